/-! THE COMPONENT's PARSER: variables, for -/
section
variable {E : zE} {pp a lf n : Nat} {c : Nat → Int32} {dg : Int32 → List Int32} {K o dS dE DE dm : Nat} {r : pT}
/-- a cell of the method's own is done, or a switch -/
theorem rk.fx {M0 M : zM} {τ0 τ : Nat → Nat} {fs0 fs : List Nat} {s0 s : pS} {c0 : Nat → Prop} {C : pC} {cz cu x : Nat} (v : Nat) (h : rk pp a lf n c M0 τ0 fs0 s0 c0 C o M τ fs s cz cu) (hx : zsz M0 ≤ x ∧ x < zsz M ∧ τ x = 1) (hv : v = 0 ∨ v = 2 ∧ gr M x 3 = none) : ∃ τ', rk pp a lf n c M0 τ0 fs0 s0 c0 C o M τ' fs s cz cu ∧ (∀ y, y ≠ x → τ' y = τ y) ∧ τ' x = v ∧ mvr τ M τ' M := by
  obtain ⟨k1, ⟨k2a, k2⟩, k3, k4, k5, k6, k7⟩ := h
  have o1 : ∀ y, y ≠ x → (if y = x then v else τ y) = τ y := fun y z => if_neg z
  have m : mvr τ M (fun y => if y = x then v else τ y) M := ⟨fg.rf, fun y _ z => o1 y fun e => z (by rw [e]; exact hx.2.2)⟩
  have hz := k1.pz
  refine ⟨fun y => if y = x then v else τ y, ⟨k1.mv fg.rf (P := fun _ _ => False) (fun _ _ _ _ _ _ z => z) (fun y _ z => o1 y fun e => by rw [e] at z; omega) k1.1.1 (fun y hy => ?_) ⟨rfl, Nat.le_refl _⟩ (fun w y1 y2 y3 => by
    have y3 : (if w = x then v else τ w) = 2 := y3
    by_cases y4 : w = x
    · rw [if_pos y4] at y3
      rcases hv with hv | hv
      · omega
      · rw [y4]; exact hv.2
    · rw [if_neg y4] at y3; exact k1.w2 w y1 y2 y3) k1.2.2.1, ⟨k2a, k2.1, fun y hy => (o1 y (by omega)).trans (k2.2 y hy)⟩, k3, k4, k5.mv m, k6, k7⟩, o1, if_pos rfl, m⟩
  show (if y = x then v else τ y) = 0
  rw [if_neg (by omega)]
  exact k1.1.2.2 y hy
theorem wB.t {lo b l : Nat} {M : zM} {τ τ' : Nat → Nat} {es : List (Option zP)} (h : wB lo M τ b l es) (ht : ∀ y, τ' y = τ y ∨ (y ≠ b ∧ y ≠ l ∧ y ≠ lA M l)) : wB lo M τ' b l es := by
  obtain ⟨h1, h2, h3, h4⟩ := h
  have e : ∀ y, y = b ∨ y = l ∨ y = lA M l → τ' y = τ y := fun y z => (ht y).resolve_right (by omega)
  exact ⟨⟨h1.1, h1.2.1, (e b (.inl rfl)).trans h1.2.2⟩, h2, h3, h4.t (e l (.inr (.inl rfl))) (e _ (.inr (.inr rfl)))⟩
/-- the block where only cells besides it change -/
theorem wB.f {P : Nat → Nat → Prop} {lo b l : Nat} {M M' : zM} {τ τ' : Nat → Nat} {es : List (Option zP)} (h : wB lo M τ b l es) (f : fg P M M') (hb : ∀ k, ¬ P b k) (hl : ∀ k, ¬ P l k) (hA : ∀ k, lA M l < 16 ∨ ¬ P (lA M l) k) (ag : ∀ x, x < zsz M → τ' x = τ x) : wB lo M' τ' b l es ∧ lC M' l = lC M l := by
  obtain ⟨h1, h2, h3, h4⟩ := h
  have w := h4.k2 f hl hA ag
  have z := f.1.1
  exact ⟨⟨⟨h1.1, by omega, (ag b h1.2.1).trans h1.2.2⟩, ⟨h2.1, by rw [w.2.1]; exact h2.2⟩, (f.gr h1.2.1 (hb 0)).trans h3, w.1⟩, w.2.2⟩
theorem wB.lz {lo b l : Nat} {M : zM} {τ : Nat → Nat} {es : List (Option zP)} (h : wB lo M τ b l es) (hl : 190 ≤ lo) (hz : 190 ≤ zsz M) : l < zsz M ∧ lA M l < zsz M := by
  refine ⟨h.2.2.2.1.1.2, ?_⟩
  rcases h.2.2.2.1.2.2.2.2 with ⟨e, -⟩ | ⟨b, m, e, e2, -⟩
  · unfold lA; rw [e]; show 1 < _; omega
  · unfold lA; rw [e]; exact e2.2.1
/-- variables: the block's list is empty where no variable has a value -/
def cVr (E : zE) (pp a lf n : Nat) (c : Nat → Int32) (dm o : Nat) (i : Bool) (f : pC → pS → pR (gSt × Bool × Bool)) : Prop :=
  ∀ (d : Nat) (Q : zO → zM → Prop) (M : zM) (τ : Nat → Nat) (fs : List Nat) (s : pS) (C : pC), dm ≤ d → xPs M τ pp a lf n c fs s C o →
    (∀ q s', f C s = .ok (q, s') → ∀ M' τ' fs' b, pEnd pp a lf n c 9 199 M τ fs s C o M' τ' fs' s' → sNg (szG n c 0 3 0 0 s s') (zsz M) M' τ' C.2 (b, 20, 0) q.1 → gi M' pp 7 = (if q.2.2 then 1 else 0) → (∃ l k, gr M' b 0 = some (l, 11, 0) ∧ gi M' l 2 = nI k ∧ k < 100000 ∧ (k = 0 ↔ q.2.1 = false)) → Q (.inl (some (vr (some (b, 20, 0))))) M') →
    (∀ w, f C s = .error w → ∀ ou M', pEr lf 9 199 τ fs M s w ou M' → Q ou M') → Z E YX9_variables d M [(0, vr (some (pp, 8, 0))), (1, vi (boI i))] 0 [] Q
theorem y_vars {i : Bool} (hN : cNx E pp a lf n c dS dE DE o r) (hK : 1300 ≤ K) (h4 : 4 ≤ DE) (hdm : dE + 1 ≤ dm ∧ 30 ≤ dm) : cVr E pp a lf n c dm o i (fun C s => pVars (zOf n c dg) r i C K 0 false gNo s) := by
  obtain ⟨hr, hS, hE, hW, hDE⟩ := hN
  intro d Q M τ fs s C hd h hy hn
  obtain ⟨d, rfl⟩ : ∃ d', d = d' + 15 := ⟨d - 15, by omega⟩
  have R := rk_st h C.1
  have z190 := h.z190
  have e36 : sgX (nI 47) = 36 := by decide +kernel
  refine iX9_variables_0 (d := d + 10) M pp _ ⟨by show 16 ≤ zsz M + 1; omega, by omega, ?_⟩
  obtain ⟨τ2, R2, W2, l2, ag2, m12, -⟩ := R.bnew (cz' := 98) (cu' := 1996) (by omega) (by omega)
  generalize sr (sr (si (zn (zn M 1) 3) (zsz (zn M 1)) 0 (0 : Int32)) (zsz (zn M 1)) 1 (some (1, 110, 0))) (zsz M) 0 (some ((zsz (zn M 1)), 11, 0)) = M2 at *
  have loop : ∀ (f : Nat) (M2 : zM) (τ2 : Nat → Nat) (fs2 : List Nat) (s2 : pS) (cz cu b l m : Nat) (es : List (Option zP)) (gs : gBs), 1300 ≤ f + s2.1 → s.1 + m ≤ s2.1 → rk pp a lf n c M τ fs s (geN s.2.2.length) C o M2 τ2 fs2 s2 cz cu → wB (zsz M) M2 τ2 b l es → wTs (zsz M) M2 τ2 C.2 1 es gs → sN gs + 2 * sO gs ≤ 2500 * ((tkn n c s2.1).2.2.1 - (tkn n c s.1).2.2.1) → sK gs + 2 * sH gs = 0 → 98 ≤ cz → 1996 + 100 * es.length ≤ cu + 4 * lC M2 l → es.length ≤ m →
      pVars (zOf n c dg) r i C K 0 false gNo s = pVars (zOf n c dg) r i C f m (!gs.isEmpty) (gBl gs) s2 → Z E YX9_variables (d + 14 + 1) M2 [(0, vr (some (pp, 8, 0))), (1, vi (boI i)), (2, vr (some (b, 20, 0))), (3, vi (nI m))] 10 [] Q := by
    intro f
    induction f with
    | zero => intro M2 τ2 fs2 s2 cz cu b l m es gs hf _ R2 _ _ _ _ _ _ _ _; have := R2.ps.tz.t_le; omega
    | succ f ih =>
      intro M2 τ2 fs2 s2 cz cu b l m es gs hf hs2 R2 W2 T2 hN' hK' hz hu hl pe
      have tl := R2.ps.tz.t_le
      have lc := lC_le W2.2.2.2.1
      rw [pVars_eq] at pe
      refine sX9_variables_10 M2 pp _ b _ ⟨a, R2.ps.pt, ?_⟩
      refine R2.needN (dg := dg) (by omega) (fun x s3 e3 ex hx3 M3 R3 k3 => ?_) (fun w e q M' er => ZT.out (nohand rfl) (hn w (pe.trans (bnd_er e)) _ M' er))
      have pe3 := pe.trans (bnd_ok e3)
      show Z E YX9_variables (d + 14 + 1) M3 [(0, vr (some (pp, 8, 0))), (1, vi (boI i)), (2, vr (some (b, 20, 0))), (3, vi (nI m + nI 1))] 20 [vi (nI x)] Q
      rw [nn_add m 1]
      obtain ⟨fc, gf, ad⟩ := R3.add (E := E) (d := d + 14) (y := x) (cz' := cz + 19) (cu' := cu + 396) rfl hx3.1 (fun q hq => by rw [hx3.2.2.1] at hq; have := R2.ps.vl q hq; omega) (by omega) (by omega) (by omega)
      refine sX9_variables_20 M3 pp _ b _ _ ⟨fc, gf, ?_⟩
      refine ad _ (fun M4 τ4 R4 k4 => ?_)
      show Z E YX9_variables (d + 14 + 1) M4 [(0, vr (some (pp, 8, 0))), (1, vi (boI i)), (2, vr (some (b, 20, 0))), (3, vi (nI (m + 1))), (4, vi (nI x))] 31 [] Q
      have k24 := k3.tr k4
      have W4 := W2.k k24 z190
      have T4 := T2.mv k24.mvr z190 (Nat.le_refl _)
      have s31 : (hld C.1 x s3).1 = s2.1 + 1 := hx3.2.1
      generalize hld C.1 x s3 = s4 at *
      -- a comma, or the end
      have tail : ∀ (M6 : zM) (τ6 : Nat → Nat) (fs6 : List Nat) (s6 : pS) (cz6 cu6 : Nat) (es6 : List (Option zP)) (gs6 : gBs), s4.1 ≤ s6.1 → rk pp a lf n c M τ fs s (geN s.2.2.length) C o M6 τ6 fs6 s6 cz6 cu6 → wB (zsz M) M6 τ6 b l es6 → wTs (zsz M) M6 τ6 C.2 1 es6 gs6 → sN gs6 + 2 * sO gs6 ≤ 2500 * ((tkn n c s6.1).2.2.1 - (tkn n c s.1).2.2.1) → sK gs6 + 2 * sH gs6 = 0 → 117 ≤ cz6 → 2392 + 100 * es6.length ≤ cu6 + 4 * lC M6 l → es6.length ≤ m + 1 →
          (pVars (zOf n c dg) r i C K 0 false gNo s = if isS (zOf n c dg) 32 s6 then bnd (nxt' (zOf n c dg) s6) fun _ s => pVars (zOf n c dg) r i C f (m + 1) (!gs6.isEmpty) (gBl gs6) s else prt (gBl gs6, !gs6.isEmpty, m == 0) s6) → Z E YX10_takes (d + 14) M6 (zargs 0 [vr (some (a, 9, 0)), vi 8]) 0 [] (zafter E YX9_variables (d + 14 + 1) [(0, vr (some (pp, 8, 0))), (1, vi (boI i)), (2, vr (some (b, 20, 0))), (3, vi (nI (m + 1)))] 93 3 [] Q) := fun M6 τ6 fs6 s6 cz6 cu6 es6 gs6 hs6 R6 W6 T6 hN6 hK6 hz6 hu6 hl6 pe6 => by
        have tl6 := R6.ps.tz.t_le
        have lc6 := lC_le W6.2.2.2.1
        refine R6.takes (dg := dg) (j := 32) (by decide) (by decide +kernel) (by omega) (fun hs => ?_) (fun hs e7 M7 R7 k7 => ?_) (fun hs w e q M' er => ZT.out (nohand rfl) (hn w (pe6.trans ((if_pos hs).trans (bnd_er e))) _ M' er))
        · have hs : isS (zOf n c dg) 32 s6 = false := hs
          show Z E YX9_variables (d + 14 + 1) M6 [(0, vr (some (pp, 8, 0))), (1, vi (boI i)), (2, vr (some (b, 20, 0))), (3, vi (nI (m + 1)))] 96 [vi 0] Q
          refine sX9_variables_96 M6 pp _ b _ _ ?_
          rw [if_pos rfl]
          have pz := R6.ps.pz
          have endd : ∀ (v : Int32), v = (if (m == 0) = true then 1 else 0) → Q (.inl (some (vr (some (b, 20, 0))))) (si M6 pp 7 v) := fun v hv => by
            have f7 : fr (fun x k => x = pp ∧ 3 ≤ k) M6 (si M6 pp 7 v) := fr.si ⟨rfl, by decide⟩
            obtain ⟨⟨g1, g2, g3⟩, ⟨g4, g4'⟩, g5, g6, g7⟩ := R6.ps.2.2.1
            have R7 := R6.own (C' := C) (o' := o) f7 ⟨⟨g1, g2, g3⟩, ⟨(gi_idx (by decide)).trans g4, g4'⟩, (gi_idx (by decide)).trans g5, (gi_idx (by decide)).trans g6, g7⟩
            have k7 : kp τ6 M6 τ6 (si M6 pp 7 v) := own_kp R6.ps f7 (fun _ _ z => z.1)
            have g7 : gi (si M6 pp 7 v) pp 7 = v := gi_self _ _ _ _
            generalize si M6 pp 7 v = M7 at *
            have W7 := (W6.k k7 z190).1
            have T7 := (T6.mv k7.mvr z190 (Nat.le_refl _)).mv (fin_mvr (lo := zsz M)) z190 (Nat.le_refl _)
            have el := T6.1
            have le := T6.le
            refine hy (gBl gs6, !gs6.isEmpty, m == 0) s6 (pe6.trans (if_neg (by rw [hs]; decide))) M7 _ fs6 b (R7.nd (by omega) (by omega)) ⟨⟨rfl, by show 20 ≤ 20; decide, by show 20 ≤ 44; decide⟩, _, _, _, _, _, ⟨?_, ?_, ?_, le⟩, W7.nl T7⟩ (g7.trans hv) ⟨l, es6.length, W7.2.2.1, W7.2.2.2.1.2.1, by omega, ?_⟩
            · omega
            · omega
            · omega
            · rw [el]
              cases gs6 with
              | nil => exact ⟨fun _ => rfl, fun _ => rfl⟩
              | cons x l => exact ⟨fun z => (by cases z), fun z => (by cases z)⟩
          by_cases m0 : m = 0
          · rw [if_pos (show nI (m + 1) = 1 by rw [m0]; rfl)]
            exact ⟨by omega, endd 1 (by rw [m0]; rfl)⟩
          · rw [if_neg (show ¬ nI (m + 1) = 1 from fun z => m0 (by have := nI_inj (a := m + 1) (b := 1) (by omega) (by omega) z; omega))]
            exact ⟨by omega, endd 0 (by rw [if_neg (by simpa using m0)])⟩
        · have hs : isS (zOf n c dg) 32 s6 = true := hs
          show Z E YX9_variables (d + 14 + 1) M7 [(0, vr (some (pp, 8, 0))), (1, vi (boI i)), (2, vr (some (b, 20, 0))), (3, vi (nI (m + 1)))] 96 [vi 1] Q
          refine sX9_variables_96 M7 pp _ b _ _ ?_
          rw [if_neg (by decide)]
          have W7 := W6.k k7 z190
          have T7 := T6.mv k7.mvr z190 (Nat.le_refl _)
          have p7 := pos_le R7.ps.tz (t := s6.1) (t' := s6.1 + 1) (by omega) (Nat.le_refl _)
          refine ih M7 τ6 fs6 _ _ _ b l (m + 1) es6 gs6 (by dsimp only; omega) (by dsimp only; omega) R7 W7.1 T7 (by dsimp only; omega) hK6 (by omega) (by have := W7.2; omega) hl6 (pe6.trans ((if_pos hs).trans (bnd_ok e7)))
      refine iX9_variables_31 M4 pp _ b _ _ ⟨a, R4.ps.pt, ?_⟩
      have p4 := pos_le R4.ps.tz (t := s2.1) (t' := s4.1) (by omega) (Nat.le_refl _)
      have p2 := pos_le R4.ps.tz (t := s.1) (t' := s2.1) (by omega) (by omega)
      have no : isS (zOf n c dg) 47 s4 = false → Z E YX10_takes (d + 14) M4 (zargs 0 [vr (some (a, 9, 0)), vi 8]) 0 [] (zafter E YX9_variables (d + 14 + 1) [(0, vr (some (pp, 8, 0))), (1, vi (boI i)), (2, vr (some (b, 20, 0))), (3, vi (nI (m + 1)))] 93 3 [] Q) := fun hs => by
        have := W4.2
        refine tail M4 τ4 fs2 s4 _ _ es gs (Nat.le_refl _) R4 W4.1 T4 (by omega) hK' (by omega) (by omega) (by omega) (pe3.trans ?_)
        show bnd (if isS (zOf n c dg) 47 s4 then _ else prt (gBl gs, !gs.isEmpty) s4) _ = _
        rw [if_neg (by rw [hs]; decide)]
        rfl
      by_cases h5 : gi M4 a 3 = 5
      · rw [if_pos h5]
        have e47 : isS (zOf n c dg) 47 s4 = decide (gi M4 a 6 = 36) := tk_s (dg := dg) (j := 47) R4.ps.tz h5 (by decide) e36
        by_cases h6 : gi M4 a 6 = 36
        · rw [if_pos h6]
          have hs : isS (zOf n c dg) 47 s4 = true := by rw [e47]; exact decide_eq_true h6
          have pe4 : pVars (zOf n c dg) r i C K 0 false gNo s = bnd (nxt' (zOf n c dg) s4) fun _ s => bnd (r.wth i C s) fun v s => if isS (zOf n c dg) 32 s then bnd (nxt' (zOf n c dg) s) fun _ s => pVars (zOf n c dg) r i C f (m + 1) true (gSq (gBl gs) (gPl (gGvN none x v.1))) s else prt (gSq (gBl gs) (gPl (gGvN none x v.1)), true, m == 0) s := by
            refine pe3.trans ?_
            show bnd (if isS (zOf n c dg) 47 s4 then _ else prt (gBl gs, !gs.isEmpty) s4) _ = _
            rw [if_pos hs, bnd_as]
            refine bnd_cg fun _ s => ?_
            rw [bnd_as]
            rfl
          refine R4.nxt (dg := dg) (.inl (isS_k hs)) (by omega) (fun e5 M5 R5 k5 => ?_) (fun w e q M' er => ZT.out (nohand rfl) (hn w (pe4.trans (bnd_er e)) _ M' er))
          show Z E YX9_variables (d + 14 + 1) M5 [(0, vr (some (pp, 8, 0))), (1, vi (boI i)), (2, vr (some (b, 20, 0))), (3, vi (nI (m + 1))), (4, vi (nI x))] 50 [] Q
          have pe5 := pe4.trans (bnd_ok e5)
          have W5 := W4.1.k k5 z190
          have z5 := R5.z0
          have la5 := W5.1.lz z190 (by omega)
          refine iX9_variables_50 (d := d + 12) M5 pp _ b _ _ ⟨by show 16 ≤ zsz M5 + 1 + 1; omega, ?_⟩
          have ez : zsz (zn (zn M5 1) 3) = zsz M5 + 2 := rfl
          have ez1 : zsz (zn M5 1) = zsz M5 + 1 := rfl
          rw [ez, ez1, W5.1.2.2.1]
          have f6' : fg (fun _ _ => False) M5 (si (zn (zn (zn M5 1) 3) 1) (zsz M5 + 2) 0 (nI x)) := (((fg.zn (n := 1)).tr (fg.zn (n := 3))).tr (fg.zn (n := 1))).tr2 (fr.si (.inr (by omega))).fg
          have g6 : gi (si (zn (zn (zn M5 1) 3) 1) (zsz M5 + 2) 0 (nI x)) (zsz M5 + 2) 0 = nI x := gi_self _ _ _ _
          have sz6 : zsz (si (zn (zn (zn M5 1) 3) 1) (zsz M5 + 2) 0 (nI x)) = zsz M5 + 3 := rfl
          have su6 : zsu (si (zn (zn (zn M5 1) 3) 1) (zsz M5 + 2) 0 (nI x)) = zsu M5 + 5 := rfl
          generalize si (zn (zn (zn M5 1) 3) 1) (zsz M5 + 2) 0 (nI x) = M6 at *
          obtain ⟨τ6, R6, ag6, on6, m56⟩ := R5.lc (M' := M6) (v := 3) (w := 5) (cz' := cz + 36) (cu' := cu + 791) (f6'.mono fun _ _ _ z => z.elim) (by omega) (by omega) (by omega) (by omega)
          have W6 := W5.1.f (τ' := τ6) f6' (fun _ z => z) (fun _ z => z) (fun _ => .inr fun z => z) ag6
          have c6 := W4.2
          have c6' := W5.2
          have c6'' := W6.2
          refine R6.val (hW i).x (by omega) (by omega) (by omega) rfl (hr.wth i C _) (fun v s' z => z.1) (fun v7 s7 e7 o7 M7 τ7 fs7 b7 t7 R7 k7 n7 => ?_) (fun w e q M' er => ZT.out (nohand rfl) (hn w (pe5.trans (bnd_er e)) _ M' er))
          show Z E YX9_variables (d + 14 + 1) M7 [(0, vr (some (pp, 8, 0))), (1, vi (boI i)), (2, vr (some (b, 20, 0))), (3, vi (nI (m + 1)))] 77 [vr (some (b7, t7, 0)), vr (some (zsz M5 + 2, 23, 0)), vi (-1), vr (some (zsz M5 + 1, 22, 0)), vr (some (zsz M5 + 1, 22, 0)), vr (some (zsz M5, 21, 0)), vr (some (zsz M5, 21, 0)), vr (some (l, 11, 0))] Q
          have pe7 := pe5.trans (bnd_ok e7)
          have z7 := k7.z
          have W7 := W6.1.k k7 z190
          have c7 := W7.2
          have o0 := k7.ow (lo := zsz M) (x := zsz M5) ⟨z5.2, by omega, on6 _ (Nat.le_refl _) (by omega)⟩
          have o1 := k7.ow (lo := zsz M) (x := zsz M5 + 1) ⟨by omega, by omega, on6 _ (by omega) (by omega)⟩
          have o2 := k7.ow (lo := zsz M) (x := zsz M5 + 2) ⟨by omega, by omega, on6 _ (by omega) (by omega)⟩
          have g7 := (k7.g (x := zsz M5 + 2) ⟨by omega, by omega, on6 _ (by omega) (by omega)⟩ 0).1.trans g6
          have hb5 := W5.1.1
          refine iX9_variables_77 (d := d + 12) M7 pp _ b _ _ _ _ _ _ _ _ _ ⟨by omega, by omega, l, rfl, ?_⟩
          have f8 : fg (fun x k => x = zsz M5 ∨ x = zsz M5 + 1) M7 (sr (sr (sr (si M7 (zsz M5 + 1) 0 (-1)) (zsz M5 + 1) 1 (some (zsz M5 + 2, 23, 0))) (zsz M5 + 1) 2 (some (b7, t7, 0))) (zsz M5) 0 (some (zsz M5 + 1, 22, 0))) := ((((fr.si (.inr rfl)).tr (fr.sr (.inr rfl))).tr (fr.sr (.inr rfl))).tr (fr.sr (.inl rfl))).fg
          have q0 : gi (sr (sr (sr (si M7 (zsz M5 + 1) 0 (-1)) (zsz M5 + 1) 1 (some (zsz M5 + 2, 23, 0))) (zsz M5 + 1) 2 (some (b7, t7, 0))) (zsz M5) 0 (some (zsz M5 + 1, 22, 0))) (zsz M5 + 1) 0 = -1 := gi_self M7 (zsz M5 + 1) 0 (-1)
          have q1 : gr (sr (sr (sr (si M7 (zsz M5 + 1) 0 (-1)) (zsz M5 + 1) 1 (some (zsz M5 + 2, 23, 0))) (zsz M5 + 1) 2 (some (b7, t7, 0))) (zsz M5) 0 (some (zsz M5 + 1, 22, 0))) (zsz M5 + 1) 1 = some (zsz M5 + 2, 23, 0) := by simp only [gr_sr]; simp
          have q2 : gr (sr (sr (sr (si M7 (zsz M5 + 1) 0 (-1)) (zsz M5 + 1) 1 (some (zsz M5 + 2, 23, 0))) (zsz M5 + 1) 2 (some (b7, t7, 0))) (zsz M5) 0 (some (zsz M5 + 1, 22, 0))) (zsz M5 + 1) 2 = some (b7, t7, 0) := by simp only [gr_sr]; simp
          have q3 : gr (sr (sr (sr (si M7 (zsz M5 + 1) 0 (-1)) (zsz M5 + 1) 1 (some (zsz M5 + 2, 23, 0))) (zsz M5 + 1) 2 (some (b7, t7, 0))) (zsz M5) 0 (some (zsz M5 + 1, 22, 0))) (zsz M5) 0 = some (zsz M5 + 1, 22, 0) := by simp only [gr_sr]; simp
          have sz8 : zsz (sr (sr (sr (si M7 (zsz M5 + 1) 0 (-1)) (zsz M5 + 1) 1 (some (zsz M5 + 2, 23, 0))) (zsz M5 + 1) 2 (some (b7, t7, 0))) (zsz M5) 0 (some (zsz M5 + 1, 22, 0))) = zsz M7 := rfl
          have su8 : zsu (sr (sr (sr (si M7 (zsz M5 + 1) 0 (-1)) (zsz M5 + 1) 1 (some (zsz M5 + 2, 23, 0))) (zsz M5 + 1) 2 (some (b7, t7, 0))) (zsz M5) 0 (some (zsz M5 + 1, 22, 0))) = zsu M7 := rfl
          generalize sr (sr (sr (si M7 (zsz M5 + 1) 0 (-1)) (zsz M5 + 1) 1 (some (zsz M5 + 2, 23, 0))) (zsz M5 + 1) 2 (some (b7, t7, 0))) (zsz M5) 0 (some (zsz M5 + 1, 22, 0)) = M8 at *
          have q4 : gi M8 (zsz M5 + 2) 0 = nI x := (f8.gi o2.2.1 (by omega)).trans g7
          obtain ⟨τ8, R8, ag8, on8, m78⟩ := R7.lc (M' := M8) (v := 0) (w := 0) (cz' := cz + 46) (cu' := cu + 991) (f8.mono fun x k _ z => by rcases z with z | z <;> rw [z] <;> omega) (by omega) (by omega) (by omega) (by omega)
          have lb5 : lA M7 l = lA M5 l := by
            have a1 := (k7.wl W6.1.2.2.2 z190).2.1
            have a2 := (W5.1.2.2.2.k2 (τ' := τ6) f6' (fun _ z => z) (fun _ => .inr fun z => z) ag6).2.1
            rw [a1, a2]
          have W8 := W7.1.f (τ' := τ8) f8 (fun k z => by omega) (fun k z => by omega) (fun k => .inr fun z => by rw [lb5] at z; omega) ag8
          have c8 := W8.2
          have lb8 : lA M8 l = lA M5 l := by
            have a1 := (W7.1.2.2.2.k2 (τ' := τ8) f8 (fun k z => by omega) (fun k => .inr fun z => by rw [lb5] at z; omega) ag8).2.1
            rw [a1, lb5]
          obtain ⟨τ9, R9, ag9, on9, m89⟩ := R8.fx 0 (x := zsz M5) ⟨o0.1, by omega, (ag8 _ o0.2.1).trans o0.2.2⟩ (.inl rfl)
          obtain ⟨τ10, R10, ag10, on10, m910⟩ := R9.fx 0 (x := zsz M5 + 1) ⟨o1.1, by omega, (ag9 _ (by omega)).trans ((ag8 _ o1.2.1).trans o1.2.2)⟩ (.inl rfl)
          obtain ⟨τ11, R11, ag11, on11, m1011⟩ := R10.fx 0 (x := zsz M5 + 2) ⟨o2.1, by omega, (ag10 _ (by omega)).trans ((ag9 _ (by omega)).trans ((ag8 _ o2.2.1).trans o2.2.2))⟩ (.inl rfl)
          have W11 : wB (zsz M) M8 τ11 b l es := W8.1.t fun y => by
            by_cases y0 : y = zsz M5
            · exact .inr ⟨by omega, by omega, by rw [lb8]; omega⟩
            by_cases y1 : y = zsz M5 + 1
            · exact .inr ⟨by omega, by omega, by rw [lb8]; omega⟩
            by_cases y2 : y = zsz M5 + 2
            · exact .inr ⟨by omega, by omega, by rw [lb8]; omega⟩
            exact .inl ((ag11 y y2).trans ((ag10 y y1).trans (ag9 y y0)))
          have m11 := (m78.tr m89).tr (m910.tr m1011)
          have x7 := n7.mv m11 z190 (Nat.le_refl _) (Nat.le_refl _)
          have h0 : nS (zsz M) (zsz M8) τ11 (zsz M5) := ⟨o0.1, by omega, (ag11 _ (by omega)).trans ((ag10 _ (by omega)).trans on9)⟩
          have h1 : nS (zsz M) (zsz M8) τ11 (zsz M5 + 1) := ⟨o1.1, by omega, (ag11 _ (by omega)).trans on10⟩
          have h2 : nS (zsz M) (zsz M8) τ11 (zsz M5 + 2) := ⟨o2.1, by omega, on11⟩
          have T11 := ((T4.mv k5.mvr z190 (Nat.le_refl _)).mv m56 z190 (Nat.le_refl _)).mv (k7.mvr.tr m11) z190 (Nat.le_refl _)
          have sn := sn_Drops (B := nW (zsz M) (zsz M8) τ11) (cc := C.2) (C := fun b => zsz M ≤ b ∧ b < zsz M8) h0 q3 (xe_SetN (D := DE) (h := none) h1 h2 q0 q1 q4 hx3.1 q2 x7.2.1 o7.2.2.1.1 h4) (gE_GvN o7.2.2.1) (by omega)
          refine R11.badd (cz' := cz + 45) W11 (by omega) (sto_n (by show 20 ≤ 21; decide) (by show 21 ≤ 44; decide)) (by omega) (by omega) (by omega) (fun M12 τ12 cu12 R12 u12 W12 m1112 ag12 f12 => ?_)
          show Z E YX9_variables (d + 14 + 1) M12 [(0, vr (some (pp, 8, 0))), (1, vi (boI i)), (2, vr (some (b, 20, 0))), (3, vi (nI (m + 1)))] 86 [vi 1] Q
          refine sX9_variables_86 M12 pp _ b _ _ ⟨a, R12.ps.pt, ?_⟩
          have zz := m1112.1.1.1
          have l7 := o7.2.1
          dsimp only at l7
          have T12 := (T11.mv m1112 z190 (Nat.le_refl _)).app (p := (zsz M5, 21, 0)) (q := ((12 * (s7.1 - (s4.1 + 1)) + 3 + 1, 12 * (s7.1 - (s4.1 + 1)) + 3 + 1, 0, 0), gPl (gGvN none x v7.1))) ⟨Nat.le_refl _, Nat.le_refl _⟩ ?_
          rotate_left
          · have sn' := (sn.mv m1112 z190 (Nat.le_refl _)).up (C' := fun b => zsz M ≤ b ∧ b < zsz M12) (fun b y => ⟨by omega, by omega⟩) (Nat.le_refl _) (Nat.le_refl _) (Nat.le_refl _) (Nat.le_refl _) (Nat.le_refl _)
            have ee : 0 + 12 * (s7.1 - (s4.1 + 1)) + 3 + 1 = 12 * (s7.1 - (s4.1 + 1)) + 3 + 1 := by omega
            exact ee ▸ sn'
          have sa := sO_app gs ((12 * (s7.1 - (s4.1 + 1)) + 3 + 1, 12 * (s7.1 - (s4.1 + 1)) + 3 + 1, 0, 0), gPl (gGvN none x v7.1))
          have p7 := pos_le R12.ps.tz (t := s4.1) (t' := s7.1) (by omega) (Nat.le_refl _)
          refine tail M12 τ12 fs7 s7 _ cu12 _ _ (by omega) R12 W12 T12 ?_ ?_ (by omega) ?_ ?_ ?_
          · dsimp only at sa
            omega
          · dsimp only at sa
            omega
          · rw [List.length_append]
            show 2392 + 100 * (es.length + 1) ≤ _
            omega
          · rw [List.length_append]
            show es.length + 1 ≤ _
            omega
          · rw [gBl_app, pe7]
            have : (!(gs ++ [((12 * (s7.1 - (s4.1 + 1)) + 3 + 1, 12 * (s7.1 - (s4.1 + 1)) + 3 + 1, 0, 0), gPl (gGvN none x v7.1))] : gBs).isEmpty) = true := by simp
            rw [this]
        · rw [if_neg h6]
          exact no (by rw [e47]; exact decide_eq_false h6)
      · rw [if_neg h5]
        exact no (tk_ns (dg := dg) (j := 47) R4.ps.tz h5 (by decide))
  exact loop K M2 τ2 fs s 98 1996 _ _ 0 [] [] (by omega) (Nat.le_refl _) R2 W2 ⟨rfl, fun i q hq => by cases hq⟩ (Nat.zero_le _) rfl (Nat.le_refl _) (by rw [l2]; show 1996 + 100 * 0 ≤ _; omega) (Nat.le_refl _) rfl
end
