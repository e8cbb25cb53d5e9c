/-! THE COMPONENT's PARSER: left -/
section
variable {E : zE} {pp a lf n : Nat} {c : Nat → Int32} {dg : Int32 → List Int32} {K o : Nat}
theorem cVm.up {Y : zY} {ar : List (Nat × zV)} {dm dm' D D' : Nat} {f : pC → pS → pR gV} (h : cVm E pp a lf n c Y ar dm o D f) (h1 : dm ≤ dm') (h2 : D ≤ D') : cVm E pp a lf n c Y ar dm' o D' f := fun d Q M τ fs s C hd hx hy hn => h d Q M τ fs s C (by omega) hx (fun v s' e M' τ' fs' p pe vn => hy v s' e M' τ' fs' p pe (vn.up hx.z190 h2)) hn
theorem ok_km {ro : Option pT} (hr : okO ro) {C : pC} {s s' : pS} {k : gEx} (h : pKm (zOf n c dg) ro C s = .ok (k, s')) : adv C.1 s s' ∧ s.1 < s'.1 := by
  have := ok_mem (c := C) hr (n := 1) (e := vOf gTh) (okV_of gE_Th) s (vMm gTh k) s' ((pMem_eq _ _ _ _ _).trans ((bnd_ok h).trans rfl))
  exact ⟨this.1, this.2.1⟩
theorem wL.k2 {P : Nat → Nat → Prop} {M M' : zM} {τ τ' : Nat → Nat} {lo l : Nat} {es : List (Option zP)} (h : wL lo M τ l es) (f : fg P M M') (hl : ∀ k, ¬ P l k) (hA : ∀ k, lA M l < 16 ∨ ¬ P (lA M l) k) (ht : ∀ x, x < zsz M → τ' x = τ x) : wL lo M' τ' l es ∧ lA M' l = lA M l ∧ lC M' l = lC M l := by
  obtain ⟨h1, h2, h3⟩ := h
  have lz := h1.1.2
  have la := lA_fg lz f (hl 1)
  refine ⟨⟨xLs_fg h1 f hl hA, ⟨h2.1, (ht l lz).trans h2.2⟩, fun z => ?_⟩, la⟩
  rw [la.1] at z ⊢
  have := h3 z
  refine ⟨this.1, (ht _ ?_).trans this.2⟩
  rcases h1.2.2.2.2 with ⟨e, -⟩ | ⟨b, m, e, e2, -⟩
  · unfold lA at z; rw [e] at z; exact absurd z (by decide)
  · unfold lA; rw [e]; exact e2.2.1
theorem wL.t {M : zM} {τ τ' : Nat → Nat} {lo l : Nat} {es : List (Option zP)} (h : wL lo M τ l es) (h1 : τ' l = τ l) (h2 : τ' (lA M l) = τ (lA M l)) : wL lo M τ' l es := ⟨h.1, ⟨h.2.1.1, h1.trans h.2.1.2⟩, fun z => ⟨(h.2.2 z).1, h2.trans (h.2.2 z).2⟩⟩
/-- one cell is done -/
theorem rn.fx {M0 M : zM} {τ0 τ : Nat → Nat} {fs0 fs : List Nat} {s0 s : pS} {c0 : Nat} {C : pC} {Zb Ub x : Nat} (h : rn pp a lf n c M0 τ0 fs0 s0 c0 C o M τ fs s Zb Ub) (hx : zsz M0 ≤ x) (h1 : τ x = 1) : ∃ τ', rn pp a lf n c M0 τ0 fs0 s0 c0 C o M τ' fs s Zb Ub ∧ (∀ y, y ≠ x → τ' y = τ y) ∧ τ' x = 0 ∧ mvr τ M τ' M := by
  obtain ⟨k1, ⟨k2a, k2⟩, k3, k4, k5, k6, k7⟩ := h
  have o1 : ∀ y, y ≠ x → (if y = x then 0 else τ y) = τ y := fun y z => if_neg z
  have m : mvr τ M (fun y => if y = x then 0 else τ y) M := ⟨fg.rf, fun y _ z => o1 y fun e => z (by rw [e]; exact h1)⟩
  have hz := k1.pz
  refine ⟨fun y => if y = x then 0 else τ y, ⟨k1.mv fg.rf (P := fun _ _ => False) (fun _ _ _ _ _ _ z => z) (fun y _ z => o1 y fun e => by rw [e] at z; omega) k1.1.1 (fun y hy => ?_) ⟨rfl, Nat.le_refl _⟩ (fun w y1 y2 y3 => k1.w2 w y1 y2 (by
    have y3 : (if w = x then 0 else τ w) = 2 := y3
    by_cases y4 : w = x
    · rw [if_pos y4] at y3; omega
    · rw [if_neg y4] at y3; exact y3)) k1.2.2.1, ⟨k2a, k2.1, fun y hy => (o1 y (by omega)).trans (k2.2 y hy)⟩, k3, k4, k5.mv m, k6, k7⟩, o1, if_pos rfl, m⟩
  show (if y = x then 0 else τ y) = 0
  by_cases z : y = x
  · rw [if_pos z]
  · rw [if_neg z]; exact k1.1.2.2 y hy
/-- the loop's test -/
theorem y_lf26 {d : Nat} {Q : zO → zM → Prop} {M : zM} {s : pS} {r1 r2 : Option zP} (h : xTz M a n c s) (hp : gr M pp 1 = some (a, 9, 0)) (hQ : isS (zOf n c dg) 26 s = false → (isS (zOf n c dg) 30 s || isS (zOf n c dg) 28 s) = false → Q (.inl (some (vr (if r2 = none then r1 else r2)))) M)
    (hZ : (isS (zOf n c dg) 26 s = true ∨ (isS (zOf n c dg) 30 s || isS (zOf n c dg) 28 s) = true) → Z E YX9_left (d + 1) M [(0, vr (some (pp, 8, 0))), (1, vr r1), (2, vr r2)] 60 [] Q) : Z E YX9_left (d + 1) M [(0, vr (some (pp, 8, 0))), (1, vr r1), (2, vr r2)] 26 [] Q := by
  have e6 : sgX (nI 30) = 6 := by decide +kernel
  have e4 : sgX (nI 28) = 4 := by decide +kernel
  have e2 : sgX (nI 26) = 2 := by decide +kernel
  refine sX9_left_26 M pp _ _ ⟨a, hp, ?_⟩
  refine y_is (dg := dg) (j := 30) (by decide) e6 h ?_
  show Z E YX9_left (d + 1) M [(0, vr (some (pp, 8, 0))), (1, vr r1), (2, vr r2)] 35 [vi (if isS (zOf n c dg) (nI 30) s then 1 else 0)] Q
  refine sX9_left_35 M pp _ _ _ ?_
  cases h30 : isS (zOf n c dg) 30 s with
  | true =>
    rw [show isS (zOf n c dg) (nI 30) s = true from h30, if_pos rfl, if_neg (by decide)]
    exact hZ (.inr (by rw [h30]; rfl))
  | false =>
    rw [show isS (zOf n c dg) (nI 30) s = false from h30, if_neg (by decide : ¬ false = true), if_pos rfl]
    refine ⟨a, hp, ?_⟩
    refine y_is (dg := dg) (j := 28) (by decide) e4 h ?_
    show Z E YX9_left (d + 1) M [(0, vr (some (pp, 8, 0))), (1, vr r1), (2, vr r2)] 46 [vi (if isS (zOf n c dg) (nI 28) s then 1 else 0)] Q
    refine sX9_left_46 M pp _ _ _ ?_
    cases h28 : isS (zOf n c dg) 28 s with
    | true =>
      rw [show isS (zOf n c dg) (nI 28) s = true from h28, if_pos rfl, if_neg (by decide)]
      exact hZ (.inr (by rw [h28, h30]; rfl))
    | false =>
      rw [show isS (zOf n c dg) (nI 28) s = false from h28, if_neg (by decide : ¬ false = true), if_pos rfl]
      refine ⟨a, hp, ?_⟩
      refine y_is (dg := dg) (j := 26) (by decide) e2 h ?_
      show Z E YX9_left (d + 1) M [(0, vr (some (pp, 8, 0))), (1, vr r1), (2, vr r2)] 57 [vi (if isS (zOf n c dg) (nI 26) s then 1 else 0)] Q
      refine sX9_left_57 M pp _ _ _ ?_
      cases h26 : isS (zOf n c dg) 26 s with
      | true =>
        rw [show isS (zOf n c dg) (nI 26) s = true from h26, if_pos rfl, if_neg (by decide)]
        exact hZ (.inl h26)
      | false =>
        rw [show isS (zOf n c dg) (nI 26) s = false from h26, if_neg (by decide : ¬ false = true), if_pos rfl]
        have := hQ h26 (by rw [h28, h30]; rfl)
        by_cases z : r2 = none
        · rw [if_pos z] at this ⊢; exact this
        · rw [if_neg z] at this ⊢; exact this
/-- P at a suffix -/
theorem pSufs_1 {ro : Option pT} {C : pC} {f : Nat} {e : gV} {s : pS} (h : isS (zOf n c dg) 26 s = true) : pSufs (zOf n c dg) K ro C (f + 1) e s = bnd (pArgs (zOf n c dg) K ro C s) fun l s => pSufs (zOf n c dg) K ro C f (vCl e l) s := by rw [pSufs, if_pos h]
theorem pSufs_2 {ro : Option pT} {C : pC} {f : Nat} {e : gV} {s : pS} (h : isS (zOf n c dg) 26 s = false) (h2 : (isS (zOf n c dg) 30 s || isS (zOf n c dg) 28 s) = true) : pSufs (zOf n c dg) K ro C (f + 1) e s = bnd (pKm (zOf n c dg) ro C s) fun k s => pSufs (zOf n c dg) K ro C f (vMm e.1 k) s := by
  rw [pSufs, if_neg (by rw [h]; decide), if_pos h2, pMem_eq]
  cases pKm (zOf n c dg) ro C s with
  | error w => rfl
  | ok p => rfl
theorem pSufs_0 {ro : Option pT} {C : pC} {f : Nat} {e : gV} {s : pS} (h : isS (zOf n c dg) 26 s = false) (h2 : (isS (zOf n c dg) 30 s || isS (zOf n c dg) 28 s) = false) : pSufs (zOf n c dg) K ro C (f + 1) e s = .ok (e, s) := by
  rw [pSufs, if_neg (by rw [h]; decide), if_neg (by rw [h2]; decide)]
  rfl
theorem sf_xEl {S : Nat → Prop} {M : zM} {D l : Nat} {as : List gEx} (h : xEl S M D l as) : ∀ g ∈ as, gok g := fun g hg => by
  obtain ⟨i, hi⟩ := List.mem_iff_getElem?.mp hg
  obtain ⟨es, -, -, h3⟩ := h
  obtain ⟨p, -, -, z⟩ := h3 i g hi
  exact z
end
theorem ar_f {Ub PU s2 s s4 r w c2 c5 : Nat} (h : Ub + 200 + 150 * r ≤ PU + 400 * (s2 - s) + 5 + 4 * c2) (hw : w + 4 * c2 = 4 * c5) (h1 : s ≤ s2) (h2 : s2 < s4) : Ub + 400 * (s4 - s2) - 200 + w + 200 + 150 * (r + 1) ≤ PU + 400 * (s4 - s) + 5 + 4 * c5 := by omega
theorem ar_h {Zb PU s2 s s4 r : Nat} (h : Zb + 10 + 8 * r ≤ PU + 20 * (s2 - s) + 2) (h1 : s ≤ s2) (h2 : s2 + 2 ≤ s4) : Zb + 1 + 20 * (s4 - s2) - 10 + 0 + 1 + 10 + 8 * (r + 1) ≤ PU + 20 * (s4 - s) + 2 := by omega
theorem ar_g {Ub PU s2 s s4 r w c2 c5 : Nat} (h : Ub + 200 + 150 * r ≤ PU + 400 * (s2 - s) + 5 + 4 * c2) (hw : w + 4 * c2 = 4 * c5) (h1 : s ≤ s2) (h2 : s2 + 2 ≤ s4) : Ub + 3 + 400 * (s4 - s2) - 200 + 0 + w + 200 + 150 * (r + 1) ≤ PU + 400 * (s4 - s) + 5 + 4 * c5 := by omega
section
variable {E : zE} {pp a lf n : Nat} {c : Nat → Int32} {dg : Int32 → List Int32} {K o : Nat}
/-- the suffixes -/
theorem y_lf85 {ro : Option pT} {DL dP d : Nat} {C : pC} {Q : zO → zM → Prop} {M0 : zM} {τ0 : Nat → Nat} {fs0 : List Nat} {s0 : pS} {p1 : zP} {x0 : gEx} (hA : cAm E pp a lf n c dg dP o DL (pArgs (zOf n c dg) K ro)) (hM : cMm E pp a lf n c dg dP o DL (pKm (zOf n c dg) ro)) (hr : okO ro) (h3 : 3 ≤ DL) (hd : dP ≤ d + 14) (z190 : 190 ≤ zsz M0) (hx : gok x0) :
    ∀ (f : Nat) (M : zM) (τ : Nat → Nat) (fs : List Nat) (s : pS) (Zb Ub b l : Nat) (es : List (Option zP)) (sf : List gSf) (e : gV), 1300 ≤ f + s.1 →
    (∀ v s', pSufs (zOf n c dg) K ro C f e s = .ok (v, s') → ∀ M' τ' fs' p, pEnd pp a lf n c 10 200 M0 τ0 fs0 s0 C o M' τ' fs' s' → vNd (zsz M0) M' τ' (DL + 3) p v → Q (.inl (some (vr (some p)))) M') →
    (∀ w, pSufs (zOf n c dg) K ro C f e s = .error w → ∀ ou M', pEr lf 10 200 τ0 fs0 M0 s0 w ou M' → Q ou M') →
    rn pp a lf n c M0 τ0 fs0 s0 C.1 C o M τ fs s Zb Ub → (zsz M0 ≤ b ∧ b < zsz M ∧ τ b = 1 ∧ b ≠ l ∧ b ≠ lA M l) → gr M b 0 = some p1 → gr M b 1 = some (l, 11, 0) → wL (zsz M0) M τ l es → wS (zsz M0) M τ DL es sf → xE (nS (zsz M0) (zsz M) τ) M DL p1 x0 → eLf x0 sf e →
    Zb + 10 + 8 * sf.length ≤ zsz M0 + 20 * (s.1 - s0.1) + 2 → Ub + 200 + 150 * sf.length ≤ pu M0 lf fs0 + 400 * (s.1 - s0.1) + 5 + 4 * lC M l → (isS (zOf n c dg) 26 s = true ∨ (isS (zOf n c dg) 30 s || isS (zOf n c dg) 28 s) = true) →
    Z E YX9_left (d + 14 + 1) M [(0, vr (some (pp, 8, 0))), (1, vr (some p1)), (2, vr (some (b, 30, 0)))] 85 [vi (if isS (zOf n c dg) 26 s then 1 else 0), vr (some (l, 11, 0))] Q := by
  intro f
  induction f with
  | zero =>
    intro M τ fs s Zb Ub b l es sf e hf _ _ R
    have := R.ps.tz.t_le
    omega
  | succ f ih =>
    intro M τ fs s Zb Ub b l es sf e hf hy hn R hb e0 e1 W We X0 hE hZ hU hs
    have lc := lC_le W.1
    have el := We.1
    have s0s := R.av.1
    have zzM := R.2.1.2.1.1.1
    have zb := R.2.2.2.2.2.1
    have e2 : sgX (nI 26) = 2 := by decide +kernel
    have t0 := R.ps.tz.t_le
    -- one more is there
    have next : ∀ (M2 : zM) (τ2 : Nat → Nat) (fs2 : List Nat) (s2 : pS) (Z2 U2 q : Nat) (qf : gSf) (e' : gV), s.1 < s2.1 → (∀ v s', pSufs (zOf n c dg) K ro C f e' s2 = .ok (v, s') → ∀ M' τ' fs' p, pEnd pp a lf n c 10 200 M0 τ0 fs0 s0 C o M' τ' fs' s' → vNd (zsz M0) M' τ' (DL + 3) p v → Q (.inl (some (vr (some p)))) M') →
        (∀ w, pSufs (zOf n c dg) K ro C f e' s2 = .error w → ∀ ou M', pEr lf 10 200 τ0 fs0 M0 s0 w ou M' → Q ou M') → rn pp a lf n c M0 τ0 fs0 s0 C.1 C o M2 τ2 fs2 s2 Z2 U2 → mvr τ M τ2 M2 → (∀ x, x < zsz M → τ x = 1 → τ2 x = 1) → gr M2 b 0 = some p1 → gr M2 b 1 = some (l, 11, 0) → wL (zsz M0) M2 τ2 l es → lA M2 l = lA M l → lC M2 l = lC M l → sfok qf → xSf (nS (zsz M0) (zsz M2) τ2) M2 DL q qf → eLf x0 (sf ++ [qf]) e' →
        Z2 + 1 + 10 + 8 * (sf.length + 1) ≤ zsz M0 + 20 * (s2.1 - s0.1) + 2 → (∀ w c5, w + 4 * lC M l = 4 * c5 → U2 + w + 200 + 150 * (sf.length + 1) ≤ pu M0 lf fs0 + 400 * (s2.1 - s0.1) + 5 + 4 * c5) →
        Z E YJ2_add (d + 14) M2 (zargs 0 [vr (some (l, 11, 0)), vr (some (q, 19, 0))]) 0 [] (zafter E YX9_left (d + 14 + 1) [(0, vr (some (pp, 8, 0))), (1, vr (some p1)), (2, vr (some (b, 30, 0)))] 108 3 [] Q) := fun M2 τ2 fs2 s2 Z2 U2 q qf e' hlt hy2 hn2 R2 m02 k2 b0 b1 W2 la2 lc2 hk hq hE2 hZ2 hU2 => by
      have z2 := m02.1.1.1
      refine y_ladd (d := d + 8) (p := (q, 19, 0)) R2 W2 (by omega) sto19 (fun M3 τ3 w R3 W3 m23 ag3 f3 lw la => ?_)
      have z3 := f3.1.1
      have We3 := ((We.mv m02 z190).app hk hq).mv m23 z190
      have bl : b ≠ lA M2 l := by rw [la2]; exact hb.2.2.2.2
      have b0' : gr M3 b 0 = some p1 := (f3.gr (by omega) (nl_P hb.2.2.2.1 bl)).trans b0
      have b1' : gr M3 b 1 = some (l, 11, 0) := (f3.gr (by omega) (nl_P hb.2.2.2.1 bl)).trans b1
      have ln : (sf ++ [qf]).length = sf.length + 1 := by rw [List.length_append]; rfl
      have X3 : xE (nS (zsz M0) (zsz M3) τ3) M3 DL p1 x0 := xE_mono X0 (fun x z => (m02.tr m23).sub (Nat.le_refl _) (Nat.le_refl _) x z) (nS_190 z190) ((m02.tr m23).agS z190 (Nat.le_refl _)) (Nat.le_refl _)
      have hU3 := hU2 w (lC M3 l) (by rw [← lc2]; exact lw)
      have hb3 : zsz M0 ≤ b ∧ b < zsz M3 ∧ τ3 b = 1 ∧ b ≠ l ∧ b ≠ lA M3 l := ⟨hb.1, by omega, (ag3 b (by omega)).trans (k2 b hb.2.1 hb.2.2.1), hb.2.2.2.1, by rcases la with y | y; rw [y]; exact bl; omega⟩
      show Z E YX9_left (d + 14 + 1) M3 [(0, vr (some (pp, 8, 0))), (1, vr (some p1)), (2, vr (some (b, 30, 0)))] 111 [vi 1] Q
      refine sX9_left_111 M3 pp _ b _ ?_
      refine y_lf26 (dg := dg) R3.ps.tz R3.ps.pt (fun h26 h28 => ?_) (fun hs3 => ?_)
      · have lc3 := lC_le W3.1
        have el3 := We3.1
        rw [ln] at el3
        rw [if_neg (fun z => by cases z)]
        obtain ⟨f', rfl⟩ : ∃ f', f = f' + 1 := ⟨f - 1, by have := R3.ps.tz.t_le; omega⟩
        refine hy2 e' s2 (pSufs_0 h26 h28) M3 _ fs2 _ (R3.nd (by omega) (by omega)) ?_
        refine v_Left (fin_1 hb3.1 hb3.2.1 hb3.2.2.1) b0' b1' ?_ hx (W3.sfx (We3.mv (fin_mvr (lo := zsz M0)) z190)) h3 hE2 (fun z => by rw [z] at ln; cases ln)
        exact xE_mono X3 (fun x z => (fin_mvr (lo := zsz M0) (M := M3)).sub (Nat.le_refl _) (Nat.le_refl _) x z) (nS_190 z190) ((fin_mvr (lo := zsz M0) (τ := τ3)).agS z190 (Nat.le_refl _)) (Nat.le_refl _)
      · refine sX9_left_60 M3 pp _ _ ?_
        rw [if_neg (fun z => by cases z)]
        refine ⟨b, rfl, a, R3.ps.pt, ?_⟩
        refine y_is (dg := dg) (j := 26) (by decide) e2 R3.ps.tz ?_
        rw [b1']
        show Z E YX9_left (d + 14 + 1) M3 [(0, vr (some (pp, 8, 0))), (1, vr (some p1)), (2, vr (some (b, 30, 0)))] 85 [vi (if isS (zOf n c dg) 26 s2 then 1 else 0), vr (some (l, 11, 0))] Q
        exact ih M3 τ3 fs2 s2 _ _ b l _ _ e' (by omega) hy2 hn2 R3 hb3 b0' b1' W3 We3 X3 hE2 (by rw [ln]; omega) (by rw [ln]; exact hU3) hs3
    refine iX9_left_85 M pp _ b _ _ ?_
    cases h26 : isS (zOf n c dg) 26 s with
    | true =>
      rw [if_pos rfl, if_neg (by decide)]
      rw [pSufs_1 h26] at hy hn
      have f1 : fg (fun x _ => zsz M0 ≤ x ∧ τ x = 1) M (zn M 3) := fg.zn
      have sz1 : zsz (zn M 3) = zsz M + 1 := rfl
      have lc1 : gr (zn M 3) b 0 = gr M b 0 ∧ gr (zn M 3) b 1 = gr M b 1 := ⟨by rw [gr_zn, if_neg (by omega)], by rw [gr_zn, if_neg (by omega)]⟩
      have W1 := fun τ' ht => W.k (τ' := τ') (P := fun _ _ => False) (M' := zn M 3) z190 (fg.zn (n := 3)) (fun _ _ _ _ z => z) ht
      obtain ⟨τ1, R1, ag1, on1, m01⟩ := R.lc1 (v := 1) (w := 3) f1 (Nat.le_refl _) (Nat.le_refl _)
      have W1 := W1 τ1 ag1
      generalize zn M 3 = M1 at *
      refine hA (d + 14) _ M1 τ1 fs s C hd h26 R1.ps (fun as s2 ea M2 τ2 fs2 lst pe2 xl hl8 => ?_) (fun w ea ou M' pe => ?_)
      · have oa := ok_args (c := C) hr s as s2 ea
        have lt := oa.2.1
        have R2 := R1.cl pe2 oa.1
        have W2 := W1.1.pe z190 pe2
        have z2 := pe2.mvr.1.1.1
        have tb : τ1 b = 1 := (ag1 b hb.2.1).trans hb.2.2.1
        have tq : τ1 (zsz M) = 1 := on1 _ (Nat.le_refl _) (by omega)
        have kb := fun k => (k1_pe pe2 ⟨by omega, by omega, tb⟩ k).2
        show Z E YX9_left (d + 14 + 1) M2 [(0, vr (some (pp, 8, 0))), (1, vr (some p1)), (2, vr (some (b, 30, 0)))] 98 [vr (some (lst, 11, 0)), vr none, vi (-1), vr (some (zsz M, 19, 0)), vr (some (zsz M, 19, 0)), vr (some (l, 11, 0))] Q
        refine iX9_left_98 (d := d + 13) M2 pp _ b _ _ (zsz M) (zsz M) _ ⟨by omega, l, rfl, ?_⟩
        have bq : b ≠ zsz M := by omega
        have f3 : fg (fun x _ => zsz M0 ≤ x ∧ τ2 x = 1) M2 (sr (sr (si M2 (zsz M) 0 (-1)) (zsz M) 1 none) (zsz M) 2 (some (lst, 11, 0))) := by
          have t2 : τ2 (zsz M) = 1 := (pe2.2.2.1 _ (by omega)).trans tq
          exact (((fr.si ⟨zzM, t2⟩).tr (fr.sr ⟨zzM, t2⟩)).tr (fr.sr ⟨zzM, t2⟩)).fg
        have g2 : gr (sr (sr (si M2 (zsz M) 0 (-1)) (zsz M) 1 none) (zsz M) 2 (some (lst, 11, 0))) (zsz M) 2 = some (lst, 11, 0) := by rw [gr_sr, if_pos rfl, if_pos rfl]
        have fq : fr (fun x _ => x = zsz M) M2 (sr (sr (si M2 (zsz M) 0 (-1)) (zsz M) 1 none) (zsz M) 2 (some (lst, 11, 0))) := ((fr.si (P := fun x _ => x = zsz M) rfl).tr (fr.sr (P := fun x _ => x = zsz M) rfl)).tr (fr.sr (P := fun x _ => x = zsz M) rfl)
        have sz3 : zsz (sr (sr (si M2 (zsz M) 0 (-1)) (zsz M) 1 none) (zsz M) 2 (some (lst, 11, 0))) = zsz M2 := rfl
        have su3 : zsu (sr (sr (si M2 (zsz M) 0 (-1)) (zsz M) 1 none) (zsz M) 2 (some (lst, 11, 0))) = zsu M2 := rfl
        generalize sr (sr (si M2 (zsz M) 0 (-1)) (zsz M) 1 none) (zsz M) 2 (some (lst, 11, 0)) = M3 at *
        obtain ⟨τ3, R3, ag3, on3, m23⟩ := R2.lc1 (v := 0) (w := 0) f3 (by omega) (by omega)
        have lq : l ≠ zsz M := by have := W.1.1.2; omega
        have laq : lA M2 l ≠ zsz M := by
          rw [W2.2.1, W1.2.1]
          rcases W.1.2.2.2.2 with ⟨e, -⟩ | ⟨b', m', e, e', -⟩
          · unfold lA; rw [e]; show 1 ≠ zsz M; omega
          · unfold lA; rw [e]; show b' ≠ zsz M; have := e'.2.1; omega
        have W3 := W2.1.k2 (τ' := τ3) fq.fg (fun k z => lq z) (fun k => .inr fun z => laq z) ag3
        have kq := fun k => fq.2 b k bq
        have t3 : τ3 (zsz M) = 1 := (ag3 _ (by omega)).trans ((pe2.2.2.1 _ (by omega)).trans tq)
        obtain ⟨τ4, R4, o4, h4, m34⟩ := R3.fx zzM t3
        have W4 := W3.1.t (o4 l lq) (o4 (lA M3 l) (by rw [W3.2.1]; exact laq))
        have m03 := ((m01.tr pe2.mvr).tr m23).tr m34
        have lz : zsz M0 ≤ zsz M1 := by omega
        have nb : ∀ x, x < zsz M1 → τ2 x = τ1 x := fun x hx => pe2.2.2.1 x hx
        refine next M3 τ4 fs2 s2 _ _ (zsz M) (none, as) (vCl e as) (by omega) (fun v s' ev => hy v s' ((bnd_ok ea).trans ev)) (fun w ev => hn w ((bnd_ok ea).trans ev)) R4 m03 (fun x hx h1 => (o4 x (by omega)).trans ((ag3 x (by omega)).trans ((nb x (by omega)).trans ((ag1 x hx).trans h1)))) ((kq 0).2.2.trans ((kb 0).trans (lc1.1.trans e0))) ((kq 1).2.2.trans ((kb 1).trans (lc1.2.trans e1))) W4 (W3.2.1.trans (W2.2.1.trans W1.2.1)) (W3.2.2.trans (W2.2.2.trans W1.2.2)) ⟨(fun k' e' => by cases e'), sf_xEl xl⟩ ?_ (hE.cl as) (ar_h hZ s0s lt) (fun w c5 hw => ar_g hU hw s0s lt)
        exact ⟨⟨zzM, by omega, h4⟩, lst, g2, xEl_mono xl (fun x z => (m23.tr m34).sub lz (Nat.le_refl _) x z) (nS_190 z190) ((m23.tr m34).agS (by omega) (Nat.le_refl _)) (Nat.le_refl _), by show as.length < 32768; omega⟩
      · obtain ⟨q, rfl⟩ := fO_inr pe.1
        show ZT E YX9_left (d + 14 + 1) M' _ 95 (q, 12, 0) Q
        exact ZT.out (nohand rfl) (hn w (bnd_er ea) _ M' (R1.er pe (by omega) (by omega)))
    | false =>
      have h28 : (isS (zOf n c dg) 30 s || isS (zOf n c dg) 28 s) = true := by
        rcases hs with z | z
        · rw [h26] at z; cases z
        · exact z
      rw [if_neg (by decide : ¬ false = true), if_pos rfl]
      rw [pSufs_2 h26 h28] at hy hn
      refine hM (d + 14) _ M τ fs s C hd h28 R.ps (fun k s2 ek gk M2 τ2 fs2 q pe2 xs2 => ?_) (fun w ek ou M' pe => ?_)
      · have ok := ok_km hr ek
        have lt := ok.2
        have R2 := R.cl pe2 ok.1
        have W2 := W.pe z190 pe2
        have kb := fun k => (k1_pe pe2 ⟨by omega, hb.2.1, hb.2.2.1⟩ k).2
        show Z E YX9_left (d + 14 + 1) M2 [(0, vr (some (pp, 8, 0))), (1, vr (some p1)), (2, vr (some (b, 30, 0)))] 108 [vr (some (q, 19, 0)), vr (some (l, 11, 0))] Q
        refine sX9_left_108 M2 pp _ b _ _ ⟨l, rfl, ?_⟩
        refine next M2 τ2 fs2 s2 _ _ q (some k, []) (vMm e.1 k) lt (fun v s' ev => hy v s' ((bnd_ok ek).trans ev)) (fun w ev => hn w ((bnd_ok ek).trans ev)) R2 pe2.mvr (fun x hx h1 => (pe2.2.2.1 x hx).trans h1) ((kb 0).trans e0) ((kb 1).trans e1) W2.1 W2.2.1 W2.2.2 ⟨fun k' e' => by cases e'; exact gk, fun _ z => by cases z⟩ ?_ (hE.mm k) (by omega) (fun w c5 hw => ar_f hU hw s0s lt)
        exact xSf_mono xs2 (fun x z => ⟨by have := z.1; omega, z.2⟩) (nS_190 z190) (fun _ _ _ => ⟨rfl, rfl⟩) (Nat.le_refl _)
      · obtain ⟨q, rfl⟩ := fO_inr pe.1
        show ZT E YX9_left (d + 14 + 1) M' _ 105 (q, 12, 0) Q
        exact ZT.out (nohand rfl) (hn w (bnd_er ek) _ M' (R.er pe (by omega) (by omega)))
/-- a new Left -/
theorem lf_mk {M0 M : zM} {τ0 τ : Nat → Nat} {fs0 fs : List Nat} {s0 s : pS} {c0 : Nat} {C : pC} {Zb Ub : Nat} {p1 : zP} (h : rn pp a lf n c M0 τ0 fs0 s0 c0 C o M τ fs s Zb Ub) : ∃ M2 τ', sr (sr (sr (si (zn (zn M 2) 3) (zsz (zn M 2)) 0 0) (zsz (zn M 2)) 1 (some (1, 110, 0))) (zsz M) 1 (some (zsz (zn M 2), 11, 0))) (zsz M) 0 (some p1) = M2 ∧ rn pp a lf n c M0 τ0 fs0 s0 c0 C o M2 τ' fs s (Zb + 2) (Ub + 5) ∧ mvr τ M τ' M2 ∧ (zsz M0 ≤ zsz M ∧ zsz M < zsz M2 ∧ τ' (zsz M) = 1 ∧ zsz M ≠ zsz M + 1 ∧ zsz M ≠ lA M2 (zsz M + 1)) ∧ gr M2 (zsz M) 0 = some p1 ∧ gr M2 (zsz M) 1 = some (zsz M + 1, 11, 0) ∧ wL (zsz M0) M2 τ' (zsz M + 1) [] ∧ lC M2 (zsz M + 1) = 0 := by
  have z0 := h.2.1.2.1.1.1
  have z190 := h.2.1.1
  have sN : zsz (zn M 2) = zsz M + 1 := rfl
  rw [sN]
  have f3 : fg (fun x _ => zsz M0 ≤ x ∧ τ x = 1) M (sr (sr (sr (si (zn (zn M 2) 3) (zsz M + 1) 0 0) (zsz M + 1) 1 (some (1, 110, 0))) (zsz M) 1 (some (zsz M + 1, 11, 0))) (zsz M) 0 (some p1)) := ((fg.zn (n := 2)).tr (fg.zn (n := 3))).tr2 ((((fr.si (.inr (by omega))).tr (fr.sr (.inr (by omega)))).tr (fr.sr (.inr (Nat.le_refl _)))).tr (fr.sr (.inr (Nat.le_refl _)))).fg
  have g0 : gr (sr (sr (sr (si (zn (zn M 2) 3) (zsz M + 1) 0 0) (zsz M + 1) 1 (some (1, 110, 0))) (zsz M) 1 (some (zsz M + 1, 11, 0))) (zsz M) 0 (some p1)) (zsz M) 0 = some p1 := by rw [gr_sr, if_pos rfl, if_pos rfl]
  have g1 : gr (sr (sr (sr (si (zn (zn M 2) 3) (zsz M + 1) 0 0) (zsz M + 1) 1 (some (1, 110, 0))) (zsz M) 1 (some (zsz M + 1, 11, 0))) (zsz M) 0 (some p1)) (zsz M) 1 = some (zsz M + 1, 11, 0) := by rw [gr_sr, if_pos rfl, if_neg (by decide), gr_sr, if_pos rfl, if_pos rfl]
  have g2 : gr (sr (sr (sr (si (zn (zn M 2) 3) (zsz M + 1) 0 0) (zsz M + 1) 1 (some (1, 110, 0))) (zsz M) 1 (some (zsz M + 1, 11, 0))) (zsz M) 0 (some p1)) (zsz M + 1) 1 = some (1, 110, 0) := by rw [gr_sr, if_neg (by omega), gr_sr, if_neg (by omega), gr_sr, if_pos rfl, if_pos rfl]
  have g3 : gi (sr (sr (sr (si (zn (zn M 2) 3) (zsz M + 1) 0 0) (zsz M + 1) 1 (some (1, 110, 0))) (zsz M) 1 (some (zsz M + 1, 11, 0))) (zsz M) 0 (some p1)) (zsz M + 1) 2 = 0 := by
    show gi (si (zn (zn M 2) 3) (zsz M + 1) 0 0) (zsz M + 1) 2 = 0
    rw [gi_idx (by decide), gi_zn, if_pos (show zsz M + 1 = zsz (zn M 2) from rfl)]
  have sz : zsz (sr (sr (sr (si (zn (zn M 2) 3) (zsz M + 1) 0 0) (zsz M + 1) 1 (some (1, 110, 0))) (zsz M) 1 (some (zsz M + 1, 11, 0))) (zsz M) 0 (some p1)) = zsz M + 2 := rfl
  have su : zsu (sr (sr (sr (si (zn (zn M 2) 3) (zsz M + 1) 0 0) (zsz M + 1) 1 (some (1, 110, 0))) (zsz M) 1 (some (zsz M + 1, 11, 0))) (zsz M) 0 (some p1)) = zsu M + 5 := rfl
  generalize sr (sr (sr (si (zn (zn M 2) 3) (zsz M + 1) 0 0) (zsz M + 1) 1 (some (1, 110, 0))) (zsz M) 1 (some (zsz M + 1, 11, 0))) (zsz M) 0 (some p1) = M2 at *
  obtain ⟨τ2, R2, ag2, on2, m2⟩ := h.lc1 (v := 2) (w := 5) f3 (by omega) (by omega)
  have lA2 : lA M2 (zsz M + 1) = 1 ∧ lC M2 (zsz M + 1) = 0 := by unfold lA lC; rw [g2]; exact ⟨rfl, rfl⟩
  exact ⟨M2, τ2, rfl, R2, m2, ⟨z0, by omega, on2 _ (Nat.le_refl _) (by omega), by omega, by rw [lA2.1]; omega⟩, g0, g1, wL_mk g3 g2 ⟨by omega, by omega⟩ ⟨by omega, on2 _ (by omega) (by omega)⟩, lA2.2⟩
theorem k_prim {z : pZ} {ro : Option pT} {C : pC} (s : pS) : sat (pPrim z K ro C s) fun v _ => v.2.1 ≠ 2 := by
  have one : ∀ g : gEx, sat (bnd (nxt' z s) fun _ s => prt (vOf g) s) fun v _ => v.2.1 ≠ 2 := fun g => sat_bnd (sat_nx (sat_prt (show 0 ≠ 2 by decide)))
  unfold pPrim
  refine sat_ite (fun _ => sat_bnd (sat_tak fun w => sat_prt (show 1 ≠ 2 by decide))) (fun _ => ?_)
  refine sat_ite (fun _ => one _) (fun _ => ?_)
  refine sat_ite (fun _ => sat_bnd (sat_tak fun w => sat_prt (show 0 ≠ 2 by decide))) (fun _ => ?_)
  refine sat_ite (fun _ => one _) (fun _ => ?_)
  refine sat_ite (fun _ => one _) (fun _ => ?_)
  refine sat_ite (fun _ => one _) (fun _ => ?_)
  refine sat_ite (fun _ => one _) (fun _ => ?_)
  refine sat_ite (fun _ => one _) (fun _ => ?_)
  refine sat_ite (fun _ => one _) (fun _ => ?_)
  refine sat_ite (fun _ => sat_opens fun r' e => sat_bnd (sat_nx (sat_bnd fun f s' _ => sat_prt (show 0 ≠ 2 by decide)))) (fun _ => ?_)
  refine sat_ite (fun _ => sat_opens fun r' e => sat_bnd (sat_nx (sat_bnd fun v s' _ => sat_bnd (sat_ned (sat_prt (show 0 ≠ 2 by decide)))))) (fun _ => ?_)
  refine sat_ite (fun _ => sat_opens fun r' e => sat_bnd (sat_nx (sat_bnd fun v s' _ => sat_prt (show 0 ≠ 2 by decide)))) (fun _ => ?_)
  exact sat_ite (fun _ => sat_opens fun r' e => sat_bnd (sat_nx (sat_bnd fun v s' _ => sat_prt (show 0 ≠ 2 by decide)))) (fun _ => sat_flt)
theorem k_made {z : pZ} {ro : Option pT} {C : pC} (s : pS) : sat (pMade z K ro C s) fun v _ => v.2.1 ≠ 2 := sat_opens fun r' e => sat_bnd (sat_nx (sat_bnd fun v s' _ => sat_bnd fun v s' _ => sat_bnd fun l s' _ => sat_prt (show 0 ≠ 2 by decide)))
/-- new at o -/
def cNm (E : zE) (pp a lf n : Nat) (c : Nat → Int32) (dg : Int32 → List Int32) (dm o D : Nat) (f : pC → pS → pR gV) : Prop :=
  ∀ (d : Nat) (Q : zO → zM → Prop) (M : zM) (τ : Nat → Nat) (fs : List Nat) (s : pS) (C : pC), dm ≤ d → isK (zOf n c dg) 16 s = true → xPs M τ pp a lf n c fs s C o →
    (∀ v s', f C s = .ok (v, s') → ∀ M' τ' fs' p, pEnd pp a lf n c 10 200 M τ fs s C o M' τ' fs' s' → vNd (zsz M) M' τ' D p v → Q (.inl (some (vr (some p)))) M') →
    (∀ w, f C s = .error w → ∀ ou M', pEr lf 10 200 τ fs M s w ou M' → Q ou M') → Z E YX9_made d M [(0, vr (some (pp, 8, 0)))] 0 [] Q
theorem y_left {ro : Option pT} {DL dP dm : Nat} (hP : cVm E pp a lf n c YX9_primary [] dP o DL (pPrim (zOf n c dg) K ro)) (hN : cNm E pp a lf n c dg dP o DL (pMade (zOf n c dg) K ro)) (hA : cAm E pp a lf n c dg dP o DL (pArgs (zOf n c dg) K ro)) (hM : cMm E pp a lf n c dg dP o DL (pKm (zOf n c dg) ro)) (hr : okO ro) (hK : 1300 ≤ K) (h3 : 3 ≤ DL) (hdm : dP + 1 ≤ dm ∧ 30 ≤ dm) : cVm E pp a lf n c YX9_left [] dm o (DL + 3) (pLeft (zOf n c dg) K ro) := by
  intro d Q M τ fs s C hd h hy hn
  obtain ⟨d, rfl⟩ : ∃ d', d = d' + 15 := ⟨d - 15, by omega⟩
  have R := rn_st h C.1
  have z190 := h.z190
  have e2 : sgX (nI 26) = 2 := by decide +kernel
  have go : ∀ (v1 : gV) (s1 : pS) (M1 : zM) (τ1 : Nat → Nat) (fs1 : List Nat) (p1 : zP), pLeft (zOf n c dg) K ro C s = pSufs (zOf n c dg) K ro C K v1 s1 → adv C.1 s s1 → s.1 < s1.1 → gok v1.1 → v1.2.1 ≠ 2 → pEnd pp a lf n c 10 200 M τ fs s C o M1 τ1 fs1 s1 → vNd (zsz M) M1 τ1 DL p1 v1 → Z E YX9_left (d + 14 + 1) M1 [(0, vr (some (pp, 8, 0))), (1, vr (some p1)), (2, vr none)] 26 [] Q := fun v1 s1 M1 τ1 fs1 p1 pe ad lt gk k2 pe1 vn1 => by
    have R1 := R.cl pe1 ad
    have t1 := R1.ps.tz.t_le
    have hy1 : ∀ v s', pSufs (zOf n c dg) K ro C K v1 s1 = .ok (v, s') → ∀ M' τ' fs' p, pEnd pp a lf n c 10 200 M τ fs s C o M' τ' fs' s' → vNd (zsz M) M' τ' (DL + 3) p v → Q (.inl (some (vr (some p)))) M' := fun v s' e => hy v s' (pe.trans e)
    have hn1 : ∀ w, pSufs (zOf n c dg) K ro C K v1 s1 = .error w → ∀ ou M', pEr lf 10 200 τ fs M s w ou M' → Q ou M' := fun w e => hn w (pe.trans e)
    refine y_lf26 (dg := dg) R1.ps.tz R1.ps.pt (fun h26 h28 => ?_) (fun hs3 => ?_)
    · rw [if_pos rfl]
      obtain ⟨f', hf'⟩ : ∃ f', K = f' + 1 := ⟨K - 1, by omega⟩
      refine hy1 v1 s1 ?_ M1 τ1 fs1 p1 pe1 (vn1.up z190 (by omega))
      have : pSufs (zOf n c dg) K ro C (f' + 1) v1 s1 = .ok (v1, s1) := pSufs_0 h26 h28
      rw [← hf'] at this
      exact this
    · refine sX9_left_60 M1 pp _ _ ?_
      rw [if_pos rfl]
      refine sX9_left_67 (zn M1 2) pp _ (zsz M1) ?_
      have z1 := R1.ps.z190
      refine iX24_init_0 (d := d + 10) (zn M1 2) (zsz M1) _ ⟨by show 16 ≤ zsz M1 + 1; omega, by omega, ?_⟩
      obtain ⟨M2, τ2, eM, R2, m2, hb, g0, g1, W2, lC2⟩ := lf_mk (p1 := p1) R1
      rw [eM]
      show Z E YX9_left (d + 14 + 1) M2 [(0, vr (some (pp, 8, 0))), (1, vr (some p1))] 72 [vr (some (zsz M1, 30, 0))] Q
      refine sX9_left_72 M2 pp _ (zsz M1) ⟨a, R2.ps.pt, ?_⟩
      refine y_is (dg := dg) (j := 26) (by decide) e2 R2.ps.tz ?_
      rw [g1]
      show Z E YX9_left (d + 14 + 1) M2 [(0, vr (some (pp, 8, 0))), (1, vr (some p1)), (2, vr (some (zsz M1, 30, 0)))] 85 [vi (if isS (zOf n c dg) 26 s1 then 1 else 0), vr (some (zsz M1 + 1, 11, 0))] Q
      refine y_lf85 hA hM hr h3 (by omega) z190 gk K M2 τ2 fs1 s1 _ _ (zsz M1) (zsz M1 + 1) [] [] v1 (by omega) hy1 hn1 R2 hb g0 g1 W2 ⟨rfl, fun i q hq => by cases hq⟩ (xE_mono vn1.2.1 (fun x z => m2.sub (Nat.le_refl _) (Nat.le_refl _) x z) (nS_190 z190) (m2.agS z190 (Nat.le_refl _)) (Nat.le_refl _)) (eLf_0 k2) ?_ ?_ hs3
      · show _ + 10 + 8 * 0 ≤ _
        omega
      · show _ + 200 + 150 * 0 ≤ _
        omega
  have prim : isK (zOf n c dg) 16 s = false → Z E YX9_primary (d + 14) M (zargs 0 [vr (some (pp, 8, 0))]) 0 [] (zafter E YX9_left (d + 14 + 1) [(0, vr (some (pp, 8, 0)))] 20 3 [] Q) := fun hk => by
    have pe0 : pLeft (zOf n c dg) K ro C s = bnd (pPrim (zOf n c dg) K ro C s) fun e s => pSufs (zOf n c dg) K ro C K e s := by unfold pLeft; rw [if_neg (by rw [hk]; decide)]
    refine hP (d + 14) _ M τ fs s C (by omega) h (fun v1 s1 e1 M1 τ1 fs1 p1 pe1 vn1 => ?_) (fun w e ou M' pe => ?_)
    · have o1 := ok_prim (c := C) hr s v1 s1 e1
      show Z E YX9_left (d + 14 + 1) M1 [(0, vr (some (pp, 8, 0)))] 23 [vr (some p1)] Q
      exact sX9_left_23 M1 pp _ (go v1 s1 M1 τ1 fs1 p1 (pe0.trans (bnd_ok e1)) o1.1 o1.2.1 o1.2.2.1.1 (k_prim s v1 s1 e1) pe1 vn1)
    · obtain ⟨q, rfl⟩ := fO_inr pe.1
      show ZT E YX9_left (d + 14 + 1) M' _ 20 (q, 12, 0) Q
      exact ZT.out (nohand rfl) (hn w (pe0.trans (bnd_er e)) _ M' (R.er pe (by omega) (by omega)))
  refine iX9_left_0 M pp ⟨a, h.pt, ?_⟩
  have kk := y_isK 16 dg h.tz
  by_cases h2 : gi M a 3 = 2
  · rw [if_pos h2]
    by_cases h6 : gi M a 6 = 16
    · rw [if_pos h6]
      have hk := kk.mp ⟨h2, h6⟩
      have pe0 : pLeft (zOf n c dg) K ro C s = bnd (pMade (zOf n c dg) K ro C s) fun e s => pSufs (zOf n c dg) K ro C K e s := by unfold pLeft; rw [if_pos hk]
      refine hN (d + 14) _ M τ fs s C (by omega) hk h (fun v1 s1 e1 M1 τ1 fs1 p1 pe1 vn1 => ?_) (fun w e ou M' pe => ?_)
      · have o1 := ok_made (c := C) hr s v1 s1 e1
        show Z E YX9_left (d + 14 + 1) M1 [(0, vr (some (pp, 8, 0)))] 16 [vr (some p1)] Q
        exact iX9_left_16 M1 pp _ (go v1 s1 M1 τ1 fs1 p1 (pe0.trans (bnd_ok e1)) o1.1 o1.2.1 o1.2.2.1.1 (k_made s v1 s1 e1) pe1 vn1)
      · obtain ⟨q, rfl⟩ := fO_inr pe.1
        show ZT E YX9_left (d + 14 + 1) M' _ 13 (q, 12, 0) Q
        exact ZT.out (nohand rfl) (hn w (pe0.trans (bnd_er e)) _ M' (R.er pe (by omega) (by omega)))
    · rw [if_neg h6]
      exact prim (by
        cases hk : isK (zOf n c dg) 16 s with
        | false => rfl
        | true => exact absurd (kk.mpr hk).2 h6)
  · rw [if_neg h2]
    exact prim (by
      cases hk : isK (zOf n c dg) 16 s with
      | false => rfl
      | true => exact absurd (kk.mpr hk).1 h2)
end
