/-! THE COMPONENT's PARSER: a declared function -/
/-- the text of a function: inside -/
def cFi (E : zE) (pp a lf n : Nat) (c : Nat → Int32) (dg : Int32 → List Int32) (K dm o : Nat) (ro : Option pT) : Prop :=
  ∀ (d : Nat) (Q : zO → zM → Prop) (M0 : zM) (τ0 : Nat → Nat) (fs0 : List Nat) (s0 : pS) (Dn : Nat → Prop) (C : pC) (M : zM) (τ : Nat → Nat) (fs : List Nat) (s : pS) (cz cu f lp ld N x : Nat) (own : Option Nat), dm ≤ d →
    rk pp a lf n c M0 τ0 fs0 s0 Dn C o M τ fs s cz cu → 60 ≤ cz → 1500 ≤ cu → wF (zsz M0) M τ f lp ld [] [] → (lA M lp = 1 ∧ lA M ld = 1 ∧ lC M lp = 0 ∧ lC M ld = 0) → fnI M fs s Dn N f 0 own C.1 [] → (∀ y, own = some y → y < 100000) →
    (∀ s', pFi (zOf n c dg) K ro N x s = .ok ((N, x), s') → ∀ M' τ' fs' q, fs <+: fs' → s.1 + 4 ≤ s'.1 → rk pp a lf n c M0 τ0 fs0 s0 Dn C o M' τ' fs' s' (cz + 50) (cu + 1000) → kg f lp ld τ M τ' M' → s'.2.2[N]? = some q → fdn M' τ' f q.2 → Q (.inl none) M') →
    (∀ w, pFi (zOf n c dg) K ro N x s = .error w → ∀ q M', pEr lf 10 200 τ0 fs0 M0 s0 w (.inr (q, 12, 0)) M' → Q (.inr (q, 12, 0)) M') → Z E YX9_inside d M [(0, vr (some (pp, 8, 0))), (1, vr (some (f, 10, 0)))] 0 [] Q
section
variable {E : zE} {pp a lf n : Nat} {c : Nat → Int32} {dg : Int32 → List Int32} {K o dI : Nat}
variable {M0 B M M' : zM} {τ0 τB τ τ' : Nat → Nat} {fs0 fs : List Nat} {s0 s : pS} {Dn Dn' : Nat → Prop} {C : pC} {cz cu f lp ld N lo : Nat} {ps ds : List (Option zP)}
theorem rk.dn (R : rk pp a lf n c M0 τ0 fs0 s0 Dn C o M τ fs s cz cu) (h : ∀ k, Dn' k → Dn k) : rk pp a lf n c M0 τ0 fs0 s0 Dn' C o M τ fs s cz cu := by
  obtain ⟨r1, r2, r3, r4, r5, r6, r7⟩ := R
  exact ⟨r1, r2, r3, r4, fun k f q y => r5 k f q (h k y), r6, r7⟩
theorem rk.dx (R : rk pp a lf n c M0 τ0 fs0 s0 Dn C o M τ fs s cz cu) (h : ∀ k f q, Dn' k → ¬ Dn k → fs[k]? = some f → s.2.2[k]? = some q → fdn M τ f q.2) : rk pp a lf n c M0 τ0 fs0 s0 Dn' C o M τ fs s cz cu := by
  obtain ⟨r1, r2, r3, r4, r5, r6, r7⟩ := R
  exact ⟨r1, r2, r3, r4, fun k f q y1 y2 y3 => by
    by_cases z : Dn k
    · exact r5 k f q z y2 y3
    · exact h k f q y1 z y2 y3, r6, r7⟩
/-- a function's text where other cells change -/
theorem wF.fr {P : Nat → Nat → Prop} (h : wF lo M τ f lp ld ps ds) (g : fg P M M') (hz : 190 ≤ zsz M) (h1 : ¬ P f 2 ∧ ¬ P f 3) (h2 : ∀ k, ¬ P lp k ∧ ¬ P ld k) (h3 : ∀ k, (lA M lp < 16 ∨ ¬ P (lA M lp) k) ∧ (lA M ld < 16 ∨ ¬ P (lA M ld) k)) (ag : ∀ x, x < zsz M → τ' x = τ x) : wF lo M' τ' f lp ld ps ds ∧ (lC M' lp = lC M lp ∧ lC M' ld = lC M ld) ∧ (lA M' lp = lA M lp ∧ lA M' ld = lA M ld) := by
  obtain ⟨k1, k2, k3, k4, k5, k6, k7⟩ := h
  have z := g.1.1
  have w1 := k3.k2 g (fun k => (h2 k).1) (fun k => (h3 k).1) ag
  have w2 := k4.k2 g (fun k => (h2 k).2) (fun k => (h3 k).2) ag
  exact ⟨⟨⟨k1.1, by omega, (ag f k1.2.1).trans k1.2.2⟩, ⟨(g.gr k1.2.1 h1.1).trans k2.1, (g.gr k1.2.1 h1.2).trans k2.2⟩, w1.1, w2.1, k5, by rw [w1.2.1, w2.2.1]; exact k6, by rw [w1.2.1, w2.2.1]; exact k7⟩, ⟨w1.2.2, w2.2.2⟩, w1.2.1, w2.2.1⟩
theorem hld_oth {y N k : Nat} (s : pS) (h : N ≠ k) : (hld N y s).2.2[k]? = s.2.2[k]? := by
  show (adV N y s.2.2)[k]? = _
  unfold adV
  cases s.2.2[N]? with
  | none => rfl
  | some q => exact List.getElem?_set_ne h
theorem pFi_val {ro : Option pT} {x : Nat} {r : Nat × Nat} {s' : pS} (e : pFi (zOf n c dg) K ro N x s = .ok (r, s')) : r = (N, x) := by
  have h : sat (pFi (zOf n c dg) K ro N x s) fun r _ => r = (N, x) := by
    unfold pFi pFe
    refine sat_bnd ?_
    intro _ _ _
    refine sat_bnd ?_
    intro _ _ _
    refine sat_bnd ?_
    intro _ _ _
    refine sat_bnd ?_
    intro _ _ _
    refine sat_bnd ?_
    intro _ _ _
    refine sat_bnd ?_
    intro _ _ _
    exact sat_prt rfl
  exact h r s' e
theorem y_pdc {tz tu d : Nat} {Q : zO → zM → Prop} {ro : Option pT} (hro : lvO o ro fun o r => ∃ ro', (∀ b C s, r.func b C s = pFun (zOf n c dg) K ro' b C s) ∧ cFi E pp a lf n c dg K dI o ro') (hd : dI ≤ d ∧ 12 ≤ d) (R : rk pp a lf n c M0 τ0 fs0 s0 Dn (N, 0, 0) o M τ fs s cz cu) (ht : tz ≤ 10 ∧ tu ≤ 200) (hz : 60 ≤ cz) (hu : 1500 ≤ cu) (h8 : 48 + 8 * ds.length ≤ cu) (h9 : 1500 + 8 * ds.length ≤ cu + 4 * lC M ld) (hl : ds.length < 80000) (W : wF (zsz M0) M τ f lp ld ps ds) (hf : fs[N]? = some f) (hK : kg f lp ld τB B τ M) (hA : lAB B M lp ld) (hB : zsz B ≤ zsz M) (h11 : isK (zOf n c dg) 11 s = true)
    (hy : ∀ r s', pDcl (zOf n c dg) ro (N, 0, 0) s = .ok (r, s') → ∀ M' τ' fs' cu' g, fs <+: fs' → rk pp a lf n c M0 τ0 fs0 s0 Dn (N, 0, 0) o M' τ' fs' s' (cz + 20) cu' → (cu + 500 + 4 * lC M ld ≤ cu' + 4 * lC M' ld ∧ lC M' lp = lC M lp) → wF (zsz M0) M' τ' f lp ld ps (ds ++ [some (g, 10, 0)]) → (∀ D gs, wTs (zsz M0) M τ (0, 0) D ps gs → wTs (zsz M0) M' τ' (0, 0) D ps gs) → (∀ dc, wD M τ ds dc → wD M' τ' (ds ++ [some (g, 10, 0)]) (dc ++ [r])) → kg f lp ld τB B τ' M' → lAB B M' lp ld → fs'[N]? = some f → (gi M' f 6 = gi M f 6 ∧ gi M' f 8 = gi M f 8) → s.1 < s'.1 → Q (.inl none) M')
    (hn : ∀ w, pDcl (zOf n c dg) ro (N, 0, 0) s = .error w → ∀ q M', pEr lf tz tu τ0 fs0 M0 s0 w (.inr (q, 12, 0)) M' → Q (.inr (q, 12, 0)) M') : Z E YX9_part (d + 1) M [(0, vr (some (pp, 8, 0)))] 0 [] Q := by
  have z := R.z0
  have pz := R.ps.pz
  have fl := R.ps.fl
  have tl := R.ps.tz.t_le
  have e8 := R.ps.2.2.2.2.1
  have nl := (List.getElem?_eq_some_iff.mp hf).1
  have h2 := (y_isK 11 dg R.ps.tz).mpr h11
  have pe0 : pDcl (zOf n c dg) ro (N, 0, 0) s = opens (zOf n c dg) ro s fun r => bnd (nxt' (zOf n c dg) s) fun _ s => r.func true (N, 0, 0) s := rfl
  refine iX9_part_0 M pp ⟨a, R.ps.pt, ?_⟩
  rw [if_pos h2.1, if_pos h2.2]
  refine R.opng (tz := tz) (tu := tu) (dg := dg) (by omega) (by omega) (by omega) (fun ho M1 R1 k1 _ _ => ?_) (fun ho q M' er => ?_)
  rotate_left
  · rcases hro with ⟨rfl, -⟩ | ⟨r, rfl, y, -⟩
    · exact ZT.out (nohand rfl) (hn _ pe0 q M' er)
    · omega
  rcases hro with ⟨-, y⟩ | ⟨r, rfl, -, okr, ro', hfu, hI⟩
  · omega
  have pe0 : pDcl (zOf n c dg) (some r) (N, 0, 0) s = bnd (nxt' (zOf n c dg) s) fun _ s => r.func true (N, 0, 0) s := rfl
  show Z E YX9_part (d + 1) M1 [(0, vr (some (pp, 8, 0)))] 32 [] Q
  refine sX9_part_32 M1 pp ⟨a, R1.ps.pt, ?_⟩
  refine R1.nxtg (tz := tz) (tu := tu) (dg := dg) (.inr (isK_k h11).1) (by omega) (by omega) (by omega) (fun e2 M2 R2 k2 => ?_) (fun w e q M' er => ZT.out (nohand rfl) (hn w (pe0.trans (bnd_er e)) q M' er))
  show Z E YX9_part (d + 1) M2 [(0, vr (some (pp, 8, 0)))] 39 [] Q
  refine sX9_part_39 M2 pp ?_
  have k02 := k1.tr k2
  have W2 := W.k k02 z.1
  have wl2 := W2.1.2.2.1.lz R2.ps.z190
  have wd2 := W2.1.2.2.2.1.lz R2.ps.z190
  have z2 := k02.z
  have pe2 : pDcl (zOf n c dg) (some r) (N, 0, 0) s = pFb (zOf n c dg) K ro' true (N, 0, 0) s.2.2.length (s.1 + 1, s.2.1, s.2.2 ++ [([], 0, none, N, [], gNo)]) := (pe0.trans (bnd_ok e2)).trans ((hfu true _ _).trans (pFun_eq _ _ _ _ _ _))
  have R2' := R2.dn (Dn' := fun k => Dn k ∧ k ≠ s.2.2.length) (fun k y => y.1)
  refine R2'.begun (cz' := cz + 15) (cu' := cu + 300) (by dsimp only; omega) (fun y => y.2 rfl) (by omega) (by omega) (by omega) (fun M3 τ3 R3 k3 W3 A3 g3 => ?_)
  show Z E YX9_part (d + 1) M3 [(0, vr (some (pp, 8, 0)))] 43 [vr (some (zsz M2, 10, 0))] Q
  refine sX9_part_43 M3 pp _ ⟨a, R3.ps.pt, ?_⟩
  have pe3 : pDcl (zOf n c dg) (some r) (N, 0, 0) s = bnd (nedN (zOf n c dg) (s.1 + 1, s.2.1, s.2.2 ++ [([], 0, none, N, [], gNo)])) fun x s' => pFi (zOf n c dg) K ro' s.2.2.length x (if N = 0 then s' else hld N x s') := by
    refine pe2.trans ?_
    unfold pFb
    rw [if_pos rfl, bnd_as]
    rfl
  refine R3.needNg (tz := tz) (tu := tu) (dg := dg) (by omega) (by omega) (by omega) (fun x s4 e4 ex hx4 M4 R4 k4 => ?_) (fun w e q M' er => ZT.out (nohand rfl) (hn w (pe3.trans (bnd_er e)) q M' er))
  have pe4 := pe3.trans (bnd_ok e4)
  show Z E YX9_part (d + 1) M4 [(0, vr (some (pp, 8, 0))), (1, vr (some (zsz M2, 10, 0)))] 52 [vi (nI x), vr (some (zsz M2, 10, 0))] Q
  have hx41 : s4.1 = s.1 + 1 + 1 := hx4.2.1
  have hx42 : s4.2.2 = s.2.2 ++ [([], 0, none, N, [], gNo)] := hx4.2.2.1
  have k24 := k3.tr k4
  have k04 := k02.tr k24
  have W4 := W.k k04 z.1
  have V4 := W3.k k4 z.1
  have fs4 : (fs ++ [zsz M2])[N]? = some f := by rw [List.getElem?_append_left nl]; exact hf
  have cur4 := R4.ps.cur (f := f) fs4
  have z4 := k04.z
  have z3 := k4.z
  have gk : (fs ++ [zsz M2])[s.2.2.length]? = some (zsz M2) := by rw [← e8, List.getElem?_append_right (Nat.le_refl _), Nat.sub_self]; rfl
  have fg4 : zsz M0 ≤ zsz M2 ∧ zsz M2 < zsz M4 ∧ τ3 (zsz M2) = 3 := V4.1.1
  have g4 : ∀ k, k ≠ 4 → k ≠ 5 → gi M4 (zsz M2) k = gi M3 (zsz M2) k := fun k y1 y2 => (k4.mvr.cd ⟨by omega, W3.1.2⟩ y1 y2).1
  -- the name
  have kp5 : kp τ M2 τ3 (si M4 (zsz M2) 7 (nI x)) := ⟨k24.1.tr2 (fr.si (.inr (Nat.le_refl _))).fg, k24.2⟩
  have X5 : ndX (si M4 (zsz M2) 7 (nI x)) τ3 (fs ++ [zsz M2]) (fun k => Dn k ∧ k ≠ s.2.2.length) s4.2.2 := fun k f' q y1 y2 y3 => by
    have kl := (List.getElem?_eq_some_iff.mp y2).1
    rw [List.length_append] at kl
    have kl : k < fs.length + 1 := kl
    have kn := y1.2
    rw [hx42] at y3
    rw [List.getElem?_append_left (by omega)] at y2 y3
    exact (R2.2.2.2.2.1 k f' q y1.1 y2 y3).mv kp5.mvr
  have R5 := R4.cd6 (v := nI x) (j := 7) fg4 (by decide) X5
  have ngf : f ≠ zsz M2 := by have := W2.1.1.2.1; omega
  have gf5 : ∀ k, gi (si M4 (zsz M2) 7 (nI x)) f k = gi M4 f k := fun k => gi_oth ngf
  have ff5 : fg (fun x k => x = zsz M2 ∧ k = 7) M4 (si M4 (zsz M2) 7 (nI x)) := (fr.si ⟨rfl, rfl⟩).fg
  have aW4 := (k04.wl W.2.2.1 z.1).2
  have aD4 := (k04.wl W.2.2.2.1 z.1).2
  have aW2 := (k02.wl W.2.2.1 z.1).2
  have aD2 := (k02.wl W.2.2.2.1 z.1).2
  have bP := (k4.wl W3.2.2.1 z.1).2
  have bD := (k4.wl W3.2.2.2.1 z.1).2
  have W5 := W4.1.fr (τ' := τ3) ff5 R4.ps.z190 ⟨by omega, by omega⟩ (fun k => ⟨by omega, by omega⟩) (fun k => ⟨.inr (by rw [aW4.1]; rw [aW2.1] at wl2; omega), .inr (by rw [aD4.1]; rw [aD2.1] at wd2; omega)⟩) (fun _ _ => rfl)
  have V5 := V4.1.fr (τ' := τ3) ff5 R4.ps.z190 ⟨by omega, by omega⟩ (fun k => ⟨by omega, by omega⟩) (fun k => ⟨.inl (by rw [bP.1, A3.2.2.1]; decide), .inl (by rw [bD.1, A3.2.2.2]; decide)⟩) (fun _ _ => rfl)
  have n7 : gi (si M4 (zsz M2) 7 (nI x)) (zsz M2) 7 = nI x := gi_self _ _ _ _
  have n0 : gi (si M4 (zsz M2) 7 (nI x)) (zsz M2) 0 = nI s.2.2.length := (gi_idx (by decide)).trans ((g4 0 (by decide) (by decide)).trans g3.2.2)
  have n6 : gi (si M4 (zsz M2) 7 (nI x)) (zsz M2) 6 = 0 := (gi_idx (by decide)).trans ((g4 6 (by decide) (by decide)).trans g3.1)
  have n8 : gi (si M4 (zsz M2) 7 (nI x)) (zsz M2) 8 = -1 := (gi_idx (by decide)).trans ((g4 8 (by decide) (by decide)).trans g3.2.1)
  have sz5 : zsz (si M4 (zsz M2) 7 (nI x)) = zsz M4 := rfl
  have or5 : ∀ k, gr (si M4 (zsz M2) 7 (nI x)) f k = gr M4 f k := fun _ => rfl
  refine iX9_part_52 M4 pp _ _ _ ⟨zsz M2, rfl, by omega, f, cur4, ?_⟩
  -- where the function is declared, and its text
  have tail : ∀ (M6 : zM) (τ6 : Nat → Nat) (s6 : pS), rk pp a lf n c M0 τ0 fs0 s0 (fun k => Dn k ∧ k ≠ s.2.2.length) (N, 0, 0) (o + 1) M6 τ6 (fs ++ [zsz M2]) s6 (cz + 30) (cu + 600) → kp τ3 (si M4 (zsz M2) 7 (nI x)) τ6 M6 → s6.1 = s4.1 → s6.2.2[s.2.2.length]? = some ([], 0, none, N, [], gNo) → pDcl (zOf n c dg) (some r) (N, 0, 0) s = pFi (zOf n c dg) K ro' s.2.2.length x s6 → Z E YJ2_add d M6 (zargs 0 [vr (some (ld, 11, 0)), vr (some (zsz M2, 10, 0))]) 0 [] (zafter E YX9_part (d + 1) [(0, vr (some (pp, 8, 0))), (1, vr (some (zsz M2, 10, 0)))] 84 3 [] Q) := fun M6 τ6 s6 R6 k6 es6 hq6 pe6 => by
    have W6 := W5.1.k k6 z.1
    have V6 := V5.1.k k6 z.1
    have z6 := k6.z
    have c1 := (k6.wl W5.1.2.2.1 z.1).2
    have c2 := (k6.wl W5.1.2.2.2.1 z.1).2
    have c3 := (k6.wl V5.1.2.2.1 z.1).2
    have c4 := (k6.wl V5.1.2.2.2.1 z.1).2
    have lap : lA M6 lp = lA M lp := c1.1.trans (W5.2.2.1.trans aW4.1)
    have lad : lA M6 ld = lA M ld := c2.1.trans (W5.2.2.2.trans aD4.1)
    have vap : lA M6 (zsz M2 + 1) = 1 := c3.1.trans (V5.2.2.1.trans (bP.1.trans A3.2.2.1))
    have vad : lA M6 (zsz M2 + 2) = 1 := c4.1.trans (V5.2.2.2.trans (bD.1.trans A3.2.2.2))
    rw [aW2.1] at wl2
    rw [aD2.1] at wd2
    refine R6.ladd (cz' := cz + 29) W6.1.2.2.2.1 (by omega) (fun p e => by cases e; exact sto10) (by omega) (by omega) (by omega) (fun M7 τ7 cu7 R7 u7 w7 m67 ag7 f7 la7 => ?_)
    show Z E YX9_part (d + 1) M7 [(0, vr (some (pp, 8, 0))), (1, vr (some (zsz M2, 10, 0)))] 87 [vi 1] Q
    refine sX9_part_87 M7 pp _ _ ?_
    have lc7 := lC_le w7.1
    rw [List.length_append] at lc7
    have lc7 : 4 * lC M7 ld ≤ 40 + 8 * (ds.length + 1) := lc7
    have W7 := W6.1.a2 w7 f7 ag7 la7 R6.ps.z190
    have nP : ∀ y k, zsz M2 ≤ y → ¬ lP M6 ld y k := fun y k y1 y2 => by
      rcases y2 with y2 | ⟨y2, -⟩
      · omega
      · rw [lad] at y2; omega
    have V7 := V6.1.fr (τ' := τ7) f7 R6.ps.z190 ⟨nP _ _ (Nat.le_refl _), nP _ _ (Nat.le_refl _)⟩ (fun k => ⟨nP _ _ (by omega), nP _ _ (by omega)⟩) (fun k => ⟨.inl (by rw [vap]; decide), .inl (by rw [vad]; decide)⟩) ag7
    have gg7 : ∀ k, k ≠ 4 → k ≠ 5 → gi M7 (zsz M2) k = gi (si M4 (zsz M2) 7 (nI x)) (zsz M2) k := fun k y1 y2 => (f7.gi V6.1.1.2.1 (nP _ _ (Nat.le_refl _))).trans (k6.mvr.cd ⟨by omega, V5.1.1.2⟩ y1 y2).1
    have lcd : lC M6 ld = lC M ld := c2.2.trans (W5.2.1.2.trans aD4.2)
    have lcp : lC M7 lp = lC M lp := W7.2.1.trans (c1.2.trans (W5.2.1.1.trans aW4.2))
    have z7 := f7.1.1
    have kl : 0 < s.2.2.length := by omega
    refine hI d _ M0 τ0 fs0 s0 _ (N, 0, 0) M7 τ7 (fs ++ [zsz M2]) s6 _ _ (zsz M2) (zsz M2 + 1) (zsz M2 + 2) s.2.2.length x none hd.1 R7 (by omega) (by omega) V7.1 ⟨V7.2.2.1.trans vap, V7.2.2.2.trans vad, V7.2.1.1.trans (c3.2.trans (V5.2.1.1.trans (bP.2.trans A3.1))), V7.2.1.2.trans (c4.2.trans (V5.2.1.2.trans (bD.2.trans A3.2.1)))⟩ ⟨gk, fun y => y.2 rfl, kl, hq6, (gg7 6 (by decide) (by decide)).trans n6, (gg7 8 (by decide) (by decide)).trans n8⟩ (fun y e => by cases e) (fun s8 e8' M8 τ8 fs8 q8 pf8 l8 R8 k8 hq8 fd8 => ?_) (fun w e q M' er => ZT.out (nohand rfl) (hn w (pe6.trans e) q M' (er.wk ht.1 ht.2)))
    show Z E YX9_part (d + 1) M8 [(0, vr (some (pp, 8, 0)))] 93 [] Q
    refine sX9_part_93 M8 pp ⟨by omega, ?_⟩
    obtain ⟨R9, k9⟩ := R8.cls (Nat.zero_le _)
    have z89 : zsz (si M8 pp 4 (gi M8 pp 4 - 1)) = zsz M8 := rfl
    generalize si M8 pp 4 (gi M8 pp 4 - 1) = M9 at *
    have f8k : fs8[s.2.2.length]? = some (zsz M2) := pre_get pf8 gk
    have R10 := R9.dx (Dn' := Dn) (fun k f' q y1 y2 y3 y4 => by
      have ek : k = s.2.2.length := by
        by_cases y : k = s.2.2.length
        · exact y
        · exact absurd ⟨y1, y⟩ y2
      subst ek
      rw [f8k] at y3
      cases y3
      rw [hq8] at y4
      cases y4
      exact fd8.mv k9.mvr)
    have z78 := k8.1.1.1
    have W7z := W7.1.2.2.1.lz R7.ps.z190
    have W7d := W7.1.2.2.2.1.lz R7.ps.z190
    have lap7 : lA M7 lp = lA M lp := W7.2.2.1.trans lap
    have lad7 : lA M7 ld = lA M ld ∨ zsz M6 ≤ lA M7 ld := la7.imp (fun y => y.trans lad) id
    have f2 := W2.1.1.2.1
    have v26 : zsz M2 + 2 < zsz M6 := V6.1.2.2.2.1.1.1.2
    have W8 := W7.1.g k8 z.1 R7.ps.z190 ⟨by omega, by omega, by omega⟩ ⟨by omega, by omega, by omega⟩ ⟨by omega, by omega, by omega⟩ ⟨by omega, by omega, by omega⟩ ⟨by omega, by omega, by omega⟩
    have W9 := W8.1.k k9 z.1
    have a9 := (k9.wl W8.1.2.2.1 z.1).2
    have d9 := (k9.wl W8.1.2.2.2.1 z.1).2
    have t3' := V7.1.1.2.2
    have t1 := V7.1.2.2.1.2.1.2
    have t2 := V7.1.2.2.2.1.2.1.2
    have m02 := k02.mvr
    have sx : x < 100000 := hx4.1
    have e1' : pDcl (zOf n c dg) (some r) (N, 0, 0) s = .ok ((s.2.2.length, x), s8) := pe6.trans e8'
    have k05 : kp τ M τ3 (si M4 (zsz M2) 7 (nI x)) := k02.tr kp5
    have gf7 : ∀ k, k ≠ 4 → k ≠ 5 → gi M7 f k = gi M f k := fun k y1 y2 => (W7.2.2.2 k).1.trans (((k05.tr k6).mvr.cd ⟨by have := W.1.1; omega, W.1.2⟩ y1 y2).1)
    have gf8 : ∀ k, k ≠ 4 → k ≠ 5 → gi M8 f k = gi M7 f k := fun k y1 y2 => k8.1.gi W7.1.1.2.1 (fun y => by
      have ft := W7.1.1.2.2
      rcases y with y | ⟨y, -⟩ | y | y
      · unfold pU at y; have := W7.1.1.1; omega
      · omega
      · omega
      · omega)
    have gf9 : ∀ k, k ≠ 4 → k ≠ 5 → gi M9 f k = gi M f k := fun k y1 y2 => (k9.mvr.cd ⟨by have := W8.1.1.1; omega, W8.1.1.2⟩ y1 y2).1.trans ((gf8 k y1 y2).trans (gf7 k y1 y2))
    have s48 : s.1 < s8.1 := by omega
    refine hy _ s8 e1' M9 τ8 fs8 _ (zsz M2) (List.IsPrefix.trans (List.prefix_append _ _) pf8) (R10.up (by omega) (Nat.le_refl _)) ⟨?_, ?_⟩ W9.1 (fun D gs T => ?_) (fun dc Dd => ?_) ?_ ⟨fun y => ?_, fun y => ?_⟩ (pre_get pf8 fs4) ⟨gf9 6 (by decide) (by decide), gf9 8 (by decide) (by decide)⟩ s48
    · have := W8.2.2.1
      have := d9.2
      omega
    · rw [a9.2, W8.2.1]; exact lcp
    · exact ((((T.mv k05.mvr z.1 (Nat.le_refl _)).mv k6.mvr z.1 (Nat.le_refl _)).mv m67 z.1 (Nat.le_refl _)).g k8 z.1 t3' t1 t2 (Nat.le_refl _)).mv k9.mvr z.1 (Nat.le_refl _)
    · exact ((((Dd.mv k05.mvr).mv k6.mvr).mv m67).app (r := (s.2.2.length, x)) ⟨by omega, V7.1.1.2⟩ ((gg7 0 (by decide) (by decide)).trans n0) ((gg7 7 (by decide) (by decide)).trans n7) ⟨by dsimp only; omega, sx⟩).g k8 t1 t2 |>.mv k9.mvr
    · have K7 : kg f lp ld τB B τ7 M7 := ((hK.k k05).k k6).st f7 (fun y k y1 y2 => by
        rcases y2 with y2 | ⟨y2, y3⟩
        · exact .inr (.inr (.inr y2))
        · rw [lad] at y2
          have := hA.2 (by omega)
          omega) (fun y y1 _ _ => ag7 y (by omega))
      have K8 : kg f lp ld τB B τ8 M8 := K7.st k8.1 (fun y k y1 y2 => by
        rcases y2 with y2 | ⟨y2, -⟩ | y2 | y2
        · exact .inl y2
        · omega
        · omega
        · omega) (fun y y1 _ _ => k8.2 y (by omega) (by omega) (by omega))
      exact K8.k k9
    · have : lA M9 lp = lA M lp := a9.1.trans (W8.2.2.2.1.trans lap7)
      rw [this] at y ⊢
      exact hA.1 y
    · have e : lA M9 ld = lA M7 ld := d9.1.trans W8.2.2.2.2
      rw [e] at y ⊢
      rcases lad7 with y1 | y1
      · rw [y1] at y ⊢; exact hA.2 y
      · omega
  have hq4 : s4.2.2[s.2.2.length]? = some ([], 0, none, N, [], gNo) := by rw [hx42, List.getElem?_append_right (Nat.le_refl _), Nat.sub_self]; rfl
  have q4l : (fs ++ [zsz M2]).length = s4.2.2.length := R4.ps.2.2.2.2.1
  have n4l : N < s4.2.2.length := by rw [hx42, List.length_append]; omega
  obtain ⟨⟨-, -, x3, x4⟩, -⟩ := R4.ps.2.2.2.2.2 N f _ fs4 (List.getElem?_eq_getElem n4l)
  by_cases hN : N = 0
  · rw [if_pos (x3 hN)]
    exact ⟨ld, W4.1.2.1.2, tail _ τ3 s4 (R5.up (by omega) (by omega)) kp.rf rfl hq4 (pe4.trans (by rw [if_pos hN]))⟩
  · obtain ⟨g', -, x5⟩ := x4 (by omega)
    rw [if_neg (by rw [x5]; exact fun y => by cases y)]
    refine ⟨zsz M2, rfl, ?_⟩
    rw [n7]
    obtain ⟨fc, gf, ad⟩ := R5.add (E := E) (d := d) (y := x) (cz' := cz + 30) (cu' := cu + 600) rfl hx4.1 (fun q hq => by rw [hx42] at hq; have := R3.ps.vl q hq; dsimp only at this; omega) (by omega) (by omega) (by omega)
    have ef : fc = f := by
      have := R5.ps.cur (f := f) fs4
      rw [gf] at this
      cases this
      rfl
    subst ef
    refine ad _ (fun M6 τ6 R6 k6 => ?_)
    show Z E YX9_part (d + 1) M6 [(0, vr (some (pp, 8, 0))), (1, vr (some (zsz M2, 10, 0)))] 76 [] Q
    refine sX9_part_76 M6 pp _ ⟨fc, R6.ps.cur (f := fc) fs4, ld, ((W5.1.k k6 z.1).1).2.1.2, ?_⟩
    exact tail M6 τ6 (hld N x s4) R6 k6 rfl ((hld_oth s4 (by omega)).trans hq4) (pe4.trans (by rw [if_neg hN]))
end
