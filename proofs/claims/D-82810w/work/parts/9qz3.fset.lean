/-! THE COMPONENT's PARSER: a function's text: frames, what P notes of it -/
/-- what reading the text of the function f changes -/
def kg (f lp ld : Nat) (τ : Nat → Nat) (M : zM) (τ' : Nat → Nat) (M' : zM) : Prop := fg (fun x k => pU τ x k ∨ (x = f ∧ k = 6) ∨ x = lp ∨ x = ld) M M' ∧ ∀ x, x < zsz M → x ≠ lp → x ≠ ld → τ' x = τ x
section
variable {E : zE} {pp a lf n : Nat} {c : Nat → Int32} {dg : Int32 → List Int32} {K o d : Nat} {Q : zO → zM → Prop}
variable {M0 M M' M'' : zM} {τ0 τ τ' τ'' : Nat → Nat} {fs0 fs fs' : List Nat} {s0 s s' : pS} {c0 : Nat → Prop} {C C' : pC} {cz cu cz' cu' lo f lp ld N : Nat} {ps ds : List (Option zP)}
theorem kg.rf : kg f lp ld τ M τ M := ⟨fg.rf, fun _ _ _ _ => rfl⟩
theorem kg.st {P : Nat → Nat → Prop} (h : kg f lp ld τ M τ' M') (g : fg P M' M'') (hP : ∀ x k, x < zsz M → P x k → pU τ' x k ∨ (x = f ∧ k = 6) ∨ x = lp ∨ x = ld) (ag : ∀ x, x < zsz M → x ≠ lp → x ≠ ld → τ'' x = τ' x) : kg f lp ld τ M τ'' M'' := by
  have z := h.1.1.1
  refine ⟨h.1.tr2 (g.mono fun x k _ y => ?_), fun x hx h1 h2 => (ag x hx h1 h2).trans (h.2 x hx h1 h2)⟩
  by_cases hx : x < zsz M
  · rcases hP x k hx y with w | w
    · by_cases e : x = lp ∨ x = ld
      · exact .inl (.inr (.inr e))
      · refine .inl (.inl ?_)
        unfold pU at w ⊢
        rw [h.2 x hx (fun y => e (.inl y)) (fun y => e (.inr y))] at w
        exact w
    · exact .inl (.inr w)
  · exact .inr (by omega)
theorem kg.k (h : kg f lp ld τ M τ' M') (k : kp τ' M' τ'' M'') : kg f lp ld τ M τ'' M'' := h.st k.1 (fun _ _ _ y => .inl y) (fun x hx _ _ => k.2 x (Nat.lt_of_lt_of_le hx h.1.1.1))
/-- an outer function's text stays -/
theorem wF.g {f' lp' ld' : Nat} (h : wF lo M τ f' lp' ld' ps ds) (k : kg f lp ld τ M τ' M') (hl : 190 ≤ lo) (hz : 190 ≤ zsz M) (n1 : f' ≠ f ∧ f' ≠ lp ∧ f' ≠ ld) (n2 : lp' ≠ f ∧ lp' ≠ lp ∧ lp' ≠ ld) (n3 : ld' ≠ f ∧ ld' ≠ lp ∧ ld' ≠ ld) (n4 : lA M lp' ≠ f ∧ lA M lp' ≠ lp ∧ lA M lp' ≠ ld) (n5 : lA M ld' ≠ f ∧ lA M ld' ≠ lp ∧ lA M ld' ≠ ld) : wF lo M' τ' f' lp' ld' ps ds ∧ lC M' lp' = lC M lp' ∧ lC M' ld' = lC M ld' ∧ lA M' lp' = lA M lp' ∧ lA M' ld' = lA M ld' := by
  obtain ⟨h1, h2, h3, h4, h5, h6, h7⟩ := h
  have z := k.1.1.1
  have l1 := h3.lz hz
  have l2 := h4.lz hz
  have nn : ∀ x j, 190 ≤ x → τ x = 1 → x ≠ f ∧ x ≠ lp ∧ x ≠ ld → ¬ (pU τ x j ∨ (x = f ∧ j = 6) ∨ x = lp ∨ x = ld) := fun x j y1 y2 y3 y => by
    rcases y with y | ⟨y, -⟩ | y | y
    · exact k1_P y1 y2 y
    · exact y3.1 y
    · exact y3.2.1 y
    · exact y3.2.2 y
  have wk : ∀ {l : Nat} {es : List (Option zP)}, wL lo M τ l es → (l ≠ f ∧ l ≠ lp ∧ l ≠ ld) → (lA M l ≠ f ∧ lA M l ≠ lp ∧ lA M l ≠ ld) → wL lo M' τ' l es ∧ lA M' l = lA M l ∧ lC M' l = lC M l := fun {l es} w y1 y2 => by
    have lz := w.lz hz
    have lb := w.2.1
    have a1 : ∀ j, ¬ (pU τ l j ∨ (l = f ∧ j = 6) ∨ l = lp ∨ l = ld) := fun j => nn l j (by omega) lb.2 y1
    have a2 : ∀ j, lA M l < 16 ∨ ¬ (pU τ (lA M l) j ∨ (lA M l = f ∧ j = 6) ∨ lA M l = lp ∨ lA M l = ld) := fun j => by
      by_cases y : lA M l < 16
      · exact .inl y
      · have := w.2.2 (by omega)
        exact .inr (nn _ j (by omega) this.2 y2)
    have la := lA_fg lz.1 k.1 (a1 1)
    refine ⟨⟨xLs_fg w.1 k.1 a1 a2, ⟨lb.1, (k.2 l lz.1 y1.2.1 y1.2.2).trans lb.2⟩, fun y => ?_⟩, la⟩
    rw [la.1] at y ⊢
    have := w.2.2 y
    exact ⟨this.1, (k.2 _ lz.2 y2.2.1 y2.2.2).trans this.2⟩
  have w1 := wk h3 n2 n4
  have w2 := wk h4 n3 n5
  have fU : ∀ j, j ≠ 4 → j ≠ 5 → ¬ pU τ f' j := by
    have a1 := h1.1
    have a2 := h1.2.2
    clear n1 n2 n3 n4 n5 h5 h6 h7 wk nn w1 w2 l1 l2
    intro j j1 j2 y
    unfold pU at y
    omega
  have fP : ∀ j, j ≠ 4 → j ≠ 5 → ¬ (pU τ f' j ∨ (f' = f ∧ j = 6) ∨ f' = lp ∨ f' = ld) := fun j j1 j2 y => by
    rcases y with y | ⟨y, -⟩ | y | y
    · exact fU j j1 j2 y
    · exact n1.1 y
    · exact n1.2.1 y
    · exact n1.2.2 y
  refine ⟨⟨⟨h1.1, by omega, (k.2 f' h1.2.1 n1.2.1 n1.2.2).trans h1.2.2⟩, ⟨(k.1.gr h1.2.1 (fP 2 (by decide) (by decide))).trans h2.1, (k.1.gr h1.2.1 (fP 3 (by decide) (by decide))).trans h2.2⟩, w1.1, w2.1, h5, ?_, ?_⟩, w1.2.2, w2.2.2, w1.2.1, w2.2.1⟩
  · rw [w1.2.1, w2.2.1]; exact h6
  · rw [w1.2.1, w2.2.1]; exact h7
theorem kg.agS (k : kg f lp ld τ M τ' M') (hl : 190 ≤ lo) (h1 : τ f = 3) (h2 : τ lp = 1) (h3 : τ ld = 1) : agS (nS lo (zsz M) τ) M M' := fun x j y => by
  have h0 := y.2.2
  have := k.1.2 x j y.2.1 (fun w => by
    rcases w with w | ⟨w, -⟩ | w | w
    · unfold pU at w; have := y.1; omega
    · rw [w] at h0; omega
    · rw [w] at h0; omega
    · rw [w] at h0; omega)
  exact ⟨this.1, this.2.2⟩
theorem kg.agB (k : kg f lp ld τ M τ' M') (hl : 190 ≤ lo) (h1 : τ f = 3) (h2 : τ lp = 1) (h3 : τ ld = 1) : agB (nW lo (zsz M) τ) M M' := fun x j y _ => by
  have h0 := y.2.2
  have := k.1.2 x j y.2.1 (fun w => by
    rcases w with w | ⟨w, -⟩ | w | w
    · unfold pU at w; have := y.1; omega
    · rw [w] at h0; omega
    · rw [w] at h0; omega
    · rw [w] at h0; omega)
  exact ⟨this.1, this.2.2⟩
theorem wTs.g {D D' : Nat} {cc : Nat × Nat} {es : List (Option zP)} {gs : gBs} (h : wTs lo M τ cc D es gs) (k : kg f lp ld τ M τ' M') (hl : 190 ≤ lo) (h1 : τ f = 3) (h2 : τ lp = 1) (h3 : τ ld = 1) (hD : D ≤ D') : wTs lo M' τ' cc D' es gs := ⟨h.1, fun i q hq => by
  obtain ⟨h0, p, e1, e2⟩ := h.2 i q hq
  have z := k.1.1.1
  have tt : ∀ x, x < zsz M → τ x ≠ 1 → τ' x = τ x := fun x hx y => k.2 x hx (fun e => y (by rw [e]; exact h2)) (fun e => y (by rw [e]; exact h3))
  exact ⟨h0, p, e1, (e2.mo (fun x y => ⟨y.1, by have := y.2.1; omega, by rw [tt x y.2.1 (by rw [y.2.2]; decide)]; exact y.2.2⟩) (fun x y => ⟨y.1, by have := y.2.1; omega, by rw [tt x y.2.1 (by rw [y.2.2]; decide)]; exact y.2.2⟩) (k.agS hl h1 h2 h3) (k.agB hl h1 h2 h3)).up (fun b y => ⟨y.1, by omega⟩) hD (Nat.le_refl _) (Nat.le_refl _) (Nat.le_refl _) (Nat.le_refl _)⟩⟩
/-- what P notes of the function N, without its variables -/
theorem setF_at {g : gF → gF} {q : gF} (hq : s.2.2[N]? = some q) : setF N g s = (s.1, s.2.1, s.2.2.set N (g q)) := by
  unfold setF
  rw [hq]
theorem xPs.set {g : gF → gF} {q : gF} (h : xPs M τ pp a lf n c fs s C o) (hq : s.2.2[N]? = some q) (hg : (g q).1 = q.1 ∧ (g q).2.2.2.1 = q.2.2.2.1) : xPs M τ pp a lf n c fs (setF N g s) C o := by
  rw [setF_at hq]
  obtain ⟨t1, ⟨t2, t2a, t2b, t2c, t2d, t2e⟩, t3, t4, t8, t9⟩ := h
  have nl := (List.getElem?_eq_some_iff.mp hq).1
  have hm : q ∈ s.2.2 := List.mem_iff_getElem?.mpr ⟨N, hq⟩
  refine ⟨t1, ⟨t2, t2a, t2b, t2c, ?_, (fun q' hq' => ?_), t2e.2⟩, t3, t4, ?_, fun k f q' hk hq' => ?_⟩
  · show (s.2.2.set N (g q)).length ≤ s.1 + 1
    rw [List.length_set]
    exact t2d
  · rcases List.mem_or_eq_of_mem_set hq' with z | z
    · exact t2e.1 q' z
    · rw [z, hg.1]
      exact t2e.1 q hm
  · show fs.length = (s.2.2.set N (g q)).length
    rw [List.length_set]
    exact t8
  · have hq' : (s.2.2.set N (g q))[k]? = some q' := hq'
    by_cases z : k = N
    · subst z
      rw [List.getElem?_set_self nl] at hq'
      cases hq'
      have := t9 k f q hk hq
      unfold xFc at this ⊢
      rw [hg.1, hg.2]
      exact this
    · rw [List.getElem?_set_ne (Ne.symm z)] at hq'
      exact t9 k f q' hk hq'
theorem rk.set {g : gF → gF} {q : gF} (R : rk pp a lf n c M0 τ0 fs0 s0 c0 C o M τ fs s cz cu) (hD : ¬ c0 N) (hq : s.2.2[N]? = some q) (hg : (g q).1 = q.1 ∧ (g q).2.2.2.1 = q.2.2.2.1) : rk pp a lf n c M0 τ0 fs0 s0 c0 C o M τ fs (setF N g s) cz cu := by
  obtain ⟨r1, r2, r3, r4, r5, r6, r7⟩ := R
  have e1 : (setF N g s).1 = s.1 := rfl
  refine ⟨r1.set hq hg, r2, r3, by rw [e1]; exact r4, fun k f q' y1 y2 y3 => ?_, by rw [e1]; exact r6, by rw [e1]; exact r7⟩
  rw [setF_at hq] at y3
  have y3 : (s.2.2.set N (g q))[k]? = some q' := y3
  have kn : N ≠ k := fun e => hD (e ▸ y1)
  rw [List.getElem?_set_ne kn] at y3
  exact r5 k f q' y1 y2 y3
/-- a list that is done -/
theorem ndl_of {l D : Nat} {es : List (Option zP)} {gs : gBs} {cc : Nat × Nat} (x : xLr (nS lo (zsz M) τ) M l es) (he : wTs lo M τ cc D es gs) : ndl (nS lo (zsz M) τ) (nW lo (zsz M) τ) M cc (fun b => lo ≤ b ∧ b < zsz M) D l gs := by
  intro S' B' M' s1 s2 s3 s4 s5
  refine ⟨es, xLr_mono (xLr_ag x s4) s1, he.1, fun i q hq => ?_⟩
  obtain ⟨h0, p, h1, h2⟩ := he.2 i q hq
  exact ⟨h0, p, h1, h2 S' B' M' s1 s2 s3 s4 s5⟩
theorem wL.l0 {l : Nat} {es : List (Option zP)} (h : wL lo M τ l es) (h1 : τ' l = 0) (h2 : 16 ≤ lA M l → τ' (lA M l) = 0) : xLr (nS lo (zsz M) τ') M l es := by
  obtain ⟨⟨a0, a1, a2, a3, a4⟩, b2, b3⟩ := h
  refine ⟨⟨b2.1, a0.2, h1⟩, a1, a2, ?_⟩
  rcases a4 with ⟨-, e⟩ | ⟨b, m, e1, e2, e3, e4⟩
  · exact .inl e
  · have eb : lA M l = b := by unfold lA; rw [e1]
    have b3 := b3 (by rw [eb]; exact e2.1)
    have h2 := h2 (by rw [eb]; exact e2.1)
    rw [eb] at b3 h2
    exact .inr ⟨b, m, e1, ⟨b3.1, e2.2.1, h2⟩, ⟨e3.1, by omega⟩, e4⟩
/-- the functions that are declared -/
def wD (M : zM) (τ : Nat → Nat) (ds : List (Option zP)) (dc : List (Nat × Nat)) : Prop := ds.length = dc.length ∧ ∀ (k : Nat) (r : Nat × Nat), dc[k]? = some r → ∃ g, ds.getD k none = some (g, 10, 0) ∧ (190 ≤ g ∧ g < zsz M ∧ τ g = 3) ∧ gi M g 0 = nI r.1 ∧ gi M g 7 = nI r.2 ∧ r.1 < 32768 ∧ r.2 < 100000
theorem wD.mv {dc : List (Nat × Nat)} (h : wD M τ ds dc) (m : mvr τ M τ' M') : wD M' τ' ds dc := ⟨h.1, fun k r hr => by
  obtain ⟨g, k1, k2, k3, k4, k5⟩ := h.2 k r hr
  exact ⟨g, k1, m.c3 k2, (m.cd k2 (by decide) (by decide)).1.trans k3, (m.cd k2 (by decide) (by decide)).1.trans k4, k5⟩⟩
theorem wD.g {dc : List (Nat × Nat)} (h : wD M τ ds dc) (k : kg f lp ld τ M τ' M') (h2 : τ lp = 1) (h3 : τ ld = 1) : wD M' τ' ds dc := ⟨h.1, fun i r hr => by
  obtain ⟨g, k1, k2, k3, k4, k5⟩ := h.2 i r hr
  have z := k.1.1.1
  have n1 : g ≠ lp := fun e => by rw [e] at k2; omega
  have n2 : g ≠ ld := fun e => by rw [e] at k2; omega
  have gg : ∀ j, j ≠ 4 → j ≠ 5 → j ≠ 6 → gi M' g j = gi M g j := fun j j1 j2 j3 => k.1.gi k2.2.1 (fun w => by
    rcases w with w | w | w | w
    · unfold pU at w; omega
    · omega
    · exact n1 w
    · exact n2 w)
  exact ⟨g, k1, ⟨k2.1, by omega, (k.2 g k2.2.1 n1 n2).trans k2.2.2⟩, (gg 0 (by decide) (by decide) (by decide)).trans k3, (gg 7 (by decide) (by decide) (by decide)).trans k4, k5⟩⟩
theorem wD.app {dc : List (Nat × Nat)} {g : Nat} {r : Nat × Nat} (h : wD M τ ds dc) (h1 : 190 ≤ g ∧ g < zsz M ∧ τ g = 3) (h2 : gi M g 0 = nI r.1) (h3 : gi M g 7 = nI r.2) (h4 : r.1 < 32768 ∧ r.2 < 100000) : wD M τ (ds ++ [some (g, 10, 0)]) (dc ++ [r]) := by
  refine ⟨by rw [List.length_append, List.length_append, h.1]; rfl, fun k r' hk => ?_⟩
  by_cases z : k < dc.length
  · rw [List.getElem?_append_left z] at hk
    rw [getD_app_l (by rw [h.1]; exact z)]
    exact h.2 k r' hk
  · have hl : k < (dc ++ [r]).length := (List.getElem?_eq_some_iff.mp hk).1
    rw [List.length_append] at hl
    have hl : k < dc.length + 1 := hl
    have e : k = dc.length := by omega
    rw [e, List.getElem?_append_right (Nat.le_refl _), Nat.sub_self] at hk
    cases hk
    rw [getD_app_r (by rw [h.1]; exact e)]
    exact ⟨g, rfl, h1, h2, h3, h4⟩
end
