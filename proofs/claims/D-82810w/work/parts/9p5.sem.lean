/-! THE COMPONENT's PARSER: lines; the end of a statement -/
theorem lxN_le (c : Nat → Int32) : ∀ (k p : Nat), lxN c k p ≤ k
  | 0, _ => Nat.le_refl _
  | k + 1, p => by
    unfold lxN
    have := lxN_le c k (p + 1)
    split <;> omega
theorem lxS_up (n : Nat) (c : Nat → Int32) : ∀ (f p l : Nat), (lxS n c f p l).2.1 + p ≤ l + (lxS n c f p l).1
  | 0, p, l => by show l + p ≤ l + p; omega
  | f + 1, p, l => by
    unfold lxS
    by_cases h0 : n ≤ p
    · rw [if_pos h0]; show l + p ≤ l + p; omega
    rw [if_neg h0]
    by_cases h1 : c p = 10
    · rw [if_pos h1]; have := lxS_up n c f (p + 1) (l + 1); omega
    rw [if_neg h1]
    by_cases h2 : c p = 9 ∨ c p = 32
    · rw [if_pos h2]; have := lxS_up n c f (p + 1) l; omega
    rw [if_neg h2]
    by_cases h3 : c p = 47 ∧ c (p + 1) = 47
    · rw [if_pos h3]
      have a := lxF_ge n (lxB c) _ p rfl
      have := lxS_up n c f (lxF n (lxB c) p) l; omega
    rw [if_neg h3]
    by_cases h4 : c p = 47 ∧ c (p + 1) = 42
    · rw [if_pos h4]
      by_cases h5 : n ≤ lxF n (lxC c) (p + 2)
      · rw [if_pos h5]; show l + p ≤ l + p; omega
      · rw [if_neg h5]
        have a := lxF_ge n (lxC c) _ (p + 2) rfl
        have b := lxN_le c (lxF n (lxC c) (p + 2) - (p + 2)) (p + 2)
        have := lxS_up n c f (lxF n (lxC c) (p + 2) + 2) (l + lxN c (lxF n (lxC c) (p + 2) - (p + 2)) (p + 2)); omega
    · rw [if_neg h4]; show l + p ≤ l + p; omega
theorem tkS_ln {n : Nat} {c : Nat → Int32} (p l : Nat) : (tkS n c p l).2.2.2.2 + p ≤ l + (tkS n c p l).2.2.1 := by
  have := lxS_up n c n p l
  unfold tkS
  split <;> exact this
/-- lines -/
theorem tkn_ln {n : Nat} {c : Nat → Int32} (hc : ∀ k, n ≤ k → c k = 0) : ∀ t, (∀ j, j < t → tkg (tkn n c j)) → (tkn n c t).2.2.2.2 ≤ 1 + (tkn n c t).2.2.1 ∧ (1 ≤ t → (tkn n c (t - 1)).2.2.2.2 ≤ (tkn n c t).2.2.2.2)
  | 0, _ => ⟨by have := tkS_ln (n := n) (c := c) 0 1; show (tkS n c 0 1).2.2.2.2 ≤ 1 + (tkS n c 0 1).2.2.1; omega, fun z => absurd z (by decide)⟩
  | t + 1, h => by
    have ih := tkn_ln hc t (fun j hj => h j (by omega))
    have ok := tkn_ok hc t (fun j hj => h j (by omega))
    have ok2 := ok.2.2 (h t (by omega))
    have s1 := tkS_ln (n := n) (c := c) (tkn n c t).2.2.2.1 (tkn n c t).2.2.2.2
    have s2 := tkS_ok hc (l := (tkn n c t).2.2.2.2) ok2.2
    refine ⟨?_, fun _ => s2.2.2.1⟩
    show (tkS n c (tkn n c t).2.2.2.1 (tkn n c t).2.2.2.2).2.2.2.2 ≤ 1 + (tkS n c (tkn n c t).2.2.2.1 (tkn n c t).2.2.2.2).2.2.1
    omega
section
variable {E : zE} {d : Nat} {Q : zO → zM → Prop} {n : Nat} {c : Nat → Int32} {a pp : Nat} {M : zM} {s : pS} {dg : Int32 → List Int32}
/-- later line, by cells -/
theorem tk_ln (h : xTz M a n c s) (h1 : 1 ≤ s.1) : (gi M a 4 ≤ gi M a 5) ↔ (tln (zOf n c dg) s.1 == tln (zOf n c dg) (s.1 - 1)) = true := by
  obtain ⟨⟨lp, hk, hlp⟩, -, -, -, hj, -, ⟨hn, hc, -⟩, -⟩ := h
  have l := tkn_ln hc s.1 hj
  have ok := tkn_ok hc s.1 hj
  have l2 := l.2 h1
  rw [hk.2.2.1, hk.2.2.2.1, hlp h1, beq_iff_eq]
  show _ ↔ (tkn n c s.1).2.2.2.2 = (tkn n c (s.1 - 1)).2.2.2.2
  constructor
  · intro z
    refine Classical.byContradiction fun y => ?_
    exact absurd z (nI_ge (by omega) (by omega))
  · intro z
    exact nI_le (by omega) (by omega)
theorem y_semi (h : xTz M a n c s) (h1 : 1 ≤ s.1) (hp : gr M pp 1 = some (a, 9, 0)) (hy : ∀ s', pSem (zOf n c dg) s = .ok ((), s') → ∀ M', fr (tkP a) M M' → xTz M' a n c s' → Q (.inl none) M') (hn : ∀ w, pSem (zOf n c dg) s = .error w → ∀ o M', ftO a M w o M' → Q o M') : Z E YX9_semicolon (d + 11) M [(0, vr (some (pp, 8, 0)))] 0 [] Q := by
  have kd := tk_kd (dg := dg) h
  have ln := tk_ln (dg := dg) h h1
  unfold pSem at hy hn
  refine sX9_semicolon_0 M pp ⟨a, hp, ?_⟩
  have e31 : sgX (nI 31) = 7 := sgX_t.2.2.2.2.2.2.2.2.2.2.1
  rw [← e31]
  refine y_takes (dg := dg) (j := 31) (by decide) h (fun hs => ?_) (fun hs s' e M' f x => ?_) (fun hs w e o M' f => ?_)
  · have hs : isS (zOf n c dg) 31 s = false := hs
    rw [hs, if_neg (by decide)] at hy hn
    show Z E YX9_semicolon (d + 10 + 1) M [(0, vr (some (pp, 8, 0)))] 9 [vi 0] Q
    refine iX9_semicolon_9 M pp _ ?_
    rw [if_pos rfl]
    refine ⟨a, hp, ?_⟩
    obtain ⟨⟨lp, hk, -⟩, -, -, -, -, -, -, hz⟩ := id h
    have flt : (isS (zOf n c dg) 25 s || decide (tkd (zOf n c dg) s.1 = 0) || !(tln (zOf n c dg) s.1 == tln (zOf n c dg) (s.1 - 1))) = false → Z E YX10_fault (d + 10) M (zargs 0 [vr (some (a, 9, 0)), vi 2]) 0 [] (zafter E YX9_semicolon (d + 10 + 1) [] 49 3 [] Q) := fun hb => by
      rw [hb, if_neg (by decide)] at hn
      refine x_fault (d := d + 4) (k := 2) (by omega) hk.1.2.2.1.2.1 hk.2.2.1 (fun M' f g1 g2 g3 => ?_)
      show Z E YX9_semicolon (d + 10 + 1) M' [] 52 [vr (some (zsz M, 12, 0))] Q
      refine sX9_semicolon_52 M' _ ⟨zsz M, rfl, ?_⟩
      exact hn (2, (tkn n c s.1).2.2.2.2) rfl _ M' ⟨⟨zsz M, rfl, g1, ⟨Nat.le_refl _, by omega⟩, f.mono fun _ _ _ z => z.elim⟩, g2, g3⟩
    have ok : (isS (zOf n c dg) 25 s || decide (tkd (zOf n c dg) s.1 = 0) || !(tln (zOf n c dg) s.1 == tln (zOf n c dg) (s.1 - 1))) = true → Q (.inl none) M := fun hb => by
      rw [hb, if_pos rfl] at hy
      exact hy s rfl M fr.rf h
    have e25 : sgX (nI 25) = 1 := sgX_t.2.2.2.2.2.2.2.2.2.1
    have rest : isS (zOf n c dg) 25 s = false → (if gi M a 3 = 0 then Q (.inl none) M else if gi M a 4 ≤ gi M a 5 then Z E YX10_fault (d + 10) M (zargs 0 [vr (some (a, 9, 0)), vi 2]) 0 [] (zafter E YX9_semicolon (d + 10 + 1) [] 49 3 [] Q) else Q (.inl none) M) := fun h25 => by
      by_cases h0 : gi M a 3 = 0
      · rw [if_pos h0]
        exact ok (by rw [h25, decide_eq_true (kd.symm.trans h0)]; rfl)
      · rw [if_neg h0]
        have d0 : decide (tkd (zOf n c dg) s.1 = 0) = false := decide_eq_false (fun z => h0 (kd.trans z))
        by_cases hl : gi M a 4 ≤ gi M a 5
        · rw [if_pos hl]
          exact flt (by rw [h25, d0, ln.mp hl]; rfl)
        · rw [if_neg hl]
          refine ok ?_
          cases hb : (tln (zOf n c dg) s.1 == tln (zOf n c dg) (s.1 - 1)) with
          | true => exact absurd (ln.mpr hb) hl
          | false => rw [h25, d0]; rfl
    by_cases h5 : gi M a 3 = 5
    · have eS : isS (zOf n c dg) 25 s = decide (gi M a 6 = 1) := tk_s (dg := dg) (j := 25) h h5 (by decide) e25
      rw [if_pos h5]
      by_cases h6 : gi M a 6 = 1
      · rw [if_pos h6]
        exact ok (by rw [eS, decide_eq_true h6]; rfl)
      · rw [if_neg h6]
        exact rest (by rw [eS, decide_eq_false h6])
    · rw [if_neg h5]
      exact rest (tk_ns (dg := dg) (j := 25) h h5 (by decide))
  · have hs : isS (zOf n c dg) 31 s = true := hs
    rw [hs, if_pos rfl] at hy
    show Z E YX9_semicolon (d + 10 + 1) M' [(0, vr (some (pp, 8, 0)))] 9 [vi 1] Q
    refine iX9_semicolon_9 M' pp _ ?_
    rw [if_neg (by decide)]
    exact hy s' e M' f x
  · have hs : isS (zOf n c dg) 31 s = true := hs
    rw [hs, if_pos rfl] at hn
    obtain ⟨q, rfl, -⟩ := id f.1
    show ZT E YX9_semicolon (d + 10 + 1) M' [(0, vr (some (pp, 8, 0)))] 6 (q, 12, 0) Q
    exact ZT.out (nohand rfl) (hn w e _ M' f)
end
