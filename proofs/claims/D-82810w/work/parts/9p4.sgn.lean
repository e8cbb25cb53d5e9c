/-! THE COMPONENT's PARSER: signs between units, ahead of units, of assignments -/
section
variable {E : zE} {d : Nat} {Q : zO → zM → Prop} {n : Nat} {c : Nat → Int32} {a pp : Nat} {M : zM} {s : pS} {dg : Int32 → List Int32}
/-- a sign's number -/
theorem tk_sg (h : xTz M a n c s) (h5 : gi M a 3 = 5) : ∃ j, j < 48 ∧ twh (zOf n c dg) s.1 = nI j ∧ gi M a 6 = sgX (nI j) := by
  obtain ⟨⟨lp, hk, -⟩, -, -, h6, -⟩ := h
  have lx := tkn_lx s.1 h6
  have k5 : (tkn n c s.1).1 = 5 := hk.2.1.symm.trans h5
  obtain ⟨j, hj, e⟩ := sgn_lt (n := n) (c := c) (by rw [← lx.1]; exact k5)
  have e1 : (tkn n c s.1).2.1 = nI j := lx.2.1.trans e
  exact ⟨j, hj, e1, by rw [hk.2.2.2.2.2.1 k5, e1]⟩
theorem isS_5 (h5 : tkd (zOf n c dg) s.1 = 5) (y : Int32) : isS (zOf n c dg) y s = decide (twh (zOf n c dg) s.1 = y) := by
  unfold isS; rw [decide_eq_true h5, Bool.true_and]
theorem isK_2 (h2 : tkd (zOf n c dg) s.1 = 2) (y : Int32) : isK (zOf n c dg) y s = decide (twh (zOf n c dg) s.1 = y) := by
  unfold isK; rw [decide_eq_true h2, Bool.true_and]
theorem isS_n (h5 : ¬ tkd (zOf n c dg) s.1 = 5) (y : Int32) : isS (zOf n c dg) y s = false := by
  unfold isS; rw [decide_eq_false h5, Bool.false_and]
theorem isK_n (h2 : ¬ tkd (zOf n c dg) s.1 = 2) (y : Int32) : isK (zOf n c dg) y s = false := by
  unfold isK; rw [decide_eq_false h2, Bool.false_and]
theorem tk_w2 (h : xTz M a n c s) (h2 : gi M a 3 = 2) : gi M a 6 = twh (zOf n c dg) s.1 := by
  obtain ⟨⟨lp, hk, -⟩, -⟩ := h
  exact hk.2.2.2.2.1 (hk.2.1.symm.trans h2)
theorem y_begX (h : xTz M a n c s) (hp : gr M pp 1 = some (a, 9, 0)) (hQ : Q (.inl (some (vi (if begX (zOf n c dg) s then 1 else 0)))) M) : Z E YX9_beginsExpression (d + 2) M [(0, vr (some (pp, 8, 0)))] 0 [] Q := by
  have kd := tk_kd (dg := dg) h
  refine iX9_beginsExpression_0 M pp ⟨a, hp, ?_⟩
  by_cases h2 : gi M a 3 = 2
  · rw [if_pos h2, tk_w2 (dg := dg) h h2]
    have k2 : tkd (zOf n c dg) s.1 = 2 := kd.symm.trans h2
    have k5 : ¬ tkd (zOf n c dg) s.1 = 5 := by rw [k2]; decide
    unfold begX begW isPre isLit at hQ
    simp only [isS_n k5, isK_2 k2, Bool.false_or, Bool.or_false] at hQ
    rw [k2] at hQ
    have w2 := tk_w2 (dg := dg) h h2
    refine sX9_beginsByWord_0 M _ ?_
    have go : ∀ v : Int32, Z E YX9_beginsExpression (d + 1 + 1) M [(0, vr (some (pp, 8, 0)))] 21 [vi v] Q → zafter E YX9_beginsExpression (d + 1 + 1) [(0, vr (some (pp, 8, 0)))] 18 3 [] Q (.inl (some (vi v))) M := fun v z => z
    have g1 : Q (.inl (some (vi 1))) M → zafter E YX9_beginsExpression (d + 1 + 1) [(0, vr (some (pp, 8, 0)))] 18 3 [] Q (.inl (some (vi 1))) M := fun z => go 1 (sX9_beginsExpression_21 M pp _ (by rw [if_neg (by decide)]; exact z))
    have g0 : (if gi M a 6 = 11 then Q (.inl (some (vi 1))) M else Q (.inl (some (vi 0))) M) → zafter E YX9_beginsExpression (d + 1 + 1) [(0, vr (some (pp, 8, 0)))] 18 3 [] Q (.inl (some (vi 0))) M := fun z => go 0 (sX9_beginsExpression_21 M pp _ (by rw [if_pos rfl]; exact ⟨a, hp, z⟩))
    rw [w2] at g0
    generalize twh (zOf n c dg) s.1 = x at *
    repeat' split
    all_goals first
      | (refine g1 ?_; simp_all)
      | (refine g0 ?_; split <;> simp_all)
  · rw [if_neg h2]
    have k2 : ¬ tkd (zOf n c dg) s.1 = 2 := fun z => h2 (kd.trans z)
    unfold begX begW isPre isLit at hQ
    simp only [isK_n k2, Bool.false_or, Bool.or_false] at hQ
    by_cases h1 : gi M a 3 = 1
    · rw [if_pos h1]
      rw [show tkd (zOf n c dg) s.1 = 1 from kd.symm.trans h1] at hQ
      simpa using hQ
    rw [if_neg h1]
    by_cases h3 : gi M a 3 = 3
    · rw [if_pos h3]
      rw [show tkd (zOf n c dg) s.1 = 3 from kd.symm.trans h3] at hQ
      simpa using hQ
    rw [if_neg h3]
    by_cases h4 : gi M a 3 = 4
    · rw [if_pos h4]
      rw [show tkd (zOf n c dg) s.1 = 4 from kd.symm.trans h4] at hQ
      simpa using hQ
    rw [if_neg h4]
    have d1 : decide (tkd (zOf n c dg) s.1 = 1) = false := decide_eq_false (fun z => h1 (kd.trans z))
    have d3 : decide (tkd (zOf n c dg) s.1 = 3) = false := decide_eq_false (fun z => h3 (kd.trans z))
    have d4 : decide (tkd (zOf n c dg) s.1 = 4) = false := decide_eq_false (fun z => h4 (kd.trans z))
    rw [d1, d3, d4] at hQ
    by_cases h5 : gi M a 3 = 5
    · rw [if_pos h5]
      have e24 : isS (zOf n c dg) 24 s = decide (gi M a 6 = 0) := tk_s (dg := dg) (j := 24) h h5 (by decide) sgX_t.2.2.2.2.2.2.2.2.1
      refine y_starts (dg := dg) h hp ?_
      show Z E YX9_beginsExpression (d + 1 + 1) M [(0, vr (some (pp, 8, 0)))] 90 [vi (if sgB (zOf n c dg) s then 1 else 0)] Q
      refine iX9_beginsExpression_90 M pp _ ?_
      unfold sgB
      rw [e24] at hQ
      cases b1 : isS (zOf n c dg) 26 s <;> cases b2 : isS (zOf n c dg) 28 s <;> cases b3 : isS (zOf n c dg) 35 s <;> cases b4 : isS (zOf n c dg) 36 s <;> cases b5 : isS (zOf n c dg) 10 s <;> cases b6 : isS (zOf n c dg) 11 s <;> cases b7 : isS (zOf n c dg) 43 s <;> cases b8 : isS (zOf n c dg) 44 s <;> rw [b1, b2, b3, b4, b5, b6, b7, b8] at hQ <;> first
        | (rw [if_neg (by decide)]; simpa using hQ)
        | (rw [if_pos (by decide)]; refine ⟨a, hp, ?_⟩; rw [if_pos h5]; by_cases z : gi M a 6 = 0 <;> simp_all)
    · rw [if_neg h5]
      simp only [isS_n (fun z => h5 (kd.trans z)), Bool.false_or, Bool.or_false] at hQ
      simpa using hQ
/-- which sign is ahead of a unit -/
def ahR (z : pZ) (s : pS) : Int32 := if isK z 24 s then 4 else if isK z 27 s then 5 else if isK z 5 s then 6 else if isS z 35 s then 0 else if isS z 36 s then 1 else if isS z 44 s then 2 else if isS z 43 s then 3 else if isS z 10 s then 7 else if isS z 11 s then 8 else -1
theorem y_ahead (h : xTz M a n c s) (hp : gr M pp 1 = some (a, 9, 0)) (hQ : Q (.inl (some (vi (ahR (zOf n c dg) s)))) M) : Z E YX9_ahead d M [(0, vr (some (pp, 8, 0)))] 0 [] Q := by
  have kd := tk_kd (dg := dg) h
  refine iX9_ahead_0 M pp ⟨a, hp, ?_⟩
  unfold ahR at hQ
  by_cases h2 : gi M a 3 = 2
  · rw [if_pos h2, tk_w2 (dg := dg) h h2]
    have k2 : tkd (zOf n c dg) s.1 = 2 := kd.symm.trans h2
    have k5 : ¬ tkd (zOf n c dg) s.1 = 5 := by rw [k2]; decide
    simp only [isS_n k5, isK_2 k2] at hQ
    generalize twh (zOf n c dg) s.1 = x at *
    repeat' split
    all_goals simp_all
  · rw [if_neg h2]
    have k2 : ¬ tkd (zOf n c dg) s.1 = 2 := fun z => h2 (kd.trans z)
    simp only [isK_n k2] at hQ
    by_cases h5 : gi M a 3 = 5
    · rw [if_pos h5]
      obtain ⟨t1, t2, t3, t4, t5, t6, t7, t8, -⟩ := sgX_t
      have e35 : isS (zOf n c dg) 35 s = decide (gi M a 6 = 17) := tk_s (dg := dg) (j := 35) h h5 (by decide) t3
      have e36 : isS (zOf n c dg) 36 s = decide (gi M a 6 = 18) := tk_s (dg := dg) (j := 36) h h5 (by decide) t4
      have e44 : isS (zOf n c dg) 44 s = decide (gi M a 6 = 31) := tk_s (dg := dg) (j := 44) h h5 (by decide) t8
      have e43 : isS (zOf n c dg) 43 s = decide (gi M a 6 = 30) := tk_s (dg := dg) (j := 43) h h5 (by decide) t7
      have e10 : isS (zOf n c dg) 10 s = decide (gi M a 6 = 22) := tk_s (dg := dg) (j := 10) h h5 (by decide) t5
      have e11 : isS (zOf n c dg) 11 s = decide (gi M a 6 = 23) := tk_s (dg := dg) (j := 11) h h5 (by decide) t6
      rw [e35, e36, e44, e43, e10, e11] at hQ
      generalize gi M a 6 = x at *
      repeat' split
      all_goals simp_all
    · rw [if_neg h5]
      simp only [isS_n (fun z => h5 (kd.trans z))] at hQ
      simpa using hQ
/-- the sign of an assignment -/
def asN (x : Int32) : Int32 := if x = 47 then -1 else if x = 16 then 0 else if x = 17 then 1 else if x = 18 then 2 else if x = 19 then 3 else if x = 20 then 4 else if x = 1 then 5 else if x = 2 then 6 else if x = 0 then 7 else if x = 21 then 8 else if x = 22 then 9 else if x = 23 then 10 else -2
def asR : Option (Option Int32) → Int32
  | none => -2
  | some none => -1
  | some (some h) => h
theorem asN_t : ∀ j : Fin 48, asN (nI j.val) = (if (36 : Int32) ≤ sgX (nI j.val) then (if sgX (nI j.val) = 36 then -1 else sgX (nI j.val) - 36 - 1) else -2) := by decide +kernel
theorem y_assigns (h : xTz M a n c s) (hp : gr M pp 1 = some (a, 9, 0)) (hQ : Q (.inl (some (vi (asR (pSet (zOf n c dg) s))))) M) : Z E YX9_assigns d M [(0, vr (some (pp, 8, 0)))] 0 [] Q := by
  have kd := tk_kd (dg := dg) h
  refine jX9_assigns M pp ⟨a, hp, ?_⟩
  by_cases h5 : gi M a 3 = 5
  · obtain ⟨j, hj, e1, e2⟩ := tk_sg (dg := dg) h h5
    have e := asN_t ⟨j, hj⟩
    have k5 : tkd (zOf n c dg) s.1 = 5 := kd.symm.trans h5
    have eP : asR (pSet (zOf n c dg) s) = asN (nI j) := by
      unfold pSet asN
      simp only [isS_5 k5, e1, decide_eq_true_eq]
      generalize nI j = x
      by_cases h47 : x = 47
      · rw [if_pos h47, if_pos h47]; rfl
      rw [if_neg h47, if_neg h47]
      by_cases h16 : x = 16
      · rw [if_pos h16, if_pos h16]; rfl
      rw [if_neg h16, if_neg h16]
      by_cases h17 : x = 17
      · rw [if_pos h17, if_pos h17]; rfl
      rw [if_neg h17, if_neg h17]
      by_cases h18 : x = 18
      · rw [if_pos h18, if_pos h18]; rfl
      rw [if_neg h18, if_neg h18]
      by_cases h19 : x = 19
      · rw [if_pos h19, if_pos h19]; rfl
      rw [if_neg h19, if_neg h19]
      by_cases h20 : x = 20
      · rw [if_pos h20, if_pos h20]; rfl
      rw [if_neg h20, if_neg h20]
      by_cases h1 : x = 1
      · rw [if_pos h1, if_pos h1]; rfl
      rw [if_neg h1, if_neg h1]
      by_cases h2 : x = 2
      · rw [if_pos h2, if_pos h2]; rfl
      rw [if_neg h2, if_neg h2]
      by_cases h0 : x = 0
      · rw [if_pos h0, if_pos h0]; rfl
      rw [if_neg h0, if_neg h0]
      by_cases h21 : x = 21
      · rw [if_pos h21, if_pos h21]; rfl
      rw [if_neg h21, if_neg h21]
      by_cases h22 : x = 22
      · rw [if_pos h22, if_pos h22]; rfl
      rw [if_neg h22, if_neg h22]
      by_cases h23 : x = 23
      · rw [if_pos h23, if_pos h23]; rfl
      rw [if_neg h23, if_neg h23]
      rfl
    rw [eP, show asN (nI j) = _ from e] at hQ
    rw [if_pos h5, e2]
    by_cases z : (36 : Int32) ≤ sgX (nI j)
    · rw [if_pos z] at hQ ⊢
      by_cases z2 : sgX (nI j) = 36
      · rw [if_pos z2] at hQ ⊢; exact hQ
      · rw [if_neg z2] at hQ ⊢; exact hQ
    · rw [if_neg z] at hQ ⊢; exact hQ
  · rw [if_neg h5]
    unfold pSet at hQ
    simp only [isS_n (fun z => h5 (kd.trans z))] at hQ
    exact hQ
/-- how tightly a sign binds (-1: it is none), and which it is; by the twin's number -/
def stN (x : Int32) : Int32 × Int32 := if x = 15 then (0, 0) else if x = 14 then (1, 0) else if x = 41 then (2, 9) else if x = 42 then (3, 10) else if x = 40 then (4, 8) else if x = 8 then (5, 11) else if x = 9 then (5, 12) else if x = 4 then (5, 13) else if x = 5 then (5, 14) else if x = 33 then (6, 15) else if x = 34 then (6, 16) else if x = 6 then (6, 17) else if x = 7 then (6, 18) else if x = 12 then (7, 5) else if x = 13 then (7, 6) else if x = 3 then (7, 7) else if x = 35 then (8, 0) else if x = 36 then (8, 1) else if x = 37 then (9, 2) else if x = 38 then (9, 3) else if x = 39 then (9, 4) else (-1, 0)
def stTx (x : Int32) : Int32 × Option Int32 := if x = 9 then (6, some (x + 6)) else if x = 10 then (6, some (x + 6)) else if x = 11 then (6, some (x + 6)) else if x = 12 then (6, some (x + 6)) else if x = 13 then (5, some (x - 2)) else if x = 14 then (5, some (x - 2)) else if x = 15 then (5, some (x - 2)) else if x = 16 then (5, some (x - 2)) else if x = 17 then (8, some (x - 17)) else if x = 18 then (8, some (x - 17)) else if x = 19 then (9, some (2)) else if x = 20 then (9, some (4)) else if x = 21 then (9, some (3)) else if x = 22 then (-1, none) else if x = 23 then (-1, none) else if x = 24 then (7, some (x - 19)) else if x = 25 then (7, some (x - 19)) else if x = 26 then (7, some (x - 19)) else if x = 27 then (4, some (8)) else if x = 28 then (2, some (9)) else if x = 29 then (3, some (10)) else if x = 30 then (-1, none) else if x = 31 then (-1, none) else if x = 32 then (1, none) else if x = 33 then (0, none) else (-1, none)
theorem stN_t : ∀ j : Fin 48, (stN (nI j.val)).1 = (stTx (sgX (nI j.val))).1 ∧ (2 ≤ (stN (nI j.val)).1 → (stTx (sgX (nI j.val))).2 = some (stN (nI j.val)).2) := by decide +kernel
def stR : Option (Nat × Int32) → Int32
  | none => -1
  | some (l, _) => nI l
theorem st_tree (x : Int32) (hpp : 16 ≤ pp) (H : Q (.inl (some (vi (stTx x).1))) (match (stTx x).2 with | none => M | some w => si M pp 8 w)) : (if x = 9 then (16 ≤ pp ∧ (Q (.inl (some (vi (6)))) (si M pp 8 (x + 6)))) else (if x = 10 then (16 ≤ pp ∧ (Q (.inl (some (vi (6)))) (si M pp 8 (x + 6)))) else (if x = 11 then (16 ≤ pp ∧ (Q (.inl (some (vi (6)))) (si M pp 8 (x + 6)))) else (if x = 12 then (16 ≤ pp ∧ (Q (.inl (some (vi (6)))) (si M pp 8 (x + 6)))) else (if x = 13 then (16 ≤ pp ∧ (Q (.inl (some (vi (5)))) (si M pp 8 (x - 2)))) else (if x = 14 then (16 ≤ pp ∧ (Q (.inl (some (vi (5)))) (si M pp 8 (x - 2)))) else (if x = 15 then (16 ≤ pp ∧ (Q (.inl (some (vi (5)))) (si M pp 8 (x - 2)))) else (if x = 16 then (16 ≤ pp ∧ (Q (.inl (some (vi (5)))) (si M pp 8 (x - 2)))) else (if x = 17 then (16 ≤ pp ∧ (Q (.inl (some (vi (8)))) (si M pp 8 (x - 17)))) else (if x = 18 then (16 ≤ pp ∧ (Q (.inl (some (vi (8)))) (si M pp 8 (x - 17)))) else (if x = 19 then (16 ≤ pp ∧ (Q (.inl (some (vi (9)))) (si M pp 8 (2)))) else (if x = 20 then (16 ≤ pp ∧ (Q (.inl (some (vi (9)))) (si M pp 8 (4)))) else (if x = 21 then (16 ≤ pp ∧ (Q (.inl (some (vi (9)))) (si M pp 8 (3)))) else (if x = 22 then (Q (.inl (some (vi (-1)))) M) else (if x = 23 then (Q (.inl (some (vi (-1)))) M) else (if x = 24 then (16 ≤ pp ∧ (Q (.inl (some (vi (7)))) (si M pp 8 (x - 19)))) else (if x = 25 then (16 ≤ pp ∧ (Q (.inl (some (vi (7)))) (si M pp 8 (x - 19)))) else (if x = 26 then (16 ≤ pp ∧ (Q (.inl (some (vi (7)))) (si M pp 8 (x - 19)))) else (if x = 27 then (16 ≤ pp ∧ (Q (.inl (some (vi (4)))) (si M pp 8 (8)))) else (if x = 28 then (16 ≤ pp ∧ (Q (.inl (some (vi (2)))) (si M pp 8 (9)))) else (if x = 29 then (16 ≤ pp ∧ (Q (.inl (some (vi (3)))) (si M pp 8 (10)))) else (if x = 30 then (Q (.inl (some (vi (-1)))) M) else (if x = 31 then (Q (.inl (some (vi (-1)))) M) else (if x = 32 then (Q (.inl (some (vi (1)))) M) else (if x = 33 then (Q (.inl (some (vi (0)))) M) else (Q (.inl (some (vi (-1)))) M)))))))))))))))))))))))))) := by
  unfold stTx at H
  by_cases h9 : x = 9
  · rw [if_pos h9] at H ⊢; exact ⟨hpp, H⟩
  rw [if_neg h9] at H ⊢
  by_cases h10 : x = 10
  · rw [if_pos h10] at H ⊢; exact ⟨hpp, H⟩
  rw [if_neg h10] at H ⊢
  by_cases h11 : x = 11
  · rw [if_pos h11] at H ⊢; exact ⟨hpp, H⟩
  rw [if_neg h11] at H ⊢
  by_cases h12 : x = 12
  · rw [if_pos h12] at H ⊢; exact ⟨hpp, H⟩
  rw [if_neg h12] at H ⊢
  by_cases h13 : x = 13
  · rw [if_pos h13] at H ⊢; exact ⟨hpp, H⟩
  rw [if_neg h13] at H ⊢
  by_cases h14 : x = 14
  · rw [if_pos h14] at H ⊢; exact ⟨hpp, H⟩
  rw [if_neg h14] at H ⊢
  by_cases h15 : x = 15
  · rw [if_pos h15] at H ⊢; exact ⟨hpp, H⟩
  rw [if_neg h15] at H ⊢
  by_cases h16 : x = 16
  · rw [if_pos h16] at H ⊢; exact ⟨hpp, H⟩
  rw [if_neg h16] at H ⊢
  by_cases h17 : x = 17
  · rw [if_pos h17] at H ⊢; exact ⟨hpp, H⟩
  rw [if_neg h17] at H ⊢
  by_cases h18 : x = 18
  · rw [if_pos h18] at H ⊢; exact ⟨hpp, H⟩
  rw [if_neg h18] at H ⊢
  by_cases h19 : x = 19
  · rw [if_pos h19] at H ⊢; exact ⟨hpp, H⟩
  rw [if_neg h19] at H ⊢
  by_cases h20 : x = 20
  · rw [if_pos h20] at H ⊢; exact ⟨hpp, H⟩
  rw [if_neg h20] at H ⊢
  by_cases h21 : x = 21
  · rw [if_pos h21] at H ⊢; exact ⟨hpp, H⟩
  rw [if_neg h21] at H ⊢
  by_cases h22 : x = 22
  · rw [if_pos h22] at H ⊢; exact H
  rw [if_neg h22] at H ⊢
  by_cases h23 : x = 23
  · rw [if_pos h23] at H ⊢; exact H
  rw [if_neg h23] at H ⊢
  by_cases h24 : x = 24
  · rw [if_pos h24] at H ⊢; exact ⟨hpp, H⟩
  rw [if_neg h24] at H ⊢
  by_cases h25 : x = 25
  · rw [if_pos h25] at H ⊢; exact ⟨hpp, H⟩
  rw [if_neg h25] at H ⊢
  by_cases h26 : x = 26
  · rw [if_pos h26] at H ⊢; exact ⟨hpp, H⟩
  rw [if_neg h26] at H ⊢
  by_cases h27 : x = 27
  · rw [if_pos h27] at H ⊢; exact ⟨hpp, H⟩
  rw [if_neg h27] at H ⊢
  by_cases h28 : x = 28
  · rw [if_pos h28] at H ⊢; exact ⟨hpp, H⟩
  rw [if_neg h28] at H ⊢
  by_cases h29 : x = 29
  · rw [if_pos h29] at H ⊢; exact ⟨hpp, H⟩
  rw [if_neg h29] at H ⊢
  by_cases h30 : x = 30
  · rw [if_pos h30] at H ⊢; exact H
  rw [if_neg h30] at H ⊢
  by_cases h31 : x = 31
  · rw [if_pos h31] at H ⊢; exact H
  rw [if_neg h31] at H ⊢
  by_cases h32 : x = 32
  · rw [if_pos h32] at H ⊢; exact H
  rw [if_neg h32] at H ⊢
  by_cases h33 : x = 33
  · rw [if_pos h33] at H ⊢; exact H
  rw [if_neg h33] at H ⊢
  exact H
theorem y_str {i : Bool} (h : xTz M a n c s) (hp : gr M pp 1 = some (a, 9, 0)) (hpp : 190 ≤ pp ∧ pp ≠ a) (hQ : ∀ M', fr (fun x k => x = pp ∧ k = 8) M M' → (∀ l y, pStr (zOf n c dg) i s = some (l, y) → 2 ≤ l → gi M' pp 8 = y) → Q (.inl (some (vi (stR (pStr (zOf n c dg) i s))))) M') : Z E YX9_strength (d + 1) M [(0, vr (some (pp, 8, 0))), (1, vi (if i then 1 else 0))] 0 [] Q := by
  have kd := tk_kd (dg := dg) h
  refine iX9_strength_0 M pp _ ⟨a, hp, ?_⟩
  refine sX10_isWord_0 M a _ ?_
  -- a word between
  have wd : ∀ (v : Int32), (v = 19 ∨ v = 20) → (∀ M', fr (fun x k => x = pp ∧ k = 8) M M' → gi M' pp 8 = v → gi M a 6 = (if v = 19 then 13 else 14) → Q (.inl (some (vi (if v = 19 ∧ i = false then -1 else 6)))) M') → gi M a 6 = (if v = 19 then 13 else 14) → Z E YX9_strength (d + 1) M [(0, vr (some (pp, 8, 0))), (1, vi (if i then 1 else 0))] 44 [vi v, vr (some (pp, 8, 0))] Q := by
    intro v hv hq h6
    have f : fr (fun x k => x = pp ∧ k = 8) M (si M pp 8 v) := fr.si ⟨rfl, rfl⟩
    have e6 : gi (si M pp 8 v) a 6 = gi M a 6 := gi_oth (fun z => hpp.2 z.symm)
    have q := hq _ f (gi_self _ _ _ _) h6
    refine sX9_strength_44 M pp _ _ ⟨by omega, ?_⟩
    cases i with
    | true =>
      rw [if_neg (by decide)]
      rw [if_neg (fun z => by cases z.2)] at q
      exact q
    | false =>
      rw [if_pos (by decide)]
      refine ⟨a, hp, ?_⟩
      rw [e6, h6]
      rcases hv with z | z
      · rw [z] at q ⊢
        rw [if_pos ⟨rfl, rfl⟩] at q
        rw [if_pos rfl, if_neg (by decide)]
        exact q
      · rw [z] at q ⊢
        rw [if_neg (fun z => absurd z.1 (by decide))] at q
        rw [if_pos (by decide)]
        exact q
  have c0 : ∀ v : Int32, Z E YX9_strength (d + 1) M [(0, vr (some (pp, 8, 0))), (1, vi (if i then 1 else 0))] 9 [vi v] Q → zafter E YX9_strength (d + 1) [(0, vr (some (pp, 8, 0))), (1, vi (if i then 1 else 0))] 6 3 [] Q (.inl (some (vi v))) M := fun v z => z
  have c1 : ∀ v : Int32, Z E YX9_strength (d + 1) M [(0, vr (some (pp, 8, 0))), (1, vi (if i then 1 else 0))] 21 [vi v] Q → zafter E YX9_strength (d + 1) [(0, vr (some (pp, 8, 0))), (1, vi (if i then 1 else 0))] 18 3 [] Q (.inl (some (vi v))) M := fun v z => z
  by_cases h2 : gi M a 3 = 2
  · have k2 : tkd (zOf n c dg) s.1 = 2 := kd.symm.trans h2
    have k5 : ¬ tkd (zOf n c dg) s.1 = 5 := by rw [k2]; decide
    have w2 := tk_w2 (dg := dg) h h2
    have eP : pStr (zOf n c dg) i s = if twh (zOf n c dg) s.1 = 14 then some (6, 20) else if twh (zOf n c dg) s.1 = 13 then (if i then some (6, 19) else none) else none := by
      unfold pStr
      simp only [isS_n k5, isK_2 k2, decide_eq_true_eq]
      rfl
    rw [eP, ← w2] at hQ
    rw [if_pos h2]
    by_cases h13 : gi M a 6 = 13
    · rw [if_pos h13]
      refine c0 1 (iX9_strength_9 M pp _ _ ?_)
      rw [if_neg (by decide)]
      refine ⟨a, hp, ?_⟩
      rw [if_pos h13]
      refine wd 19 (.inl rfl) (fun M' f g _ => ?_) (by rw [if_pos rfl]; exact h13)
      rw [h13, if_neg (by decide), if_pos rfl] at hQ
      have := hQ M' f (fun l y e _ => by cases i with | true => rw [if_pos rfl] at e; cases e; exact g | false => rw [if_neg (by decide)] at e; cases e)
      cases i with
      | true => rw [if_neg (fun z => by cases z.2)]; exact this
      | false => rw [if_pos ⟨rfl, rfl⟩]; exact this
    · rw [if_neg h13]
      refine c0 0 (iX9_strength_9 M pp _ _ ?_)
      rw [if_pos rfl]
      refine ⟨a, hp, ?_⟩
      refine sX10_isWord_0 M a _ ?_
      rw [if_pos h2]
      by_cases h14 : gi M a 6 = 14
      · rw [if_pos h14]
        refine c1 1 (iX9_strength_21 M pp _ _ ?_)
        rw [if_neg (by decide)]
        refine ⟨a, hp, ?_⟩
        rw [if_neg h13]
        refine wd 20 (.inr rfl) (fun M' f g _ => ?_) (by rw [if_neg (by decide)]; exact h14)
        rw [h14, if_pos rfl] at hQ
        rw [if_neg (fun z => absurd z.1 (by decide))]
        exact hQ M' f (fun l y e _ => by cases e; exact g)
      · rw [if_neg h14]
        refine c1 0 (iX9_strength_21 M pp _ _ ?_)
        rw [if_pos rfl]
        refine ⟨a, hp, ?_⟩
        rw [if_neg (by rw [h2]; decide)]
        rw [if_neg h14, if_neg h13] at hQ
        exact hQ M fr.rf (fun l y e => by cases e)
  · have k2 : ¬ tkd (zOf n c dg) s.1 = 2 := fun z => h2 (kd.trans z)
    rw [if_neg h2]
    refine c0 0 (iX9_strength_9 M pp _ _ ?_)
    rw [if_pos rfl]
    refine ⟨a, hp, ?_⟩
    refine sX10_isWord_0 M a _ ?_
    rw [if_neg h2]
    refine c1 0 (iX9_strength_21 M pp _ _ ?_)
    rw [if_pos rfl]
    refine ⟨a, hp, ?_⟩
    by_cases h5 : gi M a 3 = 5
    · rw [if_pos h5]
      obtain ⟨j, hj, e1, e2⟩ := tk_sg (dg := dg) h h5
      have k5 : tkd (zOf n c dg) s.1 = 5 := kd.symm.trans h5
      obtain ⟨e3, e4⟩ := stN_t ⟨j, hj⟩
      have eP : pStr (zOf n c dg) i s = none ∧ (stN (nI j)).1 = -1 ∨ ∃ l y, pStr (zOf n c dg) i s = some (l, y) ∧ stN (nI j) = (nI l, y) ∧ (2 ≤ l → (2 : Int32) ≤ nI l) := by
        unfold pStr stN
        simp only [isK_n k2, isS_5 k5, e1, decide_eq_true_eq]
        generalize nI j = x
        rw [if_neg (by decide), if_neg (by decide)]
        by_cases h15 : x = 15
        · rw [if_pos h15, if_pos h15]; exact .inr ⟨_, _, rfl, rfl, by decide⟩
        rw [if_neg h15, if_neg h15]
        by_cases h14 : x = 14
        · rw [if_pos h14, if_pos h14]; exact .inr ⟨_, _, rfl, rfl, by decide⟩
        rw [if_neg h14, if_neg h14]
        by_cases h41 : x = 41
        · rw [if_pos h41, if_pos h41]; exact .inr ⟨_, _, rfl, rfl, by decide⟩
        rw [if_neg h41, if_neg h41]
        by_cases h42 : x = 42
        · rw [if_pos h42, if_pos h42]; exact .inr ⟨_, _, rfl, rfl, by decide⟩
        rw [if_neg h42, if_neg h42]
        by_cases h40 : x = 40
        · rw [if_pos h40, if_pos h40]; exact .inr ⟨_, _, rfl, rfl, by decide⟩
        rw [if_neg h40, if_neg h40]
        by_cases h8 : x = 8
        · rw [if_pos h8, if_pos h8]; exact .inr ⟨_, _, rfl, rfl, by decide⟩
        rw [if_neg h8, if_neg h8]
        by_cases h9 : x = 9
        · rw [if_pos h9, if_pos h9]; exact .inr ⟨_, _, rfl, rfl, by decide⟩
        rw [if_neg h9, if_neg h9]
        by_cases h4 : x = 4
        · rw [if_pos h4, if_pos h4]; exact .inr ⟨_, _, rfl, rfl, by decide⟩
        rw [if_neg h4, if_neg h4]
        by_cases h5 : x = 5
        · rw [if_pos h5, if_pos h5]; exact .inr ⟨_, _, rfl, rfl, by decide⟩
        rw [if_neg h5, if_neg h5]
        by_cases h33 : x = 33
        · rw [if_pos h33, if_pos h33]; exact .inr ⟨_, _, rfl, rfl, by decide⟩
        rw [if_neg h33, if_neg h33]
        by_cases h34 : x = 34
        · rw [if_pos h34, if_pos h34]; exact .inr ⟨_, _, rfl, rfl, by decide⟩
        rw [if_neg h34, if_neg h34]
        by_cases h6 : x = 6
        · rw [if_pos h6, if_pos h6]; exact .inr ⟨_, _, rfl, rfl, by decide⟩
        rw [if_neg h6, if_neg h6]
        by_cases h7 : x = 7
        · rw [if_pos h7, if_pos h7]; exact .inr ⟨_, _, rfl, rfl, by decide⟩
        rw [if_neg h7, if_neg h7]
        by_cases h12 : x = 12
        · rw [if_pos h12, if_pos h12]; exact .inr ⟨_, _, rfl, rfl, by decide⟩
        rw [if_neg h12, if_neg h12]
        by_cases h13 : x = 13
        · rw [if_pos h13, if_pos h13]; exact .inr ⟨_, _, rfl, rfl, by decide⟩
        rw [if_neg h13, if_neg h13]
        by_cases h3 : x = 3
        · rw [if_pos h3, if_pos h3]; exact .inr ⟨_, _, rfl, rfl, by decide⟩
        rw [if_neg h3, if_neg h3]
        by_cases h35 : x = 35
        · rw [if_pos h35, if_pos h35]; exact .inr ⟨_, _, rfl, rfl, by decide⟩
        rw [if_neg h35, if_neg h35]
        by_cases h36 : x = 36
        · rw [if_pos h36, if_pos h36]; exact .inr ⟨_, _, rfl, rfl, by decide⟩
        rw [if_neg h36, if_neg h36]
        by_cases h37 : x = 37
        · rw [if_pos h37, if_pos h37]; exact .inr ⟨_, _, rfl, rfl, by decide⟩
        rw [if_neg h37, if_neg h37]
        by_cases h38 : x = 38
        · rw [if_pos h38, if_pos h38]; exact .inr ⟨_, _, rfl, rfl, by decide⟩
        rw [if_neg h38, if_neg h38]
        by_cases h39 : x = 39
        · rw [if_pos h39, if_pos h39]; exact .inr ⟨_, _, rfl, rfl, by decide⟩
        rw [if_neg h39, if_neg h39]
        exact .inl ⟨rfl, rfl⟩
      rw [e2]
      refine st_tree (sgX (nI j)) (by omega) ?_
      rw [← e3]
      have fw : ∀ w : Option Int32, fr (fun x k => x = pp ∧ k = 8) M (match w with | none => M | some w => si M pp 8 w) := fun w => by
        cases w with
        | none => exact fr.rf
        | some w => exact fr.si ⟨rfl, rfl⟩
      rcases eP with ⟨p1, p2⟩ | ⟨l, y, p1, p2, p3⟩
      · have := hQ _ (fw (stTx (sgX (nI j))).2) (fun l y e => by rw [p1] at e; cases e)
        rw [p1] at this
        show Q (.inl (some (vi (stN (nI j)).1))) _
        rw [p2]
        exact this
      · have e4 : (2 : Int32) ≤ (stN (nI j)).1 → (stTx (sgX (nI j))).2 = some (stN (nI j)).2 := e4
        have := hQ _ (fw (stTx (sgX (nI j))).2) (fun l' y' e h2' => by
          rw [p1] at e
          cases e
          rw [e4 (by rw [p2]; exact p3 h2'), p2]
          exact gi_self _ _ _ _)
        rw [p1] at this
        show Q (.inl (some (vi (stN (nI j)).1))) _
        rw [p2]
        exact this
    · rw [if_neg h5]
      have eP : pStr (zOf n c dg) i s = none := by
        unfold pStr
        simp only [isK_n k2, isS_n (fun z => h5 (kd.trans z))]
        rfl
      have := hQ M fr.rf (fun l y e => by rw [eP] at e; cases e)
      rw [eP] at this
      exact this
end
