/-! OBJECTS AND PROPERTIES: the twin's set and remove; the component's setOwn and remove alike -/
/-- what the component's objects and properties are, beside the twin's -/
def hX (M T : zM) (ob : Nat) (ps : Nat → List Nat) (fl : List Nat) : Prop :=
  (gi M 16 26 = nI ob ∧ gi M 16 29 = gi T 97 86) ∧ (∃ (sp : List Nat) (m : Nat), fl = sp ++ List.range' m (3000 - m) ∧ m ≤ 3000 ∧ chn (gi M 47) (-1) (gi M 16 28) sp ∧ gi M 16 27 = nI m) ∧
  (∀ o, o < ob → gi M 38 o = gi T 141 o ∧ gi M 41 o = gi T 139 o ∧ gi M 42 o = gi T 140 o ∧ gi M 43 o = gi T 143 o ∧ gi M 44 o = gi T 144 o) ∧
  (∀ o, o < ob → ∀ q ∈ ps o, gi M 46 q = gi T 145 q ∧ gi M 47 q = gi T 149 q ∧ gi M 48 q = gi T 146 q ∧ gi M 49 q = gi T 147 q ∧ gi M 50 q = gi T 148 q)
/-- cells of the component's properties -/
def fX (a k : Nat) : Prop := 43 ≤ a ∧ a ≤ 50 ∧ a ≠ 45 ∨ a = 16 ∧ 27 ≤ k ∧ k ≤ 29
/-- cells of the twin's properties -/
def fT (a k : Nat) : Prop := 143 ≤ a ∧ a ≤ 149 ∨ a = 97 ∧ 84 ≤ k ∧ k ≤ 86
theorem hX_chn {M T : zM} {ob : Nat} {ps : Nat → List Nat} {fl : List Nat} (hT : hT T ob ps fl) (hX : hX M T ob ps fl) {o : Nat} (ho : o < ob) : chn (gi M 47) (-1) (gi M 43 o) (ps o) := by
  rw [(hX.2.2.1 o ho).2.2.2.1]
  exact chn_cg (fun q hq => (hX.2.2.2 o ho q hq).2.1) (hT.2.2 o ho).1
/-- a property's value is given -/
def m_put (T : zM) (p : Nat) (s v : Int32) : zM := si (si T 146 p s) 147 p v
theorem hT_put {T : zM} {ob : Nat} {ps : Nat → List Nat} {fl : List Nat} (h : hT T ob ps fl) (p : Nat) (s v : Int32) : hT (m_put T p s v) ob ps fl := by
  have e : ∀ a k, a ≠ 146 → a ≠ 147 → gi (m_put T p s v) a k = gi T a k := fun a k h1 h2 => by unfold m_put; rw [gi_oth h2, gi_oth h1]
  obtain ⟨⟨h1, h2⟩, ⟨g1, g2, g3, g4, g5⟩, H⟩ := h
  have e149 : gi (m_put T p s v) 149 = gi T 149 := funext fun k => e 149 k (by decide) (by decide)
  refine ⟨⟨(e _ _ (by decide) (by decide)).trans h1, h2⟩, ⟨(e _ _ (by decide) (by decide)).trans g1, g2, ?_, g4, g5⟩, fun o ho => ?_⟩
  · rw [e149, e _ _ (by decide) (by decide)]; exact g3
  · obtain ⟨d1, d2, d3⟩ := H o ho
    exact ⟨by rw [e149, e _ _ (by decide) (by decide)]; exact d1, (e _ _ (by decide) (by decide)).trans d2, d3⟩
theorem m_app_fr (T : zM) (o p : Nat) (x s v : Int32) : fr fT T (m_app T o p x s v) := by
  have h : ∀ a k, 143 ≤ a → a ≤ 149 → fT a k := fun a k h1 h2 => .inl ⟨h1, h2⟩
  have h84 : fT 97 84 := by unfold fT; omega
  have h85 : fT 97 85 := by unfold fT; omega
  have h86 : fT 97 86 := by unfold fT; omega
  unfold m_app
  split
  · exact ((((((((((fr.si h85).tr (fr.si h84)).tr (fr.si (h 145 _ (by omega) (by omega)))).tr (fr.si h86)).tr (fr.si (h 148 _ (by omega) (by omega)))).tr (fr.si (h 149 _ (by omega) (by omega)))).tr (fr.si (h 143 _ (by omega) (by omega)))).tr (fr.si (h 144 _ (by omega) (by omega)))).tr (fr.si (h 146 _ (by omega) (by omega)))).tr (fr.si (h 147 _ (by omega) (by omega))))
  · exact ((((((((((fr.si h85).tr (fr.si h84)).tr (fr.si (h 145 _ (by omega) (by omega)))).tr (fr.si h86)).tr (fr.si (h 148 _ (by omega) (by omega)))).tr (fr.si (h 149 _ (by omega) (by omega)))).tr (fr.si (h 149 _ (by omega) (by omega)))).tr (fr.si (h 144 _ (by omega) (by omega)))).tr (fr.si (h 146 _ (by omega) (by omega)))).tr (fr.si (h 147 _ (by omega) (by omega))))
theorem m_app_oth (T : zM) (o p : Nat) (x s v : Int32) {a k : Nat} (h : ¬ fT a k) : gi (m_app T o p x s v) a k = gi T a k := ((m_app_fr T o p x s v).2 a k h).1
theorem m_app_new (T : zM) (o p : Nat) (x s v : Int32) (q : Nat) : gi (m_app T o p x s v) 145 q = (if q = p then x else gi T 145 q) ∧ gi (m_app T o p x s v) 146 q = (if q = p then s else gi T 146 q) ∧ gi (m_app T o p x s v) 147 q = (if q = p then v else gi T 147 q) ∧ gi (m_app T o p x s v) 148 q = (if q = p then gi T 97 86 + 1 else gi T 148 q) := by
  unfold m_app
  split <;> simp [gi_si]
section
variable {E : zE} {d : Nat} {T M : zM} {Q : zO → zM → Prop} {ob : Nat} {ps : Nat → List Nat} {fl : List Nat}
/-- set of the twin -/
theorem tm_set {o : Nat} {x s v : Int32} (h : hT T ob ps fl) (ho : o < ob)
    (h1 : ∀ p, fnd (gi T 145) x (ps o) = nI p → p ∈ ps o → gi T 145 p = x → Q (.inl none) (m_put T p s v))
    (h2 : fnd (gi T 145) x (ps o) = -1 → fl = [] → Q (.inl none) (si T 97 75 1))
    (h3 : ∀ p fl', fnd (gi T 145) x (ps o) = -1 → fl = p :: fl' → Q (.inl none) (m_app T o p x s v)) : Zm E YX8_set_2 (d + 1) T [(0, T97), (1, vi (nI o)), (2, vi x), (3, vi s), (4, vi v)] 0 [] Q := by
  obtain ⟨⟨a1, a2⟩, ⟨g1, g2, g3, g4, g5⟩, H⟩ := h
  obtain ⟨c1, c2, c3, c4, c5⟩ := H o ho
  refine sX8_set_2_0 T _ _ _ _ ?_
  refine tm_find (l := ps o) (by simp (disch := omega) only [nn_add, nn_addl, nn_ladd, nn_mul, nn_lmul, nn_mull, nn_sub, nn_subl, nn_lsub, nn_lt, nn_le, nn_eq, nn_ltl, nn_llt, nn_lel, nn_lle, nn_eql, nn_leq, nn_m1, nn_1m, nn_ltm, nn_mlt, nn_mle, nn_lem, nn_cl, nn_in, nn_ns, nn_ns2, nn_nb, nn_nb2, nn_s1, nn_s2, nn_b1, nn_b2]; omega) (by rw [nn_cl (by omega)]; exact c1) (fun q hq => (c4 q hq).1) (fun p hp => ?_)
  show Zm E YX8_set_2 (d + 1) T [(0, T97), (1, vi (nI o)), (2, vi x), (3, vi s), (4, vi v)] 6 [vi p] Q
  refine iX8_set_2_6 T _ _ _ _ _ ?_
  rcases fnd_or (gi T 145) x (ps o) with ⟨f1, f2⟩ | ⟨l1, q, l2, f1, f2, f3, f4⟩
  · rw [hp, f1, if_pos rfl, g1]
    match fl, g2, g3, g4, h2, h3 with
    | [], g2, g3, g4, h2, h3 =>
      rw [if_pos (by decide)]
      exact h2 f1 rfl
    | p :: fl', g2, g3, g4, h2, h3 =>
      have hp3 : p < 3000 := g4 p List.mem_cons_self
      have hlen : fl'.length + 1 ≤ 3000 := by simpa using g2
      have k := h3 p fl' f1 rfl
      rw [List.length_cons, if_neg (by simp (disch := omega) only [nn_add, nn_addl, nn_ladd, nn_mul, nn_lmul, nn_mull, nn_sub, nn_subl, nn_lsub, nn_lt, nn_le, nn_eq, nn_ltl, nn_llt, nn_lel, nn_lle, nn_eql, nn_leq, nn_m1, nn_1m, nn_ltm, nn_mlt, nn_mle, nn_lem, nn_cl, nn_in, nn_ns, nn_ns2, nn_nb, nn_nb2, nn_s1, nn_s2, nn_b1, nn_b2]; omega), g3.1]
      unfold m_app at k
      rw [g1, List.length_cons] at k
      simp (disch := omega) only [nn_add, nn_addl, nn_ladd, nn_mul, nn_lmul, nn_mull, nn_sub, nn_subl, nn_lsub, nn_lt, nn_le, nn_eq, nn_ltl, nn_llt, nn_lel, nn_lle, nn_eql, nn_leq, nn_m1, nn_1m, nn_ltm, nn_mlt, nn_mle, nn_lem, nn_cl, nn_in, nn_ns, nn_ns2, nn_nb, nn_nb2, nn_s1, nn_s2, nn_b1, nn_b2] at k ⊢
      refine ⟨hp3, by omega, ?_⟩
      by_cases hl : gi T 144 o = -1
      · rw [if_pos hl] at k ⊢
        exact k
      · rw [if_neg hl] at k ⊢
        rcases lst_or (ps o) with ⟨-, e2⟩ | ⟨l1, z, e, e2⟩
        · exact absurd (c2.trans e2) hl
        · have hzb : z < 3000 := (c4 z (by rw [e]; simp)).1
          refine ⟨?_, k⟩
          rw [c2, e2]
          simp (disch := omega) only [nn_add, nn_addl, nn_ladd, nn_mul, nn_lmul, nn_mull, nn_sub, nn_subl, nn_lsub, nn_lt, nn_le, nn_eq, nn_ltl, nn_llt, nn_lel, nn_lle, nn_eql, nn_leq, nn_m1, nn_1m, nn_ltm, nn_mlt, nn_mle, nn_lem, nn_cl, nn_in, nn_ns, nn_ns2, nn_nb, nn_nb2, nn_s1, nn_s2, nn_b1, nn_b2]
          omega
  · have hq : q ∈ ps o := by rw [f1]; simp
    have hq3 := (c4 q hq).1
    have k := h1 q f4 hq f2
    unfold m_put at k
    rw [hp, f4]
    simp (disch := omega) only [nn_add, nn_addl, nn_ladd, nn_mul, nn_lmul, nn_mull, nn_sub, nn_subl, nn_lsub, nn_lt, nn_le, nn_eq, nn_ltl, nn_llt, nn_lel, nn_lle, nn_eql, nn_leq, nn_m1, nn_1m, nn_ltm, nn_mlt, nn_mle, nn_lem, nn_cl, nn_in, nn_ns, nn_ns2, nn_nb, nn_nb2, nn_s1, nn_s2, nn_b1, nn_b2]
    rw [if_neg (fun f => f)]
    exact ⟨hq3, k⟩
end
