/-! OBJECTS AND PROPERTIES: remove -/
/-- p, behind l1, goes from the chain of o -/
def m_rem (T : zM) (o p : Nat) (l1 : List Nat) : zM :=
  let T1 := if l1 = [] then si T 143 o (gi T 149 p) else si T 149 (lst l1).toNatClampNeg (gi T 149 p)
  let T2 := if gi T 144 o = nI p then si T1 144 o (lst l1) else T1
  si (si (si T2 149 p (gi T 97 85)) 97 85 (nI p)) 97 84 (gi T 97 84 - 1)
def x_rem (M : zM) (o p : Nat) (l1 : List Nat) : zM :=
  let M1 := if l1 = [] then si M 43 o (gi M 47 p) else si M 47 (lst l1).toNatClampNeg (gi M 47 p)
  let M2 := if gi M 44 o = nI p then si M1 44 o (lst l1) else M1
  si (si M2 47 p (gi M 16 28)) 16 28 (nI p)
theorem m_rem_149 (T : zM) (o p : Nat) (l1 : List Nat) (q : Nat) : gi (m_rem T o p l1) 149 q = if q = p then gi T 97 85 else if l1 ≠ [] ∧ q = (lst l1).toNatClampNeg then gi T 149 p else gi T 149 q := by
  unfold m_rem
  by_cases h1 : l1 = [] <;> by_cases h2 : gi T 144 o = nI p <;> simp [gi_si, h1, h2]
theorem m_rem_143 (T : zM) (o p : Nat) (l1 : List Nat) (q : Nat) : gi (m_rem T o p l1) 143 q = if l1 = [] ∧ q = o then gi T 149 p else gi T 143 q := by
  unfold m_rem
  by_cases h1 : l1 = [] <;> by_cases h2 : gi T 144 o = nI p <;> simp [gi_si, h1, h2]
theorem m_rem_144 (T : zM) (o p : Nat) (l1 : List Nat) (q : Nat) : gi (m_rem T o p l1) 144 q = if q = o ∧ gi T 144 o = nI p then lst l1 else gi T 144 q := by
  unfold m_rem
  by_cases h1 : l1 = [] <;> by_cases h2 : gi T 144 o = nI p <;> simp [gi_si, h1, h2]
theorem m_rem_97 (T : zM) (o p : Nat) (l1 : List Nat) : gi (m_rem T o p l1) 97 76 = gi T 97 76 ∧ gi (m_rem T o p l1) 97 84 = gi T 97 84 - 1 ∧ gi (m_rem T o p l1) 97 85 = nI p ∧ gi (m_rem T o p l1) 97 86 = gi T 97 86 := by
  unfold m_rem
  by_cases h1 : l1 = [] <;> by_cases h2 : gi T 144 o = nI p <;> simp [gi_si, h1, h2]
theorem m_rem_fr (T : zM) (o p : Nat) (l1 : List Nat) : fr fT T (m_rem T o p l1) := by
  have h : ∀ a k, 143 ≤ a → a ≤ 149 → fT a k := fun a k h1 h2 => .inl ⟨h1, h2⟩
  have h84 : fT 97 84 := by unfold fT; omega
  have h85 : fT 97 85 := by unfold fT; omega
  have f1 : fr fT T (if l1 = [] then si T 143 o (gi T 149 p) else si T 149 (lst l1).toNatClampNeg (gi T 149 p)) := by
    split
    · exact fr.si (h 143 _ (by omega) (by omega))
    · exact fr.si (h 149 _ (by omega) (by omega))
  unfold m_rem
  refine fr.tr (fr.tr (fr.tr ?_ (fr.si (h 149 _ (by omega) (by omega)))) (fr.si h85)) (fr.si h84)
  split
  · exact f1.tr (fr.si (h 144 _ (by omega) (by omega)))
  · exact f1
theorem m_rem_oth (T : zM) (o p : Nat) (l1 : List Nat) {a k : Nat} (h : ¬ fT a k) : gi (m_rem T o p l1) a k = gi T a k := ((m_rem_fr T o p l1).2 a k h).1
theorem m_rem_new (T : zM) (o p : Nat) (l1 : List Nat) (q : Nat) : gi (m_rem T o p l1) 145 q = gi T 145 q ∧ gi (m_rem T o p l1) 146 q = gi T 146 q ∧ gi (m_rem T o p l1) 147 q = gi T 147 q ∧ gi (m_rem T o p l1) 148 q = gi T 148 q := by
  unfold m_rem
  by_cases h1 : l1 = [] <;> by_cases h2 : gi T 144 o = nI p <;> simp [gi_si, h1, h2]
theorem x_rem_47 (M : zM) (o p : Nat) (l1 : List Nat) (q : Nat) : gi (x_rem M o p l1) 47 q = if q = p then gi M 16 28 else if l1 ≠ [] ∧ q = (lst l1).toNatClampNeg then gi M 47 p else gi M 47 q := by
  unfold x_rem
  by_cases h1 : l1 = [] <;> by_cases h2 : gi M 44 o = nI p <;> simp [gi_si, h1, h2]
theorem x_rem_43 (M : zM) (o p : Nat) (l1 : List Nat) (q : Nat) : gi (x_rem M o p l1) 43 q = if l1 = [] ∧ q = o then gi M 47 p else gi M 43 q := by
  unfold x_rem
  by_cases h1 : l1 = [] <;> by_cases h2 : gi M 44 o = nI p <;> simp [gi_si, h1, h2]
theorem x_rem_44 (M : zM) (o p : Nat) (l1 : List Nat) (q : Nat) : gi (x_rem M o p l1) 44 q = if q = o ∧ gi M 44 o = nI p then lst l1 else gi M 44 q := by
  unfold x_rem
  by_cases h1 : l1 = [] <;> by_cases h2 : gi M 44 o = nI p <;> simp [gi_si, h1, h2]
theorem x_rem_new (M : zM) (o p : Nat) (l1 : List Nat) (a q : Nat) (ha : a ≠ 43) (hb : a ≠ 44) (hc : a ≠ 47) (hd : a = 16 → q ≠ 28) : gi (x_rem M o p l1) a q = gi M a q := by
  unfold x_rem
  by_cases h1 : l1 = [] <;> by_cases h2 : gi M 44 o = nI p <;> simp only [h1, h2, if_true, if_false, gi_si] <;> grind
theorem x_rem_28 (M : zM) (o p : Nat) (l1 : List Nat) : gi (x_rem M o p l1) 16 28 = nI p := by unfold x_rem; exact gi_self ..
theorem x_rem_fr (M : zM) (o p : Nat) (l1 : List Nat) : fr fX M (x_rem M o p l1) := by
  have h43 : fX 43 o := by unfold fX; omega
  have h44 : fX 44 o := by unfold fX; omega
  have h47 : ∀ q, fX 47 q := fun q => by unfold fX; omega
  have h28 : fX 16 28 := by unfold fX; omega
  have f1 : fr fX M (if l1 = [] then si M 43 o (gi M 47 p) else si M 47 (lst l1).toNatClampNeg (gi M 47 p)) := by
    split
    · exact fr.si h43
    · exact fr.si (h47 _)
  unfold x_rem
  refine fr.tr (fr.tr ?_ (fr.si (h47 _))) (fr.si h28)
  split
  · exact f1.tr (fr.si h44)
  · exact f1
theorem lst_in {l : List Nat} {z : Nat} (hb : ∀ q ∈ l, q < 3000) (hz : lst l = nI z) (hz3 : z < 3000) : z ∈ l := by
  rcases lst_or l with ⟨-, e⟩ | ⟨l1, y, e, e2⟩
  · rw [hz, nn_m1 (by omega)] at e; exact e.elim
  · have hyb : y < 3000 := hb y (by rw [e]; simp)
    rw [hz, nn_eq (by omega) (by omega)] at e2
    rw [e2, e]; simp
theorem lst_cl {l : List Nat} (hb : ∀ q ∈ l, q < 3000) (hl : l ≠ []) : (lst l).toNatClampNeg ∈ l ∧ lst l = nI (lst l).toNatClampNeg := by
  rcases lst_or l with ⟨e, -⟩ | ⟨l1, y, e, e2⟩
  · exact absurd e hl
  · have hyb : y < 3000 := hb y (by rw [e]; simp)
    rw [e2, nn_cl (by omega)]
    exact ⟨by rw [e]; simp, rfl⟩
theorem hT_rem {T : zM} {ob : Nat} {ps : Nat → List Nat} {fl : List Nat} (h : hT T ob ps fl) {o : Nat} (ho : o < ob) {l1 l2 : List Nat} {p : Nat} (hp : ps o = l1 ++ p :: l2) (hl : fl.length < 3000) : hT (m_rem T o p l1) ob (fun i => if i = o then l1 ++ l2 else ps i) (p :: fl) := by
  obtain ⟨⟨h1, h2⟩, ⟨g1, g2, g3, g4, g5⟩, H⟩ := h
  obtain ⟨m1, m2, m3, m4⟩ := m_rem_97 T o p l1
  obtain ⟨c1, c2, c3, c4, c5⟩ := H o ho
  have hpo : p ∈ ps o := by rw [hp]; simp
  have hp3 := (c4 p hpo).1
  have hpf := (c4 p hpo).2
  have hb1 : ∀ q ∈ l1, q < 3000 := fun q hq => (c4 q (by rw [hp]; simp [hq])).1
  have nd := c3
  rw [hp, List.nodup_append] at nd
  obtain ⟨nd1, nd2, nd3⟩ := nd
  have hp1 : p ∉ l1 := fun q => nd3 p q p List.mem_cons_self rfl
  have hp2 : p ∉ l2 := (List.nodup_cons.mp nd2).1
  -- links of those that are neither p nor the one ahead of it
  have nx : ∀ q, q ≠ p → q ∉ l1 → gi (m_rem T o p l1) 149 q = gi T 149 q := fun q hq hq1 => by
    rw [m_rem_149, if_neg hq, if_neg (fun z => hq1 (by rw [z.2]; exact (lst_cl hb1 z.1).1))]
  refine ⟨⟨m1.trans h1, h2⟩, ⟨?_, by simp; omega, ?_, fun q hq => ?_, List.nodup_cons.mpr ⟨hpf, g5⟩⟩, fun i hi => ?_⟩
  · rw [m2, g1, List.length_cons]
    simp (disch := omega) only [nn_add, nn_addl, nn_ladd, nn_mul, nn_lmul, nn_mull, nn_sub, nn_subl, nn_lsub, nn_lt, nn_le, nn_eq, nn_ltl, nn_llt, nn_lel, nn_lle, nn_eql, nn_leq, nn_m1, nn_1m, nn_ltm, nn_mlt, nn_mle, nn_lem, nn_cl, nn_in, nn_ns, nn_ns2, nn_nb, nn_nb2, nn_s1, nn_s2, nn_b1, nn_b2]
    rw [show 3000 - fl.length - 1 = 3000 - (fl.length + 1) by omega]
  · refine ⟨m3, ?_⟩
    rw [m_rem_149, if_pos rfl]
    exact chn_cg (fun q hq => nx q (fun e => hpf (e ▸ hq)) (fun e => (c4 q (by rw [hp]; simp [e])).2 hq)) g3
  · rcases List.mem_cons.mp hq with e | e
    · rw [e]; exact hp3
    · exact g4 q e
  · dsimp only
    by_cases hio : i = o
    · subst hio
      rw [if_pos rfl]
      rw [hp] at c1
      obtain ⟨m, s1, s2⟩ := chn_app.mp c1
      refine ⟨?_, ?_, ?_, fun q hq => ?_, fun o' ho' hne q hq => ?_⟩
      · rw [m_rem_143]
        have tail : chn (gi (m_rem T i p l1) 149) (-1) (gi T 149 p) l2 := chn_cg (fun q hq => nx q (fun e => hp2 (e ▸ hq)) (fun e => nd3 q e q (List.mem_cons_of_mem _ hq) rfl)) s2.2
        by_cases he : l1 = []
        · rw [if_pos ⟨he, rfl⟩, he, List.nil_append]; rw [he] at tail; exact tail
        · rw [if_neg (fun z => he z.1)]
          rcases lst_or l1 with ⟨e, -⟩ | ⟨l0, z, e, e2⟩
          · exact absurd e he
          · have hz3 : z < 3000 := hb1 z (by rw [e]; simp)
            have hzl : z ∉ l0 := by
              rw [e, List.nodup_append] at nd1
              exact fun q => nd1.2.2 z q z (by simp) rfl
            have hzp : ¬ z = p := fun q => hp1 (by rw [← q, e]; simp)
            rw [e] at s1
            obtain ⟨m', r1, r2⟩ := chn_app.mp s1
            rw [e, List.append_assoc]
            rw [e] at tail
            refine chn_app.mpr ⟨m', chn_cg (fun q hq => ?_) r1, r2.1, ?_⟩
            · rw [m_rem_149, if_neg (fun w => hp1 (by rw [← w, e]; simp [hq])), if_neg (fun w => ?_)]
              rw [← e, e2, nn_cl (by omega)] at w
              exact hzl (by rw [← w.2]; exact hq)
            · show chn _ (-1) (gi (m_rem T i p (l0 ++ [z])) 149 z) l2
              rw [m_rem_149, if_neg hzp, if_pos ⟨by simp, by rw [lst_app, nn_cl (by omega)]⟩]
              exact tail
      · rw [m_rem_144]
        by_cases hl2 : l2 = []
        · subst hl2
          rw [if_pos ⟨rfl, by rw [c2, hp, lst_app]⟩, List.append_nil]
        · rcases lst_or l2 with ⟨e, -⟩ | ⟨l0, z, e, e2⟩
          · exact absurd e hl2
          · have hz3 : z < 3000 := (c4 z (by rw [hp, e]; simp)).1
            have e3 : ps i = (l1 ++ p :: l0) ++ [z] := by rw [hp, e]; simp
            have e4 : gi T 144 i = nI z := by rw [c2, e3, lst_app]
            rw [if_neg (fun w => ?_), e4, e, ← List.append_assoc, lst_app]
            rw [e4, nn_eq (by omega) (by omega)] at w
            exact hp2 (by rw [← w.2, e]; simp)
      · rw [List.nodup_append]
        exact ⟨nd1, (List.nodup_cons.mp nd2).2, fun a ha b hb => nd3 a ha b (List.mem_cons_of_mem _ hb)⟩
      · have hqi : q ∈ ps i := by rw [hp]; rcases List.mem_append.mp hq with e | e <;> simp [e]
        refine ⟨(c4 q hqi).1, fun w => ?_⟩
        rcases List.mem_cons.mp w with e | e
        · rcases List.mem_append.mp hq with r | r
          · exact hp1 (e ▸ r)
          · exact hp2 (e ▸ r)
        · exact (c4 q hqi).2 e
      · rw [if_neg hne]
        exact c5 o' ho' hne q (by rw [hp]; rcases List.mem_append.mp hq with e | e <;> simp [e])
    · rw [if_neg hio]
      obtain ⟨d1, d2, d3, d4, d5⟩ := H i hi
      have hoi : o ≠ i := fun w => hio w.symm
      refine ⟨?_, ?_, d3, fun q hq => ⟨(d4 q hq).1, fun w => ?_⟩, fun o' ho' hne q hq => ?_⟩
      · rw [m_rem_143, if_neg (fun z => hio z.2)]
        exact chn_cg (fun q hq => nx q (fun e => d5 o ho hoi q hq (by rw [e]; exact hpo)) (fun e => d5 o ho hoi q hq (by rw [hp]; simp [e]))) d1
      · rw [m_rem_144, if_neg (fun z => hio z.1)]; exact d2
      · rcases List.mem_cons.mp w with e | e
        · exact d5 o ho hoi q hq (by rw [e]; exact hpo)
        · exact (d4 q hq).2 e
      · by_cases hoo : o' = o
        · subst hoo
          rw [if_pos rfl]
          exact fun w => d5 o' ho' hne q hq (by rw [hp]; rcases List.mem_append.mp w with e | e <;> simp [e])
        · rw [if_neg hoo]; exact d5 o' ho' hne q hq
