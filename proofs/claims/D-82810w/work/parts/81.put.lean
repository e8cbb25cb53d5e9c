/-! THE MACHINE: PUT -/
noncomputable def m_put3 (A : mA) (s v ks kv ws wv : Int32) : mE := match a_text A ks kv with
  | none => (2, A, 0, 0)
  | some (k, A1) =>
    if s ≤ 1 then m_err A1 0
    else if s = 7 then
      (if gi (aT A1) 141 v.toNatClampNeg = 2 ∧ k = 0 then (0, A1, ws, wv)
      else match a_set A1 v.toNatClampNeg (nI k) ws wv with
        | (false, A2) => (2, A2, 0, 0)
        | (true, A2) =>
          if gi (aT A1) 141 v.toNatClampNeg = 2 ∧ ¬ mix (mtx (aL A1) (nI k)) = -1 ∧ ¬ mix (mtx (aL A1) (nI k)) < gi (aT A2) 147 (fnd (gi (aT A2) 145) 0 (aP A2 v.toNatClampNeg)).toNatClampNeg then
            (0, (a_set A2 v.toNatClampNeg 0 5 (mix (mtx (aL A1) (nI k)) + 1)).2, ws, wv)
          else (0, A2, ws, wv))
    else (0, A1, ws, wv)
/-- an index is -1 or up to 99 -/
theorem mix_or (w : List Int32) : mix w = -1 ∨ ∃ n : Nat, mix w = nI n ∧ n < 100 := by
  have dg : ∀ c : Int32, lxD c = true → ∃ n : Nat, c = nI n ∧ 48 ≤ n ∧ n ≤ 57 := fun c hc => by
    unfold lxD at hc
    rw [Bool.and_eq_true] at hc
    have h1 := of_decide_eq_true hc.1
    have h2 := of_decide_eq_true hc.2
    rcases nn_or c with q | ⟨k, hk, rfl⟩
    · exact absurd h1 (by rw [i_le]; exact Int32.lt_trans q (by decide))
    · simp (disch := omega) only [nn_add, nn_addl, nn_ladd, nn_mul, nn_lmul, nn_mull, nn_sub, nn_subl, nn_lsub, nn_lt, nn_le, nn_eq, nn_ltl, nn_llt, nn_lel, nn_lle, nn_eql, nn_leq, nn_m1, nn_1m, nn_ltm, nn_mlt, nn_mle, nn_lem, nn_cl, nn_in, nn_ns, nn_ns2, nn_nb, nn_nb2, nn_s1, nn_s2, nn_b1, nn_b2] at h1 h2
      exact ⟨k, rfl, h1, h2⟩
  unfold mix
  by_cases h1 : w.length = 1
  · rw [if_pos h1]
    by_cases c : lxD (w.getD 0 0) = true
    · rw [if_pos c]
      obtain ⟨n, e, n1, n2⟩ := dg _ c
      refine .inr ⟨n - 48, ?_, by omega⟩
      rw [e]; simp (disch := omega) only [nn_add, nn_addl, nn_ladd, nn_mul, nn_lmul, nn_mull, nn_sub, nn_subl, nn_lsub, nn_lt, nn_le, nn_eq, nn_ltl, nn_llt, nn_lel, nn_lle, nn_eql, nn_leq, nn_m1, nn_1m, nn_ltm, nn_mlt, nn_mle, nn_lem, nn_cl, nn_in, nn_ns, nn_ns2, nn_nb, nn_nb2, nn_s1, nn_s2, nn_b1, nn_b2]
    · rw [if_neg c]; exact .inl rfl
  rw [if_neg h1]
  by_cases h2 : w.length = 2
  · rw [if_pos h2]
    by_cases c : lxD (w.getD 0 0) = true ∧ lxD (w.getD 1 0) = true ∧ ¬ w.getD 0 0 = 48
    · rw [if_pos c]
      obtain ⟨n, e, n1, n2⟩ := dg _ c.1
      obtain ⟨m, e', m1, m2⟩ := dg _ c.2.1
      refine .inr ⟨10 * (n - 48) + m - 48, ?_, by omega⟩
      rw [e, e']; simp (disch := omega) only [nn_add, nn_addl, nn_ladd, nn_mul, nn_lmul, nn_mull, nn_sub, nn_subl, nn_lsub, nn_lt, nn_le, nn_eq, nn_ltl, nn_llt, nn_lel, nn_lle, nn_eql, nn_leq, nn_m1, nn_1m, nn_ltm, nn_mlt, nn_mle, nn_lem, nn_cl, nn_in, nn_ns, nn_ns2, nn_nb, nn_nb2, nn_s1, nn_s2, nn_b1, nn_b2]
    · rw [if_neg c]; exact .inl rfl
  · rw [if_neg h2]; exact .inl rfl
