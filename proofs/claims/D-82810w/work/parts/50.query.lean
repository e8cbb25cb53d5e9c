/-! PAIRS OF ANSWERS: both answer the same; the component's memory is as before, of the twin's only 'thrown' is set -/
def zqI (E : zE) (Yx Ym : zY) (as : List zV) (M T : zM) : Prop := ∃ v : Int32, Z E Yx 2047 M (zargs 0 (zX16 :: as)) 0 [] (fun o M1 => o = .inl (some (vi v)) ∧ M1 = M) ∧ Zm E Ym 2047 T (zargs 0 (zX97 :: as)) 0 [] (fun o T1 => o = .inl (some (vi v)) ∧ T1 = si T 97 0 0)
def zqJ (E : zE) (Yx Ym : zY) (as : List zV) (M T : zM) : Prop := ∃ v : Int64, Z E Yx 2047 M (zargs 0 (zX16 :: as)) 0 [] (fun o M1 => o = .inl (some (vl v)) ∧ M1 = M) ∧ Zm E Ym 2047 T (zargs 0 (zX97 :: as)) 0 [] (fun o T1 => o = .inl (some (vl v)) ∧ T1 = si T 97 0 0)
/-- the program that was read: n instructions, F functions (the list is fl), nm names, lb labels, st sites, texts L -/
def rProg (M T : zM) (n F nm lb st fl : Nat) (L : List (List Int32)) : Prop :=
  (gi M 29 7 = nI n ∧ gi T 97 46 = nI n ∧ n ≤ 500) ∧ (gr M 16 8 = some (fl, 11, 0) ∧ gi M fl 2 = nI F ∧ gi T 97 32 = nI F ∧ F ≤ 11) ∧ (gi M 16 1 = nI nm ∧ gi T 97 8 = nI nm ∧ 31 ≤ nm ∧ nm ≤ 90) ∧ (gi M 16 11 = nI lb ∧ gi T 97 71 = nI lb ∧ lb ≤ 127) ∧ (gi M 16 12 = nI st ∧ gi T 97 55 = nI st ∧ st ≤ 19) ∧
  (∀ k, k < n → gi M 30 k = gi T 123 k ∧ gi M 31 k = gi T 124 k ∧ gi M 34 k = gi T 125 k ∧ gi M 35 k = gi T 126 k) ∧ (xS M 17 18 19 L ∧ tS T L ∧ nm ≤ L.length)
/-- flags: there, solved, status -/
def rFlag (M T : zM) (th so st : Nat) : Prop := (gi M 16 10 = nI th ∧ gi T 97 72 = nI th ∧ th ≤ 1) ∧ (gi M 16 62 = nI so ∧ gi T 97 119 = nI so ∧ so ≤ th) ∧ (gi M 16 51 = nI st ∧ gi T 97 73 = nI st ∧ st ≤ 4 ∧ (th = 0 → st = 0))
section
variable {E : zE} {M T : zM}
theorem q_instruction {l1 l2 : Int32} {th so st n F nm lb si fl : Nat} {L : List (List Int32)} (hw : cw M) (hf : rFlag M T th so st) (hp : th = 1 → rProg M T n F nm lb si fl L) : zqI E YX1_instruction YX8_instruction [vi l1, vi l2] M T := by
  obtain ⟨⟨f1, f2, f3⟩, -, -⟩ := hf
  by_cases h1 : th = 1
  · obtain ⟨⟨p1, p2, p3⟩, -, -, -, -, p4, -⟩ := hp h1
    subst h1
    rcases nn_or l1 with hl | ⟨k, hk, rfl⟩
    · refine ⟨-1, sX1_instruction_0 M l1 l2 hw ?_, iX8_instruction_0 T l1 l2 ?_⟩
      · rw [f1, if_neg (by decide), if_pos hl]; exact ⟨rfl, rfl⟩
      · rw [f2, if_neg (by decide), if_pos hl]; exact ⟨rfl, rfl⟩
    · by_cases hkn : k < n
      · obtain ⟨a1, a2, a3, a4⟩ := p4 k hkn
        obtain ⟨v, hv⟩ : ∃ v : Int32, v = if l2 = 0 then gi T 123 k else if l2 = 1 then gi T 124 k else if l2 = 2 then gi T 125 k else if l2 = 3 then gi T 126 k else -1 := ⟨_, rfl⟩
        refine ⟨v, sX1_instruction_0 M _ l2 hw ?_, iX8_instruction_0 T _ l2 ?_⟩
        · simp (disch := omega) only [f1, p1, a1, a2, a3, a4, nn_add, nn_addl, nn_ladd, nn_mul, nn_lmul, nn_mull, nn_sub, nn_subl, nn_lsub, nn_lt, nn_le, nn_eq, nn_ltl, nn_llt, nn_lel, nn_lle, nn_eql, nn_leq, nn_m1, nn_1m, nn_ltm, nn_mlt, nn_mle, nn_lem, nn_cl, nn_in, nn_ns, nn_ns2, nn_nb, nn_nb2, nn_s1, nn_s2, nn_b1, nn_b2]
          grind
        · simp (disch := omega) only [f2, p2, nn_add, nn_addl, nn_ladd, nn_mul, nn_lmul, nn_mull, nn_sub, nn_subl, nn_lsub, nn_lt, nn_le, nn_eq, nn_ltl, nn_llt, nn_lel, nn_lle, nn_eql, nn_leq, nn_m1, nn_1m, nn_ltm, nn_mlt, nn_mle, nn_lem, nn_cl, nn_in, nn_ns, nn_ns2, nn_nb, nn_nb2, nn_s1, nn_s2, nn_b1, nn_b2]
          grind
      · refine ⟨-1, sX1_instruction_0 M _ l2 hw ?_, iX8_instruction_0 T _ l2 ?_⟩
        · simp (disch := omega) only [f1, p1, nn_add, nn_addl, nn_ladd, nn_mul, nn_lmul, nn_mull, nn_sub, nn_subl, nn_lsub, nn_lt, nn_le, nn_eq, nn_ltl, nn_llt, nn_lel, nn_lle, nn_eql, nn_leq, nn_m1, nn_1m, nn_ltm, nn_mlt, nn_mle, nn_lem, nn_cl, nn_in, nn_ns, nn_ns2, nn_nb, nn_nb2, nn_s1, nn_s2, nn_b1, nn_b2]
          grind
        · by_cases hn : n = 0
          · subst hn
            rw [f2, p2]
            rw [if_neg (by decide), if_neg (by simp (disch := omega) only [nn_add, nn_addl, nn_ladd, nn_mul, nn_lmul, nn_mull, nn_sub, nn_subl, nn_lsub, nn_lt, nn_le, nn_eq, nn_ltl, nn_llt, nn_lel, nn_lle, nn_eql, nn_leq, nn_m1, nn_1m, nn_ltm, nn_mlt, nn_mle, nn_lem, nn_cl, nn_in, nn_ns, nn_ns2, nn_nb, nn_nb2, nn_s1, nn_s2, nn_b1, nn_b2]; omega), if_pos (by rw [show nI 0 - 1 = -1 from rfl, nn_mlt hk]; trivial)]
            exact ⟨rfl, rfl⟩
          · simp (disch := omega) only [f2, p2, nn_add, nn_addl, nn_ladd, nn_mul, nn_lmul, nn_mull, nn_sub, nn_subl, nn_lsub, nn_lt, nn_le, nn_eq, nn_ltl, nn_llt, nn_lel, nn_lle, nn_eql, nn_leq, nn_m1, nn_1m, nn_ltm, nn_mlt, nn_mle, nn_lem, nn_cl, nn_in, nn_ns, nn_ns2, nn_nb, nn_nb2, nn_s1, nn_s2, nn_b1, nn_b2]
            grind
  · have h0 : th = 0 := by omega
    subst h0
    exact ⟨-1, sX1_instruction_0 M l1 l2 hw (by rw [f1, if_pos (by decide)]; exact ⟨rfl, rfl⟩), iX8_instruction_0 T l1 l2 (by rw [f2, if_pos (by decide)]; exact ⟨rfl, rfl⟩)⟩
theorem q_uncaught {l1 : Int32} {th so st : Nat} (hw : cw M) (hf : rFlag M T th so st) (hu : st = 3 → gi M 16 54 = gi T 97 109 ∧ gi M 16 55 = gi T 97 110 ∧ ¬ 7 < gi T 97 109) : zqI E YX1_uncaught YX8_uncaught [vi l1] M T := by
  obtain ⟨-, -, f1, f2, f3, f4⟩ := hf
  by_cases h3 : st = 3
  · obtain ⟨u1, u2, u3⟩ := hu h3
    subst h3
    refine ⟨if l1 = 0 then gi T 97 109 else if l1 = 1 then (if gi T 97 109 < 5 then 0 else gi T 97 110) else -1, iX1_uncaught_0 M l1 hw ?_, iX8_uncaught_0 T l1 ?_⟩
    · rw [f1, if_pos (by decide), u1, u2]
      grind
    · rw [f2, if_pos (by decide)]
      grind
  · refine ⟨-1, iX1_uncaught_0 M l1 hw ?_, iX8_uncaught_0 T l1 ?_⟩
    · rw [f1, if_neg (by simp (disch := omega) only [nn_add, nn_addl, nn_ladd, nn_mul, nn_lmul, nn_mull, nn_sub, nn_subl, nn_lsub, nn_lt, nn_le, nn_eq, nn_ltl, nn_llt, nn_lel, nn_lle, nn_eql, nn_leq, nn_m1, nn_1m, nn_ltm, nn_mlt, nn_mle, nn_lem, nn_cl, nn_in, nn_ns, nn_ns2, nn_nb, nn_nb2, nn_s1, nn_s2, nn_b1, nn_b2]; exact h3)]; exact ⟨rfl, rfl⟩
    · rw [f2, if_neg (by simp (disch := omega) only [nn_add, nn_addl, nn_ladd, nn_mul, nn_lmul, nn_mull, nn_sub, nn_subl, nn_lsub, nn_lt, nn_le, nn_eq, nn_ltl, nn_llt, nn_lel, nn_lle, nn_eql, nn_leq, nn_m1, nn_1m, nn_ltm, nn_mlt, nn_mle, nn_lem, nn_cl, nn_in, nn_ns, nn_ns2, nn_nb, nn_nb2, nn_s1, nn_s2, nn_b1, nn_b2]; exact h3)]; exact ⟨rfl, rfl⟩
end
