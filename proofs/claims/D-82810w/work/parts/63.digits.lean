/-! DIGITS, and the component's unary, sum, binary -/
def nL (n : Nat) : Int64 := Int64.ofNat n
theorem nL_toInt {n : Nat} (h : n < 9223372036854775808) : (nL n).toInt = (n : Int) := Int64.toInt_ofNat_of_lt h
theorem nL_mul (a b : Nat) : nL a * nL b = nL (a * b) := (Int64.ofNat_mul a b).symm
theorem nL_add (a b : Nat) : nL a + nL b = nL (a + b) := (Int64.ofNat_add a b).symm
theorem nL_sub {a b : Nat} (h : b ≤ a) : nL a - nL b = nL (a - b) := by
  have : nL (a - b) + nL b = nL a := by rw [nL_add]; congr 1; omega
  rw [← this, Int64.add_sub_cancel]
theorem nL_div {a b : Nat} (ha : a < 9223372036854775808) (hb : b < 9223372036854775808) : nL a / nL b = nL (a / b) := by
  apply Int64.toInt.inj
  have hd : a / b ≤ a := Nat.div_le_self a b
  rw [Int64.toInt_div, nL_toInt ha, nL_toInt hb, nL_toInt (by omega), show ((a : Int).tdiv (b : Int)) = ((a / b : Nat) : Int) from rfl]
  have h0 : (0 : Int) ≤ ((a / b : Nat) : Int) := Int.natCast_nonneg _
  have h1 : ((a / b : Nat) : Int) ≤ (a : Int) := by exact_mod_cast hd
  generalize ((a / b : Nat) : Int) = z at *
  exact Int.bmod_eq_of_le (by omega) (by omega)
theorem nL_cmp {a b : Nat} (ha : a < 9223372036854775808) (hb : b < 9223372036854775808) : lg_cmp (nL a) (nL b) = if b < a then 1 else if a = b then 0 else -1 := by
  unfold lg_cmp
  have e : (nL a > nL b) = (b < a) := propext ⟨fun h => by have := Int64.lt_iff_toInt_lt.mp h; rw [nL_toInt ha, nL_toInt hb] at this; omega, fun h => Int64.lt_iff_toInt_lt.mpr (by rw [nL_toInt ha, nL_toInt hb]; omega)⟩
  have e2 : (nL a = nL b) = (a = b) := propext ⟨fun h => by have := congrArg Int64.toInt h; rw [nL_toInt ha, nL_toInt hb] at this; omega, fun h => by rw [h]⟩
  by_cases h1 : b < a
  · rw [if_pos h1, if_pos (by rw [e]; exact h1)]
  · rw [if_neg h1, if_neg (by rw [e]; exact h1)]
    by_cases h2 : a = b
    · rw [if_pos h2, if_pos (by rw [e2]; exact h2)]
    · rw [if_neg h2, if_neg (by rw [e2]; exact h2)]
theorem nLc_le0 {a b : Nat} (ha : a < 9223372036854775808) (hb : b < 9223372036854775808) : (lg_cmp (nL a) (nL b) ≤ 0) = (a ≤ b) := by
  rw [nL_cmp ha hb]
  by_cases h1 : b < a
  · rw [if_pos h1]; exact propext ⟨fun h => absurd h (by decide), fun h => by omega⟩
  · rw [if_neg h1]
    by_cases h2 : a = b
    · rw [if_pos h2]; exact propext ⟨fun _ => by omega, fun _ => by decide⟩
    · rw [if_neg h2]; exact propext ⟨fun _ => by omega, fun _ => by decide⟩
theorem nLc_0lt {a b : Nat} (ha : a < 9223372036854775808) (hb : b < 9223372036854775808) : (0 < lg_cmp (nL a) (nL b)) = (b < a) := by
  rw [nL_cmp ha hb]
  by_cases h1 : b < a
  · rw [if_pos h1]; exact propext ⟨fun _ => h1, fun _ => by decide⟩
  · rw [if_neg h1]
    by_cases h2 : a = b
    · rw [if_pos h2]; exact propext ⟨fun h => absurd h (by decide), fun _ => by omega⟩
    · rw [if_neg h2]; exact propext ⟨fun h => absurd h (by decide), fun _ => by omega⟩
theorem nL_eq0 {a : Nat} (ha : a < 9223372036854775808) : (nL a = 0) = (a = 0) := propext ⟨fun h => by have := congrArg Int64.toInt h; rw [nL_toInt ha, show (0 : Int64).toInt = 0 from rfl] at this; omega, fun h => by rw [h]; rfl⟩
theorem nL_l0 : (0 : Int64) = nL 0 := rfl
theorem nL_l9 : (9 : Int64) = nL 9 := rfl
theorem nL_l10 : (10 : Int64) = nL 10 := rfl
theorem nL_l48 : (48 : Int64) = nL 48 := rfl
theorem nL_32 (n : Nat) : (nL n).toInt32 = nI n := Int64.toInt32_ofNat'
/-- digits of n from 10^k down -/
def mdg (n : Nat) : Nat → List Int32
  | 0 => [nI (48 + n % 10)]
  | k + 1 => nI (48 + n / 10 ^ (k + 1) % 10) :: mdg n k
/-- the greatest power -/
def mtop (n : Nat) : Nat → Nat → Nat
  | 0, k => k
  | f + 1, k => if 9 < n / 10 ^ k then mtop n f (k + 1) else k
def mdi (v : Int32) : List Int32 := (if v < 0 then [45] else []) ++ mdg v.toInt.natAbs (mtop v.toInt.natAbs 10 0)
theorem mdg_len (n : Nat) : ∀ k, (mdg n k).length = k + 1
  | 0 => rfl
  | k + 1 => by show (mdg n k).length + 1 = _; rw [mdg_len n k]
theorem mdg_c7 (n : Nat) : ∀ k, ∀ c ∈ mdg n k, c7 c
  | 0, c, h => by
    have : c = nI (48 + n % 10) := by simpa [mdg] using h
    exact ⟨_, by omega, this⟩
  | k + 1, c, h => by
    rcases List.mem_cons.mp h with e | e
    · exact ⟨48 + n / 10 ^ (k + 1) % 10, by omega, e⟩
    · exact mdg_c7 n k c e
theorem mtop_le (n : Nat) : ∀ f k, mtop n f k ≤ k + f
  | 0, k => by unfold mtop; omega
  | f + 1, k => by
    unfold mtop
    split
    · have := mtop_le n f (k + 1); omega
    · omega
theorem mdi_len (v : Int32) : (mdi v).length ≤ 12 := by
  unfold mdi
  rw [List.length_append, mdg_len]
  have := mtop_le v.toInt.natAbs 10 0
  split
  · show 1 + _ ≤ _; omega
  · show 0 + _ ≤ _; omega
theorem mdi_c7 (v : Int32) : ∀ c ∈ mdi v, c7 c := fun c h => by
  rcases List.mem_append.mp h with e | e
  · split at e
    · rw [show c = 45 from by simpa using e]; exact ⟨45, by omega, rfl⟩
    · simp at e
  · exact mdg_c7 _ _ c e
theorem p10 {k : Nat} (h : k ≤ 10) : 10 ^ k ≤ 10000000000 ∧ 1 ≤ 10 ^ k := ⟨Nat.pow_le_pow_right (by decide) h, Nat.pow_pos (by decide)⟩
/-- a digit -/
theorem mdig {n : Nat} : n - n / 10 * 10 = n % 10 := by omega
theorem mabs {v : Int32} : (0 ≤ v → v.toInt64 = nL v.toInt.natAbs) ∧ (¬ 0 ≤ v → -v.toInt64 = nL v.toInt.natAbs) ∧ v.toInt.natAbs ≤ 2147483648 := by
  have h1 := tI_lo v
  have h2 := tI_hi v
  have hb : v.toInt.natAbs ≤ 2147483648 := by omega
  refine ⟨fun h => ?_, fun h => ?_, hb⟩
  · rw [tI_le, show (0 : Int32).toInt = 0 from rfl] at h
    apply Int64.toInt.inj
    rw [Int32.toInt_toInt64, nL_toInt (by omega)]
    omega
  · rw [tI_le, show (0 : Int32).toInt = 0 from rfl] at h
    apply Int64.toInt.inj
    rw [Int64.toInt_neg, Int32.toInt_toInt64, nL_toInt (by omega)]
    rw [Int.bmod_eq_of_le (by omega) (by omega)]
    omega
/-- cells that the twin makes texts in -/
def sct (a k : Nat) : Prop := a = 102 ∨ a = 97 ∧ k = 11
theorem fr.sc {T T' : zM} (h : fr sct T T') : fr scr T T' := h.mono fun a k q => by unfold sct at q; unfold scr; omega
theorem tS_sct {T T' : zM} {L : List (List Int32)} (h : tS T L) (f : fr sct T T') : tS T' L := tS_scr h f.sc
/-- one sign more in the twin's text -/
theorem tT_put {T : zM} {w : List Int32} {x : Int32} (hT : tT T w) (hl : w.length < 200) (hx : c7 x) : vp_in (gi T 97 11) 200 ∧ tT (si (si T 102 (gi T 97 11).toNatClampNeg (vp_nar .char (x.toUInt32 % 65536).toInt32)) 97 11 (gi T 97 11 + 1)) (w ++ [x]) ∧ fr sct T (si (si T 102 (gi T 97 11).toNatClampNeg (vp_nar .char (x.toUInt32 % 65536).toInt32)) 97 11 (gi T 97 11 + 1)) := by
  obtain ⟨t1, t2, t3⟩ := hT
  rw [t1, nn_cl (by omega), c7_p hx]
  refine ⟨by simp (disch := omega) only [nn_add, nn_addl, nn_ladd, nn_mul, nn_lmul, nn_mull, nn_sub, nn_subl, nn_lsub, nn_lt, nn_le, nn_eq, nn_ltl, nn_llt, nn_lel, nn_lle, nn_eql, nn_leq, nn_m1, nn_1m, nn_ltm, nn_mlt, nn_mle, nn_lem, nn_cl, nn_in, nn_ns, nn_ns2, nn_nb, nn_nb2, nn_s1, nn_s2, nn_b1, nn_b2]; exact hl, ⟨?_, by rw [List.length_append]; exact hl, fun k hk => ?_⟩, (fr.si (Or.inl rfl)).tr (fr.si (Or.inr ⟨rfl, rfl⟩))⟩
  · rw [gi_self, List.length_append]
    simp (disch := omega) only [nn_add, nn_addl, nn_ladd, nn_mul, nn_lmul, nn_mull, nn_sub, nn_subl, nn_lsub, nn_lt, nn_le, nn_eq, nn_ltl, nn_llt, nn_lel, nn_lle, nn_eql, nn_leq, nn_m1, nn_1m, nn_ltm, nn_mlt, nn_mle, nn_lem, nn_cl, nn_in, nn_ns, nn_ns2, nn_nb, nn_nb2, nn_s1, nn_s2, nn_b1, nn_b2]
    rfl
  · rw [gi_oth (by decide), getD_app]
    rw [List.length_append] at hk
    by_cases h : k = w.length
    · rw [if_neg (by omega), h, gi_self, Nat.sub_self]; rfl
    · have hlt : k < w.length := by simp at hk; omega
      rw [if_pos hlt, gi_idx h, t3 k hlt]
/-- one sign more in the component's row -/
theorem xR_put {M : zM} {w : List Int32} {x : Int32} (hR : xR M w) (hl : w.length < 256) (hx : c7 x) : ¬ (256 : Int32) ≤ gi M 16 3 ∧ vp_in (gi M 16 3) 256 ∧ xR (si (si M 16 3 (gi M 16 3 + 1)) 20 (gi M 16 3).toNatClampNeg (vp_nar .byte x.toInt8.toInt32)) (w ++ [x]) ∧ fr scx M (si (si M 16 3 (gi M 16 3 + 1)) 20 (gi M 16 3).toNatClampNeg (vp_nar .byte x.toInt8.toInt32)) := by
  obtain ⟨t1, t2, t3⟩ := hR
  rw [t1, nn_cl (by omega), c7_b hx]
  refine ⟨by simp (disch := omega) only [nn_add, nn_addl, nn_ladd, nn_mul, nn_lmul, nn_mull, nn_sub, nn_subl, nn_lsub, nn_lt, nn_le, nn_eq, nn_ltl, nn_llt, nn_lel, nn_lle, nn_eql, nn_leq, nn_m1, nn_1m, nn_ltm, nn_mlt, nn_mle, nn_lem, nn_cl, nn_in, nn_ns, nn_ns2, nn_nb, nn_nb2, nn_s1, nn_s2, nn_b1, nn_b2]; omega, by simp (disch := omega) only [nn_add, nn_addl, nn_ladd, nn_mul, nn_lmul, nn_mull, nn_sub, nn_subl, nn_lsub, nn_lt, nn_le, nn_eq, nn_ltl, nn_llt, nn_lel, nn_lle, nn_eql, nn_leq, nn_m1, nn_1m, nn_ltm, nn_mlt, nn_mle, nn_lem, nn_cl, nn_in, nn_ns, nn_ns2, nn_nb, nn_nb2, nn_s1, nn_s2, nn_b1, nn_b2]; exact hl, ⟨?_, by rw [List.length_append]; exact hl, fun k hk => ?_⟩, (fr.si (by unfold scx; omega)).tr (fr.si (by unfold scx; omega))⟩
  · rw [gi_oth (by decide), gi_self, List.length_append]
    simp (disch := omega) only [nn_add, nn_addl, nn_ladd, nn_mul, nn_lmul, nn_mull, nn_sub, nn_subl, nn_lsub, nn_lt, nn_le, nn_eq, nn_ltl, nn_llt, nn_lel, nn_lle, nn_eql, nn_leq, nn_m1, nn_1m, nn_ltm, nn_mlt, nn_mle, nn_lem, nn_cl, nn_in, nn_ns, nn_ns2, nn_nb, nn_nb2, nn_s1, nn_s2, nn_b1, nn_b2]
    rfl
  · rw [getD_app]
    rw [List.length_append] at hk
    by_cases h : k = w.length
    · rw [if_neg (by omega), h, gi_self, Nat.sub_self]; rfl
    · have hlt : k < w.length := by simp at hk; omega
      rw [if_pos hlt, gi_idx h, gi_oth (by decide), t3 k hlt]
section
variable {E : zE} {d : Nat} {T M : zM} {Q : zO → zM → Prop}
/-- putNumber of the twin -/
theorem tm_putN {v : Int32} {w : List Int32} (hT : tT T w) (hl : w.length + 12 ≤ 200) (hQ : ∀ T', tT T' (w ++ mdi v) → fr sct T T' → Q (.inl none) T') : Zm E YX8_putNumber (d + 1) T [(0, T97), (1, vi v)] 0 [] Q := by
  obtain ⟨a1, a2, a3⟩ := mabs (v := v)
  generalize hn : v.toInt.natAbs = n at *
  have dig : ∀ (k : Nat) (T1 : zM) (u : List Int32), k ≤ 10 → tT T1 u → u.length + k + 1 ≤ 200 → fr sct T T1 → (∀ T', tT T' (u ++ mdg n k) → fr sct T T' → Q (.inl none) T') → Zm E YX8_putNumber (d + 1) T1 [(0, T97), (2, vl (nL n)), (4, vl (nL (10 ^ k)))] 48 [] Q := by
    intro k
    induction k with
    | zero =>
      intro T1 u hk hu hlu f kQ
      refine iX8_putNumber_48 T1 _ _ ?_
      rw [Nat.pow_zero]
      simp (disch := omega) only [nL_l0, nL_l10, nLc_le0, nL_div, nL_mul, nL_sub, nL_32, Nat.div_one, mdig, nn_ladd]
      rw [if_neg (by decide), ← nL_l0, nL_eq0 (by omega)]
      obtain ⟨p1, p2, p3⟩ := tT_put hu (by omega) (x := nI (48 + n % 10)) ⟨_, by omega, rfl⟩
      refine ⟨by decide, p1, ?_⟩
      refine iX8_putNumber_48 _ _ _ ?_
      simp (disch := omega) only [nL_l0, nLc_le0]
      rw [if_pos (by decide)]
      exact kQ _ p2 (f.tr p3)
    | succ k ih =>
      intro T1 u hk hu hlu f kQ
      obtain ⟨q1, q2⟩ := p10 hk
      have hd1 : n / 10 ^ (k + 1) ≤ n := Nat.div_le_self _ _
      have hd2 : 10 ^ (k + 1) / 10 = 10 ^ k := by rw [Nat.pow_succ]; omega
      generalize hP : 10 ^ (k + 1) = P at *
      generalize hD : n / P = D at *
      refine iX8_putNumber_48 T1 _ _ ?_
      simp (disch := omega) only [nL_l0, nL_l10, nLc_le0, nL_div, hD, nL_mul, nL_sub, nL_32, hd2, mdig, nn_ladd]
      rw [if_neg (by omega), ← nL_l0, nL_eq0 (by omega)]
      obtain ⟨p1, p2, p3⟩ := tT_put hu (by omega) (x := nI (48 + D % 10)) ⟨_, by omega, rfl⟩
      refine ⟨by omega, p1, ?_⟩
      refine ih _ _ (by omega) p2 (by rw [List.length_append]; show u.length + 1 + k + 1 ≤ 200; omega) (f.tr p3) (fun T' h1 h2 => kQ T' ?_ h2)
      rw [List.append_assoc] at h1
      have e : mdg n (k + 1) = nI (48 + D % 10) :: mdg n k := by
        show nI (48 + n / 10 ^ (k + 1) % 10) :: mdg n k = _
        rw [hP, hD]
      rw [e]
      exact h1
  have top : ∀ (f k : Nat) (T1 : zM) (u : List Int32), k + f = 10 → mtop n f k = mtop n 10 0 → tT T1 u → u.length + 11 ≤ 200 → fr sct T T1 → (∀ T', tT T' (u ++ mdg n (mtop n 10 0)) → fr sct T T' → Q (.inl none) T') → Zm E YX8_putNumber (d + 1) T1 [(0, T97), (2, vl (nL n)), (4, vl (nL (10 ^ k)))] 26 [] Q := by
    intro f
    induction f with
    | zero =>
      intro k T1 u hk hm hu hlu fr1 kQ
      obtain ⟨q1, q2⟩ := p10 (show k ≤ 10 by omega)
      have hk10 : k = 10 := by omega
      have hm : k = mtop n 10 0 := hm
      have hz : n / 10 ^ k = 0 := Nat.div_eq_of_lt (by rw [hk10]; omega)
      have nxt := dig k T1 u (by omega) hu (by omega) fr1 (by rw [hm]; exact kQ)
      generalize hP : 10 ^ k = P at *
      refine sX8_putNumber_26 T1 _ _ ?_
      simp (disch := omega) only [nL_l9, nL_div, hz, nLc_le0, nL_eq0]
      rw [if_pos (by decide)]
      exact ⟨by omega, nxt⟩
    | succ f ih =>
      intro k T1 u hk hm hu hlu fr1 kQ
      obtain ⟨q1, q2⟩ := p10 (show k ≤ 10 by omega)
      have hd1 : n / 10 ^ k ≤ n := Nat.div_le_self _ _
      have e10 : 10 * 10 ^ k = 10 ^ (k + 1) := by rw [Nat.pow_succ]; omega
      unfold mtop at hm
      refine sX8_putNumber_26 T1 _ _ ?_
      rw [nL_div (by omega) (by omega), nL_eq0 (by omega), nL_l10, nL_mul, e10]
      simp (disch := omega) only [nL_l9, nLc_le0]
      refine ⟨by omega, ?_⟩
      by_cases h9 : 9 < n / 10 ^ k
      · rw [if_neg (by omega)]
        rw [if_pos h9] at hm
        exact ih (k + 1) T1 u (by omega) hm hu hlu fr1 kQ
      · rw [if_pos (by omega)]
        rw [if_neg h9] at hm
        exact dig k T1 u (by omega) hu (by omega) fr1 (by rw [hm]; exact kQ)
  refine iX8_putNumber_0 T _ ?_
  unfold mdi at hQ
  rw [hn] at hQ
  by_cases h0 : 0 ≤ v
  · rw [if_pos h0, a1 h0]
    rw [if_neg (show ¬ v < 0 by rw [i_lt]; exact h0)] at hQ
    exact top 10 0 T w rfl rfl hT (by omega) fr.rf hQ
  · rw [if_neg h0, a2 h0]
    rw [if_pos (show v < 0 by rw [← i_le]; exact h0)] at hQ
    obtain ⟨p1, p2, p3⟩ := tT_put hT (by omega) (x := 45) ⟨45, by omega, rfl⟩
    refine ⟨p1, top 10 0 _ _ rfl rfl p2 (by rw [List.length_append]; show w.length + 1 + 11 ≤ 200; omega) p3 (fun T' h1 h2 => hQ T' (by rw [List.append_assoc] at h1; exact h1) h2)⟩
end
