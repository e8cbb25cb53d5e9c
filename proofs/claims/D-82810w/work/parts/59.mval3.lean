/-! VALUES of the machine: the twin's isEqual, compares, unaryOf, binaryOf -/
/-- cells that the twin's machine works with and keeps nothing in -/
def scr (a k : Nat) : Prop := a = 102 ∨ a = 97 ∧ (k = 11 ∨ k = 111 ∨ k = 112 ∨ k = 113 ∨ k = 114 ∨ k = 115)
theorem scr_97 {k : Nat} (h : k = 11 ∨ k = 111 ∨ k = 112 ∨ k = 113 ∨ k = 114 ∨ k = 115) : scr 97 k := .inr ⟨rfl, h⟩
theorem tS_scr {T T' : zM} {L : List (List Int32)} (h : tS T L) (f : fr scr T T') : tS T' L := by
  refine ⟨(f.2 97 7 (by unfold scr; omega)).1.trans h.1, h.2.1, fun s w hs => ?_⟩
  obtain ⟨h1, h2, h3⟩ := h.2.2 s w hs
  exact ⟨(f.2 101 s (by unfold scr; omega)).1.trans h1, h2, fun k hk => (f.2 100 _ (by unfold scr; omega)).1.trans (h3 k hk)⟩
theorem fr_113 {T : zM} {x : Int32} : fr scr T (si T 97 113 x) := fr.si (scr_97 (by omega))
theorem fr_got {T : zM} {x y : Int32} : fr scr T (si (si T 97 111 x) 97 112 y) := (fr.si (scr_97 (by omega))).tr (fr.si (scr_97 (by omega)))
section
variable {E : zE} {d : Nat} {T : zM} {Q : zO → zM → Prop} {L : List (List Int32)} {ob : Nat}
/-- isEqual -/
theorem tm_eq {s v t w : Int32} (hS : tS T L) (hv : mok L ob s v) (hv' : mok L ob t w) (hQ : ∀ x T', x = bI (meq L s v t w) → fr scr T T' → Q (.inl (some (vi x))) T') : Zm E YX8_isEqual (d + 3) T [(0, T97), (1, vi s), (2, vi v), (3, vi t), (4, vi w)] 0 [] Q := by
  have num : ¬ s ≤ 1 → ¬ t ≤ 1 → ¬ s = 7 → ¬ t = 7 → ¬ (s = 6 ∧ t = 6) → Zm E YX8_numberOf (d + 2) T (zargs 0 [T97, vi s, vi v]) 0 [] (zma E YX8_isEqual (d + 3) [(0, T97), (3, vi t), (4, vi w)] 62 3 [] Q) := fun h1 h2 h3 h4 h5 => by
    have em : meq L s v t w = mo2 (mnV L s v) (mnV L t w) := by
      unfold meq
      rw [if_neg (fun h => h.elim h1 h2), if_neg (fun h => h.elim h3 (fun h => h.elim h4 h5))]
    refine tm_numV hS hv (fun x T1 hx hT1 => ?_)
    have f1 : fr scr T T1 := by rw [hT1]; exact fr_113
    show Zm E YX8_isEqual (d + 3) T1 [(0, T97), (3, vi t), (4, vi w)] 65 [vi x] Q
    refine sX8_isEqual_65 T1 _ _ _ ?_
    refine tm_numV (tS_scr hS f1) hv' (fun y T2 hy hT2 => ?_)
    have f2 : fr scr T T2 := f1.tr (by rw [hT2]; exact fr_113)
    show Zm E YX8_isEqual (d + 3) T2 [(0, T97), (5, vi x), (6, vi (gi T1 97 113))] 80 [vi y] Q
    refine sX8_isEqual_80 T2 _ _ _ ?_
    rw [hT1, hT2, gi_self, gi_self]
    cases ha : mnV L s v with
    | none =>
      rw [if_pos (show bI (none : Option Int32).isSome = 0 from rfl), ← hT2]
      exact hQ _ _ (by rw [em, ha]; rfl) f2
    | some a =>
      rw [if_neg (show ¬ bI (some a).isSome = 0 by show ¬ (1 : Int32) = 0; decide)]
      cases hb : mnV L t w with
      | none =>
        rw [if_pos (show bI (none : Option Int32).isSome = 0 from rfl)]
        rw [hb] at hT2
        rw [← hT2]
        exact hQ _ _ (by rw [em, ha, hb]; rfl) f2
      | some b =>
        rw [if_neg (show ¬ bI (some b).isSome = 0 by show ¬ (1 : Int32) = 0; decide)]
        rw [ha] at hx
        rw [hb] at hy hT2
        rw [← hT2]
        have hxa : x = a := hx
        have hyb : y = b := hy
        rw [hxa, hyb]
        by_cases e : a = b
        · rw [if_pos e]; exact hQ _ _ (by rw [em, ha, hb]; simp [mo2, e, bI]) f2
        · rw [if_neg e]; exact hQ _ _ (by rw [em, ha, hb]; simp [mo2, e, bI]) f2
  have same : ¬ s ≤ 1 → ¬ t ≤ 1 → (s = 7 ∨ t = 7 ∨ (s = 6 ∧ t = 6)) → meq L s v t w = mSame s v t w := fun h1 h2 h3 => by
    unfold meq
    rw [if_neg (fun h => h.elim h1 h2), if_pos h3]
  have least : (s ≤ 1 ∨ t ≤ 1) → Zm E YX8_isEqual (d + 3) T [(1, vi s), (3, vi t)] 10 [] Q := fun h => by
    have em : meq L s v t w = decide (s ≤ 1 ∧ t ≤ 1) := by unfold meq; rw [if_pos h]
    refine sX8_isEqual_10 T _ _ ?_
    by_cases h1 : 1 < s
    · rw [if_pos h1]; exact hQ _ _ (by rw [em, decide_eq_false (fun q => absurd q.1 (by rw [i_le]; exact h1))]; rfl) fr.rf
    · rw [if_neg h1]
      by_cases h2 : 1 < t
      · rw [if_pos h2]; exact hQ _ _ (by rw [em, decide_eq_false (fun q => absurd q.2 (by rw [i_le]; exact h2))]; rfl) fr.rf
      · rw [if_neg h2]; exact hQ _ _ (by rw [em, decide_eq_true ⟨by rw [← i_lt]; exact h1, by rw [← i_lt]; exact h2⟩]; rfl) fr.rf
  have sm : ¬ s ≤ 1 → ¬ t ≤ 1 → (s = 7 ∨ t = 7 ∨ (s = 6 ∧ t = 6)) → (if s = t then (if s = 4 then ((narrow .boolean (.int (0 : Int32)) = .int 0) ∧ Q (.inl (some (vi 0))) T) else (if s < 5 then ((narrow .boolean (.int (1 : Int32)) = .int 1) ∧ Q (.inl (some (vi 1))) T) else (if v = w then ((narrow .boolean (.int (1 : Int32)) = .int 1) ∧ Q (.inl (some (vi 1))) T) else ((narrow .boolean (.int (0 : Int32)) = .int 0) ∧ Q (.inl (some (vi 0))) T)))) else ((narrow .boolean (.int (0 : Int32)) = .int 0) ∧ Q (.inl (some (vi 0))) T)) := fun h1 h2 h3 => by
    have em := same h1 h2 h3
    unfold mSame at em
    by_cases c1 : s = t
    · rw [if_pos c1]
      by_cases c2 : s = 4
      · rw [if_pos c2]; exact ⟨rfl, hQ _ _ (by rw [em]; simp [c2, bI]) fr.rf⟩
      · rw [if_neg c2]
        by_cases c3 : s < 5
        · rw [if_pos c3]; exact ⟨rfl, hQ _ _ (by rw [em, decide_eq_true c1, decide_eq_false c2, decide_eq_true c3]; rfl) fr.rf⟩
        · rw [if_neg c3]
          by_cases c4 : v = w
          · rw [if_pos c4]; exact ⟨rfl, hQ _ _ (by rw [em, decide_eq_true c1, decide_eq_false c2, decide_eq_false c3, decide_eq_true c4]; rfl) fr.rf⟩
          · rw [if_neg c4]; exact ⟨rfl, hQ _ _ (by rw [em, decide_eq_true c1, decide_eq_false c2, decide_eq_false c3, decide_eq_false c4]; rfl) fr.rf⟩
    · rw [if_neg c1]; exact ⟨rfl, hQ _ _ (by rw [em, decide_eq_false c1]; rfl) fr.rf⟩
  refine iX8_isEqual_0 T _ _ _ _ ?_
  by_cases h1 : s ≤ 1
  · rw [if_pos h1]; exact least (.inl h1)
  rw [if_neg h1]
  by_cases h2 : 1 < t
  · rw [if_pos h2]
    have h2' : ¬ t ≤ 1 := by rw [i_le]; exact h2
    by_cases h3 : s = 7
    · rw [if_pos h3]; exact sm h1 h2' (.inl h3)
    rw [if_neg h3]
    by_cases h4 : t = 7
    · rw [if_pos h4]; exact sm h1 h2' (.inr (.inl h4))
    rw [if_neg h4]
    by_cases h5 : s = 6
    · rw [if_pos h5]
      by_cases h6 : t = 6
      · rw [if_pos h6]; exact sm h1 h2' (.inr (.inr ⟨h5, h6⟩))
      · rw [if_neg h6]; exact num h1 h2' h3 h4 (fun q => h6 q.2)
    · rw [if_neg h5]; exact num h1 h2' h3 h4 (fun q => h5 q.1)
  · rw [if_neg h2]; exact least (.inr (by rw [← i_lt]; exact h2))
/-- orderOf: a number of the sign of the order -/
theorem tm_ord {i j : Nat} {x y : List Int32} (hS : tS T L) (hi : L[i]? = some x) (hj : L[j]? = some y) (h7 : ∀ z ∈ L, ∀ c ∈ z, c7 c) (hQ : ∀ r : Int32, (r.toInt < 0 ↔ mso x y < 0) → (r.toInt = 0 ↔ mso x y = 0) → Q (.inl (some (vi r))) T) : Zm E YX8_orderOf d T [(0, T97), (1, vi (nI i)), (2, vi (nI j))] 0 [] Q := by
  have h400 := hS.2.1
  have hil : i < L.length := (List.getElem?_eq_some_iff.mp hi).1
  have hjl : j < L.length := (List.getElem?_eq_some_iff.mp hj).1
  obtain ⟨x1, x2, x3⟩ := hS.2.2 i x hi
  obtain ⟨y1, y2, y3⟩ := hS.2.2 j y hj
  have hx7 : ∀ c ∈ x, c7 c := h7 x (List.mem_of_getElem? hi)
  have hy7 : ∀ c ∈ y, c7 c := h7 y (List.mem_of_getElem? hj)
  have sub : ∀ a b : Nat, a < 1000 → b < 1000 → (nI a - nI b).toInt = (a : Int) - b := fun a b ha hb => by
    rw [tI_sub (by rw [nn_toInt (by omega), nn_toInt (by omega)]; omega) (by rw [nn_toInt (by omega), nn_toInt (by omega)]; omega), nn_toInt (by omega), nn_toInt (by omega)]
  have loop : ∀ (rx ry : List Int32) (k : Nat), x.drop k = rx → y.drop k = ry → k ≤ x.length → k ≤ y.length → mso rx ry = mso x y → Zm E YX8_orderOf d T [(0, T97), (1, vi (nI i)), (2, vi (nI j)), (3, vi (nI k))] 2 [] Q := by
    intro rx
    induction rx with
    | nil =>
      intro ry k e1 e2 hk1 hk2 hm
      have hkx : k = x.length := by have := List.drop_eq_nil_iff.mp e1; omega
      refine sX8_orderOf_2 T _ _ _ ?_
      simp (disch := omega) only [x1, nn_add, nn_addl, nn_ladd, nn_mul, nn_lmul, nn_mull, nn_sub, nn_subl, nn_lsub, nn_lt, nn_le, nn_eq, nn_ltl, nn_llt, nn_lel, nn_lle, nn_eql, nn_leq, nn_m1, nn_1m, nn_ltm, nn_mlt, nn_mle, nn_lem, nn_cl, nn_in, nn_ns, nn_ns2, nn_nb, nn_nb2, nn_s1, nn_s2, nn_b1, nn_b2]
      refine ⟨by omega, ?_⟩
      rw [if_pos (by omega)]
      refine iX8_orderOf_53 T _ _ _ ?_
      simp (disch := omega) only [x1, y1, nn_add, nn_addl, nn_ladd, nn_mul, nn_lmul, nn_mull, nn_sub, nn_subl, nn_lsub, nn_lt, nn_le, nn_eq, nn_ltl, nn_llt, nn_lel, nn_lle, nn_eql, nn_leq, nn_m1, nn_1m, nn_ltm, nn_mlt, nn_mle, nn_lem, nn_cl, nn_in, nn_ns, nn_ns2, nn_nb, nn_nb2, nn_s1, nn_s2, nn_b1, nn_b2]
      refine ⟨by omega, ?_⟩
      rw [if_pos hkx]
      refine ⟨by omega, hQ _ ?_ ?_⟩
      · rw [sub _ _ (by omega) (by omega), ← hm]
        cases ry with
        | nil => have := List.drop_eq_nil_iff.mp e2; unfold mso; omega
        | cons c ry => have := (drop_cons e2).1; unfold mso; omega
      · rw [sub _ _ (by omega) (by omega), ← hm]
        cases ry with
        | nil => have := List.drop_eq_nil_iff.mp e2; unfold mso; omega
        | cons c ry => have := (drop_cons e2).1; unfold mso; omega
    | cons c rx ih =>
      intro ry k e1 e2 hk1 hk2 hm
      obtain ⟨k1, k2, k3⟩ := drop_cons e1
      refine sX8_orderOf_2 T _ _ _ ?_
      simp (disch := omega) only [x1, y1, nn_add, nn_addl, nn_ladd, nn_mul, nn_lmul, nn_mull, nn_sub, nn_subl, nn_lsub, nn_lt, nn_le, nn_eq, nn_ltl, nn_llt, nn_lel, nn_lle, nn_eql, nn_leq, nn_m1, nn_1m, nn_ltm, nn_mlt, nn_mle, nn_lem, nn_cl, nn_in, nn_ns, nn_ns2, nn_nb, nn_nb2, nn_s1, nn_s2, nn_b1, nn_b2]
      refine ⟨by omega, ?_⟩
      rw [if_neg (by omega)]
      refine ⟨by omega, ?_⟩
      cases ry with
      | nil =>
        have hky : k = y.length := by have := List.drop_eq_nil_iff.mp e2; omega
        rw [if_pos (by omega)]
        refine iX8_orderOf_53 T _ _ _ ?_
        simp (disch := omega) only [x1, y1, nn_add, nn_addl, nn_ladd, nn_mul, nn_lmul, nn_mull, nn_sub, nn_subl, nn_lsub, nn_lt, nn_le, nn_eq, nn_ltl, nn_llt, nn_lel, nn_lle, nn_eql, nn_leq, nn_m1, nn_1m, nn_ltm, nn_mlt, nn_mle, nn_lem, nn_cl, nn_in, nn_ns, nn_ns2, nn_nb, nn_nb2, nn_s1, nn_s2, nn_b1, nn_b2]
        refine ⟨by omega, ?_⟩
        rw [if_neg (by omega)]
        refine ⟨by omega, ?_⟩
        rw [if_pos hky]
        refine hQ _ ?_ ?_
        · rw [nn_toInt (by omega), ← hm]; unfold mso; omega
        · rw [nn_toInt (by omega), ← hm]; unfold mso; omega
      | cons e ry =>
        obtain ⟨l1, l2, l3⟩ := drop_cons e2
        rw [if_neg (by omega), x3 k k1, y3 k l1, k2, l2]
        refine ⟨by omega, by omega, ?_⟩
        by_cases hce : c = e
        · rw [if_pos hce]
          exact ih ry (k + 1) k3 l3 (by omega) (by omega) (by rw [← hm]; exact (if_pos hce).symm)
        · rw [if_neg hce]
          refine iX8_orderOf_53 T _ _ _ ?_
          simp (disch := omega) only [x1, y1, nn_add, nn_addl, nn_ladd, nn_mul, nn_lmul, nn_mull, nn_sub, nn_subl, nn_lsub, nn_lt, nn_le, nn_eq, nn_ltl, nn_llt, nn_lel, nn_lle, nn_eql, nn_leq, nn_m1, nn_1m, nn_ltm, nn_mlt, nn_mle, nn_lem, nn_cl, nn_in, nn_ns, nn_ns2, nn_nb, nn_nb2, nn_s1, nn_s2, nn_b1, nn_b2]
          refine ⟨by omega, ?_⟩
          rw [if_neg (by omega)]
          refine ⟨by omega, ?_⟩
          rw [if_neg (by omega), x3 k k1, y3 k l1, k2, l2]
          obtain ⟨nc, hnc, rfl⟩ := hx7 c (by rw [← k2, getD_lt k1]; exact List.getElem_mem k1)
          obtain ⟨ne, hne, rfl⟩ := hy7 e (by rw [← l2, getD_lt l1]; exact List.getElem_mem l1)
          have hn : ¬ nc = ne := fun q => hce (by rw [q])
          have hm2 : mso x y = if nc < ne then -1 else 1 := by
            rw [← hm, show mso (nI nc :: rx) (nI ne :: ry) = if nI nc < nI ne then -1 else 1 from if_neg hce]
            by_cases q : nc < ne
            · rw [if_pos q, if_pos (by simp (disch := omega) only [nn_add, nn_addl, nn_ladd, nn_mul, nn_lmul, nn_mull, nn_sub, nn_subl, nn_lsub, nn_lt, nn_le, nn_eq, nn_ltl, nn_llt, nn_lel, nn_lle, nn_eql, nn_leq, nn_m1, nn_1m, nn_ltm, nn_mlt, nn_mle, nn_lem, nn_cl, nn_in, nn_ns, nn_ns2, nn_nb, nn_nb2, nn_s1, nn_s2, nn_b1, nn_b2]; exact q)]
            · rw [if_neg q, if_neg (by simp (disch := omega) only [nn_add, nn_addl, nn_ladd, nn_mul, nn_lmul, nn_mull, nn_sub, nn_subl, nn_lsub, nn_lt, nn_le, nn_eq, nn_ltl, nn_llt, nn_lel, nn_lle, nn_eql, nn_leq, nn_m1, nn_1m, nn_ltm, nn_mlt, nn_mle, nn_lem, nn_cl, nn_in, nn_ns, nn_ns2, nn_nb, nn_nb2, nn_s1, nn_s2, nn_b1, nn_b2]; exact q)]
          refine ⟨by omega, by omega, hQ _ ?_ ?_⟩
          · rw [sub _ _ (by omega) (by omega), hm2]
            by_cases q : nc < ne
            · rw [if_pos q]; omega
            · rw [if_neg q]; omega
          · rw [sub _ _ (by omega) (by omega), hm2]
            by_cases q : nc < ne
            · rw [if_pos q]; omega
            · rw [if_neg q]; omega
  exact sX8_orderOf_0 T _ _ (loop x y 0 rfl rfl (by omega) (by omega) rfl)
theorem lgc_le (a : Int64) : (lg_cmp a 0 ≤ 0 ↔ ¬ 0 < a.toInt) ∧ (0 ≤ lg_cmp a 0 ↔ ¬ a.toInt < 0) ∧ (0 < lg_cmp a 0 ↔ 0 < a.toInt) ∧ (lg_cmp a 0 < 0 ↔ a.toInt < 0) := by
  have e0 : (0 : Int64).toInt = 0 := rfl
  unfold lg_cmp
  by_cases h1 : a > 0
  · have := Int64.lt_iff_toInt_lt.mp h1
    rw [if_pos h1]
    refine ⟨⟨fun h => absurd h (by decide), fun h => by omega⟩, ⟨fun _ => by omega, fun _ => by decide⟩, ⟨fun _ => by omega, fun _ => by decide⟩, ⟨fun h => absurd h (by decide), fun h => by omega⟩⟩
  · have h1' : ¬ (0 : Int64).toInt < a.toInt := fun q => h1 (Int64.lt_iff_toInt_lt.mpr q)
    rw [if_neg h1]
    by_cases h2 : a = 0
    · rw [if_pos h2, h2]
      exact ⟨by decide, by decide, by decide, by decide⟩
    · have : a.toInt ≠ 0 := fun q => h2 (Int64.toInt.inj (by rw [q]; rfl))
      rw [if_neg h2]
      refine ⟨⟨fun h => by omega, fun h => by decide⟩, ⟨fun h => absurd h (by decide), fun h => by omega⟩, ⟨fun h => absurd h (by decide), fun h => by omega⟩, ⟨fun _ => by omega, fun _ => by decide⟩⟩
/-- the end of compares -/
theorem tm_cmp72 {how : Int32} {u : Int64} {o : Int} (h0 : u.toInt < 0 ↔ o < 0) (h1 : u.toInt = 0 ↔ o = 0) (hQ : ∀ x, x = bI (mct how o) → Q (.inl (some (vi x))) T) : Zm E YX8_compares (d + 1) T [(1, vi how), (6, vl u)] 72 [] Q := by
  obtain ⟨l1, l2, l3, l4⟩ := lgc_le u
  refine sX8_compares_72 T _ _ ?_
  unfold mct at hQ
  by_cases c1 : how = 15
  · rw [if_pos c1]
    simp only [if_pos c1] at hQ
    by_cases c : 0 ≤ lg_cmp u 0
    · rw [if_pos c]; exact hQ _ (by rw [decide_eq_false (fun q => l2.mp c (h0.mpr q))]; rfl)
    · rw [if_neg c]; exact hQ _ (by rw [decide_eq_true (h0.mp (Classical.byContradiction fun q => c (l2.mpr q)))]; rfl)
  rw [if_neg c1]
  simp only [if_neg c1] at hQ
  by_cases c2 : how = 16
  · rw [if_pos c2]
    simp only [if_pos c2] at hQ
    by_cases c : lg_cmp u 0 ≤ 0
    · rw [if_pos c]; have := l1.mp c; exact hQ _ (by rw [decide_eq_false (by omega)]; rfl)
    · rw [if_neg c]; have : ¬ ¬ 0 < u.toInt := fun q => c (l1.mpr q); exact hQ _ (by rw [decide_eq_true (by omega)]; rfl)
  rw [if_neg c2]
  simp only [if_neg c2] at hQ
  by_cases c3 : how = 17
  · rw [if_pos c3]
    simp only [if_pos c3] at hQ
    by_cases c : 0 < lg_cmp u 0
    · rw [if_pos c]; have := l3.mp c; exact hQ _ (by rw [decide_eq_false (by omega)]; rfl)
    · rw [if_neg c]; have : ¬ 0 < u.toInt := fun q => c (l3.mpr q); exact hQ _ (by rw [decide_eq_true (by omega)]; rfl)
  rw [if_neg c3]
  simp only [if_neg c3] at hQ
  by_cases c : lg_cmp u 0 < 0
  · rw [if_pos c]; have := l4.mp c; exact hQ _ (by rw [decide_eq_false (by omega)]; rfl)
  · rw [if_neg c]; have : ¬ u.toInt < 0 := fun q => c (l4.mpr q); exact hQ _ (by rw [decide_eq_true (by omega)]; rfl)
/-- compares -/
theorem tm_cmp {how s v t w : Int32} (hS : tS T L) (h7 : ∀ z ∈ L, ∀ c ∈ z, c7 c) (hv : mok L ob s v) (hv' : mok L ob t w) (hQ : ∀ x T', x = bI (mcp L how s v t w) → fr scr T T' → Q (.inl (some (vi x))) T') : Zm E YX8_compares (d + 3) T [(0, T97), (1, vi how), (2, vi s), (3, vi v), (4, vi t), (5, vi w)] 0 [] Q := by
  have h400 := hS.2.1
  have num : ¬ (s = 6 ∧ t = 6) → Zm E YX8_numberOf (d + 2) T (zargs 0 [T97, vi s, vi v]) 0 [] (zma E YX8_compares (d + 3) [(0, T97), (1, vi how), (4, vi t), (5, vi w)] 32 3 [] Q) := fun h5 => by
    have em : mor L s v t w = (mnV L s v).bind fun a => (mnV L t w).map fun b => if a < b then -1 else if a = b then 0 else 1 := by
      unfold mor; rw [if_neg h5]
    refine tm_numV hS hv (fun x T1 hx hT1 => ?_)
    have f1 : fr scr T T1 := by rw [hT1]; exact fr_113
    show Zm E YX8_compares (d + 3) T1 [(0, T97), (1, vi how), (4, vi t), (5, vi w)] 35 [vi x] Q
    refine sX8_compares_35 T1 _ _ _ _ ?_
    refine tm_numV (tS_scr hS f1) hv' (fun y T2 hy hT2 => ?_)
    have f2 : fr scr T T2 := f1.tr (by rw [hT2]; exact fr_113)
    show Zm E YX8_compares (d + 3) T2 [(0, T97), (1, vi how), (10, vi (gi T1 97 113))] 54 [vi y, vl x.toInt64] Q
    refine sX8_compares_54 T2 _ _ _ _ ?_
    rw [show gi T1 97 113 = bI (mnV L s v).isSome by rw [hT1, gi_self], show gi T2 97 113 = bI (mnV L t w).isSome by rw [hT2, gi_self]]
    cases ha : mnV L s v with
    | none =>
      rw [if_pos (show bI (none : Option Int32).isSome = 0 from rfl)]
      exact hQ _ _ (by unfold mcp; rw [em, ha]; rfl) f2
    | some a =>
      rw [if_neg (show ¬ bI (some a).isSome = 0 by show ¬ (1 : Int32) = 0; decide)]
      cases hb : mnV L t w with
      | none =>
        rw [if_pos (show bI (none : Option Int32).isSome = 0 from rfl)]
        exact hQ _ _ (by unfold mcp; rw [em, ha, hb]; rfl) f2
      | some b =>
        rw [if_neg (show ¬ bI (some b).isSome = 0 by show ¬ (1 : Int32) = 0; decide)]
        rw [ha] at hx
        rw [hb] at hy
        have hxa : x = a := hx
        have hyb : y = b := hy
        subst hxa hyb
        have hsub : (x.toInt64 - y.toInt64).toInt = x.toInt - y.toInt := by
          rw [Int64.toInt_sub, Int32.toInt_toInt64, Int32.toInt_toInt64]
          have := tI_lo x; have := tI_hi x; have := tI_lo y; have := tI_hi y
          exact Int.bmod_eq_of_le (by omega) (by omega)
        have hcp : mcp L how s v t w = mct how (if x < y then -1 else if x = y then 0 else 1) := by unfold mcp; rw [em, ha, hb]; rfl
        refine tm_cmp72 (o := if x < y then -1 else if x = y then 0 else 1) ?_ ?_ (fun z hz => hQ z _ (by rw [hcp]; exact hz) f2)
        · rw [hsub]
          by_cases q : x < y
          · have := q; rw [tI_lt] at this; rw [if_pos q]; omega
          · have := q; rw [tI_lt] at this; rw [if_neg q]
            by_cases q2 : x = y
            · rw [if_pos q2]; omega
            · rw [if_neg q2]; omega
        · rw [hsub]
          by_cases q : x < y
          · have := q; rw [tI_lt] at this; rw [if_pos q]; omega
          · have := q; rw [tI_lt] at this; rw [if_neg q]
            by_cases q2 : x = y
            · rw [if_pos q2, q2]; omega
            · rw [if_neg q2]
              rw [tI_eq] at q2
              omega
  refine sX8_compares_0 T _ _ _ _ _ ?_
  by_cases h1 : s = 6
  · rw [if_pos h1]
    by_cases h2 : t = 6
    · rw [if_pos h2]
      obtain ⟨k, rfl, hk, h6, -⟩ := hv
      obtain ⟨k', rfl, hk', h6', -⟩ := hv'
      have hk6 : k = 6 := by rw [nn_eql (by omega) (by omega)] at h1; exact h1
      have hk6' : k' = 6 := by rw [nn_eql (by omega) (by omega)] at h2; exact h2
      obtain ⟨i, rfl, hi⟩ := h6 hk6
      obtain ⟨j, rfl, hj⟩ := h6' hk6'
      refine tm_ord hS (List.getElem?_eq_getElem hi) (List.getElem?_eq_getElem hj) h7 (fun r hr0 hr1 => ?_)
      show Zm E YX8_compares (d + 3) T [(1, vi how)] 23 [vi r] Q
      refine sX8_compares_23 T _ _ ?_
      have hcp : mcp L how (nI k) (nI i) (nI k') (nI j) = mct how (mso L[i] L[j]) := by
        unfold mcp mor
        rw [if_pos ⟨h1, h2⟩, mtx_at h400 hi, mtx_at h400 hj]
      exact tm_cmp72 (o := mso L[i] L[j]) (by rw [Int32.toInt_toInt64]; exact hr0) (by rw [Int32.toInt_toInt64]; exact hr1) (fun z hz => hQ z _ (by rw [hcp]; exact hz) fr.rf)
    · rw [if_neg h2]; exact num (fun q => h2 q.2)
  · rw [if_neg h1]; exact num (fun q => h1 q.1)
/-- unaryOf -/
theorem tm_un {how s v : Int32} (hS : tS T L) (hv : mok L ob s v) (hQ : ∀ T', fr scr T T' → gi T' 97 111 = (mun L how s v).1 → gi T' 97 112 = (mun L how s v).2 → Q (.inl none) T') : Zm E YX8_unaryOf (d + 3) T [(0, T97), (1, vi how), (2, vi s), (3, vi v)] 0 [] Q := by
  have fin : ∀ (T1 : zM) (a b : Int32), fr scr T T1 → mun L how s v = (a, b) → Q (.inl none) (si (si T1 97 111 a) 97 112 b) := fun T1 a b f e =>
    hQ _ (f.tr fr_got) (by rw [gi_idx (by decide), gi_self, e]) (by rw [gi_self, e])
  refine sX8_unaryOf_0 T _ _ _ ?_
  by_cases h3 : how = 3
  · rw [if_pos h3]
    have em : mun L how s v = mtv (!(mtr L s v)) := by unfold mun; rw [if_pos h3]
    refine tm_true hS hv ?_
    show Zm E YX8_unaryOf (d + 3) T [] 12 [vi (bI (mtr L s v)), T97] Q
    refine iX8_unaryOf_12 T _ ?_
    cases hb : mtr L s v with
    | false => rw [bI_f, if_pos rfl]; exact fin _ _ _ fr.rf (by rw [em, hb]; rfl)
    | true => rw [bI_t, if_neg (by decide)]; exact fin _ _ _ fr.rf (by rw [em, hb]; rfl)
  rw [if_neg h3]
  refine tm_numV hS hv (fun x T1 hx hT1 => ?_)
  have f1 : fr scr T T1 := by rw [hT1]; exact fr_113
  show Zm E YX8_unaryOf (d + 3) T1 [(0, T97), (1, vi how)] 30 [vi x] Q
  refine iX8_unaryOf_30 T1 _ _ ?_
  rw [show gi T1 97 113 = bI (mnV L s v).isSome by rw [hT1, gi_self]]
  by_cases h2 : how = 2
  · rw [if_pos h2]
    have em : mun L how s v = (5, (mnV L s v).getD 0 ^^^ -1) := by unfold mun; rw [if_neg h3, if_pos h2]
    cases ha : mnV L s v with
    | none => rw [if_pos (show bI (none : Option Int32).isSome = 0 from rfl)]; exact fin _ _ _ f1 (by rw [em, ha]; rfl)
    | some a => rw [if_neg (show ¬ bI (some a).isSome = 0 by show ¬ (1 : Int32) = 0; decide)]; exact fin _ _ _ f1 (by rw [em, hx])
  · rw [if_neg h2]
    have em : mun L how s v = mo1 how (mnV L s v) := by unfold mun; rw [if_neg h3, if_neg h2]
    cases ha : mnV L s v with
    | none => rw [if_pos (show bI (none : Option Int32).isSome = 0 from rfl)]; exact fin _ _ _ f1 (by rw [em, ha]; rfl)
    | some a =>
      rw [if_neg (show ¬ bI (some a).isSome = 0 by show ¬ (1 : Int32) = 0; decide)]
      have hxa : x = a := by rw [hx, ha]; rfl
      subst hxa
      by_cases h0 : how = 0
      · rw [if_pos h0]; exact fin _ _ _ f1 (by rw [em, ha]; exact if_pos h0)
      · rw [if_neg h0]; exact fin _ _ _ f1 (by rw [em, ha]; exact if_neg h0)
end
