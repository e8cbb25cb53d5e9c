/-! VALUES of the machine: the component's equal, order, unary, sum, binary -/
section
variable {E : zE} {d : Nat} {M : zM} {Q : zO → zM → Prop} {L : List (List Int32)} {ob : Nat}
theorem b0s (a : Int32) : ¬ bI (some a).isSome = 0 := by show ¬ (1 : Int32) = 0; decide
theorem bns : bI (none : Option Int32).isSome = 0 := rfl
/-- equal -/
theorem xm_eq {s v t w : Int32} (hw : cw M) (hx : xtx M L) (hv : mok L ob s v) (hv' : mok L ob t w) (hQ : ∀ x M', x = bI (meq L s v t w) → fr scx M M' → Q (.inl (some (vi x))) M') : Z E YX1_equal (d + 3) M [(0, zX16), (1, vi s), (2, vi v), (3, vi t), (4, vi w)] 0 [] Q := by
  have le1 : ∀ x : Int32, (2 ≤ x) = ¬ (x ≤ 1) := fun x => by
    rw [tI_le, tI_le, show (2 : Int32).toInt = 2 from rfl, show (1 : Int32).toInt = 1 from rfl]
    exact propext (by omega)
  have at34 : ∀ a b : Bool, (a = true ∨ b = true) → a = decide (s ≤ 1) → b = decide (t ≤ 1) → Z E YX1_equal (d + 3) M [(5, vi (bI a)), (6, vi (bI b))] 34 [] Q := fun a b hab ha hb => by
    have em : meq L s v t w = (a && b) := by
      unfold meq
      rw [if_pos (by
        rcases hab with h | h
        · left; exact of_decide_eq_true (by rw [← ha]; exact h)
        · right; exact of_decide_eq_true (by rw [← hb]; exact h)), ha, hb]
      by_cases h1 : s ≤ 1 <;> by_cases h2 : t ≤ 1 <;> simp [h1, h2]
    refine sX1_equal_34 M _ _ hw ?_
    cases a with
    | false => rw [bI_f, if_pos rfl]; exact hQ _ _ (by rw [em]; rfl) fr.rf
    | true =>
      rw [bI_t, if_neg (by decide)]
      cases b with
      | false => rw [bI_f, if_pos rfl]; exact hQ _ _ (by rw [em]; rfl) fr.rf
      | true => rw [bI_t, if_neg (by decide)]; exact hQ _ _ (by rw [em]; rfl) fr.rf
  have at22 : ∀ a b : Bool, a = decide (s ≤ 1) → b = decide (t ≤ 1) → Z E YX1_equal (d + 3) M [(0, zX16), (1, vi s), (2, vi v), (3, vi t), (4, vi w), (5, vi (bI a))] 22 [vi (bI b)] Q := fun a b ha hb => by
    refine sX1_equal_22 M _ _ _ _ _ _ hw ?_
    cases a with
    | true => rw [bI_t, if_neg (by decide)]; exact at34 true b (.inl rfl) ha hb
    | false =>
      rw [bI_f, if_pos rfl]
      cases b with
      | true => rw [bI_t, if_neg (by decide)]; exact at34 false true (.inr rfl) ha hb
      | false =>
        rw [bI_f, if_pos rfl]
        have n1 : ¬ s ≤ 1 := of_decide_eq_false ha.symm
        have n2 : ¬ t ≤ 1 := of_decide_eq_false hb.symm
        -- the sorts that are told apart
        have at90 : ∀ a' b' : Int32, a' = (if s = 3 then 2 else if s = 4 then 5 else s) → b' = (if t = 3 then 2 else if t = 4 then 5 else t) → Z E YX1_equal (d + 3) M [(0, zX16), (1, vi s), (2, vi v), (3, vi t), (4, vi w), (7, vi a')] 90 [vi b'] Q := fun a' b' ea eb => by
          refine iX1_equal_90 M _ _ _ _ _ _ hw ?_
          obtain ⟨k, rfl, hk, h6, h7⟩ := id hv
          obtain ⟨k', rfl, hk', h6', h7'⟩ := id hv'
          by_cases hab : a' = b'
          · rw [if_pos hab]
            -- they are of one kind: then the same is meant
            have em : meq L (nI k) v (nI k') w = mSame (nI k) v (nI k') w := by
              unfold meq
              rw [if_neg (fun h => h.elim n1 n2)]
              by_cases c : nI k = 7 ∨ nI k' = 7 ∨ (nI k = 6 ∧ nI k' = 6)
              · rw [if_pos c]
              · rw [if_neg c]
                have hc : k = 2 ∨ k = 3 ∨ k = 4 ∨ k = 5 ∨ k = 6 ∨ k = 7 := by
                  rw [nn_lel (by omega) (by omega)] at n1; omega
                have hc' : k' = 2 ∨ k' = 3 ∨ k' = 4 ∨ k' = 5 ∨ k' = 6 ∨ k' = 7 := by
                  rw [nn_lel (by omega) (by omega)] at n2; omega
                rw [ea, eb] at hab
                rcases hc with rfl | rfl | rfl | rfl | rfl | rfl <;> rcases hc' with rfl | rfl | rfl | rfl | rfl | rfl <;>
                  first
                    | (exact absurd hab (by decide))
                    | (exact absurd (by decide) c)
                    | (simp only [mnV_2, mnV_3, mnV_4, mnV_5]; unfold mo2 mSame; first | rfl | (by_cases q : v = w <;> simp [q] <;> decide))
            unfold mSame at em
            by_cases c1 : nI k = nI k'
            · rw [if_pos c1]
              by_cases c2 : nI k = 4
              · rw [if_pos c2]; exact ⟨rfl, hQ _ _ (by rw [em]; simp [c2, bI]) fr.rf⟩
              · rw [if_neg c2]
                by_cases c3 : nI k < 5
                · rw [if_pos c3]; exact ⟨rfl, hQ _ _ (by rw [em, decide_eq_true c1, decide_eq_false c2, decide_eq_true c3]; rfl) fr.rf⟩
                · rw [if_neg c3]
                  by_cases c4 : v = w
                  · rw [if_pos c4]; exact ⟨rfl, hQ _ _ (by rw [em, decide_eq_true c1, decide_eq_false c2, decide_eq_false c3, decide_eq_true c4]; rfl) fr.rf⟩
                  · rw [if_neg c4]; exact ⟨rfl, hQ _ _ (by rw [em, decide_eq_true c1, decide_eq_false c2, decide_eq_false c3, decide_eq_false c4]; rfl) fr.rf⟩
            · rw [if_neg c1]; exact ⟨rfl, hQ _ _ (by rw [em, decide_eq_false c1]; rfl) fr.rf⟩
          · rw [if_neg hab]
            have hne : ¬ nI k = nI k' := fun q => hab (by rw [ea, eb, q])
            by_cases c7 : nI k = 7
            · rw [if_pos c7]
              refine hQ _ _ ?_ fr.rf
              unfold meq mSame
              rw [if_neg (fun h => h.elim n1 n2), if_pos (.inl c7), decide_eq_false hne]; rfl
            rw [if_neg c7]
            by_cases c7' : nI k' = 7
            · rw [if_pos c7']
              refine hQ _ _ ?_ fr.rf
              unfold meq mSame
              rw [if_neg (fun h => h.elim n1 n2), if_pos (.inr (.inl c7')), decide_eq_false hne]; rfl
            rw [if_neg c7']
            have em : meq L (nI k) v (nI k') w = mo2 (mnV L (nI k) v) (mnV L (nI k') w) := by
              unfold meq
              rw [if_neg (fun h => h.elim n1 n2), if_neg (fun h => h.elim c7 (fun h => h.elim c7' (fun h => hne (by rw [h.1, h.2]))))]
            refine xm_numV hw hx hv (fun x M1 hx1 f1 g1 => ?_)
            show Z E YX1_equal (d + 3) M1 [(0, zX16), (3, vi (nI k')), (4, vi w)] 128 [vi x] Q
            refine sX1_equal_128 M1 _ _ _ (cw_scx hw f1) ?_
            rw [hx1]
            cases ha' : mnV L (nI k) v with
            | none => rw [if_pos bns]; exact hQ _ _ (by rw [em, ha']; rfl) f1
            | some n =>
              rw [if_neg (b0s n)]
              refine xm_numV (cw_scx hw f1) (xtx_scx hx f1) hv' (fun y M2 hy1 f2 g2 => ?_)
              show Z E YX1_equal (d + 3) M2 [(0, zX16), (9, vi (gi M1 16 32))] 146 [vi y] Q
              refine sX1_equal_146 M2 _ _ (cw_scx (cw_scx hw f1) f2) ?_
              rw [hy1, g1 n ha']
              cases hb' : mnV L (nI k') w with
              | none => rw [if_pos bns]; exact hQ _ _ (by rw [em, ha', hb']; rfl) (f1.tr f2)
              | some m =>
                rw [if_neg (b0s m), g2 m hb']
                by_cases q : m = n
                · rw [if_pos q]; exact hQ _ _ (by rw [em, ha', hb']; simp [mo2, q, bI]) (f1.tr f2)
                · rw [if_neg q]; exact hQ _ _ (by rw [em, ha', hb']; have : ¬ n = m := fun z => q z.symm; simp [mo2, this, bI]) (f1.tr f2)
        have at69 : ∀ a' : Int32, a' = (if s = 3 then 2 else if s = 4 then 5 else s) → Z E YX1_equal (d + 3) M [(0, zX16), (1, vi s), (2, vi v), (3, vi t), (4, vi w)] 69 [vi a'] Q := fun a' ea => by
          refine sX1_equal_69 M _ _ _ _ _ hw ?_
          by_cases c3 : t = 3
          · rw [if_pos c3]; exact at90 _ _ ea (by rw [if_pos c3])
          rw [if_neg c3]
          by_cases c4 : t = 4
          · rw [if_pos c4]; exact at90 _ _ ea (by rw [if_neg c3, if_pos c4])
          rw [if_neg c4]; exact at90 _ _ ea (by rw [if_neg c3, if_neg c4])
        by_cases c3 : s = 3
        · rw [if_pos c3]; exact at69 _ (by rw [if_pos c3])
        rw [if_neg c3]
        by_cases c4 : s = 4
        · rw [if_pos c4]; exact at69 _ (by rw [if_neg c3, if_pos c4])
        rw [if_neg c4]; exact at69 _ (by rw [if_neg c3, if_neg c4])
  refine sX1_equal_0 M _ _ _ _ hw ?_
  simp only [le1]
  by_cases h1 : s ≤ 1
  · rw [if_neg (fun q => q h1)]
    by_cases h2 : t ≤ 1
    · rw [if_neg (fun q => q h2)]; exact at22 true true (decide_eq_true h1).symm (decide_eq_true h2).symm
    · rw [if_pos h2]; exact at22 true false (decide_eq_true h1).symm (decide_eq_false h2).symm
  · rw [if_pos h1]
    by_cases h2 : t ≤ 1
    · rw [if_neg (fun q => q h2)]; exact at22 false true (decide_eq_false h1).symm (decide_eq_true h2).symm
    · rw [if_pos h2]; exact at22 false false (decide_eq_false h1).symm (decide_eq_false h2).symm
/-- order: -1, 0, 1, or 2 if one is no number -/
theorem xm_ord {s v t w : Int32} (hw : cw M) (hx : xtx M L) (hv : mok L ob s v) (hv' : mok L ob t w) (hQ : ∀ r M', r = (match mor L s v t w with | some o => if o < 0 then -1 else if o = 0 then 0 else 1 | none => (2 : Int32)) → fr scx M M' → Q (.inl (some (vi r))) M') : Z E YX1_order (d + 3) M [(0, zX16), (1, vi s), (2, vi v), (3, vi t), (4, vi w)] 0 [] Q := by
  obtain ⟨t1, t2, -, t4, -⟩ := id hx
  have num : ¬ (s = 6 ∧ t = 6) → Z E YX1_hasNumber (d + 2) M (zargs 0 [zX16, vi s, vi v]) 0 [] (zafter E YX1_order (d + 3) [(0, zX16), (3, vi t), (4, vi w)] 128 3 [] Q) := fun h5 => by
    have em : mor L s v t w = (mnV L s v).bind fun a => (mnV L t w).map fun b => if a < b then -1 else if a = b then 0 else 1 := by
      unfold mor; rw [if_neg h5]
    rw [em] at hQ
    refine xm_numV hw hx hv (fun x M1 hx1 f1 g1 => ?_)
    show Z E YX1_order (d + 3) M1 [(0, zX16), (3, vi t), (4, vi w)] 131 [vi x] Q
    refine sX1_order_131 M1 _ _ _ (cw_scx hw f1) ?_
    rw [hx1]
    cases ha : mnV L s v with
    | none => rw [if_pos bns]; exact hQ _ _ (by rw [ha]; rfl) f1
    | some a =>
      rw [if_neg (b0s a)]
      refine xm_numV (cw_scx hw f1) (xtx_scx hx f1) hv' (fun y M2 hy1 f2 g2 => ?_)
      show Z E YX1_order (d + 3) M2 [(0, zX16), (5, vi (gi M1 16 32))] 149 [vi y] Q
      refine iX1_order_149 M2 _ _ (cw_scx (cw_scx hw f1) f2) ?_
      rw [hy1, g1 a ha]
      cases hb : mnV L t w with
      | none => rw [if_pos bns]; exact hQ _ _ (by rw [ha, hb]; rfl) (f1.tr f2)
      | some b =>
        rw [if_neg (b0s b), g2 b hb]
        have hr : ∀ r : Int32, r = (if (if a < b then (-1 : Int) else if a = b then 0 else 1) < 0 then -1 else if (if a < b then (-1 : Int) else if a = b then 0 else 1) = 0 then 0 else (1 : Int32)) → Q (.inl (some (vi r))) M2 := fun r hr => hQ r M2 (by rw [ha, hb]; exact hr) (f1.tr f2)
        by_cases q : b ≤ a
        · have q' : ¬ a < b := by rw [i_lt]; exact q
          rw [if_pos q]
          by_cases q2 : a = b
          · rw [if_pos q2]; exact hr _ (by rw [if_neg q', if_pos q2]; rfl)
          · rw [if_neg q2]; exact hr _ (by rw [if_neg q', if_neg q2]; rfl)
        · have q' : a < b := by rw [← i_le]; exact q
          rw [if_neg q]; exact hr _ (by rw [if_pos q']; rfl)
  refine iX1_order_0 M _ _ _ _ hw ?_
  by_cases h1 : s = 6
  · rw [if_pos h1]
    by_cases h2 : t = 6
    · rw [if_pos h2]
      obtain ⟨k, rfl, hk, h6, -⟩ := hv
      obtain ⟨k', rfl, hk', h6', -⟩ := hv'
      have hk6 : k = 6 := by rw [nn_eql (by omega) (by omega)] at h1; exact h1
      have hk6' : k' = 6 := by rw [nn_eql (by omega) (by omega)] at h2; exact h2
      obtain ⟨i, rfl, hi⟩ := h6 hk6
      obtain ⟨j, rfl, hj⟩ := h6' hk6'
      obtain ⟨o, o1, o2, o3, o4, o5⟩ := xtx_at hx hi
      obtain ⟨p, p1, p2, p3, p4, p5⟩ := xtx_at hx hj
      have hcp : mor L (nI k) (nI i) (nI k') (nI j) = some (mso L[i] L[j]) := by
        unfold mor
        rw [if_pos ⟨h1, h2⟩, mtx_at t4 hi, mtx_at t4 hj]
      rw [hcp] at hQ
      have hil : i < 400 := by omega
      have hjl : j < 400 := by omega
      generalize L[i] = x at *
      generalize L[j] = y at *
      have loop : ∀ (n : Nat), n = (if y.length < x.length then y.length else x.length) → ∀ (rx ry : List Int32) (k : Nat), x.drop k = rx → y.drop k = ry → k ≤ x.length → k ≤ y.length → mso rx ry = mso x y → Z E YX1_order (d + 3) M [(0, zX16), (2, vi (nI i)), (4, vi (nI j)), (5, vi (nI n)), (6, vi (nI k))] 37 [] Q := by
        intro n hn rx
        have hn1 : n ≤ x.length ∧ n ≤ y.length ∧ (n = x.length ∨ n = y.length) := by
          rw [hn]; split <;> omega
        induction rx with
        | nil =>
          intro ry k e1 e2 hk1 hk2 hm
          have hkx : k = x.length := by have := List.drop_eq_nil_iff.mp e1; omega
          refine iX1_order_37 M _ _ _ _ hw ?_
          simp (disch := omega) only [nn_add, nn_addl, nn_ladd, nn_mul, nn_lmul, nn_mull, nn_sub, nn_subl, nn_lsub, nn_lt, nn_le, nn_eq, nn_ltl, nn_llt, nn_lel, nn_lle, nn_eql, nn_leq, nn_m1, nn_1m, nn_ltm, nn_mlt, nn_mle, nn_lem, nn_cl, nn_in, nn_ns, nn_ns2, nn_nb, nn_nb2, nn_s1, nn_s2, nn_b1, nn_b2]
          rw [if_pos (show n ≤ k by omega)]
          refine ⟨18, 2201, t1, ?_⟩
          simp (disch := omega) only [o1, o2, p1, p2, nn_add, nn_addl, nn_ladd, nn_mul, nn_lmul, nn_mull, nn_sub, nn_subl, nn_lsub, nn_lt, nn_le, nn_eq, nn_ltl, nn_llt, nn_lel, nn_lle, nn_eql, nn_leq, nn_m1, nn_1m, nn_ltm, nn_mlt, nn_mle, nn_lem, nn_cl, nn_in, nn_ns, nn_ns2, nn_nb, nn_nb2, nn_s1, nn_s2, nn_b1, nn_b2]
          refine ⟨by omega, by omega, by omega, by omega, ?_⟩
          rw [show p + y.length - p = y.length by omega, show o + x.length - o = x.length by omega]
          have hms : mso x y = if x.length = y.length then 0 else -1 := by
            rw [← hm]
            cases ry with
            | nil => have := List.drop_eq_nil_iff.mp e2; rw [if_pos (by omega)]; rfl
            | cons c ry => have := (drop_cons e2).1; rw [if_neg (by omega)]; rfl
          by_cases q : y.length ≤ x.length
          · rw [if_pos q]
            have q2 : x.length = y.length := by omega
            rw [if_pos q2]
            exact hQ _ _ (by rw [hms, if_pos q2]; rfl) fr.rf
          · rw [if_neg q]
            exact hQ _ _ (by rw [hms, if_neg (by omega)]; rfl) fr.rf
        | cons c rx ih =>
          intro ry k e1 e2 hk1 hk2 hm
          obtain ⟨k1, k2, k3⟩ := drop_cons e1
          refine iX1_order_37 M _ _ _ _ hw ?_
          simp (disch := omega) only [nn_add, nn_addl, nn_ladd, nn_mul, nn_lmul, nn_mull, nn_sub, nn_subl, nn_lsub, nn_lt, nn_le, nn_eq, nn_ltl, nn_llt, nn_lel, nn_lle, nn_eql, nn_leq, nn_m1, nn_1m, nn_ltm, nn_mlt, nn_mle, nn_lem, nn_cl, nn_in, nn_ns, nn_ns2, nn_nb, nn_nb2, nn_s1, nn_s2, nn_b1, nn_b2]
          cases ry with
          | nil =>
            have hky : k = y.length := by have := List.drop_eq_nil_iff.mp e2; omega
            rw [if_pos (show n ≤ k by omega)]
            refine ⟨18, 2201, t1, ?_⟩
            simp (disch := omega) only [o1, o2, p1, p2, nn_add, nn_addl, nn_ladd, nn_mul, nn_lmul, nn_mull, nn_sub, nn_subl, nn_lsub, nn_lt, nn_le, nn_eq, nn_ltl, nn_llt, nn_lel, nn_lle, nn_eql, nn_leq, nn_m1, nn_1m, nn_ltm, nn_mlt, nn_mle, nn_lem, nn_cl, nn_in, nn_ns, nn_ns2, nn_nb, nn_nb2, nn_s1, nn_s2, nn_b1, nn_b2]
            refine ⟨by omega, by omega, by omega, by omega, ?_⟩
            rw [show p + y.length - p = y.length by omega, show o + x.length - o = x.length by omega, if_pos (by omega), if_neg (by omega)]
            exact hQ _ _ (by rw [← hm]; rfl) fr.rf
          | cons e ry =>
            obtain ⟨l1, l2, l3⟩ := drop_cons e2
            rw [if_neg (show ¬ n ≤ k by omega)]
            refine ⟨18, 2201, t1, ?_⟩
            simp (disch := omega) only [o1, p1, nn_add, nn_addl, nn_ladd, nn_mul, nn_lmul, nn_mull, nn_sub, nn_subl, nn_lsub, nn_lt, nn_le, nn_eq, nn_ltl, nn_llt, nn_lel, nn_lle, nn_eql, nn_leq, nn_m1, nn_1m, nn_ltm, nn_mlt, nn_mle, nn_lem, nn_cl, nn_in, nn_ns, nn_ns2, nn_nb, nn_nb2, nn_s1, nn_s2, nn_b1, nn_b2]
            refine ⟨by omega, 19, 40000, t2, by omega, by omega, by omega, ?_⟩
            rw [o5 k k1, p5 k l1, k2, l2]
            by_cases hce : c = e
            · rw [if_pos hce]
              exact ih ry (k + 1) k3 l3 (by omega) (by omega) (by rw [← hm]; exact (if_pos hce).symm)
            · rw [if_neg hce]
              have hm2 : mso x y = if c < e then -1 else 1 := by rw [← hm]; exact if_neg hce
              by_cases q : e ≤ c
              · rw [if_pos q]
                exact hQ _ _ (by rw [hm2, if_neg (by rw [i_lt]; exact q)]; rfl) fr.rf
              · rw [if_neg q]
                exact hQ _ _ (by rw [hm2, if_pos (by rw [← i_le]; exact q)]; rfl) fr.rf
      refine ⟨18, 2201, t1, ?_⟩
      simp (disch := omega) only [o1, o2, p1, p2, nn_add, nn_addl, nn_ladd, nn_mul, nn_lmul, nn_mull, nn_sub, nn_subl, nn_lsub, nn_lt, nn_le, nn_eq, nn_ltl, nn_llt, nn_lel, nn_lle, nn_eql, nn_leq, nn_m1, nn_1m, nn_ltm, nn_mlt, nn_mle, nn_lem, nn_cl, nn_in, nn_ns, nn_ns2, nn_nb, nn_nb2, nn_s1, nn_s2, nn_b1, nn_b2]
      refine ⟨by omega, by omega, by omega, by omega, ?_⟩
      rw [show p + y.length - p = y.length by omega, show o + x.length - o = x.length by omega]
      by_cases q : y.length < x.length
      · rw [if_pos q]; exact loop _ (by rw [if_pos q]) x y 0 rfl rfl (by omega) (by omega) rfl
      · rw [if_neg q]; exact loop _ (by rw [if_neg q]) x y 0 rfl rfl (by omega) (by omega) rfl
    · rw [if_neg h2]; exact num (fun q => h2 q.2)
  · rw [if_neg h1]; exact num (fun q => h1 q.1)
end
