/-! NATIVES of the twin that want a this -/
section
variable {E : zE} {d : Nat} {T M : zM} {Q : zO → zM → Prop} {A : mA} {r : mF} {F : List mF}
theorem tw_err {n : Nat} {l1 l3 l4 l5 : Int32} (g : gT T A (r :: F)) (i : iA A) (ok : mFok (r :: F)) (hh : mTh (r :: F)) (hQ : vT Q T (m_err A 0) n r F) : Zm E YX8_nativeWith (d + 5) T [(0, T97), (1, vi l1), (3, vi l3), (4, vi l4), (5, vi l5)] 47 [vi 0] (zma E YX8_nativeOf (d + 6) [(0, T97), (4, vi (nI n))] 238 3 [] Q) := by
  refine sX8_nativeWith_47 T _ _ _ _ _ ?_
  rw [if_pos rfl]
  refine vT_err (d := d + 1) (m := 0) (vT_out hQ (fun T' q => ?_)) rfl g i ok hh (by omega)
  show Zm E YX8_nativeWith (d + 5) T' [] 60 [] _
  refine sX8_nativeWith_60 T' ?_
  show Zm E YX8_nativeOf (d + 6) T' [(0, T97), (4, vi (nI n))] 241 [vi 0] Q
  exact iX8_nativeOf_241 T' _ _ (by rw [if_pos rfl]; exact q)
theorem tw_end {n : Nat} (k : Zm E YX8_gives (d + 5) T [(0, T97), (1, vi (nI n))] 0 [] (zma E YX8_nativeOf (d + 6) [] 313 3 [] Q)) : Zm E YX8_nativeOf (d + 6) T [(0, T97), (4, vi (nI n))] 241 [vi 1] Q := iX8_nativeOf_241 T _ _ (by rw [if_neg (by decide)]; exact k)
theorem tg_len {j : Nat} (g : gT T A (r :: F)) (i : iA A) (hiL : iL A) (hj : j < aO A) (c2 : gi (aT A) 141 j = 2) (hQ : ∀ q m, q ∈ aP A j → m_own A j 0 = nI q → q < 3000 → gi (aT A) 147 q = nI m → m ≤ 100 → gi (aT A) 146 q = 5 → Q (.inl (some (vi (nI m)))) T) : Zm E YX8_lengthOf (d + 1) T [(0, T97), (1, vi (nI j))] 0 [] Q := by
  obtain ⟨q, m, hq, hq3, e0, e5, em, hm, -, -⟩ := iL_len (n := 0) i hiL hj c2 (by omega)
  have eo : m_own A j 0 = nI q := e0
  refine sX8_lengthOf_0 T _ ?_
  refine tA_own g.1 i hj ?_
  rw [eo]
  show Zm E YX8_lengthOf (d + 1) T [] 10 [vi (nI q), vr (some (147, 100, 3000))] Q
  refine sX8_lengthOf_10 T _ ?_
  rw [nn_cl (n := q) (by omega), g.1.1 147 q (by unfold hpT; omega), em]
  exact ⟨by rw [nn_in (by omega)]; omega, hQ q m hq eo hq3 em hm e5⟩
theorem tn_21 {n : Nat} {ts tv s v : Int32} (g : gT T A (r :: F)) (i : iA A) (ok : mFok (r :: F)) (hh : mTh (r :: F)) (hn : n ≤ r.st.length) (hv : mval A s v) (ht : mval A ts tv) (hQ : vT Q T (m_has A ts tv s v) n r F) : Zm E YX8_nativeOf (d + 6) T [(0, T97), (1, vi 21), (2, vi ts), (3, vi tv), (4, vi (nI n)), (5, vi s)] 12 [vi v] Q := by
  have hob := i.1.1.2
  have go := vT_out hQ (Q' := zma E YX8_nativeOf (d + 6) [] 313 3 [] Q) (fun T' q => sX8_nativeOf_316 T' q)
  refine iX8_nativeOf_12 T _ _ _ _ _ _ ?_
  repeat rw [if_neg (by decide)]
  rw [if_pos rfl]
  unfold m_has at hQ go
  refine sX8_nativeWith_0 T _ _ _ _ _ ?_
  rw [if_neg (by decide)]
  by_cases c7 : ts = 7
  · rw [if_pos c7] at go ⊢
    rw [if_pos rfl]
    obtain ⟨kk, ek, hkk, k6, k7⟩ := ht.1
    obtain ⟨j, ej, hj⟩ := k7 (by rw [ek] at c7; simp (disch := omega) only [nn_add, nn_addl, nn_ladd, nn_mul, nn_lmul, nn_mull, nn_sub, nn_subl, nn_lsub, nn_lt, nn_le, nn_eq, nn_ltl, nn_llt, nn_lel, nn_lle, nn_eql, nn_leq, nn_m1, nn_1m, nn_ltm, nn_mlt, nn_mle, nn_lem, nn_cl, nn_in, nn_ns, nn_ns2, nn_nb, nn_nb2, nn_s1, nn_s2, nn_b1, nn_b2] at c7; exact c7)
    rw [ej, nn_cl (by omega)] at go
    rw [ej]
    refine sX8_nativeWith_47 T _ _ _ _ _ ?_
    rw [if_neg (by decide), if_neg (by decide), if_neg (by decide), if_pos rfl]
    refine sX8_hasOwn_0 T _ _ _ ?_
    have ret : ∀ T', Zm E YX8_gives (d + 5) T' [(0, T97), (1, vi (nI n))] 0 [] (zma E YX8_nativeOf (d + 6) [] 313 3 [] Q) → zma E YX8_nativeWith (d + 5) [] 106 3 [] (zma E YX8_nativeOf (d + 6) [(0, T97), (4, vi (nI n))] 238 3 [] Q) (.inl none) T' := fun T' k => by
      show Zm E YX8_nativeWith (d + 5) T' [] 109 [] _
      refine iX8_nativeWith_109 T' ?_
      show Zm E YX8_nativeOf (d + 6) T' [(0, T97), (4, vi (nI n))] 241 [vi 1] Q
      exact tw_end k
    refine tg_text g i ok hv.1 (fun k A1 T1 e g1 f1 _ => ?_) (fun T1 e x f1 => ?_)
    · rw [e] at go
      dsimp only at go
      obtain ⟨i1, hk, hL, -, eT, eO, eP, eF⟩ := iA_text i hv.1 e
      have go1 := vT_mono go f1
      show Zm E YX8_hasOwn (d + 4) T1 [(0, T97), (1, vi (nI j))] 6 [vi (nI k)] _
      refine iX8_hasOwn_6 T1 _ _ ?_
      rw [g1.2.2.1, if_pos rfl]
      refine tA_own g1.1 i1 (by omega) ?_
      show Zm E YX8_hasOwn (d + 4) T1 [] 23 [vi (m_own A1 j (nI k)), T97] _
      refine iX8_hasOwn_23 T1 _ ?_
      by_cases q : m_own A1 j (nI k) = -1
      · rw [if_pos q] at go1 ⊢
        exact ret _ (vT_0 (d := d + 3) go1 rfl g1 ok hn (by decide))
      · rw [if_neg q] at go1 ⊢
        exact ret _ (vT_0 (d := d + 3) go1 rfl g1 ok hn (by decide))
    · rw [e] at go
      show Zm E YX8_hasOwn (d + 4) T1 [(0, T97), (1, vi (nI j))] 6 [vi 0] _
      refine iX8_hasOwn_6 T1 _ _ ?_
      rw [x.2.2.1, if_neg (by decide)]
      exact ret _ (vT_g (d := d + 4) go rfl x f1)
  · rw [if_neg c7] at hQ
    rw [if_neg c7]
    exact tw_err g i ok hh hQ
theorem tn_18 {n : Nat} {ts tv s v : Int32} (g : gT T A (r :: F)) (i : iA A) (hiL : iL A) (h0 : m_l0 A) (ok : mFok (r :: F)) (hh : mTh (r :: F)) (hn : n ≤ r.st.length) (hv : mval A s v) (ht : mval A ts tv) (hQ : vT Q T (m_psh A ts tv s v) n r F) : Zm E YX8_nativeOf (d + 6) T [(0, T97), (1, vi 18), (2, vi ts), (3, vi tv), (4, vi (nI n)), (5, vi s)] 12 [vi v] Q := by
  have hob := i.1.1.2
  have go := vT_out hQ (Q' := zma E YX8_nativeOf (d + 6) [] 313 3 [] Q) (fun T' q => sX8_nativeOf_316 T' q)
  refine iX8_nativeOf_12 T _ _ _ _ _ _ ?_
  repeat rw [if_neg (by decide)]
  rw [if_pos rfl]
  unfold m_psh at hQ go
  refine sX8_nativeWith_0 T _ _ _ _ _ ?_
  rw [if_neg (by decide)]
  by_cases c7 : ts = 7
  · rw [if_pos c7, if_neg (by decide)]
    obtain ⟨kk, ek, hkk, k6, k7⟩ := ht.1
    obtain ⟨j, ej, hj⟩ := k7 (by rw [ek] at c7; simp (disch := omega) only [nn_add, nn_addl, nn_ladd, nn_mul, nn_lmul, nn_mull, nn_sub, nn_subl, nn_lsub, nn_lt, nn_le, nn_eq, nn_ltl, nn_llt, nn_lel, nn_lle, nn_eql, nn_leq, nn_m1, nn_1m, nn_ltm, nn_mlt, nn_mle, nn_lem, nn_cl, nn_in, nn_ns, nn_ns2, nn_nb, nn_nb2, nn_s1, nn_s2, nn_b1, nn_b2] at c7; exact c7)
    rw [ej, nn_cl (by omega)] at go hQ
    rw [ej, nn_cl (n := j) (by omega), g.1.1 141 j (by unfold hpT; omega)]
    refine ⟨by rw [nn_in (by omega)]; omega, ?_⟩
    by_cases c2 : gi (aT A) 141 j = 2
    · rw [if_pos ⟨c7, c2⟩] at go
      rw [if_pos c2]
      refine sX8_nativeWith_47 T _ _ _ _ _ ?_
      rw [if_neg (by decide), if_pos rfl]
      have ret : ∀ T', Zm E YX8_gives (d + 5) T' [(0, T97), (1, vi (nI n))] 0 [] (zma E YX8_nativeOf (d + 6) [] 313 3 [] Q) → zma E YX8_nativeWith (d + 5) [] 74 3 [] (zma E YX8_nativeOf (d + 6) [(0, T97), (4, vi (nI n))] 238 3 [] Q) (.inl none) T' := fun T' k => by
        show Zm E YX8_nativeWith (d + 5) T' [] 77 [] _
        refine iX8_nativeWith_77 T' ?_
        show Zm E YX8_nativeOf (d + 6) T' [(0, T97), (4, vi (nI n))] 241 [vi 1] Q
        exact tw_end k
      refine sX8_pushInto_0 T _ _ _ ?_
      refine tg_len (d := d + 2) g i hiL hj c2 (fun q m hq eo hq3 em hm e5 => ?_)
      rw [eo, nn_cl (by omega), em] at go
      show Zm E YX8_pushInto (d + 4) T [(0, T97), (1, vi (nI j)), (2, vi s), (3, vi v)] 5 [vi (nI m)] _
      refine sX8_pushInto_5 T _ _ _ _ ?_
      refine tg_text g i ok mok_5 (fun k A1 T1 e g1 f1 _ => ?_) (fun T1 e x f1 => ?_)
      · rw [e] at go
        dsimp only at go
        have hk0 := h0 m k A1 hm e
        obtain ⟨i1, hk, hL, -, eT, eO, eP, eF⟩ := iA_text i mok_5 e
        have iL1 := iL_cg hiL eT eO eP
        have go1 := vT_mono go f1
        show Zm E YX8_pushInto (d + 4) T1 [(0, T97), (1, vi (nI j)), (2, vi s), (3, vi v), (4, vi (nI m))] 14 [vi (nI k)] _
        refine sX8_pushInto_14 T1 _ _ _ _ _ ?_
        rw [g1.2.2.1, if_pos rfl]
        refine tA_set (o := j) (d := d + 2) g1.1 i1 (by omega) (fun T2 A2 ea s2 f2 => ?_) (fun A2 ea eA => ?_)
        · rw [ea] at go1
          dsimp only at go1
          have hv1 : mval A1 s v := ⟨mok_mono hL (by omega) hv.1, fun h7 => by obtain ⟨j, j1, j2, j3⟩ := hv.2 h7; exact ⟨j, j1, by omega, by rw [eT]; exact j3⟩⟩
          obtain ⟨i2, eL2, eO2, e2⟩ := iA_set i1 (by omega) hk hv1 ea
          have iL2 : iL A2 := iL_set i1 iL1 (by omega) hk (.inl hk0) ea
          have g2 := gT_fT g1 ok s2 f2
          have go2 := vT_mono go1 f2.cT7
          have e141 : gi (aT A2) 141 j = 2 := (e2 141 j (by omega)).trans (by rw [eT]; exact c2)
          obtain ⟨n1, en1, hn1, hif⟩ := m_n1_n hm
          rw [en1] at go2
          obtain ⟨q2, m2, hq2, hq23, e02, e52, em2, hm2, es2, -⟩ := iL_len (n := n1) i2 iL2 (show j < aO A2 by omega) e141 hn1
          have fin : Zm E YX8_set_2 (d + 3) T2 (zargs 0 [T97, vi (nI j), vi 0, vi 5, vi (nI n1)]) 0 [] (zma E YX8_pushInto (d + 4) [(0, T97), (4, vi (nI n1))] 65 3 [] (zma E YX8_nativeWith (d + 5) [] 74 3 [] (zma E YX8_nativeOf (d + 6) [(0, T97), (4, vi (nI n))] 238 3 [] Q))) := by
            refine tA_set (o := j) (d := d + 2) s2 i2 (by omega) (fun T3 A3 ea3 s3 f3 => ?_) (fun A3 ea3 _ => ?_)
            · rw [ea3] at go2
              dsimp only at go2
              show Zm E YX8_pushInto (d + 4) T3 [(0, T97), (4, vi (nI n1))] 68 [] _
              exact iX8_pushInto_68 T3 _ (ret _ (vT_0 (d := d + 3) (vT_mono go2 f3.cT7) rfl (gT_fT g2 ok s3 f3) ok hn (by decide)))
            · rw [show a_set A2 j 0 5 (nI n1) = _ from es2] at ea3; exact absurd (Prod.mk.inj ea3).1 (by decide)
          show Zm E YX8_pushInto (d + 4) T2 [(0, T97), (1, vi (nI j)), (4, vi (nI m))] 33 [] _
          refine sX8_pushInto_33 T2 _ _ ?_
          rw [g2.2.2.1, if_pos rfl]
          unfold m_n1 at en1
          by_cases m100 : nI m = 100
          · rw [if_pos m100] at en1 ⊢
            rw [m100, en1]
            exact fin
          · rw [if_neg m100] at en1 ⊢
            rw [en1]
            exact fin
        · rw [ea] at go1
          dsimp only at go1
          rw [eA] at go1
          obtain ⟨x, fn⟩ := nT_of g1 ok
          show Zm E YX8_pushInto (d + 4) (si T1 97 75 1) [(0, T97), (1, vi (nI j)), (4, vi (nI m))] 33 [] _
          refine sX8_pushInto_33 _ _ _ ?_
          rw [gi_self, if_neg (by decide)]
          exact ret _ (vT_g (d := d + 4) go1 rfl x fn)
      · rw [e] at go
        show Zm E YX8_pushInto (d + 4) T1 [(0, T97), (1, vi (nI j)), (2, vi s), (3, vi v), (4, vi (nI m))] 14 [vi 0] _
        refine sX8_pushInto_14 T1 _ _ _ _ _ ?_
        rw [x.2.2.1, if_neg (by decide)]
        exact ret _ (vT_g (d := d + 4) go rfl x f1)
    · rw [if_neg (fun z => c2 z.2)] at hQ
      rw [if_neg c2]
      exact tw_err g i ok hh hQ
  · rw [if_neg (fun z => c7 z.1)] at hQ
    rw [if_neg c7]
    exact tw_err g i ok hh hQ
theorem tn_19 {n : Nat} {ts tv l5 s0 : Int32} (g : gT T A (r :: F)) (i : iA A) (hiL : iL A) (h0 : m_l0 A) (ok : mFok (r :: F)) (hh : mTh (r :: F)) (hn : n ≤ r.st.length) (ht : mval A ts tv) (hQ : vT Q T (m_pop A ts tv) n r F) : Zm E YX8_nativeOf (d + 6) T [(0, T97), (1, vi 19), (2, vi ts), (3, vi tv), (4, vi (nI n)), (5, vi l5)] 12 [vi s0] Q := by
  have hob := i.1.1.2
  have go := vT_out hQ (Q' := zma E YX8_nativeOf (d + 6) [] 313 3 [] Q) (fun T' q => sX8_nativeOf_316 T' q)
  refine iX8_nativeOf_12 T _ _ _ _ _ _ ?_
  repeat rw [if_neg (by decide)]
  rw [if_pos rfl]
  unfold m_pop at hQ go
  refine sX8_nativeWith_0 T _ _ _ _ _ ?_
  rw [if_neg (by decide)]
  by_cases c7 : ts = 7
  · rw [if_pos c7, if_neg (by decide)]
    obtain ⟨kk, ek, hkk, k6, k7⟩ := ht.1
    obtain ⟨j, ej, hj⟩ := k7 (by rw [ek] at c7; simp (disch := omega) only [nn_add, nn_addl, nn_ladd, nn_mul, nn_lmul, nn_mull, nn_sub, nn_subl, nn_lsub, nn_lt, nn_le, nn_eq, nn_ltl, nn_llt, nn_lel, nn_lle, nn_eql, nn_leq, nn_m1, nn_1m, nn_ltm, nn_mlt, nn_mle, nn_lem, nn_cl, nn_in, nn_ns, nn_ns2, nn_nb, nn_nb2, nn_s1, nn_s2, nn_b1, nn_b2] at c7; exact c7)
    rw [ej, nn_cl (by omega)] at go hQ
    rw [ej, nn_cl (n := j) (by omega), g.1.1 141 j (by unfold hpT; omega)]
    refine ⟨by rw [nn_in (by omega)]; omega, ?_⟩
    by_cases c2 : gi (aT A) 141 j = 2
    · rw [if_pos ⟨c7, c2⟩] at go
      rw [if_pos c2]
      refine sX8_nativeWith_47 T _ _ _ _ _ ?_
      rw [if_neg (by decide), if_neg (by decide), if_pos rfl]
      have ret : ∀ T', Zm E YX8_gives (d + 5) T' [(0, T97), (1, vi (nI n))] 0 [] (zma E YX8_nativeOf (d + 6) [] 313 3 [] Q) → zma E YX8_nativeWith (d + 5) [] 88 3 [] (zma E YX8_nativeOf (d + 6) [(0, T97), (4, vi (nI n))] 238 3 [] Q) (.inl none) T' := fun T' k => by
        show Zm E YX8_nativeWith (d + 5) T' [] 91 [] _
        refine iX8_nativeWith_91 T' ?_
        show Zm E YX8_nativeOf (d + 6) T' [(0, T97), (4, vi (nI n))] 241 [vi 1] Q
        exact tw_end k
      refine sX8_pop_0 T _ ?_
      refine tg_len (d := d + 2) g i hiL hj c2 (fun q m hq eo hq3 em hm e5 => ?_)
      rw [eo, nn_cl (by omega), em] at go
      show Zm E YX8_pop (d + 4) T [(0, T97), (1, vi (nI j))] 5 [vi (nI m)] _
      refine iX8_pop_5 T _ _ ?_
      by_cases m0 : m = 0
      · rw [if_pos (by rw [m0]; rfl)] at go ⊢
        exact ret _ (vT_0 (d := d + 3) go rfl g ok hn (by decide))
      · have mn : ¬ nI m = 0 := by rw [nn_eql (by omega) (by omega)]; exact m0
        rw [if_neg mn] at go ⊢
        rw [show nI m - 1 = nI (m - 1) from nn_subl (by omega)] at go ⊢
        have fg : fr scr T (si (si T 97 111 0) 97 112 0) := fr_got
        have gg := gT_scr g ok fg
        have c11 : gi (si (si T 97 111 0) 97 112 0) 97 111 = 0 := by rw [gi_idx (by decide)]; exact gi_self ..
        have c12 : gi (si (si T 97 111 0) 97 112 0) 97 112 = 0 := gi_self ..
        have go := vT_mono go fg.cT1
        generalize si (si T 97 111 0) 97 112 0 = T0 at *
        refine tg_text gg i ok mok_5 (fun k A1 T1 e g1 f1 ff => ?_) (fun T1 e x f1 => ?_)
        · rw [e] at go
          dsimp only at go
          have hk0 := h0 (m - 1) k A1 (by omega) e
          obtain ⟨i1, hk, hL, -, eT, eO, eP, eF⟩ := iA_text i mok_5 e
          have hk4 := i1.2.1.2.1
          have iL1 := iL_cg hiL eT eO eP
          have go1 := vT_mono go f1
          have hj1 : j < aO A1 := by omega
          have c21 : gi (aT A1) 141 j = 2 := by rw [eT]; exact c2
          have kn : ¬ nI k = 0 := by rw [nn_eql (by omega) (by omega)]; exact hk0
          obtain ⟨iL2, own2, mem2, cel2⟩ := iL_rem i1 iL1 hj1 kn
          obtain ⟨i2, eL2, eO2, e2⟩ := iA_rem (nI k) i1 hj1
          have e141 : gi (aT (a_rem A1 j (nI k))) 141 j = 2 := (e2 141 j (by omega)).trans c21
          have hj2 : j < aO (a_rem A1 j (nI k)) := by rw [eO2]; exact hj1
          obtain ⟨q2, m2, hq2, hq23, e02, e52, em2, hm2, es2, -⟩ := iL_len (n := m - 1) i2 iL2 hj2 e141 (by omega)
          show Zm E YX8_pop (d + 4) T1 [(0, T97), (1, vi (nI j)), (2, vi (nI m))] 25 [vi (nI k)] _
          refine sX8_pop_25 T1 _ _ _ ?_
          rw [g1.2.2.1, if_pos rfl]
          refine tA_own g1.1 i1 hj1 ?_
          show Zm E YX8_pop (d + 4) T1 [(0, T97), (1, vi (nI j)), (2, vi (nI m)), (3, vi (nI k))] 40 [vi (m_own A1 j (nI k))] _
          refine iX8_pop_40 T1 _ _ _ _ ?_
          have fin : ∀ (s v : Int32) (T2 : zM), fr scr T1 T2 → gi T2 97 111 = s → gi T2 97 112 = v → ¬ s = 8 → (m_val A1 (m_own A1 j (nI k))).2.2.1 = s → (m_val A1 (m_own A1 j (nI k))).2.2.2 = v → Zm E YX8_remove (d + 3) T2 (zargs 0 [T97, vi (nI j), vi (nI k)]) 0 [] (zma E YX8_pop (d + 4) [(0, T97), (1, vi (nI j)), (2, vi (nI m))] 69 3 [] (zma E YX8_nativeWith (d + 5) [] 88 3 [] (zma E YX8_nativeOf (d + 6) [(0, T97), (4, vi (nI n))] 238 3 [] Q))) := fun s v T2 f2 b1 b2 hs8 ev1 ev2 => by
            have g2 := gT_scr g1 ok f2
            refine tA_rem (d := d + 2) g2.1 i1 hj1 (fun T3 s3 f3 => ?_)
            have g3 := gT_fT g2 ok s3 f3
            show Zm E YX8_pop (d + 4) T3 [(0, T97), (1, vi (nI j)), (2, vi (nI m))] 72 [] _
            refine sX8_pop_72 T3 _ _ ?_
            rw [show nI m - 1 = nI (m - 1) from nn_subl (by omega)]
            refine tA_set (o := j) (d := d + 2) s3 i2 hj2 (fun T4 A4 ea4 s4 f4 => ?_) (fun A4 ea4 _ => ?_)
            · rw [ea4, ev1, ev2] at go1
              dsimp only at go1
              have g4 := gT_fT g3 ok s4 f4
              have f34 := f3.tr f4
              show Zm E YX8_pop (d + 4) T4 [] 82 [] _
              exact sX8_pop_82 T4 (ret _ (vT_0' (d := d + 3) (vT_mono go1 ((f2.cT1.tr f3.cT7).tr f4.cT7)) rfl g4 ok hn hs8 ((f34.2 97 111 (by unfold fT; omega)).1.trans b1) ((f34.2 97 112 (by unfold fT; omega)).1.trans b2)))
            · rw [show a_set (a_rem A1 j (nI k)) j 0 5 (nI (m - 1)) = _ from es2] at ea4; exact absurd (Prod.mk.inj ea4).1 (by decide)
          rcases m_own_or i1 hj1 (nI k) with e3 | ⟨p, hp, hp3, e3⟩
          · rw [if_pos e3]
            exact fin 0 0 T1 fr.rf ((ff.2 97 111 (by unfold orP sct stT; omega)).1.trans c11) ((ff.2 97 112 (by unfold orP sct stT; omega)).1.trans c12) (by decide) (by unfold m_val; rw [if_pos e3]) (by unfold m_val; rw [if_pos e3])
          · have en : ¬ m_own A1 j (nI k) = -1 := by rw [e3, nn_m1 (by omega)]; exact fun z => z
            rw [if_neg en, e3, nn_cl (n := p) (by omega), g1.1.1 146 p (by unfold hpT; omega), g1.1.1 147 p (by unfold hpT; omega)]
            have hv := (i1.2.2.1 j hj1 p hp).1
            exact ⟨by rw [nn_in (by omega)]; omega, fin _ _ _ fr_got (by rw [gi_idx (by decide)]; exact gi_self ..) (gi_self ..) (mval_8 hv) (by unfold m_val; rw [if_neg en, e3, nn_cl (by omega)]) (by unfold m_val; rw [if_neg en, e3, nn_cl (by omega)])⟩
        · rw [e] at go
          show Zm E YX8_pop (d + 4) T1 [(0, T97), (1, vi (nI j)), (2, vi (nI m))] 25 [vi 0] _
          refine sX8_pop_25 T1 _ _ _ ?_
          rw [x.2.2.1, if_neg (by decide)]
          exact ret _ (vT_g (d := d + 4) go rfl x f1)
    · rw [if_neg (fun z => c2 z.2)] at hQ
      rw [if_neg c2]
      exact tw_err g i ok hh hQ
  · rw [if_neg (fun z => c7 z.1)] at hQ
    rw [if_neg c7]
    exact tw_err g i ok hh hQ
theorem tn_22 {n : Nat} {ts tv s v : Int32} (g : gT T A (r :: F)) (i : iA A) (ok : mFok (r :: F)) (hh : mTh (r :: F)) (hn : n ≤ r.st.length) (hv : mval A s v) (ht : mval A ts tv) (hQ : vT Q T (m_chr A ts tv s v) n r F) : Zm E YX8_nativeOf (d + 6) T [(0, T97), (1, vi 22), (2, vi ts), (3, vi tv), (4, vi (nI n)), (5, vi s)] 12 [vi v] Q := by
  have go := vT_out hQ (Q' := zma E YX8_nativeOf (d + 6) [] 313 3 [] Q) (fun T' q => sX8_nativeOf_316 T' q)
  refine iX8_nativeOf_12 T _ _ _ _ _ _ ?_
  repeat rw [if_neg (by decide)]
  rw [if_pos rfl]
  unfold m_chr at hQ go
  refine sX8_nativeWith_0 T _ _ _ _ _ ?_
  rw [if_pos rfl]
  by_cases c6 : ts = 6
  · rw [if_pos c6] at go ⊢
    obtain ⟨kk, ek, hkk, k6, k7⟩ := ht.1
    obtain ⟨j, ej, hj⟩ := k6 (by rw [ek] at c6; simp (disch := omega) only [nn_add, nn_addl, nn_ladd, nn_mul, nn_lmul, nn_mull, nn_sub, nn_subl, nn_lsub, nn_lt, nn_le, nn_eq, nn_ltl, nn_llt, nn_lel, nn_lle, nn_eql, nn_leq, nn_m1, nn_1m, nn_ltm, nn_mlt, nn_mle, nn_lem, nn_cl, nn_in, nn_ns, nn_ns2, nn_nb, nn_nb2, nn_s1, nn_s2, nn_b1, nn_b2] at c6; exact c6)
    have hL := i.2.1
    have h400 := hL.2.1
    rw [ej, mtx_at h400 hj] at go
    rw [ej]
    refine sX8_nativeWith_47 T _ _ _ _ _ ?_
    rw [if_neg (by decide), if_neg (by decide), if_neg (by decide), if_neg (by decide)]
    have ret : ∀ T', Zm E YX8_gives (d + 5) T' [(0, T97), (1, vi (nI n))] 0 [] (zma E YX8_nativeOf (d + 6) [] 313 3 [] Q) → zma E YX8_nativeWith (d + 5) [] 118 3 [] (zma E YX8_nativeOf (d + 6) [(0, T97), (4, vi (nI n))] 238 3 [] Q) (.inl none) T' := fun T' k => by
      show Zm E YX8_nativeWith (d + 5) T' [] 121 [] _
      refine sX8_nativeWith_121 T' ?_
      show Zm E YX8_nativeOf (d + 6) T' [(0, T97), (4, vi (nI n))] 241 [vi 1] Q
      exact tw_end k
    refine sX8_charAt_0 T _ _ _ ?_
    refine tm_numV (d := d + 1) g.1.2 hv.1 (fun x T1 hx hT => ?_)
    have f1 : fr scr T T1 := by rw [hT]; exact fr.si (scr_97 (by omega))
    have e113 : gi T1 97 113 = bI (mnV (aL A) s v).isSome := by rw [hT]; exact gi_self ..
    have g1 := gT_scr g ok f1
    have go1 := vT_mono go f1.cT1
    obtain ⟨y1, y2, y3⟩ := g1.1.2.2.2 j (aL A)[j] (List.getElem?_eq_getElem hj)
    obtain ⟨m1, m2⟩ := mLok_at hL hj
    have f2 : fr scr T1 (si T1 97 11 0) := fr.si (scr_97 (by omega))
    have fin : ∀ (w : List Int32) (T2 : zM), fr scr T1 T2 → tT T2 w → (∀ c ∈ w, c7 c) → m_let (aL A)[j] ((mnV (aL A) s v).getD 0) = w → Zm E YX8_made (d + 3) T2 (zargs 0 [T97]) 0 [] (zma E YX8_charAt (d + 4) [] 65 3 [vi 6, T97] (zma E YX8_nativeWith (d + 5) [] 118 3 [] (zma E YX8_nativeOf (d + 6) [(0, T97), (4, vi (nI n))] 238 3 [] Q))) := fun w T2 f hT hw7 ew => by
      rw [ew] at go1
      have g2 := gT_scr g1 ok f
      refine tm_made (d := d + 2) g2.1.2 hL hT hw7 (fun k L' T3 e s3 f3 _ => ?_) (fun T3 e f3 => ?_)
      · rw [e] at go1
        dsimp only at go1
        have f3 := f3.sc2
        have g3 : gT T3 (aT A, L', aO A, aP A, aF A) (r :: F) := ⟨⟨fun a k q => (f3.2 a k (by unfold orP scr stT; unfold hpT at q; omega)).1.trans (g2.1.1 a k q), s3⟩, tFs_cg g2.2.1 ok f3 (fun a k q => q.elim .inl (fun q => .inr (.inl q))), (f3.2 97 75 (by unfold orP scr stT; omega)).1.trans g2.2.2.1, (f3.2 97 73 (by unfold orP scr stT; omega)).1.trans g2.2.2.2⟩
        show Zm E YX8_charAt (d + 4) T3 [] 68 [vi (nI k), vi 6, T97] _
        exact iX8_charAt_68 T3 _ _ (ret _ (vT_0 (d := d + 3) (vT_mono go1 (f.cT1.tr f3.cT2)) rfl g3 ok hn (by decide)))
      · rw [e] at go1
        obtain ⟨x, fn⟩ := nT_of (gT_scr g2 ok f3.sc) ok
        show Zm E YX8_charAt (d + 4) (si T3 97 75 1) [] 68 [vi 0, vi 6, T97] _
        exact iX8_charAt_68 _ _ _ (ret _ (vT_gg (d := d + 4) go1 rfl x ok ((f.cT1.tr f3.sc.cT1).tr fn)))
    have empty : m_let (aL A)[j] ((mnV (aL A) s v).getD 0) = [] → Zm E YX8_made (d + 3) (si T1 97 11 0) (zargs 0 [T97]) 0 [] (zma E YX8_charAt (d + 4) [] 65 3 [vi 6, T97] (zma E YX8_nativeWith (d + 5) [] 118 3 [] (zma E YX8_nativeOf (d + 6) [(0, T97), (4, vi (nI n))] 238 3 [] Q))) := fun e =>
      fin [] _ f2 ⟨gi_self .., by simp, fun k hk => absurd hk (by simp)⟩ (fun c hc => by cases hc) e
    have one : ∀ m : Nat, (mnV (aL A) s v).getD 0 = nI m → m < (aL A)[j].length → Zm E YX8_made (d + 3) (si (si (si T1 97 11 0) 102 (0 : Int32).toNatClampNeg (vp_nar .char ((gi T1 100 (60 * j + m)).toUInt32 % 65536).toInt32)) 97 11 (0 + 1)) (zargs 0 [T97]) 0 [] (zma E YX8_charAt (d + 4) [] 65 3 [vi 6, T97] (zma E YX8_nativeWith (d + 5) [] 118 3 [] (zma E YX8_nativeOf (d + 6) [(0, T97), (4, vi (nI n))] 238 3 [] Q))) := fun m em hm => by
      have ec : gi T1 100 (60 * j + m) = (aL A)[j].getD m 0 := y3 m hm
      have hc : c7 ((aL A)[j].getD m 0) := m2 _ (by rw [List.getD_eq_getElem?_getD, List.getElem?_eq_getElem hm]; exact List.getElem_mem hm)
      have tp := tT_put (T := si T1 97 11 0) (w := []) ⟨gi_self .., by simp, fun k hk => absurd hk (by simp)⟩ (by simp) hc
      rw [gi_self (M := T1)] at tp
      rw [ec]
      refine fin [(aL A)[j].getD m 0] _ (f2.tr tp.2.2.sc) tp.2.1 (fun c hc' => ?_) ?_
      · rw [List.mem_singleton] at hc'; rw [hc']; exact hc
      · unfold m_let
        rw [em, if_neg (by rw [nn_0, nn_lt (by omega) (by omega)]; omega), if_neg (by rw [nn_le (by omega) (by omega)]; omega), nn_cl (by omega)]
    show Zm E YX8_charAt (d + 4) T1 [(0, T97), (1, vi (nI j))] 6 [vi x] _
    refine iX8_charAt_6 T1 _ _ ?_
    rw [e113]
    cases hb : mnV (aL A) s v with
    | none =>
      rw [hb] at hx empty one
      rw [if_pos (show bI (none : Option Int32).isSome = 0 from rfl)]
      have y1' : gi T1 101 j = nI (aL A)[j].length := y1
      simp (disch := omega) only [y1', nn_add, nn_addl, nn_ladd, nn_mul, nn_lmul, nn_mull, nn_sub, nn_subl, nn_lsub, nn_lt, nn_le, nn_eq, nn_ltl, nn_llt, nn_lel, nn_lle, nn_eql, nn_leq, nn_m1, nn_1m, nn_ltm, nn_mlt, nn_mle, nn_lem, nn_cl, nn_in, nn_ns, nn_ns2, nn_nb, nn_nb2, nn_s1, nn_s2, nn_b1, nn_b2]
      refine ⟨by omega, ?_⟩
      by_cases h0 : (aL A)[j].length = 0
      · rw [if_pos (by rw [h0]; decide)]
        refine empty ?_
        unfold m_let
        show (if (0 : Int32) < 0 then [] else if nI (aL A)[j].length ≤ 0 then [] else _) = _
        rw [if_neg (by decide), if_pos (by rw [h0]; decide)]
      · rw [show nI (aL A)[j].length - 1 = nI ((aL A)[j].length - 1) from nn_subl (by omega), if_neg (by rw [nn_0, nn_lt (by omega) (by omega)]; omega)]
        have := one 0 rfl (by omega)
        exact ⟨by omega, by show vp_in (nI 0) 200; rw [nn_in (by omega)]; omega, this⟩
    | some n0 =>
      rw [hb] at hx empty one
      have hx' : x = n0 := hx
      rw [if_neg (show ¬ bI (some n0).isSome = 0 by show ¬ (1 : Int32) = 0; decide), hx']
      have y1' : gi T1 101 j = nI (aL A)[j].length := y1
      show vp_in (nI j) 400 ∧ _
      rw [nn_cl (n := j) (by omega), y1']
      refine ⟨by rw [nn_in (by omega)]; omega, ?_⟩
      show (if n0 < 0 then _ else _)
      rcases nn_or n0 with hneg | ⟨m, hm2, em⟩
      · rw [if_pos hneg]
        refine empty ?_
        unfold m_let
        show (if n0 < 0 then [] else _) = _
        rw [if_pos hneg]
      · subst em
        rw [if_neg (by rw [nn_0, nn_lt (by omega) (by omega)]; omega)]
        by_cases h0 : (aL A)[j].length ≤ m
        · rw [if_pos (by
            by_cases h00 : (aL A)[j].length = 0
            · rw [h00]
              show (nI 0 - 1 : Int32) < nI m
              rw [show (nI 0 - 1 : Int32) = -1 from rfl, nn_mlt (by omega)]; trivial
            · rw [show nI (aL A)[j].length - 1 = nI ((aL A)[j].length - 1) from nn_subl (by omega), nn_lt (by omega) (by omega)]; omega)]
          refine empty ?_
          unfold m_let
          show (if nI m < 0 then [] else if nI (aL A)[j].length ≤ nI m then [] else _) = _
          rw [if_neg (by rw [nn_0, nn_lt (by omega) (by omega)]; omega), if_pos (by rw [nn_le (by omega) (by omega)]; exact h0)]
        · rw [show nI (aL A)[j].length - 1 = nI ((aL A)[j].length - 1) from nn_subl (by omega), if_neg (by rw [nn_lt (by omega) (by omega)]; omega)]
          have := one m rfl (by omega)
          show vp_in (60 * nI j + nI m) 24000 ∧ vp_in 0 200 ∧ _
          rw [nn_lmul, nn_add, nn_cl (n := 60 * j + m) (by omega)]
          exact ⟨by rw [nn_in (by omega)]; omega, by show vp_in (nI 0) 200; rw [nn_in (by omega)]; omega, this⟩
  · rw [if_neg c6] at hQ
    rw [if_neg c6]
    exact tw_err g i ok hh hQ
end
