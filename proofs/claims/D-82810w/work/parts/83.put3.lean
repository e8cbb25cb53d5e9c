/-! THE MACHINE: PUT of the twin -/
section
variable {E : zE} {d : Nat} {T M : zM} {Q : zO → zM → Prop} {A : mA} {r : mF} {F : List mF}
theorem tm_putInto {c1 c2 c3 : mC} {st : List mC} (h : gT T A (r :: F)) (i : iA A) (hiL : iL A) (ok : mFok (r :: F)) (hh : mTh (r :: F)) (hr : r.st = c1 :: c2 :: c3 :: st) (v1 : mval A c1.1 c1.2.1) (v2 : mval A c2.1 c2.2.1) (v3 : mval A c3.1 c3.2.1) (hQ : vT Q T (m_put3 A c3.1 c3.2.1 c2.1 c2.2.1 c1.1 c1.2.1) 3 r F) : Zm E YX8_putInto (d + 5) T [(0, T97)] 0 [] Q := by
  obtain ⟨hs, hf, h75, h73⟩ := id h
  obtain ⟨n1, n2, n3, n4⟩ := tFs_nums hf
  obtain ⟨g0, g1, g2, g3, g4⟩ := mFok_hd ok
  have hl : 3 ≤ r.st.length := by rw [hr]; simp
  obtain ⟨a1, a2⟩ := t_cell hf (i := 1) (c := c2) (by rw [hr]; rfl)
  obtain ⟨b1, b2⟩ := t_cell hf (i := 2) (c := c3) (by rw [hr]; rfl)
  refine iX8_putInto_0 T ?_
  rw [n1]
  simp (disch := omega) only [n3, a1, a2, b1, b2, nn_add, nn_addl, nn_ladd, nn_mul, nn_lmul, nn_mull, nn_sub, nn_subl, nn_lsub, nn_lt, nn_le, nn_eq, nn_ltl, nn_llt, nn_lel, nn_lle, nn_eql, nn_leq, nn_m1, nn_1m, nn_ltm, nn_mlt, nn_mle, nn_lem, nn_cl, nn_in, nn_ns, nn_ns2, nn_nb, nn_nb2, nn_s1, nn_s2, nn_b1, nn_b2]
  refine ⟨by omega, by omega, by omega, ?_⟩
  unfold m_put3 at hQ
  have hob := i.1.1.2
  have v18 := mval_8 v1.1
  refine tA_text (d := d + 1) hs i v2.1 (fun k A1 T1 e s1 f1 => ?_) (fun T1 e f1 => ?_)
  · rw [e] at hQ
    dsimp only at hQ
    obtain ⟨i1, hk, hL, -, eT, eO, eP, eF⟩ := iA_text i v2.1 e
    have hk4 := i1.2.1.2.1
    have iL1 : iL A1 := by
      intro o ho; rw [eT, eP]; rw [eO] at ho; exact hiL o ho
    have t75 : gi T1 97 75 = 0 := (f1.2 97 75 (by unfold orP scr stT; omega)).1.trans h75
    have g1 : gT T1 A1 (r :: F) := ⟨s1, tFs_cg hf ok f1 (fun a k q => q.elim .inl (fun q => .inr (.inl q))), t75, (f1.2 97 73 (by unfold orP scr stT; omega)).1.trans h73⟩
    have hQ1 := vT_mono hQ f1.cT2
    have cell : ∀ (T2 : zM), tFs T2 (r :: F) → gi T2 97 92 - 1 = nI F.length ∧ gi T2 155 F.length = nI r.st.length ∧ gi T2 160 (400 * F.length + r.st.length - 1 - 0) = c1.1 ∧ gi T2 161 (400 * F.length + r.st.length - 1 - 0) = c1.2.1 := fun T2 t => by
      obtain ⟨d1, d2⟩ := t_cell t (i := 0) (c := c1) (by rw [hr]; rfl)
      obtain ⟨m1, m2, m3, m4⟩ := tFs_nums t
      exact ⟨m1, m3, d1, d2⟩
    have fin : ∀ (T2 : zM) (A2 : mA) (p : mE), vT Q T2 p 3 r F → p = (0, A2, c1.1, c1.2.1) → gT T2 A2 (r :: F) → vp_in (gi T2 97 92 - 1) 24 ∧ vp_in (400 * (gi T2 97 92 - 1) + gi T2 155 (gi T2 97 92 - 1).toNatClampNeg - 1 - 0) 9600 ∧ Zm E YX8_gives (d + 4) (si (si T2 97 111 (gi T2 160 (400 * (gi T2 97 92 - 1) + gi T2 155 (gi T2 97 92 - 1).toNatClampNeg - 1 - 0).toNatClampNeg)) 97 112 (gi T2 161 (400 * (gi T2 97 92 - 1) + gi T2 155 (gi T2 97 92 - 1).toNatClampNeg - 1 - 0).toNatClampNeg)) (zargs 0 [T97, vi 3]) 0 [] (zma E YX8_putInto (d + 5) [] 171 3 [] Q) := fun T2 A2 p hq ep g2 => by
      obtain ⟨m1, m3, d1, d2⟩ := cell T2 g2.2.1
      rw [m1]
      simp (disch := omega) only [m3, d1, d2, nn_add, nn_addl, nn_ladd, nn_mul, nn_lmul, nn_mull, nn_sub, nn_subl, nn_lsub, nn_lt, nn_le, nn_eq, nn_ltl, nn_llt, nn_lel, nn_lle, nn_eql, nn_leq, nn_m1, nn_1m, nn_ltm, nn_mlt, nn_mle, nn_lem, nn_cl, nn_in, nn_ns, nn_ns2, nn_nb, nn_nb2, nn_s1, nn_s2, nn_b1, nn_b2]
      exact ⟨by omega, by omega, vT_0 (d := d + 2) (n := 3) (vT_out hq (fun T' q => sX8_putInto_174 T' q)) ep g2 ok hl v18⟩
    have finN : ∀ (T2 : zM), tFs T2 (r :: F) → gi T2 97 75 = 1 → (∀ T3, fr scr T2 T3 → Q (.inl none) T3) → vp_in (gi T2 97 92 - 1) 24 ∧ vp_in (400 * (gi T2 97 92 - 1) + gi T2 155 (gi T2 97 92 - 1).toNatClampNeg - 1 - 0) 9600 ∧ Zm E YX8_gives (d + 4) (si (si T2 97 111 (gi T2 160 (400 * (gi T2 97 92 - 1) + gi T2 155 (gi T2 97 92 - 1).toNatClampNeg - 1 - 0).toNatClampNeg)) 97 112 (gi T2 161 (400 * (gi T2 97 92 - 1) + gi T2 155 (gi T2 97 92 - 1).toNatClampNeg - 1 - 0).toNatClampNeg)) (zargs 0 [T97, vi 3]) 0 [] (zma E YX8_putInto (d + 5) [] 171 3 [] Q) := fun T2 t x75 hq => by
      obtain ⟨m1, m3, d1, d2⟩ := cell T2 t
      rw [m1]
      simp (disch := omega) only [m3, d1, d2, nn_add, nn_addl, nn_ladd, nn_mul, nn_lmul, nn_mull, nn_sub, nn_subl, nn_lsub, nn_lt, nn_le, nn_eq, nn_ltl, nn_llt, nn_lel, nn_lle, nn_eql, nn_leq, nn_m1, nn_1m, nn_ltm, nn_mlt, nn_mle, nn_lem, nn_cl, nn_in, nn_ns, nn_ns2, nn_nb, nn_nb2, nn_s1, nn_s2, nn_b1, nn_b2]
      exact ⟨by omega, by omega, tm_givesN (by rw [gi_idx (by decide), gi_idx (by decide)]; exact x75) (sX8_putInto_174 _ (hq _ fr_got))⟩
    show Zm E YX8_putInto (d + 5) T1 [(0, T97), (1, vi c3.1), (2, vi c3.2.1)] 26 [vi (nI k)] Q
    refine sX8_putInto_26 T1 _ _ _ ?_
    rw [t75, if_pos rfl]
    obtain ⟨⟨kk, ek, hkk, k6, k7⟩, -⟩ := v3
    by_cases c2' : 1 < c3.1
    · rw [if_pos c2']
      have n1' : ¬ c3.1 ≤ 1 := by rw [i_le]; exact c2'
      rw [if_neg n1'] at hQ1
      by_cases c7 : c3.1 = 7
      · rw [if_pos c7] at hQ1 ⊢
        obtain ⟨j, ej, hj⟩ := k7 (by rw [ek] at c7; simp (disch := omega) only [nn_add, nn_addl, nn_ladd, nn_mul, nn_lmul, nn_mull, nn_sub, nn_subl, nn_lsub, nn_lt, nn_le, nn_eq, nn_ltl, nn_llt, nn_lel, nn_lle, nn_eql, nn_leq, nn_m1, nn_1m, nn_ltm, nn_mlt, nn_mle, nn_lem, nn_cl, nn_in, nn_ns, nn_ns2, nn_nb, nn_nb2, nn_s1, nn_s2, nn_b1, nn_b2] at c7; exact c7)
        rw [ej, nn_cl (by omega)] at hQ1
        rw [ej]
        have e141 : gi T1 141 j = gi (aT A1) 141 j := s1.1 141 j (by unfold hpT; omega)
        simp (disch := omega) only [e141, nn_add, nn_addl, nn_ladd, nn_mul, nn_lmul, nn_mull, nn_sub, nn_subl, nn_lsub, nn_lt, nn_le, nn_eq, nn_ltl, nn_llt, nn_lel, nn_lle, nn_eql, nn_leq, nn_m1, nn_1m, nn_ltm, nn_mlt, nn_mle, nn_lem, nn_cl, nn_in, nn_ns, nn_ns2, nn_nb, nn_nb2, nn_s1, nn_s2, nn_b1, nn_b2]
        refine ⟨by omega, ?_⟩
        have stay : (gi (aT A1) 141 j = 2 ∧ k = 0) → Zm E YX8_putInto (d + 5) T1 [(0, T97), (1, vi c3.1), (2, vi (nI j)), (3, vi (nI k))] 72 [vi 1] Q := fun hc => by
          rw [if_pos hc] at hQ1
          refine sX8_putInto_72 T1 _ _ _ _ ?_
          rw [if_pos c7, if_neg (by decide)]
          exact iX8_putInto_155 T1 (fin T1 A1 _ hQ1 rfl g1)
        have set : ¬ (gi (aT A1) 141 j = 2 ∧ k = 0) → Zm E YX8_putInto (d + 5) T1 [(0, T97), (1, vi c3.1), (2, vi (nI j)), (3, vi (nI k))] 72 [vi 0] Q := fun hn => by
          rw [if_neg hn] at hQ1
          refine sX8_putInto_72 T1 _ _ _ _ ?_
          rw [if_pos c7, if_pos rfl]
          obtain ⟨m1, m3, d1, d2⟩ := cell T1 g1.2.1
          refine jX8_sortAt T1 _ ?_
          rw [m1]
          simp (disch := omega) only [m3, d1, nn_add, nn_addl, nn_ladd, nn_mul, nn_lmul, nn_mull, nn_sub, nn_subl, nn_lsub, nn_lt, nn_le, nn_eq, nn_ltl, nn_llt, nn_lel, nn_lle, nn_eql, nn_leq, nn_m1, nn_1m, nn_ltm, nn_mlt, nn_mle, nn_lem, nn_cl, nn_in, nn_ns, nn_ns2, nn_nb, nn_nb2, nn_s1, nn_s2, nn_b1, nn_b2]
          refine ⟨by omega, by omega, ?_⟩
          show Zm E YX8_putInto (d + 5) T1 [(0, T97), (2, vi (nI j)), (3, vi (nI k))] 93 [vi c1.1, vi (nI k), vi (nI j), T97] Q
          refine iX8_putInto_93 T1 _ _ _ _ _ ?_
          rw [m1]
          simp (disch := omega) only [m3, d2, nn_add, nn_addl, nn_ladd, nn_mul, nn_lmul, nn_mull, nn_sub, nn_subl, nn_lsub, nn_lt, nn_le, nn_eq, nn_ltl, nn_llt, nn_lel, nn_lle, nn_eql, nn_leq, nn_m1, nn_1m, nn_ltm, nn_mlt, nn_mle, nn_lem, nn_cl, nn_in, nn_ns, nn_ns2, nn_nb, nn_nb2, nn_s1, nn_s2, nn_b1, nn_b2]
          refine ⟨by omega, by omega, ?_⟩
          refine tA_set (d := d + 3) s1 i1 (by omega) (fun T2 A2 ea s2 f2 => ?_) (fun A2 ea eA => ?_)
          · rw [ea] at hQ1
            dsimp only at hQ1
            have hv1 : mval A1 c1.1 c1.2.1 := ⟨mok_mono hL (by omega) v1.1, fun h7 => by obtain ⟨j, j1, j2, j3⟩ := v1.2 h7; exact ⟨j, j1, by omega, by rw [eT]; exact j3⟩⟩
            obtain ⟨i2, eL2, eO2, e2⟩ := iA_set i1 (by omega) hk hv1 ea
            have iL2 : iL A2 := iL_set i1 iL1 (by omega) hk (by
              by_cases w : k = 0
              · exact .inr (fun z => hn ⟨z, w⟩)
              · exact .inl w) ea
            have g2 := gT_fT g1 ok s2 f2
            have hQ2 := vT_mono hQ1 f2.cT7
            have e141' : gi (aT A2) 141 j = gi (aT A1) 141 j := e2 141 j (by omega)
            have x141 : gi T2 141 j = gi (aT A1) 141 j := (s2.1 141 j (by unfold hpT; omega)).trans e141'
            show Zm E YX8_putInto (d + 5) T2 [(0, T97), (2, vi (nI j)), (3, vi (nI k))] 101 [] Q
            refine sX8_putInto_101 T2 _ _ ?_
            simp (disch := omega) only [x141, nn_add, nn_addl, nn_ladd, nn_mul, nn_lmul, nn_mull, nn_sub, nn_subl, nn_lsub, nn_lt, nn_le, nn_eq, nn_ltl, nn_llt, nn_lel, nn_lle, nn_eql, nn_leq, nn_m1, nn_1m, nn_ltm, nn_mlt, nn_mle, nn_lem, nn_cl, nn_in, nn_ns, nn_ns2, nn_nb, nn_nb2, nn_s1, nn_s2, nn_b1, nn_b2]
            refine ⟨by omega, ?_⟩
            by_cases h2 : gi (aT A1) 141 j = 2
            · rw [if_pos h2]
              have hk2 : k < (aL A2).length := by rw [eL2]; exact hk
              refine tm_idx (d := d + 3) (w := (aL A2)[k]) s2.2 (List.getElem?_eq_getElem hk2) (fun x hx => ?_)
              have ex : x = mix (mtx (aL A1) (nI k)) := by rw [hx, mtx_at hk4 hk]; congr 1; simp only [eL2]
              rw [← ex] at hQ2
              show Zm E YX8_putInto (d + 5) T2 [(0, T97), (2, vi (nI j))] 116 [vi x] Q
              refine sX8_putInto_116 T2 _ _ ?_
              refine iX8_putInto_120 T2 _ _ ?_
              rw [g2.2.2.1, if_pos rfl]
              have hxn := mix_or (mtx (aL A1) (nI k))
              rw [← ex] at hxn
              have len := fun n (hn : n ≤ 100) => iL_len (n := n) i2 iL2 (show j < aO A2 by omega) (e141'.trans h2) hn
              obtain ⟨q, m, hq, hq3, e0, e5, em, hm, -, -⟩ := len 0 (by omega)
              rw [e0, nn_cl (by omega), em] at hQ2
              rcases hxn with x1 | ⟨n, en, hn100⟩
              · rw [if_pos (by rw [x1]; decide)]
                rw [if_neg (fun z => z.2.1 x1)] at hQ2
                exact fin T2 A2 _ hQ2 rfl g2
              · have x1 : ¬ x = -1 := by rw [en, nn_m1 (by omega)]; exact fun z => z
                rw [if_neg (by rw [en]; simp (disch := omega) only [nn_add, nn_addl, nn_ladd, nn_mul, nn_lmul, nn_mull, nn_sub, nn_subl, nn_lsub, nn_lt, nn_le, nn_eq, nn_ltl, nn_llt, nn_lel, nn_lle, nn_eql, nn_leq, nn_m1, nn_1m, nn_ltm, nn_mlt, nn_mle, nn_lem, nn_cl, nn_in, nn_ns, nn_ns2, nn_nb, nn_nb2, nn_s1, nn_s2, nn_b1, nn_b2]; omega)]
                refine sX8_lengthOf_0 T2 _ ?_
                have hc := (sT_hT s2 i2).2.2 j (by omega)
                refine tm_find (o := nI j) (by simp (disch := omega) only [nn_add, nn_addl, nn_ladd, nn_mul, nn_lmul, nn_mull, nn_sub, nn_subl, nn_lsub, nn_lt, nn_le, nn_eq, nn_ltl, nn_llt, nn_lel, nn_lle, nn_eql, nn_leq, nn_m1, nn_1m, nn_ltm, nn_mlt, nn_mle, nn_lem, nn_cl, nn_in, nn_ns, nn_ns2, nn_nb, nn_nb2, nn_s1, nn_s2, nn_b1, nn_b2]; omega) (by rw [nn_cl (by omega)]; exact hc.1) (fun z hz => (hc.2.2.2.1 z hz).1) (fun p hp => ?_)
                have e145 : gi T2 145 = gi (aT A2) 145 := funext fun w => s2.1 145 w (by unfold hpT; omega)
                rw [e145, e0] at hp
                subst hp
                show Zm E YX8_lengthOf (d + 4) T2 [] 10 [vi (nI q), vr (some (147, 100, 3000))] _
                refine sX8_lengthOf_10 T2 _ ?_
                have x147 : gi T2 147 q = nI m := (s2.1 147 q (by unfold hpT; omega)).trans em
                simp (disch := omega) only [x147, nn_add, nn_addl, nn_ladd, nn_mul, nn_lmul, nn_mull, nn_sub, nn_subl, nn_lsub, nn_lt, nn_le, nn_eq, nn_ltl, nn_llt, nn_lel, nn_lle, nn_eql, nn_leq, nn_m1, nn_1m, nn_ltm, nn_mlt, nn_mle, nn_lem, nn_cl, nn_in, nn_ns, nn_ns2, nn_nb, nn_nb2, nn_s1, nn_s2, nn_b1, nn_b2]
                refine ⟨by omega, ?_⟩
                show Zm E YX8_putInto (d + 5) T2 [(0, T97), (2, vi (nI j)), (5, vi x)] 141 [vi (nI m), vi x] Q
                refine iX8_putInto_141 T2 _ _ _ _ ?_
                by_cases x2 : x < nI m
                · rw [if_pos x2]
                  rw [if_neg (fun z => z.2.2 x2)] at hQ2
                  exact fin T2 A2 _ hQ2 rfl g2
                · rw [if_neg x2]
                  rw [if_pos ⟨h2, x1, x2⟩] at hQ2
                  have e1n : x + 1 = nI (n + 1) := by rw [en]; simp (disch := omega) only [nn_add, nn_addl, nn_ladd, nn_mul, nn_lmul, nn_mull, nn_sub, nn_subl, nn_lsub, nn_lt, nn_le, nn_eq, nn_ltl, nn_llt, nn_lel, nn_lle, nn_eql, nn_leq, nn_m1, nn_1m, nn_ltm, nn_mlt, nn_mle, nn_lem, nn_cl, nn_in, nn_ns, nn_ns2, nn_nb, nn_nb2, nn_s1, nn_s2, nn_b1, nn_b2]
                  rw [e1n] at hQ2 ⊢
                  obtain ⟨q', m', hq', hq3', e0', -, -, -, es, -⟩ := len (n + 1) (by omega)
                  rw [es] at hQ2
                  refine tA_set (d := d + 3) s2 i2 (show j < aO A2 by omega) (fun T3 A3 ea3 s3 f3 => ?_) (fun A3 ea3 _ => ?_)
                  · rw [es] at ea3
                    have eA3 := (Prod.mk.inj ea3).2
                    subst eA3
                    show Zm E YX8_putInto (d + 5) T3 [(0, T97)] 155 [] Q
                    exact iX8_putInto_155 T3 (fin T3 _ _ (vT_mono hQ2 f3.cT7) rfl (gT_fT g2 ok s3 f3))
                  · rw [es] at ea3; exact absurd (Prod.mk.inj ea3).1 (by decide)
            · rw [if_neg h2]
              rw [if_neg (fun z => h2 z.1)] at hQ2
              refine iX8_putInto_120 T2 _ _ ?_
              rw [g2.2.2.1, if_pos rfl, if_pos (by decide)]
              exact fin T2 A2 _ hQ2 rfl g2
          · rw [ea] at hQ1
            dsimp only at hQ1
            rw [eA] at hQ1
            have fN : fr (fun a k => a = 97 ∧ k = 75) T1 (si T1 97 75 1) := fr.si ⟨rfl, rfl⟩
            have sN := sT_cg s1 fN (fun a k q => .inr (.inr q))
            have tN := tFs_cg g1.2.1 ok fN (fun a k q => .inr (.inr (.inr q)))
            have endN : ∀ T3, fr scr (si T1 97 75 1) T3 → Q (.inl none) T3 := fun T3 f3 =>
              hQ1.2.2 rfl T3 (sT_cg sN f3 (fun a k q => .inl q)) (tFs_cg tN ok f3 (fun a k q => .inl q)) ((f3.2 97 75 (by unfold scr; omega)).1.trans (gi_self ..)) ((f3.2 97 73 (by unfold scr; omega)).1.trans ((gi_idx (by decide)).trans g1.2.2.2)) (cT_75.tr f3.cT1)
            have at120 : ∀ x : Int32, Zm E YX8_putInto (d + 5) (si T1 97 75 1) [(0, T97), (2, vi (nI j))] 120 [vi x] Q := fun x => by
              refine iX8_putInto_120 _ _ _ ?_
              rw [gi_self (M := T1), if_neg (by decide)]
              exact finN _ tN (gi_self ..) endN
            show Zm E YX8_putInto (d + 5) (si T1 97 75 1) [(0, T97), (2, vi (nI j)), (3, vi (nI k))] 101 [] Q
            refine sX8_putInto_101 _ _ _ ?_
            have x141 : gi (si T1 97 75 1) 141 j = gi (aT A1) 141 j := sN.1 141 j (by unfold hpT; omega)
            simp (disch := omega) only [x141, nn_add, nn_addl, nn_ladd, nn_mul, nn_lmul, nn_mull, nn_sub, nn_subl, nn_lsub, nn_lt, nn_le, nn_eq, nn_ltl, nn_llt, nn_lel, nn_lle, nn_eql, nn_leq, nn_m1, nn_1m, nn_ltm, nn_mlt, nn_mle, nn_lem, nn_cl, nn_in, nn_ns, nn_ns2, nn_nb, nn_nb2, nn_s1, nn_s2, nn_b1, nn_b2]
            refine ⟨by omega, ?_⟩
            by_cases h2 : gi (aT A1) 141 j = 2
            · rw [if_pos h2]
              refine tm_idx (d := d + 3) (w := (aL A1)[k]) sN.2 (List.getElem?_eq_getElem hk) (fun x hx => ?_)
              show Zm E YX8_putInto (d + 5) (si T1 97 75 1) [(0, T97), (2, vi (nI j))] 116 [vi x] Q
              exact sX8_putInto_116 _ _ _ (at120 x)
            · rw [if_neg h2]; exact at120 (-1)
        by_cases q1 : gi (aT A1) 141 j = 2
        · rw [if_pos q1]
          by_cases q2 : k = 0
          · rw [if_pos q2]; exact stay ⟨q1, q2⟩
          · rw [if_neg q2]; exact set (fun z => q2 z.2)
        · rw [if_neg q1]; exact set (fun z => q1 z.1)
      · rw [if_neg c7] at hQ1 ⊢
        refine sX8_putInto_72 T1 _ _ _ _ ?_
        rw [if_neg c7]
        exact iX8_putInto_155 T1 (fin T1 A1 _ hQ1 rfl g1)
    · rw [if_neg c2']
      have n1' : c3.1 ≤ 1 := by rw [← i_lt]; exact c2'
      rw [if_pos n1'] at hQ1
      exact vT_err (d := d + 1) (m := 0) (vT_out hQ1 (fun T' q => sX8_putInto_46 T' q)) rfl g1 i1 ok hh (by omega)
  · rw [e] at hQ
    show Zm E YX8_putInto (d + 5) (si T1 97 75 1) [(0, T97), (1, vi c3.1), (2, vi c3.2.1)] 26 [vi 0] Q
    refine sX8_putInto_26 _ _ _ _ ?_
    rw [gi_self, if_neg (by decide)]
    have f2 : fr (fun a k => scr a k ∨ a = 97 ∧ k = 75) T (si T1 97 75 1) := (f1.mono fun a k q => .inl q).tr (fr.si (.inr ⟨rfl, rfl⟩))
    refine hQ.2.2 rfl _ (sT_cg hs f2 (fun a k q => q.elim .inl (fun q => .inr (.inr q)))) (tFs_cg hf ok f2 (fun a k q => q.elim .inl (fun q => .inr (.inr (.inr q))))) (gi_self ..) ((f2.2 97 73 (by unfold scr; omega)).1.trans h73) (f1.cT1.tr cT_75)
end
