/-! THE MACHINE: PUT, both sides -/
section
variable {E : zE} {d : Nat} {T M : zM} {Q : zO → zM → Prop} {A : mA} {r : mF} {F : List mF}
theorem sX_put {o q : Nat} {s v : Int32} (h : sX M A) (i : iA A) (ho : o < aO A) (hq : q ∈ aP A o) : sX (si (si M 48 q s) 49 q v) (m_put (aT A) q s v, aL A, aO A, aP A, aF A) ∧ fr fX M (si (si M 48 q s) 49 q v) := by
  have f : fr fX M (si (si M 48 q s) 49 q v) := (fr.si (by unfold fX; omega)).tr (fr.si (by unfold fX; omega))
  obtain ⟨hw, g, hl, hxt⟩ := h
  refine ⟨⟨cw_fX hw f, hX_put i.1 g ho hq s v, fun z hz => ?_, ?_⟩, f⟩
  · exact hL_cg hl (fun a k q => (f.2 a k (by unfold fX; omega)).1) (fun a k q => by show gi (m_put (aT A) _ s v) a k = _; unfold m_put; rw [gi_oth (by omega), gi_oth (by omega)]) z hz
  · obtain ⟨x1, x2, ⟨y1, y2, y3⟩, x4⟩ := hxt
    exact ⟨(f.2 17 1 (by unfold fX; omega)).2.2.trans x1, (f.2 17 0 (by unfold fX; omega)).2.2.trans x2, ⟨(f.2 17 2 (by unfold fX; omega)).1.trans y1, fun k hk => (f.2 18 k (by unfold fX; omega)).1.trans (y2 k hk), fun j hj => (f.2 19 j (by unfold fX; omega)).1.trans (y3 j hj)⟩, x4⟩
theorem xm_putIn {c1 c2 c3 : mC} {st : List mC} (h : gX M A (r :: F)) (i : iA A) (hiL : iL A) (ok : mFok (r :: F)) (hr : r.st = c1 :: c2 :: c3 :: st) (v1 : mval A c1.1 c1.2.1) (v2 : mval A c2.1 c2.2.1) (v3 : mval A c3.1 c3.2.1) (hQ : vX Q M (m_put3 A c3.1 c3.2.1 c2.1 c2.2.1 c1.1 c1.2.1) 3 r F) : Z E YX1_putIn (d + 4) M [(0, zX16)] 0 [] Q := by
  obtain ⟨n1, n2, n3, n4⟩ := xFs_nums h.2
  obtain ⟨g0, g1, g2, g3, g4⟩ := mFok_hd ok
  have ht := (mtot_le (mFok_tl ok)).1
  have hl : 3 ≤ r.st.length := by rw [hr]; simp
  obtain ⟨a1, a2⟩ := x_cell h.2 (i := 1) (m := 2) (c := c2) (by rw [hr]; rfl) rfl
  obtain ⟨b1, b2⟩ := x_cell h.2 (i := 2) (m := 3) (c := c3) (by rw [hr]; rfl) rfl
  refine iX1_putIn_0 M h.1.1 ?_
  simp (disch := omega) only [n3, a1, a2, b1, b2, nn_add, nn_addl, nn_ladd, nn_mul, nn_lmul, nn_mull, nn_sub, nn_subl, nn_lsub, nn_lt, nn_le, nn_eq, nn_ltl, nn_llt, nn_lel, nn_lle, nn_eql, nn_leq, nn_m1, nn_1m, nn_ltm, nn_mlt, nn_mle, nn_lem, nn_cl, nn_in, nn_ns, nn_ns2, nn_nb, nn_nb2, nn_s1, nn_s2, nn_b1, nn_b2]
  refine ⟨by omega, by omega, ?_⟩
  unfold m_put3 at hQ
  have hob := i.1.1.2
  obtain ⟨ks1, ek1, hks1, -, -⟩ := id v1.1
  refine xA_text h.1 i v2.1 (fun k A1 M1 e s1 f1 => ?_) (fun M1 e f1 => ?_)
  · rw [e] at hQ
    dsimp only at hQ
    obtain ⟨i1, hk, hL, -, eT, eO, eP, eF⟩ := iA_text i v2.1 e
    have hk4 := i1.2.1.2.1
    have iL1 : iL A1 := by
      intro o ho; rw [eT, eP]; rw [eO] at ho; exact hiL o ho
    have g1 : gX M1 A1 (r :: F) := ⟨s1, xFs_cg h.2 ok f1 (fun a k q => q.elim .inl (fun q => .inr (.inl q)))⟩
    have hQ1 := vX_mono hQ f1.cX2
    show Z E YX1_putIn (d + 4) M1 [(0, zX16), (1, vi c3.1), (2, vi c3.2.1)] 50 [vi (nI k)] Q
    have fin : ∀ (M2 : zM) (A2 : mA) (p : mE), vX Q M2 p 3 r F → p = (0, A2, c1.1, c1.2.1) → gX M2 A2 (r :: F) → vp_in (gi M2 16 38 - 1) 14500 ∧ vp_in (gi M2 16 38 - 3) 14500 ∧ Q (.inl none) (si (si (si (si (si (si M2 16 33 (gi M2 53 (gi M2 16 38 - 1).toNatClampNeg)) 16 32 (gi M2 54 (gi M2 16 38 - 1).toNatClampNeg)) 16 38 (gi M2 16 38 - 3)) 53 (gi M2 16 38 - 3).toNatClampNeg (vp_nar .byte (gi M2 53 (gi M2 16 38 - 1).toNatClampNeg).toInt8.toInt32)) 16 38 ((gi M2 16 38 - 3) + 1)) 54 (gi M2 16 38 - 3).toNatClampNeg (gi M2 54 (gi M2 16 38 - 1).toNatClampNeg)) := fun M2 A2 p hq ep g2 => by
      obtain ⟨d1, d2⟩ := x_cell g2.2 (i := 0) (m := 1) (c := c1) (by rw [hr]; rfl) rfl
      rw [ek1] at d1 ep
      rw [(xFs_nums g2.2).2.2.1]
      simp (disch := omega) only [d1, d2, nn_add, nn_addl, nn_ladd, nn_mul, nn_lmul, nn_mull, nn_sub, nn_subl, nn_lsub, nn_lt, nn_le, nn_eq, nn_ltl, nn_llt, nn_lel, nn_lle, nn_eql, nn_leq, nn_m1, nn_1m, nn_ltm, nn_mlt, nn_mle, nn_lem, nn_cl, nn_in, nn_ns, nn_ns2, nn_nb, nn_nb2, nn_s1, nn_s2, nn_b1, nn_b2]
      exact ⟨by omega, by omega, vX_0 hq ep g2 ok hl hks1 _ _⟩
    refine iX1_putIn_50 M1 _ _ _ s1.1 ?_
    obtain ⟨⟨kk, ek, hkk, k6, k7⟩, -⟩ := v3
    by_cases c2' : 2 ≤ c3.1
    · rw [if_pos c2']
      have n1' : ¬ c3.1 ≤ 1 := by
        rw [ek] at c2' ⊢
        simp (disch := omega) only [nn_add, nn_addl, nn_ladd, nn_mul, nn_lmul, nn_mull, nn_sub, nn_subl, nn_lsub, nn_lt, nn_le, nn_eq, nn_ltl, nn_llt, nn_lel, nn_lle, nn_eql, nn_leq, nn_m1, nn_1m, nn_ltm, nn_mlt, nn_mle, nn_lem, nn_cl, nn_in, nn_ns, nn_ns2, nn_nb, nn_nb2, nn_s1, nn_s2, nn_b1, nn_b2] at c2' ⊢
        omega
      rw [if_neg n1'] at hQ1
      by_cases c7 : c3.1 = 7
      · rw [if_pos c7] at hQ1 ⊢
        obtain ⟨j, ej, hj⟩ := k7 (by rw [ek] at c7; simp (disch := omega) only [nn_add, nn_addl, nn_ladd, nn_mul, nn_lmul, nn_mull, nn_sub, nn_subl, nn_lsub, nn_lt, nn_le, nn_eq, nn_ltl, nn_llt, nn_lel, nn_lle, nn_eql, nn_leq, nn_m1, nn_1m, nn_ltm, nn_mlt, nn_mle, nn_lem, nn_cl, nn_in, nn_ns, nn_ns2, nn_nb, nn_nb2, nn_s1, nn_s2, nn_b1, nn_b2] at c7; exact c7)
        rw [ej, nn_cl (by omega)] at hQ1
        rw [ej]
        have e38 : gi M1 38 j = gi (aT A1) 141 j := (s1.2.1.2.2.1 j (by omega)).1
        obtain ⟨d1, d2⟩ := x_cell g1.2 (i := 0) (m := 1) (c := c1) (by rw [hr]; rfl) rfl
        have set : ∀ b : Bool, (b = true ↔ gi (aT A1) 141 j = 2) → ¬ (gi (aT A1) 141 j = 2 ∧ k = 0) → vp_in (gi M1 16 38 - 1) 14500 ∧ Z E YX1_setOwn (d + 3) M1 (zargs 0 [zX16, vi (nI j), vi (nI k), vi (gi M1 53 (gi M1 16 38 - 1).toNatClampNeg), vi (gi M1 54 (gi M1 16 38 - 1).toNatClampNeg)]) 0 [] (zafter E YX1_putIn (d + 4) [(0, zX16), (2, vi (nI j)), (3, vi (nI k)), (4, vi (bI b))] 110 3 [] Q) := fun b hb hn => by
          rw [if_neg hn] at hQ1
          rw [ek1] at d1
          rw [(xFs_nums g1.2).2.2.1]
          simp (disch := omega) only [d1, d2, nn_add, nn_addl, nn_ladd, nn_mul, nn_lmul, nn_mull, nn_sub, nn_subl, nn_lsub, nn_lt, nn_le, nn_eq, nn_ltl, nn_llt, nn_lel, nn_lle, nn_eql, nn_leq, nn_m1, nn_1m, nn_ltm, nn_mlt, nn_mle, nn_lem, nn_cl, nn_in, nn_ns, nn_ns2, nn_nb, nn_nb2, nn_s1, nn_s2, nn_b1, nn_b2]
          refine ⟨by omega, ?_⟩
          rw [ek1] at hQ1
          refine xA_set (d := d + 2) s1 i1 (by omega) (by omega) hks1 (fun M2 A2 ea s2 f2 => ?_) (fun A2 ea eA => ?_)
          · rw [ea] at hQ1
            dsimp only at hQ1
            have hv1 : mval A1 (nI ks1) c1.2.1 := by
              rw [← ek1]
              exact ⟨mok_mono hL (by omega) v1.1, fun h7 => by obtain ⟨j, j1, j2, j3⟩ := v1.2 h7; exact ⟨j, j1, by omega, by rw [eT]; exact j3⟩⟩
            obtain ⟨i2, eL2, eO2, e2⟩ := iA_set i1 (by omega) hk hv1 ea
            have iL2 : iL A2 := iL_set i1 iL1 (by omega) hk (by
              by_cases w : k = 0
              · exact .inr (fun z => hn ⟨z, w⟩)
              · exact .inl w) ea
            have g2 := gX_fX g1 ok s2 f2
            have hQ2 := vX_mono hQ1 f2.cX5
            have e141 : gi (aT A2) 141 j = gi (aT A1) 141 j := e2 141 j (by omega)
            show Z E YX1_putIn (d + 4) M2 [(0, zX16), (2, vi (nI j)), (3, vi (nI k)), (4, vi (bI b))] 113 [] Q
            refine iX1_putIn_113 M2 _ _ _ s2.1 ?_
            cases b with
            | false =>
              have h2 : ¬ gi (aT A1) 141 j = 2 := fun z => by have := hb.mpr z; cases this
              rw [if_neg (fun z => h2 z.1)] at hQ2
              rw [bI_f, if_pos rfl]
              refine iX1_putIn_144 M2 _ _ s2.1 ?_
              rw [if_pos rfl]
              exact fin M2 A2 _ hQ2 (by rw [ek1]) g2
            | true =>
              have h2 : gi (aT A1) 141 j = 2 := hb.mp rfl
              rw [bI_t, if_neg (by decide)]
              have hk2 : k < (aL A2).length := by rw [eL2]; exact hk
              refine xm_idx (d := d + 2) s2.1 s2.2.2.2 hk2 (fun x hx => ?_)
              have ex : x = mix (mtx (aL A1) (nI k)) := by rw [hx, mtx_at hk4 hk]; congr 1; simp only [eL2]
              rw [← ex] at hQ2
              show Z E YX1_putIn (d + 4) M2 [(0, zX16), (2, vi (nI j)), (4, vi 1)] 123 [vi x] Q
              refine iX1_putIn_123 M2 _ _ _ s2.1 ?_
              rw [if_neg (by decide)]
              have hxn := mix_or (mtx (aL A1) (nI k))
              rw [← ex] at hxn
              have len := fun n (hn : n ≤ 100) => iL_len (n := n) i2 iL2 (show j < aO A2 by omega) (e141.trans h2) hn
              obtain ⟨q, m, hq, hq3, e0, e5, em, hm, -, -⟩ := len 0 (by omega)
              have hc := hX_chn i2.1 s2.2.1 (show j < aO A2 by omega)
              have hown := fun hQ' => xm_own (E := E) (d := d + 3) (Q := zafter E YX1_putIn (d + 4) [(0, zX16), (5, vi x)] 137 3 [] Q) (o := nI j) (x := 0) s2.1 (by simp (disch := omega) only [nn_add, nn_addl, nn_ladd, nn_mul, nn_lmul, nn_mull, nn_sub, nn_subl, nn_lsub, nn_lt, nn_le, nn_eq, nn_ltl, nn_llt, nn_lel, nn_lle, nn_eql, nn_leq, nn_m1, nn_1m, nn_ltm, nn_mlt, nn_mle, nn_lem, nn_cl, nn_in, nn_ns, nn_ns2, nn_nb, nn_nb2, nn_s1, nn_s2, nn_b1, nn_b2]; omega) (by rw [nn_cl (by omega)]; exact hc) (fun z hz => ((i2.1.2.2 j (by omega)).2.2.2.1 z hz).1) hQ'
              refine hown (fun p hp => ?_)
              rw [hX_fnd s2.2.1 (show j < aO A2 by omega), e0] at hp
              subst hp
              show Z E YX1_putIn (d + 4) M2 [(0, zX16), (5, vi x)] 140 [vi (nI q)] Q
              refine sX1_putIn_140 M2 _ _ s2.1 ?_
              refine iX1_putIn_144 M2 _ _ s2.1 ?_
              rw [e0, nn_cl (by omega), em] at hQ2
              have e49 : gi M2 49 q = nI m := ((s2.2.1.2.2.2 j (by omega) q hq).2.2.2.1).trans em
              have e48 : gi M2 48 q = 5 := ((s2.2.1.2.2.2 j (by omega) q hq).2.2.1).trans e5
              rw [nn_cl (by omega), e49]
              by_cases x1 : x = -1
              · rw [if_pos x1]
                rw [if_neg (fun z => z.2.1 x1)] at hQ2
                exact fin M2 A2 _ hQ2 (by rw [ek1]) g2
              rw [if_neg x1]
              refine ⟨by simp (disch := omega) only [nn_add, nn_addl, nn_ladd, nn_mul, nn_lmul, nn_mull, nn_sub, nn_subl, nn_lsub, nn_lt, nn_le, nn_eq, nn_ltl, nn_llt, nn_lel, nn_lle, nn_eql, nn_leq, nn_m1, nn_1m, nn_ltm, nn_mlt, nn_mle, nn_lem, nn_cl, nn_in, nn_ns, nn_ns2, nn_nb, nn_nb2, nn_s1, nn_s2, nn_b1, nn_b2]; omega, ?_⟩
              by_cases x2 : x < nI m
              · rw [if_pos x2]
                rw [if_neg (fun z => z.2.2 x2)] at hQ2
                exact fin M2 A2 _ hQ2 (by rw [ek1]) g2
              · rw [if_neg x2]
                rw [if_pos ⟨h2, x1, x2⟩] at hQ2
                obtain ⟨n, en, hn100⟩ := hxn.resolve_left x1
                have e1n : x + 1 = nI (n + 1) := by rw [en]; simp (disch := omega) only [nn_add, nn_addl, nn_ladd, nn_mul, nn_lmul, nn_mull, nn_sub, nn_subl, nn_lsub, nn_lt, nn_le, nn_eq, nn_ltl, nn_llt, nn_lel, nn_lle, nn_eql, nn_leq, nn_m1, nn_1m, nn_ltm, nn_mlt, nn_mle, nn_lem, nn_cl, nn_in, nn_ns, nn_ns2, nn_nb, nn_nb2, nn_s1, nn_s2, nn_b1, nn_b2]
                rw [e1n] at hQ2 ⊢
                obtain ⟨q', m', hq', hq3', e0', -, -, -, es, -⟩ := len (n + 1) (by omega)
                have eqq : q' = q := by rw [e0, nn_eq (by omega) (by omega)] at e0'; exact e0'.symm
                subst eqq
                rw [es] at hQ2
                obtain ⟨s3, f3⟩ := sX_put (s := 5) (v := nI (n + 1)) s2 i2 (show j < aO A2 by omega) hq
                rw [show si M2 48 q' 5 = M2 by rw [← e48]; exact si_id M2 48 q'] at s3 f3
                have fr49 := fin (si M2 49 q' (nI (n + 1))) _ _ (vX_mono hQ2 f3.cX5) (by rw [ek1]) (gX_fX g2 ok s3 f3)
                rw [gi_oth (a := 49) (by decide), gi_oth (a := 49) (by decide), gi_oth (a := 49) (by decide)] at fr49
                exact fr49
          · rw [ea] at hQ1
            dsimp only at hQ1
            show ZT E YX1_putIn (d + 4) M1 [(0, zX16), (2, vi (nI j)), (3, vi (nI k)), (4, vi (bI b))] 110 (51, 13, 0) Q
            rw [eA] at hQ1
            exact ZT.out (nohand rfl) (hQ1.2.2 rfl M1 g1 fr.rf)
        rw [nn_cl (by omega), e38]
        refine ⟨by simp (disch := omega) only [nn_add, nn_addl, nn_ladd, nn_mul, nn_lmul, nn_mull, nn_sub, nn_subl, nn_lsub, nn_lt, nn_le, nn_eq, nn_ltl, nn_llt, nn_lel, nn_lle, nn_eql, nn_leq, nn_m1, nn_1m, nn_ltm, nn_mlt, nn_mle, nn_lem, nn_cl, nn_in, nn_ns, nn_ns2, nn_nb, nn_nb2, nn_s1, nn_s2, nn_b1, nn_b2]; omega, ?_⟩
        by_cases q1 : gi (aT A1) 141 j = 2
        · rw [if_pos q1]
          by_cases q2 : k = 0
          · rw [if_pos (by rw [q2]; rfl)]
            rw [if_pos ⟨q1, q2⟩] at hQ1
            exact fin M1 A1 _ hQ1 rfl g1
          · rw [if_neg (by simp (disch := omega) only [nn_add, nn_addl, nn_ladd, nn_mul, nn_lmul, nn_mull, nn_sub, nn_subl, nn_lsub, nn_lt, nn_le, nn_eq, nn_ltl, nn_llt, nn_lel, nn_lle, nn_eql, nn_leq, nn_m1, nn_1m, nn_ltm, nn_mlt, nn_mle, nn_lem, nn_cl, nn_in, nn_ns, nn_ns2, nn_nb, nn_nb2, nn_s1, nn_s2, nn_b1, nn_b2]; exact q2)]
            exact set true ⟨fun _ => q1, fun _ => rfl⟩ (fun z => q2 z.2)
        · rw [if_neg q1]
          exact set false ⟨fun z => (by cases z), fun z => absurd z q1⟩ (fun z => q1 z.1)
      · rw [if_neg c7] at hQ1 ⊢
        exact fin M1 A1 _ hQ1 rfl g1
    · rw [if_neg c2']
      have n1' : c3.1 ≤ 1 := by
        rw [ek] at c2' ⊢
        simp (disch := omega) only [nn_add, nn_addl, nn_ladd, nn_mul, nn_lmul, nn_mull, nn_sub, nn_subl, nn_lsub, nn_lt, nn_le, nn_eq, nn_ltl, nn_llt, nn_lel, nn_lle, nn_eql, nn_leq, nn_m1, nn_1m, nn_ltm, nn_mlt, nn_mle, nn_lem, nn_cl, nn_in, nn_ns, nn_ns2, nn_nb, nn_nb2, nn_s1, nn_s2, nn_b1, nn_b2] at c2' ⊢
        omega
      rw [if_pos n1'] at hQ1
      refine vX_err (m := 0) hQ1 rfl g1 i1 ok (by omega) (fun M' q s' => ?_) (fun M' q => ?_)
      · show Z E YX1_putIn (d + 4) M' [] 61 [vr (some (52, 14, 0))] Q
        exact sX1_putIn_61 M' _ s'.1 ⟨52, rfl, q⟩
      · show ZT E YX1_putIn (d + 4) M' [] 58 (51, 13, 0) Q
        exact ZT.out (nohand rfl) q
  · rw [e] at hQ
    show ZT E YX1_putIn (d + 4) M1 [(0, zX16), (1, vi c3.1), (2, vi c3.2.1)] 47 (51, 13, 0) Q
    exact ZT.out (nohand rfl) (hQ.2.2 rfl M1 ⟨sX_cg h.1 f1 (fun a k q => .inl q), xFs_cg h.2 ok f1 (fun a k q => .inl q)⟩ f1.cX1)
end
