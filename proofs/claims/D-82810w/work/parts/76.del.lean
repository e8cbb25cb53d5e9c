/-! THE MACHINE: DELETE -/
noncomputable def m_del (A : mA) (s v ks kv : Int32) : mE := match a_text A ks kv with
  | none => (2, A, 0, 0)
  | some (k, A1) =>
    if s ≤ 1 then m_err A1 0
    else if s = 7 then (if gi (aT A1) 141 v.toNatClampNeg = 2 ∧ k = 0 then (0, A1, 3, 0) else (0, a_rem A1 v.toNatClampNeg (nI k), 2, 0))
    else (0, A1, 2, 0)
section
variable {E : zE} {d : Nat} {T M : zM} {Q : zO → zM → Prop} {A : mA} {r : mF} {F : List mF}
theorem fr.cX5 {M M' : zM} (h : fr fX M M') : fr cX M M' := h.mono fun a k q => by unfold cX hpX; unfold fX at q; omega
theorem fr.cT7 {M M' : zM} (h : fr fT M M') : fr cT M M' := h.mono fun a k q => by unfold cT hpT; unfold fT at q; omega
theorem gX_fX {M' : zM} {A' : mA} (h : gX M A (r :: F)) (ok : mFok (r :: F)) (s' : sX M' A') (f : fr fX M M') : gX M' A' (r :: F) := ⟨s', xFs_cg h.2 ok f (fun a k q => by unfold scx stX hpX; unfold fX at q; omega)⟩
theorem gT_fT {T' : zM} {A' : mA} (h : gT T A (r :: F)) (ok : mFok (r :: F)) (s' : sT T' A') (f : fr fT T T') : gT T' A' (r :: F) :=
  ⟨s', tFs_cg h.2.1 ok f (fun a k q => by unfold scr stT hpT; unfold fT at q; omega), (f.2 97 75 (by unfold fT; omega)).1.trans h.2.2.1, (f.2 97 73 (by unfold fT; omega)).1.trans h.2.2.2⟩
theorem xm_deleteIn {c1 c2 : mC} {st : List mC} (h : gX M A (r :: F)) (i : iA A) (ok : mFok (r :: F)) (hr : r.st = c1 :: c2 :: st) (v1 : mval A c1.1 c1.2.1) (v2 : mval A c2.1 c2.2.1) (hQ : vX Q M (m_del A c2.1 c2.2.1 c1.1 c1.2.1) 2 r F) : Z E YX1_deleteIn (d + 4) M [(0, zX16)] 0 [] Q := by
  obtain ⟨n1, n2, n3, n4⟩ := xFs_nums h.2
  obtain ⟨g0, g1, g2, g3, g4⟩ := mFok_hd ok
  have ht := (mtot_le (mFok_tl ok)).1
  have hl : 2 ≤ r.st.length := by rw [hr]; simp
  obtain ⟨a1, a2⟩ := x_cell h.2 (i := 0) (m := 1) (c := c1) (by rw [hr]; rfl) rfl
  obtain ⟨b1, b2⟩ := x_cell h.2 (i := 1) (m := 2) (c := c2) (by rw [hr]; rfl) rfl
  refine iX1_deleteIn_0 M h.1.1 ?_
  simp (disch := omega) only [n3, a1, a2, b1, b2, nn_add, nn_addl, nn_ladd, nn_mul, nn_lmul, nn_mull, nn_sub, nn_subl, nn_lsub, nn_lt, nn_le, nn_eq, nn_ltl, nn_llt, nn_lel, nn_lle, nn_eql, nn_leq, nn_m1, nn_1m, nn_ltm, nn_mlt, nn_mle, nn_lem, nn_cl, nn_in, nn_ns, nn_ns2, nn_nb, nn_nb2, nn_s1, nn_s2, nn_b1, nn_b2]
  refine ⟨by omega, by omega, ?_⟩
  unfold m_del at hQ
  have hob := i.1.1.2
  refine xA_text h.1 i v1.1 (fun k A1 M1 e s1 f1 => ?_) (fun M1 e f1 => ?_)
  · rw [e] at hQ
    dsimp only at hQ
    obtain ⟨i1, hk, hL, -, eT, eO, eP, eF⟩ := iA_text i v1.1 e
    have hk4 := i1.2.1.2.1
    have g1 : gX M1 A1 (r :: F) := ⟨s1, xFs_cg h.2 ok f1 (fun a k q => q.elim .inl (fun q => .inr (.inl q)))⟩
    have hQ1 := vX_mono hQ f1.cX2
    show Z E YX1_deleteIn (d + 4) M1 [(0, zX16), (1, vi c2.1), (2, vi c2.2.1)] 50 [vi (nI k)] Q
    refine iX1_deleteIn_50 M1 _ _ _ s1.1 ?_
    have fin : ∀ (M2 : zM) (A2 : mA) (p : mE) (ks : Nat), vX Q M2 p 2 r F → p = (0, A2, nI ks, 0) → gX M2 A2 (r :: F) → ks < 8 → vp_in (gi M2 16 38 - 2) 14500 ∧ (Q (.inl none) (si (si (si (si (si (si M2 16 33 (nI ks)) 16 32 0) 16 38 (gi M2 16 38 - 2)) 53 (gi M2 16 38 - 2).toNatClampNeg (vp_nar .byte (nI ks).toInt8.toInt32)) 16 38 ((gi M2 16 38 - 2) + 1)) 54 (gi M2 16 38 - 2).toNatClampNeg 0)) := fun M2 A2 p ks hq ep g2 hks => by
      rw [(xFs_nums g2.2).2.2.1]
      simp (disch := omega) only [nn_add, nn_addl, nn_ladd, nn_mul, nn_lmul, nn_mull, nn_sub, nn_subl, nn_lsub, nn_lt, nn_le, nn_eq, nn_ltl, nn_llt, nn_lel, nn_lle, nn_eql, nn_leq, nn_m1, nn_1m, nn_ltm, nn_mlt, nn_mle, nn_lem, nn_cl, nn_in, nn_ns, nn_ns2, nn_nb, nn_nb2, nn_s1, nn_s2, nn_b1, nn_b2]
      exact ⟨by omega, vX_0 hq ep g2 ok hl hks _ _⟩
    obtain ⟨⟨kk, ek, hkk, k6, k7⟩, -⟩ := v2
    by_cases c2' : 2 ≤ c2.1
    · rw [if_pos c2']
      have n1' : ¬ c2.1 ≤ 1 := by
        rw [ek] at c2' ⊢
        simp (disch := omega) only [nn_add, nn_addl, nn_ladd, nn_mul, nn_lmul, nn_mull, nn_sub, nn_subl, nn_lsub, nn_lt, nn_le, nn_eq, nn_ltl, nn_llt, nn_lel, nn_lle, nn_eql, nn_leq, nn_m1, nn_1m, nn_ltm, nn_mlt, nn_mle, nn_lem, nn_cl, nn_in, nn_ns, nn_ns2, nn_nb, nn_nb2, nn_s1, nn_s2, nn_b1, nn_b2] at c2' ⊢
        omega
      rw [if_neg n1'] at hQ1
      by_cases c7 : c2.1 = 7
      · rw [if_pos c7] at hQ1 ⊢
        obtain ⟨j, ej, hj⟩ := k7 (by rw [ek] at c7; simp (disch := omega) only [nn_add, nn_addl, nn_ladd, nn_mul, nn_lmul, nn_mull, nn_sub, nn_subl, nn_lsub, nn_lt, nn_le, nn_eq, nn_ltl, nn_llt, nn_lel, nn_lle, nn_eql, nn_leq, nn_m1, nn_1m, nn_ltm, nn_mlt, nn_mle, nn_lem, nn_cl, nn_in, nn_ns, nn_ns2, nn_nb, nn_nb2, nn_s1, nn_s2, nn_b1, nn_b2] at c7; exact c7)
        rw [ej, nn_cl (by omega)] at hQ1
        rw [ej]
        have e38 : gi M1 38 j = gi (aT A1) 141 j := (s1.2.1.2.2.1 j (by omega)).1
        simp (disch := omega) only [e38, nn_add, nn_addl, nn_ladd, nn_mul, nn_lmul, nn_mull, nn_sub, nn_subl, nn_lsub, nn_lt, nn_le, nn_eq, nn_ltl, nn_llt, nn_lel, nn_lle, nn_eql, nn_leq, nn_m1, nn_1m, nn_ltm, nn_mlt, nn_mle, nn_lem, nn_cl, nn_in, nn_ns, nn_ns2, nn_nb, nn_nb2, nn_s1, nn_s2, nn_b1, nn_b2]
        refine ⟨by omega, ?_⟩
        have stay : (gi (aT A1) 141 j = 2 ∧ k = 0) → Z E YX1_deleteIn (d + 4) M1 [(0, zX16), (1, vi c2.1), (2, vi (nI j)), (3, vi (nI k))] 80 [vi 1] Q := fun hc => by
          rw [if_pos hc] at hQ1
          refine iX1_deleteIn_80 M1 _ _ _ _ s1.1 ?_
          rw [if_pos c7, if_neg (by decide)]
          exact fin M1 A1 _ 3 hQ1 rfl g1 (by omega)
        have goes : ¬ (gi (aT A1) 141 j = 2 ∧ k = 0) → Z E YX1_deleteIn (d + 4) M1 [(0, zX16), (1, vi c2.1), (2, vi (nI j)), (3, vi (nI k))] 80 [vi 0] Q := fun hc => by
          rw [if_neg hc] at hQ1
          refine iX1_deleteIn_80 M1 _ _ _ _ s1.1 ?_
          rw [if_pos c7, if_pos rfl]
          refine xA_rem s1 i1 (by omega) (fun M2 s2 f2 => ?_)
          show Z E YX1_deleteIn (d + 4) M2 [(0, zX16), (4, vi 0)] 99 [] Q
          refine iX1_deleteIn_99 M2 _ s2.1 ?_
          rw [if_pos rfl]
          exact fin M2 _ _ 2 (vX_mono hQ1 f2.cX5) rfl (gX_fX g1 ok s2 f2) (by omega)
        by_cases q1 : gi (aT A1) 141 j = 2
        · rw [if_pos q1]
          by_cases q2 : k = 0
          · rw [if_pos q2]; exact stay ⟨q1, q2⟩
          · rw [if_neg q2]; exact goes (fun z => q2 z.2)
        · rw [if_neg q1]; exact goes (fun z => q1 z.1)
      · rw [if_neg c7] at hQ1 ⊢
        refine iX1_deleteIn_80 M1 _ _ _ _ s1.1 ?_
        rw [if_neg c7, if_pos rfl]
        exact fin M1 A1 _ 2 hQ1 rfl g1 (by omega)
    · rw [if_neg c2']
      have n1' : c2.1 ≤ 1 := by
        rw [ek] at c2' ⊢
        simp (disch := omega) only [nn_add, nn_addl, nn_ladd, nn_mul, nn_lmul, nn_mull, nn_sub, nn_subl, nn_lsub, nn_lt, nn_le, nn_eq, nn_ltl, nn_llt, nn_lel, nn_lle, nn_eql, nn_leq, nn_m1, nn_1m, nn_ltm, nn_mlt, nn_mle, nn_lem, nn_cl, nn_in, nn_ns, nn_ns2, nn_nb, nn_nb2, nn_s1, nn_s2, nn_b1, nn_b2] at c2' ⊢
        omega
      rw [if_pos n1'] at hQ1
      refine vX_err (m := 0) hQ1 rfl g1 i1 ok (by omega) (fun M' q s' => ?_) (fun M' q => ?_)
      · show Z E YX1_deleteIn (d + 4) M' [] 61 [vr (some (52, 14, 0))] Q
        exact sX1_deleteIn_61 M' _ s'.1 ⟨52, rfl, q⟩
      · show ZT E YX1_deleteIn (d + 4) M' [] 58 (51, 13, 0) Q
        exact ZT.out (nohand rfl) q
  · rw [e] at hQ
    show ZT E YX1_deleteIn (d + 4) M1 [(0, zX16), (1, vi c2.1), (2, vi c2.2.1)] 47 (51, 13, 0) Q
    exact ZT.out (nohand rfl) (hQ.2.2 rfl M1 ⟨sX_cg h.1 f1 (fun a k q => .inl q), xFs_cg h.2 ok f1 (fun a k q => .inl q)⟩ f1.cX1)
theorem tm_delete {c1 c2 : mC} {st : List mC} (h : gT T A (r :: F)) (i : iA A) (ok : mFok (r :: F)) (hh : mTh (r :: F)) (hr : r.st = c1 :: c2 :: st) (v1 : mval A c1.1 c1.2.1) (v2 : mval A c2.1 c2.2.1) (hQ : vT Q T (m_del A c2.1 c2.2.1 c1.1 c1.2.1) 2 r F) : Zm E YX8_delete (d + 5) T [(0, T97)] 0 [] Q := by
  obtain ⟨hs, hf, h75, h73⟩ := id h
  obtain ⟨n1, n2, n3, n4⟩ := tFs_nums hf
  obtain ⟨g0, g1, g2, g3, g4⟩ := mFok_hd ok
  have hl : 2 ≤ r.st.length := by rw [hr]; simp
  obtain ⟨a1, a2⟩ := t_cell hf (i := 0) (c := c1) (by rw [hr]; rfl)
  obtain ⟨b1, b2⟩ := t_cell hf (i := 1) (c := c2) (by rw [hr]; rfl)
  refine iX8_delete_0 T ?_
  rw [n1]
  simp (disch := omega) only [n3, a1, a2, b1, b2, nn_add, nn_addl, nn_ladd, nn_mul, nn_lmul, nn_mull, nn_sub, nn_subl, nn_lsub, nn_lt, nn_le, nn_eq, nn_ltl, nn_llt, nn_lel, nn_lle, nn_eql, nn_leq, nn_m1, nn_1m, nn_ltm, nn_mlt, nn_mle, nn_lem, nn_cl, nn_in, nn_ns, nn_ns2, nn_nb, nn_nb2, nn_s1, nn_s2, nn_b1, nn_b2]
  refine ⟨by omega, by omega, by omega, ?_⟩
  unfold m_del at hQ
  have hob := i.1.1.2
  refine tA_text hs i v1.1 (fun k A1 T1 e s1 f1 => ?_) (fun T1 e f1 => ?_)
  · rw [e] at hQ
    dsimp only at hQ
    obtain ⟨i1, hk, hL, -, eT, eO, eP, eF⟩ := iA_text i v1.1 e
    have hk4 := i1.2.1.2.1
    have t75 : gi T1 97 75 = 0 := (f1.2 97 75 (by unfold orP scr stT; omega)).1.trans h75
    have g1 : gT T1 A1 (r :: F) := ⟨s1, tFs_cg hf ok f1 (fun a k q => q.elim .inl (fun q => .inr (.inl q))), t75, (f1.2 97 73 (by unfold orP scr stT; omega)).1.trans h73⟩
    have hQ1 := vT_mono hQ f1.cT2
    show Zm E YX8_delete (d + 5) T1 [(0, T97), (1, vi c2.1), (2, vi c2.2.1)] 26 [vi (nI k)] Q
    refine sX8_delete_26 T1 _ _ _ ?_
    rw [t75, if_pos rfl]
    have fin : ∀ (T2 : zM) (A2 : mA) (p : mE) (s : Int32), vT Q T2 p 2 r F → p = (0, A2, s, 0) → gT T2 A2 (r :: F) → ¬ s = 8 → Zm E YX8_gives (d + 4) (si (si T2 97 111 s) 97 112 0) (zargs 0 [T97, vi 2]) 0 [] (zma E YX8_delete (d + 5) [] 107 3 [] Q) := fun T2 A2 p s hq ep g2 hs => vT_0 (n := 2) (vT_out hq (fun T' q => sX8_delete_110 T' q)) ep g2 ok hl hs
    obtain ⟨⟨kk, ek, hkk, k6, k7⟩, -⟩ := v2
    by_cases c2' : 1 < c2.1
    · rw [if_pos c2']
      have n1' : ¬ c2.1 ≤ 1 := by rw [i_le]; exact c2'
      rw [if_neg n1'] at hQ1
      by_cases c7 : c2.1 = 7
      · rw [if_pos c7] at hQ1 ⊢
        obtain ⟨j, ej, hj⟩ := k7 (by rw [ek] at c7; simp (disch := omega) only [nn_add, nn_addl, nn_ladd, nn_mul, nn_lmul, nn_mull, nn_sub, nn_subl, nn_lsub, nn_lt, nn_le, nn_eq, nn_ltl, nn_llt, nn_lel, nn_lle, nn_eql, nn_leq, nn_m1, nn_1m, nn_ltm, nn_mlt, nn_mle, nn_lem, nn_cl, nn_in, nn_ns, nn_ns2, nn_nb, nn_nb2, nn_s1, nn_s2, nn_b1, nn_b2] at c7; exact c7)
        rw [ej, nn_cl (by omega)] at hQ1
        rw [ej]
        have e141 : gi T1 141 j = gi (aT A1) 141 j := s1.1 141 j (by unfold hpT; omega)
        simp (disch := omega) only [e141, nn_add, nn_addl, nn_ladd, nn_mul, nn_lmul, nn_mull, nn_sub, nn_subl, nn_lsub, nn_lt, nn_le, nn_eq, nn_ltl, nn_llt, nn_lel, nn_lle, nn_eql, nn_leq, nn_m1, nn_1m, nn_ltm, nn_mlt, nn_mle, nn_lem, nn_cl, nn_in, nn_ns, nn_ns2, nn_nb, nn_nb2, nn_s1, nn_s2, nn_b1, nn_b2]
        refine ⟨by omega, ?_⟩
        have stay : (gi (aT A1) 141 j = 2 ∧ k = 0) → Zm E YX8_delete (d + 5) T1 [(0, T97), (1, vi c2.1), (2, vi (nI j)), (3, vi (nI k))] 72 [vi 1] Q := fun hc => by
          rw [if_pos hc] at hQ1
          refine iX8_delete_72 T1 _ _ _ _ ?_
          rw [if_pos c7, if_neg (by decide)]
          exact fin T1 A1 _ 3 hQ1 rfl g1 (by decide)
        have goes : ¬ (gi (aT A1) 141 j = 2 ∧ k = 0) → Zm E YX8_delete (d + 5) T1 [(0, T97), (1, vi c2.1), (2, vi (nI j)), (3, vi (nI k))] 72 [vi 0] Q := fun hc => by
          rw [if_neg hc] at hQ1
          refine iX8_delete_72 T1 _ _ _ _ ?_
          rw [if_pos c7, if_pos rfl]
          refine tA_rem s1 i1 (by omega) (fun T2 s2 f2 => ?_)
          show Zm E YX8_delete (d + 5) T2 [(0, T97), (4, vi 0)] 91 [] Q
          refine iX8_delete_91 T2 _ ?_
          rw [if_pos rfl]
          exact fin T2 _ _ 2 (vT_mono hQ1 f2.cT7) rfl (gT_fT g1 ok s2 f2) (by decide)
        by_cases q1 : gi (aT A1) 141 j = 2
        · rw [if_pos q1]
          by_cases q2 : k = 0
          · rw [if_pos q2]; exact stay ⟨q1, q2⟩
          · rw [if_neg q2]; exact goes (fun z => q2 z.2)
        · rw [if_neg q1]; exact goes (fun z => q1 z.1)
      · rw [if_neg c7] at hQ1 ⊢
        refine iX8_delete_72 T1 _ _ _ _ ?_
        rw [if_neg c7, if_pos rfl]
        exact fin T1 A1 _ 2 hQ1 rfl g1 (by decide)
    · rw [if_neg c2']
      have n1' : c2.1 ≤ 1 := by rw [← i_lt]; exact c2'
      rw [if_pos n1'] at hQ1
      exact vT_err (m := 0) (vT_out hQ1 (fun T' q => sX8_delete_46 T' q)) rfl g1 i1 ok hh (by omega)
  · rw [e] at hQ
    show Zm E YX8_delete (d + 5) (si T1 97 75 1) [(0, T97), (1, vi c2.1), (2, vi c2.2.1)] 26 [vi 0] Q
    refine sX8_delete_26 _ _ _ _ ?_
    rw [gi_self, if_neg (by decide)]
    have f2 : fr (fun a k => scr a k ∨ a = 97 ∧ k = 75) T (si T1 97 75 1) := (f1.mono fun a k q => .inl q).tr (fr.si (.inr ⟨rfl, rfl⟩))
    refine hQ.2.2 rfl _ (sT_cg hs f2 (fun a k q => q.elim .inl (fun q => .inr (.inr q)))) (tFs_cg hf ok f2 (fun a k q => q.elim .inl (fun q => .inr (.inr (.inr q))))) (gi_self ..) ((f2.2 97 73 (by unfold scr; omega)).1.trans h73) (f1.cT1.tr cT_75)
end
