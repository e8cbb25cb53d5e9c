/-! THE MACHINE's STEP: UNARY -/
def m_un (A : mA) (how s v : Int32) : mE := if how = 4 then (0, A, 6, mty s (gi (aT A) 141 v.toNatClampNeg)) else (0, A, mun (aL A) how s v)
theorem mty_cg {L : List (List Int32)} {ob : Nat} {s v c c' : Int32} (h : mok L ob s v) (e : s = 7 → c = c') : mty s c = mty s c' := by
  obtain ⟨k, rfl, hk, -⟩ := h
  by_cases c7 : nI k = 7
  · rw [e c7]
  · unfold mty
    have : k = 0 ∨ k = 1 ∨ k = 2 ∨ k = 3 ∨ k = 4 ∨ k = 5 ∨ k = 6 := by
      simp (disch := omega) only [nn_add, nn_addl, nn_ladd, nn_mul, nn_lmul, nn_mull, nn_sub, nn_subl, nn_lsub, nn_lt, nn_le, nn_eq, nn_ltl, nn_llt, nn_lel, nn_lle, nn_eql, nn_leq, nn_m1, nn_1m, nn_ltm, nn_mlt, nn_mle, nn_lem, nn_cl, nn_in, nn_ns, nn_ns2, nn_nb, nn_nb2, nn_s1, nn_s2, nn_b1, nn_b2] at c7
      omega
    rcases this with rfl | rfl | rfl | rfl | rfl | rfl | rfl <;> rfl
section
variable {E : zE} {d : Nat} {T M : zM} {Q : zO → zM → Prop} {A : mA} {r : mF} {F : List mF}
theorem xs_un {h : Nat} {c1 : mC} {st : List mC} (g0' : gX M A (r :: F)) (i : iA A) (ok : mFok (r :: F)) (hpl : r.pl + 1 < 600) (hc : gi M 30 r.pl = 13) (ha : gi M 31 r.pl = nI h) (hhow : h < 5) (hr : r.st = c1 :: st) (v1 : mval A c1.1 c1.2.1) (hQ : vX Q M (m_un A (nI h) c1.1 c1.2.1) 1 (mFpl r (r.pl + 1)) F) : Z E YX1_step (d + 5) M [(0, zX16), (1, vi (nI r.pl))] 0 [] Q := by
  obtain ⟨n1, n2, n3, n4⟩ := xFs_nums g0'.2
  obtain ⟨g0, -, -, g3, -⟩ := mFok_hd ok
  have ht := (mtot_le (mFok_tl ok)).1
  have hl : 1 ≤ r.st.length := by rw [hr]; simp
  obtain ⟨g, f⟩ := gX_pl g0' ok (r.pl + 1)
  have ok' : mFok (mFpl r (r.pl + 1) :: F) := mFok_pl ok hpl
  obtain ⟨a1, a2⟩ := x_cell g0'.2 (i := 0) (m := 1) (c := c1) (by rw [hr]; rfl) rfl
  have hob := i.1.1.2
  have hQ1 := vX_mono hQ f.cX3
  refine sX1_step_0 M _ g0'.1.1 ?_
  rw [n1, nn_cl (n := r.pl) (by omega), hc, ha]
  refine ⟨by rw [nn_in (by omega)]; omega, by rw [nn_in (by omega)]; omega, by rw [nn_in (by omega)]; omega, by rw [nn_in (by omega)]; omega, ?_⟩
  repeat rw [if_neg (by decide)]
  rw [if_pos rfl]
  simp (disch := omega) only [n3, a1, a2, nn_add, nn_addl, nn_ladd, nn_mul, nn_lmul, nn_mull, nn_sub, nn_subl, nn_lsub, nn_lt, nn_le, nn_eq, nn_ltl, nn_llt, nn_lel, nn_lle, nn_eql, nn_leq, nn_m1, nn_1m, nn_ltm, nn_mlt, nn_mle, nn_lem, nn_cl, nn_in, nn_ns, nn_ns2, nn_nb, nn_nb2, nn_s1, nn_s2, nn_b1, nn_b2]
  refine ⟨by omega, by omega, ?_⟩
  unfold m_un at hQ1
  have fin : ∀ (M' : zM) (ks : Nat) (v : Int32), fr scx (si M 59 F.length (nI (r.pl + 1))) M' → vX Q (si M 59 F.length (nI (r.pl + 1))) (0, A, nI ks, v) 1 (mFpl r (r.pl + 1)) F → ks < 8 → gi M' 16 33 = nI ks → gi M' 16 32 = v → Z E YX1_step (d + 5) M' [(0, zX16)] 464 [] Q := fun M' ks v f' hq hks e1 e2 => by
    have g2 : gX M' A (mFpl r (r.pl + 1) :: F) := ⟨sX_cg g.1 f' (fun a k q => .inl q), xFs_cg g.2 ok' f' (fun a k q => .inl q)⟩
    exact iX1_step_464 M' g2.1.1 (vX_lf (ks := ks) (vX_mono hq f'.cX1) rfl g2 ok' hl hks e1 e2)
  by_cases h4 : h = 4
  · rw [if_pos (by rw [h4]; rfl)] at hQ1
    subst h4
    refine sX1_unary_0 _ _ _ _ g.1.1 ?_
    rw [if_neg (by decide), if_pos (by rfl)]
    refine xm_typ g.1.1 v1.1 hob (fun x hx => ?_)
    show Z E YX1_unary (d + 4) (si M 59 F.length (nI (r.pl + 1))) [] 40 [vi x, vi 6, zX16] _
    refine iX1_unary_40 _ _ _ g.1.1 ?_
    have ex : x = mty c1.1 (gi (aT A) 141 c1.2.1.toNatClampNeg) := by
      rw [hx]
      refine mty_cg v1.1 (fun h7 => ?_)
      obtain ⟨k, ek, hk8, -, k7⟩ := v1.1
      obtain ⟨j, ej, hj⟩ := k7 (by rw [ek] at h7; simp (disch := omega) only [nn_add, nn_addl, nn_ladd, nn_mul, nn_lmul, nn_mull, nn_sub, nn_subl, nn_lsub, nn_lt, nn_le, nn_eq, nn_ltl, nn_llt, nn_lel, nn_lle, nn_eql, nn_leq, nn_m1, nn_1m, nn_ltm, nn_mlt, nn_mle, nn_lem, nn_cl, nn_in, nn_ns, nn_ns2, nn_nb, nn_nb2, nn_s1, nn_s2, nn_b1, nn_b2] at h7; exact h7)
      rw [ej, nn_cl (by omega)]
      exact (g.1.2.1.2.2.1 j hj).1
    rw [← ex] at hQ1
    exact fin _ 6 x fx_got hQ1 (by omega) (by rw [gi_idx (by decide), gi_self]; rfl) (by rw [gi_self])
  · rw [if_neg (by simp (disch := omega) only [nn_add, nn_addl, nn_ladd, nn_mul, nn_lmul, nn_mull, nn_sub, nn_subl, nn_lsub, nn_lt, nn_le, nn_eq, nn_ltl, nn_llt, nn_lel, nn_lle, nn_eql, nn_leq, nn_m1, nn_1m, nn_ltm, nn_mlt, nn_mle, nn_lem, nn_cl, nn_in, nn_ns, nn_ns2, nn_nb, nn_nb2, nn_s1, nn_s2, nn_b1, nn_b2]; exact h4)] at hQ1
    obtain ⟨k, ek, hk⟩ := mun_ok (aL A) (nI h) c1.1 c1.2.1
    refine xm_un (d := d + 1) g.1.1 g.1.2.2.2 v1.1 (by simp (disch := omega) only [nn_add, nn_addl, nn_ladd, nn_mul, nn_lmul, nn_mull, nn_sub, nn_subl, nn_lsub, nn_lt, nn_le, nn_eq, nn_ltl, nn_llt, nn_lel, nn_lle, nn_eql, nn_leq, nn_m1, nn_1m, nn_ltm, nn_mlt, nn_mle, nn_lem, nn_cl, nn_in, nn_ns, nn_ns2, nn_nb, nn_nb2, nn_s1, nn_s2, nn_b1, nn_b2]; exact h4) (fun M' f' e1 e2 => ?_)
    have em : mun (aL A) (nI h) c1.1 c1.2.1 = (nI k, (mun (aL A) (nI h) c1.1 c1.2.1).2) := by rw [← ek]
    rw [em] at hQ1
    exact fin M' k _ f' hQ1 hk (e1.trans ek) e2
theorem ts_un {h : Nat} {c1 : mC} {st : List mC} (g : gT T A (r :: F)) (i : iA A) (ok : mFok (r :: F)) (hc : gi T 123 r.pl = 13) (ha : gi T 124 r.pl = nI h) (hhow : h < 5) (hr : r.st = c1 :: st) (v1 : mval A c1.1 c1.2.1) (hQ : vT Q T (m_un A (nI h) c1.1 c1.2.1) 1 r F) : Zm E YX8_step_2 (d + 7) T [(0, T97)] 0 [] Q := by
  obtain ⟨n1, n2, n3, n4⟩ := tFs_nums g.2.1
  obtain ⟨g0, g1, -, g3, -⟩ := mFok_hd ok
  have hl : 1 ≤ r.st.length := by rw [hr]; simp
  have hob := i.1.1.2
  obtain ⟨a1, a2⟩ := t_cell g.2.1 (i := 0) (c := c1) (by rw [hr]; rfl)
  refine sX8_step_2_0 T ?_
  rw [n1, nn_cl (n := F.length) (by omega), n2, nn_cl (n := r.pl) (by omega), hc, ha]
  refine ⟨by rw [nn_in (by omega)]; omega, by rw [nn_in (by omega)]; omega, by rw [nn_in (by omega)]; omega, by rw [nn_in (by omega)]; omega, ?_⟩
  repeat rw [if_neg (by decide)]
  rw [if_pos rfl]
  simp (disch := omega) only [nn_add, nn_addl, nn_ladd, nn_mul, nn_lmul, nn_mull, nn_sub, nn_subl, nn_lsub, nn_lt, nn_le, nn_eq, nn_ltl, nn_llt, nn_lel, nn_lle, nn_eql, nn_leq, nn_m1, nn_1m, nn_ltm, nn_mlt, nn_mle, nn_lem, nn_cl, nn_in, nn_ns, nn_ns2, nn_nb, nn_nb2, nn_s1, nn_s2, nn_b1, nn_b2]
  unfold m_un at hQ
  have go := vT_out hQ (Q' := zma E YX8_step_2 (d + 7) [] 404 3 [] Q) (fun T' q => iX8_step_2_407 T' q)
  by_cases h4 : h = 4
  · rw [if_pos h4]
    rw [if_pos (by rw [h4]; rfl)] at go
    refine jX8_sortAt T _ ?_
    rw [n1]
    simp (disch := omega) only [n3, a1, nn_add, nn_addl, nn_ladd, nn_mul, nn_lmul, nn_mull, nn_sub, nn_subl, nn_lsub, nn_lt, nn_le, nn_eq, nn_ltl, nn_llt, nn_lel, nn_lle, nn_eql, nn_leq, nn_m1, nn_1m, nn_ltm, nn_mlt, nn_mle, nn_lem, nn_cl, nn_in, nn_ns, nn_ns2, nn_nb, nn_nb2, nn_s1, nn_s2, nn_b1, nn_b2]
    refine ⟨by omega, by omega, ?_⟩
    show Zm E YX8_step_2 (d + 7) T [(0, T97)] 373 [vi c1.1, T97, vi 6, T97] Q
    refine iX8_step_2_373 T _ _ ?_
    rw [n1]
    simp (disch := omega) only [n3, a2, nn_add, nn_addl, nn_ladd, nn_mul, nn_lmul, nn_mull, nn_sub, nn_subl, nn_lsub, nn_lt, nn_le, nn_eq, nn_ltl, nn_llt, nn_lel, nn_lle, nn_eql, nn_leq, nn_m1, nn_1m, nn_ltm, nn_mlt, nn_mle, nn_lem, nn_cl, nn_in, nn_ns, nn_ns2, nn_nb, nn_nb2, nn_s1, nn_s2, nn_b1, nn_b2]
    refine ⟨by omega, by omega, ?_⟩
    refine tm_typ v1.1 hob (fun x hx => ?_)
    have ex : x = mty c1.1 (gi (aT A) 141 c1.2.1.toNatClampNeg) := by
      rw [hx, g.1.1 141 _ (by unfold hpT; omega)]
    show Zm E YX8_step_2 (d + 7) T [(0, T97)] 381 [vi x, vi 6, T97] Q
    refine iX8_step_2_381 T _ _ ?_
    rw [← ex] at go
    exact vT_0 (n := 1) go rfl g ok hl (by decide)
  · rw [if_neg h4]
    rw [if_neg (by simp (disch := omega) only [nn_add, nn_addl, nn_ladd, nn_mul, nn_lmul, nn_mull, nn_sub, nn_subl, nn_lsub, nn_lt, nn_le, nn_eq, nn_ltl, nn_llt, nn_lel, nn_lle, nn_eql, nn_leq, nn_m1, nn_1m, nn_ltm, nn_mlt, nn_mle, nn_lem, nn_cl, nn_in, nn_ns, nn_ns2, nn_nb, nn_nb2, nn_s1, nn_s2, nn_b1, nn_b2]; exact h4)] at go
    refine jX8_sortAt T _ ?_
    rw [n1]
    simp (disch := omega) only [n3, a1, nn_add, nn_addl, nn_ladd, nn_mul, nn_lmul, nn_mull, nn_sub, nn_subl, nn_lsub, nn_lt, nn_le, nn_eq, nn_ltl, nn_llt, nn_lel, nn_lle, nn_eql, nn_leq, nn_m1, nn_1m, nn_ltm, nn_mlt, nn_mle, nn_lem, nn_cl, nn_in, nn_ns, nn_ns2, nn_nb, nn_nb2, nn_s1, nn_s2, nn_b1, nn_b2]
    refine ⟨by omega, by omega, ?_⟩
    show Zm E YX8_step_2 (d + 7) T [(0, T97)] 394 [vi c1.1, vi (nI h), T97] Q
    refine iX8_step_2_394 T _ _ ?_
    rw [n1]
    simp (disch := omega) only [n3, a2, nn_add, nn_addl, nn_ladd, nn_mul, nn_lmul, nn_mull, nn_sub, nn_subl, nn_lsub, nn_lt, nn_le, nn_eq, nn_ltl, nn_llt, nn_lel, nn_lle, nn_eql, nn_leq, nn_m1, nn_1m, nn_ltm, nn_mlt, nn_mle, nn_lem, nn_cl, nn_in, nn_ns, nn_ns2, nn_nb, nn_nb2, nn_s1, nn_s2, nn_b1, nn_b2]
    refine ⟨by omega, by omega, ?_⟩
    obtain ⟨k, ek, hk⟩ := mun_ok (aL A) (nI h) c1.1 c1.2.1
    refine tm_un (d := d + 3) g.1.2 v1.1 (fun T1 f1 e1 e2 => ?_)
    show Zm E YX8_step_2 (d + 7) T1 [(0, T97)] 402 [] Q
    refine sX8_step_2_402 T1 ?_
    exact vT_0' (n := 1) (s := (mun (aL A) (nI h) c1.1 c1.2.1).1) (v := (mun (aL A) (nI h) c1.1 c1.2.1).2) (vT_mono go f1.cT1) rfl (gT_scr g ok f1) ok hl (by rw [ek, nn_eql (by omega) (by omega)]; omega) e1 e2
end
