/-! THE MACHINE's STEP: SET_GLOBAL -/
section
variable {E : zE} {d : Nat} {T M : zM} {Q : zO → zM → Prop} {A : mA} {r : mF} {F : List mF}
/-- what lies beside a value does not matter -/
theorem xFs_norm {c : mC} {st : List mC} (h : xFs M (r :: F)) (hr : r.st = c :: st) (h8 : ¬ c.1 = 8) : xFs M (mFst r ((c.1, c.2.1, 0, 0) :: st) :: F) := by
  obtain ⟨⟨h1, h2, h3⟩, ⟨a, b, t, d1, d2⟩, h5⟩ := h
  rw [hr] at d2
  refine ⟨⟨h1, ?_, h3⟩, ⟨a, b, t, d1, ⟨d2.1.1, d2.1.2.1, fun z => absurd z h8⟩, d2.2⟩, h5⟩
  rw [h2, mtot_c, mtot_c, hr]; rfl
theorem tFs_norm {c : mC} {st : List mC} (h : tFs T (r :: F)) (hr : r.st = c :: st) (h8 : ¬ c.1 = 8) : tFs T (mFst r ((c.1, c.2.1, 0, 0) :: st) :: F) := by
  obtain ⟨h1, ⟨a, b, t, d1, d2⟩, h5⟩ := h
  rw [hr] at d1 d2
  exact ⟨h1, ⟨a, b, t, d1, ⟨d2.1.1, d2.1.2.1, fun z => absurd z h8⟩, d2.2⟩, h5⟩
theorem xs_setg {jx : Nat} {c1 : mC} {st : List mC} (h : gX M A (r :: F)) (i : iA A) (h9 : 9 ≤ aO A) (ok : mFok (r :: F)) (hpl : r.pl + 1 < 600) (hc : gi M 30 r.pl = 4) (hb : gi M 34 r.pl = nI jx) (hx : jx < 32768) (hr : r.st = c1 :: st) (v1 : mval A c1.1 c1.2.1) (hQ : vX Q M (m_setg A (nI jx) c1.1 c1.2.1) 1 (mFpl r (r.pl + 1)) F) : Z E YX1_step (d + 2) M [(0, zX16), (1, vi (nI r.pl))] 0 [] Q := by
  obtain ⟨n1, n2, n3, n4⟩ := xFs_nums h.2
  obtain ⟨g0, -, -, g3, -⟩ := mFok_hd ok
  have ht := (mtot_le (mFok_tl ok)).1
  have hl : 1 ≤ r.st.length := by rw [hr]; simp
  obtain ⟨g, f⟩ := gX_pl h ok (r.pl + 1)
  have ok' : mFok (mFpl r (r.pl + 1) :: F) := mFok_pl ok hpl
  obtain ⟨a1, a2⟩ := x_cell h.2 (i := 0) (m := 1) (c := c1) (by rw [hr]; rfl) rfl
  obtain ⟨ks, ek, hks, -, -⟩ := id v1.1
  rw [ek] at a1
  have hQ1 := vX_mono hQ f.cX3
  refine sX1_step_0 M _ h.1.1 ?_
  rw [n1, nn_cl (n := r.pl) (by omega), hc, hb]
  refine ⟨by rw [nn_in (by omega)]; omega, by rw [nn_in (by omega)]; omega, by rw [nn_in (by omega)]; omega, by rw [nn_in (by omega)]; omega, ?_⟩
  repeat rw [if_neg (by decide)]
  rw [if_pos rfl]
  simp (disch := omega) only [n3, a1, a2, nn_add, nn_addl, nn_ladd, nn_mul, nn_lmul, nn_mull, nn_sub, nn_subl, nn_lsub, nn_lt, nn_le, nn_eq, nn_ltl, nn_llt, nn_lel, nn_lle, nn_eql, nn_leq, nn_m1, nn_1m, nn_ltm, nn_mlt, nn_mle, nn_lem, nn_cl, nn_in, nn_ns, nn_ns2, nn_nb, nn_nb2, nn_s1, nn_s2, nn_b1, nn_b2]
  refine ⟨by omega, by omega, ?_⟩
  unfold m_setg at hQ1
  rw [ek] at hQ1
  refine xA_set (o := 0) g.1 i (by omega) hx hks (fun M' A' ea s' f' => ?_) (fun A' ea eA => ?_)
  · rw [ea] at hQ1
    dsimp only at hQ1
    show Z E YX1_step (d + 2) M' [] 294 [] Q
    refine iX1_step_294 M' s'.1 ?_
    have g2 := gX_fX g ok' s' f'
    have x2 := xFs_norm (r := mFpl r (r.pl + 1)) g2.2 hr (by rw [ek, nn_eql (by omega) (by omega)]; omega)
    refine hQ1.1 rfl M' ⟨s', ?_⟩ f'.cX5
    rw [ek] at x2
    rw [show (mFpl r (r.pl + 1)).st = r.st from rfl, hr]
    exact x2
  · rw [ea, eA] at hQ1
    dsimp only at hQ1
    show ZT E YX1_step (d + 2) _ [] 291 (51, 13, 0) Q
    exact ZT.out (nohand rfl) (hQ1.2.2 rfl _ g fr.rf)
theorem ts_setg {x : Int32} {c1 : mC} {st : List mC} (g : gT T A (r :: F)) (i : iA A) (h9 : 9 ≤ aO A) (ok : mFok (r :: F)) (hc : gi T 123 r.pl = 4) (hb : gi T 125 r.pl = x) (hr : r.st = c1 :: st) (v1 : mval A c1.1 c1.2.1) (hQ : vT Q T (m_setg A x c1.1 c1.2.1) 1 r F) : Zm E YX8_step_2 (d + 3) T [(0, T97)] 0 [] Q := by
  obtain ⟨n1, n2, n3, n4⟩ := tFs_nums g.2.1
  obtain ⟨g0, g1, -, g3, -⟩ := mFok_hd ok
  have hl : 1 ≤ r.st.length := by rw [hr]; simp
  obtain ⟨a1, a2⟩ := t_cell g.2.1 (i := 0) (c := c1) (by rw [hr]; rfl)
  refine sX8_step_2_0 T ?_
  rw [n1, nn_cl (n := F.length) (by omega), n2, nn_cl (n := r.pl) (by omega), hc, hb]
  refine ⟨by rw [nn_in (by omega)]; omega, by rw [nn_in (by omega)]; omega, by rw [nn_in (by omega)]; omega, by rw [nn_in (by omega)]; omega, ?_⟩
  rw [if_neg (show ¬ (4 : Int32) = 0 by decide), if_neg (show ¬ (4 : Int32) = 1 by decide), if_neg (show ¬ (4 : Int32) = 2 by decide), if_neg (show ¬ (4 : Int32) = 3 by decide), if_pos rfl]
  refine jX8_sortAt T _ ?_
  rw [n1]
  simp (disch := omega) only [n3, a1, nn_add, nn_addl, nn_ladd, nn_mul, nn_lmul, nn_mull, nn_sub, nn_subl, nn_lsub, nn_lt, nn_le, nn_eq, nn_ltl, nn_llt, nn_lel, nn_lle, nn_eql, nn_leq, nn_m1, nn_1m, nn_ltm, nn_mlt, nn_mle, nn_lem, nn_cl, nn_in, nn_ns, nn_ns2, nn_nb, nn_nb2, nn_s1, nn_s2, nn_b1, nn_b2]
  refine ⟨by omega, by omega, ?_⟩
  show Zm E YX8_step_2 (d + 3) T [(0, T97)] 226 [vi c1.1, vi x, vi 0, T97] Q
  refine iX8_step_2_226 T _ _ _ ?_
  rw [n1]
  simp (disch := omega) only [n3, a2, nn_add, nn_addl, nn_ladd, nn_mul, nn_lmul, nn_mull, nn_sub, nn_subl, nn_lsub, nn_lt, nn_le, nn_eq, nn_ltl, nn_llt, nn_lel, nn_lle, nn_eql, nn_leq, nn_m1, nn_1m, nn_ltm, nn_mlt, nn_mle, nn_lem, nn_cl, nn_in, nn_ns, nn_ns2, nn_nb, nn_nb2, nn_s1, nn_s2, nn_b1, nn_b2]
  refine ⟨by omega, by omega, ?_⟩
  unfold m_setg at hQ
  refine tA_set (o := 0) g.1 i (by omega) (fun T' A' ea s' f' => ?_) (fun A' ea eA => ?_)
  · rw [ea] at hQ
    dsimp only at hQ
    show Zm E YX8_step_2 (d + 3) T' [(0, T97)] 234 [] Q
    refine iX8_step_2_234 T' ?_
    have g2 := gT_fT g ok s' f'
    obtain ⟨p1, p2, p3, p4⟩ := tFs_nums g2.2.1
    rw [g2.2.2.1, if_pos rfl, p1]
    simp (disch := omega) only [p2, nn_add, nn_addl, nn_ladd, nn_mul, nn_lmul, nn_mull, nn_sub, nn_subl, nn_lsub, nn_lt, nn_le, nn_eq, nn_ltl, nn_llt, nn_lel, nn_lle, nn_eql, nn_leq, nn_m1, nn_1m, nn_ltm, nn_mlt, nn_mle, nn_lem, nn_cl, nn_in, nn_ns, nn_ns2, nn_nb, nn_nb2, nn_s1, nn_s2, nn_b1, nn_b2]
    refine ⟨by omega, ?_⟩
    have x2 := tFs_norm g2.2.1 hr (mval_8 v1.1)
    have x3 := tFs_pl x2 (mFok_tl ok) (r.pl + 1)
    have f3 : fr fFT T' (si T' 154 F.length (nI (r.pl + 1))) := fr.si (fFT_i (by omega))
    refine hQ.1 rfl _ ⟨sT_cg s' f3 (fun a k q => .inr (.inl (.inl q))), ?_, (f3.2 97 75 (by unfold fFT; omega)).1.trans g2.2.2.1, (f3.2 97 73 (by unfold fFT; omega)).1.trans g2.2.2.2⟩ (f'.cT7.tr f3.cT3)
    rw [show r.st.drop 1 = st by rw [hr]; rfl]
    exact x3
  · rw [ea, eA] at hQ
    dsimp only at hQ
    show Zm E YX8_step_2 (d + 3) (si T 97 75 1) [(0, T97)] 234 [] Q
    refine iX8_step_2_234 _ ?_
    rw [gi_self, if_neg (by decide)]
    have f3 : fr (fun a k => a = 97 ∧ k = 75) T (si T 97 75 1) := fr.si ⟨rfl, rfl⟩
    exact hQ.2.2 rfl _ (sT_cg g.1 f3 (fun a k q => .inr (.inr q))) (tFs_cg g.2.1 ok f3 (fun a k q => .inr (.inr (.inr q)))) (gi_self ..) ((gi_idx (by decide)).trans g.2.2.2) cT_75
end
