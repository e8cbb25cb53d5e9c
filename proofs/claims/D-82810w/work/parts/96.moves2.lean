/-! THE MACHINE's MOVES: UNLESS AND OR THROW TRY LEAVE -/
section
variable {E : zE} {d : Nat} {T M : zM} {Q : zO → zM → Prop} {A : mA} {r : mF} {F : List mF}
/-- UNLESS -/
theorem xs_unless {a : Nat} {c : mC} {st : List mC} (h : gX M A (r :: F)) (ok : mFok (r :: F)) (hc : gi M 30 r.pl = 22) (ha : gi M 31 r.pl = nI a) (ha6 : a < 600) (hr : r.st = c :: st) (v1 : mval A c.1 c.2.1)
    (hQ : wX Q M A (mFpl (mFst r st) (if mtr (aL A) c.1 c.2.1 = true then r.pl + 1 else a) :: F)) : Z E YX1_step (d + 3) M [(0, zX16), (1, vi (nI r.pl))] 0 [] Q := by
  refine xs_moves h ok (by decide) hc ha (fun M1 g f c1 Q' k1 k2 => ?_)
  obtain ⟨n1, n2, n3, n4⟩ := xFs_nums g.2
  obtain ⟨g0, g1, -, g3, -⟩ := mFok_hd ok
  have ht := (mtot_le (mFok_tl ok)).1
  have hl : 1 ≤ r.st.length := by rw [hr]; simp
  have n3 : gi M1 16 38 = nI (mtot F + r.st.length) := n3
  obtain ⟨a1, a2⟩ := x_cell g.2 (i := 0) (m := 1) (c := c) (by show r.st[0]? = _; rw [hr]; rfl) rfl
  have a1 : gi M1 53 (mtot F + r.st.length - 1) = c.1 := a1
  have a2 : gi M1 54 (mtot F + r.st.length - 1) = c.2.1 := a2
  refine sX1_moves_0 M1 _ _ _ _ g.1.1 ?_
  rw [nn_cl (n := r.pl) (by omega), c1]
  refine ⟨by rw [nn_in (by omega)]; omega, ?_⟩
  repeat rw [if_neg (by decide)]
  rw [if_pos rfl, n3]
  simp (disch := omega) only [a1, a2, nn_add, nn_addl, nn_ladd, nn_mul, nn_lmul, nn_mull, nn_sub, nn_subl, nn_lsub, nn_lt, nn_le, nn_eq, nn_ltl, nn_llt, nn_lel, nn_lle, nn_eql, nn_leq, nn_m1, nn_1m, nn_ltm, nn_mlt, nn_mle, nn_lem, nn_cl, nn_in, nn_ns, nn_ns2, nn_nb, nn_nb2, nn_s1, nn_s2, nn_b1, nn_b2]
  refine ⟨by omega, by omega, ?_⟩
  have x := xFs_drop (n := 1) g.2 (mFok_tl ok) hl
  rw [show (mFpl r (r.pl + 1)).st.drop 1 = st by show r.st.drop 1 = st; rw [hr]; rfl] at x
  change xFs (si M1 16 38 (nI (mtot F + r.st.length - 1))) _ at x
  have f2 : fr fFX M1 (si M1 16 38 (nI (mtot F + r.st.length - 1))) := fr.si fFX_38
  generalize si M1 16 38 (nI (mtot F + r.st.length - 1)) = M2 at *
  have s2 := sX_cg g.1 f2 (fun a k q => .inr (.inl q))
  refine xm_true s2.1 s2.2.2.2 v1.1 ?_
  show Z E YX1_moves (d + 2) M2 [(0, zX16), (2, vi (nI a)), (3, vi (nI F.length))] 239 [vi (bI (mtr (aL A) c.1 c.2.1))] Q'
  refine iX1_moves_239 _ _ _ _ s2.1 ?_
  cases hb : mtr (aL A) c.1 c.2.1
  · rw [hb] at hQ
    rw [if_pos (show bI false = 0 from rfl)]
    simp (disch := omega) only [nn_add, nn_addl, nn_ladd, nn_mul, nn_lmul, nn_mull, nn_sub, nn_subl, nn_lsub, nn_lt, nn_le, nn_eq, nn_ltl, nn_llt, nn_lel, nn_lle, nn_eql, nn_leq, nn_m1, nn_1m, nn_ltm, nn_mlt, nn_mle, nn_lem, nn_cl, nn_in, nn_ns, nn_ns2, nn_nb, nn_nb2, nn_s1, nn_s2, nn_b1, nn_b2]
    obtain ⟨w, q⟩ := wX_fr (r' := mFpl (mFst r st) a) (wX_mono hQ (f.tr f2.cX3)) s2 (xFs_pl x (mFok_tl ok) a) (fr.si (fFX_i (by omega)))
    exact ⟨by omega, k1 _ w q⟩
  · rw [hb] at hQ
    rw [if_neg (by decide)]
    obtain ⟨w, q⟩ := wX_fr (r' := mFst (mFpl r (r.pl + 1)) st) (wX_mono hQ (f.tr f2.cX3)) s2 x fr.rf
    exact k1 _ w q
theorem ts_unless {a : Nat} {c : mC} {st : List mC} (h : gT T A (r :: F)) (ok : mFok (r :: F)) (hc : gi T 123 r.pl = 22) (ha : gi T 124 r.pl = nI a) (hr : r.st = c :: st) (v1 : mval A c.1 c.2.1)
    (hQ : wT Q T A (mFpl (mFst r st) (if mtr (aL A) c.1 c.2.1 = true then r.pl + 1 else a) :: F)) : Zm E YX8_step_2 (d + 3) T [(0, T97)] 0 [] Q := by
  refine ts_other h ok (by decide) hc ha (fun Q' k1 => tv_pre h ok hr (by decide) (by decide) (by decide) ?_)
  obtain ⟨n1, n2, n3, n4⟩ := tFs_nums h.2.1
  obtain ⟨g0, g1, -, g3, -⟩ := mFok_hd ok
  have hl : 1 ≤ r.st.length := by rw [hr]; simp
  refine sX8_stepOther_55 T _ _ _ _ ?_
  repeat rw [if_neg (by decide)]
  rw [if_pos rfl]
  refine jX8_drop T _ ?_
  rw [n1]
  simp (disch := omega) only [n3, nn_add, nn_addl, nn_ladd, nn_mul, nn_lmul, nn_mull, nn_sub, nn_subl, nn_lsub, nn_lt, nn_le, nn_eq, nn_ltl, nn_llt, nn_lel, nn_lle, nn_eql, nn_leq, nn_m1, nn_1m, nn_ltm, nn_mlt, nn_mle, nn_lem, nn_cl, nn_in, nn_ns, nn_ns2, nn_nb, nn_nb2, nn_s1, nn_s2, nn_b1, nn_b2]
  refine ⟨by omega, ?_⟩
  have x := tFs_drop h.2.1 (mFok_tl ok) 1
  rw [show r.st.drop 1 = st by rw [hr]; rfl] at x
  have f2 : fr fFT T (si T 155 F.length (nI (r.st.length - 1))) := fr.si (fFT_i (by omega))
  show Zm E YX8_stepOther (d + 2) (si T 155 F.length (nI (r.st.length - 1))) [(0, T97), (2, vi (nI a)), (3, vi c.1), (4, vi c.2.1), (5, vi (nI F.length))] 224 [] Q'
  generalize si T 155 F.length (nI (r.st.length - 1)) = T2 at *
  refine sX8_stepOther_224 T2 _ _ _ _ ?_
  have s2 := sT_cg h.1 f2 (fun a k q => .inr (.inl (.inl q)))
  refine tm_true s2.2 v1.1 ?_
  show Zm E YX8_stepOther (d + 2) T2 [(0, T97), (2, vi (nI a)), (5, vi (nI F.length))] 237 [vi (bI (mtr (aL A) c.1 c.2.1)), vi (nI F.length), vr (some (154, 100, 24))] Q'
  refine iX8_stepOther_237 T2 _ _ _ _ ?_
  obtain ⟨p1, p2, p3, p4⟩ := tFs_nums x
  have p2 : gi T2 154 F.length = nI r.pl := p2
  cases hb : mtr (aL A) c.1 c.2.1
  · rw [hb] at hQ
    rw [if_pos (show bI false = 0 from rfl)]
    simp (disch := omega) only [nn_add, nn_addl, nn_ladd, nn_mul, nn_lmul, nn_mull, nn_sub, nn_subl, nn_lsub, nn_lt, nn_le, nn_eq, nn_ltl, nn_llt, nn_lel, nn_lle, nn_eql, nn_leq, nn_m1, nn_1m, nn_ltm, nn_mlt, nn_mle, nn_lem, nn_cl, nn_in, nn_ns, nn_ns2, nn_nb, nn_nb2, nn_s1, nn_s2, nn_b1, nn_b2]
    exact ⟨by omega, k1 _ (wT_fr (r' := mFpl (mFst r st) a) hQ h (tFs_pl x (mFok_tl ok) a) (f2.tr (fr.si (fFT_i (by omega)))))⟩
  · rw [hb] at hQ
    rw [if_neg (by decide)]
    simp (disch := omega) only [p2, nn_add, nn_addl, nn_ladd, nn_mul, nn_lmul, nn_mull, nn_sub, nn_subl, nn_lsub, nn_lt, nn_le, nn_eq, nn_ltl, nn_llt, nn_lel, nn_lle, nn_eql, nn_leq, nn_m1, nn_1m, nn_ltm, nn_mlt, nn_mle, nn_lem, nn_cl, nn_in, nn_ns, nn_ns2, nn_nb, nn_nb2, nn_s1, nn_s2, nn_b1, nn_b2]
    exact ⟨by omega, by omega, k1 _ (wT_fr (r' := mFpl (mFst r st) (r.pl + 1)) hQ h (tFs_pl x (mFok_tl ok) (r.pl + 1)) (f2.tr (fr.si (fFT_i (by omega)))))⟩
/-- AND (o = false), OR (o = true) -/
theorem xs_andor {a : Nat} {o : Bool} {c : mC} {st : List mC} (h : gX M A (r :: F)) (ok : mFok (r :: F)) (hc : gi M 30 r.pl = if o = true then 24 else 23) (ha : gi M 31 r.pl = nI a) (ha6 : a < 600) (hr : r.st = c :: st) (v1 : mval A c.1 c.2.1)
    (hQ : wX Q M A ((if mtr (aL A) c.1 c.2.1 = o then mFpl r a else mFst (mFpl r (r.pl + 1)) st) :: F)) : Z E YX1_step (d + 3) M [(0, zX16), (1, vi (nI r.pl))] 0 [] Q := by
  refine xs_moves h ok (by cases o <;> decide) hc ha (fun M1 g f c1 Q' k1 k2 => ?_)
  obtain ⟨n1, n2, n3, n4⟩ := xFs_nums g.2
  obtain ⟨g0, g1, -, g3, -⟩ := mFok_hd ok
  have ht := (mtot_le (mFok_tl ok)).1
  have hl : 1 ≤ r.st.length := by rw [hr]; simp
  have n3 : gi M1 16 38 = nI (mtot F + r.st.length) := n3
  obtain ⟨a1, a2⟩ := x_cell g.2 (i := 0) (m := 1) (c := c) (by show r.st[0]? = _; rw [hr]; rfl) rfl
  have a1 : gi M1 53 (mtot F + r.st.length - 1) = c.1 := a1
  have a2 : gi M1 54 (mtot F + r.st.length - 1) = c.2.1 := a2
  have x := xFs_drop (n := 1) g.2 (mFok_tl ok) hl
  rw [show (mFpl r (r.pl + 1)).st.drop 1 = st by show r.st.drop 1 = st; rw [hr]; rfl] at x
  have x2 := xFs_pl g.2 (mFok_tl ok) a
  have cont : Z E YX1_isTrue (d + 1) M1 (zargs 0 [zX16, vi c.1, vi c.2.1]) 0 [] (zafter E YX1_moves (d + 2) [(0, zX16), (1, vi (nI r.pl)), (2, vi (nI a)), (3, vi (nI F.length))] 268 3 [] Q') := by
    refine xm_true g.1.1 g.1.2.2.2 v1.1 ?_
    show Z E YX1_moves (d + 2) M1 [(0, zX16), (1, vi (nI r.pl)), (2, vi (nI a)), (3, vi (nI F.length))] 271 [vi (bI (mtr (aL A) c.1 c.2.1))] Q'
    refine iX1_moves_271 _ _ _ _ _ g.1.1 ?_
    rw [nn_cl (n := r.pl) (by omega), c1]
    refine ⟨by rw [nn_in (by omega)]; omega, ?_⟩
    have jump : mtr (aL A) c.1 c.2.1 = o → vp_in (nI F.length) 24 ∧ Q' (.inl none) (si M1 59 (nI F.length).toNatClampNeg (vp_nar .short (nI a).toInt16.toInt32)) := fun e => by
      rw [if_pos e] at hQ
      simp (disch := omega) only [nn_add, nn_addl, nn_ladd, nn_mul, nn_lmul, nn_mull, nn_sub, nn_subl, nn_lsub, nn_lt, nn_le, nn_eq, nn_ltl, nn_llt, nn_lel, nn_lle, nn_eql, nn_leq, nn_m1, nn_1m, nn_ltm, nn_mlt, nn_mle, nn_lem, nn_cl, nn_in, nn_ns, nn_ns2, nn_nb, nn_nb2, nn_s1, nn_s2, nn_b1, nn_b2]
      obtain ⟨w, q⟩ := wX_fr (wX_mono hQ f) g.1 x2 (fr.si (fFX_i (by omega)))
      exact ⟨by omega, k1 _ w q⟩
    have fall : ¬ mtr (aL A) c.1 c.2.1 = o → Q' (.inl none) (si M1 16 38 (gi M1 16 38 - 1)) := fun e => by
      rw [if_neg e] at hQ
      rw [n3]
      simp (disch := omega) only [nn_add, nn_addl, nn_ladd, nn_mul, nn_lmul, nn_mull, nn_sub, nn_subl, nn_lsub, nn_lt, nn_le, nn_eq, nn_ltl, nn_llt, nn_lel, nn_lle, nn_eql, nn_leq, nn_m1, nn_1m, nn_ltm, nn_mlt, nn_mle, nn_lem, nn_cl, nn_in, nn_ns, nn_ns2, nn_nb, nn_nb2, nn_s1, nn_s2, nn_b1, nn_b2]
      obtain ⟨w, q⟩ := wX_fr (wX_mono hQ f) g.1 x (fr.si fFX_38)
      exact k1 _ w q
    cases o
    · rw [if_neg (show ¬ (if false = true then (24 : Int32) else 23) = 24 by decide)]
      cases hb : mtr (aL A) c.1 c.2.1
      · rw [if_pos (show bI false = 0 from rfl)]; exact jump hb
      · rw [if_neg (show ¬ bI true = 0 by decide)]; exact fall (by rw [hb]; decide)
    · rw [if_pos (show (if true = true then (24 : Int32) else 23) = 24 from rfl)]
      cases hb : mtr (aL A) c.1 c.2.1
      · rw [if_neg (show ¬ bI false = 1 by decide)]; exact fall (by rw [hb]; decide)
      · rw [if_pos (show bI true = 1 from rfl)]; exact jump hb
  refine sX1_moves_0 M1 _ _ _ _ g.1.1 ?_
  rw [nn_cl (n := r.pl) (by omega), c1]
  refine ⟨by rw [nn_in (by omega)]; omega, ?_⟩
  cases o
  · rw [if_neg (show ¬ (false = true) by decide)] 
    repeat rw [if_neg (by decide)]
    rw [if_pos rfl]
    simp (disch := omega) only [a1, a2, nn_add, nn_addl, nn_ladd, nn_mul, nn_lmul, nn_mull, nn_sub, nn_subl, nn_lsub, nn_lt, nn_le, nn_eq, nn_ltl, nn_llt, nn_lel, nn_lle, nn_eql, nn_leq, nn_m1, nn_1m, nn_ltm, nn_mlt, nn_mle, nn_lem, nn_cl, nn_in, nn_ns, nn_ns2, nn_nb, nn_nb2, nn_s1, nn_s2, nn_b1, nn_b2]
    exact ⟨by omega, by omega, cont⟩
  · rw [if_pos (show true = true from rfl)]
    repeat rw [if_neg (by decide)]
    rw [if_pos rfl]
    simp (disch := omega) only [a1, a2, nn_add, nn_addl, nn_ladd, nn_mul, nn_lmul, nn_mull, nn_sub, nn_subl, nn_lsub, nn_lt, nn_le, nn_eq, nn_ltl, nn_llt, nn_lel, nn_lle, nn_eql, nn_leq, nn_m1, nn_1m, nn_ltm, nn_mlt, nn_mle, nn_lem, nn_cl, nn_in, nn_ns, nn_ns2, nn_nb, nn_nb2, nn_s1, nn_s2, nn_b1, nn_b2]
    exact ⟨by omega, by omega, cont⟩
theorem ts_andor {a : Nat} {o : Bool} {c : mC} {st : List mC} (h : gT T A (r :: F)) (ok : mFok (r :: F)) (hc : gi T 123 r.pl = if o = true then 24 else 23) (ha : gi T 124 r.pl = nI a) (hr : r.st = c :: st) (v1 : mval A c.1 c.2.1)
    (hQ : wT Q T A ((if mtr (aL A) c.1 c.2.1 = o then mFpl r a else mFst (mFpl r (r.pl + 1)) st) :: F)) : Zm E YX8_step_2 (d + 3) T [(0, T97)] 0 [] Q := by
  refine ts_other h ok (by cases o <;> decide) hc ha (fun Q' k1 => tv_pre h ok hr (by cases o <;> decide) (by cases o <;> decide) (by cases o <;> decide) ?_)
  obtain ⟨n1, n2, n3, n4⟩ := tFs_nums h.2.1
  obtain ⟨g0, g1, -, g3, -⟩ := mFok_hd ok
  have hl : 1 ≤ r.st.length := by rw [hr]; simp
  have x := tFs_drop h.2.1 (mFok_tl ok) 1
  rw [show r.st.drop 1 = st by rw [hr]; rfl] at x
  have jump : mtr (aL A) c.1 c.2.1 = o → vp_in (nI F.length) 24 ∧ Q' (.inl none) (si T 154 (nI F.length).toNatClampNeg (nI a)) := fun e => by
    rw [if_pos e] at hQ
    simp (disch := omega) only [nn_add, nn_addl, nn_ladd, nn_mul, nn_lmul, nn_mull, nn_sub, nn_subl, nn_lsub, nn_lt, nn_le, nn_eq, nn_ltl, nn_llt, nn_lel, nn_lle, nn_eql, nn_leq, nn_m1, nn_1m, nn_ltm, nn_mlt, nn_mle, nn_lem, nn_cl, nn_in, nn_ns, nn_ns2, nn_nb, nn_nb2, nn_s1, nn_s2, nn_b1, nn_b2]
    exact ⟨by omega, k1 _ (wT_fr hQ h (tFs_pl h.2.1 (mFok_tl ok) a) (fr.si (fFT_i (by omega))))⟩
  have fall : ¬ mtr (aL A) c.1 c.2.1 = o → vp_in (gi T 97 92 - 1) 24 ∧ Q' (.inl none) (si (si T 155 (gi T 97 92 - 1).toNatClampNeg (gi T 155 (gi T 97 92 - 1).toNatClampNeg - 1)) 154 (gi T 97 92 - 1).toNatClampNeg (gi T 154 (gi T 97 92 - 1).toNatClampNeg + 1)) := fun e => by
    rw [if_neg e] at hQ
    rw [n1]
    simp (disch := omega) only [n2, n3, nn_add, nn_addl, nn_ladd, nn_mul, nn_lmul, nn_mull, nn_sub, nn_subl, nn_lsub, nn_lt, nn_le, nn_eq, nn_ltl, nn_llt, nn_lel, nn_lle, nn_eql, nn_leq, nn_m1, nn_1m, nn_ltm, nn_mlt, nn_mle, nn_lem, nn_cl, nn_in, nn_ns, nn_ns2, nn_nb, nn_nb2, nn_s1, nn_s2, nn_b1, nn_b2]
    exact ⟨by omega, k1 _ (wT_fr hQ h (tFs_pl x (mFok_tl ok) (r.pl + 1)) ((fr.si (fFT_i (by omega))).tr (fr.si (fFT_i (by omega)))))⟩
  have cont : ∀ op : Int32, op = (if o = true then 24 else 23) → Zm E YX8_isTrue (d + 1) T (zargs 0 [T97, vi c.1, vi c.2.1]) 0 [] (zma E YX8_stepOther (d + 2) [(0, T97), (1, vi op), (2, vi (nI a)), (5, vi (gi T 97 92 - 1))] 261 3 [] Q') := fun op eo => by
    refine tm_true h.1.2 v1.1 ?_
    show Zm E YX8_stepOther (d + 2) T [(0, T97), (1, vi op), (2, vi (nI a)), (5, vi (gi T 97 92 - 1))] 264 [vi (bI (mtr (aL A) c.1 c.2.1))] Q'
    refine iX8_stepOther_264 T _ _ _ _ ?_
    rw [eo]
    cases o
    · rw [if_pos (show (if false = true then (24 : Int32) else 23) = 23 from rfl)]
      cases hb : mtr (aL A) c.1 c.2.1
      · rw [if_neg (show ¬ bI false = 1 by decide), n1]; exact jump hb
      · rw [if_pos (show bI true = 1 from rfl)]; exact fall (by rw [hb]; decide)
    · rw [if_neg (show ¬ (if true = true then (24 : Int32) else 23) = 23 by decide)]
      cases hb : mtr (aL A) c.1 c.2.1
      · rw [if_pos (show bI false = 0 from rfl)]; exact fall (by rw [hb]; decide)
      · rw [if_neg (show ¬ bI true = 0 by decide), n1]; exact jump hb
  refine sX8_stepOther_55 T _ _ _ _ ?_
  cases o
  · rw [if_neg (show ¬ (false = true) by decide)] at cont ⊢
    repeat rw [if_neg (by decide)]
    rw [if_pos rfl]
    exact cont _ rfl
  · rw [if_pos (show true = true from rfl)] at cont ⊢
    repeat rw [if_neg (by decide)]
    rw [if_pos rfl]
    exact cont _ rfl
/-- THROW -/
theorem xs_throw {a : Int32} {c : mC} {st : List mC} (h : gX M A (r :: F)) (ok : mFok (r :: F)) (hpl : r.pl + 1 < 600) (hc : gi M 30 r.pl = 26) (ha : gi M 31 r.pl = a) (hr : r.st = c :: st) (hQ : vX Q M (1, A, c.1, c.2.1) 0 (mFpl r (r.pl + 1)) F) : Z E YX1_step (d + 2) M [(0, zX16), (1, vi (nI r.pl))] 0 [] Q := by
  refine xs_moves h ok (by decide) hc ha (fun M1 g f c1 Q' k1 k2 => ?_)
  obtain ⟨n1, n2, n3, n4⟩ := xFs_nums g.2
  obtain ⟨g0, g1, -, g3, -⟩ := mFok_hd ok
  have ok' : mFok (mFpl r (r.pl + 1) :: F) := mFok_pl ok hpl
  have ht := (mtot_le (mFok_tl ok)).1
  have hl : 1 ≤ r.st.length := by rw [hr]; simp
  obtain ⟨a1, a2⟩ := x_cell g.2 (i := 0) (m := 1) (c := c) (by show r.st[0]? = _; rw [hr]; rfl) rfl
  have a1 : gi M1 53 (mtot F + r.st.length - 1) = c.1 := a1
  have a2 : gi M1 54 (mtot F + r.st.length - 1) = c.2.1 := a2
  refine sX1_moves_0 M1 _ _ _ _ g.1.1 ?_
  rw [nn_cl (n := r.pl) (by omega), c1]
  refine ⟨by rw [nn_in (by omega)]; omega, ?_⟩
  repeat rw [if_neg (by decide)]
  rw [if_pos rfl]
  simp (disch := omega) only [a1, a2, nn_add, nn_addl, nn_ladd, nn_mul, nn_lmul, nn_mull, nn_sub, nn_subl, nn_lsub, nn_lt, nn_le, nn_eq, nn_ltl, nn_llt, nn_lel, nn_lle, nn_eql, nn_leq, nn_m1, nn_1m, nn_ltm, nn_mlt, nn_mle, nn_lem, nn_cl, nn_in, nn_ns, nn_ns2, nn_nb, nn_nb2, nn_s1, nn_s2, nn_b1, nn_b2]
  refine ⟨by omega, by omega, sX1_raises_0 M1 _ _ g.1.1 ?_⟩
  have f2 : fr scx M1 (si (si M1 16 57 c.1) 16 58 c.2.1) := (fr.si (by unfold scx; omega)).tr (fr.si (by unfold scx; omega))
  have s2 := sX_cg g.1 f2 (fun a k q => .inl q)
  show Z E YX1_moves (d + 1) (si (si M1 16 57 c.1) 16 58 c.2.1) [] 345 [vr (some (52, 14, 0))] Q'
  exact sX1_moves_345 _ _ s2.1 ⟨52, rfl, k2 _ _ (hQ.2.1 rfl _ ⟨s2, xFs_cg g.2 ok' f2 (fun a k q => .inl q)⟩ (by rw [gi_idx (by decide), gi_self]) (gi_self ..) (f.tr f2.cX1))⟩
theorem ts_throw {a : Int32} {c : mC} {st : List mC} (h : gT T A (r :: F)) (ok : mFok (r :: F)) (hh : mTh (r :: F)) (hc : gi T 123 r.pl = 26) (ha : gi T 124 r.pl = a) (hr : r.st = c :: st) (v1 : mval A c.1 c.2.1) (hQ : vT Q T (1, A, c.1, c.2.1) 0 r F) : Zm E YX8_step_2 (d + 4) T [(0, T97)] 0 [] Q := by
  refine ts_other h ok (by decide) hc ha (fun Q' k1 => tv_pre h ok hr (by decide) (by decide) (by decide) ?_)
  refine sX8_stepOther_55 T _ _ _ _ ?_
  repeat rw [if_neg (by decide)]
  rw [if_pos rfl]
  refine tm_toss (mval_8 v1.1) h.2.2.1 h.2.1 ok hh (fun T' m t e1 e2 e3 f => ?_) (fun T' r' F' m t f => ?_)
  · show Zm E YX8_stepOther (d + 3) T' [] 318 [] Q'
    refine iX8_stepOther_318 T' (k1 _ ((hQ.2.1 rfl).1 T' m (sT_cg h.1 f (fun a k q => .inr (.inl q))) t ((f.2 97 75 (by unfold fUT fFT; omega)).1.trans h.2.2.1) e1 e2 e3 (f.mono fun a k q => by unfold cT; exact .inr (.inr (.inr (.inl q))))))
  · show Zm E YX8_stepOther (d + 3) T' [] 318 [] Q'
    exact iX8_stepOther_318 T' (k1 _ ((hQ.2.1 rfl).2 T' r' F' m ⟨sT_cg h.1 f (fun a k q => .inr (.inl (.inl q))), t, (f.2 97 75 (by unfold fFT; omega)).1.trans h.2.2.1, (f.2 97 73 (by unfold fFT; omega)).1.trans h.2.2.2⟩ f.cT3))
/-- TRY -/
theorem xFs_try {a b : Nat} (h : xFs M (r :: F)) (ok : mFok F) : xFs (si (si (si M 65 (mtt F + r.tr.length) (nI a)) 16 50 (nI (mtt F + r.tr.length + 1))) 66 (mtt F + r.tr.length) (nI b)) (mFtr r ((a, b) :: r.tr) :: F) := by
  obtain ⟨⟨a1, a2, a3, a4, a5⟩, q, ⟨c1, c2⟩, d1, d2⟩ := h.2.1
  have f : ∀ x k, x ≠ 65 → x ≠ 66 → x ≠ 16 → gi (si (si (si M 65 (mtt F + r.tr.length) (nI a)) 16 50 (nI (mtt F + r.tr.length + 1))) 66 (mtt F + r.tr.length) (nI b)) x k = gi M x k := fun x k q1 q2 q3 => by rw [gi_oth q2, gi_oth q3, gi_oth q1]
  refine xFs_top h ok (fun x k z => ?_) ?_ ?_ ?_ ⟨⟨(f _ _ (by decide) (by decide) (by decide)).trans a1, (f _ _ (by decide) (by decide) (by decide)).trans a2, (f _ _ (by decide) (by decide) (by decide)).trans a3, (f _ _ (by decide) (by decide) (by decide)).trans a4, (f _ _ (by decide) (by decide) (by decide)).trans a5⟩, (f _ _ (by decide) (by decide) (by decide)).trans q, ⟨(f _ _ (by decide) (by decide) (by decide)).trans c1, ⟨?_, ?_⟩, stk_cg (fun j c hj z => ?_) c2⟩, (f _ _ (by decide) (by decide) (by decide)).trans d1, stk_cg (fun j c hj z => ?_) d2⟩
  · unfold loX at z
    simp only [gi_si]
    grind
  · rw [gi_oth (by decide), gi_idx (by decide), gi_oth (by decide)]
  · rw [gi_oth (by decide), gi_idx (by decide), gi_oth (by decide)]; exact h.1.2.1
  · rw [gi_oth (by decide), gi_self]; congr 1; show _ = r.tr.length + 1 + _; omega
  · show gi _ 65 (mtt F + r.tr.length) = nI a
    rw [gi_oth (by decide), gi_oth (by decide), gi_self]
  · show gi _ 66 (mtt F + r.tr.length) = nI b
    rw [gi_self]
  · have hj' : j < r.tr.length := hj
    rw [gi_oth (by decide), gi_oth (by decide), gi_idx (by omega), gi_idx (by omega), gi_oth (by decide), gi_oth (by decide)]; exact z
  · unfold cellX at z ⊢
    rw [f _ _ (by decide) (by decide) (by decide), f _ _ (by decide) (by decide) (by decide), f _ _ (by decide) (by decide) (by decide), f _ _ (by decide) (by decide) (by decide)]; exact z
theorem tFs_try {a b : Nat} (h : tFs T (r :: F)) (ok : mFok F) : tFs (si (si (si T 158 (40 * F.length + r.tr.length) (nI a)) 159 (40 * F.length + r.tr.length) (nI b)) 157 F.length (nI (r.tr.length + 1))) (mFtr r ((a, b) :: r.tr) :: F) := by
  obtain ⟨⟨a1, a2, a3, a4, a5⟩, q, ⟨c1, c2⟩, d1, d2⟩ := h.2.1
  have f : ∀ x k, x ≠ 157 → x ≠ 158 → x ≠ 159 → gi (si (si (si T 158 (40 * F.length + r.tr.length) (nI a)) 159 (40 * F.length + r.tr.length) (nI b)) 157 F.length (nI (r.tr.length + 1))) x k = gi T x k := fun x k q1 q2 q3 => by rw [gi_oth q1, gi_oth q3, gi_oth q2]
  refine tFs_top h ok (fun x k z => ?_) ?_ ⟨⟨(f _ _ (by decide) (by decide) (by decide)).trans a1, (f _ _ (by decide) (by decide) (by decide)).trans a2, (f _ _ (by decide) (by decide) (by decide)).trans a3, (f _ _ (by decide) (by decide) (by decide)).trans a4, (f _ _ (by decide) (by decide) (by decide)).trans a5⟩, (f _ _ (by decide) (by decide) (by decide)).trans q, ⟨gi_self .., ⟨?_, ?_⟩, stk_cg (fun j c hj z => ?_) c2⟩, (f _ _ (by decide) (by decide) (by decide)).trans d1, stk_cg (fun j c hj z => ?_) d2⟩
  · unfold loT at z
    simp only [gi_si]
    grind
  · exact f _ _ (by decide) (by decide) (by decide)
  · show gi _ 158 (40 * F.length + r.tr.length) = nI a
    rw [gi_oth (by decide), gi_oth (by decide), gi_self]
  · show gi _ 159 (40 * F.length + r.tr.length) = nI b
    rw [gi_oth (by decide), gi_self]
  · have hj' : j < r.tr.length := hj
    rw [gi_oth (by decide), gi_oth (by decide), gi_idx (by omega), gi_oth (by decide), gi_idx (by omega), gi_oth (by decide)]; exact z
  · unfold cellT at z ⊢
    rw [f _ _ (by decide) (by decide) (by decide), f _ _ (by decide) (by decide) (by decide), f _ _ (by decide) (by decide) (by decide), f _ _ (by decide) (by decide) (by decide)]; exact z
theorem xs_try {a : Nat} (h : gX M A (r :: F)) (ok : mFok (r :: F)) (hc : gi M 30 r.pl = 27) (ha : gi M 31 r.pl = nI a) (ha6 : a < 600) (ht40 : r.tr.length < 40) (hQ : wX Q M A (mFtr (mFpl r (r.pl + 1)) ((a, r.st.length) :: r.tr) :: F)) : Z E YX1_step (d + 2) M [(0, zX16), (1, vi (nI r.pl))] 0 [] Q := by
  refine xs_moves h ok (by decide) hc ha (fun M1 g f c1 Q' k1 k2 => ?_)
  obtain ⟨n1, n2, n3, n4⟩ := xFs_nums g.2
  obtain ⟨g0, g1, -, g3, -⟩ := mFok_hd ok
  have ht := mtot_le (mFok_tl ok)
  have n3 : gi M1 16 38 = nI (mtot F + r.st.length) := n3
  have n4 : gi M1 16 50 = nI (mtt F + r.tr.length) := n4
  have n5 : gi M1 60 F.length = nI (mtot F) := g.2.2.1.2.2.2.1
  refine sX1_moves_0 M1 _ _ _ _ g.1.1 ?_
  rw [nn_cl (n := r.pl) (by omega), c1]
  refine ⟨by rw [nn_in (by omega)]; omega, ?_⟩
  repeat rw [if_neg (by decide)]
  rw [if_pos rfl, n3, n4, nn_cl (n := F.length) (by omega), n5]
  simp (disch := omega) only [nn_add, nn_addl, nn_ladd, nn_mul, nn_lmul, nn_mull, nn_sub, nn_subl, nn_lsub, nn_lt, nn_le, nn_eq, nn_ltl, nn_llt, nn_lel, nn_lle, nn_eql, nn_leq, nn_m1, nn_1m, nn_ltm, nn_mlt, nn_mle, nn_lem, nn_cl, nn_in, nn_ns, nn_ns2, nn_nb, nn_nb2, nn_s1, nn_s2, nn_b1, nn_b2]
  rw [show mtot F + r.st.length - mtot F = r.st.length by omega]
  have x := xFs_try (a := a) (b := r.st.length) g.2 (mFok_tl ok)
  have f2 : fr fFX M1 (si (si (si M1 65 (mtt F + r.tr.length) (nI a)) 16 50 (nI (mtt F + r.tr.length + 1))) 66 (mtt F + r.tr.length) (nI r.st.length)) := ((fr.si (fFX_i (by omega))).tr (fr.si (by unfold fFX; omega))).tr (fr.si (fFX_i (by omega)))
  obtain ⟨w, q⟩ := wX_fr (wX_mono hQ f) g.1 x f2
  exact ⟨by omega, by omega, by omega, sX1_moves_524 _ w (k1 _ w q)⟩
theorem ts_try {a : Nat} (h : gT T A (r :: F)) (ok : mFok (r :: F)) (hc : gi T 123 r.pl = 27) (ha : gi T 124 r.pl = nI a) (ht40 : r.tr.length < 40) (hQ : wT Q T A (mFtr (mFpl r (r.pl + 1)) ((a, r.st.length) :: r.tr) :: F)) : Zm E YX8_step_2 (d + 3) T [(0, T97)] 0 [] Q := by
  refine ts_other h ok (by decide) hc ha (fun Q' k1 => ?_)
  obtain ⟨n1, n2, n3, n4⟩ := tFs_nums h.2.1
  obtain ⟨g0, g1, -, g3, -⟩ := mFok_hd ok
  refine sX8_stepOther_0 T _ _ ?_
  rw [if_neg (by decide), if_pos rfl]
  refine sX8_stepOther_27 T _ _ _ ?_
  rw [if_neg (by decide), if_pos rfl]
  refine sX8_stepOther_55 T _ _ _ _ ?_
  repeat rw [if_neg (by decide)]
  rw [if_pos rfl, n1]
  simp (disch := omega) only [n3, n4, nn_add, nn_addl, nn_ladd, nn_mul, nn_lmul, nn_mull, nn_sub, nn_subl, nn_lsub, nn_lt, nn_le, nn_eq, nn_ltl, nn_llt, nn_lel, nn_lle, nn_eql, nn_leq, nn_m1, nn_1m, nn_ltm, nn_mlt, nn_mle, nn_lem, nn_cl, nn_in, nn_ns, nn_ns2, nn_nb, nn_nb2, nn_s1, nn_s2, nn_b1, nn_b2]
  have x := tFs_try (a := a) (b := r.st.length) h.2.1 (mFok_tl ok)
  have f2 : fr fFT T (si (si (si T 158 (40 * F.length + r.tr.length) (nI a)) 159 (40 * F.length + r.tr.length) (nI r.st.length)) 157 F.length (nI (r.tr.length + 1))) := ((fr.si (fFT_i (by omega))).tr (fr.si (fFT_i (by omega)))).tr (fr.si (fFT_i (by omega)))
  generalize si (si (si T 158 (40 * F.length + r.tr.length) (nI a)) 159 (40 * F.length + r.tr.length) (nI r.st.length)) 157 F.length (nI (r.tr.length + 1)) = T2 at *
  refine ⟨by omega, by omega, by omega, by omega, by omega, by omega, by omega, jX8_goOn T2 ?_⟩
  obtain ⟨p1, p2, p3, p4⟩ := tFs_nums x
  have p2 : gi T2 154 F.length = nI r.pl := p2
  rw [p1]
  simp (disch := omega) only [p2, nn_add, nn_addl, nn_ladd, nn_mul, nn_lmul, nn_mull, nn_sub, nn_subl, nn_lsub, nn_lt, nn_le, nn_eq, nn_ltl, nn_llt, nn_lel, nn_lle, nn_eql, nn_leq, nn_m1, nn_1m, nn_ltm, nn_mlt, nn_mle, nn_lem, nn_cl, nn_in, nn_ns, nn_ns2, nn_nb, nn_nb2, nn_s1, nn_s2, nn_b1, nn_b2]
  exact ⟨by omega, iX8_stepOther_380 _ (k1 _ (wT_fr hQ h (tFs_pl x (mFok_tl ok) (r.pl + 1)) (f2.tr (fr.si (fFT_i (by omega))))))⟩
/-- LEAVE -/
theorem xs_leave {a : Int32} {q0 : Nat × Nat} {tr : List (Nat × Nat)} (h : gX M A (r :: F)) (ok : mFok (r :: F)) (hc : gi M 30 r.pl = 28) (ha : gi M 31 r.pl = a) (hr : r.tr = q0 :: tr) (hQ : wX Q M A (mFtr (mFpl r (r.pl + 1)) tr :: F)) : Z E YX1_step (d + 2) M [(0, zX16), (1, vi (nI r.pl))] 0 [] Q := by
  refine xs_moves h ok (by decide) hc ha (fun M1 g f c1 Q' k1 k2 => ?_)
  obtain ⟨n1, n2, n3, n4⟩ := xFs_nums g.2
  obtain ⟨g0, g1, g2, g3, -⟩ := mFok_hd ok
  have ht := mtot_le (mFok_tl ok)
  have hl : r.tr.length = tr.length + 1 := by rw [hr]; rfl
  have n4 : gi M1 16 50 = nI (mtt F + r.tr.length) := n4
  refine sX1_moves_0 M1 _ _ _ _ g.1.1 ?_
  rw [nn_cl (n := r.pl) (by omega), c1]
  refine ⟨by rw [nn_in (by omega)]; omega, ?_⟩
  repeat rw [if_neg (by decide)]
  rw [if_pos rfl, n4]
  simp (disch := omega) only [nn_add, nn_addl, nn_ladd, nn_mul, nn_lmul, nn_mull, nn_sub, nn_subl, nn_lsub, nn_lt, nn_le, nn_eq, nn_ltl, nn_llt, nn_lel, nn_lle, nn_eql, nn_leq, nn_m1, nn_1m, nn_ltm, nn_mlt, nn_mle, nn_lem, nn_cl, nn_in, nn_ns, nn_ns2, nn_nb, nn_nb2, nn_s1, nn_s2, nn_b1, nn_b2]
  have f2 : fr fFX M1 (si M1 16 50 (nI (mtt F + r.tr.length - 1))) := fr.si (by unfold fFX; omega)
  have x : xFs (si M1 16 50 (nI (mtt F + r.tr.length - 1))) (mFtr (mFpl r (r.pl + 1)) tr :: F) :=
    xFs_top g.2 (mFok_tl ok) (fun a k z => gi_oth (by unfold loX at z; omega)) (gi_idx (by decide)) ((gi_idx (by decide)).trans g.2.1.2.1) (by rw [gi_self]; congr 1; show _ = tr.length + _; omega) (xf1_cut (r := mFpl r (r.pl + 1)) hr (fun a k z => gi_oth z) g.2.2.1 0)
  obtain ⟨w, q⟩ := wX_fr (wX_mono hQ f) g.1 x f2
  exact sX1_moves_524 _ w (k1 _ w q)
theorem ts_leave {a : Int32} {q0 : Nat × Nat} {tr : List (Nat × Nat)} (h : gT T A (r :: F)) (ok : mFok (r :: F)) (hc : gi T 123 r.pl = 28) (ha : gi T 124 r.pl = a) (hr : r.tr = q0 :: tr) (hQ : wT Q T A (mFtr (mFpl r (r.pl + 1)) tr :: F)) : Zm E YX8_step_2 (d + 3) T [(0, T97)] 0 [] Q := by
  refine ts_other h ok (by decide) hc ha (fun Q' k1 => ?_)
  obtain ⟨n1, n2, n3, n4⟩ := tFs_nums h.2.1
  obtain ⟨g0, g1, g2, g3, -⟩ := mFok_hd ok
  have hl : r.tr.length = tr.length + 1 := by rw [hr]; rfl
  refine sX8_stepOther_0 T _ _ ?_
  rw [if_neg (by decide), if_neg (by decide), if_pos rfl]
  refine sX8_stepOther_27 T _ _ _ ?_
  rw [if_neg (by decide), if_neg (by decide), if_pos rfl]
  refine sX8_stepOther_55 T _ _ _ _ ?_
  repeat rw [if_neg (by decide)]
  rw [if_pos rfl, n1]
  simp (disch := omega) only [n4, nn_add, nn_addl, nn_ladd, nn_mul, nn_lmul, nn_mull, nn_sub, nn_subl, nn_lsub, nn_lt, nn_le, nn_eq, nn_ltl, nn_llt, nn_lel, nn_lle, nn_eql, nn_leq, nn_m1, nn_1m, nn_ltm, nn_mlt, nn_mle, nn_lem, nn_cl, nn_in, nn_ns, nn_ns2, nn_nb, nn_nb2, nn_s1, nn_s2, nn_b1, nn_b2]
  have x : tFs (si T 157 F.length (nI (r.tr.length - 1))) (mFtr r tr :: F) :=
    tFs_top h.2.1 (mFok_tl ok) (fun a k z => by
      by_cases e : a = 157
      · subst e; exact gi_idx (by unfold loT at z; omega)
      · exact gi_oth e) (gi_oth (by decide)) (tf1_cut (m := 0) hr (fun a k _ z => gi_oth z) ((gi_oth (by decide)).trans n3) (by rw [gi_self]; congr 1; omega) h.2.1.2.1)
  have f2 : fr fFT T (si T 157 F.length (nI (r.tr.length - 1))) := fr.si (fFT_i (by omega))
  generalize si T 157 F.length (nI (r.tr.length - 1)) = T2 at *
  refine ⟨by omega, by omega, jX8_goOn T2 ?_⟩
  obtain ⟨p1, p2, p3, p4⟩ := tFs_nums x
  have p2 : gi T2 154 F.length = nI r.pl := p2
  rw [p1]
  simp (disch := omega) only [p2, nn_add, nn_addl, nn_ladd, nn_mul, nn_lmul, nn_mull, nn_sub, nn_subl, nn_lsub, nn_lt, nn_le, nn_eq, nn_ltl, nn_llt, nn_lel, nn_lle, nn_eql, nn_leq, nn_m1, nn_1m, nn_ltm, nn_mlt, nn_mle, nn_lem, nn_cl, nn_in, nn_ns, nn_ns2, nn_nb, nn_nb2, nn_s1, nn_s2, nn_b1, nn_b2]
  exact ⟨by omega, iX8_stepOther_398 _ (k1 _ (wT_fr hQ h (tFs_pl x (mFok_tl ok) (r.pl + 1)) (f2.tr (fr.si (fFT_i (by omega))))))⟩
end
