/-! THE MACHINE's MOVES: DROP COPY COPY_TWO UNDER JUMP -/
theorem nn_dec (n : Nat) : nI (n + 1) + -1 = nI n := by
  rw [show nI (n + 1) = nI n + nI 1 from (nn_add n 1).symm, Int32.add_assoc, show nI 1 + -1 = 0 from by decide, Int32.add_zero]
/-- what is owed for new frames over a heap -/
def wX (Q : zO → zM → Prop) (M : zM) (A : mA) (F : List mF) : Prop := ∀ M', gX M' A F → fr cX M M' → Q (.inl none) M'
def wT (Q : zO → zM → Prop) (T : zM) (A : mA) (F : List mF) : Prop := ∀ T', gT T' A F → fr cT T T' → Q (.inl none) T'
section
variable {E : zE} {d : Nat} {T M : zM} {Q : zO → zM → Prop} {A : mA} {r : mF} {F : List mF}
theorem xs_moves {op a : Int32} (h : gX M A (r :: F)) (ok : mFok (r :: F)) (hne : ∀ j ∈ ([0, 1, 2, 3, 4, 5, 6, 7, 8, 9, 10, 11, 12, 13, 14, 15, 16, 21] : List Int32), ¬ op = j) (hc : gi M 30 r.pl = op) (ha : gi M 31 r.pl = a)
    (k : ∀ M1, gX M1 A (mFpl r (r.pl + 1) :: F) → fr cX M M1 → gi M1 30 r.pl = op → ∀ Q' : zO → zM → Prop, (∀ M', cw M' → Q (.inl none) M' → Q' (.inl none) M') → (∀ M' e, Q (.inr e) M' → Q' (.inr e) M') → Z E YX1_moves d M1 [(0, zX16), (1, vi (nI r.pl)), (2, vi a), (3, vi (nI F.length)), (4, vi (nI (mtot F + r.st.length) - 1))] 0 [] Q') : Z E YX1_step (d + 1) M [(0, zX16), (1, vi (nI r.pl))] 0 [] Q := by
  obtain ⟨n1, n2, n3, n4⟩ := xFs_nums h.2
  obtain ⟨g0, g1, -⟩ := mFok_hd ok
  obtain ⟨g, f⟩ := gX_pl h ok (r.pl + 1)
  refine sX1_step_0 M _ h.1.1 ?_
  rw [n1, nn_cl (n := r.pl) (by omega), hc, ha, n3]
  refine ⟨by rw [nn_in (by omega)]; omega, by rw [nn_in (by omega)]; omega, by rw [nn_in (by omega)]; omega, by rw [nn_in (by omega)]; omega, ?_⟩
  rw [if_neg (hne 0 (by decide)), if_neg (hne 1 (by decide)), if_neg (hne 2 (by decide)), if_neg (hne 3 (by decide)), if_neg (hne 4 (by decide)), if_neg (hne 5 (by decide)), if_neg (hne 6 (by decide)), if_neg (hne 7 (by decide)), if_neg (hne 8 (by decide)), if_neg (hne 9 (by decide)), if_neg (hne 10 (by decide)), if_neg (hne 11 (by decide)), if_neg (hne 12 (by decide)), if_neg (hne 13 (by decide)), if_neg (hne 14 (by decide)), if_neg (hne 15 (by decide)), if_neg (hne 16 (by decide)), if_neg (hne 21 (by decide))]
  rw [nn_cl (n := F.length) (by omega), nn_addl, nn_ns2 (n := r.pl + 1) (by omega), nn_ns (n := r.pl + 1) (by omega)]
  have m : Z E YX1_moves d (si M 59 F.length (nI (r.pl + 1))) (zargs 0 [zX16, vi (nI r.pl), vi a, vi (nI F.length), vi (nI (mtot F + r.st.length) - 1)]) 0 [] (zafter E YX1_step (d + 1) [] 609 3 [] Q) := by
    refine k _ g f.cX3 ((gi_oth (by decide)).trans hc) _ (fun M' w q => ?_) (fun M' e q => ?_)
    · show Z E YX1_step (d + 1) M' [] 612 [] Q
      exact sX1_step_612 M' w q
    · show ZT E YX1_step (d + 1) M' [] 609 e Q
      exact ZT.out (nohand rfl) q
  by_cases h17 : op = 17
  · rw [if_pos h17]; exact m
  rw [if_neg h17]
  by_cases h18 : op = 18
  · rw [if_pos h18]; exact m
  rw [if_neg h18]
  by_cases h19 : op = 19
  · rw [if_pos h19]; exact m
  rw [if_neg h19]
  by_cases h20 : op = 20
  · rw [if_pos h20]; exact m
  rw [if_neg h20]
  exact m
theorem ts_other {op a : Int32} (h : gT T A (r :: F)) (ok : mFok (r :: F)) (hne : ∀ j ∈ ([0, 1, 2, 3, 4, 5, 6, 7, 8, 9, 10, 11, 12, 13, 14, 15, 16] : List Int32), ¬ op = j) (hc : gi T 123 r.pl = op) (ha : gi T 124 r.pl = a)
    (k : ∀ Q' : zO → zM → Prop, (∀ T', Q (.inl none) T' → Q' (.inl none) T') → Zm E YX8_stepOther d T [(0, T97), (1, vi op), (2, vi a)] 0 [] Q') : Zm E YX8_step_2 (d + 1) T [(0, T97)] 0 [] Q := by
  obtain ⟨n1, n2, n3, n4⟩ := tFs_nums h.2.1
  obtain ⟨g0, g1, -⟩ := mFok_hd ok
  refine sX8_step_2_0 T ?_
  rw [n1, nn_cl (n := F.length) (by omega), n2, nn_cl (n := r.pl) (by omega), hc, ha]
  refine ⟨by rw [nn_in (by omega)]; omega, by rw [nn_in (by omega)]; omega, by rw [nn_in (by omega)]; omega, by rw [nn_in (by omega)]; omega, ?_⟩
  rw [if_neg (hne 0 (by decide)), if_neg (hne 1 (by decide)), if_neg (hne 2 (by decide)), if_neg (hne 3 (by decide)), if_neg (hne 4 (by decide)), if_neg (hne 5 (by decide)), if_neg (hne 6 (by decide)), if_neg (hne 7 (by decide)), if_neg (hne 8 (by decide)), if_neg (hne 9 (by decide)), if_neg (hne 10 (by decide)), if_neg (hne 11 (by decide)), if_neg (hne 12 (by decide)), if_neg (hne 13 (by decide)), if_neg (hne 14 (by decide)), if_neg (hne 15 (by decide)), if_neg (hne 16 (by decide))]
  refine ⟨by rw [nn_in (by omega)]; omega, k _ (fun T' q => ?_)⟩
  show Zm E YX8_step_2 (d + 1) T' [] 446 [] Q
  exact sX8_step_2_446 T' q
/-- the top value is looked at first -/
theorem tv_pre {op a : Int32} {c : mC} {st : List mC} (h : gT T A (r :: F)) (ok : mFok (r :: F)) (hr : r.st = c :: st) (h21 : ¬ op = 21) (h27 : ¬ op = 27) (h28 : ¬ op = 28) (k : Zm E YX8_stepOther (d + 2) T [(0, T97), (1, vi op), (2, vi a), (3, vi c.1)] 55 [vi c.2.1] Q) : Zm E YX8_stepOther (d + 2) T [(0, T97), (1, vi op), (2, vi a)] 0 [] Q := by
  obtain ⟨n1, n2, n3, n4⟩ := tFs_nums h.2.1
  obtain ⟨g0, g1, -, g3, -⟩ := mFok_hd ok
  have hl : 1 ≤ r.st.length := by rw [hr]; simp
  obtain ⟨a1, a2⟩ := t_cell h.2.1 (i := 0) (c := c) (by rw [hr]; rfl)
  refine sX8_stepOther_0 T _ _ ?_
  rw [if_neg h21, if_neg h27, if_neg h28]
  refine jX8_sortAt T _ ?_
  rw [n1]
  simp (disch := omega) only [n3, a1, nn_add, nn_addl, nn_ladd, nn_mul, nn_lmul, nn_mull, nn_sub, nn_subl, nn_lsub, nn_lt, nn_le, nn_eq, nn_ltl, nn_llt, nn_lel, nn_lle, nn_eql, nn_leq, nn_m1, nn_1m, nn_ltm, nn_mlt, nn_mle, nn_lem, nn_cl, nn_in, nn_ns, nn_ns2, nn_nb, nn_nb2, nn_s1, nn_s2, nn_b1, nn_b2]
  refine ⟨by omega, by omega, ?_⟩
  show Zm E YX8_stepOther (d + 2) T [(0, T97), (1, vi op), (2, vi a)] 27 [vi c.1] Q
  refine sX8_stepOther_27 T _ _ _ ?_
  rw [if_neg h21, if_neg h27, if_neg h28]
  refine jX8_valueAt T _ ?_
  rw [n1]
  simp (disch := omega) only [n3, a2, nn_add, nn_addl, nn_ladd, nn_mul, nn_lmul, nn_mull, nn_sub, nn_subl, nn_lsub, nn_lt, nn_le, nn_eq, nn_ltl, nn_llt, nn_lel, nn_lle, nn_eql, nn_leq, nn_m1, nn_1m, nn_ltm, nn_mlt, nn_mle, nn_lem, nn_cl, nn_in, nn_ns, nn_ns2, nn_nb, nn_nb2, nn_s1, nn_s2, nn_b1, nn_b2]
  exact ⟨by omega, by omega, k⟩
/-- what the frames' cells are to a move of the component -/
theorem wX_fr {M' : zM} {r' : mF} (hQ : wX Q M A (r' :: F)) (s : sX M A) (x : xFs M' (r' :: F)) (f : fr fFX M M') : cw M' ∧ Q (.inl none) M' :=
  have s' := sX_cg s f (fun a k q => .inr (.inl q))
  ⟨s'.1, hQ M' ⟨s', x⟩ f.cX3⟩
theorem wT_fr {T' : zM} {r r' : mF} {F' : List mF} (hQ : wT Q T A (r' :: F')) (g : gT T A (r :: F)) (x : tFs T' (r' :: F')) (f : fr fFT T T') : Q (.inl none) T' :=
  hQ T' ⟨sT_cg g.1 f (fun a k q => .inr (.inl (.inl q))), x, (f.2 97 75 (by unfold fFT; omega)).1.trans g.2.2.1, (f.2 97 73 (by unfold fFT; omega)).1.trans g.2.2.2⟩ f.cT3
theorem wX_mono {M1 : zM} {F' : List mF} (h : wX Q M A F') (f : fr cX M M1) : wX Q M1 A F' := fun M' g f' => h M' g (f.tr f')
/-- a copy of a value comes on top -/
theorem xFs_push4 {s v l g : Int32} (h : xFs M (r :: F)) (ok : mFok F) (hs8 : ¬ s = 8) : xFs (si (si (si (si (si M 53 (mtot F + r.st.length) s) 54 (mtot F + r.st.length) v) 55 (mtot F + r.st.length) l) 56 (mtot F + r.st.length) g) 16 38 (nI (mtot F + r.st.length + 1))) (mFst r ((s, v, 0, 0) :: r.st) :: F) := by
  refine xFs_top h ok (fun a k q => ?_) ?_ ?_ ?_ (xf1_st h.2.1 (fun a k q q' => ?_) ⟨?_, stk_cg (fun j c hj q => ?_) h.2.1.2.2.2.2⟩)
  · unfold loX at q
    simp only [gi_si]
    grind
  · rw [gi_idx (by decide), gi_oth (by decide), gi_oth (by decide), gi_oth (by decide), gi_oth (by decide)]
  · rw [gi_self]; congr 1; show _ = r.st.length + 1 + _; omega
  · rw [gi_idx (by decide), gi_oth (by decide), gi_oth (by decide), gi_oth (by decide), gi_oth (by decide)]; exact h.1.2.2
  · rw [gi_oth q', gi_oth (by omega), gi_oth (by omega), gi_oth (by omega), gi_oth (by omega)]
  · refine ⟨?_, ?_, fun q => absurd q hs8⟩ <;> simp [gi_si]
  · unfold cellX at q ⊢
    have hj' : j < r.st.length := hj
    simp only [gi_si]
    simp [show ¬ j = r.st.length by omega]
    exact q
theorem fX_push4 {t : Nat} {s v l g n : Int32} : fr fFX M (si (si (si (si (si M 53 t s) 54 t v) 55 t l) 56 t g) 16 38 n) :=
  ((((fr.si (fFX_i (by omega))).tr (fr.si (fFX_i (by omega)))).tr (fr.si (fFX_i (by omega)))).tr (fr.si (fFX_i (by omega)))).tr (fr.si fFX_38)
/-- DROP -/
theorem xs_drop {a : Int32} {c : mC} {st : List mC} (h : gX M A (r :: F)) (ok : mFok (r :: F)) (hc : gi M 30 r.pl = 17) (ha : gi M 31 r.pl = a) (hr : r.st = c :: st) (hQ : wX Q M A (mFst (mFpl r (r.pl + 1)) st :: F)) : Z E YX1_step (d + 2) M [(0, zX16), (1, vi (nI r.pl))] 0 [] Q := by
  refine xs_moves h ok (by decide) hc ha (fun M1 g f c1 Q' k1 k2 => ?_)
  obtain ⟨n1, n2, n3, n4⟩ := xFs_nums g.2
  obtain ⟨g0, g1, -, g3, -⟩ := mFok_hd ok
  have ht := (mtot_le (mFok_tl ok)).1
  have hl : 1 ≤ r.st.length := by rw [hr]; simp
  have n3 : gi M1 16 38 = nI (mtot F + r.st.length) := n3
  refine sX1_moves_0 M1 _ _ _ _ g.1.1 ?_
  rw [nn_cl (n := r.pl) (by omega), c1]
  refine ⟨by rw [nn_in (by omega)]; omega, ?_⟩
  rw [if_pos rfl, n3]
  simp (disch := omega) only [nn_add, nn_addl, nn_ladd, nn_mul, nn_lmul, nn_mull, nn_sub, nn_subl, nn_lsub, nn_lt, nn_le, nn_eq, nn_ltl, nn_llt, nn_lel, nn_lle, nn_eql, nn_leq, nn_m1, nn_1m, nn_ltm, nn_mlt, nn_mle, nn_lem, nn_cl, nn_in, nn_ns, nn_ns2, nn_nb, nn_nb2, nn_s1, nn_s2, nn_b1, nn_b2]
  have x := xFs_drop (n := 1) g.2 (mFok_tl ok) hl
  rw [show (mFpl r (r.pl + 1)).st.drop 1 = st by show r.st.drop 1 = st; rw [hr]; rfl] at x
  obtain ⟨w, q⟩ := wX_fr (wX_mono hQ f) g.1 x (fr.si fFX_38)
  exact sX1_moves_524 _ w (k1 _ w q)
theorem ts_drop {a : Int32} {c : mC} {st : List mC} (h : gT T A (r :: F)) (ok : mFok (r :: F)) (hc : gi T 123 r.pl = 17) (ha : gi T 124 r.pl = a) (hr : r.st = c :: st) (hQ : wT Q T A (mFst (mFpl r (r.pl + 1)) st :: F)) : Zm E YX8_step_2 (d + 3) T [(0, T97)] 0 [] Q := by
  refine ts_other h ok (by decide) hc ha (fun Q' k1 => tv_pre h ok hr (by decide) (by decide) (by decide) ?_)
  obtain ⟨n1, n2, n3, n4⟩ := tFs_nums h.2.1
  obtain ⟨g0, g1, -, g3, -⟩ := mFok_hd ok
  have hl : 1 ≤ r.st.length := by rw [hr]; simp
  refine sX8_stepOther_55 T _ _ _ _ ?_
  rw [if_pos rfl]
  refine jX8_drop T _ ?_
  rw [n1]
  simp (disch := omega) only [n3, nn_add, nn_addl, nn_ladd, nn_mul, nn_lmul, nn_mull, nn_sub, nn_subl, nn_lsub, nn_lt, nn_le, nn_eq, nn_ltl, nn_llt, nn_lel, nn_lle, nn_eql, nn_leq, nn_m1, nn_1m, nn_ltm, nn_mlt, nn_mle, nn_lem, nn_cl, nn_in, nn_ns, nn_ns2, nn_nb, nn_nb2, nn_s1, nn_s2, nn_b1, nn_b2]
  refine ⟨by omega, ?_⟩
  have x := tFs_drop h.2.1 (mFok_tl ok) 1
  rw [show r.st.drop 1 = st by rw [hr]; rfl] at x
  show Zm E YX8_stepOther (d + 2) (si T 155 F.length (nI (r.st.length - 1))) [(0, T97)] 137 [] Q'
  refine iX8_stepOther_137 _ ?_
  obtain ⟨p1, p2, p3, p4⟩ := tFs_nums x
  have p2 : gi (si T 155 F.length (nI (r.st.length - 1))) 154 F.length = nI r.pl := p2
  rw [p1]
  simp (disch := omega) only [p2, nn_add, nn_addl, nn_ladd, nn_mul, nn_lmul, nn_mull, nn_sub, nn_subl, nn_lsub, nn_lt, nn_le, nn_eq, nn_ltl, nn_llt, nn_lel, nn_lle, nn_eql, nn_leq, nn_m1, nn_1m, nn_ltm, nn_mlt, nn_mle, nn_lem, nn_cl, nn_in, nn_ns, nn_ns2, nn_nb, nn_nb2, nn_s1, nn_s2, nn_b1, nn_b2]
  exact ⟨by omega, k1 _ (wT_fr hQ h (tFs_pl x (mFok_tl ok) (r.pl + 1)) ((fr.si (fFT_i (by omega))).tr (fr.si (fFT_i (by omega)))))⟩
/-- COPY -/
theorem xs_copy {a : Int32} {c : mC} {st : List mC} (h : gX M A (r :: F)) (ok : mFok (r :: F)) (hc : gi M 30 r.pl = 18) (ha : gi M 31 r.pl = a) (hr : r.st = c :: st) (v1 : mval A c.1 c.2.1) (hQ : wX Q M A (mFst (mFpl r (r.pl + 1)) ((c.1, c.2.1, 0, 0) :: r.st) :: F)) : Z E YX1_step (d + 2) M [(0, zX16), (1, vi (nI r.pl))] 0 [] Q := by
  refine xs_moves h ok (by decide) hc ha (fun M1 g f c1 Q' k1 k2 => ?_)
  obtain ⟨n1, n2, n3, n4⟩ := xFs_nums g.2
  obtain ⟨g0, g1, -, g3, -⟩ := mFok_hd ok
  have ht := (mtot_le (mFok_tl ok)).1
  have hl : 1 ≤ r.st.length := by rw [hr]; simp
  have n3 : gi M1 16 38 = nI (mtot F + r.st.length) := n3
  obtain ⟨a1, a2⟩ := x_cell g.2 (i := 0) (m := 1) (c := c) (by show r.st[0]? = _; rw [hr]; rfl) rfl
  have a1 : gi M1 53 (mtot F + r.st.length - 1) = c.1 := a1
  have a2 : gi M1 54 (mtot F + r.st.length - 1) = c.2.1 := a2
  obtain ⟨ks, ek, hks, -, -⟩ := id v1.1
  have hs8 := mval_8 v1.1
  rw [ek] at a1
  refine sX1_moves_0 M1 _ _ _ _ g.1.1 ?_
  rw [nn_cl (n := r.pl) (by omega), c1]
  refine ⟨by rw [nn_in (by omega)]; omega, ?_⟩
  rw [if_neg (by decide), if_pos rfl]
  refine jX1_copyOf M1 _ g.1.1 ?_
  rw [n3]
  simp (disch := omega) only [a1, a2, nn_add, nn_addl, nn_ladd, nn_mul, nn_lmul, nn_mull, nn_sub, nn_subl, nn_lsub, nn_lt, nn_le, nn_eq, nn_ltl, nn_llt, nn_lel, nn_lle, nn_eql, nn_leq, nn_m1, nn_1m, nn_ltm, nn_mlt, nn_mle, nn_lem, nn_cl, nn_in, nn_ns, nn_ns2, nn_nb, nn_nb2, nn_s1, nn_s2, nn_b1, nn_b2]
  refine ⟨by omega, by omega, ?_⟩
  rw [← ek]
  obtain ⟨w, q⟩ := wX_fr (wX_mono hQ f) g.1 (xFs_push4 g.2 (mFok_tl ok) hs8) fX_push4
  exact iX1_moves_95 _ w (k1 _ w q)
theorem ts_copy {a : Int32} {c : mC} {st : List mC} (h : gT T A (r :: F)) (ok : mFok (r :: F)) (hc : gi T 123 r.pl = 18) (ha : gi T 124 r.pl = a) (hr : r.st = c :: st) (v1 : mval A c.1 c.2.1) (hQ : wT Q T A (mFst (mFpl r (r.pl + 1)) ((c.1, c.2.1, 0, 0) :: r.st) :: F)) : Zm E YX8_step_2 (d + 3) T [(0, T97)] 0 [] Q := by
  refine ts_other h ok (by decide) hc ha (fun Q' k1 => tv_pre h ok hr (by decide) (by decide) (by decide) ?_)
  obtain ⟨g0, g1, -, g3, -⟩ := mFok_hd ok
  refine sX8_stepOther_55 T _ _ _ _ ?_
  rw [if_neg (by decide), if_pos rfl]
  refine tm_push h.2.1 (mFok_tl ok) g0 (by omega) 0 0 (fun q => absurd q (mval_8 v1.1)) (fun T1 x f => ?_)
  show Zm E YX8_stepOther (d + 2) T1 [(0, T97)] 151 [] Q'
  refine iX8_stepOther_151 _ ?_
  obtain ⟨p1, p2, p3, p4⟩ := tFs_nums x
  have p2 : gi T1 154 F.length = nI r.pl := p2
  rw [p1]
  simp (disch := omega) only [p2, nn_add, nn_addl, nn_ladd, nn_mul, nn_lmul, nn_mull, nn_sub, nn_subl, nn_lsub, nn_lt, nn_le, nn_eq, nn_ltl, nn_llt, nn_lel, nn_lle, nn_eql, nn_leq, nn_m1, nn_1m, nn_ltm, nn_mlt, nn_mle, nn_lem, nn_cl, nn_in, nn_ns, nn_ns2, nn_nb, nn_nb2, nn_s1, nn_s2, nn_b1, nn_b2]
  exact ⟨by omega, k1 _ (wT_fr hQ h (tFs_pl x (mFok_tl ok) (r.pl + 1)) (f.tr (fr.si (fFT_i (by omega)))))⟩
/-- COPY_TWO -/
theorem xs_copy2 {a : Int32} {c e : mC} {st : List mC} (h : gX M A (r :: F)) (ok : mFok (r :: F)) (h8 : r.st.length + 2 ≤ 390) (hc : gi M 30 r.pl = 19) (ha : gi M 31 r.pl = a) (hr : r.st = c :: e :: st) (v1 : mval A c.1 c.2.1) (v2 : mval A e.1 e.2.1) (hQ : wX Q M A (mFst (mFpl r (r.pl + 1)) ((c.1, c.2.1, 0, 0) :: (e.1, e.2.1, 0, 0) :: r.st) :: F)) : Z E YX1_step (d + 2) M [(0, zX16), (1, vi (nI r.pl))] 0 [] Q := by
  refine xs_moves h ok (by decide) hc ha (fun M1 g f c1 Q' k1 k2 => ?_)
  obtain ⟨n1, n2, n3, n4⟩ := xFs_nums g.2
  obtain ⟨g0, g1, -, g3, -⟩ := mFok_hd ok
  have ht := (mtot_le (mFok_tl ok)).1
  have hl : 2 ≤ r.st.length := by rw [hr]; simp
  have n3 : gi M1 16 38 = nI (mtot F + r.st.length) := n3
  obtain ⟨b1, b2⟩ := x_cell g.2 (i := 1) (m := 2) (c := e) (by show r.st[1]? = _; rw [hr]; rfl) rfl
  have b1 : gi M1 53 (mtot F + r.st.length - 1 - 1) = e.1 := by rw [show mtot F + r.st.length - 1 - 1 = mtot F + r.st.length - 2 by omega]; exact b1
  have b2 : gi M1 54 (mtot F + r.st.length - 1 - 1) = e.2.1 := by rw [show mtot F + r.st.length - 1 - 1 = mtot F + r.st.length - 2 by omega]; exact b2
  obtain ⟨ks, ek, hks, -, -⟩ := id v1.1
  obtain ⟨ke, ee, hke, -, -⟩ := id v2.1
  rw [ee] at b1
  refine sX1_moves_0 M1 _ _ _ _ g.1.1 ?_
  rw [nn_cl (n := r.pl) (by omega), c1]
  refine ⟨by rw [nn_in (by omega)]; omega, ?_⟩
  rw [if_neg (by decide), if_neg (by decide), if_pos rfl]
  refine jX1_copyOf M1 _ g.1.1 ?_
  rw [n3]
  simp (disch := omega) only [b1, b2, nn_add, nn_addl, nn_ladd, nn_mul, nn_lmul, nn_mull, nn_sub, nn_subl, nn_lsub, nn_lt, nn_le, nn_eq, nn_ltl, nn_llt, nn_lel, nn_lle, nn_eql, nn_leq, nn_m1, nn_1m, nn_ltm, nn_mlt, nn_mle, nn_lem, nn_cl, nn_in, nn_ns, nn_ns2, nn_nb, nn_nb2, nn_s1, nn_s2, nn_b1, nn_b2]
  refine ⟨by omega, by omega, ?_⟩
  rw [← ee]
  have x := xFs_push4 (s := e.1) (v := e.2.1) (l := gi M1 55 (mtot F + r.st.length - 1 - 1)) (g := gi M1 56 (mtot F + r.st.length - 1 - 1)) g.2 (mFok_tl ok) (mval_8 v2.1)
  have f2 : fr fFX M1 _ := fX_push4 (M := M1) (t := mtot F + r.st.length) (s := e.1) (v := e.2.1) (l := gi M1 55 (mtot F + r.st.length - 1 - 1)) (g := gi M1 56 (mtot F + r.st.length - 1 - 1)) (n := nI (mtot F + r.st.length + 1))
  change xFs (si (si (si (si (si M1 53 (mtot F + r.st.length) e.1) 54 (mtot F + r.st.length) e.2.1) 55 (mtot F + r.st.length) (gi M1 55 (mtot F + r.st.length - 1 - 1))) 56 (mtot F + r.st.length) (gi M1 56 (mtot F + r.st.length - 1 - 1))) 16 38 (nI (mtot F + r.st.length + 1))) _ at x
  generalize si (si (si (si (si M1 53 (mtot F + r.st.length) e.1) 54 (mtot F + r.st.length) e.2.1) 55 (mtot F + r.st.length) (gi M1 55 (mtot F + r.st.length - 1 - 1))) 56 (mtot F + r.st.length) (gi M1 56 (mtot F + r.st.length - 1 - 1))) 16 38 (nI (mtot F + r.st.length + 1)) = M2 at *
  have s2 := sX_cg g.1 f2 (fun a k q => .inr (.inl q))
  show Z E YX1_moves (d + 1) M2 [(0, zX16), (4, vi (nI (mtot F + r.st.length - 1)))] 106 [] Q'
  obtain ⟨q1, q2, q3, q4⟩ := xFs_nums x
  have q3 : gi M2 16 38 = nI (mtot F + (r.st.length + 1)) := q3
  obtain ⟨a1, a2⟩ := x_cell x (i := 1) (m := 2) (c := c) (by show (_ :: r.st)[1]? = _; rw [hr]; rfl) rfl
  have a1 : gi M2 53 (mtot F + r.st.length - 1) = c.1 := by rw [show mtot F + r.st.length - 1 = mtot F + (r.st.length + 1) - 2 by omega]; exact a1
  have a2 : gi M2 54 (mtot F + r.st.length - 1) = c.2.1 := by rw [show mtot F + r.st.length - 1 = mtot F + (r.st.length + 1) - 2 by omega]; exact a2
  rw [ek] at a1
  refine iX1_moves_106 _ _ s2.1 ?_
  rw [q3]
  simp (disch := omega) only [a1, a2, nn_add, nn_addl, nn_ladd, nn_mul, nn_lmul, nn_mull, nn_sub, nn_subl, nn_lsub, nn_lt, nn_le, nn_eq, nn_ltl, nn_llt, nn_lel, nn_lle, nn_eql, nn_leq, nn_m1, nn_1m, nn_ltm, nn_mlt, nn_mle, nn_lem, nn_cl, nn_in, nn_ns, nn_ns2, nn_nb, nn_nb2, nn_s1, nn_s2, nn_b1, nn_b2]
  refine ⟨by omega, by omega, ?_⟩
  rw [← ek]
  obtain ⟨w, q⟩ := wX_fr (wX_mono hQ (f.tr f2.cX3)) s2 (xFs_push4 (s := c.1) (v := c.2.1) (l := gi M2 55 (mtot F + r.st.length - 1)) (g := gi M2 56 (mtot F + r.st.length - 1)) x (mFok_tl ok) (mval_8 v1.1)) fX_push4
  exact k1 _ w q
theorem ts_copy2 {a : Int32} {c e : mC} {st : List mC} (h : gT T A (r :: F)) (ok : mFok (r :: F)) (h8 : r.st.length + 2 ≤ 390) (hc : gi T 123 r.pl = 19) (ha : gi T 124 r.pl = a) (hr : r.st = c :: e :: st) (v1 : mval A c.1 c.2.1) (v2 : mval A e.1 e.2.1) (hQ : wT Q T A (mFst (mFpl r (r.pl + 1)) ((c.1, c.2.1, 0, 0) :: (e.1, e.2.1, 0, 0) :: r.st) :: F)) : Zm E YX8_step_2 (d + 4) T [(0, T97)] 0 [] Q := by
  refine ts_other h ok (by decide) hc ha (fun Q' k1 => tv_pre h ok hr (by decide) (by decide) (by decide) ?_)
  obtain ⟨n1, n2, n3, n4⟩ := tFs_nums h.2.1
  obtain ⟨g0, g1, -, g3, -⟩ := mFok_hd ok
  have hl : 2 ≤ r.st.length := by rw [hr]; simp
  obtain ⟨a1, a2⟩ := t_cell h.2.1 (i := 1) (c := e) (by rw [hr]; rfl)
  refine sX8_stepOther_55 T _ _ _ _ ?_
  rw [if_neg (by decide), if_neg (by decide), if_pos rfl]
  refine jX8_sortAt T _ ?_
  rw [n1]
  simp (disch := omega) only [n3, a1, nn_add, nn_addl, nn_ladd, nn_mul, nn_lmul, nn_mull, nn_sub, nn_subl, nn_lsub, nn_lt, nn_le, nn_eq, nn_ltl, nn_llt, nn_lel, nn_lle, nn_eql, nn_leq, nn_m1, nn_1m, nn_ltm, nn_mlt, nn_mle, nn_lem, nn_cl, nn_in, nn_ns, nn_ns2, nn_nb, nn_nb2, nn_s1, nn_s2, nn_b1, nn_b2]
  refine ⟨by omega, by omega, ?_⟩
  show Zm E YX8_stepOther (d + 3) T [(0, T97), (3, vi c.1), (4, vi c.2.1)] 163 [vi e.1] Q'
  refine iX8_stepOther_163 T _ _ _ ?_
  rw [n1]
  simp (disch := omega) only [n3, a2, nn_add, nn_addl, nn_ladd, nn_mul, nn_lmul, nn_mull, nn_sub, nn_subl, nn_lsub, nn_lt, nn_le, nn_eq, nn_ltl, nn_llt, nn_lel, nn_lle, nn_eql, nn_leq, nn_m1, nn_1m, nn_ltm, nn_mlt, nn_mle, nn_lem, nn_cl, nn_in, nn_ns, nn_ns2, nn_nb, nn_nb2, nn_s1, nn_s2, nn_b1, nn_b2]
  refine ⟨by omega, by omega, ?_⟩
  refine tm_push h.2.1 (mFok_tl ok) g0 (by omega) 0 0 (fun q => absurd q (mval_8 v2.1)) (fun T1 x f => ?_)
  show Zm E YX8_stepOther (d + 3) T1 [(0, T97), (3, vi c.1), (4, vi c.2.1)] 180 [] Q'
  refine sX8_stepOther_180 T1 _ _ ?_
  refine tm_push x (mFok_tl ok) g0 (by show r.st.length + 1 < 400; omega) 0 0 (fun q => absurd q (mval_8 v1.1)) (fun T2 x2 f2 => ?_)
  show Zm E YX8_stepOther (d + 3) T2 [(0, T97)] 187 [] Q'
  refine iX8_stepOther_187 _ ?_
  obtain ⟨p1, p2, p3, p4⟩ := tFs_nums x2
  have p2 : gi T2 154 F.length = nI r.pl := p2
  rw [p1]
  simp (disch := omega) only [p2, nn_add, nn_addl, nn_ladd, nn_mul, nn_lmul, nn_mull, nn_sub, nn_subl, nn_lsub, nn_lt, nn_le, nn_eq, nn_ltl, nn_llt, nn_lel, nn_lle, nn_eql, nn_leq, nn_m1, nn_1m, nn_ltm, nn_mlt, nn_mle, nn_lem, nn_cl, nn_in, nn_ns, nn_ns2, nn_nb, nn_nb2, nn_s1, nn_s2, nn_b1, nn_b2]
  exact ⟨by omega, k1 _ (wT_fr hQ h (tFs_pl x2 (mFok_tl ok) (r.pl + 1)) ((f.tr f2).tr (fr.si (fFT_i (by omega)))))⟩
/-- JUMP -/
theorem xs_jump {a : Nat} (h : gX M A (r :: F)) (ok : mFok (r :: F)) (ha6 : a < 600) (hc : gi M 30 r.pl = 21) (ha : gi M 31 r.pl = nI a) (hQ : wX Q M A (mFpl r a :: F)) : Z E YX1_step (d + 1) M [(0, zX16), (1, vi (nI r.pl))] 0 [] Q := by
  obtain ⟨n1, n2, n3, n4⟩ := xFs_nums h.2
  obtain ⟨g0, g1, -⟩ := mFok_hd ok
  have x := xFs_pl (xFs_pl h.2 (mFok_tl ok) (r.pl + 1)) (mFok_tl ok) a
  refine sX1_step_0 M _ h.1.1 ?_
  rw [n1, nn_cl (n := r.pl) (by omega), hc, ha]
  refine ⟨by rw [nn_in (by omega)]; omega, by rw [nn_in (by omega)]; omega, by rw [nn_in (by omega)]; omega, by rw [nn_in (by omega)]; omega, ?_⟩
  repeat rw [if_neg (by decide)]
  rw [if_pos rfl]
  simp (disch := omega) only [nn_add, nn_addl, nn_ladd, nn_mul, nn_lmul, nn_mull, nn_sub, nn_subl, nn_lsub, nn_lt, nn_le, nn_eq, nn_ltl, nn_llt, nn_lel, nn_lle, nn_eql, nn_leq, nn_m1, nn_1m, nn_ltm, nn_mlt, nn_mle, nn_lem, nn_cl, nn_in, nn_ns, nn_ns2, nn_nb, nn_nb2, nn_s1, nn_s2, nn_b1, nn_b2]
  obtain ⟨w, q⟩ := wX_fr hQ h.1 x ((fr.si (fFX_i (by omega))).tr (fr.si (fFX_i (by omega))))
  exact ⟨by omega, sX1_step_612 _ w q⟩
theorem ts_jump {a : Nat} (h : gT T A (r :: F)) (ok : mFok (r :: F)) (hc : gi T 123 r.pl = 21) (ha : gi T 124 r.pl = nI a) (hQ : wT Q T A (mFpl r a :: F)) : Zm E YX8_step_2 (d + 2) T [(0, T97)] 0 [] Q := by
  refine ts_other h ok (by decide) hc ha (fun Q' k1 => ?_)
  obtain ⟨n1, n2, n3, n4⟩ := tFs_nums h.2.1
  obtain ⟨g0, g1, -⟩ := mFok_hd ok
  refine sX8_stepOther_0 T _ _ ?_
  rw [if_pos rfl]
  refine sX8_stepOther_27 T _ _ _ ?_
  rw [if_pos rfl]
  refine sX8_stepOther_55 T _ _ _ _ ?_
  rw [if_neg (by decide), if_neg (by decide), if_neg (by decide), if_neg (by decide), if_pos rfl, n1]
  simp (disch := omega) only [nn_add, nn_addl, nn_ladd, nn_mul, nn_lmul, nn_mull, nn_sub, nn_subl, nn_lsub, nn_lt, nn_le, nn_eq, nn_ltl, nn_llt, nn_lel, nn_lle, nn_eql, nn_leq, nn_m1, nn_1m, nn_ltm, nn_mlt, nn_mle, nn_lem, nn_cl, nn_in, nn_ns, nn_ns2, nn_nb, nn_nb2, nn_s1, nn_s2, nn_b1, nn_b2]
  exact ⟨by omega, sX8_stepOther_459 _ (k1 _ (wT_fr hQ h (tFs_pl h.2.1 (mFok_tl ok) a) (fr.si (fFT_i (by omega)))))⟩
end
