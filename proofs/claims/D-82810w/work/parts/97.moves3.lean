/-! THE MACHINE's MOVES: UNDER NAMES_OF -/
theorem cw_fFX {M M' : zM} (h : cw M) (f : fr fFX M M') : cw M' := cw_fr h f (fun q hq => by
  have c1 := cwl_ok q hq
  have c2 := cwl_num q hq
  unfold fFX
  omega)
section
variable {E : zE} {d : Nat} {T M : zM} {Q : zO → zM → Prop} {A : mA} {r : mF} {F : List mF}
theorem x_under {m k1 k2 k3 : Nat} {v1 v2 v3 : Int32} (hw : cw M) (hm : m + 3 < 14500) (hk1 : k1 < 8) (hk2 : k2 < 8) (hk3 : k3 < 8) (a3 : gi M 53 m = nI k3) (b3 : gi M 54 m = v3) (a2 : gi M 53 (m + 1) = nI k2) (b2 : gi M 54 (m + 1) = v2) (a0 : gi M 53 (m + 3) = nI k1) (b0 : gi M 54 (m + 3) = v1)
    (hQ : Q (.inl none) (si (si (si (si (si (si M 53 (m + 2) (nI k2)) 54 (m + 2) v2) 53 (m + 1) (nI k3)) 54 (m + 1) v3) 53 m (nI k1)) 54 m v1)) : Z E YX1_moves (d + 1) M [(0, zX16), (4, vi (nI (m + 2)))] 121 [] Q := by
  refine sX1_moves_121 M _ hw ?_
  refine iX1_moves_125 M _ _ hw ?_
  have e2 : nI (m + 2) - 2 = nI m := nn_sub (a := m + 2) (b := 2) (by omega)
  rw [e2, if_neg (by rw [nn_le (by omega) (by omega)]; omega), show nI (m + 2) - 1 = nI (m + 1) from nn_sub (a := m + 2) (b := 1) (by omega), show nI (m + 2) + -1 = nI (m + 1) from nn_dec (m + 1)]
  simp (disch := omega) only [a2, b2, nn_add, nn_addl, nn_ladd, nn_mul, nn_lmul, nn_mull, nn_sub, nn_subl, nn_lsub, nn_lt, nn_le, nn_eq, nn_ltl, nn_llt, nn_lel, nn_lle, nn_eql, nn_leq, nn_m1, nn_1m, nn_ltm, nn_mlt, nn_mle, nn_lem, nn_cl, nn_in, nn_ns, nn_ns2, nn_nb, nn_nb2, nn_s1, nn_s2, nn_b1, nn_b2]
  refine ⟨by omega, by omega, ?_⟩
  have f1 : fr fFX M (si (si M 53 (m + 2) (nI k2)) 54 (m + 2) v2) := (fr.si (fFX_i (by omega))).tr (fr.si (fFX_i (by omega)))
  have a3' : gi (si (si M 53 (m + 2) (nI k2)) 54 (m + 2) v2) 53 m = nI k3 := (gi_oth (by decide)).trans ((gi_idx (by omega)).trans a3)
  have b3' : gi (si (si M 53 (m + 2) (nI k2)) 54 (m + 2) v2) 54 m = v3 := (gi_idx (by omega)).trans ((gi_oth (by decide)).trans b3)
  have a0' : gi (si (si M 53 (m + 2) (nI k2)) 54 (m + 2) v2) 53 (m + 3) = nI k1 := (gi_oth (by decide)).trans ((gi_idx (by omega)).trans a0)
  have b0' : gi (si (si M 53 (m + 2) (nI k2)) 54 (m + 2) v2) 54 (m + 3) = v1 := (gi_idx (by omega)).trans ((gi_oth (by decide)).trans b0)
  have w1 := cw_fFX hw f1
  generalize si (si M 53 (m + 2) (nI k2)) 54 (m + 2) v2 = M1 at *
  refine iX1_moves_125 M1 _ _ w1 ?_
  rw [e2, if_neg (by rw [nn_le (by omega) (by omega)]; omega), show nI (m + 1) - 1 = nI m from nn_sub (a := m + 1) (b := 1) (by omega), nn_dec m]
  simp (disch := omega) only [a3', b3', nn_add, nn_addl, nn_ladd, nn_mul, nn_lmul, nn_mull, nn_sub, nn_subl, nn_lsub, nn_lt, nn_le, nn_eq, nn_ltl, nn_llt, nn_lel, nn_lle, nn_eql, nn_leq, nn_m1, nn_1m, nn_ltm, nn_mlt, nn_mle, nn_lem, nn_cl, nn_in, nn_ns, nn_ns2, nn_nb, nn_nb2, nn_s1, nn_s2, nn_b1, nn_b2]
  refine ⟨by omega, by omega, ?_⟩
  have f2 : fr fFX M1 (si (si M1 53 (m + 1) (nI k3)) 54 (m + 1) v3) := (fr.si (fFX_i (by omega))).tr (fr.si (fFX_i (by omega)))
  have a0'' : gi (si (si M1 53 (m + 1) (nI k3)) 54 (m + 1) v3) 53 (m + 3) = nI k1 := (gi_oth (by decide)).trans ((gi_idx (by omega)).trans a0')
  have b0'' : gi (si (si M1 53 (m + 1) (nI k3)) 54 (m + 1) v3) 54 (m + 3) = v1 := (gi_idx (by omega)).trans ((gi_oth (by decide)).trans b0')
  have w2 := cw_fFX w1 f2
  generalize si (si M1 53 (m + 1) (nI k3)) 54 (m + 1) v3 = M2 at *
  refine iX1_moves_125 M2 _ _ w2 ?_
  rw [e2, if_pos (by rw [nn_le (by omega) (by omega)]; omega), show nI (m + 2) + 1 = nI (m + 3) from nn_add (m + 2) 1]
  simp (disch := omega) only [a0'', b0'', nn_add, nn_addl, nn_ladd, nn_mul, nn_lmul, nn_mull, nn_sub, nn_subl, nn_lsub, nn_lt, nn_le, nn_eq, nn_ltl, nn_llt, nn_lel, nn_lle, nn_eql, nn_leq, nn_m1, nn_1m, nn_ltm, nn_mlt, nn_mle, nn_lem, nn_cl, nn_in, nn_ns, nn_ns2, nn_nb, nn_nb2, nn_s1, nn_s2, nn_b1, nn_b2]
  exact ⟨by omega, by omega, hQ⟩
theorem xs_under {a : Int32} {c1 c2 c3 : mC} {st : List mC} (h : gX M A (r :: F)) (ok : mFok (r :: F)) (hc : gi M 30 r.pl = 20) (ha : gi M 31 r.pl = a) (hr : r.st = c1 :: c2 :: c3 :: st) (v1 : mval A c1.1 c1.2.1) (v2 : mval A c2.1 c2.2.1) (v3 : mval A c3.1 c3.2.1)
    (hQ : wX Q M A (mFst (mFpl r (r.pl + 1)) ((c1.1, c1.2.1, 0, 0) :: (c2.1, c2.2.1, 0, 0) :: (c3.1, c3.2.1, 0, 0) :: (c1.1, c1.2.1, 0, 0) :: st) :: F)) : Z E YX1_step (d + 2) M [(0, zX16), (1, vi (nI r.pl))] 0 [] Q := by
  refine xs_moves h ok (by decide) hc ha (fun M1 g f e1 Q' k1 k2 => ?_)
  obtain ⟨n1, n2, n3, n4⟩ := xFs_nums g.2
  obtain ⟨g0, g1, -, g3, -⟩ := mFok_hd ok
  have ht := (mtot_le (mFok_tl ok)).1
  have hl : r.st.length = st.length + 3 := by rw [hr]; rfl
  have n3 : gi M1 16 38 = nI (mtot F + st.length + 3) := by rw [show mtot F + st.length + 3 = mtot F + r.st.length by omega]; exact n3
  have cell : ∀ (i : Nat) (c : mC), r.st[i]? = some c → ∀ m, m = mtot F + r.st.length - (i + 1) → gi M1 53 m = c.1 ∧ gi M1 54 m = c.2.1 := fun i c hi m hm => by
    rw [hm]; exact x_cell g.2 (i := i) (m := i + 1) (c := c) hi rfl
  obtain ⟨a1, b1⟩ := cell 0 c1 (by rw [hr]; rfl) (mtot F + st.length + 2) (by omega)
  obtain ⟨ks1, ek1, hk1, -, -⟩ := id v1.1
  obtain ⟨ks2, ek2, hk2, -, -⟩ := id v2.1
  obtain ⟨ks3, ek3, hk3, -, -⟩ := id v3.1
  rw [ek1] at a1
  rw [show nI (mtot F + r.st.length) - 1 = nI (mtot F + st.length + 2) from by rw [hl]; exact nn_sub (a := mtot F + (st.length + 3)) (b := 1) (by omega)]
  refine sX1_moves_0 M1 _ _ _ _ g.1.1 ?_
  rw [nn_cl (n := r.pl) (by omega), e1]
  refine ⟨by rw [nn_in (by omega)]; omega, ?_⟩
  repeat rw [if_neg (by decide)]
  rw [if_pos rfl]
  refine jX1_copyOf M1 _ g.1.1 ?_
  rw [n3]
  simp (disch := omega) only [a1, b1, nn_add, nn_addl, nn_ladd, nn_mul, nn_lmul, nn_mull, nn_sub, nn_subl, nn_lsub, nn_lt, nn_le, nn_eq, nn_ltl, nn_llt, nn_lel, nn_lle, nn_eql, nn_leq, nn_m1, nn_1m, nn_ltm, nn_mlt, nn_mle, nn_lem, nn_cl, nn_in, nn_ns, nn_ns2, nn_nb, nn_nb2, nn_s1, nn_s2, nn_b1, nn_b2]
  refine ⟨by omega, by omega, ?_⟩
  have x := xFs_push4 (s := nI ks1) (v := c1.2.1) (l := gi M1 55 (mtot F + st.length + 2)) (g := gi M1 56 (mtot F + st.length + 2)) g.2 (mFok_tl ok) (by rw [← ek1]; exact mval_8 v1.1)
  rw [show mtot F + (mFpl r (r.pl + 1)).st.length = mtot F + st.length + 3 by show mtot F + r.st.length = _; omega] at x
  have f2 : fr fFX M1 (si (si (si (si (si M1 53 (mtot F + st.length + 3) (nI ks1)) 54 (mtot F + st.length + 3) c1.2.1) 55 (mtot F + st.length + 3) (gi M1 55 (mtot F + st.length + 2))) 56 (mtot F + st.length + 3) (gi M1 56 (mtot F + st.length + 2))) 16 38 (nI (mtot F + st.length + 3 + 1))) := fX_push4
  generalize si (si (si (si (si M1 53 (mtot F + st.length + 3) (nI ks1)) 54 (mtot F + st.length + 3) c1.2.1) 55 (mtot F + st.length + 3) (gi M1 55 (mtot F + st.length + 2))) 56 (mtot F + st.length + 3) (gi M1 56 (mtot F + st.length + 2))) 16 38 (nI (mtot F + st.length + 3 + 1)) = M2 at *
  have s2 := sX_cg g.1 f2 (fun a k q => .inr (.inl q))
  have cell2 : ∀ (i : Nat) (c : mC), ((nI ks1, c1.2.1, 0, 0) :: r.st)[i]? = some c → ∀ m, m = mtot F + (r.st.length + 1) - (i + 1) → gi M2 53 m = c.1 ∧ gi M2 54 m = c.2.1 := fun i c hi m hm => by
    rw [hm]; exact x_cell x (i := i) (m := i + 1) (c := c) hi rfl
  obtain ⟨p0, q0⟩ := cell2 0 (nI ks1, c1.2.1, 0, 0) rfl (mtot F + st.length + 3) (by omega)
  obtain ⟨p2, q2⟩ := cell2 2 c2 (by rw [hr]; rfl) (mtot F + st.length + 1) (by omega)
  obtain ⟨p3, q3⟩ := cell2 3 c3 (by rw [hr]; rfl) (mtot F + st.length) (by omega)
  rw [ek2] at p2
  rw [ek3] at p3
  show Z E YX1_moves (d + 1) M2 [(0, zX16), (4, vi (nI (mtot F + st.length + 2)))] 121 [] Q'
  refine x_under s2.1 (by omega) hk1 hk2 hk3 p3 q3 p2 q2 p0 q0 ?_
  have f3 : fr fFX M2 (si (si (si (si (si (si M2 53 (mtot F + st.length + 2) (nI ks2)) 54 (mtot F + st.length + 2) c2.2.1) 53 (mtot F + st.length + 1) (nI ks3)) 54 (mtot F + st.length + 1) c3.2.1) 53 (mtot F + st.length) (nI ks1)) 54 (mtot F + st.length) c1.2.1) :=
    (((((fr.si (fFX_i (by omega))).tr (fr.si (fFX_i (by omega)))).tr (fr.si (fFX_i (by omega)))).tr (fr.si (fFX_i (by omega)))).tr (fr.si (fFX_i (by omega)))).tr (fr.si (fFX_i (by omega)))
  have x3 : xFs (si (si (si (si (si (si M2 53 (mtot F + st.length + 2) (nI ks2)) 54 (mtot F + st.length + 2) c2.2.1) 53 (mtot F + st.length + 1) (nI ks3)) 54 (mtot F + st.length + 1) c3.2.1) 53 (mtot F + st.length) (nI ks1)) 54 (mtot F + st.length) c1.2.1) (mFst (mFpl r (r.pl + 1)) ((c1.1, c1.2.1, 0, 0) :: (c2.1, c2.2.1, 0, 0) :: (c3.1, c3.2.1, 0, 0) :: (c1.1, c1.2.1, 0, 0) :: st) :: F) := by
    have xs : stk (fun j c => cellX M2 (mtot F + j) c) ((nI ks1, c1.2.1, 0, 0) :: r.st) := x.2.1.2.2.2.2
    rw [hr] at xs
    refine xFs_top x (mFok_tl ok) (fun a k z => ?_) ?_ ?_ ?_ (xf1_st (r := mFst (mFpl r (r.pl + 1)) ((nI ks1, c1.2.1, 0, 0) :: r.st)) x.2.1 (fun a k z z' => ?_) ⟨⟨?_, ?_, fun z => absurd z (mval_8 v1.1)⟩, ⟨?_, ?_, fun z => absurd z (mval_8 v2.1)⟩, ⟨?_, ?_, fun z => absurd z (mval_8 v3.1)⟩, ⟨?_, ?_, fun z => absurd z (mval_8 v1.1)⟩, stk_cg (fun j c hj z => ?_) xs.2.2.2.2⟩)
    · unfold loX at z
      simp only [gi_si]
      grind
    · rw [gi_oth (by decide), gi_oth (by decide), gi_oth (by decide), gi_oth (by decide), gi_oth (by decide), gi_oth (by decide)]
    · rw [gi_oth (by decide), gi_oth (by decide), gi_oth (by decide), gi_oth (by decide), gi_oth (by decide), gi_oth (by decide), x.1.2.1, mtot_c]
      congr 1
      show r.st.length + 1 + _ = st.length + 1 + 1 + 1 + 1 + _
      omega
    · rw [gi_oth (by decide), gi_oth (by decide), gi_oth (by decide), gi_oth (by decide), gi_oth (by decide), gi_oth (by decide)]; exact x.1.2.2
    · rw [gi_oth (by omega), gi_oth (by omega), gi_oth (by omega), gi_oth (by omega), gi_oth (by omega), gi_oth (by omega)]
    · show gi _ 53 (mtot F + (st.length + 1 + 1 + 1)) = c1.1
      rw [gi_oth (by decide), gi_idx (by omega), gi_oth (by decide), gi_idx (by omega), gi_oth (by decide), gi_idx (by omega), ek1]; exact p0
    · show gi _ 54 (mtot F + (st.length + 1 + 1 + 1)) = c1.2.1
      rw [gi_idx (by omega), gi_oth (by decide), gi_idx (by omega), gi_oth (by decide), gi_idx (by omega), gi_oth (by decide)]; exact q0
    · show gi _ 53 (mtot F + (st.length + 1 + 1)) = c2.1
      rw [gi_oth (by decide), gi_idx (by omega), gi_oth (by decide), gi_idx (by omega), gi_oth (by decide), ek2]; exact gi_self ..
    · show gi _ 54 (mtot F + (st.length + 1 + 1)) = c2.2.1
      rw [gi_idx (by omega), gi_oth (by decide), gi_idx (by omega), gi_oth (by decide)]; exact gi_self ..
    · show gi _ 53 (mtot F + (st.length + 1)) = c3.1
      rw [gi_oth (by decide), gi_idx (by omega), gi_oth (by decide), ek3]; exact gi_self ..
    · show gi _ 54 (mtot F + (st.length + 1)) = c3.2.1
      rw [gi_idx (by omega), gi_oth (by decide)]; exact gi_self ..
    · show gi _ 53 (mtot F + st.length) = c1.1
      rw [gi_oth (by decide), ek1]; exact gi_self ..
    · show gi _ 54 (mtot F + st.length) = c1.2.1
      exact gi_self ..
    · unfold cellX at z ⊢
      have hj' : j < st.length := hj
      rw [gi_oth (by decide), gi_idx (by omega), gi_oth (by decide), gi_idx (by omega), gi_oth (by decide), gi_idx (by omega), gi_idx (by omega), gi_oth (by decide), gi_idx (by omega), gi_oth (by decide), gi_idx (by omega), gi_oth (by decide)]
      simp only [gi_si]
      simp
      exact z
  obtain ⟨w, q⟩ := wX_fr (wX_mono hQ (f.tr f2.cX3)) s2 x3 f3
  exact k1 _ w q
/-- a list in place of a value on top -/
theorem xFs_repl {M' : zM} {c c' : mC} {st : List mC} (h : xFs M (r :: F)) (ok : mFok F) (hr : r.st = c :: st) (e : ∀ a k, ¬ (53 ≤ a ∧ a ≤ 56 ∧ k = mtot F + st.length) → gi M' a k = gi M a k) (hc : cellX M' (mtot F + st.length) c') : xFs M' (mFst r (c' :: st) :: F) := by
  have xs := h.2.1.2.2.2.2
  rw [hr] at xs
  refine xFs_top h ok (fun a k z => e a k (by unfold loX at z; omega)) (e _ _ (by omega)) ?_ ((e _ _ (by omega)).trans h.1.2.2) (xf1_st h.2.1 (fun a k z _ => e a k (by omega)) ⟨hc, stk_cg (fun j c hj z => ?_) xs.2⟩)
  · rw [e _ _ (by omega), h.1.2.1, mtot_c, hr]; rfl
  · have hj' : j < st.length := hj
    unfold cellX at z ⊢
    rw [e _ _ (by omega), e _ _ (by omega), e _ _ (by omega), e _ _ (by omega)]; exact z
theorem tFs_repl {T' : zM} {c c' : mC} {st : List mC} (h : tFs T (r :: F)) (ok : mFok F) (hr : r.st = c :: st) (e : ∀ a k, ¬ (160 ≤ a ∧ a ≤ 163 ∧ k = 400 * F.length + st.length) → gi T' a k = gi T a k) (hc : cellT T' (400 * F.length + st.length) c') : tFs T' (mFst r (c' :: st) :: F) := by
  have xs := h.2.1.2.2.2.2
  rw [hr] at xs
  have e5 : gi T' 155 F.length = nI (c' :: st).length := by rw [e _ _ (by omega), h.2.1.2.2.2.1, hr]; rfl
  obtain ⟨⟨a1, a2, a3, a4, a5⟩, b, ⟨c1, c2⟩, d1, d2⟩ := h.2.1
  refine tFs_top h ok (fun a k z => e a k (by unfold loT at z; omega)) (e _ _ (by omega)) ⟨⟨(e _ _ (by omega)).trans a1, (e _ _ (by omega)).trans a2, (e _ _ (by omega)).trans a3, (e _ _ (by omega)).trans a4, (e _ _ (by omega)).trans a5⟩, (e _ _ (by omega)).trans b, ⟨(e _ _ (by omega)).trans c1, stk_cg (fun j c hj z => ?_) c2⟩, e5, hc, stk_cg (fun j c hj z => ?_) xs.2⟩
  · rw [e _ _ (by omega), e _ _ (by omega)]; exact z
  · have hj' : j < st.length := hj
    unfold cellT at z ⊢
    rw [e _ _ (by omega), e _ _ (by omega), e _ _ (by omega), e _ _ (by omega)]; exact z
/-- NAMES_OF -/
def m_lst (A : mA) (c : mC) : mC := (8, (if c.1 = 7 then c.2.1 else -1), 0, gi (aT A) 97 86)
theorem xs_names {a : Int32} {c : mC} {st : List mC} (h : gX M A (r :: F)) (ok : mFok (r :: F)) (hc : gi M 30 r.pl = 29) (ha : gi M 31 r.pl = a) (hr : r.st = c :: st) (hQ : wX Q M A (mFst (mFpl r (r.pl + 1)) (m_lst A c :: st) :: F)) : Z E YX1_step (d + 2) M [(0, zX16), (1, vi (nI r.pl))] 0 [] Q := by
  refine xs_moves h ok (by decide) hc ha (fun M1 g f e1 Q' k1 k2 => ?_)
  obtain ⟨g0, g1, -, g3, -⟩ := mFok_hd ok
  have ht := (mtot_le (mFok_tl ok)).1
  have hl : r.st.length = st.length + 1 := by rw [hr]; rfl
  obtain ⟨a1, a2⟩ := x_cell g.2 (i := 0) (m := 1) (c := c) (by show r.st[0]? = _; rw [hr]; rfl) rfl
  have a1 : gi M1 53 (mtot F + st.length) = c.1 := by rw [show mtot F + st.length = mtot F + r.st.length - 1 by omega]; exact a1
  have a2 : gi M1 54 (mtot F + st.length) = c.2.1 := by rw [show mtot F + st.length = mtot F + r.st.length - 1 by omega]; exact a2
  have e86 : gi M1 16 29 = gi (aT A) 97 86 := g.1.2.1.1.2
  rw [show nI (mtot F + r.st.length) - 1 = nI (mtot F + st.length) from by rw [hl]; exact nn_sub (a := mtot F + (st.length + 1)) (b := 1) (by omega)]
  have cont : ∀ v, v = (if c.1 = 7 then c.2.1 else -1) → Z E YX1_moves (d + 1) M1 [(0, zX16), (4, vi (nI (mtot F + st.length)))] 430 [vi v, vi (nI (mtot F + st.length)), vr (some (54, 100, 14500))] Q' := fun v ev => by
    refine iX1_moves_430 M1 _ _ _ g.1.1 ?_
    rw [e86]
    simp (disch := omega) only [nn_add, nn_addl, nn_ladd, nn_mul, nn_lmul, nn_mull, nn_sub, nn_subl, nn_lsub, nn_lt, nn_le, nn_eq, nn_ltl, nn_llt, nn_lel, nn_lle, nn_eql, nn_leq, nn_m1, nn_1m, nn_ltm, nn_mlt, nn_mle, nn_lem, nn_cl, nn_in, nn_ns, nn_ns2, nn_nb, nn_nb2, nn_s1, nn_s2, nn_b1, nn_b2]
    refine ⟨by omega, by omega, ?_⟩
    rw [show vp_nar .byte (8 : Int32) = 8 from rfl]
    have f3 : fr fFX M1 (si (si (si (si M1 54 (mtot F + st.length) v) 53 (mtot F + st.length) 8) 55 (mtot F + st.length) (gi (aT A) 97 86)) 56 (mtot F + st.length) 0) := (((fr.si (fFX_i (by omega))).tr (fr.si (fFX_i (by omega)))).tr (fr.si (fFX_i (by omega)))).tr (fr.si (fFX_i (by omega)))
    have x3 : xFs (si (si (si (si M1 54 (mtot F + st.length) v) 53 (mtot F + st.length) 8) 55 (mtot F + st.length) (gi (aT A) 97 86)) 56 (mtot F + st.length) 0) (mFst (mFpl r (r.pl + 1)) (m_lst A c :: st) :: F) := by
      refine xFs_repl g.2 (mFok_tl ok) hr (fun a k z => ?_) ⟨?_, ?_, fun _ => ⟨?_, ?_⟩⟩
      · simp only [gi_si]
        grind
      · rw [gi_oth (by decide), gi_oth (by decide)]; exact gi_self ..
      · rw [gi_oth (by decide), gi_oth (by decide), gi_oth (by decide)]; exact (gi_self ..).trans ev
      · exact gi_self ..
      · rw [gi_oth (by decide)]; exact gi_self ..
    obtain ⟨w, q⟩ := wX_fr (wX_mono hQ f) g.1 x3 f3
    exact k1 _ w q
  refine sX1_moves_0 M1 _ _ _ _ g.1.1 ?_
  rw [nn_cl (n := r.pl) (by omega), e1]
  refine ⟨by rw [nn_in (by omega)]; omega, ?_⟩
  repeat rw [if_neg (by decide)]
  rw [if_pos rfl]
  simp (disch := omega) only [a1, a2, nn_add, nn_addl, nn_ladd, nn_mul, nn_lmul, nn_mull, nn_sub, nn_subl, nn_lsub, nn_lt, nn_le, nn_eq, nn_ltl, nn_llt, nn_lel, nn_lle, nn_eql, nn_leq, nn_m1, nn_1m, nn_ltm, nn_mlt, nn_mle, nn_lem, nn_cl, nn_in, nn_ns, nn_ns2, nn_nb, nn_nb2, nn_s1, nn_s2, nn_b1, nn_b2]
  refine ⟨by omega, ?_⟩
  by_cases h7 : c.1 = 7
  · rw [if_pos h7]
    exact ⟨by omega, cont _ (by rw [if_pos h7])⟩
  · rw [if_neg h7]
    exact cont _ (by rw [if_neg h7])
theorem ts_names {a : Int32} {c : mC} {st : List mC} (h : gT T A (r :: F)) (ok : mFok (r :: F)) (hc : gi T 123 r.pl = 29) (ha : gi T 124 r.pl = a) (hr : r.st = c :: st) (hQ : wT Q T A (mFst (mFpl r (r.pl + 1)) (m_lst A c :: st) :: F)) : Zm E YX8_step_2 (d + 3) T [(0, T97)] 0 [] Q := by
  refine ts_other h ok (by decide) hc ha (fun Q' k1 => tv_pre h ok hr (by decide) (by decide) (by decide) ?_)
  obtain ⟨n1, n2, n3, n4⟩ := tFs_nums h.2.1
  obtain ⟨g0, g1, -, g3, -⟩ := mFok_hd ok
  have hl : r.st.length = st.length + 1 := by rw [hr]; rfl
  refine sX8_stepOther_55 T _ _ _ _ ?_
  repeat rw [if_neg (by decide)]
  rw [if_pos rfl]
  refine jX8_drop T _ ?_
  rw [n1]
  simp (disch := omega) only [n3, nn_add, nn_addl, nn_ladd, nn_mul, nn_lmul, nn_mull, nn_sub, nn_subl, nn_lsub, nn_lt, nn_le, nn_eq, nn_ltl, nn_llt, nn_lel, nn_lle, nn_eql, nn_leq, nn_m1, nn_1m, nn_ltm, nn_mlt, nn_mle, nn_lem, nn_cl, nn_in, nn_ns, nn_ns2, nn_nb, nn_nb2, nn_s1, nn_s2, nn_b1, nn_b2]
  refine ⟨by omega, ?_⟩
  have x := tFs_drop h.2.1 (mFok_tl ok) 1
  rw [show r.st.drop 1 = st by rw [hr]; rfl] at x
  have f1 : fr fFT T (si T 155 F.length (nI (r.st.length - 1))) := fr.si (fFT_i (by omega))
  show Zm E YX8_stepOther (d + 2) (si T 155 F.length (nI (r.st.length - 1))) [(0, T97), (3, vi c.1), (4, vi c.2.1)] 406 [] Q'
  generalize si T 155 F.length (nI (r.st.length - 1)) = T1 at *
  obtain ⟨p1, p2, p3, p4⟩ := tFs_nums x
  have p3 : gi T1 155 F.length = nI st.length := p3
  have e86 : gi T1 97 86 = gi (aT A) 97 86 := (f1.2 97 86 (by unfold fFT; omega)).1.trans (h.1.1 97 86 (by unfold hpT; omega))
  refine iX8_stepOther_406 T1 _ _ ?_
  rw [p1, e86]
  simp (disch := omega) only [p3, nn_add, nn_addl, nn_ladd, nn_mul, nn_lmul, nn_mull, nn_sub, nn_subl, nn_lsub, nn_lt, nn_le, nn_eq, nn_ltl, nn_llt, nn_lel, nn_lle, nn_eql, nn_leq, nn_m1, nn_1m, nn_ltm, nn_mlt, nn_mle, nn_lem, nn_cl, nn_in, nn_ns, nn_ns2, nn_nb, nn_nb2, nn_s1, nn_s2, nn_b1, nn_b2]
  refine ⟨by omega, by omega, ?_⟩
  have f2 : fr fFT T1 (si (si T1 162 (400 * F.length + st.length) 0) 163 (400 * F.length + st.length) (gi (aT A) 97 86)) := (fr.si (fFT_i (by omega))).tr (fr.si (fFT_i (by omega)))
  have x2 : tFs (si (si T1 162 (400 * F.length + st.length) 0) 163 (400 * F.length + st.length) (gi (aT A) 97 86)) (mFst r st :: F) := by
    refine tFs_top x (mFok_tl ok) (fun a k z => ?_) (by rw [gi_oth (by decide), gi_oth (by decide)]) (tf1_st (r := mFst r st) x.2.1 (fun a k z => by rw [gi_oth (by omega), gi_oth (by omega)]) (by rw [gi_oth (by decide), gi_oth (by decide)]; exact p3) (stk_cg (fun j c hj z => ?_) x.2.1.2.2.2.2))
    · unfold loT at z
      simp only [gi_si]
      grind
    · have hj' : j < st.length := hj
      unfold cellT at z ⊢
      rw [gi_oth (by decide), gi_oth (by decide), gi_oth (by decide), gi_oth (by decide), gi_oth (by decide), gi_idx (by omega), gi_idx (by omega), gi_oth (by decide)]
      exact z
  have c162 : gi (si (si T1 162 (400 * F.length + st.length) 0) 163 (400 * F.length + st.length) (gi (aT A) 97 86)) 162 (400 * F.length + st.length) = 0 := by rw [gi_oth (by decide)]; exact gi_self ..
  have c163 : gi (si (si T1 162 (400 * F.length + st.length) 0) 163 (400 * F.length + st.length) (gi (aT A) 97 86)) 163 (400 * F.length + st.length) = gi (aT A) 97 86 := gi_self ..
  generalize si (si T1 162 (400 * F.length + st.length) 0) 163 (400 * F.length + st.length) (gi (aT A) 97 86) = T2 at *
  have cont : ∀ v, v = (if c.1 = 7 then c.2.1 else -1) → Zm E YX8_push (d + 1) T2 (zargs 0 [T97, vi 8, vi v]) 0 [] (zma E YX8_stepOther (d + 2) [(0, T97)] 444 3 [] Q') := fun v ev => by
    refine tm_push x2 (mFok_tl ok) g0 (by show st.length < 400; omega) 0 (gi (aT A) 97 86) (fun _ => ⟨c162, c163⟩) (fun T3 x3 f3 => ?_)
    show Zm E YX8_stepOther (d + 2) T3 [(0, T97)] 447 [] Q'
    refine iX8_stepOther_447 _ ?_
    obtain ⟨q1, q2, q3, q4⟩ := tFs_nums x3
    have q2 : gi T3 154 F.length = nI r.pl := q2
    rw [q1]
    simp (disch := omega) only [q2, nn_add, nn_addl, nn_ladd, nn_mul, nn_lmul, nn_mull, nn_sub, nn_subl, nn_lsub, nn_lt, nn_le, nn_eq, nn_ltl, nn_llt, nn_lel, nn_lle, nn_eql, nn_leq, nn_m1, nn_1m, nn_ltm, nn_mlt, nn_mle, nn_lem, nn_cl, nn_in, nn_ns, nn_ns2, nn_nb, nn_nb2, nn_s1, nn_s2, nn_b1, nn_b2]
    refine ⟨by omega, k1 _ (wT_fr hQ h ?_ (((f1.tr f2).tr f3).tr (fr.si (fFT_i (by omega)))))⟩
    have x4 := tFs_pl x3 (mFok_tl ok) (r.pl + 1)
    rw [ev] at x4
    exact x4
  by_cases h7 : c.1 = 7
  · rw [if_pos h7]
    exact cont _ (by rw [if_pos h7])
  · rw [if_neg h7]
    exact cont _ (by rw [if_neg h7])
/-- under of the twin -/
theorem ts_under {a : Int32} {c1 c2 c3 : mC} {st : List mC} (h : gT T A (r :: F)) (ok : mFok (r :: F)) (hc : gi T 123 r.pl = 20) (ha : gi T 124 r.pl = a) (hr : r.st = c1 :: c2 :: c3 :: st) (v1 : mval A c1.1 c1.2.1) (v2 : mval A c2.1 c2.2.1) (v3 : mval A c3.1 c3.2.1)
    (hQ : wT Q T A (mFst (mFpl r (r.pl + 1)) ((c1.1, c1.2.1, 0, 0) :: (c2.1, c2.2.1, 0, 0) :: (c3.1, c3.2.1, 0, 0) :: (c1.1, c1.2.1, 0, 0) :: st) :: F)) : Zm E YX8_step_2 (d + 4) T [(0, T97)] 0 [] Q := by
  refine ts_other h ok (by decide) hc ha (fun Q' k1 => tv_pre h ok hr (by decide) (by decide) (by decide) ?_)
  obtain ⟨n1, n2, n3, n4⟩ := tFs_nums h.2.1
  obtain ⟨g0, g1, -, g3, -⟩ := mFok_hd ok
  have hl : r.st.length = st.length + 3 := by rw [hr]; rfl
  have n3 : gi T 155 F.length = nI (st.length + 3) := by rw [← hl]; exact n3
  have cell : ∀ (i : Nat) (c : mC), r.st[i]? = some c → ∀ m, m = 400 * F.length + r.st.length - 1 - i → gi T 160 m = c.1 ∧ gi T 161 m = c.2.1 := fun i c hi m hm => by
    rw [hm]; exact t_cell h.2.1 hi
  obtain ⟨p1, q1⟩ := cell 0 c1 (by rw [hr]; rfl) (400 * F.length + st.length + 2) (by omega)
  obtain ⟨p2, q2⟩ := cell 1 c2 (by rw [hr]; rfl) (400 * F.length + st.length + 1) (by omega)
  obtain ⟨p3, q3⟩ := cell 2 c3 (by rw [hr]; rfl) (400 * F.length + st.length) (by omega)
  refine sX8_stepOther_55 T _ _ _ _ ?_
  repeat rw [if_neg (by decide)]
  rw [if_pos rfl]
  obtain ⟨m, em⟩ : ∃ m, m = 400 * F.length + st.length := ⟨_, rfl⟩
  rw [← em] at p1 q1 p2 q2 p3 q3
  refine iX8_under_0 T _ _ ?_
  rw [n1, nn_cl (n := F.length) (by omega), n3, nn_lmul, nn_add, show 400 * F.length + (st.length + 3) = m + 3 by omega]
  refine ⟨by rw [nn_in (by omega)]; omega, ?_⟩
  refine iX8_under_8 T _ _ _ _ ?_
  have e1 : nI (m + 3) - 1 = nI (m + 2) := nn_sub (a := m + 3) (b := 1) (by omega)
  have e2 : nI (m + 3) - 2 = nI (m + 1) := nn_sub (a := m + 3) (b := 2) (by omega)
  have e3 : nI (m + 3) - 3 = nI m := nn_sub (a := m + 3) (b := 3) (by omega)
  rw [if_neg (by decide), e1, e2, show nI (m + 1) - 0 = nI (m + 1) from nn_sub (a := m + 1) (b := 0) (by omega), show nI (m + 2) - 0 = nI (m + 2) from nn_sub (a := m + 2) (b := 0) (by omega), show (0 : Int32) + 1 = 1 from rfl]
  simp (disch := omega) only [p2, q2, nn_add, nn_addl, nn_ladd, nn_mul, nn_lmul, nn_mull, nn_sub, nn_subl, nn_lsub, nn_lt, nn_le, nn_eq, nn_ltl, nn_llt, nn_lel, nn_lle, nn_eql, nn_leq, nn_m1, nn_1m, nn_ltm, nn_mlt, nn_mle, nn_lem, nn_cl, nn_in, nn_ns, nn_ns2, nn_nb, nn_nb2, nn_s1, nn_s2, nn_b1, nn_b2]
  refine ⟨by omega, by omega, ?_⟩
  have f1 : fr (fun a k => (a = 160 ∨ a = 161) ∧ m ≤ k) T (si (si T 160 (m + 2) c2.1) 161 (m + 2) c2.2.1) := (fr.si (by omega)).tr (fr.si (by omega))
  refine iX8_under_8 _ _ _ _ _ ?_
  rw [if_neg (by decide), e1, e2, show nI (m + 1) - 1 = nI m from nn_sub (a := m + 1) (b := 1) (by omega), show nI (m + 2) - 1 = nI (m + 1) from nn_sub (a := m + 2) (b := 1) (by omega), show (1 : Int32) + 1 = 2 from rfl]
  have p3' : gi (si (si T 160 (m + 2) c2.1) 161 (m + 2) c2.2.1) 160 m = c3.1 := (gi_oth (by decide)).trans ((gi_idx (by omega)).trans p3)
  have q3' : gi (si (si T 160 (m + 2) c2.1) 161 (m + 2) c2.2.1) 161 m = c3.2.1 := (gi_idx (by omega)).trans ((gi_oth (by decide)).trans q3)
  simp (disch := omega) only [p3', q3', nn_add, nn_addl, nn_ladd, nn_mul, nn_lmul, nn_mull, nn_sub, nn_subl, nn_lsub, nn_lt, nn_le, nn_eq, nn_ltl, nn_llt, nn_lel, nn_lle, nn_eql, nn_leq, nn_m1, nn_1m, nn_ltm, nn_mlt, nn_mle, nn_lem, nn_cl, nn_in, nn_ns, nn_ns2, nn_nb, nn_nb2, nn_s1, nn_s2, nn_b1, nn_b2]
  refine ⟨by omega, by omega, ?_⟩
  refine iX8_under_8 _ _ _ _ _ ?_
  rw [if_pos (by decide), e3]
  simp (disch := omega) only [nn_add, nn_addl, nn_ladd, nn_mul, nn_lmul, nn_mull, nn_sub, nn_subl, nn_lsub, nn_lt, nn_le, nn_eq, nn_ltl, nn_llt, nn_lel, nn_lle, nn_eql, nn_leq, nn_m1, nn_1m, nn_ltm, nn_mlt, nn_mle, nn_lem, nn_cl, nn_in, nn_ns, nn_ns2, nn_nb, nn_nb2, nn_s1, nn_s2, nn_b1, nn_b2]
  refine ⟨by omega, ?_⟩
  have x3 : tFs (si (si (si (si (si (si T 160 (m + 2) c2.1) 161 (m + 2) c2.2.1) 160 (m + 1) c3.1) 161 (m + 1) c3.2.1) 160 m c1.1) 161 m c1.2.1) (mFst r ((c2.1, c2.2.1, 0, 0) :: (c3.1, c3.2.1, 0, 0) :: (c1.1, c1.2.1, 0, 0) :: st) :: F) := by
    have xs := h.2.1.2.1.2.2.2.2
    rw [hr] at xs
    refine tFs_top h.2.1 (mFok_tl ok) (fun a k z => ?_) ?_ (tf1_st h.2.1.2.1 (fun a k z => ?_) ?_ ⟨⟨?_, ?_, fun z => absurd z (mval_8 v2.1)⟩, ⟨?_, ?_, fun z => absurd z (mval_8 v3.1)⟩, ⟨?_, ?_, fun z => absurd z (mval_8 v1.1)⟩, stk_cg (fun j c hj z => ?_) xs.2.2.2⟩)
    · unfold loT at z
      simp only [gi_si]
      grind
    · rw [gi_oth (by decide), gi_oth (by decide), gi_oth (by decide), gi_oth (by decide), gi_oth (by decide), gi_oth (by decide)]
    · rw [gi_oth (by omega), gi_oth (by omega), gi_oth (by omega), gi_oth (by omega), gi_oth (by omega), gi_oth (by omega)]
    · rw [gi_oth (by decide), gi_oth (by decide), gi_oth (by decide), gi_oth (by decide), gi_oth (by decide), gi_oth (by decide)]; exact n3
    · show gi _ 160 (400 * F.length + (st.length + 1 + 1)) = c2.1
      rw [show 400 * F.length + (st.length + 1 + 1) = m + 2 by omega, gi_oth (by decide), gi_idx (by omega), gi_oth (by decide), gi_idx (by omega), gi_oth (by decide)]; exact gi_self ..
    · show gi _ 161 (400 * F.length + (st.length + 1 + 1)) = c2.2.1
      rw [show 400 * F.length + (st.length + 1 + 1) = m + 2 by omega, gi_idx (by omega), gi_oth (by decide), gi_idx (by omega), gi_oth (by decide)]; exact gi_self ..
    · show gi _ 160 (400 * F.length + (st.length + 1)) = c3.1
      rw [show 400 * F.length + (st.length + 1) = m + 1 by omega, gi_oth (by decide), gi_idx (by omega), gi_oth (by decide)]; exact gi_self ..
    · show gi _ 161 (400 * F.length + (st.length + 1)) = c3.2.1
      rw [show 400 * F.length + (st.length + 1) = m + 1 by omega, gi_idx (by omega), gi_oth (by decide)]; exact gi_self ..
    · show gi _ 160 (400 * F.length + st.length) = c1.1
      rw [← em, gi_oth (by decide)]; exact gi_self ..
    · show gi _ 161 (400 * F.length + st.length) = c1.2.1
      rw [← em]; exact gi_self ..
    · unfold cellT at z ⊢
      have hj' : j < st.length := hj
      rw [gi_oth (b := 162) (by decide), gi_oth (b := 162) (by decide), gi_oth (b := 162) (by decide), gi_oth (b := 162) (by decide), gi_oth (b := 162) (by decide), gi_oth (b := 162) (by decide), gi_oth (b := 163) (by decide), gi_oth (b := 163) (by decide), gi_oth (b := 163) (by decide), gi_oth (b := 163) (by decide), gi_oth (b := 163) (by decide), gi_oth (b := 163) (by decide), gi_oth (b := 160) (by decide), gi_idx (by omega), gi_oth (b := 160) (by decide), gi_idx (by omega), gi_oth (b := 160) (by decide), gi_idx (by omega), gi_idx (by omega), gi_oth (b := 161) (by decide), gi_idx (by omega), gi_oth (b := 161) (by decide), gi_idx (by omega), gi_oth (b := 161) (by decide)]
      exact z
  have f3 : fr fFT T (si (si (si (si (si (si T 160 (m + 2) c2.1) 161 (m + 2) c2.2.1) 160 (m + 1) c3.1) 161 (m + 1) c3.2.1) 160 m c1.1) 161 m c1.2.1) :=
    (((((fr.si (fFT_i (by omega))).tr (fr.si (fFT_i (by omega)))).tr (fr.si (fFT_i (by omega)))).tr (fr.si (fFT_i (by omega)))).tr (fr.si (fFT_i (by omega)))).tr (fr.si (fFT_i (by omega)))
  refine tm_push x3 (mFok_tl ok) g0 (by show st.length + 1 + 1 + 1 < 400; omega) 0 0 (fun z => absurd z (mval_8 v1.1)) (fun T4 x4 f4 => ?_)
  show Zm E YX8_under (d + 2) T4 [] 88 [] _
  refine sX8_under_88 T4 ?_
  show Zm E YX8_stepOther (d + 3) T4 [(0, T97)] 201 [] Q'
  refine iX8_stepOther_201 _ ?_
  obtain ⟨t1, t2, t3, t4⟩ := tFs_nums x4
  have t2 : gi T4 154 F.length = nI r.pl := t2
  rw [t1]
  simp (disch := omega) only [t2, nn_add, nn_addl, nn_ladd, nn_mul, nn_lmul, nn_mull, nn_sub, nn_subl, nn_lsub, nn_lt, nn_le, nn_eq, nn_ltl, nn_llt, nn_lel, nn_lle, nn_eql, nn_leq, nn_m1, nn_1m, nn_ltm, nn_mlt, nn_mle, nn_lem, nn_cl, nn_in, nn_ns, nn_ns2, nn_nb, nn_nb2, nn_s1, nn_s2, nn_b1, nn_b2]
  exact ⟨by omega, k1 _ (wT_fr hQ h (tFs_pl x4 (mFok_tl ok) (r.pl + 1)) ((f3.tr f4).tr (fr.si (fFT_i (by omega)))))⟩
end
