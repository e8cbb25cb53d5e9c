/-! THE MACHINE: GET -/
section
variable {E : zE} {d : Nat} {T M : zM} {Q : zO → zM → Prop} {A : mA} {r : mF} {F : List mF}
theorem mval_8 {L : List (List Int32)} {ob : Nat} {s v : Int32} (h : mok L ob s v) : ¬ s = 8 := by
  obtain ⟨k, rfl, hk, -⟩ := h
  rw [nn_eql (by omega) (by omega)]; omega
/-- a property's value, as the component has it -/
theorem x_prop {p : mE} {n : Nat} {q z : Nat} (hQ : vX Q M p n r F) (e : p = m_val A (nI q)) (h : gX M A (r :: F)) (i : iA A) (ok : mFok (r :: F)) (hn : n ≤ r.st.length) (hz : z < aO A) (hq : q ∈ aP A z) :
    q < 3000 ∧ gi M 48 q = gi (aT A) 146 q ∧ gi M 49 q = gi (aT A) 147 q ∧ ∃ ks : Nat, gi (aT A) 146 q = nI ks ∧ ks < 8 ∧ p = (0, A, nI ks, gi (aT A) 147 q) := by
  have q3 := ((i.1.2.2 z hz).2.2.2.1 q hq).1
  obtain ⟨a1, a2, a3, a4, a5⟩ := h.1.2.1.2.2.2 z hz q hq
  obtain ⟨⟨k, k1, k2, -⟩, -⟩ := i.2.2.1 z hz q hq
  refine ⟨q3, a3, a4, k, k1, k2, ?_⟩
  rw [e]
  unfold m_val
  rw [if_neg (by rw [nn_m1 (by omega)]; exact fun z => z), nn_cl (by omega), k1]
theorem vT_out {p : mE} {n : Nat} {Q' : zO → zM → Prop} (h : vT Q T p n r F) (k : ∀ T', Q (.inl none) T' → Q' (.inl none) T') : vT Q' T p n r F :=
  ⟨fun e T' g f' => k _ (h.1 e T' g f'), fun e => ⟨fun T' m a b c d' e1 e2 f' => k _ ((h.2.1 e).1 T' m a b c d' e1 e2 f'), fun T' r' F' m g f' => k _ ((h.2.1 e).2 T' r' F' m g f')⟩, fun e T' a b c d' f' => k _ (h.2.2 e T' a b c d' f')⟩
theorem xm_getOf {c1 c2 : mC} {st : List mC} (h : gX M A (r :: F)) (i : iA A) (ok : mFok (r :: F)) (h9 : 9 ≤ aO A) (hr : r.st = c1 :: c2 :: st) (v1 : mval A c1.1 c1.2.1) (v2 : mval A c2.1 c2.2.1) (hQ : vX Q M (m_get A c2.1 c2.2.1 c1.1 c1.2.1) 2 r F) : Z E YX1_getOf (d + 4) M [(0, zX16)] 0 [] Q := by
  obtain ⟨n1, n2, n3, n4⟩ := xFs_nums h.2
  obtain ⟨g0, g1, g2, g3, g4⟩ := mFok_hd ok
  have ht := (mtot_le (mFok_tl ok)).1
  have hl : 2 ≤ r.st.length := by rw [hr]; simp
  obtain ⟨a1, a2⟩ := x_cell h.2 (i := 0) (m := 1) (c := c1) (by rw [hr]; rfl) rfl
  obtain ⟨b1, b2⟩ := x_cell h.2 (i := 1) (m := 2) (c := c2) (by rw [hr]; rfl) rfl
  refine iX1_getOf_0 M h.1.1 ?_
  simp (disch := omega) only [n3, a1, a2, b1, b2, nn_add, nn_addl, nn_ladd, nn_mul, nn_lmul, nn_mull, nn_sub, nn_subl, nn_lsub, nn_lt, nn_le, nn_eq, nn_ltl, nn_llt, nn_lel, nn_lle, nn_eql, nn_leq, nn_m1, nn_1m, nn_ltm, nn_mlt, nn_mle, nn_lem, nn_cl, nn_in, nn_ns, nn_ns2, nn_nb, nn_nb2, nn_s1, nn_s2, nn_b1, nn_b2]
  refine ⟨by omega, by omega, ?_⟩
  unfold m_get at hQ
  have hob := i.1.1.2
  refine xA_text h.1 i v1.1 (fun k A1 M1 e s1 f1 => ?_) (fun M1 e f1 => ?_)
  · rw [e] at hQ
    dsimp only at hQ
    obtain ⟨i1, hk, hL, -, eT, eO, eP, eF⟩ := iA_text i v1.1 e
    have hk4 := i1.2.1.2.1
    have g1 : gX M1 A1 (r :: F) := ⟨s1, xFs_cg h.2 ok f1 (fun a k q => q.elim .inl (fun q => .inr (.inl q)))⟩
    have hQ1 := vX_mono hQ f1.cX2
    obtain ⟨m1, m2, m3, m4⟩ := xFs_nums g1.2
    show Z E YX1_getOf (d + 4) M1 [(0, zX16), (1, vi c2.1), (2, vi c2.2.1)] 50 [vi (nI k)] Q
    refine iX1_getOf_50 M1 _ _ _ s1.1 ?_
    have fin : ∀ x : Int32, (x = -1 ∨ ∃ q z, z < aO A1 ∧ q ∈ aP A1 z ∧ x = nI q) → vX Q M1 (m_val A1 x) 2 r F → (if x = -1 then (vp_in (gi M1 16 38 - 2) 14500 ∧ (Q (.inl none) (si (si (si (si (si (si M1 16 33 0) 16 32 0) 16 38 (gi M1 16 38 - 2)) 53 (gi M1 16 38 - 2).toNatClampNeg (vp_nar .byte ((0 : Int32)).toInt8.toInt32)) 16 38 ((gi M1 16 38 - 2) + 1)) 54 (gi M1 16 38 - 2).toNatClampNeg 0))) else (vp_in x 3000 ∧ (vp_in (gi M1 16 38 - 2) 14500 ∧ (Q (.inl none) (si (si (si (si (si (si M1 16 33 (gi M1 48 x.toNatClampNeg)) 16 32 (gi M1 49 x.toNatClampNeg)) 16 38 (gi M1 16 38 - 2)) 53 (gi M1 16 38 - 2).toNatClampNeg (vp_nar .byte (gi M1 48 x.toNatClampNeg).toInt8.toInt32)) 16 38 ((gi M1 16 38 - 2) + 1)) 54 (gi M1 16 38 - 2).toNatClampNeg (gi M1 49 x.toNatClampNeg)))))) := fun x hx hq => by
      rcases hx with rfl | ⟨q, z, hz, hqz, rfl⟩
      · rw [if_pos rfl, m3]
        simp (disch := omega) only [nn_add, nn_addl, nn_ladd, nn_mul, nn_lmul, nn_mull, nn_sub, nn_subl, nn_lsub, nn_lt, nn_le, nn_eq, nn_ltl, nn_llt, nn_lel, nn_lle, nn_eql, nn_leq, nn_m1, nn_1m, nn_ltm, nn_mlt, nn_mle, nn_lem, nn_cl, nn_in, nn_ns, nn_ns2, nn_nb, nn_nb2, nn_s1, nn_s2, nn_b1, nn_b2]
        exact ⟨by omega, vX_0 (ks := 0) hq rfl g1 ok hl (by omega) _ _⟩
      · obtain ⟨q3, e48, e49, ks, eks, hks, ev⟩ := x_prop hq rfl g1 i1 ok hl hz hqz
        rw [if_neg (by rw [nn_m1 (by omega)]; exact fun z => z), m3]
        simp (disch := omega) only [e48, e49, eks, nn_add, nn_addl, nn_ladd, nn_mul, nn_lmul, nn_mull, nn_sub, nn_subl, nn_lsub, nn_lt, nn_le, nn_eq, nn_ltl, nn_llt, nn_lel, nn_lle, nn_eql, nn_leq, nn_m1, nn_1m, nn_ltm, nn_mlt, nn_mle, nn_lem, nn_cl, nn_in, nn_ns, nn_ns2, nn_nb, nn_nb2, nn_s1, nn_s2, nn_b1, nn_b2]
        exact ⟨by omega, by omega, vX_0 (ks := ks) hq ev g1 ok hl hks _ _⟩
    have orr : ∀ o, o < aO A1 → ∀ x : Int32, a_get A1 o x = -1 ∨ ∃ q z, z < aO A1 ∧ q ∈ aP A1 z ∧ a_get A1 o x = nI q := fun o ho x => by
      rcases a_get_or i1 ho x with q | ⟨q, z, q1, q2, q3, q4, q5⟩
      · exact .inl q
      · exact .inr ⟨q, z, q1, q2, q5⟩
    obtain ⟨⟨kk, ek, hkk, k6, k7⟩, -⟩ := v2
    by_cases c2' : 2 ≤ c2.1
    · rw [if_pos c2']
      have n1' : ¬ c2.1 ≤ 1 := by
        rw [ek] at c2' ⊢
        simp (disch := omega) only [nn_add, nn_addl, nn_ladd, nn_mul, nn_lmul, nn_mull, nn_sub, nn_subl, nn_lsub, nn_lt, nn_le, nn_eq, nn_ltl, nn_llt, nn_lel, nn_lle, nn_eql, nn_leq, nn_m1, nn_1m, nn_ltm, nn_mlt, nn_mle, nn_lem, nn_cl, nn_in, nn_ns, nn_ns2, nn_nb, nn_nb2, nn_s1, nn_s2, nn_b1, nn_b2] at c2' ⊢
        omega
      rw [if_neg n1'] at hQ1
      by_cases c7 : c2.1 = 7
      · rw [if_pos c7] at hQ1 ⊢
        obtain ⟨j, ej, hj⟩ := k7 (by rw [ek] at c7; simp (disch := omega) only [nn_add, nn_addl, nn_ladd, nn_mul, nn_lmul, nn_mull, nn_sub, nn_subl, nn_lsub, nn_lt, nn_le, nn_eq, nn_ltl, nn_llt, nn_lel, nn_lle, nn_eql, nn_leq, nn_m1, nn_1m, nn_ltm, nn_mlt, nn_mle, nn_lem, nn_cl, nn_in, nn_ns, nn_ns2, nn_nb, nn_nb2, nn_s1, nn_s2, nn_b1, nn_b2] at c7; exact c7)
        rw [ej, nn_cl (by omega)] at hQ1
        rw [ej]
        refine xA_find s1 i1 (by omega) ?_
        show Z E YX1_getOf (d + 4) M1 [(0, zX16)] 75 [vi (a_get A1 j (nI k)), zX16] Q
        exact iX1_getOf_75 M1 _ s1.1 (fin _ (orr j (by omega) _) hQ1)
      rw [if_neg c7] at hQ1 ⊢
      by_cases c6 : c2.1 = 6
      · rw [if_pos c6] at hQ1 ⊢
        obtain ⟨j, ej, hj⟩ := k6 (by rw [ek] at c6; simp (disch := omega) only [nn_add, nn_addl, nn_ladd, nn_mul, nn_lmul, nn_mull, nn_sub, nn_subl, nn_lsub, nn_lt, nn_le, nn_eq, nn_ltl, nn_llt, nn_lel, nn_lle, nn_eql, nn_leq, nn_m1, nn_1m, nn_ltm, nn_mlt, nn_mle, nn_lem, nn_cl, nn_in, nn_ns, nn_ns2, nn_nb, nn_nb2, nn_s1, nn_s2, nn_b1, nn_b2] at c6; exact c6)
        have hj4 := i.2.1.2.1
        by_cases ck : k = 0
        · rw [if_pos (by rw [ck]; rfl)]
          rw [if_pos ck] at hQ1
          obtain ⟨t1, t2, -, t4, -⟩ := id s1.2.2.2
          obtain ⟨off, o1, o2, o3, o4, o5⟩ := xtx_at s1.2.2.2 (s := j) (by omega)
          rw [ej, mtx_at t4 (by omega)] at hQ1
          refine ⟨18, 2201, t1, ?_⟩
          rw [ej, m3]
          simp (disch := omega) only [o1, o2, nn_add, nn_addl, nn_ladd, nn_mul, nn_lmul, nn_mull, nn_sub, nn_subl, nn_lsub, nn_lt, nn_le, nn_eq, nn_ltl, nn_llt, nn_lel, nn_lle, nn_eql, nn_leq, nn_m1, nn_1m, nn_ltm, nn_mlt, nn_mle, nn_lem, nn_cl, nn_in, nn_ns, nn_ns2, nn_nb, nn_nb2, nn_s1, nn_s2, nn_b1, nn_b2]
          rw [show off + (aL A1)[j].length - off = (aL A1)[j].length by omega]
          exact ⟨by omega, by omega, by omega, vX_0 (ks := 5) hQ1 rfl g1 ok hl (by omega) _ _⟩
        · rw [if_neg (by simp (disch := omega) only [nn_add, nn_addl, nn_ladd, nn_mul, nn_lmul, nn_mull, nn_sub, nn_subl, nn_lsub, nn_lt, nn_le, nn_eq, nn_ltl, nn_llt, nn_lel, nn_lle, nn_eql, nn_leq, nn_m1, nn_1m, nn_ltm, nn_mlt, nn_mle, nn_lem, nn_cl, nn_in, nn_ns, nn_ns2, nn_nb, nn_nb2, nn_s1, nn_s2, nn_b1, nn_b2]; exact ck)]
          rw [if_neg ck] at hQ1
          refine xA_find (o := 4) s1 i1 (by omega) ?_
          show Z E YX1_getOf (d + 4) M1 [(0, zX16)] 120 [vi (a_get A1 4 (nI k)), zX16] Q
          exact iX1_getOf_120 M1 _ s1.1 (fin _ (orr 4 (by omega) _) hQ1)
      · rw [if_neg c6] at hQ1 ⊢
        rw [m3]
        simp (disch := omega) only [nn_add, nn_addl, nn_ladd, nn_mul, nn_lmul, nn_mull, nn_sub, nn_subl, nn_lsub, nn_lt, nn_le, nn_eq, nn_ltl, nn_llt, nn_lel, nn_lle, nn_eql, nn_leq, nn_m1, nn_1m, nn_ltm, nn_mlt, nn_mle, nn_lem, nn_cl, nn_in, nn_ns, nn_ns2, nn_nb, nn_nb2, nn_s1, nn_s2, nn_b1, nn_b2]
        exact ⟨by omega, vX_0 (ks := 0) hQ1 rfl g1 ok hl (by omega) _ _⟩
    · rw [if_neg c2']
      have n1' : c2.1 ≤ 1 := by
        rw [ek] at c2' ⊢
        simp (disch := omega) only [nn_add, nn_addl, nn_ladd, nn_mul, nn_lmul, nn_mull, nn_sub, nn_subl, nn_lsub, nn_lt, nn_le, nn_eq, nn_ltl, nn_llt, nn_lel, nn_lle, nn_eql, nn_leq, nn_m1, nn_1m, nn_ltm, nn_mlt, nn_mle, nn_lem, nn_cl, nn_in, nn_ns, nn_ns2, nn_nb, nn_nb2, nn_s1, nn_s2, nn_b1, nn_b2] at c2' ⊢
        omega
      rw [if_pos n1'] at hQ1
      refine vX_err (m := 0) hQ1 rfl g1 i1 ok (by omega) (fun M' q s' => ?_) (fun M' q => ?_)
      · show Z E YX1_getOf (d + 4) M' [] 61 [vr (some (52, 14, 0))] Q
        exact sX1_getOf_61 M' _ s'.1 ⟨52, rfl, q⟩
      · show ZT E YX1_getOf (d + 4) M' [] 58 (51, 13, 0) Q
        exact ZT.out (nohand rfl) q
  · rw [e] at hQ
    show ZT E YX1_getOf (d + 4) M1 [(0, zX16), (1, vi c2.1), (2, vi c2.2.1)] 47 (51, 13, 0) Q
    exact ZT.out (nohand rfl) (hQ.2.2 rfl M1 ⟨sX_cg h.1 f1 (fun a k q => .inl q), xFs_cg h.2 ok f1 (fun a k q => .inl q)⟩ f1.cX1)
theorem tm_get {c1 c2 : mC} {st : List mC} (h : gT T A (r :: F)) (i : iA A) (ok : mFok (r :: F)) (hh : mTh (r :: F)) (h9 : 9 ≤ aO A) (hr : r.st = c1 :: c2 :: st) (v1 : mval A c1.1 c1.2.1) (v2 : mval A c2.1 c2.2.1) (hQ : vT Q T (m_get A c2.1 c2.2.1 c1.1 c1.2.1) 2 r F) : Zm E YX8_get_2 (d + 5) T [(0, T97)] 0 [] Q := by
  obtain ⟨hs, hf, h75, h73⟩ := id h
  obtain ⟨n1, n2, n3, n4⟩ := tFs_nums hf
  obtain ⟨g0, g1, g2, g3, g4⟩ := mFok_hd ok
  have hl : 2 ≤ r.st.length := by rw [hr]; simp
  obtain ⟨a1, a2⟩ := t_cell hf (i := 0) (c := c1) (by rw [hr]; rfl)
  obtain ⟨b1, b2⟩ := t_cell hf (i := 1) (c := c2) (by rw [hr]; rfl)
  refine iX8_get_2_0 T ?_
  rw [n1]
  simp (disch := omega) only [n3, a1, a2, b1, b2, nn_add, nn_addl, nn_ladd, nn_mul, nn_lmul, nn_mull, nn_sub, nn_subl, nn_lsub, nn_lt, nn_le, nn_eq, nn_ltl, nn_llt, nn_lel, nn_lle, nn_eql, nn_leq, nn_m1, nn_1m, nn_ltm, nn_mlt, nn_mle, nn_lem, nn_cl, nn_in, nn_ns, nn_ns2, nn_nb, nn_nb2, nn_s1, nn_s2, nn_b1, nn_b2]
  refine ⟨by omega, by omega, by omega, ?_⟩
  unfold m_get at hQ
  have hob := i.1.1.2
  refine tA_text hs i v1.1 (fun k A1 T1 e s1 f1 => ?_) (fun T1 e f1 => ?_)
  · rw [e] at hQ
    dsimp only at hQ
    obtain ⟨i1, hk, hL, -, eT, eO, eP, eF⟩ := iA_text i v1.1 e
    have hk4 := i1.2.1.2.1
    have t75 : gi T1 97 75 = 0 := (f1.2 97 75 (by unfold orP scr stT; omega)).1.trans h75
    have g1 : gT T1 A1 (r :: F) := ⟨s1, tFs_cg hf ok f1 (fun a k q => q.elim .inl (fun q => .inr (.inl q))), t75, (f1.2 97 73 (by unfold orP scr stT; omega)).1.trans h73⟩
    have hQ1 := vT_mono hQ f1.cT2
    show Zm E YX8_get_2 (d + 5) T1 [(0, T97), (1, vi c2.1), (2, vi c2.2.1)] 26 [vi (nI k)] Q
    refine iX8_get_2_26 T1 _ _ _ ?_
    rw [t75, if_pos rfl]
    have go : ∀ p, vT Q T1 p 2 r F → vT (zma E YX8_get_2 (d + 5) [] 110 3 [] Q) T1 p 2 r F := fun p h => vT_out h (fun T' q => sX8_get_2_113 T' q)
    have rd : ∀ o, o < aO A1 → vT Q T1 (m_val A1 (a_get A1 o (nI k))) 2 r F → ∀ Q' : zO → zM → Prop, (∀ T' b, Zm E YX8_gives (d + 4) T' [(0, T97), (1, vi (nI 2))] 0 [] (zma E YX8_get_2 (d + 5) [] 110 3 [] Q) → Q' (.inl (some (vi b))) T') → Zm E YX8_read_2 (d + 4) T1 [(0, T97), (1, vi (nI o)), (2, vi (nI k))] 0 [] Q' := fun o ho hq Q' k' => by
      refine tA_read s1 i1 ho (fun e0 => ?_) (fun q z hz hqz e0 => ?_)
      · rw [e0] at hq
        exact k' _ _ (vT_0 (go _ hq) rfl g1 ok hl (by decide))
      · have q3 := ((i1.1.2.2 z hz).2.2.2.1 q hqz).1
        rw [e0] at hq
        have em : m_val A1 (nI q) = (0, A1, gi (aT A1) 146 q, gi (aT A1) 147 q) := by
          unfold m_val
          rw [if_neg (by rw [nn_m1 (by omega)]; exact fun z => z), nn_cl (by omega)]
        exact k' _ _ (vT_0 (go _ hq) em g1 ok hl (mval_8 (i1.2.2.1 z hz q hqz).1))
    obtain ⟨⟨kk, ek, hkk, k6, k7⟩, -⟩ := v2
    by_cases c2' : 1 < c2.1
    · rw [if_pos c2']
      have n1' : ¬ c2.1 ≤ 1 := by rw [i_le]; exact c2'
      rw [if_neg n1'] at hQ1
      by_cases c7 : c2.1 = 7
      · rw [if_pos c7] at hQ1 ⊢
        obtain ⟨j, ej, hj⟩ := k7 (by rw [ek] at c7; simp (disch := omega) only [nn_add, nn_addl, nn_ladd, nn_mul, nn_lmul, nn_mull, nn_sub, nn_subl, nn_lsub, nn_lt, nn_le, nn_eq, nn_ltl, nn_llt, nn_lel, nn_lle, nn_eql, nn_leq, nn_m1, nn_1m, nn_ltm, nn_mlt, nn_mle, nn_lem, nn_cl, nn_in, nn_ns, nn_ns2, nn_nb, nn_nb2, nn_s1, nn_s2, nn_b1, nn_b2] at c7; exact c7)
        rw [ej, nn_cl (by omega)] at hQ1
        rw [ej]
        refine rd j (by omega) hQ1 _ (fun T' b z => ?_)
        show Zm E YX8_get_2 (d + 5) T' [(0, T97)] 62 [vi b] Q
        exact sX8_get_2_62 T' _ z
      rw [if_neg c7] at hQ1 ⊢
      by_cases c6 : c2.1 = 6
      · rw [if_pos c6] at hQ1 ⊢
        obtain ⟨j, ej, hj⟩ := k6 (by rw [ek] at c6; simp (disch := omega) only [nn_add, nn_addl, nn_ladd, nn_mul, nn_lmul, nn_mull, nn_sub, nn_subl, nn_lsub, nn_lt, nn_le, nn_eq, nn_ltl, nn_llt, nn_lel, nn_lle, nn_eql, nn_leq, nn_m1, nn_1m, nn_ltm, nn_mlt, nn_mle, nn_lem, nn_cl, nn_in, nn_ns, nn_ns2, nn_nb, nn_nb2, nn_s1, nn_s2, nn_b1, nn_b2] at c6; exact c6)
        have hj4 := i.2.1.2.1
        by_cases ck : k = 0
        · rw [if_pos (by rw [ck]; rfl)]
          rw [if_pos ck, ej, mtx_at hk4 (by omega)] at hQ1
          have x1 := (s1.2.2.2 j (aL A1)[j] (List.getElem?_eq_getElem (by omega))).1
          rw [ej]
          simp (disch := omega) only [x1, nn_add, nn_addl, nn_ladd, nn_mul, nn_lmul, nn_mull, nn_sub, nn_subl, nn_lsub, nn_lt, nn_le, nn_eq, nn_ltl, nn_llt, nn_lel, nn_lle, nn_eql, nn_leq, nn_m1, nn_1m, nn_ltm, nn_mlt, nn_mle, nn_lem, nn_cl, nn_in, nn_ns, nn_ns2, nn_nb, nn_nb2, nn_s1, nn_s2, nn_b1, nn_b2]
          exact ⟨by omega, vT_0 (go _ hQ1) rfl g1 ok hl (by decide)⟩
        · rw [if_neg (by simp (disch := omega) only [nn_add, nn_addl, nn_ladd, nn_mul, nn_lmul, nn_mull, nn_sub, nn_subl, nn_lsub, nn_lt, nn_le, nn_eq, nn_ltl, nn_llt, nn_lel, nn_lle, nn_eql, nn_leq, nn_m1, nn_1m, nn_ltm, nn_mlt, nn_mle, nn_lem, nn_cl, nn_in, nn_ns, nn_ns2, nn_nb, nn_nb2, nn_s1, nn_s2, nn_b1, nn_b2]; exact ck)]
          rw [if_neg ck] at hQ1
          refine rd 4 (by omega) hQ1 _ (fun T' b z => ?_)
          show Zm E YX8_get_2 (d + 5) T' [(0, T97)] 106 [vi b] Q
          exact sX8_get_2_106 T' _ z
      · rw [if_neg c6] at hQ1 ⊢
        exact vT_0 (go _ hQ1) rfl g1 ok hl (by decide)
    · rw [if_neg c2']
      have n1' : c2.1 ≤ 1 := by rw [← i_lt]; exact c2'
      rw [if_pos n1'] at hQ1
      exact vT_err (m := 0) (vT_out hQ1 (fun T' q => sX8_get_2_46 T' q)) rfl g1 i1 ok hh (by omega)
  · rw [e] at hQ
    show Zm E YX8_get_2 (d + 5) (si T1 97 75 1) [(0, T97), (1, vi c2.1), (2, vi c2.2.1)] 26 [vi 0] Q
    refine iX8_get_2_26 _ _ _ _ ?_
    rw [gi_self, if_neg (by decide)]
    have f2 : fr (fun a k => scr a k ∨ a = 97 ∧ k = 75) T (si T1 97 75 1) := (f1.mono fun a k q => .inl q).tr (fr.si (.inr ⟨rfl, rfl⟩))
    refine hQ.2.2 rfl _ (sT_cg hs f2 (fun a k q => q.elim .inl (fun q => .inr (.inr q)))) (tFs_cg hf ok f2 (fun a k q => q.elim .inl (fun q => .inr (.inr (.inr q))))) (gi_self ..) ((f2.2 97 73 (by unfold scr; omega)).1.trans h73) (f1.cT1.tr cT_75)
end
