/-! THE MACHINE's STEP: LOAD, STORE -/
/-- the scope so many links away -/
def scA (A : mA) (s : Int32) : Nat → Int32
  | 0 => s
  | h + 1 => gi (aT A) 140 (scA A s h).toNatClampNeg
section
variable {E : zE} {d : Nat} {T M : zM} {Q : zO → zM → Prop} {A : mA} {r : mF} {F : List mF}
theorem xm_scopeAt {s : Int32} {f h : Nat} (sx : sX M A) (i : iA A) (hf : f < 24) (h58 : gi M 58 f = s) (hh : h < 600) (hs : ∀ j, j < h → ∃ o, scA A s j = nI o ∧ o < aO A) (hQ : Q (.inl (some (vi (scA A s h)))) M) : Z E YX1_scopeAt d M [(0, zX16), (1, vi (nI f)), (2, vi (nI h))] 0 [] Q := by
  have hob := i.1.1.2
  refine sX1_scopeAt_0 M _ _ sx.1 ?_
  rw [nn_cl (by omega), h58]
  refine ⟨by rw [nn_in (by omega)]; omega, ?_⟩
  have loop : ∀ n k, h - k = n → k ≤ h → Z E YX1_scopeAt d M [(0, zX16), (2, vi (nI h)), (3, vi (scA A s k)), (4, vi (nI k))] 10 [] Q := by
    intro n
    induction n with
    | zero =>
      intro k hn hk
      have e : k = h := by omega
      subst e
      refine sX1_scopeAt_10 M _ _ _ sx.1 ?_
      rw [if_pos (by rw [nn_le (by omega) (by omega)]; omega)]
      exact hQ
    | succ n ih =>
      intro k hn hk
      obtain ⟨o, eo, ho⟩ := hs k (by omega)
      refine sX1_scopeAt_10 M _ _ _ sx.1 ?_
      rw [if_neg (by rw [nn_le (by omega) (by omega)]; omega)]
      have e1 : scA A s (k + 1) = gi (aT A) 140 o := by
        show gi (aT A) 140 (scA A s k).toNatClampNeg = _
        rw [eo, nn_cl (by omega)]
      have e2 := ih (k + 1) (by omega) (by omega)
      rw [e1] at e2
      rw [eo, nn_cl (by omega), (sx.2.1.2.2.1 o ho).2.2.1, show nI k + 1 = nI (k + 1) from nn_add k 1]
      exact ⟨by rw [nn_in (by omega)]; omega, e2⟩
  exact loop h 0 rfl (by omega)
theorem tm_scopeAt {s : Int32} {h : Nat} (g : gT T A (r :: F)) (i : iA A) (ok : mFok (r :: F)) (h58 : r.1.2.1 = s) (hh : h < 600) (hs : ∀ j, j < h → ∃ o, scA A s j = nI o ∧ o < aO A) (hQ : Q (.inl (some (vi (scA A s h)))) T) : Zm E YX8_scopeAt d T [(0, T97), (1, vi (nI h))] 0 [] Q := by
  have hob := i.1.1.2
  obtain ⟨n1, n2, n3, n4⟩ := tFs_nums g.2.1
  obtain ⟨g0, g1, -⟩ := mFok_hd ok
  have h51 : gi T 151 F.length = s := g.2.1.2.1.1.2.1.trans h58
  refine sX8_scopeAt_0 T _ ?_
  rw [n1, nn_cl (n := F.length) (by omega), h51]
  refine ⟨by rw [nn_in (by omega)]; omega, ?_⟩
  have loop : ∀ n k, h - k = n → k ≤ h → Zm E YX8_scopeAt d T [(0, T97), (1, vi (nI h)), (2, vi (scA A s k)), (3, vi (nI k))] 14 [] Q := by
    intro n
    induction n with
    | zero =>
      intro k hn hk
      have e : k = h := by omega
      subst e
      refine sX8_scopeAt_14 T _ _ _ ?_
      rw [if_pos (by rw [nn_le (by omega) (by omega)]; omega)]
      exact hQ
    | succ n ih =>
      intro k hn hk
      obtain ⟨o, eo, ho⟩ := hs k (by omega)
      refine sX8_scopeAt_14 T _ _ _ ?_
      rw [if_neg (by rw [nn_le (by omega) (by omega)]; omega)]
      have e1 : scA A s (k + 1) = gi (aT A) 140 o := by
        show gi (aT A) 140 (scA A s k).toNatClampNeg = _
        rw [eo, nn_cl (by omega)]
      have e2 := ih (k + 1) (by omega) (by omega)
      rw [e1] at e2
      rw [eo, nn_cl (by omega), g.1.1 140 o (by unfold hpT; omega), show nI k + 1 = nI (k + 1) from nn_add k 1]
      exact ⟨by rw [nn_in (by omega)]; omega, e2⟩
  exact loop h 0 rfl (by omega)
theorem xs_load {x : Int32} {hops o q : Nat} (h : gX M A (r :: F)) (i : iA A) (ok : mFok (r :: F)) (hpl : r.pl + 1 < 600) (hc : gi M 30 r.pl = 1) (ha : gi M 31 r.pl = nI hops) (hb : gi M 34 r.pl = x) (hh : hops < 600) (hs : ∀ j, j < hops → ∃ o, scA A r.1.2.1 j = nI o ∧ o < aO A) (ho : scA A r.1.2.1 hops = nI o) (ho' : o < aO A) (hq : m_own A o x = nI q) (hqm : q ∈ aP A o)
    (hQ : vX Q M (m_val A (nI q)) 0 (mFpl r (r.pl + 1)) F) : Z E YX1_step (d + 2) M [(0, zX16), (1, vi (nI r.pl))] 0 [] Q := by
  obtain ⟨n1, n2, n3, n4⟩ := xFs_nums h.2
  obtain ⟨g0, -⟩ := mFok_hd ok
  obtain ⟨g, f⟩ := gX_pl h ok (r.pl + 1)
  have ok' : mFok (mFpl r (r.pl + 1) :: F) := mFok_pl ok hpl
  have hob := i.1.1.2
  have hQ1 := vX_mono hQ f.cX3
  refine sX1_step_0 M _ h.1.1 ?_
  rw [n1, nn_cl (n := r.pl) (by omega), hc, ha, hb]
  refine ⟨by rw [nn_in (by omega)]; omega, by rw [nn_in (by omega)]; omega, by rw [nn_in (by omega)]; omega, by rw [nn_in (by omega)]; omega, ?_⟩
  rw [if_neg (by decide), if_pos rfl]
  simp (disch := omega) only [nn_add, nn_addl, nn_ladd, nn_mul, nn_lmul, nn_mull, nn_sub, nn_subl, nn_lsub, nn_lt, nn_le, nn_eq, nn_ltl, nn_llt, nn_lel, nn_lle, nn_eql, nn_leq, nn_m1, nn_1m, nn_ltm, nn_mlt, nn_mle, nn_lem, nn_cl, nn_in, nn_ns, nn_ns2, nn_nb, nn_nb2, nn_s1, nn_s2, nn_b1, nn_b2]
  generalize si M 59 F.length (nI (r.pl + 1)) = M1 at *
  refine xm_scopeAt g.1 i (by omega) g.2.2.1.1.2.1 hh hs ?_
  show Z E YX1_step (d + 2) M1 [(0, zX16), (3, vi x)] 177 [vi (scA A r.1.2.1 hops), zX16] Q
  rw [ho]
  refine sX1_step_177 M1 _ _ g.1.1 ?_
  refine xA_own g.1 i ho' ?_
  show Z E YX1_step (d + 2) M1 [(0, zX16)] 181 [vi (m_own A o x)] Q
  rw [hq]
  refine iX1_step_181 M1 _ g.1.1 ?_
  obtain ⟨q3, e48, e49, ks, eks, hks, ev⟩ := x_prop (n := 0) hQ1 rfl g i ok' (Nat.zero_le _) ho' hqm
  rw [nn_cl (by omega), e48, e49, eks]
  exact ⟨by rw [nn_in (by omega)]; omega, vX_pm hQ1 ev g ok' hks⟩
theorem ts_load {x : Int32} {hops o q : Nat} (g : gT T A (r :: F)) (i : iA A) (ok : mFok (r :: F)) (hc : gi T 123 r.pl = 1) (ha : gi T 124 r.pl = nI hops) (hb : gi T 125 r.pl = x) (hh : hops < 600) (hs : ∀ j, j < hops → ∃ o, scA A r.1.2.1 j = nI o ∧ o < aO A) (ho : scA A r.1.2.1 hops = nI o) (ho' : o < aO A) (hq : m_own A o x = nI q) (hqm : q ∈ aP A o)
    (hQ : vT Q T (m_val A (nI q)) 0 r F) : Zm E YX8_step_2 (d + 3) T [(0, T97)] 0 [] Q := by
  obtain ⟨n1, n2, n3, n4⟩ := tFs_nums g.2.1
  obtain ⟨g0, g1, -⟩ := mFok_hd ok
  have hob := i.1.1.2
  refine sX8_step_2_0 T ?_
  rw [n1, nn_cl (n := F.length) (by omega), n2, nn_cl (n := r.pl) (by omega), hc, ha, hb]
  refine ⟨by rw [nn_in (by omega)]; omega, by rw [nn_in (by omega)]; omega, by rw [nn_in (by omega)]; omega, by rw [nn_in (by omega)]; omega, ?_⟩
  rw [if_neg (by decide), if_pos rfl]
  refine tm_scopeAt g i ok rfl hh hs ?_
  show Zm E YX8_step_2 (d + 3) T [(0, T97), (3, vi x)] 136 [vi (scA A r.1.2.1 hops), T97] Q
  rw [ho]
  refine sX8_step_2_136 T _ _ ?_
  refine tA_own g.1 i ho' ?_
  show Zm E YX8_step_2 (d + 3) T [(0, T97)] 140 [vi (m_own A o x)] Q
  rw [hq]
  refine iX8_step_2_140 T _ ?_
  have q3 := ((i.1.2.2 o ho').2.2.2.1 q hqm).1
  have hv := (i.2.2.1 o ho' q hqm).1
  rw [nn_cl (by omega), g.1.1 146 q (by unfold hpT; omega), g.1.1 147 q (by unfold hpT; omega)]
  refine ⟨by rw [nn_in (by omega)]; omega, ?_⟩
  exact vT_0 (n := 0) (vT_out hQ (fun T' q => iX8_step_2_165 T' q)) (by unfold m_val; rw [if_neg (by rw [nn_m1 (by omega)]; exact fun z => z), nn_cl (by omega)]) g ok (Nat.zero_le _) (mval_8 hv)
theorem xs_store {jx : Nat} {hops o : Nat} {c1 : mC} {st : List mC} {A' : mA} (h : gX M A (r :: F)) (i : iA A) (ok : mFok (r :: F)) (hpl : r.pl + 1 < 600) (hc : gi M 30 r.pl = 2) (ha : gi M 31 r.pl = nI hops) (hb : gi M 34 r.pl = nI jx) (hx : jx < 32768) (hh : hops < 600) (hs : ∀ j, j < hops → ∃ o, scA A r.1.2.1 j = nI o ∧ o < aO A) (ho : scA A r.1.2.1 hops = nI o) (ho' : o < aO A) (hr : r.st = c1 :: st) (v1 : mval A c1.1 c1.2.1) (ea : a_set A o (nI jx) c1.1 c1.2.1 = (true, A'))
    (hQ : vX Q M (0, A', c1.1, c1.2.1) 1 (mFpl r (r.pl + 1)) F) : Z E YX1_step (d + 2) M [(0, zX16), (1, vi (nI r.pl))] 0 [] Q := by
  obtain ⟨n1, n2, n3, n4⟩ := xFs_nums h.2
  obtain ⟨g0, -, -, g3, -⟩ := mFok_hd ok
  have ht := (mtot_le (mFok_tl ok)).1
  have hl : 1 ≤ r.st.length := by rw [hr]; simp
  obtain ⟨g, f⟩ := gX_pl h ok (r.pl + 1)
  have ok' : mFok (mFpl r (r.pl + 1) :: F) := mFok_pl ok hpl
  have hob := i.1.1.2
  obtain ⟨a1, a2⟩ := x_cell g.2 (i := 0) (m := 1) (c := c1) (by show r.st[0]? = _; rw [hr]; rfl) rfl
  have a1 : gi (si M 59 F.length (nI (r.pl + 1))) 53 (mtot F + r.st.length - 1) = c1.1 := a1
  have a2 : gi (si M 59 F.length (nI (r.pl + 1))) 54 (mtot F + r.st.length - 1) = c1.2.1 := a2
  obtain ⟨ks, ek, hks, -, -⟩ := id v1.1
  rw [ek] at a1
  have hQ1 := vX_mono hQ f.cX3
  refine sX1_step_0 M _ h.1.1 ?_
  rw [n1, nn_cl (n := r.pl) (by omega), hc, ha, hb, n3]
  refine ⟨by rw [nn_in (by omega)]; omega, by rw [nn_in (by omega)]; omega, by rw [nn_in (by omega)]; omega, by rw [nn_in (by omega)]; omega, ?_⟩
  repeat rw [if_neg (by decide)]
  rw [if_pos rfl]
  simp (disch := omega) only [nn_add, nn_addl, nn_ladd, nn_mul, nn_lmul, nn_mull, nn_sub, nn_subl, nn_lsub, nn_lt, nn_le, nn_eq, nn_ltl, nn_llt, nn_lel, nn_lle, nn_eql, nn_leq, nn_m1, nn_1m, nn_ltm, nn_mlt, nn_mle, nn_lem, nn_cl, nn_in, nn_ns, nn_ns2, nn_nb, nn_nb2, nn_s1, nn_s2, nn_b1, nn_b2]
  generalize si M 59 F.length (nI (r.pl + 1)) = M1 at *
  refine xm_scopeAt g.1 i (by omega) g.2.2.1.1.2.1 hh hs ?_
  show Z E YX1_step (d + 2) M1 [(0, zX16), (3, vi (nI jx)), (5, vi (nI (mtot F + r.st.length - 1)))] 212 [vi (scA A r.1.2.1 hops), zX16] Q
  rw [ho]
  refine iX1_step_212 M1 _ _ _ g.1.1 ?_
  simp (disch := omega) only [a1, a2, nn_add, nn_addl, nn_ladd, nn_mul, nn_lmul, nn_mull, nn_sub, nn_subl, nn_lsub, nn_lt, nn_le, nn_eq, nn_ltl, nn_llt, nn_lel, nn_lle, nn_eql, nn_leq, nn_m1, nn_1m, nn_ltm, nn_mlt, nn_mle, nn_lem, nn_cl, nn_in, nn_ns, nn_ns2, nn_nb, nn_nb2, nn_s1, nn_s2, nn_b1, nn_b2]
  refine ⟨by omega, ?_⟩
  rw [ek] at ea hQ1
  refine xA_set g.1 i ho' hx hks (fun M' A2 eb s' f' => ?_) (fun A2 eb eA => ?_)
  · rw [ea] at eb
    cases eb
    show Z E YX1_step (d + 2) M' [] 230 [] Q
    refine iX1_step_230 M' s'.1 ?_
    have g2 := gX_fX g ok' s' f'
    have x2 := xFs_norm (r := mFpl r (r.pl + 1)) g2.2 hr (by rw [ek, nn_eql (by omega) (by omega)]; omega)
    refine hQ1.1 rfl M' ⟨s', ?_⟩ f'.cX5
    rw [ek] at x2
    rw [show (mFpl r (r.pl + 1)).st = r.st from rfl, hr]
    exact x2
  · rw [ea] at eb; cases eb
theorem ts_store {x : Int32} {hops o : Nat} {c1 : mC} {st : List mC} {A' : mA} (g : gT T A (r :: F)) (i : iA A) (ok : mFok (r :: F)) (hc : gi T 123 r.pl = 2) (ha : gi T 124 r.pl = nI hops) (hb : gi T 125 r.pl = x) (hh : hops < 600) (hs : ∀ j, j < hops → ∃ o, scA A r.1.2.1 j = nI o ∧ o < aO A) (ho : scA A r.1.2.1 hops = nI o) (ho' : o < aO A) (hr : r.st = c1 :: st) (v1 : mval A c1.1 c1.2.1) (ea : a_set A o x c1.1 c1.2.1 = (true, A'))
    (hQ : vT Q T (0, A', c1.1, c1.2.1) 1 r F) : Zm E YX8_step_2 (d + 3) T [(0, T97)] 0 [] Q := by
  obtain ⟨n1, n2, n3, n4⟩ := tFs_nums g.2.1
  obtain ⟨g0, g1, -, g3, -⟩ := mFok_hd ok
  have hl : 1 ≤ r.st.length := by rw [hr]; simp
  obtain ⟨a1, a2⟩ := t_cell g.2.1 (i := 0) (c := c1) (by rw [hr]; rfl)
  refine sX8_step_2_0 T ?_
  rw [n1, nn_cl (n := F.length) (by omega), n2, nn_cl (n := r.pl) (by omega), hc, ha, hb]
  refine ⟨by rw [nn_in (by omega)]; omega, by rw [nn_in (by omega)]; omega, by rw [nn_in (by omega)]; omega, by rw [nn_in (by omega)]; omega, ?_⟩
  rw [if_neg (by decide), if_neg (by decide), if_pos rfl]
  refine tm_scopeAt g i ok rfl hh hs ?_
  show Zm E YX8_step_2 (d + 3) T [(0, T97), (3, vi x)] 174 [vi (scA A r.1.2.1 hops), T97] Q
  rw [ho]
  refine iX8_step_2_174 T _ _ ?_
  rw [n1]
  simp (disch := omega) only [n3, a1, a2, nn_add, nn_addl, nn_ladd, nn_mul, nn_lmul, nn_mull, nn_sub, nn_subl, nn_lsub, nn_lt, nn_le, nn_eq, nn_ltl, nn_llt, nn_lel, nn_lle, nn_eql, nn_leq, nn_m1, nn_1m, nn_ltm, nn_mlt, nn_mle, nn_lem, nn_cl, nn_in, nn_ns, nn_ns2, nn_nb, nn_nb2, nn_s1, nn_s2, nn_b1, nn_b2]
  refine ⟨by omega, by omega, ?_⟩
  refine tA_set g.1 i ho' (fun T' A2 eb s' f' => ?_) (fun A2 eb eA => ?_)
  · rw [ea] at eb
    cases eb
    show Zm E YX8_step_2 (d + 3) T' [(0, T97)] 188 [] Q
    refine iX8_step_2_188 T' ?_
    have g2 := gT_fT g ok s' f'
    obtain ⟨p1, p2, p3, p4⟩ := tFs_nums g2.2.1
    rw [p1]
    simp (disch := omega) only [p2, nn_add, nn_addl, nn_ladd, nn_mul, nn_lmul, nn_mull, nn_sub, nn_subl, nn_lsub, nn_lt, nn_le, nn_eq, nn_ltl, nn_llt, nn_lel, nn_lle, nn_eql, nn_leq, nn_m1, nn_1m, nn_ltm, nn_mlt, nn_mle, nn_lem, nn_cl, nn_in, nn_ns, nn_ns2, nn_nb, nn_nb2, nn_s1, nn_s2, nn_b1, nn_b2]
    refine ⟨by omega, ?_⟩
    have x2 := tFs_norm g2.2.1 hr (mval_8 v1.1)
    have x3 := tFs_pl x2 (mFok_tl ok) (r.pl + 1)
    have f3 : fr fFT T' (si T' 154 F.length (nI (r.pl + 1))) := fr.si (fFT_i (by omega))
    refine hQ.1 rfl _ ⟨sT_cg s' f3 (fun a k q => .inr (.inl (.inl q))), ?_, (f3.2 97 75 (by unfold fFT; omega)).1.trans g2.2.2.1, (f3.2 97 73 (by unfold fFT; omega)).1.trans g2.2.2.2⟩ (f'.cT7.tr f3.cT3)
    rw [show r.st.drop 1 = st by rw [hr]; rfl]
    exact x3
  · rw [ea] at eb; cases eb
end
