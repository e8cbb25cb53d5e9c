/-! EXCEPTIONS of the machine: unwind; toss, error -/
/-- a value is thrown: frames without tries go -/
def mts (c : mC) : List mF → List mF
  | [] => []
  | r :: F => match r.tr with
    | [] => mts c F
    | q :: tr => (r.1, q.1, tr, c :: r.st.drop (r.st.length - q.2)) :: F
/-- no try is higher than its stack -/
def mTh (F : List mF) : Prop := ∀ r ∈ F, ∀ q ∈ r.tr, q.2 ≤ r.st.length
theorem mts_nil {c : mC} {r : mF} {F : List mF} (h : r.tr = []) : mts c (r :: F) = mts c F := by
  show (match r.tr with | [] => mts c F | q :: tr => (r.1, q.1, tr, c :: r.st.drop (r.st.length - q.2)) :: F) = _
  rw [h]
theorem mts_cons {c : mC} {r : mF} {F : List mF} {q : Nat × Nat} {tr : List (Nat × Nat)} (h : r.tr = q :: tr) : mts c (r :: F) = (r.1, q.1, tr, c :: r.st.drop (r.st.length - q.2)) :: F := by
  show (match r.tr with | [] => mts c F | q :: tr => (r.1, q.1, tr, c :: r.st.drop (r.st.length - q.2)) :: F) = _
  rw [h]
theorem xf1_cut {M M0 : zM} {n b t : Nat} {r : mF} {q : Nat × Nat} {tr : List (Nat × Nat)} (hr : r.tr = q :: tr) (e : ∀ a k, a ≠ 16 → gi M0 a k = gi M a k) (h : xf1 M n b t r) (m : Nat) : xf1 M0 n b t (r.1, r.2.1, tr, r.st.drop m) := by
  obtain ⟨⟨a1, a2, a3, a4, a5⟩, p, ⟨c1, c2⟩, d1, d2⟩ := h
  rw [hr] at c2
  refine ⟨⟨(e _ _ (by decide)).trans a1, (e _ _ (by decide)).trans a2, (e _ _ (by decide)).trans a3, (e _ _ (by decide)).trans a4, (e _ _ (by decide)).trans a5⟩, (e _ _ (by decide)).trans p, ⟨(e _ _ (by decide)).trans c1, stk_cg (fun j c hj z => ?_) c2.2⟩, (e _ _ (by decide)).trans d1, stk_cg (fun j c hj z => ?_) (stk_drop (n := m) d2)⟩
  · rw [e 65 _ (by decide), e 66 _ (by decide)]; exact z
  · unfold cellX at z ⊢
    rw [e 53 _ (by decide), e 54 _ (by decide), e 55 _ (by decide), e 56 _ (by decide)]; exact z
theorem tf1_cut {T T0 : zM} {n : Nat} {r : mF} {q : Nat × Nat} {tr : List (Nat × Nat)} {m : Nat} (hr : r.tr = q :: tr) (e : ∀ a k, a ≠ 155 → a ≠ 157 → gi T0 a k = gi T a k) (e5 : gi T0 155 n = nI (r.st.drop m).length) (e7 : gi T0 157 n = nI tr.length) (h : tf1 T n r) : tf1 T0 n (r.1, r.2.1, tr, r.st.drop m) := by
  obtain ⟨⟨a1, a2, a3, a4, a5⟩, p, ⟨c1, c2⟩, d1, d2⟩ := h
  rw [hr] at c2
  refine ⟨⟨(e _ _ (by decide) (by decide)).trans a1, (e _ _ (by decide) (by decide)).trans a2, (e _ _ (by decide) (by decide)).trans a3, (e _ _ (by decide) (by decide)).trans a4, (e _ _ (by decide) (by decide)).trans a5⟩, (e _ _ (by decide) (by decide)).trans p, ⟨e7, stk_cg (fun j c hj z => ?_) c2.2⟩, e5, stk_cg (fun j c hj z => ?_) (stk_drop (n := m) d2)⟩
  · rw [e 158 _ (by decide) (by decide), e 159 _ (by decide) (by decide)]; exact z
  · unfold cellT at z ⊢
    rw [e 160 _ (by decide) (by decide), e 161 _ (by decide) (by decide), e 162 _ (by decide) (by decide), e 163 _ (by decide) (by decide)]; exact z
/-- cells that an exception out of all frames touches -/
def fUX (a k : Nat) : Prop := fFX a k ∨ a = 16 ∧ (k = 51 ∨ k = 54 ∨ k = 55)
def fUT (a k : Nat) : Prop := fFT a k ∨ a = 97 ∧ (k = 73 ∨ k = 109 ∨ k = 110)
theorem fr.uX {M M' : zM} (h : fr fFX M M') : fr fUX M M' := h.mono fun _ _ q => .inl q
theorem fr.uT {M M' : zM} (h : fr fFT M M') : fr fUT M M' := h.mono fun _ _ q => .inl q
section
variable {E : zE} {d : Nat} {Q : zO → zM → Prop}
theorem xm_unwind {ks : Nat} {v : Int32} (hks : ks < 8) : ∀ (F : List mF) (M : zM), cw M → gi M 16 49 = nI F.length → gi M 16 50 = nI (mtt F) → xFr M F → mFok F → mTh F → gi M 16 57 = nI ks → gi M 16 58 = v →
    (∀ M', mts (nI ks, v, 0, 0) F = [] → xFs M' [] → gi M' 16 51 = 3 → gi M' 16 54 = nI ks → gi M' 16 55 = v → fr fUX M M' → Q (.inl none) M') →
    (∀ M' r F', mts (nI ks, v, 0, 0) F = r :: F' → xFs M' (r :: F') → fr fFX M M' → Q (.inl none) M') → Z E YX1_unwind (d + 1) M [(0, zX16)] 0 [] Q
  | [], M, hw, h49, h50, _, _, _, h57, h58, hQ1, _ => by
    refine iX1_unwind_0 M hw ?_
    rw [h49, h57, h58, if_pos (by show nI 0 ≤ 0; decide), if_pos (by rfl)]
    refine hQ1 _ rfl ⟨⟨?_, ?_, ?_⟩, trivial⟩ ?_ ?_ ?_ ?_
    · rw [gi_idx (by decide), gi_idx (by decide), gi_idx (by decide), gi_idx (by decide)]; exact h49
    · rw [gi_idx (by decide), gi_idx (by decide), gi_idx (by decide), gi_self]; rfl
    · rw [gi_idx (by decide), gi_idx (by decide), gi_idx (by decide), gi_idx (by decide)]; exact h50
    · rw [gi_idx (by decide), gi_idx (by decide), gi_self]
    · rw [gi_idx (by decide), gi_self]
    · rw [gi_self]
    · exact (((fr.si (by unfold fUX fFX; omega)).tr (fr.si (by unfold fUX fFX; omega))).tr (fr.si (by unfold fUX fFX; omega))).tr (fr.si (by unfold fUX fFX; omega))
  | r :: F, M, hw, h49, h50, hF, ok, hh, h57, h58, hQ1, hQ2 => by
    obtain ⟨g0, g1, g2, g3, g4⟩ := mFok_hd ok
    have okF := mFok_tl ok
    obtain ⟨ht1, ht2⟩ := mtot_le okF
    have h49' : gi M 16 49 = nI (F.length + 1) := h49
    have h50' : gi M 16 50 = nI (mtt F + r.tr.length) := by rw [h50, mtt_c, Nat.add_comm]
    have h62 : gi M 62 F.length = nI (mtt F) := hF.1.2.2.1.1
    have h60 : gi M 60 F.length = nI (mtot F) := hF.1.2.2.2.1
    refine iX1_unwind_0 M hw ?_
    rw [h49', h50']
    simp (disch := omega) only [h62, nn_add, nn_addl, nn_ladd, nn_mul, nn_lmul, nn_mull, nn_sub, nn_subl, nn_lsub, nn_lt, nn_le, nn_eq, nn_ltl, nn_llt, nn_lel, nn_lle, nn_eql, nn_leq, nn_m1, nn_1m, nn_ltm, nn_mlt, nn_mle, nn_lem, nn_cl, nn_in, nn_ns, nn_ns2, nn_nb, nn_nb2, nn_s1, nn_s2, nn_b1, nn_b2]
    rw [if_neg (by omega), show F.length + 1 - 1 = F.length by omega]
    simp (disch := omega) only [h62, h60, nn_add, nn_addl, nn_ladd, nn_mul, nn_lmul, nn_mull, nn_sub, nn_subl, nn_lsub, nn_lt, nn_le, nn_eq, nn_ltl, nn_llt, nn_lel, nn_lle, nn_eql, nn_leq, nn_m1, nn_1m, nn_ltm, nn_mlt, nn_mle, nn_lem, nn_cl, nn_in, nn_ns, nn_ns2, nn_nb, nn_nb2, nn_s1, nn_s2, nn_b1, nn_b2]
    refine ⟨by omega, ?_⟩
    cases hr : r.tr with
    | nil =>
      rw [if_pos (by simp)]
      have e : ∀ a k, a ≠ 16 → gi (si M 16 49 (nI F.length)) a k = gi M a k := fun a k q => gi_oth q
      refine xm_unwind hks F (si M 16 49 (nI F.length)) (cw.si hw) (gi_self ..) ?_ ?_ okF (fun q hq => hh q (List.mem_cons_of_mem _ hq)) ((gi_idx (by decide)).trans h57) ((gi_idx (by decide)).trans h58) (fun M' m s e1 e2 e3 f => hQ1 M' (by rw [mts_nil hr]; exact m) s e1 e2 e3 ((fr.si (by unfold fUX fFX; omega)).tr f)) (fun M' r' F' m s f => hQ2 M' r' F' (by rw [mts_nil hr]; exact m) s ((fr.si (by unfold fFX; omega)).tr f))
      · rw [gi_idx (by decide), h50', hr]; rfl
      · exact xFr_lo okF (fun a k q => e a k (by unfold loX at q; omega)) hF.2
    | cons q tr =>
      have hq := g4 q (by rw [hr]; simp)
      have hqh := hh r List.mem_cons_self q (by rw [hr]; simp)
      have hs := hF.1.2.2.1.2
      rw [hr] at hs
      obtain ⟨s1, s2⟩ := hs.1
      rw [List.length_cons, if_neg (by omega), if_neg (by omega)]
      have el : mtt F + (tr.length + 1) - 1 = mtt F + tr.length := by omega
      have hl : r.tr.length = tr.length + 1 := by rw [hr]; rfl
      rw [el]
      simp (disch := omega) only [s1, s2, h57, h58, nn_add, nn_addl, nn_ladd, nn_mul, nn_lmul, nn_mull, nn_sub, nn_subl, nn_lsub, nn_lt, nn_le, nn_eq, nn_ltl, nn_llt, nn_lel, nn_lle, nn_eql, nn_leq, nn_m1, nn_1m, nn_ltm, nn_mlt, nn_mle, nn_lem, nn_cl, nn_in, nn_ns, nn_ns2, nn_nb, nn_nb2, nn_s1, nn_s2, nn_b1, nn_b2]
      refine ⟨by omega, by omega, ?_⟩
      have e16 : ∀ a k, a ≠ 16 → gi (si (si M 16 50 (nI (mtt F + tr.length))) 16 38 (nI (mtot F + q.2))) a k = gi M a k := fun a k z => by rw [gi_oth z, gi_oth z]
      have ed : (r.st.drop (r.st.length - q.2)).length = q.2 := by rw [List.length_drop]; omega
      have x0 : xFs (si (si M 16 50 (nI (mtt F + tr.length))) 16 38 (nI (mtot F + q.2))) ((r.1, r.2.1, tr, r.st.drop (r.st.length - q.2)) :: F) := by
        refine ⟨⟨?_, ?_, ?_⟩, xf1_cut hr e16 hF.1 _, xFr_lo okF (fun a k z => e16 a k (by unfold loX at z; omega)) hF.2⟩
        · rw [gi_idx (by decide), gi_idx (by decide)]; exact h49
        · rw [gi_self, mtot_c]; show nI _ = nI ((r.st.drop (r.st.length - q.2)).length + _); rw [ed, Nat.add_comm]
        · rw [gi_idx (by decide), gi_self, mtt_c, Nat.add_comm]
      have x1 := xFs_push x0 okF (c := (nI ks, v, 0, 0)) (fun z => absurd z (by show ¬ nI ks = 8; rw [nn_eql (by omega) (by omega)]; omega))
      rw [show (mF.st (r.1, r.2.1, tr, r.st.drop (r.st.length - q.2))).length = q.2 from ed] at x1
      have x2 := xFs_pl x1 okF q.1
      refine hQ2 _ _ _ (mts_cons hr) x2 ?_
      exact (((((fr.si (by unfold fFX; omega)).tr (fr.si fFX_38)).tr (fr.si (fFX_i (by omega)))).tr (fr.si fFX_38)).tr (fr.si (fFX_i (by omega)))).tr (fr.si (fFX_i (by omega)))
/-- push of the twin, more closely -/
theorem tm_push2 {T : zM} {r : mF} {F : List mF} {s v : Int32} (h : tFs T (r :: F)) (ok : mFok F) (g0 : F.length < 24) (g3 : r.st.length < 400) (g l : Int32) (hc : s = 8 → gi T 162 (400 * F.length + r.st.length) = g ∧ gi T 163 (400 * F.length + r.st.length) = l) (hQ : ∀ T', tFs T' (mFst r ((s, v, g, l) :: r.st) :: F) → fr (fun a _ => a = 155 ∨ a = 160 ∨ a = 161) T T' → Q (.inl none) T') : Zm E YX8_push (d + 1) T [(0, T97), (1, vi s), (2, vi v)] 0 [] Q := by
  obtain ⟨n1, n2, n3, n4⟩ := tFs_nums h
  refine iX8_push_0 T _ _ ?_
  rw [n1]
  simp (disch := omega) only [n3, nn_add, nn_addl, nn_ladd, nn_mul, nn_lmul, nn_mull, nn_sub, nn_subl, nn_lsub, nn_lt, nn_le, nn_eq, nn_ltl, nn_llt, nn_lel, nn_lle, nn_eql, nn_leq, nn_m1, nn_1m, nn_ltm, nn_mlt, nn_mle, nn_lem, nn_cl, nn_in, nn_ns, nn_ns2, nn_nb, nn_nb2, nn_s1, nn_s2, nn_b1, nn_b2]
  exact ⟨by omega, by omega, hQ _ (tFs_push h ok (c := (s, v, g, l)) hc) (((fr.si (by omega)).tr (fr.si (by omega))).tr (fr.si (by omega)))⟩
/-- toss of the twin -/
theorem tm_toss8 {s v : Int32} (hs8 : ¬ s = 8) : ∀ (F : List mF) (T : zM), tFs T F → mFok F → mTh F →
    (∀ T', mts (s, v, 0, 0) F = [] → tFs T' [] → gi T' 97 73 = 3 → gi T' 97 109 = s → gi T' 97 110 = v → fr fUT T T' → Q (.inl none) T') →
    (∀ T' r F', mts (s, v, 0, 0) F = r :: F' → tFs T' (r :: F') → fr fFT T T' → Q (.inl none) T') → Zm E YX8_toss_2 (d + 2) T [(0, T97), (1, vi s), (2, vi v)] 8 [] Q
  | [], T, h, _, _, hQ1, _ => by
    refine iX8_toss_2_8 T _ _ ?_
    rw [h.1, if_pos (by show nI 0 ≤ 0; decide), if_pos (by rfl)]
    refine hQ1 _ rfl ⟨?_, trivial⟩ ?_ ?_ ?_ ?_
    · rw [gi_idx (by decide), gi_idx (by decide), gi_idx (by decide)]; exact h.1
    · rw [gi_idx (by decide), gi_idx (by decide), gi_self]
    · rw [gi_idx (by decide), gi_self]
    · rw [gi_self]
    · exact ((fr.si (by unfold fUT fFT; omega)).tr (fr.si (by unfold fUT fFT; omega))).tr (fr.si (by unfold fUT fFT; omega))
  | r :: F, T, h, ok, hh, hQ1, hQ2 => by
    obtain ⟨g0, g1, g2, g3, g4⟩ := mFok_hd ok
    have okF := mFok_tl ok
    obtain ⟨n1, n2, n3, n4⟩ := tFs_nums h
    have h92 : gi T 97 92 = nI (F.length + 1) := h.1
    refine iX8_toss_2_8 T _ _ ?_
    rw [n1, h92]
    simp (disch := omega) only [n4, nn_add, nn_addl, nn_ladd, nn_mul, nn_lmul, nn_mull, nn_sub, nn_subl, nn_lsub, nn_lt, nn_le, nn_eq, nn_ltl, nn_llt, nn_lel, nn_lle, nn_eql, nn_leq, nn_m1, nn_1m, nn_ltm, nn_mlt, nn_mle, nn_lem, nn_cl, nn_in, nn_ns, nn_ns2, nn_nb, nn_nb2, nn_s1, nn_s2, nn_b1, nn_b2]
    rw [if_neg (by omega)]
    refine ⟨by omega, ?_⟩
    cases hr : r.tr with
    | nil =>
      rw [if_pos (by simp)]
      have e : ∀ a k, a ≠ 97 → gi (si T 97 92 (nI F.length)) a k = gi T a k := fun a k q => gi_oth q
      refine tm_toss8 hs8 F (si T 97 92 (nI F.length)) ⟨gi_self .., tFr_lo okF (fun a k q => e a k (by unfold loT at q; omega)) h.2.2⟩ okF (fun q hq => hh q (List.mem_cons_of_mem _ hq)) (fun T' m s e1 e2 e3 f => hQ1 T' (by rw [mts_nil hr]; exact m) s e1 e2 e3 ((fr.si (by unfold fUT fFT; omega)).tr f)) (fun T' r' F' m s f => hQ2 T' r' F' (by rw [mts_nil hr]; exact m) s ((fr.si (by unfold fFT; omega)).tr f))
    | cons q tr =>
      have hq := g4 q (by rw [hr]; simp)
      have hqh := hh r List.mem_cons_self q (by rw [hr]; simp)
      have hs := h.2.1.2.2.1.2
      rw [hr] at hs
      obtain ⟨s1, s2⟩ := hs.1
      have hl : r.tr.length = tr.length + 1 := by rw [hr]; rfl
      rw [List.length_cons, if_neg (by omega), if_neg (by omega)]
      rw [gi_self]
      simp (disch := omega) only [s2, nn_add, nn_addl, nn_ladd, nn_mul, nn_lmul, nn_mull, nn_sub, nn_subl, nn_lsub, nn_lt, nn_le, nn_eq, nn_ltl, nn_llt, nn_lel, nn_lle, nn_eql, nn_leq, nn_m1, nn_1m, nn_ltm, nn_mlt, nn_mle, nn_lem, nn_cl, nn_in, nn_ns, nn_ns2, nn_nb, nn_nb2, nn_s1, nn_s2, nn_b1, nn_b2]
      rw [show tr.length + 1 - 1 = tr.length by omega]
      simp (disch := omega) only [s2, nn_add, nn_addl, nn_ladd, nn_mul, nn_lmul, nn_mull, nn_sub, nn_subl, nn_lsub, nn_lt, nn_le, nn_eq, nn_ltl, nn_llt, nn_lel, nn_lle, nn_eql, nn_leq, nn_m1, nn_1m, nn_ltm, nn_mlt, nn_mle, nn_lem, nn_cl, nn_in, nn_ns, nn_ns2, nn_nb, nn_nb2, nn_s1, nn_s2, nn_b1, nn_b2]
      refine ⟨by omega, ?_⟩
      have ed : (r.st.drop (r.st.length - q.2)).length = q.2 := by rw [List.length_drop]; omega
      have t0 : tFs (si (si T 157 F.length (nI tr.length)) 155 F.length (nI q.2)) ((r.1, r.2.1, tr, r.st.drop (r.st.length - q.2)) :: F) := by
        refine ⟨?_, tf1_cut hr (fun a k z1 z2 => by rw [gi_oth z1, gi_oth z2]) (by rw [gi_self, ed]) (by rw [gi_oth (by decide), gi_self]) h.2.1, tFr_lo okF (fun a k z => ?_) h.2.2⟩
        · rw [gi_oth (by decide), gi_oth (by decide)]; exact h.1
        · unfold loT at z
          simp only [gi_si]
          grind
      refine tm_push2 t0 okF g0 (by show (r.st.drop (r.st.length - q.2)).length < 400; omega) 0 0 (fun z => absurd z hs8) (fun T2 t2 f2 => ?_)
      show Zm E YX8_toss_2 (d + 2) T2 [(0, T97), (3, vi (nI F.length)), (4, vi (nI (40 * F.length + tr.length)))] 114 [] Q
      refine sX8_toss_2_114 T2 _ _ ?_
      have e158 : gi T2 158 (40 * F.length + tr.length) = nI q.1 := by
        rw [(f2.2 158 _ (by omega)).1, gi_oth (by decide), gi_oth (by decide)]; exact s1
      simp (disch := omega) only [e158, nn_add, nn_addl, nn_ladd, nn_mul, nn_lmul, nn_mull, nn_sub, nn_subl, nn_lsub, nn_lt, nn_le, nn_eq, nn_ltl, nn_llt, nn_lel, nn_lle, nn_eql, nn_leq, nn_m1, nn_1m, nn_ltm, nn_mlt, nn_mle, nn_lem, nn_cl, nn_in, nn_ns, nn_ns2, nn_nb, nn_nb2, nn_s1, nn_s2, nn_b1, nn_b2]
      refine ⟨by omega, by omega, ?_⟩
      exact hQ2 _ _ _ (mts_cons hr) (tFs_pl t2 okF q.1) ((((fr.si (fFT_i (by omega))).tr (fr.si (fFT_i (by omega)))).tr (f2.mono fun a k z => fFT_i (by omega))).tr (fr.si (fFT_i (by omega))))
theorem tm_toss {T : zM} {F : List mF} {s v : Int32} (hs8 : ¬ s = 8) (h75 : gi T 97 75 = 0) (h : tFs T F) (ok : mFok F) (hh : mTh F)
    (h1 : ∀ T', mts (s, v, 0, 0) F = [] → tFs T' [] → gi T' 97 73 = 3 → gi T' 97 109 = s → gi T' 97 110 = v → fr fUT T T' → Q (.inl none) T')
    (h2 : ∀ T' r F', mts (s, v, 0, 0) F = r :: F' → tFs T' (r :: F') → fr fFT T T' → Q (.inl none) T') : Zm E YX8_toss_2 (d + 2) T [(0, T97), (1, vi s), (2, vi v)] 0 [] Q := by
  refine sX8_toss_2_0 T _ _ ?_
  rw [h75, if_pos rfl]
  exact tm_toss8 hs8 F T h ok hh h1 h2
/-- toss of the twin when there was no room -/
theorem tm_tossN {T : zM} {s v : Int32} (h75 : gi T 97 75 = 1) (hQ : Q (.inl none) T) : Zm E YX8_toss_2 (d + 1) T [(0, T97), (1, vi s), (2, vi v)] 0 [] Q := by
  refine sX8_toss_2_0 T _ _ ?_
  rw [h75, if_neg (by decide)]
  exact hQ
/-- error of the twin: 6, 7, 8 -/
theorem tA_error {T : zM} {A : mA} {F : List mF} {n : Nat} (hs : sT T A) (i : iA A) (hn : n < 9) (h75 : gi T 97 75 = 0) (h : tFs T F) (ok : mFok F) (hh : mTh F)
    (h0 : aO A = 300 → Q (.inl none) (si T 97 75 1))
    (h1 : ∀ T', aO A < 300 → sT T' (a_new A (nI n) (n + 20) 0 (-1)) → mts (7, nI (aO A), 0, 0) F = [] → tFs T' [] → gi T' 97 73 = 3 → gi T' 97 109 = 7 → gi T' 97 110 = nI (aO A) → fr (orP fUT hpT) T T' → Q (.inl none) T')
    (h2 : ∀ T' r F', aO A < 300 → sT T' (a_new A (nI n) (n + 20) 0 (-1)) → mts (7, nI (aO A), 0, 0) F = r :: F' → tFs T' (r :: F') → fr (orP fFT hpT) T T' → Q (.inl none) T') : Zm E YX8_error (d + 3) T [(0, T97), (1, vi (nI n))] 0 [] Q := by
  refine sX8_error_0 T _ ?_
  simp (disch := omega) only [nn_add, nn_addl, nn_ladd, nn_mul, nn_lmul, nn_mull, nn_sub, nn_subl, nn_lsub, nn_lt, nn_le, nn_eq, nn_ltl, nn_llt, nn_lel, nn_lle, nn_eql, nn_leq, nn_m1, nn_1m, nn_ltm, nn_mlt, nn_mle, nn_lem, nn_cl, nn_in, nn_ns, nn_ns2, nn_nb, nn_nb2, nn_s1, nn_s2, nn_b1, nn_b2]
  refine tA_new hs i (by omega) (fun h300 => ?_) (fun T1 hlt s1 f1 => ?_)
  · show Zm E YX8_error (d + 3) (si T 97 75 1) [(0, T97)] 10 [vi 0] Q
    refine sX8_error_10 _ _ ?_
    exact tm_tossN (gi_self ..) (sX8_error_18 _ (h0 h300))
  · show Zm E YX8_error (d + 3) T1 [(0, T97)] 10 [vi (nI (aO A))] Q
    refine sX8_error_10 _ _ ?_
    have ff : fr hpT T T1 := f1.mono fun a k q => by unfold hpT; omega
    have x1 : tFs T1 F := tFs_fr h ok f1 (fun a k q => by unfold fFT; omega)
    have x75 : gi T1 97 75 = 0 := (f1.2 97 75 (by omega)).1.trans h75
    refine tm_toss (by decide) x75 x1 ok hh (fun T' m t e1 e2 e3 f => ?_) (fun T' r F' m t f => ?_)
    · exact sX8_error_18 _ (h1 T' hlt (sT_fr s1 f (fun a k q => by unfold fUT fFT at q; unfold hpT stT; omega)) m t e1 e2 e3 (ff.r.tr f.l))
    · exact sX8_error_18 _ (h2 T' r F' hlt (sT_fr s1 f (fun a k q => by unfold fFT at q; unfold hpT stT; omega)) m t (ff.r.tr f.l))
/-- error of the component: 0, 1, 2; what is thrown is kept -/
theorem xA_error {M : zM} {A : mA} {n : Nat} (hs : sX M A) (i : iA A) (hn : n < 3)
    (h0 : aO A = 300 → Q (.inr (51, 13, 0)) M)
    (h1 : ∀ M', aO A < 300 → sX M' (a_new A (nI (6 + n)) (26 + n) 0 (-1)) → gi M' 16 57 = 7 → gi M' 16 58 = nI (aO A) → fr (orP scx hpX) M M' → Q (.inl (some (vr (some (52, 14, 0))))) M') : Z E YX1_error (d + 1) M [(0, zX16), (1, vi (nI n))] 0 [] Q := by
  refine sX1_error_0 M _ hs.1 ?_
  simp (disch := omega) only [nn_add, nn_addl, nn_ladd, nn_mul, nn_lmul, nn_mull, nn_sub, nn_subl, nn_lsub, nn_lt, nn_le, nn_eq, nn_ltl, nn_llt, nn_lel, nn_lle, nn_eql, nn_leq, nn_m1, nn_1m, nn_ltm, nn_mlt, nn_mle, nn_lem, nn_cl, nn_in, nn_ns, nn_ns2, nn_nb, nn_nb2, nn_s1, nn_s2, nn_b1, nn_b2]
  refine xA_new (ks := 0) hs i (by omega) (by omega) (by omega) (fun q => by omega) (by simp (disch := omega) only [nn_add, nn_addl, nn_ladd, nn_mul, nn_lmul, nn_mull, nn_sub, nn_subl, nn_lsub, nn_lt, nn_le, nn_eq, nn_ltl, nn_llt, nn_lel, nn_lle, nn_eql, nn_leq, nn_m1, nn_1m, nn_ltm, nn_mlt, nn_mle, nn_lem, nn_cl, nn_in, nn_ns, nn_ns2, nn_nb, nn_nb2, nn_s1, nn_s2, nn_b1, nn_b2]) rfl (fun h300 => ?_) (fun hlt s1 => ?_)
  · show ZT E YX1_error (d + 1) M [] 14 (51, 13, 0) Q
    exact ZT.out (nohand rfl) (h0 h300)
  · have f1 := x_new_fr M (aO A) (nI 0) (26 + n) (nI (6 + n)) (-1)
    show Z E YX1_error (d + 1) (x_new M (aO A) (nI 0) (26 + n) (nI (6 + n)) (-1)) [] 17 [vi (nI (aO A)), vi 7, zX16] Q
    refine iX1_error_17 _ _ _ s1.1 ?_
    have f2 : fr scx (x_new M (aO A) (nI 0) (26 + n) (nI (6 + n)) (-1)) (si (si (x_new M (aO A) (nI 0) (26 + n) (nI (6 + n)) (-1)) 16 57 7) 16 58 (nI (aO A))) := (fr.si (by unfold scx; omega)).tr (fr.si (by unfold scx; omega))
    refine h1 _ hlt (sX_fr s1 f2 (fun a k q => ?_)) ?_ ?_ ((fr.r (f1.mono fun a k q => by unfold hpX; omega)).tr f2.l)
    · unfold scx at q
      unfold hpX
      refine ⟨by omega, by omega, by omega, by omega, by omega, fun _ z hz => ?_⟩
      have := cwl_ok z hz
      omega
    · rw [gi_idx (by decide), gi_self]
    · rw [gi_self]
end
