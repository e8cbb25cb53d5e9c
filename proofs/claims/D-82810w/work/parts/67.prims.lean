/-! FRAMES of the machine: pushing, dropping, going on -/
def mFst (r : mF) (st : List mC) : mF := (r.1, r.2.1, r.2.2.1, st)
def mFpl (r : mF) (p : Nat) : mF := (r.1, p, r.2.2.1, r.2.2.2)
def mFtr (r : mF) (tr : List (Nat × Nat)) : mF := (r.1, r.2.1, tr, r.2.2.2)
theorem tf1_pl {T : zM} {n : Nat} {r : mF} (h : tf1 T n r) (p : Nat) : tf1 (si T 154 n (nI p)) n (mFpl r p) := by
  obtain ⟨⟨a1, a2, a3, a4, a5⟩, b, ⟨c1, c2⟩, d1, d2⟩ := h
  have f : ∀ a k, a ≠ 154 → gi (si T 154 n (nI p)) a k = gi T a k := fun a k q => gi_oth q
  refine ⟨⟨(f _ _ (by decide)).trans a1, (f _ _ (by decide)).trans a2, (f _ _ (by decide)).trans a3, (f _ _ (by decide)).trans a4, (f _ _ (by decide)).trans a5⟩, gi_self .., ⟨(f _ _ (by decide)).trans c1, stk_cg (fun j c hj q => ?_) c2⟩, (f _ _ (by decide)).trans d1, stk_cg (fun j c hj q => ?_) d2⟩
  · rw [f _ _ (by decide), f _ _ (by decide)]; exact q
  · unfold cellT; rw [f _ _ (by decide), f _ _ (by decide), f _ _ (by decide), f _ _ (by decide)]; exact q
theorem tf1_st {T T' : zM} {n : Nat} {r : mF} {st : List mC} (h : tf1 T n r) (e : ∀ a k, ¬ (a = 155 ∨ 160 ≤ a ∧ a ≤ 163) → gi T' a k = gi T a k) (e5 : gi T' 155 n = nI st.length) (hs : stk (fun j c => cellT T' (400 * n + j) c) st) : tf1 T' n (mFst r st) := by
  obtain ⟨⟨a1, a2, a3, a4, a5⟩, b, ⟨c1, c2⟩, d1, d2⟩ := h
  refine ⟨⟨(e _ _ (by omega)).trans a1, (e _ _ (by omega)).trans a2, (e _ _ (by omega)).trans a3, (e _ _ (by omega)).trans a4, (e _ _ (by omega)).trans a5⟩, (e _ _ (by omega)).trans b, ⟨(e _ _ (by omega)).trans c1, stk_cg (fun j c hj q => ?_) c2⟩, e5, hs⟩
  rw [e _ _ (by omega), e _ _ (by omega)]; exact q
theorem xf1_st {M M' : zM} {n b t : Nat} {r : mF} {st : List mC} (h : xf1 M n b t r) (e : ∀ a k, ¬ (53 ≤ a ∧ a ≤ 56) → a ≠ 16 → gi M' a k = gi M a k) (hs : stk (fun j c => cellX M' (b + j) c) st) : xf1 M' n b t (mFst r st) := by
  obtain ⟨⟨a1, a2, a3, a4, a5⟩, p, ⟨c1, c2⟩, d1, d2⟩ := h
  refine ⟨⟨(e _ _ (by omega) (by omega)).trans a1, (e _ _ (by omega) (by omega)).trans a2, (e _ _ (by omega) (by omega)).trans a3, (e _ _ (by omega) (by omega)).trans a4, (e _ _ (by omega) (by omega)).trans a5⟩, (e _ _ (by omega) (by omega)).trans p, ⟨(e _ _ (by omega) (by omega)).trans c1, stk_cg (fun j c hj q => ?_) c2⟩, (e _ _ (by omega) (by omega)).trans d1, hs⟩
  rw [e _ _ (by omega) (by omega), e _ _ (by omega) (by omega)]; exact q
theorem xf1_pl {M : zM} {n b t : Nat} {r : mF} (h : xf1 M n b t r) (p : Nat) : xf1 (si M 59 n (nI p)) n b t (mFpl r p) := by
  obtain ⟨⟨a1, a2, a3, a4, a5⟩, q, ⟨c1, c2⟩, d1, d2⟩ := h
  have f : ∀ a k, a ≠ 59 → gi (si M 59 n (nI p)) a k = gi M a k := fun a k q => gi_oth q
  refine ⟨⟨(f _ _ (by decide)).trans a1, (f _ _ (by decide)).trans a2, (f _ _ (by decide)).trans a3, (f _ _ (by decide)).trans a4, (f _ _ (by decide)).trans a5⟩, gi_self .., ⟨(f _ _ (by decide)).trans c1, stk_cg (fun j c hj q => ?_) c2⟩, (f _ _ (by decide)).trans d1, stk_cg (fun j c hj q => ?_) d2⟩
  · rw [f _ _ (by decide), f _ _ (by decide)]; exact q
  · unfold cellX; rw [f _ _ (by decide), f _ _ (by decide), f _ _ (by decide), f _ _ (by decide)]; exact q
section
variable {T M : zM} {r : mF} {F : List mF}
/-- the top frame's number, place, height in the twin -/
theorem tFs_nums (h : tFs T (r :: F)) : gi T 97 92 - 1 = nI F.length ∧ gi T 154 F.length = nI r.pl ∧ gi T 155 F.length = nI r.st.length ∧ gi T 157 F.length = nI r.tr.length := by
  refine ⟨?_, h.2.1.2.1, h.2.1.2.2.2.1, h.2.1.2.2.1.1⟩
  rw [h.1, List.length_cons, show (1 : Int32) = nI 1 from rfl, nn_sub (by omega)]
  rfl
theorem tFs_pl (h : tFs T (r :: F)) (ok : mFok F) (p : Nat) : tFs (si T 154 F.length (nI p)) (mFpl r p :: F) :=
  tFs_top h ok (fun a k q => by
    by_cases e : a = 154
    · subst e; exact gi_idx (by unfold loT at q; omega)
    · exact gi_oth e) (gi_oth (by decide)) (tf1_pl h.2.1 p)
/-- a cell i from the top -/
theorem tFs_cell (h : tFs T (r :: F)) {i : Nat} {c : mC} (hi : r.st[i]? = some c) : cellT T (400 * F.length + (r.st.length - 1 - i)) c := stk_at h.2.1.2.2.2.2 hi
theorem xFs_cell (h : xFs M (r :: F)) {i : Nat} {c : mC} (hi : r.st[i]? = some c) : cellX M (mtot F + (r.st.length - 1 - i)) c := stk_at h.2.1.2.2.2.2 hi
theorem xFs_nums (h : xFs M (r :: F)) : gi M 16 49 - 1 = nI F.length ∧ gi M 59 F.length = nI r.pl ∧ gi M 16 38 = nI (mtot F + r.st.length) ∧ gi M 16 50 = nI (mtt F + r.tr.length) := by
  refine ⟨?_, h.2.1.2.1, ?_, ?_⟩
  · rw [h.1.1, List.length_cons, show (1 : Int32) = nI 1 from rfl, nn_sub (by omega)]; rfl
  · rw [h.1.2.1, mtot_c, Nat.add_comm]
  · rw [h.1.2.2, mtt_c, Nat.add_comm]
theorem xFs_pl (h : xFs M (r :: F)) (ok : mFok F) (p : Nat) : xFs (si M 59 F.length (nI p)) (mFpl r p :: F) :=
  xFs_top h ok (fun a k q => by
    by_cases e : a = 59
    · subst e; exact gi_idx (by unfold loX at q; omega)
    · exact gi_oth e) (gi_oth (by decide)) ((gi_oth (by decide)).trans h.1.2.1) ((gi_oth (by decide)).trans h.1.2.2) (xf1_pl h.2.1 p)
/-- so many values go -/
theorem tFs_drop (h : tFs T (r :: F)) (ok : mFok F) (n : Nat) : tFs (si T 155 F.length (nI (r.st.length - n))) (mFst r (r.st.drop n) :: F) :=
  tFs_top h ok (fun a k q => by
    by_cases e : a = 155
    · subst e; exact gi_idx (by unfold loT at q; omega)
    · exact gi_oth e) (gi_oth (by decide)) (tf1_st h.2.1 (fun a k q => gi_oth (by omega)) (by rw [gi_self, List.length_drop]) (stk_cg (fun j c hj q => by
      unfold cellT at q ⊢
      rw [gi_oth (by decide), gi_oth (by decide), gi_oth (by decide), gi_oth (by decide)]; exact q) (stk_drop h.2.1.2.2.2.2)))
theorem xFs_drop (h : xFs M (r :: F)) (ok : mFok F) {n : Nat} (hn : n ≤ r.st.length) : xFs (si M 16 38 (nI (mtot F + r.st.length - n))) (mFst r (r.st.drop n) :: F) :=
  xFs_top h ok (fun a k q => gi_oth (by unfold loX at q; omega)) (gi_idx (by decide)) (by rw [gi_self]; congr 1; show _ = (r.st.drop n).length + _; rw [List.length_drop]; omega) ((gi_idx (by decide)).trans h.1.2.2) (xf1_st h.2.1 (fun a k _ q => gi_oth q) (stk_cg (fun j c hj q => by
      unfold cellX at q ⊢
      rw [gi_oth (by decide), gi_oth (by decide), gi_oth (by decide), gi_oth (by decide)]; exact q) (stk_drop h.2.1.2.2.2.2)))
/-- a value comes -/
theorem tFs_push (h : tFs T (r :: F)) (ok : mFok F) {c : mC} (hc : c.1 = 8 → gi T 162 (400 * F.length + r.st.length) = c.2.2.1 ∧ gi T 163 (400 * F.length + r.st.length) = c.2.2.2) : tFs (si (si (si T 160 (400 * F.length + r.st.length) c.1) 161 (400 * F.length + r.st.length) c.2.1) 155 F.length (nI (r.st.length + 1))) (mFst r (c :: r.st) :: F) := by
  refine tFs_top h ok (fun a k q => ?_) ?_ (tf1_st h.2.1 (fun a k q => ?_) (by rw [gi_self]; rfl) ⟨?_, stk_cg (fun j c hj q => ?_) h.2.1.2.2.2.2⟩)
  · unfold loT at q
    simp only [gi_si]
    grind
  · rw [gi_oth (by decide), gi_oth (by decide), gi_oth (by decide)]
  · rw [gi_oth (by omega), gi_oth (by omega), gi_oth (by omega)]
  · unfold cellT
    simp only [gi_si]
    simp
    exact hc
  · unfold cellT at q ⊢
    have hj' : j < r.st.length := hj
    simp only [gi_si]
    simp [show ¬ j = r.st.length by omega]
    exact q
theorem xFs_push (h : xFs M (r :: F)) (ok : mFok F) {c : mC} (hc : c.1 = 8 → gi M 56 (mtot F + r.st.length) = c.2.2.1 ∧ gi M 55 (mtot F + r.st.length) = c.2.2.2) : xFs (si (si (si M 53 (mtot F + r.st.length) c.1) 16 38 (nI (mtot F + r.st.length + 1))) 54 (mtot F + r.st.length) c.2.1) (mFst r (c :: r.st) :: F) := by
  refine xFs_top h ok (fun a k q => ?_) ?_ ?_ ?_ (xf1_st h.2.1 (fun a k q q' => ?_) ⟨?_, stk_cg (fun j c hj q => ?_) h.2.1.2.2.2.2⟩)
  · unfold loX at q
    simp only [gi_si]
    grind
  · rw [gi_oth (by decide), gi_idx (by decide), gi_oth (by decide)]
  · rw [gi_oth (by decide), gi_self]; congr 1; show _ = r.st.length + 1 + _; omega
  · rw [gi_oth (by decide), gi_idx (by decide), gi_oth (by decide)]; exact h.1.2.2
  · rw [gi_oth (by omega), gi_oth (by omega), gi_oth (by omega)]
  · unfold cellX
    simp only [gi_si]
    simp
    exact hc
  · unfold cellX at q ⊢
    have hj' : j < r.st.length := hj
    simp only [gi_si]
    simp [show ¬ j = r.st.length by omega]
    exact q
end
theorem mFok_st {r : mF} {F : List mF} {st : List mC} (ok : mFok (r :: F)) (h : st.length ≤ 390) : mFok (mFst r st :: F) := ⟨ok.1, fun q hq => by
  rcases List.mem_cons.mp hq with e | e
  · rw [e]; obtain ⟨-, h1, h2, -, h4⟩ := mFok_hd ok; exact ⟨h1, h2, h, h4⟩
  · exact ok.2 q (List.mem_cons_of_mem _ e)⟩
theorem mFok_pl {r : mF} {F : List mF} {p : Nat} (ok : mFok (r :: F)) (h : p < 600) : mFok (mFpl r p :: F) := ⟨ok.1, fun q hq => by
  rcases List.mem_cons.mp hq with e | e
  · rw [e]; obtain ⟨-, h1, h2, h3, h4⟩ := mFok_hd ok; exact ⟨h, h2, h3, h4⟩
  · exact ok.2 q (List.mem_cons_of_mem _ e)⟩
section
variable {E : zE} {d : Nat} {T M : zM} {Q : zO → zM → Prop} {r : mF} {F : List mF}
theorem fFT_i {a k : Nat} (h : 150 ≤ a ∧ a ≤ 163) : fFT a k := .inl h
/-- push of the twin -/
theorem tm_push {s v : Int32} (h : tFs T (r :: F)) (ok : mFok F) (g0 : F.length < 24) (g3 : r.st.length < 400) (g l : Int32) (hc : s = 8 → gi T 162 (400 * F.length + r.st.length) = g ∧ gi T 163 (400 * F.length + r.st.length) = l) (hQ : ∀ T', tFs T' (mFst r ((s, v, g, l) :: r.st) :: F) → fr fFT T T' → Q (.inl none) T') : Zm E YX8_push (d + 1) T [(0, T97), (1, vi s), (2, vi v)] 0 [] Q := by
  obtain ⟨n1, n2, n3, n4⟩ := tFs_nums h
  refine iX8_push_0 T _ _ ?_
  rw [n1]
  simp (disch := omega) only [n3, nn_add, nn_addl, nn_ladd, nn_mul, nn_lmul, nn_mull, nn_sub, nn_subl, nn_lsub, nn_lt, nn_le, nn_eq, nn_ltl, nn_llt, nn_lel, nn_lle, nn_eql, nn_leq, nn_m1, nn_1m, nn_ltm, nn_mlt, nn_mle, nn_lem, nn_cl, nn_in, nn_ns, nn_ns2, nn_nb, nn_nb2, nn_s1, nn_s2, nn_b1, nn_b2]
  exact ⟨by omega, by omega, hQ _ (tFs_push h ok (c := (s, v, g, l)) hc) (((fr.si (fFT_i (by omega))).tr (fr.si (fFT_i (by omega)))).tr (fr.si (fFT_i (by omega))))⟩
/-- gives of the twin: what was got comes in place of n values, and it goes on -/
theorem tm_gives {n : Nat} (h : tFs T (r :: F)) (ok : mFok (r :: F)) (h75 : gi T 97 75 = 0) (h73 : gi T 97 73 = 1) (hn : n ≤ r.st.length) (hs : ¬ gi T 97 111 = 8) (hQ : ∀ T', tFs T' (mFpl (mFst r ((gi T 97 111, gi T 97 112, 0, 0) :: r.st.drop n)) (r.pl + 1) :: F) → fr fFT T T' → Q (.inl none) T') : Zm E YX8_gives (d + 2) T [(0, T97), (1, vi (nI n))] 0 [] Q := by
  obtain ⟨n1, n2, n3, n4⟩ := tFs_nums h
  obtain ⟨g0, g1, g2, g3, -⟩ := mFok_hd ok
  have okF := mFok_tl ok
  refine iX8_gives_0 T _ ?_
  rw [h75, if_pos rfl, h73, if_pos rfl, n1]
  simp (disch := omega) only [n3, nn_add, nn_addl, nn_ladd, nn_mul, nn_lmul, nn_mull, nn_sub, nn_subl, nn_lsub, nn_lt, nn_le, nn_eq, nn_ltl, nn_llt, nn_lel, nn_lle, nn_eql, nn_leq, nn_m1, nn_1m, nn_ltm, nn_mlt, nn_mle, nn_lem, nn_cl, nn_in, nn_ns, nn_ns2, nn_nb, nn_nb2, nn_s1, nn_s2, nn_b1, nn_b2]
  refine ⟨by omega, ?_⟩
  have h1 := tFs_drop h okF n
  refine tm_push h1 okF g0 (by show (r.st.drop n).length < 400; rw [List.length_drop]; omega) 0 0 (fun q => absurd q hs) (fun T2 h2 f2 => ?_)
  show Zm E YX8_gives (d + 2) T2 [(0, T97)] 33 [] Q
  refine iX8_gives_33 T2 ?_
  obtain ⟨p1, p2, p3, p4⟩ := tFs_nums h2
  rw [p1]
  simp (disch := omega) only [nn_add, nn_addl, nn_ladd, nn_mul, nn_lmul, nn_mull, nn_sub, nn_subl, nn_lsub, nn_lt, nn_le, nn_eq, nn_ltl, nn_llt, nn_lel, nn_lle, nn_eql, nn_leq, nn_m1, nn_1m, nn_ltm, nn_mlt, nn_mle, nn_lem, nn_cl, nn_in, nn_ns, nn_ns2, nn_nb, nn_nb2, nn_s1, nn_s2, nn_b1, nn_b2]
  rw [p2, show (mFst (mFst r (r.st.drop n)) ((gi T 97 111, gi T 97 112, 0, 0) :: (mFst r (r.st.drop n)).st)).pl = r.pl from rfl]
  simp (disch := omega) only [nn_add, nn_addl, nn_ladd, nn_mul, nn_lmul, nn_mull, nn_sub, nn_subl, nn_lsub, nn_lt, nn_le, nn_eq, nn_ltl, nn_llt, nn_lel, nn_lle, nn_eql, nn_leq, nn_m1, nn_1m, nn_ltm, nn_mlt, nn_mle, nn_lem, nn_cl, nn_in, nn_ns, nn_ns2, nn_nb, nn_nb2, nn_s1, nn_s2, nn_b1, nn_b2]
  exact ⟨by omega, hQ _ (tFs_pl h2 okF (r.pl + 1)) (((fr.si (fFT_i (by omega))).tr f2).tr (fr.si (fFT_i (by omega))))⟩
theorem fFX_i {a k : Nat} (h : 53 ≤ a ∧ a ≤ 66) : fFX a k := .inl h
theorem fFX_38 : fFX 16 38 := .inr ⟨rfl, by omega⟩
/-- push of the component -/
theorem xm_push {ks : Nat} {v : Int32} (hw : cw M) (h : xFs M (r :: F)) (ok : mFok F) (g0 : F.length < 24) (g3 : r.st.length < 400) (hks : ks < 9) (g l : Int32) (hc : nI ks = 8 → gi M 56 (mtot F + r.st.length) = g ∧ gi M 55 (mtot F + r.st.length) = l) (hQ : ∀ M', xFs M' (mFst r ((nI ks, v, g, l) :: r.st) :: F) → fr fFX M M' → Q (.inl none) M') : Z E YX1_push d M [(0, zX16), (1, vi (nI ks)), (2, vi v)] 0 [] Q := by
  obtain ⟨n1, n2, n3, n4⟩ := xFs_nums h
  have ht := (mtot_le ok).1
  refine jX1_push M _ _ hw ?_
  simp (disch := omega) only [n3, nn_add, nn_addl, nn_ladd, nn_mul, nn_lmul, nn_mull, nn_sub, nn_subl, nn_lsub, nn_lt, nn_le, nn_eq, nn_ltl, nn_llt, nn_lel, nn_lle, nn_eql, nn_leq, nn_m1, nn_1m, nn_ltm, nn_mlt, nn_mle, nn_lem, nn_cl, nn_in, nn_ns, nn_ns2, nn_nb, nn_nb2, nn_s1, nn_s2, nn_b1, nn_b2]
  exact ⟨by omega, hQ _ (xFs_push h ok (c := (nI ks, v, g, l)) hc) (((fr.si (fFX_i (by omega))).tr (fr.si fFX_38)).tr (fr.si (fFX_i (by omega))))⟩
/-- leaves of the component: the result in place of n values -/
theorem xm_leaves {n ks : Nat} (hw : cw M) (h : xFs M (r :: F)) (ok : mFok F) (g0 : F.length < 24) (g3 : r.st.length < 400) (hn : n ≤ r.st.length) (hks : ks < 8) (h33 : gi M 16 33 = nI ks) (hQ : ∀ M', xFs M' (mFst r ((nI ks, gi M 16 32, 0, 0) :: r.st.drop n) :: F) → fr fFX M M' → Q (.inl none) M') : Z E YX1_leaves (d + 1) M [(0, zX16), (1, vi (nI n))] 0 [] Q := by
  obtain ⟨n1, n2, n3, n4⟩ := xFs_nums h
  have ht := (mtot_le ok).1
  refine jX1_leaves M _ hw ?_
  simp (disch := omega) only [n3, h33, nn_add, nn_addl, nn_ladd, nn_mul, nn_lmul, nn_mull, nn_sub, nn_subl, nn_lsub, nn_lt, nn_le, nn_eq, nn_ltl, nn_llt, nn_lel, nn_lle, nn_eql, nn_leq, nn_m1, nn_1m, nn_ltm, nn_mlt, nn_mle, nn_lem, nn_cl, nn_in, nn_ns, nn_ns2, nn_nb, nn_nb2, nn_s1, nn_s2, nn_b1, nn_b2]
  have h1 := xFs_drop h ok hn
  have h2 := xFs_push h1 ok (c := (nI ks, gi M 16 32, 0, 0)) (fun q => absurd q (by show ¬ nI ks = 8; rw [nn_eql (by omega) (by omega)]; omega))
  rw [show (mFst r (r.st.drop n)).st.length = r.st.length - n from List.length_drop, show mtot F + (r.st.length - n) = mtot F + r.st.length - n by omega] at h2
  exact ⟨by omega, hQ _ h2 ((((fr.si fFX_38).tr (fr.si (fFX_i (by omega)))).tr (fr.si fFX_38)).tr (fr.si (fFX_i (by omega))))⟩
end
