/-! THE MACHINE's MOVES: NEXT, RETURN -/
/-- the first property of a row that a list has still to give -/
def nx0 (A : mA) (o : Nat) (g : Int32) : List Nat → Option Nat
  | [] => none
  | q :: l => if gi (aT A) 148 q ≤ g then nx0 A o g l else if gi (aT A) 141 o = 2 then (if gi (aT A) 145 q = 0 then nx0 A o g l else some q) else some q
def nx1 (A : mA) (c : mC) : Option Nat → Int32
  | none => -1
  | some q => if c.2.2.2 < gi (aT A) 148 q then -1 else nI q
/-- the next property of a list; -1 -/
def m_nxt (A : mA) (c : mC) : Int32 := if c.2.1 = -1 then -1 else nx1 A c (nx0 A c.2.1.toNatClampNeg c.2.2.1 (aP A c.2.1.toNatClampNeg))
theorem nx0_mem {A : mA} {o : Nat} {g : Int32} : ∀ {l : List Nat} {q : Nat}, nx0 A o g l = some q → q ∈ l
  | [], _, h => by cases h
  | z :: l, q, h => by
    unfold nx0 at h
    by_cases h1 : gi (aT A) 148 z ≤ g
    · rw [if_pos h1] at h; exact List.mem_cons_of_mem _ (nx0_mem h)
    · rw [if_neg h1] at h
      by_cases h2 : gi (aT A) 141 o = 2
      · rw [if_pos h2] at h
        by_cases h3 : gi (aT A) 145 z = 0
        · rw [if_pos h3] at h; exact List.mem_cons_of_mem _ (nx0_mem h)
        · rw [if_neg h3] at h; cases h; exact List.mem_cons_self
      · rw [if_neg h2] at h; cases h; exact List.mem_cons_self
/-- what a list on the stack is -/
def mlist (A : mA) (c : mC) : Prop := c.1 = 8 ∧ (c.2.1 = -1 ∨ ∃ o, c.2.1 = nI o ∧ o < aO A)
theorem m_nxt_or {A : mA} {c : mC} (i : iA A) (hc : mlist A c) : m_nxt A c = -1 ∨ ∃ o q, c.2.1 = nI o ∧ o < aO A ∧ q ∈ aP A o ∧ q < 3000 ∧ m_nxt A c = nI q := by
  have hob := i.1.1.2
  rcases hc.2 with e | ⟨o, e, ho⟩
  · left; unfold m_nxt; rw [if_pos e]
  · unfold m_nxt
    rw [e, if_neg (by rw [nn_m1 (by omega)]; exact fun z => z), nn_cl (by omega)]
    cases hn : nx0 A o c.2.2.1 (aP A o) with
    | none => left; rfl
    | some q =>
      have hq := nx0_mem hn
      unfold nx1
      by_cases h1 : c.2.2.2 < gi (aT A) 148 q
      · left; exact if_pos h1
      · right; exact ⟨o, q, rfl, ho, hq, ((i.1.2.2 o ho).2.2.2.1 q hq).1, if_neg h1⟩
section
variable {E : zE} {d : Nat} {T M : zM} {Q : zO → zM → Prop} {A : mA} {r : mF} {F : List mF}
theorem xm_following {c : mC} {x : Nat} (s : sX M A) (i : iA A) (hx : x < 14500) (e54 : gi M 54 x = c.2.1) (e56 : gi M 56 x = c.2.2.1) (e55 : gi M 55 x = c.2.2.2) (hc : mlist A c) (hQ : Q (.inl (some (vi (m_nxt A c)))) M) : Z E YX1_following d M [(0, zX16), (1, vi (nI x))] 0 [] Q := by
  have hob := i.1.1.2
  refine iX1_following_0 M _ s.1 ?_
  rw [nn_cl (n := x) (by omega), e54]
  refine ⟨by rw [nn_in (by omega)]; omega, ?_⟩
  unfold m_nxt at hQ
  rcases hc.2 with e | ⟨o, e, ho⟩
  · rw [if_pos e] at hQ ⊢; exact hQ
  · have en : ¬ c.2.1 = -1 := by rw [e, nn_m1 (by omega)]; exact fun z => z
    rw [if_neg en] at hQ ⊢
    rw [e, nn_cl (n := o) (by omega)] at hQ ⊢
    refine ⟨by rw [nn_in (by omega)]; omega, ?_⟩
    rw [e] at e54
    have ch := hX_chn i.1 s.2.1 ho
    have hl : ∀ q ∈ aP A o, q < 3000 := fun q hq => ((i.1.2.2 o ho).2.2.2.1 q hq).1
    have hv : ∀ q ∈ aP A o, gi M 46 q = gi (aT A) 145 q ∧ gi M 50 q = gi (aT A) 148 q := fun q hq => by
      have := s.2.1.2.2.2 o ho q hq; exact ⟨this.1, this.2.2.2.2⟩
    have e38 : gi M 38 o = gi (aT A) 141 o := (s.2.1.2.2.1 o ho).1
    generalize aP A o = l at *
    generalize gi M 43 o = p at *
    have fin : ∀ q, q < 3000 → gi M 50 q = gi (aT A) 148 q → Q (.inl (some (vi (nx1 A c (some q))))) M → Z E YX1_following d M [(0, zX16), (1, vi (nI x)), (2, vi (nI q))] 78 [] Q := fun q h1 h2 h3 => by
      refine sX1_following_78 M _ _ s.1 ?_
      simp (disch := omega) only [h2, e55, nn_add, nn_addl, nn_ladd, nn_mul, nn_lmul, nn_mull, nn_sub, nn_subl, nn_lsub, nn_lt, nn_le, nn_eq, nn_ltl, nn_llt, nn_lel, nn_lle, nn_eql, nn_leq, nn_m1, nn_1m, nn_ltm, nn_mlt, nn_mle, nn_lem, nn_cl, nn_in, nn_ns, nn_ns2, nn_nb, nn_nb2, nn_s1, nn_s2, nn_b1, nn_b2]
      rw [if_neg (fun z => z)]
      refine ⟨by omega, by omega, ?_⟩
      replace h3 : Q (.inl (some (vi (if c.2.2.2 < gi (aT A) 148 q then -1 else nI q)))) M := h3
      by_cases hlt : c.2.2.2 < gi (aT A) 148 q
      · rw [if_pos hlt] at h3 ⊢; exact h3
      · rw [if_neg hlt] at h3 ⊢; exact h3
    induction l generalizing p with
    | nil =>
      have hp : p = -1 := ch
      subst hp
      refine iX1_following_24 M _ _ s.1 ?_
      rw [if_pos rfl]
      refine sX1_following_78 M _ _ s.1 ?_
      rw [if_pos rfl]
      exact hQ
    | cons q l ih =>
      obtain ⟨rfl, ch⟩ := ch
      have hq := hl q List.mem_cons_self
      obtain ⟨v1, v2⟩ := hv q List.mem_cons_self
      refine iX1_following_24 M _ _ s.1 ?_
      simp (disch := omega) only [v1, v2, e54, e56, e38, nn_add, nn_addl, nn_ladd, nn_mul, nn_lmul, nn_mull, nn_sub, nn_subl, nn_lsub, nn_lt, nn_le, nn_eq, nn_ltl, nn_llt, nn_lel, nn_lle, nn_eql, nn_leq, nn_m1, nn_1m, nn_ltm, nn_mlt, nn_mle, nn_lem, nn_cl, nn_in, nn_ns, nn_ns2, nn_nb, nn_nb2, nn_s1, nn_s2, nn_b1, nn_b2]
      rw [if_neg (fun z => z)]
      refine ⟨by omega, by omega, ?_⟩
      have ih' := fun h => ih h (fun z hz => hl z (List.mem_cons_of_mem _ hz)) (fun z hz => hv z (List.mem_cons_of_mem _ hz)) _ ch
      unfold nx0 at hQ
      by_cases h1 : gi (aT A) 148 q ≤ c.2.2.1
      · rw [if_pos h1] at hQ ⊢; exact ih' hQ
      · rw [if_neg h1] at hQ ⊢
        refine ⟨by omega, ?_⟩
        by_cases h2 : gi (aT A) 141 o = 2
        · rw [if_pos h2] at hQ ⊢
          by_cases h3 : gi (aT A) 145 q = 0
          · rw [if_pos h3] at hQ ⊢; exact ih' hQ
          · rw [if_neg h3] at hQ ⊢; exact fin q hq v2 hQ
        · rw [if_neg h2] at hQ ⊢; exact fin q hq v2 hQ
theorem tm_next {c : mC} {x : Nat} (s : sT T A) (i : iA A) (hx : x < 9600) (e54 : gi T 161 x = c.2.1) (e56 : gi T 162 x = c.2.2.1) (e55 : gi T 163 x = c.2.2.2) (hc : mlist A c) (hQ : Q (.inl (some (vi (m_nxt A c)))) T) : Zm E YX8_nextOf d T [(0, T97), (1, vi (nI x))] 0 [] Q := by
  have hob := i.1.1.2
  refine sX8_nextOf_0 T _ ?_
  rw [nn_cl (n := x) (by omega), e54]
  refine ⟨by rw [nn_in (by omega)]; omega, ?_⟩
  unfold m_nxt at hQ
  rcases hc.2 with e | ⟨o, e, ho⟩
  · rw [if_pos e] at hQ ⊢; exact hQ
  · have en : ¬ c.2.1 = -1 := by rw [e, nn_m1 (by omega)]; exact fun z => z
    rw [if_neg en] at hQ ⊢
    rw [e, nn_cl (n := o) (by omega)] at hQ ⊢
    refine ⟨by rw [nn_in (by omega)]; omega, ?_⟩
    have ch := ((sT_hT s i).2.2 o ho).1
    have hl : ∀ q ∈ aP A o, q < 3000 := fun q hq => ((i.1.2.2 o ho).2.2.2.1 q hq).1
    have hv : ∀ q, gi T 145 q = gi (aT A) 145 q ∧ gi T 148 q = gi (aT A) 148 q := fun q => ⟨s.1 145 q (by unfold hpT; omega), s.1 148 q (by unfold hpT; omega)⟩
    have e38 : gi T 141 o = gi (aT A) 141 o := s.1 141 o (by unfold hpT; omega)
    generalize aP A o = l at *
    generalize gi T 143 o = p at *
    have fin : ∀ q, q < 3000 → gi T 148 q = gi (aT A) 148 q → Q (.inl (some (vi (nx1 A c (some q))))) T → Zm E YX8_nextOf d T [(0, T97), (1, vi (nI x)), (3, vi (nI q))] 70 [] Q := fun q h1 h2 h3 => by
      refine sX8_nextOf_70 T _ _ ?_
      simp (disch := omega) only [h2, e55, nn_add, nn_addl, nn_ladd, nn_mul, nn_lmul, nn_mull, nn_sub, nn_subl, nn_lsub, nn_lt, nn_le, nn_eq, nn_ltl, nn_llt, nn_lel, nn_lle, nn_eql, nn_leq, nn_m1, nn_1m, nn_ltm, nn_mlt, nn_mle, nn_lem, nn_cl, nn_in, nn_ns, nn_ns2, nn_nb, nn_nb2, nn_s1, nn_s2, nn_b1, nn_b2]
      rw [if_neg (fun z => z)]
      refine ⟨by omega, by omega, ?_⟩
      replace h3 : Q (.inl (some (vi (if c.2.2.2 < gi (aT A) 148 q then -1 else nI q)))) T := h3
      by_cases hlt : c.2.2.2 < gi (aT A) 148 q
      · rw [if_pos hlt] at h3 ⊢; exact h3
      · rw [if_neg hlt] at h3 ⊢; exact h3
    induction l generalizing p with
    | nil =>
      have hp : p = -1 := ch
      subst hp
      refine iX8_nextOf_21 T _ _ _ ?_
      rw [if_pos rfl]
      refine sX8_nextOf_70 T _ _ ?_
      rw [if_pos rfl]
      exact hQ
    | cons q l ih =>
      obtain ⟨rfl, ch⟩ := ch
      have hq := hl q List.mem_cons_self
      obtain ⟨v1, v2⟩ := hv q
      refine iX8_nextOf_21 T _ _ _ ?_
      simp (disch := omega) only [v1, v2, e56, e38, nn_add, nn_addl, nn_ladd, nn_mul, nn_lmul, nn_mull, nn_sub, nn_subl, nn_lsub, nn_lt, nn_le, nn_eq, nn_ltl, nn_llt, nn_lel, nn_lle, nn_eql, nn_leq, nn_m1, nn_1m, nn_ltm, nn_mlt, nn_mle, nn_lem, nn_cl, nn_in, nn_ns, nn_ns2, nn_nb, nn_nb2, nn_s1, nn_s2, nn_b1, nn_b2]
      rw [if_neg (fun z => z)]
      refine ⟨by omega, by omega, ?_⟩
      have ih' := fun h => ih h (fun z hz => hl z (List.mem_cons_of_mem _ hz)) _ ch
      unfold nx0 at hQ
      by_cases h1 : gi (aT A) 148 q ≤ c.2.2.1
      · rw [if_pos h1] at hQ ⊢; exact ih' hQ
      · rw [if_neg h1] at hQ ⊢
        refine ⟨by omega, ?_⟩
        by_cases h2 : gi (aT A) 141 o = 2
        · rw [if_pos h2] at hQ ⊢
          by_cases h3 : gi (aT A) 145 q = 0
          · rw [if_pos h3] at hQ ⊢; exact ih' hQ
          · rw [if_neg h3] at hQ ⊢; exact fin q hq v2 hQ
        · rw [if_neg h2] at hQ ⊢; exact fin q hq v2 hQ
/-- NEXT: the frame then -/
def m_nf (A : mA) (r : mF) (c : mC) (st : List mC) (a : Nat) : mF :=
  if m_nxt A c = -1 then mFpl (mFst r st) a else mFst (mFpl r (r.pl + 1)) ((6, gi (aT A) 145 (m_nxt A c).toNatClampNeg, 0, 0) :: (8, c.2.1, gi (aT A) 148 (m_nxt A c).toNatClampNeg, c.2.2.2) :: st)
theorem xs_next {a : Nat} {c : mC} {st : List mC} (h : gX M A (r :: F)) (i : iA A) (ok : mFok (r :: F)) (hc : gi M 30 r.pl = 30) (ha : gi M 31 r.pl = nI a) (ha6 : a < 600) (hr : r.st = c :: st) (hm : mlist A c) (hQ : wX Q M A (m_nf A r c st a :: F)) : Z E YX1_step (d + 2) M [(0, zX16), (1, vi (nI r.pl))] 0 [] Q := by
  refine xs_moves h ok (by decide) hc ha (fun M1 g f e1 Q' k1 k2 => ?_)
  obtain ⟨n1, n2, n3, n4⟩ := xFs_nums g.2
  obtain ⟨g0, g1, -, g3, -⟩ := mFok_hd ok
  have ht := (mtot_le (mFok_tl ok)).1
  have hl : r.st.length = st.length + 1 := by rw [hr]; rfl
  have n3 : gi M1 16 38 = nI (mtot F + st.length + 1) := by rw [show mtot F + st.length + 1 = mtot F + r.st.length by omega]; exact n3
  have cl : cellX M1 (mtot F + st.length) c := by
    have := xFs_cell g.2 (i := 0) (c := c) (by show r.st[0]? = _; rw [hr]; rfl)
    rw [show mtot F + st.length = mtot F + ((mFpl r (r.pl + 1)).st.length - 1 - 0) by show _ = mtot F + (r.st.length - 1 - 0); omega]
    exact this
  obtain ⟨c53, c54, c5⟩ := cl
  obtain ⟨c56, c55⟩ := c5 hm.1
  rw [show nI (mtot F + r.st.length) - 1 = nI (mtot F + st.length) from by rw [hl]; exact nn_sub (a := mtot F + (st.length + 1)) (b := 1) (by omega)]
  refine sX1_moves_0 M1 _ _ _ _ g.1.1 ?_
  rw [nn_cl (n := r.pl) (by omega), e1]
  refine ⟨by rw [nn_in (by omega)]; omega, ?_⟩
  repeat rw [if_neg (by decide)]
  refine xm_following g.1 i (by omega) c54 c56 c55 hm ?_
  show Z E YX1_moves (d + 1) M1 [(0, zX16), (2, vi (nI a)), (3, vi (nI F.length)), (4, vi (nI (mtot F + st.length)))] 468 [vi (m_nxt A c)] Q'
  refine iX1_moves_468 M1 _ _ _ _ g.1.1 ?_
  unfold m_nf at hQ
  rcases m_nxt_or i hm with e | ⟨o, q, eo, ho, hq, hq3, e⟩
  · rw [if_pos e] at hQ ⊢
    rw [n3]
    simp (disch := omega) only [nn_add, nn_addl, nn_ladd, nn_mul, nn_lmul, nn_mull, nn_sub, nn_subl, nn_lsub, nn_lt, nn_le, nn_eq, nn_ltl, nn_llt, nn_lel, nn_lle, nn_eql, nn_leq, nn_m1, nn_1m, nn_ltm, nn_mlt, nn_mle, nn_lem, nn_cl, nn_in, nn_ns, nn_ns2, nn_nb, nn_nb2, nn_s1, nn_s2, nn_b1, nn_b2]
    have x := xFs_drop (n := 1) g.2 (mFok_tl ok) (by show 1 ≤ r.st.length; omega)
    rw [show (mFpl r (r.pl + 1)).st.drop 1 = st by show r.st.drop 1 = st; rw [hr]; rfl, show mtot F + (mFpl r (r.pl + 1)).st.length - 1 = mtot F + st.length + 1 - 1 by show mtot F + r.st.length - 1 = _; omega] at x
    obtain ⟨w, q⟩ := wX_fr (r' := mFpl (mFst r st) a) (wX_mono hQ f) g.1 (xFs_pl x (mFok_tl ok) a) ((fr.si fFX_38).tr (fr.si (fFX_i (by omega))))
    exact ⟨by omega, k1 _ w q⟩
  · have en : ¬ m_nxt A c = -1 := by rw [e, nn_m1 (by omega)]; exact fun z => z
    rw [if_neg en] at hQ ⊢
    rw [e, nn_cl (n := q) (by omega)] at hQ
    rw [e]
    have e50 : gi M1 50 q = gi (aT A) 148 q := (g.1.2.1.2.2.2 o ho q hq).2.2.2.2
    have e46 : gi M1 46 q = gi (aT A) 145 q := (g.1.2.1.2.2.2 o ho q hq).1
    rw [n3, show ((6 : Int32).toInt8.toInt32) = 6 from rfl, show vp_nar .byte (6 : Int32) = 6 from rfl]
    simp (disch := omega) only [e50, nn_add, nn_addl, nn_ladd, nn_mul, nn_lmul, nn_mull, nn_sub, nn_subl, nn_lsub, nn_lt, nn_le, nn_eq, nn_ltl, nn_llt, nn_lel, nn_lle, nn_eql, nn_leq, nn_m1, nn_1m, nn_ltm, nn_mlt, nn_mle, nn_lem, nn_cl, nn_in, nn_ns, nn_ns2, nn_nb, nn_nb2, nn_s1, nn_s2, nn_b1, nn_b2]
    have e46' : gi (si M1 56 (mtot F + st.length) (gi (aT A) 148 q)) 46 q = gi (aT A) 145 q := (gi_oth (by decide)).trans e46
    have x2 : xFs (si M1 56 (mtot F + st.length) (gi (aT A) 148 q)) (mFst (mFpl r (r.pl + 1)) ((8, c.2.1, gi (aT A) 148 q, c.2.2.2) :: st) :: F) := by
      refine xFs_repl g.2 (mFok_tl ok) hr (fun a k z => ?_) ⟨?_, ?_, fun _ => ⟨gi_self .., ?_⟩⟩
      · simp only [gi_si]
        grind
      · rw [gi_oth (by decide), c53]; exact hm.1
      · rw [gi_oth (by decide)]; exact c54
      · rw [gi_oth (by decide)]; exact c55
    have x3 := xFs_push x2 (mFok_tl ok) (c := (6, gi (aT A) 145 q, 0, 0)) (fun z => absurd z (show ¬ (6 : Int32) = 8 by decide))
    rw [show mtot F + (mFst (mFpl r (r.pl + 1)) ((8, c.2.1, gi (aT A) 148 q, c.2.2.2) :: st)).st.length = mtot F + st.length + 1 by show mtot F + (st.length + 1) = _; omega] at x3
    have f3 : fr fFX M1 (si (si (si (si M1 56 (mtot F + st.length) (gi (aT A) 148 q)) 53 (mtot F + st.length + 1) 6) 16 38 (nI (mtot F + st.length + 1 + 1))) 54 (mtot F + st.length + 1) (gi (aT A) 145 q)) := (((fr.si (fFX_i (by omega))).tr (fr.si (fFX_i (by omega)))).tr (fr.si fFX_38)).tr (fr.si (fFX_i (by omega)))
    obtain ⟨w, q'⟩ := wX_fr (wX_mono hQ f) g.1 x3 f3
    refine ⟨by omega, by omega, by omega, ?_⟩
    first
      | rw [e46]; exact k1 _ w q'
      | rw [e46']; exact k1 _ w q'
theorem ts_next {a : Nat} {c : mC} {st : List mC} (h : gT T A (r :: F)) (i : iA A) (ok : mFok (r :: F)) (hc : gi T 123 r.pl = 30) (ha : gi T 124 r.pl = nI a) (hr : r.st = c :: st) (hm : mlist A c) (hQ : wT Q T A (m_nf A r c st a :: F)) : Zm E YX8_step_2 (d + 4) T [(0, T97)] 0 [] Q := by
  refine ts_other h ok (by decide) hc ha (fun Q' k1 => tv_pre h ok hr (by decide) (by decide) (by decide) ?_)
  obtain ⟨n1, n2, n3, n4⟩ := tFs_nums h.2.1
  obtain ⟨g0, g1, -, g3, -⟩ := mFok_hd ok
  have hl : r.st.length = st.length + 1 := by rw [hr]; rfl
  have n3 : gi T 155 F.length = nI (st.length + 1) := by rw [← hl]; exact n3
  have cl : cellT T (400 * F.length + st.length) c := by
    have := tFs_cell h.2.1 (i := 0) (c := c) (by rw [hr]; rfl)
    rw [show 400 * F.length + st.length = 400 * F.length + (r.st.length - 1 - 0) by omega]
    exact this
  obtain ⟨c53, c54, c5⟩ := cl
  obtain ⟨c56, c55⟩ := c5 hm.1
  refine sX8_stepOther_55 T _ _ _ _ ?_
  repeat rw [if_neg (by decide)]
  refine iX8_goNext_0 T _ ?_
  rw [n1]
  simp (disch := omega) only [n3, nn_add, nn_addl, nn_ladd, nn_mul, nn_lmul, nn_mull, nn_sub, nn_subl, nn_lsub, nn_lt, nn_le, nn_eq, nn_ltl, nn_llt, nn_lel, nn_lle, nn_eql, nn_leq, nn_m1, nn_1m, nn_ltm, nn_mlt, nn_mle, nn_lem, nn_cl, nn_in, nn_ns, nn_ns2, nn_nb, nn_nb2, nn_s1, nn_s2, nn_b1, nn_b2]
  rw [show 400 * F.length + (st.length + 1) - 1 = 400 * F.length + st.length by omega]
  refine ⟨by omega, tm_next h.1 i (by omega) c54 c56 c55 hm ?_⟩
  show Zm E YX8_goNext (d + 2) T [(0, T97), (1, vi (nI a))] 10 [vi (m_nxt A c)] _
  refine iX8_goNext_10 T _ _ ?_
  unfold m_nf at hQ
  rcases m_nxt_or i hm with e | ⟨o, q, eo, ho, hq, hq3, e⟩
  · rw [if_pos e] at hQ ⊢
    rw [n1]
    simp (disch := omega) only [n3, nn_add, nn_addl, nn_ladd, nn_mul, nn_lmul, nn_mull, nn_sub, nn_subl, nn_lsub, nn_lt, nn_le, nn_eq, nn_ltl, nn_llt, nn_lel, nn_lle, nn_eql, nn_leq, nn_m1, nn_1m, nn_ltm, nn_mlt, nn_mle, nn_lem, nn_cl, nn_in, nn_ns, nn_ns2, nn_nb, nn_nb2, nn_s1, nn_s2, nn_b1, nn_b2]
    have x := tFs_drop h.2.1 (mFok_tl ok) 1
    rw [show r.st.drop 1 = st by rw [hr]; rfl, show r.st.length - 1 = st.length + 1 - 1 by omega] at x
    refine ⟨by omega, ?_⟩
    show Zm E YX8_stepOther (d + 3) _ [] 459 [] Q'
    exact sX8_stepOther_459 _ (k1 _ (wT_fr (r' := mFpl (mFst r st) a) hQ h (tFs_pl x (mFok_tl ok) a) ((fr.si (fFT_i (by omega))).tr (fr.si (fFT_i (by omega))))))
  · have en : ¬ m_nxt A c = -1 := by rw [e, nn_m1 (by omega)]; exact fun z => z
    rw [if_neg en] at hQ ⊢
    rw [e, nn_cl (n := q) (by omega)] at hQ
    rw [e]
    have e48 : gi T 148 q = gi (aT A) 148 q := h.1.1 148 q (by unfold hpT; omega)
    have e45 : gi T 145 q = gi (aT A) 145 q := h.1.1 145 q (by unfold hpT; omega)
    rw [n1]
    simp (disch := omega) only [n3, e48, e45, nn_add, nn_addl, nn_ladd, nn_mul, nn_lmul, nn_mull, nn_sub, nn_subl, nn_lsub, nn_lt, nn_le, nn_eq, nn_ltl, nn_llt, nn_lel, nn_lle, nn_eql, nn_leq, nn_m1, nn_1m, nn_ltm, nn_mlt, nn_mle, nn_lem, nn_cl, nn_in, nn_ns, nn_ns2, nn_nb, nn_nb2, nn_s1, nn_s2, nn_b1, nn_b2]
    rw [show 400 * F.length + (st.length + 1) - 1 = 400 * F.length + st.length by omega]
    have x2 : tFs (si T 162 (400 * F.length + st.length) (gi (aT A) 148 q)) (mFst r ((8, c.2.1, gi (aT A) 148 q, c.2.2.2) :: st) :: F) := by
      refine tFs_repl h.2.1 (mFok_tl ok) hr (fun a k z => ?_) ⟨?_, ?_, fun _ => ⟨gi_self .., ?_⟩⟩
      · simp only [gi_si]
        grind
      · rw [gi_oth (by decide), c53]; exact hm.1
      · rw [gi_oth (by decide)]; exact c54
      · rw [gi_oth (by decide)]; exact c55
    have f2 : fr fFT T (si T 162 (400 * F.length + st.length) (gi (aT A) 148 q)) := fr.si (fFT_i (by omega))
    refine ⟨by omega, by omega, by omega, tm_push x2 (mFok_tl ok) g0 (by show st.length + 1 < 400; omega) 0 0 (fun z => absurd z (by decide)) (fun T3 x3 f3 => ?_)⟩
    show Zm E YX8_goNext (d + 2) T3 [(0, T97)] 63 [] _
    refine iX8_goNext_63 T3 ?_
    obtain ⟨t1, t2, t3, t4⟩ := tFs_nums x3
    have t2 : gi T3 154 F.length = nI r.pl := t2
    rw [t1]
    simp (disch := omega) only [t2, nn_add, nn_addl, nn_ladd, nn_mul, nn_lmul, nn_mull, nn_sub, nn_subl, nn_lsub, nn_lt, nn_le, nn_eq, nn_ltl, nn_llt, nn_lel, nn_lle, nn_eql, nn_leq, nn_m1, nn_1m, nn_ltm, nn_mlt, nn_mle, nn_lem, nn_cl, nn_in, nn_ns, nn_ns2, nn_nb, nn_nb2, nn_s1, nn_s2, nn_b1, nn_b2]
    refine ⟨by omega, ?_⟩
    show Zm E YX8_stepOther (d + 3) _ [] 459 [] Q'
    exact sX8_stepOther_459 _ (k1 _ (wT_fr hQ h (tFs_pl x3 (mFok_tl ok) (r.pl + 1)) ((f2.tr f3).tr (fr.si (fFT_i (by omega))))))
/-- the machine's cells and its status -/
def cXr (a k : Nat) : Prop := cX a k ∨ a = 16 ∧ k = 51
/-- RETURN: what comes back -/
def m_ret (c : mC) (fresh : Int32) : mC := if fresh = -1 then (c.1, c.2.1, 0, 0) else if c.1 = 7 then (c.1, c.2.1, 0, 0) else (7, fresh, 0, 0)
theorem xs_ret {a : Int32} {c : mC} {st : List mC} (h : gX M A (r :: F)) (ok : mFok (r :: F)) (hc : gi M 30 r.pl = 25) (ha : gi M 31 r.pl = a) (hr : r.st = c :: st) (v1 : mval A c.1 c.2.1)
    (h0 : F = [] → ∀ M', sX M' A → xFs M' [] → gi M' 16 51 = 2 → fr cXr M M' → Q (.inl none) M')
    (h1 : ∀ r2 F2, F = r2 :: F2 → wX Q M A (mFst r2 (m_ret c r.1.2.2.2.2 :: r2.st) :: F2)) : Z E YX1_step (d + 3) M [(0, zX16), (1, vi (nI r.pl))] 0 [] Q := by
  refine xs_moves h ok (by decide) hc ha (fun M1 g f e1 Q' k1 k2 => ?_)
  obtain ⟨n1, n2, n3, n4⟩ := xFs_nums g.2
  obtain ⟨g0, g1, -, g3, -⟩ := mFok_hd ok
  have okF := mFok_tl ok
  have ht := (mtot_le okF).1
  have hl : 1 ≤ r.st.length := by rw [hr]; simp
  obtain ⟨a1, a2⟩ := x_cell g.2 (i := 0) (m := 1) (c := c) (by show r.st[0]? = _; rw [hr]; rfl) rfl
  have a1 : gi M1 53 (mtot F + r.st.length - 1) = c.1 := a1
  have a2 : gi M1 54 (mtot F + r.st.length - 1) = c.2.1 := a2
  obtain ⟨ks, ek, hks, -, -⟩ := id v1.1
  have b60 : gi M1 60 F.length = nI (mtot F) := g.2.2.1.2.2.2.1
  have b62 : gi M1 62 F.length = nI (mtt F) := g.2.2.1.2.2.1.1
  have b61 : gi M1 61 F.length = r.1.2.2.2.2 := g.2.2.1.1.2.2.2.2
  refine sX1_moves_0 M1 _ _ _ _ g.1.1 ?_
  rw [nn_cl (n := r.pl) (by omega), e1]
  refine ⟨by rw [nn_in (by omega)]; omega, ?_⟩
  repeat rw [if_neg (by decide)]
  rw [if_pos rfl]
  refine iX1_comeBack_0 M1 _ _ g.1.1 ?_
  rw [n1, show nI (mtot F + r.st.length) - 1 = nI (mtot F + r.st.length - 1) from nn_subl (by omega), nn_cl (n := F.length) (by omega), nn_cl (n := mtot F + r.st.length - 1) (by omega), b60, b62, b61, a1, a2, nn_cl (n := mtot F) (by omega)]
  refine ⟨by rw [nn_in (by omega)]; omega, by rw [nn_in (by omega)]; omega, ?_⟩
  cases F with
  | nil =>
    have q : Q' (.inl none) (si (si (si (si M1 16 38 (nI (mtot []))) 16 50 (nI (mtt []))) 16 49 (nI 0)) 16 51 2) := by
      have f2 : fr (fun a k => fFX a k ∨ a = 16 ∧ k = 51) M1 (si (si (si (si M1 16 38 (nI (mtot []))) 16 50 (nI (mtt []))) 16 49 (nI 0)) 16 51 2) := (((fr.si (by unfold fFX; omega)).tr (fr.si (by unfold fFX; omega))).tr (fr.si (by unfold fFX; omega))).tr (fr.si (by unfold fFX; omega))
      have s2 := sX_cg g.1 f2 (fun a k q => .inr (q.elim .inl (fun q => .inr (by omega))))
      refine k1 _ s2.1 (h0 rfl _ s2 ⟨⟨?_, ?_, ?_⟩, trivial⟩ (gi_self ..) ((f.mono fun a k q => .inl q).tr (f2.mono fun a k q => q.elim (fun q => .inl (by unfold cX; exact .inr (.inr (.inr (.inl (.inl q)))))) .inr)))
      · rw [gi_idx (by decide)]; exact gi_self ..
      · rw [gi_idx (by decide), gi_idx (by decide), gi_idx (by decide)]; exact gi_self ..
      · rw [gi_idx (by decide), gi_idx (by decide)]; exact gi_self ..
    have e0 : nI ([] : List mF).length = 0 := rfl
    rw [if_pos e0]
    by_cases h61 : r.1.2.2.2.2 = -1
    · rw [if_pos h61]; exact iX1_moves_324 _ (sX_cg g.1 (P := fUX) ((((fr.si (by unfold fUX fFX; omega)).tr (fr.si (by unfold fUX fFX; omega))).tr (fr.si (by unfold fUX fFX; omega))).tr (fr.si (by unfold fUX fFX; omega))) (fun a k q => .inr q)).1 q
    · rw [if_neg h61, if_pos e0]
      by_cases h7 : c.1 = 7
      · rw [if_pos h7]; exact iX1_moves_324 _ (sX_cg g.1 (P := fUX) ((((fr.si (by unfold fUX fFX; omega)).tr (fr.si (by unfold fUX fFX; omega))).tr (fr.si (by unfold fUX fFX; omega))).tr (fr.si (by unfold fUX fFX; omega))) (fun a k q => .inr q)).1 q
      · rw [if_neg h7]; exact iX1_moves_324 _ (sX_cg g.1 (P := fUX) ((((fr.si (by unfold fUX fFX; omega)).tr (fr.si (by unfold fUX fFX; omega))).tr (fr.si (by unfold fUX fFX; omega))).tr (fr.si (by unfold fUX fFX; omega))) (fun a k q => .inr q)).1 q
  | cons r2 F2 =>
    have hQ := wX_mono (h1 r2 F2 rfl) f
    have e0 : ¬ nI (r2 :: F2).length = 0 := by rw [nn_eql (by omega) (by omega)]; exact Nat.succ_ne_zero _
    have f1 : fr fFX M1 (si (si (si M1 16 38 (nI (mtot (r2 :: F2)))) 16 50 (nI (mtt (r2 :: F2)))) 16 49 (nI (r2 :: F2).length)) := ((fr.si fFX_38).tr (fr.si (by unfold fFX; omega))).tr (fr.si (by unfold fFX; omega))
    have x1 : xFs (si (si (si M1 16 38 (nI (mtot (r2 :: F2)))) 16 50 (nI (mtt (r2 :: F2)))) 16 49 (nI (r2 :: F2).length)) (r2 :: F2) := by
      refine ⟨⟨gi_self .., ?_, ?_⟩, xFr_lo okF (fun a k z => ?_) g.2.2.2⟩
      · rw [gi_idx (by decide), gi_idx (by decide)]; exact gi_self ..
      · rw [gi_idx (by decide)]; exact gi_self ..
      · rw [gi_oth (by unfold loX at z; omega), gi_oth (by unfold loX at z; omega), gi_oth (by unfold loX at z; omega)]
    have em : mtot (r2 :: F2) = mtot F2 + r2.st.length := by rw [mtot_c]; omega
    have push : ∀ s v ks, s = nI ks → ks < 8 → m_ret c r.1.2.2.2.2 = (s, v, 0, 0) → Z E YX1_moves (d + 2) (si (si (si (si (si (si M1 16 38 (nI (mtot (r2 :: F2)))) 16 50 (nI (mtt (r2 :: F2)))) 16 49 (nI (r2 :: F2).length)) 53 (mtot (r2 :: F2)) (vp_nar .byte s.toInt8.toInt32)) 16 38 (nI (mtot (r2 :: F2)) + 1)) 54 (mtot (r2 :: F2)) v) [] 324 [] Q' := fun s v ks es hs em' => by
      rw [em', es] at hQ
      rw [es]
      simp (disch := omega) only [nn_add, nn_addl, nn_ladd, nn_mul, nn_lmul, nn_mull, nn_sub, nn_subl, nn_lsub, nn_lt, nn_le, nn_eq, nn_ltl, nn_llt, nn_lel, nn_lle, nn_eql, nn_leq, nn_m1, nn_1m, nn_ltm, nn_mlt, nn_mle, nn_lem, nn_cl, nn_in, nn_ns, nn_ns2, nn_nb, nn_nb2, nn_s1, nn_s2, nn_b1, nn_b2]
      have x2 := xFs_push x1 (mFok_tl okF) (c := (nI ks, v, 0, 0)) (fun q => absurd q (by show ¬ nI ks = 8; rw [nn_eql (by omega) (by omega)]; omega))
      rw [← em] at x2
      obtain ⟨w, q⟩ := wX_fr hQ g.1 x2 (((f1.tr (fr.si (fFX_i (by omega)))).tr (fr.si fFX_38)).tr (fr.si (fFX_i (by omega))))
      exact iX1_moves_324 _ w (k1 _ w q)
    have hin : vp_in (nI (mtot (r2 :: F2))) 14500 := by rw [nn_in (by omega)]; omega
    rw [if_neg e0]
    by_cases h61 : r.1.2.2.2.2 = -1
    · rw [if_pos h61]
      exact ⟨hin, push _ _ ks ek hks (by unfold m_ret; rw [if_pos h61])⟩
    · rw [if_neg h61, if_neg e0]
      by_cases h7 : c.1 = 7
      · rw [if_pos h7]
        exact ⟨hin, push _ _ ks ek hks (by unfold m_ret; rw [if_neg h61, if_pos h7])⟩
      · rw [if_neg h7]
        exact ⟨hin, push _ _ 7 rfl (by omega) (by unfold m_ret; rw [if_neg h61, if_neg h7])⟩
theorem ts_ret {a : Int32} {c : mC} {st : List mC} (h : gT T A (r :: F)) (ok : mFok (r :: F)) (hc : gi T 123 r.pl = 25) (ha : gi T 124 r.pl = a) (hr : r.st = c :: st) (v1 : mval A c.1 c.2.1)
    (h0 : F = [] → ∀ T', sT T' A → tFs T' [] → gi T' 97 75 = 0 → gi T' 97 73 = 2 → fr cT T T' → Q (.inl none) T')
    (h1 : ∀ r2 F2, F = r2 :: F2 → wT Q T A (mFst r2 (m_ret c r.1.2.2.2.2 :: r2.st) :: F2)) : Zm E YX8_step_2 (d + 4) T [(0, T97)] 0 [] Q := by
  refine ts_other h ok (by decide) hc ha (fun Q' k1 => tv_pre h ok hr (by decide) (by decide) (by decide) ?_)
  obtain ⟨n1, n2, n3, n4⟩ := tFs_nums h.2.1
  obtain ⟨g0, g1, -, g3, -⟩ := mFok_hd ok
  have okF := mFok_tl ok
  have b156 : gi T 156 F.length = r.1.2.2.2.2 := h.2.1.2.1.1.2.2.2.2
  refine sX8_stepOther_55 T _ _ _ _ ?_
  repeat rw [if_neg (by decide)]
  rw [if_pos rfl]
  refine sX8_goBack_0 T _ _ ?_
  rw [n1, nn_cl (n := F.length) (by omega), b156]
  refine ⟨by rw [nn_in (by omega)]; omega, ?_⟩
  cases F with
  | nil =>
    have e0 : nI ([] : List mF).length = 0 := rfl
    rw [if_pos e0]
    have f2 : fr fUT T (si (si T 97 92 (nI ([] : List mF).length)) 97 73 2) := (fr.si (by unfold fUT fFT; omega)).tr (fr.si (by unfold fUT fFT; omega))
    refine iX8_stepOther_308 _ (k1 _ (h0 rfl _ (sT_cg h.1 f2 (fun a k q => .inr (.inl q))) ⟨?_, trivial⟩ ((f2.2 97 75 (by unfold fUT fFT; omega)).1.trans h.2.2.1) (gi_self ..) (f2.mono fun a k q => by unfold cT; exact .inr (.inr (.inr (.inl q))))))
    rw [gi_idx (by decide)]; exact gi_self ..
  | cons r2 F2 =>
    have hQ := h1 r2 F2 rfl
    have e0 : ¬ nI (r2 :: F2).length = 0 := by rw [nn_eql (by omega) (by omega)]; exact Nat.succ_ne_zero _
    rw [if_neg e0]
    have f1 : fr fFT T (si T 97 92 (nI (r2 :: F2).length)) := fr.si (by unfold fFT; omega)
    have x1 : tFs (si T 97 92 (nI (r2 :: F2).length)) (r2 :: F2) := ⟨gi_self .., tFr_lo okF (fun a k z => gi_oth (by unfold loT at z; omega)) h.2.1.2.2⟩
    obtain ⟨k0, k1', k2, k3, -⟩ := mFok_hd okF
    have push : ∀ s v (Q2 : zO → zM → Prop), ¬ s = 8 → m_ret c r.1.2.2.2.2 = (s, v, 0, 0) → (∀ T', Q (.inl none) T' → Q2 (.inl none) T') → Zm E YX8_push (d + 1) (si T 97 92 (nI (r2 :: F2).length)) [(0, T97), (1, vi s), (2, vi v)] 0 [] Q2 := fun s v Q2 hs8 em' kk => by
      rw [em'] at hQ
      exact tm_push x1 (mFok_tl okF) k0 (by omega) 0 0 (fun z => absurd z hs8) (fun T2 x2 f2 => kk _ (wT_fr hQ h x2 (f1.tr f2)))
    by_cases h61 : r.1.2.2.2.2 = -1
    · rw [if_pos h61]
      refine push _ _ _ (mval_8 v1.1) (by unfold m_ret; rw [if_pos h61]) (fun T' q => ?_)
      show Zm E YX8_goBack (d + 2) T' [] 62 [] _
      exact sX8_goBack_62 T' (iX8_stepOther_308 _ (k1 _ q))
    · rw [if_neg h61]
      by_cases h7 : c.1 = 7
      · rw [if_pos h7]
        refine push _ _ _ (mval_8 v1.1) (by unfold m_ret; rw [if_neg h61, if_pos h7]) (fun T' q => ?_)
        show Zm E YX8_goBack (d + 2) T' [] 62 [] _
        exact sX8_goBack_62 T' (iX8_stepOther_308 _ (k1 _ q))
      · rw [if_neg h7]
        refine push _ _ _ (by decide) (by unfold m_ret; rw [if_neg h61, if_neg h7]) (fun T' q => ?_)
        show Zm E YX8_goBack (d + 2) T' [] 53 [] _
        exact iX8_goBack_53 T' (iX8_stepOther_308 _ (k1 _ q))
end
