/-! CALL and NEW of the twin -/
section
variable {E : zE} {d : Nat} {T M : zM} {Q : zO → zM → Prop} {A : mA} {r : mF} {F : List mF} {G : mG} {P : List Nat}
def entT (Q : zO → zM → Prop) (T : zM) (A : mA) (f g : Nat) (q : Nat × Nat × List Nat × Int32) (ts tv md : Int32) (as : List mC) (n : Nat) (r : mF) (F : List mF) : Prop :=
  (F.length + 1 = 24 → vT Q T (m_err A 2) n r F) ∧
  (F.length + 1 < 24 → ∀ A' T', m_ent A f g q as = (false, A') → nT T' A' r F → fr cT T T' → Q (.inl none) T') ∧
  (F.length + 1 < 24 → ∀ A' T', m_ent A f g q as = (true, A') → gT T' A' (((nI g, nI (aO A), ts, tv, md), q.1, [], []) :: mFst (mFpl r (r.pl + 1)) (r.st.drop n) :: F) → fr cT T T' → Q (.inl none) T')
def cTP (a k : Nat) : Prop := cT a k ∨ a = 164 ∨ a = 97 ∧ k = 107
def endT (Q : zO → zM → Prop) (T : zM) (A : mA) (G : mG) (P : List Nat) (n : Nat) (r : mF) (F : List mF) : Option (Nat × Int32 × Int32 × List mC) → Prop
  | none => vT Q T (m_err A 0) n r F
  | some (f, ts, tv, as) =>
    (f = 9 → (a_text A (m_a0 as).1 (m_a0 as).2 = none → vT Q T (2, A, 0, 0) n r F) ∧ ∀ k A' T', a_text A (m_a0 as).1 (m_a0 as).2 = some (k, A') → gT T' A' (mFpl (mFst r ((0, 0, 0, 0) :: r.st.drop n)) (r.pl + 1) :: F) → tLn T' (m_prt P k) → fr cTP T T' → Q (.inl none) T') ∧
    (f < 23 → ¬ f = 9 → vT Q T (m_nat A f ts tv as) n r F) ∧
    (23 ≤ f → ∀ g q, gi (aT A) 142 f = nI g → G[g]? = some q → entT Q T A f g q ts tv (-1) as n r F)
theorem entT_mono {T1 : zM} {f g n : Nat} {q : Nat × Nat × List Nat × Int32} {ts tv md : Int32} {as : List mC} (h : entT Q T A f g q ts tv md as n r F) (f1 : fr cT T T1) : entT Q T1 A f g q ts tv md as n r F :=
  ⟨fun z => vT_mono (h.1 z) f1, fun z A' T' e g f' => h.2.1 z A' T' e g (f1.tr f'), fun z A' T' e g f' => h.2.2 z A' T' e g (f1.tr f')⟩
theorem endT_mono {T1 : zM} {n : Nat} {x : Option (Nat × Int32 × Int32 × List mC)} (h : endT Q T A G P n r F x) (f1 : fr cT T T1) : endT Q T1 A G P n r F x := by
  cases x with
  | none => exact vT_mono (p := m_err A 0) h f1
  | some y =>
    obtain ⟨f, ts, tv, as⟩ := y
    obtain ⟨h1, h2, h3⟩ := h
    exact ⟨fun e => ⟨fun z => vT_mono ((h1 e).1 z) f1, fun k A' T' z g p f' => (h1 e).2 k A' T' z g p ((f1.mono fun a k q => .inl q).tr f')⟩, fun e e9 => vT_mono (h2 e e9) f1, fun e g q c hg => entT_mono (h3 e g q c hg) f1⟩
theorem entT_out {Q' : zO → zM → Prop} {f g n : Nat} {q : Nat × Nat × List Nat × Int32} {ts tv md : Int32} {as : List mC} (h : entT Q T A f g q ts tv md as n r F) (k : ∀ T', Q (.inl none) T' → Q' (.inl none) T') : entT Q' T A f g q ts tv md as n r F :=
  ⟨fun z => vT_out (h.1 z) k, fun z A' T' e g f' => k _ (h.2.1 z A' T' e g f'), fun z A' T' e g f' => k _ (h.2.2 z A' T' e g f')⟩
theorem endT_out {Q' : zO → zM → Prop} {n : Nat} {x : Option (Nat × Int32 × Int32 × List mC)} (h : endT Q T A G P n r F x) (k : ∀ T', Q (.inl none) T' → Q' (.inl none) T') : endT Q' T A G P n r F x := by
  cases x with
  | none => exact vT_out (p := m_err A 0) h k
  | some y =>
    obtain ⟨f, ts, tv, as⟩ := y
    obtain ⟨h1, h2, h3⟩ := h
    exact ⟨fun e => ⟨fun z => vT_out ((h1 e).1 z) k, fun j A' T' z g p f' => k _ ((h1 e).2 j A' T' z g p f')⟩, fun e e9 => vT_out (h2 e e9) k, fun e g q c hg => entT_out (h3 e g q c hg) k⟩
theorem tLn_cT {T1 : zM} (h : tLn T P) (f : fr cT T T1) : tLn T1 P :=
  ⟨(f.2 97 107 (by unfold cT hpT stT scr fUT fFT; omega)).1.trans h.1, h.2.1, fun k x hk => (f.2 164 k (by unfold cT hpT stT scr fUT fFT; omega)).1.trans (h.2.2 k x hk)⟩
/-- a closure is called -/
theorem tm_callC {f g n src : Nat} {q : Nat × Nat × List Nat × Int32} {ts tv md : Int32} {as : List mC} (h : gT T A (r :: F)) (i : iA A) (ok : mFok (r :: F)) (hh : mTh (r :: F)) (hpl : r.pl + 1 < 600) (hG : tG T G) (wg : wG G (aL A).length) (hg : G[g]? = some q) (hg1 : 1 ≤ g) (hn : n ≤ r.st.length) (e114 : gi T 97 114 = nI src) (e115 : gi T 97 115 = nI as.length) (hs : src + as.length ≤ 9600) (ha : ∀ k c, as[k]? = some c → gi T 160 (src + k) = c.1 ∧ gi T 161 (src + k) = c.2.1) (hv : ∀ c ∈ as, mval A c.1 c.2.1) (hf : f < aO A) (hf1 : gi (aT A) 141 f = 1) (hfc : gi (aT A) 142 f = nI g) (hf23 : 23 ≤ f) (hQ : entT Q T A f g q ts tv md as n r F) :
    Zm E YX8_callOf (d + 5) T [(0, T97), (1, vi 7), (2, vi (nI f)), (3, vi ts), (4, vi tv), (5, vi (nI n)), (6, vi md)] 0 [] Q := by
  have hob := i.1.1.2
  obtain ⟨g0, -⟩ := mFok_hd ok
  have e92 : gi T 97 92 = nI (F.length + 1) := h.2.1.1
  refine iX8_callOf_0 T _ _ _ _ _ _ ?_
  rw [if_pos rfl, nn_cl (n := f) (by omega), h.1.1 141 f (by unfold hpT; omega), if_pos hf1, e92]
  refine ⟨by rw [nn_in (by omega)]; omega, ?_⟩
  rw [if_neg (by rw [nn_ltl (by omega) (by omega)]; omega), if_pos (by rw [nn_lle (by omega) (by omega)]; omega)]
  obtain ⟨e1, e2, e3⟩ := hQ
  by_cases c24 : F.length + 1 = 24
  · rw [if_pos (by rw [c24]; rfl)]
    exact vT_err (d := d + 1) (m := 2) (vT_out (e1 c24) (fun T' q => iX8_callOf_85 T' q)) rfl h i ok hh (by omega)
  · rw [if_neg (by rw [nn_eql (by omega) (by omega)]; exact c24)]
    have l24 : F.length + 1 < 24 := by omega
    refine tm_enter (d := d + 2) h i ok hG wg hg hg1 hf hf1 hfc l24 hpl hn rfl e114 e115 hs ha hv (fun A' T' e s' x75 f' => ?_) (fun A' T' e g' f' => ?_)
    · show Zm E YX8_callOf (d + 5) T' [] 100 [] Q
      exact sX8_callOf_100 T' (e2 l24 A' T' e ⟨s', tFs_cg h.2.1 ok f' (fun a k q => q.elim (fun q => .inr (.inr (.inl q))) (fun q => .inr (.inr (.inr q)))), x75, (f'.2 97 73 (by unfold hnT hpT; omega)).1.trans h.2.2.2⟩ (fr_hnT f'))
    · show Zm E YX8_callOf (d + 5) T' [] 100 [] Q
      exact sX8_callOf_100 T' (e3 l24 A' T' e g' f')
/-- what is called is no call itself -/
theorem tm_call1 {f n src : Nat} {ts tv : Int32} {as : List mC} (h : gT T A (r :: F)) (i : iA A) (hiL : iL A) (h0 : m_l0 A) (c : iC A G) (ok : mFok (r :: F)) (hh : mTh (r :: F)) (hpl : r.pl + 1 < 600) (hG : tG T G) (wg : wG G (aL A).length) (hp : tLn T P) (hn : n ≤ r.st.length) (e114 : gi T 97 114 = nI src) (e115 : gi T 97 115 = nI as.length) (hs : src + as.length ≤ 9600) (hl : as.length ≤ 390) (ha : ∀ k c, as[k]? = some c → gi T 160 (src + k) = c.1 ∧ gi T 161 (src + k) = c.2.1) (hv : ∀ c ∈ as, mval A c.1 c.2.1) (htv : mval A ts tv) (hf : f < aO A) (hf1 : gi (aT A) 141 f = 1) (hf20 : ¬ f = 20) (hQ : endT Q T A G P n r F (some (f, ts, tv, as))) :
    Zm E YX8_callOf (d + 7) T [(0, T97), (1, vi 7), (2, vi (nI f)), (3, vi ts), (4, vi tv), (5, vi (nI n)), (6, vi (-1))] 0 [] Q := by
  have hob := i.1.1.2
  obtain ⟨q9, qn, qe⟩ := hQ
  rcases c.2 f hf hf1 with ⟨c1, c2, c3, c4⟩ | ⟨c1, c2, ⟨g, q, hg, hg1, c3⟩, c4, c5⟩
  · refine iX8_callOf_0 T _ _ _ _ _ _ ?_
    rw [if_pos rfl, nn_cl (n := f) (by omega), h.1.1 141 f (by unfold hpT; omega), if_pos hf1, h.1.1 142 f (by unfold hpT; omega), c3]
    refine ⟨by rw [nn_in (by omega)]; omega, ?_⟩
    rw [if_neg (by rw [nn_ltl (by omega) (by omega)]; omega), if_neg (by rw [nn_lle (by omega) (by omega)]; omega), if_pos rfl, if_neg (by rw [nn_eql (by omega) (by omega)]; exact hf20)]
    by_cases e9 : f = 9
    · subst e9
      obtain ⟨p2, p1⟩ := q9 rfl
      refine tn_0 (d := d + 5) e114 e115 hs ha ?_
      refine tn_9 (d := d + 2) h i ok hn hp (m_a0_ok hv) (fun e T' x f' => ?_) (fun k A' T' e g' x' f' => ?_)
      · show Zm E YX8_callOf (d + 7) T' [] 67 [] Q
        exact iX8_callOf_67 T' (vT_n (p2 e) rfl x f')
      · show Zm E YX8_callOf (d + 7) T' [] 67 [] Q
        exact iX8_callOf_67 T' (p1 k A' T' e g' x' f')
    · exact tm_nat h i hiL h0 c.1 ok hh hn (by omega) c2 hf20 e114 e115 hs (by omega) ha hv htv (vT_out (qn c2 e9) (fun T' q => iX8_callOf_67 T' q))
  · exact tm_callC (d := d + 2) h i ok hh hpl hG wg hg hg1 hn e114 e115 hs ha hv hf hf1 c3 c1 (qe c1 g q c3 hg)
theorem tm_err0 {n : Nat} {l1 l2 l3 l4 l5 l6 : Int32} (h : gT T A (r :: F)) (i : iA A) (ok : mFok (r :: F)) (hh : mTh (r :: F)) (hn : ¬ (l1 = 7 ∧ gi (aT A) 141 l2.toNatClampNeg = 1)) (hv : mval A l1 l2) (hQ : vT Q T (m_err A 0) n r F) : Zm E YX8_callOf (d + 5) T [(0, T97), (1, vi l1), (2, vi l2), (3, vi l3), (4, vi l4), (5, vi l5), (6, vi l6)] 0 [] Q := by
  have hob := i.1.1.2
  have go : Zm E YX8_error (d + 4) T (zargs 0 [T97, vi 6]) 0 [] (zma E YX8_callOf (d + 5) [] 12 3 [] Q) := vT_err (d := d + 1) (m := 0) (vT_out hQ (fun T' q => iX8_callOf_15 T' q)) rfl h i ok hh (by omega)
  refine iX8_callOf_0 T _ _ _ _ _ _ ?_
  by_cases c7 : l1 = 7
  · rw [if_pos c7]
    obtain ⟨kk, ek, hkk, -, k7⟩ := hv.1
    obtain ⟨j, ej, hj⟩ := k7 (by rw [ek] at c7; simp (disch := omega) only [nn_add, nn_addl, nn_ladd, nn_mul, nn_lmul, nn_mull, nn_sub, nn_subl, nn_lsub, nn_lt, nn_le, nn_eq, nn_ltl, nn_llt, nn_lel, nn_lle, nn_eql, nn_leq, nn_m1, nn_1m, nn_ltm, nn_mlt, nn_mle, nn_lem, nn_cl, nn_in, nn_ns, nn_ns2, nn_nb, nn_nb2, nn_s1, nn_s2, nn_b1, nn_b2] at c7; exact c7)
    rw [ej, nn_cl (n := j) (by omega)] at hn
    rw [ej, nn_cl (n := j) (by omega), h.1.1 141 j (by unfold hpT; omega), if_neg (fun z => hn ⟨c7, z⟩)]
    exact ⟨by rw [nn_in (by omega)]; omega, go⟩
  · rw [if_neg c7]; exact go
theorem tm_call2 {n : Nat} (i : iA A) (hiL : iL A) (h0 : m_l0 A) (c : iC A G) (ok : mFok (r :: F)) (hh : mTh (r :: F)) (hpl : r.pl + 1 < 600) (wg : wG G (aL A).length) (hn : n ≤ r.st.length) :
    ∀ (as : List mC) (Q : zO → zM → Prop) (f src : Nat) (ts tv : Int32) (T : zM), gT T A (r :: F) → tG T G → tLn T P → gi T 97 114 = nI src → gi T 97 115 = nI as.length → src + as.length ≤ 9600 → as.length ≤ 390 → (∀ k c, as[k]? = some c → gi T 160 (src + k) = c.1 ∧ gi T 161 (src + k) = c.2.1) → (∀ c ∈ as, mval A c.1 c.2.1) → mval A ts tv → f < aO A → gi (aT A) 141 f = 1 → endT Q T A G P n r F (m_cl A as f ts tv) → Zm E YX8_callOf (d + 2 * as.length + 14) T [(0, T97), (1, vi 7), (2, vi (nI f)), (3, vi ts), (4, vi tv), (5, vi (nI n)), (6, vi (-1))] 0 [] Q := by
  have hob := i.1.1.2
  have h23 := c.1
  intro as
  induction as with
  | nil =>
    intro Q f src ts tv T h hG hp e114 e115 hs hl ha hv htv hf hf1 hQ
    unfold m_cl at hQ
    show Zm E YX8_callOf (d + 14) T _ 0 [] Q
    by_cases f20 : f = 20
    · subst f20
      rw [if_pos rfl] at hQ
      rcases c.2 20 hf hf1 with ⟨-, -, c3, -⟩ | ⟨c1, -⟩
      · have e142 : gi T 142 20 = 0 := (h.1.1 142 20 (by unfold hpT; omega)).trans c3
        refine iX8_callOf_0 T _ _ _ _ _ _ ?_
        rw [if_pos rfl, nn_cl (n := 20) (by omega), h.1.1 141 20 (by unfold hpT; omega), if_pos hf1, e142]
        refine ⟨by rw [nn_in (by omega)]; omega, ?_⟩
        rw [if_neg (by decide), if_neg (by decide), if_pos rfl, if_pos (by decide)]
        have e115' : gi T 97 115 = nI 0 := e115
        have up : ∀ T', Q (.inl none) T' → zma E YX8_callAgain (d + 13) [] 50 3 [] (zma E YX8_callOf (d + 14) [] 51 3 [] Q) (.inl none) T' := fun T' q => by
          show Zm E YX8_callAgain (d + 13) T' [] 53 [] _
          exact sX8_callAgain_53 T' (iX8_callOf_54 T' q)
        refine iX8_callAgain_0 T _ _ _ ?_
        rw [e115', if_pos (by decide), if_pos (by decide)]
        by_cases cf : ts = 7 ∧ gi (aT A) 141 tv.toNatClampNeg = 1
        · rw [if_pos cf] at hQ
          obtain ⟨kk, ek, hkk, -, k7⟩ := htv.1
          obtain ⟨j, ej, hj⟩ := k7 (by have := cf.1; rw [ek] at this; simp (disch := omega) only [nn_add, nn_addl, nn_ladd, nn_mul, nn_lmul, nn_mull, nn_sub, nn_subl, nn_lsub, nn_lt, nn_le, nn_eq, nn_ltl, nn_llt, nn_lel, nn_lle, nn_eql, nn_leq, nn_m1, nn_1m, nn_ltm, nn_mlt, nn_mle, nn_lem, nn_cl, nn_in, nn_ns, nn_ns2, nn_nb, nn_nb2, nn_s1, nn_s2, nn_b1, nn_b2] at this; exact this)
          have cf2 := cf.2
          rw [ej, nn_cl (n := j) (by omega)] at cf2 hQ
          rw [cf.1, ej]
          by_cases j20 : j = 20
          · rw [if_pos j20] at hQ
            subst j20
            refine iX8_callOf_0 T _ _ _ _ _ _ ?_
            rw [if_pos rfl, nn_cl (n := 20) (by omega), h.1.1 141 20 (by unfold hpT; omega), if_pos hf1, e142]
            refine ⟨by rw [nn_in (by omega)]; omega, ?_⟩
            rw [if_neg (by decide), if_neg (by decide), if_pos rfl, if_pos (by decide)]
            refine iX8_callAgain_0 T _ _ _ ?_
            rw [e115', if_pos (by decide), if_pos (by decide)]
            refine tm_err0 (d := d + 5) h i ok hh (fun z => absurd z.1 (by decide)) mval_0 (vT_out hQ (fun T' q => ?_))
            show Zm E YX8_callAgain (d + 11) T' [] 53 [] _
            refine sX8_callAgain_53 T' ?_
            show Zm E YX8_callOf (d + 12) T' [] 54 [] _
            exact iX8_callOf_54 T' (up T' q)
          · rw [if_neg j20] at hQ
            exact tm_call1 (d := d + 5) (as := []) h i hiL h0 c ok hh hpl hG wg hp hn e114 e115 (by simp at hs ⊢; omega) (by simp) (fun k c hk => by cases hk) (fun c hc => by cases hc) mval_0 hj cf2 j20 (endT_out hQ up)
        · rw [if_neg cf] at hQ
          exact tm_err0 (d := d + 7) h i ok hh cf htv (vT_out hQ up)
      · omega
    · rw [if_neg f20] at hQ
      exact tm_call1 (d := d + 7) h i hiL h0 c ok hh hpl hG wg hp hn e114 e115 hs hl ha hv htv hf hf1 f20 hQ
  | cons a as ih =>
    intro Q f src ts tv T h hG hp e114 e115 hs hl ha hv htv hf hf1 hQ
    unfold m_cl at hQ
    rw [List.length_cons] at hs hl e115
    rw [List.length_cons, show d + 2 * (as.length + 1) + 14 = (d + 2 * as.length + 14) + 2 by omega]
    by_cases f20 : f = 20
    · subst f20
      rw [if_pos rfl] at hQ
      rcases c.2 20 hf hf1 with ⟨-, -, c3, -⟩ | ⟨c1, -⟩
      · have e142 : gi T 142 20 = 0 := (h.1.1 142 20 (by unfold hpT; omega)).trans c3
        refine iX8_callOf_0 T _ _ _ _ _ _ ?_
        rw [if_pos rfl, nn_cl (n := 20) (by omega), h.1.1 141 20 (by unfold hpT; omega), if_pos hf1, e142]
        refine ⟨by rw [nn_in (by omega)]; omega, ?_⟩
        rw [if_neg (by decide), if_neg (by decide), if_pos rfl, if_pos (by decide)]
        have up : ∀ T', Q (.inl none) T' → zma E YX8_callAgain ((d + 2 * as.length + 14) + 1) [] 50 3 [] (zma E YX8_callOf ((d + 2 * as.length + 14) + 2) [] 51 3 [] Q) (.inl none) T' := fun T' q => by
          show Zm E YX8_callAgain ((d + 2 * as.length + 14) + 1) T' [] 53 [] _
          exact sX8_callAgain_53 T' (iX8_callOf_54 T' q)
        obtain ⟨a1, a2⟩ := ha 0 a rfl
        refine iX8_callAgain_0 T _ _ _ ?_
        rw [e115, e114, if_neg (by rw [nn_0, nn_le (by omega) (by omega)]; omega), if_neg (by rw [nn_0, nn_le (by omega) (by omega)]; omega), show nI src + 0 = nI (src + 0) from nn_add src 0, nn_cl (n := src + 0) (by omega), a1, a2, show nI src + 1 = nI (src + 1) from nn_add src 1, show nI (as.length + 1) - 1 = nI as.length from nn_sub (a := as.length + 1) (b := 1) (by omega)]
        refine ⟨by rw [nn_in (by omega)]; omega, ?_⟩
        have f1 : fr scr T (si (si T 97 114 (nI (src + 1))) 97 115 (nI as.length)) := (fr.si (scr_97 (by omega))).tr (fr.si (scr_97 (by omega)))
        have b114 : gi (si (si T 97 114 (nI (src + 1))) 97 115 (nI as.length)) 97 114 = nI (src + 1) := by rw [gi_idx (by decide)]; exact gi_self ..
        have b115 : gi (si (si T 97 114 (nI (src + 1))) 97 115 (nI as.length)) 97 115 = nI as.length := gi_self ..
        generalize si (si T 97 114 (nI (src + 1))) 97 115 (nI as.length) = T1 at *
        have h1 := gT_scr h ok f1
        by_cases cf : ts = 7 ∧ gi (aT A) 141 tv.toNatClampNeg = 1
        · rw [if_pos cf] at hQ
          obtain ⟨kk, ek, hkk, -, k7⟩ := htv.1
          obtain ⟨j, ej, hj⟩ := k7 (by have := cf.1; rw [ek] at this; simp (disch := omega) only [nn_add, nn_addl, nn_ladd, nn_mul, nn_lmul, nn_mull, nn_sub, nn_subl, nn_lsub, nn_lt, nn_le, nn_eq, nn_ltl, nn_llt, nn_lel, nn_lle, nn_eql, nn_leq, nn_m1, nn_1m, nn_ltm, nn_mlt, nn_mle, nn_lem, nn_cl, nn_in, nn_ns, nn_ns2, nn_nb, nn_nb2, nn_s1, nn_s2, nn_b1, nn_b2] at this; exact this)
          have cf2 := cf.2
          rw [ej, nn_cl (n := j) (by omega)] at cf2 hQ
          rw [cf.1, ej]
          refine ih _ j (src + 1) a.1 a.2.1 T1 h1 (tG_cT hG f1.cT1) (tLn_cT hp f1.cT1) b114 b115 (by omega) (by omega) (fun k c hk => ?_) (fun c hc => hv c (List.mem_cons_of_mem _ hc)) (hv a List.mem_cons_self) hj cf2 (endT_out (endT_mono hQ f1.cT1) up)
          rw [show src + 1 + k = src + (k + 1) by omega, (f1.2 160 _ (by unfold scr; omega)).1, (f1.2 161 _ (by unfold scr; omega)).1]
          exact ha (k + 1) c hk
        · rw [if_neg cf] at hQ
          exact tm_err0 (d := d + 2 * as.length + 9) h1 i ok hh cf htv (vT_out (vT_mono hQ f1.cT1) up)
      · omega
    · rw [if_neg f20] at hQ
      exact tm_call1 (d := d + 2 * as.length + 9) h i hiL h0 c ok hh hpl hG wg hp hn e114 (by rw [List.length_cons]; exact e115) (by rw [List.length_cons]; omega) (by rw [List.length_cons]; omega) ha hv htv hf hf1 f20 hQ
/-- call of the twin -/
theorem tm_call {w s : mC} {as rest : List mC} (h : gT T A (r :: F)) (i : iA A) (hiL : iL A) (h0 : m_l0 A) (c : iC A G) (ok : mFok (r :: F)) (hh : mTh (r :: F)) (hpl : r.pl + 1 < 600) (hG : tG T G) (wg : wG G (aL A).length) (hp : tLn T P) (hr : r.st = as.reverse ++ w :: s :: rest) (vw : mval A w.1 w.2.1) (vs : mval A s.1 s.2.1) (hv : ∀ c ∈ as, mval A c.1 c.2.1)
    (hQ : endT Q T A G P (as.length + 2) r F (m_cf A w s as)) : Zm E YX8_call (d + 2 * as.length + 15) T [(0, T97), (1, vi (nI as.length))] 0 [] Q := by
  have hob := i.1.1.2
  obtain ⟨n1, n2, n3, n4⟩ := tFs_nums h.2.1
  obtain ⟨g0, g1, -, g3, -⟩ := mFok_hd ok
  have hl : r.st.length = as.length + (rest.length + 2) := by rw [hr, List.length_append, List.length_reverse]; rfl
  obtain ⟨x1, x2⟩ := t_args h.2.1 hr
  obtain ⟨w1, w2⟩ := x1 0 w rfl
  obtain ⟨s1, s2⟩ := x1 1 s rfl
  rw [show 400 * F.length + ((w :: s :: rest).length - 1 - 0) = 400 * F.length + rest.length + 1 by simp; omega] at w1 w2
  rw [show 400 * F.length + ((w :: s :: rest).length - 1 - 1) = 400 * F.length + rest.length by simp] at s1 s2
  rw [show 400 * F.length + (w :: s :: rest).length = 400 * F.length + rest.length + 2 by simp; omega] at x2
  refine iX8_call_0 T _ ?_
  rw [n1, nn_cl (n := F.length) (by omega), n3, nn_lmul, nn_add, show nI (400 * F.length + r.st.length) - nI as.length - 2 = nI (400 * F.length + rest.length) from by rw [nn_sub (by omega), nn_subl (by omega)]; congr 1; omega]
  rw [show nI (400 * F.length + rest.length) + 1 = nI (400 * F.length + rest.length + 1) from nn_add _ 1, show nI (400 * F.length + rest.length) + 2 = nI (400 * F.length + rest.length + 2) from nn_add _ 2, show nI as.length + 2 = nI (as.length + 2) from nn_add _ 2, nn_cl (n := 400 * F.length + rest.length) (by omega), nn_cl (n := 400 * F.length + rest.length + 1) (by omega), w1, w2, s1, s2]
  refine ⟨by rw [nn_in (by omega)]; omega, by rw [nn_in (by omega)]; omega, by rw [nn_in (by omega)]; omega, ?_⟩
  have f1 : fr scr T (si (si T 97 114 (nI (400 * F.length + rest.length + 2))) 97 115 (nI as.length)) := (fr.si (scr_97 (by omega))).tr (fr.si (scr_97 (by omega)))
  have b114 : gi (si (si T 97 114 (nI (400 * F.length + rest.length + 2))) 97 115 (nI as.length)) 97 114 = nI (400 * F.length + rest.length + 2) := by rw [gi_idx (by decide)]; exact gi_self ..
  have b115 : gi (si (si T 97 114 (nI (400 * F.length + rest.length + 2))) 97 115 (nI as.length)) 97 115 = nI as.length := gi_self ..
  generalize si (si T 97 114 (nI (400 * F.length + rest.length + 2))) 97 115 (nI as.length) = T1 at *
  have h1 := gT_scr h ok f1
  have up : ∀ T', Q (.inl none) T' → zma E YX8_call (d + 2 * as.length + 15) [] 54 3 [] Q (.inl none) T' := fun T' q => by
    show Zm E YX8_call (d + 2 * as.length + 15) T' [] 57 [] Q
    exact sX8_call_57 T' q
  have hQ1 := endT_out (endT_mono hQ f1.cT1) up
  unfold m_cf at hQ1
  by_cases cf : w.1 = 7 ∧ gi (aT A) 141 w.2.1.toNatClampNeg = 1
  · rw [if_pos cf] at hQ1
    obtain ⟨kk, ek, hkk, -, k7⟩ := vw.1
    obtain ⟨j, ej, hj⟩ := k7 (by have := cf.1; rw [ek] at this; simp (disch := omega) only [nn_add, nn_addl, nn_ladd, nn_mul, nn_lmul, nn_mull, nn_sub, nn_subl, nn_lsub, nn_lt, nn_le, nn_eq, nn_ltl, nn_llt, nn_lel, nn_lle, nn_eql, nn_leq, nn_m1, nn_1m, nn_ltm, nn_mlt, nn_mle, nn_lem, nn_cl, nn_in, nn_ns, nn_ns2, nn_nb, nn_nb2, nn_s1, nn_s2, nn_b1, nn_b2] at this; exact this)
    have cf2 := cf.2
    rw [ej, nn_cl (n := j) (by omega)] at cf2 hQ1
    rw [cf.1, ej]
    exact tm_call2 (n := as.length + 2) i hiL h0 c ok hh hpl wg (by omega) as _ j (400 * F.length + rest.length + 2) s.1 s.2.1 T1 h1 (tG_cT hG f1.cT1) (tLn_cT hp f1.cT1) b114 b115 (by omega) (by omega) (fun k c hk => by
      rw [(f1.2 160 _ (by unfold scr; omega)).1, (f1.2 161 _ (by unfold scr; omega)).1]
      exact x2 k c hk) hv vs hj cf2 hQ1
  · rw [if_neg cf] at hQ1
    exact tm_err0 (d := d + 2 * as.length + 9) h1 i ok hh cf vw hQ1
theorem ts_call {w s : mC} {as rest : List mC} (h : gT T A (r :: F)) (i : iA A) (hiL : iL A) (h0 : m_l0 A) (c : iC A G) (ok : mFok (r :: F)) (hh : mTh (r :: F)) (hpl : r.pl + 1 < 600) (hG : tG T G) (wg : wG G (aL A).length) (hp : tLn T P) (hc : gi T 123 r.pl = 15) (ha : gi T 124 r.pl = nI as.length) (hr : r.st = as.reverse ++ w :: s :: rest) (vw : mval A w.1 w.2.1) (vs : mval A s.1 s.2.1) (hv : ∀ c ∈ as, mval A c.1 c.2.1)
    (hQ : endT Q T A G P (as.length + 2) r F (m_cf A w s as)) : Zm E YX8_step_2 (d + 2 * as.length + 16) T [(0, T97)] 0 [] Q := by
  obtain ⟨n1, n2, n3, n4⟩ := tFs_nums h.2.1
  obtain ⟨g0, g1, -⟩ := mFok_hd ok
  refine sX8_step_2_0 T ?_
  rw [n1, nn_cl (n := F.length) (by omega), n2, nn_cl (n := r.pl) (by omega), hc, ha]
  refine ⟨by rw [nn_in (by omega)]; omega, by rw [nn_in (by omega)]; omega, by rw [nn_in (by omega)]; omega, by rw [nn_in (by omega)]; omega, ?_⟩
  repeat rw [if_neg (by decide)]
  rw [if_pos rfl]
  exact tm_call h i hiL h0 c ok hh hpl hG wg hp hr vw vs hv (endT_out hQ (fun T' q => iX8_step_2_423 T' q))
end
