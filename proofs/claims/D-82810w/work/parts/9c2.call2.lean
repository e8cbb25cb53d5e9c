/-! CALLS of the component -/
theorem nn_m20 {n : Nat} (h : n < 2147483648) : ¬ nI n = -20 := fun e => by
  have h1 := congrArg Int32.toInt e
  rw [nn_toInt h] at h1
  exact absurd h1 (by have : (-20 : Int32).toInt = -20 := rfl; omega)
section
variable {E : zE} {d : Nat} {T M : zM} {Q : zO → zM → Prop} {A : mA} {r : mF} {F : List mF} {G : mG} {P : List Nat}
/-- what is owed when a function is entered -/
def entX (Q : zO → zM → Prop) (M : zM) (A : mA) (f g : Nat) (q : Nat × Nat × List Nat × Int32) (ts tv md : Int32) (as : List mC) (n : Nat) (r : mF) (F : List mF) : Prop :=
  (F.length + 1 = 24 → vX Q M (m_err A 2) n r F) ∧
  (F.length + 1 < 24 → ∀ A' M', m_ent A f g q as = (false, A') → gX M' A' (r :: F) → fr cX M M' → Q (.inr (51, 13, 0)) M') ∧
  (F.length + 1 < 24 → ∀ A' M', m_ent A f g q as = (true, A') → gX M' A' (((nI g, nI (aO A), ts, tv, md), q.1, [], []) :: mFst r (r.st.drop n) :: F) → fr cX M M' → Q (.inl none) M')
def cXP (a k : Nat) : Prop := cX a k ∨ a = 67 ∨ a = 16 ∧ k = 53
/-- what is owed for a call -/
def endX (Q : zO → zM → Prop) (M : zM) (A : mA) (G : mG) (P : List Nat) (n : Nat) (r : mF) (F : List mF) : Option (Nat × Int32 × Int32 × List mC) → Prop
  | none => vX Q M (m_err A 0) n r F
  | some (f, ts, tv, as) =>
    (f = 9 → (a_text A (m_a0 as).1 (m_a0 as).2 = none → vX Q M (2, A, 0, 0) n r F) ∧ ∀ k A' M', a_text A (m_a0 as).1 (m_a0 as).2 = some (k, A') → gX M' A' (mFst r ((0, 0, 0, 0) :: r.st.drop n) :: F) → xLn M' (m_prt P k) → fr cXP M M' → Q (.inl none) M') ∧
    (f < 23 → ¬ f = 9 → vX Q M (m_nat A f ts tv as) n r F) ∧
    (23 ≤ f → ∀ g q, gi (aT A) 142 f = nI g → G[g]? = some q → entX Q M A f g q ts tv (-1) as n r F)
theorem m_val_ok {A : mA} {o : Nat} {x : Int32} (i : iA A) (ho : o < aO A) : ∃ ks, (m_val A (m_own A o x)).2.2.1 = nI ks ∧ ks < 8 := by
  rcases m_own_or i ho x with e | ⟨q, hq, q3, e⟩
  · unfold m_val; rw [if_pos e]; exact ⟨0, rfl, by omega⟩
  · unfold m_val
    rw [if_neg (by rw [e, nn_m1 (by omega)]; exact fun z => z), e, nn_cl (by omega)]
    obtain ⟨⟨ks, h1, h2, -⟩, -⟩ := i.2.2.1 o ho q hq
    exact ⟨ks, h1, h2⟩
theorem m_nat_ok {f : Nat} {ts tv : Int32} {as : List mC} (i : iA A) (ht : mval A ts tv) (h : (m_nat A f ts tv as).1 = 0) : ∃ ks, (m_nat A f ts tv as).2.2.1 = nI ks ∧ ks < 8 := by
  have hob := i.1.1.2
  unfold m_nat at h ⊢
  by_cases e10 : f = 10
  · rw [if_pos e10] at h ⊢; unfold m_obj at h ⊢; split
    · exact ⟨0, rfl, by omega⟩
    · exact ⟨7, rfl, by omega⟩
  rw [if_neg e10] at h ⊢
  by_cases e11 : f = 11
  · rw [if_pos e11] at h ⊢; unfold m_arr at h ⊢; split
    · exact ⟨0, rfl, by omega⟩
    · split
      · exact ⟨0, rfl, by omega⟩
      · exact ⟨7, rfl, by omega⟩
  rw [if_neg e11] at h ⊢
  by_cases e12 : f = 12
  · rw [if_pos e12] at h ⊢; split
    · exact ⟨6, rfl, by omega⟩
    · unfold m_tx; split
      · exact ⟨0, rfl, by omega⟩
      · exact ⟨6, rfl, by omega⟩
  rw [if_neg e12] at h ⊢
  by_cases e13 : f = 13
  · rw [if_pos e13]; unfold m_nan; dsimp only; split
    · exact ⟨3, rfl, by omega⟩
    · exact ⟨2, rfl, by omega⟩
  rw [if_neg e13] at h ⊢
  by_cases e18 : f = 18
  · rw [if_pos e18] at h ⊢; unfold m_psh at h ⊢; split
    · split
      · exact ⟨0, rfl, by omega⟩
      · split
        · exact ⟨0, rfl, by omega⟩
        · exact ⟨5, rfl, by omega⟩
    · rename_i c; rw [if_neg c] at h; exact absurd h (m_err_1 A 0)
  rw [if_neg e18] at h ⊢
  by_cases e19 : f = 19
  · rw [if_pos e19] at h ⊢; unfold m_pop at h ⊢; split
    · rename_i c
      split
      · exact ⟨0, rfl, by omega⟩
      · split
        · exact ⟨0, rfl, by omega⟩
        · rename_i k A1 e
          obtain ⟨i1, hk, hL, -, eT, eO, eP, eF⟩ := iA_text i mok_5 e
          obtain ⟨kk, ek, hkk, -, k7⟩ := ht.1
          obtain ⟨j, ej, hj⟩ := k7 (by have := c.1; rw [ek] at this; simp (disch := omega) only [nn_add, nn_addl, nn_ladd, nn_mul, nn_lmul, nn_mull, nn_sub, nn_subl, nn_lsub, nn_lt, nn_le, nn_eq, nn_ltl, nn_llt, nn_lel, nn_lle, nn_eql, nn_leq, nn_m1, nn_1m, nn_ltm, nn_mlt, nn_mle, nn_lem, nn_cl, nn_in, nn_ns, nn_ns2, nn_nb, nn_nb2, nn_s1, nn_s2, nn_b1, nn_b2] at this; exact this)
          rw [ej, nn_cl (by omega)]
          exact m_val_ok i1 (by omega)
    · rename_i c; rw [if_neg c] at h; exact absurd h (m_err_1 A 0)
  rw [if_neg e19] at h ⊢
  by_cases e21 : f = 21
  · rw [if_pos e21] at h ⊢; unfold m_has at h ⊢; split
    · split
      · exact ⟨0, rfl, by omega⟩
      · dsimp only; split
        · exact ⟨3, rfl, by omega⟩
        · exact ⟨2, rfl, by omega⟩
    · rename_i c; rw [if_neg c] at h; exact absurd h (m_err_1 A 0)
  rw [if_neg e21] at h ⊢
  by_cases e22 : f = 22
  · rw [if_pos e22] at h ⊢; unfold m_chr at h ⊢; split
    · split
      · exact ⟨0, rfl, by omega⟩
      · exact ⟨6, rfl, by omega⟩
    · rename_i c; rw [if_neg c] at h; exact absurd h (m_err_1 A 0)
  rw [if_neg e22] at h ⊢
  unfold m_erm
  split
  · exact ⟨0, rfl, by omega⟩
  · split
    · exact ⟨7, rfl, by omega⟩
    · split
      · exact ⟨0, rfl, by omega⟩
      · split
        · exact ⟨0, rfl, by omega⟩
        · exact ⟨7, rfl, by omega⟩
/-- the result stands at a place then: n values are gone -/
def atX (Q : zO → zM → Prop) (t : Nat) (M : zM) : Prop := vp_in (nI t) 14500 ∧ Q (.inl none) (si (si (si (si M 16 38 (nI t)) 53 (nI t).toNatClampNeg (vp_nar .byte (gi M 16 33).toInt8.toInt32)) 16 38 (nI t + 1)) 54 (nI t).toNatClampNeg (gi M 16 32))
theorem atX_of {n ks t : Nat} {v : Int32} (h : gX M A (r :: F)) (ok : mFok (r :: F)) (hn : n ≤ r.st.length) (ht : t = mtot F + r.st.length - n) (hks : ks < 8) (e33 : gi M 16 33 = nI ks) (e32 : gi M 16 32 = v) (hQ : ∀ M', gX M' A (mFst r ((nI ks, v, 0, 0) :: r.st.drop n) :: F) → fr fFX M M' → Q (.inl none) M') : atX Q t M := by
  obtain ⟨g0, g1, g2, g3, g4⟩ := mFok_hd ok
  have hm := (mtot_le (mFok_tl ok)).1
  subst ht
  unfold atX
  rw [e33, e32]
  simp (disch := omega) only [nn_add, nn_addl, nn_ladd, nn_mul, nn_lmul, nn_mull, nn_sub, nn_subl, nn_lsub, nn_lt, nn_le, nn_eq, nn_ltl, nn_llt, nn_lel, nn_lle, nn_eql, nn_leq, nn_m1, nn_1m, nn_ltm, nn_mlt, nn_mle, nn_lem, nn_cl, nn_in, nn_ns, nn_ns2, nn_nb, nn_nb2, nn_s1, nn_s2, nn_b1, nn_b2]
  obtain ⟨x, f⟩ := x_leaf (v := v) h.2 (mFok_tl ok) hn hks
  exact ⟨by omega, hQ _ ⟨sX_cg h.1 f (fun a k q => .inr (.inl q)), x⟩ f⟩
/-- a native's end in place of n values -/
theorem rX_at {Q' : zO → zM → Prop} {p : mE} {n t : Nat} (hQ : vX Q M p n r F) (ok : mFok (r :: F)) (hn : n ≤ r.st.length) (ht : t = mtot F + r.st.length - n) (hp : p.1 = 0 → ∃ ks, p.2.2.1 = nI ks ∧ ks < 8) (k0 : ∀ M', cw M' → atX Q t M' → Q' (.inl none) M') (k1 : ∀ M' e, Q (.inr e) M' → Q' (.inr e) M') : rX Q' M p r F := by
  refine ⟨fun e M' g e33 e32 f => ?_, fun e M' g e1 e2 f => k1 _ _ (hQ.2.1 e M' g e1 e2 f), fun e M' g f => k1 _ _ (hQ.2.2 e M' g f)⟩
  obtain ⟨ks, e1, h8⟩ := hp e
  refine k0 M' g.1.1 (atX_of g ok hn ht h8 (e33.trans e1) e32 (fun M2 g2 f2 => ?_))
  refine hQ.1 e M2 ?_ (f.tr f2.cX3)
  rw [e1]
  exact g2
/-- the end of a call: what is called is no call itself -/
theorem xm_call1 {f n src t : Nat} {ts tv : Int32} {as : List mC} (h : gX M A (r :: F)) (i : iA A) (hiL : iL A) (h0 : m_l0 A) (c : iC A G) (ok : mFok (r :: F)) (hG : xG M G) (wg : wG G (aL A).length) (hp : xLn M P) (hn : n ≤ r.st.length) (ht : t = mtot F + r.st.length - n) (hs : src + as.length ≤ 14000) (hl : as.length ≤ 390) (ha : ∀ k c, as[k]? = some c → gi M 53 (src + k) = c.1 ∧ gi M 54 (src + k) = c.2.1) (hv : ∀ c ∈ as, mval A c.1 c.2.1) (htv : mval A ts tv) (hf : f < aO A) (hf1 : gi (aT A) 141 f = 1) (hf20 : ¬ f = 20) (hQ : endX Q M A G P n r F (some (f, ts, tv, as))) :
    Z E YX1_call (d + 6) M [(0, zX16), (5, vi (nI t)), (6, vi ts), (7, vi tv), (8, vi (nI f)), (9, vi (nI src)), (10, vi (nI as.length))] 66 [] Q := by
  have hob := i.1.1.2
  obtain ⟨g0, g1, -, g3, -⟩ := mFok_hd ok
  have hm := (mtot_le (mFok_tl ok)).1
  obtain ⟨q9, qn, qe⟩ := hQ
  have at201 : ∀ M', cw M' → atX Q t M' → Z E YX1_call (d + 6) M' [(0, zX16), (5, vi (nI t))] 201 [] Q := fun M' w k => iX1_call_201 M' _ w k
  have thr : ∀ M' e, Q (.inr e) M' → zafter E YX1_call (d + 6) [(0, zX16), (5, vi (nI t))] 198 3 [] Q (.inr e) M' := fun M' e k => by
    show ZT E YX1_call (d + 6) M' _ 198 e Q
    exact ZT.out (nohand rfl) k
  refine iX1_call_66 M _ _ _ _ _ _ h.1.1 ?_
  rw [nn_cl (n := f) (by omega)]
  refine ⟨by rw [nn_in (by omega)]; omega, ?_⟩
  rcases x_code h.1 i c hf hf1 with ⟨c1, c2, c3, c4⟩ | ⟨c1, ⟨g, q, hg, hg1, c3, c4⟩, c5⟩
  · obtain ⟨k1, k2, k3⟩ := n_neg f c2 c1
    rw [c4, if_neg (fun z => hf20 (k1.mp z)), if_pos k2, k3]
    by_cases e9 : f = 9
    · subst e9
      obtain ⟨p2, p1⟩ := q9 rfl
      refine xn_0 (d := d + 4) h.1.1 (by omega) ha ?_
      refine xn_9 (d := d + 1) h i ok hp (m_a0_ok hv) (fun e M' g f => thr _ _ ((p2 e).2.2 rfl M' g f)) (fun k A' M' e g' e33 e32 x' f' => ?_)
      show Z E YX1_call (d + 6) M' [(0, zX16), (5, vi (nI t))] 201 [] Q
      refine at201 M' g'.1.1 (atX_of (ks := 0) (v := 0) g' ok hn ht (by omega) e33 e32 (fun M2 g2 f2 => ?_))
      refine p1 k A' M2 e g2 ⟨(f2.2 16 53 (by unfold fFX; omega)).1.trans x'.1, x'.2.1, fun z w hz => (f2.2 67 z (by unfold fFX; omega)).1.trans (x'.2.2 z w hz)⟩ (f'.tr (f2.cX3.mono fun a k q => .inl q))
    · refine xm_nat h i hiL h0 c.1 ok (by omega) c2 hf20 (by omega) (by omega) ha hv htv (rX_at (qn c2 e9) ok hn ht (m_nat_ok i htv) (fun M' w k => ?_) thr)
      show Z E YX1_call (d + 6) M' [(0, zX16), (5, vi (nI t))] 201 [] Q
      exact at201 M' w k
  · obtain ⟨w1, w2, w3⟩ := id wg
    have hgl : g < G.length := (List.getElem?_eq_some_iff.mp hg).1
    obtain ⟨e1, e2, e3⟩ := qe c1 g q c3 hg
    rw [c4, if_neg (nn_m20 (by omega)), if_neg (by rw [nn_0, nn_le (by omega) (by omega)]; omega)]
    have hrl : (r.st.drop n).length = r.st.length - n := List.length_drop
    rw [ht, show mtot F + r.st.length - n = mtot F + (r.st.drop n).length by omega]
    obtain ⟨ks, eks, hks, -, -⟩ := htv.1
    refine xm_enter (n := n) (rest := r.st.drop n) (d := d + 1) h.1 i h.2 ok hG wg hg hg1 hf hf1 c4 c5 (by rw [eks, nn_nb2 (by omega), nn_nb (by omega)]) rfl hn rfl (by omega) ha hv (fun z => ?_) (fun z A' M' e s' f' => ?_) (fun z A' M' e g' f' => ?_)
    · have v := e1 z
      refine ⟨fun w => absurd w (m_err_1 A 2), fun w M' g a b f => ?_, fun w M' g f => ?_⟩
      · show ZT E YX1_call (d + 6) M' [] 175 (52, 14, 0) Q
        exact ZT.out (nohand rfl) (v.2.1 w M' g a b f)
      · show ZT E YX1_call (d + 6) M' [] 175 (51, 13, 0) Q
        exact ZT.out (nohand rfl) (v.2.2 w M' g f)
    · obtain ⟨g2, f2⟩ := gX_hp h ok s' f'
      show ZT E YX1_call (d + 6) M' [] 175 (51, 13, 0) Q
      exact ZT.out (nohand rfl) (e2 z A' M' e g2 f2)
    · show Z E YX1_call (d + 6) M' [] 178 [] Q
      exact iX1_call_178 M' g'.1.1 (e3 z A' M' e g' f')
theorem xm_call2 {n t : Nat} (h : gX M A (r :: F)) (i : iA A) (hiL : iL A) (h0 : m_l0 A) (c : iC A G) (ok : mFok (r :: F)) (hG : xG M G) (wg : wG G (aL A).length) (hp : xLn M P) (hn : n ≤ r.st.length) (ht : t = mtot F + r.st.length - n) :
    ∀ (as : List mC) (f src : Nat) (ts tv : Int32), src + as.length ≤ 13000 → as.length ≤ 390 → (∀ k c, as[k]? = some c → gi M 53 (src + k) = c.1 ∧ gi M 54 (src + k) = c.2.1) → (∀ c ∈ as, mval A c.1 c.2.1) → mval A ts tv → f < aO A → gi (aT A) 141 f = 1 → endX Q M A G P n r F (m_cl A as f ts tv) → Z E YX1_call (d + 6) M [(0, zX16), (5, vi (nI t)), (6, vi ts), (7, vi tv), (8, vi (nI f)), (9, vi (nI src)), (10, vi (nI as.length))] 66 [] Q := by
  have hob := i.1.1.2
  have h23 := c.1
  have er : vX Q M (m_err A 0) n r F → Z E YX1_error (d + 5) M (zargs 0 [zX16, vi 0]) 0 [] (zafter E YX1_call (d + 6) [] 91 3 [] Q) := fun hq => by
    refine vX_err (d := d + 4) (m := 0) hq rfl h i ok (by omega) (fun M' q s' => ?_) (fun M' q => ?_)
    · show Z E YX1_call (d + 6) M' [] 94 [vr (some (52, 14, 0))] Q
      exact sX1_call_94 M' _ s'.1 ⟨52, rfl, q⟩
    · show ZT E YX1_call (d + 6) M' [] 91 (51, 13, 0) Q
      exact ZT.out (nohand rfl) q
  intro as
  induction as with
  | nil =>
    intro f src ts tv hs hl ha hv htv hf hf1 hQ
    unfold m_cl at hQ
    by_cases f20 : f = 20
    · subst f20
      rw [if_pos rfl] at hQ
      rcases x_code h.1 i c hf hf1 with ⟨-, -, -, c4⟩ | ⟨c1, -⟩
      · refine iX1_call_66 M _ _ _ _ _ _ h.1.1 ?_
        rw [nn_cl (n := 20) (by omega), c4]
        refine ⟨by rw [nn_in (by omega)]; omega, ?_⟩
        rw [if_pos (by decide)]
        by_cases c7 : ts = 7
        · rw [if_pos c7]
          obtain ⟨kk, ek, hkk, -, k7⟩ := htv.1
          obtain ⟨j, ej, hj⟩ := k7 (by rw [ek] at c7; simp (disch := omega) only [nn_add, nn_addl, nn_ladd, nn_mul, nn_lmul, nn_mull, nn_sub, nn_subl, nn_lsub, nn_lt, nn_le, nn_eq, nn_ltl, nn_llt, nn_lel, nn_lle, nn_eql, nn_leq, nn_m1, nn_1m, nn_ltm, nn_mlt, nn_mle, nn_lem, nn_cl, nn_in, nn_ns, nn_ns2, nn_nb, nn_nb2, nn_s1, nn_s2, nn_b1, nn_b2] at c7; exact c7)
          rw [ej, nn_cl (n := j) (by omega)] at hQ
          rw [ej, nn_cl (n := j) (by omega), (h.1.2.1.2.2.1 j hj).1]
          refine ⟨by rw [nn_in (by omega)]; omega, ?_⟩
          by_cases c1 : gi (aT A) 141 j = 1
          · rw [if_pos ⟨c7, c1⟩] at hQ
            rw [if_pos c1, if_pos (by decide), if_neg (by decide)]
            rw [show nI src + 1 = nI (src + 1) from nn_add src 1]
            by_cases j20 : j = 20
            · rw [if_pos j20] at hQ
              subst j20
              refine iX1_call_66 M _ _ _ _ _ _ h.1.1 ?_
              rw [nn_cl (n := 20) (by omega), c4]
              refine ⟨by rw [nn_in (by omega)]; omega, ?_⟩
              rw [if_pos (by decide), if_neg (by decide)]
              exact er hQ
            · rw [if_neg j20] at hQ
              exact xm_call1 (as := []) h i hiL h0 c ok hG wg hp hn ht (by simp at hs ⊢; omega) (by simp) (fun k c hk => by cases hk) (fun c hc => by cases hc) mval_0 hj c1 j20 hQ
          · rw [if_neg (fun z => c1 z.2)] at hQ
            rw [if_neg c1]; exact er hQ
        · rw [if_neg (fun z => c7 z.1)] at hQ
          rw [if_neg c7]; exact er hQ
      · omega
    · rw [if_neg f20] at hQ
      exact xm_call1 h i hiL h0 c ok hG wg hp hn ht (by omega) hl ha hv htv hf hf1 f20 hQ
  | cons a as ih =>
    intro f src ts tv hs hl ha hv htv hf hf1 hQ
    unfold m_cl at hQ
    rw [List.length_cons] at hs hl
    by_cases f20 : f = 20
    · subst f20
      rw [if_pos rfl] at hQ
      rcases x_code h.1 i c hf hf1 with ⟨-, -, -, c4⟩ | ⟨c1, -⟩
      · refine iX1_call_66 M _ _ _ _ _ _ h.1.1 ?_
        rw [nn_cl (n := 20) (by omega), c4]
        refine ⟨by rw [nn_in (by omega)]; omega, ?_⟩
        rw [if_pos (by decide)]
        by_cases c7 : ts = 7
        · rw [if_pos c7]
          obtain ⟨kk, ek, hkk, -, k7⟩ := htv.1
          obtain ⟨j, ej, hj⟩ := k7 (by rw [ek] at c7; simp (disch := omega) only [nn_add, nn_addl, nn_ladd, nn_mul, nn_lmul, nn_mull, nn_sub, nn_subl, nn_lsub, nn_lt, nn_le, nn_eq, nn_ltl, nn_llt, nn_lel, nn_lle, nn_eql, nn_leq, nn_m1, nn_1m, nn_ltm, nn_mlt, nn_mle, nn_lem, nn_cl, nn_in, nn_ns, nn_ns2, nn_nb, nn_nb2, nn_s1, nn_s2, nn_b1, nn_b2] at c7; exact c7)
          rw [ej, nn_cl (n := j) (by omega)] at hQ
          rw [ej, nn_cl (n := j) (by omega), (h.1.2.1.2.2.1 j hj).1]
          refine ⟨by rw [nn_in (by omega)]; omega, ?_⟩
          by_cases c1 : gi (aT A) 141 j = 1
          · rw [if_pos ⟨c7, c1⟩] at hQ
            obtain ⟨a1, a2⟩ := ha 0 a rfl
            rw [if_pos c1, List.length_cons, if_neg (by rw [nn_0, nn_le (by omega) (by omega)]; omega), nn_cl (n := src) (by omega)]
            rw [show nI src + 1 = nI (src + 1) from nn_add src 1, show nI (as.length + 1) - 1 = nI as.length from nn_sub (a := as.length + 1) (b := 1) (by omega)]
            rw [show gi M 53 src = a.1 from a1, show gi M 54 src = a.2.1 from a2]
            refine ⟨by rw [nn_in (by omega)]; omega, ?_⟩
            have go := ih j (src + 1) a.1 a.2.1 (by omega) (by omega) (fun k c hk => by rw [show src + 1 + k = src + (k + 1) by omega]; exact ha (k + 1) c hk) (fun c hc => hv c (List.mem_cons_of_mem _ hc)) (hv a List.mem_cons_self) hj c1 hQ
            by_cases hz : as.length = 0
            · rw [if_neg (by rw [hz]; decide)]
              rw [hz] at go
              exact go
            · rw [if_pos (by rw [nn_0, nn_lt (by omega) (by omega)]; omega)]
              exact go
          · rw [if_neg (fun z => c1 z.2)] at hQ
            rw [if_neg c1]; exact er hQ
        · rw [if_neg (fun z => c7 z.1)] at hQ
          rw [if_neg c7]; exact er hQ
      · omega
    · rw [if_neg f20] at hQ
      exact xm_call1 h i hiL h0 c ok hG wg hp hn ht (by rw [List.length_cons]; omega) (by rw [List.length_cons]; omega) ha hv htv hf hf1 f20 hQ
end
