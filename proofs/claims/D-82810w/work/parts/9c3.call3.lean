/-! CALL and NEW of the component -/
section
variable {E : zE} {d : Nat} {T M : zM} {Q : zO → zM → Prop} {A : mA} {r : mF} {F : List mF} {G : mG} {P : List Nat}
theorem entX_mono {M1 : zM} {f g n : Nat} {q : Nat × Nat × List Nat × Int32} {ts tv md : Int32} {as : List mC} (h : entX Q M A f g q ts tv md as n r F) (f1 : fr cX M M1) : entX Q M1 A f g q ts tv md as n r F :=
  ⟨fun z => vX_mono (h.1 z) f1, fun z A' M' e g f' => h.2.1 z A' M' e g (f1.tr f'), fun z A' M' e g f' => h.2.2 z A' M' e g (f1.tr f')⟩
theorem endX_mono {M1 : zM} {n : Nat} {x : Option (Nat × Int32 × Int32 × List mC)} (h : endX Q M A G P n r F x) (f1 : fr cX M M1) : endX Q M1 A G P n r F x := by
  cases x with
  | none => exact vX_mono (p := m_err A 0) h f1
  | some y =>
    obtain ⟨f, ts, tv, as⟩ := y
    obtain ⟨h1, h2, h3⟩ := h
    exact ⟨fun e => ⟨fun z => vX_mono ((h1 e).1 z) f1, fun k A' M' z g p f' => (h1 e).2 k A' M' z g p ((f1.mono fun a k q => .inl q).tr f')⟩, fun e e9 => vX_mono (h2 e e9) f1, fun e g q c hg => entX_mono (h3 e g q c hg) f1⟩
theorem xLn_cX {M1 : zM} (h : xLn M P) (f : fr cX M M1) : xLn M1 P :=
  ⟨(f.2 16 53 (fun z => by have := cX_lt z; omega)).1.trans h.1, h.2.1, fun k x hk => (f.2 67 k (fun z => by have := cX_lt z; omega)).1.trans (h.2.2 k x hk)⟩
/-- what is called, of a value on the stack -/
def m_cf (A : mA) (w s : mC) (as : List mC) : Option (Nat × Int32 × Int32 × List mC) := if w.1 = 7 ∧ gi (aT A) 141 w.2.1.toNatClampNeg = 1 then m_cl A as w.2.1.toNatClampNeg s.1 s.2.1 else none
theorem xm_call {w s : mC} {as rest : List mC} (h : gX M A (r :: F)) (i : iA A) (hiL : iL A) (h0 : m_l0 A) (c : iC A G) (ok : mFok (r :: F)) (hG : xG M G) (wg : wG G (aL A).length) (hp : xLn M P) (hr : r.st = as.reverse ++ w :: s :: rest) (vw : mval A w.1 w.2.1) (vs : mval A s.1 s.2.1) (hv : ∀ c ∈ as, mval A c.1 c.2.1)
    (hQ : endX Q M A G P (as.length + 2) r F (m_cf A w s as)) : Z E YX1_call (d + 6) M [(0, zX16), (1, vi (nI (mtot F + rest.length))), (2, vi (nI (mtot F + rest.length + 1))), (3, vi (nI (mtot F + rest.length + 2))), (4, vi (nI as.length)), (5, vi (nI (mtot F + rest.length)))] 0 [] Q := by
  have hob := i.1.1.2
  obtain ⟨g0, g1, -, g3, -⟩ := mFok_hd ok
  have hm := (mtot_le (mFok_tl ok)).1
  have hl : r.st.length = as.length + (rest.length + 2) := by rw [hr, List.length_append, List.length_reverse]; rfl
  obtain ⟨x1, x2⟩ := x_args h.2 hr
  obtain ⟨w1, w2⟩ := x1 0 w rfl
  obtain ⟨s1, s2⟩ := x1 1 s rfl
  rw [show mtot F + ((w :: s :: rest).length - 1 - 0) = mtot F + rest.length + 1 by simp; omega] at w1 w2
  rw [show mtot F + ((w :: s :: rest).length - 1 - 1) = mtot F + rest.length by simp] at s1 s2
  rw [show mtot F + (w :: s :: rest).length = mtot F + rest.length + 2 by simp; omega] at x2
  have er : vX Q M (m_err A 0) (as.length + 2) r F → Z E YX1_error (d + 5) M (zargs 0 [zX16, vi 0]) 0 [] (zafter E YX1_call (d + 6) [] 62 3 [] Q) := fun hq => by
    refine vX_err (d := d + 4) (m := 0) hq rfl h i ok (by omega) (fun M' q s' => ?_) (fun M' q => ?_)
    · show Z E YX1_call (d + 6) M' [] 65 [vr (some (52, 14, 0))] Q
      exact sX1_call_65 M' _ s'.1 ⟨52, rfl, q⟩
    · show ZT E YX1_call (d + 6) M' [] 62 (51, 13, 0) Q
      exact ZT.out (nohand rfl) q
  refine iX1_call_0 M _ _ _ _ _ h.1.1 ?_
  rw [nn_cl (n := mtot F + rest.length) (by omega), nn_cl (n := mtot F + rest.length + 1) (by omega), w1, w2, s1, s2]
  refine ⟨by rw [nn_in (by omega)]; omega, by rw [nn_in (by omega)]; omega, ?_⟩
  unfold m_cf at hQ
  by_cases c7 : w.1 = 7
  · rw [if_pos c7]
    obtain ⟨kk, ek, hkk, -, k7⟩ := vw.1
    obtain ⟨j, ej, hj⟩ := k7 (by rw [ek] at c7; simp (disch := omega) only [nn_add, nn_addl, nn_ladd, nn_mul, nn_lmul, nn_mull, nn_sub, nn_subl, nn_lsub, nn_lt, nn_le, nn_eq, nn_ltl, nn_llt, nn_lel, nn_lle, nn_eql, nn_leq, nn_m1, nn_1m, nn_ltm, nn_mlt, nn_mle, nn_lem, nn_cl, nn_in, nn_ns, nn_ns2, nn_nb, nn_nb2, nn_s1, nn_s2, nn_b1, nn_b2] at c7; exact c7)
    rw [ej, nn_cl (n := j) (by omega)] at hQ
    rw [ej, nn_cl (n := j) (by omega), (h.1.2.1.2.2.1 j hj).1]
    refine ⟨by rw [nn_in (by omega)]; omega, ?_⟩
    by_cases c1 : gi (aT A) 141 j = 1
    · rw [if_pos ⟨c7, c1⟩] at hQ
      rw [if_pos c1, if_neg (by rw [nn_m1 (by omega)]; exact fun z => z)]
      exact xm_call2 (n := as.length + 2) (t := mtot F + rest.length) h i hiL h0 c ok hG wg hp (by omega) (by omega) as j (mtot F + rest.length + 2) s.1 s.2.1 (by omega) (by omega) x2 hv vs hj c1 hQ
    · rw [if_neg (fun z => c1 z.2)] at hQ
      rw [if_neg c1]; exact er hQ
  · rw [if_neg (fun z => c7 z.1)] at hQ
    rw [if_neg c7]; exact er hQ
theorem endX_out {Q' : zO → zM → Prop} {n : Nat} {x : Option (Nat × Int32 × Int32 × List mC)} (h : endX Q M A G P n r F x) (k0 : ∀ M' A' F', gX M' A' F' → Q (.inl none) M' → Q' (.inl none) M') (k1 : ∀ M' e, Q (.inr e) M' → Q' (.inr e) M') : endX Q' M A G P n r F x := by
  have vv : ∀ p : mE, vX Q M p n r F → vX Q' M p n r F := fun p h => ⟨fun e M' g f => k0 _ _ _ g (h.1 e M' g f), fun e M' g a b f => k1 _ _ (h.2.1 e M' g a b f), fun e M' g f => k1 _ _ (h.2.2 e M' g f)⟩
  cases x with
  | none => exact vv (m_err A 0) h
  | some y =>
    obtain ⟨f, ts, tv, as⟩ := y
    obtain ⟨h1, h2, h3⟩ := h
    exact ⟨fun e => ⟨fun z => vv _ ((h1 e).1 z), fun k A' M' z g p f' => k0 _ _ _ g ((h1 e).2 k A' M' z g p f')⟩, fun e e9 => vv _ (h2 e e9), fun e g q c hg => ⟨fun z => vv _ ((h3 e g q c hg).1 z), fun z A' M' a g' f' => k1 _ _ ((h3 e g q c hg).2.1 z A' M' a g' f'), fun z A' M' a g' f' => k0 _ _ _ g' ((h3 e g q c hg).2.2 z A' M' a g' f')⟩⟩
theorem xs_call {w s : mC} {as rest : List mC} (h : gX M A (r :: F)) (i : iA A) (hiL : iL A) (h0 : m_l0 A) (c : iC A G) (ok : mFok (r :: F)) (hpl : r.pl + 1 < 600) (hG : xG M G) (wg : wG G (aL A).length) (hp : xLn M P) (hc : gi M 30 r.pl = 15) (ha : gi M 31 r.pl = nI as.length) (hr : r.st = as.reverse ++ w :: s :: rest) (vw : mval A w.1 w.2.1) (vs : mval A s.1 s.2.1) (hv : ∀ c ∈ as, mval A c.1 c.2.1)
    (hQ : endX Q M A G P (as.length + 2) (mFpl r (r.pl + 1)) F (m_cf A w s as)) : Z E YX1_step (d + 7) M [(0, zX16), (1, vi (nI r.pl))] 0 [] Q := by
  obtain ⟨n1, n2, n3, n4⟩ := xFs_nums h.2
  obtain ⟨g0, g1, -, g3, -⟩ := mFok_hd ok
  have hm := (mtot_le (mFok_tl ok)).1
  have hl : r.st.length = as.length + (rest.length + 2) := by rw [hr, List.length_append, List.length_reverse]; rfl
  obtain ⟨g, f⟩ := gX_pl h ok (r.pl + 1)
  have ok' : mFok (mFpl r (r.pl + 1) :: F) := mFok_pl ok hpl
  have hQ1 := endX_mono hQ f.cX3
  refine sX1_step_0 M _ h.1.1 ?_
  rw [n1, nn_cl (n := r.pl) (by omega), hc, ha, n3]
  refine ⟨by rw [nn_in (by omega)]; omega, by rw [nn_in (by omega)]; omega, by rw [nn_in (by omega)]; omega, by rw [nn_in (by omega)]; omega, ?_⟩
  repeat rw [if_neg (by decide)]
  rw [if_pos rfl]
  rw [show nI (mtot F + r.st.length) - nI as.length = nI (mtot F + rest.length + 2) from by rw [nn_sub (by omega)]; congr 1; omega, show nI (mtot F + rest.length + 2) - 2 = nI (mtot F + rest.length) from nn_sub (a := mtot F + rest.length + 2) (b := 2) (by omega), show nI (mtot F + rest.length + 2) - 1 = nI (mtot F + rest.length + 1) from nn_sub (a := mtot F + rest.length + 2) (b := 1) (by omega)]
  simp (disch := omega) only [nn_add, nn_addl, nn_ladd, nn_mul, nn_lmul, nn_mull, nn_sub, nn_subl, nn_lsub, nn_lt, nn_le, nn_eq, nn_ltl, nn_llt, nn_lel, nn_lle, nn_eql, nn_leq, nn_m1, nn_1m, nn_ltm, nn_mlt, nn_mle, nn_lem, nn_cl, nn_in, nn_ns, nn_ns2, nn_nb, nn_nb2, nn_s1, nn_s2, nn_b1, nn_b2]
  generalize si M 59 F.length (nI (r.pl + 1)) = M1 at *
  refine xm_call g i hiL h0 c ok' (xG_cX hG f.cX3) wg (xLn_cX hp f.cX3) hr vw vs hv (endX_out hQ1 (fun M' A' F' g' q => ?_) (fun M' e q => ?_))
  · show Z E YX1_step (d + 7) M' [] 578 [] Q
    exact iX1_step_578 M' g'.1.1 q
  · show ZT E YX1_step (d + 7) M' [] 575 e Q
    exact ZT.out (nohand rfl) q
/-- the proto of what a function makes -/
noncomputable def m_np (A : mA) (f : Nat) : Int32 := if (m_val A (a_get A f 1)).2.2.1 = 7 then (m_val A (a_get A f 1)).2.2.2 else 1
def m_nn (f : Nat) : Prop := f = 10 ∨ f = 11 ∨ f = 12 ∨ 14 ≤ f ∧ f ≤ 17
/-- NEW: what is owed -/
def newX (Q : zO → zM → Prop) (M : zM) (A : mA) (G : mG) (pp n : Nat) (w : mC) (as : List mC) (r : mF) (F : List mF) : Prop :=
  (¬ (w.1 = 7 ∧ gi (aT A) 141 w.2.1.toNatClampNeg = 1) → vX Q M (m_err A 0) n r F) ∧
  ∀ f : Nat, w.1 = 7 → w.2.1 = nI f → f < aO A → gi (aT A) 141 f = 1 →
    (f < 23 → m_nn f → vX Q M (m_nat A f 0 0 as) n r F) ∧ (f < 23 → ¬ m_nn f → vX Q M (m_err A 0) n r F) ∧
    (23 ≤ f → aO A = 300 → vX Q M (2, A, 0, 0) n r F) ∧
    (23 ≤ f → aO A < 300 → ∀ g q, gi (aT A) 142 f = nI g → G[g]? = some q → entX Q M (a_new A (m_np A f) pp 0 (-1)) f g q 7 (nI (aO A)) (nI (aO A)) as n r F)
theorem iC_new {pr st lk : Int32} {lb : Nat} (c : iC A G) (hst : ¬ st = 1) (hlb : lb < 160) : iC (a_new A pr lb st lk) G := by
  refine ⟨by show 23 ≤ aO A + 1; have := c.1; omega, fun f hf h1 => ?_⟩
  have hne : ¬ f = aO A := fun e => by
    rw [a_new_srt _ _ _ _ _ _ _ (by omega), if_pos e] at h1
    exact hst h1
  have hf' : f < aO A := by have : f < aO A + 1 := hf; omega
  rw [a_new_srt _ _ _ _ _ _ _ (by omega), if_neg hne] at h1
  rw [a_new_srt _ _ _ _ _ 142 _ (by omega), if_neg hne, a_new_srt _ _ _ _ _ 140 _ (by omega), if_neg hne]
  have e138 : gi (aT (a_new A pr lb st lk)) 138 f = if f < aO A ∧ 29 ≤ lb ∧ gi (aT A) 138 f = nI lb then nI (lb + 1) else gi (aT A) 138 f := by
    show gi (m_new (aT A) (aO A) pr lb st lk) 138 f = _
    rw [m_new_at]
    simp [hne]
  rw [e138]
  rcases c.2 f hf' h1 with ⟨c1, c2, c3, c4⟩ | ⟨c1, c2, c3, ⟨l, c4, c5, c6⟩, c7⟩
  · left
    refine ⟨c1, c2, c3, ?_⟩
    rw [if_neg (fun z => by rw [c4, nn_eq (by omega) (by omega)] at z; omega)]
    exact c4
  · right
    refine ⟨c1, c2, c3, ?_, c7⟩
    by_cases z : f < aO A ∧ 29 ≤ lb ∧ gi (aT A) 138 f = nI lb
    · rw [if_pos z]; exact ⟨lb + 1, rfl, by omega, by omega⟩
    · rw [if_neg z]; exact ⟨l, c4, c5, c6⟩
theorem m_np_ok {f : Nat} (i : iA A) (h23 : 23 ≤ aO A) (hf : f < aO A) : ∃ p, m_np A f = nI p ∧ p < aO A := by
  have hob := i.1.1.2
  unfold m_np
  rcases a_get_or i hf 1 with e | ⟨q, z, hz, hq, q3, eq, e⟩
  · unfold m_val
    rw [if_pos e]
    exact ⟨1, rfl, by omega⟩
  · have em : m_val A (a_get A f 1) = (0, A, gi (aT A) 146 q, gi (aT A) 147 q) := by
      unfold m_val
      rw [if_neg (by rw [e, nn_m1 (by omega)]; exact fun z => z), e, nn_cl (by omega)]
    rw [em]
    dsimp only
    by_cases h7 : gi (aT A) 146 q = 7
    · rw [if_pos h7]
      obtain ⟨⟨k, k1, k2, -, k7⟩, -⟩ := i.2.2.1 z hz q hq
      obtain ⟨j, ej, hj⟩ := k7 (by rw [k1] at h7; simp (disch := omega) only [nn_add, nn_addl, nn_ladd, nn_mul, nn_lmul, nn_mull, nn_sub, nn_subl, nn_lsub, nn_lt, nn_le, nn_eq, nn_ltl, nn_llt, nn_lel, nn_lle, nn_eql, nn_leq, nn_m1, nn_1m, nn_ltm, nn_mlt, nn_mle, nn_lem, nn_cl, nn_in, nn_ns, nn_ns2, nn_nb, nn_nb2, nn_s1, nn_s2, nn_b1, nn_b2] at h7; exact h7)
      exact ⟨j, ej, hj⟩
    · rw [if_neg h7]; exact ⟨1, rfl, by omega⟩
theorem xm_new {site : Nat} {w : mC} {as rest : List mC} (h : gX M A (r :: F)) (i : iA A) (hiL : iL A) (h0 : m_l0 A) (c : iC A G) (ok : mFok (r :: F)) (hG : xG M G) (wg : wG G (aL A).length) (hpp : 29 + 6 * (G.length - 1) + 2 * site < 160) (hr : r.st = as.reverse ++ w :: rest) (vw : mval A w.1 w.2.1) (hv : ∀ c ∈ as, mval A c.1 c.2.1)
    (hQ : newX Q M A G (29 + 6 * (G.length - 1) + 2 * site) (as.length + 1) w as r F) : Z E YX1_makeNew (d + 6) M [(0, zX16), (1, vi (nI as.length)), (2, vi (nI site))] 0 [] Q := by
  have hob := i.1.1.2
  have h23 := c.1
  obtain ⟨g0, g1, -, g3, -⟩ := mFok_hd ok
  have hm := (mtot_le (mFok_tl ok)).1
  have hl : r.st.length = as.length + (rest.length + 1) := by rw [hr, List.length_append, List.length_reverse]; rfl
  obtain ⟨n1, n2, n3, n4⟩ := xFs_nums h.2
  obtain ⟨x1, x2⟩ := x_args h.2 hr
  obtain ⟨w1, w2⟩ := x1 0 w rfl
  rw [show mtot F + ((w :: rest).length - 1 - 0) = mtot F + rest.length by simp] at w1 w2
  rw [show mtot F + (w :: rest).length = mtot F + rest.length + 1 by simp; omega] at x2
  obtain ⟨q0, qf⟩ := hQ
  have er : vX Q M (m_err A 0) (as.length + 1) r F → Z E YX1_error (d + 5) M (zargs 0 [zX16, vi 0]) 0 [] (zafter E YX1_makeNew (d + 6) [] 107 3 [] Q) := fun hq => by
    refine vX_err (d := d + 4) (m := 0) hq rfl h i ok (by omega) (fun M' q s' => ?_) (fun M' q => ?_)
    · show Z E YX1_makeNew (d + 6) M' [] 110 [vr (some (52, 14, 0))] Q
      exact sX1_makeNew_110 M' _ s'.1 ⟨52, rfl, q⟩
    · show ZT E YX1_makeNew (d + 6) M' [] 107 (51, 13, 0) Q
      exact ZT.out (nohand rfl) q
  have bad : ¬ (w.1 = 7 ∧ gi (aT A) 141 w.2.1.toNatClampNeg = 1) → Z E YX1_makeNew (d + 6) M [(0, zX16), (1, vi (nI as.length)), (2, vi (nI site)), (3, vi (nI (mtot F + rest.length))), (4, vi (-1))] 57 [vi 0] Q := fun z => by
    refine iX1_makeNew_57 M _ _ _ _ _ h.1.1 ?_
    rw [if_pos rfl]
    exact er (q0 z)
  refine iX1_makeNew_0 M _ _ h.1.1 ?_
  rw [n3, show nI (mtot F + r.st.length) - nI as.length - 1 = nI (mtot F + rest.length) from by rw [nn_sub (by omega), nn_subl (by omega)]; congr 1; omega, nn_cl (n := mtot F + rest.length) (by omega), w1, w2]
  refine ⟨by rw [nn_in (by omega)]; omega, ?_⟩
  by_cases c7 : w.1 = 7
  · rw [if_pos c7]
    obtain ⟨kk, ek, hkk, -, k7⟩ := vw.1
    obtain ⟨j, ej, hj⟩ := k7 (by rw [ek] at c7; simp (disch := omega) only [nn_add, nn_addl, nn_ladd, nn_mul, nn_lmul, nn_mull, nn_sub, nn_subl, nn_lsub, nn_lt, nn_le, nn_eq, nn_ltl, nn_llt, nn_lel, nn_lle, nn_eql, nn_leq, nn_m1, nn_1m, nn_ltm, nn_mlt, nn_mle, nn_lem, nn_cl, nn_in, nn_ns, nn_ns2, nn_nb, nn_nb2, nn_s1, nn_s2, nn_b1, nn_b2] at c7; exact c7)
    rw [ej, nn_cl (n := j) (by omega), (h.1.2.1.2.2.1 j hj).1]
    refine ⟨by rw [nn_in (by omega)]; omega, ?_⟩
    by_cases c1 : gi (aT A) 141 j = 1
    · obtain ⟨qn, qb, q3, qe⟩ := qf j c7 ej hj c1
      have jm : ¬ nI j = -1 := by rw [nn_m1 (by omega)]; exact fun z => z
      rw [if_pos c1, if_neg jm]
      refine iX1_makeNew_57 M _ _ _ _ _ h.1.1 ?_
      rw [if_neg jm]
      rcases x_code h.1 i c hj c1 with ⟨d1, d2, d3, d4⟩ | ⟨d1, ⟨g, q, hg, hg1, d3, d4⟩, d5⟩
      · obtain ⟨k1, k2, k3, k4, k5, k6⟩ := n_neg2 j d2 d1
        obtain ⟨-, -, kk3⟩ := n_neg j d2 d1
        rw [d4, if_neg k1, kk3]
        have nat : m_nn j → Z E YX1_carryOut (d + 5) M (zargs 0 [zX16, vi (nI j), vi 0, vi 0, vi (nI (mtot F + rest.length) + 1), vi (nI as.length)]) 0 [] (zafter E YX1_makeNew (d + 6) [(0, zX16), (3, vi (nI (mtot F + rest.length)))] 126 3 [] Q) := fun hn => by
          rw [show nI (mtot F + rest.length) + 1 = nI (mtot F + rest.length + 1) from nn_add _ 1]
          refine xm_nat h i hiL h0 h23 ok (by unfold m_nn at hn; omega) d2 (by unfold m_nn at hn; omega) (by omega) (by omega) x2 hv mval_0 (rX_at (t := mtot F + rest.length) (qn d2 hn) ok (by omega) (by omega) (m_nat_ok i mval_0) (fun M' w k => ?_) (fun M' e k => ?_))
          · show Z E YX1_makeNew (d + 6) M' [(0, zX16), (3, vi (nI (mtot F + rest.length)))] 129 [] Q
            exact iX1_makeNew_129 M' _ w k
          · show ZT E YX1_makeNew (d + 6) M' _ 126 e Q
            exact ZT.out (nohand rfl) k
        by_cases e10 : j = 10
        · rw [if_pos (k2.mpr e10)]; exact nat (.inl e10)
        rw [if_neg (fun z => e10 (k2.mp z))]
        by_cases e11 : j = 11
        · rw [if_pos (k3.mpr e11)]; exact nat (.inr (.inl e11))
        rw [if_neg (fun z => e11 (k3.mp z))]
        by_cases e12 : j = 12
        · rw [if_pos (k4.mpr e12)]; exact nat (.inr (.inr (.inl e12)))
        rw [if_neg (fun z => e12 (k4.mp z))]
        by_cases e14 : j < 14
        · rw [if_pos (k5.mpr e14)]; exact er (qb d2 (by unfold m_nn; omega))
        rw [if_neg (fun z => e14 (k5.mp z))]
        by_cases e17 : j ≤ 17
        · rw [if_pos (k6.mpr e17)]; exact nat (.inr (.inr (.inr ⟨by omega, e17⟩)))
        · rw [if_neg (fun z => e17 (k6.mp z))]; exact er (qb d2 (by unfold m_nn; omega))
      · obtain ⟨v1, v2, v3⟩ := id wg
        have hgl : g < G.length := (List.getElem?_eq_some_iff.mp hg).1
        rw [d4, if_pos (by rw [nn_0, nn_le (by omega) (by omega)]; omega)]
        refine xA_find h.1 i hj ?_
        show Z E YX1_makeNew (d + 6) M [(0, zX16), (1, vi (nI as.length)), (2, vi (nI site)), (3, vi (nI (mtot F + rest.length))), (4, vi (nI j))] 154 [vi (a_get A j 1)] Q
        have born : ∀ pr, pr = m_np A j → Z E YX1_born (d + 5) M (zargs 0 [zX16, vi 0, vi (29 + 6 * (nI G.length - 1) + 2 * nI site), vi pr, vi (-1)]) 0 [] (zafter E YX1_makeNew (d + 6) [(0, zX16), (1, vi (nI as.length)), (3, vi (nI (mtot F + rest.length))), (4, vi (nI j))] 193 3 [] Q) := fun pr epr => by
          obtain ⟨p, ep, hp⟩ := m_np_ok i h23 hj
          simp (disch := omega) only [nn_add, nn_addl, nn_ladd, nn_mul, nn_lmul, nn_mull, nn_sub, nn_subl, nn_lsub, nn_lt, nn_le, nn_eq, nn_ltl, nn_llt, nn_lel, nn_lle, nn_eql, nn_leq, nn_m1, nn_1m, nn_ltm, nn_mlt, nn_mle, nn_lem, nn_cl, nn_in, nn_ns, nn_ns2, nn_nb, nn_nb2, nn_s1, nn_s2, nn_b1, nn_b2]
          refine xA_new (ks := 0) (pp := 29 + 6 * (G.length - 1) + 2 * site) (lk := -1) h.1 i (by omega) (by omega) hpp (fun _ => by omega) (by rw [epr, ep]; exact nn_nss (by omega)) rfl (fun h3 => ?_) (fun hlt s' => ?_)
          · show ZT E YX1_makeNew (d + 6) M _ 193 (51, 13, 0) Q
            exact ZT.out (nohand rfl) ((q3 d1 h3).2.2 rfl M h fr.rf)
          · obtain ⟨g2, f2⟩ := gX_new h ok s'
            rw [epr] at s' g2 f2 ⊢
            have i2 : iA (a_new A (m_np A j) (29 + 6 * (G.length - 1) + 2 * site) (nI 0) (-1)) := iA_new i hlt (.inr ⟨p, ep, hp⟩) (by omega)
            have c2 : iC (a_new A (m_np A j) (29 + 6 * (G.length - 1) + 2 * site) (nI 0) (-1)) G := iC_new c (by decide) hpp
            have hj2 : j < aO (a_new A (m_np A j) (29 + 6 * (G.length - 1) + 2 * site) (nI 0) (-1)) := Nat.lt_succ_of_lt hj
            have e141 : gi (aT (a_new A (m_np A j) (29 + 6 * (G.length - 1) + 2 * site) (nI 0) (-1))) 141 j = 1 := by rw [a_new_srt _ _ _ _ _ _ _ (by omega), if_neg (by omega)]; exact c1
            have e142 : gi (aT (a_new A (m_np A j) (29 + 6 * (G.length - 1) + 2 * site) (nI 0) (-1))) 142 j = nI g := by rw [a_new_srt _ _ _ _ _ _ _ (by omega), if_neg (by omega)]; exact d3
            obtain ⟨e1, e2, e3⟩ := entX_mono (qe d1 hlt g q d3 hg) f2
            show Z E YX1_makeNew (d + 6) (x_new M (aO A) (nI 0) (29 + 6 * (G.length - 1) + 2 * site) (m_np A j) (-1)) [(0, zX16), (1, vi (nI as.length)), (3, vi (nI (mtot F + rest.length))), (4, vi (nI j))] 196 [vi (nI (aO A))] Q
            generalize x_new M (aO A) (nI 0) (29 + 6 * (G.length - 1) + 2 * site) (m_np A j) (-1) = M2 at *
            refine sX1_makeNew_196 M2 _ _ _ _ s'.1 ?_
            rw [show nI (mtot F + rest.length) + 1 = nI (mtot F + rest.length + 1) from nn_add _ 1]
            obtain ⟨y1, y2⟩ := x_args g2.2 hr
            rw [show mtot F + (w :: rest).length = mtot F + rest.length + 1 by simp; omega] at y2
            rcases x_code s' i2 c2 hj2 e141 with ⟨-, z2, -⟩ | ⟨-, ⟨g', q', hg', -, z3, z4⟩, z5⟩
            · omega
            · have egg : g' = g := by
                obtain ⟨hgl', -⟩ := List.getElem?_eq_some_iff.mp hg'
                rw [e142, nn_eq (by omega) (by omega)] at z3; exact z3.symm
              subst egg
              refine xm_enter (n := as.length + 1) (rest := rest) (d := d + 1) s' i2 g2.2 ok (xG_cX hG f2) wg hg hg1 hj2 e141 z4 z5 rfl (nn_nss (by omega)) (by omega) (by rw [hr, show as.length + 1 = as.reverse.length + 1 by simp, List.drop_append]; simp) (by omega) y2 (fun z hz => mval_new (hv z hz)) (fun z => ?_) (fun z A' M' e s3 f3 => ?_) (fun z A' M' e g3 f3 => ?_)
              · have v := e1 z
                refine ⟨fun w => absurd w (m_err_1 _ 2), fun w M' g a b f => ?_, fun w M' g f => ?_⟩
                · show ZT E YX1_makeNew (d + 6) M' [] 212 (52, 14, 0) Q
                  exact ZT.out (nohand rfl) (v.2.1 w M' g a b f)
                · show ZT E YX1_makeNew (d + 6) M' [] 212 (51, 13, 0) Q
                  exact ZT.out (nohand rfl) (v.2.2 w M' g f)
              · obtain ⟨g4, f4⟩ := gX_hp g2 ok s3 f3
                show ZT E YX1_makeNew (d + 6) M' [] 212 (51, 13, 0) Q
                exact ZT.out (nohand rfl) (e2 z A' M' e g4 f4)
              · show Z E YX1_makeNew (d + 6) M' [] 215 [] Q
                refine sX1_makeNew_215 M' g3.1.1 (e3 z A' M' e ?_ f3)
                rw [show r.st.drop (as.length + 1) = rest by rw [hr, show as.length + 1 = as.reverse.length + 1 by simp, List.drop_append]; simp]
                exact g3
        refine iX1_makeNew_154 M _ _ _ _ _ h.1.1 ⟨28, hG.1, ?_⟩
        rw [hG.2.1]
        rcases a_get_or i hj 1 with e | ⟨p, z, hz, hpz, p3, ep, e⟩
        · rw [if_pos e]
          exact born 1 (by unfold m_np m_val; rw [if_pos e]; rfl)
        · have en : ¬ a_get A j 1 = -1 := by rw [e, nn_m1 (by omega)]; exact fun z => z
          rw [if_neg en, e, nn_cl (n := p) (by omega)]
          obtain ⟨-, -, b48, b49, -⟩ := h.1.2.1.2.2.2 z hz p hpz
          rw [b48, b49]
          refine ⟨by rw [nn_in (by omega)]; omega, ?_⟩
          by_cases h7 : gi (aT A) 146 p = 7
          · rw [if_pos h7]
            exact born _ (by unfold m_np m_val; rw [if_neg en, e, nn_cl (by omega)]; exact (if_pos h7).symm)
          · rw [if_neg h7]
            exact born _ (by unfold m_np m_val; rw [if_neg en, e, nn_cl (by omega)]; exact (if_neg h7).symm)
    · rw [if_neg c1]
      exact bad (fun z => by rw [ej, nn_cl (by omega)] at z; exact c1 z.2)
  · rw [if_neg c7]
    exact bad (fun z => c7 z.1)
end
