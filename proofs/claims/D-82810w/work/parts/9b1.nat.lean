/-! NATIVES of the component -/
/-- the first argument, or undefined -/
def m_a0 (as : List mC) : Int32 × Int32 := match as with | [] => (0, 0) | c :: _ => (c.1, c.2.1)
theorem m_a0_ok {A : mA} {as : List mC} (h : ∀ c ∈ as, mval A c.1 c.2.1) : mval A (m_a0 as).1 (m_a0 as).2 := by
  cases as with
  | nil => exact mval_0
  | cons c l => exact h c List.mem_cons_self
def m_tx (A : mA) (s v : Int32) : mE := match a_text A s v with
  | none => (2, A, 0, 0)
  | some (k, A') => (0, A', 6, nI k)
def m_nan (A : mA) (s v : Int32) : mE := (0, A, (if (mnV (aL A) s v).isSome = true then 3 else 2), 0)
def m_erm (A : mA) (f : Nat) (as : List mC) : mE :=
  if aO A = 300 then (2, A, 0, 0) else if as.length = 0 then (0, a_new A (nI (f - 9)) (f + 11) 0 (-1), 7, nI (aO A)) else
    match a_text (a_new A (nI (f - 9)) (f + 11) 0 (-1)) (m_a0 as).1 (m_a0 as).2 with
    | none => (2, a_new A (nI (f - 9)) (f + 11) 0 (-1), 0, 0)
    | some (k, A2) => match a_set A2 (aO A) 3 6 (nI k) with
      | (false, A3) => (2, A3, 0, 0)
      | (true, A3) => (0, A3, 7, nI (aO A))
def m_has (A : mA) (ts tv s v : Int32) : mE := if ts = 7 then (match a_text A s v with
  | none => (2, A, 0, 0)
  | some (k, A1) => (0, A1, (if m_own A1 tv.toNatClampNeg (nI k) = -1 then 3 else 2), 0)) else m_err A 0
/-- the letter of a text at a place, as a text -/
def m_let (w : List Int32) (x : Int32) : List Int32 := if x < 0 then [] else if nI w.length ≤ x then [] else [w.getD x.toNatClampNeg 0]
def m_chr (A : mA) (ts tv s v : Int32) : mE := if ts = 6 then (match mmk (aL A) (m_let (mtx (aL A) tv) ((mnV (aL A) s v).getD 0)) with
  | none => (2, A, 0, 0)
  | some (k, L') => (0, (aT A, L', aO A, aP A, aF A), 6, nI k)) else m_err A 0
section
variable {E : zE} {d : Nat} {T M : zM} {Q : zO → zM → Prop} {A : mA} {r : mF} {F : List mF}
theorem xn_0 {l1 ts tv : Int32} {src : Nat} {as : List mC} (hw : cw M) (hs : src + as.length ≤ 14500) (ha : ∀ k c, as[k]? = some c → gi M 53 (src + k) = c.1 ∧ gi M 54 (src + k) = c.2.1) (k : Z E YX1_carryOut (d + 1) M [(0, zX16), (1, vi l1), (2, vi ts), (3, vi tv), (5, vi (nI as.length)), (6, vi (m_a0 as).1)] 34 [vi (m_a0 as).2] Q) : Z E YX1_carryOut (d + 1) M [(0, zX16), (1, vi l1), (2, vi ts), (3, vi tv), (4, vi (nI src)), (5, vi (nI as.length))] 0 [] Q := by
  refine iX1_carryOut_0 M _ _ _ _ _ hw ?_
  cases as with
  | nil => rw [if_pos (by decide)]; exact k
  | cons c l =>
    rw [List.length_cons] at hs
    obtain ⟨a1, a2⟩ := ha 0 c rfl
    have a1 : gi M 53 src = c.1 := a1
    have a2 : gi M 54 src = c.2.1 := a2
    rw [if_neg (by rw [nn_0, nn_le (by rw [List.length_cons]; omega) (by omega), List.length_cons]; omega), nn_cl (n := src) (by omega), a1, a2]
    exact ⟨by rw [nn_in (by omega)]; omega, k⟩
/-- a text is made: no room, or its number -/
theorem xn_12 {l2 l3 : Int32} {as : List mC} (h : gX M A (r :: F)) (i : iA A) (ok : mFok (r :: F)) (hl : as.length ≤ 400) (hv : mval A (m_a0 as).1 (m_a0 as).2) (hQ : rX Q M (if as.length = 0 then (0, A, 6, 30) else m_tx A (m_a0 as).1 (m_a0 as).2) r F) : Z E YX1_carryOut (d + 4) M [(0, zX16), (1, vi 12), (2, vi l2), (3, vi l3), (5, vi (nI as.length)), (6, vi (m_a0 as).1)] 34 [vi (m_a0 as).2] Q := by
  refine iX1_carryOut_34 M _ _ _ _ _ _ h.1.1 ?_
  rw [if_neg (by decide), if_neg (by decide), if_neg (by decide), if_pos rfl]
  by_cases h0 : as.length = 0
  · rw [if_pos h0] at hQ
    rw [if_pos (by rw [h0]; decide)]
    exact rX_0 hQ rfl h ok
  · rw [if_neg h0] at hQ
    rw [if_neg (by rw [nn_0, nn_le (by omega) (by omega)]; omega)]
    unfold m_tx at hQ
    refine xA_text h.1 i hv.1 (fun k A1 M1 e s1 f1 => ?_) (fun M1 e f1 => ?_)
    · rw [e] at hQ
      dsimp only at hQ
      have g1 : gX M1 A1 (r :: F) := ⟨s1, xFs_cg h.2 ok f1 (fun a k q => q.elim .inl (fun q => .inr (.inl q)))⟩
      show Z E YX1_carryOut (d + 4) M1 [] 204 [vi (nI k), vi 6, zX16] Q
      exact iX1_carryOut_204 M1 _ _ s1.1 (rX_0 (rX_mono hQ f1.cX2) rfl g1 ok)
    · rw [e] at hQ
      show ZT E YX1_carryOut (d + 4) M1 [] 201 (51, 13, 0) Q
      exact ZT.out (nohand rfl) (hQ.2.2 rfl M1 ⟨sX_cg h.1 f1 (fun a k q => .inl q), xFs_cg h.2 ok f1 (fun a k q => .inl q)⟩ f1.cX1)
theorem xn_10 {l2 l3 l5 l6 s0 : Int32} (h : gX M A (r :: F)) (i : iA A) (ok : mFok (r :: F)) (hQ : rX Q M (m_obj A 23) r F) : Z E YX1_carryOut (d + 1) M [(0, zX16), (1, vi 10), (2, vi l2), (3, vi l3), (5, vi l5), (6, vi l6)] 34 [vi s0] Q := by
  refine iX1_carryOut_34 M _ _ _ _ _ _ h.1.1 ?_
  rw [if_neg (by decide), if_pos rfl]
  unfold m_obj at hQ
  refine xA_new (ks := 0) (pp := 23) (pr := 1) (lk := -1) h.1 i (by omega) (by omega) (by omega) (by omega) rfl rfl (fun h3 => ?_) (fun hlt s' => ?_)
  · rw [if_pos h3] at hQ
    show ZT E YX1_carryOut (d + 1) M [] 164 (51, 13, 0) Q
    exact ZT.out (nohand rfl) (hQ.2.2 rfl _ h fr.rf)
  · rw [if_neg (by omega)] at hQ
    obtain ⟨g2, f2⟩ := gX_new h ok s'
    show Z E YX1_carryOut (d + 1) (x_new M (aO A) (nI 0) 23 1 (-1)) [] 167 [vi (nI (aO A)), vi 7, zX16] Q
    exact iX1_carryOut_167 _ _ _ s'.1 (rX_0 (rX_mono hQ f2) rfl g2 ok)
theorem xn_11 {l2 l3 l5 l6 s0 : Int32} (h : gX M A (r :: F)) (i : iA A) (h9 : 9 ≤ aO A) (ok : mFok (r :: F)) (hQ : rX Q M (m_arr A 24) r F) : Z E YX1_carryOut (d + 3) M [(0, zX16), (1, vi 11), (2, vi l2), (3, vi l3), (5, vi l5), (6, vi l6)] 34 [vi s0] Q := by
  refine iX1_carryOut_34 M _ _ _ _ _ _ h.1.1 ?_
  rw [if_neg (by decide), if_neg (by decide), if_pos rfl]
  refine xm_arr (pp := 24) h.1 i h9 (by omega) (by omega) (fun A' M' e s' f' => ?_) (fun A' M' e s' f' => ?_)
  · obtain ⟨g2, f2⟩ := gX_hp h ok s' f'
    rw [e] at hQ
    show ZT E YX1_carryOut (d + 3) M' [] 179 (51, 13, 0) Q
    exact ZT.out (nohand rfl) (hQ.2.2 rfl _ g2 f2)
  · obtain ⟨g2, f2⟩ := gX_hp h ok s' f'
    rw [e] at hQ
    show Z E YX1_carryOut (d + 3) M' [] 182 [vi (nI (aO A)), vi 7, zX16] Q
    exact iX1_carryOut_182 _ _ _ s'.1 (rX_0 (rX_mono hQ f2) rfl g2 ok)
theorem xn_13 {l2 l3 l5 s v : Int32} (h : gX M A (r :: F)) (ok : mFok (r :: F)) (hv : mval A s v) (hQ : rX Q M (m_nan A s v) r F) : Z E YX1_carryOut (d + 3) M [(0, zX16), (1, vi 13), (2, vi l2), (3, vi l3), (5, vi l5), (6, vi s)] 34 [vi v] Q := by
  refine iX1_carryOut_34 M _ _ _ _ _ _ h.1.1 ?_
  rw [if_neg (by decide), if_neg (by decide), if_neg (by decide), if_neg (by decide), if_pos rfl]
  refine xm_numV h.1.1 h.1.2.2.2 hv.1 (fun x M' hx f _ => ?_)
  have s' := sX_cg h.1 f (fun a k q => .inl q)
  have g' : gX M' A (r :: F) := ⟨s', xFs_cg h.2 ok f (fun a k q => .inl q)⟩
  have hQ1 := rX_mono hQ f.cX1
  unfold m_nan at hQ1
  show Z E YX1_carryOut (d + 3) M' [] 224 [vi x, zX16] Q
  refine iX1_carryOut_224 M' _ s'.1 ?_
  rw [hx]
  cases hb : (mnV (aL A) s v).isSome
  · rw [hb, if_neg (by decide)] at hQ1
    rw [if_pos (show bI false = 0 from rfl)]; exact rX_0 hQ1 rfl g' ok
  · rw [hb, if_pos rfl] at hQ1
    rw [if_neg (by decide)]; exact rX_0 hQ1 rfl g' ok
theorem xn_21 {l3 l5 ts s v : Int32} (h : gX M A (r :: F)) (i : iA A) (ok : mFok (r :: F)) (hv : mval A s v) (ht : mval A ts l3) (hQ : rX Q M (m_has A ts l3 s v) r F) : Z E YX1_carryOut (d + 4) M [(0, zX16), (1, vi 21), (2, vi ts), (3, vi l3), (5, vi l5), (6, vi s)] 34 [vi v] Q := by
  have hob := i.1.1.2
  refine iX1_carryOut_34 M _ _ _ _ _ _ h.1.1 ?_
  repeat rw [if_neg (by decide)]
  rw [if_pos rfl]
  unfold m_has at hQ
  by_cases c7 : ts = 7
  · rw [if_pos c7] at hQ ⊢
    obtain ⟨kk, ek, hkk, k6, k7⟩ := ht.1
    obtain ⟨j, ej, hj⟩ := k7 (by rw [ek] at c7; simp (disch := omega) only [nn_add, nn_addl, nn_ladd, nn_mul, nn_lmul, nn_mull, nn_sub, nn_subl, nn_lsub, nn_lt, nn_le, nn_eq, nn_ltl, nn_llt, nn_lel, nn_lle, nn_eql, nn_leq, nn_m1, nn_1m, nn_ltm, nn_mlt, nn_mle, nn_lem, nn_cl, nn_in, nn_ns, nn_ns2, nn_nb, nn_nb2, nn_s1, nn_s2, nn_b1, nn_b2] at c7; exact c7)
    rw [ej, nn_cl (by omega)] at hQ
    rw [ej]
    refine xA_text h.1 i hv.1 (fun k A1 M1 e s1 f1 => ?_) (fun M1 e f1 => ?_)
    · rw [e] at hQ
      dsimp only at hQ
      obtain ⟨i1, hk, hL, -, eT, eO, eP, eF⟩ := iA_text i hv.1 e
      have g1 : gX M1 A1 (r :: F) := ⟨s1, xFs_cg h.2 ok f1 (fun a k q => q.elim .inl (fun q => .inr (.inl q)))⟩
      have hQ1 := rX_mono hQ f1.cX2
      show Z E YX1_carryOut (d + 4) M1 [] 283 [vi (nI k), vi (nI j), zX16, zX16] Q
      refine sX1_carryOut_283 M1 _ _ s1.1 (xA_own s1 i1 (by omega) ?_)
      show Z E YX1_carryOut (d + 4) M1 [] 286 [vi (m_own A1 j (nI k)), zX16] Q
      refine iX1_carryOut_286 M1 _ s1.1 ?_
      by_cases q : m_own A1 j (nI k) = -1
      · rw [if_pos q] at hQ1 ⊢; exact rX_0 hQ1 rfl g1 ok
      · rw [if_neg q] at hQ1 ⊢; exact rX_0 hQ1 rfl g1 ok
    · rw [e] at hQ
      show ZT E YX1_carryOut (d + 4) M1 [] 280 (51, 13, 0) Q
      exact ZT.out (nohand rfl) (hQ.2.2 rfl M1 ⟨sX_cg h.1 f1 (fun a k q => .inl q), xFs_cg h.2 ok f1 (fun a k q => .inl q)⟩ f1.cX1)
  · rw [if_neg c7] at hQ ⊢
    refine rX_err (m := 0) hQ rfl h i ok (by omega) (fun M' q s' => ?_) (fun M' q => ?_)
    · show Z E YX1_carryOut (d + 4) M' [] 271 [vr (some (52, 14, 0))] Q
      exact sX1_carryOut_271 M' _ s'.1 ⟨52, rfl, q⟩
    · show ZT E YX1_carryOut (d + 4) M' [] 268 (51, 13, 0) Q
      exact ZT.out (nohand rfl) q
/-- errors' constructors -/
theorem xn_erm {f : Nat} {l2 l3 : Int32} {as : List mC} (h : gX M A (r :: F)) (i : iA A) (h9 : 9 ≤ aO A) (ok : mFok (r :: F)) (hl : as.length ≤ 400) (hv : mval A (m_a0 as).1 (m_a0 as).2) (h14 : 14 ≤ f) (h17 : f ≤ 17) (hQ : rX Q M (m_erm A f as) r F) : Z E YX1_carryOut (d + 4) M [(0, zX16), (1, vi (nI f)), (2, vi l2), (3, vi l3), (5, vi (nI as.length)), (6, vi (m_a0 as).1)] 34 [vi (m_a0 as).2] Q := by
  have hob := i.1.1.2
  have cont : Z E YX1_born (d + 3) M (zargs 0 [zX16, vi 0, vi (nI f + 11), vi (nI f - 9), vi (-1)]) 0 [] (zafter E YX1_carryOut (d + 4) [(0, zX16), (5, vi (nI as.length)), (6, vi (m_a0 as).1), (7, vi (m_a0 as).2)] 394 3 [] Q) := by
    rw [nn_addl, show nI f - 9 = nI (f - 9) from nn_subl (by omega)]
    unfold m_erm at hQ
    refine xA_new (ks := 0) (pp := f + 11) (pr := nI (f - 9)) (lk := -1) h.1 i (by omega) (by omega) (by omega) (by omega) (nn_nss (by omega)) rfl (fun h3 => ?_) (fun hlt s' => ?_)
    · rw [if_pos h3] at hQ
      show ZT E YX1_carryOut (d + 4) M _ 394 (51, 13, 0) Q
      exact ZT.out (nohand rfl) (hQ.2.2 rfl _ h fr.rf)
    · rw [if_neg (by omega)] at hQ
      obtain ⟨g2, f2⟩ := gX_new h ok s'
      have i2 : iA (a_new A (nI (f - 9)) (f + 11) (nI 0) (-1)) := iA_new i hlt (.inr ⟨f - 9, rfl, by omega⟩) (by omega)
      have hQ2 := rX_mono hQ f2
      show Z E YX1_carryOut (d + 4) (x_new M (aO A) (nI 0) (f + 11) (nI (f - 9)) (-1)) [(0, zX16), (5, vi (nI as.length)), (6, vi (m_a0 as).1), (7, vi (m_a0 as).2)] 397 [vi (nI (aO A))] Q
      generalize x_new M (aO A) (nI 0) (f + 11) (nI (f - 9)) (-1) = M2 at *
      refine iX1_carryOut_397 M2 _ _ _ _ s'.1 ?_
      by_cases h0 : as.length = 0
      · rw [if_pos h0] at hQ2
        rw [if_pos (by rw [h0]; decide)]
        exact rX_0 hQ2 rfl g2 ok
      · rw [if_neg h0] at hQ2
        rw [if_neg (by rw [nn_0, nn_le (by omega) (by omega)]; omega)]
        have hv2 : mval (a_new A (nI (f - 9)) (f + 11) (nI 0) (-1)) (m_a0 as).1 (m_a0 as).2 := mval_new hv
        refine xA_text s' i2 hv2.1 (fun k A3 M3 e s3 f3 => ?_) (fun M3 e f3 => ?_)
        · have e' : a_text (a_new A (nI (f - 9)) (f + 11) 0 (-1)) (m_a0 as).1 (m_a0 as).2 = some (k, A3) := e
          rw [e'] at hQ2
          dsimp only at hQ2
          obtain ⟨i3, hk, hL, -, eT, eO, eP, eF⟩ := iA_text i2 hv2.1 e
          have eO : aO A3 = aO A + 1 := eO
          have hk4 := i3.2.1.2.1
          have g3 : gX M3 A3 (r :: F) := ⟨s3, xFs_cg g2.2 ok f3 (fun a k q => q.elim .inl (fun q => .inr (.inl q)))⟩
          have hQ3 := rX_mono hQ2 f3.cX2
          show Z E YX1_carryOut (d + 4) M3 [(0, zX16), (8, vi (nI (aO A)))] 418 [vi (nI k), vi 6, vi 3, vi (nI (aO A)), zX16] Q
          refine sX1_carryOut_418 M3 _ _ _ _ _ s3.1 ?_
          refine xA_set (o := aO A) (jx := 3) (ks := 6) (v := nI k) s3 i3 (by omega) (by omega) (by omega) (fun M4 A4 ea s4 f4 => ?_) (fun A4 ea eA => ?_)
          · have ea' : a_set A3 (aO A) 3 6 (nI k) = (true, A4) := ea
            rw [ea'] at hQ3
            dsimp only at hQ3
            show Z E YX1_carryOut (d + 4) M4 [(0, zX16), (8, vi (nI (aO A)))] 421 [] Q
            exact iX1_carryOut_421 M4 _ s4.1 (rX_0 (rX_mono hQ3 f4.cX5) rfl (gX_fX g3 ok s4 f4) ok)
          · have ea' : a_set A3 (aO A) 3 6 (nI k) = (false, A4) := ea
            rw [ea'] at hQ3
            dsimp only at hQ3
            rw [eA] at hQ3
            show ZT E YX1_carryOut (d + 4) M3 _ 418 (51, 13, 0) Q
            exact ZT.out (nohand rfl) (hQ3.2.2 rfl M3 g3 fr.rf)
        · have e' : a_text (a_new A (nI (f - 9)) (f + 11) 0 (-1)) (m_a0 as).1 (m_a0 as).2 = none := e
          rw [e'] at hQ2
          show ZT E YX1_carryOut (d + 4) M3 _ 415 (51, 13, 0) Q
          exact ZT.out (nohand rfl) (hQ2.2.2 rfl M3 ⟨sX_cg s' f3 (fun a k q => .inl q), xFs_cg g2.2 ok f3 (fun a k q => .inl q)⟩ f3.cX1)
  refine iX1_carryOut_34 M _ _ _ _ _ _ h.1.1 ?_
  obtain e | e | e | e : f = 14 ∨ f = 15 ∨ f = 16 ∨ f = 17 := by omega
  · subst e
    rw [if_neg (by decide), if_neg (by decide), if_neg (by decide), if_neg (by decide), if_neg (by decide), if_pos (show nI 14 = 14 from rfl)]
    exact cont
  · subst e
    rw [if_neg (by decide), if_neg (by decide), if_neg (by decide), if_neg (by decide), if_neg (by decide), if_neg (by decide), if_pos (show nI 15 = 15 from rfl)]
    exact cont
  · subst e
    rw [if_neg (by decide), if_neg (by decide), if_neg (by decide), if_neg (by decide), if_neg (by decide), if_neg (by decide), if_neg (by decide), if_pos (show nI 16 = 16 from rfl)]
    exact cont
  · subst e
    rw [if_neg (by decide), if_neg (by decide), if_neg (by decide), if_neg (by decide), if_neg (by decide), if_neg (by decide), if_neg (by decide), if_neg (by decide), if_pos (show nI 17 = 17 from rfl)]
    exact cont
end
