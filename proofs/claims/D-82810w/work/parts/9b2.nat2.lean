/-! NATIVES of the component: push, pop, charAt, print -/
/-- no number's text is the name `length` -/
def m_l0 (A : mA) : Prop := ∀ (n k : Nat) (A1 : mA), n ≤ 100 → a_text A 5 (nI n) = some (k, A1) → ¬ k = 0
/-- a length after one was pushed -/
def m_n1 (n : Int32) : Int32 := if n = 100 then 100 else n + 1
def m_psh (A : mA) (ts tv s v : Int32) : mE := if ts = 7 ∧ gi (aT A) 141 tv.toNatClampNeg = 2 then
    (match a_text A 5 (gi (aT A) 147 (m_own A tv.toNatClampNeg 0).toNatClampNeg) with
    | none => (2, A, 0, 0)
    | some (k, A1) => match a_set A1 tv.toNatClampNeg (nI k) s v with
      | (false, A2) => (2, A2, 0, 0)
      | (true, A2) => (0, (a_set A2 tv.toNatClampNeg 0 5 (m_n1 (gi (aT A) 147 (m_own A tv.toNatClampNeg 0).toNatClampNeg))).2, 5, m_n1 (gi (aT A) 147 (m_own A tv.toNatClampNeg 0).toNatClampNeg)))
  else m_err A 0
def m_pop (A : mA) (ts tv : Int32) : mE := if ts = 7 ∧ gi (aT A) 141 tv.toNatClampNeg = 2 then
    (if gi (aT A) 147 (m_own A tv.toNatClampNeg 0).toNatClampNeg = 0 then (0, A, 0, 0) else
    match a_text A 5 (gi (aT A) 147 (m_own A tv.toNatClampNeg 0).toNatClampNeg - 1) with
    | none => (2, A, 0, 0)
    | some (k, A1) => (0, (a_set (a_rem A1 tv.toNatClampNeg (nI k)) tv.toNatClampNeg 0 5 (gi (aT A) 147 (m_own A tv.toNatClampNeg 0).toNatClampNeg - 1)).2, (m_val A1 (m_own A1 tv.toNatClampNeg (nI k))).2.2.1, (m_val A1 (m_own A1 tv.toNatClampNeg (nI k))).2.2.2))
  else m_err A 0
theorem iL_cg {A A' : mA} (l : iL A) (eT : aT A' = aT A) (eO : aO A' = aO A) (eP : aP A' = aP A) : iL A' := by
  unfold iL at l ⊢
  rw [eT, eO, eP]
  exact l
theorem mok_5 {L : List (List Int32)} {ob : Nat} {v : Int32} : mok L ob 5 v := ⟨5, rfl, by omega, by omega, by omega⟩
theorem m_rem_nm (T : zM) (o p : Nat) (l1 : List Nat) {a k : Nat} (h : a = 145 ∨ a = 146 ∨ a = 147) : gi (m_rem T o p l1) a k = gi T a k := by
  unfold m_rem
  dsimp only
  rw [gi_oth (by omega), gi_oth (by omega), gi_oth (by omega)]
  by_cases h1 : gi T 144 o = nI p
  · rw [if_pos h1, gi_oth (by omega)]
    by_cases h2 : l1 = []
    · rw [if_pos h2, gi_oth (by omega)]
    · rw [if_neg h2, gi_oth (by omega)]
  · rw [if_neg h1]
    by_cases h2 : l1 = []
    · rw [if_pos h2, gi_oth (by omega)]
    · rw [if_neg h2, gi_oth (by omega)]
/-- a property that is not `length` goes: `length` stays where it is -/
theorem iL_rem {A : mA} {o k : Nat} (i : iA A) (l : iL A) (ho : o < aO A) (hk : ¬ nI k = 0) : iL (a_rem A o (nI k)) ∧ m_own (a_rem A o (nI k)) o 0 = m_own A o 0 ∧ (∀ q ∈ aP A o, gi (aT A) 145 q = 0 → q ∈ aP (a_rem A o (nI k)) o) ∧ ∀ a q, a = 145 ∨ a = 146 ∨ a = 147 → gi (aT (a_rem A o (nI k))) a q = gi (aT A) a q := by
  rcases fnd_or (gi (aT A) 145) (nI k) (aP A o) with ⟨-, e⟩ | ⟨l1, p, l2, e1, e2, e3, -⟩
  · rw [a_rem_none e]
    exact ⟨l, rfl, fun q hq _ => hq, fun _ _ _ => rfl⟩
  · rw [a_rem_some i ho e1 e2 e3]
    have en : ∀ a q, a = 145 ∨ a = 146 ∨ a = 147 ∨ a = 141 → gi (m_rem (aT A) o p l1) a q = gi (aT A) a q := fun a q h => by
      rcases h with h | h | h | h <;> subst h
      · exact m_rem_nm _ _ _ _ (by omega)
      · exact m_rem_nm _ _ _ _ (by omega)
      · exact m_rem_nm _ _ _ _ (by omega)
      · exact m_rem_oth _ _ _ _ (by unfold fT; omega)
    have e145 : gi (m_rem (aT A) o p l1) 145 = gi (aT A) 145 := funext fun q => en 145 q (by omega)
    have hf : fnd (gi (aT A) 145) 0 (l1 ++ l2) = fnd (gi (aT A) 145) 0 (aP A o) := by
      rw [e1]
      clear e1 e3 en e145
      induction l1 with
      | nil => show fnd (gi (aT A) 145) 0 l2 = fnd (gi (aT A) 145) 0 (p :: l2); conv => rhs; unfold fnd
               rw [if_neg (by rw [e2]; exact hk)]
      | cons z l1 ih =>
        show fnd (gi (aT A) 145) 0 (z :: (l1 ++ l2)) = fnd (gi (aT A) 145) 0 (z :: (l1 ++ p :: l2))
        unfold fnd
        rw [ih]
    refine ⟨fun z hz h2 => ?_, ?_, fun q hq h0 => ?_, fun a q h => en a q (by omega)⟩
    · have h2' : gi (aT A) 141 z = 2 := (en 141 z (by omega)).symm.trans h2
      obtain ⟨q, q1, q2, q3, q4⟩ := l z hz h2'
      show ∃ q ∈ (if z = o then l1 ++ l2 else aP A z), fnd (gi (m_rem (aT A) o p l1) 145) 0 (if z = o then l1 ++ l2 else aP A z) = nI q ∧ gi (m_rem (aT A) o p l1) 146 q = 5 ∧ ∃ n : Nat, gi (m_rem (aT A) o p l1) 147 q = nI n ∧ n ≤ 100
      have q3000 := ((i.1.2.2 z hz).2.2.2.1 q q1).1
      have hz3 : ∀ w ∈ aP A z, w < 3000 := fun w hw => ((i.1.2.2 z hz).2.2.2.1 w hw).1
      have nq : gi (aT A) 145 q = 0 := (fnd_nm hz3 q3000 q2).2
      rw [e145]
      refine ⟨q, ?_, ?_, (en 146 q (by omega)).trans q3, by rw [en 147 q (by omega)]; exact q4⟩
      · by_cases hzo : z = o
        · subst hzo
          rw [if_pos rfl]
          rw [e1] at q1
          rcases List.mem_append.mp q1 with w | w
          · exact List.mem_append_left _ w
          · rcases List.mem_cons.mp w with w | w
            · rw [w, e2] at nq; exact absurd nq hk
            · exact List.mem_append_right _ w
        · rw [if_neg hzo]; exact q1
      · by_cases hzo : z = o
        · subst hzo; rw [if_pos rfl, hf]; exact q2
        · rw [if_neg hzo]; exact q2
    · show fnd (gi (m_rem (aT A) o p l1) 145) 0 (if o = o then l1 ++ l2 else aP A o) = fnd (gi (aT A) 145) 0 (aP A o)
      rw [if_pos rfl, e145, hf]
    · show q ∈ (if o = o then l1 ++ l2 else aP A o)
      rw [if_pos rfl]
      rw [e1] at hq
      rcases List.mem_append.mp hq with w | w
      · exact List.mem_append_left _ w
      · rcases List.mem_cons.mp w with w | w
        · rw [w, e2] at h0; exact absurd h0 hk
        · exact List.mem_append_right _ w
theorem sX_L {M M' : zM} {A : mA} {L' : List (List Int32)} (h : sX M A) (x : xtx M' L') (f : fr (orP scx stX) M M') : sX M' (aT A, L', aO A, aP A, aF A) := by
  obtain ⟨hw, ⟨⟨b1, b2⟩, ⟨sp, m, s1, s2, s3, s4⟩, b3, b4⟩, hl, -⟩ := h
  have e1 : ∀ a k, hpX a k → gi M' a k = gi M a k := fun a k q => (f.2 a k (by unfold orP scx stX; unfold hpX at q; omega)).1
  have e47 : gi M' 47 = gi M 47 := funext fun k => e1 47 k (by unfold hpX; omega)
  refine ⟨cw_fr hw f (fun q hq => by have := cwl_ok q hq; unfold orP scx stX; omega), ⟨⟨(e1 _ _ (by unfold hpX; omega)).trans b1, (e1 _ _ (by unfold hpX; omega)).trans b2⟩, ⟨sp, m, s1, s2, by rw [e47, e1 16 28 (by unfold hpX; omega)]; exact s3, (e1 _ _ (by unfold hpX; omega)).trans s4⟩, fun o ho => ?_, fun o ho q hq => ?_⟩, hL_cg hl (fun a k q => e1 a k (by unfold hpX; omega)) (fun _ _ _ => rfl), x⟩
  · rw [e1 38 _ (by unfold hpX; omega), e1 41 _ (by unfold hpX; omega), e1 42 _ (by unfold hpX; omega), e1 43 _ (by unfold hpX; omega), e1 44 _ (by unfold hpX; omega)]; exact b3 o ho
  · rw [e1 46 _ (by unfold hpX; omega), e1 47 _ (by unfold hpX; omega), e1 48 _ (by unfold hpX; omega), e1 49 _ (by unfold hpX; omega), e1 50 _ (by unfold hpX; omega)]; exact b4 o ho q hq
theorem m_n1_n {n : Nat} (h : n ≤ 100) : ∃ m, m_n1 (nI n) = nI m ∧ m ≤ 100 ∧ (if n + 1 < 100 then n + 1 else 100) = m := by
  unfold m_n1
  by_cases e : n = 100
  · exact ⟨100, by rw [e]; rfl, by omega, by rw [if_neg (by omega)]⟩
  · refine ⟨n + 1, by rw [if_neg (by rw [nn_eql (by omega) (by omega)]; exact e)]; exact nn_add n 1, by omega, ?_⟩
    by_cases h1 : n + 1 < 100
    · rw [if_pos h1]
    · rw [if_neg h1]; omega
section
variable {E : zE} {d : Nat} {T M : zM} {Q : zO → zM → Prop} {A : mA} {r : mF} {F : List mF}
theorem xn_18 {l5 ts tv s v : Int32} (h : gX M A (r :: F)) (i : iA A) (hiL : iL A) (h0 : m_l0 A) (ok : mFok (r :: F)) (hv : mval A s v) (ht : mval A ts tv) (hQ : rX Q M (m_psh A ts tv s v) r F) : Z E YX1_carryOut (d + 5) M [(0, zX16), (1, vi 18), (2, vi ts), (3, vi tv), (5, vi l5), (6, vi s)] 34 [vi v] Q := by
  have hob := i.1.1.2
  obtain ⟨ks, eks, hks, -, -⟩ := id hv.1
  refine iX1_carryOut_34 M _ _ _ _ _ _ h.1.1 ?_
  repeat rw [if_neg (by decide)]
  rw [if_pos rfl]
  unfold m_psh at hQ
  have err : ¬ (ts = 7 ∧ gi (aT A) 141 tv.toNatClampNeg = 2) → Z E YX1_error (d + 3) M (zargs 0 [zX16, vi 0]) 0 [] (zafter E YX1_pushed (d + 4) [] 11 3 [] (zafter E YX1_carryOut (d + 5) [] 245 3 [] Q)) := fun c => by
    rw [if_neg c] at hQ
    refine rX_err (m := 0) hQ rfl h i ok (by omega) (fun M' q s' => ?_) (fun M' q => ?_)
    · show Z E YX1_pushed (d + 4) M' [] 14 [vr (some (52, 14, 0))] _
      refine sX1_pushed_14 M' _ s'.1 ⟨52, rfl, ?_⟩
      show ZT E YX1_carryOut (d + 5) M' [] 245 (52, 14, 0) Q
      exact ZT.out (nohand rfl) q
    · show ZT E YX1_pushed (d + 4) M' [] 11 (51, 13, 0) _
      refine ZT.out (nohand rfl) ?_
      show ZT E YX1_carryOut (d + 5) M' [] 245 (51, 13, 0) Q
      exact ZT.out (nohand rfl) q
  have nor : ∀ (M' : zM) (lv : List (Nat × zV)) (pc : Nat), Q (.inr (51, 13, 0)) M' → ZT E YX1_pushed (d + 4) M' lv pc (51, 13, 0) (zafter E YX1_carryOut (d + 5) [] 245 3 [] Q) := fun M' lv pc q => by
    refine ZT.out (nohand rfl) ?_
    show ZT E YX1_carryOut (d + 5) M' [] 245 (51, 13, 0) Q
    exact ZT.out (nohand rfl) q
  refine iX1_pushed_0 M _ _ _ _ h.1.1 ?_
  by_cases c7 : ts = 7
  · rw [if_pos c7]
    obtain ⟨kk, ek, hkk, k6, k7⟩ := ht.1
    obtain ⟨j, ej, hj⟩ := k7 (by rw [ek] at c7; simp (disch := omega) only [nn_add, nn_addl, nn_ladd, nn_mul, nn_lmul, nn_mull, nn_sub, nn_subl, nn_lsub, nn_lt, nn_le, nn_eq, nn_ltl, nn_llt, nn_lel, nn_lle, nn_eql, nn_leq, nn_m1, nn_1m, nn_ltm, nn_mlt, nn_mle, nn_lem, nn_cl, nn_in, nn_ns, nn_ns2, nn_nb, nn_nb2, nn_s1, nn_s2, nn_b1, nn_b2] at c7; exact c7)
    rw [ej, nn_cl (by omega)] at hQ err
    rw [ej, nn_cl (n := j) (by omega), (h.1.2.1.2.2.1 j hj).1]
    refine ⟨by rw [nn_in (by omega)]; omega, ?_⟩
    by_cases c2 : gi (aT A) 141 j = 2
    · rw [if_pos ⟨c7, c2⟩] at hQ
      rw [if_pos c2]
      obtain ⟨q, m, hq, hq3, e0, e5, em, hm, -, -⟩ := iL_len (n := 0) i hiL hj c2 (by omega)
      have eo : m_own A j 0 = nI q := e0
      rw [eo, nn_cl (by omega), em] at hQ
      refine xA_own (x := 0) h.1 i hj ?_
      rw [eo]
      show Z E YX1_pushed (d + 4) M [(0, zX16), (2, vi (nI j)), (3, vi s), (4, vi v)] 25 [vi (nI q), vr (some (49, 100, 3000))] _
      refine sX1_pushed_25 M _ _ _ _ h.1.1 ?_
      have e49 : gi M 49 q = nI m := ((h.1.2.1.2.2.2 j hj q hq).2.2.2.1).trans em
      rw [nn_cl (n := q) (by omega), e49]
      refine ⟨by rw [nn_in (by omega)]; omega, ?_⟩
      refine xA_text h.1 i mok_5 (fun k A1 M1 e s1 f1 => ?_) (fun M1 e f1 => ?_)
      · rw [e] at hQ
        dsimp only at hQ
        have hk0 := h0 m k A1 hm e
        obtain ⟨i1, hk, hL, -, eT, eO, eP, eF⟩ := iA_text i mok_5 e
        have hk4 := i1.2.1.2.1
        have g1 : gX M1 A1 (r :: F) := ⟨s1, xFs_cg h.2 ok f1 (fun a k q => q.elim .inl (fun q => .inr (.inl q)))⟩
        have hQ1 := rX_mono hQ f1.cX2
        have iL1 := iL_cg hiL eT eO eP
        show Z E YX1_pushed (d + 4) M1 [(0, zX16), (2, vi (nI j)), (3, vi s), (4, vi v), (5, vi (nI m))] 37 [vi (nI k), vi (nI j), zX16] _
        refine sX1_pushed_37 M1 _ _ _ _ _ _ s1.1 ?_
        rw [eks] at hQ1 ⊢
        refine xA_set (o := j) (d := d + 2) s1 i1 (by omega) (by omega) hks (fun M2 A2 ea s2 f2 => ?_) (fun A2 ea eA => ?_)
        · rw [ea] at hQ1
          dsimp only at hQ1
          have hv1 : mval A1 (nI ks) v := by
            rw [← eks]
            exact ⟨mok_mono hL (by omega) hv.1, fun h7 => by obtain ⟨j, j1, j2, j3⟩ := hv.2 h7; exact ⟨j, j1, by omega, by rw [eT]; exact j3⟩⟩
          obtain ⟨i2, eL2, eO2, e2⟩ := iA_set i1 (by omega) hk hv1 ea
          have iL2 : iL A2 := iL_set i1 iL1 (by omega) hk (.inl hk0) ea
          have g2 := gX_fX g1 ok s2 f2
          have hQ2 := rX_mono hQ1 f2.cX5
          have e141 : gi (aT A2) 141 j = 2 := (e2 141 j (by omega)).trans (by rw [eT]; exact c2)
          obtain ⟨n1, en1, hn1, hif⟩ := m_n1_n hm
          rw [en1] at hQ2
          obtain ⟨q2, m2, hq2, hq23, e02, e52, em2, hm2, es2, -⟩ := iL_len (n := n1) i2 iL2 (show j < aO A2 by omega) e141 hn1
          rw [show a_set A2 j 0 5 (nI n1) = _ from es2] at hQ2
          have eo2 : m_own A2 j 0 = nI q2 := e02
          obtain ⟨s3, f3⟩ := sX_put (s := 5) (v := nI n1) s2 i2 (show j < aO A2 by omega) hq2
          have e48 : gi M2 48 q2 = 5 := ((s2.2.1.2.2.2 j (by omega) q2 hq2).2.2.1).trans e52
          rw [show si M2 48 q2 5 = M2 by rw [← e48]; exact si_id M2 48 q2] at s3 f3
          show Z E YX1_pushed (d + 4) M2 [(0, zX16), (2, vi (nI j)), (5, vi (nI m))] 43 [] _
          refine iX1_pushed_43 M2 _ _ s2.1 ?_
          have fin : Z E YX1_own (d + 3) M2 (zargs 0 [zX16, vi (nI j), vi 0]) 0 [] (zafter E YX1_pushed (d + 4) [(0, zX16), (5, vi (nI n1))] 61 3 [vr (some (49, 100, 3000))] (zafter E YX1_carryOut (d + 5) [] 245 3 [] Q)) := by
            refine xA_own (x := 0) s2 i2 (show j < aO A2 by omega) ?_
            rw [eo2]
            show Z E YX1_pushed (d + 4) M2 [(0, zX16), (5, vi (nI n1))] 64 [vi (nI q2), vr (some (49, 100, 3000))] _
            refine iX1_pushed_64 M2 _ _ s2.1 ?_
            rw [nn_cl (n := q2) (by omega)]
            refine ⟨by rw [nn_in (by omega)]; omega, ?_⟩
            have w3 := sX_cg (A := (m_put (aT A2) q2 5 (nI n1), aL A2, aO A2, aP A2, aF A2)) s3 (fx_got (x := 5) (y := nI n1)) (fun a k q => .inl q)
            refine iX1_carryOut_248 _ w3.1 ?_
            exact rX_0 (rX_mono hQ2 f3.cX5) rfl (gX_fX g2 ok s3 f3) ok
          rw [show nI m + 1 = nI (m + 1) from nn_add m 1]
          by_cases hlt : m + 1 < 100
          · rw [if_pos hlt] at hif
            rw [if_pos (by rw [nn_ltl (by omega) (by omega)]; exact hlt), hif]
            exact fin
          · rw [if_neg hlt] at hif
            rw [if_neg (by rw [nn_ltl (by omega) (by omega)]; exact hlt), show (100 : Int32) = nI n1 by rw [← hif]; rfl]
            exact fin
        · rw [ea] at hQ1
          dsimp only at hQ1
          rw [eA] at hQ1
          show ZT E YX1_pushed (d + 4) M1 _ 40 (51, 13, 0) _
          exact nor _ _ _ (hQ1.2.2 rfl M1 g1 fr.rf)
      · rw [e] at hQ
        show ZT E YX1_pushed (d + 4) M1 _ 34 (51, 13, 0) _
        exact nor _ _ _ (hQ.2.2 rfl M1 ⟨sX_cg h.1 f1 (fun a k q => .inl q), xFs_cg h.2 ok f1 (fun a k q => .inl q)⟩ f1.cX1)
    · rw [if_neg c2]
      exact err (fun z => c2 z.2)
  · rw [if_neg c7]
    exact err (fun z => c7 z.1)
end
section
variable {E : zE} {d : Nat} {T M : zM} {Q : zO → zM → Prop} {A : mA} {r : mF} {F : List mF}
theorem xn_19 {l5 l6 s0 ts tv : Int32} (h : gX M A (r :: F)) (i : iA A) (hiL : iL A) (h0 : m_l0 A) (ok : mFok (r :: F)) (ht : mval A ts tv) (hQ : rX Q M (m_pop A ts tv) r F) : Z E YX1_carryOut (d + 5) M [(0, zX16), (1, vi 19), (2, vi ts), (3, vi tv), (5, vi l5), (6, vi l6)] 34 [vi s0] Q := by
  have hob := i.1.1.2
  refine iX1_carryOut_34 M _ _ _ _ _ _ h.1.1 ?_
  repeat rw [if_neg (by decide)]
  rw [if_pos rfl]
  unfold m_pop at hQ
  have err : ¬ (ts = 7 ∧ gi (aT A) 141 tv.toNatClampNeg = 2) → Z E YX1_error (d + 3) M (zargs 0 [zX16, vi 0]) 0 [] (zafter E YX1_popped (d + 4) [] 11 3 [] (zafter E YX1_carryOut (d + 5) [] 254 3 [] Q)) := fun c => by
    rw [if_neg c] at hQ
    refine rX_err (m := 0) hQ rfl h i ok (by omega) (fun M' q s' => ?_) (fun M' q => ?_)
    · show Z E YX1_popped (d + 4) M' [] 14 [vr (some (52, 14, 0))] _
      refine sX1_popped_14 M' _ s'.1 ⟨52, rfl, ?_⟩
      show ZT E YX1_carryOut (d + 5) M' [] 254 (52, 14, 0) Q
      exact ZT.out (nohand rfl) q
    · show ZT E YX1_popped (d + 4) M' [] 11 (51, 13, 0) _
      refine ZT.out (nohand rfl) ?_
      show ZT E YX1_carryOut (d + 5) M' [] 254 (51, 13, 0) Q
      exact ZT.out (nohand rfl) q
  refine iX1_popped_0 M _ _ h.1.1 ?_
  by_cases c7 : ts = 7
  · rw [if_pos c7]
    obtain ⟨kk, ek, hkk, k6, k7⟩ := ht.1
    obtain ⟨j, ej, hj⟩ := k7 (by rw [ek] at c7; simp (disch := omega) only [nn_add, nn_addl, nn_ladd, nn_mul, nn_lmul, nn_mull, nn_sub, nn_subl, nn_lsub, nn_lt, nn_le, nn_eq, nn_ltl, nn_llt, nn_lel, nn_lle, nn_eql, nn_leq, nn_m1, nn_1m, nn_ltm, nn_mlt, nn_mle, nn_lem, nn_cl, nn_in, nn_ns, nn_ns2, nn_nb, nn_nb2, nn_s1, nn_s2, nn_b1, nn_b2] at c7; exact c7)
    rw [ej, nn_cl (by omega)] at hQ err
    rw [ej, nn_cl (n := j) (by omega), (h.1.2.1.2.2.1 j hj).1]
    refine ⟨by rw [nn_in (by omega)]; omega, ?_⟩
    by_cases c2 : gi (aT A) 141 j = 2
    · rw [if_pos ⟨c7, c2⟩] at hQ
      rw [if_pos c2]
      obtain ⟨q, m, hq, hq3, e0, e5, em, hm, -, -⟩ := iL_len (n := 0) i hiL hj c2 (by omega)
      have eo : m_own A j 0 = nI q := e0
      rw [eo, nn_cl (by omega), em] at hQ
      refine xA_own (x := 0) h.1 i hj ?_
      rw [eo]
      show Z E YX1_popped (d + 4) M [(0, zX16), (2, vi (nI j))] 21 [vi (nI q)] _
      refine iX1_popped_21 M _ _ h.1.1 ?_
      have e49 : gi M 49 q = nI m := ((h.1.2.1.2.2.2 j hj q hq).2.2.2.1).trans em
      rw [nn_cl (n := q) (by omega), e49]
      refine ⟨by rw [nn_in (by omega)]; omega, ?_⟩
      by_cases m0 : m = 0
      · rw [if_pos (by rw [m0]; rfl)] at hQ ⊢
        refine iX1_carryOut_257 _ (sX_cg h.1 (fx_got (x := 0) (y := 0)) (fun a k q => .inl q)).1 ?_
        exact rX_0 hQ rfl h ok
      · have mn : ¬ nI m = 0 := by rw [nn_eql (by omega) (by omega)]; exact m0
        rw [if_neg mn] at hQ ⊢
        rw [show nI m - 1 = nI (m - 1) from nn_subl (by omega)] at hQ ⊢
        refine xA_text h.1 i mok_5 (fun k A1 M1 e s1 f1 => ?_) (fun M1 e f1 => ?_)
        · rw [e] at hQ
          dsimp only at hQ
          have hk0 := h0 (m - 1) k A1 (by omega) e
          obtain ⟨i1, hk, hL, -, eT, eO, eP, eF⟩ := iA_text i mok_5 e
          have hk4 := i1.2.1.2.1
          have g1 : gX M1 A1 (r :: F) := ⟨s1, xFs_cg h.2 ok f1 (fun a k q => q.elim .inl (fun q => .inr (.inl q)))⟩
          have hQ1 := rX_mono hQ f1.cX2
          have iL1 := iL_cg hiL eT eO eP
          have hj1 : j < aO A1 := by omega
          have c21 : gi (aT A1) 141 j = 2 := by rw [eT]; exact c2
          show Z E YX1_popped (d + 4) M1 [(0, zX16), (2, vi (nI j)), (3, vi (nI q)), (4, vi (nI m))] 51 [vi (nI k)] _
          refine sX1_popped_51 M1 _ _ _ _ s1.1 ?_
          refine xA_own s1 i1 hj1 ?_
          show Z E YX1_popped (d + 4) M1 [(0, zX16), (2, vi (nI j)), (3, vi (nI q)), (4, vi (nI m)), (5, vi (nI k))] 61 [vi (m_own A1 j (nI k)), zX16] _
          refine iX1_popped_61 M1 _ _ _ _ _ s1.1 ?_
          have kn : ¬ nI k = 0 := by rw [nn_eql (by omega) (by omega)]; exact hk0
          obtain ⟨iL2, own2, mem2, cel2⟩ := iL_rem i1 iL1 hj1 kn
          obtain ⟨i2, eL2, eO2, e2⟩ := iA_rem (nI k) i1 hj1
          have e141 : gi (aT (a_rem A1 j (nI k))) 141 j = 2 := (e2 141 j (by omega)).trans c21
          have hj2 : j < aO (a_rem A1 j (nI k)) := by rw [eO2]; exact hj1
          obtain ⟨q2, m2, hq2, hq23, e02, e52, em2, hm2, es2, -⟩ := iL_len (n := m - 1) i2 iL2 hj2 e141 (by omega)
          have eqq : q2 = q := by
            have z : nI q2 = nI q := by
              rw [← e02]
              refine own2.trans ?_
              unfold m_own
              rw [eT, eP]
              exact e0
            rw [nn_eq (by omega) (by omega)] at z
            exact z
          rw [show a_set (a_rem A1 j (nI k)) j 0 5 (nI (m - 1)) = _ from es2] at hQ1
          dsimp only at hQ1
          rw [eqq] at hQ1 hq2 e52
          -- the value is in the result; the property goes; the length is set
          have fin : ∀ (s v : Int32) (ks : Nat), s = nI ks → ks < 8 → (m_val A1 (m_own A1 j (nI k))).2.2.1 = s → (m_val A1 (m_own A1 j (nI k))).2.2.2 = v → Z E YX1_remove (d + 3) (si (si M1 16 33 s) 16 32 v) (zargs 0 [zX16, vi (nI j), vi (nI k)]) 0 [] (zafter E YX1_popped (d + 4) [(0, zX16), (3, vi (nI q)), (4, vi (nI m))] 68 3 [] (zafter E YX1_carryOut (d + 5) [] 254 3 [] Q)) := fun s v ks es hs ev1 ev2 => by
            have f2 : fr scx M1 (si (si M1 16 33 s) 16 32 v) := fx_got
            have s2 := sX_cg s1 f2 (fun a k q => .inl q)
            have g2 : gX (si (si M1 16 33 s) 16 32 v) A1 (r :: F) := ⟨s2, xFs_cg g1.2 ok f2 (fun a k q => .inl q)⟩
            have c33 : gi (si (si M1 16 33 s) 16 32 v) 16 33 = s := by rw [gi_idx (by decide)]; exact gi_self ..
            have c32 : gi (si (si M1 16 33 s) 16 32 v) 16 32 = v := gi_self ..
            generalize si (si M1 16 33 s) 16 32 v = M2 at *
            refine xA_rem s2 i1 hj1 (fun M3 s3 f3 => ?_)
            have g3 := gX_fX g2 ok s3 f3
            show Z E YX1_popped (d + 4) M3 [(0, zX16), (3, vi (nI q)), (4, vi (nI m))] 71 [] _
            refine sX1_popped_71 M3 _ _ s3.1 ?_
            rw [nn_cl (n := q) (by omega), show nI m - 1 = nI (m - 1) from nn_subl (by omega)]
            refine ⟨by rw [nn_in (by omega)]; omega, ?_⟩
            obtain ⟨s4, f4⟩ := sX_put (s := 5) (v := nI (m - 1)) s3 i2 hj2 hq2
            have e48 : gi M3 48 q = 5 := ((s3.2.1.2.2.2 j hj2 q hq2).2.2.1).trans e52
            rw [show si M3 48 q 5 = M3 by rw [← e48]; exact si_id M3 48 q] at s4 f4
            refine iX1_carryOut_257 _ s4.1 ?_
            rw [ev1, ev2] at hQ1
            have f34 := f3.tr f4
            exact hQ1.1 rfl _ (gX_fX g3 ok s4 f4) ((f34.2 16 33 (by unfold fX; omega)).1.trans c33) ((f34.2 16 32 (by unfold fX; omega)).1.trans c32) ((f2.cX1.tr f3.cX5).tr f4.cX5)
          rcases m_own_or i1 hj1 (nI k) with e3 | ⟨p, hp, hp3, e3⟩
          · rw [if_pos e3]
            exact fin 0 0 0 rfl (by omega) (by unfold m_val; rw [if_pos e3]) (by unfold m_val; rw [if_pos e3])
          · have en : ¬ m_own A1 j (nI k) = -1 := by rw [e3, nn_m1 (by omega)]; exact fun z => z
            rw [if_neg en, e3, nn_cl (n := p) (by omega)]
            obtain ⟨-, -, d48, d49, -⟩ := s1.2.1.2.2.2 j hj1 p hp
            obtain ⟨⟨kp, ekp, hkp, -⟩, -⟩ := i1.2.2.1 j hj1 p hp
            rw [d48, d49]
            exact ⟨by rw [nn_in (by omega)]; omega, fin _ _ kp ekp hkp (by unfold m_val; rw [if_neg en, e3, nn_cl (by omega)]) (by unfold m_val; rw [if_neg en, e3, nn_cl (by omega)])⟩
        · rw [e] at hQ
          show ZT E YX1_popped (d + 4) M1 _ 48 (51, 13, 0) _
          refine ZT.out (nohand rfl) ?_
          show ZT E YX1_carryOut (d + 5) M1 [] 254 (51, 13, 0) Q
          exact ZT.out (nohand rfl) (hQ.2.2 rfl M1 ⟨sX_cg h.1 f1 (fun a k q => .inl q), xFs_cg h.2 ok f1 (fun a k q => .inl q)⟩ f1.cX1)
    · rw [if_neg c2]
      exact err (fun z => c2 z.2)
  · rw [if_neg c7]
    exact err (fun z => c7 z.1)
theorem xn_22 {l5 ts tv s v : Int32} (h : gX M A (r :: F)) (i : iA A) (ok : mFok (r :: F)) (hv : mval A s v) (ht : mval A ts tv) (hQ : rX Q M (m_chr A ts tv s v) r F) : Z E YX1_carryOut (d + 4) M [(0, zX16), (1, vi 22), (2, vi ts), (3, vi tv), (5, vi l5), (6, vi s)] 34 [vi v] Q := by
  refine iX1_carryOut_34 M _ _ _ _ _ _ h.1.1 ?_
  repeat rw [if_neg (by decide)]
  rw [if_pos rfl]
  unfold m_chr at hQ
  by_cases c6 : ts = 6
  · rw [if_pos c6] at hQ ⊢
    obtain ⟨kk, ek, hkk, k6, k7⟩ := ht.1
    obtain ⟨j, ej, hj⟩ := k6 (by rw [ek] at c6; simp (disch := omega) only [nn_add, nn_addl, nn_ladd, nn_mul, nn_lmul, nn_mull, nn_sub, nn_subl, nn_lsub, nn_lt, nn_le, nn_eq, nn_ltl, nn_llt, nn_lel, nn_lle, nn_eql, nn_leq, nn_m1, nn_1m, nn_ltm, nn_mlt, nn_mle, nn_lem, nn_cl, nn_in, nn_ns, nn_ns2, nn_nb, nn_nb2, nn_s1, nn_s2, nn_b1, nn_b2] at c6; exact c6)
    have hL := i.2.1
    have h400 := hL.2.1
    rw [ej, mtx_at h400 hj] at hQ
    rw [ej]
    refine xm_numV h.1.1 h.1.2.2.2 hv.1 (fun x M1 hx f1 hn => ?_)
    have s1 := sX_cg h.1 f1 (fun a k q => .inl q)
    have g1 : gX M1 A (r :: F) := ⟨s1, xFs_cg h.2 ok f1 (fun a k q => .inl q)⟩
    have hQ1 := rX_mono hQ f1.cX1
    show Z E YX1_carryOut (d + 4) M1 [(0, zX16), (3, vi (nI j))] 321 [vi x] Q
    obtain ⟨t1, t2, -, t4, -⟩ := id s1.2.2.2
    obtain ⟨off, o1, o2, o3, o4, o5⟩ := xtx_at s1.2.2.2 hj
    obtain ⟨m1, m2⟩ := mLok_at hL hj
    have f2 : fr scx M1 (si M1 16 3 0) := fr.si (by unfold scx; omega)
    have fin : ∀ (w : List Int32) (M2 : zM), fr scx M1 M2 → xR M2 w → (∀ c ∈ w, c7 c) → m_let (aL A)[j] ((mnV (aL A) s v).getD 0) = w → Z E YX1_string (d + 3) M2 (zargs 0 [zX16]) 0 [] (zafter E YX1_carryOut (d + 4) [] 374 3 [vi 6, zX16] Q) := fun w M2 f hR hw7 ew => by
      rw [ew] at hQ1
      have s2 := sX_cg s1 f (fun a k q => .inl q)
      refine xm_string s2.1 s2.2.2.2 hL hR hw7 (fun k L' M3 e x3 f3 _ => ?_) (fun e => ?_)
      · rw [e] at hQ1
        dsimp only at hQ1
        have s3 := sX_L s2 x3 f3
        show Z E YX1_carryOut (d + 4) M3 [] 377 [vi (nI k), vi 6, zX16] Q
        refine iX1_carryOut_377 M3 _ _ s3.1 ?_
        exact rX_0 (rX_mono hQ1 (f.cX1.tr f3.cX2)) rfl ⟨s3, xFs_cg (xFs_cg g1.2 ok f (fun a k q => .inl q)) ok f3 (fun a k q => q.elim .inl (fun q => .inr (.inl q)))⟩ ok
      · rw [e] at hQ1
        show ZT E YX1_carryOut (d + 4) M2 _ 374 (51, 13, 0) Q
        exact ZT.out (nohand rfl) (hQ1.2.2 rfl M2 ⟨s2, xFs_cg g1.2 ok f (fun a k q => .inl q)⟩ f.cX1)
    have empty : m_let (aL A)[j] ((mnV (aL A) s v).getD 0) = [] → Z E YX1_string (d + 3) (si M1 16 3 0) (zargs 0 [zX16]) 0 [] (zafter E YX1_carryOut (d + 4) [] 374 3 [vi 6, zX16] Q) := fun e =>
      fin [] _ f2 ⟨gi_self .., by simp, fun k hk => absurd hk (by simp)⟩ (fun c hc => by cases hc) e
    have one : ∀ n : Nat, (mnV (aL A) s v).getD 0 = nI n → n < (aL A)[j].length → Z E YX1_string (d + 3) (si (si (si M1 16 3 0) 16 3 (0 + 1)) 20 (0 : Int32).toNatClampNeg (vp_nar .byte (gi (si M1 16 3 0) 19 (off + n)).toInt8.toInt32)) (zargs 0 [zX16]) 0 [] (zafter E YX1_carryOut (d + 4) [] 374 3 [vi 6, zX16] Q) := fun n en hn => by
      have ec : gi (si M1 16 3 0) 19 (off + n) = (aL A)[j].getD n 0 := (gi_oth (by decide)).trans (o5 n hn)
      have hc : c7 ((aL A)[j].getD n 0) := m2 _ (by rw [List.getD_eq_getElem?_getD, List.getElem?_eq_getElem hn]; exact List.getElem_mem hn)
      obtain ⟨cn, hcn, ecn⟩ := hc
      rw [ec, ecn, nn_nb2 (n := cn) (by omega), nn_nb (n := cn) (by omega), ← ecn]
      refine fin [(aL A)[j].getD n 0] _ ((f2.tr (fr.si (by unfold scx; omega))).tr (fr.si (by unfold scx; omega))) ⟨?_, by simp, fun k hk => ?_⟩ (fun c hc => ?_) ?_
      · rw [gi_oth (by decide), gi_self]; rfl
      · have : k = 0 := by simp at hk; omega
        subst this
        exact gi_self ..
      · rw [List.mem_singleton] at hc; rw [hc]; exact ⟨cn, hcn, ecn⟩
      · unfold m_let
        rw [en, if_neg (by rw [nn_0, nn_lt (by omega) (by omega)]; omega), if_neg (by rw [nn_le (by omega) (by omega)]; omega), nn_cl (by omega)]
    refine iX1_carryOut_321 M1 _ _ s1.1 ?_
    cases hb : mnV (aL A) s v with
    | none =>
      rw [hb] at hx empty one
      rw [hx, if_pos (show bI (none : Option Int32).isSome = 0 from rfl)]
      refine ⟨18, 2201, t1, ?_⟩
      rw [gi_oth (a := 16) (by decide), gi_oth (a := 16) (by decide)]
      simp (disch := omega) only [o1, o2, nn_add, nn_addl, nn_ladd, nn_mul, nn_lmul, nn_mull, nn_sub, nn_subl, nn_lsub, nn_lt, nn_le, nn_eq, nn_ltl, nn_llt, nn_lel, nn_lle, nn_eql, nn_leq, nn_m1, nn_1m, nn_ltm, nn_mlt, nn_mle, nn_lem, nn_cl, nn_in, nn_ns, nn_ns2, nn_nb, nn_nb2, nn_s1, nn_s2, nn_b1, nn_b2]
      rw [show off + (aL A)[j].length - off = (aL A)[j].length by omega]
      refine ⟨by omega, by omega, ?_⟩
      by_cases h0 : (aL A)[j].length ≤ 0
      · rw [if_pos h0]
        refine empty ?_
        unfold m_let
        rw [if_neg (by decide), if_pos (by rw [show (aL A)[j].length = 0 by omega]; decide)]
      · rw [if_neg h0]
        refine ⟨19, 40000, t2, ?_⟩
        have := one 0 rfl (by omega)
        refine ⟨by omega, by show vp_in (nI 0) 256; rw [nn_in (by omega)]; omega, this⟩
    | some n0 =>
      rw [hb] at hx empty one
      have e32 := hn n0 hb
      rw [hx, if_neg (show ¬ bI (some n0).isSome = 0 by show ¬ (1 : Int32) = 0; decide), e32]
      rcases nn_or n0 with hneg | ⟨n, hn2, en⟩
      · rw [if_pos hneg]
        refine empty ?_
        unfold m_let
        show (if n0 < 0 then ([] : List Int32) else _) = _
        rw [if_pos hneg]
      · rw [en] at empty one ⊢
        rw [if_neg (by rw [nn_0, nn_lt (by omega) (by omega)]; omega)]
        refine ⟨18, 2201, t1, ?_⟩
        rw [gi_oth (a := 16) (by decide), gi_oth (a := 16) (by decide)]
        simp (disch := omega) only [o1, o2, nn_add, nn_addl, nn_ladd, nn_mul, nn_lmul, nn_mull, nn_sub, nn_subl, nn_lsub, nn_lt, nn_le, nn_eq, nn_ltl, nn_llt, nn_lel, nn_lle, nn_eql, nn_leq, nn_m1, nn_1m, nn_ltm, nn_mlt, nn_mle, nn_lem, nn_cl, nn_in, nn_ns, nn_ns2, nn_nb, nn_nb2, nn_s1, nn_s2, nn_b1, nn_b2]
        rw [show off + (aL A)[j].length - off = (aL A)[j].length by omega]
        refine ⟨by omega, by omega, ?_⟩
        by_cases h0 : (aL A)[j].length ≤ n
        · rw [if_pos h0]
          refine empty ?_
          unfold m_let
          show (if nI n < 0 then [] else if nI (aL A)[j].length ≤ nI n then [] else _) = _
          rw [if_neg (by rw [nn_0, nn_lt (by omega) (by omega)]; omega), if_pos (by rw [nn_le (by omega) (by omega)]; exact h0)]
        · rw [if_neg h0]
          refine ⟨19, 40000, t2, ?_⟩
          have := one n rfl (by omega)
          refine ⟨by omega, by show vp_in (nI 0) 256; rw [nn_in (by omega)]; omega, this⟩
  · rw [if_neg c6] at hQ ⊢
    refine rX_err (m := 0) hQ rfl h i ok (by omega) (fun M' q s' => ?_) (fun M' q => ?_)
    · show Z E YX1_carryOut (d + 4) M' [] 312 [vr (some (52, 14, 0))] Q
      exact sX1_carryOut_312 M' _ s'.1 ⟨52, rfl, q⟩
    · show ZT E YX1_carryOut (d + 4) M' [] 309 (51, 13, 0) Q
      exact ZT.out (nohand rfl) q
/-- lines: what was printed -/
def xLn (M : zM) (P : List Nat) : Prop := gi M 16 53 = nI P.length ∧ P.length ≤ 100 ∧ ∀ k x, P[k]? = some x → gi M 67 k = nI x
def tLn (T : zM) (P : List Nat) : Prop := gi T 97 107 = nI P.length ∧ P.length ≤ 100 ∧ ∀ k x, P[k]? = some x → gi T 164 k = nI x
def m_prt (P : List Nat) (k : Nat) : List Nat := if P.length < 100 then P ++ [k] else P
theorem xn_9 {l2 l3 l5 s v : Int32} {P : List Nat} (h : gX M A (r :: F)) (i : iA A) (ok : mFok (r :: F)) (hp : xLn M P) (hv : mval A s v) 
    (h2 : a_text A s v = none → ∀ M', gX M' A (r :: F) → fr cX M M' → Q (.inr (51, 13, 0)) M')
    (h1 : ∀ k A' M', a_text A s v = some (k, A') → gX M' A' (r :: F) → gi M' 16 33 = 0 → gi M' 16 32 = 0 → xLn M' (m_prt P k) → fr (fun a k => cX a k ∨ a = 67 ∨ a = 16 ∧ k = 53) M M' → Q (.inl none) M') : Z E YX1_carryOut (d + 4) M [(0, zX16), (1, vi 9), (2, vi l2), (3, vi l3), (5, vi l5), (6, vi s)] 34 [vi v] Q := by
  refine iX1_carryOut_34 M _ _ _ _ _ _ h.1.1 ?_
  rw [if_pos rfl]
  refine xA_text h.1 i hv.1 (fun k A1 M1 e s1 f1 => ?_) (fun M1 e f1 => ?_)
  · obtain ⟨i1, hk, -⟩ := iA_text i hv.1 e
    have hk4 := i1.2.1.2.1
    have g1 : gX M1 A1 (r :: F) := ⟨s1, xFs_cg h.2 ok f1 (fun a k q => q.elim .inl (fun q => .inr (.inl q)))⟩
    have p1 : xLn M1 P := ⟨(f1.2 16 53 (by unfold orP scx stX; omega)).1.trans hp.1, hp.2.1, fun z x hz => (f1.2 67 z (by unfold orP scx stX; omega)).1.trans (hp.2.2 z x hz)⟩
    show Z E YX1_carryOut (d + 4) M1 [(0, zX16)] 116 [vi (nI k)] Q
    refine iX1_carryOut_116 M1 _ s1.1 ?_
    have hp2 := hp.2.1
    have cc : ∀ {M M' : zM}, fr cX M M' → fr (fun a k => cX a k ∨ a = 67 ∨ a = 16 ∧ k = 53) M M' := fun f => f.mono fun a k q => .inl q
    by_cases hl : P.length < 100
    · rw [p1.1, if_neg (by rw [nn_lle (by omega) (by omega)]; omega)]
      simp (disch := omega) only [nn_add, nn_addl, nn_ladd, nn_mul, nn_lmul, nn_mull, nn_sub, nn_subl, nn_lsub, nn_lt, nn_le, nn_eq, nn_ltl, nn_llt, nn_lel, nn_lle, nn_eql, nn_leq, nn_m1, nn_1m, nn_ltm, nn_mlt, nn_mle, nn_lem, nn_cl, nn_in, nn_ns, nn_ns2, nn_nb, nn_nb2, nn_s1, nn_s2, nn_b1, nn_b2]
      refine ⟨by omega, ?_⟩
      have f2 : fr (fun a k => a = 67 ∨ a = 16 ∧ k = 53) M1 (si (si M1 16 53 (nI (P.length + 1))) 67 P.length (nI k)) := (fr.si (.inr ⟨rfl, rfl⟩)).tr (fr.si (.inl rfl))
      have s2 : sX (si (si M1 16 53 (nI (P.length + 1))) 67 P.length (nI k)) A1 := sX_fr s1 f2 (fun a k q => by
        unfold hpX
        refine ⟨by omega, by omega, by omega, by omega, by omega, fun e z hz => ?_⟩
        have c1 := cwl_ok z hz
        have c2 := cwl_num z hz
        omega)
      have x2 : xFs (si (si M1 16 53 (nI (P.length + 1))) 67 P.length (nI k)) (r :: F) := xFs_fr g1.2 ok f2 (fun a k q => by unfold fFX; omega)
      have p2 : xLn (si (si M1 16 53 (nI (P.length + 1))) 67 P.length (nI k)) (P ++ [k]) := by
        refine ⟨by rw [gi_oth (by decide), gi_self]; congr 1; simp, by simp; omega, fun z x hz => ?_⟩
        by_cases hz2 : z < P.length
        · rw [List.getElem?_append_left hz2] at hz
          rw [gi_idx (by omega), gi_oth (by decide)]
          exact p1.2.2 z x hz
        · rw [List.getElem?_append_right (by omega)] at hz
          have hz0 : z = P.length := by
            have := (List.getElem?_eq_some_iff.mp hz).1
            simp at this
            omega
          subst hz0
          simp at hz
          subst hz
          exact gi_self ..
      generalize si (si M1 16 53 (nI (P.length + 1))) 67 P.length (nI k) = M2 at *
      have f3 : fr scx M2 (si (si M2 16 33 0) 16 32 0) := fx_got
      refine h1 k A1 _ e ⟨sX_cg s2 f3 (fun a k q => .inl q), xFs_cg x2 ok f3 (fun a k q => .inl q)⟩ (by rw [gi_idx (by decide)]; exact gi_self ..) (gi_self ..) ?_ (((cc f1.cX2).tr (f2.mono fun a k q => .inr q)).tr (cc f3.cX1))
      unfold m_prt
      rw [if_pos hl]
      exact ⟨(f3.2 16 53 (by unfold scx; omega)).1.trans p2.1, p2.2.1, fun z x hz => (f3.2 67 z (by unfold scx; omega)).1.trans (p2.2.2 z x hz)⟩
    · rw [p1.1, if_pos (by rw [nn_lle (by omega) (by omega)]; omega)]
      have f3 : fr scx M1 (si (si M1 16 33 0) 16 32 0) := fx_got
      refine h1 k A1 _ e ⟨sX_cg s1 f3 (fun a k q => .inl q), xFs_cg g1.2 ok f3 (fun a k q => .inl q)⟩ (by rw [gi_idx (by decide)]; exact gi_self ..) (gi_self ..) ?_ ((cc f1.cX2).tr (cc f3.cX1))
      unfold m_prt
      rw [if_neg hl]
      exact ⟨(f3.2 16 53 (by unfold scx; omega)).1.trans p1.1, p1.2.1, fun z x hz => (f3.2 67 z (by unfold scx; omega)).1.trans (p1.2.2 z x hz)⟩
  · show ZT E YX1_carryOut (d + 4) M1 _ 113 (51, 13, 0) Q
    exact ZT.out (nohand rfl) (h2 e M1 ⟨sX_cg h.1 f1 (fun a k q => .inl q), xFs_cg h.2 ok f1 (fun a k q => .inl q)⟩ f1.cX1)
end
