/-! ENTERING a function -/
section
variable {E : zE} {d : Nat} {T M : zM} {Q : zO → zM → Prop} {A : mA} {r : mF} {F : List mF} {G : mG}
theorem m_sv_ks {A : mA} {q : Nat × Nat × List Nat × Int32} {f k x : Nat} {as : List mC} (h : mval A (m_sv q f as k x).1 (m_sv q f as k x).2) : ∃ ks, (m_sv q f as k x).1 = nI ks ∧ ks < 8 := by
  obtain ⟨ks, e, h8, -⟩ := h.1
  exact ⟨ks, e, h8⟩
/-- enter of the component -/
theorem xm_enter {f g n src : Nat} {q : Nat × Nat × List Nat × Int32} {ts tv md : Int32} {as rest : List mC} (s : sX M A) (i : iA A) (xf : xFs M (r :: F)) (ok : mFok (r :: F)) (hG : xG M G) (wg : wG G (aL A).length) (hg : G[g]? = some q) (hg1 : 1 ≤ g)
    (hf : f < aO A) (hfs : gi (aT A) 141 f = 1) (hfc : gi M 39 f = nI g) (hlk : vp_nar .short (gi (aT A) 140 f).toInt16.toInt32 = gi (aT A) 140 f) (hts : vp_nar .byte ts.toInt8.toInt32 = ts) (hmd : vp_nar .short md.toInt16.toInt32 = md)
    (hn : n ≤ r.st.length) (hr : r.st.drop n = rest) (hsrc : src + as.length ≤ 14500) (ha : ∀ k c, as[k]? = some c → gi M 53 (src + k) = c.1 ∧ gi M 54 (src + k) = c.2.1) (hv : ∀ c ∈ as, mval A c.1 c.2.1)
    (h24 : F.length + 1 = 24 → vX Q M (m_err A 2) n r F)
    (h2 : F.length + 1 < 24 → ∀ A' M', m_ent A f g q as = (false, A') → sX M' A' → fr hpX M M' → Q (.inr (51, 13, 0)) M')
    (h1 : F.length + 1 < 24 → ∀ A' M', m_ent A f g q as = (true, A') → gX M' A' (((nI g, nI (aO A), ts, tv, md), q.1, [], []) :: mFst r rest :: F) → fr cX M M' → Q (.inl none) M') :
    Z E YX1_enter (d + 4) M [(0, zX16), (1, vi (nI f)), (2, vi ts), (3, vi tv), (4, vi (nI src)), (5, vi (nI as.length)), (6, vi (nI (mtot F + rest.length))), (7, vi md)] 0 [] Q := by
  have hob := i.1.1.2
  obtain ⟨g0, g1, -, g3, -⟩ := mFok_hd ok
  have okF := mFok_tl ok
  have ht := (mtot_le okF).1
  obtain ⟨w1, w2, w3⟩ := id wg
  have hgl : g < G.length := (List.getElem?_eq_some_iff.mp hg).1
  obtain ⟨wq1, wq2, wqp, wq3⟩ := w3 q (List.mem_of_getElem? hg)
  have hL400 := i.2.1.2.1
  have e49 : gi M 16 49 = nI (F.length + 1) := xf.1.1
  refine sX1_enter_0 M _ _ _ _ _ _ _ s.1 ?_
  rw [e49]
  by_cases c24 : F.length + 1 = 24
  · rw [if_pos (by rw [c24]; rfl)]
    refine vX_err (m := 2) (h24 c24) rfl ⟨s, xf⟩ i ok (by omega) (fun M' z s' => ?_) (fun M' z => ?_)
    · show Z E YX1_enter (d + 4) M' [] 14 [vr (some (52, 14, 0))] Q
      exact sX1_enter_14 M' _ s'.1 ⟨52, rfl, z⟩
    · show ZT E YX1_enter (d + 4) M' [] 11 (51, 13, 0) Q
      exact ZT.out (nohand rfl) z
  · have l24 : F.length + 1 < 24 := by omega
    have h1 := h1 l24
    have h2 := h2 l24
    rw [if_neg (by rw [nn_eql (by omega) (by omega)]; exact c24), nn_cl (n := f) (by omega), hfc]
    refine ⟨by rw [nn_in (by omega)]; omega, 28, hG.1, ?_⟩
    refine xm_fget hG w2 hg (fun b v l r1 r2 r3 r4 r5 r6 r7 r8 r9 r10 => ?_)
    show Z E YX1_enter (d + 4) M [(0, zX16), (1, vi (nI f)), (2, vi ts), (3, vi tv), (4, vi (nI src)), (5, vi (nI as.length)), (6, vi (nI (mtot F + rest.length))), (7, vi md)] 28 [vr (some (b, 10, 0))] Q
    refine iX1_enter_28 M _ _ _ _ _ _ _ _ s.1 ⟨b, rfl, ?_⟩
    rw [nn_cl (n := f) (by omega), r2, (s.2.1.2.2.1 f hf).2.2.1]
    refine ⟨by rw [nn_in (by omega)]; omega, ?_⟩
    simp (disch := omega) only [nn_add, nn_addl, nn_ladd, nn_mul, nn_lmul, nn_mull, nn_sub, nn_subl, nn_lsub, nn_lt, nn_le, nn_eq, nn_ltl, nn_llt, nn_lel, nn_lle, nn_eql, nn_leq, nn_m1, nn_1m, nn_ltm, nn_mlt, nn_mle, nn_lem, nn_cl, nn_in, nn_ns, nn_ns2, nn_nb, nn_nb2, nn_s1, nn_s2, nn_b1, nn_b2]
    refine xA_new (ks := 3) (pr := -1) (lk := gi (aT A) 140 f) s i (by omega) (by omega) (by omega) (fun _ => by omega) rfl hlk (fun h3 => ?_) (fun hlt s1 => ?_)
    · show ZT E YX1_enter (d + 4) M _ 51 (51, 13, 0) Q
      exact ZT.out (nohand rfl) (h2 A M (by unfold m_ent; rw [if_pos h3]) s fr.rf)
    · have f1 : fr hpX M (x_new M (aO A) (nI 3) (29 + 6 * (g - 1)) (-1) (gi (aT A) 140 f)) := (x_new_fr M (aO A) (nI 3) (29 + 6 * (g - 1)) (-1) (gi (aT A) 140 f)).mono fun a k z => by unfold hpX; omega
      show Z E YX1_enter (d + 4) (x_new M (aO A) (nI 3) (29 + 6 * (g - 1)) (-1) (gi (aT A) 140 f)) [(0, zX16), (1, vi (nI f)), (2, vi ts), (3, vi tv), (4, vi (nI src)), (5, vi (nI as.length)), (6, vi (nI (mtot F + rest.length))), (7, vi md), (8, vr (some (b, 10, 0)))] 54 [vi (nI (aO A))] Q
      generalize x_new M (aO A) (nI 3) (29 + 6 * (g - 1)) (-1) (gi (aT A) 140 f) = M1 at *
      refine sX1_enter_54 M1 _ _ _ _ _ _ _ _ _ s1.1 ?_
      have i1 : iA (a_new A (-1) (29 + 6 * (g - 1)) 3 (gi (aT A) 140 f)) := iA_new i hlt (.inl rfl) (by omega)
      have em : m_ent A f g q as = m_vars q f (aO A) as q.2.2.1 0 (a_new A (-1) (29 + 6 * (g - 1)) 3 (gi (aT A) 140 f)) := by unfold m_ent; rw [if_neg (by omega)]
      rw [em] at h1 h2
      have hfv : mval A 7 (nI f) := mval_7 hf (by rw [hfs]; decide)
      -- the loop over the variables
      have loop : ∀ (vs : List Nat) (k : Nat) (A2 : mA) (M2 : zM), q.2.2.1.drop k = vs → k ≤ q.2.2.1.length → m_vars q f (aO A) as q.2.2.1 0 (a_new A (-1) (29 + 6 * (g - 1)) 3 (gi (aT A) 140 f)) = m_vars q f (aO A) as vs k A2 → sX M2 A2 → iA A2 → fr hpX M M2 → aO A2 = aO A + 1 → aL A2 = aL A → (∀ z, gi (aT A2) 141 z = gi (aT (a_new A (-1) (29 + 6 * (g - 1)) 3 (gi (aT A) 140 f))) 141 z) → Z E YX1_enter (d + 4) M2 [(0, zX16), (1, vi (nI f)), (2, vi ts), (3, vi tv), (4, vi (nI src)), (5, vi (nI as.length)), (6, vi (nI (mtot F + rest.length))), (7, vi md), (8, vr (some (b, 10, 0))), (9, vi (nI (aO A))), (10, vi (nI k))] 59 [] Q := by
        intro vs
        induction vs with
        | nil =>
          intro k A2 M2 hd hk e s2 i2 f2 eO eL eT
          have hk' : k = q.2.2.1.length := by
            have := congrArg List.length hd
            rw [List.length_drop] at this
            simp at this
            omega
          have np : ∀ a j, 190 ≤ a → ¬ hpX a j := fun a j z => by unfold hpX; omega
          have e5 : gi M2 b 5 = nI q.2.2.1.length := (f2.2 b 5 (np _ _ r8)).1.trans r3
          refine iX1_enter_59 M2 _ _ _ _ _ _ _ _ _ _ s2.1 ?_
          rw [e5, if_pos (by rw [hk', nn_le (by omega) (by omega)]; omega)]
          obtain ⟨gx, fc⟩ := gX_hp ⟨s, xf⟩ ok s2 f2
          have x3 := xFs_drop gx.2 okF hn
          rw [hr, show mtot F + r.st.length - n = mtot F + rest.length by rw [← hr, List.length_drop]; omega] at x3
          have f3 : fr fFX M2 (si M2 16 38 (nI (mtot F + rest.length))) := fr.si fFX_38
          have e0 : gi (si M2 16 38 (nI (mtot F + rest.length))) b 0 = nI g := by
            rw [gi_oth (by omega)]; exact (f2.2 b 0 (np _ _ r8)).1.trans r2
          rw [e0]
          have s3 := sX_cg s2 f3 (fun a k q => .inr (.inl q))
          generalize si M2 16 38 (nI (mtot F + rest.length)) = M3 at *
          have hrl : rest.length ≤ 390 := by rw [← hr, List.length_drop]; omega
          refine xm_comes s3.1 x3 (mFok_st ok hrl) (by simp; omega) (xG_cX hG (fc.tr f3.cX3)) ⟨w1, w2, fun q' hq' => ⟨(w3 q' hq').1, (w3 q' hq').2.1, (w3 q' hq').2.2.1, fun x hx => by have := (w3 q' hq').2.2.2 x hx; omega⟩⟩ hg (nn_nss (by omega)) hts hmd (fun M4 x4 f4 => ?_)
          show Z E YX1_enter (d + 4) M4 [] 214 [] Q
          have s4 := sX_cg s3 f4 (fun a k q => .inr (.inl q))
          exact sX1_enter_214 M4 s4.1 (h1 A2 M4 e ⟨s4, x4⟩ ((fc.tr f3.cX3).tr f4.cX3))
        | cons x vs ih =>
          intro k A2 M2 hd hk e s2 i2 f2 eO eL eT
          have hxk : q.2.2.1[k]? = some x := by
            have := congrArg (fun l => l[0]?) hd
            simpa [List.getElem?_drop] using this
          have hkl : k < q.2.2.1.length := (List.getElem?_eq_some_iff.mp hxk).1
          have hxn : x < (aL A).length := wq3 x (List.mem_of_getElem? hxk)
          have hd' : q.2.2.1.drop (k + 1) = vs := by rw [← List.drop_drop, hd]; rfl
          have np : ∀ a j, 190 ≤ a → ¬ hpX a j := fun a j z => by unfold hpX; omega
          have e5 : gi M2 b 5 = nI q.2.2.1.length := (f2.2 b 5 (np _ _ r8)).1.trans r3
          have e6 : gi M2 b 6 = nI q.2.1 := (f2.2 b 6 (np _ _ r8)).1.trans r4
          have e8 : gi M2 b 8 = q.2.2.2 := (f2.2 b 8 (np _ _ r8)).1.trans r5
          have e4 : gr M2 b 4 = some (v, 100, l) := (f2.2 b 4 (np _ _ r8)).2.2.trans r1
          have ex : gi M2 v k = nI x := (f2.2 v k (np _ _ r9)).1.trans (r10 k x hxk)
          have hsv : mval A2 (m_sv q f as k x).1 (m_sv q f as k x).2 := by
            refine mval_cg (A := a_new A (-1) (29 + 6 * (g - 1)) 3 (gi (aT A) 140 f)) eL eO eT ?_
            exact m_sv_ok (fun c hc => mval_new (hv c hc)) (mval_new hfv)
          obtain ⟨ks, eks, hks⟩ := m_sv_ks hsv
          -- one variable
          have set : ∀ pc, (∀ M3, cw M3 → Z E YX1_enter (d + 4) M3 [(0, zX16), (1, vi (nI f)), (2, vi ts), (3, vi tv), (4, vi (nI src)), (5, vi (nI as.length)), (6, vi (nI (mtot F + rest.length))), (7, vi md), (8, vr (some (b, 10, 0))), (9, vi (nI (aO A))), (10, vi (nI k + 1))] 59 [] Q → zafter E YX1_enter (d + 4) [(0, zX16), (1, vi (nI f)), (2, vi ts), (3, vi tv), (4, vi (nI src)), (5, vi (nI as.length)), (6, vi (nI (mtot F + rest.length))), (7, vi md), (8, vr (some (b, 10, 0))), (9, vi (nI (aO A))), (10, vi (nI k))] pc 3 [] Q (.inl none) M3) → (∀ M3, Q (.inr (51, 13, 0)) M3 → zafter E YX1_enter (d + 4) [(0, zX16), (1, vi (nI f)), (2, vi ts), (3, vi tv), (4, vi (nI src)), (5, vi (nI as.length)), (6, vi (nI (mtot F + rest.length))), (7, vi md), (8, vr (some (b, 10, 0))), (9, vi (nI (aO A))), (10, vi (nI k))] pc 3 [] Q (.inr (51, 13, 0)) M3) → Z E YX1_setOwn (d + 3) M2 [(0, zX16), (1, vi (nI (aO A))), (2, vi (nI x)), (3, vi (m_sv q f as k x).1), (4, vi (m_sv q f as k x).2)] 0 [] (zafter E YX1_enter (d + 4) [(0, zX16), (1, vi (nI f)), (2, vi ts), (3, vi tv), (4, vi (nI src)), (5, vi (nI as.length)), (6, vi (nI (mtot F + rest.length))), (7, vi md), (8, vr (some (b, 10, 0))), (9, vi (nI (aO A))), (10, vi (nI k))] pc 3 [] Q) := fun pc kc kt => by
            rw [eks]
            refine xA_set s2 i2 (by omega) (by omega) hks (fun M3 A3 ea s3 f3 => ?_) (fun A3 ea eA => ?_)
            · rw [← eks] at ea
              obtain ⟨i3, eL3, eO3, eT3⟩ := iA_set i2 (by omega) (by rw [eL]; exact hxn) hsv ea
              refine kc M3 s3.1 ?_
              rw [show nI k + 1 = nI (k + 1) from nn_add k 1]
              refine ih (k + 1) A3 M3 hd' hkl (e.trans ?_) s3 i3 (f2.tr (fX_hp f3)) (eO3.trans eO) (eL3.trans eL) (fun z => (eT3 141 z (by omega)).trans (eT z))
              show (match a_set A2 (aO A) (nI x) (m_sv q f as k x).1 (m_sv q f as k x).2 with | (false, A') => (false, A') | (true, A') => m_vars q f (aO A) as vs (k + 1) A') = _
              rw [ea]
            · rw [← eks] at ea
              refine kt M2 (h2 A3 M2 (e.trans ?_) (by rw [eA]; exact s2) f2)
              show (match a_set A2 (aO A) (nI x) (m_sv q f as k x).1 (m_sv q f as k x).2 with | (false, A') => (false, A') | (true, A') => m_vars q f (aO A) as vs (k + 1) A') = _
              rw [ea]
          refine iX1_enter_59 M2 _ _ _ _ _ _ _ _ _ _ s2.1 ?_
          rw [e5, e6, e8, if_neg (by rw [nn_le (by omega) (by omega)]; omega), nn_cl (n := k) (by omega)]
          by_cases hp : q.2.1 ≤ k
          · rw [if_pos (by rw [nn_le (by omega) (by omega)]; exact hp)]
            refine ⟨v, l, e4, by rw [nn_in (by omega)]; omega, ?_⟩
            rw [ex]
            by_cases ho : nI x = q.2.2.2
            · have esv : m_sv q f as k x = (7, nI f) := by unfold m_sv; rw [if_neg (by omega), if_pos ho]
              rw [if_pos ho, ← ho]
              have z := set 165 (fun M3 w z => by
                show Z E YX1_enter (d + 4) M3 [(0, zX16), (1, vi (nI f)), (2, vi ts), (3, vi tv), (4, vi (nI src)), (5, vi (nI as.length)), (6, vi (nI (mtot F + rest.length))), (7, vi md), (8, vr (some (b, 10, 0))), (9, vi (nI (aO A))), (10, vi (nI k))] 168 [] Q
                exact iX1_enter_168 M3 _ _ _ _ _ _ _ _ _ _ w z) (fun M3 z => by
                show ZT E YX1_enter (d + 4) M3 _ 165 (51, 13, 0) Q
                exact ZT.out (nohand rfl) z)
              rw [esv] at z
              exact z
            · have esv : m_sv q f as k x = (0, 0) := by unfold m_sv; rw [if_neg (by omega), if_neg ho]
              rw [if_neg ho]
              have z := set 184 (fun M3 w z => by
                show Z E YX1_enter (d + 4) M3 [(0, zX16), (1, vi (nI f)), (2, vi ts), (3, vi tv), (4, vi (nI src)), (5, vi (nI as.length)), (6, vi (nI (mtot F + rest.length))), (7, vi md), (8, vr (some (b, 10, 0))), (9, vi (nI (aO A))), (10, vi (nI k))] 187 [] Q
                exact sX1_enter_187 M3 _ _ _ _ _ _ _ _ _ _ w z) (fun M3 z => by
                show ZT E YX1_enter (d + 4) M3 _ 184 (51, 13, 0) Q
                exact ZT.out (nohand rfl) z)
              rw [esv] at z
              exact z
          · rw [if_neg (by rw [nn_le (by omega) (by omega)]; exact hp)]
            refine ⟨v, l, e4, by rw [nn_in (by omega)]; omega, ?_⟩
            rw [ex]
            have z := set 132 (fun M3 w z => by
              show Z E YX1_enter (d + 4) M3 [(0, zX16), (1, vi (nI f)), (2, vi ts), (3, vi tv), (4, vi (nI src)), (5, vi (nI as.length)), (6, vi (nI (mtot F + rest.length))), (7, vi md), (8, vr (some (b, 10, 0))), (9, vi (nI (aO A))), (10, vi (nI k))] 135 [] Q
              exact iX1_enter_135 M3 _ _ _ _ _ _ _ _ _ _ w z) (fun M3 z => by
              show ZT E YX1_enter (d + 4) M3 _ 132 (51, 13, 0) Q
              exact ZT.out (nohand rfl) z)
            unfold m_sv at z
            rw [if_pos (by omega)] at z
            cases hk2 : as[k]? with
            | none =>
              have hle : as.length ≤ k := List.getElem?_eq_none_iff.mp hk2
              rw [hk2] at z
              rw [if_pos (by rw [nn_le (by omega) (by omega)]; exact hle)]
              exact z
            | some c =>
              have hlt' : k < as.length := (List.getElem?_eq_some_iff.mp hk2).1
              rw [hk2] at z
              obtain ⟨a1, a2⟩ := ha k c hk2
              rw [if_neg (by rw [nn_le (by omega) (by omega)]; omega), nn_add, nn_cl (n := src + k) (by omega), (f2.2 53 (src + k) (by unfold hpX; omega)).1, (f2.2 54 (src + k) (by unfold hpX; omega)).1, a1, a2]
              exact ⟨by rw [nn_in (by omega)]; omega, z⟩
      exact loop q.2.2.1 0 _ M1 (by rw [List.drop_zero]) (Nat.zero_le _) rfl s1 i1 f1 rfl rfl (fun z => rfl)
end
