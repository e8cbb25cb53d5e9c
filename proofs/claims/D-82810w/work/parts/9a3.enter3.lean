/-! ENTERING a function: the twin -/
section
variable {E : zE} {d : Nat} {T M : zM} {Q : zO → zM → Prop} {A : mA} {r : mF} {F : List mF} {G : mG}
theorem sT_link {pr st lk : Int32} {lb : Nat} (h : sT T (a_new A pr lb st (-1))) : sT (si T 140 (aO A) lk) (a_new A pr lb st lk) := by
  have f : fr (fun a _ => a = 140) T (si T 140 (aO A) lk) := fr.si rfl
  refine ⟨fun a k q => ?_, (f.2 97 7 (by omega)).1.trans h.2.1, h.2.2.1, fun s' w hs => ?_⟩
  · show gi (si T 140 (aO A) lk) a k = gi (m_new (aT A) (aO A) pr lb st lk) a k
    rw [← m_new_lk, gi_si, gi_si, show gi T a k = gi (m_new (aT A) (aO A) pr lb st (-1)) a k from h.1 a k q]
  · obtain ⟨q1, q2, q3⟩ := h.2.2.2 s' w hs
    exact ⟨(f.2 101 s' (by omega)).1.trans q1, q2, fun k hk => (f.2 100 _ (by omega)).1.trans (q3 k hk)⟩
theorem tm_enter {f g n src : Nat} {q : Nat × Nat × List Nat × Int32} {ts tv md : Int32} {as rest : List mC} (h : gT T A (r :: F)) (i : iA A) (ok : mFok (r :: F)) (hG : tG T G) (wg : wG G (aL A).length) (hg : G[g]? = some q) (hg1 : 1 ≤ g)
    (hf : f < aO A) (hfs : gi (aT A) 141 f = 1) (hfc : gi (aT A) 142 f = nI g) (hF : F.length + 1 < 24) (hpl : r.pl + 1 < 600)
    (hn : n ≤ r.st.length) (hr : r.st.drop n = rest) (e114 : gi T 97 114 = nI src) (e115 : gi T 97 115 = nI as.length) (hsrc : src + as.length ≤ 9600) (ha : ∀ k c, as[k]? = some c → gi T 160 (src + k) = c.1 ∧ gi T 161 (src + k) = c.2.1) (hv : ∀ c ∈ as, mval A c.1 c.2.1)
    (h2 : ∀ A' T', m_ent A f g q as = (false, A') → sT T' A' → gi T' 97 75 = 1 → fr hnT T T' → Q (.inl none) T')
    (h1 : ∀ A' T', m_ent A f g q as = (true, A') → gT T' A' (((nI g, nI (aO A), ts, tv, md), q.1, [], []) :: mFst (mFpl r (r.pl + 1)) rest :: F) → fr cT T T' → Q (.inl none) T') :
    Zm E YX8_enter (d + 2) T [(0, T97), (1, vi (nI f)), (2, vi ts), (3, vi tv), (4, vi (nI n)), (5, vi md)] 0 [] Q := by
  have hob := i.1.1.2
  obtain ⟨g0, g1, -, g3, -⟩ := mFok_hd ok
  have okF := mFok_tl ok
  obtain ⟨w1, w2, w3⟩ := id wg
  have hgl : g < G.length := (List.getElem?_eq_some_iff.mp hg).1
  obtain ⟨wq1, wq2, wqp, wq3⟩ := w3 q (List.mem_of_getElem? hg)
  obtain ⟨-, HG⟩ := id hG
  obtain ⟨r1, r2, r3, r4, r5⟩ := HG g q hg
  have hL400 := i.2.1.2.1
  have e142 : gi T 142 f = nI g := (h.1.1 142 f (by unfold hpT; omega)).trans hfc
  have n75 : ∀ T' : zM, fr (fun a k => a = 97 ∧ k = 75) T' (si T' 97 75 1) := fun T' => fr.si ⟨rfl, rfl⟩
  refine sX8_enter_0 T _ _ _ _ _ ?_
  rw [nn_cl (n := f) (by omega), e142]
  refine ⟨by rw [nn_in (by omega)]; omega, ?_⟩
  simp (disch := omega) only [nn_add, nn_addl, nn_ladd, nn_mul, nn_lmul, nn_mull, nn_sub, nn_subl, nn_lsub, nn_lt, nn_le, nn_eq, nn_ltl, nn_llt, nn_lel, nn_lle, nn_eql, nn_leq, nn_m1, nn_1m, nn_ltm, nn_mlt, nn_mle, nn_lem, nn_cl, nn_in, nn_ns, nn_ns2, nn_nb, nn_nb2, nn_s1, nn_s2, nn_b1, nn_b2]
  refine tA_new (pr := -1) (st := 3) h.1 i (by omega) (fun h3 => ?_) (fun T1 hlt s1 f1 => ?_)
  · show Zm E YX8_enter (d + 2) (si T 97 75 1) [(0, T97), (1, vi (nI f)), (2, vi ts), (3, vi tv), (4, vi (nI n)), (5, vi md), (6, vi (nI g))] 24 [vi 0] Q
    refine sX8_enter_24 _ _ _ _ _ _ _ _ ?_
    rw [gi_self, if_neg (by decide)]
    exact h2 A _ (by unfold m_ent; rw [if_pos h3]) (sT_cg h.1 (n75 T) (fun a k q => .inr (.inr q))) (gi_self ..) ((n75 T).mono fun a k q => .inr q)
  · have e140 : gi T1 140 f = gi (aT A) 140 f := (s1.1 140 f (by unfold hpT; omega)).trans (by rw [a_new_srt _ _ _ _ _ _ _ (by omega), if_neg (by omega)])
    show Zm E YX8_enter (d + 2) T1 [(0, T97), (1, vi (nI f)), (2, vi ts), (3, vi tv), (4, vi (nI n)), (5, vi md), (6, vi (nI g))] 24 [vi (nI (aO A))] Q
    refine sX8_enter_24 _ _ _ _ _ _ _ _ ?_
    rw [(f1.2 97 75 (by omega)).1, h.2.2.1, if_pos rfl, nn_cl (n := f) (by omega), nn_cl (n := aO A) (by omega), e140]
    refine ⟨by rw [nn_in (by omega)]; omega, by rw [nn_in (by omega)]; omega, ?_⟩
    have s2 := sT_link (lk := gi (aT A) 140 f) s1
    have f2 : fr hpT T (si T1 140 (aO A) (gi (aT A) 140 f)) := (f1.mono fun a k q => by unfold hpT; omega).tr (fr.si (by unfold hpT; omega))
    generalize si T1 140 (aO A) (gi (aT A) 140 f) = T2 at *
    have i1 : iA (a_new A (-1) (29 + 6 * (g - 1)) 3 (gi (aT A) 140 f)) := iA_new i hlt (.inl rfl) (by omega)
    have em : m_ent A f g q as = m_vars q f (aO A) as q.2.2.1 0 (a_new A (-1) (29 + 6 * (g - 1)) 3 (gi (aT A) 140 f)) := by unfold m_ent; rw [if_neg (by omega)]
    rw [em] at h1 h2
    have hfv : mval A 7 (nI f) := mval_7 hf (by rw [hfs]; decide)
    have loop : ∀ (vs : List Nat) (k : Nat) (A2 : mA) (T2 : zM), q.2.2.1.drop k = vs → k ≤ q.2.2.1.length → m_vars q f (aO A) as q.2.2.1 0 (a_new A (-1) (29 + 6 * (g - 1)) 3 (gi (aT A) 140 f)) = m_vars q f (aO A) as vs k A2 → sT T2 A2 → iA A2 → fr hpT T T2 → aO A2 = aO A + 1 → aL A2 = aL A → (∀ z, gi (aT A2) 141 z = gi (aT (a_new A (-1) (29 + 6 * (g - 1)) 3 (gi (aT A) 140 f))) 141 z) → Zm E YX8_enter (d + 2) T2 [(0, T97), (1, vi (nI f)), (2, vi ts), (3, vi tv), (4, vi (nI n)), (5, vi md), (6, vi (nI g)), (7, vi (nI (aO A))), (8, vi (nI k))] 50 [] Q := by
      intro vs
      induction vs with
      | nil =>
        intro k A2 T2 hd hk e s2 i2 f2 eO eL eT
        have hk' : k = q.2.2.1.length := by
          have := congrArg List.length hd
          rw [List.length_drop] at this
          simp at this
          omega
        have e130 : gi T2 130 g = nI q.2.2.1.length := (f2.2 130 g (by unfold hpT; omega)).1.trans r2
        obtain ⟨gt, fc⟩ := gT_hp h ok s2 f2
        obtain ⟨n1, n2, n3, n4⟩ := tFs_nums gt.2.1
        refine iX8_enter_50 T2 _ _ _ _ _ _ _ _ ?_
        rw [nn_cl (n := g) (by omega), e130, if_pos (by rw [hk', nn_le (by omega) (by omega)]; omega), n1, nn_cl (n := F.length) (by omega), n2, n3]
        refine ⟨by rw [nn_in (by omega)]; omega, by rw [nn_in (by omega)]; omega, ?_⟩
        simp (disch := omega) only [nn_add, nn_addl, nn_ladd, nn_mul, nn_lmul, nn_mull, nn_sub, nn_subl, nn_lsub, nn_lt, nn_le, nn_eq, nn_ltl, nn_llt, nn_lel, nn_lle, nn_eql, nn_leq, nn_m1, nn_1m, nn_ltm, nn_mlt, nn_mle, nn_lem, nn_cl, nn_in, nn_ns, nn_ns2, nn_nb, nn_nb2, nn_s1, nn_s2, nn_b1, nn_b2]
        have x3 := tFs_pl (tFs_drop gt.2.1 okF n) okF (r.pl + 1)
        rw [hr] at x3
        have f3 : fr fFT T2 (si (si T2 155 F.length (nI (r.st.length - n))) 154 F.length (nI (r.pl + 1))) := (fr.si (fFT_i (by omega))).tr (fr.si (fFT_i (by omega)))
        generalize si (si T2 155 F.length (nI (r.st.length - n))) 154 F.length (nI (r.pl + 1)) = T3 at *
        have hrl : rest.length ≤ 390 := by rw [← hr, List.length_drop]; omega
        refine tm_comes x3 (mFok_pl (mFok_st ok hrl) hpl) (by simp; omega) (tG_cT hG (fc.tr f3.cT3)) ⟨w1, w2, fun q' hq' => ⟨(w3 q' hq').1, (w3 q' hq').2.1, (w3 q' hq').2.2.1, fun x hx => by have := (w3 q' hq').2.2.2 x hx; omega⟩⟩ hg (fun T4 x4 f4 => ?_)
        show Zm E YX8_enter (d + 2) T4 [] 227 [] Q
        have f34 := f3.tr f4
        exact sX8_enter_227 T4 (h1 A2 T4 e ⟨sT_cg s2 f34 (fun a k q => .inr (.inl (.inl q))), x4, (f34.2 97 75 (by unfold fFT; omega)).1.trans gt.2.2.1, (f34.2 97 73 (by unfold fFT; omega)).1.trans gt.2.2.2⟩ (fc.tr f34.cT3))
      | cons x vs ih =>
        intro k A2 T2 hd hk e s2 i2 f2 eO eL eT
        have hxk : q.2.2.1[k]? = some x := by
          have := congrArg (fun l => l[0]?) hd
          simpa [List.getElem?_drop] using this
        have hkl : k < q.2.2.1.length := (List.getElem?_eq_some_iff.mp hxk).1
        have hxn : x < (aL A).length := wq3 x (List.mem_of_getElem? hxk)
        have hd' : q.2.2.1.drop (k + 1) = vs := by rw [← List.drop_drop, hd]; rfl
        have e130 : gi T2 130 g = nI q.2.2.1.length := (f2.2 130 g (by unfold hpT; omega)).1.trans r2
        have e117 : gi T2 117 g = nI q.2.1 := (f2.2 117 g (by unfold hpT; omega)).1.trans r3
        have ex : gi T2 129 (100 * g + k) = nI x := (f2.2 129 _ (by unfold hpT; omega)).1.trans (r4 k x hxk)
        have c115 : gi T2 115 g = gi T 115 g := (f2.2 115 g (by unfold hpT; omega)).1
        have c114 : gi T2 114 g = gi T 114 g := (f2.2 114 g (by unfold hpT; omega)).1
        have d114 : gi T2 97 114 = nI src := (f2.2 97 114 (by unfold hpT; omega)).1.trans e114
        have d115 : gi T2 97 115 = nI as.length := (f2.2 97 115 (by unfold hpT; omega)).1.trans e115
        have hsv : mval A2 (m_sv q f as k x).1 (m_sv q f as k x).2 := by
          refine mval_cg (A := a_new A (-1) (29 + 6 * (g - 1)) 3 (gi (aT A) 140 f)) eL eO eT ?_
          exact m_sv_ok (fun c hc => mval_new (hv c hc)) (mval_new hfv)
        -- one variable is set
        have set : Zm E YX8_set_2 (d + 1) T2 [(0, T97), (1, vi (nI (aO A))), (2, vi (nI x)), (3, vi (m_sv q f as k x).1), (4, vi (m_sv q f as k x).2)] 0 [] (zma E YX8_enter (d + 2) [(0, T97), (1, vi (nI f)), (2, vi ts), (3, vi tv), (4, vi (nI n)), (5, vi md), (6, vi (nI g)), (7, vi (nI (aO A))), (8, vi (nI k))] 188 3 [] Q) := by
          refine tA_set s2 i2 (by omega) (fun T3 A3 ea s3 f3 => ?_) (fun A3 ea eA => ?_)
          · obtain ⟨i3, eL3, eO3, eT3⟩ := iA_set i2 (by omega) (by rw [eL]; exact hxn) hsv ea
            have f03 := f2.tr (fT_hp f3)
            show Zm E YX8_enter (d + 2) T3 [(0, T97), (1, vi (nI f)), (2, vi ts), (3, vi tv), (4, vi (nI n)), (5, vi md), (6, vi (nI g)), (7, vi (nI (aO A))), (8, vi (nI k))] 191 [] Q
            refine sX8_enter_191 T3 _ _ _ _ _ _ _ _ ?_
            rw [(f03.2 97 75 (by unfold hpT; omega)).1, h.2.2.1, if_pos rfl, show nI k + 1 = nI (k + 1) from nn_add k 1]
            refine ih (k + 1) A3 T3 hd' hkl (e.trans ?_) s3 i3 f03 (eO3.trans eO) (eL3.trans eL) (fun z => (eT3 141 z (by omega)).trans (eT z))
            show (match a_set A2 (aO A) (nI x) (m_sv q f as k x).1 (m_sv q f as k x).2 with | (false, A') => (false, A') | (true, A') => m_vars q f (aO A) as vs (k + 1) A') = _
            rw [ea]
          · show Zm E YX8_enter (d + 2) (si T2 97 75 1) [(0, T97), (1, vi (nI f)), (2, vi ts), (3, vi tv), (4, vi (nI n)), (5, vi md), (6, vi (nI g)), (7, vi (nI (aO A))), (8, vi (nI k))] 191 [] Q
            refine sX8_enter_191 _ _ _ _ _ _ _ _ _ ?_
            rw [gi_self, if_neg (by decide)]
            refine h2 A3 _ (e.trans ?_) (by rw [eA]; exact sT_cg s2 (n75 T2) (fun a k q => .inr (.inr q))) (gi_self ..) ((f2.mono fun a k q => .inl q).tr ((n75 T2).mono fun a k q => .inr q))
            show (match a_set A2 (aO A) (nI x) (m_sv q f as k x).1 (m_sv q f as k x).2 with | (false, A') => (false, A') | (true, A') => m_vars q f (aO A) as vs (k + 1) A') = _
            rw [ea]
        refine iX8_enter_50 T2 _ _ _ _ _ _ _ _ ?_
        rw [nn_cl (n := g) (by omega), e130, e117, if_neg (by rw [nn_le (by omega) (by omega)]; omega), nn_lmul, nn_add, nn_cl (n := 100 * g + k) (by omega), ex]
        refine ⟨by rw [nn_in (by omega)]; omega, by rw [nn_in (by omega)]; omega, ?_⟩
        by_cases hp : q.2.1 ≤ k
        · rw [if_pos (by rw [nn_le (by omega) (by omega)]; exact hp)]
          refine iX8_enter_94 T2 _ _ _ _ _ _ _ _ _ _ ?_
          rw [if_pos rfl, nn_cl (n := g) (by omega), c115, c114]
          refine ⟨by rw [nn_in (by omega)]; omega, ?_⟩
          have own := r5 k x hxk hp
          by_cases ho : nI x = q.2.2.2
          · have esv : m_sv q f as k x = (7, nI f) := by unfold m_sv; rw [if_neg (by omega), if_pos ho]
            obtain ⟨o1, o2⟩ := own.mpr ho
            rw [esv] at set
            rw [if_pos o1, if_pos o2]
            refine iX8_enter_128 T2 _ _ _ _ _ _ _ _ _ _ _ ?_
            rw [if_pos rfl, if_neg (by decide)]
            refine iX8_enter_155 T2 _ _ _ _ _ _ _ _ _ _ _ _ ?_
            rw [if_pos rfl, if_neg (by decide)]
            exact set
          · have esv : m_sv q f as k x = (0, 0) := by unfold m_sv; rw [if_neg (by omega), if_neg ho]
            rw [esv] at set
            have z : Zm E YX8_enter (d + 2) T2 [(0, T97), (1, vi (nI f)), (2, vi ts), (3, vi tv), (4, vi (nI n)), (5, vi md), (6, vi (nI g)), (7, vi (nI (aO A))), (8, vi (nI k)), (9, vi (nI x)), (10, vi 0)] 128 [vi 0] Q := by
              refine iX8_enter_128 T2 _ _ _ _ _ _ _ _ _ _ _ ?_
              rw [if_pos rfl, if_pos rfl]
              refine iX8_enter_155 T2 _ _ _ _ _ _ _ _ _ _ _ _ ?_
              rw [if_pos rfl, if_pos rfl]
              exact set
            by_cases o1 : gi T 115 g = 0
            · rw [if_pos o1, if_neg (fun o2 => ho (own.mp ⟨o1, o2⟩))]; exact z
            · rw [if_neg o1]; exact z
        · rw [if_neg (by rw [nn_le (by omega) (by omega)]; exact hp)]
          refine iX8_enter_94 T2 _ _ _ _ _ _ _ _ _ _ ?_
          rw [if_neg (by decide)]
          refine iX8_enter_128 T2 _ _ _ _ _ _ _ _ _ _ _ ?_
          rw [if_neg (by decide), d114, d115]
          unfold m_sv at set
          rw [if_pos (by omega)] at set
          cases hk2 : as[k]? with
          | none =>
            have hle : as.length ≤ k := List.getElem?_eq_none_iff.mp hk2
            rw [hk2] at set
            rw [if_pos (by rw [nn_le (by omega) (by omega)]; exact hle)]
            refine iX8_enter_155 T2 _ _ _ _ _ _ _ _ _ _ _ _ ?_
            rw [if_neg (by decide), d115, if_pos (by rw [nn_le (by omega) (by omega)]; exact hle)]
            exact set
          | some c =>
            have hlt' : k < as.length := (List.getElem?_eq_some_iff.mp hk2).1
            rw [hk2] at set
            obtain ⟨a1, a2⟩ := ha k c hk2
            have b1 : gi T2 160 (src + k) = c.1 := (f2.2 160 _ (by unfold hpT; omega)).1.trans a1
            have b2 : gi T2 161 (src + k) = c.2.1 := (f2.2 161 _ (by unfold hpT; omega)).1.trans a2
            rw [if_neg (by rw [nn_le (by omega) (by omega)]; omega), nn_add, nn_cl (n := src + k) (by omega), b1]
            refine ⟨by rw [nn_in (by omega)]; omega, ?_⟩
            refine iX8_enter_155 T2 _ _ _ _ _ _ _ _ _ _ _ _ ?_
            rw [if_neg (by decide), d114, d115, if_neg (by rw [nn_le (by omega) (by omega)]; omega), nn_add, nn_cl (n := src + k) (by omega), b2]
            exact ⟨by rw [nn_in (by omega)]; omega, set⟩
    exact loop q.2.2.1 0 _ T2 (by rw [List.drop_zero]) (Nat.zero_le _) rfl s2 i1 f2 rfl rfl (fun z => rfl)
end
