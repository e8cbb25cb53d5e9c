/-! NEW: the step, and the twin's -/
section
variable {E : zE} {d : Nat} {T M : zM} {Q : zO → zM → Prop} {A : mA} {r : mF} {F : List mF} {G : mG} {P : List Nat}
theorem newX_mono {M1 : zM} {pp n : Nat} {w : mC} {as : List mC} (h : newX Q M A G pp n w as r F) (f : fr cX M M1) : newX Q M1 A G pp n w as r F := by
  refine ⟨fun z => vX_mono (h.1 z) f, fun x a b c d => ?_⟩
  obtain ⟨h1, h2, h3, h4⟩ := h.2 x a b c d
  exact ⟨fun z y => vX_mono (h1 z y) f, fun z y => vX_mono (h2 z y) f, fun z y => vX_mono (h3 z y) f, fun z y g q u v => entX_mono (h4 z y g q u v) f⟩
theorem newX_out {Q' : zO → zM → Prop} {pp n : Nat} {w : mC} {as : List mC} (h : newX Q M A G pp n w as r F) (k0 : ∀ M' A' F', gX M' A' F' → Q (.inl none) M' → Q' (.inl none) M') (k1 : ∀ M' e, Q (.inr e) M' → Q' (.inr e) M') : newX Q' M A G pp n w as r F := by
  have vv : ∀ p : mE, vX Q M p n r F → vX Q' M p n r F := fun p h => ⟨fun e M' g f => k0 _ _ _ g (h.1 e M' g f), fun e M' g a b f => k1 _ _ (h.2.1 e M' g a b f), fun e M' g f => k1 _ _ (h.2.2 e M' g f)⟩
  have vw : ∀ (p : mE) (A' : mA), vX Q M p n r F → vX Q' M p n r F := fun p _ h => vv p h
  refine ⟨fun z => vv _ (h.1 z), fun x a b c d => ?_⟩
  obtain ⟨h1, h2, h3, h4⟩ := h.2 x a b c d
  exact ⟨fun z y => vv _ (h1 z y), fun z y => vv _ (h2 z y), fun z y => vv _ (h3 z y), fun z y g q u v => ⟨fun e => vv _ ((h4 z y g q u v).1 e), fun e A' M' a g' f' => k1 _ _ ((h4 z y g q u v).2.1 e A' M' a g' f'), fun e A' M' a g' f' => k0 _ _ _ g' ((h4 z y g q u v).2.2 e A' M' a g' f')⟩⟩
theorem xs_new {site : Nat} {w : mC} {as rest : List mC} (h : gX M A (r :: F)) (i : iA A) (hiL : iL A) (h0 : m_l0 A) (c : iC A G) (ok : mFok (r :: F)) (hpl : r.pl + 1 < 600) (hG : xG M G) (wg : wG G (aL A).length) (hpp : 29 + 6 * (G.length - 1) + 2 * site < 160) (hc : gi M 30 r.pl = 16) (ha : gi M 31 r.pl = nI as.length) (hb : gi M 34 r.pl = nI site) (hr : r.st = as.reverse ++ w :: rest) (vw : mval A w.1 w.2.1) (hv : ∀ c ∈ as, mval A c.1 c.2.1)
    (hQ : newX Q M A G (29 + 6 * (G.length - 1) + 2 * site) (as.length + 1) w as (mFpl r (r.pl + 1)) F) : Z E YX1_step (d + 7) M [(0, zX16), (1, vi (nI r.pl))] 0 [] Q := by
  obtain ⟨n1, n2, n3, n4⟩ := xFs_nums h.2
  obtain ⟨g0, g1, -, g3, -⟩ := mFok_hd ok
  obtain ⟨g, f⟩ := gX_pl h ok (r.pl + 1)
  have ok' : mFok (mFpl r (r.pl + 1) :: F) := mFok_pl ok hpl
  have hQ1 := newX_mono hQ f.cX3
  refine sX1_step_0 M _ h.1.1 ?_
  rw [n1, nn_cl (n := r.pl) (by omega), hc, ha, hb]
  refine ⟨by rw [nn_in (by omega)]; omega, by rw [nn_in (by omega)]; omega, by rw [nn_in (by omega)]; omega, by rw [nn_in (by omega)]; omega, ?_⟩
  repeat rw [if_neg (by decide)]
  rw [if_pos rfl]
  simp (disch := omega) only [nn_add, nn_addl, nn_ladd, nn_mul, nn_lmul, nn_mull, nn_sub, nn_subl, nn_lsub, nn_lt, nn_le, nn_eq, nn_ltl, nn_llt, nn_lel, nn_lle, nn_eql, nn_leq, nn_m1, nn_1m, nn_ltm, nn_mlt, nn_mle, nn_lem, nn_cl, nn_in, nn_ns, nn_ns2, nn_nb, nn_nb2, nn_s1, nn_s2, nn_b1, nn_b2]
  generalize si M 59 F.length (nI (r.pl + 1)) = M1 at *
  refine xm_new g i hiL h0 c ok' (xG_cX hG f.cX3) wg hpp hr vw hv (newX_out hQ1 (fun M' A' F' g' q => ?_) (fun M' e q => ?_))
  · show Z E YX1_step (d + 7) M' [] 587 [] Q
    exact iX1_step_587 M' g'.1.1 q
  · show ZT E YX1_step (d + 7) M' [] 584 e Q
    exact ZT.out (nohand rfl) q
def newT' (Q : zO → zM → Prop) (T : zM) (A : mA) (G : mG) (pp n : Nat) (w : mC) (as : List mC) (r : mF) (F : List mF) : Prop :=
  (¬ (w.1 = 7 ∧ gi (aT A) 141 w.2.1.toNatClampNeg = 1) → vT Q T (m_err A 0) n r F) ∧
  ∀ f : Nat, w.1 = 7 → w.2.1 = nI f → f < aO A → gi (aT A) 141 f = 1 →
    (f < 23 → m_nn f → vT Q T (m_nat A f 0 0 as) n r F) ∧ (f < 23 → ¬ m_nn f → vT Q T (m_err A 0) n r F) ∧
    (23 ≤ f → aO A = 300 → vT Q T (2, A, 0, 0) n r F) ∧
    (23 ≤ f → aO A < 300 → ∀ g q, gi (aT A) 142 f = nI g → G[g]? = some q → entT Q T (a_new A (m_np A f) pp 0 (-1)) f g q 7 (nI (aO A)) (nI (aO A)) as n r F)
theorem newT_mono {T1 : zM} {pp n : Nat} {w : mC} {as : List mC} (h : newT' Q T A G pp n w as r F) (f : fr cT T T1) : newT' Q T1 A G pp n w as r F := by
  refine ⟨fun z => vT_mono (h.1 z) f, fun x a b c d => ?_⟩
  obtain ⟨h1, h2, h3, h4⟩ := h.2 x a b c d
  exact ⟨fun z y => vT_mono (h1 z y) f, fun z y => vT_mono (h2 z y) f, fun z y => vT_mono (h3 z y) f, fun z y g q u v => entT_mono (h4 z y g q u v) f⟩
theorem newT_out {Q' : zO → zM → Prop} {pp n : Nat} {w : mC} {as : List mC} (h : newT' Q T A G pp n w as r F) (k : ∀ T', Q (.inl none) T' → Q' (.inl none) T') : newT' Q' T A G pp n w as r F := by
  refine ⟨fun z => vT_out (h.1 z) k, fun x a b c d => ?_⟩
  obtain ⟨h1, h2, h3, h4⟩ := h.2 x a b c d
  exact ⟨fun z y => vT_out (h1 z y) k, fun z y => vT_out (h2 z y) k, fun z y => vT_out (h3 z y) k, fun z y g q u v => entT_out (h4 z y g q u v) k⟩
theorem tm_new2 {site : Nat} {w : mC} {as rest : List mC} (h : gT T A (r :: F)) (i : iA A) (hiL : iL A) (h0 : m_l0 A) (c : iC A G) (ok : mFok (r :: F)) (hh : mTh (r :: F)) (hpl : r.pl + 1 < 600) (hG : tG T G) (wg : wG G (aL A).length) (hpp : 29 + 6 * (G.length - 1) + 2 * site < 160) (hr : r.st = as.reverse ++ w :: rest) (vw : mval A w.1 w.2.1) (hv : ∀ c ∈ as, mval A c.1 c.2.1)
    (hQ : newT' Q T A G (29 + 6 * (G.length - 1) + 2 * site) (as.length + 1) w as r F) : Zm E YX8_makeNew (d + 7) T [(0, T97), (1, vi (nI as.length)), (2, vi (nI site))] 0 [] Q := by
  have hob := i.1.1.2
  have h23 := c.1
  obtain ⟨n1, n2, n3, n4⟩ := tFs_nums h.2.1
  obtain ⟨g0, g1, -, g3, -⟩ := mFok_hd ok
  have hl : r.st.length = as.length + (rest.length + 1) := by rw [hr, List.length_append, List.length_reverse]; rfl
  obtain ⟨x1, x2⟩ := t_args h.2.1 hr
  obtain ⟨w1, w2⟩ := x1 0 w rfl
  rw [show 400 * F.length + ((w :: rest).length - 1 - 0) = 400 * F.length + rest.length by simp] at w1 w2
  rw [show 400 * F.length + (w :: rest).length = 400 * F.length + rest.length + 1 by simp; omega] at x2
  refine iX8_makeNew_0 T _ _ ?_
  rw [n1, nn_cl (n := F.length) (by omega), n3, nn_lmul, nn_add, show nI (400 * F.length + r.st.length) - nI as.length - 1 = nI (400 * F.length + rest.length) from by rw [nn_sub (by omega), nn_subl (by omega)]; congr 1; omega]
  rw [show nI (400 * F.length + rest.length) + 1 = nI (400 * F.length + rest.length + 1) from nn_add _ 1, nn_cl (n := 400 * F.length + rest.length) (by omega), w1, w2]
  refine ⟨by rw [nn_in (by omega)]; omega, by rw [nn_in (by omega)]; omega, ?_⟩
  have f1 : fr scr T (si (si T 97 114 (nI (400 * F.length + rest.length + 1))) 97 115 (nI as.length)) := (fr.si (scr_97 (by omega))).tr (fr.si (scr_97 (by omega)))
  have b114 : gi (si (si T 97 114 (nI (400 * F.length + rest.length + 1))) 97 115 (nI as.length)) 97 114 = nI (400 * F.length + rest.length + 1) := by rw [gi_idx (by decide)]; exact gi_self ..
  have b115 : gi (si (si T 97 114 (nI (400 * F.length + rest.length + 1))) 97 115 (nI as.length)) 97 115 = nI as.length := gi_self ..
  generalize si (si T 97 114 (nI (400 * F.length + rest.length + 1))) 97 115 (nI as.length) = T1 at *
  have h1 := gT_scr h ok f1
  have hG1 := tG_cT hG f1.cT1
  have y2 : ∀ k c, as[k]? = some c → gi T1 160 (400 * F.length + rest.length + 1 + k) = c.1 ∧ gi T1 161 (400 * F.length + rest.length + 1 + k) = c.2.1 := fun k c hk => by
    rw [(f1.2 160 _ (by unfold scr; omega)).1, (f1.2 161 _ (by unfold scr; omega)).1]
    exact x2 k c hk
  obtain ⟨q0, qf⟩ := newT_mono hQ f1.cT1
  have bad : ∀ l5, vT Q T1 (m_err A 0) (as.length + 1) r F → Zm E YX8_makeNew (d + 7) T1 [(0, T97), (1, vi (nI as.length)), (2, vi (nI site)), (5, vi l5)] 84 [vi 0] Q := fun l5 z => by
    refine sX8_makeNew_84 T1 _ _ _ _ ?_
    rw [if_pos rfl]
    exact vT_err (d := d + 3) (m := 0) (vT_out z (fun T' q => sX8_makeNew_97 T' q)) rfl h1 i ok hh (by omega)
  by_cases c7 : w.1 = 7
  · rw [if_pos c7]
    obtain ⟨kk, ek, hkk, -, k7⟩ := vw.1
    obtain ⟨j, ej, hj⟩ := k7 (by rw [ek] at c7; simp (disch := omega) only [nn_add, nn_addl, nn_ladd, nn_mul, nn_lmul, nn_mull, nn_sub, nn_subl, nn_lsub, nn_lt, nn_le, nn_eq, nn_ltl, nn_llt, nn_lel, nn_lle, nn_eql, nn_leq, nn_m1, nn_1m, nn_ltm, nn_mlt, nn_mle, nn_lem, nn_cl, nn_in, nn_ns, nn_ns2, nn_nb, nn_nb2, nn_s1, nn_s2, nn_b1, nn_b2] at c7; exact c7)
    rw [ej, nn_cl (n := j) (by omega), h.1.1 141 j (by unfold hpT; omega), h.1.1 142 j (by unfold hpT; omega)]
    refine ⟨by rw [nn_in (by omega)]; omega, ?_⟩
    by_cases c1 : gi (aT A) 141 j = 1
    · obtain ⟨qn, qb, q3, qe⟩ := qf j c7 ej hj c1
      rw [if_pos c1]
      have e142 : gi T1 142 j = gi (aT A) 142 j := h1.1.1 142 j (by unfold hpT; omega)
      rcases c.2 j hj c1 with ⟨d1, d2, d3, -⟩ | ⟨d1, d2, ⟨g, q, hg, hg1, d3⟩, -, d5⟩
      · have nat : m_nn j → Zm E YX8_makeNew (d + 7) T1 [(0, T97), (1, vi (nI as.length)), (2, vi (nI site)), (5, vi (nI j))] 84 [vi 1] Q := fun hn => by
          refine sX8_makeNew_84 T1 _ _ _ _ ?_
          rw [if_neg (by decide), nn_cl (n := j) (by omega), e142, d3, if_pos rfl, show nI as.length + 1 = nI (as.length + 1) from nn_add _ 1]
          exact ⟨by rw [nn_in (by omega)]; omega, tm_nat h1 i hiL h0 h23 ok hh (by omega) (by unfold m_nn at hn; omega) d2 (by unfold m_nn at hn; omega) b114 b115 (by omega) (by omega) y2 hv mval_0 (vT_out (qn d2 hn) (fun T' q => sX8_makeNew_119 T' q))⟩
        rw [d3, if_neg (by decide)]
        by_cases e10 : j < 10
        · rw [if_pos (by rw [nn_ltl (by omega) (by omega)]; exact e10)]; exact bad _ (qb d2 (by unfold m_nn; omega))
        rw [if_neg (by rw [nn_ltl (by omega) (by omega)]; exact e10)]
        by_cases e17 : 17 < j
        · rw [if_pos (by rw [nn_llt (by omega) (by omega)]; exact e17)]; exact bad _ (qb d2 (by unfold m_nn; omega))
        rw [if_neg (by rw [nn_llt (by omega) (by omega)]; exact e17)]
        by_cases e13 : j = 13
        · rw [if_pos (by rw [nn_eql (by omega) (by omega)]; exact e13)]; exact bad _ (qb d2 (by unfold m_nn; omega))
        · rw [if_neg (by rw [nn_eql (by omega) (by omega)]; exact e13)]; exact nat (by unfold m_nn; omega)
      · obtain ⟨v1, v2, v3⟩ := id wg
        have hgl : g < G.length := (List.getElem?_eq_some_iff.mp hg).1
        rw [d3, if_pos (by rw [nn_0, nn_lt (by omega) (by omega)]; omega)]
        refine sX8_makeNew_84 T1 _ _ _ _ ?_
        rw [if_neg (by decide), nn_cl (n := j) (by omega), e142, d3, if_neg (by rw [nn_eql (by omega) (by omega)]; omega)]
        refine ⟨by rw [nn_in (by omega)]; omega, ?_⟩
        -- the object is made
        have born : ∀ (T2 : zM) (pr : Int32), fr scr T1 T2 → gi T2 97 114 = nI (400 * F.length + rest.length + 1) → gi T2 97 115 = nI as.length → pr = m_np A j → Zm E YX8_newObject (d + 6) T2 (zargs 0 [T97, vi pr, vi (29 + 6 * (nI G.length - 1) + 2 * nI site), vi 0]) 0 [] (zma E YX8_makeNew (d + 7) [(0, T97), (1, vi (nI as.length)), (5, vi (nI j))] 153 3 [] Q) := fun T2 pr f2 k114 k115 epr => by
          obtain ⟨p, ep, hp⟩ := m_np_ok i h23 hj
          have g2 := gT_scr h1 ok f2
          simp (disch := omega) only [nn_add, nn_addl, nn_ladd, nn_mul, nn_lmul, nn_mull, nn_sub, nn_subl, nn_lsub, nn_lt, nn_le, nn_eq, nn_ltl, nn_llt, nn_lel, nn_lle, nn_eql, nn_leq, nn_m1, nn_1m, nn_ltm, nn_mlt, nn_mle, nn_lem, nn_cl, nn_in, nn_ns, nn_ns2, nn_nb, nn_nb2, nn_s1, nn_s2, nn_b1, nn_b2]
          refine tA_new (lb := 29 + 6 * (G.length - 1) + 2 * site) g2.1 i (by omega) (fun h3 => ?_) (fun T3 hlt s3 f3 => ?_)
          · obtain ⟨x, fn⟩ := nT_of g2 ok
            show Zm E YX8_makeNew (d + 7) (si T2 97 75 1) [(0, T97), (1, vi (nI as.length)), (5, vi (nI j))] 156 [vi 0] Q
            refine iX8_makeNew_156 _ _ _ _ ?_
            rw [gi_self, if_neg (by decide)]
            exact vT_n (q3 d1 h3) rfl x (f2.cT1.tr fn)
          · obtain ⟨g3', f3'⟩ := gT_new g2 ok s3 f3
            rw [epr] at s3 g3'
            have i3 : iA (a_new A (m_np A j) (29 + 6 * (G.length - 1) + 2 * site) 0 (-1)) := iA_new i hlt (.inr ⟨p, ep, hp⟩) (by omega)
            have hj2 : j < aO (a_new A (m_np A j) (29 + 6 * (G.length - 1) + 2 * site) 0 (-1)) := Nat.lt_succ_of_lt hj
            have e141 : gi (aT (a_new A (m_np A j) (29 + 6 * (G.length - 1) + 2 * site) 0 (-1))) 141 j = 1 := by rw [a_new_srt _ _ _ _ _ _ _ (by omega), if_neg (by omega)]; exact c1
            have e142' : gi (aT (a_new A (m_np A j) (29 + 6 * (G.length - 1) + 2 * site) 0 (-1))) 142 j = nI g := by rw [a_new_srt _ _ _ _ _ _ _ (by omega), if_neg (by omega)]; exact d3
            show Zm E YX8_makeNew (d + 7) T3 [(0, T97), (1, vi (nI as.length)), (5, vi (nI j))] 156 [vi (nI (aO A))] Q
            refine iX8_makeNew_156 _ _ _ _ ?_
            rw [g3'.2.2.1, if_pos rfl, show nI as.length + 1 = nI (as.length + 1) from nn_add _ 1]
            refine tm_callC (d := d + 1) g3' i3 ok hh hpl (tG_cT hG1 (f2.cT1.tr f3')) wg hg hg1 (by omega) ((f3.2 97 114 (by omega)).1.trans k114) ((f3.2 97 115 (by omega)).1.trans k115) (by omega) (fun k c hk => ?_) (fun z hz => mval_new (hv z hz)) hj2 e141 e142' d1 (entT_out (entT_mono (qe d1 hlt g q d3 hg) (f2.cT1.tr f3')) (fun T' q => sX8_makeNew_182 T' q))
            rw [(f3.2 160 _ (by omega)).1, (f3.2 161 _ (by omega)).1, (f2.2 160 _ (by unfold scr; omega)).1, (f2.2 161 _ (by unfold scr; omega)).1]
            exact y2 k c hk
        have hfs : gi T1 97 32 = nI G.length := hG1.1
        refine tA_read h1.1 i hj (fun e => ?_) (fun p z hz hpz e => ?_)
        · show Zm E YX8_makeNew (d + 7) (si (si T1 97 111 0) 97 112 0) [(0, T97), (1, vi (nI as.length)), (2, vi (nI site)), (5, vi (nI j))] 127 [vi 0] Q
          refine iX8_makeNew_127 _ _ _ _ _ ?_
          have ff : fr scr T1 (si (si T1 97 111 0) 97 112 0) := fr_got
          rw [gi_idx (by decide), gi_self, if_neg (by decide), (ff.2 97 32 (by unfold scr; omega)).1, hfs]
          exact born _ 1 ff (by rw [gi_idx (by decide), gi_idx (by decide)]; exact b114) (by rw [gi_idx (by decide), gi_idx (by decide)]; exact b115) (by unfold m_np m_val; rw [if_pos e]; rfl)
        · have p3 := ((i.1.2.2 z hz).2.2.2.1 p hpz).1
          have en : ¬ a_get A j 1 = -1 := by rw [e, nn_m1 (by omega)]; exact fun z => z
          have ff : fr scr T1 (si (si T1 97 111 (gi (aT A) 146 p)) 97 112 (gi (aT A) 147 p)) := fr_got
          show Zm E YX8_makeNew (d + 7) (si (si T1 97 111 (gi (aT A) 146 p)) 97 112 (gi (aT A) 147 p)) [(0, T97), (1, vi (nI as.length)), (2, vi (nI site)), (5, vi (nI j))] 127 [vi 1] Q
          refine iX8_makeNew_127 _ _ _ _ _ ?_
          rw [gi_idx (j := 111) (by decide), gi_self, gi_self, (ff.2 97 32 (by unfold scr; omega)).1, hfs]
          have k114 : gi (si (si T1 97 111 (gi (aT A) 146 p)) 97 112 (gi (aT A) 147 p)) 97 114 = nI (400 * F.length + rest.length + 1) := by rw [gi_idx (by decide), gi_idx (by decide)]; exact b114
          have k115 : gi (si (si T1 97 111 (gi (aT A) 146 p)) 97 112 (gi (aT A) 147 p)) 97 115 = nI as.length := by rw [gi_idx (by decide), gi_idx (by decide)]; exact b115
          by_cases h7 : gi (aT A) 146 p = 7
          · rw [if_pos h7]
            exact born _ _ ff k114 k115 (by unfold m_np m_val; rw [if_neg en, e, nn_cl (by omega)]; exact (if_pos h7).symm)
          · rw [if_neg h7]
            exact born _ _ ff k114 k115 (by unfold m_np m_val; rw [if_neg en, e, nn_cl (by omega)]; exact (if_neg h7).symm)
    · rw [if_neg c1]
      exact bad _ (q0 (fun z => by rw [ej, nn_cl (by omega)] at z; exact c1 z.2))
  · rw [if_neg c7]
    exact bad _ (q0 (fun z => c7 z.1))
theorem ts_new {site : Nat} {w : mC} {as rest : List mC} (h : gT T A (r :: F)) (i : iA A) (hiL : iL A) (h0 : m_l0 A) (c : iC A G) (ok : mFok (r :: F)) (hh : mTh (r :: F)) (hpl : r.pl + 1 < 600) (hG : tG T G) (wg : wG G (aL A).length) (hpp : 29 + 6 * (G.length - 1) + 2 * site < 160) (hc : gi T 123 r.pl = 16) (ha : gi T 124 r.pl = nI as.length) (hb : gi T 125 r.pl = nI site) (hr : r.st = as.reverse ++ w :: rest) (vw : mval A w.1 w.2.1) (hv : ∀ c ∈ as, mval A c.1 c.2.1)
    (hQ : newT' Q T A G (29 + 6 * (G.length - 1) + 2 * site) (as.length + 1) w as r F) : Zm E YX8_step_2 (d + 8) T [(0, T97)] 0 [] Q := by
  obtain ⟨n1, n2, n3, n4⟩ := tFs_nums h.2.1
  obtain ⟨g0, g1, -⟩ := mFok_hd ok
  refine sX8_step_2_0 T ?_
  rw [n1, nn_cl (n := F.length) (by omega), n2, nn_cl (n := r.pl) (by omega), hc, ha, hb]
  refine ⟨by rw [nn_in (by omega)]; omega, by rw [nn_in (by omega)]; omega, by rw [nn_in (by omega)]; omega, by rw [nn_in (by omega)]; omega, ?_⟩
  repeat rw [if_neg (by decide)]
  rw [if_pos rfl]
  exact tm_new2 h i hiL h0 c ok hh hpl hG wg hpp hr vw hv (newT_out hQ (fun T' q => iX8_step_2_432 T' q))
end
