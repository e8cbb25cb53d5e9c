/-! THE COMPONENT's PARSER: an item's key -/
def rwP (x k : Nat) : Prop := x = 20 ∨ x = 16 ∧ k = 3
theorem cw_rw {M M' : zM} (h : cw M) (f : fr rwP M M') : cw M' := cw_fr h f (fun q hq z => by
  have := (show ∀ q ∈ cwl, ¬ (q.1 = 20 ∨ q.1 = 16 ∧ q.2.1 = 3) by decide +kernel) q hq
  exact this z)
theorem xR_put3 {M : zM} {w : List Int32} {x : Int32} (hR : xR M w) (hl : w.length < 256) (hx : c7 x) : ¬ (256 : Int32) ≤ gi M 16 3 ∧ vp_in (gi M 16 3) 256 ∧ xR (si (si M 16 3 (gi M 16 3 + 1)) 20 (gi M 16 3).toNatClampNeg (vp_nar .byte x.toInt8.toInt32)) (w ++ [x]) ∧ fr rwP M (si (si M 16 3 (gi M 16 3 + 1)) 20 (gi M 16 3).toNatClampNeg (vp_nar .byte x.toInt8.toInt32)) := by
  obtain ⟨t1, t2, t3⟩ := hR
  rw [t1, nn_cl (by omega), c7_b hx]
  refine ⟨by simp (disch := omega) only [nn_add, nn_addl, nn_ladd, nn_mul, nn_lmul, nn_mull, nn_sub, nn_subl, nn_lsub, nn_lt, nn_le, nn_eq, nn_ltl, nn_llt, nn_lel, nn_lle, nn_eql, nn_leq, nn_m1, nn_1m, nn_ltm, nn_mlt, nn_mle, nn_lem, nn_cl, nn_in, nn_ns, nn_ns2, nn_nb, nn_nb2, nn_s1, nn_s2, nn_b1, nn_b2]; omega, by simp (disch := omega) only [nn_add, nn_addl, nn_ladd, nn_mul, nn_lmul, nn_mull, nn_sub, nn_subl, nn_lsub, nn_lt, nn_le, nn_eq, nn_ltl, nn_llt, nn_lel, nn_lle, nn_eql, nn_leq, nn_m1, nn_1m, nn_ltm, nn_mlt, nn_mle, nn_lem, nn_cl, nn_in, nn_ns, nn_ns2, nn_nb, nn_nb2, nn_s1, nn_s2, nn_b1, nn_b2]; exact hl, ⟨?_, by rw [List.length_append]; exact hl, fun k hk => ?_⟩, (fr.si (by unfold rwP; omega)).tr (fr.si (by unfold rwP; omega))⟩
  · rw [gi_oth (by decide), gi_self, List.length_append]
    simp (disch := omega) only [nn_add, nn_addl, nn_ladd, nn_mul, nn_lmul, nn_mull, nn_sub, nn_subl, nn_lsub, nn_lt, nn_le, nn_eq, nn_ltl, nn_llt, nn_lel, nn_lle, nn_eql, nn_leq, nn_m1, nn_1m, nn_ltm, nn_mlt, nn_mle, nn_lem, nn_cl, nn_in, nn_ns, nn_ns2, nn_nb, nn_nb2, nn_s1, nn_s2, nn_b1, nn_b2]
    rfl
  · rw [getD_app]
    rw [List.length_append] at hk
    by_cases h : k = w.length
    · rw [if_neg (by omega), h, gi_self, Nat.sub_self]; rfl
    · have hlt : k < w.length := by simp at hk; omega
      rw [if_pos hlt, gi_idx h, gi_oth (by decide), t3 k hlt]
section
variable {E : zE} {d : Nat} {M : zM} {Q : zO → zM → Prop}
theorem xm_putR {v : Int32} {w : List Int32} (hw : cw M) (hR : xR M w) (hl : w.length + 12 ≤ 256) (hQ : ∀ M', xR M' (w ++ mdi v) → fr rwP M M' → Q (.inl none) M') : Z E YX1_putDigits (d + 1) M [(0, zX16), (1, vi v)] 0 [] Q := by
  obtain ⟨a1, a2, a3⟩ := mabs (v := v)
  generalize hn : v.toInt.natAbs = n at *
  have dig : ∀ (k : Nat) (M1 : zM) (u : List Int32), k ≤ 10 → xR M1 u → u.length + k + 1 ≤ 256 → fr rwP M M1 → (∀ M', xR M' (u ++ mdg n k) → fr rwP M M' → Q (.inl none) M') → Z E YX1_putDigits (d + 1) M1 [(0, zX16), (2, vl (nL n)), (4, vl (nL (10 ^ k)))] 43 [] Q := by
    intro k
    induction k with
    | zero =>
      intro M1 u hk hu hlu f kQ
      refine iX1_putDigits_43 M1 _ _ (cw_rw hw f) ?_
      rw [Nat.pow_zero]
      simp (disch := omega) only [nL_l0, nL_l10, nL_l48, nLc_le0, nL_div, nL_mul, nL_sub, nL_add, nL_32, Nat.div_one, mdig]
      rw [if_neg (by decide), ← nL_l0, nL_eq0 (by omega)]
      obtain ⟨p0, p1, p2, p3⟩ := xR_put3 hu (by omega) (x := nI (48 + n % 10)) ⟨_, by omega, rfl⟩
      rw [if_neg p0]
      refine ⟨by decide, p1, ?_⟩
      refine iX1_putDigits_43 _ _ _ (cw_rw hw (f.tr p3)) ?_
      simp (disch := omega) only [nL_l0, nLc_le0]
      rw [if_pos (by decide)]
      exact kQ _ p2 (f.tr p3)
    | succ k ih =>
      intro M1 u hk hu hlu f kQ
      obtain ⟨q1, q2⟩ := p10 hk
      have hd1 : n / 10 ^ (k + 1) ≤ n := Nat.div_le_self _ _
      have hd2 : 10 ^ (k + 1) / 10 = 10 ^ k := by rw [Nat.pow_succ]; omega
      generalize hP : 10 ^ (k + 1) = P at *
      generalize hD : n / P = D at *
      refine iX1_putDigits_43 M1 _ _ (cw_rw hw f) ?_
      simp (disch := omega) only [nL_l0, nL_l10, nL_l48, nLc_le0, nL_div, hD, nL_mul, nL_sub, nL_add, nL_32, hd2, mdig]
      rw [if_neg (by omega), ← nL_l0, nL_eq0 (by omega)]
      obtain ⟨p0, p1, p2, p3⟩ := xR_put3 hu (by omega) (x := nI (48 + D % 10)) ⟨_, by omega, rfl⟩
      rw [if_neg p0]
      refine ⟨by omega, p1, ?_⟩
      refine ih _ _ (by omega) p2 (by rw [List.length_append]; show u.length + 1 + k + 1 ≤ 256; omega) (f.tr p3) (fun T' h1 h2 => kQ T' ?_ h2)
      rw [List.append_assoc] at h1
      have e : mdg n (k + 1) = nI (48 + D % 10) :: mdg n k := by
        show nI (48 + n / 10 ^ (k + 1) % 10) :: mdg n k = _
        rw [hP, hD]
      rw [e]
      exact h1
  have top : ∀ (f k : Nat) (M1 : zM) (u : List Int32), k + f = 10 → mtop n f k = mtop n 10 0 → xR M1 u → u.length + 11 ≤ 256 → fr rwP M M1 → (∀ M', xR M' (u ++ mdg n (mtop n 10 0)) → fr rwP M M' → Q (.inl none) M') → Z E YX1_putDigits (d + 1) M1 [(0, zX16), (2, vl (nL n)), (4, vl (nL (10 ^ k)))] 21 [] Q := by
    intro f
    induction f with
    | zero =>
      intro k M1 u hk hm hu hlu fr1 kQ
      obtain ⟨q1, q2⟩ := p10 (show k ≤ 10 by omega)
      have hk10 : k = 10 := by omega
      have hm : k = mtop n 10 0 := hm
      have nxt := dig k M1 u (by omega) hu (by omega) fr1 (by rw [hm]; exact kQ)
      refine sX1_putDigits_21 M1 _ _ (cw_rw hw fr1) ?_
      simp (disch := omega) only [nL_l10, nL_div, nLc_0lt]
      rw [if_pos (by rw [hk10]; omega)]
      exact nxt
    | succ f ih =>
      intro k M1 u hk hm hu hlu fr1 kQ
      obtain ⟨q1, q2⟩ := p10 (show k ≤ 10 by omega)
      have hd1 : n / 10 ^ k ≤ n := Nat.div_le_self _ _
      have e10 : 10 ^ k * 10 = 10 ^ (k + 1) := by rw [Nat.pow_succ]
      have hq : n / 10 < 10 ^ k ↔ n / 10 ^ k < 10 := by
        rw [Nat.div_lt_iff_lt_mul (by decide), Nat.div_lt_iff_lt_mul (by omega), Nat.mul_comm]
      unfold mtop at hm
      refine sX1_putDigits_21 M1 _ _ (cw_rw hw fr1) ?_
      rw [nL_l10, nL_mul, e10]
      simp (disch := omega) only [nL_div, nLc_0lt]
      by_cases h9 : 9 < n / 10 ^ k
      · rw [if_neg (fun z => by have := hq.mp z; omega)]
        rw [if_pos h9] at hm
        exact ih (k + 1) M1 u (by omega) hm hu hlu fr1 kQ
      · rw [if_pos (hq.mpr (by omega))]
        rw [if_neg h9] at hm
        exact dig k M1 u (by omega) hu (by omega) fr1 (by rw [hm]; exact kQ)
  refine iX1_putDigits_0 M _ hw ?_
  unfold mdi at hQ
  rw [hn] at hQ
  have hc : (0 ≤ lg_cmp v.toInt64 0) = (0 ≤ v) := propext ⟨fun h => by
      have := (lgc_le v.toInt64).2.1.mp h
      rw [Int32.toInt_toInt64] at this
      rw [tI_le, show (0 : Int32).toInt = 0 from rfl]
      omega, fun h => by
      rw [tI_le, show (0 : Int32).toInt = 0 from rfl] at h
      exact (lgc_le v.toInt64).2.1.mpr (by rw [Int32.toInt_toInt64]; omega)⟩
  simp only [hc]
  by_cases h0 : 0 ≤ v
  · rw [if_pos h0, a1 h0]
    rw [if_neg (show ¬ v < 0 by rw [i_lt]; exact h0)] at hQ
    exact top 10 0 M w rfl rfl hR (by omega) fr.rf hQ
  · rw [if_neg h0, a2 h0]
    rw [if_pos (show v < 0 by rw [← i_le]; exact h0)] at hQ
    obtain ⟨p0, p1, p2, p3⟩ := xR_put3 hR (by omega) (x := 45) ⟨45, by omega, rfl⟩
    rw [if_neg p0]
    refine ⟨p1, top 10 0 _ _ rfl rfl p2 (by rw [List.length_append]; show w.length + 1 + 11 ≤ 256; omega) p3 (fun T' h1 h2 => hQ T' (by rw [List.append_assoc] at h1; exact h1) h2)⟩
end
section
variable {E : zE} {pp a lf n : Nat} {c : Nat → Int32} {K o : Nat}
/-- Parser.itemKey -/
theorem y_ikey {d : Nat} {Q : zO → zM → Prop} {M : zM} {s : pS} (h : xTz M a n c s) (hp0 : gr M pp 0 = some (16, 0, 0)) (hp1 : gr M pp 1 = some (a, 9, 0)) (hpp : 190 ≤ pp) (hpa : pp ≠ a)
    (hy : ∀ x s', pKey (zOf n c mdi) s = .ok (x, s') → x < 100000 → ∀ M', fr (tkP a) M M' → xTz M' a n c s' → Q (.inl (some (vi (nI x)))) M')
    (hn : ∀ w, pKey (zOf n c mdi) s = .error w → ∀ o M', ftO a M w o M' → Q o M') : Z E YX9_itemKey (d + 11) M [(0, vr (some (pp, 8, 0)))] 0 [] Q := by
  have kd := tk_kd (dg := mdi) h
  obtain ⟨⟨lp, hk1, hlp⟩, hS, ⟨hT, hp⟩, h6, hj, hb12, hc3, hz⟩ := id h
  obtain ⟨w1, w2, w3, w4, w5⟩ := id hk1.1
  have nmlt : ∀ w, (nam w s).1 < 100000 := fun w => by
    have tle := h.t_le
    have nl := nmA_len s.2.1 w
    have hm : w ∈ nmA s.2.1 w := by
      unfold nmA
      by_cases y : w ∈ s.2.1
      · rw [if_pos y]; exact y
      · rw [if_neg y]; exact List.mem_append_right _ List.mem_cons_self
    have : ∀ (L : List (List Int32)), w ∈ L → nIx L w < L.length := by
      intro L
      induction L with
      | nil => intro h; cases h
      | cons y L ih =>
        intro h
        unfold nIx
        by_cases e : y = w
        · rw [if_pos e]; exact Nat.zero_lt_succ _
        · rw [if_neg e]
          have := ih (by rcases List.mem_cons.mp h with z | z; exact absurd z.symm e; exact z)
          rw [List.length_cons]; omega
    have := this _ hm
    have e : (nam w s).1 = nIx (nmA s.2.1 w) w := rfl
    omega
  refine iX9_itemKey_0 M pp ⟨a, hp1, ?_⟩
  by_cases h4 : gi M a 3 = 4
  · have k4 : (tkn n c s.1).1 = 4 := kd.symm.trans h4
    have pk : pKey (zOf n c mdi) s = takN (zOf n c mdi) s := by unfold pKey; rw [if_pos (.inr (.inr k4))]
    rw [if_pos h4, (y_tak (dg := mdi) h (.inr k4)).1]
    refine y_nxN (dg := mdi) h (.inr k4) (fun s' e M' f x => ?_) (fun w e ou M' f => ?_)
    · show Z E YX9_itemKey (d + 10 + 1) M' [(1, vi (nI (nam (tkX n c (tkn n c s.1)) s).1))] 26 [] Q
      exact sX9_itemKey_26 M' _ (hy _ s' (pk.trans e) (nmlt _) M' f x)
    · obtain ⟨q, rfl⟩ := fO_inr f.1
      show ZT E YX9_itemKey (d + 10 + 1) M' _ 23 (q, 12, 0) Q
      exact ZT.out (nohand rfl) (hn w (pk.trans e) _ M' f)
  rw [if_neg h4]
  have k4 : ¬ tkd (zOf n c mdi) s.1 = 4 := fun z => h4 (kd.trans z)
  by_cases h3 : gi M a 3 = 3
  · have k3 : (tkn n c s.1).1 = 3 := kd.symm.trans h3
    have k3' : tkd (zOf n c mdi) s.1 = 3 := k3
    have pk : pKey (zOf n c mdi) s = bnd (nxt' (zOf n c mdi) (nam (mdi (tkn n c s.1).2.1) s).2) fun _ s' => prt (nam (mdi (tkn n c s.1).2.1) s).1 s' := by
      unfold pKey
      rw [if_neg (by rw [k3']; decide), if_pos k3']
      rfl
    have hg : tkg (tkn n c s.1) := ⟨by rw [k3]; decide, by rw [k3]; decide⟩
    have ok := tkn_ok hc3.2.1 s.1 hj
    have ok2 := ok.2.2 hg
    rw [if_pos h3]
    refine ⟨16, hp0, ?_⟩
    refine sX1_clearRow_0 M w1 ?_
    show Z E YX9_itemKey (d + 10 + 1) (si M 16 3 0) [(0, vr (some (pp, 8, 0)))] 54 [] Q
    refine sX9_itemKey_54 _ pp ⟨a, hp1, 16, hp0, ?_⟩
    have f0 : fr rwP M (si M 16 3 0) := fr.si (.inr ⟨rfl, rfl⟩)
    have e7 : gi (si M 16 3 0) a 7 = (tkn n c s.1).2.1 := (gi_oth (by omega)).trans (hk1.2.2.2.2.2.2.1 k3)
    rw [e7]
    refine xm_putR (d := d + 9) (w := []) (cw_rw w1 f0) ⟨gi_self _ _ _ _, by show 0 ≤ 256; decide, fun k hk => absurd hk (Nat.not_lt_zero _)⟩ (by show 0 + 12 ≤ 256; decide) (fun M1 hR1 f1 => ?_)
    have f01 := f0.tr f1
    have np : ∀ x k, 190 ≤ x → ¬ rwP x k := fun x k hx z => by unfold rwP at z; omega
    show Z E YX9_itemKey (d + 10 + 1) M1 [(0, vr (some (pp, 8, 0)))] 68 [] Q
    refine sX9_itemKey_68 M1 pp ⟨a, (f01.2 pp 1 (np pp 1 hpp)).2.2.trans hp1, ?_⟩
    have ml := mdi_len (tkn n c s.1).2.1
    refine y_named (dg := mdi) (d := d + 8) h (by rw [k3]; decide) hg f01 hR1 (fun x hx => c7_b (mdi_c7 _ x hx)) (by show _ + (mdi (tkn n c s.1).2.1).length ≤ _; omega) (fun M2 f2 go => ?_)
    show Z E YX9_itemKey (d + 10 + 1) M2 [(0, vr (some (pp, 8, 0)))] 75 [vi (nI (nam (mdi (tkn n c s.1).2.1) s).1)] Q
    refine sX9_itemKey_75 M2 pp _ ⟨a, ?_, ?_⟩
    · exact (f2.2 pp 1 (nt_tk hpp hpa)).2.2.trans hp1
    refine go (d + 1) _ _ (.inr rfl) (fun s' e M' f x => ?_) (fun u e ou M' f => ?_)
    · show Z E YX9_itemKey (d + 10 + 1) M' [(1, vi (nI (nam (mdi (tkn n c s.1).2.1) s).1))] 83 [] Q
      exact sX9_itemKey_83 M' _ (hy _ s' (pk.trans ((bnd_ok e).trans rfl)) (nmlt _) M' f x)
    · obtain ⟨q, rfl⟩ := fO_inr f.1
      show ZT E YX9_itemKey (d + 10 + 1) M' _ 80 (q, 12, 0) Q
      exact ZT.out (nohand rfl) (hn u (pk.trans (bnd_er e)) _ M' f)
  · rw [if_neg h3]
    have k3 : ¬ tkd (zOf n c mdi) s.1 = 3 := fun z => h3 (kd.trans z)
    refine y_tkey (dg := mdi) (d := d) h (fun k12 x s' e ex M' f xt => ?_) (fun k12 w e ou M' f => ?_) (fun k12 ou M' f => ?_)
    · show Z E YX9_itemKey (d + 10 + 1) M' [] 46 [vi (nI x)] Q
      exact sX9_itemKey_46 M' _ (hy x s' (by unfold pKey; rw [if_pos (by rcases k12 with z | z; exact .inl z; exact .inr (.inl z))]; exact e) (by rw [ex]; exact nmlt _) M' f xt)
    · obtain ⟨q, rfl⟩ := fO_inr f.1
      show ZT E YX9_itemKey (d + 10 + 1) M' _ 43 (q, 12, 0) Q
      exact ZT.out (nohand rfl) (hn w (by unfold pKey; rw [if_pos (by rcases k12 with z | z; exact .inl z; exact .inr (.inl z))]; exact e) _ M' f)
    · obtain ⟨q, rfl⟩ := fO_inr f.1
      show ZT E YX9_itemKey (d + 10 + 1) M' _ 43 (q, 12, 0) Q
      exact ZT.out (nohand rfl) (hn _ (by unfold pKey; rw [if_neg (fun z => z.elim (fun y => k12 (.inl y)) fun z => z.elim (fun y => k12 (.inr y)) k4), if_neg k3]; rfl) _ M' f)
end
