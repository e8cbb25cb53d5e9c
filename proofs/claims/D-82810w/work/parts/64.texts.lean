/-! TEXTS of values, both sides -/
theorem tfd_or : ∀ (L : List (List Int32)) (s : Nat) (w : List Int32), (tfd s L w = -1 ∧ w ∉ L) ∨ ∃ k, L[k]? = some w ∧ tfd s L w = nI (s + k)
  | [], s, w => .inl ⟨rfl, by simp⟩
  | x :: L, s, w => by
    by_cases h : x = w
    · exact .inr ⟨0, by rw [h]; rfl, by unfold tfd; rw [if_pos h]; rfl⟩
    · rcases tfd_or L (s + 1) w with ⟨h1, h2⟩ | ⟨k, h1, h2⟩
      · refine .inl ⟨by unfold tfd; rw [if_neg h]; exact h1, fun q => ?_⟩
        rcases List.mem_cons.mp q with e | e
        · exact h e.symm
        · exact h2 e
      · exact .inr ⟨k + 1, h1, by unfold tfd; rw [if_neg h, h2]; congr 1; omega⟩
/-- the text of a value -/
def mText (L : List (List Int32)) (s v : Int32) : List Int32 :=
  if s = 5 then mdi v else if s = 6 then mtx L v else if s = 0 then L.getD 19 [] else if s = 1 then L.getD 25 [] else if s = 2 then L.getD 26 [] else if s = 3 then L.getD 27 [] else if s = 4 then L.getD 28 [] else L.getD 29 []
/-- what is known of texts: enough of them, none too long, seven bits -/
def mLok (L : List (List Int32)) : Prop := 31 ≤ L.length ∧ L.length ≤ 400 ∧ ∀ w ∈ L, w.length ≤ 60 ∧ ∀ c ∈ w, c7 c
theorem mLok_at {L : List (List Int32)} (h : mLok L) {j : Nat} (hj : j < L.length) : L[j].length ≤ 60 ∧ ∀ c ∈ L[j], c7 c := h.2.2 _ (List.getElem_mem hj)
theorem getD_L {L : List (List Int32)} {j : Nat} (hj : j < L.length) : L.getD j [] = L[j] := by rw [List.getD_eq_getElem?_getD, List.getElem?_eq_getElem hj]; rfl
/-- cells of the twin's strings, of the component's texts -/
def stT (a k : Nat) : Prop := a = 100 ∨ a = 101 ∨ a = 97 ∧ k = 7
def stX (a k : Nat) : Prop := a = 18 ∨ a = 19 ∨ a = 17 ∧ k = 2
section
variable {E : zE} {d : Nat} {T M : zM} {Q : zO → zM → Prop} {L : List (List Int32)} {ob : Nat}
theorem mText_at (h : mLok L) {s v : Int32} (hv : mok L ob s v) : (mText L s v).length ≤ 60 ∧ ∀ c ∈ mText L s v, c7 c := by
  obtain ⟨k, rfl, hk, h6, h7⟩ := hv
  have g : ∀ j, j < 31 → (L.getD j []).length ≤ 60 ∧ ∀ c ∈ L.getD j [], c7 c := fun j hj => by rw [getD_L (by have := h.1; omega)]; exact mLok_at h _
  unfold mText
  by_cases c5 : nI k = 5
  · rw [if_pos c5]; exact ⟨by have := mdi_len v; omega, mdi_c7 v⟩
  rw [if_neg c5]
  by_cases c6 : nI k = 6
  · rw [if_pos c6]
    obtain ⟨j, rfl, hj⟩ := h6 (by rw [nn_eql (by omega) (by omega)] at c6; exact c6)
    rw [mtx_at h.2.1 hj]; exact mLok_at h hj
  rw [if_neg c6]
  repeat' split
  all_goals exact g _ (by omega)
/-- putDigits of the component -/
theorem xm_putN {v : Int32} {w : List Int32} (hw : cw M) (hR : xR M w) (hl : w.length + 12 ≤ 256) (hQ : ∀ M', xR M' (w ++ mdi v) → fr scx M M' → Q (.inl none) M') : Z E YX1_putDigits (d + 1) M [(0, zX16), (1, vi v)] 0 [] Q := by
  obtain ⟨a1, a2, a3⟩ := mabs (v := v)
  generalize hn : v.toInt.natAbs = n at *
  have dig : ∀ (k : Nat) (M1 : zM) (u : List Int32), k ≤ 10 → xR M1 u → u.length + k + 1 ≤ 256 → fr scx M M1 → (∀ M', xR M' (u ++ mdg n k) → fr scx M M' → Q (.inl none) M') → Z E YX1_putDigits (d + 1) M1 [(0, zX16), (2, vl (nL n)), (4, vl (nL (10 ^ k)))] 43 [] Q := by
    intro k
    induction k with
    | zero =>
      intro M1 u hk hu hlu f kQ
      refine iX1_putDigits_43 M1 _ _ (cw_scx hw f) ?_
      rw [Nat.pow_zero]
      simp (disch := omega) only [nL_l0, nL_l10, nL_l48, nLc_le0, nL_div, nL_mul, nL_sub, nL_add, nL_32, Nat.div_one, mdig]
      rw [if_neg (by decide), ← nL_l0, nL_eq0 (by omega)]
      obtain ⟨p0, p1, p2, p3⟩ := xR_put hu (by omega) (x := nI (48 + n % 10)) ⟨_, by omega, rfl⟩
      rw [if_neg p0]
      refine ⟨by decide, p1, ?_⟩
      refine iX1_putDigits_43 _ _ _ (cw_scx hw (f.tr p3)) ?_
      simp (disch := omega) only [nL_l0, nLc_le0]
      rw [if_pos (by decide)]
      exact kQ _ p2 (f.tr p3)
    | succ k ih =>
      intro M1 u hk hu hlu f kQ
      obtain ⟨q1, q2⟩ := p10 hk
      have hd1 : n / 10 ^ (k + 1) ≤ n := Nat.div_le_self _ _
      have hd2 : 10 ^ (k + 1) / 10 = 10 ^ k := by rw [Nat.pow_succ]; omega
      generalize hP : 10 ^ (k + 1) = P at *
      generalize hD : n / P = D at *
      refine iX1_putDigits_43 M1 _ _ (cw_scx hw f) ?_
      simp (disch := omega) only [nL_l0, nL_l10, nL_l48, nLc_le0, nL_div, hD, nL_mul, nL_sub, nL_add, nL_32, hd2, mdig]
      rw [if_neg (by omega), ← nL_l0, nL_eq0 (by omega)]
      obtain ⟨p0, p1, p2, p3⟩ := xR_put hu (by omega) (x := nI (48 + D % 10)) ⟨_, by omega, rfl⟩
      rw [if_neg p0]
      refine ⟨by omega, p1, ?_⟩
      refine ih _ _ (by omega) p2 (by rw [List.length_append]; show u.length + 1 + k + 1 ≤ 256; omega) (f.tr p3) (fun T' h1 h2 => kQ T' ?_ h2)
      rw [List.append_assoc] at h1
      have e : mdg n (k + 1) = nI (48 + D % 10) :: mdg n k := by
        show nI (48 + n / 10 ^ (k + 1) % 10) :: mdg n k = _
        rw [hP, hD]
      rw [e]
      exact h1
  have top : ∀ (f k : Nat) (M1 : zM) (u : List Int32), k + f = 10 → mtop n f k = mtop n 10 0 → xR M1 u → u.length + 11 ≤ 256 → fr scx M M1 → (∀ M', xR M' (u ++ mdg n (mtop n 10 0)) → fr scx M M' → Q (.inl none) M') → Z E YX1_putDigits (d + 1) M1 [(0, zX16), (2, vl (nL n)), (4, vl (nL (10 ^ k)))] 21 [] Q := by
    intro f
    induction f with
    | zero =>
      intro k M1 u hk hm hu hlu fr1 kQ
      obtain ⟨q1, q2⟩ := p10 (show k ≤ 10 by omega)
      have hk10 : k = 10 := by omega
      have hm : k = mtop n 10 0 := hm
      have nxt := dig k M1 u (by omega) hu (by omega) fr1 (by rw [hm]; exact kQ)
      refine sX1_putDigits_21 M1 _ _ (cw_scx hw fr1) ?_
      simp (disch := omega) only [nL_l10, nL_div, nLc_0lt]
      rw [if_pos (by rw [hk10]; omega)]
      exact nxt
    | succ f ih =>
      intro k M1 u hk hm hu hlu fr1 kQ
      obtain ⟨q1, q2⟩ := p10 (show k ≤ 10 by omega)
      have hd1 : n / 10 ^ k ≤ n := Nat.div_le_self _ _
      have e10 : 10 ^ k * 10 = 10 ^ (k + 1) := by rw [Nat.pow_succ]
      have hq : n / 10 < 10 ^ k ↔ n / 10 ^ k < 10 := by
        rw [Nat.div_lt_iff_lt_mul (by decide), Nat.div_lt_iff_lt_mul (by omega), Nat.mul_comm]
      unfold mtop at hm
      refine sX1_putDigits_21 M1 _ _ (cw_scx hw fr1) ?_
      rw [nL_l10, nL_mul, e10]
      simp (disch := omega) only [nL_div, nLc_0lt]
      by_cases h9 : 9 < n / 10 ^ k
      · rw [if_neg (fun z => by have := hq.mp z; omega)]
        rw [if_pos h9] at hm
        exact ih (k + 1) M1 u (by omega) hm hu hlu fr1 kQ
      · rw [if_pos (hq.mpr (by omega))]
        rw [if_neg h9] at hm
        exact dig k M1 u (by omega) hu (by omega) fr1 (by rw [hm]; exact kQ)
  refine iX1_putDigits_0 M _ hw ?_
  unfold mdi at hQ
  rw [hn] at hQ
  have hc : (0 ≤ lg_cmp v.toInt64 0) = (0 ≤ v) := propext ⟨fun h => by
      have := (lgc_le v.toInt64).2.1.mp h
      rw [Int32.toInt_toInt64] at this
      rw [tI_le, show (0 : Int32).toInt = 0 from rfl]
      omega, fun h => by
      rw [tI_le, show (0 : Int32).toInt = 0 from rfl] at h
      exact (lgc_le v.toInt64).2.1.mpr (by rw [Int32.toInt_toInt64]; omega)⟩
  simp only [hc]
  by_cases h0 : 0 ≤ v
  · rw [if_pos h0, a1 h0]
    rw [if_neg (show ¬ v < 0 by rw [i_lt]; exact h0)] at hQ
    exact top 10 0 M w rfl rfl hR (by omega) fr.rf hQ
  · rw [if_neg h0, a2 h0]
    rw [if_pos (show v < 0 by rw [← i_le]; exact h0)] at hQ
    obtain ⟨p0, p1, p2, p3⟩ := xR_put hR (by omega) (x := 45) ⟨45, by omega, rfl⟩
    rw [if_neg p0]
    refine ⟨p1, top 10 0 _ _ rfl rfl p2 (by rw [List.length_append]; show w.length + 1 + 11 ≤ 256; omega) p3 (fun T' h1 h2 => hQ T' (by rw [List.append_assoc] at h1; exact h1) h2)⟩
/-- putString of the twin -/
theorem tm_putS {j : Nat} {w : List Int32} (hS : tS T L) (hL : mLok L) (hj : j < L.length) (hT : tT T w) (hl : w.length + 60 ≤ 200) (hQ : ∀ T', tT T' (w ++ L[j]) → fr sct T T' → Q (.inl none) T') : Zm E YX8_putString (d + 1) T [(0, T97), (1, vi (nI j))] 0 [] Q := by
  obtain ⟨m1, m2⟩ := mLok_at hL hj
  have hx : L[j]? = some L[j] := List.getElem?_eq_getElem hj
  generalize L[j] = x at *
  have hj4 := hL.2.1
  have loop : ∀ (r : List Int32) (k : Nat) (T1 : zM) (u : List Int32), x.drop k = r → k ≤ x.length → tT T1 u → u ++ r = w ++ x → u.length + r.length ≤ 200 → fr sct T T1 → Zm E YX8_putString (d + 1) T1 [(0, T97), (1, vi (nI j)), (2, vi (nI k))] 2 [] Q := by
    intro r
    induction r with
    | nil =>
      intro k T1 u hr hk hu he hlu f
      have hkl : x.length ≤ k := List.drop_eq_nil_iff.mp hr
      obtain ⟨y1, y2, y3⟩ := (tS_sct hS f).2.2 j x hx
      refine iX8_putString_2 T1 _ _ ?_
      simp (disch := omega) only [y1, nn_add, nn_addl, nn_ladd, nn_mul, nn_lmul, nn_mull, nn_sub, nn_subl, nn_lsub, nn_lt, nn_le, nn_eq, nn_ltl, nn_llt, nn_lel, nn_lle, nn_eql, nn_leq, nn_m1, nn_1m, nn_ltm, nn_mlt, nn_mle, nn_lem, nn_cl, nn_in, nn_ns, nn_ns2, nn_nb, nn_nb2, nn_s1, nn_s2, nn_b1, nn_b2]
      refine ⟨by omega, ?_⟩
      rw [if_pos hkl]
      rw [List.append_nil] at he
      exact hQ T1 (he ▸ hu) f
    | cons c r ih =>
      intro k T1 u hr hk hu he hlu f
      obtain ⟨k1, k2, k3⟩ := drop_cons hr
      obtain ⟨y1, y2, y3⟩ := (tS_sct hS f).2.2 j x hx
      refine iX8_putString_2 T1 _ _ ?_
      simp (disch := omega) only [y1, nn_add, nn_addl, nn_ladd, nn_mul, nn_lmul, nn_mull, nn_sub, nn_subl, nn_lsub, nn_lt, nn_le, nn_eq, nn_ltl, nn_llt, nn_lel, nn_lle, nn_eql, nn_leq, nn_m1, nn_1m, nn_ltm, nn_mlt, nn_mle, nn_lem, nn_cl, nn_in, nn_ns, nn_ns2, nn_nb, nn_nb2, nn_s1, nn_s2, nn_b1, nn_b2]
      refine ⟨by omega, ?_⟩
      rw [if_neg (by omega), y3 k k1, k2]
      have hc7 : c7 c := m2 c (by rw [← k2, getD_lt k1]; exact List.getElem_mem k1)
      rw [List.length_cons] at hlu
      obtain ⟨p1, p2, p3⟩ := tT_put hu (by omega) hc7
      refine ⟨by omega, p1, ih (k + 1) _ _ k3 (by omega) p2 (by rw [List.append_assoc]; exact he) (by rw [List.length_append]; show u.length + 1 + r.length ≤ 200; omega) (f.tr p3)⟩
  exact sX8_putString_0 T _ (loop x 0 T w rfl (by omega) hT rfl (by omega) fr.rf)
/-- putText of the component -/
theorem xm_putS {j : Nat} {w : List Int32} (hw : cw M) (hX : xtx M L) (hL : mLok L) (hj : j < L.length) (hR : xR M w) (hl : w.length + 60 ≤ 256) (hQ : ∀ M', xR M' (w ++ L[j]) → fr scx M M' → Q (.inl none) M') : Z E YX1_putText (d + 1) M [(0, zX16), (1, vi (nI j))] 0 [] Q := by
  obtain ⟨m1, m2⟩ := mLok_at hL hj
  have hj4 := hL.2.1
  have loop : ∀ (r : List Int32) (k : Nat) (M1 : zM) (u : List Int32), L[j].drop k = r → k ≤ L[j].length → xR M1 u → u ++ r = w ++ L[j] → u.length + r.length ≤ 256 → fr scx M M1 → Z E YX1_putText (d + 1) M1 [(0, zX16), (1, vi (nI j)), (2, vi (nI k))] 2 [] Q := by
    intro r
    induction r with
    | nil =>
      intro k M1 u hr hk hu he hlu f
      have hkl : L[j].length ≤ k := List.drop_eq_nil_iff.mp hr
      obtain ⟨off, o1, o2, o3, o4, o5⟩ := xtx_at (xtx_scx hX f) hj
      refine iX1_putText_2 M1 _ _ (cw_scx hw f) ⟨18, 2201, (xtx_scx hX f).1, ?_⟩
      simp (disch := omega) only [o1, o2, nn_add, nn_addl, nn_ladd, nn_mul, nn_lmul, nn_mull, nn_sub, nn_subl, nn_lsub, nn_lt, nn_le, nn_eq, nn_ltl, nn_llt, nn_lel, nn_lle, nn_eql, nn_leq, nn_m1, nn_1m, nn_ltm, nn_mlt, nn_mle, nn_lem, nn_cl, nn_in, nn_ns, nn_ns2, nn_nb, nn_nb2, nn_s1, nn_s2, nn_b1, nn_b2]
      rw [show off + L[j].length - off = L[j].length by omega]
      refine ⟨by omega, by omega, ?_⟩
      rw [if_pos hkl]
      rw [List.append_nil] at he
      exact hQ M1 (he ▸ hu) f
    | cons c r ih =>
      intro k M1 u hr hk hu he hlu f
      obtain ⟨k1, k2, k3⟩ := drop_cons hr
      obtain ⟨off, o1, o2, o3, o4, o5⟩ := xtx_at (xtx_scx hX f) hj
      refine iX1_putText_2 M1 _ _ (cw_scx hw f) ⟨18, 2201, (xtx_scx hX f).1, ?_⟩
      simp (disch := omega) only [o1, o2, nn_add, nn_addl, nn_ladd, nn_mul, nn_lmul, nn_mull, nn_sub, nn_subl, nn_lsub, nn_lt, nn_le, nn_eq, nn_ltl, nn_llt, nn_lel, nn_lle, nn_eql, nn_leq, nn_m1, nn_1m, nn_ltm, nn_mlt, nn_mle, nn_lem, nn_cl, nn_in, nn_ns, nn_ns2, nn_nb, nn_nb2, nn_s1, nn_s2, nn_b1, nn_b2]
      rw [show off + L[j].length - off = L[j].length by omega]
      refine ⟨by omega, by omega, ?_⟩
      rw [if_neg (by omega)]
      refine ⟨19, 40000, (xtx_scx hX f).2.1, by omega, ?_⟩
      rw [o5 k k1, k2]
      have hc7 : c7 c := m2 c (by rw [← k2, getD_lt k1]; exact List.getElem_mem k1)
      rw [List.length_cons] at hlu
      obtain ⟨p0, p1, p2, p3⟩ := xR_put hu (by omega) hc7
      rw [if_neg p0]
      refine ⟨p1, ih (k + 1) _ _ k3 (by omega) p2 (by rw [List.append_assoc]; exact he) (by rw [List.length_append]; show u.length + 1 + r.length ≤ 256; omega) (f.tr p3)⟩
  exact sX1_putText_0 M _ hw (loop L[j] 0 M w rfl (by omega) hR rfl (by omega) fr.rf)
/-- putText of the twin -/
theorem tm_putV {s v : Int32} {w : List Int32} (hS : tS T L) (hL : mLok L) (hv : mok L ob s v) (hT : tT T w) (hl : w.length + 60 ≤ 200) (hQ : ∀ T', tT T' (w ++ mText L s v) → fr sct T T' → Q (.inl none) T') : Zm E YX8_putText (d + 2) T [(0, T97), (1, vi s), (2, vi v)] 0 [] Q := by
  obtain ⟨k, rfl, hk, h6, h7⟩ := hv
  have h31 := hL.1
  refine sX8_putText_0 T _ v ?_
  have hc : k = 0 ∨ k = 1 ∨ k = 2 ∨ k = 3 ∨ k = 4 ∨ k = 5 ∨ k = 6 ∨ k = 7 := by omega
  unfold mText at hQ
  rcases hc with rfl | rfl | rfl | rfl | rfl | rfl | rfl | rfl
  · rw [if_pos (by decide)]
    rw [if_neg (by decide), if_neg (by decide), if_pos (by decide), getD_L (by omega)] at hQ
    exact tm_putS (j := 19) hS hL (by omega) hT hl (fun T' h1 h2 => iX8_putText_50 T' (hQ T' h1 h2))
  · rw [if_neg (by decide), if_pos (by decide)]
    rw [if_neg (by decide), if_neg (by decide), if_neg (by decide), if_pos (by decide), getD_L (by omega)] at hQ
    exact tm_putS (j := 25) hS hL (by omega) hT hl (fun T' h1 h2 => iX8_putText_59 T' (hQ T' h1 h2))
  · rw [if_neg (by decide), if_neg (by decide), if_pos (by decide)]
    rw [if_neg (by decide), if_neg (by decide), if_neg (by decide), if_neg (by decide), if_pos (by decide), getD_L (by omega)] at hQ
    exact tm_putS (j := 26) hS hL (by omega) hT hl (fun T' h1 h2 => iX8_putText_68 T' (hQ T' h1 h2))
  · rw [if_neg (by decide), if_neg (by decide), if_neg (by decide), if_pos (by decide)]
    rw [if_neg (by decide), if_neg (by decide), if_neg (by decide), if_neg (by decide), if_neg (by decide), if_pos (by decide), getD_L (by omega)] at hQ
    exact tm_putS (j := 27) hS hL (by omega) hT hl (fun T' h1 h2 => iX8_putText_77 T' (hQ T' h1 h2))
  · rw [if_neg (by decide), if_neg (by decide), if_neg (by decide), if_neg (by decide), if_pos (by decide)]
    rw [if_neg (by decide), if_neg (by decide), if_neg (by decide), if_neg (by decide), if_neg (by decide), if_neg (by decide), if_pos (by decide), getD_L (by omega)] at hQ
    exact tm_putS (j := 28) hS hL (by omega) hT hl (fun T' h1 h2 => iX8_putText_86 T' (hQ T' h1 h2))
  · rw [if_neg (by decide), if_neg (by decide), if_neg (by decide), if_neg (by decide), if_neg (by decide), if_pos (by decide)]
    rw [if_pos (by decide)] at hQ
    exact tm_putN hT (by omega) (fun T' h1 h2 => iX8_putText_94 T' (hQ T' h1 h2))
  · rw [if_neg (by decide), if_neg (by decide), if_neg (by decide), if_neg (by decide), if_neg (by decide), if_neg (by decide), if_pos (by decide)]
    obtain ⟨j, rfl, hj⟩ := h6 rfl
    rw [if_neg (by decide), if_pos (by decide), mtx_at hL.2.1 hj] at hQ
    exact tm_putS hS hL hj hT hl (fun T' h1 h2 => iX8_putText_102 T' (hQ T' h1 h2))
  · rw [if_neg (by decide), if_neg (by decide), if_neg (by decide), if_neg (by decide), if_neg (by decide), if_neg (by decide), if_neg (by decide)]
    rw [if_neg (by decide), if_neg (by decide), if_neg (by decide), if_neg (by decide), if_neg (by decide), if_neg (by decide), if_neg (by decide), getD_L (by omega)] at hQ
    exact tm_putS (j := 29) hS hL (by omega) hT hl (fun T' h1 h2 => sX8_putText_111 T' (hQ T' h1 h2))
/-- putValue of the component -/
theorem xm_putV {s v : Int32} {w : List Int32} (hw : cw M) (hX : xtx M L) (hL : mLok L) (hv : mok L ob s v) (hR : xR M w) (hl : w.length + 60 ≤ 256) (hQ : ∀ M', xR M' (w ++ mText L s v) → fr scx M M' → Q (.inl none) M') : Z E YX1_putValue (d + 2) M [(0, zX16), (1, vi s), (2, vi v)] 0 [] Q := by
  obtain ⟨k, rfl, hk, h6, h7⟩ := hv
  have h31 := hL.1
  refine sX1_putValue_0 M _ v hw ?_
  have hc : k = 0 ∨ k = 1 ∨ k = 2 ∨ k = 3 ∨ k = 4 ∨ k = 5 ∨ k = 6 ∨ k = 7 := by omega
  unfold mText at hQ
  rcases hc with rfl | rfl | rfl | rfl | rfl | rfl | rfl | rfl
  · rw [if_neg (by decide), if_neg (by decide), if_pos (by decide)] at hQ ⊢
    rw [getD_L (by omega)] at hQ
    exact xm_putS (j := 19) hw hX hL (by omega) hR hl (fun T' h1 h2 => sX1_putValue_82 T' (cw_scx hw h2) (hQ T' h1 h2))
  · rw [if_neg (by decide), if_neg (by decide), if_neg (by decide), if_pos (by decide)] at hQ ⊢
    rw [getD_L (by omega)] at hQ
    exact xm_putS (j := 25) hw hX hL (by omega) hR hl (fun T' h1 h2 => sX1_putValue_82 T' (cw_scx hw h2) (hQ T' h1 h2))
  · rw [if_neg (by decide), if_neg (by decide), if_neg (by decide), if_neg (by decide), if_pos (by decide)] at hQ ⊢
    rw [getD_L (by omega)] at hQ
    exact xm_putS (j := 26) hw hX hL (by omega) hR hl (fun T' h1 h2 => sX1_putValue_82 T' (cw_scx hw h2) (hQ T' h1 h2))
  · rw [if_neg (by decide), if_neg (by decide), if_neg (by decide), if_neg (by decide), if_neg (by decide), if_pos (by decide)] at hQ ⊢
    rw [getD_L (by omega)] at hQ
    exact xm_putS (j := 27) hw hX hL (by omega) hR hl (fun T' h1 h2 => sX1_putValue_82 T' (cw_scx hw h2) (hQ T' h1 h2))
  · rw [if_neg (by decide), if_neg (by decide), if_neg (by decide), if_neg (by decide), if_neg (by decide), if_neg (by decide), if_pos (by decide)] at hQ ⊢
    rw [getD_L (by omega)] at hQ
    exact xm_putS (j := 28) hw hX hL (by omega) hR hl (fun T' h1 h2 => sX1_putValue_82 T' (cw_scx hw h2) (hQ T' h1 h2))
  · rw [if_pos (by decide)] at hQ ⊢
    exact xm_putN hw hR (by omega) (fun T' h1 h2 => iX1_putValue_10 T' (cw_scx hw h2) (hQ T' h1 h2))
  · rw [if_neg (by decide), if_pos (by decide)] at hQ ⊢
    obtain ⟨j, rfl, hj⟩ := h6 rfl
    rw [mtx_at hL.2.1 hj] at hQ
    exact xm_putS hw hX hL hj hR hl (fun T' h1 h2 => iX1_putValue_24 T' (cw_scx hw h2) (hQ T' h1 h2))
  · rw [if_neg (by decide), if_neg (by decide), if_neg (by decide), if_neg (by decide), if_neg (by decide), if_neg (by decide), if_neg (by decide)] at hQ ⊢
    rw [getD_L (by omega)] at hQ
    exact xm_putS (j := 29) hw hX hL (by omega) hR hl (fun T' h1 h2 => sX1_putValue_82 T' (cw_scx hw h2) (hQ T' h1 h2))
end
