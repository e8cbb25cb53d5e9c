/-! BEGIN of the component: all are born plain, the natives are made functions later -/
def ov (T : zM) (n : Nat) : zM := (T.1, (fun a k => if a = 141 ∧ n ≤ k ∧ k < 23 then 0 else gi T a k), T.2.2)
theorem ov_at (T : zM) (n a k : Nat) : gi (ov T n) a k = if a = 141 ∧ n ≤ k ∧ k < 23 then 0 else gi T a k := rfl
theorem ov_o (T : zM) (n : Nat) {a : Nat} (h : a ≠ 141) (k : Nat) : gi (ov T n) a k = gi T a k := by rw [ov_at, if_neg (fun z => h z.1)]
def ovA (n : Nat) (A : mA) : mA := (ov (aT A) n, aL A, aO A, aP A, aF A)
theorem iA_ov {A : mA} (n : Nat) (i : iA A) : iA (ovA n A) := by
  have e := fun {a : Nat} (h : a ≠ 141) (k : Nat) => ov_o (aT A) n h k
  have e149 : gi (ov (aT A) n) 149 = gi (aT A) 149 := funext fun k => e (by decide) k
  have e139 : gi (ov (aT A) n) 139 = gi (aT A) 139 := funext fun k => e (by decide) k
  obtain ⟨⟨⟨h1, h2⟩, ⟨g1, g2, g3, g4, g5⟩, H⟩, hL, hp, hc⟩ := i
  refine ⟨⟨⟨(e (by decide) _).trans h1, h2⟩, ⟨(e (by decide) _).trans g1, g2, ?_, g4, g5⟩, fun o ho => ?_⟩, hL, fun o ho q hq => ?_, fun o ho => ?_⟩
  · show chn (gi (ov (aT A) n) 149) (nI 3000) (gi (ov (aT A) n) 97 85) (aF A)
    rw [e149, e (by decide)]; exact g3
  · obtain ⟨d1, d2, d3⟩ := H o ho
    refine ⟨?_, (e (by decide) _).trans d2, d3⟩
    show chn (gi (ov (aT A) n) 149) (-1) (gi (ov (aT A) n) 143 o) (aP A o)
    rw [e149, e (by decide)]; exact d1
  · obtain ⟨d1, d2, d3⟩ := hp o ho q hq
    show mok (aL A) (aO A) (gi (ov (aT A) n) 146 q) (gi (ov (aT A) n) 147 q) ∧ mthing (ov (aT A) n) (aO A) (gi (ov (aT A) n) 146 q) (gi (ov (aT A) n) 147 q) ∧ ∃ j, gi (ov (aT A) n) 145 q = nI j ∧ j < (aL A).length
    rw [e (by decide), e (by decide), e (by decide)]
    refine ⟨d1, fun hs => ?_, d3⟩
    obtain ⟨j, j1, j2, j3⟩ := d2 hs
    refine ⟨j, j1, j2, ?_⟩
    rw [ov_at]
    by_cases c : 141 = 141 ∧ n ≤ j ∧ j < 23
    · rw [if_pos c]; decide
    · rw [if_neg c]; exact j3
  · show ∃ l, chn (gi (ov (aT A) n) 139) (-1) (nI o) l ∧ ∀ q ∈ l, q < aO A
    rw [e139]; exact hc o ho
theorem m_app_ne {T T' : zM} (e : ∀ a k, a ≠ 141 → gi T' a k = gi T a k) (o p : Nat) (x s v : Int32) : ∀ a k, a ≠ 141 → gi (m_app T' o p x s v) a k = gi (m_app T o p x s v) a k := by
  have e1 := e 149 p (by decide)
  have e2 := e 97 84 (by decide)
  have e3 := e 97 86 (by decide)
  have e4 := e 144 o (by decide)
  intro a k h
  have e5 := e a k h
  unfold m_app
  rw [e1, e2, e3, e4]
  dsimp only
  by_cases h1 : gi T 144 o = -1
  · rw [if_pos h1, if_pos h1]
    simp only [gi_si, e5]
  · rw [if_neg h1, if_neg h1]
    simp only [gi_si, e5]
theorem a_set_ov {A A1 : mA} {o : Nat} {x s v : Int32} (n : Nat) (h : a_set A o x s v = (true, A1)) : ∃ T2, a_set (ovA n A) o x s v = (true, (T2, aL A1, aO A1, aP A1, aF A1)) ∧ ∀ a k, gi T2 a k = gi (ov (aT A1) n) a k := by
  have e := fun (a k : Nat) (h : a ≠ 141) => ov_o (aT A) n h k
  have e145 : gi (aT (ovA n A)) 145 = gi (aT A) 145 := funext fun k => e 145 k (by decide)
  unfold a_set at h ⊢
  rw [e145]
  show ∃ T2, (if fnd (gi (aT A) 145) x (aP A o) = -1 then
    (match aF A with
      | [] => (false, ovA n A)
      | p :: fl => (true, (m_app (ov (aT A) n) o p x s v, aL A, aO A, (fun i => if i = o then aP A o ++ [p] else aP A i), fl)))
  else (true, (m_put (ov (aT A) n) (fnd (gi (aT A) 145) x (aP A o)).toNatClampNeg s v, aL A, aO A, aP A, aF A))) = (true, (T2, aL A1, aO A1, aP A1, aF A1)) ∧ ∀ a k, gi T2 a k = gi (ov (aT A1) n) a k
  by_cases c : fnd (gi (aT A) 145) x (aP A o) = -1
  · rw [if_pos c] at h ⊢
    cases ef : aF A with
    | nil => rw [ef] at h; exact absurd (show false = true from congrArg Prod.fst h) (by decide)
    | cons p fl =>
      rw [ef] at h
      have h : (true, (m_app (aT A) o p x s v, aL A, aO A, (fun i => if i = o then aP A o ++ [p] else aP A i), fl)) = (true, A1) := h
      have h := congrArg Prod.snd h
      dsimp only at h
      subst h
      refine ⟨_, rfl, fun a k => ?_⟩
      show gi (m_app (ov (aT A) n) o p x s v) a k = gi (ov (m_app (aT A) o p x s v) n) a k
      by_cases ha : a = 141
      · subst ha
        rw [m_app_oth _ _ _ _ _ _ (by unfold fT; omega), ov_at, ov_at, m_app_oth _ _ _ _ _ _ (by unfold fT; omega)]
      · rw [ov_o _ _ ha]
        exact m_app_ne e o p x s v a k ha
  · rw [if_neg c] at h ⊢
    have h := congrArg Prod.snd h
    dsimp only at h
    subst h
    refine ⟨_, rfl, fun a k => ?_⟩
    show gi (m_put (ov (aT A) n) _ s v) a k = gi (ov (m_put (aT A) _ s v) n) a k
    unfold m_put
    by_cases ha : a = 141
    · subst ha
      simp only [gi_si, ov_at]
      rfl
    · rw [ov_o _ _ ha]
      simp only [gi_si, ov_o _ _ ha]
theorem sX_cells {M : zM} {A : mA} {T2 : zM} (h : sX M (T2, aL A, aO A, aP A, aF A)) (e : ∀ a k, gi T2 a k = gi (aT A) a k) : sX M A := by
  obtain ⟨hw, g, hl, hx⟩ := h
  exact ⟨hw, hX_cg g (fun a k _ => (e a k).symm), hL_cg hl (fun _ _ _ => rfl) (fun a k _ => (e a k).symm), hx⟩
section
variable {E : zE} {d : Nat} {T M T0 : zM} {Q : zO → zM → Prop} {L : List (List Int32)}
theorem xn_set {o x s v : Int32} {j n : Nat} (q : Nat × Nat × Nat × Nat) (h : sX M (ovA n (nA T0 L j))) (hL : mLok L) (hj : j < 32) (hq : nsets.getD j (0, 0, 0, 0) = q) (ho : o = nI q.1) (hx : x = nI q.2.1) (hs : s = nI q.2.2.1) (hv : v = nI q.2.2.2) (hQ : ∀ M', sX M' (ovA n (nA T0 L (j + 1))) → fr fX M M' → Q (.inl none) M') : Z E YX1_setOwn (d + 1) M [(0, vr (some (16, 0, 0))), (1, vi o), (2, vi x), (3, vi s), (4, vi v)] 0 [] Q := by
  subst ho hx hs hv
  obtain ⟨⟨i, -, e2, -⟩, -⟩ := nA_ok T0 hL j (by omega)
  obtain ⟨T2, ea, ec⟩ := a_set_ov n (nA_set T0 hL hj hq)
  have := nsets_ok j hj
  rw [hq] at this
  refine xA_set h (iA_ov n i) (by show q.1 < aO (nA T0 L j); rw [e2]; exact this.1) (by omega) (by omega) (fun M' A' e s' f => ?_) (fun A' e _ => ?_)
  · rw [ea] at e
    have e := congrArg Prod.snd e
    dsimp only at e
    subst e
    exact hQ M' (sX_cells (A := ovA n (nA T0 L (j + 1))) s' ec) f
  · rw [ea] at e
    exact absurd (show true = false from congrArg Prod.fst e) (by decide)
theorem n_neg3 : ∀ n : Nat, n < 23 → vp_nar .byte (- nI n).toInt8.toInt32 = - nI n := by decide +kernel
theorem xb_nat {n j : Nat} (h : sX M (ovA n (nA T0 L j))) (hL : mLok L) (hj : j ≤ 32) (h9 : 9 ≤ n) (hn : n < 23) : sX (si (si M 38 n 1) 39 n (- nI n)) (ovA (n + 1) (nA T0 L j)) := by
  obtain ⟨⟨i, e1, e2, e3⟩, -⟩ := nA_ok T0 hL j hj
  obtain ⟨hw, ⟨⟨b1, b2⟩, ⟨sp, m, s1, s2, s3, s4⟩, b3, b4⟩, hl, hx⟩ := h
  have ne : ∀ a k, a ≠ 38 → a ≠ 39 → gi (si (si M 38 n 1) 39 n (- nI n)) a k = gi M a k := fun a k c1 c2 => by rw [gi_oth c2, gi_oth c1]
  have o1 : gi (aT (nA T0 L j)) 141 n = 1 := by rw [e3 141 n (by omega), (bT_138 T0 hn).2.2.2.1, if_pos h9]
  have oo : ∀ o, ¬ o = n → gi (ov (aT (nA T0 L j)) (n + 1)) 141 o = gi (ov (aT (nA T0 L j)) n) 141 o := fun o c => by
    rw [ov_at, ov_at]
    by_cases c2 : 141 = 141 ∧ n ≤ o ∧ o < 23
    · rw [if_pos c2, if_pos ⟨rfl, by omega, by omega⟩]
    · rw [if_neg c2, if_neg (fun z => c2 ⟨rfl, by omega, by omega⟩)]
  have on : gi (ov (aT (nA T0 L j)) (n + 1)) 141 n = 1 := by rw [ov_at, if_neg (by omega)]; exact o1
  have ee : ∀ a k, a ≠ 141 → gi (ov (aT (nA T0 L j)) (n + 1)) a k = gi (ov (aT (nA T0 L j)) n) a k := fun a k c => by rw [ov_o _ _ c, ov_o _ _ c]
  have e47 : gi (si (si M 38 n 1) 39 n (- nI n)) 47 = gi M 47 := funext fun k => ne 47 k (by decide) (by decide)
  refine ⟨fun q hq => hw q hq, ⟨⟨(ne _ _ (by decide) (by decide)).trans b1, ?_⟩, ⟨sp, m, s1, s2, ?_, (ne _ _ (by decide) (by decide)).trans s4⟩, fun o ho => ?_, fun o ho q hq => ?_⟩, fun o ho => ?_, ?_⟩
  · rw [ne _ _ (by decide) (by decide)]
    exact b2.trans (ee 97 86 (by decide)).symm
  · rw [e47, ne _ _ (by decide) (by decide)]; exact s3
  · obtain ⟨z1, z2, z3, z4, z5⟩ := b3 o ho
    show gi (si (si M 38 n 1) 39 n (- nI n)) 38 o = gi (ov (aT (nA T0 L j)) (n + 1)) 141 o ∧ gi (si (si M 38 n 1) 39 n (- nI n)) 41 o = gi (ov (aT (nA T0 L j)) (n + 1)) 139 o ∧ gi (si (si M 38 n 1) 39 n (- nI n)) 42 o = gi (ov (aT (nA T0 L j)) (n + 1)) 140 o ∧ gi (si (si M 38 n 1) 39 n (- nI n)) 43 o = gi (ov (aT (nA T0 L j)) (n + 1)) 143 o ∧ gi (si (si M 38 n 1) 39 n (- nI n)) 44 o = gi (ov (aT (nA T0 L j)) (n + 1)) 144 o
    rw [ne 41 _ (by decide) (by decide), ne 42 _ (by decide) (by decide), ne 43 _ (by decide) (by decide), ne 44 _ (by decide) (by decide), ee 139 _ (by decide), ee 140 _ (by decide), ee 143 _ (by decide), ee 144 _ (by decide)]
    refine ⟨?_, z2, z3, z4, z5⟩
    rw [gi_oth (by decide)]
    by_cases c : o = n
    · rw [c, on, gi_self]
    · rw [gi_idx c, oo o c]; exact z1
  · obtain ⟨z1, z2, z3, z4, z5⟩ := b4 o ho q hq
    rw [ne 46 _ (by decide) (by decide), ne 47 _ (by decide) (by decide), ne 48 _ (by decide) (by decide), ne 49 _ (by decide) (by decide), ne 50 _ (by decide) (by decide)]
    exact ⟨z1.trans (ee 145 q (by decide)).symm, z2.trans (ee 149 q (by decide)).symm, z3.trans (ee 146 q (by decide)).symm, z4.trans (ee 147 q (by decide)).symm, z5.trans (ee 148 q (by decide)).symm⟩
  · obtain ⟨pr, r1, r2, r3, r4, r5⟩ := hl o ho
    have r4' : gi (ov (aT (nA T0 L j)) n) 138 o = if pr < 29 then nI pr else if gi M 45 pr = nI o then nI pr else nI (pr + 1) := r4
    refine ⟨pr, (ne _ _ (by decide) (by decide)).trans r1, r2, r3, ?_, fun h299 => ?_⟩
    · show gi (ov (aT (nA T0 L j)) (n + 1)) 138 o = _
      rw [ee 138 _ (by decide), ne _ _ (by decide) (by decide)]; exact r4
    · show gi (si (si M 38 n 1) 39 n (- nI n)) 39 o = if pr < 29 ∧ gi (ov (aT (nA T0 L j)) (n + 1)) 141 o = 1 then - nI o else gi (ov (aT (nA T0 L j)) (n + 1)) 142 o
      by_cases c : o = n
      · subst c
        have hp : pr < 29 := by
          by_cases hp : pr < 29
          · exact hp
          · rw [ov_o _ _ (by decide), e3 138 o (by omega), (bT_138 T0 hn).1, if_neg hp] at r4'
            by_cases h2 : gi M 45 pr = nI o
            · rw [if_pos h2, nn_eq (by omega) (by omega)] at r4'; omega
            · rw [if_neg h2, nn_eq (by omega) (by omega)] at r4'; omega
        rw [gi_self, if_pos ⟨hp, on⟩]
      · rw [gi_idx c, gi_oth (by decide), oo o c, ee 142 _ (by decide)]
        exact r5 h299
  · obtain ⟨x1, x2, ⟨y1, y2, y3⟩, x4⟩ := hx
    exact ⟨x1, x2, ⟨(ne _ _ (by decide) (by decide)).trans y1, fun k hk => (ne _ _ (by decide) (by decide)).trans (y2 k hk), fun k hk => (ne _ _ (by decide) (by decide)).trans (y3 k hk)⟩, x4⟩
theorem xn_nat {l1 : Int32} {n j : Nat} (hl : l1 = nI n) (h9 : 9 ≤ n) (hn : n < 23) (h : sX M (ovA n (nA T0 L j))) (hL : mLok L) (hj : j ≤ 32) (hQ : ∀ M', sX M' (ovA (n + 1) (nA T0 L j)) → fr hpX M M' → Q (.inl none) M') : Z E YX1_asNative (d + 2) M [(0, vr (some (16, 0, 0))), (1, vi l1), (2, vi (-1))] 0 [] Q := by
  subst hl
  refine iX1_asNative_0 M _ _ h.1 ?_
  rw [if_pos rfl, n_neg3 n hn, nn_cl (by omega)]
  refine ⟨by rw [nn_in (by omega)]; omega, hQ _ (xb_nat h hL hj h9 hn) ((fr.si ?_).tr (fr.si ?_))⟩ <;> (unfold hpX; omega)
theorem xn_nat2 {l1 l2 : Int32} {n j v : Nat} (hl : l1 = nI n) (hv : l2 = nI v) (h9 : 9 ≤ n) (hn : n < 23) (h : sX M (ovA n (nA T0 L j))) (hL : mLok L) (hj : j < 32) (hq : nsets.getD j (0, 0, 0, 0) = (n, 1, 7, v)) (hv1 : v < 23) (hQ : ∀ M', sX M' (ovA (n + 1) (nA T0 L (j + 1))) → fr hpX M M' → Q (.inl none) M') : Z E YX1_asNative (d + 2) M [(0, vr (some (16, 0, 0))), (1, vi l1), (2, vi l2)] 0 [] Q := by
  subst hl hv
  refine iX1_asNative_0 M _ _ h.1 ?_
  rw [if_neg (by rw [nn_m1 (by omega)]; exact fun z => z), n_neg3 n hn, nn_cl (by omega)]
  refine ⟨by rw [nn_in (by omega)]; omega, ?_⟩
  refine xn_set (n, 1, 7, v) (xb_nat h hL (by omega) h9 hn) hL hj hq rfl rfl rfl rfl (fun M' s' f => ?_)
  show Z E YX1_asNative (d + 2) M' [] 30 [] Q
  refine sX1_asNative_30 M' s'.1 (hQ M' s' ?_)
  have f0 : fr hpX M (si (si M 38 n 1) 39 n (- nI n)) := (fr.si (by unfold hpX; omega)).tr (fr.si (by unfold hpX; omega))
  exact f0.tr (f.mono fun a k q => by unfold fX at q; unfold hpX; omega)
end
