/-! THE COMPONENT's LEXER: signs, strings -/
/-- the longest sign, up to four -/
def lgL (n : Nat) (c : Nat → Int32) (p : Nat) : Nat → Nat → Int32 → Int32
  | 0, _, b => b
  | f + 1, i, b => if n < p + i then b else lgL n c p f (i + 1) (if tfd 0 lxGx (lxW c p i) = -1 then b else tfd 0 lxGx (lxW c p i))
theorem lxT_first : ∀ (L : List (List Int32)) (j n : Nat) (c : Nat → Int32) (p a b : Nat), lxT L j n c p = some (a, b) → ∀ i, i < a - j → lxA n c p (L.getD i []) = false
  | [], _, _, _, _, _, _, h, _, _ => by cases h
  | w :: r, j, n, c, p, a, b, h, i, hi => by
    unfold lxT at h
    by_cases hw : lxA n c p w = true
    · rw [if_pos hw] at h
      cases h
      omega
    · rw [if_neg hw] at h
      cases i with
      | zero => simpa using hw
      | succ i => rw [List.getD_cons_succ]; exact lxT_first r (j + 1) n c p a b h i (by omega)
theorem lxT_none : ∀ (L : List (List Int32)) (j n : Nat) (c : Nat → Int32) (p : Nat), lxT L j n c p = none → ∀ w ∈ L, lxA n c p w = false
  | [], _, _, _, _, _, w, hw => by cases hw
  | x :: r, j, n, c, p, h, w, hw => by
    unfold lxT at h
    by_cases hx : lxA n c p x = true
    · rw [if_pos hx] at h; cases h
    · rw [if_neg hx] at h
      rcases List.mem_cons.mp hw with e | e
      · rw [e]; simpa using hx
      · exact lxT_none r (j + 1) n c p h w e
theorem lgL_eq {n : Nat} {c : Nat → Int32} {p : Nat} : lgL n c p 4 1 (-1) = (match lxT lxGt 0 n c p with | some (j, _) => sgX (nI j) | none => -1) := by
  have mem : ∀ i, p + i ≤ n → ¬ tfd 0 lxGx (lxW c p i) = -1 → lxW c p i ∈ lxGt ∧ lxA n c p (lxW c p i) = true := fun i hi h => by
    have hm : lxW c p i ∈ lxGx := by
      by_cases z : lxW c p i ∈ lxGx
      · exact z
      · exact absurd (tfd_no _ _ z) h
    refine ⟨tab_ok.2.2.1 _ hm, ?_⟩
    unfold lxA
    rw [lxW_len, decide_eq_true hi, decide_eq_true rfl]; rfl
  cases h : lxT lxGt 0 n c p with
  | none =>
    have no : ∀ i, p + i ≤ n → tfd 0 lxGx (lxW c p i) = -1 := fun i hi => by
      by_cases z : tfd 0 lxGx (lxW c p i) = -1
      · exact z
      · obtain ⟨m1, m2⟩ := mem i hi z
        rw [lxT_none _ _ _ _ _ h _ m1] at m2
        cases m2
    have all : ∀ f i, lgL n c p f i (-1) = -1 := by
      intro f
      induction f with
      | zero => intro i; rfl
      | succ f ih =>
        intro i
        unfold lgL
        by_cases z : n < p + i
        · rw [if_pos z]
        · rw [if_neg z, no i (by omega), if_pos rfl, ih]
    exact all 4 1
  | some v =>
    obtain ⟨j, k⟩ := v
    obtain ⟨h1, h2, h3, h4, h5⟩ := lxT_some _ _ _ _ _ _ _ h
    rw [Nat.sub_zero] at h3 h4 h5
    have hj : j < 48 := by rw [lxK_ok.2.2.1] at h2; omega
    have hk := sg_len j hj
    have hA := h5
    unfold lxA at h5
    rw [Bool.and_eq_true, decide_eq_true_eq, decide_eq_true_eq, ← h4] at h5
    have hyes : ¬ tfd 0 lxGx (lxW c p k) = -1 := by
      rw [h5.2]
      obtain ⟨x, x1, x2, -⟩ := tfd_yes lxGx 0 (tab_ok.2.2.2.1 _ h3)
      rw [x2, nn_m1 (by have := lxK_ok.2.1; omega)]
      exact fun z => z
    have hno : ∀ i, k < i → p + i ≤ n → tfd 0 lxGx (lxW c p i) = -1 := fun i hi hin => by
      by_cases z : tfd 0 lxGx (lxW c p i) = -1
      · exact z
      · exfalso
        obtain ⟨m1, m2⟩ := mem i hin z
        obtain ⟨x, x1, -, x3⟩ := tfd_yes lxGt 0 m1
        have ex : lxGt.getD x [] = lxW c p i := by rw [List.getD_eq_getElem?_getD, x3]; rfl
        have hx : x < 48 := by rw [lxK_ok.2.2.1] at x1; exact x1
        have hlt : x < j := tab_ok.2.2.2.2 x hx j hj (by rw [ex, lxW_len, ← h4]; exact hi)
        have := lxT_first _ _ _ _ _ _ _ h x (by omega)
        rw [ex, m2] at this
        cases this
    have eS : sgX (nI j) = tfd 0 lxGx (lxW c p k) := by unfold sgX; rw [nn_cl (by omega), h5.2]
    show _ = sgX (nI j)
    rw [eS]
    have rest : ∀ f i b, k < i → lgL n c p f i b = b := by
      intro f
      induction f with
      | zero => intro i b _; rfl
      | succ f ih =>
        intro i b hi
        unfold lgL
        by_cases z : n < p + i
        · rw [if_pos z]
        · rw [if_neg z, hno i hi (by omega), if_pos rfl, ih (i + 1) b (by omega)]
    have upto : ∀ f i b, i ≤ k → k < i + f → lgL n c p f i b = tfd 0 lxGx (lxW c p k) := by
      intro f
      induction f with
      | zero => intro i b h1 h2; omega
      | succ f ih =>
        intro i b h1 h2
        unfold lgL
        rw [if_neg (by omega)]
        by_cases e : i = k
        · rw [e, if_neg hyes, rest _ _ _ (Nat.lt_succ_self k)]
        · exact ih (i + 1) _ (by omega) (by omega)
    exact upto 4 1 (-1) (by omega) (by omega)
section
variable {E : zE} {d : Nat} {Q : zO → zM → Prop} {n : Nat} {c : Nat → Int32} {a : Nat}
theorem lxU_len (n : Nat) (c : Nat → Int32) (q : Int32) : ∀ (f p m : Nat), m ≤ (lxQ n c q f p m).2.1
  | 0, p, m => Nat.le_refl _
  | f + 1, p, m => by
    unfold lxQ
    by_cases h0 : n ≤ p
    · rw [if_pos h0]; exact Nat.le_refl _
    rw [if_neg h0]
    by_cases h1 : c p = q
    · rw [if_pos h1]; exact Nat.le_refl _
    rw [if_neg h1]
    by_cases h2 : c p = 92
    · rw [if_pos h2]
      by_cases h3 : p + 1 < n ∧ lxE (c (p + 1)) = true
      · rw [if_pos h3]; have := lxU_len n c q f (p + 2) (m + 1); omega
      · rw [if_neg h3]; show m ≤ m + 1; omega
    rw [if_neg h2]
    by_cases h3 : 32 ≤ c p ∧ c p ≤ 126
    · rw [if_pos h3]; have := lxU_len n c q f (p + 1) (m + 1); omega
    · rw [if_neg h3]; show m ≤ m + 1; omega
/-- a sign as a byte -/
abbrev byt (x : Int32) : Int32 := x.toInt8.toInt32
theorem byt_lo {j : Nat} (h : j < 128) : byt (nI j) = nI j := nn_nb2 h
theorem byt_hi : ∀ j, j < 256 → 128 ≤ j → ¬ c7 (byt (nI j)) := fun j h1 h2 ⟨k, hk, e⟩ => by
  have : ∀ j, j < 256 → 128 ≤ j → (byt (nI j)).toInt < 0 := by decide +kernel
  have h := this j h1 h2
  rw [e, nn_toInt (by omega)] at h
  omega
theorem gx_c7 : ∀ w ∈ lxGx, ∀ x ∈ w, ∃ n, n < 128 ∧ x = nI n := by
  have : ∀ w ∈ lxGx, ∀ x ∈ w, x = nI x.toNatClampNeg ∧ x.toNatClampNeg < 128 := by decide +kernel
  exact fun w hw x hx => ⟨_, (this w hw x hx).2, (this w hw x hx).1⟩
theorem byt_map {w : List Int32} (h : ∀ x ∈ w, ∃ j, j < 256 ∧ x = nI j) (hm : w.map byt ∈ lxGx) : w.map byt = w := by
  have : ∀ x ∈ w, byt x = x := fun x hx => by
    obtain ⟨j, hj, e⟩ := h x hx
    have hc := gx_c7 _ hm (byt x) (List.mem_map_of_mem hx)
    by_cases hl : j < 128
    · rw [e]; exact byt_lo hl
    · rw [e] at hc
      exact absurd hc (byt_hi j hj (by omega))
  conv => rhs; rw [← List.map_id w]
  exact List.map_congr_left fun x hx => this x hx
theorem byt_tfd {w : List Int32} (h : ∀ x ∈ w, ∃ j, j < 256 ∧ x = nI j) : tfd 0 lxGx (w.map byt) = tfd 0 lxGx w := by
  by_cases hm : w.map byt ∈ lxGx
  · rw [byt_map h hm]
  · rw [tfd_no _ _ hm]
    by_cases hw : w ∈ lxGx
    · exfalso
      refine hm ?_
      have : w.map byt = w := by
        conv => rhs; rw [← List.map_id w]
        exact List.map_congr_left fun x hx => by
          obtain ⟨j, hj, e⟩ := gx_c7 _ hw x hx
          rw [e]; exact byt_lo hj
      rw [this]; exact hw
    · rw [tfd_no _ _ hw]
theorem x_writeB {M : zM} {w : List Int32} {x : Int32} (hw : cw M) (hR : xR M w) (hl : w.length < 256) (hQ : ∀ M', xR M' (w ++ [byt x]) → fr (fun a k => a = 20 ∨ a = 16 ∧ k = 3) M M' → Q (.inl none) M') : Z E YX1_write d M [(0, zX16), (1, vi x)] 0 [] Q := by
  obtain ⟨t1, t2, t3⟩ := hR
  refine sX1_write_0 M x hw ?_
  rw [t1, if_neg (show ¬ (256 : Int32) ≤ nI w.length from nI_ge hl (by decide)), nI_clamp (by omega), vp_nar_b, nI_l1]
  refine ⟨nI_in hl (by decide), hQ _ ⟨?_, by rw [List.length_append]; exact hl, fun k hk => ?_⟩ ((fr.si (Or.inr ⟨rfl, rfl⟩)).tr (fr.si (Or.inl rfl)))⟩
  · rw [gi_oth (by decide), gi_self, List.length_append]; rfl
  · rw [getD_app]
    rw [List.length_append] at hk
    by_cases h : k = w.length
    · rw [if_neg (by omega), h, gi_self, Nat.sub_self]; rfl
    · have hlt : k < w.length := by simp at hk; omega
      rw [if_pos hlt, gi_idx h, gi_oth (by decide), t3 k hlt]
theorem x_longest {p l : Nat} {M : zM} {L : List (List Int32)} (h : xLx M a n c p l) (hT : xTb M) (hS : xS M 17 18 19 L) (hp : p < n) (h0 : lxL (c p) = false) (h1 : lxD (c p) = false) (h2 : ¬ (c p = 34 ∨ c p = 39)) (hc : ∀ k, ∃ j, j < 256 ∧ c k = nI j) (hQ : xPost Q n c a M p (lxO n c p) L) : Z E YX10_longest (d + 2) M [(0, vr (some (a, 9, 0)))] 0 [] Q := by
  have hn := h.2.1.2.1
  have ha := h.2.2.1
  have hO : lxO n c p = (match lxT lxGt 0 n c p with | some (j, k) => (5, nI j, p + k) | none => (6, 0, p)) := by
    unfold lxO; rw [if_neg (by omega), h0, if_neg (by decide), h1, if_neg (by decide), if_neg h2]
    rfl
  rw [hO] at hQ
  have P1 : ∀ {M1 M2 : zM}, fr (tkQ a) M1 M2 → fg (tkP a) M1 M2 := fun f => (f.mono tkQ_P).fg
  have bad : ∀ M1, fr (tkQ a) M M1 → gi M1 a 1 = nI p → lxT lxGt 0 n c p = none → 16 ≤ a ∧ Q (.inl none) (si (si (si M1 a 3 6) a 6 (-1)) a 1 (gi (si (si M1 a 3 6) a 6 (-1)) a 1 + 1)) := fun M1 f e1 hx => by
    rw [hx] at hQ
    unfold xPost at hQ; dsimp only at hQ
    refine ⟨by omega, hQ _ L (f.tr (((fr.si (.inl ⟨rfl, by omega⟩)).tr (fr.si (.inl ⟨rfl, by omega⟩))).tr (fr.si (.inl ⟨rfl, by omega⟩)))) ?_ (fun z => absurd rfl z) (fun z => absurd z (by decide)) (fun z => absurd z (by decide)) (fun z => absurd z (by decide)) (fun z => z.elim (fun z => absurd z (by decide)) (fun z => absurd z (by decide))) (fun _ z => absurd rfl z) (fun z => absurd rfl z)⟩
    rw [gi_idx (by decide), gi_idx (by decide), gi_self]
  have good : ∀ M1 (b : Int32), fr (tkQ a) M M1 → gi M1 a 1 = nI p → xS M1 17 18 19 L → b = lgL n c p 4 1 (-1) → ¬ b = -1 → ∃ (b2 m2 : Nat), gr M1 25 1 = some (b2, 100, m2) ∧ vp_in (b + 1) m2 ∧ vp_in b m2 ∧ Q (.inl none) (si (si (si M1 a 3 5) a 6 b) a 1 (gi (si (si M1 a 3 5) a 6 b) a 1 + (gi (si (si M1 a 3 5) a 6 b) b2 (b + 1).toNatClampNeg - gi (si (si M1 a 3 5) a 6 b) b2 b.toNatClampNeg))) := fun M1 b f e1 hS1 hb hne => by
    have hT1 : xTb M1 := xTb_fg hT f.fg (by omega) (fun x k h1 h2 => by unfold tkQ; omega)
    rw [lgL_eq] at hb
    cases hx : lxT lxGt 0 n c p with
    | none => rw [hx] at hb; exact absurd hb hne
    | some v =>
      obtain ⟨j, k⟩ := v
      rw [hx] at hb hQ
      unfold xPost at hQ; dsimp only at hQ
      have hb' : b = sgX (nI j) := hb
      obtain ⟨q1, q2, q3, q4, q5⟩ := lxT_some _ _ _ _ _ _ _ hx
      rw [Nat.sub_zero] at q3 q4
      have hj : j < 48 := by rw [lxK_ok.2.2.1] at q2; omega
      obtain ⟨x, x1, x2, x3⟩ := tfd_yes lxGx 0 (tab_ok.2.2.2.1 _ q3)
      have eb : b = nI x := by rw [hb']; unfold sgX; rw [nn_cl (by omega), x2, Nat.zero_add]
      have x48 : x < 48 := by rw [lxK_ok.2.1] at x1; exact x1
      have hlen : (lxGx.take (x + 1)).flatten.length = (lxGx.take x).flatten.length + k := by rw [flat_suc x3, ← q4]
      have hle := flat_le lxGx (x + 1)
      have t2 := tab_ok.2.1
      refine ⟨26, 61, hT1.2.2.1, ?_⟩
      rw [eb, nI_l1]
      refine ⟨nI_in (by omega) (by decide), nI_in (by omega) (by decide), ?_⟩
      rw [nI_clamp (by omega), nI_clamp (by omega), gi_idx (by decide), gi_idx (by decide), e1, gi_oth (by omega), gi_oth (by omega), gi_oth (by omega), gi_oth (by omega), hT1.2.1.2.1 _ (by omega), hT1.2.1.2.1 _ (by omega), nI_sub (by omega), hlen, Nat.add_sub_cancel_left, nI_add]
      have f3 : fr (tkA a) M1 (si (si (si M1 a 3 5) a 6 (nI x)) a 1 (nI (p + k))) := ((fr.si ⟨rfl, by omega⟩).tr (fr.si ⟨rfl, by omega⟩)).tr (fr.si ⟨rfl, by omega⟩)
      have s1 : zsz M1 = zsz M := f.1.1
      refine hQ _ L (f.tr (f3.mono fun x k q => .inl q)) ?_ (fun _ => gi_self ..) (fun z => absurd z (by decide)) (fun _ => ?_) (fun z => absurd z (by decide)) (fun z => z.elim (fun z => absurd z (by decide)) (fun z => absurd z (by decide))) (fun _ _ => rfl) (fun _ => xS_fg hS1 f3.fg (by omega) (by unfold tkA; omega) (fun k => by unfold tkA; omega) (fun k => by unfold tkA; omega))
      · rw [gi_idx (by decide), gi_idx (by decide), gi_self]
      · rw [gi_idx (by decide), gi_self, ← eb, hb']
  have loop : ∀ (f i : Nat) (b : Int32) (M1 : zM), i + f = 5 → 1 ≤ i → lgL n c p f i b = lgL n c p 4 1 (-1) → fr (tkQ a) M M1 → gi M1 a 1 = nI p → xS M1 17 18 19 L → xR M1 ((lxW c p (i - 1)).map byt) → Z E YX10_longest (d + 1 + 1) M1 [(0, vr (some (a, 9, 0))), (1, vi b), (2, vi (nI i))] 11 [] Q := by
    intro f
    induction f with
    | zero =>
      intro i b M1 hi hi1 hb hfr e1 hS1 hR
      have h3 : xLx M1 a n c p l := xLx_fg h (P1 hfr) e1 (((hfr.2 a 2 (by unfold tkQ; omega)).1).trans h.2.2.2.2)
      obtain ⟨w1, w2, w3, w4, w5⟩ := id h3
      have hb' : b = lgL n c p 4 1 (-1) := hb
      refine iX10_longest_11 M1 a b _ ?_
      rw [if_pos (show (4 : Int32) < nI i from nI_lt (a := 4) (by omega) (by omega))]
      by_cases hm : b = -1
      · rw [if_pos hm, hm]
        refine bad M1 hfr e1 ?_
        rw [hm, lgL_eq] at hb'
        cases hx : lxT lxGt 0 n c p with
        | none => rfl
        | some v =>
          exfalso
          obtain ⟨j, k⟩ := v
          rw [hx] at hb'
          obtain ⟨q1, q2, q3, q4, q5⟩ := lxT_some _ _ _ _ _ _ _ hx
          rw [Nat.sub_zero] at q3
          have hj : j < 48 := by rw [lxK_ok.2.2.1] at q2; omega
          obtain ⟨x, x1, x2, x3⟩ := tfd_yes lxGx 0 (tab_ok.2.2.2.1 _ q3)
          have z : (-1 : Int32) = nI x := by
            have : (-1 : Int32) = sgX (nI j) := hb'
            rw [this]; unfold sgX; rw [nn_cl (by omega), x2, Nat.zero_add]
          rw [nn_1m (by have := lxK_ok.2.1; omega)] at z
          exact z
      · rw [if_neg hm]
        obtain ⟨b2, m2, g1, g2, g3, g4⟩ := good M1 b hfr e1 hS1 hb' hm
        exact ⟨by omega, 16, w3.2.2, 25, cw_s w1, b2, m2, g1, g2, g3, g4⟩
    | succ f ih =>
      intro i b M1 hi hi1 hb hfr e1 hS1 hR
      have h3 : xLx M1 a n c p l := xLx_fg h (P1 hfr) e1 (((hfr.2 a 2 (by unfold tkQ; omega)).1).trans h.2.2.2.2)
      obtain ⟨w1, w2, w3, w4, w5⟩ := id h3
      have hT1 : xTb M1 := xTb_fg hT hfr.fg (by omega) (fun x k h1 h2 => by unfold tkQ; omega)
      refine iX10_longest_11 M1 a b _ ?_
      rw [if_neg (show ¬ (4 : Int32) < nI i from nI_nlt (a := 4) (by omega) (by decide))]
      refine ⟨16, w3.2.2, ?_⟩
      rw [w2.1, e1, nI_add]
      have hb : (if n < p + i then b else lgL n c p f (i + 1) (if tfd 0 lxGx (lxW c p i) = -1 then b else tfd 0 lxGx (lxW c p i))) = lgL n c p 4 1 (-1) := hb
      by_cases hend : n < p + i
      · rw [if_pos hend] at hb
        rw [if_pos (nI_lt hend (by omega))]
        by_cases hm : b = -1
        · rw [if_pos hm, hm]
          refine bad M1 hfr e1 ?_
          rw [hm, lgL_eq] at hb
          cases hx : lxT lxGt 0 n c p with
          | none => rfl
          | some v =>
            exfalso
            obtain ⟨j, k⟩ := v
            rw [hx] at hb
            obtain ⟨q1, q2, q3, q4, q5⟩ := lxT_some _ _ _ _ _ _ _ hx
            rw [Nat.sub_zero] at q3
            have hj : j < 48 := by rw [lxK_ok.2.2.1] at q2; omega
            obtain ⟨x, x1, x2, x3⟩ := tfd_yes lxGx 0 (tab_ok.2.2.2.1 _ q3)
            have z : (-1 : Int32) = nI x := by
              have : (-1 : Int32) = sgX (nI j) := hb
              rw [this]; unfold sgX; rw [nn_cl (by omega), x2, Nat.zero_add]
            rw [nn_1m (by have := lxK_ok.2.1; omega)] at z
            exact z
        · rw [if_neg hm]
          obtain ⟨b2, m2, g1, g2, g3, g4⟩ := good M1 b hfr e1 hS1 hb hm
          exact ⟨by omega, 25, cw_s w1, b2, m2, g1, g2, g3, g4⟩
      · rw [if_neg hend] at hb
        rw [if_neg (nI_nlt (by omega) (by omega)), show nI (p + i) - 1 = nI (p + i - 1) from nI_sub (b := 1) (by omega), if_neg (nI_ge (by omega) (by omega))]
        refine ⟨21, 4000, cw_t w1, nI_in (by omega) (by omega), ?_⟩
        rw [xl_at w2 (by omega)]
        refine x_writeB w1 hR (by rw [List.length_map, lxW_len]; omega) (fun M2 hR2 f2 => ?_)
        have eR : (lxW c p (i - 1)).map byt ++ [byt (c (p + i - 1))] = (lxW c p i).map byt := by
          have := lxW_snoc c p (i - 1)
          rw [show i - 1 + 1 = i by omega, show p + (i - 1) = p + i - 1 by omega] at this
          rw [← this, List.map_append]; rfl
        rw [eR] at hR2
        have f2' : fr (tkQ a) M M2 := hfr.tr (f2.mono fun x k q => by unfold tkQ; omega)
        have h4 : xLx M2 a n c p l := xLx_fg h (P1 f2') (((f2.2 a 1 (by omega)).1).trans e1) (((f2'.2 a 2 (by unfold tkQ; omega)).1).trans h.2.2.2.2)
        obtain ⟨v1, v2, v3, v4, v5⟩ := id h4
        have hT2 : xTb M2 := xTb_fg hT f2'.fg (by omega) (fun x k h1 h2 => by unfold tkQ; omega)
        have s1 : zsz M1 = zsz M := hfr.1.1
        have hS2 : xS M2 17 18 19 L := xS_fg hS1 f2.fg (by omega) (by omega) (fun k => by omega) (fun k => by omega)
        show Z E YX10_longest (d + 1 + 1) M2 [(0, vr (some (a, 9, 0))), (1, vi b), (2, vi (nI i))] 51 [] Q
        refine iX10_longest_51 M2 a b _ ⟨16, v3.2.2, 25, cw_s v1, ?_⟩
        rw [cw_r v1]
        have hl : ((lxW c p i).map byt).length = i := by rw [List.length_map, lxW_len]
        have := x_find (E := E) (d := d) (Q := zafter E YX10_longest (d + 1 + 1) [(0, vr (some (a, 9, 0))), (1, vi b), (2, vi (nI i))] 66 3 [] Q) (w := (lxW c p i).map byt) hT2.2.2.1 hT2.2.2.2 hT2.2.1 (by rw [lxK_ok.2.1]; decide) (by decide) (by have := tab_ok.2.1; omega) (by decide) (fun k hk => hR2.2.2 k hk) hR2.2.1 (by decide) ?_
        · rw [hl] at this; exact this
        rw [byt_tfd (fun x hx => by
          obtain ⟨t, ht, rfl⟩ := List.mem_iff_getElem.mp hx
          have e : (lxW c p i).getD t 0 = c (p + t) := lxW_get (by rw [lxW_len] at ht; exact ht)
          rw [getD_lt ht] at e
          rw [e]; exact hc _)]
        show Z E YX10_longest (d + 1 + 1) M2 [(0, vr (some (a, 9, 0))), (1, vi b), (2, vi (nI i))] 69 [vi (tfd 0 lxGx (lxW c p i))] Q
        refine sX10_longest_69 M2 a b _ _ ?_
        rw [nI_l1]
        by_cases hz : tfd 0 lxGx (lxW c p i) = -1
        · rw [if_pos hz] at hb ⊢
          exact ih (i + 1) b M2 (by omega) (by omega) hb f2' v4 hS2 hR2
        · rw [if_neg hz] at hb ⊢
          exact ih (i + 1) _ M2 (by omega) (by omega) hb f2' v4 hS2 hR2
  refine sX10_longest_0 M a ⟨16, ha.2.2, sX1_clearRow_0 M h.1 ?_⟩
  show Z E YX10_longest (d + 1 + 1) (si M 16 3 0) [(0, vr (some (a, 9, 0))), (1, vi (-1))] 9 [] Q
  refine sX10_longest_9 _ a _ ?_
  refine loop 4 1 (-1) (si M 16 3 0) rfl (Nat.le_refl _) rfl (fr.si (.inr (.inl ⟨rfl, rfl⟩))) ((gi_oth (by omega)).trans h.2.2.2.1) ?_ ?_
  · exact ⟨by rw [gi_oth (by decide)]; exact hS.1, fun k hk => by rw [gi_oth (by decide)]; exact hS.2.1 k hk, fun k hk => by rw [gi_oth (by decide)]; exact hS.2.2 k hk⟩
  · exact ⟨by rw [gi_self]; rfl, Nat.zero_le _, fun k hk => absurd hk (Nat.not_lt_zero k)⟩
end
