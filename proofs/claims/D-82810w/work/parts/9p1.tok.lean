/-! THE COMPONENT's PARSER: tokens -/
theorem lxU_le (n : Nat) (c : Nat → Int32) (q : Int32) : ∀ (f p m : Nat), (lxQ n c q f p m).2.2 = true → p + (lxU n c q f p).length ≤ (lxQ n c q f p m).1
  | 0, p, m, _ => Nat.le_refl _
  | f + 1, p, m, h => by
    unfold lxQ at h ⊢
    unfold lxU
    by_cases h0 : n ≤ p
    · rw [if_pos h0, if_pos h0]; exact Nat.le_refl _
    rw [if_neg h0] at h ⊢
    rw [if_neg h0]
    by_cases h1 : c p = q
    · rw [if_pos h1, if_pos h1]; exact Nat.le_refl _
    rw [if_neg h1] at h ⊢
    rw [if_neg h1]
    by_cases h2 : c p = 92
    · rw [if_pos h2] at h ⊢
      rw [if_pos h2]
      by_cases h3 : p + 1 < n ∧ lxE (c (p + 1)) = true
      · rw [if_pos h3] at h ⊢
        have := lxU_le n c q f (p + 2) (m + 1) h
        show p + (_ + 1) ≤ _
        omega
      · rw [if_neg h3] at h; cases h
    rw [if_neg h2] at h ⊢
    rw [if_neg h2]
    by_cases h3 : 32 ≤ c p ∧ c p ≤ 126
    · rw [if_pos h3] at h ⊢
      have := lxU_le n c q f (p + 1) (m + 1) h
      show p + (_ + 1) ≤ _
      omega
    · rw [if_neg h3] at h; cases h
/-- a token's text is no longer than the token -/
theorem txl {n : Nat} {c : Nat → Int32} {p : Nat} (hp : p < n) (h6 : ¬ (lxO n c p).1 = 6) : p + (lxTx n c p (lxO n c p).1 (lxO n c p).2.2).length ≤ (lxO n c p).2.2 := by
  have hok := (lxO_ok (n := n) (c := c) hp).2 h6
  by_cases h4 : (lxO n c p).1 = 4
  · unfold lxTx
    rw [if_pos h4]
    have hO := h4
    unfold lxO at hO ⊢
    rw [if_neg (by omega)] at hO ⊢
    by_cases k1 : lxL (c p) = true
    · rw [if_pos k1] at hO
      dsimp only at hO
      exfalso
      split at hO
      · cases hO
      · split at hO <;> cases hO
    rw [if_neg k1] at hO ⊢
    by_cases k2 : lxD (c p) = true
    · rw [if_pos k2] at hO
      dsimp only at hO
      exfalso
      split at hO <;> cases hO
    rw [if_neg k2] at hO ⊢
    by_cases k3 : c p = 34 ∨ c p = 39
    · rw [if_pos k3] at hO ⊢
      dsimp only at hO ⊢
      by_cases k4 : (lxQ n c (c p) n (p + 1) 0).2.2 = true ∧ (lxQ n c (c p) n (p + 1) 0).1 < n ∧ (lxQ n c (c p) n (p + 1) 0).2.1 ≤ 40
      · have := lxU_le n c (c p) n (p + 1) 0 k4.1
        omega
      · rw [if_neg k4] at hO; cases hO
    · rw [if_neg k3] at hO
      exfalso
      split at hO <;> cases hO
  · unfold lxTx
    rw [if_neg h4, lxW_len]
    omega
/-- which sign a token is -/
theorem sgn_lt {n : Nat} {c : Nat → Int32} {p : Nat} (h5 : (lxO n c p).1 = 5) : ∃ j, j < 48 ∧ (lxO n c p).2.1 = nI j := by
  unfold lxO at h5 ⊢
  by_cases k0 : n ≤ p
  · rw [if_pos k0] at h5; cases h5
  rw [if_neg k0] at h5 ⊢
  by_cases k1 : lxL (c p) = true
  · rw [if_pos k1] at h5
    dsimp only at h5
    exfalso
    split at h5
    · cases h5
    · split at h5 <;> cases h5
  rw [if_neg k1] at h5 ⊢
  by_cases k2 : lxD (c p) = true
  · rw [if_pos k2] at h5
    dsimp only at h5
    exfalso
    split at h5 <;> cases h5
  rw [if_neg k2] at h5 ⊢
  by_cases k3 : c p = 34 ∨ c p = 39
  · rw [if_pos k3] at h5
    dsimp only at h5
    exfalso
    split at h5 <;> cases h5
  rw [if_neg k3] at h5 ⊢
  have key : ∀ (L : List (List Int32)) (j0 : Nat) (r : Nat × Nat), lxT L j0 n c p = some r → j0 ≤ r.1 ∧ r.1 < j0 + L.length := by
    intro L
    induction L with
    | nil => intro j0 r h; cases h
    | cons w L ih =>
      intro j0 r h
      unfold lxT at h
      by_cases hw : lxA n c p w = true
      · rw [if_pos hw] at h
        cases h
        show j0 ≤ j0 ∧ j0 < j0 + (L.length + 1)
        omega
      · rw [if_neg hw] at h
        have := ih (j0 + 1) r h
        show j0 ≤ r.1 ∧ r.1 < j0 + (L.length + 1)
        omega
  cases ht : lxT lxGt 0 n c p with
  | none => rw [ht] at h5; cases h5
  | some r =>
    have := key lxGt 0 r ht
    have hl : lxGt.length = 48 := by decide +kernel
    exact ⟨r.1, by omega, rfl⟩
theorem sgX_inj : ∀ i j : Nat, i < 48 → j < 48 → sgX (nI i) = sgX (nI j) → i = j := by
  have : ∀ i : Fin 48, ∀ j : Fin 48, sgX (nI i.val) = sgX (nI j.val) → i = j := by decide +kernel
  intro i j hi hj h
  have := this ⟨i, hi⟩ ⟨j, hj⟩ h
  exact Fin.mk.inj this
theorem tkn_lx {n : Nat} {c : Nat → Int32} (t : Nat) (h6 : ¬ (tkn n c t).1 = 6) : (tkn n c t).1 = (lxO n c (tkn n c t).2.2.1).1 ∧ (tkn n c t).2.1 = (lxO n c (tkn n c t).2.2.1).2.1 ∧ (tkn n c t).2.2.2.1 = (lxO n c (tkn n c t).2.2.1).2.2 := by
  have key : ∀ p l, ¬ (tkS n c p l).1 = 6 → (tkS n c p l).1 = (lxO n c (tkS n c p l).2.2.1).1 ∧ (tkS n c p l).2.1 = (lxO n c (tkS n c p l).2.2.1).2.1 ∧ (tkS n c p l).2.2.2.1 = (lxO n c (tkS n c p l).2.2.1).2.2 := by
    intro p l h
    unfold tkS at h ⊢
    by_cases k : (lxS n c n p l).2.2 = true
    · rw [if_pos k]; exact ⟨rfl, rfl, rfl⟩
    · rw [if_neg k] at h; exact absurd rfl h
  cases t with
  | zero => exact key 0 1 h6
  | succ t => exact key _ _ h6
/-- the tokens as P has them -/
def zOf (n : Nat) (c : Nat → Int32) (dg : Int32 → List Int32) : pZ := (tkn n c, fun t => tkX n c (tkn n c t), dg)
/-- the lexer a is at P's token, with P's names -/
def xTz (M : zM) (a n : Nat) (c : Nat → Int32) (s : pS) : Prop :=
  (∃ lp, xTk M a n c (tkn n c s.1) lp (tkL n c s.2.1 (tkn n c s.1)) ∧ (1 ≤ s.1 → lp = (tkn n c (s.1 - 1)).2.2.2.2)) ∧ xS M 17 18 19 (tkL n c s.2.1 (tkn n c s.1)) ∧ (xTb M ∧ xgp M) ∧ ¬ (tkn n c s.1).1 = 6 ∧ (∀ j, j < s.1 → tkg (tkn n c j)) ∧
  (s.2.1.length ≤ 100 + s.1 ∧ s.2.1.flatten.length ≤ 1000 + 12 * (tkn n c s.1).2.2.1) ∧ (n ≤ 1280 ∧ (∀ k, n ≤ k → c k = 0) ∧ ∀ k, ∃ j, j < 256 ∧ c k = nI j) ∧ 190 ≤ zsz M
theorem nmA_len (L : List (List Int32)) (w : List Int32) : (nmA L w).length ≤ L.length + 1 ∧ (nmA L w).flatten.length ≤ L.flatten.length + w.length := by
  unfold nmA
  by_cases h : w ∈ L
  · rw [if_pos h]; omega
  · rw [if_neg h, List.length_append, List.flatten_append, List.length_append]
    simp
theorem tkL_len {n : Nat} {c : Nat → Int32} (hc : ∀ k, n ≤ k → c k = 0) (L : List (List Int32)) (t : Nat) (hj : ∀ j, j < t → tkg (tkn n c j)) (hg : tkg (tkn n c t)) : (tkL n c L (tkn n c t)).length ≤ L.length + 1 ∧ (tkL n c L (tkn n c t)).flatten.length + (tkn n c t).2.2.1 ≤ L.flatten.length + (tkn n c t).2.2.2.1 := by
  have ok := tkn_ok hc t hj
  have ok2 := ok.2.2 hg
  have lx := tkn_lx t hg.2
  unfold tkL
  by_cases h : (tkn n c t).1 = 1 ∨ (tkn n c t).1 = 4
  · rw [if_pos h]
    have l := nmA_len L (tkX n c (tkn n c t))
    have := txl (n := n) (c := c) (p := (tkn n c t).2.2.1) (by omega) (by rw [← lx.1]; exact hg.2)
    rw [← lx.1, ← lx.2.2] at this
    unfold tkX at l ⊢
    omega
  · rw [if_neg h]; omega
section
variable {E : zE} {d : Nat} {Q : zO → zM → Prop} {n : Nat} {c : Nat → Int32} {a : Nat} {M : zM} {s : pS}
theorem y_nxG {L' : List (List Int32)} (hk : xLx M a n c (tkn n c s.1).2.2.2.1 (tkn n c s.1).2.2.2.2) (hS : xS M 17 18 19 L') (hT : xTb M) (hp : xgp M) (hj : ∀ j, j < s.1 → tkg (tkn n c j)) (b1 : L'.length ≤ 101 + s.1) (b2 : L'.flatten.length ≤ 1000 + 12 * (tkn n c s.1).2.2.2.1) (hc3 : n ≤ 1280 ∧ (∀ k, n ≤ k → c k = 0) ∧ ∀ k, ∃ j, j < 256 ∧ c k = nI j) (hz : 190 ≤ zsz M) (hg : tkg (tkn n c s.1))
    (hy : ¬ (tkn n c (s.1 + 1)).1 = 6 → ∀ M', fr (tkP a) M M' → xTz M' a n c (s.1 + 1, L', s.2.2) → Q (.inl none) M')
    (hn : (tkn n c (s.1 + 1)).1 = 6 → ∀ o M', fO (tkP a) M (1 + 8 * (tkn n c (s.1 + 1)).2.2.2.2) o M' → (zsz M' = zsz M + 1 ∧ zsu M' = zsu M + 7) → Q o M') : Z E YX10_next (d + 9) M [(0, vr (some (a, 9, 0)))] 0 [] Q := by
  obtain ⟨hn0, hc0, hc⟩ := hc3
  have ok := tkn_ok hc0 s.1 hj
  have ok2 := ok.2.2 hg
  have key : ∀ t, t ≤ s.1 → t ≤ (tkn n c t).2.2.1 := by
    intro t
    induction t with
    | zero => intro _; exact Nat.zero_le _
    | succ t ih =>
      intro ht
      have ok := tkn_ok hc0 t (fun j z => hj j (by omega))
      have ok2 := ok.2.2 (hj t (by omega))
      have s2 := tkS_ok hc0 (l := (tkn n c t).2.2.2.2) ok2.2
      have := ih (by omega)
      show t + 1 ≤ (tkS n c (tkn n c t).2.2.2.1 (tkn n c t).2.2.2.2).2.2.1
      omega
  have key := key s.1 (Nat.le_refl _)
  refine x_next hk ok2.2 hT hp hS (by omega) (by omega) hc (fun z M' f k xs => ?_) (fun z o M' f g => hn z o M' f g)
  have zz := f.1.1
  have hj' : ∀ j, j < s.1 + 1 → tkg (tkn n c j) := fun j hj' => by
    by_cases y : j < s.1
    · exact hj j y
    · rw [show j = s.1 by omega]; exact hg
  have ok3 := tkS_ok hc0 (l := (tkn n c s.1).2.2.2.2) ok2.2
  refine hy z M' f ⟨⟨(tkn n c s.1).2.2.2.2, k, fun _ => rfl⟩, xs, ⟨xTb_fg hT f.fg (by omega) (fun x k h1 h2 z => by have := hk.2.2.1.1; unfold tkP at z; omega), ?_⟩, z, hj', ⟨?_, ?_⟩, ⟨hn0, hc0, hc⟩, by rw [zz]; exact hz⟩
  · have := hk.2.2.1.1
    exact ⟨(f.2 17 1 (by unfold tkP; omega)).2.2.trans hp.1, (f.2 17 0 (by unfold tkP; omega)).2.2.trans hp.2⟩
  · show L'.length ≤ 100 + (s.1 + 1)
    omega
  · show L'.flatten.length ≤ 1000 + 12 * (tkS n c (tkn n c s.1).2.2.2.1 (tkn n c s.1).2.2.2.2).2.2.1
    omega
theorem y_nx (h : xTz M a n c s) (hg : tkg (tkn n c s.1))
    (hy : ¬ (tkn n c (s.1 + 1)).1 = 6 → ∀ M', fr (tkP a) M M' → xTz M' a n c (s.1 + 1, tkL n c s.2.1 (tkn n c s.1), s.2.2) → Q (.inl none) M')
    (hn : (tkn n c (s.1 + 1)).1 = 6 → ∀ o M', fO (tkP a) M (1 + 8 * (tkn n c (s.1 + 1)).2.2.2.2) o M' → (zsz M' = zsz M + 1 ∧ zsu M' = zsu M + 7) → Q o M') : Z E YX10_next (d + 9) M [(0, vr (some (a, 9, 0)))] 0 [] Q := by
  obtain ⟨⟨lp, hk, hlp⟩, hS, ⟨hT, hp⟩, h6, hj, ⟨b1, b2⟩, hc3, hz⟩ := h
  have ok := tkn_ok hc3.2.1 s.1 hj
  have ok2 := ok.2.2 hg
  have tl := tkL_len hc3.2.1 s.2.1 s.1 hj hg
  exact y_nxG hk.1 hS hT hp hj (by omega) (by omega) hc3 hz hg hy hn
/-- is, isWord -/
theorem y_isS {j : Nat} (hj : j < 48) (dg : Int32 → List Int32) (h : xTz M a n c s) : (gi M a 3 = 5 ∧ gi M a 6 = sgX (nI j)) ↔ isS (zOf n c dg) (nI j) s = true := by
  obtain ⟨⟨lp, hk, hlp⟩, -, -, h6, -⟩ := h
  have lx := tkn_lx s.1 h6
  unfold isS
  rw [Bool.and_eq_true, decide_eq_true_eq, decide_eq_true_eq]
  show _ ↔ (tkn n c s.1).1 = 5 ∧ (tkn n c s.1).2.1 = nI j
  rw [hk.2.1]
  constructor
  · intro ⟨z1, z2⟩
    refine ⟨z1, ?_⟩
    rw [hk.2.2.2.2.2.1 z1] at z2
    obtain ⟨i, hi, ei⟩ := sgn_lt (n := n) (c := c) (by rw [← lx.1]; exact z1)
    rw [lx.2.1, ei] at z2 ⊢
    rw [sgX_inj i j hi hj z2]
  · intro ⟨z1, z2⟩
    exact ⟨z1, by rw [hk.2.2.2.2.2.1 z1, z2]⟩
theorem y_isK (j : Int32) (dg : Int32 → List Int32) (h : xTz M a n c s) : (gi M a 3 = 2 ∧ gi M a 6 = j) ↔ isK (zOf n c dg) j s = true := by
  obtain ⟨⟨lp, hk, hlp⟩, -⟩ := h
  unfold isK
  rw [Bool.and_eq_true, decide_eq_true_eq, decide_eq_true_eq]
  show _ ↔ (tkn n c s.1).1 = 2 ∧ (tkn n c s.1).2.1 = j
  rw [hk.2.1]
  constructor
  · intro ⟨z1, z2⟩
    exact ⟨z1, by rw [← hk.2.2.2.2.1 z1]; exact z2⟩
  · intro ⟨z1, z2⟩
    exact ⟨z1, by rw [hk.2.2.2.2.1 z1]; exact z2⟩
/-- a Fault is thrown -/
def ftO (a : Nat) (M : zM) (w : Nat × Nat) (o : zO) (M' : zM) : Prop := fO (tkP a) M (w.1 + 8 * w.2) o M' ∧ zsz M' = zsz M + 1 ∧ zsu M' = zsu M + 7
theorem nxt_eq {dg : Int32 → List Int32} (h1 : ¬ ((tkn n c s.1).1 = 1 ∨ (tkn n c s.1).1 = 4)) : (if (tkn n c (s.1 + 1)).1 = 6 then (.error (1, (tkn n c (s.1 + 1)).2.2.2.2) : pR Unit) else .ok ((), (s.1 + 1, tkL n c s.2.1 (tkn n c s.1), s.2.2))) = nxt' (zOf n c dg) s := by
  unfold nxt'
  show _ = if (tkn n c (s.1 + 1)).1 = 6 then _ else _
  unfold tkL
  rw [if_neg h1]
  rfl
/-- next, at what is no name -/
theorem y_nxt {dg : Int32 → List Int32} (h : xTz M a n c s) (hg : tkg (tkn n c s.1)) (h1 : ¬ ((tkn n c s.1).1 = 1 ∨ (tkn n c s.1).1 = 4)) (hy : ∀ s', nxt' (zOf n c dg) s = .ok ((), s') → ∀ M', fr (tkP a) M M' → xTz M' a n c s' → Q (.inl none) M') (hn : ∀ w, nxt' (zOf n c dg) s = .error w → ∀ o M', ftO a M w o M' → Q o M') : Z E YX10_next (d + 9) M [(0, vr (some (a, 9, 0)))] 0 [] Q := by
  have e := nxt_eq (dg := dg) h1
  refine y_nx h hg (fun z M' f x => hy _ ?_ M' f x) (fun z o M' f g => hn (1, (tkn n c (s.1 + 1)).2.2.2.2) ?_ o M' ⟨f, g⟩)
  · rw [← e, if_neg z]
  · rw [← e, if_pos z]
/-- need -/
theorem y_need {dg : Int32 → List Int32} {j : Nat} (hj : j < 48) (h : xTz M a n c s) (hy : ∀ s', nedS (zOf n c dg) (nI j) s = .ok ((), s') → ∀ M', fr (tkP a) M M' → xTz M' a n c s' → Q (.inl none) M') (hn : ∀ w, nedS (zOf n c dg) (nI j) s = .error w → ∀ o M', ftO a M w o M' → Q o M') : Z E YX10_need (d + 11) M [(0, vr (some (a, 9, 0))), (1, vi (sgX (nI j)))] 0 [] Q := by
  have hb := y_isS hj dg h
  unfold nedS at hy hn
  refine sX10_need_0 M a _ ?_
  refine iX10_takes_0 M a _ ?_
  by_cases hs : isS (zOf n c dg) (nI j) s = true
  · rw [if_pos hs] at hy hn
    obtain ⟨z1, z2⟩ := hb.mpr hs
    rw [if_pos z1, if_pos z2]
    have k5 : (tkn n c s.1).1 = 5 := by obtain ⟨⟨lp, hk, -⟩, -⟩ := h; rw [← hk.2.1]; exact z1
    refine y_nxt (dg := dg) h ⟨by rw [k5]; decide, by rw [k5]; decide⟩ (by rw [k5]; decide) (fun s' e M' f x => ?_) (fun w e o M' f => ?_)
    · show Z E YX10_takes (d + 9 + 1) M' [] 14 [] _
      refine sX10_takes_14 M' ?_
      show Z E YX10_need (d + 10 + 1) M' [(0, vr (some (a, 9, 0)))] 5 [vi 1] Q
      refine sX10_need_5 M' a _ ?_
      rw [if_neg (by decide)]
      exact hy s' e M' f x
    · obtain ⟨q, rfl, q2, q3, q4⟩ := f.1
      show ZT E YX10_takes (d + 9 + 1) M' [] 11 (q, 12, 0) _
      refine ZT.out (nohand rfl) ?_
      show ZT E YX10_need (d + 10 + 1) M' [(0, vr (some (a, 9, 0)))] 2 (q, 12, 0) Q
      exact ZT.out (nohand rfl) (hn w e _ M' f)
  · rw [if_neg hs] at hy hn
    have z0 : ¬ (gi M a 3 = 5 ∧ gi M a 6 = sgX (nI j)) := fun z => hs (hb.mp z)
    have go : zafter E YX10_need (d + 10 + 1) [(0, vr (some (a, 9, 0)))] 2 3 [] Q (.inl (some (vi 0))) M := by
      show Z E YX10_need (d + 10 + 1) M [(0, vr (some (a, 9, 0)))] 5 [vi 0] Q
      refine sX10_need_5 M a _ ?_
      rw [if_pos rfl]
      obtain ⟨⟨lp, hk, -⟩, -, -, -, -, -, -, hz⟩ := id h
      refine x_fault (d := d + 4) (k := 2) (by omega) hk.1.2.2.1.2.1 hk.2.2.1 (fun M' f g1 g2 g3 => ?_)
      show Z E YX10_need (d + 10 + 1) M' [] 13 [vr (some (zsz M, 12, 0))] Q
      refine sX10_need_13 M' _ ⟨zsz M, rfl, ?_⟩
      exact hn (2, (tkn n c s.1).2.2.2.2) rfl _ M' ⟨⟨zsz M, rfl, g1, ⟨Nat.le_refl _, by omega⟩, f.mono fun _ _ _ z => z.elim⟩, g2, g3⟩
    by_cases z1 : gi M a 3 = 5
    · rw [if_pos z1, if_neg (fun z2 => z0 ⟨z1, z2⟩)]; exact go
    · rw [if_neg z1]; exact go
end
