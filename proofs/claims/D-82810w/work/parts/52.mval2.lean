/-! VALUES of the machine: the twin's numberOf, isTrue, isEqual, compares, unaryOf, binaryOf -/
theorem up2_up2 {α : Type} (f : Nat → Nat → α) (a k : Nat) (v w : α) : up2 (up2 f a k v) a k w = up2 f a k w := by
  funext b j
  unfold up2
  by_cases h : b = a
  · by_cases h2 : j = k
    · simp [h, h2]
    · simp [h, h2]
  · simp [h]
theorem si_si (M : zM) (a k : Nat) (v w : Int32) : si (si M a k v) a k w = si M a k w := by
  unfold si
  rw [up2_up2]
theorem up2_id {α : Type} (f : Nat → Nat → α) (a k : Nat) : up2 f a k (f a k) = f := by
  funext b j
  unfold up2
  by_cases h : b = a
  · by_cases h2 : j = k
    · simp [h, h2]
    · simp [h2]
  · simp [h]
theorem si_id (M : zM) (a k : Nat) : si M a k (gi M a k) = M := by
  show (M.1, up2 M.2.1 a k (M.2.1 a k), M.2.2.1, M.2.2.2) = M
  rw [up2_id]
theorem tS_113 {T : zM} {L : List (List Int32)} {x : Int32} (h : tS T L) : tS (si T 97 113 x) L := by
  refine ⟨(gi_idx (by decide)).trans h.1, h.2.1, fun s w hs => ?_⟩
  obtain ⟨h1, h2, h3⟩ := h.2.2 s w hs
  exact ⟨(gi_oth (by decide)).trans h1, h2, fun k hk => (gi_oth (by decide)).trans (h3 k hk)⟩
/-- the order of two texts: -1, 0, 1 -/
def mso : List Int32 → List Int32 → Int
  | [], [] => 0
  | [], _ :: _ => -1
  | _ :: _, [] => 1
  | c :: x, e :: y => if c = e then mso x y else if c < e then -1 else 1
/-- the order of two values; none: one is no number -/
def mor (L : List (List Int32)) (s v t w : Int32) : Option Int :=
  if s = 6 ∧ t = 6 then some (mso (mtx L v) (mtx L w))
  else (mnV L s v).bind fun a => (mnV L t w).map fun b => if a < b then -1 else if a = b then 0 else 1
def mct (how : Int32) (o : Int) : Bool := if how = 15 then decide (o < 0) else if how = 16 then decide (0 < o) else if how = 17 then decide (o ≤ 0) else decide (0 ≤ o)
def mcp (L : List (List Int32)) (how s v t w : Int32) : Bool := match mor L s v t w with
  | some o => mct how o
  | none => false
def mo2 : Option Int32 → Option Int32 → Bool
  | some a, some b => decide (a = b)
  | _, _ => false
/-- two numbers worked out by 0 to 4 -/
def mo3 (how : Int32) : Option Int32 → Option Int32 → Int32 × Int32
  | some x, some y => if 2 < how ∧ y = 0 then (4, 0) else (5, if how = 0 then x + y else if how = 1 then x - y else if how = 2 then x * y else if how = 3 then x / y else x - x / y * y)
  | _, _ => (4, 0)
def meq (L : List (List Int32)) (s v t w : Int32) : Bool :=
  if s ≤ 1 ∨ t ≤ 1 then decide (s ≤ 1 ∧ t ≤ 1)
  else if s = 7 ∨ t = 7 ∨ (s = 6 ∧ t = 6) then mSame s v t w
  else mo2 (mnV L s v) (mnV L t w)
def mtv (b : Bool) : Int32 × Int32 := if b then (2, 0) else (3, 0)
def mo1 (how : Int32) : Option Int32 → Int32 × Int32
  | none => (4, 0)
  | some n => if how = 0 then (5, n) else (5, -n)
/-- UNARY 0 to 3 of a value -/
def mun (L : List (List Int32)) (how s v : Int32) : Int32 × Int32 :=
  if how = 3 then mtv (!(mtr L s v))
  else if how = 2 then (5, (mnV L s v).getD 0 ^^^ -1)
  else mo1 how (mnV L s v)
def mbt (how x y : Int32) : Int32 := if how = 5 then x <<< (y &&& 31) else if how = 6 then x >>> (y &&& 31) else if how = 7 then zus x y else if how = 8 then x &&& y else if how = 9 then x ||| y else x ^^^ y
/-- BINARY 0 to 18 of two values, but + of texts -/
def mbi (L : List (List Int32)) (how s v t w : Int32) : Int32 × Int32 :=
  if how < 11 then
    (if how < 5 then mo3 how (mnV L s v) (mnV L t w)
    else (5, mbt how ((mnV L s v).getD 0) ((mnV L t w).getD 0)))
  else if how < 13 then mtv (decide (meq L s v t w = decide (how = 11)))
  else if how < 15 then mtv (decide (mSame s v t w = decide (how = 13)))
  else mtv (mcp L how s v t w)
section
variable {E : zE} {d : Nat} {T : zM} {Q : zO → zM → Prop} {L : List (List Int32)} {ob : Nat}
theorem mtx_at {j : Nat} (hl : L.length ≤ 400) (hj : j < L.length) : mtx L (nI j) = L[j] := by
  unfold mtx
  rw [nn_cl (by omega), List.getD_eq_getElem?_getD, List.getElem?_eq_getElem hj]; rfl
/-- eight sorts -/
theorem m8 {P : Nat → Prop} (h0 : P 0) (h1 : P 1) (h2 : P 2) (h3 : P 3) (h4 : P 4) (h5 : P 5) (h6 : P 6) (h7 : P 7) : ∀ k, k < 8 → P k
  | 0, _ => h0
  | 1, _ => h1
  | 2, _ => h2
  | 3, _ => h3
  | 4, _ => h4
  | 5, _ => h5
  | 6, _ => h6
  | 7, _ => h7
  | k + 8, h => by omega
theorem mnV_0 (v : Int32) : mnV L (nI 0) v = none := by unfold mnV; rw [if_neg (by decide), if_neg (by decide), if_neg (by decide), if_neg (by decide)]
theorem mnV_1 (v : Int32) : mnV L (nI 1) v = some 0 := by unfold mnV; rw [if_neg (by decide), if_neg (by decide), if_neg (by decide), if_pos (by decide)]
theorem mnV_2 (v : Int32) : mnV L (nI 2) v = some 1 := by unfold mnV; rw [if_neg (by decide), if_neg (by decide), if_pos (by decide)]
theorem mnV_3 (v : Int32) : mnV L (nI 3) v = some 0 := by unfold mnV; rw [if_neg (by decide), if_neg (by decide), if_neg (by decide), if_pos (by decide)]
theorem mnV_4 (v : Int32) : mnV L (nI 4) v = none := by unfold mnV; rw [if_neg (by decide), if_neg (by decide), if_neg (by decide), if_neg (by decide)]
theorem mnV_5 (v : Int32) : mnV L (nI 5) v = some v := by unfold mnV; rw [if_pos (by decide)]
theorem mnV_6 (v : Int32) : mnV L (nI 6) v = mnS (mtx L v) := by unfold mnV; rw [if_neg (by decide), if_pos (by decide)]
theorem mnV_7 (v : Int32) : mnV L (nI 7) v = none := by unfold mnV; rw [if_neg (by decide), if_neg (by decide), if_neg (by decide), if_neg (by decide)]
/-- numberOf -/
theorem tm_numV {s v : Int32} (hS : tS T L) (hv : mok L ob s v) (hQ : ∀ x T', x = (mnV L s v).getD 0 → T' = si T 97 113 (bI (mnV L s v).isSome) → Q (.inl (some (vi x))) T') : Zm E YX8_numberOf (d + 2) T [(0, T97), (1, vi s), (2, vi v)] 0 [] Q := by
  obtain ⟨k, rfl, hk, h6, h7⟩ := hv
  by_cases k6 : k = 6
  · subst k6
    refine sX8_numberOf_0 T _ v ?_
    rw [if_neg (by decide), if_neg (by decide), if_neg (by decide)]
    refine sX8_numberOf_21 T _ _ _ ⟨⟨rfl, rfl⟩, ?_⟩
    rw [if_neg (by decide), if_pos (by decide)]
    obtain ⟨j, rfl, hj⟩ := h6 rfl
    have e : mnV L (nI 6) (nI j) = mnS L[j] := by rw [mnV_6, mtx_at hS.2.1 hj]
    refine tm_numS (tS_113 hS) (List.getElem?_eq_getElem hj) ?_
    show Zm E YX8_numberOf (d + 2) _ [] 42 [vi _] Q
    refine sX8_numberOf_42 _ _ ?_
    exact hQ _ _ (by rw [e]) (by rw [si_si, e])
  · have hc : k = 0 ∨ k = 1 ∨ k = 2 ∨ k = 3 ∨ k = 4 ∨ k = 5 ∨ k = 7 := by omega
    rcases hc with rfl | rfl | rfl | rfl | rfl | rfl | rfl <;>
    · refine sX8_numberOf_0 T _ v ?_
      repeat (first | rw [if_pos (by decide)] | rw [if_neg (by decide)])
      refine sX8_numberOf_21 T _ _ _ ⟨⟨rfl, rfl⟩, ?_⟩
      repeat (first | rw [if_pos (by decide)] | rw [if_neg (by decide)])
      exact hQ _ _ (by simp only [mnV_0, mnV_1, mnV_2, mnV_3, mnV_4, mnV_5, mnV_7]; rfl) (by simp only [mnV_0, mnV_1, mnV_2, mnV_3, mnV_4, mnV_5, mnV_7]; rfl)
/-- isTrue -/
theorem tm_true {s v : Int32} (hS : tS T L) (hv : mok L ob s v) (hQ : Q (.inl (some (vi (bI (mtr L s v))))) T) : Zm E YX8_isTrue d T [(0, T97), (1, vi s), (2, vi v)] 0 [] Q := by
  obtain ⟨k, rfl, hk, h6, h7⟩ := hv
  refine sX8_isTrue_0 T _ v ?_
  unfold mtr at hQ
  by_cases k5 : nI k = 5
  · rw [if_pos k5] at hQ ⊢
    by_cases hv0 : v = 0
    · rw [if_pos hv0]; rw [decide_eq_false (by simpa using hv0)] at hQ; exact hQ
    · rw [if_neg hv0]; rw [decide_eq_true hv0] at hQ; exact hQ
  rw [if_neg k5] at hQ ⊢
  by_cases k6 : nI k = 6
  · rw [if_pos k6] at hQ ⊢
    have : k = 6 := by rw [nn_eql (by omega) (by omega)] at k6; exact k6
    obtain ⟨j, rfl, hj⟩ := h6 this
    have h400 := hS.2.1
    obtain ⟨x1, x2, -⟩ := hS.2.2 j L[j] (List.getElem?_eq_getElem hj)
    rw [mtx_at hS.2.1 hj] at hQ
    simp (disch := omega) only [x1, nn_add, nn_addl, nn_ladd, nn_mul, nn_lmul, nn_mull, nn_sub, nn_subl, nn_lsub, nn_lt, nn_le, nn_eq, nn_ltl, nn_llt, nn_lel, nn_lle, nn_eql, nn_leq, nn_m1, nn_1m, nn_ltm, nn_mlt, nn_mle, nn_lem, nn_cl, nn_in, nn_ns, nn_ns2, nn_nb, nn_nb2, nn_s1, nn_s2, nn_b1, nn_b2]
    refine ⟨by omega, ?_⟩
    by_cases h0 : L[j].length ≤ 0
    · rw [if_pos h0]; rw [decide_eq_false (by omega)] at hQ; exact hQ
    · rw [if_neg h0]; rw [decide_eq_true (by omega)] at hQ; exact hQ
  rw [if_neg k6] at hQ ⊢
  by_cases k2 : nI k = 2
  · rw [if_pos k2]; rw [decide_eq_true (Or.inl k2)] at hQ; exact hQ
  rw [if_neg k2]
  by_cases k7 : nI k = 7
  · rw [if_pos k7]; rw [decide_eq_true (Or.inr k7)] at hQ; exact hQ
  · rw [if_neg k7]; rw [decide_eq_false (fun h => h.elim k2 k7)] at hQ; exact hQ
/-- isSame -/
theorem tm_same {s v t w : Int32} (hQ : Q (.inl (some (vi (bI (mSame s v t w))))) T) : Zm E YX8_isSame d T [(0, vi s), (1, vi v), (2, vi t), (3, vi w)] 0 [] Q := by
  refine sX8_isSame_0 T _ _ _ _ ?_
  unfold mSame at hQ
  by_cases h1 : s = t
  · rw [if_pos h1]; rw [decide_eq_true h1, Bool.true_and] at hQ
    by_cases h2 : s = 4
    · rw [if_pos h2]; rw [decide_eq_true h2] at hQ; exact hQ
    · rw [if_neg h2]; rw [decide_eq_false h2, Bool.not_false, Bool.true_and] at hQ
      by_cases h3 : s < 5
      · rw [if_pos h3]; rw [decide_eq_true h3] at hQ; exact hQ
      · rw [if_neg h3]; rw [decide_eq_false h3, Bool.false_or] at hQ
        by_cases h4 : v = w
        · rw [if_pos h4]; rw [decide_eq_true h4] at hQ; exact hQ
        · rw [if_neg h4]; rw [decide_eq_false h4] at hQ; exact hQ
  · rw [if_neg h1]; rw [decide_eq_false h1] at hQ; exact hQ
end
