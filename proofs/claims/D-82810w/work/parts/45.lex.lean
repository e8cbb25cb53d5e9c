/-! THE TOKENS, purely: c is the tape's sign at each place, n how many there are -/
def bI (b : Bool) : Int32 := if b then 1 else 0
theorem bI_t : bI true = 1 := rfl
theorem bI_f : bI false = 0 := rfl
def lxL (c : Int32) : Bool := (decide (97 ≤ c) && decide (c ≤ 122)) || (decide (65 ≤ c) && decide (c ≤ 90)) || decide (c = 95) || decide (c = 36)
def lxD (c : Int32) : Bool := decide (48 ≤ c) && decide (c ≤ 57)
def lxI (c : Int32) : Bool := lxL c || lxD c
/-- the first place from p on where P holds, f places further at most -/
def lxG (P : Nat → Bool) : Nat → Nat → Nat
  | 0, p => p
  | f + 1, p => if P p then p else lxG P f (p + 1)
abbrev lxF (n : Nat) (P : Nat → Bool) (p : Nat) : Nat := lxG P (n - p) p
theorem lxF_end {n : Nat} {P : Nat → Bool} {p : Nat} (h : n ≤ p) : lxF n P p = p := by
  unfold lxF; rw [Nat.sub_eq_zero_of_le h]; rfl
theorem lxF_yes {n : Nat} {P : Nat → Bool} {p : Nat} (h : P p = true) : lxF n P p = p := by
  unfold lxF
  cases n - p with
  | zero => rfl
  | succ f => unfold lxG; rw [if_pos h]
theorem lxF_no {n : Nat} {P : Nat → Bool} {p : Nat} (hp : p < n) (h : P p = false) : lxF n P p = lxF n P (p + 1) := by
  unfold lxF
  rw [show n - p = (n - (p + 1)) + 1 by omega]
  rw [show lxG P ((n - (p + 1)) + 1) p = if P p then p else lxG P (n - (p + 1)) (p + 1) from rfl, h]
  rfl
theorem lxF_ge (n : Nat) (P : Nat → Bool) : ∀ (f p : Nat), n - p = f → p ≤ lxF n P p
  | 0, p, h => by rw [lxF_end (by omega)]; exact Nat.le_refl _
  | f + 1, p, h => by
    by_cases hP : P p = true
    · rw [lxF_yes hP]; exact Nat.le_refl _
    · rw [lxF_no (by omega) (by simpa using hP)]
      have := lxF_ge n P f (p + 1) (by omega)
      omega
theorem lxF_le (n : Nat) (P : Nat → Bool) : ∀ (f p : Nat), n - p = f → p ≤ n → lxF n P p ≤ n
  | 0, p, h, hp => by rw [lxF_end (by omega)]; exact hp
  | f + 1, p, h, hp => by
    by_cases hP : P p = true
    · rw [lxF_yes hP]; exact hp
    · rw [lxF_no (by omega) (by simpa using hP)]
      exact lxF_le n P f (p + 1) (by omega) (by omega)
theorem lxF_lt {n : Nat} {P : Nat → Bool} {p : Nat} (hp : p < n) (h : P p = false) : p < lxF n P p := by
  rw [lxF_no hp h]
  have := lxF_ge n P _ (p + 1) rfl
  omega
/-- between p and the first place that P holds at, P holds nowhere -/
theorem lxF_in (n : Nat) (P : Nat → Bool) : ∀ (f p k : Nat), n - p = f → p ≤ k → k < lxF n P p → P k = false ∧ k < n
  | 0, p, k, h, h1, h2 => by rw [lxF_end (by omega)] at h2; omega
  | f + 1, p, k, h, h1, h2 => by
    by_cases hP : P p = true
    · rw [lxF_yes hP] at h2; omega
    · have hP' : P p = false := by simpa using hP
      rw [lxF_no (by omega) hP'] at h2
      by_cases e : k = p
      · rw [e]; exact ⟨hP', by omega⟩
      · exact lxF_in n P f (p + 1) k (by omega) (by omega) h2
/-- where it ends within n, P holds -/
theorem lxF_hit (n : Nat) (P : Nat → Bool) : ∀ (f p : Nat), n - p = f → lxF n P p < n → P (lxF n P p) = true
  | 0, p, h, h2 => by rw [lxF_end (by omega)] at h2; omega
  | f + 1, p, h, h2 => by
    by_cases hP : P p = true
    · rw [lxF_yes hP]; exact hP
    · have e := lxF_no (n := n) (show p < n by omega) (show P p = false by simpa using hP)
      rw [e] at h2 ⊢
      exact lxF_hit n P f (p + 1) (by omega) h2
/-- lines ended from a on, k signs -/
def lxN (c : Nat → Int32) : Nat → Nat → Nat
  | 0, _ => 0
  | k + 1, a => (if c a = 10 then 1 else 0) + lxN c k (a + 1)
def lxC (c : Nat → Int32) (k : Nat) : Bool := decide (c k = 42) && decide (c (k + 1) = 47)
def lxB (c : Nat → Int32) (k : Nat) : Bool := decide (c k = 10)
/-- blanks and comments from p on, at line l: the place, the line, whether every comment ends -/
def lxS (n : Nat) (c : Nat → Int32) : Nat → Nat → Nat → Nat × Nat × Bool
  | 0, p, l => (p, l, true)
  | f + 1, p, l =>
    if n ≤ p then (p, l, true)
    else if c p = 10 then lxS n c f (p + 1) (l + 1)
    else if c p = 9 ∨ c p = 32 then lxS n c f (p + 1) l
    else if c p = 47 ∧ c (p + 1) = 47 then lxS n c f (lxF n (lxB c) p) l
    else if c p = 47 ∧ c (p + 1) = 42 then
      (if n ≤ lxF n (lxC c) (p + 2) then (p, l, false) else lxS n c f (lxF n (lxC c) (p + 2) + 2) (l + lxN c (lxF n (lxC c) (p + 2) - (p + 2)) (p + 2)))
    else (p, l, true)
/-- signs from p on, k of them -/
def lxW (c : Nat → Int32) (p k : Nat) : List Int32 := (List.range k).map fun i => c (p + i)
theorem lxW_len (c : Nat → Int32) (p k : Nat) : (lxW c p k).length = k := by unfold lxW; rw [List.length_map, List.length_range]
theorem lxW_get {c : Nat → Int32} {p k i : Nat} (h : i < k) : (lxW c p k).getD i 0 = c (p + i) := by
  unfold lxW
  rw [List.getD_eq_getElem?_getD, List.getElem?_map, List.getElem?_range h]
  rfl
/-- a number's worth -/
def lxV (c : Nat → Int32) : Nat → Nat → Nat → Int64 → Int64
  | 0, _, _, v => v
  | k + 1, p, i, v => lxV c k (p + 1) (i + 1) (if i < 10 then (10 : Int64) * v + (c p).toInt64 - 48 else v)
def lxE (x : Int32) : Bool := decide (x = 110) || decide (x = 116) || decide (x = 92) || decide (x = 39) || decide (x = 34)
/-- a string's signs from p on, m of them so far: the place of its end, how many, whether they are good -/
def lxQ (n : Nat) (c : Nat → Int32) (q : Int32) : Nat → Nat → Nat → Nat × Nat × Bool
  | 0, p, m => (p, m, true)
  | f + 1, p, m =>
    if n ≤ p then (p, m, true)
    else if c p = q then (p, m, true)
    else if c p = 92 then (if p + 1 < n ∧ lxE (c (p + 1)) = true then lxQ n c q f (p + 2) (m + 1) else (p + 2, m + 1, false))
    else if 32 ≤ c p ∧ c p ≤ 126 then lxQ n c q f (p + 1) (m + 1) else (p + 1, m + 1, false)
/-- the keywords -/
def lxK : List (List Int32) := (xwords (zsbyt.getD 1 []) [] []).1
/-- the signs, as the component and as the twin numbers them -/
def lxGx : List (List Int32) := (xwords (zsbyt.getD 2 []) [] []).1
def lxGt : List (List Int32) := (xwords (zsbyt.getD 4 []) [] []).1
theorem lxK_ok : lxK.length = 29 ∧ lxGx.length = 48 ∧ lxGt.length = 48 ∧ (∀ x ∈ lxK, x.length ≤ 10 ∧ 1 ≤ x.length) := by decide +kernel
/-- a word of signs stands at p -/
def lxA (n : Nat) (c : Nat → Int32) (p : Nat) (w : List Int32) : Bool := decide (p + w.length ≤ n) && decide (lxW c p w.length = w)
/-- the first of the words, from the j-th on, that stands at p -/
def lxT : List (List Int32) → Nat → Nat → (Nat → Int32) → Nat → Option (Nat × Nat)
  | [], _, _, _, _ => none
  | w :: r, j, n, c, p => if lxA n c p w then some (j, w.length) else lxT r (j + 1) n c p
/-- a token: its kind, which it is, the place behind it -/
def lxO (n : Nat) (c : Nat → Int32) (p : Nat) : Int32 × Int32 × Nat :=
  if n ≤ p then (0, 0, p)
  else if lxL (c p) then
    (let e := lxF n (fun k => !(lxI (c k))) p
     let w := tfd 0 lxK (lxW c p (e - p))
     (if 16 < e - p then 6 else if w = -1 then 1 else 2, w, e))
  else if lxD (c p) then
    (let e := lxF n (fun k => !(lxD (c k))) p
     let v := lxV c (e - p) p 0 0
     (if 10 < e - p ∨ 0 < lg_cmp v 2147483647 ∨ (e < n ∧ lxI (c e) = true) then 6 else 3, v.toInt32, e))
  else if c p = 34 ∨ c p = 39 then
    (let r := lxQ n c (c p) n (p + 1) 0
     (if r.2.2 = true ∧ r.1 < n ∧ r.2.1 ≤ 40 then 4 else 6, 0, r.1 + 1))
  else match lxT lxGt 0 n c p with
    | some (j, k) => (5, nI j, p + k)
    | none => (6, 0, p)
/-! what the twin's lexer looks at -/
def tsrc (T : zM) (n : Nat) (c : Nat → Int32) : Prop := gi T 97 4 = nI n ∧ n ≤ 4000 ∧ (∀ k, k < n → gi T 99 k &&& 255 = c k) ∧ ∀ k, n ≤ k → c k = 0
theorem tsrc_fr {T T' : zM} {n : Nat} {c : Nat → Int32} {P : Nat → Nat → Prop} (h : tsrc T n c) (hf : fr P T T') (h1 : ¬ P 97 4) (h2 : ∀ k, ¬ P 99 k) : tsrc T' n c :=
  ⟨(hf.2 97 4 h1).1.trans h.1, h.2.1, fun k hk => by rw [(hf.2 99 k (h2 k)).1]; exact h.2.2.1 k hk, h.2.2.2⟩
theorem nI_lt' {a b : Nat} (h : ¬ a < b) (ha : a < 2 ^ 31) (hb : b < 2 ^ 31) : ¬ nI a < nI b := by
  rw [tI_lt, nI_toInt ha, nI_toInt hb]; omega
section
variable {E : zE} {d : Nat} {M : zM} {Q : zO → zM → Prop}
theorem i_le (a b : Int32) : (¬ a ≤ b) = (b < a) := by rw [tI_le, tI_lt]; simp
theorem i_lt (a b : Int32) : (¬ a < b) = (b ≤ a) := by rw [tI_le, tI_lt]; simp
theorem t_isLetter {c : Int32} (hQ : Q (.inl (some (vi (bI (lxL c))))) M) : Zm E YX8_isLetter d M [(0, vi c)] 0 [] Q := by
  have k24 : lxL c = (decide (c = 95) || decide (c = 36)) → Zm E YX8_isLetter d M [(0, vi c)] 24 [] Q := fun h => by
    refine sX8_isLetter_24 M c ?_
    by_cases h1 : c = 95
    · rw [if_pos h1]; rw [h, decide_eq_true h1] at hQ; exact hQ
    · rw [if_neg h1]
      by_cases h2 : c = 36
      · rw [if_pos h2]; rw [h, decide_eq_false h1, decide_eq_true h2] at hQ; exact hQ
      · rw [if_neg h2]; rw [h, decide_eq_false h1, decide_eq_false h2] at hQ; exact hQ
  have k12 : lxL c = ((decide (65 ≤ c) && decide (c ≤ 90)) || decide (c = 95) || decide (c = 36)) → Zm E YX8_isLetter d M [(0, vi c)] 12 [] Q := fun h => by
    refine sX8_isLetter_12 M c ?_
    by_cases h1 : c < 65
    · rw [if_pos h1]
      refine k24 ?_
      rw [h, decide_eq_false (show ¬ (65 : Int32) ≤ c by rw [i_le]; exact h1)]; rfl
    · rw [if_neg h1]
      have h65 : (65 : Int32) ≤ c := by rw [← i_lt]; exact h1
      by_cases h2 : c ≤ 90
      · rw [if_pos h2]; rw [h, decide_eq_true h65, decide_eq_true h2] at hQ; exact hQ
      · rw [if_neg h2]
        refine k24 ?_
        rw [h, decide_eq_false h2, Bool.and_false, Bool.false_or]
  refine sX8_isLetter_0 M c ?_
  by_cases h1 : c < 97
  · rw [if_pos h1]
    refine k12 ?_
    unfold lxL
    rw [decide_eq_false (show ¬ (97 : Int32) ≤ c by rw [i_le]; exact h1)]; rfl
  · rw [if_neg h1]
    have h97 : (97 : Int32) ≤ c := by rw [← i_lt]; exact h1
    by_cases h2 : c ≤ 122
    · rw [if_pos h2]
      unfold lxL at hQ
      rw [decide_eq_true h97, decide_eq_true h2] at hQ
      exact hQ
    · rw [if_neg h2]
      refine k12 ?_
      unfold lxL
      rw [decide_eq_false h2, Bool.and_false, Bool.false_or]
theorem lxD_3 {P : Int32 → Prop} {c : Int32} (h : P (bI (lxD c))) : if c < 48 then P 0 else if 57 < c then P 0 else P 1 := by
  unfold lxD at h
  by_cases h1 : c < 48
  · rw [if_pos h1]; rw [decide_eq_false (show ¬ (48 : Int32) ≤ c by rw [i_le]; exact h1)] at h; exact h
  · rw [if_neg h1]
    have h48 : (48 : Int32) ≤ c := by rw [← i_lt]; exact h1
    by_cases h2 : 57 < c
    · rw [if_pos h2]; rw [decide_eq_false (show ¬ c ≤ (57 : Int32) by rw [i_le]; exact h2), Bool.and_false] at h; exact h
    · rw [if_neg h2]; rw [decide_eq_true h48, decide_eq_true (show c ≤ (57 : Int32) by rw [← i_lt]; exact h2)] at h; exact h
theorem t_isWordly {n k : Nat} {c : Nat → Int32} (hs : tsrc M n c) (hk : k < 2 ^ 31) (hQ : Q (.inl (some (vi (bI (decide (k < n) && lxI (c k)))))) M) : Zm E YX8_isWordly (d + 1) M [(0, T97), (1, vi (nI k))] 0 [] Q := by
  refine iX8_isWordly_0 M (nI k) ?_
  rw [hs.1]
  have := hs.2.1
  by_cases hkn : k < n
  · rw [if_neg (nI_ge hkn (by omega)), nI_clamp hk, hs.2.2.1 k hkn]
    rw [decide_eq_true hkn, Bool.true_and] at hQ
    refine ⟨nI_in (by omega) (by omega), ?_⟩
    refine t_isLetter ?_
    show Zm E YX8_isWordly (d + 1) M [(0, T97), (1, vi (nI k))] 16 [vi (bI (lxL (c k)))] Q
    refine iX8_isWordly_16 M (nI k) _ ?_
    unfold lxI at hQ
    cases h : lxL (c k) with
    | true => rw [h] at hQ; exact hQ
    | false =>
      rw [h, Bool.false_or] at hQ
      rw [bI_f, if_pos rfl, hs.1, if_neg (nI_ge hkn (by omega)), nI_clamp hk, hs.2.2.1 k hkn]
      exact ⟨nI_in (by omega) (by omega), lxD_3 (P := fun x => Q (.inl (some (vi x))) M) hQ⟩
  · rw [if_pos (nI_le (by omega) (by omega))]
    rw [decide_eq_false hkn, Bool.false_and] at hQ
    exact hQ
end
