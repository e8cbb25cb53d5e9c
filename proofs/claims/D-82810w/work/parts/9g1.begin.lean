/-! THE FIRST HEAP: what both machines begin with -/
def nproto (k : Nat) : Int32 := if k = 1 then -1 else if k < 6 then 1 else if k < 9 then 5 else 2
/-- the twin's cells after n births -/
def bT (T : zM) (n : Nat) : zM := (T.1, (fun a k =>
  if a = 97 ∧ k = 76 then nI n else if a = 97 ∧ (k = 84 ∨ k = 85 ∨ k = 86) then 0
  else if a = 149 ∧ k < 3000 then nI (k + 1)
  else if a = 138 ∧ k < n then nI k else if a = 139 ∧ k < n then nproto k
  else if (a = 140 ∨ a = 143 ∨ a = 144) ∧ k < n then -1
  else if a = 141 ∧ k < n then (if 9 ≤ k then 1 else 0)
  else if a = 142 ∧ k < n then 0 else gi T a k), T.2.2)
theorem bT_at (T : zM) (n a k : Nat) : gi (bT T n) a k = if a = 97 ∧ k = 76 then nI n else if a = 97 ∧ (k = 84 ∨ k = 85 ∨ k = 86) then 0
  else if a = 149 ∧ k < 3000 then nI (k + 1)
  else if a = 138 ∧ k < n then nI k else if a = 139 ∧ k < n then nproto k
  else if (a = 140 ∨ a = 143 ∨ a = 144) ∧ k < n then -1
  else if a = 141 ∧ k < n then (if 9 ≤ k then 1 else 0)
  else if a = 142 ∧ k < n then 0 else gi T a k := rfl
theorem bT_138 (T : zM) {n k : Nat} (h : k < n) : gi (bT T n) 138 k = nI k ∧ gi (bT T n) 139 k = nproto k ∧ gi (bT T n) 140 k = -1 ∧ gi (bT T n) 141 k = (if 9 ≤ k then 1 else 0) ∧ gi (bT T n) 142 k = 0 ∧ gi (bT T n) 143 k = -1 ∧ gi (bT T n) 144 k = -1 := by
  simp [bT_at, h]
theorem bT_new {T T1 T' : zM} {n : Nat} (hn : n < 23) (e : ∀ a k, hpT a k → gi T1 a k = gi (bT T n) a k) (h : newT T1 T' n (nproto n) n (if 9 ≤ n then 1 else 0)) : ∀ a k, hpT a k → gi T' a k = gi (bT T (n + 1)) a k := by
  obtain ⟨n0, n1, n2, n3, n4, n5, n6, n7, n8⟩ := h
  intro a k q
  have lt : ∀ {m : Nat}, ¬ m = n → (m < n + 1 ↔ m < n) := fun {m} hm => by omega
  by_cases c0 : a = 97 ∧ k = 76
  · rw [c0.1, c0.2, n0, bT_at, if_pos ⟨rfl, rfl⟩]
  have big : ∀ b, b = 138 ∨ b = 139 ∨ b = 140 ∨ b = 141 ∨ b = 142 ∨ b = 143 ∨ b = 144 → a = b → k = n ∨ (¬ k = n ∧ gi (bT T (n + 1)) b k = gi (bT T n) b k) := fun b hb _ => by
    by_cases hk : k = n
    · exact .inl hk
    · refine .inr ⟨hk, ?_⟩
      rw [bT_at, bT_at]
      have h97 : ¬ b = 97 := by omega
      simp only [h97, lt hk, false_and, if_false]
  by_cases c1 : a = 138
  · subst c1
    rw [n1]
    rcases big 138 (by omega) rfl with hk | ⟨hk, e2⟩
    · rw [if_pos hk, hk, (bT_138 T (by omega)).1]
    · rw [if_neg hk, if_neg (fun z => by omega), e2]; exact e 138 k q
  by_cases c2 : a = 139
  · subst c2
    rw [n2]
    rcases big 139 (by omega) rfl with hk | ⟨hk, e2⟩
    · rw [if_pos hk, hk, (bT_138 T (by omega)).2.1]
    · rw [if_neg hk, e2]; exact e 139 k q
  by_cases c3 : a = 140
  · subst c3
    rw [n3]
    rcases big 140 (by omega) rfl with hk | ⟨hk, e2⟩
    · rw [if_pos hk, hk, (bT_138 T (by omega)).2.2.1]
    · rw [if_neg hk, e2]; exact e 140 k q
  by_cases c4 : a = 141
  · subst c4
    rw [n4]
    rcases big 141 (by omega) rfl with hk | ⟨hk, e2⟩
    · rw [if_pos hk, hk, (bT_138 T (by omega)).2.2.2.1]
    · rw [if_neg hk, e2]; exact e 141 k q
  by_cases c5 : a = 142
  · subst c5
    rw [n5]
    rcases big 142 (by omega) rfl with hk | ⟨hk, e2⟩
    · rw [if_pos hk, hk, (bT_138 T (by omega)).2.2.2.2.1]
    · rw [if_neg hk, e2]; exact e 142 k q
  by_cases c6 : a = 143
  · subst c6
    rw [n6]
    rcases big 143 (by omega) rfl with hk | ⟨hk, e2⟩
    · rw [if_pos hk, hk, (bT_138 T (by omega)).2.2.2.2.2.1]
    · rw [if_neg hk, e2]; exact e 143 k q
  by_cases c7 : a = 144
  · subst c7
    rw [n7]
    rcases big 144 (by omega) rfl with hk | ⟨hk, e2⟩
    · rw [if_pos hk, hk, (bT_138 T (by omega)).2.2.2.2.2.2]
    · rw [if_neg hk, e2]; exact e 144 k q
  rw [(n8.2 a k (by omega)).1, e a k q, bT_at, bT_at]
  simp only [c0, c1, c2, c3, c4, c5, c6, c7, false_and, if_false, false_or]
/-- the heap after all births -/
def nA0 (T : zM) (L : List (List Int32)) : mA := (bT T 23, L, 23, (fun _ => []), List.range' 0 3000)
theorem chn_range (nx : Nat → Int32) : ∀ (m n : Nat), (∀ k, k < m + n → nx k = nI (k + 1)) → chn nx (nI (m + n)) (nI m) (List.range' m n)
  | m, 0, _ => rfl
  | m, n + 1, h => by
    show nI m = nI m ∧ chn nx (nI (m + (n + 1))) (nx m) (List.range' (m + 1) n)
    refine ⟨rfl, ?_⟩
    rw [h m (by omega), show m + (n + 1) = m + 1 + n by omega]
    exact chn_range nx (m + 1) n (fun k hk => h k (by omega))
theorem nproto_chn {nx : Nat → Int32} (h : ∀ k, k < 23 → nx k = nproto k) {o : Nat} (ho : o < 23) : ∃ l, chn nx (-1) (nI o) l ∧ ∀ q ∈ l, q < 23 := by
  have h1 : chn nx (-1) (nI 1) [1] := ⟨rfl, h 1 (by omega)⟩
  have e1 : ∀ k, k < 23 → ¬ k = 1 → k < 6 → chn nx (-1) (nI k) [k, 1] := fun k hk a b => ⟨rfl, by
    show chn nx (-1) (nx k) [1]
    rw [h k hk, show nproto k = nI 1 by unfold nproto; rw [if_neg a, if_pos b]; rfl]; exact h1⟩
  by_cases c1 : o = 1
  · exact ⟨[1], by rw [c1]; exact h1, by simp⟩
  by_cases c2 : o < 6
  · exact ⟨[o, 1], e1 o ho c1 c2, by simp; omega⟩
  by_cases c3 : o < 9
  · refine ⟨[o, 5, 1], ⟨rfl, ?_⟩, by simp; omega⟩
    show chn nx (-1) (nx o) [5, 1]
    rw [h o ho, show nproto o = nI 5 by unfold nproto; rw [if_neg c1, if_neg c2, if_pos c3]; rfl]; exact e1 5 (by omega) (by omega) (by omega)
  · refine ⟨[o, 2, 1], ⟨rfl, ?_⟩, by simp; omega⟩
    show chn nx (-1) (nx o) [2, 1]
    rw [h o ho, show nproto o = nI 2 by unfold nproto; rw [if_neg c1, if_neg c2, if_neg c3]; rfl]; exact e1 2 (by omega) (by omega) (by omega)
theorem nA0_iA (T : zM) {L : List (List Int32)} (hL : mLok L) : iA (nA0 T L) := by
  refine ⟨⟨⟨?_, by show 23 ≤ 300; omega⟩, ⟨?_, ?_, ?_, ?_, ?_⟩, fun o ho => ⟨?_, ?_, List.nodup_nil, ⟨fun q hq => absurd hq List.not_mem_nil, fun _ _ _ q hq => absurd hq List.not_mem_nil⟩⟩⟩, hL, fun o _ q hq => absurd hq List.not_mem_nil, fun o ho => ?_⟩
  · show gi (bT T 23) 97 76 = nI 23
    rw [bT_at, if_pos ⟨rfl, rfl⟩]
  · show gi (bT T 23) 97 84 = nI (3000 - (List.range' 0 3000).length)
    rw [List.length_range', bT_at, if_neg (by omega), if_pos (by omega)]; rfl
  · show (List.range' 0 3000).length ≤ 3000
    rw [List.length_range']; omega
  · show chn (gi (bT T 23) 149) (nI 3000) (gi (bT T 23) 97 85) (List.range' 0 3000)
    rw [show gi (bT T 23) 97 85 = nI 0 by rw [bT_at, if_neg (by omega), if_pos (by omega)]; rfl]
    exact chn_range _ 0 3000 (fun k hk => by rw [bT_at, if_neg (by omega), if_neg (by omega), if_pos (by omega)])
  · intro q hq
    have := List.mem_range'_1.mp hq
    omega
  · exact List.nodup_range'
  · exact (bT_138 T ho).2.2.2.2.2.1
  · exact (bT_138 T ho).2.2.2.2.2.2
  · exact nproto_chn (fun k hk => (bT_138 T hk).2.1) ho
/-- what is set then: object, name, sort, number -/
def nsets : List (Nat × Nat × Nat × Nat) := [(0, 5, 7, 9), (0, 6, 7, 10), (0, 7, 7, 11), (0, 8, 7, 12), (0, 9, 7, 13), (0, 10, 7, 14), (0, 11, 7, 15), (0, 12, 7, 16), (0, 13, 7, 17),
  (1, 2, 7, 10), (1, 17, 7, 21), (2, 16, 7, 20), (3, 2, 7, 11), (3, 14, 7, 18), (3, 15, 7, 19), (4, 2, 7, 12), (4, 18, 7, 22),
  (5, 2, 7, 14), (5, 4, 6, 10), (6, 2, 7, 15), (6, 4, 6, 11), (7, 2, 7, 16), (7, 4, 6, 12), (8, 2, 7, 17), (8, 4, 6, 13),
  (10, 1, 7, 1), (11, 1, 7, 3), (12, 1, 7, 4), (14, 1, 7, 5), (15, 1, 7, 6), (16, 1, 7, 7), (17, 1, 7, 8)]
def nA (T : zM) (L : List (List Int32)) : Nat → mA
  | 0 => nA0 T L
  | j + 1 => (a_set (nA T L j) (nsets.getD j (0, 0, 0, 0)).1 (nI (nsets.getD j (0, 0, 0, 0)).2.1) (nI (nsets.getD j (0, 0, 0, 0)).2.2.1) (nI (nsets.getD j (0, 0, 0, 0)).2.2.2)).2
theorem nsets_ok : ∀ j, j < 32 → (nsets.getD j (0, 0, 0, 0)).1 < 23 ∧ (nsets.getD j (0, 0, 0, 0)).2.1 < 31 ∧ ((nsets.getD j (0, 0, 0, 0)).2.2.1 = 6 ∨ (nsets.getD j (0, 0, 0, 0)).2.2.1 = 7) ∧ (nsets.getD j (0, 0, 0, 0)).2.2.2 < 23 := by decide +kernel
theorem a_set_room {A : mA} {o : Nat} {x s v : Int32} (h : aF A ≠ []) : ∃ A', a_set A o x s v = (true, A') ∧ (aF A).length ≤ (aF A').length + 1 := by
  unfold a_set
  by_cases c : fnd (gi (aT A) 145) x (aP A o) = -1
  · rw [if_pos c]
    cases e : aF A with
    | nil => exact absurd e h
    | cons p fl => exact ⟨_, rfl, by show (p :: fl).length ≤ fl.length + 1; simp⟩
  · rw [if_neg c]
    exact ⟨_, rfl, Nat.le_add_right ..⟩
/-- what holds of all of them -/
def nOK (T : zM) (L : List (List Int32)) (A : mA) : Prop := iA A ∧ aL A = L ∧ aO A = 23 ∧ ∀ a k, a = 138 ∨ a = 139 ∨ a = 140 ∨ a = 141 ∨ a = 142 → gi (aT A) a k = gi (bT T 23) a k
theorem mval_n {T : zM} {L : List (List Int32)} {A : mA} (h : nOK T L A) (hL : mLok L) {s v : Nat} (hs : s = 6 ∨ s = 7) (hv : v < 23) : mval A (nI s) (nI v) := by
  obtain ⟨h1, h2, h3, h4⟩ := h
  refine ⟨⟨s, rfl, by omega, fun _ => ⟨v, rfl, by rw [h2]; have := hL.1; omega⟩, fun _ => ⟨v, rfl, by omega⟩⟩, fun _ => ⟨v, rfl, by omega, ?_⟩⟩
  rw [h4 141 v (by omega), (bT_138 T hv).2.2.2.1]
  by_cases c : 9 ≤ v
  · rw [if_pos c]; decide
  · rw [if_neg c]; decide
theorem nA_ok (T : zM) {L : List (List Int32)} (hL : mLok L) : ∀ j, j ≤ 32 → nOK T L (nA T L j) ∧ 3000 - j ≤ (aF (nA T L j)).length
  | 0, _ => ⟨⟨nA0_iA T hL, rfl, rfl, fun _ _ _ => rfl⟩, by show 3000 - 0 ≤ (List.range' 0 3000).length; rw [List.length_range']; omega⟩
  | j + 1, hj => by
    obtain ⟨⟨i, e1, e2, e3⟩, hl⟩ := nA_ok T hL j (by omega)
    obtain ⟨q1, q2, q3, q4⟩ := nsets_ok j (by omega)
    obtain ⟨A', ea, hl'⟩ := a_set_room (A := nA T L j) (o := (nsets.getD j (0, 0, 0, 0)).1) (x := nI (nsets.getD j (0, 0, 0, 0)).2.1) (s := nI (nsets.getD j (0, 0, 0, 0)).2.2.1) (v := nI (nsets.getD j (0, 0, 0, 0)).2.2.2) (fun z => by rw [z] at hl; simp at hl; omega)
    have en : nA T L (j + 1) = A' := by show (a_set _ _ _ _ _).2 = A'; rw [ea]
    obtain ⟨i', f1, f2, f3⟩ := iA_set i (by rw [e2]; exact q1) (by rw [e1]; have := hL.1; omega) (mval_n ⟨i, e1, e2, e3⟩ hL q3 q4) ea
    rw [en]
    exact ⟨⟨i', f1.trans e1, f2.trans e2, fun a k h => (f3 a k h).trans (e3 a k h)⟩, by omega⟩
theorem nA_set (T : zM) {L : List (List Int32)} (hL : mLok L) {j : Nat} (hj : j < 32) {q : Nat × Nat × Nat × Nat} (hq : nsets.getD j (0, 0, 0, 0) = q) : a_set (nA T L j) q.1 (nI q.2.1) (nI q.2.2.1) (nI q.2.2.2) = (true, nA T L (j + 1)) := by
  obtain ⟨-, hl⟩ := nA_ok T hL j (by omega)
  obtain ⟨A', ea, -⟩ := a_set_room (A := nA T L j) (o := q.1) (x := nI q.2.1) (s := nI q.2.2.1) (v := nI q.2.2.2) (fun z => by rw [z] at hl; simp at hl; omega)
  rw [ea]
  show (true, A') = (true, (a_set (nA T L j) (nsets.getD j (0, 0, 0, 0)).1 (nI (nsets.getD j (0, 0, 0, 0)).2.1) (nI (nsets.getD j (0, 0, 0, 0)).2.2.1) (nI (nsets.getD j (0, 0, 0, 0)).2.2.2)).2)
  rw [hq, ea]
section
variable {E : zE} {d : Nat} {T M T0 : zM} {Q : zO → zM → Prop} {L : List (List Int32)}
theorem tn_set {o x s v : Int32} {j : Nat} (q : Nat × Nat × Nat × Nat) (h : sT T (nA T0 L j)) (hL : mLok L) (hj : j < 32) (hq : nsets.getD j (0, 0, 0, 0) = q) (ho : o = nI q.1) (hx : x = nI q.2.1) (hs : s = nI q.2.2.1) (hv : v = nI q.2.2.2) (hQ : ∀ T', sT T' (nA T0 L (j + 1)) → fr fT T T' → Q (.inl none) T') : Zm E YX8_set_2 (d + 1) T [(0, vr (some (97, 1, 0))), (1, vi o), (2, vi x), (3, vi s), (4, vi v)] 0 [] Q := by
  subst ho hx hs hv
  obtain ⟨⟨i, -, e2, -⟩, -⟩ := nA_ok T0 hL j (by omega)
  have ea := nA_set T0 hL hj hq
  have := nsets_ok j hj
  rw [hq] at this
  refine tA_set h i (by rw [e2]; exact this.1) (fun T' A' e s' f => ?_) (fun A' e _ => ?_)
  · rw [ea] at e
    cases e
    exact hQ T' s' f
  · rw [ea] at e
    exact absurd (show true = false from congrArg Prod.fst e) (by decide)
end
