/-! ARRAYS: their property `length` -/
/-- every array has a property `length`, a number up to 100 -/
def iL (A : mA) : Prop := ∀ o, o < aO A → gi (aT A) 141 o = 2 → ∃ q ∈ aP A o, fnd (gi (aT A) 145) 0 (aP A o) = nI q ∧ gi (aT A) 146 q = 5 ∧ ∃ n : Nat, gi (aT A) 147 q = nI n ∧ n ≤ 100
theorem fnd_app {nm : Nat → Int32} {x : Int32} {r : List Nat} : ∀ {l : List Nat}, (∃ q ∈ l, nm q = x) → fnd nm x (l ++ r) = fnd nm x l
  | [], h => by obtain ⟨q, h, -⟩ := h; cases h
  | q :: l, h => by
    show (if nm q = x then nI q else fnd nm x (l ++ r)) = if nm q = x then nI q else fnd nm x l
    by_cases c : nm q = x
    · rw [if_pos c, if_pos c]
    · rw [if_neg c, if_neg c]
      exact fnd_app (by
        obtain ⟨z, hz, e⟩ := h
        rcases List.mem_cons.mp hz with w | w
        · rw [w] at e; exact absurd e c
        · exact ⟨z, w, e⟩)
theorem fnd_nm {nm : Nat → Int32} {x : Int32} {l : List Nat} {q : Nat} (h3 : ∀ z ∈ l, z < 3000) (hq : q < 3000) (h : fnd nm x l = nI q) : q ∈ l ∧ nm q = x := by
  rcases fnd_or nm x l with ⟨e, -⟩ | ⟨l1, z, l2, e1, e2, -, e4⟩
  · rw [e, nn_1m (by omega)] at h; exact h.elim
  · have hz : z ∈ l := by rw [e1]; simp
    have := h3 z hz
    rw [e4, nn_eq (by omega) (by omega)] at h
    subst h
    exact ⟨hz, e2⟩
section
variable {A A' : mA}
theorem iL_set {o jx : Nat} {s v : Int32} (i : iA A) (l : iL A) (ho : o < aO A) (hx : jx < (aL A).length) (hj : ¬ jx = 0 ∨ ¬ gi (aT A) 141 o = 2) (h : a_set A o (nI jx) s v = (true, A')) : iL A' := by
  have hL := i.2.1.2.1
  rcases a_set_eq i ho h with ⟨p, p1, p2, p3, rfl⟩ | ⟨p, fl, p1, rfl⟩
  · intro z hz h2
    have e : ∀ a k, a ≠ 146 → a ≠ 147 → gi (m_put (aT A) p s v) a k = gi (aT A) a k := fun a k h1 h2 => by unfold m_put; rw [gi_oth h2, gi_oth h1]
    have h2' : gi (aT A) 141 z = 2 := (e 141 z (by decide) (by decide)).symm.trans h2
    obtain ⟨q, hq, e1, e2, n, e3, e4⟩ := l z hz h2'
    obtain ⟨-, -, -, c4, c5⟩ := i.1.2.2 z hz
    have hq3 := (c4 q hq).1
    have e0 := (fnd_nm (fun w hw => (c4 w hw).1) hq3 e1).2
    have hqp : ¬ q = p := fun w => by
      subst w
      rw [p3, show (0 : Int32) = nI 0 from rfl, nn_eq (by omega) (by omega)] at e0
      rcases hj with r | r
      · exact r e0
      · by_cases hzo : o = z
        · rw [hzo] at r; exact r h2'
        · exact c5 o ho hzo q hq p1
    have e145 : gi (m_put (aT A) p s v) 145 = gi (aT A) 145 := funext fun k => e 145 k (by decide) (by decide)
    refine ⟨q, hq, ?_, ?_, n, ?_, e4⟩
    · show fnd (gi (m_put (aT A) p s v) 145) 0 (aP A z) = nI q
      rw [e145]; exact e1
    · show gi (m_put (aT A) p s v) 146 q = 5
      unfold m_put; simp [gi_si, hqp]; exact e2
    · show gi (m_put (aT A) p s v) 147 q = nI n
      unfold m_put; simp [gi_si, hqp]; exact e3
  · intro z hz h2
    have h2' : gi (aT A) 141 z = 2 := (m_app_oth _ _ _ _ _ _ (by unfold fT; omega)).symm.trans h2
    obtain ⟨q, hq, e1, e2, n, e3, e4⟩ := l z hz h2'
    obtain ⟨-, -, -, c4, c5⟩ := i.1.2.2 z hz
    have hq3 := (c4 q hq).1
    have e0 := (fnd_nm (fun w hw => (c4 w hw).1) hq3 e1).2
    have hfl : ∀ w ∈ aP A z, ¬ w = p := fun w hw q => (c4 w hw).2 (by rw [q, p1]; simp)
    obtain ⟨n1, n2, n3, -⟩ := m_app_new (aT A) o p (nI jx) s v q
    have ef : fnd (gi (m_app (aT A) o p (nI jx) s v) 145) 0 (aP A z) = nI q := by
      rw [fnd_cg (nm := gi (aT A) 145) (fun w hw => by rw [(m_app_new (aT A) o p (nI jx) s v w).1, if_neg (hfl w hw)])]; exact e1
    refine ⟨q, ?_, ?_, ?_, n, ?_, e4⟩
    · show q ∈ if z = o then aP A o ++ [p] else aP A z
      by_cases hzo : z = o
      · rw [if_pos hzo, ← hzo]; simp [hq]
      · rw [if_neg hzo]; exact hq
    · show fnd (gi (m_app (aT A) o p (nI jx) s v) 145) 0 (if z = o then aP A o ++ [p] else aP A z) = nI q
      by_cases hzo : z = o
      · rw [if_pos hzo]
        subst hzo
        rw [fnd_app ⟨q, hq, by rw [n1, if_neg (hfl q hq)]; exact e0⟩]
        exact ef
      · rw [if_neg hzo]; exact ef
    · show gi (m_app (aT A) o p (nI jx) s v) 146 q = 5
      rw [n2, if_neg (hfl q hq)]; exact e2
    · show gi (m_app (aT A) o p (nI jx) s v) 147 q = nI n
      rw [n3, if_neg (hfl q hq)]; exact e3
/-- an array's length is set -/
theorem iL_len {o n : Nat} (i : iA A) (l : iL A) (ho : o < aO A) (h2 : gi (aT A) 141 o = 2) (hn : n ≤ 100) : ∃ q m, q ∈ aP A o ∧ q < 3000 ∧ fnd (gi (aT A) 145) 0 (aP A o) = nI q ∧ gi (aT A) 146 q = 5 ∧ gi (aT A) 147 q = nI m ∧ m ≤ 100 ∧ a_set A o 0 5 (nI n) = (true, (m_put (aT A) q 5 (nI n), aL A, aO A, aP A, aF A)) ∧ iL (m_put (aT A) q 5 (nI n), aL A, aO A, aP A, aF A) := by
  obtain ⟨q, hq, e1, e2, m, e3, e4⟩ := l o ho h2
  have hq3 := ((i.1.2.2 o ho).2.2.2.1 q hq).1
  refine ⟨q, m, hq, hq3, e1, e2, e3, e4, ?_, ?_⟩
  · unfold a_set
    rw [e1, if_neg (by rw [nn_m1 (by omega)]; exact fun z => z), nn_cl (by omega)]
  · intro z hz h2'
    have e : ∀ a k, a ≠ 146 → a ≠ 147 → gi (m_put (aT A) q 5 (nI n)) a k = gi (aT A) a k := fun a k h1 h2 => by unfold m_put; rw [gi_oth h2, gi_oth h1]
    have h2'' : gi (aT A) 141 z = 2 := (e 141 z (by decide) (by decide)).symm.trans h2'
    obtain ⟨w, hw, w1, w2, k, w3, w4⟩ := l z hz h2''
    have e145 : gi (m_put (aT A) q 5 (nI n)) 145 = gi (aT A) 145 := funext fun k => e 145 k (by decide) (by decide)
    have ef : fnd (gi (m_put (aT A) q 5 (nI n)) 145) 0 (aP A z) = nI w := by rw [e145]; exact w1
    by_cases c : w = q
    · subst c
      exact ⟨w, hw, ef, by show gi (m_put (aT A) w 5 (nI n)) 146 w = 5; unfold m_put; simp [gi_si], n, by show gi (m_put (aT A) w 5 (nI n)) 147 w = nI n; unfold m_put; simp [gi_si], hn⟩
    · exact ⟨w, hw, ef, by show gi (m_put (aT A) q 5 (nI n)) 146 w = 5; unfold m_put; simp [gi_si, c]; exact w2, k, by show gi (m_put (aT A) q 5 (nI n)) 147 w = nI k; unfold m_put; simp [gi_si, c]; exact w3, w4⟩
end
