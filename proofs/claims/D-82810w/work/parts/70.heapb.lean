/-! THE MACHINE's HEAP, abstractly: what holds is kept; removal, new objects, texts -/
section
variable {A A' : mA}
theorem mok_mono {L L' : List (List Int32)} {ob ob' : Nat} {s v : Int32} (hL : L.length ≤ L'.length) (ho : ob ≤ ob') (h : mok L ob s v) : mok L' ob' s v := by
  obtain ⟨k, h1, h2, h3, h4⟩ := h
  exact ⟨k, h1, h2, fun e => (h3 e).elim fun j q => ⟨j, q.1, by omega⟩, fun e => (h4 e).elim fun j q => ⟨j, q.1, by omega⟩⟩
/-- a value that a script may have -/
def mval (A : mA) (s v : Int32) : Prop := mok (aL A) (aO A) s v ∧ mthing (aT A) (aO A) s v
theorem a_set_eq {o : Nat} {x s v : Int32} (i : iA A) (ho : o < aO A) (h : a_set A o x s v = (true, A')) :
    (∃ p, p ∈ aP A o ∧ p < 3000 ∧ gi (aT A) 145 p = x ∧ A' = (m_put (aT A) p s v, aL A, aO A, aP A, aF A)) ∨ ∃ p fl, aF A = p :: fl ∧ A' = (m_app (aT A) o p x s v, aL A, aO A, (fun i => if i = o then aP A o ++ [p] else aP A i), fl) := by
  unfold a_set at h
  rcases fnd_or (gi (aT A) 145) x (aP A o) with ⟨f1, f2⟩ | ⟨l1, q, l2, f1, f2, f3, f4⟩
  · rw [if_pos f1] at h
    cases hf : aF A with
    | nil => rw [hf] at h; cases h
    | cons p fl =>
      rw [hf] at h
      exact .inr ⟨p, fl, rfl, (Prod.mk.inj h).2.symm⟩
  · have hq : q ∈ aP A o := by rw [f1]; simp
    have hq3 := ((i.1.2.2 o ho).2.2.2.1 q hq).1
    rw [f4, if_neg (by rw [nn_m1 (by omega)]; exact fun z => z), nn_cl (by omega)] at h
    exact .inl ⟨q, hq, hq3, f2, (Prod.mk.inj h).2.symm⟩
theorem iA_set {o jx : Nat} {s v : Int32} (i : iA A) (ho : o < aO A) (hx : jx < (aL A).length) (hv : mval A s v) (h : a_set A o (nI jx) s v = (true, A')) : iA A' ∧ aL A' = aL A ∧ aO A' = aO A ∧ ∀ a k, a = 138 ∨ a = 139 ∨ a = 140 ∨ a = 141 ∨ a = 142 → gi (aT A') a k = gi (aT A) a k := by
  rcases a_set_eq i ho h with ⟨p, p1, p2, p3, rfl⟩ | ⟨p, fl, p1, rfl⟩
  · have e : ∀ a k, a ≠ 146 → a ≠ 147 → gi (m_put (aT A) p s v) a k = gi (aT A) a k := fun a k h1 h2 => by unfold m_put; rw [gi_oth h2, gi_oth h1]
    obtain ⟨i1, i2, i3, i4⟩ := i
    have e139 : gi (m_put (aT A) p s v) 139 = gi (aT A) 139 := funext fun k => e 139 k (by decide) (by decide)
    refine ⟨⟨hT_put i1 p s v, i2, fun z hz q hq => ?_, fun z hz => by rw [show aT (m_put (aT A) p s v, aL A, aO A, aP A, aF A) = m_put (aT A) p s v from rfl, e139]; exact i4 z hz⟩, rfl, rfl, fun a k q => e a k (by omega) (by omega)⟩
    show mok (aL A) (aO A) (gi (m_put (aT A) p s v) 146 q) (gi (m_put (aT A) p s v) 147 q) ∧ mthing (m_put (aT A) p s v) (aO A) (gi (m_put (aT A) p s v) 146 q) (gi (m_put (aT A) p s v) 147 q) ∧ ∃ j, gi (m_put (aT A) p s v) 145 q = nI j ∧ j < (aL A).length
    have e6 : gi (m_put (aT A) p s v) 146 q = if q = p then s else gi (aT A) 146 q := by unfold m_put; simp [gi_si]
    have e7 : gi (m_put (aT A) p s v) 147 q = if q = p then v else gi (aT A) 147 q := by unfold m_put; simp [gi_si]
    unfold mthing
    rw [e6, e7, e 145 q (by decide) (by decide)]
    simp only [e 141 _ (by decide) (by decide)]
    by_cases hqp : q = p
    · rw [if_pos hqp, if_pos hqp]; exact ⟨hv.1, hv.2, (i3 z hz q hq).2.2⟩
    · rw [if_neg hqp, if_neg hqp]; exact i3 z hz q hq
  · obtain ⟨i1, i2, i3, i4⟩ := i
    have e : ∀ a k, ¬ fT a k → gi (m_app (aT A) o p (nI jx) s v) a k = gi (aT A) a k := fun a k q => m_app_oth _ _ _ _ _ _ q
    have e139 : gi (m_app (aT A) o p (nI jx) s v) 139 = gi (aT A) 139 := funext fun k => e 139 k (by unfold fT; omega)
    have i1' := i1
    rw [p1] at i1'
    refine ⟨⟨hT_app i1' ho _ _ _, i2, fun z hz q hq => ?_, fun z hz => by rw [show aT (m_app (aT A) o p (nI jx) s v, aL A, aO A, (fun i => if i = o then aP A o ++ [p] else aP A i), fl) = m_app (aT A) o p (nI jx) s v from rfl, e139]; exact i4 z hz⟩, rfl, rfl, fun a k q => e a k (by unfold fT; omega)⟩
    show mok (aL A) (aO A) (gi (m_app (aT A) o p (nI jx) s v) 146 q) (gi (m_app (aT A) o p (nI jx) s v) 147 q) ∧ mthing (m_app (aT A) o p (nI jx) s v) (aO A) (gi (m_app (aT A) o p (nI jx) s v) 146 q) (gi (m_app (aT A) o p (nI jx) s v) 147 q) ∧ ∃ j, gi (m_app (aT A) o p (nI jx) s v) 145 q = nI j ∧ j < (aL A).length
    obtain ⟨n1, n2, n3, n4⟩ := m_app_new (aT A) o p (nI jx) s v q
    unfold mthing
    rw [n1, n2, n3]
    have e141 := fun j => e 141 j (by unfold fT; omega)
    simp only [e141]
    have hq' : q ∈ if z = o then aP A o ++ [p] else aP A z := hq
    by_cases hqp : q = p
    · rw [if_pos hqp, if_pos hqp, if_pos hqp]; exact ⟨hv.1, hv.2, jx, rfl, hx⟩
    · rw [if_neg hqp, if_neg hqp, if_neg hqp]
      by_cases hzo : z = o
      · rw [if_pos hzo] at hq'
        rcases List.mem_append.mp hq' with r | r
        · exact i3 o ho q r
        · exact absurd (by simpa using r) hqp
      · rw [if_neg hzo] at hq'; exact i3 z hz q hq'
/-- a property goes -/
def a_rem (A : mA) (o : Nat) (x : Int32) : mA :=
  if fnd (gi (aT A) 145) x (aP A o) = -1 then A
  else
    let p := (fnd (gi (aT A) 145) x (aP A o)).toNatClampNeg
    let l1 := (aP A o).takeWhile (fun q => !decide (gi (aT A) 145 q = x))
    (m_rem (aT A) o p l1, aL A, aO A, (fun i => if i = o then l1 ++ (aP A o).drop (l1.length + 1) else aP A i), p :: aF A)
theorem takeWhile_split {P : Nat → Bool} : ∀ {l1 : List Nat} {q : Nat} {l2 : List Nat}, (∀ z ∈ l1, P z = true) → P q = false → (l1 ++ q :: l2).takeWhile P = l1
  | [], q, l2, _, h => by rw [List.nil_append, List.takeWhile_cons, h]; rfl
  | z :: l1, q, l2, h1, h2 => by
    rw [List.cons_append, List.takeWhile_cons, h1 z List.mem_cons_self, if_pos rfl, takeWhile_split (fun y hy => h1 y (List.mem_cons_of_mem _ hy)) h2]
theorem a_rem_none {o : Nat} {x : Int32} (h : ∀ q ∈ aP A o, gi (aT A) 145 q ≠ x) : a_rem A o x = A := by
  unfold a_rem
  rcases fnd_or (gi (aT A) 145) x (aP A o) with ⟨f1, -⟩ | ⟨l1, q, l2, f1, f2, -, -⟩
  · rw [if_pos f1]
  · exact absurd f2 (h q (by rw [f1]; simp))
theorem a_rem_some {o : Nat} {x : Int32} (i : iA A) (ho : o < aO A) {l1 l2 : List Nat} {p : Nat} (e : aP A o = l1 ++ p :: l2) (hp : gi (aT A) 145 p = x) (h1 : ∀ z ∈ l1, gi (aT A) 145 z ≠ x) : a_rem A o x = (m_rem (aT A) o p l1, aL A, aO A, (fun i => if i = o then l1 ++ l2 else aP A i), p :: aF A) := by
  have hp3 := ((i.1.2.2 o ho).2.2.2.1 p (by rw [e]; simp)).1
  have ef : fnd (gi (aT A) 145) x (aP A o) = nI p := by
    rw [e]
    have : ∀ l : List Nat, (∀ z ∈ l, gi (aT A) 145 z ≠ x) → fnd (gi (aT A) 145) x (l ++ p :: l2) = nI p := by
      intro l
      induction l with
      | nil => intro _; show (if gi (aT A) 145 p = x then _ else _) = _; rw [if_pos hp]
      | cons y l ih => intro h; show (if gi (aT A) 145 y = x then _ else _) = _; rw [if_neg (h y List.mem_cons_self)]; exact ih (fun z hz => h z (List.mem_cons_of_mem _ hz))
    exact this l1 h1
  have et : (aP A o).takeWhile (fun q => !decide (gi (aT A) 145 q = x)) = l1 := by
    rw [e]
    exact takeWhile_split (fun z hz => by rw [decide_eq_false (h1 z hz)]; rfl) (by rw [decide_eq_true hp]; rfl)
  unfold a_rem
  rw [ef, if_neg (by rw [nn_m1 (by omega)]; exact fun z => z)]
  dsimp only
  rw [et, nn_cl (by omega), e]
  rw [show (l1 ++ p :: l2).drop (l1.length + 1) = l2 from by
    rw [List.drop_append, List.drop_of_length_le (by omega)]
    simp]
theorem iA_rem {o : Nat} (x : Int32) (i : iA A) (ho : o < aO A) : iA (a_rem A o x) ∧ aL (a_rem A o x) = aL A ∧ aO (a_rem A o x) = aO A ∧ ∀ a k, a = 138 ∨ a = 139 ∨ a = 140 ∨ a = 141 ∨ a = 142 → gi (aT (a_rem A o x)) a k = gi (aT A) a k := by
  rcases fnd_or (gi (aT A) 145) x (aP A o) with ⟨-, f2⟩ | ⟨l1, p, l2, f1, f2, f3, -⟩
  · rw [a_rem_none f2]; exact ⟨i, rfl, rfl, fun _ _ _ => rfl⟩
  · rw [a_rem_some i ho f1 f2 f3]
    have hpo : p ∈ aP A o := by rw [f1]; simp
    obtain ⟨i1, i2, i3, i4⟩ := i
    have e : ∀ a k, ¬ fT a k → gi (m_rem (aT A) o p l1) a k = gi (aT A) a k := fun a k q => m_rem_oth _ _ _ _ q
    have e139 : gi (m_rem (aT A) o p l1) 139 = gi (aT A) 139 := funext fun k => e 139 k (by unfold fT; omega)
    refine ⟨⟨hT_rem i1 ho f1 (hT_len i1 ho hpo), i2, fun z hz q hq => ?_, fun z hz => by rw [show aT (m_rem (aT A) o p l1, aL A, aO A, (fun i => if i = o then l1 ++ l2 else aP A i), p :: aF A) = m_rem (aT A) o p l1 from rfl, e139]; exact i4 z hz⟩, rfl, rfl, fun a k q => e a k (by unfold fT; omega)⟩
    show mok (aL A) (aO A) (gi (m_rem (aT A) o p l1) 146 q) (gi (m_rem (aT A) o p l1) 147 q) ∧ mthing (m_rem (aT A) o p l1) (aO A) (gi (m_rem (aT A) o p l1) 146 q) (gi (m_rem (aT A) o p l1) 147 q) ∧ ∃ j, gi (m_rem (aT A) o p l1) 145 q = nI j ∧ j < (aL A).length
    obtain ⟨n1, n2, n3, n4⟩ := m_rem_new (aT A) o p l1 q
    unfold mthing
    rw [n1, n2, n3]
    have e141 := fun j => e 141 j (by unfold fT; omega)
    simp only [e141]
    have hq' : q ∈ if z = o then l1 ++ l2 else aP A z := hq
    by_cases hzo : z = o
    · rw [if_pos hzo] at hq'
      exact i3 o ho q (by rw [f1]; rcases List.mem_append.mp hq' with r | r <;> simp [r])
    · rw [if_neg hzo] at hq'; exact i3 z hz q hq'
/-- a new object: its proto, label (or pair's first), sort, link -/
def m_new (T : zM) (ob : Nat) (pr : Int32) (lb : Nat) (st lk : Int32) : zM :=
  (T.1, (fun a k => if a = 97 ∧ k = 76 then nI (ob + 1) else if a = 138 then (if k = ob then nI lb else if k < ob ∧ 29 ≤ lb ∧ gi T 138 k = nI lb then nI (lb + 1) else gi T 138 k) else if a = 139 ∧ k = ob then pr else if a = 140 ∧ k = ob then lk else if a = 141 ∧ k = ob then st else if a = 142 ∧ k = ob then 0 else if (a = 143 ∨ a = 144) ∧ k = ob then -1 else gi T a k), T.2.2.1, T.2.2.2)
theorem m_new_at (T : zM) (ob : Nat) (pr : Int32) (lb : Nat) (st lk : Int32) (a k : Nat) : gi (m_new T ob pr lb st lk) a k = if a = 97 ∧ k = 76 then nI (ob + 1) else if a = 138 then (if k = ob then nI lb else if k < ob ∧ 29 ≤ lb ∧ gi T 138 k = nI lb then nI (lb + 1) else gi T 138 k) else if a = 139 ∧ k = ob then pr else if a = 140 ∧ k = ob then lk else if a = 141 ∧ k = ob then st else if a = 142 ∧ k = ob then 0 else if (a = 143 ∨ a = 144) ∧ k = ob then -1 else gi T a k := rfl
theorem m_new_T (T : zM) (ob : Nat) (pr : Int32) (lb : Nat) (st : Int32) : newT T (m_new T ob pr lb st (-1)) ob pr lb st := by
  refine ⟨by rw [m_new_at]; rfl, fun k => by rw [m_new_at]; rfl, fun k => ?_, fun k => ?_, fun k => ?_, fun k => ?_, fun k => ?_, fun k => ?_, ⟨rfl, rfl⟩, fun a k q => ⟨?_, rfl, rfl⟩⟩
  · rw [m_new_at]; by_cases e : k = ob <;> simp [e]
  · rw [m_new_at]; by_cases e : k = ob <;> simp [e]
  · rw [m_new_at]; by_cases e : k = ob <;> simp [e]
  · rw [m_new_at]; by_cases e : k = ob <;> simp [e]
  · rw [m_new_at]; by_cases e : k = ob <;> simp [e]
  · rw [m_new_at]; by_cases e : k = ob <;> simp [e]
  · rw [m_new_at, if_neg (by omega), if_neg (by omega), if_neg (by omega), if_neg (by omega), if_neg (by omega), if_neg (by omega), if_neg (by omega)]
theorem m_new_lk (T : zM) (ob : Nat) (pr : Int32) (lb : Nat) (st lk : Int32) (a k : Nat) : gi (si (m_new T ob pr lb st (-1)) 140 ob lk) a k = gi (m_new T ob pr lb st lk) a k := by
  rw [gi_si, m_new_at, m_new_at]
  by_cases h1 : a = 140
  · subst h1
    by_cases h2 : k = ob
    · subst h2; simp
    · simp [h2]
  · simp [h1]
/-- the heap with a new object -/
def a_new (A : mA) (pr : Int32) (lb : Nat) (st lk : Int32) : mA := (m_new (aT A) (aO A) pr lb st lk, aL A, aO A + 1, (fun i => if i = aO A then [] else aP A i), aF A)
theorem hT_cg {T T' : zM} {ob : Nat} {ps : Nat → List Nat} {fl : List Nat} (h : hT T ob ps fl) (e : ∀ a k, hpT a k → gi T' a k = gi T a k) : hT T' ob ps fl := by
  obtain ⟨⟨h1, h2⟩, ⟨g1, g2, g3, g4, g5⟩, H⟩ := h
  have e149 : gi T' 149 = gi T 149 := funext fun k => e 149 k (by unfold hpT; omega)
  refine ⟨⟨(e 97 76 (by unfold hpT; omega)).trans h1, h2⟩, ⟨(e 97 84 (by unfold hpT; omega)).trans g1, g2, by rw [e149, e 97 85 (by unfold hpT; omega)]; exact g3, g4, g5⟩, fun o ho => ?_⟩
  obtain ⟨d1, d2, d3⟩ := H o ho
  exact ⟨by rw [e149, e 143 o (by unfold hpT; omega)]; exact d1, (e 144 o (by unfold hpT; omega)).trans d2, d3⟩
theorem hX_cg {M T T' : zM} {ob : Nat} {ps : Nat → List Nat} {fl : List Nat} (h : hX M T ob ps fl) (e : ∀ a k, hpT a k → gi T' a k = gi T a k) : hX M T' ob ps fl := by
  obtain ⟨⟨b1, b2⟩, b, b3, b4⟩ := h
  refine ⟨⟨b1, by rw [e 97 86 (by unfold hpT; omega)]; exact b2⟩, b, fun o ho => ?_, fun o ho q hq => ?_⟩
  · rw [e 141 _ (by unfold hpT; omega), e 139 _ (by unfold hpT; omega), e 140 _ (by unfold hpT; omega), e 143 _ (by unfold hpT; omega), e 144 _ (by unfold hpT; omega)]; exact b3 o ho
  · rw [e 145 _ (by unfold hpT; omega), e 149 _ (by unfold hpT; omega), e 146 _ (by unfold hpT; omega), e 147 _ (by unfold hpT; omega), e 148 _ (by unfold hpT; omega)]; exact b4 o ho q hq
theorem iA_new {pr st lk : Int32} {lb : Nat} (i : iA A) (hob : aO A < 300) (hpr : pr = -1 ∨ ∃ p, pr = nI p ∧ p < aO A) (_ : lb < 200) : iA (a_new A pr lb st lk) := by
  obtain ⟨i1, i2, i3, i4⟩ := i
  have n := m_new_T (aT A) (aO A) pr lb st
  have ht := hT_140 (hT_new i1 hob n) (aO A) lk
  have ht' : hT (m_new (aT A) (aO A) pr lb st lk) (aO A + 1) (fun i => if i = aO A then [] else aP A i) (aF A) := hT_cg ht (fun a k _ => (m_new_lk (aT A) (aO A) pr lb st lk a k).symm)
  have e : ∀ a k, 145 ≤ a → a ≤ 149 → gi (m_new (aT A) (aO A) pr lb st lk) a k = gi (aT A) a k := fun a k h1 h2 => by
    rw [m_new_at, if_neg (by omega), if_neg (by omega), if_neg (by omega), if_neg (by omega), if_neg (by omega), if_neg (by omega), if_neg (by omega)]
  have e1 : ∀ a k, k < aO A → a = 139 ∨ a = 141 → gi (m_new (aT A) (aO A) pr lb st lk) a k = gi (aT A) a k := fun a k h1 h2 => by
    rw [m_new_at, if_neg (by omega), if_neg (by omega), if_neg (by omega), if_neg (by omega), if_neg (by omega), if_neg (by omega), if_neg (by omega)]
  have low : ∀ (l : List Nat) (x : Int32), (∀ q ∈ l, q < aO A) → chn (gi (aT A) 139) (-1) x l → chn (gi (m_new (aT A) (aO A) pr lb st lk) 139) (-1) x l := fun l x hl hc => chn_cg (fun q hq => e1 139 q (hl q hq) (by omega)) hc
  refine ⟨ht', i2, fun z hz q hq => ?_, fun z hz => ?_⟩
  · have hq' : q ∈ if z = aO A then [] else aP A z := hq
    by_cases hzo : z = aO A
    · rw [if_pos hzo] at hq'; cases hq'
    · rw [if_neg hzo] at hq'
      have hz' : z < aO A := by have : z < aO A + 1 := hz; omega
      obtain ⟨q1, q2, q3⟩ := i3 z hz' q hq'
      show mok (aL A) (aO A + 1) (gi (m_new (aT A) (aO A) pr lb st lk) 146 q) (gi (m_new (aT A) (aO A) pr lb st lk) 147 q) ∧ mthing (m_new (aT A) (aO A) pr lb st lk) (aO A + 1) (gi (m_new (aT A) (aO A) pr lb st lk) 146 q) (gi (m_new (aT A) (aO A) pr lb st lk) 147 q) ∧ ∃ j, gi (m_new (aT A) (aO A) pr lb st lk) 145 q = nI j ∧ j < (aL A).length
      rw [e 145 q (by omega) (by omega), e 146 q (by omega) (by omega), e 147 q (by omega) (by omega)]
      refine ⟨mok_mono (Nat.le_refl _) (by omega) q1, fun h7 => ?_, q3⟩
      obtain ⟨j, j1, j2, j3⟩ := q2 h7
      exact ⟨j, j1, by omega, by rw [e1 141 j j2 (by omega)]; exact j3⟩
  · have hz' : z < aO A + 1 := hz
    show ∃ l, chn (gi (m_new (aT A) (aO A) pr lb st lk) 139) (-1) (nI z) l ∧ ∀ q ∈ l, q < aO A + 1
    by_cases hzo : z = aO A
    · have ep : gi (m_new (aT A) (aO A) pr lb st lk) 139 z = pr := by rw [m_new_at, hzo]; simp
      rcases hpr with rfl | ⟨p, rfl, hp⟩
      · exact ⟨[z], ⟨rfl, ep⟩, fun q hq => by rw [show q = z from by simpa using hq]; omega⟩
      · obtain ⟨l, l1, l2⟩ := i4 p hp
        refine ⟨z :: l, ⟨rfl, by rw [ep]; exact low l _ l2 l1⟩, fun q hq => ?_⟩
        rcases List.mem_cons.mp hq with r | r
        · omega
        · have := l2 q r; omega
    · obtain ⟨l, l1, l2⟩ := i4 z (by omega)
      exact ⟨l, low l _ l2 l1, fun q hq => by have := l2 q hq; omega⟩
end
section
variable {E : zE} {d : Nat} {T M : zM} {Q : zO → zM → Prop} {A : mA}
/-- newObject of the twin -/
theorem tA_new {pr st : Int32} {lb : Nat} (h : sT T A) (i : iA A) (hlb : lb < 200) (hQ1 : aO A = 300 → Q (.inl (some (vi 0))) (si T 97 75 1)) (hQ2 : ∀ T', aO A < 300 → sT T' (a_new A pr lb st (-1)) → fr (fun a k => 138 ≤ a ∧ a ≤ 144 ∨ a = 97 ∧ k = 76) T T' → Q (.inl (some (vi (nI (aO A))))) T') :
    Zm E YX8_newObject d T [(0, T97), (1, vi pr), (2, vi (nI lb)), (3, vi st)] 0 [] Q := by
  refine tm_new (ob := aO A) ((h.1 97 76 (by unfold hpT; omega)).trans i.1.1.1) i.1.1.2 hlb hQ1 (fun T' hob n => hQ2 T' hob ⟨fun a k q => ?_, ?_⟩ n.2.2.2.2.2.2.2.2)
  · obtain ⟨n0, n1, n2, n3, n4, n5, n6, n7, n8⟩ := n
    show gi T' a k = gi (m_new (aT A) (aO A) pr lb st (-1)) a k
    rw [m_new_at]
    have e := fun b j (hb : hpT b j) => h.1 b j hb
    by_cases c0 : a = 97 ∧ k = 76
    · rw [if_pos c0, c0.1, c0.2]; exact n0
    rw [if_neg c0]
    by_cases c1 : a = 138
    · rw [if_pos c1, c1, n1 k, e 138 k (by unfold hpT; omega)]
    rw [if_neg c1]
    have ea := e a k q
    by_cases c2 : a = 139
    · subst c2; rw [n2]; by_cases z : k = aO A
      · simp [z]
      · simp [z, ea]
    by_cases c3 : a = 140
    · subst c3; rw [n3]; by_cases z : k = aO A
      · simp [z]
      · simp [z, ea]
    by_cases c4 : a = 141
    · subst c4; rw [n4]; by_cases z : k = aO A
      · simp [z]
      · simp [z, ea]
    by_cases c5 : a = 142
    · subst c5; rw [n5]; by_cases z : k = aO A
      · simp [z]
      · simp [z, ea]
    by_cases c6 : a = 143
    · subst c6; rw [n6]; by_cases z : k = aO A
      · simp [z]
      · simp [z, ea]
    by_cases c7 : a = 144
    · subst c7; rw [n7]; by_cases z : k = aO A
      · simp [z]
      · simp [z, ea]
    rw [(n8.2 a k (by unfold hpT at q; omega)).1, ea]
    simp [c2, c3, c4, c5, c6, c7]
  · exact (sT_fr (A := (aT A, aL A, aO A, aP A, aF A)) (P := fun a k => False) ⟨h.1, h.2⟩ fr.rf (fun _ _ q => q.elim)).2 |> fun z => by
      obtain ⟨-, -, -, -, -, -, -, -, n8⟩ := n
      refine ⟨(n8.2 97 7 (by omega)).1.trans z.1, z.2.1, fun s w hs => ?_⟩
      obtain ⟨q1, q2, q3⟩ := z.2.2 s w hs
      exact ⟨(n8.2 101 s (by omega)).1.trans q1, q2, fun k hk => (n8.2 100 _ (by omega)).1.trans (q3 k hk)⟩
/-- born of the component -/
theorem xA_new {ks pp : Nat} {pr lk : Int32} (h : sX M A) (i : iA A) (hks : ks < 4) (hc : ks = 1 → 29 ≤ pp) (hpp : pp < 160) (hpar : 29 ≤ pp → (pp - 29) % 2 = 0) (hpr : vp_nar .short pr.toInt16.toInt32 = pr) (hlk : vp_nar .short lk.toInt16.toInt32 = lk) (hQ1 : aO A = 300 → Q (.inr (51, 13, 0)) M) (hQ2 : aO A < 300 → sX (x_new M (aO A) (nI ks) pp pr lk) (a_new A pr pp (nI ks) lk) → Q (.inl (some (vi (nI (aO A))))) (x_new M (aO A) (nI ks) pp pr lk)) :
    Z E YX1_born d M [(0, zX16), (1, vi (nI ks)), (2, vi (nI pp)), (3, vi pr), (4, vi lk)] 0 [] Q := by
  obtain ⟨hw, g, hl, hxt⟩ := h
  refine xm_born hw g.1.1 i.1.1.2 hks hpp hpr hlk hQ1 (fun hob => hQ2 hob ?_)
  have n := m_new_T (aT A) (aO A) pr pp (nI ks)
  have f := x_new_fr M (aO A) (nI ks) pp pr lk
  have e : ∀ a k, gi (m_new (aT A) (aO A) pr pp (nI ks) lk) a k = gi (si (m_new (aT A) (aO A) pr pp (nI ks) (-1)) 140 (aO A) lk) a k := fun a k => (m_new_lk (aT A) (aO A) pr pp (nI ks) lk a k).symm
  refine ⟨cw_fr hw f (fun q hq => by have := cwl_ok q hq; omega), hX_cg (hX_new i.1 g n) (fun a k _ => e a k), fun o ho => ?_, ?_⟩
  · exact hL_cg (hL_new (lk := lk) hl hob hpp hpar (fun z => hc (by rw [nn_1, nn_eq (by omega) (by omega)] at z; exact z)) n) (fun _ _ _ => rfl) (fun a k _ => e a k) o ho
  · obtain ⟨x1, x2, ⟨y1, y2, y3⟩, x4⟩ := hxt
    exact ⟨(f.2 17 1 (by omega)).2.2.trans x1, (f.2 17 0 (by omega)).2.2.trans x2, ⟨(f.2 17 2 (by omega)).1.trans y1, fun k hk => (f.2 18 k (by omega)).1.trans (y2 k hk), fun j hj => (f.2 19 j (by omega)).1.trans (y3 j hj)⟩, x4⟩
end
