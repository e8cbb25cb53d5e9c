/-! THE HEAP GROWS: what a machine's step keeps -/
/-- an object has a property of its own -/
def has (A : mA) (o : Nat) (x : Int32) : Prop := ∃ q ∈ aP A o, gi (aT A) 145 q = x
theorem has_own {A : mA} {o : Nat} {x : Int32} (i : iA A) (ho : o < aO A) (h : has A o x) : ∃ q, m_own A o x = nI q ∧ q ∈ aP A o ∧ q < 3000 := by
  obtain ⟨z, hz, ez⟩ := h
  rcases fnd_or (gi (aT A) 145) x (aP A o) with ⟨-, e⟩ | ⟨l1, q, l2, e1, -, -, e4⟩
  · exact absurd ez (e z hz)
  · have hq : q ∈ aP A o := by rw [e1]; simp
    exact ⟨q, e4, hq, ((i.1.2.2 o ho).2.2.2.1 q hq).1⟩
/-- labels: the same, or the pair's second one then -/
def labN (a b : Int32) : Prop := b = a ∨ ∃ lb : Nat, 29 ≤ lb ∧ lb < 160 ∧ (lb - 29) % 2 = 0 ∧ a = nI lb ∧ b = nI (lb + 1)
def gro (A A' : mA) : Prop := aO A ≤ aO A' ∧ (∃ r, aL A' = aL A ++ r) ∧ ∀ o, o < aO A → (∀ a, a = 140 ∨ a = 141 ∨ a = 142 → gi (aT A') a o = gi (aT A) a o) ∧ labN (gi (aT A) 138 o) (gi (aT A') 138 o) ∧ (gi (aT A) 141 o = 3 → ∀ x, has A o x → has A' o x)
theorem gro.rf {A : mA} : gro A A := ⟨Nat.le_refl _, ⟨[], by simp⟩, fun _ _ => ⟨fun _ _ => rfl, .inl rfl, fun _ _ h => h⟩⟩
theorem labN_tr {a b c : Int32} (h : labN a b) (h' : labN b c) : labN a c := by
  rcases h with e | ⟨lb, h1, h2, h3, h4, h5⟩
  · rw [e] at h'; exact h'
  · rcases h' with e | ⟨l2, g1, g2, g3, g4, g5⟩
    · rw [e]; exact .inr ⟨lb, h1, h2, h3, h4, h5⟩
    · rw [h5, nn_eq (by omega) (by omega)] at g4; omega
theorem gro.tr {A B C : mA} (h : gro A B) (h' : gro B C) : gro A C := by
  obtain ⟨h1, ⟨r, h2⟩, h3⟩ := h
  obtain ⟨g1, ⟨r', g2⟩, g3⟩ := h'
  refine ⟨by omega, ⟨r ++ r', by rw [g2, h2, List.append_assoc]⟩, fun o ho => ?_⟩
  obtain ⟨a1, a2, a3⟩ := h3 o ho
  obtain ⟨b1, b2, b3⟩ := g3 o (by omega)
  exact ⟨fun a ha => (b1 a ha).trans (a1 a ha), labN_tr a2 b2, fun h x hx => b3 ((a1 141 (by omega)).trans h) x (a3 h x hx)⟩
theorem gro.len {A A' : mA} (h : gro A A') : (aL A).length ≤ (aL A').length := by
  obtain ⟨-, ⟨r, e⟩, -⟩ := h
  rw [e, List.length_append]; omega
theorem gro.val {A A' : mA} (h : gro A A') {s v : Int32} (hv : mval A s v) : mval A' s v := by
  refine ⟨mok_mono h.len h.1 hv.1, fun h7 => ?_⟩
  obtain ⟨j, j1, j2, j3⟩ := hv.2 h7
  exact ⟨j, j1, Nat.lt_of_lt_of_le j2 h.1, by rw [(h.2.2 j j2).1 141 (by omega)]; exact j3⟩
theorem gro.lst {A A' : mA} (h : gro A A') {c : mC} (hv : mlist A c) : mlist A' c := by
  refine ⟨hv.1, hv.2.imp id fun ⟨o, e, ho⟩ => ⟨o, e, Nat.lt_of_lt_of_le ho h.1⟩⟩
theorem gro_text {A A' : mA} {s v : Int32} {k : Nat} (i : iA A) (hv : mok (aL A) (aO A) s v) (h : a_text A s v = some (k, A')) : gro A A' := by
  obtain ⟨i1, hk, hL, hr, eT, eO, eP, eF⟩ := iA_text i hv h
  refine ⟨by rw [eO]; exact Nat.le_refl _, hr, fun o ho => ⟨fun a _ => by rw [eT], .inl (by rw [eT]), fun _ x hx => ?_⟩⟩
  obtain ⟨q, h1, h2⟩ := hx
  exact ⟨q, by rw [eP]; exact h1, by rw [eT]; exact h2⟩
theorem has_set {A A' : mA} {o o1 : Nat} {x s v y : Int32} (i : iA A) (ho : o < aO A) (h : a_set A o x s v = (true, A')) (ho1 : o1 < aO A) (hh : has A o1 y) : has A' o1 y := by
  obtain ⟨q, hq, eq⟩ := hh
  rcases a_set_eq i ho h with ⟨p, p1, p2, p3, rfl⟩ | ⟨p, fl, p1, rfl⟩
  · refine ⟨q, hq, ?_⟩
    show gi (m_put (aT A) p s v) 145 q = y
    unfold m_put
    rw [gi_oth (by decide), gi_oth (by decide)]; exact eq
  · have hne : ¬ q = p := fun e => by
      have := ((i.1.2.2 o1 ho1).2.2.2.1 q hq).2
      rw [p1, e] at this
      exact this List.mem_cons_self
    have e145 : gi (m_app (aT A) o p x s v) 145 q = gi (aT A) 145 q := by
      unfold m_app
      dsimp only
      by_cases h1 : gi (aT A) 144 o = -1
      · rw [if_pos h1]; simp only [gi_si]; simp [hne]
      · rw [if_neg h1]; simp only [gi_si]; simp [hne]
    refine ⟨q, ?_, e145.trans eq⟩
    show q ∈ (if o1 = o then aP A o ++ [p] else aP A o1)
    by_cases e : o1 = o
    · rw [if_pos e]; subst e; exact List.mem_append_left _ hq
    · rw [if_neg e]; exact hq
theorem has_put {A A' : mA} {o : Nat} {x s v : Int32} (i : iA A) (ho : o < aO A) (h : a_set A o x s v = (true, A')) : has A' o x := by
  rcases a_set_eq i ho h with ⟨p, p1, p2, p3, rfl⟩ | ⟨p, fl, p1, rfl⟩
  · refine ⟨p, p1, ?_⟩
    show gi (m_put (aT A) p s v) 145 p = x
    unfold m_put
    rw [gi_oth (by decide), gi_oth (by decide)]; exact p3
  · refine ⟨p, ?_, ?_⟩
    · show p ∈ (if o = o then aP A o ++ [p] else aP A o)
      rw [if_pos rfl]; exact List.mem_append_right _ List.mem_cons_self
    · show gi (m_app (aT A) o p x s v) 145 p = x
      unfold m_app
      dsimp only
      by_cases h1 : gi (aT A) 144 o = -1
      · rw [if_pos h1]; simp [gi_si]
      · rw [if_neg h1]; simp [gi_si]
theorem a_set_cells {A A' : mA} {o : Nat} {x s v : Int32} (i : iA A) (ho : o < aO A) (h : a_set A o x s v = (true, A')) : aL A' = aL A ∧ aO A' = aO A ∧ ∀ a k, a = 138 ∨ a = 139 ∨ a = 140 ∨ a = 141 ∨ a = 142 → gi (aT A') a k = gi (aT A) a k := by
  rcases a_set_eq i ho h with ⟨p, p1, p2, p3, rfl⟩ | ⟨p, fl, p1, rfl⟩
  · refine ⟨rfl, rfl, fun a k h => ?_⟩
    show gi (m_put (aT A) p s v) a k = _
    unfold m_put
    rw [gi_oth (by omega), gi_oth (by omega)]
  · exact ⟨rfl, rfl, fun a k h => m_app_oth _ _ _ _ _ _ (by unfold fT; omega)⟩
theorem gro_set {A A' : mA} {o : Nat} {x s v : Int32} (i : iA A) (ho : o < aO A) (h : a_set A o x s v = (true, A')) : gro A A' := by
  obtain ⟨eL, eO, eT⟩ := a_set_cells i ho h
  exact ⟨by rw [eO]; exact Nat.le_refl _, ⟨[], by rw [eL, List.append_nil]⟩, fun z hz => ⟨fun a ha => eT a z (by omega), .inl (eT 138 z (by omega)), fun _ x hx => has_set i ho h hz hx⟩⟩
theorem gro_setF {A A' : mA} {o : Nat} {x s v : Int32} (h : a_set A o x s v = (false, A')) : A' = A := by
  unfold a_set at h
  by_cases h1 : fnd (gi (aT A) 145) x (aP A o) = -1
  · rw [if_pos h1] at h
    cases hf : aF A with
    | nil => rw [hf] at h; exact ((Prod.mk.inj h).2).symm
    | cons p fl => rw [hf] at h; cases h
  · rw [if_neg h1] at h; cases h
theorem gro_rem {A : mA} {o : Nat} (x : Int32) (i : iA A) (ho : o < aO A) (h3 : ¬ gi (aT A) 141 o = 3) : gro A (a_rem A o x) := by
  obtain ⟨i2, eL, eO, eT⟩ := iA_rem x i ho
  refine ⟨by rw [eO]; exact Nat.le_refl _, ⟨[], by rw [eL, List.append_nil]⟩, fun z hz => ⟨fun a ha => eT a z (by omega), .inl (eT 138 z (by omega)), fun hz3 y hy => ?_⟩⟩
  obtain ⟨q, hq, eq⟩ := hy
  have hne : ¬ z = o := fun e => h3 (by rw [← e]; exact hz3)
  rcases fnd_or (gi (aT A) 145) x (aP A o) with ⟨-, e⟩ | ⟨l1, p, l2, e1, e2, e3, -⟩
  · rw [a_rem_none e]; exact ⟨q, hq, eq⟩
  · rw [a_rem_some i ho e1 e2 e3]
    refine ⟨q, ?_, ?_⟩
    · show q ∈ (if z = o then l1 ++ l2 else aP A z)
      rw [if_neg hne]; exact hq
    · show gi (m_rem (aT A) o p l1) 145 q = y
      rw [m_rem_nm _ _ _ _ (by omega)]; exact eq
theorem gro_new {A : mA} {pr st lk : Int32} {lb : Nat} (hlb : lb < 160) (hpar : 29 ≤ lb → (lb - 29) % 2 = 0) : gro A (a_new A pr lb st lk) := by
  refine ⟨Nat.le_succ _, ⟨[], by show aL A = _; rw [List.append_nil]⟩, fun z hz => ⟨fun a ha => ?_, ?_, fun _ x hx => ?_⟩⟩
  · rw [a_new_srt _ _ _ _ _ _ _ ha, if_neg (by omega)]
  · have e138 : gi (aT (a_new A pr lb st lk)) 138 z = if z < aO A ∧ 29 ≤ lb ∧ gi (aT A) 138 z = nI lb then nI (lb + 1) else gi (aT A) 138 z := by
      show gi (m_new (aT A) (aO A) pr lb st lk) 138 z = _
      rw [m_new_at]
      simp [show ¬ z = aO A by omega]
    rw [e138]
    by_cases c : z < aO A ∧ 29 ≤ lb ∧ gi (aT A) 138 z = nI lb
    · rw [if_pos c]; exact .inr ⟨lb, c.2.1, hlb, hpar c.2.1, c.2.2, rfl⟩
    · rw [if_neg c]; exact .inl rfl
  · obtain ⟨q, h1, h2⟩ := hx
    refine ⟨q, ?_, ?_⟩
    · show q ∈ (if z = aO A then [] else aP A z)
      rw [if_neg (by omega)]; exact h1
    · show gi (m_new (aT A) (aO A) pr lb st lk) 145 q = x
      rw [m_new_at]
      simp
      exact h2
theorem gro_code {A : mA} {o : Nat} {g : Int32} (ho : aO A ≤ o) {B : mA} (h : gro A B) : gro A (a_code B o g) := by
  obtain ⟨h1, h2, h3⟩ := h
  refine ⟨h1, h2, fun z hz => ?_⟩
  obtain ⟨a1, a2, a3⟩ := h3 z hz
  have e : ∀ a, gi (aT (a_code B o g)) a z = gi (aT B) a z := fun a => by
    show gi (si (aT B) 142 o g) a z = _
    exact gi_ne (by omega)
  refine ⟨fun a ha => (e a).trans (a1 a ha), by rw [e]; exact a2, fun h x hx => ?_⟩
  obtain ⟨q, q1, q2⟩ := a3 h x hx
  refine ⟨q, q1, ?_⟩
  show gi (si (aT B) 142 o g) 145 q = x
  rw [gi_oth (by decide)]; exact q2
/-! WHAT HOLDS OF THE HEAP while the machine runs -/
/-- the text `length` -/
def mlen : List Int32 := [108, 101, 110, 103, 116, 104]
theorem mdi_ne : ∀ n : Nat, n ≤ 100 → ¬ (mdi (nI n)).take 60 = mlen := by decide +kernel
/-- a scope of a function -/
def isSc (A : mA) (G : mG) (o g : Nat) : Prop := o < aO A ∧ gi (aT A) 141 o = 3 ∧ 1 ≤ g ∧ (g < G.length ∧ g < 13) ∧ (gi (aT A) 138 o = nI (29 + 6 * (g - 1)) ∨ gi (aT A) 138 o = nI (29 + 6 * (g - 1) + 1))
/-- a link to a scope of a function; none for the outermost -/
def lkOK (A : mA) (G : mG) (l : Int32) (g : Nat) : Prop := (g = 0 ∧ l = -1) ∨ (1 ≤ g ∧ ∃ o, l = nI o ∧ isSc A G o g)
def J (G : mG) (par : Nat → Nat) (A : mA) : Prop := iA A ∧ iL A ∧ (((aL A)[0]? = some mlen ∧ gi (aT A) 141 0 = 0) ∧ wG G (aL A).length) ∧ iC A G ∧
  (∀ f g, f < aO A → gi (aT A) 141 f = 1 → 23 ≤ f → gi (aT A) 142 f = nI g → g < 100 → lkOK A G (gi (aT A) 140 f) (par g)) ∧
  ∀ o g, isSc A G o g → (∀ q, G[g]? = some q → ∀ x ∈ q.2.2.1, has A o (nI x)) ∧ lkOK A G (gi (aT A) 140 o) (par g)
