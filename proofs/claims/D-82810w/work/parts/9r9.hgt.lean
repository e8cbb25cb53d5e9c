/-! HEIGHTS of stacks; tries -/
/-- m new instructions, twice the height at most b, tries at most T -/
def hB (T : Nat) (e : gN) (s s' : gS) (m b : Nat) : Prop := ∃ n : List gI, s'.c = s.c ++ n ∧ n.length = m ∧ ∀ q ∈ n, 2 * q.2.2.2.2.2.1.length ≤ b ∧ q.2.2.2.2.2.2.length ≤ T ∧ q.2.2.1 = e.1
theorem hB.rf {T b : Nat} {e : gN} (s : gS) : hB T e s s 0 b := ⟨[], by rw [List.append_nil], rfl, fun q hq => by cases hq⟩
theorem hB.ad {T : Nat} {e : gN} {s s' s'' : gS} {m m' b b' : Nat} (h : hB T e s s' m b) (h' : hB T e s' s'' m' b') (hb : b' ≤ b) : hB T e s s'' (m + m') b := by
  obtain ⟨n, a1, a2, a3⟩ := h
  obtain ⟨n', b1, b2, b3⟩ := h'
  refine ⟨n ++ n', by rw [b1, a1, List.append_assoc], by rw [List.length_append, a2, b2], fun q hq => ?_⟩
  rcases List.mem_append.mp hq with z | z
  · exact a3 q z
  · exact ⟨Nat.le_trans (b3 q z).1 hb, (b3 q z).2⟩
theorem hB.up {T : Nat} {e : gN} {s s' : gS} {m b b' : Nat} (h : hB T e s s' m b) (hb : b ≤ b') : hB T e s s' m b' := by
  obtain ⟨n, a1, a2, a3⟩ := h
  exact ⟨n, a1, a2, fun q hq => ⟨Nat.le_trans (a3 q hq).1 hb, (a3 q hq).2⟩⟩
theorem hB_em {T : Nat} (e : gN) (Γ : gK) (L : List Bool) (op a b : Int32) (m : Option Nat) (s : gS) (hT : (trs Γ).length ≤ T) : hB T e s (em e Γ L op a b m s) 1 (2 * L.length) := ⟨[_], rfl, rfl, fun q hq => by rw [List.mem_singleton.mp hq]; exact ⟨Nat.le_refl _, hT, rfl⟩⟩
theorem hB.em {T : Nat} {s0 s : gS} {k X : Nat} (e : gN) (h : hB T e s0 s k X) (Γ : gK) (L : List Bool) (op a b : Int32) (m : Option Nat) (hT : (trs Γ).length ≤ T) (hL : 2 * L.length ≤ X) : hB T e s0 (em e Γ L op a b m s) (k + 1) X := h.ad (hB_em e Γ L op a b m s hT) hL
theorem hB.get {T : Nat} {e : gN} {s0 s : gS} {k X x : Nat} {Γ : gK} {L : List Bool} (h : hB T e s0 s k X) (hT : (trs Γ).length ≤ T) (hL : 2 * L.length ≤ X) : hB T e s0 (gGet x e Γ L s) (k + 1) X := by
  unfold gGet; split <;> exact h.em _ _ _ _ _ _ _ hT hL
theorem hB.set {T : Nat} {e : gN} {s0 s : gS} {k X x : Nat} {Γ : gK} {L : List Bool} (h : hB T e s0 s k X) (hT : (trs Γ).length ≤ T) (hL : 2 * L.length ≤ X) : hB T e s0 (gSet x e Γ L s) (k + 1) X := by
  unfold gSet; split <;> exact h.em _ _ _ _ _ _ _ hT hL
theorem psh_ln (n : Nat) (L : List Bool) : (psh n L).length = n + L.length := by
  show (List.replicate n false ++ L).length = _
  rw [List.length_append, List.length_replicate]
def hE (j : Nat) (g : gEx) : Prop := ∀ (T : Nat) e Γ L s, (trs Γ).length ≤ T → ∃ m, 1 ≤ m ∧ hB T e s (g e Γ L s) m (2 * L.length + m + 8 * j + 2)
theorem hE.mono {j k : Nat} {g : gEx} (h : hE j g) (hk : j ≤ k) : hE k g := fun T e Γ L s hT => by
  obtain ⟨m, h1, h2⟩ := h T e Γ L s hT
  exact ⟨m, h1, h2.up (by omega)⟩
/-- arguments, so many values above -/
theorem hE_arg {j T : Nat} {e : gN} {Γ : gK} (hT : (trs Γ).length ≤ T) : ∀ {as : List gEx} (L : List Bool) (s : gS), (∀ a ∈ as, hE j a) → ∃ m, as.length ≤ m ∧ ∀ X, (1 ≤ as.length → 2 * L.length + m + as.length + 8 * j + 1 ≤ X) → hB T e s (gArg as e Γ L s) m X
  | [], L, s, _ => ⟨0, Nat.le_refl _, fun X _ => hB.rf s⟩
  | a :: as, L, s, h => by
    obtain ⟨m1, l1, h1⟩ := h a List.mem_cons_self T e Γ L s hT
    obtain ⟨m2, l2, h2⟩ := hE_arg hT (as := as) (psh 1 L) (a e Γ L s) (fun b hb => h b (List.mem_cons_of_mem _ hb))
    rw [psh_ln] at h2
    rw [List.length_cons]
    refine ⟨m1 + m2, by omega, fun X hX => ?_⟩
    have hX := hX (by omega)
    exact (h1.up (by omega)).ad (h2 X (by omega)) (Nat.le_refl _)
theorem hE_its {j T : Nat} {e : gN} {Γ : gK} (hT : (trs Γ).length ≤ T) : ∀ {r : List (Int32 × Int32 × gEx)} (L : List Bool) (s : gS), (∀ q ∈ r, hE j q.2.2) → ∃ m, hB T e s (gIts r e Γ L s) m (2 * L.length + m + 8 * j + 8)
  | [], L, s, _ => ⟨0, hB.rf s⟩
  | (c, v, x) :: r, L, s, h => by
    obtain ⟨m1, l1, h1⟩ := h (c, v, x) List.mem_cons_self T e Γ (psh 3 L) (em e Γ (psh 2 L) 0 c v none (em e Γ (psh 1 L) 18 0 0 none s)) hT
    obtain ⟨m2, h2⟩ := hE_its hT (r := r) L (em e Γ (psh 2 L) 17 0 0 none (em e Γ (psh 4 L) 11 0 0 none (x e Γ (psh 3 L) (em e Γ (psh 2 L) 0 c v none (em e Γ (psh 1 L) 18 0 0 none s))))) (fun b hb => h b (List.mem_cons_of_mem _ hb))
    have e1 := psh_ln 1 L
    have e2 := psh_ln 2 L
    have e3 := psh_ln 3 L
    have e4 := psh_ln 4 L
    rw [e3] at h1
    have k0 : hB T e s s 0 (2 * L.length + (4 + m1 + m2) + 8 * j + 8) := hB.rf s
    have k1 := ((k0.em e Γ (psh 1 L) 18 0 0 none hT (by omega)).em e Γ (psh 2 L) 0 c v none hT (by omega)).ad h1 (by omega)
    have k2 := ((k1.em e Γ (psh 4 L) 11 0 0 none hT (by omega)).em e Γ (psh 2 L) 17 0 0 none hT (by omega)).ad h2 (by omega)
    rw [show 0 + 1 + 1 + m1 + 1 + 1 + m2 = 4 + m1 + m2 by omega] at k2
    exact ⟨_, k2⟩
theorem hB.eq {T : Nat} {e : gN} {s s' : gS} {m m' b : Nat} (h : hB T e s s' m b) (e' : m = m') : hB T e s s' m' b := by rw [← e']; exact h
/-- the same instructions -/
theorem hB.sm {T : Nat} {e : gN} {s s' s'' : gS} {m b : Nat} (h : hB T e s s' m b) (e' : s''.c = s'.c) : hB T e s s'' m b := by
  obtain ⟨n, a1, a2⟩ := h
  exact ⟨n, e'.trans a1, a2⟩
theorem hE_cls {N : Nat} {Φ : Nat → Prop} {j : Nat} {g : gEx} (h : cEx N Φ j g) : hE j g := by
  have two : ∀ {j : Nat} {o k : gEx} (op : Int32), hE j o → hE j k → hE j (fun e Γ L st => em e Γ (psh 2 L) op 0 0 none (k e Γ (psh 1 L) (o e Γ L st))) := fun {j o k} op i1 i2 T e Γ L s hT => by
    obtain ⟨m1, l1, h1⟩ := i1 T e Γ L s hT
    obtain ⟨m2, l2, h2⟩ := i2 T e Γ (psh 1 L) (o e Γ L s) hT
    have e1 := psh_ln 1 L
    have e2 := psh_ln 2 L
    rw [e1] at h2
    have k0 : hB T e s s 0 (2 * L.length + (m1 + m2 + 1) + 8 * j + 2) := hB.rf s
    exact ⟨m1 + m2 + 1, by omega, (((k0.ad h1 (by omega)).ad h2 (by omega)).em e Γ (psh 2 L) op 0 0 none hT (by omega)).eq (by omega)⟩
  induction h using cEx.ind with
  | mono _ hm ih => exact ih.mono hm
  | co h => exact fun T e Γ L s hT => ⟨1, by omega, (hB_em e Γ L _ _ _ _ s hT).up (by omega)⟩
  | th => exact fun T e Γ L s hT => ⟨1, by omega, (hB_em e Γ L _ _ _ _ s hT).up (by omega)⟩
  | get h => exact fun T e Γ L s hT => ⟨1, by omega, (hB.rf s).get hT (by omega)⟩
  | md h => exact fun T e Γ L s hT => ⟨1, by omega, (hB_em e Γ L _ _ _ _ s hT).up (by omega)⟩
  | mem _ _ i1 i2 => exact two 10 i1 i2
  | @call n f as _ _ hl i1 i2 =>
    intro T e Γ L s hT
    obtain ⟨m1, l1, h1⟩ := i1 T e Γ (psh 1 L) (em e Γ L 0 0 0 none s) hT
    obtain ⟨m2, l2, h2⟩ := hE_arg hT (psh 2 L) (f e Γ (psh 1 L) (em e Γ L 0 0 0 none s)) i2
    have e1 := psh_ln 1 L
    have e2 := psh_ln 2 L
    have e3 := psh_ln (as.length + 2) L
    rw [e1] at h1
    rw [e2] at h2
    have h2 := h2 (2 * L.length + (1 + m1 + m2 + 1) + 8 * (n + 1) + 2) (by omega)
    have k0 : hB T e s s 0 (2 * L.length + (1 + m1 + m2 + 1) + 8 * (n + 1) + 2) := hB.rf s
    exact ⟨1 + m1 + m2 + 1, by omega, ((((k0.em e Γ L 0 0 0 none hT (by omega)).ad h1 (by omega)).ad h2 (by omega)).em e Γ (psh (as.length + 2) L) 15 (Int32.ofNat as.length) 0 none hT (by omega)).eq (by omega)⟩
  | @callM n o k as _ _ _ hl i1 i2 i3 =>
    intro T e Γ L s hT
    obtain ⟨m1, l1, h1⟩ := i1 T e Γ L s hT
    obtain ⟨m2, l2, h2⟩ := i2 T e Γ (psh 2 L) (em e Γ (psh 1 L) 18 0 0 none (o e Γ L s)) hT
    obtain ⟨m3, l3, h3⟩ := hE_arg hT (psh 2 L) (em e Γ (psh 3 L) 10 0 0 none (k e Γ (psh 2 L) (em e Γ (psh 1 L) 18 0 0 none (o e Γ L s)))) i3
    have e1 := psh_ln 1 L
    have e2 := psh_ln 2 L
    have e4 := psh_ln 3 L
    have e3 := psh_ln (as.length + 2) L
    rw [e2] at h2 h3
    have h3 := h3 (2 * L.length + (m1 + m2 + m3 + 3) + 8 * (n + 1) + 2) (by omega)
    have k0 : hB T e s s 0 (2 * L.length + (m1 + m2 + m3 + 3) + 8 * (n + 1) + 2) := hB.rf s
    have k1 := ((k0.ad h1 (by omega)).em e Γ (psh 1 L) 18 0 0 none hT (by omega)).ad h2 (by omega)
    exact ⟨m1 + m2 + m3 + 3, by omega, (((k1.em e Γ (psh 3 L) 10 0 0 none hT (by omega)).ad h3 (by omega)).em e Γ (psh (as.length + 2) L) 15 (Int32.ofNat as.length) 0 none hT (by omega)).eq (by omega)⟩
  | @new n f as _ _ hl i1 i2 =>
    intro T e Γ L s hT
    obtain ⟨m1, l1, h1⟩ := i1 T e Γ L s hT
    obtain ⟨m2, l2, h2⟩ := hE_arg hT (psh 1 L) (f e Γ L s) i2
    have e1 := psh_ln 1 L
    have e3 := psh_ln (as.length + 1) L
    rw [e1] at h2
    have h2 := h2 (2 * L.length + (m1 + m2 + 1) + 8 * (n + 1) + 2) (by omega)
    have k0 : hB T e s s 0 (2 * L.length + (m1 + m2 + 1) + 8 * (n + 1) + 2) := hB.rf s
    exact ⟨m1 + m2 + 1, by omega, (((k0.ad h1 (by omega)).ad h2 (by omega)).em e Γ (psh (as.length + 1) L) 16 (Int32.ofNat as.length) (Int32.ofNat (gArg as e Γ (psh 1 L) (f e Γ L s)).si) none hT (by omega)).eq (by omega)⟩
  | @itm n op r h1 h2 _ i =>
    intro T e Γ L s hT
    obtain ⟨m1, h1⟩ := hE_its hT L (sit (em e Γ L op (Int32.ofNat s.si) 0 none s)) i
    have k0 : hB T e s s 0 (2 * L.length + (1 + m1) + 8 * (n + 1) + 2) := hB.rf s
    have k1 := k0.em e Γ L op (Int32.ofNat s.si) 0 none hT (by omega)
    exact ⟨1 + m1, by omega, ((k1.ad h1 (by omega)).eq (by omega))⟩
  | @un n k x _ _ i =>
    intro T e Γ L s hT
    obtain ⟨m1, l1, h1⟩ := i T e Γ L s hT
    have e1 := psh_ln 1 L
    exact ⟨m1 + 1, by omega, (h1.up (by omega)).em e Γ (psh 1 L) _ _ _ _ hT (by omega)⟩
  | @void n x _ i =>
    intro T e Γ L s hT
    obtain ⟨m1, l1, h1⟩ := i T e Γ L s hT
    have e1 := psh_ln 1 L
    have k1 : hB T e s _ m1 (2 * L.length + (m1 + 1 + 1) + 8 * n + 2) := h1.up (by omega)
    exact ⟨m1 + 1 + 1, by omega, (k1.em e Γ (psh 1 L) _ _ _ _ hT (by omega)).em e Γ L _ _ _ _ hT (by omega)⟩
  | del _ _ i1 i2 => exact two 12 i1 i2
  | @typ n x h =>
    intro T e Γ L s hT
    have e1 := psh_ln 1 L
    unfold gTyp
    split
    · have k0 : hB T e s s 0 (2 * L.length + 2 + 8 * n + 2) := hB.rf s
      exact ⟨2, by omega, (k0.em e Γ L _ _ _ _ hT (by omega)).em e Γ (psh 1 L) _ _ _ _ hT (by omega)⟩
    · exact ⟨1, by omega, (hB_em e Γ L _ _ _ _ s hT).up (by omega)⟩
  | @bin n k x y hk _ _ i1 i2 =>
    intro T e Γ L s hT
    obtain ⟨m1, l1, h1⟩ := i1 T e Γ L s hT
    obtain ⟨m2, l2, h2⟩ := i2 T e Γ (psh 1 L) (x e Γ L s) hT
    have e1 := psh_ln 1 L
    have e2 := psh_ln 2 L
    rw [e1] at h2
    have k0 : hB T e s s 0 (2 * L.length + (m1 + m2 + 1) + 8 * n + 2) := hB.rf s
    exact ⟨m1 + m2 + 1, by omega, (((k0.ad h1 (by omega)).ad h2 (by omega)).em e Γ (psh 2 L) _ _ _ _ hT (by omega)).eq (by omega)⟩
  | @and n op x y h _ _ i1 i2 =>
    intro T e Γ L s hT
    obtain ⟨m1, l1, h1⟩ := i1 T e Γ L s hT
    obtain ⟨m2, l2, h2⟩ := i2 T e Γ L (em e Γ (psh 1 L) op 0 0 (some (x e Γ L s).m) (mkm (x e Γ L s))) hT
    have e1 := psh_ln 1 L
    have k0 : hB T e s s 0 (2 * L.length + (m1 + 1 + m2) + 8 * n + 2) := hB.rf s
    have k1 := (((k0.ad h1 (by omega)).sm (s'' := mkm (x e Γ L s)) rfl).em e Γ (psh 1 L) op 0 0 (some (x e Γ L s).m) hT (by omega)).ad h2 (by omega)
    exact ⟨m1 + 1 + m2, by omega, (k1.sm (s'' := hre (x e Γ L s).m _) rfl).eq (by omega)⟩
  | @choice n x y z _ _ _ i1 i2 i3 =>
    intro T e Γ L s hT
    obtain ⟨m1, l1, h1⟩ := i1 T e Γ L (mkm (mkm s)) hT
    obtain ⟨m2, l2, h2⟩ := i2 T e Γ L (em e Γ (psh 1 L) 22 0 0 (some s.m) (x e Γ L (mkm (mkm s)))) hT
    obtain ⟨m3, l3, h3⟩ := i3 T e Γ L (hre s.m (em e Γ (psh 1 L) 21 0 0 (some (s.m + 1)) (y e Γ L (em e Γ (psh 1 L) 22 0 0 (some s.m) (x e Γ L (mkm (mkm s))))))) hT
    have e1 := psh_ln 1 L
    have k0 : hB T e s (mkm (mkm s)) 0 (2 * L.length + (m1 + m2 + m3 + 2) + 8 * n + 2) := (hB.rf s).sm rfl
    have k1 := ((k0.ad h1 (by omega)).em e Γ (psh 1 L) 22 0 0 (some s.m) hT (by omega)).ad h2 (by omega)
    have k2 := ((k1.em e Γ (psh 1 L) 21 0 0 (some (s.m + 1)) hT (by omega)).sm (s'' := hre s.m _) rfl).ad h3 (by omega)
    exact ⟨m1 + m2 + m3 + 2, by omega, (k2.sm (s'' := hre (s.m + 1) _) rfl).eq (by omega)⟩
  | @com n x y _ _ i1 i2 =>
    intro T e Γ L s hT
    obtain ⟨m1, l1, h1⟩ := i1 T e Γ L s hT
    obtain ⟨m2, l2, h2⟩ := i2 T e Γ L (em e Γ (psh 1 L) 17 0 0 none (x e Γ L s)) hT
    have e1 := psh_ln 1 L
    have k0 : hB T e s s 0 (2 * L.length + (m1 + 1 + m2) + 8 * n + 2) := hB.rf s
    exact ⟨m1 + 1 + m2, by omega, (((k0.ad h1 (by omega)).em e Γ (psh 1 L) 17 0 0 none hT (by omega)).ad h2 (by omega)).eq (by omega)⟩
  | @gvn0 n x v h _ i =>
    intro T e Γ L s hT
    obtain ⟨m1, l1, h1⟩ := i T e Γ L s hT
    have e1 := psh_ln 1 L
    have k1 : hB T e s _ m1 (2 * L.length + (m1 + 1) + 8 * n + 2) := h1.up (by omega)
    exact ⟨m1 + 1, by omega, k1.set hT (by omega)⟩
  | @gvn1 n x k v h h2 _ i =>
    intro T e Γ L s hT
    obtain ⟨m1, l1, h1⟩ := i T e Γ (psh 1 L) (gGet x e Γ L s) hT
    have e1 := psh_ln 1 L
    have e2 := psh_ln 2 L
    rw [e1] at h1
    have k0 : hB T e s s 0 (2 * L.length + (m1 + 3) + 8 * n + 2) := hB.rf s
    have k1 := ((k0.get (x := x) (e := e) (L := L) hT (by omega)).ad h1 (by omega)).em e Γ (psh 2 L) 14 (Int32.ofNat k) 0 none hT (by omega)
    exact ⟨m1 + 3, by omega, (k1.set (x := x) (e := e) (L := psh 1 L) hT (by omega)).eq (by omega)⟩
  | @gvm0 n o k v _ _ _ i1 i2 i3 =>
    intro T e Γ L s hT
    obtain ⟨m1, l1, h1⟩ := i1 T e Γ L s hT
    obtain ⟨m2, l2, h2⟩ := i2 T e Γ (psh 1 L) (o e Γ L s) hT
    obtain ⟨m3, l3, h3⟩ := i3 T e Γ (psh 2 L) (k e Γ (psh 1 L) (o e Γ L s)) hT
    have e1 := psh_ln 1 L
    have e2 := psh_ln 2 L
    have e3 := psh_ln 3 L
    rw [e1] at h2
    rw [e2] at h3
    have k0 : hB T e s s 0 (2 * L.length + (m1 + m2 + m3 + 1) + 8 * (n + 1) + 2) := hB.rf s
    exact ⟨m1 + m2 + m3 + 1, by omega, ((((k0.ad h1 (by omega)).ad h2 (by omega)).ad h3 (by omega)).em e Γ (psh 3 L) 11 0 0 none hT (by omega)).eq (by omega)⟩
  | @gvm1 n h o k v _ _ _ _ i1 i2 i3 =>
    intro T e Γ L s hT
    obtain ⟨m1, l1, h1⟩ := i1 T e Γ L s hT
    obtain ⟨m2, l2, h2⟩ := i2 T e Γ (psh 1 L) (o e Γ L s) hT
    obtain ⟨m3, l3, h3⟩ := i3 T e Γ (psh 3 L) (em e Γ (psh 4 L) 10 0 0 none (em e Γ (psh 2 L) 19 0 0 none (k e Γ (psh 1 L) (o e Γ L s)))) hT
    have e1 := psh_ln 1 L
    have e2 := psh_ln 2 L
    have e3 := psh_ln 3 L
    have e4 := psh_ln 4 L
    rw [e1] at h2
    rw [e3] at h3
    have k0 : hB T e s s 0 (2 * L.length + (m1 + m2 + m3 + 4) + 8 * n + 2) := hB.rf s
    have k1 := (((k0.ad h1 (by omega)).ad h2 (by omega)).em e Γ (psh 2 L) 19 0 0 none hT (by omega)).em e Γ (psh 4 L) 10 0 0 none hT (by omega)
    exact ⟨m1 + m2 + m3 + 4, by omega, (((k1.ad h3 (by omega)).em e Γ (psh 4 L) 14 (Int32.ofNat h) 0 none hT (by omega)).em e Γ (psh 3 L) 11 0 0 none hT (by omega)).eq (by omega)⟩
  | @bfn n x k h1 h2 =>
    intro T e Γ L s hT
    have e1 := psh_ln 1 L
    have e2 := psh_ln 2 L
    have k0 : hB T e s s 0 (2 * L.length + 5 + 8 * n + 2) := hB.rf s
    exact ⟨5, by omega, ((((k0.get hT (by omega)).em e Γ (psh 1 L) _ _ _ _ hT (by omega)).em e Γ (psh 1 L) _ _ _ _ hT (by omega)).em e Γ (psh 2 L) _ _ _ _ hT (by omega)).set hT (by omega)⟩
  | @bhn n x k h1 h2 =>
    intro T e Γ L s hT
    have e1 := psh_ln 1 L
    have e2 := psh_ln 2 L
    have e3 := psh_ln 3 L
    have k0 : hB T e s s 0 (2 * L.length + 7 + 8 * n + 2) := hB.rf s
    exact ⟨7, by omega, ((((((k0.get hT (by omega)).em e Γ (psh 1 L) _ _ _ _ hT (by omega)).em e Γ (psh 1 L) _ _ _ _ hT (by omega)).em e Γ (psh 2 L) _ _ _ _ hT (by omega)).em e Γ (psh 3 L) _ _ _ _ hT (by omega)).set hT (by omega)).em e Γ (psh 2 L) _ _ _ _ hT (by omega)⟩
  | @bfm n h o k _ _ _ i1 i2 =>
    intro T e Γ L s hT
    obtain ⟨m1, l1, h1⟩ := i1 T e Γ L s hT
    obtain ⟨m2, l2, h2⟩ := i2 T e Γ (psh 1 L) (o e Γ L s) hT
    have e1 := psh_ln 1 L
    have e2 := psh_ln 2 L
    have e3 := psh_ln 3 L
    have e4 := psh_ln 4 L
    rw [e1] at h2
    have k0 : hB T e s s 0 (2 * L.length + (m1 + m2 + 6) + 8 * n + 2) := hB.rf s
    have k1 := (((k0.ad h1 (by omega)).ad h2 (by omega)).em e Γ (psh 2 L) 19 0 0 none hT (by omega)).em e Γ (psh 4 L) 10 0 0 none hT (by omega)
    exact ⟨m1 + m2 + 6, by omega, ((((k1.em e Γ (psh 3 L) 13 0 0 none hT (by omega)).em e Γ (psh 3 L) 0 5 1 none hT (by omega)).em e Γ (psh 4 L) 14 (Int32.ofNat h) 0 none hT (by omega)).em e Γ (psh 3 L) 11 0 0 none hT (by omega)).eq (by omega)⟩
  | @bhm n h o k _ _ _ i1 i2 =>
    intro T e Γ L s hT
    obtain ⟨m1, l1, h1⟩ := i1 T e Γ L s hT
    obtain ⟨m2, l2, h2⟩ := i2 T e Γ (psh 1 L) (o e Γ L s) hT
    have e1 := psh_ln 1 L
    have e2 := psh_ln 2 L
    have e3 := psh_ln 3 L
    have e4 := psh_ln 4 L
    have e5 := psh_ln 5 L
    rw [e1] at h2
    have k0 : hB T e s s 0 (2 * L.length + (m1 + m2 + 8) + 8 * n + 2) := hB.rf s
    have k1 := (((k0.ad h1 (by omega)).ad h2 (by omega)).em e Γ (psh 2 L) 19 0 0 none hT (by omega)).em e Γ (psh 4 L) 10 0 0 none hT (by omega)
    have k2 := ((k1.em e Γ (psh 3 L) 13 0 0 none hT (by omega)).em e Γ (psh 3 L) 20 0 0 none hT (by omega)).em e Γ (psh 4 L) 0 5 1 none hT (by omega)
    exact ⟨m1 + m2 + 8, by omega, (((k2.em e Γ (psh 5 L) 14 (Int32.ofNat h) 0 none hT (by omega)).em e Γ (psh 4 L) 11 0 0 none hT (by omega)).em e Γ (psh 2 L) 17 0 0 none hT (by omega)).eq (by omega)⟩
