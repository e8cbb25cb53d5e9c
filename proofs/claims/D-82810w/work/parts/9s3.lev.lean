/-! FINALLYS WITHIN ONE ANOTHER: r of them take r * r instructions -/
/-- from s to s': at most r finallys within one another, r instructions at least, and r * r with what is owed -/
def rP (s s' : gS) (r Q : Nat) : Prop := s'.lev = s.lev ∧ s'.mx ≤ max s.mx (s.lev + r) ∧ s.c.length + r ≤ s'.c.length ∧ r * r + s.c.length ≤ s'.c.length + Q
/-- what is around, but for values: its kind, a finally's r -/
abbrev rK : Type := List (Nat × Option Nat)
def rQ : rK → Nat
  | [] => 0
  | (_, some r) :: K => 2 * r + rQ K
  | (_, none) :: K => rQ K
def kro : gK → rK → Prop
  | [], K => K = []
  | w :: Γ, K => if w.1 = 3 then kro Γ K else ∃ o K', K = (w.1, o) :: K' ∧ kro Γ K' ∧ (w.2.2.2.2.2 = none → o = none) ∧ ∀ φ, w.2.2.2.2.2 = some φ → ∃ r, o = some r ∧ ∀ X s, rP s (φ X s) r (rQ K')
theorem rP.rf (s : gS) (Q : Nat) : rP s s 0 Q := ⟨rfl, Nat.le_max_left _ _, Nat.le_refl _, by omega⟩
theorem rP.len {s s' : gS} {r Q : Nat} (h : rP s s' r Q) : s.c.length ≤ s'.c.length := by have := h.2.2.1; omega
theorem rP.tr {s s' s'' : gS} {r r' Q : Nat} (h : rP s s' r Q) (h' : rP s' s'' r' Q) : rP s s'' (max r r') Q := by
  obtain ⟨a1, a2, a3, a4⟩ := h
  obtain ⟨b1, b2, b3, b4⟩ := h'
  rw [a1] at b2
  refine ⟨b1.trans a1, by omega, by omega, ?_⟩
  by_cases z : r ≤ r'
  · rw [Nat.max_eq_right z]; omega
  · rw [Nat.max_eq_left (by omega)]; omega
/-- code in which no finally is coded -/
def rN (s s' : gS) : Prop := s'.lev = s.lev ∧ s'.mx = s.mx ∧ s.c.length ≤ s'.c.length
theorem rN.p {s s' : gS} (h : rN s s') (Q : Nat) : rP s s' 0 Q := ⟨h.1, by rw [h.2.1]; exact Nat.le_max_left _ _, h.2.2, by have := h.2.2; omega⟩
theorem rN.tr {s s' s'' : gS} (h : rN s s') (h' : rN s' s'') : rN s s'' := ⟨h'.1.trans h.1, h'.2.1.trans h.2.1, Nat.le_trans h.2.2 h'.2.2⟩
theorem rN.rf (s : gS) : rN s s := ⟨rfl, rfl, Nat.le_refl _⟩
theorem rN_em (e : gN) (Γ : gK) (L : List Bool) (op a b : Int32) (m : Option Nat) (s : gS) : rN s (em e Γ L op a b m s) := ⟨rfl, rfl, by rw [em_ln]; omega⟩
theorem rN.em {s0 s : gS} (h : rN s0 s) (e : gN) (Γ : gK) (L : List Bool) (op a b : Int32) (m : Option Nat) : rN s0 (em e Γ L op a b m s) := h.tr (rN_em ..)
theorem rN.set {s0 s : gS} (h : rN s0 s) (x : Nat) (e : gN) (Γ : gK) (L : List Bool) : rN s0 (gSet x e Γ L s) := by unfold gSet; split <;> exact h.em ..
theorem rN.get {s0 s : gS} (h : rN s0 s) (x : Nat) (e : gN) (Γ : gK) (L : List Bool) : rN s0 (gGet x e Γ L s) := by unfold gGet; split <;> exact h.em ..
def rE (g : gEx) : Prop := ∀ e Γ L s, rN s (g e Γ L s)
theorem rN.ex {s0 s : gS} (h : rN s0 s) {g : gEx} (hg : rE g) (e : gN) (Γ : gK) (L : List Bool) : rN s0 (g e Γ L s) := h.tr (hg ..)
theorem rN.arg {e : gN} {Γ : gK} : ∀ {as : List gEx} (L : List Bool) {s0 s : gS}, rN s0 s → (∀ a ∈ as, rE a) → rN s0 (gArg as e Γ L s)
  | [], L, s0, s, h, _ => h
  | a :: as, L, s0, s, h, ha => rN.arg (as := as) (psh 1 L) (h.ex (ha a List.mem_cons_self) e Γ L) (fun b hb => ha b (List.mem_cons_of_mem _ hb))
theorem rN.its {e : gN} {Γ : gK} : ∀ {r : List (Int32 × Int32 × gEx)} (L : List Bool) {s0 s : gS}, rN s0 s → (∀ q ∈ r, rE q.2.2) → rN s0 (gIts r e Γ L s)
  | [], L, s0, s, h, _ => h
  | (c, v, x) :: r, L, s0, s, h, ha => rN.its (r := r) L (((((h.em ..).em ..).ex (ha _ List.mem_cons_self) e Γ (psh 3 L)).em ..).em ..) (fun b hb => ha b (List.mem_cons_of_mem _ hb))
theorem rE_cls {N : Nat} {Φ : Nat → Prop} {j : Nat} {g : gEx} (h : cEx N Φ j g) : rE g := by
  induction h using cEx.ind with
  | mono _ _ ih => exact ih
  | co h => exact fun e Γ L s => rN_em ..
  | th => exact fun e Γ L s => rN_em ..
  | get h => exact fun e Γ L s => (rN.rf s).get ..
  | md h => exact fun e Γ L s => rN_em ..
  | mem _ _ i1 i2 => exact fun e Γ L s => (((rN.rf s).ex i1 e Γ L).ex i2 e Γ (psh 1 L)).em ..
  | call _ _ _ i1 i2 => exact fun e Γ L s => ((((rN.rf s).em e Γ L 0 0 0 none).ex i1 e Γ (psh 1 L)).arg (psh 2 L) i2).em ..
  | callM _ _ _ _ i1 i2 i3 => exact fun e Γ L s => ((((((rN.rf s).ex i1 e Γ L).em e Γ (psh 1 L) 18 0 0 none).ex i2 e Γ (psh 2 L)).em e Γ (psh 3 L) 10 0 0 none).arg (psh 2 L) i3).em ..
  | new _ _ _ i1 i2 => exact fun e Γ L s => (((rN.rf s).ex i1 e Γ L).arg (psh 1 L) i2).em ..
  | @itm n op r _ _ _ i => exact fun e Γ L s => rN.its L (show rN s (sit (em e Γ L op (Int32.ofNat s.si) 0 none s)) from rN_em ..) i
  | un _ _ i => exact fun e Γ L s => ((rN.rf s).ex i e Γ L).em ..
  | void _ i => exact fun e Γ L s => (((rN.rf s).ex i e Γ L).em ..).em ..
  | del _ _ i1 i2 => exact fun e Γ L s => (((rN.rf s).ex i1 e Γ L).ex i2 e Γ (psh 1 L)).em ..
  | typ h =>
      intro e Γ L s
      unfold gTyp
      split
      · exact ((rN.rf s).em ..).em ..
      · exact rN_em ..
  | bin _ _ _ i1 i2 => exact fun e Γ L s => (((rN.rf s).ex i1 e Γ L).ex i2 e Γ (psh 1 L)).em ..
  | @and n op x y _ _ _ i1 i2 => exact fun e Γ L s => show rN s (y e Γ L (em e Γ (psh 1 L) op 0 0 (some (x e Γ L s).m) (mkm (x e Γ L s)))) from ((show rN s (mkm (x e Γ L s)) from i1 e Γ L s).em e Γ (psh 1 L) op 0 0 (some (x e Γ L s).m)).ex i2 e Γ L
  | @choice n x y z _ _ _ i1 i2 i3 => exact fun e Γ L s => show rN s (z e Γ L (hre s.m (em e Γ (psh 1 L) 21 0 0 (some (s.m + 1)) (y e Γ L (em e Γ (psh 1 L) 22 0 0 (some s.m) (x e Γ L (mkm (mkm s)))))))) from (show rN s (hre s.m (em e Γ (psh 1 L) 21 0 0 (some (s.m + 1)) (y e Γ L (em e Γ (psh 1 L) 22 0 0 (some s.m) (x e Γ L (mkm (mkm s))))))) from (((show rN s (x e Γ L (mkm (mkm s))) from i1 e Γ L (mkm (mkm s))).em e Γ (psh 1 L) 22 0 0 (some s.m)).ex i2 e Γ L).em e Γ (psh 1 L) 21 0 0 (some (s.m + 1))).ex i3 e Γ L
  | com _ _ i1 i2 => exact fun e Γ L s => (((rN.rf s).ex i1 e Γ L).em ..).ex i2 e Γ L
  | gvn0 _ _ i => exact fun e Γ L s => ((rN.rf s).ex i e Γ L).set ..
  | gvn1 _ _ _ i => exact fun e Γ L s => ((((rN.rf s).get ..).ex i e Γ (psh 1 L)).em ..).set ..
  | gvm0 _ _ _ i1 i2 i3 => exact fun e Γ L s => ((((rN.rf s).ex i1 e Γ L).ex i2 e Γ (psh 1 L)).ex i3 e Γ (psh 2 L)).em ..
  | gvm1 _ _ _ _ i1 i2 i3 => exact fun e Γ L s => (((((((rN.rf s).ex i1 e Γ L).ex i2 e Γ (psh 1 L)).em e Γ (psh 2 L) 19 0 0 none).em e Γ (psh 4 L) 10 0 0 none).ex i3 e Γ (psh 3 L)).em ..).em ..
  | bfn _ _ => exact fun e Γ L s => ((((((rN.rf s).get ..).em ..).em ..).em ..).set ..)
  | bhn _ _ => exact fun e Γ L s => (((((((rN.rf s).get ..).em ..).em ..).em ..).em ..).set ..).em ..
  | bfm _ _ _ i1 i2 => exact fun e Γ L s => ((((((((rN.rf s).ex i1 e Γ L).ex i2 e Γ (psh 1 L)).em ..).em ..).em ..).em ..).em ..).em ..
  | bhm _ _ _ i1 i2 => exact fun e Γ L s => ((((((((((rN.rf s).ex i1 e Γ L).ex i2 e Γ (psh 1 L)).em ..).em ..).em ..).em ..).em ..).em ..).em ..).em ..
/-- a statement: r by what is around -/
def rT (y : gSt) : Prop := ∀ K, ∃ r, ∀ e Γ s, kro Γ K → rP s (y e Γ s) r (rQ K)
theorem rT_0 {y : gSt} (h : ∀ e Γ s, rN s (y e Γ s)) : rT y := fun K => ⟨0, fun e Γ s _ => (h e Γ s).p _⟩
theorem kro_w {w : gW} {Γ : gK} {K : rK} (h : kro Γ K) (h3 : w.1 ≠ 3) (hw : w.2.2.2.2.2 = none) : kro (w :: Γ) ((w.1, none) :: K) := by
  show if w.1 = 3 then _ else _
  rw [if_neg h3]
  exact ⟨none, K, rfl, h, fun _ => rfl, fun φ e => by rw [hw] at e; cases e⟩
theorem kro_va {X : List Bool} {Γ : gK} {K : rK} (h : kro Γ K) : kro (vaK X Γ) K := by
  unfold vaK
  split
  · exact h
  · exact h
theorem rP.em {s0 s : gS} {r Q : Nat} (h : rP s0 s r Q) (e : gN) (Γ : gK) (L : List Bool) (op a b : Int32) (m : Option Nat) : rP s0 (em e Γ L op a b m s) r Q := by
  have := h.tr ((rN_em e Γ L op a b m s).p Q)
  rw [Nat.max_zero] at this
  exact this
theorem rP.n {s0 s s' : gS} {r Q : Nat} (h : rP s0 s r Q) (h' : rN s s') : rP s0 s' r Q := by
  have := h.tr (h'.p Q)
  rw [Nat.max_zero] at this
  exact this
theorem rN.then {s0 s s' : gS} {r Q : Nat} (h' : rN s0 s) (h : rP s s' r Q) : rP s0 s' r Q := by
  have := (h'.p Q).tr h
  rw [Nat.zero_max] at this
  exact this
def opR : Option Nat → Nat
  | some r => r + 1
  | none => 0
/-- out of a try: LEAVE, and its finally -/
theorem rP_fi {K : rK} {o : Option Nat} {fi : Option (List Bool → gS → gS)} (h0 : fi = none → o = none) (h1 : ∀ φ, fi = some φ → ∃ r, o = some r ∧ ∀ X s, rP s (φ X s) r (rQ K)) (X : List Bool) (e : gN) (Δ : gK) (L : List Bool) (s : gS) (k : Nat) : rP s (gFi fi X (em e Δ L 28 0 0 none s)) (opR o) (rQ ((k, o) :: K)) := by
  cases fi with
  | none => rw [h0 rfl]; exact (rN_em ..).p _
  | some φ =>
    obtain ⟨r, rfl, h⟩ := h1 φ rfl
    obtain ⟨a1, a2, a3, a4⟩ := h X ((em e Δ L 28 0 0 none s).1, (em e Δ L 28 0 0 none s).2.1, (em e Δ L 28 0 0 none s).2.2.1, (em e Δ L 28 0 0 none s).2.2.2.1, (em e Δ L 28 0 0 none s).lev + 1, max (em e Δ L 28 0 0 none s).mx ((em e Δ L 28 0 0 none s).lev + 1))
    have l : (em e Δ L 28 0 0 none s).c.length = s.c.length + 1 := em_ln ..
    refine ⟨rfl, ?_, ?_, ?_⟩
    · show (φ X _).mx ≤ _
      have a2 : (φ X ((em e Δ L 28 0 0 none s).1, (em e Δ L 28 0 0 none s).2.1, (em e Δ L 28 0 0 none s).2.2.1, (em e Δ L 28 0 0 none s).2.2.2.1, (em e Δ L 28 0 0 none s).lev + 1, max (em e Δ L 28 0 0 none s).mx ((em e Δ L 28 0 0 none s).lev + 1))).mx ≤ max (max s.mx (s.lev + 1)) (s.lev + 1 + r) := a2
      show _ ≤ max s.mx (s.lev + (r + 1))
      omega
    · show _ ≤ (φ X _).c.length
      have a3 : (em e Δ L 28 0 0 none s).c.length + r ≤ _ := a3
      show s.c.length + (r + 1) ≤ _
      omega
    · show (r + 1) * (r + 1) + s.c.length ≤ (φ X _).c.length + (2 * r + rQ K)
      have a4 : r * r + (em e Δ L 28 0 0 none s).c.length ≤ _ := a4
      have : (r + 1) * (r + 1) = r * r + 2 * r + 1 := by rw [Nat.succ_mul, Nat.mul_succ]; omega
      omega
def goR (out : Bool) : rK → Nat
  | [] => 0
  | (k, o) :: K => if k = 0 ∨ k = 4 ∨ (k = 1 ∧ out = true) then 0 else if k = 2 then max (opR o) (goR out K) else goR out K
def reR : rK → Nat
  | [] => 0
  | (k, o) :: K => if k = 2 then max (opR o) (reR K) else reR K
theorem rQ_tl (q : Nat × Option Nat) (K : rK) : rQ K ≤ rQ (q :: K) := by
  obtain ⟨k, o⟩ := q
  cases o with
  | none => exact Nat.le_refl _
  | some r => show rQ K ≤ 2 * r + rQ K; omega
theorem rP.q {s s' : gS} {r Q Q' : Nat} (h : rP s s' r Q) (hq : Q ≤ Q') : rP s s' r Q' := ⟨h.1, h.2.1, h.2.2.1, by have := h.2.2.2; omega⟩
theorem rN_drops (e : gN) (Γ : gK) : ∀ (X L : List Bool) (s : gS), rN s (gDrops e Γ X L s)
  | [], _, s => rN.rf s
  | _ :: X, L, s => (rN_em ..).tr (rN_drops e Γ X L _)
theorem rP_go (out : Bool) (e : gN) : ∀ (Γ : gK) (K : rK) (s : gS), kro Γ K → rP s (gGo out e Γ s) (goR out K) (rQ K)
  | [], K, s, h => by
    have h : K = [] := h
    rw [h]; exact rP.rf s _
  | w :: Γ, K, s, h => by
    have h : if w.1 = 3 then kro Γ K else ∃ o K', K = (w.1, o) :: K' ∧ kro Γ K' ∧ (w.2.2.2.2.2 = none → o = none) ∧ ∀ φ, w.2.2.2.2.2 = some φ → ∃ r, o = some r ∧ ∀ X s, rP s (φ X s) r (rQ K') := h
    unfold gGo
    by_cases z3 : w.1 = 3
    · rw [if_pos z3] at h
      rw [if_neg (by omega), if_neg (by omega), if_neg (by omega), if_pos z3]
      exact (rN_drops ..).then (rP_go out e Γ K _ h)
    rw [if_neg z3] at h
    obtain ⟨o, K', rfl, h1, h2, h3⟩ := h
    unfold goR
    by_cases z0 : w.1 = 0
    · rw [if_pos z0, if_pos (show w.1 = 0 ∨ w.1 = 4 ∨ (w.1 = 1 ∧ out = true) from .inl z0)]; exact (rN_em ..).p _
    rw [if_neg z0]
    by_cases z4 : w.1 = 4
    · rw [if_pos z4, if_pos (show w.1 = 0 ∨ w.1 = 4 ∨ (w.1 = 1 ∧ out = true) from .inr (.inl z4))]
      split
      · exact ((rN_em ..).em ..).p _
      · exact (rN_em ..).p _
    rw [if_neg z4]
    by_cases z1 : w.1 = 1 ∧ out = true
    · rw [if_pos z1, if_pos (show w.1 = 0 ∨ w.1 = 4 ∨ (w.1 = 1 ∧ out = true) from .inr (.inr z1))]; exact (rN_em ..).p _
    rw [if_neg z1, if_neg z3, if_neg (show ¬ (w.1 = 0 ∨ w.1 = 4 ∨ (w.1 = 1 ∧ out = true)) from fun y => y.elim z0 fun y => y.elim z4 z1)]
    by_cases z2 : w.1 = 2
    · rw [if_pos z2, if_pos z2]
      exact (rP_fi h2 h3 [] e _ _ s w.1).tr ((rP_go out e Γ K' _ h1).q (rQ_tl _ _))
    · rw [if_neg z2, if_neg z2]
      exact (rP_go out e Γ K' s h1).q (rQ_tl _ _)
theorem rP_ret (e : gN) : ∀ (Γ : gK) (X : List Bool) (K : rK) (s : gS), kro Γ K → rP s (gRet e Γ X s) (reR K) (rQ K)
  | [], X, K, s, h => by
    have h : K = [] := h
    rw [h]; exact (rN_em ..).p _
  | w :: Γ, X, K, s, h => by
    have h : if w.1 = 3 then kro Γ K else ∃ o K', K = (w.1, o) :: K' ∧ kro Γ K' ∧ (w.2.2.2.2.2 = none → o = none) ∧ ∀ φ, w.2.2.2.2.2 = some φ → ∃ r, o = some r ∧ ∀ X s, rP s (φ X s) r (rQ K') := h
    unfold gRet
    by_cases z3 : w.1 = 3
    · rw [if_pos z3] at h
      rw [if_neg (by omega)]
      exact rP_ret e Γ _ K s h
    rw [if_neg z3] at h
    obtain ⟨o, K', rfl, h1, h2, h3⟩ := h
    unfold reR
    by_cases z2 : w.1 = 2
    · rw [if_pos z2, if_pos z2]
      exact (rP_fi h2 h3 X e _ _ s w.1).tr ((rP_ret e Γ X K' _ h1).q (rQ_tl _ _))
    · rw [if_neg z2, if_neg z2]
      exact (rP_ret e Γ _ K' s h1).q (rQ_tl _ _)
theorem rP_csB {K : rK} : ∀ (cs : List (Option gEx × gSt)), (∀ q ∈ cs, rT q.2) → ∃ r, ∀ e Γ (m : Nat) s, kro Γ K → rP s (gCsB e Γ cs m s) r (rQ K)
  | [], _ => ⟨0, fun e Γ m s _ => rP.rf s _⟩
  | (x, y) :: cs, h => by
    obtain ⟨r1, h1⟩ := h (x, y) List.mem_cons_self K
    obtain ⟨r2, h2⟩ := rP_csB (K := K) cs (fun q hq => h q (List.mem_cons_of_mem _ hq))
    exact ⟨max r1 r2, fun e Γ m s hk => (h1 e Γ (hre m s) hk).tr (h2 e Γ (m + 1) _ hk)⟩
theorem rN_csT {e : gN} {Γ : gK} : ∀ (cs : List (Option gEx × gSt)) (m : Nat) (s : gS), (∀ q ∈ cs, ∀ g, q.1 = some g → rE g) → rN s (gCsT e Γ cs m s)
  | [], _, s, _ => rN.rf s
  | (none, _) :: r, m, s, h => rN_csT r (m + 1) s (fun q hq => h q (List.mem_cons_of_mem _ hq))
  | (some x, y) :: r, m, s, h => by
    have hx := h (some x, y) List.mem_cons_self x rfl
    have a : rN s (em e Γ (skk Γ) 21 0 0 (some m) (em e Γ (psh 1 (skk Γ)) 17 0 0 none (em e Γ (psh 2 (skk Γ)) 22 0 0 (some s.m) (em e Γ (psh 3 (skk Γ)) 14 13 0 none (x e Γ (psh 2 (skk Γ)) (em e Γ (psh 1 (skk Γ)) 18 0 0 none (mkm s))))))) := ((((((show rN s (mkm s) from rN.rf s).em e Γ (psh 1 (skk Γ)) 18 0 0 none).ex hx e Γ (psh 2 (skk Γ))).em ..).em ..).em ..).em ..
    exact a.tr (rN_csT r (m + 1) _ (fun q hq => h q (List.mem_cons_of_mem _ hq)))
theorem rN_mks : ∀ (n : Nat) (s : gS), rN s (gMks n s)
  | 0, s => rN.rf s
  | n + 1, s => (show rN s (mkm s) from rN.rf s).tr (rN_mks n (mkm s))
theorem rT_cls {N H : Nat} {Φ : Nat → Prop} {l w d : Nat} {g : gSt} (h : cSt N Φ H l w d g) : rT g := by
  induction h using cSt.ind with
  | no => exact fun K => ⟨0, fun e Γ s _ => rP.rf s _⟩
  | sq _ _ i1 i2 =>
    intro K
    obtain ⟨r1, h1⟩ := i1 K
    obtain ⟨r2, h2⟩ := i2 K
    exact ⟨max r1 r2, fun e Γ s hk => (h1 e Γ s hk).tr (h2 e Γ _ hk)⟩
  | pl h => exact rT_0 fun e Γ s => (rE_cls h e Γ (skk Γ) s).em ..
  | @ift l w d x y h _ i =>
    intro K
    obtain ⟨r1, h1⟩ := i K
    exact ⟨r1, fun e Γ s hk => show rP s (y e Γ (em e Γ (psh 1 (skk Γ)) 22 0 0 (some s.m) (x e Γ (skk Γ) (mkm (mkm s))))) r1 _ from (show rN s (em e Γ (psh 1 (skk Γ)) 22 0 0 (some s.m) (x e Γ (skk Γ) (mkm (mkm s)))) from (rE_cls h e Γ (skk Γ) (mkm (mkm s))).em ..).then (h1 e Γ _ hk)⟩
  | @ife l w d x y z h _ _ i1 i2 =>
    intro K
    obtain ⟨r1, h1⟩ := i1 K
    obtain ⟨r2, h2⟩ := i2 K
    refine ⟨max r1 r2, fun e Γ s hk => ?_⟩
    have a := (show rN s (em e Γ (psh 1 (skk Γ)) 22 0 0 (some s.m) (x e Γ (skk Γ) (mkm (mkm s)))) from (rE_cls h e Γ (skk Γ) (mkm (mkm s))).em ..).then (h1 e Γ _ hk)
    exact (a.em e Γ (skk Γ) 21 0 0 (some (s.m + 1))).tr (h2 e Γ (hre s.m _) hk)
  | @wh l w d x y h _ i =>
    intro K
    obtain ⟨r1, h1⟩ := i ((0, none) :: K)
    refine ⟨r1, fun e Γ s hk => ?_⟩
    have a := (show rN s (em e Γ (psh 1 (skk Γ)) 22 0 0 (some (s.m + 1)) (x e Γ (skk Γ) (mkm (mkm s)))) from (rE_cls h e Γ (skk Γ) (mkm (mkm s))).em ..).then (h1 e (lpW (s.m + 1) s.m :: Γ) _ (kro_w hk (show 0 ≠ 3 by decide) rfl))
    exact (show rP s (hrp s.m s.c.length _) r1 _ from a).em e Γ (skk Γ) 21 0 0 (some s.m)
  | @dow l w d x y h _ i =>
    intro K
    obtain ⟨r1, h1⟩ := i ((0, none) :: K)
    refine ⟨r1, fun e Γ s hk => ?_⟩
    have a := h1 e (lpW (s.m + 2) (s.m + 1) :: Γ) (hre s.m (mkm (mkm (mkm s)))) (kro_w hk (show 0 ≠ 3 by decide) rfl)
    have a : rP s (hre (s.m + 1) (y e (lpW (s.m + 2) (s.m + 1) :: Γ) (hre s.m (mkm (mkm (mkm s)))))) r1 (rQ K) := a
    exact ((a.n (rE_cls h e Γ (skk Γ) _)).em ..).em ..
  | @for0 l w d ii z y _ _ _ i1 i2 i3 =>
    intro K
    obtain ⟨r1, h1⟩ := i1 K
    obtain ⟨r2, h2⟩ := i2 K
    obtain ⟨r3, h3⟩ := i3 ((0, none) :: K)
    refine ⟨max (max r1 r3) r2, fun e Γ s hk => ?_⟩
    have a : rP s (hre s.m (ii e Γ (mkm (mkm (mkm s))))) r1 (rQ K) := h1 e Γ (mkm (mkm (mkm s))) hk
    have b := h3 e (lpW (s.m + 2) (s.m + 1) :: Γ) (hre s.m (ii e Γ (mkm (mkm (mkm s))))) (kro_w hk (show 0 ≠ 3 by decide) rfl)
    have c : rP s (hre (s.m + 1) (y e (lpW (s.m + 2) (s.m + 1) :: Γ) (hre s.m (ii e Γ (mkm (mkm (mkm s))))))) (max r1 r3) (rQ K) := a.tr b
    exact (c.tr (h2 e Γ _ hk)).em ..
  | @for1 l w d x ii z y h _ _ _ i1 i2 i3 =>
    intro K
    obtain ⟨r1, h1⟩ := i1 K
    obtain ⟨r2, h2⟩ := i2 K
    obtain ⟨r3, h3⟩ := i3 ((0, none) :: K)
    refine ⟨max (max r1 r3) r2, fun e Γ s hk => ?_⟩
    have a0 : rP s (hre s.m (ii e Γ (mkm (mkm (mkm s))))) r1 (rQ K) := h1 e Γ (mkm (mkm (mkm s))) hk
    have a := (a0.n (rE_cls h e Γ (skk Γ) _)).em e Γ (psh 1 (skk Γ)) 22 0 0 (some (s.m + 2))
    have b := h3 e (lpW (s.m + 2) (s.m + 1) :: Γ) (em e Γ (psh 1 (skk Γ)) 22 0 0 (some (s.m + 2)) (x e Γ (skk Γ) (hre s.m (ii e Γ (mkm (mkm (mkm s))))))) (kro_w hk (show 0 ≠ 3 by decide) rfl)
    have c : rP s (hre (s.m + 1) (y e (lpW (s.m + 2) (s.m + 1) :: Γ) (em e Γ (psh 1 (skk Γ)) 22 0 0 (some (s.m + 2)) (x e Γ (skk Γ) (hre s.m (ii e Γ (mkm (mkm (mkm s))))))))) (max r1 r3) (rQ K) := a.tr b
    exact (c.tr (h2 e Γ _ hk)).em ..
  | @ea l w d n x y hn h _ i =>
    intro K
    obtain ⟨r1, h1⟩ := i ((4, none) :: K)
    refine ⟨r1, fun e Γ s hk => ?_⟩
    have a0 : rN s (em e Γ (psh 1 (skk Γ)) 29 0 0 none (x e Γ (skk Γ) (mkm (mkm s)))) := (show rN s (x e Γ (skk Γ) (mkm (mkm s))) from rE_cls h e Γ (skk Γ) (mkm (mkm s))).em ..
    have a1 := (((a0.em e (eaW (s.m + 1) s.m :: Γ) (true :: skk Γ) 30 0 0 (some (s.m + 1))).set n e (eaW (s.m + 1) s.m :: Γ) (false :: true :: skk Γ)).em e (eaW (s.m + 1) s.m :: Γ) (false :: true :: skk Γ) 17 0 0 none).then (h1 e (eaW (s.m + 1) s.m :: Γ) _ (kro_w hk (show 4 ≠ 3 by decide) rfl))
    exact (show rP s (hrp s.m (em e Γ (psh 1 (skk Γ)) 29 0 0 none (x e Γ (skk Γ) (mkm (mkm s)))).c.length _) r1 _ from a1).em e (eaW (s.m + 1) s.m :: Γ) (true :: skk Γ) 21 0 0 (some s.m)
  | brk _ => exact fun K => ⟨goR true K, fun e Γ s hk => rP_go true e Γ K s hk⟩
  | cnt _ => exact fun K => ⟨goR false K, fun e Γ s hk => rP_go false e Γ K s hk⟩
  | bk h => exact fun K => ⟨reR K, fun e Γ s hk => (rE_cls h e Γ (skk Γ) s).then (rP_ret e Γ [false] K _ hk)⟩
  | to h => exact rT_0 fun e Γ s => (rE_cls h e Γ (skk Γ) s).em ..
  | @trc l w d n y z hn _ _ i1 i2 =>
    intro K
    obtain ⟨r1, h1⟩ := i1 ((2, none) :: K)
    obtain ⟨r2, h2⟩ := i2 K
    refine ⟨max r1 r2, fun e Γ s hk => ?_⟩
    have a0 : rN s (em e Γ (skk Γ) 27 0 0 (some s.m) (mkm (mkm s))) := (show rN s (mkm (mkm s)) from rN.rf s).em ..
    have a1 := ((a0.then (h1 e (trW s.c.length s.m none :: Γ) _ (kro_w hk (show 2 ≠ 3 by decide) rfl))).em e (trW s.c.length s.m none :: Γ) (skk Γ) 28 0 0 none).em e Γ (skk Γ) 21 0 0 (some (s.m + 1))
    have a2 := ((show rP s (hre s.m _) r1 _ from a1).n ((rN.rf _).set n e Γ (psh 1 (skk Γ)))).em e Γ (psh 1 (skk Γ)) 17 0 0 none
    exact a2.tr (h2 e Γ _ hk)
  | @trf l w d y z _ _ i1 i2 =>
    intro K
    obtain ⟨r2, h2⟩ := i2 K
    obtain ⟨r1, h1⟩ := i1 ((2, some r2) :: K)
    refine ⟨max r1 r2, fun e Γ s hk => ?_⟩
    have a0 : rN s (em e Γ (skk Γ) 27 0 0 (some s.m) (mkm (mkm s))) := (show rN s (mkm (mkm s)) from rN.rf s).em ..
    have kw : kro (trW s.c.length s.m (some (fun X s => z e (vaK X Γ) s)) :: Γ) ((2, some r2) :: K) := by
      show if (2 : Nat) = 3 then _ else _
      rw [if_neg (by decide)]
      refine ⟨some r2, K, rfl, hk, (fun z => by cases z), fun φ hφ => ⟨r2, rfl, fun X s' => ?_⟩⟩
      have : (fun X s => z e (vaK X Γ) s) = φ := Option.some.inj hφ
      rw [← this]
      exact h2 e (vaK X Γ) s' (kro_va hk)
    have a1 := (a0.then (h1 e _ _ kw)).em e (trW s.c.length s.m (some (fun X s => z e (vaK X Γ) s)) :: Γ) (skk Γ) 28 0 0 none
    obtain ⟨s1, es1⟩ : ∃ s1, s1 = em e (trW s.c.length s.m (some (fun X s => z e (vaK X Γ) s)) :: Γ) (skk Γ) 28 0 0 none (y e (trW s.c.length s.m (some (fun X s => z e (vaK X Γ) s)) :: Γ) (em e Γ (skk Γ) 27 0 0 (some s.m) (mkm (mkm s)))) := ⟨_, rfl⟩
    rw [← es1] at a1
    have a2 := h2 e Γ s1 hk
    have a3 := h2 e (vaW [false] :: Γ) (hre s.m (em e Γ (skk Γ) 21 0 0 (some (s.m + 1)) (z e Γ s1))) hk
    have l1 : (hre s.m (em e Γ (skk Γ) 21 0 0 (some (s.m + 1)) (z e Γ s1))).c.length = (z e Γ s1).c.length + 1 := by rw [hre_ln, em_ln]
    have a4 := (show rP s1 (hre s.m (em e Γ (skk Γ) 21 0 0 (some (s.m + 1)) (z e Γ s1))) r2 (rQ K) from a2.em ..).tr a3
    rw [Nat.max_self] at a4
    have q2 := a2.2.2.1
    have q3 := a3.2.2.1
    obtain ⟨s2, es2⟩ : ∃ s2, s2 = z e (vaW [false] :: Γ) (hre s.m (em e Γ (skk Γ) 21 0 0 (some (s.m + 1)) (z e Γ s1))) := ⟨_, rfl⟩
    rw [← es2] at a4 q3
    have a5 : rP s (em e Γ (psh 1 (skk Γ)) 26 0 0 none s2) (max r1 r2) (rQ K) := by
      have le : (em e Γ (psh 1 (skk Γ)) 26 0 0 none s2).c.length = s2.c.length + 1 := em_ln ..
      obtain ⟨b1, b2, b3, b4⟩ := a1
      obtain ⟨c1, c2, c3, c4⟩ := a4
      have b4 : r1 * r1 + s.c.length ≤ s1.c.length + (2 * r2 + rQ K) := b4
      rw [b1] at c2
      refine ⟨c1.trans b1, (show s2.mx ≤ _ by omega), by omega, ?_⟩
      by_cases zz : r1 ≤ r2
      · rw [Nat.max_eq_right zz]; omega
      · rw [Nat.max_eq_left (by omega)]; omega
    show rP s (em e Γ (psh 1 (skk Γ)) 26 0 0 none (z e (vaW [false] :: Γ) (hre s.m (em e Γ (skk Γ) 21 0 0 (some (s.m + 1)) (z e Γ (em e (trW s.c.length s.m (some (fun X s => z e (vaK X Γ) s)) :: Γ) (skk Γ) 28 0 0 none (y e (trW s.c.length s.m (some (fun X s => z e (vaK X Γ) s)) :: Γ) (em e Γ (skk Γ) 27 0 0 (some s.m) (mkm (mkm s)))))))))) _ _
    rw [← es1, ← es2]
    exact a5
  | @sw l w d x cs h h1 _ i =>
    intro K
    obtain ⟨r, hr⟩ := rP_csB (K := (1, none) :: K) cs i
    refine ⟨r, fun e Γ s hk => ?_⟩
    refine (rE_cls h e Γ (skk Γ) s).then ?_
    show rP (x e Γ (skk Γ) s) ((fun s => (fun n => hre n (gCsB e (swW n :: Γ) cs (n + 1) (em e Γ (skk Γ) 21 0 0 (some (gDef cs (n + 1) n)) (em e Γ (psh 1 (skk Γ)) 17 0 0 none (gCsT e Γ cs (n + 1) (gMks cs.length (mkm s))))))) s.m) (x e Γ (skk Γ) s)) r (rQ K)
    generalize x e Γ (skk Γ) s = s1
    have a : rN s1 (gCsT e Γ cs (s1.m + 1) (gMks cs.length (mkm s1))) := (show rN s1 (gMks cs.length (mkm s1)) from rN_mks cs.length (mkm s1)).tr (rN_csT cs (s1.m + 1) _ fun q hq g hg => rE_cls (h1 q hq g hg))
    exact ((a.em ..).em ..).then (hr e (swW s1.m :: Γ) (s1.m + 1) _ (kro_w hk (show 1 ≠ 3 by decide) rfl))
theorem rN_gl (e : gN) : ∀ (gl : List Nat) (s : gS), rN s (gGl e gl s)
  | [], s => rN.rf s
  | x :: r, s => (((rN_em ..).em ..).em ..).tr (rN_gl e r _)
theorem rN_dc (e : gN) : ∀ (dc : List (Nat × Nat)) (s : gS), rN s (gDc e dc s)
  | [], s => rN.rf s
  | (f, x) :: r, s => (((rN_em ..).set ..).em ..).tr (rN_dc e r _)
/-- a whole function: thirty-one finallys within one another are too many instructions -/
theorem rP_fn {N H d : Nat} {Φ : Nat → Prop} {e : gN} {gl : List Nat} {dc : List (Nat × Nat)} {y : gSt} (hy : cSt N Φ H 0 0 d y) : ∃ r, ∀ s, rP s (gFn e gl dc y s) r 0 := by
  obtain ⟨r, h⟩ := rT_cls hy []
  exact ⟨r, fun s => ((((rN_gl e gl s).tr (rN_dc e dc _)).then (h e [] _ rfl)).em ..).em ..⟩
