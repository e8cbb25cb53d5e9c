/-! THE COMPONENT's CODER: what a statement's node does -/
/-- the switches' cells: but for their jumps (field 3) as they were -/
def agB (B : Nat → Prop) (M M' : zM) : Prop := ∀ a k, B a → k ≠ 3 → gi M' a k = gi M a k ∧ gr M' a k = gr M a k
/-- a switch's jumps: none yet, or as many as its tests -/
def sep3 (S : Nat → Prop) (M : zM) (ρ : Nat → Nat) (b : Nat) : Prop := gr M b 3 = none ∨ ∃ r n lt, gr M b 3 = some (r, 100, n) ∧ ρ r = 5 * (100000 + b) ∧ gr M b 1 = some (lt, 11, 0) ∧ S lt ∧ gi M lt 2 = nI n ∧ n < 100000
theorem sep3_ag {S : Nat → Prop} {M M' : zM} {ρ ρ' : Nat → Nat} {b : Nat} (h : sep3 S M ρ b) (h3 : gr M' b 3 = gr M b 3) (h1 : gr M' b 1 = gr M b 1) (hl : ∀ a, S a → gi M' a 2 = gi M a 2) (hr : ∀ r, ρ r ≠ 0 → ρ' r = ρ r) : sep3 S M' ρ' b := by
  rcases h with h | ⟨r, n, lt, e1, e2, e3, e4, e5, e6⟩
  · exact .inl (h3.trans h)
  · exact .inr ⟨r, n, lt, h3.trans e1, (hr r (by omega)).trans e2, h1.trans e3, e4, (hl lt e4).trans e5, e6⟩
/-- the text's cells S, its switches B, and what the coder owns, lie apart -/
def sep (S B : Nat → Prop) (M : zM) (ρ : Nat → Nat) : Prop :=
  (∀ a, S a ∨ B a → 190 ≤ a ∧ a < zsz M ∧ ρ a = 0 ∧ a ≠ lA M 37) ∧ (∀ a, S a → ¬ B a) ∧ ∀ b, B b → sep3 S M ρ b
/-- what a statement's code leaves alone -/
def stF (B C : Nat → Prop) (M M' : zM) (ρ ρ' : Nat → Nat) : Prop :=
  (zsz M ≤ zsz M' ∧ zsu M ≤ zsu M' ∧ ∀ a, a < zsz M → ρ' a = ρ a) ∧ (∀ a, 190 ≤ a → a < zsz M → ρ a = 0 → a ≠ lA M 37 → ρ' a = 0 ∧ a ≠ lA M' 37 ∧ ∀ k, (B a → C a → k ≠ 3) → gi M' a k = gi M a k ∧ gr M' a k = gr M a k) ∧
  ∀ a k, a < 190 → ¬ (cdP a k ∨ a = 29 ∧ (k = 9 ∨ k = 11) ∨ a = 37) → gi M' a k = gi M a k ∧ gl M' a k = gl M a k ∧ gr M' a k = gr M a k
theorem stF.rf {B C : Nat → Prop} {M : zM} {ρ : Nat → Nat} : stF B C M M ρ ρ := ⟨⟨Nat.le_refl _, Nat.le_refl _, fun _ _ => rfl⟩, fun _ _ _ h1 h2 => ⟨h1, h2, fun _ _ => ⟨rfl, rfl⟩⟩, fun _ _ _ _ => ⟨rfl, rfl, rfl⟩⟩
theorem stF.tr {B C : Nat → Prop} {M M' M'' : zM} {ρ ρ' ρ'' : Nat → Nat} (h : stF B C M M' ρ ρ') (h' : stF B C M' M'' ρ' ρ'') : stF B C M M'' ρ ρ'' := by
  refine ⟨⟨Nat.le_trans h.1.1 h'.1.1, Nat.le_trans h.1.2.1 h'.1.2.1, fun a ha => (h'.1.2.2 a (Nat.lt_of_lt_of_le ha h.1.1)).trans (h.1.2.2 a ha)⟩, fun a h1 h2 h3 h4 => ?_, fun a k ha hk => ?_⟩
  · obtain ⟨a1, a2, a3⟩ := h.2.1 a h1 h2 h3 h4
    obtain ⟨b1, b2, b3⟩ := h'.2.1 a h1 (Nat.lt_of_lt_of_le h2 h.1.1) a1 a2
    exact ⟨b1, b2, fun k hk => ⟨(b3 k hk).1.trans (a3 k hk).1, (b3 k hk).2.trans (a3 k hk).2⟩⟩
  · have a1 := h.2.2 a k ha hk
    have b1 := h'.2.2 a k ha hk
    exact ⟨b1.1.trans a1.1, b1.2.1.trans a1.2.1, b1.2.2.trans a1.2.2⟩
theorem fr.stF {B C : Nat → Prop} {M M' : zM} {ρ : Nat → Nat} (f : fr cdP M M') (hz : 190 ≤ zsz M) : stF B C M M' ρ ρ := by
  have l37 : lA M' 37 = lA M 37 := (lA_fg (by omega) f.fg (by unfold cdP; omega)).1
  refine ⟨⟨Nat.le_of_eq f.1.1.symm, Nat.le_of_eq f.1.2.symm, fun _ _ => rfl⟩, fun a h1 h2 h3 h4 => ⟨h3, by rw [l37]; exact h4, fun k _ => ?_⟩, fun a k _ hk => f.2 a k (fun z => hk (.inl z))⟩
  have := f.2 a k (by unfold cdP; omega)
  exact ⟨this.1, this.2.2⟩
theorem stF.agS {S B C : Nat → Prop} {M M' : zM} {ρ ρ' : Nat → Nat} (h : stF B C M M' ρ ρ') (hs : sep S B M ρ) : agS S M M' := fun a k ha => by
  obtain ⟨h1, h2, h3, h4⟩ := hs.1 a (.inl ha)
  exact (h.2.1 a h1 h2 h3 h4).2.2 k (fun z _ => absurd z (hs.2.1 a ha))
theorem stF.agB {S B C : Nat → Prop} {M M' : zM} {ρ ρ' : Nat → Nat} (h : stF B C M M' ρ ρ') (hs : sep S B M ρ) : agB B M M' := fun a k ha hk => by
  obtain ⟨h1, h2, h3, h4⟩ := hs.1 a (.inr ha)
  exact (h.2.1 a h1 h2 h3 h4).2.2 k (fun _ _ => hk)
theorem stF.mono {B C C' : Nat → Prop} {M M' : zM} {ρ ρ' : Nat → Nat} (h : stF B C M M' ρ ρ') (hC : ∀ b, C b → C' b) : stF B C' M M' ρ ρ' := ⟨h.1, fun a h1 h2 h3 h4 => ⟨(h.2.1 a h1 h2 h3 h4).1, (h.2.1 a h1 h2 h3 h4).2.1, fun k hk => (h.2.1 a h1 h2 h3 h4).2.2 k (fun z1 z2 => hk z1 (hC a z2))⟩, h.2.2⟩
/-! room: a list of jumps that is more than half full has paid for the next -/
def psJ (M : zM) (j : Nat) : Nat := 2 * (gi M j 1).toNatClampNeg - jC M j
def psA (M : zM) (a : Nat) : Nat := (match gr M a 1 with | some p => psJ M p.1 | none => 0) + (match gr M a 2 with | some p => psJ M p.1 | none => 0)
def psL (M : zM) (A : List Nat) : Nat := (A.map (psA M)).sum
theorem psJ_same {M M' : zM} {j : Nat} (h1 : gi M' j 1 = gi M j 1) (h0 : gr M' j 0 = gr M j 0) : psJ M' j = psJ M j := by unfold psJ jC; rw [h1, h0]
theorem psA_val {M : zM} {a j1 j2 : Nat} (h1 : gr M a 1 = some (j1, 18, 0)) (h2 : gr M a 2 = some (j2, 18, 0)) : psA M a = psJ M j1 + psJ M j2 := by unfold psA; rw [h1, h2]
theorem psL_le {M M' : zM} : ∀ (A : List Nat), (∀ a ∈ A, psA M' a ≤ psA M a) → psL M' A ≤ psL M A
  | [], _ => Nat.le_refl _
  | a :: A, h => by
    have h1 := h a List.mem_cons_self
    have h2 := psL_le A (fun x hx => h x (List.mem_cons_of_mem _ hx))
    unfold psL at h2 ⊢
    rw [List.map_cons, List.map_cons, List.sum_cons, List.sum_cons]
    omega
theorem psL_ow {M M' : zM} {ρ : Nat → Nat} {A : List Nat} (h : xOw M ρ A) (f : ∀ x, ρ x ≠ 0 → ∀ k, gi M' x k = gi M x k ∧ gr M' x k = gr M x k) : psL M' A ≤ psL M A := by
  refine psL_le A (fun a ha => ?_)
  obtain ⟨i, hi⟩ := List.getElem?_of_mem ha
  obtain ⟨j1, j2, k1, k2, ⟨r1, r2, r3, -, -⟩, -, g1, g2, -, -⟩ := h.2.2.2 i a hi
  rw [psA_val g1 g2, psA_val (((f a (by omega) 1).2).trans g1) (((f a (by omega) 2).2).trans g2), psJ_same (f j1 (by omega) 1).1 (f j1 (by omega) 0).2, psJ_same (f j2 (by omega) 1).1 (f j2 (by omega) 0).2]
  exact Nat.le_refl _
/-- the arounds that may change: those that are not in use, and those of the chain l -/
def chI (ρ : Nat → Nat) (u : Nat) (l : List Nat) (i : Nat) : Prop := u ≤ i ∨ ∃ b ∈ l, ρ b = 5 * i + 1
/-- what coding takes: arounds (at most V), cells, slots; what it leaves alone of the arounds, and of the switches' jumps but for those of C -/
def rm (C : Nat → Prop) (u : Nat) (l : List Nat) (M : zM) (ρ : Nat → Nat) (A : List Nat) (m : Nat) (M' : zM) (ρ' : Nat → Nat) (A' : List Nat) (m' V : Nat) : Prop :=
  ((A.length ≤ A'.length ∧ (A'.length ≤ A.length ∨ A'.length ≤ V)) ∧ zsz M' + 6 * A.length + m ≤ zsz M + 6 * A'.length + m' ∧ zsu M' + 2 * psL M' A' + 4 * lC M 37 + 21 * A.length + 5 * m ≤ zsu M + 2 * psL M A + 4 * lC M' 37 + 21 * A'.length + 5 * m') ∧
  (zsz M ≤ zsz M' ∧ (∀ x, x < zsz M → ρ' x = ρ x) ∧ ∀ i a : Nat, A[i]? = some a → A'[i]? = some a) ∧ (∀ x, x < zsz M → ρ x ≠ 0 → ¬ chI ρ u l ((ρ x - 1) / 5) → ∀ k, gi M' x k = gi M x k ∧ gr M' x k = gr M x k) ∧
  ∀ x, x < zsz M → 500000 ≤ ρ x → ¬ C (ρ x / 5 - 100000) → ∀ k, gi M' x k = gi M x k ∧ gr M' x k = gr M x k
theorem chI_eq {M : zM} {ρ ρ' : Nat → Nat} {u i : Nat} {l : List Nat} (hρ : ∀ x, x < zsz M → ρ' x = ρ x) (hl : ∀ b ∈ l, b < zsz M) (h : chI ρ' u l i) : chI ρ u l i := by
  rcases h with h | ⟨b, h1, h2⟩
  · exact .inl h
  · exact .inr ⟨b, h1, by rw [← hρ b (hl b h1)]; exact h2⟩
theorem rm.tr {C : Nat → Prop} {u : Nat} {l : List Nat} {M M' M'' : zM} {ρ ρ' ρ'' : Nat → Nat} {A A' A'' : List Nat} {m m' m'' V V' V'' : Nat} (h : rm C u l M ρ A m M' ρ' A' m' V) (h' : rm C u l M' ρ' A' m' M'' ρ'' A'' m'' V') (hl : ∀ b ∈ l, b < zsz M) (hV : V ≤ V'') (hV' : V' ≤ V'') : rm C u l M ρ A m M'' ρ'' A'' m'' V'' := by
  obtain ⟨h1, ⟨h2, h3, h4⟩, h5, h6⟩ := h
  obtain ⟨k1, ⟨k2, k3, k4⟩, k5, k6⟩ := h'
  refine ⟨by omega, ⟨by omega, fun x hx => (k3 x (by omega)).trans (h3 x hx), fun i a z => k4 i a (h4 i a z)⟩, fun x hx hr hn k => ?_, fun x hx hr hn k => ?_⟩
  · have a1 := h5 x hx hr hn k
    have a2 := k5 x (by omega) (by rw [h3 x hx]; exact hr) (fun z => hn (by rw [h3 x hx] at z; exact chI_eq h3 hl z)) k
    exact ⟨a2.1.trans a1.1, a2.2.trans a1.2⟩
  · have a1 := h6 x hx hr hn k
    have a2 := k6 x (by omega) (by rw [h3 x hx]; exact hr) (by rw [h3 x hx]; exact hn) k
    exact ⟨a2.1.trans a1.1, a2.2.trans a1.2⟩
theorem rm.rf {C : Nat → Prop} {u : Nat} {l : List Nat} {M : zM} {ρ : Nat → Nat} {A : List Nat} {m V : Nat} : rm C u l M ρ A m M ρ A m V := ⟨by omega, ⟨Nat.le_refl _, fun _ _ => rfl, fun _ _ z => z⟩, fun _ _ _ _ _ => ⟨rfl, rfl⟩, fun _ _ _ _ _ => ⟨rfl, rfl⟩⟩
theorem rm.mono {C : Nat → Prop} {u : Nat} {l : List Nat} {M M' : zM} {ρ ρ' : Nat → Nat} {A A' : List Nat} {m m' V V' : Nat} (h : rm C u l M ρ A m M' ρ' A' m' V) (hV : V ≤ V') : rm C u l M ρ A m M' ρ' A' m' V' := ⟨by have := h.1; omega, h.2⟩
theorem rm.monC {C C' : Nat → Prop} {u : Nat} {l : List Nat} {M M' : zM} {ρ ρ' : Nat → Nat} {A A' : List Nat} {m m' V : Nat} (h : rm C u l M ρ A m M' ρ' A' m' V) (hC : ∀ b, C b → C' b) : rm C' u l M ρ A m M' ρ' A' m' V := ⟨h.1, h.2.1, h.2.2.1, fun x hx hr hn k => h.2.2.2 x hx hr (fun z => hn (hC _ z)) k⟩
/-- what happens within an around more -/
theorem rm.dn {C : Nat → Prop} {u a : Nat} {l : List Nat} {M M' : zM} {ρ ρ' : Nat → Nat} {A A' : List Nat} {m m' V : Nat} (h : rm C (u + 1) (a :: l) M ρ A m M' ρ' A' m' V) (ha : ρ a = 5 * u + 1) : rm C u l M ρ A m M' ρ' A' m' V := ⟨h.1, h.2.1, fun x hx hr hn k => h.2.2.1 x hx hr (fun z => hn (by
  rcases z with z | ⟨b, h1, h2⟩
  · exact .inl (by omega)
  · rcases List.mem_cons.mp h1 with y | y
    · rw [y] at h2; exact .inl (by omega)
    · exact .inr ⟨b, y, h2⟩)) k, h.2.2.2⟩
theorem rm_lo {C : Nat → Prop} {u : Nat} {l : List Nat} {M M' : zM} {ρ : Nat → Nat} {A : List Nat} {m m' V : Nat} (h : xOw M ρ A) (f : fr (fun x k => cdP x k ∨ x = 29 ∧ (k = 9 ∨ k = 11)) M M') (hz : 190 ≤ zsz M) (hm : m ≤ m') : rm C u l M ρ A m M' ρ A m' V := by
  have hC := (lA_fg (l := 37) (by omega) f.fg (by unfold cdP; omega)).2
  have hx : ∀ x, ρ x ≠ 0 → ∀ k, gi M' x k = gi M x k ∧ gr M' x k = gr M x k := fun x hx k => by
    have h1 := h.1 x hx
    have := f.2 x k (by unfold cdP; omega)
    exact ⟨this.1, this.2.2⟩
  have := psL_ow (M' := M') h hx
  refine ⟨?_, ⟨Nat.le_of_eq f.1.1.symm, fun _ _ => rfl, fun _ _ z => z⟩, fun x _ hr _ k => hx x hr k, fun x _ hr _ k => hx x (by omega) k⟩
  rw [hC, f.1.1, f.1.2]
  omega
theorem rm_cd {C : Nat → Prop} {u : Nat} {l : List Nat} {M M' : zM} {ρ : Nat → Nat} {A : List Nat} {m m' V : Nat} (h : xOw M ρ A) (f : fr cdP M M') (hz : 190 ≤ zsz M) (hm : m ≤ m') : rm C u l M ρ A m M' ρ A m' V := rm_lo h (f.mono fun _ _ z => .inl z) hz hm
/-- an around's own fields were set -/
theorem rm_fld {C : Nat → Prop} {u i a T V : Nat} {l : List Nat} {M M' : zM} {ρ : Nat → Nat} {A : List Nat} (h : xOw M ρ A) (f : fr (fun x k => x = a ∧ 3 ≤ k) M M') (ha : ρ a = 5 * i + 1) (hi : chI ρ u l i) (hi9 : i < 90000) : rm C u l M ρ A T M' ρ A T V := by
  have h37 := h.2.1.1
  have ha0 := h.1 a (by omega)
  refine ⟨?_, ⟨Nat.le_of_eq f.1.1.symm, fun _ _ => rfl, fun _ _ z => z⟩, fun x hx hr hn k => ?_, fun x hx hr hn k => ?_⟩
  · have hps := psL_le (M := M) (M' := M') A (fun x hx => by
      obtain ⟨t, ht⟩ := List.getElem?_of_mem hx
      obtain ⟨i1, i2, q1, q2, ⟨t1, t2, t3, t4, t5⟩, u0, u1, u2, w1, w2⟩ := h.2.2.2 t x ht
      have n1 : i1 ≠ a := fun y => by rw [y] at t2; omega
      have n2 : i2 ≠ a := fun y => by rw [y] at t3; omega
      rw [psA_val u1 u2, psA_val ((f.2 x 1 (by omega)).2.2.trans u1) ((f.2 x 2 (by omega)).2.2.trans u2), psJ_same (f.2 i1 1 (by omega)).1 (f.2 i1 0 (by omega)).2.2, psJ_same (f.2 i2 1 (by omega)).1 (f.2 i2 0 (by omega)).2.2]
      exact Nat.le_refl _)
    have e37 : lC M' 37 = lC M 37 := by unfold lC; rw [(f.2 37 1 (by omega)).2.2]
    rw [e37, f.1.1, f.1.2]
    omega
  · have hxa : x ≠ a := fun y => hn (by rw [y, show (ρ a - 1) / 5 = i by omega]; exact hi)
    have := f.2 x k (fun z => hxa z.1)
    exact ⟨this.1, this.2.2⟩
  · have hxa : x ≠ a := fun y => by rw [y] at hr; omega
    have := f.2 x k (fun z => hxa z.1)
    exact ⟨this.1, this.2.2⟩
theorem xSt.lz {M : zM} {e : gN} {Γ : gK} {l bs : List Nat} {ps : List (Option zP)} {ρ : Nat → Nat} {A : List Nat} {u m : Nat} {st : gS} (h : xSt M e Γ l bs ps ρ A u m st) : ∀ b ∈ l, b < zsz M := fun b hb => by
  obtain ⟨i, hi, h1⟩ := xCh_mem Γ u l bs ps h.2.2.2.2.2.1 b hb
  obtain ⟨_, _, _, _, ⟨r1, -⟩, -⟩ := h.2.1.2.2.2 i b h1
  exact (h.2.1.1 b (by omega)).2
/-- where break and continue can go: loops and switches around -/
def ctx (c : Nat × Nat) (Γ : gK) : Prop := (0 < c.1 → ∃ w ∈ Γ, w.1 = 0 ∨ w.1 = 4) ∧ (0 < c.1 + c.2 → ∃ w ∈ Γ, w.1 = 0 ∨ w.1 = 4 ∨ w.1 = 1)
theorem ctx_lp {c : Nat × Nat} {w : gW} {Γ : gK} (hw : w.1 = 0 ∨ w.1 = 4) : ctx c (w :: Γ) := ⟨fun _ => ⟨w, List.mem_cons_self, hw⟩, fun _ => ⟨w, List.mem_cons_self, hw.imp id .inl⟩⟩
theorem ctx_tl {c : Nat × Nat} {w : gW} {Γ : gK} (h : ctx c Γ) : ctx c (w :: Γ) := ⟨fun z => by obtain ⟨w', h1, h2⟩ := h.1 z; exact ⟨w', List.mem_cons_of_mem _ h1, h2⟩, fun z => by obtain ⟨w', h1, h2⟩ := h.2 z; exact ⟨w', List.mem_cons_of_mem _ h1, h2⟩⟩
theorem ctx_sw {c : Nat × Nat} {w : gW} {Γ : gK} (h : ctx c Γ) (hw : w.1 = 1) : ctx (c.1, c.2 + 1) (w :: Γ) := ⟨(ctx_tl h).1, fun _ => ⟨w, List.mem_cons_self, .inr (.inr hw)⟩⟩
/-- m instructions, T jumps in lists: entered beyond 600 at most o and h more, else at most N and K beyond 600 -/
def szs (m T o N h K m' T' : Nat) : Prop := m ≤ m' ∧ T ≤ T' ∧ T' ≤ m' ∧ (600 < m → m' ≤ m + o ∧ T' ≤ T + h) ∧ (m ≤ 600 → m' ≤ 600 + N ∧ T' ≤ 600 + K)
/-- node p does f at the context Γ (ps: its finallys' nodes): D frames and arounds -/
def Wk (S B : Nat → Prop) (M0 : zM) (e : gN) (fc : Nat) (C : Nat → Prop) (D o N h K : Nat) (p : zP) (f : gS → gS) (Γ : gK) (ps : List (Option zP)) : Prop :=
  p.2.2 = 0 ∧ (20 ≤ p.2.1 ∧ p.2.1 < 45) ∧ ∃ Y, vt_code p.2.1 = some Y ∧ ∀ (E : zE) (d : Nat) (Q : zO → zM → Prop) (M : zM) (l bs : List Nat) (ρ : Nat → Nat) (A : List Nat) (u m T : Nat) (st : gS), agS S M0 M → agB B M0 M → gr M 29 12 = some (fc, 10, 0) → sep S B M ρ → xSt M e Γ l bs ps ρ A u m st → D + 350 ≤ d → u + D ≤ 60000 → (skk Γ).length + D ≤ 2000 → m + o < 10000000 → N < 9000000 → T ≤ m →
    (∀ M' ρ' A' m' T', xSt M' e Γ l bs ps ρ' A' u m' (f st) → sep S B M' ρ' → stF B C M M' ρ ρ' → szs m T o N h K m' T' → rm C u l M ρ A T M' ρ' A' T' (u + D) → Q (.inl none) M') → Z E Y d M [(0, vr (some p)), (1, C29)] 0 [] Q
/-- the finallys around: D, N and K do for each of them, with less of D from one to the next -/
def Good (S B : Nat → Prop) (M0 : zM) (e : gN) (fc : Nat) (C : Nat → Prop) (N K : Nat) : Nat → gK → List (Option zP) → Prop
  | _, [], _ => True
  | D, w :: Γ, ps => 1 ≤ D ∧ Good S B M0 e fc C N K (D - 1) Γ ps.tail ∧ ∀ φ, w.2.2.2.2.2 = some φ → ∃ q, ps.head? = some (some q) ∧ ∀ X, Wk S B M0 e fc C (D - 1) N N K K q (φ X) (vaK X Γ) (if X = [] then ps.tail else none :: ps.tail)
theorem Wk.mono {S B : Nat → Prop} {M0 : zM} {e : gN} {fc : Nat} {C C' : Nat → Prop} {D o N h K D' o' N' h' K' : Nat} {p : zP} {f : gS → gS} {Γ : gK} {ps : List (Option zP)} (w : Wk S B M0 e fc C D o N h K p f Γ ps) (hC : ∀ b, C b → C' b) (hD : D ≤ D') (ho : o ≤ o') (hN : N ≤ N') (hh : h ≤ h') (hK : K ≤ K') : Wk S B M0 e fc C' D' o' N' h' K' p f Γ ps := by
  obtain ⟨h1, h2, Y, h3, h4⟩ := w
  refine ⟨h1, h2, Y, h3, fun E d Q M l bs ρ A u m T st ha hB hF hs hx hd hu hsk hm hN' hT hQ => h4 E d Q M l bs ρ A u m T st ha hB hF hs hx (by omega) (by omega) (by omega) (by omega) (by omega) hT (fun M' ρ' A' m' T' g1 g2 g3 g4 g5 => hQ M' ρ' A' m' T' g1 g2 (g3.mono hC) (by unfold szs at *; omega) ((g5.mono (by omega)).monC hC))⟩
theorem Good.mono {S B : Nat → Prop} {M0 : zM} {e : gN} {fc : Nat} {C C' : Nat → Prop} {N N' K K' : Nat} (hC : ∀ b, C b → C' b) (hN : N ≤ N') (hK : K ≤ K') : ∀ {D D' : Nat} {Γ : gK} {ps : List (Option zP)}, D ≤ D' → Good S B M0 e fc C N K D Γ ps → Good S B M0 e fc C' N' K' D' Γ ps
  | _, _, [], _, _, _ => trivial
  | D, D', w :: Γ, ps, hD, h => by
    obtain ⟨h1, h2, h3⟩ := h
    refine ⟨by omega, Good.mono hC hN hK (by omega) h2, fun φ hφ => ?_⟩
    obtain ⟨q, h4, h5⟩ := h3 φ hφ
    exact ⟨q, h4, fun X => (h5 X).mono hC (by omega) hN hN hK hK⟩
/-- what has no finally -/
theorem Good.cons {S B : Nat → Prop} {M0 : zM} {e : gN} {fc : Nat} {C : Nat → Prop} {N K D : Nat} {w : gW} {Γ : gK} {p : Option zP} {ps : List (Option zP)} (h : Good S B M0 e fc C N K D Γ ps) (hw : w.2.2.2.2.2 = none) : Good S B M0 e fc C N K (D + 1) (w :: Γ) (p :: ps) :=
  ⟨by omega, h, fun φ z => by rw [hw] at z; cases z⟩
theorem Good.len {S B : Nat → Prop} {M0 : zM} {e : gN} {fc : Nat} {C : Nat → Prop} {N K : Nat} : ∀ {D : Nat} {Γ : gK} {ps : List (Option zP)}, Good S B M0 e fc C N K D Γ ps → Γ.length ≤ D
  | _, [], _, _ => Nat.zero_le _
  | D, w :: Γ, ps, h => by
    have := Good.len h.2.1
    have := h.1
    show Γ.length + 1 ≤ D
    omega
/-- the function's Code fc lies in the text's cells -/
def fnS (S : Nat → Prop) (M0 : zM) (e : gN) (fc : Nat) : Prop := ∃ u, u ≤ 60 ∧ ∀ M', agS S M0 M' → xFn M' u fc e.1 e.2
theorem stF.f12 {B C : Nat → Prop} {M M' : zM} {ρ ρ' : Nat → Nat} (h : stF B C M M' ρ ρ') : gr M' 29 12 = gr M 29 12 := (h.2.2 29 12 (by decide) (by unfold cdP; omega)).2.2
/-- a statement's node -/
def xNd (S B : Nat → Prop) (M0 : zM) (c : Nat × Nat) (C : Nat → Prop) (D o n h k : Nat) (p : zP) (g : gSt) : Prop :=
  ∀ (e : gN) (fc : Nat) (Γ : gK) (ps : List (Option zP)) (Dk Nk Kk : Nat) (Ck CC : Nat → Prop), fnS S M0 e fc → Good S B M0 e fc Ck Nk Kk Dk Γ ps → ((∀ b, C b → CC b) ∧ (∀ b, Ck b → CC b) ∧ ∀ b, C b → ¬ Ck b) → kgo Γ → ctx c Γ → Wk S B M0 e fc CC (D + Dk) o (Nk + n) h (Kk + k) p (g e Γ) Γ ps
section
variable {S B : Nat → Prop} {M : zM} {c : Nat × Nat} {C : Nat → Prop} {D o : Nat}
/-- an expression's length: at most o more, wherever it is put -/
def gle (o : Nat) (g : gEx) : Prop := ∀ e Γ L st, (g e Γ L st).c.length ≤ st.c.length + o
theorem sep_cd {M' : zM} {ρ : Nat → Nat} (h : sep S B M ρ) (f : fr cdP M M') (hz : 190 ≤ zsz M) : sep S B M' ρ := by
  have l37 : lA M' 37 = lA M 37 := (lA_fg (by omega) f.fg (by unfold cdP; omega)).1
  refine ⟨fun a ha => by rw [f.1.1, l37]; exact h.1 a ha, h.2.1, fun b hb => ?_⟩
  have h9 := h.1 b (.inr hb)
  exact sep3_ag (h.2.2 b hb) (f.2 b 3 (by unfold cdP; omega)).2.2 (f.2 b 1 (by unfold cdP; omega)).2.2 (fun a ha => (f.2 a 2 (by have := (h.1 a (.inl ha)).1; unfold cdP; omega)).1) (fun _ _ => rfl)
theorem xs_Drops {b : Nat} {p1 : zP} {x : gEx} (hb : S b) (e0 : gr M b 0 = some p1) (h1 : xE S M D p1 x) (hx : gok x) (ho : gle o x) (hD : D ≤ 350) : xNd S B M c C 1 (o + 1) (o + 1) 0 0 (b, 21, 0) (gPl x) := by
  intro e fc Γ ps Dk Nk Kk Ck CC _ _ _ _ _
  refine ⟨rfl, (show 20 ≤ 21 ∧ 21 < 45 by decide), _, rfl, fun E d Q M1 l bs ρ A u m T st ha hB hF hs h hd hu hsk hm hN hT hQ => ?_⟩
  obtain ⟨d, rfl⟩ : ∃ d', d = d' + 2 := ⟨d - 2, by omega⟩
  have lo := ho e Γ (skk Γ) st
  refine sX15_code_0 M1 b _ ?_
  rw [(ha b 0 hb).2, e0]
  refine y_exS (L := skk Γ) h1 hx ha h (by omega) (by omega) (fun M2 h2 f2 => ?_)
  show Z E YX15_code (d + 1 + 1) M2 [(1, C29)] 8 [] Q
  refine sX15_code_8 M2 _ ⟨29, rfl, ?_⟩
  refine y_puS (L := psh 1 (skk Γ)) h2 (by omega) rfl rfl (fun M3 h3 f3 => ?_)
  show Z E YX15_code (d + 1 + 1) M3 [] 16 [vi _] Q
  have hz := h.2.2.2.2.1
  have f := f2.tr f3
  exact sX15_code_16 M3 _ (hQ M3 ρ A _ T h3 (sep_cd hs f hz) (f.stF hz) (by unfold szs; omega) (rm_cd h.2.1 f hz (Nat.le_refl _)))
theorem xs_Throw {b : Nat} {p1 : zP} {x : gEx} (hb : S b) (e0 : gr M b 0 = some p1) (h1 : xE S M D p1 x) (hx : gok x) (ho : gle o x) (hD : D ≤ 350) : xNd S B M c C 1 (o + 1) (o + 1) 0 0 (b, 42, 0) (gTo x) := by
  intro e fc Γ ps Dk Nk Kk Ck CC _ _ _ _ _
  refine ⟨rfl, (show 20 ≤ 42 ∧ 42 < 45 by decide), _, rfl, fun E d Q M1 l bs ρ A u m T st ha hB hF hs h hd hu hsk hm hN hT hQ => ?_⟩
  obtain ⟨d, rfl⟩ : ∃ d', d = d' + 2 := ⟨d - 2, by omega⟩
  have lo := ho e Γ (skk Γ) st
  refine sX37_code_0 M1 b _ ?_
  rw [(ha b 0 hb).2, e0]
  refine y_exS (L := skk Γ) h1 hx ha h (by omega) (by omega) (fun M2 h2 f2 => ?_)
  show Z E YX37_code (d + 1 + 1) M2 [(1, C29)] 8 [] Q
  refine sX37_code_8 M2 _ ⟨29, rfl, ?_⟩
  refine y_puS (L := psh 1 (skk Γ)) h2 (by omega) rfl rfl (fun M3 h3 f3 => ?_)
  show Z E YX37_code (d + 1 + 1) M3 [] 16 [vi _] Q
  have hz := h.2.2.2.2.1
  have f := f2.tr f3
  exact sX37_code_16 M3 _ (hQ M3 ρ A _ T h3 (sep_cd hs f hz) (f.stF hz) (by unfold szs; omega) (rm_cd h.2.1 f hz (Nat.le_refl _)))
end
