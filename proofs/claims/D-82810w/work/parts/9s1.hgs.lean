/-! HEIGHTS: statements -/
def hS (e : gN) (s s' : gS) : Prop := ∃ n : List gI, s'.c = s.c ++ n ∧ ∀ q ∈ n, 2 * q.2.2.2.2.2.1.length ≤ s'.c.length + 170 ∧ q.2.2.2.2.2.2.length ≤ 40 ∧ q.2.2.1 = e.1
theorem hS.rf {e : gN} (s : gS) : hS e s s := ⟨[], by rw [List.append_nil], fun q hq => by cases hq⟩
theorem hS.len {e : gN} {s s' : gS} (h : hS e s s') : s.c.length ≤ s'.c.length := by
  obtain ⟨n, a1, -⟩ := h
  rw [a1, List.length_append]; omega
theorem hS.tr {e : gN} {s s' s'' : gS} (h : hS e s s') (h' : hS e s' s'') : hS e s s'' := by
  have l := h'.len
  obtain ⟨n, a1, a2⟩ := h
  obtain ⟨n', b1, b2⟩ := h'
  refine ⟨n ++ n', by rw [b1, a1, List.append_assoc], fun q hq => ?_⟩
  rcases List.mem_append.mp hq with z | z
  · have := a2 q z; exact ⟨by omega, this.2⟩
  · exact b2 q z
theorem hS.sm {e : gN} {s s' s'' : gS} (h : hS e s s') (e' : s''.c = s'.c) : hS e s s'' := by
  obtain ⟨n, a1, a2⟩ := h
  exact ⟨n, e'.trans a1, fun q hq => by rw [e']; exact a2 q hq⟩
theorem hS.hre {e : gN} {s s' : gS} (h : hS e s s') (m : Nat) : hS e s (hre m s') := h
theorem hS.hrp {e : gN} {s s' : gS} (h : hS e s s') (m p : Nat) : hS e s (hrp m p s') := h
theorem hS.em {s0 s : gS} (e : gN) (h : hS e s0 s) (Γ : gK) (L : List Bool) (op a b : Int32) (m : Option Nat) (hT : (trs Γ).length ≤ 40) (hL : 2 * L.length ≤ s.c.length + 171) : hS e s0 (em e Γ L op a b m s) := h.tr ⟨[_], rfl, fun q hq => by
  rw [List.mem_singleton.mp hq]
  exact ⟨by rw [em_ln]; show 2 * L.length ≤ _; omega, hT, rfl⟩⟩
theorem hS.set {s0 s : gS} {x : Nat} {e : gN} {Γ : gK} {L : List Bool} (h : hS e s0 s) (hT : (trs Γ).length ≤ 40) (hL : 2 * L.length ≤ s.c.length + 171) : hS e s0 (gSet x e Γ L s) := by
  unfold gSet; split <;> exact h.em _ _ _ _ _ _ _ hT hL
/-- an expression, with so many values above what is around -/
theorem hS.ex {s0 s : gS} {g : gEx} (e : gN) (h : hS e s0 s) (hg : hE 20 g) (Γ : gK) (L : List Bool) (hT : (trs Γ).length ≤ 40) (hL : 2 * L.length ≤ s.c.length + 8) : hS e s0 (g e Γ L s) ∧ s.c.length + 1 ≤ (g e Γ L s).c.length := by
  obtain ⟨m, l, n, a1, a2, a3⟩ := hg 40 e Γ L s hT
  have el : (g e Γ L s).c.length = s.c.length + m := by rw [a1, List.length_append, a2]
  exact ⟨h.tr ⟨n, a1, fun q hq => by have := a3 q hq; exact ⟨by omega, this.2⟩⟩, by omega⟩
def khh (e : gN) : gK → Prop
  | [] => True
  | w :: Γ => khh e Γ ∧ (w.1 = 2 → w.2.1 = []) ∧ ∀ φ, w.2.2.2.2.2 = some φ → ∀ X s, 2 * (X.length + (skk Γ).length) ≤ s.c.length → hS e s (φ X s)
theorem khh_w {e : gN} {w : gW} {Γ : gK} (h : khh e Γ) (h2 : w.1 = 2 → w.2.1 = []) (hw : w.2.2.2.2.2 = none) : khh e (w :: Γ) := ⟨h, h2, fun φ e => by rw [hw] at e; cases e⟩
theorem skk_tl (w : gW) (Γ : gK) : (skk (w :: Γ)).length = w.2.1.length + (skk Γ).length := by show (w.2.1 ++ skk Γ).length = _; rw [List.length_append]
theorem trs_tl (w : gW) (Γ : gK) : (trs Γ).length ≤ (trs (w :: Γ)).length := by
  show _ ≤ (if w.1 = 2 then _ else _ : List (Nat × Nat)).length
  split
  · rw [List.length_cons]; omega
  · exact Nat.le_refl _
theorem hS_drops {e : gN} {Γ : gK} (hT : (trs Γ).length ≤ 40) : ∀ (X L : List Bool) {s0 s : gS}, hS e s0 s → 2 * (X.length + L.length) ≤ s.c.length → hS e s0 (gDrops e Γ X L s)
  | [], _, s0, s, h, _ => h
  | b :: X, L, s0, s, h, hl => by
    rw [List.length_cons] at hl
    refine hS_drops hT X L (h.em e Γ (b :: X ++ L) 17 0 0 none hT (by rw [List.length_append, List.length_cons]; omega)) (by rw [em_ln]; omega)
theorem hS_fi {e : gN} {Γ : gK} {fi : Option (List Bool → gS → gS)} (hf : ∀ φ, fi = some φ → ∀ X s, 2 * (X.length + (skk Γ).length) ≤ s.c.length → hS e s (φ X s)) (X : List Bool) {s : gS} (hl : 2 * (X.length + (skk Γ).length) ≤ s.c.length) : hS e s (gFi fi X s) := by
  cases fi with
  | none => exact hS.rf s
  | some φ => exact hf φ rfl X (s.1, s.2.1, s.2.2.1, s.2.2.2.1, s.lev + 1, max s.mx (s.lev + 1)) hl
theorem hS_go (out : Bool) (e : gN) : ∀ (Γ : gK) {s : gS}, khh e Γ → 2 * (skk Γ).length ≤ s.c.length → (trs Γ).length ≤ 40 → hS e s (gGo out e Γ s)
  | [], s, _, _, _ => hS.rf s
  | w :: Γ, s, hk, hl, hT => by
    obtain ⟨k1, k2, k3⟩ := hk
    have e1 := skk_tl w Γ
    have e2 := trs_tl w Γ
    unfold gGo
    by_cases z0 : w.1 = 0
    · rw [if_pos z0]; exact (hS.rf s).em _ _ _ _ _ _ _ hT (by omega)
    rw [if_neg z0]
    by_cases z4 : w.1 = 4
    · rw [if_pos z4]
      split
      · exact ((hS.rf s).em _ _ _ _ _ _ _ hT (by rw [List.length_append]; omega)).em _ _ _ _ _ _ _ (by omega) (by rw [em_ln]; omega)
      · exact (hS.rf s).em _ _ _ _ _ _ _ hT (by rw [List.length_append]; omega)
    rw [if_neg z4]
    by_cases z1 : w.1 = 1 ∧ out = true
    · rw [if_pos z1]; exact (hS.rf s).em _ _ _ _ _ _ _ hT (by omega)
    rw [if_neg z1]
    by_cases z3 : w.1 = 3
    · rw [if_pos z3]
      have d := hS_drops (e := e) hT w.2.1 (skk Γ) (hS.rf s) (by omega)
      exact d.tr (hS_go out e Γ k1 (by have := d.len; omega) (by omega))
    rw [if_neg z3]
    by_cases z2 : w.1 = 2
    · rw [if_pos z2]
      have d := (hS.rf s).em e (w :: Γ) (skk Γ) 28 0 0 none hT (by omega)
      have f := hS_fi k3 [] (s := em e (w :: Γ) (skk Γ) 28 0 0 none s) (by rw [em_ln, List.length_nil]; omega)
      have df := d.tr f
      exact df.tr (hS_go out e Γ k1 (by have := df.len; omega) (by omega))
    · rw [if_neg z2]; exact hS_go out e Γ k1 (by omega) (by omega)
theorem hS_ret (e : gN) : ∀ (Γ : gK) (X : List Bool) {s : gS}, khh e Γ → 2 * (X.length + (skk Γ).length) ≤ s.c.length + 1 → (trs Γ).length ≤ 40 → hS e s (gRet e Γ X s)
  | [], X, s, _, hl, hT => (hS.rf s).em _ _ _ _ _ _ _ hT (by have : (skk []).length = 0 := rfl; omega)
  | w :: Γ, X, s, hk, hl, hT => by
    obtain ⟨k1, k2, k3⟩ := hk
    have e1 := skk_tl w Γ
    have e2 := trs_tl w Γ
    unfold gRet
    by_cases z2 : w.1 = 2
    · rw [if_pos z2]
      have d := (hS.rf s).em e (w :: Γ) (X ++ skk Γ) 28 0 0 none hT (by rw [List.length_append]; omega)
      have f := hS_fi k3 X (s := em e (w :: Γ) (X ++ skk Γ) 28 0 0 none s) (by rw [em_ln]; omega)
      have df := d.tr f
      exact df.tr (hS_ret e Γ X k1 (by have := df.len; omega) (by omega))
    · rw [if_neg z2]
      exact hS_ret e Γ _ k1 (by rw [List.length_append]; omega) (by omega)
def hTT (d : Nat) (y : gSt) : Prop := ∀ e Γ s, khh e Γ → 2 * (skk Γ).length ≤ s.c.length → (trs Γ).length + d ≤ 40 → hS e s (y e Γ s)
theorem hS_csT {e : gN} {Γ : gK} (hT : (trs Γ).length ≤ 40) : ∀ (cs : List (Option gEx × gSt)) (m : Nat) {s : gS}, (∀ q ∈ cs, ∀ g, q.1 = some g → hE 20 g) → 2 * (skk Γ).length ≤ s.c.length → hS e s (gCsT e Γ cs m s)
  | [], _, s, _, _ => hS.rf s
  | (none, _) :: r, m, s, h, hl => hS_csT hT r (m + 1) (fun q hq => h q (List.mem_cons_of_mem _ hq)) hl
  | (some x, y) :: r, m, s, h, hl => by
    have hx := h (some x, y) List.mem_cons_self x rfl
    have p1 := psh_ln 1 (skk Γ)
    have p2 := psh_ln 2 (skk Γ)
    have p3 := psh_ln 3 (skk Γ)
    have a1 := ((hS.rf s).sm (s'' := mkm s) rfl).em e Γ (psh 1 (skk Γ)) 18 0 0 none hT (by rw [mkm_ln]; omega)
    have a2 := a1.ex e hx Γ (psh 2 (skk Γ)) hT (by rw [em_ln, mkm_ln]; omega)
    have l2 := a2.2
    rw [em_ln, mkm_ln] at l2
    have a3 := a2.1.em e Γ (psh 3 (skk Γ)) 14 13 0 none hT (by omega)
    have a4 := (a3.em e Γ (psh 2 (skk Γ)) 22 0 0 (some s.m) hT (by rw [em_ln]; omega)).em e Γ (psh 1 (skk Γ)) 17 0 0 none hT (by rw [em_ln, em_ln]; omega)
    have a5 := (a4.em e Γ (skk Γ) 21 0 0 (some m) hT (by rw [em_ln, em_ln, em_ln]; omega)).hre s.m
    exact a5.tr (hS_csT hT r (m + 1) (fun q hq => h q (List.mem_cons_of_mem _ hq)) (by have := a5.len; omega))
theorem hS_csB {d : Nat} {e : gN} {Γ : gK} (hk : khh e Γ) (hT : (trs Γ).length + d ≤ 40) : ∀ (cs : List (Option gEx × gSt)) (m : Nat) {s : gS}, (∀ q ∈ cs, hTT d q.2) → 2 * (skk Γ).length ≤ s.c.length → hS e s (gCsB e Γ cs m s)
  | [], _, s, _, _ => hS.rf s
  | (x, y) :: r, m, s, h, hl => by
    have a := ((hS.rf s).sm (s'' := hre m s) rfl).tr (h (x, y) List.mem_cons_self e Γ (hre m s) hk hl hT)
    exact a.tr (hS_csB hk hT r (m + 1) (fun q hq => h q (List.mem_cons_of_mem _ hq)) (by have := a.len; omega))
theorem mks_c : ∀ (n : Nat) (s : gS), (gMks n s).c = s.c
  | 0, _ => rfl
  | n + 1, s => mks_c n (mkm s)
theorem hTT_cls {N : Nat} {Φ : Nat → Prop} {l w d : Nat} {g : gSt} (h : cSt N Φ 20 l w d g) : hTT d g := by
  induction h using cSt.ind with
  | no => exact fun e Γ s _ _ _ => hS.rf s
  | sq _ _ i1 i2 =>
      intro e Γ s hk hl hT
      have a := i1 e Γ s hk hl hT
      exact a.tr (i2 e Γ _ hk (by have := a.len; omega) hT)
  | pl h =>
      intro e Γ s hk hl hT
      have p1 := psh_ln 1 (skk Γ)
      have a := (hS.rf s).ex e (hE_cls h) Γ (skk Γ) (by omega) (by omega)
      exact a.1.em e Γ (psh 1 (skk Γ)) 17 0 0 none (by omega) (by omega)
  | @ift l w d x y h _ i =>
      intro e Γ s hk hl hT
      have p1 := psh_ln 1 (skk Γ)
      have a := ((hS.rf s).sm (s'' := mkm (mkm s)) rfl).ex e (hE_cls h) Γ (skk Γ) (by omega) (by rw [mkm_ln, mkm_ln]; omega)
      have l1 := a.2
      rw [mkm_ln, mkm_ln] at l1
      have b := a.1.em e Γ (psh 1 (skk Γ)) 22 0 0 (some s.m) (by omega) (by omega)
      have c := b.tr (i e Γ _ hk (by rw [em_ln]; omega) hT)
      exact (c.hre s.m).hre (s.m + 1)
  | @ife l w d x y z h _ _ i1 i2 =>
      intro e Γ s hk hl hT
      have p1 := psh_ln 1 (skk Γ)
      have a := ((hS.rf s).sm (s'' := mkm (mkm s)) rfl).ex e (hE_cls h) Γ (skk Γ) (by omega) (by rw [mkm_ln, mkm_ln]; omega)
      have l1 := a.2
      rw [mkm_ln, mkm_ln] at l1
      have b := a.1.em e Γ (psh 1 (skk Γ)) 22 0 0 (some s.m) (by omega) (by omega)
      have c := b.tr (i1 e Γ _ hk (by rw [em_ln]; omega) hT)
      have lc := c.len
      have d := (c.em e Γ (skk Γ) 21 0 0 (some (s.m + 1)) (by omega) (by omega)).hre s.m
      have ld := d.len
      have f := d.tr (i2 e Γ _ hk (by omega) hT)
      exact f.hre (s.m + 1)
  | @wh l w d x y h _ i =>
      intro e Γ s hk hl hT
      have p1 := psh_ln 1 (skk Γ)
      have a := ((hS.rf s).sm (s'' := mkm (mkm s)) rfl).ex e (hE_cls h) Γ (skk Γ) (by omega) (by rw [mkm_ln, mkm_ln]; omega)
      have l1 := a.2
      rw [mkm_ln, mkm_ln] at l1
      have b := a.1.em e Γ (psh 1 (skk Γ)) 22 0 0 (some (s.m + 1)) (by omega) (by omega)
      have c := (b.tr (i e (lpW (s.m + 1) s.m :: Γ) _ (khh_w hk (fun z => absurd z (show ¬ 0 = 2 by decide)) rfl) (show 2 * (skk Γ).length ≤ _ by rw [em_ln]; omega) hT)).hrp s.m s.c.length
      have lc := c.len
      exact (c.em e Γ (skk Γ) 21 0 0 (some s.m) (by omega) (by omega)).hre (s.m + 1)
  | @dow l w d x y h _ i =>
      intro e Γ s hk hl hT
      have p1 := psh_ln 1 (skk Γ)
      have c := (((hS.rf s).sm (s'' := hre s.m (mkm (mkm (mkm s)))) rfl).tr (i e (lpW (s.m + 2) (s.m + 1) :: Γ) _ (khh_w hk (fun z => absurd z (show ¬ 0 = 2 by decide)) rfl) (show 2 * (skk Γ).length ≤ s.c.length from hl) hT)).hre (s.m + 1)
      have lc := c.len
      have a := c.ex e (hE_cls h) Γ (skk Γ) (by omega) (by omega)
      have l1 := a.2
      exact ((a.1.em e Γ (psh 1 (skk Γ)) 22 0 0 (some (s.m + 2)) (by omega) (by omega)).em e Γ (skk Γ) 21 0 0 (some s.m) (by omega) (by rw [em_ln]; omega)).hre (s.m + 2)
  | @for0 l w d ii z y _ _ _ i1 i2 i3 =>
      intro e Γ s hk hl hT
      have a := (((hS.rf s).sm (s'' := mkm (mkm (mkm s))) rfl).tr (i1 e Γ _ hk (show 2 * (skk Γ).length ≤ s.c.length from hl) hT)).hre s.m
      have la := a.len
      have c := (a.tr (i3 e (lpW (s.m + 2) (s.m + 1) :: Γ) _ (khh_w hk (fun z => absurd z (show ¬ 0 = 2 by decide)) rfl) (show 2 * (skk Γ).length ≤ _ by omega) hT)).hre (s.m + 1)
      have lc := c.len
      have b := c.tr (i2 e Γ _ hk (by omega) hT)
      have lb := b.len
      exact (b.em e Γ (skk Γ) 21 0 0 (some s.m) (by omega) (by omega)).hre (s.m + 2)
  | @for1 l w d x ii z y h _ _ _ i1 i2 i3 =>
      intro e Γ s hk hl hT
      have p1 := psh_ln 1 (skk Γ)
      have a := (((hS.rf s).sm (s'' := mkm (mkm (mkm s))) rfl).tr (i1 e Γ _ hk (show 2 * (skk Γ).length ≤ s.c.length from hl) hT)).hre s.m
      have la := a.len
      have t := a.ex e (hE_cls h) Γ (skk Γ) (by omega) (by omega)
      have lt := t.2
      have t2 := t.1.em e Γ (psh 1 (skk Γ)) 22 0 0 (some (s.m + 2)) (by omega) (by omega)
      have lt2 := t2.len
      have c := (t2.tr (i3 e (lpW (s.m + 2) (s.m + 1) :: Γ) _ (khh_w hk (fun z => absurd z (show ¬ 0 = 2 by decide)) rfl) (show 2 * (skk Γ).length ≤ _ by omega) hT)).hre (s.m + 1)
      have lc := c.len
      have b := c.tr (i2 e Γ _ hk (by omega) hT)
      have lb := b.len
      exact (b.em e Γ (skk Γ) 21 0 0 (some s.m) (by omega) (by omega)).hre (s.m + 2)
  | @ea l w d n x y hn h _ i =>
      intro e Γ s hk hl hT
      have p1 := psh_ln 1 (skk Γ)
      have a := ((hS.rf s).sm (s'' := mkm (mkm s)) rfl).ex e (hE_cls h) Γ (skk Γ) (by omega) (by rw [mkm_ln, mkm_ln]; omega)
      have l1 := a.2
      rw [mkm_ln, mkm_ln] at l1
      have b := a.1.em e Γ (psh 1 (skk Γ)) 29 0 0 none (by omega) (by omega)
      have hk' : khh e (eaW (s.m + 1) s.m :: Γ) := khh_w hk (fun z => absurd z (show ¬ 4 = 2 by decide)) rfl
      have hT' : (trs (eaW (s.m + 1) s.m :: Γ)).length + d ≤ 40 := hT
      have t2 : (true :: skk Γ).length = (skk Γ).length + 1 := rfl
      have t3 : (false :: true :: skk Γ).length = (skk Γ).length + 2 := rfl
      have c := b.em e (eaW (s.m + 1) s.m :: Γ) (true :: skk Γ) 30 0 0 (some (s.m + 1)) (by omega) (by rw [em_ln]; omega)
      have c2 := (c.set (x := n) (e := e) (Γ := eaW (s.m + 1) s.m :: Γ) (L := false :: true :: skk Γ) (by omega) (by rw [em_ln, em_ln]; omega)).em e (eaW (s.m + 1) s.m :: Γ) (false :: true :: skk Γ) 17 0 0 none (by omega) (by rw [gSet_ln, em_ln, em_ln]; omega)
      have f := (c2.tr (i e (eaW (s.m + 1) s.m :: Γ) _ hk' (by rw [em_ln, gSet_ln, em_ln, em_ln]; show 2 * (true :: skk Γ).length ≤ _; omega) hT')).hrp s.m (em e Γ (psh 1 (skk Γ)) 29 0 0 none (x e Γ (skk Γ) (mkm (mkm s)))).c.length
      have lf := f.len
      exact (f.em e (eaW (s.m + 1) s.m :: Γ) (true :: skk Γ) 21 0 0 (some s.m) (by omega) (by omega)).hre (s.m + 1)
  | brk h => exact fun e Γ s hk hl hT => hS_go true e Γ hk hl (by omega)
  | cnt h => exact fun e Γ s hk hl hT => hS_go false e Γ hk hl (by omega)
  | bk h =>
      intro e Γ s hk hl hT
      have a := (hS.rf s).ex e (hE_cls h) Γ (skk Γ) (by omega) (by omega)
      exact a.1.tr (hS_ret e Γ [false] hk (by have := a.2; show 2 * (1 + _) ≤ _; omega) (by omega))
  | to h =>
      intro e Γ s hk hl hT
      have p1 := psh_ln 1 (skk Γ)
      have a := (hS.rf s).ex e (hE_cls h) Γ (skk Γ) (by omega) (by omega)
      exact a.1.em e Γ (psh 1 (skk Γ)) 26 0 0 none (by omega) (by omega)
  | @trc l w d n y z hn _ _ i1 i2 =>
      intro e Γ s hk hl hT
      have p1 := psh_ln 1 (skk Γ)
      have a := ((hS.rf s).sm (s'' := mkm (mkm s)) rfl).em e Γ (skk Γ) 27 0 0 (some s.m) (by omega) (by rw [mkm_ln, mkm_ln]; omega)
      have hk' : khh e (trW s.c.length s.m none :: Γ) := khh_w hk (fun _ => rfl) rfl
      have tl : (trs (trW s.c.length s.m none :: Γ)).length = (trs Γ).length + 1 := rfl
      have b := (a.tr (i1 e (trW s.c.length s.m none :: Γ) _ hk' (show 2 * (skk Γ).length ≤ _ by rw [em_ln, mkm_ln, mkm_ln]; omega) (by omega)))
      have lb := b.len
      have c := ((b.em e (trW s.c.length s.m none :: Γ) (skk Γ) 28 0 0 none (by omega) (by omega)).em e Γ (skk Γ) 21 0 0 (some (s.m + 1)) (by omega) (by rw [em_ln]; omega)).hre s.m
      have lc := c.len
      have f := c.set (x := n) (e := e) (Γ := Γ) (L := psh 1 (skk Γ)) (by omega) (by omega)
      have lf := f.len
      have g := f.em e Γ (psh 1 (skk Γ)) 17 0 0 none (by omega) (by omega)
      have lg := g.len
      exact (g.tr (i2 e Γ _ hk (by omega) (by omega))).hre (s.m + 1)
  | @trf l w d y z _ _ i1 i2 =>
      intro e Γ s hk hl hT
      have p1 := psh_ln 1 (skk Γ)
      have a := ((hS.rf s).sm (s'' := mkm (mkm s)) rfl).em e Γ (skk Γ) 27 0 0 (some s.m) (by omega) (by rw [mkm_ln, mkm_ln]; omega)
      have hk' : khh e (trW s.c.length s.m (some (fun X s => z e (vaK X Γ) s)) :: Γ) := ⟨hk, fun _ => rfl, fun φ hφ X s' hl' => by
        have : (fun X s => z e (vaK X Γ) s) = φ := Option.some.inj hφ
        rw [← this]
        have v : khh e (vaK X Γ) ∧ (skk (vaK X Γ)).length = X.length + (skk Γ).length ∧ trs (vaK X Γ) = trs Γ := by
          unfold vaK
          by_cases e : X = []
          · rw [if_pos e, e]; exact ⟨hk, by simp, rfl⟩
          · rw [if_neg e]; exact ⟨khh_w hk (fun z => absurd z (show ¬ 3 = 2 by decide)) rfl, skk_tl _ _, rfl⟩
        exact i2 e (vaK X Γ) s' v.1 (by rw [v.2.1]; exact hl') (by rw [v.2.2]; omega)⟩
      have tl : (trs (trW s.c.length s.m (some (fun X s => z e (vaK X Γ) s)) :: Γ)).length = (trs Γ).length + 1 := rfl
      have b := (a.tr (i1 e (trW s.c.length s.m (some (fun X s => z e (vaK X Γ) s)) :: Γ) _ hk' (show 2 * (skk Γ).length ≤ _ by rw [em_ln, mkm_ln, mkm_ln]; omega) (by omega)))
      have lb := b.len
      have c0 := b.em e (trW s.c.length s.m (some (fun X s => z e (vaK X Γ) s)) :: Γ) (skk Γ) 28 0 0 none (by omega) (by omega)
      have lc0 := c0.len
      have c1 := c0.tr (i2 e Γ _ hk (by omega) (by omega))
      have lc1 := c1.len
      have l27 : s.c.length + 2 ≤ (z e Γ (em e (trW s.c.length s.m (some (fun X s => z e (vaK X Γ) s)) :: Γ) (skk Γ) 28 0 0 none (y e (trW s.c.length s.m (some (fun X s => z e (vaK X Γ) s)) :: Γ) (em e Γ (skk Γ) 27 0 0 (some s.m) (mkm (mkm s)))))).c.length := by
        have q1 := (i1 e (trW s.c.length s.m (some (fun X s => z e (vaK X Γ) s)) :: Γ) (em e Γ (skk Γ) 27 0 0 (some s.m) (mkm (mkm s))) hk' (show 2 * (skk Γ).length ≤ _ by rw [em_ln, mkm_ln, mkm_ln]; omega) (by omega)).len
        have q2 := (i2 e Γ (em e (trW s.c.length s.m (some (fun X s => z e (vaK X Γ) s)) :: Γ) (skk Γ) 28 0 0 none (y e (trW s.c.length s.m (some (fun X s => z e (vaK X Γ) s)) :: Γ) (em e Γ (skk Γ) 27 0 0 (some s.m) (mkm (mkm s))))) hk (by omega) (by omega)).len
        rw [em_ln] at q2
        rw [em_ln, mkm_ln, mkm_ln] at q1
        omega
      have c := (c1.em e Γ (skk Γ) 21 0 0 (some (s.m + 1)) (by omega) (by omega)).hre s.m
      have g := c.tr (i2 e (vaW [false] :: Γ) _ (khh_w hk (fun z => absurd z (show ¬ 3 = 2 by decide)) rfl) (by rw [skk_tl, hre_ln, em_ln]; show 2 * (1 + _) ≤ _; omega) (show (trs Γ).length + d ≤ 40 by omega))
      have lg := g.len
      exact (g.em e Γ (psh 1 (skk Γ)) 26 0 0 none (by omega) (by omega)).hre (s.m + 1)
  | @sw l w d x cs h h1 _ i =>
      intro e Γ s hk hl hT
      have p1 := psh_ln 1 (skk Γ)
      have a := (hS.rf s).ex e (hE_cls h) Γ (skk Γ) (by omega) (by omega)
      have la := a.2
      refine a.1.tr ?_
      show hS e (x e Γ (skk Γ) s) ((fun s => (fun n => hre n (gCsB e (swW n :: Γ) cs (n + 1) (em e Γ (skk Γ) 21 0 0 (some (gDef cs (n + 1) n)) (em e Γ (psh 1 (skk Γ)) 17 0 0 none (gCsT e Γ cs (n + 1) (gMks cs.length (mkm s))))))) s.m) (x e Γ (skk Γ) s))
      generalize x e Γ (skk Γ) s = s1 at *
      dsimp only
      have b := ((hS.rf s1).sm (s'' := gMks cs.length (mkm s1)) (mks_c _ _)).tr (hS_csT (e := e) (Γ := Γ) (by omega) cs (s1.m + 1) (fun q hq g hg => hE_cls (h1 q hq g hg)) (by rw [mks_c, mkm_ln]; omega))
      have lb := b.len
      have c := (b.em e Γ (psh 1 (skk Γ)) 17 0 0 none (by omega) (by omega)).em e Γ (skk Γ) 21 0 0 (some (gDef cs (s1.m + 1) s1.m)) (by omega) (by rw [em_ln]; omega)
      have lc := c.len
      exact (c.tr (hS_csB (khh_w hk (fun z => absurd z (show ¬ 1 = 2 by decide)) rfl) (show (trs Γ).length + d ≤ 40 from hT) cs (s1.m + 1) i (show 2 * (skk Γ).length ≤ _ by omega))).hre s1.m
/-- a whole function -/
theorem hS_fn {N : Nat} {Φ : Nat → Prop} {e : gN} {gl : List Nat} {dc : List (Nat × Nat)} {y : gSt} (hy : cSt N Φ 20 0 0 40 y) (s : gS) : hS e s (gFn e gl dc y s) := by
  have a1 : ∀ (gl : List Nat) (s0 s : gS), hS e s0 s → hS e s0 (gGl e gl s) := by
    intro gl
    induction gl with
    | nil => intro _ _ h; exact h
    | cons x r ih => intro s0 s h; exact ih s0 _ (((h.em e [] [] 0 0 0 none (by decide) (by show 0 ≤ _; omega)).em e [] [false] 4 0 (Int32.ofNat x) none (by decide) (by show 2 ≤ _; omega)).em e [] [false] 17 0 0 none (by decide) (by show 2 ≤ _; omega))
  have a2 : ∀ (dc : List (Nat × Nat)) (s0 s : gS), hS e s0 s → hS e s0 (gDc e dc s) := by
    intro dc
    induction dc with
    | nil => intro _ _ h; exact h
    | cons x r ih => intro s0 s h; exact ih s0 _ (((h.em e [] [] 9 (Int32.ofNat x.1) 0 none (by decide) (by show 0 ≤ _; omega)).set (x := x.2) (e := e) (Γ := []) (L := [false]) (by decide) (by show 2 ≤ _; omega)).em e [] [false] 17 0 0 none (by decide) (by show 2 ≤ _; omega))
  have b := (a2 dc s _ (a1 gl s s (hS.rf s))).tr (hTT_cls hy e [] _ trivial (by show 0 ≤ _; omega) (by decide))
  exact (b.em e [] [] 0 0 0 none (by decide) (by show 0 ≤ _; omega)).em e [] [false] 25 0 0 none (by decide) (by show 2 ≤ _; omega)
