/-! THE COMPONENT's CODER: one step out of what is around, and back -/
abbrev p9 (x k : Nat) : Prop := x = 29 ∧ (k = 9 ∨ k = 11)
theorem xCh_v {M : zM} {A : List Nat} {m : Nat} {st : gS} : ∀ (Γ : gK) (v v' : Nat) (l bs : List Nat) (ps : List (Option zP)), v ≤ v' → xCh M A m st v Γ l bs ps → xCh M A m st v' Γ l bs ps
  | [], _, _, _, _, _, _, h => h
  | w :: Γ, v, v', l, bs, ps, hv, h => by
    obtain ⟨i, b, l', β, bs', p, ps', e1, e2, hi, hb, h3, h4⟩ := h
    refine ⟨i, b, l', β, bs', p, ps', e1, e2, by omega, hb, ?_, h4⟩
    by_cases z : w.1 = 4
    · rw [if_pos z] at h3 ⊢
      obtain ⟨b2, c1, c2, c3⟩ := h3
      exact ⟨b2, c1, by omega, c3⟩
    · rw [if_neg z] at h3 ⊢; exact h3
theorem xCh_idx {M M' : zM} {A A' : List Nat} {m m' : Nat} {st st' : gS} {Γ : gK} {v v' : Nat} {l bs bs0 : List Nat} {ps ps0 : List (Option zP)} (h : xCh M' A' m' st' v' Γ l bs ps) (h0 : xCh M A m st v Γ l bs0 ps0) (inj : ∀ i j a : Nat, A[i]? = some a → A'[j]? = some a → i = j) : xCh M' A' m' st' v Γ l bs ps := by
  cases Γ with
  | nil => exact h
  | cons w Γ =>
    obtain ⟨i, b, l', β, bs', p, ps', e1, e2, hi, hb, h3, h4⟩ := h
    obtain ⟨i0, b0, l0, β0, bs0', p0, ps0', f1, f2, gi0, gb, k3, k4⟩ := h0
    by_cases z : w.1 = 4
    · rw [if_pos z] at h3 k3
      obtain ⟨b2, c1, c2, c3, c4⟩ := h3
      obtain ⟨b20, d1, d2, d3, d4⟩ := k3
      rw [c1] at d1
      have eb : b = b0 := (List.cons.inj (List.cons.inj d1).2).1
      have ei : i0 = i := inj i0 i b0 gb (by rw [← eb]; exact hb)
      exact ⟨i, b, l', β, bs', p, ps', e1, e2, by omega, hb, by rw [if_pos z]; exact ⟨b2, c1, by omega, c3, c4⟩, h4⟩
    · rw [if_neg z] at h3 k3
      have e9 := h3.1
      rw [k3.1] at e9
      have eb : b = b0 := (List.cons.inj e9).1.symm
      have ei : i0 = i := inj i0 i b0 gb (by rw [← eb]; exact hb)
      exact ⟨i, b, l', β, bs', p, ps', e1, e2, by omega, hb, by rw [if_neg z]; exact h3, h4⟩
theorem xJm_mono {M : zM} {a m m' β : Nat} {st st' : gS} {out : Nat} {on : Option Nat} (h : xJm M a m β st out on) (hm : m ≤ m') (hj : ∀ β ks o, o = out ∨ on = some o → jmK st β ks o → jmK st' β ks o) : xJm M a m' β st' out on := by
  obtain ⟨j1, j2, k1, k2, e1, e2, x1, x2, hl, hk⟩ := h
  exact ⟨j1, j2, k1, k2, e1, e2, x1, x2, by omega, fun h6 => ⟨hj _ _ _ (.inl rfl) (hk (by omega)).1, fun o ho => hj _ _ _ (.inr ho) ((hk (by omega)).2 o ho)⟩⟩
theorem p9_cw : ∀ q ∈ cwl, ¬ p9 q.1 q.2.1 := by
  have : ∀ q ∈ cwl, ¬ (q.1 = 29 ∧ (q.2.1 = 9 ∨ q.2.1 = 11)) := by decide +kernel
  exact this
section
variable {M M' : zM} {e : gN} {w : gW} {Γ : gK} {l bs : List Nat} {ps : List (Option zP)} {ρ : Nat → Nat} {A : List Nat} {u m : Nat} {st : gS}
theorem xSt.A190 (h : xSt M e Γ l bs ps ρ A u m st) : ∀ (i a : Nat), A[i]? = some a → 190 ≤ a ∧ a < zsz M ∧ ρ a = 5 * i + 1 := fun i a ha => by
  obtain ⟨j1, j2, k1, k2, ⟨s1, -⟩, -⟩ := h.2.1.2.2.2 i a ha
  have := h.2.1.1 a (by omega)
  exact ⟨this.1, this.2, s1⟩
theorem fr.p9g (f : fr p9 M M') : ∀ x k, 190 ≤ x → gi M' x k = gi M x k ∧ gr M' x k = gr M x k := fun x k hx => by
  have := f.2 x k (by unfold p9; omega)
  exact ⟨this.1, this.2.2⟩
/-- the pointer to what is around was set anew -/
theorem xSt_lo (h : xSt M e Γ l bs ps ρ A u m st) (f : fr p9 M M') (h9 : gr M' 29 9 = gr M 29 9) {v : Nat} (h11 : gi M' 29 11 = nI v) (hv : u ≤ v ∧ v ≤ A.length) : xSt M' e Γ l bs ps ρ A v m st := by
  have hA := h.A190
  obtain ⟨⟨c1, c2, c3, c4, fc, u', y1, y2, y3⟩, h2, h3, h4, h5, h6, h7, h8⟩ := h
  have g' := f.p9g
  have fl : fr loP M M' := f.mono fun x k z => .inr z
  refine ⟨⟨f.cw p9_cw c1, xCd_ag c2 (fun x k hx => (f.2 x k (by unfold cdP at hx; unfold p9; omega)).1) (fun _ z => z), by rw [h9]; exact xAr_fr g' Γ _ _ c3, c4, fc, u', y1, (f.2 29 12 (by unfold p9; omega)).2.2.trans y2, xFn_fr g' u' fc _ _ y3⟩, xOw_lo h2 fl h5, h11, ⟨hv.2, h4.2⟩, by rw [f.1.1]; exact h5, xCh_v Γ u v l bs ps hv.1 (xCh_up (P := fun _ => False) g' (Nat.le_of_eq f.1.1.symm) (fun i a z => (hA i a z).1) (fun _ _ _ _ z => z) (Nat.le_refl _) Γ u l bs ps (fun mm z => ⟨fun y => y, (h7 mm z).1⟩) h6), h7, h8⟩
/-- the innermost around: what it holds, the state without it, and the state with it again -/
theorem xSt_cut (h : xSt M e (w :: Γ) l bs ps ρ A u m st) : ∃ (i bo : Nat) (l' : List Nat) (β : Nat) (bs' : List Nat) (p : Option zP) (ps' : List (Option zP)), bs = β :: bs' ∧ ps = p :: ps' ∧ (i < u ∧ A[i]? = some bo ∧ xCh M A m st i Γ l' bs' ps' ∧ ∀ b ∈ l', b ∈ l) ∧
    (w.1 ≠ 4 ∧ l = bo :: l' ∧ gr M 29 9 = some (bo, 17, 0) ∧ (w.1 ≠ 2 → gr M bo 6 = none) ∧ (w.1 = 2 → gr M bo 6 = p ∧ (p = none ↔ w.2.2.2.2.2 = none)) ∧ gi M bo 3 = nI w.1 ∧ (w.1 = 3 → gi M bo 8 = nI w.2.1.length) ∧ gr M bo 5 = none ∨
      w.1 = 4 ∧ ∃ b2, l = b2 :: bo :: l' ∧ gr M 29 9 = some (b2, 17, 0) ∧ (i + 1 < u ∧ A[i + 1]? = some b2) ∧ gr M b2 4 = some (bo, 17, 0) ∧ gi M b2 3 = 3 ∧ gi M b2 8 = 1 ∧ gr M b2 6 = none ∧ gi M bo 3 = 0 ∧ gr M bo 5 = some (b2, 17, 0) ∧ gr M b2 5 = none ∧ gr M bo 6 = none) ∧
    (∀ M' : zM, fr p9 M M' → gr M' 29 9 = gr M bo 4 → gi M' 29 11 = nI u → xSt M' e Γ l' bs' ps' ρ A u m st) ∧
    ∀ (C : Nat → Prop) (M2 M3 : zM) (ρ2 : Nat → Nat) (A2 : List Nat) (u2 m2 T T2 V : Nat) (st2 : gS), xSt M2 e Γ l' bs' ps' ρ2 A2 u2 m2 st2 → rm C u l' M ρ A T M2 ρ2 A2 T2 V → gst (mkP Γ) st st2 → m ≤ m2 → fr p9 M2 M3 → gr M2 29 9 = gr M bo 4 → gr M3 29 9 = gr M 29 9 → gi M3 29 11 = nI u → xSt M3 e (w :: Γ) l bs ps ρ2 A2 u m2 st2 := by
  have hA := h.A190
  obtain ⟨⟨c1, c2, c3, c4, fc, u', y1, y2, y3⟩, h2, h3, h4, h5, ⟨i, bo, l', β, bs', p, ps', e1, e2, hi, hb, hc, hch⟩, h7, h8⟩ := id h
  have bb := hA i bo hb
  have hmem : ∀ b ∈ l', ∃ i', i' < i ∧ A[i']? = some b := xCh_mem Γ i l' bs' ps' hch
  -- where the pointers go
  have har : xAr M (gr M bo 4) Γ l' ∧ (w.1 ≠ 4 ∧ l = bo :: l' ∧ gr M 29 9 = some (bo, 17, 0) ∧ (w.1 ≠ 2 → gr M bo 6 = none) ∧ (w.1 = 2 → gr M bo 6 = p ∧ (p = none ↔ w.2.2.2.2.2 = none)) ∧ gi M bo 3 = nI w.1 ∧ (w.1 = 3 → gi M bo 8 = nI w.2.1.length) ∧ gr M bo 5 = none ∨
      w.1 = 4 ∧ ∃ b2, l = b2 :: bo :: l' ∧ gr M 29 9 = some (b2, 17, 0) ∧ (i + 1 < u ∧ A[i + 1]? = some b2) ∧ gr M b2 4 = some (bo, 17, 0) ∧ gi M b2 3 = 3 ∧ gi M b2 8 = 1 ∧ gr M b2 6 = none ∧ gi M bo 3 = 0 ∧ gr M bo 5 = some (b2, 17, 0) ∧ gr M b2 5 = none ∧ gr M bo 6 = none) := by
    by_cases h4' : w.1 = 4
    · rw [if_pos h4'] at hc
      obtain ⟨b2, k1, k2, k3, k4, k5, k6, k7, k8⟩ := hc
      rw [k1] at c3
      obtain ⟨a1, a2, a3⟩ := c3
      rw [if_pos h4'] at a3
      obtain ⟨b2', l2, q1, q2, q3, q4, q5, q6, q7⟩ := a3
      have eb := (List.cons.inj q1).1
      have el := (List.cons.inj q1).2
      subst eb el
      exact ⟨q7, .inr ⟨h4', b2, k1, a1, ⟨k2, k3⟩, q4, q2, q3, k7, q6, k4, k6, k5⟩⟩
    · rw [if_neg h4'] at hc
      obtain ⟨k1, k2, k3, k4, k5, k6⟩ := hc
      rw [k1] at c3
      obtain ⟨a1, a2, a3⟩ := c3
      rw [if_neg h4'] at a3
      obtain ⟨q1, q2, q3, q4⟩ := a3
      exact ⟨q4, .inl ⟨h4', k1, a1, k3, k4, q2, fun z => by rw [if_pos z] at q1; exact q1, k2⟩⟩
  have hl' : ∀ b ∈ l', b ∈ l := fun b hb' => by
    rcases har.2 with ⟨_, z, _⟩ | ⟨_, b2, z, _⟩
    · rw [z]; exact List.mem_cons_of_mem _ hb'
    · rw [z]; exact List.mem_cons_of_mem _ (List.mem_cons_of_mem _ hb')
  have hkl : (skk (w :: Γ)).length = w.2.1.length + (skk Γ).length := by show (w.2.1 ++ skk Γ).length = _; rw [List.length_append]
  refine ⟨i, bo, l', β, bs', p, ps', e1, e2, ⟨hi, hb, hch, hl'⟩, har.2, fun M' f h9 h11 => ?_, fun C M2 M3 ρ2 A2 u2 m2 T T2 V st2 n r g hm f h9 h93 h11 => ?_⟩
  · have g' := f.p9g
    have fl : fr loP M M' := f.mono fun x k z => .inr z
    have cdS : ∀ x k, cdP x k → gi M' x k = gi M x k := fun x k hx => (f.2 x k (by unfold cdP at hx; unfold p9; omega)).1
    refine ⟨⟨f.cw p9_cw c1, xCd_31 c2 (fun x k hx _ => cdS x k hx) rfl rfl c2.2.2.2.2.2.2 (fun h6 k q hq => ?_), by rw [h9]; exact xAr_fr g' Γ _ _ har.1, ⟨fun w' hw' => c4.1 w' (List.mem_cons_of_mem _ hw'), by have := c4.2; omega⟩, fc, u', y1, (f.2 29 12 (by unfold p9; omega)).2.2.trans y2, xFn_fr g' u' fc _ _ y3⟩, xOw_lo h2 fl h5, h11, h4, by rw [f.1.1]; exact h5, xCh_v Γ i u l' bs' ps' (by omega) (xCh_up (P := fun _ => False) g' (Nat.le_of_eq f.1.1.symm) (fun i a z => (hA i a z).1) (fun _ _ _ _ z => z) (Nat.le_refl _) Γ i l' bs' ps' (fun mm z => ⟨fun y => y, (h7 mm (mkP_tl z)).1⟩) hch), fun mm z => h7 mm (mkP_tl z), h8.2⟩
    have s31 : gi M' 31 k = gi M 31 k := cdS 31 k (.inl ⟨by decide, by decide⟩)
    refine ⟨fun _ => s31, fun mm p z1 z2 z3 => s31.trans (((c2.2.2.2.2.1 h6).2.2.1 k q hq).2.2.1 mm p z1 z2 (fun y => ?_))⟩
    rcases mkP_cons y with y | y
    · have := (h7 mm ⟨w, List.mem_cons_self, y⟩).2
      rw [this] at z2
      cases z2
    · exact z3 y
  · have hA2 := n.A190
    obtain ⟨⟨d1, d2, d3, d4, fc2, u2', t1, t2, t3⟩, n2, n3, n4, n5, n6, n7, n8⟩ := n
    have g' := f.p9g
    have fl : fr loP M2 M3 := f.mono fun x k z => .inr z
    obtain ⟨r1, ⟨r2, r3, r4⟩, r5, -⟩ := r
    -- cells of the innermost around
    have keep : ∀ x, x < zsz M → ∀ i', (i' = i ∨ i' = i + 1 ∧ i + 1 < u) → 5 * i' + 1 ≤ ρ x → ρ x ≤ 5 * i' + 5 → ∀ k, gi M3 x k = gi M x k ∧ gr M3 x k = gr M x k := fun x hx i' hi' z1 z2 k => by
      have e : (ρ x - 1) / 5 = i' := by omega
      have a1 := r5 x hx (by omega) (fun z => by
        rw [e] at z
        rcases z with z | ⟨b, h1, h2⟩
        · omega
        · obtain ⟨i2, q1, q2⟩ := hmem b h1
          have := (hA i2 b q2).2.2
          omega) k
      have h9' := h2.1 x (by omega)
      have a2 := g' x k h9'.1
      exact ⟨a2.1.trans a1.1, a2.2.trans a1.2⟩
    have kb := keep bo bb.2.1 i (.inl rfl) (by omega) (by omega)
    have inj : ∀ i j a : Nat, A[i]? = some a → A2[j]? = some a → i = j := fun i j a z1 z2 => by
      have a1 := hA i a z1
      have a2 := hA2 j a z2
      have a3 := r3 a a1.2.1
      omega
    have zz : zsz M3 = zsz M2 := f.1.1
    have ob : oA M ρ i bo := h2.2.2.2 i bo hb
    have jst : ∀ β ks o, wmk w o → jmK st β ks o → jmK st2 β ks o := fun β ks o ho hj => jmK_gst hj g (h8.1.1 o ho) (h7 o ⟨w, List.mem_cons_self, ho⟩).1
    have jm : ∀ out on, (∀ o, o = out ∨ on = some o → wmk w o) → xJm M bo m β st out on → xJm M3 bo m2 β st2 out on := fun out on ho hx => by
      have lt : ∀ x, 5 * i + 1 ≤ ρ x → ρ x ≤ 5 * i + 5 → ∀ k, gi M3 x k = gi M x k ∧ gr M3 x k = gr M x k := fun x z1 z2 => keep x (h2.1 x (by omega)).2 i (.inl rfl) z1 z2
      exact xJm_mono (xJm_lb hx ob lt (by omega)) hm (fun β ks o h1 h2 => jst β ks o (ho o h1) h2)
    have ch : xCh M3 A2 m2 st2 i Γ l' bs' ps' := xCh_idx (xCh_up (P := fun _ => False) (M := M2) (M' := M3) g' (Nat.le_of_eq f.1.1.symm) (fun i a z => (hA2 i a z).1) (fun _ _ _ _ z => z) (Nat.le_refl _) Γ u2 l' bs' ps' (fun mm z => ⟨fun y => y, (n7 mm z).1⟩) n6) hch inj
    have ar : xAr M3 (gr M bo 4) Γ l' := by rw [← h9]; exact xAr_fr g' Γ _ _ d3
    have hul : u ≤ A2.length := Nat.le_trans h4.1 r1.1.1
    refine ⟨⟨f.cw p9_cw d1, xCd_ag d2 (fun x k hx => (f.2 x k (by unfold cdP at hx; unfold p9; omega)).1) (fun mm z => mkP_tl z), ?_, c4, fc2, u2', t1, (f.2 29 12 (by unfold p9; omega)).2.2.trans t2, xFn_fr g' u2' fc2 _ _ t3⟩, xOw_lo n2 fl n5, h11, ⟨hul, n4.2⟩, by rw [f.1.1]; exact n5, ⟨i, bo, l', β, bs', p, ps', e1, e2, hi, r4 i bo hb, ?_, ch⟩, fun mm z => ?_, h8⟩
    · rw [h93]
      rcases har.2 with ⟨z4, z, z9, z6, z7, z3, z8, z5⟩ | ⟨z4, b2, z, z9, zi, z1, z2, z3, z5, z6, z7, z8, z10⟩
      · rw [z] at c3 ⊢
        obtain ⟨a1, a2, a3⟩ := c3
        rw [if_neg z4] at a3
        obtain ⟨q1, q2, q3, q4⟩ := a3
        refine ⟨a1, a2, ?_⟩
        rw [if_neg z4]
        refine ⟨?_, (kb 3).1.trans q2, fun y => (kb 7).1.trans (q3 y), by rw [(kb 4).2]; exact ar⟩
        by_cases y : w.1 = 3
        · rw [if_pos y] at q1 ⊢; exact (kb 8).1.trans q1
        · rw [if_neg y]; trivial
      · have b2a := hA _ b2 zi.2
        have kb2 := keep b2 b2a.2.1 (i + 1) (.inr ⟨rfl, zi.1⟩) (by omega) (by omega)
        rw [z, z9]
        refine ⟨rfl, b2a.1, ?_⟩
        rw [if_pos z4]
        exact ⟨bo, l', rfl, (kb2 3).1.trans z2, (kb2 8).1.trans z3, (kb2 4).2.trans z1, bb.1, (kb 3).1.trans z6, by rw [(kb 4).2]; exact ar⟩
    · rcases har.2 with ⟨z4, z, z9, z6, z7, z3, z8, z5⟩ | ⟨z4, b2, z, z9, zi, z1, z2, z3, z5, z6, z7, z8, z10⟩
      · rw [if_neg z4] at hc ⊢
        obtain ⟨k1, k2, k3, k4, k5, k6⟩ := hc
        exact ⟨z, (kb 5).2.trans k2, fun y => (kb 6).2.trans (k3 y), fun y => ⟨(kb 6).2.trans (k4 y).1, (k4 y).2⟩, fun y => jm _ _ (fun o ho => .inl ⟨.inl y, ho.imp id fun ho => (Option.some.inj ho).symm⟩) (k5 y), fun y => jm _ _ (fun o ho => .inr ⟨y, ho.resolve_right fun ho => by cases ho⟩) (k6 y)⟩
      · have b2a := hA _ b2 zi.2
        have kb2 := keep b2 b2a.2.1 (i + 1) (.inr ⟨rfl, zi.1⟩) (by omega) (by omega)
        rw [if_pos z4] at hc ⊢
        obtain ⟨b2', k1, k2, k3, k4, k5, k6, k7, k8⟩ := hc
        have eb : b2 = b2' := by rw [z] at k1; exact (List.cons.inj k1).1
        subst eb
        exact ⟨b2, z, k2, r4 _ b2 k3, (kb 5).2.trans k4, (kb 6).2.trans k5, (kb2 5).2.trans k6, (kb2 6).2.trans k7, jm _ _ (fun o ho => .inl ⟨.inr z4, ho.imp id fun ho => (Option.some.inj ho).symm⟩) k8⟩
    · rcases mkP_cons z with y | y
      · have := h7 mm ⟨w, List.mem_cons_self, y⟩
        exact ⟨Nat.lt_of_lt_of_le this.1 g.2.1, (g.2.2.1 mm this.1).trans this.2⟩
      · exact n7 mm y
end
