/-! THE COMPONENT's CODER: entering, in the state -/
theorem xAr_ag {M M' : zM} : ∀ (Γ : gK) (p : Option zP) (l : List Nat), (∀ b ∈ l, ∀ k, gi M' b k = gi M b k ∧ gr M' b k = gr M b k) → xAr M p Γ l → xAr M' p Γ l
  | [], p, l, _, h => h
  | w :: Γ, p, [], _, h => h.elim
  | w :: Γ, p, b :: l, f, h => by
    obtain ⟨h1, h2, h3⟩ := h
    have fb := f b List.mem_cons_self
    refine ⟨h1, h2, ?_⟩
    by_cases h4 : w.1 = 4
    · rw [if_pos h4] at h3 ⊢
      obtain ⟨b2, l2, e1, e2, e3, e4, e5, e6, e7⟩ := h3
      have fb2 := f b2 (by rw [e1]; exact List.mem_cons_of_mem _ List.mem_cons_self)
      exact ⟨b2, l2, e1, (fb 3).1.trans e2, (fb 8).1.trans e3, (fb 4).2.trans e4, e5, (fb2 3).1.trans e6, by rw [(fb2 4).2]; exact xAr_ag Γ _ _ (fun x hx => f x (by rw [e1]; exact List.mem_cons_of_mem _ (List.mem_cons_of_mem _ hx))) e7⟩
    · rw [if_neg h4] at h3 ⊢
      obtain ⟨e1, e2, e3, e4⟩ := h3
      refine ⟨?_, (fb 3).1.trans e2, fun z => (fb 7).1.trans (e3 z), by rw [(fb 4).2]; exact xAr_ag Γ _ _ (fun x hx => f x (List.mem_cons_of_mem _ hx)) e4⟩
      by_cases h5 : w.1 = 3
      · rw [if_pos h5] at e1 ⊢; exact (fb 8).1.trans e1
      · rw [if_neg h5]; trivial
/-- the lists of jumps of an around below: its cells bear numbers 5i+1 .. 5i+5 -/
theorem xJm_lb {M M' : zM} {ρ : Nat → Nat} {i a m β : Nat} {st : gS} {out : Nat} {on : Option Nat} (h : xJm M a m β st out on) (ho : oA M ρ i a) (f : ∀ x, 5 * i + 1 ≤ ρ x → ρ x ≤ 5 * i + 5 → ∀ k, gi M' x k = gi M x k ∧ gr M' x k = gr M x k) (hz : zsz M ≤ zsz M') : xJm M' a m β st out on := by
  obtain ⟨j1, j2, k1, k2, e1, e2, x1, x2, hl, hk⟩ := h
  obtain ⟨i1, i2, q1, q2, ⟨r1, r2, r3, r4, r5⟩, g0, g1, g2, y1, y2⟩ := ho
  have z1 : i1 = j1 := by rw [e1] at g1; cases g1; rfl
  have z2 : i2 = j2 := by rw [e2] at g2; cases g2; rfl
  subst z1
  subst z2
  have J : ∀ j ks, xJp M j ks → 5 * i + 1 ≤ ρ j → ρ j ≤ 5 * i + 5 → 5 * i + 1 ≤ ρ (jR M j) → ρ (jR M j) ≤ 5 * i + 5 → xJp M' j ks := fun j ks x h1 h2 h3 h4 => by
    obtain ⟨a0, a1, a2, a3, a4, a5, a6⟩ := x
    have e0 := (f j h1 h2 0).2
    have eR : jR M' j = jR M j := by unfold jR; rw [e0]
    have eC : jC M' j = jC M j := by unfold jC; rw [e0]
    unfold xJp
    rw [eR, eC]
    exact ⟨e0.trans a0, by omega, by omega, (f j h1 h2 1).1.trans a3, a4, fun i hi => (f _ h3 h4 i).1.trans (a5 i hi), a6⟩
  exact ⟨i1, i2, k1, k2, (f a (by omega) (by omega) 1).2.trans e1, (f a (by omega) (by omega) 2).2.trans e2, J i1 k1 x1 (by omega) (by omega) (by omega) (by omega), J i2 k2 x2 (by omega) (by omega) (by omega) (by omega), hl, hk⟩
theorem xCh_lb {M M' : zM} {ρ : Nat → Nat} {A A' : List Nat} {m : Nat} {st : gS} (hA : ∀ (i a : Nat), A[i]? = some a → oA M ρ i a) (hA' : ∀ (i a : Nat), A[i]? = some a → A'[i]? = some a) (hz : zsz M ≤ zsz M') : ∀ (Γ : gK) (v : Nat) (l bs : List Nat) (ps : List (Option zP)), (∀ i x, i < v → 5 * i + 1 ≤ ρ x → ρ x ≤ 5 * i + 5 → ∀ k, gi M' x k = gi M x k ∧ gr M' x k = gr M x k) → xCh M A m st v Γ l bs ps → xCh M' A' m st v Γ l bs ps
  | [], _, _, _, _, _, h => h
  | w :: Γ, v, l, bs, ps, f, h => by
    obtain ⟨i, b, l', β, bs', p, ps', e1, e2, hi, hb, h3, h4⟩ := h
    have ob := hA i b hb
    have rb : ρ b = 5 * i + 1 := by obtain ⟨_, _, _, _, ⟨r1, -⟩, -⟩ := ob; exact r1
    have fb := f i b hi (by omega) (by omega)
    have fi := fun x h1 h2 => f i x hi h1 h2
    refine ⟨i, b, l', β, bs', p, ps', e1, e2, hi, hA' i b hb, ?_, xCh_lb hA hA' hz Γ i l' bs' ps' (fun i' x h => f i' x (by omega)) h4⟩
    by_cases h4' : w.1 = 4
    · rw [if_pos h4'] at h3 ⊢
      obtain ⟨b2, c1, c2, c3, c4, c5, c6, c7, c8⟩ := h3
      have rb2 : ρ b2 = 5 * (i + 1) + 1 := by obtain ⟨_, _, _, _, ⟨r1, -⟩, -⟩ := hA _ b2 c3; exact r1
      have fb2 := f (i + 1) b2 c2 (by omega) (by omega)
      exact ⟨b2, c1, c2, hA' _ b2 c3, (fb 5).2.trans c4, (fb 6).2.trans c5, (fb2 5).2.trans c6, (fb2 6).2.trans c7, xJm_lb c8 ob fi hz⟩
    · rw [if_neg h4'] at h3 ⊢
      obtain ⟨c1, c2, c3, c4, c5, c6⟩ := h3
      exact ⟨c1, (fb 5).2.trans c2, fun z => (fb 6).2.trans (c3 z), fun z => ⟨(fb 6).2.trans (c4 z).1, (c4 z).2⟩, fun z => xJm_lb (c5 z) ob fi hz, fun z => xJm_lb (c6 z) ob fi hz⟩
