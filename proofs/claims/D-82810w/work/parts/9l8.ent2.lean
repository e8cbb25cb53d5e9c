/-! THE COMPONENT's CODER: entering a loop or a switch -/
section
variable {S B : Nat → Prop} {M0 : zM} {E : zE} {d : Nat} {Q : zO → zM → Prop} {M : zM} {e : gN} {Γ : gK} {l bs : List Nat} {ps : List (Option zP)} {ρ : Nat → Nat} {A : List Nat} {u m fc : Nat} {st : gS}
theorem en_stF {C : Nat → Prop} {M' : zM} {ρ' : Nat → Nat} {A' : List Nat} {a : Nat} {s : Int32} (h : enP M M' ρ ρ' A A' a u s) (hs : sep S B M ρ) (hz : 190 ≤ zsz M) (hw : xOw M ρ A) : stF B C M M' ρ ρ' ∧ sep S B M' ρ' := by
  obtain ⟨p1, p2, p3, p4, p5, p6, p7, p8, p9, p10, p11, p12, p13⟩ := h
  have same : ∀ x, 190 ≤ x → x < zsz M → ρ x = 0 → x ≠ lA M 37 → ∀ k, gi M' x k = gi M x k ∧ gr M' x k = gr M x k := fun x h1 h2 h3 h4 k => by
    have := p10.2 x k h2 (fun z => by
      unfold enF at z
      rcases z with z | z | z | z | z
      · omega
      · omega
      · exact h4 z.1
      · omega
      · omega)
    exact ⟨this.1, this.2.2⟩
  have ne : ∀ x, x < zsz M → x ≠ lA M 37 → x ≠ lA M' 37 := fun x h1 h2 z => by
    rcases p13 with y | y
    · rw [y] at z; exact h2 z
    · omega
  refine ⟨⟨⟨p10.1.1, p10.1.2, p4⟩, fun x h1 h2 h3 h4 => ⟨(p4 x h2).trans h3, ne x h2 h4, fun k _ => same x h1 h2 h3 h4 k⟩, fun x k hx hk => ?_⟩, fun x hx => ?_, hs.2.1, fun b hb => ?_⟩
  · refine p10.2 x k (by omega) (fun z => hk ?_)
    unfold enF at z
    have ρx : ρ x = 0 := Nat.eq_zero_of_not_pos fun y => by have := hw.1 x (by omega); omega
    rcases z with z | z | z | z | z
    · exact .inr (.inl z)
    · exact .inr (.inr z)
    · rcases hw.2.2.1.2 with y | y <;> omega
    · omega
    · omega
  · obtain ⟨h1, h2, h3, h4⟩ := hs.1 x hx
    exact ⟨h1, Nat.lt_of_lt_of_le h2 p10.1.1, (p4 x h2).trans h3, ne x h2 h4⟩
  · obtain ⟨h1, h2, h3, h4⟩ := hs.1 b (.inr hb)
    exact sep3_ag (hs.2.2 b hb) (same b h1 h2 h3 h4 3).2 (same b h1 h2 h3 h4 1).2 (fun a ha => by obtain ⟨k1, k2, k3, k4⟩ := hs.1 a (.inl ha); exact (same a k1 k2 k3 k4 2).1) (fun r hr => p4 r (hw.1 r hr).2)
end
