/-! THE COMPONENT's PARSER: a function's variables -/
/-- the Code x has the variables vs, in the array b of mb -/
def xVs (M : zM) (x b mb : Nat) (vs : List Nat) : Prop :=
  gr M x 4 = some (b, 100, mb) ∧ gi M x 5 = nI vs.length ∧ (vs.length ≤ mb ∧ 12 ≤ mb ∧ mb ≤ 60000) ∧ (190 ≤ b ∧ b < zsz M ∧ b ≠ x) ∧ (190 ≤ x ∧ x < zsz M) ∧ (∀ k, k < vs.length → gi M b k = nI (vs.getD k 0)) ∧ ∀ y ∈ vs, y < 100000
/-- one variable more, if it is new -/
def vsA (vs : List Nat) (y : Nat) : List Nat := if y ∈ vs then vs else vs ++ [y]
def vP (x b z k : Nat) : Prop := z = x ∧ (k = 4 ∨ k = 5) ∨ z = b
section
variable {E : zE} {d : Nat} {Q : zO → zM → Prop} {M : zM}
theorem xVs_fg {P : Nat → Nat → Prop} {M' : zM} {x b mb : Nat} {vs : List Nat} (h : xVs M x b mb vs) (f : fg P M M') (h1 : ¬ P x 4) (h2 : ¬ P x 5) (h3 : ∀ k, ¬ P b k) : xVs M' x b mb vs := by
  obtain ⟨a1, a2, a3, a4, a5, a6, a7⟩ := h
  have zz := f.1.1
  exact ⟨(f.gr a5.2 h1).trans a1, (f.gi a5.2 h2).trans a2, a3, ⟨a4.1, by omega, a4.2.2⟩, ⟨a5.1, by omega⟩, fun k hk => (f.gi a4.2.1 (h3 k)).trans (a6 k hk), a7⟩
theorem y_vadd {x b mb y : Nat} {vs : List Nat} (h : xVs M x b mb vs) (hy : y < 100000) (hl : vs.length ≤ 20000) (hd : 1 ≤ d) (hQ : ∀ (M' : zM) (b' mb' : Nat), xVs M' x b' mb' (vsA vs y) → fg (vP x b) M M' → (b' = b ∨ zsz M ≤ b') → (zsz M' ≤ zsz M + 1 ∧ zsu M' + 2 * mb = zsu M + 2 * mb' ∧ (mb' = mb ∨ mb' = 2 * vs.length)) → Q (.inl none) M') : Z E YX11_add (d + 1) M [(0, vr (some (x, 10, 0))), (1, vi (nI y))] 0 [] Q := by
  obtain ⟨a1, a2, a3, a4, a5, a6, a7⟩ := id h
  refine sX11_add_0 M x _ ?_
  refine y_has a1 a2 a3.1 (by omega) a6 a7 hy ?_
  show Z E YX11_add (d + 1) M [(0, vr (some (x, 10, 0))), (1, vi (nI y))] 5 [vi (if y ∈ vs then 1 else 0)] Q
  refine iX11_add_5 M x _ _ ?_
  by_cases hm : y ∈ vs
  · rw [if_pos hm, if_neg (by decide)]
    exact hQ M b mb (by unfold vsA; rw [if_pos hm]; exact h) fg.rf (.inl rfl) ⟨Nat.le_succ _, rfl, .inl rfl⟩
  · rw [if_neg hm, if_pos rfl]
    have eA : vsA vs y = vs ++ [y] := if_neg hm
    rw [eA] at hQ
    have fin : ∀ (M1 : zM) (r c : Nat), gr M1 x 4 = some (r, 100, c) → zsz M ≤ zsz M1 → (190 ≤ r ∧ r < zsz M1 ∧ r ≠ x) → (vs.length < c ∧ 12 ≤ c ∧ c ≤ 60000) → (∀ i, i < vs.length → gi M1 r i = nI (vs.getD i 0)) → xVs (si (si M1 x 5 (nI (vs.length + 1))) r vs.length (nI y)) x r c (vs ++ [y]) := fun M1 r c e0 hz hr hc hi => by
      refine ⟨e0, ?_, by rw [List.length_append]; exact ⟨hc.1, hc.2⟩, hr, ⟨a5.1, Nat.lt_of_lt_of_le a5.2 hz⟩, fun i hi' => ?_, fun z hz' => ?_⟩
      · rw [gi_oth (Ne.symm hr.2.2), gi_self, List.length_append]; rfl
      · rw [List.length_append] at hi'
        have hi' : i < vs.length + 1 := hi'
        by_cases z : i = vs.length
        · rw [z, gi_self, List.getD_eq_getElem?_getD, List.getElem?_append_right (Nat.le_refl _), Nat.sub_self]; rfl
        · rw [gi_idx (by omega), gi_oth hr.2.2, hi i (by omega), List.getD_eq_getElem?_getD, List.getD_eq_getElem?_getD, List.getElem?_append_left (by omega)]
      · rcases List.mem_append.mp hz' with z' | z'
        · exact a7 z z'
        · rw [List.mem_singleton.mp z']; exact hy
    refine ⟨b, mb, a1, ?_⟩
    rw [a2]
    by_cases hf : vs.length = mb
    · rw [if_pos (show nI vs.length = Int32.ofNat mb by rw [hf]; rfl)]
      rw [show (2 : Int32) * nI vs.length = nI (2 * vs.length) from nn_mul 2 vs.length, nI_clamp (show 2 * vs.length < 2 ^ 31 by omega), show ((0 : Int32)).toNatClampNeg = 0 from rfl]
      have e3 : gi (zn M (2 * vs.length)) x 5 = nI vs.length := by rw [gi_zn, if_neg (by omega)]; exact a2
      have e4 : ∀ b i i' n', gi (cpi (zn M (2 * vs.length)) b i (zsz M) i' n') x 5 = nI vs.length := fun b i i' n' => by
        show (if x = zsz M then _ else gi (zn M (2 * vs.length)) x 5) = _
        rw [if_neg (by omega)]; exact e3
      rw [e3, nI_clamp (show vs.length < 2 ^ 31 by omega)]
      refine ⟨⟨nI_nlt (b := 0) (Nat.zero_le _) (by omega), by omega⟩, b, mb, ?_, by omega, by omega, ⟨⟨by decide, by decide, nI_nlt (b := 0) (Nat.zero_le _) (by omega)⟩, by omega, by omega⟩, by omega, zsz M, 2 * vs.length, ?_, by omega, ?_, ?_⟩
      · rw [gr_zn, if_neg (by omega)]; exact a1
      · rw [gr_sr, if_pos rfl, if_pos rfl]
      · rw [e4]; exact nI_in (by omega) (by omega)
      rw [e4, nI_l1, nI_clamp (by omega)]
      have hM1 : ∀ z, z ≠ zsz M → ∀ i, gi (cpi (zn M (2 * vs.length)) b 0 (zsz M) 0 vs.length) z i = gi (zn M (2 * vs.length)) z i := fun z hz i => by
        show (if z = zsz M then _ else _) = _
        rw [if_neg hz]
      have hM2 : ∀ i, i < vs.length → gi (cpi (zn M (2 * vs.length)) b 0 (zsz M) 0 vs.length) (zsz M) i = nI (vs.getD i 0) := fun i hi => by
        show (if zsz M = zsz M then va_cpy _ _ 0 0 vs.length i else _) = _
        rw [if_pos rfl]
        unfold va_cpy
        rw [if_pos (by omega), show 0 + (i - 0) = i by omega, gi_zn, if_neg (by omega)]
        exact a6 i hi
      have fC : fg (vP x b) M (cpi (zn M (2 * vs.length)) b 0 (zsz M) 0 vs.length) := (fg.zn (n := 2 * vs.length)).tr2 ⟨⟨Nat.le_refl _, Nat.le_refl _⟩, fun z i _ q => ⟨hM1 z (fun z' => q (.inr (Nat.le_of_eq z'.symm))) i, rfl, rfl⟩⟩
      have sC : zsz (cpi (zn M (2 * vs.length)) b 0 (zsz M) 0 vs.length) = zsz M + 1 := rfl
      have uC : zsu (cpi (zn M (2 * vs.length)) b 0 (zsz M) 0 vs.length) = zsu M + 2 * vs.length := rfl
      generalize cpi (zn M (2 * vs.length)) b 0 (zsz M) 0 vs.length = M1 at *
      have eq : gr (sr M1 x 4 (some (zsz M, 100, 2 * vs.length))) x 4 = some (zsz M, 100, 2 * vs.length) := by rw [gr_sr, if_pos rfl, if_pos rfl]
      refine hQ _ (zsz M) (2 * vs.length) (fin _ (zsz M) (2 * vs.length) eq (by show zsz M ≤ zsz M1; omega) ⟨by omega, by show zsz M < zsz M1; omega, by omega⟩ ⟨by omega, by omega, by omega⟩ (fun i hi => hM2 i hi)) (((fC.tr2 (fr.sr (.inl (.inl ⟨rfl, .inl rfl⟩))).fg).tr2 (fr.si (.inl (.inl ⟨rfl, .inr rfl⟩))).fg).tr2 (fr.si (.inr (Nat.le_refl _))).fg) (.inr (Nat.le_refl _)) ⟨?_, ?_, .inr rfl⟩
      · show zsz M1 ≤ _; omega
      · show zsu M1 + _ = _; omega
    · rw [if_neg (show ¬ nI vs.length = Int32.ofNat mb from fun z => hf (nI_inj (by omega) (by omega) z)), nI_l1, nI_clamp (by omega)]
      refine ⟨by omega, by omega, nI_in (by omega) (by omega), ?_⟩
      have f1 : fg (vP x b) M (si (si M x 5 (nI (vs.length + 1))) b vs.length (nI y)) := ((fr.si (.inl ⟨rfl, .inr rfl⟩)).tr (fr.si (.inr rfl))).fg
      exact hQ _ b mb (fin M b mb a1 (Nat.le_refl _) a4 ⟨by omega, a3.2⟩ a6) f1 (.inl rfl) ⟨Nat.le_succ _, rfl, .inl rfl⟩
end
