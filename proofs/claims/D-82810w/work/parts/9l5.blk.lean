/-! THE COMPONENT's CODER: blocks -/
/-- statements with their two sizes -/
abbrev gBs : Type := List ((Nat × Nat × Nat × Nat) × gSt)
def sO : gBs → Nat
  | [] => 0
  | q :: r => q.1.1 + sO r
def sN : gBs → Nat
  | [] => 0
  | q :: r => q.1.2.1 + sN r
def sH : gBs → Nat
  | [] => 0
  | q :: r => q.1.2.2.1 + sH r
def sK : gBs → Nat
  | [] => 0
  | q :: r => q.1.2.2.2 + sK r
def gBl (gs : gBs) : gSt := fun e Γ st => gs.foldl (fun s q => q.2 e Γ s) st
/-- a list of statements' nodes -/
def xNl (S B : Nat → Prop) (M : zM) (c : Nat × Nat) (C : Nat → Prop) (D l : Nat) (gs : gBs) : Prop :=
  ∃ es, xLr S M l es ∧ es.length = gs.length ∧ ∀ i q, gs[i]? = some q → (q.1.1 ≤ q.1.2.1 ∧ q.1.2.2.1 ≤ q.1.2.2.2) ∧ ∃ p, es.getD i none = some p ∧ xNd S B M c C D q.1.1 q.1.2.1 q.1.2.2.1 q.1.2.2.2 p q.2
theorem sON {S B : Nat → Prop} {M : zM} {c : Nat × Nat} {C : Nat → Prop} {D l : Nat} {gs : gBs} (h : xNl S B M c C D l gs) : ∀ (r pre : gBs), gs = pre ++ r → sO r ≤ sN r ∧ sH r ≤ sK r
  | [], _, _ => ⟨Nat.le_refl _, Nat.le_refl _⟩
  | q :: r, pre, hr => by
    have h1 := sON h r (pre ++ [q]) (by rw [hr]; simp)
    obtain ⟨es, -, -, h3⟩ := h
    have h2 := (h3 _ q (at_app hr)).1
    show q.1.1 + sO r ≤ q.1.2.1 + sN r ∧ q.1.2.2.1 + sH r ≤ q.1.2.2.2 + sK r
    omega
section
variable {S B : Nat → Prop} {M : zM} {c : Nat × Nat} {C : Nat → Prop} {D : Nat}
theorem y_ndL {E : zE} {d : Nat} {Q : zO → zM → Prop} {M1 : zM} {e : gN} {Γ : gK} {l bs : List Nat} {ps : List (Option zP)} {ρ : Nat → Nat} {A : List Nat} {u m T : Nat} {st : gS} {D o N h' K fc : Nat} {CC : Nat → Prop} {p : zP} {f : gS → gS} (hp : Wk S B M e fc CC D o N h' K p f Γ ps) (ha : agS S M M1) (hB : agB B M M1) (hF : gr M1 29 12 = some (fc, 10, 0)) (hs : sep S B M1 ρ) (h : xSt M1 e Γ l bs ps ρ A u m st) (hd : D + 350 ≤ d) (hu : u + D ≤ 60000) (hsk : (skk Γ).length + D ≤ 2000) (hm : m + o < 10000000) (hN : N < 9000000) (hT : T ≤ m)
    (hQ : ∀ M' ρ' A' m' T', xSt M' e Γ l bs ps ρ' A' u m' (f st) → sep S B M' ρ' → stF B CC M1 M' ρ ρ' → szs m T o N h' K m' T' → rm CC u l M1 ρ A T M' ρ' A' T' (u + D) → Q (.inl none) M') : ∃ b t, some p = some (b, t, 0) ∧ ((20 ≤ t ∧ t < 45) ∧ ∃ Y, vt_code t = some Y ∧ Z E Y d M1 (zargs 0 [vr (some (b, t, 0)), C29]) 0 [] Q) := by
  obtain ⟨h2, h3, Y, h4, h5⟩ := hp
  obtain ⟨b, t, n⟩ := p
  have h2 : n = 0 := h2
  subst h2
  exact ⟨b, t, rfl, h3, Y, h4, h5 E d Q M1 l bs ρ A u m T st ha hB hF hs h hd hu hsk hm hN hT hQ⟩
theorem agB.tr {M' M'' : zM} (h : agB B M M') (h' : agB B M' M'') : agB B M M'' := fun a k ha hk => ⟨(h' a k ha hk).1.trans (h a k ha hk).1, (h' a k ha hk).2.trans (h a k ha hk).2⟩
theorem xs_Block {b lst : Nat} {gs : gBs} (hb : S b) (e0 : gr M b 0 = some (lst, 11, 0)) (hl : xNl S B M c C D lst gs) : xNd S B M c C (D + 1) (sO gs) (sN gs) (sH gs) (sK gs) (b, 20, 0) (gBl gs) := by
  intro e fc Γ ps Dk Nk Kk Ck CC hf hG hCC hk hcx
  refine ⟨rfl, (show 20 ≤ 20 ∧ 20 < 45 by decide), _, rfl, fun E d Q M1 l bs ρ A u m T st ha hB hF hs h hd hu hsk hm hN hT hQ => ?_⟩
  obtain ⟨d, rfl⟩ : ∃ d', d = d' + 4 := ⟨d - 4, by omega⟩
  have hlt : gs.length < 100000 := by obtain ⟨es, h1, h2, -⟩ := id hl; rw [← h2]; exact h1.2.2.1
  have num : ∀ M1 : zM, agS S M M1 → gi M1 lst 2 = nI gs.length := fun M1 ha => by obtain ⟨es, h1, h2, -⟩ := id hl; rw [← h2]; exact (xLr_ag h1 ha).2.1
  have loop : ∀ (r pre : gBs) (M1 : zM) (ρ : Nat → Nat) (A : List Nat) (m T : Nat) (s : gS), gs = pre ++ r → agS S M M1 → agB B M M1 → gr M1 29 12 = some (fc, 10, 0) → sep S B M1 ρ → xSt M1 e Γ l bs ps ρ A u m s → m + sO r < 10000000 → Nk + sN r < 9000000 → T ≤ m → (∀ M' ρ' A' m' T', xSt M' e Γ l bs ps ρ' A' u m' (gBl r e Γ s) → sep S B M' ρ' → stF B CC M1 M' ρ ρ' → szs m T (sO r) (Nk + sN r) (sH r) (Kk + sK r) m' T' → rm CC u l M1 ρ A T M' ρ' A' T' (u + (D + Dk)) → Q (.inl none) M') → Z E YX14_code (d + 3 + 1) M1 [(0, vr (some (b, 20, 0))), (1, C29), (2, vi (nI pre.length))] 2 [] Q := by
    intro r
    induction r with
    | nil =>
      intro pre M1 ρ A m T s hr ha hB hF hs h hm hN hT hQ
      refine iX14_code_2 M1 b _ _ ⟨lst, (ha b 0 hb).2.trans e0, ?_⟩
      rw [num M1 ha, if_pos (nI_le (by rw [hr, List.append_nil]; exact Nat.le_refl _) (by rw [hr, List.append_nil] at hlt; omega))]
      exact hQ M1 ρ A m T h hs stF.rf (by unfold szs; omega) rm.rf
    | cons q r ih =>
      intro pre M1 ρ A m T s hr ha hB hF hs h hm hN hT hQ
      have hat := at_app hr
      have hpl := (List.getElem?_eq_some_iff.mp hat).1
      have on := sON hl r (pre ++ [q]) (by rw [hr]; simp)
      obtain ⟨es, h1, h2, h3⟩ := id hl
      obtain ⟨hon, p, h4, h5⟩ := h3 _ q hat
      have hm' : m + (q.1.1 + sO r) < 10000000 := hm
      have hN' : Nk + (q.1.2.1 + sN r) < 9000000 := hN
      refine iX14_code_2 M1 b _ _ ⟨lst, (ha b 0 hb).2.trans e0, ?_⟩
      rw [num M1 ha, if_neg (nI_ge hpl (by omega))]
      refine l_getR (d := d) (xLr_ag h1 ha) (by omega) ?_
      rw [h4]
      show Z E YX14_code (d + 3 + 1) M1 [(0, vr (some (b, 20, 0))), (1, C29), (2, vi (nI pre.length))] 21 [vr (some p)] Q
      refine sX14_code_21 M1 b _ _ _ ?_
      refine y_ndL (h5 e fc Γ ps Dk Nk Kk Ck CC hf hG hCC hk hcx) ha hB hF hs h (by omega) (by omega) (by omega) (by omega) (by omega) hT (fun M2 ρ2 A2 m2 T2 g1 g2 g3 g4 g7 => ?_)
      show Z E YX14_code (d + 3 + 1) M2 [(0, vr (some (b, 20, 0))), (1, C29), (2, vi (nI pre.length))] 28 [] Q
      refine sX14_code_28 M2 b _ _ ?_
      have := ih (pre ++ [q]) M2 ρ2 A2 m2 T2 (q.2 e Γ s) (by rw [hr]; simp) (ha.tr (g3.agS hs)) (hB.tr (g3.agB hs)) (g3.f12.trans hF) g2 g1 (by unfold szs at g4; omega) (by omega) g4.2.2.1 (fun M3 ρ3 A3 m3 T3 k1 k2 k3 k4 k7 => hQ M3 ρ3 A3 m3 T3 k1 k2 (g3.tr k3) (by
        show szs m T (q.1.1 + sO r) (Nk + (q.1.2.1 + sN r)) (q.1.2.2.1 + sH r) (Kk + (q.1.2.2.2 + sK r)) m3 T3
        unfold szs at *; omega) (g7.tr k7 h.lz (Nat.le_refl _) (Nat.le_refl _)))
      rw [List.length_append] at this
      rw [nI_l1]
      exact this
  refine sX14_code_0 M1 b _ ?_
  exact loop gs [] M1 ρ A m T st rfl ha hB hF hs h hm hN hT (fun M' ρ' A' m' T' g1 g2 g3 g4 g7 => hQ M' ρ' A' m' T' g1 g2 g3 g4 (g7.mono (by omega)))
end
