/-! TYPES OF CODE: what is around; break, continue, return -/
def mkd (P : Nat → Prop) (μ : Nat → tyP) (b m : Nat) (T : tyP) : Prop := m < b ∧ P m ∧ μ m = T
/-- what a finally codes -/
def tyF (θ : tH) (P : Nat → Prop) (μ : Nat → tyP) (b g : Nat) (Γ : gK) (φ : List Bool → gS → gS) : Prop := ∀ X s μ' (P' : Nat → Prop), (∀ m, m < b → μ' m = μ m) → b ≤ s.m → (∀ m, P m → P' m) → tyS θ μ' P' s (X ++ skk Γ, trs Γ, g) → ∃ μ'', tyR θ P' μ' s (X ++ skk Γ, trs Γ, g) μ'' (φ X s) (X ++ skk Γ, trs Γ, g)
def kok (θ : tH) (P : Nat → Prop) (μ : Nat → tyP) (b g : Nat) : gK → Prop
  | [] => True
  | w :: Γ => kok θ P μ b g Γ ∧ (w.1 = 0 → w.2.1 = [] ∧ mkd P μ b w.2.2.2.1 (skk Γ, trs Γ, g) ∧ mkd P μ b w.2.2.2.2.1 (skk Γ, trs Γ, g)) ∧
    (w.1 = 4 → w.2.1 = [true] ∧ mkd P μ b w.2.2.2.1 (skk Γ, trs Γ, g) ∧ mkd P μ b w.2.2.2.2.1 (true :: skk Γ, trs Γ, g)) ∧ (w.1 = 1 → w.2.1 = [] ∧ mkd P μ b w.2.2.2.1 (skk Γ, trs Γ, g)) ∧
    (w.1 = 2 → w.2.1 = [] ∧ mkd P μ b w.2.2.2.1 (false :: skk Γ, trs Γ, g) ∧ ∀ φ, w.2.2.2.2.2 = some φ → tyF θ P μ b g Γ φ) ∧ w.1 ≤ 4
def lpK (Γ : gK) : Prop := ∃ w ∈ Γ, w.1 = 0 ∨ w.1 = 4
def swK (Γ : gK) : Prop := ∃ w ∈ Γ, w.1 = 0 ∨ w.1 = 4 ∨ w.1 = 1
def tyT (θ : tH) (f l w : Nat) (g : gSt) : Prop := ∀ e Γ s μ P, eok θ f e → kok θ P μ s.m e.1 Γ → (1 ≤ l → lpK Γ) → (1 ≤ l + w → swK Γ) → tyS θ μ P s (skk Γ, trs Γ, e.1) → ∃ μ', tyR θ P μ s (skk Γ, trs Γ, e.1) μ' (g e Γ s) (skk Γ, trs Γ, e.1)
section
variable {θ : tH} {f : Nat} {P P' : Nat → Prop} {μ μ' μ0 : Nat → tyP} {s s' s0 : gS} {F F' F0 : tyP} {e : gN} {B L : List Bool} {g b b' : Nat}
theorem mkd.mv {m : Nat} {T : tyP} (h : mkd P μ b m T) (hm : ∀ m, m < b → μ' m = μ m) (hb : b ≤ b') (hp : ∀ m, P m → P' m) : mkd P' μ' b' m T := ⟨Nat.lt_of_lt_of_le h.1 hb, hp m h.2.1, (hm m h.1).trans h.2.2⟩
theorem kok.mv (hm : ∀ m, m < b → μ' m = μ m) (hb : b ≤ b') (hp : ∀ m, P m → P' m) : ∀ {Γ : gK}, kok θ P μ b g Γ → kok θ P' μ' b' g Γ
  | [], _ => trivial
  | w :: Γ, ⟨h1, h2, h3, h4, h5, h6⟩ => ⟨kok.mv hm hb hp h1, fun z => ⟨(h2 z).1, (h2 z).2.1.mv hm hb hp, (h2 z).2.2.mv hm hb hp⟩, fun z => ⟨(h3 z).1, (h3 z).2.1.mv hm hb hp, (h3 z).2.2.mv hm hb hp⟩, fun z => ⟨(h4 z).1, (h4 z).2.mv hm hb hp⟩, fun z => ⟨(h5 z).1, (h5 z).2.1.mv hm hb hp, fun φ hφ X s μ2 P2 k1 k2 k3 k4 => (h5 z).2.2 φ hφ X s μ2 P2 (fun m hm' => (k1 m (Nat.lt_of_lt_of_le hm' hb)).trans (hm m hm')) (Nat.le_trans hb k2) (fun m z => k3 m (hp m z)) k4⟩, h6⟩
theorem kok.r {Γ : gK} (h : kok θ P μ s.m g Γ) (r : tyR θ P' μ s F μ' s' F') : kok θ P μ' s'.m g Γ := h.mv r.2.2.1 r.2.1 fun _ z => z
theorem kok.cx : ∀ {Γ : gK}, kok θ P μ s.m g Γ → cx P μ s g (skk Γ) (trs Γ)
  | [], _ => ⟨trivial, fun x hx => by cases hx⟩
  | w :: Γ, ⟨h1, h2, h3, h4, h5, h6⟩ => by
    have ih := kok.cx h1
    by_cases z : w.1 = 2
    · obtain ⟨k1, k2, -⟩ := h5 z
      have e1 : skk (w :: Γ) = skk Γ := by show w.2.1 ++ skk Γ = _; rw [k1]; rfl
      have e2 : trs (w :: Γ) = (w.2.2.2.1, (skk Γ).length) :: trs Γ := if_pos z
      rw [e1, e2]
      refine ⟨⟨Nat.le_refl _, k2.1, ?_, ?_⟩, fun x hx => ?_⟩
      · rw [Nat.sub_self]; exact k2.2.2
      · rw [Nat.sub_self]; exact ih.1
      · rcases List.mem_cons.mp hx with y | y
        · rw [y]; exact ⟨k2.1, k2.2.1⟩
        · exact ih.2 x y
    · have e2 : trs (w :: Γ) = trs Γ := if_neg z
      rw [e2]
      exact ⟨ih.1.app _, ih.2⟩
theorem lpK.sw {Γ : gK} (h : lpK Γ) : swK Γ := by
  obtain ⟨w, h1, h2⟩ := h
  exact ⟨w, h1, by omega⟩
theorem ty_Drops {Γ : gK} : ∀ (X : List Bool) {s : gS}, tJ θ P μ0 s0 F0 e Γ B s (X ++ B) → tJ θ P μ0 s0 F0 e Γ B (gDrops e Γ X B s) B
  | [], s, h => h
  | c :: X, s, ⟨μ, h1, h2⟩ => by
    have r := ty_em (F' := (X ++ B, trs Γ, e.1)) (op := 17) (a := 0) (b := 0) (mk := none) h1.1 (.dr (c := c) (L' := X ++ B) rfl rfl) (h2.1.app (c :: X)) (fun _ z => by cases z) h2.pn
    exact ty_Drops X ⟨μ, h1.tr r, h2.mv r⟩
theorem ty_Fi {Γ : gK} {fi : Option (List Bool → gS → gS)} (hf : ∀ φ, fi = some φ → tyF θ P μ b g Γ φ) (X : List Bool) (hm : ∀ m, m < b → μ' m = μ m) (hb : b ≤ s.m) (h : tyS θ μ' P s (X ++ skk Γ, trs Γ, g)) : ∃ μ'', tyR θ P μ' s (X ++ skk Γ, trs Γ, g) μ'' (gFi fi X s) (X ++ skk Γ, trs Γ, g) := by
  cases fi with
  | none => exact ⟨μ', tyR.rf h⟩
  | some φ =>
    obtain ⟨μ2, r⟩ := hf φ rfl X (s.1, s.2.1, s.2.2.1, s.2.2.2.1, s.lev + 1, max s.mx (s.lev + 1)) μ' P hm hb (fun _ z => z) h
    exact ⟨μ2, r⟩
theorem ty_Go (out : Bool) : ∀ (Γ : gK) {s : gS} {μ : Nat → tyP}, kok θ P μ s.m e.1 Γ → (if out then swK Γ else lpK Γ) → tyS θ μ P s (skk Γ, trs Γ, e.1) → ∀ F', ∃ μ', tyR θ P μ s (skk Γ, trs Γ, e.1) μ' (gGo out e Γ s) F'
  | [], s, μ, _, hl, _, F' => by
    exfalso
    cases out with
    | true => obtain ⟨w, h1, -⟩ := hl; cases h1
    | false => obtain ⟨w, h1, -⟩ := hl; cases h1
  | w :: Γ, s, μ, hk, hl, ht, F' => by
    obtain ⟨h1, h2, h3, h4, h5, h6⟩ := id hk
    have ec := hk.cx
    have c1 := h1.cx
    unfold gGo
    have tl : ¬ w.1 = 0 → ¬ w.1 = 4 → (out = true → ¬ w.1 = 1) → (if out then swK Γ else lpK Γ) := fun z0 z4 z1 => by
      cases out with
      | true =>
        obtain ⟨v, k1, k2⟩ := hl
        rcases List.mem_cons.mp k1 with y | y
        · rw [y] at k2; have := z1 rfl; omega
        · exact ⟨v, y, k2⟩
      | false =>
        obtain ⟨v, k1, k2⟩ := hl
        rcases List.mem_cons.mp k1 with y | y
        · rw [y] at k2; omega
        · exact ⟨v, y, k2⟩
    by_cases z0 : w.1 = 0
    · rw [if_pos z0]
      obtain ⟨k1, k2, k3⟩ := h2 z0
      have e1 : skk (w :: Γ) = skk Γ := by show w.2.1 ++ skk Γ = _; rw [k1]; rfl
      have e2 : trs (w :: Γ) = trs Γ := if_neg (by omega)
      rw [e1] at ht ec ⊢
      have km : mkd P μ s.m (if out then w.2.2.2.1 else w.2.2.2.2.1) (skk Γ, trs Γ, e.1) := by split <;> assumption
      exact ⟨μ, ty_em ht (.jm (by rw [e2]; exact km.2.2)) ec.1 (fun m y => by cases y; exact ⟨km.1, fun _ => km.2.1⟩) ec.pn⟩
    rw [if_neg z0]
    by_cases z4 : w.1 = 4
    · rw [if_pos z4]
      obtain ⟨k1, k2, k3⟩ := h3 z4
      have e2 : trs (w :: Γ) = trs Γ := if_neg (by omega)
      by_cases ho : out = true
      · rw [if_pos ho]
        have r1 := ty_em (F' := (skk Γ, trs Γ, e.1)) (op := 17) (a := 0) (b := 0) (mk := none) ht (.dr (c := true) (L' := skk Γ) (by show w.2.1 ++ skk Γ = _; rw [k1]; rfl) (by rw [e2])) ec.1 (fun _ y => by cases y) ec.pn
        have r2 := ty_em (F' := F') (op := 21) (a := 0) (b := 0) (mk := some w.2.2.2.1) r1.1 (.jm k2.2.2) c1.1 (fun m y => by cases y; exact ⟨k2.1, fun _ => k2.2.1⟩) c1.pn
        exact ⟨μ, r1.tr r2⟩
      · rw [if_neg ho]
        exact ⟨μ, ty_em ht (.jm (by rw [e2, show skk (w :: Γ) = true :: skk Γ by show w.2.1 ++ skk Γ = _; rw [k1]; rfl]; exact k3.2.2)) ec.1 (fun m y => by cases y; exact ⟨k3.1, fun _ => k3.2.1⟩) ec.pn⟩
    rw [if_neg z4]
    by_cases z1 : w.1 = 1 ∧ out = true
    · rw [if_pos z1]
      obtain ⟨k1, k2⟩ := h4 z1.1
      have e1 : skk (w :: Γ) = skk Γ := by show w.2.1 ++ skk Γ = _; rw [k1]; rfl
      have e2 : trs (w :: Γ) = trs Γ := if_neg (by omega)
      rw [e1] at ht ec ⊢
      exact ⟨μ, ty_em ht (.jm (by rw [e2]; exact k2.2.2)) ec.1 (fun m y => by cases y; exact ⟨k2.1, fun _ => k2.2.1⟩) ec.pn⟩
    rw [if_neg z1]
    have hl' := tl z0 z4 (fun y y' => z1 ⟨y', y⟩)
    by_cases z3 : w.1 = 3
    · rw [if_pos z3]
      have e2 : trs (w :: Γ) = trs Γ := if_neg (by omega)
      have c2 : cx P μ s e.1 (skk Γ) (trs (w :: Γ)) := by rw [e2]; exact c1
      obtain ⟨μ1, r1, -⟩ := ty_Drops (Γ := w :: Γ) (e := e) (B := skk Γ) w.2.1 ⟨μ, tyR.rf ht, c2⟩
      rw [e2] at r1
      rw [e2]
      obtain ⟨μ2, r2⟩ := ty_Go out Γ (h1.r r1) hl' r1.1 F'
      exact ⟨μ2, r1.tr r2⟩
    rw [if_neg z3]
    by_cases z2 : w.1 = 2
    · rw [if_pos z2]
      obtain ⟨k1, k2, k3⟩ := h5 z2
      have e1 : skk (w :: Γ) = skk Γ := by show w.2.1 ++ skk Γ = _; rw [k1]; rfl
      have e2 : trs (w :: Γ) = (w.2.2.2.1, (skk Γ).length) :: trs Γ := if_pos z2
      rw [e1] at ht ec ⊢
      have r1 := ty_em (F' := (skk Γ, trs Γ, e.1)) (op := 28) (a := 0) (b := 0) (mk := none) ht (.lv e2 rfl) ec.1 (fun _ y => by cases y) ec.pn
      obtain ⟨μ2, r2⟩ := ty_Fi k3 [] r1.2.2.1 r1.2.1 r1.1
      obtain ⟨μ3, r3⟩ := ty_Go out Γ ((h1.r r1).r r2) hl' r2.1 F'
      exact ⟨μ3, (r1.tr r2).tr r3⟩
    · rw [if_neg z2]
      have z : w.1 = 1 := by omega
      have e1 : skk (w :: Γ) = skk Γ := by show w.2.1 ++ skk Γ = _; rw [(h4 z).1]; rfl
      have e2 : trs (w :: Γ) = trs Γ := if_neg (by omega)
      rw [e1, e2] at ht ⊢
      exact ty_Go out Γ h1 hl' ht F'
theorem ty_Ret : ∀ (Γ : gK) (X : List Bool) {s : gS} {μ : Nat → tyP}, kok θ P μ s.m e.1 Γ → (∃ X', X = false :: X') → tyS θ μ P s (X ++ skk Γ, trs Γ, e.1) → ∀ F', ∃ μ', tyR θ P μ s (X ++ skk Γ, trs Γ, e.1) μ' (gRet e Γ X s) F'
  | [], X, s, μ, hk, hX, ht, F' => by
    obtain ⟨X', hX⟩ := hX
    have e0 : X ++ skk [] = X := List.append_nil X
    rw [e0] at ht ⊢
    exact ⟨μ, ty_em (Γ := []) ht (.rt (L' := X') hX) trivial (fun _ y => by cases y) (fun x hx => by cases hx)⟩
  | w :: Γ, X, s, μ, hk, hX, ht, F' => by
    obtain ⟨h1, h2, h3, h4, h5, h6⟩ := id hk
    have ec := hk.cx
    unfold gRet
    by_cases z2 : w.1 = 2
    · rw [if_pos z2]
      obtain ⟨k1, k2, k3⟩ := h5 z2
      have e1 : skk (w :: Γ) = skk Γ := by show w.2.1 ++ skk Γ = _; rw [k1]; rfl
      have e2 : trs (w :: Γ) = (w.2.2.2.1, (skk Γ).length) :: trs Γ := if_pos z2
      rw [e1] at ht ec ⊢
      have r1 := ty_em (F' := (X ++ skk Γ, trs Γ, e.1)) (op := 28) (a := 0) (b := 0) (mk := none) ht (.lv e2 rfl) (ec.1.app X) (fun _ y => by cases y) ec.pn
      obtain ⟨μ2, r2⟩ := ty_Fi k3 X r1.2.2.1 r1.2.1 r1.1
      obtain ⟨μ3, r3⟩ := ty_Ret Γ X ((h1.r r1).r r2) hX r2.1 F'
      exact ⟨μ3, (r1.tr r2).tr r3⟩
    · rw [if_neg z2]
      have e2 : trs (w :: Γ) = trs Γ := if_neg z2
      have e1 : X ++ skk (w :: Γ) = (X ++ w.2.1) ++ skk Γ := by show X ++ (w.2.1 ++ skk Γ) = _; rw [List.append_assoc]
      rw [e1, e2] at ht ⊢
      exact ty_Ret Γ (X ++ w.2.1) h1 (by obtain ⟨X', hX⟩ := hX; exact ⟨X' ++ w.2.1, by rw [hX]; rfl⟩) ht F'
/-- two marks, three marks -/
theorem ty_mk2 (T1 T2 : tyP) (h : tyS θ μ P s F) : ∃ μ', tyR θ P μ s F μ' (mkm (mkm s)) F ∧ μ' s.m = T1 ∧ μ' (s.m + 1) = T2 := by
  have r1 := ty_mkm T1 h
  have r2 := ty_mkm T2 r1.1
  exact ⟨_, r1.tr r2, (if_neg (show ¬ s.m = s.m + 1 by omega)).trans (if_pos rfl), if_pos rfl⟩
theorem ty_mk3 (T1 T2 T3 : tyP) (h : tyS θ μ P s F) : ∃ μ', tyR θ P μ s F μ' (mkm (mkm (mkm s))) F ∧ μ' s.m = T1 ∧ μ' (s.m + 1) = T2 ∧ μ' (s.m + 2) = T3 := by
  obtain ⟨μ1, r1, a1, a2⟩ := ty_mk2 T1 T2 h
  have r2 := ty_mkm T3 r1.1
  exact ⟨_, r1.tr r2, (if_neg (show ¬ s.m = s.m + 1 + 1 by omega)).trans a1, (if_neg (show ¬ s.m + 1 = s.m + 1 + 1 by omega)).trans a2, if_pos rfl⟩
end
