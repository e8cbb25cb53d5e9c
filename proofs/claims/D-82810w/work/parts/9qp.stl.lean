/-! THE COMPONENT's PARSER: lists of statements -/
/-- statements' nodes in a list that is being made -/
def wTs (lo : Nat) (M : zM) (τ : Nat → Nat) (cc : Nat × Nat) (D : Nat) (es : List (Option zP)) (gs : gBs) : Prop := es.length = gs.length ∧ ∀ (i : Nat) (q : (Nat × Nat × Nat × Nat) × gSt), gs[i]? = some q → (q.1.1 ≤ q.1.2.1 ∧ q.1.2.2.1 ≤ q.1.2.2.2) ∧ ∃ p, es.getD i none = some p ∧ sNd (nS lo (zsz M) τ) (nW lo (zsz M) τ) M cc (fun b => lo ≤ b ∧ b < zsz M) D q.1.1 q.1.2.1 q.1.2.2.1 q.1.2.2.2 p q.2
section
variable {M M' : zM} {τ τ' : Nat → Nat} {lo D D' l : Nat} {cc : Nat × Nat} {es : List (Option zP)} {gs : gBs}
theorem wTs.mv (h : wTs lo M τ cc D es gs) (m : mvr τ M τ' M') (hl : 190 ≤ lo) (hD : D ≤ D') : wTs lo M' τ' cc D' es gs := ⟨h.1, fun i q hq => by
  obtain ⟨h0, p, h1, h2⟩ := h.2 i q hq
  have z := m.1.1.1
  exact ⟨h0, p, h1, (h2.mo (fun x z => m.sub (Nat.le_refl _) (Nat.le_refl _) x z) (fun x z => ⟨z.1, by have := z.2.1; omega, by rw [m.2 x z.2.1 (by have := z.2.2; omega)]; exact z.2.2⟩) (m.agS hl (Nat.le_refl _)) (m.agB hl (Nat.le_refl _))).up (fun b y => ⟨y.1, by omega⟩) hD (Nat.le_refl _) (Nat.le_refl _) (Nat.le_refl _) (Nat.le_refl _)⟩⟩
theorem wTs.app {p : zP} {q : (Nat × Nat × Nat × Nat) × gSt} (h : wTs lo M τ cc D es gs) (hq : q.1.1 ≤ q.1.2.1 ∧ q.1.2.2.1 ≤ q.1.2.2.2) (hp : sNd (nS lo (zsz M) τ) (nW lo (zsz M) τ) M cc (fun b => lo ≤ b ∧ b < zsz M) D q.1.1 q.1.2.1 q.1.2.2.1 q.1.2.2.2 p q.2) : wTs lo M τ cc D (es ++ [some p]) (gs ++ [q]) := by
  refine ⟨by rw [List.length_append, List.length_append, h.1]; rfl, fun i q' hi => ?_⟩
  by_cases z : i < gs.length
  · rw [List.getElem?_append_left z] at hi
    obtain ⟨h0, b', h1, h2⟩ := h.2 i q' hi
    refine ⟨h0, b', ?_, h2⟩
    rw [List.getD_eq_getElem?_getD, List.getElem?_append_left (by rw [h.1]; exact z), ← List.getD_eq_getElem?_getD]
    exact h1
  · have hl : i < (gs ++ [q]).length := (List.getElem?_eq_some_iff.mp hi).1
    rw [List.length_append] at hl
    have hl : i < gs.length + 1 := hl
    have e : i = gs.length := by omega
    rw [e, List.getElem?_append_right (Nat.le_refl _), Nat.sub_self] at hi
    cases hi
    refine ⟨hq, p, ?_, hp⟩
    rw [e, List.getD_eq_getElem?_getD, ← h.1, List.getElem?_append_right (Nat.le_refl _), Nat.sub_self]
    rfl
/-- it is done -/
theorem wL.nl (h : wL lo M τ l es) (he : wTs lo M (fin lo τ) cc D es gs) : ndl (nS lo (zsz M) (fin lo τ)) (nW lo (zsz M) (fin lo τ)) M cc (fun b => lo ≤ b ∧ b < zsz M) D l gs := by
  obtain ⟨⟨a0, a1, a2, a3, a4⟩, h2, h3⟩ := h
  have xr : xLr (nS lo (zsz M) (fin lo τ)) M l es := by
    refine ⟨fin_1 h2.1 a0.2 h2.2, a1, a2, ?_⟩
    rcases a4 with ⟨-, e⟩ | ⟨b, m, e1, e2, e3, e4⟩
    · exact .inl e
    · have eb : lA M l = b := by unfold lA; rw [e1]
      have := h3 (by rw [eb]; exact e2.1)
      rw [eb] at this
      exact .inr ⟨b, m, e1, fin_1 this.1 e2.2.1 this.2, ⟨e3.1, by omega⟩, e4⟩
  intro S' B' M' s1 s2 s3 s4 s5
  refine ⟨es, xLr_mono (xLr_ag xr s4) s1, he.1, fun i q hq => ?_⟩
  obtain ⟨h0, p, h1, h2⟩ := he.2 i q hq
  exact ⟨h0, p, h1, h2 S' B' M' s1 s2 s3 s4 s5⟩
theorem gBl_app (gs : gBs) (q : (Nat × Nat × Nat × Nat) × gSt) : gBl (gs ++ [q]) = gSq (gBl gs) q.2 := by
  funext e Γ st
  unfold gBl
  rw [List.foldl_append]
  rfl
theorem sO_app : ∀ (gs : gBs) (q : (Nat × Nat × Nat × Nat) × gSt), sO (gs ++ [q]) = sO gs + q.1.1 ∧ sN (gs ++ [q]) = sN gs + q.1.2.1 ∧ sH (gs ++ [q]) = sH gs + q.1.2.2.1 ∧ sK (gs ++ [q]) = sK gs + q.1.2.2.2
  | [], q => by unfold sO sN sH sK; simp [sO, sN, sH, sK]
  | x :: gs, q => by
    have := sO_app gs q
    show x.1.1 + sO (gs ++ [q]) = x.1.1 + sO gs + q.1.1 ∧ x.1.2.1 + sN (gs ++ [q]) = x.1.2.1 + sN gs + q.1.2.1 ∧ x.1.2.2.1 + sH (gs ++ [q]) = x.1.2.2.1 + sH gs + q.1.2.2.1 ∧ x.1.2.2.2 + sK (gs ++ [q]) = x.1.2.2.2 + sK gs + q.1.2.2.2
    omega
end
