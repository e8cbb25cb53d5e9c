/-! THE COMPONENT's PARSER: all levels -/
section
variable {E : zE} {pp a lf n : Nat} {c : Nat → Int32} {K : Nat}
/-- what is one deeper than level k -/
def roK (z : pZ) (K : Nat) : Nat → Option pT
  | 0 => none
  | k + 1 => some (pLv z K k)
theorem pLv_mk (z : pZ) (K : Nat) : ∀ k, pLv z K k = pMk z K (roK z K k)
  | 0 => rfl
  | _ + 1 => rfl
/-- level k at o = 20 - k -/
def cAll (E : zE) (pp a lf n : Nat) (c : Nat → Int32) (K k o : Nat) : Prop := cLv E pp a lf n c k o (pLv (zOf n c mdi) K k) ∧ cSm E pp a lf n c YX9_statement [] (20 * k + 38) o (pStm (zOf n c mdi) K (roK (zOf n c mdi) K k)) ∧ cFi E pp a lf n c mdi K (20 * k + 42) o (roK (zOf n c mdi) K k) ∧ cFw E pp a lf n c (20 * k + 49) o ((pLv (zOf n c mdi) K k).func false)
theorem y_all (hK : 1300 ≤ K) : ∀ (k o : Nat), o + k = 20 → cAll E pp a lf n c K k o := by
  intro k
  induction k with
  | zero =>
    intro o ho
    have h1 : cLv E pp a lf n c 0 o (pLv (zOf n c mdi) K 0) := y_lev (.inl ⟨rfl, by omega⟩) (fun r e => by cases e) hK
    have h2 : cSm E pp a lf n c YX9_statement [] (20 * 0 + 38) o (pStm (zOf n c mdi) K (roK (zOf n c mdi) K 0)) := y_stm (dS := 0) (dE := 0) (DE := 4) (.inl ⟨rfl, by omega⟩) hK (by omega) (by omega)
    have h3 : cFi E pp a lf n c mdi K (20 * 0 + 42) o (roK (zOf n c mdi) K 0) := y_ins (dI := 0) h2 (fun r e => by cases e) (.inl ⟨rfl, by omega⟩) hK (by omega)
    exact ⟨h1, h2, h3, y_cfw h3 (by omega)⟩
  | succ k ih =>
    intro o ho
    obtain ⟨i1, i2, i3, i4⟩ := ih (o + 1) (by omega)
    have ok := ok_lv (zOf n c mdi) K k
    have hok : okO (roK (zOf n c mdi) K (k + 1)) := fun r e => by cases e; exact ok
    have h1 : cLv E pp a lf n c (k + 1) o (pLv (zOf n c mdi) K (k + 1)) := y_lev (.inr ⟨_, rfl, by omega, ok, k, rfl, i1, i4⟩) (fun r e C s => by
      cases e
      rw [pLv_mk]
      exact ⟨k_made s, k_prim s⟩) hK
    have st : (pLv (zOf n c mdi) K k).stmt = pStm (zOf n c mdi) K (roK (zOf n c mdi) K k) := by rw [pLv_mk]; rfl
    have h2 : cSm E pp a lf n c YX9_statement [] (20 * (k + 1) + 38) o (pStm (zOf n c mdi) K (roK (zOf n c mdi) K (k + 1))) := y_stm (dS := 20 * k + 38) (dE := 20 * k + 49) (DE := 17 * k + 24) (.inr ⟨_, rfl, by omega, ok, ok, (by rw [st]; exact i2), i1.2.2.2.1, fun i => (i1.2.2.2.2 i).up (by omega) (by omega), by omega⟩) hK (by omega) (by omega)
    have h3 : cFi E pp a lf n c mdi K (20 * (k + 1) + 42) o (roK (zOf n c mdi) K (k + 1)) := y_ins (dI := 20 * k + 42) h2 hok (.inr ⟨_, rfl, by omega, ok, roK (zOf n c mdi) K k, fun b C s => (by rw [pLv_mk]; rfl), i3⟩) hK (by omega)
    exact ⟨h1, h2, h3, y_cfw h3 (by omega)⟩
end
