/-! THE CODE OF A WHOLE SCRIPT: finallys within one another, functions one after the other -/
theorem all_mx {s' : pS} (hn : nwF 0 s') : ∀ k, k ≤ s'.2.2.length → (gAll s'.2.2 k).lev = 0 ∧ ∃ r, (gAll s'.2.2 k).mx ≤ r ∧ r * r ≤ (gAll s'.2.2 k).c.length := by
  intro k
  induction k with
  | zero => exact fun _ => ⟨rfl, 0, Nat.le_refl _, Nat.le_refl _⟩
  | succ k ih =>
    intro hk
    obtain ⟨h1, r, h2, h3⟩ := ih (by omega)
    have hq : s'.2.2[k]? = some (s'.2.2[k]'(by omega)) := List.getElem?_eq_getElem (by omega)
    generalize s'.2.2[k]'(by omega) = q at hq
    have e : gAll s'.2.2 (k + 1) = gFn (envN s'.2.2 k) (if k = 0 then q.1 else []) q.2.2.2.2.1 q.2.2.2.2.2 (gAll s'.2.2 k) := by
      show gOne s'.2.2 k (gAll s'.2.2 k) = _
      unfold gOne
      rw [hq]
    obtain ⟨r', h⟩ := rP_fn (e := envN s'.2.2 k) (gl := if k = 0 then q.1 else []) (dc := q.2.2.2.2.1) (hn k q (Nat.zero_le _) hq).1
    obtain ⟨a1, a2, a3, a4⟩ := h (gAll s'.2.2 k)
    rw [← e] at a1 a2 a3 a4
    refine ⟨a1.trans h1, max r r', by omega, ?_⟩
    by_cases z : r ≤ r'
    · rw [Nat.max_eq_right z]; omega
    · rw [Nat.max_eq_left (by omega)]; omega
theorem all_31 {s' : pS} (hn : nwF 0 s') {k : Nat} (hk : k ≤ s'.2.2.length) (h : 31 ≤ (gAll s'.2.2 k).mx) : 961 ≤ (gAll s'.2.2 k).c.length := by
  obtain ⟨-, r, h2, h3⟩ := all_mx hn k hk
  have : 31 * 31 ≤ r * r := Nat.mul_le_mul (by omega) (by omega)
  omega
