/-! THE COMPONENT's CODER: a jump more in a list -/
theorem add_ow {M M' : zM} {ρ : Nat → Nat} {A : List Nat} {i a j lab : Nat} {ks : List Nat} (ho : xOw M ρ A) (ha : A[i]? = some a) (hj : gr M a 1 = some (j, 18, 0) ∧ lab = 5 * i + 4 ∨ gr M a 2 = some (j, 18, 0) ∧ lab = 5 * i + 5) (hx : xJp M' j ks) (f : fg (jP M j) M M') (hk : jR M' j = jR M j ∨ zsz M ≤ jR M' j) (hz : 190 ≤ zsz M) :
    ∃ ρ' : Nat → Nat, (∀ x, x < zsz M → ρ' x = ρ x) ∧ xOw M' ρ' A ∧ (∀ x, x < zsz M → ¬ (5 * i + 2 ≤ ρ x ∧ ρ x ≤ 5 * i + 5) → ∀ k, gi M' x k = gi M x k ∧ gl M' x k = gl M x k ∧ gr M' x k = gr M x k) ∧ lA M' 37 = lA M 37 ∧ lC M' 37 = lC M 37 ∧ psL M' A + psJ M j ≤ psL M A + psJ M' j := by
  obtain ⟨o1, o2, ⟨o3, o3'⟩, o4⟩ := id ho
  obtain ⟨j1, j2, q1, q2, ⟨r1, r2, r3, r4, r5⟩, g0, g1, g2, y1, y2⟩ := o4 i a ha
  have ej : j = j1 ∧ lab = 5 * i + 4 ∨ j = j2 ∧ lab = 5 * i + 5 := by
    rcases hj with ⟨h1, h2⟩ | ⟨h1, h2⟩
    · rw [g1] at h1; cases h1; exact .inl ⟨rfl, h2⟩
    · rw [g2] at h1; cases h1; exact .inr ⟨rfl, h2⟩
  have rj : (ρ j = 5 * i + 2 ∨ ρ j = 5 * i + 3) ∧ ρ (jR M j) = lab ∧ (5 * i + 4 ≤ lab ∧ lab ≤ 5 * i + 5) ∧ jR M j < zsz M := by
    rcases ej with ⟨h1, h2⟩ | ⟨h1, h2⟩
    · rw [h1, h2]; exact ⟨.inl r2, r4, by omega, y1.2.2.1.2.1⟩
    · rw [h1, h2]; exact ⟨.inr r3, r5, by omega, y2.2.2.1.2.1⟩
  have same : ∀ x, x < zsz M → ¬ (5 * i + 2 ≤ ρ x ∧ ρ x ≤ 5 * i + 5) → ∀ k, gi M' x k = gi M x k ∧ gl M' x k = gl M x k ∧ gr M' x k = gr M x k := fun x hx hn k => f.2 x k hx (fun z => by
    unfold jP at z
    rcases z with z | z
    · rw [z] at hn; omega
    · rw [z] at hn; omega)
  have ρ37 : ρ 37 = 0 := Nat.eq_zero_of_not_pos fun z => by have := o1 37 (by omega); omega
  have l37 : gr M' 37 1 = gr M 37 1 := (same 37 (by omega) (by omega) 1).2.2
  have lA' : lA M' 37 = lA M 37 := by unfold lA; rw [l37]
  have lC' : lC M' 37 = lC M 37 := by unfold lC; rw [l37]
  have lAb : lA M 37 < zsz M := by
    obtain ⟨-, -, -, -, h⟩ := o2
    rcases h with ⟨e, -⟩ | ⟨b, m, e, hb, -⟩
    · unfold lA; rw [e]; show 1 < zsz M; omega
    · unfold lA; rw [e]; exact hb.2.1
  obtain ⟨ρ', hρ'⟩ : ∃ ρ' : Nat → Nat, ∀ c, ρ' c = if zsz M ≤ c ∧ c = jR M' j then lab else ρ c := ⟨_, fun _ => rfl⟩
  have rold : ∀ c, c < zsz M → ρ' c = ρ c := fun c hc => by rw [hρ', if_neg (by omega)]
  have rnew : ρ' (jR M' j) = lab := by
    rcases hk with z | z
    · rw [z, rold _ rj.2.2.2]; exact rj.2.1
    · rw [hρ', if_pos ⟨z, rfl⟩]
  have zz := f.1.1
  -- a list that is not j
  have other : ∀ x ks', xJp M x ks' → x ≠ j → jR M x ≠ jR M j → jR M x ≠ j → x ≠ jR M j → xJp M' x ks' ∧ jR M' x = jR M x := fun x ks' h h1 h2 h3 h4 => by
    have n0 : ∀ k, ¬ jP M j x k := fun k z => by unfold jP at z; omega
    exact ⟨xJp_fg h f (n0 0) (n0 1) (fun k z => by unfold jP at z; omega), (jR_fg h.2.1.2 f (n0 0)).1⟩
  have pne : ∀ x y : Nat, ρ x ≠ ρ y → x ≠ y := fun x y h z => h (by rw [z])
  have owi : ∀ (i' a' : Nat), A[i']? = some a' → oA M' ρ' i' a' := fun i' a' ha' => by
    by_cases hi : i' = i
    · subst hi
      have : a' = a := by rw [ha] at ha'; exact (Option.some.inj ha').symm
      subst this
      have ba := o1 a' (by omega)
      have c0 := (same a' ba.2 (by omega) 0).1.trans g0
      have c1 := (same a' ba.2 (by omega) 1).2.2.trans g1
      have c2 := (same a' ba.2 (by omega) 2).2.2.trans g2
      rcases ej with ⟨h1, h2⟩ | ⟨h1, h2⟩
      · subst h1
        obtain ⟨w1, w2⟩ := other j2 q2 y2 (pne _ _ (by omega)) (pne _ _ (by omega)) (pne _ _ (by omega)) (pne _ _ (by omega))
        exact ⟨j, j2, ks, q2, ⟨by rw [rold _ ba.2]; exact r1, by rw [rold _ y1.2.1.2]; exact r2, by rw [rold _ y2.2.1.2]; exact r3, by rw [rnew]; exact h2, by rw [w2, rold _ y2.2.2.1.2.1]; exact r5⟩, c0, c1, c2, hx, w1⟩
      · subst h1
        obtain ⟨w1, w2⟩ := other j1 q1 y1 (pne _ _ (by omega)) (pne _ _ (by omega)) (pne _ _ (by omega)) (pne _ _ (by omega))
        exact ⟨j1, j, q1, ks, ⟨by rw [rold _ ba.2]; exact r1, by rw [rold _ y1.2.1.2]; exact r2, by rw [rold _ y2.2.1.2]; exact r3, by rw [w2, rold _ y1.2.2.1.2.1]; exact r4, by rw [rnew]; exact h2⟩, c0, c1, c2, w1, hx⟩
    · obtain ⟨i1, i2, m1, m2, ⟨s1, s2, s3, s4, s5⟩, h0, h1, h2, z1, z2⟩ := o4 i' a' ha'
      have ba := o1 a' (by omega)
      obtain ⟨w1, w2⟩ := other i1 m1 z1 (pne _ _ (by omega)) (pne _ _ (by omega)) (pne _ _ (by omega)) (pne _ _ (by omega))
      obtain ⟨w3, w4⟩ := other i2 m2 z2 (pne _ _ (by omega)) (pne _ _ (by omega)) (pne _ _ (by omega)) (pne _ _ (by omega))
      exact ⟨i1, i2, m1, m2, ⟨by rw [rold _ ba.2]; exact s1, by rw [rold _ z1.2.1.2]; exact s2, by rw [rold _ z2.2.1.2]; exact s3, by rw [w2, rold _ z1.2.2.1.2.1]; exact s4, by rw [w4, rold _ z2.2.2.1.2.1]; exact s5⟩, (same a' ba.2 (by omega) 0).1.trans h0, (same a' ba.2 (by omega) 1).2.2.trans h1, (same a' ba.2 (by omega) 2).2.2.trans h2, w1, w3⟩
  refine ⟨ρ', rold, ⟨fun c hc => ?_, xLs_fg o2 f (fun k z => ?_) (fun k => ?_), ⟨by rw [lA', rold _ lAb]; exact o3, by rw [lA']; exact o3'⟩, owi⟩, same, lA', lC', ?_⟩
  · by_cases h1 : zsz M ≤ c ∧ c = jR M' j
    · rw [h1.2]; exact ⟨hx.2.2.1.1, hx.2.2.1.2.1⟩
    · rw [hρ', if_neg h1] at hc
      have := o1 c hc
      omega
  · unfold jP at z
    rcases z with z | z
    · rw [z] at ρ37; omega
    · rw [z] at ρ37; omega
  · by_cases z : lA M 37 < 16
    · exact .inl z
    · refine .inr (fun q => ?_)
      unfold jP at q
      rcases q with q | q
      · rw [q] at o3; omega
      · rw [q] at o3; omega
  · -- the sum changes at a alone
    have ps : ∀ (i' x : Nat), A[i']? = some x → i' ≠ i → psA M' x = psA M x := fun i' x hx' hi => by
      obtain ⟨i1, i2, m1, m2, ⟨s1, s2, s3, s4, s5⟩, h0, h1, h2, z1, z2⟩ := o4 i' x hx'
      have ba := o1 x (by omega)
      have b1 := o1 i1 (by omega)
      have b2 := o1 i2 (by omega)
      rw [psA_val h1 h2, psA_val ((same x ba.2 (by omega) 1).2.2.trans h1) ((same x ba.2 (by omega) 2).2.2.trans h2), psJ_same (same i1 b1.2 (by omega) 1).1 (same i1 b1.2 (by omega) 0).2.2, psJ_same (same i2 b2.2 (by omega) 1).1 (same i2 b2.2 (by omega) 0).2.2]
    have pa : psA M' a + psJ M j = psA M a + psJ M' j := by
      have ba := o1 a (by omega)
      rw [psA_val g1 g2, psA_val ((same a ba.2 (by omega) 1).2.2.trans g1) ((same a ba.2 (by omega) 2).2.2.trans g2)]
      have un : ∀ x, (x = j1 ∨ x = j2) → x ≠ j → psJ M' x = psJ M x := fun x h1 h2 => by
        have hx0 : x < zsz M := by rcases h1 with z | z <;> rw [z]; exact y1.2.1.2; exact y2.2.1.2
        have n0 : ∀ k, ¬ jP M j x k := fun k z => by
          unfold jP at z
          rcases z with z | z
          · exact h2 z
          · have : ρ x = lab := by rw [z]; exact rj.2.1
            rcases h1 with y | y <;> rw [y] at this <;> omega
        exact psJ_same (f.2 x 1 hx0 (n0 1)).1 (f.2 x 0 hx0 (n0 0)).2.2
      rcases ej with ⟨h1, h2⟩ | ⟨h1, h2⟩
      · rw [un j2 (.inr rfl) (pne _ _ (by rw [h1]; omega)), h1]; omega
      · rw [un j1 (.inl rfl) (pne _ _ (by rw [h1]; omega)), h1]; omega
    have hi := List.getElem?_eq_some_iff.mp ha
    have key : ∀ (B : List Nat) (n : Nat), B[n]? = some a → (∀ (i' x : Nat), B[i']? = some x → i' ≠ n → psA M' x = psA M x) → psL M' B + psJ M j ≤ psL M B + psJ M' j := by
      intro B
      induction B with
      | nil => intro n hn; cases hn
      | cons b B ih =>
        intro n hn hB
        have e1 : psL M' (b :: B) = psA M' b + psL M' B := by unfold psL; rw [List.map_cons, List.sum_cons]
        have e2 : psL M (b :: B) = psA M b + psL M B := by unfold psL; rw [List.map_cons, List.sum_cons]
        cases n with
        | zero =>
          have eb : b = a := Option.some.inj hn
          have := psL_le (M := M) (M' := M') B (fun x hx' => by
            obtain ⟨t, ht⟩ := List.getElem?_of_mem hx'
            exact Nat.le_of_eq (hB (t + 1) x ht (by omega)))
          rw [e1, e2, eb]
          omega
        | succ n =>
          have h0 := hB 0 b rfl (by omega)
          have := ih n hn (fun i' x hx' hne => hB (i' + 1) x hx' (by omega))
          rw [e1, e2, h0]
          omega
    exact key A i ha ps
/-- the room of one jump more -/
theorem add_ps {M M' : zM} {j k : Nat} {ks : List Nat} (h : xJp M j ks) (h' : xJp M' j (ks ++ [k])) (hk : zsu M' + 2 * jC M j = zsu M + 2 * jC M' j) (hc : jC M' j = jC M j ∨ jC M' j = 2 * ks.length) (hl : ks.length ≤ 30000000) : zsu M' + 2 * psJ M' j ≤ zsu M + 2 * psJ M j + 4 := by
  have e1 : psJ M j = 2 * ks.length - jC M j := by unfold psJ; rw [h.2.2.2.1, nI_clamp (by omega)]
  have e2 : psJ M' j = 2 * (ks.length + 1) - jC M' j := by unfold psJ; rw [h'.2.2.2.1, List.length_append, nI_clamp (show ks.length + [k].length < 2 ^ 31 by simp; omega)]; rfl
  have h3 := h.2.2.2.2.1
  have h4 := h'.2.2.2.2.1
  rw [List.length_append] at h4
  have h4 : ks.length + 1 ≤ jC M' j := h4.1
  rw [e1, e2]
  omega
