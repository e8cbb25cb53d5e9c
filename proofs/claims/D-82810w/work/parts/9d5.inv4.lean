/-! THE HEAP's INVARIANT: natives -/
section
variable {A A' B : mA} {G : mG} {par : Nat → Nat}
theorem jv_tx {s v : Int32} (j : J G par A) (hv : mval A s v) : jv G par A (m_tx A s v) := by
  unfold m_tx
  cases e : a_text A s v with
  | none => exact jv_2 gro.rf j.1
  | some y =>
    obtain ⟨k, A1⟩ := y
    dsimp only
    obtain ⟨j1, g1, hk⟩ := J_text j hv.1 e
    exact jv_to g1 j1 (mval_6 hk)
theorem jv_erm {f : Nat} {as : List mC} (j : J G par A) (h14 : 14 ≤ f) (h17 : f ≤ 17) (hv : mval A (m_a0 as).1 (m_a0 as).2) : jv G par A (m_erm A f as) := by
  have h23 := j.2.2.2.1.1
  have hob := j.1.1.1.2
  unfold m_erm
  by_cases h : aO A = 300
  · rw [if_pos h]; exact jv_2 gro.rf j.1
  rw [if_neg h]
  obtain ⟨j1, g1⟩ := J_new (pr := nI (f - 9)) (st := 0) (lk := -1) (lb := f + 11) j (by omega) (.inr ⟨f - 9, rfl, by omega⟩) (by omega) (by omega) ⟨by decide, by decide, by decide⟩
  have s1 : gi (aT (a_new A (nI (f - 9)) (f + 11) 0 (-1))) 141 (aO A) = 0 := by rw [a_new_srt _ _ _ _ _ _ _ (by omega), if_pos rfl]; rfl
  have v1 : mval (a_new A (nI (f - 9)) (f + 11) 0 (-1)) 7 (nI (aO A)) := mval_7 (Nat.lt_succ_self _) (by rw [s1]; decide)
  by_cases h0 : as.length = 0
  · rw [if_pos h0]; exact jv_to g1 j1 v1
  rw [if_neg h0]
  have hv1 := g1.val hv
  cases e : a_text (a_new A (nI (f - 9)) (f + 11) 0 (-1)) (m_a0 as).1 (m_a0 as).2 with
  | none => exact jv_2 g1 j1.1
  | some y =>
    obtain ⟨k, A2⟩ := y
    dsimp only
    obtain ⟨j2, g2, hk⟩ := J_text j1 hv1.1 e
    have ho : aO A < aO A2 := Nat.lt_of_lt_of_le (Nat.lt_succ_self _) g2.1
    have s2 : gi (aT A2) 141 (aO A) = 0 := ((g2.2.2 (aO A) (Nat.lt_succ_self _)).1 141 (by omega)).trans s1
    have v2 := g2.val v1
    cases ea : a_set A2 (aO A) 3 6 (nI k) with
    | mk b A3 =>
      cases b with
      | false => dsimp only; rw [gro_setF ea]; exact jv_2 (g1.tr g2) j2.1
      | true =>
        dsimp only
        have ea' : a_set A2 (aO A) (nI 3) 6 (nI k) = (true, A3) := ea
        obtain ⟨j3, g3, -⟩ := J_set j2 ho (by have := j2.1.2.1.1; omega) (mval_6 hk) (.inl (by omega)) ea'
        exact jv_to ((g1.tr g2).tr g3) j3 (g3.val v2)
theorem jv_has {ts tv s v : Int32} (j : J G par A) (hv : mval A s v) : jv G par A (m_has A ts tv s v) := by
  unfold m_has
  split
  · cases e : a_text A s v with
    | none => exact jv_2 gro.rf j.1
    | some y =>
      obtain ⟨k, A1⟩ := y
      dsimp only
      obtain ⟨j1, g1, hk⟩ := J_text j hv.1 e
      split
      · exact jv_to g1 j1 (mval_lt (k := 3) (by omega))
      · exact jv_to g1 j1 (mval_lt (k := 2) (by omega))
  · exact jv_err j (by omega)
theorem m_let_7 {w : List Int32} {x : Int32} (h : ∀ c ∈ w, c7 c) (hl : w.length ≤ 60) : ∀ c ∈ m_let w x, c7 c := by
  intro c hc
  unfold m_let at hc
  split at hc
  · cases hc
  · split at hc
    · cases hc
    · rename_i h1 h2
      rcases nn_or x with z | ⟨n, hn, e⟩
      · exact absurd z h1
      · rw [e, nn_le (by omega) (by omega)] at h2
        rw [e, nn_cl hn, List.mem_singleton] at hc
        rw [hc, List.getD_eq_getElem?_getD, List.getElem?_eq_getElem (by omega)]
        exact h _ (List.getElem_mem _)
theorem jv_chr {ts tv s v : Int32} (j : J G par A) (ht : mval A ts tv) : jv G par A (m_chr A ts tv s v) := by
  unfold m_chr
  by_cases c6 : ts = 6
  · rw [if_pos c6]
    obtain ⟨kk, ek, hkk, k6, k7⟩ := ht.1
    obtain ⟨i, ei, hi⟩ := k6 (by rw [ek, nn_eql (by omega) (by omega)] at c6; exact c6)
    have hL := j.1.2.1
    have h400 := hL.2.1
    obtain ⟨m1, m2⟩ := mLok_at hL hi
    cases e : mmk (aL A) (m_let (mtx (aL A) tv) ((mnV (aL A) s v).getD 0)) with
    | none => exact jv_2 gro.rf j.1
    | some y =>
      obtain ⟨k, L'⟩ := y
      dsimp only
      refine jv_mk j (w := m_let (mtx (aL A) tv) ((mnV (aL A) s v).getD 0)) ?_ e
      rw [ei, mtx_at h400 hi]
      exact m_let_7 m2 m1
  · rw [if_neg c6]; exact jv_err j (by omega)
theorem jv_psh {ts tv s v : Int32} (j : J G par A) (ht : mval A ts tv) (hv : mval A s v) : jv G par A (m_psh A ts tv s v) := by
  have hob := j.1.1.1.2
  unfold m_psh
  by_cases c : ts = 7 ∧ gi (aT A) 141 tv.toNatClampNeg = 2
  · rw [if_pos c]
    obtain ⟨o, eo, ho, hn3⟩ := mval_j ht c.1
    have c2 := c.2
    rw [eo, nn_cl (by omega)] at c2 ⊢
    obtain ⟨q, m, hq, hq3, e0, e5, em, hm, -, -⟩ := iL_len (n := 0) j.1 j.2.1 ho c2 (by omega)
    have eown : m_own A o 0 = nI q := e0
    rw [eown, nn_cl (by omega), em]
    cases e : a_text A 5 (nI m) with
    | none => exact jv_2 gro.rf j.1
    | some y =>
      obtain ⟨k, A1⟩ := y
      dsimp only
      have hk0 := J_l0 j m k A1 hm e
      obtain ⟨j1, g1, hk⟩ := J_text j mok_5 e
      have ho1 := Nat.lt_of_lt_of_le ho g1.1
      cases ea : a_set A1 o (nI k) s v with
      | mk b A2 =>
        cases b with
        | false => dsimp only; rw [gro_setF ea]; exact jv_2 g1 j1.1
        | true =>
          dsimp only
          obtain ⟨j2, g2, eO⟩ := J_set j1 ho1 hk (g1.val hv) (.inl hk0) ea
          obtain ⟨n1, en1, hn1, -⟩ := m_n1_n hm
          rw [en1]
          have e141 : gi (aT A2) 141 o = 2 := (((g1.tr g2).2.2 o ho).1 141 (by omega)).trans c2
          obtain ⟨j3, g3⟩ := J_len (n := n1) j2 (by omega) e141 hn1
          exact jv_to ((g1.tr g2).tr g3) j3 (mval_lt (k := 5) (by omega))
  · rw [if_neg c]; exact jv_err j (by omega)
theorem jv_pop {ts tv : Int32} (j : J G par A) (ht : mval A ts tv) : jv G par A (m_pop A ts tv) := by
  have hob := j.1.1.1.2
  unfold m_pop
  by_cases c : ts = 7 ∧ gi (aT A) 141 tv.toNatClampNeg = 2
  · rw [if_pos c]
    obtain ⟨o, eo, ho, hn3⟩ := mval_j ht c.1
    have c2 := c.2
    rw [eo, nn_cl (by omega)] at c2 ⊢
    obtain ⟨q, m, hq, hq3, e0, e5, em, hm, -, -⟩ := iL_len (n := 0) j.1 j.2.1 ho c2 (by omega)
    have eown : m_own A o 0 = nI q := e0
    rw [eown, nn_cl (by omega), em]
    by_cases m0 : m = 0
    · rw [if_pos (by rw [m0]; rfl)]; exact jv_id j mval_0
    rw [if_neg (by rw [nn_eql (by omega) (by omega)]; exact m0), show nI m - 1 = nI (m - 1) from nn_subl (by omega)]
    cases e : a_text A 5 (nI (m - 1)) with
    | none => exact jv_2 gro.rf j.1
    | some y =>
      obtain ⟨k, A1⟩ := y
      dsimp only
      have hk0 := J_l0 j (m - 1) k A1 (by omega) e
      obtain ⟨j1, g1, hk⟩ := J_text j mok_5 e
      have ho1 := Nat.lt_of_lt_of_le ho g1.1
      have c21 : gi (aT A1) 141 o = 2 := ((g1.2.2 o ho).1 141 (by omega)).trans c2
      obtain ⟨j2, g2⟩ := J_rem j1 ho1 (by rw [c21]; decide) hk (.inl hk0)
      have e141 : gi (aT (a_rem A1 o (nI k))) 141 o = 2 := ((g2.2.2 o ho1).1 141 (by omega)).trans c21
      obtain ⟨j3, g3⟩ := J_len (n := m - 1) j2 (Nat.lt_of_lt_of_le ho1 g2.1) e141 (by omega)
      have hval : mval A1 (m_val A1 (m_own A1 o (nI k))).2.2.1 (m_val A1 (m_own A1 o (nI k))).2.2.2 := by
        rcases m_own_or j1.1 ho1 (nI k) with e | ⟨p, hp, p3, e⟩
        · unfold m_val; rw [if_pos e]; exact mval_0
        · rw [e]
          have := jv_prop j1 ho1 hp
          have h2 : ¬ (m_val A1 (nI p)).1 = 2 := by unfold m_val; split <;> (show ¬ (0 : Nat) = 2; decide)
          have h3 := (this.2.2 h2).2
          have e3 : (m_val A1 (nI p)).2.1 = A1 := by unfold m_val; split <;> rfl
          rw [e3] at h3
          exact h3
      exact jv_to ((g1.tr g2).tr g3) j3 ((g2.tr g3).val hval)
  · rw [if_neg c]; exact jv_err j (by omega)
theorem jv_nat {f : Nat} {ts tv : Int32} {as : List mC} (j : J G par A) (h10 : 10 ≤ f) (h23 : f < 23) (h20 : ¬ f = 20) (ht : mval A ts tv) (hv : ∀ c ∈ as, mval A c.1 c.2.1) : jv G par A (m_nat A f ts tv as) := by
  have hv0 := m_a0_ok hv
  have h31 := j.1.2.1.1
  unfold m_nat
  split
  · exact jv_obj j (by omega) (by omega)
  split
  · exact jv_arr j (by omega) (by omega)
  split
  · split
    · exact jv_id j (mval_6 (j := 30) (by omega))
    · exact jv_tx j hv0
  split
  · unfold m_nan
    refine jv_id j ?_
    split
    · exact mval_lt (k := 3) (by omega)
    · exact mval_lt (k := 2) (by omega)
  split
  · exact jv_psh j ht hv0
  split
  · exact jv_pop j ht
  split
  · exact jv_has j hv0
  split
  · exact jv_chr j ht
  · exact jv_erm j (by omega) (by omega) hv0
/-- what is called in the end -/
theorem m_cl_ok (j : J G par A) : ∀ (as : List mC) (f : Nat) (ts tv : Int32), f < aO A → gi (aT A) 141 f = 1 → mval A ts tv → (∀ c ∈ as, mval A c.1 c.2.1) → ∀ f' ts' tv' as', m_cl A as f ts tv = some (f', ts', tv', as') → f' < aO A ∧ gi (aT A) 141 f' = 1 ∧ ¬ f' = 20 ∧ mval A ts' tv' ∧ (∀ c ∈ as', mval A c.1 c.2.1) ∧ as'.length ≤ as.length
  | [], f, ts, tv, hf, hf1, ht, hv, f', ts', tv', as', e => by
    have hob := j.1.1.1.2
    unfold m_cl at e
    by_cases h : f = 20
    · rw [if_pos h] at e
      by_cases c : ts = 7 ∧ gi (aT A) 141 tv.toNatClampNeg = 1
      · rw [if_pos c] at e
        obtain ⟨o, eo, ho, -⟩ := mval_j ht c.1
        have c2 := c.2
        rw [eo, nn_cl (by omega)] at e c2
        by_cases h2 : o = 20
        · rw [if_pos h2] at e; cases e
        · rw [if_neg h2] at e
          cases e
          exact ⟨ho, c2, h2, mval_0, (fun c hc => by cases hc), Nat.le_refl _⟩
      · rw [if_neg c] at e; cases e
    · rw [if_neg h] at e
      cases e
      exact ⟨hf, hf1, h, ht, hv, Nat.le_refl _⟩
  | a :: as, f, ts, tv, hf, hf1, ht, hv, f', ts', tv', as', e => by
    have hob := j.1.1.1.2
    unfold m_cl at e
    by_cases h : f = 20
    · rw [if_pos h] at e
      by_cases c : ts = 7 ∧ gi (aT A) 141 tv.toNatClampNeg = 1
      · rw [if_pos c] at e
        obtain ⟨o, eo, ho, -⟩ := mval_j ht c.1
        have c2 := c.2
        rw [eo, nn_cl (by omega)] at e c2
        obtain ⟨r1, r2, r3, r4, r5, r6⟩ := m_cl_ok j as o a.1 a.2.1 ho c2 (hv a List.mem_cons_self) (fun c hc => hv c (List.mem_cons_of_mem _ hc)) f' ts' tv' as' e
        exact ⟨r1, r2, r3, r4, r5, by rw [List.length_cons]; omega⟩
      · rw [if_neg c] at e; cases e
    · rw [if_neg h] at e
      cases e
      exact ⟨hf, hf1, h, ht, hv, Nat.le_refl _⟩
end
