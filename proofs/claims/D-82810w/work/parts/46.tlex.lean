/-! CONTRACTS of the twin: blanks, comments, tokens -/
abbrev tPs : Nat → Nat → Prop := fun a k => a = 97 ∧ (k = 18 ∨ k = 19)
theorem tsrc_s {M M' : zM} {n : Nat} {c : Nat → Int32} (h : tsrc M n c) (hf : fr tPs M M') : tsrc M' n c := tsrc_fr h hf (by simp [tPs]) (by simp [tPs])
theorem nI_l2 (n : Nat) : nI n + (2 : Int32) = nI (n + 2) := (Int32.ofNat_add n 2).symm
theorem nI_l0 (x : Int32) : x + (0 : Int32) = x := Int32.add_zero x
section
variable {E : zE} {d : Nat} {Q : zO → zM → Prop} {n : Nat} {c : Nat → Int32}
theorem tl_at {M : zM} (hs : tsrc M n c) {k : Nat} (hk : k < n) : gi M 99 (nI k).toNatClampNeg &&& 255 = c k := by
  have := hs.2.1
  rw [nI_clamp (by omega)]; exact hs.2.2.1 k hk
/-- the rest of a line -/
theorem t_skip98 (l : Nat) (hQ : ∀ (p : Nat) (M : zM), tsrc M n c → gi M 97 18 = nI p → gi M 97 19 = nI l → Zm E YX8_skip (d + 1) M [(0, T97), (1, vi 1)] 2 [] Q → True) :
    ∀ (f p : Nat) (M : zM), n - p = f → tsrc M n c → gi M 97 18 = nI p → p ≤ n → (∀ M', fr tPs M M' → gi M' 97 18 = nI (lxF n (lxB c) p) → gi M' 97 19 = gi M 97 19 → Zm E YX8_skip (d + 1) M' [(0, T97), (1, vi 1)] 2 [] Q) → Zm E YX8_skip (d + 1) M [(0, T97), (1, vi 1)] 98 [] Q := by
  intro f
  induction f with
  | zero =>
    intro p M hf hs e18 hpn k
    have := hs.2.1
    refine iX8_skip_98 M 1 ?_
    rw [hs.1, e18, if_pos (nI_le (by omega) (by omega))]
    exact k M fr.rf (by rw [lxF_end (by omega)]; exact e18) rfl
  | succ f ih =>
    intro p M hf hs e18 hpn k
    have := hs.2.1
    refine iX8_skip_98 M 1 ?_
    rw [hs.1, e18, if_neg (nI_ge (show p < n by omega) (by omega)), tl_at hs (by omega)]
    refine ⟨nI_in (by omega) (by omega), ?_⟩
    by_cases h : c p = 10
    · rw [if_pos h]
      exact k M fr.rf (by rw [lxF_yes (by unfold lxB; rw [decide_eq_true h])]; exact e18) rfl
    · rw [if_neg h, nI_l1]
      have hf1 : fr tPs M (si M 97 18 (nI (p + 1))) := fr.si ⟨rfl, Or.inl rfl⟩
      refine ih (p + 1) _ (by omega) (tsrc_s hs hf1) (gi_self ..) (by omega) (fun M' g1 g2 g3 => k M' (hf1.tr g1) ?_ (g3.trans (gi_idx (by decide))))
      rw [lxF_no (by omega) (by unfold lxB; rw [decide_eq_false h])]; exact g2
/-- a comment's end -/
theorem t_skip163 {p : Nat} {M : zM} (hs : tsrc M n c) (hno : n ≤ lxF n (lxC c) (p + 2) → Q (.inl (some (vi 0))) M)
    (hyes : lxF n (lxC c) (p + 2) < n → Zm E YX8_skip (d + 1) M [(0, T97), (1, vi 1), (3, vi (nI (lxF n (lxC c) (p + 2))))] 209 [] Q) :
    ∀ (f k : Nat), n - k = f → lxF n (lxC c) k = lxF n (lxC c) (p + 2) → k ≤ n + 1 → Zm E YX8_skip (d + 1) M [(0, T97), (1, vi 1), (3, vi (nI k))] 163 [] Q := by
  have h4000 := hs.2.1
  intro f
  induction f with
  | zero =>
    intro k hf he hk
    rw [lxF_end (by omega)] at he
    refine iX8_skip_163 M 1 (nI k) ?_
    rw [hs.1, if_pos (nI_le (by omega) (by omega))]
    exact hno (by omega)
  | succ f ih =>
    intro k hf he hk
    have hkn : k < n := by omega
    have next : lxC c k = false → Zm E YX8_skip (d + 1) M [(0, T97), (1, vi 1), (3, vi (nI (k + 1)))] 163 [] Q := fun h =>
      ih (k + 1) (by omega) (by rw [← lxF_no hkn h]; exact he) (by omega)
    refine iX8_skip_163 M 1 (nI k) ?_
    rw [hs.1, if_neg (nI_ge hkn (by omega)), tl_at hs hkn, nI_l1]
    refine ⟨nI_in (by omega) (by omega), ?_⟩
    by_cases h : c k = 42
    · rw [if_pos h]
      by_cases hk1 : k + 1 < n
      · rw [if_neg (nI_ge hk1 (by omega)), tl_at hs hk1]
        refine ⟨nI_in (by omega) (by omega), ?_⟩
        by_cases h' : c (k + 1) = 47
        · rw [if_pos h']
          have hy : lxC c k = true := by unfold lxC; rw [decide_eq_true h, decide_eq_true h']; rfl
          rw [lxF_yes hy] at he
          rw [he]
          exact hyes (by omega)
        · rw [if_neg h']
          exact next (by unfold lxC; rw [decide_eq_false h', Bool.and_false])
      · rw [if_pos (nI_le (by omega) (by omega))]
        refine next ?_
        unfold lxC
        rw [hs.2.2.2 (k + 1) (by omega), Bool.and_eq_false_iff]
        exact Or.inr (by decide)
    · rw [if_neg h]
      exact next (by unfold lxC; rw [decide_eq_false h, Bool.false_and])
theorem lxN_add (c : Nat → Int32) : ∀ (a b p : Nat), lxN c (a + b) p = lxN c a p + lxN c b (p + a)
  | 0, b, p => by rw [Nat.zero_add, Nat.add_zero]; unfold lxN; omega
  | a + 1, b, p => by
    rw [show a + 1 + b = (a + b) + 1 by omega]
    show (if c p = 10 then 1 else 0) + lxN c (a + b) (p + 1) = (if c p = 10 then 1 else 0) + lxN c a (p + 1) + lxN c b (p + (a + 1))
    rw [lxN_add c a b (p + 1), show p + 1 + a = p + (a + 1) by omega]
    omega
/-- a comment's signs are passed -/
theorem t_skip209 {K : Nat} (hK : K + 2 ≤ n) :
    ∀ (f a l : Nat) (M : zM), K + 2 - a = f → a ≤ K + 2 → tsrc M n c → gi M 97 18 = nI a → gi M 97 19 = nI l → (∀ M', fr tPs M M' → gi M' 97 18 = nI (K + 2) → gi M' 97 19 = nI (l + lxN c (K + 2 - a) a) → Zm E YX8_skip (d + 1) M' [(0, T97), (1, vi 1)] 2 [] Q) →
      Zm E YX8_skip (d + 1) M [(0, T97), (1, vi 1), (3, vi (nI K))] 209 [] Q := by
  intro f
  induction f with
  | zero =>
    intro a l M hf ha hs e18 e19 k
    have h4000 := hs.2.1
    refine iX8_skip_209 M 1 (nI K) ?_
    rw [e18, nI_l2, if_pos (nI_le (by omega) (by omega))]
    have : a = K + 2 := by omega
    subst this
    exact k M fr.rf e18 (by rw [Nat.sub_self]; exact e19)
  | succ f ih =>
    intro a l M hf ha hs e18 e19 k
    have h4000 := hs.2.1
    have han : a < n := by omega
    refine iX8_skip_209 M 1 (nI K) ?_
    rw [e18, nI_l2, if_neg (nI_ge (show a < K + 2 by omega) (by omega)), hs.1, if_neg (nI_ge han (by omega)), tl_at hs han, e19, nI_l1, nI_l1, nI_l0]
    refine ⟨nI_in (by omega) (by omega), ?_⟩
    have hx : lxN c (K + 2 - a) a = (if c a = 10 then 1 else 0) + lxN c (K + 2 - (a + 1)) (a + 1) := by
      rw [show K + 2 - a = (K + 2 - (a + 1)) + 1 by omega]; rfl
    have go : ∀ l' : Nat, l' = l + (if c a = 10 then 1 else 0) → Zm E YX8_skip (d + 1) (si (si M 97 19 (nI l')) 97 18 (nI (a + 1))) [(0, T97), (1, vi 1), (3, vi (nI K))] 209 [] Q := fun l' hl => by
      have hf1 : fr tPs M (si (si M 97 19 (nI l')) 97 18 (nI (a + 1))) := (fr.si ⟨rfl, Or.inr rfl⟩).tr (fr.si ⟨rfl, Or.inl rfl⟩)
      refine ih (a + 1) l' _ (by omega) (by omega) (tsrc_s hs hf1) (gi_self ..) ((gi_idx (by decide)).trans (gi_self ..)) (fun M' g1 g2 g3 => k M' (hf1.tr g1) g2 ?_)
      rw [g3, hx, hl, Nat.add_assoc]
    by_cases h : c a = 10
    · rw [if_pos h]; exact go (l + 1) (by rw [if_pos h])
    · rw [if_neg h]; exact go l (by rw [if_neg h]; rfl)
/-- skip: blanks and comments are passed -/
theorem t_skip2 :
    ∀ (f p l : Nat) (M : zM), n - p ≤ f → p ≤ n → tsrc M n c → gi M 97 18 = nI p → gi M 97 19 = nI l → (∀ M', fr tPs M M' → gi M' 97 18 = nI (lxS n c f p l).1 → gi M' 97 19 = nI (lxS n c f p l).2.1 → Q (.inl (some (vi (bI (lxS n c f p l).2.2)))) M') →
      Zm E YX8_skip (d + 1) M [(0, T97), (1, vi 1)] 2 [] Q := by
  intro f
  induction f with
  | zero =>
    intro p l M hf hp hs e18 e19 hQ
    have h4000 := hs.2.1
    refine iX8_skip_2 M 1 ?_
    rw [if_neg (by decide), hs.1, e18, if_pos (nI_le (by omega) (by omega))]
    exact hQ M fr.rf e18 e19
  | succ f ih =>
    intro p l M hf hp hs e18 e19 hQ
    have h4000 := hs.2.1
    refine iX8_skip_2 M 1 ?_
    rw [if_neg (by decide), hs.1, e18]
    by_cases hpn : p < n
    · rw [if_neg (nI_ge hpn (by omega)), tl_at hs hpn, e19, nI_l1, nI_l1, nI_l0, nI_l2]
      refine ⟨nI_in (by omega) (by omega), ?_⟩
      have one : ∀ l', lxS n c (f + 1) p l = lxS n c f (p + 1) l' → Zm E YX8_skip (d + 1) (si (si M 97 19 (nI l')) 97 18 (nI (p + 1))) [(0, T97), (1, vi 1)] 2 [] Q := fun l' hl => by
        have hf1 : fr tPs M (si (si M 97 19 (nI l')) 97 18 (nI (p + 1))) := (fr.si ⟨rfl, Or.inr rfl⟩).tr (fr.si ⟨rfl, Or.inl rfl⟩)
        rw [hl] at hQ
        exact ih (p + 1) l' _ (by omega) (by omega) (tsrc_s hs hf1) (gi_self ..) ((gi_idx (by decide)).trans (gi_self ..)) (fun M' g1 g2 g3 => hQ M' (hf1.tr g1) g2 g3)
      have stop : lxS n c (f + 1) p l = (p, l, true) → Zm E YX8_skip (d + 1) M [(0, T97), (1, vi 0)] 2 [] Q := fun h => by
        refine iX8_skip_2 M 0 ?_
        rw [if_pos rfl]
        rw [h] at hQ
        exact hQ M fr.rf e18 e19
      have hun : lxS n c (f + 1) p l = (if n ≤ p then (p, l, true) else if c p = 10 then lxS n c f (p + 1) (l + 1) else if c p = 9 ∨ c p = 32 then lxS n c f (p + 1) l else if c p = 47 ∧ c (p + 1) = 47 then lxS n c f (lxF n (lxB c) p) l
          else if c p = 47 ∧ c (p + 1) = 42 then (if n ≤ lxF n (lxC c) (p + 2) then (p, l, false) else lxS n c f (lxF n (lxC c) (p + 2) + 2) (l + lxN c (lxF n (lxC c) (p + 2) - (p + 2)) (p + 2))) else (p, l, true)) := rfl
      rw [if_neg (by omega)] at hun
      by_cases h9 : c p = 9
      · rw [if_pos h9, if_neg (by rw [h9]; decide)]
        exact one l (by rw [hun, if_neg (by rw [h9]; decide), if_pos (Or.inl h9)])
      rw [if_neg h9]
      by_cases h10 : c p = 10
      · rw [if_pos h10]
        exact one (l + 1) (by rw [hun, if_pos h10])
      rw [if_neg h10]
      rw [if_neg h10] at hun
      by_cases h32 : c p = 32
      · rw [if_pos h32]
        exact one l (by rw [hun, if_pos (Or.inr h32)])
      rw [if_neg h32]
      rw [if_neg (fun h => h.elim h9 h32)] at hun
      by_cases h47 : c p = 47
      · rw [if_pos h47]
        by_cases hp1 : p + 1 < n
        · rw [if_neg (nI_ge hp1 (by omega)), tl_at hs hp1]
          refine ⟨nI_in (by omega) (by omega), ?_⟩
          by_cases h1 : c (p + 1) = 47
          · rw [if_pos h1]
            rw [if_pos ⟨h47, h1⟩] at hun
            rw [hun] at hQ
            have hB : lxB c p = false := by unfold lxB; rw [decide_eq_false h10]
            have hg := lxF_lt hpn hB
            have hle := lxF_le n (lxB c) _ p rfl hp
            refine t_skip98 (d := d) (Q := Q) (E := E) l (fun _ _ _ _ _ _ => trivial) _ p M rfl hs e18 hp (fun M' g1 g2 g3 => ?_)
            exact ih _ l M' (by omega) hle (tsrc_s hs g1) g2 (g3.trans e19) (fun M'' r1 r2 r3 => hQ M'' (g1.tr r1) r2 r3)
          · rw [if_neg h1]
            rw [if_neg (fun h => h1 h.2)] at hun
            by_cases h2 : c (p + 1) = 42
            · rw [if_pos h2]
              rw [if_pos ⟨h47, h2⟩] at hun
              refine t_skip163 hs (fun hno => ?_) (fun hyes => ?_) _ (p + 2) rfl rfl (by omega)
              · rw [if_pos hno] at hun
                rw [hun] at hQ
                exact hQ M fr.rf e18 e19
              · rw [if_neg (by omega)] at hun
                have hK1 : c (lxF n (lxC c) (p + 2)) = 42 ∧ c (lxF n (lxC c) (p + 2) + 1) = 47 := by
                  have hC : lxC c (lxF n (lxC c) (p + 2)) = true := by
                    cases hb : lxC c (lxF n (lxC c) (p + 2)) with
                    | true => rfl
                    | false =>
                      exfalso
                      have := lxF_hit n (lxC c) _ (p + 2) rfl hyes
                      rw [hb] at this
                      cases this
                  unfold lxC at hC
                  rw [Bool.and_eq_true] at hC
                  exact ⟨of_decide_eq_true hC.1, of_decide_eq_true hC.2⟩
                have hge := lxF_ge n (lxC c) _ (p + 2) rfl
                have hlt : lxF n (lxC c) (p + 2) + 1 < n := by
                  by_cases hz : lxF n (lxC c) (p + 2) + 1 < n
                  · exact hz
                  · have := hs.2.2.2 (lxF n (lxC c) (p + 2) + 1) (by omega)
                    rw [hK1.2] at this
                    exact absurd this (by decide)
                generalize hKe : lxF n (lxC c) (p + 2) = K at *
                have hcnt : lxN c (K + 2 - p) p = lxN c (K - (p + 2)) (p + 2) := by
                  rw [show K + 2 - p = 2 + ((K - (p + 2)) + 2) by omega, lxN_add, lxN_add]
                  have e1 : lxN c 2 p = 0 := by
                    show (if c p = 10 then 1 else 0) + ((if c (p + 1) = 10 then 1 else 0) + 0) = 0
                    rw [if_neg h10, if_neg (by rw [h2]; decide)]
                  have e2 : lxN c 2 (p + 2 + (K - (p + 2))) = 0 := by
                    rw [show p + 2 + (K - (p + 2)) = K by omega]
                    show (if c K = 10 then 1 else 0) + ((if c (K + 1) = 10 then 1 else 0) + 0) = 0
                    rw [if_neg (by rw [hK1.1]; decide), if_neg (by rw [hK1.2]; decide)]
                  rw [e1, e2]; omega
                refine t_skip209 (K := K) (by omega) _ p l M rfl (by omega) hs e18 e19 (fun M' g1 g2 g3 => ?_)
                rw [hun] at hQ
                exact ih (K + 2) _ M' (by omega) (by omega) (tsrc_s hs g1) g2 (by rw [g3, hcnt]) (fun M'' r1 r2 r3 => hQ M'' (g1.tr r1) r2 r3)
            · rw [if_neg h2]
              rw [if_neg (fun h => h2 h.2)] at hun
              exact stop hun
        · rw [if_pos (nI_le (by omega) (by omega))]
          have hz := hs.2.2.2 (p + 1) (by omega)
          rw [if_neg (fun h => absurd h.2 (by rw [hz]; decide)), if_neg (fun h => absurd h.2 (by rw [hz]; decide))] at hun
          exact stop hun
      · rw [if_neg h47]
        rw [if_neg (fun h => h47 h.1), if_neg (fun h => h47 h.1)] at hun
        exact stop hun
    · rw [if_pos (nI_le (by omega) (by omega))]
      rw [show lxS n c (f + 1) p l = (p, l, true) from if_pos (by omega)] at hQ
      exact hQ M fr.rf e18 e19
end
