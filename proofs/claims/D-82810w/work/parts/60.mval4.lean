/-! VALUES of the machine: the twin's binaryOf (no texts), its texts -/
def mjt (how s t : Int32) : Bool := decide (how = 0) && (decide (6 ≤ s) || decide (6 ≤ t))
section
variable {E : zE} {d : Nat} {T : zM} {Q : zO → zM → Prop} {L : List (List Int32)} {ob : Nat}
theorem tm_join {how s t : Int32} (hQ : ∀ x, x = bI (mjt how s t) → Q (.inl (some (vi x))) T) : Zm E YX8_joinsTexts d T [(0, T97), (1, vi how), (2, vi s), (3, vi t)] 0 [] Q := by
  refine sX8_joinsTexts_0 T _ _ _ ?_
  unfold mjt at hQ
  by_cases h0 : how = 0
  · rw [if_pos h0]; rw [decide_eq_true h0] at hQ
    by_cases h1 : 6 ≤ s
    · rw [if_pos h1]; rw [decide_eq_true h1] at hQ; exact hQ _ rfl
    · rw [if_neg h1]; rw [decide_eq_false h1] at hQ
      by_cases h2 : t < 6
      · rw [if_pos h2]; rw [decide_eq_false (show ¬ 6 ≤ t by rw [i_le]; exact h2)] at hQ; exact hQ _ rfl
      · rw [if_neg h2]; rw [decide_eq_true (show 6 ≤ t by rw [← i_lt]; exact h2)] at hQ; exact hQ _ rfl
  · rw [if_neg h0]; rw [decide_eq_false h0] at hQ; exact hQ _ rfl
theorem tm_bits {how x y : Int32} (hQ : Q (.inl (some (vi (mbt how x y)))) T) : Zm E YX8_bits d T [(0, vi how), (1, vi x), (2, vi y)] 0 [] Q := by
  refine sX8_bits_0 T _ _ _ ?_
  unfold mbt at hQ
  by_cases h5 : how = 5
  · rw [if_pos h5] at hQ ⊢; exact hQ
  rw [if_neg h5] at hQ ⊢
  by_cases h6 : how = 6
  · rw [if_pos h6] at hQ ⊢; exact hQ
  rw [if_neg h6] at hQ ⊢
  by_cases h7 : how = 7
  · rw [if_pos h7] at hQ ⊢; exact hQ
  rw [if_neg h7] at hQ ⊢
  by_cases h8 : how = 8
  · rw [if_pos h8] at hQ ⊢; exact hQ
  rw [if_neg h8] at hQ ⊢
  by_cases h9 : how = 9
  · rw [if_pos h9] at hQ ⊢; exact hQ
  rw [if_neg h9] at hQ ⊢
  exact hQ
/-- binaryOf of two values that are joined to no text -/
theorem tm_bin {how s v t w : Int32} (hS : tS T L) (h7 : ∀ z ∈ L, ∀ c ∈ z, c7 c) (hv : mok L ob s v) (hv' : mok L ob t w) (hh : ∃ h : Nat, how = nI h ∧ h < 19) (hj : mjt how s t = false) (hQ : ∀ T', fr scr T T' → gi T' 97 111 = (mbi L how s v t w).1 → gi T' 97 112 = (mbi L how s v t w).2 → Q (.inl none) T') :
    Zm E YX8_binaryOf_2 (d + 4) T [(0, T97), (1, vi how), (2, vi s), (3, vi v), (4, vi t), (5, vi w)] 0 [] Q := by
  have fin : ∀ (T1 : zM) (a b : Int32), fr scr T T1 → mbi L how s v t w = (a, b) → Q (.inl none) (si (si T1 97 111 a) 97 112 b) := fun T1 a b f e =>
    hQ _ (f.tr fr_got) (by rw [gi_idx (by decide), gi_self, e]) (by rw [gi_self, e])
  refine sX8_binaryOf_2_0 T _ _ _ _ _ ?_
  refine tm_join (fun x hx => ?_)
  rw [hj, bI_f] at hx
  subst hx
  show Zm E YX8_binaryOf_2 (d + 4) T [(0, T97), (1, vi how), (2, vi s), (3, vi v), (4, vi t), (5, vi w)] 8 [vi 0] Q
  refine sX8_binaryOf_2_8 T _ _ _ _ _ _ ?_
  rw [if_pos rfl]
  by_cases h11 : how < 11
  · rw [if_pos h11]
    refine tm_numV hS hv (fun x T1 hx hT1 => ?_)
    have f1 : fr scr T T1 := by rw [hT1]; exact fr_113
    show Zm E YX8_binaryOf_2 (d + 4) T1 [(0, T97), (1, vi how), (4, vi t), (5, vi w)] 142 [vi x] Q
    refine sX8_binaryOf_2_142 T1 _ _ _ _ ?_
    refine tm_numV (tS_scr hS f1) hv' (fun y T2 hy hT2 => ?_)
    have f2 : fr scr T T2 := f1.tr (by rw [hT2]; exact fr_113)
    show Zm E YX8_binaryOf_2 (d + 4) T2 [(0, T97), (1, vi how), (6, vi x), (7, vi (gi T1 97 113))] 158 [vi y] Q
    have e1 : gi T1 97 113 = bI (mnV L s v).isSome := by rw [hT1, gi_self]
    have e2 : gi T2 97 113 = bI (mnV L t w).isSome := by rw [hT2, gi_self]
    rw [e1]
    have b0 : ∀ a : Int32, ¬ bI (some a).isSome = 0 := fun a => by show ¬ (1 : Int32) = 0; decide
    have bn : bI (none : Option Int32).isSome = 0 := rfl
    have at177 : ∀ z : Int32, (z = 0 ↔ (mnV L s v = none ∨ mnV L t w = none)) → Zm E YX8_binaryOf_2 (d + 4) T2 [(0, T97), (1, vi how), (6, vi x), (7, vi (bI (mnV L s v).isSome)), (8, vi y)] 177 [vi z] Q := fun z hz => by
      refine iX8_binaryOf_2_177 T2 _ _ _ _ _ ?_
      by_cases h5 : how < 5
      · rw [if_pos h5]
        have em : mbi L how s v t w = mo3 how (mnV L s v) (mnV L t w) := by unfold mbi; rw [if_pos h11, if_pos h5]
        by_cases hz0 : z = 0
        · rw [if_pos hz0]
          refine fin _ _ _ f2 ?_
          rw [em]
          rcases hz.mp hz0 with h | h
          · rw [h]; rfl
          · rw [h]; cases mnV L s v <;> rfl
        · rw [if_neg hz0]
          have hn := fun q => hz0 (hz.mpr q)
          cases ha : mnV L s v with
          | none => exact absurd (Or.inl ha) hn
          | some a =>
            cases hb : mnV L t w with
            | none => exact absurd (Or.inr hb) hn
            | some b =>
              have hxa : x = a := by rw [hx, ha]; rfl
              have hyb : y = b := by rw [hy, hb]; rfl
              subst hxa hyb
              rw [ha, hb] at em
              have at244 : (2 < how → ¬ y = 0) → Zm E YX8_binaryOf_2 (d + 4) T2 [(0, T97), (1, vi how), (6, vi x), (8, vi y)] 244 [] Q := fun hy0 => by
                have em2 : mbi L how s v t w = (5, if how = 0 then x + y else if how = 1 then x - y else if how = 2 then x * y else if how = 3 then x / y else x - x / y * y) := by
                  rw [em]
                  exact if_neg (fun q => hy0 q.1 q.2)
                refine iX8_binaryOf_2_244 T2 _ _ _ ?_
                by_cases c0 : how = 0
                · rw [if_pos c0]; rw [if_pos c0] at em2; exact fin _ _ _ f2 em2
                rw [if_neg c0]; rw [if_neg c0] at em2
                by_cases c1 : how = 1
                · rw [if_pos c1]; rw [if_pos c1] at em2; exact fin _ _ _ f2 em2
                rw [if_neg c1]; rw [if_neg c1] at em2
                by_cases c2 : how = 2
                · rw [if_pos c2]; rw [if_pos c2] at em2; exact fin _ _ _ f2 em2
                rw [if_neg c2]; rw [if_neg c2] at em2
                have hg : 2 < how := by
                  obtain ⟨h, rfl, hh⟩ := hh
                  simp (disch := omega) only [nn_add, nn_addl, nn_ladd, nn_mul, nn_lmul, nn_mull, nn_sub, nn_subl, nn_lsub, nn_lt, nn_le, nn_eq, nn_ltl, nn_llt, nn_lel, nn_lle, nn_eql, nn_leq, nn_m1, nn_1m, nn_ltm, nn_mlt, nn_mle, nn_lem, nn_cl, nn_in, nn_ns, nn_ns2, nn_nb, nn_nb2, nn_s1, nn_s2, nn_b1, nn_b2] at c0 c1 c2 ⊢
                  omega
                have y0 := hy0 hg
                by_cases c3 : how = 3
                · rw [if_pos c3]; rw [if_pos c3] at em2; exact ⟨y0, fin _ _ _ f2 em2⟩
                · rw [if_neg c3]; rw [if_neg c3] at em2; exact ⟨y0, fin _ _ _ f2 em2⟩
              by_cases h2 : how ≤ 2
              · rw [if_pos h2]
                exact at244 (fun q => absurd h2 (by rw [i_le]; exact q))
              · rw [if_neg h2]
                by_cases hy0 : y = 0
                · rw [if_pos hy0]
                  refine fin _ _ _ f2 ?_
                  rw [em]
                  exact if_pos ⟨by rw [← i_le]; exact h2, hy0⟩
                · rw [if_neg hy0]; exact at244 (fun _ => hy0)
      · rw [if_neg h5]
        have em : mbi L how s v t w = (5, mbt how ((mnV L s v).getD 0) ((mnV L t w).getD 0)) := by unfold mbi; rw [if_pos h11, if_neg h5]
        have go : ∀ p q : Int32, p = (mnV L s v).getD 0 → q = (mnV L t w).getD 0 → Zm E YX8_bits (d + 3) T2 (zargs 0 [vi how, vi p, vi q]) 0 [] (zma E YX8_binaryOf_2 (d + 4) [] 211 3 [vi 5, T97] Q) := fun p q hp hq => by
          refine tm_bits ?_
          show Zm E YX8_binaryOf_2 (d + 4) T2 [] 214 [vi (mbt how p q), vi 5, T97] Q
          refine iX8_binaryOf_2_214 T2 _ _ ?_
          exact fin _ _ _ f2 (by rw [em, hp, hq])
        rw [e2]
        cases ha : mnV L s v with
        | none =>
          rw [if_pos bn]
          cases hb : mnV L t w with
          | none => rw [if_pos bn]; exact go _ _ (by rw [ha]; rfl) (by rw [hb]; rfl)
          | some b => rw [if_neg (b0 b)]; exact go _ _ (by rw [ha]; rfl) hy
        | some a =>
          rw [if_neg (b0 a)]
          cases hb : mnV L t w with
          | none => rw [if_pos bn]; exact go _ _ hx (by rw [hb]; rfl)
          | some b => rw [if_neg (b0 b)]; exact go _ _ hx hy
    refine sX8_binaryOf_2_158 T2 _ _ _ _ ?_
    rw [e2]
    cases ha : mnV L s v with
    | none =>
      rw [if_pos bn]
      have := at177 0 ⟨fun _ => .inl ha, fun _ => rfl⟩
      rw [ha] at this
      exact this
    | some a =>
      rw [if_neg (b0 a)]
      cases hb : mnV L t w with
      | none =>
        rw [if_pos bn]
        have := at177 0 ⟨fun _ => .inr hb, fun _ => rfl⟩
        rw [ha] at this
        exact this
      | some b =>
        rw [if_neg (b0 b)]
        have := at177 1 ⟨fun q => absurd q (by decide), fun q => by rw [ha, hb] at q; rcases q with q | q <;> cases q⟩
        rw [ha] at this
        exact this
  rw [if_neg h11]
  by_cases h13 : 13 ≤ how
  · rw [if_pos h13]
    have n13 : ¬ how < 13 := by rw [i_lt]; exact h13
    by_cases h15 : 15 ≤ how
    · rw [if_pos h15]
      have n15 : ¬ how < 15 := by rw [i_lt]; exact h15
      have em : mbi L how s v t w = mtv (mcp L how s v t w) := by unfold mbi; rw [if_neg h11, if_neg n13, if_neg n15]
      refine tm_cmp hS h7 hv hv' (fun x T1 hx f1 => ?_)
      show Zm E YX8_binaryOf_2 (d + 4) T1 [] 132 [vi x, T97] Q
      refine iX8_binaryOf_2_132 T1 _ ?_
      rw [hx]
      cases hb : mcp L how s v t w with
      | false => rw [bI_f, if_pos rfl]; exact fin _ _ _ f1 (by rw [em, hb]; rfl)
      | true => rw [bI_t, if_neg (by decide)]; exact fin _ _ _ f1 (by rw [em, hb]; rfl)
    · rw [if_neg h15]
      have y15 : how < 15 := by rw [← i_le]; exact h15
      have em : mbi L how s v t w = mtv (decide (mSame s v t w = decide (how = 13))) := by unfold mbi; rw [if_neg h11, if_neg n13, if_pos y15]
      refine tm_same ?_
      show Zm E YX8_binaryOf_2 (d + 4) T [(1, vi how)] 95 [vi (bI (mSame s v t w)), T97] Q
      refine iX8_binaryOf_2_95 T _ _ ?_
      by_cases c : how = 13
      · rw [if_pos c]
        cases hb : mSame s v t w with
        | false => rw [bI_f, if_neg (by decide)]; exact fin _ _ _ fr.rf (by rw [em, hb, decide_eq_true c]; rfl)
        | true => rw [bI_t, if_pos rfl]; exact fin _ _ _ fr.rf (by rw [em, hb, decide_eq_true c]; rfl)
      · rw [if_neg c]
        cases hb : mSame s v t w with
        | false => rw [bI_f, if_pos rfl]; exact fin _ _ _ fr.rf (by rw [em, hb, decide_eq_false c]; rfl)
        | true => rw [bI_t, if_neg (by decide)]; exact fin _ _ _ fr.rf (by rw [em, hb, decide_eq_false c]; rfl)
  · rw [if_neg h13]
    have y13 : how < 13 := by rw [← i_le]; exact h13
    have em : mbi L how s v t w = mtv (decide (meq L s v t w = decide (how = 11))) := by unfold mbi; rw [if_neg h11, if_pos y13]
    refine tm_eq hS hv hv' (fun x T1 hx f1 => ?_)
    show Zm E YX8_binaryOf_2 (d + 4) T1 [(1, vi how)] 54 [vi x, T97] Q
    refine iX8_binaryOf_2_54 T1 _ _ ?_
    rw [hx]
    by_cases c : how = 11
    · rw [if_pos c]
      cases hb : meq L s v t w with
      | false => rw [bI_f, if_neg (by decide)]; exact fin _ _ _ f1 (by rw [em, hb, decide_eq_true c]; rfl)
      | true => rw [bI_t, if_pos rfl]; exact fin _ _ _ f1 (by rw [em, hb, decide_eq_true c]; rfl)
    · rw [if_neg c]
      cases hb : meq L s v t w with
      | false => rw [bI_f, if_pos rfl]; exact fin _ _ _ f1 (by rw [em, hb, decide_eq_false c]; rfl)
      | true => rw [bI_t, if_neg (by decide)]; exact fin _ _ _ f1 (by rw [em, hb, decide_eq_false c]; rfl)
end
