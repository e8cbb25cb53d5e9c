/-! VALUES of the machine: the component's unary, sum, binary; both sides' typeOf, indexOf; texts joined -/
def mty (s c : Int32) : Int32 := if s = 0 then 19 else if s = 1 then 20 else if s = 2 then 21 else if s = 3 then 21 else if s = 4 then 22 else if s = 5 then 22 else if s = 6 then 23 else if c = 1 then 24 else 20
/-- the index that a text is; -1 -/
def mix (w : List Int32) : Int32 :=
  if w.length = 1 then (if lxD (w.getD 0 0) = true then w.getD 0 0 - 48 else -1)
  else if w.length = 2 then (if lxD (w.getD 0 0) = true ∧ lxD (w.getD 1 0) = true ∧ ¬ w.getD 0 0 = 48 then (10 : Int32) * (w.getD 0 0 - 48) + w.getD 1 0 - 48 else -1)
  else -1
theorem lxD_t {c : Int32} (h1 : ¬ c < 48) (h2 : ¬ 57 < c) : lxD c = true := by
  unfold lxD
  rw [decide_eq_true (show (48 : Int32) ≤ c by rw [← i_lt]; exact h1), decide_eq_true (show c ≤ (57 : Int32) by rw [← i_lt]; exact h2)]; rfl
theorem lxD_l {c : Int32} (h1 : c < 48) : ¬ lxD c = true := by
  unfold lxD
  rw [decide_eq_false (show ¬ (48 : Int32) ≤ c by rw [i_le]; exact h1), Bool.false_and]; decide
theorem lxD_g {c : Int32} (h1 : 57 < c) : ¬ lxD c = true := by
  unfold lxD
  rw [decide_eq_false (show ¬ c ≤ (57 : Int32) by rw [i_le]; exact h1), Bool.and_false]; decide
section
variable {E : zE} {d : Nat} {M T : zM} {Q : zO → zM → Prop} {L : List (List Int32)} {ob : Nat}
/-- unary -/
theorem xm_un {how s v : Int32} (hw : cw M) (hx : xtx M L) (hv : mok L ob s v) (h4 : ¬ how = 4) (hQ : ∀ M', fr scx M M' → gi M' 16 33 = (mun L how s v).1 → gi M' 16 32 = (mun L how s v).2 → Q (.inl none) M') : Z E YX1_unary (d + 3) M [(0, zX16), (1, vi how), (2, vi s), (3, vi v)] 0 [] Q := by
  have fin : ∀ (M1 : zM) (a b : Int32), fr scx M M1 → mun L how s v = (a, b) → Q (.inl none) (si (si M1 16 33 a) 16 32 b) := fun M1 a b f e =>
    hQ _ (f.tr fx_got) (by rw [gi_idx (by decide), gi_self, e]) (by rw [gi_self, e])
  refine sX1_unary_0 M _ _ _ hw ?_
  by_cases h3 : how = 3
  · rw [if_pos h3]
    have em : mun L how s v = mtv (!(mtr L s v)) := by unfold mun; rw [if_pos h3]
    refine xm_true hw hx hv ?_
    show Z E YX1_unary (d + 3) M [] 12 [vi (bI (mtr L s v)), zX16] Q
    refine iX1_unary_12 M _ hw ?_
    cases hb : mtr L s v with
    | false => rw [bI_f, if_pos rfl]; exact fin _ _ _ fr.rf (by rw [em, hb]; rfl)
    | true => rw [bI_t, if_neg (by decide)]; exact fin _ _ _ fr.rf (by rw [em, hb]; rfl)
  rw [if_neg h3, if_neg h4]
  refine xm_numV hw hx hv (fun x M1 hx1 f1 g1 => ?_)
  show Z E YX1_unary (d + 3) M1 [(0, zX16), (1, vi how)] 52 [vi x] Q
  refine iX1_unary_52 M1 _ _ (cw_scx hw f1) ?_
  rw [hx1]
  by_cases h2 : how = 2
  · rw [if_pos h2]
    have em : mun L how s v = (5, (mnV L s v).getD 0 ^^^ -1) := by unfold mun; rw [if_neg h3, if_pos h2]
    cases ha : mnV L s v with
    | none => rw [if_pos bns]; exact fin _ _ _ f1 (by rw [em, ha]; rfl)
    | some a => rw [if_neg (b0s a), g1 a ha]; exact fin _ _ _ f1 (by rw [em, ha]; rfl)
  · rw [if_neg h2]
    have em : mun L how s v = mo1 how (mnV L s v) := by unfold mun; rw [if_neg h3, if_neg h2]
    cases ha : mnV L s v with
    | none => rw [if_pos bns]; exact fin _ _ _ f1 (by rw [em, ha]; rfl)
    | some a =>
      rw [if_neg (b0s a), g1 a ha]
      by_cases h0 : how = 0
      · rw [if_pos h0]; exact fin _ _ _ f1 (by rw [em, ha]; exact if_pos h0)
      · rw [if_neg h0]; exact fin _ _ _ f1 (by rw [em, ha]; exact if_neg h0)
/-- sum -/
theorem xm_sum {how s v t w : Int32} (hw : cw M) (hx : xtx M L) (hv : mok L ob s v) (hv' : mok L ob t w) (hh : ∃ h : Nat, how = nI h ∧ h < 19) (hQ : ∀ M', fr scx M M' → gi M' 16 33 = (mo3 how (mnV L s v) (mnV L t w)).1 → gi M' 16 32 = (mo3 how (mnV L s v) (mnV L t w)).2 → Q (.inl none) M') :
    Z E YX1_sum (d + 3) M [(0, zX16), (1, vi how), (2, vi s), (3, vi v), (4, vi t), (5, vi w)] 0 [] Q := by
  have fin : ∀ (M1 : zM) (a b : Int32), fr scx M M1 → mo3 how (mnV L s v) (mnV L t w) = (a, b) → Q (.inl none) (si (si M1 16 33 a) 16 32 b) := fun M1 a b f e =>
    hQ _ (f.tr fx_got) (by rw [gi_idx (by decide), gi_self, e]) (by rw [gi_self, e])
  refine sX1_sum_0 M _ _ _ _ _ hw ?_
  refine xm_numV hw hx hv (fun x M1 hx1 f1 g1 => ?_)
  show Z E YX1_sum (d + 3) M1 [(0, zX16), (1, vi how), (4, vi t), (5, vi w)] 6 [vi x] Q
  refine sX1_sum_6 M1 _ _ _ _ (cw_scx hw f1) ?_
  refine xm_numV (cw_scx hw f1) (xtx_scx hx f1) hv' (fun y M2 hy1 f2 g2 => ?_)
  show Z E YX1_sum (d + 3) M2 [(0, zX16), (1, vi how), (7, vi (gi M1 16 32))] 24 [vi y, vi x] Q
  have cw2 := cw_scx (cw_scx hw f1) f2
  have f12 := f1.tr f2
  refine iX1_sum_24 M2 _ _ _ _ cw2 ?_
  rw [hx1, hy1]
  cases ha : mnV L s v with
  | none =>
    rw [if_pos (by
      cases mnV L t w with
      | none => show (0 : Int32) &&& 0 = 0; decide
      | some b => show (0 : Int32) &&& 1 = 0; decide)]
    exact fin _ _ _ f12 (by rw [ha]; rfl)
  | some a =>
    cases hb : mnV L t w with
    | none => rw [if_pos (by show (1 : Int32) &&& 0 = 0; decide)]; exact fin _ _ _ f12 (by rw [ha, hb]; rfl)
    | some b =>
      rw [if_neg (by show ¬ (1 : Int32) &&& 1 = 0; decide), g1 a ha, g2 b hb]
      have at57 : (2 < how → ¬ b = 0) → Z E YX1_sum (d + 3) M2 [(0, zX16), (1, vi how), (7, vi a), (8, vi b)] 57 [] Q := fun hy0 => by
        have em2 : mo3 how (mnV L s v) (mnV L t w) = (5, if how = 0 then a + b else if how = 1 then a - b else if how = 2 then a * b else if how = 3 then a / b else a - a / b * b) := by
          rw [ha, hb]
          exact if_neg (fun q => hy0 q.1 q.2)
        refine iX1_sum_57 M2 _ _ _ cw2 ?_
        by_cases c0 : how = 0
        · rw [if_pos c0]; rw [if_pos c0] at em2; exact fin _ _ _ f12 em2
        rw [if_neg c0]; rw [if_neg c0] at em2
        by_cases c1 : how = 1
        · rw [if_pos c1]; rw [if_pos c1] at em2; exact fin _ _ _ f12 em2
        rw [if_neg c1]; rw [if_neg c1] at em2
        by_cases c2 : how = 2
        · rw [if_pos c2]; rw [if_pos c2] at em2; exact fin _ _ _ f12 em2
        rw [if_neg c2]; rw [if_neg c2] at em2
        have hg : 2 < how := by
          obtain ⟨h, rfl, hh⟩ := hh
          simp (disch := omega) only [nn_add, nn_addl, nn_ladd, nn_mul, nn_lmul, nn_mull, nn_sub, nn_subl, nn_lsub, nn_lt, nn_le, nn_eq, nn_ltl, nn_llt, nn_lel, nn_lle, nn_eql, nn_leq, nn_m1, nn_1m, nn_ltm, nn_mlt, nn_mle, nn_lem, nn_cl, nn_in, nn_ns, nn_ns2, nn_nb, nn_nb2, nn_s1, nn_s2, nn_b1, nn_b2] at c0 c1 c2 ⊢
          omega
        have y0 := hy0 hg
        by_cases c3 : how = 3
        · rw [if_pos c3]; rw [if_pos c3] at em2; exact ⟨y0, fin _ _ _ f12 em2⟩
        · rw [if_neg c3]; rw [if_neg c3] at em2; exact ⟨y0, fin _ _ _ f12 em2⟩
      by_cases h2 : how ≤ 2
      · rw [if_pos h2]
        exact at57 (fun q => absurd h2 (by rw [i_le]; exact q))
      · rw [if_neg h2]
        by_cases hy0 : b = 0
        · rw [if_pos hy0]
          refine fin _ _ _ f12 ?_
          rw [ha, hb]
          exact if_pos ⟨by rw [← i_le]; exact h2, hy0⟩
        · rw [if_neg hy0]; exact at57 (fun _ => hy0)
theorem and31 (x : Int32) : x &&& 31 &&& 31 = x &&& 31 := by
  rw [Int32.and_assoc]; rfl
theorem zus31 (x y : Int32) : zus x (y &&& 31) = zus x y := by
  unfold zus
  show (x.toUInt32 >>> (y.toUInt32 &&& Int32.toUInt32 31 &&& Int32.toUInt32 31)).toInt32 = (x.toUInt32 >>> (y.toUInt32 &&& Int32.toUInt32 31)).toInt32
  rw [UInt32.and_assoc, show Int32.toUInt32 31 &&& Int32.toUInt32 31 = Int32.toUInt32 31 by decide]
theorem xm_fst (h : 7 = (6 : Int32)) : False := absurd h (by decide)
/-- binary of two values that are joined to no text -/
theorem xm_bin {how s v t w : Int32} (hw : cw M) (hx : xtx M L) (hv : mok L ob s v) (hv' : mok L ob t w) (hh : ∃ h : Nat, how = nI h ∧ h < 19) (hj : mjt how s t = false) (hQ : ∀ M', fr scx M M' → gi M' 16 33 = (mbi L how s v t w).1 → gi M' 16 32 = (mbi L how s v t w).2 → Q (.inl none) M') :
    Z E YX1_binary (d + 4) M [(0, zX16), (1, vi how), (2, vi s), (3, vi v), (4, vi t), (5, vi w)] 0 [] Q := by
  have fin : ∀ (M1 : zM) (a b : Int32), fr scx M M1 → mbi L how s v t w = (a, b) → Q (.inl none) (si (si M1 16 33 a) 16 32 b) := fun M1 a b f e =>
    hQ _ (f.tr fx_got) (by rw [gi_idx (by decide), gi_self, e]) (by rw [gi_self, e])
  have main : Z E YX1_binary (d + 4) M [(0, zX16), (1, vi how), (2, vi s), (3, vi v), (4, vi t), (5, vi w)] 61 [] Q := by
    refine sX1_binary_61 M _ _ _ _ _ hw ?_
    by_cases h5 : 5 ≤ how
    · rw [if_pos h5]
      have n5 : ¬ how < 5 := by rw [i_lt]; exact h5
      by_cases h11 : 11 ≤ how
      · rw [if_pos h11]
        have n11 : ¬ how < 11 := by rw [i_lt]; exact h11
        by_cases h15 : 15 ≤ how
        · rw [if_pos h15]
          have n13 : ¬ how < 13 := by
            obtain ⟨h, rfl, hh⟩ := hh
            simp (disch := omega) only [nn_add, nn_addl, nn_ladd, nn_mul, nn_lmul, nn_mull, nn_sub, nn_subl, nn_lsub, nn_lt, nn_le, nn_eq, nn_ltl, nn_llt, nn_lel, nn_lle, nn_eql, nn_leq, nn_m1, nn_1m, nn_ltm, nn_mlt, nn_mle, nn_lem, nn_cl, nn_in, nn_ns, nn_ns2, nn_nb, nn_nb2, nn_s1, nn_s2, nn_b1, nn_b2] at h15 ⊢
            omega
          have n15 : ¬ how < 15 := by rw [i_lt]; exact h15
          have em : mbi L how s v t w = mtv (mcp L how s v t w) := by unfold mbi; rw [if_neg n11, if_neg n13, if_neg n15]
          refine xm_ord hw hx hv hv' (fun r M1 hr f1 => ?_)
          show Z E YX1_binary (d + 4) M1 [(0, zX16), (1, vi how)] 293 [vi r] Q
          refine iX1_binary_293 M1 _ _ (cw_scx hw f1) ?_
          unfold mcp at em
          cases ho : mor L s v t w with
          | none => rw [ho] at hr em; rw [hr, if_pos rfl]; exact fin _ _ _ f1 (by rw [em]; rfl)
          | some o =>
            rw [ho] at hr em
            dsimp only at hr em
            unfold mct at em
            rcases Int.lt_trichotomy o 0 with q | q | q
            · rw [if_pos q] at hr
              subst hr
              rw [if_neg (show ¬ (-1 : Int32) = 2 by decide), if_neg (show ¬ (0 : Int32) ≤ -1 by decide), if_pos (show (-1 : Int32) ≤ 0 by decide), if_neg (show ¬ (0 : Int32) < -1 by decide), if_pos (show (-1 : Int32) < 0 by decide)]
              rw [decide_eq_true q, decide_eq_false (show ¬ 0 < o by omega), decide_eq_true (show o ≤ 0 by omega), decide_eq_false (show ¬ 0 ≤ o by omega)] at em
              by_cases c15 : how = 15
              · rw [if_pos c15] at em ⊢; exact fin _ _ _ f1 em
              rw [if_neg c15] at em ⊢
              by_cases c16 : how = 16
              · rw [if_pos c16] at em ⊢; exact fin _ _ _ f1 em
              rw [if_neg c16] at em ⊢
              by_cases c17 : how = 17
              · rw [if_pos c17] at em ⊢; exact fin _ _ _ f1 em
              · rw [if_neg c17] at em ⊢; exact fin _ _ _ f1 em
            · rw [if_neg (show ¬ o < 0 by omega), if_pos q] at hr
              subst hr
              rw [if_neg (show ¬ (0 : Int32) = 2 by decide), if_pos (show (0 : Int32) ≤ 0 by decide), if_neg (show ¬ (0 : Int32) < 0 by decide)]
              rw [decide_eq_false (show ¬ o < 0 by omega), decide_eq_false (show ¬ 0 < o by omega), decide_eq_true (show o ≤ 0 by omega), decide_eq_true (show 0 ≤ o by omega)] at em
              by_cases c15 : how = 15
              · rw [if_pos c15] at em ⊢; exact fin _ _ _ f1 em
              rw [if_neg c15] at em ⊢
              by_cases c16 : how = 16
              · rw [if_pos c16] at em ⊢; exact fin _ _ _ f1 em
              rw [if_neg c16] at em ⊢
              by_cases c17 : how = 17
              · rw [if_pos c17] at em ⊢; exact fin _ _ _ f1 em
              · rw [if_neg c17] at em ⊢; exact fin _ _ _ f1 em
            · rw [if_neg (show ¬ o < 0 by omega), if_neg (show ¬ o = 0 by omega)] at hr
              subst hr
              rw [if_neg (show ¬ (1 : Int32) = 2 by decide), if_pos (show (0 : Int32) ≤ 1 by decide), if_neg (show ¬ (1 : Int32) ≤ 0 by decide), if_pos (show (0 : Int32) < 1 by decide), if_neg (show ¬ (1 : Int32) < 0 by decide)]
              rw [decide_eq_false (show ¬ o < 0 by omega), decide_eq_true q, decide_eq_false (show ¬ o ≤ 0 by omega), decide_eq_true (show 0 ≤ o by omega)] at em
              by_cases c15 : how = 15
              · rw [if_pos c15] at em ⊢; exact fin _ _ _ f1 em
              rw [if_neg c15] at em ⊢
              by_cases c16 : how = 16
              · rw [if_pos c16] at em ⊢; exact fin _ _ _ f1 em
              rw [if_neg c16] at em ⊢
              by_cases c17 : how = 17
              · rw [if_pos c17] at em ⊢; exact fin _ _ _ f1 em
              · rw [if_neg c17] at em ⊢; exact fin _ _ _ f1 em
        rw [if_neg h15]
        have y15 : how < 15 := by rw [← i_le]; exact h15
        by_cases h13 : 13 ≤ how
        · rw [if_pos h13]
          have n13 : ¬ how < 13 := by rw [i_lt]; exact h13
          have nn11 : ¬ how = 11 := fun q => by rw [q] at h13; exact absurd h13 (by decide)
          have em : mbi L how s v t w = mtv (decide (mSame s v t w = decide (how = 13))) := by unfold mbi; rw [if_neg n11, if_neg n13, if_pos y15]
          refine xm_same hw ?_
          show Z E YX1_binary (d + 4) M [(1, vi how)] 252 [vi (bI (mSame s v t w)), zX16] Q
          refine iX1_binary_252 M _ _ hw ?_
          rw [if_neg nn11]
          by_cases c : how = 13
          · rw [if_pos c]
            cases hb : mSame s v t w with
            | false => rw [bI_f, if_neg (by decide)]; exact fin _ _ _ fr.rf (by rw [em, hb, decide_eq_true c]; rfl)
            | true => rw [bI_t, if_pos rfl]; exact fin _ _ _ fr.rf (by rw [em, hb, decide_eq_true c]; rfl)
          · rw [if_neg c]
            cases hb : mSame s v t w with
            | false => rw [bI_f, if_pos rfl]; exact fin _ _ _ fr.rf (by rw [em, hb, decide_eq_false c]; rfl)
            | true => rw [bI_t, if_neg (by decide)]; exact fin _ _ _ fr.rf (by rw [em, hb, decide_eq_false c]; rfl)
        rw [if_neg h13]
        have y13 : how < 13 := by rw [← i_le]; exact h13
        have nn13 : ¬ how = 13 := fun q => by rw [q] at y13; exact absurd y13 (by decide)
        have em : mbi L how s v t w = mtv (decide (meq L s v t w = decide (how = 11))) := by unfold mbi; rw [if_neg n11, if_pos y13]
        refine xm_eq hw hx hv hv' (fun x M1 hx1 f1 => ?_)
        show Z E YX1_binary (d + 4) M1 [(1, vi how)] 240 [vi x, zX16] Q
        refine sX1_binary_240 M1 _ _ (cw_scx hw f1) ?_
        refine iX1_binary_252 M1 _ _ (cw_scx hw f1) ?_
        rw [hx1, if_neg nn13]
        by_cases c : how = 11
        · rw [if_pos c]
          cases hb : meq L s v t w with
          | false => rw [bI_f, if_neg (by decide)]; exact fin _ _ _ f1 (by rw [em, hb, decide_eq_true c]; rfl)
          | true => rw [bI_t, if_pos rfl]; exact fin _ _ _ f1 (by rw [em, hb, decide_eq_true c]; rfl)
        · rw [if_neg c]
          cases hb : meq L s v t w with
          | false => rw [bI_f, if_pos rfl]; exact fin _ _ _ f1 (by rw [em, hb, decide_eq_false c]; rfl)
          | true => rw [bI_t, if_neg (by decide)]; exact fin _ _ _ f1 (by rw [em, hb, decide_eq_false c]; rfl)
      rw [if_neg h11]
      have y11 : how < 11 := by rw [← i_le]; exact h11
      have em : mbi L how s v t w = (5, mbt how ((mnV L s v).getD 0) ((mnV L t w).getD 0)) := by unfold mbi; rw [if_pos y11, if_neg n5]
      refine xm_numV hw hx hv (fun x M1 hx1 f1 g1 => ?_)
      have cw1 := cw_scx hw f1
      have second : ∀ a : Int32, a = (mnV L s v).getD 0 → Z E YX1_hasNumber (d + 3) M1 (zargs 0 [zX16, vi t, vi w]) 0 [] (zafter E YX1_binary (d + 4) [(0, zX16), (1, vi how), (6, vi a)] 110 3 [] Q) := fun a ha => by
        refine xm_numV cw1 (xtx_scx hx f1) hv' (fun y M2 hy1 f2 g2 => ?_)
        have cw2 := cw_scx cw1 f2
        have f12 := f1.tr f2
        show Z E YX1_binary (d + 4) M2 [(0, zX16), (1, vi how), (6, vi a)] 113 [vi y] Q
        have at124 : ∀ b : Int32, b = (mnV L t w).getD 0 → Z E YX1_binary (d + 4) M2 [(0, zX16), (1, vi how), (6, vi a)] 124 [vi b] Q := fun b hb => by
          rw [← ha, ← hb] at em
          unfold mbt at em
          refine iX1_binary_124 M2 _ _ _ cw2 ?_
          rw [zus31, and31]
          by_cases c5 : how = 5
          · rw [if_pos c5] at em ⊢; exact fin _ _ _ f12 em
          rw [if_neg c5] at em ⊢
          by_cases c6 : how = 6
          · rw [if_pos c6] at em ⊢; exact fin _ _ _ f12 em
          rw [if_neg c6] at em ⊢
          by_cases c7 : how = 7
          · rw [if_pos c7] at em ⊢; exact fin _ _ _ f12 em
          rw [if_neg c7] at em ⊢
          by_cases c8 : how = 8
          · rw [if_pos c8] at em ⊢; exact fin _ _ _ f12 em
          rw [if_neg c8] at em ⊢
          by_cases c9 : how = 9
          · rw [if_pos c9] at em ⊢; exact fin _ _ _ f12 em
          rw [if_neg c9] at em ⊢
          exact fin _ _ _ f12 em
        refine sX1_binary_113 M2 _ _ _ cw2 ?_
        rw [hy1]
        cases hb : mnV L t w with
        | none => rw [if_pos bns]; exact at124 _ (by rw [hb]; rfl)
        | some b => rw [if_neg (b0s b), g2 b hb]; exact at124 _ (by rw [hb]; rfl)
      show Z E YX1_binary (d + 4) M1 [(0, zX16), (1, vi how), (4, vi t), (5, vi w)] 92 [vi x] Q
      refine sX1_binary_92 M1 _ _ _ _ cw1 ?_
      rw [hx1]
      cases ha : mnV L s v with
      | none => rw [if_pos bns]; exact second _ (by rw [ha]; rfl)
      | some a => rw [if_neg (b0s a), g1 a ha]; exact second _ (by rw [ha]; rfl)
    · rw [if_neg h5]
      have y5 : how < 5 := by rw [← i_le]; exact h5
      have y11 : how < 11 := by
        obtain ⟨h, rfl, hh⟩ := hh
        simp (disch := omega) only [nn_add, nn_addl, nn_ladd, nn_mul, nn_lmul, nn_mull, nn_sub, nn_subl, nn_lsub, nn_lt, nn_le, nn_eq, nn_ltl, nn_llt, nn_lel, nn_lle, nn_eql, nn_leq, nn_m1, nn_1m, nn_ltm, nn_mlt, nn_mle, nn_lem, nn_cl, nn_in, nn_ns, nn_ns2, nn_nb, nn_nb2, nn_s1, nn_s2, nn_b1, nn_b2] at y5 ⊢
        omega
      have em : mbi L how s v t w = mo3 how (mnV L s v) (mnV L t w) := by unfold mbi; rw [if_pos y11, if_pos y5]
      refine xm_sum hw hx hv hv' hh (fun M1 f1 e1 e2 => ?_)
      show Z E YX1_binary (d + 4) M1 [] 77 [] Q
      exact iX1_binary_77 M1 (cw_scx hw f1) (hQ M1 f1 (by rw [em]; exact e1) (by rw [em]; exact e2))
  refine iX1_binary_0 M _ _ _ _ _ hw ?_
  unfold mjt at hj
  by_cases h0 : how = 0
  · rw [if_pos h0]
    rw [decide_eq_true h0, Bool.true_and, Bool.or_eq_false_iff] at hj
    have a1 : ¬ 6 ≤ s := of_decide_eq_false hj.1
    have a2 : ¬ 6 ≤ t := of_decide_eq_false hj.2
    rw [if_neg (fun q => a1 (by rw [q]; decide)), if_neg (fun q => a1 (by rw [q]; decide)), if_neg (fun q => a2 (by rw [q]; decide)), if_neg (fun q => a2 (by rw [q]; decide))]
    exact main
  · rw [if_neg h0]; exact main
/-- binary: texts joined -/
theorem xm_cat {how s v t w : Int32} (hw : cw M) (hX : xtx M L) (hL : mLok L) (hv : mok L ob s v) (hv' : mok L ob t w) (hj : mjt how s t = true)
    (h1 : ∀ k L' M', mmk L (mText L s v ++ mText L t w) = some (k, L') → xtx M' L' → fr (orP scx stX) M M' → (L' = L → fr scx M M') → gi M' 16 33 = 6 → gi M' 16 32 = nI k → Q (.inl none) M')
    (h2 : ∀ M', mmk L (mText L s v ++ mText L t w) = none → fr scx M M' → Q (.inr (51, 13, 0)) M') :
    Z E YX1_binary (d + 4) M [(0, zX16), (1, vi how), (2, vi s), (3, vi v), (4, vi t), (5, vi w)] 0 [] Q := by
  have f0 : fr scx M (si M 16 3 0) := fr.si (by unfold scx; omega)
  obtain ⟨m1, m2⟩ := mText_at hL hv
  obtain ⟨m1', m2'⟩ := mText_at hL hv'
  have main : Z E YX1_putValue (d + 3) (si M 16 3 0) (zargs 0 [zX16, vi s, vi v]) 0 [] (zafter E YX1_binary (d + 4) [(0, zX16), (4, vi t), (5, vi w)] 37 3 [] Q) := by
    refine xm_putV (w := []) (cw_scx hw f0) (xtx_scx hX f0) hL hv ⟨gi_self .., by simp, fun k hk => absurd hk (by simp)⟩ (by simp) (fun M1 r1 f1 => ?_)
    rw [List.nil_append] at r1
    have f01 := f0.tr f1
    show Z E YX1_binary (d + 4) M1 [(0, zX16), (4, vi t), (5, vi w)] 40 [] Q
    refine sX1_binary_40 M1 _ _ (cw_scx hw f01) ?_
    refine xm_putV (cw_scx hw f01) (xtx_scx hX f01) hL hv' r1 (by omega) (fun M2 r2 f2 => ?_)
    have f02 := f01.tr f2
    show Z E YX1_binary (d + 4) M2 [(0, zX16)] 48 [] Q
    refine sX1_binary_48 M2 (cw_scx hw f02) ?_
    refine xm_string (cw_scx hw f02) (xtx_scx hX f02) hL r2 (fun c hc => (List.mem_append.mp hc).elim (m2 c) (m2' c)) (fun k L' M' e s' f' g' => ?_) (fun e => ?_)
    · show Z E YX1_binary (d + 4) M' [] 55 [vi (nI k), vi 6, zX16] Q
      have cw' : cw M' := cw_fr (cw_scx hw f02) f' (fun q hq => by have := cwl_ok q hq; unfold orP scx stX; omega)
      refine iX1_binary_55 M' _ _ cw' ?_
      refine h1 k L' _ e (xtx_scx s' fx_got) ((f02.l.tr f').tr (fr.l fx_got)) (fun q => by rw [g' q]; exact f02.tr fx_got) ?_ ?_
      · rw [gi_idx (by decide), gi_self]
      · rw [gi_self]
    · show ZT E YX1_binary (d + 4) M2 [] 52 (51, 13, 0) Q
      exact ZT.out (nohand rfl) (h2 M2 e f02)
  refine iX1_binary_0 M _ _ _ _ _ hw ?_
  unfold mjt at hj
  rw [Bool.and_eq_true, Bool.or_eq_true] at hj
  rw [if_pos (of_decide_eq_true hj.1)]
  have h67 : ∀ s v : Int32, mok L ob s v → 6 ≤ s → s = 6 ∨ s = 7 := fun s v hv h6 => by
    obtain ⟨k, rfl, hk, -⟩ := hv
    simp (disch := omega) only [nn_add, nn_addl, nn_ladd, nn_mul, nn_lmul, nn_mull, nn_sub, nn_subl, nn_lsub, nn_lt, nn_le, nn_eq, nn_ltl, nn_llt, nn_lel, nn_lle, nn_eql, nn_leq, nn_m1, nn_1m, nn_ltm, nn_mlt, nn_mle, nn_lem, nn_cl, nn_in, nn_ns, nn_ns2, nn_nb, nn_nb2, nn_s1, nn_s2, nn_b1, nn_b2] at h6 ⊢
    omega
  by_cases c1 : s = 6
  · rw [if_pos c1]; exact main
  rw [if_neg c1]
  by_cases c2 : s = 7
  · rw [if_pos c2]; exact main
  rw [if_neg c2]
  by_cases c3 : t = 6
  · rw [if_pos c3]; exact main
  rw [if_neg c3]
  by_cases c4 : t = 7
  · rw [if_pos c4]; exact main
  rcases hj.2 with q | q
  · rcases h67 s v hv (of_decide_eq_true q) with r | r
    · exact absurd r c1
    · exact absurd r c2
  · rcases h67 t w hv' (of_decide_eq_true q) with r | r
    · exact absurd r c3
    · exact absurd r c4
/-- binaryOf of the twin: texts joined lie in the row -/
theorem tm_cat {how s v t w : Int32} (hS : tS T L) (hL : mLok L) (hv : mok L ob s v) (hv' : mok L ob t w) (hj : mjt how s t = true)
    (h1 : ∀ T', tT T' (mText L s v ++ mText L t w) → fr scr T T' → Q (.inl none) T') :
    Zm E YX8_binaryOf_2 (d + 4) T [(0, T97), (1, vi how), (2, vi s), (3, vi v), (4, vi t), (5, vi w)] 0 [] Q := by
  have f0 : fr scr T (si T 97 11 0) := fr.si (scr_97 (by omega))
  obtain ⟨m1, m2⟩ := mText_at hL hv
  refine sX8_binaryOf_2_0 T _ _ _ _ _ ?_
  refine tm_join (fun x hx => ?_)
  rw [hj, bI_t] at hx
  subst hx
  show Zm E YX8_binaryOf_2 (d + 4) T [(0, T97), (1, vi how), (2, vi s), (3, vi v), (4, vi t), (5, vi w)] 8 [vi 1] Q
  refine sX8_binaryOf_2_8 T _ _ _ _ _ _ ?_
  rw [if_neg (by decide)]
  refine tm_putV (w := []) (tS_scr hS f0) hL hv ⟨gi_self .., by simp, fun k hk => absurd hk (by simp)⟩ (by simp) (fun T1 t1 f1 => ?_)
  rw [List.nil_append] at t1
  have f01 := f0.tr f1.sc
  show Zm E YX8_binaryOf_2 (d + 4) T1 [(0, T97), (4, vi t), (5, vi w)] 22 [] Q
  refine sX8_binaryOf_2_22 T1 _ _ ?_
  refine tm_putV (tS_scr hS f01) hL hv' t1 (by omega) (fun T2 t2 f2 => ?_)
  exact sX8_binaryOf_2_30 T2 (h1 T2 t2 (f01.tr f2.sc))
/-- typeOf -/
theorem tm_typ {s v : Int32} (hv : mok L ob s v) (ho : ob ≤ 300) (hQ : ∀ x, x = mty s (gi T 141 v.toNatClampNeg) → Q (.inl (some (vi x))) T) : Zm E YX8_typeOf d T [(0, T97), (1, vi s), (2, vi v)] 0 [] Q := by
  obtain ⟨k, rfl, hk, -, h7⟩ := hv
  refine sX8_typeOf_0 T _ _ ?_
  unfold mty at hQ
  by_cases e0 : nI k = 0
  · rw [if_pos e0] at hQ ⊢; exact hQ _ rfl
  rw [if_neg e0] at hQ ⊢
  by_cases e1 : nI k = 1
  · rw [if_pos e1] at hQ ⊢; exact hQ _ rfl
  rw [if_neg e1] at hQ ⊢
  by_cases e2 : nI k = 2
  · rw [if_pos e2] at hQ ⊢; exact hQ _ rfl
  rw [if_neg e2] at hQ ⊢
  by_cases e3 : nI k = 3
  · rw [if_pos e3] at hQ ⊢; exact hQ _ rfl
  rw [if_neg e3] at hQ ⊢
  by_cases e4 : nI k = 4
  · rw [if_pos e4] at hQ ⊢; exact hQ _ rfl
  rw [if_neg e4] at hQ ⊢
  by_cases e5 : nI k = 5
  · rw [if_pos e5] at hQ ⊢; exact hQ _ rfl
  rw [if_neg e5] at hQ ⊢
  by_cases e6 : nI k = 6
  · rw [if_pos e6] at hQ ⊢; exact hQ _ rfl
  rw [if_neg e6] at hQ ⊢
  obtain ⟨j, rfl, hj⟩ := h7 (by
    simp (disch := omega) only [nn_add, nn_addl, nn_ladd, nn_mul, nn_lmul, nn_mull, nn_sub, nn_subl, nn_lsub, nn_lt, nn_le, nn_eq, nn_ltl, nn_llt, nn_lel, nn_lle, nn_eql, nn_leq, nn_m1, nn_1m, nn_ltm, nn_mlt, nn_mle, nn_lem, nn_cl, nn_in, nn_ns, nn_ns2, nn_nb, nn_nb2, nn_s1, nn_s2, nn_b1, nn_b2] at e0 e1 e2 e3 e4 e5 e6
    omega)
  refine ⟨by simp (disch := omega) only [nn_add, nn_addl, nn_ladd, nn_mul, nn_lmul, nn_mull, nn_sub, nn_subl, nn_lsub, nn_lt, nn_le, nn_eq, nn_ltl, nn_llt, nn_lel, nn_lle, nn_eql, nn_leq, nn_m1, nn_1m, nn_ltm, nn_mlt, nn_mle, nn_lem, nn_cl, nn_in, nn_ns, nn_ns2, nn_nb, nn_nb2, nn_s1, nn_s2, nn_b1, nn_b2]; omega, ?_⟩
  by_cases c : gi T 141 (nI j).toNatClampNeg = 1
  · rw [if_pos c] at hQ ⊢; exact hQ _ rfl
  · rw [if_neg c] at hQ ⊢; exact hQ _ rfl
theorem xm_typ {s v : Int32} (hw : cw M) (hv : mok L ob s v) (ho : ob ≤ 300) (hQ : ∀ x, x = mty s (gi M 38 v.toNatClampNeg) → Q (.inl (some (vi x))) M) : Z E YX1_typeOf d M [(0, zX16), (1, vi s), (2, vi v)] 0 [] Q := by
  obtain ⟨k, rfl, hk, -, h7⟩ := hv
  refine sX1_typeOf_0 M _ _ hw ?_
  unfold mty at hQ
  by_cases e0 : nI k = 0
  · rw [if_pos e0] at hQ ⊢; exact hQ _ rfl
  rw [if_neg e0] at hQ ⊢
  by_cases e1 : nI k = 1
  · rw [if_pos e1] at hQ ⊢; exact hQ _ rfl
  rw [if_neg e1] at hQ ⊢
  by_cases e2 : nI k = 2
  · rw [if_pos e2] at hQ ⊢; exact hQ _ rfl
  rw [if_neg e2] at hQ ⊢
  by_cases e3 : nI k = 3
  · rw [if_pos e3] at hQ ⊢; exact hQ _ rfl
  rw [if_neg e3] at hQ ⊢
  by_cases e4 : nI k = 4
  · rw [if_pos e4] at hQ ⊢; exact hQ _ rfl
  rw [if_neg e4] at hQ ⊢
  by_cases e5 : nI k = 5
  · rw [if_pos e5] at hQ ⊢; exact hQ _ rfl
  rw [if_neg e5] at hQ ⊢
  by_cases e6 : nI k = 6
  · rw [if_pos e6] at hQ ⊢; exact hQ _ rfl
  rw [if_neg e6] at hQ ⊢
  obtain ⟨j, rfl, hj⟩ := h7 (by
    simp (disch := omega) only [nn_add, nn_addl, nn_ladd, nn_mul, nn_lmul, nn_mull, nn_sub, nn_subl, nn_lsub, nn_lt, nn_le, nn_eq, nn_ltl, nn_llt, nn_lel, nn_lle, nn_eql, nn_leq, nn_m1, nn_1m, nn_ltm, nn_mlt, nn_mle, nn_lem, nn_cl, nn_in, nn_ns, nn_ns2, nn_nb, nn_nb2, nn_s1, nn_s2, nn_b1, nn_b2] at e0 e1 e2 e3 e4 e5 e6
    omega)
  refine ⟨by simp (disch := omega) only [nn_add, nn_addl, nn_ladd, nn_mul, nn_lmul, nn_mull, nn_sub, nn_subl, nn_lsub, nn_lt, nn_le, nn_eq, nn_ltl, nn_llt, nn_lel, nn_lle, nn_eql, nn_leq, nn_m1, nn_1m, nn_ltm, nn_mlt, nn_mle, nn_lem, nn_cl, nn_in, nn_ns, nn_ns2, nn_nb, nn_nb2, nn_s1, nn_s2, nn_b1, nn_b2]; omega, ?_⟩
  by_cases c : gi M 38 (nI j).toNatClampNeg = 1
  · rw [if_pos c] at hQ ⊢; exact hQ _ rfl
  · rw [if_neg c] at hQ ⊢; exact hQ _ rfl
/-- indexOf -/
theorem tm_idx {s : Nat} {w : List Int32} (hS : tS T L) (hs : L[s]? = some w) (hQ : ∀ x, x = mix w → Q (.inl (some (vi x))) T) : Zm E YX8_indexOf (d + 1) T [(0, T97), (1, vi (nI s))] 0 [] Q := by
  have h1 := hS.2.1
  have h2 : s < L.length := (List.getElem?_eq_some_iff.mp hs).1
  obtain ⟨x1, x2, x3⟩ := hS.2.2 s w hs
  refine iX8_indexOf_0 T _ ?_
  unfold mix at hQ
  simp (disch := omega) only [x1, nn_add, nn_addl, nn_ladd, nn_mul, nn_lmul, nn_mull, nn_sub, nn_subl, nn_lsub, nn_lt, nn_le, nn_eq, nn_ltl, nn_llt, nn_lel, nn_lle, nn_eql, nn_leq, nn_m1, nn_1m, nn_ltm, nn_mlt, nn_mle, nn_lem, nn_cl, nn_in, nn_ns, nn_ns2, nn_nb, nn_nb2, nn_s1, nn_s2, nn_b1, nn_b2]
  refine ⟨by omega, ?_⟩
  by_cases c0 : w.length < 1
  · rw [if_pos c0]; exact hQ _ (by rw [if_neg (by omega), if_neg (by omega)])
  rw [if_neg c0]
  have e0 : gi T 100 (60 * s) = w.getD 0 0 := x3 0 (by omega)
  by_cases c2 : w.length ≤ 2
  · rw [if_pos c2]
    refine ⟨by omega, ?_⟩
    by_cases d2 : w.length = 2
    · rw [if_pos d2]
      refine ⟨by omega, ?_⟩
      have e1 : gi T 100 (60 * s + 1) = w.getD 1 0 := x3 1 (by omega)
      rw [if_neg (by omega), if_pos d2] at hQ
      rw [e0, e1]
      by_cases q1 : w.getD 0 0 < 48
      · rw [if_pos q1]; exact hQ _ (by rw [if_neg (fun z => lxD_l q1 z.1)])
      rw [if_neg q1]
      by_cases q2 : 57 < w.getD 0 0
      · rw [if_pos q2]; exact hQ _ (by rw [if_neg (fun z => lxD_g q2 z.1)])
      rw [if_neg q2]
      by_cases q3 : w.getD 1 0 < 48
      · rw [if_pos q3]; exact hQ _ (by rw [if_neg (fun z => lxD_l q3 z.2.1)])
      rw [if_neg q3]
      by_cases q4 : 57 < w.getD 1 0
      · rw [if_pos q4]; exact hQ _ (by rw [if_neg (fun z => lxD_g q4 z.2.1)])
      rw [if_neg q4]
      by_cases q5 : w.getD 0 0 = 48
      · rw [if_pos q5]; exact hQ _ (by rw [if_neg (fun z => z.2.2 q5)])
      rw [if_neg q5, if_neg (show ¬ w.length = 1 by omega)]
      exact hQ _ (by rw [if_pos ⟨lxD_t q1 q2, lxD_t q3 q4, q5⟩])
    · rw [if_neg d2]
      have d1 : w.length = 1 := by omega
      rw [if_pos d1] at hQ
      rw [e0]
      by_cases q1 : w.getD 0 0 < 48
      · rw [if_pos q1]; exact hQ _ (by rw [if_neg (fun z => lxD_l q1 z)])
      rw [if_neg q1]
      by_cases q2 : 57 < w.getD 0 0
      · rw [if_pos q2]; exact hQ _ (by rw [if_neg (fun z => lxD_g q2 z)])
      rw [if_neg q2, if_pos d1]
      exact hQ _ (by rw [if_pos (lxD_t q1 q2)])
  · rw [if_neg c2]; exact hQ _ (by rw [if_neg (by omega), if_neg (by omega)])
theorem xm_idx {s : Nat} (hw : cw M) (hx : xtx M L) (hs : s < L.length) (hQ : ∀ x, x = mix L[s] → Q (.inl (some (vi x))) M) : Z E YX1_indexOf (d + 1) M [(0, zX16), (1, vi (nI s))] 0 [] Q := by
  obtain ⟨t1, t2, -, t4, -⟩ := id hx
  obtain ⟨off, o1, o2, o3, o4, o5⟩ := xtx_at hx hs
  generalize hwd : L[s] = w at *
  have hsl : s < 400 := by omega
  refine iX1_indexOf_0 M _ hw ⟨18, 2201, t1, ?_⟩
  have step : ∀ (k : Nat) (v : Int32), k < w.length → (lxD (w.getD k 0) = true → Z E YX1_indexOf (d + 1) M [(0, zX16), (1, vi (nI s)), (2, vi (nI w.length)), (3, vi ((10 : Int32) * v + w.getD k 0 - 48)), (4, vi (nI (k + 1)))] 44 [] Q) → (¬ lxD (w.getD k 0) = true → Q (.inl (some (vi (-1)))) M) → Z E YX1_indexOf (d + 1) M [(0, zX16), (1, vi (nI s)), (2, vi (nI w.length)), (3, vi v), (4, vi (nI k))] 44 [] Q := fun k v hk g1 g2 => by
    refine iX1_indexOf_44 M _ _ _ _ hw ?_
    simp (disch := omega) only [nn_add, nn_addl, nn_ladd, nn_mul, nn_lmul, nn_mull, nn_sub, nn_subl, nn_lsub, nn_lt, nn_le, nn_eq, nn_ltl, nn_llt, nn_lel, nn_lle, nn_eql, nn_leq, nn_m1, nn_1m, nn_ltm, nn_mlt, nn_mle, nn_lem, nn_cl, nn_in, nn_ns, nn_ns2, nn_nb, nn_nb2, nn_s1, nn_s2, nn_b1, nn_b2]
    rw [if_neg (show ¬ w.length ≤ k by omega)]
    refine ⟨18, 2201, t1, ?_⟩
    simp (disch := omega) only [o1, nn_add, nn_addl, nn_ladd, nn_mul, nn_lmul, nn_mull, nn_sub, nn_subl, nn_lsub, nn_lt, nn_le, nn_eq, nn_ltl, nn_llt, nn_lel, nn_lle, nn_eql, nn_leq, nn_m1, nn_1m, nn_ltm, nn_mlt, nn_mle, nn_lem, nn_cl, nn_in, nn_ns, nn_ns2, nn_nb, nn_nb2, nn_s1, nn_s2, nn_b1, nn_b2]
    refine ⟨by omega, 19, 40000, t2, by omega, ?_⟩
    rw [o5 k hk]
    by_cases q1 : w.getD k 0 < 48
    · rw [if_pos q1]; exact g2 (lxD_l q1)
    rw [if_neg q1]
    by_cases q2 : 57 < w.getD k 0
    · rw [if_pos q2]; exact g2 (lxD_g q2)
    rw [if_neg q2]
    exact g1 (lxD_t q1 q2)
  have stop : ∀ v : Int32, v = mix w → Z E YX1_indexOf (d + 1) M [(0, zX16), (1, vi (nI s)), (2, vi (nI w.length)), (3, vi v), (4, vi (nI w.length))] 44 [] Q := fun v hv => by
    refine iX1_indexOf_44 M _ _ _ _ hw ?_
    rw [if_pos (nI_le (Nat.le_refl _) (by omega))]
    exact hQ _ hv
  have z0 : ∀ c : Int32, (10 : Int32) * 0 + c - 48 = c - 48 := fun c => by rw [Int32.mul_zero, Int32.zero_add]
  unfold mix at hQ stop
  simp (disch := omega) only [o1, o2, nn_add, nn_addl, nn_ladd, nn_mul, nn_lmul, nn_mull, nn_sub, nn_subl, nn_lsub, nn_lt, nn_le, nn_eq, nn_ltl, nn_llt, nn_lel, nn_lle, nn_eql, nn_leq, nn_m1, nn_1m, nn_ltm, nn_mlt, nn_mle, nn_lem, nn_cl, nn_in, nn_ns, nn_ns2, nn_nb, nn_nb2, nn_s1, nn_s2, nn_b1, nn_b2]
  rw [show off + w.length - off = w.length by omega]
  refine ⟨by omega, by omega, ?_⟩
  by_cases c0 : w.length = 0
  · rw [if_pos c0]; exact hQ _ (by rw [if_neg (by omega), if_neg (by omega)])
  rw [if_neg c0]
  by_cases c2 : 2 < w.length
  · rw [if_pos c2]; exact hQ _ (by rw [if_neg (by omega), if_neg (by omega)])
  rw [if_neg c2]
  by_cases d2 : w.length = 2
  · rw [if_neg (show ¬ w.length = 1 by omega), if_pos d2] at hQ stop
    rw [if_pos d2]
    refine ⟨19, 40000, t2, by omega, ?_⟩
    rw [o5 0 (by omega)]
    by_cases q5 : w.getD 0 0 = 48
    · rw [if_pos q5]; exact hQ _ (by rw [if_neg (fun z => z.2.2 q5)])
    rw [if_neg q5]
    refine step 0 0 (by omega) (fun g1 => step 1 _ (by omega) (fun g2 => ?_) (fun g2 => hQ _ (by rw [if_neg (fun z => g2 z.2.1)]))) (fun g1 => hQ _ (by rw [if_neg (fun z => g1 z.1)]))
    rw [z0]
    have := stop _ (if_pos ⟨g1, g2, q5⟩).symm
    rw [d2] at this ⊢
    exact this
  · have d1 : w.length = 1 := by omega
    rw [if_pos d1] at hQ stop
    rw [if_neg d2]
    refine step 0 0 (by omega) (fun g1 => ?_) (fun g1 => hQ _ (by rw [if_neg (fun z => g1 z)]))
    rw [z0]
    have := stop _ (if_pos g1).symm
    rw [d1] at this ⊢
    exact this
end
