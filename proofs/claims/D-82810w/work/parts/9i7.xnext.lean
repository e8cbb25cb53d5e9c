/-! THE COMPONENT's LEXER: the next token -/
abbrev tok : Type := Int32 × Int32 × Nat × Nat × Nat
/-- the text that a token tells; the names with it -/
def tkX (n : Nat) (c : Nat → Int32) (t : tok) : List Int32 := lxTx n c t.2.2.1 t.1 t.2.2.2.1
def tkL (n : Nat) (c : Nat → Int32) (L : List (List Int32)) (t : tok) : List (List Int32) := if t.1 = 1 ∨ t.1 = 4 then nmA L (tkX n c t) else L
/-- the lexer a has the token t; lp: the line of the one before -/
def xTk (M : zM) (a n : Nat) (c : Nat → Int32) (t : tok) (lp : Nat) (L : List (List Int32)) : Prop :=
  xLx M a n c t.2.2.2.1 t.2.2.2.2 ∧ gi M a 3 = t.1 ∧ gi M a 4 = nI t.2.2.2.2 ∧ gi M a 5 = nI lp ∧ (t.1 = 2 → gi M a 6 = t.2.1) ∧ (t.1 = 5 → gi M a 6 = sgX t.2.1) ∧ (t.1 = 3 → gi M a 7 = t.2.1) ∧ (t.1 = 1 ∨ t.1 = 4 → gi M a 6 = tfd 0 L (tkX n c t) ∧ tkX n c t ∈ L)
section
variable {E : zE} {d : Nat} {Q : zO → zM → Prop} {n : Nat} {c : Nat → Int32} {a : Nat}
theorem x_next {p l : Nat} {M : zM} {L : List (List Int32)} (h : xLx M a n c p l) (hp : p ≤ n) (hT : xTb M) (hg : xgp M) (hS : xS M 17 18 19 L) (c1 : L.length < 2199) (c2 : L.flatten.length + 60 ≤ 40000) (hc : ∀ k, ∃ j, j < 256 ∧ c k = nI j)
    (hy : ¬ (tkS n c p l).1 = 6 → ∀ M', fr (tkP a) M M' → xTk M' a n c (tkS n c p l) l (tkL n c L (tkS n c p l)) → xS M' 17 18 19 (tkL n c L (tkS n c p l)) → Q (.inl none) M')
    (hn : (tkS n c p l).1 = 6 → ∀ o M', fO (tkP a) M (1 + 8 * (tkS n c p l).2.2.2.2) o M' → (zsz M' = zsz M + 1 ∧ zsu M' = zsu M + 7) → Q o M') : Z E YX10_next (d + 9) M [(0, vr (some (a, 9, 0)))] 0 [] Q := by
  have hn0 := h.2.1.2.1
  have ha := h.2.2.1
  have e5 := h.2.2.2.2
  refine sX10_next_0 M a ⟨by omega, ?_⟩
  rw [e5]
  have f5 : fr (tkP a) M (si M a 5 (nI l)) := fr.si (.inl ⟨rfl, by decide⟩)
  have q5 : gi (si M a 5 (nI l)) a 5 = nI l := gi_self ..
  have h5 : xLx (si M a 5 (nI l)) a n c p l := xLx_fg h f5.fg ((gi_idx (by decide)).trans h.2.2.2.1) ((gi_idx (by decide)).trans e5)
  have hS5 : xS (si M a 5 (nI l)) 17 18 19 L := ⟨by rw [gi_oth (by omega)]; exact hS.1, fun k hk => by rw [gi_oth (by omega)]; exact hS.2.1 k hk, fun k hk => by rw [gi_oth (by omega)]; exact hS.2.2 k hk⟩
  have hT5 : xTb (si M a 5 (nI l)) := xTb_fg hT (fr.si ⟨rfl, trivial⟩ : fr (fun x _ => x = a ∧ True) M _).fg (by omega) (fun x k h1 h2 => by omega)
  have hg5 : xgp (si M a 5 (nI l)) := hg
  have sz5 : zsz (si M a 5 (nI l)) = zsz M := rfl
  generalize si M a 5 (nI l) = M1 at *
  have hSp := lxS_ge n c h.2.1.2.2.2 n p l hp
  have hSt : tkS n c p l = if (lxS n c n p l).2.2 = true then ((lxO n c (lxS n c n p l).1).1, (lxO n c (lxS n c n p l).1).2.1, (lxS n c n p l).1, (lxO n c (lxS n c n p l).1).2.2, (lxS n c n p l).2.1)
    else (6, 0, (lxS n c n p l).1, (lxS n c n p l).1, (lxS n c n p l).2.1) := rfl
  refine x_space (d := d + 1) n p l M1 (by omega) hp h5 (fun hb M2 f2 h2 => ?_) (fun hb o M2 f2 hz => ?_)
  · rw [if_pos hb] at hSt
    generalize lxS n c n p l = r at *
    obtain ⟨w1, w2, w3, w4, w5⟩ := id h2
    have sz2 : zsz M2 = zsz M := f2.1.1.trans sz5
    have g5 : gi M2 a 5 = nI l := ((f2.2 a 5 (by unfold spP; omega)).1).trans q5
    have hT2 : xTb M2 := xTb_fg hT5 f2.fg (by omega) (fun x k h1 h2 => by unfold spP; omega)
    have hg2 : xgp M2 := xgp_fg hg5 f2.fg (by omega) (by unfold spP; omega) (by unfold spP; omega)
    have hS2 : xS M2 17 18 19 L := xS_fg hS5 f2.fg (by omega) (by unfold spP; omega) (fun k => by unfold spP; omega) (fun k => by unfold spP; omega)
    have F2 : fr (tkP a) M M2 := f5.tr (f2.mono fun x k q => by unfold spP at q; unfold tkP; omega)
    show Z E YX10_next (d + 8 + 1) M2 [(0, vr (some (a, 9, 0)))] 12 [] Q
    refine iX10_next_12 M2 a ⟨by omega, 16, w3.2.2, ?_⟩
    rw [w5]
    have f3 : fr (fun x k => x = a ∧ k = 4) M2 (si M2 a 4 (nI r.2.1)) := fr.si ⟨rfl, rfl⟩
    have g4 : gi (si M2 a 4 (nI r.2.1)) a 4 = nI r.2.1 := gi_self ..
    have g1 : gi (si M2 a 4 (nI r.2.1)) a 1 = nI r.1 := (gi_idx (by decide)).trans w4
    have F3 : fr (tkP a) M (si M2 a 4 (nI r.2.1)) := F2.tr (f3.mono fun x k q => by unfold tkP; omega)
    have h3 : xLx (si M2 a 4 (nI r.2.1)) a n c r.1 r.2.1 := xLx_fg h2 (f3.mono fun x k q => by unfold tkP; omega).fg g1 ((gi_idx (by decide)).trans w5)
    have g5' : gi (si M2 a 4 (nI r.2.1)) a 5 = nI l := (gi_idx (by decide)).trans g5
    have hT3 : xTb (si M2 a 4 (nI r.2.1)) := xTb_fg hT2 f3.fg (by omega) (fun x k h1 h2 => by omega)
    have hg3 : xgp (si M2 a 4 (nI r.2.1)) := hg2
    have hS3 : xS (si M2 a 4 (nI r.2.1)) 17 18 19 L := xS_fg hS2 f3.fg (by omega) (by omega) (fun k => by omega) (fun k => by omega)
    have sz3 : zsz (si M2 a 4 (nI r.2.1)) = zsz M := sz2
    generalize si M2 a 4 (nI r.2.1) = M3 at *
    obtain ⟨v1, v2, v3, v4, v5⟩ := id h3
    rw [v2.1, g1]
    by_cases hend : n ≤ r.1
    · rw [if_pos (nI_le hend (by omega)), if_neg (nI_nlt hend (by omega)), gi_self, if_neg (by decide)]
      have hO : lxO n c r.1 = (0, 0, r.1) := by unfold lxO; rw [if_pos hend]
      rw [hO] at hSt
      have f4 : fr (tkP a) M3 (si M3 a 3 0) := fr.si (.inl ⟨rfl, by decide⟩)
      rw [hSt] at hy
      dsimp only at hy
      refine hy (by decide) _ (F3.tr f4) ⟨xLx_fg h3 f4.fg ((gi_idx (by decide)).trans g1) ((gi_idx (by decide)).trans v5), gi_self .., (gi_idx (by decide)).trans g4, (gi_idx (by decide)).trans g5', fun z => absurd z (show ¬ (0 : Int32) = 2 by decide), fun z => absurd z (show ¬ (0 : Int32) = 5 by decide), fun z => absurd z (show ¬ (0 : Int32) = 3 by decide), fun z => z.elim (fun z => absurd z (show ¬ (0 : Int32) = 1 by decide)) (fun z => absurd z (show ¬ (0 : Int32) = 4 by decide))⟩ ?_
      show xS _ 17 18 19 (if (0 : Int32) = 1 ∨ (0 : Int32) = 4 then _ else _)
      rw [if_neg (show ¬ ((0 : Int32) = 1 ∨ (0 : Int32) = 4) by decide)]
      exact xS_fg hS3 (fr.si ⟨rfl, rfl⟩ : fr (fun x k => x = a ∧ k = 3) M3 _).fg (by omega) (by omega) (fun k => by omega) (fun k => by omega)
    rw [if_neg (nI_ge (by omega) (by omega))]
    refine ⟨21, 4000, cw_t w1, nI_in (by omega) (by omega), ?_⟩
    rw [if_pos (nI_lt (by omega) (by omega)), xl_at v2 (by omega)]
    -- what stands behind each kind of token
    have post : xPost (fun o M4 => o = .inl none ∧ (if gi M4 a 3 = 6 then Z E YX10_fault (d + 8) M4 (zargs 0 [vr (some (a, 9, 0)), vi 1]) 0 [] (zafter E YX10_next (d + 8 + 1) [] 114 3 [] Q) else Q (.inl none) M4)) n c a M3 r.1 (lxO n c r.1) L := fun M4 L' f4 k3 k1 k6 k5 k7 kn kL kS => by
      refine ⟨rfl, ?_⟩
      have F4 : fr (tkP a) M M4 := F3.tr (f4.mono tkQ_P)
      have z4 : gi M4 a 4 = nI r.2.1 := ((f4.2 a 4 (by unfold tkQ; omega)).1).trans g4
      have z5 : gi M4 a 5 = nI l := ((f4.2 a 5 (by unfold tkQ; omega)).1).trans g5'
      have z2 : gi M4 a 2 = nI r.2.1 := ((f4.2 a 2 (by unfold tkQ; omega)).1).trans v5
      generalize hO : lxO n c r.1 = O at *
      rw [k3]
      by_cases h6 : O.1 = 6
      · rw [if_pos h6]
        have s4 : zsz M4 = zsz M := F4.1.1
        refine x_fault (d := d + 2) (k := 1) (by omega) (by omega) z4 (fun M5 f5' e6 s5 u5 => ?_)
        show Z E YX10_next (d + 8 + 1) M5 [] 117 [vr (some (zsz M4, 12, 0))] Q
        refine sX10_next_117 M5 _ ⟨zsz M4, rfl, hn (by rw [hSt]; exact h6) _ M5 ⟨zsz M4, rfl, by rw [hSt]; exact e6, ⟨by omega, by omega⟩, F4.fg.tr (f5'.mono fun _ _ _ q => q.elim)⟩ ⟨by omega, by rw [u5, F4.1.2]⟩⟩
      · rw [if_neg h6]
        have hX : tkX n c (tkS n c p l) = lxTx n c r.1 O.1 O.2.2 := by rw [hSt]; rfl
        have eL : tkL n c L (tkS n c p l) = L' := by
          unfold tkL
          rw [hX, hSt]
          by_cases hk : O.1 = 1 ∨ O.1 = 4
          · rw [if_pos hk, (kn hk).2]
          · rw [if_neg hk]; exact (kL hk h6).symm
        rw [eL] at hy
        refine hy (by rw [hSt]; exact h6) M4 F4 ⟨?_, ?_, ?_, z5, ?_, ?_, ?_, ?_⟩ (kS h6)
        · rw [hSt]; exact xLx_fg h3 (f4.mono tkQ_P).fg (k1 h6) z2
        · rw [hSt]; exact k3
        · rw [hSt]; exact z4
        · rw [hSt]; exact k6
        · rw [hSt]; exact k5
        · rw [hSt]; exact k7
        · rw [hX, hSt]
          exact fun z => ⟨(kn z).1, by rw [(kn z).2]; exact nmA_mem _ _⟩
    refine x_starts v1 ?_
    show Z E YX10_next (d + 8 + 1) M3 [(0, vr (some (a, 9, 0))), (1, vi (c r.1))] 55 [vi (bI (lxL (c r.1)))] Q
    refine iX10_next_55 M3 a _ _ v1 ?_
    have wd : Z E YX10_word (d + 3 + 5) M3 (zargs 0 [vr (some (a, 9, 0))]) 0 [] (fun o M4 => o = .inl none ∧ (if gi M4 a 3 = 6 then Z E YX10_fault (d + 8) M4 (zargs 0 [vr (some (a, 9, 0)), vi 1]) 0 [] (zafter E YX10_next (d + 8 + 1) [] 114 3 [] Q) else Q (.inl none) M4)) → Z E YX10_word (d + 8) M3 (zargs 0 [vr (some (a, 9, 0))]) 0 [] (zafter E YX10_next (d + 8 + 1) [(0, vr (some (a, 9, 0)))] 59 3 [] Q) := fun z => z.mono fun o M4 k => by
      obtain ⟨rfl, k⟩ := k
      show Z E YX10_next (d + 8 + 1) M4 [(0, vr (some (a, 9, 0)))] 62 [] Q
      exact iX10_next_62 M4 a k
    cases hL : lxL (c r.1) with
    | true =>
      rw [bI_t, if_neg (by decide)]
      exact wd (x_word h3 hT3 hg3 hS3 c1 (by omega) (by omega) hL post)
    | false =>
      rw [bI_f, if_pos rfl]
      have other : lxD (c r.1) = false → (if c r.1 = 39 then Z E YX10_string (d + 8) M3 (zargs 0 [vr (some (a, 9, 0)), vi (c r.1)]) 0 [] (zafter E YX10_next (d + 8 + 1) [(0, vr (some (a, 9, 0)))] 93 3 [] Q) else if c r.1 = 34 then Z E YX10_string (d + 8) M3 (zargs 0 [vr (some (a, 9, 0)), vi (c r.1)]) 0 [] (zafter E YX10_next (d + 8 + 1) [(0, vr (some (a, 9, 0)))] 93 3 [] Q) else Z E YX10_longest (d + 8) M3 (zargs 0 [vr (some (a, 9, 0))]) 0 [] (zafter E YX10_next (d + 8 + 1) [(0, vr (some (a, 9, 0)))] 100 3 [] Q)) := fun hD => by
        have st : c r.1 = 34 ∨ c r.1 = 39 → Z E YX10_string (d + 4 + 4) M3 (zargs 0 [vr (some (a, 9, 0)), vi (c r.1)]) 0 [] (zafter E YX10_next (d + 8 + 1) [(0, vr (some (a, 9, 0)))] 93 3 [] Q) := fun hq => (x_string h3 hg3 hS3 c1 c2 (by omega) hL hD hq post).mono fun o M4 k => by
          obtain ⟨rfl, k⟩ := k
          show Z E YX10_next (d + 8 + 1) M4 [(0, vr (some (a, 9, 0)))] 96 [] Q
          exact iX10_next_96 M4 a k
        by_cases z1 : c r.1 = 39
        · rw [if_pos z1]; exact st (.inr z1)
        rw [if_neg z1]
        by_cases z2 : c r.1 = 34
        · rw [if_pos z2]; exact st (.inl z2)
        rw [if_neg z2]
        exact (x_longest (d := d + 6) h3 hT3 hS3 (by omega) hL hD (fun z => z.elim z2 z1) hc post).mono fun o M4 k => by
          obtain ⟨rfl, k⟩ := k
          show Z E YX10_next (d + 8 + 1) M4 [(0, vr (some (a, 9, 0)))] 103 [] Q
          exact sX10_next_103 M4 a k
      by_cases h48 : c r.1 < 48
      · rw [if_pos h48]
        exact other (by unfold lxD; rw [decide_eq_false (show ¬ (48 : Int32) ≤ c r.1 by rw [i_le]; exact h48)]; rfl)
      rw [if_neg h48]
      by_cases h57 : 57 < c r.1
      · rw [if_pos h57]
        exact other (by unfold lxD; rw [decide_eq_false (show ¬ c r.1 ≤ (57 : Int32) by rw [i_le]; exact h57), Bool.and_false])
      rw [if_neg h57]
      have hD : lxD (c r.1) = true := by
        unfold lxD
        rw [decide_eq_true (show (48 : Int32) ≤ c r.1 by rw [← i_lt]; exact h48), decide_eq_true (show c r.1 ≤ (57 : Int32) by rw [← i_lt]; exact h57)]; rfl
      exact (x_digits (d := d + 6) h3 hS3 (by omega) hL hD post).mono fun o M4 k => by
        obtain ⟨rfl, k⟩ := k
        show Z E YX10_next (d + 8 + 1) M4 [(0, vr (some (a, 9, 0)))] 76 [] Q
        exact iX10_next_76 M4 a k
  · rw [if_neg (by rw [hb]; decide)] at hSt
    obtain ⟨q, rfl, x1, x2, x3⟩ := f2
    show ZT E YX10_next (d + 8 + 1) M2 _ 9 (q, 12, 0) Q
    refine ZT.out (nohand rfl) (hn (by rw [hSt]) _ M2 ⟨q, rfl, by rw [hSt]; exact x1, ⟨by rw [← sz5]; exact x2.1, x2.2⟩, f5.fg.tr (x3.mono fun x k _ q => by unfold spP at q; unfold tkP; omega)⟩ ⟨by rw [hz.1, sz5], ?_⟩)
    rw [hz.2]; exact congrArg (· + 7) f5.1.2
end
