/-! THE TWIN's LEXER, on: strings, signs, one token -/
section
variable {E : zE} {d : Nat} {Q : zO → zM → Prop} {n : Nat} {c : Nat → Int32} {tk : Nat}
theorem lxE_or (x : Int32) : lxE x = true ↔ x = 110 ∨ x = 116 ∨ x = 92 ∨ x = 39 ∨ x = 34 := by
  unfold lxE; simp [or_assoc]
theorem t_cutString {p : Nat} {M : zM} (hs : tsrc M n c) (hp : p < n) (h0 : lxL (c p) = false) (h1 : lxD (c p) = false) (h2 : c p = 34 ∨ c p = 39) (e18 : gi M 97 18 = nI p) (e12 : gi M 97 12 = nI tk) (htk : tk < 4002)
    (hQ : ∀ M', fr (tPo tk) M M' → tOk M' tk (lxO n c p) → Q (.inl none) M') : Zm E YX8_cutString (d + 1) M [(0, T97), (1, vi (c p))] 0 [] Q := by
  have h4000 := hs.2.1
  have hO : lxO n c p = (if (lxQ n c (c p) n (p + 1) 0).2.2 = true ∧ (lxQ n c (c p) n (p + 1) 0).1 < n ∧ (lxQ n c (c p) n (p + 1) 0).2.1 ≤ 40 then 4 else 6, 0, (lxQ n c (c p) n (p + 1) 0).1 + 1) := by
    unfold lxO; rw [if_neg (by omega), h0, if_neg (by decide), h1, if_neg (by decide), if_pos h2]
  rw [hO] at hQ
  generalize hR : lxQ n c (c p) n (p + 1) 0 = R at hQ
  have hq92 : ¬ c p = 92 := by rcases h2 with h | h <;> (rw [h]; decide)
  generalize hq : c p = q at hR hq92
  have e12' : ∀ M1, fr (tPo tk) M M1 → gi M1 97 12 = nI tk := fun M1 hfr => ((hfr.2 97 12 (by unfold tPo; omega)).1).trans e12
  have done : ∀ (M1 : zM) (x : Int32) (k : Nat), fr (tPo tk) M M1 → gi M1 97 18 = nI k → k = R.1 → x = (if R.2.2 = true ∧ R.1 < n ∧ R.2.1 ≤ 40 then 4 else 6) → vp_in (gi M1 97 12) 4002 ∧ Q (.inl none) (si (si M1 103 (gi M1 97 12).toNatClampNeg x) 97 18 (gi M1 97 18 + 1)) := fun M1 x k hfr ek hk hx => by
    rw [e12' M1 hfr, ek, nn_cl (by omega)]
    refine ⟨by rw [nn_in (by omega)]; exact htk, hQ _ ((hfr.tr (fr.si (Or.inr (Or.inl ⟨rfl, rfl⟩)))).tr (fr.si (Or.inl ⟨rfl, rfl⟩))) ⟨?_, ?_, ?_⟩⟩
    · rw [gi_oth (by decide), gi_self, hx]
    · rw [gi_self, hk]; exact nn_add R.1 1
    · intro a b
      exfalso
      dsimp only at a b
      rw [← hx] at a b
      have : x = 4 ∨ x = 6 := by rw [hx]; by_cases z : R.2.2 = true ∧ R.1 < n ∧ R.2.1 ≤ 40 <;> simp [z]
      rcases this with z | z
      · exact b z
      · exact a z
  have bad : ∀ (M1 : zM) (k m : Nat), fr (tPo tk) M M1 → gi M1 97 18 = nI k → R = (k, m, false) → Zm E YX8_cutString (d + 1) M1 [(0, T97), (1, vi q), (2, vi (nI m)), (3, vi 0)] 14 [] Q := fun M1 k m hfr ek hr => by
    refine iX8_cutString_14 M1 _ _ _ ?_
    rw [if_pos rfl]
    exact done M1 6 k hfr ek (by rw [hr]) (by rw [hr, if_neg (fun z => Bool.false_ne_true z.1)])
  have loop : ∀ (f k m : Nat) (M1 : zM), n - k ≤ f → k ≤ n → m ≤ k → lxQ n c q f k m = R → fr (tPo tk) M M1 → gi M1 97 18 = nI k → Zm E YX8_cutString (d + 1) M1 [(0, T97), (1, vi q), (2, vi (nI m)), (3, vi 1)] 14 [] Q := by
    intro f
    induction f with
    | zero =>
      intro k m M1 hf hkn hm hr hfr ek
      have hr : (k, m, true) = R := hr
      refine iX8_cutString_14 M1 _ _ _ ?_
      rw [if_neg (by decide), if_pos (by rw [(tsrc_o hs hfr).1, ek, nn_le (by omega) (by omega)]; omega)]
      exact done M1 6 k hfr ek (by rw [← hr]) (by rw [← hr, if_neg (fun z => by have := z.2.1; omega)])
    | succ f ih =>
      intro k m M1 hf hkn hm hr hfr ek
      have hs1 := tsrc_o hs hfr
      unfold lxQ at hr
      by_cases hend : n ≤ k
      · rw [if_pos hend] at hr
        refine iX8_cutString_14 M1 _ _ _ ?_
        rw [if_neg (by decide), if_pos (by rw [hs1.1, ek, nn_le (by omega) (by omega)]; omega)]
        exact done M1 6 k hfr ek (by rw [← hr]) (by rw [← hr, if_neg (fun z => by have := z.2.1; omega)])
      rw [if_neg hend] at hr
      have hkk : k < n := by omega
      have ad1 : fr (tPo tk) M (si M1 97 18 (nI (k + 1))) := hfr.tr (fr.si (Or.inl ⟨rfl, rfl⟩))
      have ad2 : fr (tPo tk) M (si M1 97 18 (nI (k + 2))) := hfr.tr (fr.si (Or.inl ⟨rfl, rfl⟩))
      have a1 : nI k + 1 = nI (k + 1) := nn_add k 1
      have a2 : nI k + 2 = nI (k + 2) := nn_add k 2
      have am : nI m + 1 = nI (m + 1) := nn_add m 1
      refine iX8_cutString_14 M1 _ _ _ ?_
      rw [if_neg (by decide), if_neg (by rw [hs1.1, ek, nn_le (by omega) (by omega)]; omega), ek, tl_at hs1 hkk]
      refine ⟨by rw [nn_in (by omega)]; omega, ?_⟩
      by_cases cq : c k = q
      · rw [if_pos cq] at hr ⊢
        rw [← ek]
        by_cases c40 : 40 < m
        · rw [if_pos (by rw [nn_llt (by omega) (by omega)]; exact c40)]
          exact done M1 6 k hfr ek (by rw [← hr]) (by rw [← hr, if_neg (fun z => by have := z.2.2; dsimp only at this; omega)])
        · rw [if_neg (by rw [nn_llt (by omega) (by omega)]; exact c40)]
          exact done M1 4 k hfr ek (by rw [← hr]) (by rw [← hr, if_pos ⟨rfl, hkk, by show m ≤ 40; omega⟩])
      rw [if_neg cq] at hr ⊢
      by_cases c92 : c k = 92
      · rw [if_pos c92] at hr ⊢
        rw [a1]
        by_cases cn : n ≤ k + 1
        · rw [if_pos (by rw [hs1.1, nn_le (by omega) (by omega)]; exact cn)]
          rw [if_neg (fun z => by omega)] at hr
          refine iX8_cutString_87 M1 _ _ _ _ ?_
          rw [if_neg (by decide), ek, a1, if_pos (by rw [hs1.1, nn_le (by omega) (by omega)]; exact cn), a2, am]
          exact bad _ (k + 2) (m + 1) ad2 (gi_self ..) hr.symm
        · rw [if_neg (by rw [hs1.1, nn_le (by omega) (by omega)]; exact cn)]
          refine ⟨by rw [nn_in (by omega)]; omega, ?_⟩
          rw [tl_at hs1 (by omega)]
          refine iX8_cutString_87 M1 _ _ _ _ ?_
          rw [if_neg (by decide), ek, a1, if_neg (by rw [hs1.1, nn_le (by omega) (by omega)]; exact cn), a2, am]
          by_cases he : lxE (c (k + 1)) = true
          · rw [if_pos ⟨by omega, he⟩] at hr
            have go : Zm E YX8_cutString (d + 1) (si M1 97 18 (nI (k + 2))) [(0, T97), (1, vi q), (2, vi (nI (m + 1))), (3, vi 1)] 14 [] Q := ih (k + 2) (m + 1) _ (by omega) (by omega) (by omega) hr ad2 (gi_self ..)
            have := (lxE_or _).mp he
            by_cases z1 : c (k + 1) = 110
            · rw [if_pos z1]; exact go
            rw [if_neg z1]
            by_cases z2 : c (k + 1) = 116
            · rw [if_pos z2]; exact go
            rw [if_neg z2]
            by_cases z3 : c (k + 1) = 92
            · rw [if_pos z3]; exact go
            rw [if_neg z3]
            by_cases z4 : c (k + 1) = 39
            · rw [if_pos z4]; exact go
            rw [if_neg z4, if_pos (((this.resolve_left z1).resolve_left z2).resolve_left z3 |>.resolve_left z4)]; exact go
          · rw [if_neg (fun z => he z.2)] at hr
            have := mt (lxE_or _).mpr he
            rw [if_neg (fun z => this (.inl z)), if_neg (fun z => this (.inr (.inl z))), if_neg (fun z => this (.inr (.inr (.inl z)))), if_neg (fun z => this (.inr (.inr (.inr (.inl z))))), if_neg (fun z => this (.inr (.inr (.inr (.inr z)))))]
            exact bad _ (k + 2) (m + 1) ad2 (gi_self ..) hr.symm
      rw [if_neg c92] at hr ⊢
      rw [a1, am]
      by_cases c32 : c k < 32
      · rw [if_pos c32]
        rw [if_neg (fun z => absurd z.1 (by rw [i_le]; exact c32))] at hr
        exact bad _ (k + 1) (m + 1) ad1 (gi_self ..) hr.symm
      rw [if_neg c32]
      by_cases c126 : 126 < c k
      · rw [if_pos c126]
        rw [if_neg (fun z => absurd z.2 (by rw [i_le]; exact c126))] at hr
        exact bad _ (k + 1) (m + 1) ad1 (gi_self ..) hr.symm
      rw [if_neg c126]
      rw [if_pos ⟨by rw [← i_lt]; exact c32, by rw [← i_lt]; exact c126⟩] at hr
      exact ih (k + 1) (m + 1) _ (by omega) (by omega) (by omega) hr ad1 (gi_self ..)
  refine sX8_cutString_0 M _ ?_
  rw [e18, show nI p + 1 = nI (p + 1) from nn_add p 1, ← hq]
  rw [← hq] at loop
  exact loop n (p + 1) 0 _ (by omega) (by omega) (by omega) (by rw [hq]; exact hR) (fr.si (Or.inl ⟨rfl, rfl⟩)) (gi_self ..)
/-- a sign of the table stands here or not -/
theorem lxA_no {p i : Nat} {w : List Int32} (hi : i < w.length) (h : n ≤ p + i ∨ ¬ w.getD i 0 = c (p + i)) : lxA n c p w = false := by
  unfold lxA
  rw [Bool.and_eq_false_iff]
  rcases h with h | h
  · exact .inl (decide_eq_false (by omega))
  · refine .inr (decide_eq_false fun z => h ?_)
    have := lxW_get (c := c) (p := p) hi
    rw [z] at this
    exact this
theorem lxA_yes {p : Nat} {w : List Int32} (h : ∀ i, i < w.length → p + i < n ∧ w.getD i 0 = c (p + i)) (hw : 0 < w.length) : lxA n c p w = true := by
  unfold lxA
  rw [Bool.and_eq_true]
  refine ⟨decide_eq_true (by have := (h (w.length - 1) (by omega)).1; omega), decide_eq_true ?_⟩
  refine List.ext_getElem (lxW_len ..) (fun i h1 h2 => ?_)
  have := (h i h2).2
  rw [getD_lt h2] at this
  rw [this, ← lxW_get (c := c) (p := p) (k := w.length) h2, getD_lt h1]
theorem sg_len : ∀ j, j < 48 → 0 < (lxGt.getD j []).length ∧ (lxGt.getD j []).length ≤ 4 ∧ zslen.getD 4 0 = 127 := by decide +kernel
theorem lxT_drop {p : Nat} : ∀ (L : List (List Int32)) (j : Nat), j < L.length → lxT (L.drop j) j n c p = if lxA n c p (L.getD j []) = true then some (j, (L.getD j []).length) else lxT (L.drop (j + 1)) (j + 1) n c p := fun L j hj => by
  rw [List.drop_eq_getElem_cons hj]
  have : L.getD j [] = L[j] := by rw [List.getD_eq_getElem?_getD, List.getElem?_eq_getElem hj]; rfl
  rw [this]
  rfl
theorem t_cutSign {p : Nat} {M : zM} (hd : 3 ≤ d) (hs : tsrc M n c) (hp : p < n) (h0 : lxL (c p) = false) (h1 : lxD (c p) = false) (h2 : ¬ (c p = 34 ∨ c p = 39)) (e18 : gi M 97 18 = nI p) (e12 : gi M 97 12 = nI tk) (htk : tk < 4002)
    (hQ : ∀ M', fr (tPo tk) M M' → tOk M' tk (lxO n c p) → Q (.inl none) M') : Zm E YX8_cutSign (d + 1) M [(0, T97)] 0 [] Q := by
  have h4000 := hs.2.1
  have hO : lxO n c p = (match lxT lxGt 0 n c p with
    | some (j, k) => (5, nI j, p + k)
    | none => (6, 0, p)) := by
    unfold lxO; rw [if_neg (by omega), h0, if_neg (by decide), h1, if_neg (by decide), if_neg h2]; rfl
  rw [hO] at hQ
  have tl := sg_len 0 (by omega)
  have top : ∀ (m j : Nat), j + m = 48 → lxT lxGt 0 n c p = lxT (lxGt.drop j) j n c p → Zm E YX8_cutSign (d + 1) M [(0, T97), (1, vi (nI j)), (2, vi (nI (kwo lxGt j)))] 4 [] Q := by
    intro m
    induction m with
    | zero =>
      intro j hj ht
      have : j = 48 := by omega
      subst this
      rw [ht, List.drop_eq_nil_of_le (by rw [lxK_ok.2.2.1]; omega)] at hQ
      refine sX8_cutSign_4 M _ _ ⟨by omega, ?_⟩
      rw [kw_end.2.2.2, tl.2.2, if_pos (by decide), e12, nn_cl (by omega)]
      refine ⟨by rw [nn_in (by omega)]; exact htk, hQ _ (fr.si (Or.inr (Or.inl ⟨rfl, rfl⟩))) ⟨gi_self .., by rw [gi_oth (by decide)]; exact e18, fun z => absurd rfl z⟩⟩
    | succ m ih =>
      intro j hj ht
      obtain ⟨g1, g2, g3, g4⟩ := sg_tab j (by omega)
      obtain ⟨l1, l2, -⟩ := sg_len j (by omega)
      rw [lxT_drop lxGt j (by rw [lxK_ok.2.2.1]; omega)] at ht
      generalize hw : lxGt.getD j [] = w at g1 g2 g3 l1 l2 ht
      generalize ho : kwo lxGt j = o at g1 g2 g3
      have nextw : Zm E YX8_cutSign (d + 1) M [(0, T97), (1, vi (nI j + 1)), (2, vi (nI o + (nI w.length + 1)))] 4 [] Q ∨ lxA n c p w = true := by
        by_cases ha : lxA n c p w = true
        · exact .inr ha
        · rw [if_neg ha] at ht
          refine .inl ?_
          rw [show nI j + 1 = nI (j + 1) from nn_add j 1, show nI w.length + 1 = nI (w.length + 1) from nn_add w.length 1, nn_add, ← Nat.add_assoc, g3]
          exact ih (j + 1) (by omega) ht
      -- the comparison
      have no : lxA n c p w = false → ∀ i, Zm E YX8_cutSign (d + 1) M [(0, T97), (1, vi (nI j)), (2, vi (nI o)), (3, vi (nI w.length)), (4, vi 0), (5, vi i)] 42 [] Q := fun ha i => by
        have nx := nextw.resolve_right (by rw [ha]; decide)
        refine iX8_cutSign_42 M _ _ _ _ _ ?_
        by_cases z : nI w.length ≤ i
        · rw [if_pos z, if_pos rfl]; exact nx
        · rw [if_neg z, if_pos rfl]; exact nx
      have cmp : ∀ (f i : Nat), i + f = w.length → (∀ t, t < i → p + t < n ∧ w.getD t 0 = c (p + t)) → Zm E YX8_cutSign (d + 1) M [(0, T97), (1, vi (nI j)), (2, vi (nI o)), (3, vi (nI w.length)), (4, vi 1), (5, vi (nI i))] 42 [] Q := by
        intro f
        induction f with
        | zero =>
          intro i hi H
          have : i = w.length := by omega
          subst this
          have ha := lxA_yes (n := n) (c := c) (p := p) H l1
          rw [ht, if_pos ha] at hQ
          refine iX8_cutSign_42 M _ _ _ _ _ ?_
          rw [if_pos (by rw [nn_le (by omega) (by omega)]; omega), if_neg (by decide), e12, nn_cl (by omega), e18, nn_add]
          refine ⟨by rw [nn_in (by omega)]; exact htk, hQ _ (((fr.si (Or.inr (Or.inl ⟨rfl, rfl⟩))).tr (fr.si (Or.inr (Or.inr ⟨rfl, rfl⟩)))).tr (fr.si (Or.inl ⟨rfl, rfl⟩))) ⟨?_, gi_self .., fun _ _ _ => ?_⟩⟩
          · rw [gi_oth (by decide), gi_oth (by decide), gi_self]
          · rw [gi_oth (by decide), gi_self]
        | succ f ihf =>
          intro i hi H
          refine iX8_cutSign_42 M _ _ _ _ _ ?_
          rw [if_neg (by rw [nn_le (by omega) (by omega)]; omega), if_neg (by decide), hs.1, e18, nn_add, show nI i + 1 = nI (i + 1) from nn_add i 1, nn_add]
          by_cases hn : n ≤ p + i
          · rw [if_pos (by rw [nn_le (by omega) (by omega)]; exact hn)]
            exact no (lxA_no (i := i) (by omega) (.inl hn)) _
          rw [if_neg (by rw [nn_le (by omega) (by omega)]; exact hn), tl.2.2, nn_cl (by omega), tl_at hs (by omega), (g1 i (by omega)).1]
          refine ⟨by omega, by rw [nn_in (by omega)]; omega, by rw [nn_in (by omega)]; omega, ?_⟩
          by_cases he : w.getD i 0 = c (p + i)
          · rw [if_pos he]
            exact ihf (i + 1) (by omega) (fun t hti => by
              by_cases z : t = i
              · rw [z]; exact ⟨by omega, he⟩
              · exact H t (by omega))
          · rw [if_neg he]
            exact no (lxA_no (i := i) (by omega) (.inr he)) _
      -- its length
      have len : ∀ (f i : Nat), i + f = w.length → Zm E YX8_cutSign (d + 1) M [(0, T97), (1, vi (nI j)), (2, vi (nI o)), (3, vi (nI i))] 16 [] Q := by
        intro f
        induction f with
        | zero =>
          intro i hi
          have : i = w.length := by omega
          subst this
          refine sX8_cutSign_16 M _ _ _ ⟨by omega, ?_⟩
          rw [nn_add, nn_cl (by omega), g2, if_pos rfl, tl.2.2]
          exact ⟨by rw [nn_in (by omega)]; omega, cmp w.length 0 (by omega) (fun t ht => absurd ht (by omega))⟩
        | succ f ihf =>
          intro i hi
          refine sX8_cutSign_16 M _ _ _ ⟨by omega, ?_⟩
          rw [nn_add, nn_cl (by omega), (g1 i (by omega)).1, if_neg (g1 i (by omega)).2, tl.2.2, show nI i + 1 = nI (i + 1) from nn_add i 1]
          exact ⟨by rw [nn_in (by omega)]; omega, ihf (i + 1) (by omega)⟩
      refine sX8_cutSign_4 M _ _ ⟨by omega, ?_⟩
      rw [tl.2.2, if_neg (by rw [show Int32.ofNat 127 = nI 127 from rfl, nn_le (by omega) (by omega)]; omega)]
      exact len w.length 0 (by omega)
  refine sX8_cutSign_0 M ?_
  have := top 48 0 rfl rfl
  rw [kw_end.2.2.1] at this
  exact this
/-- one token -/
theorem t_cutOne {p : Nat} {M : zM} (hd : 5 ≤ d) (hs : tsrc M n c) (hp : p < n) (e18 : gi M 97 18 = nI p) (e12 : gi M 97 12 = nI tk) (htk : tk < 4002)
    (hQ : ∀ M', fr (tPo tk) M M' → tOk M' tk (lxO n c p) → Q (.inl none) M') : Zm E YX8_cutOne (d + 1) M [(0, T97)] 0 [] Q := by
  have h4000 := hs.2.1
  obtain ⟨d, rfl⟩ : ∃ d', d = d' + 1 := ⟨d - 1, by omega⟩
  refine iX8_cutOne_0 M ?_
  rw [if_neg (by rw [hs.1, e18, nn_le (by omega) (by omega)]; omega), e18, tl_at hs hp]
  refine ⟨by rw [nn_in (by omega)]; omega, t_isLetter ?_⟩
  show Zm E YX8_cutOne (d + 1 + 1) M [(0, T97), (1, vi (c p))] 13 [vi (bI (lxL (c p)))] Q
  refine iX8_cutOne_13 M _ _ ?_
  by_cases h0 : lxL (c p) = true
  · rw [h0, if_neg (by decide)]
    refine t_cutName (by omega) hs hp h0 e18 e12 htk (fun M' f t => ?_)
    exact iX8_cutOne_20 M' (hQ M' f t)
  have h0 : lxL (c p) = false := by simpa using h0
  rw [h0, bI_f, if_pos rfl]
  have oth : lxD (c p) = false → (if c p = 34 then Zm E YX8_cutString (d + 1) M (zargs 0 [T97, vi (c p)]) 0 [] (zma E YX8_cutOne (d + 1 + 1) [] 51 3 [] Q) else if c p = 39 then Zm E YX8_cutString (d + 1) M (zargs 0 [T97, vi (c p)]) 0 [] (zma E YX8_cutOne (d + 1 + 1) [] 51 3 [] Q) else Zm E YX8_cutSign (d + 1) M (zargs 0 [T97]) 0 [] (zma E YX8_cutOne (d + 1 + 1) [] 58 3 [] Q)) := fun h1 => by
    have str : c p = 34 ∨ c p = 39 → Zm E YX8_cutString (d + 1) M (zargs 0 [T97, vi (c p)]) 0 [] (zma E YX8_cutOne (d + 1 + 1) [] 51 3 [] Q) := fun h2 => t_cutString hs hp h0 h1 h2 e18 e12 htk (fun M' f t => iX8_cutOne_54 M' (hQ M' f t))
    by_cases z1 : c p = 34
    · rw [if_pos z1]; exact str (.inl z1)
    rw [if_neg z1]
    by_cases z2 : c p = 39
    · rw [if_pos z2]; exact str (.inr z2)
    rw [if_neg z2]
    exact t_cutSign (by omega) hs hp h0 h1 (fun z => z.elim z1 z2) e18 e12 htk (fun M' f t => sX8_cutOne_61 M' (hQ M' f t))
  by_cases h48 : c p < 48
  · rw [if_pos h48]
    exact oth (by unfold lxD; rw [decide_eq_false (show ¬ (48 : Int32) ≤ c p by rw [i_le]; exact h48)]; rfl)
  rw [if_neg h48]
  by_cases h57 : 57 < c p
  · rw [if_pos h57]
    exact oth (by unfold lxD; rw [decide_eq_false (show ¬ c p ≤ (57 : Int32) by rw [i_le]; exact h57), Bool.and_false])
  rw [if_neg h57]
  have hD : lxD (c p) = true := by
    unfold lxD
    rw [decide_eq_true (show (48 : Int32) ≤ c p by rw [← i_lt]; exact h48), decide_eq_true (show c p ≤ (57 : Int32) by rw [← i_lt]; exact h57)]; rfl
  exact t_cutNumber (by omega) hs hp h0 hD e18 e12 htk (fun M' f t => iX8_cutOne_34 M' (hQ M' f t))
end
