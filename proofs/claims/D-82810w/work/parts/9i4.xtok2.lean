/-! THE COMPONENT's LEXER: words, strings, signs, the next token -/
theorem lxW_snoc (c : Nat → Int32) (p k : Nat) : lxW c p k ++ [c (p + k)] = lxW c p (k + 1) := by
  unfold lxW
  rw [List.range_succ, List.map_append]
  rfl
section
variable {E : zE} {d : Nat} {Q : zO → zM → Prop} {n : Nat} {c : Nat → Int32} {a : Nat}
theorem xgp_fg {P : Nat → Nat → Prop} {M M' : zM} (h : xgp M) (g : fg P M M') (hz : 20 ≤ zsz M) (h1 : ¬ P 17 1) (h0 : ¬ P 17 0) : xgp M' := ⟨(g.gr (by omega) h1).trans h.1, (g.gr (by omega) h0).trans h.2⟩
theorem x_word {p l : Nat} {M : zM} {L : List (List Int32)} (h : xLx M a n c p l) (hT : xTb M) (hg : xgp M) (hS : xS M 17 18 19 L) (c1 : L.length < 2199) (c2 : L.flatten.length + 20 ≤ 40000) (hp : p < n) (h0 : lxL (c p) = true) (hQ : xPost Q n c a M p (lxO n c p) L) : Z E YX10_word (d + 5) M [(0, vr (some (a, 9, 0)))] 0 [] Q := by
  have hn := h.2.1.2.1
  have ha := h.2.2.1
  have hO : lxO n c p = (if 16 < lxF n (fun k => !(lxI (c k))) p - p then 6 else if tfd 0 lxK (lxW c p (lxF n (fun k => !(lxI (c k))) p - p)) = -1 then 1 else 2, tfd 0 lxK (lxW c p (lxF n (fun k => !(lxI (c k))) p - p)), lxF n (fun k => !(lxI (c k))) p) := by
    unfold lxO; rw [if_neg (by omega), if_pos h0]
  generalize he : lxF n (fun k => !(lxI (c k))) p = e at hO
  have hge : p ≤ e := by rw [← he]; exact lxF_ge n _ _ p rfl
  have hle : e ≤ n := by rw [← he]; exact lxF_le n _ _ p rfl (by omega)
  have hin : ∀ t, p ≤ t → t < e → lxI (c t) = true := fun t h1 h2 => by
    have := (lxF_in n (fun k => !(lxI (c k))) _ p t rfl h1 (by rw [he]; exact h2)).1
    simpa using this
  rw [hO] at hQ
  have P1 : ∀ {M1 M2 : zM}, fr (tkQ a) M1 M2 → fg (tkP a) M1 M2 := fun f => (f.mono tkQ_P).fg
  -- the word is whole
  have fin : ∀ (M1 : zM), fr (tkQ a) M M1 → gi M1 a 1 = nI e → xS M1 17 18 19 L → xR M1 (lxW c p (min (e - p) 256)) → Z E YX2_find (d + 3 + 1) M1 (zargs 0 [vr (some (22, 2, 0)), vr (gr M1 16 2), vi (gi M1 16 3)]) 0 [] (zafter E YX10_word (d + 4 + 1) [(0, vr (some (a, 9, 0)))] 82 3 [vr (some (a, 9, 0))] Q) := fun M1 f e1 hS1 hR => by
    have h2 : xLx M1 a n c e l := xLx_fg h (P1 f) e1 (((f.2 a 2 (by unfold tkQ; omega)).1).trans h.2.2.2.2)
    obtain ⟨w1, w2, w3, w4, w5⟩ := id h2
    have hT1 : xTb M1 := xTb_fg hT f.fg (by omega) (fun x k h1 h2 => by unfold tkQ; omega)
    have hg1 : xgp M1 := xgp_fg hg f.fg (by omega) (by unfold tkQ; omega) (by unfold tkQ; omega)
    have hl : (lxW c p (min (e - p) 256)).length = min (e - p) 256 := lxW_len ..
    rw [cw_r w1, hR.1]
    refine x_find hT1.1.2.1 hT1.1.2.2 hT1.1.1 (by rw [lxK_ok.1]; decide) (by decide) (by have := tab_ok.1; omega) (by decide) (fun k hk => hR.2.2 k hk) hR.2.1 (by decide) ?_
    generalize hs0 : tfd 0 lxK (lxW c p (min (e - p) 256)) = s0
    show Z E YX10_word (d + 4 + 1) M1 [(0, vr (some (a, 9, 0)))] 85 [vi s0, vr (some (a, 9, 0))] Q
    refine iX10_word_85 M1 a s0 ⟨by omega, ?_⟩
    rw [gi_self]
    have b : ∀ v : Int32, fr (tkQ a) M (si (si M1 a 6 s0) a 3 v) := fun v => f.tr ((fr.si (.inl ⟨rfl, by omega⟩)).tr (fr.si (.inl ⟨rfl, by omega⟩)))
    have b1 : ∀ v : Int32, gi (si (si M1 a 6 s0) a 3 v) a 1 = nI e := fun v => by rw [gi_idx (by decide), gi_idx (by decide)]; exact e1
    have b6 : ∀ v : Int32, gi (si (si M1 a 6 s0) a 3 v) a 6 = s0 := fun v => by rw [gi_idx (by decide), gi_self]
    have bS : ∀ v : Int32, xS (si (si M1 a 6 s0) a 3 v) 17 18 19 L := fun v => xS_fg hS1 ((fr.si ⟨rfl, by omega⟩).tr (fr.si ⟨rfl, by omega⟩) : fr (tkA a) M1 _).fg (by omega) (by unfold tkA; omega) (fun k => by unfold tkA; omega) (fun k => by unfold tkA; omega)
    by_cases h16 : 16 < e - p
    · rw [if_pos h16] at hQ
      unfold xPost at hQ; dsimp only at hQ
      have hno : s0 = -1 := by
        rw [← hs0]
        refine tfd_no _ _ fun z => ?_
        have := (lxK_ok.2.2.2 _ z).1
        rw [hl] at this
        omega
      rw [if_pos hno]
      refine ⟨16, w3.2.2, ?_⟩
      rw [gi_oth (by omega), hR.1, hl, if_neg (show ¬ nI (min (e - p) 256) ≤ (16 : Int32) from nI_ge (a := 16) (by omega) (by omega)), gi_self, if_neg (by decide)]
      exact hQ _ L (b 6) (gi_self ..) (fun z => absurd rfl z) (fun z => absurd z (by decide)) (fun z => absurd z (by decide)) (fun z => absurd z (by decide)) (fun z => z.elim (fun z => absurd z (by decide)) (fun z => absurd z (by decide))) (fun _ z => absurd rfl z) (fun z => absurd rfl z)
    · rw [if_neg h16] at hQ
      rw [show min (e - p) 256 = e - p by omega] at hs0 hR hl
      rw [hs0] at hQ
      by_cases hs : s0 = -1
      · rw [if_pos hs] at hQ ⊢
        unfold xPost at hQ; dsimp only at hQ
        refine ⟨16, w3.2.2, ?_⟩
        rw [gi_oth (by omega), hR.1, hl, if_pos (show nI (e - p) ≤ (16 : Int32) from nI_le (b := 16) (by omega) (by decide)), gi_self, if_pos rfl]
        have hR2 : xR (si (si M1 a 6 s0) a 3 1) (lxW c p (e - p)) := ⟨by rw [gi_oth (by omega), gi_oth (by omega)]; exact hR.1, hR.2.1, fun k hk => by rw [gi_oth (by omega), gi_oth (by omega)]; exact hR.2.2 k hk⟩
        refine x_name (cw.si (cw.si w1)) w3.2.2 hg1 hR2 (fun x hx => ?_) (bS 1) c1 (by rw [hl]; omega) (fun M' f' hS' => ?_)
        · obtain ⟨i, hi, rfl⟩ := List.mem_iff_getElem.mp hx
          have : (lxW c p (e - p)).getD i 0 = c (p + i) := lxW_get (by rw [hl] at hi; exact hi)
          rw [getD_lt hi] at this
          rw [this]
          exact c7_b (lxI_c7 (hin (p + i) (by omega) (by rw [hl] at hi; omega)))
        show Z E YX10_word (d + 4 + 1) M' [] 135 [vi (tfd 0 (nmA L (lxW c p (e - p))) (lxW c p (e - p))), vr (some (a, 9, 0))] Q
        have hx : lxTx n c p 1 e = lxW c p (e - p) := rfl
        refine sX10_word_135 M' _ a ⟨by omega, hQ _ (nmA L (lxW c p (e - p))) ((b 1).tr ((f'.mono fun x k q => by unfold tkQ; omega).tr (fr.si (.inl ⟨rfl, by omega⟩)))) ?_ (fun _ => ?_) (fun z => absurd z (by decide)) (fun z => absurd z (by decide)) (fun z => absurd z (by decide)) (fun _ => ⟨?_, ?_⟩) (fun z => absurd (.inl rfl) z) (fun _ => ?_)⟩
        · rw [gi_idx (by decide), (f'.2 a 3 (by omega)).1, gi_self]
        · rw [gi_idx (by decide), (f'.2 a 1 (by omega)).1]; exact b1 1
        · rw [gi_self]; rfl
        · rfl
        · exact xS_fg hS' (fr.si ⟨rfl, by omega⟩ : fr (tkA a) M' _).fg (by have z1 : zsz M' = zsz M1 := f'.1.1; have z2 : zsz M1 = zsz M := f.1.1; omega) (by unfold tkA; omega) (fun k => by unfold tkA; omega) (fun k => by unfold tkA; omega)
      · rw [if_neg hs] at hQ ⊢
        unfold xPost at hQ; dsimp only at hQ
        rw [gi_self, if_neg (by decide)]
        exact hQ _ L (b 2) (gi_self ..) (fun _ => b1 2) (fun _ => b6 2) (fun z => absurd z (by decide)) (fun z => absurd z (by decide)) (fun z => z.elim (fun z => absurd z (by decide)) (fun z => absurd z (by decide))) (fun _ _ => rfl) (fun _ => bS 2)
  have loop : ∀ (f k : Nat) (M1 : zM), n - k = f → p ≤ k → k ≤ e → lxF n (fun k => !(lxI (c k))) k = e → fr (tkQ a) M M1 → gi M1 a 1 = nI k → xS M1 17 18 19 L → xR M1 (lxW c p (min (k - p) 256)) → Z E YX10_word (d + 4 + 1) M1 [(0, vr (some (a, 9, 0)))] 7 [] Q := by
    intro f
    induction f with
    | zero =>
      intro k M1 hf hpk hke hek hfr e1 hS1 hR
      have h2 : xLx M1 a n c k l := xLx_fg h (P1 hfr) e1 (((hfr.2 a 2 (by unfold tkQ; omega)).1).trans h.2.2.2.2)
      obtain ⟨w1, w2, w3, w4, w5⟩ := id h2
      rw [lxF_end (by omega)] at hek
      subst hek
      refine iX10_word_7 M1 a ⟨16, w3.2.2, ?_⟩
      rw [w2.1, e1, if_pos (nI_le (by omega) (by omega))]
      exact ⟨22, cw_k w1, fin M1 hfr e1 hS1 hR⟩
    | succ f ih =>
      intro k M1 hf hpk hke hek hfr e1 hS1 hR
      have h2 : xLx M1 a n c k l := xLx_fg h (P1 hfr) e1 (((hfr.2 a 2 (by unfold tkQ; omega)).1).trans h.2.2.2.2)
      obtain ⟨w1, w2, w3, w4, w5⟩ := id h2
      have hkn : k < n := by omega
      refine iX10_word_7 M1 a ⟨16, w3.2.2, ?_⟩
      rw [w2.1, e1, if_neg (nI_ge hkn (by omega))]
      refine ⟨21, 4000, cw_t w1, nI_in (by omega) (by omega), ?_⟩
      rw [xl_at w2 hkn]
      refine x_inner w1 ?_
      show Z E YX10_word (d + 4 + 1) M1 [(0, vr (some (a, 9, 0)))] 32 [vi (bI (lxI (c k)))] Q
      refine iX10_word_32 M1 a _ ?_
      cases hI : lxI (c k) with
      | false =>
        rw [bI_f, if_pos rfl]
        rw [lxF_yes (P := fun k => !(lxI (c k))) (by simp [hI])] at hek
        subst hek
        exact ⟨16, w3.2.2, 22, cw_k w1, fin M1 hfr e1 hS1 hR⟩
      | true =>
        rw [bI_t, if_neg (by decide)]
        have hek' : lxF n (fun k => !(lxI (c k))) (k + 1) = e := by rw [← lxF_no hkn (by simp [hI])]; exact hek
        have hk1e : k + 1 ≤ e := by rw [← hek']; exact lxF_ge n _ _ (k + 1) rfl
        refine ⟨by omega, 16, w3.2.2, ?_⟩
        rw [gi_oth (by omega), w2.1, e1, if_neg (nI_ge hkn (by omega))]
        refine ⟨21, 4000, cw_t w1, nI_in (by omega) (by omega), ?_⟩
        rw [gi_oth (by omega), xl_at w2 hkn, nI_l1]
        have f1 : fr (tkQ a) M1 (si M1 a 1 (nI (k + 1))) := fr.si (.inl ⟨rfl, by omega⟩)
        have go : ∀ M2, fr (fun x k => x = 20 ∨ x = 16 ∧ k = 3) (si M1 a 1 (nI (k + 1))) M2 → xR M2 (lxW c p (min (k + 1 - p) 256)) → zafter E YX10_word (d + 4 + 1) [(0, vr (some (a, 9, 0)))] 54 3 [] Q (.inl none) M2 := fun M2 f2 hR2 => by
          show Z E YX10_word (d + 4 + 1) M2 [(0, vr (some (a, 9, 0)))] 57 [] Q
          refine sX10_word_57 M2 a (ih (k + 1) M2 (by omega) (by omega) hk1e hek' ((hfr.tr f1).tr (f2.mono fun x k q => by unfold tkQ; omega)) ?_ ?_ hR2)
          · rw [(f2.2 a 1 (by omega)).1, gi_self]
          · have s1 : zsz M1 = zsz M := hfr.1.1
            exact xS_fg (xS_fg hS1 (fr.si ⟨rfl, by omega⟩ : fr (tkA a) M1 _).fg (by omega) (by unfold tkA; omega) (fun k => by unfold tkA; omega) (fun k => by unfold tkA; omega)) f2.fg (by have z1 : zsz (si M1 a 1 (nI (k + 1))) = zsz M1 := rfl; omega) (by omega) (fun k => by omega) (fun k => by omega)
        by_cases hb : k - p < 256
        · rw [show min (k - p) 256 = k - p by omega] at hR
          have hR' : xR (si M1 a 1 (nI (k + 1))) (lxW c p (k - p)) := ⟨by rw [gi_oth (by omega)]; exact hR.1, hR.2.1, fun j hj => by rw [gi_oth (by omega)]; exact hR.2.2 j hj⟩
          refine x_write (cw.si w1) hR' (by rw [lxW_len]; exact hb) (c7_b (lxI_c7 hI)) (fun M2 hR2 f2 => go M2 f2 ?_)
          rw [show min (k + 1 - p) 256 = (k - p) + 1 by omega, ← lxW_snoc, show p + (k - p) = k by omega]
          exact hR2
        · rw [show min (k - p) 256 = 256 by omega] at hR
          refine sX1_write_0 _ _ (cw.si w1) ?_
          rw [gi_oth (by omega), hR.1, lxW_len, if_pos (show (256 : Int32) ≤ nI 256 by decide)]
          refine go _ fr.rf ?_
          rw [show min (k + 1 - p) 256 = 256 by omega]
          exact ⟨by rw [gi_oth (by omega)]; exact hR.1, hR.2.1, fun j hj => by rw [gi_oth (by omega)]; exact hR.2.2 j hj⟩
  refine sX10_word_0 M a ⟨16, ha.2.2, sX1_clearRow_0 M h.1 ?_⟩
  show Z E YX10_word (d + 4 + 1) (si M 16 3 0) [(0, vr (some (a, 9, 0)))] 7 [] Q
  refine loop _ p (si M 16 3 0) rfl (Nat.le_refl _) hge he (fr.si (.inr (.inl ⟨rfl, rfl⟩))) ((gi_oth (by omega)).trans h.2.2.2.1) ?_ ?_
  · exact ⟨by rw [gi_oth (by decide)]; exact hS.1, fun k hk => by rw [gi_oth (by decide)]; exact hS.2.1 k hk, fun k hk => by rw [gi_oth (by decide)]; exact hS.2.2 k hk⟩
  · rw [Nat.sub_self]
    exact ⟨by rw [gi_self, lxW_len]; rfl, by rw [lxW_len]; omega, fun k hk => by rw [lxW_len] at hk; omega⟩
end
