/-! THE COMPONENT's PARSER: keys -/
section
variable {E : zE} {pp a lf n : Nat} {c : Nat → Int32} {dg : Int32 → List Int32} {K o : Nat}
/-- a keyword's text -/
theorem kw_tx {t : Nat} (h : (tkn n c t).1 = 2) : ∃ j, lxK[j]? = some (tkX n c (tkn n c t)) ∧ (tkn n c t).2.1 = nI j := by
  have lx := tkn_lx t (show ¬ (tkn n c t).1 = 6 by rw [h]; decide)
  have hO : (lxO n c (tkn n c t).2.2.1).1 = 2 := lx.1.symm.trans h
  have eX : tkX n c (tkn n c t) = lxW c (tkn n c t).2.2.1 ((tkn n c t).2.2.2.1 - (tkn n c t).2.2.1) := by
    unfold tkX lxTx
    rw [if_neg (by rw [h]; decide)]
  rw [eX, lx.2.2, lx.2.1]
  generalize (tkn n c t).2.2.1 = p at *
  unfold lxO at hO ⊢
  by_cases k0 : n ≤ p
  · rw [if_pos k0] at hO; cases hO
  rw [if_neg k0] at hO ⊢
  by_cases k1 : lxL (c p) = true
  · rw [if_pos k1] at hO ⊢
    dsimp only at hO ⊢
    rcases tfd_or lxK 0 (lxW c p (lxF n (fun k => !(lxI (c k))) p - p)) with ⟨y, -⟩ | ⟨k, y1, y2⟩
    · rw [y] at hO
      exfalso
      split at hO
      · cases hO
      · rw [if_pos rfl] at hO; cases hO
    · exact ⟨k, y1, by rw [y2, Nat.zero_add]⟩
  rw [if_neg k1] at hO
  by_cases k2 : lxD (c p) = true
  · rw [if_pos k2] at hO
    dsimp only at hO
    exfalso
    split at hO <;> cases hO
  rw [if_neg k2] at hO
  by_cases k3 : c p = 34 ∨ c p = 39
  · rw [if_pos k3] at hO
    dsimp only at hO
    exfalso
    split at hO <;> cases hO
  rw [if_neg k3] at hO
  exfalso
  split at hO <;> cases hO
theorem lxK_k : lxK.length ≤ 39 ∧ lxK.flatten.length ≤ 400 ∧ (∀ w ∈ lxK, w.length ≤ 12 ∧ ∀ x ∈ w, vp_nar .byte x.toInt8.toInt32 = x) := by decide +kernel
/-- the name of a text that lies in the row -/
theorem y_named {d : Nat} {Q : zO → zM → Prop} {M M1 : zM} {s : pS} {w : List Int32} (h : xTz M a n c s) (hk : ¬ ((tkn n c s.1).1 = 1 ∨ (tkn n c s.1).1 = 4)) (hg : tkg (tkn n c s.1)) (f1 : fr (fun x k => x = 20 ∨ x = 16 ∧ k = 3) M M1) (hR : xR M1 w) (hb : ∀ x ∈ w, xb x) (hl : (tkn n c s.1).2.2.1 + w.length ≤ (tkn n c s.1).2.2.1 + 12 * ((tkn n c s.1).2.2.2.1 - (tkn n c s.1).2.2.1))
    (hQ : ∀ M2, (fr (tkP a) M M2) → (∀ (d : Nat) (Q' : zO → zM → Prop) (M3 : zM), (M3 = si M2 a 6 (nI (nam w s).1) ∨ M3 = M2) → (∀ s', nxt' (zOf n c dg) (nam w s).2 = .ok ((), s') → ∀ M', fr (tkP a) M M' → xTz M' a n c s' → Q' (.inl none) M') → (∀ u, nxt' (zOf n c dg) (nam w s).2 = .error u → ∀ o M', ftO a M u o M' → Q' o M') → Z E YX10_next (d + 9) M3 [(0, vr (some (a, 9, 0)))] 0 [] Q') → Q (.inl (some (vi (nI (nam w s).1)))) M2) : Z E YX10_name (d + 2) M1 [(0, vr (some (a, 9, 0)))] 0 [] Q := by
  obtain ⟨⟨lp, hk1, hlp⟩, hS, ⟨hT, hp⟩, h6, hj, ⟨b1, b2⟩, hc3, hz⟩ := id h
  have tle := h.t_le
  have eL : tkL n c s.2.1 (tkn n c s.1) = s.2.1 := if_neg hk
  rw [eL] at hS
  obtain ⟨w1, w2, w3, w4, w5⟩ := id hk1.1
  have ok := tkn_ok hc3.2.1 s.1 hj
  have ok2 := ok.2.2 hg
  have F1 : fr (tkP a) M M1 := f1.mono fun x k z => by unfold tkP; omega
  have sz1 := f1.1.1
  have c1 : cw M1 := cw_fg w1 f1.fg (by omega) (fun q hq z => by
    have := (show ∀ q ∈ cwl, ¬ (q.1 = 20 ∨ q.1 = 16 ∧ q.2.1 = 3) by decide +kernel) q hq
    exact this z)
  have na : ∀ k, ¬ (a = 20 ∨ a = 16 ∧ k = 3) := fun k z => by omega
  have hp1 : xgp M1 := ⟨(f1.2 17 1 (by omega)).2.2.trans hp.1, (f1.2 17 0 (by omega)).2.2.trans hp.2⟩
  have hS1 : xS M1 17 18 19 s.2.1 := xS_fg hS f1.fg (by omega) (by omega) (fun k => by omega) (fun k => by omega)
  have nl := nmA_len s.2.1 w
  have enm : nmA s.2.1 w = (nam w s).2.2.1 := rfl
  refine x_name c1 ((f1.2 a 0 (na 0)).2.2.trans w3.2.2) hp1 hR hb hS1 (by omega) (by omega) (fun M2 f2 hS2 => ?_)
  have F2 : fr (tkP a) M M2 := F1.tr (f2.mono fun x k z => by unfold tkP; omega)
  have eN : tfd 0 (nmA s.2.1 w) w = nI (nam w s).1 := by
    have hm : w ∈ nmA s.2.1 w := by
      unfold nmA
      by_cases y : w ∈ s.2.1
      · rw [if_pos y]; exact y
      · rw [if_neg y]; exact List.mem_append_right _ List.mem_cons_self
    rw [tfd_ix _ 0 hm, Nat.zero_add]; rfl
  rw [eN]
  refine hQ M2 F2 (fun d Q' M3 hM3 hy hn => ?_)
  have F3 : fr (tkP a) M M3 ∧ gi M3 a 1 = gi M a 1 ∧ gi M3 a 2 = gi M a 2 := by
    have n2 : ∀ k, ¬ (a = 19 ∨ a = 18 ∨ a = 17 ∧ k = 2) := fun k z => by omega
    have q : ∀ k, gi M2 a k = gi M a k := fun k => (f2.2 a k (n2 k)).1.trans (f1.2 a k (na k)).1
    rcases hM3 with y | y
    · rw [y]
      exact ⟨F2.tr (fr.si (.inl ⟨rfl, by decide⟩)), (gi_idx (by decide)).trans (q 1), (gi_idx (by decide)).trans (q 2)⟩
    · rw [y]; exact ⟨F2, q 1, q 2⟩
  have hS3 : xS M3 17 18 19 (nmA s.2.1 w) := by
    rcases hM3 with y | y
    · rw [y]
      exact ⟨by rw [gi_oth (by omega)]; exact hS2.1, fun k hk => by rw [gi_oth (by omega)]; exact hS2.2.1 k hk, fun k hk => by rw [gi_oth (by omega)]; exact hS2.2.2 k hk⟩
    · rw [y]; exact hS2
  have hT3 : xTb M3 := xTb_fg hT F3.1.fg (by omega) (fun x k h1 h2 z => by unfold tkP at z; omega)
  have hp3 : xgp M3 := ⟨(F3.1.2 17 1 (by unfold tkP; omega)).2.2.trans hp.1, (F3.1.2 17 0 (by unfold tkP; omega)).2.2.trans hp.2⟩
  have x3 : xLx M3 a n c (tkn n c s.1).2.2.2.1 (tkn n c s.1).2.2.2.2 := xLx_fg hk1.1 F3.1.fg (F3.2.1.trans w4) (F3.2.2.trans w5)
  refine y_nxG (s := s) x3 hS3 hT3 hp3 hj (by omega) (by omega) hc3 (by rw [F3.1.1.1]; exact hz) hg (fun z M' f x => ?_) (fun z ou M' f g => ?_)
  · refine hy _ ?_ M' (F3.1.tr f) x
    unfold nxt'
    rw [if_neg (show ¬ tkd (zOf n c dg) ((nam w s).2.1 + 1) = 6 from z)]
    rfl
  · refine hn (1, (tkn n c (s.1 + 1)).2.2.2.2) ?_ ou M' ?_
    · unfold nxt'
      rw [if_pos (show tkd (zOf n c dg) ((nam w s).2.1 + 1) = 6 from z)]
      rfl
    · obtain ⟨q, e1, e2, e3, e4⟩ := f
      have z3 := F3.1.1
      exact ⟨⟨q, e1, e2, by rw [← z3.1]; exact e3, F3.1.fg.tr e4⟩, by omega, by omega⟩
/-- Tokens.key -/
theorem y_tkey {d : Nat} {Q : zO → zM → Prop} {M : zM} {s : pS} (h : xTz M a n c s)
    (hy : (tkd (zOf n c dg) s.1 = 1 ∨ tkd (zOf n c dg) s.1 = 2) → ∀ x s', takN (zOf n c dg) s = .ok (x, s') → x = (nam (tkX n c (tkn n c s.1)) s).1 → ∀ M', fr (tkP a) M M' → xTz M' a n c s' → Q (.inl (some (vi (nI x)))) M')
    (hn : (tkd (zOf n c dg) s.1 = 1 ∨ tkd (zOf n c dg) s.1 = 2) → ∀ w, takN (zOf n c dg) s = .error w → ∀ o M', ftO a M w o M' → Q o M')
    (hf : ¬ (tkd (zOf n c dg) s.1 = 1 ∨ tkd (zOf n c dg) s.1 = 2) → ∀ o M', ftO a M (2, (tkn n c s.1).2.2.2.2) o M' → Q o M') : Z E YX10_key (d + 10) M [(0, vr (some (a, 9, 0)))] 0 [] Q := by
  have kd := tk_kd (dg := dg) h
  obtain ⟨⟨lp, hk1, hlp⟩, hS, ⟨hT, hp⟩, h6, hj, hb12, hc3, hz⟩ := id h
  obtain ⟨w1, w2, w3, w4, w5⟩ := id hk1.1
  refine sX10_key_0 M a ?_
  by_cases h2 : gi M a 3 = 2
  · have k2 : (tkn n c s.1).1 = 2 := kd.symm.trans h2
    obtain ⟨j, hj1, hj2⟩ := kw_tx k2
    have jl : j < lxK.length := (List.getElem?_eq_some_iff.mp hj1).1
    have hm : tkX n c (tkn n c s.1) ∈ lxK := List.mem_of_getElem? hj1
    have hw := lxK_k.2.2 _ hm
    have h39 := lxK_k.1
    have h400 := lxK_k.2.1
    have e6 : gi M a 6 = nI j := (hk1.2.2.2.2.1 k2).trans hj2
    have hg : tkg (tkn n c s.1) := ⟨by rw [k2]; decide, by rw [k2]; decide⟩
    have ok := tkn_ok hc3.2.1 s.1 hj
    have ok2 := ok.2.2 hg
    have lx := tkn_lx s.1 h6
    have tx := txl (n := n) (c := c) (p := (tkn n c s.1).2.2.1) (by omega) (by rw [← lx.1, k2]; decide)
    rw [← lx.1, ← lx.2.2] at tx
    have tx : (tkn n c s.1).2.2.1 + (tkX n c (tkn n c s.1)).length ≤ (tkn n c s.1).2.2.2.1 := tx
    rw [if_pos h2]
    refine ⟨16, w3.2.2, ?_⟩
    refine sX1_clearRow_0 M w1 ?_
    show Z E YX10_key (d + 9 + 1) (si M 16 3 0) [(0, vr (some (a, 9, 0)))] 15 [] Q
    refine sX10_key_15 _ a ?_
    have loop : ∀ (m i : Nat) (Mi : zM), i + m = (tkX n c (tkn n c s.1)).length → fr (fun x k => x = 20 ∨ x = 16 ∧ k = 3) M Mi → xR Mi ((tkX n c (tkn n c s.1)).take i) → Z E YX10_key (d + 9 + 1) Mi [(0, vr (some (a, 9, 0))), (1, vi (nI i))] 17 [] Q := by
      intro m
      induction m with
      | zero =>
        intro i Mi hi fi hRi
        have q : ∀ x k, x ≠ 20 → ¬ (x = 16 ∧ k = 3) → gi Mi x k = gi M x k ∧ gr Mi x k = gr M x k := fun x k z1 z2 => by
          have := fi.2 x k (fun z => z.elim z1 z2)
          exact ⟨this.1, this.2.2⟩
        refine iX10_key_17 Mi a _ ⟨16, (q a 0 (by omega) (by omega)).2.trans w3.2.2, 22, (q 16 6 (by decide) (by decide)).2.trans (cw_k w1), 23, 41, (q 22 1 (by decide) (by decide)).2.trans hT.1.2.1, ?_⟩
        rw [(q a 6 (by omega) (by omega)).1, e6, nI_l1, nI_clamp (by omega), nI_clamp (by omega)]
        refine ⟨nI_in (by omega) (by omega), nI_in (by omega) (by omega), ?_⟩
        rw [(q 23 _ (by decide) (by omega)).1, (q 23 _ (by decide) (by omega)).1, hT.1.1.2.1 _ (by omega), hT.1.1.2.1 _ (by omega), flat_suc hj1, nn_sub (by omega), Nat.add_sub_cancel_left, if_pos (nI_le (by omega) (by omega))]
        rw [show (tkX n c (tkn n c s.1)).take i = tkX n c (tkn n c s.1) from List.take_of_length_le (by omega)] at hRi
        refine y_named (dg := dg) (d := d + 7) h (by rw [k2]; decide) hg fi hRi hw.2 (by omega) (fun M2 f2 go => ?_)
        show Z E YX10_key (d + 9 + 1) M2 [(0, vr (some (a, 9, 0)))] 68 [vi (nI (nam (tkX n c (tkn n c s.1)) s).1), vr (some (a, 9, 0))] Q
        refine sX10_key_68 M2 a _ ⟨by omega, ?_⟩
        rw [gi_self]
        refine go d _ _ (.inl rfl) (fun s' e M' f x => ?_) (fun u e ou M' f => ?_)
        · show Z E YX10_key (d + 9 + 1) M' [(1, vi (nI (nam (tkX n c (tkn n c s.1)) s).1))] 97 [] Q
          exact sX10_key_97 M' _ (hy (.inr k2) _ s' (show bnd (nxt' (zOf n c dg) (nam (tkX n c (tkn n c s.1)) s).2) _ = _ by rw [bnd_ok e]; rfl) rfl M' f x)
        · obtain ⟨q, rfl⟩ := fO_inr f.1
          show ZT E YX10_key (d + 9 + 1) M' _ 94 (q, 12, 0) Q
          exact ZT.out (nohand rfl) (hn (.inr k2) u (show bnd (nxt' (zOf n c dg) (nam (tkX n c (tkn n c s.1)) s).2) _ = _ from bnd_er e) _ M' f)
      | succ m ih =>
        intro i Mi hi fi hRi
        have q : ∀ x k, x ≠ 20 → ¬ (x = 16 ∧ k = 3) → gi Mi x k = gi M x k ∧ gr Mi x k = gr M x k := fun x k z1 z2 => by
          have := fi.2 x k (fun z => z.elim z1 z2)
          exact ⟨this.1, this.2.2⟩
        have ci : cw Mi := cw_fg w1 fi.fg (by omega) (fun q hq z => by
          have := (show ∀ q ∈ cwl, ¬ (q.1 = 20 ∨ q.1 = 16 ∧ q.2.1 = 3) by decide +kernel) q hq
          exact this z)
        refine iX10_key_17 Mi a _ ⟨16, (q a 0 (by omega) (by omega)).2.trans w3.2.2, 22, (q 16 6 (by decide) (by decide)).2.trans (cw_k w1), 23, 41, (q 22 1 (by decide) (by decide)).2.trans hT.1.2.1, ?_⟩
        have fl := flat_get hj1 (show i < _ by omega)
        rw [(q a 6 (by omega) (by omega)).1, e6, nI_l1, nI_clamp (by omega), nI_clamp (by omega)]
        refine ⟨nI_in (by omega) (by omega), nI_in (by omega) (by omega), ?_⟩
        rw [(q 23 _ (by decide) (by omega)).1, (q 23 _ (by decide) (by omega)).1, hT.1.1.2.1 _ (by omega), hT.1.1.2.1 _ (by omega), flat_suc hj1, nn_sub (by omega), Nat.add_sub_cancel_left, if_neg (nI_ge (by omega) (by omega)), nn_add, nI_clamp (by omega)]
        refine ⟨24, 400, (q 22 0 (by decide) (by decide)).2.trans hT.1.2.2, nI_in (by omega) (by omega), ?_⟩
        rw [(q 24 _ (by decide) (by omega)).1, hT.1.1.2.2 _ fl.2, fl.1]
        have li : ((tkX n c (tkn n c s.1)).take i).length = i := by rw [List.length_take]; omega
        refine x_write ci hRi (by omega) (hw.2 _ (by rw [getD_lt (show i < _ by omega)]; exact List.getElem_mem _)) (fun M' hR' f' => ?_)
        show Z E YX10_key (d + 9 + 1) M' [(0, vr (some (a, 9, 0))), (1, vi (nI i))] 57 [] Q
        refine sX10_key_57 M' a _ ?_
        rw [nI_l1]
        refine ih (i + 1) M' (by omega) (fi.tr f') ?_
        rw [List.take_add_one, List.getElem?_eq_getElem (show i < _ by omega)]
        rw [getD_lt (show i < _ by omega)] at hR'
        exact hR'
    exact loop (tkX n c (tkn n c s.1)).length 0 _ (by omega) (fr.si (.inr ⟨rfl, rfl⟩)) ⟨gi_self _ _ _ _, by show 0 ≤ 256; decide, fun k hk => by rw [List.take_zero] at hk; exact absurd hk (Nat.not_lt_zero _)⟩
  · rw [if_neg h2]
    by_cases h1 : gi M a 3 = 1
    · have k1 : (tkn n c s.1).1 = 1 := kd.symm.trans h1
      rw [if_pos h1, (y_tak (dg := dg) h (.inl k1)).1]
      refine y_nxN (dg := dg) h (.inl k1) (fun s' e M' f x => ?_) (fun w e ou M' f => ?_)
      · show Z E YX10_key (d + 9 + 1) M' [(1, vi (nI (nam (tkX n c (tkn n c s.1)) s).1))] 97 [] Q
        exact sX10_key_97 M' _ (hy (.inl k1) _ s' e rfl M' f x)
      · obtain ⟨q, rfl⟩ := fO_inr f.1
        show ZT E YX10_key (d + 9 + 1) M' _ 94 (q, 12, 0) Q
        exact ZT.out (nohand rfl) (hn (.inl k1) w e _ M' f)
    · rw [if_neg h1]
      refine x_fault (d := d + 3) (k := 2) (by omega) w3.2.1 hk1.2.2.1 (fun M' f g1 g2 g3 => ?_)
      show Z E YX10_key (d + 9 + 1) M' [] 87 [vr (some (zsz M, 12, 0))] Q
      refine sX10_key_87 M' _ ⟨zsz M, rfl, ?_⟩
      exact hf (fun z => z.elim (fun y => h1 (kd.trans y)) (fun y => h2 (kd.trans y))) _ M' ⟨⟨zsz M, rfl, g1, ⟨Nat.le_refl _, by omega⟩, f.mono fun _ _ _ z => z.elim⟩, g2, g3⟩
end
