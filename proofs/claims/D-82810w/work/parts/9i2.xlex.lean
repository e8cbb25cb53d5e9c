/-! THE COMPONENT's LEXER: blanks, comments, faults -/
def xsrc (M : zM) (n : Nat) (c : Nat → Int32) : Prop := gi M 16 5 = nI n ∧ n ≤ 1280 ∧ (∀ k, k < n → gi M 21 k &&& 255 = c k) ∧ ∀ k, n ≤ k → c k = 0
/-- what the lexer a changes -/
def tkP (a x k : Nat) : Prop := x = a ∧ k ≠ 0 ∨ x = 16 ∧ k = 3 ∨ x = 20 ∨ x = 17 ∧ k = 2 ∨ x = 18 ∨ x = 19
/-- the lexer a stands at p, line l -/
def xLx (M : zM) (a n : Nat) (c : Nat → Int32) (p l : Nat) : Prop := cw M ∧ xsrc M n c ∧ (190 ≤ a ∧ a < zsz M ∧ gr M a 0 = some (16, 0, 0)) ∧ gi M a 1 = nI p ∧ gi M a 2 = nI l
/-- what blanks change -/
def spP (a x k : Nat) : Prop := x = a ∧ (k = 1 ∨ k = 2)
theorem cw_t {M : zM} (h : cw M) : gr M 16 4 = some (21, 101, 4000) := h (16, 4, (21, 101, 4000)) (by decide +kernel)
theorem cw_k {M : zM} (h : cw M) : gr M 16 6 = some (22, 2, 0) := h (16, 6, (22, 2, 0)) (by decide +kernel)
theorem cw_s {M : zM} (h : cw M) : gr M 16 7 = some (25, 2, 0) := h (16, 7, (25, 2, 0)) (by decide +kernel)
theorem cw_r {M : zM} (h : cw M) : gr M 16 2 = some (20, 101, 256) := h (16, 2, (20, 101, 256)) (by decide +kernel)
theorem cw_x {M : zM} (h : cw M) : gr M 16 0 = some (17, 2, 0) := h (16, 0, (17, 2, 0)) (by decide +kernel)
theorem xsrc_fg {M M' : zM} {n : Nat} {c : Nat → Int32} {P : Nat → Nat → Prop} (h : xsrc M n c) (f : fg P M M') (hz : 22 ≤ zsz M) (h1 : ¬ P 16 5) (h2 : ∀ k, ¬ P 21 k) : xsrc M' n c :=
  ⟨(f.gi (by omega) h1).trans h.1, h.2.1, fun k hk => by rw [f.gi (by omega) (h2 k)]; exact h.2.2.1 k hk, h.2.2.2⟩
theorem cw_fg {M M' : zM} {P : Nat → Nat → Prop} (h : cw M) (f : fg P M M') (hz : 30 ≤ zsz M) (hp : ∀ q ∈ cwl, ¬ P q.1 q.2.1) : cw M' := fun q hq => (f.gr (by rcases cwl_16 q hq with g | g <;> omega) (hp q hq)).trans (h q hq)
theorem tkP_cw {a : Nat} (ha : 190 ≤ a) : ∀ q ∈ cwl, ¬ tkP a q.1 q.2.1 := fun q hq => by
  unfold tkP
  rcases cwl_16 q hq with g | g <;> omega
theorem xLx_fg {M M' : zM} {a n p l p' l' : Nat} {c : Nat → Int32} (h : xLx M a n c p l) (f : fg (tkP a) M M') (e1 : gi M' a 1 = nI p') (e2 : gi M' a 2 = nI l') : xLx M' a n c p' l' := by
  obtain ⟨h1, h2, h3, -, -⟩ := h
  have := f.1.1
  exact ⟨cw_fg h1 f (by omega) (tkP_cw h3.1), xsrc_fg h2 f (by omega) (by unfold tkP; omega) (fun k => by unfold tkP; omega), ⟨h3.1, by omega, (f.gr h3.2.1 (by unfold tkP; omega)).trans h3.2.2⟩, e1, e2⟩
theorem xl_at {M : zM} {n : Nat} {c : Nat → Int32} (hs : xsrc M n c) {k : Nat} (hk : k < n) : gi M 21 (nI k).toNatClampNeg &&& 255 = c k := by
  have := hs.2.1
  rw [nI_clamp (by omega)]; exact hs.2.2.1 k hk
section
variable {E : zE} {d : Nat} {Q : zO → zM → Prop} {n : Nat} {c : Nat → Int32} {a : Nat}
theorem spT {M M' : zM} (f : fr (spP a) M M') : fg (tkP a) M M' := (f.mono fun x k q => by unfold spP at q; unfold tkP; omega).fg
/-- a fault is made -/
theorem x_newF {M : zM} {w : Int32} (h16 : 16 ≤ zsz M) (hQ : ∀ M', fg (fun _ _ => False) M M' → gi M' (zsz M) 6 = w → zsz M' = zsz M + 1 → zsu M' = zsu M + 7 → Q (.inl none) M') : Z E YX12_init (d + 5) (zn M 7) [(0, vr (some (zsz M, 12, 0))), (1, vi w)] 0 [] Q := by
  refine sX12_init_0 _ _ _ ?_
  refine sJ5_init_0 _ _ _ _ _ _ _ ?_
  refine sJ4_init_0 _ _ _ _ _ _ _ ?_
  refine jJ3t12_init_2 _ _ ⟨h16, ?_⟩
  have f : ∀ M1 : zM, fg (fun _ _ => False) M M1 → ∀ k v, fg (fun _ _ => False) M (sr M1 (zsz M) k v) := fun M1 h k v => h.tr2 (fr.sr (.inr (Nat.le_refl _))).fg
  have f7 := f _ (f _ (f _ (f _ (f _ (f _ (f _ (fg.zn (n := 7)) 0 (some (zsz M, 12, 0))) 1 (zsv E 2)) 2 (zsv E 3)) 1 none) 3 none) 0 none) 2 none
  generalize hM : sr (sr (sr (sr (sr (sr (sr (zn M 7) (zsz M) 0 (some (zsz M, 12, 0))) (zsz M) 1 (zsv E 2)) (zsz M) 2 (zsv E 3)) (zsz M) 1 none) (zsz M) 3 none) (zsz M) 0 none) (zsz M) 2 none = M1 at f7
  have s1 : zsz M1 = zsz M + 1 := by rw [← hM]; rfl
  have u1 : zsu M1 = zsu M + 7 := by rw [← hM]; rfl
  show Z E YJ4_init (d + 2 + 1) M1 [] 9 [] _
  refine sJ4_init_9 _ ?_
  show Z E YJ5_init (d + 3 + 1) M1 [] 9 [] _
  refine sJ5_init_9 _ ?_
  show Z E YX12_init (d + 4 + 1) M1 [(0, vr (some (zsz M, 12, 0))), (1, vi w)] 8 [] Q
  refine sX12_init_8 _ _ _ ⟨h16, hQ _ (f7.tr2 (fr.si (.inr (Nat.le_refl _))).fg) (gi_self ..) s1 u1⟩
/-- a fault was thrown: what it tells -/
def fO (P : Nat → Nat → Prop) (M : zM) (w : Nat) (o : zO) (M' : zM) : Prop := ∃ q, o = .inr (q, 12, 0) ∧ gi M' q 6 = nI w ∧ (zsz M ≤ q ∧ q < zsz M') ∧ fg P M M'
theorem x_fault {M : zM} {l k : Nat} (h16 : 16 ≤ zsz M) (ha : a < zsz M) (hl : gi M a 4 = nI l) (hQ : ∀ M', fg (fun _ _ => False) M M' → gi M' (zsz M) 6 = nI (k + 8 * l) → zsz M' = zsz M + 1 → zsu M' = zsu M + 7 → Q (.inl (some (vr (some (zsz M, 12, 0))))) M') : Z E YX10_fault (d + 6) M [(0, vr (some (a, 9, 0))), (1, vi (nI k))] 0 [] Q := by
  refine iX10_fault_0 M a _ ?_
  rw [gi_zn, if_neg (by omega), hl, show (8 : Int32) * nI l = nI (8 * l) from nn_lmul l 8, nn_add]
  refine x_newF h16 (fun M' f e s u => ?_)
  show Z E YX10_fault (d + 5 + 1) M' [] 16 [vr (some (zsz M, 12, 0))] Q
  exact sX10_fault_16 M' _ (hQ M' f e s u)
theorem x_line :
    ∀ (f p : Nat) (M : zM) (l : Nat), n - p = f → p ≤ n → xLx M a n c p l → (∀ M', fr (spP a) M M' → xLx M' a n c (lxF n (lxB c) p) l → Z E YX10_space (d + 1) M' [(0, vr (some (a, 9, 0)))] 0 [] Q) → Z E YX10_space (d + 1) M [(0, vr (some (a, 9, 0)))] 91 [] Q := by
  intro f
  induction f with
  | zero =>
    intro p M l hf hp h k
    obtain ⟨h1, h2, h3, h4, h5⟩ := id h
    have := h2.2.1
    refine iX10_space_91 M a ⟨16, h3.2.2, ?_⟩
    rw [h2.1, h4, if_pos (nI_le (by omega) (by omega))]
    exact k M fr.rf (by rw [lxF_end (by omega)]; exact h)
  | succ f ih =>
    intro p M l hf hp h k
    obtain ⟨h1, h2, h3, h4, h5⟩ := id h
    have := h2.2.1
    refine iX10_space_91 M a ⟨16, h3.2.2, ?_⟩
    rw [h2.1, h4, if_neg (nI_ge (show p < n by omega) (by omega))]
    refine ⟨21, 4000, cw_t h1, nI_in (by omega) (by omega), ?_⟩
    rw [xl_at h2 (by omega)]
    by_cases hb : c p = 10
    · rw [if_pos hb]
      exact k M fr.rf (by rw [lxF_yes (by unfold lxB; rw [decide_eq_true hb])]; exact h)
    · rw [if_neg hb, nI_l1]
      have f1 : fr (spP a) M (si M a 1 (nI (p + 1))) := fr.si ⟨rfl, by decide⟩
      refine ⟨by omega, ih (p + 1) _ l (by omega) (by omega) (xLx_fg h (spT f1) (gi_self ..) ((gi_idx (by decide)).trans h5)) (fun M' g1 g2 => k M' (f1.tr g1) ?_)⟩
      rw [lxF_no (by omega) (by unfold lxB; rw [decide_eq_false hb])]; exact g2
/-- a comment -/
theorem x_comment {p l : Nat} {M : zM} (hp : p + 2 ≤ n) (h : xLx M a n c p l)
    (hyes : lxF n (lxC c) (p + 2) < n → ∀ M', fr (spP a) M M' → xLx M' a n c (lxF n (lxC c) (p + 2) + 2) (l + lxN c (lxF n (lxC c) (p + 2) - (p + 2)) (p + 2)) → Q (.inl none) M')
    (hno : n ≤ lxF n (lxC c) (p + 2) → ∀ o M', fO (spP a) M (1 + 8 * l) o M' → (zsz M' = zsz M + 1 ∧ zsu M' = zsu M + 7) → Q o M') : Z E YX10_comment (d + 6) M [(0, vr (some (a, 9, 0)))] 0 [] Q := by
  have loop : ∀ (f k : Nat) (M1 : zM), n - k = f → k ≤ n → p + 2 ≤ k → lxF n (lxC c) k = lxF n (lxC c) (p + 2) → fr (spP a) M M1 → xLx M1 a n c k (l + lxN c (k - (p + 2)) (p + 2)) → Z E YX10_comment (d + 5 + 1) M1 [(0, vr (some (a, 9, 0))), (1, vi (nI l))] 15 [] Q := by
    intro f
    induction f with
    | zero =>
      intro k M1 hf hk hpk hke hfr h1
      obtain ⟨w1, w2, w3, w4, w5⟩ := id h1
      have := w2.2.1
      rw [lxF_end (by omega)] at hke
      refine iX10_comment_15 M1 a _ ⟨16, w3.2.2, ?_⟩
      rw [w2.1, w4, if_pos (nI_le (by omega) (by omega)), if_neg (show ¬ nI k < nI n from nI_nlt (by omega) (by omega)), show (1 : Int32) + (8 : Int32) * nI l = nI (1 + 8 * l) from by rw [show (8 : Int32) * nI l = nI (8 * l) from nn_lmul l 8]; exact nn_ladd (8 * l) 1]
      refine x_newF (by omega) (fun M' f e s u => ?_)
      show Z E YX10_comment (d + 5 + 1) M' [] 120 [vr (some (zsz M1, 12, 0))] Q
      refine sX10_comment_120 M' _ (hno (by omega) _ M' ⟨zsz M1, rfl, e, ⟨by rw [hfr.1.1]; exact Nat.le_refl _, by omega⟩, hfr.fg.tr (f.mono fun _ _ _ q => q.elim)⟩ ⟨by rw [s, hfr.1.1], by rw [u, hfr.1.2]⟩)
    | succ f ih =>
      intro k M1 hf hk hpk hke hfr h1
      obtain ⟨w1, w2, w3, w4, w5⟩ := id h1
      have := w2.2.1
      have hkn : k < n := by omega
      have go : lxC c k = false → ∀ l', l' = l + lxN c (k - (p + 2)) (p + 2) + (if c k = 10 then 1 else 0) → ∀ M2, fr (spP a) M1 M2 → gi M2 a 1 = nI (k + 1) → gi M2 a 2 = nI l' → Z E YX10_comment (d + 5 + 1) M2 [(0, vr (some (a, 9, 0))), (1, vi (nI l))] 15 [] Q := fun hC l' hl' M2 f2 e1 e2 => by
        refine ih (k + 1) M2 (by omega) (by omega) (by omega) (by rw [← lxF_no hkn hC]; exact hke) (hfr.tr f2) (xLx_fg h1 (spT f2) e1 ?_)
        rw [e2, hl', show k + 1 - (p + 2) = (k - (p + 2)) + 1 by omega, lxN_add, show p + 2 + (k - (p + 2)) = k by omega]
        show nI (l + _ + _) = nI (l + (_ + ((if c k = 10 then 1 else 0) + 0)))
        rw [Nat.add_assoc]
        rfl
      have step : lxC c k = false → if c k = 10 then (16 ≤ a ∧ Z E YX10_comment (d + 5 + 1) (si (si M1 a 2 (gi M1 a 2 + 1)) a 1 (gi (si M1 a 2 (gi M1 a 2 + 1)) a 1 + 1)) [(0, vr (some (a, 9, 0))), (1, vi (nI l))] 15 [] Q) else (16 ≤ a ∧ Z E YX10_comment (d + 5 + 1) (si M1 a 1 (nI k + 1)) [(0, vr (some (a, 9, 0))), (1, vi (nI l))] 15 [] Q) := fun hC => by
        by_cases h10 : c k = 10
        · rw [if_pos h10, w5, gi_idx (by decide), w4, nI_l1, nI_l1]
          exact ⟨by omega, go hC _ (by rw [if_pos h10]) _ ((fr.si ⟨rfl, by decide⟩).tr (fr.si ⟨rfl, by decide⟩)) (gi_self ..) ((gi_idx (by decide)).trans (gi_self ..))⟩
        · rw [if_neg h10, nI_l1]
          exact ⟨by omega, go hC _ (by rw [if_neg h10]; rfl) _ (fr.si ⟨rfl, by decide⟩) (gi_self ..) ((gi_idx (by decide)).trans w5)⟩
      refine iX10_comment_15 M1 a _ ⟨16, w3.2.2, ?_⟩
      rw [w2.1, if_neg (by rw [w4]; exact nI_ge hkn (by omega))]
      refine ⟨21, 4000, cw_t w1, by rw [w4]; exact nI_in (by omega) (by omega), ?_⟩
      rw [w4, xl_at w2 hkn, nI_l1 k]
      by_cases h42 : c k = 42
      · rw [if_pos h42]
        by_cases hk1 : k + 1 < n
        · rw [if_neg (nI_ge hk1 (by omega))]
          refine ⟨nI_in (by omega) (by omega), ?_⟩
          rw [xl_at w2 hk1]
          by_cases h47 : c (k + 1) = 47
          · rw [if_pos h47]
            have hC : lxC c k = true := by unfold lxC; rw [decide_eq_true h42, decide_eq_true h47]; rfl
            rw [lxF_yes hC] at hke
            rw [if_pos (nI_lt hkn (by omega)), nI_l2]
            have f1 : fr (spP a) M1 (si M1 a 1 (nI (k + 2))) := fr.si ⟨rfl, by decide⟩
            refine ⟨by omega, hyes (by omega) _ (hfr.tr f1) ?_⟩
            rw [← hke]
            exact xLx_fg h1 (spT f1) (gi_self ..) ((gi_idx (by decide)).trans w5)
          · rw [if_neg h47, ← nI_l1 k]
            exact step (by unfold lxC; rw [decide_eq_false h47, Bool.and_false])
        · rw [if_pos (nI_le (by omega) (by omega)), ← nI_l1 k]
          refine step ?_
          unfold lxC
          rw [w2.2.2.2 (k + 1) (by omega), Bool.and_eq_false_iff]
          exact Or.inr (by decide)
      · rw [if_neg h42, ← nI_l1 k]
        exact step (by unfold lxC; rw [decide_eq_false h42, Bool.false_and])
  obtain ⟨w1, w2, w3, w4, w5⟩ := id h
  refine sX10_comment_0 M a ⟨by omega, ?_⟩
  rw [w4, w5, nI_l2]
  have f1 : fr (spP a) M (si M a 1 (nI (p + 2))) := fr.si ⟨rfl, by decide⟩
  refine loop _ (p + 2) _ rfl hp (Nat.le_refl _) rfl f1 (xLx_fg h (spT f1) (gi_self ..) ((gi_idx (by decide)).trans ?_))
  rw [Nat.sub_self]
  exact w5
/-- blanks and comments -/
theorem x_space :
    ∀ (f p l : Nat) (M : zM), n - p ≤ f → p ≤ n → xLx M a n c p l → ((lxS n c f p l).2.2 = true → ∀ M', fr (spP a) M M' → xLx M' a n c (lxS n c f p l).1 (lxS n c f p l).2.1 → Q (.inl none) M') →
      ((lxS n c f p l).2.2 = false → ∀ o M', fO (spP a) M (1 + 8 * (lxS n c f p l).2.1) o M' → (zsz M' = zsz M + 1 ∧ zsu M' = zsu M + 7) → Q o M') → Z E YX10_space (d + 7) M [(0, vr (some (a, 9, 0)))] 0 [] Q := by
  intro f
  induction f with
  | zero =>
    intro p l M hf hp h hy hn
    obtain ⟨w1, w2, w3, w4, w5⟩ := id h
    have := w2.2.1
    refine iX10_space_0 M a ⟨16, w3.2.2, ?_⟩
    rw [w2.1, w4, if_pos (nI_le (by omega) (by omega))]
    exact hy rfl M fr.rf h
  | succ f ih =>
    intro p l M hf hp h hy hn
    obtain ⟨w1, w2, w3, w4, w5⟩ := id h
    have := w2.2.1
    have hun : lxS n c (f + 1) p l = (if n ≤ p then (p, l, true) else if c p = 10 then lxS n c f (p + 1) (l + 1) else if c p = 9 ∨ c p = 32 then lxS n c f (p + 1) l else if c p = 47 ∧ c (p + 1) = 47 then lxS n c f (lxF n (lxB c) p) l
        else if c p = 47 ∧ c (p + 1) = 42 then (if n ≤ lxF n (lxC c) (p + 2) then (p, l, false) else lxS n c f (lxF n (lxC c) (p + 2) + 2) (l + lxN c (lxF n (lxC c) (p + 2) - (p + 2)) (p + 2))) else (p, l, true)) := rfl
    by_cases hpn : p < n
    · rw [if_neg (by omega)] at hun
      -- on from here
      have go : ∀ (p' l' : Nat) (M1 : zM), n - p' ≤ f → p' ≤ n → lxS n c (f + 1) p l = lxS n c f p' l' → fr (spP a) M M1 → xLx M1 a n c p' l' → Z E YX10_space (d + 6 + 1) M1 [(0, vr (some (a, 9, 0)))] 0 [] Q := fun p' l' M1 h1 h2 h3 f1 h4 => by
        rw [h3] at hy hn
        exact ih p' l' M1 h1 h2 h4 (fun z M' g1 g2 => hy z M' (f1.tr g1) g2) (fun z o M' g1 g2 => hn z o M' (by
          obtain ⟨q, e1, e2, e3, e4⟩ := g1
          exact ⟨q, e1, e2, ⟨by rw [← f1.1.1]; exact e3.1, e3.2⟩, f1.fg.tr e4⟩) ⟨by rw [g2.1, f1.1.1], by rw [g2.2, f1.1.2]⟩)
      have blank : ∀ (l' : Nat) (M1 : zM), lxS n c (f + 1) p l = lxS n c f (p + 1) l' → fr (spP a) M M1 → xLx M1 a n c p l' → Z E YX10_space (d + 6 + 1) (si M1 a 1 (gi M1 a 1 + 1)) [(0, vr (some (a, 9, 0)))] 0 [] Q := fun l' M1 h1 f1 h4 => by
        have f2 : fr (spP a) M1 (si M1 a 1 (nI (p + 1))) := fr.si ⟨rfl, by decide⟩
        rw [h4.2.2.2.1, nI_l1]
        exact go (p + 1) l' _ (by omega) (by omega) h1 (f1.tr f2) (xLx_fg h4 (spT f2) (gi_self ..) ((gi_idx (by decide)).trans h4.2.2.2.2))
      refine iX10_space_0 M a ⟨16, w3.2.2, ?_⟩
      rw [w2.1, w4, if_neg (nI_ge hpn (by omega))]
      refine ⟨21, 4000, cw_t w1, nI_in (by omega) (by omega), ?_⟩
      rw [xl_at w2 hpn]
      by_cases h10 : c p = 10
      · rw [if_pos h10, h10, w5, nI_l1]
        have f1 : fr (spP a) M (si M a 2 (nI (l + 1))) := fr.si ⟨rfl, by decide⟩
        refine ⟨by omega, iX10_space_39 _ a 10 ?_⟩
        rw [if_neg (by decide), if_pos rfl]
        exact ⟨by omega, blank (l + 1) _ (by rw [hun, if_pos h10]) f1 (xLx_fg h (spT f1) ((gi_idx (by decide)).trans w4) (gi_self ..))⟩
      rw [if_neg h10]
      rw [if_neg h10] at hun
      refine iX10_space_39 _ a (c p) ?_
      by_cases h9 : c p = 9
      · rw [if_pos h9]
        exact ⟨by omega, blank l M (by rw [hun, if_pos (.inl h9)]) fr.rf h⟩
      rw [if_neg h9, if_neg h10]
      by_cases h32 : c p = 32
      · rw [if_pos h32]
        exact ⟨by omega, blank l M (by rw [hun, if_pos (.inr h32)]) fr.rf h⟩
      rw [if_neg h32]
      rw [if_neg (fun z => z.elim h9 h32)] at hun
      have stop : lxS n c (f + 1) p l = (p, l, true) → Q (.inl none) M := fun z => by
        rw [z] at hy
        exact hy rfl M fr.rf h
      by_cases h47 : c p = 47
      · rw [if_pos h47]
        refine ⟨16, w3.2.2, ?_⟩
        rw [w2.1, w4, nI_l1]
        by_cases hp1 : p + 1 < n
        · rw [if_neg (nI_ge hp1 (by omega))]
          refine ⟨21, 4000, cw_t w1, nI_in (by omega) (by omega), ?_⟩
          rw [xl_at w2 hp1]
          by_cases h1 : c (p + 1) = 47
          · rw [if_pos h1]
            rw [if_pos ⟨h47, h1⟩] at hun
            have hB : lxB c p = false := by unfold lxB; rw [decide_eq_false h10]
            have hg := lxF_lt hpn hB
            have hle := lxF_le n (lxB c) _ p rfl hp
            exact x_line _ p M l rfl hp h (fun M' g1 g2 => go _ l M' (by omega) hle hun g1 g2)
          · rw [if_neg h1]
            rw [if_neg (fun z => h1 z.2)] at hun
            by_cases h2 : c (p + 1) = 42
            · rw [if_pos h2]
              rw [if_pos ⟨h47, h2⟩] at hun
              refine x_comment (by omega) h (fun hyes M' g1 g2 => ?_) (fun hno o M' g1 g2 => ?_)
              · rw [if_neg (by omega)] at hun
                have hge := lxF_ge n (lxC c) _ (p + 2) rfl
                have hlt : lxF n (lxC c) (p + 2) + 1 < n := by
                  have hC := lxF_hit n (lxC c) _ (p + 2) rfl hyes
                  unfold lxC at hC
                  rw [Bool.and_eq_true] at hC
                  have h4 : c (lxF n (lxC c) (p + 2) + 1) = 47 := of_decide_eq_true hC.2
                  by_cases hz : lxF n (lxC c) (p + 2) + 1 < n
                  · exact hz
                  · rw [w2.2.2.2 _ (by omega)] at h4
                    exact absurd h4 (by decide)
                show Z E YX10_space (d + 6 + 1) M' [(0, vr (some (a, 9, 0)))] 156 [] Q
                exact sX10_space_156 M' a (go _ _ M' (by omega) (by omega) hun g1 g2)
              · rw [if_pos hno] at hun
                rw [hun] at hn
                obtain ⟨q, rfl, e2, e3, e4⟩ := g1
                show ZT E YX10_space (d + 6 + 1) M' _ 153 (q, 12, 0) Q
                exact ZT.out (nohand rfl) (hn rfl _ M' ⟨q, rfl, e2, e3, e4⟩ g2)
            · rw [if_neg h2]
              rw [if_neg (fun z => h2 z.2)] at hun
              exact stop hun
        · rw [if_pos (nI_le (by omega) (by omega))]
          have hz := w2.2.2.2 (p + 1) (by omega)
          rw [if_neg (fun z => absurd z.2 (by rw [hz]; decide)), if_neg (fun z => absurd z.2 (by rw [hz]; decide))] at hun
          exact stop hun
      · rw [if_neg h47]
        rw [if_neg (fun z => h47 z.1), if_neg (fun z => h47 z.1)] at hun
        exact stop hun
    · refine iX10_space_0 M a ⟨16, w3.2.2, ?_⟩
      rw [w2.1, w4, if_pos (nI_le (by omega) (by omega))]
      rw [show lxS n c (f + 1) p l = (p, l, true) from if_pos (by omega)] at hy
      exact hy rfl M fr.rf h
end
