/-! TOKENS: all of a source's, purely -/
/-- the token from a place and a line on: kind, which, from, until, line -/
def tkS (n : Nat) (c : Nat → Int32) (p l : Nat) : Int32 × Int32 × Nat × Nat × Nat :=
  if (lxS n c n p l).2.2 = true then ((lxO n c (lxS n c n p l).1).1, (lxO n c (lxS n c n p l).1).2.1, (lxS n c n p l).1, (lxO n c (lxS n c n p l).1).2.2, (lxS n c n p l).2.1)
  else (6, 0, (lxS n c n p l).1, (lxS n c n p l).1, (lxS n c n p l).2.1)
def tkn (n : Nat) (c : Nat → Int32) : Nat → Int32 × Int32 × Nat × Nat × Nat
  | 0 => tkS n c 0 1
  | k + 1 => tkS n c (tkn n c k).2.2.2.1 (tkn n c k).2.2.2.2
theorem lxS_ge (n : Nat) (c : Nat → Int32) (hc : ∀ k, n ≤ k → c k = 0) : ∀ (f p l : Nat), p ≤ n → p ≤ (lxS n c f p l).1 ∧ (lxS n c f p l).1 ≤ n ∧ l ≤ (lxS n c f p l).2.1
  | 0, p, l, h => ⟨Nat.le_refl _, h, Nat.le_refl _⟩
  | f + 1, p, l, h => by
    unfold lxS
    by_cases h0 : n ≤ p
    · rw [if_pos h0]; exact ⟨Nat.le_refl _, h, Nat.le_refl _⟩
    rw [if_neg h0]
    by_cases h1 : c p = 10
    · rw [if_pos h1]; have := lxS_ge n c hc f (p + 1) (l + 1) (by omega); omega
    rw [if_neg h1]
    by_cases h2 : c p = 9 ∨ c p = 32
    · rw [if_pos h2]; have := lxS_ge n c hc f (p + 1) l (by omega); omega
    rw [if_neg h2]
    by_cases h3 : c p = 47 ∧ c (p + 1) = 47
    · rw [if_pos h3]
      have a := lxF_ge n (lxB c) _ p rfl
      have b := lxF_le n (lxB c) _ p rfl h
      have := lxS_ge n c hc f (lxF n (lxB c) p) l b; omega
    rw [if_neg h3]
    by_cases h4 : c p = 47 ∧ c (p + 1) = 42
    · rw [if_pos h4]
      by_cases h5 : n ≤ lxF n (lxC c) (p + 2)
      · rw [if_pos h5]; exact ⟨Nat.le_refl _, h, Nat.le_refl _⟩
      · rw [if_neg h5]
        have a := lxF_ge n (lxC c) _ (p + 2) rfl
        have hit := lxF_hit n (lxC c) _ (p + 2) rfl (by omega)
        by_cases h6 : lxF n (lxC c) (p + 2) + 2 ≤ n
        · have := lxS_ge n c hc f (lxF n (lxC c) (p + 2) + 2) (l + lxN c (lxF n (lxC c) (p + 2) - (p + 2)) (p + 2)) h6; omega
        · exfalso
          unfold lxC at hit
          rw [Bool.and_eq_true, decide_eq_true_eq, decide_eq_true_eq] at hit
          have h7 : c (lxF n (lxC c) (p + 2) + 1) = 47 := hit.2
          rw [hc _ (by omega)] at h7
          exact absurd h7 (by decide)
    · rw [if_neg h4]; exact ⟨Nat.le_refl _, h, Nat.le_refl _⟩
/-- a token that is one -/
abbrev tkg (t : Int32 × Int32 × Nat × Nat × Nat) : Prop := ¬ t.1 = 0 ∧ ¬ t.1 = 6
theorem lxQ_ge (n : Nat) (c : Nat → Int32) (q : Int32) : ∀ (f p m : Nat), p ≤ (lxQ n c q f p m).1
  | 0, p, m => Nat.le_refl _
  | f + 1, p, m => by
    unfold lxQ
    by_cases h0 : n ≤ p
    · rw [if_pos h0]; exact Nat.le_refl _
    rw [if_neg h0]
    by_cases h1 : c p = q
    · rw [if_pos h1]; exact Nat.le_refl _
    rw [if_neg h1]
    by_cases h2 : c p = 92
    · rw [if_pos h2]
      by_cases h3 : p + 1 < n ∧ lxE (c (p + 1)) = true
      · rw [if_pos h3]; have := lxQ_ge n c q f (p + 2) (m + 1); omega
      · rw [if_neg h3]; show p ≤ p + 2; omega
    rw [if_neg h2]
    by_cases h3 : 32 ≤ c p ∧ c p ≤ 126
    · rw [if_pos h3]; have := lxQ_ge n c q f (p + 1) (m + 1); omega
    · rw [if_neg h3]; show p ≤ p + 1; omega
theorem lxT_some : ∀ (L : List (List Int32)) (j n : Nat) (c : Nat → Int32) (p a b : Nat), lxT L j n c p = some (a, b) → j ≤ a ∧ a < j + L.length ∧ L.getD (a - j) [] ∈ L ∧ b = (L.getD (a - j) []).length ∧ lxA n c p (L.getD (a - j) []) = true
  | [], _, _, _, _, _, _, h => by cases h
  | w :: r, j, n, c, p, a, b, h => by
    unfold lxT at h
    by_cases hw : lxA n c p w = true
    · rw [if_pos hw] at h
      cases h
      rw [Nat.sub_self]
      exact ⟨Nat.le_refl _, by simp, List.mem_cons_self, rfl, hw⟩
    · rw [if_neg hw] at h
      obtain ⟨h1, h2, h3, h4, h5⟩ := lxT_some r (j + 1) n c p a b h
      have : a - j = (a - (j + 1)) + 1 := by omega
      rw [this, List.getD_cons_succ]
      exact ⟨by omega, by rw [List.length_cons]; omega, List.mem_cons_of_mem _ h3, h4, h5⟩
theorem lxGt_ne : ∀ w ∈ lxGt, 0 < w.length := by decide +kernel
/-- what a token is -/
theorem lxO_ok {n : Nat} {c : Nat → Int32} {p : Nat} (hp : p < n) : ¬ (lxO n c p).1 = 0 ∧ (¬ (lxO n c p).1 = 6 → p < (lxO n c p).2.2 ∧ (lxO n c p).2.2 ≤ n) := by
  unfold lxO
  rw [if_neg (by omega)]
  by_cases h0 : lxL (c p) = true
  · rw [if_pos h0]
    dsimp only
    refine ⟨?_, fun _ => ⟨lxF_lt hp ?_, lxF_le n _ _ p rfl (by omega)⟩⟩
    · by_cases a : 16 < lxF n (fun k => !(lxI (c k))) p - p
      · rw [if_pos a]; decide
      · rw [if_neg a]
        by_cases b : tfd 0 lxK (lxW c p (lxF n (fun k => !(lxI (c k))) p - p)) = -1
        · rw [if_pos b]; decide
        · rw [if_neg b]; decide
    · unfold lxI; rw [h0]; rfl
  rw [if_neg h0]
  by_cases h1 : lxD (c p) = true
  · rw [if_pos h1]
    dsimp only
    refine ⟨?_, fun _ => ⟨lxF_lt hp (by rw [h1]; rfl), lxF_le n _ _ p rfl (by omega)⟩⟩
    by_cases a : 10 < lxF n (fun k => !(lxD (c k))) p - p ∨ 0 < lg_cmp (lxV c (lxF n (fun k => !(lxD (c k))) p - p) p 0 0) 2147483647 ∨ (lxF n (fun k => !(lxD (c k))) p < n ∧ lxI (c (lxF n (fun k => !(lxD (c k))) p)) = true)
    · rw [if_pos a]; decide
    · rw [if_neg a]; decide
  rw [if_neg h1]
  by_cases h2 : c p = 34 ∨ c p = 39
  · rw [if_pos h2]
    dsimp only
    have := lxQ_ge n c (c p) n (p + 1) 0
    by_cases a : (lxQ n c (c p) n (p + 1) 0).2.2 = true ∧ (lxQ n c (c p) n (p + 1) 0).1 < n ∧ (lxQ n c (c p) n (p + 1) 0).2.1 ≤ 40
    · rw [if_pos a]; exact ⟨by decide, fun _ => ⟨by omega, by omega⟩⟩
    · rw [if_neg a]; exact ⟨by decide, fun z => absurd rfl z⟩
  rw [if_neg h2]
  cases h : lxT lxGt 0 n c p with
  | none => exact ⟨by show ¬ (6 : Int32) = 0; decide, fun z => absurd rfl z⟩
  | some v =>
    obtain ⟨a, b⟩ := v
    obtain ⟨-, -, h3, h4, h5⟩ := lxT_some _ _ _ _ _ _ _ h
    have := lxGt_ne _ h3
    refine ⟨by show ¬ (5 : Int32) = 0; decide, fun _ => ?_⟩
    show p < p + b ∧ p + b ≤ n
    unfold lxA at h5
    rw [Bool.and_eq_true, decide_eq_true_eq] at h5
    omega
theorem tkS_ok {n : Nat} {c : Nat → Int32} (hc : ∀ k, n ≤ k → c k = 0) {p l : Nat} (hp : p ≤ n) : p ≤ (tkS n c p l).2.2.1 ∧ (tkS n c p l).2.2.1 ≤ n ∧ l ≤ (tkS n c p l).2.2.2.2 ∧ (tkg (tkS n c p l) → (tkS n c p l).2.2.1 < (tkS n c p l).2.2.2.1 ∧ (tkS n c p l).2.2.2.1 ≤ n) := by
  have g := lxS_ge n c hc n p l hp
  unfold tkS tkg
  by_cases h : (lxS n c n p l).2.2 = true
  · rw [if_pos h]
    refine ⟨g.1, g.2.1, g.2.2, fun z => ?_⟩
    dsimp only at z ⊢
    have hlt : (lxS n c n p l).1 < n := by
      refine Nat.lt_of_not_le fun q => z.1 ?_
      unfold lxO
      rw [if_pos q]
    exact (lxO_ok hlt).2 z.2
  · rw [if_neg h]
    exact ⟨g.1, g.2.1, g.2.2, fun z => absurd rfl z.2⟩
theorem tkn_ok {n : Nat} {c : Nat → Int32} (hc : ∀ k, n ≤ k → c k = 0) : ∀ k, (∀ j, j < k → tkg (tkn n c j)) → k ≤ (tkn n c k).2.2.1 ∧ (tkn n c k).2.2.1 ≤ n ∧ (tkg (tkn n c k) → (tkn n c k).2.2.1 < (tkn n c k).2.2.2.1 ∧ (tkn n c k).2.2.2.1 ≤ n)
  | 0, _ => by
    have := tkS_ok hc (l := 1) (Nat.zero_le n)
    exact ⟨Nat.zero_le _, this.2.1, this.2.2.2⟩
  | k + 1, h => by
    obtain ⟨a, b, e⟩ := tkn_ok hc k (fun j hj => h j (by omega))
    obtain ⟨e1, e2⟩ := e (h k (by omega))
    have := tkS_ok hc (l := (tkn n c k).2.2.2.2) e2
    show k + 1 ≤ (tkS n c (tkn n c k).2.2.2.1 (tkn n c k).2.2.2.2).2.2.1 ∧ _
    exact ⟨by omega, this.2.1, this.2.2.2⟩
/-- K is the last token -/
def tkl (n : Nat) (c : Nat → Int32) (K : Nat) : Prop := K ≤ n ∧ ¬ tkg (tkn n c K) ∧ ∀ j, j < K → tkg (tkn n c j)
theorem tkl_ex {n : Nat} {c : Nat → Int32} (hc : ∀ k, n ≤ k → c k = 0) : ∃ K, tkl n c K := by
  have : ∀ m k, k + m = n + 1 → (∀ j, j < k → tkg (tkn n c j)) → ∃ K, tkl n c K := by
    intro m
    induction m with
    | zero =>
      intro k hk h
      have := tkn_ok hc n (fun j hj => h j (by omega))
      have e := (this.2.2 (h n (by omega)))
      omega
    | succ m ih =>
      intro k hk h
      by_cases z : tkg (tkn n c k)
      · exact ih (k + 1) (by omega) (fun j hj => by
          by_cases e : j = k
          · rw [e]; exact z
          · exact h j (by omega))
      · exact ⟨k, by omega, z, h⟩
  exact this (n + 1) 0 (by omega) (fun j hj => absurd hj (by omega))
/-- the twin's rows of tokens -/
def tTk (T : zM) (k : Nat) (t : Int32 × Int32 × Nat × Nat × Nat) : Prop := gi T 103 k = t.1 ∧ (¬ t.1 = 6 → ¬ t.1 = 4 → ¬ t.1 = 0 → gi T 104 k = t.2.1) ∧ gi T 105 k = nI t.2.2.1 ∧ (¬ t.1 = 6 → gi T 106 k = nI t.2.2.2.1) ∧ gi T 107 k = nI t.2.2.2.2
def tPc (a k : Nat) : Prop := a = 103 ∨ a = 104 ∨ a = 105 ∨ a = 106 ∨ a = 107 ∨ a = 97 ∧ (k = 12 ∨ k = 18 ∨ k = 19)
section
variable {E : zE} {d : Nat} {Q : zO → zM → Prop} {n : Nat} {c : Nat → Int32}
def tPk (k a j : Nat) : Prop := 103 ≤ a ∧ a ≤ 107 ∧ j = k ∨ a = 97 ∧ (j = 12 ∨ j = 18 ∨ j = 19)
theorem tTk_fr {T T' : zM} {k j : Nat} {t : Int32 × Int32 × Nat × Nat × Nat} (h : tTk T j t) (f : fr (tPk k) T T') (hj : ¬ j = k) : tTk T' j t := by
  have e : ∀ a, 103 ≤ a → a ≤ 107 → gi T' a j = gi T a j := fun a h1 h2 => (f.2 a j (by unfold tPk; omega)).1
  unfold tTk
  rw [e 103 (by omega) (by omega), e 104 (by omega) (by omega), e 105 (by omega) (by omega), e 106 (by omega) (by omega), e 107 (by omega) (by omega)]
  exact h
/-- one token more -/
theorem t_cut1 {T : zM} {k p l : Nat} (hd : 6 ≤ d) (hs : tsrc T n c) (hp : p ≤ n) (hk : k < 4002) (e12 : gi T 97 12 = nI k) (e18 : gi T 97 18 = nI p) (e19 : gi T 97 19 = nI l)
    (go : ∀ (T' : zM) (b : Int32), fr (tPk k) T T' → gi T' 97 12 = nI (k + 1) → tTk T' k (tkS n c p l) → (¬ (tkS n c p l).1 = 6 → gi T' 97 18 = nI (tkS n c p l).2.2.2.1) → gi T' 97 19 = nI (tkS n c p l).2.2.2.2 → (b = if tkg (tkS n c p l) then 1 else 0) → Zm E YX8_cut (d + 1) T' [(0, T97), (1, vi b)] 17 [] Q) : Zm E YX8_cut (d + 1) T [(0, T97), (1, vi 1)] 17 [] Q := by
  have h4000 := hs.2.1
  obtain ⟨d, rfl⟩ : ∃ d', d = d' + 1 := ⟨d - 1, by omega⟩
  refine sX8_cut_17 T _ ?_
  rw [if_neg (by decide)]
  refine sX8_skip_0 T ?_
  refine t_skip2 n p l T (by omega) hp hs e18 e19 (fun T1 f1 a18 a19 => ?_)
  have hg := lxS_ge n c hs.2.2.2 n p l hp
  have hs1 := tsrc_s hs f1
  have a12 : gi T1 97 12 = nI k := ((f1.2 97 12 (by simp [tPs])).1).trans e12
  have g1 : fr (tPk k) T T1 := f1.mono fun a j q => by unfold tPs at q; unfold tPk; omega
  have hS : tkS n c p l = if (lxS n c n p l).2.2 = true then ((lxO n c (lxS n c n p l).1).1, (lxO n c (lxS n c n p l).1).2.1, (lxS n c n p l).1, (lxO n c (lxS n c n p l).1).2.2, (lxS n c n p l).2.1)
    else (6, 0, (lxS n c n p l).1, (lxS n c n p l).1, (lxS n c n p l).2.1) := rfl
  generalize lxS n c n p l = r at *
  show Zm E YX8_cut (d + 1 + 1) T1 [(0, T97)] 25 [vi (bI r.2.2)] Q
  refine iX8_cut_25 T1 _ ?_
  rw [a12, a18, a19, nn_cl (by omega)]
  refine ⟨by rw [nn_in (by omega)]; exact hk, ?_⟩
  -- the row's end
  have fin : ∀ (T2 : zM), fr (tPk k) T T2 → gi T2 97 12 = nI k → gi T2 105 k = nI r.1 → gi T2 107 k = nI r.2.1 → gi T2 97 19 = nI r.2.1 → gi T2 103 k = (tkS n c p l).1 → (¬ (tkS n c p l).1 = 6 → ¬ (tkS n c p l).1 = 4 → ¬ (tkS n c p l).1 = 0 → gi T2 104 k = (tkS n c p l).2.1) → (¬ (tkS n c p l).1 = 6 → gi T2 97 18 = nI (tkS n c p l).2.2.2.1) → (tkS n c p l).2.2.1 = r.1 → (tkS n c p l).2.2.2.2 = r.2.1 → Zm E YX8_cut (d + 1 + 1) T2 [(0, T97)] 98 [] Q := fun T2 f2 b12 b105 b107 b19 b103 b104 b18 t1 t2 => by
    generalize tkS n c p l = t at *
    refine iX8_cut_98 T2 ?_
    rw [b12, nn_cl (by omega), b103, show nI k + 1 = nI (k + 1) from nn_add k 1]
    refine ⟨by rw [nn_in (by omega)]; exact hk, ?_⟩
    have f3 : fr (tPk k) T (si (si T2 106 k (gi T2 97 18)) 97 12 (nI (k + 1))) := f2.tr ((fr.si (by unfold tPk; omega)).tr (fr.si (by unfold tPk; omega)))
    have row : tTk (si (si T2 106 k (gi T2 97 18)) 97 12 (nI (k + 1))) k t := by
      refine ⟨?_, fun z1 z2 z3 => ?_, ?_, fun z => ?_, ?_⟩
      · rw [gi_oth (by decide), gi_oth (by decide)]; exact b103
      · rw [gi_oth (by decide), gi_oth (by decide)]; exact b104 z1 z2 z3
      · rw [gi_oth (by decide), gi_oth (by decide), t1]; exact b105
      · rw [gi_oth (by decide), gi_self]; exact b18 z
      · rw [gi_oth (by decide), gi_oth (by decide), t2]; exact b107
    have q18 : ¬ t.1 = 6 → gi (si (si T2 106 k (gi T2 97 18)) 97 12 (nI (k + 1))) 97 18 = nI t.2.2.2.1 := fun z => by rw [gi_idx (by decide), gi_oth (by decide)]; exact b18 z
    have q19 : gi (si (si T2 106 k (gi T2 97 18)) 97 12 (nI (k + 1))) 97 19 = nI t.2.2.2.2 := by rw [gi_idx (by decide), gi_oth (by decide), t2]; exact b19
    by_cases z6 : t.1 = 6
    · rw [if_pos z6]
      exact go _ 0 f3 (gi_self ..) row q18 q19 (by rw [if_neg (fun z => z.2 z6)])
    rw [if_neg z6]
    by_cases z0 : t.1 = 0
    · rw [if_pos z0]
      exact go _ 0 f3 (gi_self ..) row q18 q19 (by rw [if_neg (fun z => z.1 z0)])
    rw [if_neg z0]
    exact go _ 1 f3 (gi_self ..) row q18 q19 (by rw [if_pos ⟨z0, z6⟩])
  have two : ∀ x : Int32, fr (tPk k) T (si (si (si T1 105 k (nI r.1)) 107 k (nI r.2.1)) 103 k x) := fun x => g1.tr (((fr.si (by unfold tPk; omega)).tr (fr.si (by unfold tPk; omega))).tr (fr.si (by unfold tPk; omega)))
  by_cases hb : r.2.2 = true
  · rw [hb, bI_t, if_neg (by decide)]
    rw [if_pos hb] at hS
    by_cases hn : n ≤ r.1
    · rw [if_pos (by rw [hs1.1, nn_le (by omega) (by omega)]; exact hn)]
      have hO : lxO n c r.1 = (0, 0, r.1) := by unfold lxO; rw [if_pos hn]
      rw [hO] at hS
      refine fin _ (two 0) ?_ ?_ ?_ ?_ ?_ ?_ ?_ ?_ ?_
      · rw [gi_oth (by decide), gi_oth (by decide), gi_oth (by decide)]; exact a12
      · rw [gi_oth (by decide), gi_oth (by decide), gi_self]
      · rw [gi_oth (by decide), gi_self]
      · rw [gi_oth (by decide), gi_oth (by decide), gi_oth (by decide)]; exact a19
      · rw [gi_self, hS]
      · intro _ _ z; rw [hS] at z; exact absurd rfl z
      · intro _; rw [hS, gi_oth (by decide), gi_oth (by decide), gi_oth (by decide)]; exact a18
      · rw [hS]
      · rw [hS]
    · rw [if_neg (by rw [hs1.1, nn_le (by omega) (by omega)]; exact hn)]
      have f4 : fr (fun a j => (a = 105 ∨ a = 107) ∧ j = k) T1 (si (si T1 105 k (nI r.1)) 107 k (nI r.2.1)) := (fr.si (by omega)).tr (fr.si (by omega))
      refine t_cutOne (tk := k) (by omega) (tsrc_fr hs1 f4 (by omega) (fun j => by omega)) (p := r.1) (by omega) ((f4.2 97 18 (by omega)).1.trans a18) ((f4.2 97 12 (by omega)).1.trans a12) hk (fun T3 f5 t3 => ?_)
      show Zm E YX8_cut (d + 1 + 1) T3 [(0, T97)] 98 [] Q
      have f45 : fr (tPk k) T T3 := (g1.tr (f4.mono fun a j q => by unfold tPk; omega)).tr (f5.mono fun a j q => by unfold tPo at q; unfold tPk; omega)
      refine fin T3 f45 ?_ ?_ ?_ ?_ ?_ ?_ ?_ ?_ ?_
      · rw [(f5.2 97 12 (by unfold tPo; omega)).1, (f4.2 97 12 (by omega)).1]; exact a12
      · rw [(f5.2 105 k (by unfold tPo; omega)).1, gi_oth (by decide), gi_self]
      · rw [(f5.2 107 k (by unfold tPo; omega)).1, gi_self]
      · rw [(f5.2 97 19 (by unfold tPo; omega)).1, (f4.2 97 19 (by omega)).1]; exact a19
      · rw [hS]; exact t3.1
      · rw [hS]; exact t3.2.2
      · rw [hS]; exact fun _ => t3.2.1
      · rw [hS]
      · rw [hS]
  · rw [if_neg hb] at hS
    have hb' : r.2.2 = false := by simpa using hb
    rw [hb', bI_f, if_pos rfl]
    refine fin _ (two 6) ?_ ?_ ?_ ?_ ?_ ?_ ?_ ?_ ?_
    · rw [gi_oth (by decide), gi_oth (by decide), gi_oth (by decide)]; exact a12
    · rw [gi_oth (by decide), gi_oth (by decide), gi_self]
    · rw [gi_oth (by decide), gi_self]
    · rw [gi_oth (by decide), gi_oth (by decide), gi_oth (by decide)]; exact a19
    · rw [gi_self, hS]
    · intro z; rw [hS] at z; exact absurd rfl z
    · intro z; rw [hS] at z; exact absurd rfl z
    · rw [hS]
    · rw [hS]
theorem t_cut {M : zM} (hd : 6 ≤ d) (hs : tsrc M n c) {K : Nat} (hK : tkl n c K) (hQ : ∀ T', fr tPc M T' → gi T' 97 12 = nI (K + 1) → (∀ k, k ≤ K → tTk T' k (tkn n c k)) → Q (.inl none) T') : Zm E YX8_cut (d + 1) M [(0, T97)] 0 [] Q := by
  have h4000 := hs.2.1
  have hc := hs.2.2.2
  have up : ∀ {k : Nat} {A B : zM}, fr (tPk k) A B → fr tPc A B := fun {k A B} f => f.mono fun a j q => by unfold tPk at q; unfold tPc; omega
  have srcT : ∀ {T : zM}, fr tPc M T → tsrc T n c := fun {T} f => tsrc_fr hs f (by unfold tPc; omega) (fun j => by unfold tPc; omega)
  have K0 := hK.1
  have loop : ∀ (m k p l : Nat) (T : zM), k + m = K → p ≤ n → tkn n c k = tkS n c p l → fr tPc M T → gi T 97 12 = nI k → gi T 97 18 = nI p → gi T 97 19 = nI l → (∀ j, j < k → tTk T j (tkn n c j)) → Zm E YX8_cut (d + 1) T [(0, T97), (1, vi 1)] 17 [] Q := by
    intro m
    induction m with
    | zero =>
      intro k p l T hk hp et f e12 e18 e19 H
      refine t_cut1 hd (srcT f) hp (by omega) e12 e18 e19 (fun T' b f' b12 row b18 b19 hb => ?_)
      have ek : k = K := by omega
      rw [← et] at hb row
      have b0 : b = 0 := by rw [hb, ek, if_neg hK.2.1]
      refine sX8_cut_17 T' _ ?_
      rw [if_pos b0]
      refine hQ T' (f.tr (up f')) (by rw [b12, ek]) (fun j hj => ?_)
      by_cases e : j = k
      · rw [e]; exact row
      · exact tTk_fr (H j (by omega)) f' e
    | succ m ih =>
      intro k p l T hk hp et f e12 e18 e19 H
      refine t_cut1 hd (srcT f) hp (by omega) e12 e18 e19 (fun T' b f' b12 row b18 b19 hb => ?_)
      rw [← et] at hb row b18 b19
      have good := hK.2.2 k (by omega)
      have ok := (tkn_ok hc k (fun j hj => hK.2.2 j (by omega))).2.2 good
      rw [if_pos good] at hb
      rw [hb]
      exact ih (k + 1) _ _ T' (by omega) ok.2 rfl (f.tr (up f')) b12 (b18 good.2) b19 (fun j hj => by
          by_cases e : j = k
          · rw [e]; exact row
          · exact tTk_fr (H j (by omega)) f' e)
  refine sX8_cut_0 M ?_
  refine loop K 0 0 1 _ (by omega) (by omega) rfl (((fr.si ?_).tr (fr.si ?_)).tr (fr.si ?_)) ?_ ?_ ?_ (fun j hj => absurd hj (by omega))
  all_goals first | (unfold tPc; omega) | (simp [gi_si]; try rfl)
end
