/-! THE COMPONENT's PARSER: what only looks at the token -/
section
variable {E : zE} {d : Nat} {Q : zO → zM → Prop} {n : Nat} {c : Nat → Int32} {a pp : Nat} {M : zM} {s : pS} {dg : Int32 → List Int32}
/-- the token at hand, by its kind -/
theorem tk_kd (h : xTz M a n c s) : gi M a 3 = tkd (zOf n c dg) s.1 := by obtain ⟨⟨lp, hk, -⟩, -⟩ := h; exact hk.2.1
theorem tk_k (h : xTz M a n c s) (h2 : gi M a 3 = 2) (j : Int32) : isK (zOf n c dg) j s = decide (gi M a 6 = j) := by
  have := y_isK j dg h
  by_cases z : gi M a 6 = j
  · rw [decide_eq_true z]; exact this.mp ⟨h2, z⟩
  · rw [decide_eq_false z]
    cases hs : isK (zOf n c dg) j s with
    | false => rfl
    | true => exact absurd (this.mpr hs).2 z
theorem tk_nk (h : xTz M a n c s) (h2 : ¬ gi M a 3 = 2) (j : Int32) : isK (zOf n c dg) j s = false := by
  cases hs : isK (zOf n c dg) j s with
  | false => rfl
  | true => exact absurd ((y_isK j dg h).mpr hs).1 h2
theorem tk_s (h : xTz M a n c s) (h5 : gi M a 3 = 5) {j : Nat} (hj : j < 48) {k : Int32} (hk : sgX (nI j) = k) : isS (zOf n c dg) (nI j) s = decide (gi M a 6 = k) := by
  have := y_isS hj dg h
  rw [hk] at this
  by_cases z : gi M a 6 = k
  · rw [decide_eq_true z]; exact this.mp ⟨h5, z⟩
  · rw [decide_eq_false z]
    cases hs : isS (zOf n c dg) (nI j) s with
    | false => rfl
    | true => exact absurd (this.mpr hs).2 z
theorem tk_ns (h : xTz M a n c s) (h5 : ¬ gi M a 3 = 5) {j : Nat} (hj : j < 48) : isS (zOf n c dg) (nI j) s = false := by
  cases hs : isS (zOf n c dg) (nI j) s with
  | false => rfl
  | true => exact absurd ((y_isS hj dg h).mpr hs).1 h5
/-- signs that begin an expression -/
def sgB (z : pZ) (s : pS) : Bool := isS z 26 s || isS z 28 s || isS z 35 s || isS z 36 s || isS z 10 s || isS z 11 s || isS z 43 s || isS z 44 s
theorem sgX_t : sgX (nI 26) = 2 ∧ sgX (nI 28) = 4 ∧ sgX (nI 35) = 17 ∧ sgX (nI 36) = 18 ∧ sgX (nI 10) = 22 ∧ sgX (nI 11) = 23 ∧ sgX (nI 43) = 30 ∧ sgX (nI 44) = 31 ∧ sgX (nI 24) = 0 ∧ sgX (nI 25) = 1 ∧ sgX (nI 31) = 7 ∧ sgX (nI 47) = 36 := by decide +kernel
theorem y_starts (h : xTz M a n c s) (hp : gr M pp 1 = some (a, 9, 0)) (hQ : Q (.inl (some (vi (if sgB (zOf n c dg) s then 1 else 0)))) M) : Z E YX9_startsExpression (d + 1) M [(0, vr (some (pp, 8, 0)))] 0 [] Q := by
  refine sX9_startsExpression_0 M pp ⟨a, hp, ?_⟩
  refine sX10_is_0 M a _ ?_
  obtain ⟨t1, t2, t3, t4, t5, t6, t7, t8, -⟩ := sgX_t
  have go : ∀ v : Int32, (v = 0 → Z E YX9_startsExpression (d + 1) M [(0, vr (some (pp, 8, 0)))] 8 [vi v] Q) → (v = 1 → sgB (zOf n c dg) s = true) → (v = 0 ∨ v = 1) → zafter E YX9_startsExpression (d + 1) [(0, vr (some (pp, 8, 0)))] 5 3 [] Q (.inl (some (vi v))) M := fun v h0 h1 hv => by
    show Z E YX9_startsExpression (d + 1) M [(0, vr (some (pp, 8, 0)))] 8 [vi v] Q
    rcases hv with z | z
    · exact h0 z
    · rw [z]
      refine iX9_startsExpression_8 M pp _ ?_
      rw [if_neg (by decide)]
      rw [if_pos (h1 z)] at hQ
      exact hQ
  by_cases h5 : gi M a 3 = 5
  · have e := fun {j : Nat} (hj : j < 48) {k : Int32} (hk : sgX (nI j) = k) => tk_s (dg := dg) h h5 hj hk
    have eS : sgB (zOf n c dg) s = (decide (gi M a 6 = 2) || decide (gi M a 6 = 4) || decide (gi M a 6 = 17) || decide (gi M a 6 = 18) || decide (gi M a 6 = 22) || decide (gi M a 6 = 23) || decide (gi M a 6 = 30) || decide (gi M a 6 = 31)) := by
      unfold sgB
      rw [show (26 : Int32) = nI 26 from rfl, show (28 : Int32) = nI 28 from rfl, show (35 : Int32) = nI 35 from rfl, show (36 : Int32) = nI 36 from rfl, show (10 : Int32) = nI 10 from rfl, show (11 : Int32) = nI 11 from rfl, show (43 : Int32) = nI 43 from rfl, show (44 : Int32) = nI 44 from rfl, e (by decide) t1, e (by decide) t2, e (by decide) t3, e (by decide) t4, e (by decide) t5, e (by decide) t6, e (by decide) t7, e (by decide) t8]
    rw [if_pos h5]
    by_cases h2 : gi M a 6 = 2
    · rw [if_pos h2]
      exact go 1 (fun z => by cases z) (fun _ => by rw [eS, h2]; rfl) (.inr rfl)
    · rw [if_neg h2]
      refine go 0 (fun _ => ?_) (fun z => by cases z) (.inl rfl)
      refine iX9_startsExpression_8 M pp _ ?_
      rw [if_pos rfl]
      refine ⟨a, hp, ?_⟩
      rw [if_pos h5]
      rw [eS] at hQ
      generalize gi M a 6 = x at *
      repeat' split
      all_goals simp_all
  · have eS : sgB (zOf n c dg) s = false := by
      unfold sgB
      rw [show (26 : Int32) = nI 26 from rfl, show (28 : Int32) = nI 28 from rfl, show (35 : Int32) = nI 35 from rfl, show (36 : Int32) = nI 36 from rfl, show (10 : Int32) = nI 10 from rfl, show (11 : Int32) = nI 11 from rfl, show (43 : Int32) = nI 43 from rfl, show (44 : Int32) = nI 44 from rfl, tk_ns h h5 (by decide), tk_ns h h5 (by decide), tk_ns h h5 (by decide), tk_ns h h5 (by decide), tk_ns h h5 (by decide), tk_ns h h5 (by decide), tk_ns h h5 (by decide), tk_ns h h5 (by decide)]
      rfl
    rw [if_neg h5]
    refine go 0 (fun _ => ?_) (fun z => by cases z) (.inl rfl)
    refine iX9_startsExpression_8 M pp _ ?_
    rw [if_pos rfl]
    refine ⟨a, hp, ?_⟩
    rw [if_neg h5]
    rw [eS] at hQ
    exact hQ
/-- opens: one deeper, or fault 5 -/
theorem y_opens {o : Nat} (h : xTz M a n c s) (hp : gr M pp 1 = some (a, 9, 0)) (hpp : 190 ≤ pp) (ho : gi M pp 4 = nI o) (ho2 : o ≤ 20) (hy : o < 20 → Q (.inl none) (si M pp 4 (nI (o + 1)))) (hn : ¬ o < 20 → ∀ ou M', ftO a M (5, tln (zOf n c dg) s.1) ou M' → Q ou M') : Z E YX9_opens (d + 7) M [(0, vr (some (pp, 8, 0)))] 0 [] Q := by
  obtain ⟨⟨lp, hk, -⟩, -, -, -, -, -, -, hz⟩ := id h
  refine sX9_opens_0 M pp ?_
  rw [ho]
  by_cases z : o < 20
  · rw [if_pos (show nI o < (20 : Int32) from nI_lt (b := 20) z (by decide)), nI_l1]
    exact ⟨by omega, hy z⟩
  · rw [if_neg (show ¬ nI o < (20 : Int32) from nI_nlt (b := 20) (by omega) (by omega))]
    refine ⟨a, hp, ?_⟩
    refine x_fault (d := d) (k := 5) (by omega) hk.1.2.2.1.2.1 hk.2.2.1 (fun M' f g1 g2 g3 => ?_)
    show Z E YX9_opens (d + 6 + 1) M' [] 17 [vr (some (zsz M, 12, 0))] Q
    refine sX9_opens_17 M' _ ⟨zsz M, rfl, ?_⟩
    exact hn z _ M' ⟨⟨zsz M, rfl, g1, ⟨Nat.le_refl _, by omega⟩, f.mono fun _ _ _ z => z.elim⟩, g2, g3⟩
end
