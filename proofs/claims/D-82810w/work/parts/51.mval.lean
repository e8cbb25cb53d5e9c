/-! VALUES of the machine, purely: sort s (0 undefined 1 null 2 true 3 false 4 NaN 5 number 6 string 7 thing), number v; texts L -/
def mdv : List Int32 → Int64 → Int64
  | [], v => v
  | c :: r, v => mdv r ((10 : Int64) * v + c.toInt64 - 48)
/-- a number, if it is an int's -/
def mfit (v : Int64) : Option Int32 := if v.toInt32.toInt64 = v then some v.toInt32 else none
/-- the number that a text is -/
def mnS (w : List Int32) : Option Int32 :=
  if w.length = 0 then some 0
  else if w.getD 0 0 = 45 then (if w.length < 2 ∨ 11 < w.length then none else if (w.drop 1).all lxD = true then mfit (-(mdv (w.drop 1) 0)) else none)
  else (if 10 < w.length then none else if w.all lxD = true then mfit (mdv w 0) else none)
def mtx (L : List (List Int32)) (v : Int32) : List Int32 := L.getD v.toNatClampNeg []
/-- the number of a value -/
def mnV (L : List (List Int32)) (s v : Int32) : Option Int32 :=
  if s = 5 then some v else if s = 6 then mnS (mtx L v) else if s = 2 then some 1 else if s = 1 ∨ s = 3 then some 0 else none
def mtr (L : List (List Int32)) (s v : Int32) : Bool :=
  if s = 5 then decide (¬ v = 0) else if s = 6 then decide (0 < (mtx L v).length) else decide (s = 2 ∨ s = 7)
def mSame (s v t w : Int32) : Bool := decide (s = t) && !decide (s = 4) && (decide (s < 5) || decide (v = w))
/-- a value of the machine: its sort, its text, its thing -/
def mok (L : List (List Int32)) (ob : Nat) (s v : Int32) : Prop := ∃ k : Nat, s = nI k ∧ k < 8 ∧ (k = 6 → ∃ j : Nat, v = nI j ∧ j < L.length) ∧ (k = 7 → ∃ j : Nat, v = nI j ∧ j < ob)
theorem lg_cmp0 {x y : Int64} : lg_cmp x y = 0 ↔ x = y := by
  unfold lg_cmp
  constructor
  · intro h
    by_cases h1 : y < x
    · rw [if_pos h1] at h; exact absurd h (by decide)
    · rw [if_neg h1] at h
      by_cases h2 : x = y
      · exact h2
      · rw [if_neg h2] at h; exact absurd h (by decide)
  · intro h
    subst h
    rw [if_neg (fun h => by have := Int64.lt_iff_toInt_lt.mp h; omega), if_pos rfl]
section
variable {E : zE} {d : Nat} {T : zM} {Q : zO → zM → Prop} {L : List (List Int32)}
theorem tS_ch {s k : Nat} {w : List Int32} (hS : tS T L) (hs : L[s]? = some w) (hk : k < w.length) : gi T 100 (60 * s + k) = w.getD k 0 ∧ 60 * s + k < 24000 ∧ s < 400 := by
  have h1 := hS.2.1
  have h2 : s < L.length := (List.getElem?_eq_some_iff.mp hs).1
  obtain ⟨x1, x2, x3⟩ := hS.2.2 s w hs
  exact ⟨x3 k hk, by omega, by omega⟩
theorem drop_cons {w r : List Int32} {c : Int32} {k : Nat} (h : w.drop k = c :: r) : k < w.length ∧ w.getD k 0 = c ∧ w.drop (k + 1) = r := by
  have hk : k < w.length := by
    by_cases hk : k < w.length
    · exact hk
    · rw [List.drop_eq_nil_of_le (by omega)] at h; cases h
  rw [List.drop_eq_getElem_cons hk] at h
  exact ⟨hk, by rw [getD_lt hk]; exact (List.cons.inj h).1, (List.cons.inj h).2⟩
theorem tm_ns59 {s b : Nat} {w : List Int32} (hS : tS T L) (hs : L[s]? = some w) :
    ∀ (r : List Int32) (k : Nat) (v : Int64), w.drop k = r → k ≤ w.length →
      (∀ v' : Int64, (r.all lxD = true → v' = mdv r v) → Zm E YX8_numberOfString (d + 1) T [(0, T97), (2, vi (nI w.length)), (4, vi (bI (r.all lxD)))] 132 [vl (if nI b = 1 then -v' else v')] Q) →
      Zm E YX8_numberOfString (d + 1) T [(0, T97), (1, vi (nI s)), (2, vi (nI w.length)), (3, vi (nI b)), (4, vi 1), (5, vl v), (7, vi (nI k))] 59 [] Q := by
  have hw60 : w.length ≤ 60 := (hS.2.2 s w hs).2.1
  intro r
  induction r with
  | nil =>
    intro k v hr hk h
    have hkl : w.length ≤ k := List.drop_eq_nil_iff.mp hr
    refine iX8_numberOfString_59 T _ _ _ _ _ _ ?_
    rw [if_pos (nI_le hkl (by omega))]
    have h1 := h v (fun _ => rfl)
    by_cases hb : nI b = 1
    · rw [if_pos hb] at h1 ⊢; exact h1
    · rw [if_neg hb] at h1 ⊢; exact h1
  | cons c r ih =>
    intro k v hr hk h
    obtain ⟨hkl, hc, hr'⟩ := drop_cons hr
    obtain ⟨c1, c2, c3⟩ := tS_ch hS hs hkl
    refine iX8_numberOfString_59 T _ _ _ _ _ _ ?_
    rw [if_neg (nI_ge hkl (by omega)), if_neg (by decide)]
    simp (disch := omega) only [c1, hc, nn_add, nn_addl, nn_ladd, nn_mul, nn_lmul, nn_mull, nn_sub, nn_subl, nn_lsub, nn_lt, nn_le, nn_eq, nn_ltl, nn_llt, nn_lel, nn_lle, nn_eql, nn_leq, nn_m1, nn_1m, nn_ltm, nn_mlt, nn_mle, nn_lem, nn_cl, nn_in, nn_ns, nn_ns2, nn_nb, nn_nb2, nn_s1, nn_s2, nn_b1, nn_b2]
    refine ⟨by omega, ?_⟩
    have stop : ∀ v1 : Int64, lxD c = false → Zm E YX8_numberOfString (d + 1) T [(0, T97), (1, vi (nI s)), (2, vi (nI w.length)), (3, vi (nI b)), (4, vi 0), (5, vl v1), (7, vi (nI (k + 1)))] 59 [] Q := fun v1 hD => by
      have hal : (c :: r).all lxD = false := by rw [List.all_cons, hD]; rfl
      have h1 := h v1 (fun q => by rw [hal] at q; cases q)
      rw [hal, bI_f] at h1
      refine iX8_numberOfString_59 T _ _ _ _ _ _ ?_
      have e : (if nI b = 1 then (Zm E YX8_numberOfString (d + 1) T [(0, T97), (2, vi (nI w.length)), (4, vi 0)] 132 [vl (-v1)] Q) else (Zm E YX8_numberOfString (d + 1) T [(0, T97), (2, vi (nI w.length)), (4, vi 0)] 132 [vl v1] Q)) := by
        by_cases hb : nI b = 1
        · rw [if_pos hb] at h1 ⊢; exact h1
        · rw [if_neg hb] at h1 ⊢; exact h1
      by_cases hl : nI w.length ≤ nI (k + 1)
      · rw [if_pos hl]; exact e
      · rw [if_neg hl, if_pos rfl]; exact e
    by_cases h48 : c < 48
    · rw [if_pos h48]
      exact stop _ (by unfold lxD; rw [decide_eq_false (show ¬ (48 : Int32) ≤ c by rw [i_le]; exact h48)]; rfl)
    rw [if_neg h48]
    by_cases h57 : 57 < c
    · rw [if_pos h57]
      exact stop _ (by unfold lxD; rw [decide_eq_false (show ¬ c ≤ (57 : Int32) by rw [i_le]; exact h57), Bool.and_false])
    rw [if_neg h57]
    have hD : lxD c = true := by
      unfold lxD
      rw [decide_eq_true (show (48 : Int32) ≤ c by rw [← i_lt]; exact h48), decide_eq_true (show c ≤ (57 : Int32) by rw [← i_lt]; exact h57)]; rfl
    have hal : (c :: r).all lxD = r.all lxD := by rw [List.all_cons, hD, Bool.true_and]
    rw [hal] at h
    exact ih (k + 1) _ hr' (by omega) (fun v' q => h v' q)
theorem tm_ns132 {n : Nat} {dg : Bool} {u : Int64} (hn : n < 100) (hQ : Q (.inl (some (vi ((if n = 0 then some u.toInt32 else if dg = true then mfit u else none).getD 0)))) (si T 97 113 (bI (if n = 0 then some u.toInt32 else if dg = true then mfit u else none).isSome))) :
    Zm E YX8_numberOfString (d + 1) T [(0, T97), (2, vi (nI n)), (4, vi (bI dg))] 132 [vl u] Q := by
  refine iX8_numberOfString_132 T _ _ _ ?_
  by_cases h0 : n = 0
  · subst h0
    rw [if_pos (by decide)]
    exact ⟨⟨rfl, rfl⟩, hQ⟩
  · rw [if_neg h0] at hQ
    rw [if_neg (show ¬ nI n = 0 by rw [nn_eql (by omega) (by omega)]; exact h0)]
    cases dg with
    | false => rw [bI_f, if_pos rfl]; exact ⟨⟨rfl, rfl⟩, hQ⟩
    | true =>
      rw [bI_t, if_neg (by decide)]
      rw [if_pos rfl] at hQ
      unfold mfit at hQ
      by_cases hu : u.toInt32.toInt64 = u
      · rw [if_pos (lg_cmp0.mpr hu.symm)]
        rw [if_pos hu] at hQ
        exact ⟨⟨rfl, rfl⟩, hQ⟩
      · rw [if_neg (fun q => hu (lg_cmp0.mp q).symm)]
        rw [if_neg hu] at hQ
        exact ⟨⟨rfl, rfl⟩, hQ⟩
/-- numberOfString: the number that a text is -/
theorem tm_numS {s : Nat} {w : List Int32} (hS : tS T L) (hs : L[s]? = some w) (hQ : Q (.inl (some (vi ((mnS w).getD 0)))) (si T 97 113 (bI (mnS w).isSome))) : Zm E YX8_numberOfString (d + 1) T [(0, T97), (1, vi (nI s))] 0 [] Q := by
  have h400 := hS.2.1
  have hsl : s < L.length := (List.getElem?_eq_some_iff.mp hs).1
  obtain ⟨x1, x2, x3⟩ := hS.2.2 s w hs
  have go : ∀ b : Nat, b ≤ w.length → b ≤ 1 → (b = 1 ↔ (0 < w.length ∧ w.getD 0 0 = 45)) → Zm E YX8_numberOfString (d + 1) T [(0, T97), (1, vi (nI s)), (2, vi (nI w.length))] 30 [vi (nI b)] Q := fun b hb hb1 hbb => by
    refine sX8_numberOfString_30 T _ _ _ ?_
    simp (disch := omega) only [nn_add, nn_addl, nn_ladd, nn_mul, nn_lmul, nn_mull, nn_sub, nn_subl, nn_lsub, nn_lt, nn_le, nn_eq, nn_ltl, nn_llt, nn_lel, nn_lle, nn_eql, nn_leq, nn_m1, nn_1m, nn_ltm, nn_mlt, nn_mle, nn_lem, nn_cl, nn_in, nn_ns, nn_ns2, nn_nb, nn_nb2, nn_s1, nn_s2, nn_b1, nn_b2]
    have shut : (w.length - b < 1 ∨ 10 < w.length - b) → Zm E YX8_numberOfString (d + 1) T [(0, T97), (1, vi (nI s)), (2, vi (nI w.length)), (3, vi (nI b)), (4, vi 0), (5, vl 0), (7, vi (nI b))] 59 [] Q := fun hl => by
      have hm : mnS w = if w.length = 0 then some 0 else none := by
        unfold mnS
        by_cases h0 : w.length = 0
        · rw [if_pos h0, if_pos h0]
        · rw [if_neg h0, if_neg h0]
          by_cases h45 : w.getD 0 0 = 45
          · have : b = 1 := hbb.mpr ⟨by omega, h45⟩
            rw [if_pos h45, if_pos (by omega)]
          · have : ¬ b = 1 := fun q => h45 (hbb.mp q).2
            rw [if_neg h45, if_pos (by omega)]
      have k132 : ∀ u : Int64, (w.length = 0 → u = 0) → Zm E YX8_numberOfString (d + 1) T [(0, T97), (2, vi (nI w.length)), (4, vi 0)] 132 [vl u] Q := fun u hu => by
        refine tm_ns132 (dg := false) (by omega) ?_
        rw [hm] at hQ
        by_cases h0 : w.length = 0
        · rw [if_pos h0] at hQ ⊢; rw [hu h0]; exact hQ
        · rw [if_neg h0] at hQ ⊢; exact hQ
      refine iX8_numberOfString_59 T _ _ _ _ _ _ ?_
      have e : (if nI b = 1 then (Zm E YX8_numberOfString (d + 1) T [(0, T97), (2, vi (nI w.length)), (4, vi 0)] 132 [vl (-0)] Q) else (Zm E YX8_numberOfString (d + 1) T [(0, T97), (2, vi (nI w.length)), (4, vi 0)] 132 [vl 0] Q)) := by
        split
        · exact k132 _ (fun _ => rfl)
        · exact k132 _ (fun _ => rfl)
      by_cases hl2 : nI w.length ≤ nI b
      · rw [if_pos hl2]; exact e
      · rw [if_neg hl2, if_pos rfl]; exact e
    by_cases h1 : w.length - b < 1
    · rw [if_pos h1]; exact shut (.inl h1)
    rw [if_neg h1]
    by_cases h10 : 10 < w.length - b
    · rw [if_pos h10]; exact shut (.inr h10)
    rw [if_neg h10]
    refine tm_ns59 hS hs (w.drop b) b 0 rfl hb (fun v' hv => tm_ns132 (by omega) ?_)
    have hm : mnS w = if (w.drop b).all lxD = true then mfit (if nI b = 1 then -(mdv (w.drop b) 0) else mdv (w.drop b) 0) else none := by
      unfold mnS
      rw [if_neg (show ¬ w.length = 0 by omega)]
      by_cases h45 : w.getD 0 0 = 45
      · have : b = 1 := hbb.mpr ⟨by omega, h45⟩
        subst this
        rw [if_pos h45, if_neg (by omega), if_pos (show nI 1 = 1 from rfl)]
      · have hb0 : b = 0 := by have : ¬ b = 1 := fun q => h45 (hbb.mp q).2; omega
        subst hb0
        rw [if_neg h45, if_neg (by omega), List.drop_zero, if_neg (show ¬ nI 0 = 1 by decide)]
    rw [if_neg (show ¬ w.length = 0 by omega)]
    rw [hm] at hQ
    by_cases hal : (w.drop b).all lxD = true
    · rw [if_pos hal] at hQ ⊢; rw [hv hal]; exact hQ
    · rw [if_neg hal] at hQ ⊢; exact hQ
  refine sX8_numberOfString_0 T _ ?_
  simp (disch := omega) only [x1, nn_add, nn_addl, nn_ladd, nn_mul, nn_lmul, nn_mull, nn_sub, nn_subl, nn_lsub, nn_lt, nn_le, nn_eq, nn_ltl, nn_llt, nn_lel, nn_lle, nn_eql, nn_leq, nn_m1, nn_1m, nn_ltm, nn_mlt, nn_mle, nn_lem, nn_cl, nn_in, nn_ns, nn_ns2, nn_nb, nn_nb2, nn_s1, nn_s2, nn_b1, nn_b2]
  refine ⟨by omega, ?_⟩
  by_cases h0 : w.length ≤ 0
  · rw [if_pos h0]
    exact go 0 (by omega) (by omega) ⟨fun q => by omega, fun q => by omega⟩
  · rw [if_neg h0]
    obtain ⟨c1, c2, c3⟩ := tS_ch hS hs (show 0 < w.length by omega)
    rw [Nat.add_zero] at c1 c2
    rw [c1]
    refine ⟨by omega, ?_⟩
    by_cases h45 : w.getD 0 0 = 45
    · rw [if_pos h45]; exact go 1 (by omega) (by omega) ⟨fun _ => ⟨by omega, h45⟩, fun _ => rfl⟩
    · rw [if_neg h45]; exact go 0 (by omega) (by omega) ⟨fun q => by omega, fun q => absurd q.2 h45⟩
end
