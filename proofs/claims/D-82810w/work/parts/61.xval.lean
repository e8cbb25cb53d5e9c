/-! VALUES of the machine: the component's hasNumber, isTrue, equal, order, unary, sum -/
/-- cells that the component's machine works with and keeps nothing in -/
def scx (a k : Nat) : Prop := a = 20 ∨ a = 16 ∧ (k = 3 ∨ k = 32 ∨ k = 33 ∨ k = 57 ∨ k = 58)
/-- the component's texts -/
def xtx (M : zM) (L : List (List Int32)) : Prop := gr M 17 1 = some (18, 100, 2201) ∧ gr M 17 0 = some (19, 101, 40000) ∧ xS M 17 18 19 L ∧ L.length ≤ 400 ∧ L.flatten.length ≤ 40000 ∧ ∀ w ∈ L, w.length ≤ 60
theorem xtx_scx {M M' : zM} {L : List (List Int32)} (h : xtx M L) (f : fr scx M M') : xtx M' L := by
  obtain ⟨h1, h2, ⟨s1, s2, s3⟩, h4⟩ := h
  exact ⟨(f.2 17 1 (by unfold scx; omega)).2.2.trans h1, (f.2 17 0 (by unfold scx; omega)).2.2.trans h2, ⟨(f.2 17 2 (by unfold scx; omega)).1.trans s1, fun k hk => (f.2 18 k (by unfold scx; omega)).1.trans (s2 k hk), fun j hj => (f.2 19 j (by unfold scx; omega)).1.trans (s3 j hj)⟩, h4⟩
theorem cw_fr {M M' : zM} {P : Nat → Nat → Prop} (h : cw M) (f : fr P M M') (hp : ∀ q ∈ cwl, ¬ P q.1 q.2.1) : cw M' := fr.cw f hp h
theorem cwl_ok : ∀ q ∈ cwl, (q.1 = 16 ∧ q.2.1 ≠ 1 ∧ q.2.1 ≠ 3 ∧ q.2.1 ≠ 5 ∧ q.2.1 ≠ 32 ∧ q.2.1 ≠ 33 ∧ q.2.1 ≠ 57 ∧ q.2.1 ≠ 58 ∧ ¬ (26 ≤ q.2.1 ∧ q.2.1 ≤ 29)) ∨ q.1 = 29 := by decide +kernel
theorem cw_scx {M M' : zM} (h : cw M) (f : fr scx M M') : cw M' := cw_fr h f (fun q hq => by
  have := cwl_ok q hq
  unfold scx
  omega)
theorem cw_fX {M M' : zM} (h : cw M) (f : fr fX M M') : cw M' := cw_fr h f (fun q hq => by
  have := cwl_ok q hq
  unfold fX
  omega)
theorem fx_32 {M : zM} {x : Int32} : fr scx M (si M 16 32 x) := fr.si (by unfold scx; omega)
theorem fx_got {M : zM} {x y : Int32} : fr scx M (si (si M 16 33 x) 16 32 y) := (fr.si (by unfold scx; omega)).tr (fr.si (by unfold scx; omega))
section
variable {M : zM} {L : List (List Int32)}
/-- a text's place, length and signs -/
theorem xtx_at (h : xtx M L) {s : Nat} (hs : s < L.length) : ∃ off : Nat, gi M 18 s = nI off ∧ gi M 18 (s + 1) = nI (off + L[s].length) ∧ off + L[s].length ≤ 40000 ∧ L[s].length ≤ 60 ∧ ∀ k, k < L[s].length → gi M 19 (off + k) = L[s].getD k 0 := by
  obtain ⟨-, -, ⟨s1, s2, s3⟩, h4, h5, h6⟩ := h
  have hx : L[s]? = some L[s] := List.getElem?_eq_getElem hs
  have e := flat_suc hx
  have hle := flat_le L (s + 1)
  refine ⟨(L.take s).flatten.length, s2 s (by omega), by rw [s2 (s + 1) (by omega), e], by omega, h6 _ (List.getElem_mem hs), fun k hk => ?_⟩
  obtain ⟨g1, g2⟩ := flat_get hx hk
  rw [s3 _ g2, g1]
end
section
variable {E : zE} {d : Nat} {M : zM} {Q : zO → zM → Prop} {L : List (List Int32)} {ob : Nat}
/-- readsNumber -/
theorem xm_numS {s : Nat} (hw : cw M) (hx : xtx M L) (hs : s < L.length) (h32 : gi M 16 32 = 0) (hQ : ∀ x M', x = bI (mnS L[s]).isSome → fr scx M M' → (∀ n, mnS L[s] = some n → gi M' 16 32 = n) → Q (.inl (some (vi x))) M') : Z E YX1_readsNumber (d + 1) M [(0, zX16), (1, vi (nI s))] 0 [] Q := by
  obtain ⟨t1, t2, -, t4, -⟩ := id hx
  obtain ⟨off, o1, o2, o3, o4, o5⟩ := xtx_at hx hs
  generalize hwd : L[s] = w at *
  -- the loop
  have loop : ∀ (b : Nat), b ≤ w.length → ∀ (r : List Int32) (k : Nat) (v : Int64), w.drop k = r → k ≤ w.length → (¬ w.length = 0) → (mnS w = if r.all lxD = true then mfit (if nI b = 1 then -(mdv r v) else mdv r v) else none) → Z E YX1_readsNumber (d + 1) M [(0, zX16), (1, vi (nI s)), (2, vi (nI w.length)), (3, vi (nI b)), (4, vl v), (6, vi (nI k))] 60 [] Q := by
    intro b hb r
    induction r with
    | nil =>
      intro k v hr hk h0 hm
      have hkl : w.length ≤ k := List.drop_eq_nil_iff.mp hr
      have fin : ∀ u : Int64, u = (if nI b = 1 then -(mdv [] v) else mdv [] v) → (if lg_cmp u u.toInt32.toInt64 = 0 then Q (.inl (some (vi 1))) (si M 16 32 u.toInt32) else Q (.inl (some (vi 0))) (si M 16 32 u.toInt32)) := fun u hu => by
        rw [← hu] at hm
        have hm : mnS w = mfit u := hm
        unfold mfit at hm
        by_cases c : u.toInt32.toInt64 = u
        · rw [if_pos (lg_cmp0.mpr c.symm)]
          rw [if_pos c] at hm
          exact hQ _ _ (by rw [hm]; rfl) fx_32 (fun n hn => by rw [hm] at hn; rw [gi_self]; exact Option.some.inj hn)
        · rw [if_neg (fun q => c (lg_cmp0.mp q).symm)]
          rw [if_neg c] at hm
          exact hQ _ _ (by rw [hm]; rfl) fx_32 (fun n hn => by rw [hm] at hn; cases hn)
      refine iX1_readsNumber_60 M _ _ _ _ _ hw ?_
      rw [if_pos (nI_le hkl (by omega))]
      by_cases hb1 : nI b = 1
      · rw [if_pos hb1]; exact fin _ (by rw [if_pos hb1]; rfl)
      · rw [if_neg hb1]; exact fin _ (by rw [if_neg hb1]; rfl)
    | cons c r ih =>
      intro k v hr hk h0 hm
      obtain ⟨hkl, hc, hr'⟩ := drop_cons hr
      refine iX1_readsNumber_60 M _ _ _ _ _ hw ?_
      rw [if_neg (nI_ge hkl (by omega))]
      refine ⟨18, 2201, t1, ?_⟩
      have hsl : s < 400 := by omega
      simp (disch := omega) only [o1, nn_add, nn_addl, nn_ladd, nn_mul, nn_lmul, nn_mull, nn_sub, nn_subl, nn_lsub, nn_lt, nn_le, nn_eq, nn_ltl, nn_llt, nn_lel, nn_lle, nn_eql, nn_leq, nn_m1, nn_1m, nn_ltm, nn_mlt, nn_mle, nn_lem, nn_cl, nn_in, nn_ns, nn_ns2, nn_nb, nn_nb2, nn_s1, nn_s2, nn_b1, nn_b2]
      refine ⟨by omega, 19, 40000, t2, by omega, ?_⟩
      rw [o5 k hkl, hc]
      have stop : lxD c = false → Q (.inl (some (vi 0))) M := fun hD => by
        have hal : (c :: r).all lxD = false := by rw [List.all_cons, hD]; rfl
        rw [hal, if_neg (by decide)] at hm
        exact hQ _ _ (by rw [hm]; rfl) fr.rf (fun n hn => by rw [hm] at hn; cases hn)
      by_cases h48 : c < 48
      · rw [if_pos h48]
        exact stop (by unfold lxD; rw [decide_eq_false (show ¬ (48 : Int32) ≤ c by rw [i_le]; exact h48)]; rfl)
      rw [if_neg h48]
      by_cases h57 : 57 < c
      · rw [if_pos h57]
        exact stop (by unfold lxD; rw [decide_eq_false (show ¬ c ≤ (57 : Int32) by rw [i_le]; exact h57), Bool.and_false])
      rw [if_neg h57]
      have hD : lxD c = true := by
        unfold lxD
        rw [decide_eq_true (show (48 : Int32) ≤ c by rw [← i_lt]; exact h48), decide_eq_true (show c ≤ (57 : Int32) by rw [← i_lt]; exact h57)]; rfl
      have hal : (c :: r).all lxD = r.all lxD := by rw [List.all_cons, hD, Bool.true_and]
      rw [hal] at hm
      exact ih (k + 1) _ hr' (by omega) h0 hm
  have go : ∀ b : Nat, b ≤ w.length → b ≤ 1 → (b = 1 ↔ (0 < w.length ∧ w.getD 0 0 = 45)) → Z E YX1_readsNumber (d + 1) M [(0, zX16), (1, vi (nI s)), (2, vi (nI w.length))] 32 [vi (nI b)] Q := fun b hb hb1 hbb => by
    refine sX1_readsNumber_32 M _ _ _ hw ?_
    by_cases h0 : w.length = 0
    · rw [if_pos (by rw [h0]; rfl)]
      have hm : mnS w = some 0 := by unfold mnS; rw [if_pos h0]
      exact hQ _ _ (by rw [hm]; rfl) fr.rf (fun n hn => by rw [hm] at hn; rw [h32]; exact Option.some.inj hn)
    rw [if_neg (by simp (disch := omega) only [nn_add, nn_addl, nn_ladd, nn_mul, nn_lmul, nn_mull, nn_sub, nn_subl, nn_lsub, nn_lt, nn_le, nn_eq, nn_ltl, nn_llt, nn_lel, nn_lle, nn_eql, nn_leq, nn_m1, nn_1m, nn_ltm, nn_mlt, nn_mle, nn_lem, nn_cl, nn_in, nn_ns, nn_ns2, nn_nb, nn_nb2, nn_s1, nn_s2, nn_b1, nn_b2]; exact h0)]
    have shut : (w.length = b ∨ 10 < w.length - b) → mnS w = none := fun hl => by
      unfold mnS
      rw [if_neg h0]
      by_cases h45 : w.getD 0 0 = 45
      · have : b = 1 := hbb.mpr ⟨by omega, h45⟩
        rw [if_pos h45, if_pos (by omega)]
      · have : ¬ b = 1 := fun q => h45 (hbb.mp q).2
        rw [if_neg h45, if_pos (by omega)]
    simp (disch := omega) only [nn_add, nn_addl, nn_ladd, nn_mul, nn_lmul, nn_mull, nn_sub, nn_subl, nn_lsub, nn_lt, nn_le, nn_eq, nn_ltl, nn_llt, nn_lel, nn_lle, nn_eql, nn_leq, nn_m1, nn_1m, nn_ltm, nn_mlt, nn_mle, nn_lem, nn_cl, nn_in, nn_ns, nn_ns2, nn_nb, nn_nb2, nn_s1, nn_s2, nn_b1, nn_b2]
    by_cases h1 : w.length = b
    · rw [if_pos h1]; exact hQ _ _ (by rw [shut (.inl h1)]; rfl) fr.rf (fun n hn => by rw [shut (.inl h1)] at hn; cases hn)
    rw [if_neg h1]
    by_cases h10 : w.length - b ≤ 10
    · rw [if_pos h10]
      refine loop b hb (w.drop b) b 0 rfl hb h0 ?_
      unfold mnS
      rw [if_neg h0]
      by_cases h45 : w.getD 0 0 = 45
      · have : b = 1 := hbb.mpr ⟨by omega, h45⟩
        subst this
        rw [if_pos h45, if_neg (by omega), if_pos (show nI 1 = 1 from rfl)]
      · have hb0 : b = 0 := by have : ¬ b = 1 := fun q => h45 (hbb.mp q).2; omega
        subst hb0
        rw [if_neg h45, if_neg (by omega), List.drop_zero, if_neg (show ¬ nI 0 = 1 by decide)]
    · rw [if_neg h10]; exact hQ _ _ (by rw [shut (.inr (by omega))]; rfl) fr.rf (fun n hn => by rw [shut (.inr (by omega))] at hn; cases hn)
  refine iX1_readsNumber_0 M _ hw ⟨18, 2201, t1, ?_⟩
  have hsl : s < 400 := by omega
  simp (disch := omega) only [o1, o2, nn_add, nn_addl, nn_ladd, nn_mul, nn_lmul, nn_mull, nn_sub, nn_subl, nn_lsub, nn_lt, nn_le, nn_eq, nn_ltl, nn_llt, nn_lel, nn_lle, nn_eql, nn_leq, nn_m1, nn_1m, nn_ltm, nn_mlt, nn_mle, nn_lem, nn_cl, nn_in, nn_ns, nn_ns2, nn_nb, nn_nb2, nn_s1, nn_s2, nn_b1, nn_b2]
  rw [show off + w.length - off = w.length by omega]
  refine ⟨by omega, by omega, ?_⟩
  by_cases h0 : w.length ≤ 0
  · rw [if_pos h0]
    exact go 0 (by omega) (by omega) ⟨fun q => by omega, fun q => by omega⟩
  · rw [if_neg h0]
    refine ⟨19, 40000, t2, by omega, ?_⟩
    rw [o5 0 (by omega)]
    by_cases h45 : w.getD 0 0 = 45
    · rw [if_pos h45]; exact go 1 (by omega) (by omega) ⟨fun _ => ⟨by omega, h45⟩, fun _ => rfl⟩
    · rw [if_neg h45]; exact go 0 (by omega) (by omega) ⟨fun q => by omega, fun q => absurd q.2 h45⟩
/-- hasNumber -/
theorem xm_numV {s v : Int32} (hw : cw M) (hx : xtx M L) (hv : mok L ob s v) (hQ : ∀ x M', x = bI (mnV L s v).isSome → fr scx M M' → (∀ n, mnV L s v = some n → gi M' 16 32 = n) → Q (.inl (some (vi x))) M') : Z E YX1_hasNumber (d + 2) M [(0, zX16), (1, vi s), (2, vi v)] 0 [] Q := by
  obtain ⟨k, rfl, hk, h6, h7⟩ := hv
  by_cases k6 : k = 6
  · subst k6
    refine sX1_hasNumber_0 M _ _ hw ?_
    rw [if_neg (by decide), if_neg (by decide)]
    refine sX1_hasNumber_20 M _ _ _ hw ?_
    rw [if_pos (by decide)]
    obtain ⟨j, rfl, hj⟩ := h6 rfl
    have e : mnV L (nI 6) (nI j) = mnS L[j] := by rw [mnV_6, mtx_at hx.2.2.2.1 hj]
    rw [e] at hQ
    refine xm_numS (cw.si hw) (xtx_scx hx fx_32) hj (gi_self ..) (fun x M' hx' f hn => ?_)
    show Z E YX1_hasNumber (d + 2) M' [] 34 [vi x] Q
    refine sX1_hasNumber_34 M' _ (cw_scx (cw.si hw) f) ⟨?_, hQ x M' hx' (fx_32.tr f) hn⟩
    rw [hx']
    cases (mnS L[j]).isSome <;> rfl
  · have hc : k = 0 ∨ k = 1 ∨ k = 2 ∨ k = 3 ∨ k = 4 ∨ k = 5 ∨ k = 7 := by omega
    rcases hc with rfl | rfl | rfl | rfl | rfl | rfl | rfl <;>
    · refine sX1_hasNumber_0 M _ _ hw ?_
      repeat (first | rw [if_pos (by decide)] | rw [if_neg (by decide)])
      refine sX1_hasNumber_20 M _ _ _ hw ?_
      repeat (first | rw [if_pos (by decide)] | rw [if_neg (by decide)])
      exact hQ _ _ (by simp only [mnV_0, mnV_1, mnV_2, mnV_3, mnV_4, mnV_5, mnV_7]; rfl) fx_32 (fun n hn => by
        simp only [mnV_0, mnV_1, mnV_2, mnV_3, mnV_4, mnV_5, mnV_7] at hn
        first | (rw [gi_self]; exact Option.some.inj hn) | cases hn)
/-- isTrue -/
theorem xm_true {s v : Int32} (hw : cw M) (hx : xtx M L) (hv : mok L ob s v) (hQ : Q (.inl (some (vi (bI (mtr L s v))))) M) : Z E YX1_isTrue (d + 1) M [(0, zX16), (1, vi s), (2, vi v)] 0 [] Q := by
  obtain ⟨k, rfl, hk, h6, h7⟩ := hv
  obtain ⟨t1, t2, -, t4, -⟩ := id hx
  refine iX1_isTrue_0 M _ v hw ?_
  unfold mtr at hQ
  by_cases k5 : nI k = 5
  · rw [if_pos k5] at hQ ⊢
    by_cases hv0 : v = 0
    · rw [if_pos hv0]; rw [decide_eq_false (by simpa using hv0)] at hQ; exact hQ
    · rw [if_neg hv0]; rw [decide_eq_true hv0] at hQ; exact hQ
  rw [if_neg k5] at hQ ⊢
  by_cases k6 : nI k = 6
  · rw [if_pos k6] at hQ ⊢
    have : k = 6 := by rw [nn_eql (by omega) (by omega)] at k6; exact k6
    obtain ⟨j, rfl, hj⟩ := h6 this
    obtain ⟨off, o1, o2, o3, o4, o5⟩ := xtx_at hx hj
    rw [mtx_at t4 hj] at hQ
    refine ⟨18, 2201, t1, ?_⟩
    simp (disch := omega) only [o1, o2, nn_add, nn_addl, nn_ladd, nn_mul, nn_lmul, nn_mull, nn_sub, nn_subl, nn_lsub, nn_lt, nn_le, nn_eq, nn_ltl, nn_llt, nn_lel, nn_lle, nn_eql, nn_leq, nn_m1, nn_1m, nn_ltm, nn_mlt, nn_mle, nn_lem, nn_cl, nn_in, nn_ns, nn_ns2, nn_nb, nn_nb2, nn_s1, nn_s2, nn_b1, nn_b2]
    rw [show off + L[j].length - off = L[j].length by omega]
    refine ⟨by omega, by omega, ?_⟩
    by_cases h0 : L[j].length ≤ 0
    · rw [if_pos h0]; rw [decide_eq_false (by omega)] at hQ; exact hQ
    · rw [if_neg h0]; rw [decide_eq_true (by omega)] at hQ; exact hQ
  rw [if_neg k6] at hQ ⊢
  by_cases k2 : nI k = 2
  · rw [if_pos k2]; rw [decide_eq_true (Or.inl k2)] at hQ; exact hQ
  rw [if_neg k2]
  by_cases k7 : nI k = 7
  · rw [if_pos k7]; rw [decide_eq_true (Or.inr k7)] at hQ; exact hQ
  · rw [if_neg k7]; rw [decide_eq_false (fun h => h.elim k2 k7)] at hQ; exact hQ
/-- same -/
theorem xm_same {s v t w : Int32} (hw : cw M) (hQ : Q (.inl (some (vi (bI (mSame s v t w))))) M) : Z E YX1_same d M [(0, vi s), (1, vi v), (2, vi t), (3, vi w)] 0 [] Q := by
  refine sX1_same_0 M _ _ _ _ hw ?_
  unfold mSame at hQ
  by_cases h1 : s = t
  · rw [if_pos h1]; rw [decide_eq_true h1, Bool.true_and] at hQ
    by_cases h2 : s = 4
    · rw [if_pos h2]; rw [decide_eq_true h2] at hQ; exact hQ
    · rw [if_neg h2]; rw [decide_eq_false h2, Bool.not_false, Bool.true_and] at hQ
      by_cases h3 : s < 5
      · rw [if_pos h3]; rw [decide_eq_true h3] at hQ; exact hQ
      · rw [if_neg h3]; rw [decide_eq_false h3, Bool.false_or] at hQ
        by_cases h4 : v = w
        · rw [if_pos h4]; rw [decide_eq_true h4] at hQ; exact hQ
        · rw [if_neg h4]; rw [decide_eq_false h4] at hQ; exact hQ
  · rw [if_neg h1]; rw [decide_eq_false h1] at hQ; exact hQ
end
