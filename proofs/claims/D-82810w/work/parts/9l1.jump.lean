/-! THE COMPONENT's CODER: lists of jumps -/
def jR (M : zM) (j : Nat) : Nat := match gr M j 0 with | some p => p.1 | none => 0
def jC (M : zM) (j : Nat) : Nat := match gr M j 0 with | some p => p.2.2 | none => 0
/-- the jumps in j -/
def xJp (M : zM) (j : Nat) (ks : List Nat) : Prop :=
  gr M j 0 = some (jR M j, 100, jC M j) ∧ (190 ≤ j ∧ j < zsz M) ∧ (190 ≤ jR M j ∧ jR M j < zsz M ∧ jR M j ≠ j) ∧ gi M j 1 = nI ks.length ∧ (ks.length ≤ jC M j ∧ 4 ≤ jC M j ∧ jC M j ≤ 60000000) ∧ (∀ i, i < ks.length → gi M (jR M j) i = nI (ks.getD i 0)) ∧ ∀ k ∈ ks, k < 100000000
theorem jR_fg {P : Nat → Nat → Prop} {M M' : zM} {j : Nat} (hj : j < zsz M) (f : fg P M M') (h0 : ¬ P j 0) : jR M' j = jR M j ∧ jC M' j = jC M j := by
  unfold jR jC; rw [f.gr hj h0]; exact ⟨rfl, rfl⟩
theorem xJp_fg {P : Nat → Nat → Prop} {M M' : zM} {j : Nat} {ks : List Nat} (h : xJp M j ks) (f : fg P M M') (h0 : ¬ P j 0) (h1 : ¬ P j 1) (h2 : ∀ i, ¬ P (jR M j) i) : xJp M' j ks := by
  obtain ⟨a0, a1, a2, a3, a4, a5, a6⟩ := h
  obtain ⟨eR, eC⟩ := jR_fg a1.2 f h0
  have hz := f.1.1
  unfold xJp
  rw [eR, eC]
  exact ⟨(f.gr a1.2 h0).trans a0, ⟨a1.1, by omega⟩, ⟨a2.1, by omega, a2.2.2⟩, (f.gi a1.2 h1).trans a3, a4, fun i hi => (f.gi a2.2.1 (h2 i)).trans (a5 i hi), a6⟩
/-- what adding a jump changes; what room it takes -/
def jP (M : zM) (j : Nat) (a _i : Nat) : Prop := a = j ∨ a = jR M j
def jK (M M' : zM) (j : Nat) : Prop := zsz M' ≤ zsz M + 1 ∧ zsu M' + 2 * jC M j = zsu M + 2 * jC M' j ∧ (jR M' j = jR M j ∨ zsz M ≤ jR M' j)
section
variable {E : zE} {d : Nat} {Q : zO → zM → Prop} {M : zM}
theorem y_addJ {j k : Nat} {ks : List Nat} (h : xJp M j ks) (hk : k < 100000000) (hl : ks.length ≤ 30000000) (hd : 1 ≤ d) (hQ : ∀ M', xJp M' j (ks ++ [k]) → fg (jP M j) M M' → jK M M' j → (jC M' j = jC M j ∨ jC M' j = 2 * ks.length) → Q (.inl none) M') : Z E YX41_add d M [(0, vr (some (j, 18, 0))), (1, vi (nI k))] 0 [] Q := by
  obtain ⟨a0, a1, a2, a3, a4, a5, a6⟩ := h
  have fin : ∀ (M1 : zM) (r c : Nat), gr M1 j 0 = some (r, 100, c) → zsz M ≤ zsz M1 → (190 ≤ r ∧ r < zsz M1 ∧ r ≠ j) → (ks.length < c ∧ 4 ≤ c ∧ c ≤ 60000000) → (∀ i, i < ks.length → gi M1 r i = nI (ks.getD i 0)) → xJp (si (si M1 j 1 (nI (ks.length + 1))) r ks.length (nI k)) j (ks ++ [k]) := fun M1 r c e0 hz hr hc hi => by
    have e0' : gr (si (si M1 j 1 (nI (ks.length + 1))) r ks.length (nI k)) j 0 = some (r, 100, c) := e0
    have eR : jR (si (si M1 j 1 (nI (ks.length + 1))) r ks.length (nI k)) j = r := by unfold jR; rw [e0']
    have eC : jC (si (si M1 j 1 (nI (ks.length + 1))) r ks.length (nI k)) j = c := by unfold jC; rw [e0']
    unfold xJp
    rw [eR, eC]
    refine ⟨e0', ⟨a1.1, Nat.lt_of_lt_of_le a1.2 hz⟩, hr, ?_, ?_, fun i hi' => ?_, fun x hx => ?_⟩
    · rw [gi_oth (Ne.symm hr.2.2), gi_self, List.length_append]; rfl
    · rw [List.length_append]; exact ⟨hc.1, hc.2⟩
    · rw [List.length_append] at hi'
      have hi' : i < ks.length + 1 := hi'
      by_cases z : i = ks.length
      · rw [z, gi_self, List.getD_eq_getElem?_getD, List.getElem?_append_right (Nat.le_refl _), Nat.sub_self]; rfl
      · rw [gi_idx (by omega), gi_oth hr.2.2, hi i (by omega), List.getD_eq_getElem?_getD, List.getD_eq_getElem?_getD, List.getElem?_append_left (by omega)]
    · rcases List.mem_append.mp hx with z | z
      · exact a6 x z
      · rw [List.mem_singleton.mp z]; exact hk
  refine iX41_add_0 M j _ ⟨jR M j, jC M j, a0, ?_⟩
  rw [a3]
  by_cases hf : ks.length = jC M j
  · rw [if_pos (show nI ks.length = Int32.ofNat (jC M j) by rw [hf]; rfl)]
    rw [show (2 : Int32) * nI ks.length = nI (2 * ks.length) from nn_mul 2 ks.length, nI_clamp (show 2 * ks.length < 2 ^ 31 by omega), show ((0 : Int32)).toNatClampNeg = 0 from rfl]
    have e3 : gi (zn M (2 * ks.length)) j 1 = nI ks.length := by rw [gi_zn, if_neg (by omega)]; exact a3
    have e4 : ∀ b i i' n', gi (cpi (zn M (2 * ks.length)) b i (zsz M) i' n') j 1 = nI ks.length := fun b i i' n' => by
      show (if j = zsz M then _ else gi (zn M (2 * ks.length)) j 1) = _
      rw [if_neg (by omega)]; exact e3
    rw [e3, nI_clamp (show ks.length < 2 ^ 31 by omega)]
    refine ⟨⟨nI_nlt (b := 0) (Nat.zero_le _) (by omega), by omega⟩, jR M j, jC M j, ?_, by omega, hd, ⟨⟨by decide, by decide, nI_nlt (b := 0) (Nat.zero_le _) (by omega)⟩, by omega, by omega⟩, by omega, zsz M, 2 * ks.length, ?_, by omega, ?_, ?_⟩
    · rw [gr_zn, if_neg (by omega)]; exact a0
    · rw [gr_sr, if_pos rfl, if_pos rfl]
    · rw [e4]; exact nI_in (by omega) (by omega)
    rw [e4, nI_l1, nI_clamp (by omega)]
    have hM1 : ∀ x, x ≠ zsz M → ∀ i, gi (cpi (zn M (2 * ks.length)) (jR M j) 0 (zsz M) 0 ks.length) x i = gi (zn M (2 * ks.length)) x i := fun x hx i => by
      show (if x = zsz M then _ else _) = _
      rw [if_neg hx]
    have hM2 : ∀ i, i < ks.length → gi (cpi (zn M (2 * ks.length)) (jR M j) 0 (zsz M) 0 ks.length) (zsz M) i = nI (ks.getD i 0) := fun i hi => by
      show (if zsz M = zsz M then va_cpy _ _ 0 0 ks.length i else _) = _
      rw [if_pos rfl]
      unfold va_cpy
      rw [if_pos (by omega), show 0 + (i - 0) = i by omega, gi_zn, if_neg (by omega)]
      exact a5 i hi
    have fC : fg (jP M j) M (cpi (zn M (2 * ks.length)) (jR M j) 0 (zsz M) 0 ks.length) := (fg.zn (n := 2 * ks.length)).tr2 ⟨⟨Nat.le_refl _, Nat.le_refl _⟩, fun x i _ q => ⟨hM1 x (fun z => q (.inr (Nat.le_of_eq z.symm))) i, rfl, rfl⟩⟩
    have sC : zsz (cpi (zn M (2 * ks.length)) (jR M j) 0 (zsz M) 0 ks.length) = zsz M + 1 := rfl
    have uC : zsu (cpi (zn M (2 * ks.length)) (jR M j) 0 (zsz M) 0 ks.length) = zsu M + 2 * ks.length := rfl
    generalize cpi (zn M (2 * ks.length)) (jR M j) 0 (zsz M) 0 ks.length = M1 at *
    have eq : gr (sr M1 j 0 (some (zsz M, 100, 2 * ks.length))) j 0 = some (zsz M, 100, 2 * ks.length) := by rw [gr_sr, if_pos rfl, if_pos rfl]
    have eC2 : jC (si (si (sr M1 j 0 (some (zsz M, 100, 2 * ks.length))) j 1 (nI (ks.length + 1))) (zsz M) ks.length (nI k)) j = 2 * ks.length := by
      unfold jC; rw [show gr (si (si (sr M1 j 0 (some (zsz M, 100, 2 * ks.length))) j 1 (nI (ks.length + 1))) (zsz M) ks.length (nI k)) j 0 = some (zsz M, 100, 2 * ks.length) from eq]
    have eR2 : jR (si (si (sr M1 j 0 (some (zsz M, 100, 2 * ks.length))) j 1 (nI (ks.length + 1))) (zsz M) ks.length (nI k)) j = zsz M := by
      unfold jR; rw [show gr (si (si (sr M1 j 0 (some (zsz M, 100, 2 * ks.length))) j 1 (nI (ks.length + 1))) (zsz M) ks.length (nI k)) j 0 = some (zsz M, 100, 2 * ks.length) from eq]
    refine hQ _ (fin _ (zsz M) (2 * ks.length) eq (by show zsz M ≤ zsz M1; omega) ⟨by omega, by show zsz M < zsz M1; omega, by omega⟩ ⟨by omega, by omega, by omega⟩ (fun i hi => hM2 i hi)) (((fC.tr2 (fr.sr (.inl (.inl rfl))).fg).tr2 (fr.si (.inl (.inl rfl))).fg).tr2 (fr.si (.inr (Nat.le_refl _))).fg) ⟨?_, ?_, ?_⟩ (.inr eC2)
    · show zsz M1 ≤ _; omega
    · rw [eC2]; show zsu M1 + _ = _; omega
    · rw [eR2]; exact .inr (Nat.le_refl _)
  · rw [if_neg (show ¬ nI ks.length = Int32.ofNat (jC M j) from fun z => hf (nI_inj (by omega) (by omega) z)), nI_l1, nI_clamp (by omega)]
    refine ⟨by omega, by omega, nI_in (by omega) (by omega), ?_⟩
    have f1 : fg (jP M j) M (si (si M j 1 (nI (ks.length + 1))) (jR M j) ks.length (nI k)) := ((fr.si (.inl rfl)).tr (fr.si (.inr rfl))).fg
    have eC2 : jC (si (si M j 1 (nI (ks.length + 1))) (jR M j) ks.length (nI k)) j = jC M j := rfl
    have eR2 : jR (si (si M j 1 (nI (ks.length + 1))) (jR M j) ks.length (nI k)) j = jR M j := rfl
    exact hQ _ (fin M (jR M j) (jC M j) a0 (Nat.le_refl _) a2 ⟨by omega, a4.2⟩ a5) f1 ⟨Nat.le_succ _, by rw [eC2]; rfl, .inl eR2⟩ (.inl eC2)
/-- goAll: the jumps' goal is known -/
theorem y_goAll {j : Nat} {to : Int32} {ks : List Nat} (hw : cw M) (h : xJp M j ks) (hQ : ∀ M', fr (fun a _ => a = 31) M M' → (∀ i, gi M' 31 i = if i ∈ ks ∧ i < 600 then to.toInt16.toInt32 else gi M 31 i) → Q (.inl none) M') : Z E YX41_goAll (d + 1) M [(0, vr (some (j, 18, 0))), (1, C29), (2, vi to)] 0 [] Q := by
  obtain ⟨a0, a1, a2, a3, a4, a5, a6⟩ := h
  have loop : ∀ (r pre : List Nat) (M1 : zM), ks = pre ++ r → fr (fun a _ => a = 31) M M1 → (∀ i, gi M1 31 i = if i ∈ pre ∧ i < 600 then to.toInt16.toInt32 else gi M 31 i) → Z E YX41_goAll (d + 1) M1 [(0, vr (some (j, 18, 0))), (1, C29), (2, vi to), (3, vi (nI pre.length))] 2 [] Q := by
    intro r
    induction r with
    | nil =>
      intro pre M1 hr f g
      refine sX41_goAll_2 M1 j _ _ _ ?_
      rw [(f.2 j 1 (by omega)).1, a3, if_pos (nI_le (by rw [hr, List.append_nil]; exact Nat.le_refl _) (by rw [hr, List.append_nil] at a4; omega))]
      exact hQ M1 f (by rw [hr, List.append_nil]; exact g)
    | cons k r ih =>
      intro pre M1 hr f g
      have hat := at_app hr
      have hpl := (List.getElem?_eq_some_iff.mp hat).1
      have hkb := a6 k (List.mem_of_getElem? hat)
      refine sX41_goAll_2 M1 j _ _ _ ?_
      rw [(f.2 j 1 (by omega)).1, a3, if_neg (nI_ge hpl (by omega))]
      refine ⟨jR M j, jC M j, (f.2 j 0 (by omega)).2.2.trans a0, nI_in (by omega) (by omega), 29, rfl, ?_⟩
      rw [nI_clamp (by omega), (f.2 (jR M j) _ (by omega)).1, a5 _ hpl, List.getD_eq_getElem?_getD, hat]
      have w1 : cw M1 := f.cw (by decide +kernel) hw
      have step : ∀ M2 : zM, fr (fun a _ => a = 31) M1 M2 → (∀ i, gi M2 31 i = if i = k ∧ i < 600 then to.toInt16.toInt32 else gi M1 31 i) → zafter E YX41_goAll (d + 1) [(0, vr (some (j, 18, 0))), (1, C29), (2, vi to), (3, vi (nI pre.length))] 18 3 [] Q (.inl none) M2 := fun M2 f2 g2 => by
        show Z E YX41_goAll (d + 1) M2 [(0, vr (some (j, 18, 0))), (1, C29), (2, vi to), (3, vi (nI pre.length))] 21 [] Q
        refine sX41_goAll_21 M2 j 29 _ _ ?_
        have := ih (pre ++ [k]) M2 (by rw [hr]; simp) (f.tr f2) (fun i => by
          rw [g2 i, g i]
          by_cases z : i = k
          · by_cases z6 : i < 600
            · rw [if_pos ⟨z, z6⟩, if_pos ⟨by rw [z]; exact List.mem_append_right _ List.mem_cons_self, z6⟩]
            · rw [if_neg (fun q => z6 q.2), if_neg (fun q => z6 q.2), if_neg (fun q => z6 q.2)]
          · rw [if_neg (fun q => z q.1)]
            by_cases zi : i ∈ pre ∧ i < 600
            · rw [if_pos zi, if_pos ⟨List.mem_append_left _ zi.1, zi.2⟩]
            · rw [if_neg zi, if_neg (fun q => zi ⟨(List.mem_append.mp q.1).resolve_right (fun y => z (List.mem_singleton.mp y)), q.2⟩)])
        rw [List.length_append] at this
        rw [nI_l1]
        exact this
      show Z E YX3_goalAt d M1 [(0, C29), (1, vi (nI k)), (2, vi to)] 0 [] _
      refine sX3_goalAt_0 M1 _ _ w1 ?_
      rw [if_neg (by rw [nn_m1 (by omega)]; exact fun z => z)]
      by_cases h600 : 600 ≤ k
      · rw [if_pos (show (600 : Int32) ≤ nI k from nI_le (a := 600) h600 (by omega))]
        exact step M1 fr.rf (fun i => by rw [if_neg (fun q => by omega)])
      · rw [if_neg (show ¬ (600 : Int32) ≤ nI k from nI_ge (b := 600) (by omega) (by decide)), nI_clamp (by omega), nar_s]
        refine ⟨nI_in (by omega) (by decide), step _ (fr.si rfl) (fun i => ?_)⟩
        by_cases z : i = k
        · rw [z, gi_self, if_pos ⟨rfl, by omega⟩]
        · rw [gi_idx z, if_neg (fun q => z q.1)]
  refine sX41_goAll_0 M j _ _ ?_
  exact loop ks [] M rfl fr.rf (fun i => by rw [if_neg (fun q => by cases q.1)])
end
