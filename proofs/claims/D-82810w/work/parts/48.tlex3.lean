/-! CONTRACTS of the twin: words, numbers, strings, signs -/
/-- what one token may change -/
def tPo (tk a k : Nat) : Prop := a = 97 ∧ k = 18 ∨ a = 103 ∧ k = tk ∨ a = 104 ∧ k = tk
theorem tsrc_o {M M' : zM} {n tk : Nat} {c : Nat → Int32} (h : tsrc M n c) (hf : fr (tPo tk) M M') : tsrc M' n c := tsrc_fr h hf (by unfold tPo; omega) (fun k => by unfold tPo; omega)
theorem lxI_32 {x : Int32} (h : lxI x = true) : ¬ x = 32 := fun e => by rw [e] at h; exact absurd h (by decide)
/-- the token's row: kind k, which w, the place behind it e -/
def tOk (M : zM) (tk : Nat) (r : Int32 × Int32 × Nat) : Prop := gi M 103 tk = r.1 ∧ gi M 97 18 = nI r.2.2 ∧ (¬ r.1 = 6 → ¬ r.1 = 4 → ¬ r.1 = 0 → gi M 104 tk = r.2.1)
section
variable {E : zE} {d : Nat} {Q : zO → zM → Prop} {n : Nat} {c : Nat → Int32} {tk : Nat}
theorem t_cutName {p : Nat} {M : zM} (hd : 4 ≤ d) (hs : tsrc M n c) (hp : p < n) (h0 : lxL (c p) = true) (e18 : gi M 97 18 = nI p) (e12 : gi M 97 12 = nI tk) (htk : tk < 4002)
    (hQ : ∀ M', fr (tPo tk) M M' → tOk M' tk (lxO n c p) → Q (.inl none) M') : Zm E YX8_cutName (d + 1) M [(0, T97)] 0 [] Q := by
  have h4000 := hs.2.1
  obtain ⟨d, rfl⟩ : ∃ d', d = d' + 1 := ⟨d - 1, by omega⟩
  have hO : lxO n c p = (if 16 < lxF n (fun k => !(lxI (c k))) p - p then 6 else if tfd 0 lxK (lxW c p (lxF n (fun k => !(lxI (c k))) p - p)) = -1 then 1 else 2, tfd 0 lxK (lxW c p (lxF n (fun k => !(lxI (c k))) p - p)), lxF n (fun k => !(lxI (c k))) p) := by
    unfold lxO; rw [if_neg (by omega), if_pos h0]
  generalize he : lxF n (fun k => !(lxI (c k))) p = e at hO
  have hge : p ≤ e := by rw [← he]; exact lxF_ge n _ _ p rfl
  have hle : e ≤ n := by rw [← he]; exact lxF_le n _ _ p rfl (by omega)
  have hin : ∀ t, p ≤ t → t < e → lxI (c t) = true := fun t h1 h2 => by
    have := (lxF_in n (fun k => !(lxI (c k))) _ p t rfl h1 (by rw [he]; exact h2)).1
    simpa using this
  rw [hO] at hQ
  have loop : ∀ (f k : Nat) (M1 : zM), n - k = f → p ≤ k → k ≤ e → lxF n (fun k => !(lxI (c k))) k = e → fr (tPo tk) M M1 → gi M1 97 18 = nI k → Zm E YX8_cutName (d + 1 + 1) M1 [(0, T97), (1, vi (nI p))] 5 [] Q := by
    intro f
    induction f with
    | zero =>
      intro k M1 hf hpk hke hek hfr e18'
      rw [lxF_end (by omega)] at hek
      subst hek
      have hs1 := tsrc_o hs hfr
      have e12' : gi M1 97 12 = nI tk := ((hfr.2 97 12 (by unfold tPo; omega)).1).trans e12
      refine sX8_cutName_5 M1 _ ?_
      rw [e18']
      refine t_isWordly hs1 (by omega) ?_
      rw [decide_eq_false (show ¬ k < n by omega), Bool.false_and]
      show Zm E YX8_cutName (d + 1 + 1) M1 [(0, T97), (1, vi (nI p))] 13 [vi 0] Q
      refine sX8_cutName_13 M1 _ 0 ?_
      rw [if_pos rfl, e18', nI_sub hpk, e12']
      refine t_keywordAt (by omega) hs1 (by omega) (fun t ht => lxI_32 (hin (p + t) (by omega) (by omega))) ?_
      show Zm E YX8_cutName (d + 1 + 1) M1 [(0, T97), (1, vi (nI p))] 48 [vi (tfd 0 lxK (lxW c p (k - p))), vi (nI tk), vr (some (104, 100, 4002))] Q
      refine iX8_cutName_48 M1 _ _ _ ⟨nI_in htk (by decide), ?_⟩
      rw [nI_cl tk (by omega), e18', nI_sub hpk, e12', nI_cl tk (by omega), gi_self]
      have fin : ∀ v : Int32, v = (if 16 < k - p then (6 : Int32) else if tfd 0 lxK (lxW c p (k - p)) = -1 then 1 else 2) → Q (.inl none) (si (si M1 104 tk (tfd 0 lxK (lxW c p (k - p)))) 103 tk v) := fun v hv => by
        refine hQ _ ((hfr.tr (fr.si (Or.inr (Or.inr ⟨rfl, rfl⟩)))).tr (fr.si (Or.inr (Or.inl ⟨rfl, rfl⟩)))) ⟨?_, ?_, fun _ _ _ => ?_⟩
        · rw [gi_self, hv]
        · rw [gi_oth (by decide), gi_oth (by decide)]; exact e18'
        · rw [gi_oth (by decide), gi_self]
      by_cases h16 : k - p ≤ 16
      · rw [if_pos (show nI (k - p) ≤ (16 : Int32) from nI_le (b := 16) h16 (by decide))]
        refine ⟨nI_in htk (by decide), ?_⟩
        by_cases hw : tfd 0 lxK (lxW c p (k - p)) = -1
        · rw [if_pos hw]; exact fin 1 (by rw [if_neg (by omega), if_pos hw])
        · rw [if_neg hw]; exact fin 2 (by rw [if_neg (by omega), if_neg hw])
      · rw [if_neg (show ¬ nI (k - p) ≤ (16 : Int32) from nI_ge (a := 16) (by omega) (by omega))]
        exact ⟨nI_in htk (by decide), fin 6 (by rw [if_pos (by omega)])⟩
    | succ f ih =>
      intro k M1 hf hpk hke hek hfr e18'
      have hs1 := tsrc_o hs hfr
      have hkn : k < n := by omega
      by_cases hke' : k = e
      · have hz : lxI (c k) = false := by
          cases hb : lxI (c k) with
          | false => rfl
          | true =>
            have := lxF_no (P := fun k => !(lxI (c k))) hkn (by simp [hb])
            have h2 := lxF_ge n (fun k => !(lxI (c k))) _ (k + 1) rfl
            rw [this] at hek
            omega
        subst hke'
        have e12' : gi M1 97 12 = nI tk := ((hfr.2 97 12 (by unfold tPo; omega)).1).trans e12
        refine sX8_cutName_5 M1 _ ?_
        rw [e18']
        refine t_isWordly hs1 (by omega) ?_
        rw [hz, Bool.and_false]
        show Zm E YX8_cutName (d + 1 + 1) M1 [(0, T97), (1, vi (nI p))] 13 [vi 0] Q
        refine sX8_cutName_13 M1 _ 0 ?_
        rw [if_pos rfl, e18', nI_sub hpk, e12']
        refine t_keywordAt (by omega) hs1 (by omega) (fun t ht => lxI_32 (hin (p + t) (by omega) (by omega))) ?_
        show Zm E YX8_cutName (d + 1 + 1) M1 [(0, T97), (1, vi (nI p))] 48 [vi (tfd 0 lxK (lxW c p (k - p))), vi (nI tk), vr (some (104, 100, 4002))] Q
        refine iX8_cutName_48 M1 _ _ _ ⟨nI_in htk (by decide), ?_⟩
        rw [nI_cl tk (by omega), e18', nI_sub hpk, e12', nI_cl tk (by omega), gi_self]
        have fin : ∀ v : Int32, v = (if 16 < k - p then (6 : Int32) else if tfd 0 lxK (lxW c p (k - p)) = -1 then 1 else 2) → Q (.inl none) (si (si M1 104 tk (tfd 0 lxK (lxW c p (k - p)))) 103 tk v) := fun v hv => by
          refine hQ _ ((hfr.tr (fr.si (Or.inr (Or.inr ⟨rfl, rfl⟩)))).tr (fr.si (Or.inr (Or.inl ⟨rfl, rfl⟩)))) ⟨?_, ?_, fun _ _ _ => ?_⟩
          · rw [gi_self, hv]
          · rw [gi_oth (by decide), gi_oth (by decide)]; exact e18'
          · rw [gi_oth (by decide), gi_self]
        by_cases h16 : k - p ≤ 16
        · rw [if_pos (show nI (k - p) ≤ (16 : Int32) from nI_le (b := 16) h16 (by decide))]
          refine ⟨nI_in htk (by decide), ?_⟩
          by_cases hw : tfd 0 lxK (lxW c p (k - p)) = -1
          · rw [if_pos hw]; exact fin 1 (by rw [if_neg (by omega), if_pos hw])
          · rw [if_neg hw]; exact fin 2 (by rw [if_neg (by omega), if_neg hw])
        · rw [if_neg (show ¬ nI (k - p) ≤ (16 : Int32) from nI_ge (a := 16) (by omega) (by omega))]
          exact ⟨nI_in htk (by decide), fin 6 (by rw [if_pos (by omega)])⟩
      · have hI := hin k hpk (by omega)
        refine sX8_cutName_5 M1 _ ?_
        rw [e18']
        refine t_isWordly hs1 (by omega) ?_
        rw [hI, decide_eq_true hkn]
        show Zm E YX8_cutName (d + 1 + 1) M1 [(0, T97), (1, vi (nI p))] 13 [vi 1] Q
        refine sX8_cutName_13 M1 _ 1 ?_
        rw [if_neg (by decide), e18', nI_l1]
        exact ih (k + 1) _ (by omega) (by omega) (by omega) (by rw [← lxF_no hkn (by simp [hI])]; exact hek) (hfr.tr (fr.si (Or.inl ⟨rfl, rfl⟩))) (gi_self ..)
  refine sX8_cutName_0 M ?_
  rw [e18]
  exact loop _ p M rfl (Nat.le_refl _) hge he fr.rf e18
theorem t_cutNumber {p : Nat} {M : zM} (hd : 2 ≤ d) (hs : tsrc M n c) (hp : p < n) (h0 : lxL (c p) = false) (h1 : lxD (c p) = true) (e18 : gi M 97 18 = nI p) (e12 : gi M 97 12 = nI tk) (htk : tk < 4002)
    (hQ : ∀ M', fr (tPo tk) M M' → tOk M' tk (lxO n c p) → Q (.inl none) M') : Zm E YX8_cutNumber (d + 1) M [(0, T97)] 0 [] Q := by
  have h4000 := hs.2.1
  obtain ⟨d, rfl⟩ : ∃ d', d = d' + 1 := ⟨d - 1, by omega⟩
  have hO : lxO n c p = (if 10 < lxF n (fun k => !(lxD (c k))) p - p ∨ 0 < lg_cmp (lxV c (lxF n (fun k => !(lxD (c k))) p - p) p 0 0) 2147483647 ∨ (lxF n (fun k => !(lxD (c k))) p < n ∧ lxI (c (lxF n (fun k => !(lxD (c k))) p)) = true) then 6 else 3, (lxV c (lxF n (fun k => !(lxD (c k))) p - p) p 0 0).toInt32, lxF n (fun k => !(lxD (c k))) p) := by
    unfold lxO; rw [if_neg (by omega), h0, if_neg (by decide), if_pos h1]
  generalize he : lxF n (fun k => !(lxD (c k))) p = e at hO
  have hge : p ≤ e := by rw [← he]; exact lxF_ge n _ _ p rfl
  have hle : e ≤ n := by rw [← he]; exact lxF_le n _ _ p rfl (by omega)
  rw [hO] at hQ
  generalize hV : lxV c (e - p) p 0 0 = V at hQ
  have fin : ∀ (M1 : zM), fr (tPo tk) M M1 → gi M1 97 18 = nI e → Zm E YX8_cutNumber (d + 1 + 1) M1 [(0, T97), (1, vi (nI p)), (2, vl V)] 80 [] Q := fun M1 hfr e18' => by
    have hs1 := tsrc_o hs hfr
    have e12' : gi M1 97 12 = nI tk := ((hfr.2 97 12 (by unfold tPo; omega)).1).trans e12
    have done : ∀ v : Int32, v = (if 10 < e - p ∨ 0 < lg_cmp V 2147483647 ∨ (e < n ∧ lxI (c e) = true) then (6 : Int32) else 3) → Q (.inl none) (si (si M1 103 tk v) 104 tk V.toInt32) := fun v hv => by
      refine hQ _ ((hfr.tr (fr.si (Or.inr (Or.inl ⟨rfl, rfl⟩)))).tr (fr.si (Or.inr (Or.inr ⟨rfl, rfl⟩)))) ⟨?_, ?_, fun _ _ _ => gi_self ..⟩
      · rw [gi_oth (by decide), gi_self, hv]
      · rw [gi_oth (by decide), gi_oth (by decide)]; exact e18'
    refine iX8_cutNumber_80 M1 _ _ ?_
    rw [e18', nI_sub hge, e12', nI_cl tk (by omega)]
    by_cases h10 : 10 < e - p
    · rw [if_pos (show (10 : Int32) < nI (e - p) from nI_lt (a := 10) h10 (by omega))]
      exact ⟨nI_in htk (by decide), done 6 (by rw [if_pos (Or.inl h10)])⟩
    rw [if_neg (show ¬ (10 : Int32) < nI (e - p) from nI_nlt (a := 10) (by omega) (by decide))]
    by_cases hm : 0 < lg_cmp V 2147483647
    · rw [if_pos hm]
      exact ⟨nI_in htk (by decide), done 6 (by rw [if_pos (Or.inr (Or.inl hm))])⟩
    rw [if_neg hm]
    refine t_isWordly hs1 (by omega) ?_
    show Zm E YX8_cutNumber (d + 1 + 1) M1 [(0, T97), (2, vl V)] 107 [vi (bI (decide (e < n) && lxI (c e)))] Q
    refine iX8_cutNumber_107 M1 _ _ ?_
    rw [e12', nI_cl tk (by omega)]
    by_cases hx : e < n ∧ lxI (c e) = true
    · rw [decide_eq_true hx.1, hx.2, if_neg (by decide)]
      exact ⟨nI_in htk (by decide), done 6 (by rw [if_pos (Or.inr (Or.inr hx))])⟩
    · have : (decide (e < n) && lxI (c e)) = false := by
        rw [Bool.and_eq_false_iff]
        by_cases hen : e < n
        · exact Or.inr (by simpa using fun h => hx ⟨hen, h⟩)
        · exact Or.inl (decide_eq_false hen)
      rw [this, bI_f, if_pos rfl]
      exact ⟨nI_in htk (by decide), done 3 (by rw [if_neg (fun h => h.elim h10 (fun h => h.elim hm hx))])⟩
  have loop : ∀ (f k : Nat) (v : Int64) (M1 : zM), n - k = f → p ≤ k → k ≤ e → lxF n (fun k => !(lxD (c k))) k = e → lxV c (e - k) k (k - p) v = V → fr (tPo tk) M M1 → gi M1 97 18 = nI k → Zm E YX8_cutNumber (d + 1 + 1) M1 [(0, T97), (1, vi (nI p)), (2, vl v)] 7 [] Q := by
    intro f
    induction f with
    | zero =>
      intro k v M1 hf hpk hke hek hv hfr e18'
      rw [lxF_end (by omega)] at hek
      subst hek
      rw [Nat.sub_self] at hv
      have hv' : v = V := hv
      subst hv'
      refine iX8_cutNumber_7 M1 _ _ ?_
      rw [e18', (tsrc_o hs hfr).1, if_pos (nI_le (by omega) (by omega))]
      exact fin M1 hfr e18'
    | succ f ih =>
      intro k v M1 hf hpk hke hek hv hfr e18'
      have hs1 := tsrc_o hs hfr
      have hkn : k < n := by omega
      refine iX8_cutNumber_7 M1 _ _ ?_
      rw [e18', hs1.1, if_neg (nI_ge hkn (by omega)), tl_at hs1 hkn, nI_sub hpk, nI_l1]
      refine ⟨nI_in (show k < 4000 by omega) (by decide), ?_⟩
      have stop : lxD (c k) = false → Zm E YX8_cutNumber (d + 1 + 1) M1 [(0, T97), (1, vi (nI p)), (2, vl v)] 80 [] Q := fun hz => by
        rw [lxF_yes (P := fun k => !(lxD (c k))) (by simp [hz])] at hek
        subst hek
        rw [Nat.sub_self] at hv
        have hv' : v = V := hv
        subst hv'
        exact fin M1 hfr e18'
      by_cases h48 : c k < 48
      · rw [if_pos h48]
        exact stop (by unfold lxD; rw [decide_eq_false (show ¬ (48 : Int32) ≤ c k by rw [i_le]; exact h48)]; rfl)
      rw [if_neg h48]
      by_cases h57 : 57 < c k
      · rw [if_pos h57]
        exact stop (by unfold lxD; rw [decide_eq_false (show ¬ c k ≤ (57 : Int32) by rw [i_le]; exact h57), Bool.and_false])
      rw [if_neg h57]
      have hD : lxD (c k) = true := by
        unfold lxD
        rw [decide_eq_true (show (48 : Int32) ≤ c k by rw [← i_lt]; exact h48), decide_eq_true (show c k ≤ (57 : Int32) by rw [← i_lt]; exact h57)]; rfl
      have hek' : lxF n (fun k => !(lxD (c k))) (k + 1) = e := by rw [← lxF_no hkn (by simp [hD])]; exact hek
      have hk1e : k + 1 ≤ e := by rw [← hek']; exact lxF_ge n _ _ (k + 1) rfl
      have hv2 : lxV c (e - (k + 1)) (k + 1) (k + 1 - p) (if k - p < 10 then (10 : Int64) * v + (c k).toInt64 - 48 else v) = V := by
        rw [← hv, show e - k = (e - (k + 1)) + 1 by omega, show k + 1 - p = k - p + 1 by omega]; rfl
      by_cases h10 : k - p < 10
      · rw [if_neg (show ¬ (10 : Int32) ≤ nI (k - p) from nI_ge (b := 10) h10 (by decide))]
        rw [if_pos h10] at hv2
        exact ih (k + 1) _ _ (by omega) (by omega) hk1e hek' hv2 (hfr.tr (fr.si (Or.inl ⟨rfl, rfl⟩))) (gi_self ..)
      · rw [if_pos (show (10 : Int32) ≤ nI (k - p) from nI_le (a := 10) (by omega) (by omega))]
        rw [if_neg h10] at hv2
        exact ih (k + 1) _ _ (by omega) (by omega) hk1e hek' hv2 (hfr.tr (fr.si (Or.inl ⟨rfl, rfl⟩))) (gi_self ..)
  refine sX8_cutNumber_0 M ?_
  rw [e18]
  exact loop _ p 0 M rfl (Nat.le_refl _) hge he (by rw [Nat.sub_self]; exact hV) fr.rf e18
end
