/-! CONTRACTS of the twin: one token -/
def kwo (L : List (List Int32)) (j : Nat) : Nat := ((L.take j).map (fun w => w.length + 1)).sum
theorem kw_tab : ∀ j, j < 29 → (∀ t, t < (lxK.getD j []).length → zsch 1 (kwo lxK j + t) = (lxK.getD j []).getD t 0 ∧ ¬ (lxK.getD j []).getD t 0 = 32) ∧ zsch 1 (kwo lxK j + (lxK.getD j []).length) = 32 ∧ kwo lxK j + (lxK.getD j []).length + 1 = kwo lxK (j + 1) ∧ kwo lxK (j + 1) ≤ 172 := by decide +kernel
theorem sg_tab : ∀ j, j < 48 → (∀ t, t < (lxGt.getD j []).length → zsch 4 (kwo lxGt j + t) = (lxGt.getD j []).getD t 0 ∧ ¬ (lxGt.getD j []).getD t 0 = 32) ∧ zsch 4 (kwo lxGt j + (lxGt.getD j []).length) = 32 ∧ kwo lxGt j + (lxGt.getD j []).length + 1 = kwo lxGt (j + 1) ∧ kwo lxGt (j + 1) ≤ 127 := by decide +kernel
theorem kw_end : kwo lxK 0 = 0 ∧ kwo lxK 29 = 172 ∧ kwo lxGt 0 = 0 ∧ kwo lxGt 48 = 127 := by decide +kernel
theorem nI_cl (x : Nat) (h : x < 2 ^ 31) : (nI x).toNatClampNeg = x := nI_clamp h
section
variable {E : zE} {d : Nat} {Q : zO → zM → Prop} {n : Nat} {c : Nat → Int32}
/-- on to the next blank -/
theorem t_kw76 {M : zM} {b u j o : Nat} {w : List Int32} (hd : 3 ≤ d) (H : (∀ t, t < w.length → zsch 1 (o + t) = w.getD t 0 ∧ ¬ w.getD t 0 = 32) ∧ zsch 1 (o + w.length) = 32) (hb : o + w.length < 172) (k : Zm E YX8_keywordAt (d + 1) M [(0, T97), (1, vi (nI b)), (2, vi (nI u)), (3, vi (nI (j + 1))), (4, vi (nI (o + w.length + 1)))] 5 [] Q) :
    ∀ (f t : Nat), w.length - t = f → t ≤ w.length → Zm E YX8_keywordAt (d + 1) M [(0, T97), (1, vi (nI b)), (2, vi (nI u)), (3, vi (nI j)), (4, vi (nI (o + t)))] 76 [] Q := by
  intro f
  induction f with
  | zero =>
    intro t hf ht
    have : t = w.length := by omega
    subst this
    refine sX8_keywordAt_76 M _ _ _ _ ⟨by omega, nI_in (show o + w.length < 172 by omega) (by decide), ?_⟩
    rw [nI_cl _ (by omega), H.2, if_pos rfl, nI_l1, nI_l1]
    exact k
  | succ f ih =>
    intro t hf ht
    refine sX8_keywordAt_76 M _ _ _ _ ⟨by omega, nI_in (show o + t < 172 by omega) (by decide), ?_⟩
    rw [nI_cl _ (by omega), (H.1 t (by omega)).1, if_neg (H.1 t (by omega)).2, nI_l1]
    exact ih (t + 1) (by omega) (by omega)
theorem t_kw19 {M : zM} {b u j o : Nat} {w : List Int32} (hd : 3 ≤ d) (hs : tsrc M n c) (hbu : b + u ≤ n) (hu : ∀ t, t < u → ¬ c (b + t) = 32) (H : (∀ t, t < w.length → zsch 1 (o + t) = w.getD t 0 ∧ ¬ w.getD t 0 = 32) ∧ zsch 1 (o + w.length) = 32) (hb : o + w.length < 172)
    (hyes : w = lxW c b u → Q (.inl (some (vi (nI j)))) M) (hno : ¬ w = lxW c b u → Zm E YX8_keywordAt (d + 1) M [(0, T97), (1, vi (nI b)), (2, vi (nI u)), (3, vi (nI (j + 1))), (4, vi (nI (o + w.length + 1)))] 5 [] Q) :
    ∀ (f i : Nat), u - i = f → i ≤ u → i ≤ w.length → (∀ t, t < i → w.getD t 0 = c (b + t)) → Zm E YX8_keywordAt (d + 1) M [(0, T97), (1, vi (nI b)), (2, vi (nI u)), (3, vi (nI j)), (4, vi (nI o)), (5, vi (nI i))] 19 [] Q := by
  have h4000 := hs.2.1
  have to76 : ¬ w = lxW c b u → Zm E YX8_keywordAt (d + 1) M [(0, T97), (1, vi (nI b)), (2, vi (nI u)), (3, vi (nI j)), (4, vi (nI o))] 76 [] Q := fun h => t_kw76 (w := w) hd H hb (hno h) _ 0 rfl (by omega)
  intro f
  induction f with
  | zero =>
    intro i hf hi hiw hpre
    have : i = u := by omega
    subst this
    refine sX8_keywordAt_19 M _ _ _ _ _ ?_
    rw [if_pos (nI_le (Nat.le_refl _) (by omega))]
    refine sX8_keywordAt_53 M _ _ _ _ _ ?_
    rw [if_pos rfl, nI_add, nI_cl _ (by omega)]
    refine ⟨by omega, nI_in (show o + i < 172 by omega) (by decide), ?_⟩
    by_cases hl : i = w.length
    · rw [hl, H.2, if_pos rfl]
      refine hyes (List.ext_getElem (by rw [lxW_len]; exact hl.symm) fun t h1 h2 => ?_)
      rw [← getD_lt h1, ← getD_lt h2, hpre t (by omega), lxW_get (by omega)]
    · rw [(H.1 i (by omega)).1, if_neg (H.1 i (by omega)).2]
      exact to76 (fun h => hl (by rw [h, lxW_len]))
  | succ f ih =>
    intro i hf hi hiw hpre
    refine sX8_keywordAt_19 M _ _ _ _ _ ?_
    rw [if_neg (nI_ge (show i < u by omega) (by omega)), nI_add, nI_add, nI_cl _ (by omega)]
    refine ⟨by omega, nI_in (show o + i < 172 by omega) (by decide), ?_⟩
    refine sX8_look_0 M _ ?_
    rw [hs.1, if_neg (nI_ge (show b + i < n by omega) (by omega)), tl_at hs (by omega)]
    refine ⟨nI_in (show b + i < 4000 by omega) (by decide), ?_⟩
    show Zm E YX8_keywordAt (d + 1) M [(0, T97), (1, vi (nI b)), (2, vi (nI u)), (3, vi (nI j)), (4, vi (nI o)), (5, vi (nI i))] 44 [vi (c (b + i)), vi (zsch 1 (o + i))] Q
    refine sX8_keywordAt_44 M _ _ _ _ _ _ _ ?_
    rw [nI_l1]
    by_cases hl : i = w.length
    · rw [hl, H.2, if_neg (fun h => hu w.length (by omega) h.symm)]
      refine sX8_keywordAt_53 M _ _ _ _ _ ?_
      rw [if_neg (fun h => absurd (nI_inj (by omega) (by omega) h) (by omega))]
      exact to76 (fun h => absurd (congrArg List.length h) (by rw [lxW_len]; omega))
    · have hi2 : i < w.length := by omega
      rw [(H.1 i hi2).1]
      by_cases he : w.getD i 0 = c (b + i)
      · rw [if_pos he]
        refine ih (i + 1) (by omega) (by omega) (by omega) fun t ht => ?_
        by_cases hti : t = i
        · rw [hti]; exact he
        · exact hpre t (by omega)
      · rw [if_neg he]
        refine sX8_keywordAt_53 M _ _ _ _ _ ?_
        rw [if_neg (fun h => absurd (nI_inj (by omega) (by omega) h) (by omega))]
        refine to76 (fun h => he ?_)
        rw [h, lxW_get (by omega)]
theorem t_keywordAt {M : zM} {b u : Nat} (hd : 3 ≤ d) (hs : tsrc M n c) (hbu : b + u ≤ n) (hu : ∀ t, t < u → ¬ c (b + t) = 32) (hQ : Q (.inl (some (vi (tfd 0 lxK (lxW c b u))))) M) : Zm E YX8_keywordAt (d + 1) M [(0, T97), (1, vi (nI b)), (2, vi (nI u))] 0 [] Q := by
  have h4000 := hs.2.1
  have main : ∀ (r : List (List Int32)) (j : Nat), lxK.drop j = r → j ≤ 29 → Q (.inl (some (vi (tfd j r (lxW c b u))))) M → Zm E YX8_keywordAt (d + 1) M [(0, T97), (1, vi (nI b)), (2, vi (nI u)), (3, vi (nI j)), (4, vi (nI (kwo lxK j)))] 5 [] Q := by
    intro r
    induction r with
    | nil =>
      intro j hr hj hq
      have hl : lxK.length ≤ j := List.drop_eq_nil_iff.mp hr
      have : j = 29 := by have := lxK_ok.1; omega
      subst this
      refine sX8_keywordAt_5 M _ _ _ _ ⟨by omega, ?_⟩
      rw [kw_end.2.1, if_pos (by decide)]
      exact hq
    | cons w r ih =>
      intro j hr hj hq
      have hjl : j < lxK.length := by
        by_cases h : j < lxK.length
        · exact h
        · rw [List.drop_eq_nil_of_le (by omega)] at hr; cases hr
      have hw : lxK.getD j [] = w := by
        rw [List.drop_eq_getElem_cons hjl] at hr
        rw [List.getD_eq_getElem?_getD, List.getElem?_eq_getElem hjl, ← (List.cons.inj hr).1]; rfl
      have hr' : lxK.drop (j + 1) = r := by
        rw [List.drop_eq_getElem_cons hjl] at hr
        exact (List.cons.inj hr).2
      have hj29 : j < 29 := by have := lxK_ok.1; omega
      obtain ⟨t1, t2, t3, t4⟩ := kw_tab j hj29
      rw [hw] at t1 t2 t3
      refine sX8_keywordAt_5 M _ _ _ _ ⟨by omega, ?_⟩
      rw [if_neg (show ¬ Int32.ofNat (zslen.getD 1 0) ≤ nI (kwo lxK j) from nI_ge (b := 172) (by omega) (by decide))]
      refine t_kw19 (o := kwo lxK j) (w := w) hd hs hbu hu ⟨t1, t2⟩ (by omega) (fun h => ?_) (fun h => ?_) _ 0 rfl (by omega) (by omega) (fun t ht => by omega)
      · unfold tfd at hq; rwa [if_pos h] at hq
      · rw [t3]
        exact ih (j + 1) hr' (by omega) (by unfold tfd at hq; rwa [if_neg h] at hq)
  refine sX8_keywordAt_0 M _ _ ?_
  have := main lxK 0 rfl (by omega) hQ
  rwa [kw_end.1] at this
end
