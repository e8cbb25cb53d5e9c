/-! BEGIN of the twin, whole -/
def cBT (a k : Nat) : Prop := cRT a k ∨ a = 97 ∧ k = 0
theorem hp_cBT {a k : Nat} (h : hpT a k) : cBT a k := .inl (.inl (.inl (.inl h)))
theorem fF_cBT {a k : Nat} (h : fFT a k) : cBT a k := .inl (.inl (.inl (.inr (.inr (.inr (.inl (.inl h)))))))
section
variable {E : zE} {d : Nat} {T : zM} {Q : zO → zM → Prop} {L : List (List Int32)} {G : mG}
theorem tb_begin {q : Nat × Nat × List Nat × Int32} (h72 : ¬ gi T 97 72 = 0) (hL : mLok L) (h8 : gi T 97 8 = nI L.length) (hs : ∀ (s : Nat) (x : List Int32), L[s]? = some x → gi T 101 s = nI x.length ∧ x.length ≤ 60 ∧ ∀ k, k < x.length → gi T 100 (60 * s + k) = x.getD k 0) (hG : tG T G) (wg : wG G 32768) (hg : G[0]? = some q)
    (hQ : ∀ T', sT T' (nA T L 32) → tFs T' [((0, -1, 0, 0, -1), q.1, [], [])] → gi T' 97 73 = 1 → gi T' 97 74 = 0 → gi T' 97 75 = 0 → gi T' 97 107 = 0 → gi T' 97 0 = 0 → fr cBT T T' → Q (.inl none) T') : Zm E YX8_begin (d + 2) T [(0, vr (some (97, 1, 0)))] 0 [] Q := by
  refine iX8_begin_0 T ?_
  rw [if_neg h72, h8]
  obtain ⟨T1, e1⟩ : ∃ T1, T1 = (si (si (si (si (si (si (si (si (si T 97 0 0) 97 73 1) 97 74 0) 97 75 0) 97 7 (nI L.length)) 97 76 0) 97 84 0) 97 86 0) 97 85 0) := ⟨_, rfl⟩
  have f1 : fr (fun a k => a = 97 ∧ (k = 0 ∨ k = 73 ∨ k = 74 ∨ k = 75 ∨ k = 7 ∨ k = 76 ∨ k = 84 ∨ k = 85 ∨ k = 86)) T T1 := by
    rw [e1]
    refine ((((((((fr.si ?_).tr (fr.si ?_)).tr (fr.si ?_)).tr (fr.si ?_)).tr (fr.si ?_)).tr (fr.si ?_)).tr (fr.si ?_)).tr (fr.si ?_)).tr (fr.si ?_) <;> omega
  have v1 : gi T1 97 73 = 1 ∧ gi T1 97 74 = 0 ∧ gi T1 97 75 = 0 ∧ gi T1 97 7 = nI L.length ∧ gi T1 97 76 = 0 ∧ gi T1 97 84 = 0 ∧ gi T1 97 85 = 0 ∧ gi T1 97 86 = 0 ∧ gi T1 97 0 = 0 := by
    rw [e1]; simp [gi_si]
  have goal : Zm E YX8_begin (d + 2) T1 [(0, vr (some (97, 1, 0))), (1, vi (nI 0))] 69 [] Q := by
    refine tb_free 3000 0 T1 rfl (fun T2 h2 f2 => ?_)
    have e0 : ∀ a k, hpT a k → gi (si T2 97 107 0) a k = gi (bT T 0) a k := fun a k hh => by
      rw [bT_at]
      by_cases ca : a = 97
      · subst ca
        have hk : k = 76 ∨ k = 84 ∨ k = 85 ∨ k = 86 := by unfold hpT at hh; omega
        rw [gi_idx (by omega), (f2.2 97 k (by omega)).1]
        rcases hk with hk | hk | hk | hk
        · rw [hk, if_pos ⟨rfl, rfl⟩, v1.2.2.2.2.1]; rfl
        · rw [hk, if_neg (by omega), if_pos (by omega), v1.2.2.2.2.2.1]
        · rw [hk, if_neg (by omega), if_pos (by omega), v1.2.2.2.2.2.2.1]
        · rw [hk, if_neg (by omega), if_pos (by omega), v1.2.2.2.2.2.2.2.1]
      · rw [gi_oth ca, if_neg (fun z => ca z.1), if_neg (fun z => ca z.1)]
        by_cases cb : a = 149
        · subst cb
          rw [h2 k]
          by_cases ck : k < 3000
          · rw [if_pos ⟨by omega, ck⟩, if_pos ⟨rfl, ck⟩]
          · rw [if_neg (fun z => ck z.2), if_neg (fun z => ck z.2), if_neg (by omega), if_neg (by omega), if_neg (by omega), if_neg (by omega), if_neg (by omega), (f1.2 149 k (by omega)).1]
        · rw [if_neg (by omega), if_neg (by omega), if_neg (by omega), if_neg (by omega), if_neg (by omega), if_neg (by omega), (f2.2 a k cb).1, (f1.2 a k (by omega)).1]
    refine tb_births (T0 := T) e0 (fun T3 h3 f3 => ?_)
    have f13 : fr (fun a k => hpT a k ∨ a = 97 ∧ (k = 0 ∨ k = 73 ∨ k = 74 ∨ k = 75 ∨ k = 7 ∨ k = 107)) T T3 := by
      refine fr.tr (f1.mono fun a k z => by unfold hpT; omega) (fr.tr (f2.mono fun a k z => by unfold hpT; omega) (fr.tr (fr.si (a := 97) (k := 107) (v := 0) ?_) (f3.mono fun a k z => .inl z)))
      exact .inr ⟨rfl, by omega⟩
    have keep : ∀ k, ¬ (k = 76 ∨ k = 84 ∨ k = 85 ∨ k = 86) → ¬ k = 107 → gi T3 97 k = gi T1 97 k := fun k ck c7 => by
      rw [(f3.2 97 k (by unfold hpT; omega)).1, gi_idx (by omega), (f2.2 97 k (by omega)).1]
    have tS3 : tS T3 L := ⟨(keep 7 (by omega) (by omega)).trans v1.2.2.2.1, hL.2.1, fun s x hx => by
      obtain ⟨a, b, c⟩ := hs s x hx
      exact ⟨(f13.2 101 s (by unfold hpT; omega)).1.trans a, b, fun k hk => (f13.2 100 _ (by unfold hpT; omega)).1.trans (c k hk)⟩⟩
    refine tb_sets (T0 := T) (L := L) ⟨h3, tS3⟩ hL (fun T4 s4 f4 => ?_)
    refine sX8_begin_368 T4 4 ?_
    rw [if_pos (by decide)]
    have f5 : fr (fun a k => a = 97 ∧ k = 92) T4 (si T4 97 92 0) := fr.si ⟨rfl, rfl⟩
    have f15 : fr (fun a k => hpT a k ∨ a = 97 ∧ (k = 0 ∨ k = 73 ∨ k = 74 ∨ k = 75 ∨ k = 7 ∨ k = 107 ∨ k = 92)) T (si T4 97 92 0) :=
      (f13.mono fun a k z => z.elim .inl (fun z => .inr (by omega))).tr ((f4.mono fun a k z => .inl z).tr (f5.mono fun a k z => .inr (by omega)))
    have hGG : tG (si T4 97 92 0) G := tG_fr hG f15 (fun a k z => by unfold hpT at z; omega)
    refine tm_comes (g := 0) (F := []) (sc := -1) (ts := 0) (tv := 0) (md := -1) ⟨gi_self .., trivial⟩ mFok_nil (by simp) hGG wg hg (fun T6 t6 f6 => ?_)
    show Zm E YX8_begin (d + 2) T6 [] 407 [] Q
    refine sX8_begin_407 T6 ?_
    have k6 : ∀ k, ¬ (k = 76 ∨ k = 84 ∨ k = 85 ∨ k = 86) → ¬ k = 92 → gi T6 97 k = gi T3 97 k := fun k c1 c2 => by
      rw [(f6.2 97 k (by unfold fFT; omega)).1, gi_idx c2, (f4.2 97 k (by unfold hpT; omega)).1]
    refine hQ T6 ?_ t6 ?_ ?_ ?_ ?_ ?_ ?_
    · exact sT_fr (sT_fr s4 f5 (fun a k z => by unfold hpT stT; omega)) f6 (fun a k z => by unfold fFT at z; unfold hpT stT; omega)
    · rw [k6 _ (by omega) (by omega), keep _ (by omega) (by omega)]; exact v1.1
    · rw [k6 _ (by omega) (by omega), keep _ (by omega) (by omega)]; exact v1.2.1
    · rw [k6 _ (by omega) (by omega), keep _ (by omega) (by omega)]; exact v1.2.2.1
    · rw [k6 _ (by omega) (by omega), (f3.2 97 107 (by unfold hpT; omega)).1, gi_self]
    · rw [k6 _ (by omega) (by omega), keep _ (by omega) (by omega)]; exact v1.2.2.2.2.2.2.2.2
    · refine (f15.mono fun a k z => ?_).tr (f6.mono fun a k z => fF_cBT z)
      rcases z with z | z
      · exact hp_cBT z
      · by_cases c : k = 0
        · exact .inr ⟨z.1, c⟩
        · refine .inl ?_
          unfold cRT cTP cT stT fUT fFT
          omega
  rw [e1] at goal
  exact goal
end
