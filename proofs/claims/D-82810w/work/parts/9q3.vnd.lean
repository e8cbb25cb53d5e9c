/-! THE COMPONENT's PARSER: values' nodes, contracts -/
/-- isMember answers 0 -/
def isM0 (S : Nat → Prop) (M : zM) (p : zP) : Prop := p.2.1 = 30 → ∀ (E : zE) (d : Nat) (Q : zO → zM → Prop) (M' : zM), agS S M M' → 4 ≤ d → Q (.inl (some (vi 0))) M' → Z E YX24_isMember d M' [(0, vr (some p))] 0 [] Q
/-- a value's node: a name, a member, or neither -/
def vNk (S : Nat → Prop) (M : zM) (D : Nat) (p : zP) (v : gV) : Prop := (v.2.1 = 0 ∧ p.2.1 ≠ 23 ∧ isM0 S M p) ∨ (v.2.1 = 1 ∧ p.2.1 = 23 ∧ S p.1 ∧ gi M p.1 0 = nI v.2.2.1 ∧ v.2.2.1 < 100000) ∨ (v.2.1 = 2 ∧ xPl S M D p v.2.2.2.1 v.2.2.2.2)
def vNs (S : Nat → Prop) (M : zM) (D : Nat) (p : zP) (v : gV) : Prop := (p.2.2 = 0 ∧ 22 ≤ p.2.1 ∧ p.2.1 ≤ 36) ∧ xE S M D p v.1 ∧ vNk S M D p v
def vNd (lo : Nat) (M : zM) (τ : Nat → Nat) (D : Nat) (p : zP) (v : gV) : Prop := vNs (nS lo (zsz M) τ) M D p v
section
variable {S S' : Nat → Prop} {M M' : zM} {τ τ' : Nat → Nat} {D D' lo lo' : Nat} {p : zP} {v : gV}
theorem isM0_mono (h : isM0 S M p) (hs : ∀ a, S a → S' a) (ha : agS S M M') : isM0 S' M' p := fun e E d Q M'' a => h e E d Q M'' (ha.tr (a.mono hs))
theorem vNs_mono (h : vNs S M D p v) (hs : ∀ a, S a → S' a) (h190 : ∀ a, S' a → 190 ≤ a) (ha : agS S M M') (hD : D ≤ D') : vNs S' M' D' p v := by
  obtain ⟨h1, h2, h3⟩ := h
  refine ⟨h1, xE_mono h2 hs h190 ha hD, ?_⟩
  rcases h3 with ⟨a, b, c⟩ | ⟨a, b, c, e, f⟩ | ⟨a, b⟩
  · exact .inl ⟨a, b, isM0_mono c hs ha⟩
  · exact .inr (.inl ⟨a, b, hs _ c, (ha _ 0 c).1.trans e, f⟩)
  · exact .inr (.inr ⟨a, xPl_mono b hs h190 ha hD⟩)
theorem vNd.mv (h : vNd lo M τ D p v) (m : mvr τ M τ' M') (hl : 190 ≤ lo') (hll : lo' ≤ lo) (hD : D ≤ D') : vNd lo' M' τ' D' p v := vNs_mono h (fun x z => m.sub hll (Nat.le_refl _) x z) (nS_190 hl) (m.agS (by omega) (Nat.le_refl _)) hD
theorem vtN {t : Nat} (h1 : 22 ≤ t) (h2 : t ≤ 36) (h3 : t ≠ 23) : vt_isName t = some YX13_isName := by
  have : t = 22 ∨ t = 24 ∨ t = 25 ∨ t = 26 ∨ t = 27 ∨ t = 28 ∨ t = 29 ∨ t = 30 ∨ t = 31 ∨ t = 32 ∨ t = 33 ∨ t = 34 ∨ t = 35 ∨ t = 36 := by omega
  rcases this with rfl | rfl | rfl | rfl | rfl | rfl | rfl | rfl | rfl | rfl | rfl | rfl | rfl | rfl <;> rfl
theorem vtM {t : Nat} (h1 : 22 ≤ t) (h2 : t ≤ 36) (h3 : t ≠ 30) : vt_isMember t = some YX13_isMember := by
  have : t = 22 ∨ t = 23 ∨ t = 24 ∨ t = 25 ∨ t = 26 ∨ t = 27 ∨ t = 28 ∨ t = 29 ∨ t = 31 ∨ t = 32 ∨ t = 33 ∨ t = 34 ∨ t = 35 ∨ t = 36 := by omega
  rcases this with rfl | rfl | rfl | rfl | rfl | rfl | rfl | rfl | rfl | rfl | rfl | rfl | rfl | rfl <;> rfl
theorem y_isN {E : zE} {d : Nat} {Q : zO → zM → Prop} {b t : Nat} (h : vNs S M D (b, t, 0) v) (hQ : Q (.inl (some (vi (if v.2.1 = 1 then 1 else 0)))) M) : ∃ Y, vt_isName t = some Y ∧ Z E Y d M [(0, vr (some (b, t, 0)))] 0 [] Q := by
  obtain ⟨⟨-, h1, h2⟩, -, h3⟩ := h
  dsimp only at h1 h2
  by_cases z : t = 23
  · subst z
    refine ⟨_, rfl, sX17_isName_0 M b ?_⟩
    rcases h3 with ⟨a, b, c⟩ | ⟨a, b, c⟩ | ⟨a, b⟩
    · exact absurd rfl b
    · rw [if_pos a] at hQ; exact hQ
    · have := congrArg Prod.fst b.2.1; cases this
  · refine ⟨_, vtN h1 h2 z, sX13_isName_0 M b t ?_⟩
    have : ¬ v.2.1 = 1 := fun e => by
      rcases h3 with ⟨a, b, c⟩ | ⟨a, b, c⟩ | ⟨a, b⟩
      · omega
      · exact z b
      · omega
    rw [if_neg this] at hQ; exact hQ
theorem y_isM {E : zE} {d : Nat} {Q : zO → zM → Prop} {b t : Nat} (h : vNs S M D (b, t, 0) v) (hd : 4 ≤ d) (hQ : Q (.inl (some (vi (if v.2.1 = 2 then 1 else 0)))) M) : ∃ Y, vt_isMember t = some Y ∧ Z E Y d M [(0, vr (some (b, t, 0)))] 0 [] Q := by
  obtain ⟨⟨-, h1, h2⟩, -, h3⟩ := h
  dsimp only at h1 h2
  by_cases z : t = 30
  · subst z
    refine ⟨_, rfl, ?_⟩
    rcases h3 with ⟨a, b, c⟩ | ⟨a, b, c⟩ | ⟨a, b⟩
    · rw [if_neg (by omega)] at hQ
      exact c rfl E d Q M (fun _ _ _ => ⟨rfl, rfl⟩) hd hQ
    · cases b
    · rw [if_pos a] at hQ
      exact b.2.2.2.1 E d Q M (fun _ _ _ => ⟨rfl, rfl⟩) hd hQ
  · refine ⟨_, vtM h1 h2 z, sX13_isMember_0 M b t ?_⟩
    have : ¬ v.2.1 = 2 := fun e => by
      rcases h3 with ⟨a, b, c⟩ | ⟨a, b, c⟩ | ⟨a, b⟩
      · omega
      · omega
      · exact z (congrArg Prod.fst b.2.1)
    rw [if_neg this] at hQ; exact hQ
end
/-- a value method Y at o: it needs dm frames, gives a node that codes in D -/
def cVm (E : zE) (pp a lf n : Nat) (c : Nat → Int32) (Y : zY) (ar : List (Nat × zV)) (dm o D : Nat) (f : pC → pS → pR gV) : Prop :=
  ∀ (d : Nat) (Q : zO → zM → Prop) (M : zM) (τ : Nat → Nat) (fs : List Nat) (s : pS) (C : pC), dm ≤ d → xPs M τ pp a lf n c fs s C o →
    (∀ v s', f C s = .ok (v, s') → ∀ M' τ' fs' p, pEnd pp a lf n c 10 200 M τ fs s C o M' τ' fs' s' → vNd (zsz M) M' τ' D p v → Q (.inl (some (vr (some p)))) M') →
    (∀ w, f C s = .error w → ∀ ou M', pEr lf 10 200 τ fs M s w ou M' → Q ou M') → Z E Y d M ((0, vr (some (pp, 8, 0))) :: ar) 0 [] Q
section
variable {E : zE} {pp a lf n : Nat} {c : Nat → Int32} {dg : Int32 → List Int32} {K o : Nat}
/-- what a token's step gives P -/
theorem nx_eq {s s' : pS} (h : nxt' (zOf n c dg) s = .ok ((), s')) : s' = (s.1 + 1, s.2) := by
  have := sat_nx (z := zOf n c dg) (s := s) (F := fun _ s' => s' = (s.1 + 1, s.2)) rfl
  exact this () s' h
theorem ne_eq {j : Int32} {s s' : pS} (h : nedS (zOf n c dg) j s = .ok ((), s')) : s' = (s.1 + 1, s.2) := by
  have := sat_ned (z := zOf n c dg) (j := j) (s := s) (F := fun _ s' => s' = (s.1 + 1, s.2)) rfl
  exact this () s' h
/-- names are few -/
theorem xTz.nm_lt {M : zM} {s : pS} (h : xTz M a n c s) : (tkL n c s.2.1 (tkn n c s.1)).length ≤ 1382 := by
  have := h.t_le
  have := h.2.2.2.2.2.1.1
  unfold tkL
  split
  · have := (nmA_len s.2.1 (tkX n c (tkn n c s.1))).1
    omega
  · omega
theorem tak_lt {M : zM} {s : pS} {x : Nat} (h : xTz M a n c s) (h1 : (tkn n c s.1).1 = 1 ∨ (tkn n c s.1).1 = 4) (e : x = (nam (tkX n c (tkn n c s.1)) s).1) : x < 100000 := by
  have l := h.nm_lt
  have eL : tkL n c s.2.1 (tkn n c s.1) = nmA s.2.1 (tkX n c (tkn n c s.1)) := if_pos h1
  have : (nam (tkX n c (tkn n c s.1)) s).1 < (nmA s.2.1 (tkX n c (tkn n c s.1))).length := by
    have : ∀ (L : List (List Int32)) (w : List Int32), w ∈ L → nIx L w < L.length := by
      intro L w
      induction L with
      | nil => intro h; cases h
      | cons y L ih =>
        intro h
        unfold nIx
        by_cases e : y = w
        · rw [if_pos e]; exact Nat.zero_lt_succ _
        · rw [if_neg e]
          have := ih (by rcases List.mem_cons.mp h with z | z; exact absurd z.symm e; exact z)
          rw [List.length_cons]; omega
    refine this _ _ ?_
    show tkX n c (tkn n c s.1) ∈ nmA s.2.1 (tkX n c (tkn n c s.1))
    unfold nmA
    by_cases h : tkX n c (tkn n c s.1) ∈ s.2.1
    · rw [if_pos h]; exact h
    · rw [if_neg h]; exact List.mem_append_right _ List.mem_cons_self
  rw [eL] at l
  omega
end
