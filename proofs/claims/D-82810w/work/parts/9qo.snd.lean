/-! THE COMPONENT's PARSER: statements' nodes, contracts -/
/-- a statement's node, whatever is made further -/
def sNd (S B : Nat → Prop) (M : zM) (c : Nat × Nat) (C : Nat → Prop) (D o n h k : Nat) (p : zP) (g : gSt) : Prop := ∀ (S' B' : Nat → Prop) (M' : zM), (∀ a, S a → S' a) → (∀ a, B a → B' a) → (∀ a, S' a → 190 ≤ a) → agS S M M' → agB B M M' → xNd S' B' M' c C D o n h k p g
theorem xNd_up {S B : Nat → Prop} {M : zM} {c : Nat × Nat} {C C' : Nat → Prop} {D o n h k D' o' n' h' k' : Nat} {p : zP} {g : gSt} (x : xNd S B M c C D o n h k p g) (hC : ∀ b, C b → C' b) (hD : D ≤ D') (ho : o ≤ o') (hn : n ≤ n') (hh : h ≤ h') (hk : k ≤ k') : xNd S B M c C' D' o' n' h' k' p g := fun e fc Γ ps Dk Nk Kk Ck CC hf hG hCC hkg hcx => (x e fc Γ ps Dk Nk Kk Ck CC hf hG ⟨fun b z => hCC.1 b (hC b z), hCC.2.1, fun b z => hCC.2.2 b (hC b z)⟩ hkg hcx).mono (fun _ z => z) (by omega) ho (by omega) hh (by omega)
theorem sNd.up {S B : Nat → Prop} {M : zM} {c : Nat × Nat} {C C' : Nat → Prop} {D o n h k D' o' n' h' k' : Nat} {p : zP} {g : gSt} (x : sNd S B M c C D o n h k p g) (hC : ∀ b, C b → C' b) (hD : D ≤ D') (ho : o ≤ o') (hn : n ≤ n') (hh : h ≤ h') (hk : k ≤ k') : sNd S B M c C' D' o' n' h' k' p g := fun S' B' M' h1 h2 h3 h4 h5 => xNd_up (x S' B' M' h1 h2 h3 h4 h5) hC hD ho hn hh hk
theorem sNd.mo {S B S2 B2 : Nat → Prop} {M M2 : zM} {c : Nat × Nat} {C : Nat → Prop} {D o n h k : Nat} {p : zP} {g : gSt} (x : sNd S B M c C D o n h k p g) (hs : ∀ a, S a → S2 a) (hb : ∀ a, B a → B2 a) (ha : agS S M M2) (hB : agB B M M2) : sNd S2 B2 M2 c C D o n h k p g := fun S' B' M' h1 h2 h3 h4 h5 => x S' B' M' (fun a z => h1 a (hs a z)) (fun a z => h2 a (hb a z)) h3 (ha.tr (h4.mono hs)) (fun a k z hk => ⟨((h5 a k (hb a z) hk).1).trans (hB a k z hk).1, ((h5 a k (hb a z) hk).2).trans (hB a k z hk).2⟩)
/-- the sizes of a statement from s to s': by tokens, by characters -/
def szT (n : Nat) (c : Nat → Int32) (s s' : pS) (D o m h k : Nat) : Prop := 4 * D ≤ 5 * (s'.1 - s.1) + 3 ∧ m + 2 * o ≤ 2500 * ((tkn n c s'.1).2.2.1 - (tkn n c s.1).2.2.1) ∧ k + 2 * h ≤ 3 * (s'.1 - s.1) ∧ o ≤ m ∧ h ≤ k
section
variable {E : zE} {pp a lf n : Nat} {c : Nat → Int32} {K o : Nat}
/-- where tokens begin -/
theorem pos_up {M : zM} {s : pS} (h : xTz M a n c s) : ∀ k t, t + k ≤ s.1 → (tkn n c t).2.2.1 + k ≤ (tkn n c (t + k)).2.2.1 := by
  obtain ⟨-, -, -, -, hj, -, ⟨hn, hc, -⟩, -⟩ := h
  intro k
  induction k with
  | zero => intro t _; exact Nat.le_refl _
  | succ k ih =>
    intro t ht
    have := ih t (by omega)
    have ok := tkn_ok hc (t + k) (fun j z => hj j (by omega))
    have ok2 := ok.2.2 (hj (t + k) (by omega))
    have s2 := tkS_ok hc (l := (tkn n c (t + k)).2.2.2.2) ok2.2
    show _ ≤ (tkS n c (tkn n c (t + k)).2.2.2.1 (tkn n c (t + k)).2.2.2.2).2.2.1
    omega
theorem pos_kw {M : zM} {s : pS} (h : xTz M a n c s) {t : Nat} (ht : t < s.1) (hk : (tkn n c t).1 = 2) {j m : Nat} (hj : (tkn n c t).2.1 = nI j) (hj2 : j < 29) (hm : ((lxK.getD j []).length) = m) : (tkn n c t).2.2.1 + m ≤ (tkn n c (t + 1)).2.2.1 := by
  obtain ⟨-, -, -, -, hg, -, ⟨hn, hc, -⟩, -⟩ := h
  have ok := tkn_ok hc t (fun j z => hg j (by omega))
  have ok2 := ok.2.2 (hg t ht)
  have s2 := tkS_ok hc (l := (tkn n c t).2.2.2.2) ok2.2
  obtain ⟨i, h1, h2⟩ := kw_tx hk
  have il := (List.getElem?_eq_some_iff.mp h1).1
  have l29 := lxK_ok.1
  have ei : i = j := nI_inj (by omega) (by omega) (h2.symm.trans hj)
  rw [ei] at h1
  rw [List.getD_eq_getElem?_getD, h1] at hm
  have lw : (tkX n c (tkn n c t)).length ≤ (tkn n c t).2.2.2.1 - (tkn n c t).2.2.1 := by
    have eX : tkX n c (tkn n c t) = lxW c (tkn n c t).2.2.1 ((tkn n c t).2.2.2.1 - (tkn n c t).2.2.1) := by
      unfold tkX lxTx
      rw [if_neg (by rw [hk]; decide)]
    rw [eX, lxW_len]
    exact Nat.le_refl _
  have hm : (tkX n c (tkn n c t)).length = m := hm
  show _ ≤ (tkS n c (tkn n c t).2.2.2.1 (tkn n c t).2.2.2.2).2.2.1
  omega
/-- a statement's node, made since lo -/
def sNo (n : Nat) (c : Nat → Int32) (lo : Nat) (M : zM) (τ : Nat → Nat) (C : pC) (s s' : pS) (p : zP) (g : gSt) : Prop := (p.2.2 = 0 ∧ 20 ≤ p.2.1 ∧ p.2.1 ≤ 44) ∧ ∃ D o m h k, szT n c s s' D o m h k ∧ sNd (nS lo (zsz M) τ) (nW lo (zsz M) τ) M C.2 (fun b => lo ≤ b ∧ b < zsz M) D o m h k p g
theorem sNo.mv {M M' : zM} {τ τ' : Nat → Nat} {lo lo' : Nat} {C : pC} {s s' : pS} {p : zP} {g : gSt} (h : sNo n c lo M τ C s s' p g) (m : mvr τ M τ' M') (hl : 190 ≤ lo') (hll : lo' ≤ lo) : sNo n c lo' M' τ' C s s' p g := by
  obtain ⟨h1, D, o, mm, hh, k, h2, h3⟩ := h
  have z := m.1.1.1
  refine ⟨h1, D, o, mm, hh, k, h2, (h3.mo (fun x z => m.sub hll (Nat.le_refl _) x z) (fun x z => ?_) (m.agS (by omega) (Nat.le_refl _)) (m.agB (by omega) (Nat.le_refl _))).up (fun b y => ⟨by omega, by omega⟩) (Nat.le_refl _) (Nat.le_refl _) (Nat.le_refl _) (Nat.le_refl _) (Nat.le_refl _)⟩
  exact ⟨by have := z.1; omega, by have := z.2.1; omega, by rw [m.2 x (by have := z.2.1; omega) (by have := z.2.2; omega)]; exact z.2.2⟩
/-- a statement's method Y at o -/
def cSm (E : zE) (pp a lf n : Nat) (c : Nat → Int32) (Y : zY) (ar : List (Nat × zV)) (dm o : Nat) (f : pC → pS → pR gSt) : Prop :=
  ∀ (d : Nat) (Q : zO → zM → Prop) (M : zM) (τ : Nat → Nat) (fs : List Nat) (s : pS) (C : pC), dm ≤ d → xPs M τ pp a lf n c fs s C o →
    (∀ v s', f C s = .ok (v, s') → ∀ M' τ' fs' p, pEnd pp a lf n c 9 199 M τ fs s C o M' τ' fs' s' → sNo n c (zsz M) M' τ' C s s' p v → Q (.inl (some (vr (some p)))) M') →
    (∀ w, f C s = .error w → ∀ ou M', pEr lf 9 199 τ fs M s w ou M' → Q ou M') → Z E Y d M ((0, vr (some (pp, 8, 0))) :: ar) 0 [] Q
end
