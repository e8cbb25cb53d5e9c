/-! THE COMPONENT's CODER: what it holds -/
/-- an instruction's cells; P: marks whose jumps still wait (in a loop's or a switch's list) -/
def xIns (M : zM) (P : Nat → Prop) (at_ : Nat → Option Nat) (k : Nat) (q : gI) : Prop :=
  gi M 30 k = q.1.1 ∧ (q.2.1 = none → gi M 31 k = q.1.2.1) ∧ (∀ m p, q.2.1 = some m → at_ m = some p → ¬ P m → gi M 31 k = nI p) ∧ gi M 32 k = q.2.2.2.1 ∧ (q.1.1 = 27 → gi M 33 k = nI q.2.2.2.2.1) ∧ gi M 34 k = q.1.2.2 ∧ gi M 35 k = byt (nI q.2.2.1)
/-- m instructions were put; those that are kept are the spec's -/
def xCd (M : zM) (P : Nat → Prop) (m : Nat) (st : gS) : Prop :=
  gi M 29 7 = nI m ∧ m < 100000000 ∧ (m ≤ 600 → m = st.c.length) ∧ (600 < m → 600 < st.c.length) ∧ (m ≤ 600 → gi M 29 8 = nI st.si ∧ st.si ≤ m ∧ (∀ k q, st.c[k]? = some q → xIns M P st.at k q) ∧
    ∀ j, j < st.si → j < 20 → ∃ k q, gi M 36 j = nI k ∧ st.c[k]? = some q ∧ ((q.1.1 = 7 ∨ q.1.1 = 8) ∧ q.1.2.1 = nI j ∨ q.1.1 = 16 ∧ q.1.2.2 = nI j)) ∧ (600 < m → ∃ j, j ≤ m ∧ gi M 29 8 = nI j) ∧ wfS st
/-- the arounds of what is around: their serials, the innermost first; an each's are two -/
def xAr (M : zM) : Option zP → gK → List Nat → Prop
  | p, [], l => p = none ∧ l = []
  | p, w :: Γ, b :: l => p = some (b, 17, 0) ∧ 190 ≤ b ∧
      (if w.1 = 4 then ∃ b2 l2, l = b2 :: l2 ∧ gi M b 3 = 3 ∧ gi M b 8 = 1 ∧ gr M b 4 = some (b2, 17, 0) ∧ 190 ≤ b2 ∧ gi M b2 3 = 0 ∧ xAr M (gr M b2 4) Γ l2
       else (if w.1 = 3 then gi M b 8 = nI w.2.1.length else True) ∧ gi M b 3 = nI w.1 ∧ (w.1 = 2 → gi M b 7 = nI w.2.2.1) ∧ xAr M (gr M b 4) Γ l)
  | _, _ :: _, [] => False
def wOK (w : gW) : Prop := w.1 ≤ 4 ∧ (w.1 = 4 → w.2.1 = [true]) ∧ (w.1 = 0 ∨ w.1 = 1 ∨ w.1 = 2 → w.2.1 = []) ∧ w.2.1.length < 100000 ∧ w.2.2.1 < 32768
def kOK (Γ : gK) : Prop := (∀ w ∈ Γ, wOK w) ∧ (skk Γ).length < 32768
/-- the function's Code f, and those around it: hops to a name -/
def xFn (M : zM) : Nat → Nat → Nat → (Nat → Option Nat) → Prop
  | 0, _, _, _ => False
  | u + 1, f, n, hop => 190 ≤ f ∧ gi M f 0 = nI n ∧ n < 100000 ∧ (gr M f 1 = none ∧ (∀ x, hop x = none) ∨
      ∃ f' n' hop' vs b mb, gr M f 1 = some (f', 10, 0) ∧ gr M f 4 = some (b, 100, mb) ∧ 190 ≤ b ∧ gi M f 5 = nI (List.length vs) ∧ vs.length ≤ mb ∧ mb < 100000 ∧ (∀ k, k < vs.length → gi M b k = nI (vs.getD k 0)) ∧ (∀ x ∈ vs, x < 100000) ∧
        (∀ x, x < 100000 → hop x = if x ∈ vs then some 0 else (hop' x).map (· + 1)) ∧ xFn M u f' n' hop')
/-- what an expression's code changes -/
def cdP (a k : Nat) : Prop := 30 ≤ a ∧ a ≤ 36 ∨ a = 29 ∧ (k = 7 ∨ k = 8)
/-- the coder at work -/
def xCo (M : zM) (e : gN) (Γ : gK) (l : List Nat) (m : Nat) (st : gS) : Prop :=
  cw M ∧ xCd M (mkP Γ) m st ∧ xAr M (gr M 29 9) Γ l ∧ kOK Γ ∧ (∃ f u, u ≤ 60 ∧ gr M 29 12 = some (f, 10, 0) ∧ xFn M u f e.1 e.2)
theorem xAr_fr {M M' : zM} (f : ∀ a k, 190 ≤ a → gi M' a k = gi M a k ∧ gr M' a k = gr M a k) : ∀ (Γ : gK) (p : Option zP) (l : List Nat), xAr M p Γ l → xAr M' p Γ l
  | [], p, l, h => h
  | w :: Γ, p, [], h => h.elim
  | w :: Γ, p, b :: l, h => by
    obtain ⟨h1, h2, h3⟩ := h
    refine ⟨h1, h2, ?_⟩
    by_cases h4 : w.1 = 4
    · rw [if_pos h4] at h3 ⊢
      obtain ⟨b2, l2, e1, e2, e3, e4, e5, e6, e7⟩ := h3
      exact ⟨b2, l2, e1, (f b 3 h2).1.trans e2, (f b 8 h2).1.trans e3, (f b 4 h2).2.trans e4, e5, (f b2 3 e5).1.trans e6, by rw [(f b2 4 e5).2]; exact xAr_fr f Γ _ _ e7⟩
    · rw [if_neg h4] at h3 ⊢
      obtain ⟨e1, e2, e3, e4⟩ := h3
      refine ⟨?_, (f b 3 h2).1.trans e2, fun z => (f b 7 h2).1.trans (e3 z), by rw [(f b 4 h2).2]; exact xAr_fr f Γ _ _ e4⟩
      by_cases h5 : w.1 = 3
      · rw [if_pos h5] at e1 ⊢; exact (f b 8 h2).1.trans e1
      · rw [if_neg h5]; trivial
theorem xFn_fr {M M' : zM} (f : ∀ a k, 190 ≤ a → gi M' a k = gi M a k ∧ gr M' a k = gr M a k) : ∀ (u c n : Nat) (hop : Nat → Option Nat), xFn M u c n hop → xFn M' u c n hop
  | 0, _, _, _, h => h
  | u + 1, c, n, hop, h => by
    obtain ⟨h1, h2, h2', h3⟩ := h
    refine ⟨h1, (f c 0 h1).1.trans h2, h2', ?_⟩
    rcases h3 with ⟨e1, e2⟩ | ⟨f', n', hop', vs, b, mb, e1, e2, e3, e4, e5, e6, e7, e8, e9, e10⟩
    · exact .inl ⟨(f c 1 h1).2.trans e1, e2⟩
    · exact .inr ⟨f', n', hop', vs, b, mb, (f c 1 h1).2.trans e1, (f c 4 h1).2.trans e2, e3, (f c 5 h1).1.trans e4, e5, e6, fun k hk => (f b k e3).1.trans (e7 k hk), e8, e9, xFn_fr f u f' n' hop' e10⟩
theorem cdP_cw : ∀ q ∈ cwl, ¬ cdP q.1 q.2.1 := by
  have : ∀ q ∈ cwl, ¬ (30 ≤ q.1 ∧ q.1 ≤ 36 ∨ q.1 = 29 ∧ (q.2.1 = 7 ∨ q.2.1 = 8)) := by decide +kernel
  exact this
theorem xCo_fr {M M' : zM} {e : gN} {Γ : gK} {l : List Nat} {m m' : Nat} {st st' : gS} (h : xCo M e Γ l m st) (f : fr cdP M M') (hc : xCd M' (mkP Γ) m' st') : xCo M' e Γ l m' st' := by
  obtain ⟨h1, h2, h3, h4, c, u, h5, h6, h7⟩ := h
  have g : ∀ a k, 190 ≤ a → gi M' a k = gi M a k ∧ gr M' a k = gr M a k := fun a k ha => by
    have := f.2 a k (by unfold cdP; omega)
    exact ⟨this.1, this.2.2⟩
  refine ⟨f.cw cdP_cw h1, hc, ?_, h4, c, u, h5, ?_, xFn_fr g u c _ _ h7⟩
  · rw [(f.2 29 9 (by unfold cdP; omega)).2.2]; exact xAr_fr g Γ _ _ h3
  · rw [(f.2 29 12 (by unfold cdP; omega)).2.2]; exact h6
section
variable {E : zE} {d : Nat} {Q : zO → zM → Prop} {M : zM} {e : gN} {Γ : gK} {l : List Nat} {m : Nat} {st : gS}
theorem y_openTry (hw : cw M) : ∀ (Γ : gK) (p : Option zP) (l : List Nat), xAr M p Γ l → (∀ w ∈ Γ, w.1 ≤ 4) → Q (.inl (some (vi (opn Γ)))) M → Z E YX3_openTry d M [(1, vr p)] 5 [] Q
  | [], p, l, h, _, hQ => by
    refine sX3_openTry_5 M p hw ?_
    rw [if_pos h.1]; exact hQ
  | w :: Γ, p, [], h, _, _ => h.elim
  | w :: Γ, p, b :: l, h, hk, hQ => by
    obtain ⟨h1, h2, h3⟩ := h
    have hw4 := hk w List.mem_cons_self
    refine sX3_openTry_5 M p hw ?_
    rw [if_neg (by rw [h1]; exact fun z => by cases z)]
    refine ⟨b, h1, ?_⟩
    unfold opn at hQ
    by_cases h4 : w.1 = 4
    · rw [if_pos h4] at h3
      obtain ⟨b2, l2, e1, e2, e3, e4, e5, e6, e7⟩ := h3
      rw [if_neg (by omega)] at hQ
      rw [e2, if_neg (by decide), e4]
      refine sX3_openTry_5 M _ hw ?_
      rw [if_neg (fun z => by cases z)]
      refine ⟨b2, rfl, ?_⟩
      rw [e6, if_neg (by decide)]
      exact y_openTry hw Γ _ _ e7 (fun w' hw' => hk w' (List.mem_cons_of_mem _ hw')) hQ
    · rw [if_neg h4] at h3
      obtain ⟨e1, e2, e3, e4⟩ := h3
      rw [e2]
      by_cases h5 : w.1 = 2
      · rw [if_pos h5] at hQ
        rw [if_pos (by rw [h5]; rfl), e3 h5]; exact hQ
      · rw [if_neg h5] at hQ
        rw [if_neg (by rw [nn_eql (by omega) (by decide)]; exact h5)]
        exact y_openTry hw Γ _ _ e4 (fun w' hw' => hk w' (List.mem_cons_of_mem _ hw')) hQ
theorem y_values (hw : cw M) : ∀ (Γ : gK) (p : Option zP) (l : List Nat) (n : Nat), xAr M p Γ l → (∀ w ∈ Γ, wOK w) → n + (skk Γ).length < 100000 → Q (.inl (some (vi (nI (n + (skk Γ).length))))) M → Z E YX3_values d M [(1, vi (nI n)), (2, vr p)] 7 [] Q
  | [], p, l, n, h, _, _, hQ => by
    refine sX3_values_7 M _ p hw ?_
    rw [if_pos h.1]; exact hQ
  | w :: Γ, p, [], n, h, _, _, _ => h.elim
  | w :: Γ, p, b :: l, n, h, hk, hn, hQ => by
    obtain ⟨h1, h2, h3⟩ := h
    obtain ⟨k1, k2, k3, k4, -⟩ := hk w List.mem_cons_self
    have hk' : ∀ w' ∈ Γ, wOK w' := fun w' hw' => hk w' (List.mem_cons_of_mem _ hw')
    have es : (skk (w :: Γ)).length = w.2.1.length + (skk Γ).length := by show (w.2.1 ++ skk Γ).length = _; rw [List.length_append]
    rw [es] at hQ hn
    refine sX3_values_7 M _ p hw ?_
    rw [if_neg (by rw [h1]; exact fun z => by cases z)]
    refine ⟨b, h1, ?_⟩
    by_cases h4 : w.1 = 4
    · rw [if_pos h4] at h3
      obtain ⟨b2, l2, e1, e2, e3, e4, e5, e6, e7⟩ := h3
      rw [k2 h4] at hQ hn
      rw [e2, if_pos rfl, e3, e4, nI_l1]
      refine sX3_values_7 M _ _ hw ?_
      rw [if_neg (fun z => by cases z)]
      refine ⟨b2, rfl, ?_⟩
      rw [e6, if_neg (by decide), nI_l0]
      exact y_values hw Γ _ _ (n + 1) e7 hk' (by simp at hn; omega) (by rw [show n + 1 + (skk Γ).length = n + ([true].length + (skk Γ).length) by simp; omega]; exact hQ)
    · rw [if_neg h4] at h3
      obtain ⟨e1, e2, e3, e4⟩ := h3
      rw [e2]
      by_cases h5 : w.1 = 3
      · rw [if_pos h5] at e1
        rw [if_pos (by rw [h5]; rfl), e1, nI_add]
        exact y_values hw Γ _ _ _ e4 hk' (by omega) (by rw [Nat.add_assoc]; exact hQ)
      · rw [if_neg (by rw [nn_eql (by omega) (by decide)]; exact h5), nI_l0]
        rw [k3 (by omega), List.length_nil, Nat.zero_add] at hQ hn
        exact y_values hw Γ _ _ _ e4 hk' hn hQ
end
