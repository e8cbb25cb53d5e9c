/-! THE MACHINE's HEAP, abstractly: texts, removal, reading; throwing -/
/-- the text of a value as a string: its number; none: no room -/
def a_text (A : mA) (s v : Int32) : Option (Nat × mA) :=
  if s = 6 then some (v.toNatClampNeg, A) else match mmk (aL A) (mText (aL A) s v) with
    | none => none
    | some (k, L') => some (k, (aT A, L', aO A, aP A, aF A))
theorem a_text_6 {A : mA} {s v : Int32} (h : s = 6) : a_text A s v = some (v.toNatClampNeg, A) := if_pos h
theorem a_text_n {A : mA} {s v : Int32} (h : ¬ s = 6) (e : mmk (aL A) (mText (aL A) s v) = none) : a_text A s v = none := by unfold a_text; rw [if_neg h, e]
theorem a_text_s {A : mA} {s v : Int32} {k : Nat} {L' : List (List Int32)} (h : ¬ s = 6) (e : mmk (aL A) (mText (aL A) s v) = some (k, L')) : a_text A s v = some (k, (aT A, L', aO A, aP A, aF A)) := by unfold a_text; rw [if_neg h, e]
theorem iA_L {A : mA} {L' : List (List Int32)} (i : iA A) (hL : mLok L') (hl : (aL A).length ≤ L'.length) : iA (aT A, L', aO A, aP A, aF A) := by
  obtain ⟨i1, i2, i3, i4⟩ := i
  refine ⟨i1, hL, fun o ho q hq => ?_, i4⟩
  obtain ⟨q1, q2, j, j1, j2⟩ := i3 o ho q hq
  exact ⟨mok_mono hl (Nat.le_refl _) q1, q2, j, j1, by show j < L'.length; omega⟩
theorem iA_text {A A' : mA} {s v : Int32} {k : Nat} (i : iA A) (hv : mok (aL A) (aO A) s v) (h : a_text A s v = some (k, A')) : iA A' ∧ k < (aL A').length ∧ (aL A).length ≤ (aL A').length ∧ (∃ r, aL A' = aL A ++ r) ∧ aT A' = aT A ∧ aO A' = aO A ∧ aP A' = aP A ∧ aF A' = aF A := by
  unfold a_text at h
  by_cases h6 : s = 6
  · rw [if_pos h6] at h
    obtain ⟨rfl, rfl⟩ := Prod.mk.inj (Option.some.inj h)
    obtain ⟨n, rfl, hn, q6, -⟩ := hv
    obtain ⟨j, rfl, hj⟩ := q6 (by rw [nn_eql (by omega) (by omega)] at h6; exact h6)
    have := i.2.1.2.1
    rw [nn_cl (by omega)]
    exact ⟨i, hj, Nat.le_refl _, ⟨[], by simp⟩, rfl, rfl, rfl, rfl⟩
  · rw [if_neg h6] at h
    obtain ⟨m1, m2⟩ := mText_at i.2.1 hv
    cases hm : mmk (aL A) (mText (aL A) s v) with
    | none => rw [hm] at h; cases h
    | some q =>
      obtain ⟨k', L'⟩ := q
      rw [hm] at h
      obtain ⟨rfl, rfl⟩ := Prod.mk.inj (Option.some.inj h)
      obtain ⟨r1, r2, r3, r, r4⟩ := mmk_ok i.2.1 m2 hm
      have hl : (aL A).length ≤ L'.length := by rw [r4, List.length_append]; omega
      exact ⟨iA_L i r1 hl, r2, hl, ⟨r, r4⟩, rfl, rfl, rfl, rfl⟩
section
variable {E : zE} {d : Nat} {T M : zM} {Q : zO → zM → Prop} {A : mA}
/-- textOf of the twin: what was got stays -/
theorem tA_text2 {s v : Int32} (h : sT T A) (i : iA A) (hv : mok (aL A) (aO A) s v) (h1 : ∀ k A' T', a_text A s v = some (k, A') → sT T' A' → fr (orP sct stT) T T' → Q (.inl (some (vi (nI k)))) T') (h2 : ∀ T', a_text A s v = none → fr sct T T' → Q (.inl (some (vi 0))) (si T' 97 75 1)) : Zm E YX8_textOf (d + 3) T [(0, T97), (1, vi s), (2, vi v)] 0 [] Q := by
  refine tm_textOf h.2 i.2.1 hv (fun k h6 hk hl => ?_) (fun k L' T' h6 e s' f _ => ?_) (fun T' h6 e f => ?_)
  · have := i.2.1.2.1
    have := h1 k A T (by rw [a_text_6 h6, hk, nn_cl (by omega)]) h fr.rf
    rw [hk]; exact this
  · exact h1 k _ T' (a_text_s h6 e) ⟨fun a k q => (f.2 a k (by unfold orP sct stT; unfold hpT at q; omega)).1.trans (h.1 a k q), s'⟩ f
  · exact h2 T' (a_text_n h6 e) f
theorem tA_text {s v : Int32} (h : sT T A) (i : iA A) (hv : mok (aL A) (aO A) s v) (h1 : ∀ k A' T', a_text A s v = some (k, A') → sT T' A' → fr (orP scr stT) T T' → Q (.inl (some (vi (nI k)))) T') (h2 : ∀ T', a_text A s v = none → fr scr T T' → Q (.inl (some (vi 0))) (si T' 97 75 1)) : Zm E YX8_textOf (d + 3) T [(0, T97), (1, vi s), (2, vi v)] 0 [] Q :=
  tA_text2 h i hv (fun k A' T' e s' f => h1 k A' T' e s' f.sc2) (fun T' e f => h2 T' e f.sc)
theorem xA_text {s v : Int32} (h : sX M A) (i : iA A) (hv : mok (aL A) (aO A) s v) (h1 : ∀ k A' M', a_text A s v = some (k, A') → sX M' A' → fr (orP scx stX) M M' → Q (.inl (some (vi (nI k)))) M') (h2 : ∀ M', a_text A s v = none → fr scx M M' → Q (.inr (51, 13, 0)) M') : Z E YX1_textOf (d + 3) M [(0, zX16), (1, vi s), (2, vi v)] 0 [] Q := by
  obtain ⟨hw, g, hl, hxt⟩ := id h
  refine xm_textOf hw hxt i.2.1 hv (fun k h6 hk hl => ?_) (fun k L' M' h6 e s' f _ => ?_) (fun M' h6 e f => ?_)
  · have := i.2.1.2.1
    have := h1 k A M (by rw [a_text_6 h6, hk, nn_cl (by omega)]) h fr.rf
    rw [hk]; exact this
  · refine h1 k _ M' (a_text_s h6 e) ?_ f
    have e1 : ∀ a k, hpX a k → gi M' a k = gi M a k := fun a k q => (f.2 a k (by unfold orP scx stX; unfold hpX at q; omega)).1
    obtain ⟨⟨b1, b2⟩, ⟨sp, m, s1, s2, s3, s4⟩, b3, b4⟩ := g
    have e47 : gi M' 47 = gi M 47 := funext fun k => e1 47 k (by unfold hpX; omega)
    refine ⟨cw_fr hw f (fun q hq => by have := cwl_ok q hq; unfold orP scx stX; omega), ⟨⟨(e1 _ _ (by unfold hpX; omega)).trans b1, (e1 _ _ (by unfold hpX; omega)).trans b2⟩, ⟨sp, m, s1, s2, by rw [e47, e1 16 28 (by unfold hpX; omega)]; exact s3, (e1 _ _ (by unfold hpX; omega)).trans s4⟩, fun o ho => ?_, fun o ho q hq => ?_⟩, fun o ho => ?_, s'⟩
    · rw [e1 38 _ (by unfold hpX; omega), e1 41 _ (by unfold hpX; omega), e1 42 _ (by unfold hpX; omega), e1 43 _ (by unfold hpX; omega), e1 44 _ (by unfold hpX; omega)]; exact b3 o ho
    · rw [e1 46 _ (by unfold hpX; omega), e1 47 _ (by unfold hpX; omega), e1 48 _ (by unfold hpX; omega), e1 49 _ (by unfold hpX; omega), e1 50 _ (by unfold hpX; omega)]; exact b4 o ho q hq
    · exact hL_cg hl (fun a k q => e1 a k (by unfold hpX; omega)) (fun _ _ _ => rfl) o ho
  · exact h2 M' (a_text_n h6 e) f
theorem m_rem_hp {T T' : zM} (e : ∀ a k, hpT a k → gi T' a k = gi T a k) (o p : Nat) (l1 : List Nat) : ∀ a k, hpT a k → gi (m_rem T' o p l1) a k = gi (m_rem T o p l1) a k := by
  have e1 := e 149 p (by unfold hpT; omega)
  have e2 := e 97 84 (by unfold hpT; omega)
  have e3 := e 97 85 (by unfold hpT; omega)
  have e4 := e 144 o (by unfold hpT; omega)
  intro a k h
  have e5 := e a k h
  unfold m_rem
  rw [e1, e2, e3, e4]
  dsimp only
  by_cases h1 : l1 = []
  · rw [if_pos h1, if_pos h1]
    by_cases h2 : gi T 144 o = nI p
    · rw [if_pos h2, if_pos h2]; simp only [gi_si, e5]
    · rw [if_neg h2, if_neg h2]; simp only [gi_si, e5]
  · rw [if_neg h1, if_neg h1]
    by_cases h2 : gi T 144 o = nI p
    · rw [if_pos h2, if_pos h2]; simp only [gi_si, e5]
    · rw [if_neg h2, if_neg h2]; simp only [gi_si, e5]
theorem tA_rem {o : Nat} {x : Int32} (h : sT T A) (i : iA A) (ho : o < aO A) (hQ : ∀ T', sT T' (a_rem A o x) → fr fT T T' → Q (.inl none) T') : Zm E YX8_remove (d + 1) T [(0, T97), (1, vi (nI o)), (2, vi x)] 0 [] Q := by
  have hn : ∀ q, gi T 145 q = gi (aT A) 145 q := fun q => h.1 145 q (by unfold hpT; omega)
  refine tm_remove (sT_hT h i) ho (fun hno => ?_) (fun l1 p l2 e hp h1 => ?_)
  · exact hQ T (by rw [a_rem_none (fun q hq => by rw [← hn]; exact hno q hq)]; exact h) fr.rf
  · have f := m_rem_fr T o p l1
    refine hQ _ ?_ f
    rw [a_rem_some i ho e (by rw [← hn]; exact hp) (fun z hz => by rw [← hn]; exact h1 z hz)]
    refine ⟨m_rem_hp h.1 o p l1, (f.2 97 7 (by unfold fT; omega)).1.trans h.2.1, h.2.2.1, fun s' w hs => ?_⟩
    obtain ⟨q1, q2, q3⟩ := h.2.2.2 s' w hs
    exact ⟨(f.2 101 s' (by unfold fT; omega)).1.trans q1, q2, fun k hk => (f.2 100 _ (by unfold fT; omega)).1.trans (q3 k hk)⟩
theorem xA_rem {o : Nat} {x : Int32} (h : sX M A) (i : iA A) (ho : o < aO A) (hQ : ∀ M', sX M' (a_rem A o x) → fr fX M M' → Q (.inl none) M') : Z E YX1_remove d M [(0, zX16), (1, vi (nI o)), (2, vi x)] 0 [] Q := by
  obtain ⟨hw, g, hl, hxt⟩ := id h
  refine xm_remove hw i.1 g ho (fun hno => ?_) (fun l1 p l2 e hp h1 => ?_)
  · exact hQ M (by rw [a_rem_none hno]; exact h) fr.rf
  · have f := x_rem_fr M o p l1
    refine hQ _ ?_ f
    rw [a_rem_some i ho e hp h1]
    refine ⟨cw_fX hw f, hX_rem i.1 g ho e, fun z hz => ?_, ?_⟩
    · exact hL_cg hl (fun a k q => (f.2 a k (by unfold fX; omega)).1) (fun a k q => m_rem_oth _ _ _ _ (by unfold fT; omega)) z hz
    · obtain ⟨x1, x2, ⟨y1, y2, y3⟩, x4⟩ := hxt
      exact ⟨(f.2 17 1 (by unfold fX; omega)).2.2.trans x1, (f.2 17 0 (by unfold fX; omega)).2.2.trans x2, ⟨(f.2 17 2 (by unfold fX; omega)).1.trans y1, fun k hk => (f.2 18 k (by unfold fX; omega)).1.trans (y2 k hk), fun j hj => (f.2 19 j (by unfold fX; omega)).1.trans (y3 j hj)⟩, x4⟩
/-- the property that a name reads -/
noncomputable def a_get (A : mA) (o : Nat) (x : Int32) : Int32 := mgt (gi (aT A) 145) (aP A) x (Classical.epsilon fun l => chn (gi (aT A) 139) (-1) (nI o) l ∧ ∀ q ∈ l, q < aO A)
theorem a_chain (i : iA A) {o : Nat} (ho : o < aO A) : chn (gi (aT A) 139) (-1) (nI o) (Classical.epsilon fun l => chn (gi (aT A) 139) (-1) (nI o) l ∧ ∀ q ∈ l, q < aO A) ∧ ∀ q ∈ (Classical.epsilon fun l => chn (gi (aT A) 139) (-1) (nI o) l ∧ ∀ q ∈ l, q < aO A), q < aO A := Classical.epsilon_spec (p := fun l => chn (gi (aT A) 139) (-1) (nI o) l ∧ ∀ q ∈ l, q < aO A) (i.2.2.2 o ho)
theorem a_get_or (i : iA A) {o : Nat} (ho : o < aO A) (x : Int32) : a_get A o x = -1 ∨ ∃ q z, z < aO A ∧ q ∈ aP A z ∧ q < 3000 ∧ gi (aT A) 145 q = x ∧ a_get A o x = nI q := by
  rcases mgt_or (gi (aT A) 145) (aP A) x (Classical.epsilon fun l => chn (gi (aT A) 139) (-1) (nI o) l ∧ ∀ q ∈ l, q < aO A) with h | ⟨z, hz, q, hq, e1, e2⟩
  · exact .inl h
  · have hz' := (a_chain i ho).2 z hz
    exact .inr ⟨q, z, hz', hq, ((i.1.2.2 z hz').2.2.2.1 q hq).1, e1, e2⟩
theorem tA_read {o : Nat} {x : Int32} (h : sT T A) (i : iA A) (ho : o < aO A) (h0 : a_get A o x = -1 → Q (.inl (some (vi 0))) (si (si T 97 111 0) 97 112 0)) (h1 : ∀ q z, z < aO A → q ∈ aP A z → a_get A o x = nI q → Q (.inl (some (vi 1))) (si (si T 97 111 (gi (aT A) 146 q)) 97 112 (gi (aT A) 147 q))) : Zm E YX8_read_2 (d + 1) T [(0, T97), (1, vi (nI o)), (2, vi x)] 0 [] Q := by
  obtain ⟨c1, c2⟩ := a_chain i ho
  have e139 : gi T 139 = gi (aT A) 139 := funext fun k => h.1 139 k (by unfold hpT; omega)
  have eg : mgt (gi T 145) (aP A) x (Classical.epsilon fun l => chn (gi (aT A) 139) (-1) (nI o) l ∧ ∀ q ∈ l, q < aO A) = a_get A o x := mgt_cg (fun z _ q _ => h.1 145 q (by unfold hpT; omega))
  refine tm_read (l := Classical.epsilon fun l => chn (gi (aT A) 139) (-1) (nI o) l ∧ ∀ q ∈ l, q < aO A) (sT_hT h i) (by rw [e139]; exact c1) c2 (fun e => h0 (eg.symm.trans e)) (fun q e hq => ?_)
  rcases a_get_or i ho x with r | ⟨q', z, z1, z2, z3, -, z4⟩
  · rw [eg, r, nn_1m (by omega)] at e; exact e.elim
  · have : q = q' := by rw [eg, z4, nn_eq (by omega) (by omega)] at e; exact e.symm
    subst this
    rw [h.1 146 q (by unfold hpT; omega), h.1 147 q (by unfold hpT; omega)]
    exact h1 q z z1 z2 z4
theorem xA_find {o : Nat} {x : Int32} (h : sX M A) (i : iA A) (ho : o < aO A) (hQ : Q (.inl (some (vi (a_get A o x)))) M) : Z E YX1_find (d + 1) M [(0, zX16), (1, vi (nI o)), (2, vi x)] 0 [] Q := by
  obtain ⟨c1, c2⟩ := a_chain i ho
  exact xm_find h.1 i.1 h.2.1 c1 c2 (fun p hp => by rw [hp]; exact hQ)
end
