/-! THE COMPONENT's CODER: a loop or a switch, between entering and leaving -/
/-- goals of jumps that wait may change, and where their marks are, and which wait -/
theorem xCd_31 {M M' : zM} {P P' : Nat → Prop} {m : Nat} {st st' : gS} (h : xCd M P m st) (f : ∀ x k, cdP x k → x ≠ 31 → gi M' x k = gi M x k) (hc : st'.c = st.c) (hs : st'.si = st.si) (hw : wfS st')
    (h31 : m ≤ 600 → ∀ k q, st.c[k]? = some q → (q.2.1 = none → gi M' 31 k = gi M 31 k) ∧ ∀ mm p, q.2.1 = some mm → st'.at mm = some p → ¬ P' mm → gi M' 31 k = nI p) : xCd M' P' m st' := by
  obtain ⟨c1, c2, c3, c4, c5, c6, c7⟩ := h
  have g : ∀ x k, 30 ≤ x → x ≤ 36 → x ≠ 31 → gi M' x k = gi M x k := fun x k h1 h2 h3 => f x k (.inl ⟨h1, h2⟩) h3
  refine ⟨(f 29 7 (.inr ⟨rfl, .inl rfl⟩) (by decide)).trans c1, c2, fun z => by rw [hc]; exact c3 z, fun z => by rw [hc]; exact c4 z, fun h6 => ?_, fun h6 => ?_, hw⟩
  · obtain ⟨d1, d0, d2, d3⟩ := c5 h6
    refine ⟨by rw [hs]; exact (f 29 8 (.inr ⟨rfl, .inr rfl⟩) (by decide)).trans d1, by rw [hs]; exact d0, fun k q hq => ?_, fun j h1 h2 => ?_⟩
    · rw [hc] at hq
      obtain ⟨i1, i2, i3, i4, i5, i6, i7⟩ := d2 k q hq
      have h' := h31 h6 k q hq
      exact ⟨(g 30 k (by decide) (by decide) (by decide)).trans i1, fun z => (h'.1 z).trans (i2 z), h'.2, (g 32 k (by decide) (by decide) (by decide)).trans i4, fun z => (g 33 k (by decide) (by decide) (by decide)).trans (i5 z), (g 34 k (by decide) (by decide) (by decide)).trans i6, (g 35 k (by decide) (by decide) (by decide)).trans i7⟩
    · rw [hs] at h1
      obtain ⟨k, q, j1, j2⟩ := d3 j h1 h2
      exact ⟨k, q, (g 36 j (by decide) (by decide) (by decide)).trans j1, by rw [hc]; exact j2⟩
  · obtain ⟨j, j1, j2⟩ := c6 h6
    exact ⟨j, j1, (f 29 8 (.inr ⟨rfl, .inr rfl⟩) (by decide)).trans j2⟩
theorem xCd_ag {M M' : zM} {P P' : Nat → Prop} {m : Nat} {st : gS} (h : xCd M P m st) (f : ∀ x k, cdP x k → gi M' x k = gi M x k) (hP : ∀ mm, P mm → P' mm) : xCd M' P' m st :=
  xCd_31 h (fun x k h1 _ => f x k h1) rfl rfl h.2.2.2.2.2.2 (fun h6 k q hq => ⟨fun _ => f 31 k (.inl ⟨by decide, by decide⟩), fun mm p z1 z2 z3 => (f 31 k (.inl ⟨by decide, by decide⟩)).trans (((h.2.2.2.2.1 h6).2.2.1 k q hq).2.2.1 mm p z1 z2 (fun y => z3 (hP mm y)))⟩)
/-- more code, of which the jumps go to P or to marks that are new -/
def gsc (P : Nat → Prop) (s s' : gS) : Prop := (∃ n, s'.c = s.c ++ n ∧ ∀ q ∈ n, ∀ o, q.2.1 = some o → P o ∨ s.m ≤ o) ∧ s.m ≤ s'.m
theorem gst.gsc {P : Nat → Prop} {s s' : gS} (h : gst P s s') : gsc P s s' := by
  obtain ⟨⟨n, a1, a2⟩, a3, -⟩ := h
  exact ⟨⟨n, a1, fun q hq o ho => (a2 q hq o ho).imp id And.left⟩, a3⟩
theorem gsc.rf {P : Nat → Prop} {s s' : gS} (hc : s'.c = s.c) (hm : s.m ≤ s'.m) : gsc P s s' := ⟨⟨[], by rw [hc, List.append_nil], fun q hq => by cases hq⟩, hm⟩
theorem jmK_gsc {P : Nat → Prop} {st st' : gS} {β o : Nat} {ks : List Nat} (h : jmK st β ks o) (g : gsc P st st') (hp : ¬ P o) (ho : o < st.m) : jmK st' β ks o := by
  obtain ⟨⟨n, a1, a2⟩, -⟩ := g
  refine ⟨fun k q hk hq hm => ?_, fun k hk => ?_⟩
  · rw [a1] at hq
    by_cases hkl : k < st.c.length
    · rw [List.getElem?_append_left hkl] at hq; exact h.1 k q hk hq hm
    · rw [List.getElem?_append_right (by omega)] at hq
      exfalso
      rcases a2 q (List.mem_of_getElem? hq) o hm with y | y
      · exact hp y
      · omega
  · obtain ⟨q, h1, h2⟩ := h.2 k hk
    exact ⟨q, by rw [a1, List.getElem?_append_left (List.getElem?_eq_some_iff.mp h1).1]; exact h1, h2⟩
/-- the coder's own low cells -/
abbrev loP (x k : Nat) : Prop := cdP x k ∨ x = 29 ∧ (k = 9 ∨ k = 11)
theorem xOw_lo {M M' : zM} {ρ : Nat → Nat} {A : List Nat} (h : xOw M ρ A) (f : fr loP M M') (hz : 190 ≤ zsz M) : xOw M' ρ A := by
  obtain ⟨o1, o2, ⟨o3, o3'⟩, o4⟩ := h
  have g : ∀ x k, 190 ≤ x → gi M' x k = gi M x k ∧ gr M' x k = gr M x k := fun a k ha => by
    have := f.2 a k (by unfold loP cdP; omega)
    exact ⟨this.1, this.2.2⟩
  have l37 : lA M' 37 = lA M 37 := (lA_fg (by omega) f.fg (by unfold loP cdP; omega)).1
  refine ⟨fun c hc => by rw [f.1.1]; exact o1 c hc, xLs_fg o2 f.fg (fun k => by unfold loP cdP; omega) (fun k => by unfold loP cdP; omega), by rw [l37]; exact ⟨o3, o3'⟩, fun i a ha => ?_⟩
  obtain ⟨j1, j2, k1, k2, ⟨s1, s2, s3, s4, s5⟩, h0, h1, h2, z1, z2⟩ := o4 i a ha
  have ba := o1 a (by omega)
  have nP : ∀ x k, 190 ≤ x → ¬ loP x k := fun x k hx => by unfold loP cdP; omega
  have v1 := (jR_fg z1.2.1.2 f.fg (nP j1 0 z1.2.1.1)).1
  have v2 := (jR_fg z2.2.1.2 f.fg (nP j2 0 z2.2.1.1)).1
  exact ⟨j1, j2, k1, k2, ⟨s1, s2, s3, by rw [v1]; exact s4, by rw [v2]; exact s5⟩, (g a 0 ba.1).1.trans h0, (g a 1 ba.1).2.trans h1, (g a 2 ba.1).2.trans h2, xJp_fg z1 f.fg (nP _ _ z1.2.1.1) (nP _ _ z1.2.1.1) (fun i => nP _ _ z1.2.2.1.1), xJp_fg z2 f.fg (nP _ _ z2.2.1.1) (nP _ _ z2.2.1.1) (fun i => nP _ _ z2.2.2.1.1)⟩
/-- within w: its arounds la, its loop's or switch's around a with the lists j1 j2 of jumps k1 k2 -/
def xLp (M : zM) (e : gN) (w : gW) (Γ : gK) (la : List Nat) (own : Option zP) (v a : Nat) (l bs : List Nat) (ps : List (Option zP)) (ρ : Nat → Nat) (A : List Nat) (u m : Nat) (st : gS) (j1 j2 : Nat) (k1 k2 : List Nat) : Prop :=
  xCo M e (w :: Γ) la m st ∧ xOw M ρ A ∧ gi M 29 11 = nI v ∧ (v ≤ A.length ∧ A.length < 80000) ∧ 190 ≤ zsz M ∧ xCh M A m st u Γ l bs ps ∧ ((∀ mm, mkP Γ mm → mm < st.m ∧ st.at mm = none) ∧ mkD Γ) ∧ (A[u]? = some a ∧ u < v) ∧ (gr M a 5 = own ∧ gr M a 6 = none ∧ gr M a 1 = some (j1, 18, 0) ∧ gr M a 2 = some (j2, 18, 0)) ∧ (xJp M j1 k1 ∧ xJp M j2 k2) ∧ xAr M (gr M a 4) Γ l
/-- an around's sort, values and instruction alone show -/
theorem xAr_w {M : zM} {p : Option zP} {w w' : gW} {Γ : gK} {la : List Nat} (h : xAr M p (w :: Γ) la) (hw : w'.1 = w.1 ∧ w'.2.1 = w.2.1 ∧ w'.2.2.1 = w.2.2.1) : xAr M p (w' :: Γ) la := by
  cases la with
  | nil => exact h.elim
  | cons b l =>
    obtain ⟨h1, h2, h3⟩ := h
    refine ⟨h1, h2, ?_⟩
    rw [hw.1, hw.2.1, hw.2.2]
    exact h3
theorem kOK_w {w w' : gW} {Γ : gK} (h : kOK (w :: Γ)) (hw : w'.1 = w.1 ∧ w'.2.1 = w.2.1 ∧ w'.2.2.1 = w.2.2.1) : kOK (w' :: Γ) := by
  refine ⟨fun x hx => ?_, ?_⟩
  · rcases List.mem_cons.mp hx with z | z
    · have := h.1 w List.mem_cons_self
      unfold wOK at this ⊢
      rw [z, hw.1, hw.2.1, hw.2.2]
      exact this
    · exact h.1 x (List.mem_cons_of_mem _ z)
  · have := h.2
    unfold skk at this ⊢
    rw [hw.2.1]
    exact this
section
variable {M M' : zM} {e : gN} {w w' : gW} {Γ : gK} {la : List Nat} {own : Option zP} {v a : Nat} {l bs : List Nat} {ps : List (Option zP)} {ρ : Nat → Nat} {A : List Nat} {u m m' : Nat} {st st' : gS} {j1 j2 : Nat} {k1 k2 : List Nat}
theorem xLp.a190 (h : xLp M e w Γ la own v a l bs ps ρ A u m st j1 j2 k1 k2) : 190 ≤ a ∧ a < zsz M ∧ ρ a = 5 * u + 1 ∧ gi M a 0 = nI u := by
  obtain ⟨h1, h2, h3, h4, h5, h6, h7, h8, -⟩ := h
  obtain ⟨i1, i2, q1, q2, ⟨r1, -⟩, g0, -⟩ := h2.2.2.2 u a h8.1
  have := h2.1 a (by omega)
  exact ⟨this.1, this.2, r1, g0⟩
theorem xLp_put {P : Nat → Prop} (h : xLp M e w Γ la own v a l bs ps ρ A u m st j1 j2 k1 k2) (f : fr cdP M M') (k : xCo M' e (w' :: Γ) la m' st') (g : gsc P st st') (hP : ∀ mm, mkP Γ mm → ¬ P mm) (hat : ∀ mm, mkP Γ mm → st'.at mm = st.at mm) (hm : m ≤ m') : xLp M' e w' Γ la own v a l bs ps ρ A u m' st' j1 j2 k1 k2 := by
  have ha := h.a190
  obtain ⟨h1, h2, h3, h4, h5, h6, ⟨h7, hD⟩, h8, ⟨d1, d2, d3, d4⟩, ⟨x1, x2⟩, h9⟩ := h
  have g' : ∀ x k, 190 ≤ x → gi M' x k = gi M x k ∧ gr M' x k = gr M x k := fun a k ha => by
    have := f.2 a k (by unfold cdP; omega)
    exact ⟨this.1, this.2.2⟩
  have hA : ∀ (i a : Nat), A[i]? = some a → 190 ≤ a := fun i a ha => by
    obtain ⟨j1, j2, k1, k2, ⟨s1, -⟩, -⟩ := h2.2.2.2 i a ha
    exact (h2.1 a (by omega)).1
  have nP : ∀ x k, 190 ≤ x → ¬ cdP x k := fun x k hx => by unfold cdP; omega
  refine ⟨k, xOw_cd h2 f h5, ?_, h4, by rw [f.1.1]; exact h5, xCh_up (P := P) g' (Nat.le_of_eq f.1.1.symm) hA (fun _ _ _ q1 q2 => jmK_gsc q2 g q1.1 q1.2) hm Γ u l bs ps (fun mm hmm => ⟨hP mm hmm, (h7 mm hmm).1⟩) h6, ⟨fun mm hmm => ⟨Nat.lt_of_lt_of_le (h7 mm hmm).1 g.2, (hat mm hmm).trans (h7 mm hmm).2⟩, hD⟩, h8, ⟨(g' a 5 ha.1).2.trans d1, (g' a 6 ha.1).2.trans d2, (g' a 1 ha.1).2.trans d3, (g' a 2 ha.1).2.trans d4⟩, ⟨xJp_fg x1 f.fg (nP _ _ x1.2.1.1) (nP _ _ x1.2.1.1) (fun i => nP _ _ x1.2.2.1.1), xJp_fg x2 f.fg (nP _ _ x2.2.1.1) (nP _ _ x2.2.1.1) (fun i => nP _ _ x2.2.2.1.1)⟩, ?_⟩
  · rw [(f.2 29 11 (by unfold cdP; omega)).1]; exact h3
  · rw [(g' a 4 ha.1).2]; exact xAr_fr (fun x k hx => g' x k hx) Γ _ _ h9
/-- goals and marks that wait: which wait may change -/
theorem xLp_31 (h : xLp M e w Γ la own v a l bs ps ρ A u m st j1 j2 k1 k2) (f : fr (fun x _ => x = 31) M M') (hc : st'.c = st.c) (hm : st.m ≤ st'.m) (hs : st'.si = st.si) (hwf : wfS st') (hw : w'.1 = w.1 ∧ w'.2.1 = w.2.1 ∧ w'.2.2.1 = w.2.2.1) (hat : ∀ mm, mkP Γ mm → st'.at mm = st.at mm)
    (h31 : m ≤ 600 → ∀ k q, st.c[k]? = some q → (q.2.1 = none → gi M' 31 k = gi M 31 k) ∧ ∀ mm p, q.2.1 = some mm → st'.at mm = some p → ¬ mkP (w' :: Γ) mm → gi M' 31 k = nI p) : xLp M' e w' Γ la own v a l bs ps ρ A u m st' j1 j2 k1 k2 := by
  have fc : fr cdP M M' := f.mono fun x k z => .inl (by omega)
  obtain ⟨c1, c2, c3, c4, c5⟩ := h.1
  have k := xCd_31 c2 (fun x k _ hx => (f.2 x k hx).1) hc hs hwf h31
  obtain ⟨fc', u', y1, y2, y3⟩ := c5
  have g' : ∀ x k, 190 ≤ x → gi M' x k = gi M x k ∧ gr M' x k = gr M x k := fun a k ha => by
    have := f.2 a k (by omega)
    exact ⟨this.1, this.2.2⟩
  have kk : xCo M' e (w' :: Γ) la m st' := by
    refine ⟨fc.cw cdP_cw c1, k, ?_, kOK_w c4 hw, fc', u', y1, ?_, xFn_fr g' u' fc' _ _ y3⟩
    · rw [(f.2 29 9 (by decide)).2.2]; exact xAr_fr g' _ _ _ (xAr_w c3 hw)
    · rw [(f.2 29 12 (by decide)).2.2]; exact y2
  exact xLp_put (P := fun _ => False) h fc kk (gsc.rf hc hm) (fun _ _ z => z) hat (Nat.le_refl _)
end
section
variable {E : zE} {d : Nat} {Q : zO → zM → Prop} {M : zM} {e : gN} {w : gW} {Γ : gK} {la : List Nat} {own : Option zP} {v a : Nat} {l bs : List Nat} {ps : List (Option zP)} {ρ : Nat → Nat} {A : List Nat} {u m : Nat} {st : gS} {L : List Bool} {j1 j2 : Nat} {k1 k2 : List Nat}
theorem lp_ex {S : Nat → Prop} {M0 : zM} {D : Nat} {p : zP} {g : gEx} (hp : xE S M0 D p g) (hg : gok g) (ha : agS S M0 M) (h : xLp M e w Γ la own v a l bs ps ρ A u m st j1 j2 k1 k2) (hb : m + ((g e (w :: Γ) L st).c.length - st.c.length) < 100000000) (hd : D ≤ d)
    (hQ : ∀ M', xLp M' e w Γ la own v a l bs ps ρ A u (m + ((g e (w :: Γ) L st).c.length - st.c.length)) (g e (w :: Γ) L st) j1 j2 k1 k2 → fr cdP M M' → Q (.inl none) M') : ∃ b t, some p = some (b, t, 0) ∧ ∃ Y, vt_code t = some Y ∧ Z E Y d M (zargs 0 [vr (some (b, t, 0)), C29]) 0 [] Q := by
  have gs := hg e (w :: Γ) L st
  have gl := gs.len
  refine y_sub (δ := (m : Int) - st.c.length) (L := L) hp ha ⟨m, by omega, h.1⟩ (by omega) hd (fun M' c f => ?_)
  obtain ⟨m', hm', k⟩ := c
  have e' : m' = m + ((g e (w :: Γ) L st).c.length - st.c.length) := by omega
  rw [e'] at k
  exact hQ M' (xLp_put h f k gs.gsc (fun _ _ z => z) (fun mm z => gs.2.2.1 mm (h.2.2.2.2.2.2.1.1 mm z).1) (by omega)) f
theorem lp_pu {op av bv a' b' : Int32} {mk : Option Nat} (h : xLp M e w Γ la own v a l bs ps ρ A u m st j1 j2 k1 k2) (hb : m + 1 < 100000000) (hv : m < 600 → op.toInt8.toInt32 = op ∧ av.toInt16.toInt32 = av ∧ (mk = none → av = a') ∧ (∀ mm p, mk = some mm → st.at mm = some p → ¬ mkP (w :: Γ) mm → av = nI p) ∧ bv = b') (hk : ∀ mm, mk = some mm → mm < st.m) (hP : ∀ mm, mk = some mm → ¬ mkP Γ mm)
    (hQ : ∀ M', xLp M' e w Γ la own v a l bs ps ρ A u (m + 1) (em e (w :: Γ) L op a' b' mk st) j1 j2 k1 k2 → fr cdP M M' → Q (.inl (some (vi (nI m)))) M') : Z E YX3_put (d + 1) M [(0, C29), (1, vi op), (2, vi av), (3, vi bv)] 0 [] Q :=
  y_put0 (L := L) h.1 hb hv hk (fun M' k f => hQ M' (xLp_put (P := fun mm => mk = some mm) h f.pt k ⟨⟨[_], rfl, fun q hq o ho => by rw [List.mem_singleton.mp hq] at ho; exact .inl ho⟩, Nat.le_refl _⟩ (fun mm h1 h2 => hP mm h2 h1) (fun _ _ => rfl) (Nat.le_succ _)) f.pt)
/-- the goal of one jump, or of none -/
def oN : Option Nat → Int32
  | none => -1
  | some k => nI k
theorem y_goal31 {o : Option Nat} (hw : cw M) (h7 : gi M 29 7 = nI m) (ho : ∀ k, o = some k → k < 100000000) (hQ : ∀ M', fr (fun x _ => x = 31) M M' → (∀ i, gi M' 31 i = if o = some i ∧ i < 600 then (nI m).toInt16.toInt32 else gi M 31 i) → Q (.inl none) M') : Z E YX3_goal (d + 1) M [(0, C29), (1, vi (oN o))] 0 [] Q := by
  refine jX3_goal M _ hw ?_
  cases o with
  | none =>
    rw [show oN none = -1 from rfl, if_pos rfl]
    exact hQ M fr.rf (fun i => by rw [if_neg (fun z => by cases z.1)])
  | some k =>
    have hk := ho k rfl
    rw [show oN (some k) = nI k from rfl, if_neg (by rw [nn_m1 (by omega)]; exact fun z => z), h7]
    by_cases h600 : 600 ≤ k
    · rw [if_pos (show (600 : Int32) ≤ nI k from nI_le (a := 600) h600 (by omega))]
      exact hQ M fr.rf (fun i => by rw [if_neg (fun z => by have := Option.some.inj z.1; omega)])
    · rw [if_neg (show ¬ (600 : Int32) ≤ nI k from nI_ge (b := 600) (by omega) (by decide)), nI_clamp (by omega), nar_s]
      refine ⟨nI_in (by omega) (by decide), hQ _ (fr.si rfl) (fun i => ?_)⟩
      by_cases z : i = k
      · rw [z, gi_self, if_pos ⟨rfl, by omega⟩]
      · rw [gi_idx z, if_neg (fun y => z (Option.some.inj y.1).symm)]
end
section
variable {M : zM} {e : gN} {w : gW} {Γ : gK} {la : List Nat} {own : Option zP} {v a : Nat} {l bs : List Nat} {ps : List (Option zP)} {ρ : Nat → Nat} {A : List Nat} {u m : Nat} {st st' : gS} {j1 j2 : Nat} {k1 k2 : List Nat}
theorem jmK_nil {o : Nat} : jmK st st.c.length [] o := ⟨fun k q h1 h2 _ => by have := (List.getElem?_eq_some_iff.mp h2).1; omega, fun k hk => by cases hk⟩
/-- the body begins -/
theorem lp_xSt (h : xLp M e w Γ (a :: l) none (u + 1) a l bs ps ρ A u m st j1 j2 [] []) (hw : w.1 = 0 ∨ w.1 = 1) (hmk : ∀ mm, wmk w mm → mm < st.m ∧ st.at mm = none) (hdj : (∀ mm, wmk w mm → ¬ mkP Γ mm) ∧ (w.1 = 0 ∨ w.1 = 4 → w.2.2.2.1 ≠ w.2.2.2.2.1)) : xSt M e (w :: Γ) (a :: l) (st.c.length :: bs) (none :: ps) ρ A (u + 1) m st := by
  obtain ⟨h1, h2, h3, h4, h5, h6, ⟨h7, hD⟩, h8, ⟨d1, d2, d3, d4⟩, ⟨x1, x2⟩, h9⟩ := h
  have J : ∀ out on, xJm M a m st.c.length st out on := fun out on => ⟨j1, j2, [], [], d3, d4, x1, x2, ⟨Nat.zero_le _, Nat.zero_le _⟩, fun _ => ⟨jmK_nil, fun _ _ => jmK_nil⟩⟩
  refine ⟨h1, h2, h3, h4, h5, ⟨u, a, l, st.c.length, bs, none, ps, rfl, rfl, Nat.lt_succ_self u, h8.1, ?_, h6⟩, fun mm hmm => (mkP_cons hmm).elim (hmk mm) (h7 mm), hdj, hD⟩
  rw [if_neg (by omega)]
  exact ⟨rfl, d1, fun _ => d2, fun z => by omega, fun _ => J _ _, fun _ => J _ _⟩
/-- the body ends -/
theorem St_lp {β : Nat} {p : Option zP} (h : xSt M e (w :: Γ) (a :: l) (β :: bs) (p :: ps) ρ A (u + 1) m st) (hw : w.1 = 0 ∨ w.1 = 1) (ha : ρ a = 5 * u + 1) : ∃ j1 j2 k1 k2, xLp M e w Γ (a :: l) none (u + 1) a l bs ps ρ A u m st j1 j2 k1 k2 ∧ (m ≤ 600 → jmK st β k1 w.2.2.2.1 ∧ (w.1 = 0 → jmK st β k2 w.2.2.2.2.1)) := by
  obtain ⟨h1, h2, h3, h4, h5, ⟨i, b, l', β', bs', p', ps', e1, e2, hi, hb, c, h6⟩, h7, hD⟩ := h
  rw [if_neg (by omega)] at c
  obtain ⟨f1, f2, f3, f4, f5, f6⟩ := c
  have e3 : a = b := (List.cons.inj f1).1
  have e4 : l = l' := (List.cons.inj f1).2
  have e5 : β = β' := (List.cons.inj e1).1
  have e6 : bs = bs' := (List.cons.inj e1).2
  have e7 : ps = ps' := (List.cons.inj e2).2
  subst e3 e4 e5 e6 e7
  have hiu : i = u := by
    obtain ⟨_, _, _, _, ⟨r1, -⟩, -⟩ := h2.2.2.2 i a hb
    omega
  subst hiu
  have hAr : xAr M (gr M a 4) Γ l := by
    obtain ⟨-, -, h3⟩ := h1.2.2.1
    rw [if_neg (by omega)] at h3
    exact h3.2.2.2
  have h7' : ∀ mm, mkP Γ mm → mm < st.m ∧ st.at mm = none := fun mm hmm => h7 mm (mkP_tl hmm)
  rcases hw with z | z
  · obtain ⟨j1, j2, k1, k2, g1, g2, x1, x2, hl, hk⟩ := f5 z
    exact ⟨j1, j2, k1, k2, ⟨h1, h2, h3, h4, h5, h6, ⟨h7', hD.2⟩, ⟨hb, Nat.lt_succ_self _⟩, ⟨f2, f3 (by omega), g1, g2⟩, ⟨x1, x2⟩, hAr⟩, fun h6 => ⟨(hk h6).1, fun _ => (hk h6).2 _ rfl⟩⟩
  · obtain ⟨j1, j2, k1, k2, g1, g2, x1, x2, hl, hk⟩ := f6 z
    exact ⟨j1, j2, k1, k2, ⟨h1, h2, h3, h4, h5, h6, ⟨h7', hD.2⟩, ⟨hb, Nat.lt_succ_self _⟩, ⟨f2, f3 (by omega), g1, g2⟩, ⟨x1, x2⟩, hAr⟩, fun h6 => ⟨(hk h6).1, fun z' => by omega⟩⟩
/-- leaving -/
theorem lv_xSt (h : xLp M e w Γ la own v a l bs ps ρ A u m st j1 j2 k1 k2) (hc : xCd M (mkP Γ) m st') (hcc : st'.c = st.c) (hmm : st.m ≤ st'.m) (hat : ∀ mm, mkP Γ mm → st'.at mm = st.at mm) : xSt (si (sr M 29 9 (gr M a 4)) 29 11 (gi M a 0)) e Γ l bs ps ρ A u m st' ∧ fr loP M (si (sr M 29 9 (gr M a 4)) 29 11 (gi M a 0)) := by
  have ha := h.a190
  obtain ⟨h1, h2, h3, h4, h5, h6, ⟨h7, hD⟩, h8, ⟨d1, d2, d3, d4⟩, ⟨x1, x2⟩, h9⟩ := h
  have f : fr loP M (si (sr M 29 9 (gr M a 4)) 29 11 (gi M a 0)) := (fr.sr (.inr ⟨rfl, .inl rfl⟩)).tr (fr.si (.inr ⟨rfl, .inr rfl⟩))
  have G : ∀ x k, ¬ (x = 29 ∧ k = 11) → gi (si (sr M 29 9 (gr M a 4)) 29 11 (gi M a 0)) x k = gi M x k := fun x k hx => by simp only [gi_si, gi_sr]; grind
  have G0 : gi (si (sr M 29 9 (gr M a 4)) 29 11 (gi M a 0)) 29 11 = nI u := by rw [gi_self]; exact ha.2.2.2
  have R0 : gr (si (sr M 29 9 (gr M a 4)) 29 11 (gi M a 0)) 29 9 = gr M a 4 := by simp only [gr_si, gr_sr]; grind
  refine ⟨?_, f⟩
  generalize si (sr M 29 9 (gr M a 4)) 29 11 (gi M a 0) = M' at *
  have g' : ∀ x k, 190 ≤ x → gi M' x k = gi M x k ∧ gr M' x k = gr M x k := fun a k ha => by
    have := f.2 a k (by unfold loP cdP; omega)
    exact ⟨this.1, this.2.2⟩
  have hA : ∀ (i a : Nat), A[i]? = some a → 190 ≤ a := fun i a ha => by
    obtain ⟨j1, j2, k1, k2, ⟨s1, -⟩, -⟩ := h2.2.2.2 i a ha
    exact (h2.1 a (by omega)).1
  obtain ⟨c1, c2, c3, c4, fc, u', y1, y2, y3⟩ := h1
  have cwP : ∀ q ∈ cwl, ¬ loP q.1 q.2.1 := by
    have : ∀ q ∈ cwl, ¬ ((30 ≤ q.1 ∧ q.1 ≤ 36 ∨ q.1 = 29 ∧ (q.2.1 = 7 ∨ q.2.1 = 8)) ∨ q.1 = 29 ∧ (q.2.1 = 9 ∨ q.2.1 = 11)) := by decide +kernel
    exact this
  refine ⟨⟨f.cw cwP c1, xCd_ag hc (fun x k hx => G x k (fun z => by unfold cdP at hx; omega)) (fun _ z => z), ?_, ⟨fun w' hw' => c4.1 w' (List.mem_cons_of_mem _ hw'), ?_⟩, fc, u', y1, ?_, xFn_fr g' u' fc _ _ y3⟩, xOw_lo h2 f h5, G0, ⟨by omega, h4.2⟩, by rw [f.1.1]; exact h5, xCh_up (P := fun _ => False) g' (Nat.le_of_eq f.1.1.symm) hA (fun _ _ _ q1 q2 => jmK_gsc q2 (gsc.rf (P := fun _ => False) hcc hmm) q1.1 q1.2) (Nat.le_refl _) Γ u l bs ps (fun mm z => ⟨fun y => y, (h7 mm z).1⟩) h6, fun mm z => ⟨Nat.lt_of_lt_of_le (h7 mm z).1 hmm, (hat mm z).trans (h7 mm z).2⟩, hD⟩
  · rw [R0]; exact xAr_fr g' Γ _ _ h9
  · have := c4.2
    have : (skk (w :: Γ)).length = w.2.1.length + (skk Γ).length := by show (w.2.1 ++ skk Γ).length = _; rw [List.length_append]
    omega
  · rw [(f.2 29 12 (by unfold loP cdP; omega)).2.2]; exact y2
end
