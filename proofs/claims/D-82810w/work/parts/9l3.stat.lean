/-! THE COMPONENT's CODER: its state between statements -/
/-- the jumps from β on that go to the mark o are in ks, and ks holds no others -/
def jmK (st : gS) (β : Nat) (ks : List Nat) (o : Nat) : Prop := (∀ k q, β ≤ k → st.c[k]? = some q → q.2.1 = some o → k ∈ ks) ∧ ∀ k ∈ ks, ∃ q, st.c[k]? = some q ∧ q.2.1 = some o
theorem jmK_gst {P : Nat → Prop} {st st' : gS} {β o : Nat} {ks : List Nat} (h : jmK st β ks o) (g : gst P st st') (hp : ¬ P o) (ho : o < st.m) : jmK st' β ks o := by
  refine ⟨fun k q hk hq hm => ?_, fun k hk => ?_⟩
  · obtain ⟨⟨n, a1, a2⟩, -⟩ := id g
    rw [a1] at hq
    by_cases hkl : k < st.c.length
    · rw [List.getElem?_append_left hkl] at hq; exact h.1 k q hk hq hm
    · rw [List.getElem?_append_right (by omega)] at hq
      exfalso
      rcases a2 q (List.mem_of_getElem? hq) o hm with y | y
      · exact hp y
      · omega
  · obtain ⟨q, h1, h2⟩ := h.2 k hk
    exact ⟨q, g.get h1, h2⟩
/-- an around's lists of jumps -/
def xJm (M : zM) (a m β : Nat) (st : gS) (out : Nat) (on : Option Nat) : Prop :=
  ∃ j1 j2 k1 k2, gr M a 1 = some (j1, 18, 0) ∧ gr M a 2 = some (j2, 18, 0) ∧ xJp M j1 k1 ∧ xJp M j2 k2 ∧ (k1.length ≤ m ∧ k2.length ≤ m) ∧ (m ≤ 600 → jmK st β k1 out ∧ ∀ o, on = some o → jmK st β k2 o)
/-- what is around, one within the other: their places among the arounds go down; ps: what a finally codes -/
def xCh (M : zM) (A : List Nat) (m : Nat) (st : gS) : Nat → gK → List Nat → List Nat → List (Option zP) → Prop
  | _, [], l, bs, ps => l = [] ∧ bs = [] ∧ ps = []
  | v, w :: Γ, l, bs, ps => ∃ i b l' β bs' p ps', bs = β :: bs' ∧ ps = p :: ps' ∧ i < v ∧ A[i]? = some b ∧
      (if w.1 = 4 then ∃ b2, l = b2 :: b :: l' ∧ i + 1 < v ∧ A[i + 1]? = some b2 ∧ gr M b 5 = some (b2, 17, 0) ∧ gr M b 6 = none ∧ gr M b2 5 = none ∧ gr M b2 6 = none ∧ xJm M b m β st w.2.2.2.1 (some w.2.2.2.2.1)
       else l = b :: l' ∧ gr M b 5 = none ∧ (w.1 ≠ 2 → gr M b 6 = none) ∧ (w.1 = 2 → gr M b 6 = p ∧ (p = none ↔ w.2.2.2.2.2 = none)) ∧ (w.1 = 0 → xJm M b m β st w.2.2.2.1 (some w.2.2.2.2.1)) ∧ (w.1 = 1 → xJm M b m β st w.2.2.2.1 none)) ∧
      xCh M A m st i Γ l' bs' ps'
/-- marks of one around are not those of another -/
def mkD : gK → Prop
  | [] => True
  | w :: Γ => ((∀ mm, wmk w mm → ¬ mkP Γ mm) ∧ (w.1 = 0 ∨ w.1 = 4 → w.2.2.2.1 ≠ w.2.2.2.2.1)) ∧ mkD Γ
def xSt (M : zM) (e : gN) (Γ : gK) (l bs : List Nat) (ps : List (Option zP)) (ρ : Nat → Nat) (A : List Nat) (u m : Nat) (st : gS) : Prop :=
  xCo M e Γ l m st ∧ xOw M ρ A ∧ gi M 29 11 = nI u ∧ (u ≤ A.length ∧ A.length < 80000) ∧ 190 ≤ zsz M ∧ xCh M A m st u Γ l bs ps ∧ (∀ mm, mkP Γ mm → mm < st.m ∧ st.at mm = none) ∧ mkD Γ
theorem xJm_up {M M' : zM} {a m m' β : Nat} {st st' : gS} {out : Nat} {on : Option Nat} (h : xJm M a m β st out on) (f : ∀ x k, 190 ≤ x → gi M' x k = gi M x k ∧ gr M' x k = gr M x k) (hz : zsz M ≤ zsz M') (ha : 190 ≤ a) {P : Nat → Prop} (hj : ∀ β ks o, ¬ P o ∧ o < st.m → jmK st β ks o → jmK st' β ks o) (hm : m ≤ m') (h1 : ¬ P out ∧ out < st.m) (h2 : ∀ o, on = some o → ¬ P o ∧ o < st.m) : xJm M' a m' β st' out on := by
  obtain ⟨j1, j2, k1, k2, e1, e2, x1, x2, hl, hk⟩ := h
  have J : ∀ j ks, xJp M j ks → xJp M' j ks := fun j ks x => by
    obtain ⟨a0, a1, a2, a3, a4, a5, a6⟩ := x
    have e0 := (f j 0 a1.1).2
    have eR : jR M' j = jR M j := by unfold jR; rw [e0]
    have eC : jC M' j = jC M j := by unfold jC; rw [e0]
    unfold xJp
    rw [eR, eC]
    exact ⟨e0.trans a0, by omega, by omega, (f j 1 a1.1).1.trans a3, a4, fun i hi => (f _ i a2.1).1.trans (a5 i hi), a6⟩
  exact ⟨j1, j2, k1, k2, (f a 1 ha).2.trans e1, (f a 2 ha).2.trans e2, J j1 k1 x1, J j2 k2 x2, by omega, fun h6 => ⟨hj _ _ _ h1 (hk (by omega)).1, fun o ho => hj _ _ _ (h2 o ho) ((hk (by omega)).2 o ho)⟩⟩
theorem xCh_up {M M' : zM} {A : List Nat} {m m' : Nat} {st st' : gS} (f : ∀ x k, 190 ≤ x → gi M' x k = gi M x k ∧ gr M' x k = gr M x k) (hz : zsz M ≤ zsz M') (hA : ∀ (i a : Nat), A[i]? = some a → 190 ≤ a) {P : Nat → Prop} (hj : ∀ β ks o, ¬ P o ∧ o < st.m → jmK st β ks o → jmK st' β ks o) (hm : m ≤ m') : ∀ (Γ : gK) (v : Nat) (l bs : List Nat) (ps : List (Option zP)), (∀ mm, mkP Γ mm → ¬ P mm ∧ mm < st.m) → xCh M A m st v Γ l bs ps → xCh M' A m' st' v Γ l bs ps
  | [], _, _, _, _, _, h => h
  | w :: Γ, v, l, bs, ps, hp, h => by
    obtain ⟨i, b, l', β, bs', p, ps', e1, e2, hi, hb, h3, h4⟩ := h
    have hb9 := hA i b hb
    have hpΓ : ∀ mm, mkP Γ mm → ¬ P mm ∧ mm < st.m := fun mm hmm => hp mm (mkP_tl hmm)
    have hw : ∀ mm, wmk w mm → ¬ P mm ∧ mm < st.m := fun mm hmm => hp mm ⟨w, List.mem_cons_self, hmm⟩
    refine ⟨i, b, l', β, bs', p, ps', e1, e2, hi, hb, ?_, xCh_up f hz hA hj hm Γ i l' bs' ps' hpΓ h4⟩
    by_cases h4' : w.1 = 4
    · rw [if_pos h4'] at h3 ⊢
      obtain ⟨b2, c1, c2, c3, c4, c5, c6, c7, c8⟩ := h3
      have hb2 := hA _ b2 c3
      exact ⟨b2, c1, c2, c3, (f b 5 hb9).2.trans c4, (f b 6 hb9).2.trans c5, (f b2 5 hb2).2.trans c6, (f b2 6 hb2).2.trans c7, xJm_up c8 f hz hb9 hj hm (hw _ (.inl ⟨.inr h4', .inl rfl⟩)) (fun o ho => by cases ho; exact hw _ (.inl ⟨.inr h4', .inr rfl⟩))⟩
    · rw [if_neg h4'] at h3 ⊢
      obtain ⟨c1, c2, c3, c4, c5, c6⟩ := h3
      exact ⟨c1, (f b 5 hb9).2.trans c2, fun z => (f b 6 hb9).2.trans (c3 z), fun z => ⟨(f b 6 hb9).2.trans (c4 z).1, (c4 z).2⟩, fun z => xJm_up (c5 z) f hz hb9 hj hm (hw _ (.inl ⟨.inl z, .inl rfl⟩)) (fun o ho => by cases ho; exact hw _ (.inl ⟨.inl z, .inr rfl⟩)), fun z => xJm_up (c6 z) f hz hb9 hj hm (hw _ (.inr ⟨z, rfl⟩)) (fun o ho => by cases ho)⟩
theorem xCh_mem {M : zM} {A : List Nat} {m : Nat} {st : gS} : ∀ (Γ : gK) (v : Nat) (l bs : List Nat) (ps : List (Option zP)), xCh M A m st v Γ l bs ps → ∀ b ∈ l, ∃ i, i < v ∧ A[i]? = some b
  | [], _, _, _, _, h, b, hb => by rw [h.1] at hb; cases hb
  | w :: Γ, v, l, bs, ps, h, x, hx => by
    obtain ⟨i, b, l', β, bs', p, ps', e1, e2, hi, hb, h3, h4⟩ := h
    have ih := xCh_mem Γ i l' bs' ps' h4
    by_cases h4' : w.1 = 4
    · rw [if_pos h4'] at h3
      obtain ⟨b2, c1, c2, c3, -⟩ := h3
      rw [c1] at hx
      rcases List.mem_cons.mp hx with z | z
      · exact ⟨i + 1, c2, by rw [z]; exact c3⟩
      · rcases List.mem_cons.mp z with z | z
        · exact ⟨i, hi, by rw [z]; exact hb⟩
        · obtain ⟨i', q1, q2⟩ := ih x z; exact ⟨i', by omega, q2⟩
    · rw [if_neg h4'] at h3
      rw [h3.1] at hx
      rcases List.mem_cons.mp hx with z | z
      · exact ⟨i, hi, by rw [z]; exact hb⟩
      · obtain ⟨i', q1, q2⟩ := ih x z; exact ⟨i', by omega, q2⟩
theorem xOw_cd {M M' : zM} {ρ : Nat → Nat} {A : List Nat} (h : xOw M ρ A) (f : fr cdP M M') (hz : 190 ≤ zsz M) : xOw M' ρ A := by
  obtain ⟨o1, o2, ⟨o3, o3'⟩, o4⟩ := h
  have g : ∀ x k, 190 ≤ x → gi M' x k = gi M x k ∧ gr M' x k = gr M x k := fun a k ha => by
    have := f.2 a k (by unfold cdP; omega)
    exact ⟨this.1, this.2.2⟩
  have l37 : lA M' 37 = lA M 37 := (lA_fg (by omega) f.fg (by unfold cdP; omega)).1
  refine ⟨fun c hc => by rw [f.1.1]; exact o1 c hc, xLs_fg o2 f.fg (fun k => by unfold cdP; omega) (fun k => by unfold cdP; omega), by rw [l37]; exact ⟨o3, o3'⟩, fun i a ha => ?_⟩
  obtain ⟨j1, j2, k1, k2, ⟨s1, s2, s3, s4, s5⟩, h0, h1, h2, z1, z2⟩ := o4 i a ha
  have ba := o1 a (by omega)
  have nP : ∀ x k, 190 ≤ x → ¬ cdP x k := fun x k hx => by unfold cdP; omega
  have v1 := (jR_fg z1.2.1.2 f.fg (nP j1 0 z1.2.1.1)).1
  have v2 := (jR_fg z2.2.1.2 f.fg (nP j2 0 z2.2.1.1)).1
  exact ⟨j1, j2, k1, k2, ⟨s1, s2, s3, by rw [v1]; exact s4, by rw [v2]; exact s5⟩, (g a 0 ba.1).1.trans h0, (g a 1 ba.1).2.trans h1, (g a 2 ba.1).2.trans h2, xJp_fg z1 f.fg (nP _ _ z1.2.1.1) (nP _ _ z1.2.1.1) (fun i => nP _ _ z1.2.2.1.1), xJp_fg z2 f.fg (nP _ _ z2.2.1.1) (nP _ _ z2.2.1.1) (fun i => nP _ _ z2.2.2.1.1)⟩
/-- code was put: the state goes on -/
theorem xSt_put {M M' : zM} {e : gN} {Γ : gK} {l bs : List Nat} {ps : List (Option zP)} {ρ : Nat → Nat} {A : List Nat} {u m m' : Nat} {st st' : gS} (h : xSt M e Γ l bs ps ρ A u m st) (f : fr cdP M M') (k : xCo M' e Γ l m' st') (g : gst (fun _ => False) st st') (hm : m ≤ m') : xSt M' e Γ l bs ps ρ A u m' st' := by
  obtain ⟨h1, h2, h3, h4, h5, h6, h7, h8⟩ := h
  have g' : ∀ x k, 190 ≤ x → gi M' x k = gi M x k ∧ gr M' x k = gr M x k := fun a k ha => by
    have := f.2 a k (by unfold cdP; omega)
    exact ⟨this.1, this.2.2⟩
  have hA : ∀ (i a : Nat), A[i]? = some a → 190 ≤ a := fun i a ha => by
    obtain ⟨j1, j2, k1, k2, ⟨s1, -⟩, -⟩ := h2.2.2.2 i a ha
    exact (h2.1 a (by omega)).1
  refine ⟨k, xOw_cd h2 f h5, ?_, h4, by rw [f.1.1]; exact h5, xCh_up (P := fun _ => False) g' (Nat.le_of_eq f.1.1.symm) hA (fun _ _ _ h1 h2 => jmK_gst h2 g h1.1 h1.2) hm Γ u l bs ps (fun mm hmm => ⟨fun z => z, (h7 mm hmm).1⟩) h6, fun mm hmm => ⟨Nat.lt_of_lt_of_le (h7 mm hmm).1 g.2.1, (g.2.2.1 mm (h7 mm hmm).1).trans (h7 mm hmm).2⟩, h8⟩
  rw [(f.2 29 11 (by unfold cdP; omega)).1]; exact h3
/-- only marks changed -/
theorem xSt_mk {M M' : zM} {e : gN} {Γ : gK} {l bs : List Nat} {ps : List (Option zP)} {ρ : Nat → Nat} {A : List Nat} {u m : Nat} {st st' : gS} (h : xSt M e Γ l bs ps ρ A u m st) (f : fr cdP M M') (k : xCo M' e Γ l m st') (hc : st'.c = st.c) (hm : st.m ≤ st'.m) (ha : ∀ mm, mkP Γ mm → st'.at mm = st.at mm) : xSt M' e Γ l bs ps ρ A u m st' := by
  obtain ⟨h1, h2, h3, h4, h5, h6, h7, h8⟩ := h
  have g' : ∀ x k, 190 ≤ x → gi M' x k = gi M x k ∧ gr M' x k = gr M x k := fun a k ha => by
    have := f.2 a k (by unfold cdP; omega)
    exact ⟨this.1, this.2.2⟩
  have hA : ∀ (i a : Nat), A[i]? = some a → 190 ≤ a := fun i a ha => by
    obtain ⟨j1, j2, k1, k2, ⟨s1, -⟩, -⟩ := h2.2.2.2 i a ha
    exact (h2.1 a (by omega)).1
  refine ⟨k, xOw_cd h2 f h5, ?_, h4, by rw [f.1.1]; exact h5, xCh_up (P := fun _ => False) g' (Nat.le_of_eq f.1.1.symm) hA (fun _ _ _ _ h2 => by unfold jmK at h2 ⊢; rw [hc]; exact h2) (Nat.le_refl _) Γ u l bs ps (fun mm hmm => ⟨fun z => z, (h7 mm hmm).1⟩) h6, fun mm hmm => ⟨Nat.lt_of_lt_of_le (h7 mm hmm).1 hm, (ha mm hmm).trans (h7 mm hmm).2⟩, h8⟩
  rw [(f.2 29 11 (by unfold cdP; omega)).1]; exact h3
theorem xSt_mkm {M : zM} {e : gN} {Γ : gK} {l bs : List Nat} {ps : List (Option zP)} {ρ : Nat → Nat} {A : List Nat} {u m : Nat} {st : gS} (h : xSt M e Γ l bs ps ρ A u m st) : xSt M e Γ l bs ps ρ A u m (mkm st) := by
  refine xSt_mk h fr.rf ?_ rfl (Nat.le_succ _) (fun _ _ => rfl)
  obtain ⟨h1, ⟨c1, c2, c3, c4, c5, c6, c7⟩, h3⟩ := h.1
  exact ⟨h1, ⟨c1, c2, c3, c4, c5, c6, ⟨fun q hq mm hmm => Nat.lt_succ_of_lt (c7.1 q hq mm hmm), fun k hk => c7.2 k (Nat.le_of_succ_le hk)⟩⟩, h3⟩
section
variable {E : zE} {d : Nat} {Q : zO → zM → Prop} {M : zM} {e : gN} {Γ : gK} {l bs : List Nat} {ps : List (Option zP)} {ρ : Nat → Nat} {A : List Nat} {u m : Nat} {st : gS} {L : List Bool}
/-- an expression's code, between statements -/
theorem y_exS {S : Nat → Prop} {M0 : zM} {D : Nat} {p : zP} {g : gEx} (hp : xE S M0 D p g) (hg : gok g) (ha : agS S M0 M) (h : xSt M e Γ l bs ps ρ A u m st) (hb : m + ((g e Γ L st).c.length - st.c.length) < 100000000) (hd : D ≤ d)
    (hQ : ∀ M', xSt M' e Γ l bs ps ρ A u (m + ((g e Γ L st).c.length - st.c.length)) (g e Γ L st) → fr cdP M M' → Q (.inl none) M') : ∃ b t, some p = some (b, t, 0) ∧ ∃ Y, vt_code t = some Y ∧ Z E Y d M (zargs 0 [vr (some (b, t, 0)), C29]) 0 [] Q := by
  have gs := hg e Γ L st
  have gl := gs.len
  refine y_sub (δ := (m : Int) - st.c.length) (L := L) hp ha ⟨m, by omega, h.1⟩ (by omega) hd (fun M' c f => ?_)
  obtain ⟨m', hm', k⟩ := c
  have e' : m' = m + ((g e Γ L st).c.length - st.c.length) := by omega
  rw [e'] at k
  exact hQ M' (xSt_put h f k gs (by omega)) f
/-- one instruction, between statements -/
theorem y_puS {op a b : Int32} (h : xSt M e Γ l bs ps ρ A u m st) (hb : m + 1 < 100000000) (ho : op.toInt8.toInt32 = op) (hs : a.toInt16.toInt32 = a) (hQ : ∀ M', xSt M' e Γ l bs ps ρ A u (m + 1) (em e Γ L op a b none st) → fr cdP M M' → Q (.inl (some (vi (nI m)))) M') : Z E YX3_put (d + 1) M [(0, C29), (1, vi op), (2, vi a), (3, vi b)] 0 [] Q :=
  y_putN (L := L) h.1 hb ho hs (fun M' k f => hQ M' (xSt_put h f k (gst_em ..) (by omega)) f)
/-- a jump to a mark that is not yet set, between statements -/
theorem y_puJ {op a : Int32} {mm : Nat} (h : xSt M e Γ l bs ps ρ A u m st) (hb : m + 1 < 100000000) (ho : op.toInt8.toInt32 = op) (hs : a.toInt16.toInt32 = a) (hm : mm < st.m) (hp : ¬ mkP Γ mm) (hat : ∀ p, st.at mm = some p → a = nI p) (hQ : ∀ M', xSt M' e Γ l bs ps ρ A u (m + 1) (em e Γ L op 0 0 (some mm) st) → fr cdP M M' → Q (.inl (some (vi (nI m)))) M') : Z E YX3_put (d + 1) M [(0, C29), (1, vi op), (2, vi a), (3, vi 0)] 0 [] Q := by
  refine y_put (L := L) (a := 0) (mk := some mm) h.1 hb ho hs (fun z => by cases z) (fun m' p z1 z2 => by cases z1; exact hat p z2) (fun m' z => by cases z; exact hm) (fun M' k f => hQ M' ?_ f)
  obtain ⟨h1, h2, h3, h4, h5, h6, h7, h8⟩ := id h
  have g' : ∀ x k, 190 ≤ x → gi M' x k = gi M x k ∧ gr M' x k = gr M x k := fun a k ha => by
    have := f.2 a k (by unfold cdP; omega)
    exact ⟨this.1, this.2.2⟩
  have hA : ∀ (i a : Nat), A[i]? = some a → 190 ≤ a := fun i a ha => by
    obtain ⟨j1, j2, k1, k2, ⟨s1, -⟩, -⟩ := h2.2.2.2 i a ha
    exact (h2.1 a (by omega)).1
  refine ⟨k, xOw_cd h2 f h5, ?_, h4, by rw [f.1.1]; exact h5, xCh_up (P := fun x => x = mm) g' (Nat.le_of_eq f.1.1.symm) hA (fun β ks o h1 h2 => jmK_gst h2 (gst_emm (P := fun x => x = mm) e Γ L op 0 0 st rfl) h1.1 h1.2) (by omega) Γ u l bs ps (fun m' hmm => ⟨fun z => hp (by rw [← z]; exact hmm), (h7 m' hmm).1⟩) h6, h7, h8⟩
  rw [(f.2 29 11 (by unfold cdP; omega)).1]; exact h3
/-- its goal -/
theorem y_goS {k k0 mm : Nat} (h : xSt M e Γ l bs ps ρ A u m st) (hk : m ≤ 600 → k = k0) (hkb : k < 100000000) (hmm : mm < st.m) (hp : ¬ mkP Γ mm) (hu : only st mm k0) (hQ : ∀ M', xSt M' e Γ l bs ps ρ A u m (hre mm st) → fr cdP M M' → Q (.inl none) M') : Z E YX3_goal (d + 1) M [(0, C29), (1, vi (nI k))] 0 [] Q :=
  y_goal h.1 (fun z q hq => hu.1 q (by rw [← hk z]; exact hq)) (fun z j q hq hm => (hu.2 j q hq hm).trans (hk z).symm) hkb hmm (fun M' c f => hQ M' (xSt_mk h f c rfl (Nat.le_refl _) (fun m' z => (show (if m' = mm then _ else st.at m') = st.at m' by rw [if_neg (fun y => hp (by rw [← y]; exact z))]))) f)
end
