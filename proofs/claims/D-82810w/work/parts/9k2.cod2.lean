/-! THE COMPONENT's CODER: put, goal, names -/
theorem opn_fit : ∀ Γ : gK, (∀ w ∈ Γ, wOK w) → (opn Γ).toInt16.toInt32 = opn Γ
  | [], _ => rfl
  | w :: Γ, h => by
    unfold opn
    split
    · exact nn_ns2 (h w List.mem_cons_self).2.2.2.2
    · exact opn_fit Γ fun w' hw' => h w' (List.mem_cons_of_mem _ hw')
theorem nar_s (x : Int32) : vp_nar .short x.toInt16.toInt32 = x.toInt16.toInt32 := by
  show (x.toInt16.toInt32).toInt16.toInt32 = _
  rw [Int16.toInt16_toInt32]
theorem get_app {α : Type} {l : List α} {x y : α} {k : Nat} (h : (l ++ [x])[k]? = some y) : (k < l.length ∧ l[k]? = some y) ∨ (k = l.length ∧ y = x) := by
  by_cases hk : k < l.length
  · rw [List.getElem?_append_left hk] at h; exact .inl ⟨hk, h⟩
  · rw [List.getElem?_append_right (by omega)] at h
    have : k - l.length = 0 := by
      have := (List.getElem?_eq_some_iff.mp h).1
      simp at this
      omega
    rw [this] at h
    cases h
    exact .inr ⟨by omega, rfl⟩
theorem em_len (e : gN) (Γ : gK) (L : List Bool) (op a b : Int32) (mk : Option Nat) (st : gS) : (em e Γ L op a b mk st).c.length = st.c.length + 1 := by
  show (st.1 ++ [_]).length = _
  rw [List.length_append]; rfl
section
variable {E : zE} {d : Nat} {Q : zO → zM → Prop} {M : zM} {e : gN} {Γ : gK} {l : List Nat} {m : Nat} {st : gS}
def ptP (a k : Nat) : Prop := 30 ≤ a ∧ a ≤ 35 ∨ a = 29 ∧ k = 7
theorem fr.pt {M M' : zM} (h : fr ptP M M') : fr cdP M M' := h.mono fun a k q => by unfold ptP at q; unfold cdP; omega
/-- put: one instruction more; av: what stands in a's place -/
theorem y_put0 {op av bv a b : Int32} {L : List Bool} {mk : Option Nat} (h : xCo M e Γ l m st) (hm : m + 1 < 100000000) (hv : m < 600 → op.toInt8.toInt32 = op ∧ av.toInt16.toInt32 = av ∧ (mk = none → av = a) ∧ (∀ mm p, mk = some mm → st.at mm = some p → ¬ mkP Γ mm → av = nI p) ∧ bv = b) (hk : ∀ mm, mk = some mm → mm < st.m)
    (hQ : ∀ M', xCo M' e Γ l (m + 1) (em e Γ L op a b mk st) → fr ptP M M' → Q (.inl (some (vi (nI m)))) M') : Z E YX3_put (d + 1) M [(0, vr (some (29, 3, 0))), (1, vi op), (2, vi av), (3, vi bv)] 0 [] Q := by
  obtain ⟨h1, h2, h3, h4, fc, u, h5, h6, h7⟩ := id h
  obtain ⟨c1, c2, c3, c4, c5, c6, c7⟩ := id h2
  have wf : wfS (em e Γ L op a b mk st) := ⟨fun q hq mm hmm => by
    rcases List.mem_append.mp (show q ∈ st.c ++ [_] from hq) with z | z
    · exact c7.1 q z mm hmm
    · rw [List.mem_singleton.mp z] at hmm; exact hk mm hmm, c7.2⟩
  refine iX3_put_0 M op av bv h1 ?_
  rw [c1, nI_l1]
  by_cases h600 : 600 ≤ m
  · rw [if_pos (show (600 : Int32) ≤ nI m from nI_le (a := 600) h600 (by omega))]
    have f1 : fr ptP M (si M 29 7 (nI (m + 1))) := fr.si (.inr ⟨rfl, rfl⟩)
    refine hQ _ (xCo_fr h f1.pt ⟨gi_self .., hm, fun z => by omega, fun _ => ?_, fun z => by omega, fun _ => ?_, wf⟩) f1
    · rw [em_len]
      by_cases e6 : m = 600
      · have := c3 (by omega); omega
      · have := c4 (by omega); omega
    · rw [gi_idx (by decide)]
      by_cases e6 : m = 600
      · obtain ⟨g1, g2, -⟩ := c5 (by omega)
        exact ⟨st.si, by omega, g1⟩
      · obtain ⟨j, j1, j2⟩ := c6 (by omega)
        exact ⟨j, by omega, j2⟩
  obtain ⟨ho, hs, ha, hb, rfl⟩ := hv (by omega)
  rw [if_neg (show ¬ (600 : Int32) ≤ nI m from nI_ge (b := 600) (by omega) (by decide)), nI_clamp (by omega), vp_nar_b, nar_s, ho, hs]
  refine ⟨nI_in (by omega) (by decide), ?_⟩
  have hlen := c3 (by omega)
  obtain ⟨d1, d0, d2, d3⟩ := c5 (by omega)
  have F1 : fr ptP M (si (si (si M 30 m op) 31 m av) 34 m bv) := ((fr.si (.inl ⟨by decide, by decide⟩)).tr (fr.si (.inl ⟨by decide, by decide⟩))).tr (fr.si (.inl ⟨by decide, by decide⟩))
  have G1 : ∀ x k, gi (si (si (si M 30 m op) 31 m av) 34 m bv) x k = if x = 34 ∧ k = m then bv else if x = 31 ∧ k = m then av else if x = 30 ∧ k = m then op else gi M x k := fun x k => by simp only [gi_si]; grind
  generalize si (si (si M 30 m op) 31 m av) 34 m bv = M1 at *
  have R1 : ∀ {M1 : zM}, fr cdP M M1 → cw M1 ∧ gr M1 29 9 = gr M 29 9 ∧ xAr M1 (gr M 29 9) Γ l ∧ gr M1 29 12 = gr M 29 12 ∧ (∀ x k, 190 ≤ x → gi M1 x k = gi M x k) := fun {M1} f => by
    have g : ∀ a k, 190 ≤ a → gi M1 a k = gi M a k ∧ gr M1 a k = gr M a k := fun a k ha => by
      have := f.2 a k (by unfold cdP; omega)
      exact ⟨this.1, this.2.2⟩
    exact ⟨f.cw cdP_cw h1, (f.2 29 9 (by unfold cdP; omega)).2.2, xAr_fr g Γ _ _ h3, (f.2 29 12 (by unfold cdP; omega)).2.2, fun x k hx => (g x k hx).1⟩
  obtain ⟨w1, w2, w3, -, -⟩ := R1 F1.pt
  refine sX3_openTry_0 M1 w1 ?_
  rw [w2]
  refine y_openTry w1 Γ _ l w3 (fun w hw => (h4.1 w hw).1) ?_
  show Z E YX3_put (d + 1) M1 [(0, vr (some (29, 3, 0)))] 54 [vi (opn Γ), vi (nI m), vr (some (32, 102, 600))] Q
  refine sX3_put_54 M1 _ _ w1 ⟨nI_in (by omega) (by decide), ?_⟩
  rw [nI_clamp (by omega), nar_s, opn_fit Γ h4.1]
  have F2 : fr ptP M (si M1 32 m (opn Γ)) := F1.tr (fr.si (.inl ⟨by decide, by decide⟩))
  have G2 : ∀ x k, gi (si M1 32 m (opn Γ)) x k = if x = 32 ∧ k = m then opn Γ else gi M1 x k := fun x k => by simp only [gi_si]; grind
  have G27 : gi M1 29 7 = nI m := by rw [G1, if_neg (by omega), if_neg (by omega), if_neg (by omega)]; exact c1
  generalize si M1 32 m (opn Γ) = M2 at *
  obtain ⟨v1, v2, v3, -, -⟩ := R1 F2.pt
  rw [G27]
  refine sX3_values_0 M2 v1 ?_
  rw [v2]
  refine y_values (n := 0) v1 Γ _ l v3 h4.1 (by have := h4.2; omega) ?_
  rw [Nat.zero_add]
  show Z E YX3_put (d + 1) M2 [(0, vr (some (29, 3, 0)))] 68 [vi (nI (skk Γ).length), vi (nI m), vr (some (33, 102, 600))] Q
  have G37 : gi M2 29 7 = nI m := by rw [G2, if_neg (by omega)]; exact G27
  obtain ⟨-, -, -, z4, z5⟩ := R1 F2.pt
  obtain ⟨u, rfl⟩ : ∃ u', u = u' + 1 := by
    cases u with
    | zero => exact h7.elim
    | succ u => exact ⟨u, rfl⟩
  obtain ⟨y1, y2, -⟩ := id h7
  refine iX3_put_68 M2 _ _ v1 ⟨nI_in (by omega) (by decide), fc, z4.trans h6, by rw [G37]; exact nI_in (by omega) (by decide), ?_⟩
  rw [G37, nI_clamp (by omega), nar_s, show (nI (skk Γ).length).toInt16.toInt32 = nI (skk Γ).length from nn_ns2 h4.2, vp_nar_b, nI_l1, gi_oth (by omega), z5 fc 0 y1, y2]
  have F3 : fr ptP M (si (si (si M2 33 m (nI (skk Γ).length)) 35 m (byt (nI e.1))) 29 7 (nI (m + 1))) := F2.tr (((fr.si (.inl ⟨by decide, by decide⟩)).tr (fr.si (.inl ⟨by decide, by decide⟩))).tr (fr.si (.inr ⟨rfl, rfl⟩)))
  have G3 : ∀ x k, gi (si (si (si M2 33 m (nI (skk Γ).length)) 35 m (byt (nI e.1))) 29 7 (nI (m + 1))) x k = if x = 29 ∧ k = 7 then nI (m + 1) else if x = 35 ∧ k = m then byt (nI e.1) else if x = 33 ∧ k = m then nI (skk Γ).length else gi M2 x k := fun x k => by simp only [gi_si]; grind
  refine hQ _ (xCo_fr h F3.pt ⟨by rw [G3, if_pos ⟨rfl, rfl⟩], hm, fun _ => by rw [em_len]; omega, fun z => by omega, fun _ => ⟨?_, by show st.si ≤ _; omega, fun k q hq => ?_, fun j h1 h2 => ?_⟩, fun z => by omega, wf⟩) F3
  · rw [G3, if_neg (by omega), if_neg (by omega), if_neg (by omega), G2, if_neg (by omega), G1, if_neg (by omega), if_neg (by omega), if_neg (by omega)]; exact d1
  · have hq' : (st.c ++ [((op, a, bv), mk, e.1, opn Γ, (skk Γ).length, L, trs Γ)])[k]? = some q := hq
    rcases get_app hq' with ⟨hk, hq⟩ | ⟨hk, rfl⟩
    · have E : ∀ x, 30 ≤ x → x ≤ 35 → gi (si (si (si M2 33 m (nI (skk Γ).length)) 35 m (byt (nI e.1))) 29 7 (nI (m + 1))) x k = gi M x k := fun x h1 h2 => by
        rw [G3, if_neg (by omega), if_neg (by omega), if_neg (by omega), G2, if_neg (by omega), G1, if_neg (by omega), if_neg (by omega), if_neg (by omega)]
      have := d2 k q hq
      unfold xIns at this ⊢
      rw [E 30 (by omega) (by omega), E 31 (by omega) (by omega), E 32 (by omega) (by omega), E 33 (by omega) (by omega), E 34 (by omega) (by omega), E 35 (by omega) (by omega)]
      exact this
    · have km : k = m := by omega
      subst km
      refine ⟨?_, fun z => ?_, fun mm p z1 z2 z3 => ?_, ?_, fun _ => ?_, ?_, ?_⟩
      · rw [G3, if_neg (by omega), if_neg (by omega), if_neg (by omega), G2, if_neg (by omega), G1, if_neg (by omega), if_neg (by omega), if_pos ⟨rfl, rfl⟩]
      · rw [G3, if_neg (by omega), if_neg (by omega), if_neg (by omega), G2, if_neg (by omega), G1, if_neg (by omega), if_pos ⟨rfl, rfl⟩]; exact ha z
      · rw [G3, if_neg (by omega), if_neg (by omega), if_neg (by omega), G2, if_neg (by omega), G1, if_neg (by omega), if_pos ⟨rfl, rfl⟩]; exact hb mm p z1 z2 z3
      · rw [G3, if_neg (by omega), if_neg (by omega), if_neg (by omega), G2, if_pos ⟨rfl, rfl⟩]
      · rw [G3, if_neg (by omega), if_neg (by omega), if_pos ⟨rfl, rfl⟩]
      · rw [G3, if_neg (by omega), if_neg (by omega), if_neg (by omega), G2, if_neg (by omega), G1, if_pos ⟨rfl, rfl⟩]
      · rw [G3, if_neg (by omega), if_pos ⟨rfl, rfl⟩]
  · obtain ⟨k, q, k1, k2, k3⟩ := d3 j h1 h2
    refine ⟨k, q, ?_, ?_, k3⟩
    · rw [G3, if_neg (by omega), if_neg (by omega), if_neg (by omega), G2, if_neg (by omega), G1, if_neg (by omega), if_neg (by omega), if_neg (by omega)]; exact k1
    · show (st.c ++ [_])[k]? = some q
      rw [List.getElem?_append_left (List.getElem?_eq_some_iff.mp k2).1]; exact k2
theorem y_put {op av a b : Int32} {L : List Bool} {mk : Option Nat} (h : xCo M e Γ l m st) (hm : m + 1 < 100000000) (ho : op.toInt8.toInt32 = op) (hs : av.toInt16.toInt32 = av) (ha : mk = none → av = a) (hb : ∀ mm p, mk = some mm → st.at mm = some p → av = nI p) (hk : ∀ mm, mk = some mm → mm < st.m)
    (hQ : ∀ M', xCo M' e Γ l (m + 1) (em e Γ L op a b mk st) → fr cdP M M' → Q (.inl (some (vi (nI m)))) M') : Z E YX3_put (d + 1) M [(0, vr (some (29, 3, 0))), (1, vi op), (2, vi av), (3, vi b)] 0 [] Q :=
  y_put0 h hm (fun _ => ⟨ho, hs, ha, fun mm p z1 z2 _ => hb mm p z1 z2, rfl⟩) hk (fun M' k f => hQ M' k f.pt)
theorem y_putN {op a b : Int32} {L : List Bool} (h : xCo M e Γ l m st) (hm : m + 1 < 100000000) (ho : op.toInt8.toInt32 = op) (hs : a.toInt16.toInt32 = a) (hQ : ∀ M', xCo M' e Γ l (m + 1) (em e Γ L op a b none st) → fr cdP M M' → Q (.inl (some (vi (nI m)))) M') : Z E YX3_put (d + 1) M [(0, vr (some (29, 3, 0))), (1, vi op), (2, vi a), (3, vi b)] 0 [] Q :=
  y_put (mk := none) h hm ho hs (fun _ => rfl) (fun _ _ z => by cases z) (fun _ z => by cases z) hQ
/-- goal: a mark is here; k is the one instruction that goes to it -/
theorem y_goal {k mm : Nat} (h : xCo M e Γ l m st) (hk2 : m ≤ 600 → ∀ q, st.c[k]? = some q → q.2.1 = some mm) (hk : m ≤ 600 → ∀ j q, st.c[j]? = some q → q.2.1 = some mm → j = k) (hkb : k < 100000000) (hmm : mm < st.m)
    (hQ : ∀ M', xCo M' e Γ l m (hre mm st) → fr cdP M M' → Q (.inl none) M') : Z E YX3_goal (d + 1) M [(0, vr (some (29, 3, 0))), (1, vi (nI k))] 0 [] Q := by
  obtain ⟨h1, h2, h3, h4, h5⟩ := id h
  obtain ⟨c1, c2, c3, c4, c5, c6, c7⟩ := id h2
  refine jX3_goal M _ h1 ?_
  rw [if_neg (by rw [nn_m1 (by omega)]; exact fun z => z), c1]
  have go : ∀ M' : zM, fr cdP M M' → (∀ x j, ¬ (x = 31 ∧ j = k) → gi M' x j = gi M x j) → (m ≤ 600 → k < m → gi M' 31 k = nI m) → Q (.inl none) M' := fun M' f g hv => by
    refine hQ _ (xCo_fr h f ⟨by rw [g _ _ (by omega)]; exact c1, c2, c3, c4, fun hm => ?_, fun hm => ?_, ⟨c7.1, fun k hk => (show (if k = mm then _ else st.at k) = none by have : st.m ≤ k := hk; rw [if_neg (by omega)]; exact c7.2 k hk)⟩⟩) f
    · obtain ⟨d1, d0, d2, d3⟩ := c5 hm
      have hlen := c3 hm
      refine ⟨by rw [g _ _ (by omega)]; exact d1, d0, fun j q hq => ?_, fun j h1 h2 => ?_⟩
      · have hq' : st.c[j]? = some q := hq
        obtain ⟨i1, i2, i3, i4, i5, i6, i7⟩ := d2 j q hq'
        have hj : j < m := by rw [hlen]; exact (List.getElem?_eq_some_iff.mp hq').1
        refine ⟨by rw [g _ _ (by omega)]; exact i1, fun z => ?_, fun mm' p z1 z2 z3 => ?_, by rw [g _ _ (by omega)]; exact i4, fun z => by rw [g _ _ (by omega)]; exact i5 z, by rw [g _ _ (by omega)]; exact i6, by rw [g _ _ (by omega)]; exact i7⟩
        · by_cases hjk : j = k
          · subst hjk; rw [hk2 hm q hq'] at z; cases z
          · rw [g _ _ (by omega)]; exact i2 z
        · have z2' : (if mm' = mm then some st.c.length else st.at mm') = some p := z2
          by_cases hmm : mm' = mm
          · rw [if_pos hmm] at z2'
            have hjk : j = k := hk hm j q hq' (by rw [z1, hmm])
            subst hjk
            have e0 : st.c.length = p := Option.some.inj z2'
            rw [hv hm hj, hlen, e0]
          · rw [if_neg hmm] at z2'
            by_cases hjk : j = k
            · subst hjk
              have := hk2 hm q hq'
              rw [z1] at this
              exact absurd (Option.some.inj this) hmm
            · rw [g _ _ (by omega)]; exact i3 mm' p z1 z2' z3
      · obtain ⟨k', q, k1, k2, k3⟩ := d3 j h1 h2
        exact ⟨k', q, by rw [g _ _ (by omega)]; exact k1, k2, k3⟩
    · obtain ⟨j, j1, j2⟩ := c6 hm
      exact ⟨j, j1, by rw [g _ _ (by omega)]; exact j2⟩
  by_cases h600 : 600 ≤ k
  · rw [if_pos (show (600 : Int32) ≤ nI k from nI_le (a := 600) h600 (by omega))]
    exact go M fr.rf (fun _ _ _ => rfl) (fun z1 z2 => by omega)
  · rw [if_neg (show ¬ (600 : Int32) ≤ nI k from nI_ge (b := 600) (by omega) (by decide)), nI_clamp (by omega), nar_s]
    refine ⟨nI_in (by omega) (by decide), go _ (fr.si (.inl ⟨by decide, by decide⟩)) (fun x j hx => ?_) (fun z1 z2 => ?_)⟩
    · by_cases hx31 : x = 31
      · rw [hx31]; exact gi_idx (by omega)
      · exact gi_oth hx31
    · rw [gi_self]; exact nn_ns2 (by omega)
/-- has, hops -/
theorem y_has {f b mb x : Nat} {vs : List Nat} (e1 : gr M f 4 = some (b, 100, mb)) (e2 : gi M f 5 = nI vs.length) (e3 : vs.length ≤ mb) (e4 : mb < 100000) (e5 : ∀ k, k < vs.length → gi M b k = nI (vs.getD k 0)) (e6 : ∀ y ∈ vs, y < 100000) (hx : x < 100000) (hQ : Q (.inl (some (vi (if x ∈ vs then 1 else 0)))) M) : Z E YX11_has d M [(0, vr (some (f, 10, 0))), (1, vi (nI x))] 0 [] Q := by
  have loop : ∀ (r : List Nat) (k : Nat), vs.drop k = r → k ≤ vs.length → Q (.inl (some (vi (if x ∈ r then 1 else 0)))) M → Z E YX11_has d M [(0, vr (some (f, 10, 0))), (1, vi (nI x)), (2, vi (nI k))] 2 [] Q := by
    intro r
    induction r with
    | nil =>
      intro k hr hk hq
      have hl : vs.length ≤ k := List.drop_eq_nil_iff.mp hr
      refine sX11_has_2 M f _ _ ?_
      rw [e2, if_pos (nI_le hl (by omega))]
      exact hq
    | cons y r ih =>
      intro k hr hk hq
      have hkl : k < vs.length := by
        by_cases h : k < vs.length
        · exact h
        · rw [List.drop_eq_nil_of_le (by omega)] at hr; cases hr
      have hy : vs.getD k 0 = y := by
        rw [List.drop_eq_getElem_cons hkl] at hr
        rw [List.getD_eq_getElem?_getD, List.getElem?_eq_getElem hkl]; exact (List.cons.inj hr).1
      have hr' : vs.drop (k + 1) = r := by
        rw [List.drop_eq_getElem_cons hkl] at hr; exact (List.cons.inj hr).2
      have hy6 : y < 100000 := e6 y (by rw [← hy, List.getD_eq_getElem?_getD, List.getElem?_eq_getElem hkl]; exact List.getElem_mem hkl)
      refine sX11_has_2 M f _ _ ?_
      rw [e2, if_neg (nI_ge hkl (by omega))]
      refine ⟨b, mb, e1, nI_in (by omega) (by omega), ?_⟩
      rw [nI_clamp (by omega), e5 k hkl, hy, nI_l1]
      by_cases hyx : y = x
      · rw [if_pos (by rw [hyx])]
        rw [if_pos (by rw [hyx]; exact List.mem_cons_self)] at hq
        exact hq
      · rw [if_neg (fun z => hyx (nI_inj (by omega) (by omega) z))]
        refine ih (k + 1) hr' (by omega) ?_
        by_cases hxr : x ∈ r
        · rw [if_pos hxr]; rw [if_pos (List.mem_cons_of_mem _ hxr)] at hq; exact hq
        · rw [if_neg hxr]; rw [if_neg (fun z => hxr ((List.mem_cons.mp z).resolve_left (Ne.symm hyx)))] at hq; exact hq
  exact sX11_has_0 M f _ (loop vs 0 rfl (Nat.zero_le _) hQ)
def opI (o : Option Nat) (n : Nat) : Int32 := match o with
  | some h => nI (h + n)
  | none => -1
theorem y_hops1 (hw : cw M) {x : Nat} (hx : x < 100000) : ∀ (u f n k : Nat) (hop : Nat → Option Nat), xFn M u f n hop → k + u < 100000 → Q (.inl (some (vi (opI (hop x) k)))) M → Z E YX3_hops (d + 1) M [(1, vi (nI x)), (2, vi (nI k)), (3, vr (some (f, 10, 0)))] 7 [] Q
  | 0, _, _, _, _, h, _, _ => h.elim
  | u + 1, f, n, k, hop, h, hk, hQ => by
    obtain ⟨h1, h2, h2', h3⟩ := h
    refine sX3_hops_7 M _ _ _ hw ⟨f, rfl, ?_⟩
    rcases h3 with ⟨e1, e2⟩ | ⟨f', n', hop', vs, b, mb, e1, e2, e3, e4, e5, e6, e7, e8, e9, e10⟩
    · rw [if_pos e1]
      rw [e2] at hQ
      exact hQ
    · rw [if_neg (by rw [e1]; exact fun z => by cases z)]
      refine y_has e2 e4 e5 e6 e7 e8 hx ?_
      show Z E YX3_hops (d + 1) M [(1, vi (nI x)), (2, vi (nI k)), (3, vr (some (f, 10, 0)))] 19 [vi (if x ∈ vs then 1 else 0)] Q
      refine sX3_hops_19 M _ _ f _ hw ?_
      rw [e9 x hx] at hQ
      by_cases hv : x ∈ vs
      · rw [if_pos hv] at hQ
        rw [if_pos hv, if_neg (by decide)]
        have : opI (some 0) k = nI k := by show nI (0 + k) = nI k; rw [Nat.zero_add]
        rw [this] at hQ
        exact hQ
      · rw [if_neg hv] at hQ
        rw [if_neg hv, if_pos rfl, e1, nI_l1]
        refine y_hops1 hw hx u f' n' (k + 1) hop' e10 (by omega) ?_
        have : opI ((hop' x).map (· + 1)) k = opI (hop' x) (k + 1) := by
          cases hop' x with
          | none => rfl
          | some h => show nI (h + 1 + k) = nI (h + (k + 1)); congr 1; omega
        rw [this] at hQ
        exact hQ
theorem hop_lt {x : Nat} (hx : x < 100000) : ∀ (u f n : Nat) (hop : Nat → Option Nat), xFn M u f n hop → ∀ h, hop x = some h → h < u
  | 0, _, _, _, h, _, _ => h.elim
  | u + 1, f, n, hop, h, j, hj => by
    obtain ⟨h1, h2, h2', h3⟩ := h
    rcases h3 with ⟨e1, e2⟩ | ⟨f', n', hop', vs, b, mb, e1, e2, e3, e4, e5, e6, e7, e8, e9, e10⟩
    · rw [e2] at hj; cases hj
    · rw [e9 x hx] at hj
      by_cases hv : x ∈ vs
      · rw [if_pos hv] at hj; cases hj; omega
      · rw [if_neg hv] at hj
        cases hp : hop' x with
        | none => rw [hp] at hj; cases hj
        | some i =>
          rw [hp] at hj
          have := hop_lt hx u f' n' hop' e10 i hp
          cases hj
          show i + 1 < u + 1
          omega
theorem y_hops {x : Nat} (h : xCo M e Γ l m st) (hx : x < 100000) (hQ : (∀ j, e.2 x = some j → j < 60) → Q (.inl (some (vi (opI (e.2 x) 0)))) M) : Z E YX3_hops (d + 1) M [(0, vr (some (29, 3, 0))), (1, vi (nI x))] 0 [] Q := by
  obtain ⟨h1, h2, h3, h4, f, u, h5, h6, h7⟩ := h
  refine sX3_hops_0 M _ h1 ?_
  rw [h6]
  exact y_hops1 h1 hx u f e.1 0 e.2 h7 (by omega) (hQ fun j hj => by have := hop_lt hx u f e.1 e.2 h7 j hj; omega)
theorem y_get {x : Nat} {L : List Bool} (h : xCo M e Γ l m st) (hm : m + 1 < 100000000) (hx : x < 100000) (hQ : ∀ M', xCo M' e Γ l (m + 1) (gGet x e Γ L st) → fr cdP M M' → Q (.inl none) M') : Z E YX3_get (d + 2) M [(0, vr (some (29, 3, 0))), (1, vi (nI x))] 0 [] Q := by
  refine sX3_get_0 M _ h.1 (y_hops (d := d) h hx fun hb => ?_)
  show Z E YX3_get (d + 1 + 1) M [(0, vr (some (29, 3, 0))), (1, vi (nI x))] 5 [vi (opI (e.2 x) 0)] Q
  refine iX3_get_5 M _ _ h.1 ?_
  unfold gGet at hQ
  cases ho : e.2 x with
  | none =>
    rw [ho] at hQ
    rw [show opI none 0 = -1 from rfl, if_pos rfl]
    refine y_putN (L := L) h hm rfl rfl (fun M' k1 k2 => ?_)
    show Z E YX3_get (d + 1 + 1) M' [] 31 [vi (nI m)] Q
    exact sX3_get_31 M' _ k1.1 (hQ M' k1 k2)
  | some j =>
    rw [ho] at hQ
    have hj := hb j ho
    rw [show opI (some j) 0 = nI j from rfl, if_neg (by rw [nn_m1 (by omega)]; exact fun z => z)]
    refine y_putN (L := L) h hm rfl (nn_ns2 (by omega)) (fun M' k1 k2 => ?_)
    show Z E YX3_get (d + 1 + 1) M' [] 31 [vi (nI m)] Q
    exact sX3_get_31 M' _ k1.1 (hQ M' k1 k2)
theorem y_set {x : Nat} {L : List Bool} (h : xCo M e Γ l m st) (hm : m + 1 < 100000000) (hx : x < 100000) (hQ : ∀ M', xCo M' e Γ l (m + 1) (gSet x e Γ L st) → fr cdP M M' → Q (.inl none) M') : Z E YX3_set (d + 2) M [(0, vr (some (29, 3, 0))), (1, vi (nI x))] 0 [] Q := by
  refine sX3_set_0 M _ h.1 (y_hops (d := d) h hx fun hb => ?_)
  show Z E YX3_set (d + 1 + 1) M [(0, vr (some (29, 3, 0))), (1, vi (nI x))] 5 [vi (opI (e.2 x) 0)] Q
  refine iX3_set_5 M _ _ h.1 ?_
  unfold gSet at hQ
  cases ho : e.2 x with
  | none =>
    rw [ho] at hQ
    rw [show opI none 0 = -1 from rfl, if_pos rfl]
    refine y_putN (L := L) h hm rfl rfl (fun M' k1 k2 => ?_)
    show Z E YX3_set (d + 1 + 1) M' [] 31 [vi (nI m)] Q
    exact sX3_set_31 M' _ k1.1 (hQ M' k1 k2)
  | some j =>
    rw [ho] at hQ
    have hj := hb j ho
    rw [show opI (some j) 0 = nI j from rfl, if_neg (by rw [nn_m1 (by omega)]; exact fun z => z)]
    refine y_putN (L := L) h hm rfl (nn_ns2 (by omega)) (fun M' k1 k2 => ?_)
    show Z E YX3_set (d + 1 + 1) M' [] 31 [vi (nI m)] Q
    exact sX3_set_31 M' _ k1.1 (hQ M' k1 k2)
end
