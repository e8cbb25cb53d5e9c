/-! THE COMPONENT's CODER: entering, with all that holds behind -/
section
variable {S B C : Nat → Prop} {M0 M M' M'' : zM} {e : gN} {w : gW} {Γ : gK} {l bs : List Nat} {ps : List (Option zP)} {ρ ρ' : Nat → Nat} {A A' : List Nat} {a u m fc : Nat} {st : gS} {s : Int32}
/-- an around's own fields were set -/
theorem xOw_fld (h : xOw M ρ A) (f : fr (fun x k => x = a ∧ 3 ≤ k) M M') (ha : ρ a = 5 * u + 1) : xOw M' ρ A := by
  obtain ⟨o1, o2, ⟨o3, o3'⟩, o4⟩ := h
  have ba := o1 a (by omega)
  have l37 : lA M' 37 = lA M 37 := by
    have := (f.2 37 1 (by omega)).2.2
    unfold lA; rw [this]
  have hw37 : 37 < zsz M := o2.1.2
  have nL : lA M 37 ≠ a := fun z => by rw [z] at o3; omega
  refine ⟨fun c hc => by rw [f.1.1]; exact o1 c hc, xLs_fg o2 f.fg (fun k => by omega) (fun k => .inr (by omega)), by rw [l37]; exact ⟨o3, o3'⟩, fun i b hb => ?_⟩
  obtain ⟨j1, j2, k1, k2, ⟨s1, s2, s3, s4, s5⟩, h0, h1, h2, z1, z2⟩ := o4 i b hb
  have nj : ∀ x, (ρ x = 5 * i + 2 ∨ ρ x = 5 * i + 3 ∨ ρ x = 5 * i + 4 ∨ ρ x = 5 * i + 5) → ∀ k, ¬ (x = a ∧ 3 ≤ k) := fun x hx k z => by rw [z.1] at hx; omega
  have v1 := (jR_fg z1.2.1.2 f.fg (nj j1 (by omega) 0)).1
  have v2 := (jR_fg z2.2.1.2 f.fg (nj j2 (by omega) 0)).1
  exact ⟨j1, j2, k1, k2, ⟨s1, s2, s3, by rw [v1]; exact s4, by rw [v2]; exact s5⟩, (f.2 b 0 (by omega)).1.trans h0, (f.2 b 1 (by omega)).2.2.trans h1, (f.2 b 2 (by omega)).2.2.trans h2, xJp_fg z1 f.fg (nj _ (by omega) 0) (nj _ (by omega) 1) (fun i => nj _ (by omega) i), xJp_fg z2 f.fg (nj _ (by omega) 0) (nj _ (by omega) 1) (fun i => nj _ (by omega) i)⟩
theorem stF_fld (f : fr (fun x k => x = a ∧ 3 ≤ k) M M') (ha : ρ a ≠ 0) (h190 : 190 ≤ a) : stF B C M M' ρ ρ ∧ (sep S B M ρ → sep S B M' ρ) := by
  have l37 : lA M' 37 = lA M 37 := by
    have := (f.2 37 1 (by omega)).2.2
    unfold lA; rw [this]
  have g : ∀ x, ρ x = 0 → ∀ k, gi M' x k = gi M x k ∧ gr M' x k = gr M x k := fun x hx k => by
    have := f.2 x k (fun z => ha (by rw [← z.1]; exact hx))
    exact ⟨this.1, this.2.2⟩
  refine ⟨⟨⟨Nat.le_of_eq f.1.1.symm, Nat.le_of_eq f.1.2.symm, fun _ _ => rfl⟩, fun x h1 h2 h3 h4 => ⟨h3, by rw [l37]; exact h4, fun k _ => g x h3 k⟩, fun x k hx _ => f.2 x k (by omega)⟩, fun hs => ⟨fun x hx => ?_, hs.2.1, fun b hb => ?_⟩⟩
  · rw [f.1.1, l37]; exact hs.1 x hx
  · exact sep3_ag (hs.2.2 b hb) (g b (hs.1 b (.inr hb)).2.2.1 3).2 (g b (hs.1 b (.inr hb)).2.2.1 1).2 (fun a ha => (g a (hs.1 a (.inl ha)).2.2.1 2).1) (fun _ _ => rfl)
/-- all that holds behind entering, when the around's own fields were set -/
theorem en_co (h : xSt M e Γ l bs ps ρ A u m st) (he : enP M M' ρ ρ' A A' a u s) (f : fr (fun x k => x = a ∧ 6 ≤ k) M' M'') (hs : s = nI w.1) (h4 : w.1 ≠ 4) (h3 : w.1 = 3 → gi M'' a 8 = nI w.2.1.length) (h2 : w.1 = 2 → gi M'' a 7 = nI w.2.2.1) (hok : wOK w) (hsk : (skk (w :: Γ)).length < 32768) (hfn : fnS S M0 e fc) (ha : agS S M0 M) (hF : gr M 29 12 = some (fc, 10, 0)) (hsep : sep S B M ρ) (hu : u < 70000) :
    xCo M'' e (w :: Γ) (a :: l) m st ∧ xOw M'' ρ' A' ∧ gi M'' 29 11 = nI (u + 1) ∧ (u + 1 ≤ A'.length ∧ A'.length < 80000) ∧ 190 ≤ zsz M'' ∧ xCh M'' A' m st u Γ l bs ps ∧ (A'[u]? = some a ∧ ρ' a = 5 * u + 1) ∧ gr M'' a 5 = none ∧ xAr M'' (gr M'' a 4) Γ l ∧ ∃ j1 j2, gr M'' a 1 = some (j1, 18, 0) ∧ gr M'' a 2 = some (j2, 18, 0) ∧ xJp M'' j1 [] ∧ xJp M'' j2 [] := by
  obtain ⟨c1, c2, c3, c4, c5, c6, c7, c8⟩ := id h
  have eF := en_stF (C := fun _ => False) he hsep c5 c2
  obtain ⟨p1, p2, p3, p4, p5, p6, p7, p8, p9, p10, p11, p12, p13⟩ := he
  obtain ⟨i1, i2, q1, q2, ⟨r1, r2, r3, r4, r5⟩, g0, g1, g2, y1, y2⟩ := p1.2.2.2 u a p2
  have ba := p1.1 a (by omega)
  have f3 : fr (fun x k => x = a ∧ 3 ≤ k) M' M'' := f.mono fun x k z => ⟨z.1, by omega⟩
  have o'' := xOw_fld p1 f3 r1
  -- cells that bear a lower number
  have low : ∀ x, ρ x ≠ 0 → ρ x ≤ 5 * u → ∀ k, gi M'' x k = gi M x k ∧ gr M'' x k = gr M x k := fun x h1 h2 k => by
    have hx := c2.1 x h1
    have hxa : x ≠ a := fun z => by
      have := p4 x hx.2
      rw [z] at this h2
      omega
    have b1 := f.2 x k (fun z => hxa z.1)
    have b2 := p10.2 x k hx.2 (fun z => by
      unfold enF at z
      rcases z with z | z | z | z | z
      · omega
      · omega
      · rw [z.1] at h1; exact h1 c2.2.2.1.1
      · omega
      · omega)
    exact ⟨b1.1.trans b2.1, b1.2.2.trans b2.2.2⟩
  -- the coder's own cells
  have cd : ∀ x k, cdP x k ∨ x = 29 ∧ k = 12 → gi M'' x k = gi M x k ∧ gr M'' x k = gr M x k := fun x k hx => by
    have hx0 : x < 190 ∧ (x = 29 → k ≠ 9 ∧ k ≠ 11) ∧ x ≠ 37 ∧ 16 ≤ x := by unfold cdP at hx; omega
    have hρ : ρ x = 0 := Nat.eq_zero_of_not_pos fun y => by have := c2.1 x (by omega); omega
    have b1 := f.2 x k (fun z => by omega)
    have b2 := p10.2 x k (by omega) (fun z => by
      unfold enF at z
      rcases z with z | z | z | z | z
      · omega
      · omega
      · rcases c2.2.2.1.2 with y | y <;> omega
      · omega
      · omega)
    exact ⟨b1.1.trans b2.1, b1.2.2.trans b2.2.2⟩
  have hlA : A'.length < 80000 ∧ u + 1 ≤ A'.length := by
    have h1 := (List.getElem?_eq_some_iff.mp p2).1
    rcases p3 with z | ⟨z, z'⟩
    · rw [z] at h1 ⊢; omega
    · rw [z', List.length_append] at h1 ⊢
      have h1 : u < A.length + 1 := h1
      show A.length + 1 < 80000 ∧ u + 1 ≤ A.length + 1
      omega
  have hAA : ∀ (i x : Nat), A[i]? = some x → A'[i]? = some x := fun i x hx => by
    rcases p3 with z | ⟨z, z'⟩
    · rw [z]; exact hx
    · rw [z', List.getElem?_append_left (List.getElem?_eq_some_iff.mp hx).1]; exact hx
  have a4 : gr M'' a 4 = gr M 29 9 := (f.2 a 4 (by omega)).2.2.trans p5.2.1
  have ar : xAr M'' (gr M 29 9) Γ l := by
    refine xAr_ag Γ _ _ (fun b hb k => ?_) c1.2.2.1
    obtain ⟨i, hi, hbi⟩ := xCh_mem Γ u l bs ps c6 b hb
    obtain ⟨_, _, _, _, ⟨t1, -⟩, -⟩ := c2.2.2.2 i b hbi
    exact low b (by omega) (by omega) k
  have zz : zsz M'' = zsz M' := f.1.1
  have hz := p10.1.1
  have hag : agS S M0 M'' := (ha.tr (eF.1.agS hsep)).tr ((stF_fld (S := S) (B := B) (C := fun _ => False) (ρ := ρ') f3 (by omega) ba.1).1.agS eF.2)
  refine ⟨⟨f.cw (fun q hq z => ?_) p9, xCd_ag c1.2.1 (fun x k hx => (cd x k (.inl hx)).1) (fun mm z => mkP_tl z), ?_, ⟨fun x hx => ?_, hsk⟩, ?_⟩, o'', ?_, ⟨hlA.2, hlA.1⟩, by omega, xCh_lb c2.2.2.2 hAA (by omega) Γ u l bs ps (fun i x hi h1 h2 k => low x (by omega) (by omega) k) c6, ⟨p2, r1⟩, (f.2 a 5 (by omega)).2.2.trans p5.2.2.1, by rw [a4]; exact ar, ?_⟩
  · have : q.1 = 16 ∨ q.1 = 29 := (show ∀ q ∈ cwl, q.1 = 16 ∨ q.1 = 29 by decide +kernel) q hq
    omega
  · rw [show gr M'' 29 9 = some (a, 17, 0) from (f.2 29 9 (by omega)).2.2.trans p7]
    refine ⟨rfl, ba.1, ?_⟩
    rw [if_neg h4]
    refine ⟨?_, (f.2 a 3 (by omega)).1.trans (p5.1.trans hs), h2, by rw [a4]; exact ar⟩
    by_cases z : w.1 = 3
    · rw [if_pos z]; exact h3 z
    · rw [if_neg z]; trivial
  · rcases List.mem_cons.mp hx with z | z
    · rw [z]; exact hok
    · exact c1.2.2.2.1.1 x z
  · obtain ⟨u', v1, v2⟩ := hfn
    exact ⟨fc, u', v1, (cd 29 12 (.inr ⟨rfl, rfl⟩)).2.trans hF, v2 M'' hag⟩
  · exact (f.2 29 11 (by omega)).1.trans p8
  · obtain ⟨j1, j2, b1, b2, b3, b4⟩ := p6
    have e1 : i1 = j1 := by rw [g1] at b1; cases b1; rfl
    have e2 : i2 = j2 := by rw [g2] at b2; cases b2; rfl
    subst e1 e2
    have nj : ∀ x, (ρ' x = 5 * u + 2 ∨ ρ' x = 5 * u + 3 ∨ ρ' x = 5 * u + 4 ∨ ρ' x = 5 * u + 5) → ∀ k, ¬ (x = a ∧ 6 ≤ k) := fun x hx k z => by rw [z.1] at hx; omega
    exact ⟨i1, i2, (f.2 a 1 (by omega)).2.2.trans g1, (f.2 a 2 (by omega)).2.2.trans g2, xJp_fg b3 f.fg (nj _ (by omega) 0) (nj _ (by omega) 1) (fun i => nj _ (by omega) i), xJp_fg b4 f.fg (nj _ (by omega) 0) (nj _ (by omega) 1) (fun i => nj _ (by omega) i)⟩
/-- a loop or a switch is entered -/
theorem en_xLp (h : xSt M e Γ l bs ps ρ A u m st) (he : enP M M' ρ ρ' A A' a u s) (hs : s = nI w.1) (hw : w.1 = 0 ∨ w.1 = 1) (hok : wOK w) (hfn : fnS S M0 e fc) (ha : agS S M0 M) (hF : gr M 29 12 = some (fc, 10, 0)) (hsep : sep S B M ρ) (hu : u < 70000) : ∃ j1 j2, xLp M' e w Γ (a :: l) none (u + 1) a l bs ps ρ' A' u m st j1 j2 [] [] := by
  have hsk : (skk (w :: Γ)).length < 32768 := by
    have h1 : w.2.1 = [] := hok.2.2.1 (by omega)
    have h2 : (skk (w :: Γ)).length = w.2.1.length + (skk Γ).length := by show (w.2.1 ++ skk Γ).length = _; rw [List.length_append]
    have h3 := h.1.2.2.2.1.2
    rw [h1] at h2
    simp at h2
    omega
  obtain ⟨b1, b2, b3, b4, b5, b6, b7, b8, b9, j1, j2, d1, d2, d3, d4⟩ := en_co (w := w) h he fr.rf hs (by omega) (fun z => by omega) (fun z => by omega) hok hsk hfn ha hF hsep hu
  exact ⟨j1, j2, b1, b2, b3, b4, b5, b6, h.2.2.2.2.2.2, ⟨b7.1, Nat.lt_succ_self _⟩, ⟨b8, he.2.2.2.2.1.2.2.2.1, d1, d2⟩, ⟨d3, d4⟩, b9⟩
/-- the room that entering takes -/
theorem en_rm (he : enP M M' ρ ρ' A A' a u s) (ho : xOw M ρ A) (hu9 : u < 90000) : rm C u l M ρ A m M' ρ' A' m (u + 1) := by
  obtain ⟨p1, p2, p3, p4, p5, p6, p7, p8, p9, p10, p11, p12, p13⟩ := he
  obtain ⟨j1, j2, b1, b2, b3, b4⟩ := p6
  have pa : psA M' a = 0 := by
    rw [psA_val b1 b2]
    have e1 : psJ M' j1 = 0 := by unfold psJ; rw [b3.2.2.2.1]; show 2 * (nI 0).toNatClampNeg - _ = 0; rw [nI_clamp (by decide)]; omega
    have e2 : psJ M' j2 = 0 := by unfold psJ; rw [b4.2.2.2.1]; show 2 * (nI 0).toNatClampNeg - _ = 0; rw [nI_clamp (by decide)]; omega
    rw [e1, e2]
  have old : ∀ (i x : Nat), A[i]? = some x → i ≠ u → psA M' x ≤ psA M x := fun i x hx hi => by
    obtain ⟨i1, i2, q1, q2, ⟨r1, r2, r3, r4, r5⟩, g0, g1, g2, y1, y2⟩ := ho.2.2.2 i x hx
    have same : ∀ x, (ρ x = 5 * i + 1 ∨ ρ x = 5 * i + 2 ∨ ρ x = 5 * i + 3) → ∀ k, gi M' x k = gi M x k ∧ gr M' x k = gr M x k := fun x h1 k => by
      have hx := ho.1 x (by omega)
      have b2 := p10.2 x k hx.2 (fun z => by
        unfold enF at z
        rcases z with z | z | z | z | z
        · omega
        · omega
        · have := ho.2.2.1.1; rw [← z.1] at this; omega
        · omega
        · omega)
      exact ⟨b2.1, b2.2.2⟩
    rw [psA_val g1 g2, psA_val ((same x (by omega) 1).2.trans g1) ((same x (by omega) 2).2.trans g2), psJ_same (same i1 (by omega) 1).1 (same i1 (by omega) 0).2, psJ_same (same i2 (by omega) 1).1 (same i2 (by omega) 0).2]
    exact Nat.le_refl _
  have kp : ∀ x, x < zsz M → ρ x ≠ 0 → ¬ chI ρ u l ((ρ x - 1) / 5) → ∀ k, gi M' x k = gi M x k ∧ gr M' x k = gr M x k := fun x hx hr hn k => by
    have hi : ρ x ≤ 5 * u := by
      have : ¬ u ≤ (ρ x - 1) / 5 := fun z => hn (.inl z)
      omega
    have b2 := p10.2 x k hx (fun z => by
      have h9 := ho.1 x hr
      unfold enF at z
      rcases z with z | z | z | z | z
      · omega
      · omega
      · have := ho.2.2.1.1; rw [← z.1] at this; omega
      · omega
      · omega)
    exact ⟨b2.1, b2.2.2⟩
  have kp4 : ∀ x, x < zsz M → 500000 ≤ ρ x → ¬ C (ρ x / 5 - 100000) → ∀ k, gi M' x k = gi M x k ∧ gr M' x k = gr M x k := fun x hx hr _ k => by
    have b2 := p10.2 x k hx (fun z => by
      have h9 := ho.1 x (by omega)
      unfold enF at z
      rcases z with z | z | z | z | z
      · omega
      · omega
      · have := ho.2.2.1.1; rw [← z.1] at this; omega
      · omega
      · omega)
    exact ⟨b2.1, b2.2.2⟩
  have hu := (List.getElem?_eq_some_iff.mp p2).1
  rcases p3 with z | ⟨z, z'⟩
  · subst z
    have := psL_le (M := M) (M' := M') A' (fun x hx => by
      obtain ⟨i, hi⟩ := List.getElem?_of_mem hx
      by_cases y : i = u
      · rw [y, p2] at hi
        rw [← Option.some.inj hi, pa]
        exact Nat.zero_le _
      · exact old i x hi y)
    exact ⟨by omega, ⟨p10.1.1, p4, fun _ _ z => z⟩, kp, kp4⟩
  · subst z'
    have := psL_le (M := M) (M' := M') A (fun x hx => by
      obtain ⟨i, hi⟩ := List.getElem?_of_mem hx
      have := (List.getElem?_eq_some_iff.mp hi).1
      exact old i x hi (by omega))
    have e : psL M' (A ++ [a]) = psL M' A := by unfold psL; rw [List.map_append, List.sum_append]; show _ + (psA M' a + 0) = _; rw [pa]; omega
    have el : (A ++ [a]).length = A.length + 1 := by rw [List.length_append]; rfl
    refine ⟨?_, ⟨p10.1.1, p4, fun i x hx => by rw [List.getElem?_append_left (List.getElem?_eq_some_iff.mp hx).1]; exact hx⟩, kp, kp4⟩
    rw [e]
    rw [el] at p11 p12 ⊢
    omega
theorem stL_of {M M' : zM} {ρ : Nat → Nat} (f : fr loP M M') (hz : 190 ≤ zsz M) : stF B C M M' ρ ρ := by
  have l37 : lA M' 37 = lA M 37 := (lA_fg (by omega) f.fg (by unfold loP cdP; omega)).1
  refine ⟨⟨Nat.le_of_eq f.1.1.symm, Nat.le_of_eq f.1.2.symm, fun _ _ => rfl⟩, fun a h1 h2 h3 h4 => ⟨h3, by rw [l37]; exact h4, fun k _ => ?_⟩, fun a k _ hk => f.2 a k (fun z => hk ?_)⟩
  · have := f.2 a k (by unfold loP cdP; omega)
    exact ⟨this.1, this.2.2⟩
  · rcases z with z | z
    · exact .inl z
    · exact .inr (.inl z)
theorem sep_lo {M' : zM} {ρ : Nat → Nat} (h : sep S B M ρ) (f : fr loP M M') (hz : 190 ≤ zsz M) : sep S B M' ρ := by
  have l37 : lA M' 37 = lA M 37 := (lA_fg (by omega) f.fg (by unfold loP cdP; omega)).1
  refine ⟨fun a ha => by rw [f.1.1, l37]; exact h.1 a ha, h.2.1, fun b hb => ?_⟩
  have h9 := h.1 b (.inr hb)
  exact sep3_ag (h.2.2 b hb) (f.2 b 3 (by unfold loP cdP; omega)).2.2 (f.2 b 1 (by unfold loP cdP; omega)).2.2 (fun a ha => (f.2 a 2 (by have := (h.1 a (.inl ha)).1; unfold loP cdP; omega)).1) (fun _ _ => rfl)
end
