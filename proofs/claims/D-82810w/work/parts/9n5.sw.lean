/-! THE COMPONENT's CODER: switch, its jumps -/
theorem ow_fg {P : Nat → Nat → Prop} {M M' : zM} {ρ ρ' : Nat → Nat} {A : List Nat} (h : xOw M ρ A) (f : fg P M M') (hA : A.length < 80000) (hz : 190 ≤ zsz M) (h37 : ∀ k, ¬ P 37 k) (hl : ∀ x k, ρ x ≠ 0 → ρ x < 500000 → ¬ P x k) (hL : ∀ k, lA M 37 < 16 ∨ ¬ P (lA M 37) k) (hρ : ∀ x, x < zsz M → ρ' x = ρ x) (hn : ∀ x, zsz M ≤ x → ρ' x ≠ 0 → x < zsz M') : xOw M' ρ' A := by
  obtain ⟨o1, o2, ⟨o3, o3'⟩, o4⟩ := id h
  have zz := f.1.1
  have lA' := (lA_fg (l := 37) (by omega) f (h37 1)).1
  have lAb : lA M 37 < zsz M := by
    obtain ⟨-, -, -, -, h⟩ := o2
    rcases h with ⟨e, -⟩ | ⟨b, m, e, hb, -⟩
    · unfold lA; rw [e]; show 1 < zsz M; omega
    · unfold lA; rw [e]; exact hb.2.1
  refine ⟨fun c hc => ?_, xLs_fg o2 f h37 hL, ⟨by rw [lA', hρ _ lAb]; exact o3, by rw [lA']; exact o3'⟩, fun i a ha => ?_⟩
  · by_cases h1 : c < zsz M
    · rw [hρ c h1] at hc
      have := o1 c hc
      omega
    · exact ⟨by omega, hn c (by omega) hc⟩
  · have hi := (List.getElem?_eq_some_iff.mp ha).1
    obtain ⟨j1, j2, k1, k2, ⟨s1, s2, s3, s4, s5⟩, h0, h1, h2, z1, z2⟩ := o4 i a ha
    have ba := o1 a (by omega)
    have v1 := (jR_fg z1.2.1.2 f (hl j1 0 (by omega) (by omega))).1
    have v2 := (jR_fg z2.2.1.2 f (hl j2 0 (by omega) (by omega))).1
    exact ⟨j1, j2, k1, k2, ⟨by rw [hρ a ba.2]; exact s1, by rw [hρ j1 z1.2.1.2]; exact s2, by rw [hρ j2 z2.2.1.2]; exact s3, by rw [v1, hρ _ z1.2.2.1.2.1]; exact s4, by rw [v2, hρ _ z2.2.2.1.2.1]; exact s5⟩, (f.2 a 0 ba.2 (hl a 0 (by omega) (by omega))).1.trans h0, (f.2 a 1 ba.2 (hl a 1 (by omega) (by omega))).2.2.trans h1, (f.2 a 2 ba.2 (hl a 2 (by omega) (by omega))).2.2.trans h2, xJp_fg z1 f (hl j1 0 (by omega) (by omega)) (hl j1 1 (by omega) (by omega)) (fun k => hl _ k (by omega) (by omega)), xJp_fg z2 f (hl j2 0 (by omega) (by omega)) (hl j2 1 (by omega) (by omega)) (fun k => hl _ k (by omega) (by omega))⟩
section
variable {S B C : Nat → Prop} {M0 : zM} {M M' : zM} {e : gN} {w : gW} {Γ : gK} {la : List Nat} {own : Option zP} {v a : Nat} {l bs : List Nat} {ps : List (Option zP)} {ρ ρ' : Nat → Nat} {A : List Nat} {i m T fc : Nat} {st : gS} {j1 j2 : Nat} {k1 k2 : List Nat} {P : Nat → Nat → Prop}
/-- cells that are not the coder's own changed, or jumps of a switch -/
theorem lp_fg (h : xLp M e w Γ la own v a l bs ps ρ A i m st j1 j2 k1 k2) (f : fg P M M') (hlo : ∀ x k, x < 190 → ¬ P x k) (hl : ∀ x k, ρ x ≠ 0 → ρ x < 500000 → ¬ P x k) (ho : xOw M' ρ' A) (hla : ∀ b ∈ la, ρ b ≠ 0 ∧ ρ b < 500000) (hf : fnS S M0 e fc) (hag : agS S M0 M') (hF : gr M 29 12 = some (fc, 10, 0)) : xLp M' e w Γ la own v a l bs ps ρ' A i m st j1 j2 k1 k2 := by
  have ba := h.a190
  obtain ⟨⟨c1, c2, c3, c4, c5⟩, h2, h3, h4, h5, h6, h7, h8, ⟨d1, d2, d3, d4⟩, ⟨x1, x2⟩, h9⟩ := h
  have hi := (List.getElem?_eq_some_iff.mp h8.1).1
  have zz := f.1.1
  have low : ∀ x k, x < 190 → gi M' x k = gi M x k ∧ gr M' x k = gr M x k := fun x k hx => by
    have := f.2 x k (by omega) (hlo x k hx)
    exact ⟨this.1, this.2.2⟩
  have lab : ∀ x, ρ x ≠ 0 → ρ x < 500000 → ∀ k, gi M' x k = gi M x k ∧ gr M' x k = gr M x k := fun x hr h5 k => by
    have := f.2 x k (h2.1 x hr).2 (hl x k hr h5)
    exact ⟨this.1, this.2.2⟩
  have fa := lab a (by omega) (by omega)
  obtain ⟨i1, i2, p1, p2, ⟨r1, r2, r3, r4, r5⟩, g0, g1, g2, y1, y2⟩ := h2.2.2.2 i a h8.1
  have e1 : i1 = j1 := by rw [d3] at g1; cases g1; rfl
  have e2 : i2 = j2 := by rw [d4] at g2; cases g2; rfl
  subst e1 e2
  refine ⟨⟨fun q hq => ?_, xCd_ag c2 (fun x k hx => (low x k (by unfold cdP at hx; omega)).1) (fun _ z => z), ?_, c4, ?_⟩, ho, (low 29 11 (by decide)).1.trans h3, h4, by omega, xCh_lb h2.2.2.2 (fun _ _ z => z) zz Γ i l bs ps (fun i' x hi' z1 z2 k => lab x (by omega) (by omega) k) h6, h7, h8, ⟨(fa 5).2.trans d1, (fa 6).2.trans d2, (fa 1).2.trans d3, (fa 2).2.trans d4⟩, ⟨xJp_fg x1 f (hl _ _ (by omega) (by omega)) (hl _ _ (by omega) (by omega)) (fun k => hl _ k (by omega) (by omega)), xJp_fg x2 f (hl _ _ (by omega) (by omega)) (hl _ _ (by omega) (by omega)) (fun k => hl _ k (by omega) (by omega))⟩, ?_⟩
  · have : q.1 = 16 ∨ q.1 = 29 := (show ∀ q ∈ cwl, q.1 = 16 ∨ q.1 = 29 by decide +kernel) q hq
    rw [(low q.1 q.2.1 (by omega)).2]; exact c1 q hq
  · rw [(low 29 9 (by decide)).2]
    exact xAr_ag _ _ _ (fun b hb k => lab b (hla b hb).1 (hla b hb).2 k) c3
  · obtain ⟨u', v1, v2⟩ := hf
    exact ⟨fc, u', v1, (low 29 12 (by decide)).2.trans hF, v2 M' hag⟩
  · rw [(fa 4).2]
    refine xAr_ag _ _ _ (fun b hb k => ?_) h9
    obtain ⟨i', hi', hbi⟩ := xCh_mem Γ i l bs ps h6 b hb
    obtain ⟨_, _, _, _, ⟨t1, -⟩, -⟩ := h2.2.2.2 i' b hbi
    exact lab b (by omega) (by omega) k
/-- marks are made -/
theorem lp_mk {st' : gS} (h : xLp M e w Γ la own v a l bs ps ρ A i m st j1 j2 k1 k2) (hc : st'.c = st.c) (hm : st.m ≤ st'.m) (ha : st'.at = st.at) (hs : st'.si = st.si) : xLp M e w Γ la own v a l bs ps ρ A i m st' j1 j2 k1 k2 := by
  have c7 := h.1.2.1.2.2.2.2.2.2
  have w' : wfS st' := ⟨fun q hq mm hmm => by rw [hc] at hq; exact Nat.lt_of_lt_of_le (c7.1 q hq mm hmm) hm, fun k hk => by rw [ha]; exact c7.2 k (Nat.le_trans hm hk)⟩
  exact xLp_31 h fr.rf hc hm hs w' ⟨rfl, rfl, rfl⟩ (fun _ _ => by rw [ha]) (fun h6 k q hq => ⟨fun _ => rfl, fun mm p z1 z2 z3 => ((h.1.2.1.2.2.2.2.1 h6).2.2.1 k q hq).2.2.1 mm p z1 (by rw [ha] at z2; exact z2) z3⟩)
/-- the goal of one jump, to a mark that nothing waits for -/
theorem lp_go {E : zE} {d : Nat} {Q : zO → zM → Prop} {k k0 mm : Nat} (h : xLp M e w Γ la own v a l bs ps ρ A i m st j1 j2 k1 k2) (hk : m ≤ 600 → k = k0) (hkb : k < 100000000) (hmm : mm < st.m) (hp : ¬ mkP Γ mm) (hu : m ≤ 600 → only st mm k0) (hQ : ∀ M', xLp M' e w Γ la own v a l bs ps ρ A i m (hre mm st) j1 j2 k1 k2 → fr cdP M M' → Q (.inl none) M') : Z E YX3_goal (d + 1) M [(0, C29), (1, vi (nI k))] 0 [] Q :=
  y_goal h.1 (fun z q hq => (hu z).1 q (by rw [← hk z]; exact hq)) (fun z j q hq hm => ((hu z).2 j q hq hm).trans (hk z).symm) hkb hmm (fun M' c f => hQ M' (xLp_put (P := fun _ => False) h f c (gsc.rf rfl (Nat.le_refl _)) (fun _ _ z => z) (fun m' z => (show (if m' = mm then _ else st.at m') = st.at m' by rw [if_neg (fun y => hp (by rw [← y]; exact z))])) (Nat.le_refl _)) f)
/-- a switch gets its jumps -/
theorem sw_new {b n lt : Nat} {l' : List Nat} {u : Nat} (ho : xOw M ρ A) (hA : A.length < 80000) (hz : 190 ≤ zsz M) (hs : sep S B M ρ) (hb : B b) (hb3 : gr M b 3 = none) (h1 : gr M b 1 = some (lt, 11, 0)) (hlt : S lt) (hl2 : gi M lt 2 = nI n) (hn : n < 100000) (hCb : C b) :
    ∃ ρ', xOw (sr (zn M n) b 3 (some (zsz M, 100, n))) ρ' A ∧ sep S B (sr (zn M n) b 3 (some (zsz M, 100, n))) ρ' ∧ stF B C M (sr (zn M n) b 3 (some (zsz M, 100, n))) ρ ρ' ∧ rm C u l' M ρ A T (sr (zn M n) b 3 (some (zsz M, 100, n))) ρ' A (T + n + 1) 0 ∧ ρ' (zsz M) = 5 * (100000 + b) ∧ fg (fun x k => x = b ∧ k = 3) M (sr (zn M n) b 3 (some (zsz M, 100, n))) := by
  have f : fg (fun x k => x = b ∧ k = 3) M (sr (zn M n) b 3 (some (zsz M, 100, n))) := fg.zn.tr (fr.sr ⟨rfl, rfl⟩).fg
  have z1 : zsz (sr (zn M n) b 3 (some (zsz M, 100, n))) = zsz M + 1 := rfl
  have z2 : zsu (sr (zn M n) b 3 (some (zsz M, 100, n))) = zsu M + n := rfl
  have v3 : gr (sr (zn M n) b 3 (some (zsz M, 100, n))) b 3 = some (zsz M, 100, n) := by simp only [gr_sr]; simp
  generalize sr (zn M n) b 3 (some (zsz M, 100, n)) = M' at *
  obtain ⟨b1, b2, b3, b4⟩ := hs.1 b (.inr hb)
  obtain ⟨ρ', hρ'⟩ : ∃ ρ' : Nat → Nat, ∀ c, ρ' c = if c = zsz M then 5 * (100000 + b) else ρ c := ⟨_, fun _ => rfl⟩
  have rold : ∀ c, c < zsz M → ρ' c = ρ c := fun c hc => by rw [hρ', if_neg (by omega)]
  have o' : xOw M' ρ' A := ow_fg ho f hA hz (fun k z => by omega) (fun x k hr _ z => by rw [z.1] at hr; exact hr b3) (fun k => .inr (fun z => b4 z.1.symm)) rold (fun x hx hr => by
    by_cases y : x = zsz M
    · omega
    · rw [hρ', if_neg y] at hr
      have := ho.1 x hr
      omega)
  have un : ∀ x, x < zsz M → ∀ k, ¬ (x = b ∧ k = 3) → gi M' x k = gi M x k ∧ gl M' x k = gl M x k ∧ gr M' x k = gr M x k := fun x hx k hk => f.2 x k hx hk
  have l37 : lA M' 37 = lA M 37 := (lA_fg (l := 37) (by omega) f (by omega)).1
  have lC37 : lC M' 37 = lC M 37 := (lA_fg (l := 37) (by omega) f (by omega)).2
  refine ⟨ρ', o', ⟨fun x hx => ?_, hs.2.1, fun b' hb' => ?_⟩, ⟨⟨by omega, by omega, rold⟩, fun x h1 h2 h3 h4 => ⟨(rold x h2).trans h3, by rw [l37]; exact h4, fun k hk => ?_⟩, fun x k hx _ => un x (by omega) k (by omega)⟩, ⟨?_, ⟨by omega, rold, fun _ _ z => z⟩, fun x hx hr _ k => ?_, fun x hx hr _ k => ?_⟩, by rw [hρ', if_pos rfl], f⟩
  · obtain ⟨k1, k2, k3, k4⟩ := hs.1 x hx
    exact ⟨k1, by omega, (rold x k2).trans k3, by rw [l37]; exact k4⟩
  · by_cases y : b' = b
    · subst y
      have nlt : lt ≠ b' := fun z => hs.2.1 lt hlt (by rw [z]; exact hb)
      have := hs.1 lt (.inl hlt)
      exact .inr ⟨zsz M, n, lt, v3, by rw [hρ', if_pos rfl], (un b' b2 1 (by omega)).2.2.trans h1, hlt, (un lt this.2.1 2 (by omega)).1.trans hl2, hn⟩
    · obtain ⟨k1, k2, k3, k4⟩ := hs.1 b' (.inr hb')
      exact sep3_ag (hs.2.2 b' hb') (un b' k2 3 (by omega)).2.2 (un b' k2 1 (by omega)).2.2 (fun x hx => (un x (hs.1 x (.inl hx)).2.1 2 (by omega)).1) (fun r hr => rold r (ho.1 r hr).2)
  · by_cases y : x = b ∧ k = 3
    · exact absurd y.2 (hk (by rw [y.1]; exact hb) (by rw [y.1]; exact hCb))
    · exact ⟨(un x h2 k y).1, (un x h2 k y).2.2⟩
  · have hps := psL_ow (M' := M') ho (fun x hr k => by
      have hx := ho.1 x hr
      have := un x hx.2 k (fun z => by rw [z.1] at hr; exact hr b3)
      exact ⟨this.1, this.2.2⟩)
    rw [lC37]
    omega
  · have := un x hx k (fun z => by rw [z.1] at hr; exact hr b3)
    exact ⟨this.1, this.2.2⟩
  · have := un x hx k (fun z => by rw [z.1] at hr; omega)
    exact ⟨this.1, this.2.2⟩
/-- one of a switch's jumps is noted -/
theorem sw_set {b r k : Nat} {x : Int32} {l' : List Nat} {u : Nat} (ho : xOw M ρ A) (hA : A.length < 80000) (hz : 190 ≤ zsz M) (hs : sep S B M ρ) (hr : ρ r = 5 * (100000 + b)) (hCb : C b) (hu9 : u < 90000) :
    xOw (si M r k x) ρ A ∧ sep S B (si M r k x) ρ ∧ stF B C M (si M r k x) ρ ρ ∧ rm C u l' M ρ A T (si M r k x) ρ A T 0 ∧ fr (fun y _ => y = r) M (si M r k x) := by
  have f : fr (fun y _ => y = r) M (si M r k x) := fr.si rfl
  have br := ho.1 r (by omega)
  generalize si M r k x = M' at *
  have o' : xOw M' ρ A := ow_fg ho f.fg hA hz (fun k z => by omega) (fun x k _ h5 z => by rw [z] at h5; omega) (fun k => .inr (fun z => by have := ho.2.2.1.1; rw [z] at this; omega)) (fun _ _ => rfl) (fun x hx hr => by have := (ho.1 x hr).2; omega)
  have un : ∀ x, ρ x = 0 → ∀ k, gi M' x k = gi M x k ∧ gr M' x k = gr M x k := fun x hx k => by
    have := f.2 x k (fun z => by rw [z] at hx; omega)
    exact ⟨this.1, this.2.2⟩
  have l37 : lA M' 37 = lA M 37 := (lA_fg (l := 37) (by omega) f.fg (by omega)).1
  have lC37 : lC M' 37 = lC M 37 := (lA_fg (l := 37) (by omega) f.fg (by omega)).2
  refine ⟨o', ⟨fun x hx => by rw [f.1.1, l37]; exact hs.1 x hx, hs.2.1, fun b' hb' => sep3_ag (hs.2.2 b' hb') (un b' (hs.1 b' (.inr hb')).2.2.1 3).2 (un b' (hs.1 b' (.inr hb')).2.2.1 1).2 (fun x hx => (un x (hs.1 x (.inl hx)).2.2.1 2).1) (fun _ _ => rfl)⟩, ⟨⟨Nat.le_of_eq f.1.1.symm, Nat.le_of_eq f.1.2.symm, fun _ _ => rfl⟩, fun x h1 h2 h3 h4 => ⟨h3, by rw [l37]; exact h4, fun k _ => un x h3 k⟩, fun x k hx _ => f.2 x k (by omega)⟩, ⟨?_, ⟨Nat.le_of_eq f.1.1.symm, fun _ _ => rfl, fun _ _ z => z⟩, fun y hy hr' hn k => ?_, fun y hy hr' hn k => ?_⟩, f⟩
  · have hps := psL_le (M := M) (M' := M') A (fun y hy => by
      obtain ⟨t, ht⟩ := List.getElem?_of_mem hy
      have htA := (List.getElem?_eq_some_iff.mp ht).1
      obtain ⟨i1, i2, q1, q2, ⟨t1, t2, t3, t4, t5⟩, u0, u1, u2, w1, w2⟩ := ho.2.2.2 t y ht
      have n0 : y ≠ r := fun z => by rw [z] at t1; omega
      have n1 : i1 ≠ r := fun z => by rw [z] at t2; omega
      have n2 : i2 ≠ r := fun z => by rw [z] at t3; omega
      rw [psA_val u1 u2, psA_val ((f.2 y 1 n0).2.2.trans u1) ((f.2 y 2 n0).2.2.trans u2), psJ_same (f.2 i1 1 n1).1 (f.2 i1 0 n1).2.2, psJ_same (f.2 i2 1 n2).1 (f.2 i2 0 n2).2.2]
      exact Nat.le_refl _)
    rw [lC37, f.1.1, f.1.2]
    omega
  · have hyr : y ≠ r := fun z => by
      refine hn (.inl ?_)
      rw [z, hr]
      omega
    have := f.2 y k hyr
    exact ⟨this.1, this.2.2⟩
  · have hyr : y ≠ r := fun z => by
      rw [z, hr] at hn
      exact hn (by rw [show 5 * (100000 + b) / 5 - 100000 = b by omega]; exact hCb)
    have := f.2 y k hyr
    exact ⟨this.1, this.2.2⟩
end
