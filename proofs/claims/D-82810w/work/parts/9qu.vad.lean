/-! THE COMPONENT's PARSER: a variable of the function -/
theorem sum_one {f : Nat} {g h : Nat → Nat} : ∀ (l : List Nat) (i : Nat), l[i]? = some f → (∀ (k x : Nat), l[k]? = some x → k ≠ i → g x = h x) → (l.map g).sum + h f = (l.map h).sum + g f
  | [], i, e, _ => by cases e
  | x :: l, 0, e, hk => by
    cases e
    have : (l.map g).sum = (l.map h).sum := sum_map_eq l fun y hy => by
      obtain ⟨k, hk'⟩ := List.mem_iff_getElem?.mp hy
      exact hk (k + 1) y hk' (by omega)
    rw [List.map_cons, List.map_cons, List.sum_cons, List.sum_cons]
    omega
  | x :: l, i + 1, e, hk => by
    have h1 := sum_one l i e (fun k y hy hne => hk (k + 1) y hy (by omega))
    have h2 := hk 0 x rfl (by omega)
    rw [List.map_cons, List.map_cons, List.sum_cons, List.sum_cons]
    omega
theorem adV_at {c y : Nat} {F : List gF} {q : gF} (hq : F[c]? = some q) : adV c y F = F.set c (vsA q.1 y, q.2) := by
  unfold adV
  rw [hq]
  rfl
section
variable {E : zE} {pp a lf n : Nat} {c : Nat → Int32} {dg : Int32 → List Int32} {K o d : Nat}
variable {M0 M : zM} {τ0 τ : Nat → Nat} {fs0 fs : List Nat} {s0 s : pS} {c0 : Nat → Prop} {C : pC} {cz cu cz' cu' : Nat}
theorem vsA_len (vs : List Nat) (y : Nat) : vs.length ≤ (vsA vs y).length ∧ (vsA vs y).length ≤ vs.length + 1 := by
  unfold vsA
  split
  · omega
  · rw [List.length_append]
    show _ ≤ vs.length + 1 ∧ vs.length + 1 ≤ _
    omega
/-- the parser's state where a variable was added to the function -/
theorem xPs.hld {M' : zM} {τ' : Nat → Nat} {f b mb b' mb' y : Nat} {q : gF} (h : xPs M τ pp a lf n c fs s C o) (hf : fs[C.1]? = some f) (hq : s.2.2[C.1]? = some q) (hx : xVs M f b mb q.1) (hb : τ b = 10 + C.1) (hmb : mb ≤ 12 + 2 * q.1.length) (hl : q.1.length < s.1) (x' : xVs M' f b' mb' (vsA q.1 y)) (g : fg (vP f b) M M') (hb' : b' = b ∨ zsz M ≤ b') (hm' : mb' = mb ∨ mb' = 2 * q.1.length) (hu : zsu M' + 2 * mb = zsu M + 2 * mb') (ag : ∀ x, x < zsz M → τ' x = τ x) (on : ∀ x, zsz M ≤ x → x < zsz M' → τ' x = 10 + C.1) (hi : ∀ x, zsz M' ≤ x → τ' x = 0) :
    xPs M' τ' pp a lf n c fs (hld C.1 y s) C o ∧ pu M' lf fs ≤ pu M lf fs + 4 := by
  have fz := h.fcz
  have pz := h.pz
  have az := h.az
  have fl := h.fl
  have vl := h.vl
  have tl := h.tz.t_le
  obtain ⟨⟨h1, h1a, h1z⟩, ⟨h2, h2a, h2b, h2c, h2d⟩, h3, ⟨⟨h4, h5, h6⟩, h7⟩, h8, h9⟩ := id h
  have zz := g.1.1
  obtain ⟨⟨k1, k2, k3, k4⟩, -⟩ := h9 C.1 f q hf hq
  have hz := hx.2.2.2.2.1
  have hbz := hx.2.2.2.1
  have nP : ∀ x k, 190 ≤ x → τ x ≠ 10 + C.1 → x ≠ f → ¬ vP f b x k := fun x k _ z1 z2 z => by
    rcases z with z | z
    · exact z2 z.1
    · exact z1 (by rw [z]; exact hb)
  have nlow : ∀ x k, x < 190 → ¬ vP f b x k := fun x k z1 z => by
    rcases z with z | z
    · have := z.1; omega
    · omega
  have nf : ∀ x, τ x ≠ 3 → x ≠ f := fun x z e => z (by rw [e]; exact k1)
  have pq : ∀ k, ¬ vP f b pp k := fun k => nP pp k pz.1 (by omega) (nf pp (by omega))
  have aq : ∀ k, ¬ vP f b a k := fun k => nP a k az.1 (by omega) (nf a (by omega))
  have lq : ∀ k, ¬ vP f b lf k := fun k => nP lf k h4 (by omega) (nf lf (by omega))
  have la := lA_fg h7.1.2 g (lq 1)
  have lb : ∀ k, lA M lf < 16 ∨ ¬ vP f b (lA M lf) k := fun k => by
    by_cases z : lA M lf < 16
    · exact .inl z
    · have := h6 (by omega)
      exact .inr (nP _ k this.1 (by omega) (nf _ (by omega)))
  have el := h8
  have cl := (List.getElem?_eq_some_iff.mp hq).1
  have eA := adV_at (c := C.1) (y := y) hq
  have len := vsA_len q.1 y
  have oth : ∀ (k f' : Nat), fs[k]? = some f' → k ≠ C.1 → f' ≠ f := fun k f' hk hne e => by
    have kl := (List.getElem?_eq_some_iff.mp hk).1
    obtain ⟨⟨-, j2, -⟩, -⟩ := h9 k f' _ hk (List.getElem?_eq_getElem (by omega))
    rw [e, k2] at j2
    exact hne (nI_inj (by omega) (by omega) j2).symm
  have t3 : ∀ (k f' : Nat), fs[k]? = some f' → 190 ≤ f' ∧ f' < zsz M ∧ τ f' = 3 := fun k f' hk => fz f' (List.mem_iff_getElem?.mpr ⟨k, hk⟩)
  refine ⟨⟨⟨xTz_fg h1 g (fun x k z => ?_), (ag a az.2.1).trans h1a, hi⟩, ⟨⟨h2.1, by omega, (ag pp h2.2.1).trans h2.2.2⟩, (g.gr h2.2.1 (pq 0)).trans h2a, (g.gr h2.2.1 (pq 1)).trans h2b, (g.gr h2.2.1 (pq 2)).trans h2c, ?_, (fun q' hq' => ?_), fun w y1 y2 y3 => ?_⟩, ?_, ⟨⟨h4, (ag lf h7.1.2).trans h5, fun z => ?_⟩, xLs_fg h7 g lq lb⟩, ?_, fun k f' q' hk hq' => ?_⟩, ?_⟩
  · rcases z with z | z
    · exact nlow x k z
    · rw [z]; exact aq k
  · show (adV C.1 y s.2.2).length ≤ s.1 + 1
    rw [eA, List.length_set]
    exact fl
  · have hq' : q' ∈ adV C.1 y s.2.2 := hq'
    rw [eA] at hq'
    show q'.1.length ≤ s.1
    rcases List.mem_or_eq_of_mem_set hq' with z | z
    · exact vl q' z
    · rw [z]
      show (vsA q.1 y).length ≤ s.1
      omega
  · by_cases yw : w < zsz M
    · have y3 := (ag w yw).symm.trans y3
      exact (g.gr yw (nP w 3 y1 (by omega) (nf w (by omega)))).trans (h.w2 w y1 yw y3)
    · rw [on w (by omega) y2] at y3; omega
  · obtain ⟨⟨g1, g2, g3⟩, ⟨g4, g4'⟩, g5, g6, g7⟩ := h3
    exact ⟨⟨g1, g2, (g.gr pz.2.1 (pq 3)).trans g3⟩, ⟨(g.gi pz.2.1 (pq 4)).trans g4, g4'⟩, (g.gi pz.2.1 (pq 5)).trans g5, (g.gi pz.2.1 (pq 6)).trans g6, g7⟩
  · rw [la.1] at z ⊢
    have := h6 z
    refine ⟨this.1, (ag _ ?_).trans this.2⟩
    rcases h7.2.2.2.2 with ⟨e, -⟩ | ⟨b, m, e, e2, -⟩
    · unfold lA at z; rw [e] at z; exact absurd z (by decide)
    · unfold lA; rw [e]; exact e2.2.1
  · show fs.length = (adV C.1 y s.2.2).length
    rw [eA, List.length_set]
    exact h8
  · have hq' : (adV C.1 y s.2.2)[k]? = some q' := hq'
    rw [eA] at hq'
    by_cases hk' : k = C.1
    · subst hk'
      rw [hf] at hk
      cases hk
      rw [List.getElem?_set_self cl] at hq'
      cases hq'
      have n4 : ∀ j, j ≠ 4 → j ≠ 5 → ¬ vP f b f j := fun j j1 j2 z => by
        rcases z with z | z
        · have := z.2; omega
        · exact hbz.2.2 z.symm
      refine ⟨⟨(ag f hz.2).trans k1, (g.gi hz.2 (n4 0 (by decide) (by decide))).trans k2, fun e => (g.gr hz.2 (n4 1 (by decide) (by decide))).trans (k3 e), fun e => ?_⟩, b', mb', x', ?_, ?_⟩
      · obtain ⟨g', e1, e2⟩ := k4 e
        exact ⟨g', e1, (g.gr hz.2 (n4 1 (by decide) (by decide))).trans e2⟩
      · have bz' := x'.2.2.2.1
        rcases hb' with z | z
        · rw [z, ag b hbz.2.1]; exact hb
        · exact on b' z bz'.2.1
      · show mb' ≤ 12 + 2 * (vsA q.1 y).length
        omega
    · rw [List.getElem?_set_ne (Ne.symm hk')] at hq'
      obtain ⟨⟨j1, j2, j3, j4⟩, b2, m2, j5, j6, j7⟩ := h9 k f' q' hk hq'
      have z2 := j5.2.2.2.2.1
      have bz2 := j5.2.2.2.1
      have nff := oth k f' hk hk'
      have fP : ∀ i, ¬ vP f b f' i := fun i => nP f' i z2.1 (by omega) nff
      have bP : ∀ i, ¬ vP f b b2 i := fun i => nP b2 i bz2.1 (by omega) (nf b2 (by omega))
      refine ⟨⟨(ag f' z2.2).trans j1, (g.gi z2.2 (fP 0)).trans j2, fun e => (g.gr z2.2 (fP 1)).trans (j3 e), fun e => ?_⟩, b2, m2, xVs_fg j5 g (fP 4) (fP 5) bP, (ag b2 bz2.2.1).trans j6, j7⟩
      obtain ⟨g', e1, e2⟩ := j4 e
      exact ⟨g', e1, (g.gr z2.2 (fP 1)).trans e2⟩
  · have e1 : lS M' lf = lS M lf := by
      unfold lS
      rw [la.2, g.gi h7.1.2 (lq 2)]
    have e2 := sum_one (f := f) (g := vS M') (h := vS M) fs C.1 hf (fun k x hk hne => by
      have z2 := t3 k x hk
      have nff := oth k x hk hne
      have fP : ∀ i, ¬ vP f b x i := fun i => nP x i z2.1 (by omega) nff
      unfold vS vC
      rw [g.gi z2.2.1 (fP 5), g.gr z2.2.1 (fP 4)])
    have e3 : vS M f = 24 + 4 * q.1.length - 2 * mb := by
      unfold vS vC
      rw [hx.1, hx.2.1, nI_clamp (by omega)]
    have e4 : vS M' f = 24 + 4 * (vsA q.1 y).length - 2 * mb' := by
      unfold vS vC
      rw [x'.1, x'.2.1, nI_clamp (by omega)]
    unfold pu
    rw [e1]
    omega
/-- a name becomes a variable -/
theorem rk.add {y : Nat} (R : rk pp a lf n c M0 τ0 fs0 s0 c0 C o M τ fs s cz cu) (hc : C.1 = C.1) (hy : y < 100000) (hl : ∀ q ∈ s.2.2, q.1.length < s.1) (hd : 2 ≤ d) (h1 : cz' + 1 ≤ cz) (h2 : cu' + 4 ≤ cu) : ∃ f, gr M pp 3 = some (f, 10, 0) ∧ ∀ Q : zO → zM → Prop, (∀ M' τ', rk pp a lf n c M0 τ0 fs0 s0 c0 C o M' τ' fs (hld C.1 y s) cz' cu' → kp τ M τ' M' → Q (.inl none) M') → Z E YX11_add d M [(0, vr (some (f, 10, 0))), (1, vi (nI y))] 0 [] Q := by
  obtain ⟨d, rfl⟩ : ∃ d', d = d' + 1 := ⟨d - 1, by omega⟩
  have h := R.ps
  have tl := h.tz.t_le
  obtain ⟨⟨f, hf, g3⟩, -⟩ := id h.2.2.1
  refine ⟨f, g3, fun Q hQ => ?_⟩
  have e8 := h.2.2.2.2.1
  have fl := (List.getElem?_eq_some_iff.mp hf).1
  have hq : s.2.2[C.1]? = some (s.2.2[C.1]'(by omega)) := List.getElem?_eq_getElem (by omega)
  have hm : s.2.2[C.1]'(by omega) ∈ s.2.2 := List.getElem_mem _
  generalize s.2.2[C.1]'(by omega) = q at *
  obtain ⟨⟨k1, k2, k3, k4⟩, b, mb, hx, hb, hmb⟩ := h.2.2.2.2.2 C.1 f q hf hq
  have ql := hl q hm
  refine y_vadd (d := d) hx hy (by omega) (by omega) (fun M' b' mb' x' g hb' ⟨v1, v2, v3⟩ => ?_)
  have zz := g.1.1
  have hz := hx.2.2.2.2.1
  have hbz := hx.2.2.2.1
  have ag : ∀ x, x < zsz M → (fun x => if zsz M ≤ x ∧ x < zsz M' then 10 + C.1 else τ x) x = τ x := fun x hx => if_neg (by omega)
  obtain ⟨p1, p2⟩ := h.hld (τ' := fun x => if zsz M ≤ x ∧ x < zsz M' then 10 + C.1 else τ x) hf hq hx hb hmb ql x' g hb' v3 v2 ag (fun x z1 z2 => if_pos ⟨z1, z2⟩) (fun x z => by
    show (if zsz M ≤ x ∧ x < zsz M' then 10 + C.1 else τ x) = 0
    rw [if_neg (by omega)]
    exact h.1.2.2 x (by omega))
  have fp : fg (pU τ) M M' := g.mono fun x k _ z => by
    unfold pU
    rcases z with z | z
    · exact .inr ⟨by have := z.1; omega, .inr ⟨by rw [z.1]; exact k1, z.2⟩⟩
    · exact .inr ⟨by omega, .inl (by rw [z, hb]; omega)⟩
  generalize (fun x => if zsz M ≤ x ∧ x < zsz M' then 10 + C.1 else τ x) = τ' at *
  refine hQ M' τ' ?_ ⟨fp, ag⟩
  obtain ⟨r1, ⟨r2a, r2⟩, r3, r4, r5, r6, r7⟩ := R
  have st : stp (zsz M0) τ M τ' M' := fp.stp ag
  have ha : adv C.1 s (hld C.1 y s) := adv_hld y s
  have e1 : (hld C.1 y s).1 = s.1 := rfl
  refine ⟨p1, ⟨r2a, r2.tr st⟩, r3, by rw [e1]; exact r4, r5.un (fun k f q h1 h2 h3 => ?_) (st.mvr r2a) (List.prefix_refl _) ha e8, by rw [e1]; omega, by rw [e1]; omega⟩
  have := p1.2.2.2.2.1
  have kl := (List.getElem?_eq_some_iff.mp h2).1
  omega
end
