/-! THE COMPONENT's PARSER: a function begins -/
/-- a Code with its two lists and its variables' array -/
def cdM (M : zM) (f : Nat) (l1 : Int32) (r2 : Option zP) : zM := sr (si (si (si (sr (zn (sr (sr (si (zn (sr (sr (si (zn M 3) (zsz M) 0 (0 : Int32)) (zsz M) 1 (some (1, 110, 0))) f 2 (some ((zsz M), 11, 0))) 3) (zsz M + 1) 0 (0 : Int32)) (zsz M + 1) 1 (some (1, 110, 0))) f 3 (some (zsz M + 1, 11, 0))) 12) f 4 (some (zsz M + 2, 100, 12))) f 7 (-1 : Int32)) f 8 (-1 : Int32)) f 0 l1) f 1 r2
theorem cdM_ok (M : zM) (f : Nat) (l1 : Int32) (r2 : Option zP) (hb : f < zsz M) (h5 : gi M f 5 = 0) (h6 : gi M f 6 = 0) : (gi (cdM M f l1 r2) f 0 = l1 ∧ gr (cdM M f l1 r2) f 1 = r2 ∧ gr (cdM M f l1 r2) f 2 = some (zsz M, 11, 0) ∧ gr (cdM M f l1 r2) f 3 = some (zsz M + 1, 11, 0) ∧ gr (cdM M f l1 r2) f 4 = some (zsz M + 2, 100, 12)) ∧ (gi (cdM M f l1 r2) f 5 = 0 ∧ gi (cdM M f l1 r2) f 6 = 0 ∧ gi (cdM M f l1 r2) f 8 = -1) ∧ (gr (cdM M f l1 r2) (zsz M) 1 = some (1, 110, 0) ∧ gi (cdM M f l1 r2) (zsz M) 2 = 0) ∧ (gr (cdM M f l1 r2) (zsz M + 1) 1 = some (1, 110, 0) ∧ gi (cdM M f l1 r2) (zsz M + 1) 2 = 0) ∧ zsz (cdM M f l1 r2) = zsz M + 3 ∧ zsu (cdM M f l1 r2) = zsu M + 18 ∧ fg (fun x _ => x = f) M (cdM M f l1 r2) := by
  have n1 : ¬ f = zsz M := by omega
  have n2 : ¬ f = zsz M + 1 := by omega
  have n2' : ¬ f = zsz M + 1 + 1 := by omega
  have n3 : ¬ zsz M = f := by omega
  have n4 : ¬ zsz M + 1 = f := by omega
  have n5 : ¬ zsz M = zsz M + 1 := by omega
  have n6 : ¬ zsz M + 1 = zsz M := by omega
  have n7 : ¬ zsz M = zsz M + 1 + 1 := by omega
  have n8 : ¬ zsz M + 1 = zsz M + 1 + 1 := by omega
  refine ⟨⟨?_, ?_, ?_, ?_, ?_⟩, ⟨?_, ?_, ?_⟩, ⟨?_, ?_⟩, ⟨?_, ?_⟩, rfl, rfl, ?_⟩
  · unfold cdM; simp [gi_sr, gi_si]
  · unfold cdM; simp [gr_sr]
  · unfold cdM; simp [gr_sr, gr_si, gr_zn, zsz_sr, zsz_si, zsz_zn, n1, n2, n2']
  · unfold cdM; simp [gr_sr, gr_si, gr_zn, zsz_sr, zsz_si, zsz_zn, n1, n2, n2']
  · unfold cdM; simp [gr_sr, gr_si, gr_zn, zsz_sr, zsz_si, zsz_zn, n1, n2, n2']
  · unfold cdM; simp [gi_sr, gi_si, gi_zn, zsz_sr, zsz_si, zsz_zn, n1, n2, n2', h5]
  · unfold cdM; simp [gi_sr, gi_si, gi_zn, zsz_sr, zsz_si, zsz_zn, n1, n2, n2', h6]
  · unfold cdM; simp [gi_sr, gi_si]
  · unfold cdM; simp [gr_sr, gr_si, gr_zn, zsz_sr, zsz_si, zsz_zn, n3, n5, n7]
  · unfold cdM; simp [gi_sr, gi_si, gi_zn, zsz_sr, zsz_si, zsz_zn, n3, n5, n7]
  · unfold cdM; simp [gr_sr, gr_si, gr_zn, zsz_sr, zsz_si, zsz_zn, n4, n8]
  · unfold cdM; simp [gi_sr, gi_si, gi_zn, zsz_sr, zsz_si, zsz_zn, n4, n6, n8]
  · unfold cdM
    have fA : fg (fun x _ => x = f) M (sr (si (zn M 3) (zsz M) 0 (0 : Int32)) (zsz M) 1 (some (1, 110, 0))) := (fg.zn (n := 3)).tr2 ((fr.si (.inr (Nat.le_refl _))).tr (fr.sr (.inr (Nat.le_refl _)))).fg
    have fB : fg (fun x _ => x = f) M (sr (sr (si (zn M 3) (zsz M) 0 (0 : Int32)) (zsz M) 1 (some (1, 110, 0))) f 2 (some ((zsz M), 11, 0))) := fA.tr2 (fr.sr (.inl rfl)).fg
    have fC : fg (fun x _ => x = f) M (zn (sr (sr (si (zn M 3) (zsz M) 0 (0 : Int32)) (zsz M) 1 (some (1, 110, 0))) f 2 (some ((zsz M), 11, 0))) 3) := fB.tr2 fg.zn
    have fD : fg (fun x _ => x = f) M (sr (sr (si (zn (sr (sr (si (zn M 3) (zsz M) 0 (0 : Int32)) (zsz M) 1 (some (1, 110, 0))) f 2 (some ((zsz M), 11, 0))) 3) (zsz M + 1) 0 (0 : Int32)) (zsz M + 1) 1 (some (1, 110, 0))) f 3 (some (zsz M + 1, 11, 0))) := fC.tr2 (((fr.si (.inr (by omega))).tr (fr.sr (.inr (by omega)))).tr (fr.sr (.inl rfl))).fg
    have fE : fg (fun x _ => x = f) M (zn (sr (sr (si (zn (sr (sr (si (zn M 3) (zsz M) 0 (0 : Int32)) (zsz M) 1 (some (1, 110, 0))) f 2 (some ((zsz M), 11, 0))) 3) (zsz M + 1) 0 (0 : Int32)) (zsz M + 1) 1 (some (1, 110, 0))) f 3 (some (zsz M + 1, 11, 0))) 12) := fD.tr2 fg.zn
    exact fE.tr2 (((((fr.sr (.inl rfl)).tr (fr.si (.inl rfl))).tr (fr.si (.inl rfl))).tr (fr.si (.inl rfl))).tr (fr.sr (.inl rfl))).fg
/-- a function whose text is being read: its Code, its parts, its declared functions -/
def wF (lo : Nat) (M : zM) (τ : Nat → Nat) (f lp ld : Nat) (ps ds : List (Option zP)) : Prop := (lo ≤ f ∧ f < zsz M ∧ τ f = 3) ∧ (gr M f 2 = some (lp, 11, 0) ∧ gr M f 3 = some (ld, 11, 0)) ∧ wL lo M τ lp ps ∧ wL lo M τ ld ds ∧ lp ≠ ld ∧ (lp ≠ lA M ld ∧ ld ≠ lA M lp) ∧ (16 ≤ lA M lp → lA M lp ≠ lA M ld)
section
variable {E : zE} {pp a lf n : Nat} {c : Nat → Int32} {dg : Int32 → List Int32} {K o d : Nat} {Q : zO → zM → Prop}
variable {M0 M M' : zM} {τ0 τ τ' : Nat → Nat} {fs0 fs fs' : List Nat} {s0 s s' : pS} {c0 : Nat → Prop} {C C' : pC} {cz cu cz' cu' lo f lp ld : Nat} {ps ds : List (Option zP)}
theorem wF.k (h : wF lo M τ f lp ld ps ds) (k : kp τ M τ' M') (hl : 190 ≤ lo) : wF lo M' τ' f lp ld ps ds ∧ lC M' lp = lC M lp ∧ lC M' ld = lC M ld := by
  obtain ⟨h1, h2, h3, h4, h5, h6, h7⟩ := h
  have w1 := k.wl h3 hl
  have w2 := k.wl h4 hl
  have c3 : 190 ≤ f ∧ f < zsz M ∧ τ f = 3 := ⟨by omega, h1.2⟩
  refine ⟨⟨⟨h1.1, by have := k.z; omega, (k.2 f h1.2.1).trans h1.2.2⟩, ⟨(k.mvr.cd c3 (by decide) (by decide)).2.trans h2.1, (k.mvr.cd c3 (by decide) (by decide)).2.trans h2.2⟩, w1.1, w2.1, h5, ?_, ?_⟩, w1.2.2, w2.2.2⟩
  · rw [w1.2.1, w2.2.1]; exact h6
  · rw [w1.2.1, w2.2.1]; exact h7
/-- the codes of functions are distinct -/
theorem xPs.dis (h : xPs M τ pp a lf n c fs s C o) {k k' x : Nat} (h1 : fs[k]? = some x) (h2 : fs[k']? = some x) : k = k' := by
  have e8 := h.2.2.2.2.1
  have fl := h.fl
  have tl := h.tz.t_le
  have l1 := (List.getElem?_eq_some_iff.mp h1).1
  have l2 := (List.getElem?_eq_some_iff.mp h2).1
  obtain ⟨⟨-, a1, -⟩, -⟩ := h.2.2.2.2.2 k x _ h1 (List.getElem?_eq_getElem (by omega))
  obtain ⟨⟨-, a2, -⟩, -⟩ := h.2.2.2.2.2 k' x _ h2 (List.getElem?_eq_getElem (by omega))
  exact nI_inj (by omega) (by omega) (a1.symm.trans a2)
/-- a Code's fields 6, 7, 8 -/
theorem xPs.cd6 {j : Nat} {v : Int32} (h : xPs M τ pp a lf n c fs s C o) (hf : 190 ≤ f ∧ f < zsz M ∧ τ f = 3) (hj : 6 ≤ j) : xPs (si M f j v) τ pp a lf n c fs s C o := by
  obtain ⟨⟨h1, h1a, h1z⟩, ⟨h2, h2a, h2b, h2c⟩, h3, ⟨⟨h4, h5, h6⟩, h7⟩, h8, h9⟩ := id h
  have az := h.az
  have g : fg (fun x k => x = f ∧ k = j) M (si M f j v) := (fr.si ⟨rfl, rfl⟩).fg
  have ne : ∀ x, τ x ≠ 3 → x ≠ f := fun x z e => z (by rw [e]; exact hf.2.2)
  have n1 := ne pp (by omega)
  have n2 := ne a (by omega)
  have n3 := ne lf (by omega)
  have ok : ∀ x k, x ≠ f ∨ k < 6 → gi (si M f j v) x k = gi M x k := fun x k z => by
    by_cases e : x = f
    · rw [e]; exact gi_idx (by omega)
    · exact gi_oth e
  refine ⟨⟨xTz_fg h1 g (fun x k z => by omega), h1a, h1z⟩, ⟨h2, h2a, h2b, h2c⟩, ?_, ⟨⟨h4, h5, h6⟩, xLs_fg h7 g (fun k => by omega) (fun k => ?_)⟩, h8, fun k f' q hk hq => ?_⟩
  · obtain ⟨g1, ⟨g4, g4'⟩, g5, g6, g7⟩ := h3
    exact ⟨g1, ⟨(ok pp 4 (.inl n1)).trans g4, g4'⟩, (ok pp 5 (.inl n1)).trans g5, (ok pp 6 (.inl n1)).trans g6, g7⟩
  · by_cases z : lA M lf < 16
    · exact .inl z
    · have := h6 (by omega)
      have := ne _ (show τ (lA M lf) ≠ 3 by omega)
      exact .inr (by omega)
  · obtain ⟨⟨k1, k2, k3, k4⟩, b, mb, k5, k6, k7⟩ := h9 k f' q hk hq
    have nb := ne b (by omega)
    exact ⟨⟨k1, (ok f' 0 (.inr (by decide))).trans k2, k3, k4⟩, b, mb, xVs_fg k5 g (by omega) (by omega) (fun k => by omega), k6, k7⟩
theorem ndX.c6 {j k0 : Nat} {v : Int32} (r1 : xPs M τ pp a lf n c fs s C o) (h : ndX M τ fs c0 s.2.2) (hf : 190 ≤ f ∧ f < zsz M ∧ τ f = 3) (hj : j = 6 ∨ j = 8) (hk : fs[k0]? = some f) (hD : ¬ c0 k0) : ndX (si M f j v) τ fs c0 s.2.2 := fun k f' q h1 h2 h3 => by
  have ok : ∀ x k, x ≠ f ∨ (k ≠ 6 ∧ k ≠ 8) → gi (si M f j v) x k = gi M x k := fun x k z => by
    by_cases e : x = f
    · rw [e]; exact gi_idx (by omega)
    · exact gi_oth e
  have ne : f' ≠ f := fun e => by
    rw [e] at h2
    exact hD (r1.dis hk h2 ▸ h1)
  obtain ⟨d1, d2, d3, lo, hi, d4, ⟨ld, es, d5, d6, d7, d8⟩, lp, gs, D, d9, d10, d11⟩ := h k f' q h1 h2 h3
  have ns : ∀ x, nS lo hi τ x → x ≠ f := fun x zz e => by have := zz.2.2; rw [e] at this; omega
  have nw : ∀ x, nW lo hi τ x → x ≠ f := fun x zz e => by have := zz.2.2; rw [e] at this; omega
  have as : agS (nS lo hi τ) M (si M f j v) := fun x k zz => ⟨ok x k (.inl (ns x zz)), rfl⟩
  have ab : agB (nW lo hi τ) M (si M f j v) := fun x k zz _ => ⟨ok x k (.inl (nw x zz)), rfl⟩
  refine ⟨d1, (ok f' 6 (.inl ne)).trans d2, by rw [ok f' 8 (.inl ne)]; exact d3, lo, hi, d4, ⟨ld, es, d5, xLr_ag d6 as, d7, fun k r hr => ?_⟩, lp, gs, D, d9, d10.mv (fun _ z => z) (fun _ z => z) as ab, d11⟩
  obtain ⟨g, k1, k2, k3, k4, k5⟩ := d8 k r hr
  exact ⟨g, k1, k2, (ok g 0 (.inr (by decide))).trans k3, (ok g 7 (.inr (by decide))).trans k4, k5⟩
theorem rk.cd6 {j : Nat} {v : Int32} (R : rk pp a lf n c M0 τ0 fs0 s0 c0 C o M τ fs s cz cu) (hf : zsz M0 ≤ f ∧ f < zsz M ∧ τ f = 3) (hj : 6 ≤ j) (hX : ndX (si M f j v) τ fs c0 s.2.2) : rk pp a lf n c M0 τ0 fs0 s0 c0 C o (si M f j v) τ fs s cz cu := by
  have z := R.z0
  obtain ⟨r1, ⟨r2a, r2⟩, r3, r4, r5, r6, r7⟩ := R
  have x := r1.cd6 (v := v) (j := j) ⟨by omega, hf.2⟩ hj
  have ok : ∀ x k, x ≠ f ∨ k < 6 → gi (si M f j v) x k = gi M x k := fun x k z => by
    by_cases e : x = f
    · rw [e]; exact gi_idx (by omega)
    · exact gi_oth e
  have e1 : pu (si M f j v) lf fs = pu M lf fs := by
    have lz := r1.2.2.2.1.1
    have nl : lf ≠ f := fun e => by rw [e] at lz; omega
    have a1 : lS (si M f j v) lf = lS M lf := by
      unfold lS lC
      rw [ok lf 2 (.inl nl)]
      rfl
    have a2 : (fs.map (vS (si M f j v))).sum = (fs.map (vS M)).sum := sum_map_eq fs fun f' _ => by
      unfold vS vC
      rw [ok f' 5 (.inr (by decide))]
      rfl
    unfold pu
    rw [a1, a2]
    rfl
  exact ⟨x, ⟨r2a, ⟨r2.1.tr2 (fr.si (.inr hf.1)).fg, r2.2⟩⟩, r3, r4, hX, r6, by rw [e1]; exact r7⟩
/-- cells of the method's own are done -/
theorem rk.fxs (X : Nat → Prop) [DecidablePred X] (h : rk pp a lf n c M0 τ0 fs0 s0 c0 C o M τ fs s cz cu) (hx : ∀ x, X x → zsz M0 ≤ x ∧ x < zsz M ∧ τ x = 1) : ∃ τ', rk pp a lf n c M0 τ0 fs0 s0 c0 C o M τ' fs s cz cu ∧ (∀ y, ¬ X y → τ' y = τ y) ∧ (∀ x, X x → τ' x = 0) ∧ mvr τ M τ' M := by
  obtain ⟨k1, ⟨k2a, k2⟩, k3, k4, k5, k6, k7⟩ := h
  have o1 : ∀ y, ¬ X y → (if X y then 0 else τ y) = τ y := fun y z => if_neg z
  have m : mvr τ M (fun y => if X y then 0 else τ y) M := ⟨fg.rf, fun y _ z => o1 y fun e => z (hx y e).2.2⟩
  have hz := k1.pz
  refine ⟨fun y => if X y then 0 else τ y, ⟨k1.mv fg.rf (P := fun _ _ => False) (fun _ _ _ _ _ _ z => z) (fun y _ z => o1 y fun e => by have := (hx y e).2.2; omega) k1.1.1 (fun y hy => ?_) ⟨rfl, Nat.le_refl _⟩ (fun w y1 y2 y3 => k1.w2 w y1 y2 (by
    have y3 : (if X w then 0 else τ w) = 2 := y3
    by_cases y4 : X w
    · rw [if_pos y4] at y3; omega
    · rw [if_neg y4] at y3; exact y3)) k1.2.2.1, ⟨k2a, k2.1, fun y hy => (o1 y fun e => by have := (hx y e).1; omega).trans (k2.2 y hy)⟩, k3, k4, k5.mv m, k6, k7⟩, o1, fun x z => if_pos z, m⟩
  show (if X y then 0 else τ y) = 0
  rw [if_neg (fun e => by have := (hx y e).2.1; omega)]
  exact k1.1.2.2 y hy
/-- the new function in the list -/
theorem map_app (fs : List Nat) (f : Nat) : ((fs ++ [f]).map fun f => some ((f, 10, 0) : zP)) = (fs.map fun f => some ((f, 10, 0) : zP)) ++ [some (f, 10, 0)] := by rw [List.map_append]; rfl
/-- begun: the new function's number is that of the functions before -/
theorem rk.begun (R : rk pp a lf n c M0 τ0 fs0 s0 c0 C o M τ fs s cz cu) (hl : s.2.2.length ≤ s.1) (hD : ¬ c0 s.2.2.length) (hd : 12 ≤ d) (h1 : cz' + 5 ≤ cz) (h2 : cu' + 100 ≤ cu)
    (hQ : ∀ M' τ', rk pp a lf n c M0 τ0 fs0 s0 c0 C o M' τ' (fs ++ [zsz M]) (s.1, s.2.1, s.2.2 ++ [([], 0, none, C.1, [], gNo)]) cz' cu' → kp τ M τ' M' → wF (zsz M0) M' τ' (zsz M) (zsz M + 1) (zsz M + 2) [] [] → (lC M' (zsz M + 1) = 0 ∧ lC M' (zsz M + 2) = 0 ∧ lA M' (zsz M + 1) = 1 ∧ lA M' (zsz M + 2) = 1) → (gi M' (zsz M) 6 = 0 ∧ gi M' (zsz M) 8 = -1 ∧ gi M' (zsz M) 0 = nI s.2.2.length) → Q (.inl (some (vr (some (zsz M, 10, 0))))) M') : Z E YX9_begun d M [(0, vr (some (pp, 8, 0)))] 0 [] Q := by
  obtain ⟨d, rfl⟩ : ∃ d', d = d' + 12 := ⟨d - 12, by omega⟩
  have z := R.z0
  have h := R.ps
  have pz := h.pz
  have az := h.az
  have fz := h.fcz
  have tl := h.tz.t_le
  obtain ⟨⟨t1, t1a, t1z⟩, ⟨t2, t2a, t2b, t2c, t2d⟩, t3, ⟨⟨t4, t5, t6⟩, t7⟩, t8, t9⟩ := id h
  obtain ⟨⟨fc, hfc, g3⟩, t3'⟩ := id t3
  have size : gi M lf 2 = nI fs.length := by have := t7.2.1; rw [List.length_map] at this; exact this
  refine iX9_begun_0 (d := d + 11) M pp ⟨lf, (by rw [gr_zn, if_neg (by omega)]; exact t2c), ?_⟩
  have e1 : gi (zn M 10) lf 2 = nI fs.length := by rw [gi_zn, if_neg (by have := t7.1.2; omega)]; exact size
  have e2 : gr (zn M 10) pp 3 = some (fc, 10, 0) := by rw [gr_zn, if_neg (by omega)]; exact g3
  rw [e1, e2]
  refine iX11_init_0 (d := d + 7) (zn M 10) (zsz M) _ _ ⟨by show 16 ≤ zsz M + 1; omega, by omega, by show 16 ≤ zsz M + 1 + 1; omega, ?_⟩
  obtain ⟨⟨c0', c1, c2, c3, c4⟩, ⟨c5, c6, c8⟩, ⟨c9, c10⟩, ⟨c11, c12⟩, sz1, su1, f1'⟩ := cdM_ok (zn M 10) (zsz M) (nI fs.length) (some (fc, 10, 0)) (Nat.lt_succ_self _) (by rw [gi_zn, if_pos rfl]) (by rw [gi_zn, if_pos rfl])
  show Z E YX9_begun (d + 11 + 1) (cdM (zn M 10) (zsz M) (nI fs.length) (some (fc, 10, 0))) [(0, vr (some (pp, 8, 0)))] 18 [vr (some (zsz M, 10, 0))] Q
  have ez : zsz (zn M 10) = zsz M + 1 := rfl
  have eu : zsu (zn M 10) = zsu M + 10 := rfl
  rw [ez] at c2 c3 c4 c9 c10 c11 c12 sz1
  rw [eu] at su1
  have f1 : fg (fun _ _ => False) M (cdM (zn M 10) (zsz M) (nI fs.length) (some (fc, 10, 0))) := fg.zn.tr2 (f1'.mono fun x k _ y => .inr (by rw [y]; exact Nat.le_refl _))
  generalize cdM (zn M 10) (zsz M) (nI fs.length) (some (fc, 10, 0)) = M1 at *
  have x7 := xLs_fg t7 f1 (fun _ y => y) (fun _ => .inr fun y => y)
  have la1 := lA_fg t7.1.2 f1 (fun y => y)
  refine sX9_begun_18 M1 pp _ ⟨lf, (f1.gr pz.2.1 (fun y => y)).trans t2c, ?_⟩
  have el : (fs.map fun f => some ((f, 10, 0) : zP)).length = fs.length := List.length_map _
  refine l_add (d := d + 5) x7 (by rw [el]; omega) (fun p e => by cases e; exact sto10) (fun M2 x2 f2 k2 => ?_)
  show Z E YX9_begun (d + 11 + 1) M2 [(1, vr (some (zsz M, 10, 0)))] 27 [vi 1] Q
  refine sX9_begun_27 M2 _ _ ?_
  rw [← map_app] at x2
  have zz2 := f2.1.1
  obtain ⟨kz, ku, kA⟩ := k2
  have lAz : lA M lf < zsz M := by
    rcases t7.2.2.2.2 with ⟨e, -⟩ | ⟨b, m, e, e2, -⟩
    · unfold lA; rw [e]; show 1 < _; omega
    · unfold lA; rw [e]; exact e2.2.1
  have f12 : fg (fun x _ => x = lf ∨ x = lA M lf ∧ 16 ≤ x) M M2 := (f1.mono fun _ _ _ y => y.elim).tr2 (f2.mono fun x k _ y => .inl (by unfold lP at y; rw [la1.1] at y; exact y))
  have nP : ∀ x (k : Nat), τ x ≠ 4 → τ x ≠ 5 → ¬ (x = lf ∨ x = lA M lf ∧ 16 ≤ x) := fun x k y1 y2 y => by
    rcases y with y | ⟨y, y'⟩
    · exact y1 (by rw [y]; exact t5)
    · exact y2 (by rw [y]; exact (t6 (by omega)).2)
  have nL : ∀ x (k : Nat), x < 190 → ¬ (x = lf ∨ x = lA M lf ∧ 16 ≤ x) := fun x k y1 y => by
    rcases y with y | ⟨y, y'⟩
    · omega
    · have := t6 (by omega); omega
  have nN : ∀ x k, zsz M ≤ x → ¬ lP M1 lf x k := fun x k y1 y => by
    rcases y with y | ⟨y, y'⟩
    · have := t7.1.2; omega
    · rw [la1.1] at y; omega
  -- the kinds of cells
  obtain ⟨τ', hτ⟩ : ∃ τ' : Nat → Nat, ∀ x, τ' x = if x < zsz M then τ x else if x = zsz M then 3 else if x = zsz M + 1 ∨ x = zsz M + 2 then 1 else if x = zsz M + 3 then 10 + fs.length else if x < zsz M2 then 5 else 0 := ⟨_, fun _ => rfl⟩
  have ag : ∀ x, x < zsz M → τ' x = τ x := fun x hx => by rw [hτ, if_pos hx]
  have q0 : τ' (zsz M) = 3 := by rw [hτ, if_neg (Nat.lt_irrefl _), if_pos rfl]
  have q1 : τ' (zsz M + 1) = 1 := by rw [hτ, if_neg (by omega), if_neg (by omega), if_pos (.inl rfl)]
  have q2 : τ' (zsz M + 2) = 1 := by rw [hτ, if_neg (by omega), if_neg (by omega), if_pos (.inr rfl)]
  have q3 : τ' (zsz M + 3) = 10 + fs.length := by rw [hτ, if_neg (by omega), if_neg (by omega), if_neg (by omega), if_pos rfl]
  have q4 : ∀ x, zsz M + 4 ≤ x → x < zsz M2 → τ' x = 5 := fun x y1 y2 => by rw [hτ, if_neg (by omega), if_neg (by omega), if_neg (by omega), if_neg (by omega), if_pos y2]
  have q5 : ∀ x, zsz M2 ≤ x → τ' x = 0 := fun x y1 => by rw [hτ, if_neg (by omega), if_neg (by omega), if_neg (by omega), if_neg (by omega), if_neg (by omega)]
  have gnew : ∀ x k, zsz M ≤ x → x < zsz M1 → gi M2 x k = gi M1 x k ∧ gr M2 x k = gr M1 x k := fun x k y1 y2 => ⟨f2.gi y2 (nN x k y1), f2.gr y2 (nN x k y1)⟩
  have kpp : fg (pU τ) M M2 := f12.mono fun x k _ y => by
    rcases y with y | ⟨y, y'⟩
    · exact .inr ⟨by omega, .inl (by rw [y, t5]; omega)⟩
    · have := t6 (by omega)
      exact .inr ⟨by omega, .inl (by rw [y, this.2]; omega)⟩
  have gFc : ∀ k, gi M2 (zsz M) k = gi M1 (zsz M) k ∧ gr M2 (zsz M) k = gr M1 (zsz M) k := fun k => gnew _ k (Nat.le_refl _) (by omega)
  have gP : ∀ k, gi M2 (zsz M + 1) k = gi M1 (zsz M + 1) k ∧ gr M2 (zsz M + 1) k = gr M1 (zsz M + 1) k := fun k => gnew _ k (by omega) (by omega)
  have gD : ∀ k, gi M2 (zsz M + 2) k = gi M1 (zsz M + 2) k ∧ gr M2 (zsz M + 2) k = gr M1 (zsz M + 2) k := fun k => gnew _ k (by omega) (by omega)
  have eP : gr M2 (zsz M + 1) 1 = some (1, 110, 0) := (gP 1).2.trans c9
  have eD : gr M2 (zsz M + 2) 1 = some (1, 110, 0) := (gD 1).2.trans c11
  have aP : lA M2 (zsz M + 1) = 1 ∧ lC M2 (zsz M + 1) = 0 := by unfold lA lC; rw [eP]; exact ⟨rfl, rfl⟩
  have aD : lA M2 (zsz M + 2) = 1 ∧ lC M2 (zsz M + 2) = 0 := by unfold lA lC; rw [eD]; exact ⟨rfl, rfl⟩
  have fcl := (List.getElem?_eq_some_iff.mp hfc).1
  have pq : ∀ k : Nat, ¬ (pp = lf ∨ pp = lA M lf ∧ 16 ≤ pp) := fun k => nP pp k (by omega) (by omega)
  have xps : xPs M2 τ' pp a lf n c (fs ++ [zsz M]) (s.1, s.2.1, s.2.2 ++ [([], 0, none, C.1, [], gNo)]) C o := by
    refine ⟨⟨(show xTz M2 a n c s from xTz_fg t1 f12 (fun x k y => ?_)), (ag a az.2.1).trans t1a, q5⟩, ⟨⟨t2.1, by omega, (ag pp t2.2.1).trans t2.2.2⟩, (f12.gr t2.2.1 (pq 0)).trans t2a, (f12.gr t2.2.1 (pq 1)).trans t2b, (f12.gr t2.2.1 (pq 2)).trans t2c, ?_, (fun q hq => ?_), fun w y1 y2 y3 => ?_⟩, ?_, ⟨⟨t4, (ag lf t7.1.2).trans t5, fun y => ?_⟩, x2⟩, ?_, fun k f' q hk hq => ?_⟩
    · rcases y with y | y
      · exact nL x k y
      · rw [y]; exact nP a k (by omega) (by omega)
    · show (s.2.2 ++ [_]).length ≤ s.1 + 1
      rw [List.length_append]
      show s.2.2.length + 1 ≤ _
      omega
    · rcases List.mem_append.mp hq with y | y
      · exact t2d.2.1 q y
      · rw [List.mem_singleton.mp y]; exact Nat.zero_le _
    · by_cases y : w < zsz M
      · have y3 := (ag w y).symm.trans y3
        exact (f12.gr y (nP w 3 (by omega) (by omega))).trans (t2d.2.2 w y1 y y3)
      · by_cases b0 : w = zsz M
        · rw [b0, q0] at y3; omega
        by_cases b1 : w = zsz M + 1
        · rw [b1, q1] at y3; omega
        by_cases b2 : w = zsz M + 2
        · rw [b2, q2] at y3; omega
        by_cases b3 : w = zsz M + 3
        · rw [b3, q3] at y3; omega
        · rw [q4 w (by omega) y2] at y3; omega
    · obtain ⟨⟨g4, g4'⟩, g5, g6, g7⟩ := t3'
      exact ⟨⟨fc, (by rw [List.getElem?_append_left fcl]; exact hfc), (f12.gr pz.2.1 (pq 3)).trans g3⟩, ⟨(f12.gi pz.2.1 (pq 4)).trans g4, g4'⟩, (f12.gi pz.2.1 (pq 5)).trans g5, (f12.gi pz.2.1 (pq 6)).trans g6, g7⟩
    · have bz : lA M2 lf < zsz M2 := by
        rcases x2.2.2.2.2 with ⟨e, -⟩ | ⟨b, m, e, e2, -⟩
        · unfold lA; rw [e]; show 1 < _; omega
        · unfold lA; rw [e]; exact e2.2.1
      rcases kA with w | w
      · rw [w, la1.1] at y ⊢
        have := t6 y
        exact ⟨this.1, (ag _ lAz).trans this.2⟩
      · exact ⟨by omega, q4 _ (by omega) bz⟩
    · show (fs ++ [zsz M]).length = (s.2.2 ++ [_]).length
      rw [List.length_append, List.length_append, t8]
      rfl
    · have hq : (s.2.2 ++ [(([], 0, none, C.1, [], gNo) : gF)])[k]? = some q := hq
      by_cases y : k < fs.length
      · rw [List.getElem?_append_left y] at hk
        rw [List.getElem?_append_left (by omega)] at hq
        obtain ⟨⟨k1, k2, k3, k4⟩, b, mb, k5, k6, k7⟩ := t9 k f' q hk hq
        have hz := k5.2.2.2.2.1
        have hb := k5.2.2.2.1
        have fP : ∀ i : Nat, ¬ (f' = lf ∨ f' = lA M lf ∧ 16 ≤ f') := fun i => nP f' i (by omega) (by omega)
        have bP : ∀ i : Nat, ¬ (b = lf ∨ b = lA M lf ∧ 16 ≤ b) := fun i => nP b i (by omega) (by omega)
        refine ⟨⟨(ag f' hz.2).trans k1, (f12.gi hz.2 (fP 0)).trans k2, fun e => (f12.gr hz.2 (fP 1)).trans (k3 e), fun e => ?_⟩, b, mb, xVs_fg k5 f12 (fP 4) (fP 5) bP, (ag b hb.2.1).trans k6, k7⟩
        obtain ⟨g', e1, e2⟩ := k4 e
        exact ⟨g', (by rw [List.getElem?_append_left (List.getElem?_eq_some_iff.mp e1).1]; exact e1), (f12.gr hz.2 (fP 1)).trans e2⟩
      · have kl := (List.getElem?_eq_some_iff.mp hk).1
        rw [List.length_append] at kl
        have kl : k < fs.length + 1 := kl
        have ek : k = fs.length := by omega
        subst ek
        rw [List.getElem?_append_right (Nat.le_refl _), Nat.sub_self] at hk
        cases hk
        rw [t8, List.getElem?_append_right (Nat.le_refl _), Nat.sub_self] at hq
        cases hq
        refine ⟨⟨q0, (gFc 0).1.trans c0', fun e => by omega, fun _ => ⟨fc, (by show (fs ++ [zsz M])[C.1]? = some fc; rw [List.getElem?_append_left fcl]; exact hfc), (gFc 1).2.trans c1⟩⟩, zsz M + 3, 12, ⟨(gFc 4).2.trans c4, (gFc 5).1.trans c5, ⟨Nat.zero_le _, Nat.le_refl _, by omega⟩, ⟨by omega, by omega, by omega⟩, ⟨by omega, by omega⟩, fun i hi => absurd hi (Nat.not_lt_zero _), fun y hy => by cases hy⟩, q3, by omega⟩
  obtain ⟨r1, ⟨r2a, r2⟩, r3, r4, r5, r6, r7⟩ := R
  have kk : kp τ M τ' M2 := ⟨kpp, ag⟩
  have room : pu M2 lf (fs ++ [zsz M]) ≤ pu M lf fs + 36 := by
    have lc := lC_le x2
    rw [map_app, List.length_append, el] at lc
    have lc : 4 * lC M2 lf ≤ 40 + 8 * (fs.length + 1) := lc
    have s2 : gi M2 lf 2 = nI (fs.length + 1) := by have := x2.2.1; rw [List.length_map, List.length_append] at this; exact this
    have a1 : lS M2 lf = 40 + 8 * (fs.length + 1) - 4 * lC M2 lf := by unfold lS; rw [s2, nI_clamp (by omega)]
    have a2 : lS M lf = 40 + 8 * fs.length - 4 * lC M lf := by unfold lS; rw [size, nI_clamp (by omega)]
    have a3 : (fs.map (vS M2)).sum = (fs.map (vS M)).sum := sum_map_eq fs fun f' hf => by
      have := fz f' hf
      have fP : ∀ i : Nat, ¬ (f' = lf ∨ f' = lA M lf ∧ 16 ≤ f') := fun i => nP f' i (by omega) (by omega)
      unfold vS vC
      rw [f12.gi this.2.1 (fP 5), f12.gr this.2.1 (fP 4)]
    have a4 : vS M2 (zsz M) = 0 := by
      unfold vS vC
      rw [(gFc 5).1, c5, (gFc 4).2, c4]
      rfl
    unfold pu
    rw [List.map_append, List.sum_append, a3]
    show zsu M2 + lS M2 lf + (_ + ([vS M2 (zsz M)]).sum) ≤ _
    rw [show ([vS M2 (zsz M)]).sum = vS M2 (zsz M) from by simp, a4, a1, a2]
    rw [la1.2] at ku
    omega
  refine hQ M2 τ' ⟨xps, ⟨r2a, r2.tr (kpp.stp ag)⟩, r3.trans (List.prefix_append _ _), r4, fun k f' q y1 y2 y3 => ?_, by dsimp only; omega, by dsimp only; omega⟩ kk ⟨⟨z.2, by omega, q0⟩, ⟨(gFc 2).2.trans c2, (gFc 3).2.trans c3⟩, wL_mk ((gP 2).1.trans c10) eP ⟨by omega, by omega⟩ ⟨by omega, q1⟩, wL_mk ((gD 2).1.trans c12) eD ⟨by omega, by omega⟩ ⟨by omega, q2⟩, by omega, ?_, ?_⟩ ⟨aP.2, aD.2, aP.1, aD.1⟩ ⟨(gFc 6).1.trans c6, (gFc 8).1.trans c8, by rw [← t8]; exact (gFc 0).1.trans c0'⟩
  · have y3 : (s.2.2 ++ [(([], 0, none, C.1, [], gNo) : gF)])[k]? = some q := y3
    have kl := (List.getElem?_eq_some_iff.mp y2).1
    rw [List.length_append] at kl
    have kl : k < fs.length + 1 := kl
    have kn : k ≠ s.2.2.length := fun e => hD (e ▸ y1)
    rw [List.getElem?_append_left (by omega)] at y2 y3
    exact (r5 k f' q y1 y2 y3).mv kk.mvr
  · rw [aP.1, aD.1]; exact ⟨by omega, by omega⟩
  · rw [aP.1]; intro y; omega
end
