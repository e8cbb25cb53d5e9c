/-! THE COMPONENT's PARSER: new -/
theorem ar_m {Ub PU s2 s s4 r w c2 c5 : Nat} (h : Ub + 600 + 150 * r ≤ PU + 400 * (s2 - s) + 5 + 4 * c2) (hw : w + 4 * c2 = 4 * c5) (h1 : s ≤ s2) (h2 : s2 < s4) : Ub + 400 * (s4 - s2) - 200 + w + 600 + 150 * (r + 1) ≤ PU + 400 * (s4 - s) + 5 + 4 * c5 := by omega
section
variable {E : zE} {pp a lf n : Nat} {c : Nat → Int32} {dg : Int32 → List Int32} {K o : Nat}
theorem rn.fin {M0 M : zM} {τ0 τ : Nat → Nat} {fs0 fs : List Nat} {s0 s : pS} {c0 : Nat} {C : pC} {Zb Ub : Nat} (h : rn pp a lf n c M0 τ0 fs0 s0 c0 C o M τ fs s Zb Ub) : rn pp a lf n c M0 τ0 fs0 s0 c0 C o M (fin (zsz M0) τ) fs s Zb Ub := by
  obtain ⟨k1, ⟨k2a, k2⟩, k3, k4, k5, k6, k7⟩ := h
  exact ⟨pU_fin k1, ⟨k2a, k2.1, fun x hx => (fin_lt hx).trans (k2.2 x hx)⟩, k3, k4, k5.mv fin_mvr, k6, k7⟩
theorem isK_k {j : Int32} {s : pS} (h : isK (zOf n c dg) j s = true) : (tkn n c s.1).1 = 2 ∧ (tkn n c s.1).2.1 = j := by
  unfold isK at h
  have := Bool.and_eq_true_iff.mp h
  exact ⟨of_decide_eq_true this.1, of_decide_eq_true this.2⟩
theorem tkg2 {t : Nat} (h : (tkn n c t).1 = 2) : tkg (tkn n c t) ∧ ¬ ((tkn n c t).1 = 1 ∨ (tkn n c t).1 = 4) := ⟨⟨by rw [h]; decide, by rw [h]; decide⟩, by rw [h]; decide⟩
/-- member through P's table -/
def cMr (E : zE) (pp a lf n : Nat) (c : Nat → Int32) (dg : Int32 → List Int32) (dm o D : Nat) (r : pT) : Prop := ∃ f, cMm E pp a lf n c dg dm o D f ∧ ∀ e C s, r.mem e C s = bnd (f C s) fun k s => prt (vMm e.1 k) s
theorem pMems_0 {r : pT} {C : pC} {f : Nat} {e : gV} {s : pS} (h2 : (isS (zOf n c dg) 30 s || isS (zOf n c dg) 28 s) = false) : pMems (zOf n c dg) r C (f + 1) e s = .ok (e, s) := by
  rw [pMems, if_neg (by rw [h2]; decide)]; rfl
theorem y_md37 {d : Nat} {Q : zO → zM → Prop} {M : zM} {s : pS} {r1 r2 : Option zP} (h : xTz M a n c s) (hp : gr M pp 1 = some (a, 9, 0)) (hQ : (isS (zOf n c dg) 30 s || isS (zOf n c dg) 28 s) = false → Z E YX9_made (d + 1) M [(0, vr (some (pp, 8, 0))), (1, vr r1), (2, vr r2)] 57 [vi 0] Q)
    (hZ : (isS (zOf n c dg) 30 s || isS (zOf n c dg) 28 s) = true → Z E YX9_made (d + 1) M [(0, vr (some (pp, 8, 0))), (1, vr r1), (2, vr r2)] 60 [] Q) : Z E YX9_made (d + 1) M [(0, vr (some (pp, 8, 0))), (1, vr r1), (2, vr r2)] 37 [] Q := by
  have e6 : sgX (nI 30) = 6 := by decide +kernel
  have e4 : sgX (nI 28) = 4 := by decide +kernel
  refine sX9_made_37 M pp _ _ ⟨a, hp, ?_⟩
  refine y_is (dg := dg) (j := 30) (by decide) e6 h ?_
  show Z E YX9_made (d + 1) M [(0, vr (some (pp, 8, 0))), (1, vr r1), (2, vr r2)] 46 [vi (if isS (zOf n c dg) (nI 30) s then 1 else 0)] Q
  refine sX9_made_46 M pp _ _ _ ?_
  cases h30 : isS (zOf n c dg) 30 s with
  | true =>
    rw [show isS (zOf n c dg) (nI 30) s = true from h30, if_pos rfl, if_neg (by decide)]
    exact hZ (by rw [h30]; rfl)
  | false =>
    rw [show isS (zOf n c dg) (nI 30) s = false from h30, if_neg (by decide : ¬ false = true), if_pos rfl]
    refine ⟨a, hp, ?_⟩
    refine y_is (dg := dg) (j := 28) (by decide) e4 h ?_
    show Z E YX9_made (d + 1) M [(0, vr (some (pp, 8, 0))), (1, vr r1), (2, vr r2)] 57 [vi (if isS (zOf n c dg) (nI 28) s then 1 else 0)] Q
    cases h28 : isS (zOf n c dg) 28 s with
    | true =>
      rw [show isS (zOf n c dg) (nI 28) s = true from h28, if_pos rfl]
      refine sX9_made_57 M pp _ _ _ ?_
      rw [if_neg (by decide)]
      exact hZ (by rw [h28, h30]; rfl)
    | false =>
      rw [show isS (zOf n c dg) (nI 28) s = false from h28, if_neg (by decide : ¬ false = true)]
      exact hQ (by rw [h28, h30]; rfl)
/-- its members -/
theorem y_mds {r : pT} {DL dP d : Nat} {C : pC} {Q : zO → zM → Prop} {M0 : zM} {τ0 : Nat → Nat} {fs0 : List Nat} {s0 : pS} {p1 : zP} {x0 : gEx} (hM : cMr E pp a lf n c dg dP o DL r) (hr : okT r) (h3 : 3 ≤ DL) (hd : dP ≤ d + 14) (z190 : 190 ≤ zsz M0) (hx : gok x0) :
    ∀ (f : Nat) (M : zM) (τ : Nat → Nat) (fs : List Nat) (s : pS) (Zb Ub b l : Nat) (es : List (Option zP)) (sf : List gSf) (e : gV), 1300 ≤ f + s.1 →
    (∀ v s', pMems (zOf n c dg) r C f e s = .ok (v, s') → ∀ M' τ' fs' Z' U' b', rn pp a lf n c M0 τ0 fs0 s0 C.1 C o M' τ' fs' s' Z' U' → xE (nS (zsz M0) (zsz M') τ') M' (DL + 3) (b', 30, 0) v.1 → gok v.1 → Z' + 30 ≤ zsz M0 + 20 * (s'.1 - s0.1) + 4 → U' + 600 ≤ pu M0 lf fs0 + 400 * (s'.1 - s0.1) + 50 → Z E YX9_made (d + 14 + 1) M' [(0, vr (some (pp, 8, 0))), (1, vr (some p1)), (2, vr (some (b', 30, 0)))] 57 [vi 0] Q) →
    (∀ w, pMems (zOf n c dg) r C f e s = .error w → ∀ ou M', pEr lf 10 200 τ0 fs0 M0 s0 w ou M' → Q ou M') →
    rn pp a lf n c M0 τ0 fs0 s0 C.1 C o M τ fs s Zb Ub → (zsz M0 ≤ b ∧ b < zsz M ∧ τ b = 1 ∧ b ≠ l ∧ b ≠ lA M l) → gr M b 0 = some p1 → gr M b 1 = some (l, 11, 0) → wL (zsz M0) M τ l es → wS (zsz M0) M τ DL es sf → xE (nS (zsz M0) (zsz M) τ) M DL p1 x0 → eLf x0 sf e →
    Zb + 30 + 8 * sf.length ≤ zsz M0 + 20 * (s.1 - s0.1) + 2 → Ub + 600 + 150 * sf.length ≤ pu M0 lf fs0 + 400 * (s.1 - s0.1) + 5 + 4 * lC M l → (isS (zOf n c dg) 30 s || isS (zOf n c dg) 28 s) = true →
    Z E YX9_member (d + 14) M (zargs 0 [vr (some (pp, 8, 0))]) 0 [] (zafter E YX9_made (d + 14 + 1) [(0, vr (some (pp, 8, 0))), (1, vr (some p1)), (2, vr (some (b, 30, 0)))] 78 3 [vr (some (l, 11, 0))] Q) := by
  obtain ⟨fm, hM, hme⟩ := hM
  intro f
  induction f with
  | zero =>
    intro M τ fs s Zb Ub b l es sf e hf _ _ R
    have := R.ps.tz.t_le
    omega
  | succ f ih =>
    intro M τ fs s Zb Ub b l es sf e hf hy hn R hb e0 e1 W We X0 hE hZ hU hs
    have lc := lC_le W.1
    have el := We.1
    have s0s := R.av.1
    have zzM := R.2.1.2.1.1.1
    have zb := R.2.2.2.2.2.1
    have t0 := R.ps.tz.t_le
    have pm : pMems (zOf n c dg) r C (f + 1) e s = bnd (fm C s) fun k s => pMems (zOf n c dg) r C f (vMm e.1 k) s := by
      rw [pMems, if_pos hs, hme]
      cases fm C s with
      | error w => rfl
      | ok p => rfl
    rw [pm] at hy hn
    refine hM (d + 14) _ M τ fs s C hd hs R.ps (fun k s2 ek gk M2 τ2 fs2 q pe2 xs2 => ?_) (fun w ek ou M' pe => ?_)
    · have ok := hr.mem 1 (vOf gTh) C s (okV_of gE_Th) (vMm gTh k) s2 ((hme _ _ _).trans ((bnd_ok ek).trans rfl))
      have lt := ok.2.1
      have R2 := R.cl pe2 ok.1
      have W2 := W.pe z190 pe2
      have kb := fun k => (k1_pe pe2 ⟨by omega, hb.2.1, hb.2.2.1⟩ k).2
      have m02 := pe2.mvr
      have z2 := m02.1.1.1
      show Z E YX9_made (d + 14 + 1) M2 [(0, vr (some (pp, 8, 0))), (1, vr (some p1)), (2, vr (some (b, 30, 0)))] 81 [vr (some (q, 19, 0)), vr (some (l, 11, 0))] Q
      refine sX9_made_81 M2 pp _ b _ _ ⟨l, rfl, ?_⟩
      refine y_ladd (d := d + 8) (p := (q, 19, 0)) R2 W2.1 (by omega) sto19 (fun M3 τ3 w R3 W3 m23 ag3 f3 lw la => ?_)
      have z3 := f3.1.1
      have xs : xSf (nS (zsz M0) (zsz M2) τ2) M2 DL q (some k, []) := xSf_mono xs2 (fun x z => ⟨by have := z.1; omega, z.2⟩) (nS_190 z190) (fun _ _ _ => ⟨rfl, rfl⟩) (Nat.le_refl _)
      have We3 := ((We.mv m02 z190).app ⟨fun k' e' => by cases e'; exact gk, fun _ z => by cases z⟩ xs).mv m23 z190
      have bl : b ≠ lA M2 l := by rw [W2.2.1]; exact hb.2.2.2.2
      have b0' : gr M3 b 0 = some p1 := (f3.gr (by omega) (nl_P hb.2.2.2.1 bl)).trans ((kb 0).trans e0)
      have b1' : gr M3 b 1 = some (l, 11, 0) := (f3.gr (by omega) (nl_P hb.2.2.2.1 bl)).trans ((kb 1).trans e1)
      have ln : (sf ++ [((some k, []) : gSf)]).length = sf.length + 1 := by rw [List.length_append]; rfl
      have X3 : xE (nS (zsz M0) (zsz M3) τ3) M3 DL p1 x0 := xE_mono X0 (fun x z => (m02.tr m23).sub (Nat.le_refl _) (Nat.le_refl _) x z) (nS_190 z190) ((m02.tr m23).agS z190 (Nat.le_refl _)) (Nat.le_refl _)
      have hU3 := ar_m hU (show w + 4 * lC M l = 4 * lC M3 l by rw [← W2.2.2]; exact lw) s0s lt
      have hb3 : zsz M0 ≤ b ∧ b < zsz M3 ∧ τ3 b = 1 ∧ b ≠ l ∧ b ≠ lA M3 l := ⟨hb.1, by omega, (ag3 b (by omega)).trans ((pe2.2.2.1 b hb.2.1).trans hb.2.2.1), hb.2.2.2.1, by rcases la with y | y; rw [y]; exact bl; omega⟩
      have hE2 := hE.mm k
      have hy2 := fun v s' ev => hy v s' ((bnd_ok ek).trans ev)
      have hn2 := fun w ev => hn w ((bnd_ok ek).trans ev)
      show Z E YX9_made (d + 14 + 1) M3 [(0, vr (some (pp, 8, 0))), (1, vr (some p1)), (2, vr (some (b, 30, 0)))] 84 [vi 1] Q
      refine sX9_made_84 M3 pp _ b _ ?_
      refine y_md37 (dg := dg) R3.ps.tz R3.ps.pt (fun h28 => ?_) (fun hs3 => ?_)
      · have lc3 := lC_le W3.1
        have el3 := We3.1
        rw [ln] at el3
        obtain ⟨f', rfl⟩ : ∃ f', f = f' + 1 := ⟨f - 1, by have := R3.ps.tz.t_le; omega⟩
        have We4 := We3.mv (fin_mvr (lo := zsz M0)) z190
        have X4 : xE (nS (zsz M0) (zsz M3) (fin (zsz M0) τ3)) M3 DL p1 x0 := xE_mono X3 (fun x z => (fin_mvr (lo := zsz M0) (M := M3)).sub (Nat.le_refl _) (Nat.le_refl _) x z) (nS_190 z190) ((fin_mvr (lo := zsz M0) (τ := τ3)).agS z190 (Nat.le_refl _)) (Nat.le_refl _)
        have hv := v_Left (fin_1 hb3.1 hb3.2.1 hb3.2.2.1) b0' b1' X4 hx (W3.sfx We4) h3 hE2 (fun z => by rw [z] at ln; cases ln)
        have gk2 := gok_lf (sf ++ [((some k, []) : gSf)]) (x0, none) (W3.sfx We4).ok hx (fun _ _ z => by cases z)
        refine hy2 _ s2 (pMems_0 h28) M3 _ fs2 _ _ b R3.fin hv.2.1 (by rw [hE2.1]; exact gk2.1) (by omega) (by omega)
      · refine sX9_made_60 M3 pp _ _ ?_
        rw [if_neg (fun z => by cases z)]
        refine ⟨b, rfl, ?_⟩
        rw [b1']
        exact ih M3 τ3 fs2 s2 _ _ b l _ _ _ (by omega) hy2 hn2 R3 hb3 b0' b1' W3 We3 X3 hE2 (by rw [ln]; omega) (by rw [ln]; exact hU3) hs3
    · obtain ⟨q, rfl⟩ := fO_inr pe.1
      show ZT E YX9_made (d + 14 + 1) M' _ 78 (q, 12, 0) Q
      exact ZT.out (nohand rfl) (hn w (bnd_er ek) _ M' (R.er pe (by omega) (by omega)))
theorem y_made {ro : Option pT} {DL dP dm : Nat} (hro : lvO o ro fun o r => cNm E pp a lf n c dg dP o DL r.made ∧ cVm E pp a lf n c YX9_primary [] dP o DL r.prim ∧ cAm E pp a lf n c dg dP o DL r.args ∧ cMr E pp a lf n c dg dP o DL r) (hk : ∀ r, ro = some r → ∀ C s, (sat (r.made C s) fun v _ => v.2.1 ≠ 2) ∧ sat (r.prim C s) fun v _ => v.2.1 ≠ 2) (hK : 1300 ≤ K) (h3 : 3 ≤ DL) (hdm : dP + 1 ≤ dm ∧ 30 ≤ dm) : cNm E pp a lf n c dg dm o (DL + 4) (pMade (zOf n c dg) K ro) := by
  intro d Q M τ fs s C hd hk0 h hy hn
  obtain ⟨d, rfl⟩ : ∃ d', d = d' + 15 := ⟨d - 15, by omega⟩
  have R := rn_st h C.1
  have hp := h.pz
  have z190 := h.z190
  have e2 : sgX (nI 26) = 2 := by decide +kernel
  have pu0 : pMade (zOf n c dg) K ro C s = opens (zOf n c dg) ro s fun r => bnd (nxt' (zOf n c dg) s) fun _ s => bnd (if isK (zOf n c dg) 16 s then r.made C s else r.prim C s) fun e s => bnd (pMems (zOf n c dg) r C K e s) fun e s => bnd (if isS (zOf n c dg) 26 s then r.args C s else prt [] s) fun l s => prt (vOf (gNew e.1 l)) s := rfl
  refine sX9_made_0 M pp ?_
  refine y_opens (dg := dg) h.tz h.pt hp.1 h.op.1 h.op.2 (fun ho => ?_) (fun ho ou M' f => ?_)
  rotate_left
  · obtain ⟨q, rfl⟩ := fO_inr f.1
    rcases hro with ⟨rfl, -⟩ | ⟨r, rfl, z, -⟩
    · show ZT E YX9_made (d + 14 + 1) M' _ 1 (q, 12, 0) Q
      exact ZT.out (nohand rfl) (hn _ (pu0.trans rfl) _ M' (R.er (ft_er h f) (by omega) (by omega)))
    · omega
  rcases hro with ⟨-, z⟩ | ⟨r, rfl, -, ok, hN, hP, hA, hM⟩
  · omega
  have hk := hk r rfl
  have pu1 : pMade (zOf n c dg) K (some r) C s = bnd (nxt' (zOf n c dg) s) fun _ s => bnd (if isK (zOf n c dg) 16 s then r.made C s else r.prim C s) fun e s => bnd (pMems (zOf n c dg) r C K e s) fun e s => bnd (if isS (zOf n c dg) 26 s then r.args C s else prt [] s) fun l s => prt (vOf (gNew e.1 l)) s := pu0
  have R1 := R.op ho
  show Z E YX9_made (d + 14 + 1) (si M pp 4 (nI (o + 1))) [(0, vr (some (pp, 8, 0)))] 4 [] Q
  refine sX9_made_4 _ pp ⟨a, R1.ps.pt, ?_⟩
  generalize si M pp 4 (nI (o + 1)) = M1 at *
  have k2 : (tkn n c s.1).1 = 2 := (isK_k hk0).1
  refine y_nxt (dg := dg) R1.ps.tz (tkg2 k2).1 (tkg2 k2).2 (fun s2 en M2 f2 x2 => ?_) (fun w en ou M' f => ?_)
  rotate_left
  · obtain ⟨q, rfl⟩ := fO_inr f.1
    show ZT E YX9_made (d + 14 + 1) M' _ 8 (q, 12, 0) Q
    exact ZT.out (nohand rfl) (hn w (pu1.trans (bnd_er en)) _ M' (R1.er (ft_er R1.ps f) (by omega) (by omega)))
  have es := nx_eq en
  subst es
  have R2 := R1.tk f2 x2 rfl (adv_nx s)
  have pu2 : pMade (zOf n c dg) K (some r) C s = bnd (if isK (zOf n c dg) 16 (s.1 + 1, s.2) then r.made C (s.1 + 1, s.2) else r.prim C (s.1 + 1, s.2)) fun e s => bnd (pMems (zOf n c dg) r C K e s) fun e s => bnd (if isS (zOf n c dg) 26 s then r.args C s else prt [] s) fun l s => prt (vOf (gNew e.1 l)) s := pu1.trans (bnd_ok en)
  -- the end
  have fin57 : ∀ (M3 : zM) (τ3 : Nat → Nat) (fs3 : List Nat) (s3 : pS) (Z3 U3 : Nat) (p : zP) (v : gV) (r1 r2 : Option zP), pMade (zOf n c dg) K (some r) C s = bnd (if isS (zOf n c dg) 26 s3 then r.args C s3 else prt [] s3) (fun l s => prt (vOf (gNew v.1 l)) s) → rn pp a lf n c M τ fs s C.1 C (o + 1) M3 τ3 fs3 s3 Z3 U3 → xE (nS (zsz M) (zsz M3) τ3) M3 (DL + 3) p v.1 → gok v.1 → Z3 + 30 ≤ zsz M + 20 * (s3.1 - s.1) + 4 → U3 + 600 ≤ pu M lf fs + 400 * (s3.1 - s.1) + 50 → (if r2 = none then r1 else r2) = some p → Z E YX9_made (d + 14 + 1) M3 [(0, vr (some (pp, 8, 0))), (1, vr r1), (2, vr r2)] 57 [vi 0] Q := fun M3 τ3 fs3 s3 Z3 U3 p v r1 r2 pe R3 X3 gk hZ hU er => by
    have s03 := R3.av.1
    have zz3 := R3.2.1.2.1.1.1
    obtain ⟨τ4, R4, ag4, on4, m34⟩ := R3.lc1 (M' := zn M3 2) (v := 1) (w := 2) fg.zn (Nat.le_refl _) (Nat.le_refl _)
    have sz4 : zsz (zn M3 2) = zsz M3 + 1 := rfl
    refine sX9_made_57 M3 pp _ _ _ ?_
    rw [if_pos rfl]
    refine sX9_made_91 (zn M3 2) pp _ _ (zsz M3) ?_
    generalize zn M3 2 = M4 at *
    have tb : τ4 (zsz M3) = 1 := on4 _ (Nat.le_refl _) (by omega)
    have go : Z E YX10_is (d + 14) M4 (zargs 0 [vr (some (a, 9, 0)), vi 2]) 0 [] (zafter E YX9_made (d + 14 + 1) [(0, vr (some (pp, 8, 0)))] 106 3 [vr (some p), vr (some (zsz M3, 31, 0)), vr (some (zsz M3, 31, 0))] Q) := by
      refine y_is (dg := dg) (j := 26) (by decide) e2 R4.ps.tz ?_
      show Z E YX9_made (d + 14 + 1) M4 [(0, vr (some (pp, 8, 0)))] 109 [vi (if isS (zOf n c dg) 26 s3 then 1 else 0), vr (some p), vr (some (zsz M3, 31, 0)), vr (some (zsz M3, 31, 0))] Q
      -- it is done
      have done : ∀ (M5 : zM) (τ5 : Nat → Nat) (fs5 : List Nat) (s5 : pS) (Z5 U5 : Nat) (lst : Nat) (as : List gEx), pMade (zOf n c dg) K (some r) C s = .ok (vOf (gNew v.1 as), s5) → rn pp a lf n c M τ fs s C.1 C (o + 1) M5 τ5 fs5 s5 Z5 U5 → gr M5 (zsz M3) 0 = some p → gr M5 (zsz M3) 1 = some (lst, 11, 0) → (zsz M3 < zsz M5 ∧ τ5 (zsz M3) = 1) → mvr τ3 M3 τ5 M5 → xEl (nS (zsz M) (zsz M5) (fin (zsz M) τ5)) M5 DL lst as → as.length ≤ 8 → Z5 + 10 ≤ zsz M + 20 * (s5.1 - s.1) → U5 + 200 ≤ pu M lf fs + 400 * (s5.1 - s.1) → Q (.inl (some (vr (some (zsz M3, 31, 0))))) (si M5 pp 4 (gi M5 pp 4 - 1)) := fun M5 τ5 fs5 s5 Z5 U5 lst as e5 R5 g0 g1 hb m35 xl l8 hZ5 hU5 => by
        have R6 := R5.cls h.ls
        have m56 : mvr τ5 M5 τ5 (si M5 pp 4 (gi M5 pp 4 - 1)) := mvr_own R5.ps (fr.si (P := fun x _ => x = pp) rfl) (fun _ _ z => z)
        have hp5 := R5.ps.pz
        have nb : zsz M3 ≠ pp := fun e => by rw [← e] at hp5; omega
        have m36 := (m35.tr m56).tr (fin_mvr (lo := zsz M) (τ := τ5) (M := si M5 pp 4 (gi M5 pp 4 - 1)))
        refine hy _ s5 e5 _ _ fs5 _ (R6.nd hZ5 hU5) ⟨tgv _ 31 (by decide), ?_, .inl ⟨rfl, (by show 31 ≠ 23; decide), fun e => absurd e (show ¬ 31 = 30 by decide)⟩⟩
        refine xe_New (D := DL + 3) (fin_1 zz3 hb.1 hb.2) g0 g1 (xE_mono X3 (fun x z => m36.sub (Nat.le_refl _) (Nat.le_refl _) x z) (nS_190 z190) (m36.agS z190 (Nat.le_refl _)) (Nat.le_refl _)) ?_ gk (by omega) (by omega)
        refine xEl_mono xl (fun x z => z) (nS_190 z190) (fun x k z => ?_) (by omega)
        have zx := z.1
        have z7 := R5.ps.pz
        have nx : x ≠ pp := fun e => by
          have := z.2.2
          rw [e, fin_k (by omega)] at this
          omega
        exact ⟨gi_oth nx, rfl⟩
      cases h26 : isS (zOf n c dg) 26 s3 with
      | true =>
        rw [if_pos rfl]
        rw [if_pos h26] at pe
        refine sX9_made_109 M4 pp _ _ _ _ ?_
        rw [if_neg (by decide)]
        refine hA (d + 14) _ M4 τ4 fs3 s3 C (by omega) h26 R4.ps (fun as s5 ea M5 τ5 fs5 lst pe5 xl l8 => ?_) (fun w ea ou M' pe' => ?_)
        · have oa := ok.args C s3 as s5 ea
          have lt := oa.2.1
          have R5 := R4.cl pe5 oa.1
          have z5 := pe5.mvr.1.1.1
          have t5 : τ5 (zsz M3) = 1 := (pe5.2.2.1 _ (by omega)).trans tb
          show Z E YX9_made (d + 14 + 1) M5 [(0, vr (some (pp, 8, 0)))] 116 [vr (some (lst, 11, 0)), vr (some p), vr (some (zsz M3, 31, 0)), vr (some (zsz M3, 31, 0))] Q
          refine iX9_made_116 (d := d + 12) M5 pp _ _ (zsz M3) (zsz M3) ⟨by omega, by omega, ?_⟩
          have f6 : fg (fun x _ => zsz M ≤ x ∧ τ5 x = 1) M5 (sr (sr M5 (zsz M3) 0 (some p)) (zsz M3) 1 (some (lst, 11, 0))) := ((fr.sr ⟨zz3, t5⟩).tr (fr.sr ⟨zz3, t5⟩)).fg
          have g0 : gr (sr (sr M5 (zsz M3) 0 (some p)) (zsz M3) 1 (some (lst, 11, 0))) (zsz M3) 0 = some p := by simp only [gr_sr]; simp
          have g1 : gr (sr (sr M5 (zsz M3) 0 (some p)) (zsz M3) 1 (some (lst, 11, 0))) (zsz M3) 1 = some (lst, 11, 0) := by simp only [gr_sr]; simp
          show Q _ (si (sr (sr M5 (zsz M3) 0 (some p)) (zsz M3) 1 (some (lst, 11, 0))) pp 4 (gi (sr (sr M5 (zsz M3) 0 (some p)) (zsz M3) 1 (some (lst, 11, 0))) pp 4 - 1))
          have sz6 : zsz (sr (sr M5 (zsz M3) 0 (some p)) (zsz M3) 1 (some (lst, 11, 0))) = zsz M5 := rfl
          have su6 : zsu (sr (sr M5 (zsz M3) 0 (some p)) (zsz M3) 1 (some (lst, 11, 0))) = zsu M5 := rfl
          generalize sr (sr M5 (zsz M3) 0 (some p)) (zsz M3) 1 (some (lst, 11, 0)) = M6 at *
          obtain ⟨τ6, R6, ag6, on6, m56⟩ := R5.lc1 (v := 0) (w := 0) f6 (by omega) (by omega)
          have mf := m56.tr (fin_mvr (lo := zsz M) (τ := τ6) (M := M6))
          exact done M6 τ6 fs5 s5 _ _ lst as (pe.trans ((bnd_ok ea).trans rfl)) R6 g0 g1 ⟨by omega, (ag6 _ (by omega)).trans t5⟩ ((m34.tr pe5.mvr).tr m56) (xEl_mono xl (fun x z => mf.sub (by omega) (Nat.le_refl _) x z) (nS_190 z190) (mf.agS (by omega) (Nat.le_refl _)) (Nat.le_refl _)) l8 (by omega) (by omega)
        · obtain ⟨q, rfl⟩ := fO_inr pe'.1
          show ZT E YX9_made (d + 14 + 1) M' _ 113 (q, 12, 0) Q
          exact ZT.out (nohand rfl) (hn w (pe.trans (bnd_er ea)) _ M' (R4.er pe' (by omega) (by omega)))
      | false =>
        rw [if_neg (by decide : ¬ false = true)]
        rw [if_neg (by rw [h26]; decide)] at pe
        refine iX9_made_109 (d := d + 11) M4 pp _ _ (zsz M3) (zsz M3) ?_
        rw [if_pos rfl]
        refine ⟨by omega, by omega, by omega, ?_⟩
        show Q _ (si (sr (sr (sr (si (zn M4 3) (zsz M4) 0 0) (zsz M4) 1 (some (1, 110, 0))) (zsz M3) 0 (some p)) (zsz M3) 1 (some (zsz M4, 11, 0))) pp 4 (gi (sr (sr (sr (si (zn M4 3) (zsz M4) 0 0) (zsz M4) 1 (some (1, 110, 0))) (zsz M3) 0 (some p)) (zsz M3) 1 (some (zsz M4, 11, 0))) pp 4 - 1))
        have f6 : fg (fun x _ => zsz M ≤ x ∧ τ4 x = 1) M4 (sr (sr (sr (si (zn M4 3) (zsz M4) 0 0) (zsz M4) 1 (some (1, 110, 0))) (zsz M3) 0 (some p)) (zsz M3) 1 (some (zsz M4, 11, 0))) := (fg.zn (n := 3)).tr2 ((((fr.si (.inr (Nat.le_refl _))).tr (fr.sr (.inr (Nat.le_refl _)))).tr (fr.sr (.inl ⟨zz3, tb⟩))).tr (fr.sr (.inl ⟨zz3, tb⟩))).fg
        have g0 : gr (sr (sr (sr (si (zn M4 3) (zsz M4) 0 0) (zsz M4) 1 (some (1, 110, 0))) (zsz M3) 0 (some p)) (zsz M3) 1 (some (zsz M4, 11, 0))) (zsz M3) 0 = some p := by simp only [gr_sr]; simp
        have g1 : gr (sr (sr (sr (si (zn M4 3) (zsz M4) 0 0) (zsz M4) 1 (some (1, 110, 0))) (zsz M3) 0 (some p)) (zsz M3) 1 (some (zsz M4, 11, 0))) (zsz M3) 1 = some (zsz M4, 11, 0) := by simp only [gr_sr]; simp
        have g2 : gr (sr (sr (sr (si (zn M4 3) (zsz M4) 0 0) (zsz M4) 1 (some (1, 110, 0))) (zsz M3) 0 (some p)) (zsz M3) 1 (some (zsz M4, 11, 0))) (zsz M4) 1 = some (1, 110, 0) := by rw [gr_sr, if_neg (by omega), gr_sr, if_neg (by omega), gr_sr, if_pos rfl, if_pos rfl]
        have g3 : gi (sr (sr (sr (si (zn M4 3) (zsz M4) 0 0) (zsz M4) 1 (some (1, 110, 0))) (zsz M3) 0 (some p)) (zsz M3) 1 (some (zsz M4, 11, 0))) (zsz M4) 2 = 0 := by
          show gi (si (zn M4 3) (zsz M4) 0 0) (zsz M4) 2 = 0
          rw [gi_idx (by decide), gi_zn, if_pos rfl]
        have sz6 : zsz (sr (sr (sr (si (zn M4 3) (zsz M4) 0 0) (zsz M4) 1 (some (1, 110, 0))) (zsz M3) 0 (some p)) (zsz M3) 1 (some (zsz M4, 11, 0))) = zsz M4 + 1 := rfl
        have su6 : zsu (sr (sr (sr (si (zn M4 3) (zsz M4) 0 0) (zsz M4) 1 (some (1, 110, 0))) (zsz M3) 0 (some p)) (zsz M3) 1 (some (zsz M4, 11, 0))) = zsu M4 + 3 := rfl
        generalize sr (sr (sr (si (zn M4 3) (zsz M4) 0 0) (zsz M4) 1 (some (1, 110, 0))) (zsz M3) 0 (some p)) (zsz M3) 1 (some (zsz M4, 11, 0)) = M6 at *
        obtain ⟨τ6, R6, ag6, on6, m56⟩ := R4.lc1 (v := 1) (w := 3) f6 (by omega) (by omega)
        have W6 : wL (zsz M) M6 τ6 (zsz M4) [] := wL_mk g3 g2 ⟨by omega, by omega⟩ ⟨by omega, on6 _ (Nat.le_refl _) (by omega)⟩
        exact done M6 τ6 fs3 s3 _ _ (zsz M4) [] (pe.trans rfl) R6 g0 g1 ⟨by omega, (ag6 _ (by omega)).trans tb⟩ (m34.tr m56) (W6.el ⟨rfl, fun i g hi => by cases hi⟩) (by show 0 ≤ 8; decide) (by omega) (by omega)
    by_cases zr : r2 = none
    · rw [if_pos zr] at er ⊢
      rw [er]
      exact ⟨a, R4.ps.pt, go⟩
    · rw [if_neg zr] at er ⊢
      rw [er]
      exact ⟨a, R4.ps.pt, go⟩
  -- behind the first
  have go37 : ∀ (v1 : gV) (s1 : pS) (M3 : zM) (τ3 : Nat → Nat) (fs3 : List Nat) (p1 : zP), pMade (zOf n c dg) K (some r) C s = bnd (pMems (zOf n c dg) r C K v1 s1) (fun e s => bnd (if isS (zOf n c dg) 26 s then r.args C s else prt [] s) fun l s => prt (vOf (gNew e.1 l)) s) → rV 0 C (s.1 + 1, s.2) v1 s1 → v1.2.1 ≠ 2 → pEnd pp a lf n c 10 200 M2 τ fs (s.1 + 1, s.2) C (o + 1) M3 τ3 fs3 s1 → vNd (zsz M2) M3 τ3 DL p1 v1 → Z E YX9_made (d + 14 + 1) M3 [(0, vr (some (pp, 8, 0))), (1, vr (some p1)), (2, vr none)] 37 [] Q := fun v1 s1 M3 τ3 fs3 p1 pe rv k2 pe1 vn1 => by
    have R3 := R2.cl pe1 rv.1
    have l3 := rv.2.1
    dsimp only at l3
    have t1 := R3.ps.tz.t_le
    have zz2 : zsz M ≤ zsz M2 := R2.2.1.2.1.1.1
    have X3 : xE (nS (zsz M) (zsz M3) τ3) M3 DL p1 v1.1 := xE_mono vn1.2.1 (fun x z => ⟨by have := z.1; omega, z.2⟩) (nS_190 z190) (fun _ _ _ => ⟨rfl, rfl⟩) (Nat.le_refl _)
    refine y_md37 (dg := dg) R3.ps.tz R3.ps.pt (fun h28 => ?_) (fun hs3 => ?_)
    · obtain ⟨f', hf'⟩ : ∃ f', K = f' + 1 := ⟨K - 1, by omega⟩
      have e0 : pMems (zOf n c dg) r C K v1 s1 = .ok (v1, s1) := by
        have : pMems (zOf n c dg) r C (f' + 1) v1 s1 = .ok (v1, s1) := pMems_0 h28
        rw [← hf'] at this
        exact this
      exact fin57 M3 τ3 fs3 s1 _ _ p1 v1 (some p1) none (pe.trans (bnd_ok e0)) R3 (xE_mono X3 (fun x z => z) (nS_190 z190) (fun _ _ _ => ⟨rfl, rfl⟩) (by omega)) rv.2.2.1.1 (by dsimp only; omega) (by dsimp only; omega) (if_pos rfl)
    · refine sX9_made_60 M3 pp _ _ ?_
      rw [if_pos rfl]
      refine sX9_made_67 (zn M3 2) pp _ (zsz M3) ?_
      have z1 := R3.ps.z190
      refine iX24_init_0 (d := d + 10) (zn M3 2) (zsz M3) _ ⟨by show 16 ≤ zsz M3 + 1; omega, by omega, ?_⟩
      obtain ⟨M4, τ4, eM, R4, m4, hb, g0, g1, W4, lC4⟩ := lf_mk (p1 := p1) R3
      rw [eM]
      show Z E YX9_made (d + 14 + 1) M4 [(0, vr (some (pp, 8, 0))), (1, vr (some p1))] 72 [vr (some (zsz M3, 30, 0))] Q
      refine sX9_made_72 M4 pp _ (zsz M3) ?_
      rw [g1]
      refine y_mds hM ok h3 (by omega) z190 rv.2.2.1.1 K M4 τ4 fs3 s1 _ _ (zsz M3) (zsz M3 + 1) [] [] v1 (by omega) (fun v s' ev M' τ' fs' Z' U' b' R' X' gk hZ hU => fin57 M' τ' fs' s' Z' U' (b', 30, 0) v (some p1) (some (b', 30, 0)) (pe.trans (bnd_ok ev)) R' X' gk hZ hU (if_neg (fun z => by cases z))) (fun w ev => hn w (pe.trans (bnd_er ev))) R4 hb g0 g1 W4 ⟨rfl, fun i q hq => by cases hq⟩ (xE_mono X3 (fun x z => m4.sub (Nat.le_refl _) (Nat.le_refl _) x z) (nS_190 z190) (m4.agS z190 (Nat.le_refl _)) (Nat.le_refl _)) (eLf_0 k2) ?_ ?_ hs3
      · show _ + 30 + 8 * 0 ≤ _
        dsimp only
        omega
      · show _ + 600 + 150 * 0 ≤ _
        dsimp only
        omega
  show Z E YX9_made (d + 14 + 1) M2 [(0, vr (some (pp, 8, 0)))] 11 [] Q
  have prim : isK (zOf n c dg) 16 (s.1 + 1, s.2) = false → Z E YX9_primary (d + 14) M2 (zargs 0 [vr (some (pp, 8, 0))]) 0 [] (zafter E YX9_made (d + 14 + 1) [(0, vr (some (pp, 8, 0)))] 31 3 [] Q) := fun hk' => by
    rw [if_neg (by rw [hk']; decide)] at pu2
    refine hP (d + 14) _ M2 τ fs _ C (by omega) R2.ps (fun v1 s1 e1 M3 τ3 fs3 p1 pe1 vn1 => ?_) (fun w e ou M' pe => ?_)
    · show Z E YX9_made (d + 14 + 1) M3 [(0, vr (some (pp, 8, 0)))] 34 [vr (some p1)] Q
      exact sX9_made_34 M3 pp _ (go37 v1 s1 M3 τ3 fs3 p1 (pu2.trans (bnd_ok e1)) (ok.prim C _ v1 s1 e1) ((hk C _).2 v1 s1 e1) pe1 vn1)
    · obtain ⟨q, rfl⟩ := fO_inr pe.1
      show ZT E YX9_made (d + 14 + 1) M' _ 31 (q, 12, 0) Q
      exact ZT.out (nohand rfl) (hn w (pu2.trans (bnd_er e)) _ M' (R2.er pe (by dsimp only; omega) (by dsimp only; omega)))
  refine iX9_made_11 M2 pp ⟨a, R2.ps.pt, ?_⟩
  have kk := y_isK 16 dg R2.ps.tz
  by_cases h2 : gi M2 a 3 = 2
  · rw [if_pos h2]
    by_cases h6 : gi M2 a 6 = 16
    · rw [if_pos h6]
      have hk' := kk.mp ⟨h2, h6⟩
      rw [if_pos hk'] at pu2
      refine hN (d + 14) _ M2 τ fs _ C (by omega) hk' R2.ps (fun v1 s1 e1 M3 τ3 fs3 p1 pe1 vn1 => ?_) (fun w e ou M' pe => ?_)
      · show Z E YX9_made (d + 14 + 1) M3 [(0, vr (some (pp, 8, 0)))] 27 [vr (some p1)] Q
        exact iX9_made_27 M3 pp _ (go37 v1 s1 M3 τ3 fs3 p1 (pu2.trans (bnd_ok e1)) (ok.made C _ v1 s1 e1) ((hk C _).1 v1 s1 e1) pe1 vn1)
      · obtain ⟨q, rfl⟩ := fO_inr pe.1
        show ZT E YX9_made (d + 14 + 1) M' _ 24 (q, 12, 0) Q
        exact ZT.out (nohand rfl) (hn w (pu2.trans (bnd_er e)) _ M' (R2.er pe (by dsimp only; omega) (by dsimp only; omega)))
    · rw [if_neg h6]
      exact prim (by
        cases hk : isK (zOf n c dg) 16 (s.1 + 1, s.2) with
        | false => rfl
        | true => exact absurd (kk.mpr hk).2 h6)
  · rw [if_neg h2]
    exact prim (by
      cases hk : isK (zOf n c dg) 16 (s.1 + 1, s.2) with
      | false => rfl
      | true => exact absurd (kk.mpr hk).1 h2)
end
