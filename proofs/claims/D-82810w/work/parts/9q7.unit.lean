/-! THE COMPONENT's PARSER: unit -/
theorem ah_cases (z : pZ) (s : pS) : (ahR z s = -1 ∧ isPre z s = false) ∨ (isPre z s = true ∧ (tkd z s.1 = 2 ∨ tkd z s.1 = 5)) ∧
    ((∃ h : Int32, (h = 0 ∨ h = 1) ∧ ahR z s = h + 7 ∧ ∀ e s', pAhd z s e s' = if e.2.1 = 0 then flt z 3 s' else prt (vOf (if e.2.1 = 1 then gBfN h e.2.2.1 else gBfM h e.2.2.2.1 e.2.2.2.2)) s') ∨
     (ahR z s = 6 ∧ ∀ e s', pAhd z s e s' = if e.2.1 = 2 then prt (vOf (gDel e.2.2.2.1 e.2.2.2.2)) s' else flt z 3 s') ∨
     (ahR z s = 5 ∧ ∀ e s', pAhd z s e s' = prt (vOf (gVoid e.1)) s') ∨
     (ahR z s = 4 ∧ ∀ e s', pAhd z s e s' = prt (vOf (if e.2.1 = 1 then gTyp e.2.2.1 else gUn 4 e.1)) s') ∨
     ∃ h : Int32, (h = 0 ∨ h = 1 ∨ h = 2 ∨ h = 3) ∧ ahR z s = h ∧ ∀ e s', pAhd z s e s' = prt (vOf (gUn h e.1)) s') := by
  by_cases k2 : tkd z s.1 = 2
  · have iK : ∀ y, isK z y s = decide (twh z s.1 = y) := fun y => by unfold isK; rw [decide_eq_true k2, Bool.true_and]
    have iS : ∀ y, isS z y s = false := fun y => by unfold isS; rw [decide_eq_false (by rw [k2]; decide), Bool.false_and]
    unfold ahR isPre pAhd
    simp only [iK, iS]
    generalize twh z s.1 = x
    by_cases h24 : x = 24
    · subst h24; exact .inr ⟨⟨by decide, .inl k2⟩, .inr (.inr (.inr (.inl ⟨rfl, fun _ _ => rfl⟩)))⟩
    by_cases h27 : x = 27
    · subst h27; exact .inr ⟨⟨by decide, .inl k2⟩, .inr (.inr (.inl ⟨rfl, fun _ _ => rfl⟩))⟩
    by_cases h5 : x = 5
    · subst h5; exact .inr ⟨⟨by decide, .inl k2⟩, .inr (.inl ⟨rfl, fun _ _ => rfl⟩)⟩
    refine .inl ⟨?_, ?_⟩
    · simp [h24, h27, h5]
    · simp [h24, h27, h5]
  · have iK : ∀ y, isK z y s = false := fun y => by unfold isK; rw [decide_eq_false k2, Bool.false_and]
    by_cases k5 : tkd z s.1 = 5
    · have iS : ∀ y, isS z y s = decide (twh z s.1 = y) := fun y => by unfold isS; rw [decide_eq_true k5, Bool.true_and]
      unfold ahR isPre pAhd
      simp only [iK, iS]
      generalize twh z s.1 = x
      by_cases h35 : x = 35
      · subst h35; exact .inr ⟨⟨by decide, .inr k5⟩, .inr (.inr (.inr (.inr ⟨0, by decide, rfl, fun _ _ => rfl⟩)))⟩
      by_cases h36 : x = 36
      · subst h36; exact .inr ⟨⟨by decide, .inr k5⟩, .inr (.inr (.inr (.inr ⟨1, by decide, rfl, fun _ _ => rfl⟩)))⟩
      by_cases h44 : x = 44
      · subst h44; exact .inr ⟨⟨by decide, .inr k5⟩, .inr (.inr (.inr (.inr ⟨2, by decide, rfl, fun _ _ => rfl⟩)))⟩
      by_cases h43 : x = 43
      · subst h43; exact .inr ⟨⟨by decide, .inr k5⟩, .inr (.inr (.inr (.inr ⟨3, by decide, rfl, fun _ _ => rfl⟩)))⟩
      by_cases h10 : x = 10
      · subst h10; exact .inr ⟨⟨by decide, .inr k5⟩, .inl ⟨0, by decide, rfl, fun _ _ => rfl⟩⟩
      by_cases h11 : x = 11
      · subst h11; exact .inr ⟨⟨by decide, .inr k5⟩, .inl ⟨1, by decide, rfl, fun _ _ => rfl⟩⟩
      refine .inl ⟨?_, ?_⟩
      · simp [h35, h36, h44, h43, h10, h11]
      · simp [h35, h36, h44, h43, h10, h11]
    · have iS : ∀ y, isS z y s = false := fun y => by unfold isS; rw [decide_eq_false k5, Bool.false_and]
      refine .inl ⟨?_, ?_⟩
      · unfold ahR; simp only [iK, iS]; rfl
      · unfold isPre; simp only [iK, iS]; rfl
section
variable {E : zE} {pp a lf n : Nat} {c : Nat → Int32} {dg : Int32 → List Int32} {K o : Nat}
theorem vNd.up {lo D D' : Nat} {M : zM} {τ : Nat → Nat} {p : zP} {v : gV} (h : vNd lo M τ D p v) (hl : 190 ≤ lo) (hD : D ≤ D') : vNd lo M τ D' p v := vNs_mono h (fun _ z => z) (nS_190 hl) (fun _ _ _ => ⟨rfl, rfl⟩) hD
theorem y_unit {ro : Option pT} {DC DU D dC dU dm : Nat} (hC : cVm E pp a lf n c YX9_counted [] dC o DC (pPost (zOf n c dg) K ro)) (hU : lvO o ro fun o r => cVm E pp a lf n c YX9_unit [] dU o DU r.unit) (hD : DC ≤ D ∧ DU + 1 ≤ D ∧ 4 ≤ DU) (hdm : dC + 1 ≤ dm ∧ dU + 1 ≤ dm ∧ 30 ≤ dm) : cVm E pp a lf n c YX9_unit [] dm o D (pUnit (zOf n c dg) K ro) := by
  intro d Q M τ fs s C hd h hy hn
  obtain ⟨d, rfl⟩ : ∃ d', d = d' + 15 := ⟨d - 15, by omega⟩
  have R := rn_st h C.1
  have hp := h.pz
  have z190 := h.z190
  refine sX9_unit_0 M pp ?_
  refine y_ahead (dg := dg) h.tz h.pt ?_
  show Z E YX9_unit (d + 14 + 1) M [(0, vr (some (pp, 8, 0)))] 4 [vi (ahR (zOf n c dg) s)] Q
  refine sX9_unit_4 M pp _ ?_
  rcases ah_cases (zOf n c dg) s with ⟨e1, e2⟩ | ⟨⟨e1, e2⟩, hc⟩
  · have pu : pUnit (zOf n c dg) K ro C s = pPost (zOf n c dg) K ro C s := by unfold pUnit; rw [if_neg (by rw [e2]; decide)]
    rw [e1, if_pos rfl]
    refine hC (d + 14) _ M τ fs s C (by omega) h (fun v s' e M' τ' fs' p pe vn => ?_) (fun w e ou M' pe => ?_)
    · show Z E YX9_unit (d + 14 + 1) M' [] 14 [vr (some p)] Q
      exact sX9_unit_14 M' _ (hy v s' (pu.trans e) M' τ' fs' p pe (vn.up z190 hD.1))
    · obtain ⟨q, rfl⟩ := fO_inr pe.1
      show ZT E YX9_unit (d + 14 + 1) M' _ 11 (q, 12, 0) Q
      exact ZT.out (nohand rfl) (hn w (pu.trans e) _ M' pe)
  have pu : pUnit (zOf n c dg) K ro C s = opens (zOf n c dg) ro s fun r => bnd (nxt' (zOf n c dg) s) fun _ s1 => bnd (r.unit C s1) fun e s' => pAhd (zOf n c dg) s e s' := by unfold pUnit; rw [if_pos e1]
  have ne : ¬ ahR (zOf n c dg) s = -1 := by
    rcases hc with ⟨hv, hv1, eh, -⟩ | ⟨eh, -⟩ | ⟨eh, -⟩ | ⟨eh, -⟩ | ⟨hv, hv1, eh, -⟩
    · rw [eh]; rcases hv1 with rfl | rfl <;> decide
    · rw [eh]; decide
    · rw [eh]; decide
    · rw [eh]; decide
    · rw [eh]; rcases hv1 with rfl | rfl | rfl | rfl <;> decide
  rw [if_neg ne]
  refine y_opens (dg := dg) h.tz h.pt hp.1 h.op.1 h.op.2 (fun ho => ?_) (fun ho ou M' f => ?_)
  rotate_left
  · obtain ⟨q, rfl⟩ := fO_inr f.1
    rcases hU with ⟨rfl, -⟩ | ⟨r, rfl, z, -⟩
    · show ZT E YX9_unit (d + 14 + 1) M' _ 16 (q, 12, 0) Q
      exact ZT.out (nohand rfl) (hn _ (pu.trans rfl) _ M' (R.er (ft_er h f) (by omega) (by omega)))
    · omega
  rcases hU with ⟨-, z⟩ | ⟨r, rfl, -, ok, hu⟩
  · omega
  have pu : pUnit (zOf n c dg) K (some r) C s = bnd (nxt' (zOf n c dg) s) fun _ s1 => bnd (r.unit C s1) fun e s' => pAhd (zOf n c dg) s e s' := pu
  have R1 := R.op ho
  have m01 : mvr τ M τ (si M pp 4 (nI (o + 1))) := mvr_own h (fr.si (P := fun x _ => x = pp) rfl) (fun _ _ z => z)
  show Z E YX9_unit (d + 14 + 1) (si M pp 4 (nI (o + 1))) [(0, vr (some (pp, 8, 0))), (1, vi (ahR (zOf n c dg) s))] 19 [] Q
  refine sX9_unit_19 _ pp _ ⟨a, R1.ps.pt, ?_⟩
  have kk : (tkn n c s.1).1 = 2 ∨ (tkn n c s.1).1 = 5 := e2
  refine y_nxt (dg := dg) R1.ps.tz ⟨by rcases kk with z | z <;> rw [z] <;> decide, by rcases kk with z | z <;> rw [z] <;> decide⟩ (by rcases kk with z | z <;> rw [z] <;> decide) (fun s2 e2 M2 f2 x2 => ?_) (fun w e2 ou M' f => ?_)
  rotate_left
  · obtain ⟨q, rfl⟩ := fO_inr f.1
    show ZT E YX9_unit (d + 14 + 1) M' _ 23 (q, 12, 0) Q
    exact ZT.out (nohand rfl) (hn w (pu.trans (bnd_er e2)) _ M' (R1.er (ft_er R1.ps f) (by omega) (by omega)))
  have es2 := nx_eq e2
  subst es2
  have R2 := R1.tk f2 x2 rfl (adv_nx s)
  show Z E YX9_unit (d + 14 + 1) M2 [(0, vr (some (pp, 8, 0))), (1, vi (ahR (zOf n c dg) s))] 26 [] Q
  refine sX9_unit_26 M2 pp _ ?_
  refine hu (d + 14) _ M2 τ fs _ C (by omega) R2.ps (fun v3 s3 e3 M3 τ3 fs3 p3 pe3 vn3 => ?_) (fun w e ou M' pe => ?_)
  rotate_left
  · obtain ⟨q, rfl⟩ := fO_inr pe.1
    show ZT E YX9_unit (d + 14 + 1) M' _ 27 (q, 12, 0) Q
    exact ZT.out (nohand rfl) (hn w (pu.trans ((bnd_ok e2).trans (bnd_er e))) _ M' (R2.er pe (by dsimp only; omega) (by dsimp only; omega)))
  have o3 := ok.unit C _ v3 s3 e3
  have l3 := o3.2.1
  dsimp only at l3
  have R3 := R2.cl pe3 o3.1
  have R4 := R3.cls h.ls
  have m34 : mvr τ3 M3 τ3 (si M3 pp 4 (gi M3 pp 4 - 1)) := mvr_own R3.ps (fr.si (P := fun x _ => x = pp) rfl) (fun _ _ z => z)
  have zm : zsz M ≤ zsz M3 := R3.st.1.1.1
  have lz : zsz M ≤ zsz M2 := R2.st.1.1.1
  obtain ⟨b, t, k⟩ := p3
  have k0 : k = 0 := vn3.1.1
  subst k0
  have pe0 : ∀ {v : gV} {s' : pS}, pAhd (zOf n c dg) s v3 s3 = .ok (v, s') → pUnit (zOf n c dg) K (some r) C s = .ok (v, s') := fun e => pu.trans ((bnd_ok e2).trans ((bnd_ok e3).trans e))
  have pr0 : ∀ {w : Nat × Nat}, pAhd (zOf n c dg) s v3 s3 = .error w → pUnit (zOf n c dg) K (some r) C s = .error w := fun e => pu.trans ((bnd_ok e2).trans ((bnd_ok e3).trans e))
  show Z E YX9_unit (d + 14 + 1) M3 [(0, vr (some (pp, 8, 0))), (1, vi (ahR (zOf n c dg) s))] 30 [vr (some (b, t, 0))] Q
  refine iX9_unit_30 (d := d + 12) M3 pp _ _ ⟨by omega, ?_⟩
  have s4 : zsz (si M3 pp 4 (gi M3 pp 4 - 1)) = zsz M3 := rfl
  have u4 : zsu (si M3 pp 4 (gi M3 pp 4 - 1)) = zsu M3 := rfl
  generalize si M3 pp 4 (gi M3 pp 4 - 1) = M4 at *
  have vn4 := vn3.mv m34 (lo' := zsz M) z190 lz (Nat.le_refl _)
  have z16 : 16 ≤ zsz M3 := by omega
  -- an Ahead
  have finA : ∀ (hv : Int32) (g : gEx), pAhd (zOf n c dg) s v3 s3 = .ok (vOf g, s3) → (∀ (S : Nat → Prop) (M5 : zM), (∀ x, S x → 190 ≤ x) → S (zsz M3) → gi M5 (zsz M3) 0 = hv → gr M5 (zsz M3) 1 = some (b, t, 0) → vNs S M5 DU (b, t, 0) v3 → xE S M5 (DU + 1) (zsz M3, 33, 0) g) → Q (.inl (some (vr (some (zsz M3, 33, 0))))) (sr (si (zn M4 2) (zsz M3) 0 hv) (zsz M3) 1 (some (b, t, 0))) := fun hv g pa hx => by
    rw [← s4]
    rw [← s4] at hx
    have f5 : fg (fun x _ => zsz M ≤ x ∧ τ3 x = 1) M4 (sr (si (zn M4 2) (zsz M4) 0 hv) (zsz M4) 1 (some (b, t, 0))) := (fg.zn (n := 2)).tr2 ((fr.si (.inr (Nat.le_refl _))).tr (fr.sr (.inr (Nat.le_refl _)))).fg
    have g0 : gi (sr (si (zn M4 2) (zsz M4) 0 hv) (zsz M4) 1 (some (b, t, 0))) (zsz M4) 0 = hv := gi_self _ _ _ _
    have g1 : gr (sr (si (zn M4 2) (zsz M4) 0 hv) (zsz M4) 1 (some (b, t, 0))) (zsz M4) 1 = some (b, t, 0) := by simp only [gr_sr]; simp
    have sz5 : zsz (sr (si (zn M4 2) (zsz M4) 0 hv) (zsz M4) 1 (some (b, t, 0))) = zsz M4 + 1 := rfl
    have su5 : zsu (sr (si (zn M4 2) (zsz M4) 0 hv) (zsz M4) 1 (some (b, t, 0))) = zsu M4 + 2 := rfl
    generalize sr (si (zn M4 2) (zsz M4) 0 hv) (zsz M4) 1 (some (b, t, 0)) = M5 at *
    obtain ⟨τ5, R5, ag5, on5, m45⟩ := R4.lc1 (v := 1) (w := 2) f5 (by omega) (by omega)
    have m46 := m45.tr (fin_mvr (lo := zsz M) (τ := τ5) (M := M5))
    refine hy _ s3 (pe0 pa) M5 _ fs3 _ (R5.nd (by dsimp only; omega) (by dsimp only; omega)) ⟨tgv _ 33 (by decide), ?_, .inl ⟨rfl, (by show 33 ≠ 23; decide), fun e => absurd e (show ¬ 33 = 30 by decide)⟩⟩
    exact xE_mono (hx _ M5 (nS_190 z190) (fin_1 (by omega) (by omega) (on5 _ (Nat.le_refl _) (by omega))) g0 g1 (vn4.mv m46 z190 (Nat.le_refl _) (Nat.le_refl _))) (fun _ z => z) (nS_190 z190) (fun _ _ _ => ⟨rfl, rfl⟩) hD.2.1
  have finC : ∀ (l1 hv : Int32), l1 - 7 = hv → (hv = 0 ∨ hv = 1) → v3.2.1 ≠ 0 → pAhd (zOf n c dg) s v3 s3 = .ok (vOf (if v3.2.1 = 1 then gBfN hv v3.2.2.1 else gBfM hv v3.2.2.2.1 v3.2.2.2.2), s3) → Q (.inl (some (vr (some (zsz M4, 32, 0))))) (sr (si (si (zn M4 3) (zsz M4) 0 (l1 - 7)) (zsz M4) 1 0) (zsz M4) 2 (some (b, t, 0))) := fun l1 hv el hh kn pa => by
    rw [el]
    have f5 : fg (fun x _ => zsz M ≤ x ∧ τ3 x = 1) M4 (sr (si (si (zn M4 3) (zsz M4) 0 hv) (zsz M4) 1 0) (zsz M4) 2 (some (b, t, 0))) := (fg.zn (n := 3)).tr2 (((fr.si (.inr (Nat.le_refl _))).tr (fr.si (.inr (Nat.le_refl _)))).tr (fr.sr (.inr (Nat.le_refl _)))).fg
    have g0 : gi (sr (si (si (zn M4 3) (zsz M4) 0 hv) (zsz M4) 1 0) (zsz M4) 2 (some (b, t, 0))) (zsz M4) 0 = hv := by
      show gi (si (si (zn M4 3) (zsz M4) 0 hv) (zsz M4) 1 0) (zsz M4) 0 = hv
      rw [gi_idx (by decide), gi_self]
    have g1 : gi (sr (si (si (zn M4 3) (zsz M4) 0 hv) (zsz M4) 1 0) (zsz M4) 2 (some (b, t, 0))) (zsz M4) 1 = 0 := gi_self _ _ _ _
    have g2 : gr (sr (si (si (zn M4 3) (zsz M4) 0 hv) (zsz M4) 1 0) (zsz M4) 2 (some (b, t, 0))) (zsz M4) 2 = some (b, t, 0) := by simp only [gr_sr]; simp
    have sz5 : zsz (sr (si (si (zn M4 3) (zsz M4) 0 hv) (zsz M4) 1 0) (zsz M4) 2 (some (b, t, 0))) = zsz M4 + 1 := rfl
    have su5 : zsu (sr (si (si (zn M4 3) (zsz M4) 0 hv) (zsz M4) 1 0) (zsz M4) 2 (some (b, t, 0))) = zsu M4 + 3 := rfl
    generalize sr (si (si (zn M4 3) (zsz M4) 0 hv) (zsz M4) 1 0) (zsz M4) 2 (some (b, t, 0)) = M5 at *
    obtain ⟨τ5, R5, ag5, on5, m45⟩ := R4.lc1 (v := 1) (w := 3) f5 (by omega) (by omega)
    have m46 := m45.tr (fin_mvr (lo := zsz M) (τ := τ5) (M := M5))
    have hb := fin_1 (lo := zsz M) (τ := τ5) (hi := zsz M5) (x := zsz M4) (by omega) (by omega) (on5 _ (Nat.le_refl _) (by omega))
    have w1 := vn4.mv m46 z190 (Nat.le_refl _) (Nat.le_refl _)
    have hc : hv.toInt16.toInt32 = hv := by rcases hh with rfl | rfl <;> decide
    refine hy _ s3 (pe0 pa) M5 _ fs3 _ (R5.nd (by dsimp only; omega) (by dsimp only; omega)) ⟨tgv _ 32 (by decide), ?_, .inl ⟨rfl, (by show 32 ≠ 23; decide), fun e => absurd e (show ¬ 32 = 30 by decide)⟩⟩
    refine xE_mono (D := DU + 1) ?_ (fun _ z => z) (nS_190 z190) (fun _ _ _ => ⟨rfl, rfl⟩) hD.2.1
    rcases w1.2.2 with ⟨y, -⟩ | ⟨y1, y2, y3, y4, y5⟩ | ⟨y1, y2⟩
    · exact absurd y kn
    · have y2 : t = 23 := y2
      subst y2
      show xE _ M5 (DU + 1) (zsz M4, 32, 0) (if v3.2.1 = 1 then gBfN hv v3.2.2.1 else gBfM hv v3.2.2.2.1 v3.2.2.2.2)
      rw [if_pos y1]
      exact xe_BfN (nS_190 z190) hb y3 g0 hc g1 g2 y4 y5 hD.2.2
    · show xE _ M5 (DU + 1) (zsz M4, 32, 0) (if v3.2.1 = 1 then gBfN hv v3.2.2.1 else gBfM hv v3.2.2.2.1 v3.2.2.2.2)
      rw [if_neg (by omega)]
      exact xe_BfM hb g0 hc g1 g2 y2 hD.2.2
  -- a fault
  have flt3 : ∀ (Q' : zO → zM → Prop), (∀ M', Q (.inr (zsz M4, 12, 0)) M' → Q' (.inl (some (vr (some (zsz M4, 12, 0))))) M') → pAhd (zOf n c dg) s v3 s3 = flt (zOf n c dg) 3 s3 → Z E YX10_fault (d + 14) M4 (zargs 0 [vr (some (a, 9, 0)), vi 3]) 0 [] Q' := fun Q' hq pa => by
    obtain ⟨⟨lp, hk, -⟩, -⟩ := id R4.ps.tz
    have az := R4.ps.az
    refine x_fault (d := d + 8) (k := 3) (by omega) az.2.1 hk.2.2.1 (fun M' f g1 g2 g3 => hq M' ?_)
    exact hn (3, (tkn n c s3.1).2.2.2.2) (pr0 pa) _ M' (R4.er (ft_er R4.ps ⟨⟨zsz M4, rfl, g1, ⟨Nat.le_refl _, by omega⟩, f.mono fun _ _ _ z => z.elim⟩, g2, g3⟩) (by dsimp only; omega) (by dsimp only; omega))
  have gx := o3.2.2.1.1
  rcases hc with ⟨hv, hv1, eh, pa⟩ | ⟨eh, pa⟩ | ⟨eh, pa⟩ | ⟨eh, pa⟩ | ⟨hv, hv1, eh, pa⟩
  · -- ++ --
    have el : ahR (zOf n c dg) s - 7 = hv := by rw [eh]; rcases hv1 with rfl | rfl <;> decide
    rw [if_neg (by rw [eh]; rcases hv1 with rfl | rfl <;> decide)]
    refine ⟨b, t, rfl, ?_⟩
    refine y_isN vn4 ?_
    show Z E YX9_unit (d + 14 + 1) M4 [(0, vr (some (pp, 8, 0))), (1, vi (ahR (zOf n c dg) s)), (2, vr (some (b, t, 0)))] 51 [vi (if v3.2.1 = 1 then 1 else 0)] Q
    refine iX9_unit_51 (d := d + 12) M4 pp _ b t _ ?_
    by_cases k1 : v3.2.1 = 1
    · rw [if_pos k1, if_neg (by decide)]
      exact ⟨by omega, ⟨rfl, rfl⟩, finC _ hv el hv1 (by omega) ((pa v3 s3).trans (if_neg (by omega)))⟩
    · rw [if_neg k1, if_pos rfl]
      refine y_isM vn4 (by omega) ?_
      show Z E YX9_unit (d + 14 + 1) M4 [(0, vr (some (pp, 8, 0))), (1, vi (ahR (zOf n c dg) s)), (2, vr (some (b, t, 0)))] 58 [vi (if v3.2.1 = 2 then 1 else 0)] Q
      refine iX9_unit_58 (d := d + 12) M4 pp _ b t _ ?_
      by_cases k2 : v3.2.1 = 2
      · rw [if_pos k2, if_neg (by decide)]
        exact ⟨by omega, ⟨rfl, rfl⟩, finC _ hv el hv1 (by omega) ((pa v3 s3).trans (if_neg (by omega)))⟩
      · rw [if_neg k2, if_pos rfl]
        have kz : v3.2.1 = 0 := by
          rcases vn3.2.2 with ⟨y, -⟩ | ⟨y, -⟩ | ⟨y, -⟩
          · exact y
          · exact absurd y k1
          · exact absurd y k2
        refine ⟨a, R4.ps.pt, flt3 _ (fun M' q => ?_) ((pa v3 s3).trans (if_pos kz))⟩
        show Z E YX9_unit (d + 14 + 1) M' [] 69 [vr (some (zsz M4, 12, 0))] Q
        exact sX9_unit_69 M' _ ⟨_, rfl, q⟩
  · -- delete
    rw [eh, if_pos (by decide), if_pos rfl]
    refine ⟨b, t, rfl, ?_⟩
    refine y_isM vn4 (by omega) ?_
    show Z E YX9_unit (d + 14 + 1) M4 [(0, vr (some (pp, 8, 0))), (1, vi 6), (2, vr (some (b, t, 0)))] 94 [vi (if v3.2.1 = 2 then 1 else 0)] Q
    refine iX9_unit_94 (d := d + 12) M4 pp _ b t _ ?_
    by_cases k2 : v3.2.1 = 2
    · rw [if_pos k2, if_neg (by decide)]
      refine ⟨by omega, ?_⟩
      rw [s4]
      refine finA 6 _ ((pa v3 s3).trans (if_pos k2)) (fun S M5 hS hb g0 g1 w => ?_)
      rcases w.2.2 with ⟨y, -⟩ | ⟨y, -⟩ | ⟨y1, y2⟩
      · omega
      · omega
      · exact xe_Del hb g0 g1 y2 (by omega)
    · rw [if_neg k2, if_pos rfl]
      refine ⟨a, R4.ps.pt, flt3 _ (fun M' q => ?_) ((pa v3 s3).trans (if_neg k2))⟩
      show Z E YX9_unit (d + 14 + 1) M' [] 105 [vr (some (zsz M4, 12, 0))] Q
      exact sX9_unit_105 M' _ ⟨_, rfl, q⟩
  · -- void
    rw [eh, if_pos (by decide), if_neg (by decide)]
    exact ⟨z16, finA 5 _ (pa v3 s3) (fun S M5 hS hb g0 g1 w => xe_Void hb g0 g1 w.2.1 gx (by omega))⟩
  · -- typeof
    rw [eh, if_pos (by decide), if_neg (by decide)]
    refine ⟨z16, finA 4 _ (pa v3 s3) (fun S M5 hS hb g0 g1 w => ?_)⟩
    rcases w.2.2 with ⟨y, y2, -⟩ | ⟨y1, y2, y3, y4, y5⟩ | ⟨y1, y2⟩
    · rw [if_neg (by omega)]
      exact xe_Un hb g0 g1 w.2.1 gx (.inr (.inr (.inr (.inr ⟨rfl, y2⟩)))) (by omega)
    · have y2 : t = 23 := y2
      subst y2
      rw [if_pos y1]
      exact xe_Typ hS hb y3 g0 g1 y4 y5 hD.2.2
    · rw [if_neg (by omega)]
      exact xe_Un hb g0 g1 w.2.1 gx (.inr (.inr (.inr (.inr ⟨rfl, (show t ≠ 23 by have : t = 30 := congrArg Prod.fst y2.2.1; omega)⟩)))) (by omega)
  · -- + - ~ !
    rw [eh, if_pos (by rcases hv1 with rfl | rfl | rfl | rfl <;> decide), if_neg (by rcases hv1 with rfl | rfl | rfl | rfl <;> decide)]
    exact ⟨z16, finA hv _ (pa v3 s3) (fun S M5 hS hb g0 g1 w => xe_Un hb g0 g1 w.2.1 gx (by rcases hv1 with y | y | y | y; exact .inl y; exact .inr (.inl y); exact .inr (.inr (.inl y)); exact .inr (.inr (.inr (.inl y)))) (by omega))⟩
end
