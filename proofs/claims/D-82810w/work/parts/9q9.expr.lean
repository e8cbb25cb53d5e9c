/-! THE COMPONENT's PARSER: expression -/
section
variable {E : zE} {pp a lf n : Nat} {c : Nat → Int32} {dg : Int32 → List Int32} {K o : Nat}
theorem ar_u {Ub PU s2 s s4 r w c2 c5 : Nat} (h : Ub + 200 + 500 * r ≤ PU + 400 * (s2 - s) + 4 + 4 * c2) (hw : w + 4 * c2 = 4 * c5) (h1 : s ≤ s2) (h2 : s2 + 1 < s4) : Ub + 400 * (s4 - (s2 + 1)) - 200 + w + 200 + 500 * (r + 1) ≤ PU + 400 * (s4 - s) + 4 + 4 * c5 := by omega
theorem gCms_app (r : List gEx) (x y : gEx) : gCms (r ++ [y]) x = gCom (gCms r x) y := by
  unfold gCms; rw [List.foldl_append]; rfl
/-- the node's own cell while the list grows -/
theorem nl_P {M : zM} {b l k : Nat} (h1 : b ≠ l) (h2 : b ≠ lA M l) : ¬ lP M l b k := fun z => z.elim h1 fun y => h2 y.1
theorem y_expr {ro : Option pT} {i : Bool} {DA dA dm : Nat} (hA : cVm E pp a lf n c YX9_assignment [(1, vi (boI i))] dA o DA (pAsg (zOf n c dg) K ro i)) (hr : okO ro) (hK : 1300 ≤ K) (h4 : 4 ≤ DA) (hdm : dA + 1 ≤ dm ∧ 30 ≤ dm) : cVm E pp a lf n c YX9_expression [(1, vi (boI i))] dm o (DA + 1) (pExpr (zOf n c dg) K ro i) := by
  intro d Q M τ fs s C hd h hy hn
  obtain ⟨d, rfl⟩ : ∃ d', d = d' + 15 := ⟨d - 15, by omega⟩
  have R := rn_st h C.1
  have hp := h.pz
  have z190 := h.z190
  have pe0 : pExpr (zOf n c dg) K ro i C s = bnd (pAsg (zOf n c dg) K ro i C s) fun e s => pComs (zOf n c dg) K ro i C K e s := rfl
  refine sX9_expression_0 M pp _ ?_
  refine hA (d + 14) _ M τ fs s C (by omega) h (fun v1 s1 e1 M1 τ1 fs1 p1 pe1 vn1 => ?_) (fun w e ou M' pe => ?_)
  rotate_left
  · obtain ⟨q, rfl⟩ := fO_inr pe.1
    show ZT E YX9_expression (d + 14 + 1) M' _ 2 (q, 12, 0) Q
    exact ZT.out (nohand rfl) (hn w (pe0.trans (bnd_er e)) _ M' (R.er pe (by omega) (by omega)))
  have o1 := ok_asg hr i s v1 s1 e1
  have R1 := R.cl pe1 o1.1
  have l1 := o1.2.1
  have hy1 : ∀ v s', pComs (zOf n c dg) K ro i C K v1 s1 = .ok (v, s') → ∀ M' τ' fs' p, pEnd pp a lf n c 10 200 M τ fs s C o M' τ' fs' s' → vNd (zsz M) M' τ' (DA + 1) p v → Q (.inl (some (vr (some p)))) M' := fun v s' e => hy v s' (pe0.trans ((bnd_ok e1).trans e))
  have hn1 : ∀ w, pComs (zOf n c dg) K ro i C K v1 s1 = .error w → ∀ ou M', pEr lf 10 200 τ fs M s w ou M' → Q ou M' := fun w e => hn w (pe0.trans ((bnd_ok e1).trans e))
  clear hy hn pe0
  obtain ⟨f0, rfl⟩ : ∃ f0, K = f0 + 1 := ⟨K - 1, by omega⟩
  obtain ⟨b1, t1, k1⟩ := p1
  have k0 : k1 = 0 := vn1.1.1
  subst k0
  show Z E YX9_expression (d + 14 + 1) M1 [(0, vr (some (pp, 8, 0))), (1, vi (boI i))] 5 [vr (some (b1, t1, 0))] Q
  refine iX9_expression_5 (d := d + 10) M1 pp _ _ ⟨a, R1.ps.pt, ?_⟩
  have e8 : sgX (nI 32) = 8 := by decide +kernel
  have same : isS (zOf n c dg) 32 s1 = false → Q (.inl (some (vr (some (b1, t1, 0))))) M1 := fun hs => hy1 v1 s1 (by unfold pComs; rw [if_neg (by rw [hs]; decide)]; rfl) M1 _ fs1 _ (R1.nd (by omega) (by omega)) ((vn1.mv (D' := DA + 1) (fin_mvr (lo := zsz M)) z190 (Nat.le_refl _) (by omega)))
  -- the loop
  have loop : ∀ (f : Nat) (M2 : zM) (τ2 : Nat → Nat) (fs2 : List Nat) (s2 : pS) (Zb Ub b l : Nat) (es : List (Option zP)) (r : List gEx) (e : gV), 1300 ≤ f + s2.1 → e.1 = gCms r v1.1 → (e.2.1 = 0 ∧ r ≠ [] ∨ isS (zOf n c dg) 32 s2 = true) →
      (∀ v s', pComs (zOf n c dg) (f0 + 1) ro i C f e s2 = .ok (v, s') → ∀ M' τ' fs' p, pEnd pp a lf n c 10 200 M τ fs s C o M' τ' fs' s' → vNd (zsz M) M' τ' (DA + 1) p v → Q (.inl (some (vr (some p)))) M') →
      (∀ w, pComs (zOf n c dg) (f0 + 1) ro i C f e s2 = .error w → ∀ ou M', pEr lf 10 200 τ fs M s w ou M' → Q ou M') →
      rn pp a lf n c M τ fs s C.1 C o M2 τ2 fs2 s2 Zb Ub → (zsz M ≤ b ∧ b < zsz M2 ∧ τ2 b = 1 ∧ b ≠ l ∧ b ≠ lA M2 l) → gr M2 b 0 = some (l, 11, 0) → wL (zsz M) M2 τ2 l es → wE (zsz M) M2 τ2 DA es (v1.1 :: r) →
      Zb + 10 + 20 * r.length ≤ zsz M + 20 * (s2.1 - s.1) + 3 → Ub + 200 + 500 * r.length ≤ pu M lf fs + 400 * (s2.1 - s.1) + 4 + 4 * lC M2 l → Z E YX9_expression (d + 14 + 1) M2 [(0, vr (some (pp, 8, 0))), (1, vi (boI i)), (3, vr (some (b, 28, 0)))] 37 [] Q := by
    intro f
    induction f with
    | zero => intro M2 τ2 fs2 s2 Zb Ub b l es r e hf _ _ _ _ R2 _ _ _ _ _ _; have := R2.ps.tz.t_le; omega
    | succ f ih =>
      intro M2 τ2 fs2 s2 Zb Ub b l es r e hf he hk hy2 hn2 R2 hb hg W We hZ hU
      have s02 := R2.av.1
      refine sX9_expression_37 M2 pp _ _ ⟨a, R2.ps.pt, ?_⟩
      rw [← e8]
      refine y_takes (dg := dg) (j := 32) (by decide) R2.ps.tz (fun hs => ?_) (fun hs s3 e3 M3 f3 x3 => ?_) (fun hs w e3 ou M' f' => ?_)
      · -- done
        have hs : isS (zOf n c dg) 32 s2 = false := hs
        show Z E YX9_expression (d + 14 + 1) M2 [(0, vr (some (pp, 8, 0))), (1, vi (boI i)), (3, vr (some (b, 28, 0)))] 46 [vi 0] Q
        refine sX9_expression_46 M2 pp _ b _ ?_
        rw [if_pos rfl]
        have hk : e.2.1 = 0 ∧ r ≠ [] := hk.resolve_right (by rw [hs]; decide)
        have rl : 1 ≤ r.length := List.length_pos_iff.mpr hk.2
        have lc := lC_le W.1
        have el := We.1
        rw [List.length_cons] at el
        have W' := We.mv (fin_mvr (lo := zsz M)) z190
        refine hy2 e s2 (by unfold pComs; rw [if_neg (by rw [hs]; decide)]; rfl) M2 _ fs2 _ (R2.nd (by omega) (by omega)) ⟨tgv _ 28 (by decide), ?_, .inl ⟨hk.1, (by show 28 ≠ 23; decide), fun e => absurd e (show ¬ 28 = 30 by decide)⟩⟩
        rw [he]
        exact xe_Commas (nS_190 z190) (fin_1 hb.1 hb.2.1 hb.2.2.1) hg (W.el W') (by omega)
      · have hs : isS (zOf n c dg) 32 s2 = true := hs
        have pc : pComs (zOf n c dg) (f0 + 1) ro i C (f + 1) e s2 = bnd (nxt' (zOf n c dg) s2) fun _ s => bnd (pAsg (zOf n c dg) (f0 + 1) ro i C s) fun v s => pComs (zOf n c dg) (f0 + 1) ro i C f (vOf (gCom e.1 v.1)) s := by
          rw [pComs]; rw [if_pos hs]
        have es3 := nx_eq e3
        subst es3
        have R3 := R2.tk f3 x3 rfl (adv_nx s2)
        have W3 := W.tk z190 R2.ps f3
        have sz3 := f3.1.1
        have b190 : 190 ≤ b := by omega
        have g3 := (k1_tk R2.ps f3 ⟨b190, hb.2.2.1⟩ 0).2.trans hg
        have m23 := mvr_tk R2.ps f3
        show Z E YX9_expression (d + 14 + 1) M3 [(0, vr (some (pp, 8, 0))), (1, vi (boI i)), (3, vr (some (b, 28, 0)))] 46 [vi 1] Q
        refine sX9_expression_46 M3 pp _ b _ ?_
        rw [if_neg (by decide), g3]
        refine hA (d + 14) _ M3 τ2 fs2 _ C (by omega) R3.ps (fun v4 s4 e4 M4 τ4 fs4 p4 pe4 vn4 => ?_) (fun w e4 ou M' pe => ?_)
        · have o4 := ok_asg hr i _ v4 s4 e4
          have l4 := o4.2.1
          dsimp only at l4
          have R4 := R3.cl pe4 o4.1
          have W4 := W3.1.pe z190 pe4
          have sz4 := pe4.2.1.1.1
          have g4 := (k1_pe pe4 (x := b) ⟨b190, by omega, hb.2.2.1⟩ 0).2.trans g3
          have t4 : τ4 b = 1 := (pe4.2.2.1 b (by omega)).trans hb.2.2.1
          have m24 := m23.tr pe4.mvr
          obtain ⟨b4, t4', k4⟩ := p4
          have k0 : k4 = 0 := vn4.1.1
          subst k0
          show Z E YX9_expression (d + 14 + 1) M4 [(0, vr (some (pp, 8, 0))), (1, vi (boI i)), (3, vr (some (b, 28, 0)))] 58 [vr (some (b4, t4', 0)), vr (some (l, 11, 0))] Q
          refine sX9_expression_58 M4 pp _ b _ _ ⟨l, rfl, ?_⟩
          have el := We.1
          rw [List.length_cons] at el
          have tl := R4.ps.tz.t_le
          have zb := R2.2.2.2.2.2.1
          have zb0 := R2.2.1.2.1.1.1
          have rl : r.length ≤ 5000 := by omega
          refine y_ladd (d := d + 8) R4 W4.1 (by omega) (sto_n (by have := vn4.1.2.1; dsimp only at this ⊢; omega) (by have := vn4.1.2.2; dsimp only at this ⊢; omega)) (fun M5 τ5 w R5 W5 m45 ag5 f5 lw la => ?_)
          show Z E YX9_expression (d + 14 + 1) M5 [(0, vr (some (pp, 8, 0))), (1, vi (boI i)), (3, vr (some (b, 28, 0)))] 61 [vi 1] Q
          refine sX9_expression_61 M5 pp _ b _ ?_
          have sz5 := f5.1.1
          have nb : b ≠ lA M4 l := by rw [W4.2.1, W3.2.1]; exact hb.2.2.2.2
          have g5 : gr M5 b 0 = some (l, 11, 0) := (f5.gr (by omega) (nl_P hb.2.2.2.1 nb)).trans g4
          have z3 := R3.2.1.2.1.1.1
          have We5 := ((We.mv m24 z190).mv m45 z190).app (p := (b4, t4', 0)) (g := v4.1) (vn4.mv (lo' := zsz M) m45 z190 z3 (Nat.le_refl _)).2.1 o4.2.2.1.1
          refine ih M5 τ5 fs4 s4 (Zb + 20 * (s4.1 - (s2.1 + 1)) - 10 + 1) (Ub + 400 * (s4.1 - (s2.1 + 1)) - 200 + w) b l (es ++ [some (b4, t4', 0)]) (r ++ [v4.1]) (vOf (gCom e.1 v4.1)) (by omega) ?_ (.inl ⟨rfl, by simp⟩) (fun v s' e' => hy2 v s' (pc.trans ((bnd_ok e3).trans ((bnd_ok e4).trans e')))) (fun w e' => hn2 w (pc.trans ((bnd_ok e3).trans ((bnd_ok e4).trans e')))) R5 ⟨hb.1, by omega, (ag5 b (by omega)).trans t4, hb.2.2.2.1, ?_⟩ g5 W5 We5 ?_ ?_
          · show gCom e.1 v4.1 = _
            rw [gCms_app, he]
          · rcases la with y | y
            · rw [y]; exact nb
            · omega
          · rw [List.length_append]
            show Zb + 20 * (s4.1 - (s2.1 + 1)) - 10 + 1 + 10 + 20 * (r.length + 1) ≤ _
            omega
          · rw [List.length_append]
            show Ub + 400 * (s4.1 - (s2.1 + 1)) - 200 + w + 200 + 500 * (r.length + 1) ≤ _
            exact ar_u hU (by rw [← lw, W4.2.2, W3.2.2]) s02 l4
        · obtain ⟨q, rfl⟩ := fO_inr pe.1
          show ZT E YX9_expression (d + 14 + 1) M' _ 55 (q, 12, 0) Q
          have lc := lC_le W.1
          have el := We.1
          rw [List.length_cons] at el
          exact ZT.out (nohand rfl) (hn2 w (pc.trans ((bnd_ok e3).trans (bnd_er e4))) _ M' (R3.er pe (by dsimp only; omega) (by dsimp only; omega)))
      · have hs : isS (zOf n c dg) 32 s2 = true := hs
        have pc : pComs (zOf n c dg) (f0 + 1) ro i C (f + 1) e s2 = bnd (nxt' (zOf n c dg) s2) fun _ s => bnd (pAsg (zOf n c dg) (f0 + 1) ro i C s) fun v s => pComs (zOf n c dg) (f0 + 1) ro i C f (vOf (gCom e.1 v.1)) s := by
          rw [pComs]; rw [if_pos hs]
        obtain ⟨q, rfl⟩ := fO_inr f'.1
        show ZT E YX9_expression (d + 14 + 1) M' _ 43 (q, 12, 0) Q
        have lc := lC_le W.1
        have el := We.1
        rw [List.length_cons] at el
        exact ZT.out (nohand rfl) (hn2 w (pc.trans (bnd_er e3)) _ M' (R2.er (ft_er R2.ps f') (by omega) (by omega)))
  have kd := tk_kd (dg := dg) R1.ps.tz
  by_cases h5 : gi M1 a 3 = 5
  · rw [if_pos h5]
    have e32 : isS (zOf n c dg) 32 s1 = decide (gi M1 a 6 = 8) := tk_s (dg := dg) (j := 32) R1.ps.tz h5 (by decide) e8
    by_cases h6 : gi M1 a 6 = 8
    · rw [if_pos h6]
      have hs : isS (zOf n c dg) 32 s1 = true := by rw [e32]; exact decide_eq_true h6
      have zm := R1.2.1.2.1.1.1
      refine ⟨by show 16 ≤ zsz M1 + 1; omega, by omega, ?_⟩
      have sN : zsz (zn M1 1) = zsz M1 + 1 := rfl
      rw [sN]
      have f2 : fg (fun x _ => zsz M ≤ x ∧ τ1 x = 1) M1 (sr (sr (si (zn (zn M1 1) 3) (zsz M1 + 1) 0 0) (zsz M1 + 1) 1 (some (1, 110, 0))) (zsz M1) 0 (some (zsz M1 + 1, 11, 0))) := ((fg.zn (n := 1)).tr (fg.zn (n := 3))).tr2 (((fr.si (.inr (by omega))).tr (fr.sr (.inr (by omega)))).tr (fr.sr (.inr (Nat.le_refl _)))).fg
      have g0 : gr (sr (sr (si (zn (zn M1 1) 3) (zsz M1 + 1) 0 0) (zsz M1 + 1) 1 (some (1, 110, 0))) (zsz M1) 0 (some (zsz M1 + 1, 11, 0))) (zsz M1) 0 = some (zsz M1 + 1, 11, 0) := by simp only [gr_sr]; simp
      have g1 : gr (sr (sr (si (zn (zn M1 1) 3) (zsz M1 + 1) 0 0) (zsz M1 + 1) 1 (some (1, 110, 0))) (zsz M1) 0 (some (zsz M1 + 1, 11, 0))) (zsz M1 + 1) 1 = some (1, 110, 0) := by simp only [gr_sr]; simp
      have g2 : gi (sr (sr (si (zn (zn M1 1) 3) (zsz M1 + 1) 0 0) (zsz M1 + 1) 1 (some (1, 110, 0))) (zsz M1) 0 (some (zsz M1 + 1, 11, 0))) (zsz M1 + 1) 2 = 0 := by
        show gi (si (zn (zn M1 1) 3) (zsz M1 + 1) 0 0) (zsz M1 + 1) 2 = 0
        rw [gi_idx (by decide), gi_zn, if_pos (show zsz M1 + 1 = zsz (zn M1 1) from rfl)]
      have sz2 : zsz (sr (sr (si (zn (zn M1 1) 3) (zsz M1 + 1) 0 0) (zsz M1 + 1) 1 (some (1, 110, 0))) (zsz M1) 0 (some (zsz M1 + 1, 11, 0))) = zsz M1 + 2 := rfl
      have su2 : zsu (sr (sr (si (zn (zn M1 1) 3) (zsz M1 + 1) 0 0) (zsz M1 + 1) 1 (some (1, 110, 0))) (zsz M1) 0 (some (zsz M1 + 1, 11, 0))) = zsu M1 + 4 := rfl
      generalize sr (sr (si (zn (zn M1 1) 3) (zsz M1 + 1) 0 0) (zsz M1 + 1) 1 (some (1, 110, 0))) (zsz M1) 0 (some (zsz M1 + 1, 11, 0)) = M2 at *
      obtain ⟨τ2, R2, ag2, on2, m12⟩ := R1.lc1 (v := 2) (w := 4) f2 (by omega) (by omega)
      refine ⟨zsz M1 + 1, g0, ?_⟩
      have W2 : wL (zsz M) M2 τ2 (zsz M1 + 1) [] := wL_mk g2 g1 ⟨by omega, by omega⟩ ⟨by omega, on2 _ (by omega) (by omega)⟩
      have lA2 : lA M2 (zsz M1 + 1) = 1 ∧ lC M2 (zsz M1 + 1) = 0 := by unfold lA lC; rw [g1]; exact ⟨rfl, rfl⟩
      refine y_ladd (d := d + 8) R2 W2 (by show 0 < 90000; decide) (sto_n (by have := vn1.1.2.1; dsimp only at this ⊢; omega) (by have := vn1.1.2.2; dsimp only at this ⊢; omega)) (fun M3 τ3 w R3 W3 m23 ag3 f3 lw la => ?_)
      show Z E YX9_expression (d + 14 + 1) M3 [(0, vr (some (pp, 8, 0))), (1, vi (boI i)), (3, vr (some (zsz M1, 28, 0)))] 36 [vi 1] Q
      refine sX9_expression_36 M3 pp _ _ _ ?_
      have sz3 := f3.1.1
      have nb : zsz M1 ≠ lA M2 (zsz M1 + 1) := by rw [lA2.1]; omega
      refine loop (f0 + 1) M3 τ3 fs1 s1 _ _ (zsz M1) (zsz M1 + 1) [some (b1, t1, 0)] [] v1 (by omega) rfl (.inr hs) hy1 hn1 R3 ⟨zm, by omega, (ag3 _ (by omega)).trans (on2 _ (Nat.le_refl _) (by omega)), by omega, ?_⟩ ((f3.gr (by omega) (nl_P (by omega) nb)).trans g0) W3 ?_ ?_ ?_
      · rcases la with y | y
        · rw [y]; exact nb
        · omega
      · exact wE.app (as := []) (es := []) ⟨rfl, fun i g hi => by cases hi⟩ (vn1.mv (lo' := zsz M) (m12.tr m23) z190 (Nat.le_refl _) (Nat.le_refl _)).2.1 o1.2.2.1.1
      · show _ + 10 + 20 * 0 ≤ _
        omega
      · show _ + 200 + 500 * 0 ≤ _
        omega
    · rw [if_neg h6]
      exact same (by rw [e32]; exact decide_eq_false h6)
  · rw [if_neg h5]
    exact same (isS_n (fun z => h5 (kd.trans z)) 32)
end
