/-! THE COMPONENT's PARSER: assignment -/
section
variable {z : pZ} {K : Nat}
def pAs2 (z : pZ) (ro : Option pT) (i : Bool) (c : pC) (e : gV) (s : pS) : pR gV :=
  if isS z 45 s then bnd (nxt' z s) fun _ s => bnd (pWth z ro i c s) fun a s => bnd (nedS z 46 s) fun _ s => bnd (pWth z ro i c s) fun b s => prt (vOf (gChoice e.1 a.1 b.1)) s
  else match pSet z s with
    | none => prt e s
    | some h => if e.2.1 = 0 then flt z 3 s else bnd (nxt' z s) fun _ s => bnd (pWth z ro i c s) fun v s => prt (vOf (if e.2.1 = 1 then gGvN h e.2.2.1 v.1 else gGvM h e.2.2.2.1 e.2.2.2.2 v.1)) s
theorem pAsg_eq (ro : Option pT) (i : Bool) (c : pC) (s : pS) : pAsg z K ro i c s = bnd (pBin z K ro i c 10 s) fun e s => pAs2 z ro i c e s := rfl
end
section
variable {E : zE} {pp a lf n : Nat} {c : Nat → Int32} {dg : Int32 → List Int32} {K o : Nat}
theorem pSet_as {s : pS} {j : Nat} (k5 : tkd (zOf n c dg) s.1 = 5) (e1 : twh (zOf n c dg) s.1 = nI j) : asR (pSet (zOf n c dg) s) = asN (nI j) := by
  unfold pSet asN
  simp only [isS_5 k5, e1, decide_eq_true_eq]
  generalize nI j = x
  by_cases h47 : x = 47
  · rw [if_pos h47, if_pos h47]; rfl
  rw [if_neg h47, if_neg h47]
  by_cases h16 : x = 16
  · rw [if_pos h16, if_pos h16]; rfl
  rw [if_neg h16, if_neg h16]
  by_cases h17 : x = 17
  · rw [if_pos h17, if_pos h17]; rfl
  rw [if_neg h17, if_neg h17]
  by_cases h18 : x = 18
  · rw [if_pos h18, if_pos h18]; rfl
  rw [if_neg h18, if_neg h18]
  by_cases h19 : x = 19
  · rw [if_pos h19, if_pos h19]; rfl
  rw [if_neg h19, if_neg h19]
  by_cases h20 : x = 20
  · rw [if_pos h20, if_pos h20]; rfl
  rw [if_neg h20, if_neg h20]
  by_cases h1 : x = 1
  · rw [if_pos h1, if_pos h1]; rfl
  rw [if_neg h1, if_neg h1]
  by_cases h2 : x = 2
  · rw [if_pos h2, if_pos h2]; rfl
  rw [if_neg h2, if_neg h2]
  by_cases h0 : x = 0
  · rw [if_pos h0, if_pos h0]; rfl
  rw [if_neg h0, if_neg h0]
  by_cases h21 : x = 21
  · rw [if_pos h21, if_pos h21]; rfl
  rw [if_neg h21, if_neg h21]
  by_cases h22 : x = 22
  · rw [if_pos h22, if_pos h22]; rfl
  rw [if_neg h22, if_neg h22]
  by_cases h23 : x = 23
  · rw [if_pos h23, if_pos h23]; rfl
  rw [if_neg h23, if_neg h23]
  rfl
theorem pSet_sgO {s : pS} {h : Option Int32} (e : pSet (zOf n c dg) s = some h) : sgO (asR (some h)) h ∧ asR (some h) ≠ -2 := by
  cases h with
  | none => exact ⟨rfl, by decide⟩
  | some h =>
    have : ∃ k : Fin 11, h = Int32.ofNat k.val := by
      unfold pSet at e
      have io : ∀ {α : Type} {p : Prop} [Decidable p] {a x y : α}, (if p then a else x) = y → a = y ∨ x = y := fun {α p _ a x y} e => by
        by_cases h : p
        · rw [if_pos h] at e; exact .inl e
        · rw [if_neg h] at e; exact .inr e
      rcases io e with e | e
      · cases e
      rcases io e with e | e
      · cases e; decide
      rcases io e with e | e
      · cases e; decide
      rcases io e with e | e
      · cases e; decide
      rcases io e with e | e
      · cases e; decide
      rcases io e with e | e
      · cases e; decide
      rcases io e with e | e
      · cases e; decide
      rcases io e with e | e
      · cases e; decide
      rcases io e with e | e
      · cases e; decide
      rcases io e with e | e
      · cases e; decide
      rcases io e with e | e
      · cases e; decide
      rcases io e with e | e
      · cases e; decide
      cases e
    obtain ⟨k, rfl⟩ := this
    clear e
    revert k
    show ∀ k : Fin 11, (Int32.ofNat k.val = Int32.ofNat k.val ∧ ¬ Int32.ofNat k.val = -1 ∧ (Int32.ofNat k.val).toInt16.toInt32 = Int32.ofNat k.val) ∧ Int32.ofNat k.val ≠ -2
    decide
theorem tgv (b t : Nat) (h : 22 ≤ t ∧ t ≤ 36) : ((b, t, 0) : zP).2.2 = 0 ∧ 22 ≤ ((b, t, 0) : zP).2.1 ∧ ((b, t, 0) : zP).2.1 ≤ 36 := ⟨rfl, h.1, h.2⟩
/-- what a method makes of its own: cells from M0 on -/
theorem rn.lc1 {M0 M M' : zM} {τ0 τ : Nat → Nat} {fs0 fs : List Nat} {s0 s : pS} {c0 : Nat} {C : pC} {Zb Ub v w : Nat} (h : rn pp a lf n c M0 τ0 fs0 s0 c0 C o M τ fs s Zb Ub) (f : fg (fun x _ => zsz M0 ≤ x ∧ τ x = 1) M M') (hv : zsz M' ≤ zsz M + v) (hw : zsu M' ≤ zsu M + w) : ∃ τ', rn pp a lf n c M0 τ0 fs0 s0 c0 C o M' τ' fs s (Zb + v) (Ub + w) ∧ (∀ x, x < zsz M → τ' x = τ x) ∧ (∀ x, zsz M ≤ x → x < zsz M' → τ' x = 1) ∧ mvr τ M τ' M' := by
  obtain ⟨τ', h1, h2, h3⟩ := h.lc f hv hw
  exact ⟨τ', h1, h2, h3, mvr_lc f h.2.1.1 h2⟩
theorem y_asg {ro : Option pT} {i : Bool} {DB DW dB dW dm : Nat} (hB : cVm E pp a lf n c YX9_binary [(1, vi 0), (2, vi (boI i))] dB o DB (fun C s => pBin (zOf n c dg) K ro i C 10 s)) (hW : cVm E pp a lf n c YX9_within [(1, vi (boI i))] dW o DW (pWth (zOf n c dg) ro i)) (hr : okO ro) (hD : DW ≤ DB) (h4 : 4 ≤ DB) (hdm : dB + 1 ≤ dm ∧ dW + 1 ≤ dm ∧ 30 ≤ dm) : cVm E pp a lf n c YX9_assignment [(1, vi (boI i))] dm o (DB + 1) (pAsg (zOf n c dg) K ro i) := by
  intro d Q M τ fs s C hd h hy hn
  obtain ⟨d, rfl⟩ : ∃ d', d = d' + 15 := ⟨d - 15, by omega⟩
  have R := rn_st h C.1
  have hp := h.pz
  have z190 := h.z190
  refine sX9_assignment_0 M pp _ ?_
  refine hB (d + 14) _ M τ fs s C (by omega) h (fun v1 s1 e1 M1 τ1 fs1 p1 pe1 vn1 => ?_) (fun w e ou M' pe => ?_)
  rotate_left
  · obtain ⟨q, rfl⟩ := fO_inr pe.1
    show ZT E YX9_assignment (d + 14 + 1) M' _ 3 (q, 12, 0) Q
    exact ZT.out (nohand rfl) (hn w ((pAsg_eq ..).trans (bnd_er e)) _ M' (R.er pe (by omega) (by omega)))
  have o1 := ok_bin hr i 10 s v1 s1 e1
  have R1 := R.cl pe1 o1.1
  have l1 := o1.2.1
  have hy1 : ∀ v s', pAs2 (zOf n c dg) ro i C v1 s1 = .ok (v, s') → ∀ M' τ' fs' p, pEnd pp a lf n c 10 200 M τ fs s C o M' τ' fs' s' → vNd (zsz M) M' τ' (DB + 1) p v → Q (.inl (some (vr (some p)))) M' := fun v s' e => hy v s' ((pAsg_eq ..).trans ((bnd_ok e1).trans e))
  have hn1 : ∀ w, pAs2 (zOf n c dg) ro i C v1 s1 = .error w → ∀ ou M', pEr lf 10 200 τ fs M s w ou M' → Q ou M' := fun w e => hn w ((pAsg_eq ..).trans ((bnd_ok e1).trans e))
  clear hy hn
  obtain ⟨b1, t1, k1⟩ := p1
  have k0 : k1 = 0 := vn1.1.1
  subst k0
  show Z E YX9_assignment (d + 14 + 1) M1 [(0, vr (some (pp, 8, 0))), (1, vi (boI i))] 6 [vr (some (b1, t1, 0))] Q
  refine iX9_assignment_6 M1 pp _ _ ⟨a, R1.ps.pt, ?_⟩
  have kd := tk_kd (dg := dg) R1.ps.tz
  have same : pAs2 (zOf n c dg) ro i C v1 s1 = .ok (v1, s1) → Q (.inl (some (vr (some (b1, t1, 0))))) M1 := fun e => hy1 v1 s1 e M1 _ fs1 _ (R1.nd (by omega) (by omega)) ((vn1.mv (D' := DB + 1) (fin_mvr (lo := zsz M)) z190 (Nat.le_refl _) (by omega)))
  by_cases h5 : gi M1 a 3 = 5
  · rw [if_pos h5]
    have k5 : tkd (zOf n c dg) s1.1 = 5 := kd.symm.trans h5
    obtain ⟨j, hj, ej, e6⟩ := tk_sg (dg := dg) R1.ps.tz h5
    have e45 : isS (zOf n c dg) 45 s1 = decide (gi M1 a 6 = 34) := tk_s (dg := dg) (j := 45) R1.ps.tz h5 (by decide) (by decide +kernel)
    by_cases h34 : gi M1 a 6 = 34
    · rw [if_pos h34]
      have hs : isS (zOf n c dg) 45 s1 = true := by rw [e45]; exact decide_eq_true h34
      have pc : pAs2 (zOf n c dg) ro i C v1 s1 = bnd (nxt' (zOf n c dg) s1) fun _ s => bnd (pWth (zOf n c dg) ro i C s) fun a s => bnd (nedS (zOf n c dg) 46 s) fun _ s => bnd (pWth (zOf n c dg) ro i C s) fun b s => prt (vOf (gChoice v1.1 a.1 b.1)) s := if_pos hs
      refine y_nxt (dg := dg) R1.ps.tz ⟨by rw [show (tkn n c s1.1).1 = 5 from k5]; decide, by rw [show (tkn n c s1.1).1 = 5 from k5]; decide⟩ (by rw [show (tkn n c s1.1).1 = 5 from k5]; decide) (fun s2 e2 M2 f2 x2 => ?_) (fun w e2 ou M' f => ?_)
      rotate_left
      · obtain ⟨q, rfl⟩ := fO_inr f.1
        show ZT E YX9_assignment (d + 14 + 1) M' _ 23 (q, 12, 0) Q
        exact ZT.out (nohand rfl) (hn1 w (pc.trans (bnd_er e2)) _ M' (R1.er (ft_er R1.ps f) (by omega) (by omega)))
      have es2 := nx_eq e2
      subst es2
      have R2 := R1.tk f2 x2 rfl (adv_nx s1)
      have m12 := mvr_tk R1.ps f2
      show Z E YX9_assignment (d + 14 + 1) M2 [(0, vr (some (pp, 8, 0))), (1, vi (boI i)), (2, vr (some (b1, t1, 0)))] 26 [] Q
      refine sX9_assignment_26 M2 pp _ _ ?_
      refine hW (d + 14) _ M2 τ1 fs1 _ C (by omega) R2.ps (fun v3 s3 e3 M3 τ3 fs3 p3 pe3 vn3 => ?_) (fun w e ou M' pe => ?_)
      rotate_left
      · obtain ⟨q, rfl⟩ := fO_inr pe.1
        show ZT E YX9_assignment (d + 14 + 1) M' _ 28 (q, 12, 0) Q
        exact ZT.out (nohand rfl) (hn1 w (pc.trans ((bnd_ok e2).trans (bnd_er e))) _ M' (R2.er pe (by dsimp only; omega) (by dsimp only; omega)))
      have o3 := ok_wth hr i _ v3 s3 e3
      have l3 := o3.2.1
      dsimp only at l3
      have R3 := R2.cl pe3 o3.1
      show Z E YX9_assignment (d + 14 + 1) M3 [(0, vr (some (pp, 8, 0))), (1, vi (boI i)), (2, vr (some (b1, t1, 0)))] 31 [vr (some p3)] Q
      refine sX9_assignment_31 M3 pp _ _ _ ⟨a, R3.ps.pt, ?_⟩
      rw [show (35 : Int32) = sgX (nI 46) by decide +kernel]
      refine y_need (dg := dg) (j := 46) (by decide) R3.ps.tz (fun s4 e4 M4 f4 x4 => ?_) (fun w e4 ou M' f => ?_)
      rotate_left
      · obtain ⟨q, rfl⟩ := fO_inr f.1
        show ZT E YX9_assignment (d + 14 + 1) M' _ 38 (q, 12, 0) Q
        exact ZT.out (nohand rfl) (hn1 w (pc.trans ((bnd_ok e2).trans ((bnd_ok e3).trans (bnd_er e4)))) _ M' (R3.er (ft_er R3.ps f) (by dsimp only; omega) (by dsimp only; omega)))
      have es4 := ne_eq e4
      subst es4
      have R4 := R3.tk f4 x4 rfl (adv_nx s3)
      have m34 := mvr_tk R3.ps f4
      show Z E YX9_assignment (d + 14 + 1) M4 [(0, vr (some (pp, 8, 0))), (1, vi (boI i)), (2, vr (some (b1, t1, 0))), (3, vr (some p3))] 41 [] Q
      refine iX9_assignment_41 M4 pp _ _ _ ?_
      obtain ⟨τ5, R5, ag5, on5, m45⟩ := R4.lc1 (M' := zn M4 3) (v := 1) (w := 3) fg.zn (Nat.le_refl _) (Nat.le_refl _)
      have z4 := R4.st.1.1.1
      have sz5 : zsz (zn M4 3) = zsz M4 + 1 := rfl
      refine hW (d + 14) _ (zn M4 3) τ5 fs3 _ C (by omega) R5.ps (fun v6 s6 e6 M6 τ6 fs6 p6 pe6 vn6 => ?_) (fun w e ou M' pe => ?_)
      rotate_left
      · obtain ⟨q, rfl⟩ := fO_inr pe.1
        show ZT E YX9_assignment (d + 14 + 1) M' _ 49 (q, 12, 0) Q
        exact ZT.out (nohand rfl) (hn1 w (pc.trans ((bnd_ok e2).trans ((bnd_ok e3).trans ((bnd_ok e4).trans (bnd_er e))))) _ M' (R5.er pe (by dsimp only; omega) (by dsimp only; omega)))
      have o6 := ok_wth hr i _ v6 s6 e6
      have l6 := o6.2.1
      dsimp only at l6
      have R6 := R5.cl pe6 o6.1
      have z6 := pe6.2.1.1.1
      show Z E YX9_assignment (d + 14 + 1) M6 [] 52 [vr (some p6), vr (some p3), vr (some (b1, t1, 0)), vr (some (zsz M4, 36, 0)), vr (some (zsz M4, 36, 0))] Q
      refine iX9_assignment_52 (d := d + 12) M6 _ _ _ _ _ ⟨by omega, ?_⟩
      have t6 : τ6 (zsz M4) = 1 := (pe6.2.2.1 _ (by omega)).trans (on5 _ (Nat.le_refl _) (by omega))
      have f7 : fg (fun x _ => zsz M ≤ x ∧ τ6 x = 1) M6 (sr (sr (sr M6 (zsz M4) 0 (some (b1, t1, 0))) (zsz M4) 1 (some p3)) (zsz M4) 2 (some p6)) := (((fr.sr ⟨z4, t6⟩).tr (fr.sr ⟨z4, t6⟩)).tr (fr.sr ⟨z4, t6⟩)).fg
      have g0 : gr (sr (sr (sr M6 (zsz M4) 0 (some (b1, t1, 0))) (zsz M4) 1 (some p3)) (zsz M4) 2 (some p6)) (zsz M4) 0 = some (b1, t1, 0) := by simp only [gr_sr]; simp
      have g1 : gr (sr (sr (sr M6 (zsz M4) 0 (some (b1, t1, 0))) (zsz M4) 1 (some p3)) (zsz M4) 2 (some p6)) (zsz M4) 1 = some p3 := by simp only [gr_sr]; simp
      have g2 : gr (sr (sr (sr M6 (zsz M4) 0 (some (b1, t1, 0))) (zsz M4) 1 (some p3)) (zsz M4) 2 (some p6)) (zsz M4) 2 = some p6 := by simp only [gr_sr]; simp
      have sz7 : zsz (sr (sr (sr M6 (zsz M4) 0 (some (b1, t1, 0))) (zsz M4) 1 (some p3)) (zsz M4) 2 (some p6)) = zsz M6 := rfl
      have su7 : zsu (sr (sr (sr M6 (zsz M4) 0 (some (b1, t1, 0))) (zsz M4) 1 (some p3)) (zsz M4) 2 (some p6)) = zsu M6 := rfl
      generalize sr (sr (sr M6 (zsz M4) 0 (some (b1, t1, 0))) (zsz M4) 1 (some p3)) (zsz M4) 2 (some p6) = M7 at *
      obtain ⟨τ7, R7, ag7, -, m67⟩ := R6.lc1 (v := 0) (w := 0) f7 (by omega) (by omega)
      have m78 : mvr τ7 M7 (fin (zsz M) τ7) M7 := fin_mvr
      have m38 := (((m34.tr m45).tr pe6.mvr).tr m67).tr m78
      have m18 := (m12.tr pe3.mvr).tr m38
      have m68 := m67.tr m78
      refine hy1 _ s6 (pc.trans ((bnd_ok e2).trans ((bnd_ok e3).trans ((bnd_ok e4).trans ((bnd_ok e6).trans rfl))))) M7 _ fs6 (zsz M4, 36, 0) (R7.nd (by dsimp only; omega) (by dsimp only; omega)) ⟨tgv _ 36 (by decide), ?_, .inl ⟨rfl, (by show 36 ≠ 23; decide), fun e => absurd e (show ¬ 36 = 30 by decide)⟩⟩
      exact xe_Choice (fin_1 z4 (by omega) ((ag7 _ (by omega)).trans t6)) g0 g1 g2 (vn1.mv m18 z190 (Nat.le_refl _) (Nat.le_refl _)).2.1 (vn3.mv (lo' := zsz M) (D' := DB) m38 z190 (by have := R2.st.1.1.1; omega) hD).2.1 (vn6.mv (lo' := zsz M) (D' := DB) m68 z190 (by omega) hD).2.1 o1.2.2.1.1 o3.2.2.1.1 o6.2.2.1.1 (by omega)
    · rw [if_neg h34]
      have hs : ¬ isS (zOf n c dg) 45 s1 = true := by rw [e45]; exact fun z => h34 (of_decide_eq_true z)
      have eA := pSet_as k5 ej
      have eN := asN_t ⟨j, hj⟩
      dsimp only at eN
      rw [eN, ← e6] at eA
      cases hps : pSet (zOf n c dg) s1 with
      | none =>
        have ps : pAs2 (zOf n c dg) ro i C v1 s1 = .ok (v1, s1) := by
          unfold pAs2
          rw [if_neg hs, hps]; rfl
        rw [hps] at eA
        have eA : (-2 : Int32) = _ := eA
        by_cases g36 : (36 : Int32) ≤ gi M1 a 6
        · rw [if_pos g36] at eA ⊢
          by_cases x36 : gi M1 a 6 = 36
          · rw [if_pos x36] at eA; exact absurd eA (by decide)
          · rw [if_neg x36] at eA ⊢
            rw [if_pos eA.symm]
            exact same ps
        · rw [if_neg g36]; exact same ps
      | some hh =>
        have pc : pAs2 (zOf n c dg) ro i C v1 s1 = if v1.2.1 = 0 then flt (zOf n c dg) 3 s1 else bnd (nxt' (zOf n c dg) s1) fun _ s => bnd (pWth (zOf n c dg) ro i C s) fun v s => prt (vOf (if v1.2.1 = 1 then gGvN hh v1.2.2.1 v.1 else gGvM hh v1.2.2.2.1 v1.2.2.2.2 v.1)) s := by
          unfold pAs2
          rw [if_neg hs, hps]
        obtain ⟨sO, n2⟩ := pSet_sgO hps
        rw [hps] at eA
        have go : v1.2.1 ≠ 0 → ∃ b : Nat, gr M1 pp 1 = some (b, 9, 0) ∧ Z E YX10_next (d + 14) M1 (zargs 0 [vr (some (b, 9, 0))]) 0 [] (zafter E YX9_assignment (d + 14 + 1) [(0, vr (some (pp, 8, 0))), (1, vi (boI i)), (2, vr (some (b1, t1, 0))), (3, vi (asR (some hh)))] 96 3 [] Q) := fun kn => by
          rw [if_neg kn] at pc
          refine ⟨a, R1.ps.pt, ?_⟩
          refine y_nxt (dg := dg) R1.ps.tz ⟨by rw [show (tkn n c s1.1).1 = 5 from k5]; decide, by rw [show (tkn n c s1.1).1 = 5 from k5]; decide⟩ (by rw [show (tkn n c s1.1).1 = 5 from k5]; decide) (fun s2 e2 M2 f2 x2 => ?_) (fun w e2 ou M' f => ?_)
          rotate_left
          · obtain ⟨q, rfl⟩ := fO_inr f.1
            show ZT E YX9_assignment (d + 14 + 1) M' _ 96 (q, 12, 0) Q
            exact ZT.out (nohand rfl) (hn1 w (pc.trans (bnd_er e2)) _ M' (R1.er (ft_er R1.ps f) (by omega) (by omega)))
          have es2 := nx_eq e2
          subst es2
          have R2 := R1.tk f2 x2 rfl (adv_nx s1)
          have m12 := mvr_tk R1.ps f2
          show Z E YX9_assignment (d + 14 + 1) M2 [(0, vr (some (pp, 8, 0))), (1, vi (boI i)), (2, vr (some (b1, t1, 0))), (3, vi (asR (some hh)))] 99 [] Q
          refine iX9_assignment_99 M2 pp _ _ _ _ ?_
          obtain ⟨τ5, R5, ag5, on5, m25⟩ := R2.lc1 (M' := zn M2 3) (v := 1) (w := 3) fg.zn (Nat.le_refl _) (Nat.le_refl _)
          have z4 := R2.st.1.1.1
          have sz5 : zsz (zn M2 3) = zsz M2 + 1 := rfl
          refine hW (d + 14) _ (zn M2 3) τ5 fs1 _ C (by omega) R5.ps (fun v6 s6 e6 M6 τ6 fs6 p6 pe6 vn6 => ?_) (fun w e ou M' pe => ?_)
          rotate_left
          · obtain ⟨q, rfl⟩ := fO_inr pe.1
            show ZT E YX9_assignment (d + 14 + 1) M' _ 107 (q, 12, 0) Q
            exact ZT.out (nohand rfl) (hn1 w (pc.trans ((bnd_ok e2).trans (bnd_er e))) _ M' (R5.er pe (by dsimp only; omega) (by dsimp only; omega)))
          have o6 := ok_wth hr i _ v6 s6 e6
          have l6 := o6.2.1
          dsimp only at l6
          have R6 := R5.cl pe6 o6.1
          have z6 := pe6.2.1.1.1
          show Z E YX9_assignment (d + 14 + 1) M6 [] 110 [vr (some p6), vr (some (b1, t1, 0)), vi (asR (some hh)), vr (some (zsz M2, 22, 0)), vr (some (zsz M2, 22, 0))] Q
          refine iX9_assignment_110 (d := d + 12) M6 _ _ _ _ _ _ ⟨by omega, ?_⟩
          have t6 : τ6 (zsz M2) = 1 := (pe6.2.2.1 _ (by omega)).trans (on5 _ (Nat.le_refl _) (by omega))
          have f7 : fg (fun x _ => zsz M ≤ x ∧ τ6 x = 1) M6 (sr (sr (si M6 (zsz M2) 0 (asR (some hh))) (zsz M2) 1 (some (b1, t1, 0))) (zsz M2) 2 (some p6)) := (((fr.si ⟨z4, t6⟩).tr (fr.sr ⟨z4, t6⟩)).tr (fr.sr ⟨z4, t6⟩)).fg
          have g0 : gi (sr (sr (si M6 (zsz M2) 0 (asR (some hh))) (zsz M2) 1 (some (b1, t1, 0))) (zsz M2) 2 (some p6)) (zsz M2) 0 = asR (some hh) := gi_self _ _ _ _
          have g1 : gr (sr (sr (si M6 (zsz M2) 0 (asR (some hh))) (zsz M2) 1 (some (b1, t1, 0))) (zsz M2) 2 (some p6)) (zsz M2) 1 = some (b1, t1, 0) := by simp only [gr_sr]; simp
          have g2 : gr (sr (sr (si M6 (zsz M2) 0 (asR (some hh))) (zsz M2) 1 (some (b1, t1, 0))) (zsz M2) 2 (some p6)) (zsz M2) 2 = some p6 := by simp only [gr_sr]; simp
          have sz7 : zsz (sr (sr (si M6 (zsz M2) 0 (asR (some hh))) (zsz M2) 1 (some (b1, t1, 0))) (zsz M2) 2 (some p6)) = zsz M6 := rfl
          have su7 : zsu (sr (sr (si M6 (zsz M2) 0 (asR (some hh))) (zsz M2) 1 (some (b1, t1, 0))) (zsz M2) 2 (some p6)) = zsu M6 := rfl
          generalize sr (sr (si M6 (zsz M2) 0 (asR (some hh))) (zsz M2) 1 (some (b1, t1, 0))) (zsz M2) 2 (some p6) = M7 at *
          obtain ⟨τ7, R7, ag7, -, m67⟩ := R6.lc1 (v := 0) (w := 0) f7 (by omega) (by omega)
          have m78 : mvr τ7 M7 (fin (zsz M) τ7) M7 := fin_mvr
          have m68 := m67.tr m78
          have m18 := ((m12.tr m25).tr pe6.mvr).tr m68
          have w1 := vn1.mv m18 z190 (Nat.le_refl _) (Nat.le_refl _)
          have w6 := vn6.mv (lo' := zsz M) (D' := DB) m68 z190 (by omega) hD
          have hb := fin_1 (τ := τ7) (hi := zsz M7) z4 (by omega) ((ag7 _ (by omega)).trans t6)
          refine hy1 _ s6 (pc.trans ((bnd_ok e2).trans ((bnd_ok e6).trans rfl))) M7 _ fs6 (zsz M2, 22, 0) (R7.nd (by dsimp only; omega) (by dsimp only; omega)) ⟨tgv _ 22 (by decide), ?_, .inl ⟨rfl, (by show 22 ≠ 23; decide), fun e => absurd e (show ¬ 22 = 30 by decide)⟩⟩
          rw [← g0] at sO
          rcases w1.2.2 with ⟨y, -⟩ | ⟨y1, y2, y3, y4, y5⟩ | ⟨y1, y2⟩
          · exact absurd y kn
          · have y2 : t1 = 23 := y2
            subst y2
            show xE _ M7 (DB + 1) (zsz M2, 22, 0) (if v1.2.1 = 1 then gGvN hh v1.2.2.1 v6.1 else gGvM hh v1.2.2.2.1 v1.2.2.2.2 v6.1)
            rw [if_pos y1]
            exact xe_SetN hb y3 sO g1 y4 y5 g2 w6.2.1 o6.2.2.1.1 (by omega)
          · show xE _ M7 (DB + 1) (zsz M2, 22, 0) (if v1.2.1 = 1 then gGvN hh v1.2.2.1 v6.1 else gGvM hh v1.2.2.2.1 v1.2.2.2.2 v6.1)
            rw [if_neg (by omega)]
            exact xe_SetM hb sO g1 g2 y2 w6.2.1 o6.2.2.1.1 (by omega)
        have tail : ∃ b t : Nat, some (b1, t1, 0) = some (b, t, 0) ∧ ∃ Y_ : zY, vt_isName t = some Y_ ∧ Z E Y_ (d + 14) M1 (zargs 0 [vr (some (b, t, 0))]) 0 [] (zafter E YX9_assignment (d + 14 + 1) [(0, vr (some (pp, 8, 0))), (1, vi (boI i)), (2, vr (some (b, t, 0))), (3, vi (asR (some hh)))] 70 3 [] Q) := by
          refine ⟨b1, t1, rfl, y_isN vn1 ?_⟩
          show Z E YX9_assignment (d + 14 + 1) M1 [(0, vr (some (pp, 8, 0))), (1, vi (boI i)), (2, vr (some (b1, t1, 0))), (3, vi (asR (some hh)))] 73 [vi (if v1.2.1 = 1 then 1 else 0)] Q
          refine sX9_assignment_73 M1 pp _ b1 t1 _ _ ?_
          by_cases k1 : v1.2.1 = 1
          · rw [if_pos k1, if_neg (by decide)]; exact go (by omega)
          · rw [if_neg k1, if_pos rfl]
            refine y_isM vn1 (by omega) ?_
            show Z E YX9_assignment (d + 14 + 1) M1 [(0, vr (some (pp, 8, 0))), (1, vi (boI i)), (2, vr (some (b1, t1, 0))), (3, vi (asR (some hh)))] 80 [vi (if v1.2.1 = 2 then 1 else 0)] Q
            refine sX9_assignment_80 M1 pp _ b1 t1 _ _ ?_
            by_cases k2 : v1.2.1 = 2
            · rw [if_pos k2, if_neg (by decide)]; exact go (by omega)
            · rw [if_neg k2, if_pos rfl]
              have kz : v1.2.1 = 0 := by
                rcases vn1.2.2 with ⟨y, -⟩ | ⟨y, -⟩ | ⟨y, -⟩
                · exact y
                · exact absurd y k1
                · exact absurd y k2
              refine ⟨a, R1.ps.pt, ?_⟩
              obtain ⟨⟨lp, hk, -⟩, -⟩ := id R1.ps.tz
              have az := R1.ps.az
              have z1 := R1.ps.z190
              refine x_fault (d := d + 8) (k := 3) (by omega) az.2.1 hk.2.2.1 (fun M' f g1 g2 g3 => ?_)
              show Z E YX9_assignment (d + 14 + 1) M' [] 91 [vr (some (zsz M1, 12, 0))] Q
              refine sX9_assignment_91 M' _ ⟨zsz M1, rfl, ?_⟩
              exact hn1 (3, (tkn n c s1.1).2.2.2.2) (pc.trans (if_pos kz)) _ M' (R1.er (ft_er R1.ps ⟨⟨zsz M1, rfl, g1, ⟨Nat.le_refl _, by omega⟩, f.mono fun _ _ _ z => z.elim⟩, g2, g3⟩) (by omega) (by omega))
        by_cases g36 : (36 : Int32) ≤ gi M1 a 6
        · rw [if_pos g36] at eA ⊢
          by_cases x36 : gi M1 a 6 = 36
          · rw [if_pos x36] at eA ⊢
            rw [eA] at tail
            exact tail
          · rw [if_neg x36] at eA ⊢
            rw [if_neg (fun e => n2 (eA.trans e))]
            rw [eA] at tail
            exact tail
        · rw [if_neg g36] at eA
          exact absurd eA n2
  · rw [if_neg h5]
    refine same ?_
    unfold pAs2
    have k5 : ¬ tkd (zOf n c dg) s1.1 = 5 := fun z => h5 (kd.trans z)
    rw [if_neg (by rw [isS_n k5]; decide)]
    have : pSet (zOf n c dg) s1 = none := by
      unfold pSet
      simp only [isS_n k5]
      rfl
    rw [this]; rfl
end
