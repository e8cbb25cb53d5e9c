/-! THE COMPONENT's PARSER: arguments -/
/-- arguments at o -/
def cAm (E : zE) (pp a lf n : Nat) (c : Nat → Int32) (dg : Int32 → List Int32) (dm o D : Nat) (f : pC → pS → pR (List gEx)) : Prop :=
  ∀ (d : Nat) (Q : zO → zM → Prop) (M : zM) (τ : Nat → Nat) (fs : List Nat) (s : pS) (C : pC), dm ≤ d → isS (zOf n c dg) 26 s = true → xPs M τ pp a lf n c fs s C o →
    (∀ l s', f C s = .ok (l, s') → ∀ M' τ' fs' lst, pEnd pp a lf n c 10 200 M τ fs s C o M' τ' fs' s' → xEl (nS (zsz M) (zsz M') τ') M' D lst l → l.length ≤ 8 → Q (.inl (some (vr (some (lst, 11, 0))))) M') →
    (∀ w, f C s = .error w → ∀ ou M', pEr lf 10 200 τ fs M s w ou M' → Q ou M') → Z E YX9_arguments d M [(0, vr (some (pp, 8, 0)))] 0 [] Q
theorem ar_a {Ub PU s2 s s4 r w c2 c5 : Nat} (h : Ub + 100 + 100 * r ≤ PU + 400 * (s2 - s) + 3 + 4 * c2) (hw : w + 4 * c2 = 4 * c5) (h1 : s ≤ s2) (h2 : s2 < s4) : Ub + 400 * (s4 - s2) - 200 + w + 100 + 100 * (r + 1) ≤ PU + 400 * (s4 - s) + 3 + 4 * c5 := by omega
section
variable {E : zE} {pp a lf n : Nat} {c : Nat → Int32} {dg : Int32 → List Int32} {K o : Nat}
theorem isS_k {j : Int32} {s : pS} (h : isS (zOf n c dg) j s = true) : (tkn n c s.1).1 = 5 := by
  unfold isS at h
  exact of_decide_eq_true (Bool.and_eq_true_iff.mp h).1
theorem tkg5 {t : Nat} (h : (tkn n c t).1 = 5) : tkg (tkn n c t) ∧ ¬ ((tkn n c t).1 = 1 ∨ (tkn n c t).1 = 4) := ⟨⟨by rw [h]; decide, by rw [h]; decide⟩, by rw [h]; decide⟩
theorem y_args {ro : Option pT} {DA dA dm : Nat} (hA : lvO o ro fun o r => cVm E pp a lf n c YX9_assignment [(1, vi 1)] dA o DA (r.asg true)) (hK : 1300 ≤ K) (hdm : dA + 1 ≤ dm ∧ 30 ≤ dm) : cAm E pp a lf n c dg dm o DA (pArgs (zOf n c dg) K ro) := by
  intro d Q M τ fs s C hd hs0 h hy hn
  obtain ⟨d, rfl⟩ : ∃ d', d = d' + 15 := ⟨d - 15, by omega⟩
  have R := rn_st h C.1
  have hp := h.pz
  have z190 := h.z190
  have e3 : sgX (nI 27) = 3 := by decide +kernel
  have e8 : sgX (nI 32) = 8 := by decide +kernel
  refine iX9_arguments_0 (d := d + 11) M pp ⟨by omega, ?_⟩
  have f1 : fg (fun x _ => zsz M ≤ x ∧ τ x = 1) M (sr (si (zn M 3) (zsz M) 0 0) (zsz M) 1 (some (1, 110, 0))) := (fg.zn (n := 3)).tr2 ((fr.si (.inr (Nat.le_refl _))).tr (fr.sr (.inr (Nat.le_refl _)))).fg
  have g1 : gr (sr (si (zn M 3) (zsz M) 0 0) (zsz M) 1 (some (1, 110, 0))) (zsz M) 1 = some (1, 110, 0) := by rw [gr_sr, if_pos rfl, if_pos rfl]
  have g2 : gi (sr (si (zn M 3) (zsz M) 0 0) (zsz M) 1 (some (1, 110, 0))) (zsz M) 2 = 0 := by
    show gi (si (zn M 3) (zsz M) 0 0) (zsz M) 2 = 0
    rw [gi_idx (by decide), gi_zn, if_pos rfl]
  have sz1 : zsz (sr (si (zn M 3) (zsz M) 0 0) (zsz M) 1 (some (1, 110, 0))) = zsz M + 1 := rfl
  have su1 : zsu (sr (si (zn M 3) (zsz M) 0 0) (zsz M) 1 (some (1, 110, 0))) = zsu M + 3 := rfl
  generalize sr (si (zn M 3) (zsz M) 0 0) (zsz M) 1 (some (1, 110, 0)) = M1 at *
  obtain ⟨τ1, R1, ag1, on1, m01⟩ := R.lc1 (v := 1) (w := 3) f1 (by omega) (by omega)
  have W1 : wL (zsz M) M1 τ1 (zsz M) [] := wL_mk g2 g1 ⟨by omega, by omega⟩ ⟨Nat.le_refl _, on1 _ (Nat.le_refl _) (by omega)⟩
  have lA1 : lC M1 (zsz M) = 0 := by unfold lC; rw [g1]
  have pz1 := R1.ps.pz
  have pu0 : pArgs (zOf n c dg) K ro C s = opens (zOf n c dg) ro s fun r => bnd (nxt' (zOf n c dg) s) fun _ s => bnd (if isS (zOf n c dg) 27 s then prt [] s else bnd (r.asg true C s) fun v s => pArg1 (zOf n c dg) r C K [v.1] s) fun l s => bnd (nedS (zOf n c dg) 27 s) fun _ s => prt l s := rfl
  refine y_opens (dg := dg) R1.ps.tz R1.ps.pt pz1.1 R1.ps.op.1 R1.ps.op.2 (fun ho => ?_) (fun ho ou M' f => ?_)
  rotate_left
  · obtain ⟨q, rfl⟩ := fO_inr f.1
    rcases hA with ⟨rfl, -⟩ | ⟨r, rfl, z, -⟩
    · show ZT E YX9_arguments (d + 14 + 1) M' _ 9 (q, 12, 0) Q
      exact ZT.out (nohand rfl) (hn _ (pu0.trans rfl) _ M' (R1.er (ft_er R1.ps f) (by omega) (by omega)))
    · omega
  rcases hA with ⟨-, z⟩ | ⟨r, rfl, -, ok, hc⟩
  · omega
  have pu0 : pArgs (zOf n c dg) K (some r) C s = bnd (nxt' (zOf n c dg) s) fun _ s => bnd (if isS (zOf n c dg) 27 s then prt [] s else bnd (r.asg true C s) fun v s => pArg1 (zOf n c dg) r C K [v.1] s) fun l s => bnd (nedS (zOf n c dg) 27 s) fun _ s => prt l s := pu0
  have R2 := R1.op ho
  have nP : ∀ (x k : Nat), 190 ≤ x → τ1 x = 1 → ¬ (x = pp) := fun x k _ h1 y => by rw [y] at h1; omega
  have W2 := W1.k (τ' := τ1) (M' := si M1 pp 4 (nI (o + 1))) z190 (fr.si (P := fun x _ => x = pp) rfl).fg nP (fun _ _ => rfl)
  show Z E YX9_arguments (d + 14 + 1) (si M1 pp 4 (nI (o + 1))) [(0, vr (some (pp, 8, 0))), (1, vr (some (zsz M, 11, 0)))] 12 [] Q
  refine sX9_arguments_12 _ pp _ ⟨a, R2.ps.pt, ?_⟩
  generalize si M1 pp 4 (nI (o + 1)) = M2 at *
  have k5 := isS_k hs0
  refine y_nxt (dg := dg) R2.ps.tz (tkg5 k5).1 (tkg5 k5).2 (fun s3 en3 M3 f3 x3 => ?_) (fun w en3 ou M' f => ?_)
  rotate_left
  · obtain ⟨q, rfl⟩ := fO_inr f.1
    show ZT E YX9_arguments (d + 14 + 1) M' _ 16 (q, 12, 0) Q
    exact ZT.out (nohand rfl) (hn w (pu0.trans (bnd_er en3)) _ M' (R2.er (ft_er R2.ps f) (by omega) (by omega)))
  have es3 := nx_eq en3
  subst es3
  have R3 := R2.tk f3 x3 rfl (adv_nx s)
  have W3 := W2.1.tk z190 R2.ps f3
  have pu1 : pArgs (zOf n c dg) K (some r) C s = bnd (if isS (zOf n c dg) 27 (s.1 + 1, s.2) then prt [] (s.1 + 1, s.2) else bnd (r.asg true C (s.1 + 1, s.2)) fun v s => pArg1 (zOf n c dg) r C K [v.1] s) fun l s => bnd (nedS (zOf n c dg) 27 s) fun _ s => prt l s := pu0.trans (bnd_ok en3)
  -- the end
  have tail : ∀ (M5 : zM) (τ5 : Nat → Nat) (fs5 : List Nat) (s5 : pS) (Zb Ub : Nat) (es : List (Option zP)) (as : List gEx), rn pp a lf n c M τ fs s C.1 C (o + 1) M5 τ5 fs5 s5 Zb Ub → wL (zsz M) M5 τ5 (zsz M) es → wE (zsz M) M5 τ5 DA es as → as.length ≤ 8 → Zb + 8 + 8 * as.length ≤ zsz M + 20 * (s5.1 - s.1) → Ub + 100 + 100 * as.length ≤ pu M lf fs + 400 * (s5.1 - s.1) + 3 + 4 * lC M5 (zsz M) → pArgs (zOf n c dg) K (some r) C s = bnd (nedS (zOf n c dg) 27 s5) (fun _ s => prt as s) → Z E YX10_need (d + 14) M5 (zargs 0 [vr (some (a, 9, 0)), vi 3]) 0 [] (zafter E YX9_arguments (d + 14 + 1) [(0, vr (some (pp, 8, 0))), (1, vr (some (zsz M, 11, 0)))] 95 3 [] Q) := fun M5 τ5 fs5 s5 Zb Ub es as R5 W5 We5 h8 hZ hU pe => by
    have lc := lC_le W5.1
    have el := We5.1
    have s05 := R5.av.1
    rw [← e3]
    refine y_need (dg := dg) (j := 27) (by decide) R5.ps.tz (fun s6 e6 M6 f6 x6 => ?_) (fun w e6 ou M' f => ?_)
    · have es6 := ne_eq e6
      subst es6
      have R6 := R5.tk f6 x6 rfl (adv_nx s5)
      have W6 := W5.tk z190 R5.ps f6
      have m56 := mvr_tk R5.ps f6
      show Z E YX9_arguments (d + 14 + 1) M6 [(0, vr (some (pp, 8, 0))), (1, vr (some (zsz M, 11, 0)))] 98 [] Q
      refine sX9_arguments_98 M6 pp _ ⟨by omega, ?_⟩
      have R7 := R6.cls h.ls
      have m67 : mvr τ5 M6 τ5 (si M6 pp 4 (gi M6 pp 4 - 1)) := mvr_own R6.ps (fr.si (P := fun x _ => x = pp) rfl) (fun _ _ z => z)
      have pz6 := R6.ps.pz
      have W7 := W6.1.k (τ' := τ5) (M' := si M6 pp 4 (gi M6 pp 4 - 1)) z190 (fr.si (P := fun x _ => x = pp) rfl).fg (fun x k _ h1 y => by rw [y] at h1; omega) (fun _ _ => rfl)
      refine hy as _ (pe.trans ((bnd_ok e6).trans rfl)) _ _ fs5 (zsz M) (R7.nd (by dsimp only; omega) (by dsimp only; omega)) ?_ h8
      exact W7.1.el (((We5.mv m56 z190).mv m67 z190).mv (fin_mvr (lo := zsz M)) z190)
    · obtain ⟨q, rfl⟩ := fO_inr f.1
      show ZT E YX9_arguments (d + 14 + 1) M' _ 95 (q, 12, 0) Q
      exact ZT.out (nohand rfl) (hn w (pe.trans (bnd_er e6)) _ M' (R5.er (ft_er R5.ps f) (by omega) (by omega)))
  -- the loop
  have loop : ∀ (f : Nat) (M5 : zM) (τ5 : Nat → Nat) (fs5 : List Nat) (s5 : pS) (Zb Ub : Nat) (es : List (Option zP)) (as : List gEx), 1300 ≤ f + s5.1 → rn pp a lf n c M τ fs s C.1 C (o + 1) M5 τ5 fs5 s5 Zb Ub → wL (zsz M) M5 τ5 (zsz M) es → wE (zsz M) M5 τ5 DA es as → as.length ≤ 8 → Zb + 8 + 8 * as.length ≤ zsz M + 20 * (s5.1 - s.1) → Ub + 100 + 100 * as.length ≤ pu M lf fs + 400 * (s5.1 - s.1) + 3 + 4 * lC M5 (zsz M) → pArgs (zOf n c dg) K (some r) C s = bnd (pArg1 (zOf n c dg) r C f as s5) (fun l s => bnd (nedS (zOf n c dg) 27 s) fun _ s => prt l s) → Z E YX9_arguments (d + 14 + 1) M5 [(0, vr (some (pp, 8, 0))), (1, vr (some (zsz M, 11, 0)))] 40 [] Q := by
    intro f
    induction f with
    | zero => intro M5 τ5 fs5 s5 Zb Ub es as hf R5 _ _ _ _ _ _; have := R5.ps.tz.t_le; omega
    | succ f ih =>
      intro M5 τ5 fs5 s5 Zb Ub es as hf R5 W5 We5 h8 hZ hU pe
      have lc := lC_le W5.1
      have el := We5.1
      have s05 := R5.av.1
      refine iX9_arguments_40 M5 pp _ ⟨a, R5.ps.pt, ?_⟩
      have kd := tk_kd (dg := dg) R5.ps.tz
      have nocom : isS (zOf n c dg) 32 s5 = false → pArgs (zOf n c dg) K (some r) C s = bnd (nedS (zOf n c dg) 27 s5) (fun _ s => prt as s) := fun hs => pe.trans (by rw [pArg1, if_neg (by rw [hs]; decide)]; rfl)
      by_cases h5 : gi M5 a 3 = 5
      · rw [if_pos h5]
        have k5 : (tkn n c s5.1).1 = 5 := kd.symm.trans h5
        have e32 : isS (zOf n c dg) 32 s5 = decide (gi M5 a 6 = 8) := tk_s (dg := dg) (j := 32) R5.ps.tz h5 (by decide) e8
        by_cases h6 : gi M5 a 6 = 8
        · rw [if_pos h6]
          have hs : isS (zOf n c dg) 32 s5 = true := by rw [e32]; exact decide_eq_true h6
          have pc : pArg1 (zOf n c dg) r C (f + 1) as s5 = if as.length == 8 then flt (zOf n c dg) 2 s5 else bnd (nxt' (zOf n c dg) s5) fun _ s => bnd (r.asg true C s) fun v s => pArg1 (zOf n c dg) r C f (as ++ [v.1]) s := by rw [pArg1, if_pos hs]
          rw [pc] at pe
          rw [W5.1.2.1, el]
          by_cases z8 : as.length = 8
          · rw [if_pos (show nI as.length = 8 by rw [z8]; rfl)]
            rw [if_pos (by rw [z8]; rfl)] at pe
            obtain ⟨⟨lp, hk, -⟩, -⟩ := id R5.ps.tz
            have az := R5.ps.az
            have z5 := R5.ps.z190
            refine x_fault (d := d + 8) (k := 2) (by omega) az.2.1 hk.2.2.1 (fun M' f g1 g2 g3 => ?_)
            show Z E YX9_arguments (d + 14 + 1) M' [] 69 [vr (some (zsz M5, 12, 0))] Q
            refine sX9_arguments_69 M' _ ⟨zsz M5, rfl, ?_⟩
            exact hn (2, (tkn n c s5.1).2.2.2.2) (pe.trans (bnd_er rfl)) _ M' (R5.er (ft_er R5.ps ⟨⟨zsz M5, rfl, g1, ⟨Nat.le_refl _, by omega⟩, f.mono fun _ _ _ z => z.elim⟩, g2, g3⟩) (by omega) (by omega))
          · rw [if_neg (show ¬ nI as.length = 8 from fun y => z8 (nI_inj (b := 8) (by omega) (by omega) y))]
            rw [if_neg (fun y => z8 (beq_iff_eq.mp y))] at pe
            refine y_nxt (dg := dg) R5.ps.tz (tkg5 k5).1 (tkg5 k5).2 (fun s6 e6 M6 f6 x6 => ?_) (fun w e6 ou M' f' => ?_)
            · have es6 := nx_eq e6
              subst es6
              have R6 := R5.tk f6 x6 rfl (adv_nx s5)
              have W6 := W5.tk z190 R5.ps f6
              have m56 := mvr_tk R5.ps f6
              show Z E YX9_arguments (d + 14 + 1) M6 [(0, vr (some (pp, 8, 0))), (1, vr (some (zsz M, 11, 0)))] 77 [] Q
              refine sX9_arguments_77 M6 pp _ ?_
              refine hc (d + 14) _ M6 τ5 fs5 _ C (by omega) R6.ps (fun v7 s7 e7 M7 τ7 fs7 p7 pe7 vn7 => ?_) (fun w e7 ou M' pe' => ?_)
              · have o7 := ok.asg true C _ v7 s7 e7
                have l7 := o7.2.1
                dsimp only at l7
                have R7 := R6.cl pe7 o7.1
                have W7 := W6.1.pe z190 pe7
                have m57 := m56.tr pe7.mvr
                obtain ⟨b7, t7, k7⟩ := p7
                have k0 : k7 = 0 := vn7.1.1
                subst k0
                show Z E YX9_arguments (d + 14 + 1) M7 [(0, vr (some (pp, 8, 0))), (1, vr (some (zsz M, 11, 0)))] 83 [vr (some (b7, t7, 0)), vr (some (zsz M, 11, 0))] Q
                refine sX9_arguments_83 M7 pp _ _ _ ?_
                refine y_ladd (d := d + 8) R7 W7.1 (by omega) (sto_n (by have := vn7.1.2.1; dsimp only at this ⊢; omega) (by have := vn7.1.2.2; dsimp only at this ⊢; omega)) (fun M8 τ8 w R8 W8 m78 ag8 f8 lw la => ?_)
                show Z E YX9_arguments (d + 14 + 1) M8 [(0, vr (some (pp, 8, 0))), (1, vr (some (zsz M, 11, 0)))] 86 [vi 1] Q
                refine sX9_arguments_86 M8 pp _ _ ?_
                have z6 := R6.2.1.2.1.1.1
                have We8 := ((We5.mv m57 z190).mv m78 z190).app (p := (b7, t7, 0)) (g := v7.1) (vn7.mv (lo' := zsz M) m78 z190 z6 (Nat.le_refl _)).2.1 o7.2.2.1.1
                have ln : (as ++ [v7.1]).length = as.length + 1 := by rw [List.length_append]; rfl
                refine ih M8 τ8 fs7 s7 (Zb + 20 * (s7.1 - (s5.1 + 1)) - 10 + 1) (Ub + 400 * (s7.1 - (s5.1 + 1)) - 200 + w) (es ++ [some (b7, t7, 0)]) (as ++ [v7.1]) (by omega) R8 W8 We8 (by omega) (by rw [ln]; omega) ?_ (pe.trans (by rw [bnd_ok e6, bnd_ok e7]))
                rw [ln]
                have hw : w + 4 * lC M5 (zsz M) = 4 * lC M8 (zsz M) := by rw [← lw, W7.2.2, W6.2.2]
                omega
              · obtain ⟨q, rfl⟩ := fO_inr pe'.1
                show ZT E YX9_arguments (d + 14 + 1) M' _ 80 (q, 12, 0) Q
                exact ZT.out (nohand rfl) (hn w (pe.trans (by rw [bnd_ok e6, bnd_er e7]; rfl)) _ M' (R6.er pe' (by dsimp only; omega) (by dsimp only; omega)))
            · obtain ⟨q, rfl⟩ := fO_inr f'.1
              show ZT E YX9_arguments (d + 14 + 1) M' _ 74 (q, 12, 0) Q
              exact ZT.out (nohand rfl) (hn w (pe.trans (by rw [bnd_er e6]; rfl)) _ M' (R5.er (ft_er R5.ps f') (by omega) (by omega)))
        · rw [if_neg h6]
          exact tail M5 τ5 fs5 s5 Zb Ub es as R5 W5 We5 h8 hZ hU (nocom (by rw [e32]; exact decide_eq_false h6))
      · rw [if_neg h5]
        exact tail M5 τ5 fs5 s5 Zb Ub es as R5 W5 We5 h8 hZ hU (nocom (isS_n (fun z => h5 (kd.trans z)) 32))
  have lC3 : lC M3 (zsz M) = 0 := W3.2.2.trans (W2.2.2.trans lA1)
  show Z E YX9_arguments (d + 14 + 1) M3 [(0, vr (some (pp, 8, 0))), (1, vr (some (zsz M, 11, 0)))] 19 [] Q
  refine iX9_arguments_19 M3 pp _ ⟨a, R3.ps.pt, ?_⟩
  have kd := tk_kd (dg := dg) R3.ps.tz
  have asg : isS (zOf n c dg) 27 (s.1 + 1, s.2) = false → Z E YX9_assignment (d + 14) M3 (zargs 0 [vr (some (pp, 8, 0)), vi 1]) 0 [] (zafter E YX9_arguments (d + 14 + 1) [(0, vr (some (pp, 8, 0))), (1, vr (some (zsz M, 11, 0)))] 33 3 [vr (some (zsz M, 11, 0))] Q) := fun hs => by
    have pe : pArgs (zOf n c dg) K (some r) C s = bnd (bnd (r.asg true C (s.1 + 1, s.2)) fun v s => pArg1 (zOf n c dg) r C K [v.1] s) fun l s => bnd (nedS (zOf n c dg) 27 s) fun _ s => prt l s := pu1.trans (by rw [if_neg (by rw [hs]; decide)])
    refine hc (d + 14) _ M3 τ1 fs _ C (by omega) R3.ps (fun v7 s7 e7 M7 τ7 fs7 p7 pe7 vn7 => ?_) (fun w e7 ou M' pe' => ?_)
    · have o7 := ok.asg true C _ v7 s7 e7
      have l7 := o7.2.1
      dsimp only at l7
      have R7 := R3.cl pe7 o7.1
      have W7 := W3.1.pe z190 pe7
      obtain ⟨b7, t7, k7⟩ := p7
      have k0 : k7 = 0 := vn7.1.1
      subst k0
      show Z E YX9_arguments (d + 14 + 1) M7 [(0, vr (some (pp, 8, 0))), (1, vr (some (zsz M, 11, 0)))] 36 [vr (some (b7, t7, 0)), vr (some (zsz M, 11, 0))] Q
      refine sX9_arguments_36 M7 pp _ _ _ ?_
      refine y_ladd (d := d + 8) R7 W7.1 (by show 0 < 90000; decide) (sto_n (by have := vn7.1.2.1; dsimp only at this ⊢; omega) (by have := vn7.1.2.2; dsimp only at this ⊢; omega)) (fun M8 τ8 w R8 W8 m78 ag8 f8 lw la => ?_)
      show Z E YX9_arguments (d + 14 + 1) M8 [(0, vr (some (pp, 8, 0))), (1, vr (some (zsz M, 11, 0)))] 39 [vi 1] Q
      refine sX9_arguments_39 M8 pp _ _ ?_
      have z3 := R3.2.1.2.1.1.1
      have We8 := wE.app (as := []) (es := []) ⟨rfl, fun i g hi => by cases hi⟩ (vn7.mv (lo' := zsz M) m78 z190 z3 (Nat.le_refl _)).2.1 o7.2.2.1.1
      have hw : w = 4 * lC M8 (zsz M) := by have := W7.2.2; omega
      refine loop K M8 τ8 fs7 s7 _ _ [some (b7, t7, 0)] [v7.1] (by omega) R8 W8 We8 (by show 1 ≤ 8; decide) ?_ ?_ (pe.trans (by rw [bnd_ok e7]))
      · show _ + 8 + 8 * 1 ≤ _
        dsimp only
        omega
      · show _ + 100 + 100 * 1 ≤ _
        dsimp only
        omega
    · obtain ⟨q, rfl⟩ := fO_inr pe'.1
      show ZT E YX9_arguments (d + 14 + 1) M' _ 33 (q, 12, 0) Q
      exact ZT.out (nohand rfl) (hn w (pe.trans (by rw [bnd_er e7]; rfl)) _ M' (R3.er pe' (by dsimp only; omega) (by dsimp only; omega)))
  by_cases h5 : gi M3 a 3 = 5
  · rw [if_pos h5]
    have e27 : isS (zOf n c dg) 27 (s.1 + 1, s.2) = decide (gi M3 a 6 = 3) := tk_s (dg := dg) (j := 27) R3.ps.tz h5 (by decide) e3
    by_cases h6 : gi M3 a 6 = 3
    · rw [if_pos h6]
      have hs : isS (zOf n c dg) 27 (s.1 + 1, s.2) = true := by rw [e27]; exact decide_eq_true h6
      refine tail M3 τ1 fs _ _ _ [] [] R3 W3.1 ⟨rfl, fun i g hi => by cases hi⟩ (by show 0 ≤ 8; decide) ?_ ?_ (pu1.trans (by rw [if_pos hs]; rfl))
      · show _ + 8 + 8 * 0 ≤ _
        dsimp only
        omega
      · show _ + 100 + 100 * 0 ≤ _
        dsimp only
        omega
    · rw [if_neg h6]
      exact asg (by rw [e27]; exact decide_eq_false h6)
  · rw [if_neg h5]
    exact asg (isS_n (fun z => h5 (kd.trans z)) 27)
end
