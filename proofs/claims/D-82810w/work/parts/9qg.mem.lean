/-! THE COMPONENT's PARSER: member -/
/-- the key of a member -/
def pKm (z : pZ) (ro : Option pT) (c : pC) (s : pS) : pR gEx :=
  if isS z 30 s then bnd (nxt' z s) fun _ s => if tkd z s.1 = 1 ∨ tkd z s.1 = 2 then bnd (takN z s) fun x s => prt (gCo 6 (Int32.ofNat x)) s else flt z 2 s
  else opens z ro s fun r => bnd (nxt' z s) fun _ s => bnd (r.expr true c s) fun v s => bnd (nedS z 29 s) fun _ s => prt v.1 s
theorem pMem_eq (z : pZ) (ro : Option pT) (e : gV) (c : pC) (s : pS) : pMem z ro e c s = bnd (pKm z ro c s) fun k s => prt (vMm e.1 k) s := by
  unfold pMem pKm
  by_cases h : isS z 30 s = true
  · rw [if_pos h, if_pos h]
    cases nxt' z s with
    | error w => rfl
    | ok p =>
      obtain ⟨u, s1⟩ := p
      show (if tkd z s1.1 = 1 ∨ tkd z s1.1 = 2 then _ else _) = bnd (if tkd z s1.1 = 1 ∨ tkd z s1.1 = 2 then _ else _) _
      by_cases h2 : tkd z s1.1 = 1 ∨ tkd z s1.1 = 2
      · rw [if_pos h2, if_pos h2]
        cases takN z s1 with
        | error w => rfl
        | ok q => rfl
      · rw [if_neg h2, if_neg h2]; rfl
  · rw [if_neg h, if_neg h]
    cases ro with
    | none => rfl
    | some r =>
      show bnd (nxt' z s) _ = bnd (bnd (nxt' z s) _) _
      cases nxt' z s with
      | error w => rfl
      | ok p =>
        obtain ⟨u, s1⟩ := p
        show bnd (r.expr true c s1) _ = bnd (bnd (r.expr true c s1) _) _
        cases r.expr true c s1 with
        | error w => rfl
        | ok q =>
          obtain ⟨v, s2⟩ := q
          show bnd (nedS z 29 s2) _ = bnd (bnd (nedS z 29 s2) _) _
          cases nedS z 29 s2 with
          | error w => rfl
          | ok q => rfl
/-- member at o -/
def cMm (E : zE) (pp a lf n : Nat) (c : Nat → Int32) (dg : Int32 → List Int32) (dm o D : Nat) (f : pC → pS → pR gEx) : Prop :=
  ∀ (d : Nat) (Q : zO → zM → Prop) (M : zM) (τ : Nat → Nat) (fs : List Nat) (s : pS) (C : pC), dm ≤ d → (isS (zOf n c dg) 30 s || isS (zOf n c dg) 28 s) = true → xPs M τ pp a lf n c fs s C o →
    (∀ k s', f C s = .ok (k, s') → gok k → ∀ M' τ' fs' b, pEnd pp a lf n c 10 200 M τ fs s C o M' τ' fs' s' → xSf (nS (zsz M) (zsz M') τ') M' D b (some k, []) → Q (.inl (some (vr (some (b, 19, 0))))) M') →
    (∀ w, f C s = .error w → ∀ ou M', pEr lf 10 200 τ fs M s w ou M' → Q ou M') → Z E YX9_member d M [(0, vr (some (pp, 8, 0)))] 0 [] Q
section
variable {E : zE} {pp a lf n : Nat} {c : Nat → Int32} {dg : Int32 → List Int32} {K o : Nat}
theorem y_mem {ro : Option pT} {DE dE dm : Nat} (hE : lvO o ro fun o r => cVm E pp a lf n c YX9_expression [(1, vi 1)] dE o DE (r.expr true)) (hdm : dE + 1 ≤ dm ∧ 30 ≤ dm) : cMm E pp a lf n c dg dm o DE (pKm (zOf n c dg) ro) := by
  intro d Q M τ fs s C hd hs0 h hy hn
  obtain ⟨d, rfl⟩ : ∃ d', d = d' + 15 := ⟨d - 15, by omega⟩
  have R := rn_st h C.1
  have hp := h.pz
  have z190 := h.z190
  have e6 : sgX (nI 30) = 6 := by decide +kernel
  have e5 : sgX (nI 29) = 5 := by decide +kernel
  refine sX9_member_0 M pp ⟨a, h.pt, ?_⟩
  rw [← e6]
  refine y_takes (dg := dg) (j := 30) (by decide) h.tz (fun hs => ?_) (fun hs s1 en1 M1 f1 x1 => ?_) (fun hs w en1 ou M' f => ?_)
  · -- [ ]
    have hs : isS (zOf n c dg) 30 s = false := hs
    have h28 : isS (zOf n c dg) 28 s = true := by rw [hs, Bool.false_or] at hs0; exact hs0
    have k5 := isS_k h28
    have pu : pKm (zOf n c dg) ro C s = opens (zOf n c dg) ro s fun r => bnd (nxt' (zOf n c dg) s) fun _ s => bnd (r.expr true C s) fun v s => bnd (nedS (zOf n c dg) 29 s) fun _ s => prt v.1 s := by unfold pKm; rw [if_neg (by rw [hs]; decide)]
    show Z E YX9_member (d + 14 + 1) M [(0, vr (some (pp, 8, 0)))] 9 [vi 0] Q
    refine iX9_member_9 M pp _ ?_
    rw [if_pos rfl]
    refine y_opens (dg := dg) h.tz h.pt hp.1 h.op.1 h.op.2 (fun ho => ?_) (fun ho ou M' f => ?_)
    rotate_left
    · obtain ⟨q, rfl⟩ := fO_inr f.1
      rcases hE with ⟨rfl, -⟩ | ⟨r, rfl, z, -⟩
      · show ZT E YX9_member (d + 14 + 1) M' _ 30 (q, 12, 0) Q
        exact ZT.out (nohand rfl) (hn _ (pu.trans rfl) _ M' (R.er (ft_er h f) (by omega) (by omega)))
      · omega
    rcases hE with ⟨-, z⟩ | ⟨r, rfl, -, ok, hc⟩
    · omega
    have pu : pKm (zOf n c dg) (some r) C s = bnd (nxt' (zOf n c dg) s) fun _ s => bnd (r.expr true C s) fun v s => bnd (nedS (zOf n c dg) 29 s) fun _ s => prt v.1 s := pu
    have R1 := R.op ho
    show Z E YX9_member (d + 14 + 1) (si M pp 4 (nI (o + 1))) [(0, vr (some (pp, 8, 0)))] 33 [] Q
    refine sX9_member_33 _ pp ⟨a, R1.ps.pt, ?_⟩
    refine y_nxt (dg := dg) R1.ps.tz (tkg5 k5).1 (tkg5 k5).2 (fun s2 e2 M2 f2 x2 => ?_) (fun w e2 ou M' f => ?_)
    rotate_left
    · obtain ⟨q, rfl⟩ := fO_inr f.1
      show ZT E YX9_member (d + 14 + 1) M' _ 37 (q, 12, 0) Q
      exact ZT.out (nohand rfl) (hn w (pu.trans (bnd_er e2)) _ M' (R1.er (ft_er R1.ps f) (by omega) (by omega)))
    have es2 := nx_eq e2
    subst es2
    have R2 := R1.tk f2 x2 rfl (adv_nx s)
    show Z E YX9_member (d + 14 + 1) M2 [(0, vr (some (pp, 8, 0)))] 40 [] Q
    refine sX9_member_40 M2 pp ?_
    refine hc (d + 14) _ M2 τ fs _ C (by omega) R2.ps (fun v3 s3 e3 M3 τ3 fs3 p3 pe3 vn3 => ?_) (fun w e ou M' pe => ?_)
    rotate_left
    · obtain ⟨q, rfl⟩ := fO_inr pe.1
      show ZT E YX9_member (d + 14 + 1) M' _ 42 (q, 12, 0) Q
      exact ZT.out (nohand rfl) (hn w (pu.trans ((bnd_ok e2).trans (bnd_er e))) _ M' (R2.er pe (by dsimp only; omega) (by dsimp only; omega)))
    have o3 := ok.expr true C _ v3 s3 e3
    have l3 := o3.2.1
    dsimp only at l3
    have R3 := R2.cl pe3 o3.1
    have lz : zsz M ≤ zsz M2 := R2.st.1.1.1
    show Z E YX9_member (d + 14 + 1) M3 [(0, vr (some (pp, 8, 0)))] 45 [vr (some p3)] Q
    refine sX9_member_45 M3 pp _ ⟨a, R3.ps.pt, ?_⟩
    rw [← e5]
    refine y_need (dg := dg) (j := 29) (by decide) R3.ps.tz (fun s4 e4 M4 f4 x4 => ?_) (fun w e4 ou M' f => ?_)
    rotate_left
    · obtain ⟨q, rfl⟩ := fO_inr f.1
      show ZT E YX9_member (d + 14 + 1) M' _ 51 (q, 12, 0) Q
      exact ZT.out (nohand rfl) (hn w (pu.trans ((bnd_ok e2).trans ((bnd_ok e3).trans (bnd_er e4)))) _ M' (R3.er (ft_er R3.ps f) (by dsimp only; omega) (by dsimp only; omega)))
    have es4 := ne_eq e4
    subst es4
    have R4 := R3.tk f4 x4 rfl (adv_nx s3)
    have m34 := mvr_tk R3.ps f4
    show Z E YX9_member (d + 14 + 1) M4 [(0, vr (some (pp, 8, 0))), (1, vr (some p3))] 54 [] Q
    refine iX9_member_54 (d := d + 13) M4 pp _ ⟨by omega, ?_⟩
    have R5 := R4.cls h.ls
    have m45 : mvr τ3 M4 τ3 (si M4 pp 4 (gi M4 pp 4 - 1)) := mvr_own R4.ps (fr.si (P := fun x _ => x = pp) rfl) (fun _ _ z => z)
    have s5 : zsz (si M4 pp 4 (gi M4 pp 4 - 1)) = zsz M4 := rfl
    rw [← s5]
    generalize si M4 pp 4 (gi M4 pp 4 - 1) = M5 at *
    have z5 := R5.2.1.2.1.1.1
    refine ⟨by omega, ?_⟩
    have f6 : fg (fun x _ => zsz M ≤ x ∧ τ3 x = 1) M5 (sr (sr (si (zn M5 3) (zsz M5) 0 (-1)) (zsz M5) 1 (some p3)) (zsz M5) 2 none) := (fg.zn (n := 3)).tr2 (((fr.si (.inr (Nat.le_refl _))).tr (fr.sr (.inr (Nat.le_refl _)))).tr (fr.sr (.inr (Nat.le_refl _)))).fg
    have g1 : gr (sr (sr (si (zn M5 3) (zsz M5) 0 (-1)) (zsz M5) 1 (some p3)) (zsz M5) 2 none) (zsz M5) 1 = some p3 := by simp only [gr_sr]; simp
    have g2 : gr (sr (sr (si (zn M5 3) (zsz M5) 0 (-1)) (zsz M5) 1 (some p3)) (zsz M5) 2 none) (zsz M5) 2 = none := by simp only [gr_sr]; simp
    have sz6 : zsz (sr (sr (si (zn M5 3) (zsz M5) 0 (-1)) (zsz M5) 1 (some p3)) (zsz M5) 2 none) = zsz M5 + 1 := rfl
    have su6 : zsu (sr (sr (si (zn M5 3) (zsz M5) 0 (-1)) (zsz M5) 1 (some p3)) (zsz M5) 2 none) = zsu M5 + 3 := rfl
    generalize sr (sr (si (zn M5 3) (zsz M5) 0 (-1)) (zsz M5) 1 (some p3)) (zsz M5) 2 none = M6 at *
    obtain ⟨τ6, R6, ag6, on6, m56⟩ := R5.lc1 (v := 1) (w := 3) f6 (by omega) (by omega)
    have m36 := ((m34.tr m45).tr m56).tr (fin_mvr (lo := zsz M) (τ := τ6) (M := M6))
    exact hy _ _ (pu.trans ((bnd_ok e2).trans ((bnd_ok e3).trans ((bnd_ok e4).trans rfl)))) o3.2.2.1.1 M6 _ fs3 (zsz M5) (R6.nd (by dsimp only; omega) (by dsimp only; omega)) ⟨fin_1 z5 (by omega) (on6 _ (Nat.le_refl _) (by omega)), g2, .inr ⟨p3, g1, (vn3.mv m36 z190 lz (Nat.le_refl _)).2.1, o3.2.2.1.1⟩⟩
  · -- .name
    have hs : isS (zOf n c dg) 30 s = true := hs
    have pu : pKm (zOf n c dg) ro C s = bnd (nxt' (zOf n c dg) s) fun _ s => if tkd (zOf n c dg) s.1 = 1 ∨ tkd (zOf n c dg) s.1 = 2 then bnd (takN (zOf n c dg) s) fun x s => prt (gCo 6 (Int32.ofNat x)) s else flt (zOf n c dg) 2 s := by unfold pKm; rw [if_pos hs]
    have es1 := nx_eq en1
    subst es1
    have R1 := R.tk f1 x1 rfl (adv_nx s)
    show Z E YX9_member (d + 14 + 1) M1 [(0, vr (some (pp, 8, 0)))] 9 [vi 1] Q
    refine iX9_member_9 M1 pp _ ?_
    rw [if_neg (by decide)]
    obtain ⟨τ2, R2, ag2, on2, m12⟩ := R1.lc1 (M' := zn M1 3) (v := 1) (w := 3) fg.zn (Nat.le_refl _) (Nat.le_refl _)
    have z1 := R1.2.1.2.1.1.1
    have sz2 : zsz (zn M1 3) = zsz M1 + 1 := rfl
    refine ⟨a, R2.ps.pt, ?_⟩
    refine y_tkey (dg := dg) (d := d + 4) R2.ps.tz (fun k12 x s3 e3 ex M3 f3 x3 => ?_) (fun k12 w e3 ou M' f => ?_) (fun k12 ou M' f => ?_)
    · have a3 : adv C.1 (s.1 + 1, s.2) s3 ∧ s3.2.2 = s.2.2 ∧ s3.1 = s.1 + 2 := sat_tak (z := zOf n c dg) (s := (s.1 + 1, s.2)) (F := fun _ s' => adv C.1 (s.1 + 1, s.2) s' ∧ s'.2.2 = s.2.2 ∧ s'.1 = s.1 + 2) (fun w => ⟨adv_nm w _, rfl, rfl⟩) x s3 e3
      have R3 := R2.tk f3 x3 a3.2.1 a3.1
      have l3 := a3.2.2
      show Z E YX9_member (d + 14 + 1) M3 [] 23 [vi (nI x), vr (some (zsz M1, 19, 0)), vr (some (zsz M1, 19, 0))] Q
      have sz3 := f3.1.1
      refine iX9_member_23 (d := d + 13) M3 _ _ _ ⟨by omega, ?_⟩
      have t2 := on2 (zsz M1) (Nat.le_refl _) (by omega)
      have f4 : fg (fun x _ => zsz M ≤ x ∧ τ2 x = 1) M3 (sr (sr (si M3 (zsz M1) 0 (nI x)) (zsz M1) 1 none) (zsz M1) 2 none) := (((fr.si ⟨z1, t2⟩).tr (fr.sr ⟨z1, t2⟩)).tr (fr.sr ⟨z1, t2⟩)).fg
      have g0 : gi (sr (sr (si M3 (zsz M1) 0 (nI x)) (zsz M1) 1 none) (zsz M1) 2 none) (zsz M1) 0 = nI x := gi_self _ _ _ _
      have g1 : gr (sr (sr (si M3 (zsz M1) 0 (nI x)) (zsz M1) 1 none) (zsz M1) 2 none) (zsz M1) 1 = none := by simp only [gr_sr]; simp
      have g2 : gr (sr (sr (si M3 (zsz M1) 0 (nI x)) (zsz M1) 1 none) (zsz M1) 2 none) (zsz M1) 2 = none := by simp only [gr_sr]; simp
      have sz4 : zsz (sr (sr (si M3 (zsz M1) 0 (nI x)) (zsz M1) 1 none) (zsz M1) 2 none) = zsz M3 := rfl
      have su4 : zsu (sr (sr (si M3 (zsz M1) 0 (nI x)) (zsz M1) 1 none) (zsz M1) 2 none) = zsu M3 := rfl
      generalize sr (sr (si M3 (zsz M1) 0 (nI x)) (zsz M1) 1 none) (zsz M1) 2 none = M4 at *
      obtain ⟨τ4, R4, ag4, on4, m34⟩ := R3.lc1 (v := 0) (w := 0) f4 (by omega) (by omega)
      refine hy _ s3 (pu.trans ((bnd_ok en1).trans ((if_pos k12).trans ((bnd_ok e3).trans rfl)))) (gok_Co 6 _) M4 _ fs (zsz M1) (R4.nd (by omega) (by omega)) ⟨fin_1 z1 (by omega) ((ag4 _ (by omega)).trans t2), g2, .inl ⟨g1, ?_⟩⟩
      rw [g0]; rfl
    · obtain ⟨q, rfl⟩ := fO_inr f.1
      show ZT E YX9_member (d + 14 + 1) M' _ 20 (q, 12, 0) Q
      exact ZT.out (nohand rfl) (hn w (pu.trans ((bnd_ok en1).trans ((if_pos k12).trans (bnd_er e3)))) _ M' (R2.er (ft_er R2.ps f) (by dsimp only; omega) (by dsimp only; omega)))
    · obtain ⟨q, rfl⟩ := fO_inr f.1
      show ZT E YX9_member (d + 14 + 1) M' _ 20 (q, 12, 0) Q
      exact ZT.out (nohand rfl) (hn _ (pu.trans ((bnd_ok en1).trans (if_neg k12))) _ M' (R2.er (ft_er R2.ps f) (by dsimp only; omega) (by dsimp only; omega)))
  · have hs : isS (zOf n c dg) 30 s = true := hs
    obtain ⟨q, rfl⟩ := fO_inr f.1
    show ZT E YX9_member (d + 14 + 1) M' _ 6 (q, 12, 0) Q
    exact ZT.out (nohand rfl) (hn w (by unfold pKm; rw [if_pos hs]; exact bnd_er en1) _ M' (R.er (ft_er h f) (by omega) (by omega)))
end
