/-! THE COMPONENT's PARSER: counted, unit -/
def pPs2 (z : pZ) (e : gV) (s : pS) : pR gV := if (isS z 10 s || isS z 11 s) && tln z s.1 == tln z (s.1 - 1) then (if e.2.1 = 0 then flt z 3 s else bnd (nxt' z s) fun _ s' => prt (vOf (if e.2.1 = 1 then gBhN (if isS z 10 s then 0 else 1) e.2.2.1 else gBhM (if isS z 10 s then 0 else 1) e.2.2.2.1 e.2.2.2.2)) s') else prt e s
theorem pPost_eq (z : pZ) (K : Nat) (ro : Option pT) (c : pC) (s : pS) : pPost z K ro c s = bnd (pLeft z K ro c s) fun e s => pPs2 z e s := rfl
section
variable {E : zE} {pp a lf n : Nat} {c : Nat → Int32} {dg : Int32 → List Int32} {K o : Nat}
theorem nt_tk {x k : Nat} (h1 : 190 ≤ x) (h2 : x ≠ a) : ¬ tkP a x k := by unfold tkP; omega
theorem y_cnt {ro : Option pT} {DL dL dm : Nat} (hL : cVm E pp a lf n c YX9_left [] dL o DL (pLeft (zOf n c dg) K ro)) (hr : okO ro) (h4 : 4 ≤ DL) (hdm : dL + 1 ≤ dm ∧ 30 ≤ dm) : cVm E pp a lf n c YX9_counted [] dm o (DL + 1) (pPost (zOf n c dg) K ro) := by
  intro d Q M τ fs s C hd h hy hn
  obtain ⟨d, rfl⟩ : ∃ d', d = d' + 15 := ⟨d - 15, by omega⟩
  have R := rn_st h C.1
  have hp := h.pz
  have z190 := h.z190
  refine sX9_counted_0 M pp ?_
  refine hL (d + 14) _ M τ fs s C (by omega) h (fun v1 s1 e1 M1 τ1 fs1 p1 pe1 vn1 => ?_) (fun w e ou M' pe => ?_)
  rotate_left
  · obtain ⟨q, rfl⟩ := fO_inr pe.1
    show ZT E YX9_counted (d + 14 + 1) M' _ 1 (q, 12, 0) Q
    exact ZT.out (nohand rfl) (hn w ((pPost_eq ..).trans (bnd_er e)) _ M' (R.er pe (by omega) (by omega)))
  have o1 := ok_left hr s v1 s1 e1
  have R1 := R.cl pe1 o1.1
  have l1 := o1.2.1
  have hy1 : ∀ v s', pPs2 (zOf n c dg) v1 s1 = .ok (v, s') → ∀ M' τ' fs' p, pEnd pp a lf n c 10 200 M τ fs s C o M' τ' fs' s' → vNd (zsz M) M' τ' (DL + 1) p v → Q (.inl (some (vr (some p)))) M' := fun v s' e => hy v s' ((pPost_eq ..).trans ((bnd_ok e1).trans e))
  have hn1 : ∀ w, pPs2 (zOf n c dg) v1 s1 = .error w → ∀ ou M', pEr lf 10 200 τ fs M s w ou M' → Q ou M' := fun w e => hn w ((pPost_eq ..).trans ((bnd_ok e1).trans e))
  clear hy hn
  obtain ⟨b1, t1, k1⟩ := p1
  have k0 : k1 = 0 := vn1.1.1
  subst k0
  show Z E YX9_counted (d + 14 + 1) M1 [(0, vr (some (pp, 8, 0)))] 4 [vr (some (b1, t1, 0))] Q
  refine iX9_counted_4 M1 pp _ ⟨a, R1.ps.pt, ?_⟩
  have kd := tk_kd (dg := dg) R1.ps.tz
  have ln := tk_ln (dg := dg) R1.ps.tz (by omega)
  have same : pPs2 (zOf n c dg) v1 s1 = .ok (v1, s1) → Q (.inl (some (vr (some (b1, t1, 0))))) M1 := fun e => hy1 v1 s1 e M1 _ fs1 _ (R1.nd (by omega) (by omega)) ((vn1.mv (D' := DL + 1) (fin_mvr (lo := zsz M)) z190 (Nat.le_refl _) (by omega)))
  by_cases h5 : gi M1 a 3 = 5
  · rw [if_pos h5]
    have k5 : tkd (zOf n c dg) s1.1 = 5 := kd.symm.trans h5
    have e10 : isS (zOf n c dg) 10 s1 = decide (gi M1 a 6 = 22) := tk_s (dg := dg) (j := 10) R1.ps.tz h5 (by decide) (by decide +kernel)
    have e11 : isS (zOf n c dg) 11 s1 = decide (gi M1 a 6 = 23) := tk_s (dg := dg) (j := 11) R1.ps.tz h5 (by decide) (by decide +kernel)
    have tail : (gi M1 a 6 = 22 ∨ gi M1 a 6 = 23) → gi M1 a 4 ≤ gi M1 a 5 → ∃ b t : Nat, some (b1, t1, 0) = some (b, t, 0) ∧ ∃ Y_ : zY, vt_isName t = some Y_ ∧ Z E Y_ (d + 14) M1 (zargs 0 [vr (some (b, t, 0))]) 0 [] (zafter E YX9_counted (d + 14 + 1) [(0, vr (some (pp, 8, 0))), (1, vr (some (b, t, 0)))] 42 3 [] Q) := fun h6 hl => by
      have hc : ((isS (zOf n c dg) 10 s1 || isS (zOf n c dg) 11 s1) && tln (zOf n c dg) s1.1 == tln (zOf n c dg) (s1.1 - 1)) = true := by
        rw [ln.mp hl, Bool.and_true, e10, e11]
        rcases h6 with z | z <;> rw [z] <;> decide
      have pc : pPs2 (zOf n c dg) v1 s1 = if v1.2.1 = 0 then flt (zOf n c dg) 3 s1 else bnd (nxt' (zOf n c dg) s1) fun _ s' => prt (vOf (if v1.2.1 = 1 then gBhN (if isS (zOf n c dg) 10 s1 then 0 else 1) v1.2.2.1 else gBhM (if isS (zOf n c dg) 10 s1 then 0 else 1) v1.2.2.2.1 v1.2.2.2.2)) s' := if_pos hc
      have eh : gi M1 a 6 - 22 = if isS (zOf n c dg) 10 s1 then 0 else 1 := by
        rw [e10]
        rcases h6 with z | z <;> rw [z] <;> decide
      have hh : (if isS (zOf n c dg) 10 s1 then (0 : Int32) else 1).toInt16.toInt32 = if isS (zOf n c dg) 10 s1 then (0 : Int32) else 1 := by
        cases isS (zOf n c dg) 10 s1 <;> decide
      generalize (if isS (zOf n c dg) 10 s1 then (0 : Int32) else 1) = hv at *
      have az := R1.ps.az
      have pz := R1.ps.pz
      have zm := R1.st.1.1.1
      have go : v1.2.1 ≠ 0 → ∃ b : Nat, gr (zn M1 3) pp 1 = some (b, 9, 0) ∧ 16 ≤ zsz M1 ∧ zfit .boolean 1 ∧ ∃ b' : Nat, gr (sr (si (si (zn M1 3) (zsz M1) 0 (gi (zn M1 3) b 6 - 22)) (zsz M1) 1 1) (zsz M1) 2 (some (b1, t1, 0))) pp 1 = some (b', 9, 0) ∧ Z E YX10_next (d + 12 + 2) (sr (si (si (zn M1 3) (zsz M1) 0 (gi (zn M1 3) b 6 - 22)) (zsz M1) 1 1) (zsz M1) 2 (some (b1, t1, 0))) (zargs 0 [vr (some (b', 9, 0))]) 0 [] (zafter E YX9_counted ((d + 12 + 2) + 1) [(1, vr (some (zsz M1, 32, 0)))] 88 3 [] Q) := fun kn => by
        rw [if_neg kn] at pc
        have ea : gi (zn M1 3) a 6 = gi M1 a 6 := by rw [gi_zn, if_neg (by omega)]
        refine ⟨a, by rw [gr_zn, if_neg (by omega)]; exact R1.ps.pt, by omega, ⟨rfl, rfl⟩, ?_⟩
        rw [ea, eh]
        have f2 : fg (fun x _ => zsz M ≤ x ∧ τ1 x = 1) M1 (sr (si (si (zn M1 3) (zsz M1) 0 hv) (zsz M1) 1 1) (zsz M1) 2 (some (b1, t1, 0))) := (fg.zn (n := 3)).tr2 (((fr.si (.inr (Nat.le_refl _))).tr (fr.si (.inr (Nat.le_refl _)))).tr (fr.sr (.inr (Nat.le_refl _)))).fg
        have g0 : gi (sr (si (si (zn M1 3) (zsz M1) 0 hv) (zsz M1) 1 1) (zsz M1) 2 (some (b1, t1, 0))) (zsz M1) 0 = hv := by
          show gi (si (si (zn M1 3) (zsz M1) 0 hv) (zsz M1) 1 1) (zsz M1) 0 = hv
          rw [gi_idx (by decide), gi_self]
        have g1 : gi (sr (si (si (zn M1 3) (zsz M1) 0 hv) (zsz M1) 1 1) (zsz M1) 2 (some (b1, t1, 0))) (zsz M1) 1 = 1 := gi_self _ _ _ _
        have g2 : gr (sr (si (si (zn M1 3) (zsz M1) 0 hv) (zsz M1) 1 1) (zsz M1) 2 (some (b1, t1, 0))) (zsz M1) 2 = some (b1, t1, 0) := by simp only [gr_sr]; simp
        have sz2 : zsz (sr (si (si (zn M1 3) (zsz M1) 0 hv) (zsz M1) 1 1) (zsz M1) 2 (some (b1, t1, 0))) = zsz M1 + 1 := rfl
        have su2 : zsu (sr (si (si (zn M1 3) (zsz M1) 0 hv) (zsz M1) 1 1) (zsz M1) 2 (some (b1, t1, 0))) = zsu M1 + 3 := rfl
        generalize sr (si (si (zn M1 3) (zsz M1) 0 hv) (zsz M1) 1 1) (zsz M1) 2 (some (b1, t1, 0)) = M2 at *
        obtain ⟨τ2, R2, ag2, on2, m12⟩ := R1.lc1 (v := 1) (w := 3) f2 (by omega) (by omega)
        refine ⟨a, R2.ps.pt, ?_⟩
        refine y_nxt (dg := dg) R2.ps.tz ⟨by rw [show (tkn n c s1.1).1 = 5 from k5]; decide, by rw [show (tkn n c s1.1).1 = 5 from k5]; decide⟩ (by rw [show (tkn n c s1.1).1 = 5 from k5]; decide) (fun s3 e3 M3 f3 x3 => ?_) (fun w e3 ou M' f => ?_)
        rotate_left
        · obtain ⟨q, rfl⟩ := fO_inr f.1
          show ZT E YX9_counted (d + 14 + 1) M' _ 88 (q, 12, 0) Q
          exact ZT.out (nohand rfl) (hn1 w (pc.trans (bnd_er e3)) _ M' (R2.er (ft_er R2.ps f) (by omega) (by omega)))
        have es3 := nx_eq e3
        subst es3
        have R3 := R2.tk f3 x3 rfl (adv_nx s1)
        have m23 := mvr_tk R2.ps f3
        have nt : ∀ k, ¬ tkP a (zsz M1) k := fun k => nt_tk (by omega) (by omega)
        show Z E YX9_counted (d + 14 + 1) M3 [(1, vr (some (zsz M1, 32, 0)))] 91 [] Q
        refine sX9_counted_91 M3 _ ?_
        have sz3 := f3.1.1
        have m38 : mvr τ2 M3 (fin (zsz M) τ2) M3 := fin_mvr
        have m18 := (m12.tr m23).tr m38
        have w1 := vn1.mv m18 z190 (Nat.le_refl _) (Nat.le_refl _)
        have hb := fin_1 (τ := τ2) (hi := zsz M3) zm (by omega) (on2 _ (Nat.le_refl _) (by omega))
        refine hy1 _ _ (pc.trans ((bnd_ok e3).trans rfl)) M3 _ fs1 (zsz M1, 32, 0) (R3.nd (by dsimp only; omega) (by dsimp only; omega)) ⟨tgv _ 32 (by decide), ?_, .inl ⟨rfl, (by show 32 ≠ 23; decide), fun e => absurd e (show ¬ 32 = 30 by decide)⟩⟩
        have q0 := (f3.2 _ 0 (nt 0)).1.trans g0
        have q1 := (f3.2 _ 1 (nt 1)).1.trans g1
        have q2 := (f3.2 _ 2 (nt 2)).2.2.trans g2
        rcases w1.2.2 with ⟨y, -⟩ | ⟨y1, y2, y3, y4, y5⟩ | ⟨y1, y2⟩
        · exact absurd y kn
        · have y2 : t1 = 23 := y2
          subst y2
          show xE _ M3 (DL + 1) (zsz M1, 32, 0) (if v1.2.1 = 1 then gBhN hv v1.2.2.1 else gBhM hv v1.2.2.2.1 v1.2.2.2.2)
          rw [if_pos y1]
          exact xe_BhN (nS_190 z190) hb y3 q0 hh q1 q2 y4 y5 h4
        · show xE _ M3 (DL + 1) (zsz M1, 32, 0) (if v1.2.1 = 1 then gBhN hv v1.2.2.1 else gBhM hv v1.2.2.2.1 v1.2.2.2.2)
          rw [if_neg (by omega)]
          exact xe_BhM hb q0 hh q1 q2 y2 h4
      refine ⟨b1, t1, rfl, y_isN vn1 ?_⟩
      show Z E YX9_counted (d + 14 + 1) M1 [(0, vr (some (pp, 8, 0))), (1, vr (some (b1, t1, 0)))] 45 [vi (if v1.2.1 = 1 then 1 else 0)] Q
      refine iX9_counted_45 (d := d + 12) M1 pp b1 t1 _ ?_
      by_cases k1 : v1.2.1 = 1
      · rw [if_pos k1, if_neg (by decide)]; exact go (by omega)
      · rw [if_neg k1, if_pos rfl]
        refine y_isM vn1 (by omega) ?_
        show Z E YX9_counted (d + 14 + 1) M1 [(0, vr (some (pp, 8, 0))), (1, vr (some (b1, t1, 0)))] 52 [vi (if v1.2.1 = 2 then 1 else 0)] Q
        refine iX9_counted_52 (d := d + 12) M1 pp b1 t1 _ ?_
        by_cases k2 : v1.2.1 = 2
        · rw [if_pos k2, if_neg (by decide)]; exact go (by omega)
        · rw [if_neg k2, if_pos rfl]
          have kz : v1.2.1 = 0 := by
            rcases vn1.2.2 with ⟨y, -⟩ | ⟨y, -⟩ | ⟨y, -⟩
            · exact y
            · exact absurd y k1
            · exact absurd y k2
          refine ⟨a, R1.ps.pt, ?_⟩
          obtain ⟨⟨lp, hk, -⟩, -⟩ := id R1.ps.tz
          have z1 := R1.ps.z190
          refine x_fault (d := d + 8) (k := 3) (by omega) az.2.1 hk.2.2.1 (fun M' f g1 g2 g3 => ?_)
          show Z E YX9_counted (d + 14 + 1) M' [] 63 [vr (some (zsz M1, 12, 0))] Q
          refine sX9_counted_63 M' _ ⟨zsz M1, rfl, ?_⟩
          exact hn1 (3, (tkn n c s1.1).2.2.2.2) (pc.trans (if_pos kz)) _ M' (R1.er (ft_er R1.ps ⟨⟨zsz M1, rfl, g1, ⟨Nat.le_refl _, by omega⟩, f.mono fun _ _ _ z => z.elim⟩, g2, g3⟩) (by omega) (by omega))
    have no : ¬ ((gi M1 a 6 = 22 ∨ gi M1 a 6 = 23) ∧ gi M1 a 4 ≤ gi M1 a 5) → pPs2 (zOf n c dg) v1 s1 = .ok (v1, s1) := fun z => by
      unfold pPs2
      rw [if_neg]
      · rfl
      · intro y
        obtain ⟨y1, y2⟩ := Bool.and_eq_true_iff.mp y
        refine z ⟨?_, ln.mpr y2⟩
        rw [e10, e11] at y1
        rcases Bool.or_eq_true_iff.mp y1 with y | y
        · exact .inl (of_decide_eq_true y)
        · exact .inr (of_decide_eq_true y)
    by_cases h22 : gi M1 a 6 = 22
    · rw [if_pos h22]
      by_cases hl : gi M1 a 4 ≤ gi M1 a 5
      · rw [if_pos hl]; exact tail (.inl h22) hl
      · rw [if_neg hl]; exact same (no fun z => hl z.2)
    · rw [if_neg h22]
      by_cases h23 : gi M1 a 6 = 23
      · rw [if_pos h23]
        by_cases hl : gi M1 a 4 ≤ gi M1 a 5
        · rw [if_pos hl]; exact tail (.inr h23) hl
        · rw [if_neg hl]; exact same (no fun z => hl z.2)
      · rw [if_neg h23]; exact same (no fun z => z.1.elim h22 h23)
  · rw [if_neg h5]
    refine same ?_
    have k5 : ¬ tkd (zOf n c dg) s1.1 = 5 := fun z => h5 (kd.trans z)
    unfold pPs2
    rw [isS_n k5, isS_n k5]
    rfl
end
