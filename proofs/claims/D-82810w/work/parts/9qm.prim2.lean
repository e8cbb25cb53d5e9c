/-! THE COMPONENT's PARSER: primary, done -/
section
variable {E : zE} {pp a lf n : Nat} {c : Nat → Int32} {K o : Nat}
theorem y_prim {ro : Option pT} {DE dE dm : Nat} (hro : lvO o ro fun o r => cVm E pp a lf n c YX9_expression [(1, vi 1)] dE o DE (r.expr true) ∧ cVm E pp a lf n c YX9_assignment [(1, vi 1)] dE o DE (r.asg true) ∧ cFw E pp a lf n c dE o (r.func false)) (hK : 1300 ≤ K) (h3 : 3 ≤ DE) (hdm : dE + 2 ≤ dm ∧ 31 ≤ dm) : cVm E pp a lf n c YX9_primary [] dm o (DE + 1) (pPrim (zOf n c mdi) K ro) := by
  intro d Q M τ fs s C hd h hy hn
  obtain ⟨d, rfl⟩ : ∃ d', d = d' + 15 := ⟨d - 15, by omega⟩
  have R := rn_st h C.1
  have hp := h.pz
  have z190 := h.z190
  have az := h.az
  have kd := tk_kd (dg := mdi) h.tz
  have e2 : sgX (nI 26) = 2 := by decide +kernel
  have e4 : sgX (nI 28) = 4 := by decide +kernel
  have e0 : sgX (nI 24) = 0 := by decide +kernel
  have e3 : sgX (nI 27) = 3 := by decide +kernel
  have gp : ∀ k, gr (zn M k) pp 1 = some (a, 9, 0) := fun k => by rw [gr_zn, if_neg (by omega)]; exact h.pt
  have ga : ∀ k j, gi (zn M k) a j = gi M a j := fun k j => by rw [gi_zn, if_neg (by omega)]
  have hk := h.tz
  obtain ⟨⟨lp, hk, -⟩, -⟩ := id h.tz
  refine iX9_primary_0 (d := d + 12) M pp ⟨a, h.pt, ?_⟩
  by_cases h1 : gi M a 3 = 1
  · -- a name
    rw [if_pos h1]
    have k1 : tkd (zOf n c mdi) s.1 = 1 := kd.symm.trans h1
    have pu : pPrim (zOf n c mdi) K ro C s = bnd (nedN (zOf n c mdi) s) fun x s => prt (vNm x) s := by unfold pPrim nedN; rw [if_pos k1, if_pos k1]
    obtain ⟨τ1, R1, ag1, on1, m01⟩ := R.lc1 (M' := zn M 1) (v := 1) (w := 1) fg.zn (Nat.le_refl _) (Nat.le_refl _)
    have sz1 : zsz (zn M 1) = zsz M + 1 := rfl
    refine ⟨a, gp 1, ?_⟩
    generalize zn M 1 = M1 at *
    have tb : τ1 (zsz M) = 1 := on1 _ (Nat.le_refl _) (by omega)
    have az1 := R1.ps.az
    refine y_needN (dg := mdi) R1.ps.tz (fun x s2 en ex M2 f2 x2 => ?_) (fun w en ou M' f => ?_)
    · have hx : x < 100000 := tak_lt h.tz (.inl k1) ex
      have on : sat (nedN (zOf n c mdi) s) fun _ s' => adv C.1 s s' ∧ s'.2.2 = s.2.2 ∧ s'.1 = s.1 + 1 := sat_nen fun w => ⟨adv_nm w s, rfl, rfl⟩
      have o2 := on x s2 en
      have R2 := R1.tk f2 x2 o2.2.1 o2.1
      have sz2 := f2.1.1
      show Z E YX9_primary (d + 14 + 1) M2 [] 22 [vi (nI x), vr (some (zsz M, 23, 0)), vr (some (zsz M, 23, 0))] Q
      refine iX9_primary_22 (d := d + 12) M2 _ (zsz M) (zsz M) ⟨by omega, ?_⟩
      have f3 : fg (fun x _ => zsz M ≤ x ∧ τ1 x = 1) M2 (si M2 (zsz M) 0 (nI x)) := (fr.si ⟨Nat.le_refl _, tb⟩).fg
      obtain ⟨τ3, R3, ag3, on3, m23⟩ := R2.lc1 (v := 0) (w := 0) f3 (Nat.le_refl _) (Nat.le_refl _)
      have hS : nS (zsz M) (zsz (si M2 (zsz M) 0 (nI x))) (fin (zsz M) τ3) (zsz M) := fin_1 (Nat.le_refl _) (show zsz M < zsz M2 by omega) ((ag3 _ (by omega)).trans tb)
      refine hy (vNm x) s2 (pu.trans ((bnd_ok en).trans rfl)) _ _ fs _ (R3.nd (by omega) (by omega)) ⟨tgv _ 23 (by decide), ?_, .inr (.inl ⟨rfl, rfl, hS, gi_self _ _ _ _, hx⟩)⟩
      exact xe_Name (nS_190 z190) hS (gi_self _ _ _ _) hx (by omega)
    · obtain ⟨q, rfl⟩ := fO_inr f.1
      show ZT E YX9_primary (d + 14 + 1) M' _ 19 (q, 12, 0) Q
      exact ZT.out (nohand rfl) (hn w (pu.trans (bnd_er en)) _ M' (R1.er (ft_er R1.ps f) (by omega) (by omega)))
  rw [if_neg h1]
  have k1 : ¬ tkd (zOf n c mdi) s.1 = 1 := fun z => h1 (kd.trans z)
  by_cases h3' : gi M a 3 = 3
  · -- a number
    rw [if_pos h3']
    have k3 : tkd (zOf n c mdi) s.1 = 3 := kd.symm.trans h3'
    have pu : pPrim (zOf n c mdi) K ro C s = bnd (nxt' (zOf n c mdi) s) fun _ s' => prt (vOf (gCo 5 (tkn n c s.1).2.1)) s' := by unfold pPrim; rw [if_neg k1, if_pos k3]; rfl
    refine ⟨a, gp 2, by omega, ?_⟩
    rw [ga, hk.2.2.2.2.2.2.1 k3]
    refine y_nd1 (d := d + 5) (D := DE + 1) (t := 24) (g := gCo 5 (tkn n c s.1).2.1) h ((fg.zn (n := 2)).tr2 ((fr.si (.inr (Nat.le_refl _))).tr (fr.si (.inr (Nat.le_refl _)))).fg) rfl (Nat.le_refl _) (by decide) (fun S M' hS hb hg => xe_Lit hS hb ((hg 0).trans ((gi_idx (by decide)).trans (gi_self _ _ _ _))) ((hg 1).trans (gi_self _ _ _ _)) (by decide) (by omega)) (.inr k3) (fun s' en M' τ' fs' pe vn => ?_) (fun w en ou M' pe => ?_)
    · show Z E YX9_primary (d + 14 + 1) M' [(1, vr (some (zsz M, 24, 0)))] 60 [] Q
      exact sX9_primary_60 M' _ (hy _ s' (pu.trans ((bnd_ok en).trans rfl)) M' τ' fs' _ pe vn)
    · obtain ⟨q, rfl⟩ := fO_inr pe.1
      show ZT E YX9_primary (d + 14 + 1) M' _ 57 (q, 12, 0) Q
      exact ZT.out (nohand rfl) (hn w (pu.trans (bnd_er en)) _ M' pe)
  rw [if_neg h3']
  have k3 : ¬ tkd (zOf n c mdi) s.1 = 3 := fun z => h3' (kd.trans z)
  by_cases h4 : gi M a 3 = 4
  · -- a text
    rw [if_pos h4]
    have k4 : tkd (zOf n c mdi) s.1 = 4 := kd.symm.trans h4
    have pu : pPrim (zOf n c mdi) K ro C s = bnd (takN (zOf n c mdi) s) fun x s => prt (vOf (gCo 6 (Int32.ofNat x))) s := by unfold pPrim; rw [if_neg k1, if_neg k3, if_pos k4]
    refine ⟨a, gp 2, by omega, ?_⟩
    rw [ga, (y_tak (dg := mdi) h.tz (.inr k4)).1]
    have f1 : fg (fun x _ => zsz M ≤ x ∧ τ x = 1) M (si (si (zn M 2) (zsz M) 0 6) (zsz M) 1 (nI (nam (tkX n c (tkn n c s.1)) s).1)) := (fg.zn (n := 2)).tr2 ((fr.si (.inr (Nat.le_refl _))).tr (fr.si (.inr (Nat.le_refl _)))).fg
    have g0 : gi (si (si (zn M 2) (zsz M) 0 6) (zsz M) 1 (nI (nam (tkX n c (tkn n c s.1)) s).1)) (zsz M) 0 = 6 := (gi_idx (by decide)).trans (gi_self _ _ _ _)
    have g1 : gi (si (si (zn M 2) (zsz M) 0 6) (zsz M) 1 (nI (nam (tkX n c (tkn n c s.1)) s).1)) (zsz M) 1 = nI (nam (tkX n c (tkn n c s.1)) s).1 := gi_self _ _ _ _
    have sz1 : zsz (si (si (zn M 2) (zsz M) 0 6) (zsz M) 1 (nI (nam (tkX n c (tkn n c s.1)) s).1)) = zsz M + 1 := rfl
    have su1 : zsu (si (si (zn M 2) (zsz M) 0 6) (zsz M) 1 (nI (nam (tkX n c (tkn n c s.1)) s).1)) = zsu M + 2 := rfl
    generalize si (si (zn M 2) (zsz M) 0 6) (zsz M) 1 (nI (nam (tkX n c (tkn n c s.1)) s).1) = M1 at *
    obtain ⟨τ1, R1, ag1, on1, m01⟩ := R.lc1 (v := 1) (w := 2) f1 (by omega) (by omega)
    have tb : τ1 (zsz M) = 1 := on1 _ (Nat.le_refl _) (by omega)
    have az1 := R1.ps.az
    refine y_nxN (dg := mdi) R1.ps.tz (.inr k4) (fun s2 en M2 f2 x2 => ?_) (fun w en ou M' f => ?_)
    · have on : sat (takN (zOf n c mdi) s) fun _ s' => adv C.1 s s' ∧ s'.2.2 = s.2.2 ∧ s'.1 = s.1 + 1 := sat_tak fun w => ⟨adv_nm w s, rfl, rfl⟩
      have o2 := on _ s2 en
      have R2 := R1.tk f2 x2 o2.2.1 o2.1
      have sz2 := f2.1.1
      have nt : ∀ k, gi M2 (zsz M) k = gi M1 (zsz M) k := fun k => (f2.2 _ k (nt_tk z190 (fun e => by rw [← e] at az1; omega))).1
      show Z E YX9_primary (d + 14 + 1) M2 [(1, vr (some (zsz M, 24, 0)))] 97 [] Q
      refine sX9_primary_97 M2 _ (hy _ s2 (pu.trans ((bnd_ok en).trans rfl)) M2 _ fs _ (R2.nd (by omega) (by omega)) ⟨tgv _ 24 (by decide), ?_, .inl ⟨rfl, (by show 24 ≠ 23; decide), fun e => absurd e (show ¬ 24 = 30 by decide)⟩⟩)
      exact xe_Lit (nS_190 z190) (fin_1 (Nat.le_refl _) (by omega) tb) ((nt 0).trans g0) ((nt 1).trans g1) (by decide) (by omega)
    · obtain ⟨q, rfl⟩ := fO_inr f.1
      show ZT E YX9_primary (d + 14 + 1) M' _ 94 (q, 12, 0) Q
      exact ZT.out (nohand rfl) (hn w (pu.trans (bnd_er en)) _ M' (R1.er (ft_er R1.ps f) (by omega) (by omega)))
  rw [if_neg h4]
  have k4 : ¬ tkd (zOf n c mdi) s.1 = 4 := fun z => h4 (kd.trans z)
  by_cases h2 : gi M a 3 = 2
  · -- a word
    rw [if_pos h2]
    have k2 : (tkn n c s.1).1 = 2 := kd.symm.trans h2
    have hF : lvO o ro fun o r => cFw E pp a lf n c dE o (r.func false) := by
      rcases hro with z | ⟨r, z1, z2, z3, z4⟩
      · exact .inl z
      · exact .inr ⟨r, z1, z2, z3, z4.2.2⟩
    refine y_word (K := K) (D := DE + 1) hF (by omega) (dm := d + 14) (by omega) (d + 14) _ M τ fs s C (Nat.le_refl _) k2 h (fun v s' e M' τ' fs' p pe vn => ?_) (fun w e ou M' pe => ?_)
    · show Z E YX9_primary (d + 14 + 1) M' [] 114 [vr (some p)] Q
      exact sX9_primary_114 M' _ (hy v s' e M' τ' fs' p pe vn)
    · obtain ⟨q, rfl⟩ := fO_inr pe.1
      show ZT E YX9_primary (d + 14 + 1) M' _ 111 (q, 12, 0) Q
      exact ZT.out (nohand rfl) (hn w e _ M' pe)
  rw [if_neg h2]
  have k2 : ∀ i, ¬ isK (zOf n c mdi) i s = true := fun i z => h2 (kd.trans (isK_k z).1)
  have pu : pPrim (zOf n c mdi) K ro C s = if isS (zOf n c mdi) 26 s then opens (zOf n c mdi) ro s (fun r => bnd (nxt' (zOf n c mdi) s) fun _ s => bnd (r.expr true C s) fun v s => bnd (nedS (zOf n c mdi) 27 s) fun _ s => prt (vOf v.1) s)
      else if isS (zOf n c mdi) 28 s then opens (zOf n c mdi) ro s (fun r => bnd (nxt' (zOf n c mdi) s) fun _ s => bnd (pArr (zOf n c mdi) r C K [] s) fun l s => prt (vOf (gItm 8 (numb 0 l))) s)
      else if isS (zOf n c mdi) 24 s then opens (zOf n c mdi) ro s (fun r => bnd (nxt' (zOf n c mdi) s) fun _ s => bnd (pObj (zOf n c mdi) r C K [] s) fun l s => prt (vOf (gItm 7 (l.map fun q => ((6 : Int32), Int32.ofNat q.1, q.2)))) s) else flt (zOf n c mdi) 2 s := by
    unfold pPrim
    rw [if_neg k1, if_neg k3, if_neg k4, if_neg (k2 20), if_neg (k2 25), if_neg (k2 17), if_neg (k2 22), if_neg (k2 8), if_neg (k2 15), if_neg (k2 11)]
  have flt2 : pPrim (zOf n c mdi) K ro C s = flt (zOf n c mdi) 2 s → Z E YX10_fault (d + 14) M (zargs 0 [vr (some (a, 9, 0)), vi 2]) 0 [] (zafter E YX9_primary (d + 14 + 1) [] 197 3 [] Q) := fun e => by
    refine x_fault (d := d + 8) (k := 2) (by omega) az.2.1 hk.2.2.1 (fun M' f' g1 g2 g3 => ?_)
    show Z E YX9_primary (d + 14 + 1) M' [] 200 [vr (some (zsz M, 12, 0))] Q
    refine sX9_primary_200 M' _ ⟨zsz M, rfl, ?_⟩
    exact hn (2, (tkn n c s.1).2.2.2.2) (e.trans rfl) _ M' (R.er (ft_er h ⟨⟨zsz M, rfl, g1, ⟨Nat.le_refl _, by omega⟩, f'.mono fun _ _ _ z => z.elim⟩, g2, g3⟩) (by omega) (by omega))
  by_cases h5 : gi M a 3 = 5
  rotate_left
  · rw [if_neg h5]
    have nk : ∀ i, ¬ isS (zOf n c mdi) i s = true := fun i z => h5 (kd.trans (isS_k z))
    exact flt2 (by rw [pu, if_neg (nk 26), if_neg (nk 28), if_neg (nk 24)])
  rw [if_pos h5]
  have k5 : (tkn n c s.1).1 = 5 := kd.symm.trans h5
  have i26 : isS (zOf n c mdi) 26 s = decide (gi M a 6 = 2) := tk_s (dg := mdi) (j := 26) h.tz h5 (by decide) e2
  have i28 : isS (zOf n c mdi) 28 s = decide (gi M a 6 = 4) := tk_s (dg := mdi) (j := 28) h.tz h5 (by decide) e4
  have i24 : isS (zOf n c mdi) 24 s = decide (gi M a 6 = 0) := tk_s (dg := mdi) (j := 24) h.tz h5 (by decide) e0
  -- [ or {
  have items : ∀ ob : Bool, (ob = true ∧ gi M a 6 = 0 ∨ ob = false ∧ gi M a 6 = 4) → (pPrim (zOf n c mdi) K ro C s = opens (zOf n c mdi) ro s (fun r => bnd (nxt' (zOf n c mdi) s) fun _ s => bnd (pItm (zOf n c mdi) ob r C K [] s) fun l s => prt (vOf (itG ob l)) s)) → Z E YX9_opens (d + 14) M (zargs 0 [vr (some (pp, 8, 0))]) 0 [] (zafter E YX9_primary (d + 14 + 1) [(0, vr (some (pp, 8, 0)))] 202 3 [] Q) := fun ob h6 pu => by
    refine y_opens (dg := mdi) h.tz h.pt hp.1 h.op.1 h.op.2 (fun ho => ?_) (fun ho ou M' f => ?_)
    rotate_left
    · obtain ⟨q, rfl⟩ := fO_inr f.1
      rcases hro with ⟨rfl, -⟩ | ⟨r, rfl, z, -⟩
      · show ZT E YX9_primary (d + 14 + 1) M' _ 202 (q, 12, 0) Q
        exact ZT.out (nohand rfl) (hn _ (pu.trans rfl) _ M' (R.er (ft_er h f) (by omega) (by omega)))
      · omega
    rcases hro with ⟨-, z⟩ | ⟨r, rfl, -, ok, hE, hA, hF⟩
    · omega
    have pu : pPrim (zOf n c mdi) K (some r) C s = bnd (nxt' (zOf n c mdi) s) fun _ s => bnd (pItm (zOf n c mdi) ob r C K [] s) fun l s => prt (vOf (itG ob l)) s := pu
    have R1 := R.op ho
    have g3 : gi (si M pp 4 (nI (o + 1))) a 3 = 5 := (gi_oth (fun e => by rw [e] at az; omega)).trans h5
    have g6 : gi (si M pp 4 (nI (o + 1))) a 6 = gi M a 6 := gi_oth (fun e => by rw [e] at az; omega)
    have sz1 : zsz (si M pp 4 (nI (o + 1))) = zsz M := rfl
    show Z E YX9_primary (d + 14 + 1) (si M pp 4 (nI (o + 1))) [(0, vr (some (pp, 8, 0)))] 205 [] Q
    refine iX9_primary_205 _ pp ⟨a, R1.ps.pt, ?_⟩
    generalize si M pp 4 (nI (o + 1)) = M1 at *
    rw [if_pos g3, g6]
    have go : Z E YX9_items (d + 14) M1 (zargs 0 [vr (some (pp, 8, 0)), vi (if ob then 0 else 1)]) 0 [] (zafter E YX9_primary (d + 14 + 1) [(0, vr (some (pp, 8, 0)))] 214 3 [] Q) := by
      refine y_items (K := K) (ob := ob) (dm := d + 14) hA ok hK h3 (by omega) (d + 14) _ M1 τ fs s C (Nat.le_refl _) k5 R1.ps (fun v s' e M' τ' fs' p pe vn => ?_) (fun w e ou M' pe => ?_)
      · have o2 := ok_prim (z := zOf n c mdi) (K := K) (c := C) (ro := some r) (fun r' e => by cases e; exact ok) s v s' (pu.trans e)
        have l2 := o2.2.1
        have R2 := R1.cl pe o2.1
        show Z E YX9_primary (d + 14 + 1) M' [(0, vr (some (pp, 8, 0)))] 217 [vr (some p)] Q
        refine sX9_primary_217 M' pp _ ⟨by omega, ?_⟩
        have R3 := R2.cls h.ls
        have m3 : mvr τ' M' τ' (si M' pp 4 (gi M' pp 4 - 1)) := mvr_own R2.ps (fr.si (P := fun x _ => x = pp) rfl) (fun _ _ z => z)
        exact hy v s' (pu.trans e) _ _ fs' p (R3.nd (by omega) (by omega)) ((vn.mv m3 z190 (by omega) (Nat.le_refl _)).mv fin_mvr z190 (Nat.le_refl _) (Nat.le_refl _))
      · obtain ⟨q, rfl⟩ := fO_inr pe.1
        show ZT E YX9_primary (d + 14 + 1) M' _ 214 (q, 12, 0) Q
        exact ZT.out (nohand rfl) (hn w (pu.trans e) _ M' (R1.er pe (by omega) (by omega)))
    rcases h6 with ⟨rfl, y⟩ | ⟨rfl, y⟩
    · rw [y, if_neg (by decide)]
      exact go
    · rw [y, if_pos rfl]
      exact go
  by_cases h62 : gi M a 6 = 2
  · -- (
    rw [if_pos h62]
    have hs : isS (zOf n c mdi) 26 s = true := by rw [i26]; exact decide_eq_true h62
    rw [if_pos hs] at pu
    refine y_opens (dg := mdi) h.tz h.pt hp.1 h.op.1 h.op.2 (fun ho => ?_) (fun ho ou M' f => ?_)
    rotate_left
    · obtain ⟨q, rfl⟩ := fO_inr f.1
      rcases hro with ⟨rfl, -⟩ | ⟨r, rfl, z, -⟩
      · show ZT E YX9_primary (d + 14 + 1) M' _ 127 (q, 12, 0) Q
        exact ZT.out (nohand rfl) (hn _ (pu.trans rfl) _ M' (R.er (ft_er h f) (by omega) (by omega)))
      · omega
    rcases hro with ⟨-, z⟩ | ⟨r, rfl, -, ok, hE, hA, hF⟩
    · omega
    have pu : pPrim (zOf n c mdi) K (some r) C s = bnd (nxt' (zOf n c mdi) s) fun _ s => bnd (r.expr true C s) fun v s => bnd (nedS (zOf n c mdi) 27 s) fun _ s => prt (vOf v.1) s := pu
    have R1 := R.op ho
    show Z E YX9_primary (d + 14 + 1) (si M pp 4 (nI (o + 1))) [(0, vr (some (pp, 8, 0)))] 130 [] Q
    refine sX9_primary_130 _ pp ⟨a, R1.ps.pt, ?_⟩
    refine y_nxt (dg := mdi) R1.ps.tz (tkg5 k5).1 (tkg5 k5).2 (fun s2 en M2 f2 x2 => ?_) (fun w en ou M' f => ?_)
    rotate_left
    · obtain ⟨q, rfl⟩ := fO_inr f.1
      show ZT E YX9_primary (d + 14 + 1) M' _ 134 (q, 12, 0) Q
      exact ZT.out (nohand rfl) (hn w (pu.trans (bnd_er en)) _ M' (R1.er (ft_er R1.ps f) (by omega) (by omega)))
    have es := nx_eq en
    subst es
    have R2 := R1.tk f2 x2 rfl (adv_nx s)
    have z2 := R2.2.1.2.1.1.1
    show Z E YX9_primary (d + 14 + 1) M2 [(0, vr (some (pp, 8, 0)))] 137 [] Q
    refine iX9_primary_137 M2 pp ?_
    obtain ⟨τ3, R3, ag3, on3, m23⟩ := R2.lc1 (M' := zn M2 1) (v := 1) (w := 1) fg.zn (Nat.le_refl _) (Nat.le_refl _)
    have sz3 : zsz (zn M2 1) = zsz M2 + 1 := rfl
    generalize zn M2 1 = M3 at *
    have tb : τ3 (zsz M2) = 1 := on3 _ (Nat.le_refl _) (by omega)
    refine hE (d + 14) _ M3 τ3 fs _ C (by omega) R3.ps (fun v4 s4 e4' M4 τ4 fs4 p4 pe4 vn4 => ?_) (fun w e ou M' pe => ?_)
    rotate_left
    · obtain ⟨q, rfl⟩ := fO_inr pe.1
      show ZT E YX9_primary (d + 14 + 1) M' _ 143 (q, 12, 0) Q
      exact ZT.out (nohand rfl) (hn w (pu.trans ((bnd_ok en).trans (bnd_er e))) _ M' (R3.er pe (by dsimp only; omega) (by dsimp only; omega)))
    have o4 := ok.expr true C _ v4 s4 e4'
    have l4 := o4.2.1
    dsimp only at l4
    have R4 := R3.cl pe4 o4.1
    have z4 := pe4.mvr.1.1.1
    have t4 : τ4 (zsz M2) = 1 := (pe4.2.2.1 _ (by omega)).trans tb
    show Z E YX9_primary (d + 14 + 1) M4 [(0, vr (some (pp, 8, 0)))] 146 [vr (some p4), vr (some (zsz M2, 27, 0)), vr (some (zsz M2, 27, 0))] Q
    have f5 : fg (fun x _ => zsz M ≤ x ∧ τ4 x = 1) M4 (sr M4 (zsz M2) 0 (some p4)) := (fr.sr ⟨z2, t4⟩).fg
    obtain ⟨τ5, R5, ag5, on5, m45⟩ := R4.lc1 (v := 0) (w := 0) f5 (Nat.le_refl _) (Nat.le_refl _)
    have g5 : gr (sr M4 (zsz M2) 0 (some p4)) (zsz M2) 0 = some p4 := by rw [gr_sr, if_pos rfl, if_pos rfl]
    have sz5 : zsz (sr M4 (zsz M2) 0 (some p4)) = zsz M4 := rfl
    refine iX9_primary_146 (d := d + 12) M4 pp _ (zsz M2) (zsz M2) ⟨by omega, a, R5.ps.pt, ?_⟩
    generalize sr M4 (zsz M2) 0 (some p4) = M5 at *
    have t5 : τ5 (zsz M2) = 1 := (ag5 _ (by omega)).trans t4
    rw [← e3]
    refine y_need (dg := mdi) (j := 27) (by decide) R5.ps.tz (fun s6 e6 M6 f6 x6 => ?_) (fun w e6 ou M' f => ?_)
    rotate_left
    · obtain ⟨q, rfl⟩ := fO_inr f.1
      show ZT E YX9_primary (d + 14 + 1) M' _ 155 (q, 12, 0) Q
      exact ZT.out (nohand rfl) (hn w (pu.trans ((bnd_ok en).trans ((bnd_ok e4').trans (bnd_er e6)))) _ M' (R5.er (ft_er R5.ps f) (by dsimp only; omega) (by dsimp only; omega)))
    have es6 := ne_eq e6
    subst es6
    have R6 := R5.tk f6 x6 rfl (adv_nx s4)
    have m56 := mvr_tk R5.ps f6
    have g6 := (k1_tk R5.ps f6 (x := zsz M2) ⟨by omega, t5⟩ 0).2.trans g5
    have sz6 := f6.1.1
    show Z E YX9_primary (d + 14 + 1) M6 [(0, vr (some (pp, 8, 0))), (1, vr (some (zsz M2, 27, 0)))] 158 [] Q
    refine sX9_primary_158 M6 pp _ ⟨by omega, ?_⟩
    have R7 := R6.cls h.ls
    have m67 : mvr τ5 M6 τ5 (si M6 pp 4 (gi M6 pp 4 - 1)) := mvr_own R6.ps (fr.si (P := fun x _ => x = pp) rfl) (fun _ _ z => z)
    have m47 := ((m45.tr m56).tr m67).tr (fin_mvr (lo := zsz M) (τ := τ5) (M := si M6 pp 4 (gi M6 pp 4 - 1)))
    refine hy (vOf v4.1) _ (pu.trans ((bnd_ok en).trans ((bnd_ok e4').trans ((bnd_ok e6).trans rfl)))) _ _ fs4 _ (R7.nd (by dsimp only; omega) (by dsimp only; omega)) ⟨tgv _ 27 (by decide), ?_, .inl ⟨rfl, (by show 27 ≠ 23; decide), fun e => absurd e (show ¬ 27 = 30 by decide)⟩⟩
    exact xe_Brk (fin_1 z2 (show zsz M2 < zsz M6 by omega) t5) g6 (vn4.mv m47 z190 (by omega) (Nat.le_refl _)).2.1
  rw [if_neg h62]
  have n26 : ¬ isS (zOf n c mdi) 26 s = true := by rw [i26]; exact fun z => h62 (of_decide_eq_true z)
  rw [if_neg n26] at pu
  by_cases h64 : gi M a 6 = 4
  · rw [if_pos h64]
    have hs : isS (zOf n c mdi) 28 s = true := by rw [i28]; exact decide_eq_true h64
    rw [if_pos hs] at pu
    refine items false (.inr ⟨rfl, h64⟩) (pu.trans ?_)
    cases ro with
    | none => rfl
    | some r =>
      show bnd (nxt' (zOf n c mdi) s) _ = bnd (nxt' (zOf n c mdi) s) _
      refine bnd_cg fun _ s => ?_
      rw [show ([] : List gEx) = ([] : List (Nat × gEx)).map (·.2) from rfl, pArr_eq, bnd_as]
      rfl
  rw [if_neg h64]
  have n28 : ¬ isS (zOf n c mdi) 28 s = true := by rw [i28]; exact fun z => h64 (of_decide_eq_true z)
  rw [if_neg n28] at pu
  by_cases h60 : gi M a 6 = 0
  · rw [if_pos h60]
    have hs : isS (zOf n c mdi) 24 s = true := by rw [i24]; exact decide_eq_true h60
    rw [if_pos hs] at pu
    refine items true (.inl ⟨rfl, h60⟩) (pu.trans ?_)
    cases ro with
    | none => rfl
    | some r =>
      show bnd (nxt' (zOf n c mdi) s) _ = bnd (nxt' (zOf n c mdi) s) _
      refine bnd_cg fun _ s => ?_
      rw [pObj_eq]
      rfl
  rw [if_neg h60]
  have n24 : ¬ isS (zOf n c mdi) 24 s = true := by rw [i24]; exact fun z => h60 (of_decide_eq_true z)
  rw [if_neg n24] at pu
  exact flt2 pu
end
