/-! THE COMPONENT's PARSER: primary -/
section
variable {E : zE} {pp a lf n : Nat} {c : Nat → Int32} {K o : Nat}
/-- a node of one cell, then a token -/
theorem y_nd1 {d D t : Nat} {Q : zO → zM → Prop} {M M1 : zM} {τ : Nat → Nat} {fs : List Nat} {s : pS} {C : pC} {g : gEx} (h : xPs M τ pp a lf n c fs s C o) (f1 : fg (fun x _ => zsz M ≤ x ∧ τ x = 1) M M1) (z1 : zsz M1 = zsz M + 1) (u1 : zsu M1 ≤ zsu M + 2) (ht : (22 ≤ t ∧ t ≤ 36) ∧ t ≠ 23 ∧ t ≠ 30) (hX : ∀ (S : Nat → Prop) (M' : zM), (∀ a, S a → 190 ≤ a) → S (zsz M) → (∀ k, gi M' (zsz M) k = gi M1 (zsz M) k) → xE S M' D (zsz M, t, 0) g) (hk : (tkn n c s.1).1 = 2 ∨ (tkn n c s.1).1 = 3)
    (hy : ∀ s', nxt' (zOf n c mdi) s = .ok ((), s') → ∀ M' τ' fs', pEnd pp a lf n c 10 200 M τ fs s C o M' τ' fs' s' → vNd (zsz M) M' τ' D (zsz M, t, 0) (vOf g) → Q (.inl none) M') (hn : ∀ w, nxt' (zOf n c mdi) s = .error w → ∀ ou M', pEr lf 10 200 τ fs M s w ou M' → Q ou M') : Z E YX10_next (d + 9) M1 [(0, vr (some (a, 9, 0)))] 0 [] Q := by
  have R := rn_st h C.1
  have z190 := h.z190
  obtain ⟨τ1, R1, ag1, on1, m01⟩ := R.lc1 (v := 1) (w := 2) f1 (by omega) (by omega)
  have tb : τ1 (zsz M) = 1 := on1 _ (Nat.le_refl _) (by omega)
  have az := R1.ps.az
  have hg : tkg (tkn n c s.1) ∧ ¬ ((tkn n c s.1).1 = 1 ∨ (tkn n c s.1).1 = 4) := by
    rcases hk with z | z
    · exact tkg2 z
    · exact ⟨⟨by rw [z]; decide, by rw [z]; decide⟩, by rw [z]; decide⟩
  refine y_nxt (dg := mdi) R1.ps.tz hg.1 hg.2 (fun s2 en M2 f2 x2 => ?_) (fun w en ou M' f' => ?_)
  · have es2 := nx_eq en
    subst es2
    have R2 := R1.tk f2 x2 rfl (adv_nx s)
    have sz2 := f2.1.1
    refine hy _ en M2 _ fs (R2.nd (by dsimp only; omega) (by dsimp only; omega)) ⟨⟨rfl, ht.1.1, ht.1.2⟩, ?_, .inl ⟨rfl, ht.2.1, fun e => absurd e ht.2.2⟩⟩
    exact hX _ M2 (nS_190 z190) (fin_1 (Nat.le_refl _) (by omega) tb) (fun k => (f2.2 _ k (nt_tk z190 (fun e => by rw [← e] at az; omega))).1)
  · exact hn w en ou M' (R1.er (ft_er R1.ps f') (by omega) (by omega))
/-- a function's text, at 179 of wordAlone -/
def cFw (E : zE) (pp a lf n : Nat) (c : Nat → Int32) (dm o : Nat) (g : pC → pS → pR (Nat × Nat)) : Prop :=
  ∀ (d : Nat) (Q : zO → zM → Prop) (M : zM) (τ : Nat → Nat) (fs : List Nat) (s : pS) (C : pC), dm ≤ d → s.2.2.length ≤ s.1 → xPs M τ pp a lf n c fs s C o →
    (∀ fx s', g C s = .ok (fx, s') → ∀ M' τ' fs' f, pEnd pp a lf n c 10 200 M τ fs s C o M' τ' fs' s' → fs'[fx.1]? = some f → Z E YX9_wordAlone d M' [(0, vr (some (pp, 8, 0))), (2, vr (some (f, 10, 0)))] 211 [] Q) →
    (∀ w, g C s = .error w → ∀ ou M', pEr lf 10 200 τ fs M s w ou M' → Q ou M') → Z E YX9_wordAlone d M [(0, vr (some (pp, 8, 0)))] 179 [] Q
/-- wordAlone at o -/
def cWm (E : zE) (pp a lf n : Nat) (c : Nat → Int32) (dm o D : Nat) (f : pC → pS → pR gV) : Prop :=
  ∀ (d : Nat) (Q : zO → zM → Prop) (M : zM) (τ : Nat → Nat) (fs : List Nat) (s : pS) (C : pC), dm ≤ d → (tkn n c s.1).1 = 2 → xPs M τ pp a lf n c fs s C o →
    (∀ v s', f C s = .ok (v, s') → ∀ M' τ' fs' p, pEnd pp a lf n c 10 200 M τ fs s C o M' τ' fs' s' → vNd (zsz M) M' τ' D p v → Q (.inl (some (vr (some p)))) M') →
    (∀ w, f C s = .error w → ∀ ou M', pEr lf 10 200 τ fs M s w ou M' → Q ou M') → Z E YX9_wordAlone d M [(0, vr (some (pp, 8, 0)))] 0 [] Q
theorem pPrim_2 {ro : Option pT} {C : pC} {s : pS} {j : Int32} (hk : (tkn n c s.1).1 = 2) (hj : (tkn n c s.1).2.1 = j) : pPrim (zOf n c mdi) K ro C s = if j = 20 then bnd (nxt' (zOf n c mdi) s) (fun _ s => prt (vOf gTh) s) else if j = 25 then bnd (nxt' (zOf n c mdi) s) (fun _ s => prt (vOf (gCo 0 0)) s) else if j = 17 then bnd (nxt' (zOf n c mdi) s) (fun _ s => prt (vOf (gCo 1 0)) s) else if j = 22 then bnd (nxt' (zOf n c mdi) s) (fun _ s => prt (vOf (gCo 2 0)) s) else if j = 8 then bnd (nxt' (zOf n c mdi) s) (fun _ s => prt (vOf (gCo 3 0)) s) else if j = 15 then bnd (nxt' (zOf n c mdi) s) (fun _ s => prt (vOf (gCo 4 0)) s) else if j = 11 then opens (zOf n c mdi) ro s (fun r => bnd (nxt' (zOf n c mdi) s) fun _ s => bnd (r.func false C s) fun f s => prt (vOf (gMd f.1)) s) else flt (zOf n c mdi) 2 s := by
  have e2 : tkd (zOf n c mdi) s.1 = 2 := hk
  have ik : ∀ i, (isK (zOf n c mdi) i s = true) = (j = i) := fun i => by
    have : isK (zOf n c mdi) i s = decide (j = i) := by
      unfold isK
      rw [show tkd (zOf n c mdi) s.1 = 2 from hk, show twh (zOf n c mdi) s.1 = j from hj, decide_eq_true rfl, Bool.true_and]
    rw [this, decide_eq_true_eq]
  have is : ∀ i, ¬ isS (zOf n c mdi) i s = true := fun i h => by have := isS_k h; rw [hk] at this; exact absurd this (by decide)
  unfold pPrim
  rw [if_neg (by rw [e2]; decide), if_neg (by rw [e2]; decide), if_neg (by rw [e2]; decide)]
  simp only [ik]
  rw [if_neg (is 26), if_neg (is 28), if_neg (is 24)]
theorem y_word {ro : Option pT} {D dF dm : Nat} (hF : lvO o ro fun o r => cFw E pp a lf n c dF o (r.func false)) (h3 : 4 ≤ D) (hdm : dF ≤ dm ∧ 30 ≤ dm) : cWm E pp a lf n c dm o D (pPrim (zOf n c mdi) K ro) := by
  intro d Q M τ fs s C hd k2 h hy hn
  obtain ⟨d, rfl⟩ : ∃ d', d = d' + 15 := ⟨d - 15, by omega⟩
  have R := rn_st h C.1
  have hp := h.pz
  have z190 := h.z190
  have az := h.az
  have e6 : gi M a 6 = (tkn n c s.1).2.1 := by
    obtain ⟨⟨lp, hk, -⟩, -⟩ := id h.tz
    exact hk.2.2.2.2.1 k2
  have gp : gr (zn M 2) pp 1 = some (a, 9, 0) := by rw [gr_zn, if_neg (by omega)]; exact h.pt
  have flt2 : pPrim (zOf n c mdi) K ro C s = flt (zOf n c mdi) 2 s → Z E YX10_fault (d + 14) M (zargs 0 [vr (some (a, 9, 0)), vi 2]) 0 [] (zafter E YX9_wordAlone (d + 14 + 1) [] 238 3 [] Q) := fun e => by
    obtain ⟨⟨lp, hk, -⟩, -⟩ := id h.tz
    refine x_fault (d := d + 8) (k := 2) (by omega) az.2.1 hk.2.2.1 (fun M' f' g1 g2 g3 => ?_)
    show Z E YX9_wordAlone (d + 14 + 1) M' [] 241 [vr (some (zsz M, 12, 0))] Q
    refine sX9_wordAlone_241 M' _ ⟨zsz M, rfl, ?_⟩
    exact hn (2, (tkn n c s.1).2.2.2.2) (e.trans rfl) _ M' (R.er (ft_er h ⟨⟨zsz M, rfl, g1, ⟨Nat.le_refl _, by omega⟩, f'.mono fun _ _ _ z => z.elim⟩, g2, g3⟩) (by omega) (by omega))
  have lit : ∀ v : Int32, v.toInt16.toInt32 = v → pPrim (zOf n c mdi) K ro C s = bnd (nxt' (zOf n c mdi) s) (fun _ s => prt (vOf (gCo v 0)) s) → Z E YX10_next (d + 14) (si (si (zn M 2) (zsz M) 0 v) (zsz M) 1 0) (zargs 0 [vr (some (a, 9, 0))]) 0 [] (zafter E YX9_wordAlone (d + 14 + 1) [(1, vr (some (zsz M, 24, 0)))] 246 3 [] Q) := fun v hv e => by
    refine y_nd1 (d := d + 5) (D := D) (t := 24) (g := gCo v 0) h ((fg.zn (n := 2)).tr2 ((fr.si (.inr (Nat.le_refl _))).tr (fr.si (.inr (Nat.le_refl _)))).fg) rfl (Nat.le_refl _) (by decide) (fun S M' hS hb hg => xe_Lit hS hb ((hg 0).trans ((gi_idx (by decide)).trans (gi_self _ _ _ _))) ((hg 1).trans (gi_self _ _ _ _)) hv (by omega)) (.inl k2) (fun s' en M' τ' fs' pe vn => ?_) (fun w en ou M' pe => ?_)
    · show Z E YX9_wordAlone (d + 14 + 1) M' [(1, vr (some (zsz M, 24, 0)))] 249 [] Q
      exact sX9_wordAlone_249 M' _ (hy _ s' (e.trans ((bnd_ok en).trans rfl)) M' τ' fs' _ pe vn)
    · obtain ⟨q, rfl⟩ := fO_inr pe.1
      show ZT E YX9_wordAlone (d + 14 + 1) M' _ 246 (q, 12, 0) Q
      exact ZT.out (nohand rfl) (hn w (e.trans (bnd_er en)) _ M' pe)
  refine sX9_wordAlone_0 M pp ⟨a, h.pt, ?_⟩
  have pp2 := fun j hj => pPrim_2 (K := K) (ro := ro) (C := C) (j := j) k2 hj
  rw [e6]
  generalize (tkn n c s.1).2.1 = j at *
  have pp2 := pp2 j rfl
  by_cases z8 : j = 8
  · subst z8
    rw [if_neg (by decide), if_neg (by decide), if_neg (by decide), if_neg (by decide), if_pos rfl] at pp2
    rw [if_pos rfl]
    exact iX9_wordAlone_145 (d := d + 12) (zn M 2) pp (zsz M) ⟨by omega, a, gp, lit 3 (by decide) pp2⟩
  rw [if_neg z8]
  by_cases z9 : j = 9
  · subst z9
    rw [if_pos rfl]
    exact ⟨a, h.pt, flt2 (pp2.trans rfl)⟩
  rw [if_neg z9]
  by_cases z10 : j = 10
  · subst z10
    rw [if_pos rfl]
    exact ⟨a, h.pt, flt2 (pp2.trans rfl)⟩
  rw [if_neg z10]
  by_cases z11 : j = 11
  · subst z11
    rw [if_neg (by decide), if_neg (by decide), if_neg (by decide), if_neg (by decide), if_neg (by decide), if_neg (by decide), if_pos rfl] at pp2
    rw [if_pos rfl]
    refine y_opens (dg := mdi) h.tz h.pt hp.1 h.op.1 h.op.2 (fun ho => ?_) (fun ho ou M' f => ?_)
    rotate_left
    · obtain ⟨q, rfl⟩ := fO_inr f.1
      rcases hF with ⟨rfl, -⟩ | ⟨r, rfl, z, -⟩
      · show ZT E YX9_wordAlone (d + 14 + 1) M' _ 169 (q, 12, 0) Q
        exact ZT.out (nohand rfl) (hn _ (pp2.trans rfl) _ M' (R.er (ft_er h f) (by omega) (by omega)))
      · omega
    rcases hF with ⟨-, z⟩ | ⟨r, rfl, -, ok, hF⟩
    · omega
    have pu : pPrim (zOf n c mdi) K (some r) C s = bnd (nxt' (zOf n c mdi) s) fun _ s => bnd (r.func false C s) fun f s => prt (vOf (gMd f.1)) s := pp2
    have R1 := R.op ho
    show Z E YX9_wordAlone (d + 14 + 1) (si M pp 4 (nI (o + 1))) [(0, vr (some (pp, 8, 0)))] 172 [] Q
    refine sX9_wordAlone_172 _ pp ⟨a, R1.ps.pt, ?_⟩
    generalize si M pp 4 (nI (o + 1)) = M1 at *
    refine y_nxt (dg := mdi) R1.ps.tz (tkg2 k2).1 (tkg2 k2).2 (fun s2 en M2 f2 x2 => ?_) (fun w en ou M' f => ?_)
    rotate_left
    · obtain ⟨q, rfl⟩ := fO_inr f.1
      show ZT E YX9_wordAlone (d + 14 + 1) M' _ 176 (q, 12, 0) Q
      exact ZT.out (nohand rfl) (hn w (pu.trans (bnd_er en)) _ M' (R1.er (ft_er R1.ps f) (by omega) (by omega)))
    have es := nx_eq en
    subst es
    have R2 := R1.tk f2 x2 rfl (adv_nx s)
    show Z E YX9_wordAlone (d + 14 + 1) M2 [(0, vr (some (pp, 8, 0)))] 179 [] Q
    refine hF (d + 14 + 1) _ M2 τ fs _ C (by omega) h.fl R2.ps (fun fx s3 ef M3 τ3 fs3 f pe3 hf => ?_) (fun w ef ou M' pe => ?_)
    · have o3 := ok.func false C _ fx s3 ef
      have l3 := o3.2.1
      dsimp only at l3
      have R3 := R2.cl pe3 o3.1
      have z3 := R3.2.1.2.1.1.1
      have fl : fx.1 < fs3.length := (List.getElem?_eq_some_iff.mp hf).1
      have fl2 : fs3.length = s3.2.2.length := R3.ps.2.2.2.2.1
      obtain ⟨⟨c1, c2, -⟩, -⟩ := R3.ps.2.2.2.2.2 fx.1 f (s3.2.2[fx.1]'(by omega)) hf (List.getElem?_eq_getElem (by omega))
      have cz := R3.ps.fcz f (List.mem_of_getElem? hf)
      have lts := R3.ps.2.2.2.1.2.2.2.1
      rw [List.length_map] at lts
      have hpf : f ≠ pp := fun e => by have := R3.ps.pz; rw [← e] at this; omega
      refine iX9_wordAlone_211 (d := d + 12) M3 pp _ ⟨by omega, f, rfl, by omega, ?_⟩
      have R4 := R3.cls h.ls
      have s4 : zsz (si M3 pp 4 (gi M3 pp 4 - 1)) = zsz M3 := rfl
      have c4 : gi (si M3 pp 4 (gi M3 pp 4 - 1)) f 0 = nI fx.1 := (gi_oth hpf).trans c2
      rw [← s4]
      rw [← s4] at cz
      generalize si M3 pp 4 (gi M3 pp 4 - 1) = M4 at *
      have c5 : gi (zn M4 1) f 0 = nI fx.1 := by rw [gi_zn, if_neg (by omega)]; exact c4
      rw [c5]
      have f5 : fg (fun x _ => zsz M ≤ x ∧ τ3 x = 1) M4 (si (zn M4 1) (zsz M4) 0 (nI fx.1)) := (fg.zn (n := 1)).tr2 (fr.si (.inr (Nat.le_refl _))).fg
      have g0 : gi (si (zn M4 1) (zsz M4) 0 (nI fx.1)) (zsz M4) 0 = nI fx.1 := gi_self _ _ _ _
      have sz5 : zsz (si (zn M4 1) (zsz M4) 0 (nI fx.1)) = zsz M4 + 1 := rfl
      have su5 : zsu (si (zn M4 1) (zsz M4) 0 (nI fx.1)) = zsu M4 + 1 := rfl
      generalize si (zn M4 1) (zsz M4) 0 (nI fx.1) = M5 at *
      obtain ⟨τ5, R5, ag5, on5, m45⟩ := R4.lc1 (v := 1) (w := 1) f5 (by omega) (by omega)
      refine hy _ s3 (pu.trans ((bnd_ok en).trans ((bnd_ok ef).trans rfl))) M5 _ fs3 _ (R5.nd (by dsimp only; omega) (by dsimp only; omega)) ⟨tgv _ 26 (by decide), ?_, .inl ⟨rfl, (by show 26 ≠ 23; decide), fun e => absurd e (show ¬ 26 = 30 by decide)⟩⟩
      exact xe_Made (nS_190 z190) (fin_1 (by omega) (by omega) (on5 _ (Nat.le_refl _) (by omega))) g0 (by have := R3.ps.fl; have := R3.ps.tz.t_le; omega) (by omega)
    · exact hn w (pu.trans ((bnd_ok en).trans (bnd_er ef))) _ M' (R2.er pe (by dsimp only; omega) (by dsimp only; omega))
  rw [if_neg z11]
  by_cases z12 : j = 12
  · subst z12
    rw [if_pos rfl]
    exact ⟨a, h.pt, flt2 (pp2.trans rfl)⟩
  rw [if_neg z12]
  by_cases z13 : j = 13
  · subst z13
    rw [if_pos rfl]
    exact ⟨a, h.pt, flt2 (pp2.trans rfl)⟩
  rw [if_neg z13]
  by_cases z14 : j = 14
  · subst z14
    rw [if_pos rfl]
    exact ⟨a, h.pt, flt2 (pp2.trans rfl)⟩
  rw [if_neg z14]
  by_cases z15 : j = 15
  · subst z15
    rw [if_neg (by decide), if_neg (by decide), if_neg (by decide), if_neg (by decide), if_neg (by decide), if_pos rfl] at pp2
    rw [if_pos rfl]
    exact iX9_wordAlone_158 (d := d + 12) (zn M 2) pp (zsz M) ⟨by omega, a, gp, lit 4 (by decide) pp2⟩
  rw [if_neg z15]
  by_cases z16 : j = 16
  · subst z16
    rw [if_pos rfl]
    exact ⟨a, h.pt, flt2 (pp2.trans rfl)⟩
  rw [if_neg z16]
  by_cases z17 : j = 17
  · subst z17
    rw [if_neg (by decide), if_neg (by decide), if_pos rfl] at pp2
    rw [if_pos rfl]
    exact iX9_wordAlone_119 (d := d + 12) (zn M 2) pp (zsz M) ⟨by omega, a, gp, lit 1 (by decide) pp2⟩
  rw [if_neg z17]
  by_cases z18 : j = 18
  · subst z18
    rw [if_pos rfl]
    exact ⟨a, h.pt, flt2 (pp2.trans rfl)⟩
  rw [if_neg z18]
  by_cases z19 : j = 19
  · subst z19
    rw [if_pos rfl]
    exact ⟨a, h.pt, flt2 (pp2.trans rfl)⟩
  rw [if_neg z19]
  by_cases z20 : j = 20
  · subst z20
    rw [if_pos rfl] at pp2
    rw [if_pos rfl]
    refine iX9_wordAlone_95 (d := d + 12) (zn M 0) pp (zsz M) ⟨a, by rw [gr_zn, if_neg (by omega)]; exact h.pt, ?_⟩
    refine y_nd1 (d := d + 5) (D := D) (t := 25) (g := gTh) h (fg.zn (n := 0)) rfl (show zsu M + 0 ≤ _ by omega) (by decide) (fun S M' hS hb hg => xe_This hS (by omega)) (.inl k2) (fun s' en M' τ' fs' pe vn => ?_) (fun w en ou M' pe => ?_)
    · show Z E YX9_wordAlone (d + 14 + 1) M' [(1, vr (some (zsz M, 25, 0)))] 249 [] Q
      exact sX9_wordAlone_249 M' _ (hy _ s' (pp2.trans ((bnd_ok en).trans rfl)) M' τ' fs' _ pe vn)
    · obtain ⟨q, rfl⟩ := fO_inr pe.1
      show ZT E YX9_wordAlone (d + 14 + 1) M' _ 246 (q, 12, 0) Q
      exact ZT.out (nohand rfl) (hn w (pp2.trans (bnd_er en)) _ M' pe)
  rw [if_neg z20]
  by_cases z21 : j = 21
  · subst z21
    rw [if_pos rfl]
    exact ⟨a, h.pt, flt2 (pp2.trans rfl)⟩
  rw [if_neg z21]
  by_cases z22 : j = 22
  · subst z22
    rw [if_neg (by decide), if_neg (by decide), if_neg (by decide), if_pos rfl] at pp2
    rw [if_pos rfl]
    exact iX9_wordAlone_132 (d := d + 12) (zn M 2) pp (zsz M) ⟨by omega, a, gp, lit 2 (by decide) pp2⟩
  rw [if_neg z22]
  by_cases z23 : j = 23
  · subst z23
    rw [if_pos rfl]
    exact ⟨a, h.pt, flt2 (pp2.trans rfl)⟩
  rw [if_neg z23]
  by_cases z24 : j = 24
  · subst z24
    rw [if_pos rfl]
    exact ⟨a, h.pt, flt2 (pp2.trans rfl)⟩
  rw [if_neg z24]
  by_cases z25 : j = 25
  · subst z25
    rw [if_neg (by decide), if_pos rfl] at pp2
    rw [if_pos rfl]
    exact iX9_wordAlone_106 (d := d + 12) (zn M 2) pp (zsz M) ⟨by omega, a, gp, lit 0 (by decide) pp2⟩
  rw [if_neg z25]
  rw [if_neg z20, if_neg z25, if_neg z17, if_neg z22, if_neg z8, if_neg z15, if_neg z11] at pp2
  exact ⟨a, h.pt, flt2 pp2⟩
end
