/-! THE COMPONENT's PARSER: script -/
section
variable {E : zE} {pp a lf n : Nat} {c : Nat → Int32} {K : Nat}
/-- the first token -/
theorem y_first {d : Nat} {Q : zO → zM → Prop} {M : zM} {L : List (List Int32)} {F : List gF} (hk : xLx M a n c 0 1) (hS : xS M 17 18 19 L) (hT : xTb M) (hp : xgp M) (b1 : L.length ≤ 100) (b2 : L.flatten.length ≤ 1000) (hc3 : n ≤ 1280 ∧ (∀ k, n ≤ k → c k = 0) ∧ ∀ k, ∃ j, j < 256 ∧ c k = nI j) (hz : 190 ≤ zsz M)
    (hy : ¬ (tkn n c 0).1 = 6 → ∀ M', fr (tkP a) M M' → xTz M' a n c (0, L, F) → Q (.inl none) M')
    (hn : (tkn n c 0).1 = 6 → ∀ o M', fO (tkP a) M (1 + 8 * (tkn n c 0).2.2.2.2) o M' → (zsz M' = zsz M + 1 ∧ zsu M' = zsu M + 7) → Q o M') : Z E YX10_next (d + 9) M [(0, vr (some (a, 9, 0)))] 0 [] Q := by
  obtain ⟨hn0, hc0, hc⟩ := hc3
  refine x_next hk (Nat.zero_le _) hT hp hS (by omega) (by omega) hc (fun z M' f k xs => ?_) (fun z o M' f g => hn z o M' f g)
  have zz := f.1.1
  refine hy z M' f ⟨⟨1, k, fun y => absurd y (by show ¬ 1 ≤ 0; omega)⟩, xs, ⟨xTb_fg hT f.fg (by omega) (fun x k h1 h2 z => by have := hk.2.2.1.1; unfold tkP at z; omega), ?_⟩, z, fun j hj => absurd hj (Nat.not_lt_zero _), ⟨?_, ?_⟩, ⟨hn0, hc0, hc⟩, by rw [zz]; exact hz⟩
  · have := hk.2.2.1.1
    exact ⟨(f.2 17 1 (by unfold tkP; omega)).2.2.trans hp.1, (f.2 17 0 (by unfold tkP; omega)).2.2.trans hp.2⟩
  · show L.length ≤ 100 + 0
    omega
  · show L.flatten.length ≤ 1000 + 12 * _
    omega
/-- a Parser that was made -/
def xPar (M : zM) (pp a lf n : Nat) (c : Nat → Int32) (L : List (List Int32)) : Prop :=
  (xLx M a n c 0 1 ∧ xS M 17 18 19 L ∧ xTb M ∧ xgp M) ∧ (L.length ≤ 100 ∧ L.flatten.length ≤ 1000) ∧ (n ≤ 1280 ∧ (∀ k, n ≤ k → c k = 0) ∧ ∀ k, ∃ j, j < 256 ∧ c k = nI j) ∧ 190 ≤ zsz M ∧
  ((190 ≤ pp ∧ pp < zsz M) ∧ gr M pp 0 = some (16, 0, 0) ∧ gr M pp 1 = some (a, 9, 0) ∧ gr M pp 2 = some (lf, 11, 0) ∧ gi M pp 4 = 0 ∧ gi M pp 5 = 0 ∧ gi M pp 6 = 0) ∧ (190 ≤ lf ∧ lf < zsz M ∧ gi M lf 2 = 0 ∧ gr M lf 1 = some (1, 110, 0)) ∧ (pp ≠ a ∧ pp ≠ lf ∧ a ≠ lf)
def tau0 (pp a lf : Nat) (x : Nat) : Nat := if x = pp then 7 else if x = a then 6 else if x = lf then 4 else 1
/-- the first function -/
theorem y_scr0 {d : Nat} {Q : zO → zM → Prop} {M : zM} {L : List (List Int32)} (h : xPar M pp a lf n c L) (hd : 12 ≤ d)
    (hy : ¬ (tkn n c 0).1 = 6 → ∀ M' τ', rk pp a lf n c M (tau0 pp a lf) [] (0, L, []) (fun k => k ≠ 0) (0, 0, 0) 0 M' τ' [zsz M] (0, L, [([], 0, none, 0, [], gNo)]) 95 1900 → wF (zsz M) M' τ' (zsz M) (zsz M + 1) (zsz M + 2) [] [] → (lC M' (zsz M + 1) = 0 ∧ lC M' (zsz M + 2) = 0 ∧ lA M' (zsz M + 1) = 1 ∧ lA M' (zsz M + 2) = 1) → (gi M' (zsz M) 6 = 0 ∧ gi M' (zsz M) 8 = -1) → Z E YX9_script (d + 1) M' [(0, vr (some (pp, 8, 0)))] 32 [] Q)
    (hn : (tkn n c 0).1 = 6 → ∀ q M', pEr lf 0 0 (tau0 pp a lf) [] M (0, L, []) (1, (tkn n c 0).2.2.2.2) (.inr (q, 12, 0)) M' → Q (.inr (q, 12, 0)) M') : Z E YX9_script (d + 1) M [(0, vr (some (pp, 8, 0)))] 0 [] Q := by
  obtain ⟨d, rfl⟩ : ∃ d', d = d' + 12 := ⟨d - 12, by omega⟩
  obtain ⟨⟨h1, h2, h3, h4⟩, h5, h6, h7, ⟨⟨p1, p2⟩, p3, p4, p5, p6, p7, p8⟩, ⟨l1, l2, l3, l4⟩, n1, n2, n3⟩ := h
  have az : 190 ≤ a ∧ a < zsz M := ⟨h1.2.2.1.1, h1.2.2.1.2.1⟩
  refine iX9_script_0 M pp ?_
  refine iX11_init_0 (d := d + 8) (zn M 10) (zsz M) _ _ ⟨by show 16 ≤ zsz M + 1; omega, by omega, by show 16 ≤ zsz M + 1 + 1; omega, ?_⟩
  obtain ⟨⟨c0', c1, c2, c3, c4⟩, ⟨c5, c6, c8⟩, ⟨c9, c10⟩, ⟨c11, c12⟩, sz1, su1, f1'⟩ := cdM_ok (zn M 10) (zsz M) 0 none (Nat.lt_succ_self _) (by rw [gi_zn, if_pos rfl]) (by rw [gi_zn, if_pos rfl])
  show Z E YX9_script (d + 12 + 1) (cdM (zn M 10) (zsz M) 0 none) [(0, vr (some (pp, 8, 0)))] 10 [vr (some (zsz M, 10, 0)), vr (some (pp, 8, 0))] Q
  have ez : zsz (zn M 10) = zsz M + 1 := rfl
  have eu : zsu (zn M 10) = zsu M + 10 := rfl
  rw [ez] at c2 c3 c4 c9 c10 c11 c12 sz1
  rw [eu] at su1
  have f1 : fg (fun _ _ => False) M (cdM (zn M 10) (zsz M) 0 none) := fg.zn.tr2 (f1'.mono fun x k _ y => .inr (by rw [y]; exact Nat.le_refl _))
  generalize cdM (zn M 10) (zsz M) 0 none = M1 at *
  have e3 : gr (sr M1 pp 3 (some (zsz M, 10, 0))) pp 3 = some (zsz M, 10, 0) := by rw [gr_sr, if_pos rfl, if_pos rfl]
  have e2 : gr (sr M1 pp 3 (some (zsz M, 10, 0))) pp 2 = some (lf, 11, 0) := by rw [gr_sr, if_pos rfl, if_neg (by decide)]; exact (f1.gr p2 (fun y => y)).trans p5
  refine sX9_script_10 M1 pp _ ⟨by omega, lf, e2, ?_⟩
  rw [e3]
  have f2 : fg (fun x k => x = pp ∧ k = 3) M (sr M1 pp 3 (some (zsz M, 10, 0))) := (f1.mono fun _ _ _ y => y.elim).tr2 (fr.sr (.inl ⟨rfl, rfl⟩)).fg
  have g12 : ∀ x k, x ≠ pp → gi (sr M1 pp 3 (some (zsz M, 10, 0))) x k = gi M1 x k ∧ gr (sr M1 pp 3 (some (zsz M, 10, 0))) x k = gr M1 x k := fun x k y => ⟨rfl, by rw [gr_sr, if_neg y]⟩
  have sz2 : zsz (sr M1 pp 3 (some (zsz M, 10, 0))) = zsz M1 := rfl
  have su2 : zsu (sr M1 pp 3 (some (zsz M, 10, 0))) = zsu M1 := rfl
  generalize sr M1 pp 3 (some (zsz M, 10, 0)) = M2 at *
  have lr2 : gr M2 lf 1 = some (1, 110, 0) := (f2.gr l2 (by omega)).trans l4
  have x2 : xLs M2 lf [] := ⟨⟨by omega, by omega⟩, (f2.gi l2 (by omega)).trans l3, by show 0 < 100000; decide, (fun p hp => by cases hp), .inl ⟨lr2, rfl⟩⟩
  have lA2 : lA M2 lf = 1 ∧ lC M2 lf = 0 := by unfold lA lC; rw [lr2]; exact ⟨rfl, rfl⟩
  refine l_add (d := d + 6) x2 (by show 0 + 1 < 100000; decide) (fun p e => by cases e; exact sto10) (fun M3 x3 f3 k3 => ?_)
  show Z E YX9_script (d + 12 + 1) M3 [(0, vr (some (pp, 8, 0)))] 24 [vi 1] Q
  have nP : ∀ x k, x ≠ lf → ¬ lP M2 lf x k := fun x k y1 y => by
    rcases y with y | ⟨y, y'⟩
    · exact y1 y
    · rw [lA2.1] at y; omega
  have f23 : fg (fun x k => x = pp ∧ k = 3 ∨ x = lf) M M3 := (f2.mono fun _ _ _ y => .inl y).tr2 (f3.mono fun x k _ y => by
    by_cases e : x = lf
    · exact .inl (.inr e)
    · exact absurd y (nP x k e))
  have zz3 := f3.1.1
  obtain ⟨kz, ku, kA⟩ := k3
  have pp3 : gr M3 pp 3 = some (zsz M, 10, 0) := (f3.gr (by omega) (nP pp 3 n2)).trans e3
  refine sX9_script_24 M3 pp _ ⟨a, (f23.gr p2 (by omega)).trans p4, ?_⟩
  have k1 : xLx M3 a n c 0 1 := by
    obtain ⟨y1, y2, y3, y4, y5⟩ := h1
    exact ⟨cw_fg y1 f23 (by omega) (fun q hq => by rcases cwl_16 q hq with e | e <;> omega), xsrc_fg y2 f23 (by omega) (by omega) (fun k => by omega), ⟨y3.1, by omega, (f23.gr y3.2.1 (by omega)).trans y3.2.2⟩, (f23.gi y3.2.1 (by omega)).trans y4, (f23.gi y3.2.1 (by omega)).trans y5⟩
  have hS3 : xS M3 17 18 19 L := xS_fg h2 f23 (by omega) (by omega) (fun k => by omega) (fun k => by omega)
  have hT3 : xTb M3 := xTb_fg h3 f23 (by omega) (fun x k _ _ => by omega)
  have hg3 : xgp M3 := ⟨(f23.gr (by omega) (by omega)).trans h4.1, (f23.gr (by omega) (by omega)).trans h4.2⟩
  -- the kinds of cells
  have t0 : ∀ x, tau0 pp a lf x = if x = pp then 7 else if x = a then 6 else if x = lf then 4 else 1 := fun _ => rfl
  have t0p : tau0 pp a lf pp = 7 := by rw [t0, if_pos rfl]
  have t0a : tau0 pp a lf a = 6 := by rw [t0, if_neg (Ne.symm n1), if_pos rfl]
  have t0l : tau0 pp a lf lf = 4 := by rw [t0, if_neg (Ne.symm n2), if_neg (Ne.symm n3), if_pos rfl]
  have lsz0 : lS M lf = 40 := by
    unfold lS lC
    rw [l3, l4]
    rfl
  refine y_first (d := d + 3) (F := [([], 0, none, 0, [], gNo)]) k1 hS3 hT3 hg3 h5.1 h5.2 h6 (by omega) (fun hk M4 f4 x4 => ?_) (fun hk o M4 f4 g4 => ?_)
  rotate_left
  · obtain ⟨q, rfl⟩ := fO_inr f4
    obtain ⟨q', u1, u2, u3, u4⟩ := f4
    refine ZT.out (nohand rfl) (hn hk q M4 ⟨⟨q', u1, u2, ⟨by omega, u3.2⟩, ?_⟩, ?_, ?_⟩)
    · refine (f23.mono fun x k _ y => ?_).tr2 (u4.mono fun x k _ y => .inl ?_)
      · rcases y with ⟨y, -⟩ | y
        · exact .inr ⟨by omega, .inl (by rw [y, t0p]; omega)⟩
        · exact .inr ⟨by omega, .inl (by rw [y, t0l]; omega)⟩
      · exact tkP_pU ⟨az.1, t0a⟩ y
    · dsimp only
      omega
    · dsimp only
      unfold pu
      have lc := lC_le x3
      have lc : 4 * lC M3 lf ≤ 40 + 8 * 1 := lc
      show _ ≤ zsu M + lS M lf + 0 + 400 * 1300
      omega
  have z4 := f4.1
  obtain ⟨τ', hτ⟩ : ∃ τ' : Nat → Nat, ∀ x, τ' x = if x < zsz M then tau0 pp a lf x else if x = zsz M then 3 else if x = zsz M + 1 ∨ x = zsz M + 2 then 1 else if x = zsz M + 3 then 10 else if x < zsz M3 then 5 else 0 := ⟨_, fun _ => rfl⟩
  have ag : ∀ x, x < zsz M → τ' x = tau0 pp a lf x := fun x hx => by rw [hτ, if_pos hx]
  have q0 : τ' (zsz M) = 3 := by rw [hτ, if_neg (Nat.lt_irrefl _), if_pos rfl]
  have q1 : τ' (zsz M + 1) = 1 := by rw [hτ, if_neg (by omega), if_neg (by omega), if_pos (.inl rfl)]
  have q2 : τ' (zsz M + 2) = 1 := by rw [hτ, if_neg (by omega), if_neg (by omega), if_pos (.inr rfl)]
  have q3 : τ' (zsz M + 3) = 10 := by rw [hτ, if_neg (by omega), if_neg (by omega), if_neg (by omega), if_pos rfl]
  have q4 : ∀ x, zsz M + 4 ≤ x → x < zsz M3 → τ' x = 5 := fun x y1 y2 => by rw [hτ, if_neg (by omega), if_neg (by omega), if_neg (by omega), if_neg (by omega), if_pos y2]
  have q5 : ∀ x, zsz M3 ≤ x → τ' x = 0 := fun x y1 => by rw [hτ, if_neg (by omega), if_neg (by omega), if_neg (by omega), if_neg (by omega), if_neg (by omega)]
  have nT : ∀ x k, 190 ≤ x → x ≠ a → ¬ tkP a x k := fun x k y1 y2 => nt_tk y1 y2
  have gN : ∀ x k, zsz M ≤ x → x < zsz M1 → gi M4 x k = gi M1 x k ∧ gr M4 x k = gr M1 x k := fun x k y1 y2 => by
    have t := f4.2 x k (nT x k (by omega) (by omega))
    have u := g12 x k (by omega)
    exact ⟨t.1.trans ((f3.gi (by omega) (nP x k (by omega))).trans u.1), t.2.2.trans ((f3.gr (by omega) (nP x k (by omega))).trans u.2)⟩
  have gP : ∀ k, k ≠ 3 → gi M4 pp k = gi M pp k ∧ gr M4 pp k = gr M pp k := fun k y => by
    have t := f4.2 pp k (nT pp k p1 n1)
    exact ⟨t.1.trans (f23.gi p2 (by omega)), t.2.2.trans (f23.gr p2 (by omega))⟩
  have gP3 : gr M4 pp 3 = some (zsz M, 10, 0) := (f4.2 pp 3 (nT pp 3 p1 n1)).2.2.trans pp3
  have x4' : xLs M4 lf [some (zsz M, 10, 0)] := xLs_fg x3 f4.fg (fun k => nT lf k l1 (Ne.symm n3)) (fun k => by
    by_cases y : lA M3 lf < 16
    · exact .inl y
    · rcases kA with y1 | y1
      · rw [lA2.1] at y1; omega
      · exact .inr (nT _ k (by omega) (by omega)))
  have la4 := lA_fg (l := lf) (by omega) f4.fg (nT lf 1 l1 (Ne.symm n3))
  have bz : lA M3 lf < zsz M3 := by
    rcases x3.2.2.2.2 with ⟨e, -⟩ | ⟨b, m, e, e2, -⟩
    · unfold lA; rw [e]; show 1 < _; omega
    · unfold lA; rw [e]; exact e2.2.1
  have xps : xPs M4 τ' pp a lf n c [zsz M] (0, L, [([], 0, none, 0, [], gNo)]) (0, 0, 0) 0 := by
    refine ⟨⟨x4, (ag a az.2).trans t0a, fun x hx => q5 x (by omega)⟩, ⟨⟨p1, by omega, (ag pp p2).trans t0p⟩, (gP 0 (by decide)).2.trans p3, (gP 1 (by decide)).2.trans p4, (gP 2 (by decide)).2.trans p5, by show 1 ≤ 0 + 1; omega, (fun q hq => by rw [List.mem_singleton.mp hq]; exact Nat.le_refl _), fun w y1 y2 y3 => ?_⟩, ⟨⟨zsz M, rfl, gP3⟩, ⟨(gP 4 (by decide)).1.trans p6, by omega⟩, (gP 5 (by decide)).1.trans p7, (gP 6 (by decide)).1.trans p8, Nat.le_refl _⟩, ⟨⟨l1, (ag lf l2).trans t0l, fun y => ?_⟩, x4'⟩, rfl, fun k f' q hk hq => ?_⟩
    · by_cases y : w < zsz M
      · rw [ag w y, t0] at y3
        by_cases b0 : w = pp
        · rw [if_pos b0] at y3; omega
        rw [if_neg b0] at y3
        by_cases b1 : w = a
        · rw [if_pos b1] at y3; omega
        rw [if_neg b1] at y3
        by_cases b2 : w = lf
        · rw [if_pos b2] at y3; omega
        · rw [if_neg b2] at y3; omega
      · by_cases b0 : w = zsz M
        · rw [b0, q0] at y3; omega
        by_cases b1 : w = zsz M + 1
        · rw [b1, q1] at y3; omega
        by_cases b2 : w = zsz M + 2
        · rw [b2, q2] at y3; omega
        by_cases b3 : w = zsz M + 3
        · rw [b3, q3] at y3; omega
        · rw [q4 w (by omega) (by omega)] at y3; omega
    · rw [la4.1] at y ⊢
      rcases kA with y1 | y1
      · rw [lA2.1] at y1; omega
      · exact ⟨by omega, q4 _ (by omega) bz⟩
    · have kl := (List.getElem?_eq_some_iff.mp hk).1
      have kl : k < 1 := kl
      have ek : k = 0 := by omega
      subst ek
      cases hk
      cases hq
      exact ⟨⟨q0, (gN _ 0 (Nat.le_refl _) (by omega)).1.trans c0', fun _ => (gN _ 1 (Nat.le_refl _) (by omega)).2.trans c1, fun y => absurd y (by omega)⟩, zsz M + 3, 12, ⟨(gN _ 4 (Nat.le_refl _) (by omega)).2.trans c4, (gN _ 5 (Nat.le_refl _) (by omega)).1.trans c5, ⟨Nat.zero_le _, Nat.le_refl _, by omega⟩, ⟨by omega, by omega, by omega⟩, ⟨by omega, by omega⟩, fun i hi => absurd hi (Nat.not_lt_zero _), fun y hy => by cases hy⟩, q3, by omega⟩
  have eP : gr M4 (zsz M + 1) 1 = some (1, 110, 0) := (gN _ 1 (by omega) (by omega)).2.trans c9
  have eD : gr M4 (zsz M + 2) 1 = some (1, 110, 0) := (gN _ 1 (by omega) (by omega)).2.trans c11
  have aP : lA M4 (zsz M + 1) = 1 ∧ lC M4 (zsz M + 1) = 0 := by unfold lA lC; rw [eP]; exact ⟨rfl, rfl⟩
  have aD : lA M4 (zsz M + 2) = 1 ∧ lC M4 (zsz M + 2) = 0 := by unfold lA lC; rw [eD]; exact ⟨rfl, rfl⟩
  show Z E YX9_script (d + 12 + 1) M4 [(0, vr (some (pp, 8, 0)))] 32 [] Q
  refine hy hk M4 τ' ⟨xps, ⟨h7, ⟨?_, ag⟩⟩, List.nil_prefix, Nat.le_refl _, fun k f' q y1 y2 y3 => ?_, ?_, ?_⟩ ⟨⟨Nat.le_refl _, by omega, q0⟩, ⟨(gN _ 2 (Nat.le_refl _) (by omega)).2.trans c2, (gN _ 3 (Nat.le_refl _) (by omega)).2.trans c3⟩, wL_mk ((gN _ 2 (by omega) (by omega)).1.trans c10) eP ⟨by omega, by omega⟩ ⟨by omega, q1⟩, wL_mk ((gN _ 2 (by omega) (by omega)).1.trans c12) eD ⟨by omega, by omega⟩ ⟨by omega, q2⟩, by omega, ?_, ?_⟩ ⟨aP.2, aD.2, aP.1, aD.1⟩ ⟨(gN _ 6 (Nat.le_refl _) (by omega)).1.trans c6, (gN _ 8 (Nat.le_refl _) (by omega)).1.trans c8⟩
  · have fa : fg (fun x k => pU (tau0 pp a lf) x k ∨ zsz M ≤ x ∧ tau0 pp a lf x = 1) M M3 := f23.mono fun x k _ y => .inl (by
      rcases y with ⟨y, -⟩ | y
      · exact .inr ⟨by omega, .inl (by rw [y, t0p]; omega)⟩
      · exact .inr ⟨by omega, .inl (by rw [y, t0l]; omega)⟩)
    exact fa.tr2 (f4.fg.mono fun x k _ y => .inl (.inl (tkP_pU ⟨az.1, t0a⟩ y)))
  · have kl := (List.getElem?_eq_some_iff.mp y2).1
    have kl : k < 1 := kl
    exact absurd (show k = 0 by omega) y1
  · dsimp only
    omega
  · have lc := lC_le x4'
    have lc : 4 * lC M4 lf ≤ 40 + 8 * 1 := lc
    have a1 : lS M4 lf = 40 + 8 * 1 - 4 * lC M4 lf := by
      unfold lS
      rw [show gi M4 lf 2 = nI 1 from x4'.2.1, nI_clamp (by omega)]
    have a4 : vS M4 (zsz M) = 0 := by
      unfold vS vC
      rw [(gN _ 5 (Nat.le_refl _) (by omega)).1, c5, (gN _ 4 (Nat.le_refl _) (by omega)).2, c4]
      rfl
    unfold pu
    show zsu M4 + lS M4 lf + ([vS M4 (zsz M)]).sum + 1900 ≤ zsu M + lS M lf + 0 + 400 * (0 - 0) + 2000
    rw [show ([vS M4 (zsz M)]).sum = vS M4 (zsz M) from by simp, a4, a1, lsz0]
    rw [la4.2] at *
    rw [lA2.2] at ku
    omega
  · rw [aP.1, aD.1]; exact ⟨by omega, by omega⟩
  · rw [aP.1]; intro y; omega
/-- script: all functions are done -/
theorem y_script {d : Nat} {Q : zO → zM → Prop} {M : zM} {L : List (List Int32)} (h : xPar M pp a lf n c L) (hK : 1300 ≤ K) (hd : 450 ≤ d)
    (hy : ∀ s', pScr (zOf n c mdi) K L = .ok ((), s') → ∀ M' τ' fs', rk pp a lf n c M (tau0 pp a lf) [] (0, L, []) (fun _ => True) (0, 0, 0) 0 M' τ' fs' s' 0 0 → Q (.inl (some (vr (some (lf, 11, 0))))) M')
    (hn : ∀ w, pScr (zOf n c mdi) K L = .error w → ∀ q M', pEr lf 0 0 (tau0 pp a lf) [] M (0, L, []) w (.inr (q, 12, 0)) M' → Q (.inr (q, 12, 0)) M') : Z E YX9_script (d + 2) M [(0, vr (some (pp, 8, 0)))] 0 [] Q := by
  have hA := y_all (E := E) (pp := pp) (a := a) (lf := lf) (n := n) (c := c) (K := K) hK 20 0 rfl
  have hB := y_all (E := E) (pp := pp) (a := a) (lf := lf) (n := n) (c := c) (K := K) hK 19 1 rfl
  have ok := ok_lv (zOf n c mdi) K 19
  have hok : okO (roK (zOf n c mdi) K 20) := fun r e => by cases e; exact ok
  have hS := hA.2.1
  have hro : lvO 0 (roK (zOf n c mdi) K 20) fun o r => ∃ ro', (∀ b C s, r.func b C s = pFun (zOf n c mdi) K ro' b C s) ∧ cFi E pp a lf n c mdi K (20 * 19 + 42) o ro' := .inr ⟨_, rfl, by omega, ok, roK (zOf n c mdi) K 19, fun b C s => (by rw [pLv_mk]; rfl), hB.2.2.1⟩
  refine y_scr0 (d := d + 1) h (by omega) (fun hk M1 τ1 R1 W1 A1 g1 => ?_) (fun hk q M' er => hn _ (if_pos hk) q M' er)
  have z := R1.z0
  have pe0 : pScr (zOf n c mdi) K L = bnd (pPts (zOf n c mdi) (pStm (zOf n c mdi) K (roK (zOf n c mdi) K 20)) (pDcl (zOf n c mdi) (roK (zOf n c mdi) K 20)) (0, 0, 0) (fun s => decide (tkd (zOf n c mdi) s.1 = 0)) K [] gNo (0, L, [([], 0, none, 0, [], gNo)])) fun q s => prt () (setF 0 (endF q) s) := if_neg hk
  have loop : ∀ (u : Nat) (M6 : zM) (τ6 : Nat → Nat) (fs6 : List Nat) (s6 : pS) (cz6 cu6 : Nat) (ps ds : List (Option zP)) (gs : gBs) (dc : List (Nat × Nat)) (q6 : gF), 1300 ≤ u + s6.1 → rk pp a lf n c M (tau0 pp a lf) [] (0, L, []) (fun k => k ≠ 0) (0, 0, 0) 0 M6 τ6 fs6 s6 cz6 cu6 → wF (zsz M) M6 τ6 (zsz M) (zsz M + 1) (zsz M + 2) ps ds → lAB M M6 (zsz M + 1) (zsz M + 2) → kg (zsz M) (zsz M + 1) (zsz M + 2) (tau0 pp a lf) M τ6 M6 → wTs (zsz M) M6 τ6 (0, 0) ((5 * (s6.1 - 0) + 3) / 4) ps gs → wD M6 τ6 ds dc → sN gs + 2 * sO gs ≤ 2500 * ((tkn n c s6.1).2.2.1 - (tkn n c 0).2.2.1) → sK gs + 2 * sH gs ≤ 3 * (s6.1 - 0) → 95 ≤ cz6 → 1900 + 100 * (ps.length + ds.length) ≤ cu6 + 4 * lC M6 (zsz M + 1) + 4 * lC M6 (zsz M + 2) → ps.length + ds.length ≤ s6.1 → fs6[0]? = some (zsz M) → s6.2.2[0]? = some q6 → q6.2 = (0, none, 0, [], gNo) → gi M6 (zsz M) 6 = 0 → gi M6 (zsz M) 8 = -1 →
      (pScr (zOf n c mdi) K L = bnd (pPts (zOf n c mdi) (pStm (zOf n c mdi) K (roK (zOf n c mdi) K 20)) (pDcl (zOf n c mdi) (roK (zOf n c mdi) K 20)) (0, 0, 0) (fun s => decide (tkd (zOf n c mdi) s.1 = 0)) u dc (gBl gs) s6) fun q s => prt () (setF 0 (endF q) s)) → Z E YX9_script (d + 1 + 1) M6 [(0, vr (some (pp, 8, 0)))] 32 [] Q := by
    intro u
    induction u with
    | zero => intro M6 τ6 fs6 s6 cz6 cu6 ps ds gs dc q6 hf R6 _ _ _ _ _ _ _ _ _ _ _ _ _ _ _ _; have := R6.ps.tz.t_le; omega
    | succ u ih =>
      intro M6 τ6 fs6 s6 cz6 cu6 ps ds gs dc q6 hu6 R6 W6 L6 K6 T6 D6 hN6 hK6 hz6 hc6 hl6 hf6 hq6 eq6 e6 e8 pe6
      have tl := R6.ps.tz.t_le
      have z6 := R6.ps.z190
      have lcp := lC_le W6.2.2.1.1
      have lcd := lC_le W6.2.2.2.1.1
      have kd := tk_kd (dg := mdi) R6.ps.tz
      have zB := K6.1.1.1
      have len := T6.1
      have lend := D6.1
      refine sX9_script_32 M6 pp ⟨a, R6.ps.pt, ?_⟩
      by_cases h0 : gi M6 a 3 = 0
      · -- the end
        rw [if_pos h0, R6.ps.2.1.2.2.2.1]
        have k0 : tkd (zOf n c mdi) s6.1 = 0 := kd.symm.trans h0
        have ps6 : pPts (zOf n c mdi) (pStm (zOf n c mdi) K (roK (zOf n c mdi) K 20)) (pDcl (zOf n c mdi) (roK (zOf n c mdi) K 20)) (0, 0, 0) (fun s => decide (tkd (zOf n c mdi) s.1 = 0)) (u + 1) dc (gBl gs) s6 = prt (dc, gBl gs) s6 := by rw [pPts]; rw [if_pos (decide_eq_true k0)]
        have pe7 : pScr (zOf n c mdi) K L = prt () (setF 0 (endF (dc, gBl gs)) s6) := pe6.trans (bnd_ok ps6)
        have R9 := R6.set (N := 0) (g := endF (dc, gBl gs)) (fun y => y rfl) hq6 ⟨rfl, rfl⟩
        have lz1 := W6.2.2.1.lz z6
        have lz2 := W6.2.2.2.1.lz z6
        obtain ⟨τ10, R10, ag10, on10, m10⟩ := R9.fxs (fun y => y = zsz M + 1 ∨ y = zsz M + 2 ∨ (y = lA M6 (zsz M + 1) ∧ 16 ≤ y) ∨ (y = lA M6 (zsz M + 2) ∧ 16 ≤ y)) (fun y hy' => by
          rcases hy' with y1 | y1 | ⟨y1, y2⟩ | ⟨y1, y2⟩
          · rw [y1]; exact ⟨W6.2.2.1.2.1.1, lz1.1, W6.2.2.1.2.1.2⟩
          · rw [y1]; exact ⟨W6.2.2.2.1.2.1.1, lz2.1, W6.2.2.2.1.2.1.2⟩
          · have := W6.2.2.1.2.2 (by omega)
            rw [y1]; exact ⟨this.1, lz1.2, this.2⟩
          · have := W6.2.2.2.1.2.2 (by omega)
            rw [y1]; exact ⟨this.1, lz2.2, this.2⟩)
        have tf : τ6 (zsz M) = 3 := W6.1.2.2
        have nf : ¬ (zsz M = zsz M + 1 ∨ zsz M = zsz M + 2 ∨ (zsz M = lA M6 (zsz M + 1) ∧ 16 ≤ zsz M) ∨ (zsz M = lA M6 (zsz M + 2) ∧ 16 ≤ zsz M)) := fun y => by
          rcases y with y1 | y1 | ⟨y1, y2⟩ | ⟨y1, y2⟩
          · omega
          · omega
          · have := (W6.2.2.1.2.2 (by omega)).2; rw [← y1] at this; omega
          · have := (W6.2.2.2.1.2.2 (by omega)).2; rw [← y1] at this; omega
        have T10 := T6.mv m10 z.1 (Nat.le_refl _)
        have D10 := D6.mv m10
        have mx := pos_mx R6.ps.tz
        have eqF : (endF (dc, gBl gs) q6).2 = (0, none, 0, dc, gBl gs) := by
          unfold endF
          rw [eq6]
        have fd : fdn M6 τ10 (zsz M) (endF (dc, gBl gs) q6).2 := by
          rw [eqF]
          refine ⟨⟨by omega, W6.1.2.1, (ag10 _ nf).trans tf⟩, e6, e8, zsz M, zsz M6, ⟨z.1, Nat.le_refl _⟩, ⟨zsz M + 2, ds, W6.2.1.2, W6.2.2.2.1.l0 (on10 _ (.inr (.inl rfl))) (fun y => on10 _ (.inr (.inr (.inr ⟨rfl, y⟩)))), D10.1, D10.2⟩, zsz M + 1, gs, _, W6.2.1.1, ndl_of (W6.2.2.1.l0 (on10 _ (.inl rfl)) (fun y => on10 _ (.inr (.inr (.inl ⟨rfl, y⟩))))) T10, rfl, ?_, ?_, ?_⟩
          · omega
          · omega
          · omega
        have R11 := R10.dx (Dn' := fun _ => True) (fun k f' q y1 y2 y3 y4 => by
          have ek : k = 0 := by
            by_cases y : k = 0
            · exact y
            · exact absurd y y2
          subst ek
          rw [hf6] at y3
          cases y3
          rw [setF_at hq6] at y4
          have y4 : (s6.2.2.set 0 (endF (dc, gBl gs) q6))[0]? = some q := y4
          rw [List.getElem?_set_self (List.getElem?_eq_some_iff.mp hq6).1] at y4
          cases y4
          exact fd)
        exact hy _ pe7 M6 τ10 fs6 (R11.up (by omega) (by omega))
      · rw [if_neg h0]
        have n0 : ¬ decide (tkd (zOf n c mdi) s6.1 = 0) = true := fun y => h0 (kd.trans (of_decide_eq_true y))
        cases h11 : isK (zOf n c mdi) 11 s6 with
        | false =>
          have ps6 : pPts (zOf n c mdi) (pStm (zOf n c mdi) K (roK (zOf n c mdi) K 20)) (pDcl (zOf n c mdi) (roK (zOf n c mdi) K 20)) (0, 0, 0) (fun s => decide (tkd (zOf n c mdi) s.1 = 0)) (u + 1) dc (gBl gs) s6 = bnd (pStm (zOf n c mdi) K (roK (zOf n c mdi) K 20) (0, 0, 0) s6) fun y s => pPts (zOf n c mdi) (pStm (zOf n c mdi) K (roK (zOf n c mdi) K 20)) (pDcl (zOf n c mdi) (roK (zOf n c mdi) K 20)) (0, 0, 0) (fun s => decide (tkd (zOf n c mdi) s.1 = 0)) u dc (gSq (gBl gs) y) s := by rw [pPts]; rw [if_neg n0, if_neg (by rw [h11]; decide)]
          refine y_pst (tz := 0) (tu := 0) (dg := mdi) (K := K) hS hok (by omega) R6 (by omega) (by omega) (by omega) (by omega) W6 hf6 K6 L6 zB h11 (fun y7 s7 e7 u7 M7 τ7 fs7 cu7 p7 pf7 R7 c7 W7 m7 ⟨D7, o7, m7', h7, k7, sz7, x7⟩ K7 L7 hf7 g67 => ?_) (fun w e q M' er => ZT.out (nohand rfl) (hn w (pe6.trans (bnd_er (ps6.trans (bnd_er e)))) q M' er))
          show Z E YX9_script (d + 1 + 1) M7 [(0, vr (some (pp, 8, 0)))] 46 [] Q
          refine sX9_script_46 M7 pp ?_
          obtain ⟨q7, hq7, eq7, -⟩ := u7.1.2.2.2.2.1 0 q6 (List.getElem?_eq_some_iff.mp hq6).1 hq6
          have l7 := u7.2.1
          have T7 := (T6.mv m7 z.1 (ar_b1 (Nat.zero_le _) l7)).app (p := p7) (q := ((o7, m7', h7, k7), y7)) ⟨sz7.2.2.2.1, sz7.2.2.2.2⟩ (x7.up (fun _ z => z) (ar_b2 sz7.1 (Nat.zero_le _) l7) (Nat.le_refl _) (Nat.le_refl _) (Nat.le_refl _) (Nat.le_refl _))
          have sa := sO_app gs ((o7, m7', h7, k7), y7)
          dsimp only at sa
          have p2 := pos_le R7.ps.tz (t := 0) (t' := s6.1) (Nat.zero_le _) (by omega)
          have p3 := pos_le R7.ps.tz (t := s6.1) (t' := s7.1) (by omega) (Nat.le_refl _)
          refine ih M7 τ7 fs7 s7 _ cu7 _ ds (gs ++ [((o7, m7', h7, k7), y7)]) dc q7 (by omega) R7 W7 L7 K7 T7 (D6.mv m7) ?_ ?_ (by omega) ?_ ?_ hf7 hq7 (eq7.trans eq6) (g67.1.trans e6) (g67.2.trans e8) (pe6.trans ?_)
          · have := ar_b3 hN6 sz7.2.1 (by omega) (by omega)
            omega
          · have := sz7.2.2.1
            omega
          · rw [List.length_append]
            show _ + 100 * (ps.length + 1 + ds.length) ≤ _
            omega
          · rw [List.length_append]
            show ps.length + 1 + ds.length ≤ _
            omega
          · rw [gBl_app, ps6, bnd_ok e7]
        | true =>
          have ps6 : pPts (zOf n c mdi) (pStm (zOf n c mdi) K (roK (zOf n c mdi) K 20)) (pDcl (zOf n c mdi) (roK (zOf n c mdi) K 20)) (0, 0, 0) (fun s => decide (tkd (zOf n c mdi) s.1 = 0)) (u + 1) dc (gBl gs) s6 = bnd (pDcl (zOf n c mdi) (roK (zOf n c mdi) K 20) (0, 0, 0) s6) fun f s => pPts (zOf n c mdi) (pStm (zOf n c mdi) K (roK (zOf n c mdi) K 20)) (pDcl (zOf n c mdi) (roK (zOf n c mdi) K 20)) (0, 0, 0) (fun s => decide (tkd (zOf n c mdi) s.1 = 0)) u (dc ++ [f]) (gBl gs) s := by rw [pPts]; rw [if_neg n0, if_pos h11]
          refine y_pdc (tz := 0) (tu := 0) (dg := mdi) (K := K) hro (by omega) R6 (by omega) (by omega) (by omega) (by omega) (by omega) (by omega) W6 hf6 K6 L6 zB h11 (fun r7 s7 e7 M7 τ7 fs7 cu7 g7' pf7 R7 c7 W7 t7 d7 K7 L7 hf7 g67 l7 => ?_) (fun w e q M' er => ZT.out (nohand rfl) (hn w (pe6.trans (bnd_er (ps6.trans (bnd_er e)))) q M' er))
          show Z E YX9_script (d + 1 + 1) M7 [(0, vr (some (pp, 8, 0)))] 46 [] Q
          refine sX9_script_46 M7 pp ?_
          have u7 := ok_dcl (c := (0, 0, 0)) hok s6 r7 s7 e7
          obtain ⟨q7, hq7, eq7, -⟩ := u7.1.2.2.2.2.1 0 q6 (List.getElem?_eq_some_iff.mp hq6).1 hq6
          have p2 := pos_le R7.ps.tz (t := 0) (t' := s6.1) (Nat.zero_le _) (by omega)
          have p3 := pos_le R7.ps.tz (t := s6.1) (t' := s7.1) (by omega) (Nat.le_refl _)
          have T7 := (t7 _ gs T6).mv (τ' := τ7) (M' := M7) ⟨fg.rf, fun _ _ _ => rfl⟩ z.1 (ar_b1 (Nat.zero_le _) l7)
          refine ih M7 τ7 fs7 s7 _ cu7 ps _ gs (dc ++ [r7]) q7 (by omega) R7 W7 L7 K7 T7 (d7 dc D6) (by omega) (by omega) (by omega) ?_ ?_ hf7 hq7 (eq7.trans eq6) (g67.1.trans e6) (g67.2.trans e8) (pe6.trans ?_)
          · rw [List.length_append]
            show _ + 100 * (ps.length + (ds.length + 1)) ≤ _
            omega
          · rw [List.length_append]
            show ps.length + (ds.length + 1) ≤ _
            omega
          · rw [ps6, bnd_ok e7]
  have K1 : kg (zsz M) (zsz M + 1) (zsz M + 2) (tau0 pp a lf) M τ1 M1 := ⟨R1.2.1.2.fg.mono fun _ _ _ y => .inl y, fun x hx _ _ => R1.2.1.2.2 x hx⟩
  refine loop K M1 τ1 [zsz M] (0, L, [([], 0, none, 0, [], gNo)]) 95 1900 [] [] [] [] ([], 0, none, 0, [], gNo) (by dsimp only; omega) R1 W1 ⟨fun y => ?_, fun y => ?_⟩ K1 ⟨rfl, fun i q hq => by cases hq⟩ ⟨rfl, fun i q hq => by cases hq⟩ (Nat.zero_le _) (Nat.zero_le _) (Nat.le_refl _) ?_ (Nat.zero_le _) rfl rfl rfl g1.1 g1.2 pe0
  · rw [A1.2.2.1] at y; omega
  · rw [A1.2.2.2] at y; omega
  · show 1900 + 100 * (0 + 0) ≤ _
    omega
end
