/-! THE COMPONENT's PARSER: inside -/
section
variable {E : zE} {pp a lf n : Nat} {c : Nat → Int32} {dg : Int32 → List Int32} {K o dS dI dm : Nat}
theorem stm_0 {ro : Option pT} {C : pC} {s : pS} (k0 : tkd (zOf n c dg) s.1 = 0) : pStm (zOf n c dg) K ro C s = flt (zOf n c dg) 2 s := by
  have k2 : ¬ tkd (zOf n c dg) s.1 = 2 := by rw [k0]; decide
  have k5 : ¬ tkd (zOf n c dg) s.1 = 5 := by rw [k0]; decide
  have b : (begX (zOf n c dg) s && !isK (zOf n c dg) 11 s) = false := by
    unfold begX begW isPre isLit
    simp only [isK_n k2, isS_n k5, k0]
    decide
  unfold pStm
  rw [if_neg (by rw [isOwn_n k2]; decide), if_neg (by rw [isS_n k5]; decide), if_neg (by rw [isS_n k5]; decide), if_neg (by rw [b]; decide)]
theorem nI_n1 {x : Nat} (h : x < 100000) : ¬ nI x = -1 := fun e => by
  have := congrArg Int32.toInt e
  rw [show (nI x).toInt = (x : Int) from nI_toInt (by omega)] at this
  have e2 : (-1 : Int32).toInt = -1 := by decide
  omega
theorem ownF_some {s : pS} {N m y : Nat} {vs : List Nat} {ou : Nat} (hq : s.2.2[N]? = some (vs, 0, some y, ou, [], gNo)) : setF N (ownF m) s = setF N (fun q => (q.1, m, q.2.2)) (hld N y s) := by
  rw [setF_at hq, setF_at (hld_at hq)]
  show _ = (s.1, s.2.1, (adV N y s.2.2).set N _)
  rw [adV_at hq, List.set_set]
  rfl
theorem y_ins {ro : Option pT} (hS : cSm E pp a lf n c YX9_statement [] dS o (pStm (zOf n c dg) K ro)) (hok : okO ro) (hro : lvO o ro fun o r => ∃ ro', (∀ b C s, r.func b C s = pFun (zOf n c dg) K ro' b C s) ∧ cFi E pp a lf n c dg K dI o ro') (hK : 1300 ≤ K) (hdm : dS + 2 ≤ dm ∧ dI + 2 ≤ dm ∧ 30 ≤ dm) : cFi E pp a lf n c dg K dm o ro := by
  intro d Q M0 τ0 fs0 s0 Dn C M τ fs s cz cu f lp ld N x own hd R hz hu W hA hI hown hy hn
  obtain ⟨d, rfl⟩ : ∃ d', d = d' + 1 + 1 := ⟨d - 2, by omega⟩
  obtain ⟨i1, i2, i3, i4, i5, i6⟩ := hI
  have z := R.z0
  have pz := R.ps.pz
  have op := R.ps.op
  obtain ⟨⟨fc, hfc, g3⟩, ⟨g4, g4'⟩, g5, g6, g7⟩ := id R.ps.2.2.1
  have f1 : fr (fun x k => x = pp ∧ 3 ≤ k) M (sr (si (si M pp 5 (0 : Int32)) pp 6 (0 : Int32)) pp 3 (some (f, 10, 0))) := ((fr.si ⟨rfl, by decide⟩).tr (fr.si ⟨rfl, by decide⟩)).tr (fr.sr ⟨rfl, by decide⟩)
  have R1 : rk pp a lf n c M0 τ0 fs0 s0 Dn (N, 0, 0) o (sr (si (si M pp 5 (0 : Int32)) pp 6 (0 : Int32)) pp 3 (some (f, 10, 0))) τ fs s cz cu := R.own f1 ⟨⟨f, i1, (by rw [gr_sr, if_pos rfl, if_pos rfl])⟩, ⟨(gi_idx (by decide)).trans ((gi_idx (by decide)).trans g4), g4'⟩, (gi_idx (by decide)).trans (gi_self M pp 5 0), gi_self (si M pp 5 0) pp 6 0, Nat.zero_le _⟩
  have k1 : kp τ M τ (sr (si (si M pp 5 (0 : Int32)) pp 6 (0 : Int32)) pp 3 (some (f, 10, 0))) := own_kp R.ps f1 (fun _ _ z => z.1)
  refine iX9_inside_0 M pp _ ⟨by omega, a, R1.ps.pt, ?_⟩
  rw [g5, g6]
  generalize sr (si (si M pp 5 (0 : Int32)) pp 6 (0 : Int32)) pp 3 (some (f, 10, 0)) = M1 at *
  have pe0 : pFi (zOf n c dg) K ro N x s = bnd (nedS (zOf n c dg) 26 s) fun _ s => bnd (pPars (zOf n c dg) N K 0 s) fun m s => bnd (nxt' (zOf n c dg) s) fun _ s => pFe (zOf n c dg) K ro N x (setF N (ownF m) s) := rfl
  refine R1.needg (tz := 10) (tu := 200) (dg := dg) (j := 26) (by decide) (by decide +kernel) (by omega) (by omega) (by omega) (fun e2 M2 R2 k2 => ?_) (fun w e q M' er => ZT.out (nohand rfl) (hn w (pe0.trans (bnd_er e)) q M' er))
  show Z E YX9_inside (d + 1 + 1) M2 [(0, vr (some (pp, 8, 0))), (1, vr (some (f, 10, 0))), (2, vi (nI C.2.1)), (3, vi (nI C.2.2))] 33 [] Q
  have k02 := k1.tr k2
  have W2 := W.k k02 z.1
  have a2 := (k02.wl W.2.2.1 z.1).2
  have d2 := (k02.wl W.2.2.2.1 z.1).2
  have c3 : 190 ≤ f ∧ f < zsz M ∧ τ f = 3 := ⟨by have := W.1.1; omega, W.1.2⟩
  have pe2 := pe0.trans (bnd_ok e2)
  refine y_par (dg := dg) (own := own) (ou := C.1) (B := M) (τB := τ) (fsB := fs) (czB := cz + 20) (cuB := cu + 400) (tB := s.1 + 1) (pF := pFi (zOf n c dg) K ro N x s) (kk := fun m s => pFe (zOf n c dg) K ro N x (setF N (ownF m) s)) (by omega) ?_ hn K 0 (s.1 + 1, s.2) [] M2 τ fs _ _ (by dsimp only; omega) pe2 (List.prefix_refl _) (Nat.le_refl _) R2 (Nat.le_refl _) (Nat.le_refl _) W2.1 ⟨a2.1.trans hA.1, d2.1.trans hA.2.1, a2.2.trans hA.2.2.1, d2.2.trans hA.2.2.2⟩ (kg.rf.k k02) ⟨i1, i2, i3, i4, (k02.mvr.cd c3 (by decide) (by decide)).1.trans i5, by rw [(k02.mvr.cd c3 (by decide) (by decide)).1]; exact i6⟩ (Nat.zero_le _) (fun e => by omega)
  intro m s3 vs M3 τ3 fs3 cz3 cu3 pe3 pf3 s3t R3 hz3 hu3 W3 A3 K3 I3 hl3 hm3
  obtain ⟨j1, j2, j3, j4, j5, j6⟩ := I3
  -- the text
  have txt : ∀ (M4 : zM) (τ4 : Nat → Nat) (s4 : pS) (cz4 cu4 : Nat) (q4 : gF), rk pp a lf n c M0 τ0 fs0 s0 Dn (N, 0, 0) o M4 τ4 fs3 s4 cz4 cu4 → cz + 39 ≤ cz4 → cu + 796 ≤ cu4 → wF (zsz M0) M4 τ4 f lp ld [] [] → (lA M4 lp = 1 ∧ lA M4 ld = 1 ∧ lC M4 lp = 0 ∧ lC M4 ld = 0) → kg f lp ld τ M τ4 M4 → s4.2.2[N]? = some q4 → q4.2 = (m, own, C.1, [], gNo) → gi M4 f 6 = nI m → ownI (gi M4 f 8) own → s.1 + 2 ≤ s4.1 → pFi (zOf n c dg) K ro N x s = pFe (zOf n c dg) K ro N x s4 → Z E YX10_need (d + 1) M4 (zargs 0 [vr (some (a, 9, 0)), vi 0]) 0 [] (zafter E YX9_inside (d + 1 + 1) [(0, vr (some (pp, 8, 0))), (1, vr (some (f, 10, 0))), (2, vi (nI C.2.1)), (3, vi (nI C.2.2))] 194 3 [] Q) := fun M4 τ4 s4 cz4 cu4 q4 R4 hz4 hu4 W4 A4 K4 hq4 eq4 h6 h8 ls4 pe4 => by
    have pe4 : pFi (zOf n c dg) K ro N x s = bnd (nedS (zOf n c dg) 24 s4) fun _ s => bnd (pPts (zOf n c dg) (pStm (zOf n c dg) K ro) (pDcl (zOf n c dg) ro) (N, 0, 0) (isS (zOf n c dg) 25) K [] gNo s) fun q s => bnd (nxt' (zOf n c dg) s) fun _ s => prt (N, x) (setF N (endF q) s) := pe4
    refine R4.needg (tz := 10) (tu := 200) (dg := dg) (j := 24) (by decide) (by decide +kernel) (by omega) (by omega) (by omega) (fun e5 M5 R5 k5 => ?_) (fun w e q M' er => ZT.out (nohand rfl) (hn w (pe4.trans (bnd_er e)) q M' er))
    show Z E YX9_inside (d + 1 + 1) M5 [(0, vr (some (pp, 8, 0))), (1, vr (some (f, 10, 0))), (2, vi (nI C.2.1)), (3, vi (nI C.2.2))] 197 [] Q
    have pe5 := pe4.trans (bnd_ok e5)
    have c4 : 190 ≤ f ∧ f < zsz M4 ∧ τ4 f = 3 := ⟨by have := W4.1.1; omega, W4.1.2⟩
    have W5 := W4.k k5 z.1
    have a5 := (k5.wl W4.2.2.1 z.1).2
    have d5 := (k5.wl W4.2.2.2.1 z.1).2
    have e25 : sgX (nI 25) = 1 := by decide +kernel
    have loop : ∀ (u : Nat) (M6 : zM) (τ6 : Nat → Nat) (fs6 : List Nat) (s6 : pS) (cz6 cu6 : Nat) (ps ds : List (Option zP)) (gs : gBs) (dc : List (Nat × Nat)) (q6 : gF), 1300 ≤ u + s6.1 → s4.1 + 1 ≤ s6.1 → fs3 <+: fs6 → rk pp a lf n c M0 τ0 fs0 s0 Dn (N, 0, 0) o M6 τ6 fs6 s6 cz6 cu6 → wF (zsz M0) M6 τ6 f lp ld ps ds → lAB M M6 lp ld → kg f lp ld τ M τ6 M6 → wTs (zsz M0) M6 τ6 (0, 0) ((5 * (s6.1 - (s4.1 + 1)) + 3) / 4) ps gs → wD M6 τ6 ds dc → sN gs + 2 * sO gs ≤ 2500 * ((tkn n c s6.1).2.2.1 - (tkn n c (s4.1 + 1)).2.2.1) → sK gs + 2 * sH gs ≤ 3 * (s6.1 - (s4.1 + 1)) → cz + 59 ≤ cz6 → cu + 1196 + 100 * (ps.length + ds.length) ≤ cu6 + 4 * lC M6 lp + 4 * lC M6 ld → ps.length + ds.length ≤ s6.1 → fs6[N]? = some f → s6.2.2[N]? = some q6 → q6.2 = (m, own, C.1, [], gNo) → gi M6 f 6 = nI m → ownI (gi M6 f 8) own →
        (pFi (zOf n c dg) K ro N x s = bnd (pPts (zOf n c dg) (pStm (zOf n c dg) K ro) (pDcl (zOf n c dg) ro) (N, 0, 0) (isS (zOf n c dg) 25) u dc (gBl gs) s6) fun q s => bnd (nxt' (zOf n c dg) s) fun _ s => prt (N, x) (setF N (endF q) s)) → Z E YX9_inside (d + 1 + 1) M6 [(0, vr (some (pp, 8, 0))), (1, vr (some (f, 10, 0))), (2, vi (nI C.2.1)), (3, vi (nI C.2.2))] 197 [] Q := by
      intro u
      induction u with
      | zero => intro M6 τ6 fs6 s6 cz6 cu6 ps ds gs dc q6 hf _ _ R6 _ _ _ _ _ _ _ _ _ _ _ _ _ _ _ _; have := R6.ps.tz.t_le; omega
      | succ u ih =>
        intro M6 τ6 fs6 s6 cz6 cu6 ps ds gs dc q6 hu6 hs6 hp6 R6 W6 L6 K6 T6 D6 hN6 hK6 hz6 hc6 hl6 hf6 hq6 eq6 e6 e8 pe6
        have tl := R6.ps.tz.t_le
        have z6 := R6.ps.z190
        have lcp := lC_le W6.2.2.1.1
        have lcd := lC_le W6.2.2.2.1.1
        have kd := tk_kd (dg := dg) R6.ps.tz
        have zB := K6.1.1.1
        have fz := W6.1
        have len := T6.1
        have lend := D6.1
        refine iX9_inside_197 M6 pp _ _ _ ⟨a, R6.ps.pt, ?_⟩
        -- the end
        have endd : isS (zOf n c dg) 25 s6 = true → 16 ≤ pp ∧ ∃ b1 : Nat, (gr (sr M6 pp 3 (gr M6 f 1)) pp 1) = some (b1, 9, 0) ∧ (Z E YX10_next (d + 1) (si (si (sr M6 pp 3 (gr M6 f 1)) pp 5 (nI C.2.1)) pp 6 (nI C.2.2)) (zargs 0 [vr (some (b1, 9, 0))]) 0 [] (zafter E YX9_inside (d + 1 + 1) [] 256 3 [] Q)) := fun hs => by
          have ps6 : pPts (zOf n c dg) (pStm (zOf n c dg) K ro) (pDcl (zOf n c dg) ro) (N, 0, 0) (isS (zOf n c dg) 25) (u + 1) dc (gBl gs) s6 = prt (dc, gBl gs) s6 := by rw [pPts]; rw [if_pos hs]
          have pe7 : pFi (zOf n c dg) K ro N x s = bnd (nxt' (zOf n c dg) s6) fun _ s => prt (N, x) (setF N (endF (dc, gBl gs)) s) := pe6.trans (bnd_ok ps6)
          obtain ⟨⟨-, -, -, x4⟩, -⟩ := R6.ps.2.2.2.2.2 N f q6 hf6 hq6
          obtain ⟨g, x5, x6⟩ := x4 j3
          have x5 : fs6[C.1]? = some g := by rw [show q6.2.2.2.1 = C.1 from by rw [eq6]] at x5; exact x5
          rw [x6]
          have pz6 := R6.ps.pz
          have op6 := R6.ps.op
          have f7 : fr (fun x k => x = pp ∧ 3 ≤ k) M6 (si (si (sr M6 pp 3 (some (g, 10, 0))) pp 5 (nI C.2.1)) pp 6 (nI C.2.2)) := ((fr.sr ⟨rfl, by decide⟩).tr (fr.si ⟨rfl, by decide⟩)).tr (fr.si ⟨rfl, by decide⟩)
          have R7 : rk pp a lf n c M0 τ0 fs0 s0 Dn C o (si (si (sr M6 pp 3 (some (g, 10, 0))) pp 5 (nI C.2.1)) pp 6 (nI C.2.2)) τ6 fs6 s6 cz6 cu6 := R6.own f7 ⟨⟨g, x5, (by show gr (sr M6 pp 3 (some (g, 10, 0))) pp 3 = _; rw [gr_sr, if_pos rfl, if_pos rfl])⟩, ⟨(gi_idx (by decide)).trans ((gi_idx (by decide)).trans op6.1), op6.2⟩, (gi_idx (by decide)).trans (gi_self (sr M6 pp 3 (some (g, 10, 0))) pp 5 _), gi_self _ pp 6 _, g7⟩
          have k7 : kp τ6 M6 τ6 (si (si (sr M6 pp 3 (some (g, 10, 0))) pp 5 (nI C.2.1)) pp 6 (nI C.2.2)) := own_kp R6.ps f7 (fun _ _ z => z.1)
          refine ⟨by omega, a, R7.ps.pt, ?_⟩
          generalize si (si (sr M6 pp 3 (some (g, 10, 0))) pp 5 (nI C.2.1)) pp 6 (nI C.2.2) = M7 at *
          refine R7.nxtg (tz := 10) (tu := 200) (dg := dg) (.inl (isS_k hs)) (by omega) (by omega) (by omega) (fun e8' M8 R8 k8 => ?_) (fun w e q M' er => ZT.out (nohand rfl) (hn w (pe7.trans (bnd_er e)) q M' er))
          show Z E YX9_inside (d + 1 + 1) M8 [] 259 [] Q
          refine sX9_inside_259 M8 ?_
          have k68 := k7.tr k8
          have W8 := W6.k k68 z.1
          have a8 := (k68.wl W6.2.2.1 z.1).2
          have d8 := (k68.wl W6.2.2.2.1 z.1).2
          have R9 := R8.set (g := endF (dc, gBl gs)) j2 hq6 ⟨rfl, rfl⟩
          have lz1 := W8.1.2.2.1.lz R8.ps.z190
          have lz2 := W8.1.2.2.2.1.lz R8.ps.z190
          obtain ⟨τ10, R10, ag10, on10, m10⟩ := R9.fxs (fun y => y = lp ∨ y = ld ∨ (y = lA M8 lp ∧ 16 ≤ y) ∨ (y = lA M8 ld ∧ 16 ≤ y)) (fun y hy' => by
            rcases hy' with y1 | y1 | ⟨y1, y2⟩ | ⟨y1, y2⟩
            · rw [y1]; exact ⟨W8.1.2.2.1.2.1.1, lz1.1, W8.1.2.2.1.2.1.2⟩
            · rw [y1]; exact ⟨W8.1.2.2.2.1.2.1.1, lz2.1, W8.1.2.2.2.1.2.1.2⟩
            · have := W8.1.2.2.1.2.2 (by omega)
              rw [y1]; exact ⟨this.1, lz1.2, this.2⟩
            · have := W8.1.2.2.2.1.2.2 (by omega)
              rw [y1]; exact ⟨this.1, lz2.2, this.2⟩)
          have z68 := k68.z
          have tf : τ6 f = 3 := W8.1.1.2.2
          have nf : ¬ (f = lp ∨ f = ld ∨ (f = lA M8 lp ∧ 16 ≤ f) ∨ (f = lA M8 ld ∧ 16 ≤ f)) := fun y => by
            rcases y with y1 | y1 | ⟨y1, y2⟩ | ⟨y1, y2⟩
            · have := W8.1.2.2.1.2.1.2; rw [← y1] at this; omega
            · have := W8.1.2.2.2.1.2.1.2; rw [← y1] at this; omega
            · have := (W8.1.2.2.1.2.2 (by omega)).2; rw [← y1] at this; omega
            · have := (W8.1.2.2.2.1.2.2 (by omega)).2; rw [← y1] at this; omega
          have T10 := (T6.mv k68.mvr z.1 (Nat.le_refl _)).mv m10 z.1 (Nat.le_refl _)
          have D10 := (D6.mv k68.mvr).mv m10
          have c6 : 190 ≤ f ∧ f < zsz M6 ∧ τ6 f = 3 := ⟨by omega, W6.1.2⟩
          have gf := fun k h1 h2 => (k68.mvr.cd (k := k) c6 h1 h2).1
          have K10 : kg f lp ld τ M τ10 M8 := (K6.k k68).st (P := fun _ _ => False) fg.rf (fun _ _ _ y => y.elim) (fun y y1 y2 y3 => ag10 y (fun y4 => by
            rcases y4 with y4 | y4 | ⟨y4, y5⟩ | ⟨y4, y5⟩
            · exact y2 y4
            · exact y3 y4
            · rw [a8.1] at y4
              have := L6.1 (by omega)
              omega
            · rw [d8.1] at y4
              have := L6.2 (by omega)
              omega))
          have mx := pos_mx R8.ps.tz
          have p6 := pos_le R8.ps.tz (t := s6.1) (t' := s6.1 + 1) (by omega) (Nat.le_refl _)
          dsimp only at mx
          have q9 : (setF N (endF (dc, gBl gs)) ((s6.1 + 1, s6.2) : pS)).2.2[N]? = some (endF (dc, gBl gs) q6) := by
            rw [setF_at (s := (s6.1 + 1, s6.2)) hq6]
            exact List.getElem?_set_self (List.getElem?_eq_some_iff.mp hq6).1
          have eqF : (endF (dc, gBl gs) q6).2 = (m, own, C.1, dc, gBl gs) := by
            unfold endF
            rw [eq6]
          have c8p := a8.2
          have c8d := d8.2
          refine hy _ (pe7.trans ((bnd_ok e8').trans rfl)) M8 τ10 fs6 _ (pf3.trans hp6) (by show s.1 + 4 ≤ s6.1 + 1; omega) (R10.up (by omega) (by omega)) K10 q9 ?_
          rw [eqF]
          refine ⟨⟨by omega, W8.1.1.2.1, (ag10 f nf).trans tf⟩, (gf 6 (by decide) (by decide)).trans e6, by rw [gf 8 (by decide) (by decide)]; exact e8, zsz M0, zsz M8, ⟨z.1, Nat.le_refl _⟩, ⟨ld, ds, W8.1.2.1.2, W8.1.2.2.2.1.l0 (on10 ld (.inr (.inl rfl))) (fun y => on10 _ (.inr (.inr (.inr ⟨rfl, y⟩)))), D10.1, D10.2⟩, lp, gs, _, W8.1.2.1.1, ndl_of (W8.1.2.2.1.l0 (on10 lp (.inl rfl)) (fun y => on10 _ (.inr (.inr (.inl ⟨rfl, y⟩))))) T10, rfl, ?_, ?_, ?_⟩
          · omega
          · omega
          · omega
        -- one part
        have part : isS (zOf n c dg) 25 s6 = false → ¬ gi M6 a 3 = 0 → Z E YX9_part (d + 1) M6 (zargs 0 [vr (some (pp, 8, 0))]) 0 [] (zafter E YX9_inside (d + 1 + 1) [(0, vr (some (pp, 8, 0))), (1, vr (some (f, 10, 0))), (2, vi (nI C.2.1)), (3, vi (nI C.2.2))] 228 3 [] Q) := fun hs h0 => by
          cases h11 : isK (zOf n c dg) 11 s6 with
          | false =>
            have ps6 : pPts (zOf n c dg) (pStm (zOf n c dg) K ro) (pDcl (zOf n c dg) ro) (N, 0, 0) (isS (zOf n c dg) 25) (u + 1) dc (gBl gs) s6 = bnd (pStm (zOf n c dg) K ro (N, 0, 0) s6) fun y s => pPts (zOf n c dg) (pStm (zOf n c dg) K ro) (pDcl (zOf n c dg) ro) (N, 0, 0) (isS (zOf n c dg) 25) u dc (gSq (gBl gs) y) s := by rw [pPts]; rw [if_neg (by rw [hs]; decide), if_neg (by rw [h11]; decide)]
            refine y_pst (tz := 10) (tu := 200) (dg := dg) (K := K) hS hok (by omega) R6 (by omega) (by omega) (by omega) (by omega) W6 hf6 K6 L6 zB h11 (fun y7 s7 e7 u7 M7 τ7 fs7 cu7 p7 pf7 R7 c7 W7 m7 ⟨D7, o7, m7', h7, k7, sz7, x7⟩ K7 L7 hf7 g67 => ?_) (fun w e q M' er => ZT.out (nohand rfl) (hn w (pe6.trans (bnd_er (ps6.trans (bnd_er e)))) q M' er))
            show Z E YX9_inside (d + 1 + 1) M7 [(0, vr (some (pp, 8, 0))), (1, vr (some (f, 10, 0))), (2, vi (nI C.2.1)), (3, vi (nI C.2.2))] 231 [] Q
            refine sX9_inside_231 M7 pp _ _ _ ?_
            obtain ⟨q7, hq7, eq7, -⟩ := u7.1.2.2.2.2.1 N q6 (List.getElem?_eq_some_iff.mp hq6).1 hq6
            have l7 := u7.2.1
            have T7 := (T6.mv m7 z.1 (ar_b1 hs6 l7)).app (p := p7) (q := ((o7, m7', h7, k7), y7)) ⟨sz7.2.2.2.1, sz7.2.2.2.2⟩ (x7.up (fun _ z => z) (ar_b2 sz7.1 hs6 l7) (Nat.le_refl _) (Nat.le_refl _) (Nat.le_refl _) (Nat.le_refl _))
            have sa := sO_app gs ((o7, m7', h7, k7), y7)
            dsimp only at sa
            have p2 := pos_le R7.ps.tz (t := s4.1 + 1) (t' := s6.1) hs6 (by omega)
            have p3 := pos_le R7.ps.tz (t := s6.1) (t' := s7.1) (by omega) (Nat.le_refl _)
            refine ih M7 τ7 fs7 s7 _ cu7 _ ds (gs ++ [((o7, m7', h7, k7), y7)]) dc q7 (by omega) (by omega) (hp6.trans pf7) R7 W7 L7 K7 T7 (D6.mv m7) ?_ ?_ (by omega) ?_ ?_ hf7 hq7 (eq7.trans eq6) (g67.1.trans e6) (by rw [g67.2]; exact e8) (pe6.trans ?_)
            · have := ar_b3 hN6 sz7.2.1 (by omega) (by omega)
              omega
            · have := sz7.2.2.1
              omega
            · rw [List.length_append]
              show _ + 100 * (ps.length + 1 + ds.length) ≤ _
              omega
            · rw [List.length_append]
              show ps.length + 1 + ds.length ≤ _
              omega
            · rw [gBl_app, ps6, bnd_ok e7]
          | true =>
            have ps6 : pPts (zOf n c dg) (pStm (zOf n c dg) K ro) (pDcl (zOf n c dg) ro) (N, 0, 0) (isS (zOf n c dg) 25) (u + 1) dc (gBl gs) s6 = bnd (pDcl (zOf n c dg) ro (N, 0, 0) s6) fun f s => pPts (zOf n c dg) (pStm (zOf n c dg) K ro) (pDcl (zOf n c dg) ro) (N, 0, 0) (isS (zOf n c dg) 25) u (dc ++ [f]) (gBl gs) s := by rw [pPts]; rw [if_neg (by rw [hs]; decide), if_pos h11]
            refine y_pdc (tz := 10) (tu := 200) (dg := dg) (K := K) hro (by omega) R6 (by omega) (by omega) (by omega) (by omega) (by omega) (by omega) W6 hf6 K6 L6 zB h11 (fun r7 s7 e7 M7 τ7 fs7 cu7 g7' pf7 R7 c7 W7 t7 d7 K7 L7 hf7 g67 l7 => ?_) (fun w e q M' er => ZT.out (nohand rfl) (hn w (pe6.trans (bnd_er (ps6.trans (bnd_er e)))) q M' er))
            show Z E YX9_inside (d + 1 + 1) M7 [(0, vr (some (pp, 8, 0))), (1, vr (some (f, 10, 0))), (2, vi (nI C.2.1)), (3, vi (nI C.2.2))] 231 [] Q
            refine sX9_inside_231 M7 pp _ _ _ ?_
            have u7 := ok_dcl (c := (N, 0, 0)) hok s6 r7 s7 e7
            obtain ⟨q7, hq7, eq7, -⟩ := u7.1.2.2.2.2.1 N q6 (List.getElem?_eq_some_iff.mp hq6).1 hq6
            have p2 := pos_le R7.ps.tz (t := s4.1 + 1) (t' := s6.1) hs6 (by omega)
            have p3 := pos_le R7.ps.tz (t := s6.1) (t' := s7.1) (by omega) (Nat.le_refl _)
            have T7 := (t7 _ gs T6).mv (τ' := τ7) (M' := M7) ⟨fg.rf, fun _ _ _ => rfl⟩ z.1 (ar_b1 hs6 l7)
            refine ih M7 τ7 fs7 s7 _ cu7 ps _ gs (dc ++ [r7]) q7 (by omega) (by omega) (hp6.trans pf7) R7 W7 L7 K7 T7 (d7 dc D6) (by omega) (by omega) (by omega) ?_ ?_ hf7 hq7 (eq7.trans eq6) (g67.1.trans e6) (by rw [g67.2]; exact e8) (pe6.trans ?_)
            · rw [List.length_append]
              show _ + 100 * (ps.length + (ds.length + 1)) ≤ _
              omega
            · rw [List.length_append]
              show ps.length + (ds.length + 1) ≤ _
              omega
            · rw [ps6, bnd_ok e7]
        have rest : isS (zOf n c dg) 25 s6 = false → (if (gi M6 a 3) = 0 then (Z E YX10_fault (d + 1) M6 (zargs 0 [vr (some (a, 9, 0)), vi 2]) 0 [] (zafter E YX9_inside (d + 1 + 1) [] 223 3 [] Q)) else (Z E YX9_part (d + 1) M6 (zargs 0 [vr (some (pp, 8, 0))]) 0 [] (zafter E YX9_inside (d + 1 + 1) [(0, vr (some (pp, 8, 0))), (1, vr (some (f, 10, 0))), (2, vi (nI C.2.1)), (3, vi (nI C.2.2))] 228 3 [] Q))) := fun hs => by
          by_cases h0 : gi M6 a 3 = 0
          · rw [if_pos h0]
            have k0 : tkd (zOf n c dg) s6.1 = 0 := kd.symm.trans h0
            have k2 : ¬ tkd (zOf n c dg) s6.1 = 2 := by rw [k0]; decide
            refine R6.fltg (tz := 10) (tu := 200) (dg := dg) (k := 2) rfl (by omega) (by omega) (by omega) (fun q M' er => ?_)
            show Z E YX9_inside (d + 1 + 1) M' [] 226 [vr (some (q, 12, 0))] Q
            refine sX9_inside_226 M' _ ⟨q, rfl, hn _ (pe6.trans (bnd_er ?_)) q M' er⟩
            rw [pPts]
            rw [if_neg (by rw [hs]; decide), if_neg (by rw [isK_n k2]; decide), stm_0 k0]
            rfl
          · rw [if_neg h0]
            exact part hs h0
        by_cases h5 : gi M6 a 3 = 5
        · rw [if_pos h5]
          have e := tk_s (dg := dg) (j := 25) R6.ps.tz h5 (by decide) e25
          by_cases h6' : gi M6 a 6 = 1
          · rw [if_pos h6']
            exact endd (by rw [show isS (zOf n c dg) 25 s6 = decide (gi M6 a 6 = 1) from e]; exact decide_eq_true h6')
          · rw [if_neg h6']
            exact rest (by rw [show isS (zOf n c dg) 25 s6 = decide (gi M6 a 6 = 1) from e]; exact decide_eq_false h6')
        · rw [if_neg h5]
          exact rest (tk_ns (dg := dg) (j := 25) R6.ps.tz h5 (by decide))
    have gf5 := fun k h1 h2 => (k5.mvr.cd (k := k) c4 h1 h2).1
    refine loop K M5 τ4 fs3 (s4.1 + 1, s4.2) _ _ [] [] [] [] q4 (by dsimp only; omega) (Nat.le_refl _) (List.prefix_refl _) R5 W5.1 ⟨fun y => ?_, fun y => ?_⟩ (K4.k k5) ⟨rfl, fun i q hq => by cases hq⟩ ⟨rfl, fun i q hq => by cases hq⟩ (Nat.zero_le _) (Nat.zero_le _) (by omega) ?_ (Nat.zero_le _) j1 hq4 eq4 ((gf5 6 (by decide) (by decide)).trans h6) (by rw [gf5 8 (by decide) (by decide)]; exact h8) pe5
    · rw [a5.1, A4.1] at y; omega
    · rw [d5.1, A4.2.1] at y; omega
    · show cu + 1196 + 100 * (0 + 0) ≤ _
      omega
  refine iX9_inside_173 M3 pp _ _ _ ⟨f, rfl, ?_⟩
  have hm : (vs, 0, own, C.1, [], gNo) ∈ s3.2.2 := List.mem_iff_getElem?.mpr ⟨N, j4⟩
  cases own with
  | none =>
    rw [if_pos (show gi M3 f 8 = -1 from j6)]
    refine ⟨a, R3.ps.pt, ?_⟩
    have R4 := R3.set (g := ownF m) j2 j4 ⟨rfl, rfl⟩
    exact txt M3 τ3 _ _ _ (vs, m, none, C.1, [], gNo) R4 (by omega) (by omega) W3 A3 K3 (by rw [setF_at j4]; exact List.getElem?_set_self (List.getElem?_eq_some_iff.mp j4).1) rfl j5 j6 s3t pe3
  | some y =>
    obtain ⟨j6a, j6b⟩ := (show gi M3 f 8 = nI y ∧ y < 100000 from j6)
    rw [j6a, if_neg (nI_n1 j6b)]
    obtain ⟨fc', gf, ad⟩ := R3.add (E := E) (d := d + 1) (y := y) (cz' := cz + 39) (cu' := cu + 796) rfl j6b hl3 (by omega) (by omega) (by omega)
    have ef : fc' = f := by
      have := R3.ps.cur (f := f) j1
      rw [gf] at this
      cases this
      rfl
    subst ef
    refine ad _ (fun M4 τ4 R4 k4 => ?_)
    show Z E YX9_inside (d + 1 + 1) M4 [(0, vr (some (pp, 8, 0))), (1, vr (some (fc', 10, 0))), (2, vi (nI C.2.1)), (3, vi (nI C.2.2))] 189 [] Q
    refine sX9_inside_189 M4 pp _ _ _ ⟨a, R4.ps.pt, ?_⟩
    have hq4 := hld_at (x := y) j4
    have R5 := R4.set (g := fun q => (q.1, m, q.2.2)) j2 hq4 ⟨rfl, rfl⟩
    have W4 := W3.k k4 z.1
    have a4 := (k4.wl W3.2.2.1 z.1).2
    have d4 := (k4.wl W3.2.2.2.1 z.1).2
    have c4 : 190 ≤ fc' ∧ fc' < zsz M3 ∧ τ3 fc' = 3 := ⟨by have := W3.1.1; omega, W3.1.2⟩
    have gf4 := fun k h1 h2 => (k4.mvr.cd (k := k) c4 h1 h2).1
    have e5 := ownF_some (m := m) j4
    exact txt M4 τ4 _ _ _ (vsA vs y, m, some y, C.1, [], gNo) R5 (by omega) (by omega) W4.1 ⟨a4.1.trans A3.1, d4.1.trans A3.2.1, a4.2.trans A3.2.2.1, d4.2.trans A3.2.2.2⟩ (K3.k k4) (by rw [setF_at hq4]; exact List.getElem?_set_self (List.getElem?_eq_some_iff.mp hq4).1) rfl ((gf4 6 (by decide) (by decide)).trans j5) (by rw [gf4 8 (by decide) (by decide)]; exact j6) s3t (pe3.trans (by rw [e5]))
end
