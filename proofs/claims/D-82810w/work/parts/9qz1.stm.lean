/-! THE COMPONENT's PARSER: statement -/
section
variable {E : zE} {pp a lf n : Nat} {c : Nat → Int32} {dg : Int32 → List Int32} {K o dS dE DE dm : Nat} {r : pT}
theorem begX_s {s : pS} (k5 : tkd (zOf n c dg) s.1 = 5) : begX (zOf n c dg) s = (sgB (zOf n c dg) s || isS (zOf n c dg) 24 s) := by
  have k2 : ¬ tkd (zOf n c dg) s.1 = 2 := by rw [k5]; decide
  unfold begX begW isPre isLit sgB
  simp only [isK_n k2, k5]
  generalize isS (zOf n c dg) 26 s = b1
  generalize isS (zOf n c dg) 28 s = b2
  generalize isS (zOf n c dg) 24 s = b3
  generalize isS (zOf n c dg) 35 s = b4
  generalize isS (zOf n c dg) 36 s = b5
  generalize isS (zOf n c dg) 44 s = b6
  generalize isS (zOf n c dg) 43 s = b7
  generalize isS (zOf n c dg) 10 s = b8
  generalize isS (zOf n c dg) 11 s = b9
  revert b1 b2 b3 b4 b5 b6 b7 b8 b9
  decide
theorem lxO_k (p : Nat) : (lxO n c p).1 = 0 ∨ (lxO n c p).1 = 1 ∨ (lxO n c p).1 = 2 ∨ (lxO n c p).1 = 3 ∨ (lxO n c p).1 = 4 ∨ (lxO n c p).1 = 5 ∨ (lxO n c p).1 = 6 := by
  unfold lxO
  dsimp only
  repeat' split
  all_goals simp
theorem tk_kinds {M : zM} {s : pS} (h : xTz M a n c s) (k0 : ¬ tkd (zOf n c dg) s.1 = 0) (k2 : ¬ tkd (zOf n c dg) s.1 = 2) (k5 : ¬ tkd (zOf n c dg) s.1 = 5) : tkd (zOf n c dg) s.1 = 1 ∨ tkd (zOf n c dg) s.1 = 3 ∨ tkd (zOf n c dg) s.1 = 4 := by
  have n6 : ¬ (tkn n c s.1).1 = 6 := h.2.2.2.1
  have e := (tkn_lx s.1 n6).1
  have k := lxO_k (n := n) (c := c) (tkn n c s.1).2.2.1
  rw [← e] at k
  rcases k with z | z | z | z | z | z | z
  · exact absurd z k0
  · exact .inl z
  · exact absurd z k2
  · exact .inr (.inl z)
  · exact .inr (.inr z)
  · exact absurd z k5
  · exact absurd z n6
theorem y_stm {ro : Option pT} (hro : lvO o ro fun o r => cNx E pp a lf n c dS dE DE o r) (hK : 1300 ≤ K) (h4 : 4 ≤ DE) (hdm : dS + 6 ≤ dm ∧ dE + 6 ≤ dm ∧ 38 ≤ dm) : cSm E pp a lf n c YX9_statement [] dm o (pStm (zOf n c dg) K ro) := by
  intro d Q M τ fs s C hd h hy hn
  obtain ⟨d, rfl⟩ : ∃ d', d = d' + 15 := ⟨d - 15, by omega⟩
  have R := rk_st h C.1
  have z190 := h.z190
  have hp := h.pz
  have ls := h.ls
  have kd := tk_kd (dg := dg) h.tz
  have e24 : sgX (nI 24) = 0 := by decide +kernel
  have e31 : sgX (nI 31) = 7 := by decide +kernel
  have n6 : ¬ (tkn n c s.1).1 = 6 := h.tz.2.2.2.1
  -- the opened statement
  have body : isOwn (zOf n c dg) s = false → isK (zOf n c dg) 11 s = false → (isS (zOf n c dg) 24 s = false → isS (zOf n c dg) 31 s = false → begX (zOf n c dg) s = true) → Z E YX9_opens (d + 14) M (zargs 0 [vr (some (pp, 8, 0))]) 0 [] (zafter E YX9_statement (d + 14 + 1) [(0, vr (some (pp, 8, 0)))] 104 3 [] Q) := fun io k11 bg => by
    have pe0 : pStm (zOf n c dg) K ro C s = if isS (zOf n c dg) 24 s then opens (zOf n c dg) ro s fun r => pBlk (zOf n c dg) K r C s else if isS (zOf n c dg) 31 s then opens (zOf n c dg) ro s fun _ => bnd (nxt' (zOf n c dg) s) fun _ s => prt gNo s else if begX (zOf n c dg) s && !isK (zOf n c dg) 11 s then opens (zOf n c dg) ro s fun r => bnd (r.expr true C s) fun e s => bnd (pSem (zOf n c dg) s) fun _ s => prt (gPl e.1) s else flt (zOf n c dg) 2 s := by
      unfold pStm
      rw [if_neg (by rw [io]; decide)]
    refine R.opn (dg := dg) (by omega) (fun ho M1 R1 k1 g3 g6 => ?_) (fun ho q M' er => ?_)
    rotate_left
    · rcases hro with ⟨rfl, -⟩ | ⟨r, rfl, z, -⟩
      · refine ZT.out (nohand rfl) (hn _ (pe0.trans ?_) _ M' er)
        by_cases h24 : isS (zOf n c dg) 24 s = true
        · rw [if_pos h24]; rfl
        · rw [if_neg h24]
          by_cases h31 : isS (zOf n c dg) 31 s = true
          · rw [if_pos h31]; rfl
          · rw [if_neg h31, if_pos (by rw [bg (by simpa using h24) (by simpa using h31), k11]; rfl)]; rfl
      · omega
    rcases hro with ⟨-, z⟩ | ⟨r, rfl, -, okr, hN⟩
    · omega
    obtain ⟨hr, hS, hE, hW, hDE⟩ := id hN
    show Z E YX9_statement (d + 14 + 1) M1 [(0, vr (some (pp, 8, 0)))] 107 [] Q
    refine iX9_statement_107 M1 pp ⟨a, R1.ps.pt, ?_⟩
    have z1 := R1.z0
    have tak : isS (zOf n c dg) 24 s = false → Z E YX10_takes (d + 14) M1 (zargs 0 [vr (some (a, 9, 0)), vi 7]) 0 [] (zafter E YX9_statement (d + 14 + 1) [(0, vr (some (pp, 8, 0)))] 132 3 [] Q) := fun h24 => by
      have pe1 := pe0.trans (if_neg (by rw [h24]; decide))
      refine R1.takes (dg := dg) (j := 31) (by decide) (by decide +kernel) (by omega) (fun hs => ?_) (fun hs e2 M2 R2 k2 => ?_) (fun hs w e q M' er => ZT.out (nohand rfl) (hn w (pe1.trans ((if_pos hs).trans (bnd_er e))) _ M' er))
      · -- an expression
        have hs : isS (zOf n c dg) 31 s = false := hs
        have pe2 : pStm (zOf n c dg) K (some r) C s = bnd (r.expr true C s) fun e s => bnd (pSem (zOf n c dg) s) fun _ s => prt (gPl e.1) s := pe1.trans ((if_neg (by rw [hs]; decide)).trans (if_pos (by rw [bg h24 hs, k11]; rfl)))
        show Z E YX9_statement (d + 14 + 1) M1 [(0, vr (some (pp, 8, 0)))] 135 [vi 0] Q
        refine iX9_statement_135 (d := d + 10) M1 pp _ ?_
        rw [if_pos rfl]
        obtain ⟨τ2, R2, ag2, on2, m12⟩ := R1.lc (M' := zn M1 1) (v := 1) (w := 1) (cz' := 99) (cu' := 1999) fg.zn (Nat.le_refl _) (Nat.le_refl _) (by omega) (by omega)
        have sz2 : zsz (zn M1 1) = zsz M1 + 1 := rfl
        generalize zn M1 1 = M2 at *
        refine R2.val (hE true).x (by omega) (by omega) (by omega) rfl (hr.expr true C s) (fun v s' z => z.1) (fun v3 s3 e3 o3 M3 τ3 fs3 b3 t3 R3 k3 n3 => ?_) (fun w e q M' er => ZT.out (nohand rfl) (hn w (pe2.trans (bnd_er e)) _ M' er))
        show Z E YX9_statement (d + 14 + 1) M3 [(0, vr (some (pp, 8, 0)))] 158 [vr (some (b3, t3, 0)), vr (some (zsz M1, 21, 0)), vr (some (zsz M1, 21, 0))] Q
        have pe3 := pe2.trans (bnd_ok e3)
        have z3 := k3.z
        have l3 := o3.2.1
        have ob := k3.ow (lo := zsz M) (x := zsz M1) ⟨z1.2, by omega, on2 _ (Nat.le_refl _) (by omega)⟩
        refine iX9_statement_158 (d := d + 12) M3 pp _ _ _ ⟨by omega, ?_⟩
        have f4 : fg (fun x _ => zsz M ≤ x ∧ τ3 x = 1) M3 (sr M3 (zsz M1) 0 (some (b3, t3, 0))) := (fr.sr ⟨ob.1, ob.2.2⟩).fg
        have g4_0 : gr (sr M3 (zsz M1) 0 (some (b3, t3, 0))) (zsz M1) 0 = (some (b3, t3, 0)) := by simp only [gr_si, gr_sr]; simp
        have sz4 : zsz (sr M3 (zsz M1) 0 (some (b3, t3, 0))) = zsz M3 := rfl
        have su4 : zsu (sr M3 (zsz M1) 0 (some (b3, t3, 0))) = zsu M3 := rfl
        generalize sr M3 (zsz M1) 0 (some (b3, t3, 0)) = M4 at *
        obtain ⟨τ4, R4, ag4, on4, m3_4⟩ := R3.lc (v := 0) (w := 0) (cz' := 109) (cu' := 2199) f4 (by omega) (by omega) (by omega) (by omega)
        have m4 := m3_4.tr (fin_mvr (lo := zsz M) (τ := τ4) (M := M4))
        have hb : nS (zsz M) (zsz M4) (fin (zsz M) τ4) (zsz M1) := fin_1 ob.1 (by omega) ((ag4 _ ob.2.1).trans ob.2.2)
        refine R4.semi (dg := dg) (by omega) (by omega) (fun s5 e5 es l5 M5 R5 k5 => ?_) (fun w e q M' er => ZT.out (nohand rfl) (hn w (pe3.trans (bnd_er e)) _ M' er))
        show Z E YX9_statement (d + 14 + 1) M5 [(0, vr (some (pp, 8, 0))), (1, vr (some (zsz M1, 21, 0)))] 166 [] Q
        refine sX9_statement_166 M5 pp _ ⟨by omega, ?_⟩
        obtain ⟨R6, k6⟩ := R5.cls ls
        have z56 : zsz (si M5 pp 4 (gi M5 pp 4 - 1)) = zsz M5 := rfl
        generalize si M5 pp 4 (gi M5 pp 4 - 1) = M6 at *
        have z45 := k5.z
        have ob4 : zsz M ≤ zsz M1 ∧ zsz M1 < zsz M4 ∧ τ4 (zsz M1) = 1 := ⟨ob.1, by omega, (ag4 _ ob.2.1).trans ob.2.2⟩
        have k46 := k5.tr k6
        have ob6 := k46.ow ob4
        have g6' := (k46.g ⟨by omega, ob4.2⟩ 0).2.trans g4_0
        have hb6 : nS (zsz M) (zsz M6) (fin (zsz M) τ4) (zsz M1) := fin_1 ob6.1 ob6.2.1 ob6.2.2
        have x3 := n3.mv (m3_4.tr (k46.mvr.tr (fin_mvr (lo := zsz M)))) z190 (Nat.le_refl _) (Nat.le_refl _)
        have p3 := pos_le R6.ps.tz (t := s.1) (t' := s5.1) (by omega) (Nat.le_refl _)
        refine hy (gPl v3.1) s5 (pe3.trans ((bnd_ok e5).trans rfl)) M6 _ fs3 (zsz M1, 21, 0) (R6.nd (by omega) (by omega)) ⟨⟨rfl, by show 20 ≤ 21; decide, by show 21 ≤ 44; decide⟩, _, _, _, _, _, ⟨?_, ?_, ?_, Nat.le_refl _, Nat.le_refl _⟩, sn_Drops (De := DE) hb6 g6' x3.2.1 o3.2.2.1 (by omega)⟩
        · omega
        · omega
        · omega
      · -- ;
        have hs : isS (zOf n c dg) 31 s = true := hs
        have pe2 : pStm (zOf n c dg) K (some r) C s = bnd (nxt' (zOf n c dg) s) fun _ s => prt gNo s := pe1.trans (if_pos hs)
        show Z E YX9_statement (d + 14 + 1) M2 [(0, vr (some (pp, 8, 0)))] 135 [vi 1] Q
        refine iX9_statement_135 (d := d + 10) M2 pp _ ?_
        rw [if_neg (by decide)]
        have z2 := R2.z0
        obtain ⟨τ3, R3, W3, lc3, ag3, m23, -⟩ := R2.bnew (cz' := 118) (cu' := 2396) (by omega) (by omega)
        refine ⟨by show 16 ≤ zsz M2 + 1; omega, by omega, by omega, ?_⟩
        have eg : gi (si (zn (zn M2 1) 3) (zsz (zn M2 1)) 0 0) pp 4 = gi (sr (sr (si (zn (zn M2 1) 3) (zsz (zn M2 1)) 0 (0 : Int32)) (zsz (zn M2 1)) 1 (some (1, 110, 0))) (zsz M2) 0 (some ((zsz (zn M2 1)), 11, 0))) pp 4 := rfl
        rw [eg]
        generalize sr (sr (si (zn (zn M2 1) 3) (zsz (zn M2 1)) 0 (0 : Int32)) (zsz (zn M2 1)) 1 (some (1, 110, 0))) (zsz M2) 0 (some ((zsz (zn M2 1)), 11, 0)) = M3 at *
        obtain ⟨R4, k4⟩ := R3.cls ls
        have z34 : zsz (si M3 pp 4 (gi M3 pp 4 - 1)) = zsz M3 := rfl
        generalize si M3 pp 4 (gi M3 pp 4 - 1) = M4 at *
        have W4 := (W3.k k4 z190).1
        have p3 := pos_le R4.ps.tz (t := s.1) (t' := s.1 + 1) (by omega) (Nat.le_refl _)
        refine hy gNo _ (pe2.trans ((bnd_ok e2).trans rfl)) M4 _ fs (zsz M2, 20, 0) (R4.nd (by omega) (by omega)) ⟨⟨rfl, by show 20 ≤ 20; decide, by show 20 ≤ 44; decide⟩, _, _, _, _, _, ⟨?_, ?_, ?_, Nat.le_refl _, Nat.le_refl _⟩, W4.nl (D := 0) (gs := []) ⟨rfl, fun i q hq => by cases hq⟩⟩
        · dsimp only; omega
        · show 0 + 2 * 0 ≤ _; omega
        · show 0 + 2 * 0 ≤ _; omega
    by_cases h5 : gi M1 a 3 = 5
    · rw [if_pos h5]
      have e : isS (zOf n c dg) 24 s = decide (gi M1 a 6 = 0) := tk_s (dg := dg) (j := 24) R1.ps.tz h5 (by decide) e24
      by_cases h6 : gi M1 a 6 = 0
      · rw [if_pos h6]
        have hs : isS (zOf n c dg) 24 s = true := by rw [e]; exact decide_eq_true h6
        have pe1 : pStm (zOf n c dg) K (some r) C s = pBlk (zOf n c dg) K r C s := pe0.trans (if_pos hs)
        refine R1.stm (y_blk (dg := dg) (dm := dm - 1) hS hr hK (by omega)) (by omega) trivial (by omega) (by omega) rfl (ok_blk hr _) (fun v s' z => z.1) (fun v2 s2 e2 u2 M2 τ2 fs2 b2 t2 R2 k2 n2 => ?_) (fun w e q M' er => ZT.out (nohand rfl) (hn w (pe1.trans e) _ M' er))
        show Z E YX9_statement (d + 14 + 1) M2 [(0, vr (some (pp, 8, 0)))] 122 [vr (some (b2, t2, 0))] Q
        refine iX9_statement_122 M2 pp _ ⟨by omega, ?_⟩
        obtain ⟨R3, k3⟩ := R2.cls ls
        have z23 : zsz (si M2 pp 4 (gi M2 pp 4 - 1)) = zsz M2 := rfl
        generalize si M2 pp 4 (gi M2 pp 4 - 1) = M3 at *
        obtain ⟨n0, D1, o1, m1, h1, y1, ⟨q1, q2, q3, q4, q5⟩, q6⟩ := n2
        have z12 := k2.z
        refine hy v2 s2 (pe1.trans e2) M3 _ fs2 _ (R3.nd (by omega) (by omega)) ⟨n0, _, _, _, _, _, ⟨?_, ?_, ?_, q4, q5⟩, (q6.mv (k3.mvr.tr (fin_mvr (lo := zsz M))) (by omega) z1.2).up (fun b y => ⟨by omega, by omega⟩) (Nat.le_refl _) (Nat.le_refl _) (Nat.le_refl _) (Nat.le_refl _) (Nat.le_refl _)⟩
        · omega
        · omega
        · omega
      · rw [if_neg h6]
        exact tak (by rw [e]; exact decide_eq_false h6)
    · rw [if_neg h5]
      exact tak (tk_ns (dg := dg) (j := 24) R1.ps.tz h5 (by decide))
  -- the first token
  have flt2 : ∀ (k : Nat), (∀ q M', Q (.inr (q, 12, 0)) M' → zafter E YX9_statement (d + 14 + 1) [] k 3 [] Q (.inl (some (vr (some (q, 12, 0))))) M') → isOwn (zOf n c dg) s = false → isS (zOf n c dg) 24 s = false → isS (zOf n c dg) 31 s = false → (begX (zOf n c dg) s && !isK (zOf n c dg) 11 s) = false → Z E YX10_fault (d + 14) M (zargs 0 [vr (some (a, 9, 0)), vi 2]) 0 [] (zafter E YX9_statement (d + 14 + 1) [] k 3 [] Q) := fun k hk h1 h2 h3 h4 => by
    refine R.flt (dg := dg) (k := 2) rfl (by omega) (fun q M' er => hk q M' (hn _ ?_ _ M' er))
    unfold pStm
    rw [if_neg (by rw [h1]; decide), if_neg (by rw [h2]; decide), if_neg (by rw [h3]; decide), if_neg (by rw [h4]; decide)]
    rfl
  have f27 : ∀ q M', Q (.inr (q, 12, 0)) M' → zafter E YX9_statement (d + 14 + 1) [] 27 3 [] Q (.inl (some (vr (some (q, 12, 0))))) M' := fun q M' hq => by
    show Z E YX9_statement (d + 14 + 1) M' [] 30 [vr (some (q, 12, 0))] Q
    exact sX9_statement_30 M' _ ⟨q, rfl, hq⟩
  have f99 : ∀ q M', Q (.inr (q, 12, 0)) M' → zafter E YX9_statement (d + 14 + 1) [] 99 3 [] Q (.inl (some (vr (some (q, 12, 0))))) M' := fun q M' hq => by
    show Z E YX9_statement (d + 14 + 1) M' [] 102 [vr (some (q, 12, 0))] Q
    exact sX9_statement_102 M' _ ⟨q, rfl, hq⟩
  refine iX9_statement_0 M pp ⟨a, h.pt, ?_⟩
  by_cases h0 : gi M a 3 = 0
  · rw [if_pos h0]
    have k0 : tkd (zOf n c dg) s.1 = 0 := kd.symm.trans h0
    have k2 : ¬ tkd (zOf n c dg) s.1 = 2 := by rw [k0]; decide
    have k5 : ¬ tkd (zOf n c dg) s.1 = 5 := by rw [k0]; decide
    refine flt2 27 f27 (isOwn_n k2) (isS_n k5 24) (isS_n k5 31) ?_
    unfold begX begW isPre isLit
    simp only [isK_n k2, isS_n k5, k0]
    decide
  rw [if_neg h0]
  by_cases h2 : gi M a 3 = 2
  · rw [if_pos h2]
    have k2 : tkd (zOf n c dg) s.1 = 2 := kd.symm.trans h2
    have k5 : ¬ tkd (zOf n c dg) s.1 = 5 := by rw [k2]; decide
    have w2 := tk_w2 (dg := dg) h.tz h2
    by_cases h11 : gi M a 6 = 11
    · rw [if_pos h11]
      have k11 : isK (zOf n c dg) 11 s = true := by rw [isK_2 k2]; exact decide_eq_true (w2.symm.trans h11)
      refine flt2 27 f27 ?_ (isS_n k5 24) (isS_n k5 31) (by rw [k11]; simp)
      rw [isOwn_k k2, w2.symm.trans h11]
      decide
    · rw [if_neg h11]
      have n11 : ¬ twh (zOf n c dg) s.1 = 11 := fun z => h11 (w2.trans z)
      have k11 : isK (zOf n c dg) 11 s = false := by rw [isK_2 k2]; exact decide_eq_false n11
      refine y_bw (dg := dg) (dm := dm - 1) hro hK h4 (by omega) (d + 14) _ M τ fs s C (by omega) k2 n11 h (fun io hb => ?_) (fun v s' e M' τ' fs' p pd nd => ?_) (fun w e ou M' pe => ?_)
      · show Z E YX9_statement (d + 14 + 1) M [(0, vr (some (pp, 8, 0)))] 46 [vr none] Q
        refine iX9_statement_46 M pp _ ?_
        rw [if_pos rfl]
        refine ⟨a, h.pt, ?_⟩
        rw [if_neg (by rw [h2]; decide)]
        exact body io k11 (fun _ _ => hb)
      · obtain ⟨b3, t3, q3⟩ := p
        have q0 : q3 = 0 := nd.1.1
        subst q0
        show Z E YX9_statement (d + 14 + 1) M' [(0, vr (some (pp, 8, 0)))] 46 [vr (some (b3, t3, 0))] Q
        refine iX9_statement_46 M' pp _ ?_
        rw [if_neg (fun z => by cases z)]
        exact hy v s' e M' τ' fs' _ pd nd
      · obtain ⟨q, rfl⟩ := fO_inr pe.1
        exact ZT.out (nohand rfl) (hn w e _ M' pe)
  rw [if_neg h2]
  have k2 : ¬ tkd (zOf n c dg) s.1 = 2 := fun z => h2 (kd.trans z)
  have k11 : isK (zOf n c dg) 11 s = false := isK_n k2 11
  by_cases h5 : gi M a 3 = 5
  · rw [if_pos h5]
    have k5 : tkd (zOf n c dg) s.1 = 5 := kd.symm.trans h5
    have bs := begX_s k5
    refine y_starts (dg := dg) (d := d + 13) h.tz h.pt ?_
    show Z E YX9_statement (d + 14 + 1) M [(0, vr (some (pp, 8, 0)))] 68 [vi (if sgB (zOf n c dg) s then 1 else 0)] Q
    refine iX9_statement_68 M pp _ ?_
    cases sb : sgB (zOf n c dg) s with
    | true =>
      rw [if_neg (by decide)]
      exact body (isOwn_n k2) k11 (fun _ _ => by rw [bs, sb]; rfl)
    | false =>
      rw [if_pos (by decide)]
      refine ⟨a, h.pt, ?_⟩
      rw [if_pos h5]
      by_cases h6 : gi M a 6 = 0
      · rw [if_pos h6]
        have hs : isS (zOf n c dg) 24 s = true := (y_isS (j := 24) (by decide) dg h.tz).mp ⟨h5, h6.trans e24.symm⟩
        exact body (isOwn_n k2) k11 (fun z => by rw [hs] at z; cases z)
      · rw [if_neg h6]
        have n24 : isS (zOf n c dg) 24 s = false := (tk_s (dg := dg) (j := 24) h.tz h5 (by decide) e24).trans (decide_eq_false h6)
        by_cases h7 : gi M a 6 = 7
        · rw [if_pos h7]
          have hs : isS (zOf n c dg) 31 s = true := (y_isS (j := 31) (by decide) dg h.tz).mp ⟨h5, h7.trans e31.symm⟩
          exact body (isOwn_n k2) k11 (fun _ z => by rw [hs] at z; cases z)
        · rw [if_neg h7]
          have n31 : isS (zOf n c dg) 31 s = false := (tk_s (dg := dg) (j := 31) h.tz h5 (by decide) e31).trans (decide_eq_false h7)
          exact flt2 99 f99 (isOwn_n k2) n24 n31 (by rw [bs, sb, n24]; rfl)
  · rw [if_neg h5]
    have k5 : ¬ tkd (zOf n c dg) s.1 = 5 := fun z => h5 (kd.trans z)
    refine body (isOwn_n k2) k11 (fun _ _ => ?_)
    have k0 : ¬ tkd (zOf n c dg) s.1 = 0 := fun z => h0 (kd.trans z)
    have k6 : ¬ tkd (zOf n c dg) s.1 = 6 := n6
    have kk : tkd (zOf n c dg) s.1 = 1 ∨ tkd (zOf n c dg) s.1 = 3 ∨ tkd (zOf n c dg) s.1 = 4 := tk_kinds h.tz k0 k2 k5
    unfold begX
    rcases kk with z | z | z <;> rw [z] <;> rfl
end
