/-! THE COMPONENT's PARSER: for, try -/
section
variable {E : zE} {pp a lf n : Nat} {c : Nat → Int32} {dg : Int32 → List Int32} {K o dS dE DE dm : Nat} {r : pT}
theorem y_for (hN : cNx E pp a lf n c dS dE DE o r) (hK : 1300 ≤ K) (h4 : 4 ≤ DE) (hdm : dS + 3 ≤ dm ∧ dE + 3 ≤ dm ∧ 34 ≤ dm) : cSx E pp a lf n c YX9_loop [] dm o (fun C _ => C.2.1 + C.2.2 < o) (szG n c 0 3 0 0) (pFor (zOf n c dg) K r) := by
  obtain ⟨hr, hS, hE, hW, hDE⟩ := id hN
  intro d Q M τ fs s C hd hH h hy hn
  obtain ⟨d, rfl⟩ : ∃ d', d = d' + 15 := ⟨d - 15, by omega⟩
  have R := rk_st h C.1
  have z190 := h.z190
  have e31 : sgX (nI 31) = 7 := by decide +kernel
  have pe0 : pFor (zOf n c dg) K r C s = bnd (nedS (zOf n c dg) 26 s) fun _ s =>
      if isK (zOf n c dg) 26 s then bnd (nxt' (zOf n c dg) s) fun _ s0 => bnd (pVars (zOf n c dg) r false C K 0 false gNo s0) fun q s => if isK (zOf n c dg) 13 s && !q.2.1 && q.2.2 then pEach (zOf n c dg) r C (nam (tkX n c (tkn n c s0.1)) s0).1 s else pFor2 (zOf n c dg) r C q.1 s
      else if isS (zOf n c dg) 31 s then pFor2 (zOf n c dg) r C gNo s
      else bnd (r.expr false C s) fun e s => if isK (zOf n c dg) 13 s && e.2.1 == 1 then pEach (zOf n c dg) r C e.2.2.1 s else pFor2 (zOf n c dg) r C (gPl e.1) s := rfl
  -- for in
  have each : ∀ (M3 : zM) (τ3 : Nat → Nat) (fs3 : List Nat) (s3 : pS) (cz cu x k : Nat), (k = 85 ∨ k = 136) → rk pp a lf n c M τ fs s (geN s.2.2.length) C o M3 τ3 fs3 s3 cz cu → 110 ≤ cz → 2200 ≤ cu → s.1 + 2 ≤ s3.1 → isK (zOf n c dg) 13 s3 = true → x < 100000 → pFor (zOf n c dg) K r C s = pEach (zOf n c dg) r C x s3 → ∀ Q' : zO → zM → Prop, (∀ p M', Q (.inl (some (vr (some p)))) M' → Q' (.inl (some (vr (some p)))) M') → (∀ q M', Q (.inr q) M' → Q' (.inr q) M') → Z E YX9_each (d + 14) M3 (zargs 0 [vr (some (pp, 8, 0)), vi (nI x)]) 0 [] Q' := fun M3 τ3 fs3 s3 cz cu x k _ R3 hz hu l3 hk hx pe Q' hq1 hq2 => by
    have z3 := R3.z0
    refine R3.stm (y_each (dg := dg) (x := x) (dm := dm - 1) hN (by omega)) (by omega) ⟨hH, hk, hx⟩ (by omega) (by omega) rfl (ok_each hr x s3) (fun v s' z => z.1) (fun v5 s5 e5 u5 M5 τ5 fs5 b5 t5 R5 k5 n5 => ?_) (fun w e q M' er => hq2 _ M' (hn w (pe.trans e) _ M' er))
    refine hq1 _ M5 ?_
    obtain ⟨n1, D5, o5, m5, h5, y5, ⟨q1, q2, q3, q4, q5⟩, q6⟩ := n5
    have zz := k5.z
    have l5 := u5.2.1
    have p3 := pos_le R5.ps.tz (t := s.1) (t' := s3.1) (by omega) (by omega)
    have p5 := pos_le R5.ps.tz (t := s3.1) (t' := s5.1) (by omega) (Nat.le_refl _)
    refine hy v5 s5 (pe.trans e5) M5 _ fs5 (b5, t5, 0) (R5.nd (by omega) (by omega)) ⟨n1, _, _, _, _, _, ⟨?_, ?_, ?_, q4, q5⟩, (q6.mv (fin_mvr (lo := zsz M)) (by omega) z3.2).up (fun b y => ⟨by omega, by omega⟩) (Nat.le_refl _) (Nat.le_refl _) (Nat.le_refl _) (Nat.le_refl _) (Nat.le_refl _)⟩
    · omega
    · omega
    · omega
  refine sX9_loop_0 M pp ⟨a, h.pt, ?_⟩
  refine R.need (dg := dg) (j := 26) (by decide) (by decide +kernel) (by omega) (fun e1 M1 R1 k1 => ?_) (fun w e q M' er => ZT.out (nohand rfl) (hn w (pe0.trans (bnd_er e)) _ M' er))
  show Z E YX9_loop (d + 14 + 1) M1 [(0, vr (some (pp, 8, 0)))] 8 [] Q
  refine sX9_loop_8 M1 pp ⟨a, R1.ps.pt, ?_⟩
  have pe1 := pe0.trans (bnd_ok e1)
  have p1 := pos_le R1.ps.tz (t := s.1) (t' := s.1 + 1) (by omega) (Nat.le_refl _)
  refine R1.takesW (dg := dg) (by omega) (fun hs => ?_) (fun hs e2 M2 R2 k2 => ?_) (fun hs w e q M' er => ZT.out (nohand rfl) (hn w (pe1.trans ((if_pos hs).trans (bnd_er e))) _ M' er))
  · -- no var
    have pe1 := pe1.trans (if_neg (by rw [hs]; decide))
    show Z E YX9_loop (d + 14 + 1) M1 [(0, vr (some (pp, 8, 0))), (1, vr none)] 19 [vi 0] Q
    refine iX9_loop_19 M1 pp _ ?_
    rw [if_pos rfl]
    refine ⟨a, R1.ps.pt, ?_⟩
    have ex : ¬ isS (zOf n c dg) 31 (s.1 + 1, s.2) = true → Z E YX9_expression (d + 14) M1 (zargs 0 [vr (some (pp, 8, 0)), vi 0]) 0 [] (zafter E YX9_loop (d + 14 + 1) [(0, vr (some (pp, 8, 0)))] 108 3 [] Q) := fun hs3 => by
      have pe2 := pe1.trans (if_neg hs3)
      refine R1.val (hE false).x (by omega) (by omega) (by omega) rfl (hr.expr false C _) (fun v s' z => z.1) (fun v3 s3 e3 o3 M3 τ3 fs3 b3 t3 R3 k3 n3 => ?_) (fun w e q M' er => ZT.out (nohand rfl) (hn w (pe2.trans (bnd_er e)) _ M' er))
      show Z E YX9_loop (d + 14 + 1) M3 [(0, vr (some (pp, 8, 0)))] 111 [vr (some (b3, t3, 0))] Q
      have pe3 := pe2.trans (bnd_ok e3)
      have l3 := o3.2.1
      dsimp only at l3
      have p3 := pos_le R3.ps.tz (t := s.1 + 1) (t' := s3.1) (by omega) (Nat.le_refl _)
      have z3 := R3.z0
      have drp : ¬ (isK (zOf n c dg) 13 s3 && v3.2.1 == 1) = true → 16 ≤ zsz M3 ∧ ∃ b : Nat, (gr (sr (zn M3 1) (zsz M3) 0 (some (b3, t3, 0))) pp 1) = some (b, 9, 0) ∧ (Z E YX10_need (d + 12 + 2) (sr (zn M3 1) (zsz M3) 0 (some (b3, t3, 0))) (zargs 0 [vr (some (b, 9, 0)), vi 7]) 0 [] (zafter E YX9_loop ((d + 12 + 2) + 1) [(0, vr (some (pp, 8, 0))), (1, vr (some ((zsz M3), 21, 0)))] 158 3 [] Q)) := fun hk => by
        have f4 : fg (fun x _ => zsz M ≤ x ∧ τ3 x = 1) M3 (sr (zn M3 1) (zsz M3) 0 (some (b3, t3, 0))) := (fg.zn (n := 1)).tr2 (fr.sr (.inr (Nat.le_refl _))).fg
        have g4 : gr (sr (zn M3 1) (zsz M3) 0 (some (b3, t3, 0))) (zsz M3) 0 = some (b3, t3, 0) := by simp only [gr_sr]; simp
        obtain ⟨τ4, R4, ag4, on4, m34⟩ := R3.lc (v := 1) (w := 1) (cz' := 129) (cu' := 2599) f4 (Nat.le_refl _) (Nat.le_refl _) (by omega) (by omega)
        refine ⟨by omega, a, R4.ps.pt, ?_⟩
        have sz4 : zsz (sr (zn M3 1) (zsz M3) 0 (some (b3, t3, 0))) = zsz M3 + 1 := rfl
        generalize sr (zn M3 1) (zsz M3) 0 (some (b3, t3, 0)) = M4 at *
        obtain ⟨τ5, R5, ag5, on5, m45⟩ := R4.fx 0 (x := zsz M3) ⟨z3.2, by omega, on4 _ (Nat.le_refl _) (by omega)⟩ (.inl rfl)
        have x3 := n3.mv (m34.tr m45) z190 (Nat.le_refl _) (Nat.le_refl _)
        exact y_fo2 (dg := dg) (Di := 1) (oi := 0 + 12 * (s3.1 - (s.1 + 1)) + 1) (ni := 0 + 12 * (s3.1 - (s.1 + 1)) + 1) (hi := 0) (ki := 0) (i := gPl v3.1) hN (by omega) R5 (by omega) (by omega) (.inr ⟨_, rfl, sn_Drops ⟨z3.2, by omega, on5⟩ g4 x3.2.1 o3.2.2.1 (by omega)⟩) (gokT_Pl o3.2.2.1.1) ⟨Nat.le_refl _, Nat.le_refl _⟩ hH (by omega) (by omega) (by omega) (by omega) (pe3.trans (if_neg hk)) hy hn
      refine iX9_loop_111 (d := d + 12) M3 pp _ ⟨a, R3.ps.pt, ?_⟩
      by_cases h2 : gi M3 a 3 = 2
      · rw [if_pos h2]
        have ek : isK (zOf n c dg) 13 s3 = decide (gi M3 a 6 = 13) := tk_k (dg := dg) R3.ps.tz h2 13
        by_cases h6 : gi M3 a 6 = 13
        · rw [if_pos h6]
          have hk : isK (zOf n c dg) 13 s3 = true := by rw [ek]; exact decide_eq_true h6
          refine ⟨b3, t3, rfl, ?_⟩
          refine y_isN n3 ?_
          show Z E YX9_loop (d + 14 + 1) M3 [(0, vr (some (pp, 8, 0))), (2, vr (some (b3, t3, 0)))] 128 [vi (if v3.2.1 = 1 then 1 else 0)] Q
          refine iX9_loop_128 (d := d + 12) M3 pp _ _ _ ?_
          by_cases hv : v3.2.1 = 1
          · rw [if_pos hv, if_neg (by decide)]
            rcases n3.2.2 with ⟨y, -⟩ | ⟨y1, y2, y3, y4, y5⟩ | ⟨y1, y2⟩
            · omega
            · refine ⟨y2, ?_⟩
              rw [show gi M3 b3 0 = nI v3.2.2.1 from y4]
              refine each M3 τ3 fs3 s3 _ _ v3.2.2.1 136 (.inr rfl) R3 (by omega) (by omega) (by omega) hk y5 (pe3.trans (if_pos (by rw [hk, hv]; rfl))) _ (fun p M' hq => ?_) (fun q M' hq => ?_)
              · show Z E YX9_loop (d + 14 + 1) M' [] 142 [vr (some p)] Q
                exact sX9_loop_142 M' _ hq
              · exact ZT.out (nohand rfl) hq
            · omega
          · rw [if_neg hv, if_pos rfl]
            exact drp (by rw [show (v3.2.1 == 1) = false from by simpa using hv]; simp)
        · rw [if_neg h6]
          exact drp (by rw [show isK (zOf n c dg) 13 s3 = false from by rw [ek]; exact decide_eq_false h6]; simp)
      · rw [if_neg h2]
        exact drp (by rw [tk_nk (dg := dg) R3.ps.tz h2 13]; simp)
    by_cases h5 : gi M1 a 3 = 5
    · rw [if_pos h5]
      have e : isS (zOf n c dg) 31 (s.1 + 1, s.2) = decide (gi M1 a 6 = 7) := tk_s (dg := dg) (j := 31) R1.ps.tz h5 (by decide) e31
      by_cases h6 : gi M1 a 6 = 7
      · rw [if_pos h6]
        exact y_fo2 (dg := dg) (Di := 0) (oi := 0) (ni := 0) (hi := 0) (ki := 0) (i := gNo) hN (by omega) R1 (by omega) (by omega) (.inl ⟨rfl, rfl⟩) gokT_No ⟨Nat.le_refl _, Nat.le_refl _⟩ hH (Nat.le_refl _) (by dsimp only; omega) (by dsimp only; omega) (by dsimp only; omega) (pe1.trans (if_pos (by rw [e]; exact decide_eq_true h6))) hy hn
      · rw [if_neg h6]
        exact ex (by rw [e]; simpa using h6)
    · rw [if_neg h5]
      exact ex (by rw [show isS (zOf n c dg) 31 (s.1 + 1, s.2) = false from tk_ns (dg := dg) (j := 31) R1.ps.tz h5 (by decide)]; decide)
  · -- var
    have pe2 := pe1.trans ((if_pos hs).trans (bnd_ok e2))
    show Z E YX9_loop (d + 14 + 1) M2 [(0, vr (some (pp, 8, 0))), (1, vr none)] 19 [vi 1] Q
    refine iX9_loop_19 M2 pp _ ?_
    rw [if_neg (by decide)]
    refine ⟨a, R2.ps.pt, ?_⟩
    have vs : ∀ l2 : Int32, (tkd (zOf n c dg) (s.1 + 1 + 1) = 1 → l2 = nI (nam (tkX n c (tkn n c (s.1 + 1 + 1))) (s.1 + 1 + 1, s.2)).1) → Z E YX9_variables (d + 14) M2 (zargs 0 [vr (some (pp, 8, 0)), vi 0]) 0 [] (zafter E YX9_loop (d + 14 + 1) [(0, vr (some (pp, 8, 0))), (2, vi l2)] 47 3 [] Q) := fun l2 hl2 => by
      refine y_vars (dg := dg) (i := false) (dm := dm - 1) hN hK h4 (by omega) (d + 14) _ M2 τ fs _ C (by omega) R2.ps (fun q s3 e3 M3 τ3 fs3 b3 pd n3 g7 ⟨l, k, gl, gk, k9, k0⟩ => ?_) (fun w e ou M' pe => ?_)
      · have o3 := ok_vars hr false K 0 false gNo _ gokT_No q s3 e3
        have R3 := R2.cl pd o3.1
        have pe3 := pe2.trans (bnd_ok e3)
        have l3 := o3.2.1
        dsimp only at l3
        have z2 := R2.z0
        have z3 := R3.z0
        have p2 := pos_le R3.ps.tz (t := s.1 + 1) (t' := s.1 + 1 + 1) (by omega) (by omega)
        have p3 := pos_le R3.ps.tz (t := s.1 + 1 + 1) (t' := s3.1) (by omega) (Nat.le_refl _)
        have kd := vars_k1 e3
        have hl2 := hl2 kd
        show Z E YX9_loop (d + 14 + 1) M3 [(0, vr (some (pp, 8, 0))), (2, vi l2)] 50 [vr (some (b3, 20, 0))] Q
        refine iX9_loop_50 M3 pp _ _ ⟨b3, rfl, a, R3.ps.pt, ?_⟩
        have f2 : ¬ (isK (zOf n c dg) 13 s3 && !q.2.1 && q.2.2) = true → Z E YX10_need (d + 14) M3 (zargs 0 [vr (some (a, 9, 0)), vi 7]) 0 [] (zafter E YX9_loop (d + 14 + 1) [(0, vr (some (pp, 8, 0))), (1, vr (some (b3, 20, 0)))] 158 3 [] Q) := fun hk => by
          obtain ⟨n1, D5, o5, m5, h5, y5, ⟨q1, q2, q3, q4, q5⟩, q6⟩ := n3
          dsimp only at q1 q2 q3
          exact y_fo2 (dg := dg) (i := q.1) hN (by omega) R3 (by omega) (by omega) (.inr ⟨_, rfl, (q6.mv ⟨fg.rf, fun _ _ _ => rfl⟩ R2.ps.z190 z2.2).up (fun b y => ⟨by omega, by omega⟩) (Nat.le_refl _) (Nat.le_refl _) (Nat.le_refl _) (Nat.le_refl _) (Nat.le_refl _)⟩) o3.2.2 ⟨q4, q5⟩ hH (by omega) (by omega) (by omega) (by omega) (pe3.trans (if_neg hk)) hy hn
        by_cases h2 : gi M3 a 3 = 2
        · rw [if_pos h2]
          have ek : isK (zOf n c dg) 13 s3 = decide (gi M3 a 6 = 13) := tk_k (dg := dg) R3.ps.tz h2 13
          by_cases h6 : gi M3 a 6 = 13
          · rw [if_pos h6]
            have hk : isK (zOf n c dg) 13 s3 = true := by rw [ek]; exact decide_eq_true h6
            refine ⟨l, gl, ?_⟩
            rw [gk, g7]
            by_cases hk0 : k = 0
            · rw [if_pos (show nI k = 0 by rw [hk0]; rfl)]
              have q21 := k0.mp hk0
              cases q22 : q.2.2 with
              | false =>
                rw [if_pos (by decide)]
                exact f2 (by rw [q22]; simp)
              | true =>
                rw [if_neg (by decide)]
                rw [hl2]
                refine each M3 τ3 fs3 s3 _ _ _ 85 (.inl rfl) R3 (by omega) (by omega) (by omega) hk (tak_lt R2.ps.tz (.inl kd) rfl) (pe3.trans (if_pos (by rw [hk, q21, q22]; rfl))) _ (fun p M' hq => ?_) (fun q M' hq => ?_)
                · show Z E YX9_loop (d + 14 + 1) M' [] 88 [vr (some p)] Q
                  exact sX9_loop_88 M' _ hq
                · exact ZT.out (nohand rfl) hq
            · rw [if_neg (show ¬ nI k = 0 from fun z => hk0 (nI_inj (a := k) (b := 0) (by omega) (by omega) z))]
              exact f2 (by
                cases q21 : q.2.1 with
                | false => exact absurd (k0.mpr q21) hk0
                | true => simp)
          · rw [if_neg h6]
            exact f2 (by rw [show isK (zOf n c dg) 13 s3 = false from by rw [ek]; exact decide_eq_false h6]; simp)
        · rw [if_neg h2]
          exact f2 (by rw [tk_nk (dg := dg) R3.ps.tz h2 13]; simp)
      · obtain ⟨q, rfl⟩ := fO_inr pe.1
        exact ZT.out (nohand rfl) (hn w (pe2.trans (bnd_er e)) _ M' (R2.er pe (by omega) (by omega)))
    by_cases h1 : gi M2 a 3 = 1
    · rw [if_pos h1]
      exact vs _ fun kd => (y_tak (dg := dg) R2.ps.tz (.inl kd)).1
    · rw [if_neg h1]
      exact vs _ fun kd => absurd ((tk_kd (dg := dg) R2.ps.tz).trans kd) h1
/-- try -/
theorem y_try (hN : cNx E pp a lf n c dS dE DE o r) (hK : 1300 ≤ K) (hdm : dS + 2 ≤ dm ∧ 32 ≤ dm) : cSx E pp a lf n c YX9_tried [] dm o (fun _ _ => True) (szG n c 0 5 0 0) (pTry (zOf n c dg) K r) := by
  obtain ⟨hr, hS, hE, hW, hDE⟩ := id hN
  intro d Q M τ fs s C hd hH h hy hn
  obtain ⟨d, rfl⟩ : ∃ d', d = d' + 15 := ⟨d - 15, by omega⟩
  have R := rk_st h C.1
  have z190 := h.z190
  have hB : cSx E pp a lf n c YX9_block [] (dm - 1) o (fun _ _ => True) (szG n c 3 0 0 0) (pBlk (zOf n c dg) K r) := y_blk hS hr hK (by omega)
  have e24 : sgX (nI 24) = 0 := by decide +kernel
  have pe0 := pTry_eq (zOf n c dg) K r C s
  -- finally
  have fint : ∀ (M3 : zM) (τ3 : Nat → Nat) (fs3 : List Nat) (s3 : pS) (cz cu b3 t3 D3 o3 n3 h3 y3 : Nat) (y : gSt) (qb : Bool), rk pp a lf n c M τ fs s (geN s.2.2.length) C o M3 τ3 fs3 s3 cz cu → 109 ≤ cz → 2199 ≤ cu → (20 ≤ t3 ∧ t3 ≤ 44) → s.1 ≤ s3.1 → szG n c 3 0 0 0 s s3 D3 o3 n3 h3 y3 → sNd (nS (zsz M) (zsz M3) τ3) (nW (zsz M) (zsz M3) τ3) M3 C.2 (fun b => zsz M ≤ b ∧ b < zsz M3) D3 o3 n3 h3 y3 (b3, t3, 0) y → gokT y → pTry (zOf n c dg) K r C s = pTf (zOf n c dg) K r C (y, qb) s3 → (isK (zOf n c dg) 9 s3 = true ∨ qb = true) → Z E YX10_takesWord (d + 14) M3 (zargs 0 [vr (some (a, 9, 0)), vi 9]) 0 [] (zafter E YX9_tried (d + 14 + 1) [(0, vr (some (pp, 8, 0))), (1, vr (some (b3, t3, 0)))] 115 3 [] Q) := fun M3 τ3 fs3 s3 cz cu b3 t3 D3 o3 n3 h3 y3 y qb R3 hz hu ht ls sz nd gk pe hq => by
    have z3 := R3.z0
    obtain ⟨q1, q2, q3, q4, q5⟩ := sz
    refine R3.takesW (dg := dg) (by omega) (fun hs => ?_) (fun hs e4 M4 R4 k4 => ?_) (fun hs w e q M' er => ZT.out (nohand rfl) (hn w (pe.trans ((if_pos hs).trans (bnd_er e))) _ M' er))
    · show Z E YX9_tried (d + 14 + 1) M3 [(0, vr (some (pp, 8, 0))), (1, vr (some (b3, t3, 0)))] 118 [vi 0] Q
      refine iX9_tried_118 M3 pp _ _ ?_
      rw [if_pos rfl]
      have qb' : qb = true := hq.resolve_left (by rw [hs]; decide)
      refine hy y s3 (pe.trans ((if_neg (by rw [hs]; decide)).trans (if_pos qb'))) M3 _ fs3 _ (R3.nd (by omega) (by omega)) ⟨⟨rfl, ht.1, ht.2⟩, _, _, _, _, _, ⟨?_, ?_, ?_, q4, q5⟩, nd.mv (fin_mvr (lo := zsz M)) z190 (Nat.le_refl _)⟩
      · omega
      · omega
      · omega
    · show Z E YX9_tried (d + 14 + 1) M4 [(0, vr (some (pp, 8, 0))), (1, vr (some (b3, t3, 0)))] 118 [vi 1] Q
      refine iX9_tried_118 M4 pp _ _ ?_
      rw [if_neg (by decide)]
      have pe4 := pe.trans ((if_pos hs).trans (bnd_ok e4))
      have z4 := R4.z0
      obtain ⟨τ5, R5, ag5, on5, m45⟩ := R4.lc (M' := zn M4 3) (v := 1) (w := 3) (cz' := cz + 19) (cu' := cu + 397) fg.zn (Nat.le_refl _) (Nat.le_refl _) (by omega) (by omega)
      have sz5 : zsz (zn M4 3) = zsz M4 + 1 := rfl
      have z34 := k4.z
      generalize zn M4 3 = M5 at *
      refine R5.stm hB (by omega) trivial (by omega) (by omega) rfl (ok_blk hr _) (fun v s' z => z.1) (fun v6 s6 e6 u6 M6 τ6 fs6 b6 t6 R6 k6 n6 => ?_) (fun w e q M' er => ZT.out (nohand rfl) (hn w (pe4.trans (bnd_er e)) _ M' er))
      show Z E YX9_tried (d + 14 + 1) M6 [] 131 [vr (some (b6, t6, 0)), vi (-1), vr (some (b3, t3, 0)), vr (some (zsz M4, 43, 0)), vr (some (zsz M4, 43, 0))] Q
      refine iX9_tried_131 (d := d + 12) M6 _ _ _ _ _ ⟨by omega, ?_⟩
      have z6 := k6.z
      have ob := k6.ow (lo := zsz M) (x := zsz M4) ⟨z4.2, by omega, on5 _ (Nat.le_refl _) (by omega)⟩
      have f7 : fg (fun x _ => zsz M ≤ x ∧ τ6 x = 1) M6 (sr (si (sr M6 (zsz M4) 0 (some (b3, t3, 0))) (zsz M4) 2 (-1)) (zsz M4) 1 (some (b6, t6, 0))) := (((fr.sr ⟨ob.1, ob.2.2⟩).tr (fr.si ⟨ob.1, ob.2.2⟩)).tr (fr.sr ⟨ob.1, ob.2.2⟩)).fg
      have g7_0 : gr (sr (si (sr M6 (zsz M4) 0 (some (b3, t3, 0))) (zsz M4) 2 (-1)) (zsz M4) 1 (some (b6, t6, 0))) (zsz M4) 0 = (some (b3, t3, 0)) := by simp only [gr_si, gr_sr]; simp
      have g7_2 : gi (sr (si (sr M6 (zsz M4) 0 (some (b3, t3, 0))) (zsz M4) 2 (-1)) (zsz M4) 1 (some (b6, t6, 0))) (zsz M4) 2 = (-1) := by simp only [gi_si, gi_sr]; simp
      have g7_1 : gr (sr (si (sr M6 (zsz M4) 0 (some (b3, t3, 0))) (zsz M4) 2 (-1)) (zsz M4) 1 (some (b6, t6, 0))) (zsz M4) 1 = (some (b6, t6, 0)) := by simp only [gr_si, gr_sr]; simp
      have sz7 : zsz (sr (si (sr M6 (zsz M4) 0 (some (b3, t3, 0))) (zsz M4) 2 (-1)) (zsz M4) 1 (some (b6, t6, 0))) = zsz M6 := rfl
      have su7 : zsu (sr (si (sr M6 (zsz M4) 0 (some (b3, t3, 0))) (zsz M4) 2 (-1)) (zsz M4) 1 (some (b6, t6, 0))) = zsu M6 := rfl
      generalize sr (si (sr M6 (zsz M4) 0 (some (b3, t3, 0))) (zsz M4) 2 (-1)) (zsz M4) 1 (some (b6, t6, 0)) = M7 at *
      obtain ⟨τ7, R7, ag7, on7, m6_7⟩ := R6.lc (v := 0) (w := 0) (cz' := (cz + 20)) (cu' := (cu + 500)) f7 (by omega) (by omega) (by omega) (by omega)
      have m7 := m6_7.tr (fin_mvr (lo := zsz M) (τ := τ7) (M := M7))
      have hb : nS (zsz M) (zsz M7) (fin (zsz M) τ7) (zsz M4) := fin_1 ob.1 (by omega) ((ag7 _ ob.2.1).trans ob.2.2)
      have x3 := nd.mv (((k4.mvr.tr m45).tr k6.mvr).tr m7) z190 (Nat.le_refl _)
      obtain ⟨-, D6, o6, n6', h6, y6, ⟨u1, u2, u3, u4, u5⟩, x6⟩ := n6
      have x6 := x6.mv (lo' := zsz M) m7 (by omega) (by omega)
      dsimp only at u1 u2 u3
      have l6 := u6.2.1
      dsimp only at l6
      have p0 := pos_le R7.ps.tz (t := s.1) (t' := s3.1) ls (by omega)
      have p3 := pos_le R7.ps.tz (t := s3.1) (t' := s3.1 + 1) (by omega) (by omega)
      have p6 := pos_le R7.ps.tz (t := s3.1 + 1) (t' := s6.1) (by omega) (Nat.le_refl _)
      refine hy (gTrF y v6) s6 (pe4.trans ((bnd_ok e6).trans rfl)) M7 _ fs6 (zsz M4, 43, 0) (R7.nd (by omega) (by omega)) ⟨⟨rfl, by show 20 ≤ 43; decide, by show 43 ≤ 44; decide⟩, _, _, _, _, _, ⟨?_, ?_, ?_, Nat.zero_le _, Nat.zero_le _⟩, sn_TryF (C := fun b => zsz M ≤ b ∧ b < zsz M7) hb g7_0 g7_1 g7_2 x3 gk ⟨q4, q5⟩ x6 u6.2.2 ⟨u4, u5⟩ ⟨fun b y => ⟨by omega, by omega⟩, fun b y => ⟨by omega, by omega⟩, fun b y y' => by omega⟩⟩
      · omega
      · omega
      · omega
  refine iX9_tried_0 M pp ⟨a, h.pt, ?_⟩
  have flt_ : ¬ isS (zOf n c dg) 24 s = true → Z E YX10_fault (d + 14) M (zargs 0 [vr (some (a, 9, 0)), vi 2]) 0 [] (zafter E YX9_tried (d + 14 + 1) [] 16 3 [] Q) := fun hs => by
    refine R.flt (dg := dg) (k := 2) rfl (by omega) (fun q M' er => ?_)
    show Z E YX9_tried (d + 14 + 1) M' [] 19 [vr (some (q, 12, 0))] Q
    refine sX9_tried_19 M' _ ⟨q, rfl, hn _ (pe0.trans (bnd_er (bnd_er (show nedS (zOf n c dg) 24 s = .error (2, tln (zOf n c dg) s.1) by unfold nedS; rw [if_neg hs]; rfl)))) _ M' er⟩
  by_cases h5 : gi M a 3 = 5
  · rw [if_pos h5]
    have e : isS (zOf n c dg) 24 s = decide (gi M a 6 = 0) := tk_s (dg := dg) (j := 24) h.tz h5 (by decide) e24
    by_cases h6 : gi M a 6 = 0
    · rw [if_pos h6]
      refine R.stm hB (by omega) trivial (by omega) (by omega) rfl (ok_blk hr _) (fun v s' z => z.1) (fun v1 s1 e1 u1 M1 τ1 fs1 b1 t1 R1 k1 n1 => ?_) (fun w e q M' er => ZT.out (nohand rfl) (hn w (pe0.trans (bnd_er e)) _ M' er))
      show Z E YX9_tried (d + 14 + 1) M1 [(0, vr (some (pp, 8, 0)))] 24 [vr (some (b1, t1, 0))] Q
      refine sX9_tried_24 M1 pp _ ⟨a, R1.ps.pt, ?_⟩
      have pe1 := pe0.trans (bnd_ok e1)
      obtain ⟨⟨-, ta, tb⟩, D1, o1, n1', h1, y1, sz1, x1⟩ := n1
      have l1 := u1.2.1
      have z1 := R1.z0
      refine R1.takesW (dg := dg) (by omega) (fun hs => ?_) (fun hs e2 M2 R2 k2 => ?_) (fun hs w e q M' er => ZT.out (nohand rfl) (hn w (pe1.trans (bnd_er ((if_pos hs).trans (bnd_er e)))) _ M' er))
      · show Z E YX9_tried (d + 14 + 1) M1 [(0, vr (some (pp, 8, 0))), (1, vr (some (b1, t1, 0)))] 33 [vi 0] Q
        have pe2 := pe1.trans (bnd_ok (if_neg (show ¬ isK (zOf n c dg) 2 s1 = true by rw [hs]; decide)))
        refine iX9_tried_33 M1 pp _ _ ?_
        rw [if_pos rfl]
        refine ⟨a, R1.ps.pt, ?_⟩
        have f2 : ¬ isK (zOf n c dg) 9 s1 = true → Z E YX10_fault (d + 14) M1 (zargs 0 [vr (some (a, 9, 0)), vi 2]) 0 [] (zafter E YX9_tried (d + 14 + 1) [] 105 3 [] Q) := fun hk => by
          refine R1.flt (dg := dg) (k := 2) rfl (by omega) (fun q M' er => ?_)
          show Z E YX9_tried (d + 14 + 1) M' [] 108 [vr (some (q, 12, 0))] Q
          exact sX9_tried_108 M' _ ⟨q, rfl, hn _ (pe2.trans ((if_neg hk).trans ((if_neg (fun z => (by cases z))).trans rfl))) _ M' er⟩
        by_cases h2 : gi M1 a 3 = 2
        · rw [if_pos h2]
          have ek : isK (zOf n c dg) 9 s1 = decide (gi M1 a 6 = 9) := tk_k (dg := dg) R1.ps.tz h2 9
          by_cases h9 : gi M1 a 6 = 9
          · rw [if_pos h9]
            exact fint M1 τ1 fs1 s1 _ _ b1 t1 D1 o1 n1' h1 y1 v1 false R1 (by omega) (by omega) ⟨ta, tb⟩ (by omega) sz1 x1 u1.2.2 pe2 (.inl (by rw [ek]; exact decide_eq_true h9))
          · rw [if_neg h9]
            exact f2 (by rw [ek]; simpa using h9)
        · rw [if_neg h2]
          exact f2 (by rw [tk_nk (dg := dg) R1.ps.tz h2 9]; decide)
      · -- catch
        show Z E YX9_tried (d + 14 + 1) M2 [(0, vr (some (pp, 8, 0))), (1, vr (some (b1, t1, 0)))] 33 [vi 1] Q
        refine iX9_tried_33 M2 pp _ _ ?_
        rw [if_neg (by decide)]
        refine ⟨a, R2.ps.pt, ?_⟩
        have pe2 : pTry (zOf n c dg) K r C s = bnd (nedS (zOf n c dg) 26 (s1.1 + 1, s1.2)) fun _ s => bnd (nedN (zOf n c dg) s) fun x s => bnd (pTb (zOf n c dg) K r C v1 x (hld C.1 x s)) fun q s => pTf (zOf n c dg) K r C q s := by
          refine pe1.trans ?_
          rw [if_pos hs, bnd_ok e2, bnd_as]
          exact bnd_cg fun _ s => bnd_as _ _ _
        refine R2.need (dg := dg) (j := 26) (by decide) (by decide +kernel) (by omega) (fun e3 M3 R3 k3 => ?_) (fun w e q M' er => ZT.out (nohand rfl) (hn w (pe2.trans (bnd_er e)) _ M' er))
        show Z E YX9_tried (d + 14 + 1) M3 [(0, vr (some (pp, 8, 0))), (1, vr (some (b1, t1, 0))), (2, vi 1)] 46 [] Q
        refine sX9_tried_46 M3 pp _ _ ⟨a, R3.ps.pt, ?_⟩
        have pe3 := pe2.trans (bnd_ok e3)
        refine R3.needN (dg := dg) (by omega) (fun x s4 e4 ex hx4 M4 R4 k4 => ?_) (fun w e q M' er => ZT.out (nohand rfl) (hn w (pe3.trans (bnd_er e)) _ M' er))
        show Z E YX9_tried (d + 14 + 1) M4 [(0, vr (some (pp, 8, 0))), (1, vr (some (b1, t1, 0))), (2, vi 1)] 53 [vi (nI x)] Q
        have pe4 := pe3.trans (bnd_ok e4)
        obtain ⟨fc, gf, ad⟩ := R4.add (E := E) (d := d + 14) (y := x) (cz' := 165) (cu' := 3300) rfl hx4.1 (fun q hq => by rw [hx4.2.2.1] at hq; have := R3.ps.vl q hq; dsimp only at this; have := hx4.2.1; dsimp only at this; omega) (by omega) (by omega) (by omega)
        refine sX9_tried_53 M4 pp _ _ _ ⟨fc, gf, ?_⟩
        refine ad _ (fun M5 τ5 R5 k5 => ?_)
        show Z E YX9_tried (d + 14 + 1) M5 [(0, vr (some (pp, 8, 0))), (1, vr (some (b1, t1, 0))), (2, vi 1), (3, vi (nI x))] 62 [] Q
        refine sX9_tried_62 M5 pp _ _ _ ⟨a, R5.ps.pt, ?_⟩
        have s51 : (hld C.1 x s4).1 = s1.1 + 1 + 1 + 1 := hx4.2.1
        generalize hld C.1 x s4 = s5 at *
        have pe5 : pTry (zOf n c dg) K r C s = bnd (nedS (zOf n c dg) 27 s5) fun _ s => bnd (pBlk (zOf n c dg) K r C s) fun w s => pTf (zOf n c dg) K r C (gTrC v1 x w, true) s := by
          refine pe4.trans ?_
          show bnd (bnd (nedS (zOf n c dg) 27 s5) fun _ s => bnd (pBlk (zOf n c dg) K r C s) fun w s => prt (gTrC v1 x w, true) s) _ = _
          rw [bnd_as]
          exact bnd_cg fun _ s => bnd_as _ _ _
        refine R5.need (dg := dg) (j := 27) (by decide) (by decide +kernel) (by omega) (fun e6 M6 R6 k6 => ?_) (fun w e q M' er => ZT.out (nohand rfl) (hn w (pe5.trans (bnd_er e)) _ M' er))
        show Z E YX9_tried (d + 14 + 1) M6 [(0, vr (some (pp, 8, 0))), (1, vr (some (b1, t1, 0))), (2, vi 1), (3, vi (nI x))] 70 [] Q
        refine iX9_tried_70 M6 pp _ _ _ ?_
        have pe6 := pe5.trans (bnd_ok e6)
        have z6 := R6.z0
        have k16 := ((k2.tr k3).tr (k4.tr k5)).tr k6
        have z16 := k16.z
        obtain ⟨τ7, R7, ag7, on7, m67⟩ := R6.lc (M' := zn M6 3) (v := 1) (w := 3) (cz' := 180) (cu' := 3600) fg.zn (Nat.le_refl _) (Nat.le_refl _) (by omega) (by omega)
        have sz7 : zsz (zn M6 3) = zsz M6 + 1 := rfl
        generalize zn M6 3 = M7 at *
        refine R7.stm hB (by omega) trivial (by omega) (by omega) rfl (ok_blk hr _) (fun v s' z => z.1) (fun v8 s8 e8 u8 M8 τ8 fs8 b8 t8 R8 k8 n8 => ?_) (fun w e q M' er => ZT.out (nohand rfl) (hn w (pe6.trans (bnd_er e)) _ M' er))
        show Z E YX9_tried (d + 14 + 1) M8 [(0, vr (some (pp, 8, 0))), (2, vi 1)] 80 [vr (some (b8, t8, 0)), vi (nI x), vr (some (b1, t1, 0)), vr (some (zsz M6, 43, 0)), vr (some (zsz M6, 43, 0))] Q
        refine iX9_tried_80 (d := d + 12) M8 pp _ _ _ _ _ _ ⟨by omega, ?_⟩
        rw [if_neg (by decide)]
        have z8 := k8.z
        have ob := k8.ow (lo := zsz M) (x := zsz M6) ⟨z6.2, by omega, on7 _ (Nat.le_refl _) (by omega)⟩
        have f9 : fg (fun x _ => zsz M ≤ x ∧ τ8 x = 1) M8 (sr (si (sr M8 (zsz M6) 0 (some (b1, t1, 0))) (zsz M6) 2 (nI x)) (zsz M6) 1 (some (b8, t8, 0))) := (((fr.sr ⟨ob.1, ob.2.2⟩).tr (fr.si ⟨ob.1, ob.2.2⟩)).tr (fr.sr ⟨ob.1, ob.2.2⟩)).fg
        have g9_0 : gr (sr (si (sr M8 (zsz M6) 0 (some (b1, t1, 0))) (zsz M6) 2 (nI x)) (zsz M6) 1 (some (b8, t8, 0))) (zsz M6) 0 = (some (b1, t1, 0)) := by simp only [gr_si, gr_sr]; simp
        have g9_2 : gi (sr (si (sr M8 (zsz M6) 0 (some (b1, t1, 0))) (zsz M6) 2 (nI x)) (zsz M6) 1 (some (b8, t8, 0))) (zsz M6) 2 = (nI x) := by simp only [gi_si, gi_sr]; simp
        have g9_1 : gr (sr (si (sr M8 (zsz M6) 0 (some (b1, t1, 0))) (zsz M6) 2 (nI x)) (zsz M6) 1 (some (b8, t8, 0))) (zsz M6) 1 = (some (b8, t8, 0)) := by simp only [gr_si, gr_sr]; simp
        have sz9 : zsz (sr (si (sr M8 (zsz M6) 0 (some (b1, t1, 0))) (zsz M6) 2 (nI x)) (zsz M6) 1 (some (b8, t8, 0))) = zsz M8 := rfl
        have su9 : zsu (sr (si (sr M8 (zsz M6) 0 (some (b1, t1, 0))) (zsz M6) 2 (nI x)) (zsz M6) 1 (some (b8, t8, 0))) = zsu M8 := rfl
        generalize sr (si (sr M8 (zsz M6) 0 (some (b1, t1, 0))) (zsz M6) 2 (nI x)) (zsz M6) 1 (some (b8, t8, 0)) = M9 at *
        obtain ⟨τ9, R9, ag9, on9, m8_9⟩ := R8.lc (v := 0) (w := 0) (cz' := 185) (cu' := 3700) f9 (by omega) (by omega) (by omega) (by omega)
        have m9 := m8_9.tr (fin_mvr (lo := zsz M) (τ := τ9) (M := M9))
        have hb : nS (zsz M) (zsz M9) (fin (zsz M) τ9) (zsz M6) := fin_1 ob.1 (by omega) ((ag9 _ ob.2.1).trans ob.2.2)
        refine ⟨a, R9.ps.pt, ?_⟩
        obtain ⟨τ10, R10, ag10, on10, m910⟩ := R9.fx 0 (x := zsz M6) ⟨ob.1, by omega, (ag9 _ ob.2.1).trans ob.2.2⟩ (.inl rfl)
        have m10 := m8_9.tr m910
        have x1 := (x1.mv ((k16.mvr.tr m67).tr (k8.mvr.tr m10)) z190 (Nat.le_refl _)).up (C' := fun b => zsz M ≤ b ∧ b < zsz M9) (fun b y => ⟨by omega, by omega⟩) (Nat.le_refl _) (Nat.le_refl _) (Nat.le_refl _) (Nat.le_refl _) (Nat.le_refl _)
        obtain ⟨-, D8, o8, n8', h8, y8, ⟨u1', u2', u3', u4', u5'⟩, x8⟩ := n8
        have x8 := (x8.mv (lo' := zsz M) m10 (by omega) (by omega)).up (C' := fun b => zsz M ≤ b ∧ b < zsz M9) (fun b y => ⟨by omega, by omega⟩) (Nat.le_refl _) (Nat.le_refl _) (Nat.le_refl _) (Nat.le_refl _) (Nat.le_refl _)
        dsimp only at u1' u2' u3'
        have l8 := u8.2.1
        dsimp only at l8
        obtain ⟨q1, q2, q3, q4, q5⟩ := sz1
        have p1 := pos_le R10.ps.tz (t := s.1) (t' := s1.1) (by omega) (by omega)
        have p5 := pos_le R10.ps.tz (t := s1.1) (t' := s5.1 + 1) (by omega) (by omega)
        have p8 := pos_le R10.ps.tz (t := s5.1 + 1) (t' := s8.1) (by omega) (Nat.le_refl _)
        exact fint M9 τ10 fs8 s8 _ _ (zsz M6) 43 _ _ _ _ _ (gTrC v1 x v8) true R10 (by omega) (by omega) ⟨by omega, by omega⟩ (by omega) ⟨by omega, by omega, by omega, Nat.zero_le _, Nat.zero_le _⟩ (sn_TryC ⟨ob.1, by omega, on10⟩ g9_0 g9_1 g9_2 hx4.1 x1 u1.2.2 ⟨q4, q5⟩ x8 u8.2.2 ⟨u4', u5'⟩) (gokT_TrC u1.2.2 u8.2.2) (pe6.trans (bnd_ok e8)) (.inr rfl)
    · rw [if_neg h6]
      exact flt_ (by rw [e]; simpa using h6)
  · rw [if_neg h5]
    exact flt_ (by rw [show isS (zOf n c dg) 24 s = false from tk_ns (dg := dg) (j := 24) h.tz h5 (by decide)]; decide)
end
