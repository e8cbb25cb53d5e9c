/-! THE COMPONENT's PARSER: block, inRound, looped -/
section
variable {E : zE} {pp a lf n : Nat} {c : Nat → Int32} {dg : Int32 → List Int32} {K o : Nat}
theorem ar_b1 {x y z : Nat} (h : x ≤ y) (hz : y < z) : (5 * (y - x) + 3) / 4 ≤ (5 * (z - x) + 3) / 4 := by omega
theorem ar_b2 {D x y z : Nat} (hD : 4 * D ≤ 5 * (z - y) + 3) (h : x ≤ y) (hz : y < z) : D ≤ (5 * (z - x) + 3) / 4 := by omega
theorem ar_b3 {A o m P1 P2 P3 : Nat} (h : A ≤ 2500 * (P2 - P1)) (h' : m + 2 * o ≤ 2500 * (P3 - P2)) (h1 : P1 ≤ P2) (h2 : P2 ≤ P3) : A + (m + 2 * o) ≤ 2500 * (P3 - P1) := by omega
/-- statements up to a stop -/
theorem stms_st {r : pT} {C : pC} {stop : pS → Bool} {f : Nat} {acc : gSt} {s : pS} (h : ¬ stop s = true) : pStms r C stop (f + 1) acc s = bnd (r.stmt C s) fun y s => pStms r C stop f (gSq acc y) s := by
  rw [pStms]; rw [if_neg h]
theorem y_blk {r : pT} {dS dm : Nat} (hS : cSm E pp a lf n c YX9_statement [] dS o r.stmt) (hr : okT r) (hK : 1300 ≤ K) (hdm : dS + 1 ≤ dm ∧ 30 ≤ dm) : cSx E pp a lf n c YX9_block [] dm o (fun _ _ => True) (szG n c 3 0 0 0) (pBlk (zOf n c dg) K r) := by
  intro d Q M τ fs s C hd _ h hy hn
  obtain ⟨d, rfl⟩ : ∃ d', d = d' + 15 := ⟨d - 15, by omega⟩
  have R := rk_st h C.1
  have z190 := h.z190
  have pe0 : pBlk (zOf n c dg) K r C s = bnd (nedS (zOf n c dg) 24 s) fun _ s => bnd (pStms r C (isS (zOf n c dg) 25) K gNo s) fun y s => bnd (nxt' (zOf n c dg) s) fun _ s => prt y s := rfl
  refine sX9_block_0 M pp ⟨a, h.pt, ?_⟩
  refine R.need (dg := dg) (j := 24) (by decide) (by decide +kernel) (by omega) (fun e1 M1 R1 k1 => ?_) (fun w e q M' er => ZT.out (nohand rfl) (hn w (pe0.trans (bnd_er e)) _ M' er))
  show Z E YX9_block (d + 14 + 1) M1 [(0, vr (some (pp, 8, 0)))] 8 [] Q
  have z1 := R1.z0
  refine iX9_block_8 (d := d + 10) M1 pp ⟨by show 16 ≤ zsz M1 + 1; omega, by omega, ?_⟩
  obtain ⟨τ2, R2, W2, l2, ag2, m12, -⟩ := R1.bnew (cz' := 118) (cu' := 2396) (by omega) (by omega)
  generalize sr (sr (si (zn (zn M1 1) 3) (zsz (zn M1 1)) 0 (0 : Int32)) (zsz (zn M1 1)) 1 (some (1, 110, 0))) (zsz M1) 0 (some ((zsz (zn M1 1)), 11, 0)) = M2 at *
  generalize zsz M1 = b at *
  have e25 : sgX (nI 25) = 1 := by decide +kernel
  have loop : ∀ (f : Nat) (M2 : zM) (τ2 : Nat → Nat) (fs2 : List Nat) (s2 : pS) (cz cu l : Nat) (es : List (Option zP)) (gs : gBs), 1300 ≤ f + s2.1 → s.1 + 1 ≤ s2.1 → rk pp a lf n c M τ fs s (geN s.2.2.length) C o M2 τ2 fs2 s2 cz cu → wB (zsz M) M2 τ2 b l es → wTs (zsz M) M2 τ2 C.2 ((5 * (s2.1 - (s.1 + 1)) + 3) / 4) es gs → sN gs + 2 * sO gs ≤ 2500 * ((tkn n c s2.1).2.2.1 - (tkn n c (s.1 + 1)).2.2.1) → sK gs + 2 * sH gs ≤ 3 * (s2.1 - (s.1 + 1)) → 118 ≤ cz → 2396 + 100 * es.length ≤ cu + 4 * lC M2 l → es.length ≤ s2.1 →
      (pBlk (zOf n c dg) K r C s = bnd (pStms r C (isS (zOf n c dg) 25) f (gBl gs) s2) fun y s => bnd (nxt' (zOf n c dg) s) fun _ s => prt y s) → Z E YX9_block (d + 14 + 1) M2 [(0, vr (some (pp, 8, 0))), (1, vr (some (b, 20, 0)))] 16 [] Q := by
    intro f
    induction f with
    | zero => intro M2 τ2 fs2 s2 cz cu l es gs hf _ R2 _ _ _ _ _ _ _ _; have := R2.ps.tz.t_le; omega
    | succ f ih =>
      intro M2 τ2 fs2 s2 cz cu l es gs hf hs2 R2 W2 T2 hN hK' hz hu hl pe
      have tl := R2.ps.tz.t_le
      have lc := lC_le W2.2.2.2.1
      refine iX9_block_16 M2 pp b ⟨a, R2.ps.pt, ?_⟩
      by_cases hs : isS (zOf n c dg) 25 s2 = true
      · have h5 := (y_isS (j := 25) (by decide) dg R2.ps.tz).mpr hs
        rw [if_pos h5.1, if_pos (h5.2.trans e25)]
        have ps : pStms r C (isS (zOf n c dg) 25) (f + 1) (gBl gs) s2 = prt (gBl gs) s2 := by rw [pStms]; rw [if_pos hs]
        have pe2 : pBlk (zOf n c dg) K r C s = bnd (nxt' (zOf n c dg) s2) fun _ s => prt (gBl gs) s := pe.trans (bnd_ok ps)
        refine R2.nxt (dg := dg) (.inl (isS_k hs)) (by omega) (fun e3 M3 R3 k3 => ?_) (fun w e q M' er => ZT.out (nohand rfl) (hn w (pe2.trans (bnd_er e)) _ M' er))
        show Z E YX9_block (d + 14 + 1) M3 [(1, vr (some (b, 20, 0)))] 49 [] Q
        refine sX9_block_49 M3 b ?_
        have W3 := W2.k k3 z190
        have T3 := (T2.mv k3.mvr z190 (Nat.le_refl _)).mv (fin_mvr (lo := zsz M)) z190 (Nat.le_refl _)
        have le := T2.le
        have p1 := pos_le R3.ps.tz (t := s.1) (t' := s.1 + 1) (by omega) (by dsimp only; omega)
        have p2 := pos_le R3.ps.tz (t := s.1 + 1) (t' := s2.1) hs2 (by dsimp only; omega)
        have p3 := pos_le R3.ps.tz (t := s2.1) (t' := s2.1 + 1) (by omega) (Nat.le_refl _)
        refine hy (gBl gs) (s2.1 + 1, s2.2) (pe2.trans ((bnd_ok e3).trans rfl)) M3 _ fs2 _ (R3.nd (by omega) (by omega)) ⟨⟨rfl, by show 20 ≤ 20; decide, by show 20 ≤ 44; decide⟩, _, _, _, _, _, ⟨?_, ?_, ?_, le⟩, W3.1.nl T3⟩
        · dsimp only; omega
        · dsimp only; omega
        · dsimp only; omega
      · have key : Z E YX9_statement (d + 14) M2 (zargs 0 [vr (some (pp, 8, 0))]) 0 [] (zafter E YX9_block (d + 14 + 1) [(0, vr (some (pp, 8, 0))), (1, vr (some (b, 20, 0)))] 32 3 [vr (gr M2 b 0)] Q) := by
          rw [W2.2.2.1]
          have ps := stms_st (r := r) (C := C) (stop := isS (zOf n c dg) 25) (f := f) (acc := gBl gs) (s := s2) hs
          refine R2.stm hS.x (by omega) trivial (by omega) (by omega) rfl (hr.stmt C s2) (fun v s' z => z.1) (fun v4 s4 e4 o4 M4 τ4 fs4 b4 t4 R4 k4 n4 => ?_) (fun w e q M' er => ZT.out (nohand rfl) (hn w (pe.trans (bnd_er (ps.trans (bnd_er e)))) _ M' er))
          show Z E YX9_block (d + 14 + 1) M4 [(0, vr (some (pp, 8, 0))), (1, vr (some (b, 20, 0)))] 35 [vr (some (b4, t4, 0)), vr (some (l, 11, 0))] Q
          refine sX9_block_35 M4 pp b _ _ ⟨l, rfl, ?_⟩
          have W4 := W2.k k4 z190
          have l4 := o4.2.1
          obtain ⟨n1, D4, o5, m5, h5, k5, n2, n3⟩ := n4
          refine R4.badd (cz' := 118) W4.1 (by omega) (sto_n n1.2.1 n1.2.2) (by omega) (by omega) (by omega) (fun M5 τ5 cu5 R5 u5 W5 m45 ag5 f5 => ?_)
          show Z E YX9_block (d + 14 + 1) M5 [(0, vr (some (pp, 8, 0))), (1, vr (some (b, 20, 0)))] 38 [vi 1] Q
          refine sX9_block_38 M5 pp b _ ?_
          have z4 := R2.z0
          have zz := m45.1.1.1
          have T5 := ((T2.mv k4.mvr z190 (Nat.le_refl _)).mv m45 z190 (ar_b1 hs2 l4)).app (p := (b4, t4, 0)) (q := ((o5, m5, h5, k5), v4)) ⟨n2.2.2.2.1, n2.2.2.2.2⟩ ((n3.mv m45 R2.ps.z190 z4.2).up (fun b y => ⟨by omega, by omega⟩) (ar_b2 n2.1 hs2 l4) (Nat.le_refl _) (Nat.le_refl _) (Nat.le_refl _) (Nat.le_refl _))
          have sa := sO_app gs ((o5, m5, h5, k5), v4)
          dsimp only at sa
          have p2 := pos_le R4.ps.tz (t := s.1 + 1) (t' := s2.1) hs2 (by omega)
          have p3 := pos_le R4.ps.tz (t := s2.1) (t' := s4.1) (by omega) (Nat.le_refl _)
          refine ih M5 τ5 fs4 s4 118 cu5 l _ (gs ++ [((o5, m5, h5, k5), v4)]) (by omega) (by omega) R5 W5 T5 ?_ ?_ (Nat.le_refl _) ?_ ?_ (pe.trans ?_)
          · have := ar_b3 hN n2.2.1 (by omega) (by omega)
            omega
          · have := n2.2.2.1
            omega
          · rw [List.length_append]
            show 2396 + 100 * (es.length + 1) ≤ _
            have := W4.2
            omega
          · rw [List.length_append]
            show es.length + 1 ≤ _
            omega
          · rw [gBl_app, ps, bnd_ok e4]
        by_cases h3 : gi M2 a 3 = 5
        · rw [if_pos h3, if_neg (fun z => hs ((y_isS (j := 25) (by decide) dg R2.ps.tz).mp ⟨h3, z.trans e25.symm⟩))]
          exact key
        · rw [if_neg h3]
          exact key
  exact loop K M2 τ2 fs _ 118 2396 _ [] [] (by dsimp only; omega) (Nat.le_refl _) R2 W2 ⟨rfl, fun i q hq => by cases hq⟩ (Nat.zero_le _) (Nat.zero_le _) (Nat.le_refl _) (by rw [l2]; show 2396 + 100 * 0 ≤ _; omega) (Nat.zero_le _) (pe0.trans (bnd_ok e1))
/-- ( expression ) -/
theorem y_rnd {r : pT} {dE dm DE : Nat} (hE : cVm E pp a lf n c YX9_expression [(1, vi 1)] dE o DE (r.expr true)) (hr : okT r) (hdm : dE + 1 ≤ dm ∧ 30 ≤ dm) : cVx E pp a lf n c 20 400 YX9_inRound [] dm o DE (pRnd (zOf n c dg) r) := by
  intro d Q M τ fs s C hd h hy hn
  obtain ⟨d, rfl⟩ : ∃ d', d = d' + 15 := ⟨d - 15, by omega⟩
  have R := rk_st h C.1
  have z190 := h.z190
  have pe0 : pRnd (zOf n c dg) r C s = bnd (nedS (zOf n c dg) 26 s) fun _ s => bnd (r.expr true C s) fun e s => bnd (nedS (zOf n c dg) 27 s) fun _ s => prt e s := rfl
  refine sX9_inRound_0 M pp ⟨a, h.pt, ?_⟩
  refine R.needg (tz := 20) (tu := 400) (dg := dg) (j := 26) (by decide) (by decide +kernel) (by omega) (by omega) (by omega) (fun e1 M1 R1 k1 => ?_) (fun w e q M' er => ZT.out (nohand rfl) (hn w (pe0.trans (bnd_er e)) _ M' er))
  show Z E YX9_inRound (d + 14 + 1) M1 [(0, vr (some (pp, 8, 0)))] 8 [] Q
  refine sX9_inRound_8 M1 pp ?_
  have pe1 := pe0.trans (bnd_ok e1)
  refine R1.valg (tz := 20) (tu := 400) hE.x (by omega) (by omega) (by omega) rfl (hr.expr true C _) (fun v s' z => z.1) (fun v2 s2 e2 o2 M2 τ2 fs2 b2 t2 R2 k2 vn2 => ?_) (fun w e q M' er => ZT.out (nohand rfl) (hn w (pe1.trans (bnd_er e)) _ M' er))
  show Z E YX9_inRound (d + 14 + 1) M2 [(0, vr (some (pp, 8, 0)))] 13 [vr (some (b2, t2, 0))] Q
  refine sX9_inRound_13 M2 pp _ ⟨a, R2.ps.pt, ?_⟩
  have pe2 := pe1.trans (bnd_ok e2)
  refine R2.needg (tz := 20) (tu := 400) (dg := dg) (j := 27) (by decide) (by decide +kernel) (by omega) (by omega) (by omega) (fun e3 M3 R3 k3 => ?_) (fun w e q M' er => ZT.out (nohand rfl) (hn w (pe2.trans (bnd_er e)) _ M' er))
  show Z E YX9_inRound (d + 14 + 1) M3 [(1, vr (some (b2, t2, 0)))] 22 [] Q
  refine sX9_inRound_22 M3 _ ?_
  exact hy v2 _ (pe2.trans ((bnd_ok e3).trans rfl)) M3 _ fs2 _ (R3.ndg (by omega) (by omega)) (vn2.mv (k3.mvr.tr (fin_mvr (lo := zsz M))) z190 (Nat.le_refl _) (Nat.le_refl _))
/-- a loop's body -/
def cLp (E : zE) (pp a lf n : Nat) (c : Nat → Int32) (dm o : Nat) (r : pT) : Prop :=
    ∀ (d : Nat) (Q : zO → zM → Prop) (M : zM) (τ : Nat → Nat) (fs : List Nat) (s : pS) (C : pC), dm ≤ d → C.2.1 + C.2.2 < o → xPs M τ pp a lf n c fs s C o →
    (∀ v s', pLpd r C s = .ok (v, s') → ∀ M' τ' fs' p, pEnd pp a lf n c 9 199 M τ fs s C o M' τ' fs' s' → sNg (szT n c s s') (zsz M) M' τ' (C.2.1 + 1, C.2.2) p v → Q (.inl (some (vr (some p)))) M') →
    (∀ w, pLpd r C s = .error w → ∀ ou M', pEr lf 9 199 τ fs M s w ou M' → Q ou M') → Z E YX9_looped d M [(0, vr (some (pp, 8, 0)))] 0 [] Q
theorem y_lpd {r : pT} {dS dm : Nat} (hS : cSm E pp a lf n c YX9_statement [] dS o r.stmt) (hr : okT r) (hdm : dS + 1 ≤ dm ∧ 30 ≤ dm) : cLp E pp a lf n c dm o r := by
  intro d Q M τ fs s C hd hC h hy hn
  obtain ⟨d, rfl⟩ : ∃ d', d = d' + 15 := ⟨d - 15, by omega⟩
  have R := rk_st h C.1
  have z190 := h.z190
  have pz := h.pz
  have o20 := h.op.2
  refine sX9_looped_0 M pp ⟨by omega, ?_⟩
  obtain ⟨⟨g1, g2, g3⟩, ⟨g4, g4'⟩, g5, g6, g7⟩ := h.2.2.1
  have f1 : fr (fun x k => x = pp ∧ 3 ≤ k) M (si M pp 5 (gi M pp 5 + 1)) := fr.si ⟨rfl, by decide⟩
  have R1 : rk pp a lf n c M τ fs s (geN s.2.2.length) (C.1, C.2.1 + 1, C.2.2) o (si M pp 5 (gi M pp 5 + 1)) τ fs s 100 2000 := R.own f1 ⟨⟨g1, g2, g3⟩, ⟨(gi_idx (by decide)).trans g4, g4'⟩, by rw [gi_self, g5]; exact nn_add C.2.1 1, (gi_idx (by decide)).trans g6, by dsimp only; omega⟩
  have k1 : kp τ M τ (si M pp 5 (gi M pp 5 + 1)) := own_kp h f1 (fun _ _ z => z.1)
  generalize si M pp 5 (gi M pp 5 + 1) = M1 at *
  refine R1.stm hS.x (by omega) trivial (by omega) (by omega) rfl (hr.stmt (C.1, C.2.1 + 1, C.2.2) s) (fun v s' z => z.1) (fun v2 s2 e2 o2 M2 τ2 fs2 b2 t2 R2 k2 n2 => ?_) (fun w e q M' er => ZT.out (nohand rfl) (hn w e _ M' er))
  show Z E YX9_looped (d + 14 + 1) M2 [(0, vr (some (pp, 8, 0)))] 14 [vr (some (b2, t2, 0))] Q
  refine sX9_looped_14 M2 pp _ ⟨by omega, ?_⟩
  obtain ⟨⟨u1, u2, u3⟩, ⟨u4, u4'⟩, u5, u6, u7⟩ := R2.ps.2.2.1
  have f3 : fr (fun x k => x = pp ∧ 3 ≤ k) M2 (si M2 pp 5 (gi M2 pp 5 - 1)) := fr.si ⟨rfl, by decide⟩
  have R3 : rk pp a lf n c M τ fs s (geN s.2.2.length) C o (si M2 pp 5 (gi M2 pp 5 - 1)) τ2 fs2 s2 109 2199 := R2.own f3 ⟨⟨u1, u2, u3⟩, ⟨(gi_idx (by decide)).trans u4, u4'⟩, by rw [gi_self, u5]; exact nn_sub (a := C.2.1 + 1) (b := 1) (by omega), (gi_idx (by decide)).trans u6, by omega⟩
  have k3 : kp τ2 M2 τ2 (si M2 pp 5 (gi M2 pp 5 - 1)) := own_kp R2.ps f3 (fun _ _ z => z.1)
  have z1 := k1.z
  have z3 : zsz (si M2 pp 5 (gi M2 pp 5 - 1)) = zsz M2 := rfl
  generalize si M2 pp 5 (gi M2 pp 5 - 1) = M3 at *
  obtain ⟨n1, D4, o5, m5, h5, k5, n2, n3⟩ := n2
  refine hy v2 s2 e2 M3 _ fs2 _ (R3.nd (by omega) (by omega)) ⟨n1, _, _, _, _, _, n2, (n3.mv (k3.mvr.tr (fin_mvr (lo := zsz M))) (by omega) z1).up (fun b y => ⟨by omega, by omega⟩) (Nat.le_refl _) (Nat.le_refl _) (Nat.le_refl _) (Nat.le_refl _) (Nat.le_refl _)⟩
theorem rk.lpd {d dm : Nat} {Q : zO → zM → Prop} {M0 M : zM} {τ0 τ : Nat → Nat} {fs0 fs : List Nat} {s0 s : pS} {c0 : Nat → Prop} {C : pC} {cz cu : Nat} {r : pT} (R : rk pp a lf n c M0 τ0 fs0 s0 c0 C o M τ fs s cz cu) (hV : cLp E pp a lf n c dm o r) (hr : okT r) (hd : dm ≤ d) (hH : C.2.1 + C.2.2 < o) (h1 : 100 ≤ cz) (h2 : 2000 ≤ cu) (hc : C.1 = C.1)
    (hy : ∀ v s', pLpd r C s = .ok (v, s') → rS C s v s' → ∀ M' τ' fs' b t, rk pp a lf n c M0 τ0 fs0 s0 c0 C o M' τ' fs' s' (cz + 9) (cu + 199) → kp τ M τ' M' → sNg (szT n c s s') (zsz M) M' τ' (C.2.1 + 1, C.2.2) (b, t, 0) v → Q (.inl (some (vr (some (b, t, 0))))) M')
    (hn : ∀ w, pLpd r C s = .error w → ∀ q M', pEr lf 9 199 τ0 fs0 M0 s0 w (.inr (q, 12, 0)) M' → Q (.inr (q, 12, 0)) M') : Z E YX9_looped d M [(0, vr (some (pp, 8, 0)))] 0 [] Q := by
  refine hV d Q M τ fs s C hd hH R.ps (fun v s' e M' τ' fs' p pe vn => ?_) (fun w e ou M' pe => ?_)
  · have z : rS C s v s' := ok_lpd hr s v s' e
    obtain ⟨b, t, k⟩ := p
    have k0 : k = 0 := vn.1.1
    subst k0
    exact hy v s' e z M' τ' fs' b t (R.cl pe z.1) pe.kp vn
  · obtain ⟨q, rfl⟩ := fO_inr pe.1
    exact hn w e q M' (R.er pe (by omega) (by omega))
end
