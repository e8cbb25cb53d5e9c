/-! THE COMPONENT's PARSER: for -/
/-- a for's beginning, test, step -/
def fBg (lo : Nat) (M : zM) (τ : Nat → Nat) (cc : Nat × Nat) (r1 : Option zP) (i : gSt) (D o m h k : Nat) : Prop := (i = gNo ∧ r1 = none) ∨ ∃ p0, r1 = some p0 ∧ sNd (nS lo (zsz M) τ) (nW lo (zsz M) τ) M cc (fun b => lo ≤ b ∧ b < zsz M) D o m h k p0 i
def fTs (lo : Nat) (M : zM) (τ : Nat → Nat) (D : Nat) (r2 : Option zP) (xo : Option gEx) (ox : Nat) : Prop := (xo = none ∧ r2 = none) ∨ ∃ p1 x, xo = some x ∧ r2 = some p1 ∧ xE (nS lo (zsz M) τ) M D p1 x ∧ gE ox x
def fSt (lo : Nat) (M : zM) (τ : Nat → Nat) (D : Nat) (r3 : Option zP) (z : gSt) (oz : Nat) : Prop := (z = gNo ∧ r3 = none) ∨ ∃ bz pz zx, z = gPl zx ∧ r3 = some (bz, 21, 0) ∧ nS lo (zsz M) τ bz ∧ gr M bz 0 = some pz ∧ xE (nS lo (zsz M) τ) M D pz zx ∧ gE oz zx
section
variable {M M' : zM} {τ τ' : Nat → Nat} {lo D o m h k ox : Nat} {cc : Nat × Nat} {r1 : Option zP} {i : gSt} {xo : Option gEx}
theorem fBg.mv (x : fBg lo M τ cc r1 i D o m h k) (mv : mvr τ M τ' M') (hl : 190 ≤ lo) : fBg lo M' τ' cc r1 i D o m h k := x.imp id fun ⟨p0, z1, z2⟩ => ⟨p0, z1, (z2.mv mv hl (Nat.le_refl _)).up (fun b y => ⟨y.1, by have := mv.1.1.1; omega⟩) (Nat.le_refl _) (Nat.le_refl _) (Nat.le_refl _) (Nat.le_refl _) (Nat.le_refl _)⟩
theorem fTs.mv (x : fTs lo M τ D r1 xo ox) (mv : mvr τ M τ' M') (hl : 190 ≤ lo) : fTs lo M' τ' D r1 xo ox := x.imp id fun ⟨p1, x, z1, z2, z3, z4⟩ => ⟨p1, x, z1, z2, xE_mono z3 (fun x z => mv.sub (Nat.le_refl _) (Nat.le_refl _) x z) (nS_190 hl) (mv.agS hl (Nat.le_refl _)) (Nat.le_refl _), z4⟩
theorem fSt.mv (x : fSt lo M τ D r1 i ox) (mv : mvr τ M τ' M') (hl : 190 ≤ lo) : fSt lo M' τ' D r1 i ox := x.imp id fun ⟨bz, pz, zx, z1, z2, z3, z4, z5, z6⟩ => ⟨bz, pz, zx, z1, z2, mv.sub (Nat.le_refl _) (Nat.le_refl _) _ z3, ((mv.agS hl (Nat.le_refl _)) bz 0 z3).2.trans z4, xE_mono z5 (fun x z => mv.sub (Nat.le_refl _) (Nat.le_refl _) x z) (nS_190 hl) (mv.agS hl (Nat.le_refl _)) (Nat.le_refl _), z6⟩
end
section
variable {E : zE} {pp a lf n : Nat} {c : Nat → Int32} {dg : Int32 → List Int32} {K o dS dE DE dm : Nat} {r : pT}
/-- for in -/
theorem y_each {x : Nat} (hN : cNx E pp a lf n c dS dE DE o r) (hdm : dS + 2 ≤ dm ∧ dE + 2 ≤ dm ∧ 32 ≤ dm) : cSx E pp a lf n c YX9_each [(1, vi (nI x))] dm o (fun C s => C.2.1 + C.2.2 < o ∧ isK (zOf n c dg) 13 s = true ∧ x < 100000) (szG n c 0 4 0 0) (fun C s => pEach (zOf n c dg) r C x s) := by
  obtain ⟨hr, hS, hE, hW, hDE⟩ := hN
  intro d Q M τ fs s C hd hH h hy hn
  obtain ⟨d, rfl⟩ : ∃ d', d = d' + 15 := ⟨d - 15, by omega⟩
  have R := rk_st h C.1
  have z190 := h.z190
  have pe0 : pEach (zOf n c dg) r C x s = bnd (nxt' (zOf n c dg) s) fun _ s => bnd (r.expr true C s) fun e s => bnd (nedS (zOf n c dg) 27 s) fun _ s => bnd (pLpd r C s) fun y s => prt (gEa x e.1 y) s := rfl
  refine sX9_each_0 M pp _ ⟨a, h.pt, ?_⟩
  refine R.nxt (dg := dg) (.inr (isK_k hH.2.1).1) (by omega) (fun e1 M1 R1 k1 => ?_) (fun w e q M' er => ZT.out (nohand rfl) (hn w (pe0.trans (bnd_er e)) _ M' er))
  show Z E YX9_each (d + 14 + 1) M1 [(0, vr (some (pp, 8, 0))), (1, vi (nI x))] 7 [] Q
  refine sX9_each_7 M1 pp _ ?_
  have pe1 := pe0.trans (bnd_ok e1)
  refine R1.val (hE true).x (by omega) (by omega) (by omega) rfl (hr.expr true C _) (fun v s' z => z.1) (fun v2 s2 e2 o2 M2 τ2 fs2 b2 t2 R2 k2 n2 => ?_) (fun w e q M' er => ZT.out (nohand rfl) (hn w (pe1.trans (bnd_er e)) _ M' er))
  show Z E YX9_each (d + 14 + 1) M2 [(0, vr (some (pp, 8, 0))), (1, vi (nI x))] 12 [vr (some (b2, t2, 0))] Q
  refine sX9_each_12 M2 pp _ _ ⟨a, R2.ps.pt, ?_⟩
  have pe2 := pe1.trans (bnd_ok e2)
  refine R2.need (dg := dg) (j := 27) (by decide) (by decide +kernel) (by omega) (fun e3 M3 R3 k3 => ?_) (fun w e q M' er => ZT.out (nohand rfl) (hn w (pe2.trans (bnd_er e)) _ M' er))
  show Z E YX9_each (d + 14 + 1) M3 [(0, vr (some (pp, 8, 0))), (1, vi (nI x)), (2, vr (some (b2, t2, 0)))] 21 [] Q
  refine iX9_each_21 M3 pp _ _ ?_
  have pe3 := pe2.trans (bnd_ok e3)
  have z3 := R3.z0
  obtain ⟨τ4, R4, ag4, on4, m34⟩ := R3.lc (M' := zn M3 3) (v := 1) (w := 3) (cz' := 149) (cu' := 2997) fg.zn (Nat.le_refl _) (Nat.le_refl _) (by omega) (by omega)
  have sz4 : zsz (zn M3 3) = zsz M3 + 1 := rfl
  generalize zn M3 3 = M4 at *
  refine R4.lpd (y_lpd (dm := dm - 1) hS hr (by omega)) hr (by omega) hH.1 (by omega) (by omega) rfl (fun v5 s5 e5 u5 M5 τ5 fs5 b5 t5 R5 k5 n5 => ?_) (fun w e q M' er => ZT.out (nohand rfl) (hn w (pe3.trans (bnd_er e)) _ M' er))
  show Z E YX9_each (d + 14 + 1) M5 [] 31 [vr (some (b5, t5, 0)), vr (some (b2, t2, 0)), vi (nI x), vr (some (zsz M3, 39, 0)), vr (some (zsz M3, 39, 0))] Q
  refine iX9_each_31 (d := d + 12) M5 _ _ _ _ _ ⟨by omega, ?_⟩
  have z5 := k5.z
  have ob : zsz M ≤ zsz M3 ∧ zsz M3 < zsz M5 ∧ τ5 (zsz M3) = 1 := k5.ow ⟨z3.2, by omega, on4 _ (Nat.le_refl _) (by omega)⟩
  have f6 : fg (fun x _ => zsz M ≤ x ∧ τ5 x = 1) M5 (sr (sr (si M5 (zsz M3) 0 (nI x)) (zsz M3) 1 (some (b2, t2, 0))) (zsz M3) 2 (some (b5, t5, 0))) := (((fr.si ⟨ob.1, ob.2.2⟩).tr (fr.sr ⟨ob.1, ob.2.2⟩)).tr (fr.sr ⟨ob.1, ob.2.2⟩)).fg
  have g6_0 : gi (sr (sr (si M5 (zsz M3) 0 (nI x)) (zsz M3) 1 (some (b2, t2, 0))) (zsz M3) 2 (some (b5, t5, 0))) (zsz M3) 0 = (nI x) := by simp only [gi_si, gi_sr]; simp
  have g6_1 : gr (sr (sr (si M5 (zsz M3) 0 (nI x)) (zsz M3) 1 (some (b2, t2, 0))) (zsz M3) 2 (some (b5, t5, 0))) (zsz M3) 1 = (some (b2, t2, 0)) := by simp only [gr_si, gr_sr]; simp
  have g6_2 : gr (sr (sr (si M5 (zsz M3) 0 (nI x)) (zsz M3) 1 (some (b2, t2, 0))) (zsz M3) 2 (some (b5, t5, 0))) (zsz M3) 2 = (some (b5, t5, 0)) := by simp only [gr_si, gr_sr]; simp
  have sz6 : zsz (sr (sr (si M5 (zsz M3) 0 (nI x)) (zsz M3) 1 (some (b2, t2, 0))) (zsz M3) 2 (some (b5, t5, 0))) = zsz M5 := rfl
  have su6 : zsu (sr (sr (si M5 (zsz M3) 0 (nI x)) (zsz M3) 1 (some (b2, t2, 0))) (zsz M3) 2 (some (b5, t5, 0))) = zsu M5 := rfl
  generalize sr (sr (si M5 (zsz M3) 0 (nI x)) (zsz M3) 1 (some (b2, t2, 0))) (zsz M3) 2 (some (b5, t5, 0)) = M6 at *
  obtain ⟨τ6, R6, ag6, on6, m5_6⟩ := R5.lc (v := 0) (w := 0) (cz' := 150) (cu' := 3100) f6 (by omega) (by omega) (by omega) (by omega)
  have m6 := m5_6.tr (fin_mvr (lo := zsz M) (τ := τ6) (M := M6))
  have hb : nS (zsz M) (zsz M6) (fin (zsz M) τ6) (zsz M3) := fin_1 ob.1 (by omega) ((ag6 _ ob.2.1).trans ob.2.2)
  have x2 := n2.mv (((k3.mvr.tr m34).tr k5.mvr).tr m6) z190 (Nat.le_refl _) (Nat.le_refl _)
  obtain ⟨-, D5, o5, n5', h5, y5, ⟨q51, q52, q53, q54, q55⟩, q5⟩ := n5
  have x5 := (q5.mv m6 (by omega) (show zsz M ≤ zsz M4 by omega)).up (C' := fun b => zsz M ≤ b ∧ b < zsz M6) (fun b y => ⟨by omega, by omega⟩) (Nat.le_refl _) (Nat.le_refl _) (Nat.le_refl _) (Nat.le_refl _) (Nat.le_refl _)
  have l2 := o2.2.1
  have l5 := u5.2.1
  dsimp only at l2 l5 q51 q52 q53
  have p2 := pos_le R6.ps.tz (t := s.1) (t' := s2.1 + 1) (by omega) (by omega)
  have p5 := pos_le R6.ps.tz (t := s2.1 + 1) (t' := s5.1) (by omega) (Nat.le_refl _)
  refine hy (gEa x v2.1 v5) s5 (pe3.trans ((bnd_ok e5).trans rfl)) M6 _ fs5 (zsz M3, 39, 0) (R6.nd (by omega) (by omega)) ⟨⟨rfl, by show 20 ≤ 39; decide, by show 39 ≤ 44; decide⟩, _, _, _, _, _, ⟨?_, ?_, ?_, ?_, q55⟩, sn_Each hb g6_0 hH.2.2 g6_1 g6_2 x2.2.1 o2.2.2.1 x5 u5.2.2 ⟨q54, q55⟩ (by omega)⟩
  · omega
  · dsimp only
    omega
  · omega
  · omega
theorem y_fo4 {d : Nat} {Q : zO → zM → Prop} {M M1 : zM} {τ τ1 : Nat → Nat} {fs fs1 : List Nat} {s s1 : pS} {C : pC} {cz cu : Nat} {pF : pR gSt} {r1 r2 r3 : Option zP} {i z : gSt} {xo : Option gEx} {Di oi ni hi ki ox oz : Nat} (hN : cNx E pp a lf n c dS dE DE o r) (hdm : dS + 1 ≤ d + 14 ∧ 30 ≤ d + 14) (R1 : rk pp a lf n c M τ fs s (geN s.2.2.length) C o M1 τ1 fs1 s1 cz cu) (hz : 110 ≤ cz) (hu : 2200 ≤ cu) (B : fBg (zsz M) M1 τ1 C.2 r1 i Di oi ni hi ki) (T : fTs (zsz M) M1 τ1 DE r2 xo ox) (S : fSt (zsz M) M1 τ1 DE r3 z oz) (gi' : gokT i) (goi : oi ≤ ni ∧ hi ≤ ki) (hC : C.2.1 + C.2.2 < o) (l1 : s.1 + 3 ≤ s1.1) (d1 : 4 * Di ≤ 5 * (s1.1 - s.1) + 3) (d2 : ni + 2 * oi + 3 * ox + 3 * oz + 9 ≤ 2500 * ((tkn n c s1.1).2.2.1 - (tkn n c s.1).2.2.1)) (d3 : ki + 2 * hi ≤ 3 * (s1.1 - s.1)) (pe1 : pF = bnd (nedS (zOf n c dg) 27 s1) fun _ s => bnd (pLpd r C s) fun y s => prt (gFor i xo z y) s)
    (hy : ∀ v s', pF = .ok (v, s') → ∀ M' τ' fs' p, pEnd pp a lf n c 9 199 M τ fs s C o M' τ' fs' s' → sNg (szG n c 0 3 0 0 s s') (zsz M) M' τ' C.2 p v → Q (.inl (some (vr (some p)))) M') (hn : ∀ w, pF = .error w → ∀ ou M', pEr lf 9 199 τ fs M s w ou M' → Q ou M') : Z E YX10_need (d + 14) M1 (zargs 0 [vr (some (a, 9, 0)), vi 3]) 0 [] (zafter E YX9_loop (d + 14 + 1) [(0, vr (some (pp, 8, 0))), (1, vr r1), (2, vr r2), (3, vr r3)] 225 3 [] Q) := by
  obtain ⟨hr, hS, hE, hW, hDE⟩ := hN
  have z190 := R1.z0.1
  refine R1.need (dg := dg) (j := 27) (by decide) (by decide +kernel) (by omega) (fun e2 M2 R2 k2 => ?_) (fun w e q M' er => ZT.out (nohand rfl) (hn w (pe1.trans (bnd_er e)) _ M' er))
  show Z E YX9_loop (d + 14 + 1) M2 [(0, vr (some (pp, 8, 0))), (1, vr r1), (2, vr r2), (3, vr r3)] 228 [] Q
  refine iX9_loop_228 M2 pp _ _ _ ?_
  have pe2 := pe1.trans (bnd_ok e2)
  have z2 := R2.z0
  obtain ⟨τ3, R3, ag3, on3, m23⟩ := R2.lc (M' := zn M2 5) (v := 1) (w := 5) (cz' := cz + 19) (cu' := cu + 395) fg.zn (Nat.le_refl _) (Nat.le_refl _) (by omega) (by omega)
  have sz3 : zsz (zn M2 5) = zsz M2 + 1 := rfl
  generalize zn M2 5 = M3 at *
  refine R3.lpd (y_lpd (dm := d + 14) hS hr (by omega)) hr (by omega) hC (by omega) (by omega) rfl (fun v4 s4 e4 u4 M4 τ4 fs4 b4 t4 R4 k4 n4 => ?_) (fun w e q M' er => ZT.out (nohand rfl) (hn w (pe2.trans (bnd_er e)) _ M' er))
  show Z E YX9_loop (d + 14 + 1) M4 [] 240 [vr (some (b4, t4, 0)), vr r3, vr r2, vr r1, vi 2, vr (some (zsz M2, 38, 0)), vr (some (zsz M2, 38, 0))] Q
  refine iX9_loop_240 (d := d + 12) M4 _ _ _ _ _ _ _ ⟨by omega, ?_⟩
  have z4 := k4.z
  have ob : zsz M ≤ zsz M2 ∧ zsz M2 < zsz M4 ∧ τ4 (zsz M2) = 1 := k4.ow ⟨z2.2, by omega, on3 _ (Nat.le_refl _) (by omega)⟩
  have f5 : fg (fun x _ => zsz M ≤ x ∧ τ4 x = 1) M4 (sr (sr (sr (sr (si M4 (zsz M2) 0 2) (zsz M2) 1 r1) (zsz M2) 2 r2) (zsz M2) 3 r3) (zsz M2) 4 (some (b4, t4, 0))) := (((((fr.si ⟨ob.1, ob.2.2⟩).tr (fr.sr ⟨ob.1, ob.2.2⟩)).tr (fr.sr ⟨ob.1, ob.2.2⟩)).tr (fr.sr ⟨ob.1, ob.2.2⟩)).tr (fr.sr ⟨ob.1, ob.2.2⟩)).fg
  have g5_0 : gi (sr (sr (sr (sr (si M4 (zsz M2) 0 2) (zsz M2) 1 r1) (zsz M2) 2 r2) (zsz M2) 3 r3) (zsz M2) 4 (some (b4, t4, 0))) (zsz M2) 0 = 2 := by simp only [gi_si, gi_sr]; simp
  have g5_1 : gr (sr (sr (sr (sr (si M4 (zsz M2) 0 2) (zsz M2) 1 r1) (zsz M2) 2 r2) (zsz M2) 3 r3) (zsz M2) 4 (some (b4, t4, 0))) (zsz M2) 1 = r1 := by simp only [gr_si, gr_sr]; simp
  have g5_2 : gr (sr (sr (sr (sr (si M4 (zsz M2) 0 2) (zsz M2) 1 r1) (zsz M2) 2 r2) (zsz M2) 3 r3) (zsz M2) 4 (some (b4, t4, 0))) (zsz M2) 2 = r2 := by simp only [gr_si, gr_sr]; simp
  have g5_3 : gr (sr (sr (sr (sr (si M4 (zsz M2) 0 2) (zsz M2) 1 r1) (zsz M2) 2 r2) (zsz M2) 3 r3) (zsz M2) 4 (some (b4, t4, 0))) (zsz M2) 3 = r3 := by simp only [gr_si, gr_sr]; simp
  have g5_4 : gr (sr (sr (sr (sr (si M4 (zsz M2) 0 2) (zsz M2) 1 r1) (zsz M2) 2 r2) (zsz M2) 3 r3) (zsz M2) 4 (some (b4, t4, 0))) (zsz M2) 4 = (some (b4, t4, 0)) := by simp only [gr_si, gr_sr]; simp
  have sz5 : zsz (sr (sr (sr (sr (si M4 (zsz M2) 0 2) (zsz M2) 1 r1) (zsz M2) 2 r2) (zsz M2) 3 r3) (zsz M2) 4 (some (b4, t4, 0))) = zsz M4 := rfl
  have su5 : zsu (sr (sr (sr (sr (si M4 (zsz M2) 0 2) (zsz M2) 1 r1) (zsz M2) 2 r2) (zsz M2) 3 r3) (zsz M2) 4 (some (b4, t4, 0))) = zsu M4 := rfl
  generalize sr (sr (sr (sr (si M4 (zsz M2) 0 2) (zsz M2) 1 r1) (zsz M2) 2 r2) (zsz M2) 3 r3) (zsz M2) 4 (some (b4, t4, 0)) = M5 at *
  obtain ⟨τ5, R5, ag5, on5, m4_5⟩ := R4.lc (v := 0) (w := 0) (cz' := (cz + 20)) (cu' := (cu + 500)) f5 (by omega) (by omega) (by omega) (by omega)
  have m5 := m4_5.tr (fin_mvr (lo := zsz M) (τ := τ5) (M := M5))
  have hb : nS (zsz M) (zsz M5) (fin (zsz M) τ5) (zsz M2) := fin_1 ob.1 (by omega) ((ag5 _ ob.2.1).trans ob.2.2)
  have mm := ((k2.mvr.tr m23).tr k4.mvr).tr m5
  have B5 := B.mv mm z190
  have T5 := T.mv mm z190
  have S5 := S.mv mm z190
  obtain ⟨-, D4, o4, n4', h4, y4, ⟨q41, q42, q43, q44, q45⟩, q4⟩ := n4
  have x4 := (q4.mv m5 (by omega) (show zsz M ≤ zsz M3 by omega)).up (C' := fun b => zsz M ≤ b ∧ b < zsz M5) (fun b y => ⟨by omega, by omega⟩) (Nat.le_refl _) (Nat.le_refl _) (Nat.le_refl _) (Nat.le_refl _) (Nat.le_refl _)
  have l4 := u4.2.1
  dsimp only at l4 q41 q42 q43
  have p2 := pos_le R5.ps.tz (t := s1.1) (t' := s1.1 + 1) (by omega) (by omega)
  have p4 := pos_le R5.ps.tz (t := s1.1 + 1) (t' := s4.1) (by omega) (Nat.le_refl _)
  have p0 := pos_le R5.ps.tz (t := s.1) (t' := s1.1) (by omega) (by omega)
  refine hy (gFor i xo z v4) s4 (pe2.trans ((bnd_ok e4).trans rfl)) M5 _ fs4 (zsz M2, 38, 0) (R5.nd (by omega) (by omega)) ⟨⟨rfl, by show 20 ≤ 38; decide, by show 38 ≤ 44; decide⟩, _, _, _, _, _, ⟨?_, ?_, ?_, ?_, ?_⟩, sn_For (D := max Di D4) (De := DE) hb g5_0 (B5.imp (fun z => ⟨z.1, g5_1.trans z.2⟩) fun ⟨p0, z1, z2⟩ => ⟨p0, g5_1.trans z1, z2.up (fun _ z => z) (Nat.le_max_left _ _) (Nat.le_refl _) (Nat.le_refl _) (Nat.le_refl _) (Nat.le_refl _)⟩) gi' goi (T5.imp (fun z => ⟨z.1, g5_2.trans z.2⟩) fun ⟨p1, x, z1, z2, z3⟩ => ⟨p1, x, z1, g5_2.trans z2, z3⟩) (S5.imp (fun z => ⟨z.1, g5_3.trans z.2⟩) fun ⟨bz, pz, zx, z1, z2, z3⟩ => ⟨bz, pz, zx, z1, g5_3.trans z2, z3⟩) g5_4 (x4.up (fun _ z => z) (Nat.le_max_right _ _) (Nat.le_refl _) (Nat.le_refl _) (Nat.le_refl _) (Nat.le_refl _)) u4.2.2 ⟨q44, q45⟩ (by omega)⟩
  · omega
  · omega
  · omega
  · omega
  · omega
theorem y_fo3 {d : Nat} {Q : zO → zM → Prop} {M M1 : zM} {τ τ1 : Nat → Nat} {fs fs1 : List Nat} {s s1 : pS} {C : pC} {cz cu : Nat} {pF : pR gSt} {r1 r2 : Option zP} {i : gSt} {xo : Option gEx} {Di oi ni hi ki ox : Nat} (hN : cNx E pp a lf n c dS dE DE o r) (hdm : dS + 1 ≤ d + 14 ∧ dE + 1 ≤ d + 14 ∧ 30 ≤ d + 14) (R1 : rk pp a lf n c M τ fs s (geN s.2.2.length) C o M1 τ1 fs1 s1 cz cu) (hz : 110 ≤ cz) (hu : 2200 ≤ cu) (B : fBg (zsz M) M1 τ1 C.2 r1 i Di oi ni hi ki) (T : fTs (zsz M) M1 τ1 DE r2 xo ox) (gi' : gokT i) (goi : oi ≤ ni ∧ hi ≤ ki) (hC : C.2.1 + C.2.2 < o) (l1 : s.1 + 2 ≤ s1.1) (d1 : 4 * Di ≤ 5 * (s1.1 - s.1) + 3) (d2 : ni + 2 * oi + 3 * ox + 9 ≤ 2500 * ((tkn n c s1.1).2.2.1 - (tkn n c s.1).2.2.1)) (d3 : ki + 2 * hi ≤ 3 * (s1.1 - s.1)) (pe1 : pF = bnd (nedS (zOf n c dg) 31 s1) fun _ s => bnd (if isS (zOf n c dg) 27 s then prt gNo s else bnd (r.expr true C s) fun e s => prt (gPl e.1) s) fun st s => bnd (nedS (zOf n c dg) 27 s) fun _ s => bnd (pLpd r C s) fun y s => prt (gFor i xo st y) s)
    (hy : ∀ v s', pF = .ok (v, s') → ∀ M' τ' fs' p, pEnd pp a lf n c 9 199 M τ fs s C o M' τ' fs' s' → sNg (szG n c 0 3 0 0 s s') (zsz M) M' τ' C.2 p v → Q (.inl (some (vr (some p)))) M') (hn : ∀ w, pF = .error w → ∀ ou M', pEr lf 9 199 τ fs M s w ou M' → Q ou M') : Z E YX10_need (d + 14) M1 (zargs 0 [vr (some (a, 9, 0)), vi 7]) 0 [] (zafter E YX9_loop (d + 14 + 1) [(0, vr (some (pp, 8, 0))), (1, vr r1), (2, vr r2)] 189 3 [] Q) := by
  obtain ⟨hr, hS, hE, hW, hDE⟩ := id hN
  have z190 := R1.z0.1
  have e27 : sgX (nI 27) = 3 := by decide +kernel
  refine R1.need (dg := dg) (j := 31) (by decide) (by decide +kernel) (by omega) (fun e2 M2 R2 k2 => ?_) (fun w e q M' er => ZT.out (nohand rfl) (hn w (pe1.trans (bnd_er e)) _ M' er))
  show Z E YX9_loop (d + 14 + 1) M2 [(0, vr (some (pp, 8, 0))), (1, vr r1), (2, vr r2)] 192 [] Q
  refine iX9_loop_192 M2 pp _ _ ⟨a, R2.ps.pt, ?_⟩
  have pe2 := pe1.trans (bnd_ok e2)
  have z2 := R2.z0
  have B2 := B.mv k2.mvr z190
  have T2 := T.mv k2.mvr z190
  have p0 := pos_le R2.ps.tz (t := s.1) (t' := s1.1) (by omega) (by dsimp only; omega)
  have p2 := pos_le R2.ps.tz (t := s1.1) (t' := s1.1 + 1) (by omega) (Nat.le_refl _)
  have none_ : isS (zOf n c dg) 27 (s1.1 + 1, s1.2) = true → Z E YX10_need (d + 14) M2 (zargs 0 [vr (some (a, 9, 0)), vi 3]) 0 [] (zafter E YX9_loop (d + 14 + 1) [(0, vr (some (pp, 8, 0))), (1, vr r1), (2, vr r2), (3, vr none)] 225 3 [] Q) := fun hs =>
    y_fo4 (dg := dg) (oz := 0) (z := gNo) hN (by omega) R2 (by omega) (by omega) B2 T2 (.inl ⟨rfl, rfl⟩) gi' goi hC (by dsimp only; omega) (by dsimp only; omega) (by dsimp only; omega) (by dsimp only; omega) (pe2.trans (bnd_ok (if_pos hs))) hy hn
  have some_ : ¬ isS (zOf n c dg) 27 (s1.1 + 1, s1.2) = true → Z E YX9_expression (d + 14) (zn M2 1) (zargs 0 [vr (some (pp, 8, 0)), vi 1]) 0 [] (zafter E YX9_loop (d + 14 + 1) [(0, vr (some (pp, 8, 0))), (1, vr r1), (2, vr r2)] 213 3 [vr (some (zsz M2, 21, 0)), vr (some (zsz M2, 21, 0))] Q) := fun hs => by
    have pe3 := pe2.trans ((congrArg (fun x => bnd x _) (if_neg hs)).trans (bnd_as _ _ _))
    obtain ⟨τ3, R3, ag3, on3, m23⟩ := R2.lc (M' := zn M2 1) (v := 1) (w := 1) (cz' := cz + 19) (cu' := cu + 399) fg.zn (Nat.le_refl _) (Nat.le_refl _) (by omega) (by omega)
    have sz3 : zsz (zn M2 1) = zsz M2 + 1 := rfl
    generalize zn M2 1 = M3 at *
    refine R3.val (hE true).x (by omega) (by omega) (by omega) rfl (hr.expr true C _) (fun v s' z => z.1) (fun v4 s4 e4 o4 M4 τ4 fs4 b4 t4 R4 k4 n4 => ?_) (fun w e q M' er => ZT.out (nohand rfl) (hn w (pe3.trans (bnd_er e)) _ M' er))
    show Z E YX9_loop (d + 14 + 1) M4 [(0, vr (some (pp, 8, 0))), (1, vr r1), (2, vr r2)] 216 [vr (some (b4, t4, 0)), vr (some (zsz M2, 21, 0)), vr (some (zsz M2, 21, 0))] Q
    have z4 := k4.z
    have ob := k4.ow (lo := zsz M) (x := zsz M2) ⟨z2.2, by omega, on3 _ (Nat.le_refl _) (by omega)⟩
    have f5 : fg (fun x _ => zsz M ≤ x ∧ τ4 x = 1) M4 (sr M4 (zsz M2) 0 (some (b4, t4, 0))) := (fr.sr ⟨ob.1, ob.2.2⟩).fg
    have g5 : gr (sr M4 (zsz M2) 0 (some (b4, t4, 0))) (zsz M2) 0 = some (b4, t4, 0) := by simp only [gr_sr]; simp
    obtain ⟨τ5, R5, ag5, on5, m45⟩ := R4.lc (v := 0) (w := 0) (cz' := cz + 29) (cu' := cu + 599) f5 (Nat.le_refl _) (Nat.le_refl _) (by omega) (by omega)
    refine iX9_loop_216 (d := d + 12) M4 pp _ _ _ _ _ ⟨by omega, a, R5.ps.pt, ?_⟩
    have sz5 : zsz (sr M4 (zsz M2) 0 (some (b4, t4, 0))) = zsz M4 := rfl
    generalize sr M4 (zsz M2) 0 (some (b4, t4, 0)) = M5 at *
    obtain ⟨τ6, R6, ag6, on6, m56⟩ := R5.fx 0 (x := zsz M2) ⟨ob.1, by omega, (ag5 _ ob.2.1).trans ob.2.2⟩ (.inl rfl)
    have mm := m45.tr m56
    have x4 := n4.mv mm z190 (Nat.le_refl _) (Nat.le_refl _)
    have mz := (m23.tr k4.mvr).tr mm
    have l4 := o4.2.1
    dsimp only at l4
    have p4 := pos_le R6.ps.tz (t := s1.1 + 1) (t' := s4.1) (by omega) (Nat.le_refl _)
    exact y_fo4 (dg := dg) (oz := 0 + 12 * (s4.1 - (s1.1 + 1))) (z := gPl v4.1) hN (by omega) R6 (by omega) (by omega) (B2.mv mz z190) (T2.mv mz z190) (.inr ⟨zsz M2, _, v4.1, rfl, rfl, ⟨ob.1, by omega, on6⟩, g5, x4.2.1, o4.2.2.1⟩) gi' goi hC (by omega) (by omega) (by omega) (by omega) (pe3.trans (bnd_ok e4)) hy hn
  by_cases h5 : gi M2 a 3 = 5
  · rw [if_pos h5]
    have e : isS (zOf n c dg) 27 (s1.1 + 1, s1.2) = decide (gi M2 a 6 = 3) := tk_s (dg := dg) (j := 27) R2.ps.tz h5 (by decide) e27
    by_cases h6 : gi M2 a 6 = 3
    · rw [if_pos h6]
      exact none_ (by rw [e]; exact decide_eq_true h6)
    · rw [if_neg h6]
      exact some_ (by rw [e]; simpa using h6)
  · rw [if_neg h5]
    exact some_ (by rw [show isS (zOf n c dg) 27 (s1.1 + 1, s1.2) = false from tk_ns (dg := dg) (j := 27) R2.ps.tz h5 (by decide)]; decide)
theorem y_fo2 {d : Nat} {Q : zO → zM → Prop} {M M1 : zM} {τ τ1 : Nat → Nat} {fs fs1 : List Nat} {s s1 : pS} {C : pC} {cz cu : Nat} {pF : pR gSt} {r1 : Option zP} {i : gSt} {Di oi ni hi ki : Nat} (hN : cNx E pp a lf n c dS dE DE o r) (hdm : dS + 1 ≤ d + 14 ∧ dE + 1 ≤ d + 14 ∧ 30 ≤ d + 14) (R1 : rk pp a lf n c M τ fs s (geN s.2.2.length) C o M1 τ1 fs1 s1 cz cu) (hz : 110 ≤ cz) (hu : 2200 ≤ cu) (B : fBg (zsz M) M1 τ1 C.2 r1 i Di oi ni hi ki) (gi' : gokT i) (goi : oi ≤ ni ∧ hi ≤ ki) (hC : C.2.1 + C.2.2 < o) (l1 : s.1 + 1 ≤ s1.1) (d1 : 4 * Di ≤ 5 * (s1.1 - s.1) + 3) (d2 : ni + 2 * oi + 9 ≤ 2500 * ((tkn n c s1.1).2.2.1 - (tkn n c s.1).2.2.1)) (d3 : ki + 2 * hi ≤ 3 * (s1.1 - s.1)) (pe1 : pF = pFor2 (zOf n c dg) r C i s1)
    (hy : ∀ v s', pF = .ok (v, s') → ∀ M' τ' fs' p, pEnd pp a lf n c 9 199 M τ fs s C o M' τ' fs' s' → sNg (szG n c 0 3 0 0 s s') (zsz M) M' τ' C.2 p v → Q (.inl (some (vr (some p)))) M') (hn : ∀ w, pF = .error w → ∀ ou M', pEr lf 9 199 τ fs M s w ou M' → Q ou M') : Z E YX10_need (d + 14) M1 (zargs 0 [vr (some (a, 9, 0)), vi 7]) 0 [] (zafter E YX9_loop (d + 14 + 1) [(0, vr (some (pp, 8, 0))), (1, vr r1)] 158 3 [] Q) := by
  obtain ⟨hr, hS, hE, hW, hDE⟩ := id hN
  have z190 := R1.z0.1
  have e31 : sgX (nI 31) = 7 := by decide +kernel
  have pe1 : pF = bnd (nedS (zOf n c dg) 31 s1) fun _ s => bnd (if isS (zOf n c dg) 31 s then prt none s else bnd (r.expr true C s) fun e s => prt (some e.1) s) fun x s => bnd (nedS (zOf n c dg) 31 s) fun _ s => bnd (if isS (zOf n c dg) 27 s then prt gNo s else bnd (r.expr true C s) fun e s => prt (gPl e.1) s) fun st s => bnd (nedS (zOf n c dg) 27 s) fun _ s => bnd (pLpd r C s) fun y s => prt (gFor i x st y) s := pe1
  refine R1.need (dg := dg) (j := 31) (by decide) (by decide +kernel) (by omega) (fun e2 M2 R2 k2 => ?_) (fun w e q M' er => ZT.out (nohand rfl) (hn w (pe1.trans (bnd_er e)) _ M' er))
  show Z E YX9_loop (d + 14 + 1) M2 [(0, vr (some (pp, 8, 0))), (1, vr r1)] 161 [] Q
  refine iX9_loop_161 M2 pp _ ⟨a, R2.ps.pt, ?_⟩
  have pe2 := pe1.trans (bnd_ok e2)
  have z2 := R2.z0
  have B2 := B.mv k2.mvr z190
  have p0 := pos_le R2.ps.tz (t := s.1) (t' := s1.1) (by omega) (by dsimp only; omega)
  have p2 := pos_le R2.ps.tz (t := s1.1) (t' := s1.1 + 1) (by omega) (Nat.le_refl _)
  have none_ : isS (zOf n c dg) 31 (s1.1 + 1, s1.2) = true → Z E YX10_need (d + 14) M2 (zargs 0 [vr (some (a, 9, 0)), vi 7]) 0 [] (zafter E YX9_loop (d + 14 + 1) [(0, vr (some (pp, 8, 0))), (1, vr r1), (2, vr none)] 189 3 [] Q) := fun hs =>
    y_fo3 (dg := dg) (ox := 0) (xo := none) hN hdm R2 (by omega) (by omega) B2 (.inl ⟨rfl, rfl⟩) gi' goi hC (by dsimp only; omega) (by dsimp only; omega) (by dsimp only; omega) (by dsimp only; omega) (pe2.trans (bnd_ok (if_pos hs))) hy hn
  have some_ : ¬ isS (zOf n c dg) 31 (s1.1 + 1, s1.2) = true → Z E YX9_expression (d + 14) M2 (zargs 0 [vr (some (pp, 8, 0)), vi 1]) 0 [] (zafter E YX9_loop (d + 14 + 1) [(0, vr (some (pp, 8, 0))), (1, vr r1)] 179 3 [] Q) := fun hs => by
    have pe3 := pe2.trans ((congrArg (fun x => bnd x _) (if_neg hs)).trans (bnd_as _ _ _))
    refine R2.val (hE true).x (by omega) (by omega) (by omega) rfl (hr.expr true C _) (fun v s' z => z.1) (fun v4 s4 e4 o4 M4 τ4 fs4 b4 t4 R4 k4 n4 => ?_) (fun w e q M' er => ZT.out (nohand rfl) (hn w (pe3.trans (bnd_er e)) _ M' er))
    show Z E YX9_loop (d + 14 + 1) M4 [(0, vr (some (pp, 8, 0))), (1, vr r1)] 182 [vr (some (b4, t4, 0))] Q
    refine sX9_loop_182 M4 pp _ _ ⟨a, R4.ps.pt, ?_⟩
    have l4 := o4.2.1
    dsimp only at l4
    have p4 := pos_le R4.ps.tz (t := s1.1 + 1) (t' := s4.1) (by omega) (Nat.le_refl _)
    exact y_fo3 (dg := dg) (ox := 0 + 12 * (s4.1 - (s1.1 + 1))) (xo := some v4.1) hN hdm R4 (by omega) (by omega) (B2.mv k4.mvr z190) (.inr ⟨_, v4.1, rfl, rfl, n4.2.1, o4.2.2.1⟩) gi' goi hC (by omega) (by omega) (by omega) (by omega) (pe3.trans (bnd_ok e4)) hy hn
  by_cases h5 : gi M2 a 3 = 5
  · rw [if_pos h5]
    have e : isS (zOf n c dg) 31 (s1.1 + 1, s1.2) = decide (gi M2 a 6 = 7) := tk_s (dg := dg) (j := 31) R2.ps.tz h5 (by decide) e31
    by_cases h6 : gi M2 a 6 = 7
    · rw [if_pos h6]
      exact none_ (by rw [e]; exact decide_eq_true h6)
    · rw [if_neg h6]
      exact some_ (by rw [e]; simpa using h6)
  · rw [if_neg h5]
    exact some_ (by rw [show isS (zOf n c dg) 31 (s1.1 + 1, s1.2) = false from tk_ns (dg := dg) (j := 31) R2.ps.tz h5 (by decide)]; decide)
theorem vars_k1 {i b : Bool} {C : pC} {f m : Nat} {acc : gSt} {s s' : pS} {q : gSt × Bool × Bool} (e : pVars (zOf n c dg) r i C f m b acc s = .ok (q, s')) : tkd (zOf n c dg) s.1 = 1 := by
  cases f with
  | zero => cases e
  | succ f =>
    rw [pVars_eq] at e
    by_cases z : tkd (zOf n c dg) s.1 = 1
    · exact z
    · rw [bnd_er (show nedN (zOf n c dg) s = .error (2, tln (zOf n c dg) s.1) by unfold nedN; rw [if_neg z]; rfl)] at e
      cases e
end
