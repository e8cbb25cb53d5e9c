/-! THE COMPONENT's PARSER: statements by their words -/
/-- the next level's methods -/
def cNx (E : zE) (pp a lf n : Nat) (c : Nat → Int32) (dS dE DE o : Nat) (r : pT) : Prop := okT r ∧ cSm E pp a lf n c YX9_statement [] dS o r.stmt ∧ (∀ i, cVm E pp a lf n c YX9_expression [(1, vi (boI i))] dE o DE (r.expr i)) ∧ (∀ i, cVm E pp a lf n c YX9_within [(1, vi (boI i))] dE o DE (r.wth i)) ∧ DE ≤ 347
/-- what holds behind a statement's word -/
def hIn (o : Nat) (w : Int32) (C : pC) (s : pS) : Prop := C.2.1 + C.2.2 < o ∧ 1 ≤ s.1 ∧ (w = 0 → 0 < C.2.1 + C.2.2) ∧ (w = 3 → 0 < C.2.1)
def pwI (w : Int32) : Nat := if w = 0 ∨ w = 3 ∨ w = 18 then 12500 else 2500
/-- the end of what stands behind a word: the word's token pays too -/
def pEnx (pp a lf n : Nat) (c : Nat → Int32) (M : zM) (τ : Nat → Nat) (fs : List Nat) (s : pS) (C : pC) (o : Nat) (M' : zM) (τ' : Nat → Nat) (fs' : List Nat) (s' : pS) : Prop :=
  xPs M' τ' pp a lf n c fs' s' C o ∧ fg (pU τ) M M' ∧ (∀ x, x < zsz M → τ' x = τ x) ∧ fs <+: fs' ∧ ndn M' τ' fs' s.2.2.length s'.2.2 ∧ zsz M' ≤ zsz M + 20 * (s'.1 - s.1) + 10 ∧ pu M' lf fs' ≤ pu M lf fs + 400 * (s'.1 - s.1) + 200
/-- the method behind the word w -/
def cIn (E : zE) (pp a lf n : Nat) (c : Nat → Int32) (dm o : Nat) (w : Int32) (f : pC → pS → pR gSt) : Prop :=
  ∀ (d : Nat) (Q : zO → zM → Prop) (M : zM) (τ : Nat → Nat) (fs : List Nat) (s : pS) (C : pC), dm ≤ d → hIn o w C s → xPs M τ pp a lf n c fs s C o →
    (∀ v s', f C s = .ok (v, s') → ∀ M' τ' fs' p, pEnx pp a lf n c M τ fs s C o M' τ' fs' s' → sNg (szG n c 0 8 (pwI w) 3 s s') (zsz M) M' τ' C.2 p v → Q (.inl (some (vr (some p)))) M') →
    (∀ w, f C s = .error w → ∀ ou M', pEr lf 9 199 τ fs M s w ou M' → Q ou M') → Z E YX9_inner d M [(0, vr (some (pp, 8, 0))), (1, vi w)] 0 [] Q
theorem rk.ndx {pp a lf n o : Nat} {c : Nat → Int32} {M0 M : zM} {τ0 τ : Nat → Nat} {fs0 fs : List Nat} {s0 s : pS} {C : pC} {cz cu : Nat} (R : rk pp a lf n c M0 τ0 fs0 s0 (geN s0.2.2.length) C o M τ fs s cz cu) (h1 : 90 ≤ cz) (h2 : 1800 ≤ cu) : pEnx pp a lf n c M0 τ0 fs0 s0 C o M (fin (zsz M0) τ) fs s := by
  obtain ⟨r1, ⟨r2a, r2⟩, r3, r4, r5, r6, r7⟩ := R
  exact ⟨pU_fin r1, r2.fg, fun x hx => (fin_lt hx).trans (r2.2 x hx), r3, fun k f q h1 h2 h3 => (r5 k f q h1 h2 h3).mv fin_mvr, by omega, by omega⟩
theorem rk.clx {pp a lf n o : Nat} {c : Nat → Int32} {M0 M M' : zM} {τ0 τ τ' : Nat → Nat} {fs0 fs fs' : List Nat} {s0 s s' : pS} {c0 : Nat → Prop} {C : pC} {cz cu : Nat} (R : rk pp a lf n c M0 τ0 fs0 s0 c0 C o M τ fs s (cz + 10) (cu + 200)) (e : pEnx pp a lf n c M τ fs s C o M' τ' fs' s') (ha : adv C.1 s s') : rk pp a lf n c M0 τ0 fs0 s0 c0 C o M' τ' fs' s' cz cu := by
  obtain ⟨r1, ⟨r2a, r2⟩, r3, r4, r5, r6, r7⟩ := R
  obtain ⟨e1, e2, e3, e4, e5, e6, e7⟩ := e
  have st : stp (zsz M0) τ M τ' M' := e2.stp e3
  have l := ha.1
  exact ⟨e1, ⟨r2a, r2.tr st⟩, r3.trans e4, Nat.le_trans r4 l, r5.un e5 (st.mvr r2a) e4 ha r1.2.2.2.2.1, by omega, by omega⟩
section
variable {E : zE} {pp a lf n : Nat} {c : Nat → Int32} {dg : Int32 → List Int32} {K o dS dE DE dm : Nat} {r : pT}
/-- while -/
theorem in_wh (hN : cNx E pp a lf n c dS dE DE o r) (hdm : dS + 2 ≤ dm ∧ dE + 2 ≤ dm ∧ 32 ≤ dm) : cIn E pp a lf n c dm o 28 (pInn (zOf n c dg) K 28 r) := by
  obtain ⟨hr, hS, hE, hW, hDE⟩ := hN
  intro d Q M τ fs s C hd hH h hy hn
  obtain ⟨d, rfl⟩ : ∃ d', d = d' + 15 := ⟨d - 15, by omega⟩
  have R := rk_st h C.1
  have z190 := h.z190
  have pe0 : pInn (zOf n c dg) K 28 r C s = bnd (pRnd (zOf n c dg) r C s) fun e s => bnd (pLpd r C s) fun y s => prt (gWh e.1 y) s := by
    unfold pInn
    repeat rw [if_neg (by decide)]
    rw [if_pos rfl]
  refine iX9_inner_0 M pp _ ?_
  repeat rw [if_neg (by decide)]
  rw [if_pos rfl]
  refine R.val (y_rnd (dg := dg) (dm := dm - 1) (hE true) hr (by omega)) (by omega) (by omega) (by omega) rfl (ok_rnd hr s) (fun v s' z => z.1) (fun v1 s1 e1 o1 M1 τ1 fs1 b1 t1 R1 k1 n1 => ?_) (fun w e q M' er => ZT.out (nohand rfl) (hn w (pe0.trans (bnd_er e)) _ M' er))
  show Z E YX9_inner (d + 14 + 1) M1 [(0, vr (some (pp, 8, 0)))] 188 [vr (some (b1, t1, 0))] Q
  refine iX9_inner_188 M1 pp _ ?_
  have pe1 := pe0.trans (bnd_ok e1)
  have z1 := R1.z0
  obtain ⟨τ2, R2, ag2, on2, m12⟩ := R1.lc (M' := zn M1 5) (v := 1) (w := 5) (cz' := 105) (cu' := 2100) fg.zn (Nat.le_refl _) (Nat.le_refl _) (by omega) (by omega)
  have sz2 : zsz (zn M1 5) = zsz M1 + 1 := rfl
  generalize zn M1 5 = M2 at *
  refine R2.lpd (y_lpd (dm := dm - 1) hS hr (by omega)) hr (by omega) hH.1 (by omega) (by omega) rfl (fun v3 s3 e3 u3 M3 τ3 fs3 b3 t3 R3 k3 n3 => ?_) (fun w e q M' er => ZT.out (nohand rfl) (hn w (pe1.trans (bnd_er e)) _ M' er))
  show Z E YX9_inner (d + 14 + 1) M3 [] 201 [vr (some (b3, t3, 0)), vr none, vr (some (b1, t1, 0)), vr none, vi 0, vr (some (zsz M1, 38, 0)), vr (some (zsz M1, 38, 0))] Q
  refine iX9_inner_201 (d := d + 12) M3 _ _ _ _ _ ⟨by omega, ?_⟩
  have z3 := k3.z
  have ob : zsz M ≤ zsz M1 ∧ zsz M1 < zsz M3 ∧ τ3 (zsz M1) = 1 := k3.ow ⟨z1.2, by omega, on2 _ (Nat.le_refl _) (by omega)⟩
  have f4 : fg (fun x _ => zsz M ≤ x ∧ τ3 x = 1) M3 (sr (sr (sr (sr (si M3 (zsz M1) 0 0) (zsz M1) 1 none) (zsz M1) 2 (some (b1, t1, 0))) (zsz M1) 3 none) (zsz M1) 4 (some (b3, t3, 0))) := (((((fr.si ⟨ob.1, ob.2.2⟩).tr (fr.sr ⟨ob.1, ob.2.2⟩)).tr (fr.sr ⟨ob.1, ob.2.2⟩)).tr (fr.sr ⟨ob.1, ob.2.2⟩)).tr (fr.sr ⟨ob.1, ob.2.2⟩)).fg
  have g4_0 : gi (sr (sr (sr (sr (si M3 (zsz M1) 0 0) (zsz M1) 1 none) (zsz M1) 2 (some (b1, t1, 0))) (zsz M1) 3 none) (zsz M1) 4 (some (b3, t3, 0))) (zsz M1) 0 = 0 := by simp only [gi_si, gi_sr]; simp
  have g4_1 : gr (sr (sr (sr (sr (si M3 (zsz M1) 0 0) (zsz M1) 1 none) (zsz M1) 2 (some (b1, t1, 0))) (zsz M1) 3 none) (zsz M1) 4 (some (b3, t3, 0))) (zsz M1) 1 = none := by simp only [gr_si, gr_sr]; simp
  have g4_2 : gr (sr (sr (sr (sr (si M3 (zsz M1) 0 0) (zsz M1) 1 none) (zsz M1) 2 (some (b1, t1, 0))) (zsz M1) 3 none) (zsz M1) 4 (some (b3, t3, 0))) (zsz M1) 2 = (some (b1, t1, 0)) := by simp only [gr_si, gr_sr]; simp
  have g4_3 : gr (sr (sr (sr (sr (si M3 (zsz M1) 0 0) (zsz M1) 1 none) (zsz M1) 2 (some (b1, t1, 0))) (zsz M1) 3 none) (zsz M1) 4 (some (b3, t3, 0))) (zsz M1) 3 = none := by simp only [gr_si, gr_sr]; simp
  have g4_4 : gr (sr (sr (sr (sr (si M3 (zsz M1) 0 0) (zsz M1) 1 none) (zsz M1) 2 (some (b1, t1, 0))) (zsz M1) 3 none) (zsz M1) 4 (some (b3, t3, 0))) (zsz M1) 4 = (some (b3, t3, 0)) := by simp only [gr_si, gr_sr]; simp
  have sz4 : zsz (sr (sr (sr (sr (si M3 (zsz M1) 0 0) (zsz M1) 1 none) (zsz M1) 2 (some (b1, t1, 0))) (zsz M1) 3 none) (zsz M1) 4 (some (b3, t3, 0))) = zsz M3 := rfl
  have su4 : zsu (sr (sr (sr (sr (si M3 (zsz M1) 0 0) (zsz M1) 1 none) (zsz M1) 2 (some (b1, t1, 0))) (zsz M1) 3 none) (zsz M1) 4 (some (b3, t3, 0))) = zsu M3 := rfl
  generalize sr (sr (sr (sr (si M3 (zsz M1) 0 0) (zsz M1) 1 none) (zsz M1) 2 (some (b1, t1, 0))) (zsz M1) 3 none) (zsz M1) 4 (some (b3, t3, 0)) = M4 at *
  obtain ⟨τ4, R4, ag4, on4, m3_4⟩ := R3.lc (v := 0) (w := 0) (cz' := 110) (cu' := 2200) f4 (by omega) (by omega) (by omega) (by omega)
  have m4 := m3_4.tr (fin_mvr (lo := zsz M) (τ := τ4) (M := M4))
  have hb : nS (zsz M) (zsz M4) (fin (zsz M) τ4) (zsz M1) := fin_1 ob.1 (by omega) ((ag4 _ ob.2.1).trans ob.2.2)
  have x1 := n1.mv ((m12.tr k3.mvr).tr m4) z190 (Nat.le_refl _) (Nat.le_refl _)
  obtain ⟨-, D3, o3, n3', h3, y3, ⟨q31, q32, q33, q34, q35⟩, q3⟩ := n3
  have x3 := (q3.mv m4 (by omega) (show zsz M ≤ zsz M2 by omega)).up (C' := fun b => zsz M ≤ b ∧ b < zsz M4) (fun b y => ⟨by omega, by omega⟩) (Nat.le_refl _) (Nat.le_refl _) (Nat.le_refl _) (Nat.le_refl _) (Nat.le_refl _)
  have l1 := o1.2.1
  have l3 := u3.2.1
  have p1 := pos_le R4.ps.tz (t := s.1) (t' := s1.1) (by omega) (by omega)
  have p3 := pos_le R4.ps.tz (t := s1.1) (t' := s3.1) (by omega) (Nat.le_refl _)
  refine hy (gWh v1.1 v3) s3 (pe1.trans ((bnd_ok e3).trans rfl)) M4 _ fs3 (zsz M1, 38, 0) (R4.ndx (by omega) (by omega)) ⟨⟨rfl, by show 20 ≤ 38; decide, by show 38 ≤ 44; decide⟩, _, _, _, _, _, ⟨?_, ?_, ?_, ?_, q35⟩, sn_While hb g4_0 g4_1 g4_2 g4_3 g4_4 x1.2.1 o1.2.2.1 x3 u3.2.2 ⟨q34, q35⟩ (by omega)⟩
  · omega
  · show _ ≤ _ + 2500
    omega
  · omega
  · omega
/-- do -/
theorem in_do (hN : cNx E pp a lf n c dS dE DE o r) (hdm : dS + 2 ≤ dm ∧ dE + 2 ≤ dm ∧ 32 ≤ dm) : cIn E pp a lf n c dm o 6 (pInn (zOf n c dg) K 6 r) := by
  obtain ⟨hr, hS, hE, hW, hDE⟩ := hN
  intro d Q M τ fs s C hd hH h hy hn
  obtain ⟨d, rfl⟩ : ∃ d', d = d' + 15 := ⟨d - 15, by omega⟩
  have R := rk_st h C.1
  have z190 := h.z190
  have pe0 : pInn (zOf n c dg) K 6 r C s = bnd (pLpd r C s) fun y s => bnd (nedK (zOf n c dg) 28 s) fun _ s => bnd (pRnd (zOf n c dg) r C s) fun e s => if isS (zOf n c dg) 31 s then bnd (nxt' (zOf n c dg) s) fun _ s => prt (gDo y e.1) s else prt (gDo y e.1) s := by
    unfold pInn
    repeat rw [if_neg (by decide)]
    rw [if_pos rfl]
  refine iX9_inner_0 M pp _ ?_
  repeat rw [if_neg (by decide)]
  rw [if_pos rfl]
  refine R.lpd (y_lpd (dm := dm - 1) hS hr (by omega)) hr (by omega) hH.1 (by omega) (by omega) rfl (fun v1 s1 e1 u1 M1 τ1 fs1 b1 t1 R1 k1 n1 => ?_) (fun w e q M' er => ZT.out (nohand rfl) (hn w (pe0.trans (bnd_er e)) _ M' er))
  show Z E YX9_inner (d + 14 + 1) M1 [(0, vr (some (pp, 8, 0)))] 209 [vr (some (b1, t1, 0))] Q
  refine sX9_inner_209 M1 pp _ ⟨a, R1.ps.pt, ?_⟩
  have pe1 := pe0.trans (bnd_ok e1)
  refine R1.needW (dg := dg) (by omega) (fun e2 M2 R2 k2 => ?_) (fun w e q M' er => ZT.out (nohand rfl) (hn w (pe1.trans (bnd_er e)) _ M' er))
  show Z E YX9_inner (d + 14 + 1) M2 [(0, vr (some (pp, 8, 0))), (2, vr (some (b1, t1, 0)))] 219 [] Q
  refine sX9_inner_219 M2 pp _ ?_
  have pe2 := pe1.trans (bnd_ok e2)
  refine R2.val (y_rnd (dg := dg) (dm := dm - 1) (hE true) hr (by omega)) (by omega) (by omega) (by omega) rfl (ok_rnd hr _) (fun v s' z => z.1) (fun v3 s3 e3 o3 M3 τ3 fs3 b3 t3 R3 k3 n3 => ?_) (fun w e q M' er => ZT.out (nohand rfl) (hn w (pe2.trans (bnd_er e)) _ M' er))
  show Z E YX9_inner (d + 14 + 1) M3 [(0, vr (some (pp, 8, 0))), (2, vr (some (b1, t1, 0)))] 223 [vr (some (b3, t3, 0))] Q
  refine sX9_inner_223 M3 pp _ _ ⟨a, R3.ps.pt, ?_⟩
  have pe3 := pe2.trans (bnd_ok e3)
  have tail : ∀ (M4 : zM) (s4 : pS) (v0 : Int32) (cz cu : Nat), rk pp a lf n c M τ fs s (geN s.2.2.length) C o M4 τ3 fs3 s4 cz cu → 130 ≤ cz → 2600 ≤ cu → kp τ3 M3 τ3 M4 → s3.1 ≤ s4.1 → pInn (zOf n c dg) K 6 r C s = prt (gDo v1 v3.1) s4 → Z E YX9_inner (d + 14 + 1) M4 [(2, vr (some (b1, t1, 0))), (3, vr (some (b3, t3, 0)))] 233 [vi v0] Q := fun M4 s4 v0 cz cu R4 hz hu k4 l4 pe4 => by
    have z1 := R4.z0
    refine iX9_inner_233 (d := d + 12) M4 _ _ _ ⟨by omega, ?_⟩
    have f5 : fg (fun x _ => zsz M ≤ x ∧ τ3 x = 1) M4 (sr (sr (sr (sr (si (zn M4 5) (zsz M4) 0 1) (zsz M4) 1 none) (zsz M4) 2 (some (b3, t3, 0))) (zsz M4) 3 none) (zsz M4) 4 (some (b1, t1, 0))) := (fg.zn (n := 5)).tr2 (((((fr.si (.inr (Nat.le_refl _))).tr (fr.sr (.inr (Nat.le_refl _)))).tr (fr.sr (.inr (Nat.le_refl _)))).tr (fr.sr (.inr (Nat.le_refl _)))).tr (fr.sr (.inr (Nat.le_refl _)))).fg
    have g5_0 : gi (sr (sr (sr (sr (si (zn M4 5) (zsz M4) 0 1) (zsz M4) 1 none) (zsz M4) 2 (some (b3, t3, 0))) (zsz M4) 3 none) (zsz M4) 4 (some (b1, t1, 0))) (zsz M4) 0 = 1 := by simp only [gi_si, gi_sr]; simp
    have g5_1 : gr (sr (sr (sr (sr (si (zn M4 5) (zsz M4) 0 1) (zsz M4) 1 none) (zsz M4) 2 (some (b3, t3, 0))) (zsz M4) 3 none) (zsz M4) 4 (some (b1, t1, 0))) (zsz M4) 1 = none := by simp only [gr_si, gr_sr]; simp
    have g5_2 : gr (sr (sr (sr (sr (si (zn M4 5) (zsz M4) 0 1) (zsz M4) 1 none) (zsz M4) 2 (some (b3, t3, 0))) (zsz M4) 3 none) (zsz M4) 4 (some (b1, t1, 0))) (zsz M4) 2 = (some (b3, t3, 0)) := by simp only [gr_si, gr_sr]; simp
    have g5_3 : gr (sr (sr (sr (sr (si (zn M4 5) (zsz M4) 0 1) (zsz M4) 1 none) (zsz M4) 2 (some (b3, t3, 0))) (zsz M4) 3 none) (zsz M4) 4 (some (b1, t1, 0))) (zsz M4) 3 = none := by simp only [gr_si, gr_sr]; simp
    have g5_4 : gr (sr (sr (sr (sr (si (zn M4 5) (zsz M4) 0 1) (zsz M4) 1 none) (zsz M4) 2 (some (b3, t3, 0))) (zsz M4) 3 none) (zsz M4) 4 (some (b1, t1, 0))) (zsz M4) 4 = (some (b1, t1, 0)) := by simp only [gr_si, gr_sr]; simp
    have sz5 : zsz (sr (sr (sr (sr (si (zn M4 5) (zsz M4) 0 1) (zsz M4) 1 none) (zsz M4) 2 (some (b3, t3, 0))) (zsz M4) 3 none) (zsz M4) 4 (some (b1, t1, 0))) = zsz M4 + 1 := rfl
    have su5 : zsu (sr (sr (sr (sr (si (zn M4 5) (zsz M4) 0 1) (zsz M4) 1 none) (zsz M4) 2 (some (b3, t3, 0))) (zsz M4) 3 none) (zsz M4) 4 (some (b1, t1, 0))) = zsu M4 + 5 := rfl
    generalize sr (sr (sr (sr (si (zn M4 5) (zsz M4) 0 1) (zsz M4) 1 none) (zsz M4) 2 (some (b3, t3, 0))) (zsz M4) 3 none) (zsz M4) 4 (some (b1, t1, 0)) = M5 at *
    obtain ⟨τ5, R5, ag5, on5, m4_5⟩ := R4.lc (v := 1) (w := 5) (cz' := 110) (cu' := 2200) f5 (by omega) (by omega) (by omega) (by omega)
    have m5 := m4_5.tr (fin_mvr (lo := zsz M) (τ := τ5) (M := M5))
    have hb : nS (zsz M) (zsz M5) (fin (zsz M) τ5) (zsz M4) := fin_1 (by omega) (by omega) (on5 _ (Nat.le_refl _) (by omega))
    have x3 := n3.mv (k4.mvr.tr m5) z190 (Nat.le_refl _) (Nat.le_refl _)
    have z14 := ((k2.tr k3).tr k4).z
    obtain ⟨-, D1, o1, n1', h1, y1, ⟨q11, q12, q13, q14, q15⟩, q1⟩ := n1
    have x1 := (q1.mv ((k2.mvr.tr k3.mvr).tr (k4.mvr.tr m5)) (by omega) (show zsz M ≤ zsz M by omega)).up (C' := fun b => zsz M ≤ b ∧ b < zsz M5) (fun b y => ⟨by omega, by omega⟩) (Nat.le_refl _) (Nat.le_refl _) (Nat.le_refl _) (Nat.le_refl _) (Nat.le_refl _)
    have l1 := u1.2.1
    have l3 := o3.2.1
    dsimp only at l3
    have p1 := pos_le R5.ps.tz (t := s.1) (t' := s1.1) (by omega) (by omega)
    have p3 := pos_le R5.ps.tz (t := s1.1) (t' := s4.1) (by omega) (Nat.le_refl _)
    refine hy (gDo v1 v3.1) s4 pe4 M5 _ fs3 (zsz M4, 38, 0) (R5.ndx (by omega) (by omega)) ⟨⟨rfl, by show 20 ≤ 38; decide, by show 38 ≤ 44; decide⟩, _, _, _, _, _, ⟨?_, ?_, ?_, ?_, q15⟩, sn_Do hb g5_0 g5_1 g5_2 g5_3 g5_4 x3.2.1 o3.2.2.1 x1 u1.2.2 ⟨q14, q15⟩ (by omega)⟩
    · omega
    · show _ ≤ _ + 2500
      dsimp only
      omega
    · omega
    · omega
  refine R3.takes (dg := dg) (j := 31) (by decide) (by decide +kernel) (by omega) (fun hs => ?_) (fun hs e4 M4 R4 k4 => ?_) (fun hs w e q M' er => ?_)
  · exact tail M3 s3 0 _ _ R3 (by omega) (by omega) kp.rf (Nat.le_refl _) (pe3.trans (if_neg (by rw [show isS (zOf n c dg) 31 s3 = false from hs]; decide)))
  · exact tail M4 _ 1 _ _ R4 (by omega) (by omega) k4 (Nat.le_succ _) (pe3.trans ((if_pos (show isS (zOf n c dg) 31 s3 = true from hs)).trans (bnd_ok e4)))
  · exact ZT.out (nohand rfl) (hn w (pe3.trans ((if_pos (show isS (zOf n c dg) 31 s3 = true from hs)).trans (bnd_er e))) _ M' er)
/-- if -/
theorem in_if (hN : cNx E pp a lf n c dS dE DE o r) (hdm : dS + 2 ≤ dm ∧ dE + 2 ≤ dm ∧ 32 ≤ dm) : cIn E pp a lf n c dm o 12 (pInn (zOf n c dg) K 12 r) := by
  obtain ⟨hr, hS, hE, hW, hDE⟩ := hN
  intro d Q M τ fs s C hd hH h hy hn
  obtain ⟨d, rfl⟩ : ∃ d', d = d' + 15 := ⟨d - 15, by omega⟩
  have R := rk_st h C.1
  have z190 := h.z190
  have pe0 : pInn (zOf n c dg) K 12 r C s = bnd (pRnd (zOf n c dg) r C s) fun e s => bnd (r.stmt C s) fun y s => if isK (zOf n c dg) 7 s then bnd (nxt' (zOf n c dg) s) fun _ s => bnd (r.stmt C s) fun w s => prt (gIfE e.1 y w) s else prt (gIf e.1 y) s := by
    unfold pInn
    repeat rw [if_neg (by decide)]
    rw [if_pos rfl]
  refine iX9_inner_0 M pp _ ?_
  repeat rw [if_neg (by decide)]
  rw [if_pos rfl]
  refine R.val (y_rnd (dg := dg) (dm := dm - 1) (hE true) hr (by omega)) (by omega) (by omega) (by omega) rfl (ok_rnd hr s) (fun v s' z => z.1) (fun v1 s1 e1 o1 M1 τ1 fs1 b1 t1 R1 k1 n1 => ?_) (fun w e q M' er => ZT.out (nohand rfl) (hn w (pe0.trans (bnd_er e)) _ M' er))
  show Z E YX9_inner (d + 14 + 1) M1 [(0, vr (some (pp, 8, 0)))] 148 [vr (some (b1, t1, 0))] Q
  refine sX9_inner_148 M1 pp _ ?_
  have pe1 := pe0.trans (bnd_ok e1)
  have z1 := R1.z0
  refine R1.stm hS.x (by omega) trivial (by omega) (by omega) rfl (hr.stmt C s1) (fun v s' z => z.1) (fun v2 s2 e2 u2 M2 τ2 fs2 b2 t2 R2 k2 n2 => ?_) (fun w e q M' er => ZT.out (nohand rfl) (hn w (pe1.trans (bnd_er e)) _ M' er))
  show Z E YX9_inner (d + 14 + 1) M2 [(0, vr (some (pp, 8, 0))), (2, vr (some (b1, t1, 0)))] 153 [vr (some (b2, t2, 0))] Q
  have pe2 := pe1.trans (bnd_ok e2)
  have z2 := R2.z0
  have z12 := k2.z
  obtain ⟨τ3, R3, ag3, on3, m23⟩ := R2.lc (M' := zn M2 3) (v := 1) (w := 3) (cz' := 110) (cu' := 2300) fg.zn (Nat.le_refl _) (Nat.le_refl _) (by omega) (by omega)
  have sz3 : zsz (zn M2 3) = zsz M2 + 1 := rfl
  refine iX9_inner_153 M2 pp _ _ ⟨a, R3.ps.pt, ?_⟩
  generalize zn M2 3 = M3 at *
  have ob3 : zsz M ≤ zsz M2 ∧ zsz M2 < zsz M3 ∧ τ3 (zsz M2) = 1 := ⟨z2.2, by omega, on3 _ (Nat.le_refl _) (by omega)⟩
  have l1 := o1.2.1
  have l2 := u2.2.1
  have eK : ∀ b, isK (zOf n c dg) 7 s2 = b → isK (zOf n c dg) 7 s2 = b := fun _ h => h
  refine R3.takesW (dg := dg) (by omega) (fun hs => ?_) (fun hs e4 M4 R4 k4 => ?_) (fun hs w e q M' er => ZT.out (nohand rfl) (hn w (pe2.trans ((if_pos hs).trans (bnd_er e))) _ M' er))
  · show Z E YX9_inner (d + 14 + 1) M3 [(0, vr (some (pp, 8, 0)))] 169 [vi 0, vr (some (b2, t2, 0)), vr (some (b1, t1, 0)), vr (some (zsz M2, 37, 0)), vr (some (zsz M2, 37, 0))] Q
    refine iX9_inner_169 (d := d + 12) M3 pp _ _ _ _ _ ?_
    rw [if_pos rfl]
    refine ⟨by omega, ?_⟩
    have f4 : fg (fun x _ => zsz M ≤ x ∧ τ3 x = 1) M3 (sr (sr (sr M3 (zsz M2) 0 (some (b1, t1, 0))) (zsz M2) 1 (some (b2, t2, 0))) (zsz M2) 2 none) := (((fr.sr ⟨ob3.1, ob3.2.2⟩).tr (fr.sr ⟨ob3.1, ob3.2.2⟩)).tr (fr.sr ⟨ob3.1, ob3.2.2⟩)).fg
    have g4_0 : gr (sr (sr (sr M3 (zsz M2) 0 (some (b1, t1, 0))) (zsz M2) 1 (some (b2, t2, 0))) (zsz M2) 2 none) (zsz M2) 0 = (some (b1, t1, 0)) := by simp only [gr_si, gr_sr]; simp
    have g4_1 : gr (sr (sr (sr M3 (zsz M2) 0 (some (b1, t1, 0))) (zsz M2) 1 (some (b2, t2, 0))) (zsz M2) 2 none) (zsz M2) 1 = (some (b2, t2, 0)) := by simp only [gr_si, gr_sr]; simp
    have g4_2 : gr (sr (sr (sr M3 (zsz M2) 0 (some (b1, t1, 0))) (zsz M2) 1 (some (b2, t2, 0))) (zsz M2) 2 none) (zsz M2) 2 = none := by simp only [gr_si, gr_sr]; simp
    have sz4 : zsz (sr (sr (sr M3 (zsz M2) 0 (some (b1, t1, 0))) (zsz M2) 1 (some (b2, t2, 0))) (zsz M2) 2 none) = zsz M3 := rfl
    have su4 : zsu (sr (sr (sr M3 (zsz M2) 0 (some (b1, t1, 0))) (zsz M2) 1 (some (b2, t2, 0))) (zsz M2) 2 none) = zsu M3 := rfl
    generalize sr (sr (sr M3 (zsz M2) 0 (some (b1, t1, 0))) (zsz M2) 1 (some (b2, t2, 0))) (zsz M2) 2 none = M4 at *
    obtain ⟨τ4, R4, ag4, on4, m3_4⟩ := R3.lc (v := 0) (w := 0) (cz' := 110) (cu' := 2300) f4 (by omega) (by omega) (by omega) (by omega)
    have m4 := m3_4.tr (fin_mvr (lo := zsz M) (τ := τ4) (M := M4))
    have hb : nS (zsz M) (zsz M4) (fin (zsz M) τ4) (zsz M2) := fin_1 ob3.1 (by omega) ((ag4 _ ob3.2.1).trans ob3.2.2)
    have x1 := n1.mv ((k2.mvr.tr m23).tr m4) z190 (Nat.le_refl _) (Nat.le_refl _)
    obtain ⟨-, D2, o2, n2', h2, y2, ⟨q21, q22, q23, q24, q25⟩, q2⟩ := n2
    have x2 := (q2.mv (m23.tr m4) (by omega) (show zsz M ≤ zsz M1 by omega)).up (C' := fun b => zsz M ≤ b ∧ b < zsz M4) (fun b y => ⟨by omega, by omega⟩) (Nat.le_refl _) (Nat.le_refl _) (Nat.le_refl _) (Nat.le_refl _) (Nat.le_refl _)
    have p1 := pos_le R4.ps.tz (t := s.1) (t' := s1.1) (by omega) (by omega)
    have p2 := pos_le R4.ps.tz (t := s1.1) (t' := s2.1) (by omega) (Nat.le_refl _)
    refine hy (gIf v1.1 v2) s2 (pe2.trans (if_neg (by rw [hs]; decide))) M4 _ fs2 (zsz M2, 37, 0) (R4.ndx (by omega) (by omega)) ⟨⟨rfl, by show 20 ≤ 37; decide, by show 37 ≤ 44; decide⟩, _, _, _, _, _, ⟨?_, ?_, ?_, ?_, q25⟩, sn_If hb g4_0 g4_1 g4_2 x1.2.1 o1.2.2.1 x2 u2.2.2 ⟨q24, q25⟩ (by omega)⟩
    · omega
    · show _ ≤ _ + 2500
      omega
    · omega
    · omega
  · show Z E YX9_inner (d + 14 + 1) M4 [(0, vr (some (pp, 8, 0)))] 169 [vi 1, vr (some (b2, t2, 0)), vr (some (b1, t1, 0)), vr (some (zsz M2, 37, 0)), vr (some (zsz M2, 37, 0))] Q
    refine iX9_inner_169 (d := d + 12) M4 pp _ _ _ _ _ ?_
    rw [if_neg (by decide)]
    have pe4 := pe2.trans ((if_pos hs).trans (bnd_ok e4))
    have ob4 := k4.ow ob3
    have z34 := k4.z
    refine R4.stm hS.x (by omega) trivial (by omega) (by omega) rfl (hr.stmt C _) (fun v s' z => z.1) (fun v5 s5 e5 u5 M5 τ5 fs5 b5 t5 R5 k5 n5 => ?_) (fun w e q M' er => ZT.out (nohand rfl) (hn w (pe4.trans (bnd_er e)) _ M' er))
    show Z E YX9_inner (d + 14 + 1) M5 [] 176 [vr (some (b5, t5, 0)), vr (some (b2, t2, 0)), vr (some (b1, t1, 0)), vr (some (zsz M2, 37, 0)), vr (some (zsz M2, 37, 0))] Q
    refine iX9_inner_176 (d := d + 12) M5 _ _ _ _ _ ⟨by omega, ?_⟩
    have ob5 := k5.ow ob4
    have z45 := k5.z
    have f6 : fg (fun x _ => zsz M ≤ x ∧ τ5 x = 1) M5 (sr (sr (sr M5 (zsz M2) 0 (some (b1, t1, 0))) (zsz M2) 1 (some (b2, t2, 0))) (zsz M2) 2 (some (b5, t5, 0))) := (((fr.sr ⟨ob5.1, ob5.2.2⟩).tr (fr.sr ⟨ob5.1, ob5.2.2⟩)).tr (fr.sr ⟨ob5.1, ob5.2.2⟩)).fg
    have g6_0 : gr (sr (sr (sr M5 (zsz M2) 0 (some (b1, t1, 0))) (zsz M2) 1 (some (b2, t2, 0))) (zsz M2) 2 (some (b5, t5, 0))) (zsz M2) 0 = (some (b1, t1, 0)) := by simp only [gr_si, gr_sr]; simp
    have g6_1 : gr (sr (sr (sr M5 (zsz M2) 0 (some (b1, t1, 0))) (zsz M2) 1 (some (b2, t2, 0))) (zsz M2) 2 (some (b5, t5, 0))) (zsz M2) 1 = (some (b2, t2, 0)) := by simp only [gr_si, gr_sr]; simp
    have g6_2 : gr (sr (sr (sr M5 (zsz M2) 0 (some (b1, t1, 0))) (zsz M2) 1 (some (b2, t2, 0))) (zsz M2) 2 (some (b5, t5, 0))) (zsz M2) 2 = (some (b5, t5, 0)) := by simp only [gr_si, gr_sr]; simp
    have sz6 : zsz (sr (sr (sr M5 (zsz M2) 0 (some (b1, t1, 0))) (zsz M2) 1 (some (b2, t2, 0))) (zsz M2) 2 (some (b5, t5, 0))) = zsz M5 := rfl
    have su6 : zsu (sr (sr (sr M5 (zsz M2) 0 (some (b1, t1, 0))) (zsz M2) 1 (some (b2, t2, 0))) (zsz M2) 2 (some (b5, t5, 0))) = zsu M5 := rfl
    generalize sr (sr (sr M5 (zsz M2) 0 (some (b1, t1, 0))) (zsz M2) 1 (some (b2, t2, 0))) (zsz M2) 2 (some (b5, t5, 0)) = M6 at *
    obtain ⟨τ6, R6, ag6, on6, m5_6⟩ := R5.lc (v := 0) (w := 0) (cz' := 130) (cu' := 2700) f6 (by omega) (by omega) (by omega) (by omega)
    have m6 := m5_6.tr (fin_mvr (lo := zsz M) (τ := τ6) (M := M6))
    have hb : nS (zsz M) (zsz M6) (fin (zsz M) τ6) (zsz M2) := fin_1 ob5.1 (by omega) ((ag6 _ ob5.2.1).trans ob5.2.2)
    have x1 := n1.mv (((k2.mvr.tr m23).tr (k4.tr k5).mvr).tr m6) z190 (Nat.le_refl _) (Nat.le_refl _)
    obtain ⟨-, D2, o2, n2', h2, y2, ⟨q21, q22, q23, q24, q25⟩, q2⟩ := n2
    have x2 := (q2.mv ((m23.tr (k4.tr k5).mvr).tr m6) (by omega) (show zsz M ≤ zsz M1 by omega)).up (C' := fun b => zsz M ≤ b ∧ b < zsz M6) (fun b y => ⟨by omega, by omega⟩) (Nat.le_refl _) (Nat.le_refl _) (Nat.le_refl _) (Nat.le_refl _) (Nat.le_refl _)
    obtain ⟨-, D5, o5, n5', h5, y5, ⟨q51, q52, q53, q54, q55⟩, q5⟩ := n5
    have x5 := (q5.mv m6 (by omega) (show zsz M ≤ zsz M4 by omega)).up (C' := fun b => zsz M ≤ b ∧ b < zsz M6) (fun b y => ⟨by omega, by omega⟩) (Nat.le_refl _) (Nat.le_refl _) (Nat.le_refl _) (Nat.le_refl _) (Nat.le_refl _)
    have l5 := u5.2.1
    dsimp only at l5 q51 q52 q53
    have p1 := pos_le R6.ps.tz (t := s.1) (t' := s1.1) (by omega) (by omega)
    have p2 := pos_le R6.ps.tz (t := s1.1) (t' := s2.1) (by omega) (by omega)
    have p3 := pos_le R6.ps.tz (t := s2.1) (t' := s2.1 + 1) (by omega) (by omega)
    have p5 := pos_le R6.ps.tz (t := s2.1 + 1) (t' := s5.1) (by omega) (Nat.le_refl _)
    refine hy (gIfE v1.1 v2 v5) s5 (pe4.trans ((bnd_ok e5).trans rfl)) M6 _ fs5 (zsz M2, 37, 0) (R6.ndx (by omega) (by omega)) ⟨⟨rfl, by show 20 ≤ 37; decide, by show 37 ≤ 44; decide⟩, _, _, _, _, _, ⟨?_, ?_, ?_, ?_, ?_⟩, sn_IfE (D := max D2 D5) hb g6_0 g6_1 g6_2 x1.2.1 o1.2.2.1 (x2.up (fun _ z => z) (Nat.le_max_left _ _) (Nat.le_refl _) (Nat.le_refl _) (Nat.le_refl _) (Nat.le_refl _)) u2.2.2 ⟨q24, q25⟩ (x5.up (fun _ z => z) (Nat.le_max_right _ _) (Nat.le_refl _) (Nat.le_refl _) (Nat.le_refl _) (Nat.le_refl _)) u5.2.2 ⟨q54, q55⟩ (by omega)⟩
    · omega
    · show _ ≤ _ + 2500
      omega
    · omega
    · omega
    · omega
/-- break -/
theorem in_br (hN : cNx E pp a lf n c dS dE DE o r) (hdm : dS + 2 ≤ dm ∧ dE + 2 ≤ dm ∧ 32 ≤ dm) : cIn E pp a lf n c dm o 0 (pInn (zOf n c dg) K 0 r) := by
  obtain ⟨hr, hS, hE, hW, hDE⟩ := hN
  intro d Q M τ fs s C hd hH h hy hn
  obtain ⟨d, rfl⟩ : ∃ d', d = d' + 15 := ⟨d - 15, by omega⟩
  have R := rk_st h C.1
  have z190 := h.z190
  have pe0 : pInn (zOf n c dg) K 0 r C s = bnd (pSem (zOf n c dg) s) fun _ s => prt (fun e Γ st => gGo true e Γ st) s := by
    unfold pInn
    repeat rw [if_neg (by decide)]
    rw [if_pos rfl]
  refine iX9_inner_0 M pp _ ?_
  repeat rw [if_neg (by decide)]
  rw [if_pos rfl]
  refine R.semi (dg := dg) hH.2.1 (by omega) (fun s1 e1 es l1 M1 R1 k1 => ?_) (fun w e q M' er => ZT.out (nohand rfl) (hn w (pe0.trans (bnd_er e)) _ M' er))
  show Z E YX9_inner (d + 14 + 1) M1 [(1, vi 0)] 256 [] Q
  refine iX9_inner_256 (d := d + 12) M1 _ ?_
  rw [if_neg (by decide)]
  have z1 := R1.z0
  refine ⟨by omega, ⟨rfl, rfl⟩, ?_⟩
  have f2 : fg (fun x _ => zsz M ≤ x ∧ τ x = 1) M1 (si (zn M1 1) (zsz M1) 0 0) := (fg.zn (n := 1)).tr2 (fr.si (.inr (Nat.le_refl _))).fg
  have g2_0 : gi (si (zn M1 1) (zsz M1) 0 0) (zsz M1) 0 = 0 := by simp only [gi_si, gi_sr]; simp
  have sz2 : zsz (si (zn M1 1) (zsz M1) 0 0) = zsz M1 + 1 := rfl
  have su2 : zsu (si (zn M1 1) (zsz M1) 0 0) = zsu M1 + 1 := rfl
  generalize si (zn M1 1) (zsz M1) 0 0 = M2 at *
  obtain ⟨τ2, R2, ag2, on2, m1_2⟩ := R1.lc (v := 1) (w := 1) (cz' := 99) (cu' := 1999) f2 (by omega) (by omega) (by omega) (by omega)
  have m2 := m1_2.tr (fin_mvr (lo := zsz M) (τ := τ2) (M := M2))
  have hb : nS (zsz M) (zsz M2) (fin (zsz M) τ2) (zsz M1) := fin_1 (by omega) (by omega) (on2 _ (Nat.le_refl _) (by omega))
  have p1 := pos_le R2.ps.tz (t := s.1) (t' := s1.1) l1 (Nat.le_refl _)
  refine hy _ s1 (pe0.trans ((bnd_ok e1).trans rfl)) M2 _ fs (zsz M1, 40, 0) (R2.ndx (by omega) (by omega)) ⟨⟨rfl, by show 20 ≤ 40; decide, by show 40 ≤ 44; decide⟩, _, _, _, _, _, ⟨?_, ?_, ?_, Nat.le_refl _, Nat.le_refl _⟩, sn_Goes hb g2_0 ?_⟩
  · omega
  · show 4001 + 2 * 4001 ≤ _ + 12500
    omega
  · omega
  · exact hH.2.2.1 rfl
/-- continue -/
theorem in_co (hN : cNx E pp a lf n c dS dE DE o r) (hdm : dS + 2 ≤ dm ∧ dE + 2 ≤ dm ∧ 32 ≤ dm) : cIn E pp a lf n c dm o 3 (pInn (zOf n c dg) K 3 r) := by
  obtain ⟨hr, hS, hE, hW, hDE⟩ := hN
  intro d Q M τ fs s C hd hH h hy hn
  obtain ⟨d, rfl⟩ : ∃ d', d = d' + 15 := ⟨d - 15, by omega⟩
  have R := rk_st h C.1
  have z190 := h.z190
  have pe0 : pInn (zOf n c dg) K 3 r C s = bnd (pSem (zOf n c dg) s) fun _ s => prt (fun e Γ st => gGo false e Γ st) s := by
    unfold pInn
    repeat rw [if_neg (by decide)]
    rw [if_pos rfl]
  refine iX9_inner_0 M pp _ ?_
  repeat rw [if_neg (by decide)]
  rw [if_pos rfl]
  refine R.semi (dg := dg) hH.2.1 (by omega) (fun s1 e1 es l1 M1 R1 k1 => ?_) (fun w e q M' er => ZT.out (nohand rfl) (hn w (pe0.trans (bnd_er e)) _ M' er))
  show Z E YX9_inner (d + 14 + 1) M1 [(1, vi 3)] 256 [] Q
  refine iX9_inner_256 (d := d + 12) M1 _ ?_
  rw [if_pos rfl]
  have z1 := R1.z0
  refine ⟨by omega, ⟨rfl, rfl⟩, ?_⟩
  have f2 : fg (fun x _ => zsz M ≤ x ∧ τ x = 1) M1 (si (zn M1 1) (zsz M1) 0 1) := (fg.zn (n := 1)).tr2 (fr.si (.inr (Nat.le_refl _))).fg
  have g2_0 : gi (si (zn M1 1) (zsz M1) 0 1) (zsz M1) 0 = 1 := by simp only [gi_si, gi_sr]; simp
  have sz2 : zsz (si (zn M1 1) (zsz M1) 0 1) = zsz M1 + 1 := rfl
  have su2 : zsu (si (zn M1 1) (zsz M1) 0 1) = zsu M1 + 1 := rfl
  generalize si (zn M1 1) (zsz M1) 0 1 = M2 at *
  obtain ⟨τ2, R2, ag2, on2, m1_2⟩ := R1.lc (v := 1) (w := 1) (cz' := 99) (cu' := 1999) f2 (by omega) (by omega) (by omega) (by omega)
  have m2 := m1_2.tr (fin_mvr (lo := zsz M) (τ := τ2) (M := M2))
  have hb : nS (zsz M) (zsz M2) (fin (zsz M) τ2) (zsz M1) := fin_1 (by omega) (by omega) (on2 _ (Nat.le_refl _) (by omega))
  have p1 := pos_le R2.ps.tz (t := s.1) (t' := s1.1) l1 (Nat.le_refl _)
  refine hy _ s1 (pe0.trans ((bnd_ok e1).trans rfl)) M2 _ fs (zsz M1, 40, 0) (R2.ndx (by omega) (by omega)) ⟨⟨rfl, by show 20 ≤ 40; decide, by show 40 ≤ 44; decide⟩, _, _, _, _, _, ⟨?_, ?_, ?_, Nat.le_refl _, Nat.le_refl _⟩, sn_Goes hb g2_0 ?_⟩
  · omega
  · show 4001 + 2 * 4001 ≤ _ + 12500
    omega
  · omega
  · exact hH.2.2.2 rfl
/-- return -/
theorem in_re (hN : cNx E pp a lf n c dS dE DE o r) (hdm : dS + 2 ≤ dm ∧ dE + 2 ≤ dm ∧ 32 ≤ dm) : cIn E pp a lf n c dm o 18 (pInn (zOf n c dg) K 18 r) := by
  obtain ⟨hr, hS, hE, hW, hDE⟩ := hN
  intro d Q M τ fs s C hd hH h hy hn
  obtain ⟨d, rfl⟩ : ∃ d', d = d' + 15 := ⟨d - 15, by omega⟩
  have R := rk_st h C.1
  have z190 := h.z190
  have pe0 : pInn (zOf n c dg) K 18 r C s = bnd (if isS (zOf n c dg) 31 s || isS (zOf n c dg) 25 s || decide (tkd (zOf n c dg) s.1 = 0) || !(tln (zOf n c dg) s.1 == tln (zOf n c dg) (s.1 - 1)) then prt (gBk (gCo 0 0)) s else bnd (r.expr true C s) fun e s => prt (gBk e.1) s) fun y s => bnd (pSem (zOf n c dg) s) fun _ s => prt y s := by
    unfold pInn
    repeat rw [if_neg (by decide)]
    rw [if_pos rfl]
  refine iX9_inner_0 M pp _ ?_
  repeat rw [if_neg (by decide)]
  rw [if_pos rfl]
  have ln := tk_ln (dg := dg) h.tz hH.2.1
  have kd := tk_kd (dg := dg) h.tz
  have e7 : sgX (nI 31) = 7 := by decide +kernel
  have e1' : sgX (nI 25) = 1 := by decide +kernel
  have hz := h.z190
  have none_ : (isS (zOf n c dg) 31 s || isS (zOf n c dg) 25 s || decide (tkd (zOf n c dg) s.1 = 0) || !(tln (zOf n c dg) s.1 == tln (zOf n c dg) (s.1 - 1))) = true → Z E YX9_semicolon (d + 14) M (zargs 0 [vr (some (pp, 8, 0))]) 0 [] (zafter E YX9_inner (d + 14 + 1) [(3, vr none)] 338 3 [] Q) := fun hc => by
    have pe1 := pe0.trans (bnd_ok (if_pos hc))
    refine R.semi (dg := dg) hH.2.1 (by omega) (fun s1 e1 es l1 M1 R1 k1 => ?_) (fun w e q M' er => ZT.out (nohand rfl) (hn w (pe1.trans (bnd_er e)) _ M' er))
    show Z E YX9_inner (d + 14 + 1) M1 [(3, vr none)] 341 [] Q
    have z1 := R1.z0
    refine iX9_inner_341 (d := d + 12) M1 _ ⟨by omega, ?_⟩
    have f2 : fg (fun x _ => zsz M ≤ x ∧ τ x = 1) M1 (sr (zn M1 1) (zsz M1) 0 none) := (fg.zn (n := 1)).tr2 (fr.sr (.inr (Nat.le_refl _))).fg
    have g2_0 : gr (sr (zn M1 1) (zsz M1) 0 none) (zsz M1) 0 = none := by simp only [gr_si, gr_sr]; simp
    have sz2 : zsz (sr (zn M1 1) (zsz M1) 0 none) = zsz M1 + 1 := rfl
    have su2 : zsu (sr (zn M1 1) (zsz M1) 0 none) = zsu M1 + 1 := rfl
    generalize sr (zn M1 1) (zsz M1) 0 none = M2 at *
    obtain ⟨τ2, R2, ag2, on2, m1_2⟩ := R1.lc (v := 1) (w := 1) (cz' := 99) (cu' := 1999) f2 (by omega) (by omega) (by omega) (by omega)
    have m2 := m1_2.tr (fin_mvr (lo := zsz M) (τ := τ2) (M := M2))
    have hb : nS (zsz M) (zsz M2) (fin (zsz M) τ2) (zsz M1) := fin_1 (by omega) (by omega) (on2 _ (Nat.le_refl _) (by omega))
    have p1 := pos_le R2.ps.tz (t := s.1) (t' := s1.1) l1 (Nat.le_refl _)
    refine hy _ s1 (pe1.trans ((bnd_ok e1).trans rfl)) M2 _ fs (zsz M1, 41, 0) (R2.ndx (by omega) (by omega)) ⟨⟨rfl, by show 20 ≤ 41; decide, by show 41 ≤ 44; decide⟩, _, _, _, _, _, ⟨?_, ?_, ?_, Nat.le_refl _, Nat.le_refl _⟩, sn_Return (De := 0) hb (.inl ⟨g2_0, rfl⟩) (gE_Co 0 0) (Nat.le_refl _) (by omega)⟩
    · omega
    · show _ ≤ _ + 12500
      omega
    · omega
  have some_ : ¬ (isS (zOf n c dg) 31 s || isS (zOf n c dg) 25 s || decide (tkd (zOf n c dg) s.1 = 0) || !(tln (zOf n c dg) s.1 == tln (zOf n c dg) (s.1 - 1))) = true → Z E YX9_expression (d + 14) M (zargs 0 [vr (some (pp, 8, 0)), vi 1]) 0 [] (zafter E YX9_inner (d + 14 + 1) [(0, vr (some (pp, 8, 0)))] 333 3 [] Q) := fun hc => by
    have pe1 : pInn (zOf n c dg) K 18 r C s = bnd (r.expr true C s) fun e s => bnd (pSem (zOf n c dg) s) fun _ s => prt (gBk e.1) s := pe0.trans ((congrArg (fun x => bnd x fun y s => bnd (pSem (zOf n c dg) s) fun _ s => prt y s) (if_neg hc)).trans (bnd_as _ _ _))
    refine R.val (hE true).x (by omega) (by omega) (by omega) rfl (hr.expr true C s) (fun v s' z => z.1) (fun v1 s1 e1 o1 M1 τ1 fs1 b1 t1 R1 k1 n1 => ?_) (fun w e q M' er => ZT.out (nohand rfl) (hn w (pe1.trans (bnd_er e)) _ M' er))
    show Z E YX9_inner (d + 14 + 1) M1 [(0, vr (some (pp, 8, 0)))] 336 [vr (some (b1, t1, 0))] Q
    refine sX9_inner_336 M1 pp _ ?_
    have pe2 := pe1.trans (bnd_ok e1)
    have l1 := o1.2.1
    refine R1.semi (dg := dg) (by omega) (by omega) (fun s2 e2 es l2 M2 R2 k2 => ?_) (fun w e q M' er => ZT.out (nohand rfl) (hn w (pe2.trans (bnd_er e)) _ M' er))
    show Z E YX9_inner (d + 14 + 1) M2 [(3, vr (some (b1, t1, 0)))] 341 [] Q
    have z1 := R2.z0
    refine iX9_inner_341 (d := d + 12) M2 _ ⟨by omega, ?_⟩
    have f3 : fg (fun x _ => zsz M ≤ x ∧ τ1 x = 1) M2 (sr (zn M2 1) (zsz M2) 0 (some (b1, t1, 0))) := (fg.zn (n := 1)).tr2 (fr.sr (.inr (Nat.le_refl _))).fg
    have g3_0 : gr (sr (zn M2 1) (zsz M2) 0 (some (b1, t1, 0))) (zsz M2) 0 = (some (b1, t1, 0)) := by simp only [gr_si, gr_sr]; simp
    have sz3 : zsz (sr (zn M2 1) (zsz M2) 0 (some (b1, t1, 0))) = zsz M2 + 1 := rfl
    have su3 : zsu (sr (zn M2 1) (zsz M2) 0 (some (b1, t1, 0))) = zsu M2 + 1 := rfl
    generalize sr (zn M2 1) (zsz M2) 0 (some (b1, t1, 0)) = M3 at *
    obtain ⟨τ3, R3, ag3, on3, m2_3⟩ := R2.lc (v := 1) (w := 1) (cz' := 109) (cu' := 2199) f3 (by omega) (by omega) (by omega) (by omega)
    have m3 := m2_3.tr (fin_mvr (lo := zsz M) (τ := τ3) (M := M3))
    have hb : nS (zsz M) (zsz M3) (fin (zsz M) τ3) (zsz M2) := fin_1 (by omega) (by omega) (on3 _ (Nat.le_refl _) (by omega))
    have x1 := n1.mv (k2.mvr.tr m3) z190 (Nat.le_refl _) (Nat.le_refl _)
    have p1 := pos_le R3.ps.tz (t := s.1) (t' := s2.1) (by omega) (Nat.le_refl _)
    refine hy (gBk v1.1) s2 (pe2.trans ((bnd_ok e2).trans rfl)) M3 _ fs1 (zsz M2, 41, 0) (R3.ndx (by omega) (by omega)) ⟨⟨rfl, by show 20 ≤ 41; decide, by show 41 ≤ 44; decide⟩, _, _, _, _, _, ⟨?_, ?_, ?_, Nat.le_refl _, Nat.le_refl _⟩, sn_Return (De := DE) hb (.inr ⟨_, g3_0, x1.2.1⟩) o1.2.2.1 (by omega) (by omega)⟩
    · omega
    · show _ ≤ _ + 12500
      omega
    · omega
  refine ⟨a, h.pt, ?_⟩
  refine sX10_is_0 M a _ ?_
  have go : ∀ (x : Int32), x = (if isS (zOf n c dg) 31 s then 1 else 0) → Z E YX9_inner (d + 14 + 1) M [(0, vr (some (pp, 8, 0)))] 283 [vi x] Q := fun x hx => by
    refine iX9_inner_283 M pp _ ?_
    by_cases c1 : isS (zOf n c dg) 31 s = true
    · rw [if_pos c1] at hx
      rw [hx, if_neg (by decide)]
      exact none_ (by rw [c1]; rfl)
    · rw [if_neg c1] at hx
      rw [hx, if_pos rfl]
      have c1 : isS (zOf n c dg) 31 s = false := by simpa using c1
      refine ⟨a, h.pt, ?_⟩
      have last : isS (zOf n c dg) 25 s = false → (if (gi M a 3) = 0 then (Z E YX9_semicolon (d + 14) M (zargs 0 [vr (some (pp, 8, 0))]) 0 [] (zafter E YX9_inner (d + 14 + 1) [(3, vr none)] 338 3 [] Q)) else (if (gi M a 4) ≤ (gi M a 5) then (Z E YX9_expression (d + 14) M (zargs 0 [vr (some (pp, 8, 0)), vi 1]) 0 [] (zafter E YX9_inner (d + 14 + 1) [(0, vr (some (pp, 8, 0)))] 333 3 [] Q)) else (Z E YX9_semicolon (d + 14) M (zargs 0 [vr (some (pp, 8, 0))]) 0 [] (zafter E YX9_inner (d + 14 + 1) [(3, vr none)] 338 3 [] Q)))) := fun c2 => by
        by_cases c3 : gi M a 3 = 0
        · rw [if_pos c3]
          refine none_ ?_
          rw [show decide (tkd (zOf n c dg) s.1 = 0) = true from decide_eq_true (kd.symm.trans c3)]
          simp
        · rw [if_neg c3]
          have c3' : decide (tkd (zOf n c dg) s.1 = 0) = false := decide_eq_false (fun z => c3 (kd.trans z))
          by_cases c4 : gi M a 4 ≤ gi M a 5
          · rw [if_pos c4]
            refine some_ ?_
            rw [c1, c2, c3', ln.mp c4]
            decide
          · rw [if_neg c4]
            refine none_ ?_
            have c4' : (tln (zOf n c dg) s.1 == tln (zOf n c dg) (s.1 - 1)) = false := by
              cases hb : (tln (zOf n c dg) s.1 == tln (zOf n c dg) (s.1 - 1)) with
              | false => rfl
              | true => exact absurd (ln.mpr hb) c4
            rw [c4']
            simp
      by_cases c2 : gi M a 3 = 5
      · rw [if_pos c2]
        by_cases c3 : gi M a 6 = 1
        · rw [if_pos c3]
          refine none_ ?_
          rw [show isS (zOf n c dg) 25 s = true from (y_isS (j := 25) (by decide) dg h.tz).mp ⟨c2, c3.trans e1'.symm⟩]
          simp
        · rw [if_neg c3]
          exact last (by
            cases hb : isS (zOf n c dg) 25 s with
            | false => rfl
            | true => exact absurd (((y_isS (j := 25) (by decide) dg h.tz).mpr hb).2.trans e1') c3)
      · rw [if_neg c2]
        exact last (tk_ns (dg := dg) (j := 25) h.tz c2 (by decide))
  by_cases c1 : gi M a 3 = 5
  · rw [if_pos c1]
    by_cases c2 : gi M a 6 = 7
    · rw [if_pos c2]
      exact go 1 (by rw [show isS (zOf n c dg) 31 s = true from (y_isS (j := 31) (by decide) dg h.tz).mp ⟨c1, c2.trans e7.symm⟩]; rfl)
    · rw [if_neg c2]
      exact go 0 (by
        rw [show isS (zOf n c dg) 31 s = false from by
          cases hb : isS (zOf n c dg) 31 s with
          | false => rfl
          | true => exact absurd (((y_isS (j := 31) (by decide) dg h.tz).mpr hb).2.trans e7) c2]
        rfl)
  · rw [if_neg c1]
    exact go 0 (by rw [show isS (zOf n c dg) 31 s = false from tk_ns (dg := dg) (j := 31) h.tz c1 (by decide)]; rfl)
/-- throw -/
theorem in_th (hN : cNx E pp a lf n c dS dE DE o r) (hdm : dS + 2 ≤ dm ∧ dE + 2 ≤ dm ∧ 32 ≤ dm) : cIn E pp a lf n c dm o 21 (pInn (zOf n c dg) K 21 r) := by
  obtain ⟨hr, hS, hE, hW, hDE⟩ := hN
  intro d Q M τ fs s C hd hH h hy hn
  obtain ⟨d, rfl⟩ : ∃ d', d = d' + 15 := ⟨d - 15, by omega⟩
  have R := rk_st h C.1
  have z190 := h.z190
  have pe0 : pInn (zOf n c dg) K 21 r C s = if !(tln (zOf n c dg) s.1 == tln (zOf n c dg) (s.1 - 1)) then flt (zOf n c dg) 2 s else bnd (r.expr true C s) fun e s => bnd (pSem (zOf n c dg) s) fun _ s => prt (gTo e.1) s := by
    unfold pInn
    repeat rw [if_neg (by decide)]
    rw [if_pos rfl]
  refine iX9_inner_0 M pp _ ?_
  repeat rw [if_neg (by decide)]
  rw [if_pos rfl]
  have ln := tk_ln (dg := dg) h.tz hH.2.1
  refine ⟨a, h.pt, ?_⟩
  by_cases c4 : gi M a 4 ≤ gi M a 5
  · rw [if_pos c4]
    have pe1 := pe0.trans (if_neg (by rw [ln.mp c4]; decide))
    refine R.val (hE true).x (by omega) (by omega) (by omega) rfl (hr.expr true C s) (fun v s' z => z.1) (fun v1 s1 e1 o1 M1 τ1 fs1 b1 t1 R1 k1 n1 => ?_) (fun w e q M' er => ZT.out (nohand rfl) (hn w (pe1.trans (bnd_er e)) _ M' er))
    show Z E YX9_inner (d + 14 + 1) M1 [(0, vr (some (pp, 8, 0)))] 374 [vr (some (b1, t1, 0))] Q
    refine sX9_inner_374 M1 pp _ ?_
    have pe2 := pe1.trans (bnd_ok e1)
    have l1 := o1.2.1
    refine R1.semi (dg := dg) (by omega) (by omega) (fun s2 e2 es l2 M2 R2 k2 => ?_) (fun w e q M' er => ZT.out (nohand rfl) (hn w (pe2.trans (bnd_er e)) _ M' er))
    show Z E YX9_inner (d + 14 + 1) M2 [(2, vr (some (b1, t1, 0)))] 379 [] Q
    have z1 := R2.z0
    refine iX9_inner_379 (d := d + 12) M2 _ ⟨by omega, ?_⟩
    have f3 : fg (fun x _ => zsz M ≤ x ∧ τ1 x = 1) M2 (sr (zn M2 1) (zsz M2) 0 (some (b1, t1, 0))) := (fg.zn (n := 1)).tr2 (fr.sr (.inr (Nat.le_refl _))).fg
    have g3_0 : gr (sr (zn M2 1) (zsz M2) 0 (some (b1, t1, 0))) (zsz M2) 0 = (some (b1, t1, 0)) := by simp only [gr_si, gr_sr]; simp
    have sz3 : zsz (sr (zn M2 1) (zsz M2) 0 (some (b1, t1, 0))) = zsz M2 + 1 := rfl
    have su3 : zsu (sr (zn M2 1) (zsz M2) 0 (some (b1, t1, 0))) = zsu M2 + 1 := rfl
    generalize sr (zn M2 1) (zsz M2) 0 (some (b1, t1, 0)) = M3 at *
    obtain ⟨τ3, R3, ag3, on3, m2_3⟩ := R2.lc (v := 1) (w := 1) (cz' := 109) (cu' := 2199) f3 (by omega) (by omega) (by omega) (by omega)
    have m3 := m2_3.tr (fin_mvr (lo := zsz M) (τ := τ3) (M := M3))
    have hb : nS (zsz M) (zsz M3) (fin (zsz M) τ3) (zsz M2) := fin_1 (by omega) (by omega) (on3 _ (Nat.le_refl _) (by omega))
    have x1 := n1.mv (k2.mvr.tr m3) z190 (Nat.le_refl _) (Nat.le_refl _)
    have p1 := pos_le R3.ps.tz (t := s.1) (t' := s2.1) (by omega) (Nat.le_refl _)
    refine hy (gTo v1.1) s2 (pe2.trans ((bnd_ok e2).trans rfl)) M3 _ fs1 (zsz M2, 42, 0) (R3.ndx (by omega) (by omega)) ⟨⟨rfl, by show 20 ≤ 42; decide, by show 42 ≤ 44; decide⟩, _, _, _, _, _, ⟨?_, ?_, ?_, Nat.le_refl _, Nat.le_refl _⟩, sn_Throw (De := DE) hb g3_0 x1.2.1 o1.2.2.1 (by omega)⟩
    · omega
    · show _ ≤ _ + 2500
      omega
    · omega
  · rw [if_neg c4]
    have c4' : (tln (zOf n c dg) s.1 == tln (zOf n c dg) (s.1 - 1)) = false := by
      cases hb : (tln (zOf n c dg) s.1 == tln (zOf n c dg) (s.1 - 1)) with
      | false => rfl
      | true => exact absurd (ln.mpr hb) c4
    refine R.flt (dg := dg) (k := 2) rfl (by omega) (fun q M' er => ?_)
    show Z E YX9_inner (d + 14 + 1) M' [] 368 [vr (some (q, 12, 0))] Q
    exact sX9_inner_368 M' _ ⟨q, rfl, hn _ (pe0.trans ((if_pos (by rw [c4']; rfl)).trans rfl)) _ M' er⟩
end
