/-! THE COMPONENT's PARSER: switch -/
theorem sn_Switch {S B : Nat → Prop} {M : zM} {cc : Nat × Nat} {C C' : Nat → Prop} {De b lt lb ox ot D : Nat} {p1 : zP} {x : gEx} {cz : gCz} {es fs : List (Option zP)} (hb : B b) (hCb : C b) (hC' : ∀ a, C' a → C a) (hnb : ¬ C' b) (e0 : gr M b 0 = some p1) (e1 : gr M b 1 = some (lt, 11, 0)) (e2 : gr M b 2 = some (lb, 11, 0)) (h1 : xE S M De p1 x) (hx : gE ox x) (ht : xLr S M lt es) (htl : es.length = cz.length) (hfl : xLr S M lb fs) (hbl : fs.length = cz.length)
    (hts : ∀ (k : Nat) q, cz[k]? = some q → (q.2.1 = none ∧ es.getD k none = none) ∨ ∃ y p, q.2.1 = some y ∧ es.getD k none = some p ∧ xE S M De p y ∧ gE ot y)
    (hbs : ∀ (k : Nat) q, cz[k]? = some q → (q.1.1 ≤ q.1.2.1 ∧ q.1.2.2.1 ≤ q.1.2.2.2) ∧ gokT q.2.2 ∧ ∃ pb, fs.getD k none = some (pb, 20, 0) ∧ sNd S B M (cc.1, cc.2 + 1) C' D q.1.1 q.1.2.1 q.1.2.2.1 q.1.2.2.2 (pb, 20, 0) q.2.2)
    (hun : ∀ (k k' : Nat) (q q' : (Nat × Nat × Nat × Nat) × (Option gEx × gSt)), cz[k]? = some q → cz[k']? = some q' → q.2.1 = none → q'.2.1 = none → k = k') (hnn : cz.length ≤ nTs cz + 1) (hlen : cz.length < 10000) (hDe : De ≤ 348) (hon : sO (czB cz) ≤ sN (czB cz) ∧ sH (czB cz) ≤ sK (czB cz)) :
    sNd S B M cc C (D + 2) (ox + cz.length * (ot + 5) + 2 + sO (czB cz)) (ox + cz.length * (ot + 5) + 2 + sN (czB cz)) (cz.length + 1 + sH (czB cz)) (cz.length + 1 + sK (czB cz)) (b, 44, 0) (gSw x (czS cz)) := fun S' B' M' k1 k2 k3 k4 k5 =>
  xs_Switch (k2 b hb) hCb hC' hnb ((k5 b 0 hb (by decide)).2.trans e0) ((k5 b 1 hb (by decide)).2.trans e1) ((k5 b 2 hb (by decide)).2.trans e2) (xE_mono h1 k1 k3 k4 (Nat.le_refl _)) hx.1 hx.2.1 hx.2.2 (xLr_mono (xLr_ag ht k4) k1) htl (xLr_mono (xLr_ag hfl k4) k1) hbl (fun k q hq => (hts k q hq).imp id fun ⟨y, p, z1, z2, z3, z4⟩ => ⟨y, p, z1, z2, xE_mono z3 k1 k3 k4 (Nat.le_refl _), z4.1, z4.2.1, z4.2.2⟩) (fun k q hq => ⟨(hbs k q hq).1, (hbs k q hq).2.1, by obtain ⟨pb, z1, z2⟩ := (hbs k q hq).2.2; exact ⟨pb, z1, z2 S' B' M' k1 k2 k3 k4 k5⟩⟩) hun hnn hlen hDe hon
/-- the switch that is being made: its tests, its bodies -/
def wZ (lo : Nat) (M : zM) (τ : Nat → Nat) (b lt lb : Nat) (p1 : zP) (es fs : List (Option zP)) : Prop := (lo ≤ b ∧ b < zsz M ∧ τ b = 1) ∧ (gr M b 0 = some p1 ∧ gr M b 1 = some (lt, 11, 0) ∧ gr M b 2 = some (lb, 11, 0) ∧ gr M b 3 = none) ∧ wL lo M τ lt es ∧ wL lo M τ lb fs ∧ (b ≠ lt ∧ b ≠ lb ∧ lt ≠ lb) ∧ (b ≠ lA M lt ∧ b ≠ lA M lb ∧ lt ≠ lA M lb ∧ lb ≠ lA M lt) ∧ (16 ≤ lA M lt → lA M lt ≠ lA M lb)
/-- its cases -/
def wC (lo b : Nat) (M : zM) (τ : Nat → Nat) (cc : Nat × Nat) (DE T D : Nat) (es fs : List (Option zP)) (cz : gCz) : Prop := (es.length = cz.length ∧ fs.length = cz.length) ∧ ∀ (k : Nat) q, cz[k]? = some q → ((q.2.1 = none ∧ es.getD k none = none) ∨ ∃ y p, q.2.1 = some y ∧ es.getD k none = some p ∧ xE (nS lo (zsz M) τ) M DE p y ∧ gE (12 * T) y) ∧ (q.1.1 ≤ q.1.2.1 ∧ q.1.2.2.1 ≤ q.1.2.2.2) ∧ gokT q.2.2 ∧ ∃ pb, fs.getD k none = some (pb, 20, 0) ∧ sNd (nS lo (zsz M) τ) (nW lo (zsz M) τ) M (cc.1, cc.2 + 1) (fun x => b < x ∧ x < zsz M) D q.1.1 q.1.2.1 q.1.2.2.1 q.1.2.2.2 (pb, 20, 0) q.2.2
theorem nTs_app : ∀ (cz : gCz) (q : (Nat × Nat × Nat × Nat) × (Option gEx × gSt)), nTs (cz ++ [q]) = nTs cz + (match q.2.1 with | none => 0 | some _ => 1)
  | [], (a, none, y) => rfl
  | [], (a, some x, y) => rfl
  | x :: cz, q => by
    have := nTs_app cz q
    show _ + nTs (cz ++ [q]) = _ + nTs cz + _
    omega
theorem getD_app_l {α : Type} {l : List (Option α)} {x : Option α} {k : Nat} (h : k < l.length) : (l ++ [x]).getD k none = l.getD k none := by
  rw [List.getD_eq_getElem?_getD, List.getElem?_append_left h, ← List.getD_eq_getElem?_getD]
theorem getD_app_r {α : Type} {l : List (Option α)} {x : Option α} {k : Nat} (h : k = l.length) : (l ++ [x]).getD k none = x := by
  rw [h, List.getD_eq_getElem?_getD, List.getElem?_append_right (Nat.le_refl _), Nat.sub_self]
  rfl
/-- arithmetic: cases and the longest test -/
theorem ar_sq (u v : Nat) : 4 * (u * v) ≤ (u + v) * (u + v) := by
  have key : ∀ u t : Nat, 4 * (u * (u + t)) ≤ (u + (u + t)) * (u + (u + t)) := fun u t => by
    have e1 : u * (u + t) = u * u + u * t := Nat.mul_add u u t
    have e2 : (u + (u + t)) * (u + (u + t)) = 4 * (u * u) + 4 * (u * t) + t * t := by
      simp only [Nat.add_mul, Nat.mul_add]
      have := Nat.mul_comm t u
      omega
    rw [e2, e1]
    omega
  rcases Nat.le_total u v with h | h
  · obtain ⟨t, rfl⟩ := Nat.le.dest h
    exact key u t
  · obtain ⟨t, rfl⟩ := Nat.le.dest h
    have := key v t
    rw [Nat.mul_comm (v + t) v, Nat.add_comm (v + t) v]
    exact this
theorem ar_sw {l T A B ox P hd m o : Nat} (h1 : 6 * l + T + 1 ≤ A) (h2 : A + B ≤ P) (hA : A ≤ 1281) (hx : ox ≤ 12 * hd) (h3 : hd ≤ A) (h4 : m + 2 * o ≤ 2500 * B) : (ox + l * (12 * T + 5) + 2 + m) + 2 * (ox + l * (12 * T + 5) + 2 + o) ≤ 2500 * P := by
  have e1 : l * (12 * T + 5) = 12 * (l * T) + 5 * l := by
    rw [Nat.mul_add, Nat.mul_comm l 5, Nat.mul_left_comm]
  have s1 := ar_sq (6 * l) T
  have s2 : (6 * l + T) * (6 * l + T) ≤ A * 1281 := Nat.mul_le_mul (by omega) (by omega)
  have e2 : 6 * l * T = 6 * (l * T) := Nat.mul_assoc 6 l T
  rw [e2] at s1
  rw [e1]
  omega
section
variable {E : zE} {pp a lf n : Nat} {c : Nat → Int32} {dg : Int32 → List Int32} {K o dS dE DE dm : Nat} {r : pT}
variable {M0 M M' : zM} {τ0 τ τ' : Nat → Nat} {fs0 fs' : List Nat} {s0 s s' : pS} {c0 : Nat → Prop} {C : pC} {cz cu cz' cu' lo b l lt lb D : Nat} {p1 : zP} {es fs : List (Option zP)} {fl : List Nat}
theorem wZ.k (h : wZ lo M τ b lt lb p1 es fs) (k : kp τ M τ' M') (hl : 190 ≤ lo) : wZ lo M' τ' b lt lb p1 es fs ∧ lC M' lt = lC M lt ∧ lC M' lb = lC M lb := by
  obtain ⟨h1, h2, h3, h4, h5, h6, h7⟩ := h
  have w1 := k.wl h3 hl
  have w2 := k.wl h4 hl
  have g := fun i => (k.g (x := b) ⟨by omega, h1.2⟩ i).2
  refine ⟨⟨k.ow h1, ⟨(g 0).trans h2.1, (g 1).trans h2.2.1, (g 2).trans h2.2.2.1, (g 3).trans h2.2.2.2⟩, w1.1, w2.1, h5, ?_, ?_⟩, w1.2.2, w2.2.2⟩
  · rw [w1.2.1, w2.2.1]; exact h6
  · rw [w1.2.1, w2.2.1]; exact h7
theorem wC.mv {T T' D' : Nat} {cc : Nat × Nat} {cs : gCz} (h : wC lo b M τ cc DE T D es fs cs) (m : mvr τ M τ' M') (hl : 190 ≤ lo) (hT : T ≤ T') (hD : D ≤ D') : wC lo b M' τ' cc DE T' D' es fs cs := ⟨h.1, fun k q hq => by
  obtain ⟨h1, h2, h3, pb, h4, h5⟩ := h.2 k q hq
  have z := m.1.1.1
  refine ⟨h1.imp id fun ⟨y, p, z1, z2, z3, z4⟩ => ⟨y, p, z1, z2, xE_mono z3 (fun x z => m.sub (Nat.le_refl _) (Nat.le_refl _) x z) (nS_190 hl) (m.agS hl (Nat.le_refl _)) (Nat.le_refl _), z4.mono (by omega)⟩, h2, h3, pb, h4, (h5.mv m hl (Nat.le_refl _)).up (fun b y => ⟨y.1, by omega⟩) hD (Nat.le_refl _) (Nat.le_refl _) (Nat.le_refl _) (Nat.le_refl _)⟩⟩
theorem wC.app {T : Nat} {cc : Nat × Nat} {cs : gCz} {x : Option zP} {pb : Nat} {q : (Nat × Nat × Nat × Nat) × (Option gEx × gSt)} (h : wC lo b M τ cc DE T D es fs cs) (hx : (q.2.1 = none ∧ x = none) ∨ ∃ y p, q.2.1 = some y ∧ x = some p ∧ xE (nS lo (zsz M) τ) M DE p y ∧ gE (12 * T) y) (hq : q.1.1 ≤ q.1.2.1 ∧ q.1.2.2.1 ≤ q.1.2.2.2) (hg : gokT q.2.2) (hp : sNd (nS lo (zsz M) τ) (nW lo (zsz M) τ) M (cc.1, cc.2 + 1) (fun x => b < x ∧ x < zsz M) D q.1.1 q.1.2.1 q.1.2.2.1 q.1.2.2.2 (pb, 20, 0) q.2.2) : wC lo b M τ cc DE T D (es ++ [x]) (fs ++ [some (pb, 20, 0)]) (cs ++ [q]) := by
  refine ⟨by rw [List.length_append, List.length_append, List.length_append, h.1.1, h.1.2]; exact ⟨rfl, rfl⟩, fun k q' hk => ?_⟩
  by_cases z : k < cs.length
  · rw [List.getElem?_append_left z] at hk
    have := h.2 k q' hk
    rw [getD_app_l (by rw [h.1.1]; exact z), getD_app_l (by rw [h.1.2]; exact z)]
    exact this
  · have hl : k < (cs ++ [q]).length := (List.getElem?_eq_some_iff.mp hk).1
    rw [List.length_append] at hl
    have hl : k < cs.length + 1 := hl
    have e : k = cs.length := by omega
    rw [e, List.getElem?_append_right (Nat.le_refl _), Nat.sub_self] at hk
    cases hk
    rw [getD_app_r (by rw [h.1.1]; exact e), getD_app_r (by rw [h.1.2]; exact e)]
    exact ⟨hx, hq, hg, pb, rfl, hp⟩
theorem wL.lr (h : wL lo M τ l es) : xLr (nS lo (zsz M) (fin lo τ)) M l es := by
  obtain ⟨⟨a0, a1, a2, a3, a4⟩, h2, h3⟩ := h
  refine ⟨fin_1 h2.1 a0.2 h2.2, a1, a2, ?_⟩
  rcases a4 with ⟨-, e⟩ | ⟨b, m, e1, e2, e3, e4⟩
  · exact .inl e
  · have eb : lA M l = b := by unfold lA; rw [e1]
    have := h3 (by rw [eb]; exact e2.1)
    rw [eb] at this
    exact .inr ⟨b, m, e1, fin_1 this.1 e2.2.1 this.2, ⟨e3.1, by omega⟩, e4⟩
theorem wL.lz (h : wL lo M τ l es) (hz : 190 ≤ zsz M) : l < zsz M ∧ lA M l < zsz M := by
  refine ⟨h.1.1.2, ?_⟩
  rcases h.1.2.2.2.2 with ⟨e, -⟩ | ⟨b, m, e, e2, -⟩
  · unfold lA; rw [e]; show 1 < _; omega
  · unfold lA; rw [e]; exact e2.2.1
/-- : statements, of a case -/
theorem y_cst {d : Nat} {Q : zO → zM → Prop} {l2 : Int32} {r3 : Option zP} (hS : cSm E pp a lf n c YX9_statement [] dS o r.stmt) (hr : okT r) (hK : 1300 ≤ K) (hd : dS ≤ d + 14 ∧ 16 ≤ d + 14) (h : xPs M τ pp a lf n c fl s C o)
    (hy : ∀ y s', (bnd (nedS (zOf n c dg) 46 s) fun _ s => pStms r C (fun s => isS (zOf n c dg) 25 s || isK (zOf n c dg) 1 s || isK (zOf n c dg) 4 s) K gNo s) = .ok (y, s') → ∀ M' τ' fl' bb, pEnd pp a lf n c 9 199 M τ fl s C o M' τ' fl' s' → s.1 + 1 ≤ s'.1 → (∃ D o m h k, szG n c 0 7 0 0 (s.1 + 1, s.2) s' D o m h k ∧ sNd (nS (zsz M) (zsz M') τ') (nW (zsz M) (zsz M') τ') M' C.2 (fun x => zsz M ≤ x ∧ x < zsz M') D o m h k (bb, 20, 0) y) →
      ∃ l : Nat, (gr M' b 1) = some (l, 11, 0) ∧ (Z E YJ2_add (d + 14) M' (zargs 0 [vr (some (l, 11, 0)), vr r3]) 0 [] (zafter E YX9_chosen (d + 14 + 1) [(0, vr (some (pp, 8, 0))), (1, vr (some (b, 44, 0))), (2, vi l2), (4, vr (some (bb, 20, 0)))] 171 3 [] Q)))
    (hn : ∀ w, (bnd (nedS (zOf n c dg) 46 s) fun _ s => pStms r C (fun s => isS (zOf n c dg) 25 s || isK (zOf n c dg) 1 s || isK (zOf n c dg) 4 s) K gNo s) = .error w → ∀ q M', pEr lf 9 199 τ fl M s w (.inr (q, 12, 0)) M' → Q (.inr (q, 12, 0)) M') : Z E YX10_need (d + 14) M (zargs 0 [vr (some (a, 9, 0)), vi 35]) 0 [] (zafter E YX9_chosen (d + 14 + 1) [(0, vr (some (pp, 8, 0))), (1, vr (some (b, 44, 0))), (2, vi l2), (3, vr r3)] 105 3 [] Q) := by
  have R := rk_st h C.1
  have z190 := h.z190
  refine R.need (dg := dg) (j := 46) (by decide) (by decide +kernel) (by omega) (fun e1 M1 R1 k1 => ?_) (fun w e q M' er => ZT.out (nohand rfl) (hn w (bnd_er e) _ M' er))
  show Z E YX9_chosen (d + 14 + 1) M1 [(0, vr (some (pp, 8, 0))), (1, vr (some (b, 44, 0))), (2, vi l2), (3, vr r3)] 108 [] Q
  have z1 := R1.z0
  have hy := fun y s' e => hy y s' ((bnd_ok e1).trans e)
  have hn := fun w e => hn w ((bnd_ok e1).trans e)
  refine iX9_chosen_108 (d := d + 10) M1 pp b _ _ ⟨by show 16 ≤ zsz M1 + 1; omega, by omega, ?_⟩
  obtain ⟨τ2, R2, W2, l2', ag2, m12, -⟩ := R1.bnew (cz' := 118) (cu' := 2396) (by omega) (by omega)
  generalize sr (sr (si (zn (zn M1 1) 3) (zsz (zn M1 1)) 0 (0 : Int32)) (zsz (zn M1 1)) 1 (some (1, 110, 0))) (zsz M1) 0 (some ((zsz (zn M1 1)), 11, 0)) = M2 at *
  generalize zsz M1 = bb at *
  have e25 : sgX (nI 25) = 1 := by decide +kernel
  have loop : ∀ (f : Nat) (M2 : zM) (τ2 : Nat → Nat) (fs2 : List Nat) (s2 : pS) (cz cu l : Nat) (es : List (Option zP)) (gs : gBs), 1300 ≤ f + s2.1 → s.1 + 1 ≤ s2.1 → rk pp a lf n c M τ fl s (geN s.2.2.length) C o M2 τ2 fs2 s2 cz cu → wB (zsz M) M2 τ2 bb l es → wTs (zsz M) M2 τ2 C.2 ((5 * (s2.1 - (s.1 + 1)) + 3) / 4) es gs → sN gs + 2 * sO gs ≤ 2500 * ((tkn n c s2.1).2.2.1 - (tkn n c (s.1 + 1)).2.2.1) → sK gs + 2 * sH gs ≤ 3 * (s2.1 - (s.1 + 1)) → 118 ≤ cz → 2396 + 100 * es.length ≤ cu + 4 * lC M2 l → es.length ≤ s2.1 →
      pStms r C (fun s => isS (zOf n c dg) 25 s || isK (zOf n c dg) 1 s || isK (zOf n c dg) 4 s) K gNo (s.1 + 1, s.2) = pStms r C (fun s => isS (zOf n c dg) 25 s || isK (zOf n c dg) 1 s || isK (zOf n c dg) 4 s) f (gBl gs) s2 → Z E YX9_chosen (d + 14 + 1) M2 [(0, vr (some (pp, 8, 0))), (1, vr (some (b, 44, 0))), (2, vi l2), (3, vr r3), (4, vr (some (bb, 20, 0)))] 117 [] Q := by
    intro f
    induction f with
    | zero => intro M2 τ2 fs2 s2 cz cu l es gs hf _ R2 _ _ _ _ _ _ _ _; have := R2.ps.tz.t_le; omega
    | succ f ih =>
      intro M2 τ2 fs2 s2 cz cu l es gs hf hs2 R2 W2 T2 hN hK' hz hu hl pe
      have tl := R2.ps.tz.t_le
      have lc := lC_le W2.2.2.2.1
      have kd := tk_kd (dg := dg) R2.ps.tz
      refine iX9_chosen_117 M2 pp b _ _ bb ⟨a, R2.ps.pt, ?_⟩
      have stopd : (isS (zOf n c dg) 25 s2 || isK (zOf n c dg) 1 s2 || isK (zOf n c dg) 4 s2) = true → ∃ l : Nat, (gr M2 b 1) = some (l, 11, 0) ∧ (Z E YJ2_add (d + 14) M2 (zargs 0 [vr (some (l, 11, 0)), vr r3]) 0 [] (zafter E YX9_chosen (d + 14 + 1) [(0, vr (some (pp, 8, 0))), (1, vr (some (b, 44, 0))), (2, vi l2), (4, vr (some (bb, 20, 0)))] 171 3 [] Q)) := fun hs => by
        have ps : pStms r C (fun s => isS (zOf n c dg) 25 s || isK (zOf n c dg) 1 s || isK (zOf n c dg) 4 s) (f + 1) (gBl gs) s2 = prt (gBl gs) s2 := by rw [pStms]; rw [if_pos hs]
        have T3 := T2.mv (fin_mvr (lo := zsz M)) z190 (Nat.le_refl _)
        have le := T2.le
        refine hy (gBl gs) s2 (pe.trans ps) M2 _ fs2 bb (R2.nd (by omega) (by omega)) hs2 ⟨_, _, _, _, _, ⟨?_, ?_, ?_, le⟩, W2.nl T3⟩
        · dsimp only; omega
        · dsimp only; omega
        · dsimp only; omega
      have key : ¬ (isS (zOf n c dg) 25 s2 || isK (zOf n c dg) 1 s2 || isK (zOf n c dg) 4 s2) = true → Z E YX9_statement (d + 14) M2 (zargs 0 [vr (some (pp, 8, 0))]) 0 [] (zafter E YX9_chosen (d + 14 + 1) [(0, vr (some (pp, 8, 0))), (1, vr (some (b, 44, 0))), (2, vi l2), (3, vr r3), (4, vr (some (bb, 20, 0)))] 156 3 [vr (gr M2 bb 0)] Q) := fun hs => by
        rw [W2.2.2.1]
        have ps := stms_st (r := r) (C := C) (stop := fun s => isS (zOf n c dg) 25 s || isK (zOf n c dg) 1 s || isK (zOf n c dg) 4 s) (f := f) (acc := gBl gs) (s := s2) hs
        refine R2.stm hS.x (by omega) trivial (by omega) (by omega) rfl (hr.stmt C s2) (fun v s' z => z.1) (fun v4 s4 e4 o4 M4 τ4 fs4 b4 t4 R4 k4 n4 => ?_) (fun w e q M' er => ZT.out (nohand rfl) (hn w (pe.trans (ps.trans (bnd_er e))) _ M' er))
        show Z E YX9_chosen (d + 14 + 1) M4 [(0, vr (some (pp, 8, 0))), (1, vr (some (b, 44, 0))), (2, vi l2), (3, vr r3), (4, vr (some (bb, 20, 0)))] 159 [vr (some (b4, t4, 0)), vr (some (l, 11, 0))] Q
        refine sX9_chosen_159 M4 pp b _ _ bb _ _ ⟨l, rfl, ?_⟩
        have W4 := W2.k k4 z190
        have l4 := o4.2.1
        obtain ⟨n1, D4, o5, m5, h5, k5, n2, n3⟩ := n4
        refine R4.badd (cz' := 118) W4.1 (by omega) (sto_n n1.2.1 n1.2.2) (by omega) (by omega) (by omega) (fun M5 τ5 cu5 R5 u5 W5 m45 ag5 f5 => ?_)
        show Z E YX9_chosen (d + 14 + 1) M5 [(0, vr (some (pp, 8, 0))), (1, vr (some (b, 44, 0))), (2, vi l2), (3, vr r3), (4, vr (some (bb, 20, 0)))] 162 [vi 1] Q
        refine sX9_chosen_162 M5 pp b _ _ bb _ ?_
        have z4 := R2.z0
        have zz := m45.1.1.1
        have T5 := ((T2.mv k4.mvr z190 (Nat.le_refl _)).mv m45 z190 (ar_b1 hs2 l4)).app (p := (b4, t4, 0)) (q := ((o5, m5, h5, k5), v4)) ⟨n2.2.2.2.1, n2.2.2.2.2⟩ ((n3.mv m45 R2.ps.z190 z4.2).up (fun b y => ⟨by omega, by omega⟩) (ar_b2 n2.1 hs2 l4) (Nat.le_refl _) (Nat.le_refl _) (Nat.le_refl _) (Nat.le_refl _))
        have sa := sO_app gs ((o5, m5, h5, k5), v4)
        dsimp only at sa
        have p2 := pos_le R4.ps.tz (t := s.1 + 1) (t' := s2.1) hs2 (by omega)
        have p3 := pos_le R4.ps.tz (t := s2.1) (t' := s4.1) (by omega) (Nat.le_refl _)
        refine ih M5 τ5 fs4 s4 118 cu5 l _ (gs ++ [((o5, m5, h5, k5), v4)]) (by omega) (by omega) R5 W5 T5 ?_ ?_ (Nat.le_refl _) ?_ ?_ (pe.trans ?_)
        · have := ar_b3 hN n2.2.1 (by omega) (by omega)
          omega
        · have := n2.2.2.1
          omega
        · rw [List.length_append]
          show 2396 + 100 * (es.length + 1) ≤ _
          have := W4.2
          omega
        · rw [List.length_append]
          show es.length + 1 ≤ _
          omega
        · rw [gBl_app, ps, bnd_ok e4]
      by_cases h3 : gi M2 a 3 = 5
      · rw [if_pos h3]
        have k2 : ¬ tkd (zOf n c dg) s2.1 = 2 := by rw [← kd, h3]; decide
        have e := tk_s (dg := dg) (j := 25) R2.ps.tz h3 (by decide) e25
        by_cases h6 : gi M2 a 6 = 1
        · rw [if_pos h6]
          exact stopd (by rw [show isS (zOf n c dg) 25 s2 = true from by rw [show isS (zOf n c dg) 25 s2 = decide (gi M2 a 6 = 1) from e]; exact decide_eq_true h6]; rfl)
        · rw [if_neg h6, if_neg (by rw [h3]; decide)]
          exact key (by rw [show isS (zOf n c dg) 25 s2 = false from by rw [show isS (zOf n c dg) 25 s2 = decide (gi M2 a 6 = 1) from e]; exact decide_eq_false h6, isK_n k2, isK_n k2]; decide)
      · rw [if_neg h3]
        have n25 : isS (zOf n c dg) 25 s2 = false := tk_ns (dg := dg) (j := 25) R2.ps.tz h3 (by decide)
        by_cases h2 : gi M2 a 3 = 2
        · rw [if_pos h2]
          have e1 := tk_k (dg := dg) R2.ps.tz h2 1
          have e4 := tk_k (dg := dg) R2.ps.tz h2 4
          by_cases h6 : gi M2 a 6 = 1
          · rw [if_pos h6]
            exact stopd (by rw [e1, decide_eq_true h6]; simp)
          · rw [if_neg h6]
            by_cases h7 : gi M2 a 6 = 4
            · rw [if_pos h7]
              exact stopd (by rw [e4, decide_eq_true h7]; simp)
            · rw [if_neg h7]
              exact key (by rw [n25, e1, e4, decide_eq_false h6, decide_eq_false h7]; decide)
        · rw [if_neg h2]
          exact key (by rw [n25, tk_nk (dg := dg) R2.ps.tz h2 1, tk_nk (dg := dg) R2.ps.tz h2 4]; decide)
  exact loop K M2 τ2 fl _ 118 2396 _ [] [] (by dsimp only; omega) (Nat.le_refl _) R2 W2 ⟨rfl, fun i q hq => by cases hq⟩ (Nat.zero_le _) (Nat.zero_le _) (Nat.le_refl _) (by rw [l2']; show 2396 + 100 * 0 ≤ _; omega) (Nat.zero_le _) rfl
end
