/-! THE COMPONENT's PARSER: statements' nodes; blocks being made -/
section
variable {S B : Nat → Prop} {M : zM} {cc : Nat × Nat} {C : Nat → Prop} {b : Nat}
theorem sn_Drops {De ox : Nat} {p1 : zP} {x : gEx} (hb : S b) (e0 : gr M b 0 = some p1) (h1 : xE S M De p1 x) (hx : gE ox x) (hDe : De ≤ 350) : sNd S B M cc C 1 (ox + 1) (ox + 1) 0 0 (b, 21, 0) (gPl x) := fun _ _ _ k1 _ k3 k4 _ => xs_Drops (k1 b hb) ((k4 b 0 hb).2.trans e0) (xE_mono h1 k1 k3 k4 (Nat.le_refl _)) hx.1 hx.2.2 hDe
theorem sn_Throw {De ox : Nat} {p1 : zP} {x : gEx} (hb : S b) (e0 : gr M b 0 = some p1) (h1 : xE S M De p1 x) (hx : gE ox x) (hDe : De ≤ 350) : sNd S B M cc C 1 (ox + 1) (ox + 1) 0 0 (b, 42, 0) (gTo x) := fun _ _ _ k1 _ k3 k4 _ => xs_Throw (k1 b hb) ((k4 b 0 hb).2.trans e0) (xE_mono h1 k1 k3 k4 (Nat.le_refl _)) hx.1 hx.2.2 hDe
theorem sn_If {De D ox oy ny hy' ky : Nat} {p1 p2 : zP} {x : gEx} {y : gSt} (hb : S b) (e0 : gr M b 0 = some p1) (e1 : gr M b 1 = some p2) (e2 : gr M b 2 = none) (h1 : xE S M De p1 x) (hx : gE ox x) (h2 : sNd S B M cc C D oy ny hy' ky p2 y) (hy : gokT y) (hoy : oy ≤ ny ∧ hy' ≤ ky) (hDe : De ≤ 350) : sNd S B M cc C (D + 1) (ox + oy + 1) (ox + ny + 1) hy' ky (b, 37, 0) (gIf x y) := fun S' B' M' k1 k2 k3 k4 k5 => xs_If (k1 b hb) ((k4 b 0 hb).2.trans e0) ((k4 b 1 hb).2.trans e1) ((k4 b 2 hb).2.trans e2) (xE_mono h1 k1 k3 k4 (Nat.le_refl _)) hx.1 hx.2.2 (h2 S' B' M' k1 k2 k3 k4 k5) hy hoy hDe
theorem sn_IfE {De D ox oy ny hy' ky oz nz hz' kz : Nat} {p1 p2 p3 : zP} {x : gEx} {y z : gSt} (hb : S b) (e0 : gr M b 0 = some p1) (e1 : gr M b 1 = some p2) (e2 : gr M b 2 = some p3) (h1 : xE S M De p1 x) (hx : gE ox x) (h2 : sNd S B M cc C D oy ny hy' ky p2 y) (hy : gokT y) (hoy : oy ≤ ny ∧ hy' ≤ ky) (h3 : sNd S B M cc C D oz nz hz' kz p3 z) (hz'' : gokT z) (hoz : oz ≤ nz ∧ hz' ≤ kz) (hDe : De ≤ 350) : sNd S B M cc C (D + 1) (ox + oy + oz + 2) (ox + ny + nz + 2) (hy' + hz') (ky + kz) (b, 37, 0) (gIfE x y z) := fun S' B' M' k1 k2 k3 k4 k5 => xs_IfE (k1 b hb) ((k4 b 0 hb).2.trans e0) ((k4 b 1 hb).2.trans e1) ((k4 b 2 hb).2.trans e2) (xE_mono h1 k1 k3 k4 (Nat.le_refl _)) hx.1 hx.2.2 (h2 S' B' M' k1 k2 k3 k4 k5) hy hoy (h3 S' B' M' k1 k2 k3 k4 k5) hz'' hoz hDe
theorem sn_While {De D ox oy ny hy' ky : Nat} {p1 p2 : zP} {x : gEx} {y : gSt} (hb : S b) (e0 : gi M b 0 = 0) (e1 : gr M b 1 = none) (e2 : gr M b 2 = some p1) (e3 : gr M b 3 = none) (e4 : gr M b 4 = some p2) (h1 : xE S M De p1 x) (hx : gE ox x) (h2 : sNd S B M (cc.1 + 1, cc.2) C D oy ny hy' ky p2 y) (hy : gokT y) (hoy : oy ≤ ny ∧ hy' ≤ ky) (hDe : De ≤ 350) : sNd S B M cc C (D + 2) (ox + oy + 2) (ox + ny + 2) hy' ky (b, 38, 0) (gWh x y) := fun S' B' M' k1 k2 k3 k4 k5 => xs_While (k1 b hb) ((k4 b 0 hb).1.trans e0) ((k4 b 1 hb).2.trans e1) ((k4 b 2 hb).2.trans e2) ((k4 b 3 hb).2.trans e3) ((k4 b 4 hb).2.trans e4) (xE_mono h1 k1 k3 k4 (Nat.le_refl _)) hx.1 hx.2.1 hx.2.2 (h2 S' B' M' k1 k2 k3 k4 k5) hy hoy hDe
theorem sn_Do {De D ox oy ny hy' ky : Nat} {p1 p2 : zP} {x : gEx} {y : gSt} (hb : S b) (e0 : gi M b 0 = 1) (e1 : gr M b 1 = none) (e2 : gr M b 2 = some p1) (e3 : gr M b 3 = none) (e4 : gr M b 4 = some p2) (h1 : xE S M De p1 x) (hx : gE ox x) (h2 : sNd S B M (cc.1 + 1, cc.2) C D oy ny hy' ky p2 y) (hy : gokT y) (hoy : oy ≤ ny ∧ hy' ≤ ky) (hDe : De ≤ 350) : sNd S B M cc C (D + 2) (ox + oy + 3) (ox + ny + 3) hy' ky (b, 38, 0) (gDo y x) := fun S' B' M' k1 k2 k3 k4 k5 => xs_Do (k1 b hb) ((k4 b 0 hb).1.trans e0) ((k4 b 1 hb).2.trans e1) ((k4 b 2 hb).2.trans e2) ((k4 b 3 hb).2.trans e3) ((k4 b 4 hb).2.trans e4) (xE_mono h1 k1 k3 k4 (Nat.le_refl _)) hx.1 hx.2.1 hx.2.2 (h2 S' B' M' k1 k2 k3 k4 k5) hy hoy hDe
theorem sn_Goes {out : Bool} (hb : S b) (e0 : gi M b 0 = gB out) (hc : if out then 0 < cc.1 + cc.2 else 0 < cc.1) : sNd S B M cc C 2 4001 4001 1 1 (b, 40, 0) (fun e Γ st => gGo out e Γ st) := fun _ _ _ k1 _ k3 k4 _ => xs_Goes (k1 b hb) ((k4 b 0 hb).1.trans e0) hc k3
theorem sn_Return {De ox : Nat} {x : gEx} (hb : S b) (h1 : (gr M b 0 = none ∧ x = gCo 0 0) ∨ ∃ p1, gr M b 0 = some p1 ∧ xE S M De p1 x) (hx : gE ox x) (ho1 : 1 ≤ ox) (hDe : De ≤ 350) : sNd S B M cc C 2 (ox + 2001) (ox + 2001) 0 0 (b, 41, 0) (gBk x) := fun _ _ _ k1 _ k3 k4 _ => xs_Return (k1 b hb) (h1.imp (fun z => ⟨(k4 b 0 hb).2.trans z.1, z.2⟩) fun ⟨p1, z1, z2⟩ => ⟨p1, (k4 b 0 hb).2.trans z1, xE_mono z2 k1 k3 k4 (Nat.le_refl _), hx.1⟩) hx.2.2 ho1 hDe k3
theorem sn_TryC {x Dy Dz oy ny hy' ky oz nz hz' kz : Nat} {p1 p2 : zP} {y z : gSt} (hb : S b) (e0 : gr M b 0 = some p1) (e1 : gr M b 1 = some p2) (e2 : gi M b 2 = nI x) (hx : x < 100000) (h1 : sNd S B M cc C Dy oy ny hy' ky p1 y) (hy : gokT y) (hoy : oy ≤ ny ∧ hy' ≤ ky) (h2 : sNd S B M cc C Dz oz nz hz' kz p2 z) (hzk : gokT z) (hoz : oz ≤ nz ∧ hz' ≤ kz) : sNd S B M cc C (Dy + Dz + 3) 0 (ny + nz + 6) 0 (ky + kz) (b, 43, 0) (gTrC y x z) := fun S' B' M' k1 k2 k3 k4 k5 => xs_TryC (k1 b hb) ((k4 b 0 hb).2.trans e0) ((k4 b 1 hb).2.trans e1) ((k4 b 2 hb).1.trans e2) hx (h1 S' B' M' k1 k2 k3 k4 k5) hy hoy (h2 S' B' M' k1 k2 k3 k4 k5) hzk hoz k3
theorem sn_TryF {Cy Cz : Nat → Prop} {Dy Dz oy ny hy' ky oz nz hz' kz : Nat} {p1 p2 : zP} {y z : gSt} (hb : S b) (e0 : gr M b 0 = some p1) (e1 : gr M b 1 = some p2) (e2 : gi M b 2 = -1) (h1 : sNd S B M cc Cy Dy oy ny hy' ky p1 y) (hy : gokT y) (hoy : oy ≤ ny ∧ hy' ≤ ky) (h2 : sNd S B M cc Cz Dz oz nz hz' kz p2 z) (hzk : gokT z) (hoz : oz ≤ nz ∧ hz' ≤ kz) (hyz : (∀ b, Cy b → C b) ∧ (∀ b, Cz b → C b) ∧ ∀ b, Cy b → ¬ Cz b) : sNd S B M cc C (Dy + Dz + 4) 0 (ny + nz + 2 * oz + 8) 0 (ky + kz + 2 * hz') (b, 43, 0) (gTrF y z) := fun S' B' M' k1 k2 k3 k4 k5 => xs_TryF (k1 b hb) ((k4 b 0 hb).2.trans e0) ((k4 b 1 hb).2.trans e1) ((k4 b 2 hb).1.trans e2) (h1 S' B' M' k1 k2 k3 k4 k5) hy hoy (h2 S' B' M' k1 k2 k3 k4 k5) hzk hoz hyz k3
theorem sn_Each {De D nm ox oy ny hy' ky : Nat} {p1 p2 : zP} {x : gEx} {y : gSt} (hb : S b) (e0 : gi M b 0 = nI nm) (hnm : nm < 100000) (e1 : gr M b 1 = some p1) (e2 : gr M b 2 = some p2) (h1 : xE S M De p1 x) (hx : gE ox x) (h2 : sNd S B M (cc.1 + 1, cc.2) C D oy ny hy' ky p2 y) (hy : gokT y) (hoy : oy ≤ ny ∧ hy' ≤ ky) (hDe : De ≤ 350) : sNd S B M cc C (D + 4) (ox + oy + 6) (ox + ny + 6) hy' ky (b, 39, 0) (gEa nm x y) := fun S' B' M' k1 k2 k3 k4 k5 => xs_Each (k1 b hb) ((k4 b 0 hb).1.trans e0) hnm ((k4 b 1 hb).2.trans e1) ((k4 b 2 hb).2.trans e2) (xE_mono h1 k1 k3 k4 (Nat.le_refl _)) hx.1 hx.2.1 hx.2.2 (h2 S' B' M' k1 k2 k3 k4 k5) hy hoy hDe
theorem sn_For {De D oi ni hi' ki ox oy ny hy' ky oz : Nat} {p2 : zP} {i y z : gSt} {xo : Option gEx} (hb : S b) (e0 : gi M b 0 = 2)
    (e1 : (i = gNo ∧ gr M b 1 = none) ∨ ∃ p0, gr M b 1 = some p0 ∧ sNd S B M cc C D oi ni hi' ki p0 i) (hi : gokT i) (hoi : oi ≤ ni ∧ hi' ≤ ki)
    (e2 : (xo = none ∧ gr M b 2 = none) ∨ ∃ p1 x, xo = some x ∧ gr M b 2 = some p1 ∧ xE S M De p1 x ∧ gE ox x)
    (e3 : (z = gNo ∧ gr M b 3 = none) ∨ ∃ bz pz zx, z = gPl zx ∧ gr M b 3 = some (bz, 21, 0) ∧ S bz ∧ gr M bz 0 = some pz ∧ xE S M De pz zx ∧ gE oz zx)
    (e4 : gr M b 4 = some p2) (h2 : sNd S B M (cc.1 + 1, cc.2) C D oy ny hy' ky p2 y) (hy : gokT y) (hoy : oy ≤ ny ∧ hy' ≤ ky) (hDe : De ≤ 348) : sNd S B M cc C (D + 2) (oi + ox + oy + oz + 3) (ni + ox + ny + oz + 3) (hi' + hy') (ki + ky) (b, 38, 0) (gFor i xo z y) := fun S' B' M' k1 k2 k3 k4 k5 => xs_For (k1 b hb) ((k4 b 0 hb).1.trans e0) (e1.imp (fun z => ⟨z.1, (k4 b 1 hb).2.trans z.2⟩) fun ⟨p0, z1, z2⟩ => ⟨p0, (k4 b 1 hb).2.trans z1, z2 S' B' M' k1 k2 k3 k4 k5⟩) hi hoi (e2.imp (fun z => ⟨z.1, (k4 b 2 hb).2.trans z.2⟩) fun ⟨p1, x, z0, z1, z2, z3⟩ => ⟨p1, x, z0, (k4 b 2 hb).2.trans z1, xE_mono z2 k1 k3 k4 (Nat.le_refl _), z3.1, z3.2.1, z3.2.2⟩) (e3.imp (fun z => ⟨z.1, (k4 b 3 hb).2.trans z.2⟩) fun ⟨bz, pz, zx, z0, z1, z2, z3, z4, z5⟩ => ⟨bz, pz, zx, z0, (k4 b 3 hb).2.trans z1, k1 bz z2, (k4 bz 0 z2).2.trans z3, xE_mono z4 k1 k3 k4 (Nat.le_refl _), z5.1, z5.2.1, z5.2.2⟩) ((k4 b 4 hb).2.trans e4) (h2 S' B' M' k1 k2 k3 k4 k5) hy hoy hDe k3
end
theorem sO_le : ∀ (gs : gBs), (∀ q ∈ gs, q.1.1 ≤ q.1.2.1 ∧ q.1.2.2.1 ≤ q.1.2.2.2) → sO gs ≤ sN gs ∧ sH gs ≤ sK gs
  | [], _ => ⟨Nat.le_refl _, Nat.le_refl _⟩
  | x :: gs, h => by
    have h1 := sO_le gs fun q hq => h q (List.mem_cons_of_mem _ hq)
    have h2 := h x List.mem_cons_self
    show x.1.1 + sO gs ≤ x.1.2.1 + sN gs ∧ x.1.2.2.1 + sH gs ≤ x.1.2.2.2 + sK gs
    omega
/-- a Block that is being made -/
def wB (lo : Nat) (M : zM) (τ : Nat → Nat) (b l : Nat) (es : List (Option zP)) : Prop := (lo ≤ b ∧ b < zsz M ∧ τ b = 1) ∧ (b ≠ l ∧ b ≠ lA M l) ∧ gr M b 0 = some (l, 11, 0) ∧ wL lo M τ l es
section
variable {E : zE} {pp a lf n : Nat} {c : Nat → Int32} {dg : Int32 → List Int32} {K o d : Nat} {Q : zO → zM → Prop}
variable {M0 M M' M'' : zM} {τ0 τ τ' τ'' : Nat → Nat} {fs0 fs fs' : List Nat} {s0 s s' : pS} {c0 : Nat → Prop} {C C' : pC} {cz cu cz' cu' v w lo l b D : Nat} {es : List (Option zP)} {gs : gBs} {cc : Nat × Nat}
theorem wTs.le (h : wTs lo M τ cc D es gs) : sO gs ≤ sN gs ∧ sH gs ≤ sK gs := sO_le gs fun q hq => by
  obtain ⟨i, hi⟩ := List.mem_iff_getElem?.mp hq
  exact (h.2 i q hi).1
theorem wB.k (h : wB lo M τ b l es) (k : kp τ M τ' M') (hl : 190 ≤ lo) : wB lo M' τ' b l es ∧ lC M' l = lC M l := by
  obtain ⟨h1, h2, h3, h4⟩ := h
  have w := k.wl h4 hl
  exact ⟨⟨k.ow h1, ⟨h2.1, by rw [w.2.1]; exact h2.2⟩, (k.g ⟨by omega, h1.2⟩ 0).2.trans h3, w.1⟩, w.2.2⟩
/-- it is done -/
theorem wB.nl (h : wB lo M τ b l es) (he : wTs lo M (fin lo τ) cc D es gs) : sNd (nS lo (zsz M) (fin lo τ)) (nW lo (zsz M) (fin lo τ)) M cc (fun b => lo ≤ b ∧ b < zsz M) (D + 1) (sO gs) (sN gs) (sH gs) (sK gs) (b, 20, 0) (gBl gs) := by
  obtain ⟨h1, h2, h3, h4⟩ := h
  have hb : nS lo (zsz M) (fin lo τ) b := fin_1 h1.1 h1.2.1 h1.2.2
  exact fun S' B' M' k1 k2 k3 k4 k5 => xs_Block (k1 b hb) ((k4 b 0 hb).2.trans h3) (h4.nl he S' B' M' k1 k2 k3 k4 k5)
/-- a new Block -/
theorem rk.bnew (R : rk pp a lf n c M0 τ0 fs0 s0 c0 C o M τ fs s cz cu) (h1 : cz' + 2 ≤ cz) (h2 : cu' + 4 ≤ cu) : ∃ τ', rk pp a lf n c M0 τ0 fs0 s0 c0 C o (sr (sr (si (zn (zn M 1) 3) (zsz (zn M 1)) 0 (0 : Int32)) (zsz (zn M 1)) 1 (some (1, 110, 0))) (zsz M) 0 (some ((zsz (zn M 1)), 11, 0))) τ' fs s cz' cu' ∧ wB (zsz M0) (sr (sr (si (zn (zn M 1) 3) (zsz (zn M 1)) 0 (0 : Int32)) (zsz (zn M 1)) 1 (some (1, 110, 0))) (zsz M) 0 (some ((zsz (zn M 1)), 11, 0))) τ' (zsz M) (zsz M + 1) [] ∧ lC (sr (sr (si (zn (zn M 1) 3) (zsz (zn M 1)) 0 (0 : Int32)) (zsz (zn M 1)) 1 (some (1, 110, 0))) (zsz M) 0 (some ((zsz (zn M 1)), 11, 0))) (zsz M + 1) = 0 ∧ (∀ x, x < zsz M → τ' x = τ x) ∧ mvr τ M τ' (sr (sr (si (zn (zn M 1) 3) (zsz (zn M 1)) 0 (0 : Int32)) (zsz (zn M 1)) 1 (some (1, 110, 0))) (zsz M) 0 (some ((zsz (zn M 1)), 11, 0))) ∧ fg (fun _ _ => False) M (sr (sr (si (zn (zn M 1) 3) (zsz (zn M 1)) 0 (0 : Int32)) (zsz (zn M 1)) 1 (some (1, 110, 0))) (zsz M) 0 (some ((zsz (zn M 1)), 11, 0))) := by
  have z := R.z0
  have sN : zsz (zn M 1) = zsz M + 1 := rfl
  rw [sN]
  have f2' : fg (fun _ _ => False) M (sr (sr (si (zn (zn M 1) 3) (zsz M + 1) 0 0) (zsz M + 1) 1 (some (1, 110, 0))) (zsz M) 0 (some (zsz M + 1, 11, 0))) := ((fg.zn (n := 1)).tr (fg.zn (n := 3))).tr2 (((fr.si (.inr (by omega))).tr (fr.sr (.inr (by omega)))).tr (fr.sr (.inr (Nat.le_refl _)))).fg
  have f2 : fg (fun x _ => zsz M0 ≤ x ∧ τ x = 1) M (sr (sr (si (zn (zn M 1) 3) (zsz M + 1) 0 0) (zsz M + 1) 1 (some (1, 110, 0))) (zsz M) 0 (some (zsz M + 1, 11, 0))) := f2'.mono fun _ _ _ z => z.elim
  have g0 : gr (sr (sr (si (zn (zn M 1) 3) (zsz M + 1) 0 0) (zsz M + 1) 1 (some (1, 110, 0))) (zsz M) 0 (some (zsz M + 1, 11, 0))) (zsz M) 0 = some (zsz M + 1, 11, 0) := by simp only [gr_sr]; simp
  have g1 : gr (sr (sr (si (zn (zn M 1) 3) (zsz M + 1) 0 0) (zsz M + 1) 1 (some (1, 110, 0))) (zsz M) 0 (some (zsz M + 1, 11, 0))) (zsz M + 1) 1 = some (1, 110, 0) := by simp only [gr_sr]; simp
  have g2 : gi (sr (sr (si (zn (zn M 1) 3) (zsz M + 1) 0 0) (zsz M + 1) 1 (some (1, 110, 0))) (zsz M) 0 (some (zsz M + 1, 11, 0))) (zsz M + 1) 2 = 0 := by
    show gi (si (zn (zn M 1) 3) (zsz M + 1) 0 0) (zsz M + 1) 2 = 0
    rw [gi_idx (by decide), gi_zn, if_pos (show zsz M + 1 = zsz (zn M 1) from rfl)]
  have sz2 : zsz (sr (sr (si (zn (zn M 1) 3) (zsz M + 1) 0 0) (zsz M + 1) 1 (some (1, 110, 0))) (zsz M) 0 (some (zsz M + 1, 11, 0))) = zsz M + 2 := rfl
  have su2 : zsu (sr (sr (si (zn (zn M 1) 3) (zsz M + 1) 0 0) (zsz M + 1) 1 (some (1, 110, 0))) (zsz M) 0 (some (zsz M + 1, 11, 0))) = zsu M + 4 := rfl
  generalize sr (sr (si (zn (zn M 1) 3) (zsz M + 1) 0 0) (zsz M + 1) 1 (some (1, 110, 0))) (zsz M) 0 (some (zsz M + 1, 11, 0)) = M2 at *
  obtain ⟨τ2, R2, ag2, on2, m12⟩ := R.lc (v := 2) (w := 4) f2 (by omega) (by omega) h1 h2
  have lA2 : lA M2 (zsz M + 1) = 1 ∧ lC M2 (zsz M + 1) = 0 := by unfold lA lC; rw [g1]; exact ⟨rfl, rfl⟩
  exact ⟨τ2, R2, ⟨⟨z.2, by omega, on2 _ (Nat.le_refl _) (by omega)⟩, ⟨by omega, by rw [lA2.1]; omega⟩, g0, wL_mk g2 g1 ⟨by omega, by omega⟩ ⟨by omega, on2 _ (by omega) (by omega)⟩⟩, lA2.2, ag2, m12, f2'⟩
/-- one more in a list, or null -/
theorem rk.ladd {x : Option zP} (R : rk pp a lf n c M0 τ0 fs0 s0 c0 C o M τ fs s cz cu) (W : wL (zsz M0) M τ l es) (hn : es.length < 90000) (hx : ∀ p, x = some p → zsto 6 p.2.1) (hd : 6 ≤ d) (h1 : cz' + 1 ≤ cz) (h8 : 48 + 8 * es.length ≤ cu)
    (hQ : ∀ M' τ' cu', rk pp a lf n c M0 τ0 fs0 s0 c0 C o M' τ' fs s cz' cu' → cu' + 4 * lC M' l = cu + 4 * lC M l → wL (zsz M0) M' τ' l (es ++ [x]) → mvr τ M τ' M' → (∀ x, x < zsz M → τ' x = τ x) → fg (lP M l) M M' → (lA M' l = lA M l ∨ zsz M ≤ lA M' l) → Q (.inl (some (vi 1))) M') : Z E YJ2_add d M [(0, vr (some (l, 11, 0))), (1, vr x)] 0 [] Q := by
  obtain ⟨d, rfl⟩ : ∃ d', d = d' + 6 := ⟨d - 6, by omega⟩
  obtain ⟨h1', h2, h3⟩ := id W
  have z190 := R.z0
  refine l_add h1' (by omega) hx (fun M' x' f k => ?_)
  have f' : fg (fun x _ => zsz M0 ≤ x ∧ τ x = 1) M M' := f.mono fun x k _ z => by
    rcases z with z | z
    · rw [z]; exact h2
    · rw [z.1]; exact h3 (by rw [← z.1]; exact z.2)
  have lc := lC_le x'
  rw [List.length_append] at lc
  have lc : 4 * lC M' l ≤ 40 + 8 * (es.length + 1) := lc
  have k2 := k.2.1
  have z0 := f.1.2
  obtain ⟨τ', R', ag, on, m⟩ := R.lc (v := 1) (w := 4 * lC M' l - 4 * lC M l) (cz' := cz') (cu' := cu - (4 * lC M' l - 4 * lC M l)) f' k.1 (by omega) h1 (by omega)
  have zz := f.1.1
  refine hQ M' τ' _ R' (by omega) ⟨x', ⟨h2.1, (ag l h1'.1.2).trans h2.2⟩, fun z => ?_⟩ m ag f k.2.2
  rcases k.2.2 with y | y
  · rw [y] at z ⊢
    have := h3 z
    refine ⟨this.1, (ag _ ?_).trans this.2⟩
    rcases h1'.2.2.2.2 with ⟨e, -⟩ | ⟨b, mm, e, e2, -⟩
    · unfold lA at z; rw [e] at z; exact absurd z (by decide)
    · unfold lA; rw [e]; exact e2.2.1
  · refine ⟨by omega, on _ y ?_⟩
    rcases x'.2.2.2.2 with ⟨e, -⟩ | ⟨b, mm, e, e2, -⟩
    · unfold lA at z; rw [e] at z; exact absurd z (by decide)
    · unfold lA; rw [e]; exact e2.2.1
/-- one statement more -/
theorem rk.badd {p : zP} (R : rk pp a lf n c M0 τ0 fs0 s0 c0 C o M τ fs s cz cu) (W : wB (zsz M0) M τ b l es) (hn : es.length < 90000) (hx : zsto 6 p.2.1) (hd : 6 ≤ d) (h1 : cz' + 1 ≤ cz) (h8 : 48 + 8 * es.length ≤ cu)
    (hQ : ∀ M' τ' cu', rk pp a lf n c M0 τ0 fs0 s0 c0 C o M' τ' fs s cz' cu' → cu' + 4 * lC M' l = cu + 4 * lC M l → wB (zsz M0) M' τ' b l (es ++ [some p]) → mvr τ M τ' M' → (∀ x, x < zsz M → τ' x = τ x) → fg (lP M l) M M' → Q (.inl (some (vi 1))) M') : Z E YJ2_add d M [(0, vr (some (l, 11, 0))), (1, vr (some p))] 0 [] Q := by
  obtain ⟨w1, w2, w3, w4⟩ := W
  refine R.ladd (cz' := cz') w4 hn (fun p e => by cases e; exact hx) (by omega) h1 h8 (fun M' τ' cu' R' u' W' m ag f la => ?_)
  have zz := f.1.1
  refine hQ M' τ' cu' R' u' ⟨⟨w1.1, by omega, (ag b w1.2.1).trans w1.2.2⟩, ⟨w2.1, ?_⟩, (f.gr w1.2.1 (nl_P w2.1 w2.2)).trans w3, W'⟩ m ag f
  rcases la with y | y
  · rw [y]; exact w2.2
  · omega
end
