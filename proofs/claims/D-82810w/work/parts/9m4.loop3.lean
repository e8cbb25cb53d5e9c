/-! THE COMPONENT's CODER: while, do, for -/
section
variable {S B : Nat → Prop} {M : zM} {c : Nat × Nat} {C : Nat → Prop} {D : Nat}
theorem xs_While {De b ox oy ny hy' ky : Nat} {p1 p2 : zP} {x : gEx} {y : gSt} (hb : S b) (e0 : gi M b 0 = 0) (e1 : gr M b 1 = none) (e2 : gr M b 2 = some p1) (e3 : gr M b 3 = none) (e4 : gr M b 4 = some p2) (h1 : xE S M De p1 x) (hx : gok x) (hcx : gcx x) (hox : gle ox x) (h2 : xNd S B M (c.1 + 1, c.2) C D oy ny hy' ky p2 y) (hy : gokT y) (hoy : oy ≤ ny ∧ hy' ≤ ky) (hDe : De ≤ 350) : xNd S B M c C (D + 2) (ox + oy + 2) (ox + ny + 2) hy' ky (b, 38, 0) (gWh x y) := by
  intro e fc Γ ps Dk Nk Kk Ck CC hf hG hCC hk hcx'
  refine ⟨rfl, (show 20 ≤ 38 ∧ 38 < 45 by decide), _, rfl, fun E d Q M' l bs ρ A u m T st ha hB hF hs h hd hu hsk hm hN hT hQ => ?_⟩
  obtain ⟨d, rfl⟩ : ∃ d', d = d' + 2 := ⟨d - 2, by omega⟩
  have w0 : wfS st := h.1.2.1.2.2.2.2.2.2
  have nΓ : ∀ mm, st.m ≤ mm → ¬ mkP Γ mm := fun mm h1 h2 => by have := (h.2.2.2.2.2.2.1 mm h2).1; omega
  have h0 : xSt M' e Γ l bs ps ρ A u m (mkm (mkm st)) := xSt_mkm (xSt_mkm h)
  have hs0 : gWh x y e Γ st = hre (st.m + 1) (em e Γ (skk Γ) 21 0 0 (some st.m) (hrp st.m st.c.length (y e (lpW (st.m + 1) st.m :: Γ) (gTst e Γ (st.m + 1) (some x) (mkm (mkm st)))))) := rfl
  rw [hs0] at hQ
  refine iX33_code_0 M' b _ ?_
  rw [(ha b 1 hb).2, e1, if_pos rfl]
  refine ⟨29, rfl, ?_⟩
  refine loopA (De := De) (cc := c) (ox := ox) (sv := 0) (n := st.m + 1) (c := st.m) (xo := some x) hb e0 (by decide) (.inr ⟨by decide, p1, x, rfl, e2, h1, hx, hcx, hox⟩) e4 h2 hy hoy hDe hf hG hCC hk ha hB hF hs h0 (by omega) (by omega) (by omega) (by omega) (by omega) hT (show st.m + 1 < st.m + 2 by omega) (show st.m < st.m + 2 by omega) (by omega) (nΓ _ (by omega)) (nΓ _ (by omega)) (fun q hq => w0.no (Nat.le_succ _) q hq) (fun q hq => w0.no (Nat.le_refl _) q hq) (w0.2 _ (Nat.le_succ _)) (w0.2 _ (Nat.le_refl _)) (fun M2 ρ2 A2 m2 T2 a o j1 j2 k1 k2 s3 hs3 g3 L s2 F sz r t1 t2 t3 t4 => ?_)
  have sz0 := id sz
  obtain ⟨n1, n1', n1'', n2, n3⟩ := sz
  rw [if_pos rfl] at L
  rw [← hs3] at hQ
  have L : xLp M2 e (lpW (st.m + 1) (st.m + 1)) Γ (a :: l) none (u + 1) a l bs ps ρ2 A2 u m2 (hrp st.m st.c.length s3) j1 j2 k1 k2 := L
  have hz2 := L.2.2.2.2.1
  have a2 := ha.tr (F.agS hs)
  have mm3 : st.m + 2 ≤ s3.m := g3.2.1
  have at3 : (hrp st.m st.c.length s3).at st.m = some st.c.length := (show (if st.m = st.m then some st.c.length else _) = some st.c.length by rw [if_pos rfl])
  have hm2 : m2 + 1 < 10000000 := by unfold szs at sz0; omega
  refine iX33_code_93 M2 b 29 a _ _ ?_
  rw [(a2 b 0 hb).1, e0, if_neg (by decide), (a2 b 3 hb).2, e3, if_pos rfl]
  refine lp_end (L := skk Γ) (t := st.m) (n := st.m + 1) L (fun mm z => (wmk_lp z).elim id id) ⟨(show (0 : Nat) ≠ 2 by decide), rfl⟩ (by omega) (show st.m + 1 < s3.m by omega) (nΓ _ (Nat.le_succ _)) (show st.m < s3.m by omega) (nΓ _ (Nat.le_refl _)) (by omega) (fun z => ⟨by omega, fun p hp => ?_⟩) t1 t2 (fun k z => by have := t3 k z; omega) (fun M3 X f => ?_)
  · rw [at3] at hp
    have := Option.some.inj hp
    have := h.1.2.1.2.2.1 (by omega)
    omega
  exact hQ M3 ρ2 A2 (m2 + 1) T2 X (sep_lo s2 f hz2) (F.tr (stL_of f hz2)) (by unfold szs at *; omega) ((r.tr (rm_lo (V := 0) L.2.1 f hz2 (Nat.le_refl _)) h.lz (Nat.le_refl _) (Nat.zero_le _)).mono (by omega))
theorem xs_Do {De b ox oy ny hy' ky : Nat} {p1 p2 : zP} {x : gEx} {y : gSt} (hb : S b) (e0 : gi M b 0 = 1) (e1 : gr M b 1 = none) (e2 : gr M b 2 = some p1) (e3 : gr M b 3 = none) (e4 : gr M b 4 = some p2) (h1 : xE S M De p1 x) (hx : gok x) (hcx : gcx x) (hox : gle ox x) (h2 : xNd S B M (c.1 + 1, c.2) C D oy ny hy' ky p2 y) (hy : gokT y) (hoy : oy ≤ ny ∧ hy' ≤ ky) (hDe : De ≤ 350) : xNd S B M c C (D + 2) (ox + oy + 3) (ox + ny + 3) hy' ky (b, 38, 0) (gDo y x) := by
  intro e fc Γ ps Dk Nk Kk Ck CC hf hG hCC hk hcx'
  refine ⟨rfl, (show 20 ≤ 38 ∧ 38 < 45 by decide), _, rfl, fun E d Q M' l bs ρ A u m T st ha hB hF hs h hd hu hsk hm hN hT hQ => ?_⟩
  obtain ⟨d, rfl⟩ : ∃ d', d = d' + 2 := ⟨d - 2, by omega⟩
  have w0 : wfS st := h.1.2.1.2.2.2.2.2.2
  have nΓ : ∀ mm, st.m ≤ mm → ¬ mkP Γ mm := fun mm h1 h2 => by have := (h.2.2.2.2.2.2.1 mm h2).1; omega
  have h0 : xSt M' e Γ l bs ps ρ A u m (hre st.m (mkm (mkm (mkm st)))) := xSt_hr0 (xSt_mkm (xSt_mkm (xSt_mkm h))) (fun q hq => w0.no (Nat.le_refl _) q hq) (show st.m < st.m + 3 by omega) (nΓ _ (Nat.le_refl _))
  have hs0 : gDo y x e Γ st = hre (st.m + 2) (em e Γ (skk Γ) 21 0 0 (some st.m) (em e Γ (psh 1 (skk Γ)) 22 0 0 (some (st.m + 2)) (x e Γ (skk Γ) (hre (st.m + 1) (y e (lpW (st.m + 2) (st.m + 1) :: Γ) (gTst e Γ (st.m + 2) none (hre st.m (mkm (mkm (mkm st)))))))))) := rfl
  rw [hs0] at hQ
  refine iX33_code_0 M' b _ ?_
  rw [(ha b 1 hb).2, e1, if_pos rfl]
  refine ⟨29, rfl, ?_⟩
  refine loopA (De := De) (cc := c) (ox := 0) (sv := 1) (n := st.m + 2) (c := st.m + 1) (xo := none) hb e0 (by decide) (.inl ⟨rfl, .inl rfl⟩) e4 h2 hy hoy hDe hf hG hCC hk ha hB hF hs h0 (by omega) (by omega) (by omega) (by omega) (by omega) hT (show st.m + 2 < st.m + 3 by omega) (show st.m + 1 < st.m + 3 by omega) (by omega) (nΓ _ (by omega)) (nΓ _ (by omega)) (fun q hq => w0.no (show st.m ≤ st.m + 2 by omega) q hq) (fun q hq => w0.no (Nat.le_succ _) q hq) ((show (if st.m + 2 = st.m then _ else st.at (st.m + 2)) = none by rw [if_neg (by omega)]; exact w0.2 _ (by omega))) ((show (if st.m + 1 = st.m then _ else st.at (st.m + 1)) = none by rw [if_neg (by omega)]; exact w0.2 _ (by omega))) (fun M2 ρ2 A2 m2 T2 a o j1 j2 k1 k2 s3 hs3 g3 L s2 F sz r t1 t2 t3 t4 => ?_)
  have sz0 := id sz
  obtain ⟨n1, n1', n1'', n2, n3⟩ := sz
  rw [if_neg (by decide)] at L
  have L : xLp M2 e (lpW (st.m + 2) (st.m + 2)) Γ (a :: l) none (u + 1) a l bs ps ρ2 A2 u m2 (hre (st.m + 1) s3) j1 j2 k1 k2 := L
  rw [← hs3] at hQ
  cases t4 rfl
  have hz2 := L.2.2.2.2.1
  have a2 := ha.tr (F.agS hs)
  have mm3 : st.m + 3 ≤ s3.m := g3.2.1
  have at3 : s3.at st.m = some st.c.length := (g3.2.2.1 st.m (show st.m < st.m + 3 by omega)).trans (show (if st.m = st.m then some st.c.length else _) = some st.c.length by rw [if_pos rfl])
  have hm2 : m2 + ox + 2 < 10000000 := by unfold szs at sz0; omega
  have sm : smC (lpW (st.m + 2) (st.m + 2) :: Γ) Γ := smC_lp (show (0 : Nat) ≠ 2 by decide) rfl
  have wn : mkP (lpW (st.m + 2) (st.m + 2) :: Γ) (st.m + 2) := ⟨_, List.mem_cons_self, .inl ⟨.inl rfl, .inl rfl⟩⟩
  have ex : x e (lpW (st.m + 2) (st.m + 2) :: Γ) = x e Γ := hcx e _ Γ sm
  have lo := hox e Γ (skk Γ) (hre (st.m + 1) s3)
  have gx := hx e Γ (skk Γ) (hre (st.m + 1) s3)
  have gl := gx.len
  have lh : (hre (st.m + 1) s3).c = s3.c := rfl
  have mh : (hre (st.m + 1) s3).m = s3.m := rfl
  refine iX33_code_93 M2 b 29 a _ _ ?_
  rw [(a2 b 0 hb).1, e0, if_pos rfl, (a2 b 2 hb).2, e2]
  refine lp_ex (L := skk Γ) h1 hx a2 L (by rw [ex]; omega) (by omega) (fun M3 L3 f3 => ?_)
  rw [ex] at L3
  have mx := gx.2.1
  have ax : (x e Γ (skk Γ) (hre (st.m + 1) s3)).at st.m = some st.c.length := (gx.2.2.1 st.m (by omega)).trans ((show (if st.m = st.m + 1 then _ else s3.at st.m) = s3.at st.m by rw [if_neg (by omega)]).trans at3)
  have u1 : m2 ≤ 600 → mkS (x e Γ (skk Γ) (hre (st.m + 1) s3)) (st.m + 2) (fun k => k ∈ k1) := fun z => (mkS_gst (s := hre (st.m + 1) s3) (t1 z) gx (fun z => z) (by omega)).mono fun k y => y.resolve_right (fun y => by cases y)
  have u2 : m2 ≤ 600 → ∀ k ∈ k1, ∃ q, (x e Γ (skk Γ) (hre (st.m + 1) s3)).c[k]? = some q ∧ q.2.1 = some (st.m + 2) := fun z k hk => by
    obtain ⟨q, q1, q2⟩ := t2 z k (.inl hk)
    exact ⟨q, gx.get q1, q2⟩
  generalize hs1 : x e Γ (skk Γ) (hre (st.m + 1) s3) = s1 at *
  have lx := L3.1.2.1.2.2.1
  generalize hmx : m2 + (s1.c.length - (hre (st.m + 1) s3).c.length) = mv at *
  have hmv : m2 ≤ mv ∧ mv ≤ m2 + ox := by omega
  show Z E YX33_code (d + 1 + 1) M3 [(0, vr (some (b, 38, 0))), (1, C29), (2, vr (some (a, 17, 0))), (3, vi (nI m))] 109 [] Q
  refine sX33_code_109 M3 b 29 a _ ?_
  refine lp_pu (L := psh 1 (skk Γ)) (mk := some (st.m + 2)) (a' := 0) (b' := 0) L3 (by omega) (fun _ => ⟨rfl, rfl, (fun z => by cases z), (fun mm p z1 z2 z3 => by cases z1; exact absurd wn z3), rfl⟩) (fun mm z => by cases z; omega) (fun mm z => by cases z; exact nΓ _ (by omega)) (fun M4 L4 f4 => ?_)
  rw [em_cx sm] at L4
  have f34 := f3.tr f4
  have a4 := a2.tr (f34.agS h1.1)
  have v1 : mv + 1 ≤ 600 → mkS (em e Γ (psh 1 (skk Γ)) 22 0 0 (some (st.m + 2)) s1) (st.m + 2) (fun k => k ∈ k1 ∨ some mv = some k) := fun z => (mkS_emm (u1 (by omega)) _ _ _ _ _ _).mono fun k y => y.imp id fun y => by rw [lx (by omega), y]
  have v2 : mv + 1 ≤ 600 → ∀ k, k ∈ k1 ∨ some mv = some k → ∃ q, (em e Γ (psh 1 (skk Γ)) 22 0 0 (some (st.m + 2)) s1).c[k]? = some q ∧ q.2.1 = some (st.m + 2) := fun z k hk => by
    rcases hk with y | y
    · obtain ⟨q, q1, q2⟩ := u2 (by omega) k y
      exact ⟨q, (gst_emm (P := fun x => x = st.m + 2) e Γ (psh 1 (skk Γ)) 22 0 0 s1 rfl).get q1, q2⟩
    · cases y
      exact ⟨((22, 0, 0), some (st.m + 2), e.1, opn Γ, (skk Γ).length, psh 1 (skk Γ), trs Γ), by rw [lx (by omega)]; exact at_app rfl, rfl⟩
  have ax' : (em e Γ (psh 1 (skk Γ)) 22 0 0 (some (st.m + 2)) s1).at st.m = some st.c.length := ax
  have mx' : s3.m ≤ (em e Γ (psh 1 (skk Γ)) 22 0 0 (some (st.m + 2)) s1).m := mx
  generalize em e Γ (psh 1 (skk Γ)) 22 0 0 (some (st.m + 2)) s1 = s2' at *
  show Z E YX33_code (d + 1 + 1) M4 [(0, vr (some (b, 38, 0))), (1, C29), (2, vr (some (a, 17, 0))), (3, vi (nI m))] 117 [vi (nI mv)] Q
  refine iX33_code_117 M4 b 29 a _ _ ?_
  rw [(a4 b 3 hb).2, e3, if_pos rfl]
  refine lp_end (L := skk Γ) (t := st.m) (n := st.m + 2) (o := some mv) L4 (fun mm z => (wmk_lp z).elim id id) ⟨(show (0 : Nat) ≠ 2 by decide), rfl⟩ (by omega) (by omega) (nΓ _ (by omega)) (by omega) (nΓ _ (Nat.le_refl _)) (by omega) (fun z => ⟨by omega, fun p hp => ?_⟩) v1 v2 (fun k z => by cases z; omega) (fun M5 X f => ?_)
  · rw [ax'] at hp
    have := Option.some.inj hp
    have := h.1.2.1.2.2.1 (by omega)
    omega
  have f5 : fr loP M2 M5 := (f34.mono fun _ _ z => .inl z).tr f
  exact hQ M5 ρ2 A2 (mv + 1 + 1) T2 X (sep_lo s2 f5 hz2) (F.tr (stL_of f5 hz2)) (by unfold szs at *; omega) ((r.tr (rm_lo (V := 0) L.2.1 f5 hz2 (Nat.le_refl _)) h.lz (Nat.le_refl _) (Nat.zero_le _)).mono (by omega))
theorem xs_For {De b oi ni hi' ki ox oy ny hy' ky oz : Nat} {p2 : zP} {i y z : gSt} {xo : Option gEx} (hb : S b) (e0 : gi M b 0 = 2)
    (e1 : (i = gNo ∧ gr M b 1 = none) ∨ ∃ p0, gr M b 1 = some p0 ∧ xNd S B M c C D oi ni hi' ki p0 i) (hi : gokT i) (hoi : oi ≤ ni ∧ hi' ≤ ki)
    (e2 : (xo = none ∧ gr M b 2 = none) ∨ ∃ p1 x, xo = some x ∧ gr M b 2 = some p1 ∧ xE S M De p1 x ∧ gok x ∧ gcx x ∧ gle ox x)
    (e3 : (z = gNo ∧ gr M b 3 = none) ∨ ∃ bz pz zx, z = gPl zx ∧ gr M b 3 = some (bz, 21, 0) ∧ S bz ∧ gr M bz 0 = some pz ∧ xE S M De pz zx ∧ gok zx ∧ gcx zx ∧ gle oz zx)
    (e4 : gr M b 4 = some p2) (h2 : xNd S B M (c.1 + 1, c.2) C D oy ny hy' ky p2 y) (hy : gokT y) (hoy : oy ≤ ny ∧ hy' ≤ ky) (hDe : De ≤ 348) (hS : ∀ a, S a → 190 ≤ a) : xNd S B M c C (D + 2) (oi + ox + oy + oz + 3) (ni + ox + ny + oz + 3) (hi' + hy') (ki + ky) (b, 38, 0) (gFor i xo z y) := by
  intro e fc Γ ps Dk Nk Kk Ck CC hf hG hCC hk hcx'
  refine ⟨rfl, (show 20 ≤ 38 ∧ 38 < 45 by decide), _, rfl, fun E d Q M' l bs ρ A u m T st ha hB hF hs h hd hu hsk hm hN hT hQ => ?_⟩
  obtain ⟨d, rfl⟩ : ∃ d', d = d' + 3 := ⟨d - 3, by omega⟩
  have w0 : wfS st := h.1.2.1.2.2.2.2.2.2
  have nΓ : ∀ mm, st.m ≤ mm → ¬ mkP Γ mm := fun mm h1 h2 => by have := (h.2.2.2.2.2.2.1 mm h2).1; omega
  have hz := h.2.2.2.2.1
  have hs0 : gFor i xo z y e Γ st = hre (st.m + 2) (em e Γ (skk Γ) 21 0 0 (some st.m) (z e Γ (hre (st.m + 1) (y e (lpW (st.m + 2) (st.m + 1) :: Γ) (gTst e Γ (st.m + 2) xo (hre st.m (i e Γ (mkm (mkm (mkm st)))))))))) := rfl
  rw [hs0] at hQ
  have h3 := xSt_mkm (xSt_mkm (xSt_mkm h))
  have gi' := hi e Γ (mkm (mkm (mkm st))) hk
  have m3 : st.m + 3 ≤ (i e Γ (mkm (mkm (mkm st)))).m := gi'.2.1
  have no3 : ∀ mm, st.m ≤ mm → mm < st.m + 3 → noM (i e Γ (mkm (mkm (mkm st)))) mm := fun mm z1 z2 => noM_gst (s := mkm (mkm (mkm st))) (fun q hq => w0.no z1 q hq) gi' (nΓ mm z1) z2
  have at3i : ∀ mm, st.m ≤ mm → mm < st.m + 3 → (i e Γ (mkm (mkm (mkm st)))).at mm = none := fun mm z1 z2 => (gi'.2.2.1 mm z2).trans (w0.2 mm z1)
  -- behind the beginning
  have rest : ∀ (M1 : zM) (ρ1 : Nat → Nat) (A1 : List Nat) (m1 T1 : Nat), xSt M1 e Γ l bs ps ρ1 A1 u m1 (i e Γ (mkm (mkm (mkm st)))) → sep S B M1 ρ1 → stF B CC M' M1 ρ ρ1 → szs m T oi (Nk + ni) hi' (Kk + ki) m1 T1 → rm CC u l M' ρ A T M1 ρ1 A1 T1 (u + (D + Dk)) → Z E YX3_enter (d + 2) M1 [(0, C29), (1, vi 0)] 0 [] (zafter E YX33_code (d + 2 + 1) [(0, vr (some (b, 38, 0))), (1, C29)] 17 3 [] Q) := by
    intro M1 ρ1 A1 m1 T1 X1 s1 F1 sq r1
    have sq0 := id sq
    obtain ⟨q1, q1', q1'', q2, q3⟩ := sq
    have a1 := ha.tr (F1.agS hs)
    have hb1 : m1 + (ox + oy + oz + 3) < 10000000 := by unfold szs at sq0; omega
    have h0 : xSt M1 e Γ l bs ps ρ1 A1 u m1 (hre st.m (i e Γ (mkm (mkm (mkm st))))) := xSt_hr0 X1 (no3 st.m (Nat.le_refl _) (by omega)) (by omega) (nΓ _ (Nat.le_refl _))
    have at0 : (hre st.m (i e Γ (mkm (mkm (mkm st))))).at st.m = some (i e Γ (mkm (mkm (mkm st)))).c.length := (show (if st.m = st.m then some _ else _) = some _ by rw [if_pos rfl])
    have l1 : m1 ≤ 600 → m1 = (i e Γ (mkm (mkm (mkm st)))).c.length := X1.1.2.1.2.2.1
    refine loopA (De := De) (cc := c) (ox := ox) (sv := 2) (n := st.m + 2) (c := st.m + 1) (xo := xo) hb e0 (by decide) (e2.imp (fun y => ⟨y.1, .inr y.2⟩) (fun y => ⟨by decide, y⟩)) e4 h2 hy hoy (by omega) hf hG hCC hk a1 (hB.tr (F1.agB hs)) (F1.f12.trans hF) s1 h0 (by omega) (by omega) (by omega) (by omega) (by omega) (T := T1) (by omega) (show st.m + 2 < (i e Γ (mkm (mkm (mkm st)))).m by omega) (show st.m + 1 < (i e Γ (mkm (mkm (mkm st)))).m by omega) (by omega) (nΓ _ (by omega)) (nΓ _ (by omega)) (no3 (st.m + 2) (by omega) (by omega)) (no3 (st.m + 1) (by omega) (by omega)) ((show (if st.m + 2 = st.m then _ else (i e Γ (mkm (mkm (mkm st)))).at (st.m + 2)) = none by rw [if_neg (by omega)]; exact at3i _ (by omega) (by omega))) ((show (if st.m + 1 = st.m then _ else (i e Γ (mkm (mkm (mkm st)))).at (st.m + 1)) = none by rw [if_neg (by omega)]; exact at3i _ (by omega) (by omega))) (fun M2 ρ2 A2 m2 T2 a o j1 j2 k1 k2 s3 hs3 g3 L s2 F sz r t1 t2 t3 t4 => ?_)
    have sz0 := id sz
    obtain ⟨n1, n1', n1'', n2, n3⟩ := sz
    rw [if_neg (by decide)] at L
    have L : xLp M2 e (lpW (st.m + 2) (st.m + 2)) Γ (a :: l) none (u + 1) a l bs ps ρ2 A2 u m2 (hre (st.m + 1) s3) j1 j2 k1 k2 := L
    rw [← hs3] at hQ
    have hz2 := L.2.2.2.2.1
    have a2 := a1.tr (F.agS s1)
    have mm3 : st.m + 3 ≤ s3.m := Nat.le_trans m3 g3.2.1
    have at3 : (hre (st.m + 1) s3).at st.m = some (i e Γ (mkm (mkm (mkm st)))).c.length := (show (if st.m = st.m + 1 then _ else s3.at st.m) = s3.at st.m by rw [if_neg (by omega)]).trans ((g3.2.2.1 st.m (show st.m < (i e Γ (mkm (mkm (mkm st)))).m by omega)).trans at0)
    have hm2 : m2 + oz + 2 < 10000000 := by unfold szs at sz0; omega
    have sizes : ∀ mf, m2 ≤ mf → mf ≤ m2 + oz + 2 → szs m T (oi + ox + oy + oz + 3) (Nk + (ni + ox + ny + oz + 3)) (hi' + hy') (Kk + (ki + ky)) mf T2 := fun mf h1 h2 => by unfold szs at *; omega
    generalize i e Γ (mkm (mkm (mkm st))) = si0 at *
    refine iX33_code_93 M2 b 29 a _ _ ?_
    rw [(a2 b 0 hb).1, e0, if_neg (by decide), (a2 b 3 hb).2]
    rcases e3 with ⟨z1, z2⟩ | ⟨bz, pz, zx, z1, z2, z3, z4, z5, z6, z7, z8⟩
    · rw [z2, if_pos rfl]
      rw [z1] at hQ
      refine lp_end (L := skk Γ) (t := st.m) (n := st.m + 2) L (fun mm z => (wmk_lp z).elim id id) ⟨(show (0 : Nat) ≠ 2 by decide), rfl⟩ (by omega) (show st.m + 2 < s3.m by omega) (nΓ _ (by omega)) (show st.m < s3.m by omega) (nΓ _ (Nat.le_refl _)) (by omega) (fun z => ⟨by omega, fun p hp => ?_⟩) t1 t2 (fun k z => by have := t3 k z; omega) (fun M3 X f => ?_)
      · rw [at3] at hp
        have := Option.some.inj hp
        have := l1 (by omega)
        omega
      · have sz := sizes (m2 + 1) (by omega) (by omega)
        exact hQ M3 ρ2 A2 (m2 + 1) T2 X (sep_lo s2 f hz2) ((F1.tr F).tr (stL_of f hz2)) sz (((r1.tr r (V'' := u + (D + 2 + Dk)) h.lz (by omega) (Nat.le_refl _)).tr (rm_lo (V := 0) L.2.1 f hz2 (Nat.le_refl _)) h.lz (Nat.le_refl _) (Nat.zero_le _)))
    · rw [z2, if_neg (fun y => by cases y)]
      rw [z1] at hQ
      have sm : smC (lpW (st.m + 2) (st.m + 2) :: Γ) Γ := smC_lp (show (0 : Nat) ≠ 2 by decide) rfl
      have ex : zx e (lpW (st.m + 2) (st.m + 2) :: Γ) = zx e Γ := z7 e _ Γ sm
      have lo := z8 e Γ (skk Γ) (hre (st.m + 1) s3)
      have gx := z6 e Γ (skk Γ) (hre (st.m + 1) s3)
      have gl := gx.len
      have lh : (hre (st.m + 1) s3).c = s3.c := rfl
      refine ⟨bz, 21, rfl, YX15_code, rfl, ?_⟩
      refine sX15_code_0 M2 bz _ ?_
      rw [(a2 bz 0 z3).2, z4]
      refine lp_ex (L := skk Γ) z5 z6 a2 L (by rw [ex]; omega) (by omega) (fun M3 L3 f3 => ?_)
      rw [ex] at L3
      have mx := gx.2.1
      have ax : (zx e Γ (skk Γ) (hre (st.m + 1) s3)).at st.m = some si0.c.length := (gx.2.2.1 st.m (show st.m < s3.m by omega)).trans at3
      have u1 : m2 ≤ 600 → mkS (zx e Γ (skk Γ) (hre (st.m + 1) s3)) (st.m + 2) (fun k => k ∈ k1 ∨ o = some k) := fun z => mkS_gst (s := hre (st.m + 1) s3) (t1 z) gx (fun z => z) (show st.m + 2 < s3.m by omega)
      have u2 : m2 ≤ 600 → ∀ k, k ∈ k1 ∨ o = some k → ∃ q, (zx e Γ (skk Γ) (hre (st.m + 1) s3)).c[k]? = some q ∧ q.2.1 = some (st.m + 2) := fun z k hk => by
        obtain ⟨q, q1, q2⟩ := t2 z k hk
        exact ⟨q, gx.get q1, q2⟩
      have hgp : gPl zx e Γ (hre (st.m + 1) s3) = em e Γ (psh 1 (skk Γ)) 17 0 0 none (zx e Γ (skk Γ) (hre (st.m + 1) s3)) := rfl
      rw [hgp] at hQ
      generalize hs1 : zx e Γ (skk Γ) (hre (st.m + 1) s3) = s1' at *
      generalize hmx : m2 + (s1'.c.length - (hre (st.m + 1) s3).c.length) = mv at *
      have hmv : m2 ≤ mv ∧ mv ≤ m2 + oz := by omega
      show Z E YX15_code (d + 1 + 1) M3 [(1, C29)] 8 [] _
      refine sX15_code_8 M3 _ ⟨29, rfl, ?_⟩
      refine lp_pu (L := psh 1 (skk Γ)) (mk := none) (a' := 0) (b' := 0) L3 (by omega) (fun _ => ⟨rfl, rfl, (fun _ => rfl), (fun mm p z1 => by cases z1), rfl⟩) (fun mm z => by cases z) (fun mm z => by cases z) (fun M4 L4 f4 => ?_)
      rw [em_cx sm] at L4
      have f34 := f3.tr f4
      have v1 : mv + 1 ≤ 600 → mkS (em e Γ (psh 1 (skk Γ)) 17 0 0 none s1') (st.m + 2) (fun k => k ∈ k1 ∨ o = some k) := fun z => mkS_em (u1 (by omega)) _ _ _ _ _ _ (fun y => by cases y)
      have v2 : mv + 1 ≤ 600 → ∀ k, k ∈ k1 ∨ o = some k → ∃ q, (em e Γ (psh 1 (skk Γ)) 17 0 0 none s1').c[k]? = some q ∧ q.2.1 = some (st.m + 2) := fun z k hk => by
        obtain ⟨q, q1, q2⟩ := u2 (by omega) k hk
        exact ⟨q, (gst_em (P := fun _ => False) e Γ (psh 1 (skk Γ)) 17 0 0 s1').get q1, q2⟩
      have ax' : (em e Γ (psh 1 (skk Γ)) 17 0 0 none s1').at st.m = some si0.c.length := ax
      have mx' : s3.m ≤ (em e Γ (psh 1 (skk Γ)) 17 0 0 none s1').m := mx
      generalize em e Γ (psh 1 (skk Γ)) 17 0 0 none s1' = s2' at *
      show Z E YX15_code (d + 1 + 1) M4 [] 16 [vi _] _
      refine sX15_code_16 M4 _ ?_
      show Z E YX33_code (d + 2 + 1) M4 [(1, C29), (2, vr (some (a, 17, 0))), (3, vi (nI m1)), (4, vi (oN o))] 134 [] Q
      refine sX33_code_134 M4 29 a _ _ ?_
      refine lp_end (L := skk Γ) (t := st.m) (n := st.m + 2) L4 (fun mm z => (wmk_lp z).elim id id) ⟨(show (0 : Nat) ≠ 2 by decide), rfl⟩ (by omega) (by omega) (nΓ _ (by omega)) (by omega) (nΓ _ (Nat.le_refl _)) (by omega) (fun z => ⟨by omega, fun p hp => ?_⟩) v1 v2 (fun k z => by have := t3 k z; omega) (fun M5 X f => ?_)
      · rw [ax'] at hp
        have := Option.some.inj hp
        have := l1 (by omega)
        omega
      · have f5 : fr loP M2 M5 := (f34.mono fun _ _ z => .inl z).tr f
        have sz := sizes (mv + 1 + 1) (by omega) (by omega)
        exact hQ M5 ρ2 A2 (mv + 1 + 1) T2 X (sep_lo s2 f5 hz2) ((F1.tr F).tr (stL_of f5 hz2)) sz (((r1.tr r (V'' := u + (D + 2 + Dk)) h.lz (by omega) (Nat.le_refl _)).tr (rm_lo (V := 0) L.2.1 f5 hz2 (Nat.le_refl _)) h.lz (Nat.le_refl _) (Nat.zero_le _)))
  refine iX33_code_0 M' b _ ?_
  rcases e1 with ⟨z1, z2⟩ | ⟨p0, z1, z2⟩
  · rw [(ha b 1 hb).2, z2, if_pos rfl]
    refine ⟨29, rfl, ?_⟩
    exact rest M' ρ A m T (by rw [z1]; exact h3) hs stF.rf (by unfold szs; omega) rm.rf
  · rw [(ha b 1 hb).2, z1, if_neg (fun y => by cases y)]
    refine y_ndS (z2 e fc Γ ps Dk Nk Kk Ck CC hf hG hCC hk hcx') ha hB hF hs h3 (by omega) (by omega) (by omega) (by omega) (by omega) hT (fun M1 ρ1 A1 m1 T1 X1 s1 F1 sq r1 => ?_)
    show Z E YX33_code (d + 2 + 1) M1 [(0, vr (some (b, 38, 0))), (1, C29)] 15 [] Q
    exact sX33_code_15 M1 b _ ⟨29, rfl, rest M1 ρ1 A1 m1 T1 X1 s1 F1 sq r1⟩
end
