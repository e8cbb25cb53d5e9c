/-! THE COMPONENT's CODER: try with catch, with finally -/
section
variable {S B C : Nat → Prop} {M : zM} {c : Nat × Nat}
theorem xs_TryC {b x Dy Dz oy ny hy' ky oz nz hz' kz : Nat} {p1 p2 : zP} {y z : gSt} (hb : S b) (e0 : gr M b 0 = some p1) (e1 : gr M b 1 = some p2) (e2 : gi M b 2 = nI x) (hx : x < 100000) (h1 : xNd S B M c C Dy oy ny hy' ky p1 y) (hy : gokT y) (hoy : oy ≤ ny ∧ hy' ≤ ky) (h2 : xNd S B M c C Dz oz nz hz' kz p2 z) (hzk : gokT z) (hoz : oz ≤ nz ∧ hz' ≤ kz) (hS : ∀ a, S a → 190 ≤ a) : xNd S B M c C (Dy + Dz + 3) 0 (ny + nz + 6) 0 (ky + kz) (b, 43, 0) (gTrC y x z) := by
  intro e fc Γ ps Dk Nk Kk Ck CC hf hG hCC hk hcx
  refine ⟨rfl, (show 20 ≤ 43 ∧ 43 < 45 by decide), _, rfl, fun E d Q M' l bs ρ A u m T st ha hB hF hs h hd hu hsk hm hN hT hQ => ?_⟩
  obtain ⟨d, rfl⟩ : ∃ d', d = d' + 3 := ⟨d - 3, by omega⟩
  have hz := h.2.2.2.2.1
  by_cases h6 : m ≤ 600
  rotate_left
  · refine sX38_code_0 M' b _ ⟨29, rfl, ?_⟩
    rw [h.1.2.1.1, if_neg (show ¬ nI m ≤ (600 : Int32) from nI_ge (b := m) (a := 600) (by omega) (by have := h.1.2.1.2.1; omega))]
    exact hQ M' ρ A m T (xSt_ov h (by omega) (gokT_TrC hy hzk e Γ st hk)) hs stF.rf (by unfold szs; omega) rm.rf
  have w0 : wfS st := h.1.2.1.2.2.2.2.2.2
  have nΓ : ∀ mm, st.m ≤ mm → ¬ mkP Γ mm := fun mm h1 h2 => by have := (h.2.2.2.2.2.2.1 mm h2).1; omega
  have hlen : m = st.c.length := h.1.2.1.2.2.1 h6
  have kg : kgo (trW st.c.length st.m none :: Γ) := kgo_w hk rfl
  have nk : ∀ mm, st.m ≤ mm → ¬ mkP (trW st.c.length st.m none :: Γ) mm := fun mm z1 z2 => (mkP_cons z2).elim wmk_tr (nΓ mm z1)
  have hs0 : gTrC y x z e Γ st = hre (st.m + 1) (z e Γ (em e Γ (psh 1 (skk Γ)) 17 0 0 none (gSet x e Γ (psh 1 (skk Γ)) (hre st.m (em e Γ (skk Γ) 21 0 0 (some (st.m + 1)) (em e (trW st.c.length st.m none :: Γ) (skk Γ) 28 0 0 none (y e (trW st.c.length st.m none :: Γ) (em e Γ (skk Γ) 27 0 0 (some st.m) (mkm (mkm st)))))))))) := rfl
  rw [hs0] at hQ
  have l1 := em_len e Γ (skk Γ) 27 0 0 (some st.m) (mkm (mkm st))
  have lm : (mkm (mkm st)).c.length = st.c.length := rfl
  have gy := hy e (trW st.c.length st.m none :: Γ) (em e Γ (skk Γ) 27 0 0 (some st.m) (mkm (mkm st))) kg
  have u0 : only (y e (trW st.c.length st.m none :: Γ) (em e Γ (skk Γ) 27 0 0 (some st.m) (mkm (mkm st)))) st.m st.c.length := only_gst (noM_only (s := mkm (mkm st)) (fun q hq => w0.no (Nat.le_refl _) q hq) e Γ (skk Γ) 27 0 0) (by omega) gy (nk _ (Nat.le_refl _)) (show st.m < st.m + 2 by omega)
  have k1 : noM (y e (trW st.c.length st.m none :: Γ) (em e Γ (skk Γ) 27 0 0 (some st.m) (mkm (mkm st)))) (st.m + 1) := noM_gst (noM_em (s := mkm (mkm st)) (fun q hq => w0.no (Nat.le_succ _) q hq) e Γ (skk Γ) 27 0 0 (fun z => by have := Option.some.inj z; omega)) gy (nk _ (Nat.le_succ _)) (show st.m + 1 < st.m + 2 by omega)
  have a0 : (y e (trW st.c.length st.m none :: Γ) (em e Γ (skk Γ) 27 0 0 (some st.m) (mkm (mkm st)))).at (st.m + 1) = none := (gy.2.2.1 _ (show st.m + 1 < st.m + 2 by omega)).trans (w0.2 _ (Nat.le_succ _))
  have mm1 : st.m + 2 ≤ (y e (trW st.c.length st.m none :: Γ) (em e Γ (skk Γ) 27 0 0 (some st.m) (mkm (mkm st)))).m := gy.2.1
  have ll1 := gy.len
  refine tryA (D' := Dk + 1) (N' := Nk) (K' := Kk) (pl := none) (fi := none) hb e0 (.inr ⟨by rw [e2, Ne, nn_m1 (by omega)]; exact fun z => z, rfl⟩) ⟨fun _ => rfl, fun _ => rfl⟩ h1 hy hoy hf hcx hCC (hG.cons rfl) kg ha hB hF hs h h6 (by omega) (by omega) (by omega) (by omega) hT (fun M2 ρ2 A2 m2 T2 X2 s2 F2 sz r2 => ?_)
  have u0 := only_em u0 (by omega) e (trW st.c.length st.m none :: Γ) (skk Γ) 28 0 0 (mk := none) (fun z => by cases z)
  have k1 := noM_em k1 e (trW st.c.length st.m none :: Γ) (skk Γ) 28 0 0 (mk := none) (fun z => by cases z)
  have l2 := em_len e (trW st.c.length st.m none :: Γ) (skk Γ) 28 0 0 none (y e (trW st.c.length st.m none :: Γ) (em e Γ (skk Γ) 27 0 0 (some st.m) (mkm (mkm st))))
  have a0 : (em e (trW st.c.length st.m none :: Γ) (skk Γ) 28 0 0 none (y e (trW st.c.length st.m none :: Γ) (em e Γ (skk Γ) 27 0 0 (some st.m) (mkm (mkm st))))).at (st.m + 1) = none := a0
  have mm1 : st.m + 2 ≤ (em e (trW st.c.length st.m none :: Γ) (skk Γ) 28 0 0 none (y e (trW st.c.length st.m none :: Γ) (em e Γ (skk Γ) 27 0 0 (some st.m) (mkm (mkm st))))).m := mm1
  generalize em e (trW st.c.length st.m none :: Γ) (skk Γ) 28 0 0 none (y e (trW st.c.length st.m none :: Γ) (em e Γ (skk Γ) 27 0 0 (some st.m) (mkm (mkm st)))) = s5 at *
  have a2 := ha.tr (F2.agS hs)
  have B2 := hB.tr (F2.agB hs)
  have F12 := F2.f12.trans hF
  have hz2 := X2.2.2.2.2.1
  have l5 : m2 ≤ 600 → m2 = s5.c.length := X2.1.2.1.2.2.1
  have ne1 : ¬ nI x = -1 := by rw [nn_m1 (by omega)]; exact fun z => z
  refine iX38_code_73 M2 b 29 _ ?_
  rw [(a2 b 2 hb).1, e2, if_neg ne1]
  refine y_puJ (L := skk Γ) (mm := st.m + 1) X2 (by omega) rfl rfl (by omega) (nΓ _ (Nat.le_succ _)) (fun p z => by rw [a0] at z; cases z) (fun M3 X3 f3 => ?_)
  have v0 := only_em u0 (by omega) e Γ (skk Γ) 21 0 0 (mk := some (st.m + 1)) (fun z => by have := Option.some.inj z; omega)
  have v1 := noM_only k1 e Γ (skk Γ) 21 0 0
  have l3 := em_len e Γ (skk Γ) 21 0 0 (some (st.m + 1)) s5
  have mm3 : st.m + 2 ≤ (em e Γ (skk Γ) 21 0 0 (some (st.m + 1)) s5).m := mm1
  generalize em e Γ (skk Γ) 21 0 0 (some (st.m + 1)) s5 = s6 at *
  show Z E YX38_code (d + 2 + 1) M3 [(0, vr (some (b, 43, 0))), (1, C29), (2, vi (nI m))] 97 [vi (nI m2)] Q
  refine sX38_code_97 M3 b 29 _ _ ?_
  refine y_goS (k := m) (k0 := st.c.length) (mm := st.m) X3 (fun _ => hlen) (by omega) (by omega) (nΓ _ (Nat.le_refl _)) v0 (fun M4 X4 f4 => ?_)
  have f24 := f3.tr f4
  have F4 := f24.stF (B := B) (C := CC) (ρ := ρ2) hz2
  have s4 := sep_cd s2 f24 hz2
  have a4 := a2.tr (F4.agS s2)
  have v1 : only (hre st.m s6) (st.m + 1) s5.c.length := v1
  have l4 : (hre st.m s6).c.length = s6.c.length := rfl
  have mm4 : st.m + 2 ≤ (hre st.m s6).m := mm3
  generalize hre st.m s6 = s7 at *
  show Z E YX38_code (d + 2 + 1) M4 [(0, vr (some (b, 43, 0))), (1, C29), (4, vi (nI m2))] 104 [] Q
  refine sX38_code_104 M4 b 29 _ ?_
  rw [(a4 b 2 hb).1, e2, if_neg ne1]
  refine y_seS (L := psh 1 (skk Γ)) X4 (by omega) hx (fun M5 X5 f5 => ?_)
  have gs := gok_Set x e Γ (psh 1 (skk Γ)) s7
  have v1 := only_gst v1 (by omega) gs (fun z => z) (by omega)
  have ls := gs.len
  have mm5 : st.m + 2 ≤ (gSet x e Γ (psh 1 (skk Γ)) s7).m := Nat.le_trans mm4 gs.2.1
  generalize gSet x e Γ (psh 1 (skk Γ)) s7 = s8 at *
  show Z E YX38_code (d + 2 + 1) M5 [(0, vr (some (b, 43, 0))), (1, C29), (4, vi (nI m2))] 120 [] Q
  refine sX38_code_120 M5 b 29 _ ?_
  refine y_puS (L := psh 1 (skk Γ)) X5 (by omega) rfl rfl (fun M6 X6 f6 => ?_)
  have v1 := only_em v1 (by omega) e Γ (psh 1 (skk Γ)) 17 0 0 (mk := none) (fun z => by cases z)
  have l6 := em_len e Γ (psh 1 (skk Γ)) 17 0 0 none s8
  have mm6 : st.m + 2 ≤ (em e Γ (psh 1 (skk Γ)) 17 0 0 none s8).m := mm5
  generalize em e Γ (psh 1 (skk Γ)) 17 0 0 none s8 = s9 at *
  have f26 := (f24.tr f5).tr f6
  have F6 := f26.stF (B := B) (C := CC) (ρ := ρ2) hz2
  have s6' := sep_cd s2 f26 hz2
  have a6 := a2.tr (F6.agS s2)
  show Z E YX38_code (d + 2 + 1) M6 [(0, vr (some (b, 43, 0))), (1, C29), (4, vi (nI m2))] 128 [vi _] Q
  refine sX38_code_128 M6 b 29 _ _ ?_
  rw [(a6 b 1 hb).2, e1]
  refine y_ndS (h2 e fc Γ ps Dk Nk Kk Ck CC hf hG hCC hk hcx) a6 (B2.tr (F6.agB s2)) (F6.f12.trans F12) s6' X6 (by omega) (by omega) (by omega) (by omega) (by omega) (T := T2) (by omega) (fun M7 ρ7 A7 m7 T7 X7 s7' F7 sy r7 => ?_)
  have gz := hzk e Γ s9 hk
  have v1 := only_gst v1 (by omega) gz (nΓ _ (Nat.le_succ _)) (by omega)
  have mm7 : st.m + 2 ≤ (z e Γ s9).m := Nat.le_trans mm6 gz.2.1
  have hz7 := X7.2.2.2.2.1
  generalize z e Γ s9 = s10 at *
  show Z E YX38_code (d + 2 + 1) M7 [(1, C29), (4, vi (nI m2))] 137 [] Q
  refine sX38_code_137 M7 29 _ ?_
  refine y_goS (k := m2) (k0 := s5.c.length) (mm := st.m + 1) X7 (fun z => l5 (by unfold szs at sy; omega)) (by omega) (by omega) (nΓ _ (Nat.le_succ _)) v1 (fun M8 X8 f8 => ?_)
  show Z E YX38_code (d + 2 + 1) M8 [] 176 [] Q
  refine sX38_code_176 M8 ?_
  refine hQ M8 ρ7 A7 m7 T7 X8 (sep_cd s7' f8 hz7) (((F2.tr F6).tr F7).tr (f8.stF hz7)) (by unfold szs at *; omega) ?_
  exact (((r2.tr (rm_cd (V := 0) X2.2.1 f26 hz2 (Nat.le_refl _)) h.lz (V'' := u + (Dy + Dz + 3 + Dk)) (by omega) (Nat.zero_le _)).tr r7 h.lz (V'' := u + (Dy + Dz + 3 + Dk)) (Nat.le_refl _) (by omega)).tr (rm_cd (V := 0) X7.2.1 f8 hz7 (Nat.le_refl _)) h.lz (Nat.le_refl _) (Nat.zero_le _))
theorem xs_TryF {Cy Cz : Nat → Prop} {b Dy Dz oy ny hy' ky oz nz hz' kz : Nat} {p1 p2 : zP} {y z : gSt} (hb : S b) (e0 : gr M b 0 = some p1) (e1 : gr M b 1 = some p2) (e2 : gi M b 2 = -1) (h1 : xNd S B M c Cy Dy oy ny hy' ky p1 y) (hy : gokT y) (hoy : oy ≤ ny ∧ hy' ≤ ky) (h2 : xNd S B M c Cz Dz oz nz hz' kz p2 z) (hzk : gokT z) (hoz : oz ≤ nz ∧ hz' ≤ kz) (hyz : (∀ b, Cy b → C b) ∧ (∀ b, Cz b → C b) ∧ ∀ b, Cy b → ¬ Cz b) (hS : ∀ a, S a → 190 ≤ a) : xNd S B M c C (Dy + Dz + 4) 0 (ny + nz + 2 * oz + 8) 0 (ky + kz + 2 * hz') (b, 43, 0) (gTrF y z) := by
  intro e fc Γ ps Dk Nk Kk Ck CC hf hG hCC hk hcx
  refine ⟨rfl, (show 20 ≤ 43 ∧ 43 < 45 by decide), _, rfl, fun E d Q M' l bs ρ A u m T st ha hB hF hs h hd hu hsk hm hN hT hQ => ?_⟩
  obtain ⟨d, rfl⟩ : ∃ d', d = d' + 8 := ⟨d - 8, by omega⟩
  have hz := h.2.2.2.2.1
  by_cases h6 : m ≤ 600
  rotate_left
  · refine sX38_code_0 M' b _ ⟨29, rfl, ?_⟩
    rw [h.1.2.1.1, if_neg (show ¬ nI m ≤ (600 : Int32) from nI_ge (b := m) (a := 600) (by omega) (by have := h.1.2.1.2.1; omega))]
    exact hQ M' ρ A m T (xSt_ov h (by omega) (gokT_TrF hy hzk e Γ st hk)) hs stF.rf (by unfold szs; omega) rm.rf
  have w0 : wfS st := h.1.2.1.2.2.2.2.2.2
  have nΓ : ∀ mm, st.m ≤ mm → ¬ mkP Γ mm := fun mm h1 h2 => by have := (h.2.2.2.2.2.2.1 mm h2).1; omega
  have hlen : m = st.c.length := h.1.2.1.2.2.1 h6
  obtain ⟨φ, hφ⟩ : ∃ φ : List Bool → gS → gS, φ = fun X s => z e (vaK X Γ) s := ⟨_, rfl⟩
  have kg : kgo (trW st.c.length st.m (some φ) :: Γ) := ⟨hk, fun ψ hψ => by
    have : φ = ψ := Option.some.inj hψ
    rw [← this, hφ]
    exact fun X s => (hzk e (vaK X Γ) s (kgo_va hk)).mono fun m hm => mkP_va hm⟩
  have gd : Good S B M e fc (fun b => Ck b ∨ Cz b) (Nk + nz) (Kk + kz) (Dz + Dk + 2) (trW st.c.length st.m (some φ) :: Γ) (some p2 :: ps) := by
    refine ⟨by omega, hG.mono (fun _ z => .inl z) (by omega) (by omega) (by omega), fun ψ hψ => ⟨p2, rfl, fun X => ?_⟩⟩
    have : φ = ψ := Option.some.inj hψ
    rw [← this, hφ]
    have gX : Good S B M e fc Ck Nk Kk (Dk + 1) (vaK X Γ) (if X = [] then ps else none :: ps) := by
      by_cases hX : X = []
      · rw [if_pos hX, show vaK X Γ = Γ from if_pos hX]
        exact hG.mono (fun _ z => z) (Nat.le_refl _) (Nat.le_refl _) (Nat.le_succ _)
      · rw [if_neg hX, show vaK X Γ = vaW X :: Γ from if_neg hX]
        exact hG.cons rfl
    have cX : ctx c (vaK X Γ) := by
      by_cases hX : X = []
      · rw [show vaK X Γ = Γ from if_pos hX]; exact hcx
      · rw [show vaK X Γ = vaW X :: Γ from if_neg hX]; exact ctx_tl hcx
    exact (h2 e fc (vaK X Γ) _ (Dk + 1) Nk Kk Ck (fun b => Ck b ∨ Cz b) hf gX ⟨fun _ z => .inr z, fun _ z => .inl z, fun b z => hCC.2.2 b (hyz.2.1 b z)⟩ (kgo_va hk) cX).mono (fun _ z => z) (by omega) (by omega) (Nat.le_refl _) (by omega) (Nat.le_refl _)
  have nk : ∀ mm, st.m ≤ mm → ¬ mkP (trW st.c.length st.m (some φ) :: Γ) mm := fun mm z1 z2 => (mkP_cons z2).elim wmk_tr (nΓ mm z1)
  have hs0 : gTrF y z e Γ st = hre (st.m + 1) (em e Γ (psh 1 (skk Γ)) 26 0 0 none (z e (vaW [false] :: Γ) (hre st.m (em e Γ (skk Γ) 21 0 0 (some (st.m + 1)) (z e Γ (em e (trW st.c.length st.m (some φ) :: Γ) (skk Γ) 28 0 0 none (y e (trW st.c.length st.m (some φ) :: Γ) (em e Γ (skk Γ) 27 0 0 (some st.m) (mkm (mkm st)))))))))) := by rw [hφ]; rfl
  rw [hs0] at hQ
  have l1 := em_len e Γ (skk Γ) 27 0 0 (some st.m) (mkm (mkm st))
  have lm : (mkm (mkm st)).c.length = st.c.length := rfl
  have gy := hy e (trW st.c.length st.m (some φ) :: Γ) (em e Γ (skk Γ) 27 0 0 (some st.m) (mkm (mkm st))) kg
  have u0 : only (y e (trW st.c.length st.m (some φ) :: Γ) (em e Γ (skk Γ) 27 0 0 (some st.m) (mkm (mkm st)))) st.m st.c.length := only_gst (noM_only (s := mkm (mkm st)) (fun q hq => w0.no (Nat.le_refl _) q hq) e Γ (skk Γ) 27 0 0) (by omega) gy (nk _ (Nat.le_refl _)) (show st.m < st.m + 2 by omega)
  have k1 : noM (y e (trW st.c.length st.m (some φ) :: Γ) (em e Γ (skk Γ) 27 0 0 (some st.m) (mkm (mkm st)))) (st.m + 1) := noM_gst (noM_em (s := mkm (mkm st)) (fun q hq => w0.no (Nat.le_succ _) q hq) e Γ (skk Γ) 27 0 0 (fun z => by have := Option.some.inj z; omega)) gy (nk _ (Nat.le_succ _)) (show st.m + 1 < st.m + 2 by omega)
  have a0 : (y e (trW st.c.length st.m (some φ) :: Γ) (em e Γ (skk Γ) 27 0 0 (some st.m) (mkm (mkm st)))).at (st.m + 1) = none := (gy.2.2.1 _ (show st.m + 1 < st.m + 2 by omega)).trans (w0.2 _ (Nat.le_succ _))
  have mm1 : st.m + 2 ≤ (y e (trW st.c.length st.m (some φ) :: Γ) (em e Γ (skk Γ) 27 0 0 (some st.m) (mkm (mkm st)))).m := gy.2.1
  have ll1 := gy.len
  refine tryA (D' := Dz + Dk + 2) (N' := Nk + nz) (K' := Kk + kz) (pl := some p2) (fi := some φ) hb e0 (.inl ⟨e2, e1⟩) ⟨(fun z => by cases z), (fun z => by cases z)⟩ h1 hy hoy hf hcx (Ck := fun b => Ck b ∨ Cz b) (CC := CC) ⟨fun b z => hCC.1 b (hyz.1 b z), fun b z => z.elim (hCC.2.1 b) (fun z => hCC.1 b (hyz.2.1 b z)), fun b z1 z2 => z2.elim (hCC.2.2 b (hyz.1 b z1)) (hyz.2.2 b z1)⟩ gd kg ha hB hF hs h h6 (by omega) (by omega) (by omega) (by omega) hT (fun M2 ρ2 A2 m2 T2 X2 s2 F2 sz r2 => ?_)
  have u0 := only_em u0 (by omega) e (trW st.c.length st.m (some φ) :: Γ) (skk Γ) 28 0 0 (mk := none) (fun z => by cases z)
  have k1 := noM_em k1 e (trW st.c.length st.m (some φ) :: Γ) (skk Γ) 28 0 0 (mk := none) (fun z => by cases z)
  have l2 := em_len e (trW st.c.length st.m (some φ) :: Γ) (skk Γ) 28 0 0 none (y e (trW st.c.length st.m (some φ) :: Γ) (em e Γ (skk Γ) 27 0 0 (some st.m) (mkm (mkm st))))
  have a0 : (em e (trW st.c.length st.m (some φ) :: Γ) (skk Γ) 28 0 0 none (y e (trW st.c.length st.m (some φ) :: Γ) (em e Γ (skk Γ) 27 0 0 (some st.m) (mkm (mkm st))))).at (st.m + 1) = none := a0
  have mm1 : st.m + 2 ≤ (em e (trW st.c.length st.m (some φ) :: Γ) (skk Γ) 28 0 0 none (y e (trW st.c.length st.m (some φ) :: Γ) (em e Γ (skk Γ) 27 0 0 (some st.m) (mkm (mkm st))))).m := mm1
  generalize em e (trW st.c.length st.m (some φ) :: Γ) (skk Γ) 28 0 0 none (y e (trW st.c.length st.m (some φ) :: Γ) (em e Γ (skk Γ) 27 0 0 (some st.m) (mkm (mkm st)))) = s5 at *
  have a2 := ha.tr (F2.agS hs)
  have B2 := hB.tr (F2.agB hs)
  have F12 := F2.f12.trans hF
  have hz2 := X2.2.2.2.2.1
  refine iX38_code_73 M2 b 29 _ ?_
  rw [(a2 b 2 hb).1, e2, if_pos rfl, (a2 b 1 hb).2, e1]
  refine y_ndS (h2 e fc Γ ps Dk Nk Kk Ck CC hf hG ⟨fun b z => hCC.1 b (hyz.2.1 b z), hCC.2.1, fun b z => hCC.2.2 b (hyz.2.1 b z)⟩ hk hcx) a2 B2 F12 s2 X2 (by omega) (by omega) (by omega) (by omega) (by omega) (T := T2) (by omega) (fun M3 ρ3 A3 m3 T3 X3 s3 F3 sy r3 => ?_)
  have gz := hzk e Γ s5 hk
  have u0 := only_gst u0 (by omega) gz (nΓ _ (Nat.le_refl _)) (by omega)
  have k1 := noM_gst k1 gz (nΓ _ (Nat.le_succ _)) (by omega)
  have a0 : (z e Γ s5).at (st.m + 1) = none := (gz.2.2.1 _ (by omega)).trans a0
  have mm1 : st.m + 2 ≤ (z e Γ s5).m := Nat.le_trans mm1 gz.2.1
  have ll2 := gz.len
  generalize z e Γ s5 = s6 at *
  have a3 := a2.tr (F3.agS s2)
  have B3 := B2.tr (F3.agB s2)
  have F123 := F3.f12.trans F12
  have hz3 := X3.2.2.2.2.1
  have l5 : m3 ≤ 600 → m3 = s6.c.length := X3.1.2.1.2.2.1
  have b3 : m3 + oz < 9000700 := by unfold szs at sy; omega
  show Z E YX38_code (d + 7 + 1) M3 [(0, vr (some (b, 43, 0))), (1, C29), (2, vi (nI m))] 89 [] Q
  refine sX38_code_89 M3 b 29 _ ?_
  refine y_puJ (L := skk Γ) (mm := st.m + 1) X3 (by omega) rfl rfl (by omega) (nΓ _ (Nat.le_succ _)) (fun p z => by rw [a0] at z; cases z) (fun M4 X4 f4 => ?_)
  have v0 := only_em u0 (by omega) e Γ (skk Γ) 21 0 0 (mk := some (st.m + 1)) (fun z => by have := Option.some.inj z; omega)
  have v1 := noM_only k1 e Γ (skk Γ) 21 0 0
  have l3 := em_len e Γ (skk Γ) 21 0 0 (some (st.m + 1)) s6
  have mm3 : st.m + 2 ≤ (em e Γ (skk Γ) 21 0 0 (some (st.m + 1)) s6).m := mm1
  generalize em e Γ (skk Γ) 21 0 0 (some (st.m + 1)) s6 = s7 at *
  show Z E YX38_code (d + 7 + 1) M4 [(0, vr (some (b, 43, 0))), (1, C29), (2, vi (nI m))] 97 [vi (nI m3)] Q
  refine sX38_code_97 M4 b 29 _ _ ?_
  refine y_goS (k := m) (k0 := st.c.length) (mm := st.m) X4 (fun _ => hlen) (by omega) (by omega) (nΓ _ (Nat.le_refl _)) v0 (fun M5 X5 f5 => ?_)
  have f35 := f4.tr f5
  have F5 := f35.stF (B := B) (C := CC) (ρ := ρ3) hz3
  have s5' := sep_cd s3 f35 hz3
  have a5 := a3.tr (F5.agS s3)
  have B5 := B3.tr (F5.agB s3)
  have F125 := F5.f12.trans F123
  have v1 : only (hre st.m s7) (st.m + 1) s6.c.length := v1
  have l4 : (hre st.m s7).c.length = s7.c.length := rfl
  have mm4 : st.m + 2 ≤ (hre st.m s7).m := mm3
  generalize hre st.m s7 = s8 at *
  have hz5 := X5.2.2.2.2.1
  show Z E YX38_code (d + 7 + 1) M5 [(0, vr (some (b, 43, 0))), (1, C29), (4, vi (nI m3))] 104 [] Q
  refine sX38_code_104 M5 b 29 _ ?_
  rw [(a5 b 2 hb).1, e2, if_pos rfl]
  refine y_enter (d := d) X5.1.1 X5.2.1 X5.2.2.1 X5.2.2.2.1.1 (by have := X5.2.2.2.1.2; omega) hz5 (fun M6 ρ6 A6 a he => ?_)
  have eF := en_stF (C := CC) he s5' hz5 X5.2.1
  have eR := en_rm (C := CC) (l := l) (m := T3) he X5.2.1 (by omega)
  obtain ⟨X6, ra⟩ := va_xSt (X := [false]) X5 he rfl (fr.rf (P := fun x k => x = a ∧ k = 8)) he.2.2.2.2.1.2.2.2.2.2 (by show 1 + (skk Γ).length < _; omega) hf a5 F125 s5' (by omega)
  have a6 := a5.tr (eF.1.agS s5')
  have ba := (he.1.1 a (by omega))
  show Z E YX38_code (d + 7 + 1) M6 [(0, vr (some (b, 43, 0))), (1, C29), (4, vi (nI m3))] 145 [vr (some (a, 17, 0))] Q
  refine sX38_code_145 M6 b 29 _ _ ?_
  rw [(a6 b 1 hb).2, e1]
  refine y_ndS (h2 e fc (vaW [false] :: Γ) (none :: ps) (Dk + 1) Nk Kk Ck CC hf (hG.cons rfl) ⟨fun b z => hCC.1 b (hyz.2.1 b z), hCC.2.1, fun b z => hCC.2.2 b (hyz.2.1 b z)⟩ (kgo_w hk rfl) (ctx_tl hcx)) a6 (B5.tr (eF.1.agB s5')) (eF.1.f12.trans F125) eF.2 X6 (by omega) (by omega) (by show (skk Γ).length + 1 + _ ≤ _; omega) (by omega) (by omega) (T := T3) (by unfold szs at sy; omega) (fun M7 ρ7 A7 m7 T7 X7 s7' F7 sx r7 => ?_)
  have gz2 := hzk e (vaW [false] :: Γ) s8 (kgo_w hk rfl)
  have nva : ∀ mm, st.m ≤ mm → ¬ mkP (vaW [false] :: Γ) mm := fun mm z1 z2 => (mkP_cons z2).elim wmk_va (nΓ mm z1)
  have v1 := only_gst v1 (by omega) gz2 (nva _ (Nat.le_succ _)) (by omega)
  have mm7 : st.m + 2 ≤ (z e (vaW [false] :: Γ) s8).m := Nat.le_trans mm4 gz2.2.1
  have ll7 := gz2.len
  generalize z e (vaW [false] :: Γ) s8 = s9 at *
  have hz7 := X7.2.2.2.2.1
  have b7 : m7 < 9900000 := by unfold szs at sx sy; omega
  show Z E YX38_code (d + 7 + 1) M7 [(1, C29), (4, vi (nI m3)), (5, vr (some (a, 17, 0)))] 155 [] Q
  refine sX38_code_155 M7 29 _ _ ?_
  refine sX3_leave_0 M7 _ X7.1.1 ⟨a, rfl, ?_⟩
  have hA5 := X5.A190
  have hA7 := X7.A190
  have inj : ∀ i j x : Nat, A3[i]? = some x → A7[j]? = some x → i = j := fun i j x z1 z2 => by
    have t1 := hA5 i x z1
    have t2 := hA7 j x z2
    have t3 := eF.1.1.2.2 x t1.2.1
    have t4 := F7.1.2.2 x (by have := eF.1.1.1; omega)
    omega
  obtain ⟨X8, f8⟩ := lv_gen X7 (show ¬ (3 : Nat) = 4 by decide) ((F7.1.2.2 a ba.2).trans ra) X5.2.2.2.2.2.1 inj
  generalize si (sr M7 29 9 (gr M7 a 4)) 29 11 (gi M7 a 0) = M8 at *
  have F8 := stL_of f8 (B := B) (C := CC) (ρ := ρ7) hz7
  have s8' := sep_lo s7' f8 hz7
  have hz8 := X8.2.2.2.2.1
  show Z E YX38_code (d + 7 + 1) M8 [(1, C29), (4, vi (nI m3))] 161 [] Q
  refine sX38_code_161 M8 29 _ ?_
  refine y_puS (L := psh 1 (skk Γ)) X8 (by omega) rfl rfl (fun M9 X9 f9 => ?_)
  have v1 := only_em v1 (by omega) e Γ (psh 1 (skk Γ)) 26 0 0 (mk := none) (fun z => by cases z)
  have mm9 : st.m + 2 ≤ (em e Γ (psh 1 (skk Γ)) 26 0 0 none s9).m := mm7
  generalize em e Γ (psh 1 (skk Γ)) 26 0 0 none s9 = s10 at *
  show Z E YX38_code (d + 7 + 1) M9 [(1, C29), (4, vi (nI m3))] 169 [vi (nI m7)] Q
  refine sX38_code_169 M9 29 _ _ ?_
  refine y_goS (k := m3) (k0 := s6.c.length) (mm := st.m + 1) X9 (fun z => l5 (by unfold szs at sx; omega)) (by omega) (by omega) (nΓ _ (Nat.le_succ _)) v1 (fun M10 X10 f10 => ?_)
  show Z E YX38_code (d + 7 + 1) M10 [] 176 [] Q
  refine sX38_code_176 M10 ?_
  have f910 := f9.tr f10
  have zl5 : ∀ b ∈ l, b < zsz M5 := X5.lz
  refine hQ M10 ρ7 A7 (m7 + 1) T7 X10 (sep_cd s8' f910 hz8) ((((((F2.tr F3).tr F5).tr eF.1).tr F7).tr F8).tr (f910.stF hz8)) (by unfold szs at *; omega) ?_
  exact ((((((r2.tr r3 h.lz (V'' := u + (Dy + Dz + 4 + Dk)) (by omega) (by omega)).tr (rm_cd (V := 0) X3.2.1 f35 hz3 (Nat.le_refl _)) h.lz (V'' := u + (Dy + Dz + 4 + Dk)) (Nat.le_refl _) (Nat.zero_le _)).tr eR h.lz (V'' := u + (Dy + Dz + 4 + Dk)) (Nat.le_refl _) (by omega)).tr (r7.dn ra) h.lz (V'' := u + (Dy + Dz + 4 + Dk)) (Nat.le_refl _) (by omega)).tr (rm_lo (V := 0) X7.2.1 f8 hz7 (Nat.le_refl _)) h.lz (V'' := u + (Dy + Dz + 4 + Dk)) (Nat.le_refl _) (Nat.zero_le _)).tr (rm_cd (V := 0) X8.2.1 f910 hz8 (Nat.le_refl _)) h.lz (Nat.le_refl _) (Nat.zero_le _))
end
