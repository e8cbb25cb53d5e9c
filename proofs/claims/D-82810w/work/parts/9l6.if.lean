/-! THE COMPONENT's CODER: if -/
theorem xSt_hr0 {M : zM} {e : gN} {Γ : gK} {l bs : List Nat} {ps : List (Option zP)} {ρ : Nat → Nat} {A : List Nat} {u m mm : Nat} {st : gS} (h : xSt M e Γ l bs ps ρ A u m st) (hn : noM st mm) (hm : mm < st.m) (hp : ¬ mkP Γ mm) : xSt M e Γ l bs ps ρ A u m (hre mm st) := by
  refine xSt_mk h fr.rf ?_ rfl (Nat.le_refl _) (fun m' z => (show (if m' = mm then _ else st.at m') = st.at m' by rw [if_neg (fun y => hp (by rw [← y]; exact z))]))
  obtain ⟨h1, ⟨c1, c2, c3, c4, c5, c6, c7⟩, h3⟩ := h.1
  refine ⟨h1, ⟨c1, c2, c3, c4, fun h6 => ?_, c6, ⟨c7.1, fun k hk => (show (if k = mm then _ else st.at k) = none by have : st.m ≤ k := hk; rw [if_neg (by omega)]; exact c7.2 k hk)⟩⟩, h3⟩
  obtain ⟨d1, d0, d2, d3⟩ := c5 h6
  refine ⟨d1, d0, fun k q hq => ?_, d3⟩
  obtain ⟨i1, i2, i3, i4⟩ := d2 k q hq
  refine ⟨i1, i2, fun m' p z1 z2 z3 => ?_, i4⟩
  have z2' : (if m' = mm then some st.c.length else st.at m') = some p := z2
  have hne : ¬ m' = mm := fun z => hn q (List.mem_of_getElem? hq) (by rw [z1, z])
  rw [if_neg hne] at z2'
  exact i3 m' p z1 z2' z3
section
variable {S B : Nat → Prop} {M : zM} {c : Nat × Nat} {C : Nat → Prop} {D : Nat}
theorem y_ndS {E : zE} {d : Nat} {Q : zO → zM → Prop} {M1 : zM} {e : gN} {Γ : gK} {l bs : List Nat} {ps : List (Option zP)} {ρ : Nat → Nat} {A : List Nat} {u m T : Nat} {st : gS} {D o N h' K fc : Nat} {CC : Nat → Prop} {p : zP} {f : gS → gS} (hp : Wk S B M e fc CC D o N h' K p f Γ ps) (ha : agS S M M1) (hB : agB B M M1) (hF : gr M1 29 12 = some (fc, 10, 0)) (hs : sep S B M1 ρ) (h : xSt M1 e Γ l bs ps ρ A u m st) (hd : D + 350 ≤ d) (hu : u + D ≤ 60000) (hsk : (skk Γ).length + D ≤ 2000) (hm : m + o < 10000000) (hN : N < 9000000) (hT : T ≤ m)
    (hQ : ∀ M' ρ' A' m' T', xSt M' e Γ l bs ps ρ' A' u m' (f st) → sep S B M' ρ' → stF B CC M1 M' ρ ρ' → szs m T o N h' K m' T' → rm CC u l M1 ρ A T M' ρ' A' T' (u + D) → Q (.inl none) M') : ∃ b t, some p = some (b, t, 0) ∧ ∃ Y, vt_code t = some Y ∧ Z E Y d M1 (zargs 0 [vr (some (b, t, 0)), C29]) 0 [] Q := by
  obtain ⟨b, t, h1, -, h2⟩ := y_ndL hp ha hB hF hs h hd hu hsk hm hN hT hQ
  exact ⟨b, t, h1, h2⟩
theorem xs_If {De b ox oy ny hy' ky : Nat} {p1 p2 : zP} {x : gEx} {y : gSt} (hb : S b) (e0 : gr M b 0 = some p1) (e1 : gr M b 1 = some p2) (e2 : gr M b 2 = none) (h1 : xE S M De p1 x) (hx : gok x) (hox : gle ox x) (h2 : xNd S B M c C D oy ny hy' ky p2 y) (hy : gokT y) (hoy : oy ≤ ny ∧ hy' ≤ ky) (hDe : De ≤ 350) : xNd S B M c C (D + 1) (ox + oy + 1) (ox + ny + 1) hy' ky (b, 37, 0) (gIf x y) := by
  intro e fc Γ ps Dk Nk Kk Ck CC hf hG hCC hk hcx
  refine ⟨rfl, (show 20 ≤ 37 ∧ 37 < 45 by decide), _, rfl, fun E d Q M' l bs ρ A u m T st ha hB hF hs h hd hu hsk hm hN hT hQ => ?_⟩
  obtain ⟨d, rfl⟩ : ∃ d', d = d' + 2 := ⟨d - 2, by omega⟩
  have hS := h1.1
  have hz := h.2.2.2.2.1
  have w0 : wfS st := h.1.2.1.2.2.2.2.2.2
  have hΓ := h.2.2.2.2.2.2.1
  have m0 : (mkm (mkm st)).m = st.m + 2 := rfl
  have l0 : (mkm (mkm st)).c.length = st.c.length := rfl
  have c1 := xSt_mkm (xSt_mkm h)
  have g1 := hx e Γ (skk Γ) (mkm (mkm st))
  have lo := hox e Γ (skk Γ) (mkm (mkm st))
  have k0 : noM (x e Γ (skk Γ) (mkm (mkm st))) st.m := noM_gst (s := mkm (mkm st)) (fun q hq => w0.no (Nat.le_refl _) q hq) g1 (fun z => z) (by omega)
  have k1 : noM (x e Γ (skk Γ) (mkm (mkm st))) (st.m + 1) := noM_gst (s := mkm (mkm st)) (fun q hq => w0.no (Nat.le_succ _) q hq) g1 (fun z => z) (by omega)
  have a0 : (x e Γ (skk Γ) (mkm (mkm st))).at st.m = none := (g1.2.2.1 _ (by omega)).trans (w0.2 _ (Nat.le_refl _))
  have l6 := g1.len
  have m1 : st.m + 2 ≤ (x e Γ (skk Γ) (mkm (mkm st))).m := g1.2.1
  have hs0 : gIf x y e Γ st = hre (st.m + 1) (hre st.m (y e Γ (em e Γ (psh 1 (skk Γ)) 22 0 0 (some st.m) (x e Γ (skk Γ) (mkm (mkm st)))))) := rfl
  rw [hs0] at hQ
  refine sX32_code_0 M' b _ ?_
  rw [(ha b 0 hb).2, e0]
  refine y_exS (L := skk Γ) h1 hx ha c1 (by omega) (by omega) (fun M1 c2 f1 => ?_)
  generalize hs1 : x e Γ (skk Γ) (mkm (mkm st)) = s1 at *
  have u0 := noM_only k0 e Γ (psh 1 (skk Γ)) 22 0 0
  have k1 := noM_em k1 e Γ (psh 1 (skk Γ)) 22 0 0 (mk := some st.m) (fun z => by have := Option.some.inj z; omega)
  have l1 := em_len e Γ (psh 1 (skk Γ)) 22 0 0 (some st.m) s1
  have m2 : st.m + 2 ≤ (em e Γ (psh 1 (skk Γ)) 22 0 0 (some st.m) s1).m := m1
  have q1 := ha.tr (f1.agS hS)
  have c2len : m + (s1.c.length - (mkm (mkm st)).c.length) ≤ 600 → m + (s1.c.length - (mkm (mkm st)).c.length) = s1.c.length := c2.1.2.1.2.2.1
  have nΓ : ∀ mm, st.m ≤ mm → ¬ mkP Γ mm := fun mm h1 h2 => by have := (hΓ mm h2).1; omega
  generalize hmx : m + (s1.c.length - (mkm (mkm st)).c.length) = mx at *
  show Z E YX32_code (d + 1 + 1) M1 [(0, vr (some (b, 37, 0))), (1, C29)] 8 [] Q
  refine sX32_code_8 M1 b _ ⟨29, rfl, ?_⟩
  refine y_puJ (L := psh 1 (skk Γ)) (mm := st.m) c2 (by omega) rfl rfl (by omega) (nΓ _ (Nat.le_refl _)) (fun p z => by rw [a0] at z; cases z) (fun M2 c3 f2 => ?_)
  have f12 := f1.tr f2
  have q2 := q1.tr (f2.agS hS)
  generalize hs2 : em e Γ (psh 1 (skk Γ)) 22 0 0 (some st.m) s1 = s2 at *
  show Z E YX32_code (d + 1 + 1) M2 [(0, vr (some (b, 37, 0))), (1, C29)] 16 [vi (nI mx)] Q
  refine sX32_code_16 M2 b 29 _ ?_
  rw [(q2 b 1 hb).2, e1]
  have sF := f12.stF (B := B) (C := CC) (ρ := ρ) hz
  refine y_ndS (h2 e fc Γ ps Dk Nk Kk Ck CC hf hG hCC hk hcx) q2 (hB.tr (sF.agB hs)) (sF.f12.trans hF) (sep_cd hs f12 hz) c3 (by omega) (by omega) (by omega) (by omega) (by omega) (T := T) (by omega) (fun M3 ρ3 A3 m3 T3 c4 s3 F3 sz n4 => ?_)
  have sz0 := id sz
  obtain ⟨n1, n1', n1'', n2, n3⟩ := sz
  have g2 := hy e Γ s2 hk
  have u0 := only_gst u0 (by omega) g2 (nΓ _ (Nat.le_refl _)) (by omega)
  have k1 := noM_gst k1 g2 (nΓ _ (Nat.le_succ _)) (by omega)
  have m3' : st.m + 2 ≤ (y e Γ s2).m := Nat.le_trans m2 g2.2.1
  have q3 : agS S M M3 := q2.tr (F3.agS (sep_cd hs f12 hz))
  have hz3 := c4.2.2.2.2.1
  show Z E YX32_code (d + 1 + 1) M3 [(0, vr (some (b, 37, 0))), (1, C29), (2, vi (nI mx))] 25 [] Q
  refine sX32_code_25 M3 b 29 _ ?_
  rw [(q3 b 2 hb).2, e2, if_pos rfl]
  refine y_goS (k0 := s1.c.length) (mm := st.m) c4 (fun z => c2len (by omega)) (by omega) (by omega) (nΓ _ (Nat.le_refl _)) u0 (fun M4 c5 f4 => ?_)
  show Z E YX32_code (d + 1 + 1) M4 [] 37 [] Q
  refine sX32_code_37 M4 ?_
  exact hQ M4 ρ3 A3 m3 T3 (xSt_hr0 c5 (fun q hq => k1 q hq) (by show st.m + 1 < (y e Γ s2).m; omega) (nΓ _ (Nat.le_succ _))) (sep_cd s3 f4 hz3) ((sF.tr F3).tr (f4.stF hz3)) (by unfold szs at *; omega) (((rm_cd (V := 0) h.2.1 f12 hz (Nat.le_refl _)).tr n4 h.lz (Nat.zero_le _) (by omega)).tr (rm_cd (V := 0) c4.2.1 f4 hz3 (Nat.le_refl _)) h.lz (Nat.le_refl _) (Nat.zero_le _))
theorem xs_IfE {De b ox oy ny hy' ky oz nz hz' kz : Nat} {p1 p2 p3 : zP} {x : gEx} {y z : gSt} (hb : S b) (e0 : gr M b 0 = some p1) (e1 : gr M b 1 = some p2) (e2 : gr M b 2 = some p3) (h1 : xE S M De p1 x) (hx : gok x) (hox : gle ox x) (h2 : xNd S B M c C D oy ny hy' ky p2 y) (hy : gokT y) (hoy : oy ≤ ny ∧ hy' ≤ ky) (h3 : xNd S B M c C D oz nz hz' kz p3 z) (hz'' : gokT z) (hoz : oz ≤ nz ∧ hz' ≤ kz) (hDe : De ≤ 350) : xNd S B M c C (D + 1) (ox + oy + oz + 2) (ox + ny + nz + 2) (hy' + hz') (ky + kz) (b, 37, 0) (gIfE x y z) := by
  intro e fc Γ ps Dk Nk Kk Ck CC hf hG hCC hk hcx
  refine ⟨rfl, (show 20 ≤ 37 ∧ 37 < 45 by decide), _, rfl, fun E d Q M' l bs ρ A u m T st ha hB hF hs h hd hu hsk hm hN hT hQ => ?_⟩
  obtain ⟨d, rfl⟩ : ∃ d', d = d' + 2 := ⟨d - 2, by omega⟩
  have hS := h1.1
  have hz := h.2.2.2.2.1
  have w0 : wfS st := h.1.2.1.2.2.2.2.2.2
  have hΓ := h.2.2.2.2.2.2.1
  have m0 : (mkm (mkm st)).m = st.m + 2 := rfl
  have l0 : (mkm (mkm st)).c.length = st.c.length := rfl
  have c1 := xSt_mkm (xSt_mkm h)
  have g1 := hx e Γ (skk Γ) (mkm (mkm st))
  have lo := hox e Γ (skk Γ) (mkm (mkm st))
  have k0 : noM (x e Γ (skk Γ) (mkm (mkm st))) st.m := noM_gst (s := mkm (mkm st)) (fun q hq => w0.no (Nat.le_refl _) q hq) g1 (fun z => z) (by omega)
  have k1 : noM (x e Γ (skk Γ) (mkm (mkm st))) (st.m + 1) := noM_gst (s := mkm (mkm st)) (fun q hq => w0.no (Nat.le_succ _) q hq) g1 (fun z => z) (by omega)
  have a0 : (x e Γ (skk Γ) (mkm (mkm st))).at st.m = none := (g1.2.2.1 _ (by omega)).trans (w0.2 _ (Nat.le_refl _))
  have a0' : (x e Γ (skk Γ) (mkm (mkm st))).at (st.m + 1) = none := (g1.2.2.1 _ (by omega)).trans (w0.2 _ (Nat.le_succ _))
  have l6 := g1.len
  have m1 : st.m + 2 ≤ (x e Γ (skk Γ) (mkm (mkm st))).m := g1.2.1
  have hs0 : gIfE x y z e Γ st = hre (st.m + 1) (z e Γ (hre st.m (em e Γ (skk Γ) 21 0 0 (some (st.m + 1)) (y e Γ (em e Γ (psh 1 (skk Γ)) 22 0 0 (some st.m) (x e Γ (skk Γ) (mkm (mkm st)))))))) := rfl
  rw [hs0] at hQ
  refine sX32_code_0 M' b _ ?_
  rw [(ha b 0 hb).2, e0]
  refine y_exS (L := skk Γ) h1 hx ha c1 (by omega) (by omega) (fun M1 c2 f1 => ?_)
  generalize hs1 : x e Γ (skk Γ) (mkm (mkm st)) = s1 at *
  have u0 := noM_only k0 e Γ (psh 1 (skk Γ)) 22 0 0
  have k1 := noM_em k1 e Γ (psh 1 (skk Γ)) 22 0 0 (mk := some st.m) (fun z => by have := Option.some.inj z; omega)
  have l1 := em_len e Γ (psh 1 (skk Γ)) 22 0 0 (some st.m) s1
  have m2 : st.m + 2 ≤ (em e Γ (psh 1 (skk Γ)) 22 0 0 (some st.m) s1).m := m1
  have q1 := ha.tr (f1.agS hS)
  have c2len : m + (s1.c.length - (mkm (mkm st)).c.length) ≤ 600 → m + (s1.c.length - (mkm (mkm st)).c.length) = s1.c.length := c2.1.2.1.2.2.1
  have nΓ : ∀ mm, st.m ≤ mm → ¬ mkP Γ mm := fun mm h1 h2 => by have := (hΓ mm h2).1; omega
  generalize hmx : m + (s1.c.length - (mkm (mkm st)).c.length) = mx at *
  show Z E YX32_code (d + 1 + 1) M1 [(0, vr (some (b, 37, 0))), (1, C29)] 8 [] Q
  refine sX32_code_8 M1 b _ ⟨29, rfl, ?_⟩
  refine y_puJ (L := psh 1 (skk Γ)) (mm := st.m) c2 (by omega) rfl rfl (by omega) (nΓ _ (Nat.le_refl _)) (fun p z => by rw [a0] at z; cases z) (fun M2 c3 f2 => ?_)
  have f12 := f1.tr f2
  have q2 := q1.tr (f2.agS hS)
  have a2 : (em e Γ (psh 1 (skk Γ)) 22 0 0 (some st.m) s1).at (st.m + 1) = none := a0'
  generalize hs2 : em e Γ (psh 1 (skk Γ)) 22 0 0 (some st.m) s1 = s2 at *
  show Z E YX32_code (d + 1 + 1) M2 [(0, vr (some (b, 37, 0))), (1, C29)] 16 [vi (nI mx)] Q
  refine sX32_code_16 M2 b 29 _ ?_
  rw [(q2 b 1 hb).2, e1]
  have sF := f12.stF (B := B) (C := CC) (ρ := ρ) hz
  refine y_ndS (h2 e fc Γ ps Dk Nk Kk Ck CC hf hG hCC hk hcx) q2 (hB.tr (sF.agB hs)) (sF.f12.trans hF) (sep_cd hs f12 hz) c3 (by omega) (by omega) (by omega) (by omega) (by omega) (T := T) (by omega) (fun M3 ρ3 A3 m3 T3 c4 s3 F3 sz n4 => ?_)
  have sz0 := id sz
  obtain ⟨n1, n1', n1'', n2, n3⟩ := sz
  have g2 := hy e Γ s2 hk
  have u0 := only_gst u0 (by omega) g2 (nΓ _ (Nat.le_refl _)) (by omega)
  have k1 := noM_gst k1 g2 (nΓ _ (Nat.le_succ _)) (by omega)
  have m3' : st.m + 2 ≤ (y e Γ s2).m := Nat.le_trans m2 g2.2.1
  have q3 : agS S M M3 := q2.tr (F3.agS (sep_cd hs f12 hz))
  have hz3 := c4.2.2.2.2.1
  have a3 : (y e Γ s2).at (st.m + 1) = none := (g2.2.2.1 _ (by omega)).trans a2
  have l2 := g2.len
  have c4len : m3 ≤ 600 → m3 = (y e Γ s2).c.length := c4.1.2.1.2.2.1
  have bm3 : m3 + 1 + oz < 10000000 ∧ m3 + 1 < 10000000 := by unfold szs at sz0; omega
  generalize hs3 : y e Γ s2 = s3' at *
  show Z E YX32_code (d + 1 + 1) M3 [(0, vr (some (b, 37, 0))), (1, C29), (2, vi (nI mx))] 25 [] Q
  refine sX32_code_25 M3 b 29 _ ?_
  rw [(q3 b 2 hb).2, e2, if_neg (fun z => by cases z)]
  have u1 := noM_only k1 e Γ (skk Γ) 21 0 0
  have u0 := only_em u0 (by omega) e Γ (skk Γ) 21 0 0 (mk := some (st.m + 1)) (fun z => by have := Option.some.inj z; omega)
  have l3 := em_len e Γ (skk Γ) 21 0 0 (some (st.m + 1)) s3'
  have m4 : st.m + 2 ≤ (em e Γ (skk Γ) 21 0 0 (some (st.m + 1)) s3').m := m3'
  refine y_puJ (L := skk Γ) (mm := st.m + 1) c4 (by omega) rfl rfl (by omega) (nΓ _ (Nat.le_succ _)) (fun p z => by rw [a3] at z; cases z) (fun M4 c5 f4 => ?_)
  generalize hs4 : em e Γ (skk Γ) 21 0 0 (some (st.m + 1)) s3' = s4 at *
  show Z E YX32_code (d + 1 + 1) M4 [(0, vr (some (b, 37, 0))), (1, C29), (2, vi (nI mx))] 46 [vi (nI m3)] Q
  refine sX32_code_46 M4 b 29 _ _ ?_
  refine y_goS (k0 := s1.c.length) (mm := st.m) c5 (fun z => c2len (by omega)) (by omega) (by omega) (nΓ _ (Nat.le_refl _)) u0 (fun M5 c6 f5 => ?_)
  have f45 := f4.tr f5
  have q5 := q3.tr (f45.agS hS)
  have sF5 := f45.stF (B := B) (C := CC) (ρ := ρ3) hz3
  show Z E YX32_code (d + 1 + 1) M5 [(0, vr (some (b, 37, 0))), (1, C29), (3, vi (nI m3))] 52 [] Q
  refine sX32_code_52 M5 b 29 _ ?_
  rw [(q5 b 2 hb).2, e2]
  refine y_ndS (h3 e fc Γ ps Dk Nk Kk Ck CC hf hG hCC hk hcx) q5 (((hB.tr (sF.agB hs)).tr (F3.agB (sep_cd hs f12 hz))).tr (sF5.agB s3)) (sF5.f12.trans (F3.f12.trans (sF.f12.trans hF))) (sep_cd s3 f45 hz3) c6 (by omega) (by omega) (by omega) (by omega) (by omega) (T := T3) (by omega) (fun M6 ρ6 A6 m6 T6 c7 s6 F6 sy i4 => ?_)
  have sy0 := id sy
  obtain ⟨i1, i1', i1'', i2, i3⟩ := sy
  have g3 := hz'' e Γ (hre st.m s4) hk
  have u1 : only (z e Γ (hre st.m s4)) (st.m + 1) s3'.c.length := only_gst (s := hre st.m s4) u1 (by show _ < s4.c.length; omega) g3 (nΓ _ (Nat.le_succ _)) (by show _ < s4.m; omega)
  have m5 : st.m + 2 ≤ (z e Γ (hre st.m s4)).m := Nat.le_trans m4 g3.2.1
  have hz6 := c7.2.2.2.2.1
  show Z E YX32_code (d + 1 + 1) M6 [(1, C29), (3, vi (nI m3))] 60 [] Q
  refine sX32_code_60 M6 29 _ ?_
  refine y_goS (k0 := s3'.c.length) (mm := st.m + 1) c7 (fun z => c4len (by omega)) (by omega) (by omega) (nΓ _ (Nat.le_succ _)) u1 (fun M7 c8 f7 => ?_)
  show Z E YX32_code (d + 1 + 1) M7 [] 65 [] Q
  refine sX32_code_65 M7 ?_
  exact hQ M7 ρ6 A6 m6 T6 c8 (sep_cd s6 f7 hz6) ((((sF.tr F3).tr sF5).tr F6).tr (f7.stF hz6)) (by unfold szs at *; omega) (((((rm_cd (V := 0) h.2.1 f12 hz (Nat.le_refl _)).tr n4 h.lz (Nat.zero_le _) (Nat.le_refl _)).tr (rm_cd (V := 0) c4.2.1 f45 hz3 (Nat.le_refl _)) h.lz (Nat.le_refl _) (Nat.zero_le _)).tr i4 h.lz (by omega) (by omega)).tr (rm_cd (V := 0) c7.2.1 f7 hz6 (Nat.le_refl _)) h.lz (Nat.le_refl _) (Nat.zero_le _))
end
