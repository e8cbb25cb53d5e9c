/-! THE COMPONENT's CODER: try -/
section
variable {M : zM} {e : gN} {w : gW} {Γ : gK} {l bs : List Nat} {ps : List (Option zP)} {ρ : Nat → Nat} {A : List Nat} {u m : Nat} {st : gS}
/-- leaving what has no list of jumps -/
theorem lv_gen {a β m0 : Nat} {p : Option zP} {M0 : zM} {A0 : List Nat} {st0 : gS} {bs0 : List Nat} {ps0 : List (Option zP)} (h : xSt M e (w :: Γ) (a :: l) (β :: bs) (p :: ps) ρ A (u + 1) m st) (h4 : w.1 ≠ 4) (ha : ρ a = 5 * u + 1) (h0 : xCh M0 A0 m0 st0 u Γ l bs0 ps0) (inj : ∀ i j a : Nat, A0[i]? = some a → A[j]? = some a → i = j) : xSt (si (sr M 29 9 (gr M a 4)) 29 11 (gi M a 0)) e Γ l bs ps ρ A u m st ∧ fr loP M (si (sr M 29 9 (gr M a 4)) 29 11 (gi M a 0)) := by
  have hA := h.A190
  obtain ⟨i, bo, l', β', bs', p', ps', e1, e2, ⟨hi, hb, hch, hl'⟩, hsh, cut, -⟩ := xSt_cut h
  have el : a = bo ∧ l = l' := by
    rcases hsh with ⟨_, z', _⟩ | ⟨z', _⟩
    · exact ⟨(List.cons.inj z').1, (List.cons.inj z').2⟩
    · exact absurd z' h4
  obtain ⟨rfl, rfl⟩ := el
  obtain rfl : bs = bs' := (List.cons.inj e1).2
  obtain rfl : ps = ps' := (List.cons.inj e2).2
  have hiu : i = u := by have := hA i a hb; omega
  subst hiu
  have g0 : gi M a 0 = nI i := by
    obtain ⟨_, _, _, _, _, g0, _⟩ := h.2.1.2.2.2 i a hb
    exact g0
  have X := cut (sr M 29 9 (gr M a 4)) (fr.sr ⟨rfl, .inl rfl⟩) (by simp only [gr_sr]; simp) h.2.2.1
  refine ⟨?_, (fr.sr (.inr ⟨rfl, .inl rfl⟩)).tr (fr.si (.inr ⟨rfl, .inr rfl⟩))⟩
  exact xSt_dn X h0 inj (fr.si ⟨rfl, .inr rfl⟩) rfl (by rw [gi_self]; exact g0) (by have := h.2.2.2.1.1; omega)
end
section
variable {S B C Ck CC : Nat → Prop} {M : zM} {c : Nat × Nat} {e : gN} {Γ : gK} {fc : Nat}
theorem y_seS {E : zE} {d : Nat} {Q : zO → zM → Prop} {M : zM} {l bs : List Nat} {ps : List (Option zP)} {ρ : Nat → Nat} {A : List Nat} {u m x : Nat} {st : gS} {L : List Bool} (h : xSt M e Γ l bs ps ρ A u m st) (hb : m + 1 < 100000000) (hx : x < 100000) (hQ : ∀ M', xSt M' e Γ l bs ps ρ A u (m + 1) (gSet x e Γ L st) → fr cdP M M' → Q (.inl none) M') : Z E YX3_set (d + 2) M [(0, C29), (1, vi (nI x))] 0 [] Q :=
  y_set (L := L) h.1 hb hx (fun M' k f => hQ M' (xSt_put h f k (gok_Set x e Γ L st) (by omega)) f)
/-- a try up to behind its body -/
theorem tryA {b Dy D' N' K' oy ny hy' ky : Nat} {p1 : zP} {y : gSt} {pl : Option zP} {fi : Option (List Bool → gS → gS)} (hb : S b) (e0 : gr M b 0 = some p1) (e1 : gi M b 2 = -1 ∧ gr M b 1 = pl ∨ gi M b 2 ≠ -1 ∧ pl = none) (hfi : pl = none ↔ fi = none) (h1 : xNd S B M c C Dy oy ny hy' ky p1 y) (hy : gokT y) (hoy : oy ≤ ny ∧ hy' ≤ ky) (hf : fnS S M e fc) (hcx : ctx c Γ)
    {E : zE} {d : Nat} {Q : zO → zM → Prop} {M1 : zM} {l bs : List Nat} {ps : List (Option zP)} {ρ : Nat → Nat} {A : List Nat} {u m T : Nat} {st : gS} (hCC : (∀ b, C b → CC b) ∧ (∀ b, Ck b → CC b) ∧ ∀ b, C b → ¬ Ck b) (hG : Good S B M e fc Ck N' K' D' (trW st.c.length st.m fi :: Γ) (pl :: ps)) (hk : kgo (trW st.c.length st.m fi :: Γ)) (ha : agS S M M1) (hB : agB B M M1) (hF : gr M1 29 12 = some (fc, 10, 0)) (hs : sep S B M1 ρ) (h : xSt M1 e Γ l bs ps ρ A u m st) (h6 : m ≤ 600) (hd : Dy + D' + 351 ≤ d + 1) (hu : u + 1 + (Dy + D') ≤ 60000) (hsk : (skk Γ).length + (Dy + D') ≤ 2000) (hN : N' + ny < 9000000) (hT : T ≤ m)
    (hQ : ∀ (M' : zM) (ρ' : Nat → Nat) (A' : List Nat) (m' T' : Nat), xSt M' e Γ l bs ps ρ' A' u m' (em e (trW st.c.length st.m fi :: Γ) (skk Γ) 28 0 0 none (y e (trW st.c.length st.m fi :: Γ) (em e Γ (skk Γ) 27 0 0 (some st.m) (mkm (mkm st))))) → sep S B M' ρ' → stF B CC M1 M' ρ ρ' → (m + 1 ≤ m' ∧ T ≤ T' ∧ T' ≤ m' ∧ m' ≤ 602 + N' + ny ∧ T' ≤ 600 + K' + ky) → rm CC u l M1 ρ A T M' ρ' A' T' (u + 1 + (Dy + D')) → Z E YX38_code (d + 1) M' [(0, vr (some (b, 43, 0))), (1, C29), (2, vi (nI m))] 73 [] Q) :
    Z E YX38_code (d + 1) M1 [(0, vr (some (b, 43, 0))), (1, C29)] 0 [] Q := by
  obtain ⟨d, rfl⟩ : ∃ d', d = d' + 7 := ⟨d - 7, by omega⟩
  have hz := h.2.2.2.2.1
  have w0 : wfS st := h.1.2.1.2.2.2.2.2.2
  have nΓ : ∀ mm, st.m ≤ mm → ¬ mkP Γ mm := fun mm h1 h2 => by have := (h.2.2.2.2.2.2.1 mm h2).1; omega
  have c1 := xSt_mkm (xSt_mkm h)
  have hlen : m = st.c.length := h.1.2.1.2.2.1 h6
  have skw : skk (trW st.c.length st.m fi :: Γ) = skk Γ := rfl
  refine sX38_code_0 M1 b _ ⟨29, rfl, ?_⟩
  rw [h.1.2.1.1, if_pos (show nI m ≤ (600 : Int32) from nI_le (b := 600) h6 (by decide))]
  refine y_puJ (L := skk Γ) (mm := st.m) c1 (by omega) rfl rfl (show st.m < st.m + 2 by omega) (nΓ _ (Nat.le_refl _)) (fun p z => by rw [show (mkm (mkm st)).at st.m = none from w0.2 _ (Nat.le_refl _)] at z; cases z) (fun M2 X2 f2 => ?_)
  generalize hs1 : em e Γ (skk Γ) 27 0 0 (some st.m) (mkm (mkm st)) = s1 at *
  have F2 := f2.stF (B := B) (C := CC) (ρ := ρ) hz
  have s2 := sep_cd hs f2 hz
  have a2 := ha.tr (F2.agS hs)
  have B2 := hB.tr (F2.agB hs)
  have F12 := F2.f12.trans hF
  have hz2 := X2.2.2.2.2.1
  have hA2 := X2.A190
  have R2 : rm CC u l M1 ρ A T M2 ρ A T 0 := rm_cd h.2.1 f2 hz (Nat.le_refl _)
  show Z E YX38_code (d + 7 + 1) M2 [(0, vr (some (b, 43, 0))), (1, C29)] 19 [vi (nI m)] Q
  refine sX38_code_19 M2 b 29 _ ?_
  refine y_enter (d := d) X2.1.1 X2.2.1 X2.2.2.1 X2.2.2.2.1.1 (by have := X2.2.2.2.1.2; omega) hz2 (fun M3 ρ3 A3 a he => ?_)
  have eF := en_stF (C := CC) he s2 hz2 X2.2.1
  have eR := en_rm (C := CC) (l := l) (m := T) he X2.2.1 (by omega)
  have pA := he.2.1
  obtain ⟨ba, ra⟩ : (190 ≤ a ∧ a < zsz M3) ∧ ρ3 a = 5 * u + 1 := by
    obtain ⟨_, _, _, _, ⟨t1, -⟩, -⟩ := he.1.2.2.2 u a pA
    exact ⟨he.1.1 a (by omega), t1⟩
  have a3 := a2.tr (eF.1.agS s2)
  have B3 := B2.tr (eF.1.agB s2)
  have S3 := eF.2
  show Z E YX38_code (d + 7 + 1) M3 [(0, vr (some (b, 43, 0))), (1, C29), (2, vi (nI m))] 25 [vr (some (a, 17, 0))] Q
  have hSb := hs.1 b (.inl hb)
  have nba : b ≠ a := fun z => by have := (S3.1 b (.inl hb)).2.2.1; rw [z] at this; omega
  refine iX38_code_25 M3 b 29 _ _ ⟨a, rfl, by omega, ?_⟩
  rw [show gi (si M3 a 7 (nI m)) b 2 = gi M b 2 from (gi_oth nba).trans (a3 b 2 hb).1]
  -- the body
  have body : ∀ M4 : zM, M4 = sr (si M3 a 7 (nI m)) a 6 pl → ∃ b1 t1 : Nat, gr M4 b 0 = some (b1, t1, 0) ∧ (∃ Y_ : zY, vt_code t1 = some Y_ ∧ Z E Y_ (d + 7) M4 (zargs 0 [vr (some (b1, t1, 0)), C29]) 0 [] (zafter E YX38_code (d + 7 + 1) [(0, vr (some (b, 43, 0))), (1, C29), (2, vi (nI m)), (3, vr (some (a, 17, 0)))] 56 3 [] Q)) := by
    intro M4 hM4
    have f4 : fr (fun x k => x = a ∧ (k = 6 ∨ k = 7)) M3 M4 := by rw [hM4]; exact (fr.si ⟨rfl, .inr rfl⟩).tr (fr.sr ⟨rfl, .inl rfl⟩)
    have f46 : fr (fun x k => x = a ∧ 6 ≤ k) M3 M4 := f4.mono fun x k z => ⟨z.1, by omega⟩
    have f43 : fr (fun x k => x = a ∧ 3 ≤ k) M3 M4 := f4.mono fun x k z => ⟨z.1, by omega⟩
    have v7 : gi M4 a 7 = nI m := by rw [hM4]; simp only [gi_sr]; rw [gi_self]
    have v6 : gr M4 a 6 = pl := by rw [hM4]; simp only [gr_sr]; simp
    obtain ⟨F4, s4'⟩ := stF_fld (S := S) (B := B) (C := CC) (ρ := ρ3) f43 (by omega) ba.1
    have s4 := s4' S3
    have a4 := a3.tr (F4.agS S3)
    have B4 := B3.tr (F4.agB S3)
    obtain ⟨b1, b2, b3, b4, b5, b6, b7, b8, b9, j1, j2, d1, d2, d3, d4⟩ := en_co (w := trW st.c.length st.m fi) X2 he f46 rfl (show ¬ (2 : Nat) = 4 by decide) (fun z => absurd z (show ¬ (2 : Nat) = 3 by decide)) (fun _ => v7.trans (by rw [hlen]; rfl)) ⟨(show (2 : Nat) ≤ 4 by decide), fun z => absurd z (show ¬ (2 : Nat) = 4 by decide), fun _ => rfl, (show (0 : Nat) < 100000 by decide), (show st.c.length < 32768 by omega)⟩ (by rw [skw]; exact X2.1.2.2.2.1.2) hf a2 F12 s2 (by omega)
    have X4 : xSt M4 e (trW st.c.length st.m fi :: Γ) (a :: l) (0 :: bs) (pl :: ps) ρ3 A3 (u + 1) (m + 1) s1 := by
      refine ⟨b1, b2, b3, b4, b5, ⟨u, a, l, 0, bs, pl, ps, rfl, rfl, Nat.lt_succ_self u, b7.1, ?_, b6⟩, fun mm hmm => (mkP_cons hmm).elim (fun z => (wmk_tr z).elim) (X2.2.2.2.2.2.2.1 mm), ⟨fun mm z => (wmk_tr z).elim, fun z => absurd z (show ¬ ((2 : Nat) = 0 ∨ (2 : Nat) = 4) by decide)⟩, X2.2.2.2.2.2.2.2⟩
      rw [if_neg (show ¬ (trW st.c.length st.m fi).1 = 4 from (show ¬ (2 : Nat) = 4 by decide))]
      exact ⟨rfl, b8, fun z => absurd rfl z, fun _ => ⟨v6, hfi⟩, fun z => absurd z (show ¬ (2 : Nat) = 0 by decide), fun z => absurd z (show ¬ (2 : Nat) = 1 by decide)⟩
    rw [(a4 b 0 hb).2, e0]
    refine y_ndS (h1 e fc (trW st.c.length st.m fi :: Γ) (pl :: ps) D' N' K' Ck CC hf hG hCC hk (ctx_tl hcx)) a4 B4 (F4.f12.trans (eF.1.f12.trans F12)) s4 X4 (by omega) (by omega) (by rw [skw]; omega) (by omega) (by omega) (T := T) (by omega) (fun M5 ρ5 A5 m5 T5 X5 s5 F5 sz r5 => ?_)
    have hz4 := X4.2.2.2.2.1
    have hz5 := X5.2.2.2.2.1
    show Z E YX38_code (d + 7 + 1) M5 [(0, vr (some (b, 43, 0))), (1, C29), (2, vi (nI m)), (3, vr (some (a, 17, 0)))] 59 [] Q
    refine sX38_code_59 M5 b 29 _ a ?_
    refine y_puS (L := skk Γ) X5 (by unfold szs at sz; omega) rfl rfl (fun M6 X6 f6 => ?_)
    show Z E YX38_code (d + 7 + 1) M6 [(0, vr (some (b, 43, 0))), (1, C29), (2, vi (nI m)), (3, vr (some (a, 17, 0)))] 67 [vi (nI m5)] Q
    refine sX38_code_67 M6 b 29 _ a _ ?_
    refine sX3_leave_0 M6 _ X6.1.1 ⟨a, rfl, ?_⟩
    have ra5 : ρ5 a = 5 * u + 1 := (F5.1.2.2 a (by have := f4.1.1; omega)).trans ra
    have hA6 := X6.A190
    have inj : ∀ i j x : Nat, A[i]? = some x → A5[j]? = some x → i = j := fun i j x z1 z2 => by
      have t1 := hA2 i x z1
      have t2 := hA6 j x z2
      have t3 := eF.1.1.2.2 x t1.2.1
      have t4 := F5.1.2.2 x (by have := f4.1.1; have := eF.1.1.1; omega)
      omega
    obtain ⟨X7, f7⟩ := lv_gen X6 (show ¬ (2 : Nat) = 4 by decide) ra5 X2.2.2.2.2.2.1 inj
    have hz6 := X6.2.2.2.2.1
    show Z E YX38_code (d + 7 + 1) (si (sr M6 29 9 (gr M6 a 4)) 29 11 (gi M6 a 0)) [(0, vr (some (b, 43, 0))), (1, C29), (2, vi (nI m))] 73 [] Q
    have zl3 : ∀ b ∈ l, b < zsz M3 := fun b hb => Nat.lt_of_lt_of_le (X2.lz b hb) eF.1.1.1
    have zl4 : ∀ b ∈ l, b < zsz M4 := fun b hb => by rw [f4.1.1]; exact zl3 b hb
    have R4 : rm CC u l M3 ρ3 A3 T M4 ρ3 A3 T 0 := rm_fld he.1 f43 ra (.inl (Nat.le_refl _)) (by omega)
    refine hQ _ ρ5 A5 (m5 + 1) T5 X7 (sep_lo (sep_cd s5 f6 hz5) f7 hz6) ((((((F2.tr eF.1).tr F4).tr F5).tr (f6.stF hz5)).tr (stL_of f7 hz6))) (by unfold szs at sz; omega) ?_
    exact ((((((R2.tr eR h.lz (V'' := u + 1) (Nat.zero_le _) (Nat.le_refl _)).tr R4 h.lz (V'' := u + 1) (Nat.le_refl _) (Nat.zero_le _)).tr (r5.dn ra) h.lz (V'' := u + 1 + (Dy + D')) (by omega) (by omega)).tr (rm_cd (V := 0) X5.2.1 f6 hz5 (Nat.le_refl _)) h.lz (Nat.le_refl _) (Nat.zero_le _)).tr (rm_lo (V := 0) X6.2.1 f7 hz6 (Nat.le_refl _)) h.lz (Nat.le_refl _) (Nat.zero_le _)))
  rcases e1 with ⟨z1, z2⟩ | ⟨z1, z2⟩
  · rw [if_pos z1]
    exact body _ (by rw [← z2, (a3 b 1 hb).2])
  · rw [if_neg z1]
    exact body _ (by rw [z2])
end
