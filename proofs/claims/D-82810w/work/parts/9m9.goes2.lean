/-! THE COMPONENT's CODER: break and continue, the walk out -/
theorem rm.up {C : Nat → Prop} {u : Nat} {l l' : List Nat} {M M' : zM} {ρ ρ' : Nat → Nat} {A A' : List Nat} {m m' V : Nat} (h : rm C u l' M ρ A m M' ρ' A' m' V) (hl : ∀ b ∈ l', b ∈ l) : rm C u l M ρ A m M' ρ' A' m' V := ⟨h.1, h.2.1, fun x hx hr hn k => h.2.2.1 x hx hr (fun z => hn (z.imp id fun ⟨b, h1, h2⟩ => ⟨b, hl b h1, h2⟩)) k, h.2.2.2⟩
theorem xLp_ctx {M M' : zM} {e : gN} {w w' : gW} {Γ : gK} {la la' : List Nat} {own : Option zP} {v a : Nat} {l bs : List Nat} {ps : List (Option zP)} {ρ : Nat → Nat} {A : List Nat} {u m : Nat} {st : gS} {j1 j2 : Nat} {k1 k2 : List Nat} (h : xLp M e w Γ la own v a l bs ps ρ A u m st j1 j2 k1 k2) (f : fr p9 M M') (h11 : gi M' 29 11 = nI v) (har : xAr M' (gr M' 29 9) (w' :: Γ) la') (kok : kOK (w' :: Γ)) (hP : ∀ mm, mkP (w :: Γ) mm → mkP (w' :: Γ) mm) : xLp M' e w' Γ la' own v a l bs ps ρ A u m st j1 j2 k1 k2 := by
  have ha := h.a190
  obtain ⟨⟨c1, c2, c3, c4, fc, u', y1, y2, y3⟩, h2, h3, h4, h5, h6, h7, h8, ⟨d1, d2, d3, d4⟩, ⟨x1, x2⟩, h9⟩ := h
  have g' := f.p9g
  have hA : ∀ (i a : Nat), A[i]? = some a → 190 ≤ a := fun i a ha => by
    obtain ⟨j1, j2, k1, k2, ⟨s1, -⟩, -⟩ := h2.2.2.2 i a ha
    exact (h2.1 a (by omega)).1
  have nP : ∀ x k, 190 ≤ x → ¬ p9 x k := fun x k hx => by unfold p9; omega
  have ga := fun k => g' a k ha.1
  exact ⟨⟨f.cw p9_cw c1, xCd_ag c2 (fun x k hx => (f.2 x k (by unfold cdP at hx; unfold p9; omega)).1) hP, har, kok, fc, u', y1, (f.2 29 12 (by unfold p9; omega)).2.2.trans y2, xFn_fr g' u' fc _ _ y3⟩, xOw_lo h2 (f.mono fun x k z => .inr z) h5, h11, h4, by rw [f.1.1]; exact h5, xCh_up (P := fun _ => False) g' (Nat.le_of_eq f.1.1.symm) hA (fun _ _ _ _ z => z) (Nat.le_refl _) Γ u l bs ps (fun mm z => ⟨fun y => y, (h7.1 mm z).1⟩) h6, h7, h8, ⟨(ga 5).2.trans d1, (ga 6).2.trans d2, (ga 1).2.trans d3, (ga 2).2.trans d4⟩, ⟨xJp_fg x1 f.fg (nP _ _ x1.2.1.1) (nP _ _ x1.2.1.1) (fun i => nP _ _ x1.2.2.1.1), xJp_fg x2 f.fg (nP _ _ x2.2.1.1) (nP _ _ x2.2.1.1) (fun i => nP _ _ x2.2.2.1.1)⟩, by rw [(ga 4).2]; exact xAr_fr g' Γ _ _ h9⟩
section
variable {S B CC : Nat → Prop} {M0 : zM} {e : gN} {fc Nk Kk u : Nat} {E : zE} {d : Nat} {Q : zO → zM → Prop} {r2 : Option zP} {out : Bool}
/-- values that lie on the stack are dropped -/
theorem y_dropW {w : gW} {Γ : gK} {l bs : List Nat} {ps : List (Option zP)} {ρ : Nat → Nat} {A : List Nat} {g b n : Nat} {LL : List Bool} {M : zM} (h9 : ∀ M1, fr cdP M M1 → gi M1 b 3 = 3 ∧ gi M1 b 8 = nI n) (hn : n < 100000) : ∀ (X : List Bool) (j m : Nat) (M1 : zM) (s : gS), X.length + j = n → xSt M1 e (w :: Γ) l bs ps ρ A u m s → fr cdP M M1 → m + X.length < 10000000 → (∀ (M2 : zM), xSt M2 e (w :: Γ) l bs ps ρ A u (m + X.length) (gDrops e (w :: Γ) X LL s) → fr cdP M M2 → Z E YX3_goOut (d + 1 + 1) M2 [(0, C29), (1, vi (gB out)), (2, vr r2), (3, vr (some (g, 17, 0))), (4, vr (some (b, 17, 0)))] 121 [] Q) → Z E YX3_goOut (d + 1 + 1) M1 [(0, C29), (1, vi (gB out)), (2, vr r2), (3, vr (some (g, 17, 0))), (4, vr (some (b, 17, 0))), (5, vi (nI j))] 69 [] Q
  | [], j, m, M1, s, hj, h, f, _, hQ => by
    have h0 := h9 M1 f
    refine iX3_goOut_69 M1 _ _ g _ _ h.1.1 ⟨b, rfl, ?_⟩
    have hj : 0 + j = n := hj
    rw [h0.1, if_pos rfl, h0.2, if_pos (nI_le (by omega) (by omega)), if_neg (by decide)]
    exact hQ M1 h f
  | x :: X, j, m, M1, s, hj, h, f, hm, hQ => by
    have h0 := h9 M1 f
    have hj : X.length + 1 + j = n := hj
    have hm : m + (X.length + 1) < 10000000 := hm
    refine iX3_goOut_69 M1 _ _ g _ _ h.1.1 ⟨b, rfl, ?_⟩
    rw [h0.1, if_pos rfl, h0.2, if_neg (nI_ge (by omega) (by omega))]
    refine y_puS (L := x :: X ++ LL) h (by omega) rfl rfl (fun M2 h2 f2 => ?_)
    show Z E YX3_goOut (d + 1 + 1) M2 [(0, C29), (1, vi (gB out)), (2, vr r2), (3, vr (some (g, 17, 0))), (4, vr (some (b, 17, 0))), (5, vi (nI j))] 96 [vi (nI m)] Q
    refine sX3_goOut_96 M2 _ _ g b _ _ h2.1.1 ?_
    rw [nI_l1]
    exact y_dropW h9 hn X (j + 1) (m + 1) M2 _ (by omega) h2 (f.tr f2) (by omega) (fun M3 h3 f3 => hQ M3 (by rw [show m + (x :: X).length = m + 1 + X.length by simp; omega]; exact h3) f3)
theorem y_goW (hf : fnS S M0 e fc) (hS : ∀ a, S a → 190 ≤ a) : ∀ (Γ : gK) (ps : List (Option zP)) (Dk : Nat) (M : zM) (l bs : List Nat) (ρ : Nat → Nat) (A : List Nat) (m T : Nat) (st : gS) (g : Nat), Good S B M0 e fc CC Nk Kk Dk Γ ps → kgo Γ → agS S M0 M → agB B M0 M → gr M 29 12 = some (fc, 10, 0) → sep S B M ρ → xSt M e Γ l bs ps ρ A u m st → tgO out Γ l g → Dk + 350 ≤ d + 1 → u + Dk ≤ 60000 → (skk Γ).length + Dk ≤ 2000 → m + ((skk Γ).length + Γ.length + 1) < 10000000 → Nk + ((skk Γ).length + Γ.length + 1) < 9000000 → T ≤ m →
    (∀ (M' : zM) (ρ' : Nat → Nat) (A' : List Nat) (m' T' : Nat), xSt (sr M' 29 9 (gr M 29 9)) e Γ l bs ps ρ' A' u m' (gGo out e Γ st) → sep S B (sr M' 29 9 (gr M 29 9)) ρ' → stF B CC M (sr M' 29 9 (gr M 29 9)) ρ ρ' → szs m T ((skk Γ).length + Γ.length + 1) (Nk + ((skk Γ).length + Γ.length + 1)) 1 (Kk + 1) m' T' → rm CC u l M ρ A T (sr M' 29 9 (gr M 29 9)) ρ' A' T' (u + Dk) → cw M' → Z E YX3_goOut (d + 1 + 1) M' [(0, C29), (2, vr r2)] 186 [] Q) →
    Z E YX3_goOut (d + 1 + 1) M [(0, C29), (1, vi (gB out)), (2, vr r2), (3, vr (some (g, 17, 0)))] 37 [] Q := by
  intro Γ
  induction Γ with
  | nil => intro _ _ _ _ _ _ _ _ _ _ _ _ _ _ _ _ _ _ hT; exact hT.elim
  | cons w Γ ih =>
    intro ps Dk M l bs ρ A m T st g hG hk ha hB hF hs h hg hd hu hsk hm hN hT hQ
    have hA := h.A190
    have hz := h.2.2.2.2.1
    have hlz := h.lz
    have hwk := h.1.2.2.2.1.1 w List.mem_cons_self
    have hmk := h.2.2.2.2.2.2.1
    have hmD := h.2.2.2.2.2.2.2
    obtain ⟨gG1, gG2, gG3⟩ := hG
    obtain ⟨i, bo, l', β, bs', p, ps', e1, e2, ⟨hi, hb, hch, hl'⟩, hsh, -, -⟩ := xSt_cut h
    have bb := hA i bo hb
    have esk : (skk (w :: Γ)).length = w.2.1.length + (skk Γ).length := by show (w.2.1 ++ skk Γ).length = _; rw [List.length_append]
    have eln : (w :: Γ).length = Γ.length + 1 := rfl
    rw [esk, eln] at hm hN
    rw [esk] at hsk
    have kΓ : kgo Γ := hk.1
    have epl : ps.tail = ps' := by rw [e2]; rfl
    have eph : ps.head? = some p := by rw [e2]; rfl
    rw [epl] at gG2 gG3
    rw [eph] at gG3
    -- from behind what was put within w on
    have fin : ∀ (M1 : zM) (m1 : Nat) (s1 : gS), w.1 ≠ 4 → tgO out Γ l' g → xSt M1 e (w :: Γ) l bs ps ρ A u m1 s1 → fr cdP M M1 → m ≤ m1 → m1 ≤ m + (if w.1 = 2 then 1 else w.2.1.length) → gGo out e (w :: Γ) st = gGo out e Γ (if w.1 = 2 then gFi w.2.2.2.2.2 [] s1 else s1) → Z E YX3_goOut (d + 1 + 1) M1 [(0, C29), (1, vi (gB out)), (2, vr r2), (3, vr (some (g, 17, 0))), (4, vr (some (bo, 17, 0)))] 121 [] Q := by
      intro M1 m1 s1 h4 hgt h1 f1 q1 q2 hgo
      have F1 := f1.stF (B := B) (C := CC) (ρ := ρ) hz
      have s1' := sep_cd hs f1 hz
      obtain ⟨i', bo', l'', β', bs'', p', ps'', e1', e2', ⟨hi', hb', hch', hl''⟩, hsh', cut, back⟩ := xSt_cut h1
      have el : bo' = bo ∧ l'' = l' := by
        rcases hsh with ⟨_, z, _⟩ | ⟨z, _⟩
        · rcases hsh' with ⟨_, z', _⟩ | ⟨z', _⟩
          · rw [z] at z'; exact ⟨(List.cons.inj z').1.symm, (List.cons.inj z').2.symm⟩
          · exact absurd z' h4
        · exact absurd z h4
      obtain ⟨rfl, rfl⟩ := el
      have eb' : bs' = bs'' ∧ p = p' ∧ ps' = ps'' := by
        rw [e1] at e1'; rw [e2] at e2'
        exact ⟨(List.cons.inj e1').2, (List.cons.inj e2').1, (List.cons.inj e2').2⟩
      obtain ⟨rfl, rfl, rfl⟩ := eb'
      have hz1 := h1.2.2.2.2.1
      have fM : fr p9 M1 (sr M1 29 9 (gr M1 bo' 4)) := fr.sr ⟨rfl, .inl rfl⟩
      have fL : fr loP M1 (sr M1 29 9 (gr M1 bo' 4)) := fM.mono fun _ _ z => .inr z
      have r9 : gr (sr M1 29 9 (gr M1 bo' 4)) 29 9 = gr M1 bo' 4 := by simp only [gr_sr]; simp
      have X2 := cut _ fM r9 h1.2.2.1
      have o6 : gr (sr M1 29 9 (gr M1 bo' 4)) bo' 6 = gr M1 bo' 6 := (fM.2 bo' 6 (by unfold p9; omega)).2.2
      have cw2 : cw (sr M1 29 9 (gr M1 bo' 4)) := X2.1.1
      refine sX3_goOut_121 M1 _ _ g bo' h1.1.1 ?_
      rw [o6]
      have F2 := stL_of fL (B := B) (C := CC) (ρ := ρ) hz1
      have s2 := sep_lo s1' fL hz1
      have R2 : rm CC u l'' M1 ρ A T (sr M1 29 9 (gr M1 bo' 4)) ρ A T 0 := rm_lo h1.2.1 fL hz1 (Nat.le_refl _)
      have a2 := (ha.tr (F1.agS hs)).tr (F2.agS s1')
      have B2 := (hB.tr (F1.agB hs)).tr (F2.agB s1')
      have F12 := F2.f12.trans (F1.f12.trans hF)
      have n7 : gi M1 29 7 = nI m1 := h1.1.2.1.1
      have hm1 : m1 < 10000000 := by split at q2 <;> omega
      generalize hM2 : sr M1 29 9 (gr M1 bo' 4) = M2 at *
      have hz2 := X2.2.2.2.2.1
      -- the rest of the walk
      have go3 : ∀ (M3 : zM) (ρ3 : Nat → Nat) (A3 : List Nat) (m3 T3 : Nat) (s3 : gS), xSt M3 e Γ l'' bs' ps' ρ3 A3 u m3 s3 → sep S B M3 ρ3 → stF B CC M2 M3 ρ ρ3 → rm CC u l'' M2 ρ A T M3 ρ3 A3 T3 (u + (Dk - 1)) → gst (mkP Γ) s1 s3 → gr M3 29 9 = gr M1 bo' 4 → (m1 ≤ m3 ∧ T ≤ T3 ∧ T3 ≤ m3 ∧ (600 < m1 → m3 = m1 ∧ T3 = T) ∧ (m1 ≤ 600 → m3 ≤ 600 + Nk ∧ T3 ≤ 600 + Kk)) → gGo out e (w :: Γ) st = gGo out e Γ s3 → Z E YX3_goOut (d + 1 + 1) M3 [(0, C29), (1, vi (gB out)), (2, vr r2), (3, vr (some (g, 17, 0)))] 37 [] Q := by
        intro M3 ρ3 A3 m3 T3 s3 X3 s3' F3 r3 g3 h93 sz hgo3
        refine ih ps' (Dk - 1) M3 l'' bs' ρ3 A3 m3 T3 s3 g gG2 kΓ (a2.tr (F3.agS s2)) (B2.tr (F3.agB s2)) (F3.f12.trans F12) s3' X3 hgt (by omega) (by omega) (by omega) (by split at q2 <;> omega) (by omega) sz.2.2.1 (fun M' ρ' A' m' T' X se F sz' r c => ?_)
        rw [← hgo3] at X
        have fN : fr p9 (sr M' 29 9 (gr M3 29 9)) (sr M' 29 9 (gr M 29 9)) := fr_sr9
        have fNl : fr loP (sr M' 29 9 (gr M3 29 9)) (sr M' 29 9 (gr M 29 9)) := fN.mono fun _ _ z => .inr z
        have hzN := X.2.2.2.2.1
        have rr : rm CC u l'' M1 ρ A T (sr M' 29 9 (gr M3 29 9)) ρ' A' T' (u + Dk) := (R2.tr r3 (fun b hb => by rw [f1.1.1]; exact hlz b (hl'' b hb)) (V'' := u + Dk) (Nat.zero_le _) (by omega)).tr r (fun b hb => by rw [f1.1.1]; exact hlz b (hl'' b hb)) (Nat.le_refl _) (by omega)
        have gg : gst (mkP Γ) s1 (gGo out e (w :: Γ) st) := by rw [hgo3]; exact g3.tr (gst_Go out e Γ s3 kΓ)
        have X' := back CC _ (sr M' 29 9 (gr M 29 9)) ρ' A' u m' T T' (u + Dk) _ X rr gg (by unfold szs at sz'; omega) fN (by rw [← h93]; simp only [gr_sr]; simp) (by rw [show gr M1 29 9 = gr M 29 9 from (f1.2 29 9 (by unfold cdP; omega)).2.2]; simp only [gr_sr]; simp) (X.2.2.1)
        refine hQ M' ρ' A' m' T' X' (sep_lo se fNl hzN) ((((F1.tr F2).tr F3).tr F).tr (stL_of fNl hzN)) (by rw [esk, eln]; unfold szs at sz' ⊢; split at q2 <;> omega) ?_ c
        exact ((rm_cd (V := 0) h.2.1 f1 hz (Nat.le_refl _)).tr ((rr.up hl'').tr (rm_lo (V := 0) X.2.1 fNl hzN (Nat.le_refl _)) (fun b hb => by rw [f1.1.1]; exact hlz b hb) (Nat.le_refl _) (Nat.zero_le _)) hlz (Nat.zero_le _) (Nat.le_refl _))
      have go157 : ∀ s3, gst (mkP Γ) s1 s3 → xSt M2 e Γ l'' bs' ps' ρ A u m1 s3 → gGo out e (w :: Γ) st = gGo out e Γ s3 → Z E YX3_goOut (d + 1 + 1) M2 [(0, C29), (1, vi (gB out)), (2, vr r2), (3, vr (some (g, 17, 0)))] 157 [] Q := fun s3 g3 X hgo3 =>
        sX3_goOut_157 M2 _ _ g cw2 (go3 M2 ρ A m1 T s3 X s2 stF.rf rm.rf g3 r9 ⟨Nat.le_refl _, Nat.le_refl _, by omega, fun _ => ⟨rfl, rfl⟩, fun _ => by omega⟩ hgo3)
      by_cases h2 : w.1 = 2
      · rw [if_pos h2] at hgo
        obtain ⟨l6, l6'⟩ : gr M1 bo' 6 = p ∧ (p = none ↔ w.2.2.2.2.2 = none) := by
          rcases hsh' with ⟨_, _, _, _, z, _⟩ | ⟨z, _⟩
          · exact z h2
          · exact absurd z h4
        rw [l6]
        cases hp : p with
        | none =>
          rw [if_pos rfl]
          rw [l6'.mp hp] at hgo
          exact go157 s1 (gst.rf _) X2 hgo
        | some q =>
          rw [if_neg (fun z => by cases z), n7]
          obtain ⟨φ, hφ⟩ : ∃ φ, w.2.2.2.2.2 = some φ := by
            cases hx : w.2.2.2.2.2 with
            | none => rw [l6'.mpr hx] at hp; cases hp
            | some φ => exact ⟨φ, rfl⟩
          have gF : gst (mkP Γ) s1 (gFi w.2.2.2.2.2 [] s1) := gst_fin hk (fun _ z => z) [] s1
          rw [hφ] at hgo gF
          by_cases h6 : 600 < m1
          · rw [if_pos (show (600 : Int32) < nI m1 from nI_lt (a := 600) h6 (by omega))]
            exact go157 _ gF (xSt_ov X2 h6 gF) hgo
          · rw [if_neg (show ¬ (600 : Int32) < nI m1 from nI_nlt (a := 600) (b := m1) (by omega) (by decide))]
            obtain ⟨q', y1, y2⟩ := gG3 φ hφ
            have eq' : q' = q := by rw [hp] at y1; exact (Option.some.inj (Option.some.inj y1)).symm
            subst eq'
            have W := y2 []
            rw [if_pos rfl, show vaK [] Γ = Γ from if_pos rfl] at W
            have X2' : xSt M2 e Γ l'' bs' ps' ρ A u m1 (s1.1, s1.2.1, s1.2.2.1, s1.2.2.2.1, s1.lev + 1, max s1.mx (s1.lev + 1)) := xSt_lev X2 rfl rfl rfl rfl
            refine y_ndS W a2 B2 F12 s2 X2' (by omega) (by omega) (by omega) (by omega) (by omega) (T := T) (by omega) (fun M3 ρ3 A3 m3 T3 X3 s3 F3 sz r3 => ?_)
            show Z E YX3_goOut (d + 1 + 1) M3 [(0, C29), (1, vi (gB out)), (2, vr r2), (3, vr (some (g, 17, 0)))] 157 [] Q
            refine sX3_goOut_157 M3 _ _ g X3.1.1 ?_
            have h93 : gr M3 29 9 = gr M1 bo' 4 := by
              have a1 := X3.1.2.2.1
              have a3 := X2.1.2.2.1
              rw [← r9]
              cases hΓ : Γ with
              | nil => rw [hΓ] at a1 a3; rw [a1.1, a3.1]
              | cons w' Γ' =>
                rw [hΓ] at a1 a3
                cases hl2 : l'' with
                | nil => rw [hl2] at a1; exact a1.elim
                | cons b2 l2 => rw [hl2] at a1 a3; rw [a1.1, a3.1]
            exact go3 M3 ρ3 A3 m3 T3 (gFi (some φ) [] s1) (xSt_lev X3 rfl rfl rfl rfl) s3 F3 r3 gF h93 (by unfold szs at sz; omega) hgo
      · rw [if_neg h2] at hgo
        have l6 : gr M1 bo' 6 = none := by
          rcases hsh' with ⟨_, _, _, z, _⟩ | ⟨z, _⟩
          · exact z h2
          · exact absurd z h4
        rw [l6, if_pos rfl]
        exact go157 s1 (gst.rf _) X2 hgo
    rcases hg with ⟨z4, b2, l2, z⟩ | ⟨z4, zt, l2, z⟩ | ⟨z4, zt, b2, l2, z, zg⟩
    · -- an each
      have hw4 : w.1 = 0 ∨ w.1 = 1 ∨ w.1 = 4 := .inr (.inr z4)
      obtain ⟨ii, aa, ll, ββ, bs1, pp, ps1, own, j1, j2, k1, k2, t1, t2, t3, LP, t4, t5⟩ := St_lpG h hw4
      rcases t3 with ⟨y, _⟩ | ⟨_, b2', y1, y2, y3, y5, y6⟩
      · exact absurd z4 y
      rcases hsh with ⟨y, _⟩ | ⟨_, b2'', zl, z9, zi, v1, v2, v3, v5, v6, v7, v8, v10⟩
      · exact absurd z4 y
      have eg : b2 = b2' ∧ g = aa := by rw [z] at y1; exact ⟨(List.cons.inj y1).1, (List.cons.inj (List.cons.inj y1).2).1⟩
      have eg' : b2 = b2'' ∧ g = bo ∧ l2 = l' := by rw [z] at zl; exact ⟨(List.cons.inj zl).1, (List.cons.inj (List.cons.inj zl).2).1, (List.cons.inj (List.cons.inj zl).2).2⟩
      obtain ⟨rfl, rfl⟩ := eg
      obtain ⟨rfl, rfl, rfl⟩ := eg'
      have ell : ll = l2 := by rw [z] at y1; exact (List.cons.inj (List.cons.inj y1).2).2.symm
      subst ell
      have b2a := hA _ b2 zi.2
      have ba := hA i g hb
      have eii : ii = i := by have := LP.a190; have := hA ii g LP.2.2.2.2.2.2.2.1.1; omega
      subst eii
      obtain ⟨-, -, L3, L4, -, -, -, -, ⟨D1, D2, D3, D4⟩, -, LAr⟩ := id LP
      have hne : b2 ≠ g := fun y => by rw [y] at b2a; omega
      have ew : w.2.1 = [true] := hwk.2.1 z4
      have hla : ∀ b ∈ b2 :: g :: ll, ∃ x, ρ b = 5 * x + 1 := fun b hb' => by
        rw [← z] at hb'
        obtain ⟨x, _, q⟩ := xCh_mem _ u l bs ps h.2.2.2.2.2.1 b hb'
        exact ⟨x, (hA x b q).2.2⟩
      have wo : mkP (w :: Γ) w.2.2.2.1 := ⟨w, List.mem_cons_self, .inl ⟨.inr z4, .inl rfl⟩⟩
      have wn : mkP (w :: Γ) w.2.2.2.2.1 := ⟨w, List.mem_cons_self, .inl ⟨.inr z4, .inr rfl⟩⟩
      have wd := hmD.1
      have zc : ∀ x, 190 ≤ x → zcmp (some (x, 17, 0)) := fun x hx p hp => by cases hp; exact .inr (by show 16 ≤ x; omega)
      have eL : w.2.1.length = 1 := by rw [ew]; rfl
      cases ho : out with
      | false =>
        subst ho
        refine iX3_goOut_37 M _ _ g h.1.1 ?_
        rw [z9]
        refine ⟨⟨zc b2 b2a.1, zc g ba.1⟩, ?_⟩
        rw [if_neg (show ¬ zfst (some (b2, 17, 0)) = zfst (some (g, 17, 0)) from fun y => hne (Option.some.inj y)), if_neg (by decide), v7]
        refine ⟨⟨zc b2 b2a.1, zc b2 b2a.1⟩, ?_⟩
        rw [if_pos rfl, D4]
        refine y_jmp (C := CC) (jb := false) (mm := w.2.2.2.2.1) (L := w.2.1 ++ skk Γ) (T := T) LP hf ha hF hs hS (by omega) t4 (hmk _ wn).1 wn (wd.1 _ (.inl ⟨.inr z4, .inr rfl⟩)) (by omega) (by rw [z]; exact hla) (by rw [z]; exact List.mem_cons_of_mem _ List.mem_cons_self) (fun M' ρ' L' s' F' r' same h9 => ?_)
        have hX : xSt M' e (w :: Γ) l (ββ :: bs1) (pp :: ps1) ρ' A u (m + 1) (em e (w :: Γ) (w.2.1 ++ skk Γ) 21 0 0 (some w.2.2.2.2.1) st) := by
          refine lp_StG L' hw4 (.inr ⟨z4, b2, z, y2, y3, ?_, ?_⟩) (fun mm y => hmk mm ⟨w, List.mem_cons_self, y⟩) wd ?_ (fun y6 => ⟨?_, fun _ => ?_⟩)
          · exact (same b2 5 b2a.2.1 (by rw [b2a.2.2]; omega)).2.trans v8
          · exact (same b2 6 b2a.2.1 (by rw [b2a.2.2]; omega)).2.trans v5
          · show k1.length ≤ m + 1 ∧ (k2 ++ [m]).length ≤ m + 1
            rw [List.length_append]
            show k1.length ≤ m + 1 ∧ k2.length + 1 ≤ m + 1
            omega
          · exact jmK_gst ((t5 (by omega)).1) (gst_emm (P := fun x => x = w.2.2.2.2.1) e (w :: Γ) (w.2.1 ++ skk Γ) 21 0 0 st rfl) (wd.2 (.inr z4)) (hmk _ wo).1
          · show jmK _ ββ (k2 ++ [m]) w.2.2.2.2.1
            rw [h.1.2.1.2.2.1 (by omega)]
            exact jmK_em ((t5 (by omega)).2 (by omega)) _ _ _ _ _ _
        rw [← t1, ← t2, ← gGo_4a z4] at hX
        have fN : fr p9 M' (sr M' 29 9 (some (b2, 17, 0))) := fr.sr ⟨rfl, .inl rfl⟩
        have hzN := hX.2.2.2.2.1
        have fL : fr loP M' (sr M' 29 9 (some (b2, 17, 0))) := fN.mono fun _ _ z => .inr z
        rw [z9] at hQ
        refine hQ M' ρ' A (m + 1) (T + 1) (xSt_lo hX fN (by rw [h9.1, z9]; simp only [gr_sr]; simp) (hX.2.2.1) ⟨Nat.le_refl _, hX.2.2.2.1.1⟩) (sep_lo s' fL hzN) (F'.tr (stL_of fL hzN)) (by rw [esk, eln]; unfold szs; omega) ?_ hX.1.1
        exact (r'.tr (rm_lo (V := 0) hX.2.1 fL hzN (Nat.le_refl _)) hlz (Nat.le_refl _) (Nat.le_refl _)).mono (by omega)
      | true =>
        subst ho
        refine go37 h.1.1 z9 b2a.1 ba.1 hne (.inr ⟨0, .inr rfl⟩) ?_
        refine y_dropW (X := [true]) (j := 0) (n := 1) (LL := skk Γ) (M := M) (fun M1 f1 => ⟨(f1.2 b2 3 (by unfold cdP; omega)).1.trans v2, ((f1.2 b2 8 (by unfold cdP; omega)).1.trans v3)⟩) (by decide) (m := m) (M1 := M) (s := st) (by decide) h fr.rf (by show m + 1 < _; omega) (fun M2 h2 f2 => ?_)
        have h2 : xSt M2 e (w :: Γ) l bs ps ρ A u (m + 1) (em e (w :: Γ) (w.2.1 ++ skk Γ) 17 0 0 none st) := by rw [ew]; exact h2
        have hm2 := h2.2.2.2.2.2.2.1
        have F2 := f2.stF (B := B) (C := CC) (ρ := ρ) hz
        have s2 := sep_cd hs f2 hz
        have g2 : ∀ x k, 190 ≤ x → gi M2 x k = gi M x k ∧ gr M2 x k = gr M x k := fun x k hx => by
          have := f2.2 x k (by unfold cdP; omega)
          exact ⟨this.1, this.2.2⟩
        obtain ⟨ii2, aa2, ll2, ββ2, bs2, pp2, ps2, own2, j12, j22, k12, k22, t12, t22, t32, LP2, t42, t52⟩ := St_lpG h2 hw4
        rcases t32 with ⟨y, _⟩ | ⟨_, b22, y12, y22, y32, y52, y62⟩
        · exact absurd z4 y
        have eg2 : b2 = b22 ∧ g = aa2 ∧ ll = ll2 := by rw [z] at y12; exact ⟨(List.cons.inj y12).1, (List.cons.inj (List.cons.inj y12).2).1, (List.cons.inj (List.cons.inj y12).2).2⟩
        obtain ⟨rfl, rfl, rfl⟩ := eg2
        obtain ⟨-, -, -, -, -, -, -, -, ⟨D12, D22, D32, D42⟩, -, LAr2⟩ := id LP2
        have hz2 := h2.2.2.2.2.1
        generalize hs1 : em e (w :: Γ) (w.2.1 ++ skk Γ) 17 0 0 none st = s1 at *
        refine sX3_goOut_121 M2 _ _ g b2 h2.1.1 ?_
        have e4 : gr M2 b2 4 = some (g, 17, 0) := (g2 b2 4 b2a.1).2.trans v1
        have f3 : fr p9 M2 (sr M2 29 9 (gr M2 b2 4)) := fr.sr ⟨rfl, .inl rfl⟩
        rw [(f3.2 b2 6 (by unfold p9; omega)).2.2, (g2 b2 6 b2a.1).2, v5, if_pos rfl]
        have r9 : gr (sr M2 29 9 (gr M2 b2 4)) 29 9 = some (g, 17, 0) := by rw [e4]; simp only [gr_sr]; simp
        have g3 := f3.p9g
        have LP3 : xLp (sr M2 29 9 (gr M2 b2 4)) e (lpW w.2.2.2.1 w.2.2.2.2.1) Γ (g :: ll) own2 u g ll bs2 ps2 ρ A ii2 (m + 1) s1 j12 j22 k12 k22 := by
          refine xLp_ctx LP2 f3 h2.2.2.1 ?_ ⟨fun x hx => ?_, ?_⟩ (fun mm y => (mkP_cons y).elim (fun y => ⟨_, List.mem_cons_self, .inl ⟨.inl rfl, ?_⟩⟩) mkP_tl)
          · rw [r9]
            refine ⟨rfl, ba.1, ?_⟩
            rw [if_neg (show ¬ (lpW w.2.2.2.1 w.2.2.2.2.1).1 = 4 from (show ¬ (0 : Nat) = 4 by decide))]
            refine ⟨by rw [if_neg (show ¬ (lpW w.2.2.2.1 w.2.2.2.2.1).1 = 3 from (show ¬ (0 : Nat) = 3 by decide))]; trivial, (g3 g 3 ba.1).1.trans ((g2 g 3 ba.1).1.trans v6), fun y => absurd y (show ¬ (0 : Nat) = 2 by decide), ?_⟩
            rw [(g3 g 4 ba.1).2]
            exact xAr_fr g3 Γ _ _ LAr2
          · rcases List.mem_cons.mp hx with y | y
            · rw [y]; exact wOK_lp _ _
            · exact h.1.2.2.2.1.1 x (List.mem_cons_of_mem _ y)
          · show (skk Γ).length < 32768; omega
          · rcases y with ⟨_, y⟩ | ⟨y, _⟩
            · exact y
            · omega
        have f3l : fr loP M2 (sr M2 29 9 (gr M2 b2 4)) := f3.mono fun _ _ z => .inr z
        have F3 := stL_of f3l (B := B) (C := CC) (ρ := ρ) hz2
        have s3 := sep_lo s2 f3l hz2
        have R3 : rm CC u l M2 ρ A T (sr M2 29 9 (gr M2 b2 4)) ρ A T 0 := rm_lo h2.2.1 f3l hz2 (Nat.le_refl _)
        have q4 : ∀ k, gi (sr M2 29 9 (gr M2 b2 4)) b2 k = gi M b2 k ∧ gr (sr M2 29 9 (gr M2 b2 4)) b2 k = gr M b2 k := fun k => ⟨(g3 b2 k b2a.1).1.trans (g2 b2 k b2a.1).1, (g3 b2 k b2a.1).2.trans (g2 b2 k b2a.1).2⟩
        have z3' : zsz (sr M2 29 9 (gr M2 b2 4)) = zsz M := f3.1.1.trans f2.1.1
        generalize sr M2 29 9 (gr M2 b2 4) = M3 at *
        refine sX3_goOut_157 M3 _ _ g LP3.1.1 ?_
        refine iX3_goOut_37 M3 _ _ g LP3.1.1 ?_
        rw [r9]
        refine ⟨⟨zc g ba.1, zc g ba.1⟩, ?_⟩
        rw [if_pos rfl, if_pos (show gB true = 0 from rfl), LP3.2.2.2.2.2.2.2.2.1.2.2.1]
        have hlg : ∀ b ∈ g :: ll, b ∈ l := fun b hb' => by rw [z]; exact List.mem_cons_of_mem _ hb'
        refine y_jmp (C := CC) (jb := true) (mm := w.2.2.2.1) (L := skk Γ) (T := T) LP3 hf ((ha.tr (F2.agS hs)).tr (F3.agS s2)) (F3.f12.trans (F2.f12.trans hF)) s3 hS (by omega) t42 (hm2 _ wo).1 ⟨_, List.mem_cons_self, .inl ⟨.inl rfl, .inl rfl⟩⟩ (wd.1 _ (.inl ⟨.inr z4, .inl rfl⟩)) (by omega) (fun b hb' => hla b (List.mem_cons_of_mem _ hb')) List.mem_cons_self (fun M' ρ' L' s' F' r' same h9 => ?_)
        rw [em_cx (smC_lp (show (0 : Nat) ≠ 2 by decide) rfl)] at L'
        have fN : fr p9 M' (sr M' 29 9 (some (b2, 17, 0))) := fr.sr ⟨rfl, .inl rfl⟩
        have gN := fN.p9g
        have hzM := L'.2.2.2.2.1
        have fL : fr loP M' (sr M' 29 9 (some (b2, 17, 0))) := fN.mono fun _ _ z => .inr z
        have sm2 : ∀ k, gi M' b2 k = gi M b2 k ∧ gr M' b2 k = gr M b2 k := fun k => by
          have := same b2 k (by rw [z3']; exact b2a.2.1) (by rw [b2a.2.2]; omega)
          exact ⟨this.1.trans (q4 k).1, this.2.trans (q4 k).2⟩
        have smg : ∀ k, gi M' g k = gi M3 g k ∧ gr M' g k = gr M3 g k := fun k => same g k (by rw [z3']; exact ba.2.1) (by rw [ba.2.2]; omega)
        have e9 : gr (sr M' 29 9 (some (b2, 17, 0))) 29 9 = some (b2, 17, 0) := by simp only [gr_sr]; simp
        have L'' := xLp_ctx (w' := w) (la' := b2 :: g :: ll) L' fN L'.2.2.1 (by
          rw [e9]
          refine ⟨rfl, b2a.1, ?_⟩
          rw [if_pos z4]
          refine ⟨g, ll, rfl, (gN b2 3 b2a.1).1.trans ((sm2 3).1.trans v2), (gN b2 8 b2a.1).1.trans ((sm2 8).1.trans v3), (gN b2 4 b2a.1).2.trans ((sm2 4).2.trans v1), ba.1, ?_, ?_⟩
          · refine (gN g 3 ba.1).1.trans ?_
            obtain ⟨_, _, q⟩ := L'.1.2.2.1
            rw [if_neg (show ¬ (lpW w.2.2.2.1 w.2.2.2.2.1).1 = 4 from (show ¬ (0 : Nat) = 4 by decide))] at q
            exact q.2.1
          · rw [(gN g 4 ba.1).2]; exact xAr_fr gN Γ _ _ L'.2.2.2.2.2.2.2.2.2.2) h.1.2.2.2.1 (fun mm y => (mkP_cons y).elim (fun y => ⟨w, List.mem_cons_self, .inl ⟨.inr z4, wmk_lp y⟩⟩) mkP_tl)
        have hX : xSt (sr M' 29 9 (some (b2, 17, 0))) e (w :: Γ) l (ββ2 :: bs2) (pp2 :: ps2) ρ' A u (m + 1 + 1) (em e Γ (skk Γ) 21 0 0 (some w.2.2.2.1) s1) := by
          rw [z]
          refine lp_StG L'' hw4 (.inr ⟨z4, b2, rfl, y22, y32, ?_, ?_⟩) (fun mm y => hm2 mm ⟨w, List.mem_cons_self, y⟩) wd ?_ (fun y6 => ⟨?_, fun _ => ?_⟩)
          · exact (gN b2 5 b2a.1).2.trans ((sm2 5).2.trans v8)
          · exact (gN b2 6 b2a.1).2.trans ((sm2 6).2.trans v5)
          · show (k12 ++ [m + 1]).length ≤ m + 1 + 1 ∧ k22.length ≤ m + 1 + 1
            rw [List.length_append]
            show k12.length + 1 ≤ m + 1 + 1 ∧ k22.length ≤ m + 1 + 1
            omega
          · show jmK _ ββ2 (k12 ++ [m + 1]) w.2.2.2.1
            rw [h2.1.2.1.2.2.1 (by omega)]
            exact jmK_em ((t52 (by omega)).1) _ _ _ _ _ _
          · exact jmK_gst ((t52 (by omega)).2 (by omega)) (gst_emm (P := fun x => x = w.2.2.2.1) e Γ (skk Γ) 21 0 0 s1 rfl) (fun y => wd.2 (.inr z4) y.symm) (hm2 _ wn).1
        rw [← t12, ← t22, ← hs1, ← gGo_4o z4] at hX
        rw [z9] at hQ
        refine hQ M' ρ' A (m + 1 + 1) (T + 1) hX (sep_lo s' fL hzM) (((F2.tr F3).tr F').tr (stL_of fL hzM)) (by rw [esk, eln, eL]; unfold szs; omega) ?_ L'.1.1
        exact ((((rm_cd (V := 0) h.2.1 f2 hz (Nat.le_refl _)).tr R3 hlz (Nat.le_refl _) (Nat.le_refl _)).tr (r'.up hlg) hlz (Nat.le_refl _) (Nat.le_refl _)).tr (rm_lo (V := 0) L'.2.1 fL hzM (Nat.le_refl _)) hlz (Nat.le_refl _) (Nat.le_refl _)).mono (by omega)
    · -- a loop or a switch
      have hw4 : w.1 = 0 ∨ w.1 = 1 ∨ w.1 = 4 := zt.imp id fun y => .inl y.1
      obtain ⟨ii, aa, ll, ββ, bs1, pp, ps1, own, j1, j2, k1, k2, t1, t2, t3, LP, t4, t5⟩ := St_lpG h hw4
      rcases t3 with ⟨_, y1, y2⟩ | ⟨y, _⟩
      rotate_left
      · exact absurd y z4
      rcases hsh with ⟨_, zl, z9, _⟩ | ⟨y, _⟩
      rotate_left
      · exact absurd y z4
      have eg : g = aa := by rw [z] at y1; exact (List.cons.inj y1).1
      have eg' : g = bo := by rw [z] at zl; exact (List.cons.inj zl).1
      subst eg eg'
      have ba := hA i g hb
      obtain ⟨-, -, L3, L4, -, -, -, -, ⟨D1, D2, D3, D4⟩, -, LAr⟩ := id LP
      have hla : ∀ b ∈ l, ∃ x, ρ b = 5 * x + 1 := fun b hb' => by
        obtain ⟨x, _, q⟩ := xCh_mem _ u l bs ps h.2.2.2.2.2.1 b hb'
        exact ⟨x, (hA x b q).2.2⟩
      have wd := hmD.1
      have wm : wmk w (if out then w.2.2.2.1 else w.2.2.2.2.1) := by
        rcases zt with y | ⟨y, y'⟩
        · refine .inl ⟨.inl y, ?_⟩
          cases out
          · exact .inr rfl
          · exact .inl rfl
        · refine .inr ⟨y, ?_⟩
          rw [y']; rfl
      have wmP : mkP (w :: Γ) (if out then w.2.2.2.1 else w.2.2.2.2.1) := ⟨w, List.mem_cons_self, wm⟩
      have zc : ∀ x, 190 ≤ x → zcmp (some (x, 17, 0)) := fun x hx p hp => by cases hp; exact .inr (by show 16 ≤ x; omega)
      have main : ∀ q : Option zP, q = some (if out then j1 else j2, 18, 0) → Z E YX3_put (d + 1) M [(0, C29), (1, vi 21), (2, vi 0), (3, vi 0)] 0 [] (zafter E YX3_goOut (d + 1 + 1) [(0, C29), (2, vr r2)] 180 3 [vr q] Q) := by
        intro q hq
        rw [hq]
        refine y_jmp (C := CC) (jb := out) (mm := if out then w.2.2.2.1 else w.2.2.2.2.1) (L := skk Γ) (T := T) LP hf ha hF hs hS (by omega) t4 (hmk _ wmP).1 wmP (wd.1 _ wm) (by omega) hla (by rw [z]; exact List.mem_cons_self) (fun M' ρ' L' s' F' r' same h9 => ?_)
        have hX : xSt M' e (w :: Γ) l (ββ :: bs1) (pp :: ps1) ρ' A u (m + 1) (em e (w :: Γ) (skk Γ) 21 0 0 (some (if out then w.2.2.2.1 else w.2.2.2.2.1)) st) := by
          refine lp_StG L' hw4 (.inl ⟨z4, y1, y2⟩) (fun mm y => hmk mm ⟨w, List.mem_cons_self, y⟩) wd ?_ (fun y6 => ?_)
          · cases out with
            | true =>
              show (k1 ++ [m]).length ≤ m + 1 ∧ k2.length ≤ m + 1
              rw [List.length_append]
              show k1.length + 1 ≤ m + 1 ∧ k2.length ≤ m + 1
              omega
            | false =>
              show k1.length ≤ m + 1 ∧ (k2 ++ [m]).length ≤ m + 1
              rw [List.length_append]
              show k1.length ≤ m + 1 ∧ k2.length + 1 ≤ m + 1
              omega
          · have em6 := h.1.2.1.2.2.1 (by omega)
            cases out with
            | true =>
              refine ⟨?_, fun y => ?_⟩
              · show jmK _ ββ (k1 ++ [m]) w.2.2.2.1
                rw [em6]
                exact jmK_em ((t5 (by omega)).1) _ _ _ _ _ _
              · exact jmK_gst ((t5 (by omega)).2 y) (gst_emm (P := fun x => x = w.2.2.2.1) e (w :: Γ) (skk Γ) 21 0 0 st rfl) (fun y' => wd.2 (.inl (by omega)) y'.symm) (hmk _ ⟨w, List.mem_cons_self, .inl ⟨.inl (by omega), .inr rfl⟩⟩).1
            | false =>
              have y0 : w.1 = 0 := zt.resolve_right (fun y => by cases y.2)
              refine ⟨?_, fun y => ?_⟩
              · exact jmK_gst ((t5 (by omega)).1) (gst_emm (P := fun x => x = w.2.2.2.2.1) e (w :: Γ) (skk Γ) 21 0 0 st rfl) (wd.2 (.inl y0)) (hmk _ ⟨w, List.mem_cons_self, .inl ⟨.inl y0, .inl rfl⟩⟩).1
              · show jmK _ ββ (k2 ++ [m]) w.2.2.2.2.1
                rw [em6]
                exact jmK_em ((t5 (by omega)).2 (by omega)) _ _ _ _ _ _
        rw [← t1, ← t2, ← gGo_t zt] at hX
        have fN : fr p9 M' (sr M' 29 9 (gr M 29 9)) := fr.sr ⟨rfl, .inl rfl⟩
        have hzN := hX.2.2.2.2.1
        have fL : fr loP M' (sr M' 29 9 (gr M 29 9)) := fN.mono fun _ _ z => .inr z
        refine hQ M' ρ' A (m + 1) (T + 1) (xSt_lo hX fN (by rw [h9.1]; simp only [gr_sr]; simp) (hX.2.2.1) ⟨Nat.le_refl _, hX.2.2.2.1.1⟩) (sep_lo s' fL hzN) (F'.tr (stL_of fL hzN)) (by rw [esk, eln]; unfold szs; omega) ?_ hX.1.1
        exact (r'.tr (rm_lo (V := 0) hX.2.1 fL hzN (Nat.le_refl _)) hlz (Nat.le_refl _) (Nat.le_refl _)).mono (by omega)
      refine iX3_goOut_37 M _ _ g h.1.1 ?_
      rw [z9]
      refine ⟨⟨zc g ba.1, zc g ba.1⟩, ?_⟩
      rw [if_pos rfl]
      cases ho : out with
      | true => subst ho; rw [if_pos (show gB true = 0 from rfl)]; exact main _ D3
      | false => subst ho; rw [if_neg (by decide)]; exact main _ D4
    · -- on
      rcases hsh with ⟨_, zl, z9, z6, z7, z3, z8, z5⟩ | ⟨y, _⟩
      · have el : l2 = l' := by rw [z] at zl; exact (List.cons.inj zl).2
        subst el
        obtain ⟨i', q1, q2, q3⟩ := tgO_mem Γ i l2 bs' ps' g zg hch
        have gb := hA i' g q2
        have hne : bo ≠ g := fun y => by rw [y] at bb; omega
        refine go37 h.1.1 z9 bb.1 gb.1 hne (q3.imp id fun ⟨b3, y1, y2, y3⟩ => ⟨b3, .inl ⟨y1, (hA _ b3 y3).1, fun y => by have := hA _ b3 y3; rw [← y] at this; omega⟩⟩) ?_
        by_cases h3 : w.1 = 3
        · refine y_dropW (X := w.2.1) (j := 0) (n := w.2.1.length) (LL := skk Γ) (M := M) (fun M1 f1 => ⟨((f1.2 bo 3 (by unfold cdP; omega)).1.trans z3).trans (by rw [h3]; rfl), (f1.2 bo 8 (by unfold cdP; omega)).1.trans (z8 h3)⟩) hwk.2.2.2.1 (m := m) (M1 := M) (s := st) (by omega) h fr.rf (by omega) (fun M2 h2 f2 => ?_)
          exact fin M2 _ _ z4 zg h2 f2 (by omega) (by rw [if_neg (by omega)]; omega) (by rw [gGo_3 h3, if_neg (by omega)])
        · refine iX3_goOut_69 M _ _ g _ _ h.1.1 ⟨bo, rfl, ?_⟩
          rw [z3, if_neg (by rw [nn_eql (by have := hwk.1; omega) (by decide)]; exact h3)]
          by_cases h2 : w.1 = 2
          · rw [if_pos (by rw [h2]; rfl)]
            refine y_puS (L := skk Γ) h (by omega) rfl rfl (fun M1 h1 f1 => ?_)
            show Z E YX3_goOut (d + 1 + 1) M1 [(0, C29), (1, vi (gB out)), (2, vr r2), (3, vr (some (g, 17, 0))), (4, vr (some (bo, 17, 0)))] 120 [vi (nI m)] Q
            refine sX3_goOut_120 M1 _ _ g bo _ h1.1.1 ?_
            exact fin M1 (m + 1) _ z4 zg h1 f1 (by omega) (by rw [if_pos h2]; omega) (by rw [gGo_2 h2, if_pos h2])
          · rw [if_neg (by rw [nn_eql (by have := hwk.1; omega) (by decide)]; exact h2)]
            have h1' : w.1 = 1 ∧ out = false := by
              have := hwk.1
              have w1 : w.1 = 1 := by
                have : ¬ w.1 = 0 := fun y => zt (.inl y)
                omega
              exact ⟨w1, by cases out; rfl; exact absurd (.inr ⟨w1, rfl⟩) zt⟩
            exact fin M m st z4 zg h fr.rf (by omega) (by rw [if_neg h2]; omega) (by rw [if_neg h2]; rw [h1'.2]; exact gGo_1 h1'.1)
      · exact absurd y z4
theorem xs_Goes {M : zM} {C : Nat → Prop} {c : Nat × Nat} {b : Nat} {out : Bool} (hb : S b) (e0 : gi M b 0 = gB out) (hc : if out then 0 < c.1 + c.2 else 0 < c.1) (hS : ∀ a, S a → 190 ≤ a) : xNd S B M c C 2 4001 4001 1 1 (b, 40, 0) (fun e Γ st => gGo out e Γ st) := by
  intro e fc Γ ps Dk Nk Kk Ck CC hf hG hCC hk hcx
  refine ⟨rfl, (show 20 ≤ 40 ∧ 40 < 45 by decide), _, rfl, fun E d Q M1 l bs ρ A u m T st ha hB hF hs h hd hu hsk hm hN hT hQ => ?_⟩
  obtain ⟨d, rfl⟩ : ∃ d', d = d' + 3 := ⟨d - 3, by omega⟩
  have hl := hG.len
  have hz := h.2.2.2.2.1
  have ht : ∃ w ∈ Γ, w.1 = 0 ∨ w.1 = 4 ∨ w.1 = 1 ∧ out = true := by
    cases out with
    | true =>
      obtain ⟨w, h1, h2⟩ := hcx.2 hc
      exact ⟨w, h1, h2.imp id fun y => y.imp id fun y => ⟨y, rfl⟩⟩
    | false =>
      obtain ⟨w, h1, h2⟩ := hcx.1 hc
      exact ⟨w, h1, h2.imp id .inl⟩
  refine sX35_code_0 M1 b _ ⟨29, rfl, ?_⟩
  rw [(ha b 0 hb).1, e0]
  refine sX3_goOut_0 M1 _ h.1.1 ?_
  refine y_find h.1.1 Γ _ l h.1.2.2.1 (fun w hw => (h.1.2.2.2.1.1 w hw).1) ht (fun g hg => ?_)
  refine y_goW (CC := CC) (Nk := Nk) (Kk := Kk) hf hS Γ ps Dk M1 l bs ρ A m T st g (hG.mono hCC.2.1 (Nat.le_refl _) (Nat.le_refl _) (Nat.le_refl _)) hk ha hB hF hs h hg (by omega) (by omega) (by omega) (by omega) (by omega) hT (fun M' ρ' A' m' T' X se F sz r c => ?_)
  refine sX3_goOut_186 M' _ c ?_
  show Z E YX35_code (d + 2 + 1) (sr M' 29 9 (gr M1 29 9)) [] 8 [] Q
  refine sX35_code_8 _ ?_
  exact hQ _ ρ' A' m' T' X se F (by unfold szs at *; omega) (r.mono (by omega))
end
