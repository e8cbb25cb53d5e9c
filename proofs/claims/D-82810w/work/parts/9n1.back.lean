/-! THE COMPONENT's CODER: return -/
theorem rm.dn2 {C : Nat → Prop} {u v : Nat} {l : List Nat} {M M' : zM} {ρ ρ' : Nat → Nat} {A A' : List Nat} {m m' V : Nat} (h : rm C v l M ρ A m M' ρ' A' m' V) (hu : u ≤ v) : rm C u l M ρ A m M' ρ' A' m' V := ⟨h.1, h.2.1, fun x hx hr hn k => h.2.2.1 x hx hr (fun z => hn (z.imp (fun y => Nat.le_trans hu y) id)) k, h.2.2.2⟩
/-- the pointer to what is around depends on l alone -/
def hdP (l : List Nat) : Option zP := match l with | [] => none | b :: _ => some (b, 17, 0)
theorem xAr_hd {M : zM} {p : Option zP} {Γ : gK} {l : List Nat} (h : xAr M p Γ l) : p = hdP l := by
  cases Γ with
  | nil => obtain ⟨h1, h2⟩ := h; rw [h1, h2]; rfl
  | cons w Γ =>
    cases l with
    | nil => exact h.elim
    | cons b l => exact h.1
section
variable {M M' : zM} {e : gN} {w : gW} {Γ : gK} {l bs : List Nat} {ps : List (Option zP)} {ρ : Nat → Nat} {A : List Nat} {u m : Nat} {st : gS}
/-- fewer arounds are in use -/
theorem xSt_dn {v m0 : Nat} {M0 : zM} {st0 : gS} {bs0 : List Nat} {ps0 : List (Option zP)} {A0 : List Nat} (h : xSt M e Γ l bs ps ρ A v m st) (h0 : xCh M0 A0 m0 st0 u Γ l bs0 ps0) (inj : ∀ i j a : Nat, A0[i]? = some a → A[j]? = some a → i = j) (f : fr p9 M M') (h9 : gr M' 29 9 = gr M 29 9) (h11 : gi M' 29 11 = nI u) (hu : u ≤ A.length) : xSt M' e Γ l bs ps ρ A u m st := by
  have hA := h.A190
  obtain ⟨⟨c1, c2, c3, c4, fc, u', y1, y2, y3⟩, h2, h3, h4, h5, h6, h7, h8⟩ := h
  have g' := f.p9g
  have fl : fr loP M M' := f.mono fun x k z => .inr z
  refine ⟨⟨f.cw p9_cw c1, xCd_ag c2 (fun x k hx => (f.2 x k (by unfold cdP at hx; unfold p9; omega)).1) (fun _ z => z), by rw [h9]; exact xAr_fr g' Γ _ _ c3, c4, fc, u', y1, (f.2 29 12 (by unfold p9; omega)).2.2.trans y2, xFn_fr g' u' fc _ _ y3⟩, xOw_lo h2 fl h5, h11, ⟨hu, h4.2⟩, by rw [f.1.1]; exact h5, xCh_idx (xCh_up (P := fun _ => False) g' (Nat.le_of_eq f.1.1.symm) (fun i a z => (hA i a z).1) (fun _ _ _ _ z => z) (Nat.le_refl _) Γ v l bs ps (fun mm z => ⟨fun y => y, (h7 mm z).1⟩) h6) h0 inj, h7, h8⟩
/-- values were entered -/
theorem va_xSt {S B : Nat → Prop} {M0 M'' : zM} {ρ' : Nat → Nat} {A' : List Nat} {a fc : Nat} {X : List Bool} {s : Int32} (h : xSt M e Γ l bs ps ρ A u m st) (he : enP M M' ρ ρ' A A' a u s) (hs : s = 3) (f : fr (fun x k => x = a ∧ k = 8) M' M'') (h8 : gi M'' a 8 = nI X.length) (hsk : X.length + (skk Γ).length < 32768) (hfn : fnS S M0 e fc) (ha : agS S M0 M) (hF : gr M 29 12 = some (fc, 10, 0)) (hsep : sep S B M ρ) (hu : u < 70000) : xSt M'' e (vaW X :: Γ) (a :: l) (0 :: bs) (none :: ps) ρ' A' (u + 1) m st ∧ ρ' a = 5 * u + 1 := by
  have f6 : fr (fun x k => x = a ∧ 6 ≤ k) M' M'' := f.mono fun x k z => ⟨z.1, by omega⟩
  have a6 : gr M'' a 6 = none := (f.2 a 6 (by omega)).2.2.trans he.2.2.2.2.1.2.2.2.1
  obtain ⟨b1, b2, b3, b4, b5, b6, b7, b8, b9, j1, j2, d1, d2, d3, d4⟩ := en_co (w := vaW X) h he f6 (hs.trans rfl) (show ¬ (3 : Nat) = 4 by decide) (fun _ => h8) (fun z => absurd z (show ¬ (3 : Nat) = 2 by decide)) ⟨(show (3 : Nat) ≤ 4 by decide), fun z => absurd z (show ¬ (3 : Nat) = 4 by decide), fun z => absurd z (show ¬ ((3 : Nat) = 0 ∨ (3 : Nat) = 1 ∨ (3 : Nat) = 2) by decide), (show X.length < 100000 by omega), (show (0 : Nat) < 32768 by decide)⟩ (by show (X ++ skk Γ).length < 32768; rw [List.length_append]; exact hsk) hfn ha hF hsep hu
  refine ⟨⟨b1, b2, b3, b4, b5, ⟨u, a, l, 0, bs, none, ps, rfl, rfl, Nat.lt_succ_self u, b7.1, ?_, b6⟩, fun mm hmm => (mkP_cons hmm).elim (fun z => (wmk_va z).elim) (h.2.2.2.2.2.2.1 mm), ⟨fun mm z => (wmk_va z).elim, fun z => absurd z (show ¬ ((3 : Nat) = 0 ∨ (3 : Nat) = 4) by decide)⟩, h.2.2.2.2.2.2.2⟩, b7.2⟩
  rw [if_neg (show ¬ (vaW X).1 = 4 from (show ¬ (3 : Nat) = 4 by decide))]
  exact ⟨rfl, b8, fun _ => a6, fun z => absurd z (show ¬ (3 : Nat) = 2 by decide), fun z => absurd z (show ¬ (3 : Nat) = 0 by decide), fun z => absurd z (show ¬ (3 : Nat) = 1 by decide)⟩
end
/-- where goBack ends -/
abbrev nB (M : zM) (p : Option zP) (u : Nat) : zM := si (sr M 29 9 p) 29 11 (nI u)
theorem nB_fr {M : zM} {p : Option zP} {u : Nat} : fr p9 M (nB M p u) := (fr.sr ⟨rfl, .inl rfl⟩).tr (fr.si ⟨rfl, .inr rfl⟩)
theorem nB_9 {M : zM} {p : Option zP} {u : Nat} : gr (nB M p u) 29 9 = p := by unfold nB; simp only [gr_si, gr_sr]; simp
theorem nB_11 {M : zM} {p : Option zP} {u : Nat} : gi (nB M p u) 29 11 = nI u := by unfold nB; rw [gi_self]
theorem fr.p9s {M M' : zM} (f : fr p9 M M') : fr p9 M' M := ⟨⟨f.1.1.symm, f.1.2.symm⟩, fun x k h => ⟨(f.2 x k h).1.symm, (f.2 x k h).2.1.symm, (f.2 x k h).2.2.symm⟩⟩
theorem gRet_2 {e : gN} {w : gW} {Γ : gK} {X : List Bool} {st : gS} (h : w.1 = 2) : gRet e (w :: Γ) X st = gRet e Γ X (gFi w.2.2.2.2.2 X (em e (w :: Γ) (X ++ skk Γ) 28 0 0 none st)) := by
  show (if w.1 = 2 then _ else _) = _
  rw [if_pos h]
theorem gRet_n {e : gN} {w : gW} {Γ : gK} {X : List Bool} {st : gS} (h : w.1 ≠ 2) : gRet e (w :: Γ) X st = gRet e Γ (X ++ w.2.1) st := by
  show (if w.1 = 2 then _ else _) = _
  rw [if_neg h]
section
variable {S B CC : Nat → Prop} {M0 : zM} {e : gN} {fc Nk Kk u : Nat} {E : zE} {d : Nat} {Q : zO → zM → Prop} {r1 : Option zP}
theorem y_bkW (hf : fnS S M0 e fc) (hS : ∀ a, S a → 190 ≤ a) : ∀ (Γ : gK) (ps : List (Option zP)) (Dk v : Nat) (M : zM) (p : Option zP) (l bs : List Nat) (ρ : Nat → Nat) (A : List Nat) (m T : Nat) (st : gS) (X : List Bool), Good S B M0 e fc CC Nk Kk Dk Γ ps → kgo Γ → agS S M0 M → agB B M0 M → gr M 29 12 = some (fc, 10, 0) → sep S B M ρ → xSt (nB M p u) e Γ l bs ps ρ A u m st → gi M 29 11 = nI v → (u ≤ v ∧ v ≤ A.length) → X ≠ [] → Dk + 350 ≤ d + 1 → v + Dk ≤ 60000 → X.length + (skk Γ).length + Dk ≤ 2001 → m + (Γ.length + 1) < 10000000 → Nk + (Γ.length + 1) < 9000000 → T ≤ m →
    (∀ (M' : zM) (ρ' : Nat → Nat) (A' : List Nat) (m' T' : Nat), xSt (nB M' p u) e Γ l bs ps ρ' A' u m' (gRet e Γ X st) → sep S B (nB M' p u) ρ' → stF B CC M (nB M' p u) ρ ρ' → szs m T (Γ.length + 1) (Nk + (Γ.length + 1)) 0 Kk m' T' → rm CC u l M ρ A T (nB M' p u) ρ' A' T' (v + Dk) → cw M' → Z E YX3_goBack (d + 1 + 1) M' [(0, C29), (1, vr r1), (3, vi (nI u))] 135 [vi (nI (m' - 1))] Q) →
    Z E YX3_goBack (d + 1 + 1) M [(0, C29), (1, vr r1), (2, vi (nI X.length)), (3, vi (nI u)), (4, vr p)] 15 [] Q := by
  intro Γ
  induction Γ with
  | nil =>
    intro ps Dk v M p l bs ρ A m T st X hG hk ha hB hF hs h h11 hv hX hd hu hsk hm hN hT hQ
    have hp : p = none := by have := h.1.2.2.1.1; rw [nB_9] at this; exact this
    have cw0 : cw M := nB_fr.p9s.cw p9_cw h.1.1
    have hz := h.2.2.2.2.1
    refine iX3_goBack_15 M _ _ _ p cw0 ?_
    rw [if_pos hp]
    have f0 : fr p9 (nB M p u) (sr M 29 9 none) := nB_fr.p9s.tr (fr.sr ⟨rfl, .inl rfl⟩)
    have X1 : xSt (sr M 29 9 none) e [] l bs ps ρ A v m st := xSt_lo h f0 (by rw [nB_9, hp]; simp only [gr_sr]; simp) h11 hv
    have fM : fr p9 M (sr M 29 9 none) := fr.sr ⟨rfl, .inl rfl⟩
    have fMl : fr loP M (sr M 29 9 none) := fM.mono fun _ _ z => .inr z
    have hzM : 190 ≤ zsz M := hz
    have s1 := sep_lo hs fMl hzM
    refine y_puS (L := X) X1 (by omega) rfl rfl (fun M2 X2 f2 => ?_)
    show Z E YX3_goBack (d + 1 + 1) M2 [(0, C29), (1, vr r1), (3, vi (nI u))] 135 [vi (nI m)] Q
    have h92 : gr M2 29 9 = p := by rw [hp]; exact (f2.2 29 9 (by unfold cdP; omega)).2.2.trans (by simp only [gr_sr]; simp)
    have hA2 := X2.A190
    have X3 : xSt (nB M2 p u) e [] l bs ps ρ A u (m + 1) (em e [] X 25 0 0 none st) := xSt_dn X2 h.2.2.2.2.2.1 (fun i j a z1 z2 => by have a1 := hA2 i a z1; have a2 := hA2 j a z2; omega) nB_fr (by rw [nB_9, h92]) nB_11 (by omega)
    have fN : fr loP M2 (nB M2 p u) := nB_fr.mono fun _ _ z => .inr z
    have hz2 := X2.2.2.2.2.1
    have ow : xOw M ρ A := xOw_lo h.2.1 (nB_fr.p9s.mono fun _ _ z => .inr z) hz
    refine hQ M2 ρ A (m + 1) T X3 (sep_lo (sep_cd s1 f2 hzM) fN hz2) (((stL_of fMl hzM).tr (f2.stF hzM)).tr (stL_of fN hz2)) (by show szs m T (0 + 1) (Nk + (0 + 1)) 0 Kk (m + 1) T; unfold szs; omega) ?_ X2.1.1
    exact (((rm_lo (V := 0) ow fMl hzM (Nat.le_refl _)).tr (rm_cd (V := 0) X1.2.1 f2 hzM (Nat.le_refl _)) h.lz (Nat.le_refl _) (Nat.le_refl _)).tr (rm_lo (V := 0) X2.2.1 fN hz2 (Nat.le_refl _)) h.lz (Nat.le_refl _) (Nat.le_refl _)).mono (Nat.zero_le _)
  | cons w Γ ih =>
    intro ps Dk v M p l bs ρ A m T st X hG hk ha hB hF hs h h11 hv hX hd hu hsk hm hN hT hQ
    have hA := h.A190
    have hz := h.2.2.2.2.1
    have hlz := h.lz
    have hwk := h.1.2.2.2.1.1 w List.mem_cons_self
    have cw0 : cw M := nB_fr.p9s.cw p9_cw h.1.1
    have gM : ∀ x k, 190 ≤ x → gi (nB M p u) x k = gi M x k ∧ gr (nB M p u) x k = gr M x k := nB_fr.p9g
    have ow : xOw M ρ A := xOw_lo h.2.1 (nB_fr.p9s.mono fun _ _ z => .inr z) hz
    obtain ⟨gG1, gG2, gG3⟩ := hG
    obtain ⟨i, bo, l', β, bs', pp, ps', e1, e2, ⟨hi, hb, hch, hl'⟩, hsh, cut, back⟩ := xSt_cut h
    have bb := hA i bo hb
    have esk : (skk (w :: Γ)).length = w.2.1.length + (skk Γ).length := by show (w.2.1 ++ skk Γ).length = _; rw [List.length_append]
    have eln : (w :: Γ).length = Γ.length + 1 := rfl
    rw [eln] at hm hN
    rw [esk] at hsk
    have kΓ : kgo Γ := hk.1
    have epl : ps.tail = ps' := by rw [e2]; rfl
    have eph : ps.head? = some pp := by rw [e2]; rfl
    rw [epl] at gG2 gG3
    rw [eph] at gG3
    have inj : ∀ i j a : Nat, A[i]? = some a → A[j]? = some a → i = j := fun i j a z1 z2 => by have a1 := hA i a z1; have a2 := hA j a z2; omega
    have p4 : gr (nB M p u) bo 4 = gr M bo 4 := (gM bo 4 bb.1).2
    -- past what is no try
    have past : w.1 ≠ 2 → Z E YX3_goBack (d + 1 + 1) M [(0, C29), (1, vr r1), (2, vi (nI (X ++ w.2.1).length)), (3, vi (nI u)), (4, vr (gr M bo 4))] 15 [] Q := fun hn2 => by
      have V : xSt (nB M (gr M bo 4) u) e Γ l' bs' ps' ρ A u m st := cut _ (nB_fr.p9s.tr nB_fr) (by rw [nB_9, p4]) nB_11
      refine ih ps' (Dk - 1) v M (gr M bo 4) l' bs' ρ A m T st (X ++ w.2.1) gG2 kΓ ha hB hF hs V h11 hv (fun z => hX (List.append_eq_nil_iff.mp z).1) (by omega) (by omega) (by rw [List.length_append]; omega) (by omega) (by omega) hT (fun M' ρ' A' m' T' Y se F sz r c => ?_)
      have fN : fr p9 (nB M' (gr M bo 4) u) (nB M' p u) := nB_fr.p9s.tr nB_fr
      have fNl : fr loP (nB M' (gr M bo 4) u) (nB M' p u) := fN.mono fun _ _ z => .inr z
      have hzN := Y.2.2.2.2.1
      have fV : fr loP (nB M p u) M := nB_fr.p9s.mono fun _ _ z => .inr z
      have r0 : rm CC u l' (nB M p u) ρ A T M ρ A T 0 := rm_lo h.2.1 fV hz (Nat.le_refl _)
      have rr := r0.tr r (fun b hb => hlz b (hl' b hb)) (V'' := v + (Dk - 1)) (Nat.zero_le _) (Nat.le_refl _)
      rw [← gRet_n hn2] at Y
      have Y' := back CC _ (nB M' p u) ρ' A' u m' T T' _ _ Y rr (by rw [gRet_n hn2]; exact gst_Ret e Γ _ st kΓ) (by unfold szs at sz; omega) fN (by rw [nB_9, p4]) (by rw [nB_9, nB_9]) nB_11
      refine hQ M' ρ' A' m' T' Y' (sep_lo se fNl hzN) (F.tr (stL_of fNl hzN)) (by rw [eln]; unfold szs at *; omega) ?_ c
      exact (r.up hl').tr (rm_lo (V := 0) Y.2.1 fNl hzN (Nat.le_refl _)) hlz (by omega) (Nat.zero_le _)
    refine iX3_goBack_15 M _ _ _ p cw0 ?_
    rcases hsh with ⟨z4, zl, z9, z6, z7, z3, z8, z5⟩ | ⟨z4, b2, zl, z9, zi, v1, v2, v3, v5, v6, v7, v8, v10⟩
    · rw [nB_9] at z9
      rw [z9, if_neg (fun z => by cases z)]
      refine ⟨bo, rfl, ?_⟩
      rw [show gi M bo 3 = nI w.1 from (gM bo 3 bb.1).1.symm.trans z3]
      by_cases h3 : w.1 = 3
      · rw [h3, if_pos (show nI 3 = 3 from rfl), if_neg (show ¬ nI 3 = 2 by decide), show gi M bo 8 = nI w.2.1.length from (gM bo 8 bb.1).1.symm.trans (z8 h3), nI_add, ← List.length_append]
        exact past (by omega)
      rw [if_neg (by rw [nn_eql (by have := hwk.1; omega) (by decide)]; exact h3)]
      by_cases h2 : w.1 = 2
      rotate_left
      · rw [if_neg (by rw [nn_eql (by have := hwk.1; omega) (by decide)]; exact h2)]
        have ew : w.2.1 = [] := hwk.2.2.1 (by have := hwk.1; omega)
        have := past h2
        rw [ew, List.append_nil] at this
        exact this
      -- a try
      rw [if_pos (by rw [h2]; rfl)]
      have f0 : fr p9 (nB M p u) (sr M 29 9 (some (bo, 17, 0))) := nB_fr.p9s.tr (fr.sr ⟨rfl, .inl rfl⟩)
      have X1 : xSt (sr M 29 9 (some (bo, 17, 0))) e (w :: Γ) l bs ps ρ A v m st := xSt_lo h f0 (by rw [nB_9, z9]; simp only [gr_sr]; simp) h11 hv
      have fM : fr p9 M (sr M 29 9 (some (bo, 17, 0))) := fr.sr ⟨rfl, .inl rfl⟩
      have fMl : fr loP M (sr M 29 9 (some (bo, 17, 0))) := fM.mono fun _ _ z => .inr z
      have hzM : 190 ≤ zsz M := hz
      have s1 := sep_lo hs fMl hzM
      have F1 := stL_of fMl (B := B) (C := CC) (ρ := ρ) hzM
      have R1 : rm CC u l M ρ A T (sr M 29 9 (some (bo, 17, 0))) ρ A T 0 := rm_lo ow fMl hzM (Nat.le_refl _)
      have a1 := ha.tr (F1.agS hs)
      have B1 := hB.tr (F1.agB hs)
      have F12 := F1.f12.trans hF
      refine y_puS (L := X ++ skk Γ) X1 (by omega) rfl rfl (fun M2 X2 f2 => ?_)
      have hz1 := X1.2.2.2.2.1
      generalize sr M 29 9 (some (bo, 17, 0)) = M1 at *
      show Z E YX3_goBack (d + 1 + 1) M2 [(0, C29), (1, vr r1), (2, vi (nI X.length)), (3, vi (nI u)), (4, vr (some (bo, 17, 0)))] 63 [vi (nI m)] Q
      have g28 : gRet e (w :: Γ) X st = gRet e Γ X (gFi w.2.2.2.2.2 X (em e (w :: Γ) (X ++ skk Γ) 28 0 0 none st)) := gRet_2 h2
      have gF : gst (mkP Γ) (em e (w :: Γ) (X ++ skk Γ) 28 0 0 none st) (gFi w.2.2.2.2.2 X (em e (w :: Γ) (X ++ skk Γ) 28 0 0 none st)) := gst_fin hk (fun _ z => z) X _
      generalize em e (w :: Γ) (X ++ skk Γ) 28 0 0 none st = s1' at *
      have hA2 := X2.A190
      have h92 : gr M2 29 9 = p := by
        have := xAr_hd X2.1.2.2.1
        have q := xAr_hd h.1.2.2.1
        rw [nB_9] at q
        rw [this, q]
      -- the state with u arounds in use
      have V2 : xSt (nB M2 p u) e (w :: Γ) l bs ps ρ A u (m + 1) s1' := xSt_dn X2 h.2.2.2.2.2.1 inj nB_fr (by rw [nB_9, h92]) nB_11 (by omega)
      have gM2 : ∀ x k, 190 ≤ x → gi (nB M2 p u) x k = gi M2 x k ∧ gr (nB M2 p u) x k = gr M2 x k := nB_fr.p9g
      obtain ⟨i', bo', l'', β', bs'', pp', ps'', e1', e2', ⟨hi', hb', hch', hl''⟩, hsh', cut2, back2⟩ := xSt_cut V2
      have el : bo = bo' ∧ l' = l'' := by
        rcases hsh' with ⟨_, z', _⟩ | ⟨z', _⟩
        · rw [zl] at z'; exact ⟨(List.cons.inj z').1, (List.cons.inj z').2⟩
        · exact absurd z' z4
      obtain ⟨rfl, rfl⟩ := el
      have eb' : bs' = bs'' ∧ pp = pp' ∧ ps' = ps'' := by
        rw [e1] at e1'; rw [e2] at e2'
        exact ⟨(List.cons.inj e1').2, (List.cons.inj e2').1, (List.cons.inj e2').2⟩
      obtain ⟨rfl, rfl, rfl⟩ := eb'
      have p42 : gr (nB M2 p u) bo 4 = gr M2 bo 4 := (gM2 bo 4 bb.1).2
      have hz2 := X2.2.2.2.2.1
      have F2 := f2.stF (B := B) (C := CC) (ρ := ρ) hz1
      have s2 := sep_cd s1 f2 hz1
      have a2 := a1.tr (F2.agS s1)
      have B2 := B1.tr (F2.agB s1)
      have F12' := F2.f12.trans F12
      have R2 : rm CC u l M ρ A T M2 ρ A T 0 := R1.tr (rm_cd X1.2.1 f2 hz1 (Nat.le_refl _)) hlz (Nat.le_refl _) (Nat.le_refl _)
      have n7 : gi M2 29 7 = nI (m + 1) := X2.1.2.1.1
      -- the rest of the walk, from a memory M6 in which v6 arounds are in use
      have go6 : ∀ (M6 : zM) (ρ6 : Nat → Nat) (A6 : List Nat) (m6 T6 v6 : Nat) (s6 : gS), xSt (nB M6 (gr M2 bo 4) u) e Γ l' bs' ps' ρ6 A6 u m6 s6 → sep S B M6 ρ6 → stF B CC M2 M6 ρ ρ6 → rm CC u l' M2 ρ A T M6 ρ6 A6 T6 (v + Dk) → gi M6 29 11 = nI v6 → (v ≤ v6 ∧ v6 ≤ v + 1 ∧ v6 ≤ A6.length) → gst (mkP Γ) s1' s6 → (m + 1 ≤ m6 ∧ T ≤ T6 ∧ T6 ≤ m6 ∧ (600 < m + 1 → m6 = m + 1 ∧ T6 = T) ∧ (m + 1 ≤ 600 → m6 ≤ 600 + Nk ∧ T6 ≤ 600 + Kk)) → gRet e (w :: Γ) X st = gRet e Γ X s6 → Z E YX3_goBack (d + 1 + 1) M6 [(0, C29), (1, vr r1), (2, vi (nI X.length)), (3, vi (nI u)), (4, vr (some (bo, 17, 0)))] 112 [] Q := by
        intro M6 ρ6 A6 m6 T6 v6 s6 Y6 s6' F6 r6 h116 hv6 g6 sz6 hgo
        have cw6 : cw M6 := nB_fr.p9s.cw p9_cw Y6.1.1
        refine sX3_goBack_112 M6 _ _ _ bo cw6 ?_
        -- its outer is as it was
        have e4 : gr M6 bo 4 = gr M2 bo 4 := by
          obtain ⟨-, ⟨q1, q2, q3⟩, q4, -⟩ := r6
          refine (q4 bo (by rw [f2.1.1]; exact Nat.lt_of_lt_of_le bb.2.1 F1.1.1) (by omega) (fun z => ?_) 4).2
          have ex : (ρ bo - 1) / 5 = i := by omega
          rw [ex] at z
          rcases z with z | ⟨b, y1, y2⟩
          · omega
          · obtain ⟨i2, y3, y4⟩ := xCh_mem Γ i l' bs' ps' hch b y1
            have := (hA i2 b y4).2.2
            omega
        rw [e4]
        refine ih ps' (Dk - 1) v6 M6 (gr M2 bo 4) l' bs' ρ6 A6 m6 T6 s6 X gG2 kΓ (a2.tr (F6.agS s2)) (B2.tr (F6.agB s2)) (F6.f12.trans F12') s6' Y6 h116 ⟨by omega, hv6.2.2⟩ hX (by omega) (by omega) (by omega) (by omega) (by omega) sz6.2.2.1 (fun M' ρ' A' m' T' Y se F sz r c => ?_)
        have fN : fr p9 (nB M' (gr M2 bo 4) u) (nB M' p u) := nB_fr.p9s.tr nB_fr
        have fNl : fr loP (nB M' (gr M2 bo 4) u) (nB M' p u) := fN.mono fun _ _ z => .inr z
        have hzN := Y.2.2.2.2.1
        have fV : fr loP (nB M2 p u) M2 := nB_fr.p9s.mono fun _ _ z => .inr z
        have hlz2 : ∀ b ∈ l', b < zsz M2 := fun b hb => V2.lz b (hl' b hb)
        have r0 : rm CC u l' (nB M2 p u) ρ A T M2 ρ A T 0 := rm_lo V2.2.1 fV hz2 (Nat.le_refl _)
        have rr := r6.tr r hlz2 (V'' := v + Dk) (Nat.le_refl _) (by omega)
        have rr' := r0.tr rr hlz2 (V'' := v + Dk) (Nat.zero_le _) (Nat.le_refl _)
        rw [← hgo] at Y
        have Y' := back2 CC _ (nB M' p u) ρ' A' u m' T T' _ _ Y rr' (by rw [hgo]; exact g6.tr (gst_Ret e Γ _ s6 kΓ)) (by unfold szs at sz; omega) fN (by rw [nB_9, p42]) (by rw [nB_9, nB_9]) nB_11
        refine hQ M' ρ' A' m' T' Y' (sep_lo se fNl hzN) ((((F1.tr F2).tr F6).tr F).tr (stL_of fNl hzN)) (by rw [eln]; unfold szs at *; omega) ?_ c
        exact (R2.tr (rr.up hl') hlz (V'' := v + Dk) (Nat.zero_le _) (Nat.le_refl _)).tr (rm_lo (V := 0) Y.2.1 fNl hzN (Nat.le_refl _)) hlz (Nat.le_refl _) (Nat.zero_le _)
      refine sX3_goBack_63 M2 _ _ _ bo _ X2.1.1 ?_
      have fM3 : fr p9 M2 (sr M2 29 9 (gr M2 bo 4)) := fr.sr ⟨rfl, .inl rfl⟩
      have fM3l : fr loP M2 (sr M2 29 9 (gr M2 bo 4)) := fM3.mono fun _ _ z => .inr z
      rw [(fM3.2 bo 6 (by unfold p9; omega)).2.2]
      have F3 := stL_of fM3l (B := B) (C := CC) (ρ := ρ) hz2
      have s3 := sep_lo s2 fM3l hz2
      have h119 : gi (sr M2 29 9 (gr M2 bo 4)) 29 11 = nI v := X2.2.2.1
      have r9 : gr (sr M2 29 9 (gr M2 bo 4)) 29 9 = gr M2 bo 4 := by simp only [gr_sr]; simp
      have V3 : xSt (nB (sr M2 29 9 (gr M2 bo 4)) (gr M2 bo 4) u) e Γ l' bs' ps' ρ A u (m + 1) s1' := cut2 _ ((nB_fr.p9s.tr fM3).tr nB_fr) (by rw [nB_9, p42]) nB_11
      have R3 : rm CC u l' M2 ρ A T (sr M2 29 9 (gr M2 bo 4)) ρ A T 0 := rm_lo X2.2.1 fM3l hz2 (Nat.le_refl _)
      have n73 : gi (sr M2 29 9 (gr M2 bo 4)) 29 7 = nI (m + 1) := n7
      have z63 : zsz (sr M2 29 9 (gr M2 bo 4)) = zsz M2 := rfl
      have g63 : gr (sr M2 29 9 (gr M2 bo 4)) bo 6 = gr M2 bo 6 := (fM3.2 bo 6 (by unfold p9; omega)).2.2
      obtain ⟨l6, l6'⟩ : gr M2 bo 6 = pp ∧ (pp = none ↔ w.2.2.2.2.2 = none) := by
        rcases hsh' with ⟨_, _, _, _, z, _⟩ | ⟨z, _⟩
        · exact ⟨(gM2 bo 6 bb.1).2.symm.trans (z h2).1, (z h2).2⟩
        · exact absurd z z4
      generalize sr M2 29 9 (gr M2 bo 4) = M3 at *
      have go112 : ∀ s6, gst (mkP Γ) s1' s6 → xSt (nB M3 (gr M2 bo 4) u) e Γ l' bs' ps' ρ A u (m + 1) s6 → gRet e (w :: Γ) X st = gRet e Γ X s6 → Z E YX3_goBack (d + 1 + 1) M3 [(0, C29), (1, vr r1), (2, vi (nI X.length)), (3, vi (nI u)), (4, vr (some (bo, 17, 0)))] 112 [] Q := fun s6 g6 Y6 hgo =>
        go6 M3 ρ A (m + 1) T v s6 Y6 s3 F3 (R3.mono (Nat.zero_le _)) h119 ⟨Nat.le_refl _, Nat.le_succ _, hv.2⟩ g6 ⟨Nat.le_refl _, Nat.le_refl _, by omega, fun _ => ⟨rfl, rfl⟩, fun _ => by omega⟩ hgo
      rw [l6]
      cases hp : pp with
      | none =>
        rw [if_pos rfl]
        rw [l6'.mp hp] at g28
        exact go112 s1' (gst.rf _) V3 g28
      | some q =>
        rw [if_neg (fun z => by cases z), n7]
        obtain ⟨φ, hφ⟩ : ∃ φ, w.2.2.2.2.2 = some φ := by
          cases hx : w.2.2.2.2.2 with
          | none => rw [l6'.mpr hx] at hp; cases hp
          | some φ => exact ⟨φ, rfl⟩
        rw [hφ] at g28 gF
        by_cases h6 : m + 1 ≤ 600
        rotate_left
        · rw [if_neg (show ¬ nI (m + 1) ≤ (600 : Int32) from nI_ge (b := m + 1) (a := 600) (by omega) (by omega))]
          exact go112 _ gF (xSt_ov V3 (by omega) gF) g28
        · rw [if_pos (show nI (m + 1) ≤ (600 : Int32) from nI_le (b := 600) h6 (by decide))]
          obtain ⟨q', y1, y2⟩ := gG3 φ hφ
          have eq' : q' = q := by rw [hp] at y1; exact (Option.some.inj (Option.some.inj y1)).symm
          subst eq'
          have W := y2 X
          rw [if_neg hX, show vaK X Γ = vaW X :: Γ from if_neg hX] at W
          -- the state at M3, with v arounds in use
          have X3 : xSt M3 e Γ l' bs' ps' ρ A v (m + 1) (s1'.1, s1'.2.1, s1'.2.2.1, s1'.2.2.2.1, s1'.lev + 1, max s1'.mx (s1'.lev + 1)) := xSt_lev (xSt_lo V3 nB_fr.p9s (by rw [nB_9, r9]) h119 hv) rfl rfl rfl rfl
          have hz3 := X3.2.2.2.2.1
          have a3 := a2.tr (F3.agS s2)
          have B3 := B2.tr (F3.agB s2)
          have F123 := F3.f12.trans F12'
          obtain ⟨d, rfl⟩ : ∃ d', d = d' + 6 := ⟨d - 6, by omega⟩
          refine y_enter (d := d) X3.1.1 X3.2.1 X3.2.2.1 X3.2.2.2.1.1 (by have := X3.2.2.2.1.2; omega) hz3 (fun M4 ρ4 A4 a he => ?_)
          have eF := en_stF (C := CC) he s3 hz3 X3.2.1
          have eR := en_rm (C := CC) (l := l') (m := T) he X3.2.1 (by omega)
          obtain ⟨-, pA, pE, pL, pf, -, -, -, -, pfg, -⟩ := id he
          show Z E YX3_goBack (d + 6 + 1 + 1) M4 [(0, C29), (1, vr r1), (2, vi (nI X.length)), (3, vi (nI u)), (4, vr (some (bo, 17, 0)))] 99 [vr (some (a, 17, 0))] Q
          have ba : 190 ≤ a := by
            obtain ⟨_, _, _, _, ⟨t1, -⟩, -⟩ := he.1.2.2.2 v a pA
            exact (he.1.1 a (by omega)).1
          refine sX3_goBack_99 M4 _ _ _ bo _ he.2.2.2.2.2.2.2.2.1 ⟨a, rfl, by omega, ?_⟩
          -- the finally's node
          have bo6 : gr M4 bo 6 = some q' := by
            refine (((eR.2.2.1 bo (by rw [z63, f2.1.1]; exact Nat.lt_of_lt_of_le bb.2.1 F1.1.1) (by omega) (fun z => ?_) 6).2.trans g63).trans l6).trans hp
            have ex : (ρ bo - 1) / 5 = i := by omega
            rw [ex] at z
            rcases z with z | ⟨b, t1, t2⟩
            · omega
            · obtain ⟨i2, t3, t4⟩ := xCh_mem Γ i l' bs' ps' hch b t1
              have := (hA i2 b t4).2.2
              omega
          rw [bo6]
          have f5 : fr (fun x k => x = a ∧ k = 8) M4 (si M4 a 8 (nI X.length)) := fr.si ⟨rfl, rfl⟩
          have f53 : fr (fun x k => x = a ∧ 3 ≤ k) M4 (si M4 a 8 (nI X.length)) := f5.mono fun x k z => ⟨z.1, by omega⟩
          obtain ⟨X5, ra⟩ := va_xSt (X := X) X3 he rfl f5 (by rw [gi_self]) (by omega) hf a3 F123 s3 (by omega)
          obtain ⟨F5, s5'⟩ := stF_fld (S := S) (B := B) (C := CC) (ρ := ρ4) f53 (by omega) ba
          have s5 := s5' eF.2
          have zA4 : ∀ b ∈ l', b < zsz M3 := X3.lz
          have R5 : rm CC v l' M3 ρ A T (si M4 a 8 (nI X.length)) ρ4 A4 T (v + 1) := eR.tr (rm_fld (V := 0) he.1 f53 ra (.inl (Nat.le_refl _)) (by omega)) zA4 (Nat.le_refl _) (Nat.zero_le _)
          have F35 := (eF.1.tr F5)
          generalize si M4 a 8 (nI X.length) = M5 at *
          refine y_ndS W (a3.tr (F35.agS s3)) (B3.tr (F35.agB s3)) (F35.f12.trans F123) s5 X5 (by omega) (by omega) (by show (X ++ skk Γ).length + _ ≤ _; rw [List.length_append]; omega) (by omega) (by omega) (T := T) (by omega) (fun M6 ρ6 A6 m6 T6 X6 s6 F6 sz r6 => ?_)
          show Z E YX3_goBack (d + 6 + 1 + 1) M6 [(0, C29), (1, vr r1), (2, vi (nI X.length)), (3, vi (nI u)), (4, vr (some (bo, 17, 0)))] 112 [] Q
          obtain ⟨ic, bc, lc, βc, bsc, pc, psc, c1', c2', ⟨hic, hbc, hchc, hlc⟩, hshc, cutc, -⟩ := xSt_cut X6
          have ec : a = bc ∧ l' = lc ∧ bs' = bsc ∧ ps' = psc := by
            rcases hshc with ⟨_, z', _⟩ | ⟨z', _⟩
            · exact ⟨(List.cons.inj z').1, (List.cons.inj z').2, (List.cons.inj c1').2, (List.cons.inj c2').2⟩
            · exact absurd z' (show ¬ (3 : Nat) = 4 by decide)
          obtain ⟨rfl, rfl, rfl, rfl⟩ := ec
          have hA6 := X6.A190
          have zM3 : zsz M3 ≤ zsz M5 := F35.1.1
          have X6g : xSt (sr M6 29 9 (gr M6 a 4)) e Γ l' bs' ps' ρ6 A6 (v + 1) m6 (φ X (s1'.1, s1'.2.1, s1'.2.2.1, s1'.2.2.2.1, s1'.lev + 1, max s1'.mx (s1'.lev + 1))) := cutc _ (fr.sr ⟨rfl, .inl rfl⟩) (by simp only [gr_sr]; simp) X6.2.2.1
          have e94 : gr M6 a 4 = gr M2 bo 4 := by
            have q1 := xAr_hd X6g.1.2.2.1
            have q2 := xAr_hd V3.1.2.2.1
            rw [nB_9] at q2
            rw [show gr (sr M6 29 9 (gr M6 a 4)) 29 9 = gr M6 a 4 by simp only [gr_sr]; simp] at q1
            rw [q1, q2]
          have inj6 : ∀ i j x : Nat, A[i]? = some x → A6[j]? = some x → i = j := fun i j x z1 z2 => by
            have t1 := hA i x z1
            have t2 := hA6 j x z2
            have t3 := F6.1.2.2 x (by have : zsz M3 = zsz M := by rw [z63, f2.1.1]; exact fM.1.1
                                      have := t1.2.1
                                      have h0 : zsz (nB M p u) = zsz M := rfl
                                      omega)
            have t4 := F35.1.2.2 x (by have : zsz M3 = zsz M := by rw [z63, f2.1.1]; exact fM.1.1
                                       have := t1.2.1
                                       have h0 : zsz (nB M p u) = zsz M := rfl
                                       omega)
            omega
          have Y6 : xSt (nB M6 (gr M2 bo 4) u) e Γ l' bs' ps' ρ6 A6 u m6 (gFi (some φ) X s1') := by
            refine xSt_lev (xSt_dn X6g V3.2.2.2.2.2.1 inj6 ((fr.sr ⟨rfl, .inl rfl⟩ : fr p9 M6 (sr M6 29 9 (gr M6 a 4))).p9s.tr nB_fr) (by rw [nB_9, ← e94]; simp only [gr_sr]; simp) nB_11 (by have := X6.2.2.2.1.1; omega)) rfl rfl rfl rfl
          refine go6 M6 ρ6 A6 m6 T6 (v + 1) _ Y6 s6 ((F3.tr F35).tr F6) ?_ X6.2.2.1 ⟨Nat.le_succ _, Nat.le_refl _, X6.2.2.2.1.1⟩ gF (by unfold szs at sz; omega) g28
          have r6' : rm CC v l' M5 ρ4 A4 T M6 ρ6 A6 T6 (v + Dk) := (r6.dn ra).mono (by omega)
          exact (R3.tr ((R5.tr r6' zA4 (V'' := v + Dk) (by omega) (Nat.le_refl _)).dn2 hv.1) (fun b hb => V2.lz b (hl' b hb)) (Nat.zero_le _) (Nat.le_refl _))
    · rw [nB_9] at z9
      have b2a := hA _ b2 zi.2
      rw [z9, if_neg (fun z => by cases z)]
      refine ⟨b2, rfl, ?_⟩
      rw [show gi M b2 3 = 3 from (gM b2 3 b2a.1).1.symm.trans v2, if_pos rfl, if_neg (by decide), show gi M b2 8 = nI 1 from (gM b2 8 b2a.1).1.symm.trans v3, nI_add, show gr M b2 4 = some (bo, 17, 0) from (gM b2 4 b2a.1).2.symm.trans v1]
      refine iX3_goBack_15 M _ _ _ _ cw0 ?_
      rw [if_neg (fun z => by cases z)]
      refine ⟨bo, rfl, ?_⟩
      rw [show gi M bo 3 = 0 from (gM bo 3 bb.1).1.symm.trans v6, if_neg (by decide), if_neg (by decide)]
      have := past (by omega)
      rw [hwk.2.1 z4, List.length_append] at this
      exact this
theorem xs_Return {M : zM} {C : Nat → Prop} {c : Nat × Nat} {De b ox : Nat} {x : gEx} (hb : S b) (h1 : (gr M b 0 = none ∧ x = gCo 0 0) ∨ ∃ p1, gr M b 0 = some p1 ∧ xE S M De p1 x ∧ gok x) (hox : gle ox x) (ho1 : 1 ≤ ox) (hDe : De ≤ 350) (hS : ∀ a, S a → 190 ≤ a) : xNd S B M c C 2 (ox + 2001) (ox + 2001) 0 0 (b, 41, 0) (gBk x) := by
  intro e fc Γ ps Dk Nk Kk Ck CC hf hG hCC hk hcx
  refine ⟨rfl, (show 20 ≤ 41 ∧ 41 < 45 by decide), _, rfl, fun E d Q M1 l bs ρ A u m T st ha hB hF hs h hd hu hsk hm hN hT hQ => ?_⟩
  obtain ⟨d, rfl⟩ : ∃ d', d = d' + 3 := ⟨d - 3, by omega⟩
  have hl := hG.len
  have hz := h.2.2.2.2.1
  have lo := hox e Γ (skk Γ) st
  -- goBack
  have bk : ∀ (M2 : zM) (m2 : Nat), xSt M2 e Γ l bs ps ρ A u m2 (x e Γ (skk Γ) st) → fr cdP M1 M2 → m ≤ m2 → m2 ≤ m + ox → Z E YX3_goBack (d + 1 + 1) M2 [(0, C29)] 0 [] (zafter E YX36_code (d + 2 + 1) [] 27 3 [] Q) := by
    intro M2 m2 X2 f2 q1 q2
    have F2 := f2.stF (B := B) (C := CC) (ρ := ρ) hz
    refine sX3_goBack_0 M2 X2.1.1 ?_
    rw [X2.2.2.1]
    have hz2 := X2.2.2.2.2.1
    have V : xSt (nB M2 (gr M2 29 9) u) e Γ l bs ps ρ A u m2 (x e Γ (skk Γ) st) := xSt_lo X2 nB_fr nB_9 nB_11 ⟨Nat.le_refl _, X2.2.2.2.1.1⟩
    refine y_bkW (CC := CC) (Nk := Nk) (Kk := Kk) hf hS Γ ps Dk u M2 (gr M2 29 9) l bs ρ A m2 T _ [false] (hG.mono hCC.2.1 (Nat.le_refl _) (Nat.le_refl _) (Nat.le_refl _)) hk (ha.tr (F2.agS hs)) (hB.tr (F2.agB hs)) (F2.f12.trans hF) (sep_cd hs f2 hz) V X2.2.2.1 ⟨Nat.le_refl _, X2.2.2.2.1.1⟩ (fun z => by cases z) (by omega) (by omega) (by show 1 + (skk Γ).length + Dk ≤ 2001; omega) (by omega) (by omega) (by omega) (fun M' ρ' A' m' T' Y se F sz r c => ?_)
    refine sX3_goBack_135 M' _ _ _ c ?_
    show Z E YX36_code (d + 2 + 1) (nB M' (gr M2 29 9) u) [] 30 [] Q
    refine sX36_code_30 _ ?_
    exact hQ _ ρ' A' m' T' Y se (F2.tr F) (by unfold szs at *; omega) (((rm_cd (V := 0) h.2.1 f2 hz (Nat.le_refl _)).tr r h.lz (Nat.zero_le _) (Nat.le_refl _)).mono (by omega))
  refine sX36_code_0 M1 b _ ?_
  rw [(ha b 0 hb).2]
  rcases h1 with ⟨z1, z2⟩ | ⟨p1, z1, z2, z3⟩
  · rw [z1, if_pos rfl]
    refine ⟨29, rfl, ?_⟩
    refine y_puS (L := skk Γ) h (by omega) rfl rfl (fun M2 X2 f2 => ?_)
    show Z E YX36_code (d + 2 + 1) M2 [(1, C29)] 14 [vi (nI m)] Q
    refine iX36_code_14 M2 29 _ ?_
    exact bk M2 (m + 1) (by rw [z2]; exact X2) f2 (by omega) (by omega)
  · rw [z1, if_neg (fun z => by cases z)]
    have gl := (z3 e Γ (skk Γ) st).len
    refine y_exS (L := skk Γ) z2 z3 ha h (by omega) (by omega) (fun M2 X2 f2 => ?_)
    show Z E YX36_code (d + 2 + 1) M2 [(1, C29)] 26 [] Q
    refine sX36_code_26 M2 _ ⟨29, rfl, ?_⟩
    exact bk M2 _ X2 f2 (by omega) (by omega)
end
