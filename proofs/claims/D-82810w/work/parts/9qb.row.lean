/-! THE COMPONENT's PARSER: binary -/
section
variable {E : zE} {pp a lf n : Nat} {c : Nat → Int32} {dg : Int32 → List Int32} {K o : Nat}
theorem gRow_app (r : List (Int32 × gEx)) (x y : gEx) (h : Int32) : gRow (r ++ [(h, y)]) x = gBin h (gRow r x) y := by
  unfold gRow; rw [List.foldl_append]; rfl
/-- Row.add -/
theorem y_radd {d : Nat} {Q : zO → zM → Prop} {M0 M : zM} {τ0 τ : Nat → Nat} {fs0 fs : List Nat} {s0 s : pS} {c0 : Nat} {C : pC} {Zb Ub b l sb sm k : Nat} {es : List (Option zP)} {p : zP} {sg : Int32} (hR : rn pp a lf n c M0 τ0 fs0 s0 c0 C o M τ fs s Zb Ub) (hW : wL (zsz M0) M τ l es) (hn : es.length = k + 1 ∧ k < 80000) (hx : zsto 6 p.2.1)
    (hb : zsz M0 ≤ b ∧ b < zsz M ∧ τ b = 1 ∧ b ≠ l ∧ b ≠ lA M l) (g0 : gr M b 0 = some (l, 11, 0)) (g1 : gr M b 1 = some (sb, 100, sm)) (hs : zsz M0 ≤ sb ∧ sb < zsz M ∧ τ sb = 1 ∧ sb ≠ b ∧ sb ≠ l ∧ sb ≠ lA M l) (hm : k ≤ sm ∧ 8 ≤ sm ∧ sm ≤ 16 + 2 * k)
    (hQ : ∀ M' τ' w sb' sm', rn pp a lf n c M0 τ0 fs0 s0 c0 C o M' τ' fs s (Zb + 2) (Ub + w) → wL (zsz M0) M' τ' l (es ++ [some p]) → mvr τ M τ' M' → (zsz M0 ≤ b ∧ b < zsz M' ∧ τ' b = 1 ∧ b ≠ l ∧ b ≠ lA M' l) → gr M' b 0 = some (l, 11, 0) → gr M' b 1 = some (sb', 100, sm') → (zsz M0 ≤ sb' ∧ sb' < zsz M' ∧ τ' sb' = 1 ∧ sb' ≠ b ∧ sb' ≠ l ∧ sb' ≠ lA M' l) → (k + 1 ≤ sm' ∧ 8 ≤ sm' ∧ sm' ≤ 16 + 2 * (k + 1)) → (∀ j, j < k → gi M' sb' j = gi M sb j) → gi M' sb' k = sg → w + 4 * lC M l + 2 * sm = 4 * lC M' l + 2 * sm' → Q (.inl none) M') : Z E YX30_add (d + 7) M [(0, vr (some (b, 35, 0))), (1, vi sg), (2, vr (some p))] 0 [] Q := by
  have z190 := hR.2.1.1
  have zm := hR.2.1.2.1.1.1
  have e2 : gi M l 2 = nI (k + 1) := by rw [hW.1.2.1, hn.1]
  have lz := hW.1.1.2
  -- behind the signs
  have fin : ∀ (M1 : zM) (sb' sm' v w1 : Nat), fg (fun x _ => zsz M0 ≤ x ∧ τ x = 1) M M1 → fg (fun x k => x = sb ∧ True ∨ x = b ∧ k = 1) M M1 → gr M1 b 0 = some (l, 11, 0) → gr M1 b 1 = some (sb', 100, sm') → (sb' = sb ∨ zsz M ≤ sb' ∧ sb' < zsz M1) → (k + 1 ≤ sm' ∧ 8 ≤ sm' ∧ sm' ≤ 16 + 2 * (k + 1)) → (∀ j, j < k → gi M1 sb' j = gi M sb j) → gi M1 sb' k = sg → zsz M1 ≤ zsz M + 1 → zsu M1 ≤ zsu M + w1 → w1 + 2 * sm = 2 * sm' → Z E YJ2_add (d + 6) M1 (zargs 0 [vr (some (l, 11, 0)), vr (some p)]) 0 [] (zafter E YX30_add (d + 6 + 1) [] 64 3 [] Q) := fun M1 sb' sm' v w1 f1 f1' q0 q1 q2 q3 q4 q5 q6 q7 q8 => by
    obtain ⟨τ1, R1, ag1, on1, m1⟩ := hR.lc1 (v := 1) (w := w1) f1 q6 q7
    have z1 := f1.1.1
    have W1 : wL (zsz M0) M1 τ1 l es ∧ lA M1 l = lA M l ∧ lC M1 l = lC M l := by
      have nl : ∀ k, ¬ (l = sb ∧ True ∨ l = b ∧ k = 1) := fun k y => by
        have := hs.2.2.2.2.1
        have := hb.2.2.2.1
        omega
      have la := lA_fg lz f1' (nl 1)
      refine ⟨⟨xLs_fg hW.1 f1' nl (fun k => ?_), ⟨hW.2.1.1, (ag1 l lz).trans hW.2.1.2⟩, fun z => ?_⟩, la⟩
      · by_cases y : lA M l < 16
        · exact .inl y
        · refine .inr fun y => ?_
          have := hs.2.2.2.2.2
          have := hb.2.2.2.2
          omega
      · rw [la.1] at z ⊢
        have := hW.2.2 z
        refine ⟨this.1, (ag1 _ ?_).trans this.2⟩
        rcases hW.1.2.2.2.2 with ⟨e, -⟩ | ⟨b', m', e, e2, -⟩
        · unfold lA at z; rw [e] at z; exact absurd z (by decide)
        · unfold lA; rw [e]; exact e2.2.1
    have hs1 : zsz M0 ≤ sb' ∧ sb' < zsz M1 ∧ τ1 sb' = 1 ∧ sb' ≠ b ∧ sb' ≠ l ∧ sb' ≠ lA M1 l := by
      rw [W1.2.1]
      rcases q2 with y | y
      · rw [y]; exact ⟨hs.1, by omega, (ag1 sb hs.2.1).trans hs.2.2.1, hs.2.2.2.1, hs.2.2.2.2.1, hs.2.2.2.2.2⟩
      · refine ⟨by omega, y.2, on1 _ y.1 y.2, by omega, by omega, ?_⟩
        have : lA M l < zsz M := by
          rcases hW.1.2.2.2.2 with ⟨e, -⟩ | ⟨b', m', e, e2, -⟩
          · unfold lA; rw [e]; show 1 < zsz M; omega
          · unfold lA; rw [e]; exact e2.2.1
        omega
    refine y_ladd (d := d) R1 W1.1 (by omega) hx (fun M2 τ2 w2 R2 W2 m2 ag2 f2 lw la => ?_)
    show Z E YX30_add (d + 6 + 1) M2 [] 67 [vi 1] Q
    refine sX30_add_67 M2 _ ?_
    have z2 := f2.1.1
    have nb : b ≠ lA M1 l := by rw [W1.2.1]; exact hb.2.2.2.2
    have la2 : ∀ x, x < zsz M1 → x ≠ lA M1 l → x ≠ lA M2 l := fun x h1 h2 => by
      rcases la with y | y
      · rw [y]; exact h2
      · omega
    have e : Ub + w1 + w2 = Ub + (w1 + w2) := by omega
    rw [e] at R2
    refine hQ M2 τ2 (w1 + w2) sb' sm' R2 W2 (m1.tr m2) ⟨hb.1, by omega, (ag2 b (by omega)).trans ((ag1 b hb.2.1).trans hb.2.2.1), hb.2.2.2.1, la2 b (by omega) nb⟩ ((f2.gr (by omega) (nl_P hb.2.2.2.1 nb)).trans q0) ((f2.gr (by omega) (nl_P hb.2.2.2.1 nb)).trans q1) ⟨hs1.1, by omega, (ag2 sb' hs1.2.1).trans hs1.2.2.1, hs1.2.2.2.1, hs1.2.2.2.2.1, la2 sb' hs1.2.1 hs1.2.2.2.2.2⟩ q3 (fun j hj => (f2.gi hs1.2.1 (nl_P hs1.2.2.2.2.1 hs1.2.2.2.2.2)).trans (q4 j hj)) ((f2.gi hs1.2.1 (nl_P hs1.2.2.2.2.1 hs1.2.2.2.2.2)).trans q5) (by rw [W1.2.2] at lw; omega)
  refine iX30_add_0 (d := d + 6) M b _ _ ⟨l, g0, sb, sm, g1, ?_⟩
  rw [e2, show nI (k + 1) - 1 = nI k from nn_sub (a := k + 1) (b := 1) (by omega)]
  by_cases hf : k + 1 ≤ sm
  · rw [if_pos (show nI (k + 1) ≤ Int32.ofNat sm from nI_le hf (by omega)), nI_clamp (by omega)]
    refine ⟨by omega, nI_in (by omega) (by omega), ?_⟩
    refine fin (si M sb k sg) sb sm 0 0 ((fr.si ⟨hs.1, hs.2.2.1⟩).fg) ((fr.si (.inl ⟨rfl, trivial⟩)).fg) ?_ g1 (.inl rfl) ⟨hf, hm.2.1, by omega⟩ (fun j hj => gi_idx (by omega)) (gi_self _ _ _ _) (by show zsz M ≤ _; omega) (Nat.le_refl _) (by omega)
    exact g0
  · have ek : k = sm := by omega
    rw [if_neg (show ¬ nI (k + 1) ≤ Int32.ofNat sm from nI_ge (by omega) (by omega)), show (2 : Int32) * Int32.ofNat sm = nI (2 * sm) from nn_mul 2 sm, nI_clamp (show 2 * sm < 2 ^ 31 by omega), show ((0 : Int32)).toNatClampNeg = 0 from rfl]
    refine ⟨⟨nI_nlt (b := 0) (Nat.zero_le _) (by omega), by omega⟩, sb, sm, ?_, by omega, by omega, ?_⟩
    · rw [gr_zn, if_neg (by omega)]; exact g1
    rw [show (Int32.ofNat sm).toNatClampNeg = sm from nI_clamp (by omega)]
    have hM1 : ∀ z, z ≠ zsz M → ∀ i, gi (cpi (zn M (2 * sm)) sb 0 (zsz M) 0 sm) z i = gi (zn M (2 * sm)) z i := fun z hz i => by
      show (if z = zsz M then _ else _) = _
      rw [if_neg hz]
    have hM2 : ∀ i, i < sm → gi (cpi (zn M (2 * sm)) sb 0 (zsz M) 0 sm) (zsz M) i = gi M sb i := fun i hi => by
      show (if zsz M = zsz M then va_cpy _ _ 0 0 sm i else _) = _
      rw [if_pos rfl]
      unfold va_cpy
      rw [if_pos (by omega), show 0 + (i - 0) = i by omega, gi_zn, if_neg (by omega)]
    have fC : fg (fun x k => False) M (cpi (zn M (2 * sm)) sb 0 (zsz M) 0 sm) := (fg.zn (n := 2 * sm)).tr2 ⟨⟨Nat.le_refl _, Nat.le_refl _⟩, fun z i _ q => ⟨hM1 z (fun z' => q (.inr (Nat.le_of_eq z'.symm))) i, rfl, rfl⟩⟩
    have sC : zsz (cpi (zn M (2 * sm)) sb 0 (zsz M) 0 sm) = zsz M + 1 := rfl
    have uC : zsu (cpi (zn M (2 * sm)) sb 0 (zsz M) 0 sm) = zsu M + 2 * sm := rfl
    have gC : ∀ k, gr (cpi (zn M (2 * sm)) sb 0 (zsz M) 0 sm) b k = gr M b k := fun k => fC.gr (by omega) (fun z => z)
    refine ⟨⟨⟨by decide, by decide, nI_nlt (b := 0) (Nat.zero_le _) (by omega)⟩, by omega, by omega⟩, by omega, zsz M, 2 * sm, ?_, by omega, nI_in (by omega) (by omega), l, ?_, ?_⟩
    · rw [gr_sr, if_pos rfl, if_pos rfl]
    · rw [gr_sr, if_pos rfl, if_neg (by decide), gC]; exact g0
    rw [nI_clamp (by omega)]
    generalize cpi (zn M (2 * sm)) sb 0 (zsz M) 0 sm = M1 at *
    have zz := fC.1.1
    have fa : fg (fun x _ => zsz M0 ≤ x ∧ τ x = 1) M (si (sr M1 b 1 (some (zsz M, 100, 2 * sm))) (zsz M) k sg) := (fC.mono fun _ _ _ z => z.elim).tr2 ((fr.sr (.inl ⟨hb.1, hb.2.2.1⟩)).tr (fr.si (.inr (Nat.le_refl _)))).fg
    have fb : fg (fun x k => x = sb ∧ True ∨ x = b ∧ k = 1) M (si (sr M1 b 1 (some (zsz M, 100, 2 * sm))) (zsz M) k sg) := (fC.mono fun _ _ _ z => z.elim).tr2 ((fr.sr (.inl (.inr ⟨rfl, rfl⟩))).tr (fr.si (.inr (Nat.le_refl _)))).fg
    refine fin _ (zsz M) (2 * sm) 0 (2 * sm) fa fb ?_ ?_ (.inr ⟨Nat.le_refl _, by show zsz M < zsz M1; omega⟩) ⟨by omega, by omega, by omega⟩ (fun j hj => ?_) (gi_self _ _ _ _) (by show zsz M1 ≤ _; omega) (by show zsu M1 ≤ _; omega) (by omega)
    · show gr (sr M1 b 1 (some (zsz M, 100, 2 * sm))) b 0 = _
      rw [gr_sr, if_pos rfl, if_neg (by decide), gC]; exact g0
    · show gr (sr M1 b 1 (some (zsz M, 100, 2 * sm))) b 1 = _
      rw [gr_sr, if_pos rfl, if_pos rfl]
    · rw [gi_idx (by omega)]
      exact hM2 j (by omega)
end
