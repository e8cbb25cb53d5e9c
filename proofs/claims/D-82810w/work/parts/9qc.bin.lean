/-! THE COMPONENT's PARSER: binary, all signs -/
theorem ar_r {Ub PU s2 s s4 r w c2 c5 m2 m5 : Nat} (h : Ub + 200 + 500 * r ≤ PU + 400 * (s2 - s) + 5 + 4 * c2 + 2 * m2) (hw : w + 4 * c2 + 2 * m2 = 4 * c5 + 2 * m5) (h1 : s ≤ s2) (h2 : s2 + 1 < s4) : Ub + 400 * (s4 - (s2 + 1)) - 200 + w + 200 + 500 * (r + 1) ≤ PU + 400 * (s4 - s) + 5 + 4 * c5 + 2 * m5 := by omega
section
variable {E : zE} {pp a lf n : Nat} {c : Nat → Int32} {dg : Int32 → List Int32} {K o : Nat}
theorem y_row {ro : Option pT} {i : Bool} {lev k DB dB d : Nat} {Q : zO → zM → Prop} {M : zM} {τ : Nat → Nat} {fs : List Nat} {s : pS} {C : pC} (hB : cVm E pp a lf n c YX9_binary [(1, vi (nI lev + 1)), (2, vi (boI i))] dB o DB (fun C s => pBin (zOf n c dg) K ro i C k s)) (hr : okO ro) (hlv : 2 ≤ lev ∧ lev ≤ 9) (z190 : 190 ≤ zsz M) (hdB : dB ≤ d + 14) (h4 : 3 ≤ DB) {x0 : gEx} :
    ∀ (f : Nat) (M2 : zM) (τ2 : Nat → Nat) (fs2 : List Nat) (s2 : pS) (Zb Ub b l sb sm : Nat) (es : List (Option zP)) (r : List (Int32 × gEx)) (e : gV), 1300 ≤ f + s2.1 → e.1 = gRow r x0 → (e.2.1 = 0 ∧ r ≠ [] ∨ ∃ y, pStr (zOf n c dg) i s2 = some (lev, y)) →
      (∀ v s', pBlp (zOf n c dg) i lev (pBin (zOf n c dg) K ro i C k) f e s2 = .ok (v, s') → ∀ M' τ' fs' p, pEnd pp a lf n c 10 200 M τ fs s C o M' τ' fs' s' → vNd (zsz M) M' τ' (DB + 1) p v → Q (.inl (some (vr (some p)))) M') →
      (∀ w, pBlp (zOf n c dg) i lev (pBin (zOf n c dg) K ro i C k) f e s2 = .error w → ∀ ou M', pEr lf 10 200 τ fs M s w ou M' → Q ou M') →
      rn pp a lf n c M τ fs s C.1 C o M2 τ2 fs2 s2 Zb Ub → (zsz M ≤ b ∧ b < zsz M2 ∧ τ2 b = 1 ∧ b ≠ l ∧ b ≠ lA M2 l) → gr M2 b 0 = some (l, 11, 0) → gr M2 b 1 = some (sb, 100, sm) → (zsz M ≤ sb ∧ sb < zsz M2 ∧ τ2 sb = 1 ∧ sb ≠ b ∧ sb ≠ l ∧ sb ≠ lA M2 l) → (r.length ≤ sm ∧ 8 ≤ sm ∧ sm ≤ 16 + 2 * r.length) → (∀ (j : Nat) q, r[j]? = some q → gi M2 sb j = q.1 ∧ q.1.toInt16.toInt32 = q.1) → wL (zsz M) M2 τ2 l es → wE (zsz M) M2 τ2 DB es (x0 :: r.map (·.2)) →
      Zb + 10 + 12 * r.length ≤ zsz M + 20 * (s2.1 - s.1) + 4 → Ub + 200 + 500 * r.length ≤ pu M lf fs + 400 * (s2.1 - s.1) + 5 + 4 * lC M2 l + 2 * sm → Z E YX9_binary (d + 14 + 1) M2 [(0, vr (some (pp, 8, 0))), (1, vi (nI lev)), (2, vi (boI i)), (4, vr (some (b, 35, 0)))] 106 [] Q := by
  intro f
  induction f with
  | zero => intro M2 τ2 fs2 s2 Zb Ub b l sb sm es r e hf _ _ _ _ R2 _ _ _ _ _ _ _ _ _ _; have := R2.ps.tz.t_le; omega
  | succ f ih =>
    intro M2 τ2 fs2 s2 Zb Ub b l sb sm es r e hf he hk hy2 hn2 R2 hb hg hg1 hsb hsm hsg W We hZ hU
    have s02 := R2.av.1
    have pz := R2.ps.pz
    have az := R2.ps.az
    have lc := lC_le W.1
    have el := We.1
    rw [List.length_cons, List.length_map] at el
    refine sX9_binary_106 M2 pp _ _ _ ?_
    refine y_str (dg := dg) (i := i) R2.ps.tz R2.ps.pt ⟨pz.1, fun e => by rw [e] at pz; omega⟩ (fun M3 f3 g8 => ?_)
    have R3 := R2.sg f3
    have m23 : mvr τ2 M2 τ2 M3 := mvr_own R2.ps f3 (fun _ _ z => z.1)
    have nP : ∀ x k, 190 ≤ x → τ2 x = 1 → ¬ (x = pp ∧ k = 8) := fun x k _ h1 y => by rw [y.1] at h1; omega
    have W3 := W.k (τ' := τ2) z190 f3.fg nP (fun _ _ => rfl)
    have sz3 := f3.1.1
    have b190 : 190 ≤ b := by omega
    have sb190 : 190 ≤ sb := by omega
    have q0 := (f3.2 b 0 (nP b 0 b190 hb.2.2.1)).2.2.trans hg
    have q1 := (f3.2 b 1 (nP b 1 b190 hb.2.2.1)).2.2.trans hg1
    have qs : ∀ j, gi M3 sb j = gi M2 sb j := fun j => (f3.2 sb j (nP sb j sb190 hsb.2.2.1)).1
    show Z E YX9_binary (d + 14 + 1) M3 [(0, vr (some (pp, 8, 0))), (1, vi (nI lev)), (2, vi (boI i)), (4, vr (some (b, 35, 0)))] 111 [vi (stR (pStr (zOf n c dg) i s2))] Q
    refine sX9_binary_111 M3 pp _ _ b _ ?_
    have se := stR_eq (v := pStr (zOf n c dg) i s2) (l := lev) (by omega) (fun l' y e => (pStr_le e).1)
    by_cases hs : stR (pStr (zOf n c dg) i s2) = nI lev
    · rw [if_pos hs]
      obtain ⟨y, hy⟩ := se.mp hs
      have pc := pBlp_1 (un := pBin (zOf n c dg) K ro i C k) (f := f) (e := e) hy
      have eo : gOp lev y = gBin y := by
        funext u v
        unfold gOp
        rw [if_neg (by omega), if_neg (by omega)]
      rw [g8 lev y hy hlv.1]
      have kk := pStr_nx hy
      refine ⟨a, R3.ps.pt, ?_⟩
      refine y_nxt (dg := dg) R3.ps.tz ⟨by rcases kk with z | z <;> rw [z] <;> decide, by rcases kk with z | z <;> rw [z] <;> decide⟩ (by rcases kk with z | z <;> rw [z] <;> decide) (fun s4 e4 M4 f4 x4 => ?_) (fun w e4 ou M' f' => ?_)
      · have es4 := nx_eq e4
        subst es4
        have R4 := R3.tk f4 x4 rfl (adv_nx s2)
        have W4 := W3.1.tk z190 R3.ps f4
        have sz4 := f4.1.1
        have q0 := (k1_tk R3.ps f4 ⟨b190, hb.2.2.1⟩ 0).2.trans q0
        have q1 := (k1_tk R3.ps f4 ⟨b190, hb.2.2.1⟩ 1).2.trans q1
        have qs : ∀ j, gi M4 sb j = gi M2 sb j := fun j => (k1_tk R3.ps f4 ⟨sb190, hsb.2.2.1⟩ j).1.trans (qs j)
        have m24 := m23.tr (mvr_tk R3.ps f4)
        show Z E YX9_binary (d + 14 + 1) M4 [(0, vr (some (pp, 8, 0))), (1, vi (nI lev)), (2, vi (boI i)), (4, vr (some (b, 35, 0))), (5, vi y)] 128 [] Q
        refine sX9_binary_128 M4 pp _ _ b _ ?_
        refine hB (d + 14) _ M4 τ2 fs2 _ C hdB R4.ps (fun v5 s5 e5 M5 τ5 fs5 p5 pe5 vn5 => ?_) (fun w e5 ou M' pe => ?_)
        · have o5 := ok_bin hr i k _ v5 s5 e5
          have l5 := o5.2.1
          dsimp only at l5
          have R5 := R4.cl pe5 o5.1
          have W5 := W4.1.pe z190 pe5
          have sz5 := pe5.2.1.1.1
          have q0 := (k1_pe pe5 (x := b) ⟨b190, by omega, hb.2.2.1⟩ 0).2.trans q0
          have q1 := (k1_pe pe5 (x := b) ⟨b190, by omega, hb.2.2.1⟩ 1).2.trans q1
          have qs : ∀ j, gi M5 sb j = gi M2 sb j := fun j => (k1_pe pe5 (x := sb) ⟨sb190, by omega, hsb.2.2.1⟩ j).1.trans (qs j)
          have t5 : τ5 b = 1 := (pe5.2.2.1 b (by omega)).trans hb.2.2.1
          have ts5 : τ5 sb = 1 := (pe5.2.2.1 sb (by omega)).trans hsb.2.2.1
          have m25 := m24.tr pe5.mvr
          obtain ⟨b5, t5', k5⟩ := p5
          have k0 : k5 = 0 := vn5.1.1
          subst k0
          show Z E YX9_binary (d + 14 + 1) M5 [(0, vr (some (pp, 8, 0))), (1, vi (nI lev)), (2, vi (boI i)), (4, vr (some (b, 35, 0)))] 140 [vr (some (b5, t5', 0)), vi y, vr (some (b, 35, 0))] Q
          refine sX9_binary_140 M5 pp _ _ b _ _ b ?_
          have tl := R5.ps.tz.t_le
          have zb := R2.2.2.2.2.2.1
          have zb0 := R2.2.1.2.1.1.1
          have rl : r.length ≤ 5000 := by omega
          have lA5 : lA M5 l = lA M2 l := W5.2.1.trans (W4.2.1.trans W3.2.1)
          have lC5 : lC M5 l = lC M2 l := W5.2.2.trans (W4.2.2.trans W3.2.2)
          refine y_radd (d := d + 7) (k := r.length) R5 W5.1 ⟨el, by omega⟩ (sto_n (by have := vn5.1.2.1; dsimp only at this ⊢; omega) (by have := vn5.1.2.2; dsimp only at this ⊢; omega)) ⟨hb.1, by omega, t5, hb.2.2.2.1, by rw [lA5]; exact hb.2.2.2.2⟩ q0 q1 ⟨hsb.1, by omega, ts5, hsb.2.2.2.1, hsb.2.2.2.2.1, by rw [lA5]; exact hsb.2.2.2.2.2⟩ hsm (fun M6 τ6 w sb' sm' R6 W6 m56 hb6 g60 g61 hsb6 hsm6 hsg6 hsg6' lw => ?_)
          show Z E YX9_binary (d + 14 + 1) M6 [(0, vr (some (pp, 8, 0))), (1, vi (nI lev)), (2, vi (boI i)), (4, vr (some (b, 35, 0)))] 143 [] Q
          refine sX9_binary_143 M6 pp _ _ b ?_
          have z4 := R4.2.1.2.1.1.1
          have We6 := ((We.mv m25 z190).mv m56 z190).app (p := (b5, t5', 0)) (g := v5.1) (vn5.mv (lo' := zsz M) m56 z190 z4 (Nat.le_refl _)).2.1 o5.2.2.1.1
          have ln : (r ++ [(y, v5.1)]).length = r.length + 1 := by rw [List.length_append]; rfl
          refine ih M6 τ6 fs5 s5 (Zb + 20 * (s5.1 - (s2.1 + 1)) - 10 + 2) (Ub + 400 * (s5.1 - (s2.1 + 1)) - 200 + w) b l sb' sm' (es ++ [some (b5, t5', 0)]) (r ++ [(y, v5.1)]) (vOf (gOp lev y e.1 v5.1)) (by omega) ?_ (.inl ⟨rfl, by simp⟩) (fun v s' e' => hy2 v s' (pc.trans ((bnd_ok e4).trans ((bnd_ok e5).trans e')))) (fun w e' => hn2 w (pc.trans ((bnd_ok e4).trans ((bnd_ok e5).trans e')))) R6 hb6 g60 g61 hsb6 (by rw [ln]; exact hsm6) (fun j q hq => ?_) W6 (by rw [List.map_append]; exact We6) ?_ ?_
          · show gOp lev y e.1 v5.1 = _
            rw [gRow_app, he, eo]
          · by_cases zj : j < r.length
            · rw [List.getElem?_append_left zj] at hq
              rw [hsg6 j zj, qs]
              exact hsg j q hq
            · have hl := (List.getElem?_eq_some_iff.mp hq).1
              have ej : j = r.length := by omega
              rw [ej, List.getElem?_append_right (Nat.le_refl _), Nat.sub_self] at hq
              cases hq
              rw [ej]
              exact ⟨hsg6', (pStr_le hy).2⟩
          · rw [ln]; omega
          · rw [ln]
            exact ar_r hU (by rw [← lw, lC5]) s02 l5
        · obtain ⟨q, rfl⟩ := fO_inr pe.1
          show ZT E YX9_binary (d + 14 + 1) M' _ 137 (q, 12, 0) Q
          exact ZT.out (nohand rfl) (hn2 w (pc.trans ((bnd_ok e4).trans (bnd_er e5))) _ M' (R4.er pe (by dsimp only; omega) (by dsimp only; omega)))
      · obtain ⟨q, rfl⟩ := fO_inr f'.1
        show ZT E YX9_binary (d + 14 + 1) M' _ 125 (q, 12, 0) Q
        exact ZT.out (nohand rfl) (hn2 w (pc.trans (bnd_er e4)) _ M' (R3.er (ft_er R3.ps f') (by omega) (by omega)))
    · rw [if_neg hs]
      have hs' : ¬ ∃ y, pStr (zOf n c dg) i s2 = some (lev, y) := fun z => hs (se.mpr z)
      have hk : e.2.1 = 0 ∧ r ≠ [] := hk.resolve_right hs'
      have rl : 1 ≤ r.length := List.length_pos_iff.mpr hk.2
      have tl := R2.ps.tz.t_le
      have zb := R2.2.2.2.2.2.1
      have zb0 := R2.2.1.2.1.1.1
      have rl5 : r.length ≤ 5000 := by omega
      have m38 := fin_mvr (lo := zsz M) (τ := τ2) (M := M3)
      have W' := (We.mv m23 z190).mv m38 z190
      refine hy2 e s2 (pBlp_0 hs') M3 _ fs2 _ (R3.nd (by omega) (by omega)) ⟨tgv _ 35 (by decide), ?_, .inl ⟨hk.1, (by show 35 ≠ 23; decide), fun e => absurd e (show ¬ 35 = 30 by decide)⟩⟩
      rw [he]
      exact xe_Row (nS_190 z190) (fin_1 hb.1 (by omega) hb.2.2.1) q0 q1 (W3.1.el W') (fin_1 hsb.1 (by omega) hsb.2.2.1) ⟨hsm.1, by omega⟩ (fun j q hq => by rw [qs j]; exact hsg j q hq) (by omega)
/-- all levels -/
theorem y_bin {ro : Option pT} {i : Bool} {DU dU : Nat} (hU : cVm E pp a lf n c YX9_unit [] dU o DU (pUnit (zOf n c dg) K ro)) (hr : okO ro) (hK : 1300 ≤ K) (h4 : 4 ≤ DU) (hd0 : 30 ≤ dU) : ∀ k, k ≤ 10 → cVm E pp a lf n c YX9_binary [(1, vi (nI (10 - k))), (2, vi (boI i))] (dU + 1 + k) o (DU + k) (fun C s => pBin (zOf n c dg) K ro i C k s) := by
  intro k
  induction k with
  | zero =>
    intro _ d Q M τ fs s C hd h hy hn
    obtain ⟨d, rfl⟩ : ∃ d', d = d' + 1 := ⟨d - 1, by omega⟩
    refine sX9_binary_0 M pp _ _ ?_
    rw [if_pos (show nI (10 - 0) = 10 from rfl)]
    refine hU d _ M τ fs s C (by omega) h (fun v s' e M' τ' fs' p pe vn => ?_) (fun w e ou M' pe => ?_)
    · show Z E YX9_binary (d + 1) M' [] 10 [vr (some p)] Q
      exact sX9_binary_10 M' _ (hy v s' e M' τ' fs' p pe vn)
    · obtain ⟨q, rfl⟩ := fO_inr pe.1
      show ZT E YX9_binary (d + 1) M' _ 7 (q, 12, 0) Q
      exact ZT.out (nohand rfl) (hn w e _ M' pe)
  | succ k ih =>
    intro hk d Q M τ fs s C hd h hy hn
    have hB := ih (by omega)
    obtain ⟨d, rfl⟩ : ∃ d', d = d' + 15 := ⟨d - 15, by omega⟩
    obtain ⟨lev, hlev⟩ : ∃ lev, lev = 9 - k := ⟨_, rfl⟩
    have el : 10 - (k + 1) = lev := by omega
    have el2 : nI (10 - k) = nI lev + 1 := by rw [nI_l1]; congr 1; omega
    rw [el2] at hB
    rw [el]
    have R := rn_st h C.1
    have hp := h.pz
    have z190 := h.z190
    have hh : ∀ k : Fin 10, ¬ nI k.val = (10 : Int32) := by decide
    have pe0 : pBin (zOf n c dg) K ro i C (k + 1) s = bnd (pBin (zOf n c dg) K ro i C k s) fun e s => pBlp (zOf n c dg) i lev (pBin (zOf n c dg) K ro i C k) K e s := by rw [hlev]; rfl
    refine sX9_binary_0 M pp _ _ ?_
    rw [if_neg (hh ⟨lev, by omega⟩)]
    refine hB (d + 14) _ M τ fs s C (by omega) h (fun v1 s1 e1 M1 τ1 fs1 p1 pe1 vn1 => ?_) (fun w e ou M' pe => ?_)
    rotate_left
    · obtain ⟨q, rfl⟩ := fO_inr pe.1
      show ZT E YX9_binary (d + 14 + 1) M' _ 16 (q, 12, 0) Q
      exact ZT.out (nohand rfl) (hn w (pe0.trans (bnd_er e)) _ M' (R.er pe (by omega) (by omega)))
    have o1 := ok_bin hr i k s v1 s1 e1
    have R1 := R.cl pe1 o1.1
    have l1 := o1.2.1
    have hy1 : ∀ v s', pBlp (zOf n c dg) i lev (pBin (zOf n c dg) K ro i C k) K v1 s1 = .ok (v, s') → ∀ M' τ' fs' p, pEnd pp a lf n c 10 200 M τ fs s C o M' τ' fs' s' → vNd (zsz M) M' τ' (DU + k + 1) p v → Q (.inl (some (vr (some p)))) M' := fun v s' e => hy v s' (pe0.trans ((bnd_ok e1).trans e))
    have hn1 : ∀ w, pBlp (zOf n c dg) i lev (pBin (zOf n c dg) K ro i C k) K v1 s1 = .error w → ∀ ou M', pEr lf 10 200 τ fs M s w ou M' → Q ou M' := fun w e => hn w (pe0.trans ((bnd_ok e1).trans e))
    clear hy hn pe0
    obtain ⟨f0, hf0⟩ : ∃ f0, K = f0 + 1 := ⟨K - 1, by omega⟩
    obtain ⟨b1, t1, k1⟩ := p1
    have k0 : k1 = 0 := vn1.1.1
    subst k0
    have pz := R1.ps.pz
    show Z E YX9_binary (d + 14 + 1) M1 [(0, vr (some (pp, 8, 0))), (1, vi (nI lev)), (2, vi (boI i))] 19 [vr (some (b1, t1, 0))] Q
    refine sX9_binary_19 M1 pp _ _ _ ?_
    refine y_str (dg := dg) (i := i) R1.ps.tz R1.ps.pt ⟨pz.1, fun e => by have az := R1.ps.az; rw [e] at pz; omega⟩ (fun M2 f2 _ => ?_)
    have R2 := R1.sg f2
    have m12 : mvr τ1 M1 τ1 M2 := mvr_own R1.ps f2 (fun _ _ z => z.1)
    show Z E YX9_binary (d + 14 + 1) M2 [(0, vr (some (pp, 8, 0))), (1, vi (nI lev)), (2, vi (boI i)), (3, vr (some (b1, t1, 0)))] 25 [vi (stR (pStr (zOf n c dg) i s1))] Q
    refine iX9_binary_25 M2 pp _ _ _ _ ?_
    have se := stR_eq (v := pStr (zOf n c dg) i s1) (l := lev) (by omega) (fun l' y e => (pStr_le e).1)
    have sz2 := f2.1.1
    have zm : zsz M ≤ zsz M2 := R2.2.1.2.1.1.1
    by_cases hs : stR (pStr (zOf n c dg) i s1) = nI lev
    · rw [if_pos hs]
      have hst := se.mp hs
      by_cases h2 : 2 ≤ lev
      · rw [if_pos (show (2 : Int32) ≤ nI lev from nI_le (a := 2) h2 (by omega))]
        refine iX30_init_0 (d := d + 10) (zn M2 2) (zsz M2) _ ⟨by show 16 ≤ zsz M2 + 1; omega, by omega, ?_⟩
        have sN : zsz (zn M2 2) = zsz M2 + 1 := rfl
        have sN2 : zsz (sr (si (zn (zn M2 2) 3) (zsz M2 + 1) 0 0) (zsz M2 + 1) 1 (some (1, 110, 0))) = zsz M2 + 2 := rfl
        rw [sN, sN2]
        have f3 : fg (fun x _ => zsz M ≤ x ∧ τ1 x = 1) M2 (sr (zn (sr (sr (si (zn (zn M2 2) 3) (zsz M2 + 1) 0 0) (zsz M2 + 1) 1 (some (1, 110, 0))) (zsz M2) 0 (some (zsz M2 + 1, 11, 0))) 8) (zsz M2) 1 (some (zsz M2 + 2, 100, 8))) := ((((fg.zn (n := 2)).tr (fg.zn (n := 3))).tr2 (((fr.si (.inr (by omega))).tr (fr.sr (.inr (by omega)))).tr (fr.sr (.inr (Nat.le_refl _)))).fg).tr (fg.zn (n := 8))).tr2 (fr.sr (.inr (Nat.le_refl _))).fg
        have g0 : gr (sr (zn (sr (sr (si (zn (zn M2 2) 3) (zsz M2 + 1) 0 0) (zsz M2 + 1) 1 (some (1, 110, 0))) (zsz M2) 0 (some (zsz M2 + 1, 11, 0))) 8) (zsz M2) 1 (some (zsz M2 + 2, 100, 8))) (zsz M2) 0 = some (zsz M2 + 1, 11, 0) := by
          rw [gr_sr, if_pos rfl, if_neg (by decide), gr_zn]
          exact (if_neg (show ¬ zsz M2 = zsz M2 + 2 by omega)).trans (by rw [gr_sr, if_pos rfl, if_pos rfl])
        have g1 : gr (sr (zn (sr (sr (si (zn (zn M2 2) 3) (zsz M2 + 1) 0 0) (zsz M2 + 1) 1 (some (1, 110, 0))) (zsz M2) 0 (some (zsz M2 + 1, 11, 0))) 8) (zsz M2) 1 (some (zsz M2 + 2, 100, 8))) (zsz M2) 1 = some (zsz M2 + 2, 100, 8) := by rw [gr_sr, if_pos rfl, if_pos rfl]
        have g2 : gr (sr (zn (sr (sr (si (zn (zn M2 2) 3) (zsz M2 + 1) 0 0) (zsz M2 + 1) 1 (some (1, 110, 0))) (zsz M2) 0 (some (zsz M2 + 1, 11, 0))) 8) (zsz M2) 1 (some (zsz M2 + 2, 100, 8))) (zsz M2 + 1) 1 = some (1, 110, 0) := by
          rw [gr_sr, if_neg (by omega), gr_zn]
          exact (if_neg (show ¬ zsz M2 + 1 = zsz M2 + 2 by omega)).trans (by rw [gr_sr, if_neg (by omega), gr_sr, if_pos rfl, if_pos rfl])
        have g3 : gi (sr (zn (sr (sr (si (zn (zn M2 2) 3) (zsz M2 + 1) 0 0) (zsz M2 + 1) 1 (some (1, 110, 0))) (zsz M2) 0 (some (zsz M2 + 1, 11, 0))) 8) (zsz M2) 1 (some (zsz M2 + 2, 100, 8))) (zsz M2 + 1) 2 = 0 := by
          show gi (zn (sr (sr (si (zn (zn M2 2) 3) (zsz M2 + 1) 0 0) (zsz M2 + 1) 1 (some (1, 110, 0))) (zsz M2) 0 (some (zsz M2 + 1, 11, 0))) 8) (zsz M2 + 1) 2 = 0
          rw [gi_zn]
          refine (if_neg (show ¬ zsz M2 + 1 = zsz M2 + 2 by omega)).trans ?_
          show gi (si (zn (zn M2 2) 3) (zsz M2 + 1) 0 0) (zsz M2 + 1) 2 = 0
          rw [gi_idx (by decide), gi_zn, if_pos (show zsz M2 + 1 = zsz (zn M2 2) from rfl)]
        have sz3 : zsz (sr (zn (sr (sr (si (zn (zn M2 2) 3) (zsz M2 + 1) 0 0) (zsz M2 + 1) 1 (some (1, 110, 0))) (zsz M2) 0 (some (zsz M2 + 1, 11, 0))) 8) (zsz M2) 1 (some (zsz M2 + 2, 100, 8))) = zsz M2 + 3 := rfl
        have su3 : zsu (sr (zn (sr (sr (si (zn (zn M2 2) 3) (zsz M2 + 1) 0 0) (zsz M2 + 1) 1 (some (1, 110, 0))) (zsz M2) 0 (some (zsz M2 + 1, 11, 0))) 8) (zsz M2) 1 (some (zsz M2 + 2, 100, 8))) = zsu M2 + 13 := rfl
        generalize sr (zn (sr (sr (si (zn (zn M2 2) 3) (zsz M2 + 1) 0 0) (zsz M2 + 1) 1 (some (1, 110, 0))) (zsz M2) 0 (some (zsz M2 + 1, 11, 0))) 8) (zsz M2) 1 (some (zsz M2 + 2, 100, 8)) = M3 at *
        obtain ⟨τ3, R3, ag3, on3, m23⟩ := R2.lc1 (v := 3) (w := 13) f3 (by omega) (by omega)
        refine ⟨zsz M2 + 1, g0, ?_⟩
        have W3 : wL (zsz M) M3 τ3 (zsz M2 + 1) [] := wL_mk g3 g2 ⟨by omega, by omega⟩ ⟨by omega, on3 _ (by omega) (by omega)⟩
        have lA3 : lA M3 (zsz M2 + 1) = 1 ∧ lC M3 (zsz M2 + 1) = 0 := by unfold lA lC; rw [g2]; exact ⟨rfl, rfl⟩
        refine y_ladd (d := d + 7) R3 W3 (by show 0 < 90000; decide) (sto_n (by have := vn1.1.2.1; dsimp only at this ⊢; omega) (by have := vn1.1.2.2; dsimp only at this ⊢; omega)) (fun M4 τ4 w R4 W4 m34 ag4 f4 lw la => ?_)
        show Z E YX30_init (d + 13 + 1) M4 [] 31 [vi 1] _
        refine sX30_init_31 M4 _ ?_
        show Z E YX9_binary (d + 14 + 1) M4 [(0, vr (some (pp, 8, 0))), (1, vi (nI lev)), (2, vi (boI i))] 104 [vr (some (zsz M2, 35, 0))] Q
        refine sX9_binary_104 M4 pp _ _ _ ?_
        have sz4 := f4.1.1
        have nb : ∀ x, 16 ≤ x → x ≠ lA M3 (zsz M2 + 1) := fun x hx => by rw [lA3.1]; omega
        have nb4 : ∀ x, 16 ≤ x → x < zsz M3 → x ≠ lA M4 (zsz M2 + 1) := fun x hx h3 => by
          rcases la with y | y
          · rw [y]; exact nb x hx
          · omega
        refine y_row hB hr ⟨h2, by omega⟩ z190 (by omega) (by omega) (x0 := v1.1) K M4 τ4 fs1 s1 _ _ (zsz M2) (zsz M2 + 1) (zsz M2 + 2) 8 [some (b1, t1, 0)] [] v1 (by omega) rfl (.inr hst) hy1 hn1 R4 ⟨zm, by omega, (ag4 _ (by omega)).trans (on3 _ (Nat.le_refl _) (by omega)), by omega, nb4 _ (by omega) (by omega)⟩ ((f4.gr (by omega) (nl_P (by omega) (nb _ (by omega)))).trans g0) ((f4.gr (by omega) (nl_P (by omega) (nb _ (by omega)))).trans g1) ⟨by omega, by omega, (ag4 _ (by omega)).trans (on3 _ (by omega) (by omega)), by omega, by omega, nb4 _ (by omega) (by omega)⟩ ⟨by show 0 ≤ 8; decide, by decide, by show 8 ≤ 16 + 2 * 0; decide⟩ (fun j q hq => by cases hq) W4 ?_ ?_ ?_
        · exact wE.app (as := []) (es := []) ⟨rfl, fun i g hi => by cases hi⟩ (vn1.mv (lo' := zsz M) ((m12.tr m23).tr m34) z190 (Nat.le_refl _) (Nat.le_refl _)).2.1 o1.2.2.1.1
        · show _ + 10 + 12 * 0 ≤ _
          omega
        · show _ + 200 + 500 * 0 ≤ _
          omega
      · rw [if_neg (show ¬ (2 : Int32) ≤ nI lev from nI_ge (b := 2) (by omega) (by omega))]
        have both : ∀ op : Int32, (op = if lev = 0 then 24 else 23) → Z E YX29_init (d + 14) (zn M2 2) (zargs 0 [vr (some (zsz M2, 34, 0)), vi op, vr (some (b1, t1, 0))]) 0 [] (zafter E YX9_binary (d + 14 + 1) [(0, vr (some (pp, 8, 0))), (1, vi (nI lev)), (2, vi (boI i))] 52 3 [vr (some (zsz M2, 34, 0))] Q) := fun op hop => by
          refine iX29_init_0 (d := d + 10) (zn M2 2) (zsz M2) _ _ ⟨by show 16 ≤ zsz M2 + 1; omega, by omega, ?_⟩
          have sN : zsz (zn M2 2) = zsz M2 + 1 := rfl
          rw [sN]
          have g0' : gr (sr (sr (si (zn (zn M2 2) 3) (zsz M2 + 1) 0 0) (zsz M2 + 1) 1 (some (1, 110, 0))) (zsz M2) 1 (some (zsz M2 + 1, 11, 0))) (zsz M2) 1 = some (zsz M2 + 1, 11, 0) := by rw [gr_sr, if_pos rfl, if_pos rfl]
          refine ⟨zsz M2 + 1, g0', ?_⟩
          have f3 : fg (fun x _ => zsz M ≤ x ∧ τ1 x = 1) M2 (si (sr (sr (si (zn (zn M2 2) 3) (zsz M2 + 1) 0 0) (zsz M2 + 1) 1 (some (1, 110, 0))) (zsz M2) 1 (some (zsz M2 + 1, 11, 0))) (zsz M2) 0 op) := ((fg.zn (n := 2)).tr (fg.zn (n := 3))).tr2 ((((fr.si (.inr (by omega))).tr (fr.sr (.inr (by omega)))).tr (fr.sr (.inr (Nat.le_refl _)))).tr (fr.si (.inr (Nat.le_refl _)))).fg
          have g0 : gi (si (sr (sr (si (zn (zn M2 2) 3) (zsz M2 + 1) 0 0) (zsz M2 + 1) 1 (some (1, 110, 0))) (zsz M2) 1 (some (zsz M2 + 1, 11, 0))) (zsz M2) 0 op) (zsz M2) 0 = op := gi_self _ _ _ _
          have g1 : gr (si (sr (sr (si (zn (zn M2 2) 3) (zsz M2 + 1) 0 0) (zsz M2 + 1) 1 (some (1, 110, 0))) (zsz M2) 1 (some (zsz M2 + 1, 11, 0))) (zsz M2) 0 op) (zsz M2) 1 = some (zsz M2 + 1, 11, 0) := g0'
          have g2 : gr (si (sr (sr (si (zn (zn M2 2) 3) (zsz M2 + 1) 0 0) (zsz M2 + 1) 1 (some (1, 110, 0))) (zsz M2) 1 (some (zsz M2 + 1, 11, 0))) (zsz M2) 0 op) (zsz M2 + 1) 1 = some (1, 110, 0) := by
            show gr (sr (sr (si (zn (zn M2 2) 3) (zsz M2 + 1) 0 0) (zsz M2 + 1) 1 (some (1, 110, 0))) (zsz M2) 1 (some (zsz M2 + 1, 11, 0))) (zsz M2 + 1) 1 = _
            rw [gr_sr, if_neg (by omega), gr_sr, if_pos rfl, if_pos rfl]
          have g3 : gi (si (sr (sr (si (zn (zn M2 2) 3) (zsz M2 + 1) 0 0) (zsz M2 + 1) 1 (some (1, 110, 0))) (zsz M2) 1 (some (zsz M2 + 1, 11, 0))) (zsz M2) 0 op) (zsz M2 + 1) 2 = 0 := by
            rw [gi_oth (by omega)]
            show gi (si (zn (zn M2 2) 3) (zsz M2 + 1) 0 0) (zsz M2 + 1) 2 = 0
            rw [gi_idx (by decide), gi_zn, if_pos (show zsz M2 + 1 = zsz (zn M2 2) from rfl)]
          have sz3 : zsz (si (sr (sr (si (zn (zn M2 2) 3) (zsz M2 + 1) 0 0) (zsz M2 + 1) 1 (some (1, 110, 0))) (zsz M2) 1 (some (zsz M2 + 1, 11, 0))) (zsz M2) 0 op) = zsz M2 + 2 := rfl
          have su3 : zsu (si (sr (sr (si (zn (zn M2 2) 3) (zsz M2 + 1) 0 0) (zsz M2 + 1) 1 (some (1, 110, 0))) (zsz M2) 1 (some (zsz M2 + 1, 11, 0))) (zsz M2) 0 op) = zsu M2 + 5 := rfl
          clear g0'
          generalize si (sr (sr (si (zn (zn M2 2) 3) (zsz M2 + 1) 0 0) (zsz M2 + 1) 1 (some (1, 110, 0))) (zsz M2) 1 (some (zsz M2 + 1, 11, 0))) (zsz M2) 0 op = M3 at *
          obtain ⟨τ3, R3, ag3, on3, m23⟩ := R2.lc1 (v := 2) (w := 5) f3 (by omega) (by omega)
          have W3 : wL (zsz M) M3 τ3 (zsz M2 + 1) [] := wL_mk g3 g2 ⟨by omega, by omega⟩ ⟨by omega, on3 _ (by omega) (by omega)⟩
          have lA3 : lA M3 (zsz M2 + 1) = 1 ∧ lC M3 (zsz M2 + 1) = 0 := by unfold lA lC; rw [g2]; exact ⟨rfl, rfl⟩
          refine y_ladd (d := d + 7) R3 W3 (by show 0 < 90000; decide) (sto_n (by have := vn1.1.2.1; dsimp only at this ⊢; omega) (by have := vn1.1.2.2; dsimp only at this ⊢; omega)) (fun M4 τ4 w R4 W4 m34 ag4 f4 lw la => ?_)
          show Z E YX29_init (d + 13 + 1) M4 [] 28 [vi 1] _
          refine sX29_init_28 M4 _ ?_
          show Z E YX9_binary (d + 14 + 1) M4 [(0, vr (some (pp, 8, 0))), (1, vi (nI lev)), (2, vi (boI i))] 55 [vr (some (zsz M2, 34, 0))] Q
          refine sX9_binary_55 M4 pp _ _ _ ?_
          have sz4 := f4.1.1
          have nb : zsz M2 ≠ lA M3 (zsz M2 + 1) := by rw [lA3.1]; omega
          refine y_both hB hr (by omega) hop z190 (by omega) (by omega) (x0 := v1.1) o1.2.2.1.1 K M4 τ4 fs1 s1 _ _ (zsz M2) (zsz M2 + 1) [some (b1, t1, 0)] [] v1 (by omega) rfl (.inr hst) hy1 hn1 R4 ⟨zm, by omega, (ag4 _ (by omega)).trans (on3 _ (Nat.le_refl _) (by omega)), by omega, ?_⟩ ((f4.gi (by omega) (nl_P (by omega) nb)).trans g0) ((f4.gr (by omega) (nl_P (by omega) nb)).trans g1) W4 ?_ ?_ ?_
          · rcases la with y | y
            · rw [y]; exact nb
            · omega
          · exact wE.app (as := []) (es := []) ⟨rfl, fun i g hi => by cases hi⟩ (vn1.mv (lo' := zsz M) ((m12.tr m23).tr m34) z190 (Nat.le_refl _) (Nat.le_refl _)).2.1 o1.2.2.1.1
          · show _ + 10 + 20 * 0 ≤ _
            omega
          · show _ + 200 + 500 * 0 ≤ _
            omega
        by_cases z0 : lev = 0
        · rw [if_pos (show nI lev = 0 by rw [z0]; rfl)]
          exact both 24 (by rw [if_pos z0])
        · rw [if_neg (show ¬ nI lev = 0 from fun e => z0 (nI_inj (b := 0) (by omega) (by omega) e))]
          exact both 23 (by rw [if_neg z0])
    · rw [if_neg hs]
      have hs' : ¬ ∃ y, pStr (zOf n c dg) i s1 = some (lev, y) := fun z => hs (se.mpr z)
      exact hy1 v1 s1 (by rw [hf0]; exact pBlp_0 hs') M2 _ fs1 _ (R2.nd (by omega) (by omega)) ((vn1.mv (D' := DU + k) (lo' := zsz M) m12 z190 (Nat.le_refl _) (Nat.le_refl _)).mv (fin_mvr (lo := zsz M)) z190 (Nat.le_refl _) (by omega))
end
