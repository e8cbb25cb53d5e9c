/-! THE COMPONENT's PARSER: binary, the signs && and || -/
section
variable {E : zE} {pp a lf n : Nat} {c : Nat → Int32} {dg : Int32 → List Int32} {K o : Nat}
theorem ar_u5 {Ub PU s2 s s4 r w c2 c5 : Nat} (h : Ub + 200 + 500 * r ≤ PU + 400 * (s2 - s) + 5 + 4 * c2) (hw : w + 4 * c2 = 4 * c5) (h1 : s ≤ s2) (h2 : s2 + 1 < s4) : Ub + 400 * (s4 - (s2 + 1)) - 200 + w + 200 + 500 * (r + 1) ≤ PU + 400 * (s4 - s) + 5 + 4 * c5 := by omega
theorem gBot_app (op : Int32) (r : List gEx) (x y : gEx) : gBot op (r ++ [y]) x = gAnd op (gBot op r x) y := by
  unfold gBot; rw [List.foldl_append]; rfl
theorem rn.sg {M0 M M' : zM} {τ0 τ : Nat → Nat} {fs0 fs : List Nat} {s0 s : pS} {c0 : Nat} {C : pC} {Zb Ub : Nat} (h : rn pp a lf n c M0 τ0 fs0 s0 c0 C o M τ fs s Zb Ub) (f : fr (fun x k => x = pp ∧ k = 8) M M') : rn pp a lf n c M0 τ0 fs0 s0 c0 C o M' τ fs s Zb Ub := by
  obtain ⟨⟨g1, g2, g3⟩, ⟨g4, g4'⟩, g5, g6, g7⟩ := h.1.2.2.1
  have q : ∀ k, k ≠ 8 → ¬ (pp = pp ∧ k = 8) := fun k z y => z y.2
  exact h.own (f.mono fun x k z => ⟨z.1, by omega⟩) ⟨⟨g1, g2, (f.2 pp 3 (q 3 (by decide))).2.2.trans g3⟩, ⟨(f.2 pp 4 (q 4 (by decide))).1.trans g4, g4'⟩, (f.2 pp 5 (q 5 (by decide))).1.trans g5, (f.2 pp 6 (q 6 (by decide))).1.trans g6, g7⟩
theorem stR_eq {v : Option (Nat × Int32)} {l : Nat} (hl : l ≤ 9) (hv : ∀ l' y, v = some (l', y) → l' ≤ 9) : (stR v = nI l) ↔ ∃ y, v = some (l, y) := by
  cases v with
  | none =>
    constructor
    · intro z
      have : (-1 : Int32) = nI l := z
      have hh : ∀ k : Fin 10, ¬ (-1 : Int32) = nI k.val := by decide
      exact absurd this (hh ⟨l, by omega⟩)
    · rintro ⟨y, e⟩; cases e
  | some p =>
    obtain ⟨l', y⟩ := p
    have h9 := hv l' y rfl
    constructor
    · intro z
      have z : nI l' = nI l := z
      have := nI_inj (by omega) (by omega) z
      exact ⟨y, by rw [this]⟩
    · rintro ⟨y', e⟩
      cases e; rfl
theorem pStr_le {z : pZ} {i : Bool} {s : pS} {l : Nat} {y : Int32} (e : pStr z i s = some (l, y)) : l ≤ 9 ∧ y.toInt16.toInt32 = y := by
  have io : ∀ {α : Type} {p : Prop} [Decidable p] {a x y : α}, (if p then a else x) = y → a = y ∨ x = y := fun {α p _ a x y} e => by
    by_cases h : p
    · rw [if_pos h] at e; exact .inl e
    · rw [if_neg h] at e; exact .inr e
  unfold pStr at e
  rcases io e with e | e
  · cases e; decide
  rcases io e with e | e
  · rcases io e with e | e
    · cases e; decide
    · cases e
  rcases io e with e | e
  · cases e; decide
  rcases io e with e | e
  · cases e; decide
  rcases io e with e | e
  · cases e; decide
  rcases io e with e | e
  · cases e; decide
  rcases io e with e | e
  · cases e; decide
  rcases io e with e | e
  · cases e; decide
  rcases io e with e | e
  · cases e; decide
  rcases io e with e | e
  · cases e; decide
  rcases io e with e | e
  · cases e; decide
  rcases io e with e | e
  · cases e; decide
  rcases io e with e | e
  · cases e; decide
  rcases io e with e | e
  · cases e; decide
  rcases io e with e | e
  · cases e; decide
  rcases io e with e | e
  · cases e; decide
  rcases io e with e | e
  · cases e; decide
  rcases io e with e | e
  · cases e; decide
  rcases io e with e | e
  · cases e; decide
  rcases io e with e | e
  · cases e; decide
  rcases io e with e | e
  · cases e; decide
  rcases io e with e | e
  · cases e; decide
  rcases io e with e | e
  · cases e; decide
  cases e
theorem pStr_nx {i : Bool} {s : pS} {l : Nat} {y : Int32} (e : pStr (zOf n c dg) i s = some (l, y)) : (tkn n c s.1).1 = 2 ∨ (tkn n c s.1).1 = 5 := by
  refine Classical.byContradiction fun z => ?_
  have k2 : ¬ tkd (zOf n c dg) s.1 = 2 := fun y => z (.inl y)
  have k5 : ¬ tkd (zOf n c dg) s.1 = 5 := fun y => z (.inr y)
  unfold pStr at e
  simp only [isK_n k2, isS_n k5] at e
  cases e
theorem pBlp_0 {z : pZ} {i : Bool} {l : Nat} {un : pS → pR gV} {f : Nat} {e : gV} {s : pS} (h : ¬ ∃ y, pStr z i s = some (l, y)) : pBlp z i l un (f + 1) e s = prt e s := by
  rw [pBlp]
  cases hs : pStr z i s with
  | none => rfl
  | some p =>
    obtain ⟨l', y⟩ := p
    show (if l' = l then _ else _) = _
    rw [if_neg (fun z => h ⟨y, by rw [hs, z]⟩)]
theorem pBlp_1 {z : pZ} {i : Bool} {l : Nat} {un : pS → pR gV} {f : Nat} {e : gV} {s : pS} {y : Int32} (h : pStr z i s = some (l, y)) : pBlp z i l un (f + 1) e s = bnd (nxt' z s) fun _ s => bnd (un s) fun v s => pBlp z i l un f (vOf (gOp l y e.1 v.1)) s := by
  rw [pBlp, h]
  show (if l = l then _ else _) = _
  rw [if_pos rfl]
/-- the loop of && or || -/
theorem y_both {ro : Option pT} {i : Bool} {lev k DB dB d : Nat} {op : Int32} {Q : zO → zM → Prop} {M : zM} {τ : Nat → Nat} {fs : List Nat} {s : pS} {C : pC} (hB : cVm E pp a lf n c YX9_binary [(1, vi (nI lev + 1)), (2, vi (boI i))] dB o DB (fun C s => pBin (zOf n c dg) K ro i C k s)) (hr : okO ro) (hlv : lev < 2) (hop : op = if lev = 0 then 24 else 23) (z190 : 190 ≤ zsz M) (hdB : dB ≤ d + 14) (h4 : 3 ≤ DB) {x0 : gEx} (hx0 : gok x0) :
    ∀ (f : Nat) (M2 : zM) (τ2 : Nat → Nat) (fs2 : List Nat) (s2 : pS) (Zb Ub b l : Nat) (es : List (Option zP)) (r : List gEx) (e : gV), 1300 ≤ f + s2.1 → e.1 = gBot op r x0 → (e.2.1 = 0 ∧ r ≠ [] ∨ ∃ y, pStr (zOf n c dg) i s2 = some (lev, y)) →
      (∀ v s', pBlp (zOf n c dg) i lev (pBin (zOf n c dg) K ro i C k) f e s2 = .ok (v, s') → ∀ M' τ' fs' p, pEnd pp a lf n c 10 200 M τ fs s C o M' τ' fs' s' → vNd (zsz M) M' τ' (DB + 1) p v → Q (.inl (some (vr (some p)))) M') →
      (∀ w, pBlp (zOf n c dg) i lev (pBin (zOf n c dg) K ro i C k) f e s2 = .error w → ∀ ou M', pEr lf 10 200 τ fs M s w ou M' → Q ou M') →
      rn pp a lf n c M τ fs s C.1 C o M2 τ2 fs2 s2 Zb Ub → (zsz M ≤ b ∧ b < zsz M2 ∧ τ2 b = 1 ∧ b ≠ l ∧ b ≠ lA M2 l) → gi M2 b 0 = op → gr M2 b 1 = some (l, 11, 0) → wL (zsz M) M2 τ2 l es → wE (zsz M) M2 τ2 DB es (x0 :: r) →
      Zb + 10 + 20 * r.length ≤ zsz M + 20 * (s2.1 - s.1) + 3 → Ub + 200 + 500 * r.length ≤ pu M lf fs + 400 * (s2.1 - s.1) + 5 + 4 * lC M2 l → Z E YX9_binary (d + 14 + 1) M2 [(0, vr (some (pp, 8, 0))), (1, vi (nI lev)), (2, vi (boI i)), (4, vr (some (b, 34, 0)))] 57 [] Q := by
  intro f
  induction f with
  | zero => intro M2 τ2 fs2 s2 Zb Ub b l es r e hf _ _ _ _ R2 _ _ _ _ _ _ _; have := R2.ps.tz.t_le; omega
  | succ f ih =>
    intro M2 τ2 fs2 s2 Zb Ub b l es r e hf he hk hy2 hn2 R2 hb hg0 hg W We hZ hU
    have s02 := R2.av.1
    have pz := R2.ps.pz
    have az := R2.ps.az
    have lc := lC_le W.1
    have el := We.1
    rw [List.length_cons] at el
    refine sX9_binary_57 M2 pp _ _ _ ?_
    refine y_str (dg := dg) (i := i) R2.ps.tz R2.ps.pt ⟨pz.1, fun e => by rw [e] at pz; omega⟩ (fun M3 f3 _ => ?_)
    have R3 := R2.sg f3
    have m23 : mvr τ2 M2 τ2 M3 := mvr_own R2.ps f3 (fun _ _ z => z.1)
    have nP : ∀ x k, 190 ≤ x → τ2 x = 1 → ¬ (x = pp ∧ k = 8) := fun x k _ h1 y => by rw [y.1] at h1; omega
    have W3 := W.k (τ' := τ2) z190 f3.fg nP (fun _ _ => rfl)
    have sz3 := f3.1.1
    have b190 : 190 ≤ b := by omega
    have q0 := (f3.2 b 0 (nP b 0 b190 hb.2.2.1)).1.trans hg0
    have q1 := (f3.2 b 1 (nP b 1 b190 hb.2.2.1)).2.2.trans hg
    show Z E YX9_binary (d + 14 + 1) M3 [(0, vr (some (pp, 8, 0))), (1, vi (nI lev)), (2, vi (boI i)), (4, vr (some (b, 34, 0)))] 62 [vi (stR (pStr (zOf n c dg) i s2))] Q
    refine sX9_binary_62 M3 pp _ _ b _ ?_
    have se := stR_eq (v := pStr (zOf n c dg) i s2) (l := lev) (by omega) (fun l' y e => (pStr_le e).1)
    by_cases hs : stR (pStr (zOf n c dg) i s2) = nI lev
    · rw [if_pos hs]
      obtain ⟨y, hy⟩ := se.mp hs
      have pc := pBlp_1 (un := pBin (zOf n c dg) K ro i C k) (f := f) (e := e) hy
      have eo : gOp lev y = gAnd op := by
        funext u v
        unfold gOp
        rw [hop]
        by_cases z : lev = 0
        · rw [if_pos z, if_pos z]
        · rw [if_neg z, if_neg z, if_pos (by omega)]
      have kk := pStr_nx hy
      refine ⟨a, R3.ps.pt, ?_⟩
      refine y_nxt (dg := dg) R3.ps.tz ⟨by rcases kk with z | z <;> rw [z] <;> decide, by rcases kk with z | z <;> rw [z] <;> decide⟩ (by rcases kk with z | z <;> rw [z] <;> decide) (fun s4 e4 M4 f4 x4 => ?_) (fun w e4 ou M' f' => ?_)
      · have es4 := nx_eq e4
        subst es4
        have R4 := R3.tk f4 x4 rfl (adv_nx s2)
        have W4 := W3.1.tk z190 R3.ps f4
        have sz4 := f4.1.1
        have q0 := (k1_tk R3.ps f4 ⟨b190, hb.2.2.1⟩ 0).1.trans q0
        have q1 := (k1_tk R3.ps f4 ⟨b190, hb.2.2.1⟩ 1).2.trans q1
        have m24 := m23.tr (mvr_tk R3.ps f4)
        show Z E YX9_binary (d + 14 + 1) M4 [(0, vr (some (pp, 8, 0))), (1, vi (nI lev)), (2, vi (boI i)), (4, vr (some (b, 34, 0)))] 73 [] Q
        refine sX9_binary_73 M4 pp _ _ b ?_
        rw [q1]
        refine hB (d + 14) _ M4 τ2 fs2 _ C hdB R4.ps (fun v5 s5 e5 M5 τ5 fs5 p5 pe5 vn5 => ?_) (fun w e5 ou M' pe => ?_)
        · have o5 := ok_bin hr i k _ v5 s5 e5
          have l5 := o5.2.1
          dsimp only at l5
          have R5 := R4.cl pe5 o5.1
          have W5 := W4.1.pe z190 pe5
          have sz5 := pe5.2.1.1.1
          have q0 := (k1_pe pe5 (x := b) ⟨b190, by omega, hb.2.2.1⟩ 0).1.trans q0
          have q1 := (k1_pe pe5 (x := b) ⟨b190, by omega, hb.2.2.1⟩ 1).2.trans q1
          have t5 : τ5 b = 1 := (pe5.2.2.1 b (by omega)).trans hb.2.2.1
          have m25 := m24.tr pe5.mvr
          obtain ⟨b5, t5', k5⟩ := p5
          have k0 : k5 = 0 := vn5.1.1
          subst k0
          show Z E YX9_binary (d + 14 + 1) M5 [(0, vr (some (pp, 8, 0))), (1, vi (nI lev)), (2, vi (boI i)), (4, vr (some (b, 34, 0)))] 86 [vr (some (b5, t5', 0)), vr (some (l, 11, 0))] Q
          refine sX9_binary_86 M5 pp _ _ b _ _ ⟨l, rfl, ?_⟩
          have tl := R5.ps.tz.t_le
          have zb := R2.2.2.2.2.2.1
          have zb0 := R2.2.1.2.1.1.1
          have rl : r.length ≤ 5000 := by omega
          have lA5 : lA M5 l = lA M2 l := W5.2.1.trans (W4.2.1.trans W3.2.1)
          have lC5 : lC M5 l = lC M2 l := W5.2.2.trans (W4.2.2.trans W3.2.2)
          refine y_ladd (d := d + 8) R5 W5.1 (by omega) (sto_n (by have := vn5.1.2.1; dsimp only at this ⊢; omega) (by have := vn5.1.2.2; dsimp only at this ⊢; omega)) (fun M6 τ6 w R6 W6 m56 ag6 f6 lw la => ?_)
          show Z E YX9_binary (d + 14 + 1) M6 [(0, vr (some (pp, 8, 0))), (1, vi (nI lev)), (2, vi (boI i)), (4, vr (some (b, 34, 0)))] 89 [vi 1] Q
          refine sX9_binary_89 M6 pp _ _ b _ ?_
          have sz6 := f6.1.1
          have nb : b ≠ lA M5 l := by rw [lA5]; exact hb.2.2.2.2
          have z4 := R4.2.1.2.1.1.1
          have We6 := ((We.mv m25 z190).mv m56 z190).app (p := (b5, t5', 0)) (g := v5.1) (vn5.mv (lo' := zsz M) m56 z190 z4 (Nat.le_refl _)).2.1 o5.2.2.1.1
          refine ih M6 τ6 fs5 s5 (Zb + 20 * (s5.1 - (s2.1 + 1)) - 10 + 1) (Ub + 400 * (s5.1 - (s2.1 + 1)) - 200 + w) b l (es ++ [some (b5, t5', 0)]) (r ++ [v5.1]) (vOf (gOp lev y e.1 v5.1)) (by omega) ?_ (.inl ⟨rfl, by simp⟩) (fun v s' e' => hy2 v s' (pc.trans ((bnd_ok e4).trans ((bnd_ok e5).trans e')))) (fun w e' => hn2 w (pc.trans ((bnd_ok e4).trans ((bnd_ok e5).trans e')))) R6 ⟨hb.1, by omega, (ag6 b (by omega)).trans t5, hb.2.2.2.1, ?_⟩ ((f6.gi (by omega) (nl_P hb.2.2.2.1 nb)).trans q0) ((f6.gr (by omega) (nl_P hb.2.2.2.1 nb)).trans q1) W6 We6 ?_ ?_
          · show gOp lev y e.1 v5.1 = _
            rw [gBot_app, he, eo]
          · rcases la with y | y
            · rw [y]; exact nb
            · omega
          · rw [List.length_append]
            show Zb + 20 * (s5.1 - (s2.1 + 1)) - 10 + 1 + 10 + 20 * (r.length + 1) ≤ _
            omega
          · rw [List.length_append]
            show Ub + 400 * (s5.1 - (s2.1 + 1)) - 200 + w + 200 + 500 * (r.length + 1) ≤ _
            exact ar_u5 hU (by rw [← lw, lC5]) s02 l5
        · obtain ⟨q, rfl⟩ := fO_inr pe.1
          show ZT E YX9_binary (d + 14 + 1) M' _ 83 (q, 12, 0) Q
          exact ZT.out (nohand rfl) (hn2 w (pc.trans ((bnd_ok e4).trans (bnd_er e5))) _ M' (R4.er pe (by dsimp only; omega) (by dsimp only; omega)))
      · obtain ⟨q, rfl⟩ := fO_inr f'.1
        show ZT E YX9_binary (d + 14 + 1) M' _ 70 (q, 12, 0) Q
        exact ZT.out (nohand rfl) (hn2 w (pc.trans (bnd_er e4)) _ M' (R3.er (ft_er R3.ps f') (by omega) (by omega)))
    · rw [if_neg hs]
      have hs' : ¬ ∃ y, pStr (zOf n c dg) i s2 = some (lev, y) := fun z => hs (se.mpr z)
      have hk : e.2.1 = 0 ∧ r ≠ [] := hk.resolve_right hs'
      have rl : 1 ≤ r.length := List.length_pos_iff.mpr hk.2
      have m38 := fin_mvr (lo := zsz M) (τ := τ2) (M := M3)
      have W' := (We.mv m23 z190).mv m38 z190
      refine hy2 e s2 (pBlp_0 hs') M3 _ fs2 _ (R3.nd (by omega) (by omega)) ⟨tgv _ 34 (by decide), ?_, .inl ⟨hk.1, (by show 34 ≠ 23; decide), fun e => absurd e (show ¬ 34 = 30 by decide)⟩⟩
      rw [he]
      exact xe_Both (nS_190 z190) (fin_1 hb.1 (by omega) hb.2.2.1) q0 (by rw [hop]; split <;> decide) q1 (W3.1.el W') (by omega)
end
