/-! THE COMPONENT's PARSER: something opens; within -/
def boI (i : Bool) : Int32 := if i then 1 else 0
/-- one deeper: P's functions there, or nothing at all -/
def lvO (o : Nat) (ro : Option pT) (P : Nat → pT → Prop) : Prop := (ro = none ∧ o = 20) ∨ ∃ r, ro = some r ∧ o < 20 ∧ okT r ∧ P (o + 1) r
section
variable {E : zE} {pp a lf n : Nat} {c : Nat → Int32} {dg : Int32 → List Int32} {K o : Nat}
variable {M0 M M' : zM} {τ0 τ τ' : Nat → Nat} {fs0 fs fs' : List Nat} {s0 s s' : pS} {c0 : Nat} {C C' : pC} {Zb Ub cz cu cz' cu' : Nat}
theorem xPs.op (h : xPs M τ pp a lf n c fs s C o) : gi M pp 4 = nI o ∧ o ≤ 20 := h.2.2.1.2.1
theorem xPs.ls (h : xPs M τ pp a lf n c fs s C o) : C.2.1 + C.2.2 ≤ o := h.2.2.1.2.2.2.2
theorem mvr_own {P : Nat → Nat → Prop} (h : xPs M τ pp a lf n c fs s C o) (f : fr P M M') (hP : ∀ x k, P x k → x = pp) : mvr τ M τ M' := by
  have hz := h.pz
  exact ⟨f.fg.mono fun x k _ z => .inl (.inr ⟨by rw [hP x k z]; exact hz.1, .inl (by rw [hP x k z]; omega)⟩), fun _ _ _ => rfl⟩
theorem rn.op (h : rn pp a lf n c M0 τ0 fs0 s0 c0 C o M τ fs s Zb Ub) (ho : o < 20) : rn pp a lf n c M0 τ0 fs0 s0 c0 C (o + 1) (si M pp 4 (nI (o + 1))) τ fs s Zb Ub := by
  have f : fr (fun x k => x = pp ∧ 3 ≤ k) M (si M pp 4 (nI (o + 1))) := fr.si ⟨rfl, by decide⟩
  obtain ⟨⟨g1, g2, g3⟩, ⟨g4, g4'⟩, g5, g6, g7⟩ := h.1.2.2.1
  exact h.own f ⟨⟨g1, g2, g3⟩, ⟨gi_self _ _ _ _, by omega⟩, (gi_idx (by decide)).trans g5, (gi_idx (by decide)).trans g6, by omega⟩
theorem rn.cls (h : rn pp a lf n c M0 τ0 fs0 s0 c0 C (o + 1) M τ fs s Zb Ub) (hC : C.2.1 + C.2.2 ≤ o) : rn pp a lf n c M0 τ0 fs0 s0 c0 C o (si M pp 4 (gi M pp 4 - 1)) τ fs s Zb Ub := by
  have f : fr (fun x k => x = pp ∧ 3 ≤ k) M (si M pp 4 (gi M pp 4 - 1)) := fr.si ⟨rfl, by decide⟩
  obtain ⟨⟨g1, g2, g3⟩, ⟨g4, g4'⟩, g5, g6, g7⟩ := h.1.2.2.1
  refine h.own f ⟨⟨g1, g2, g3⟩, ⟨?_, by omega⟩, (gi_idx (by decide)).trans g5, (gi_idx (by decide)).trans g6, hC⟩
  rw [gi_self, g4]
  exact nn_sub (a := o + 1) (b := 1) (by omega)
theorem mvr.tr {τ'' : Nat → Nat} {M'' : zM} (h : mvr τ M τ' M') (h' : mvr τ' M' τ'' M'') : mvr τ M τ'' M'' := by
  refine ⟨h.1.tr2 (h'.1.mono fun x k _ z => ?_), fun x hx z => ?_⟩
  · by_cases hx : x < zsz M
    · by_cases h1 : τ x = 1
      · rcases z with z | z
        · unfold pU at z ⊢
          omega
        · exact .inl (.inr ⟨z.1, h1⟩)
      · have e := h.2 x hx h1
        unfold pU at z ⊢
        rw [e] at z
        exact .inl z
    · exact .inr (by omega)
  · have e := h.2 x hx z
    exact (h'.2 x (Nat.lt_of_lt_of_le hx h.1.1.1) (by rw [e]; exact z)).trans e
theorem mvr_tk (h : xPs M τ pp a lf n c fs s C o) (f : fr (tkP a) M M') : mvr τ M τ M' := by
  have az := h.az
  exact ⟨f.fg.mono fun x k _ z => .inl (tkP_pU ⟨az.1, az.2.2⟩ z), fun _ _ _ => rfl⟩
theorem pEnd.mvr (h : pEnd pp a lf n c cz cu M τ fs s C o M' τ' fs' s') : mvr τ M τ' M' := ⟨h.2.1.mono fun _ _ _ z => .inl z, fun x hx _ => h.2.2.1 x hx⟩
theorem mvr_lc {lo : Nat} (f : fg (fun x _ => lo ≤ x ∧ τ x = 1) M M') (hl : 190 ≤ lo) (ht : ∀ x, x < zsz M → τ' x = τ x) : mvr τ M τ' M' := ⟨f.mono fun x _ _ z => .inr ⟨by omega, z.2⟩, fun x hx _ => ht x hx⟩
theorem bnd_ok {α β : Type} {x : pR α} {k : α → pS → pR β} {v : α} {s : pS} (h : x = .ok (v, s)) : bnd x k = k v s := by rw [h]; rfl
theorem bnd_er {α β : Type} {x : pR α} {k : α → pS → pR β} {w : Nat × Nat} (h : x = .error w) : bnd x k = .error w := by rw [h]; rfl
/-- a fault is thrown out of a call -/
theorem fO_inr {P : Nat → Nat → Prop} {w : Nat} {ou : zO} (h : fO P M w ou M') : ∃ q, ou = .inr (q, 12, 0) := by
  obtain ⟨q, h1, -⟩ := h
  exact ⟨q, h1⟩
theorem y_wth {ro : Option pT} {i : Bool} {D dm dW : Nat} (hro : lvO o ro fun o r => cVm E pp a lf n c YX9_assignment [(1, vi (boI i))] dm o D (r.asg i)) (hdm : dm + 1 ≤ dW ∧ 30 ≤ dW) : cVm E pp a lf n c YX9_within [(1, vi (boI i))] dW o D (pWth (zOf n c dg) ro i) := by
  intro d Q M τ fs s C hd h hy hn
  obtain ⟨d, rfl⟩ : ∃ d', d = d' + 20 := ⟨d - 20, by omega⟩
  unfold pWth at hy hn
  have R := rn_st h C.1
  have hp := h.pz
  have z190 := h.z190
  refine sX9_within_0 M pp _ ?_
  refine y_begX (dg := dg) h.tz h.pt ?_
  show Z E YX9_within (d + 19 + 1) M [(0, vr (some (pp, 8, 0))), (1, vi (boI i))] 4 [vi (if begX (zOf n c dg) s then 1 else 0)] Q
  refine sX9_within_4 M pp _ _ ?_
  by_cases hb : begX (zOf n c dg) s = true
  · rw [if_pos hb] at hy hn
    rw [if_pos hb, if_neg (by decide)]
    refine y_opens (dg := dg) h.tz h.pt hp.1 h.op.1 h.op.2 (fun ho => ?_) (fun ho ou M' f => ?_)
    · rcases hro with ⟨-, z⟩ | ⟨r, rfl, -, ok, hc⟩
      · omega
      have R1 := R.op ho
      have m1 : mvr τ M τ (si M pp 4 (nI (o + 1))) := mvr_own h (fr.si (P := fun x _ => x = pp) rfl) (fun _ _ z => z)
      show Z E YX9_within (d + 19 + 1) (si M pp 4 (nI (o + 1))) [(0, vr (some (pp, 8, 0))), (1, vi (boI i))] 20 [] Q
      refine sX9_within_20 _ pp _ ?_
      refine hc (d + 19) _ _ τ fs s C (by omega) R1.ps (fun v s' e M' τ' fs' p pe vn => ?_) (fun w e ou M' pe => ?_)
      · have R2 := R1.cl pe (ok.asg i C s v s' e).1
        have l2 := (ok.asg i C s v s' e).2.1
        show Z E YX9_within (d + 19 + 1) M' [(0, vr (some (pp, 8, 0)))] 25 [vr (some p)] Q
        refine sX9_within_25 M' pp _ ⟨by omega, ?_⟩
        have R3 := R2.cls h.ls
        have m3 : mvr τ' M' τ' (si M' pp 4 (gi M' pp 4 - 1)) := mvr_own R2.ps (fr.si (P := fun x _ => x = pp) rfl) (fun _ _ z => z)
        exact hy v s' e _ _ fs' p (R3.nd (by omega) (by omega)) ((vn.mv m3 z190 (Nat.le_refl _) (Nat.le_refl _)).mv fin_mvr z190 (Nat.le_refl _) (Nat.le_refl _))
      · obtain ⟨q, rfl⟩ := fO_inr pe.1
        show ZT E YX9_within (d + 19 + 1) M' _ 22 (q, 12, 0) Q
        exact ZT.out (nohand rfl) (hn w e _ M' (R1.er pe (by omega) (by omega)))
    · obtain ⟨q, rfl⟩ := fO_inr f.1
      rcases hro with ⟨rfl, -⟩ | ⟨r, rfl, z, -⟩
      · show ZT E YX9_within (d + 19 + 1) M' _ 17 (q, 12, 0) Q
        exact ZT.out (nohand rfl) (hn _ rfl _ M' (R.er (ft_er h f) (by omega) (by omega)))
      · omega
  · rw [if_neg hb] at hy hn
    rw [if_neg hb, if_pos rfl]
    refine ⟨a, h.pt, ?_⟩
    obtain ⟨⟨lp, hk, -⟩, -⟩ := id h.tz
    have az := h.az
    refine x_fault (d := d + 13) (k := 2) (by omega) az.2.1 hk.2.2.1 (fun M' f g1 g2 g3 => ?_)
    show Z E YX9_within (d + 19 + 1) M' [] 15 [vr (some (zsz M, 12, 0))] Q
    refine sX9_within_15 M' _ ⟨zsz M, rfl, ?_⟩
    exact hn (2, (tkn n c s.1).2.2.2.2) rfl _ M' (R.er (ft_er h ⟨⟨zsz M, rfl, g1, ⟨Nat.le_refl _, by omega⟩, f.mono fun _ _ _ z => z.elim⟩, g2, g3⟩) (by omega) (by omega))
end
