/-! THE COMPONENT's PARSER: inside: parameters -/
section
variable {E : zE} {pp a lf n : Nat} {c : Nat → Int32} {dg : Int32 → List Int32} {K o dm : Nat}
/-- the current function's Code -/
theorem xPs.cur {M : zM} {τ : Nat → Nat} {fs : List Nat} {s : pS} {C : pC} {f : Nat} (h : xPs M τ pp a lf n c fs s C o) (hf : fs[C.1]? = some f) : gr M pp 3 = some (f, 10, 0) := by
  obtain ⟨⟨g, h1, h2⟩, -⟩ := h.2.2.1
  rw [hf] at h1
  cases h1
  exact h2
/-- does the function have the name -/
theorem y_fhas {d : Nat} {Q : zO → zM → Prop} {M : zM} {τ : Nat → Nat} {fs : List Nat} {s : pS} {C : pC} {f k x : Nat} {q : gF} (h : xPs M τ pp a lf n c fs s C o) (hf : fs[k]? = some f) (hq : s.2.2[k]? = some q) (hx : x < 100000) (hQ : Q (.inl (some (vi (if x ∈ q.1 then 1 else 0)))) M) : Z E YX11_has d M [(0, vr (some (f, 10, 0))), (1, vi (nI x))] 0 [] Q := by
  obtain ⟨-, b, mb, hv, -⟩ := h.2.2.2.2.2 k f q hf hq
  exact y_has hv.1 hv.2.1 hv.2.2.1.1 (by have := hv.2.2.1.2.2; omega) hv.2.2.2.2.2.1 hv.2.2.2.2.2.2 hx hQ
/-- what holds of a function whose text is read -/
def fnI (M : zM) (fs : List Nat) (s : pS) (Dn : Nat → Prop) (N f m : Nat) (own : Option Nat) (ou : Nat) (vs : List Nat) : Prop := fs[N]? = some f ∧ ¬ Dn N ∧ 0 < N ∧ s.2.2[N]? = some (vs, 0, own, ou, [], gNo) ∧ gi M f 6 = nI m ∧ ownI (gi M f 8) own
theorem hld_at {s : pS} {N x : Nat} {q : gF} (hq : s.2.2[N]? = some q) : (hld N x s).2.2[N]? = some (vsA q.1 x, q.2) := by
  show (adV N x s.2.2)[N]? = _
  rw [adV_at hq, List.getElem?_set_self (List.getElem?_eq_some_iff.mp hq).1]
/-- parameters: from behind ( up to behind ) -/
theorem y_par {d : Nat} {Q : zO → zM → Prop} {fsB : List Nat} {czB cuB tB : Nat} {M0 B : zM} {τ0 τB : Nat → Nat} {fs0 : List Nat} {s0 : pS} {Dn : Nat → Prop} {f lp ld N : Nat} {l2 l3 : Int32} {own : Option Nat} {ou : Nat} {pF : pR (Nat × Nat)} {kk : Nat → pS → pR (Nat × Nat)}
    (hd : 12 ≤ d)
    (hy : ∀ (m : Nat) (s' : pS) (vs : List Nat) (M' : zM) (τ' : Nat → Nat) (fs' : List Nat) (cz cu : Nat), pF = kk m s' → fsB <+: fs' → tB + 1 ≤ s'.1 → rk pp a lf n c M0 τ0 fs0 s0 Dn (N, 0, 0) o M' τ' fs' s' cz cu → czB + 20 ≤ cz → cuB + 400 ≤ cu → wF (zsz M0) M' τ' f lp ld [] [] → (lA M' lp = 1 ∧ lA M' ld = 1 ∧ lC M' lp = 0 ∧ lC M' ld = 0) → kg f lp ld τB B τ' M' → fnI M' fs' s' Dn N f m own ou vs → (∀ q ∈ s'.2.2, q.1.length < s'.1) → m ≤ 8 → Z E YX9_inside (d + 1) M' [(0, vr (some (pp, 8, 0))), (1, vr (some (f, 10, 0))), (2, vi l2), (3, vi l3)] 173 [] Q)
    (hn : ∀ w, pF = .error w → ∀ q M', pEr lf 10 200 τ0 fs0 M0 s0 w (.inr (q, 12, 0)) M' → Q (.inr (q, 12, 0)) M') :
    ∀ (u : Nat) (m : Nat) (s : pS) (vs : List Nat) (M : zM) (τ : Nat → Nat) (fs : List Nat) (cz cu : Nat), 1300 ≤ u + s.1 → pF = (bnd (pPars (zOf n c dg) N u m s) fun m s => bnd (nxt' (zOf n c dg) s) fun _ s => kk m s) → fsB <+: fs → tB ≤ s.1 → rk pp a lf n c M0 τ0 fs0 s0 Dn (N, 0, 0) o M τ fs s cz cu → czB ≤ cz → cuB ≤ cu → wF (zsz M0) M τ f lp ld [] [] → (lA M lp = 1 ∧ lA M ld = 1 ∧ lC M lp = 0 ∧ lC M ld = 0) → kg f lp ld τB B τ M → fnI M fs s Dn N f m own ou vs → m ≤ 8 → (m = 8 → isS (zOf n c dg) 27 s = true) → Z E YX9_inside (d + 1) M [(0, vr (some (pp, 8, 0))), (1, vr (some (f, 10, 0))), (2, vi l2), (3, vi l3)] 33 [] Q := by
  have e27 : sgX (nI 27) = 3 := by decide +kernel
  intro u
  induction u with
  | zero => intro m s vs M τ fs cz cu hf _ _ _ R _ _ _ _ _ _ _ _; have := R.ps.tz.t_le; omega
  | succ u ih =>
    intro m s vs M τ fs cz cu hf pe hB hT R hz hu W hA hK hI hm hm8
    have z := R.z0
    have kd := tk_kd (dg := dg) R.ps.tz
    obtain ⟨i1, i2, i3, i4, i5, i6⟩ := hI
    have c3 : 190 ≤ f ∧ f < zsz M ∧ τ f = 3 := ⟨by have := W.1.1; omega, W.1.2⟩
    refine iX9_inside_33 M pp _ _ _ ⟨a, R.ps.pt, ?_⟩
    -- )
    have clo : isS (zOf n c dg) 27 s = true → Z E YX10_next d M (zargs 0 [vr (some (a, 9, 0))]) 0 [] (zafter E YX9_inside (d + 1) [(0, vr (some (pp, 8, 0))), (1, vr (some (f, 10, 0))), (2, vi l2), (3, vi l3)] 170 3 [] Q) := fun hs => by
      have pe1 : pF = bnd (nxt' (zOf n c dg) s) fun _ s => kk m s := pe.trans (bnd_ok (by rw [pPars_eq]; rw [if_pos hs]; rfl))
      refine R.nxtg (tz := 10) (tu := 200) (dg := dg) (.inl (isS_k hs)) (by omega) (by omega) (by omega) (fun e M' R' k => ?_) (fun w e q M' er => ZT.out (nohand rfl) (hn w (pe1.trans (bnd_er e)) q M' er))
      have W' := W.k k z.1
      have g6 : gi M' f 6 = gi M f 6 ∧ gi M' f 8 = gi M f 8 := ⟨(k.mvr.cd c3 (by decide) (by decide)).1, (k.mvr.cd c3 (by decide) (by decide)).1⟩
      have a1 := (k.wl W.2.2.1 z.1).2
      have a2 := (k.wl W.2.2.2.1 z.1).2
      show Z E YX9_inside (d + 1) M' [(0, vr (some (pp, 8, 0))), (1, vr (some (f, 10, 0))), (2, vi l2), (3, vi l3)] 173 [] Q
      exact hy m _ vs M' τ fs _ _ (pe1.trans (bnd_ok e)) hB (by dsimp only; omega) R' (by omega) (by omega) W'.1 ⟨a1.1.trans hA.1, a2.1.trans hA.2.1, a1.2.trans hA.2.2.1, a2.2.trans hA.2.2.2⟩ (hK.k k) ⟨i1, i2, i3, i4, g6.1.trans i5, by rw [g6.2]; exact i6⟩ (fun q hq => by have := R.ps.vl q hq; dsimp only; omega) hm
    -- a parameter
    have par : isS (zOf n c dg) 27 s = false → (if (gi M a 3) = 1 then (∃ b1 : Nat, (some (f, 10, 0) : Option zP) = some (b1, 10, 0) ∧ (Z E YX11_has d M (zargs 0 [vr (some (b1, 10, 0)), vi (gi M a 6)]) 0 [] (zafter E YX9_inside (d + 1) [(0, vr (some (pp, 8, 0))), (1, vr (some (b1, 10, 0))), (2, vi l2), (3, vi l3)] 72 3 [] Q))) else (Z E YX10_fault d M (zargs 0 [vr (some (a, 9, 0)), vi 2]) 0 [] (zafter E YX9_inside (d + 1) [] 60 3 [] Q))) := fun hs => by
      have m7 : m ≤ 7 := by
        by_cases e : m = 8
        · have := hm8 e; rw [hs] at this; cases this
        · omega
      by_cases h1 : gi M a 3 = 1
      · rw [if_pos h1]
        refine ⟨f, rfl, ?_⟩
        have k1 : tkd (zOf n c dg) s.1 = 1 := kd.symm.trans h1
        have tk := y_tak (dg := dg) R.ps.tz (.inl k1)
        rw [tk.1]
        have hx := tak_lt (x := (nam (tkX n c (tkn n c s.1)) s).1) R.ps.tz (.inl k1) rfl
        refine y_fhas R.ps i1 i4 hx ?_
        show Z E YX9_inside (d + 1) M [(0, vr (some (pp, 8, 0))), (1, vr (some (f, 10, 0))), (2, vi l2), (3, vi l3)] 75 [vi (if (nam (tkX n c (tkn n c s.1)) s).1 ∈ vs then 1 else 0)] Q
        refine sX9_inside_75 M pp _ _ _ _ ?_
        have pp0 : pPars (zOf n c dg) N (u + 1) m s = if (nam (tkX n c (tkn n c s.1)) s).1 ∈ vs then flt (zOf n c dg) 3 s else bnd (takN (zOf n c dg) s) fun x s => pPb (zOf n c dg) N u m (hld N x s) := by
          rw [pPars_eq]
          rw [if_neg (by rw [hs]; decide), if_neg (fun z => z k1), i4]
          show (if decide ((nam (tkX n c (tkn n c s.1)) s).1 ∈ vs) = true then _ else _) = _
          simp only [decide_eq_true_eq]
        by_cases hv : (nam (tkX n c (tkn n c s.1)) s).1 ∈ vs
        · rw [if_pos hv, if_neg (by decide)]
          refine ⟨a, R.ps.pt, ?_⟩
          refine R.fltg (tz := 10) (tu := 200) (dg := dg) (k := 3) rfl (by omega) (by omega) (by omega) (fun q M' er => ?_)
          show Z E YX9_inside (d + 1) M' [] 86 [vr (some (q, 12, 0))] Q
          exact sX9_inside_86 M' _ ⟨q, rfl, hn _ (pe.trans (bnd_er (pp0.trans ((if_pos hv).trans rfl)))) q M' er⟩
        · rw [if_neg hv, if_pos rfl]
          refine ⟨a, R.ps.pt, ?_⟩
          have en : nedN (zOf n c dg) s = takN (zOf n c dg) s := by unfold nedN; rw [if_pos k1]
          have pe1 : pF = bnd (nedN (zOf n c dg) s) fun x s => bnd (pPb (zOf n c dg) N u m (hld N x s)) fun m s => bnd (nxt' (zOf n c dg) s) fun _ s => kk m s := by
            refine pe.trans ?_
            rw [pp0, if_neg hv, bnd_as, en]
          refine R.needNg (tz := 10) (tu := 200) (dg := dg) (by omega) (by omega) (by omega) (fun x s1 e1 ex hx1 M1 R1 k1' => ?_) (fun w e q M' er => ZT.out (nohand rfl) (hn w (pe1.trans (bnd_er e)) q M' er))
          have pe2 := pe1.trans (bnd_ok e1)
          show Z E YX9_inside (d + 1) M1 [(0, vr (some (pp, 8, 0))), (1, vr (some (f, 10, 0))), (2, vi l2), (3, vi l3)] 95 [vi (nI x), vr (some (f, 10, 0))] Q
          refine sX9_inside_95 M1 pp _ _ _ _ _ ?_
          obtain ⟨fc, gf, ad⟩ := R1.add (E := E) (d := d) (y := x) (cz' := cz + 19) (cu' := cu + 396) rfl hx1.1 (fun q hq => by rw [hx1.2.2.1] at hq; have := R.ps.vl q hq; omega) (by omega) (by omega) (by omega)
          have ef : fc = f := by
            have := R1.ps.cur (f := f) i1
            rw [gf] at this
            cases this
            rfl
          subst ef
          refine ad _ (fun M2 τ2 R2 k2 => ?_)
          show Z E YX9_inside (d + 1) M2 [(0, vr (some (pp, 8, 0))), (1, vr (some (fc, 10, 0))), (2, vi l2), (3, vi l3)] 98 [] Q
          have k02 := k1'.tr k2
          have W2 := W.k k02 z.1
          have g6 : gi M2 fc 6 = nI m := (k02.mvr.cd c3 (by decide) (by decide)).1.trans i5
          have g8 : gi M2 fc 8 = gi M fc 8 := (k02.mvr.cd c3 (by decide) (by decide)).1
          have z2 := R2.z0
          have hf2 : zsz M0 ≤ fc ∧ fc < zsz M2 ∧ τ2 fc = 3 := W2.1.1
          have az2 := R2.ps.az
          have na : a ≠ fc := fun e => by rw [e] at az2; omega
          have X3 := ndX.c6 (v := gi M2 fc 6 + 1) (j := 6) R2.ps R2.2.2.2.2.1 ⟨by omega, hf2.2⟩ (.inl rfl) i1 i2
          have R3 := R2.cd6 (v := gi M2 fc 6 + 1) (j := 6) hf2 (by decide) X3
          have a1 := (k02.wl W.2.2.1 z.1).2
          have a2 := (k02.wl W.2.2.2.1 z.1).2
          have s31 : (hld N x s1).1 = s.1 + 1 := hx1.2.1
          have i4' : (hld N x s1).2.2[N]? = some (vsA vs x, 0, own, ou, [], gNo) := hld_at (q := (vs, 0, own, ou, [], gNo)) (by rw [hx1.2.2.1]; exact i4)
          refine iX9_inside_98 M2 pp _ _ _ ⟨by omega, a, R2.ps.pt, ?_⟩
          have q6 : gi (si M2 fc 6 (gi M2 fc 6 + 1)) fc 6 = nI (m + 1) := by rw [gi_self, g6]; exact nn_add m 1
          have q8 : gi (si M2 fc 6 (gi M2 fc 6 + 1)) fc 8 = gi M fc 8 := (gi_idx (by decide)).trans g8
          have W3 : wF (zsz M0) (si M2 fc 6 (gi M2 fc 6 + 1)) τ2 fc lp ld [] [] := by
            obtain ⟨v1, v2, v3, v4, v5, v6, v7⟩ := W2.1
            have nl1 : lp ≠ fc := fun e => by have := v3.2.1.2; rw [e] at this; omega
            have nl2 : ld ≠ fc := fun e => by have := v4.2.1.2; rw [e] at this; omega
            have ff : fg (fun x k => x = fc ∧ k = 6) M2 (si M2 fc 6 (gi M2 fc 6 + 1)) := (fr.si ⟨rfl, rfl⟩).fg
            have w1 := v3.k2 (τ' := τ2) ff (fun k => by omega) (fun k => .inl (by rw [a1.1, hA.1]; decide)) (fun _ _ => rfl)
            have w2 := v4.k2 (τ' := τ2) ff (fun k => by omega) (fun k => .inl (by rw [a2.1, hA.2.1]; decide)) (fun _ _ => rfl)
            exact ⟨v1, v2, w1.1, w2.1, v5, by rw [w1.2.1, w2.2.1]; exact v6, by rw [w1.2.1, w2.2.1]; exact v7⟩
          have A3 : lA (si M2 fc 6 (gi M2 fc 6 + 1)) lp = 1 ∧ lA (si M2 fc 6 (gi M2 fc 6 + 1)) ld = 1 ∧ lC (si M2 fc 6 (gi M2 fc 6 + 1)) lp = 0 ∧ lC (si M2 fc 6 (gi M2 fc 6 + 1)) ld = 0 := ⟨a1.1.trans hA.1, a2.1.trans hA.2.1, a1.2.trans hA.2.2.1, a2.2.trans hA.2.2.2⟩
          have K3 : kg fc lp ld τB B τ2 (si M2 fc 6 (gi M2 fc 6 + 1)) := (hK.k k02).st (P := fun x k => x = fc ∧ k = 6) (fr.si ⟨rfl, rfl⟩).fg (fun x k _ y => .inr (.inl y)) (fun _ _ _ _ => rfl)
          have t3 : gi (si M2 fc 6 (gi M2 fc 6 + 1)) a 3 = gi M2 a 3 ∧ gi (si M2 fc 6 (gi M2 fc 6 + 1)) a 6 = gi M2 a 6 := ⟨gi_oth na, gi_oth na⟩
          rw [q6]
          generalize si M2 fc 6 (gi M2 fc 6 + 1) = M3 at *
          have tl := R.ps.tz.t_le
          have pe2 : pF = bnd (pPb (zOf n c dg) N u m (hld N x s1)) fun m s => bnd (nxt' (zOf n c dg) s) fun _ s => kk m s := pe2
          generalize hld N x s1 = s3 at *
          have I3 : fnI M3 fs s3 Dn N fc (m + 1) own ou (vsA vs x) := ⟨i1, i2, i3, i4', q6, by rw [q8]; exact i6⟩
          have com : isS (zOf n c dg) 27 s3 = false → (if nI (m + 1) = 8 then (Z E YX10_fault d M3 (zargs 0 [vr (some (a, 9, 0)), vi 2]) 0 [] (zafter E YX9_inside (d + 1) [] 133 3 [] Q)) else (Z E YX10_need d M3 (zargs 0 [vr (some (a, 9, 0)), vi 8]) 0 [] (zafter E YX9_inside (d + 1) [(0, vr (some (pp, 8, 0))), (1, vr (some (fc, 10, 0))), (2, vi l2), (3, vi l3)] 143 3 [] Q))) := fun hs3 => by
            have pb : pPb (zOf n c dg) N u m s3 = if m + 1 = 8 then flt (zOf n c dg) 2 s3 else bnd (nedS (zOf n c dg) 32 s3) fun _ s => if tkd (zOf n c dg) s.1 = 1 then pPars (zOf n c dg) N u (m + 1) s else flt (zOf n c dg) 2 s := by
              unfold pPb
              rw [if_neg (by rw [hs3]; decide)]
            by_cases h8 : m + 1 = 8
            · rw [if_pos (show nI (m + 1) = 8 by rw [h8]; rfl)]
              refine R3.fltg (tz := 10) (tu := 200) (dg := dg) (k := 2) rfl (by omega) (by omega) (by omega) (fun q M' er => ?_)
              show Z E YX9_inside (d + 1) M' [] 136 [vr (some (q, 12, 0))] Q
              exact sX9_inside_136 M' _ ⟨q, rfl, hn _ (pe2.trans (bnd_er (pb.trans ((if_pos h8).trans rfl)))) q M' er⟩
            · rw [if_neg (show ¬ nI (m + 1) = 8 from fun z => h8 (nI_inj (a := m + 1) (b := 8) (by omega) (by omega) z))]
              have pe3 : pF = bnd (nedS (zOf n c dg) 32 s3) fun _ s => bnd (if tkd (zOf n c dg) s.1 = 1 then pPars (zOf n c dg) N u (m + 1) s else flt (zOf n c dg) 2 s) fun m s => bnd (nxt' (zOf n c dg) s) fun _ s => kk m s := by
                refine pe2.trans ?_
                rw [pb, if_neg h8, bnd_as]
              refine R3.needg (tz := 10) (tu := 200) (dg := dg) (j := 32) (by decide) (by decide +kernel) (by omega) (by omega) (by omega) (fun e4 M4 R4 k4 => ?_) (fun w e q M' er => ZT.out (nohand rfl) (hn w (pe3.trans (bnd_er e)) q M' er))
              have pe4 := pe3.trans (bnd_ok e4)
              show Z E YX9_inside (d + 1) M4 [(0, vr (some (pp, 8, 0))), (1, vr (some (fc, 10, 0))), (2, vi l2), (3, vi l3)] 146 [] Q
              refine iX9_inside_146 M4 pp _ _ _ ⟨a, R4.ps.pt, ?_⟩
              have kd4 := tk_kd (dg := dg) R4.ps.tz
              by_cases h1' : gi M4 a 3 = 1
              · rw [if_pos h1']
                have W4 := W3.k k4 z.1
                have b1 := (k4.wl W3.2.2.1 z.1).2
                have b2 := (k4.wl W3.2.2.2.1 z.1).2
                have c4 : 190 ≤ fc ∧ fc < zsz M3 ∧ τ2 fc = 3 := ⟨by omega, W3.1.2⟩
                have g4 : gi M4 fc 6 = gi M3 fc 6 ∧ gi M4 fc 8 = gi M3 fc 8 := ⟨(k4.mvr.cd c4 (by decide) (by decide)).1, (k4.mvr.cd c4 (by decide) (by decide)).1⟩
                obtain ⟨j1, j2, j3, j4, j5, j6⟩ := I3
                refine ih (m + 1) (s3.1 + 1, s3.2) _ M4 τ2 fs _ _ (by dsimp only; omega) (pe4.trans ?_) hB (by dsimp only; omega) R4 (by omega) (by omega) W4.1 ⟨b1.1.trans A3.1, b2.1.trans A3.2.1, b1.2.trans A3.2.2.1, b2.2.trans A3.2.2.2⟩ (K3.k k4) ⟨j1, j2, j3, j4, g4.1.trans j5, by rw [g4.2]; exact j6⟩ (by omega) (fun e => absurd e h8)
                rw [if_pos (kd4.symm.trans h1')]
              · rw [if_neg h1']
                refine R4.fltg (tz := 10) (tu := 200) (dg := dg) (k := 2) rfl (by omega) (by omega) (by omega) (fun q M' er => ?_)
                show Z E YX9_inside (d + 1) M' [] 165 [vr (some (q, 12, 0))] Q
                exact sX9_inside_165 M' _ ⟨q, rfl, hn _ (pe4.trans (bnd_er ((if_neg (fun z => h1' (kd4.trans z))).trans rfl))) q M' er⟩
          have go27 : isS (zOf n c dg) 27 s3 = true → Z E YX9_inside (d + 1) M3 [(0, vr (some (pp, 8, 0))), (1, vr (some (fc, 10, 0))), (2, vi l2), (3, vi l3)] 33 [] Q := fun hs3 => by
            refine ih (m + 1) s3 _ M3 τ2 fs _ _ (by omega) (pe2.trans ?_) hB (by omega) R3 (by omega) (by omega) W3 A3 K3 I3 (by omega) (fun _ => hs3)
            unfold pPb
            rw [if_pos hs3]
          have kd3 := tk_kd (dg := dg) R3.ps.tz
          by_cases h5 : gi M3 a 3 = 5
          · rw [if_pos h5]
            have e := tk_s (dg := dg) (j := 27) R3.ps.tz h5 (by decide) e27
            by_cases h6 : gi M3 a 6 = 3
            · rw [if_pos h6]
              exact go27 (by rw [show isS (zOf n c dg) 27 s3 = decide (gi M3 a 6 = 3) from e]; exact decide_eq_true h6)
            · rw [if_neg h6]
              exact com (by rw [show isS (zOf n c dg) 27 s3 = decide (gi M3 a 6 = 3) from e]; exact decide_eq_false h6)
          · rw [if_neg h5]
            exact com (tk_ns (dg := dg) (j := 27) R3.ps.tz h5 (by decide))
      · rw [if_neg h1]
        have k1 : ¬ tkd (zOf n c dg) s.1 = 1 := fun z => h1 (kd.trans z)
        refine R.fltg (tz := 10) (tu := 200) (dg := dg) (k := 2) rfl (by omega) (by omega) (by omega) (fun q M' er => ?_)
        show Z E YX9_inside (d + 1) M' [] 63 [vr (some (q, 12, 0))] Q
        exact sX9_inside_63 M' _ ⟨q, rfl, hn _ (pe.trans (bnd_er (by rw [pPars_eq]; rw [if_neg (by rw [hs]; decide), if_pos k1]; rfl))) q M' er⟩
    by_cases h5 : gi M a 3 = 5
    · rw [if_pos h5]
      have e := tk_s (dg := dg) (j := 27) R.ps.tz h5 (by decide) e27
      by_cases h6 : gi M a 6 = 3
      · rw [if_pos h6]
        exact clo (by rw [show isS (zOf n c dg) 27 s = decide (gi M a 6 = 3) from e]; exact decide_eq_true h6)
      · rw [if_neg h6]
        exact par (by rw [show isS (zOf n c dg) 27 s = decide (gi M a 6 = 3) from e]; exact decide_eq_false h6)
    · rw [if_neg h5]
      exact par (tk_ns (dg := dg) (j := 27) R.ps.tz h5 (by decide))
end
