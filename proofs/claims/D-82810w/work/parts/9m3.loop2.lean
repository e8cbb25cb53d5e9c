/-! THE COMPONENT's CODER: a loop up to behind its body -/
section
variable {S B C Ck CC : Nat → Prop} {M : zM} {cc : Nat × Nat} {D : Nat}
theorem loopA {De b ox oy ny hy' ky n c sv fc Dk Nk Kk : Nat} {xo : Option gEx} {y : gSt} {p2 : zP} {e : gN} {Γ : gK} {ps : List (Option zP)} (hb : S b) (e0 : gi M b 0 = nI sv) (hsv : sv < 3) (et : (xo = none ∧ (sv = 1 ∨ gr M b 2 = none)) ∨ (sv ≠ 1 ∧ ∃ p1 x, xo = some x ∧ gr M b 2 = some p1 ∧ xE S M De p1 x ∧ gok x ∧ gcx x ∧ gle ox x)) (e4 : gr M b 4 = some p2) (h2 : xNd S B M (cc.1 + 1, cc.2) C D oy ny hy' ky p2 y) (hy : gokT y) (hoy : oy ≤ ny ∧ hy' ≤ ky) (hDe : De ≤ 350) (hf : fnS S M e fc) (hG : Good S B M e fc Ck Nk Kk Dk Γ ps) (hCC : (∀ b, C b → CC b) ∧ (∀ b, Ck b → CC b) ∧ ∀ b, C b → ¬ Ck b) (hk : kgo Γ)
    {E : zE} {d : Nat} {Q : zO → zM → Prop} {M1 : zM} {l bs : List Nat} {ρ : Nat → Nat} {A : List Nat} {u m T : Nat} {s0 : gS} (ha : agS S M M1) (hB : agB B M M1) (hF : gr M1 29 12 = some (fc, 10, 0)) (hs : sep S B M1 ρ) (h : xSt M1 e Γ l bs ps ρ A u m s0) (hd : D + 1 + Dk + 350 ≤ d) (hu : u + (D + 2 + Dk) ≤ 60000) (hsk : (skk Γ).length + (D + 2 + Dk) ≤ 2000) (hm : m + (ox + 1 + oy) < 10000000) (hN : Nk + ox + 1 + ny < 9000000) (hT : T ≤ m)
    (hn : n < s0.m) (hc : c < s0.m) (hnc : n ≠ c) (hnΓ : ¬ mkP Γ n) (hcΓ : ¬ mkP Γ c) (n0 : noM s0 n) (n1 : noM s0 c) (hatn : s0.at n = none) (hatc : s0.at c = none)
    (hQ : ∀ (M' : zM) (ρ' : Nat → Nat) (A' : List Nat) (m' T' a : Nat) (o : Option Nat) (j1 j2 : Nat) (k1 k2 : List Nat) (s3 : gS), s3 = y e (lpW n c :: Γ) (gTst e Γ n xo s0) → gst (fun x => x = n ∨ mkP (lpW n c :: Γ) x) s0 s3 → xLp M' e (lpW n n) Γ (a :: l) none (u + 1) a l bs ps ρ' A' u m' (hrp c (if sv = 0 then s0.c.length else s3.c.length) s3) j1 j2 k1 k2 → sep S B M' ρ' → stF B CC M1 M' ρ ρ' → szs m T (ox + 1 + oy) (Nk + ox + 1 + ny) hy' (Kk + ky) m' T' → rm CC u l M1 ρ A T M' ρ' A' T' (u + (D + 2 + Dk)) → (m' ≤ 600 → mkS s3 n (fun k => k ∈ k1 ∨ o = some k)) → (m' ≤ 600 → ∀ k, k ∈ k1 ∨ o = some k → ∃ q, s3.c[k]? = some q ∧ q.2.1 = some n) → (∀ k, o = some k → k < 10000000) → (sv = 1 → o = none) → Z E YX33_code (d + 1) M' [(0, vr (some (b, 38, 0))), (1, C29), (2, vr (some (a, 17, 0))), (3, vi (nI m)), (4, vi (oN o))] 93 [] Q) :
    Z E YX3_enter d M1 [(0, C29), (1, vi 0)] 0 [] (zafter E YX33_code (d + 1) [(0, vr (some (b, 38, 0))), (1, C29)] 17 3 [] Q) := by
  obtain ⟨d, rfl⟩ : ∃ d', d = d' + 8 := ⟨d - 8, by omega⟩
  have hz := h.2.2.2.2.1
  have sm : smC (lpW n c :: Γ) Γ := smC_lp (show (0 : Nat) ≠ 2 by decide) rfl
  have skw : (skk (lpW n c :: Γ)).length = (skk Γ).length := by rw [sm.2.1]
  have wn : mkP (lpW n c :: Γ) n := ⟨lpW n c, List.mem_cons_self, .inl ⟨.inl rfl, .inl rfl⟩⟩
  refine y_enter (d := d + 1) h.1.1 h.2.1 h.2.2.1 h.2.2.2.1.1 (by have := h.2.2.2.1.2; omega) hz (fun M2 ρ2 A2 a he => ?_)
  obtain ⟨F2, s2⟩ := en_stF (C := CC) he hs hz h.2.1
  have r2 := en_rm (C := CC) (l := l) (m := T) he h.2.1 (by omega)
  obtain ⟨j1, j2, L2⟩ := en_xLp (w := lpW n c) h he rfl (.inl rfl) (wOK_lp n c) hf ha hF hs (by omega)
  have hz2 := L2.2.2.2.2.1
  have a2 : agS S M M2 := ha.tr (F2.agS hs)
  have B2 : agB B M M2 := hB.tr (F2.agB hs)
  show Z E YX33_code (d + 8 + 1) M2 [(0, vr (some (b, 38, 0))), (1, C29)] 20 [vr (some (a, 17, 0))] Q
  refine sX33_code_20 M2 b 29 _ ?_
  refine sX3_place_0 M2 L2.1.1 ?_
  show Z E YX33_code (d + 8 + 1) M2 [(0, vr (some (b, 38, 0))), (1, C29), (2, vr (some (a, 17, 0)))] 25 [vi (gi M2 29 7)] Q
  rw [L2.1.2.1.1]
  refine sX33_code_25 M2 b 29 _ _ ?_
  rw [(a2 b 0 hb).1, e0]
  -- from the body's begin on
  have body : ∀ (M3 : zM) (m3 : Nat) (s2' : gS) (o : Option Nat), s2' = gTst e Γ n xo s0 → xLp M3 e (lpW n c) Γ (a :: l) none (u + 1) a l bs ps ρ2 A2 u m3 s2' j1 j2 [] [] → fr cdP M2 M3 → m ≤ m3 → m3 ≤ m + (ox + 1) → gst (fun x => x = n) s0 s2' → (m3 ≤ 600 → mkS s2' n (fun k => o = some k)) → (m3 ≤ 600 → ∀ k, o = some k → ∃ q, s2'.c[k]? = some q ∧ q.2.1 = some n) → (∀ k, o = some k → k < 10000000) → (sv = 1 → o = none) →
      ∃ b1 t1 : Nat, gr M3 b 4 = some (b1, t1, 0) ∧ (∃ Y_ : zY, vt_code t1 = some Y_ ∧ Z E Y_ (d + 8) M3 (zargs 0 [vr (some (b1, t1, 0)), C29]) 0 [] (zafter E YX33_code (d + 8 + 1) [(0, vr (some (b, 38, 0))), (1, C29), (2, vr (some (a, 17, 0))), (3, vi (nI m)), (4, vi (oN o))] 67 3 [] Q)) := by
    intro M3 m3 s2' o hs2' L3 f3 hm1 hm2 g3 k3 k4 k5 k6
    have F3 := f3.stF (B := B) (C := CC) (ρ := ρ2) hz2
    have s3 := sep_cd s2 f3 hz2
    have a3 := a2.tr (F3.agS s2)
    have la := L3.a190
    have mm2 : s0.m ≤ s2'.m := g3.2.1
    rw [(a3 b 4 hb).2, e4]
    have X := lp_xSt L3 (.inl rfl) (hdj := ⟨(fun mm z => by rcases wmk_lp z with z | z <;> rw [z]; exact hnΓ; exact hcΓ), fun _ => hnc⟩) (fun mm z => ⟨by rcases wmk_lp z with z | z <;> omega, by rcases wmk_lp z with z | z <;> rw [z]; exact (g3.2.2.1 n hn).trans hatn; exact (g3.2.2.1 c hc).trans hatc⟩)
    refine y_ndS (h2 e fc (lpW n c :: Γ) (none :: ps) (Dk + 1) Nk Kk Ck CC hf (hG.cons rfl) hCC (kgo_w hk rfl) (ctx_lp (.inl rfl))) a3 (B2.tr (F3.agB s2)) (F3.f12.trans (F2.f12.trans hF)) s3 X (by omega) (by omega) (by rw [skw]; omega) (by omega) (by omega) (T := T) (by omega) (fun M4 ρ4 A4 m4 T4 X4 s4 F4 sz r4 => ?_)
    have sz0 := id sz
    obtain ⟨i1, i1', i1'', i2, i3⟩ := sz
    have g4 := hy e (lpW n c :: Γ) s2' (kgo_w hk rfl)
    have hz3 := L3.2.2.2.2.1
    obtain ⟨j1', j2', k1, k2, L4, J⟩ := St_lp X4 (.inl rfl) ((F4.1.2.2 a la.2.1).trans la.2.2.1)
    have a4 := a3.tr (F4.agS s3)
    have g04 : gst (fun x => x = n ∨ mkP (lpW n c :: Γ) x) s0 (y e (lpW n c :: Γ) s2') := (g3.mono fun _ z => .inl z).tr (g4.mono fun _ z => .inr z)
    have m4' : s2'.m ≤ (y e (lpW n c :: Γ) s2').m := g4.2.1
    have mkn : m4 ≤ 600 → mkS (y e (lpW n c :: Γ) s2') n (fun k => k ∈ k1 ∨ o = some k) := fun z => mkS_body (k3 (by omega)) g4 (J z).1
    have mkn1 : m4 ≤ 600 → ∀ k, k ∈ k1 ∨ o = some k → ∃ q, (y e (lpW n c :: Γ) s2').c[k]? = some q ∧ q.2.1 = some n := fun z k hk => by
      rcases hk with y1 | y1
      · exact (J z).1.2 k y1
      · obtain ⟨q, q1, q2⟩ := k4 (by omega) k y1
        exact ⟨q, g4.get q1, q2⟩
    have mkc : m4 ≤ 600 → mkS (y e (lpW n c :: Γ) s2') c (fun k => k ∈ k2) := fun z => (mkS_body (P := fun _ => False) (noM.mkS (noM_gst n1 g3 (fun y => hnc y.symm) hc)) g4 ((J z).2 rfl)).mono fun k y => y.resolve_right id
    have mkc1 : m4 ≤ 600 → ∀ k ∈ k2, ∃ q, (y e (lpW n c :: Γ) s2').c[k]? = some q ∧ q.2.1 = some c := fun z => ((J z).2 rfl).2
    generalize hs3 : y e (lpW n c :: Γ) s2' = s3' at *
    show Z E YX33_code (d + 8 + 1) M4 [(0, vr (some (b, 38, 0))), (1, C29), (2, vr (some (a, 17, 0))), (3, vi (nI m)), (4, vi (oN o))] 70 [] Q
    refine iX33_code_70 M4 b 29 _ _ _ ⟨a, rfl, ?_⟩
    rw [(a4 b 0 hb).1, e0]
    have hz4 := L4.2.2.2.2.1
    obtain ⟨h11, h12, h13, h14, h15, h16, h17, h18, ⟨d1, d2, d3, d4⟩, ⟨x1, x2⟩, h19⟩ := id L4
    have fin : ∀ tv : Nat, (m4 ≤ 600 → tv < 32768 ∧ ∀ p, (hrp c (if sv = 0 then s0.c.length else s3'.c.length) s3').at c = some p → tv = p) → Z E YX41_goAll (d + 8) M4 [(0, vr (some (j2', 18, 0))), (1, C29), (2, vi (nI tv))] 0 [] (zafter E YX33_code (d + 8 + 1) [(0, vr (some (b, 38, 0))), (1, C29), (2, vr (some (a, 17, 0))), (3, vi (nI m)), (4, vi (oN o))] 90 3 [] Q) := fun tv htv => by
      refine y_goAll (d := d + 7) h11.1 x2 (fun M5 f5 v5 => ?_)
      show Z E YX33_code (d + 8 + 1) M5 [(0, vr (some (b, 38, 0))), (1, C29), (2, vr (some (a, 17, 0))), (3, vi (nI m)), (4, vi (oN o))] 93 [] Q
      have f5c : fr cdP M4 M5 := f5.mono fun x k z => .inl (by omega)
      have hat' : ∀ mm, mm ≠ c → (hrp c (if sv = 0 then s0.c.length else s3'.c.length) s3').at mm = s3'.at mm := fun mm hmm => (show (if mm = c then _ else s3'.at mm) = _ by rw [if_neg hmm])
      have wf : wfS (hrp c (if sv = 0 then s0.c.length else s3'.c.length) s3') := wfS_hrp h11.2.1.2.2.2.2.2.2 (by omega)
      have H := rel_31 (w' := lpW n n) h11.2.1 (fun mm z => (wmk_lp z).elim (fun z => .inr (.inl ⟨.inl rfl, .inl z⟩)) .inl) v5 mkc mkc1 hat' htv
      have L5 := xLp_31 (w' := lpW n n) (st' := hrp c (if sv = 0 then s0.c.length else s3'.c.length) s3') L4 f5 rfl (Nat.le_refl _) rfl wf ⟨rfl, rfl, rfl⟩ (fun mm z => hat' mm (fun y => hcΓ (by rw [← y]; exact z))) H
      exact hQ M5 ρ4 A4 m4 T4 a o j1' j2' k1 k2 s3' (by rw [← hs3, hs2']) g04 L5 (sep_cd s4 f5c hz4) (((F2.tr F3).tr F4).tr (f5c.stF hz4)) (by unfold szs at *; omega) ((((r2.tr (rm_cd (V := 0) L2.2.1 f3 hz2 (Nat.le_refl _)) h.lz (by omega) (Nat.zero_le _)).tr (r4.dn la.2.2.1) h.lz (Nat.le_refl _) (by omega)).tr (rm_cd (V := 0) L4.2.1 f5c hz4 (Nat.le_refl _)) h.lz (Nat.le_refl _) (Nat.zero_le _))) mkn mkn1 k5 k6
    have hm4 : m4 ≤ 600 → m = s0.c.length := fun z => h.1.2.1.2.2.1 (by omega)
    by_cases hs0 : sv = 0
    · rw [if_pos (by rw [hs0]; rfl)]
      refine ⟨j2', d4, fin m (fun z => ⟨by omega, fun p hp => ?_⟩)⟩
      have hp' : (if c = c then some (if sv = 0 then s0.c.length else s3'.c.length) else s3'.at c) = some p := hp
      rw [if_pos rfl, if_pos hs0] at hp'
      have := Option.some.inj hp'
      have := hm4 z
      omega
    · rw [if_neg (by rw [nn_eql (by omega) (by decide)]; exact hs0)]
      refine sX3_place_0 M4 h11.1 ?_
      show Z E YX33_code (d + 8 + 1) M4 [(0, vr (some (b, 38, 0))), (1, C29), (2, vr (some (a, 17, 0))), (3, vi (nI m)), (4, vi (oN o))] 90 [vi (gi M4 29 7), C29, vr (gr M4 a 2)] Q
      rw [h11.2.1.1, d4]
      refine sX33_code_90 M4 b 29 a _ _ _ 29 _ ⟨j2', rfl, fin m4 (fun z => ⟨by omega, fun p hp => ?_⟩)⟩
      have hp' : (if c = c then some (if sv = 0 then s0.c.length else s3'.c.length) else s3'.at c) = some p := hp
      rw [if_pos rfl, if_neg hs0] at hp'
      have := Option.some.inj hp'
      have := h11.2.1.2.2.1 z
      omega
  rcases et with ⟨t1, t2⟩ | ⟨t0, p1, x, t1, t2, h1, hx, hcx, hox⟩
  · by_cases hs1 : sv = 1
    · rw [if_pos (by rw [hs1]; rfl)]
      exact body M2 m s0 none (by rw [t1]; rfl) L2 fr.rf (Nat.le_refl _) (by omega) (gst.rf s0) (fun _ => n0.mkS) (fun _ k z => by cases z) (fun k z => by cases z) (fun _ => rfl)
    · rw [if_neg (by rw [nn_eql (by omega) (by decide)]; exact hs1), (a2 b 2 hb).2, t2.resolve_left hs1, if_pos rfl]
      exact body M2 m s0 none (by rw [t1]; rfl) L2 fr.rf (Nat.le_refl _) (by omega) (gst.rf s0) (fun _ => n0.mkS) (fun _ k z => by cases z) (fun k z => by cases z) (fun _ => rfl)
  · rw [if_neg (by rw [nn_eql (by omega) (by decide)]; exact t0), (a2 b 2 hb).2, t2, if_neg (fun z => by cases z)]
    have ex : x e (lpW n c :: Γ) = x e Γ := hcx e _ Γ sm
    have lo := hox e Γ (skk Γ) s0
    have gx := hx e Γ (skk Γ) s0
    have gl := gx.len
    refine lp_ex (L := skk Γ) h1 hx a2 L2 (by rw [ex]; omega) (by omega) (fun M3 L3 f3 => ?_)
    rw [ex] at L3
    have nx : noM (x e Γ (skk Γ) s0) n := noM_gst n0 gx (fun z => z) hn
    have mx : s0.m ≤ (x e Γ (skk Γ) s0).m := gx.2.1
    have g5 : gst (fun y => y = n) s0 (em e Γ (psh 1 (skk Γ)) 22 0 0 (some n) (x e Γ (skk Γ) s0)) := (gx.mono fun _ z => z.elim).tr (gst_emm _ _ _ _ _ _ _ rfl)
    have et' : em e Γ (psh 1 (skk Γ)) 22 0 0 (some n) (x e Γ (skk Γ) s0) = gTst e Γ n xo s0 := by rw [t1]; rfl
    generalize hs1 : x e Γ (skk Γ) s0 = s1 at *
    have lx : m + (s1.c.length - s0.c.length) ≤ 600 → m + (s1.c.length - s0.c.length) = s1.c.length := L3.1.2.1.2.2.1
    generalize hmx : m + (s1.c.length - s0.c.length) = mv at *
    show Z E YX33_code (d + 8 + 1) M3 [(0, vr (some (b, 38, 0))), (1, C29), (2, vr (some (a, 17, 0))), (3, vi (nI m))] 52 [] Q
    refine sX33_code_52 M3 b 29 _ _ ?_
    refine lp_pu (L := psh 1 (skk Γ)) (mk := some n) (a' := 0) (b' := 0) L3 (by omega) (fun _ => ⟨rfl, rfl, (fun z => by cases z), (fun mm p z1 z2 z3 => by cases z1; exact absurd wn z3), rfl⟩) (fun mm z => by cases z; omega) (fun mm z => by cases z; exact hnΓ) (fun M4 L4 f4 => ?_)
    rw [em_cx sm] at L4
    show Z E YX33_code (d + 8 + 1) M4 [(0, vr (some (b, 38, 0))), (1, C29), (2, vr (some (a, 17, 0))), (3, vi (nI m))] 60 [vi (nI mv)] Q
    refine sX33_code_60 M4 b 29 _ _ _ ?_
    refine body M4 (mv + 1) _ (some mv) et' L4 (f3.tr f4) (by omega) (by omega) g5 (fun z => ?_) (fun z k hk => ?_) (fun k z => by cases z; omega) (fun z => absurd z t0)
    · exact (mkS_emm (P := fun _ => False) nx.mkS _ _ _ _ _ _).mono fun k y => by rw [lx (by omega)]; exact (y.resolve_left id) ▸ rfl
    · cases hk
      exact ⟨((22, 0, 0), some n, e.1, opn Γ, (skk Γ).length, psh 1 (skk Γ), trs Γ), by rw [lx (by omega)]; exact at_app rfl, rfl⟩
end
