/-! THE COMPONENT's CODER: for in -/
theorem smC_ea {o t t' : Nat} {Γ : gK} : smC (eaW o t :: Γ) (eaW o t' :: Γ) := ⟨by unfold opn; rfl, rfl, by unfold trs; rfl⟩
theorem wOK_ea (o t : Nat) : wOK (eaW o t) := ⟨(show (4 : Nat) ≤ 4 by decide), fun _ => rfl, fun z => absurd z (show ¬ ((4 : Nat) = 0 ∨ (4 : Nat) = 1 ∨ (4 : Nat) = 2) by decide), (show (1 : Nat) < 100000 by decide), (show (0 : Nat) < 32768 by decide)⟩
section
variable {E : zE} {d : Nat} {Q : zO → zM → Prop} {M : zM} {e : gN} {w : gW} {Γ : gK} {la : List Nat} {own : Option zP} {v a : Nat} {l bs : List Nat} {ps : List (Option zP)} {ρ : Nat → Nat} {A : List Nat} {u m : Nat} {s : gS} {L : List Bool} {j1 j2 : Nat} {k1 k2 : List Nat}
theorem lp_set {x : Nat} (h : xLp M e w Γ la own v a l bs ps ρ A u m s j1 j2 k1 k2) (hb : m + 1 < 100000000) (hx : x < 100000) (hQ : ∀ M', xLp M' e w Γ la own v a l bs ps ρ A u (m + 1) (gSet x e (w :: Γ) L s) j1 j2 k1 k2 → fr cdP M M' → Q (.inl none) M') : Z E YX3_set (d + 2) M [(0, C29), (1, vi (nI x))] 0 [] Q :=
  y_set (L := L) h.1 hb hx (fun M' k f => hQ M' (xLp_put h f k (gok_Set x e (w :: Γ) L s).gsc (fun _ _ z => z) (fun mm z => (gok_Set x e (w :: Γ) L s).2.2.1 mm (h.2.2.2.2.2.2.1.1 mm z).1) (Nat.le_succ _)) f)
theorem lp_end4 {t n tv : Nat} {o : Option Nat} (h : xLp M e w Γ la own v a l bs ps ρ A u m s j1 j2 k1 k2) (hw : ∀ mm, wmk w mm → mm = n) (hb : m + 1 < 100000000) (hn : n < s.m) (hnΓ : ¬ mkP Γ n) (ht : t < s.m) (htΓ : ¬ mkP Γ t) (hnt : t ≠ n) (hv : m < 600 → tv < 32768 ∧ ∀ p, s.at t = some p → tv = p) (hk : m ≤ 600 → mkS s n (fun k => k ∈ k1 ∨ o = some k)) (hk1 : m ≤ 600 → ∀ k, k ∈ k1 ∨ o = some k → ∃ q, s.c[k]? = some q ∧ q.2.1 = some n) (ho : ∀ k, o = some k → k < 100000000)
    (hQ : ∀ M', xSt M' e Γ l bs ps ρ A u (m + 1) (hre n (em e (w :: Γ) L 21 0 0 (some t) s)) → fr loP M M' → Q (.inl none) M') :
    Z E YX3_put (d + 1) M [(0, C29), (1, vi 21), (2, vi (nI tv)), (3, vi 0)] 0 [] (zafter E YX34_code (d + 1 + 1) [(1, C29), (2, vr (some (a, 17, 0))), (4, vi (oN o))] 86 3 [] Q) := by
  have ha := h.a190
  refine lp_pu (L := L) (mk := some t) (a' := 0) (b' := 0) h hb (fun z => ⟨rfl, nn_ns2 (hv z).1, (fun y => by cases y), (fun mm p z1 z2 z3 => by cases z1; rw [(hv z).2 p z2]), rfl⟩) (fun mm z => by cases z; exact ht) (fun mm z => by cases z; exact htΓ) (fun M1 h1 f1 => ?_)
  have n1 : n < (em e (w :: Γ) L 21 0 0 (some t) s).m := hn
  have K : m + 1 ≤ 600 → mkS (em e (w :: Γ) L 21 0 0 (some t) s) n (fun k => k ∈ k1 ∨ o = some k) := fun z => mkS_em (hk (by omega)) _ _ _ _ _ _ (fun y => hnt (Option.some.inj y))
  have K1 : m + 1 ≤ 600 → ∀ k, k ∈ k1 ∨ o = some k → ∃ q, (em e (w :: Γ) L 21 0 0 (some t) s).c[k]? = some q ∧ q.2.1 = some n := fun z k hk => by
    obtain ⟨q, q1, q2⟩ := hk1 (by omega) k hk
    exact ⟨q, (gst_emm (P := fun x => x = t) e (w :: Γ) L 21 0 0 s rfl).get q1, q2⟩
  generalize em e (w :: Γ) L 21 0 0 (some t) s = s1 at *
  show Z E YX34_code (d + 1 + 1) M1 [(1, C29), (2, vr (some (a, 17, 0))), (4, vi (oN o))] 89 [vi (nI m)] Q
  refine sX34_code_89 M1 29 a _ _ ?_
  refine y_goal31 (m := m + 1) h1.1.1 h1.1.2.1.1 ho (fun M2 f2 v2 => ?_)
  show Z E YX34_code (d + 1 + 1) M2 [(1, C29), (2, vr (some (a, 17, 0)))] 96 [] Q
  refine sX34_code_96 M2 29 a ?_
  have cw2 : cw M2 := f2.cw (by decide +kernel) h1.1.1
  refine sX3_place_0 M2 cw2 ?_
  show Z E YX34_code (d + 1 + 1) M2 [(1, C29), (2, vr (some (a, 17, 0)))] 105 [vi (gi M2 29 7), C29, vr (gr M2 a 1)] Q
  obtain ⟨h11, h12, h13, h14, h15, h16, h17, h18, ⟨d1, d2, d3, d4⟩, ⟨x1, x2⟩, h19⟩ := id h1
  rw [show gi M2 29 7 = nI (m + 1) from (f2.2 29 7 (by decide)).1.trans h11.2.1.1, show gr M2 a 1 = some (j1, 18, 0) from (f2.2 a 1 (by omega)).2.2.trans d3]
  refine sX34_code_105 M2 29 a _ 29 _ ⟨j1, rfl, ?_⟩
  have x1' : xJp M2 j1 k1 := xJp_fg x1 f2.fg (fun z => by have := x1.2.1.1; omega) (fun z => by have := x1.2.1.1; omega) (fun i z => by have := x1.2.2.1.1; omega)
  refine y_goAll cw2 x1' (fun M3 f3 v3 => ?_)
  show Z E YX34_code (d + 1 + 1) M3 [(1, C29), (2, vr (some (a, 17, 0)))] 108 [] Q
  refine sX34_code_108 M3 29 a ?_
  have cw3 : cw M3 := f3.cw (by decide +kernel) cw2
  refine sX3_leave_0 M3 _ cw3 ⟨a, rfl, ?_⟩
  have f13 := f2.tr f3
  have v13 : ∀ i, gi M3 31 i = if (i ∈ k1 ∨ o = some i) ∧ i < 600 then (nI (m + 1)).toInt16.toInt32 else gi M1 31 i := fun i => by
    rw [v3 i, v2 i]
    by_cases z6 : i < 600
    · by_cases y1 : i ∈ k1
      · rw [if_pos ⟨y1, z6⟩, if_pos ⟨.inl y1, z6⟩]
      · rw [if_neg (fun z => y1 z.1)]
        by_cases y2 : o = some i
        · rw [if_pos ⟨y2, z6⟩, if_pos ⟨.inr y2, z6⟩]
        · rw [if_neg (fun z => y2 z.1), if_neg (fun z => z.1.elim y1 y2)]
    · rw [if_neg (fun z => z6 z.2), if_neg (fun z => z6 z.2), if_neg (fun z => z6 z.2)]
  have H := fin_31 h11.2.1 hw v13 K K1
  have wf : wfS (hre n s1) := wfS_hre h11.2.1.2.2.2.2.2.2 n1
  have hatn : ∀ mm, mkP Γ mm → (hre n s1).at mm = s1.at mm := fun mm z => (show (if mm = n then _ else s1.at mm) = s1.at mm by rw [if_neg (fun y => hnΓ (by rw [← y]; exact z))])
  have hL := xLp_31 (w' := w) (st' := hre n s1) h1 f13 rfl (Nat.le_refl _) rfl wf ⟨rfl, rfl, rfl⟩ hatn (fun h6 k q hq => ⟨(H h6 k q hq).1, fun mm p z1 z2 z3 => (H h6 k q hq).2 mm p z1 z2 (fun y => z3 (mkP_tl y))⟩)
  have hC := xCd_31 (P' := mkP Γ) (st' := hre n s1) h11.2.1 (fun x k _ hx => (f13.2 x k hx).1) rfl rfl wf H
  have hS := lv_xSt hL hC rfl (Nat.le_refl _) (fun _ _ => rfl)
  show Z E YX34_code (d + 1 + 1) (si (sr M3 29 9 (gr M3 a 4)) 29 11 (gi M3 a 0)) [] 113 [] Q
  refine sX34_code_113 _ ?_
  exact hQ _ hS.1 (((f1.mono fun _ _ z => .inl z).tr (f13.mono fun x k z => .inl (.inl (by omega)))).tr hS.2)
end
section
variable {S B C : Nat → Prop} {M : zM} {c : Nat × Nat} {D : Nat}
/-- the list's value is entered: an each's state -/
theorem en_ea {M0 M' M'' : zM} {e : gN} {Γ : gK} {l bs : List Nat} {ps : List (Option zP)} {ρ ρ' : Nat → Nat} {A A' : List Nat} {o t a b2 u m fc j1 j2 : Nat} {st : gS} (h : xLp M e (lpW o t) Γ (a :: l) none (u + 1) a l bs ps ρ A u m st j1 j2 [] []) (he : enP M M' ρ ρ' A A' b2 (u + 1) 3) (hM : M'' = sr M' a 5 (some (b2, 17, 0))) (hmk : ∀ mm, wmk (lpW o t) mm → mm < st.m ∧ st.at mm = none) (hdj : (∀ mm, wmk (lpW o t) mm → ¬ mkP Γ mm) ∧ o ≠ t) (hsk : 1 + (skk Γ).length < 32768) (hfn : fnS S M0 e fc) (ha : agS S M0 M) (hF : gr M 29 12 = some (fc, 10, 0)) (hsep : sep S B M ρ) (hu : u + 1 < 70000) :
    xLp M'' e (eaW o t) Γ (b2 :: a :: l) (some (b2, 17, 0)) (u + 2) a l bs ps ρ' A' u m st j1 j2 [] [] ∧ (A'[u + 1]? = some b2 ∧ gr M'' b2 5 = none ∧ gr M'' b2 6 = none) ∧ (ρ' a = 5 * u + 1 ∧ ρ' b2 = 5 * (u + 1) + 1) ∧ fr (fun x k => x = a ∧ 3 ≤ k) M' M'' := by
  have la := h.a190
  have X := lp_xSt h (.inl rfl) hmk ⟨hdj.1, fun _ => hdj.2⟩
  have eF := en_stF (C := fun _ => False) he hsep X.2.2.2.2.1 X.2.1
  obtain ⟨b1, b2', b3, b4, b5, b6, b7, b8, b9, -⟩ := en_co (w := vaW [true]) X he fr.rf rfl (show ¬ (3 : Nat) = 4 by decide) (fun _ => he.2.2.2.2.1.2.2.2.2.2) (fun z => absurd z (show ¬ (3 : Nat) = 2 by decide)) ⟨(show (3 : Nat) ≤ 4 by decide), fun z => absurd z (show ¬ (3 : Nat) = 4 by decide), fun z => absurd z (show ¬ ((3 : Nat) = 0 ∨ (3 : Nat) = 1 ∨ (3 : Nat) = 2) by decide), (show (1 : Nat) < 100000 by decide), (show (0 : Nat) < 32768 by decide)⟩ (show ([true] ++ skk Γ).length < 32768 by rw [List.length_append]; exact hsk) hfn ha hF hsep hu
  have ra : ρ' a = 5 * u + 1 := (eF.1.1.2.2 a la.2.1).trans la.2.2.1
  have nab : b2 ≠ a := fun z => by have := b7.2; rw [z] at this; omega
  have f5 : fr (fun x k => x = a ∧ k = 5) M' M'' := by rw [hM]; exact fr.sr ⟨rfl, rfl⟩
  have f53 : fr (fun x k => x = a ∧ 3 ≤ k) M' M'' := f5.mono fun x k z => ⟨z.1, by omega⟩
  have v5 : gr M'' a 5 = some (b2, 17, 0) := by rw [hM]; simp only [gr_sr]; simp
  have o'' := xOw_fld b2' f53 ra
  obtain ⟨F5, s5'⟩ := stF_fld (S := S) (B := B) (C := fun _ => False) (ρ := ρ') f53 (by omega) la.1
  have R := en_rm (C := fun _ => False) (l := []) (m := 0) he h.2.1 (by omega)
  have l2 : ∀ x k, x < zsz M → ρ x ≠ 0 → ρ x ≤ 5 * (u + 1) → ¬ (x = a ∧ k = 5) → gi M'' x k = gi M x k ∧ gr M'' x k = gr M x k := fun x k hx hr hn hk => by
    have a1 := R.2.2.1 x hx hr (fun z => by
      rcases z with z | ⟨b, z, _⟩
      · omega
      · cases z) k
    have a2 := f5.2 x k hk
    exact ⟨a2.1.trans a1.1, a2.2.2.trans a1.2⟩
  obtain ⟨h1, h2, h3, h4, h5, h6, h7, h8, ⟨d1, d2, d3, d4⟩, ⟨x1, x2⟩, h9⟩ := h
  have zz : zsz M ≤ zsz M'' := by rw [f5.1.1]; exact eF.1.1.1
  obtain ⟨i1, i2, p1, p2, ⟨r1, r2, r3, r4, r5⟩, g0, g1, g2, y1, y2⟩ := h2.2.2.2 u a h8.1
  have e1 : i1 = j1 := by rw [d3] at g1; cases g1; rfl
  have e2 : i2 = j2 := by rw [d4] at g2; cases g2; rfl
  subst e1 e2
  have J : ∀ j, xJp M j [] → ρ j ≠ 0 → ρ j ≤ 5 * (u + 1) → j ≠ a → ρ (jR M j) ≠ 0 → xJp M'' j [] := fun j x hr hn hja hr2 => by
    obtain ⟨a0, a1, a2, a3, a4, a5, a6⟩ := x
    have e0 := (l2 j 0 a1.2 hr hn (fun z => hja z.1)).2
    have eR : jR M'' j = jR M j := by unfold jR; rw [e0]
    have eC : jC M'' j = jC M j := by unfold jC; rw [e0]
    unfold xJp
    rw [eR, eC]
    exact ⟨e0.trans a0, by omega, by omega, (l2 j 1 a1.2 hr hn (fun z => hja z.1)).1.trans a3, a4, fun i hi => absurd hi (Nat.not_lt_zero i), a6⟩
  have hAA : ∀ (i x : Nat), A[i]? = some x → A'[i]? = some x := R.2.1.2.2
  have lw : ∀ b ∈ l, ∀ k, gi M'' b k = gi M b k ∧ gr M'' b k = gr M b k := fun b hb k => by
    obtain ⟨i', hi, hbi⟩ := xCh_mem Γ u l bs ps h6 b hb
    obtain ⟨_, _, _, _, ⟨t1, -⟩, -⟩ := h2.2.2.2 i' b hbi
    refine l2 b k (h2.1 b (by omega)).2 (by omega) (by omega) (fun z => ?_)
    rw [z.1] at t1
    omega
  have a4 : gr M'' a 4 = gr M a 4 := (l2 a 4 la.2.1 (by omega) (by omega) (fun z => by cases z.2)).2
  have a3 : gi M'' a 3 = gi M a 3 := (l2 a 3 la.2.1 (by omega) (by omega) (fun z => by cases z.2)).1
  have ar : xAr M'' (gr M'' a 4) Γ l := by rw [a4]; exact xAr_ag Γ _ _ lw h9
  have s3 : gi M a 3 = 0 := by
    obtain ⟨_, _, q⟩ := h1.2.2.1
    rw [if_neg (show ¬ (lpW o t).1 = 4 from (show ¬ (0 : Nat) = 4 by decide))] at q
    exact q.2.1
  have low9 : ∀ x k, x ≠ a → gi M'' x k = gi M' x k ∧ gr M'' x k = gr M' x k := fun x k hx => ⟨(f5.2 x k (fun z => hx z.1)).1, (f5.2 x k (fun z => hx z.1)).2.2⟩
  have p9' : gr M'' 29 9 = some (b2, 17, 0) := (low9 29 9 (by omega)).2.trans he.2.2.2.2.2.2.1
  have bb2 := b2'.1 b2 (by omega)
  have hag : agS S M0 M'' := (ha.tr (eF.1.agS hsep)).tr (F5.agS eF.2)
  refine ⟨⟨⟨f5.cw (fun q hq z => ?_) b1.1, xCd_ag b1.2.1 (fun x k hx => (low9 x k (by unfold cdP at hx; omega)).1) (fun mm z => ?_), ?_, ⟨fun x hx => ?_, ?_⟩, ?_⟩, o'', (low9 29 11 (by omega)).1.trans b3, b4, by omega, xCh_lb h2.2.2.2 hAA zz Γ u l bs ps (fun i' x hi z1 z2 k => l2 x k (h2.1 x (by omega)).2 (by omega) (by omega) (fun z => by rw [z.1] at z1 z2; omega)) h6, h7, ⟨hAA u a h8.1, by omega⟩, ⟨v5, (l2 a 6 la.2.1 (by omega) (by omega) (fun z => by cases z.2)).2.trans d2, (l2 a 1 la.2.1 (by omega) (by omega) (fun z => by cases z.2)).2.trans d3, (l2 a 2 la.2.1 (by omega) (by omega) (fun z => by cases z.2)).2.trans d4⟩, ⟨J i1 x1 (by omega) (by omega) (fun z => by rw [z] at r2; omega) (by omega), J i2 x2 (by omega) (by omega) (fun z => by rw [z] at r3; omega) (by omega)⟩, ar⟩, ⟨b7.1, (low9 b2 5 nab).2.trans b8, (low9 b2 6 nab).2.trans he.2.2.2.2.1.2.2.2.1⟩, ⟨ra, b7.2⟩, f53⟩
  · have : q.1 = 16 ∨ q.1 = 29 := (show ∀ q ∈ cwl, q.1 = 16 ∨ q.1 = 29 by decide +kernel) q hq
    omega
  · rcases mkP_cons z with y | y
    · exact (wmk_va y).elim
    · rcases mkP_cons y with y | y
      · exact ⟨eaW o t, List.mem_cons_self, .inl ⟨.inr rfl, wmk_lp y⟩⟩
      · exact mkP_tl y
  · rw [p9']
    refine ⟨rfl, bb2.1, ?_⟩
    rw [if_pos (show (eaW o t).1 = 4 from rfl)]
    exact ⟨a, l, rfl, (low9 b2 3 nab).1.trans he.2.2.2.2.1.1, (low9 b2 8 nab).1.trans he.2.2.2.2.1.2.2.2.2.2, (low9 b2 4 nab).2.trans (he.2.2.2.2.1.2.1.trans h1.2.2.1.1), la.1, a3.trans s3, ar⟩
  · rcases List.mem_cons.mp hx with y | y
    · rw [y]; exact wOK_ea o t
    · exact h1.2.2.2.1.1 x (List.mem_cons_of_mem _ y)
  · show ([true] ++ skk Γ).length < 32768
    rw [List.length_append]
    exact hsk
  · obtain ⟨u', v1, v2⟩ := hfn
    exact ⟨fc, u', v1, (low9 29 12 (by omega)).2.trans (eF.1.f12.trans hF), v2 M'' hag⟩
theorem xs_Each {De b nm ox oy ny hy' ky : Nat} {p1 p2 : zP} {x : gEx} {y : gSt} (hb : S b) (e0 : gi M b 0 = nI nm) (hnm : nm < 100000) (e1 : gr M b 1 = some p1) (e2 : gr M b 2 = some p2) (h1 : xE S M De p1 x) (hx : gok x) (hcx : gcx x) (hox : gle ox x) (h2 : xNd S B M (c.1 + 1, c.2) C D oy ny hy' ky p2 y) (hy : gokT y) (hoy : oy ≤ ny ∧ hy' ≤ ky) (hDe : De ≤ 350) : xNd S B M c C (D + 4) (ox + oy + 6) (ox + ny + 6) hy' ky (b, 39, 0) (gEa nm x y) := by
  intro e fc Γ ps Dk Nk Kk Ck CC hf hG hCC hk hcx'
  refine ⟨rfl, (show 20 ≤ 39 ∧ 39 < 45 by decide), _, rfl, fun E d Q M1 l bs ρ A u m T st ha hB hF hs h hd hu hsk hm hN hT hQ => ?_⟩
  obtain ⟨d, rfl⟩ : ∃ d', d = d' + 8 := ⟨d - 8, by omega⟩
  have hz := h.2.2.2.2.1
  have w0 : wfS st := h.1.2.1.2.2.2.2.2.2
  have nΓ : ∀ mm, st.m ≤ mm → ¬ mkP Γ mm := fun mm h1 h2 => by have := (h.2.2.2.2.2.2.1 mm h2).1; omega
  have h0 : xSt M1 e Γ l bs ps ρ A u m (mkm (mkm st)) := xSt_mkm (xSt_mkm h)
  have hs0 : gEa nm x y e Γ st = hre (st.m + 1) (em e (eaW (st.m + 1) st.m :: Γ) (true :: skk Γ) 21 0 0 (some st.m) (hrp st.m (em e Γ (psh 1 (skk Γ)) 29 0 0 none (x e Γ (skk Γ) (mkm (mkm st)))).c.length (y e (eaW (st.m + 1) st.m :: Γ) (em e (eaW (st.m + 1) st.m :: Γ) (false :: true :: skk Γ) 17 0 0 none (gSet nm e (eaW (st.m + 1) st.m :: Γ) (false :: true :: skk Γ) (em e (eaW (st.m + 1) st.m :: Γ) (true :: skk Γ) 30 0 0 (some (st.m + 1)) (em e Γ (psh 1 (skk Γ)) 29 0 0 none (x e Γ (skk Γ) (mkm (mkm st)))))))))) := rfl
  rw [hs0] at hQ
  have sm : smC (lpW (st.m + 1) st.m :: Γ) Γ := smC_lp (show (0 : Nat) ≠ 2 by decide) rfl
  have ex : x e (lpW (st.m + 1) st.m :: Γ) = x e Γ := hcx e _ Γ sm
  have lo := hox e Γ (skk Γ) (mkm (mkm st))
  have gx := hx e Γ (skk Γ) (mkm (mkm st))
  have gl := gx.len
  have n0 : noM (x e Γ (skk Γ) (mkm (mkm st))) (st.m + 1) := noM_gst (s := mkm (mkm st)) (fun q hq => w0.no (Nat.le_succ _) q hq) gx (fun z => z) (show st.m + 1 < st.m + 2 by omega)
  have n1 : noM (x e Γ (skk Γ) (mkm (mkm st))) st.m := noM_gst (s := mkm (mkm st)) (fun q hq => w0.no (Nat.le_refl _) q hq) gx (fun z => z) (show st.m < st.m + 2 by omega)
  have at0 : (x e Γ (skk Γ) (mkm (mkm st))).at (st.m + 1) = none := (gx.2.2.1 _ (show st.m + 1 < st.m + 2 by omega)).trans (w0.2 _ (Nat.le_succ _))
  have at1 : (x e Γ (skk Γ) (mkm (mkm st))).at st.m = none := (gx.2.2.1 _ (show st.m < st.m + 2 by omega)).trans (w0.2 _ (Nat.le_refl _))
  have mx : st.m + 2 ≤ (x e Γ (skk Γ) (mkm (mkm st))).m := gx.2.1
  refine sX34_code_0 M1 b _ ⟨29, rfl, ?_⟩
  refine y_enter (d := d) h.1.1 h.2.1 h.2.2.1 h.2.2.2.1.1 (by have := h.2.2.2.1.2; omega) hz (fun M2 ρ2 A2 a he => ?_)
  obtain ⟨F2, s2⟩ := en_stF (C := CC) he hs hz h.2.1
  have R2 := en_rm (C := CC) (l := l) (m := T) he h.2.1 (by omega)
  obtain ⟨j1, j2, L2⟩ := en_xLp (w := lpW (st.m + 1) st.m) h0 he rfl (.inl rfl) (wOK_lp _ _) hf ha hF hs (by omega)
  have hz2 := L2.2.2.2.2.1
  have a2 : agS S M M2 := ha.tr (F2.agS hs)
  have B2 : agB B M M2 := hB.tr (F2.agB hs)
  have F12 := F2.f12.trans hF
  show Z E YX34_code (d + 7 + 1) M2 [(0, vr (some (b, 39, 0))), (1, C29)] 5 [vr (some (a, 17, 0))] Q
  refine sX34_code_5 M2 b 29 _ ?_
  rw [(a2 b 1 hb).2, e1]
  refine lp_ex (L := skk Γ) h1 hx a2 L2 (by rw [ex]; show m + ((x e Γ (skk Γ) (mkm (mkm st))).c.length - (mkm (mkm st)).c.length) < _; omega) (by omega) (fun M3 L3 f3 => ?_)
  rw [ex] at L3
  generalize hs1 : x e Γ (skk Γ) (mkm (mkm st)) = s1 at *
  have hmv : m ≤ m + (s1.c.length - (mkm (mkm st)).c.length) ∧ m + (s1.c.length - (mkm (mkm st)).c.length) ≤ m + ox := by omega
  generalize hmx : m + (s1.c.length - (mkm (mkm st)).c.length) = mv at *
  show Z E YX34_code (d + 7 + 1) M3 [(0, vr (some (b, 39, 0))), (1, C29), (2, vr (some (a, 17, 0)))] 14 [] Q
  refine sX34_code_14 M3 b 29 _ ?_
  refine lp_pu (L := psh 1 (skk Γ)) (mk := none) (a' := 0) (b' := 0) L3 (by omega) (fun _ => ⟨rfl, rfl, (fun _ => rfl), (fun mm p z1 => by cases z1), rfl⟩) (fun mm z => by cases z) (fun mm z => by cases z) (fun M4 L4 f4 => ?_)
  rw [em_cx sm] at L4
  have n0 := noM_em n0 e Γ (psh 1 (skk Γ)) 29 0 0 (mk := none) (fun z => by cases z)
  have n1 := noM_em n1 e Γ (psh 1 (skk Γ)) 29 0 0 (mk := none) (fun z => by cases z)
  have at0 : (em e Γ (psh 1 (skk Γ)) 29 0 0 none s1).at (st.m + 1) = none := at0
  have at1 : (em e Γ (psh 1 (skk Γ)) 29 0 0 none s1).at st.m = none := at1
  have mx : st.m + 2 ≤ (em e Γ (psh 1 (skk Γ)) 29 0 0 none s1).m := mx
  generalize hs2 : em e Γ (psh 1 (skk Γ)) 29 0 0 none s1 = s2' at *
  have f24 := f3.tr f4
  have F4 := f24.stF (B := B) (C := CC) (ρ := ρ2) hz2
  have s4 := sep_cd s2 f24 hz2
  have a4 := a2.tr (F4.agS s2)
  have B4 := B2.tr (F4.agB s2)
  have F124 := F4.f12.trans F12
  have hz4 := L4.2.2.2.2.1
  show Z E YX34_code (d + 7 + 1) M4 [(0, vr (some (b, 39, 0))), (1, C29), (2, vr (some (a, 17, 0)))] 22 [vi (nI mv)] Q
  refine sX34_code_22 M4 b 29 _ _ ?_
  refine y_enter (d := d) L4.1.1 L4.2.1 L4.2.2.1 L4.2.2.2.1.1 (by have := L4.2.2.2.1.2; omega) hz4 (fun M5 ρ5 A5 b2 he5 => ?_)
  obtain ⟨F5, s5⟩ := en_stF (C := CC) he5 s4 hz4 L4.2.1
  have R5 := en_rm (C := CC) (l := l) (m := T) he5 L4.2.1 (by omega)
  have hmk1 : ∀ mm, wmk (lpW (st.m + 1) st.m) mm → mm < s2'.m ∧ s2'.at mm = none := fun mm z => by
    rcases wmk_lp z with z | z
    · rw [z]; exact ⟨by omega, at0⟩
    · rw [z]; exact ⟨by omega, at1⟩
  have hdj1 : ∀ mm, wmk (lpW (st.m + 1) st.m) mm → ¬ mkP Γ mm := fun mm z => by
    rcases wmk_lp z with z | z
    · rw [z]; exact nΓ _ (Nat.le_succ _)
    · rw [z]; exact nΓ _ (Nat.le_refl _)
  obtain ⟨L6, ⟨Ab2, g5, g6⟩, ⟨ra, rb2⟩, f6⟩ := en_ea L4 he5 rfl hmk1 ⟨hdj1, by omega⟩ (by omega) hf a4 F124 s4 (by omega)
  have la := L6.a190
  show Z E YX34_code (d + 7 + 1) M5 [(0, vr (some (b, 39, 0))), (1, C29), (2, vr (some (a, 17, 0)))] 29 [vr (some (b2, 17, 0)), vr (some (a, 17, 0))] Q
  refine sX34_code_29 M5 b 29 _ _ _ ⟨a, rfl, by omega, ?_⟩
  obtain ⟨F6, s6'⟩ := stF_fld (S := S) (B := B) (C := CC) (ρ := ρ5) f6 (by omega) la.1
  have s6 := s6' s5
  have R6 : rm CC u l M5 ρ5 A5 T (sr M5 a 5 (some (b2, 17, 0))) ρ5 A5 T 0 := rm_fld he5.1 f6 ra (.inl (Nat.le_refl _)) (by omega)
  have a6 := (a4.tr (F5.agS s4)).tr (F6.agS s5)
  have B6 := (B4.tr (F5.agB s4)).tr (F6.agB s5)
  have F126 := F6.f12.trans (F5.f12.trans F124)
  generalize sr M5 a 5 (some (b2, 17, 0)) = M6 at *
  have hz6 := L6.2.2.2.2.1
  refine sX3_place_0 M6 L6.1.1 ?_
  show Z E YX34_code (d + 7 + 1) M6 [(0, vr (some (b, 39, 0))), (1, C29), (2, vr (some (a, 17, 0)))] 36 [vi (gi M6 29 7)] Q
  rw [L6.1.2.1.1]
  have ltop : mv + 1 ≤ 600 → mv + 1 = s2'.c.length := L6.1.2.1.2.2.1
  refine sX34_code_36 M6 b 29 _ _ ?_
  have wo : mkP (eaW (st.m + 1) st.m :: Γ) (st.m + 1) := ⟨_, List.mem_cons_self, .inl ⟨.inr rfl, .inl rfl⟩⟩
  refine lp_pu (L := true :: skk Γ) (mk := some (st.m + 1)) (a' := 0) (b' := 0) L6 (by omega) (fun _ => ⟨rfl, rfl, (fun z => by cases z), (fun mm p z1 z2 z3 => by cases z1; exact absurd wo z3), rfl⟩) (fun mm z => by cases z; omega) (fun mm z => by cases z; exact nΓ _ (Nat.le_succ _)) (fun M7 L7 f7 => ?_)
  have k7 : mkS (em e (eaW (st.m + 1) st.m :: Γ) (true :: skk Γ) 30 0 0 (some (st.m + 1)) s2') (st.m + 1) (fun k => k = s2'.c.length) := (mkS_emm (P := fun _ => False) n0.mkS _ _ _ _ _ _).mono fun k z => z.resolve_left id
  have q7 : (em e (eaW (st.m + 1) st.m :: Γ) (true :: skk Γ) 30 0 0 (some (st.m + 1)) s2').c[s2'.c.length]? = some ((30, 0, 0), some (st.m + 1), e.1, opn (eaW (st.m + 1) st.m :: Γ), (skk (eaW (st.m + 1) st.m :: Γ)).length, true :: skk Γ, trs (eaW (st.m + 1) st.m :: Γ)) := at_app rfl
  have n7 := noM_em n1 e (eaW (st.m + 1) st.m :: Γ) (true :: skk Γ) 30 0 0 (mk := some (st.m + 1)) (fun z => by have := Option.some.inj z; omega)
  have m7 : st.m + 2 ≤ (em e (eaW (st.m + 1) st.m :: Γ) (true :: skk Γ) 30 0 0 (some (st.m + 1)) s2').m := mx
  have t7 : (em e (eaW (st.m + 1) st.m :: Γ) (true :: skk Γ) 30 0 0 (some (st.m + 1)) s2').at (st.m + 1) = none := at0
  have t7' : (em e (eaW (st.m + 1) st.m :: Γ) (true :: skk Γ) 30 0 0 (some (st.m + 1)) s2').at st.m = none := at1
  generalize hs7 : em e (eaW (st.m + 1) st.m :: Γ) (true :: skk Γ) 30 0 0 (some (st.m + 1)) s2' = s7 at *
  show Z E YX34_code (d + 7 + 1) M7 [(0, vr (some (b, 39, 0))), (1, C29), (2, vr (some (a, 17, 0))), (3, vi (nI (mv + 1)))] 45 [vi (nI (mv + 1))] Q
  refine sX34_code_45 M7 b 29 _ _ _ ?_
  have F7 := f7.stF (B := B) (C := CC) (ρ := ρ5) hz6
  have s7' := sep_cd s6 f7 hz6
  have a7 := a6.tr (F7.agS s6)
  rw [(a7 b 0 hb).1, e0]
  refine lp_set (L := false :: true :: skk Γ) L7 (by omega) hnm (fun M8 L8 f8 => ?_)
  have gs := gok_Set nm e (eaW (st.m + 1) st.m :: Γ) (false :: true :: skk Γ) s7
  have k8 := mkS_gst k7 gs (fun z => z) (by omega)
  have q8 := gs.get q7
  have n8 := noM_gst n7 gs (fun z => z) (by omega)
  have m8 : st.m + 2 ≤ (gSet nm e (eaW (st.m + 1) st.m :: Γ) (false :: true :: skk Γ) s7).m := Nat.le_trans m7 gs.2.1
  have t8 : (gSet nm e (eaW (st.m + 1) st.m :: Γ) (false :: true :: skk Γ) s7).at (st.m + 1) = none := (gs.2.2.1 _ (by omega)).trans t7
  have t8' : (gSet nm e (eaW (st.m + 1) st.m :: Γ) (false :: true :: skk Γ) s7).at st.m = none := (gs.2.2.1 _ (by omega)).trans t7'
  generalize hs8 : gSet nm e (eaW (st.m + 1) st.m :: Γ) (false :: true :: skk Γ) s7 = s8 at *
  show Z E YX34_code (d + 7 + 1) M8 [(0, vr (some (b, 39, 0))), (1, C29), (2, vr (some (a, 17, 0))), (3, vi (nI (mv + 1))), (4, vi (nI (mv + 1)))] 55 [] Q
  refine sX34_code_55 M8 b 29 _ _ _ ?_
  refine lp_pu (L := false :: true :: skk Γ) (mk := none) (a' := 0) (b' := 0) L8 (by omega) (fun _ => ⟨rfl, rfl, (fun _ => rfl), (fun mm p z1 => by cases z1), rfl⟩) (fun mm z => by cases z) (fun mm z => by cases z) (fun M9 L9 f9 => ?_)
  have k9 := mkS_em k8 e (eaW (st.m + 1) st.m :: Γ) (false :: true :: skk Γ) 17 0 0 (mk := none) (fun z => by cases z)
  have q9 := (gst_em (P := fun _ => False) e (eaW (st.m + 1) st.m :: Γ) (false :: true :: skk Γ) 17 0 0 s8).get q8
  have n9 := noM_em n8 e (eaW (st.m + 1) st.m :: Γ) (false :: true :: skk Γ) 17 0 0 (mk := none) (fun z => by cases z)
  have m9 : st.m + 2 ≤ (em e (eaW (st.m + 1) st.m :: Γ) (false :: true :: skk Γ) 17 0 0 none s8).m := m8
  have t9 : (em e (eaW (st.m + 1) st.m :: Γ) (false :: true :: skk Γ) 17 0 0 none s8).at (st.m + 1) = none := t8
  have t9' : (em e (eaW (st.m + 1) st.m :: Γ) (false :: true :: skk Γ) 17 0 0 none s8).at st.m = none := t8'
  generalize hs9 : em e (eaW (st.m + 1) st.m :: Γ) (false :: true :: skk Γ) 17 0 0 none s8 = s9 at *
  have f69 := (f7.tr f8).tr f9
  have F9 := f69.stF (B := B) (C := CC) (ρ := ρ5) hz6
  have s9' := sep_cd s6 f69 hz6
  have a9 := a6.tr (F9.agS s6)
  have B9 := B6.tr (F9.agB s6)
  have F129 := F9.f12.trans F126
  have g69 : ∀ x k, 190 ≤ x → gi M9 x k = gi M6 x k ∧ gr M9 x k = gr M6 x k := fun x k hx => by
    have := f69.2 x k (by unfold cdP; omega)
    exact ⟨this.1, this.2.2⟩
  have bb2 : 190 ≤ b2 ∧ b2 < zsz M6 := by
    have := L6.2.1.1 b2 (by omega)
    exact this
  have hmk9 : ∀ mm, wmk (eaW (st.m + 1) st.m) mm → mm < s9.m ∧ s9.at mm = none := fun mm z => by
    rcases wmk_ea z with z | z
    · rw [z]; exact ⟨by omega, t9⟩
    · rw [z]; exact ⟨by omega, t9'⟩
  have hdj9 : (∀ mm, wmk (eaW (st.m + 1) st.m) mm → ¬ mkP Γ mm) ∧ ((eaW (st.m + 1) st.m).1 = 0 ∨ (eaW (st.m + 1) st.m).1 = 4 → (eaW (st.m + 1) st.m).2.2.2.1 ≠ (eaW (st.m + 1) st.m).2.2.2.2.1) := ⟨fun mm z => by
    rcases wmk_ea z with z | z
    · rw [z]; exact nΓ _ (Nat.le_succ _)
    · rw [z]; exact nΓ _ (Nat.le_refl _), fun _ => (show st.m + 1 ≠ st.m by omega)⟩
  have X9 : xSt M9 e (eaW (st.m + 1) st.m :: Γ) (b2 :: a :: l) (s9.c.length :: bs) (none :: ps) ρ5 A5 (u + 2) (mv + 1 + 1 + 1 + 1) s9 :=
    lp_StG L9 (.inr (.inr rfl)) (.inr ⟨rfl, b2, rfl, rfl, ⟨by omega, Ab2⟩, (g69 b2 5 bb2.1).2.trans g5, (g69 b2 6 bb2.1).2.trans g6⟩) hmk9 hdj9 ⟨Nat.zero_le _, Nat.zero_le _⟩ (fun _ => ⟨jmK_nil, fun _ => jmK_nil⟩)
  have la9 := L9.a190
  show Z E YX34_code (d + 7 + 1) M9 [(0, vr (some (b, 39, 0))), (1, C29), (2, vr (some (a, 17, 0))), (3, vi (nI (mv + 1))), (4, vi (nI (mv + 1)))] 63 [vi _] Q
  refine sX34_code_63 M9 b 29 _ _ _ _ ?_
  rw [(a9 b 2 hb).2, e2]
  refine y_ndS (h2 e fc (eaW (st.m + 1) st.m :: Γ) (none :: ps) (Dk + 1) Nk Kk Ck CC hf (hG.cons rfl) hCC (kgo_w hk rfl) (ctx_lp (.inr rfl))) a9 B9 F129 s9' X9 (by omega) (by omega) (by show ([true] ++ skk Γ).length + _ ≤ _; rw [List.length_append]; show 1 + (skk Γ).length + _ ≤ _; omega) (by omega) (by omega) (T := T) (by omega) (fun M10 ρ10 A10 m10 T10 X10 s10 F10 sz r10 => ?_)
  have g10 := hy e (eaW (st.m + 1) st.m :: Γ) s9 (kgo_w hk rfl)
  have hz9 := L9.2.2.2.2.1
  obtain ⟨ii, aa, ll, ββ, bs1, pp, ps1, own, j1', j2', k1, k2, t1, t2, t3, L10, t4, t5⟩ := St_lpG X10 (.inr (.inr rfl))
  rcases t3 with ⟨z, _⟩ | ⟨_, b2', y1, y2, y3, y5, y6⟩
  · exact absurd rfl z
  have eaa : a = aa := (List.cons.inj (List.cons.inj y1).2).1
  have ell : l = ll := (List.cons.inj (List.cons.inj y1).2).2
  have ebb : b2 = b2' := (List.cons.inj y1).1
  have ebs : bs = bs1 := (List.cons.inj t1).2
  have eps : ps = ps1 := (List.cons.inj t2).2
  have eββ : s9.c.length = ββ := (List.cons.inj t1).1
  subst eaa ell ebb ebs eps eββ
  have la10 := L10.a190
  have eii : u = ii := by
    have := F10.1.2.2 a la9.2.1
    omega
  subst eii
  have m10' : st.m + 2 ≤ (y e (eaW (st.m + 1) st.m :: Γ) s9).m := Nat.le_trans m9 g10.2.1
  have mko : m10 ≤ 600 → mkS (y e (eaW (st.m + 1) st.m :: Γ) s9) (st.m + 1) (fun k => k ∈ k1 ∨ some (mv + 1) = some k) := fun z => (mkS_body k9 g10 (t5 z).1).mono fun k z' => z'.imp id fun z' => by rw [z', ltop (by unfold szs at sz; omega)]
  have mko1 : m10 ≤ 600 → ∀ k, k ∈ k1 ∨ some (mv + 1) = some k → ∃ q, (y e (eaW (st.m + 1) st.m :: Γ) s9).c[k]? = some q ∧ q.2.1 = some (st.m + 1) := fun z k hk' => by
    rcases hk' with y' | y'
    · exact (t5 z).1.2 k y'
    · cases y'
      exact ⟨_, by rw [ltop (by unfold szs at sz; omega)]; exact g10.get q9, rfl⟩
  have mkt : m10 ≤ 600 → mkS (y e (eaW (st.m + 1) st.m :: Γ) s9) st.m (fun k => k ∈ k2) := fun z => (mkS_body (P := fun _ => False) n9.mkS g10 ((t5 z).2 (show (4 : Nat) ≠ 1 by decide))).mono fun k z' => z'.resolve_right id
  have mkt1 : m10 ≤ 600 → ∀ k ∈ k2, ∃ q, (y e (eaW (st.m + 1) st.m :: Γ) s9).c[k]? = some q ∧ q.2.1 = some st.m := fun z => ((t5 z).2 (show (4 : Nat) ≠ 1 by decide)).2
  generalize hs10 : y e (eaW (st.m + 1) st.m :: Γ) s9 = s10' at *
  have hz10 := L10.2.2.2.2.1
  obtain ⟨h11, h12, h13, h14, h15, h16, h17, h18, ⟨d1, d2, d3, d4⟩, ⟨x1, x2⟩, h19⟩ := id L10
  show Z E YX34_code (d + 7 + 1) M10 [(1, C29), (2, vr (some (a, 17, 0))), (3, vi (nI (mv + 1))), (4, vi (nI (mv + 1)))] 72 [] Q
  refine sX34_code_72 M10 29 _ _ _ ⟨a, rfl, j2', d4, ?_⟩
  refine y_goAll (d := d + 6) h11.1 x2 (fun M11 f11 v11 => ?_)
  have f11c : fr cdP M10 M11 := f11.mono fun x k z => .inl (by omega)
  have atp : (hrp st.m s2'.c.length s10').at st.m = some s2'.c.length := (show (if st.m = st.m then some s2'.c.length else _) = _ by rw [if_pos rfl])
  have htv : m10 ≤ 600 → mv + 1 < 32768 ∧ ∀ p, (hrp st.m s2'.c.length s10').at st.m = some p → mv + 1 = p := fun z => ⟨by unfold szs at sz; omega, fun p hp => by
    rw [atp] at hp
    have := Option.some.inj hp
    have := ltop (by unfold szs at sz; omega)
    omega⟩
  have H := rel_31 (w' := eaW (st.m + 1) (st.m + 1)) (s' := hrp st.m s2'.c.length s10') h11.2.1 (fun mm z => (wmk_ea z).elim (fun z => .inr (.inl ⟨.inr rfl, .inl z⟩)) .inl) v11 mkt mkt1 (fun mm hmm => (show (if mm = st.m then _ else s10'.at mm) = _ by rw [if_neg hmm])) htv
  have L11 := xLp_31 (w' := eaW (st.m + 1) (st.m + 1)) (st' := hrp st.m s2'.c.length s10') L10 f11 rfl (Nat.le_refl _) rfl (wfS_hrp h11.2.1.2.2.2.2.2.2 (by omega)) ⟨rfl, rfl, rfl⟩ (fun mm z => (show (if mm = st.m then _ else s10'.at mm) = _ by rw [if_neg (fun y' => nΓ _ (Nat.le_refl _) (by rw [← y']; exact z))])) H
  have mko : m10 ≤ 600 → mkS (hrp st.m s2'.c.length s10') (st.m + 1) (fun k => k ∈ k1 ∨ some (mv + 1) = some k) := mko
  have mko1 : m10 ≤ 600 → ∀ k, k ∈ k1 ∨ some (mv + 1) = some k → ∃ q, (hrp st.m s2'.c.length s10').c[k]? = some q ∧ q.2.1 = some (st.m + 1) := mko1
  have m11 : st.m + 2 ≤ (hrp st.m s2'.c.length s10').m := m10'
  generalize hs11 : hrp st.m s2'.c.length s10' = s11 at *
  show Z E YX34_code (d + 7 + 1) M11 [(1, C29), (2, vr (some (a, 17, 0))), (3, vi (nI (mv + 1))), (4, vi (nI (mv + 1)))] 81 [] Q
  refine sX34_code_81 M11 29 a _ _ ?_
  have sz0 := id sz
  refine lp_end4 (L := true :: skk Γ) (t := st.m) (n := st.m + 1) (o := some (mv + 1)) L11 (fun mm z => (wmk_ea z).elim id id) (by unfold szs at sz; omega) (by omega) (nΓ _ (Nat.le_succ _)) (by omega) (nΓ _ (Nat.le_refl _)) (by omega) (fun z => htv (by omega)) mko mko1 (fun k z => by cases z; omega) (fun M12 X12 f12 => ?_)
  rw [em_cx (smC_ea (t' := st.m))] at X12
  have f1012 : fr loP M10 M12 := (f11c.mono fun _ _ z => .inl z).tr f12
  refine hQ M12 ρ10 A10 (m10 + 1) T10 X12 (sep_lo s10 f1012 hz10) ((((((F2.tr F4).tr F5).tr F6).tr F9).tr F10).tr (stL_of f1012 hz10)) (by unfold szs at *; omega) ?_
  have zl : ∀ b ∈ l, b < zsz M1 := h.lz
  have R10 : rm CC u l M9 ρ5 A5 T M10 ρ10 A10 T10 (u + 2 + (D + (Dk + 1))) := ⟨r10.1, r10.2.1, fun x hx hr hn k => r10.2.2.1 x hx hr (fun z => hn (by
    rcases z with z | ⟨b', q1, q2⟩
    · exact .inl (by omega)
    · rcases List.mem_cons.mp q1 with y' | q1
      · rw [y', rb2] at q2; exact .inl (by omega)
      · rcases List.mem_cons.mp q1 with y' | q1
        · rw [y', ra] at q2; exact .inl (by omega)
        · exact .inr ⟨b', q1, q2⟩)) k, r10.2.2.2⟩
  exact ((((((R2.tr (rm_cd (V := 0) L2.2.1 f24 hz2 (Nat.le_refl _)) zl (V'' := u + (D + 4 + Dk)) (by omega) (Nat.zero_le _)).tr (R5.dn2 (Nat.le_succ _)) zl (V'' := u + (D + 4 + Dk)) (Nat.le_refl _) (by omega)).tr R6 zl (V'' := u + (D + 4 + Dk)) (Nat.le_refl _) (Nat.zero_le _)).tr (rm_cd (V := 0) L6.2.1 f69 hz6 (Nat.le_refl _)) zl (V'' := u + (D + 4 + Dk)) (Nat.le_refl _) (Nat.zero_le _)).tr R10 zl (V'' := u + (D + 4 + Dk)) (Nat.le_refl _) (by omega)).tr (rm_lo (V := 0) L10.2.1 f1012 hz10 (Nat.le_refl _)) zl (Nat.le_refl _) (Nat.zero_le _))
end
