/-! TYPES OF CODE: statements -/
section
variable {θ : tH} {f l w : Nat} {P P' : Nat → Prop} {μ μ' μ0 : Nat → tyP} {s s' s0 : gS} {F F' F0 : tyP} {e : gN} {Γ : gK} {g b b' : Nat}
theorem mkd.r {m : Nat} {T : tyP} (h : mkd P μ s.m m T) (r : tyR θ P' μ s F μ' s' F') : mkd P μ' s'.m m T := h.mv r.2.2.1 r.2.1 fun _ z => z
theorem kok.p (h : kok θ P μ b g Γ) (hp : ∀ m, P m → P' m) : kok θ P' μ b g Γ := h.mv (fun _ _ => rfl) (Nat.le_refl _) hp
theorem kok_lp {o n : Nat} (h : kok θ P μ b g Γ) (ho : mkd P μ b o (skk Γ, trs Γ, g)) (hn : mkd P μ b n (skk Γ, trs Γ, g)) : kok θ P μ b g (lpW o n :: Γ) := ⟨h, fun _ => ⟨rfl, ho, hn⟩, fun z => absurd z (show ¬ 0 = 4 by decide), fun z => absurd z (show ¬ 0 = 1 by decide), fun z => absurd z (show ¬ 0 = 2 by decide), (show 0 ≤ 4 by decide)⟩
theorem kok_ea {o n : Nat} (h : kok θ P μ b g Γ) (ho : mkd P μ b o (skk Γ, trs Γ, g)) (hn : mkd P μ b n (true :: skk Γ, trs Γ, g)) : kok θ P μ b g (eaW o n :: Γ) := ⟨h, fun z => absurd z (show ¬ 4 = 0 by decide), fun _ => ⟨rfl, ho, hn⟩, fun z => absurd z (show ¬ 4 = 1 by decide), fun z => absurd z (show ¬ 4 = 2 by decide), (show 4 ≤ 4 by decide)⟩
theorem kok_sw {o : Nat} (h : kok θ P μ b g Γ) (ho : mkd P μ b o (skk Γ, trs Γ, g)) : kok θ P μ b g (swW o :: Γ) := ⟨h, fun z => absurd z (show ¬ 1 = 0 by decide), fun z => absurd z (show ¬ 1 = 4 by decide), fun _ => ⟨rfl, ho⟩, fun z => absurd z (show ¬ 1 = 2 by decide), (show 1 ≤ 4 by decide)⟩
theorem kok_vw {X : List Bool} (h : kok θ P μ b g Γ) : kok θ P μ b g (vaW X :: Γ) := ⟨h, fun z => absurd z (show ¬ 3 = 0 by decide), fun z => absurd z (show ¬ 3 = 4 by decide), fun z => absurd z (show ¬ 3 = 1 by decide), fun z => absurd z (show ¬ 3 = 2 by decide), (show 3 ≤ 4 by decide)⟩
theorem kok_tr {k m : Nat} {fi : Option (List Bool → gS → gS)} (h : kok θ P μ b g Γ) (ho : mkd P μ b m (false :: skk Γ, trs Γ, g)) (hf : ∀ φ, fi = some φ → tyF θ P μ b g Γ φ) : kok θ P μ b g (trW k m fi :: Γ) := ⟨h, fun z => absurd z (show ¬ 2 = 0 by decide), fun z => absurd z (show ¬ 2 = 4 by decide), fun z => absurd z (show ¬ 2 = 1 by decide), fun _ => ⟨rfl, ho, hf⟩, (show 2 ≤ 4 by decide)⟩
theorem kok_va {X : List Bool} (h : kok θ P μ b g Γ) : kok θ P μ b g (vaK X Γ) ∧ skk (vaK X Γ) = X ++ skk Γ ∧ trs (vaK X Γ) = trs Γ ∧ (lpK Γ → lpK (vaK X Γ)) ∧ (swK Γ → swK (vaK X Γ)) := by
  unfold vaK
  by_cases z : X = []
  · rw [if_pos z, z]; exact ⟨h, rfl, rfl, id, id⟩
  · rw [if_neg z]; exact ⟨kok_vw h, rfl, rfl, fun ⟨v, h1, h2⟩ => ⟨v, List.mem_cons_of_mem _ h1, h2⟩, fun ⟨v, h1, h2⟩ => ⟨v, List.mem_cons_of_mem _ h1, h2⟩⟩
theorem lpK.tl {v : gW} (h : lpK Γ) : lpK (v :: Γ) := by obtain ⟨u, h1, h2⟩ := h; exact ⟨u, List.mem_cons_of_mem _ h1, h2⟩
theorem swK.tl {v : gW} (h : swK Γ) : swK (v :: Γ) := by obtain ⟨u, h1, h2⟩ := h; exact ⟨u, List.mem_cons_of_mem _ h1, h2⟩
theorem ty_s {op a c : Int32} (X : List Bool) (hk : kok θ P μ s.m e.1 Γ) (ht : tyS θ μ P s (X ++ skk Γ, trs Γ, e.1)) (ho : opF θ s.si (X ++ skk Γ) (trs Γ) e.1 (fun x => F' = x) (fun m x => μ m = x) (fun L => tkm μ s.m e.1 L (trs Γ)) op a c none) : tyR θ P μ s (X ++ skk Γ, trs Γ, e.1) μ (em e Γ (X ++ skk Γ) op a c none s) F' := ty_em ht ho (hk.cx.1.app X) (fun _ y => by cases y) hk.cx.pn
theorem ty_m {op a c : Int32} {m : Nat} {T : tyP} (X : List Bool) (hk : kok θ P μ s.m e.1 Γ) (hm : mkd P μ s.m m T) (ht : tyS θ μ P s (X ++ skk Γ, trs Γ, e.1)) (ho : opF θ s.si (X ++ skk Γ) (trs Γ) e.1 (fun x => F' = x) (fun m x => μ m = x) (fun L => tkm μ s.m e.1 L (trs Γ)) op a c (some m)) : tyR θ P μ s (X ++ skk Γ, trs Γ, e.1) μ (em e Γ (X ++ skk Γ) op a c (some m) s) F' := ty_em ht ho (hk.cx.1.app X) (fun _ y => by cases y; exact ⟨hm.1, fun _ => hm.2.1⟩) hk.cx.pn
theorem ty_set {x : Nat} (X : List Bool) (he : eok θ f e) (hx : x < θ.1) (hk : kok θ P μ s.m e.1 Γ) (ht : tyS θ μ P s (false :: (X ++ skk Γ), trs Γ, e.1)) : ∃ μ', tyR θ P μ s (false :: (X ++ skk Γ), trs Γ, e.1) μ' (gSet x e Γ (false :: (X ++ skk Γ)) s) (false :: (X ++ skk Γ), trs Γ, e.1) :=
  (tJ.set (B := X ++ skk Γ) 0 ⟨μ, tyR.rf ht, hk.cx.1.app X, hk.cx.2⟩ he hx).nd
theorem tyT_Sq {x y : gSt} (hx : tyT θ f l w x) (hy : tyT θ f l w y) : tyT θ f l w (gSq x y) := fun e Γ s μ P he hk h1 h2 ht => by
  obtain ⟨μ1, r1⟩ := hx e Γ s μ P he hk h1 h2 ht
  obtain ⟨μ2, r2⟩ := hy e Γ _ μ1 P he (hk.r r1) h1 h2 r1.1
  exact ⟨μ2, r1.tr r2⟩
theorem tyT_Pl {x : gEx} (hx : tyE θ f x) : tyT θ f l w (gPl x) := fun e Γ s μ P he hk h1 h2 ht => by
  obtain ⟨μ1, r1⟩ := hx e Γ (skk Γ) s μ P he hk.cx ht
  exact ⟨μ1, r1.tr (ty_s [false] (hk.r r1) r1.1 (.dr (c := false) (L' := skk Γ) rfl rfl))⟩
theorem tyT_To {x : gEx} (hx : tyE θ f x) : tyT θ f l w (gTo x) := fun e Γ s μ P he hk h1 h2 ht => by
  obtain ⟨μ1, r1⟩ := hx e Γ (skk Γ) s μ P he hk.cx ht
  exact ⟨μ1, r1.tr (ty_s [false] (hk.r r1) r1.1 (.tw (L' := skk Γ) rfl))⟩
theorem tyT_Bk {x : gEx} (hx : tyE θ f x) : tyT θ f l w (gBk x) := fun e Γ s μ P he hk h1 h2 ht => by
  obtain ⟨μ1, r1⟩ := hx e Γ (skk Γ) s μ P he hk.cx ht
  obtain ⟨μ2, r2⟩ := ty_Ret Γ [false] (hk.r r1) ⟨[], rfl⟩ r1.1 (skk Γ, trs Γ, e.1)
  exact ⟨μ2, r1.tr r2⟩
theorem tyT_If {x : gEx} {y : gSt} (hx : tyE θ f x) (hy : tyT θ f l w y) : tyT θ f l w (gIf x y) := fun e Γ s μ P he hk h1 h2 ht => by
  obtain ⟨μ1, r1, a1, a2⟩ := ty_mk2 (P := fun k => (P k ∨ k = s.m + 1) ∨ k = s.m) (skk Γ, trs Γ, e.1) (skk Γ, trs Γ, e.1) (ht.mono fun _ z => .inl (.inl z))
  have k1 := (hk.p (P' := fun k => (P k ∨ k = s.m + 1) ∨ k = s.m) fun _ z => .inl (.inl z)).r r1
  have m1 : mkd (fun k => (P k ∨ k = s.m + 1) ∨ k = s.m) μ1 (mkm (mkm s)).m s.m _ := ⟨show s.m < s.m + 2 by omega, .inr rfl, a1⟩
  have n1 : mkd (fun k => (P k ∨ k = s.m + 1) ∨ k = s.m) μ1 (mkm (mkm s)).m (s.m + 1) _ := ⟨show s.m + 1 < s.m + 2 by omega, .inl (.inr rfl), a2⟩
  obtain ⟨μ2, r2⟩ := hx e Γ (skk Γ) _ _ _ he k1.cx r1.1
  have r3 := ty_m (F' := (skk Γ, trs Γ, e.1)) [false] (k1.r r2) (m1.r r2) r2.1 (.ul (L' := skk Γ) rfl (m1.r r2).2.2 rfl)
  obtain ⟨μ4, r4⟩ := hy e Γ _ _ _ he ((k1.r r2).r r3) h1 h2 r3.1
  have r5 := ty_hre (P := fun k => P k ∨ k = s.m + 1) (m := s.m) r4.1 (((m1.r r2).r r3).r r4).1 (((m1.r r2).r r3).r r4).2.2.symm
  have r6 := ty_hre (P := P) (m := s.m + 1) r5.1 ((((n1.r r2).r r3).r r4).r r5).1 ((((n1.r r2).r r3).r r4).r r5).2.2.symm
  exact ⟨μ4, ((((r1.tr r2).tr r3).tr r4).tr r5).tr r6⟩
theorem tyT_IfE {x : gEx} {y z : gSt} (hx : tyE θ f x) (hy : tyT θ f l w y) (hz : tyT θ f l w z) : tyT θ f l w (gIfE x y z) := fun e Γ s μ P he hk h1 h2 ht => by
  obtain ⟨μ1, r1, a1, a2⟩ := ty_mk2 (P := fun k => (P k ∨ k = s.m + 1) ∨ k = s.m) (skk Γ, trs Γ, e.1) (skk Γ, trs Γ, e.1) (ht.mono fun _ z => .inl (.inl z))
  have k1 := (hk.p (P' := fun k => (P k ∨ k = s.m + 1) ∨ k = s.m) fun _ z => .inl (.inl z)).r r1
  have m1 : mkd (fun k => (P k ∨ k = s.m + 1) ∨ k = s.m) μ1 (mkm (mkm s)).m s.m _ := ⟨show s.m < s.m + 2 by omega, .inr rfl, a1⟩
  have n1 : mkd (fun k => (P k ∨ k = s.m + 1) ∨ k = s.m) μ1 (mkm (mkm s)).m (s.m + 1) _ := ⟨show s.m + 1 < s.m + 2 by omega, .inl (.inr rfl), a2⟩
  obtain ⟨μ2, r2⟩ := hx e Γ (skk Γ) _ _ _ he k1.cx r1.1
  have r3 := ty_m (F' := (skk Γ, trs Γ, e.1)) [false] (k1.r r2) (m1.r r2) r2.1 (.ul (L' := skk Γ) rfl (m1.r r2).2.2 rfl)
  obtain ⟨μ4, r4⟩ := hy e Γ _ _ _ he ((k1.r r2).r r3) h1 h2 r3.1
  have n4 := ((n1.r r2).r r3).r r4
  have r5 := ty_m (F' := (skk Γ, trs Γ, e.1)) [] (((k1.r r2).r r3).r r4) n4 r4.1 (.jm n4.2.2)
  have m5 := (((m1.r r2).r r3).r r4).r r5
  have r6 := ty_hre (P := fun k => P k ∨ k = s.m + 1) (m := s.m) r5.1 m5.1 m5.2.2.symm
  have r06 := (((r1.tr r2).tr r3).tr r4).tr (r5.tr r6)
  obtain ⟨μ7, r7⟩ := hz e Γ _ _ _ he ((hk.p (P' := fun k => P k ∨ k = s.m + 1) fun _ z => .inl z).r r06) h1 h2 r6.1
  have n7 := ((n4.r r5).r r6).r r7
  have r8 := ty_hre (P := P) (m := s.m + 1) r7.1 n7.1 n7.2.2.symm
  exact ⟨μ7, (r06.tr r7).tr r8⟩
theorem lpK_lp {o n : Nat} : lpK (lpW o n :: Γ) := ⟨_, List.mem_cons_self, .inl rfl⟩
theorem lpK_ea {o n : Nat} : lpK (eaW o n :: Γ) := ⟨_, List.mem_cons_self, .inr rfl⟩
theorem tyT_Wh {x : gEx} {y : gSt} (hx : tyE θ f x) (hy : tyT θ f (l + 1) w y) : tyT θ f l w (gWh x y) := fun e Γ s μ P he hk h1 h2 ht => by
  obtain ⟨μ1, r1, a1, a2⟩ := ty_mk2 (P := fun k => (P k ∨ k = s.m) ∨ k = s.m + 1) (skk Γ, trs Γ, e.1) (skk Γ, trs Γ, e.1) (ht.mono fun _ z => .inl (.inl z))
  have k1 := (hk.p (P' := fun k => (P k ∨ k = s.m) ∨ k = s.m + 1) fun _ z => .inl (.inl z)).r r1
  have m1 : mkd (fun k => (P k ∨ k = s.m) ∨ k = s.m + 1) μ1 (mkm (mkm s)).m s.m _ := ⟨show s.m < s.m + 2 by omega, .inl (.inr rfl), a1⟩
  have n1 : mkd (fun k => (P k ∨ k = s.m) ∨ k = s.m + 1) μ1 (mkm (mkm s)).m (s.m + 1) _ := ⟨show s.m + 1 < s.m + 2 by omega, .inr rfl, a2⟩
  obtain ⟨μ2, r2⟩ := hx e Γ (skk Γ) _ _ _ he k1.cx r1.1
  have r3 := ty_m (F' := (skk Γ, trs Γ, e.1)) [false] (k1.r r2) (n1.r r2) r2.1 (.ul (L' := skk Γ) rfl (n1.r r2).2.2 rfl)
  have k3 := (k1.r r2).r r3
  have m3 := (m1.r r2).r r3
  have n3 := (n1.r r2).r r3
  obtain ⟨μ4, r4⟩ := hy e (lpW (s.m + 1) s.m :: Γ) _ _ _ he (kok_lp k3 n3 m3) (fun _ => lpK_lp) (fun _ => lpK_lp.sw) r3.1
  have m4 := m3.r r4
  have r04 := ((r1.tr r2).tr r3).tr r4
  have tp : typ (y e (lpW (s.m + 1) s.m :: Γ) (em e Γ (psh 1 (skk Γ)) 22 0 0 (some (s.m + 1)) (x e Γ (skk Γ) (mkm (mkm s))))) (skk Γ, trs Γ, e.1) s.c.length = μ4 s.m := (r04.2.2.2.2.2.1 s.c.length (Nat.le_refl _)).trans ((typ_end (Nat.le_refl _)).trans m4.2.2.symm)
  have r5 := ty_hrp (P := fun k => (P k ∨ k = s.m) ∨ k = s.m + 1) (p := s.c.length) (r4.1.mono fun _ z => .inl z) m4.1 r04.2.2.2.1 tp
  have m5 := m4.r r5
  have r6 := ty_m (F' := (skk Γ, trs Γ, e.1)) [] ((k3.r r4).r r5) m5 r5.1 (.jm m5.2.2)
  have n6 := ((n3.r r4).r r5).r r6
  have r7 := ty_hre (P := fun k => P k ∨ k = s.m) (m := s.m + 1) r6.1 n6.1 n6.2.2.symm
  have r07 := ((r04.tr r5).tr r6).tr r7
  refine ⟨μ4, ty_drop r07.1 ?_, r07.2⟩
  refine (r6.tr r7).2.2.2.2.2.2 s.m ?_
  show (if s.m = s.m then some s.c.length else _) ≠ none
  rw [if_pos rfl]; exact fun z => by cases z
theorem tyT_Do {x : gEx} {y : gSt} (hx : tyE θ f x) (hy : tyT θ f (l + 1) w y) : tyT θ f l w (gDo y x) := fun e Γ s μ P he hk h1 h2 ht => by
  obtain ⟨μ1, r1, a1, a2, a3⟩ := ty_mk3 (P := fun k => ((P k ∨ k = s.m) ∨ k = s.m + 2) ∨ k = s.m + 1) (skk Γ, trs Γ, e.1) (skk Γ, trs Γ, e.1) (skk Γ, trs Γ, e.1) (ht.mono fun _ z => .inl (.inl (.inl z)))
  have k1 := (hk.p (P' := fun k => ((P k ∨ k = s.m) ∨ k = s.m + 2) ∨ k = s.m + 1) fun _ z => .inl (.inl (.inl z))).r r1
  have m1 : mkd (fun k => ((P k ∨ k = s.m) ∨ k = s.m + 2) ∨ k = s.m + 1) μ1 (mkm (mkm (mkm s))).m s.m _ := ⟨show s.m < s.m + 3 by omega, .inl (.inl (.inr rfl)), a1⟩
  have c1 : mkd (fun k => ((P k ∨ k = s.m) ∨ k = s.m + 2) ∨ k = s.m + 1) μ1 (mkm (mkm (mkm s))).m (s.m + 1) _ := ⟨show s.m + 1 < s.m + 3 by omega, .inr rfl, a2⟩
  have n1 : mkd (fun k => ((P k ∨ k = s.m) ∨ k = s.m + 2) ∨ k = s.m + 1) μ1 (mkm (mkm (mkm s))).m (s.m + 2) _ := ⟨show s.m + 2 < s.m + 3 by omega, .inl (.inr rfl), a3⟩
  have r2 := ty_hre (P := fun k => ((P k ∨ k = s.m) ∨ k = s.m + 2) ∨ k = s.m + 1) (r1.1.mono fun _ z => .inl z) m1.1 m1.2.2.symm
  obtain ⟨μ3, r3⟩ := hy e (lpW (s.m + 2) (s.m + 1) :: Γ) _ _ _ he (kok_lp (k1.r r2) (n1.r r2) (c1.r r2)) (fun _ => lpK_lp) (fun _ => lpK_lp.sw) r2.1
  have c3 := (c1.r r2).r r3
  have r4 := ty_hre (P := fun k => (P k ∨ k = s.m) ∨ k = s.m + 2) r3.1 c3.1 c3.2.2.symm
  have r04 := ((r1.tr r2).tr r3).tr r4
  have k4 := (hk.p (P' := fun k => (P k ∨ k = s.m) ∨ k = s.m + 2) fun _ z => .inl (.inl z)).r r04
  obtain ⟨μ5, r5⟩ := hx e Γ (skk Γ) _ _ _ he k4.cx r4.1
  have q1 : mkd (fun k => (P k ∨ k = s.m) ∨ k = s.m + 2) μ1 (mkm (mkm (mkm s))).m s.m _ := ⟨m1.1, .inl (.inr rfl), a1⟩
  have q2 : mkd (fun k => (P k ∨ k = s.m) ∨ k = s.m + 2) μ1 (mkm (mkm (mkm s))).m (s.m + 2) _ := ⟨n1.1, .inr rfl, a3⟩
  have n5 := (((q2.r r2).r r3).r r4).r r5
  have m5 := (((q1.r r2).r r3).r r4).r r5
  have r6 := ty_m (F' := (skk Γ, trs Γ, e.1)) [false] (k4.r r5) n5 r5.1 (.ul (L' := skk Γ) rfl n5.2.2 rfl)
  have m6 := m5.r r6
  have r7 := ty_m (F' := (skk Γ, trs Γ, e.1)) [] ((k4.r r5).r r6) m6 r6.1 (.jm m6.2.2)
  have n7 := (n5.r r6).r r7
  have r8 := ty_hre (P := fun k => P k ∨ k = s.m) r7.1 n7.1 n7.2.2.symm
  have r08 := (((r04.tr r5).tr r6).tr r7).tr r8
  refine ⟨μ5, ty_drop r08.1 ?_, r08.2⟩
  refine (((((r3.tr r4).tr r5).tr r6).tr r7).tr r8).2.2.2.2.2.2 s.m ?_
  show (if s.m = s.m then some _ else _) ≠ none
  rw [if_pos rfl]; exact fun z => by cases z
theorem tyT_For {x : Option gEx} {i z y : gSt} (hi : tyT θ f l w i) (hx : ∀ g, x = some g → tyE θ f g) (hz : tyT θ f l w z) (hy : tyT θ f (l + 1) w y) : tyT θ f l w (gFor i x z y) := fun e Γ s μ P he hk h1 h2 ht => by
  obtain ⟨μ1, r1, a1, a2, a3⟩ := ty_mk3 (P := fun k => ((P k ∨ k = s.m) ∨ k = s.m + 2) ∨ k = s.m + 1) (skk Γ, trs Γ, e.1) (skk Γ, trs Γ, e.1) (skk Γ, trs Γ, e.1) (ht.mono fun _ z => .inl (.inl (.inl z)))
  have k1 := (hk.p (P' := fun k => ((P k ∨ k = s.m) ∨ k = s.m + 2) ∨ k = s.m + 1) fun _ z => .inl (.inl (.inl z))).r r1
  have m1 : mkd (fun k => ((P k ∨ k = s.m) ∨ k = s.m + 2) ∨ k = s.m + 1) μ1 (mkm (mkm (mkm s))).m s.m _ := ⟨show s.m < s.m + 3 by omega, .inl (.inl (.inr rfl)), a1⟩
  have c1 : mkd (fun k => ((P k ∨ k = s.m) ∨ k = s.m + 2) ∨ k = s.m + 1) μ1 (mkm (mkm (mkm s))).m (s.m + 1) _ := ⟨show s.m + 1 < s.m + 3 by omega, .inr rfl, a2⟩
  have n1 : mkd (fun k => ((P k ∨ k = s.m) ∨ k = s.m + 2) ∨ k = s.m + 1) μ1 (mkm (mkm (mkm s))).m (s.m + 2) _ := ⟨show s.m + 2 < s.m + 3 by omega, .inl (.inr rfl), a3⟩
  obtain ⟨μi, ri⟩ := hi e Γ _ _ _ he k1 h1 h2 r1.1
  have mi := m1.r ri
  have r2 := ty_hre (P := fun k => ((P k ∨ k = s.m) ∨ k = s.m + 2) ∨ k = s.m + 1) (ri.1.mono fun _ z => .inl z) mi.1 mi.2.2.symm
  have k2 := (k1.r ri).r r2
  have n2 := (n1.r ri).r r2
  obtain ⟨μt, rt⟩ : ∃ μt, tyR θ (fun k => ((P k ∨ k = s.m) ∨ k = s.m + 2) ∨ k = s.m + 1) μi (hre s.m (i e Γ (mkm (mkm (mkm s))))) (skk Γ, trs Γ, e.1) μt (gTst e Γ (s.m + 2) x (hre s.m (i e Γ (mkm (mkm (mkm s)))))) (skk Γ, trs Γ, e.1) := by
    cases x with
    | none => exact ⟨μi, tyR.rf r2.1⟩
    | some g =>
      obtain ⟨μ5, r5⟩ := hx g rfl e Γ (skk Γ) _ _ _ he k2.cx r2.1
      have n5 := n2.r r5
      exact ⟨μ5, r5.tr (ty_m (F' := (skk Γ, trs Γ, e.1)) [false] (k2.r r5) n5 r5.1 (.ul (L' := skk Γ) rfl n5.2.2 rfl))⟩
  obtain ⟨μ3, r3⟩ := hy e (lpW (s.m + 2) (s.m + 1) :: Γ) _ _ _ he (kok_lp (k2.r rt) (n2.r rt) (((c1.r ri).r r2).r rt)) (fun _ => lpK_lp) (fun _ => lpK_lp.sw) rt.1
  have c3 := (((c1.r ri).r r2).r rt).r r3
  have r4 := ty_hre (P := fun k => (P k ∨ k = s.m) ∨ k = s.m + 2) r3.1 c3.1 c3.2.2.symm
  have r04 := ((((r1.tr ri).tr r2).tr rt).tr r3).tr r4
  have k4 := (hk.p (P' := fun k => (P k ∨ k = s.m) ∨ k = s.m + 2) fun _ z => .inl (.inl z)).r r04
  obtain ⟨μ5, r5⟩ := hz e Γ _ _ _ he k4 h1 h2 r4.1
  have q1 : mkd (fun k => (P k ∨ k = s.m) ∨ k = s.m + 2) μ1 (mkm (mkm (mkm s))).m s.m _ := ⟨m1.1, .inl (.inr rfl), a1⟩
  have q2 : mkd (fun k => (P k ∨ k = s.m) ∨ k = s.m + 2) μ1 (mkm (mkm (mkm s))).m (s.m + 2) _ := ⟨n1.1, .inr rfl, a3⟩
  have n5 := (((((q2.r ri).r r2).r rt).r r3).r r4).r r5
  have m5 := (((((q1.r ri).r r2).r rt).r r3).r r4).r r5
  have r7 := ty_m (F' := (skk Γ, trs Γ, e.1)) [] (k4.r r5) m5 r5.1 (.jm m5.2.2)
  have n7 := n5.r r7
  have r8 := ty_hre (P := fun k => P k ∨ k = s.m) r7.1 n7.1 n7.2.2.symm
  have r08 := ((r04.tr r5).tr r7).tr r8
  refine ⟨μ5, ty_drop r08.1 ?_, r08.2⟩
  refine (((((rt.tr r3).tr r4).tr r5).tr r7).tr r8).2.2.2.2.2.2 s.m ?_
  show (if s.m = s.m then some _ else _) ≠ none
  rw [if_pos rfl]; exact fun z => by cases z
theorem tyT_Ea {n : Nat} {x : gEx} {y : gSt} (hn : n < θ.1) (hx : tyE θ f x) (hy : tyT θ f (l + 1) w y) : tyT θ f l w (gEa n x y) := fun e Γ s μ P he hk h1 h2 ht => by
  obtain ⟨μ1, r1, a1, a2⟩ := ty_mk2 (P := fun k => (P k ∨ k = s.m) ∨ k = s.m + 1) (true :: skk Γ, trs Γ, e.1) (skk Γ, trs Γ, e.1) (ht.mono fun _ z => .inl (.inl z))
  have k1 := (hk.p (P' := fun k => (P k ∨ k = s.m) ∨ k = s.m + 1) fun _ z => .inl (.inl z)).r r1
  have m1 : mkd (fun k => (P k ∨ k = s.m) ∨ k = s.m + 1) μ1 (mkm (mkm s)).m s.m _ := ⟨show s.m < s.m + 2 by omega, .inl (.inr rfl), a1⟩
  have n1 : mkd (fun k => (P k ∨ k = s.m) ∨ k = s.m + 1) μ1 (mkm (mkm s)).m (s.m + 1) _ := ⟨show s.m + 1 < s.m + 2 by omega, .inr rfl, a2⟩
  obtain ⟨μ2, r2⟩ := hx e Γ (skk Γ) _ _ _ he k1.cx r1.1
  have r3 := ty_s (op := 29) (a := 0) (c := 0) (F' := (true :: skk Γ, trs Γ, e.1)) [false] (k1.r r2) r2.1 (.ls (L' := skk Γ) rfl rfl)
  have k3 := kok_ea ((k1.r r2).r r3) ((n1.r r2).r r3) ((m1.r r2).r r3)
  have n3 := (n1.r r2).r r3
  have r4 := ty_m (Γ := eaW (s.m + 1) s.m :: Γ) (op := 30) (a := 0) (c := 0) (F' := (false :: true :: skk Γ, trs Γ, e.1)) [] k3 n3 r3.1 (.ni (L' := skk Γ) rfl n3.2.2 rfl)
  obtain ⟨μ5, r5⟩ := ty_set (Γ := eaW (s.m + 1) s.m :: Γ) [] he hn (k3.r r4) r4.1
  have k5 := (k3.r r4).r r5
  have r6 := ty_s (Γ := eaW (s.m + 1) s.m :: Γ) (op := 17) (a := 0) (c := 0) (F' := (true :: skk Γ, trs Γ, e.1)) [false] k5 r5.1 (.dr (c := false) (L' := true :: skk Γ) rfl rfl)
  obtain ⟨μ7, r7⟩ := hy e (eaW (s.m + 1) s.m :: Γ) _ _ _ he (k5.r r6) (fun _ => lpK_ea) (fun _ => lpK_ea.sw) r6.1
  have r37 := ((r4.tr r5).tr r6).tr r7
  have m7 := ((m1.r r2).r r3).r r37
  have r8 := ty_hrp (P := fun k => (P k ∨ k = s.m) ∨ k = s.m + 1) (p := (em e Γ (psh 1 (skk Γ)) 29 0 0 none (x e Γ (skk Γ) (mkm (mkm s)))).c.length) (r7.1.mono fun _ z => .inl z) m7.1 r37.2.2.2.1 ((r37.2.2.2.2.2.1 _ (Nat.le_refl _)).trans ((typ_end (Nat.le_refl _)).trans m7.2.2.symm))
  have k8 := ((k5.r r6).r r7).r r8
  have m8 := m7.r r8
  have r9 := ty_m (Γ := eaW (s.m + 1) s.m :: Γ) (op := 21) (a := 0) (c := 0) (F' := (skk Γ, trs Γ, e.1)) [] k8 m8 r8.1 (.jm m8.2.2)
  have n9 := ((n3.r r37).r r8).r r9
  have r10 := ty_hre (P := fun k => P k ∨ k = s.m) r9.1 n9.1 n9.2.2.symm
  have r0 := (((((r1.tr r2).tr r3).tr r37).tr r8).tr r9).tr r10
  refine ⟨μ7, ty_drop r0.1 ?_, r0.2⟩
  refine (r9.tr r10).2.2.2.2.2.2 s.m ?_
  show (if s.m = s.m then some _ else _) ≠ none
  rw [if_pos rfl]; exact fun z => by cases z
theorem tyT_TrC {n : Nat} {y z : gSt} (hn : n < θ.1) (hy : tyT θ f l w y) (hz : tyT θ f l w z) : tyT θ f l w (gTrC y n z) := fun e Γ s μ P he hk h1 h2 ht => by
  obtain ⟨μ1, r1, a1, a2⟩ := ty_mk2 (P := fun k => (P k ∨ k = s.m + 1) ∨ k = s.m) (false :: skk Γ, trs Γ, e.1) (skk Γ, trs Γ, e.1) (ht.mono fun _ z => .inl (.inl z))
  have k1 := (hk.p (P' := fun k => (P k ∨ k = s.m + 1) ∨ k = s.m) fun _ z => .inl (.inl z)).r r1
  have m1 : mkd (fun k => (P k ∨ k = s.m + 1) ∨ k = s.m) μ1 (mkm (mkm s)).m s.m _ := ⟨show s.m < s.m + 2 by omega, .inr rfl, a1⟩
  have n1 : mkd (fun k => (P k ∨ k = s.m + 1) ∨ k = s.m) μ1 (mkm (mkm s)).m (s.m + 1) _ := ⟨show s.m + 1 < s.m + 2 by omega, .inl (.inr rfl), a2⟩
  have r2 := ty_m (op := 27) (a := 0) (c := 0) (F' := (skk Γ, (s.m, (skk Γ).length) :: trs Γ, e.1)) [] k1 m1 r1.1 (.tr rfl)
  have k2 : kok θ (fun k => (P k ∨ k = s.m + 1) ∨ k = s.m) μ1 _ e.1 (trW s.c.length s.m none :: Γ) := kok_tr (k1.r r2) (m1.r r2) (fun _ z => by cases z)
  obtain ⟨μ3, r3⟩ := hy e (trW s.c.length s.m none :: Γ) _ _ _ he k2 (fun z => (h1 z).tl) (fun z => (h2 z).tl) r2.1
  have r4 := ty_s (Γ := trW s.c.length s.m none :: Γ) (op := 28) (a := 0) (c := 0) (F' := (skk Γ, trs Γ, e.1)) [] (k2.r r3) r3.1 (.lv rfl rfl)
  have n4 := ((n1.r r2).r r3).r r4
  have r5 := ty_m (op := 21) (a := 0) (c := 0) (F' := (false :: skk Γ, trs Γ, e.1)) [] (((k1.r r2).r r3).r r4) n4 r4.1 (.jm n4.2.2)
  have m5 := (((m1.r r2).r r3).r r4).r r5
  have r6 := ty_hre (P := fun k => P k ∨ k = s.m + 1) r5.1 m5.1 m5.2.2.symm
  have r06 := ((((r1.tr r2).tr r3).tr r4).tr r5).tr r6
  have k6 := (hk.p (P' := fun k => P k ∨ k = s.m + 1) fun _ z => .inl z).r r06
  obtain ⟨μ7, r7⟩ := ty_set [] he hn k6 r6.1
  have r8 := ty_s (op := 17) (a := 0) (c := 0) (F' := (skk Γ, trs Γ, e.1)) [false] (k6.r r7) r7.1 (.dr (c := false) (L' := skk Γ) rfl rfl)
  obtain ⟨μ9, r9⟩ := hz e Γ _ _ _ he ((k6.r r7).r r8) h1 h2 r8.1
  have n9 := ((((n4.r r5).r r6).r r7).r r8).r r9
  have r10 := ty_hre (P := P) r9.1 n9.1 n9.2.2.symm
  exact ⟨μ9, (((r06.tr r7).tr r8).tr r9).tr r10⟩
theorem tyT_TrF {y z : gSt} (hy : tyT θ f l w y) (hz : tyT θ f l w z) : tyT θ f l w (gTrF y z) := fun e Γ s μ P he hk h1 h2 ht => by
  obtain ⟨μ1, r1, a1, a2⟩ := ty_mk2 (P := fun k => (P k ∨ k = s.m + 1) ∨ k = s.m) (false :: skk Γ, trs Γ, e.1) (skk Γ, trs Γ, e.1) (ht.mono fun _ z => .inl (.inl z))
  have k1 := (hk.p (P' := fun k => (P k ∨ k = s.m + 1) ∨ k = s.m) fun _ z => .inl (.inl z)).r r1
  have m1 : mkd (fun k => (P k ∨ k = s.m + 1) ∨ k = s.m) μ1 (mkm (mkm s)).m s.m _ := ⟨show s.m < s.m + 2 by omega, .inr rfl, a1⟩
  have n1 : mkd (fun k => (P k ∨ k = s.m + 1) ∨ k = s.m) μ1 (mkm (mkm s)).m (s.m + 1) _ := ⟨show s.m + 1 < s.m + 2 by omega, .inl (.inr rfl), a2⟩
  have r2 := ty_m (op := 27) (a := 0) (c := 0) (F' := (skk Γ, (s.m, (skk Γ).length) :: trs Γ, e.1)) [] k1 m1 r1.1 (.tr rfl)
  have hf : ∀ φ, some (fun X s => z e (vaK X Γ) s) = some φ → tyF θ (fun k => (P k ∨ k = s.m + 1) ∨ k = s.m) μ1 (em e Γ (skk Γ) 27 0 0 (some s.m) (mkm (mkm s))).m e.1 Γ φ := fun φ hφ X s' μ' P' q1 q2 q3 q4 => by
    have : (fun X s => z e (vaK X Γ) s) = φ := Option.some.inj hφ
    rw [← this]
    obtain ⟨v1, v2, v3, v4, v5⟩ := kok_va (X := X) ((k1.r r2).mv q1 q2 q3)
    obtain ⟨μ5, r5⟩ := hz e (vaK X Γ) s' μ' P' he v1 (fun z => v4 (h1 z)) (fun z => v5 (h2 z)) (by rw [v2, v3]; exact q4)
    rw [v2, v3] at r5
    exact ⟨μ5, r5⟩
  have k2 := kok_tr (k := s.c.length) (k1.r r2) (m1.r r2) hf
  obtain ⟨μ3, r3⟩ := hy e _ _ _ _ he k2 (fun z => (h1 z).tl) (fun z => (h2 z).tl) r2.1
  have r4 := ty_s (Γ := trW s.c.length s.m (some (fun X s => z e (vaK X Γ) s)) :: Γ) (op := 28) (a := 0) (c := 0) (F' := (skk Γ, trs Γ, e.1)) [] (k2.r r3) r3.1 (.lv rfl rfl)
  have k4 := ((k1.r r2).r r3).r r4
  obtain ⟨μz, rz⟩ := hz e Γ _ _ _ he k4 h1 h2 r4.1
  have n4 := (((n1.r r2).r r3).r r4).r rz
  have r5 := ty_m (op := 21) (a := 0) (c := 0) (F' := (false :: skk Γ, trs Γ, e.1)) [] (k4.r rz) n4 rz.1 (.jm n4.2.2)
  have m5 := ((((m1.r r2).r r3).r r4).r rz).r r5
  have r6 := ty_hre (P := fun k => P k ∨ k = s.m + 1) r5.1 m5.1 m5.2.2.symm
  have r06 := (((((r1.tr r2).tr r3).tr r4).tr rz).tr r5).tr r6
  have k6 := (hk.p (P' := fun k => P k ∨ k = s.m + 1) fun _ z => .inl z).r r06
  obtain ⟨μ7, r7⟩ := hz e (vaW [false] :: Γ) _ _ _ he (kok_vw k6) (fun z => (h1 z).tl) (fun z => (h2 z).tl) r6.1
  have r8 := ty_s (op := 26) (a := 0) (c := 0) (F' := (skk Γ, trs Γ, e.1)) [false] (k6.r r7) r7.1 (.tw (L' := skk Γ) rfl)
  have n8 := (((n4.r r5).r r6).r r7).r r8
  have r10 := ty_hre (P := P) r8.1 n8.1 n8.2.2.symm
  exact ⟨μ7, ((r06.tr r7).tr r8).tr r10⟩
end
