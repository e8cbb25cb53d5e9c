/-! TYPES OF CODE: a switch; a whole function -/
section
variable {θ : tH} {f l w : Nat} {P P' : Nat → Prop} {μ μ' μ0 : Nat → tyP} {s s' s0 : gS} {F F' F0 : tyP} {e : gN} {Γ : gK} {g b b' : Nat}
theorem ty_Mks (T : tyP) : ∀ (n : Nat) {s : gS} {μ : Nat → tyP}, tyS θ μ P s F → ∃ μ', tyR θ P μ s F μ' (gMks n s) F ∧ ∀ m, s.m ≤ m → m < s.m + n → μ' m = T
  | 0, s, μ, h => ⟨μ, tyR.rf h, fun m h1 h2 => by omega⟩
  | n + 1, s, μ, h => by
    have r1 := ty_mkm T h
    obtain ⟨μ2, r2, h2⟩ := ty_Mks T n r1.1
    refine ⟨μ2, r1.tr r2, fun m z1 z2 => ?_⟩
    by_cases z : m = s.m
    · rw [z]; exact (r2.2.2.1 s.m (Nat.lt_succ_self _)).trans (if_pos rfl)
    · exact h2 m (show s.m + 1 ≤ m by omega) (show m < s.m + 1 + n by omega)
theorem ty_CsT (he : eok θ f e) : ∀ (cs : List (Option gEx × gSt)) (m : Nat) {s : gS} {μ : Nat → tyP}, (∀ q ∈ cs, ∀ g, q.1 = some g → tyE θ f g) → kok θ P μ s.m e.1 Γ → (∀ k, m ≤ k → k < m + cs.length → mkd P μ s.m k (skk Γ, trs Γ, e.1)) → tyS θ μ P s (false :: skk Γ, trs Γ, e.1) → ∃ μ', tyR θ P μ s (false :: skk Γ, trs Γ, e.1) μ' (gCsT e Γ cs m s) (false :: skk Γ, trs Γ, e.1)
  | [], m, s, μ, _, _, _, h => ⟨μ, tyR.rf h⟩
  | (none, y) :: r, m, s, μ, hc, hk, hm, h => ty_CsT he r (m + 1) (fun q hq => hc q (List.mem_cons_of_mem _ hq)) hk (fun k h1 h2 => hm k (by omega) (by rw [List.length_cons]; omega)) h
  | (some x, y) :: r, m, s, μ, hc, hk, hm, h => by
    have hx := hc (some x, y) List.mem_cons_self x rfl
    have r1 := ty_mkm (P := fun k => P k ∨ k = s.m) (false :: skk Γ, trs Γ, e.1) (h.mono fun _ z => .inl z)
    have k1 := (hk.p (P' := fun k => P k ∨ k = s.m) fun _ z => .inl z).r r1
    have m1 : mkd (fun k => P k ∨ k = s.m) (fun m => if m = s.m then (false :: skk Γ, trs Γ, e.1) else μ m) (mkm s).m s.m (false :: skk Γ, trs Γ, e.1) := ⟨Nat.lt_succ_self _, .inr rfl, if_pos rfl⟩
    have r2 := ty_s (op := 18) (a := 0) (c := 0) (F' := (psh 2 (skk Γ), trs Γ, e.1)) [false] k1 r1.1 (.cp (L' := skk Γ) rfl rfl)
    have c2 := (k1.r r2).cx.ps 2
    obtain ⟨μ3, r3⟩ := hx e Γ (psh 2 (skk Γ)) _ _ _ he c2 r2.1
    have k3 := (k1.r r2).r r3
    have m3 := (m1.r r2).r r3
    have r4 := ty_s (op := 14) (a := 13) (c := 0) (F' := (psh 2 (skk Γ), trs Γ, e.1)) [false, false, false] k3 r3.1 (.bi (h := 13) (L' := psh 1 (skk Γ)) (by decide) rfl rfl)
    have m4 := m3.r r4
    have r5 := ty_m (op := 22) (a := 0) (c := 0) (F' := (psh 1 (skk Γ), trs Γ, e.1)) [false, false] (k3.r r4) m4 r4.1 (.ul (L' := psh 1 (skk Γ)) rfl m4.2.2 rfl)
    have k5 := (k3.r r4).r r5
    have r6 := ty_s (op := 17) (a := 0) (c := 0) (F' := (skk Γ, trs Γ, e.1)) [false] k5 r5.1 (.dr (c := false) (L' := skk Γ) rfl rfl)
    have n0 := (hm m (Nat.le_refl _) (by rw [List.length_cons]; omega)).mv (P' := fun k => P k ∨ k = s.m) (fun _ _ => rfl) (Nat.le_refl _) (fun _ z => .inl z)
    have n6 := (((((n0.r r1).r r2).r r3).r r4).r r5).r r6
    have r7 := ty_m (op := 21) (a := 0) (c := 0) (F' := (psh 1 (skk Γ), trs Γ, e.1)) [] (k5.r r6) n6 r6.1 (.jm n6.2.2)
    have m7 := ((m4.r r5).r r6).r r7
    have r8 := ty_hre (P := P) r7.1 m7.1 m7.2.2.symm
    have r08 := ((((((r1.tr r2).tr r3).tr r4).tr r5).tr r6).tr r7).tr r8
    obtain ⟨μ9, r9⟩ := ty_CsT he r (m + 1) (fun q hq => hc q (List.mem_cons_of_mem _ hq)) (hk.r r08) (fun k h1 h2 => (hm k (by omega) (by rw [List.length_cons]; omega)).r r08) r8.1
    exact ⟨μ9, r08.tr r9⟩
theorem ty_CsB (he : eok θ f e) (h1 : 1 ≤ l → lpK Γ) (h2 : swK Γ) : ∀ (cs : List (Option gEx × gSt)) (m : Nat) {s : gS} {μ : Nat → tyP}, (∀ q ∈ cs, tyT θ f l w q.2) → kok θ P μ s.m e.1 Γ → (∀ k, m ≤ k → k < m + cs.length → k < s.m ∧ μ k = (skk Γ, trs Γ, e.1)) → tyS θ μ (fun k => P k ∨ m ≤ k ∧ k < m + cs.length) s (skk Γ, trs Γ, e.1) → ∃ μ', tyR θ P μ s (skk Γ, trs Γ, e.1) μ' (gCsB e Γ cs m s) (skk Γ, trs Γ, e.1)
  | [], m, s, μ, _, _, _, h => ⟨μ, tyR.rf (h.mono fun k z => z.elim id fun y => absurd y (by rw [List.length_nil]; omega))⟩
  | (x, y) :: r, m, s, μ, hc, hk, hm, h => by
    have n0 := hm m (Nat.le_refl _) (by rw [List.length_cons]; omega)
    have r1 := ty_hre (P := fun k => P k ∨ m + 1 ≤ k ∧ k < m + 1 + r.length) (m := m) (h.mono fun k z => z.elim (fun y => .inl (.inl y)) fun y => by
      rw [List.length_cons] at y
      by_cases e : k = m
      · exact .inr e
      · exact .inl (.inr (by omega))) n0.1 n0.2.symm
    obtain ⟨μ2, r2⟩ := hc (x, y) List.mem_cons_self e Γ _ _ _ he ((hk.p (P' := fun k => P k ∨ m + 1 ≤ k ∧ k < m + 1 + r.length) fun _ z => .inl z).r r1) h1 (fun _ => h2) r1.1
    obtain ⟨μ3, r3⟩ := ty_CsB he h1 h2 r (m + 1) (fun q hq => hc q (List.mem_cons_of_mem _ hq)) ((hk.r r1).r r2) (fun k z1 z2 => by
      have := hm k (by omega) (by rw [List.length_cons]; omega)
      exact ⟨Nat.lt_of_lt_of_le this.1 (r1.tr r2).2.1, ((r1.tr r2).2.2.1 k this.1).trans this.2⟩) r2.1
    exact ⟨μ3, (r1.tr r2).tr r3⟩
theorem tyT_Sw {x : gEx} {cs : List (Option gEx × gSt)} (hx : tyE θ f x) (hc : ∀ q ∈ cs, ∀ g, q.1 = some g → tyE θ f g) (hb : ∀ q ∈ cs, tyT θ f l (w + 1) q.2) : tyT θ f l w (gSw x cs) := fun e Γ s μ P he hk h1 h2 ht => by
  obtain ⟨μ1, r1⟩ := hx e Γ (skk Γ) s μ P he hk.cx ht
  have k1 := hk.r r1
  suffices hh : ∃ μ', tyR θ P μ1 (x e Γ (skk Γ) s) (false :: skk Γ, trs Γ, e.1) μ' ((fun s => (fun n => hre n (gCsB e (swW n :: Γ) cs (n + 1) (em e Γ (skk Γ) 21 0 0 (some (gDef cs (n + 1) n)) (em e Γ (psh 1 (skk Γ)) 17 0 0 none (gCsT e Γ cs (n + 1) (gMks cs.length (mkm s))))))) s.m) (x e Γ (skk Γ) s)) (skk Γ, trs Γ, e.1) by
    obtain ⟨μ', r⟩ := hh
    exact ⟨μ', r1.tr r⟩
  have t1 := r1.1
  clear r1
  generalize x e Γ (skk Γ) s = s1 at *
  dsimp only
  have r2 := ty_mkm (P := fun k => (P k ∨ k = s1.m) ∨ s1.m + 1 ≤ k ∧ k < s1.m + 1 + cs.length) (skk Γ, trs Γ, e.1) (t1.mono fun _ z => .inl (.inl z))
  obtain ⟨μ3, r3, h3⟩ := ty_Mks (skk Γ, trs Γ, e.1) cs.length r2.1
  have r03 := r2.tr r3
  have ms : (gMks cs.length (mkm s1)).m = s1.m + 1 + cs.length := (gst_Mks (P := fun _ => False) cs.length (mkm s1)).2
  have hm : ∀ k, s1.m ≤ k → k < s1.m + 1 + cs.length → mkd (fun k => (P k ∨ k = s1.m) ∨ s1.m + 1 ≤ k ∧ k < s1.m + 1 + cs.length) μ3 (gMks cs.length (mkm s1)).m k (skk Γ, trs Γ, e.1) := fun k z1 z2 => by
    refine ⟨by rw [ms]; exact z2, ?_, ?_⟩
    · by_cases z : k = s1.m
      · exact .inl (.inr z)
      · exact .inr (by omega)
    · by_cases z : k = s1.m
      · rw [z]; exact (r3.2.2.1 s1.m (Nat.lt_succ_self _)).trans (if_pos rfl)
      · exact h3 k (show s1.m + 1 ≤ k by omega) (show k < s1.m + 1 + cs.length by omega)
  have k3 := (k1.p (P' := fun k => (P k ∨ k = s1.m) ∨ s1.m + 1 ≤ k ∧ k < s1.m + 1 + cs.length) fun _ z => .inl (.inl z)).r r03
  obtain ⟨μ4, r4⟩ := ty_CsT he cs (s1.m + 1) hc k3 (fun k z1 z2 => hm k (by omega) z2) r3.1
  have r5 := ty_s (op := 17) (a := 0) (c := 0) (F' := (skk Γ, trs Γ, e.1)) [false] (k3.r r4) r4.1 (.dr (c := false) (L' := skk Γ) rfl rfl)
  have dn := (hm (gDef cs (s1.m + 1) s1.m) (by have := gDef_in cs (s1.m + 1) s1.m; omega) (by have := gDef_in cs (s1.m + 1) s1.m; omega)).r (r4.tr r5)
  have r6 := ty_m (op := 21) (a := 0) (c := 0) (F' := (skk Γ, trs Γ, e.1)) [] ((k3.r r4).r r5) dn r5.1 (.jm dn.2.2)
  have r36 := (r4.tr r5).tr r6
  have r06 := r03.tr r36
  have n6 := (hm s1.m (Nat.le_refl _) (by omega)).r r36
  have n6' : mkd (fun k => P k ∨ k = s1.m) μ4 _ s1.m (skk Γ, trs Γ, e.1) := ⟨n6.1, .inr rfl, n6.2.2⟩
  have k6 := kok_sw ((k1.p (P' := fun k => P k ∨ k = s1.m) fun _ z => .inl z).r r06) n6'
  obtain ⟨μ7, r7⟩ := ty_CsB (Γ := swW s1.m :: Γ) (P := fun k => P k ∨ k = s1.m) he (fun z => (h1 z).tl) ⟨_, List.mem_cons_self, .inr (.inr rfl)⟩ cs (s1.m + 1) hb k6 (fun k z1 z2 => by
    have := (hm k (by omega) z2).r r36
    exact ⟨this.1, this.2.2⟩) r6.1
  have n7 := n6'.r r7
  have r8 := ty_hre (P := P) r7.1 n7.1 n7.2.2.symm
  exact ⟨μ7, (r06.tr r7).tr r8⟩
theorem tyT_cls {N H : Nat} {Φ : Nat → Prop} (hN : N ≤ θ.1) (hΦ : ∀ k, Φ k → θ.2.2 f k) {l w d : Nat} {g : gSt} (h : cSt N Φ H l w d g) : tyT θ f l w g := by
  induction h using cSt.ind with
  | no => exact fun e Γ s μ P _ _ _ _ ht => ⟨μ, tyR.rf ht⟩
  | sq _ _ i1 i2 => exact tyT_Sq i1 i2
  | pl h => exact tyT_Pl (ty_cls hN hΦ h)
  | ift h _ i => exact tyT_If (ty_cls hN hΦ h) i
  | ife h _ _ i1 i2 => exact tyT_IfE (ty_cls hN hΦ h) i1 i2
  | wh h _ i => exact tyT_Wh (ty_cls hN hΦ h) i
  | dow h _ i => exact tyT_Do (ty_cls hN hΦ h) i
  | for0 _ _ _ i1 i2 i3 => exact tyT_For i1 (fun _ z => by cases z) i2 i3
  | for1 h _ _ _ i1 i2 i3 => exact tyT_For i1 (fun _ z => by cases z; exact ty_cls hN hΦ h) i2 i3
  | ea hn h _ i => exact tyT_Ea (by omega) (ty_cls hN hΦ h) i
  | brk h => exact fun e Γ s μ P _ hk _ h2 ht => ty_Go true Γ hk (h2 h) ht _
  | cnt h => exact fun e Γ s μ P _ hk h1 _ ht => ty_Go false Γ hk (h1 h) ht _
  | bk h => exact tyT_Bk (ty_cls hN hΦ h)
  | to h => exact tyT_To (ty_cls hN hΦ h)
  | trc hn _ _ i1 i2 => exact tyT_TrC (by omega) i1 i2
  | trf _ _ i1 i2 => exact tyT_TrF i1 i2
  | sw h h1 _ i => exact tyT_Sw (ty_cls hN hΦ h) (fun q hq g hg => ty_cls hN hΦ (h1 q hq g hg)) i
/-- a whole function, behind what ends -/
theorem ty_fn {N H d : Nat} {Φ : Nat → Prop} (hN : N ≤ θ.1) (hΦ : ∀ k, Φ k → θ.2.2 f k) (he : eok θ f e) {gl : List Nat} (hg : ∀ x ∈ gl, x < θ.1) {dc : List (Nat × Nat)} (hd : ∀ q ∈ dc, θ.2.2 f q.1 ∧ q.2 < θ.1) {y : gSt} (hy : cSt N Φ H 0 0 d y) (ht : tyS θ μ P s ([], [], e.1)) : ∀ F', ∃ μ', tyR θ P μ s ([], [], e.1) μ' (gFn e gl dc y s) F' := by
  intro F'
  have hk : ∀ {μ : Nat → tyP} {b : Nat}, kok θ P μ b e.1 [] := trivial
  have a1 : ∀ (gl : List Nat) {s : gS} {μ : Nat → tyP}, (∀ x ∈ gl, x < θ.1) → tyS θ μ P s ([], [], e.1) → ∃ μ', tyR θ P μ s ([], [], e.1) μ' (gGl e gl s) ([], [], e.1) := by
    intro gl
    induction gl with
    | nil => intro s μ _ h; exact ⟨μ, tyR.rf h⟩
    | cons x r ih =>
      intro s μ hg h
      have r1 := ty_s (Γ := []) (op := 0) (a := 0) (c := 0) (F' := ([false], [], e.1)) [] hk h (.co ⟨0, by decide, rfl, fun z => by cases z⟩ rfl)
      have r2 := ty_s (Γ := []) (op := 4) (a := 0) (c := Int32.ofNat x) (F' := ([false], [], e.1)) [false] hk r1.1 (.sg (L' := []) (hg x List.mem_cons_self) rfl rfl)
      have r3 := ty_s (Γ := []) (op := 17) (a := 0) (c := 0) (F' := ([], [], e.1)) [false] hk r2.1 (.dr (c := false) (L' := []) rfl rfl)
      obtain ⟨μ4, r4⟩ := ih (fun z hz => hg z (List.mem_cons_of_mem _ hz)) r3.1
      exact ⟨μ4, ((r1.tr r2).tr r3).tr r4⟩
  have a2 : ∀ (dc : List (Nat × Nat)) {s : gS} {μ : Nat → tyP}, (∀ q ∈ dc, θ.2.2 f q.1 ∧ q.2 < θ.1) → tyS θ μ P s ([], [], e.1) → ∃ μ', tyR θ P μ s ([], [], e.1) μ' (gDc e dc s) ([], [], e.1) := by
    intro dc
    induction dc with
    | nil => intro s μ _ h; exact ⟨μ, tyR.rf h⟩
    | cons q r ih =>
      intro s μ hg h
      obtain ⟨k, x⟩ := q
      have hq := hg _ List.mem_cons_self
      have r1 := ty_s (Γ := []) (op := 9) (a := Int32.ofNat k) (c := 0) (F' := ([false], [], e.1)) [] hk h (.md (by rw [he.1]; exact hq.1) rfl)
      obtain ⟨μ2, r2⟩ := ty_set (Γ := []) (x := x) [] he hq.2 hk r1.1
      have r3 := ty_s (Γ := []) (op := 17) (a := 0) (c := 0) (F' := ([], [], e.1)) [false] hk r2.1 (.dr (c := false) (L' := []) rfl rfl)
      obtain ⟨μ4, r4⟩ := ih (fun z hz => hg z (List.mem_cons_of_mem _ hz)) r3.1
      exact ⟨μ4, ((r1.tr r2).tr r3).tr r4⟩
  obtain ⟨μ1, r1⟩ := a1 gl hg ht
  obtain ⟨μ2, r2⟩ := a2 dc hd r1.1
  obtain ⟨μ3, r3⟩ := tyT_cls hN hΦ hy e [] _ _ _ he hk (fun z => by omega) (fun z => by omega) r2.1
  have r4 := ty_s (Γ := []) (op := 0) (a := 0) (c := 0) (F' := ([false], [], e.1)) [] hk r3.1 (.co ⟨0, by decide, rfl, fun z => by cases z⟩ rfl)
  have r5 := ty_s (Γ := []) (op := 25) (a := 0) (c := 0) (F' := F') [false] hk r4.1 (.rt (L' := []) rfl)
  exact ⟨μ3, (((r1.tr r2).tr r3).tr r4).tr r5⟩
end
