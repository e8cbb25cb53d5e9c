/-! THE COMPONENT's PARSER: its state. τ: what a cell is: 0 done, 1 being made by a method that runs, 2 a switch, 3 a Code, 4 the functions' list, 5 its array, 6 the Tokens, 7 the Parser, 10 + k the variables of function k -/
def vC (M : zM) (f : Nat) : Nat := match gr M f 4 with | some p => p.2.2 | none => 0
def vS (M : zM) (f : Nat) : Nat := 24 + 4 * (gi M f 5).toNatClampNeg - 2 * vC M f
def lS (M : zM) (l : Nat) : Nat := 40 + 8 * (gi M l 2).toNatClampNeg - 4 * lC M l
/-- the slots in use, and what the lists that are shared have not used yet of what was paid for them -/
def pu (M : zM) (lf : Nat) (fs : List Nat) : Nat := zsu M + lS M lf + (fs.map (vS M)).sum
/-- what a method of the parser may change -/
def pU (τ : Nat → Nat) (x k : Nat) : Prop := (x = 16 ∧ k = 3 ∨ x = 20 ∨ x = 17 ∧ k = 2 ∨ x = 18 ∨ x = 19) ∨ 190 ≤ x ∧ (4 ≤ τ x ∨ τ x = 3 ∧ (k = 4 ∨ k = 5))
/-- function k is the Code f -/
def xFc (M : zM) (τ : Nat → Nat) (fs : List Nat) (k f : Nat) (q : gF) : Prop := (τ f = 3 ∧ gi M f 0 = nI k ∧ (k = 0 → gr M f 1 = none) ∧ (0 < k → ∃ g, fs[q.2.2.2.1]? = some g ∧ gr M f 1 = some (g, 10, 0))) ∧ ∃ b mb, xVs M f b mb q.1 ∧ τ b = 10 + k ∧ mb ≤ 12 + 2 * q.1.length
/-- the parser pp with the tokens a and the list lf of functions fs is at P's state s; C: the function, loops and switches around; o is open -/
def xPs (M : zM) (τ : Nat → Nat) (pp a lf n : Nat) (c : Nat → Int32) (fs : List Nat) (s : pS) (C : pC) (o : Nat) : Prop :=
  (xTz M a n c s ∧ τ a = 6 ∧ ∀ x, zsz M ≤ x → τ x = 0) ∧
  ((190 ≤ pp ∧ pp < zsz M ∧ τ pp = 7) ∧ gr M pp 0 = some (16, 0, 0) ∧ gr M pp 1 = some (a, 9, 0) ∧ gr M pp 2 = some (lf, 11, 0) ∧ s.2.2.length ≤ s.1 + 1 ∧ (∀ q ∈ s.2.2, q.1.length ≤ s.1) ∧ ∀ x, 190 ≤ x → x < zsz M → τ x = 2 → gr M x 3 = none) ∧
  ((∃ f, fs[C.1]? = some f ∧ gr M pp 3 = some (f, 10, 0)) ∧ (gi M pp 4 = nI o ∧ o ≤ 20) ∧ gi M pp 5 = nI C.2.1 ∧ gi M pp 6 = nI C.2.2 ∧ C.2.1 + C.2.2 ≤ o) ∧
  ((190 ≤ lf ∧ τ lf = 4 ∧ (16 ≤ lA M lf → 190 ≤ lA M lf ∧ τ (lA M lf) = 5)) ∧ xLs M lf (fs.map fun f => some (f, 10, 0))) ∧
  fs.length = s.2.2.length ∧ ∀ (k f : Nat) (q : gF), fs[k]? = some f → s.2.2[k]? = some q → xFc M τ fs k f q
/-- what goes on in a method that began when lo cells were there -/
def stp (lo : Nat) (τ : Nat → Nat) (M : zM) (τ' : Nat → Nat) (M' : zM) : Prop := fg (fun x k => pU τ x k ∨ lo ≤ x ∧ τ x = 1) M M' ∧ ∀ x, x < zsz M → τ' x = τ x
theorem pU_ag {τ τ' : Nat → Nat} {lo x k : Nat} (h : pU τ' x k) (ha : x < lo → τ' x = τ x) : pU τ x k ∨ lo ≤ x := by
  by_cases hx : x < lo
  · unfold pU at h ⊢
    rw [ha hx] at h
    exact .inl h
  · exact .inr (by omega)
theorem stp.rf {lo : Nat} {τ : Nat → Nat} {M : zM} : stp lo τ M τ M := ⟨fg.rf, fun _ _ => rfl⟩
theorem stp.tr {lo : Nat} {τ τ1 τ2 : Nat → Nat} {M M1 M2 : zM} (h : stp lo τ M τ1 M1) (h' : stp lo τ1 M1 τ2 M2) : stp lo τ M τ2 M2 := by
  have hz := h.1.1.1
  refine ⟨h.1.tr2 (h'.1.mono fun x k _ z => ?_), fun x hx => (h'.2 x (by omega)).trans (h.2 x hx)⟩
  rcases z with z | z
  · rcases pU_ag z (fun hx => h.2 x hx) with y | y
    · exact .inl (.inl y)
    · exact .inr y
  · by_cases hx : x < zsz M
    · rw [h.2 x hx] at z; exact .inl (.inr z)
    · exact .inr (by omega)
theorem stp.fg {τ τ' : Nat → Nat} {M M' : zM} (h : stp (zsz M) τ M τ' M') : fg (pU τ) M M' := h.1.mono fun x k hx z => z.elim id fun y => absurd y.1 (by omega)
theorem fg.stp {lo : Nat} {τ τ' : Nat → Nat} {M M' : zM} (h : fg (pU τ) M M') (ha : ∀ x, x < zsz M → τ' x = τ x) : stp lo τ M τ' M' := ⟨h.mono fun _ _ _ z => .inl z, ha⟩
/-- the cells of a text that is done; its switches -/
def nS (lo hi : Nat) (τ : Nat → Nat) (x : Nat) : Prop := lo ≤ x ∧ x < hi ∧ τ x = 0
def nW (lo hi : Nat) (τ : Nat → Nat) (x : Nat) : Prop := lo ≤ x ∧ x < hi ∧ τ x = 2
theorem nS_190 {lo hi : Nat} {τ : Nat → Nat} (h : 190 ≤ lo) : ∀ x, nS lo hi τ x → 190 ≤ x := fun _ z => Nat.le_trans h z.1
theorem stp.agS {lo lo' hi : Nat} {τ τ' : Nat → Nat} {M M' : zM} (h : stp lo' τ M τ' M') (hl : 190 ≤ lo) (hh : hi ≤ zsz M) : agS (nS lo hi τ) M M' := fun x k z => by
  have := h.1.2 x k (Nat.lt_of_lt_of_le z.2.1 hh) (by unfold pU; have := z.1; have := z.2.2; omega)
  exact ⟨this.1, this.2.2⟩
theorem stp.agB {lo lo' hi : Nat} {τ τ' : Nat → Nat} {M M' : zM} (h : stp lo' τ M τ' M') (hl : 190 ≤ lo) (hh : hi ≤ zsz M) : agB (nW lo hi τ) M M' := fun x k z _ => by
  have := h.1.2 x k (Nat.lt_of_lt_of_le z.2.1 hh) (by unfold pU; have := z.1; have := z.2.2; omega)
  exact ⟨this.1, this.2.2⟩
theorem stp.sub {lo lo1 lo' hi : Nat} {τ τ' : Nat → Nat} {M M' : zM} (h : stp lo' τ M τ' M') (hl : lo ≤ lo1) (hh : hi ≤ zsz M) : ∀ x, nS lo1 hi τ x → nS lo (zsz M') τ' x := fun x z => ⟨by have := z.1; omega, by have := z.2.1; have := h.1.1.1; omega, by rw [h.2 x (by have := z.2.1; omega)]; exact z.2.2⟩
theorem stp.subB {lo lo1 lo' hi : Nat} {τ τ' : Nat → Nat} {M M' : zM} (h : stp lo' τ M τ' M') (hl : lo ≤ lo1) (hh : hi ≤ zsz M) : ∀ x, nW lo1 hi τ x → nW lo (zsz M') τ' x := fun x z => ⟨by have := z.1; omega, by have := z.2.1; have := h.1.1.1; omega, by rw [h.2 x (by have := z.2.1; omega)]; exact z.2.2⟩
/-! what was made is done, when the method ends -/
def fin (lo : Nat) (τ : Nat → Nat) (x : Nat) : Nat := if lo ≤ x ∧ τ x = 1 then 0 else τ x
theorem fin_nS {lo hi : Nat} {τ : Nat → Nat} (x : Nat) (h : nS lo hi τ x) : nS lo hi (fin lo τ) x := ⟨h.1, h.2.1, by unfold fin; rw [if_neg (by have := h.2.2; omega)]; exact h.2.2⟩
theorem fin_nB {lo hi : Nat} {τ : Nat → Nat} (x : Nat) (h : nW lo hi τ x) : nW lo hi (fin lo τ) x := ⟨h.1, h.2.1, by unfold fin; rw [if_neg (by have := h.2.2; omega)]; exact h.2.2⟩
theorem fin_1 {lo hi : Nat} {τ : Nat → Nat} {x : Nat} (h1 : lo ≤ x) (h2 : x < hi) (h3 : τ x = 1) : nS lo hi (fin lo τ) x := ⟨h1, h2, if_pos ⟨h1, h3⟩⟩
theorem fin_k {lo : Nat} {τ : Nat → Nat} {x : Nat} (h : τ x ≠ 1) : fin lo τ x = τ x := if_neg fun z => h z.2
theorem fin_lt {lo : Nat} {τ : Nat → Nat} {x : Nat} (h : x < lo) : fin lo τ x = τ x := if_neg fun z => by omega
section
variable {τ τ' : Nat → Nat} {pp a lf n o : Nat} {c : Nat → Int32} {fs : List Nat} {s s' : pS} {C : pC} {M M' : zM}
theorem xPs.tz (h : xPs M τ pp a lf n c fs s C o) : xTz M a n c s := h.1.1
theorem xPs.pt (h : xPs M τ pp a lf n c fs s C o) : gr M pp 1 = some (a, 9, 0) := h.2.1.2.2.1
theorem xPs.z190 (h : xPs M τ pp a lf n c fs s C o) : 190 ≤ zsz M := h.1.1.2.2.2.2.2.2.2
theorem xPs.fl (h : xPs M τ pp a lf n c fs s C o) : s.2.2.length ≤ s.1 + 1 := h.2.1.2.2.2.2.1
theorem xPs.vl (h : xPs M τ pp a lf n c fs s C o) : ∀ q ∈ s.2.2, q.1.length ≤ s.1 := h.2.1.2.2.2.2.2.1
theorem xPs.w2 (h : xPs M τ pp a lf n c fs s C o) : ∀ x, 190 ≤ x → x < zsz M → τ x = 2 → gr M x 3 = none := h.2.1.2.2.2.2.2.2
theorem xPs.pz (h : xPs M τ pp a lf n c fs s C o) : 190 ≤ pp ∧ pp < zsz M ∧ τ pp = 7 := h.2.1.1
theorem xPs.az (h : xPs M τ pp a lf n c fs s C o) : 190 ≤ a ∧ a < zsz M ∧ τ a = 6 := by
  obtain ⟨⟨lp, hk, -⟩, -⟩ := h.1.1
  exact ⟨hk.1.2.2.1.1, hk.1.2.2.1.2.1, h.1.2.1⟩
theorem xTz.t_le (h : xTz M a n c s) : s.1 ≤ 1281 := by
  obtain ⟨-, -, -, -, hj, -, ⟨hn, hc, -⟩, -⟩ := h
  have key : ∀ t, t ≤ s.1 → t ≤ (tkn n c t).2.2.1 := by
    intro t
    induction t with
    | zero => intro _; exact Nat.zero_le _
    | succ t ih =>
      intro ht
      have ok := tkn_ok hc t (fun j z => hj j (by omega))
      have ok2 := ok.2.2 (hj t (by omega))
      have s2 := tkS_ok hc (l := (tkn n c t).2.2.2.2) ok2.2
      have := ih (by omega)
      show t + 1 ≤ (tkS n c (tkn n c t).2.2.2.1 (tkn n c t).2.2.2.2).2.2.1
      omega
  have ok := tkn_ok hc s.1 hj
  have := key s.1 (Nat.le_refl _)
  omega
theorem pre_get {α : Type} {l l' : List α} (h : l <+: l') {k : Nat} {x : α} (e : l[k]? = some x) : l'[k]? = some x := by
  obtain ⟨t, rfl⟩ := h
  rw [List.getElem?_append_left (List.getElem?_eq_some_iff.mp e).1]; exact e
theorem sum_map_eq {α : Type} {f g : α → Nat} : ∀ (l : List α), (∀ x ∈ l, f x = g x) → (l.map f).sum = (l.map g).sum
  | [], _ => rfl
  | x :: l, h => by
    rw [List.map_cons, List.map_cons, List.sum_cons, List.sum_cons, h x List.mem_cons_self, sum_map_eq l fun y hy => h y (List.mem_cons_of_mem _ hy)]
/-- what does not touch the parser's own cells -/
def pK (τ : Nat → Nat) (P : Nat → Nat → Prop) : Prop := ∀ x k, 190 ≤ x → 3 ≤ τ x → ¬ P x k
theorem xFc.fg {P : Nat → Nat → Prop} {fs' : List Nat} {k f : Nat} {q : gF} (h : xFc M τ fs k f q) (g : fg P M M') (hP : pK τ P) (ha : ∀ x, x < zsz M → 3 ≤ τ x → τ' x = τ x) (hf : fs <+: fs') : xFc M' τ' fs' k f q := by
  obtain ⟨⟨h1, h2, h3, h4⟩, b, mb, h5, h6, h7⟩ := h
  have hz := h5.2.2.2.2.1
  have hb := h5.2.2.2.1
  refine ⟨⟨(ha f hz.2 (by omega)).trans h1, (g.gi hz.2 (hP f 0 hz.1 (by omega))).trans h2, fun e => (g.gr hz.2 (hP f 1 hz.1 (by omega))).trans (h3 e), fun e => ?_⟩, b, mb, xVs_fg h5 g (hP f 4 hz.1 (by omega)) (hP f 5 hz.1 (by omega)) (fun k => hP b k hb.1 (by omega)), (ha b hb.2.1 (by omega)).trans h6, h7⟩
  obtain ⟨g', e1, e2⟩ := h4 e
  exact ⟨g', pre_get hf e1, (g.gr hz.2 (hP f 1 hz.1 (by omega))).trans e2⟩
theorem vS_fg {P : Nat → Nat → Prop} {f : Nat} (hf : 190 ≤ f ∧ f < zsz M ∧ 3 ≤ τ f) (g : fg P M M') (hP : pK τ P) : vS M' f = vS M f := by
  unfold vS vC
  rw [g.gi hf.2.1 (hP f 5 hf.1 hf.2.2), g.gr hf.2.1 (hP f 4 hf.1 hf.2.2)]
theorem xPs.fcz (h : xPs M τ pp a lf n c fs s C o) : ∀ f ∈ fs, 190 ≤ f ∧ f < zsz M ∧ τ f = 3 := fun f hf => by
  obtain ⟨k, hk⟩ := List.mem_iff_getElem?.mp hf
  have hl := (List.getElem?_eq_some_iff.mp hk).1
  obtain ⟨-, -, -, -, h5, h6⟩ := h
  obtain ⟨h7, b, mb, h8, -⟩ := h6 k f _ hk (List.getElem?_eq_getElem (by omega))
  exact ⟨h8.2.2.2.2.1.1, h8.2.2.2.2.1.2, h7.1⟩
/-- room: where the parser's own cells stay -/
theorem pu_fg {P : Nat → Nat → Prop} (h : xPs M τ pp a lf n c fs s C o) (g : fg P M M') (hP : pK τ P) : pu M' lf fs + zsu M = pu M lf fs + zsu M' := by
  obtain ⟨h1, h2, h3, ⟨⟨h4, h5, h6⟩, h7⟩, h8⟩ := id h
  have e1 : lS M' lf = lS M lf := by
    unfold lS
    rw [(lA_fg h7.1.2 g (hP lf 1 h4 (by omega))).2, g.gi h7.1.2 (hP lf 2 h4 (by omega))]
  have e2 : (fs.map (vS M')).sum = (fs.map (vS M)).sum := sum_map_eq fs fun f hf => by
    have := h.fcz f hf
    exact vS_fg (τ := τ) ⟨this.1, this.2.1, by omega⟩ g hP
  unfold pu
  rw [e1, e2]
  omega
/-- the state, where what changes is the parser's only at pp and a -/
theorem xPs.mv {P : Nat → Nat → Prop} {C' : pC} {o' : Nat} (h : xPs M τ pp a lf n c fs s C o) (g : fg P M M') (hP : ∀ x k, 190 ≤ x → 3 ≤ τ x → ¬ (x = pp ∧ 3 ≤ k) → ¬ (x = a ∧ k ≠ 0) → ¬ P x k) (ha : ∀ x, x < zsz M → 3 ≤ τ x → τ' x = τ x) (ht : xTz M' a n c s') (h0 : ∀ x, zsz M' ≤ x → τ' x = 0) (hs : s'.2.2 = s.2.2 ∧ s.1 ≤ s'.1) (hW : ∀ x, 190 ≤ x → x < zsz M' → τ' x = 2 → gr M' x 3 = none)
    (hp : (∃ f, fs[C'.1]? = some f ∧ gr M' pp 3 = some (f, 10, 0)) ∧ (gi M' pp 4 = nI o' ∧ o' ≤ 20) ∧ gi M' pp 5 = nI C'.2.1 ∧ gi M' pp 6 = nI C'.2.2 ∧ C'.2.1 + C'.2.2 ≤ o') : xPs M' τ' pp a lf n c fs s' C' o' := by
  obtain ⟨⟨h1, h1a, h1z⟩, ⟨h2, h2a, h2b, h2c⟩, h3, ⟨⟨h4, h5, h6⟩, h7⟩, h8, h9⟩ := h
  have zz := g.1.1
  have az := (h1.1 : _)
  have ne : ∀ x, τ x ≠ 7 → τ x ≠ 6 → x ≠ pp ∧ x ≠ a := fun x z1 z2 => ⟨fun e => z1 (by rw [e]; exact h2.2.2), fun e => z2 (by rw [e]; exact h1a)⟩
  have hP' : ∀ x k, 190 ≤ x → 3 ≤ τ x → τ x ≠ 7 → τ x ≠ 6 → ¬ P x k := fun x k z1 z2 z3 z4 => hP x k z1 z2 (fun e => (ne x z3 z4).1 e.1) (fun e => (ne x z3 z4).2 e.1)
  have lfz := h7.1.2
  have pq : ∀ k, k < 3 → ¬ P pp k := fun k hk => hP pp k h2.1 (by omega) (by omega) (fun e => by rw [e.1] at h2; omega)
  have la := lA_fg lfz g (hP' lf 1 h4 (by omega) (by omega) (by omega))
  obtain ⟨⟨lp, hk, -⟩, -⟩ := id h1
  refine ⟨⟨ht, (ha a hk.1.2.2.1.2.1 (by omega)).trans h1a, h0⟩, ⟨⟨h2.1, by omega, (ha pp h2.2.1 (by omega)).trans h2.2.2⟩, (g.gr h2.2.1 (pq 0 (by decide))).trans h2a, (g.gr h2.2.1 (pq 1 (by decide))).trans h2b, (g.gr h2.2.1 (pq 2 (by decide))).trans h2c.1, by rw [hs.1]; have := h2c.2.1; have := hs.2; omega, (fun q hq => Nat.le_trans (h2c.2.2.1 q (by rw [hs.1] at hq; exact hq)) hs.2), hW⟩, hp, ⟨⟨h4, (ha lf lfz (by omega)).trans h5, fun z => ?_⟩, ?_⟩, by rw [hs.1]; exact h8, fun k f q hk hq => ?_⟩
  · rw [la.1] at z ⊢
    have := h6 z
    refine ⟨this.1, (ha _ ?_ (by omega)).trans this.2⟩
    rcases h7.2.2.2.2 with ⟨e, -⟩ | ⟨b, m, e, e2, -⟩
    · unfold lA at z; rw [e] at z; exact absurd z (by decide)
    · unfold lA; rw [e]; exact e2.2.1
  · refine xLs_fg h7 g (fun k => hP' lf k h4 (by omega) (by omega) (by omega)) (fun k => ?_)
    by_cases z : lA M lf < 16
    · exact .inl z
    · have := h6 (by omega)
      exact .inr (hP' _ k this.1 (by omega) (by omega) (by omega))
  · rw [hs.1] at hq
    obtain ⟨⟨k1, k2, k3, k4⟩, b, mb, k5, k6, k7⟩ := h9 k f q hk hq
    have hz := k5.2.2.2.2.1
    have hb := k5.2.2.2.1
    have fP : ∀ k, ¬ P f k := fun k => hP' f k hz.1 (by omega) (by omega) (by omega)
    refine ⟨⟨(ha f hz.2 (by omega)).trans k1, (g.gi hz.2 (fP 0)).trans k2, fun e => (g.gr hz.2 (fP 1)).trans (k3 e), fun e => ?_⟩, b, mb, xVs_fg k5 g (fP 4) (fP 5) (fun k => hP' b k hb.1 (by omega) (by omega) (by omega)), (ha b hb.2.1 (by omega)).trans k6, k7⟩
    obtain ⟨g', e1, e2⟩ := k4 e
    exact ⟨g', e1, (g.gr hz.2 (fP 1)).trans e2⟩
theorem xTz_fg {P : Nat → Nat → Prop} (h : xTz M a n c s) (g : fg P M M') (hP : ∀ x k, x < 190 ∨ x = a → ¬ P x k) : xTz M' a n c s := by
  obtain ⟨⟨lp, ⟨⟨k1, k2, k3, k4, k5⟩, k6, k7, k8, k9, k10, k11, k12⟩, hlp⟩, hS, ⟨hT, hp⟩, h6, hj, hb, hn, hz⟩ := h
  have gA : ∀ k, gi M' a k = gi M a k := fun k => g.gi k3.2.1 (hP a k (.inr rfl))
  have zz := g.1.1
  refine ⟨⟨lp, ⟨⟨cw_fg k1 g (by omega) (fun q hq => hP q.1 q.2.1 (.inl (by rcases cwl_16 q hq with e | e <;> omega))), xsrc_fg k2 g (by omega) (hP 16 5 (.inl (by decide))) (fun k => hP 21 k (.inl (by decide))), ⟨k3.1, by omega, (g.gr k3.2.1 (hP a 0 (.inr rfl))).trans k3.2.2⟩, (gA 1).trans k4, (gA 2).trans k5⟩, (gA 3).trans k6, (gA 4).trans k7, (gA 5).trans k8, fun z => (gA 6).trans (k9 z), fun z => (gA 6).trans (k10 z), fun z => (gA 7).trans (k11 z), fun z => ⟨(gA 6).trans (k12 z).1, (k12 z).2⟩⟩, hlp⟩, xS_fg hS g (by omega) (hP 17 2 (.inl (by decide))) (fun k => hP 18 k (.inl (by decide))) (fun k => hP 19 k (.inl (by decide))), ⟨xTb_fg hT g (by omega) (fun x k _ z => hP x k (.inl (by omega))), (g.gr (by omega) (hP 17 1 (.inl (by decide)))).trans hp.1, (g.gr (by omega) (hP 17 0 (.inl (by decide)))).trans hp.2⟩, h6, hj, hb, hn, by omega⟩
end
