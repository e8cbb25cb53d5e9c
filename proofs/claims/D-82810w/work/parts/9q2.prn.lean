/-! THE COMPONENT's PARSER: a method that runs -/
/-- what goes on, or ends -/
def mvr (τ : Nat → Nat) (M : zM) (τ' : Nat → Nat) (M' : zM) : Prop := fg (fun x k => pU τ x k ∨ 190 ≤ x ∧ τ x = 1) M M' ∧ ∀ x, x < zsz M → τ x ≠ 1 → τ' x = τ x
theorem stp.mvr {lo : Nat} {τ τ' : Nat → Nat} {M M' : zM} (h : stp lo τ M τ' M') (hl : 190 ≤ lo) : mvr τ M τ' M' := ⟨h.1.mono fun x k _ z => z.imp id fun y => ⟨by omega, y.2⟩, fun x hx _ => h.2 x hx⟩
theorem fin_mvr {lo : Nat} {τ : Nat → Nat} {M : zM} : mvr τ M (fin lo τ) M := ⟨fg.rf, fun _ _ z => fin_k z⟩
theorem mvr.sub {lo lo1 hi : Nat} {τ τ' : Nat → Nat} {M M' : zM} (h : mvr τ M τ' M') (hl : lo ≤ lo1) (hh : hi ≤ zsz M) (x : Nat) (z : nS lo1 hi τ x) : nS lo (zsz M') τ' x := ⟨by have := z.1; omega, by have := z.2.1; have := h.1.1.1; omega, by rw [h.2 x (by have := z.2.1; omega) (by have := z.2.2; omega)]; exact z.2.2⟩
theorem mvr.subS {lo hi : Nat} {τ τ' : Nat → Nat} {M M' : zM} (h : mvr τ M τ' M') (hh : hi ≤ zsz M) (x : Nat) (z : nS lo hi τ x) : nS lo hi τ' x := ⟨z.1, z.2.1, by rw [h.2 x (by have := z.2.1; omega) (by have := z.2.2; omega)]; exact z.2.2⟩
theorem mvr.subW {lo hi : Nat} {τ τ' : Nat → Nat} {M M' : zM} (h : mvr τ M τ' M') (hh : hi ≤ zsz M) (x : Nat) (z : nW lo hi τ x) : nW lo hi τ' x := ⟨z.1, z.2.1, by rw [h.2 x (by have := z.2.1; omega) (by have := z.2.2; omega)]; exact z.2.2⟩
theorem mvr.agS {lo hi : Nat} {τ τ' : Nat → Nat} {M M' : zM} (h : mvr τ M τ' M') (hl : 190 ≤ lo) (hh : hi ≤ zsz M) : agS (nS lo hi τ) M M' := fun x k z => by
  have := h.1.2 x k (Nat.lt_of_lt_of_le z.2.1 hh) (by unfold pU; have := z.1; have := z.2.2; omega)
  exact ⟨this.1, this.2.2⟩
theorem mvr.agB {lo hi : Nat} {τ τ' : Nat → Nat} {M M' : zM} (h : mvr τ M τ' M') (hl : 190 ≤ lo) (hh : hi ≤ zsz M) : agB (nW lo hi τ) M M' := fun x k z _ => by
  have := h.1.2 x k (Nat.lt_of_lt_of_le z.2.1 hh) (by unfold pU; have := z.1; have := z.2.2; omega)
  exact ⟨this.1, this.2.2⟩
/-- a Code's fields but for its variables -/
theorem mvr.cd {τ τ' : Nat → Nat} {M M' : zM} {f k : Nat} (h : mvr τ M τ' M') (hf : 190 ≤ f ∧ f < zsz M ∧ τ f = 3) (h4 : k ≠ 4) (h5 : k ≠ 5) : gi M' f k = gi M f k ∧ gr M' f k = gr M f k := by
  have := h.1.2 f k hf.2.1 (by unfold pU; omega)
  exact ⟨this.1, this.2.2⟩
theorem mvr.c3 {τ τ' : Nat → Nat} {M M' : zM} {f : Nat} (h : mvr τ M τ' M') (hf : 190 ≤ f ∧ f < zsz M ∧ τ f = 3) : 190 ≤ f ∧ f < zsz M' ∧ τ' f = 3 := ⟨hf.1, by have := h.1.1.1; omega, by rw [h.2 f hf.2.1 (by omega)]; exact hf.2.2⟩
/-! functions that are done -/
def ownI (v : Int32) : Option Nat → Prop
  | none => v = -1
  | some x => v = nI x ∧ x < 100000
/-- statements' nodes, whatever is made further -/
def ndl (S B : Nat → Prop) (M : zM) (c : Nat × Nat) (C : Nat → Prop) (D l : Nat) (gs : gBs) : Prop := ∀ (S' B' : Nat → Prop) (M' : zM), (∀ a, S a → S' a) → (∀ a, B a → B' a) → (∀ a, S' a → 190 ≤ a) → agS S M M' → agB B M M' → xNl S' B' M' c C D l gs
def fdn (M : zM) (τ : Nat → Nat) (f : Nat) (q : Nat × Option Nat × Nat × List (Nat × Nat) × gSt) : Prop :=
  (190 ≤ f ∧ f < zsz M ∧ τ f = 3) ∧ gi M f 6 = nI q.1 ∧ ownI (gi M f 8) q.2.1 ∧ ∃ lo hi, (190 ≤ lo ∧ hi ≤ zsz M) ∧
  (∃ ld es, gr M f 3 = some (ld, 11, 0) ∧ xLr (nS lo hi τ) M ld es ∧ es.length = q.2.2.2.1.length ∧ ∀ (k : Nat) (r : Nat × Nat), q.2.2.2.1[k]? = some r → ∃ g, es.getD k none = some (g, 10, 0) ∧ (190 ≤ g ∧ g < zsz M ∧ τ g = 3) ∧ gi M g 0 = nI r.1 ∧ gi M g 7 = nI r.2 ∧ r.1 < 32768 ∧ r.2 < 100000) ∧
  ∃ lp gs D, gr M f 2 = some (lp, 11, 0) ∧ ndl (nS lo hi τ) (nW lo hi τ) M (0, 0) (fun b => lo ≤ b ∧ b < hi) D lp gs ∧ q.2.2.2.2 = gBl gs ∧ D ≤ 1640 ∧ sN gs + 2 * sO gs ≤ 3300000 ∧ sK gs + 2 * sH gs ≤ 4000
theorem xLr_mono {S S' : Nat → Prop} {M : zM} {l : Nat} {es : List (Option zP)} (h : xLr S M l es) (hs : ∀ a, S a → S' a) : xLr S' M l es := ⟨hs _ h.1, h.2.1, h.2.2.1, h.2.2.2.imp id fun ⟨b, m, e1, e2, e3⟩ => ⟨b, m, e1, hs _ e2, e3⟩⟩
theorem ndl.mv {S B S2 B2 : Nat → Prop} {M M2 : zM} {c : Nat × Nat} {C : Nat → Prop} {D l : Nat} {gs : gBs} (h : ndl S B M c C D l gs) (hs : ∀ a, S a → S2 a) (hb : ∀ a, B a → B2 a) (ha : agS S M M2) (hB : agB B M M2) : ndl S2 B2 M2 c C D l gs := fun S' B' M' h1 h2 h3 h4 h5 => h S' B' M' (fun a z => h1 a (hs a z)) (fun a z => h2 a (hb a z)) h3 (ha.tr (h4.mono hs)) (fun a k z hk => ⟨((h5 a k (hb a z) hk).1).trans (hB a k z hk).1, ((h5 a k (hb a z) hk).2).trans (hB a k z hk).2⟩)
theorem fdn.mv {M M' : zM} {τ τ' : Nat → Nat} {f : Nat} {q : Nat × Option Nat × Nat × List (Nat × Nat) × gSt} (h : fdn M τ f q) (m : mvr τ M τ' M') : fdn M' τ' f q := by
  obtain ⟨h1, h2, h3, lo, hi, h4, ⟨ld, es, h5, h6, h7, h8⟩, lp, gs, D, h9, h10, h11⟩ := h
  have cd := fun k h4 h5 => m.cd (k := k) h1 h4 h5
  refine ⟨m.c3 h1, (cd 6 (by decide) (by decide)).1.trans h2, by rw [(cd 8 (by decide) (by decide)).1]; exact h3, lo, hi, ⟨h4.1, Nat.le_trans h4.2 m.1.1.1⟩, ⟨ld, es, (cd 3 (by decide) (by decide)).2.trans h5, xLr_mono (xLr_ag h6 (m.agS h4.1 h4.2)) (m.subS h4.2), h7, fun k r hr => ?_⟩, lp, gs, D, (cd 2 (by decide) (by decide)).2.trans h9, h10.mv (m.subS h4.2) (m.subW h4.2) (m.agS h4.1 h4.2) (m.agB h4.1 h4.2), h11⟩
  obtain ⟨g, k1, k2, k3, k4, k5⟩ := h8 k r hr
  exact ⟨g, k1, m.c3 k2, (m.cd k2 (by decide) (by decide)).1.trans k3, (m.cd k2 (by decide) (by decide)).1.trans k4, k5⟩
/-- the functions from N on are done -/
def ndn (M : zM) (τ : Nat → Nat) (fs : List Nat) (N : Nat) (F : List gF) : Prop := ∀ (k f : Nat) (q : gF), N ≤ k → fs[k]? = some f → F[k]? = some q → fdn M τ f q.2
theorem ndn.mv {M M' : zM} {τ τ' : Nat → Nat} {fs : List Nat} {N : Nat} {F : List gF} (h : ndn M τ fs N F) (m : mvr τ M τ' M') : ndn M' τ' fs N F := fun k f q h1 h2 h3 => (h k f q h1 h2 h3).mv m
/-- the end of a method: cz cells and cu slots are left of what its tokens pay -/
def pEnd (pp a lf n : Nat) (c : Nat → Int32) (cz cu : Nat) (M : zM) (τ : Nat → Nat) (fs : List Nat) (s : pS) (C : pC) (o : Nat) (M' : zM) (τ' : Nat → Nat) (fs' : List Nat) (s' : pS) : Prop :=
  xPs M' τ' pp a lf n c fs' s' C o ∧ fg (pU τ) M M' ∧ (∀ x, x < zsz M → τ' x = τ x) ∧ fs <+: fs' ∧ ndn M' τ' fs' s.2.2.length s'.2.2 ∧ zsz M' + cz ≤ zsz M + 20 * (s'.1 - s.1) ∧ pu M' lf fs' + cu ≤ pu M lf fs + 400 * (s'.1 - s.1)
def pEr (lf cz cu : Nat) (τ : Nat → Nat) (fs : List Nat) (M : zM) (s : pS) (w : Nat × Nat) (o : zO) (M' : zM) : Prop := fO (pU τ) M (w.1 + 8 * w.2) o M' ∧ zsz M' + cz ≤ zsz M + 20 * (1300 - s.1) ∧ zsu M' + cu ≤ pu M lf fs + 400 * (1300 - s.1)
/-- a method that began at M0 is at M -/
def rn (pp a lf n : Nat) (c : Nat → Int32) (M0 : zM) (τ0 : Nat → Nat) (fs0 : List Nat) (s0 : pS) (c0 : Nat) (C : pC) (o : Nat) (M : zM) (τ : Nat → Nat) (fs : List Nat) (s : pS) (Zb Ub : Nat) : Prop :=
  xPs M τ pp a lf n c fs s C o ∧ (190 ≤ zsz M0 ∧ stp (zsz M0) τ0 M0 τ M) ∧ fs0 <+: fs ∧ adv c0 s0 s ∧ ndn M τ fs s0.2.2.length s.2.2 ∧ zsz M ≤ Zb ∧ pu M lf fs ≤ Ub
section
variable {pp a lf n : Nat} {c : Nat → Int32} {M0 M M' : zM} {τ0 τ τ' : Nat → Nat} {fs0 fs fs' : List Nat} {s0 s s' : pS} {c0 : Nat} {C C' : pC} {o o' Zb Ub cz cu cz' cu' : Nat}
theorem rn.ps (h : rn pp a lf n c M0 τ0 fs0 s0 c0 C o M τ fs s Zb Ub) : xPs M τ pp a lf n c fs s C o := h.1
theorem rn.st (h : rn pp a lf n c M0 τ0 fs0 s0 c0 C o M τ fs s Zb Ub) : stp (zsz M0) τ0 M0 τ M := h.2.1.2
theorem rn.av (h : rn pp a lf n c M0 τ0 fs0 s0 c0 C o M τ fs s Zb Ub) : adv c0 s0 s := h.2.2.2.1
theorem rn_st (h : xPs M τ pp a lf n c fs s C o) (c0 : Nat) : rn pp a lf n c M τ fs s c0 C o M τ fs s (zsz M) (pu M lf fs) :=
  ⟨h, ⟨h.z190, stp.rf⟩, List.prefix_refl _, adv.rf, (fun k f q h1 h2 h3 => by rw [List.getElem?_eq_none h1] at h3; cases h3), Nat.le_refl _, Nat.le_refl _⟩
theorem tkP_pU {x k : Nat} (ha : 190 ≤ a ∧ τ a = 6) (h : tkP a x k) : pU τ x k := by
  unfold tkP at h
  unfold pU
  rcases h with h | h
  · rw [h.1]; omega
  · exact .inl h
theorem ndn.up (h : ndn M τ fs s0.2.2.length s.2.2) (h' : ndn M' τ' fs' s.2.2.length s'.2.2) (m : mvr τ M τ' M') (hf : fs <+: fs') (ha : adv c0 s s') (hl : fs.length = s.2.2.length) : ndn M' τ' fs' s0.2.2.length s'.2.2 := fun k f q h1 h2 h3 => by
  by_cases z : s.2.2.length ≤ k
  · exact h' k f q z h2 h3
  · have e : s.2.2[k]? = some (s.2.2[k]'(by omega)) := List.getElem?_eq_getElem (by omega)
    obtain ⟨q', e1, e2, -⟩ := ha.2.2.2.2.1 k _ (by omega) e
    rw [e1] at h3
    cases h3
    have e3 : fs[k]? = some (fs[k]'(by omega)) := List.getElem?_eq_getElem (by omega)
    have := pre_get hf e3
    rw [this] at h2
    cases h2
    rw [e2]
    exact (h k _ _ h1 e3 e).mv m
/-- a token -/
theorem rn.tk (h : rn pp a lf n c M0 τ0 fs0 s0 c0 C o M τ fs s Zb Ub) (f : fr (tkP a) M M') (ht : xTz M' a n c s') (hs : s'.2.2 = s.2.2) (ha : adv c0 s s') : rn pp a lf n c M0 τ0 fs0 s0 c0 C o M' τ fs s' Zb Ub := by
  obtain ⟨h1, ⟨h2a, h2⟩, h3, h4, h5, h6, h7⟩ := h
  have az := h1.az
  have hp := h1.pz
  have ne : pp ≠ a := fun e => by rw [e] at hp; omega
  have fp : ∀ k, ¬ tkP a pp k := fun k => by unfold tkP; omega
  have g : fg (pU τ) M M' := f.fg.mono fun x k _ z => tkP_pU ⟨az.1, az.2.2⟩ z
  have st : stp (zsz M0) τ M τ M' := g.stp fun _ _ => rfl
  have x1 : xPs M' τ pp a lf n c fs s' C o := h1.mv f.fg (fun x k z1 z2 z3 z4 z5 => by unfold tkP at z5; omega) (fun _ _ _ => rfl) ht (fun x hx => h1.1.2.2 x (by have := f.1.1; omega)) ⟨hs, ha.1⟩ (fun x y1 y2 y3 => (f.2 x 3 (fun z5 => by
      have nea : x ≠ a := fun e => by rw [e] at y3; omega
      unfold tkP at z5
      omega)).2.2.trans (h1.w2 x y1 (by have := f.1.1; omega) y3)) (by
    obtain ⟨⟨g1, g2, g3⟩, ⟨g4, g4'⟩, g5, g6, g7⟩ := h1.2.2.1
    exact ⟨⟨g1, g2, (f.2 pp 3 (fp 3)).2.2.trans g3⟩, ⟨(f.2 pp 4 (fp 4)).1.trans g4, g4'⟩, (f.2 pp 5 (fp 5)).1.trans g5, (f.2 pp 6 (fp 6)).1.trans g6, g7⟩)
  have e0 : pu M' lf fs + zsu M = pu M lf fs + zsu M' := by
    obtain ⟨k1, k2, k3, ⟨⟨k4, k5, k6⟩, k7⟩, k8⟩ := id h1
    have q : ∀ x k, τ x ≠ 6 → 190 ≤ x → ¬ tkP a x k := fun x k z1 z2 z => by
      unfold tkP at z
      have : x ≠ a := fun e => z1 (by rw [e]; exact az.2.2)
      omega
    have e1 : lS M' lf = lS M lf := by
      unfold lS
      rw [(lA_fg k7.1.2 f.fg (q lf 1 (by omega) k4)).2, f.fg.gi k7.1.2 (q lf 2 (by omega) k4)]
    have e2 : (fs.map (vS M')).sum = (fs.map (vS M)).sum := sum_map_eq fs fun f' hf => by
      have := h1.fcz f' hf
      unfold vS vC
      rw [f.fg.gi this.2.1 (q f' 5 (by omega) this.1), f.fg.gr this.2.1 (q f' 4 (by omega) this.1)]
    unfold pu
    rw [e1, e2]
    omega
  have zz := f.1
  refine ⟨x1, ⟨h2a, h2.tr st⟩, h3, h4.tr ha, ?_, by omega, by omega⟩
  rw [hs]
  exact h5.mv (st.mvr h2a)
/-- cells that the method makes, and writes -/
theorem rn.lc {v w : Nat} (h : rn pp a lf n c M0 τ0 fs0 s0 c0 C o M τ fs s Zb Ub) (f : fg (fun x _ => zsz M0 ≤ x ∧ τ x = 1) M M') (hv : zsz M' ≤ zsz M + v) (hw : zsu M' ≤ zsu M + w) : ∃ τ', rn pp a lf n c M0 τ0 fs0 s0 c0 C o M' τ' fs s (Zb + v) (Ub + w) ∧ (∀ x, x < zsz M → τ' x = τ x) ∧ ∀ x, zsz M ≤ x → x < zsz M' → τ' x = 1 := by
  obtain ⟨h1, ⟨h2a, h2⟩, h3, h4, h5, h6, h7⟩ := h
  refine ⟨fun x => if zsz M ≤ x ∧ x < zsz M' then 1 else τ x, ?_, fun x hx => if_neg (by omega), fun x h1 h2 => if_pos ⟨h1, h2⟩⟩
  have ag : ∀ x, x < zsz M → (fun x => if zsz M ≤ x ∧ x < zsz M' then 1 else τ x) x = τ x := fun x hx => if_neg (by omega)
  have st : stp (zsz M0) τ M (fun x => if zsz M ≤ x ∧ x < zsz M' then 1 else τ x) M' := ⟨f.mono fun x k _ z => .inr z, ag⟩
  have az := h1.az
  have hp := h1.pz
  have e0 := pu_fg h1 f (fun x k z1 z2 z3 => by omega)
  have np : ¬ (zsz M0 ≤ pp ∧ τ pp = 1) := fun z => by omega
  have zz := f.1.1
  refine ⟨h1.mv f (fun x k z1 z2 _ _ z3 => by omega) (fun x hx _ => ag x hx) (xTz_fg h1.1.1 f (fun x k z1 z2 => by rcases z1 with z1 | z1; omega; rw [z1] at z2; omega)) (fun x hx => ?_) ⟨rfl, Nat.le_refl _⟩ (fun x y1 y2 y3 => ?_) ?_, ⟨h2a, h2.tr st⟩, h3, h4, h5.mv (st.mvr h2a), by omega, by omega⟩
  · show (if zsz M ≤ x ∧ x < zsz M' then 1 else τ x) = 0
    rw [if_neg (by omega)]
    exact h1.1.2.2 x (by omega)
  · have y3 : (if zsz M ≤ x ∧ x < zsz M' then 1 else τ x) = 2 := y3
    by_cases y4 : zsz M ≤ x ∧ x < zsz M'
    · rw [if_pos y4] at y3; omega
    · rw [if_neg y4] at y3
      exact (f.gr (by omega) (fun y5 => by omega)).trans (h1.w2 x y1 (by omega) y3)
  · obtain ⟨⟨g1, g2, g3⟩, ⟨g4, g4'⟩, g5, g6, g7⟩ := h1.2.2.1
    exact ⟨⟨g1, g2, (f.gr hp.2.1 np).trans g3⟩, ⟨(f.gi hp.2.1 np).trans g4, g4'⟩, (f.gi hp.2.1 np).trans g5, (f.gi hp.2.1 np).trans g6, g7⟩
/-- the parser's own fields -/
theorem rn.own (h : rn pp a lf n c M0 τ0 fs0 s0 c0 C o M τ fs s Zb Ub) (f : fr (fun x k => x = pp ∧ 3 ≤ k) M M') (hp : (∃ f, fs[C'.1]? = some f ∧ gr M' pp 3 = some (f, 10, 0)) ∧ (gi M' pp 4 = nI o' ∧ o' ≤ 20) ∧ gi M' pp 5 = nI C'.2.1 ∧ gi M' pp 6 = nI C'.2.2 ∧ C'.2.1 + C'.2.2 ≤ o') : rn pp a lf n c M0 τ0 fs0 s0 c0 C' o' M' τ fs s Zb Ub := by
  obtain ⟨h1, ⟨h2a, h2⟩, h3, h4, h5, h6, h7⟩ := h
  have az := h1.az
  have hz := h1.pz
  have st : stp (zsz M0) τ M τ M' := ⟨f.fg.mono fun x k _ z => .inl (.inr ⟨by omega, .inl (by rw [z.1]; omega)⟩), fun _ _ => rfl⟩
  have ne : ∀ x, τ x ≠ 7 → x ≠ pp := fun x z e => z (by rw [e]; exact hz.2.2)
  have e0 : pu M' lf fs + zsu M = pu M lf fs + zsu M' := by
    obtain ⟨k1, k2, k3, ⟨⟨k4, k5, k6⟩, k7⟩, k8⟩ := id h1
    have e1 : lS M' lf = lS M lf := by
      have := ne lf (by omega)
      unfold lS
      rw [(lA_fg k7.1.2 f.fg (by omega)).2, f.fg.gi k7.1.2 (by omega)]
    have e2 : (fs.map (vS M')).sum = (fs.map (vS M)).sum := sum_map_eq fs fun f' hf => by
      have := h1.fcz f' hf
      have := ne f' (by omega)
      unfold vS vC
      rw [f.fg.gi (h1.fcz f' hf).2.1 (by omega), f.fg.gr (h1.fcz f' hf).2.1 (by omega)]
    unfold pu
    rw [e1, e2]
    omega
  have zz := f.1
  have an := ne a (by omega)
  exact ⟨h1.mv f.fg (fun x k _ _ z1 _ => z1) (fun _ _ _ => rfl) (xTz_fg h1.1.1 f.fg (fun x k z1 => by omega)) (fun x hx => h1.1.2.2 x (by omega)) ⟨rfl, Nat.le_refl _⟩ (fun x y1 y2 y3 => (f.2 x 3 (fun y4 => by rw [y4.1] at y3; omega)).2.2.trans (h1.w2 x y1 (by omega) y3)) hp, ⟨h2a, h2.tr st⟩, h3, h4, h5.mv (st.mvr h2a), by omega, by omega⟩
/-- a method that was called has ended -/
theorem rn.cl (h : rn pp a lf n c M0 τ0 fs0 s0 c0 C o M τ fs s Zb Ub) (e : pEnd pp a lf n c cz cu M τ fs s C o M' τ' fs' s') (ha : adv c0 s s') : rn pp a lf n c M0 τ0 fs0 s0 c0 C o M' τ' fs' s' (Zb + 20 * (s'.1 - s.1) - cz) (Ub + 400 * (s'.1 - s.1) - cu) := by
  obtain ⟨h1, ⟨h2a, h2⟩, h3, h4, h5, h6, h7⟩ := h
  obtain ⟨e1, e2, e3, e4, e5, e6, e7⟩ := e
  have st : stp (zsz M0) τ M τ' M' := e2.stp e3
  exact ⟨e1, ⟨h2a, h2.tr st⟩, h3.trans e4, h4.tr ha, h5.up e5 (st.mvr h2a) e4 ha h1.2.2.2.2.1, by omega, by omega⟩
theorem pU_fin {lo : Nat} (h : xPs M τ pp a lf n c fs s C o) : xPs M (fin lo τ) pp a lf n c fs s C o := by
  have hz := h.pz
  refine h.mv fg.rf (P := fun _ _ => False) (fun _ _ _ _ _ _ z => z) (fun x _ z => fin_k (by omega)) h.1.1 (fun x hx => ?_) ⟨rfl, Nat.le_refl _⟩ (fun x y1 y2 y3 => h.w2 x y1 y2 (by
    have y3 : (if lo ≤ x ∧ τ x = 1 then 0 else τ x) = 2 := y3
    by_cases y4 : lo ≤ x ∧ τ x = 1
    · rw [if_pos y4] at y3; omega
    · rw [if_neg y4] at y3; exact y3)) h.2.2.1
  rw [fin_k (by rw [h.1.2.2 x hx]; decide)]
  exact h.1.2.2 x hx
/-- the method ends -/
theorem rn.nd (h : rn pp a lf n c M0 τ0 fs0 s0 c0 C o M τ fs s Zb Ub) (hz : Zb + cz ≤ zsz M0 + 20 * (s.1 - s0.1)) (hu : Ub + cu ≤ pu M0 lf fs0 + 400 * (s.1 - s0.1)) : pEnd pp a lf n c cz cu M0 τ0 fs0 s0 C o M (fin (zsz M0) τ) fs s := by
  obtain ⟨h1, ⟨h2a, h2⟩, h3, h4, h5, h6, h7⟩ := h
  exact ⟨pU_fin h1, h2.fg, fun x hx => (fin_lt hx).trans (h2.2 x hx), h3, h5.mv fin_mvr, by omega, by omega⟩
/-- a fault -/
theorem ft_er {w : Nat × Nat} {ou : zO} (h : xPs M τ pp a lf n c fs s C o) (f : ftO a M w ou M') : pEr lf 300 6000 τ fs M s w ou M' := by
  obtain ⟨⟨q, f1, f2, f3, f4⟩, f5, f6⟩ := f
  have az := h.az
  have := h.1.1.t_le
  refine ⟨⟨q, f1, f2, f3, f4.mono fun x k _ z => tkP_pU ⟨az.1, az.2.2⟩ z⟩, by omega, ?_⟩
  unfold pu
  omega
theorem rn.er {w : Nat × Nat} {ou : zO} (h : rn pp a lf n c M0 τ0 fs0 s0 c0 C o M τ fs s Zb Ub) (e : pEr lf cz' cu' τ fs M s w ou M') (hz : Zb + cz ≤ zsz M0 + 20 * (s.1 - s0.1) + cz') (hu : Ub + cu ≤ pu M0 lf fs0 + 400 * (s.1 - s0.1) + cu') : pEr lf cz cu τ0 fs0 M0 s0 w ou M' := by
  obtain ⟨⟨q, f1, f2, f3, f4⟩, f5, f6⟩ := e
  have st := h.2.1.2
  have t := h.1.1.1.t_le
  have l := h.2.2.2.1.1
  have b1 := h.2.2.2.2.2.1
  have b2 := h.2.2.2.2.2.2
  have zz := st.1.1.1
  have st2 : stp (zsz M0) τ M τ M' := f4.stp fun _ _ => rfl
  refine ⟨⟨q, f1, f2, ⟨by omega, f3.2⟩, (st.tr st2).fg⟩, by omega, by omega⟩
end
