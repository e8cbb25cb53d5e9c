/-! THE COMPONENT's PARSER: a method that runs, its room in numbers; what it calls -/
/-- only what a method of the parser may change -/
def kp (τ : Nat → Nat) (M : zM) (τ' : Nat → Nat) (M' : zM) : Prop := fg (pU τ) M M' ∧ ∀ x, x < zsz M → τ' x = τ x
/-- the functions of Dn are done -/
def ndX (M : zM) (τ : Nat → Nat) (fs : List Nat) (Dn : Nat → Prop) (F : List gF) : Prop := ∀ (k f : Nat) (q : gF), Dn k → fs[k]? = some f → F[k]? = some q → fdn M τ f q.2
theorem ndX.mv {M M' : zM} {τ τ' : Nat → Nat} {fs : List Nat} {Dn : Nat → Prop} {F : List gF} (h : ndX M τ fs Dn F) (m : mvr τ M τ' M') : ndX M' τ' fs Dn F := fun k f q h1 h2 h3 => (h k f q h1 h2 h3).mv m
def geN (N k : Nat) : Prop := N ≤ k
/-- a method that began at M0 is at M; the functions of Dn are done; what is left of the room: 20 cells and 400 slots a token, 100 and 2000 at the beginning -/
def rk (pp a lf n : Nat) (c : Nat → Int32) (M0 : zM) (τ0 : Nat → Nat) (fs0 : List Nat) (s0 : pS) (Dn : Nat → Prop) (C : pC) (o : Nat) (M : zM) (τ : Nat → Nat) (fs : List Nat) (s : pS) (cz cu : Nat) : Prop :=
  xPs M τ pp a lf n c fs s C o ∧ (190 ≤ zsz M0 ∧ stp (zsz M0) τ0 M0 τ M) ∧ fs0 <+: fs ∧ s0.1 ≤ s.1 ∧ ndX M τ fs Dn s.2.2 ∧ zsz M + cz ≤ zsz M0 + 20 * (s.1 - s0.1) + 100 ∧ pu M lf fs + cu ≤ pu M0 lf fs0 + 400 * (s.1 - s0.1) + 2000
/-- sizes of a statement from s to s', more or less than szT -/
def szG (n : Nat) (c : Nat → Int32) (e f p q : Nat) (s s' : pS) (D o m h k : Nat) : Prop := 4 * D + e ≤ 5 * (s'.1 - s.1) + f ∧ m + 2 * o ≤ 2500 * ((tkn n c s'.1).2.2.1 - (tkn n c s.1).2.2.1) + p ∧ k + 2 * h ≤ 3 * (s'.1 - s.1) + q ∧ o ≤ m ∧ h ≤ k
def sNg (Sz : Nat → Nat → Nat → Nat → Nat → Prop) (lo : Nat) (M : zM) (τ : Nat → Nat) (cc : Nat × Nat) (p : zP) (g : gSt) : Prop := (p.2.2 = 0 ∧ 20 ≤ p.2.1 ∧ p.2.1 ≤ 44) ∧ ∃ D o m h k, Sz D o m h k ∧ sNd (nS lo (zsz M) τ) (nW lo (zsz M) τ) M cc (fun b => lo ≤ b ∧ b < zsz M) D o m h k p g
/-- a statement's method, its sizes Sz, if H -/
def cSx (E : zE) (pp a lf n : Nat) (c : Nat → Int32) (Y : zY) (ar : List (Nat × zV)) (dm o : Nat) (H : pC → pS → Prop) (Sz : pS → pS → Nat → Nat → Nat → Nat → Nat → Prop) (f : pC → pS → pR gSt) : Prop :=
  ∀ (d : Nat) (Q : zO → zM → Prop) (M : zM) (τ : Nat → Nat) (fs : List Nat) (s : pS) (C : pC), dm ≤ d → H C s → xPs M τ pp a lf n c fs s C o →
    (∀ v s', f C s = .ok (v, s') → ∀ M' τ' fs' p, pEnd pp a lf n c 9 199 M τ fs s C o M' τ' fs' s' → sNg (Sz s s') (zsz M) M' τ' C.2 p v → Q (.inl (some (vr (some p)))) M') →
    (∀ w, f C s = .error w → ∀ ou M', pEr lf 9 199 τ fs M s w ou M' → Q ou M') → Z E Y d M ((0, vr (some (pp, 8, 0))) :: ar) 0 [] Q
/-- cVm, with less room left -/
def cVx (E : zE) (pp a lf n : Nat) (c : Nat → Int32) (ez eu : Nat) (Y : zY) (ar : List (Nat × zV)) (dm o D : Nat) (f : pC → pS → pR gV) : Prop :=
  ∀ (d : Nat) (Q : zO → zM → Prop) (M : zM) (τ : Nat → Nat) (fs : List Nat) (s : pS) (C : pC), dm ≤ d → xPs M τ pp a lf n c fs s C o →
    (∀ v s', f C s = .ok (v, s') → ∀ M' τ' fs' p, pEnd pp a lf n c ez eu M τ fs s C o M' τ' fs' s' → vNd (zsz M) M' τ' D p v → Q (.inl (some (vr (some p)))) M') →
    (∀ w, f C s = .error w → ∀ ou M', pEr lf ez eu τ fs M s w ou M' → Q ou M') → Z E Y d M ((0, vr (some (pp, 8, 0))) :: ar) 0 [] Q
section
variable {E : zE} {pp a lf n : Nat} {c : Nat → Int32} {dg : Int32 → List Int32} {K o d : Nat} {Q : zO → zM → Prop}
variable {M0 M M' M'' : zM} {τ0 τ τ' τ'' : Nat → Nat} {fs0 fs fs' : List Nat} {s0 s s' : pS} {c0 : Nat → Prop} {C C' : pC} {cz cu cz' cu' v w lo l : Nat} {es : List (Option zP)}
theorem kp.mvr (h : kp τ M τ' M') : mvr τ M τ' M' := ⟨h.1.mono fun _ _ _ z => .inl z, fun x hx _ => h.2 x hx⟩
theorem kp.rf : kp τ M τ M := ⟨fg.rf, fun _ _ => rfl⟩
theorem kp.tr (h : kp τ M τ' M') (h' : kp τ' M' τ'' M'') : kp τ M τ'' M'' := by
  have s1 : stp (zsz M) τ M τ' M' := h.1.stp h.2
  have s2 : stp (zsz M) τ' M' τ'' M'' := h'.1.stp h'.2
  exact ⟨(s1.tr s2).fg, (s1.tr s2).2⟩
theorem kp.z (h : kp τ M τ' M') : zsz M ≤ zsz M' := h.1.1.1
theorem kp.g (h : kp τ M τ' M') {x : Nat} (hx : 190 ≤ x ∧ x < zsz M ∧ τ x = 1) (k : Nat) : gi M' x k = gi M x k ∧ gr M' x k = gr M x k := by
  have := h.1.2 x k hx.2.1 (k1_P hx.1 hx.2.2)
  exact ⟨this.1, this.2.2⟩
theorem kp.wl (h : kp τ M τ' M') (hw : wL lo M τ l es) (hl : 190 ≤ lo) : wL lo M' τ' l es ∧ lA M' l = lA M l ∧ lC M' l = lC M l := hw.k hl h.1 (fun x k h1 h2 => k1_P h1 h2) h.2
theorem kp.ow (h : kp τ M τ' M') {x : Nat} (hx : lo ≤ x ∧ x < zsz M ∧ τ x = 1) : lo ≤ x ∧ x < zsz M' ∧ τ' x = 1 := ⟨hx.1, by have := h.z; omega, (h.2 x hx.2.1).trans hx.2.2⟩
theorem tk_kp (h : xPs M τ pp a lf n c fs s C o) (f : fr (tkP a) M M') : kp τ M τ M' := ⟨f.fg.mono fun x k _ z => tkP_pU ⟨h.az.1, h.az.2.2⟩ z, fun _ _ => rfl⟩
theorem pEnd.kp (e : pEnd pp a lf n c cz cu M τ fs s C o M' τ' fs' s') : kp τ M τ' M' := ⟨e.2.1, e.2.2.1⟩
theorem own_kp {P : Nat → Nat → Prop} (h : xPs M τ pp a lf n c fs s C o) (f : fr P M M') (hP : ∀ x k, P x k → x = pp) : kp τ M τ M' := by
  have hz := h.pz
  exact ⟨f.fg.mono fun x k _ z => .inr ⟨by rw [hP x k z]; exact hz.1, .inl (by rw [hP x k z]; omega)⟩, fun _ _ => rfl⟩
theorem rk_st (h : xPs M τ pp a lf n c fs s C o) (_ : Nat) : rk pp a lf n c M τ fs s (geN s.2.2.length) C o M τ fs s 100 2000 := ⟨h, ⟨h.z190, stp.rf⟩, List.prefix_refl _, Nat.le_refl _, (fun k f q h1 h2 h3 => by rw [List.getElem?_eq_none (show s.2.2.length ≤ k from h1)] at h3; cases h3), by omega, by omega⟩
theorem rk.ps (R : rk pp a lf n c M0 τ0 fs0 s0 c0 C o M τ fs s cz cu) : xPs M τ pp a lf n c fs s C o := R.1
theorem rk.z0 (R : rk pp a lf n c M0 τ0 fs0 s0 c0 C o M τ fs s cz cu) : 190 ≤ zsz M0 ∧ zsz M0 ≤ zsz M := ⟨R.2.1.1, R.2.1.2.1.1.1⟩
theorem rk.up (R : rk pp a lf n c M0 τ0 fs0 s0 c0 C o M τ fs s cz cu) (h1 : cz' ≤ cz) (h2 : cu' ≤ cu) : rk pp a lf n c M0 τ0 fs0 s0 c0 C o M τ fs s cz' cu' := by
  obtain ⟨r1, r2, r3, r4, r5, r6, r7⟩ := R
  exact ⟨r1, r2, r3, r4, r5, by omega, by omega⟩
theorem ndX.un {c1 : Nat} (h : ndX M τ fs c0 s.2.2) (h' : ndn M' τ' fs' s.2.2.length s'.2.2) (m : mvr τ M τ' M') (hf : fs <+: fs') (ha : adv c1 s s') (hl : fs.length = s.2.2.length) : ndX M' τ' fs' c0 s'.2.2 := fun k f q h1 h2 h3 => by
  by_cases z : s.2.2.length ≤ k
  · exact h' k f q z h2 h3
  · have e : s.2.2[k]? = some (s.2.2[k]'(by omega)) := List.getElem?_eq_getElem (by omega)
    obtain ⟨q', e1, e2, -⟩ := ha.2.2.2.2.1 k _ (by omega) e
    rw [e1] at h3
    cases h3
    have e3 : fs[k]? = some (fs[k]'(by omega)) := List.getElem?_eq_getElem (by omega)
    have := pre_get hf e3
    rw [this] at h2
    cases h2
    rw [e2]
    exact (h k _ _ h1 e3 e).mv m
/-- a step that is a method of its own -/
theorem rk.go {c1 o' Zb Ub : Nat} (R : rk pp a lf n c M0 τ0 fs0 s0 c0 C o M τ fs s cz cu) (h : rn pp a lf n c M τ fs s c1 C' o' M' τ' fs' s' Zb Ub) (h1 : Zb + cz' ≤ zsz M + cz + 20 * (s'.1 - s.1)) (h2 : Ub + cu' ≤ pu M lf fs + cu + 400 * (s'.1 - s.1)) : rk pp a lf n c M0 τ0 fs0 s0 c0 C' o' M' τ' fs' s' cz' cu' := by
  obtain ⟨r1, ⟨r2a, r2⟩, r3, r4, r5, r6, r7⟩ := R
  obtain ⟨k1, ⟨k2a, k2⟩, k3, k4, k5, k6, k7⟩ := h
  have st : stp (zsz M0) τ M τ' M' := k2.fg.stp k2.2
  have l := k4.1
  exact ⟨k1, ⟨r2a, r2.tr st⟩, r3.trans k3, Nat.le_trans r4 l, r5.un k5 (st.mvr r2a) k3 k4 r1.2.2.2.2.1, by omega, by omega⟩
theorem rk.tk (R : rk pp a lf n c M0 τ0 fs0 s0 c0 C o M τ fs s cz cu) (f : fr (tkP a) M M') (ht : xTz M' a n c s') (hs : s'.2.2 = s.2.2) (h1 : s'.1 = s.1 + 1) (ha : adv C.1 s s') : rk pp a lf n c M0 τ0 fs0 s0 c0 C o M' τ fs s' (cz + 20) (cu + 400) := R.go ((rn_st R.ps C.1).tk f ht hs ha) (by omega) (by omega)
theorem rk.cl {ez eu : Nat} (R : rk pp a lf n c M0 τ0 fs0 s0 c0 C o M τ fs s cz cu) (e : pEnd pp a lf n c ez eu M τ fs s C o M' τ' fs' s') (ha : adv C.1 s s') : rk pp a lf n c M0 τ0 fs0 s0 c0 C o M' τ' fs' s' (cz + ez) (cu + eu) := by
  have e1 := e.2.2.2.2.2.1
  have e2 := e.2.2.2.2.2.2
  have z := R.z0
  exact R.go ((rn_st R.ps C.1).cl e ha) (by omega) (by omega)
theorem rk.lc (R : rk pp a lf n c M0 τ0 fs0 s0 c0 C o M τ fs s cz cu) (f : fg (fun x _ => zsz M0 ≤ x ∧ τ x = 1) M M') (hv : zsz M' ≤ zsz M + v) (hw : zsu M' ≤ zsu M + w) (h1 : cz' + v ≤ cz) (h2 : cu' + w ≤ cu) : ∃ τ', rk pp a lf n c M0 τ0 fs0 s0 c0 C o M' τ' fs s cz' cu' ∧ (∀ x, x < zsz M → τ' x = τ x) ∧ (∀ x, zsz M ≤ x → x < zsz M' → τ' x = 1) ∧ mvr τ M τ' M' := by
  obtain ⟨r1, ⟨r2a, r2⟩, r3, r4, r5, r6, r7⟩ := R
  have av : adv C.1 ((s0.1, s.2) : pS) s := ⟨r4, ⟨List.prefix_refl _, by dsimp only; omega⟩, by dsimp only; omega, avF.rf⟩
  have R0 : rn pp a lf n c M0 τ0 fs0 (s0.1, s.2) C.1 C o M τ fs s (zsz M) (pu M lf fs) := ⟨r1, ⟨r2a, r2⟩, r3, av, (fun k f q h1 h2 h3 => by rw [List.getElem?_eq_none h1] at h3; cases h3), Nat.le_refl _, Nat.le_refl _⟩
  obtain ⟨τ', R', h5, h6, h7⟩ := R0.lc1 f hv hw
  obtain ⟨k1, k2, k3, k4, k5, k6, k7⟩ := R'
  exact ⟨τ', ⟨k1, k2, k3, r4, r5.mv h7, by omega, by omega⟩, h5, h6, h7⟩
theorem rk.ndg {tz tu : Nat} (R : rk pp a lf n c M0 τ0 fs0 s0 (geN s0.2.2.length) C o M τ fs s cz cu) (h1 : 100 + tz ≤ cz) (h2 : 2000 + tu ≤ cu) : pEnd pp a lf n c tz tu M0 τ0 fs0 s0 C o M (fin (zsz M0) τ) fs s := by
  obtain ⟨r1, ⟨r2a, r2⟩, r3, r4, r5, r6, r7⟩ := R
  exact ⟨pU_fin r1, r2.fg, fun x hx => (fin_lt hx).trans (r2.2 x hx), r3, fun k f q h1 h2 h3 => (r5 k f q h1 h2 h3).mv fin_mvr, by omega, by omega⟩
theorem rk.nd (R : rk pp a lf n c M0 τ0 fs0 s0 (geN s0.2.2.length) C o M τ fs s cz cu) (h1 : 109 ≤ cz) (h2 : 2199 ≤ cu) : pEnd pp a lf n c 9 199 M0 τ0 fs0 s0 C o M (fin (zsz M0) τ) fs s := R.ndg (by omega) (by omega)
theorem rk.erg {w : Nat × Nat} {ou : zO} {tz tu ez eu : Nat} (R : rk pp a lf n c M0 τ0 fs0 s0 c0 C o M τ fs s cz cu) (e : pEr lf ez eu τ fs M s w ou M') (h1 : 100 + tz ≤ cz + ez) (h2 : 2000 + tu ≤ cu + eu) : pEr lf tz tu τ0 fs0 M0 s0 w ou M' := by
  obtain ⟨r1, ⟨r2a, st⟩, r3, r4, r5, r6, r7⟩ := R
  obtain ⟨⟨q, f1, f2, f3, f4⟩, f5, f6⟩ := e
  have t := r1.1.1.t_le
  have zz := st.1.1.1
  have st2 : stp (zsz M0) τ M τ M' := f4.stp fun _ _ => rfl
  exact ⟨⟨q, f1, f2, ⟨by omega, f3.2⟩, (st.tr st2).fg⟩, by omega, by omega⟩
theorem rk.er {w : Nat × Nat} {ou : zO} {ez eu : Nat} (R : rk pp a lf n c M0 τ0 fs0 s0 c0 C o M τ fs s cz cu) (e : pEr lf ez eu τ fs M s w ou M') (h1 : 109 ≤ cz + ez) (h2 : 2199 ≤ cu + eu) : pEr lf 9 199 τ0 fs0 M0 s0 w ou M' := R.erg e (by omega) (by omega)
theorem rk.ftg {w : Nat × Nat} {ou : zO} {tz tu : Nat} (R : rk pp a lf n c M0 τ0 fs0 s0 c0 C o M τ fs s cz cu) (f : ftO a M w ou M') (h1 : tz ≤ 200) (h2 : tu ≤ 4000) : pEr lf tz tu τ0 fs0 M0 s0 w ou M' := R.erg (ft_er R.ps f) (by omega) (by omega)
theorem rk.ft {w : Nat × Nat} {ou : zO} (R : rk pp a lf n c M0 τ0 fs0 s0 c0 C o M τ fs s cz cu) (f : ftO a M w ou M') : pEr lf 9 199 τ0 fs0 M0 s0 w ou M' := R.ftg f (by omega) (by omega)
/-- the method's own fields pp.4 .. -/
theorem rk.own {o' : Nat} (R : rk pp a lf n c M0 τ0 fs0 s0 c0 C o M τ fs s cz cu) (f : fr (fun x k => x = pp ∧ 3 ≤ k) M M') (hp : (∃ f, fs[C'.1]? = some f ∧ gr M' pp 3 = some (f, 10, 0)) ∧ (gi M' pp 4 = nI o' ∧ o' ≤ 20) ∧ gi M' pp 5 = nI C'.2.1 ∧ gi M' pp 6 = nI C'.2.2 ∧ C'.2.1 + C'.2.2 ≤ o') : rk pp a lf n c M0 τ0 fs0 s0 c0 C' o' M' τ fs s cz cu := R.go ((rn_st R.ps C.1).own f hp) (by omega) (by omega)
theorem rk.op (R : rk pp a lf n c M0 τ0 fs0 s0 c0 C o M τ fs s cz cu) (ho : o < 20) : rk pp a lf n c M0 τ0 fs0 s0 c0 C (o + 1) (si M pp 4 (nI (o + 1))) τ fs s cz cu := R.go ((rn_st R.ps C.1).op ho) (by omega) (by omega)
theorem rk.cls (R : rk pp a lf n c M0 τ0 fs0 s0 c0 C (o + 1) M τ fs s cz cu) (hC : C.2.1 + C.2.2 ≤ o) : rk pp a lf n c M0 τ0 fs0 s0 c0 C o (si M pp 4 (gi M pp 4 - 1)) τ fs s cz cu ∧ kp τ M τ (si M pp 4 (gi M pp 4 - 1)) := ⟨R.go ((rn_st R.ps C.1).cls hC) (by omega) (by omega), own_kp R.ps (fr.si (M := M) (a := pp) (k := 4) (v := gi M pp 4 - 1) (P := fun x _ => x = pp) rfl) (fun _ _ z => z)⟩
/-! tokens -/
theorem rk.needg {tz tu j : Nat} {x : Int32} (R : rk pp a lf n c M0 τ0 fs0 s0 c0 C o M τ fs s cz cu) (hj : j < 48) (hx : sgX (nI j) = x) (hd : 11 ≤ d) (h1 : tz ≤ 200) (h2 : tu ≤ 4000)
    (hy : nedS (zOf n c dg) (nI j) s = .ok ((), (s.1 + 1, s.2)) → ∀ M', rk pp a lf n c M0 τ0 fs0 s0 c0 C o M' τ fs (s.1 + 1, s.2) (cz + 20) (cu + 400) → kp τ M τ M' → Q (.inl none) M')
    (hn : ∀ w, nedS (zOf n c dg) (nI j) s = .error w → ∀ q M', pEr lf tz tu τ0 fs0 M0 s0 w (.inr (q, 12, 0)) M' → Q (.inr (q, 12, 0)) M') : Z E YX10_need d M [(0, vr (some (a, 9, 0))), (1, vi x)] 0 [] Q := by
  obtain ⟨d, rfl⟩ : ∃ d', d = d' + 11 := ⟨d - 11, by omega⟩
  subst hx
  refine y_need (dg := dg) hj R.ps.tz (fun s' e M' f x => ?_) (fun w e ou M' f => ?_)
  · have es := ne_eq e
    subst es
    exact hy e M' (R.tk f x rfl rfl (adv_nx s)) (tk_kp R.ps f)
  · obtain ⟨q, rfl⟩ := fO_inr f.1
    exact hn w e q M' (R.ftg f h1 h2)
theorem rk.need {j : Nat} {x : Int32} (R : rk pp a lf n c M0 τ0 fs0 s0 c0 C o M τ fs s cz cu) (hj : j < 48) (hx : sgX (nI j) = x) (hd : 11 ≤ d)
    (hy : nedS (zOf n c dg) (nI j) s = .ok ((), (s.1 + 1, s.2)) → ∀ M', rk pp a lf n c M0 τ0 fs0 s0 c0 C o M' τ fs (s.1 + 1, s.2) (cz + 20) (cu + 400) → kp τ M τ M' → Q (.inl none) M')
    (hn : ∀ w, nedS (zOf n c dg) (nI j) s = .error w → ∀ q M', pEr lf 9 199 τ0 fs0 M0 s0 w (.inr (q, 12, 0)) M' → Q (.inr (q, 12, 0)) M') : Z E YX10_need d M [(0, vr (some (a, 9, 0))), (1, vi x)] 0 [] Q := R.needg hj hx hd (by omega) (by omega) hy hn
theorem nk_eq {j : Int32} {s s' : pS} (h : nedK (zOf n c dg) j s = .ok ((), s')) : s' = (s.1 + 1, s.2) := by
  have := sat_nek (z := zOf n c dg) (j := j) (s := s) (F := fun _ s' => s' = (s.1 + 1, s.2)) rfl
  exact this () s' h
theorem rk.needW {j : Int32} (R : rk pp a lf n c M0 τ0 fs0 s0 c0 C o M τ fs s cz cu) (hd : 11 ≤ d)
    (hy : nedK (zOf n c dg) j s = .ok ((), (s.1 + 1, s.2)) → ∀ M', rk pp a lf n c M0 τ0 fs0 s0 c0 C o M' τ fs (s.1 + 1, s.2) (cz + 20) (cu + 400) → kp τ M τ M' → Q (.inl none) M')
    (hn : ∀ w, nedK (zOf n c dg) j s = .error w → ∀ q M', pEr lf 9 199 τ0 fs0 M0 s0 w (.inr (q, 12, 0)) M' → Q (.inr (q, 12, 0)) M') : Z E YX10_needWord d M [(0, vr (some (a, 9, 0))), (1, vi j)] 0 [] Q := by
  obtain ⟨d, rfl⟩ : ∃ d', d = d' + 11 := ⟨d - 11, by omega⟩
  refine y_needW (dg := dg) R.ps.tz (fun s' e M' f x => ?_) (fun w e ou M' f => ?_)
  · have es := nk_eq e
    subst es
    exact hy e M' (R.tk f x rfl rfl (adv_nx s)) (tk_kp R.ps f)
  · obtain ⟨q, rfl⟩ := fO_inr f.1
    exact hn w e q M' (R.ft f)
theorem rk.nxtg {tz tu : Nat} (R : rk pp a lf n c M0 τ0 fs0 s0 c0 C o M τ fs s cz cu) (hg : (tkn n c s.1).1 = 5 ∨ (tkn n c s.1).1 = 2) (hd : 9 ≤ d) (h1' : tz ≤ 200) (h2' : tu ≤ 4000)
    (hy : nxt' (zOf n c dg) s = .ok ((), (s.1 + 1, s.2)) → ∀ M', rk pp a lf n c M0 τ0 fs0 s0 c0 C o M' τ fs (s.1 + 1, s.2) (cz + 20) (cu + 400) → kp τ M τ M' → Q (.inl none) M')
    (hn : ∀ w, nxt' (zOf n c dg) s = .error w → ∀ q M', pEr lf tz tu τ0 fs0 M0 s0 w (.inr (q, 12, 0)) M' → Q (.inr (q, 12, 0)) M') : Z E YX10_next d M [(0, vr (some (a, 9, 0)))] 0 [] Q := by
  obtain ⟨d, rfl⟩ : ∃ d', d = d' + 9 := ⟨d - 9, by omega⟩
  have g : tkg (tkn n c s.1) ∧ ¬ ((tkn n c s.1).1 = 1 ∨ (tkn n c s.1).1 = 4) := by
    rcases hg with z | z
    · exact tkg5 z
    · exact tkg2 z
  refine y_nxt (dg := dg) R.ps.tz g.1 g.2 (fun s' e M' f x => ?_) (fun w e ou M' f => ?_)
  · have es := nx_eq e
    subst es
    exact hy e M' (R.tk f x rfl rfl (adv_nx s)) (tk_kp R.ps f)
  · obtain ⟨q, rfl⟩ := fO_inr f.1
    exact hn w e q M' (R.ftg f h1' h2')
theorem rk.nxt (R : rk pp a lf n c M0 τ0 fs0 s0 c0 C o M τ fs s cz cu) (hg : (tkn n c s.1).1 = 5 ∨ (tkn n c s.1).1 = 2) (hd : 9 ≤ d)
    (hy : nxt' (zOf n c dg) s = .ok ((), (s.1 + 1, s.2)) → ∀ M', rk pp a lf n c M0 τ0 fs0 s0 c0 C o M' τ fs (s.1 + 1, s.2) (cz + 20) (cu + 400) → kp τ M τ M' → Q (.inl none) M')
    (hn : ∀ w, nxt' (zOf n c dg) s = .error w → ∀ q M', pEr lf 9 199 τ0 fs0 M0 s0 w (.inr (q, 12, 0)) M' → Q (.inr (q, 12, 0)) M') : Z E YX10_next d M [(0, vr (some (a, 9, 0)))] 0 [] Q := R.nxtg hg hd (by omega) (by omega) hy hn
theorem rk.takes {j : Nat} {x : Int32} (R : rk pp a lf n c M0 τ0 fs0 s0 c0 C o M τ fs s cz cu) (hj : j < 48) (hx : sgX (nI j) = x) (hd : 10 ≤ d) (hf : isS (zOf n c dg) (nI j) s = false → Q (.inl (some (vi 0))) M)
    (hy : isS (zOf n c dg) (nI j) s = true → nxt' (zOf n c dg) s = .ok ((), (s.1 + 1, s.2)) → ∀ M', rk pp a lf n c M0 τ0 fs0 s0 c0 C o M' τ fs (s.1 + 1, s.2) (cz + 20) (cu + 400) → kp τ M τ M' → Q (.inl (some (vi 1))) M')
    (hn : isS (zOf n c dg) (nI j) s = true → ∀ w, nxt' (zOf n c dg) s = .error w → ∀ q M', pEr lf 9 199 τ0 fs0 M0 s0 w (.inr (q, 12, 0)) M' → Q (.inr (q, 12, 0)) M') : Z E YX10_takes d M [(0, vr (some (a, 9, 0))), (1, vi x)] 0 [] Q := by
  obtain ⟨d, rfl⟩ : ∃ d', d = d' + 10 := ⟨d - 10, by omega⟩
  subst hx
  refine y_takes (dg := dg) hj R.ps.tz hf (fun hs s' e M' f x => ?_) (fun hs w e ou M' f => ?_)
  · have es := nx_eq e
    subst es
    exact hy hs e M' (R.tk f x rfl rfl (adv_nx s)) (tk_kp R.ps f)
  · obtain ⟨q, rfl⟩ := fO_inr f.1
    exact hn hs w e q M' (R.ft f)
theorem rk.takesW {j : Int32} (R : rk pp a lf n c M0 τ0 fs0 s0 c0 C o M τ fs s cz cu) (hd : 10 ≤ d) (hf : isK (zOf n c dg) j s = false → Q (.inl (some (vi 0))) M)
    (hy : isK (zOf n c dg) j s = true → nxt' (zOf n c dg) s = .ok ((), (s.1 + 1, s.2)) → ∀ M', rk pp a lf n c M0 τ0 fs0 s0 c0 C o M' τ fs (s.1 + 1, s.2) (cz + 20) (cu + 400) → kp τ M τ M' → Q (.inl (some (vi 1))) M')
    (hn : isK (zOf n c dg) j s = true → ∀ w, nxt' (zOf n c dg) s = .error w → ∀ q M', pEr lf 9 199 τ0 fs0 M0 s0 w (.inr (q, 12, 0)) M' → Q (.inr (q, 12, 0)) M') : Z E YX10_takesWord d M [(0, vr (some (a, 9, 0))), (1, vi j)] 0 [] Q := by
  obtain ⟨d, rfl⟩ : ∃ d', d = d' + 10 := ⟨d - 10, by omega⟩
  refine y_takesW (dg := dg) R.ps.tz hf (fun hs s' e M' f x => ?_) (fun hs w e ou M' f => ?_)
  · have es := nx_eq e
    subst es
    exact hy hs e M' (R.tk f x rfl rfl (adv_nx s)) (tk_kp R.ps f)
  · obtain ⟨q, rfl⟩ := fO_inr f.1
    exact hn hs w e q M' (R.ft f)
theorem rk.needNg {tz tu : Nat} (R : rk pp a lf n c M0 τ0 fs0 s0 c0 C o M τ fs s cz cu) (hd : 10 ≤ d) (h1' : tz ≤ 200) (h2' : tu ≤ 4000)
    (hy : ∀ x s', nedN (zOf n c dg) s = .ok (x, s') → x = (nam (tkX n c (tkn n c s.1)) s).1 → (x < 100000 ∧ s'.1 = s.1 + 1 ∧ s'.2.2 = s.2.2 ∧ tkd (zOf n c dg) s.1 = 1) → ∀ M', rk pp a lf n c M0 τ0 fs0 s0 c0 C o M' τ fs s' (cz + 20) (cu + 400) → kp τ M τ M' → Q (.inl (some (vi (nI x)))) M')
    (hn : ∀ w, nedN (zOf n c dg) s = .error w → ∀ q M', pEr lf tz tu τ0 fs0 M0 s0 w (.inr (q, 12, 0)) M' → Q (.inr (q, 12, 0)) M') : Z E YX10_needName d M [(0, vr (some (a, 9, 0)))] 0 [] Q := by
  obtain ⟨d, rfl⟩ : ∃ d', d = d' + 10 := ⟨d - 10, by omega⟩
  refine y_needN (dg := dg) R.ps.tz (fun x s' e ex M' f x' => ?_) (fun w e ou M' f => ?_)
  · have on : sat (nedN (zOf n c dg) s) fun _ s' => adv C.1 s s' ∧ s'.2.2 = s.2.2 ∧ s'.1 = s.1 + 1 := sat_nen fun w => ⟨adv_nm w s, rfl, rfl⟩
    have o2 := on x s' e
    have k1 : tkd (zOf n c dg) s.1 = 1 := by
      by_cases z : tkd (zOf n c dg) s.1 = 1
      · exact z
      · unfold nedN at e; rw [if_neg z] at e; cases e
    exact hy x s' e ex ⟨tak_lt R.ps.tz (.inl k1) ex, o2.2.2, o2.2.1, k1⟩ M' (R.tk f x' o2.2.1 o2.2.2 o2.1) (tk_kp R.ps f)
  · obtain ⟨q, rfl⟩ := fO_inr f.1
    exact hn w e q M' (R.ftg f h1' h2')
theorem rk.needN (R : rk pp a lf n c M0 τ0 fs0 s0 c0 C o M τ fs s cz cu) (hd : 10 ≤ d)
    (hy : ∀ x s', nedN (zOf n c dg) s = .ok (x, s') → x = (nam (tkX n c (tkn n c s.1)) s).1 → (x < 100000 ∧ s'.1 = s.1 + 1 ∧ s'.2.2 = s.2.2 ∧ tkd (zOf n c dg) s.1 = 1) → ∀ M', rk pp a lf n c M0 τ0 fs0 s0 c0 C o M' τ fs s' (cz + 20) (cu + 400) → kp τ M τ M' → Q (.inl (some (vi (nI x)))) M')
    (hn : ∀ w, nedN (zOf n c dg) s = .error w → ∀ q M', pEr lf 9 199 τ0 fs0 M0 s0 w (.inr (q, 12, 0)) M' → Q (.inr (q, 12, 0)) M') : Z E YX10_needName d M [(0, vr (some (a, 9, 0)))] 0 [] Q := R.needNg hd (by omega) (by omega) hy hn
theorem rk.semi (R : rk pp a lf n c M0 τ0 fs0 s0 c0 C o M τ fs s cz cu) (h1 : 1 ≤ s.1) (hd : 11 ≤ d)
    (hy : ∀ s', pSem (zOf n c dg) s = .ok ((), s') → (s' = s ∨ s' = (s.1 + 1, s.2)) → s.1 ≤ s'.1 → ∀ M', rk pp a lf n c M0 τ0 fs0 s0 c0 C o M' τ fs s' cz cu → kp τ M τ M' → Q (.inl none) M')
    (hn : ∀ w, pSem (zOf n c dg) s = .error w → ∀ q M', pEr lf 9 199 τ0 fs0 M0 s0 w (.inr (q, 12, 0)) M' → Q (.inr (q, 12, 0)) M') : Z E YX9_semicolon d M [(0, vr (some (pp, 8, 0)))] 0 [] Q := by
  obtain ⟨d, rfl⟩ : ∃ d', d = d' + 11 := ⟨d - 11, by omega⟩
  refine y_semi (dg := dg) R.ps.tz h1 R.ps.pt (fun s' e M' f x => ?_) (fun w e ou M' f => ?_)
  · have on : sat (pSem (zOf n c dg) s) fun _ s' => s' = s ∨ s' = (s.1 + 1, s.2) := ok_sem s (.inl rfl) (.inr rfl)
    have es := on () s' e
    rcases es with es | es
    · subst es
      exact hy _ e (.inl rfl) (Nat.le_refl _) M' (R.go ((rn_st R.ps C.1).tk f x rfl adv.rf) (by omega) (by omega)) (tk_kp R.ps f)
    · subst es
      exact hy _ e (.inr rfl) (Nat.le_succ _) M' ((R.tk f x rfl rfl (adv_nx s)).up (by omega) (by omega)) (tk_kp R.ps f)
  · obtain ⟨q, rfl⟩ := fO_inr f.1
    exact hn w e q M' (R.ft f)
theorem rk.opng {tz tu : Nat} (R : rk pp a lf n c M0 τ0 fs0 s0 c0 C o M τ fs s cz cu) (hd : 7 ≤ d) (h1' : tz ≤ 200) (h2' : tu ≤ 4000)
    (hy : o < 20 → ∀ M', rk pp a lf n c M0 τ0 fs0 s0 c0 C (o + 1) M' τ fs s cz cu → kp τ M τ M' → gi M' a 3 = gi M a 3 → gi M' a 6 = gi M a 6 → Q (.inl none) M')
    (hn : ¬ o < 20 → ∀ q M', pEr lf tz tu τ0 fs0 M0 s0 (5, tln (zOf n c dg) s.1) (.inr (q, 12, 0)) M' → Q (.inr (q, 12, 0)) M') : Z E YX9_opens d M [(0, vr (some (pp, 8, 0)))] 0 [] Q := by
  obtain ⟨d, rfl⟩ : ∃ d', d = d' + 7 := ⟨d - 7, by omega⟩
  have pz := R.ps.pz
  have az := R.ps.az
  have ne : a ≠ pp := fun e => by rw [e] at az; omega
  refine y_opens (dg := dg) R.ps.tz R.ps.pt pz.1 R.ps.op.1 R.ps.op.2 (fun ho => ?_) (fun ho ou M' f => ?_)
  · exact hy ho _ (R.op ho) (own_kp R.ps (fr.si (P := fun x _ => x = pp) rfl) (fun _ _ z => z)) (gi_oth ne) (gi_oth ne)
  · obtain ⟨q, rfl⟩ := fO_inr f.1
    exact hn ho q M' (R.ftg f h1' h2')
theorem rk.opn (R : rk pp a lf n c M0 τ0 fs0 s0 c0 C o M τ fs s cz cu) (hd : 7 ≤ d)
    (hy : o < 20 → ∀ M', rk pp a lf n c M0 τ0 fs0 s0 c0 C (o + 1) M' τ fs s cz cu → kp τ M τ M' → gi M' a 3 = gi M a 3 → gi M' a 6 = gi M a 6 → Q (.inl none) M')
    (hn : ¬ o < 20 → ∀ q M', pEr lf 9 199 τ0 fs0 M0 s0 (5, tln (zOf n c dg) s.1) (.inr (q, 12, 0)) M' → Q (.inr (q, 12, 0)) M') : Z E YX9_opens d M [(0, vr (some (pp, 8, 0)))] 0 [] Q := R.opng hd (by omega) (by omega) hy hn
theorem rk.fltg {tz tu : Nat} {k : Nat} {x : Int32} (R : rk pp a lf n c M0 τ0 fs0 s0 c0 C o M τ fs s cz cu) (hx : nI k = x) (hd : 6 ≤ d) (h1' : tz ≤ 200) (h2' : tu ≤ 4000)
    (hn : ∀ q M', pEr lf tz tu τ0 fs0 M0 s0 (k, tln (zOf n c dg) s.1) (.inr (q, 12, 0)) M' → Q (.inl (some (vr (some (q, 12, 0))))) M') : Z E YX10_fault d M [(0, vr (some (a, 9, 0))), (1, vi x)] 0 [] Q := by
  obtain ⟨d, rfl⟩ : ∃ d', d = d' + 6 := ⟨d - 6, by omega⟩
  subst hx
  obtain ⟨⟨lp, hk, -⟩, -⟩ := id R.ps.tz
  have az := R.ps.az
  have z := R.z0
  refine x_fault (d := d) (k := k) (by omega) az.2.1 hk.2.2.1 (fun M' f g1 g2 g3 => ?_)
  exact hn (zsz M) M' (R.ftg ⟨⟨zsz M, rfl, g1, ⟨Nat.le_refl _, by omega⟩, f.mono fun _ _ _ z => z.elim⟩, g2, g3⟩ h1' h2')
theorem rk.flt {k : Nat} {x : Int32} (R : rk pp a lf n c M0 τ0 fs0 s0 c0 C o M τ fs s cz cu) (hx : nI k = x) (hd : 6 ≤ d)
    (hn : ∀ q M', pEr lf 9 199 τ0 fs0 M0 s0 (k, tln (zOf n c dg) s.1) (.inr (q, 12, 0)) M' → Q (.inl (some (vr (some (q, 12, 0))))) M') : Z E YX10_fault d M [(0, vr (some (a, 9, 0))), (1, vi x)] 0 [] Q := R.fltg hx hd (by omega) (by omega) hn
/-! nodes -/
theorem sNg.up {Sz Sz' : Nat → Nat → Nat → Nat → Nat → Prop} {cc : Nat × Nat} {p : zP} {g : gSt} (h : sNg Sz lo M τ cc p g) (hS : ∀ D o m h k, Sz D o m h k → Sz' D o m h k) : sNg Sz' lo M τ cc p g := by
  obtain ⟨h1, D, o, m, hh, k, h2, h3⟩ := h
  exact ⟨h1, D, o, m, hh, k, hS _ _ _ _ _ h2, h3⟩
/-- the node where things go on; its switches stay the same -/
theorem sNd.mv {lo' D o m h k : Nat} {cc : Nat × Nat} {X : Nat → Prop} {p : zP} {g : gSt} (x : sNd (nS lo (zsz M) τ) (nW lo (zsz M) τ) M cc X D o m h k p g) (mv : mvr τ M τ' M') (hl : 190 ≤ lo) (hll : lo' ≤ lo) : sNd (nS lo' (zsz M') τ') (nW lo' (zsz M') τ') M' cc X D o m h k p g := by
  have z := mv.1.1.1
  exact x.mo (fun x z => mv.sub hll (Nat.le_refl _) x z) (fun x z => ⟨by have := z.1; omega, by have := z.2.1; omega, by rw [mv.2 x (by have := z.2.1; omega) (by have := z.2.2; omega)]; exact z.2.2⟩) (mv.agS hl (Nat.le_refl _)) (mv.agB hl (Nat.le_refl _))
theorem cVm.x {Y : zY} {ar : List (Nat × zV)} {dm D : Nat} {f : pC → pS → pR gV} (h : cVm E pp a lf n c Y ar dm o D f) : cVx E pp a lf n c 10 200 Y ar dm o D f := h
theorem cSm.x {Y : zY} {ar : List (Nat × zV)} {dm : Nat} {f : pC → pS → pR gSt} (h : cSm E pp a lf n c Y ar dm o f) : cSx E pp a lf n c Y ar dm o (fun _ _ => True) (szT n c) f := fun d Q M τ fs s C hd _ hx hy hn => h d Q M τ fs s C hd hx hy hn
/-- a value -/
theorem rk.valg {tz tu : Nat} {Y : zY} {ar : List (Nat × zV)} {dm D ez eu : Nat} {f : pC → pS → pR gV} (R : rk pp a lf n c M0 τ0 fs0 s0 c0 C o M τ fs s cz cu) (hV : cVx E pp a lf n c ez eu Y ar dm o D f) (hd : dm ≤ d) (h1 : 100 + tz ≤ cz + ez) (h2 : 2000 + tu ≤ cu + eu) (hc : C.1 = C.1) {F : gV → pS → Prop} (hF : sat (f C s) F) (ha : ∀ v s', F v s' → adv C.1 s s')
    (hy : ∀ v s', f C s = .ok (v, s') → F v s' → ∀ M' τ' fs' b t, rk pp a lf n c M0 τ0 fs0 s0 c0 C o M' τ' fs' s' (cz + ez) (cu + eu) → kp τ M τ' M' → vNd (zsz M0) M' τ' D (b, t, 0) v → Q (.inl (some (vr (some (b, t, 0))))) M')
    (hn : ∀ w, f C s = .error w → ∀ q M', pEr lf tz tu τ0 fs0 M0 s0 w (.inr (q, 12, 0)) M' → Q (.inr (q, 12, 0)) M') : Z E Y d M ((0, vr (some (pp, 8, 0))) :: ar) 0 [] Q := by
  refine hV d Q M τ fs s C hd R.ps (fun v s' e M' τ' fs' p pe vn => ?_) (fun w e ou M' pe => ?_)
  · have z := hF v s' e
    have z0 := R.z0
    obtain ⟨b, t, k⟩ := p
    have k0 : k = 0 := vn.1.1
    subst k0
    refine hy v s' e z M' τ' fs' b t (R.cl pe (ha v s' z)) pe.kp ?_
    exact vn.mv (τ := τ') (M := M') ⟨fg.rf, fun _ _ _ => rfl⟩ z0.1 z0.2 (Nat.le_refl _)
  · obtain ⟨q, rfl⟩ := fO_inr pe.1
    exact hn w e q M' (R.erg pe h1 h2)
theorem rk.val {Y : zY} {ar : List (Nat × zV)} {dm D ez eu : Nat} {f : pC → pS → pR gV} (R : rk pp a lf n c M0 τ0 fs0 s0 c0 C o M τ fs s cz cu) (hV : cVx E pp a lf n c ez eu Y ar dm o D f) (hd : dm ≤ d) (h1 : 109 ≤ cz + ez) (h2 : 2199 ≤ cu + eu) (hc : C.1 = C.1) {F : gV → pS → Prop} (hF : sat (f C s) F) (ha : ∀ v s', F v s' → adv C.1 s s')
    (hy : ∀ v s', f C s = .ok (v, s') → F v s' → ∀ M' τ' fs' b t, rk pp a lf n c M0 τ0 fs0 s0 c0 C o M' τ' fs' s' (cz + ez) (cu + eu) → kp τ M τ' M' → vNd (zsz M0) M' τ' D (b, t, 0) v → Q (.inl (some (vr (some (b, t, 0))))) M')
    (hn : ∀ w, f C s = .error w → ∀ q M', pEr lf 9 199 τ0 fs0 M0 s0 w (.inr (q, 12, 0)) M' → Q (.inr (q, 12, 0)) M') : Z E Y d M ((0, vr (some (pp, 8, 0))) :: ar) 0 [] Q := R.valg hV hd (by omega) (by omega) hc hF ha hy hn
/-- a statement -/
theorem rk.stmg {tz tu : Nat} {Y : zY} {ar : List (Nat × zV)} {dm : Nat} {H : pC → pS → Prop} {Sz : pS → pS → Nat → Nat → Nat → Nat → Nat → Prop} {f : pC → pS → pR gSt} (R : rk pp a lf n c M0 τ0 fs0 s0 c0 C o M τ fs s cz cu) (hV : cSx E pp a lf n c Y ar dm o H Sz f) (hd : dm ≤ d) (hH : H C s) (h1 : 91 + tz ≤ cz) (h2 : 1801 + tu ≤ cu) (hc : C.1 = C.1) {F : gSt → pS → Prop} (hF : sat (f C s) F) (ha : ∀ v s', F v s' → adv C.1 s s')
    (hy : ∀ v s', f C s = .ok (v, s') → F v s' → ∀ M' τ' fs' b t, rk pp a lf n c M0 τ0 fs0 s0 c0 C o M' τ' fs' s' (cz + 9) (cu + 199) → kp τ M τ' M' → sNg (Sz s s') (zsz M) M' τ' C.2 (b, t, 0) v → Q (.inl (some (vr (some (b, t, 0))))) M')
    (hn : ∀ w, f C s = .error w → ∀ q M', pEr lf tz tu τ0 fs0 M0 s0 w (.inr (q, 12, 0)) M' → Q (.inr (q, 12, 0)) M') : Z E Y d M ((0, vr (some (pp, 8, 0))) :: ar) 0 [] Q := by
  refine hV d Q M τ fs s C hd hH R.ps (fun v s' e M' τ' fs' p pe vn => ?_) (fun w e ou M' pe => ?_)
  · have z := hF v s' e
    obtain ⟨b, t, k⟩ := p
    have k0 : k = 0 := vn.1.1
    subst k0
    exact hy v s' e z M' τ' fs' b t (R.cl pe (ha v s' z)) pe.kp vn
  · obtain ⟨q, rfl⟩ := fO_inr pe.1
    exact hn w e q M' (R.erg pe (by omega) (by omega))
theorem rk.stm {Y : zY} {ar : List (Nat × zV)} {dm : Nat} {H : pC → pS → Prop} {Sz : pS → pS → Nat → Nat → Nat → Nat → Nat → Prop} {f : pC → pS → pR gSt} (R : rk pp a lf n c M0 τ0 fs0 s0 c0 C o M τ fs s cz cu) (hV : cSx E pp a lf n c Y ar dm o H Sz f) (hd : dm ≤ d) (hH : H C s) (h1 : 100 ≤ cz) (h2 : 2000 ≤ cu) (hc : C.1 = C.1) {F : gSt → pS → Prop} (hF : sat (f C s) F) (ha : ∀ v s', F v s' → adv C.1 s s')
    (hy : ∀ v s', f C s = .ok (v, s') → F v s' → ∀ M' τ' fs' b t, rk pp a lf n c M0 τ0 fs0 s0 c0 C o M' τ' fs' s' (cz + 9) (cu + 199) → kp τ M τ' M' → sNg (Sz s s') (zsz M) M' τ' C.2 (b, t, 0) v → Q (.inl (some (vr (some (b, t, 0))))) M')
    (hn : ∀ w, f C s = .error w → ∀ q M', pEr lf 9 199 τ0 fs0 M0 s0 w (.inr (q, 12, 0)) M' → Q (.inr (q, 12, 0)) M') : Z E Y d M ((0, vr (some (pp, 8, 0))) :: ar) 0 [] Q := R.stmg hV hd hH (by omega) (by omega) hc hF ha hy hn
/-- where tokens begin -/
theorem pos_le (h : xTz M a n c s) {t t' : Nat} (h1 : t ≤ t') (h2 : t' ≤ s.1) : (tkn n c t).2.2.1 + (t' - t) ≤ (tkn n c t').2.2.1 := by
  have := pos_up h (t' - t) t (by omega)
  rw [show t + (t' - t) = t' by omega] at this
  exact this
end
