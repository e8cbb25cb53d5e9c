/-! THE MACHINE: heap and frames together; operations that give a value in place of some; GET -/
theorem cwl_num : ∀ q ∈ cwl, q.1 = 16 → q.2.1 ≠ 38 ∧ q.2.1 ≠ 49 ∧ q.2.1 ≠ 50 ∧ q.2.1 ≠ 51 ∧ q.2.1 ≠ 52 ∧ q.2.1 ≠ 53 ∧ q.2.1 ≠ 54 ∧ q.2.1 ≠ 55 := by decide +kernel
/-- cells that the machine's steps touch -/
def cX (a k : Nat) : Prop := hpX a k ∨ stX a k ∨ scx a k ∨ (fFX a k ∨ False) ∨ False
def cT (a k : Nat) : Prop := hpT a k ∨ stT a k ∨ scr a k ∨ fUT a k ∨ a = 97 ∧ k = 75
def gX (M : zM) (A : mA) (F : List mF) : Prop := sX M A ∧ xFs M F
def gT (T : zM) (A : mA) (F : List mF) : Prop := sT T A ∧ tFs T F ∧ gi T 97 75 = 0 ∧ gi T 97 73 = 1
theorem sX_cg {M M' : zM} {A : mA} {P : Nat → Nat → Prop} (h : sX M A) (f : fr P M M') (hP : ∀ a k, P a k → scx a k ∨ fUX a k) : sX M' A := sX_fr h f (fun a k q => by
  have q := hP a k q
  unfold scx fUX fFX at q
  unfold hpX
  refine ⟨by omega, by omega, by omega, by omega, by omega, fun e z hz => ?_⟩
  have c1 := cwl_ok z hz
  have c2 := cwl_num z hz
  omega)
theorem sT_cg {T T' : zM} {A : mA} {P : Nat → Nat → Prop} (h : sT T A) (f : fr P T T') (hP : ∀ a k, P a k → scr a k ∨ fUT a k ∨ a = 97 ∧ k = 75) : sT T' A := sT_fr h f (fun a k q => by
  have q := hP a k q
  unfold scr fUT fFT at q
  unfold hpT stT
  omega)
theorem xFs_cg {M M' : zM} {F : List mF} {P : Nat → Nat → Prop} (h : xFs M F) (ok : mFok F) (f : fr P M M') (hP : ∀ a k, P a k → scx a k ∨ stX a k ∨ hpX a k) : xFs M' F := xFs_fr h ok f (fun a k q => by
  have q := hP a k q
  unfold scx stX hpX at q
  unfold fFX
  omega)
theorem tFs_cg {T T' : zM} {F : List mF} {P : Nat → Nat → Prop} (h : tFs T F) (ok : mFok F) (f : fr P T T') (hP : ∀ a k, P a k → scr a k ∨ stT a k ∨ hpT a k ∨ a = 97 ∧ k = 75) : tFs T' F := tFs_fr h ok f (fun a k q => by
  have q := hP a k q
  unfold scr stT hpT at q
  unfold fFT
  omega)
theorem fr.cX1 {M M' : zM} (h : fr scx M M') : fr cX M M' := h.mono fun _ _ q => by unfold cX; exact .inr (.inr (.inl q))
theorem fr.cX2 {M M' : zM} (h : fr (orP scx stX) M M') : fr cX M M' := h.mono fun _ _ q => by unfold cX; exact q.elim (fun q => .inr (.inr (.inl q))) (fun q => .inr (.inl q))
theorem fr.cX3 {M M' : zM} (h : fr fFX M M') : fr cX M M' := h.mono fun _ _ q => by unfold cX; exact .inr (.inr (.inr (.inl (.inl q))))
theorem fr.cX4 {M M' : zM} (h : fr (orP scx hpX) M M') : fr cX M M' := h.mono fun _ _ q => by unfold cX; exact q.elim (fun q => .inr (.inr (.inl q))) (fun q => .inl q)
theorem fr.cT1 {M M' : zM} (h : fr scr M M') : fr cT M M' := h.mono fun _ _ q => by unfold cT; exact .inr (.inr (.inl q))
theorem fr.cT2 {M M' : zM} (h : fr (orP scr stT) M M') : fr cT M M' := h.mono fun _ _ q => by unfold cT; exact q.elim (fun q => .inr (.inr (.inl q))) (fun q => .inr (.inl q))
theorem fr.cT3 {M M' : zM} (h : fr fFT M M') : fr cT M M' := h.mono fun _ _ q => by unfold cT; exact .inr (.inr (.inr (.inl (.inl q))))
theorem fr.cT4 {M M' : zM} (h : fr (orP fUT hpT) M M') : fr cT M M' := h.mono fun _ _ q => by unfold cT; exact q.elim (fun q => .inr (.inr (.inr (.inl q)))) (fun q => .inl q)
theorem fr.cT5 {M M' : zM} (h : fr (orP fFT hpT) M M') : fr cT M M' := h.mono fun _ _ q => by unfold cT; exact q.elim (fun q => .inr (.inr (.inr (.inl (.inl q))))) (fun q => .inl q)
theorem cT_75 {M : zM} {x : Int32} : fr cT M (si M 97 75 x) := fr.si (by unfold cT; exact .inr (.inr (.inr (.inr ⟨rfl, rfl⟩))))
/-- an end: 0 a value, 1 thrown, 2 no room; the heap then; the value -/
abbrev mE : Type := Nat × mA × Int32 × Int32
def vX (Q : zO → zM → Prop) (M : zM) (p : mE) (n : Nat) (r : mF) (F : List mF) : Prop :=
  (p.1 = 0 → ∀ M', gX M' p.2.1 (mFst r ((p.2.2.1, p.2.2.2, 0, 0) :: r.st.drop n) :: F) → fr cX M M' → Q (.inl none) M') ∧
  (p.1 = 1 → ∀ M', gX M' p.2.1 (r :: F) → gi M' 16 57 = p.2.2.1 → gi M' 16 58 = p.2.2.2 → fr cX M M' → Q (.inr (52, 14, 0)) M') ∧
  (p.1 = 2 → ∀ M', gX M' p.2.1 (r :: F) → fr cX M M' → Q (.inr (51, 13, 0)) M')
def vT (Q : zO → zM → Prop) (T : zM) (p : mE) (n : Nat) (r : mF) (F : List mF) : Prop :=
  (p.1 = 0 → ∀ T', gT T' p.2.1 (mFpl (mFst r ((p.2.2.1, p.2.2.2, 0, 0) :: r.st.drop n)) (r.pl + 1) :: F) → fr cT T T' → Q (.inl none) T') ∧
  (p.1 = 1 → (∀ T', mts (p.2.2.1, p.2.2.2, 0, 0) (r :: F) = [] → sT T' p.2.1 → tFs T' [] → gi T' 97 75 = 0 → gi T' 97 73 = 3 → gi T' 97 109 = p.2.2.1 → gi T' 97 110 = p.2.2.2 → fr cT T T' → Q (.inl none) T') ∧ ∀ T' r' F', mts (p.2.2.1, p.2.2.2, 0, 0) (r :: F) = r' :: F' → gT T' p.2.1 (r' :: F') → fr cT T T' → Q (.inl none) T') ∧
  (p.1 = 2 → ∀ T', sT T' p.2.1 → tFs T' (r :: F) → gi T' 97 75 = 1 → gi T' 97 73 = 1 → fr cT T T' → Q (.inl none) T')
/-- an error is thrown: 0 TypeError, 1 ReferenceError, 2 RangeError -/
def m_err (A : mA) (n : Nat) : mE := if aO A = 300 then (2, A, 0, 0) else (1, a_new A (nI (6 + n)) (26 + n) 0 (-1), 7, nI (aO A))
def m_val (A : mA) (p : Int32) : mE := if p = -1 then (0, A, 0, 0) else (0, A, gi (aT A) 146 p.toNatClampNeg, gi (aT A) 147 p.toNatClampNeg)
noncomputable def m_get (A : mA) (s v ks kv : Int32) : mE := match a_text A ks kv with
  | none => (2, A, 0, 0)
  | some (k, A1) =>
    if s ≤ 1 then m_err A1 0
    else if s = 7 then m_val A1 (a_get A1 v.toNatClampNeg (nI k))
    else if s = 6 then (if k = 0 then (0, A1, 5, nI (mtx (aL A1) v).length) else m_val A1 (a_get A1 4 (nI k)))
    else (0, A1, 0, 0)
section
variable {E : zE} {d : Nat} {T M : zM} {Q : zO → zM → Prop} {A : mA} {r : mF} {F : List mF}
theorem vX_mono {M1 : zM} {p : mE} {n : Nat} (h : vX Q M p n r F) (f : fr cX M M1) : vX Q M1 p n r F :=
  ⟨fun e M' g f' => h.1 e M' g (f.tr f'), fun e M' g e1 e2 f' => h.2.1 e M' g e1 e2 (f.tr f'), fun e M' g f' => h.2.2 e M' g (f.tr f')⟩
theorem vT_mono {T1 : zM} {p : mE} {n : Nat} (h : vT Q T p n r F) (f : fr cT T T1) : vT Q T1 p n r F :=
  ⟨fun e T' g f' => h.1 e T' g (f.tr f'), fun e => ⟨fun T' m a b c d' e1 e2 f' => (h.2.1 e).1 T' m a b c d' e1 e2 (f.tr f'), fun T' r' F' m g f' => (h.2.1 e).2 T' r' F' m g (f.tr f')⟩, fun e T' a b c d' f' => h.2.2 e T' a b c d' (f.tr f')⟩
theorem x_cell (h : xFs M (r :: F)) {i m : Nat} {c : mC} (hi : r.st[i]? = some c) (hm : m = i + 1) : gi M 53 (mtot F + r.st.length - m) = c.1 ∧ gi M 54 (mtot F + r.st.length - m) = c.2.1 := by
  have hl : i < r.st.length := (List.getElem?_eq_some_iff.mp hi).1
  have := xFs_cell h hi
  rw [show mtot F + r.st.length - m = mtot F + (r.st.length - 1 - i) by omega]
  exact ⟨this.1, this.2.1⟩
theorem t_cell (h : tFs T (r :: F)) {i : Nat} {c : mC} (hi : r.st[i]? = some c) : gi T 160 (400 * F.length + r.st.length - 1 - i) = c.1 ∧ gi T 161 (400 * F.length + r.st.length - 1 - i) = c.2.1 := by
  have hl : i < r.st.length := (List.getElem?_eq_some_iff.mp hi).1
  have := tFs_cell h hi
  rw [show 400 * F.length + r.st.length - 1 - i = 400 * F.length + (r.st.length - 1 - i) by omega]
  exact ⟨this.1, this.2.1⟩
/-- leaves, as a memory -/
theorem x_leaf {n ks : Nat} {v : Int32} (h : xFs M (r :: F)) (ok : mFok F) (hn : n ≤ r.st.length) (hks : ks < 8) : xFs (si (si (si (si M 16 38 (nI (mtot F + r.st.length - n))) 53 (mtot F + r.st.length - n) (nI ks)) 16 38 (nI (mtot F + r.st.length - n + 1))) 54 (mtot F + r.st.length - n) v) (mFst r ((nI ks, v, 0, 0) :: r.st.drop n) :: F) ∧ fr fFX M (si (si (si (si M 16 38 (nI (mtot F + r.st.length - n))) 53 (mtot F + r.st.length - n) (nI ks)) 16 38 (nI (mtot F + r.st.length - n + 1))) 54 (mtot F + r.st.length - n) v) := by
  have h1 := xFs_drop h ok hn
  have h2 := xFs_push h1 ok (c := (nI ks, v, 0, 0)) (fun q => absurd q (by show ¬ nI ks = 8; rw [nn_eql (by omega) (by omega)]; omega))
  rw [show (mFst r (r.st.drop n)).st.length = r.st.length - n from List.length_drop, show mtot F + (r.st.length - n) = mtot F + r.st.length - n by omega] at h2
  exact ⟨h2, (((fr.si fFX_38).tr (fr.si (fFX_i (by omega)))).tr (fr.si fFX_38)).tr (fr.si (fFX_i (by omega)))⟩
/-- the end of an operation of the component's that leaves a value -/
theorem vX_0 {p : mE} {n ks : Nat} {v : Int32} (hQ : vX Q M p n r F) (e : p = (0, A, nI ks, v)) (h : gX M A (r :: F)) (ok : mFok (r :: F)) (hn : n ≤ r.st.length) (hks : ks < 8) (x y : Int32) :
    Q (.inl none) (si (si (si (si (si (si M 16 33 x) 16 32 y) 16 38 (nI (mtot F + r.st.length - n))) 53 (mtot F + r.st.length - n) (nI ks)) 16 38 (nI (mtot F + r.st.length - n + 1))) 54 (mtot F + r.st.length - n) v) := by
  have f0 : fr scx M (si (si M 16 33 x) 16 32 y) := fx_got
  have h1 := xFs_cg h.2 ok f0 (fun a k q => .inl q)
  obtain ⟨h2, f2⟩ := x_leaf (v := v) h1 (mFok_tl ok) hn hks
  subst e
  exact hQ.1 rfl _ ⟨sX_cg (sX_cg h.1 f0 (fun a k q => .inl q)) f2 (fun a k q => .inr (.inl q)), h2⟩ (f0.cX1.tr f2.cX3)
theorem vT_0 {p : mE} {n : Nat} {s v : Int32} (hQ : vT Q T p n r F) (e : p = (0, A, s, v)) (h : gT T A (r :: F)) (ok : mFok (r :: F)) (hn : n ≤ r.st.length) (hs : ¬ s = 8) :
    Zm E YX8_gives (d + 2) (si (si T 97 111 s) 97 112 v) [(0, T97), (1, vi (nI n))] 0 [] Q := by
  have f0 : fr scr T (si (si T 97 111 s) 97 112 v) := fr_got
  obtain ⟨h1, h2, h3, h4⟩ := h
  subst e
  have e1 : gi (si (si T 97 111 s) 97 112 v) 97 111 = s := by rw [gi_idx (by decide), gi_self]
  have e2 : gi (si (si T 97 111 s) 97 112 v) 97 112 = v := by rw [gi_self]
  refine tm_gives (tFs_cg h2 ok f0 (fun a k q => .inl q)) ok ((f0.2 97 75 (by unfold scr; omega)).1.trans h3) ((f0.2 97 73 (by unfold scr; omega)).1.trans h4) hn (by rw [e1]; exact hs) (fun T' t f => ?_)
  rw [e1, e2] at t
  exact hQ.1 rfl T' ⟨sT_cg (sT_cg h1 f0 (fun a k q => .inl q)) f (fun a k q => .inr (.inl (.inl q))), t, (f.2 97 75 (by unfold fFT; omega)).1.trans ((f0.2 97 75 (by unfold scr; omega)).1.trans h3), (f.2 97 73 (by unfold fFT; omega)).1.trans ((f0.2 97 73 (by unfold scr; omega)).1.trans h4)⟩ (f0.cT1.tr f.cT3)
/-- an error of the component's -/
theorem vX_err {p : mE} {n m : Nat} (hQ : vX Q M p n r F) (e : p = m_err A m) (h : gX M A (r :: F)) (i : iA A) (ok : mFok (r :: F)) (hm : m < 3) {Q' : zO → zM → Prop} (h1 : ∀ M', Q (.inr (52, 14, 0)) M' → sX M' (a_new A (nI (6 + m)) (26 + m) 0 (-1)) → Q' (.inl (some (vr (some (52, 14, 0))))) M') (h2 : ∀ M', Q (.inr (51, 13, 0)) M' → Q' (.inr (51, 13, 0)) M') : Z E YX1_error (d + 1) M [(0, zX16), (1, vi (nI m))] 0 [] Q' := by
  unfold m_err at e
  refine xA_error h.1 i hm (fun h3 => ?_) (fun M' hl s' e1 e2 f => ?_)
  · rw [if_pos h3] at e
    subst e
    exact h2 _ (hQ.2.2 rfl M h fr.rf)
  · rw [if_neg (by omega)] at e
    subst e
    exact h1 _ (hQ.2.1 rfl M' ⟨s', xFs_cg h.2 ok f (fun a k q => q.elim .inl (fun q => .inr (.inr q)))⟩ e1 e2 f.cX4) s'
/-- an error of the twin's -/
theorem vT_err {p : mE} {n m : Nat} (hQ : vT Q T p n r F) (e : p = m_err A m) (h : gT T A (r :: F)) (i : iA A) (ok : mFok (r :: F)) (hh : mTh (r :: F)) (hm : m < 3) : Zm E YX8_error (d + 3) T [(0, T97), (1, vi (nI (6 + m)))] 0 [] Q := by
  unfold m_err at e
  obtain ⟨h1, h2, h3, h4⟩ := h
  refine tA_error h1 i (by omega) h3 h2 ok hh (fun h5 => ?_) (fun T' hl s' m' t e1 e2 e3 f => ?_) (fun T' r' F' hl s' m' t f => ?_)
  · rw [if_pos h5] at e
    subst e
    have f : fr (fun a k => a = 97 ∧ k = 75) T (si T 97 75 1) := fr.si ⟨rfl, rfl⟩
    exact hQ.2.2 rfl _ (sT_cg h1 f (fun a k q => .inr (.inr q))) (tFs_cg h2 ok f (fun a k q => .inr (.inr (.inr q)))) (gi_self ..) ((gi_idx (by decide)).trans h4) cT_75
  · rw [if_neg (by omega)] at e
    subst e
    rw [show 6 + m + 20 = 26 + m by omega] at s'
    exact (hQ.2.1 rfl).1 T' m' s' t ((f.2 97 75 (by unfold orP fUT fFT hpT; omega)).1.trans h3) e1 e2 e3 f.cT4
  · rw [if_neg (by omega)] at e
    subst e
    rw [show 6 + m + 20 = 26 + m by omega] at s'
    exact (hQ.2.1 rfl).2 T' r' F' m' ⟨s', t, (f.2 97 75 (by unfold orP fFT hpT; omega)).1.trans h3, (f.2 97 73 (by unfold orP fFT hpT; omega)).1.trans h4⟩ f.cT5
end
