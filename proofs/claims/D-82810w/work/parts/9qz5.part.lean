/-! THE COMPONENT's PARSER: a part of a function's text that is a statement -/
section
variable {E : zE} {pp a lf n : Nat} {c : Nat → Int32} {dg : Int32 → List Int32} {K o dS : Nat}
variable {M0 B M M' : zM} {τ0 τB τ τ' : Nat → Nat} {fs0 fs : List Nat} {s0 s : pS} {Dn : Nat → Prop} {cz cu f lp ld N lo : Nat} {ps ds : List (Option zP)} {x : Option zP}
/-- one part more -/
theorem wF.a1 (h : wF lo M τ f lp ld ps ds) (w : wL lo M' τ' lp (ps ++ [x])) (g : fg (lP M lp) M M') (ag : ∀ x, x < zsz M → τ' x = τ x) (la : lA M' lp = lA M lp ∨ zsz M ≤ lA M' lp) (hz : 190 ≤ zsz M) : wF lo M' τ' f lp ld (ps ++ [x]) ds ∧ lC M' ld = lC M ld ∧ lA M' ld = lA M ld ∧ ∀ k, gi M' f k = gi M f k ∧ gr M' f k = gr M f k := by
  obtain ⟨h1, h2, h3, h4, h5, h6, h7⟩ := h
  have z := g.1.1
  have l1 := h3.lz hz
  have l2 := h4.lz hz
  have nf : ∀ k, ¬ lP M lp f k := fun k y => by
    rcases y with y | ⟨y, y'⟩
    · have := h3.2.1.2; rw [← y] at this; omega
    · have := (h3.2.2 (by omega)).2; rw [← y] at this; omega
  have nl : ∀ k, ¬ lP M lp ld k := fun k y => by rcases y with y | y; exact h5 y.symm; exact h6.2 y.1
  have nA : ∀ k, lA M ld < 16 ∨ ¬ lP M lp (lA M ld) k := fun k => by
    by_cases y : lA M ld < 16
    · exact .inl y
    · refine .inr fun w => ?_
      rcases w with w | w
      · exact h6.1 w.symm
      · exact h7 (by rw [← w.1]; exact w.2) w.1.symm
  have w2 := h4.k2 g nl nA ag
  have gf : ∀ k, gi M' f k = gi M f k ∧ gr M' f k = gr M f k := fun k => ⟨g.gi h1.2.1 (nf k), g.gr h1.2.1 (nf k)⟩
  refine ⟨⟨⟨h1.1, by omega, (ag f h1.2.1).trans h1.2.2⟩, ⟨(gf 2).2.trans h2.1, (gf 3).2.trans h2.2⟩, w, w2.1, h5, ?_, ?_⟩, w2.2.2, w2.2.1, gf⟩
  · rw [w2.2.1]
    rcases la with y | y
    · rw [y]; exact h6
    · exact ⟨h6.1, by omega⟩
  · rw [w2.2.1]
    rcases la with y | y
    · rw [y]; exact h7
    · intro _; omega
theorem wF.a2 (h : wF lo M τ f lp ld ps ds) (w : wL lo M' τ' ld (ds ++ [x])) (g : fg (lP M ld) M M') (ag : ∀ x, x < zsz M → τ' x = τ x) (la : lA M' ld = lA M ld ∨ zsz M ≤ lA M' ld) (hz : 190 ≤ zsz M) : wF lo M' τ' f lp ld ps (ds ++ [x]) ∧ lC M' lp = lC M lp ∧ lA M' lp = lA M lp ∧ ∀ k, gi M' f k = gi M f k ∧ gr M' f k = gr M f k := by
  obtain ⟨h1, h2, h3, h4, h5, h6, h7⟩ := h
  have z := g.1.1
  have l1 := h3.lz hz
  have l2 := h4.lz hz
  have nf : ∀ k, ¬ lP M ld f k := fun k y => by
    rcases y with y | ⟨y, y'⟩
    · have := h4.2.1.2; rw [← y] at this; omega
    · have := (h4.2.2 (by omega)).2; rw [← y] at this; omega
  have nl : ∀ k, ¬ lP M ld lp k := fun k y => by rcases y with y | y; exact h5 y; exact h6.1 y.1
  have nA : ∀ k, lA M lp < 16 ∨ ¬ lP M ld (lA M lp) k := fun k => by
    by_cases y : lA M lp < 16
    · exact .inl y
    · refine .inr fun w => ?_
      rcases w with w | w
      · exact h6.2 w.symm
      · exact h7 (by omega) w.1
  have w2 := h3.k2 g nl nA ag
  have gf : ∀ k, gi M' f k = gi M f k ∧ gr M' f k = gr M f k := fun k => ⟨g.gi h1.2.1 (nf k), g.gr h1.2.1 (nf k)⟩
  refine ⟨⟨⟨h1.1, by omega, (ag f h1.2.1).trans h1.2.2⟩, ⟨(gf 2).2.trans h2.1, (gf 3).2.trans h2.2⟩, w2.1, w, h5, ?_, ?_⟩, w2.2.2, w2.2.1, gf⟩
  · rw [w2.2.1]
    rcases la with y | y
    · rw [y]; exact h6
    · exact ⟨by omega, h6.2⟩
  · rw [w2.2.1]
    rcases la with y | y
    · rw [y]; exact h7
    · intro _; omega
/-- the arrays of the lists were made since B -/
def lAB (B M : zM) (lp ld : Nat) : Prop := (16 ≤ lA M lp → zsz B ≤ lA M lp) ∧ (16 ≤ lA M ld → zsz B ≤ lA M ld)
theorem pEr.wk {tz tu ez eu : Nat} {w : Nat × Nat} {ou : zO} (h : pEr lf ez eu τ fs M s w ou M') (h1 : tz ≤ ez) (h2 : tu ≤ eu) : pEr lf tz tu τ fs M s w ou M' := ⟨h.1, by have := h.2.1; omega, by have := h.2.2; omega⟩
theorem y_pst {tz tu d : Nat} {Q : zO → zM → Prop} {ro : Option pT} (hS : cSm E pp a lf n c YX9_statement [] dS o (pStm (zOf n c dg) K ro)) (hro : okO ro) (hd : dS ≤ d ∧ 12 ≤ d) (R : rk pp a lf n c M0 τ0 fs0 s0 Dn (N, 0, 0) o M τ fs s cz cu) (hz : 91 + tz ≤ cz) (hu : 1801 + tu ≤ cu) (h8 : 48 + 8 * ps.length ≤ cu) (hl : ps.length < 80000) (W : wF (zsz M0) M τ f lp ld ps ds) (hf : fs[N]? = some f) (hK : kg f lp ld τB B τ M) (hA : lAB B M lp ld) (hB : zsz B ≤ zsz M) (h11 : isK (zOf n c dg) 11 s = false)
    (hy : ∀ y s', pStm (zOf n c dg) K ro (N, 0, 0) s = .ok (y, s') → rS (N, 0, 0) s y s' → ∀ M' τ' fs' cu' p, fs <+: fs' → rk pp a lf n c M0 τ0 fs0 s0 Dn (N, 0, 0) o M' τ' fs' s' (cz + 8) cu' → (cu' + 4 * lC M' lp = cu + 199 + 4 * lC M lp ∧ lC M' ld = lC M ld) → wF (zsz M0) M' τ' f lp ld (ps ++ [some p]) ds → mvr τ M τ' M' → (∃ D o m h k, szT n c s s' D o m h k ∧ sNd (nS (zsz M0) (zsz M') τ') (nW (zsz M0) (zsz M') τ') M' (0, 0) (fun b => zsz M0 ≤ b ∧ b < zsz M') D o m h k p y) → kg f lp ld τB B τ' M' → lAB B M' lp ld → fs'[N]? = some f → (gi M' f 6 = gi M f 6 ∧ gi M' f 8 = gi M f 8) → Q (.inl none) M')
    (hn : ∀ w, pStm (zOf n c dg) K ro (N, 0, 0) s = .error w → ∀ q M', pEr lf tz tu τ0 fs0 M0 s0 w (.inr (q, 12, 0)) M' → Q (.inr (q, 12, 0)) M') : Z E YX9_part (d + 1) M [(0, vr (some (pp, 8, 0)))] 0 [] Q := by
  have z := R.z0
  have cur := R.ps.cur (f := f) hf
  refine iX9_part_0 M pp ⟨a, R.ps.pt, ?_⟩
  have key : ∃ b1 : Nat, (gr M pp 3) = some (b1, 10, 0) ∧ (Z E YX9_statement d M (zargs 0 [vr (some (pp, 8, 0))]) 0 [] (zafter E YX9_part (d + 1) [] 20 3 [vr (gr M b1 2)] Q)) := by
    refine ⟨f, cur, ?_⟩
    rw [W.2.1.1]
    refine hS d _ M τ fs s (N, 0, 0) hd.1 R.ps (fun v1 s1 e1 M1 τ1 fs1 p1 pd n1 => ?_) (fun w e ou M' pe => ?_)
    rotate_left
    · obtain ⟨q, rfl⟩ := fO_inr pe.1
      exact ZT.out (nohand rfl) (hn w e q M' (R.erg pe (by omega) (by omega)))
    have u1 := ok_stm hro s v1 s1 e1
    have R1 := R.cl pd u1.1
    have k1 := pd.kp
    obtain ⟨b1, t1, q1⟩ := p1
    have q0 : q1 = 0 := n1.1.1
    subst q0
    show Z E YX9_part (d + 1) M1 [] 23 [vr (some (b1, t1, 0)), vr (some (lp, 11, 0))] Q
    refine sX9_part_23 M1 _ _ ⟨lp, rfl, ?_⟩
    have W1 := W.k k1 z.1
    obtain ⟨n0, D1, o1, m1, h1, y1, sz1, x1⟩ := n1
    have z1 := k1.z
    have la1 := (k1.wl W.2.2.1 z.1).2
    have la2 := (k1.wl W.2.2.2.1 z.1).2
    refine R1.ladd (cz' := cz + 8) W1.1.2.2.1 (by omega) (fun p e => by cases e; exact sto_n n0.2.1 n0.2.2) (by omega) (by omega) (by omega) (fun M2 τ2 cu2 R2 u2 w2 m12 ag2 f2 la => ?_)
    show Z E YX9_part (d + 1) M2 [] 26 [vi 1] Q
    refine sX9_part_26 M2 _ ?_
    have W2 := W1.1.a1 w2 f2 ag2 la R1.ps.z190
    have z2 := f2.1.1
    have c3 : 190 ≤ f ∧ f < zsz M ∧ τ f = 3 := ⟨by have := W.1.1; omega, W.1.2⟩
    have fs1' : fs1[N]? = some f := pre_get pd.2.2.2.1 hf
    refine hy v1 s1 e1 u1 M2 τ2 fs1 cu2 (b1, t1, 0) pd.2.2.2.1 R2 ⟨by have := W1.2.1; omega, W2.2.1.trans W1.2.2⟩ W2.1 (k1.mvr.tr m12) ⟨D1, o1, m1, h1, y1, sz1, (x1.mv m12 R.ps.z190 z.2).up (fun b y => ⟨by omega, by omega⟩) (Nat.le_refl _) (Nat.le_refl _) (Nat.le_refl _) (Nat.le_refl _) (Nat.le_refl _)⟩ ((hK.k k1).st f2 (fun x k hx y => ?_) (fun x hx _ _ => ag2 x (by omega))) ⟨fun y => ?_, fun y => ?_⟩ fs1' ⟨(W2.2.2.2 6).1.trans (k1.mvr.cd c3 (by decide) (by decide)).1, (W2.2.2.2 8).1.trans (k1.mvr.cd c3 (by decide) (by decide)).1⟩
    · rcases y with y | ⟨y, y'⟩
      · exact .inr (.inr (.inl y))
      · rw [la1.1] at y
        have := hA.1 (by omega)
        omega
    · rcases la with w | w
      · rw [w, la1.1] at y ⊢; exact hA.1 y
      · omega
    · rw [W2.2.2.1, la2.1] at y ⊢
      exact hA.2 y
  by_cases h2 : gi M a 3 = 2
  · rw [if_pos h2]
    have e11 := tk_k (dg := dg) R.ps.tz h2 11
    by_cases h6 : gi M a 6 = 11
    · rw [e11, decide_eq_true h6] at h11; cases h11
    · rw [if_neg h6]
      exact key
  · rw [if_neg h2]
    exact key
end
