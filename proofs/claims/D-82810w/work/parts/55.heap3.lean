/-! OBJECTS AND PROPERTIES: the component's setOwn -/
def x_app (M : zM) (o p : Nat) (x s v : Int32) : zM :=
  let B := si (si (si (si M 46 p x) 47 p (-1)) 16 29 (gi M 16 29 + 1)) 50 p (gi M 16 29 + 1)
  let C := if gi M 43 o = -1 then si B 43 o (nI p) else si B 47 (gi M 44 o).toNatClampNeg (nI p)
  si (si (si C 44 o (nI p)) 48 p s) 49 p v
theorem x_app_47 (M : zM) (o p : Nat) (x s v : Int32) (q : Nat) : gi (x_app M o p x s v) 47 q = if gi M 43 o = -1 then (if q = p then -1 else gi M 47 q) else if q = (gi M 44 o).toNatClampNeg then nI p else if q = p then -1 else gi M 47 q := by
  unfold x_app
  split <;> simp [gi_si]
theorem x_app_43 (M : zM) (o p : Nat) (x s v : Int32) (q : Nat) : gi (x_app M o p x s v) 43 q = if gi M 43 o = -1 ∧ q = o then nI p else gi M 43 q := by
  unfold x_app
  split
  · rename_i h; simp [gi_si, h]
  · rename_i h; simp [gi_si, h]
theorem x_app_44 (M : zM) (o p : Nat) (x s v : Int32) (q : Nat) : gi (x_app M o p x s v) 44 q = if q = o then nI p else gi M 44 q := by
  unfold x_app
  split <;> simp [gi_si]
theorem x_app_new (M : zM) (o p : Nat) (x s v : Int32) (q : Nat) : gi (x_app M o p x s v) 46 q = (if q = p then x else gi M 46 q) ∧ gi (x_app M o p x s v) 48 q = (if q = p then s else gi M 48 q) ∧ gi (x_app M o p x s v) 49 q = (if q = p then v else gi M 49 q) ∧ gi (x_app M o p x s v) 50 q = (if q = p then gi M 16 29 + 1 else gi M 50 q) ∧ gi (x_app M o p x s v) 16 29 = gi M 16 29 + 1 := by
  unfold x_app
  split <;> simp [gi_si]
theorem x_app_16 (M : zM) (o p : Nat) (x s v : Int32) {k : Nat} (hk : k ≠ 29) : gi (x_app M o p x s v) 16 k = gi M 16 k := by
  unfold x_app
  split <;> simp [gi_si, hk]
theorem x_app_fr (M : zM) (o p : Nat) (x s v : Int32) : fr fX M (x_app M o p x s v) := by
  have h43 : fX 43 o := by unfold fX; omega
  have h44 : fX 44 o := by unfold fX; omega
  have h46 : ∀ q, fX 46 q := fun q => by unfold fX; omega
  have h47 : ∀ q, fX 47 q := fun q => by unfold fX; omega
  have h48 : ∀ q, fX 48 q := fun q => by unfold fX; omega
  have h49 : ∀ q, fX 49 q := fun q => by unfold fX; omega
  have h50 : ∀ q, fX 50 q := fun q => by unfold fX; omega
  have h16 : fX 16 29 := by unfold fX; omega
  unfold x_app
  split
  · exact ((((((((fr.si (h46 _)).tr (fr.si (h47 _))).tr (fr.si h16)).tr (fr.si (h50 _))).tr (fr.si h43)).tr (fr.si h44)).tr (fr.si (h48 _))).tr (fr.si (h49 _)))
  · exact ((((((((fr.si (h46 _)).tr (fr.si (h47 _))).tr (fr.si h16)).tr (fr.si (h50 _))).tr (fr.si (h47 _))).tr (fr.si h44)).tr (fr.si (h48 _))).tr (fr.si (h49 _)))
/-- the component's cells behind an addition are the twin's -/
theorem hX_app {M M0 T : zM} {ob : Nat} {ps : Nat → List Nat} {p : Nat} {fl : List Nat} (h : hT T ob ps (p :: fl)) (g : hX M T ob ps (p :: fl)) {o : Nat} (ho : o < ob) (x s v : Int32)
    (h0 : ∀ a k, ¬ (a = 16 ∧ (k = 27 ∨ k = 28)) → gi M0 a k = gi M a k)
    (hs : ∃ (sp : List Nat) (m : Nat), fl = sp ++ List.range' m (3000 - m) ∧ m ≤ 3000 ∧ chn (gi M 47) (-1) (gi M0 16 28) sp ∧ gi M0 16 27 = nI m) :
    hX (x_app M0 o p x s v) (m_app T o p x s v) ob (fun i => if i = o then ps o ++ [p] else ps i) fl := by
  obtain ⟨⟨a1, a2⟩, ⟨g1, g2, g3, g4, g5⟩, H⟩ := h
  obtain ⟨⟨b1, b2⟩, -, b3, b4⟩ := g
  obtain ⟨c1, c2, c3, c4, c5⟩ := H o ho
  have e : ∀ a k, a ≠ 16 → gi M0 a k = gi M a k := fun a k ha => h0 a k (fun q => ha q.1)
  have e47 : gi M0 47 = gi M 47 := funext fun k => e 47 k (by decide)
  have hfr := x_app_fr M0 o p x s v
  obtain ⟨t1, t2, t3, t4, t5⟩ := b3 o ho
  have hpo : ∀ i, i < ob → p ∉ ps i := fun i hi hm => ((H i hi).2.2.2.1 p hm).2 List.mem_cons_self
  have hlast : gi T 144 o = -1 ↔ gi T 143 o = -1 := by
    rw [c2]
    rcases lst_or (ps o) with ⟨e1, e2⟩ | ⟨l1, z, e1, e2⟩
    · rw [e1] at c1
      exact ⟨fun _ => c1, fun _ => e2⟩
    · have hzb : z < 3000 := (c4 z (by rw [e1]; simp)).1
      constructor
      · intro q; rw [e2, nn_m1 (by omega)] at q; exact q.elim
      · intro q
        rw [q] at c1
        cases l1 with
        | nil =>
          rw [e1] at c1
          have := c1.1
          rw [nn_1m (by omega)] at this; exact this.elim
        | cons y l1 =>
          have hyb : y < 3000 := (c4 y (by rw [e1]; simp)).1
          rw [e1] at c1
          have := c1.1
          rw [nn_1m (by omega)] at this; exact this.elim
  have E43 : gi M0 43 o = gi T 143 o := (e 43 o (by decide)).trans t4
  have E44 : gi M0 44 o = gi T 144 o := (e 44 o (by decide)).trans t5
  have n47 : ∀ q, gi M 47 q = gi T 149 q → gi (x_app M0 o p x s v) 47 q = gi (m_app T o p x s v) 149 q := fun q hq => by
    rw [x_app_47, m_app_149, E43, E44, e47]
    by_cases hl : gi T 144 o = -1
    · rw [if_pos (hlast.mp hl), if_pos hl, hq]
    · rw [if_neg (fun z => hl (hlast.mpr z)), if_neg hl, hq]
  have p47 : gi (x_app M0 o p x s v) 47 p = gi (m_app T o p x s v) 149 p := by
    rw [x_app_47, m_app_149, E43, E44]
    by_cases hl : gi T 144 o = -1
    · rw [if_pos (hlast.mp hl), if_pos hl, if_pos rfl, if_pos rfl]
    · rw [if_neg (fun z => hl (hlast.mpr z)), if_neg hl, if_pos rfl, if_pos rfl]
  obtain ⟨m1, m2, m3, m4⟩ := m_app_97 T o p x s v
  have E29 : gi M0 16 29 = gi T 97 86 := (h0 16 29 (by omega)).trans b2
  refine ⟨⟨?_, ?_⟩, ?_, fun i hi => ?_, fun i hi q hq => ?_⟩
  · rw [(hfr.2 16 26 (by unfold fX; omega)).1, h0 16 26 (by omega)]; exact b1
  · rw [(x_app_new M0 o p x s v 0).2.2.2.2, m4, E29]
  · obtain ⟨sp, m, s1, s2, s3, s4⟩ := hs
    refine ⟨sp, m, s1, s2, ?_, ?_⟩
    · rw [x_app_16 _ _ _ _ _ _ (by decide)]
      refine chn_cg (fun q hq => ?_) s3
      have hqf : q ∈ fl := by rw [s1]; simp [hq]
      have hqp : ¬ q = p := fun z => (List.nodup_cons.mp g5).1 (z ▸ hqf)
      rw [x_app_47, E43, E44, e47]
      by_cases hl : gi T 144 o = -1
      · rw [if_pos (hlast.mp hl), if_neg hqp]
      · rw [if_neg (fun z => hl (hlast.mpr z)), if_neg hqp]
        rcases lst_or (ps o) with ⟨-, e2⟩ | ⟨l1, z, e1, e2⟩
        · exact absurd (c2.trans e2) hl
        · have hzo : z ∈ ps o := by rw [e1]; simp
          have hzb := (c4 z hzo).1
          rw [c2, e2, nn_cl (by omega), if_neg (show ¬ q = z from fun w => (c4 z hzo).2 (List.mem_cons_of_mem _ (by rw [← w]; exact hqf)))]
    · rw [x_app_16 _ _ _ _ _ _ (by decide)]; exact s4
  · obtain ⟨i1, i2, i3, i4, i5⟩ := b3 i hi
    refine ⟨?_, ?_, ?_, ?_, ?_⟩
    · rw [(hfr.2 38 i (by unfold fX; omega)).1, m_app_oth _ _ _ _ _ _ (by unfold fT; omega), e 38 i (by decide)]; exact i1
    · rw [(hfr.2 41 i (by unfold fX; omega)).1, m_app_oth _ _ _ _ _ _ (by unfold fT; omega), e 41 i (by decide)]; exact i2
    · rw [(hfr.2 42 i (by unfold fX; omega)).1, m_app_oth _ _ _ _ _ _ (by unfold fT; omega), e 42 i (by decide)]; exact i3
    · rw [x_app_43, m_app_143, E43, e 43 i (by decide), i4]
      by_cases hl : gi T 144 o = -1
      · by_cases hio : i = o
        · rw [if_pos ⟨hlast.mp hl, hio⟩, if_pos ⟨hl, hio⟩]
        · rw [if_neg (fun z => hio z.2), if_neg (fun z => hio z.2)]
      · rw [if_neg (fun z => hl (hlast.mpr z.1)), if_neg (fun z => hl z.1)]
    · rw [x_app_44, m_app_144, e 44 i (by decide), i5]
  · dsimp only at hq
    have two : (q = p) ∨ (q ≠ p ∧ ∃ j, j < ob ∧ q ∈ ps j) := by
      by_cases hio : i = o
      · rw [if_pos hio] at hq
        rcases List.mem_append.mp hq with z | z
        · exact .inr ⟨fun w => hpo o ho (w ▸ z), o, ho, z⟩
        · exact .inl (by simpa using z)
      · rw [if_neg hio] at hq
        exact .inr ⟨fun w => hpo i hi (w ▸ hq), i, hi, hq⟩
    obtain ⟨n1, n2, n3, n4, -⟩ := x_app_new M0 o p x s v q
    obtain ⟨k1, k2, k3, k4⟩ := m_app_new T o p x s v q
    rcases two with rfl | ⟨hqp, j, hj, hqj⟩
    · rw [n1, n2, n3, n4, k1, k2, k3, k4, E29]
      simp only [if_true]
      exact ⟨trivial, p47, trivial, trivial, trivial⟩
    · obtain ⟨w1, w2, w3, w4, w5⟩ := b4 j hj q hqj
      rw [n1, n2, n3, n4, k1, k2, k3, k4, if_neg hqp, if_neg hqp, if_neg hqp, if_neg hqp, if_neg hqp, if_neg hqp, if_neg hqp, if_neg hqp, e 46 q (by decide), e 48 q (by decide), e 49 q (by decide), e 50 q (by decide)]
      exact ⟨w1, n47 q w2, w3, w4, w5⟩
section
variable {E : zE} {d : Nat} {T M : zM} {Q : zO → zM → Prop} {ob : Nat} {ps : Nat → List Nat} {fl : List Nat}
theorem hX_fnd (g : hX M T ob ps fl) {o : Nat} (ho : o < ob) (x : Int32) : fnd (gi M 46) x (ps o) = fnd (gi T 145) x (ps o) := fnd_cg fun q hq => (g.2.2.2 o ho q hq).1
/-- the component's cells behind a value's change are the twin's -/
theorem hX_put (h : hT T ob ps fl) (g : hX M T ob ps fl) {o : Nat} (ho : o < ob) {p : Nat} (hp : p ∈ ps o) (s v : Int32) : hX (si (si M 48 p s) 49 p v) (m_put T p s v) ob ps fl := by
  have e : ∀ a k, a ≠ 48 → a ≠ 49 → gi (si (si M 48 p s) 49 p v) a k = gi M a k := fun a k h1 h2 => by rw [gi_oth h2, gi_oth h1]
  have f : ∀ a k, a ≠ 146 → a ≠ 147 → gi (m_put T p s v) a k = gi T a k := fun a k h1 h2 => by unfold m_put; rw [gi_oth h2, gi_oth h1]
  obtain ⟨⟨b1, b2⟩, ⟨sp, m, s1, s2, s3, s4⟩, b3, b4⟩ := g
  have e47 : gi (si (si M 48 p s) 49 p v) 47 = gi M 47 := funext fun k => e 47 k (by decide) (by decide)
  refine ⟨⟨(e _ _ (by decide) (by decide)).trans b1, ?_⟩, ⟨sp, m, s1, s2, ?_, (e _ _ (by decide) (by decide)).trans s4⟩, fun i hi => ?_, fun i hi q hq => ?_⟩
  · rw [e _ _ (by decide) (by decide), f _ _ (by decide) (by decide)]; exact b2
  · rw [e47, e _ _ (by decide) (by decide)]; exact s3
  · obtain ⟨i1, i2, i3, i4, i5⟩ := b3 i hi
    rw [e _ _ (by decide) (by decide), e _ _ (by decide) (by decide), e _ _ (by decide) (by decide), e _ _ (by decide) (by decide), e _ _ (by decide) (by decide), f _ _ (by decide) (by decide), f _ _ (by decide) (by decide), f _ _ (by decide) (by decide), f _ _ (by decide) (by decide), f _ _ (by decide) (by decide)]
    exact ⟨i1, i2, i3, i4, i5⟩
  · obtain ⟨w1, w2, w3, w4, w5⟩ := b4 i hi q hq
    rw [e 46 _ (by decide) (by decide), e 47 _ (by decide) (by decide), e 50 _ (by decide) (by decide), f 145 _ (by decide) (by decide), f 149 _ (by decide) (by decide), f 148 _ (by decide) (by decide)]
    refine ⟨w1, w2, ?_, ?_, w5⟩
    · unfold m_put; simp [gi_si, w3]
    · unfold m_put; simp [gi_si, w4]
/-- setOwn of the component -/
theorem xm_set {o jx ks : Nat} {v : Int32} (hw : cw M) (h : hT T ob ps fl) (g : hX M T ob ps fl) (ho : o < ob) (hx : jx < 32768) (hs : ks < 8)
    (h1 : ∀ p M', fnd (gi T 145) (nI jx) (ps o) = nI p → p ∈ ps o → gi T 145 p = nI jx → hX M' (m_put T p (nI ks) v) ob ps fl → fr fX M M' → Q (.inl none) M')
    (h2 : fnd (gi T 145) (nI jx) (ps o) = -1 → fl = [] → Q (.inr (51, 13, 0)) M)
    (h3 : ∀ p fl' M', fnd (gi T 145) (nI jx) (ps o) = -1 → fl = p :: fl' → hX M' (m_app T o p (nI jx) (nI ks) v) ob (fun i => if i = o then ps o ++ [p] else ps i) fl' → fr fX M M' → Q (.inl none) M') :
    Z E YX1_setOwn (d + 1) M [(0, zX16), (1, vi (nI o)), (2, vi (nI jx)), (3, vi (nI ks)), (4, vi v)] 0 [] Q := by
  have ha2 := h.1.2
  have hc4 := (h.2.2 o ho).2.2.2.1
  have g4 := h.2.1.2.2.2.1
  have g2 := h.2.1.2.1
  have hch := hX_chn h g ho
  refine sX1_setOwn_0 M _ _ _ _ hw ?_
  refine xm_own (l := ps o) hw (by simp (disch := omega) only [nn_add, nn_addl, nn_ladd, nn_mul, nn_lmul, nn_mull, nn_sub, nn_subl, nn_lsub, nn_lt, nn_le, nn_eq, nn_ltl, nn_llt, nn_lel, nn_lle, nn_eql, nn_leq, nn_m1, nn_1m, nn_ltm, nn_mlt, nn_mle, nn_lem, nn_cl, nn_in, nn_ns, nn_ns2, nn_nb, nn_nb2, nn_s1, nn_s2, nn_b1, nn_b2]; omega) (by rw [nn_cl (by omega)]; exact hch) (fun q hq => (hc4 q hq).1) (fun p hp => ?_)
  rw [hX_fnd g ho] at hp
  show Z E YX1_setOwn (d + 1) M [(0, zX16), (1, vi (nI o)), (2, vi (nI jx)), (3, vi (nI ks)), (4, vi v)] 6 [vi p] Q
  have fin : ∀ (p : Nat) (fl' : List Nat) (M0 : zM), fl = p :: fl' → fnd (gi T 145) (nI jx) (ps o) = -1 → (∀ a k, ¬ (a = 16 ∧ (k = 27 ∨ k = 28)) → gi M0 a k = gi M a k) → fr fX M M0 → (∃ (sp : List Nat) (m : Nat), fl' = sp ++ List.range' m (3000 - m) ∧ m ≤ 3000 ∧ chn (gi M 47) (-1) (gi M0 16 28) sp ∧ gi M0 16 27 = nI m) → Q (.inl none) (x_app M0 o p (nI jx) (nI ks) v) := fun p fl' M0 e1 e2 e3 e4 e5 => by
    subst e1
    exact h3 p fl' _ e2 rfl (hX_app h g ho _ _ _ e3 e5) (e4.tr (x_app_fr M0 o p _ _ _))
  have at68 : ∀ (p : Nat) (M0 : zM), cw M0 → p < 3000 → (gi M0 43 o = -1 ∨ vp_in (gi M0 44 o) 3000) → Q (.inl none) (x_app M0 o p (nI jx) (nI ks) v) → Z E YX1_setOwn (d + 1) M0 [(0, zX16), (1, vi (nI o)), (2, vi (nI jx)), (3, vi (nI ks)), (4, vi v), (5, vi (nI p))] 68 [] Q := fun p M0 w0 hp3 hl k => by
    unfold x_app at k
    dsimp only at k
    have at148 : ∀ C : zM, cw C → Q (.inl none) (si (si C 48 p (nI ks)) 49 p v) → Z E YX1_setOwn (d + 1) C [(0, zX16), (3, vi (nI ks)), (4, vi v), (5, vi (nI p))] 148 [] Q := fun C wC kC => by
      refine sX1_setOwn_148 C _ _ _ wC ?_
      simp (disch := omega) only [nn_add, nn_addl, nn_ladd, nn_mul, nn_lmul, nn_mull, nn_sub, nn_subl, nn_lsub, nn_lt, nn_le, nn_eq, nn_ltl, nn_llt, nn_lel, nn_lle, nn_eql, nn_leq, nn_m1, nn_1m, nn_ltm, nn_mlt, nn_mle, nn_lem, nn_cl, nn_in, nn_ns, nn_ns2, nn_nb, nn_nb2, nn_s1, nn_s2, nn_b1, nn_b2]
      exact ⟨hp3, hp3, kC⟩
    refine sX1_setOwn_68 M0 _ _ _ _ _ w0 ?_
    simp (disch := omega) only [nn_add, nn_addl, nn_ladd, nn_mul, nn_lmul, nn_mull, nn_sub, nn_subl, nn_lsub, nn_lt, nn_le, nn_eq, nn_ltl, nn_llt, nn_lel, nn_lle, nn_eql, nn_leq, nn_m1, nn_1m, nn_ltm, nn_mlt, nn_mle, nn_lem, nn_cl, nn_in, nn_ns, nn_ns2, nn_nb, nn_nb2, nn_s1, nn_s2, nn_b1, nn_b2]
    refine ⟨hp3, hp3, hp3, by omega, ?_⟩
    by_cases h43 : gi M0 43 o = -1
    · rw [if_pos h43] at k ⊢
      exact ⟨by omega, by omega, at148 _ (((((w0.si).si).si).si).si).si k⟩
    · rw [if_neg h43] at k ⊢
      exact ⟨by omega, hl.resolve_left h43, by omega, at148 _ (((((w0.si).si).si).si).si).si k⟩
  have hlin : ∀ M0 : zM, (∀ a k, ¬ (a = 16 ∧ (k = 27 ∨ k = 28)) → gi M0 a k = gi M a k) → (gi M0 43 o = -1 ∨ vp_in (gi M0 44 o) 3000) := fun M0 e => by
    rw [e 43 o (by omega), e 44 o (by omega), (g.2.2.1 o ho).2.2.2.1, (g.2.2.1 o ho).2.2.2.2]
    obtain ⟨c1, c2, -⟩ := h.2.2 o ho
    rw [c2]
    rcases lst_or (ps o) with ⟨e1, e2⟩ | ⟨l1, z, e1, e2⟩
    · rw [e1] at c1; exact .inl c1
    · right
      have := (hc4 z (by rw [e1]; simp)).1
      rw [e2]
      simp (disch := omega) only [nn_add, nn_addl, nn_ladd, nn_mul, nn_lmul, nn_mull, nn_sub, nn_subl, nn_lsub, nn_lt, nn_le, nn_eq, nn_ltl, nn_llt, nn_lel, nn_lle, nn_eql, nn_leq, nn_m1, nn_1m, nn_ltm, nn_mlt, nn_mle, nn_lem, nn_cl, nn_in, nn_ns, nn_ns2, nn_nb, nn_nb2, nn_s1, nn_s2, nn_b1, nn_b2]
      exact this
  refine sX1_setOwn_6 M _ _ _ _ _ hw ?_
  rcases fnd_or (gi T 145) (nI jx) (ps o) with ⟨f1, f2⟩ | ⟨l1, q, l2, f1, f2, f3, f4⟩
  · rw [hp, f1, if_pos rfl]
    obtain ⟨sp, m, s1, s2, s3, s4⟩ := g.2.1
    cases sp with
    | nil =>
      rw [show gi M 16 28 = -1 from s3, if_pos rfl, s4]
      by_cases hm : m = 3000
      · subst hm
        rw [if_pos (by decide)]
        exact h2 f1 (by rw [s1]; rfl)
      · rw [if_neg (by simp (disch := omega) only [nn_add, nn_addl, nn_ladd, nn_mul, nn_lmul, nn_mull, nn_sub, nn_subl, nn_lsub, nn_lt, nn_le, nn_eq, nn_ltl, nn_llt, nn_lel, nn_lle, nn_eql, nn_leq, nn_m1, nn_1m, nn_ltm, nn_mlt, nn_mle, nn_lem, nn_cl, nn_in, nn_ns, nn_ns2, nn_nb, nn_nb2, nn_s1, nn_s2, nn_b1, nn_b2]; exact hm)]
        simp (disch := omega) only [nn_add, nn_addl, nn_ladd, nn_mul, nn_lmul, nn_mull, nn_sub, nn_subl, nn_lsub, nn_lt, nn_le, nn_eq, nn_ltl, nn_llt, nn_lel, nn_lle, nn_eql, nn_leq, nn_m1, nn_1m, nn_ltm, nn_mlt, nn_mle, nn_lem, nn_cl, nn_in, nn_ns, nn_ns2, nn_nb, nn_nb2, nn_s1, nn_s2, nn_b1, nn_b2]
        have e3 : ∀ a k, ¬ (a = 16 ∧ (k = 27 ∨ k = 28)) → gi (si M 16 27 (nI (m + 1))) a k = gi M a k := fun a k hk => by
          rw [gi_si]
          by_cases ha : a = 16
          · rw [if_pos ha, if_neg (fun z => hk ⟨ha, .inl z⟩)]
          · rw [if_neg ha]
        have hfl : fl = m :: List.range' (m + 1) (3000 - (m + 1)) := by
          rw [s1, List.nil_append, show 3000 - m = (3000 - (m + 1)) + 1 by omega, List.range'_succ]
        refine at68 m _ hw.si (by omega) (hlin _ e3) (fin m _ _ hfl f1 e3 (fr.si (by unfold fX; omega)) ⟨[], m + 1, rfl, by omega, ?_, gi_self ..⟩)
        rw [gi_idx (by decide)]; exact s3
    | cons p sp =>
      have hp3 : p < 3000 := g4 p (by rw [s1]; simp)
      rw [s3.1]
      simp (disch := omega) only [nn_add, nn_addl, nn_ladd, nn_mul, nn_lmul, nn_mull, nn_sub, nn_subl, nn_lsub, nn_lt, nn_le, nn_eq, nn_ltl, nn_llt, nn_lel, nn_lle, nn_eql, nn_leq, nn_m1, nn_1m, nn_ltm, nn_mlt, nn_mle, nn_lem, nn_cl, nn_in, nn_ns, nn_ns2, nn_nb, nn_nb2, nn_s1, nn_s2, nn_b1, nn_b2]
      rw [if_neg (fun f => f)]
      have e3 : ∀ a k, ¬ (a = 16 ∧ (k = 27 ∨ k = 28)) → gi (si M 16 28 (gi M 47 p)) a k = gi M a k := fun a k hk => by
        rw [gi_si]
        by_cases ha : a = 16
        · rw [if_pos ha, if_neg (fun z => hk ⟨ha, .inr z⟩)]
        · rw [if_neg ha]
      refine ⟨hp3, at68 p _ hw.si hp3 (hlin _ e3) (fin p _ _ s1 f1 e3 (fr.si (by unfold fX; omega)) ⟨sp, m, rfl, s2, ?_, ?_⟩)⟩
      · rw [gi_self]; exact s3.2
      · rw [gi_idx (by decide)]; exact s4
  · have hq : q ∈ ps o := by rw [f1]; simp
    have hq3 := (hc4 q hq).1
    rw [hp, f4]
    simp (disch := omega) only [nn_add, nn_addl, nn_ladd, nn_mul, nn_lmul, nn_mull, nn_sub, nn_subl, nn_lsub, nn_lt, nn_le, nn_eq, nn_ltl, nn_llt, nn_lel, nn_lle, nn_eql, nn_leq, nn_m1, nn_1m, nn_ltm, nn_mlt, nn_mle, nn_lem, nn_cl, nn_in, nn_ns, nn_ns2, nn_nb, nn_nb2, nn_s1, nn_s2, nn_b1, nn_b2]
    rw [if_neg (fun f => f)]
    refine sX1_setOwn_148 M _ _ _ hw ?_
    simp (disch := omega) only [nn_add, nn_addl, nn_ladd, nn_mul, nn_lmul, nn_mull, nn_sub, nn_subl, nn_lsub, nn_lt, nn_le, nn_eq, nn_ltl, nn_llt, nn_lel, nn_lle, nn_eql, nn_leq, nn_m1, nn_1m, nn_ltm, nn_mlt, nn_mle, nn_lem, nn_cl, nn_in, nn_ns, nn_ns2, nn_nb, nn_nb2, nn_s1, nn_s2, nn_b1, nn_b2]
    exact ⟨hq3, hq3, h1 q _ f4 hq f2 (hX_put h g ho hq _ _) ((fr.si (by unfold fX; omega)).tr (fr.si (by unfold fX; omega)))⟩
end
