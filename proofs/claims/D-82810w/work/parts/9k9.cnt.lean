/-! THE COMPONENT's CODER: ++ and -- -/
section
variable {S : Nat → Prop} {M : zM} {D : Nat}
theorem xe_BfN {b n x : Nat} {h : Int32} (hS : ∀ a, S a → 190 ≤ a) (hb : S b) (hn : S n) (e0 : gi M b 0 = h) (hh : h.toInt16.toInt32 = h) (eb : gi M b 1 = 0) (e1 : gr M b 2 = some (n, 23, 0)) (en : gi M n 0 = nI x) (hx : x < 100000) (hD : 4 ≤ D) : xE S M (D + 1) (b, 32, 0) (gBfN h x) := by
  refine ⟨hS, rfl, (show 20 ≤ 32 ∧ 32 < 45 by decide), _, rfl, fun E d Q M' e Γ l δ L st ha c hl hd hQ => ?_⟩
  obtain ⟨d, rfl⟩ : ∃ d', d = d' + 5 := ⟨d - 5, by omega⟩
  have hs : gBfN h x e Γ L st = gSet x e Γ (psh 1 L) (em e Γ (psh 2 L) 14 h 0 none (em e Γ (psh 1 L) 0 5 1 none (em e Γ (psh 1 L) 13 0 0 none (gGet x e Γ L st)))) := rfl
  rw [hs] at hl hQ
  have l1 := gSet_len x e Γ (psh 1 L) (em e Γ (psh 2 L) 14 h 0 none (em e Γ (psh 1 L) 0 5 1 none (em e Γ (psh 1 L) 13 0 0 none (gGet x e Γ L st))))
  have l2 := em_len e Γ (psh 2 L) 14 h 0 none (em e Γ (psh 1 L) 0 5 1 none (em e Γ (psh 1 L) 13 0 0 none (gGet x e Γ L st)))
  have l3 := em_len e Γ (psh 1 L) 0 5 1 none (em e Γ (psh 1 L) 13 0 0 none (gGet x e Γ L st))
  have l4 := em_len e Γ (psh 1 L) 13 0 0 none (gGet x e Γ L st)
  refine sX27_code_0 M' b _ ?_
  rw [(ha b 2 hb).2, e1]
  refine ⟨n, 23, rfl, _, rfl, ?_⟩
  refine sX13_isMember_0 M' _ _ ?_
  show Z E YX27_code (d + 4 + 1) M' [(0, vr (some (b, 32, 0))), (1, C29)] 7 [vi 0] Q
  refine sX27_code_7 M' b _ _ ?_
  rw [if_pos rfl, (ha b 2 hb).2, e1]
  refine y_sub (D := 4) (L := L) (xe_Name hS hn en hx (by omega)) ha c (by omega) (by omega) (fun M1 c1 f1 => ?_)
  show Z E YX27_code (d + 4 + 1) M1 [(0, vr (some (b, 32, 0))), (1, C29), (2, vi 0)] 52 [] Q
  refine sX27_code_52 M1 b _ _ ⟨29, rfl, ?_⟩
  refine y_putn (L := psh 1 L) c1 (by omega) rfl rfl (fun M2 v2 c2 f2 => ?_)
  have a2 := (ha.tr (f1.agS hS)).tr (f2.agS hS)
  show Z E YX27_code (d + 4 + 1) M2 [(0, vr (some (b, 32, 0))), (1, C29), (2, vi 0)] 60 [vi v2] Q
  refine sX27_code_60 M2 b 29 _ _ ?_
  rw [(a2 b 1 hb).1, eb, if_pos rfl]
  refine y_putn (L := psh 1 L) c2 (by omega) rfl rfl (fun M3 v3 c3 f3 => ?_)
  have a3 := a2.tr (f3.agS hS)
  show Z E YX27_code (d + 4 + 1) M3 [(0, vr (some (b, 32, 0))), (1, C29), (2, vi 0)] 93 [vi v3] Q
  refine sX27_code_93 M3 b 29 _ _ ?_
  rw [(a3 b 0 hb).1, e0]
  refine y_putn (L := psh 2 L) c3 (by omega) rfl hh (fun M4 v4 c4 f4 => ?_)
  have a4 := a3.tr (f4.agS hS)
  show Z E YX27_code (d + 4 + 1) M4 [(0, vr (some (b, 32, 0))), (1, C29), (2, vi 0)] 105 [vi v4] Q
  refine sX27_code_105 M4 b 29 _ _ ?_
  rw [if_pos rfl]
  refine ⟨n, (a4 b 2 hb).2.trans e1, ?_⟩
  rw [(a4 n 0 hn).1, en]
  refine y_setZ (d := d + 2) (L := psh 1 L) c4 hl hx (fun M5 c5 f5 => ?_)
  have a5 := a4.tr (f5.agS hS)
  show Z E YX27_code (d + 4 + 1) M5 [(0, vr (some (b, 32, 0))), (1, C29)] 136 [] Q
  refine sX27_code_136 M5 b 29 ?_
  rw [(a5 b 1 hb).1, eb, if_pos rfl]
  exact hQ M5 c5 ((((f1.tr f2).tr f3).tr f4).tr f5)
theorem xe_BhN {b n x : Nat} {h : Int32} (hS : ∀ a, S a → 190 ≤ a) (hb : S b) (hn : S n) (e0 : gi M b 0 = h) (hh : h.toInt16.toInt32 = h) (eb : gi M b 1 = 1) (e1 : gr M b 2 = some (n, 23, 0)) (en : gi M n 0 = nI x) (hx : x < 100000) (hD : 4 ≤ D) : xE S M (D + 1) (b, 32, 0) (gBhN h x) := by
  refine ⟨hS, rfl, (show 20 ≤ 32 ∧ 32 < 45 by decide), _, rfl, fun E d Q M' e Γ l δ L st ha c hl hd hQ => ?_⟩
  obtain ⟨d, rfl⟩ : ∃ d', d = d' + 5 := ⟨d - 5, by omega⟩
  have hs : gBhN h x e Γ L st = em e Γ (psh 2 L) 17 0 0 none (gSet x e Γ (psh 2 L) (em e Γ (psh 3 L) 14 h 0 none (em e Γ (psh 2 L) 0 5 1 none (em e Γ (psh 1 L) 18 0 0 none (em e Γ (psh 1 L) 13 0 0 none (gGet x e Γ L st)))))) := rfl
  rw [hs] at hl hQ
  have l0 := em_len e Γ (psh 2 L) 17 0 0 none (gSet x e Γ (psh 2 L) (em e Γ (psh 3 L) 14 h 0 none (em e Γ (psh 2 L) 0 5 1 none (em e Γ (psh 1 L) 18 0 0 none (em e Γ (psh 1 L) 13 0 0 none (gGet x e Γ L st))))))
  have l1 := gSet_len x e Γ (psh 2 L) (em e Γ (psh 3 L) 14 h 0 none (em e Γ (psh 2 L) 0 5 1 none (em e Γ (psh 1 L) 18 0 0 none (em e Γ (psh 1 L) 13 0 0 none (gGet x e Γ L st)))))
  have l2 := em_len e Γ (psh 3 L) 14 h 0 none (em e Γ (psh 2 L) 0 5 1 none (em e Γ (psh 1 L) 18 0 0 none (em e Γ (psh 1 L) 13 0 0 none (gGet x e Γ L st))))
  have l3 := em_len e Γ (psh 2 L) 0 5 1 none (em e Γ (psh 1 L) 18 0 0 none (em e Γ (psh 1 L) 13 0 0 none (gGet x e Γ L st)))
  have l4 := em_len e Γ (psh 1 L) 18 0 0 none (em e Γ (psh 1 L) 13 0 0 none (gGet x e Γ L st))
  have l5 := em_len e Γ (psh 1 L) 13 0 0 none (gGet x e Γ L st)
  refine sX27_code_0 M' b _ ?_
  rw [(ha b 2 hb).2, e1]
  refine ⟨n, 23, rfl, _, rfl, ?_⟩
  refine sX13_isMember_0 M' _ _ ?_
  show Z E YX27_code (d + 4 + 1) M' [(0, vr (some (b, 32, 0))), (1, C29)] 7 [vi 0] Q
  refine sX27_code_7 M' b _ _ ?_
  rw [if_pos rfl, (ha b 2 hb).2, e1]
  refine y_sub (D := 4) (L := L) (xe_Name hS hn en hx (by omega)) ha c (by omega) (by omega) (fun M1 c1 f1 => ?_)
  show Z E YX27_code (d + 4 + 1) M1 [(0, vr (some (b, 32, 0))), (1, C29), (2, vi 0)] 52 [] Q
  refine sX27_code_52 M1 b _ _ ⟨29, rfl, ?_⟩
  refine y_putn (L := psh 1 L) c1 (by omega) rfl rfl (fun M2 v2 c2 f2 => ?_)
  have a2 := (ha.tr (f1.agS hS)).tr (f2.agS hS)
  show Z E YX27_code (d + 4 + 1) M2 [(0, vr (some (b, 32, 0))), (1, C29), (2, vi 0)] 60 [vi v2] Q
  refine sX27_code_60 M2 b 29 _ _ ?_
  rw [(a2 b 1 hb).1, eb, if_neg (by decide), if_pos rfl]
  refine y_putn (L := psh 1 L) c2 (by omega) rfl rfl (fun M3 v3 c3 f3 => ?_)
  have a3 := a2.tr (f3.agS hS)
  show Z E YX27_code (d + 4 + 1) M3 [(0, vr (some (b, 32, 0))), (1, C29), (2, vi 0)] 85 [vi v3] Q
  refine sX27_code_85 M3 b 29 _ _ ?_
  refine y_putn (L := psh 2 L) c3 (by omega) rfl rfl (fun M4 v4 c4 f4 => ?_)
  have a4 := a3.tr (f4.agS hS)
  show Z E YX27_code (d + 4 + 1) M4 [(0, vr (some (b, 32, 0))), (1, C29), (2, vi 0)] 93 [vi v4] Q
  refine sX27_code_93 M4 b 29 _ _ ?_
  rw [(a4 b 0 hb).1, e0]
  refine y_putn (L := psh 3 L) c4 (by omega) rfl hh (fun M5 v5 c5 f5 => ?_)
  have a5 := a4.tr (f5.agS hS)
  show Z E YX27_code (d + 4 + 1) M5 [(0, vr (some (b, 32, 0))), (1, C29), (2, vi 0)] 105 [vi v5] Q
  refine sX27_code_105 M5 b 29 _ _ ?_
  rw [if_pos rfl]
  refine ⟨n, (a5 b 2 hb).2.trans e1, ?_⟩
  rw [(a5 n 0 hn).1, en]
  refine y_setZ (d := d + 2) (L := psh 2 L) c5 (by omega) hx (fun M6 c6 f6 => ?_)
  have a6 := a5.tr (f6.agS hS)
  show Z E YX27_code (d + 4 + 1) M6 [(0, vr (some (b, 32, 0))), (1, C29)] 136 [] Q
  refine sX27_code_136 M6 b 29 ?_
  rw [(a6 b 1 hb).1, eb, if_neg (by decide)]
  refine y_putn (L := psh 2 L) c6 hl rfl rfl (fun M7 v7 c7 f7 => ?_)
  show Z E YX27_code (d + 4 + 1) M7 [] 151 [vi v7] Q
  exact sX27_code_151 M7 _ (hQ M7 c7 ((((((f1.tr f2).tr f3).tr f4).tr f5).tr f6).tr f7))
theorem xe_BfM {b : Nat} {p1 : zP} {o k : gEx} {h : Int32} (hb : S b) (e0 : gi M b 0 = h) (hh : h.toInt16.toInt32 = h) (eb : gi M b 1 = 0) (e1 : gr M b 2 = some p1) (hp : xPl S M D p1 o k) (hD : 4 ≤ D) : xE S M (D + 1) (b, 32, 0) (gBfM h o k) := by
  refine ⟨hp.1, rfl, (show 20 ≤ 32 ∧ 32 < 45 by decide), _, rfl, fun E d Q M' e Γ l δ L st ha c hl hd hQ => ?_⟩
  obtain ⟨d, rfl⟩ : ∃ d', d = d' + 5 := ⟨d - 5, by omega⟩
  obtain ⟨hS, hp2, ⟨go, gk⟩, h4, h5⟩ := hp
  obtain ⟨pb, pt⟩ := p1
  cases hp2
  have hs : gBfM h o k e Γ L st = em e Γ (psh 3 L) 11 0 0 none (em e Γ (psh 4 L) 14 h 0 none (em e Γ (psh 3 L) 0 5 1 none (em e Γ (psh 3 L) 13 0 0 none (em e Γ (psh 4 L) 10 0 0 none (em e Γ (psh 2 L) 19 0 0 none (k e Γ (psh 1 L) (o e Γ L st))))))) := rfl
  rw [hs] at hl hQ
  generalize hs0 : k e Γ (psh 1 L) (o e Γ L st) = s0 at *
  have l1 := em_len e Γ (psh 2 L) 19 0 0 none s0
  generalize hs1 : em e Γ (psh 2 L) 19 0 0 none s0 = s1 at *
  have l2 := em_len e Γ (psh 4 L) 10 0 0 none s1
  generalize hs2 : em e Γ (psh 4 L) 10 0 0 none s1 = s2 at *
  have l3 := em_len e Γ (psh 3 L) 13 0 0 none s2
  generalize hs3 : em e Γ (psh 3 L) 13 0 0 none s2 = s3 at *
  have l4 := em_len e Γ (psh 3 L) 0 5 1 none s3
  generalize hs4 : em e Γ (psh 3 L) 0 5 1 none s3 = s4 at *
  have l5 := em_len e Γ (psh 4 L) 14 h 0 none s4
  generalize hs5 : em e Γ (psh 4 L) 14 h 0 none s4 = s5 at *
  have l6 := em_len e Γ (psh 3 L) 11 0 0 none s5
  refine sX27_code_0 M' b _ ?_
  rw [(ha b 2 hb).2, e1]
  refine ⟨pb, 30, rfl, _, rfl, ?_⟩
  refine h4 E (d + 4) _ M' ha (by omega) ?_
  show Z E YX27_code (d + 4 + 1) M' [(0, vr (some (b, 32, 0))), (1, C29)] 7 [vi 1] Q
  refine sX27_code_7 M' b _ _ ?_
  rw [if_neg (by decide), (ha b 2 hb).2, e1]
  refine ⟨pb, rfl, ?_⟩
  refine h5 E (d + 4) _ M' e Γ l δ L st ha c (by rw [hs0]; omega) (by omega) (fun M1 c1 f1 => ?_)
  rw [hs0] at c1
  show Z E YX27_code (d + 4 + 1) M1 [(0, vr (some (b, 32, 0))), (1, C29), (2, vi 1)] 23 [] Q
  refine sX27_code_23 M1 b _ _ ⟨29, rfl, ?_⟩
  refine y_putn (L := psh 2 L) c1 (by rw [hs1]; omega) rfl rfl (fun M2 v2 c2 f2 => ?_)
  rw [hs1] at c2
  show Z E YX27_code (d + 4 + 1) M2 [(0, vr (some (b, 32, 0))), (1, C29), (2, vi 1)] 31 [vi v2] Q
  refine sX27_code_31 M2 b 29 _ _ ?_
  refine y_putn (L := psh 4 L) c2 (by rw [hs2]; omega) rfl rfl (fun M3 v3 c3 f3 => ?_)
  rw [hs2] at c3
  show Z E YX27_code (d + 4 + 1) M3 [(0, vr (some (b, 32, 0))), (1, C29), (2, vi 1)] 40 [vi v3] Q
  refine iX27_code_40 M3 b 29 _ _ ?_
  refine y_putn (L := psh 3 L) c3 (by rw [hs3]; omega) rfl rfl (fun M4 v4 c4 f4 => ?_)
  rw [hs3] at c4
  have a4 := (((ha.tr (f1.agS hS)).tr (f2.agS hS)).tr (f3.agS hS)).tr (f4.agS hS)
  show Z E YX27_code (d + 4 + 1) M4 [(0, vr (some (b, 32, 0))), (1, C29), (2, vi 1)] 60 [vi v4] Q
  refine sX27_code_60 M4 b 29 _ _ ?_
  rw [(a4 b 1 hb).1, eb, if_pos rfl]
  refine y_putn (L := psh 3 L) c4 (by rw [hs4]; omega) rfl rfl (fun M5 v5 c5 f5 => ?_)
  rw [hs4] at c5
  have a5 := a4.tr (f5.agS hS)
  show Z E YX27_code (d + 4 + 1) M5 [(0, vr (some (b, 32, 0))), (1, C29), (2, vi 1)] 93 [vi v5] Q
  refine sX27_code_93 M5 b 29 _ _ ?_
  rw [(a5 b 0 hb).1, e0]
  refine y_putn (L := psh 4 L) c5 (by rw [hs5]; omega) rfl hh (fun M6 v6 c6 f6 => ?_)
  rw [hs5] at c6
  show Z E YX27_code (d + 4 + 1) M6 [(0, vr (some (b, 32, 0))), (1, C29), (2, vi 1)] 105 [vi v6] Q
  refine sX27_code_105 M6 b 29 _ _ ?_
  rw [if_neg (by decide)]
  refine y_putn (L := psh 3 L) c6 hl rfl rfl (fun M7 v7 c7 f7 => ?_)
  have a7 := (a5.tr (f6.agS hS)).tr (f7.agS hS)
  show Z E YX27_code (d + 4 + 1) M7 [(0, vr (some (b, 32, 0))), (1, C29)] 118 [vi v7] Q
  refine iX27_code_118 M7 b 29 _ ?_
  rw [(a7 b 1 hb).1, eb, if_pos rfl]
  exact hQ M7 c7 ((((((f1.tr f2).tr f3).tr f4).tr f5).tr f6).tr f7)
theorem xe_BhM {b : Nat} {p1 : zP} {o k : gEx} {h : Int32} (hb : S b) (e0 : gi M b 0 = h) (hh : h.toInt16.toInt32 = h) (eb : gi M b 1 = 1) (e1 : gr M b 2 = some p1) (hp : xPl S M D p1 o k) (hD : 4 ≤ D) : xE S M (D + 1) (b, 32, 0) (gBhM h o k) := by
  refine ⟨hp.1, rfl, (show 20 ≤ 32 ∧ 32 < 45 by decide), _, rfl, fun E d Q M' e Γ l δ L st ha c hl hd hQ => ?_⟩
  obtain ⟨d, rfl⟩ : ∃ d', d = d' + 5 := ⟨d - 5, by omega⟩
  obtain ⟨hS, hp2, ⟨go, gk⟩, h4, h5⟩ := hp
  obtain ⟨pb, pt⟩ := p1
  cases hp2
  have hs : gBhM h o k e Γ L st = em e Γ (psh 2 L) 17 0 0 none (em e Γ (psh 4 L) 11 0 0 none (em e Γ (psh 5 L) 14 h 0 none (em e Γ (psh 4 L) 0 5 1 none (em e Γ (psh 3 L) 20 0 0 none (em e Γ (psh 3 L) 13 0 0 none (em e Γ (psh 4 L) 10 0 0 none (em e Γ (psh 2 L) 19 0 0 none (k e Γ (psh 1 L) (o e Γ L st))))))))) := rfl
  rw [hs] at hl hQ
  generalize hs0 : k e Γ (psh 1 L) (o e Γ L st) = s0 at *
  have l1 := em_len e Γ (psh 2 L) 19 0 0 none s0
  generalize hs1 : em e Γ (psh 2 L) 19 0 0 none s0 = s1 at *
  have l2 := em_len e Γ (psh 4 L) 10 0 0 none s1
  generalize hs2 : em e Γ (psh 4 L) 10 0 0 none s1 = s2 at *
  have l3 := em_len e Γ (psh 3 L) 13 0 0 none s2
  generalize hs3 : em e Γ (psh 3 L) 13 0 0 none s2 = s3 at *
  have l3' := em_len e Γ (psh 3 L) 20 0 0 none s3
  generalize hs3' : em e Γ (psh 3 L) 20 0 0 none s3 = s3' at *
  have l4 := em_len e Γ (psh 4 L) 0 5 1 none s3'
  generalize hs4 : em e Γ (psh 4 L) 0 5 1 none s3' = s4 at *
  have l5 := em_len e Γ (psh 5 L) 14 h 0 none s4
  generalize hs5 : em e Γ (psh 5 L) 14 h 0 none s4 = s5 at *
  have l6 := em_len e Γ (psh 4 L) 11 0 0 none s5
  generalize hs6 : em e Γ (psh 4 L) 11 0 0 none s5 = s6 at *
  have l7 := em_len e Γ (psh 2 L) 17 0 0 none s6
  refine sX27_code_0 M' b _ ?_
  rw [(ha b 2 hb).2, e1]
  refine ⟨pb, 30, rfl, _, rfl, ?_⟩
  refine h4 E (d + 4) _ M' ha (by omega) ?_
  show Z E YX27_code (d + 4 + 1) M' [(0, vr (some (b, 32, 0))), (1, C29)] 7 [vi 1] Q
  refine sX27_code_7 M' b _ _ ?_
  rw [if_neg (by decide), (ha b 2 hb).2, e1]
  refine ⟨pb, rfl, ?_⟩
  refine h5 E (d + 4) _ M' e Γ l δ L st ha c (by rw [hs0]; omega) (by omega) (fun M1 c1 f1 => ?_)
  rw [hs0] at c1
  show Z E YX27_code (d + 4 + 1) M1 [(0, vr (some (b, 32, 0))), (1, C29), (2, vi 1)] 23 [] Q
  refine sX27_code_23 M1 b _ _ ⟨29, rfl, ?_⟩
  refine y_putn (L := psh 2 L) c1 (by rw [hs1]; omega) rfl rfl (fun M2 v2 c2 f2 => ?_)
  rw [hs1] at c2
  show Z E YX27_code (d + 4 + 1) M2 [(0, vr (some (b, 32, 0))), (1, C29), (2, vi 1)] 31 [vi v2] Q
  refine sX27_code_31 M2 b 29 _ _ ?_
  refine y_putn (L := psh 4 L) c2 (by rw [hs2]; omega) rfl rfl (fun M3 v3 c3 f3 => ?_)
  rw [hs2] at c3
  show Z E YX27_code (d + 4 + 1) M3 [(0, vr (some (b, 32, 0))), (1, C29), (2, vi 1)] 40 [vi v3] Q
  refine iX27_code_40 M3 b 29 _ _ ?_
  refine y_putn (L := psh 3 L) c3 (by rw [hs3]; omega) rfl rfl (fun M4 v4 c4 f4 => ?_)
  rw [hs3] at c4
  have a4 := (((ha.tr (f1.agS hS)).tr (f2.agS hS)).tr (f3.agS hS)).tr (f4.agS hS)
  show Z E YX27_code (d + 4 + 1) M4 [(0, vr (some (b, 32, 0))), (1, C29), (2, vi 1)] 60 [vi v4] Q
  refine sX27_code_60 M4 b 29 _ _ ?_
  rw [(a4 b 1 hb).1, eb, if_neg (by decide), if_neg (by decide)]
  refine y_putn (L := psh 3 L) c4 (by rw [hs3']; omega) rfl rfl (fun M4' v4' c4' f4' => ?_)
  rw [hs3'] at c4'
  have a4' := a4.tr (f4'.agS hS)
  show Z E YX27_code (d + 4 + 1) M4' [(0, vr (some (b, 32, 0))), (1, C29), (2, vi 1)] 85 [vi v4'] Q
  refine sX27_code_85 M4' b 29 _ _ ?_
  refine y_putn (L := psh 4 L) c4' (by rw [hs4]; omega) rfl rfl (fun M5 v5 c5 f5 => ?_)
  rw [hs4] at c5
  have a5 := a4'.tr (f5.agS hS)
  show Z E YX27_code (d + 4 + 1) M5 [(0, vr (some (b, 32, 0))), (1, C29), (2, vi 1)] 93 [vi v5] Q
  refine sX27_code_93 M5 b 29 _ _ ?_
  rw [(a5 b 0 hb).1, e0]
  refine y_putn (L := psh 5 L) c5 (by rw [hs5]; omega) rfl hh (fun M6 v6 c6 f6 => ?_)
  rw [hs5] at c6
  show Z E YX27_code (d + 4 + 1) M6 [(0, vr (some (b, 32, 0))), (1, C29), (2, vi 1)] 105 [vi v6] Q
  refine sX27_code_105 M6 b 29 _ _ ?_
  rw [if_neg (by decide)]
  refine y_putn (L := psh 4 L) c6 (by rw [hs6]; omega) rfl rfl (fun M7 v7 c7 f7 => ?_)
  rw [hs6] at c7
  have a7 := (a5.tr (f6.agS hS)).tr (f7.agS hS)
  show Z E YX27_code (d + 4 + 1) M7 [(0, vr (some (b, 32, 0))), (1, C29)] 118 [vi v7] Q
  refine iX27_code_118 M7 b 29 _ ?_
  rw [(a7 b 1 hb).1, eb, if_neg (by decide)]
  refine y_putn (L := psh 2 L) c7 hl rfl rfl (fun M8 v8 c8 f8 => ?_)
  show Z E YX27_code (d + 4 + 1) M8 [] 151 [vi v8] Q
  exact sX27_code_151 M8 _ (hQ M8 c8 ((((((((f1.tr f2).tr f3).tr f4).tr f4').tr f5).tr f6).tr f7).tr f8))
end
