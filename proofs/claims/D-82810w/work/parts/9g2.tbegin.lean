/-! BEGIN of the twin (printed by gen_begin.py) -/
section
variable {E : zE} {d : Nat} {T T0 : zM} {Q : zO → zM → Prop} {L : List (List Int32)}
/-- the twin's sets -/
theorem tb_sets (s0 : sT T (nA T0 L 0)) (hL : mLok L) (hQ : ∀ T', sT T' (nA T0 L 32) → fr hpT T T' → Zm E YX8_begin (d + 2) T' [(0, vr (some (97, 1, 0))), (1, vi 4)] 368 [] Q) : Zm E YX8_begin (d + 2) T [(0, vr (some (97, 1, 0))), (1, vi 0)] 184 [] Q := by
  have f0 : fr hpT T T := fr.rf
  refine sX8_begin_184 T 0 ?_
  rw [if_neg (by decide)]
  refine tn_set (j := 0) (0, 5, 7, 9) s0 hL (by omega) rfl rfl rfl rfl rfl (fun T1 s1 g1 => ?_)
  have f1 := f0.tr (fT_hp g1)
  show Zm E YX8_begin (d + 2) T1 [(0, vr (some (97, 1, 0))), (1, vi 0)] 204 [] Q
  refine sX8_begin_204 T1 0 ?_
  show Zm E YX8_begin (d + 2) T1 [(0, vr (some (97, 1, 0))), (1, vi 1)] 184 [] Q
  refine sX8_begin_184 T1 1 ?_
  rw [if_neg (by decide)]
  refine tn_set (j := 1) (0, 6, 7, 10) s1 hL (by omega) rfl rfl rfl rfl rfl (fun T2 s2 g2 => ?_)
  have f2 := f1.tr (fT_hp g2)
  show Zm E YX8_begin (d + 2) T2 [(0, vr (some (97, 1, 0))), (1, vi 1)] 204 [] Q
  refine sX8_begin_204 T2 1 ?_
  show Zm E YX8_begin (d + 2) T2 [(0, vr (some (97, 1, 0))), (1, vi 2)] 184 [] Q
  refine sX8_begin_184 T2 2 ?_
  rw [if_neg (by decide)]
  refine tn_set (j := 2) (0, 7, 7, 11) s2 hL (by omega) rfl rfl rfl rfl rfl (fun T3 s3 g3 => ?_)
  have f3 := f2.tr (fT_hp g3)
  show Zm E YX8_begin (d + 2) T3 [(0, vr (some (97, 1, 0))), (1, vi 2)] 204 [] Q
  refine sX8_begin_204 T3 2 ?_
  show Zm E YX8_begin (d + 2) T3 [(0, vr (some (97, 1, 0))), (1, vi 3)] 184 [] Q
  refine sX8_begin_184 T3 3 ?_
  rw [if_neg (by decide)]
  refine tn_set (j := 3) (0, 8, 7, 12) s3 hL (by omega) rfl rfl rfl rfl rfl (fun T4 s4 g4 => ?_)
  have f4 := f3.tr (fT_hp g4)
  show Zm E YX8_begin (d + 2) T4 [(0, vr (some (97, 1, 0))), (1, vi 3)] 204 [] Q
  refine sX8_begin_204 T4 3 ?_
  show Zm E YX8_begin (d + 2) T4 [(0, vr (some (97, 1, 0))), (1, vi 4)] 184 [] Q
  refine sX8_begin_184 T4 4 ?_
  rw [if_neg (by decide)]
  refine tn_set (j := 4) (0, 9, 7, 13) s4 hL (by omega) rfl rfl rfl rfl rfl (fun T5 s5 g5 => ?_)
  have f5 := f4.tr (fT_hp g5)
  show Zm E YX8_begin (d + 2) T5 [(0, vr (some (97, 1, 0))), (1, vi 4)] 204 [] Q
  refine sX8_begin_204 T5 4 ?_
  show Zm E YX8_begin (d + 2) T5 [(0, vr (some (97, 1, 0))), (1, vi 5)] 184 [] Q
  refine sX8_begin_184 T5 5 ?_
  rw [if_neg (by decide)]
  refine tn_set (j := 5) (0, 10, 7, 14) s5 hL (by omega) rfl rfl rfl rfl rfl (fun T6 s6 g6 => ?_)
  have f6 := f5.tr (fT_hp g6)
  show Zm E YX8_begin (d + 2) T6 [(0, vr (some (97, 1, 0))), (1, vi 5)] 204 [] Q
  refine sX8_begin_204 T6 5 ?_
  show Zm E YX8_begin (d + 2) T6 [(0, vr (some (97, 1, 0))), (1, vi 6)] 184 [] Q
  refine sX8_begin_184 T6 6 ?_
  rw [if_neg (by decide)]
  refine tn_set (j := 6) (0, 11, 7, 15) s6 hL (by omega) rfl rfl rfl rfl rfl (fun T7 s7 g7 => ?_)
  have f7 := f6.tr (fT_hp g7)
  show Zm E YX8_begin (d + 2) T7 [(0, vr (some (97, 1, 0))), (1, vi 6)] 204 [] Q
  refine sX8_begin_204 T7 6 ?_
  show Zm E YX8_begin (d + 2) T7 [(0, vr (some (97, 1, 0))), (1, vi 7)] 184 [] Q
  refine sX8_begin_184 T7 7 ?_
  rw [if_neg (by decide)]
  refine tn_set (j := 7) (0, 12, 7, 16) s7 hL (by omega) rfl rfl rfl rfl rfl (fun T8 s8 g8 => ?_)
  have f8 := f7.tr (fT_hp g8)
  show Zm E YX8_begin (d + 2) T8 [(0, vr (some (97, 1, 0))), (1, vi 7)] 204 [] Q
  refine sX8_begin_204 T8 7 ?_
  show Zm E YX8_begin (d + 2) T8 [(0, vr (some (97, 1, 0))), (1, vi 8)] 184 [] Q
  refine sX8_begin_184 T8 8 ?_
  rw [if_neg (by decide)]
  refine tn_set (j := 8) (0, 13, 7, 17) s8 hL (by omega) rfl rfl rfl rfl rfl (fun T9 s9 g9 => ?_)
  have f9 := f8.tr (fT_hp g9)
  show Zm E YX8_begin (d + 2) T9 [(0, vr (some (97, 1, 0))), (1, vi 8)] 204 [] Q
  refine sX8_begin_204 T9 8 ?_
  show Zm E YX8_begin (d + 2) T9 [(0, vr (some (97, 1, 0))), (1, vi 9)] 184 [] Q
  refine sX8_begin_184 T9 9 ?_
  rw [if_pos (by decide)]
  refine tn_set (j := 9) (1, 2, 7, 10) s9 hL (by omega) rfl rfl rfl rfl rfl (fun T10 s10 g10 => ?_)
  have f10 := f9.tr (fT_hp g10)
  show Zm E YX8_begin (d + 2) T10 [(0, vr (some (97, 1, 0)))] 220 [] Q
  refine sX8_begin_220 T10 ?_
  refine tn_set (j := 10) (1, 17, 7, 21) s10 hL (by omega) rfl rfl rfl rfl rfl (fun T11 s11 g11 => ?_)
  have f11 := f10.tr (fT_hp g11)
  show Zm E YX8_begin (d + 2) T11 [(0, vr (some (97, 1, 0)))] 231 [] Q
  refine sX8_begin_231 T11 ?_
  refine tn_set (j := 11) (2, 16, 7, 20) s11 hL (by omega) rfl rfl rfl rfl rfl (fun T12 s12 g12 => ?_)
  have f12 := f11.tr (fT_hp g12)
  show Zm E YX8_begin (d + 2) T12 [(0, vr (some (97, 1, 0)))] 242 [] Q
  refine sX8_begin_242 T12 ?_
  refine tn_set (j := 12) (3, 2, 7, 11) s12 hL (by omega) rfl rfl rfl rfl rfl (fun T13 s13 g13 => ?_)
  have f13 := f12.tr (fT_hp g13)
  show Zm E YX8_begin (d + 2) T13 [(0, vr (some (97, 1, 0)))] 252 [] Q
  refine sX8_begin_252 T13 ?_
  refine tn_set (j := 13) (3, 14, 7, 18) s13 hL (by omega) rfl rfl rfl rfl rfl (fun T14 s14 g14 => ?_)
  have f14 := f13.tr (fT_hp g14)
  show Zm E YX8_begin (d + 2) T14 [(0, vr (some (97, 1, 0)))] 263 [] Q
  refine sX8_begin_263 T14 ?_
  refine tn_set (j := 14) (3, 15, 7, 19) s14 hL (by omega) rfl rfl rfl rfl rfl (fun T15 s15 g15 => ?_)
  have f15 := f14.tr (fT_hp g15)
  show Zm E YX8_begin (d + 2) T15 [(0, vr (some (97, 1, 0)))] 274 [] Q
  refine sX8_begin_274 T15 ?_
  refine tn_set (j := 15) (4, 2, 7, 12) s15 hL (by omega) rfl rfl rfl rfl rfl (fun T16 s16 g16 => ?_)
  have f16 := f15.tr (fT_hp g16)
  show Zm E YX8_begin (d + 2) T16 [(0, vr (some (97, 1, 0)))] 284 [] Q
  refine sX8_begin_284 T16 ?_
  refine tn_set (j := 16) (4, 18, 7, 22) s16 hL (by omega) rfl rfl rfl rfl rfl (fun T17 s17 g17 => ?_)
  have f17 := f16.tr (fT_hp g17)
  show Zm E YX8_begin (d + 2) T17 [(0, vr (some (97, 1, 0)))] 295 [] Q
  refine sX8_begin_295 T17 ?_
  show Zm E YX8_begin (d + 2) T17 [(0, vr (some (97, 1, 0))), (1, vi 0)] 297 [] Q
  refine sX8_begin_297 T17 0 ?_
  rw [if_neg (by decide)]
  refine tn_set (j := 17) (5, 2, 7, 14) s17 hL (by omega) rfl rfl rfl rfl rfl (fun T18 s18 g18 => ?_)
  have f18 := f17.tr (fT_hp g18)
  show Zm E YX8_begin (d + 2) T18 [(0, vr (some (97, 1, 0))), (1, vi 0)] 316 [] Q
  refine sX8_begin_316 T18 0 ?_
  refine tn_set (j := 18) (5, 4, 6, 10) s18 hL (by omega) rfl rfl rfl rfl rfl (fun T19 s19 g19 => ?_)
  have f19 := f18.tr (fT_hp g19)
  show Zm E YX8_begin (d + 2) T19 [(0, vr (some (97, 1, 0))), (1, vi 0)] 330 [] Q
  refine sX8_begin_330 T19 0 ?_
  show Zm E YX8_begin (d + 2) T19 [(0, vr (some (97, 1, 0))), (1, vi 1)] 297 [] Q
  refine sX8_begin_297 T19 1 ?_
  rw [if_neg (by decide)]
  refine tn_set (j := 19) (6, 2, 7, 15) s19 hL (by omega) rfl rfl rfl rfl rfl (fun T20 s20 g20 => ?_)
  have f20 := f19.tr (fT_hp g20)
  show Zm E YX8_begin (d + 2) T20 [(0, vr (some (97, 1, 0))), (1, vi 1)] 316 [] Q
  refine sX8_begin_316 T20 1 ?_
  refine tn_set (j := 20) (6, 4, 6, 11) s20 hL (by omega) rfl rfl rfl rfl rfl (fun T21 s21 g21 => ?_)
  have f21 := f20.tr (fT_hp g21)
  show Zm E YX8_begin (d + 2) T21 [(0, vr (some (97, 1, 0))), (1, vi 1)] 330 [] Q
  refine sX8_begin_330 T21 1 ?_
  show Zm E YX8_begin (d + 2) T21 [(0, vr (some (97, 1, 0))), (1, vi 2)] 297 [] Q
  refine sX8_begin_297 T21 2 ?_
  rw [if_neg (by decide)]
  refine tn_set (j := 21) (7, 2, 7, 16) s21 hL (by omega) rfl rfl rfl rfl rfl (fun T22 s22 g22 => ?_)
  have f22 := f21.tr (fT_hp g22)
  show Zm E YX8_begin (d + 2) T22 [(0, vr (some (97, 1, 0))), (1, vi 2)] 316 [] Q
  refine sX8_begin_316 T22 2 ?_
  refine tn_set (j := 22) (7, 4, 6, 12) s22 hL (by omega) rfl rfl rfl rfl rfl (fun T23 s23 g23 => ?_)
  have f23 := f22.tr (fT_hp g23)
  show Zm E YX8_begin (d + 2) T23 [(0, vr (some (97, 1, 0))), (1, vi 2)] 330 [] Q
  refine sX8_begin_330 T23 2 ?_
  show Zm E YX8_begin (d + 2) T23 [(0, vr (some (97, 1, 0))), (1, vi 3)] 297 [] Q
  refine sX8_begin_297 T23 3 ?_
  rw [if_neg (by decide)]
  refine tn_set (j := 23) (8, 2, 7, 17) s23 hL (by omega) rfl rfl rfl rfl rfl (fun T24 s24 g24 => ?_)
  have f24 := f23.tr (fT_hp g24)
  show Zm E YX8_begin (d + 2) T24 [(0, vr (some (97, 1, 0))), (1, vi 3)] 316 [] Q
  refine sX8_begin_316 T24 3 ?_
  refine tn_set (j := 24) (8, 4, 6, 13) s24 hL (by omega) rfl rfl rfl rfl rfl (fun T25 s25 g25 => ?_)
  have f25 := f24.tr (fT_hp g25)
  show Zm E YX8_begin (d + 2) T25 [(0, vr (some (97, 1, 0))), (1, vi 3)] 330 [] Q
  refine sX8_begin_330 T25 3 ?_
  show Zm E YX8_begin (d + 2) T25 [(0, vr (some (97, 1, 0))), (1, vi 4)] 297 [] Q
  refine sX8_begin_297 T25 4 ?_
  rw [if_pos (by decide)]
  refine tn_set (j := 25) (10, 1, 7, 1) s25 hL (by omega) rfl rfl rfl rfl rfl (fun T26 s26 g26 => ?_)
  have f26 := f25.tr (fT_hp g26)
  show Zm E YX8_begin (d + 2) T26 [(0, vr (some (97, 1, 0)))] 346 [] Q
  refine sX8_begin_346 T26 ?_
  refine tn_set (j := 26) (11, 1, 7, 3) s26 hL (by omega) rfl rfl rfl rfl rfl (fun T27 s27 g27 => ?_)
  have f27 := f26.tr (fT_hp g27)
  show Zm E YX8_begin (d + 2) T27 [(0, vr (some (97, 1, 0)))] 356 [] Q
  refine sX8_begin_356 T27 ?_
  refine tn_set (j := 27) (12, 1, 7, 4) s27 hL (by omega) rfl rfl rfl rfl rfl (fun T28 s28 g28 => ?_)
  have f28 := f27.tr (fT_hp g28)
  show Zm E YX8_begin (d + 2) T28 [(0, vr (some (97, 1, 0)))] 366 [] Q
  refine sX8_begin_366 T28 ?_
  show Zm E YX8_begin (d + 2) T28 [(0, vr (some (97, 1, 0))), (1, vi 0)] 368 [] Q
  refine sX8_begin_368 T28 0 ?_
  rw [if_neg (by decide)]
  refine tn_set (j := 28) (14, 1, 7, 5) s28 hL (by omega) rfl rfl rfl rfl rfl (fun T29 s29 g29 => ?_)
  have f29 := f28.tr (fT_hp g29)
  show Zm E YX8_begin (d + 2) T29 [(0, vr (some (97, 1, 0))), (1, vi 0)] 387 [] Q
  refine sX8_begin_387 T29 0 ?_
  show Zm E YX8_begin (d + 2) T29 [(0, vr (some (97, 1, 0))), (1, vi 1)] 368 [] Q
  refine sX8_begin_368 T29 1 ?_
  rw [if_neg (by decide)]
  refine tn_set (j := 29) (15, 1, 7, 6) s29 hL (by omega) rfl rfl rfl rfl rfl (fun T30 s30 g30 => ?_)
  have f30 := f29.tr (fT_hp g30)
  show Zm E YX8_begin (d + 2) T30 [(0, vr (some (97, 1, 0))), (1, vi 1)] 387 [] Q
  refine sX8_begin_387 T30 1 ?_
  show Zm E YX8_begin (d + 2) T30 [(0, vr (some (97, 1, 0))), (1, vi 2)] 368 [] Q
  refine sX8_begin_368 T30 2 ?_
  rw [if_neg (by decide)]
  refine tn_set (j := 30) (16, 1, 7, 7) s30 hL (by omega) rfl rfl rfl rfl rfl (fun T31 s31 g31 => ?_)
  have f31 := f30.tr (fT_hp g31)
  show Zm E YX8_begin (d + 2) T31 [(0, vr (some (97, 1, 0))), (1, vi 2)] 387 [] Q
  refine sX8_begin_387 T31 2 ?_
  show Zm E YX8_begin (d + 2) T31 [(0, vr (some (97, 1, 0))), (1, vi 3)] 368 [] Q
  refine sX8_begin_368 T31 3 ?_
  rw [if_neg (by decide)]
  refine tn_set (j := 31) (17, 1, 7, 8) s31 hL (by omega) rfl rfl rfl rfl rfl (fun T32 s32 g32 => ?_)
  have f32 := f31.tr (fT_hp g32)
  show Zm E YX8_begin (d + 2) T32 [(0, vr (some (97, 1, 0))), (1, vi 3)] 387 [] Q
  refine sX8_begin_387 T32 3 ?_
  show Zm E YX8_begin (d + 2) T32 [(0, vr (some (97, 1, 0))), (1, vi 4)] 368 [] Q
  exact hQ T32 s32 f32
theorem tb_build {n : Nat} {l1 l2 l3 : Int32} (e : ∀ a k, hpT a k → gi T a k = gi (bT T0 n) a k) (hn : n < 23) (h1 : l1 = nI n) (h2 : l2 = nproto n) (h3 : l3 = if 9 ≤ n then 1 else 0) (hQ : ∀ T', (∀ a k, hpT a k → gi T' a k = gi (bT T0 (n + 1)) a k) → fr hpT T T' → Q (.inl none) T') : Zm E YX8_build (d + 1) T [(0, vr (some (97, 1, 0))), (1, vi l1), (2, vi l2), (3, vi l3)] 0 [] Q := by
  subst h1 h2 h3
  refine sX8_build_0 T _ _ _ ?_
  have e76 : gi T 97 76 = nI n := (e 97 76 (by unfold hpT; omega)).trans (by rw [bT_at, if_pos ⟨rfl, rfl⟩])
  refine tm_new (ob := n) (lb := n) e76 (by omega) (by omega) (fun z => by omega) (fun T' _ h => ?_)
  show Zm E YX8_build (d + 1) T' [] 7 [vi (nI n)] Q
  refine sX8_build_7 T' _ (hQ T' (bT_new hn e h) (h.2.2.2.2.2.2.2.2.mono fun a k q => by unfold hpT; omega))
/-- the twin's births -/
theorem tb_births (e0 : ∀ a k, hpT a k → gi (si T 97 107 0) a k = gi (bT T0 0) a k) (hQ : ∀ T', (∀ a k, hpT a k → gi T' a k = gi (bT T0 23) a k) → fr hpT (si T 97 107 0) T' → Zm E YX8_begin (d + 2) T' [(0, vr (some (97, 1, 0))), (1, vi 0)] 184 [] Q) : Zm E YX8_begin (d + 2) T [(0, vr (some (97, 1, 0))), (1, vi 3000)] 69 [] Q := by
  refine sX8_begin_69 T 3000 ?_
  rw [if_pos (by decide)]
  have f0 : fr hpT (si T 97 107 0) (si T 97 107 0) := fr.rf
  refine tb_build (n := 0) (T0 := T0) e0 (by omega) rfl (by decide) (by decide) (fun T1 e1 g1 => ?_)
  have f1 := f0.tr g1
  show Zm E YX8_begin (d + 2) T1 [(0, vr (some (97, 1, 0)))] 103 [] Q
  refine sX8_begin_103 T1 ?_
  refine tb_build (n := 1) (T0 := T0) e1 (by omega) rfl (by decide) (by decide) (fun T2 e2 g2 => ?_)
  have f2 := f1.tr g2
  show Zm E YX8_begin (d + 2) T2 [(0, vr (some (97, 1, 0)))] 110 [] Q
  refine sX8_begin_110 T2 ?_
  refine tb_build (n := 2) (T0 := T0) e2 (by omega) rfl (by decide) (by decide) (fun T3 e3 g3 => ?_)
  have f3 := f2.tr g3
  show Zm E YX8_begin (d + 2) T3 [(0, vr (some (97, 1, 0)))] 117 [] Q
  refine sX8_begin_117 T3 ?_
  refine tb_build (n := 3) (T0 := T0) e3 (by omega) rfl (by decide) (by decide) (fun T4 e4 g4 => ?_)
  have f4 := f3.tr g4
  show Zm E YX8_begin (d + 2) T4 [(0, vr (some (97, 1, 0)))] 124 [] Q
  refine sX8_begin_124 T4 ?_
  refine tb_build (n := 4) (T0 := T0) e4 (by omega) rfl (by decide) (by decide) (fun T5 e5 g5 => ?_)
  have f5 := f4.tr g5
  show Zm E YX8_begin (d + 2) T5 [(0, vr (some (97, 1, 0)))] 131 [] Q
  refine sX8_begin_131 T5 ?_
  refine tb_build (n := 5) (T0 := T0) e5 (by omega) rfl (by decide) (by decide) (fun T6 e6 g6 => ?_)
  have f6 := f5.tr g6
  show Zm E YX8_begin (d + 2) T6 [(0, vr (some (97, 1, 0)))] 138 [] Q
  refine sX8_begin_138 T6 ?_
  show Zm E YX8_begin (d + 2) T6 [(0, vr (some (97, 1, 0))), (1, vi 6)] 141 [] Q
  refine sX8_begin_141 T6 6 ?_
  rw [if_neg (by decide)]
  refine tb_build (n := 6) (T0 := T0) e6 (by omega) rfl (by decide) (by decide) (fun T7 e7 g7 => ?_)
  have f7 := f6.tr g7
  show Zm E YX8_begin (d + 2) T7 [(0, vr (some (97, 1, 0))), (1, vi 6)] 154 [] Q
  refine sX8_begin_154 T7 6 ?_
  show Zm E YX8_begin (d + 2) T7 [(0, vr (some (97, 1, 0))), (1, vi 7)] 141 [] Q
  refine sX8_begin_141 T7 7 ?_
  rw [if_neg (by decide)]
  refine tb_build (n := 7) (T0 := T0) e7 (by omega) rfl (by decide) (by decide) (fun T8 e8 g8 => ?_)
  have f8 := f7.tr g8
  show Zm E YX8_begin (d + 2) T8 [(0, vr (some (97, 1, 0))), (1, vi 7)] 154 [] Q
  refine sX8_begin_154 T8 7 ?_
  show Zm E YX8_begin (d + 2) T8 [(0, vr (some (97, 1, 0))), (1, vi 8)] 141 [] Q
  refine sX8_begin_141 T8 8 ?_
  rw [if_neg (by decide)]
  refine tb_build (n := 8) (T0 := T0) e8 (by omega) rfl (by decide) (by decide) (fun T9 e9 g9 => ?_)
  have f9 := f8.tr g9
  show Zm E YX8_begin (d + 2) T9 [(0, vr (some (97, 1, 0))), (1, vi 8)] 154 [] Q
  refine sX8_begin_154 T9 8 ?_
  show Zm E YX8_begin (d + 2) T9 [(0, vr (some (97, 1, 0))), (1, vi 9)] 141 [] Q
  refine sX8_begin_141 T9 9 ?_
  rw [if_pos (by decide)]
  show Zm E YX8_begin (d + 2) T9 [(0, vr (some (97, 1, 0))), (1, vi 9)] 163 [] Q
  refine sX8_begin_163 T9 9 ?_
  rw [if_neg (by decide)]
  refine tb_build (n := 9) (T0 := T0) e9 (by omega) rfl (by decide) (by decide) (fun T10 e10 g10 => ?_)
  have f10 := f9.tr g10
  show Zm E YX8_begin (d + 2) T10 [(0, vr (some (97, 1, 0))), (1, vi 9)] 176 [] Q
  refine sX8_begin_176 T10 9 ?_
  show Zm E YX8_begin (d + 2) T10 [(0, vr (some (97, 1, 0))), (1, vi 10)] 163 [] Q
  refine sX8_begin_163 T10 10 ?_
  rw [if_neg (by decide)]
  refine tb_build (n := 10) (T0 := T0) e10 (by omega) rfl (by decide) (by decide) (fun T11 e11 g11 => ?_)
  have f11 := f10.tr g11
  show Zm E YX8_begin (d + 2) T11 [(0, vr (some (97, 1, 0))), (1, vi 10)] 176 [] Q
  refine sX8_begin_176 T11 10 ?_
  show Zm E YX8_begin (d + 2) T11 [(0, vr (some (97, 1, 0))), (1, vi 11)] 163 [] Q
  refine sX8_begin_163 T11 11 ?_
  rw [if_neg (by decide)]
  refine tb_build (n := 11) (T0 := T0) e11 (by omega) rfl (by decide) (by decide) (fun T12 e12 g12 => ?_)
  have f12 := f11.tr g12
  show Zm E YX8_begin (d + 2) T12 [(0, vr (some (97, 1, 0))), (1, vi 11)] 176 [] Q
  refine sX8_begin_176 T12 11 ?_
  show Zm E YX8_begin (d + 2) T12 [(0, vr (some (97, 1, 0))), (1, vi 12)] 163 [] Q
  refine sX8_begin_163 T12 12 ?_
  rw [if_neg (by decide)]
  refine tb_build (n := 12) (T0 := T0) e12 (by omega) rfl (by decide) (by decide) (fun T13 e13 g13 => ?_)
  have f13 := f12.tr g13
  show Zm E YX8_begin (d + 2) T13 [(0, vr (some (97, 1, 0))), (1, vi 12)] 176 [] Q
  refine sX8_begin_176 T13 12 ?_
  show Zm E YX8_begin (d + 2) T13 [(0, vr (some (97, 1, 0))), (1, vi 13)] 163 [] Q
  refine sX8_begin_163 T13 13 ?_
  rw [if_neg (by decide)]
  refine tb_build (n := 13) (T0 := T0) e13 (by omega) rfl (by decide) (by decide) (fun T14 e14 g14 => ?_)
  have f14 := f13.tr g14
  show Zm E YX8_begin (d + 2) T14 [(0, vr (some (97, 1, 0))), (1, vi 13)] 176 [] Q
  refine sX8_begin_176 T14 13 ?_
  show Zm E YX8_begin (d + 2) T14 [(0, vr (some (97, 1, 0))), (1, vi 14)] 163 [] Q
  refine sX8_begin_163 T14 14 ?_
  rw [if_neg (by decide)]
  refine tb_build (n := 14) (T0 := T0) e14 (by omega) rfl (by decide) (by decide) (fun T15 e15 g15 => ?_)
  have f15 := f14.tr g15
  show Zm E YX8_begin (d + 2) T15 [(0, vr (some (97, 1, 0))), (1, vi 14)] 176 [] Q
  refine sX8_begin_176 T15 14 ?_
  show Zm E YX8_begin (d + 2) T15 [(0, vr (some (97, 1, 0))), (1, vi 15)] 163 [] Q
  refine sX8_begin_163 T15 15 ?_
  rw [if_neg (by decide)]
  refine tb_build (n := 15) (T0 := T0) e15 (by omega) rfl (by decide) (by decide) (fun T16 e16 g16 => ?_)
  have f16 := f15.tr g16
  show Zm E YX8_begin (d + 2) T16 [(0, vr (some (97, 1, 0))), (1, vi 15)] 176 [] Q
  refine sX8_begin_176 T16 15 ?_
  show Zm E YX8_begin (d + 2) T16 [(0, vr (some (97, 1, 0))), (1, vi 16)] 163 [] Q
  refine sX8_begin_163 T16 16 ?_
  rw [if_neg (by decide)]
  refine tb_build (n := 16) (T0 := T0) e16 (by omega) rfl (by decide) (by decide) (fun T17 e17 g17 => ?_)
  have f17 := f16.tr g17
  show Zm E YX8_begin (d + 2) T17 [(0, vr (some (97, 1, 0))), (1, vi 16)] 176 [] Q
  refine sX8_begin_176 T17 16 ?_
  show Zm E YX8_begin (d + 2) T17 [(0, vr (some (97, 1, 0))), (1, vi 17)] 163 [] Q
  refine sX8_begin_163 T17 17 ?_
  rw [if_neg (by decide)]
  refine tb_build (n := 17) (T0 := T0) e17 (by omega) rfl (by decide) (by decide) (fun T18 e18 g18 => ?_)
  have f18 := f17.tr g18
  show Zm E YX8_begin (d + 2) T18 [(0, vr (some (97, 1, 0))), (1, vi 17)] 176 [] Q
  refine sX8_begin_176 T18 17 ?_
  show Zm E YX8_begin (d + 2) T18 [(0, vr (some (97, 1, 0))), (1, vi 18)] 163 [] Q
  refine sX8_begin_163 T18 18 ?_
  rw [if_neg (by decide)]
  refine tb_build (n := 18) (T0 := T0) e18 (by omega) rfl (by decide) (by decide) (fun T19 e19 g19 => ?_)
  have f19 := f18.tr g19
  show Zm E YX8_begin (d + 2) T19 [(0, vr (some (97, 1, 0))), (1, vi 18)] 176 [] Q
  refine sX8_begin_176 T19 18 ?_
  show Zm E YX8_begin (d + 2) T19 [(0, vr (some (97, 1, 0))), (1, vi 19)] 163 [] Q
  refine sX8_begin_163 T19 19 ?_
  rw [if_neg (by decide)]
  refine tb_build (n := 19) (T0 := T0) e19 (by omega) rfl (by decide) (by decide) (fun T20 e20 g20 => ?_)
  have f20 := f19.tr g20
  show Zm E YX8_begin (d + 2) T20 [(0, vr (some (97, 1, 0))), (1, vi 19)] 176 [] Q
  refine sX8_begin_176 T20 19 ?_
  show Zm E YX8_begin (d + 2) T20 [(0, vr (some (97, 1, 0))), (1, vi 20)] 163 [] Q
  refine sX8_begin_163 T20 20 ?_
  rw [if_neg (by decide)]
  refine tb_build (n := 20) (T0 := T0) e20 (by omega) rfl (by decide) (by decide) (fun T21 e21 g21 => ?_)
  have f21 := f20.tr g21
  show Zm E YX8_begin (d + 2) T21 [(0, vr (some (97, 1, 0))), (1, vi 20)] 176 [] Q
  refine sX8_begin_176 T21 20 ?_
  show Zm E YX8_begin (d + 2) T21 [(0, vr (some (97, 1, 0))), (1, vi 21)] 163 [] Q
  refine sX8_begin_163 T21 21 ?_
  rw [if_neg (by decide)]
  refine tb_build (n := 21) (T0 := T0) e21 (by omega) rfl (by decide) (by decide) (fun T22 e22 g22 => ?_)
  have f22 := f21.tr g22
  show Zm E YX8_begin (d + 2) T22 [(0, vr (some (97, 1, 0))), (1, vi 21)] 176 [] Q
  refine sX8_begin_176 T22 21 ?_
  show Zm E YX8_begin (d + 2) T22 [(0, vr (some (97, 1, 0))), (1, vi 22)] 163 [] Q
  refine sX8_begin_163 T22 22 ?_
  rw [if_neg (by decide)]
  refine tb_build (n := 22) (T0 := T0) e22 (by omega) rfl (by decide) (by decide) (fun T23 e23 g23 => ?_)
  have f23 := f22.tr g23
  show Zm E YX8_begin (d + 2) T23 [(0, vr (some (97, 1, 0))), (1, vi 22)] 176 [] Q
  refine sX8_begin_176 T23 22 ?_
  show Zm E YX8_begin (d + 2) T23 [(0, vr (some (97, 1, 0))), (1, vi 23)] 163 [] Q
  refine sX8_begin_163 T23 23 ?_
  rw [if_pos (by decide)]
  exact hQ T23 e23 f23
/-- the twin's free properties -/
theorem tb_free : ∀ (m j : Nat) (T : zM), j + m = 3000 → (∀ T', (∀ k, gi T' 149 k = if j ≤ k ∧ k < 3000 then nI (k + 1) else gi T 149 k) → fr (fun a _ => a = 149) T T' → Zm E YX8_begin (d + 1) T' [(0, vr (some (97, 1, 0))), (1, vi 3000)] 69 [] Q) → Zm E YX8_begin (d + 1) T [(0, vr (some (97, 1, 0))), (1, vi (nI j))] 69 [] Q
  | 0, j, T, hj, hQ => by
    have : j = 3000 := by omega
    subst this
    exact hQ T (fun k => by rw [if_neg (by omega)]) fr.rf
  | m + 1, j, T, hj, hQ => by
    refine sX8_begin_69 T _ ?_
    rw [if_neg (by simp (disch := omega) only [nn_add, nn_addl, nn_ladd, nn_mul, nn_lmul, nn_mull, nn_sub, nn_subl, nn_lsub, nn_lt, nn_le, nn_eq, nn_ltl, nn_llt, nn_lel, nn_lle, nn_eql, nn_leq, nn_m1, nn_1m, nn_ltm, nn_mlt, nn_mle, nn_lem, nn_cl, nn_in, nn_ns, nn_ns2, nn_nb, nn_nb2, nn_s1, nn_s2, nn_b1, nn_b2]; omega)]
    simp (disch := omega) only [nn_add, nn_addl, nn_ladd, nn_mul, nn_lmul, nn_mull, nn_sub, nn_subl, nn_lsub, nn_lt, nn_le, nn_eq, nn_ltl, nn_llt, nn_lel, nn_lle, nn_eql, nn_leq, nn_m1, nn_1m, nn_ltm, nn_mlt, nn_mle, nn_lem, nn_cl, nn_in, nn_ns, nn_ns2, nn_nb, nn_nb2, nn_s1, nn_s2, nn_b1, nn_b2]
    refine ⟨by omega, ?_⟩
    refine tb_free m (j + 1) _ (by omega) (fun T' h f => hQ T' (fun k => ?_) ((fr.si (P := fun a _ => a = 149) rfl).tr f))
    rw [h k, gi_si, if_pos rfl]
    by_cases c : k = j
    · rw [if_neg (by omega), if_pos c, if_pos (by omega), c]
    · rw [if_neg c]
      by_cases c2 : j ≤ k ∧ k < 3000
      · rw [if_pos (by omega), if_pos c2]
      · rw [if_neg (by omega), if_neg c2]
end
