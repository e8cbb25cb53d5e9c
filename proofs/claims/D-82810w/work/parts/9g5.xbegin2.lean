/-! BEGIN of the component (printed by gen_begin.py) -/
section
variable {E : zE} {d : Nat} {M0 T0 : zM} {Q : zO → zM → Prop} {L : List (List Int32)}
/-- the component's sets and natives -/
theorem xb_sets (s0 : sX M0 (ovA 9 (nA T0 L 0))) (hL : mLok L) (hQ : ∀ M', sX M' (ovA 23 (nA T0 L 32)) → fr hpX M0 M' → Q (.inl none) M') : Z E YX1_firstObjects (d + 3) M0 [(0, vr (some (16, 0, 0))), (1, vi 9)] 83 [] Q := by
  have f0 : fr hpX M0 M0 := fr.rf
  refine sX1_firstObjects_83 M0 9 s0.1 ?_
  rw [if_neg (by decide)]
  refine xn_set (j := 0) (n := 9) (0, 5, 7, 9) s0 hL (by omega) rfl rfl rfl rfl rfl (fun M1 s1 g1 => ?_)
  have f1 := f0.tr (fX_hp g1)
  show Z E YX1_firstObjects (d + 3) M1 [(0, vr (some (16, 0, 0))), (1, vi 9)] 100 [] Q
  refine sX1_firstObjects_100 M1 9 s1.1 ?_
  show Z E YX1_firstObjects (d + 3) M1 [(0, vr (some (16, 0, 0))), (1, vi 10)] 83 [] Q
  refine sX1_firstObjects_83 M1 10 s1.1 ?_
  rw [if_neg (by decide)]
  refine xn_set (j := 1) (n := 9) (0, 6, 7, 10) s1 hL (by omega) rfl rfl rfl rfl rfl (fun M2 s2 g2 => ?_)
  have f2 := f1.tr (fX_hp g2)
  show Z E YX1_firstObjects (d + 3) M2 [(0, vr (some (16, 0, 0))), (1, vi 10)] 100 [] Q
  refine sX1_firstObjects_100 M2 10 s2.1 ?_
  show Z E YX1_firstObjects (d + 3) M2 [(0, vr (some (16, 0, 0))), (1, vi 11)] 83 [] Q
  refine sX1_firstObjects_83 M2 11 s2.1 ?_
  rw [if_neg (by decide)]
  refine xn_set (j := 2) (n := 9) (0, 7, 7, 11) s2 hL (by omega) rfl rfl rfl rfl rfl (fun M3 s3 g3 => ?_)
  have f3 := f2.tr (fX_hp g3)
  show Z E YX1_firstObjects (d + 3) M3 [(0, vr (some (16, 0, 0))), (1, vi 11)] 100 [] Q
  refine sX1_firstObjects_100 M3 11 s3.1 ?_
  show Z E YX1_firstObjects (d + 3) M3 [(0, vr (some (16, 0, 0))), (1, vi 12)] 83 [] Q
  refine sX1_firstObjects_83 M3 12 s3.1 ?_
  rw [if_neg (by decide)]
  refine xn_set (j := 3) (n := 9) (0, 8, 7, 12) s3 hL (by omega) rfl rfl rfl rfl rfl (fun M4 s4 g4 => ?_)
  have f4 := f3.tr (fX_hp g4)
  show Z E YX1_firstObjects (d + 3) M4 [(0, vr (some (16, 0, 0))), (1, vi 12)] 100 [] Q
  refine sX1_firstObjects_100 M4 12 s4.1 ?_
  show Z E YX1_firstObjects (d + 3) M4 [(0, vr (some (16, 0, 0))), (1, vi 13)] 83 [] Q
  refine sX1_firstObjects_83 M4 13 s4.1 ?_
  rw [if_neg (by decide)]
  refine xn_set (j := 4) (n := 9) (0, 9, 7, 13) s4 hL (by omega) rfl rfl rfl rfl rfl (fun M5 s5 g5 => ?_)
  have f5 := f4.tr (fX_hp g5)
  show Z E YX1_firstObjects (d + 3) M5 [(0, vr (some (16, 0, 0))), (1, vi 13)] 100 [] Q
  refine sX1_firstObjects_100 M5 13 s5.1 ?_
  show Z E YX1_firstObjects (d + 3) M5 [(0, vr (some (16, 0, 0))), (1, vi 14)] 83 [] Q
  refine sX1_firstObjects_83 M5 14 s5.1 ?_
  rw [if_neg (by decide)]
  refine xn_set (j := 5) (n := 9) (0, 10, 7, 14) s5 hL (by omega) rfl rfl rfl rfl rfl (fun M6 s6 g6 => ?_)
  have f6 := f5.tr (fX_hp g6)
  show Z E YX1_firstObjects (d + 3) M6 [(0, vr (some (16, 0, 0))), (1, vi 14)] 100 [] Q
  refine sX1_firstObjects_100 M6 14 s6.1 ?_
  show Z E YX1_firstObjects (d + 3) M6 [(0, vr (some (16, 0, 0))), (1, vi 15)] 83 [] Q
  refine sX1_firstObjects_83 M6 15 s6.1 ?_
  rw [if_neg (by decide)]
  refine xn_set (j := 6) (n := 9) (0, 11, 7, 15) s6 hL (by omega) rfl rfl rfl rfl rfl (fun M7 s7 g7 => ?_)
  have f7 := f6.tr (fX_hp g7)
  show Z E YX1_firstObjects (d + 3) M7 [(0, vr (some (16, 0, 0))), (1, vi 15)] 100 [] Q
  refine sX1_firstObjects_100 M7 15 s7.1 ?_
  show Z E YX1_firstObjects (d + 3) M7 [(0, vr (some (16, 0, 0))), (1, vi 16)] 83 [] Q
  refine sX1_firstObjects_83 M7 16 s7.1 ?_
  rw [if_neg (by decide)]
  refine xn_set (j := 7) (n := 9) (0, 12, 7, 16) s7 hL (by omega) rfl rfl rfl rfl rfl (fun M8 s8 g8 => ?_)
  have f8 := f7.tr (fX_hp g8)
  show Z E YX1_firstObjects (d + 3) M8 [(0, vr (some (16, 0, 0))), (1, vi 16)] 100 [] Q
  refine sX1_firstObjects_100 M8 16 s8.1 ?_
  show Z E YX1_firstObjects (d + 3) M8 [(0, vr (some (16, 0, 0))), (1, vi 17)] 83 [] Q
  refine sX1_firstObjects_83 M8 17 s8.1 ?_
  rw [if_neg (by decide)]
  refine xn_set (j := 8) (n := 9) (0, 13, 7, 17) s8 hL (by omega) rfl rfl rfl rfl rfl (fun M9 s9 g9 => ?_)
  have f9 := f8.tr (fX_hp g9)
  show Z E YX1_firstObjects (d + 3) M9 [(0, vr (some (16, 0, 0))), (1, vi 17)] 100 [] Q
  refine sX1_firstObjects_100 M9 17 s9.1 ?_
  show Z E YX1_firstObjects (d + 3) M9 [(0, vr (some (16, 0, 0))), (1, vi 18)] 83 [] Q
  refine sX1_firstObjects_83 M9 18 s9.1 ?_
  rw [if_pos (by decide)]
  refine xn_set (j := 9) (n := 9) (1, 2, 7, 10) s9 hL (by omega) rfl rfl rfl rfl rfl (fun M10 s10 g10 => ?_)
  have f10 := f9.tr (fX_hp g10)
  show Z E YX1_firstObjects (d + 3) M10 [(0, vr (some (16, 0, 0)))] 116 [] Q
  refine sX1_firstObjects_116 M10 s10.1 ?_
  refine xn_set (j := 10) (n := 9) (1, 17, 7, 21) s10 hL (by omega) rfl rfl rfl rfl rfl (fun M11 s11 g11 => ?_)
  have f11 := f10.tr (fX_hp g11)
  show Z E YX1_firstObjects (d + 3) M11 [(0, vr (some (16, 0, 0)))] 127 [] Q
  refine sX1_firstObjects_127 M11 s11.1 ?_
  refine xn_set (j := 11) (n := 9) (2, 16, 7, 20) s11 hL (by omega) rfl rfl rfl rfl rfl (fun M12 s12 g12 => ?_)
  have f12 := f11.tr (fX_hp g12)
  show Z E YX1_firstObjects (d + 3) M12 [(0, vr (some (16, 0, 0)))] 138 [] Q
  refine sX1_firstObjects_138 M12 s12.1 ?_
  refine xn_set (j := 12) (n := 9) (3, 2, 7, 11) s12 hL (by omega) rfl rfl rfl rfl rfl (fun M13 s13 g13 => ?_)
  have f13 := f12.tr (fX_hp g13)
  show Z E YX1_firstObjects (d + 3) M13 [(0, vr (some (16, 0, 0)))] 148 [] Q
  refine sX1_firstObjects_148 M13 s13.1 ?_
  refine xn_set (j := 13) (n := 9) (3, 14, 7, 18) s13 hL (by omega) rfl rfl rfl rfl rfl (fun M14 s14 g14 => ?_)
  have f14 := f13.tr (fX_hp g14)
  show Z E YX1_firstObjects (d + 3) M14 [(0, vr (some (16, 0, 0)))] 159 [] Q
  refine sX1_firstObjects_159 M14 s14.1 ?_
  refine xn_set (j := 14) (n := 9) (3, 15, 7, 19) s14 hL (by omega) rfl rfl rfl rfl rfl (fun M15 s15 g15 => ?_)
  have f15 := f14.tr (fX_hp g15)
  show Z E YX1_firstObjects (d + 3) M15 [(0, vr (some (16, 0, 0)))] 170 [] Q
  refine sX1_firstObjects_170 M15 s15.1 ?_
  refine xn_set (j := 15) (n := 9) (4, 2, 7, 12) s15 hL (by omega) rfl rfl rfl rfl rfl (fun M16 s16 g16 => ?_)
  have f16 := f15.tr (fX_hp g16)
  show Z E YX1_firstObjects (d + 3) M16 [(0, vr (some (16, 0, 0)))] 180 [] Q
  refine sX1_firstObjects_180 M16 s16.1 ?_
  refine xn_set (j := 16) (n := 9) (4, 18, 7, 22) s16 hL (by omega) rfl rfl rfl rfl rfl (fun M17 s17 g17 => ?_)
  have f17 := f16.tr (fX_hp g17)
  show Z E YX1_firstObjects (d + 3) M17 [(0, vr (some (16, 0, 0)))] 191 [] Q
  refine sX1_firstObjects_191 M17 s17.1 ?_
  show Z E YX1_firstObjects (d + 3) M17 [(0, vr (some (16, 0, 0))), (1, vi 5)] 193 [] Q
  refine sX1_firstObjects_193 M17 5 s17.1 ?_
  rw [if_neg (by decide)]
  refine xn_set (j := 17) (n := 9) (5, 2, 7, 14) s17 hL (by omega) rfl rfl rfl rfl rfl (fun M18 s18 g18 => ?_)
  have f18 := f17.tr (fX_hp g18)
  show Z E YX1_firstObjects (d + 3) M18 [(0, vr (some (16, 0, 0))), (1, vi 5)] 211 [] Q
  refine sX1_firstObjects_211 M18 5 s18.1 ?_
  refine xn_set (j := 18) (n := 9) (5, 4, 6, 10) s18 hL (by omega) rfl rfl rfl rfl rfl (fun M19 s19 g19 => ?_)
  have f19 := f18.tr (fX_hp g19)
  show Z E YX1_firstObjects (d + 3) M19 [(0, vr (some (16, 0, 0))), (1, vi 5)] 222 [] Q
  refine sX1_firstObjects_222 M19 5 s19.1 ?_
  show Z E YX1_firstObjects (d + 3) M19 [(0, vr (some (16, 0, 0))), (1, vi 6)] 193 [] Q
  refine sX1_firstObjects_193 M19 6 s19.1 ?_
  rw [if_neg (by decide)]
  refine xn_set (j := 19) (n := 9) (6, 2, 7, 15) s19 hL (by omega) rfl rfl rfl rfl rfl (fun M20 s20 g20 => ?_)
  have f20 := f19.tr (fX_hp g20)
  show Z E YX1_firstObjects (d + 3) M20 [(0, vr (some (16, 0, 0))), (1, vi 6)] 211 [] Q
  refine sX1_firstObjects_211 M20 6 s20.1 ?_
  refine xn_set (j := 20) (n := 9) (6, 4, 6, 11) s20 hL (by omega) rfl rfl rfl rfl rfl (fun M21 s21 g21 => ?_)
  have f21 := f20.tr (fX_hp g21)
  show Z E YX1_firstObjects (d + 3) M21 [(0, vr (some (16, 0, 0))), (1, vi 6)] 222 [] Q
  refine sX1_firstObjects_222 M21 6 s21.1 ?_
  show Z E YX1_firstObjects (d + 3) M21 [(0, vr (some (16, 0, 0))), (1, vi 7)] 193 [] Q
  refine sX1_firstObjects_193 M21 7 s21.1 ?_
  rw [if_neg (by decide)]
  refine xn_set (j := 21) (n := 9) (7, 2, 7, 16) s21 hL (by omega) rfl rfl rfl rfl rfl (fun M22 s22 g22 => ?_)
  have f22 := f21.tr (fX_hp g22)
  show Z E YX1_firstObjects (d + 3) M22 [(0, vr (some (16, 0, 0))), (1, vi 7)] 211 [] Q
  refine sX1_firstObjects_211 M22 7 s22.1 ?_
  refine xn_set (j := 22) (n := 9) (7, 4, 6, 12) s22 hL (by omega) rfl rfl rfl rfl rfl (fun M23 s23 g23 => ?_)
  have f23 := f22.tr (fX_hp g23)
  show Z E YX1_firstObjects (d + 3) M23 [(0, vr (some (16, 0, 0))), (1, vi 7)] 222 [] Q
  refine sX1_firstObjects_222 M23 7 s23.1 ?_
  show Z E YX1_firstObjects (d + 3) M23 [(0, vr (some (16, 0, 0))), (1, vi 8)] 193 [] Q
  refine sX1_firstObjects_193 M23 8 s23.1 ?_
  rw [if_neg (by decide)]
  refine xn_set (j := 23) (n := 9) (8, 2, 7, 17) s23 hL (by omega) rfl rfl rfl rfl rfl (fun M24 s24 g24 => ?_)
  have f24 := f23.tr (fX_hp g24)
  show Z E YX1_firstObjects (d + 3) M24 [(0, vr (some (16, 0, 0))), (1, vi 8)] 211 [] Q
  refine sX1_firstObjects_211 M24 8 s24.1 ?_
  refine xn_set (j := 24) (n := 9) (8, 4, 6, 13) s24 hL (by omega) rfl rfl rfl rfl rfl (fun M25 s25 g25 => ?_)
  have f25 := f24.tr (fX_hp g25)
  show Z E YX1_firstObjects (d + 3) M25 [(0, vr (some (16, 0, 0))), (1, vi 8)] 222 [] Q
  refine sX1_firstObjects_222 M25 8 s25.1 ?_
  show Z E YX1_firstObjects (d + 3) M25 [(0, vr (some (16, 0, 0))), (1, vi 9)] 193 [] Q
  refine sX1_firstObjects_193 M25 9 s25.1 ?_
  rw [if_pos (by decide)]
  show Z E YX1_firstObjects (d + 3) M25 [(0, vr (some (16, 0, 0))), (1, vi 9)] 231 [] Q
  refine sX1_firstObjects_231 M25 9 s25.1 ?_
  rw [if_neg (show ¬ (23 : Int32) ≤ 9 by decide), if_neg (show ¬ (9 : Int32) = 10 by decide), if_neg (show ¬ (9 : Int32) = 11 by decide), if_neg (show ¬ (9 : Int32) = 12 by decide), if_pos (show (9 : Int32) ≤ 13 by decide)]
  refine xn_nat (n := 9) (j := 25) rfl (by omega) (by omega) s25 hL (by omega) (fun M26 s26 g26 => ?_)
  have f26 := f25.tr g26
  show Z E YX1_firstObjects (d + 3) M26 [(0, vr (some (16, 0, 0))), (1, vi 9)] 292 [] Q
  refine sX1_firstObjects_292 M26 9 s26.1 ?_
  show Z E YX1_firstObjects (d + 3) M26 [(0, vr (some (16, 0, 0))), (1, vi 10)] 231 [] Q
  refine sX1_firstObjects_231 M26 10 s26.1 ?_
  rw [if_neg (show ¬ (23 : Int32) ≤ 10 by decide), if_pos (show (10 : Int32) = 10 by decide)]
  refine xn_nat2 (n := 10) (j := 25) (v := 1) rfl rfl (by omega) (by omega) s26 hL (by omega) rfl (by omega) (fun M27 s27 g27 => ?_)
  have f27 := f26.tr g27
  show Z E YX1_firstObjects (d + 3) M27 [(0, vr (some (16, 0, 0))), (1, vi 10)] 292 [] Q
  refine sX1_firstObjects_292 M27 10 s27.1 ?_
  show Z E YX1_firstObjects (d + 3) M27 [(0, vr (some (16, 0, 0))), (1, vi 11)] 231 [] Q
  refine sX1_firstObjects_231 M27 11 s27.1 ?_
  rw [if_neg (show ¬ (23 : Int32) ≤ 11 by decide), if_neg (show ¬ (11 : Int32) = 10 by decide), if_pos (show (11 : Int32) = 11 by decide)]
  refine xn_nat2 (n := 11) (j := 26) (v := 3) rfl rfl (by omega) (by omega) s27 hL (by omega) rfl (by omega) (fun M28 s28 g28 => ?_)
  have f28 := f27.tr g28
  show Z E YX1_firstObjects (d + 3) M28 [(0, vr (some (16, 0, 0))), (1, vi 11)] 292 [] Q
  refine sX1_firstObjects_292 M28 11 s28.1 ?_
  show Z E YX1_firstObjects (d + 3) M28 [(0, vr (some (16, 0, 0))), (1, vi 12)] 231 [] Q
  refine sX1_firstObjects_231 M28 12 s28.1 ?_
  rw [if_neg (show ¬ (23 : Int32) ≤ 12 by decide), if_neg (show ¬ (12 : Int32) = 10 by decide), if_neg (show ¬ (12 : Int32) = 11 by decide), if_pos (show (12 : Int32) = 12 by decide)]
  refine xn_nat2 (n := 12) (j := 27) (v := 4) rfl rfl (by omega) (by omega) s28 hL (by omega) rfl (by omega) (fun M29 s29 g29 => ?_)
  have f29 := f28.tr g29
  show Z E YX1_firstObjects (d + 3) M29 [(0, vr (some (16, 0, 0))), (1, vi 12)] 292 [] Q
  refine sX1_firstObjects_292 M29 12 s29.1 ?_
  show Z E YX1_firstObjects (d + 3) M29 [(0, vr (some (16, 0, 0))), (1, vi 13)] 231 [] Q
  refine sX1_firstObjects_231 M29 13 s29.1 ?_
  rw [if_neg (show ¬ (23 : Int32) ≤ 13 by decide), if_neg (show ¬ (13 : Int32) = 10 by decide), if_neg (show ¬ (13 : Int32) = 11 by decide), if_neg (show ¬ (13 : Int32) = 12 by decide), if_pos (show (13 : Int32) ≤ 13 by decide)]
  refine xn_nat (n := 13) (j := 28) rfl (by omega) (by omega) s29 hL (by omega) (fun M30 s30 g30 => ?_)
  have f30 := f29.tr g30
  show Z E YX1_firstObjects (d + 3) M30 [(0, vr (some (16, 0, 0))), (1, vi 13)] 292 [] Q
  refine sX1_firstObjects_292 M30 13 s30.1 ?_
  show Z E YX1_firstObjects (d + 3) M30 [(0, vr (some (16, 0, 0))), (1, vi 14)] 231 [] Q
  refine sX1_firstObjects_231 M30 14 s30.1 ?_
  rw [if_neg (show ¬ (23 : Int32) ≤ 14 by decide), if_neg (show ¬ (14 : Int32) = 10 by decide), if_neg (show ¬ (14 : Int32) = 11 by decide), if_neg (show ¬ (14 : Int32) = 12 by decide), if_neg (show ¬ (14 : Int32) ≤ 13 by decide), if_neg (show ¬ (18 : Int32) ≤ 14 by decide)]
  refine xn_nat2 (n := 14) (j := 28) (v := 5) rfl rfl (by omega) (by omega) s30 hL (by omega) rfl (by omega) (fun M31 s31 g31 => ?_)
  have f31 := f30.tr g31
  show Z E YX1_firstObjects (d + 3) M31 [(0, vr (some (16, 0, 0))), (1, vi 14)] 292 [] Q
  refine sX1_firstObjects_292 M31 14 s31.1 ?_
  show Z E YX1_firstObjects (d + 3) M31 [(0, vr (some (16, 0, 0))), (1, vi 15)] 231 [] Q
  refine sX1_firstObjects_231 M31 15 s31.1 ?_
  rw [if_neg (show ¬ (23 : Int32) ≤ 15 by decide), if_neg (show ¬ (15 : Int32) = 10 by decide), if_neg (show ¬ (15 : Int32) = 11 by decide), if_neg (show ¬ (15 : Int32) = 12 by decide), if_neg (show ¬ (15 : Int32) ≤ 13 by decide), if_neg (show ¬ (18 : Int32) ≤ 15 by decide)]
  refine xn_nat2 (n := 15) (j := 29) (v := 6) rfl rfl (by omega) (by omega) s31 hL (by omega) rfl (by omega) (fun M32 s32 g32 => ?_)
  have f32 := f31.tr g32
  show Z E YX1_firstObjects (d + 3) M32 [(0, vr (some (16, 0, 0))), (1, vi 15)] 292 [] Q
  refine sX1_firstObjects_292 M32 15 s32.1 ?_
  show Z E YX1_firstObjects (d + 3) M32 [(0, vr (some (16, 0, 0))), (1, vi 16)] 231 [] Q
  refine sX1_firstObjects_231 M32 16 s32.1 ?_
  rw [if_neg (show ¬ (23 : Int32) ≤ 16 by decide), if_neg (show ¬ (16 : Int32) = 10 by decide), if_neg (show ¬ (16 : Int32) = 11 by decide), if_neg (show ¬ (16 : Int32) = 12 by decide), if_neg (show ¬ (16 : Int32) ≤ 13 by decide), if_neg (show ¬ (18 : Int32) ≤ 16 by decide)]
  refine xn_nat2 (n := 16) (j := 30) (v := 7) rfl rfl (by omega) (by omega) s32 hL (by omega) rfl (by omega) (fun M33 s33 g33 => ?_)
  have f33 := f32.tr g33
  show Z E YX1_firstObjects (d + 3) M33 [(0, vr (some (16, 0, 0))), (1, vi 16)] 292 [] Q
  refine sX1_firstObjects_292 M33 16 s33.1 ?_
  show Z E YX1_firstObjects (d + 3) M33 [(0, vr (some (16, 0, 0))), (1, vi 17)] 231 [] Q
  refine sX1_firstObjects_231 M33 17 s33.1 ?_
  rw [if_neg (show ¬ (23 : Int32) ≤ 17 by decide), if_neg (show ¬ (17 : Int32) = 10 by decide), if_neg (show ¬ (17 : Int32) = 11 by decide), if_neg (show ¬ (17 : Int32) = 12 by decide), if_neg (show ¬ (17 : Int32) ≤ 13 by decide), if_neg (show ¬ (18 : Int32) ≤ 17 by decide)]
  refine xn_nat2 (n := 17) (j := 31) (v := 8) rfl rfl (by omega) (by omega) s33 hL (by omega) rfl (by omega) (fun M34 s34 g34 => ?_)
  have f34 := f33.tr g34
  show Z E YX1_firstObjects (d + 3) M34 [(0, vr (some (16, 0, 0))), (1, vi 17)] 292 [] Q
  refine sX1_firstObjects_292 M34 17 s34.1 ?_
  show Z E YX1_firstObjects (d + 3) M34 [(0, vr (some (16, 0, 0))), (1, vi 18)] 231 [] Q
  refine sX1_firstObjects_231 M34 18 s34.1 ?_
  rw [if_neg (show ¬ (23 : Int32) ≤ 18 by decide), if_neg (show ¬ (18 : Int32) = 10 by decide), if_neg (show ¬ (18 : Int32) = 11 by decide), if_neg (show ¬ (18 : Int32) = 12 by decide), if_neg (show ¬ (18 : Int32) ≤ 13 by decide), if_pos (show (18 : Int32) ≤ 18 by decide)]
  refine xn_nat (n := 18) (j := 32) rfl (by omega) (by omega) s34 hL (by omega) (fun M35 s35 g35 => ?_)
  have f35 := f34.tr g35
  show Z E YX1_firstObjects (d + 3) M35 [(0, vr (some (16, 0, 0))), (1, vi 18)] 292 [] Q
  refine sX1_firstObjects_292 M35 18 s35.1 ?_
  show Z E YX1_firstObjects (d + 3) M35 [(0, vr (some (16, 0, 0))), (1, vi 19)] 231 [] Q
  refine sX1_firstObjects_231 M35 19 s35.1 ?_
  rw [if_neg (show ¬ (23 : Int32) ≤ 19 by decide), if_neg (show ¬ (19 : Int32) = 10 by decide), if_neg (show ¬ (19 : Int32) = 11 by decide), if_neg (show ¬ (19 : Int32) = 12 by decide), if_neg (show ¬ (19 : Int32) ≤ 13 by decide), if_pos (show (18 : Int32) ≤ 19 by decide)]
  refine xn_nat (n := 19) (j := 32) rfl (by omega) (by omega) s35 hL (by omega) (fun M36 s36 g36 => ?_)
  have f36 := f35.tr g36
  show Z E YX1_firstObjects (d + 3) M36 [(0, vr (some (16, 0, 0))), (1, vi 19)] 292 [] Q
  refine sX1_firstObjects_292 M36 19 s36.1 ?_
  show Z E YX1_firstObjects (d + 3) M36 [(0, vr (some (16, 0, 0))), (1, vi 20)] 231 [] Q
  refine sX1_firstObjects_231 M36 20 s36.1 ?_
  rw [if_neg (show ¬ (23 : Int32) ≤ 20 by decide), if_neg (show ¬ (20 : Int32) = 10 by decide), if_neg (show ¬ (20 : Int32) = 11 by decide), if_neg (show ¬ (20 : Int32) = 12 by decide), if_neg (show ¬ (20 : Int32) ≤ 13 by decide), if_pos (show (18 : Int32) ≤ 20 by decide)]
  refine xn_nat (n := 20) (j := 32) rfl (by omega) (by omega) s36 hL (by omega) (fun M37 s37 g37 => ?_)
  have f37 := f36.tr g37
  show Z E YX1_firstObjects (d + 3) M37 [(0, vr (some (16, 0, 0))), (1, vi 20)] 292 [] Q
  refine sX1_firstObjects_292 M37 20 s37.1 ?_
  show Z E YX1_firstObjects (d + 3) M37 [(0, vr (some (16, 0, 0))), (1, vi 21)] 231 [] Q
  refine sX1_firstObjects_231 M37 21 s37.1 ?_
  rw [if_neg (show ¬ (23 : Int32) ≤ 21 by decide), if_neg (show ¬ (21 : Int32) = 10 by decide), if_neg (show ¬ (21 : Int32) = 11 by decide), if_neg (show ¬ (21 : Int32) = 12 by decide), if_neg (show ¬ (21 : Int32) ≤ 13 by decide), if_pos (show (18 : Int32) ≤ 21 by decide)]
  refine xn_nat (n := 21) (j := 32) rfl (by omega) (by omega) s37 hL (by omega) (fun M38 s38 g38 => ?_)
  have f38 := f37.tr g38
  show Z E YX1_firstObjects (d + 3) M38 [(0, vr (some (16, 0, 0))), (1, vi 21)] 292 [] Q
  refine sX1_firstObjects_292 M38 21 s38.1 ?_
  show Z E YX1_firstObjects (d + 3) M38 [(0, vr (some (16, 0, 0))), (1, vi 22)] 231 [] Q
  refine sX1_firstObjects_231 M38 22 s38.1 ?_
  rw [if_neg (show ¬ (23 : Int32) ≤ 22 by decide), if_neg (show ¬ (22 : Int32) = 10 by decide), if_neg (show ¬ (22 : Int32) = 11 by decide), if_neg (show ¬ (22 : Int32) = 12 by decide), if_neg (show ¬ (22 : Int32) ≤ 13 by decide), if_pos (show (18 : Int32) ≤ 22 by decide)]
  refine xn_nat (n := 22) (j := 32) rfl (by omega) (by omega) s38 hL (by omega) (fun M39 s39 g39 => ?_)
  have f39 := f38.tr g39
  show Z E YX1_firstObjects (d + 3) M39 [(0, vr (some (16, 0, 0))), (1, vi 22)] 292 [] Q
  refine sX1_firstObjects_292 M39 22 s39.1 ?_
  show Z E YX1_firstObjects (d + 3) M39 [(0, vr (some (16, 0, 0))), (1, vi 23)] 231 [] Q
  refine sX1_firstObjects_231 M39 23 s39.1 ?_
  rw [if_pos (by decide)]
  exact hQ M39 s39 f39
/-- the component's births -/
def xB (M : zM) (n : Nat) : Prop := gi M 16 26 = nI n ∧ ∀ k, k < n → gi M 38 k = 0 ∧ gi M 39 k = 0 ∧ gi M 40 k = nI k ∧ gi M 41 k = nproto k ∧ gi M 42 k = -1 ∧ gi M 43 k = -1 ∧ gi M 44 k = -1 ∧ gi M 45 k = nI k
theorem xB_new {M : zM} {n : Nat} (h : xB M n) : xB (x_new M n (nI 0) n (nproto n) (-1)) (n + 1) := by
  refine ⟨(x_new_at M n (nI 0) n (nproto n) (-1) 0).2.2.2.2.2.2.2.2, fun k hk => ?_⟩
  obtain ⟨x1, x2, x3, x4, x5, x6, x7, x8, x9⟩ := x_new_at M n (nI 0) n (nproto n) (-1) k
  rw [x1, x2, x3, x4, x5, x6, x7, x8]
  by_cases c : k = n
  · simp only [if_pos c, c]; exact ⟨rfl, rfl, rfl, rfl, rfl, rfl, rfl, rfl⟩
  · simp only [if_neg c]; exact h.2 k (by omega)
theorem nproto_nar : ∀ n : Nat, n < 23 → vp_nar .short (nproto n).toInt16.toInt32 = nproto n := by decide +kernel
theorem cwl_hp : ∀ q ∈ cwl, q.1 = 16 → q.2.1 < 26 ∨ 29 < q.2.1 := by decide +kernel
theorem cw_hp {M M' : zM} (hw : cw M) (f : fr hpX M M') : cw M' := fun q hq => by
  have hc := cwl_ok q hq
  have h2 := cwl_hp q hq
  rw [(f.2 q.1 q.2.1 (fun z => by unfold hpX at z; omega)).2.2]
  exact hw q hq
theorem xb_births' : ∀ (m n : Nat) (M : zM), n + m = 23 → cw M → xB M n → (∀ M', cw M' → xB M' 23 → fr (fun a k => 38 ≤ a ∧ a ≤ 45 ∨ a = 16 ∧ k = 26) M M' → Z E YX1_firstObjects (d + 3) M' [(0, vr (some (16, 0, 0))), (1, vi 9)] 83 [] Q) → Z E YX1_firstObjects (d + 3) M [(0, vr (some (16, 0, 0))), (1, vi (nI n))] 22 [] Q
  | 0, n, M, hn, hw, h, hQ => by
    have : n = 23 := by omega
    subst this
    refine sX1_firstObjects_22 M _ hw ?_
    rw [if_pos (by decide)]
    exact hQ M hw h fr.rf
  | m + 1, n, M, hn, hw, h, hQ => by
    refine sX1_firstObjects_22 M _ hw ?_
    rw [if_neg (by simp (disch := omega) only [nn_add, nn_addl, nn_ladd, nn_mul, nn_lmul, nn_mull, nn_sub, nn_subl, nn_lsub, nn_lt, nn_le, nn_eq, nn_ltl, nn_llt, nn_lel, nn_lle, nn_eql, nn_leq, nn_m1, nn_1m, nn_ltm, nn_mlt, nn_mle, nn_lem, nn_cl, nn_in, nn_ns, nn_ns2, nn_nb, nn_nb2, nn_s1, nn_s2, nn_b1, nn_b2]; omega)]
    have born : ∀ l3 : Int32, l3 = nproto n → Z E YX1_born (d + 2) M (zargs 0 [vr (some (16, 0, 0)), vi 0, vi (nI n), vi l3, vi (-1)]) 0 [] (zafter E YX1_firstObjects (d + 3) [(0, vr (some (16, 0, 0))), (1, vi (nI n))] 70 3 [] Q) := fun l3 e => by
      subst e
      refine xm_born (ob := n) (ks := 0) (pp := n) hw h.1 (by omega) (by omega) (by omega) (nproto_nar n (by omega)) rfl (fun z => by omega) (fun _ => ?_)
      show Z E YX1_firstObjects (d + 3) (x_new M n (nI 0) n (nproto n) (-1)) [(0, vr (some (16, 0, 0))), (1, vi (nI n))] 73 [vi (nI n)] Q
      have f : fr hpX M (x_new M n (nI 0) n (nproto n) (-1)) := (x_new_fr M n (nI 0) n (nproto n) (-1)).mono fun a k q => by unfold hpX; omega
      have hw' : cw (x_new M n (nI 0) n (nproto n) (-1)) := cw_hp hw f
      refine sX1_firstObjects_73 _ _ _ hw' ?_
      rw [show nI n + 1 = nI (n + 1) from nn_add n 1]
      exact xb_births' m (n + 1) _ (by omega) hw' (xB_new h) (fun M' w b g => hQ M' w b ((x_new_fr M n (nI 0) n (nproto n) (-1)).tr g))
    by_cases c1 : n = 1
    · rw [if_pos (by rw [c1]; rfl)]
      exact born _ (by rw [c1]; rfl)
    rw [if_neg (by simp (disch := omega) only [nn_add, nn_addl, nn_ladd, nn_mul, nn_lmul, nn_mull, nn_sub, nn_subl, nn_lsub, nn_lt, nn_le, nn_eq, nn_ltl, nn_llt, nn_lel, nn_lle, nn_eql, nn_leq, nn_m1, nn_1m, nn_ltm, nn_mlt, nn_mle, nn_lem, nn_cl, nn_in, nn_ns, nn_ns2, nn_nb, nn_nb2, nn_s1, nn_s2, nn_b1, nn_b2]; exact c1)]
    by_cases c5 : 5 ≤ n
    · rw [if_pos (by simp (disch := omega) only [nn_add, nn_addl, nn_ladd, nn_mul, nn_lmul, nn_mull, nn_sub, nn_subl, nn_lsub, nn_lt, nn_le, nn_eq, nn_ltl, nn_llt, nn_lel, nn_lle, nn_eql, nn_leq, nn_m1, nn_1m, nn_ltm, nn_mlt, nn_mle, nn_lem, nn_cl, nn_in, nn_ns, nn_ns2, nn_nb, nn_nb2, nn_s1, nn_s2, nn_b1, nn_b2]; exact c5)]
      by_cases c6 : n = 5
      · rw [if_pos (by rw [c6]; rfl)]
        exact born _ (by rw [c6]; rfl)
      rw [if_neg (by simp (disch := omega) only [nn_add, nn_addl, nn_ladd, nn_mul, nn_lmul, nn_mull, nn_sub, nn_subl, nn_lsub, nn_lt, nn_le, nn_eq, nn_ltl, nn_llt, nn_lel, nn_lle, nn_eql, nn_leq, nn_m1, nn_1m, nn_ltm, nn_mlt, nn_mle, nn_lem, nn_cl, nn_in, nn_ns, nn_ns2, nn_nb, nn_nb2, nn_s1, nn_s2, nn_b1, nn_b2]; exact c6)]
      by_cases c9 : 9 ≤ n
      · rw [if_pos (by simp (disch := omega) only [nn_add, nn_addl, nn_ladd, nn_mul, nn_lmul, nn_mull, nn_sub, nn_subl, nn_lsub, nn_lt, nn_le, nn_eq, nn_ltl, nn_llt, nn_lel, nn_lle, nn_eql, nn_leq, nn_m1, nn_1m, nn_ltm, nn_mlt, nn_mle, nn_lem, nn_cl, nn_in, nn_ns, nn_ns2, nn_nb, nn_nb2, nn_s1, nn_s2, nn_b1, nn_b2]; exact c9)]
        exact born _ (by unfold nproto; rw [if_neg c1, if_neg (by omega), if_neg (by omega)])
      · rw [if_neg (by simp (disch := omega) only [nn_add, nn_addl, nn_ladd, nn_mul, nn_lmul, nn_mull, nn_sub, nn_subl, nn_lsub, nn_lt, nn_le, nn_eq, nn_ltl, nn_llt, nn_lel, nn_lle, nn_eql, nn_leq, nn_m1, nn_1m, nn_ltm, nn_mlt, nn_mle, nn_lem, nn_cl, nn_in, nn_ns, nn_ns2, nn_nb, nn_nb2, nn_s1, nn_s2, nn_b1, nn_b2]; exact c9)]
        exact born _ (by unfold nproto; rw [if_neg c1, if_neg (by omega), if_pos (by omega)])
    · rw [if_neg (by simp (disch := omega) only [nn_add, nn_addl, nn_ladd, nn_mul, nn_lmul, nn_mull, nn_sub, nn_subl, nn_lsub, nn_lt, nn_le, nn_eq, nn_ltl, nn_llt, nn_lel, nn_lle, nn_eql, nn_leq, nn_m1, nn_1m, nn_ltm, nn_mlt, nn_mle, nn_lem, nn_cl, nn_in, nn_ns, nn_ns2, nn_nb, nn_nb2, nn_s1, nn_s2, nn_b1, nn_b2]; exact c5)]
      exact born _ (by unfold nproto; rw [if_neg c1, if_pos (by omega)])
theorem xb_sX {M : zM} (hw : cw M) (b : xB M 23) (h27 : gi M 16 27 = 0) (h28 : gi M 16 28 = -1) (h29 : gi M 16 29 = 0) (hx : xtx M L) : sX M (ovA 9 (nA T0 L 0)) := by
  have ee : ∀ a k, a ≠ 141 → gi (ov (bT T0 23) 9) a k = gi (bT T0 23) a k := fun a k c => ov_o _ _ c k
  have e9 : ∀ k, k < 23 → gi (ov (bT T0 23) 9) 141 k = 0 := fun k hk => by
    rw [ov_at]
    by_cases c : 9 ≤ k
    · rw [if_pos ⟨rfl, c, hk⟩]
    · rw [if_neg (fun z => c z.2.1), (bT_138 T0 hk).2.2.2.1, if_neg c]
  refine ⟨hw, ⟨⟨b.1, ?_⟩, ⟨[], 0, rfl, by omega, h28, h27⟩, fun o ho => ?_, fun o ho q hq => absurd hq List.not_mem_nil⟩, fun o ho => ?_, hx⟩
  · show gi M 16 29 = gi (ov (bT T0 23) 9) 97 86
    rw [h29, ee _ _ (by decide), bT_at, if_neg (by omega), if_pos (by omega)]
  · obtain ⟨z1, z2, z3, z4, z5, z6, z7, z8⟩ := b.2 o ho
    obtain ⟨y1, y2, y3, y4, y5, y6, y7⟩ := bT_138 T0 (show o < 23 from ho)
    show gi M 38 o = gi (ov (bT T0 23) 9) 141 o ∧ gi M 41 o = gi (ov (bT T0 23) 9) 139 o ∧ gi M 42 o = gi (ov (bT T0 23) 9) 140 o ∧ gi M 43 o = gi (ov (bT T0 23) 9) 143 o ∧ gi M 44 o = gi (ov (bT T0 23) 9) 144 o
    rw [e9 o ho, ee 139 _ (by decide), ee 140 _ (by decide), ee 143 _ (by decide), ee 144 _ (by decide), y2, y3, y6, y7]
    exact ⟨z1, z4, z5, z6, z7⟩
  · have ho : o < 23 := ho
    obtain ⟨z1, z2, z3, z4, z5, z6, z7, z8⟩ := b.2 o ho
    obtain ⟨y1, y2, y3, y4, y5, y6, y7⟩ := bT_138 T0 ho
    refine ⟨o, z3, by omega, fun z => by omega, ?_, fun _ => ?_⟩
    · show gi (ov (bT T0 23) 9) 138 o = _
      rw [ee 138 _ (by decide), y1, if_pos (by omega)]
    · show gi M 39 o = if o < 29 ∧ gi (ov (bT T0 23) 9) 141 o = 1 then - nI o else gi (ov (bT T0 23) 9) 142 o
      rw [e9 o ho, if_neg (fun z => absurd z.2 (by decide)), ee 142 _ (by decide), y5, z2]
end
