/-! ScriptTypes.frame(II)I -/
theorem bX1_frame_0 : zdec cX1_frame 0 [(0, .aload_n 0, 1), (1, .getfield 277, 3), (4, .ifCond .eq 15, 3), (7, .iload_n 1, 1), (8, .ifCond .lt 11, 3), (11, .iload_n 1, 1), (12, .aload_n 0, 1), (13, .getfield 328, 3), (16, .if_icmp .lt 5, 3), (19, .iconst (-1), 1), (20, .ireturn, 1), (21, .aload_n 0, 1), (22, .getfield 328, 3), (25, .iconst 1, 1), (26, .isub, 1), (27, .iload_n 1, 1)] = true := by decide +kernel
theorem dX1_frame_0 : decode cX1_frame 0 = .ok (.aload_n 0, 1) := zdec_at bX1_frame_0 0 rfl
theorem dX1_frame_1 : decode cX1_frame 1 = .ok (.getfield 277, 3) := zdec_at bX1_frame_0 1 rfl
theorem dX1_frame_4 : decode cX1_frame 4 = .ok (.ifCond .eq 15, 3) := zdec_at bX1_frame_0 2 rfl
theorem dX1_frame_7 : decode cX1_frame 7 = .ok (.iload_n 1, 1) := zdec_at bX1_frame_0 3 rfl
theorem dX1_frame_8 : decode cX1_frame 8 = .ok (.ifCond .lt 11, 3) := zdec_at bX1_frame_0 4 rfl
theorem dX1_frame_11 : decode cX1_frame 11 = .ok (.iload_n 1, 1) := zdec_at bX1_frame_0 5 rfl
theorem dX1_frame_12 : decode cX1_frame 12 = .ok (.aload_n 0, 1) := zdec_at bX1_frame_0 6 rfl
theorem dX1_frame_13 : decode cX1_frame 13 = .ok (.getfield 328, 3) := zdec_at bX1_frame_0 7 rfl
theorem dX1_frame_16 : decode cX1_frame 16 = .ok (.if_icmp .lt 5, 3) := zdec_at bX1_frame_0 8 rfl
theorem dX1_frame_19 : decode cX1_frame 19 = .ok (.iconst (-1), 1) := zdec_at bX1_frame_0 9 rfl
theorem dX1_frame_20 : decode cX1_frame 20 = .ok (.ireturn, 1) := zdec_at bX1_frame_0 10 rfl
theorem dX1_frame_21 : decode cX1_frame 21 = .ok (.aload_n 0, 1) := zdec_at bX1_frame_0 11 rfl
theorem dX1_frame_22 : decode cX1_frame 22 = .ok (.getfield 328, 3) := zdec_at bX1_frame_0 12 rfl
theorem dX1_frame_25 : decode cX1_frame 25 = .ok (.iconst 1, 1) := zdec_at bX1_frame_0 13 rfl
theorem dX1_frame_26 : decode cX1_frame 26 = .ok (.isub, 1) := zdec_at bX1_frame_0 14 rfl
theorem dX1_frame_27 : decode cX1_frame 27 = .ok (.iload_n 1, 1) := zdec_at bX1_frame_0 15 rfl
theorem bX1_frame_28 : zdec cX1_frame 28 [(28, .isub, 1), (29, .istore_n 3, 1), (30, .iload_n 1, 1), (31, .ifCond .ne 10, 3), (34, .aload_n 0, 1), (35, .getfield 440, 3), (38, .goto 11, 3), (41, .aload_n 0, 1), (42, .getfield 169, 3), (45, .iload_n 3, 1), (46, .iconst 1, 1), (47, .iadd, 1), (48, .saload, 1), (49, .istore 4, 2), (51, .iload_n 1, 1), (52, .ifCond .ne 10, 3)] = true := by decide +kernel
theorem dX1_frame_28 : decode cX1_frame 28 = .ok (.isub, 1) := zdec_at bX1_frame_28 0 rfl
theorem dX1_frame_29 : decode cX1_frame 29 = .ok (.istore_n 3, 1) := zdec_at bX1_frame_28 1 rfl
theorem dX1_frame_30 : decode cX1_frame 30 = .ok (.iload_n 1, 1) := zdec_at bX1_frame_28 2 rfl
theorem dX1_frame_31 : decode cX1_frame 31 = .ok (.ifCond .ne 10, 3) := zdec_at bX1_frame_28 3 rfl
theorem dX1_frame_34 : decode cX1_frame 34 = .ok (.aload_n 0, 1) := zdec_at bX1_frame_28 4 rfl
theorem dX1_frame_35 : decode cX1_frame 35 = .ok (.getfield 440, 3) := zdec_at bX1_frame_28 5 rfl
theorem dX1_frame_38 : decode cX1_frame 38 = .ok (.goto 11, 3) := zdec_at bX1_frame_28 6 rfl
theorem dX1_frame_41 : decode cX1_frame 41 = .ok (.aload_n 0, 1) := zdec_at bX1_frame_28 7 rfl
theorem dX1_frame_42 : decode cX1_frame 42 = .ok (.getfield 169, 3) := zdec_at bX1_frame_28 8 rfl
theorem dX1_frame_45 : decode cX1_frame 45 = .ok (.iload_n 3, 1) := zdec_at bX1_frame_28 9 rfl
theorem dX1_frame_46 : decode cX1_frame 46 = .ok (.iconst 1, 1) := zdec_at bX1_frame_28 10 rfl
theorem dX1_frame_47 : decode cX1_frame 47 = .ok (.iadd, 1) := zdec_at bX1_frame_28 11 rfl
theorem dX1_frame_48 : decode cX1_frame 48 = .ok (.saload, 1) := zdec_at bX1_frame_28 12 rfl
theorem dX1_frame_49 : decode cX1_frame 49 = .ok (.istore 4, 2) := zdec_at bX1_frame_28 13 rfl
theorem dX1_frame_51 : decode cX1_frame 51 = .ok (.iload_n 1, 1) := zdec_at bX1_frame_28 14 rfl
theorem dX1_frame_52 : decode cX1_frame 52 = .ok (.ifCond .ne 10, 3) := zdec_at bX1_frame_28 15 rfl
theorem bX1_frame_55 : zdec cX1_frame 55 [(55, .aload_n 0, 1), (56, .getfield 443, 3), (59, .goto 11, 3), (62, .aload_n 0, 1), (63, .getfield 175, 3), (66, .iload_n 3, 1), (67, .iconst 1, 1), (68, .iadd, 1), (69, .saload, 1), (70, .istore 5, 2), (72, .iload_n 2, 1)] = true := by decide +kernel
theorem dX1_frame_55 : decode cX1_frame 55 = .ok (.aload_n 0, 1) := zdec_at bX1_frame_55 0 rfl
theorem dX1_frame_56 : decode cX1_frame 56 = .ok (.getfield 443, 3) := zdec_at bX1_frame_55 1 rfl
theorem dX1_frame_59 : decode cX1_frame 59 = .ok (.goto 11, 3) := zdec_at bX1_frame_55 2 rfl
theorem dX1_frame_62 : decode cX1_frame 62 = .ok (.aload_n 0, 1) := zdec_at bX1_frame_55 3 rfl
theorem dX1_frame_63 : decode cX1_frame 63 = .ok (.getfield 175, 3) := zdec_at bX1_frame_55 4 rfl
theorem dX1_frame_66 : decode cX1_frame 66 = .ok (.iload_n 3, 1) := zdec_at bX1_frame_55 5 rfl
theorem dX1_frame_67 : decode cX1_frame 67 = .ok (.iconst 1, 1) := zdec_at bX1_frame_55 6 rfl
theorem dX1_frame_68 : decode cX1_frame 68 = .ok (.iadd, 1) := zdec_at bX1_frame_55 7 rfl
theorem dX1_frame_69 : decode cX1_frame 69 = .ok (.saload, 1) := zdec_at bX1_frame_55 8 rfl
theorem dX1_frame_70 : decode cX1_frame 70 = .ok (.istore 5, 2) := zdec_at bX1_frame_55 9 rfl
theorem dX1_frame_72 : decode cX1_frame 72 = .ok (.iload_n 2, 1) := zdec_at bX1_frame_55 10 rfl
theorem dX1_frame_73 : decode cX1_frame 73 = .ok (.tableswitch 76 0 4 #[35, 42, 49, 59, 66], 35) := by decide +kernel
theorem bX1_frame_108 : zdec cX1_frame 108 [(108, .aload_n 0, 1), (109, .getfield 160, 3), (112, .iload_n 3, 1), (113, .saload, 1), (114, .ireturn, 1), (115, .aload_n 0, 1), (116, .getfield 166, 3), (119, .iload_n 3, 1), (120, .saload, 1), (121, .ireturn, 1), (122, .iload 4, 2), (124, .aload_n 0, 1), (125, .getfield 169, 3), (128, .iload_n 3, 1), (129, .saload, 1), (130, .isub, 1)] = true := by decide +kernel
theorem dX1_frame_108 : decode cX1_frame 108 = .ok (.aload_n 0, 1) := zdec_at bX1_frame_108 0 rfl
theorem dX1_frame_109 : decode cX1_frame 109 = .ok (.getfield 160, 3) := zdec_at bX1_frame_108 1 rfl
theorem dX1_frame_112 : decode cX1_frame 112 = .ok (.iload_n 3, 1) := zdec_at bX1_frame_108 2 rfl
theorem dX1_frame_113 : decode cX1_frame 113 = .ok (.saload, 1) := zdec_at bX1_frame_108 3 rfl
theorem dX1_frame_114 : decode cX1_frame 114 = .ok (.ireturn, 1) := zdec_at bX1_frame_108 4 rfl
theorem dX1_frame_115 : decode cX1_frame 115 = .ok (.aload_n 0, 1) := zdec_at bX1_frame_108 5 rfl
theorem dX1_frame_116 : decode cX1_frame 116 = .ok (.getfield 166, 3) := zdec_at bX1_frame_108 6 rfl
theorem dX1_frame_119 : decode cX1_frame 119 = .ok (.iload_n 3, 1) := zdec_at bX1_frame_108 7 rfl
theorem dX1_frame_120 : decode cX1_frame 120 = .ok (.saload, 1) := zdec_at bX1_frame_108 8 rfl
theorem dX1_frame_121 : decode cX1_frame 121 = .ok (.ireturn, 1) := zdec_at bX1_frame_108 9 rfl
theorem dX1_frame_122 : decode cX1_frame 122 = .ok (.iload 4, 2) := zdec_at bX1_frame_108 10 rfl
theorem dX1_frame_124 : decode cX1_frame 124 = .ok (.aload_n 0, 1) := zdec_at bX1_frame_108 11 rfl
theorem dX1_frame_125 : decode cX1_frame 125 = .ok (.getfield 169, 3) := zdec_at bX1_frame_108 12 rfl
theorem dX1_frame_128 : decode cX1_frame 128 = .ok (.iload_n 3, 1) := zdec_at bX1_frame_108 13 rfl
theorem dX1_frame_129 : decode cX1_frame 129 = .ok (.saload, 1) := zdec_at bX1_frame_108 14 rfl
theorem dX1_frame_130 : decode cX1_frame 130 = .ok (.isub, 1) := zdec_at bX1_frame_108 15 rfl
theorem bX1_frame_131 : zdec cX1_frame 131 [(131, .ireturn, 1), (132, .aload_n 0, 1), (133, .getfield 163, 3), (136, .iload_n 3, 1), (137, .saload, 1), (138, .ireturn, 1), (139, .iload 5, 2), (141, .aload_n 0, 1), (142, .getfield 175, 3), (145, .iload_n 3, 1), (146, .saload, 1), (147, .isub, 1), (148, .ireturn, 1), (149, .iconst (-1), 1), (150, .ireturn, 1)] = true := by decide +kernel
theorem dX1_frame_131 : decode cX1_frame 131 = .ok (.ireturn, 1) := zdec_at bX1_frame_131 0 rfl
theorem dX1_frame_132 : decode cX1_frame 132 = .ok (.aload_n 0, 1) := zdec_at bX1_frame_131 1 rfl
theorem dX1_frame_133 : decode cX1_frame 133 = .ok (.getfield 163, 3) := zdec_at bX1_frame_131 2 rfl
theorem dX1_frame_136 : decode cX1_frame 136 = .ok (.iload_n 3, 1) := zdec_at bX1_frame_131 3 rfl
theorem dX1_frame_137 : decode cX1_frame 137 = .ok (.saload, 1) := zdec_at bX1_frame_131 4 rfl
theorem dX1_frame_138 : decode cX1_frame 138 = .ok (.ireturn, 1) := zdec_at bX1_frame_131 5 rfl
theorem dX1_frame_139 : decode cX1_frame 139 = .ok (.iload 5, 2) := zdec_at bX1_frame_131 6 rfl
theorem dX1_frame_141 : decode cX1_frame 141 = .ok (.aload_n 0, 1) := zdec_at bX1_frame_131 7 rfl
theorem dX1_frame_142 : decode cX1_frame 142 = .ok (.getfield 175, 3) := zdec_at bX1_frame_131 8 rfl
theorem dX1_frame_145 : decode cX1_frame 145 = .ok (.iload_n 3, 1) := zdec_at bX1_frame_131 9 rfl
theorem dX1_frame_146 : decode cX1_frame 146 = .ok (.saload, 1) := zdec_at bX1_frame_131 10 rfl
theorem dX1_frame_147 : decode cX1_frame 147 = .ok (.isub, 1) := zdec_at bX1_frame_131 11 rfl
theorem dX1_frame_148 : decode cX1_frame 148 = .ok (.ireturn, 1) := zdec_at bX1_frame_131 12 rfl
theorem dX1_frame_149 : decode cX1_frame 149 = .ok (.iconst (-1), 1) := zdec_at bX1_frame_131 13 rfl
theorem dX1_frame_150 : decode cX1_frame 150 = .ok (.ireturn, 1) := zdec_at bX1_frame_131 14 rfl
theorem sX1_frame_0 {E : zE} {d : Nat} {Q : zO → zM → Prop} (M : zM) (l1 : Int32) (l2 : Int32) (hw : cw M) (k : if (gi M 16 51) = 0 then (Q (.inl (some (vi (-1 : Int32)))) M) else (if l1 < 0 then (Q (.inl (some (vi (-1 : Int32)))) M) else (if l1 < (gi M 16 49) then (if l1 = 0 then (Z E YX1_frame d M [(0, vr (some (16, 0, 0))), (1, vi l1), (2, vi l2), (3, vi (((gi M 16 49) - (1 : Int32)) - l1))] 49 [vi (gi M 16 38)] Q) else (vp_in ((((gi M 16 49) - (1 : Int32)) - l1) + (1 : Int32)) 24 ∧ (Z E YX1_frame d M [(0, vr (some (16, 0, 0))), (1, vi l1), (2, vi l2), (3, vi (((gi M 16 49) - (1 : Int32)) - l1))] 49 [vi (gi M 60 (((((gi M 16 49) - (1 : Int32)) - l1) + (1 : Int32))).toNatClampNeg)] Q))) else (Q (.inl (some (vi (-1 : Int32)))) M)))) : Z E YX1_frame d M [(0, vr (some (16, 0, 0))), (1, vi l1), (2, vi l2)] 0 [] Q := by
  refine z_aload_n dX1_frame_0 rfl rfl ?_
  refine z_geti dX1_frame_1 fsX1_277_0 ?_
  refine z_if_eq (tgt := 19) dX1_frame_4 rfl (fun h_ => ?_) (fun h_ => ?_)
  · have k := zit h_ k
    refine z_iconst (v := -1) dX1_frame_19 rfl ?_
    exact z_iret dX1_frame_20 rfl rfl k
  · have k := zif h_ k
    refine z_iload_n dX1_frame_7 rfl rfl ?_
    refine z_if_lt (tgt := 19) dX1_frame_8 rfl (fun h_ => ?_) (fun h_ => ?_)
    · have k := zit h_ k
      refine z_iconst (v := -1) dX1_frame_19 rfl ?_
      exact z_iret dX1_frame_20 rfl rfl k
    · have k := zif h_ k
      refine z_iload_n dX1_frame_11 rfl rfl ?_
      refine z_aload_n dX1_frame_12 rfl rfl ?_
      refine z_geti dX1_frame_13 fsX1_328_0 ?_
      refine z_icmp_lt (tgt := 21) dX1_frame_16 rfl (fun h_ => ?_) (fun h_ => ?_)
      · have k := zit h_ k
        refine z_aload_n dX1_frame_21 rfl rfl ?_
        refine z_geti dX1_frame_22 fsX1_328_0 ?_
        refine z_iconst (v := 1) dX1_frame_25 rfl ?_
        refine z_isub dX1_frame_26 ?_
        refine z_iload_n dX1_frame_27 rfl rfl ?_
        refine z_isub dX1_frame_28 ?_
        refine z_ist_n dX1_frame_29 rfl (by decide) (lv' := [(0, vr (some (16, 0, 0))), (1, vi l1), (2, vi l2), (3, vi (((gi M 16 49) - (1 : Int32)) - l1))]) rfl ?_
        refine z_iload_n dX1_frame_30 rfl rfl ?_
        refine z_if_ne (tgt := 41) dX1_frame_31 rfl (fun h_ => ?_) (fun h_ => ?_)
        · have k := zif h_ k
          refine z_aload_n dX1_frame_41 rfl rfl ?_
          refine z_getr dX1_frame_42 fsX1_169_0 (show gr M 16 42 = some (60, 102, 24) from cw_at hw 28 rfl) ?_
          refine z_iload_n dX1_frame_45 rfl rfl ?_
          refine z_iconst (v := 1) dX1_frame_46 rfl ?_
          refine z_iadd dX1_frame_47 ?_
          obtain ⟨b_, k⟩ := k
          refine z_sald dX1_frame_48 b_ ?_
          exact k
        · have k := zit h_ k
          refine z_aload_n dX1_frame_34 rfl rfl ?_
          refine z_geti dX1_frame_35 fsX1_440_0 ?_
          refine z_goto (tgt := 49) dX1_frame_38 rfl ?_
          exact k
      · have k := zif h_ k
        refine z_iconst (v := -1) dX1_frame_19 rfl ?_
        exact z_iret dX1_frame_20 rfl rfl k
theorem sX1_frame_49 {E : zE} {d : Nat} {Q : zO → zM → Prop} (M : zM) (l1 : Int32) (l2 : Int32) (l3 : Int32) (s0 : Int32) (hw : cw M) (k : if l1 = 0 then (Z E YX1_frame d M [(0, vr (some (16, 0, 0))), (2, vi l2), (3, vi l3), (4, vi s0)] 70 [vi (gi M 16 50)] Q) else (vp_in (l3 + (1 : Int32)) 24 ∧ (Z E YX1_frame d M [(0, vr (some (16, 0, 0))), (2, vi l2), (3, vi l3), (4, vi s0)] 70 [vi (gi M 62 ((l3 + (1 : Int32))).toNatClampNeg)] Q))) : Z E YX1_frame d M [(0, vr (some (16, 0, 0))), (1, vi l1), (2, vi l2), (3, vi l3)] 49 [vi s0] Q := by
  refine z_ist dX1_frame_49 (by decide) (lv' := [(0, vr (some (16, 0, 0))), (1, vi l1), (2, vi l2), (3, vi l3), (4, vi s0)]) rfl ?_
  refine z_iload_n dX1_frame_51 rfl rfl ?_
  refine z_if_ne (tgt := 62) dX1_frame_52 rfl (fun h_ => ?_) (fun h_ => ?_)
  · have k := zif h_ k
    refine z_aload_n dX1_frame_62 rfl rfl ?_
    refine z_getr dX1_frame_63 fsX1_175_0 (show gr M 16 44 = some (62, 102, 24) from cw_at hw 30 rfl) ?_
    refine z_iload_n dX1_frame_66 rfl rfl ?_
    refine z_iconst (v := 1) dX1_frame_67 rfl ?_
    refine z_iadd dX1_frame_68 ?_
    obtain ⟨b_, k⟩ := k
    refine z_sald dX1_frame_69 b_ ?_
    refine Z.pick [0, 2, 3, 4] rfl ?_
    exact k
  · have k := zit h_ k
    refine z_aload_n dX1_frame_55 rfl rfl ?_
    refine z_geti dX1_frame_56 fsX1_443_0 ?_
    refine z_goto (tgt := 70) dX1_frame_59 rfl ?_
    refine Z.pick [0, 2, 3, 4] rfl ?_
    exact k
theorem sX1_frame_70 {E : zE} {d : Nat} {Q : zO → zM → Prop} (M : zM) (l2 : Int32) (l3 : Int32) (l4 : Int32) (s0 : Int32) (hw : cw M) (k : if l2 = 0 then (vp_in l3 24 ∧ (Q (.inl (some (vi (gi M 57 (l3).toNatClampNeg)))) M)) else (if l2 = 1 then (vp_in l3 24 ∧ (Q (.inl (some (vi (gi M 59 (l3).toNatClampNeg)))) M)) else (if l2 = 2 then (vp_in l3 24 ∧ (Q (.inl (some (vi (l4 - (gi M 60 (l3).toNatClampNeg))))) M)) else (if l2 = 3 then (vp_in l3 24 ∧ (Q (.inl (some (vi (gi M 58 (l3).toNatClampNeg)))) M)) else (if l2 = 4 then (vp_in l3 24 ∧ (Q (.inl (some (vi (s0 - (gi M 62 (l3).toNatClampNeg))))) M)) else (Q (.inl (some (vi (-1 : Int32)))) M)))))) : Z E YX1_frame d M [(0, vr (some (16, 0, 0))), (2, vi l2), (3, vi l3), (4, vi l4)] 70 [vi s0] Q := by
  refine z_ist dX1_frame_70 (by decide) (lv' := [(0, vr (some (16, 0, 0))), (2, vi l2), (3, vi l3), (4, vi l4), (5, vi s0)]) rfl ?_
  refine z_iload_n dX1_frame_72 rfl rfl ?_
  by_cases h0_ : l2 = 0
  · have k := zit h0_ k
    refine z_tableIn (off := 35) (tgt := 108) dX1_frame_73 (by rw [h0_]; decide) (by rw [h0_]; decide) (by rw [h0_]; rfl) rfl ?_
    refine z_aload_n dX1_frame_108 rfl rfl ?_
    refine z_getr dX1_frame_109 fsX1_160_0 (show gr M 16 39 = some (57, 102, 24) from cw_at hw 25 rfl) ?_
    refine z_iload_n dX1_frame_112 rfl rfl ?_
    obtain ⟨b_, k⟩ := k
    refine z_sald dX1_frame_113 b_ ?_
    exact z_iret dX1_frame_114 rfl rfl k
  · have k := zif h0_ k
    by_cases h1_ : l2 = 1
    · have k := zit h1_ k
      refine z_tableIn (off := 42) (tgt := 115) dX1_frame_73 (by rw [h1_]; decide) (by rw [h1_]; decide) (by rw [h1_]; rfl) rfl ?_
      refine z_aload_n dX1_frame_115 rfl rfl ?_
      refine z_getr dX1_frame_116 fsX1_166_0 (show gr M 16 41 = some (59, 102, 24) from cw_at hw 27 rfl) ?_
      refine z_iload_n dX1_frame_119 rfl rfl ?_
      obtain ⟨b_, k⟩ := k
      refine z_sald dX1_frame_120 b_ ?_
      exact z_iret dX1_frame_121 rfl rfl k
    · have k := zif h1_ k
      by_cases h2_ : l2 = 2
      · have k := zit h2_ k
        refine z_tableIn (off := 49) (tgt := 122) dX1_frame_73 (by rw [h2_]; decide) (by rw [h2_]; decide) (by rw [h2_]; rfl) rfl ?_
        refine z_iload dX1_frame_122 rfl ?_
        refine z_aload_n dX1_frame_124 rfl rfl ?_
        refine z_getr dX1_frame_125 fsX1_169_0 (show gr M 16 42 = some (60, 102, 24) from cw_at hw 28 rfl) ?_
        refine z_iload_n dX1_frame_128 rfl rfl ?_
        obtain ⟨b_, k⟩ := k
        refine z_sald dX1_frame_129 b_ ?_
        refine z_isub dX1_frame_130 ?_
        exact z_iret dX1_frame_131 rfl rfl k
      · have k := zif h2_ k
        by_cases h3_ : l2 = 3
        · have k := zit h3_ k
          refine z_tableIn (off := 59) (tgt := 132) dX1_frame_73 (by rw [h3_]; decide) (by rw [h3_]; decide) (by rw [h3_]; rfl) rfl ?_
          refine z_aload_n dX1_frame_132 rfl rfl ?_
          refine z_getr dX1_frame_133 fsX1_163_0 (show gr M 16 40 = some (58, 102, 24) from cw_at hw 26 rfl) ?_
          refine z_iload_n dX1_frame_136 rfl rfl ?_
          obtain ⟨b_, k⟩ := k
          refine z_sald dX1_frame_137 b_ ?_
          exact z_iret dX1_frame_138 rfl rfl k
        · have k := zif h3_ k
          by_cases h4_ : l2 = 4
          · have k := zit h4_ k
            refine z_tableIn (off := 66) (tgt := 139) dX1_frame_73 (by rw [h4_]; decide) (by rw [h4_]; decide) (by rw [h4_]; rfl) rfl ?_
            refine z_iload dX1_frame_139 rfl ?_
            refine z_aload_n dX1_frame_141 rfl rfl ?_
            refine z_getr dX1_frame_142 fsX1_175_0 (show gr M 16 44 = some (62, 102, 24) from cw_at hw 30 rfl) ?_
            refine z_iload_n dX1_frame_145 rfl rfl ?_
            obtain ⟨b_, k⟩ := k
            refine z_sald dX1_frame_146 b_ ?_
            refine z_isub dX1_frame_147 ?_
            exact z_iret dX1_frame_148 rfl rfl k
          · have k := zif h4_ k
            refine z_tout (tgt := 149) [0, 1, 2, 3, 4] (by decide) dX1_frame_73 (zall_1 h0_ (zall_1 h1_ (zall_1 h2_ (zall_1 h3_ (zall_1 h4_ zall_0))))) rfl ?_
            refine z_iconst (v := -1) dX1_frame_149 rfl ?_
            exact z_iret dX1_frame_150 rfl rfl k
/-! ScriptTypes.value(III)I -/
theorem bX1_value_0 : zdec cX1_value 0 [(0, .aload_n 0, 1), (1, .iload_n 1, 1), (2, .iconst 2, 1), (3, .invokevirtual 588, 3), (6, .istore 4, 2), (8, .iload 4, 2), (10, .iconst (-1), 1), (11, .if_icmp .eq 14, 3), (14, .iload_n 2, 1), (15, .iconst (-1), 1), (16, .if_icmp .lt 9, 3), (19, .iload_n 2, 1), (20, .iload 4, 2), (22, .if_icmp .lt 5, 3), (25, .iconst (-1), 1), (26, .ireturn, 1)] = true := by decide +kernel
theorem dX1_value_0 : decode cX1_value 0 = .ok (.aload_n 0, 1) := zdec_at bX1_value_0 0 rfl
theorem dX1_value_1 : decode cX1_value 1 = .ok (.iload_n 1, 1) := zdec_at bX1_value_0 1 rfl
theorem dX1_value_2 : decode cX1_value 2 = .ok (.iconst 2, 1) := zdec_at bX1_value_0 2 rfl
theorem dX1_value_3 : decode cX1_value 3 = .ok (.invokevirtual 588, 3) := zdec_at bX1_value_0 3 rfl
theorem dX1_value_6 : decode cX1_value 6 = .ok (.istore 4, 2) := zdec_at bX1_value_0 4 rfl
theorem dX1_value_8 : decode cX1_value 8 = .ok (.iload 4, 2) := zdec_at bX1_value_0 5 rfl
theorem dX1_value_10 : decode cX1_value 10 = .ok (.iconst (-1), 1) := zdec_at bX1_value_0 6 rfl
theorem dX1_value_11 : decode cX1_value 11 = .ok (.if_icmp .eq 14, 3) := zdec_at bX1_value_0 7 rfl
theorem dX1_value_14 : decode cX1_value 14 = .ok (.iload_n 2, 1) := zdec_at bX1_value_0 8 rfl
theorem dX1_value_15 : decode cX1_value 15 = .ok (.iconst (-1), 1) := zdec_at bX1_value_0 9 rfl
theorem dX1_value_16 : decode cX1_value 16 = .ok (.if_icmp .lt 9, 3) := zdec_at bX1_value_0 10 rfl
theorem dX1_value_19 : decode cX1_value 19 = .ok (.iload_n 2, 1) := zdec_at bX1_value_0 11 rfl
theorem dX1_value_20 : decode cX1_value 20 = .ok (.iload 4, 2) := zdec_at bX1_value_0 12 rfl
theorem dX1_value_22 : decode cX1_value 22 = .ok (.if_icmp .lt 5, 3) := zdec_at bX1_value_0 13 rfl
theorem dX1_value_25 : decode cX1_value 25 = .ok (.iconst (-1), 1) := zdec_at bX1_value_0 14 rfl
theorem dX1_value_26 : decode cX1_value 26 = .ok (.ireturn, 1) := zdec_at bX1_value_0 15 rfl
theorem bX1_value_27 : zdec cX1_value 27 [(27, .aload_n 0, 1), (28, .getfield 328, 3), (31, .iconst 1, 1), (32, .isub, 1), (33, .iload_n 1, 1), (34, .isub, 1), (35, .istore 5, 2), (37, .iload_n 2, 1), (38, .iconst (-1), 1), (39, .if_icmp .ne 23, 3), (42, .aload_n 0, 1), (43, .aload_n 0, 1), (44, .getfield 178, 3), (47, .iload 5, 2), (49, .baload, 1), (50, .aload_n 0, 1)] = true := by decide +kernel
theorem dX1_value_27 : decode cX1_value 27 = .ok (.aload_n 0, 1) := zdec_at bX1_value_27 0 rfl
theorem dX1_value_28 : decode cX1_value 28 = .ok (.getfield 328, 3) := zdec_at bX1_value_27 1 rfl
theorem dX1_value_31 : decode cX1_value 31 = .ok (.iconst 1, 1) := zdec_at bX1_value_27 2 rfl
theorem dX1_value_32 : decode cX1_value 32 = .ok (.isub, 1) := zdec_at bX1_value_27 3 rfl
theorem dX1_value_33 : decode cX1_value 33 = .ok (.iload_n 1, 1) := zdec_at bX1_value_27 4 rfl
theorem dX1_value_34 : decode cX1_value 34 = .ok (.isub, 1) := zdec_at bX1_value_27 5 rfl
theorem dX1_value_35 : decode cX1_value 35 = .ok (.istore 5, 2) := zdec_at bX1_value_27 6 rfl
theorem dX1_value_37 : decode cX1_value 37 = .ok (.iload_n 2, 1) := zdec_at bX1_value_27 7 rfl
theorem dX1_value_38 : decode cX1_value 38 = .ok (.iconst (-1), 1) := zdec_at bX1_value_27 8 rfl
theorem dX1_value_39 : decode cX1_value 39 = .ok (.if_icmp .ne 23, 3) := zdec_at bX1_value_27 9 rfl
theorem dX1_value_42 : decode cX1_value 42 = .ok (.aload_n 0, 1) := zdec_at bX1_value_27 10 rfl
theorem dX1_value_43 : decode cX1_value 43 = .ok (.aload_n 0, 1) := zdec_at bX1_value_27 11 rfl
theorem dX1_value_44 : decode cX1_value 44 = .ok (.getfield 178, 3) := zdec_at bX1_value_27 12 rfl
theorem dX1_value_47 : decode cX1_value 47 = .ok (.iload 5, 2) := zdec_at bX1_value_27 13 rfl
theorem dX1_value_49 : decode cX1_value 49 = .ok (.baload, 1) := zdec_at bX1_value_27 14 rfl
theorem dX1_value_50 : decode cX1_value 50 = .ok (.aload_n 0, 1) := zdec_at bX1_value_27 15 rfl
theorem bX1_value_51 : zdec cX1_value 51 [(51, .getfield 181, 3), (54, .iload 5, 2), (56, .iaload, 1), (57, .iload_n 3, 1), (58, .invokevirtual 591, 3), (61, .ireturn, 1), (62, .aload_n 0, 1), (63, .getfield 169, 3), (66, .iload 5, 2), (68, .saload, 1), (69, .iload_n 2, 1), (70, .iadd, 1), (71, .istore 6, 2), (73, .aload_n 0, 1), (74, .getfield 148, 3), (77, .iload 6, 2)] = true := by decide +kernel
theorem dX1_value_51 : decode cX1_value 51 = .ok (.getfield 181, 3) := zdec_at bX1_value_51 0 rfl
theorem dX1_value_54 : decode cX1_value 54 = .ok (.iload 5, 2) := zdec_at bX1_value_51 1 rfl
theorem dX1_value_56 : decode cX1_value 56 = .ok (.iaload, 1) := zdec_at bX1_value_51 2 rfl
theorem dX1_value_57 : decode cX1_value 57 = .ok (.iload_n 3, 1) := zdec_at bX1_value_51 3 rfl
theorem dX1_value_58 : decode cX1_value 58 = .ok (.invokevirtual 591, 3) := zdec_at bX1_value_51 4 rfl
theorem dX1_value_61 : decode cX1_value 61 = .ok (.ireturn, 1) := zdec_at bX1_value_51 5 rfl
theorem dX1_value_62 : decode cX1_value 62 = .ok (.aload_n 0, 1) := zdec_at bX1_value_51 6 rfl
theorem dX1_value_63 : decode cX1_value 63 = .ok (.getfield 169, 3) := zdec_at bX1_value_51 7 rfl
theorem dX1_value_66 : decode cX1_value 66 = .ok (.iload 5, 2) := zdec_at bX1_value_51 8 rfl
theorem dX1_value_68 : decode cX1_value 68 = .ok (.saload, 1) := zdec_at bX1_value_51 9 rfl
theorem dX1_value_69 : decode cX1_value 69 = .ok (.iload_n 2, 1) := zdec_at bX1_value_51 10 rfl
theorem dX1_value_70 : decode cX1_value 70 = .ok (.iadd, 1) := zdec_at bX1_value_51 11 rfl
theorem dX1_value_71 : decode cX1_value 71 = .ok (.istore 6, 2) := zdec_at bX1_value_51 12 rfl
theorem dX1_value_73 : decode cX1_value 73 = .ok (.aload_n 0, 1) := zdec_at bX1_value_51 13 rfl
theorem dX1_value_74 : decode cX1_value 74 = .ok (.getfield 148, 3) := zdec_at bX1_value_51 14 rfl
theorem dX1_value_77 : decode cX1_value 77 = .ok (.iload 6, 2) := zdec_at bX1_value_51 15 rfl
theorem bX1_value_79 : zdec cX1_value 79 [(79, .baload, 1), (80, .bipush 8, 2), (82, .if_icmp .ne 17, 3), (85, .iload_n 3, 1), (86, .iconst 1, 1), (87, .if_icmp .ne 12, 3), (90, .aload_n 0, 1), (91, .iload 6, 2), (93, .invokevirtual 595, 3), (96, .goto 22, 3), (99, .aload_n 0, 1), (100, .aload_n 0, 1), (101, .getfield 148, 3), (104, .iload 6, 2), (106, .baload, 1), (107, .aload_n 0, 1)] = true := by decide +kernel
theorem dX1_value_79 : decode cX1_value 79 = .ok (.baload, 1) := zdec_at bX1_value_79 0 rfl
theorem dX1_value_80 : decode cX1_value 80 = .ok (.bipush 8, 2) := zdec_at bX1_value_79 1 rfl
theorem dX1_value_82 : decode cX1_value 82 = .ok (.if_icmp .ne 17, 3) := zdec_at bX1_value_79 2 rfl
theorem dX1_value_85 : decode cX1_value 85 = .ok (.iload_n 3, 1) := zdec_at bX1_value_79 3 rfl
theorem dX1_value_86 : decode cX1_value 86 = .ok (.iconst 1, 1) := zdec_at bX1_value_79 4 rfl
theorem dX1_value_87 : decode cX1_value 87 = .ok (.if_icmp .ne 12, 3) := zdec_at bX1_value_79 5 rfl
theorem dX1_value_90 : decode cX1_value 90 = .ok (.aload_n 0, 1) := zdec_at bX1_value_79 6 rfl
theorem dX1_value_91 : decode cX1_value 91 = .ok (.iload 6, 2) := zdec_at bX1_value_79 7 rfl
theorem dX1_value_93 : decode cX1_value 93 = .ok (.invokevirtual 595, 3) := zdec_at bX1_value_79 8 rfl
theorem dX1_value_96 : decode cX1_value 96 = .ok (.goto 22, 3) := zdec_at bX1_value_79 9 rfl
theorem dX1_value_99 : decode cX1_value 99 = .ok (.aload_n 0, 1) := zdec_at bX1_value_79 10 rfl
theorem dX1_value_100 : decode cX1_value 100 = .ok (.aload_n 0, 1) := zdec_at bX1_value_79 11 rfl
theorem dX1_value_101 : decode cX1_value 101 = .ok (.getfield 148, 3) := zdec_at bX1_value_79 12 rfl
theorem dX1_value_104 : decode cX1_value 104 = .ok (.iload 6, 2) := zdec_at bX1_value_79 13 rfl
theorem dX1_value_106 : decode cX1_value 106 = .ok (.baload, 1) := zdec_at bX1_value_79 14 rfl
theorem dX1_value_107 : decode cX1_value 107 = .ok (.aload_n 0, 1) := zdec_at bX1_value_79 15 rfl
theorem bX1_value_108 : zdec cX1_value 108 [(108, .getfield 151, 3), (111, .iload 6, 2), (113, .iaload, 1), (114, .iload_n 3, 1), (115, .invokevirtual 591, 3), (118, .ireturn, 1)] = true := by decide +kernel
theorem dX1_value_108 : decode cX1_value 108 = .ok (.getfield 151, 3) := zdec_at bX1_value_108 0 rfl
theorem dX1_value_111 : decode cX1_value 111 = .ok (.iload 6, 2) := zdec_at bX1_value_108 1 rfl
theorem dX1_value_113 : decode cX1_value 113 = .ok (.iaload, 1) := zdec_at bX1_value_108 2 rfl
theorem dX1_value_114 : decode cX1_value 114 = .ok (.iload_n 3, 1) := zdec_at bX1_value_108 3 rfl
theorem dX1_value_115 : decode cX1_value 115 = .ok (.invokevirtual 591, 3) := zdec_at bX1_value_108 4 rfl
theorem dX1_value_118 : decode cX1_value 118 = .ok (.ireturn, 1) := zdec_at bX1_value_108 5 rfl
theorem sX1_value_0 {E : zE} {d : Nat} {Q : zO → zM → Prop} (M : zM) (l1 : Int32) (l2 : Int32) (l3 : Int32) (hw : cw M) (k : Z E YX1_frame d M (zargs 0 [vr (some (16, 0, 0)), vi l1, vi (2 : Int32)]) 0 [] (zafter E YX1_value (d + 1) [(0, vr (some (16, 0, 0))), (1, vi l1), (2, vi l2), (3, vi l3)] 3 3 [] Q)) : Z E YX1_value (d + 1) M [(0, vr (some (16, 0, 0))), (1, vi l1), (2, vi l2), (3, vi l3)] 0 [] Q := by
  refine z_aload_n dX1_value_0 rfl rfl ?_
  refine z_iload_n dX1_value_1 rfl rfl ?_
  refine z_iconst (v := 2) dX1_value_2 rfl ?_
  exact z_callV (as := [vi l1, vi (2 : Int32)]) (st := []) dX1_value_3 vsX1_588_0 (Nat.le_refl _) (Nat.le_of_ble_eq_true rfl) (Nat.le_of_ble_eq_true rfl) rfl k
theorem sX1_value_6 {E : zE} {d : Nat} {Q : zO → zM → Prop} (M : zM) (l1 : Int32) (l2 : Int32) (l3 : Int32) (s0 : Int32) (hw : cw M) (k : if s0 = (-1 : Int32) then (Q (.inl (some (vi (-1 : Int32)))) M) else (if l2 < (-1 : Int32) then (Q (.inl (some (vi (-1 : Int32)))) M) else (if l2 < s0 then (if l2 = (-1 : Int32) then (vp_in (((gi M 16 49) - (1 : Int32)) - l1) 24 ∧ (vp_in (((gi M 16 49) - (1 : Int32)) - l1) 24 ∧ (Z E YX1_told d M (zargs 0 [vr (some (16, 0, 0)), vi (gi M 63 ((((gi M 16 49) - (1 : Int32)) - l1)).toNatClampNeg), vi (gi M 64 ((((gi M 16 49) - (1 : Int32)) - l1)).toNatClampNeg), vi l3]) 0 [] (zafter E YX1_value (d + 1) [] 58 3 [] Q)))) else (vp_in (((gi M 16 49) - (1 : Int32)) - l1) 24 ∧ (vp_in ((gi M 60 ((((gi M 16 49) - (1 : Int32)) - l1)).toNatClampNeg) + l2) 14500 ∧ (if (gi M 53 (((gi M 60 ((((gi M 16 49) - (1 : Int32)) - l1)).toNatClampNeg) + l2)).toNatClampNeg) = (8 : Int32) then (if l3 = (1 : Int32) then (Z E YX1_leftOf d M (zargs 0 [vr (some (16, 0, 0)), vi ((gi M 60 ((((gi M 16 49) - (1 : Int32)) - l1)).toNatClampNeg) + l2)]) 0 [] (zafter E YX1_value (d + 1) [] 93 3 [] Q)) else (Z E YX1_value (d + 1) M [(0, vr (some (16, 0, 0))), (3, vi l3), (6, vi ((gi M 60 ((((gi M 16 49) - (1 : Int32)) - l1)).toNatClampNeg) + l2))] 99 [] Q)) else (Z E YX1_value (d + 1) M [(0, vr (some (16, 0, 0))), (3, vi l3), (6, vi ((gi M 60 ((((gi M 16 49) - (1 : Int32)) - l1)).toNatClampNeg) + l2))] 99 [] Q))))) else (Q (.inl (some (vi (-1 : Int32)))) M)))) : Z E YX1_value (d + 1) M [(0, vr (some (16, 0, 0))), (1, vi l1), (2, vi l2), (3, vi l3)] 6 [vi s0] Q := by
  refine z_ist dX1_value_6 (by decide) (lv' := [(0, vr (some (16, 0, 0))), (1, vi l1), (2, vi l2), (3, vi l3), (4, vi s0)]) rfl ?_
  refine z_iload dX1_value_8 rfl ?_
  refine z_iconst (v := -1) dX1_value_10 rfl ?_
  refine z_icmp_eq (tgt := 25) dX1_value_11 rfl (fun h_ => ?_) (fun h_ => ?_)
  · have k := zit h_ k
    refine z_iconst (v := -1) dX1_value_25 rfl ?_
    exact z_iret dX1_value_26 rfl rfl k
  · have k := zif h_ k
    refine z_iload_n dX1_value_14 rfl rfl ?_
    refine z_iconst (v := -1) dX1_value_15 rfl ?_
    refine z_icmp_lt (tgt := 25) dX1_value_16 rfl (fun h_ => ?_) (fun h_ => ?_)
    · have k := zit h_ k
      refine z_iconst (v := -1) dX1_value_25 rfl ?_
      exact z_iret dX1_value_26 rfl rfl k
    · have k := zif h_ k
      refine z_iload_n dX1_value_19 rfl rfl ?_
      refine z_iload dX1_value_20 rfl ?_
      refine z_icmp_lt (tgt := 27) dX1_value_22 rfl (fun h_ => ?_) (fun h_ => ?_)
      · have k := zit h_ k
        refine z_aload_n dX1_value_27 rfl rfl ?_
        refine z_geti dX1_value_28 fsX1_328_0 ?_
        refine z_iconst (v := 1) dX1_value_31 rfl ?_
        refine z_isub dX1_value_32 ?_
        refine z_iload_n dX1_value_33 rfl rfl ?_
        refine z_isub dX1_value_34 ?_
        refine z_ist dX1_value_35 (by decide) (lv' := [(0, vr (some (16, 0, 0))), (1, vi l1), (2, vi l2), (3, vi l3), (4, vi s0), (5, vi (((gi M 16 49) - (1 : Int32)) - l1))]) rfl ?_
        refine z_iload_n dX1_value_37 rfl rfl ?_
        refine z_iconst (v := -1) dX1_value_38 rfl ?_
        refine z_icmp_ne (tgt := 62) dX1_value_39 rfl (fun h_ => ?_) (fun h_ => ?_)
        · have k := zif h_ k
          refine z_aload_n dX1_value_62 rfl rfl ?_
          refine z_getr dX1_value_63 fsX1_169_0 (show gr M 16 42 = some (60, 102, 24) from cw_at hw 28 rfl) ?_
          refine z_iload dX1_value_66 rfl ?_
          obtain ⟨b_, k⟩ := k
          refine z_sald dX1_value_68 b_ ?_
          refine z_iload_n dX1_value_69 rfl rfl ?_
          refine z_iadd dX1_value_70 ?_
          refine z_ist dX1_value_71 (by decide) (lv' := [(0, vr (some (16, 0, 0))), (1, vi l1), (2, vi l2), (3, vi l3), (4, vi s0), (5, vi (((gi M 16 49) - (1 : Int32)) - l1)), (6, vi ((gi M 60 ((((gi M 16 49) - (1 : Int32)) - l1)).toNatClampNeg) + l2))]) rfl ?_
          refine z_aload_n dX1_value_73 rfl rfl ?_
          refine z_getr dX1_value_74 fsX1_148_0 (show gr M 16 34 = some (53, 101, 14500) from cw_at hw 21 rfl) ?_
          refine z_iload dX1_value_77 rfl ?_
          obtain ⟨b_, k⟩ := k
          refine z_bald dX1_value_79 b_ ?_
          refine z_bipush (v := 8) dX1_value_80 rfl ?_
          refine z_icmp_ne (tgt := 99) dX1_value_82 rfl (fun h_ => ?_) (fun h_ => ?_)
          · have k := zif h_ k
            refine Z.pick [0, 3, 6] rfl ?_
            exact k
          · have k := zit h_ k
            refine z_iload_n dX1_value_85 rfl rfl ?_
            refine z_iconst (v := 1) dX1_value_86 rfl ?_
            refine z_icmp_ne (tgt := 99) dX1_value_87 rfl (fun h_ => ?_) (fun h_ => ?_)
            · have k := zif h_ k
              refine Z.pick [0, 3, 6] rfl ?_
              exact k
            · have k := zit h_ k
              refine z_aload_n dX1_value_90 rfl rfl ?_
              refine z_iload dX1_value_91 rfl ?_
              refine Z.pick [] rfl ?_
              exact z_callV (as := [vi ((gi M 60 ((((gi M 16 49) - (1 : Int32)) - l1)).toNatClampNeg) + l2)]) (st := []) dX1_value_93 vsX1_595_0 (Nat.le_refl _) (Nat.le_of_ble_eq_true rfl) (Nat.le_of_ble_eq_true rfl) rfl k
        · have k := zit h_ k
          refine z_aload_n dX1_value_42 rfl rfl ?_
          refine z_aload_n dX1_value_43 rfl rfl ?_
          refine z_getr dX1_value_44 fsX1_178_0 (show gr M 16 45 = some (63, 101, 24) from cw_at hw 31 rfl) ?_
          refine z_iload dX1_value_47 rfl ?_
          obtain ⟨b_, k⟩ := k
          refine z_bald dX1_value_49 b_ ?_
          refine z_aload_n dX1_value_50 rfl rfl ?_
          refine z_getr dX1_value_51 fsX1_181_0 (show gr M 16 46 = some (64, 100, 24) from cw_at hw 32 rfl) ?_
          refine z_iload dX1_value_54 rfl ?_
          obtain ⟨b_, k⟩ := k
          refine z_iald dX1_value_56 b_ ?_
          refine z_iload_n dX1_value_57 rfl rfl ?_
          refine Z.pick [] rfl ?_
          exact z_callV (as := [vi (gi M 63 ((((gi M 16 49) - (1 : Int32)) - l1)).toNatClampNeg), vi (gi M 64 ((((gi M 16 49) - (1 : Int32)) - l1)).toNatClampNeg), vi l3]) (st := []) dX1_value_58 vsX1_591_0 (Nat.le_refl _) (Nat.le_of_ble_eq_true rfl) (Nat.le_of_ble_eq_true rfl) rfl k
      · have k := zif h_ k
        refine z_iconst (v := -1) dX1_value_25 rfl ?_
        exact z_iret dX1_value_26 rfl rfl k
theorem sX1_value_61 {E : zE} {d : Nat} {Q : zO → zM → Prop} (M : zM) (s0 : Int32) (hw : cw M) (k : Q (.inl (some (vi s0))) M) : Z E YX1_value (d + 1) M [] 61 [vi s0] Q := by
  exact z_iret dX1_value_61 rfl rfl k
theorem sX1_value_96 {E : zE} {d : Nat} {Q : zO → zM → Prop} (M : zM) (s0 : Int32) (hw : cw M) (k : Z E YX1_value (d + 1) M [] 118 [vi s0] Q) : Z E YX1_value (d + 1) M [] 96 [vi s0] Q := by
  refine z_goto (tgt := 118) dX1_value_96 rfl ?_
  exact k
theorem sX1_value_99 {E : zE} {d : Nat} {Q : zO → zM → Prop} (M : zM) (l3 : Int32) (l6 : Int32) (hw : cw M) (k : vp_in l6 14500 ∧ (vp_in l6 14500 ∧ (Z E YX1_told d M (zargs 0 [vr (some (16, 0, 0)), vi (gi M 53 (l6).toNatClampNeg), vi (gi M 54 (l6).toNatClampNeg), vi l3]) 0 [] (zafter E YX1_value (d + 1) [] 115 3 [] Q)))) : Z E YX1_value (d + 1) M [(0, vr (some (16, 0, 0))), (3, vi l3), (6, vi l6)] 99 [] Q := by
  refine z_aload_n dX1_value_99 rfl rfl ?_
  refine z_aload_n dX1_value_100 rfl rfl ?_
  refine z_getr dX1_value_101 fsX1_148_0 (show gr M 16 34 = some (53, 101, 14500) from cw_at hw 21 rfl) ?_
  refine z_iload dX1_value_104 rfl ?_
  obtain ⟨b_, k⟩ := k
  refine z_bald dX1_value_106 b_ ?_
  refine z_aload_n dX1_value_107 rfl rfl ?_
  refine z_getr dX1_value_108 fsX1_151_0 (show gr M 16 35 = some (54, 100, 14500) from cw_at hw 22 rfl) ?_
  refine z_iload dX1_value_111 rfl ?_
  obtain ⟨b_, k⟩ := k
  refine z_iald dX1_value_113 b_ ?_
  refine z_iload_n dX1_value_114 rfl rfl ?_
  refine Z.pick [] rfl ?_
  exact z_callV (as := [vi (gi M 53 (l6).toNatClampNeg), vi (gi M 54 (l6).toNatClampNeg), vi l3]) (st := []) dX1_value_115 vsX1_591_0 (Nat.le_refl _) (Nat.le_of_ble_eq_true rfl) (Nat.le_of_ble_eq_true rfl) rfl k
theorem sX1_value_118 {E : zE} {d : Nat} {Q : zO → zM → Prop} (M : zM) (s0 : Int32) (hw : cw M) (k : Q (.inl (some (vi s0))) M) : Z E YX1_value (d + 1) M [] 118 [vi s0] Q := by
  exact z_iret dX1_value_118 rfl rfl k
/-! ScriptTypes.told(III)I -/
theorem bX1_told_0 : zdec cX1_told 0 [(0, .iload_n 3, 1), (1, .ifCond .ne 7, 3), (4, .iload_n 1, 1), (5, .goto 22, 3), (8, .iload_n 3, 1), (9, .iconst 1, 1), (10, .if_icmp .ne 16, 3), (13, .iload_n 1, 1), (14, .iconst 5, 1), (15, .if_icmp .lt 7, 3), (18, .iload_n 2, 1), (19, .goto 8, 3), (22, .iconst 0, 1), (23, .goto 4, 3), (26, .iconst (-1), 1), (27, .ireturn, 1)] = true := by decide +kernel
theorem dX1_told_0 : decode cX1_told 0 = .ok (.iload_n 3, 1) := zdec_at bX1_told_0 0 rfl
theorem dX1_told_1 : decode cX1_told 1 = .ok (.ifCond .ne 7, 3) := zdec_at bX1_told_0 1 rfl
theorem dX1_told_4 : decode cX1_told 4 = .ok (.iload_n 1, 1) := zdec_at bX1_told_0 2 rfl
theorem dX1_told_5 : decode cX1_told 5 = .ok (.goto 22, 3) := zdec_at bX1_told_0 3 rfl
theorem dX1_told_8 : decode cX1_told 8 = .ok (.iload_n 3, 1) := zdec_at bX1_told_0 4 rfl
theorem dX1_told_9 : decode cX1_told 9 = .ok (.iconst 1, 1) := zdec_at bX1_told_0 5 rfl
theorem dX1_told_10 : decode cX1_told 10 = .ok (.if_icmp .ne 16, 3) := zdec_at bX1_told_0 6 rfl
theorem dX1_told_13 : decode cX1_told 13 = .ok (.iload_n 1, 1) := zdec_at bX1_told_0 7 rfl
theorem dX1_told_14 : decode cX1_told 14 = .ok (.iconst 5, 1) := zdec_at bX1_told_0 8 rfl
theorem dX1_told_15 : decode cX1_told 15 = .ok (.if_icmp .lt 7, 3) := zdec_at bX1_told_0 9 rfl
theorem dX1_told_18 : decode cX1_told 18 = .ok (.iload_n 2, 1) := zdec_at bX1_told_0 10 rfl
theorem dX1_told_19 : decode cX1_told 19 = .ok (.goto 8, 3) := zdec_at bX1_told_0 11 rfl
theorem dX1_told_22 : decode cX1_told 22 = .ok (.iconst 0, 1) := zdec_at bX1_told_0 12 rfl
theorem dX1_told_23 : decode cX1_told 23 = .ok (.goto 4, 3) := zdec_at bX1_told_0 13 rfl
theorem dX1_told_26 : decode cX1_told 26 = .ok (.iconst (-1), 1) := zdec_at bX1_told_0 14 rfl
theorem dX1_told_27 : decode cX1_told 27 = .ok (.ireturn, 1) := zdec_at bX1_told_0 15 rfl
theorem sX1_told_0 {E : zE} {d : Nat} {Q : zO → zM → Prop} (M : zM) (l1 : Int32) (l2 : Int32) (l3 : Int32) (hw : cw M) (k : if l3 = 0 then (Q (.inl (some (vi l1))) M) else (if l3 = (1 : Int32) then (if l1 < (5 : Int32) then (Q (.inl (some (vi (0 : Int32)))) M) else (Q (.inl (some (vi l2))) M)) else (Q (.inl (some (vi (-1 : Int32)))) M))) : Z E YX1_told d M [(0, vr (some (16, 0, 0))), (1, vi l1), (2, vi l2), (3, vi l3)] 0 [] Q := by
  refine z_iload_n dX1_told_0 rfl rfl ?_
  refine z_if_ne (tgt := 8) dX1_told_1 rfl (fun h_ => ?_) (fun h_ => ?_)
  · have k := zif h_ k
    refine z_iload_n dX1_told_8 rfl rfl ?_
    refine z_iconst (v := 1) dX1_told_9 rfl ?_
    refine z_icmp_ne (tgt := 26) dX1_told_10 rfl (fun h_ => ?_) (fun h_ => ?_)
    · have k := zif h_ k
      refine z_iconst (v := -1) dX1_told_26 rfl ?_
      exact z_iret dX1_told_27 rfl rfl k
    · have k := zit h_ k
      refine z_iload_n dX1_told_13 rfl rfl ?_
      refine z_iconst (v := 5) dX1_told_14 rfl ?_
      refine z_icmp_lt (tgt := 22) dX1_told_15 rfl (fun h_ => ?_) (fun h_ => ?_)
      · have k := zit h_ k
        refine z_iconst (v := 0) dX1_told_22 rfl ?_
        refine z_goto (tgt := 27) dX1_told_23 rfl ?_
        exact z_iret dX1_told_27 rfl rfl k
      · have k := zif h_ k
        refine z_iload_n dX1_told_18 rfl rfl ?_
        refine z_goto (tgt := 27) dX1_told_19 rfl ?_
        exact z_iret dX1_told_27 rfl rfl k
  · have k := zit h_ k
    refine z_iload_n dX1_told_4 rfl rfl ?_
    refine z_goto (tgt := 27) dX1_told_5 rfl ?_
    exact z_iret dX1_told_27 rfl rfl k
/-! ScriptTypes.leftOf(I)I -/
theorem bX1_leftOf_0 : zdec cX1_leftOf 0 [(0, .aload_n 0, 1), (1, .getfield 157, 3), (4, .iload_n 1, 1), (5, .iaload, 1), (6, .istore_n 2, 1), (7, .iconst 0, 1), (8, .istore_n 3, 1), (9, .aload_n 0, 1), (10, .iload_n 1, 1), (11, .invokevirtual 535, 3), (14, .istore 4, 2), (16, .iload 4, 2), (18, .iconst (-1), 1), (19, .if_icmp .eq 29, 3), (22, .aload_n 0, 1), (23, .getfield 157, 3)] = true := by decide +kernel
theorem dX1_leftOf_0 : decode cX1_leftOf 0 = .ok (.aload_n 0, 1) := zdec_at bX1_leftOf_0 0 rfl
theorem dX1_leftOf_1 : decode cX1_leftOf 1 = .ok (.getfield 157, 3) := zdec_at bX1_leftOf_0 1 rfl
theorem dX1_leftOf_4 : decode cX1_leftOf 4 = .ok (.iload_n 1, 1) := zdec_at bX1_leftOf_0 2 rfl
theorem dX1_leftOf_5 : decode cX1_leftOf 5 = .ok (.iaload, 1) := zdec_at bX1_leftOf_0 3 rfl
theorem dX1_leftOf_6 : decode cX1_leftOf 6 = .ok (.istore_n 2, 1) := zdec_at bX1_leftOf_0 4 rfl
theorem dX1_leftOf_7 : decode cX1_leftOf 7 = .ok (.iconst 0, 1) := zdec_at bX1_leftOf_0 5 rfl
theorem dX1_leftOf_8 : decode cX1_leftOf 8 = .ok (.istore_n 3, 1) := zdec_at bX1_leftOf_0 6 rfl
theorem dX1_leftOf_9 : decode cX1_leftOf 9 = .ok (.aload_n 0, 1) := zdec_at bX1_leftOf_0 7 rfl
theorem dX1_leftOf_10 : decode cX1_leftOf 10 = .ok (.iload_n 1, 1) := zdec_at bX1_leftOf_0 8 rfl
theorem dX1_leftOf_11 : decode cX1_leftOf 11 = .ok (.invokevirtual 535, 3) := zdec_at bX1_leftOf_0 9 rfl
theorem dX1_leftOf_14 : decode cX1_leftOf 14 = .ok (.istore 4, 2) := zdec_at bX1_leftOf_0 10 rfl
theorem dX1_leftOf_16 : decode cX1_leftOf 16 = .ok (.iload 4, 2) := zdec_at bX1_leftOf_0 11 rfl
theorem dX1_leftOf_18 : decode cX1_leftOf 18 = .ok (.iconst (-1), 1) := zdec_at bX1_leftOf_0 12 rfl
theorem dX1_leftOf_19 : decode cX1_leftOf 19 = .ok (.if_icmp .eq 29, 3) := zdec_at bX1_leftOf_0 13 rfl
theorem dX1_leftOf_22 : decode cX1_leftOf 22 = .ok (.aload_n 0, 1) := zdec_at bX1_leftOf_0 14 rfl
theorem dX1_leftOf_23 : decode cX1_leftOf 23 = .ok (.getfield 157, 3) := zdec_at bX1_leftOf_0 15 rfl
theorem bX1_leftOf_26 : zdec cX1_leftOf 26 [(26, .iload_n 1, 1), (27, .aload_n 0, 1), (28, .getfield 131, 3), (31, .iload 4, 2), (33, .iaload, 1), (34, .iastore, 1), (35, .iinc 3 1, 3), (38, .aload_n 0, 1), (39, .iload_n 1, 1), (40, .invokevirtual 535, 3), (43, .istore 4, 2), (45, .goto (-29), 3), (48, .aload_n 0, 1), (49, .getfield 157, 3), (52, .iload_n 1, 1), (53, .iload_n 2, 1)] = true := by decide +kernel
theorem dX1_leftOf_26 : decode cX1_leftOf 26 = .ok (.iload_n 1, 1) := zdec_at bX1_leftOf_26 0 rfl
theorem dX1_leftOf_27 : decode cX1_leftOf 27 = .ok (.aload_n 0, 1) := zdec_at bX1_leftOf_26 1 rfl
theorem dX1_leftOf_28 : decode cX1_leftOf 28 = .ok (.getfield 131, 3) := zdec_at bX1_leftOf_26 2 rfl
theorem dX1_leftOf_31 : decode cX1_leftOf 31 = .ok (.iload 4, 2) := zdec_at bX1_leftOf_26 3 rfl
theorem dX1_leftOf_33 : decode cX1_leftOf 33 = .ok (.iaload, 1) := zdec_at bX1_leftOf_26 4 rfl
theorem dX1_leftOf_34 : decode cX1_leftOf 34 = .ok (.iastore, 1) := zdec_at bX1_leftOf_26 5 rfl
theorem dX1_leftOf_35 : decode cX1_leftOf 35 = .ok (.iinc 3 1, 3) := zdec_at bX1_leftOf_26 6 rfl
theorem dX1_leftOf_38 : decode cX1_leftOf 38 = .ok (.aload_n 0, 1) := zdec_at bX1_leftOf_26 7 rfl
theorem dX1_leftOf_39 : decode cX1_leftOf 39 = .ok (.iload_n 1, 1) := zdec_at bX1_leftOf_26 8 rfl
theorem dX1_leftOf_40 : decode cX1_leftOf 40 = .ok (.invokevirtual 535, 3) := zdec_at bX1_leftOf_26 9 rfl
theorem dX1_leftOf_43 : decode cX1_leftOf 43 = .ok (.istore 4, 2) := zdec_at bX1_leftOf_26 10 rfl
theorem dX1_leftOf_45 : decode cX1_leftOf 45 = .ok (.goto (-29), 3) := zdec_at bX1_leftOf_26 11 rfl
theorem dX1_leftOf_48 : decode cX1_leftOf 48 = .ok (.aload_n 0, 1) := zdec_at bX1_leftOf_26 12 rfl
theorem dX1_leftOf_49 : decode cX1_leftOf 49 = .ok (.getfield 157, 3) := zdec_at bX1_leftOf_26 13 rfl
theorem dX1_leftOf_52 : decode cX1_leftOf 52 = .ok (.iload_n 1, 1) := zdec_at bX1_leftOf_26 14 rfl
theorem dX1_leftOf_53 : decode cX1_leftOf 53 = .ok (.iload_n 2, 1) := zdec_at bX1_leftOf_26 15 rfl
theorem bX1_leftOf_54 : zdec cX1_leftOf 54 [(54, .iastore, 1), (55, .iload_n 3, 1), (56, .ireturn, 1)] = true := by decide +kernel
theorem dX1_leftOf_54 : decode cX1_leftOf 54 = .ok (.iastore, 1) := zdec_at bX1_leftOf_54 0 rfl
theorem dX1_leftOf_55 : decode cX1_leftOf 55 = .ok (.iload_n 3, 1) := zdec_at bX1_leftOf_54 1 rfl
theorem dX1_leftOf_56 : decode cX1_leftOf 56 = .ok (.ireturn, 1) := zdec_at bX1_leftOf_54 2 rfl
theorem sX1_leftOf_0 {E : zE} {d : Nat} {Q : zO → zM → Prop} (M : zM) (l1 : Int32) (hw : cw M) (k : vp_in l1 14500 ∧ (Z E YX1_following d M (zargs 0 [vr (some (16, 0, 0)), vi l1]) 0 [] (zafter E YX1_leftOf (d + 1) [(0, vr (some (16, 0, 0))), (1, vi l1), (2, vi (gi M 56 (l1).toNatClampNeg)), (3, vi (0 : Int32))] 11 3 [] Q))) : Z E YX1_leftOf (d + 1) M [(0, vr (some (16, 0, 0))), (1, vi l1)] 0 [] Q := by
  refine z_aload_n dX1_leftOf_0 rfl rfl ?_
  refine z_getr dX1_leftOf_1 fsX1_157_0 (show gr M 16 37 = some (56, 100, 14500) from cw_at hw 24 rfl) ?_
  refine z_iload_n dX1_leftOf_4 rfl rfl ?_
  obtain ⟨b_, k⟩ := k
  refine z_iald dX1_leftOf_5 b_ ?_
  refine z_ist_n dX1_leftOf_6 rfl (by decide) (lv' := [(0, vr (some (16, 0, 0))), (1, vi l1), (2, vi (gi M 56 (l1).toNatClampNeg))]) rfl ?_
  refine z_iconst (v := 0) dX1_leftOf_7 rfl ?_
  refine z_ist_n dX1_leftOf_8 rfl (by decide) (lv' := [(0, vr (some (16, 0, 0))), (1, vi l1), (2, vi (gi M 56 (l1).toNatClampNeg)), (3, vi (0 : Int32))]) rfl ?_
  refine z_aload_n dX1_leftOf_9 rfl rfl ?_
  refine z_iload_n dX1_leftOf_10 rfl rfl ?_
  exact z_callV (as := [vi l1]) (st := []) dX1_leftOf_11 vsX1_535_0 (Nat.le_refl _) (Nat.le_of_ble_eq_true rfl) (Nat.le_of_ble_eq_true rfl) rfl k
theorem sX1_leftOf_14 {E : zE} {d : Nat} {Q : zO → zM → Prop} (M : zM) (l1 : Int32) (l2 : Int32) (l3 : Int32) (s0 : Int32) (hw : cw M) (k : Z E YX1_leftOf (d + 1) M [(0, vr (some (16, 0, 0))), (1, vi l1), (2, vi l2), (3, vi l3), (4, vi s0)] 16 [] Q) : Z E YX1_leftOf (d + 1) M [(0, vr (some (16, 0, 0))), (1, vi l1), (2, vi l2), (3, vi l3)] 14 [vi s0] Q := by
  refine z_ist dX1_leftOf_14 (by decide) (lv' := [(0, vr (some (16, 0, 0))), (1, vi l1), (2, vi l2), (3, vi l3), (4, vi s0)]) rfl ?_
  exact k
theorem sX1_leftOf_16 {E : zE} {d : Nat} {Q : zO → zM → Prop} (M : zM) (l1 : Int32) (l2 : Int32) (l3 : Int32) (l4 : Int32) (hw : cw M) (k : if l4 = (-1 : Int32) then (vp_in l1 14500 ∧ (Q (.inl (some (vi l3))) (si M 56 (l1).toNatClampNeg l2))) else (vp_in l4 3000 ∧ (vp_in l1 14500 ∧ (Z E YX1_following d (si M 56 (l1).toNatClampNeg (gi M 50 (l4).toNatClampNeg)) (zargs 0 [vr (some (16, 0, 0)), vi l1]) 0 [] (zafter E YX1_leftOf (d + 1) [(0, vr (some (16, 0, 0))), (1, vi l1), (2, vi l2), (3, vi (l3 + (1 : Int32)))] 40 3 [] Q))))) : Z E YX1_leftOf (d + 1) M [(0, vr (some (16, 0, 0))), (1, vi l1), (2, vi l2), (3, vi l3), (4, vi l4)] 16 [] Q := by
  refine z_iload dX1_leftOf_16 rfl ?_
  refine z_iconst (v := -1) dX1_leftOf_18 rfl ?_
  refine z_icmp_eq (tgt := 48) dX1_leftOf_19 rfl (fun h_ => ?_) (fun h_ => ?_)
  · have k := zit h_ k
    refine z_aload_n dX1_leftOf_48 rfl rfl ?_
    refine z_getr dX1_leftOf_49 fsX1_157_0 (show gr M 16 37 = some (56, 100, 14500) from cw_at hw 24 rfl) ?_
    refine z_iload_n dX1_leftOf_52 rfl rfl ?_
    refine z_iload_n dX1_leftOf_53 rfl rfl ?_
    obtain ⟨b_, k⟩ := k
    refine z_iast (by decide) dX1_leftOf_54 b_ ?_
    refine z_iload_n dX1_leftOf_55 rfl rfl ?_
    exact z_iret dX1_leftOf_56 rfl rfl k
  · have k := zif h_ k
    refine z_aload_n dX1_leftOf_22 rfl rfl ?_
    refine z_getr dX1_leftOf_23 fsX1_157_0 (show gr M 16 37 = some (56, 100, 14500) from cw_at hw 24 rfl) ?_
    refine z_iload_n dX1_leftOf_26 rfl rfl ?_
    refine z_aload_n dX1_leftOf_27 rfl rfl ?_
    refine z_getr dX1_leftOf_28 fsX1_131_0 (show gr M 16 25 = some (50, 100, 3000) from cw_at hw 18 rfl) ?_
    refine z_iload dX1_leftOf_31 rfl ?_
    obtain ⟨b_, k⟩ := k
    refine z_iald dX1_leftOf_33 b_ ?_
    obtain ⟨b_, k⟩ := k
    refine z_iast (by decide) dX1_leftOf_34 b_ ?_
    refine z_inc (v := (l3 + (1 : Int32))) dX1_leftOf_35 rfl rfl (by decide) (lv' := [(0, vr (some (16, 0, 0))), (1, vi l1), (2, vi l2), (3, vi (l3 + (1 : Int32))), (4, vi l4)]) rfl ?_
    refine z_aload_n dX1_leftOf_38 rfl rfl ?_
    refine z_iload_n dX1_leftOf_39 rfl rfl ?_
    refine Z.pick [0, 1, 2, 3] rfl ?_
    exact z_callV (as := [vi l1]) (st := []) dX1_leftOf_40 vsX1_535_0 (Nat.le_refl _) (Nat.le_of_ble_eq_true rfl) (Nat.le_of_ble_eq_true rfl) rfl k
theorem sX1_leftOf_43 {E : zE} {d : Nat} {Q : zO → zM → Prop} (M : zM) (l1 : Int32) (l2 : Int32) (l3 : Int32) (s0 : Int32) (hw : cw M) (k : Z E YX1_leftOf (d + 1) M [(0, vr (some (16, 0, 0))), (1, vi l1), (2, vi l2), (3, vi l3), (4, vi s0)] 16 [] Q) : Z E YX1_leftOf (d + 1) M [(0, vr (some (16, 0, 0))), (1, vi l1), (2, vi l2), (3, vi l3)] 43 [vi s0] Q := by
  refine z_ist dX1_leftOf_43 (by decide) (lv' := [(0, vr (some (16, 0, 0))), (1, vi l1), (2, vi l2), (3, vi l3), (4, vi s0)]) rfl ?_
  refine z_goto (tgt := 16) dX1_leftOf_45 rfl ?_
  exact k
/-! ScriptTypes.following(I)I -/
theorem bX1_following_0 : zdec cX1_following 0 [(0, .aload_n 0, 1), (1, .getfield 151, 3), (4, .iload_n 1, 1), (5, .iaload, 1), (6, .iconst (-1), 1), (7, .if_icmp .ne 5, 3), (10, .iconst (-1), 1), (11, .ireturn, 1), (12, .aload_n 0, 1), (13, .getfield 109, 3), (16, .aload_n 0, 1), (17, .getfield 151, 3), (20, .iload_n 1, 1), (21, .iaload, 1), (22, .saload, 1), (23, .istore_n 2, 1)] = true := by decide +kernel
theorem dX1_following_0 : decode cX1_following 0 = .ok (.aload_n 0, 1) := zdec_at bX1_following_0 0 rfl
theorem dX1_following_1 : decode cX1_following 1 = .ok (.getfield 151, 3) := zdec_at bX1_following_0 1 rfl
theorem dX1_following_4 : decode cX1_following 4 = .ok (.iload_n 1, 1) := zdec_at bX1_following_0 2 rfl
theorem dX1_following_5 : decode cX1_following 5 = .ok (.iaload, 1) := zdec_at bX1_following_0 3 rfl
theorem dX1_following_6 : decode cX1_following 6 = .ok (.iconst (-1), 1) := zdec_at bX1_following_0 4 rfl
theorem dX1_following_7 : decode cX1_following 7 = .ok (.if_icmp .ne 5, 3) := zdec_at bX1_following_0 5 rfl
theorem dX1_following_10 : decode cX1_following 10 = .ok (.iconst (-1), 1) := zdec_at bX1_following_0 6 rfl
theorem dX1_following_11 : decode cX1_following 11 = .ok (.ireturn, 1) := zdec_at bX1_following_0 7 rfl
theorem dX1_following_12 : decode cX1_following 12 = .ok (.aload_n 0, 1) := zdec_at bX1_following_0 8 rfl
theorem dX1_following_13 : decode cX1_following 13 = .ok (.getfield 109, 3) := zdec_at bX1_following_0 9 rfl
theorem dX1_following_16 : decode cX1_following 16 = .ok (.aload_n 0, 1) := zdec_at bX1_following_0 10 rfl
theorem dX1_following_17 : decode cX1_following 17 = .ok (.getfield 151, 3) := zdec_at bX1_following_0 11 rfl
theorem dX1_following_20 : decode cX1_following 20 = .ok (.iload_n 1, 1) := zdec_at bX1_following_0 12 rfl
theorem dX1_following_21 : decode cX1_following 21 = .ok (.iaload, 1) := zdec_at bX1_following_0 13 rfl
theorem dX1_following_22 : decode cX1_following 22 = .ok (.saload, 1) := zdec_at bX1_following_0 14 rfl
theorem dX1_following_23 : decode cX1_following 23 = .ok (.istore_n 2, 1) := zdec_at bX1_following_0 15 rfl
theorem bX1_following_24 : zdec cX1_following 24 [(24, .iload_n 2, 1), (25, .iconst (-1), 1), (26, .if_icmp .eq 52, 3), (29, .aload_n 0, 1), (30, .getfield 131, 3), (33, .iload_n 2, 1), (34, .iaload, 1), (35, .aload_n 0, 1), (36, .getfield 157, 3), (39, .iload_n 1, 1), (40, .iaload, 1), (41, .if_icmp .le 27, 3), (44, .aload_n 0, 1), (45, .getfield 93, 3), (48, .aload_n 0, 1), (49, .getfield 151, 3)] = true := by decide +kernel
theorem dX1_following_24 : decode cX1_following 24 = .ok (.iload_n 2, 1) := zdec_at bX1_following_24 0 rfl
theorem dX1_following_25 : decode cX1_following 25 = .ok (.iconst (-1), 1) := zdec_at bX1_following_24 1 rfl
theorem dX1_following_26 : decode cX1_following 26 = .ok (.if_icmp .eq 52, 3) := zdec_at bX1_following_24 2 rfl
theorem dX1_following_29 : decode cX1_following 29 = .ok (.aload_n 0, 1) := zdec_at bX1_following_24 3 rfl
theorem dX1_following_30 : decode cX1_following 30 = .ok (.getfield 131, 3) := zdec_at bX1_following_24 4 rfl
theorem dX1_following_33 : decode cX1_following 33 = .ok (.iload_n 2, 1) := zdec_at bX1_following_24 5 rfl
theorem dX1_following_34 : decode cX1_following 34 = .ok (.iaload, 1) := zdec_at bX1_following_24 6 rfl
theorem dX1_following_35 : decode cX1_following 35 = .ok (.aload_n 0, 1) := zdec_at bX1_following_24 7 rfl
theorem dX1_following_36 : decode cX1_following 36 = .ok (.getfield 157, 3) := zdec_at bX1_following_24 8 rfl
theorem dX1_following_39 : decode cX1_following 39 = .ok (.iload_n 1, 1) := zdec_at bX1_following_24 9 rfl
theorem dX1_following_40 : decode cX1_following 40 = .ok (.iaload, 1) := zdec_at bX1_following_24 10 rfl
theorem dX1_following_41 : decode cX1_following 41 = .ok (.if_icmp .le 27, 3) := zdec_at bX1_following_24 11 rfl
theorem dX1_following_44 : decode cX1_following 44 = .ok (.aload_n 0, 1) := zdec_at bX1_following_24 12 rfl
theorem dX1_following_45 : decode cX1_following 45 = .ok (.getfield 93, 3) := zdec_at bX1_following_24 13 rfl
theorem dX1_following_48 : decode cX1_following 48 = .ok (.aload_n 0, 1) := zdec_at bX1_following_24 14 rfl
theorem dX1_following_49 : decode cX1_following 49 = .ok (.getfield 151, 3) := zdec_at bX1_following_24 15 rfl
theorem bX1_following_52 : zdec cX1_following 52 [(52, .iload_n 1, 1), (53, .iaload, 1), (54, .baload, 1), (55, .iconst 2, 1), (56, .if_icmp .ne 22, 3), (59, .aload_n 0, 1), (60, .getfield 118, 3), (63, .iload_n 2, 1), (64, .saload, 1), (65, .ifCond .ne 13, 3), (68, .aload_n 0, 1), (69, .getfield 121, 3), (72, .iload_n 2, 1), (73, .saload, 1), (74, .istore_n 2, 1), (75, .goto (-51), 3)] = true := by decide +kernel
theorem dX1_following_52 : decode cX1_following 52 = .ok (.iload_n 1, 1) := zdec_at bX1_following_52 0 rfl
theorem dX1_following_53 : decode cX1_following 53 = .ok (.iaload, 1) := zdec_at bX1_following_52 1 rfl
theorem dX1_following_54 : decode cX1_following 54 = .ok (.baload, 1) := zdec_at bX1_following_52 2 rfl
theorem dX1_following_55 : decode cX1_following 55 = .ok (.iconst 2, 1) := zdec_at bX1_following_52 3 rfl
theorem dX1_following_56 : decode cX1_following 56 = .ok (.if_icmp .ne 22, 3) := zdec_at bX1_following_52 4 rfl
theorem dX1_following_59 : decode cX1_following 59 = .ok (.aload_n 0, 1) := zdec_at bX1_following_52 5 rfl
theorem dX1_following_60 : decode cX1_following 60 = .ok (.getfield 118, 3) := zdec_at bX1_following_52 6 rfl
theorem dX1_following_63 : decode cX1_following 63 = .ok (.iload_n 2, 1) := zdec_at bX1_following_52 7 rfl
theorem dX1_following_64 : decode cX1_following 64 = .ok (.saload, 1) := zdec_at bX1_following_52 8 rfl
theorem dX1_following_65 : decode cX1_following 65 = .ok (.ifCond .ne 13, 3) := zdec_at bX1_following_52 9 rfl
theorem dX1_following_68 : decode cX1_following 68 = .ok (.aload_n 0, 1) := zdec_at bX1_following_52 10 rfl
theorem dX1_following_69 : decode cX1_following 69 = .ok (.getfield 121, 3) := zdec_at bX1_following_52 11 rfl
theorem dX1_following_72 : decode cX1_following 72 = .ok (.iload_n 2, 1) := zdec_at bX1_following_52 12 rfl
theorem dX1_following_73 : decode cX1_following 73 = .ok (.saload, 1) := zdec_at bX1_following_52 13 rfl
theorem dX1_following_74 : decode cX1_following 74 = .ok (.istore_n 2, 1) := zdec_at bX1_following_52 14 rfl
theorem dX1_following_75 : decode cX1_following 75 = .ok (.goto (-51), 3) := zdec_at bX1_following_52 15 rfl
theorem bX1_following_78 : zdec cX1_following 78 [(78, .iload_n 2, 1), (79, .iconst (-1), 1), (80, .if_icmp .eq 22, 3), (83, .aload_n 0, 1), (84, .getfield 131, 3), (87, .iload_n 2, 1), (88, .iaload, 1), (89, .aload_n 0, 1), (90, .getfield 154, 3), (93, .iload_n 1, 1), (94, .iaload, 1), (95, .if_icmp .gt 7, 3), (98, .iload_n 2, 1), (99, .goto 4, 3), (102, .iconst (-1), 1), (103, .ireturn, 1)] = true := by decide +kernel
theorem dX1_following_78 : decode cX1_following 78 = .ok (.iload_n 2, 1) := zdec_at bX1_following_78 0 rfl
theorem dX1_following_79 : decode cX1_following 79 = .ok (.iconst (-1), 1) := zdec_at bX1_following_78 1 rfl
theorem dX1_following_80 : decode cX1_following 80 = .ok (.if_icmp .eq 22, 3) := zdec_at bX1_following_78 2 rfl
theorem dX1_following_83 : decode cX1_following 83 = .ok (.aload_n 0, 1) := zdec_at bX1_following_78 3 rfl
theorem dX1_following_84 : decode cX1_following 84 = .ok (.getfield 131, 3) := zdec_at bX1_following_78 4 rfl
theorem dX1_following_87 : decode cX1_following 87 = .ok (.iload_n 2, 1) := zdec_at bX1_following_78 5 rfl
theorem dX1_following_88 : decode cX1_following 88 = .ok (.iaload, 1) := zdec_at bX1_following_78 6 rfl
theorem dX1_following_89 : decode cX1_following 89 = .ok (.aload_n 0, 1) := zdec_at bX1_following_78 7 rfl
theorem dX1_following_90 : decode cX1_following 90 = .ok (.getfield 154, 3) := zdec_at bX1_following_78 8 rfl
theorem dX1_following_93 : decode cX1_following 93 = .ok (.iload_n 1, 1) := zdec_at bX1_following_78 9 rfl
theorem dX1_following_94 : decode cX1_following 94 = .ok (.iaload, 1) := zdec_at bX1_following_78 10 rfl
theorem dX1_following_95 : decode cX1_following 95 = .ok (.if_icmp .gt 7, 3) := zdec_at bX1_following_78 11 rfl
theorem dX1_following_98 : decode cX1_following 98 = .ok (.iload_n 2, 1) := zdec_at bX1_following_78 12 rfl
theorem dX1_following_99 : decode cX1_following 99 = .ok (.goto 4, 3) := zdec_at bX1_following_78 13 rfl
theorem dX1_following_102 : decode cX1_following 102 = .ok (.iconst (-1), 1) := zdec_at bX1_following_78 14 rfl
theorem dX1_following_103 : decode cX1_following 103 = .ok (.ireturn, 1) := zdec_at bX1_following_78 15 rfl
theorem sX1_following_0 {E : zE} {d : Nat} {Q : zO → zM → Prop} (M : zM) (l1 : Int32) (hw : cw M) (k : vp_in l1 14500 ∧ (if (gi M 54 (l1).toNatClampNeg) = (-1 : Int32) then (Q (.inl (some (vi (-1 : Int32)))) M) else (vp_in l1 14500 ∧ (vp_in (gi M 54 (l1).toNatClampNeg) 300 ∧ (Z E YX1_following d M [(0, vr (some (16, 0, 0))), (1, vi l1), (2, vi (gi M 43 ((gi M 54 (l1).toNatClampNeg)).toNatClampNeg))] 24 [] Q))))) : Z E YX1_following d M [(0, vr (some (16, 0, 0))), (1, vi l1)] 0 [] Q := by
  refine z_aload_n dX1_following_0 rfl rfl ?_
  refine z_getr dX1_following_1 fsX1_151_0 (show gr M 16 35 = some (54, 100, 14500) from cw_at hw 22 rfl) ?_
  refine z_iload_n dX1_following_4 rfl rfl ?_
  obtain ⟨b_, k⟩ := k
  refine z_iald dX1_following_5 b_ ?_
  refine z_iconst (v := -1) dX1_following_6 rfl ?_
  refine z_icmp_ne (tgt := 12) dX1_following_7 rfl (fun h_ => ?_) (fun h_ => ?_)
  · have k := zif h_ k
    refine z_aload_n dX1_following_12 rfl rfl ?_
    refine z_getr dX1_following_13 fsX1_109_0 (show gr M 16 18 = some (43, 102, 300) from cw_at hw 11 rfl) ?_
    refine z_aload_n dX1_following_16 rfl rfl ?_
    refine z_getr dX1_following_17 fsX1_151_0 (show gr M 16 35 = some (54, 100, 14500) from cw_at hw 22 rfl) ?_
    refine z_iload_n dX1_following_20 rfl rfl ?_
    obtain ⟨b_, k⟩ := k
    refine z_iald dX1_following_21 b_ ?_
    obtain ⟨b_, k⟩ := k
    refine z_sald dX1_following_22 b_ ?_
    refine z_ist_n dX1_following_23 rfl (by decide) (lv' := [(0, vr (some (16, 0, 0))), (1, vi l1), (2, vi (gi M 43 ((gi M 54 (l1).toNatClampNeg)).toNatClampNeg))]) rfl ?_
    exact k
  · have k := zit h_ k
    refine z_iconst (v := -1) dX1_following_10 rfl ?_
    exact z_iret dX1_following_11 rfl rfl k
theorem sX1_following_24 {E : zE} {d : Nat} {Q : zO → zM → Prop} (M : zM) (l1 : Int32) (l2 : Int32) (hw : cw M) (k : if l2 = (-1 : Int32) then (Z E YX1_following d M [(0, vr (some (16, 0, 0))), (1, vi l1), (2, vi l2)] 78 [] Q) else (vp_in l2 3000 ∧ (vp_in l1 14500 ∧ (if (gi M 50 (l2).toNatClampNeg) ≤ (gi M 56 (l1).toNatClampNeg) then (vp_in l2 3000 ∧ (Z E YX1_following d M [(0, vr (some (16, 0, 0))), (1, vi l1), (2, vi (gi M 47 (l2).toNatClampNeg))] 24 [] Q)) else (vp_in l1 14500 ∧ (vp_in (gi M 54 (l1).toNatClampNeg) 300 ∧ (if (gi M 38 ((gi M 54 (l1).toNatClampNeg)).toNatClampNeg) = (2 : Int32) then (vp_in l2 3000 ∧ (if (gi M 46 (l2).toNatClampNeg) = 0 then (vp_in l2 3000 ∧ (Z E YX1_following d M [(0, vr (some (16, 0, 0))), (1, vi l1), (2, vi (gi M 47 (l2).toNatClampNeg))] 24 [] Q)) else (Z E YX1_following d M [(0, vr (some (16, 0, 0))), (1, vi l1), (2, vi l2)] 78 [] Q))) else (Z E YX1_following d M [(0, vr (some (16, 0, 0))), (1, vi l1), (2, vi l2)] 78 [] Q)))))))) : Z E YX1_following d M [(0, vr (some (16, 0, 0))), (1, vi l1), (2, vi l2)] 24 [] Q := by
  refine z_iload_n dX1_following_24 rfl rfl ?_
  refine z_iconst (v := -1) dX1_following_25 rfl ?_
  refine z_icmp_eq (tgt := 78) dX1_following_26 rfl (fun h_ => ?_) (fun h_ => ?_)
  · have k := zit h_ k
    exact k
  · have k := zif h_ k
    refine z_aload_n dX1_following_29 rfl rfl ?_
    refine z_getr dX1_following_30 fsX1_131_0 (show gr M 16 25 = some (50, 100, 3000) from cw_at hw 18 rfl) ?_
    refine z_iload_n dX1_following_33 rfl rfl ?_
    obtain ⟨b_, k⟩ := k
    refine z_iald dX1_following_34 b_ ?_
    refine z_aload_n dX1_following_35 rfl rfl ?_
    refine z_getr dX1_following_36 fsX1_157_0 (show gr M 16 37 = some (56, 100, 14500) from cw_at hw 24 rfl) ?_
    refine z_iload_n dX1_following_39 rfl rfl ?_
    obtain ⟨b_, k⟩ := k
    refine z_iald dX1_following_40 b_ ?_
    refine z_icmp_le (tgt := 68) dX1_following_41 rfl (fun h_ => ?_) (fun h_ => ?_)
    · have k := zit h_ k
      refine z_aload_n dX1_following_68 rfl rfl ?_
      refine z_getr dX1_following_69 fsX1_121_0 (show gr M 16 22 = some (47, 102, 3000) from cw_at hw 15 rfl) ?_
      refine z_iload_n dX1_following_72 rfl rfl ?_
      obtain ⟨b_, k⟩ := k
      refine z_sald dX1_following_73 b_ ?_
      refine z_ist_n dX1_following_74 rfl (by decide) (lv' := [(0, vr (some (16, 0, 0))), (1, vi l1), (2, vi (gi M 47 (l2).toNatClampNeg))]) rfl ?_
      refine z_goto (tgt := 24) dX1_following_75 rfl ?_
      exact k
    · have k := zif h_ k
      refine z_aload_n dX1_following_44 rfl rfl ?_
      refine z_getr dX1_following_45 fsX1_93_0 (show gr M 16 13 = some (38, 101, 300) from cw_at hw 6 rfl) ?_
      refine z_aload_n dX1_following_48 rfl rfl ?_
      refine z_getr dX1_following_49 fsX1_151_0 (show gr M 16 35 = some (54, 100, 14500) from cw_at hw 22 rfl) ?_
      refine z_iload_n dX1_following_52 rfl rfl ?_
      obtain ⟨b_, k⟩ := k
      refine z_iald dX1_following_53 b_ ?_
      obtain ⟨b_, k⟩ := k
      refine z_bald dX1_following_54 b_ ?_
      refine z_iconst (v := 2) dX1_following_55 rfl ?_
      refine z_icmp_ne (tgt := 78) dX1_following_56 rfl (fun h_ => ?_) (fun h_ => ?_)
      · have k := zif h_ k
        exact k
      · have k := zit h_ k
        refine z_aload_n dX1_following_59 rfl rfl ?_
        refine z_getr dX1_following_60 fsX1_118_0 (show gr M 16 21 = some (46, 102, 3000) from cw_at hw 14 rfl) ?_
        refine z_iload_n dX1_following_63 rfl rfl ?_
        obtain ⟨b_, k⟩ := k
        refine z_sald dX1_following_64 b_ ?_
        refine z_if_ne (tgt := 78) dX1_following_65 rfl (fun h_ => ?_) (fun h_ => ?_)
        · have k := zif h_ k
          exact k
        · have k := zit h_ k
          refine z_aload_n dX1_following_68 rfl rfl ?_
          refine z_getr dX1_following_69 fsX1_121_0 (show gr M 16 22 = some (47, 102, 3000) from cw_at hw 15 rfl) ?_
          refine z_iload_n dX1_following_72 rfl rfl ?_
          obtain ⟨b_, k⟩ := k
          refine z_sald dX1_following_73 b_ ?_
          refine z_ist_n dX1_following_74 rfl (by decide) (lv' := [(0, vr (some (16, 0, 0))), (1, vi l1), (2, vi (gi M 47 (l2).toNatClampNeg))]) rfl ?_
          refine z_goto (tgt := 24) dX1_following_75 rfl ?_
          exact k
theorem sX1_following_78 {E : zE} {d : Nat} {Q : zO → zM → Prop} (M : zM) (l1 : Int32) (l2 : Int32) (hw : cw M) (k : if l2 = (-1 : Int32) then (Q (.inl (some (vi (-1 : Int32)))) M) else (vp_in l2 3000 ∧ (vp_in l1 14500 ∧ (if (gi M 55 (l1).toNatClampNeg) < (gi M 50 (l2).toNatClampNeg) then (Q (.inl (some (vi (-1 : Int32)))) M) else (Q (.inl (some (vi l2))) M))))) : Z E YX1_following d M [(0, vr (some (16, 0, 0))), (1, vi l1), (2, vi l2)] 78 [] Q := by
  refine z_iload_n dX1_following_78 rfl rfl ?_
  refine z_iconst (v := -1) dX1_following_79 rfl ?_
  refine z_icmp_eq (tgt := 102) dX1_following_80 rfl (fun h_ => ?_) (fun h_ => ?_)
  · have k := zit h_ k
    refine z_iconst (v := -1) dX1_following_102 rfl ?_
    exact z_iret dX1_following_103 rfl rfl k
  · have k := zif h_ k
    refine z_aload_n dX1_following_83 rfl rfl ?_
    refine z_getr dX1_following_84 fsX1_131_0 (show gr M 16 25 = some (50, 100, 3000) from cw_at hw 18 rfl) ?_
    refine z_iload_n dX1_following_87 rfl rfl ?_
    obtain ⟨b_, k⟩ := k
    refine z_iald dX1_following_88 b_ ?_
    refine z_aload_n dX1_following_89 rfl rfl ?_
    refine z_getr dX1_following_90 fsX1_154_0 (show gr M 16 36 = some (55, 100, 14500) from cw_at hw 23 rfl) ?_
    refine z_iload_n dX1_following_93 rfl rfl ?_
    obtain ⟨b_, k⟩ := k
    refine z_iald dX1_following_94 b_ ?_
    refine z_icmp_gt (tgt := 102) dX1_following_95 rfl (fun h_ => ?_) (fun h_ => ?_)
    · have k := zit h_ k
      refine z_iconst (v := -1) dX1_following_102 rfl ?_
      exact z_iret dX1_following_103 rfl rfl k
    · have k := zif h_ k
      refine z_iload_n dX1_following_98 rfl rfl ?_
      refine z_goto (tgt := 103) dX1_following_99 rfl ?_
      exact z_iret dX1_following_103 rfl rfl k
/-! ScriptTypes.object(II)I -/
theorem bX1_object_0 : zdec cX1_object 0 [(0, .aload_n 0, 1), (1, .iload_n 1, 1), (2, .invokevirtual 598, 3), (5, .ifCond .ne 5, 3), (8, .iconst (-1), 1), (9, .ireturn, 1), (10, .iload_n 2, 1)] = true := by decide +kernel
theorem dX1_object_0 : decode cX1_object 0 = .ok (.aload_n 0, 1) := zdec_at bX1_object_0 0 rfl
theorem dX1_object_1 : decode cX1_object 1 = .ok (.iload_n 1, 1) := zdec_at bX1_object_0 1 rfl
theorem dX1_object_2 : decode cX1_object 2 = .ok (.invokevirtual 598, 3) := zdec_at bX1_object_0 2 rfl
theorem dX1_object_5 : decode cX1_object 5 = .ok (.ifCond .ne 5, 3) := zdec_at bX1_object_0 3 rfl
theorem dX1_object_8 : decode cX1_object 8 = .ok (.iconst (-1), 1) := zdec_at bX1_object_0 4 rfl
theorem dX1_object_9 : decode cX1_object 9 = .ok (.ireturn, 1) := zdec_at bX1_object_0 5 rfl
theorem dX1_object_10 : decode cX1_object 10 = .ok (.iload_n 2, 1) := zdec_at bX1_object_0 6 rfl
theorem dX1_object_11 : decode cX1_object 11 = .ok (.tableswitch 93 0 4 #[33, 39, 46, 53, 86], 33) := by decide +kernel
theorem bX1_object_44 : zdec cX1_object 44 [(44, .aload_n 0, 1), (45, .iload_n 1, 1), (46, .invokevirtual 601, 3), (49, .ireturn, 1), (50, .aload_n 0, 1), (51, .getfield 103, 3), (54, .iload_n 1, 1), (55, .saload, 1), (56, .ireturn, 1), (57, .aload_n 0, 1), (58, .getfield 106, 3), (61, .iload_n 1, 1), (62, .saload, 1), (63, .ireturn, 1), (64, .iconst 0, 1), (65, .istore_n 3, 1)] = true := by decide +kernel
theorem dX1_object_44 : decode cX1_object 44 = .ok (.aload_n 0, 1) := zdec_at bX1_object_44 0 rfl
theorem dX1_object_45 : decode cX1_object 45 = .ok (.iload_n 1, 1) := zdec_at bX1_object_44 1 rfl
theorem dX1_object_46 : decode cX1_object 46 = .ok (.invokevirtual 601, 3) := zdec_at bX1_object_44 2 rfl
theorem dX1_object_49 : decode cX1_object 49 = .ok (.ireturn, 1) := zdec_at bX1_object_44 3 rfl
theorem dX1_object_50 : decode cX1_object 50 = .ok (.aload_n 0, 1) := zdec_at bX1_object_44 4 rfl
theorem dX1_object_51 : decode cX1_object 51 = .ok (.getfield 103, 3) := zdec_at bX1_object_44 5 rfl
theorem dX1_object_54 : decode cX1_object 54 = .ok (.iload_n 1, 1) := zdec_at bX1_object_44 6 rfl
theorem dX1_object_55 : decode cX1_object 55 = .ok (.saload, 1) := zdec_at bX1_object_44 7 rfl
theorem dX1_object_56 : decode cX1_object 56 = .ok (.ireturn, 1) := zdec_at bX1_object_44 8 rfl
theorem dX1_object_57 : decode cX1_object 57 = .ok (.aload_n 0, 1) := zdec_at bX1_object_44 9 rfl
theorem dX1_object_58 : decode cX1_object 58 = .ok (.getfield 106, 3) := zdec_at bX1_object_44 10 rfl
theorem dX1_object_61 : decode cX1_object 61 = .ok (.iload_n 1, 1) := zdec_at bX1_object_44 11 rfl
theorem dX1_object_62 : decode cX1_object 62 = .ok (.saload, 1) := zdec_at bX1_object_44 12 rfl
theorem dX1_object_63 : decode cX1_object 63 = .ok (.ireturn, 1) := zdec_at bX1_object_44 13 rfl
theorem dX1_object_64 : decode cX1_object 64 = .ok (.iconst 0, 1) := zdec_at bX1_object_44 14 rfl
theorem dX1_object_65 : decode cX1_object 65 = .ok (.istore_n 3, 1) := zdec_at bX1_object_44 15 rfl
theorem bX1_object_66 : zdec cX1_object 66 [(66, .aload_n 0, 1), (67, .getfield 109, 3), (70, .iload_n 1, 1), (71, .saload, 1), (72, .istore 4, 2), (74, .iload 4, 2), (76, .iconst (-1), 1), (77, .if_icmp .eq 18, 3), (80, .iinc 3 1, 3), (83, .aload_n 0, 1), (84, .getfield 121, 3), (87, .iload 4, 2), (89, .saload, 1), (90, .istore 4, 2), (92, .goto (-18), 3), (95, .iload_n 3, 1)] = true := by decide +kernel
theorem dX1_object_66 : decode cX1_object 66 = .ok (.aload_n 0, 1) := zdec_at bX1_object_66 0 rfl
theorem dX1_object_67 : decode cX1_object 67 = .ok (.getfield 109, 3) := zdec_at bX1_object_66 1 rfl
theorem dX1_object_70 : decode cX1_object 70 = .ok (.iload_n 1, 1) := zdec_at bX1_object_66 2 rfl
theorem dX1_object_71 : decode cX1_object 71 = .ok (.saload, 1) := zdec_at bX1_object_66 3 rfl
theorem dX1_object_72 : decode cX1_object 72 = .ok (.istore 4, 2) := zdec_at bX1_object_66 4 rfl
theorem dX1_object_74 : decode cX1_object 74 = .ok (.iload 4, 2) := zdec_at bX1_object_66 5 rfl
theorem dX1_object_76 : decode cX1_object 76 = .ok (.iconst (-1), 1) := zdec_at bX1_object_66 6 rfl
theorem dX1_object_77 : decode cX1_object 77 = .ok (.if_icmp .eq 18, 3) := zdec_at bX1_object_66 7 rfl
theorem dX1_object_80 : decode cX1_object 80 = .ok (.iinc 3 1, 3) := zdec_at bX1_object_66 8 rfl
theorem dX1_object_83 : decode cX1_object 83 = .ok (.aload_n 0, 1) := zdec_at bX1_object_66 9 rfl
theorem dX1_object_84 : decode cX1_object 84 = .ok (.getfield 121, 3) := zdec_at bX1_object_66 10 rfl
theorem dX1_object_87 : decode cX1_object 87 = .ok (.iload 4, 2) := zdec_at bX1_object_66 11 rfl
theorem dX1_object_89 : decode cX1_object 89 = .ok (.saload, 1) := zdec_at bX1_object_66 12 rfl
theorem dX1_object_90 : decode cX1_object 90 = .ok (.istore 4, 2) := zdec_at bX1_object_66 13 rfl
theorem dX1_object_92 : decode cX1_object 92 = .ok (.goto (-18), 3) := zdec_at bX1_object_66 14 rfl
theorem dX1_object_95 : decode cX1_object 95 = .ok (.iload_n 3, 1) := zdec_at bX1_object_66 15 rfl
theorem bX1_object_96 : zdec cX1_object 96 [(96, .ireturn, 1), (97, .aload_n 0, 1), (98, .getfield 93, 3), (101, .iload_n 1, 1), (102, .baload, 1), (103, .ireturn, 1), (104, .iconst (-1), 1), (105, .ireturn, 1)] = true := by decide +kernel
theorem dX1_object_96 : decode cX1_object 96 = .ok (.ireturn, 1) := zdec_at bX1_object_96 0 rfl
theorem dX1_object_97 : decode cX1_object 97 = .ok (.aload_n 0, 1) := zdec_at bX1_object_96 1 rfl
theorem dX1_object_98 : decode cX1_object 98 = .ok (.getfield 93, 3) := zdec_at bX1_object_96 2 rfl
theorem dX1_object_101 : decode cX1_object 101 = .ok (.iload_n 1, 1) := zdec_at bX1_object_96 3 rfl
theorem dX1_object_102 : decode cX1_object 102 = .ok (.baload, 1) := zdec_at bX1_object_96 4 rfl
theorem dX1_object_103 : decode cX1_object 103 = .ok (.ireturn, 1) := zdec_at bX1_object_96 5 rfl
theorem dX1_object_104 : decode cX1_object 104 = .ok (.iconst (-1), 1) := zdec_at bX1_object_96 6 rfl
theorem dX1_object_105 : decode cX1_object 105 = .ok (.ireturn, 1) := zdec_at bX1_object_96 7 rfl
theorem sX1_object_0 {E : zE} {d : Nat} {Q : zO → zM → Prop} (M : zM) (l1 : Int32) (l2 : Int32) (hw : cw M) (k : Z E YX1_isObject d M (zargs 0 [vr (some (16, 0, 0)), vi l1]) 0 [] (zafter E YX1_object (d + 1) [(0, vr (some (16, 0, 0))), (1, vi l1), (2, vi l2)] 2 3 [] Q)) : Z E YX1_object (d + 1) M [(0, vr (some (16, 0, 0))), (1, vi l1), (2, vi l2)] 0 [] Q := by
  refine z_aload_n dX1_object_0 rfl rfl ?_
  refine z_iload_n dX1_object_1 rfl rfl ?_
  exact z_callV (as := [vi l1]) (st := []) dX1_object_2 vsX1_598_0 (Nat.le_refl _) (Nat.le_of_ble_eq_true rfl) (Nat.le_of_ble_eq_true rfl) rfl k
theorem sX1_object_5 {E : zE} {d : Nat} {Q : zO → zM → Prop} (M : zM) (l1 : Int32) (l2 : Int32) (s0 : Int32) (hw : cw M) (k : if s0 = 0 then (Q (.inl (some (vi (-1 : Int32)))) M) else (if l2 = 0 then (Z E YX1_labelOf d M (zargs 0 [vr (some (16, 0, 0)), vi l1]) 0 [] (zafter E YX1_object (d + 1) [] 46 3 [] Q)) else (if l2 = 1 then (vp_in l1 300 ∧ (Q (.inl (some (vi (gi M 41 (l1).toNatClampNeg)))) M)) else (if l2 = 2 then (vp_in l1 300 ∧ (Q (.inl (some (vi (gi M 42 (l1).toNatClampNeg)))) M)) else (if l2 = 3 then (vp_in l1 300 ∧ (Z E YX1_object (d + 1) M [(0, vr (some (16, 0, 0))), (3, vi (0 : Int32)), (4, vi (gi M 43 (l1).toNatClampNeg))] 74 [] Q)) else (if l2 = 4 then (vp_in l1 300 ∧ (Q (.inl (some (vi (gi M 38 (l1).toNatClampNeg)))) M)) else (Q (.inl (some (vi (-1 : Int32)))) M))))))) : Z E YX1_object (d + 1) M [(0, vr (some (16, 0, 0))), (1, vi l1), (2, vi l2)] 5 [vi s0] Q := by
  refine z_if_ne (tgt := 10) dX1_object_5 rfl (fun h_ => ?_) (fun h_ => ?_)
  · have k := zif h_ k
    refine z_iload_n dX1_object_10 rfl rfl ?_
    by_cases h0_ : l2 = 0
    · have k := zit h0_ k
      refine z_tableIn (off := 33) (tgt := 44) dX1_object_11 (by rw [h0_]; decide) (by rw [h0_]; decide) (by rw [h0_]; rfl) rfl ?_
      refine z_aload_n dX1_object_44 rfl rfl ?_
      refine z_iload_n dX1_object_45 rfl rfl ?_
      refine Z.pick [] rfl ?_
      exact z_callV (as := [vi l1]) (st := []) dX1_object_46 vsX1_601_0 (Nat.le_refl _) (Nat.le_of_ble_eq_true rfl) (Nat.le_of_ble_eq_true rfl) rfl k
    · have k := zif h0_ k
      by_cases h1_ : l2 = 1
      · have k := zit h1_ k
        refine z_tableIn (off := 39) (tgt := 50) dX1_object_11 (by rw [h1_]; decide) (by rw [h1_]; decide) (by rw [h1_]; rfl) rfl ?_
        refine z_aload_n dX1_object_50 rfl rfl ?_
        refine z_getr dX1_object_51 fsX1_103_0 (show gr M 16 16 = some (41, 102, 300) from cw_at hw 9 rfl) ?_
        refine z_iload_n dX1_object_54 rfl rfl ?_
        obtain ⟨b_, k⟩ := k
        refine z_sald dX1_object_55 b_ ?_
        exact z_iret dX1_object_56 rfl rfl k
      · have k := zif h1_ k
        by_cases h2_ : l2 = 2
        · have k := zit h2_ k
          refine z_tableIn (off := 46) (tgt := 57) dX1_object_11 (by rw [h2_]; decide) (by rw [h2_]; decide) (by rw [h2_]; rfl) rfl ?_
          refine z_aload_n dX1_object_57 rfl rfl ?_
          refine z_getr dX1_object_58 fsX1_106_0 (show gr M 16 17 = some (42, 102, 300) from cw_at hw 10 rfl) ?_
          refine z_iload_n dX1_object_61 rfl rfl ?_
          obtain ⟨b_, k⟩ := k
          refine z_sald dX1_object_62 b_ ?_
          exact z_iret dX1_object_63 rfl rfl k
        · have k := zif h2_ k
          by_cases h3_ : l2 = 3
          · have k := zit h3_ k
            refine z_tableIn (off := 53) (tgt := 64) dX1_object_11 (by rw [h3_]; decide) (by rw [h3_]; decide) (by rw [h3_]; rfl) rfl ?_
            refine z_iconst (v := 0) dX1_object_64 rfl ?_
            refine z_ist_n dX1_object_65 rfl (by decide) (lv' := [(0, vr (some (16, 0, 0))), (1, vi l1), (2, vi l2), (3, vi (0 : Int32))]) rfl ?_
            refine z_aload_n dX1_object_66 rfl rfl ?_
            refine z_getr dX1_object_67 fsX1_109_0 (show gr M 16 18 = some (43, 102, 300) from cw_at hw 11 rfl) ?_
            refine z_iload_n dX1_object_70 rfl rfl ?_
            obtain ⟨b_, k⟩ := k
            refine z_sald dX1_object_71 b_ ?_
            refine z_ist dX1_object_72 (by decide) (lv' := [(0, vr (some (16, 0, 0))), (1, vi l1), (2, vi l2), (3, vi (0 : Int32)), (4, vi (gi M 43 (l1).toNatClampNeg))]) rfl ?_
            refine Z.pick [0, 3, 4] rfl ?_
            exact k
          · have k := zif h3_ k
            by_cases h4_ : l2 = 4
            · have k := zit h4_ k
              refine z_tableIn (off := 86) (tgt := 97) dX1_object_11 (by rw [h4_]; decide) (by rw [h4_]; decide) (by rw [h4_]; rfl) rfl ?_
              refine z_aload_n dX1_object_97 rfl rfl ?_
              refine z_getr dX1_object_98 fsX1_93_0 (show gr M 16 13 = some (38, 101, 300) from cw_at hw 6 rfl) ?_
              refine z_iload_n dX1_object_101 rfl rfl ?_
              obtain ⟨b_, k⟩ := k
              refine z_bald dX1_object_102 b_ ?_
              exact z_iret dX1_object_103 rfl rfl k
            · have k := zif h4_ k
              refine z_tout (tgt := 104) [0, 1, 2, 3, 4] (by decide) dX1_object_11 (zall_1 h0_ (zall_1 h1_ (zall_1 h2_ (zall_1 h3_ (zall_1 h4_ zall_0))))) rfl ?_
              refine z_iconst (v := -1) dX1_object_104 rfl ?_
              exact z_iret dX1_object_105 rfl rfl k
  · have k := zit h_ k
    refine z_iconst (v := -1) dX1_object_8 rfl ?_
    exact z_iret dX1_object_9 rfl rfl k
theorem sX1_object_49 {E : zE} {d : Nat} {Q : zO → zM → Prop} (M : zM) (s0 : Int32) (hw : cw M) (k : Q (.inl (some (vi s0))) M) : Z E YX1_object (d + 1) M [] 49 [vi s0] Q := by
  exact z_iret dX1_object_49 rfl rfl k
theorem sX1_object_74 {E : zE} {d : Nat} {Q : zO → zM → Prop} (M : zM) (l3 : Int32) (l4 : Int32) (hw : cw M) (k : if l4 = (-1 : Int32) then (Q (.inl (some (vi l3))) M) else (vp_in l4 3000 ∧ (Z E YX1_object (d + 1) M [(0, vr (some (16, 0, 0))), (3, vi (l3 + (1 : Int32))), (4, vi (gi M 47 (l4).toNatClampNeg))] 74 [] Q))) : Z E YX1_object (d + 1) M [(0, vr (some (16, 0, 0))), (3, vi l3), (4, vi l4)] 74 [] Q := by
  refine z_iload dX1_object_74 rfl ?_
  refine z_iconst (v := -1) dX1_object_76 rfl ?_
  refine z_icmp_eq (tgt := 95) dX1_object_77 rfl (fun h_ => ?_) (fun h_ => ?_)
  · have k := zit h_ k
    refine z_iload_n dX1_object_95 rfl rfl ?_
    exact z_iret dX1_object_96 rfl rfl k
  · have k := zif h_ k
    refine z_inc (v := (l3 + (1 : Int32))) dX1_object_80 rfl rfl (by decide) (lv' := [(0, vr (some (16, 0, 0))), (3, vi (l3 + (1 : Int32))), (4, vi l4)]) rfl ?_
    refine z_aload_n dX1_object_83 rfl rfl ?_
    refine z_getr dX1_object_84 fsX1_121_0 (show gr M 16 22 = some (47, 102, 3000) from cw_at hw 15 rfl) ?_
    refine z_iload dX1_object_87 rfl ?_
    obtain ⟨b_, k⟩ := k
    refine z_sald dX1_object_89 b_ ?_
    refine z_ist dX1_object_90 (by decide) (lv' := [(0, vr (some (16, 0, 0))), (3, vi (l3 + (1 : Int32))), (4, vi (gi M 47 (l4).toNatClampNeg))]) rfl ?_
    refine z_goto (tgt := 74) dX1_object_92 rfl ?_
    exact k
/-! ScriptTypes.isObject(I)Z -/
theorem bX1_isObject_0 : zdec cX1_isObject 0 [(0, .aload_n 0, 1), (1, .getfield 277, 3), (4, .ifCond .eq 19, 3), (7, .iload_n 1, 1), (8, .ifCond .lt 15, 3), (11, .iload_n 1, 1), (12, .aload_n 0, 1), (13, .getfield 322, 3), (16, .if_icmp .ge 7, 3), (19, .iconst 1, 1), (20, .goto 4, 3), (23, .iconst 0, 1), (24, .ireturn, 1)] = true := by decide +kernel
theorem dX1_isObject_0 : decode cX1_isObject 0 = .ok (.aload_n 0, 1) := zdec_at bX1_isObject_0 0 rfl
theorem dX1_isObject_1 : decode cX1_isObject 1 = .ok (.getfield 277, 3) := zdec_at bX1_isObject_0 1 rfl
theorem dX1_isObject_4 : decode cX1_isObject 4 = .ok (.ifCond .eq 19, 3) := zdec_at bX1_isObject_0 2 rfl
theorem dX1_isObject_7 : decode cX1_isObject 7 = .ok (.iload_n 1, 1) := zdec_at bX1_isObject_0 3 rfl
theorem dX1_isObject_8 : decode cX1_isObject 8 = .ok (.ifCond .lt 15, 3) := zdec_at bX1_isObject_0 4 rfl
theorem dX1_isObject_11 : decode cX1_isObject 11 = .ok (.iload_n 1, 1) := zdec_at bX1_isObject_0 5 rfl
theorem dX1_isObject_12 : decode cX1_isObject 12 = .ok (.aload_n 0, 1) := zdec_at bX1_isObject_0 6 rfl
theorem dX1_isObject_13 : decode cX1_isObject 13 = .ok (.getfield 322, 3) := zdec_at bX1_isObject_0 7 rfl
theorem dX1_isObject_16 : decode cX1_isObject 16 = .ok (.if_icmp .ge 7, 3) := zdec_at bX1_isObject_0 8 rfl
theorem dX1_isObject_19 : decode cX1_isObject 19 = .ok (.iconst 1, 1) := zdec_at bX1_isObject_0 9 rfl
theorem dX1_isObject_20 : decode cX1_isObject 20 = .ok (.goto 4, 3) := zdec_at bX1_isObject_0 10 rfl
theorem dX1_isObject_23 : decode cX1_isObject 23 = .ok (.iconst 0, 1) := zdec_at bX1_isObject_0 11 rfl
theorem dX1_isObject_24 : decode cX1_isObject 24 = .ok (.ireturn, 1) := zdec_at bX1_isObject_0 12 rfl
theorem sX1_isObject_0 {E : zE} {d : Nat} {Q : zO → zM → Prop} (M : zM) (l1 : Int32) (hw : cw M) (k : if (gi M 16 51) = 0 then (Q (.inl (some (vi (0 : Int32)))) M) else (if l1 < 0 then (Q (.inl (some (vi (0 : Int32)))) M) else (if (gi M 16 26) ≤ l1 then (Q (.inl (some (vi (0 : Int32)))) M) else (Q (.inl (some (vi (1 : Int32)))) M)))) : Z E YX1_isObject d M [(0, vr (some (16, 0, 0))), (1, vi l1)] 0 [] Q := by
  refine z_aload_n dX1_isObject_0 rfl rfl ?_
  refine z_geti dX1_isObject_1 fsX1_277_0 ?_
  refine z_if_eq (tgt := 23) dX1_isObject_4 rfl (fun h_ => ?_) (fun h_ => ?_)
  · have k := zit h_ k
    refine z_iconst (v := 0) dX1_isObject_23 rfl ?_
    exact z_iret dX1_isObject_24 rfl (by decide) k
  · have k := zif h_ k
    refine z_iload_n dX1_isObject_7 rfl rfl ?_
    refine z_if_lt (tgt := 23) dX1_isObject_8 rfl (fun h_ => ?_) (fun h_ => ?_)
    · have k := zit h_ k
      refine z_iconst (v := 0) dX1_isObject_23 rfl ?_
      exact z_iret dX1_isObject_24 rfl (by decide) k
    · have k := zif h_ k
      refine z_iload_n dX1_isObject_11 rfl rfl ?_
      refine z_aload_n dX1_isObject_12 rfl rfl ?_
      refine z_geti dX1_isObject_13 fsX1_322_0 ?_
      refine z_icmp_ge (tgt := 23) dX1_isObject_16 rfl (fun h_ => ?_) (fun h_ => ?_)
      · have k := zit h_ k
        refine z_iconst (v := 0) dX1_isObject_23 rfl ?_
        exact z_iret dX1_isObject_24 rfl (by decide) k
      · have k := zif h_ k
        refine z_iconst (v := 1) dX1_isObject_19 rfl ?_
        refine z_goto (tgt := 24) dX1_isObject_20 rfl ?_
        exact z_iret dX1_isObject_24 rfl (by decide) k
/-! ScriptTypes.labelOf(I)I -/
theorem bX1_labelOf_0 : zdec cX1_labelOf 0 [(0, .aload_n 0, 1), (1, .getfield 99, 3), (4, .iload_n 1, 1), (5, .saload, 1), (6, .bipush 29, 2), (8, .if_icmp .lt 18, 3), (11, .aload_n 0, 1), (12, .getfield 115, 3), (15, .aload_n 0, 1), (16, .getfield 99, 3), (19, .iload_n 1, 1), (20, .saload, 1), (21, .saload, 1), (22, .iload_n 1, 1), (23, .if_icmp .ne 12, 3), (26, .aload_n 0, 1)] = true := by decide +kernel
theorem dX1_labelOf_0 : decode cX1_labelOf 0 = .ok (.aload_n 0, 1) := zdec_at bX1_labelOf_0 0 rfl
theorem dX1_labelOf_1 : decode cX1_labelOf 1 = .ok (.getfield 99, 3) := zdec_at bX1_labelOf_0 1 rfl
theorem dX1_labelOf_4 : decode cX1_labelOf 4 = .ok (.iload_n 1, 1) := zdec_at bX1_labelOf_0 2 rfl
theorem dX1_labelOf_5 : decode cX1_labelOf 5 = .ok (.saload, 1) := zdec_at bX1_labelOf_0 3 rfl
theorem dX1_labelOf_6 : decode cX1_labelOf 6 = .ok (.bipush 29, 2) := zdec_at bX1_labelOf_0 4 rfl
theorem dX1_labelOf_8 : decode cX1_labelOf 8 = .ok (.if_icmp .lt 18, 3) := zdec_at bX1_labelOf_0 5 rfl
theorem dX1_labelOf_11 : decode cX1_labelOf 11 = .ok (.aload_n 0, 1) := zdec_at bX1_labelOf_0 6 rfl
theorem dX1_labelOf_12 : decode cX1_labelOf 12 = .ok (.getfield 115, 3) := zdec_at bX1_labelOf_0 7 rfl
theorem dX1_labelOf_15 : decode cX1_labelOf 15 = .ok (.aload_n 0, 1) := zdec_at bX1_labelOf_0 8 rfl
theorem dX1_labelOf_16 : decode cX1_labelOf 16 = .ok (.getfield 99, 3) := zdec_at bX1_labelOf_0 9 rfl
theorem dX1_labelOf_19 : decode cX1_labelOf 19 = .ok (.iload_n 1, 1) := zdec_at bX1_labelOf_0 10 rfl
theorem dX1_labelOf_20 : decode cX1_labelOf 20 = .ok (.saload, 1) := zdec_at bX1_labelOf_0 11 rfl
theorem dX1_labelOf_21 : decode cX1_labelOf 21 = .ok (.saload, 1) := zdec_at bX1_labelOf_0 12 rfl
theorem dX1_labelOf_22 : decode cX1_labelOf 22 = .ok (.iload_n 1, 1) := zdec_at bX1_labelOf_0 13 rfl
theorem dX1_labelOf_23 : decode cX1_labelOf 23 = .ok (.if_icmp .ne 12, 3) := zdec_at bX1_labelOf_0 14 rfl
theorem dX1_labelOf_26 : decode cX1_labelOf 26 = .ok (.aload_n 0, 1) := zdec_at bX1_labelOf_0 15 rfl
theorem bX1_labelOf_27 : zdec cX1_labelOf 27 [(27, .getfield 99, 3), (30, .iload_n 1, 1), (31, .saload, 1), (32, .goto 11, 3), (35, .aload_n 0, 1), (36, .getfield 99, 3), (39, .iload_n 1, 1), (40, .saload, 1), (41, .iconst 1, 1), (42, .iadd, 1), (43, .ireturn, 1)] = true := by decide +kernel
theorem dX1_labelOf_27 : decode cX1_labelOf 27 = .ok (.getfield 99, 3) := zdec_at bX1_labelOf_27 0 rfl
theorem dX1_labelOf_30 : decode cX1_labelOf 30 = .ok (.iload_n 1, 1) := zdec_at bX1_labelOf_27 1 rfl
theorem dX1_labelOf_31 : decode cX1_labelOf 31 = .ok (.saload, 1) := zdec_at bX1_labelOf_27 2 rfl
theorem dX1_labelOf_32 : decode cX1_labelOf 32 = .ok (.goto 11, 3) := zdec_at bX1_labelOf_27 3 rfl
theorem dX1_labelOf_35 : decode cX1_labelOf 35 = .ok (.aload_n 0, 1) := zdec_at bX1_labelOf_27 4 rfl
theorem dX1_labelOf_36 : decode cX1_labelOf 36 = .ok (.getfield 99, 3) := zdec_at bX1_labelOf_27 5 rfl
theorem dX1_labelOf_39 : decode cX1_labelOf 39 = .ok (.iload_n 1, 1) := zdec_at bX1_labelOf_27 6 rfl
theorem dX1_labelOf_40 : decode cX1_labelOf 40 = .ok (.saload, 1) := zdec_at bX1_labelOf_27 7 rfl
theorem dX1_labelOf_41 : decode cX1_labelOf 41 = .ok (.iconst 1, 1) := zdec_at bX1_labelOf_27 8 rfl
theorem dX1_labelOf_42 : decode cX1_labelOf 42 = .ok (.iadd, 1) := zdec_at bX1_labelOf_27 9 rfl
theorem dX1_labelOf_43 : decode cX1_labelOf 43 = .ok (.ireturn, 1) := zdec_at bX1_labelOf_27 10 rfl
theorem sX1_labelOf_0 {E : zE} {d : Nat} {Q : zO → zM → Prop} (M : zM) (l1 : Int32) (hw : cw M) (k : vp_in l1 300 ∧ (if (gi M 40 (l1).toNatClampNeg) < (29 : Int32) then (vp_in l1 300 ∧ (Q (.inl (some (vi (gi M 40 (l1).toNatClampNeg)))) M)) else (vp_in l1 300 ∧ (vp_in (gi M 40 (l1).toNatClampNeg) 160 ∧ (if (gi M 45 ((gi M 40 (l1).toNatClampNeg)).toNatClampNeg) = l1 then (vp_in l1 300 ∧ (Q (.inl (some (vi (gi M 40 (l1).toNatClampNeg)))) M)) else (vp_in l1 300 ∧ (Q (.inl (some (vi ((gi M 40 (l1).toNatClampNeg) + (1 : Int32))))) M))))))) : Z E YX1_labelOf d M [(0, vr (some (16, 0, 0))), (1, vi l1)] 0 [] Q := by
  refine z_aload_n dX1_labelOf_0 rfl rfl ?_
  refine z_getr dX1_labelOf_1 fsX1_99_0 (show gr M 16 15 = some (40, 102, 300) from cw_at hw 8 rfl) ?_
  refine z_iload_n dX1_labelOf_4 rfl rfl ?_
  obtain ⟨b_, k⟩ := k
  refine z_sald dX1_labelOf_5 b_ ?_
  refine z_bipush (v := 29) dX1_labelOf_6 rfl ?_
  refine z_icmp_lt (tgt := 26) dX1_labelOf_8 rfl (fun h_ => ?_) (fun h_ => ?_)
  · have k := zit h_ k
    refine z_aload_n dX1_labelOf_26 rfl rfl ?_
    refine z_getr dX1_labelOf_27 fsX1_99_0 (show gr M 16 15 = some (40, 102, 300) from cw_at hw 8 rfl) ?_
    refine z_iload_n dX1_labelOf_30 rfl rfl ?_
    obtain ⟨b_, k⟩ := k
    refine z_sald dX1_labelOf_31 b_ ?_
    refine z_goto (tgt := 43) dX1_labelOf_32 rfl ?_
    exact z_iret dX1_labelOf_43 rfl rfl k
  · have k := zif h_ k
    refine z_aload_n dX1_labelOf_11 rfl rfl ?_
    refine z_getr dX1_labelOf_12 fsX1_115_0 (show gr M 16 20 = some (45, 102, 160) from cw_at hw 13 rfl) ?_
    refine z_aload_n dX1_labelOf_15 rfl rfl ?_
    refine z_getr dX1_labelOf_16 fsX1_99_0 (show gr M 16 15 = some (40, 102, 300) from cw_at hw 8 rfl) ?_
    refine z_iload_n dX1_labelOf_19 rfl rfl ?_
    obtain ⟨b_, k⟩ := k
    refine z_sald dX1_labelOf_20 b_ ?_
    obtain ⟨b_, k⟩ := k
    refine z_sald dX1_labelOf_21 b_ ?_
    refine z_iload_n dX1_labelOf_22 rfl rfl ?_
    refine z_icmp_ne (tgt := 35) dX1_labelOf_23 rfl (fun h_ => ?_) (fun h_ => ?_)
    · have k := zif h_ k
      refine z_aload_n dX1_labelOf_35 rfl rfl ?_
      refine z_getr dX1_labelOf_36 fsX1_99_0 (show gr M 16 15 = some (40, 102, 300) from cw_at hw 8 rfl) ?_
      refine z_iload_n dX1_labelOf_39 rfl rfl ?_
      obtain ⟨b_, k⟩ := k
      refine z_sald dX1_labelOf_40 b_ ?_
      refine z_iconst (v := 1) dX1_labelOf_41 rfl ?_
      refine z_iadd dX1_labelOf_42 ?_
      exact z_iret dX1_labelOf_43 rfl rfl k
    · have k := zit h_ k
      refine z_aload_n dX1_labelOf_26 rfl rfl ?_
      refine z_getr dX1_labelOf_27 fsX1_99_0 (show gr M 16 15 = some (40, 102, 300) from cw_at hw 8 rfl) ?_
      refine z_iload_n dX1_labelOf_30 rfl rfl ?_
      obtain ⟨b_, k⟩ := k
      refine z_sald dX1_labelOf_31 b_ ?_
      refine z_goto (tgt := 43) dX1_labelOf_32 rfl ?_
      exact z_iret dX1_labelOf_43 rfl rfl k
/-! ScriptTypes.property(III)I -/
theorem bX1_property_0 : zdec cX1_property 0 [(0, .aload_n 0, 1), (1, .iload_n 1, 1), (2, .invokevirtual 598, 3), (5, .ifCond .eq 16, 3), (8, .iload_n 2, 1), (9, .ifCond .lt 12, 3), (12, .iload_n 3, 1), (13, .ifCond .lt 8, 3), (16, .iload_n 3, 1), (17, .iconst 2, 1), (18, .if_icmp .le 5, 3), (21, .iconst (-1), 1), (22, .ireturn, 1), (23, .aload_n 0, 1), (24, .getfield 109, 3), (27, .iload_n 1, 1)] = true := by decide +kernel
theorem dX1_property_0 : decode cX1_property 0 = .ok (.aload_n 0, 1) := zdec_at bX1_property_0 0 rfl
theorem dX1_property_1 : decode cX1_property 1 = .ok (.iload_n 1, 1) := zdec_at bX1_property_0 1 rfl
theorem dX1_property_2 : decode cX1_property 2 = .ok (.invokevirtual 598, 3) := zdec_at bX1_property_0 2 rfl
theorem dX1_property_5 : decode cX1_property 5 = .ok (.ifCond .eq 16, 3) := zdec_at bX1_property_0 3 rfl
theorem dX1_property_8 : decode cX1_property 8 = .ok (.iload_n 2, 1) := zdec_at bX1_property_0 4 rfl
theorem dX1_property_9 : decode cX1_property 9 = .ok (.ifCond .lt 12, 3) := zdec_at bX1_property_0 5 rfl
theorem dX1_property_12 : decode cX1_property 12 = .ok (.iload_n 3, 1) := zdec_at bX1_property_0 6 rfl
theorem dX1_property_13 : decode cX1_property 13 = .ok (.ifCond .lt 8, 3) := zdec_at bX1_property_0 7 rfl
theorem dX1_property_16 : decode cX1_property 16 = .ok (.iload_n 3, 1) := zdec_at bX1_property_0 8 rfl
theorem dX1_property_17 : decode cX1_property 17 = .ok (.iconst 2, 1) := zdec_at bX1_property_0 9 rfl
theorem dX1_property_18 : decode cX1_property 18 = .ok (.if_icmp .le 5, 3) := zdec_at bX1_property_0 10 rfl
theorem dX1_property_21 : decode cX1_property 21 = .ok (.iconst (-1), 1) := zdec_at bX1_property_0 11 rfl
theorem dX1_property_22 : decode cX1_property 22 = .ok (.ireturn, 1) := zdec_at bX1_property_0 12 rfl
theorem dX1_property_23 : decode cX1_property 23 = .ok (.aload_n 0, 1) := zdec_at bX1_property_0 13 rfl
theorem dX1_property_24 : decode cX1_property 24 = .ok (.getfield 109, 3) := zdec_at bX1_property_0 14 rfl
theorem dX1_property_27 : decode cX1_property 27 = .ok (.iload_n 1, 1) := zdec_at bX1_property_0 15 rfl
theorem bX1_property_28 : zdec cX1_property 28 [(28, .saload, 1), (29, .istore 4, 2), (31, .iconst 0, 1), (32, .istore 5, 2), (34, .iload 5, 2), (36, .iload_n 2, 1), (37, .if_icmp .ge 24, 3), (40, .iload 4, 2), (42, .iconst (-1), 1), (43, .if_icmp .eq 18, 3), (46, .aload_n 0, 1), (47, .getfield 121, 3), (50, .iload 4, 2), (52, .saload, 1), (53, .istore 4, 2), (55, .iinc 5 1, 3)] = true := by decide +kernel
theorem dX1_property_28 : decode cX1_property 28 = .ok (.saload, 1) := zdec_at bX1_property_28 0 rfl
theorem dX1_property_29 : decode cX1_property 29 = .ok (.istore 4, 2) := zdec_at bX1_property_28 1 rfl
theorem dX1_property_31 : decode cX1_property 31 = .ok (.iconst 0, 1) := zdec_at bX1_property_28 2 rfl
theorem dX1_property_32 : decode cX1_property 32 = .ok (.istore 5, 2) := zdec_at bX1_property_28 3 rfl
theorem dX1_property_34 : decode cX1_property 34 = .ok (.iload 5, 2) := zdec_at bX1_property_28 4 rfl
theorem dX1_property_36 : decode cX1_property 36 = .ok (.iload_n 2, 1) := zdec_at bX1_property_28 5 rfl
theorem dX1_property_37 : decode cX1_property 37 = .ok (.if_icmp .ge 24, 3) := zdec_at bX1_property_28 6 rfl
theorem dX1_property_40 : decode cX1_property 40 = .ok (.iload 4, 2) := zdec_at bX1_property_28 7 rfl
theorem dX1_property_42 : decode cX1_property 42 = .ok (.iconst (-1), 1) := zdec_at bX1_property_28 8 rfl
theorem dX1_property_43 : decode cX1_property 43 = .ok (.if_icmp .eq 18, 3) := zdec_at bX1_property_28 9 rfl
theorem dX1_property_46 : decode cX1_property 46 = .ok (.aload_n 0, 1) := zdec_at bX1_property_28 10 rfl
theorem dX1_property_47 : decode cX1_property 47 = .ok (.getfield 121, 3) := zdec_at bX1_property_28 11 rfl
theorem dX1_property_50 : decode cX1_property 50 = .ok (.iload 4, 2) := zdec_at bX1_property_28 12 rfl
theorem dX1_property_52 : decode cX1_property 52 = .ok (.saload, 1) := zdec_at bX1_property_28 13 rfl
theorem dX1_property_53 : decode cX1_property 53 = .ok (.istore 4, 2) := zdec_at bX1_property_28 14 rfl
theorem dX1_property_55 : decode cX1_property 55 = .ok (.iinc 5 1, 3) := zdec_at bX1_property_28 15 rfl
theorem bX1_property_58 : zdec cX1_property 58 [(58, .goto (-24), 3), (61, .iload 4, 2), (63, .iconst (-1), 1), (64, .if_icmp .ne 5, 3), (67, .iconst (-1), 1), (68, .ireturn, 1), (69, .iload_n 3, 1), (70, .ifCond .ne 13, 3), (73, .aload_n 0, 1), (74, .getfield 118, 3), (77, .iload 4, 2), (79, .saload, 1), (80, .goto 24, 3), (83, .aload_n 0, 1), (84, .aload_n 0, 1), (85, .getfield 124, 3)] = true := by decide +kernel
theorem dX1_property_58 : decode cX1_property 58 = .ok (.goto (-24), 3) := zdec_at bX1_property_58 0 rfl
theorem dX1_property_61 : decode cX1_property 61 = .ok (.iload 4, 2) := zdec_at bX1_property_58 1 rfl
theorem dX1_property_63 : decode cX1_property 63 = .ok (.iconst (-1), 1) := zdec_at bX1_property_58 2 rfl
theorem dX1_property_64 : decode cX1_property 64 = .ok (.if_icmp .ne 5, 3) := zdec_at bX1_property_58 3 rfl
theorem dX1_property_67 : decode cX1_property 67 = .ok (.iconst (-1), 1) := zdec_at bX1_property_58 4 rfl
theorem dX1_property_68 : decode cX1_property 68 = .ok (.ireturn, 1) := zdec_at bX1_property_58 5 rfl
theorem dX1_property_69 : decode cX1_property 69 = .ok (.iload_n 3, 1) := zdec_at bX1_property_58 6 rfl
theorem dX1_property_70 : decode cX1_property 70 = .ok (.ifCond .ne 13, 3) := zdec_at bX1_property_58 7 rfl
theorem dX1_property_73 : decode cX1_property 73 = .ok (.aload_n 0, 1) := zdec_at bX1_property_58 8 rfl
theorem dX1_property_74 : decode cX1_property 74 = .ok (.getfield 118, 3) := zdec_at bX1_property_58 9 rfl
theorem dX1_property_77 : decode cX1_property 77 = .ok (.iload 4, 2) := zdec_at bX1_property_58 10 rfl
theorem dX1_property_79 : decode cX1_property 79 = .ok (.saload, 1) := zdec_at bX1_property_58 11 rfl
theorem dX1_property_80 : decode cX1_property 80 = .ok (.goto 24, 3) := zdec_at bX1_property_58 12 rfl
theorem dX1_property_83 : decode cX1_property 83 = .ok (.aload_n 0, 1) := zdec_at bX1_property_58 13 rfl
theorem dX1_property_84 : decode cX1_property 84 = .ok (.aload_n 0, 1) := zdec_at bX1_property_58 14 rfl
theorem dX1_property_85 : decode cX1_property 85 = .ok (.getfield 124, 3) := zdec_at bX1_property_58 15 rfl
theorem bX1_property_88 : zdec cX1_property 88 [(88, .iload 4, 2), (90, .baload, 1), (91, .aload_n 0, 1), (92, .getfield 127, 3), (95, .iload 4, 2), (97, .iaload, 1), (98, .iload_n 3, 1), (99, .iconst 1, 1), (100, .isub, 1), (101, .invokevirtual 591, 3), (104, .ireturn, 1)] = true := by decide +kernel
theorem dX1_property_88 : decode cX1_property 88 = .ok (.iload 4, 2) := zdec_at bX1_property_88 0 rfl
theorem dX1_property_90 : decode cX1_property 90 = .ok (.baload, 1) := zdec_at bX1_property_88 1 rfl
theorem dX1_property_91 : decode cX1_property 91 = .ok (.aload_n 0, 1) := zdec_at bX1_property_88 2 rfl
theorem dX1_property_92 : decode cX1_property 92 = .ok (.getfield 127, 3) := zdec_at bX1_property_88 3 rfl
theorem dX1_property_95 : decode cX1_property 95 = .ok (.iload 4, 2) := zdec_at bX1_property_88 4 rfl
theorem dX1_property_97 : decode cX1_property 97 = .ok (.iaload, 1) := zdec_at bX1_property_88 5 rfl
theorem dX1_property_98 : decode cX1_property 98 = .ok (.iload_n 3, 1) := zdec_at bX1_property_88 6 rfl
theorem dX1_property_99 : decode cX1_property 99 = .ok (.iconst 1, 1) := zdec_at bX1_property_88 7 rfl
theorem dX1_property_100 : decode cX1_property 100 = .ok (.isub, 1) := zdec_at bX1_property_88 8 rfl
theorem dX1_property_101 : decode cX1_property 101 = .ok (.invokevirtual 591, 3) := zdec_at bX1_property_88 9 rfl
theorem dX1_property_104 : decode cX1_property 104 = .ok (.ireturn, 1) := zdec_at bX1_property_88 10 rfl
theorem sX1_property_0 {E : zE} {d : Nat} {Q : zO → zM → Prop} (M : zM) (l1 : Int32) (l2 : Int32) (l3 : Int32) (hw : cw M) (k : Z E YX1_isObject d M (zargs 0 [vr (some (16, 0, 0)), vi l1]) 0 [] (zafter E YX1_property (d + 1) [(0, vr (some (16, 0, 0))), (1, vi l1), (2, vi l2), (3, vi l3)] 2 3 [] Q)) : Z E YX1_property (d + 1) M [(0, vr (some (16, 0, 0))), (1, vi l1), (2, vi l2), (3, vi l3)] 0 [] Q := by
  refine z_aload_n dX1_property_0 rfl rfl ?_
  refine z_iload_n dX1_property_1 rfl rfl ?_
  exact z_callV (as := [vi l1]) (st := []) dX1_property_2 vsX1_598_0 (Nat.le_refl _) (Nat.le_of_ble_eq_true rfl) (Nat.le_of_ble_eq_true rfl) rfl k
theorem sX1_property_5 {E : zE} {d : Nat} {Q : zO → zM → Prop} (M : zM) (l1 : Int32) (l2 : Int32) (l3 : Int32) (s0 : Int32) (hw : cw M) (k : if s0 = 0 then (Q (.inl (some (vi (-1 : Int32)))) M) else (if l2 < 0 then (Q (.inl (some (vi (-1 : Int32)))) M) else (if l3 < 0 then (Q (.inl (some (vi (-1 : Int32)))) M) else (if l3 ≤ (2 : Int32) then (vp_in l1 300 ∧ (Z E YX1_property (d + 1) M [(0, vr (some (16, 0, 0))), (2, vi l2), (3, vi l3), (4, vi (gi M 43 (l1).toNatClampNeg)), (5, vi (0 : Int32))] 34 [] Q)) else (Q (.inl (some (vi (-1 : Int32)))) M))))) : Z E YX1_property (d + 1) M [(0, vr (some (16, 0, 0))), (1, vi l1), (2, vi l2), (3, vi l3)] 5 [vi s0] Q := by
  refine z_if_eq (tgt := 21) dX1_property_5 rfl (fun h_ => ?_) (fun h_ => ?_)
  · have k := zit h_ k
    refine z_iconst (v := -1) dX1_property_21 rfl ?_
    exact z_iret dX1_property_22 rfl rfl k
  · have k := zif h_ k
    refine z_iload_n dX1_property_8 rfl rfl ?_
    refine z_if_lt (tgt := 21) dX1_property_9 rfl (fun h_ => ?_) (fun h_ => ?_)
    · have k := zit h_ k
      refine z_iconst (v := -1) dX1_property_21 rfl ?_
      exact z_iret dX1_property_22 rfl rfl k
    · have k := zif h_ k
      refine z_iload_n dX1_property_12 rfl rfl ?_
      refine z_if_lt (tgt := 21) dX1_property_13 rfl (fun h_ => ?_) (fun h_ => ?_)
      · have k := zit h_ k
        refine z_iconst (v := -1) dX1_property_21 rfl ?_
        exact z_iret dX1_property_22 rfl rfl k
      · have k := zif h_ k
        refine z_iload_n dX1_property_16 rfl rfl ?_
        refine z_iconst (v := 2) dX1_property_17 rfl ?_
        refine z_icmp_le (tgt := 23) dX1_property_18 rfl (fun h_ => ?_) (fun h_ => ?_)
        · have k := zit h_ k
          refine z_aload_n dX1_property_23 rfl rfl ?_
          refine z_getr dX1_property_24 fsX1_109_0 (show gr M 16 18 = some (43, 102, 300) from cw_at hw 11 rfl) ?_
          refine z_iload_n dX1_property_27 rfl rfl ?_
          obtain ⟨b_, k⟩ := k
          refine z_sald dX1_property_28 b_ ?_
          refine z_ist dX1_property_29 (by decide) (lv' := [(0, vr (some (16, 0, 0))), (1, vi l1), (2, vi l2), (3, vi l3), (4, vi (gi M 43 (l1).toNatClampNeg))]) rfl ?_
          refine z_iconst (v := 0) dX1_property_31 rfl ?_
          refine z_ist dX1_property_32 (by decide) (lv' := [(0, vr (some (16, 0, 0))), (1, vi l1), (2, vi l2), (3, vi l3), (4, vi (gi M 43 (l1).toNatClampNeg)), (5, vi (0 : Int32))]) rfl ?_
          refine Z.pick [0, 2, 3, 4, 5] rfl ?_
          exact k
        · have k := zif h_ k
          refine z_iconst (v := -1) dX1_property_21 rfl ?_
          exact z_iret dX1_property_22 rfl rfl k
theorem sX1_property_34 {E : zE} {d : Nat} {Q : zO → zM → Prop} (M : zM) (l2 : Int32) (l3 : Int32) (l4 : Int32) (l5 : Int32) (hw : cw M) (k : if l2 ≤ l5 then (Z E YX1_property (d + 1) M [(0, vr (some (16, 0, 0))), (3, vi l3), (4, vi l4)] 61 [] Q) else (if l4 = (-1 : Int32) then (Z E YX1_property (d + 1) M [(0, vr (some (16, 0, 0))), (3, vi l3), (4, vi l4)] 61 [] Q) else (vp_in l4 3000 ∧ (Z E YX1_property (d + 1) M [(0, vr (some (16, 0, 0))), (2, vi l2), (3, vi l3), (4, vi (gi M 47 (l4).toNatClampNeg)), (5, vi (l5 + (1 : Int32)))] 34 [] Q)))) : Z E YX1_property (d + 1) M [(0, vr (some (16, 0, 0))), (2, vi l2), (3, vi l3), (4, vi l4), (5, vi l5)] 34 [] Q := by
  refine z_iload dX1_property_34 rfl ?_
  refine z_iload_n dX1_property_36 rfl rfl ?_
  refine z_icmp_ge (tgt := 61) dX1_property_37 rfl (fun h_ => ?_) (fun h_ => ?_)
  · have k := zit h_ k
    refine Z.pick [0, 2, 3] rfl ?_
    exact k
  · have k := zif h_ k
    refine z_iload dX1_property_40 rfl ?_
    refine z_iconst (v := -1) dX1_property_42 rfl ?_
    refine z_icmp_eq (tgt := 61) dX1_property_43 rfl (fun h_ => ?_) (fun h_ => ?_)
    · have k := zit h_ k
      refine Z.pick [0, 2, 3] rfl ?_
      exact k
    · have k := zif h_ k
      refine z_aload_n dX1_property_46 rfl rfl ?_
      refine z_getr dX1_property_47 fsX1_121_0 (show gr M 16 22 = some (47, 102, 3000) from cw_at hw 15 rfl) ?_
      refine z_iload dX1_property_50 rfl ?_
      obtain ⟨b_, k⟩ := k
      refine z_sald dX1_property_52 b_ ?_
      refine z_ist dX1_property_53 (by decide) (lv' := [(0, vr (some (16, 0, 0))), (2, vi l2), (3, vi l3), (4, vi (gi M 47 (l4).toNatClampNeg)), (5, vi l5)]) rfl ?_
      refine z_inc (v := (l5 + (1 : Int32))) dX1_property_55 rfl rfl (by decide) (lv' := [(0, vr (some (16, 0, 0))), (2, vi l2), (3, vi l3), (4, vi (gi M 47 (l4).toNatClampNeg)), (5, vi (l5 + (1 : Int32)))]) rfl ?_
      refine z_goto (tgt := 34) dX1_property_58 rfl ?_
      exact k
theorem sX1_property_61 {E : zE} {d : Nat} {Q : zO → zM → Prop} (M : zM) (l3 : Int32) (l4 : Int32) (hw : cw M) (k : if l4 = (-1 : Int32) then (Q (.inl (some (vi (-1 : Int32)))) M) else (if l3 = 0 then (vp_in l4 3000 ∧ (Z E YX1_property (d + 1) M [] 104 [vi (gi M 46 (l4).toNatClampNeg)] Q)) else (vp_in l4 3000 ∧ (vp_in l4 3000 ∧ (Z E YX1_told d M (zargs 0 [vr (some (16, 0, 0)), vi (gi M 48 (l4).toNatClampNeg), vi (gi M 49 (l4).toNatClampNeg), vi (l3 - (1 : Int32))]) 0 [] (zafter E YX1_property (d + 1) [] 101 3 [] Q)))))) : Z E YX1_property (d + 1) M [(0, vr (some (16, 0, 0))), (3, vi l3), (4, vi l4)] 61 [] Q := by
  refine z_iload dX1_property_61 rfl ?_
  refine z_iconst (v := -1) dX1_property_63 rfl ?_
  refine z_icmp_ne (tgt := 69) dX1_property_64 rfl (fun h_ => ?_) (fun h_ => ?_)
  · have k := zif h_ k
    refine z_iload_n dX1_property_69 rfl rfl ?_
    refine z_if_ne (tgt := 83) dX1_property_70 rfl (fun h_ => ?_) (fun h_ => ?_)
    · have k := zif h_ k
      refine z_aload_n dX1_property_83 rfl rfl ?_
      refine z_aload_n dX1_property_84 rfl rfl ?_
      refine z_getr dX1_property_85 fsX1_124_0 (show gr M 16 23 = some (48, 101, 3000) from cw_at hw 16 rfl) ?_
      refine z_iload dX1_property_88 rfl ?_
      obtain ⟨b_, k⟩ := k
      refine z_bald dX1_property_90 b_ ?_
      refine z_aload_n dX1_property_91 rfl rfl ?_
      refine z_getr dX1_property_92 fsX1_127_0 (show gr M 16 24 = some (49, 100, 3000) from cw_at hw 17 rfl) ?_
      refine z_iload dX1_property_95 rfl ?_
      obtain ⟨b_, k⟩ := k
      refine z_iald dX1_property_97 b_ ?_
      refine z_iload_n dX1_property_98 rfl rfl ?_
      refine z_iconst (v := 1) dX1_property_99 rfl ?_
      refine z_isub dX1_property_100 ?_
      refine Z.pick [] rfl ?_
      exact z_callV (as := [vi (gi M 48 (l4).toNatClampNeg), vi (gi M 49 (l4).toNatClampNeg), vi (l3 - (1 : Int32))]) (st := []) dX1_property_101 vsX1_591_0 (Nat.le_refl _) (Nat.le_of_ble_eq_true rfl) (Nat.le_of_ble_eq_true rfl) rfl k
    · have k := zit h_ k
      refine z_aload_n dX1_property_73 rfl rfl ?_
      refine z_getr dX1_property_74 fsX1_118_0 (show gr M 16 21 = some (46, 102, 3000) from cw_at hw 14 rfl) ?_
      refine z_iload dX1_property_77 rfl ?_
      obtain ⟨b_, k⟩ := k
      refine z_sald dX1_property_79 b_ ?_
      refine z_goto (tgt := 104) dX1_property_80 rfl ?_
      refine Z.pick [] rfl ?_
      exact k
  · have k := zit h_ k
    refine z_iconst (v := -1) dX1_property_67 rfl ?_
    exact z_iret dX1_property_68 rfl rfl k
theorem sX1_property_104 {E : zE} {d : Nat} {Q : zO → zM → Prop} (M : zM) (s0 : Int32) (hw : cw M) (k : Q (.inl (some (vi s0))) M) : Z E YX1_property (d + 1) M [] 104 [vi s0] Q := by
  exact z_iret dX1_property_104 rfl rfl k
/-! ScriptTypes.begin()V -/
theorem bX1_begin_0 : zdec cX1_begin 0 [(0, .aload_n 0, 1), (1, .getfield 270, 3), (4, .ifCond .ne 11, 3), (7, .new 434, 3), (10, .dup, 1), (11, .invokespecial 436, 3), (14, .athrow, 1), (15, .aload_n 0, 1), (16, .getfield 19, 3), (19, .aload_n 0, 1), (20, .getfield 58, 3), (23, .putfield 41, 3), (26, .aload_n 0, 1), (27, .invokevirtual 437, 3), (30, .aload_n 0, 1), (31, .iconst 0, 1)] = true := by decide +kernel
theorem dX1_begin_0 : decode cX1_begin 0 = .ok (.aload_n 0, 1) := zdec_at bX1_begin_0 0 rfl
theorem dX1_begin_1 : decode cX1_begin 1 = .ok (.getfield 270, 3) := zdec_at bX1_begin_0 1 rfl
theorem dX1_begin_4 : decode cX1_begin 4 = .ok (.ifCond .ne 11, 3) := zdec_at bX1_begin_0 2 rfl
theorem dX1_begin_7 : decode cX1_begin 7 = .ok (.new 434, 3) := zdec_at bX1_begin_0 3 rfl
theorem dX1_begin_10 : decode cX1_begin 10 = .ok (.dup, 1) := zdec_at bX1_begin_0 4 rfl
theorem dX1_begin_11 : decode cX1_begin 11 = .ok (.invokespecial 436, 3) := zdec_at bX1_begin_0 5 rfl
theorem dX1_begin_14 : decode cX1_begin 14 = .ok (.athrow, 1) := zdec_at bX1_begin_0 6 rfl
theorem dX1_begin_15 : decode cX1_begin 15 = .ok (.aload_n 0, 1) := zdec_at bX1_begin_0 7 rfl
theorem dX1_begin_16 : decode cX1_begin 16 = .ok (.getfield 19, 3) := zdec_at bX1_begin_0 8 rfl
theorem dX1_begin_19 : decode cX1_begin 19 = .ok (.aload_n 0, 1) := zdec_at bX1_begin_0 9 rfl
theorem dX1_begin_20 : decode cX1_begin 20 = .ok (.getfield 58, 3) := zdec_at bX1_begin_0 10 rfl
theorem dX1_begin_23 : decode cX1_begin 23 = .ok (.putfield 41, 3) := zdec_at bX1_begin_0 11 rfl
theorem dX1_begin_26 : decode cX1_begin 26 = .ok (.aload_n 0, 1) := zdec_at bX1_begin_0 12 rfl
theorem dX1_begin_27 : decode cX1_begin 27 = .ok (.invokevirtual 437, 3) := zdec_at bX1_begin_0 13 rfl
theorem dX1_begin_30 : decode cX1_begin 30 = .ok (.aload_n 0, 1) := zdec_at bX1_begin_0 14 rfl
theorem dX1_begin_31 : decode cX1_begin 31 = .ok (.iconst 0, 1) := zdec_at bX1_begin_0 15 rfl
theorem bX1_begin_32 : zdec cX1_begin 32 [(32, .putfield 440, 3), (35, .aload_n 0, 1), (36, .iconst 0, 1), (37, .putfield 443, 3), (40, .aload_n 0, 1), (41, .iconst 0, 1), (42, .putfield 319, 3), (45, .aload_n 0, 1), (46, .iconst 0, 1), (47, .putfield 325, 3), (50, .aload_n 0, 1), (51, .iconst 0, 1), (52, .putfield 328, 3), (55, .aload_n 0, 1), (56, .iconst 1, 1), (57, .putfield 277, 3)] = true := by decide +kernel
theorem dX1_begin_32 : decode cX1_begin 32 = .ok (.putfield 440, 3) := zdec_at bX1_begin_32 0 rfl
theorem dX1_begin_35 : decode cX1_begin 35 = .ok (.aload_n 0, 1) := zdec_at bX1_begin_32 1 rfl
theorem dX1_begin_36 : decode cX1_begin 36 = .ok (.iconst 0, 1) := zdec_at bX1_begin_32 2 rfl
theorem dX1_begin_37 : decode cX1_begin 37 = .ok (.putfield 443, 3) := zdec_at bX1_begin_32 3 rfl
theorem dX1_begin_40 : decode cX1_begin 40 = .ok (.aload_n 0, 1) := zdec_at bX1_begin_32 4 rfl
theorem dX1_begin_41 : decode cX1_begin 41 = .ok (.iconst 0, 1) := zdec_at bX1_begin_32 5 rfl
theorem dX1_begin_42 : decode cX1_begin 42 = .ok (.putfield 319, 3) := zdec_at bX1_begin_32 6 rfl
theorem dX1_begin_45 : decode cX1_begin 45 = .ok (.aload_n 0, 1) := zdec_at bX1_begin_32 7 rfl
theorem dX1_begin_46 : decode cX1_begin 46 = .ok (.iconst 0, 1) := zdec_at bX1_begin_32 8 rfl
theorem dX1_begin_47 : decode cX1_begin 47 = .ok (.putfield 325, 3) := zdec_at bX1_begin_32 9 rfl
theorem dX1_begin_50 : decode cX1_begin 50 = .ok (.aload_n 0, 1) := zdec_at bX1_begin_32 10 rfl
theorem dX1_begin_51 : decode cX1_begin 51 = .ok (.iconst 0, 1) := zdec_at bX1_begin_32 11 rfl
theorem dX1_begin_52 : decode cX1_begin 52 = .ok (.putfield 328, 3) := zdec_at bX1_begin_32 12 rfl
theorem dX1_begin_55 : decode cX1_begin 55 = .ok (.aload_n 0, 1) := zdec_at bX1_begin_32 13 rfl
theorem dX1_begin_56 : decode cX1_begin 56 = .ok (.iconst 1, 1) := zdec_at bX1_begin_32 14 rfl
theorem dX1_begin_57 : decode cX1_begin 57 = .ok (.putfield 277, 3) := zdec_at bX1_begin_32 15 rfl
theorem bX1_begin_60 : zdec cX1_begin 60 [(60, .aload_n 0, 1), (61, .iconst 0, 1), (62, .iconst (-1), 1), (63, .iconst 0, 1), (64, .iconst 0, 1), (65, .iconst (-1), 1), (66, .invokevirtual 446, 3), (69, .return_, 1)] = true := by decide +kernel
theorem dX1_begin_60 : decode cX1_begin 60 = .ok (.aload_n 0, 1) := zdec_at bX1_begin_60 0 rfl
theorem dX1_begin_61 : decode cX1_begin 61 = .ok (.iconst 0, 1) := zdec_at bX1_begin_60 1 rfl
theorem dX1_begin_62 : decode cX1_begin 62 = .ok (.iconst (-1), 1) := zdec_at bX1_begin_60 2 rfl
theorem dX1_begin_63 : decode cX1_begin 63 = .ok (.iconst 0, 1) := zdec_at bX1_begin_60 3 rfl
theorem dX1_begin_64 : decode cX1_begin 64 = .ok (.iconst 0, 1) := zdec_at bX1_begin_60 4 rfl
theorem dX1_begin_65 : decode cX1_begin 65 = .ok (.iconst (-1), 1) := zdec_at bX1_begin_60 5 rfl
theorem dX1_begin_66 : decode cX1_begin 66 = .ok (.invokevirtual 446, 3) := zdec_at bX1_begin_60 6 rfl
theorem dX1_begin_69 : decode cX1_begin 69 = .ok (.return_, 1) := zdec_at bX1_begin_60 7 rfl
theorem sX1_begin_0 {E : zE} {d : Nat} {Q : zO → zM → Prop} (M : zM)  (hw : cw M) (k : if (gi M 16 10) = 0 then ((7 ≤ (d + 1)) ∧ (Q (.inr ((zsz M), 15, 0)) (sr (sr (sr (zn M 6) (zsz M) 0 (some (zsz M, 15, 0))) (zsz M) 1 (zsv E 2)) (zsz M) 2 (zsv E 3)))) else (Z E YX1_firstObjects d (si M 17 2 (gi M 16 1)) (zargs 0 [vr (some (16, 0, 0))]) 0 [] (zafter E YX1_begin (d + 1) [(0, vr (some (16, 0, 0)))] 27 3 [] Q))) : Z E YX1_begin (d + 1) M [(0, vr (some (16, 0, 0)))] 0 [] Q := by
  refine z_aload_n dX1_begin_0 rfl rfl ?_
  refine z_geti dX1_begin_1 fsX1_270_0 ?_
  refine z_if_ne (tgt := 15) dX1_begin_4 rfl (fun h_ => ?_) (fun h_ => ?_)
  · have k := zif h_ k
    refine z_aload_n dX1_begin_15 rfl rfl ?_
    refine z_getr dX1_begin_16 fsX1_19_0 (show gr M 16 0 = some (17, 2, 0) from cw_at hw 0 rfl) ?_
    refine z_aload_n dX1_begin_19 rfl rfl ?_
    refine z_geti dX1_begin_20 fsX1_58_0 ?_
    refine z_puti (by decide) dX1_begin_23 (zfwN.w fwX1_41_2) rfl ⟨rfl, rfl⟩ ?_
    refine z_aload_n dX1_begin_26 rfl rfl ?_
    exact z_callV (as := []) (st := []) dX1_begin_27 vsX1_437_0 (Nat.le_refl _) (Nat.le_of_ble_eq_true rfl) (Nat.le_of_ble_eq_true rfl) rfl k
  · have k := zit h_ k
    obtain ⟨d_, k⟩ := k
    refine z_newExc15 dX1_begin_7 dX1_begin_10 dX1_begin_11 q2616 q2625 d_ (Nat.le_of_ble_eq_true rfl) ?_
    exact z_athrow dX1_begin_14 (ZT.out (by decide) k)
theorem sX1_begin_30 {E : zE} {d : Nat} {Q : zO → zM → Prop} (M : zM)  (hw : cw M) (k : Z E YX1_comes d (si (si (si (si (si (si M 16 38 (0 : Int32)) 16 50 (0 : Int32)) 16 52 (0 : Int32)) 16 53 (0 : Int32)) 16 49 (0 : Int32)) 16 51 (1 : Int32)) (zargs 0 [vr (some (16, 0, 0)), vi (0 : Int32), vi (-1 : Int32), vi (0 : Int32), vi (0 : Int32), vi (-1 : Int32)]) 0 [] (zafter E YX1_begin (d + 1) [] 66 3 [] Q)) : Z E YX1_begin (d + 1) M [(0, vr (some (16, 0, 0)))] 30 [] Q := by
  refine z_aload_n dX1_begin_30 rfl rfl ?_
  refine z_iconst (v := 0) dX1_begin_31 rfl ?_
  refine z_puti (by decide) dX1_begin_32 (zfwN.w fwX1_440_0) rfl ⟨rfl, rfl⟩ ?_
  refine z_aload_n dX1_begin_35 rfl rfl ?_
  refine z_iconst (v := 0) dX1_begin_36 rfl ?_
  refine z_puti (by decide) dX1_begin_37 (zfwN.w fwX1_443_0) rfl ⟨rfl, rfl⟩ ?_
  refine z_aload_n dX1_begin_40 rfl rfl ?_
  refine z_iconst (v := 0) dX1_begin_41 rfl ?_
  refine z_puti (by decide) dX1_begin_42 (zfwN.w fwX1_319_0) rfl ⟨rfl, rfl⟩ ?_
  refine z_aload_n dX1_begin_45 rfl rfl ?_
  refine z_iconst (v := 0) dX1_begin_46 rfl ?_
  refine z_puti (by decide) dX1_begin_47 (zfwN.w fwX1_325_0) rfl ⟨rfl, rfl⟩ ?_
  refine z_aload_n dX1_begin_50 rfl rfl ?_
  refine z_iconst (v := 0) dX1_begin_51 rfl ?_
  refine z_puti (by decide) dX1_begin_52 (zfwN.w fwX1_328_0) rfl ⟨rfl, rfl⟩ ?_
  refine z_aload_n dX1_begin_55 rfl rfl ?_
  refine z_iconst (v := 1) dX1_begin_56 rfl ?_
  refine z_puti (by decide) dX1_begin_57 (zfwN.w fwX1_277_0) rfl ⟨rfl, rfl⟩ ?_
  refine z_aload_n dX1_begin_60 rfl rfl ?_
  refine z_iconst (v := 0) dX1_begin_61 rfl ?_
  refine z_iconst (v := -1) dX1_begin_62 rfl ?_
  refine z_iconst (v := 0) dX1_begin_63 rfl ?_
  refine z_iconst (v := 0) dX1_begin_64 rfl ?_
  refine z_iconst (v := -1) dX1_begin_65 rfl ?_
  refine Z.pick [] rfl ?_
  exact z_callV (as := [vi (0 : Int32), vi (-1 : Int32), vi (0 : Int32), vi (0 : Int32), vi (-1 : Int32)]) (st := []) dX1_begin_66 vsX1_446_0 (Nat.le_refl _) (Nat.le_of_ble_eq_true rfl) (Nat.le_of_ble_eq_true rfl) rfl k
theorem sX1_begin_69 {E : zE} {d : Nat} {Q : zO → zM → Prop} (M : zM)  (hw : cw M) (k : Q (.inl none) M) : Z E YX1_begin (d + 1) M [] 69 [] Q := by
  exact z_vret dX1_begin_69 rfl k
/-! ScriptTypes.firstObjects()V -/
theorem bX1_firstObjects_0 : zdec cX1_firstObjects 0 [(0, .aload_n 0, 1), (1, .iconst 0, 1), (2, .putfield 322, 3), (5, .aload_n 0, 1), (6, .iconst 0, 1), (7, .putfield 352, 3), (10, .aload_n 0, 1), (11, .iconst (-1), 1), (12, .putfield 349, 3), (15, .aload_n 0, 1), (16, .iconst 0, 1), (17, .putfield 355, 3), (20, .iconst 0, 1), (21, .istore_n 1, 1), (22, .iload_n 1, 1), (23, .bipush 23, 2)] = true := by decide +kernel
theorem dX1_firstObjects_0 : decode cX1_firstObjects 0 = .ok (.aload_n 0, 1) := zdec_at bX1_firstObjects_0 0 rfl
theorem dX1_firstObjects_1 : decode cX1_firstObjects 1 = .ok (.iconst 0, 1) := zdec_at bX1_firstObjects_0 1 rfl
theorem dX1_firstObjects_2 : decode cX1_firstObjects 2 = .ok (.putfield 322, 3) := zdec_at bX1_firstObjects_0 2 rfl
theorem dX1_firstObjects_5 : decode cX1_firstObjects 5 = .ok (.aload_n 0, 1) := zdec_at bX1_firstObjects_0 3 rfl
theorem dX1_firstObjects_6 : decode cX1_firstObjects 6 = .ok (.iconst 0, 1) := zdec_at bX1_firstObjects_0 4 rfl
theorem dX1_firstObjects_7 : decode cX1_firstObjects 7 = .ok (.putfield 352, 3) := zdec_at bX1_firstObjects_0 5 rfl
theorem dX1_firstObjects_10 : decode cX1_firstObjects 10 = .ok (.aload_n 0, 1) := zdec_at bX1_firstObjects_0 6 rfl
theorem dX1_firstObjects_11 : decode cX1_firstObjects 11 = .ok (.iconst (-1), 1) := zdec_at bX1_firstObjects_0 7 rfl
theorem dX1_firstObjects_12 : decode cX1_firstObjects 12 = .ok (.putfield 349, 3) := zdec_at bX1_firstObjects_0 8 rfl
theorem dX1_firstObjects_15 : decode cX1_firstObjects 15 = .ok (.aload_n 0, 1) := zdec_at bX1_firstObjects_0 9 rfl
theorem dX1_firstObjects_16 : decode cX1_firstObjects 16 = .ok (.iconst 0, 1) := zdec_at bX1_firstObjects_0 10 rfl
theorem dX1_firstObjects_17 : decode cX1_firstObjects 17 = .ok (.putfield 355, 3) := zdec_at bX1_firstObjects_0 11 rfl
theorem dX1_firstObjects_20 : decode cX1_firstObjects 20 = .ok (.iconst 0, 1) := zdec_at bX1_firstObjects_0 12 rfl
theorem dX1_firstObjects_21 : decode cX1_firstObjects 21 = .ok (.istore_n 1, 1) := zdec_at bX1_firstObjects_0 13 rfl
theorem dX1_firstObjects_22 : decode cX1_firstObjects 22 = .ok (.iload_n 1, 1) := zdec_at bX1_firstObjects_0 14 rfl
theorem dX1_firstObjects_23 : decode cX1_firstObjects 23 = .ok (.bipush 23, 2) := zdec_at bX1_firstObjects_0 15 rfl
theorem bX1_firstObjects_25 : zdec cX1_firstObjects 25 [(25, .if_icmp .ge 55, 3), (28, .aload_n 0, 1), (29, .iconst 0, 1), (30, .iload_n 1, 1), (31, .iload_n 1, 1), (32, .iconst 1, 1), (33, .if_icmp .ne 7, 3), (36, .iconst (-1), 1), (37, .goto 32, 3), (40, .iload_n 1, 1), (41, .iconst 5, 1), (42, .if_icmp .ge 7, 3), (45, .iconst 1, 1), (46, .goto 23, 3), (49, .iload_n 1, 1), (50, .iconst 5, 1)] = true := by decide +kernel
theorem dX1_firstObjects_25 : decode cX1_firstObjects 25 = .ok (.if_icmp .ge 55, 3) := zdec_at bX1_firstObjects_25 0 rfl
theorem dX1_firstObjects_28 : decode cX1_firstObjects 28 = .ok (.aload_n 0, 1) := zdec_at bX1_firstObjects_25 1 rfl
theorem dX1_firstObjects_29 : decode cX1_firstObjects 29 = .ok (.iconst 0, 1) := zdec_at bX1_firstObjects_25 2 rfl
theorem dX1_firstObjects_30 : decode cX1_firstObjects 30 = .ok (.iload_n 1, 1) := zdec_at bX1_firstObjects_25 3 rfl
theorem dX1_firstObjects_31 : decode cX1_firstObjects 31 = .ok (.iload_n 1, 1) := zdec_at bX1_firstObjects_25 4 rfl
theorem dX1_firstObjects_32 : decode cX1_firstObjects 32 = .ok (.iconst 1, 1) := zdec_at bX1_firstObjects_25 5 rfl
theorem dX1_firstObjects_33 : decode cX1_firstObjects 33 = .ok (.if_icmp .ne 7, 3) := zdec_at bX1_firstObjects_25 6 rfl
theorem dX1_firstObjects_36 : decode cX1_firstObjects 36 = .ok (.iconst (-1), 1) := zdec_at bX1_firstObjects_25 7 rfl
theorem dX1_firstObjects_37 : decode cX1_firstObjects 37 = .ok (.goto 32, 3) := zdec_at bX1_firstObjects_25 8 rfl
theorem dX1_firstObjects_40 : decode cX1_firstObjects 40 = .ok (.iload_n 1, 1) := zdec_at bX1_firstObjects_25 9 rfl
theorem dX1_firstObjects_41 : decode cX1_firstObjects 41 = .ok (.iconst 5, 1) := zdec_at bX1_firstObjects_25 10 rfl
theorem dX1_firstObjects_42 : decode cX1_firstObjects 42 = .ok (.if_icmp .ge 7, 3) := zdec_at bX1_firstObjects_25 11 rfl
theorem dX1_firstObjects_45 : decode cX1_firstObjects 45 = .ok (.iconst 1, 1) := zdec_at bX1_firstObjects_25 12 rfl
theorem dX1_firstObjects_46 : decode cX1_firstObjects 46 = .ok (.goto 23, 3) := zdec_at bX1_firstObjects_25 13 rfl
theorem dX1_firstObjects_49 : decode cX1_firstObjects 49 = .ok (.iload_n 1, 1) := zdec_at bX1_firstObjects_25 14 rfl
theorem dX1_firstObjects_50 : decode cX1_firstObjects 50 = .ok (.iconst 5, 1) := zdec_at bX1_firstObjects_25 15 rfl
theorem bX1_firstObjects_51 : zdec cX1_firstObjects 51 [(51, .if_icmp .ne 7, 3), (54, .iconst 1, 1), (55, .goto 14, 3), (58, .iload_n 1, 1), (59, .bipush 9, 2), (61, .if_icmp .ge 7, 3), (64, .iconst 5, 1), (65, .goto 4, 3), (68, .iconst 2, 1), (69, .iconst (-1), 1), (70, .invokevirtual 362, 3), (73, .pop, 1), (74, .iinc 1 1, 3), (77, .goto (-55), 3), (80, .bipush 9, 2), (82, .istore_n 1, 1)] = true := by decide +kernel
theorem dX1_firstObjects_51 : decode cX1_firstObjects 51 = .ok (.if_icmp .ne 7, 3) := zdec_at bX1_firstObjects_51 0 rfl
theorem dX1_firstObjects_54 : decode cX1_firstObjects 54 = .ok (.iconst 1, 1) := zdec_at bX1_firstObjects_51 1 rfl
theorem dX1_firstObjects_55 : decode cX1_firstObjects 55 = .ok (.goto 14, 3) := zdec_at bX1_firstObjects_51 2 rfl
theorem dX1_firstObjects_58 : decode cX1_firstObjects 58 = .ok (.iload_n 1, 1) := zdec_at bX1_firstObjects_51 3 rfl
theorem dX1_firstObjects_59 : decode cX1_firstObjects 59 = .ok (.bipush 9, 2) := zdec_at bX1_firstObjects_51 4 rfl
theorem dX1_firstObjects_61 : decode cX1_firstObjects 61 = .ok (.if_icmp .ge 7, 3) := zdec_at bX1_firstObjects_51 5 rfl
theorem dX1_firstObjects_64 : decode cX1_firstObjects 64 = .ok (.iconst 5, 1) := zdec_at bX1_firstObjects_51 6 rfl
theorem dX1_firstObjects_65 : decode cX1_firstObjects 65 = .ok (.goto 4, 3) := zdec_at bX1_firstObjects_51 7 rfl
theorem dX1_firstObjects_68 : decode cX1_firstObjects 68 = .ok (.iconst 2, 1) := zdec_at bX1_firstObjects_51 8 rfl
theorem dX1_firstObjects_69 : decode cX1_firstObjects 69 = .ok (.iconst (-1), 1) := zdec_at bX1_firstObjects_51 9 rfl
theorem dX1_firstObjects_70 : decode cX1_firstObjects 70 = .ok (.invokevirtual 362, 3) := zdec_at bX1_firstObjects_51 10 rfl
theorem dX1_firstObjects_73 : decode cX1_firstObjects 73 = .ok (.pop, 1) := zdec_at bX1_firstObjects_51 11 rfl
theorem dX1_firstObjects_74 : decode cX1_firstObjects 74 = .ok (.iinc 1 1, 3) := zdec_at bX1_firstObjects_51 12 rfl
theorem dX1_firstObjects_77 : decode cX1_firstObjects 77 = .ok (.goto (-55), 3) := zdec_at bX1_firstObjects_51 13 rfl
theorem dX1_firstObjects_80 : decode cX1_firstObjects 80 = .ok (.bipush 9, 2) := zdec_at bX1_firstObjects_51 14 rfl
theorem dX1_firstObjects_82 : decode cX1_firstObjects 82 = .ok (.istore_n 1, 1) := zdec_at bX1_firstObjects_51 15 rfl
theorem bX1_firstObjects_83 : zdec cX1_firstObjects 83 [(83, .iload_n 1, 1), (84, .bipush 18, 2), (86, .if_icmp .ge 20, 3), (89, .aload_n 0, 1), (90, .iconst 0, 1), (91, .iload_n 1, 1), (92, .iconst 4, 1), (93, .isub, 1), (94, .bipush 7, 2), (96, .iload_n 1, 1), (97, .invokevirtual 358, 3), (100, .iinc 1 1, 3), (103, .goto (-20), 3), (106, .aload_n 0, 1), (107, .iconst 1, 1), (108, .iconst 2, 1)] = true := by decide +kernel
theorem dX1_firstObjects_83 : decode cX1_firstObjects 83 = .ok (.iload_n 1, 1) := zdec_at bX1_firstObjects_83 0 rfl
theorem dX1_firstObjects_84 : decode cX1_firstObjects 84 = .ok (.bipush 18, 2) := zdec_at bX1_firstObjects_83 1 rfl
theorem dX1_firstObjects_86 : decode cX1_firstObjects 86 = .ok (.if_icmp .ge 20, 3) := zdec_at bX1_firstObjects_83 2 rfl
theorem dX1_firstObjects_89 : decode cX1_firstObjects 89 = .ok (.aload_n 0, 1) := zdec_at bX1_firstObjects_83 3 rfl
theorem dX1_firstObjects_90 : decode cX1_firstObjects 90 = .ok (.iconst 0, 1) := zdec_at bX1_firstObjects_83 4 rfl
theorem dX1_firstObjects_91 : decode cX1_firstObjects 91 = .ok (.iload_n 1, 1) := zdec_at bX1_firstObjects_83 5 rfl
theorem dX1_firstObjects_92 : decode cX1_firstObjects 92 = .ok (.iconst 4, 1) := zdec_at bX1_firstObjects_83 6 rfl
theorem dX1_firstObjects_93 : decode cX1_firstObjects 93 = .ok (.isub, 1) := zdec_at bX1_firstObjects_83 7 rfl
theorem dX1_firstObjects_94 : decode cX1_firstObjects 94 = .ok (.bipush 7, 2) := zdec_at bX1_firstObjects_83 8 rfl
theorem dX1_firstObjects_96 : decode cX1_firstObjects 96 = .ok (.iload_n 1, 1) := zdec_at bX1_firstObjects_83 9 rfl
theorem dX1_firstObjects_97 : decode cX1_firstObjects 97 = .ok (.invokevirtual 358, 3) := zdec_at bX1_firstObjects_83 10 rfl
theorem dX1_firstObjects_100 : decode cX1_firstObjects 100 = .ok (.iinc 1 1, 3) := zdec_at bX1_firstObjects_83 11 rfl
theorem dX1_firstObjects_103 : decode cX1_firstObjects 103 = .ok (.goto (-20), 3) := zdec_at bX1_firstObjects_83 12 rfl
theorem dX1_firstObjects_106 : decode cX1_firstObjects 106 = .ok (.aload_n 0, 1) := zdec_at bX1_firstObjects_83 13 rfl
theorem dX1_firstObjects_107 : decode cX1_firstObjects 107 = .ok (.iconst 1, 1) := zdec_at bX1_firstObjects_83 14 rfl
theorem dX1_firstObjects_108 : decode cX1_firstObjects 108 = .ok (.iconst 2, 1) := zdec_at bX1_firstObjects_83 15 rfl
theorem bX1_firstObjects_109 : zdec cX1_firstObjects 109 [(109, .bipush 7, 2), (111, .bipush 10, 2), (113, .invokevirtual 358, 3), (116, .aload_n 0, 1), (117, .iconst 1, 1), (118, .bipush 17, 2), (120, .bipush 7, 2), (122, .bipush 21, 2), (124, .invokevirtual 358, 3), (127, .aload_n 0, 1), (128, .iconst 2, 1), (129, .bipush 16, 2), (131, .bipush 7, 2), (133, .bipush 20, 2), (135, .invokevirtual 358, 3), (138, .aload_n 0, 1)] = true := by decide +kernel
theorem dX1_firstObjects_109 : decode cX1_firstObjects 109 = .ok (.bipush 7, 2) := zdec_at bX1_firstObjects_109 0 rfl
theorem dX1_firstObjects_111 : decode cX1_firstObjects 111 = .ok (.bipush 10, 2) := zdec_at bX1_firstObjects_109 1 rfl
theorem dX1_firstObjects_113 : decode cX1_firstObjects 113 = .ok (.invokevirtual 358, 3) := zdec_at bX1_firstObjects_109 2 rfl
theorem dX1_firstObjects_116 : decode cX1_firstObjects 116 = .ok (.aload_n 0, 1) := zdec_at bX1_firstObjects_109 3 rfl
theorem dX1_firstObjects_117 : decode cX1_firstObjects 117 = .ok (.iconst 1, 1) := zdec_at bX1_firstObjects_109 4 rfl
theorem dX1_firstObjects_118 : decode cX1_firstObjects 118 = .ok (.bipush 17, 2) := zdec_at bX1_firstObjects_109 5 rfl
theorem dX1_firstObjects_120 : decode cX1_firstObjects 120 = .ok (.bipush 7, 2) := zdec_at bX1_firstObjects_109 6 rfl
theorem dX1_firstObjects_122 : decode cX1_firstObjects 122 = .ok (.bipush 21, 2) := zdec_at bX1_firstObjects_109 7 rfl
theorem dX1_firstObjects_124 : decode cX1_firstObjects 124 = .ok (.invokevirtual 358, 3) := zdec_at bX1_firstObjects_109 8 rfl
theorem dX1_firstObjects_127 : decode cX1_firstObjects 127 = .ok (.aload_n 0, 1) := zdec_at bX1_firstObjects_109 9 rfl
theorem dX1_firstObjects_128 : decode cX1_firstObjects 128 = .ok (.iconst 2, 1) := zdec_at bX1_firstObjects_109 10 rfl
theorem dX1_firstObjects_129 : decode cX1_firstObjects 129 = .ok (.bipush 16, 2) := zdec_at bX1_firstObjects_109 11 rfl
theorem dX1_firstObjects_131 : decode cX1_firstObjects 131 = .ok (.bipush 7, 2) := zdec_at bX1_firstObjects_109 12 rfl
theorem dX1_firstObjects_133 : decode cX1_firstObjects 133 = .ok (.bipush 20, 2) := zdec_at bX1_firstObjects_109 13 rfl
theorem dX1_firstObjects_135 : decode cX1_firstObjects 135 = .ok (.invokevirtual 358, 3) := zdec_at bX1_firstObjects_109 14 rfl
theorem dX1_firstObjects_138 : decode cX1_firstObjects 138 = .ok (.aload_n 0, 1) := zdec_at bX1_firstObjects_109 15 rfl
theorem bX1_firstObjects_139 : zdec cX1_firstObjects 139 [(139, .iconst 3, 1), (140, .iconst 2, 1), (141, .bipush 7, 2), (143, .bipush 11, 2), (145, .invokevirtual 358, 3), (148, .aload_n 0, 1), (149, .iconst 3, 1), (150, .bipush 14, 2), (152, .bipush 7, 2), (154, .bipush 18, 2), (156, .invokevirtual 358, 3), (159, .aload_n 0, 1), (160, .iconst 3, 1), (161, .bipush 15, 2), (163, .bipush 7, 2), (165, .bipush 19, 2)] = true := by decide +kernel
theorem dX1_firstObjects_139 : decode cX1_firstObjects 139 = .ok (.iconst 3, 1) := zdec_at bX1_firstObjects_139 0 rfl
theorem dX1_firstObjects_140 : decode cX1_firstObjects 140 = .ok (.iconst 2, 1) := zdec_at bX1_firstObjects_139 1 rfl
theorem dX1_firstObjects_141 : decode cX1_firstObjects 141 = .ok (.bipush 7, 2) := zdec_at bX1_firstObjects_139 2 rfl
theorem dX1_firstObjects_143 : decode cX1_firstObjects 143 = .ok (.bipush 11, 2) := zdec_at bX1_firstObjects_139 3 rfl
theorem dX1_firstObjects_145 : decode cX1_firstObjects 145 = .ok (.invokevirtual 358, 3) := zdec_at bX1_firstObjects_139 4 rfl
theorem dX1_firstObjects_148 : decode cX1_firstObjects 148 = .ok (.aload_n 0, 1) := zdec_at bX1_firstObjects_139 5 rfl
theorem dX1_firstObjects_149 : decode cX1_firstObjects 149 = .ok (.iconst 3, 1) := zdec_at bX1_firstObjects_139 6 rfl
theorem dX1_firstObjects_150 : decode cX1_firstObjects 150 = .ok (.bipush 14, 2) := zdec_at bX1_firstObjects_139 7 rfl
theorem dX1_firstObjects_152 : decode cX1_firstObjects 152 = .ok (.bipush 7, 2) := zdec_at bX1_firstObjects_139 8 rfl
theorem dX1_firstObjects_154 : decode cX1_firstObjects 154 = .ok (.bipush 18, 2) := zdec_at bX1_firstObjects_139 9 rfl
theorem dX1_firstObjects_156 : decode cX1_firstObjects 156 = .ok (.invokevirtual 358, 3) := zdec_at bX1_firstObjects_139 10 rfl
theorem dX1_firstObjects_159 : decode cX1_firstObjects 159 = .ok (.aload_n 0, 1) := zdec_at bX1_firstObjects_139 11 rfl
theorem dX1_firstObjects_160 : decode cX1_firstObjects 160 = .ok (.iconst 3, 1) := zdec_at bX1_firstObjects_139 12 rfl
theorem dX1_firstObjects_161 : decode cX1_firstObjects 161 = .ok (.bipush 15, 2) := zdec_at bX1_firstObjects_139 13 rfl
theorem dX1_firstObjects_163 : decode cX1_firstObjects 163 = .ok (.bipush 7, 2) := zdec_at bX1_firstObjects_139 14 rfl
theorem dX1_firstObjects_165 : decode cX1_firstObjects 165 = .ok (.bipush 19, 2) := zdec_at bX1_firstObjects_139 15 rfl
theorem bX1_firstObjects_167 : zdec cX1_firstObjects 167 [(167, .invokevirtual 358, 3), (170, .aload_n 0, 1), (171, .iconst 4, 1), (172, .iconst 2, 1), (173, .bipush 7, 2), (175, .bipush 12, 2), (177, .invokevirtual 358, 3), (180, .aload_n 0, 1), (181, .iconst 4, 1), (182, .bipush 18, 2), (184, .bipush 7, 2), (186, .bipush 22, 2), (188, .invokevirtual 358, 3), (191, .iconst 5, 1), (192, .istore_n 1, 1), (193, .iload_n 1, 1)] = true := by decide +kernel
theorem dX1_firstObjects_167 : decode cX1_firstObjects 167 = .ok (.invokevirtual 358, 3) := zdec_at bX1_firstObjects_167 0 rfl
theorem dX1_firstObjects_170 : decode cX1_firstObjects 170 = .ok (.aload_n 0, 1) := zdec_at bX1_firstObjects_167 1 rfl
theorem dX1_firstObjects_171 : decode cX1_firstObjects 171 = .ok (.iconst 4, 1) := zdec_at bX1_firstObjects_167 2 rfl
theorem dX1_firstObjects_172 : decode cX1_firstObjects 172 = .ok (.iconst 2, 1) := zdec_at bX1_firstObjects_167 3 rfl
theorem dX1_firstObjects_173 : decode cX1_firstObjects 173 = .ok (.bipush 7, 2) := zdec_at bX1_firstObjects_167 4 rfl
theorem dX1_firstObjects_175 : decode cX1_firstObjects 175 = .ok (.bipush 12, 2) := zdec_at bX1_firstObjects_167 5 rfl
theorem dX1_firstObjects_177 : decode cX1_firstObjects 177 = .ok (.invokevirtual 358, 3) := zdec_at bX1_firstObjects_167 6 rfl
theorem dX1_firstObjects_180 : decode cX1_firstObjects 180 = .ok (.aload_n 0, 1) := zdec_at bX1_firstObjects_167 7 rfl
theorem dX1_firstObjects_181 : decode cX1_firstObjects 181 = .ok (.iconst 4, 1) := zdec_at bX1_firstObjects_167 8 rfl
theorem dX1_firstObjects_182 : decode cX1_firstObjects 182 = .ok (.bipush 18, 2) := zdec_at bX1_firstObjects_167 9 rfl
theorem dX1_firstObjects_184 : decode cX1_firstObjects 184 = .ok (.bipush 7, 2) := zdec_at bX1_firstObjects_167 10 rfl
theorem dX1_firstObjects_186 : decode cX1_firstObjects 186 = .ok (.bipush 22, 2) := zdec_at bX1_firstObjects_167 11 rfl
theorem dX1_firstObjects_188 : decode cX1_firstObjects 188 = .ok (.invokevirtual 358, 3) := zdec_at bX1_firstObjects_167 12 rfl
theorem dX1_firstObjects_191 : decode cX1_firstObjects 191 = .ok (.iconst 5, 1) := zdec_at bX1_firstObjects_167 13 rfl
theorem dX1_firstObjects_192 : decode cX1_firstObjects 192 = .ok (.istore_n 1, 1) := zdec_at bX1_firstObjects_167 14 rfl
theorem dX1_firstObjects_193 : decode cX1_firstObjects 193 = .ok (.iload_n 1, 1) := zdec_at bX1_firstObjects_167 15 rfl
theorem bX1_firstObjects_194 : zdec cX1_firstObjects 194 [(194, .bipush 9, 2), (196, .if_icmp .ge 32, 3), (199, .aload_n 0, 1), (200, .iload_n 1, 1), (201, .iconst 2, 1), (202, .bipush 7, 2), (204, .iload_n 1, 1), (205, .bipush 9, 2), (207, .iadd, 1), (208, .invokevirtual 358, 3), (211, .aload_n 0, 1), (212, .iload_n 1, 1), (213, .iconst 4, 1), (214, .bipush 6, 2), (216, .iload_n 1, 1), (217, .iconst 5, 1)] = true := by decide +kernel
theorem dX1_firstObjects_194 : decode cX1_firstObjects 194 = .ok (.bipush 9, 2) := zdec_at bX1_firstObjects_194 0 rfl
theorem dX1_firstObjects_196 : decode cX1_firstObjects 196 = .ok (.if_icmp .ge 32, 3) := zdec_at bX1_firstObjects_194 1 rfl
theorem dX1_firstObjects_199 : decode cX1_firstObjects 199 = .ok (.aload_n 0, 1) := zdec_at bX1_firstObjects_194 2 rfl
theorem dX1_firstObjects_200 : decode cX1_firstObjects 200 = .ok (.iload_n 1, 1) := zdec_at bX1_firstObjects_194 3 rfl
theorem dX1_firstObjects_201 : decode cX1_firstObjects 201 = .ok (.iconst 2, 1) := zdec_at bX1_firstObjects_194 4 rfl
theorem dX1_firstObjects_202 : decode cX1_firstObjects 202 = .ok (.bipush 7, 2) := zdec_at bX1_firstObjects_194 5 rfl
theorem dX1_firstObjects_204 : decode cX1_firstObjects 204 = .ok (.iload_n 1, 1) := zdec_at bX1_firstObjects_194 6 rfl
theorem dX1_firstObjects_205 : decode cX1_firstObjects 205 = .ok (.bipush 9, 2) := zdec_at bX1_firstObjects_194 7 rfl
theorem dX1_firstObjects_207 : decode cX1_firstObjects 207 = .ok (.iadd, 1) := zdec_at bX1_firstObjects_194 8 rfl
theorem dX1_firstObjects_208 : decode cX1_firstObjects 208 = .ok (.invokevirtual 358, 3) := zdec_at bX1_firstObjects_194 9 rfl
theorem dX1_firstObjects_211 : decode cX1_firstObjects 211 = .ok (.aload_n 0, 1) := zdec_at bX1_firstObjects_194 10 rfl
theorem dX1_firstObjects_212 : decode cX1_firstObjects 212 = .ok (.iload_n 1, 1) := zdec_at bX1_firstObjects_194 11 rfl
theorem dX1_firstObjects_213 : decode cX1_firstObjects 213 = .ok (.iconst 4, 1) := zdec_at bX1_firstObjects_194 12 rfl
theorem dX1_firstObjects_214 : decode cX1_firstObjects 214 = .ok (.bipush 6, 2) := zdec_at bX1_firstObjects_194 13 rfl
theorem dX1_firstObjects_216 : decode cX1_firstObjects 216 = .ok (.iload_n 1, 1) := zdec_at bX1_firstObjects_194 14 rfl
theorem dX1_firstObjects_217 : decode cX1_firstObjects 217 = .ok (.iconst 5, 1) := zdec_at bX1_firstObjects_194 15 rfl
theorem bX1_firstObjects_218 : zdec cX1_firstObjects 218 [(218, .iadd, 1), (219, .invokevirtual 358, 3), (222, .iinc 1 1, 3), (225, .goto (-32), 3), (228, .bipush 9, 2), (230, .istore_n 1, 1), (231, .iload_n 1, 1), (232, .bipush 23, 2), (234, .if_icmp .ge 64, 3), (237, .aload_n 0, 1), (238, .iload_n 1, 1), (239, .iload_n 1, 1), (240, .bipush 10, 2), (242, .if_icmp .ne 7, 3), (245, .iconst 1, 1), (246, .goto 43, 3)] = true := by decide +kernel
theorem dX1_firstObjects_218 : decode cX1_firstObjects 218 = .ok (.iadd, 1) := zdec_at bX1_firstObjects_218 0 rfl
theorem dX1_firstObjects_219 : decode cX1_firstObjects 219 = .ok (.invokevirtual 358, 3) := zdec_at bX1_firstObjects_218 1 rfl
theorem dX1_firstObjects_222 : decode cX1_firstObjects 222 = .ok (.iinc 1 1, 3) := zdec_at bX1_firstObjects_218 2 rfl
theorem dX1_firstObjects_225 : decode cX1_firstObjects 225 = .ok (.goto (-32), 3) := zdec_at bX1_firstObjects_218 3 rfl
theorem dX1_firstObjects_228 : decode cX1_firstObjects 228 = .ok (.bipush 9, 2) := zdec_at bX1_firstObjects_218 4 rfl
theorem dX1_firstObjects_230 : decode cX1_firstObjects 230 = .ok (.istore_n 1, 1) := zdec_at bX1_firstObjects_218 5 rfl
theorem dX1_firstObjects_231 : decode cX1_firstObjects 231 = .ok (.iload_n 1, 1) := zdec_at bX1_firstObjects_218 6 rfl
theorem dX1_firstObjects_232 : decode cX1_firstObjects 232 = .ok (.bipush 23, 2) := zdec_at bX1_firstObjects_218 7 rfl
theorem dX1_firstObjects_234 : decode cX1_firstObjects 234 = .ok (.if_icmp .ge 64, 3) := zdec_at bX1_firstObjects_218 8 rfl
theorem dX1_firstObjects_237 : decode cX1_firstObjects 237 = .ok (.aload_n 0, 1) := zdec_at bX1_firstObjects_218 9 rfl
theorem dX1_firstObjects_238 : decode cX1_firstObjects 238 = .ok (.iload_n 1, 1) := zdec_at bX1_firstObjects_218 10 rfl
theorem dX1_firstObjects_239 : decode cX1_firstObjects 239 = .ok (.iload_n 1, 1) := zdec_at bX1_firstObjects_218 11 rfl
theorem dX1_firstObjects_240 : decode cX1_firstObjects 240 = .ok (.bipush 10, 2) := zdec_at bX1_firstObjects_218 12 rfl
theorem dX1_firstObjects_242 : decode cX1_firstObjects 242 = .ok (.if_icmp .ne 7, 3) := zdec_at bX1_firstObjects_218 13 rfl
theorem dX1_firstObjects_245 : decode cX1_firstObjects 245 = .ok (.iconst 1, 1) := zdec_at bX1_firstObjects_218 14 rfl
theorem dX1_firstObjects_246 : decode cX1_firstObjects 246 = .ok (.goto 43, 3) := zdec_at bX1_firstObjects_218 15 rfl
theorem bX1_firstObjects_249 : zdec cX1_firstObjects 249 [(249, .iload_n 1, 1), (250, .bipush 11, 2), (252, .if_icmp .ne 7, 3), (255, .iconst 3, 1), (256, .goto 33, 3), (259, .iload_n 1, 1), (260, .bipush 12, 2), (262, .if_icmp .ne 7, 3), (265, .iconst 4, 1), (266, .goto 23, 3), (269, .iload_n 1, 1), (270, .bipush 13, 2), (272, .if_icmp .le 16, 3), (275, .iload_n 1, 1), (276, .bipush 18, 2), (278, .if_icmp .ge 10, 3)] = true := by decide +kernel
theorem dX1_firstObjects_249 : decode cX1_firstObjects 249 = .ok (.iload_n 1, 1) := zdec_at bX1_firstObjects_249 0 rfl
theorem dX1_firstObjects_250 : decode cX1_firstObjects 250 = .ok (.bipush 11, 2) := zdec_at bX1_firstObjects_249 1 rfl
theorem dX1_firstObjects_252 : decode cX1_firstObjects 252 = .ok (.if_icmp .ne 7, 3) := zdec_at bX1_firstObjects_249 2 rfl
theorem dX1_firstObjects_255 : decode cX1_firstObjects 255 = .ok (.iconst 3, 1) := zdec_at bX1_firstObjects_249 3 rfl
theorem dX1_firstObjects_256 : decode cX1_firstObjects 256 = .ok (.goto 33, 3) := zdec_at bX1_firstObjects_249 4 rfl
theorem dX1_firstObjects_259 : decode cX1_firstObjects 259 = .ok (.iload_n 1, 1) := zdec_at bX1_firstObjects_249 5 rfl
theorem dX1_firstObjects_260 : decode cX1_firstObjects 260 = .ok (.bipush 12, 2) := zdec_at bX1_firstObjects_249 6 rfl
theorem dX1_firstObjects_262 : decode cX1_firstObjects 262 = .ok (.if_icmp .ne 7, 3) := zdec_at bX1_firstObjects_249 7 rfl
theorem dX1_firstObjects_265 : decode cX1_firstObjects 265 = .ok (.iconst 4, 1) := zdec_at bX1_firstObjects_249 8 rfl
theorem dX1_firstObjects_266 : decode cX1_firstObjects 266 = .ok (.goto 23, 3) := zdec_at bX1_firstObjects_249 9 rfl
theorem dX1_firstObjects_269 : decode cX1_firstObjects 269 = .ok (.iload_n 1, 1) := zdec_at bX1_firstObjects_249 10 rfl
theorem dX1_firstObjects_270 : decode cX1_firstObjects 270 = .ok (.bipush 13, 2) := zdec_at bX1_firstObjects_249 11 rfl
theorem dX1_firstObjects_272 : decode cX1_firstObjects 272 = .ok (.if_icmp .le 16, 3) := zdec_at bX1_firstObjects_249 12 rfl
theorem dX1_firstObjects_275 : decode cX1_firstObjects 275 = .ok (.iload_n 1, 1) := zdec_at bX1_firstObjects_249 13 rfl
theorem dX1_firstObjects_276 : decode cX1_firstObjects 276 = .ok (.bipush 18, 2) := zdec_at bX1_firstObjects_249 14 rfl
theorem dX1_firstObjects_278 : decode cX1_firstObjects 278 = .ok (.if_icmp .ge 10, 3) := zdec_at bX1_firstObjects_249 15 rfl
theorem bX1_firstObjects_281 : zdec cX1_firstObjects 281 [(281, .iload_n 1, 1), (282, .bipush 9, 2), (284, .isub, 1), (285, .goto 4, 3), (288, .iconst (-1), 1), (289, .invokevirtual 366, 3), (292, .iinc 1 1, 3), (295, .goto (-64), 3), (298, .return_, 1)] = true := by decide +kernel
theorem dX1_firstObjects_281 : decode cX1_firstObjects 281 = .ok (.iload_n 1, 1) := zdec_at bX1_firstObjects_281 0 rfl
theorem dX1_firstObjects_282 : decode cX1_firstObjects 282 = .ok (.bipush 9, 2) := zdec_at bX1_firstObjects_281 1 rfl
theorem dX1_firstObjects_284 : decode cX1_firstObjects 284 = .ok (.isub, 1) := zdec_at bX1_firstObjects_281 2 rfl
theorem dX1_firstObjects_285 : decode cX1_firstObjects 285 = .ok (.goto 4, 3) := zdec_at bX1_firstObjects_281 3 rfl
theorem dX1_firstObjects_288 : decode cX1_firstObjects 288 = .ok (.iconst (-1), 1) := zdec_at bX1_firstObjects_281 4 rfl
theorem dX1_firstObjects_289 : decode cX1_firstObjects 289 = .ok (.invokevirtual 366, 3) := zdec_at bX1_firstObjects_281 5 rfl
theorem dX1_firstObjects_292 : decode cX1_firstObjects 292 = .ok (.iinc 1 1, 3) := zdec_at bX1_firstObjects_281 6 rfl
theorem dX1_firstObjects_295 : decode cX1_firstObjects 295 = .ok (.goto (-64), 3) := zdec_at bX1_firstObjects_281 7 rfl
theorem dX1_firstObjects_298 : decode cX1_firstObjects 298 = .ok (.return_, 1) := zdec_at bX1_firstObjects_281 8 rfl
theorem sX1_firstObjects_0 {E : zE} {d : Nat} {Q : zO → zM → Prop} (M : zM)  (hw : cw M) (k : Z E YX1_firstObjects (d + 1) (si (si (si (si M 16 26 (0 : Int32)) 16 27 (0 : Int32)) 16 28 (-1 : Int32)) 16 29 (0 : Int32)) [(0, vr (some (16, 0, 0))), (1, vi (0 : Int32))] 22 [] Q) : Z E YX1_firstObjects (d + 1) M [(0, vr (some (16, 0, 0)))] 0 [] Q := by
  refine z_aload_n dX1_firstObjects_0 rfl rfl ?_
  refine z_iconst (v := 0) dX1_firstObjects_1 rfl ?_
  refine z_puti (by decide) dX1_firstObjects_2 (zfwN.w fwX1_322_0) rfl ⟨rfl, rfl⟩ ?_
  refine z_aload_n dX1_firstObjects_5 rfl rfl ?_
  refine z_iconst (v := 0) dX1_firstObjects_6 rfl ?_
  refine z_puti (by decide) dX1_firstObjects_7 (zfwN.w fwX1_352_0) rfl ⟨rfl, rfl⟩ ?_
  refine z_aload_n dX1_firstObjects_10 rfl rfl ?_
  refine z_iconst (v := -1) dX1_firstObjects_11 rfl ?_
  refine z_puti (by decide) dX1_firstObjects_12 (zfwN.w fwX1_349_0) rfl ⟨rfl, rfl⟩ ?_
  refine z_aload_n dX1_firstObjects_15 rfl rfl ?_
  refine z_iconst (v := 0) dX1_firstObjects_16 rfl ?_
  refine z_puti (by decide) dX1_firstObjects_17 (zfwN.w fwX1_355_0) rfl ⟨rfl, rfl⟩ ?_
  refine z_iconst (v := 0) dX1_firstObjects_20 rfl ?_
  refine z_ist_n dX1_firstObjects_21 rfl (by decide) (lv' := [(0, vr (some (16, 0, 0))), (1, vi (0 : Int32))]) rfl ?_
  exact k
theorem sX1_firstObjects_22 {E : zE} {d : Nat} {Q : zO → zM → Prop} (M : zM) (l1 : Int32) (hw : cw M) (k : if (23 : Int32) ≤ l1 then (Z E YX1_firstObjects (d + 1) M [(0, vr (some (16, 0, 0))), (1, vi (9 : Int32))] 83 [] Q) else (if l1 = (1 : Int32) then (Z E YX1_born d M (zargs 0 [vr (some (16, 0, 0)), vi (0 : Int32), vi l1, vi (-1 : Int32), vi (-1 : Int32)]) 0 [] (zafter E YX1_firstObjects (d + 1) [(0, vr (some (16, 0, 0))), (1, vi l1)] 70 3 [] Q)) else (if (5 : Int32) ≤ l1 then (if l1 = (5 : Int32) then (Z E YX1_born d M (zargs 0 [vr (some (16, 0, 0)), vi (0 : Int32), vi l1, vi (1 : Int32), vi (-1 : Int32)]) 0 [] (zafter E YX1_firstObjects (d + 1) [(0, vr (some (16, 0, 0))), (1, vi l1)] 70 3 [] Q)) else (if (9 : Int32) ≤ l1 then (Z E YX1_born d M (zargs 0 [vr (some (16, 0, 0)), vi (0 : Int32), vi l1, vi (2 : Int32), vi (-1 : Int32)]) 0 [] (zafter E YX1_firstObjects (d + 1) [(0, vr (some (16, 0, 0))), (1, vi l1)] 70 3 [] Q)) else (Z E YX1_born d M (zargs 0 [vr (some (16, 0, 0)), vi (0 : Int32), vi l1, vi (5 : Int32), vi (-1 : Int32)]) 0 [] (zafter E YX1_firstObjects (d + 1) [(0, vr (some (16, 0, 0))), (1, vi l1)] 70 3 [] Q)))) else (Z E YX1_born d M (zargs 0 [vr (some (16, 0, 0)), vi (0 : Int32), vi l1, vi (1 : Int32), vi (-1 : Int32)]) 0 [] (zafter E YX1_firstObjects (d + 1) [(0, vr (some (16, 0, 0))), (1, vi l1)] 70 3 [] Q))))) : Z E YX1_firstObjects (d + 1) M [(0, vr (some (16, 0, 0))), (1, vi l1)] 22 [] Q := by
  refine z_iload_n dX1_firstObjects_22 rfl rfl ?_
  refine z_bipush (v := 23) dX1_firstObjects_23 rfl ?_
  refine z_icmp_ge (tgt := 80) dX1_firstObjects_25 rfl (fun h_ => ?_) (fun h_ => ?_)
  · have k := zit h_ k
    refine z_bipush (v := 9) dX1_firstObjects_80 rfl ?_
    refine z_ist_n dX1_firstObjects_82 rfl (by decide) (lv' := [(0, vr (some (16, 0, 0))), (1, vi (9 : Int32))]) rfl ?_
    exact k
  · have k := zif h_ k
    refine z_aload_n dX1_firstObjects_28 rfl rfl ?_
    refine z_iconst (v := 0) dX1_firstObjects_29 rfl ?_
    refine z_iload_n dX1_firstObjects_30 rfl rfl ?_
    refine z_iload_n dX1_firstObjects_31 rfl rfl ?_
    refine z_iconst (v := 1) dX1_firstObjects_32 rfl ?_
    refine z_icmp_ne (tgt := 40) dX1_firstObjects_33 rfl (fun h_ => ?_) (fun h_ => ?_)
    · have k := zif h_ k
      refine z_iload_n dX1_firstObjects_40 rfl rfl ?_
      refine z_iconst (v := 5) dX1_firstObjects_41 rfl ?_
      refine z_icmp_ge (tgt := 49) dX1_firstObjects_42 rfl (fun h_ => ?_) (fun h_ => ?_)
      · have k := zit h_ k
        refine z_iload_n dX1_firstObjects_49 rfl rfl ?_
        refine z_iconst (v := 5) dX1_firstObjects_50 rfl ?_
        refine z_icmp_ne (tgt := 58) dX1_firstObjects_51 rfl (fun h_ => ?_) (fun h_ => ?_)
        · have k := zif h_ k
          refine z_iload_n dX1_firstObjects_58 rfl rfl ?_
          refine z_bipush (v := 9) dX1_firstObjects_59 rfl ?_
          refine z_icmp_ge (tgt := 68) dX1_firstObjects_61 rfl (fun h_ => ?_) (fun h_ => ?_)
          · have k := zit h_ k
            refine z_iconst (v := 2) dX1_firstObjects_68 rfl ?_
            refine z_iconst (v := -1) dX1_firstObjects_69 rfl ?_
            exact z_callV (as := [vi (0 : Int32), vi l1, vi (2 : Int32), vi (-1 : Int32)]) (st := []) dX1_firstObjects_70 vsX1_362_0 (Nat.le_refl _) (Nat.le_of_ble_eq_true rfl) (Nat.le_of_ble_eq_true rfl) rfl k
          · have k := zif h_ k
            refine z_iconst (v := 5) dX1_firstObjects_64 rfl ?_
            refine z_goto (tgt := 69) dX1_firstObjects_65 rfl ?_
            refine z_iconst (v := -1) dX1_firstObjects_69 rfl ?_
            exact z_callV (as := [vi (0 : Int32), vi l1, vi (5 : Int32), vi (-1 : Int32)]) (st := []) dX1_firstObjects_70 vsX1_362_0 (Nat.le_refl _) (Nat.le_of_ble_eq_true rfl) (Nat.le_of_ble_eq_true rfl) rfl k
        · have k := zit h_ k
          refine z_iconst (v := 1) dX1_firstObjects_54 rfl ?_
          refine z_goto (tgt := 69) dX1_firstObjects_55 rfl ?_
          refine z_iconst (v := -1) dX1_firstObjects_69 rfl ?_
          exact z_callV (as := [vi (0 : Int32), vi l1, vi (1 : Int32), vi (-1 : Int32)]) (st := []) dX1_firstObjects_70 vsX1_362_0 (Nat.le_refl _) (Nat.le_of_ble_eq_true rfl) (Nat.le_of_ble_eq_true rfl) rfl k
      · have k := zif h_ k
        refine z_iconst (v := 1) dX1_firstObjects_45 rfl ?_
        refine z_goto (tgt := 69) dX1_firstObjects_46 rfl ?_
        refine z_iconst (v := -1) dX1_firstObjects_69 rfl ?_
        exact z_callV (as := [vi (0 : Int32), vi l1, vi (1 : Int32), vi (-1 : Int32)]) (st := []) dX1_firstObjects_70 vsX1_362_0 (Nat.le_refl _) (Nat.le_of_ble_eq_true rfl) (Nat.le_of_ble_eq_true rfl) rfl k
    · have k := zit h_ k
      refine z_iconst (v := -1) dX1_firstObjects_36 rfl ?_
      refine z_goto (tgt := 69) dX1_firstObjects_37 rfl ?_
      refine z_iconst (v := -1) dX1_firstObjects_69 rfl ?_
      exact z_callV (as := [vi (0 : Int32), vi l1, vi (-1 : Int32), vi (-1 : Int32)]) (st := []) dX1_firstObjects_70 vsX1_362_0 (Nat.le_refl _) (Nat.le_of_ble_eq_true rfl) (Nat.le_of_ble_eq_true rfl) rfl k
theorem sX1_firstObjects_73 {E : zE} {d : Nat} {Q : zO → zM → Prop} (M : zM) (l1 : Int32) (s0 : Int32) (hw : cw M) (k : Z E YX1_firstObjects (d + 1) M [(0, vr (some (16, 0, 0))), (1, vi (l1 + (1 : Int32)))] 22 [] Q) : Z E YX1_firstObjects (d + 1) M [(0, vr (some (16, 0, 0))), (1, vi l1)] 73 [vi s0] Q := by
  refine z_pop dX1_firstObjects_73 rfl ?_
  refine z_inc (v := (l1 + (1 : Int32))) dX1_firstObjects_74 rfl rfl (by decide) (lv' := [(0, vr (some (16, 0, 0))), (1, vi (l1 + (1 : Int32)))]) rfl ?_
  refine z_goto (tgt := 22) dX1_firstObjects_77 rfl ?_
  exact k
theorem sX1_firstObjects_83 {E : zE} {d : Nat} {Q : zO → zM → Prop} (M : zM) (l1 : Int32) (hw : cw M) (k : if (18 : Int32) ≤ l1 then (Z E YX1_setOwn d M (zargs 0 [vr (some (16, 0, 0)), vi (1 : Int32), vi (2 : Int32), vi (7 : Int32), vi (10 : Int32)]) 0 [] (zafter E YX1_firstObjects (d + 1) [(0, vr (some (16, 0, 0)))] 113 3 [] Q)) else (Z E YX1_setOwn d M (zargs 0 [vr (some (16, 0, 0)), vi (0 : Int32), vi (l1 - (4 : Int32)), vi (7 : Int32), vi l1]) 0 [] (zafter E YX1_firstObjects (d + 1) [(0, vr (some (16, 0, 0))), (1, vi l1)] 97 3 [] Q))) : Z E YX1_firstObjects (d + 1) M [(0, vr (some (16, 0, 0))), (1, vi l1)] 83 [] Q := by
  refine z_iload_n dX1_firstObjects_83 rfl rfl ?_
  refine z_bipush (v := 18) dX1_firstObjects_84 rfl ?_
  refine z_icmp_ge (tgt := 106) dX1_firstObjects_86 rfl (fun h_ => ?_) (fun h_ => ?_)
  · have k := zit h_ k
    refine z_aload_n dX1_firstObjects_106 rfl rfl ?_
    refine z_iconst (v := 1) dX1_firstObjects_107 rfl ?_
    refine z_iconst (v := 2) dX1_firstObjects_108 rfl ?_
    refine z_bipush (v := 7) dX1_firstObjects_109 rfl ?_
    refine z_bipush (v := 10) dX1_firstObjects_111 rfl ?_
    refine Z.pick [0] rfl ?_
    exact z_callV (as := [vi (1 : Int32), vi (2 : Int32), vi (7 : Int32), vi (10 : Int32)]) (st := []) dX1_firstObjects_113 vsX1_358_0 (Nat.le_refl _) (Nat.le_of_ble_eq_true rfl) (Nat.le_of_ble_eq_true rfl) rfl k
  · have k := zif h_ k
    refine z_aload_n dX1_firstObjects_89 rfl rfl ?_
    refine z_iconst (v := 0) dX1_firstObjects_90 rfl ?_
    refine z_iload_n dX1_firstObjects_91 rfl rfl ?_
    refine z_iconst (v := 4) dX1_firstObjects_92 rfl ?_
    refine z_isub dX1_firstObjects_93 ?_
    refine z_bipush (v := 7) dX1_firstObjects_94 rfl ?_
    refine z_iload_n dX1_firstObjects_96 rfl rfl ?_
    exact z_callV (as := [vi (0 : Int32), vi (l1 - (4 : Int32)), vi (7 : Int32), vi l1]) (st := []) dX1_firstObjects_97 vsX1_358_0 (Nat.le_refl _) (Nat.le_of_ble_eq_true rfl) (Nat.le_of_ble_eq_true rfl) rfl k
theorem sX1_firstObjects_100 {E : zE} {d : Nat} {Q : zO → zM → Prop} (M : zM) (l1 : Int32) (hw : cw M) (k : Z E YX1_firstObjects (d + 1) M [(0, vr (some (16, 0, 0))), (1, vi (l1 + (1 : Int32)))] 83 [] Q) : Z E YX1_firstObjects (d + 1) M [(0, vr (some (16, 0, 0))), (1, vi l1)] 100 [] Q := by
  refine z_inc (v := (l1 + (1 : Int32))) dX1_firstObjects_100 rfl rfl (by decide) (lv' := [(0, vr (some (16, 0, 0))), (1, vi (l1 + (1 : Int32)))]) rfl ?_
  refine z_goto (tgt := 83) dX1_firstObjects_103 rfl ?_
  exact k
theorem sX1_firstObjects_116 {E : zE} {d : Nat} {Q : zO → zM → Prop} (M : zM)  (hw : cw M) (k : Z E YX1_setOwn d M (zargs 0 [vr (some (16, 0, 0)), vi (1 : Int32), vi (17 : Int32), vi (7 : Int32), vi (21 : Int32)]) 0 [] (zafter E YX1_firstObjects (d + 1) [(0, vr (some (16, 0, 0)))] 124 3 [] Q)) : Z E YX1_firstObjects (d + 1) M [(0, vr (some (16, 0, 0)))] 116 [] Q := by
  refine z_aload_n dX1_firstObjects_116 rfl rfl ?_
  refine z_iconst (v := 1) dX1_firstObjects_117 rfl ?_
  refine z_bipush (v := 17) dX1_firstObjects_118 rfl ?_
  refine z_bipush (v := 7) dX1_firstObjects_120 rfl ?_
  refine z_bipush (v := 21) dX1_firstObjects_122 rfl ?_
  exact z_callV (as := [vi (1 : Int32), vi (17 : Int32), vi (7 : Int32), vi (21 : Int32)]) (st := []) dX1_firstObjects_124 vsX1_358_0 (Nat.le_refl _) (Nat.le_of_ble_eq_true rfl) (Nat.le_of_ble_eq_true rfl) rfl k
theorem sX1_firstObjects_127 {E : zE} {d : Nat} {Q : zO → zM → Prop} (M : zM)  (hw : cw M) (k : Z E YX1_setOwn d M (zargs 0 [vr (some (16, 0, 0)), vi (2 : Int32), vi (16 : Int32), vi (7 : Int32), vi (20 : Int32)]) 0 [] (zafter E YX1_firstObjects (d + 1) [(0, vr (some (16, 0, 0)))] 135 3 [] Q)) : Z E YX1_firstObjects (d + 1) M [(0, vr (some (16, 0, 0)))] 127 [] Q := by
  refine z_aload_n dX1_firstObjects_127 rfl rfl ?_
  refine z_iconst (v := 2) dX1_firstObjects_128 rfl ?_
  refine z_bipush (v := 16) dX1_firstObjects_129 rfl ?_
  refine z_bipush (v := 7) dX1_firstObjects_131 rfl ?_
  refine z_bipush (v := 20) dX1_firstObjects_133 rfl ?_
  exact z_callV (as := [vi (2 : Int32), vi (16 : Int32), vi (7 : Int32), vi (20 : Int32)]) (st := []) dX1_firstObjects_135 vsX1_358_0 (Nat.le_refl _) (Nat.le_of_ble_eq_true rfl) (Nat.le_of_ble_eq_true rfl) rfl k
theorem sX1_firstObjects_138 {E : zE} {d : Nat} {Q : zO → zM → Prop} (M : zM)  (hw : cw M) (k : Z E YX1_setOwn d M (zargs 0 [vr (some (16, 0, 0)), vi (3 : Int32), vi (2 : Int32), vi (7 : Int32), vi (11 : Int32)]) 0 [] (zafter E YX1_firstObjects (d + 1) [(0, vr (some (16, 0, 0)))] 145 3 [] Q)) : Z E YX1_firstObjects (d + 1) M [(0, vr (some (16, 0, 0)))] 138 [] Q := by
  refine z_aload_n dX1_firstObjects_138 rfl rfl ?_
  refine z_iconst (v := 3) dX1_firstObjects_139 rfl ?_
  refine z_iconst (v := 2) dX1_firstObjects_140 rfl ?_
  refine z_bipush (v := 7) dX1_firstObjects_141 rfl ?_
  refine z_bipush (v := 11) dX1_firstObjects_143 rfl ?_
  exact z_callV (as := [vi (3 : Int32), vi (2 : Int32), vi (7 : Int32), vi (11 : Int32)]) (st := []) dX1_firstObjects_145 vsX1_358_0 (Nat.le_refl _) (Nat.le_of_ble_eq_true rfl) (Nat.le_of_ble_eq_true rfl) rfl k
theorem sX1_firstObjects_148 {E : zE} {d : Nat} {Q : zO → zM → Prop} (M : zM)  (hw : cw M) (k : Z E YX1_setOwn d M (zargs 0 [vr (some (16, 0, 0)), vi (3 : Int32), vi (14 : Int32), vi (7 : Int32), vi (18 : Int32)]) 0 [] (zafter E YX1_firstObjects (d + 1) [(0, vr (some (16, 0, 0)))] 156 3 [] Q)) : Z E YX1_firstObjects (d + 1) M [(0, vr (some (16, 0, 0)))] 148 [] Q := by
  refine z_aload_n dX1_firstObjects_148 rfl rfl ?_
  refine z_iconst (v := 3) dX1_firstObjects_149 rfl ?_
  refine z_bipush (v := 14) dX1_firstObjects_150 rfl ?_
  refine z_bipush (v := 7) dX1_firstObjects_152 rfl ?_
  refine z_bipush (v := 18) dX1_firstObjects_154 rfl ?_
  exact z_callV (as := [vi (3 : Int32), vi (14 : Int32), vi (7 : Int32), vi (18 : Int32)]) (st := []) dX1_firstObjects_156 vsX1_358_0 (Nat.le_refl _) (Nat.le_of_ble_eq_true rfl) (Nat.le_of_ble_eq_true rfl) rfl k
theorem sX1_firstObjects_159 {E : zE} {d : Nat} {Q : zO → zM → Prop} (M : zM)  (hw : cw M) (k : Z E YX1_setOwn d M (zargs 0 [vr (some (16, 0, 0)), vi (3 : Int32), vi (15 : Int32), vi (7 : Int32), vi (19 : Int32)]) 0 [] (zafter E YX1_firstObjects (d + 1) [(0, vr (some (16, 0, 0)))] 167 3 [] Q)) : Z E YX1_firstObjects (d + 1) M [(0, vr (some (16, 0, 0)))] 159 [] Q := by
  refine z_aload_n dX1_firstObjects_159 rfl rfl ?_
  refine z_iconst (v := 3) dX1_firstObjects_160 rfl ?_
  refine z_bipush (v := 15) dX1_firstObjects_161 rfl ?_
  refine z_bipush (v := 7) dX1_firstObjects_163 rfl ?_
  refine z_bipush (v := 19) dX1_firstObjects_165 rfl ?_
  exact z_callV (as := [vi (3 : Int32), vi (15 : Int32), vi (7 : Int32), vi (19 : Int32)]) (st := []) dX1_firstObjects_167 vsX1_358_0 (Nat.le_refl _) (Nat.le_of_ble_eq_true rfl) (Nat.le_of_ble_eq_true rfl) rfl k
theorem sX1_firstObjects_170 {E : zE} {d : Nat} {Q : zO → zM → Prop} (M : zM)  (hw : cw M) (k : Z E YX1_setOwn d M (zargs 0 [vr (some (16, 0, 0)), vi (4 : Int32), vi (2 : Int32), vi (7 : Int32), vi (12 : Int32)]) 0 [] (zafter E YX1_firstObjects (d + 1) [(0, vr (some (16, 0, 0)))] 177 3 [] Q)) : Z E YX1_firstObjects (d + 1) M [(0, vr (some (16, 0, 0)))] 170 [] Q := by
  refine z_aload_n dX1_firstObjects_170 rfl rfl ?_
  refine z_iconst (v := 4) dX1_firstObjects_171 rfl ?_
  refine z_iconst (v := 2) dX1_firstObjects_172 rfl ?_
  refine z_bipush (v := 7) dX1_firstObjects_173 rfl ?_
  refine z_bipush (v := 12) dX1_firstObjects_175 rfl ?_
  exact z_callV (as := [vi (4 : Int32), vi (2 : Int32), vi (7 : Int32), vi (12 : Int32)]) (st := []) dX1_firstObjects_177 vsX1_358_0 (Nat.le_refl _) (Nat.le_of_ble_eq_true rfl) (Nat.le_of_ble_eq_true rfl) rfl k
theorem sX1_firstObjects_180 {E : zE} {d : Nat} {Q : zO → zM → Prop} (M : zM)  (hw : cw M) (k : Z E YX1_setOwn d M (zargs 0 [vr (some (16, 0, 0)), vi (4 : Int32), vi (18 : Int32), vi (7 : Int32), vi (22 : Int32)]) 0 [] (zafter E YX1_firstObjects (d + 1) [(0, vr (some (16, 0, 0)))] 188 3 [] Q)) : Z E YX1_firstObjects (d + 1) M [(0, vr (some (16, 0, 0)))] 180 [] Q := by
  refine z_aload_n dX1_firstObjects_180 rfl rfl ?_
  refine z_iconst (v := 4) dX1_firstObjects_181 rfl ?_
  refine z_bipush (v := 18) dX1_firstObjects_182 rfl ?_
  refine z_bipush (v := 7) dX1_firstObjects_184 rfl ?_
  refine z_bipush (v := 22) dX1_firstObjects_186 rfl ?_
  exact z_callV (as := [vi (4 : Int32), vi (18 : Int32), vi (7 : Int32), vi (22 : Int32)]) (st := []) dX1_firstObjects_188 vsX1_358_0 (Nat.le_refl _) (Nat.le_of_ble_eq_true rfl) (Nat.le_of_ble_eq_true rfl) rfl k
theorem sX1_firstObjects_191 {E : zE} {d : Nat} {Q : zO → zM → Prop} (M : zM)  (hw : cw M) (k : Z E YX1_firstObjects (d + 1) M [(0, vr (some (16, 0, 0))), (1, vi (5 : Int32))] 193 [] Q) : Z E YX1_firstObjects (d + 1) M [(0, vr (some (16, 0, 0)))] 191 [] Q := by
  refine z_iconst (v := 5) dX1_firstObjects_191 rfl ?_
  refine z_ist_n dX1_firstObjects_192 rfl (by decide) (lv' := [(0, vr (some (16, 0, 0))), (1, vi (5 : Int32))]) rfl ?_
  exact k
theorem sX1_firstObjects_193 {E : zE} {d : Nat} {Q : zO → zM → Prop} (M : zM) (l1 : Int32) (hw : cw M) (k : if (9 : Int32) ≤ l1 then (Z E YX1_firstObjects (d + 1) M [(0, vr (some (16, 0, 0))), (1, vi (9 : Int32))] 231 [] Q) else (Z E YX1_setOwn d M (zargs 0 [vr (some (16, 0, 0)), vi l1, vi (2 : Int32), vi (7 : Int32), vi (l1 + (9 : Int32))]) 0 [] (zafter E YX1_firstObjects (d + 1) [(0, vr (some (16, 0, 0))), (1, vi l1)] 208 3 [] Q))) : Z E YX1_firstObjects (d + 1) M [(0, vr (some (16, 0, 0))), (1, vi l1)] 193 [] Q := by
  refine z_iload_n dX1_firstObjects_193 rfl rfl ?_
  refine z_bipush (v := 9) dX1_firstObjects_194 rfl ?_
  refine z_icmp_ge (tgt := 228) dX1_firstObjects_196 rfl (fun h_ => ?_) (fun h_ => ?_)
  · have k := zit h_ k
    refine z_bipush (v := 9) dX1_firstObjects_228 rfl ?_
    refine z_ist_n dX1_firstObjects_230 rfl (by decide) (lv' := [(0, vr (some (16, 0, 0))), (1, vi (9 : Int32))]) rfl ?_
    exact k
  · have k := zif h_ k
    refine z_aload_n dX1_firstObjects_199 rfl rfl ?_
    refine z_iload_n dX1_firstObjects_200 rfl rfl ?_
    refine z_iconst (v := 2) dX1_firstObjects_201 rfl ?_
    refine z_bipush (v := 7) dX1_firstObjects_202 rfl ?_
    refine z_iload_n dX1_firstObjects_204 rfl rfl ?_
    refine z_bipush (v := 9) dX1_firstObjects_205 rfl ?_
    refine z_iadd dX1_firstObjects_207 ?_
    exact z_callV (as := [vi l1, vi (2 : Int32), vi (7 : Int32), vi (l1 + (9 : Int32))]) (st := []) dX1_firstObjects_208 vsX1_358_0 (Nat.le_refl _) (Nat.le_of_ble_eq_true rfl) (Nat.le_of_ble_eq_true rfl) rfl k
theorem sX1_firstObjects_211 {E : zE} {d : Nat} {Q : zO → zM → Prop} (M : zM) (l1 : Int32) (hw : cw M) (k : Z E YX1_setOwn d M (zargs 0 [vr (some (16, 0, 0)), vi l1, vi (4 : Int32), vi (6 : Int32), vi (l1 + (5 : Int32))]) 0 [] (zafter E YX1_firstObjects (d + 1) [(0, vr (some (16, 0, 0))), (1, vi l1)] 219 3 [] Q)) : Z E YX1_firstObjects (d + 1) M [(0, vr (some (16, 0, 0))), (1, vi l1)] 211 [] Q := by
  refine z_aload_n dX1_firstObjects_211 rfl rfl ?_
  refine z_iload_n dX1_firstObjects_212 rfl rfl ?_
  refine z_iconst (v := 4) dX1_firstObjects_213 rfl ?_
  refine z_bipush (v := 6) dX1_firstObjects_214 rfl ?_
  refine z_iload_n dX1_firstObjects_216 rfl rfl ?_
  refine z_iconst (v := 5) dX1_firstObjects_217 rfl ?_
  refine z_iadd dX1_firstObjects_218 ?_
  exact z_callV (as := [vi l1, vi (4 : Int32), vi (6 : Int32), vi (l1 + (5 : Int32))]) (st := []) dX1_firstObjects_219 vsX1_358_0 (Nat.le_refl _) (Nat.le_of_ble_eq_true rfl) (Nat.le_of_ble_eq_true rfl) rfl k
theorem sX1_firstObjects_222 {E : zE} {d : Nat} {Q : zO → zM → Prop} (M : zM) (l1 : Int32) (hw : cw M) (k : Z E YX1_firstObjects (d + 1) M [(0, vr (some (16, 0, 0))), (1, vi (l1 + (1 : Int32)))] 193 [] Q) : Z E YX1_firstObjects (d + 1) M [(0, vr (some (16, 0, 0))), (1, vi l1)] 222 [] Q := by
  refine z_inc (v := (l1 + (1 : Int32))) dX1_firstObjects_222 rfl rfl (by decide) (lv' := [(0, vr (some (16, 0, 0))), (1, vi (l1 + (1 : Int32)))]) rfl ?_
  refine z_goto (tgt := 193) dX1_firstObjects_225 rfl ?_
  exact k
theorem sX1_firstObjects_231 {E : zE} {d : Nat} {Q : zO → zM → Prop} (M : zM) (l1 : Int32) (hw : cw M) (k : if (23 : Int32) ≤ l1 then (Q (.inl none) M) else (if l1 = (10 : Int32) then (Z E YX1_asNative d M (zargs 0 [vr (some (16, 0, 0)), vi l1, vi (1 : Int32)]) 0 [] (zafter E YX1_firstObjects (d + 1) [(0, vr (some (16, 0, 0))), (1, vi l1)] 289 3 [] Q)) else (if l1 = (11 : Int32) then (Z E YX1_asNative d M (zargs 0 [vr (some (16, 0, 0)), vi l1, vi (3 : Int32)]) 0 [] (zafter E YX1_firstObjects (d + 1) [(0, vr (some (16, 0, 0))), (1, vi l1)] 289 3 [] Q)) else (if l1 = (12 : Int32) then (Z E YX1_asNative d M (zargs 0 [vr (some (16, 0, 0)), vi l1, vi (4 : Int32)]) 0 [] (zafter E YX1_firstObjects (d + 1) [(0, vr (some (16, 0, 0))), (1, vi l1)] 289 3 [] Q)) else (if l1 ≤ (13 : Int32) then (Z E YX1_asNative d M (zargs 0 [vr (some (16, 0, 0)), vi l1, vi (-1 : Int32)]) 0 [] (zafter E YX1_firstObjects (d + 1) [(0, vr (some (16, 0, 0))), (1, vi l1)] 289 3 [] Q)) else (if (18 : Int32) ≤ l1 then (Z E YX1_asNative d M (zargs 0 [vr (some (16, 0, 0)), vi l1, vi (-1 : Int32)]) 0 [] (zafter E YX1_firstObjects (d + 1) [(0, vr (some (16, 0, 0))), (1, vi l1)] 289 3 [] Q)) else (Z E YX1_asNative d M (zargs 0 [vr (some (16, 0, 0)), vi l1, vi (l1 - (9 : Int32))]) 0 [] (zafter E YX1_firstObjects (d + 1) [(0, vr (some (16, 0, 0))), (1, vi l1)] 289 3 [] Q)))))))) : Z E YX1_firstObjects (d + 1) M [(0, vr (some (16, 0, 0))), (1, vi l1)] 231 [] Q := by
  refine z_iload_n dX1_firstObjects_231 rfl rfl ?_
  refine z_bipush (v := 23) dX1_firstObjects_232 rfl ?_
  refine z_icmp_ge (tgt := 298) dX1_firstObjects_234 rfl (fun h_ => ?_) (fun h_ => ?_)
  · have k := zit h_ k
    exact z_vret dX1_firstObjects_298 rfl k
  · have k := zif h_ k
    refine z_aload_n dX1_firstObjects_237 rfl rfl ?_
    refine z_iload_n dX1_firstObjects_238 rfl rfl ?_
    refine z_iload_n dX1_firstObjects_239 rfl rfl ?_
    refine z_bipush (v := 10) dX1_firstObjects_240 rfl ?_
    refine z_icmp_ne (tgt := 249) dX1_firstObjects_242 rfl (fun h_ => ?_) (fun h_ => ?_)
    · have k := zif h_ k
      refine z_iload_n dX1_firstObjects_249 rfl rfl ?_
      refine z_bipush (v := 11) dX1_firstObjects_250 rfl ?_
      refine z_icmp_ne (tgt := 259) dX1_firstObjects_252 rfl (fun h_ => ?_) (fun h_ => ?_)
      · have k := zif h_ k
        refine z_iload_n dX1_firstObjects_259 rfl rfl ?_
        refine z_bipush (v := 12) dX1_firstObjects_260 rfl ?_
        refine z_icmp_ne (tgt := 269) dX1_firstObjects_262 rfl (fun h_ => ?_) (fun h_ => ?_)
        · have k := zif h_ k
          refine z_iload_n dX1_firstObjects_269 rfl rfl ?_
          refine z_bipush (v := 13) dX1_firstObjects_270 rfl ?_
          refine z_icmp_le (tgt := 288) dX1_firstObjects_272 rfl (fun h_ => ?_) (fun h_ => ?_)
          · have k := zit h_ k
            refine z_iconst (v := -1) dX1_firstObjects_288 rfl ?_
            exact z_callV (as := [vi l1, vi (-1 : Int32)]) (st := []) dX1_firstObjects_289 vsX1_366_0 (Nat.le_refl _) (Nat.le_of_ble_eq_true rfl) (Nat.le_of_ble_eq_true rfl) rfl k
          · have k := zif h_ k
            refine z_iload_n dX1_firstObjects_275 rfl rfl ?_
            refine z_bipush (v := 18) dX1_firstObjects_276 rfl ?_
            refine z_icmp_ge (tgt := 288) dX1_firstObjects_278 rfl (fun h_ => ?_) (fun h_ => ?_)
            · have k := zit h_ k
              refine z_iconst (v := -1) dX1_firstObjects_288 rfl ?_
              exact z_callV (as := [vi l1, vi (-1 : Int32)]) (st := []) dX1_firstObjects_289 vsX1_366_0 (Nat.le_refl _) (Nat.le_of_ble_eq_true rfl) (Nat.le_of_ble_eq_true rfl) rfl k
            · have k := zif h_ k
              refine z_iload_n dX1_firstObjects_281 rfl rfl ?_
              refine z_bipush (v := 9) dX1_firstObjects_282 rfl ?_
              refine z_isub dX1_firstObjects_284 ?_
              refine z_goto (tgt := 289) dX1_firstObjects_285 rfl ?_
              exact z_callV (as := [vi l1, vi (l1 - (9 : Int32))]) (st := []) dX1_firstObjects_289 vsX1_366_0 (Nat.le_refl _) (Nat.le_of_ble_eq_true rfl) (Nat.le_of_ble_eq_true rfl) rfl k
        · have k := zit h_ k
          refine z_iconst (v := 4) dX1_firstObjects_265 rfl ?_
          refine z_goto (tgt := 289) dX1_firstObjects_266 rfl ?_
          exact z_callV (as := [vi l1, vi (4 : Int32)]) (st := []) dX1_firstObjects_289 vsX1_366_0 (Nat.le_refl _) (Nat.le_of_ble_eq_true rfl) (Nat.le_of_ble_eq_true rfl) rfl k
      · have k := zit h_ k
        refine z_iconst (v := 3) dX1_firstObjects_255 rfl ?_
        refine z_goto (tgt := 289) dX1_firstObjects_256 rfl ?_
        exact z_callV (as := [vi l1, vi (3 : Int32)]) (st := []) dX1_firstObjects_289 vsX1_366_0 (Nat.le_refl _) (Nat.le_of_ble_eq_true rfl) (Nat.le_of_ble_eq_true rfl) rfl k
    · have k := zit h_ k
      refine z_iconst (v := 1) dX1_firstObjects_245 rfl ?_
      refine z_goto (tgt := 289) dX1_firstObjects_246 rfl ?_
      exact z_callV (as := [vi l1, vi (1 : Int32)]) (st := []) dX1_firstObjects_289 vsX1_366_0 (Nat.le_refl _) (Nat.le_of_ble_eq_true rfl) (Nat.le_of_ble_eq_true rfl) rfl k
theorem sX1_firstObjects_292 {E : zE} {d : Nat} {Q : zO → zM → Prop} (M : zM) (l1 : Int32) (hw : cw M) (k : Z E YX1_firstObjects (d + 1) M [(0, vr (some (16, 0, 0))), (1, vi (l1 + (1 : Int32)))] 231 [] Q) : Z E YX1_firstObjects (d + 1) M [(0, vr (some (16, 0, 0))), (1, vi l1)] 292 [] Q := by
  refine z_inc (v := (l1 + (1 : Int32))) dX1_firstObjects_292 rfl rfl (by decide) (lv' := [(0, vr (some (16, 0, 0))), (1, vi (l1 + (1 : Int32)))]) rfl ?_
  refine z_goto (tgt := 231) dX1_firstObjects_295 rfl ?_
  exact k
/-! ScriptTypes.born(IIII)I -/
theorem bX1_born_0 : zdec cX1_born 0 [(0, .aload_n 0, 1), (1, .getfield 322, 3), (4, .sipush 300, 3), (7, .if_icmp .ne 8, 3), (10, .aload_n 0, 1), (11, .getfield 137, 3), (14, .athrow, 1), (15, .aload_n 0, 1), (16, .dup, 1), (17, .getfield 322, 3), (20, .dup_x1, 1), (21, .iconst 1, 1), (22, .iadd, 1), (23, .putfield 322, 3), (26, .istore 5, 2), (28, .aload_n 0, 1)] = true := by decide +kernel
theorem dX1_born_0 : decode cX1_born 0 = .ok (.aload_n 0, 1) := zdec_at bX1_born_0 0 rfl
theorem dX1_born_1 : decode cX1_born 1 = .ok (.getfield 322, 3) := zdec_at bX1_born_0 1 rfl
theorem dX1_born_4 : decode cX1_born 4 = .ok (.sipush 300, 3) := zdec_at bX1_born_0 2 rfl
theorem dX1_born_7 : decode cX1_born 7 = .ok (.if_icmp .ne 8, 3) := zdec_at bX1_born_0 3 rfl
theorem dX1_born_10 : decode cX1_born 10 = .ok (.aload_n 0, 1) := zdec_at bX1_born_0 4 rfl
theorem dX1_born_11 : decode cX1_born 11 = .ok (.getfield 137, 3) := zdec_at bX1_born_0 5 rfl
theorem dX1_born_14 : decode cX1_born 14 = .ok (.athrow, 1) := zdec_at bX1_born_0 6 rfl
theorem dX1_born_15 : decode cX1_born 15 = .ok (.aload_n 0, 1) := zdec_at bX1_born_0 7 rfl
theorem dX1_born_16 : decode cX1_born 16 = .ok (.dup, 1) := zdec_at bX1_born_0 8 rfl
theorem dX1_born_17 : decode cX1_born 17 = .ok (.getfield 322, 3) := zdec_at bX1_born_0 9 rfl
theorem dX1_born_20 : decode cX1_born 20 = .ok (.dup_x1, 1) := zdec_at bX1_born_0 10 rfl
theorem dX1_born_21 : decode cX1_born 21 = .ok (.iconst 1, 1) := zdec_at bX1_born_0 11 rfl
theorem dX1_born_22 : decode cX1_born 22 = .ok (.iadd, 1) := zdec_at bX1_born_0 12 rfl
theorem dX1_born_23 : decode cX1_born 23 = .ok (.putfield 322, 3) := zdec_at bX1_born_0 13 rfl
theorem dX1_born_26 : decode cX1_born 26 = .ok (.istore 5, 2) := zdec_at bX1_born_0 14 rfl
theorem dX1_born_28 : decode cX1_born 28 = .ok (.aload_n 0, 1) := zdec_at bX1_born_0 15 rfl
theorem bX1_born_29 : zdec cX1_born 29 [(29, .getfield 93, 3), (32, .iload 5, 2), (34, .iload_n 1, 1), (35, .i2b, 1), (36, .bastore, 1), (37, .aload_n 0, 1), (38, .getfield 96, 3), (41, .iload 5, 2), (43, .iconst 0, 1), (44, .bastore, 1), (45, .aload_n 0, 1), (46, .getfield 99, 3), (49, .iload 5, 2), (51, .iload_n 2, 1), (52, .i2s, 1), (53, .sastore, 1)] = true := by decide +kernel
theorem dX1_born_29 : decode cX1_born 29 = .ok (.getfield 93, 3) := zdec_at bX1_born_29 0 rfl
theorem dX1_born_32 : decode cX1_born 32 = .ok (.iload 5, 2) := zdec_at bX1_born_29 1 rfl
theorem dX1_born_34 : decode cX1_born 34 = .ok (.iload_n 1, 1) := zdec_at bX1_born_29 2 rfl
theorem dX1_born_35 : decode cX1_born 35 = .ok (.i2b, 1) := zdec_at bX1_born_29 3 rfl
theorem dX1_born_36 : decode cX1_born 36 = .ok (.bastore, 1) := zdec_at bX1_born_29 4 rfl
theorem dX1_born_37 : decode cX1_born 37 = .ok (.aload_n 0, 1) := zdec_at bX1_born_29 5 rfl
theorem dX1_born_38 : decode cX1_born 38 = .ok (.getfield 96, 3) := zdec_at bX1_born_29 6 rfl
theorem dX1_born_41 : decode cX1_born 41 = .ok (.iload 5, 2) := zdec_at bX1_born_29 7 rfl
theorem dX1_born_43 : decode cX1_born 43 = .ok (.iconst 0, 1) := zdec_at bX1_born_29 8 rfl
theorem dX1_born_44 : decode cX1_born 44 = .ok (.bastore, 1) := zdec_at bX1_born_29 9 rfl
theorem dX1_born_45 : decode cX1_born 45 = .ok (.aload_n 0, 1) := zdec_at bX1_born_29 10 rfl
theorem dX1_born_46 : decode cX1_born 46 = .ok (.getfield 99, 3) := zdec_at bX1_born_29 11 rfl
theorem dX1_born_49 : decode cX1_born 49 = .ok (.iload 5, 2) := zdec_at bX1_born_29 12 rfl
theorem dX1_born_51 : decode cX1_born 51 = .ok (.iload_n 2, 1) := zdec_at bX1_born_29 13 rfl
theorem dX1_born_52 : decode cX1_born 52 = .ok (.i2s, 1) := zdec_at bX1_born_29 14 rfl
theorem dX1_born_53 : decode cX1_born 53 = .ok (.sastore, 1) := zdec_at bX1_born_29 15 rfl
theorem bX1_born_54 : zdec cX1_born 54 [(54, .aload_n 0, 1), (55, .getfield 103, 3), (58, .iload 5, 2), (60, .iload_n 3, 1), (61, .i2s, 1), (62, .sastore, 1), (63, .aload_n 0, 1), (64, .getfield 106, 3), (67, .iload 5, 2), (69, .iload 4, 2), (71, .i2s, 1), (72, .sastore, 1), (73, .aload_n 0, 1), (74, .getfield 109, 3), (77, .iload 5, 2), (79, .iconst (-1), 1)] = true := by decide +kernel
theorem dX1_born_54 : decode cX1_born 54 = .ok (.aload_n 0, 1) := zdec_at bX1_born_54 0 rfl
theorem dX1_born_55 : decode cX1_born 55 = .ok (.getfield 103, 3) := zdec_at bX1_born_54 1 rfl
theorem dX1_born_58 : decode cX1_born 58 = .ok (.iload 5, 2) := zdec_at bX1_born_54 2 rfl
theorem dX1_born_60 : decode cX1_born 60 = .ok (.iload_n 3, 1) := zdec_at bX1_born_54 3 rfl
theorem dX1_born_61 : decode cX1_born 61 = .ok (.i2s, 1) := zdec_at bX1_born_54 4 rfl
theorem dX1_born_62 : decode cX1_born 62 = .ok (.sastore, 1) := zdec_at bX1_born_54 5 rfl
theorem dX1_born_63 : decode cX1_born 63 = .ok (.aload_n 0, 1) := zdec_at bX1_born_54 6 rfl
theorem dX1_born_64 : decode cX1_born 64 = .ok (.getfield 106, 3) := zdec_at bX1_born_54 7 rfl
theorem dX1_born_67 : decode cX1_born 67 = .ok (.iload 5, 2) := zdec_at bX1_born_54 8 rfl
theorem dX1_born_69 : decode cX1_born 69 = .ok (.iload 4, 2) := zdec_at bX1_born_54 9 rfl
theorem dX1_born_71 : decode cX1_born 71 = .ok (.i2s, 1) := zdec_at bX1_born_54 10 rfl
theorem dX1_born_72 : decode cX1_born 72 = .ok (.sastore, 1) := zdec_at bX1_born_54 11 rfl
theorem dX1_born_73 : decode cX1_born 73 = .ok (.aload_n 0, 1) := zdec_at bX1_born_54 12 rfl
theorem dX1_born_74 : decode cX1_born 74 = .ok (.getfield 109, 3) := zdec_at bX1_born_54 13 rfl
theorem dX1_born_77 : decode cX1_born 77 = .ok (.iload 5, 2) := zdec_at bX1_born_54 14 rfl
theorem dX1_born_79 : decode cX1_born 79 = .ok (.iconst (-1), 1) := zdec_at bX1_born_54 15 rfl
theorem bX1_born_80 : zdec cX1_born 80 [(80, .sastore, 1), (81, .aload_n 0, 1), (82, .getfield 112, 3), (85, .iload 5, 2), (87, .iconst (-1), 1), (88, .sastore, 1), (89, .aload_n 0, 1), (90, .getfield 115, 3), (93, .iload_n 2, 1), (94, .iload 5, 2), (96, .i2s, 1), (97, .sastore, 1), (98, .iload 5, 2), (100, .ireturn, 1)] = true := by decide +kernel
theorem dX1_born_80 : decode cX1_born 80 = .ok (.sastore, 1) := zdec_at bX1_born_80 0 rfl
theorem dX1_born_81 : decode cX1_born 81 = .ok (.aload_n 0, 1) := zdec_at bX1_born_80 1 rfl
theorem dX1_born_82 : decode cX1_born 82 = .ok (.getfield 112, 3) := zdec_at bX1_born_80 2 rfl
theorem dX1_born_85 : decode cX1_born 85 = .ok (.iload 5, 2) := zdec_at bX1_born_80 3 rfl
theorem dX1_born_87 : decode cX1_born 87 = .ok (.iconst (-1), 1) := zdec_at bX1_born_80 4 rfl
theorem dX1_born_88 : decode cX1_born 88 = .ok (.sastore, 1) := zdec_at bX1_born_80 5 rfl
theorem dX1_born_89 : decode cX1_born 89 = .ok (.aload_n 0, 1) := zdec_at bX1_born_80 6 rfl
theorem dX1_born_90 : decode cX1_born 90 = .ok (.getfield 115, 3) := zdec_at bX1_born_80 7 rfl
theorem dX1_born_93 : decode cX1_born 93 = .ok (.iload_n 2, 1) := zdec_at bX1_born_80 8 rfl
theorem dX1_born_94 : decode cX1_born 94 = .ok (.iload 5, 2) := zdec_at bX1_born_80 9 rfl
theorem dX1_born_96 : decode cX1_born 96 = .ok (.i2s, 1) := zdec_at bX1_born_80 10 rfl
theorem dX1_born_97 : decode cX1_born 97 = .ok (.sastore, 1) := zdec_at bX1_born_80 11 rfl
theorem dX1_born_98 : decode cX1_born 98 = .ok (.iload 5, 2) := zdec_at bX1_born_80 12 rfl
theorem dX1_born_100 : decode cX1_born 100 = .ok (.ireturn, 1) := zdec_at bX1_born_80 13 rfl
theorem sX1_born_0 {E : zE} {d : Nat} {Q : zO → zM → Prop} (M : zM) (l1 : Int32) (l2 : Int32) (l3 : Int32) (l4 : Int32) (hw : cw M) (k : if (gi M 16 26) = (300 : Int32) then (Q (.inr (51, 13, 0)) M) else (vp_in (gi M 16 26) 300 ∧ (vp_in (gi M 16 26) 300 ∧ (vp_in (gi M 16 26) 300 ∧ (vp_in (gi M 16 26) 300 ∧ (vp_in (gi M 16 26) 300 ∧ (vp_in (gi M 16 26) 300 ∧ (vp_in (gi M 16 26) 300 ∧ (vp_in l2 160 ∧ (Q (.inl (some (vi (gi M 16 26)))) (si (si (si (si (si (si (si (si (si M 16 26 ((gi M 16 26) + (1 : Int32))) 38 ((gi M 16 26)).toNatClampNeg (vp_nar .byte (l1).toInt8.toInt32)) 39 ((gi M 16 26)).toNatClampNeg (vp_nar .byte (0 : Int32))) 40 ((gi M 16 26)).toNatClampNeg (vp_nar .short (l2).toInt16.toInt32)) 41 ((gi M 16 26)).toNatClampNeg (vp_nar .short (l3).toInt16.toInt32)) 42 ((gi M 16 26)).toNatClampNeg (vp_nar .short (l4).toInt16.toInt32)) 43 ((gi M 16 26)).toNatClampNeg (vp_nar .short (-1 : Int32))) 44 ((gi M 16 26)).toNatClampNeg (vp_nar .short (-1 : Int32))) 45 (l2).toNatClampNeg (vp_nar .short ((gi M 16 26)).toInt16.toInt32)))))))))))) : Z E YX1_born d M [(0, vr (some (16, 0, 0))), (1, vi l1), (2, vi l2), (3, vi l3), (4, vi l4)] 0 [] Q := by
  refine z_aload_n dX1_born_0 rfl rfl ?_
  refine z_geti dX1_born_1 fsX1_322_0 ?_
  refine z_sipush (v := 300) dX1_born_4 rfl ?_
  refine z_icmp_ne (tgt := 15) dX1_born_7 rfl (fun h_ => ?_) (fun h_ => ?_)
  · have k := zif h_ k
    refine z_aload_n dX1_born_15 rfl rfl ?_
    refine z_dup dX1_born_16 rfl ?_
    refine z_geti dX1_born_17 fsX1_322_0 ?_
    refine z_dup_x1 dX1_born_20 rfl rfl ?_
    refine z_iconst (v := 1) dX1_born_21 rfl ?_
    refine z_iadd dX1_born_22 ?_
    refine z_puti (by decide) dX1_born_23 (zfwN.w fwX1_322_0) rfl ⟨rfl, rfl⟩ ?_
    refine z_ist dX1_born_26 (by decide) (lv' := [(0, vr (some (16, 0, 0))), (1, vi l1), (2, vi l2), (3, vi l3), (4, vi l4), (5, vi (gi M 16 26))]) rfl ?_
    refine z_aload_n dX1_born_28 rfl rfl ?_
    refine z_getr dX1_born_29 fsX1_93_0 (show gr M 16 13 = some (38, 101, 300) from cw_at hw 6 rfl) ?_
    refine z_iload dX1_born_32 rfl ?_
    refine z_iload_n dX1_born_34 rfl rfl ?_
    refine z_i2b dX1_born_35 ?_
    obtain ⟨b_, k⟩ := k
    refine z_bast (by decide) dX1_born_36 b_ ?_
    refine z_aload_n dX1_born_37 rfl rfl ?_
    refine z_getr dX1_born_38 fsX1_96_0 (show gr M 16 14 = some (39, 101, 300) from cw_at hw 7 rfl) ?_
    refine z_iload dX1_born_41 rfl ?_
    refine z_iconst (v := 0) dX1_born_43 rfl ?_
    obtain ⟨b_, k⟩ := k
    refine z_bast (by decide) dX1_born_44 b_ ?_
    refine z_aload_n dX1_born_45 rfl rfl ?_
    refine z_getr dX1_born_46 fsX1_99_0 (show gr M 16 15 = some (40, 102, 300) from cw_at hw 8 rfl) ?_
    refine z_iload dX1_born_49 rfl ?_
    refine z_iload_n dX1_born_51 rfl rfl ?_
    refine z_i2s dX1_born_52 ?_
    obtain ⟨b_, k⟩ := k
    refine z_sast (by decide) dX1_born_53 b_ ?_
    refine z_aload_n dX1_born_54 rfl rfl ?_
    refine z_getr dX1_born_55 fsX1_103_0 (show gr M 16 16 = some (41, 102, 300) from cw_at hw 9 rfl) ?_
    refine z_iload dX1_born_58 rfl ?_
    refine z_iload_n dX1_born_60 rfl rfl ?_
    refine z_i2s dX1_born_61 ?_
    obtain ⟨b_, k⟩ := k
    refine z_sast (by decide) dX1_born_62 b_ ?_
    refine z_aload_n dX1_born_63 rfl rfl ?_
    refine z_getr dX1_born_64 fsX1_106_0 (show gr M 16 17 = some (42, 102, 300) from cw_at hw 10 rfl) ?_
    refine z_iload dX1_born_67 rfl ?_
    refine z_iload dX1_born_69 rfl ?_
    refine z_i2s dX1_born_71 ?_
    obtain ⟨b_, k⟩ := k
    refine z_sast (by decide) dX1_born_72 b_ ?_
    refine z_aload_n dX1_born_73 rfl rfl ?_
    refine z_getr dX1_born_74 fsX1_109_0 (show gr M 16 18 = some (43, 102, 300) from cw_at hw 11 rfl) ?_
    refine z_iload dX1_born_77 rfl ?_
    refine z_iconst (v := -1) dX1_born_79 rfl ?_
    obtain ⟨b_, k⟩ := k
    refine z_sast (by decide) dX1_born_80 b_ ?_
    refine z_aload_n dX1_born_81 rfl rfl ?_
    refine z_getr dX1_born_82 fsX1_112_0 (show gr M 16 19 = some (44, 102, 300) from cw_at hw 12 rfl) ?_
    refine z_iload dX1_born_85 rfl ?_
    refine z_iconst (v := -1) dX1_born_87 rfl ?_
    obtain ⟨b_, k⟩ := k
    refine z_sast (by decide) dX1_born_88 b_ ?_
    refine z_aload_n dX1_born_89 rfl rfl ?_
    refine z_getr dX1_born_90 fsX1_115_0 (show gr M 16 20 = some (45, 102, 160) from cw_at hw 13 rfl) ?_
    refine z_iload_n dX1_born_93 rfl rfl ?_
    refine z_iload dX1_born_94 rfl ?_
    refine z_i2s dX1_born_96 ?_
    obtain ⟨b_, k⟩ := k
    refine z_sast (by decide) dX1_born_97 b_ ?_
    refine z_iload dX1_born_98 rfl ?_
    exact z_iret dX1_born_100 rfl rfl k
  · have k := zit h_ k
    refine z_aload_n dX1_born_10 rfl rfl ?_
    refine z_getr dX1_born_11 fsX1_137_0 (show gr M 16 30 = some (51, 13, 0) from cw_at hw 19 rfl) ?_
    exact z_athrow dX1_born_14 (ZT.out (by decide) k)
/-! ScriptTypes.setOwn(IIII)V -/
theorem bX1_setOwn_0 : zdec cX1_setOwn 0 [(0, .aload_n 0, 1), (1, .iload_n 1, 1), (2, .iload_n 2, 1), (3, .invokevirtual 346, 3), (6, .istore 5, 2), (8, .iload 5, 2), (10, .iconst (-1), 1), (11, .if_icmp .ne 137, 3), (14, .aload_n 0, 1), (15, .getfield 349, 3), (18, .istore 5, 2), (20, .iload 5, 2), (22, .iconst (-1), 1), (23, .if_icmp .eq 17, 3), (26, .aload_n 0, 1), (27, .aload_n 0, 1)] = true := by decide +kernel
theorem dX1_setOwn_0 : decode cX1_setOwn 0 = .ok (.aload_n 0, 1) := zdec_at bX1_setOwn_0 0 rfl
theorem dX1_setOwn_1 : decode cX1_setOwn 1 = .ok (.iload_n 1, 1) := zdec_at bX1_setOwn_0 1 rfl
theorem dX1_setOwn_2 : decode cX1_setOwn 2 = .ok (.iload_n 2, 1) := zdec_at bX1_setOwn_0 2 rfl
theorem dX1_setOwn_3 : decode cX1_setOwn 3 = .ok (.invokevirtual 346, 3) := zdec_at bX1_setOwn_0 3 rfl
theorem dX1_setOwn_6 : decode cX1_setOwn 6 = .ok (.istore 5, 2) := zdec_at bX1_setOwn_0 4 rfl
theorem dX1_setOwn_8 : decode cX1_setOwn 8 = .ok (.iload 5, 2) := zdec_at bX1_setOwn_0 5 rfl
theorem dX1_setOwn_10 : decode cX1_setOwn 10 = .ok (.iconst (-1), 1) := zdec_at bX1_setOwn_0 6 rfl
theorem dX1_setOwn_11 : decode cX1_setOwn 11 = .ok (.if_icmp .ne 137, 3) := zdec_at bX1_setOwn_0 7 rfl
theorem dX1_setOwn_14 : decode cX1_setOwn 14 = .ok (.aload_n 0, 1) := zdec_at bX1_setOwn_0 8 rfl
theorem dX1_setOwn_15 : decode cX1_setOwn 15 = .ok (.getfield 349, 3) := zdec_at bX1_setOwn_0 9 rfl
theorem dX1_setOwn_18 : decode cX1_setOwn 18 = .ok (.istore 5, 2) := zdec_at bX1_setOwn_0 10 rfl
theorem dX1_setOwn_20 : decode cX1_setOwn 20 = .ok (.iload 5, 2) := zdec_at bX1_setOwn_0 11 rfl
theorem dX1_setOwn_22 : decode cX1_setOwn 22 = .ok (.iconst (-1), 1) := zdec_at bX1_setOwn_0 12 rfl
theorem dX1_setOwn_23 : decode cX1_setOwn 23 = .ok (.if_icmp .eq 17, 3) := zdec_at bX1_setOwn_0 13 rfl
theorem dX1_setOwn_26 : decode cX1_setOwn 26 = .ok (.aload_n 0, 1) := zdec_at bX1_setOwn_0 14 rfl
theorem dX1_setOwn_27 : decode cX1_setOwn 27 = .ok (.aload_n 0, 1) := zdec_at bX1_setOwn_0 15 rfl
theorem bX1_setOwn_28 : zdec cX1_setOwn 28 [(28, .getfield 121, 3), (31, .iload 5, 2), (33, .saload, 1), (34, .putfield 349, 3), (37, .goto 31, 3), (40, .aload_n 0, 1), (41, .getfield 352, 3), (44, .sipush 3000, 3), (47, .if_icmp .ne 8, 3), (50, .aload_n 0, 1), (51, .getfield 137, 3), (54, .athrow, 1), (55, .aload_n 0, 1), (56, .dup, 1), (57, .getfield 352, 3), (60, .dup_x1, 1)] = true := by decide +kernel
theorem dX1_setOwn_28 : decode cX1_setOwn 28 = .ok (.getfield 121, 3) := zdec_at bX1_setOwn_28 0 rfl
theorem dX1_setOwn_31 : decode cX1_setOwn 31 = .ok (.iload 5, 2) := zdec_at bX1_setOwn_28 1 rfl
theorem dX1_setOwn_33 : decode cX1_setOwn 33 = .ok (.saload, 1) := zdec_at bX1_setOwn_28 2 rfl
theorem dX1_setOwn_34 : decode cX1_setOwn 34 = .ok (.putfield 349, 3) := zdec_at bX1_setOwn_28 3 rfl
theorem dX1_setOwn_37 : decode cX1_setOwn 37 = .ok (.goto 31, 3) := zdec_at bX1_setOwn_28 4 rfl
theorem dX1_setOwn_40 : decode cX1_setOwn 40 = .ok (.aload_n 0, 1) := zdec_at bX1_setOwn_28 5 rfl
theorem dX1_setOwn_41 : decode cX1_setOwn 41 = .ok (.getfield 352, 3) := zdec_at bX1_setOwn_28 6 rfl
theorem dX1_setOwn_44 : decode cX1_setOwn 44 = .ok (.sipush 3000, 3) := zdec_at bX1_setOwn_28 7 rfl
theorem dX1_setOwn_47 : decode cX1_setOwn 47 = .ok (.if_icmp .ne 8, 3) := zdec_at bX1_setOwn_28 8 rfl
theorem dX1_setOwn_50 : decode cX1_setOwn 50 = .ok (.aload_n 0, 1) := zdec_at bX1_setOwn_28 9 rfl
theorem dX1_setOwn_51 : decode cX1_setOwn 51 = .ok (.getfield 137, 3) := zdec_at bX1_setOwn_28 10 rfl
theorem dX1_setOwn_54 : decode cX1_setOwn 54 = .ok (.athrow, 1) := zdec_at bX1_setOwn_28 11 rfl
theorem dX1_setOwn_55 : decode cX1_setOwn 55 = .ok (.aload_n 0, 1) := zdec_at bX1_setOwn_28 12 rfl
theorem dX1_setOwn_56 : decode cX1_setOwn 56 = .ok (.dup, 1) := zdec_at bX1_setOwn_28 13 rfl
theorem dX1_setOwn_57 : decode cX1_setOwn 57 = .ok (.getfield 352, 3) := zdec_at bX1_setOwn_28 14 rfl
theorem dX1_setOwn_60 : decode cX1_setOwn 60 = .ok (.dup_x1, 1) := zdec_at bX1_setOwn_28 15 rfl
theorem bX1_setOwn_61 : zdec cX1_setOwn 61 [(61, .iconst 1, 1), (62, .iadd, 1), (63, .putfield 352, 3), (66, .istore 5, 2), (68, .aload_n 0, 1), (69, .getfield 118, 3), (72, .iload 5, 2), (74, .iload_n 2, 1), (75, .i2s, 1), (76, .sastore, 1), (77, .aload_n 0, 1), (78, .getfield 121, 3), (81, .iload 5, 2), (83, .iconst (-1), 1), (84, .sastore, 1), (85, .aload_n 0, 1)] = true := by decide +kernel
theorem dX1_setOwn_61 : decode cX1_setOwn 61 = .ok (.iconst 1, 1) := zdec_at bX1_setOwn_61 0 rfl
theorem dX1_setOwn_62 : decode cX1_setOwn 62 = .ok (.iadd, 1) := zdec_at bX1_setOwn_61 1 rfl
theorem dX1_setOwn_63 : decode cX1_setOwn 63 = .ok (.putfield 352, 3) := zdec_at bX1_setOwn_61 2 rfl
theorem dX1_setOwn_66 : decode cX1_setOwn 66 = .ok (.istore 5, 2) := zdec_at bX1_setOwn_61 3 rfl
theorem dX1_setOwn_68 : decode cX1_setOwn 68 = .ok (.aload_n 0, 1) := zdec_at bX1_setOwn_61 4 rfl
theorem dX1_setOwn_69 : decode cX1_setOwn 69 = .ok (.getfield 118, 3) := zdec_at bX1_setOwn_61 5 rfl
theorem dX1_setOwn_72 : decode cX1_setOwn 72 = .ok (.iload 5, 2) := zdec_at bX1_setOwn_61 6 rfl
theorem dX1_setOwn_74 : decode cX1_setOwn 74 = .ok (.iload_n 2, 1) := zdec_at bX1_setOwn_61 7 rfl
theorem dX1_setOwn_75 : decode cX1_setOwn 75 = .ok (.i2s, 1) := zdec_at bX1_setOwn_61 8 rfl
theorem dX1_setOwn_76 : decode cX1_setOwn 76 = .ok (.sastore, 1) := zdec_at bX1_setOwn_61 9 rfl
theorem dX1_setOwn_77 : decode cX1_setOwn 77 = .ok (.aload_n 0, 1) := zdec_at bX1_setOwn_61 10 rfl
theorem dX1_setOwn_78 : decode cX1_setOwn 78 = .ok (.getfield 121, 3) := zdec_at bX1_setOwn_61 11 rfl
theorem dX1_setOwn_81 : decode cX1_setOwn 81 = .ok (.iload 5, 2) := zdec_at bX1_setOwn_61 12 rfl
theorem dX1_setOwn_83 : decode cX1_setOwn 83 = .ok (.iconst (-1), 1) := zdec_at bX1_setOwn_61 13 rfl
theorem dX1_setOwn_84 : decode cX1_setOwn 84 = .ok (.sastore, 1) := zdec_at bX1_setOwn_61 14 rfl
theorem dX1_setOwn_85 : decode cX1_setOwn 85 = .ok (.aload_n 0, 1) := zdec_at bX1_setOwn_61 15 rfl
theorem bX1_setOwn_86 : zdec cX1_setOwn 86 [(86, .getfield 131, 3), (89, .iload 5, 2), (91, .aload_n 0, 1), (92, .dup, 1), (93, .getfield 355, 3), (96, .iconst 1, 1), (97, .iadd, 1), (98, .dup_x1, 1), (99, .putfield 355, 3), (102, .iastore, 1), (103, .aload_n 0, 1), (104, .getfield 109, 3), (107, .iload_n 1, 1), (108, .saload, 1), (109, .iconst (-1), 1), (110, .if_icmp .ne 15, 3)] = true := by decide +kernel
theorem dX1_setOwn_86 : decode cX1_setOwn 86 = .ok (.getfield 131, 3) := zdec_at bX1_setOwn_86 0 rfl
theorem dX1_setOwn_89 : decode cX1_setOwn 89 = .ok (.iload 5, 2) := zdec_at bX1_setOwn_86 1 rfl
theorem dX1_setOwn_91 : decode cX1_setOwn 91 = .ok (.aload_n 0, 1) := zdec_at bX1_setOwn_86 2 rfl
theorem dX1_setOwn_92 : decode cX1_setOwn 92 = .ok (.dup, 1) := zdec_at bX1_setOwn_86 3 rfl
theorem dX1_setOwn_93 : decode cX1_setOwn 93 = .ok (.getfield 355, 3) := zdec_at bX1_setOwn_86 4 rfl
theorem dX1_setOwn_96 : decode cX1_setOwn 96 = .ok (.iconst 1, 1) := zdec_at bX1_setOwn_86 5 rfl
theorem dX1_setOwn_97 : decode cX1_setOwn 97 = .ok (.iadd, 1) := zdec_at bX1_setOwn_86 6 rfl
theorem dX1_setOwn_98 : decode cX1_setOwn 98 = .ok (.dup_x1, 1) := zdec_at bX1_setOwn_86 7 rfl
theorem dX1_setOwn_99 : decode cX1_setOwn 99 = .ok (.putfield 355, 3) := zdec_at bX1_setOwn_86 8 rfl
theorem dX1_setOwn_102 : decode cX1_setOwn 102 = .ok (.iastore, 1) := zdec_at bX1_setOwn_86 9 rfl
theorem dX1_setOwn_103 : decode cX1_setOwn 103 = .ok (.aload_n 0, 1) := zdec_at bX1_setOwn_86 10 rfl
theorem dX1_setOwn_104 : decode cX1_setOwn 104 = .ok (.getfield 109, 3) := zdec_at bX1_setOwn_86 11 rfl
theorem dX1_setOwn_107 : decode cX1_setOwn 107 = .ok (.iload_n 1, 1) := zdec_at bX1_setOwn_86 12 rfl
theorem dX1_setOwn_108 : decode cX1_setOwn 108 = .ok (.saload, 1) := zdec_at bX1_setOwn_86 13 rfl
theorem dX1_setOwn_109 : decode cX1_setOwn 109 = .ok (.iconst (-1), 1) := zdec_at bX1_setOwn_86 14 rfl
theorem dX1_setOwn_110 : decode cX1_setOwn 110 = .ok (.if_icmp .ne 15, 3) := zdec_at bX1_setOwn_86 15 rfl
theorem bX1_setOwn_113 : zdec cX1_setOwn 113 [(113, .aload_n 0, 1), (114, .getfield 109, 3), (117, .iload_n 1, 1), (118, .iload 5, 2), (120, .i2s, 1), (121, .sastore, 1), (122, .goto 17, 3), (125, .aload_n 0, 1), (126, .getfield 121, 3), (129, .aload_n 0, 1), (130, .getfield 112, 3), (133, .iload_n 1, 1), (134, .saload, 1), (135, .iload 5, 2), (137, .i2s, 1), (138, .sastore, 1)] = true := by decide +kernel
theorem dX1_setOwn_113 : decode cX1_setOwn 113 = .ok (.aload_n 0, 1) := zdec_at bX1_setOwn_113 0 rfl
theorem dX1_setOwn_114 : decode cX1_setOwn 114 = .ok (.getfield 109, 3) := zdec_at bX1_setOwn_113 1 rfl
theorem dX1_setOwn_117 : decode cX1_setOwn 117 = .ok (.iload_n 1, 1) := zdec_at bX1_setOwn_113 2 rfl
theorem dX1_setOwn_118 : decode cX1_setOwn 118 = .ok (.iload 5, 2) := zdec_at bX1_setOwn_113 3 rfl
theorem dX1_setOwn_120 : decode cX1_setOwn 120 = .ok (.i2s, 1) := zdec_at bX1_setOwn_113 4 rfl
theorem dX1_setOwn_121 : decode cX1_setOwn 121 = .ok (.sastore, 1) := zdec_at bX1_setOwn_113 5 rfl
theorem dX1_setOwn_122 : decode cX1_setOwn 122 = .ok (.goto 17, 3) := zdec_at bX1_setOwn_113 6 rfl
theorem dX1_setOwn_125 : decode cX1_setOwn 125 = .ok (.aload_n 0, 1) := zdec_at bX1_setOwn_113 7 rfl
theorem dX1_setOwn_126 : decode cX1_setOwn 126 = .ok (.getfield 121, 3) := zdec_at bX1_setOwn_113 8 rfl
theorem dX1_setOwn_129 : decode cX1_setOwn 129 = .ok (.aload_n 0, 1) := zdec_at bX1_setOwn_113 9 rfl
theorem dX1_setOwn_130 : decode cX1_setOwn 130 = .ok (.getfield 112, 3) := zdec_at bX1_setOwn_113 10 rfl
theorem dX1_setOwn_133 : decode cX1_setOwn 133 = .ok (.iload_n 1, 1) := zdec_at bX1_setOwn_113 11 rfl
theorem dX1_setOwn_134 : decode cX1_setOwn 134 = .ok (.saload, 1) := zdec_at bX1_setOwn_113 12 rfl
theorem dX1_setOwn_135 : decode cX1_setOwn 135 = .ok (.iload 5, 2) := zdec_at bX1_setOwn_113 13 rfl
theorem dX1_setOwn_137 : decode cX1_setOwn 137 = .ok (.i2s, 1) := zdec_at bX1_setOwn_113 14 rfl
theorem dX1_setOwn_138 : decode cX1_setOwn 138 = .ok (.sastore, 1) := zdec_at bX1_setOwn_113 15 rfl
theorem bX1_setOwn_139 : zdec cX1_setOwn 139 [(139, .aload_n 0, 1), (140, .getfield 112, 3), (143, .iload_n 1, 1), (144, .iload 5, 2), (146, .i2s, 1), (147, .sastore, 1), (148, .aload_n 0, 1), (149, .getfield 124, 3), (152, .iload 5, 2), (154, .iload_n 3, 1), (155, .i2b, 1), (156, .bastore, 1), (157, .aload_n 0, 1), (158, .getfield 127, 3), (161, .iload 5, 2), (163, .iload 4, 2)] = true := by decide +kernel
theorem dX1_setOwn_139 : decode cX1_setOwn 139 = .ok (.aload_n 0, 1) := zdec_at bX1_setOwn_139 0 rfl
theorem dX1_setOwn_140 : decode cX1_setOwn 140 = .ok (.getfield 112, 3) := zdec_at bX1_setOwn_139 1 rfl
theorem dX1_setOwn_143 : decode cX1_setOwn 143 = .ok (.iload_n 1, 1) := zdec_at bX1_setOwn_139 2 rfl
theorem dX1_setOwn_144 : decode cX1_setOwn 144 = .ok (.iload 5, 2) := zdec_at bX1_setOwn_139 3 rfl
theorem dX1_setOwn_146 : decode cX1_setOwn 146 = .ok (.i2s, 1) := zdec_at bX1_setOwn_139 4 rfl
theorem dX1_setOwn_147 : decode cX1_setOwn 147 = .ok (.sastore, 1) := zdec_at bX1_setOwn_139 5 rfl
theorem dX1_setOwn_148 : decode cX1_setOwn 148 = .ok (.aload_n 0, 1) := zdec_at bX1_setOwn_139 6 rfl
theorem dX1_setOwn_149 : decode cX1_setOwn 149 = .ok (.getfield 124, 3) := zdec_at bX1_setOwn_139 7 rfl
theorem dX1_setOwn_152 : decode cX1_setOwn 152 = .ok (.iload 5, 2) := zdec_at bX1_setOwn_139 8 rfl
theorem dX1_setOwn_154 : decode cX1_setOwn 154 = .ok (.iload_n 3, 1) := zdec_at bX1_setOwn_139 9 rfl
theorem dX1_setOwn_155 : decode cX1_setOwn 155 = .ok (.i2b, 1) := zdec_at bX1_setOwn_139 10 rfl
theorem dX1_setOwn_156 : decode cX1_setOwn 156 = .ok (.bastore, 1) := zdec_at bX1_setOwn_139 11 rfl
theorem dX1_setOwn_157 : decode cX1_setOwn 157 = .ok (.aload_n 0, 1) := zdec_at bX1_setOwn_139 12 rfl
theorem dX1_setOwn_158 : decode cX1_setOwn 158 = .ok (.getfield 127, 3) := zdec_at bX1_setOwn_139 13 rfl
theorem dX1_setOwn_161 : decode cX1_setOwn 161 = .ok (.iload 5, 2) := zdec_at bX1_setOwn_139 14 rfl
theorem dX1_setOwn_163 : decode cX1_setOwn 163 = .ok (.iload 4, 2) := zdec_at bX1_setOwn_139 15 rfl
theorem bX1_setOwn_165 : zdec cX1_setOwn 165 [(165, .iastore, 1), (166, .return_, 1)] = true := by decide +kernel
theorem dX1_setOwn_165 : decode cX1_setOwn 165 = .ok (.iastore, 1) := zdec_at bX1_setOwn_165 0 rfl
theorem dX1_setOwn_166 : decode cX1_setOwn 166 = .ok (.return_, 1) := zdec_at bX1_setOwn_165 1 rfl
theorem sX1_setOwn_0 {E : zE} {d : Nat} {Q : zO → zM → Prop} (M : zM) (l1 : Int32) (l2 : Int32) (l3 : Int32) (l4 : Int32) (hw : cw M) (k : Z E YX1_own d M (zargs 0 [vr (some (16, 0, 0)), vi l1, vi l2]) 0 [] (zafter E YX1_setOwn (d + 1) [(0, vr (some (16, 0, 0))), (1, vi l1), (2, vi l2), (3, vi l3), (4, vi l4)] 3 3 [] Q)) : Z E YX1_setOwn (d + 1) M [(0, vr (some (16, 0, 0))), (1, vi l1), (2, vi l2), (3, vi l3), (4, vi l4)] 0 [] Q := by
  refine z_aload_n dX1_setOwn_0 rfl rfl ?_
  refine z_iload_n dX1_setOwn_1 rfl rfl ?_
  refine z_iload_n dX1_setOwn_2 rfl rfl ?_
  exact z_callV (as := [vi l1, vi l2]) (st := []) dX1_setOwn_3 vsX1_346_0 (Nat.le_refl _) (Nat.le_of_ble_eq_true rfl) (Nat.le_of_ble_eq_true rfl) rfl k
theorem sX1_setOwn_6 {E : zE} {d : Nat} {Q : zO → zM → Prop} (M : zM) (l1 : Int32) (l2 : Int32) (l3 : Int32) (l4 : Int32) (s0 : Int32) (hw : cw M) (k : if s0 = (-1 : Int32) then (if (gi M 16 28) = (-1 : Int32) then (if (gi M 16 27) = (3000 : Int32) then (Q (.inr (51, 13, 0)) M) else (Z E YX1_setOwn (d + 1) (si M 16 27 ((gi M 16 27) + (1 : Int32))) [(0, vr (some (16, 0, 0))), (1, vi l1), (2, vi l2), (3, vi l3), (4, vi l4), (5, vi (gi M 16 27))] 68 [] Q)) else (vp_in (gi M 16 28) 3000 ∧ (Z E YX1_setOwn (d + 1) (si M 16 28 (gi M 47 ((gi M 16 28)).toNatClampNeg)) [(0, vr (some (16, 0, 0))), (1, vi l1), (2, vi l2), (3, vi l3), (4, vi l4), (5, vi (gi M 16 28))] 68 [] Q))) else (Z E YX1_setOwn (d + 1) M [(0, vr (some (16, 0, 0))), (3, vi l3), (4, vi l4), (5, vi s0)] 148 [] Q)) : Z E YX1_setOwn (d + 1) M [(0, vr (some (16, 0, 0))), (1, vi l1), (2, vi l2), (3, vi l3), (4, vi l4)] 6 [vi s0] Q := by
  refine z_ist dX1_setOwn_6 (by decide) (lv' := [(0, vr (some (16, 0, 0))), (1, vi l1), (2, vi l2), (3, vi l3), (4, vi l4), (5, vi s0)]) rfl ?_
  refine z_iload dX1_setOwn_8 rfl ?_
  refine z_iconst (v := -1) dX1_setOwn_10 rfl ?_
  refine z_icmp_ne (tgt := 148) dX1_setOwn_11 rfl (fun h_ => ?_) (fun h_ => ?_)
  · have k := zif h_ k
    refine Z.pick [0, 3, 4, 5] rfl ?_
    exact k
  · have k := zit h_ k
    refine z_aload_n dX1_setOwn_14 rfl rfl ?_
    refine z_geti dX1_setOwn_15 fsX1_349_0 ?_
    refine z_ist dX1_setOwn_18 (by decide) (lv' := [(0, vr (some (16, 0, 0))), (1, vi l1), (2, vi l2), (3, vi l3), (4, vi l4), (5, vi (gi M 16 28))]) rfl ?_
    refine z_iload dX1_setOwn_20 rfl ?_
    refine z_iconst (v := -1) dX1_setOwn_22 rfl ?_
    refine z_icmp_eq (tgt := 40) dX1_setOwn_23 rfl (fun h_ => ?_) (fun h_ => ?_)
    · have k := zit h_ k
      refine z_aload_n dX1_setOwn_40 rfl rfl ?_
      refine z_geti dX1_setOwn_41 fsX1_352_0 ?_
      refine z_sipush (v := 3000) dX1_setOwn_44 rfl ?_
      refine z_icmp_ne (tgt := 55) dX1_setOwn_47 rfl (fun h_ => ?_) (fun h_ => ?_)
      · have k := zif h_ k
        refine z_aload_n dX1_setOwn_55 rfl rfl ?_
        refine z_dup dX1_setOwn_56 rfl ?_
        refine z_geti dX1_setOwn_57 fsX1_352_0 ?_
        refine z_dup_x1 dX1_setOwn_60 rfl rfl ?_
        refine z_iconst (v := 1) dX1_setOwn_61 rfl ?_
        refine z_iadd dX1_setOwn_62 ?_
        refine z_puti (by decide) dX1_setOwn_63 (zfwN.w fwX1_352_0) rfl ⟨rfl, rfl⟩ ?_
        refine z_ist dX1_setOwn_66 (by decide) (lv' := [(0, vr (some (16, 0, 0))), (1, vi l1), (2, vi l2), (3, vi l3), (4, vi l4), (5, vi (gi M 16 27))]) rfl ?_
        exact k
      · have k := zit h_ k
        refine z_aload_n dX1_setOwn_50 rfl rfl ?_
        refine z_getr dX1_setOwn_51 fsX1_137_0 (show gr M 16 30 = some (51, 13, 0) from cw_at hw 19 rfl) ?_
        exact z_athrow dX1_setOwn_54 (ZT.out (by decide) k)
    · have k := zif h_ k
      refine z_aload_n dX1_setOwn_26 rfl rfl ?_
      refine z_aload_n dX1_setOwn_27 rfl rfl ?_
      refine z_getr dX1_setOwn_28 fsX1_121_0 (show gr M 16 22 = some (47, 102, 3000) from cw_at hw 15 rfl) ?_
      refine z_iload dX1_setOwn_31 rfl ?_
      obtain ⟨b_, k⟩ := k
      refine z_sald dX1_setOwn_33 b_ ?_
      refine z_puti (by decide) dX1_setOwn_34 (zfwN.w fwX1_349_0) rfl ⟨rfl, rfl⟩ ?_
      refine z_goto (tgt := 68) dX1_setOwn_37 rfl ?_
      exact k
theorem sX1_setOwn_68 {E : zE} {d : Nat} {Q : zO → zM → Prop} (M : zM) (l1 : Int32) (l2 : Int32) (l3 : Int32) (l4 : Int32) (l5 : Int32) (hw : cw M) (k : vp_in l5 3000 ∧ (vp_in l5 3000 ∧ (vp_in l5 3000 ∧ (vp_in l1 300 ∧ (if (gi M 43 (l1).toNatClampNeg) = (-1 : Int32) then (vp_in l1 300 ∧ (vp_in l1 300 ∧ (Z E YX1_setOwn (d + 1) (si (si (si (si (si (si M 46 (l5).toNatClampNeg (vp_nar .short (l2).toInt16.toInt32)) 47 (l5).toNatClampNeg (vp_nar .short (-1 : Int32))) 16 29 ((gi M 16 29) + (1 : Int32))) 50 (l5).toNatClampNeg ((gi M 16 29) + (1 : Int32))) 43 (l1).toNatClampNeg (vp_nar .short (l5).toInt16.toInt32)) 44 (l1).toNatClampNeg (vp_nar .short (l5).toInt16.toInt32)) [(0, vr (some (16, 0, 0))), (3, vi l3), (4, vi l4), (5, vi l5)] 148 [] Q))) else (vp_in l1 300 ∧ (vp_in (gi M 44 (l1).toNatClampNeg) 3000 ∧ (vp_in l1 300 ∧ (Z E YX1_setOwn (d + 1) (si (si (si (si (si (si M 46 (l5).toNatClampNeg (vp_nar .short (l2).toInt16.toInt32)) 47 (l5).toNatClampNeg (vp_nar .short (-1 : Int32))) 16 29 ((gi M 16 29) + (1 : Int32))) 50 (l5).toNatClampNeg ((gi M 16 29) + (1 : Int32))) 47 ((gi M 44 (l1).toNatClampNeg)).toNatClampNeg (vp_nar .short (l5).toInt16.toInt32)) 44 (l1).toNatClampNeg (vp_nar .short (l5).toInt16.toInt32)) [(0, vr (some (16, 0, 0))), (3, vi l3), (4, vi l4), (5, vi l5)] 148 [] Q))))))))) : Z E YX1_setOwn (d + 1) M [(0, vr (some (16, 0, 0))), (1, vi l1), (2, vi l2), (3, vi l3), (4, vi l4), (5, vi l5)] 68 [] Q := by
  refine z_aload_n dX1_setOwn_68 rfl rfl ?_
  refine z_getr dX1_setOwn_69 fsX1_118_0 (show gr M 16 21 = some (46, 102, 3000) from cw_at hw 14 rfl) ?_
  refine z_iload dX1_setOwn_72 rfl ?_
  refine z_iload_n dX1_setOwn_74 rfl rfl ?_
  refine z_i2s dX1_setOwn_75 ?_
  obtain ⟨b_, k⟩ := k
  refine z_sast (by decide) dX1_setOwn_76 b_ ?_
  refine z_aload_n dX1_setOwn_77 rfl rfl ?_
  refine z_getr dX1_setOwn_78 fsX1_121_0 (show gr M 16 22 = some (47, 102, 3000) from cw_at hw 15 rfl) ?_
  refine z_iload dX1_setOwn_81 rfl ?_
  refine z_iconst (v := -1) dX1_setOwn_83 rfl ?_
  obtain ⟨b_, k⟩ := k
  refine z_sast (by decide) dX1_setOwn_84 b_ ?_
  refine z_aload_n dX1_setOwn_85 rfl rfl ?_
  refine z_getr dX1_setOwn_86 fsX1_131_0 (show gr M 16 25 = some (50, 100, 3000) from cw_at hw 18 rfl) ?_
  refine z_iload dX1_setOwn_89 rfl ?_
  refine z_aload_n dX1_setOwn_91 rfl rfl ?_
  refine z_dup dX1_setOwn_92 rfl ?_
  refine z_geti dX1_setOwn_93 fsX1_355_0 ?_
  refine z_iconst (v := 1) dX1_setOwn_96 rfl ?_
  refine z_iadd dX1_setOwn_97 ?_
  refine z_dup_x1 dX1_setOwn_98 rfl rfl ?_
  refine z_puti (by decide) dX1_setOwn_99 (zfwN.w fwX1_355_0) rfl ⟨rfl, rfl⟩ ?_
  obtain ⟨b_, k⟩ := k
  refine z_iast (by decide) dX1_setOwn_102 b_ ?_
  refine z_aload_n dX1_setOwn_103 rfl rfl ?_
  refine z_getr dX1_setOwn_104 fsX1_109_0 (show gr M 16 18 = some (43, 102, 300) from cw_at hw 11 rfl) ?_
  refine z_iload_n dX1_setOwn_107 rfl rfl ?_
  obtain ⟨b_, k⟩ := k
  refine z_sald dX1_setOwn_108 b_ ?_
  refine z_iconst (v := -1) dX1_setOwn_109 rfl ?_
  refine z_icmp_ne (tgt := 125) dX1_setOwn_110 rfl (fun h_ => ?_) (fun h_ => ?_)
  · have k := zif h_ k
    refine z_aload_n dX1_setOwn_125 rfl rfl ?_
    refine z_getr dX1_setOwn_126 fsX1_121_0 (show gr M 16 22 = some (47, 102, 3000) from cw_at hw 15 rfl) ?_
    refine z_aload_n dX1_setOwn_129 rfl rfl ?_
    refine z_getr dX1_setOwn_130 fsX1_112_0 (show gr M 16 19 = some (44, 102, 300) from cw_at hw 12 rfl) ?_
    refine z_iload_n dX1_setOwn_133 rfl rfl ?_
    obtain ⟨b_, k⟩ := k
    refine z_sald dX1_setOwn_134 b_ ?_
    refine z_iload dX1_setOwn_135 rfl ?_
    refine z_i2s dX1_setOwn_137 ?_
    obtain ⟨b_, k⟩ := k
    refine z_sast (by decide) dX1_setOwn_138 b_ ?_
    refine z_aload_n dX1_setOwn_139 rfl rfl ?_
    refine z_getr dX1_setOwn_140 fsX1_112_0 (show gr M 16 19 = some (44, 102, 300) from cw_at hw 12 rfl) ?_
    refine z_iload_n dX1_setOwn_143 rfl rfl ?_
    refine z_iload dX1_setOwn_144 rfl ?_
    refine z_i2s dX1_setOwn_146 ?_
    obtain ⟨b_, k⟩ := k
    refine z_sast (by decide) dX1_setOwn_147 b_ ?_
    refine Z.pick [0, 3, 4, 5] rfl ?_
    exact k
  · have k := zit h_ k
    refine z_aload_n dX1_setOwn_113 rfl rfl ?_
    refine z_getr dX1_setOwn_114 fsX1_109_0 (show gr M 16 18 = some (43, 102, 300) from cw_at hw 11 rfl) ?_
    refine z_iload_n dX1_setOwn_117 rfl rfl ?_
    refine z_iload dX1_setOwn_118 rfl ?_
    refine z_i2s dX1_setOwn_120 ?_
    obtain ⟨b_, k⟩ := k
    refine z_sast (by decide) dX1_setOwn_121 b_ ?_
    refine z_goto (tgt := 139) dX1_setOwn_122 rfl ?_
    refine z_aload_n dX1_setOwn_139 rfl rfl ?_
    refine z_getr dX1_setOwn_140 fsX1_112_0 (show gr M 16 19 = some (44, 102, 300) from cw_at hw 12 rfl) ?_
    refine z_iload_n dX1_setOwn_143 rfl rfl ?_
    refine z_iload dX1_setOwn_144 rfl ?_
    refine z_i2s dX1_setOwn_146 ?_
    obtain ⟨b_, k⟩ := k
    refine z_sast (by decide) dX1_setOwn_147 b_ ?_
    refine Z.pick [0, 3, 4, 5] rfl ?_
    exact k
theorem sX1_setOwn_148 {E : zE} {d : Nat} {Q : zO → zM → Prop} (M : zM) (l3 : Int32) (l4 : Int32) (l5 : Int32) (hw : cw M) (k : vp_in l5 3000 ∧ (vp_in l5 3000 ∧ (Q (.inl none) (si (si M 48 (l5).toNatClampNeg (vp_nar .byte (l3).toInt8.toInt32)) 49 (l5).toNatClampNeg l4)))) : Z E YX1_setOwn (d + 1) M [(0, vr (some (16, 0, 0))), (3, vi l3), (4, vi l4), (5, vi l5)] 148 [] Q := by
  refine z_aload_n dX1_setOwn_148 rfl rfl ?_
  refine z_getr dX1_setOwn_149 fsX1_124_0 (show gr M 16 23 = some (48, 101, 3000) from cw_at hw 16 rfl) ?_
  refine z_iload dX1_setOwn_152 rfl ?_
  refine z_iload_n dX1_setOwn_154 rfl rfl ?_
  refine z_i2b dX1_setOwn_155 ?_
  obtain ⟨b_, k⟩ := k
  refine z_bast (by decide) dX1_setOwn_156 b_ ?_
  refine z_aload_n dX1_setOwn_157 rfl rfl ?_
  refine z_getr dX1_setOwn_158 fsX1_127_0 (show gr M 16 24 = some (49, 100, 3000) from cw_at hw 17 rfl) ?_
  refine z_iload dX1_setOwn_161 rfl ?_
  refine z_iload dX1_setOwn_163 rfl ?_
  obtain ⟨b_, k⟩ := k
  refine z_iast (by decide) dX1_setOwn_165 b_ ?_
  exact z_vret dX1_setOwn_166 rfl k
/-! ScriptTypes.own(II)I -/
theorem bX1_own_0 : zdec cX1_own 0 [(0, .aload_n 0, 1), (1, .getfield 109, 3), (4, .iload_n 1, 1), (5, .saload, 1), (6, .istore_n 3, 1), (7, .iload_n 3, 1), (8, .iconst (-1), 1), (9, .if_icmp .eq 23, 3), (12, .aload_n 0, 1), (13, .getfield 118, 3), (16, .iload_n 3, 1), (17, .saload, 1), (18, .iload_n 2, 1), (19, .if_icmp .eq 13, 3), (22, .aload_n 0, 1), (23, .getfield 121, 3)] = true := by decide +kernel
theorem dX1_own_0 : decode cX1_own 0 = .ok (.aload_n 0, 1) := zdec_at bX1_own_0 0 rfl
theorem dX1_own_1 : decode cX1_own 1 = .ok (.getfield 109, 3) := zdec_at bX1_own_0 1 rfl
theorem dX1_own_4 : decode cX1_own 4 = .ok (.iload_n 1, 1) := zdec_at bX1_own_0 2 rfl
theorem dX1_own_5 : decode cX1_own 5 = .ok (.saload, 1) := zdec_at bX1_own_0 3 rfl
theorem dX1_own_6 : decode cX1_own 6 = .ok (.istore_n 3, 1) := zdec_at bX1_own_0 4 rfl
theorem dX1_own_7 : decode cX1_own 7 = .ok (.iload_n 3, 1) := zdec_at bX1_own_0 5 rfl
theorem dX1_own_8 : decode cX1_own 8 = .ok (.iconst (-1), 1) := zdec_at bX1_own_0 6 rfl
theorem dX1_own_9 : decode cX1_own 9 = .ok (.if_icmp .eq 23, 3) := zdec_at bX1_own_0 7 rfl
theorem dX1_own_12 : decode cX1_own 12 = .ok (.aload_n 0, 1) := zdec_at bX1_own_0 8 rfl
theorem dX1_own_13 : decode cX1_own 13 = .ok (.getfield 118, 3) := zdec_at bX1_own_0 9 rfl
theorem dX1_own_16 : decode cX1_own 16 = .ok (.iload_n 3, 1) := zdec_at bX1_own_0 10 rfl
theorem dX1_own_17 : decode cX1_own 17 = .ok (.saload, 1) := zdec_at bX1_own_0 11 rfl
theorem dX1_own_18 : decode cX1_own 18 = .ok (.iload_n 2, 1) := zdec_at bX1_own_0 12 rfl
theorem dX1_own_19 : decode cX1_own 19 = .ok (.if_icmp .eq 13, 3) := zdec_at bX1_own_0 13 rfl
theorem dX1_own_22 : decode cX1_own 22 = .ok (.aload_n 0, 1) := zdec_at bX1_own_0 14 rfl
theorem dX1_own_23 : decode cX1_own 23 = .ok (.getfield 121, 3) := zdec_at bX1_own_0 15 rfl
theorem bX1_own_26 : zdec cX1_own 26 [(26, .iload_n 3, 1), (27, .saload, 1), (28, .istore_n 3, 1), (29, .goto (-22), 3), (32, .iload_n 3, 1), (33, .ireturn, 1)] = true := by decide +kernel
theorem dX1_own_26 : decode cX1_own 26 = .ok (.iload_n 3, 1) := zdec_at bX1_own_26 0 rfl
theorem dX1_own_27 : decode cX1_own 27 = .ok (.saload, 1) := zdec_at bX1_own_26 1 rfl
theorem dX1_own_28 : decode cX1_own 28 = .ok (.istore_n 3, 1) := zdec_at bX1_own_26 2 rfl
theorem dX1_own_29 : decode cX1_own 29 = .ok (.goto (-22), 3) := zdec_at bX1_own_26 3 rfl
theorem dX1_own_32 : decode cX1_own 32 = .ok (.iload_n 3, 1) := zdec_at bX1_own_26 4 rfl
theorem dX1_own_33 : decode cX1_own 33 = .ok (.ireturn, 1) := zdec_at bX1_own_26 5 rfl
theorem sX1_own_0 {E : zE} {d : Nat} {Q : zO → zM → Prop} (M : zM) (l1 : Int32) (l2 : Int32) (hw : cw M) (k : vp_in l1 300 ∧ (Z E YX1_own d M [(0, vr (some (16, 0, 0))), (2, vi l2), (3, vi (gi M 43 (l1).toNatClampNeg))] 7 [] Q)) : Z E YX1_own d M [(0, vr (some (16, 0, 0))), (1, vi l1), (2, vi l2)] 0 [] Q := by
  refine z_aload_n dX1_own_0 rfl rfl ?_
  refine z_getr dX1_own_1 fsX1_109_0 (show gr M 16 18 = some (43, 102, 300) from cw_at hw 11 rfl) ?_
  refine z_iload_n dX1_own_4 rfl rfl ?_
  obtain ⟨b_, k⟩ := k
  refine z_sald dX1_own_5 b_ ?_
  refine z_ist_n dX1_own_6 rfl (by decide) (lv' := [(0, vr (some (16, 0, 0))), (1, vi l1), (2, vi l2), (3, vi (gi M 43 (l1).toNatClampNeg))]) rfl ?_
  refine Z.pick [0, 2, 3] rfl ?_
  exact k
theorem sX1_own_7 {E : zE} {d : Nat} {Q : zO → zM → Prop} (M : zM) (l2 : Int32) (l3 : Int32) (hw : cw M) (k : if l3 = (-1 : Int32) then (Q (.inl (some (vi l3))) M) else (vp_in l3 3000 ∧ (if (gi M 46 (l3).toNatClampNeg) = l2 then (Q (.inl (some (vi l3))) M) else (vp_in l3 3000 ∧ (Z E YX1_own d M [(0, vr (some (16, 0, 0))), (2, vi l2), (3, vi (gi M 47 (l3).toNatClampNeg))] 7 [] Q))))) : Z E YX1_own d M [(0, vr (some (16, 0, 0))), (2, vi l2), (3, vi l3)] 7 [] Q := by
  refine z_iload_n dX1_own_7 rfl rfl ?_
  refine z_iconst (v := -1) dX1_own_8 rfl ?_
  refine z_icmp_eq (tgt := 32) dX1_own_9 rfl (fun h_ => ?_) (fun h_ => ?_)
  · have k := zit h_ k
    refine z_iload_n dX1_own_32 rfl rfl ?_
    exact z_iret dX1_own_33 rfl rfl k
  · have k := zif h_ k
    refine z_aload_n dX1_own_12 rfl rfl ?_
    refine z_getr dX1_own_13 fsX1_118_0 (show gr M 16 21 = some (46, 102, 3000) from cw_at hw 14 rfl) ?_
    refine z_iload_n dX1_own_16 rfl rfl ?_
    obtain ⟨b_, k⟩ := k
    refine z_sald dX1_own_17 b_ ?_
    refine z_iload_n dX1_own_18 rfl rfl ?_
    refine z_icmp_eq (tgt := 32) dX1_own_19 rfl (fun h_ => ?_) (fun h_ => ?_)
    · have k := zit h_ k
      refine z_iload_n dX1_own_32 rfl rfl ?_
      exact z_iret dX1_own_33 rfl rfl k
    · have k := zif h_ k
      refine z_aload_n dX1_own_22 rfl rfl ?_
      refine z_getr dX1_own_23 fsX1_121_0 (show gr M 16 22 = some (47, 102, 3000) from cw_at hw 15 rfl) ?_
      refine z_iload_n dX1_own_26 rfl rfl ?_
      obtain ⟨b_, k⟩ := k
      refine z_sald dX1_own_27 b_ ?_
      refine z_ist_n dX1_own_28 rfl (by decide) (lv' := [(0, vr (some (16, 0, 0))), (2, vi l2), (3, vi (gi M 47 (l3).toNatClampNeg))]) rfl ?_
      refine z_goto (tgt := 7) dX1_own_29 rfl ?_
      exact k
/-! ScriptTypes.asNative(II)V -/
theorem bX1_asNative_0 : zdec cX1_asNative 0 [(0, .aload_n 0, 1), (1, .getfield 93, 3), (4, .iload_n 1, 1), (5, .iconst 1, 1), (6, .bastore, 1), (7, .aload_n 0, 1), (8, .getfield 96, 3), (11, .iload_n 1, 1), (12, .iload_n 1, 1), (13, .ineg, 1), (14, .i2b, 1), (15, .bastore, 1), (16, .iload_n 2, 1), (17, .iconst (-1), 1), (18, .if_icmp .eq 12, 3), (21, .aload_n 0, 1)] = true := by decide +kernel
theorem dX1_asNative_0 : decode cX1_asNative 0 = .ok (.aload_n 0, 1) := zdec_at bX1_asNative_0 0 rfl
theorem dX1_asNative_1 : decode cX1_asNative 1 = .ok (.getfield 93, 3) := zdec_at bX1_asNative_0 1 rfl
theorem dX1_asNative_4 : decode cX1_asNative 4 = .ok (.iload_n 1, 1) := zdec_at bX1_asNative_0 2 rfl
theorem dX1_asNative_5 : decode cX1_asNative 5 = .ok (.iconst 1, 1) := zdec_at bX1_asNative_0 3 rfl
theorem dX1_asNative_6 : decode cX1_asNative 6 = .ok (.bastore, 1) := zdec_at bX1_asNative_0 4 rfl
theorem dX1_asNative_7 : decode cX1_asNative 7 = .ok (.aload_n 0, 1) := zdec_at bX1_asNative_0 5 rfl
theorem dX1_asNative_8 : decode cX1_asNative 8 = .ok (.getfield 96, 3) := zdec_at bX1_asNative_0 6 rfl
theorem dX1_asNative_11 : decode cX1_asNative 11 = .ok (.iload_n 1, 1) := zdec_at bX1_asNative_0 7 rfl
theorem dX1_asNative_12 : decode cX1_asNative 12 = .ok (.iload_n 1, 1) := zdec_at bX1_asNative_0 8 rfl
theorem dX1_asNative_13 : decode cX1_asNative 13 = .ok (.ineg, 1) := zdec_at bX1_asNative_0 9 rfl
theorem dX1_asNative_14 : decode cX1_asNative 14 = .ok (.i2b, 1) := zdec_at bX1_asNative_0 10 rfl
theorem dX1_asNative_15 : decode cX1_asNative 15 = .ok (.bastore, 1) := zdec_at bX1_asNative_0 11 rfl
theorem dX1_asNative_16 : decode cX1_asNative 16 = .ok (.iload_n 2, 1) := zdec_at bX1_asNative_0 12 rfl
theorem dX1_asNative_17 : decode cX1_asNative 17 = .ok (.iconst (-1), 1) := zdec_at bX1_asNative_0 13 rfl
theorem dX1_asNative_18 : decode cX1_asNative 18 = .ok (.if_icmp .eq 12, 3) := zdec_at bX1_asNative_0 14 rfl
theorem dX1_asNative_21 : decode cX1_asNative 21 = .ok (.aload_n 0, 1) := zdec_at bX1_asNative_0 15 rfl
theorem bX1_asNative_22 : zdec cX1_asNative 22 [(22, .iload_n 1, 1), (23, .iconst 1, 1), (24, .bipush 7, 2), (26, .iload_n 2, 1), (27, .invokevirtual 358, 3), (30, .return_, 1)] = true := by decide +kernel
theorem dX1_asNative_22 : decode cX1_asNative 22 = .ok (.iload_n 1, 1) := zdec_at bX1_asNative_22 0 rfl
theorem dX1_asNative_23 : decode cX1_asNative 23 = .ok (.iconst 1, 1) := zdec_at bX1_asNative_22 1 rfl
theorem dX1_asNative_24 : decode cX1_asNative 24 = .ok (.bipush 7, 2) := zdec_at bX1_asNative_22 2 rfl
theorem dX1_asNative_26 : decode cX1_asNative 26 = .ok (.iload_n 2, 1) := zdec_at bX1_asNative_22 3 rfl
theorem dX1_asNative_27 : decode cX1_asNative 27 = .ok (.invokevirtual 358, 3) := zdec_at bX1_asNative_22 4 rfl
theorem dX1_asNative_30 : decode cX1_asNative 30 = .ok (.return_, 1) := zdec_at bX1_asNative_22 5 rfl
theorem sX1_asNative_0 {E : zE} {d : Nat} {Q : zO → zM → Prop} (M : zM) (l1 : Int32) (l2 : Int32) (hw : cw M) (k : vp_in l1 300 ∧ (vp_in l1 300 ∧ (if l2 = (-1 : Int32) then (Z E YX1_asNative (d + 1) (si (si M 38 (l1).toNatClampNeg (vp_nar .byte (1 : Int32))) 39 (l1).toNatClampNeg (vp_nar .byte ((-l1)).toInt8.toInt32)) [] 30 [] Q) else (Z E YX1_setOwn d (si (si M 38 (l1).toNatClampNeg (vp_nar .byte (1 : Int32))) 39 (l1).toNatClampNeg (vp_nar .byte ((-l1)).toInt8.toInt32)) (zargs 0 [vr (some (16, 0, 0)), vi l1, vi (1 : Int32), vi (7 : Int32), vi l2]) 0 [] (zafter E YX1_asNative (d + 1) [] 27 3 [] Q))))) : Z E YX1_asNative (d + 1) M [(0, vr (some (16, 0, 0))), (1, vi l1), (2, vi l2)] 0 [] Q := by
  refine z_aload_n dX1_asNative_0 rfl rfl ?_
  refine z_getr dX1_asNative_1 fsX1_93_0 (show gr M 16 13 = some (38, 101, 300) from cw_at hw 6 rfl) ?_
  refine z_iload_n dX1_asNative_4 rfl rfl ?_
  refine z_iconst (v := 1) dX1_asNative_5 rfl ?_
  obtain ⟨b_, k⟩ := k
  refine z_bast (by decide) dX1_asNative_6 b_ ?_
  refine z_aload_n dX1_asNative_7 rfl rfl ?_
  refine z_getr dX1_asNative_8 fsX1_96_0 (show gr M 16 14 = some (39, 101, 300) from cw_at hw 7 rfl) ?_
  refine z_iload_n dX1_asNative_11 rfl rfl ?_
  refine z_iload_n dX1_asNative_12 rfl rfl ?_
  refine z_ineg dX1_asNative_13 ?_
  refine z_i2b dX1_asNative_14 ?_
  obtain ⟨b_, k⟩ := k
  refine z_bast (by decide) dX1_asNative_15 b_ ?_
  refine z_iload_n dX1_asNative_16 rfl rfl ?_
  refine z_iconst (v := -1) dX1_asNative_17 rfl ?_
  refine z_icmp_eq (tgt := 30) dX1_asNative_18 rfl (fun h_ => ?_) (fun h_ => ?_)
  · have k := zit h_ k
    refine Z.pick [] rfl ?_
    exact k
  · have k := zif h_ k
    refine z_aload_n dX1_asNative_21 rfl rfl ?_
    refine z_iload_n dX1_asNative_22 rfl rfl ?_
    refine z_iconst (v := 1) dX1_asNative_23 rfl ?_
    refine z_bipush (v := 7) dX1_asNative_24 rfl ?_
    refine z_iload_n dX1_asNative_26 rfl rfl ?_
    refine Z.pick [] rfl ?_
    exact z_callV (as := [vi l1, vi (1 : Int32), vi (7 : Int32), vi l2]) (st := []) dX1_asNative_27 vsX1_358_0 (Nat.le_refl _) (Nat.le_of_ble_eq_true rfl) (Nat.le_of_ble_eq_true rfl) rfl k
theorem sX1_asNative_30 {E : zE} {d : Nat} {Q : zO → zM → Prop} (M : zM)  (hw : cw M) (k : Q (.inl none) M) : Z E YX1_asNative (d + 1) M [] 30 [] Q := by
  exact z_vret dX1_asNative_30 rfl k
/-! ScriptTypes.comes(IIIII)V -/
theorem bX1_comes_0 : zdec cX1_comes 0 [(0, .aload_n 0, 1), (1, .getfield 160, 3), (4, .aload_n 0, 1), (5, .getfield 328, 3), (8, .iload_n 1, 1), (9, .i2s, 1), (10, .sastore, 1), (11, .aload_n 0, 1), (12, .getfield 163, 3), (15, .aload_n 0, 1), (16, .getfield 328, 3), (19, .iload_n 2, 1), (20, .i2s, 1), (21, .sastore, 1), (22, .aload_n 0, 1), (23, .getfield 166, 3)] = true := by decide +kernel
theorem dX1_comes_0 : decode cX1_comes 0 = .ok (.aload_n 0, 1) := zdec_at bX1_comes_0 0 rfl
theorem dX1_comes_1 : decode cX1_comes 1 = .ok (.getfield 160, 3) := zdec_at bX1_comes_0 1 rfl
theorem dX1_comes_4 : decode cX1_comes 4 = .ok (.aload_n 0, 1) := zdec_at bX1_comes_0 2 rfl
theorem dX1_comes_5 : decode cX1_comes 5 = .ok (.getfield 328, 3) := zdec_at bX1_comes_0 3 rfl
theorem dX1_comes_8 : decode cX1_comes 8 = .ok (.iload_n 1, 1) := zdec_at bX1_comes_0 4 rfl
theorem dX1_comes_9 : decode cX1_comes 9 = .ok (.i2s, 1) := zdec_at bX1_comes_0 5 rfl
theorem dX1_comes_10 : decode cX1_comes 10 = .ok (.sastore, 1) := zdec_at bX1_comes_0 6 rfl
theorem dX1_comes_11 : decode cX1_comes 11 = .ok (.aload_n 0, 1) := zdec_at bX1_comes_0 7 rfl
theorem dX1_comes_12 : decode cX1_comes 12 = .ok (.getfield 163, 3) := zdec_at bX1_comes_0 8 rfl
theorem dX1_comes_15 : decode cX1_comes 15 = .ok (.aload_n 0, 1) := zdec_at bX1_comes_0 9 rfl
theorem dX1_comes_16 : decode cX1_comes 16 = .ok (.getfield 328, 3) := zdec_at bX1_comes_0 10 rfl
theorem dX1_comes_19 : decode cX1_comes 19 = .ok (.iload_n 2, 1) := zdec_at bX1_comes_0 11 rfl
theorem dX1_comes_20 : decode cX1_comes 20 = .ok (.i2s, 1) := zdec_at bX1_comes_0 12 rfl
theorem dX1_comes_21 : decode cX1_comes 21 = .ok (.sastore, 1) := zdec_at bX1_comes_0 13 rfl
theorem dX1_comes_22 : decode cX1_comes 22 = .ok (.aload_n 0, 1) := zdec_at bX1_comes_0 14 rfl
theorem dX1_comes_23 : decode cX1_comes 23 = .ok (.getfield 166, 3) := zdec_at bX1_comes_0 15 rfl
theorem bX1_comes_26 : zdec cX1_comes 26 [(26, .aload_n 0, 1), (27, .getfield 328, 3), (30, .aload_n 0, 1), (31, .getfield 82, 3), (34, .iload_n 1, 1), (35, .invokevirtual 294, 3), (38, .checkcast 298, 3), (41, .getfield 449, 3), (44, .i2s, 1), (45, .sastore, 1), (46, .aload_n 0, 1), (47, .getfield 169, 3), (50, .aload_n 0, 1), (51, .getfield 328, 3), (54, .aload_n 0, 1), (55, .getfield 440, 3)] = true := by decide +kernel
theorem dX1_comes_26 : decode cX1_comes 26 = .ok (.aload_n 0, 1) := zdec_at bX1_comes_26 0 rfl
theorem dX1_comes_27 : decode cX1_comes 27 = .ok (.getfield 328, 3) := zdec_at bX1_comes_26 1 rfl
theorem dX1_comes_30 : decode cX1_comes 30 = .ok (.aload_n 0, 1) := zdec_at bX1_comes_26 2 rfl
theorem dX1_comes_31 : decode cX1_comes 31 = .ok (.getfield 82, 3) := zdec_at bX1_comes_26 3 rfl
theorem dX1_comes_34 : decode cX1_comes 34 = .ok (.iload_n 1, 1) := zdec_at bX1_comes_26 4 rfl
theorem dX1_comes_35 : decode cX1_comes 35 = .ok (.invokevirtual 294, 3) := zdec_at bX1_comes_26 5 rfl
theorem dX1_comes_38 : decode cX1_comes 38 = .ok (.checkcast 298, 3) := zdec_at bX1_comes_26 6 rfl
theorem dX1_comes_41 : decode cX1_comes 41 = .ok (.getfield 449, 3) := zdec_at bX1_comes_26 7 rfl
theorem dX1_comes_44 : decode cX1_comes 44 = .ok (.i2s, 1) := zdec_at bX1_comes_26 8 rfl
theorem dX1_comes_45 : decode cX1_comes 45 = .ok (.sastore, 1) := zdec_at bX1_comes_26 9 rfl
theorem dX1_comes_46 : decode cX1_comes 46 = .ok (.aload_n 0, 1) := zdec_at bX1_comes_26 10 rfl
theorem dX1_comes_47 : decode cX1_comes 47 = .ok (.getfield 169, 3) := zdec_at bX1_comes_26 11 rfl
theorem dX1_comes_50 : decode cX1_comes 50 = .ok (.aload_n 0, 1) := zdec_at bX1_comes_26 12 rfl
theorem dX1_comes_51 : decode cX1_comes 51 = .ok (.getfield 328, 3) := zdec_at bX1_comes_26 13 rfl
theorem dX1_comes_54 : decode cX1_comes 54 = .ok (.aload_n 0, 1) := zdec_at bX1_comes_26 14 rfl
theorem dX1_comes_55 : decode cX1_comes 55 = .ok (.getfield 440, 3) := zdec_at bX1_comes_26 15 rfl
theorem bX1_comes_58 : zdec cX1_comes 58 [(58, .i2s, 1), (59, .sastore, 1), (60, .aload_n 0, 1), (61, .getfield 172, 3), (64, .aload_n 0, 1), (65, .getfield 328, 3), (68, .iload 5, 2), (70, .i2s, 1), (71, .sastore, 1), (72, .aload_n 0, 1), (73, .getfield 175, 3), (76, .aload_n 0, 1), (77, .getfield 328, 3), (80, .aload_n 0, 1), (81, .getfield 443, 3), (84, .i2s, 1)] = true := by decide +kernel
theorem dX1_comes_58 : decode cX1_comes 58 = .ok (.i2s, 1) := zdec_at bX1_comes_58 0 rfl
theorem dX1_comes_59 : decode cX1_comes 59 = .ok (.sastore, 1) := zdec_at bX1_comes_58 1 rfl
theorem dX1_comes_60 : decode cX1_comes 60 = .ok (.aload_n 0, 1) := zdec_at bX1_comes_58 2 rfl
theorem dX1_comes_61 : decode cX1_comes 61 = .ok (.getfield 172, 3) := zdec_at bX1_comes_58 3 rfl
theorem dX1_comes_64 : decode cX1_comes 64 = .ok (.aload_n 0, 1) := zdec_at bX1_comes_58 4 rfl
theorem dX1_comes_65 : decode cX1_comes 65 = .ok (.getfield 328, 3) := zdec_at bX1_comes_58 5 rfl
theorem dX1_comes_68 : decode cX1_comes 68 = .ok (.iload 5, 2) := zdec_at bX1_comes_58 6 rfl
theorem dX1_comes_70 : decode cX1_comes 70 = .ok (.i2s, 1) := zdec_at bX1_comes_58 7 rfl
theorem dX1_comes_71 : decode cX1_comes 71 = .ok (.sastore, 1) := zdec_at bX1_comes_58 8 rfl
theorem dX1_comes_72 : decode cX1_comes 72 = .ok (.aload_n 0, 1) := zdec_at bX1_comes_58 9 rfl
theorem dX1_comes_73 : decode cX1_comes 73 = .ok (.getfield 175, 3) := zdec_at bX1_comes_58 10 rfl
theorem dX1_comes_76 : decode cX1_comes 76 = .ok (.aload_n 0, 1) := zdec_at bX1_comes_58 11 rfl
theorem dX1_comes_77 : decode cX1_comes 77 = .ok (.getfield 328, 3) := zdec_at bX1_comes_58 12 rfl
theorem dX1_comes_80 : decode cX1_comes 80 = .ok (.aload_n 0, 1) := zdec_at bX1_comes_58 13 rfl
theorem dX1_comes_81 : decode cX1_comes 81 = .ok (.getfield 443, 3) := zdec_at bX1_comes_58 14 rfl
theorem dX1_comes_84 : decode cX1_comes 84 = .ok (.i2s, 1) := zdec_at bX1_comes_58 15 rfl
theorem bX1_comes_85 : zdec cX1_comes 85 [(85, .sastore, 1), (86, .aload_n 0, 1), (87, .getfield 178, 3), (90, .aload_n 0, 1), (91, .getfield 328, 3), (94, .iload_n 3, 1), (95, .i2b, 1), (96, .bastore, 1), (97, .aload_n 0, 1), (98, .getfield 181, 3), (101, .aload_n 0, 1), (102, .getfield 328, 3), (105, .iload 4, 2), (107, .iastore, 1), (108, .aload_n 0, 1), (109, .dup, 1)] = true := by decide +kernel
theorem dX1_comes_85 : decode cX1_comes 85 = .ok (.sastore, 1) := zdec_at bX1_comes_85 0 rfl
theorem dX1_comes_86 : decode cX1_comes 86 = .ok (.aload_n 0, 1) := zdec_at bX1_comes_85 1 rfl
theorem dX1_comes_87 : decode cX1_comes 87 = .ok (.getfield 178, 3) := zdec_at bX1_comes_85 2 rfl
theorem dX1_comes_90 : decode cX1_comes 90 = .ok (.aload_n 0, 1) := zdec_at bX1_comes_85 3 rfl
theorem dX1_comes_91 : decode cX1_comes 91 = .ok (.getfield 328, 3) := zdec_at bX1_comes_85 4 rfl
theorem dX1_comes_94 : decode cX1_comes 94 = .ok (.iload_n 3, 1) := zdec_at bX1_comes_85 5 rfl
theorem dX1_comes_95 : decode cX1_comes 95 = .ok (.i2b, 1) := zdec_at bX1_comes_85 6 rfl
theorem dX1_comes_96 : decode cX1_comes 96 = .ok (.bastore, 1) := zdec_at bX1_comes_85 7 rfl
theorem dX1_comes_97 : decode cX1_comes 97 = .ok (.aload_n 0, 1) := zdec_at bX1_comes_85 8 rfl
theorem dX1_comes_98 : decode cX1_comes 98 = .ok (.getfield 181, 3) := zdec_at bX1_comes_85 9 rfl
theorem dX1_comes_101 : decode cX1_comes 101 = .ok (.aload_n 0, 1) := zdec_at bX1_comes_85 10 rfl
theorem dX1_comes_102 : decode cX1_comes 102 = .ok (.getfield 328, 3) := zdec_at bX1_comes_85 11 rfl
theorem dX1_comes_105 : decode cX1_comes 105 = .ok (.iload 4, 2) := zdec_at bX1_comes_85 12 rfl
theorem dX1_comes_107 : decode cX1_comes 107 = .ok (.iastore, 1) := zdec_at bX1_comes_85 13 rfl
theorem dX1_comes_108 : decode cX1_comes 108 = .ok (.aload_n 0, 1) := zdec_at bX1_comes_85 14 rfl
theorem dX1_comes_109 : decode cX1_comes 109 = .ok (.dup, 1) := zdec_at bX1_comes_85 15 rfl
theorem bX1_comes_110 : zdec cX1_comes 110 [(110, .getfield 328, 3), (113, .iconst 1, 1), (114, .iadd, 1), (115, .putfield 328, 3), (118, .return_, 1)] = true := by decide +kernel
theorem dX1_comes_110 : decode cX1_comes 110 = .ok (.getfield 328, 3) := zdec_at bX1_comes_110 0 rfl
theorem dX1_comes_113 : decode cX1_comes 113 = .ok (.iconst 1, 1) := zdec_at bX1_comes_110 1 rfl
theorem dX1_comes_114 : decode cX1_comes 114 = .ok (.iadd, 1) := zdec_at bX1_comes_110 2 rfl
theorem dX1_comes_115 : decode cX1_comes 115 = .ok (.putfield 328, 3) := zdec_at bX1_comes_110 3 rfl
theorem dX1_comes_118 : decode cX1_comes 118 = .ok (.return_, 1) := zdec_at bX1_comes_110 4 rfl
theorem sX1_comes_0 {E : zE} {d : Nat} {Q : zO → zM → Prop} (M : zM) (l1 : Int32) (l2 : Int32) (l3 : Int32) (l4 : Int32) (l5 : Int32) (hw : cw M) (k : vp_in (gi M 16 49) 24 ∧ (vp_in (gi M 16 49) 24 ∧ (∃ b1 : Nat, (gr M 16 8) = some (b1, 11, 0) ∧ (Z E YJ2_get d (si (si M 57 ((gi M 16 49)).toNatClampNeg (vp_nar .short (l1).toInt16.toInt32)) 58 ((gi M 16 49)).toNatClampNeg (vp_nar .short (l2).toInt16.toInt32)) (zargs 0 [vr (some (b1, 11, 0)), vi l1]) 0 [] (zafter E YX1_comes (d + 1) [(0, vr (some (16, 0, 0))), (3, vi l3), (4, vi l4), (5, vi l5)] 35 3 [vi (gi M 16 49), vr (some (59, 102, 24))] Q))))) : Z E YX1_comes (d + 1) M [(0, vr (some (16, 0, 0))), (1, vi l1), (2, vi l2), (3, vi l3), (4, vi l4), (5, vi l5)] 0 [] Q := by
  refine z_aload_n dX1_comes_0 rfl rfl ?_
  refine z_getr dX1_comes_1 fsX1_160_0 (show gr M 16 39 = some (57, 102, 24) from cw_at hw 25 rfl) ?_
  refine z_aload_n dX1_comes_4 rfl rfl ?_
  refine z_geti dX1_comes_5 fsX1_328_0 ?_
  refine z_iload_n dX1_comes_8 rfl rfl ?_
  refine z_i2s dX1_comes_9 ?_
  obtain ⟨b_, k⟩ := k
  refine z_sast (by decide) dX1_comes_10 b_ ?_
  refine z_aload_n dX1_comes_11 rfl rfl ?_
  refine z_getr dX1_comes_12 fsX1_163_0 (show gr M 16 40 = some (58, 102, 24) from cw_at hw 26 rfl) ?_
  refine z_aload_n dX1_comes_15 rfl rfl ?_
  refine z_geti dX1_comes_16 fsX1_328_0 ?_
  refine z_iload_n dX1_comes_19 rfl rfl ?_
  refine z_i2s dX1_comes_20 ?_
  obtain ⟨b_, k⟩ := k
  refine z_sast (by decide) dX1_comes_21 b_ ?_
  refine z_aload_n dX1_comes_22 rfl rfl ?_
  refine z_getr dX1_comes_23 fsX1_166_0 (show gr M 16 41 = some (59, 102, 24) from cw_at hw 27 rfl) ?_
  refine z_aload_n dX1_comes_26 rfl rfl ?_
  refine z_geti dX1_comes_27 fsX1_328_0 ?_
  refine z_aload_n dX1_comes_30 rfl rfl ?_
  refine z_getr (r := (gr M 16 8)) dX1_comes_31 fsX1_82_0 rfl ?_
  refine z_iload_n dX1_comes_34 rfl rfl ?_
  obtain ⟨b1, e1_, k⟩ := k
  refine Z.eqs (lv' := [(0, vr (some (16, 0, 0))), (1, vi l1), (2, vi l2), (3, vi l3), (4, vi l4), (5, vi l5)]) (st' := [vi l1, vr (some (b1, 11, 0)), vi (gi M 16 49), vr (some (59, 102, 24))]) rfl (by rw [e1_] <;> rfl) ?_
  refine Z.pick [0, 3, 4, 5] rfl ?_
  exact z_callV (as := [vi l1]) (st := [vi (gi M 16 49), vr (some (59, 102, 24))]) dX1_comes_35 vsX1_294_11 (Nat.le_refl _) (Nat.le_of_ble_eq_true rfl) (Nat.le_of_ble_eq_true rfl) rfl k
theorem sX1_comes_38 {E : zE} {d : Nat} {Q : zO → zM → Prop} (M : zM) (l3 : Int32) (l4 : Int32) (l5 : Int32) (u0 : Option zP) (s1 : Int32) (hw : cw M) (k : ∃ b1 : Nat, u0 = some (b1, 10, 0) ∧ (vp_in s1 24 ∧ (vp_in (gi M 16 49) 24 ∧ (vp_in (gi M 16 49) 24 ∧ (vp_in (gi M 16 49) 24 ∧ (vp_in (gi M 16 49) 24 ∧ (vp_in (gi M 16 49) 24 ∧ (Q (.inl none) (si (si (si (si (si (si (si M 59 (s1).toNatClampNeg (vp_nar .short ((gi M b1 9)).toInt16.toInt32)) 60 ((gi M 16 49)).toNatClampNeg (vp_nar .short ((gi M 16 38)).toInt16.toInt32)) 61 ((gi M 16 49)).toNatClampNeg (vp_nar .short (l5).toInt16.toInt32)) 62 ((gi M 16 49)).toNatClampNeg (vp_nar .short ((gi M 16 50)).toInt16.toInt32)) 63 ((gi M 16 49)).toNatClampNeg (vp_nar .byte (l3).toInt8.toInt32)) 64 ((gi M 16 49)).toNatClampNeg l4) 16 49 ((gi M 16 49) + (1 : Int32))))))))))) : Z E YX1_comes (d + 1) M [(0, vr (some (16, 0, 0))), (3, vi l3), (4, vi l4), (5, vi l5)] 38 [vr u0, vi s1, vr (some (59, 102, 24))] Q := by
  obtain ⟨b1, e1_, k⟩ := k
  refine Z.eqs (lv' := [(0, vr (some (16, 0, 0))), (3, vi l3), (4, vi l4), (5, vi l5)]) (st' := [vr (some (b1, 10, 0)), vi s1, vr (some (59, 102, 24))]) rfl (by rw [e1_] <;> rfl) ?_
  refine z_ckcast dX1_comes_38 ctX1_298_10 ?_
  refine z_geti dX1_comes_41 fsX1_449_10 ?_
  refine z_i2s dX1_comes_44 ?_
  obtain ⟨b_, k⟩ := k
  refine z_sast (by decide) dX1_comes_45 b_ ?_
  refine z_aload_n dX1_comes_46 rfl rfl ?_
  refine z_getr dX1_comes_47 fsX1_169_0 (show gr M 16 42 = some (60, 102, 24) from cw_at hw 28 rfl) ?_
  refine z_aload_n dX1_comes_50 rfl rfl ?_
  refine z_geti dX1_comes_51 fsX1_328_0 ?_
  refine z_aload_n dX1_comes_54 rfl rfl ?_
  refine z_geti dX1_comes_55 fsX1_440_0 ?_
  refine z_i2s dX1_comes_58 ?_
  obtain ⟨b_, k⟩ := k
  refine z_sast (by decide) dX1_comes_59 b_ ?_
  refine z_aload_n dX1_comes_60 rfl rfl ?_
  refine z_getr dX1_comes_61 fsX1_172_0 (show gr M 16 43 = some (61, 102, 24) from cw_at hw 29 rfl) ?_
  refine z_aload_n dX1_comes_64 rfl rfl ?_
  refine z_geti dX1_comes_65 fsX1_328_0 ?_
  refine z_iload dX1_comes_68 rfl ?_
  refine z_i2s dX1_comes_70 ?_
  obtain ⟨b_, k⟩ := k
  refine z_sast (by decide) dX1_comes_71 b_ ?_
  refine z_aload_n dX1_comes_72 rfl rfl ?_
  refine z_getr dX1_comes_73 fsX1_175_0 (show gr M 16 44 = some (62, 102, 24) from cw_at hw 30 rfl) ?_
  refine z_aload_n dX1_comes_76 rfl rfl ?_
  refine z_geti dX1_comes_77 fsX1_328_0 ?_
  refine z_aload_n dX1_comes_80 rfl rfl ?_
  refine z_geti dX1_comes_81 fsX1_443_0 ?_
  refine z_i2s dX1_comes_84 ?_
  obtain ⟨b_, k⟩ := k
  refine z_sast (by decide) dX1_comes_85 b_ ?_
  refine z_aload_n dX1_comes_86 rfl rfl ?_
  refine z_getr dX1_comes_87 fsX1_178_0 (show gr M 16 45 = some (63, 101, 24) from cw_at hw 31 rfl) ?_
  refine z_aload_n dX1_comes_90 rfl rfl ?_
  refine z_geti dX1_comes_91 fsX1_328_0 ?_
  refine z_iload_n dX1_comes_94 rfl rfl ?_
  refine z_i2b dX1_comes_95 ?_
  obtain ⟨b_, k⟩ := k
  refine z_bast (by decide) dX1_comes_96 b_ ?_
  refine z_aload_n dX1_comes_97 rfl rfl ?_
  refine z_getr dX1_comes_98 fsX1_181_0 (show gr M 16 46 = some (64, 100, 24) from cw_at hw 32 rfl) ?_
  refine z_aload_n dX1_comes_101 rfl rfl ?_
  refine z_geti dX1_comes_102 fsX1_328_0 ?_
  refine z_iload dX1_comes_105 rfl ?_
  obtain ⟨b_, k⟩ := k
  refine z_iast (by decide) dX1_comes_107 b_ ?_
  refine z_aload_n dX1_comes_108 rfl rfl ?_
  refine z_dup dX1_comes_109 rfl ?_
  refine z_geti dX1_comes_110 fsX1_328_0 ?_
  refine z_iconst (v := 1) dX1_comes_113 rfl ?_
  refine z_iadd dX1_comes_114 ?_
  refine z_puti (by decide) dX1_comes_115 (zfwN.w fwX1_328_0) rfl ⟨rfl, rfl⟩ ?_
  exact z_vret dX1_comes_118 rfl k
/-! ScriptTypes.run(I)I -/
theorem bX1_run_0 : zdec cX1_run 0 [(0, .iload_n 1, 1), (1, .ifCond .lt 10, 3), (4, .iload_n 1, 1), (5, .sipush 2000, 3), (8, .if_icmp .le 11, 3), (11, .new 451, 3), (14, .dup, 1), (15, .invokespecial 453, 3), (18, .athrow, 1), (19, .aload_n 0, 1), (20, .getfield 277, 3), (23, .iconst 1, 1), (24, .if_icmp .eq 11, 3), (27, .new 434, 3), (30, .dup, 1), (31, .invokespecial 436, 3)] = true := by decide +kernel
theorem dX1_run_0 : decode cX1_run 0 = .ok (.iload_n 1, 1) := zdec_at bX1_run_0 0 rfl
theorem dX1_run_1 : decode cX1_run 1 = .ok (.ifCond .lt 10, 3) := zdec_at bX1_run_0 1 rfl
theorem dX1_run_4 : decode cX1_run 4 = .ok (.iload_n 1, 1) := zdec_at bX1_run_0 2 rfl
theorem dX1_run_5 : decode cX1_run 5 = .ok (.sipush 2000, 3) := zdec_at bX1_run_0 3 rfl
theorem dX1_run_8 : decode cX1_run 8 = .ok (.if_icmp .le 11, 3) := zdec_at bX1_run_0 4 rfl
theorem dX1_run_11 : decode cX1_run 11 = .ok (.new 451, 3) := zdec_at bX1_run_0 5 rfl
theorem dX1_run_14 : decode cX1_run 14 = .ok (.dup, 1) := zdec_at bX1_run_0 6 rfl
theorem dX1_run_15 : decode cX1_run 15 = .ok (.invokespecial 453, 3) := zdec_at bX1_run_0 7 rfl
theorem dX1_run_18 : decode cX1_run 18 = .ok (.athrow, 1) := zdec_at bX1_run_0 8 rfl
theorem dX1_run_19 : decode cX1_run 19 = .ok (.aload_n 0, 1) := zdec_at bX1_run_0 9 rfl
theorem dX1_run_20 : decode cX1_run 20 = .ok (.getfield 277, 3) := zdec_at bX1_run_0 10 rfl
theorem dX1_run_23 : decode cX1_run 23 = .ok (.iconst 1, 1) := zdec_at bX1_run_0 11 rfl
theorem dX1_run_24 : decode cX1_run 24 = .ok (.if_icmp .eq 11, 3) := zdec_at bX1_run_0 12 rfl
theorem dX1_run_27 : decode cX1_run 27 = .ok (.new 434, 3) := zdec_at bX1_run_0 13 rfl
theorem dX1_run_30 : decode cX1_run 30 = .ok (.dup, 1) := zdec_at bX1_run_0 14 rfl
theorem dX1_run_31 : decode cX1_run 31 = .ok (.invokespecial 436, 3) := zdec_at bX1_run_0 15 rfl
theorem bX1_run_34 : zdec cX1_run 34 [(34, .athrow, 1), (35, .iconst 0, 1), (36, .istore_n 2, 1), (37, .iload_n 2, 1), (38, .iload_n 1, 1), (39, .if_icmp .ge 113, 3), (42, .aload_n 0, 1), (43, .getfield 277, 3), (46, .iconst 1, 1), (47, .if_icmp .ne 105, 3), (50, .iinc 2 1, 3), (53, .aload_n 0, 1), (54, .dup, 1), (55, .getfield 319, 3), (58, .iconst 1, 1), (59, .iadd, 1)] = true := by decide +kernel
theorem dX1_run_34 : decode cX1_run 34 = .ok (.athrow, 1) := zdec_at bX1_run_34 0 rfl
theorem dX1_run_35 : decode cX1_run 35 = .ok (.iconst 0, 1) := zdec_at bX1_run_34 1 rfl
theorem dX1_run_36 : decode cX1_run 36 = .ok (.istore_n 2, 1) := zdec_at bX1_run_34 2 rfl
theorem dX1_run_37 : decode cX1_run 37 = .ok (.iload_n 2, 1) := zdec_at bX1_run_34 3 rfl
theorem dX1_run_38 : decode cX1_run 38 = .ok (.iload_n 1, 1) := zdec_at bX1_run_34 4 rfl
theorem dX1_run_39 : decode cX1_run 39 = .ok (.if_icmp .ge 113, 3) := zdec_at bX1_run_34 5 rfl
theorem dX1_run_42 : decode cX1_run 42 = .ok (.aload_n 0, 1) := zdec_at bX1_run_34 6 rfl
theorem dX1_run_43 : decode cX1_run 43 = .ok (.getfield 277, 3) := zdec_at bX1_run_34 7 rfl
theorem dX1_run_46 : decode cX1_run 46 = .ok (.iconst 1, 1) := zdec_at bX1_run_34 8 rfl
theorem dX1_run_47 : decode cX1_run 47 = .ok (.if_icmp .ne 105, 3) := zdec_at bX1_run_34 9 rfl
theorem dX1_run_50 : decode cX1_run 50 = .ok (.iinc 2 1, 3) := zdec_at bX1_run_34 10 rfl
theorem dX1_run_53 : decode cX1_run 53 = .ok (.aload_n 0, 1) := zdec_at bX1_run_34 11 rfl
theorem dX1_run_54 : decode cX1_run 54 = .ok (.dup, 1) := zdec_at bX1_run_34 12 rfl
theorem dX1_run_55 : decode cX1_run 55 = .ok (.getfield 319, 3) := zdec_at bX1_run_34 13 rfl
theorem dX1_run_58 : decode cX1_run 58 = .ok (.iconst 1, 1) := zdec_at bX1_run_34 14 rfl
theorem dX1_run_59 : decode cX1_run 59 = .ok (.iadd, 1) := zdec_at bX1_run_34 15 rfl
theorem bX1_run_60 : zdec cX1_run 60 [(60, .putfield 319, 3), (63, .aload_n 0, 1), (64, .getfield 328, 3), (67, .istore_n 3, 1), (68, .aload_n 0, 1), (69, .getfield 440, 3), (72, .istore 4, 2), (74, .aload_n 0, 1), (75, .getfield 443, 3), (78, .istore 5, 2), (80, .aload_n 0, 1), (81, .getfield 166, 3), (84, .aload_n 0, 1), (85, .getfield 328, 3), (88, .iconst 1, 1), (89, .isub, 1)] = true := by decide +kernel
theorem dX1_run_60 : decode cX1_run 60 = .ok (.putfield 319, 3) := zdec_at bX1_run_60 0 rfl
theorem dX1_run_63 : decode cX1_run 63 = .ok (.aload_n 0, 1) := zdec_at bX1_run_60 1 rfl
theorem dX1_run_64 : decode cX1_run 64 = .ok (.getfield 328, 3) := zdec_at bX1_run_60 2 rfl
theorem dX1_run_67 : decode cX1_run 67 = .ok (.istore_n 3, 1) := zdec_at bX1_run_60 3 rfl
theorem dX1_run_68 : decode cX1_run 68 = .ok (.aload_n 0, 1) := zdec_at bX1_run_60 4 rfl
theorem dX1_run_69 : decode cX1_run 69 = .ok (.getfield 440, 3) := zdec_at bX1_run_60 5 rfl
theorem dX1_run_72 : decode cX1_run 72 = .ok (.istore 4, 2) := zdec_at bX1_run_60 6 rfl
theorem dX1_run_74 : decode cX1_run 74 = .ok (.aload_n 0, 1) := zdec_at bX1_run_60 7 rfl
theorem dX1_run_75 : decode cX1_run 75 = .ok (.getfield 443, 3) := zdec_at bX1_run_60 8 rfl
theorem dX1_run_78 : decode cX1_run 78 = .ok (.istore 5, 2) := zdec_at bX1_run_60 9 rfl
theorem dX1_run_80 : decode cX1_run 80 = .ok (.aload_n 0, 1) := zdec_at bX1_run_60 10 rfl
theorem dX1_run_81 : decode cX1_run 81 = .ok (.getfield 166, 3) := zdec_at bX1_run_60 11 rfl
theorem dX1_run_84 : decode cX1_run 84 = .ok (.aload_n 0, 1) := zdec_at bX1_run_60 12 rfl
theorem dX1_run_85 : decode cX1_run 85 = .ok (.getfield 328, 3) := zdec_at bX1_run_60 13 rfl
theorem dX1_run_88 : decode cX1_run 88 = .ok (.iconst 1, 1) := zdec_at bX1_run_60 14 rfl
theorem dX1_run_89 : decode cX1_run 89 = .ok (.isub, 1) := zdec_at bX1_run_60 15 rfl
theorem bX1_run_90 : zdec cX1_run 90 [(90, .saload, 1), (91, .istore 6, 2), (93, .aload_n 0, 1), (94, .iload 6, 2), (96, .invokevirtual 454, 3), (99, .goto 50, 3)] = true := by decide +kernel
theorem dX1_run_90 : decode cX1_run 90 = .ok (.saload, 1) := zdec_at bX1_run_90 0 rfl
theorem dX1_run_91 : decode cX1_run 91 = .ok (.istore 6, 2) := zdec_at bX1_run_90 1 rfl
theorem dX1_run_93 : decode cX1_run 93 = .ok (.aload_n 0, 1) := zdec_at bX1_run_90 2 rfl
theorem dX1_run_94 : decode cX1_run 94 = .ok (.iload 6, 2) := zdec_at bX1_run_90 3 rfl
theorem dX1_run_96 : decode cX1_run 96 = .ok (.invokevirtual 454, 3) := zdec_at bX1_run_90 4 rfl
theorem dX1_run_99 : decode cX1_run 99 = .ok (.goto 50, 3) := zdec_at bX1_run_90 5 rfl
theorem bX1_run_149 : zdec cX1_run 149 [(149, .goto (-112), 3), (152, .iload_n 2, 1), (153, .ireturn, 1)] = true := by decide +kernel
theorem dX1_run_149 : decode cX1_run 149 = .ok (.goto (-112), 3) := zdec_at bX1_run_149 0 rfl
theorem dX1_run_152 : decode cX1_run 152 = .ok (.iload_n 2, 1) := zdec_at bX1_run_149 1 rfl
theorem dX1_run_153 : decode cX1_run 153 = .ok (.ireturn, 1) := zdec_at bX1_run_149 2 rfl
theorem sX1_run_0 {E : zE} {d : Nat} {Q : zO → zM → Prop} (M : zM) (l1 : Int32) (hw : cw M) (k : if l1 < 0 then ((7 ≤ (d + 1)) ∧ (Q (.inr ((zsz M), 16, 0)) (sr (sr (sr (zn M 6) (zsz M) 0 (some (zsz M, 16, 0))) (zsz M) 1 (zsv E 2)) (zsz M) 2 (zsv E 3)))) else (if l1 ≤ (2000 : Int32) then (if (gi M 16 51) = (1 : Int32) then (Z E YX1_run (d + 1) M [(0, vr (some (16, 0, 0))), (1, vi l1), (2, vi (0 : Int32))] 37 [] Q) else ((7 ≤ (d + 1)) ∧ (Q (.inr ((zsz M), 15, 0)) (sr (sr (sr (zn M 6) (zsz M) 0 (some (zsz M, 15, 0))) (zsz M) 1 (zsv E 2)) (zsz M) 2 (zsv E 3))))) else ((7 ≤ (d + 1)) ∧ (Q (.inr ((zsz M), 16, 0)) (sr (sr (sr (zn M 6) (zsz M) 0 (some (zsz M, 16, 0))) (zsz M) 1 (zsv E 2)) (zsz M) 2 (zsv E 3)))))) : Z E YX1_run (d + 1) M [(0, vr (some (16, 0, 0))), (1, vi l1)] 0 [] Q := by
  refine z_iload_n dX1_run_0 rfl rfl ?_
  refine z_if_lt (tgt := 11) dX1_run_1 rfl (fun h_ => ?_) (fun h_ => ?_)
  · have k := zit h_ k
    obtain ⟨d_, k⟩ := k
    refine z_newExc16 dX1_run_11 dX1_run_14 dX1_run_15 q2669 q2678 d_ (Nat.le_of_ble_eq_true rfl) ?_
    exact z_athrow dX1_run_18 (ZT.out (by decide) k)
  · have k := zif h_ k
    refine z_iload_n dX1_run_4 rfl rfl ?_
    refine z_sipush (v := 2000) dX1_run_5 rfl ?_
    refine z_icmp_le (tgt := 19) dX1_run_8 rfl (fun h_ => ?_) (fun h_ => ?_)
    · have k := zit h_ k
      refine z_aload_n dX1_run_19 rfl rfl ?_
      refine z_geti dX1_run_20 fsX1_277_0 ?_
      refine z_iconst (v := 1) dX1_run_23 rfl ?_
      refine z_icmp_eq (tgt := 35) dX1_run_24 rfl (fun h_ => ?_) (fun h_ => ?_)
      · have k := zit h_ k
        refine z_iconst (v := 0) dX1_run_35 rfl ?_
        refine z_ist_n dX1_run_36 rfl (by decide) (lv' := [(0, vr (some (16, 0, 0))), (1, vi l1), (2, vi (0 : Int32))]) rfl ?_
        exact k
      · have k := zif h_ k
        obtain ⟨d_, k⟩ := k
        refine z_newExc15 dX1_run_27 dX1_run_30 dX1_run_31 q2616 q2625 d_ (Nat.le_of_ble_eq_true rfl) ?_
        exact z_athrow dX1_run_34 (ZT.out (by decide) k)
    · have k := zif h_ k
      obtain ⟨d_, k⟩ := k
      refine z_newExc16 dX1_run_11 dX1_run_14 dX1_run_15 q2669 q2678 d_ (Nat.le_of_ble_eq_true rfl) ?_
      exact z_athrow dX1_run_18 (ZT.out (by decide) k)
theorem sX1_run_37 {E : zE} {d : Nat} {Q : zO → zM → Prop} (M : zM) (l1 : Int32) (l2 : Int32) (hw : cw M) (k : if l1 ≤ l2 then (Q (.inl (some (vi l2))) M) else (if (gi M 16 51) = (1 : Int32) then (vp_in ((gi M 16 49) - (1 : Int32)) 24 ∧ (Z E YX1_step d (si M 16 52 ((gi M 16 52) + (1 : Int32))) (zargs 0 [vr (some (16, 0, 0)), vi (gi M 59 (((gi M 16 49) - (1 : Int32))).toNatClampNeg)]) 0 [] (zafter E YX1_run (d + 1) [(0, vr (some (16, 0, 0))), (1, vi l1), (2, vi (l2 + (1 : Int32)))] 96 3 [] Q))) else (Q (.inl (some (vi l2))) M))) : Z E YX1_run (d + 1) M [(0, vr (some (16, 0, 0))), (1, vi l1), (2, vi l2)] 37 [] Q := by
  refine z_iload_n dX1_run_37 rfl rfl ?_
  refine z_iload_n dX1_run_38 rfl rfl ?_
  refine z_icmp_ge (tgt := 152) dX1_run_39 rfl (fun h_ => ?_) (fun h_ => ?_)
  · have k := zit h_ k
    refine z_iload_n dX1_run_152 rfl rfl ?_
    exact z_iret dX1_run_153 rfl rfl k
  · have k := zif h_ k
    refine z_aload_n dX1_run_42 rfl rfl ?_
    refine z_geti dX1_run_43 fsX1_277_0 ?_
    refine z_iconst (v := 1) dX1_run_46 rfl ?_
    refine z_icmp_ne (tgt := 152) dX1_run_47 rfl (fun h_ => ?_) (fun h_ => ?_)
    · have k := zif h_ k
      refine z_iload_n dX1_run_152 rfl rfl ?_
      exact z_iret dX1_run_153 rfl rfl k
    · have k := zit h_ k
      refine z_inc (v := (l2 + (1 : Int32))) dX1_run_50 rfl rfl (by decide) (lv' := [(0, vr (some (16, 0, 0))), (1, vi l1), (2, vi (l2 + (1 : Int32)))]) rfl ?_
      refine z_aload_n dX1_run_53 rfl rfl ?_
      refine z_dup dX1_run_54 rfl ?_
      refine z_geti dX1_run_55 fsX1_319_0 ?_
      refine z_iconst (v := 1) dX1_run_58 rfl ?_
      refine z_iadd dX1_run_59 ?_
      refine z_puti (by decide) dX1_run_60 (zfwN.w fwX1_319_0) rfl ⟨rfl, rfl⟩ ?_
      refine z_aload_n dX1_run_63 rfl rfl ?_
      refine z_geti dX1_run_64 fsX1_328_0 ?_
      refine z_ist_n dX1_run_67 rfl (by decide) (lv' := [(0, vr (some (16, 0, 0))), (1, vi l1), (2, vi (l2 + (1 : Int32))), (3, vi (gi M 16 49))]) rfl ?_
      refine z_aload_n dX1_run_68 rfl rfl ?_
      refine z_geti dX1_run_69 fsX1_440_0 ?_
      refine z_ist dX1_run_72 (by decide) (lv' := [(0, vr (some (16, 0, 0))), (1, vi l1), (2, vi (l2 + (1 : Int32))), (3, vi (gi M 16 49)), (4, vi (gi M 16 38))]) rfl ?_
      refine z_aload_n dX1_run_74 rfl rfl ?_
      refine z_geti dX1_run_75 fsX1_443_0 ?_
      refine z_ist dX1_run_78 (by decide) (lv' := [(0, vr (some (16, 0, 0))), (1, vi l1), (2, vi (l2 + (1 : Int32))), (3, vi (gi M 16 49)), (4, vi (gi M 16 38)), (5, vi (gi M 16 50))]) rfl ?_
      refine z_aload_n dX1_run_80 rfl rfl ?_
      refine z_getr dX1_run_81 fsX1_166_0 (show gr M 16 41 = some (59, 102, 24) from cw_at hw 27 rfl) ?_
      refine z_aload_n dX1_run_84 rfl rfl ?_
      refine z_geti dX1_run_85 fsX1_328_0 ?_
      refine z_iconst (v := 1) dX1_run_88 rfl ?_
      refine z_isub dX1_run_89 ?_
      obtain ⟨b_, k⟩ := k
      refine z_sald dX1_run_90 b_ ?_
      refine z_ist dX1_run_91 (by decide) (lv' := [(0, vr (some (16, 0, 0))), (1, vi l1), (2, vi (l2 + (1 : Int32))), (3, vi (gi M 16 49)), (4, vi (gi M 16 38)), (5, vi (gi M 16 50)), (6, vi (gi M 59 (((gi M 16 49) - (1 : Int32))).toNatClampNeg))]) rfl ?_
      refine z_aload_n dX1_run_93 rfl rfl ?_
      refine z_iload dX1_run_94 rfl ?_
      refine Z.pick [0, 1, 2] rfl ?_
      exact z_callV (as := [vi (gi M 59 (((gi M 16 49) - (1 : Int32))).toNatClampNeg)]) (st := []) dX1_run_96 vsX1_454_0 (Nat.le_refl _) (Nat.le_of_ble_eq_true rfl) (Nat.le_of_ble_eq_true rfl) rfl k
theorem sX1_run_99 {E : zE} {d : Nat} {Q : zO → zM → Prop} (M : zM) (l1 : Int32) (l2 : Int32) (hw : cw M) (k : Z E YX1_run (d + 1) M [(0, vr (some (16, 0, 0))), (1, vi l1), (2, vi l2)] 37 [] Q) : Z E YX1_run (d + 1) M [(0, vr (some (16, 0, 0))), (1, vi l1), (2, vi l2)] 99 [] Q := by
  refine z_goto (tgt := 149) dX1_run_99 rfl ?_
  refine z_goto (tgt := 37) dX1_run_149 rfl ?_
  exact k
/-! ScriptTypes.step(I)V -/
theorem bX1_step_0 : zdec cX1_step 0 [(0, .aload_n 0, 1), (1, .getfield 89, 3), (4, .getfield 337, 3), (7, .iload_n 1, 1), (8, .saload, 1), (9, .istore_n 2, 1), (10, .aload_n 0, 1), (11, .getfield 89, 3), (14, .getfield 340, 3), (17, .iload_n 1, 1), (18, .iaload, 1), (19, .istore_n 3, 1), (20, .aload_n 0, 1), (21, .getfield 328, 3), (24, .iconst 1, 1), (25, .isub, 1)] = true := by decide +kernel
theorem dX1_step_0 : decode cX1_step 0 = .ok (.aload_n 0, 1) := zdec_at bX1_step_0 0 rfl
theorem dX1_step_1 : decode cX1_step 1 = .ok (.getfield 89, 3) := zdec_at bX1_step_0 1 rfl
theorem dX1_step_4 : decode cX1_step 4 = .ok (.getfield 337, 3) := zdec_at bX1_step_0 2 rfl
theorem dX1_step_7 : decode cX1_step 7 = .ok (.iload_n 1, 1) := zdec_at bX1_step_0 3 rfl
theorem dX1_step_8 : decode cX1_step 8 = .ok (.saload, 1) := zdec_at bX1_step_0 4 rfl
theorem dX1_step_9 : decode cX1_step 9 = .ok (.istore_n 2, 1) := zdec_at bX1_step_0 5 rfl
theorem dX1_step_10 : decode cX1_step 10 = .ok (.aload_n 0, 1) := zdec_at bX1_step_0 6 rfl
theorem dX1_step_11 : decode cX1_step 11 = .ok (.getfield 89, 3) := zdec_at bX1_step_0 7 rfl
theorem dX1_step_14 : decode cX1_step 14 = .ok (.getfield 340, 3) := zdec_at bX1_step_0 8 rfl
theorem dX1_step_17 : decode cX1_step 17 = .ok (.iload_n 1, 1) := zdec_at bX1_step_0 9 rfl
theorem dX1_step_18 : decode cX1_step 18 = .ok (.iaload, 1) := zdec_at bX1_step_0 10 rfl
theorem dX1_step_19 : decode cX1_step 19 = .ok (.istore_n 3, 1) := zdec_at bX1_step_0 11 rfl
theorem dX1_step_20 : decode cX1_step 20 = .ok (.aload_n 0, 1) := zdec_at bX1_step_0 12 rfl
theorem dX1_step_21 : decode cX1_step 21 = .ok (.getfield 328, 3) := zdec_at bX1_step_0 13 rfl
theorem dX1_step_24 : decode cX1_step 24 = .ok (.iconst 1, 1) := zdec_at bX1_step_0 14 rfl
theorem dX1_step_25 : decode cX1_step 25 = .ok (.isub, 1) := zdec_at bX1_step_0 15 rfl
theorem bX1_step_26 : zdec cX1_step 26 [(26, .istore 4, 2), (28, .aload_n 0, 1), (29, .getfield 440, 3), (32, .iconst 1, 1), (33, .isub, 1), (34, .istore 5, 2), (36, .aload_n 0, 1), (37, .getfield 166, 3), (40, .iload 4, 2), (42, .iload_n 1, 1), (43, .iconst 1, 1), (44, .iadd, 1), (45, .i2s, 1), (46, .sastore, 1), (47, .aload_n 0, 1), (48, .getfield 89, 3)] = true := by decide +kernel
theorem dX1_step_26 : decode cX1_step 26 = .ok (.istore 4, 2) := zdec_at bX1_step_26 0 rfl
theorem dX1_step_28 : decode cX1_step 28 = .ok (.aload_n 0, 1) := zdec_at bX1_step_26 1 rfl
theorem dX1_step_29 : decode cX1_step 29 = .ok (.getfield 440, 3) := zdec_at bX1_step_26 2 rfl
theorem dX1_step_32 : decode cX1_step 32 = .ok (.iconst 1, 1) := zdec_at bX1_step_26 3 rfl
theorem dX1_step_33 : decode cX1_step 33 = .ok (.isub, 1) := zdec_at bX1_step_26 4 rfl
theorem dX1_step_34 : decode cX1_step 34 = .ok (.istore 5, 2) := zdec_at bX1_step_26 5 rfl
theorem dX1_step_36 : decode cX1_step 36 = .ok (.aload_n 0, 1) := zdec_at bX1_step_26 6 rfl
theorem dX1_step_37 : decode cX1_step 37 = .ok (.getfield 166, 3) := zdec_at bX1_step_26 7 rfl
theorem dX1_step_40 : decode cX1_step 40 = .ok (.iload 4, 2) := zdec_at bX1_step_26 8 rfl
theorem dX1_step_42 : decode cX1_step 42 = .ok (.iload_n 1, 1) := zdec_at bX1_step_26 9 rfl
theorem dX1_step_43 : decode cX1_step 43 = .ok (.iconst 1, 1) := zdec_at bX1_step_26 10 rfl
theorem dX1_step_44 : decode cX1_step 44 = .ok (.iadd, 1) := zdec_at bX1_step_26 11 rfl
theorem dX1_step_45 : decode cX1_step 45 = .ok (.i2s, 1) := zdec_at bX1_step_26 12 rfl
theorem dX1_step_46 : decode cX1_step 46 = .ok (.sastore, 1) := zdec_at bX1_step_26 13 rfl
theorem dX1_step_47 : decode cX1_step 47 = .ok (.aload_n 0, 1) := zdec_at bX1_step_26 14 rfl
theorem dX1_step_48 : decode cX1_step 48 = .ok (.getfield 89, 3) := zdec_at bX1_step_26 15 rfl
theorem bX1_step_51 : zdec cX1_step 51 [(51, .getfield 334, 3), (54, .iload_n 1, 1), (55, .baload, 1)] = true := by decide +kernel
theorem dX1_step_51 : decode cX1_step 51 = .ok (.getfield 334, 3) := zdec_at bX1_step_51 0 rfl
theorem dX1_step_54 : decode cX1_step 54 = .ok (.iload_n 1, 1) := zdec_at bX1_step_51 1 rfl
theorem dX1_step_55 : decode cX1_step 55 = .ok (.baload, 1) := zdec_at bX1_step_51 2 rfl
theorem dX1_step_56 : decode cX1_step 56 = .ok (.tableswitch 546 0 21 #[104, 113, 148, 177, 218, 241, 287, 308, 329, 347, 368, 375, 382, 389, 416, 487, 525, 546, 546, 546, 546, 534], 104) := by decide +kernel
theorem bX1_step_160 : zdec cX1_step 160 [(160, .aload_n 0, 1), (161, .iload_n 2, 1), (162, .iload_n 3, 1), (163, .invokevirtual 476, 3), (166, .goto 446, 3), (169, .aload_n 0, 1), (170, .aload_n 0, 1), (171, .iload 4, 2), (173, .iload_n 2, 1), (174, .invokevirtual 479, 3), (177, .iload_n 3, 1), (178, .invokevirtual 346, 3), (181, .istore 6, 2), (183, .aload_n 0, 1), (184, .aload_n 0, 1), (185, .getfield 124, 3)] = true := by decide +kernel
theorem dX1_step_160 : decode cX1_step 160 = .ok (.aload_n 0, 1) := zdec_at bX1_step_160 0 rfl
theorem dX1_step_161 : decode cX1_step 161 = .ok (.iload_n 2, 1) := zdec_at bX1_step_160 1 rfl
theorem dX1_step_162 : decode cX1_step 162 = .ok (.iload_n 3, 1) := zdec_at bX1_step_160 2 rfl
theorem dX1_step_163 : decode cX1_step 163 = .ok (.invokevirtual 476, 3) := zdec_at bX1_step_160 3 rfl
theorem dX1_step_166 : decode cX1_step 166 = .ok (.goto 446, 3) := zdec_at bX1_step_160 4 rfl
theorem dX1_step_169 : decode cX1_step 169 = .ok (.aload_n 0, 1) := zdec_at bX1_step_160 5 rfl
theorem dX1_step_170 : decode cX1_step 170 = .ok (.aload_n 0, 1) := zdec_at bX1_step_160 6 rfl
theorem dX1_step_171 : decode cX1_step 171 = .ok (.iload 4, 2) := zdec_at bX1_step_160 7 rfl
theorem dX1_step_173 : decode cX1_step 173 = .ok (.iload_n 2, 1) := zdec_at bX1_step_160 8 rfl
theorem dX1_step_174 : decode cX1_step 174 = .ok (.invokevirtual 479, 3) := zdec_at bX1_step_160 9 rfl
theorem dX1_step_177 : decode cX1_step 177 = .ok (.iload_n 3, 1) := zdec_at bX1_step_160 10 rfl
theorem dX1_step_178 : decode cX1_step 178 = .ok (.invokevirtual 346, 3) := zdec_at bX1_step_160 11 rfl
theorem dX1_step_181 : decode cX1_step 181 = .ok (.istore 6, 2) := zdec_at bX1_step_160 12 rfl
theorem dX1_step_183 : decode cX1_step 183 = .ok (.aload_n 0, 1) := zdec_at bX1_step_160 13 rfl
theorem dX1_step_184 : decode cX1_step 184 = .ok (.aload_n 0, 1) := zdec_at bX1_step_160 14 rfl
theorem dX1_step_185 : decode cX1_step 185 = .ok (.getfield 124, 3) := zdec_at bX1_step_160 15 rfl
theorem bX1_step_188 : zdec cX1_step 188 [(188, .iload 6, 2), (190, .baload, 1), (191, .aload_n 0, 1), (192, .getfield 127, 3), (195, .iload 6, 2), (197, .iaload, 1), (198, .invokevirtual 476, 3), (201, .goto 411, 3), (204, .aload_n 0, 1), (205, .aload_n 0, 1), (206, .iload 4, 2), (208, .iload_n 2, 1), (209, .invokevirtual 479, 3), (212, .iload_n 3, 1), (213, .aload_n 0, 1), (214, .getfield 148, 3)] = true := by decide +kernel
theorem dX1_step_188 : decode cX1_step 188 = .ok (.iload 6, 2) := zdec_at bX1_step_188 0 rfl
theorem dX1_step_190 : decode cX1_step 190 = .ok (.baload, 1) := zdec_at bX1_step_188 1 rfl
theorem dX1_step_191 : decode cX1_step 191 = .ok (.aload_n 0, 1) := zdec_at bX1_step_188 2 rfl
theorem dX1_step_192 : decode cX1_step 192 = .ok (.getfield 127, 3) := zdec_at bX1_step_188 3 rfl
theorem dX1_step_195 : decode cX1_step 195 = .ok (.iload 6, 2) := zdec_at bX1_step_188 4 rfl
theorem dX1_step_197 : decode cX1_step 197 = .ok (.iaload, 1) := zdec_at bX1_step_188 5 rfl
theorem dX1_step_198 : decode cX1_step 198 = .ok (.invokevirtual 476, 3) := zdec_at bX1_step_188 6 rfl
theorem dX1_step_201 : decode cX1_step 201 = .ok (.goto 411, 3) := zdec_at bX1_step_188 7 rfl
theorem dX1_step_204 : decode cX1_step 204 = .ok (.aload_n 0, 1) := zdec_at bX1_step_188 8 rfl
theorem dX1_step_205 : decode cX1_step 205 = .ok (.aload_n 0, 1) := zdec_at bX1_step_188 9 rfl
theorem dX1_step_206 : decode cX1_step 206 = .ok (.iload 4, 2) := zdec_at bX1_step_188 10 rfl
theorem dX1_step_208 : decode cX1_step 208 = .ok (.iload_n 2, 1) := zdec_at bX1_step_188 11 rfl
theorem dX1_step_209 : decode cX1_step 209 = .ok (.invokevirtual 479, 3) := zdec_at bX1_step_188 12 rfl
theorem dX1_step_212 : decode cX1_step 212 = .ok (.iload_n 3, 1) := zdec_at bX1_step_188 13 rfl
theorem dX1_step_213 : decode cX1_step 213 = .ok (.aload_n 0, 1) := zdec_at bX1_step_188 14 rfl
theorem dX1_step_214 : decode cX1_step 214 = .ok (.getfield 148, 3) := zdec_at bX1_step_188 15 rfl
theorem bX1_step_217 : zdec cX1_step 217 [(217, .iload 5, 2), (219, .baload, 1), (220, .aload_n 0, 1), (221, .getfield 151, 3), (224, .iload 5, 2), (226, .iaload, 1), (227, .invokevirtual 358, 3), (230, .goto 382, 3), (233, .aload_n 0, 1), (234, .iconst 0, 1), (235, .iload_n 3, 1), (236, .invokevirtual 346, 3), (239, .istore 6, 2), (241, .iload 6, 2), (243, .iconst (-1), 1), (244, .if_icmp .ne 9, 3)] = true := by decide +kernel
theorem dX1_step_217 : decode cX1_step 217 = .ok (.iload 5, 2) := zdec_at bX1_step_217 0 rfl
theorem dX1_step_219 : decode cX1_step 219 = .ok (.baload, 1) := zdec_at bX1_step_217 1 rfl
theorem dX1_step_220 : decode cX1_step 220 = .ok (.aload_n 0, 1) := zdec_at bX1_step_217 2 rfl
theorem dX1_step_221 : decode cX1_step 221 = .ok (.getfield 151, 3) := zdec_at bX1_step_217 3 rfl
theorem dX1_step_224 : decode cX1_step 224 = .ok (.iload 5, 2) := zdec_at bX1_step_217 4 rfl
theorem dX1_step_226 : decode cX1_step 226 = .ok (.iaload, 1) := zdec_at bX1_step_217 5 rfl
theorem dX1_step_227 : decode cX1_step 227 = .ok (.invokevirtual 358, 3) := zdec_at bX1_step_217 6 rfl
theorem dX1_step_230 : decode cX1_step 230 = .ok (.goto 382, 3) := zdec_at bX1_step_217 7 rfl
theorem dX1_step_233 : decode cX1_step 233 = .ok (.aload_n 0, 1) := zdec_at bX1_step_217 8 rfl
theorem dX1_step_234 : decode cX1_step 234 = .ok (.iconst 0, 1) := zdec_at bX1_step_217 9 rfl
theorem dX1_step_235 : decode cX1_step 235 = .ok (.iload_n 3, 1) := zdec_at bX1_step_217 10 rfl
theorem dX1_step_236 : decode cX1_step 236 = .ok (.invokevirtual 346, 3) := zdec_at bX1_step_217 11 rfl
theorem dX1_step_239 : decode cX1_step 239 = .ok (.istore 6, 2) := zdec_at bX1_step_217 12 rfl
theorem dX1_step_241 : decode cX1_step 241 = .ok (.iload 6, 2) := zdec_at bX1_step_217 13 rfl
theorem dX1_step_243 : decode cX1_step 243 = .ok (.iconst (-1), 1) := zdec_at bX1_step_217 14 rfl
theorem dX1_step_244 : decode cX1_step 244 = .ok (.if_icmp .ne 9, 3) := zdec_at bX1_step_217 15 rfl
theorem bX1_step_247 : zdec cX1_step 247 [(247, .aload_n 0, 1), (248, .iconst 1, 1), (249, .invokevirtual 482, 3), (252, .athrow, 1), (253, .aload_n 0, 1), (254, .aload_n 0, 1), (255, .getfield 124, 3), (258, .iload 6, 2), (260, .baload, 1), (261, .aload_n 0, 1), (262, .getfield 127, 3), (265, .iload 6, 2), (267, .iaload, 1), (268, .invokevirtual 476, 3), (271, .goto 341, 3), (274, .aload_n 0, 1)] = true := by decide +kernel
theorem dX1_step_247 : decode cX1_step 247 = .ok (.aload_n 0, 1) := zdec_at bX1_step_247 0 rfl
theorem dX1_step_248 : decode cX1_step 248 = .ok (.iconst 1, 1) := zdec_at bX1_step_247 1 rfl
theorem dX1_step_249 : decode cX1_step 249 = .ok (.invokevirtual 482, 3) := zdec_at bX1_step_247 2 rfl
theorem dX1_step_252 : decode cX1_step 252 = .ok (.athrow, 1) := zdec_at bX1_step_247 3 rfl
theorem dX1_step_253 : decode cX1_step 253 = .ok (.aload_n 0, 1) := zdec_at bX1_step_247 4 rfl
theorem dX1_step_254 : decode cX1_step 254 = .ok (.aload_n 0, 1) := zdec_at bX1_step_247 5 rfl
theorem dX1_step_255 : decode cX1_step 255 = .ok (.getfield 124, 3) := zdec_at bX1_step_247 6 rfl
theorem dX1_step_258 : decode cX1_step 258 = .ok (.iload 6, 2) := zdec_at bX1_step_247 7 rfl
theorem dX1_step_260 : decode cX1_step 260 = .ok (.baload, 1) := zdec_at bX1_step_247 8 rfl
theorem dX1_step_261 : decode cX1_step 261 = .ok (.aload_n 0, 1) := zdec_at bX1_step_247 9 rfl
theorem dX1_step_262 : decode cX1_step 262 = .ok (.getfield 127, 3) := zdec_at bX1_step_247 10 rfl
theorem dX1_step_265 : decode cX1_step 265 = .ok (.iload 6, 2) := zdec_at bX1_step_247 11 rfl
theorem dX1_step_267 : decode cX1_step 267 = .ok (.iaload, 1) := zdec_at bX1_step_247 12 rfl
theorem dX1_step_268 : decode cX1_step 268 = .ok (.invokevirtual 476, 3) := zdec_at bX1_step_247 13 rfl
theorem dX1_step_271 : decode cX1_step 271 = .ok (.goto 341, 3) := zdec_at bX1_step_247 14 rfl
theorem dX1_step_274 : decode cX1_step 274 = .ok (.aload_n 0, 1) := zdec_at bX1_step_247 15 rfl
theorem bX1_step_275 : zdec cX1_step 275 [(275, .iconst 0, 1), (276, .iload_n 3, 1), (277, .aload_n 0, 1), (278, .getfield 148, 3), (281, .iload 5, 2), (283, .baload, 1), (284, .aload_n 0, 1), (285, .getfield 151, 3), (288, .iload 5, 2), (290, .iaload, 1), (291, .invokevirtual 358, 3), (294, .goto 318, 3), (297, .aload_n 0, 1), (298, .iconst 0, 1), (299, .iload_n 3, 1), (300, .invokevirtual 346, 3)] = true := by decide +kernel
theorem dX1_step_275 : decode cX1_step 275 = .ok (.iconst 0, 1) := zdec_at bX1_step_275 0 rfl
theorem dX1_step_276 : decode cX1_step 276 = .ok (.iload_n 3, 1) := zdec_at bX1_step_275 1 rfl
theorem dX1_step_277 : decode cX1_step 277 = .ok (.aload_n 0, 1) := zdec_at bX1_step_275 2 rfl
theorem dX1_step_278 : decode cX1_step 278 = .ok (.getfield 148, 3) := zdec_at bX1_step_275 3 rfl
theorem dX1_step_281 : decode cX1_step 281 = .ok (.iload 5, 2) := zdec_at bX1_step_275 4 rfl
theorem dX1_step_283 : decode cX1_step 283 = .ok (.baload, 1) := zdec_at bX1_step_275 5 rfl
theorem dX1_step_284 : decode cX1_step 284 = .ok (.aload_n 0, 1) := zdec_at bX1_step_275 6 rfl
theorem dX1_step_285 : decode cX1_step 285 = .ok (.getfield 151, 3) := zdec_at bX1_step_275 7 rfl
theorem dX1_step_288 : decode cX1_step 288 = .ok (.iload 5, 2) := zdec_at bX1_step_275 8 rfl
theorem dX1_step_290 : decode cX1_step 290 = .ok (.iaload, 1) := zdec_at bX1_step_275 9 rfl
theorem dX1_step_291 : decode cX1_step 291 = .ok (.invokevirtual 358, 3) := zdec_at bX1_step_275 10 rfl
theorem dX1_step_294 : decode cX1_step 294 = .ok (.goto 318, 3) := zdec_at bX1_step_275 11 rfl
theorem dX1_step_297 : decode cX1_step 297 = .ok (.aload_n 0, 1) := zdec_at bX1_step_275 12 rfl
theorem dX1_step_298 : decode cX1_step 298 = .ok (.iconst 0, 1) := zdec_at bX1_step_275 13 rfl
theorem dX1_step_299 : decode cX1_step 299 = .ok (.iload_n 3, 1) := zdec_at bX1_step_275 14 rfl
theorem dX1_step_300 : decode cX1_step 300 = .ok (.invokevirtual 346, 3) := zdec_at bX1_step_275 15 rfl
theorem bX1_step_303 : zdec cX1_step 303 [(303, .istore 6, 2), (305, .aload_n 0, 1), (306, .bipush 6, 2), (308, .iload 6, 2), (310, .iconst (-1), 1), (311, .if_icmp .ne 8, 3), (314, .bipush 19, 2), (316, .goto 21, 3), (319, .aload_n 0, 1), (320, .aload_n 0, 1), (321, .getfield 124, 3), (324, .iload 6, 2), (326, .baload, 1), (327, .aload_n 0, 1), (328, .getfield 127, 3), (331, .iload 6, 2)] = true := by decide +kernel
theorem dX1_step_303 : decode cX1_step 303 = .ok (.istore 6, 2) := zdec_at bX1_step_303 0 rfl
theorem dX1_step_305 : decode cX1_step 305 = .ok (.aload_n 0, 1) := zdec_at bX1_step_303 1 rfl
theorem dX1_step_306 : decode cX1_step 306 = .ok (.bipush 6, 2) := zdec_at bX1_step_303 2 rfl
theorem dX1_step_308 : decode cX1_step 308 = .ok (.iload 6, 2) := zdec_at bX1_step_303 3 rfl
theorem dX1_step_310 : decode cX1_step 310 = .ok (.iconst (-1), 1) := zdec_at bX1_step_303 4 rfl
theorem dX1_step_311 : decode cX1_step 311 = .ok (.if_icmp .ne 8, 3) := zdec_at bX1_step_303 5 rfl
theorem dX1_step_314 : decode cX1_step 314 = .ok (.bipush 19, 2) := zdec_at bX1_step_303 6 rfl
theorem dX1_step_316 : decode cX1_step 316 = .ok (.goto 21, 3) := zdec_at bX1_step_303 7 rfl
theorem dX1_step_319 : decode cX1_step 319 = .ok (.aload_n 0, 1) := zdec_at bX1_step_303 8 rfl
theorem dX1_step_320 : decode cX1_step 320 = .ok (.aload_n 0, 1) := zdec_at bX1_step_303 9 rfl
theorem dX1_step_321 : decode cX1_step 321 = .ok (.getfield 124, 3) := zdec_at bX1_step_303 10 rfl
theorem dX1_step_324 : decode cX1_step 324 = .ok (.iload 6, 2) := zdec_at bX1_step_303 11 rfl
theorem dX1_step_326 : decode cX1_step 326 = .ok (.baload, 1) := zdec_at bX1_step_303 12 rfl
theorem dX1_step_327 : decode cX1_step 327 = .ok (.aload_n 0, 1) := zdec_at bX1_step_303 13 rfl
theorem dX1_step_328 : decode cX1_step 328 = .ok (.getfield 127, 3) := zdec_at bX1_step_303 14 rfl
theorem dX1_step_331 : decode cX1_step 331 = .ok (.iload 6, 2) := zdec_at bX1_step_303 15 rfl
theorem bX1_step_333 : zdec cX1_step 333 [(333, .iaload, 1), (334, .invokevirtual 409, 3), (337, .invokevirtual 476, 3), (340, .goto 272, 3), (343, .aload_n 0, 1), (344, .aload_n 0, 1), (345, .getfield 178, 3), (348, .iload 4, 2), (350, .baload, 1), (351, .aload_n 0, 1), (352, .getfield 181, 3), (355, .iload 4, 2), (357, .iaload, 1), (358, .invokevirtual 476, 3), (361, .goto 251, 3), (364, .aload_n 0, 1)] = true := by decide +kernel
theorem dX1_step_333 : decode cX1_step 333 = .ok (.iaload, 1) := zdec_at bX1_step_333 0 rfl
theorem dX1_step_334 : decode cX1_step 334 = .ok (.invokevirtual 409, 3) := zdec_at bX1_step_333 1 rfl
theorem dX1_step_337 : decode cX1_step 337 = .ok (.invokevirtual 476, 3) := zdec_at bX1_step_333 2 rfl
theorem dX1_step_340 : decode cX1_step 340 = .ok (.goto 272, 3) := zdec_at bX1_step_333 3 rfl
theorem dX1_step_343 : decode cX1_step 343 = .ok (.aload_n 0, 1) := zdec_at bX1_step_333 4 rfl
theorem dX1_step_344 : decode cX1_step 344 = .ok (.aload_n 0, 1) := zdec_at bX1_step_333 5 rfl
theorem dX1_step_345 : decode cX1_step 345 = .ok (.getfield 178, 3) := zdec_at bX1_step_333 6 rfl
theorem dX1_step_348 : decode cX1_step 348 = .ok (.iload 4, 2) := zdec_at bX1_step_333 7 rfl
theorem dX1_step_350 : decode cX1_step 350 = .ok (.baload, 1) := zdec_at bX1_step_333 8 rfl
theorem dX1_step_351 : decode cX1_step 351 = .ok (.aload_n 0, 1) := zdec_at bX1_step_333 9 rfl
theorem dX1_step_352 : decode cX1_step 352 = .ok (.getfield 181, 3) := zdec_at bX1_step_333 10 rfl
theorem dX1_step_355 : decode cX1_step 355 = .ok (.iload 4, 2) := zdec_at bX1_step_333 11 rfl
theorem dX1_step_357 : decode cX1_step 357 = .ok (.iaload, 1) := zdec_at bX1_step_333 12 rfl
theorem dX1_step_358 : decode cX1_step 358 = .ok (.invokevirtual 476, 3) := zdec_at bX1_step_333 13 rfl
theorem dX1_step_361 : decode cX1_step 361 = .ok (.goto 251, 3) := zdec_at bX1_step_333 14 rfl
theorem dX1_step_364 : decode cX1_step 364 = .ok (.aload_n 0, 1) := zdec_at bX1_step_333 15 rfl
theorem bX1_step_365 : zdec cX1_step 365 [(365, .bipush 7, 2), (367, .aload_n 0, 1), (368, .iconst 0, 1), (369, .aload_n 0, 1), (370, .iload_n 2, 1), (371, .invokevirtual 486, 3), (374, .iconst 1, 1), (375, .iconst (-1), 1), (376, .invokevirtual 362, 3), (379, .invokevirtual 476, 3), (382, .goto 230, 3), (385, .aload_n 0, 1), (386, .bipush 7, 2), (388, .aload_n 0, 1), (389, .aload_n 0, 1), (390, .iload_n 2, 1)] = true := by decide +kernel
theorem dX1_step_365 : decode cX1_step 365 = .ok (.bipush 7, 2) := zdec_at bX1_step_365 0 rfl
theorem dX1_step_367 : decode cX1_step 367 = .ok (.aload_n 0, 1) := zdec_at bX1_step_365 1 rfl
theorem dX1_step_368 : decode cX1_step 368 = .ok (.iconst 0, 1) := zdec_at bX1_step_365 2 rfl
theorem dX1_step_369 : decode cX1_step 369 = .ok (.aload_n 0, 1) := zdec_at bX1_step_365 3 rfl
theorem dX1_step_370 : decode cX1_step 370 = .ok (.iload_n 2, 1) := zdec_at bX1_step_365 4 rfl
theorem dX1_step_371 : decode cX1_step 371 = .ok (.invokevirtual 486, 3) := zdec_at bX1_step_365 5 rfl
theorem dX1_step_374 : decode cX1_step 374 = .ok (.iconst 1, 1) := zdec_at bX1_step_365 6 rfl
theorem dX1_step_375 : decode cX1_step 375 = .ok (.iconst (-1), 1) := zdec_at bX1_step_365 7 rfl
theorem dX1_step_376 : decode cX1_step 376 = .ok (.invokevirtual 362, 3) := zdec_at bX1_step_365 8 rfl
theorem dX1_step_379 : decode cX1_step 379 = .ok (.invokevirtual 476, 3) := zdec_at bX1_step_365 9 rfl
theorem dX1_step_382 : decode cX1_step 382 = .ok (.goto 230, 3) := zdec_at bX1_step_365 10 rfl
theorem dX1_step_385 : decode cX1_step 385 = .ok (.aload_n 0, 1) := zdec_at bX1_step_365 11 rfl
theorem dX1_step_386 : decode cX1_step 386 = .ok (.bipush 7, 2) := zdec_at bX1_step_365 12 rfl
theorem dX1_step_388 : decode cX1_step 388 = .ok (.aload_n 0, 1) := zdec_at bX1_step_365 13 rfl
theorem dX1_step_389 : decode cX1_step 389 = .ok (.aload_n 0, 1) := zdec_at bX1_step_365 14 rfl
theorem dX1_step_390 : decode cX1_step 390 = .ok (.iload_n 2, 1) := zdec_at bX1_step_365 15 rfl
theorem bX1_step_391 : zdec cX1_step 391 [(391, .invokevirtual 486, 3), (394, .invokevirtual 489, 3), (397, .invokevirtual 476, 3), (400, .goto 212, 3), (403, .aload_n 0, 1), (404, .bipush 7, 2), (406, .aload_n 0, 1), (407, .iload_n 2, 1), (408, .aload_n 0, 1), (409, .getfield 163, 3), (412, .iload 4, 2), (414, .saload, 1), (415, .invokevirtual 492, 3), (418, .invokevirtual 476, 3), (421, .goto 191, 3), (424, .aload_n 0, 1)] = true := by decide +kernel
theorem dX1_step_391 : decode cX1_step 391 = .ok (.invokevirtual 486, 3) := zdec_at bX1_step_391 0 rfl
theorem dX1_step_394 : decode cX1_step 394 = .ok (.invokevirtual 489, 3) := zdec_at bX1_step_391 1 rfl
theorem dX1_step_397 : decode cX1_step 397 = .ok (.invokevirtual 476, 3) := zdec_at bX1_step_391 2 rfl
theorem dX1_step_400 : decode cX1_step 400 = .ok (.goto 212, 3) := zdec_at bX1_step_391 3 rfl
theorem dX1_step_403 : decode cX1_step 403 = .ok (.aload_n 0, 1) := zdec_at bX1_step_391 4 rfl
theorem dX1_step_404 : decode cX1_step 404 = .ok (.bipush 7, 2) := zdec_at bX1_step_391 5 rfl
theorem dX1_step_406 : decode cX1_step 406 = .ok (.aload_n 0, 1) := zdec_at bX1_step_391 6 rfl
theorem dX1_step_407 : decode cX1_step 407 = .ok (.iload_n 2, 1) := zdec_at bX1_step_391 7 rfl
theorem dX1_step_408 : decode cX1_step 408 = .ok (.aload_n 0, 1) := zdec_at bX1_step_391 8 rfl
theorem dX1_step_409 : decode cX1_step 409 = .ok (.getfield 163, 3) := zdec_at bX1_step_391 9 rfl
theorem dX1_step_412 : decode cX1_step 412 = .ok (.iload 4, 2) := zdec_at bX1_step_391 10 rfl
theorem dX1_step_414 : decode cX1_step 414 = .ok (.saload, 1) := zdec_at bX1_step_391 11 rfl
theorem dX1_step_415 : decode cX1_step 415 = .ok (.invokevirtual 492, 3) := zdec_at bX1_step_391 12 rfl
theorem dX1_step_418 : decode cX1_step 418 = .ok (.invokevirtual 476, 3) := zdec_at bX1_step_391 13 rfl
theorem dX1_step_421 : decode cX1_step 421 = .ok (.goto 191, 3) := zdec_at bX1_step_391 14 rfl
theorem dX1_step_424 : decode cX1_step 424 = .ok (.aload_n 0, 1) := zdec_at bX1_step_391 15 rfl
theorem bX1_step_425 : zdec cX1_step 425 [(425, .invokevirtual 495, 3), (428, .goto 184, 3), (431, .aload_n 0, 1), (432, .invokevirtual 498, 3), (435, .goto 177, 3), (438, .aload_n 0, 1), (439, .invokevirtual 501, 3), (442, .goto 170, 3), (445, .aload_n 0, 1), (446, .iload_n 2, 1), (447, .aload_n 0, 1), (448, .getfield 148, 3), (451, .iload 5, 2), (453, .baload, 1), (454, .aload_n 0, 1), (455, .getfield 151, 3)] = true := by decide +kernel
theorem dX1_step_425 : decode cX1_step 425 = .ok (.invokevirtual 495, 3) := zdec_at bX1_step_425 0 rfl
theorem dX1_step_428 : decode cX1_step 428 = .ok (.goto 184, 3) := zdec_at bX1_step_425 1 rfl
theorem dX1_step_431 : decode cX1_step 431 = .ok (.aload_n 0, 1) := zdec_at bX1_step_425 2 rfl
theorem dX1_step_432 : decode cX1_step 432 = .ok (.invokevirtual 498, 3) := zdec_at bX1_step_425 3 rfl
theorem dX1_step_435 : decode cX1_step 435 = .ok (.goto 177, 3) := zdec_at bX1_step_425 4 rfl
theorem dX1_step_438 : decode cX1_step 438 = .ok (.aload_n 0, 1) := zdec_at bX1_step_425 5 rfl
theorem dX1_step_439 : decode cX1_step 439 = .ok (.invokevirtual 501, 3) := zdec_at bX1_step_425 6 rfl
theorem dX1_step_442 : decode cX1_step 442 = .ok (.goto 170, 3) := zdec_at bX1_step_425 7 rfl
theorem dX1_step_445 : decode cX1_step 445 = .ok (.aload_n 0, 1) := zdec_at bX1_step_425 8 rfl
theorem dX1_step_446 : decode cX1_step 446 = .ok (.iload_n 2, 1) := zdec_at bX1_step_425 9 rfl
theorem dX1_step_447 : decode cX1_step 447 = .ok (.aload_n 0, 1) := zdec_at bX1_step_425 10 rfl
theorem dX1_step_448 : decode cX1_step 448 = .ok (.getfield 148, 3) := zdec_at bX1_step_425 11 rfl
theorem dX1_step_451 : decode cX1_step 451 = .ok (.iload 5, 2) := zdec_at bX1_step_425 12 rfl
theorem dX1_step_453 : decode cX1_step 453 = .ok (.baload, 1) := zdec_at bX1_step_425 13 rfl
theorem dX1_step_454 : decode cX1_step 454 = .ok (.aload_n 0, 1) := zdec_at bX1_step_425 14 rfl
theorem dX1_step_455 : decode cX1_step 455 = .ok (.getfield 151, 3) := zdec_at bX1_step_425 15 rfl
theorem bX1_step_458 : zdec cX1_step 458 [(458, .iload 5, 2), (460, .iaload, 1), (461, .invokevirtual 504, 3), (464, .aload_n 0, 1), (465, .iconst 1, 1), (466, .invokevirtual 508, 3), (469, .goto 143, 3), (472, .iload_n 2, 1), (473, .bipush 19, 2), (475, .if_icmp .ge 43, 3), (478, .aload_n 0, 1), (479, .iload_n 2, 1), (480, .aload_n 0, 1), (481, .getfield 148, 3), (484, .iload 5, 2), (486, .iconst 1, 1)] = true := by decide +kernel
theorem dX1_step_458 : decode cX1_step 458 = .ok (.iload 5, 2) := zdec_at bX1_step_458 0 rfl
theorem dX1_step_460 : decode cX1_step 460 = .ok (.iaload, 1) := zdec_at bX1_step_458 1 rfl
theorem dX1_step_461 : decode cX1_step 461 = .ok (.invokevirtual 504, 3) := zdec_at bX1_step_458 2 rfl
theorem dX1_step_464 : decode cX1_step 464 = .ok (.aload_n 0, 1) := zdec_at bX1_step_458 3 rfl
theorem dX1_step_465 : decode cX1_step 465 = .ok (.iconst 1, 1) := zdec_at bX1_step_458 4 rfl
theorem dX1_step_466 : decode cX1_step 466 = .ok (.invokevirtual 508, 3) := zdec_at bX1_step_458 5 rfl
theorem dX1_step_469 : decode cX1_step 469 = .ok (.goto 143, 3) := zdec_at bX1_step_458 6 rfl
theorem dX1_step_472 : decode cX1_step 472 = .ok (.iload_n 2, 1) := zdec_at bX1_step_458 7 rfl
theorem dX1_step_473 : decode cX1_step 473 = .ok (.bipush 19, 2) := zdec_at bX1_step_458 8 rfl
theorem dX1_step_475 : decode cX1_step 475 = .ok (.if_icmp .ge 43, 3) := zdec_at bX1_step_458 9 rfl
theorem dX1_step_478 : decode cX1_step 478 = .ok (.aload_n 0, 1) := zdec_at bX1_step_458 10 rfl
theorem dX1_step_479 : decode cX1_step 479 = .ok (.iload_n 2, 1) := zdec_at bX1_step_458 11 rfl
theorem dX1_step_480 : decode cX1_step 480 = .ok (.aload_n 0, 1) := zdec_at bX1_step_458 12 rfl
theorem dX1_step_481 : decode cX1_step 481 = .ok (.getfield 148, 3) := zdec_at bX1_step_458 13 rfl
theorem dX1_step_484 : decode cX1_step 484 = .ok (.iload 5, 2) := zdec_at bX1_step_458 14 rfl
theorem dX1_step_486 : decode cX1_step 486 = .ok (.iconst 1, 1) := zdec_at bX1_step_458 15 rfl
theorem bX1_step_487 : zdec cX1_step 487 [(487, .isub, 1), (488, .baload, 1), (489, .aload_n 0, 1), (490, .getfield 151, 3), (493, .iload 5, 2), (495, .iconst 1, 1), (496, .isub, 1), (497, .iaload, 1), (498, .aload_n 0, 1), (499, .getfield 148, 3), (502, .iload 5, 2), (504, .baload, 1), (505, .aload_n 0, 1), (506, .getfield 151, 3), (509, .iload 5, 2), (511, .iaload, 1)] = true := by decide +kernel
theorem dX1_step_487 : decode cX1_step 487 = .ok (.isub, 1) := zdec_at bX1_step_487 0 rfl
theorem dX1_step_488 : decode cX1_step 488 = .ok (.baload, 1) := zdec_at bX1_step_487 1 rfl
theorem dX1_step_489 : decode cX1_step 489 = .ok (.aload_n 0, 1) := zdec_at bX1_step_487 2 rfl
theorem dX1_step_490 : decode cX1_step 490 = .ok (.getfield 151, 3) := zdec_at bX1_step_487 3 rfl
theorem dX1_step_493 : decode cX1_step 493 = .ok (.iload 5, 2) := zdec_at bX1_step_487 4 rfl
theorem dX1_step_495 : decode cX1_step 495 = .ok (.iconst 1, 1) := zdec_at bX1_step_487 5 rfl
theorem dX1_step_496 : decode cX1_step 496 = .ok (.isub, 1) := zdec_at bX1_step_487 6 rfl
theorem dX1_step_497 : decode cX1_step 497 = .ok (.iaload, 1) := zdec_at bX1_step_487 7 rfl
theorem dX1_step_498 : decode cX1_step 498 = .ok (.aload_n 0, 1) := zdec_at bX1_step_487 8 rfl
theorem dX1_step_499 : decode cX1_step 499 = .ok (.getfield 148, 3) := zdec_at bX1_step_487 9 rfl
theorem dX1_step_502 : decode cX1_step 502 = .ok (.iload 5, 2) := zdec_at bX1_step_487 10 rfl
theorem dX1_step_504 : decode cX1_step 504 = .ok (.baload, 1) := zdec_at bX1_step_487 11 rfl
theorem dX1_step_505 : decode cX1_step 505 = .ok (.aload_n 0, 1) := zdec_at bX1_step_487 12 rfl
theorem dX1_step_506 : decode cX1_step 506 = .ok (.getfield 151, 3) := zdec_at bX1_step_487 13 rfl
theorem dX1_step_509 : decode cX1_step 509 = .ok (.iload 5, 2) := zdec_at bX1_step_487 14 rfl
theorem dX1_step_511 : decode cX1_step 511 = .ok (.iaload, 1) := zdec_at bX1_step_487 15 rfl
theorem bX1_step_512 : zdec cX1_step 512 [(512, .invokevirtual 511, 3), (515, .goto 20, 3), (518, .iload_n 2, 1), (519, .bipush 19, 2), (521, .if_icmp .ne 10, 3), (524, .aload_n 0, 1), (525, .invokevirtual 514, 3), (528, .goto 7, 3), (531, .aload_n 0, 1), (532, .invokevirtual 517, 3), (535, .aload_n 0, 1), (536, .iconst 2, 1), (537, .invokevirtual 508, 3), (540, .goto 72, 3), (543, .aload_n 0, 1), (544, .aload_n 0, 1)] = true := by decide +kernel
theorem dX1_step_512 : decode cX1_step 512 = .ok (.invokevirtual 511, 3) := zdec_at bX1_step_512 0 rfl
theorem dX1_step_515 : decode cX1_step 515 = .ok (.goto 20, 3) := zdec_at bX1_step_512 1 rfl
theorem dX1_step_518 : decode cX1_step 518 = .ok (.iload_n 2, 1) := zdec_at bX1_step_512 2 rfl
theorem dX1_step_519 : decode cX1_step 519 = .ok (.bipush 19, 2) := zdec_at bX1_step_512 3 rfl
theorem dX1_step_521 : decode cX1_step 521 = .ok (.if_icmp .ne 10, 3) := zdec_at bX1_step_512 4 rfl
theorem dX1_step_524 : decode cX1_step 524 = .ok (.aload_n 0, 1) := zdec_at bX1_step_512 5 rfl
theorem dX1_step_525 : decode cX1_step 525 = .ok (.invokevirtual 514, 3) := zdec_at bX1_step_512 6 rfl
theorem dX1_step_528 : decode cX1_step 528 = .ok (.goto 7, 3) := zdec_at bX1_step_512 7 rfl
theorem dX1_step_531 : decode cX1_step 531 = .ok (.aload_n 0, 1) := zdec_at bX1_step_512 8 rfl
theorem dX1_step_532 : decode cX1_step 532 = .ok (.invokevirtual 517, 3) := zdec_at bX1_step_512 9 rfl
theorem dX1_step_535 : decode cX1_step 535 = .ok (.aload_n 0, 1) := zdec_at bX1_step_512 10 rfl
theorem dX1_step_536 : decode cX1_step 536 = .ok (.iconst 2, 1) := zdec_at bX1_step_512 11 rfl
theorem dX1_step_537 : decode cX1_step 537 = .ok (.invokevirtual 508, 3) := zdec_at bX1_step_512 12 rfl
theorem dX1_step_540 : decode cX1_step 540 = .ok (.goto 72, 3) := zdec_at bX1_step_512 13 rfl
theorem dX1_step_543 : decode cX1_step 543 = .ok (.aload_n 0, 1) := zdec_at bX1_step_512 14 rfl
theorem dX1_step_544 : decode cX1_step 544 = .ok (.aload_n 0, 1) := zdec_at bX1_step_512 15 rfl
theorem bX1_step_545 : zdec cX1_step 545 [(545, .getfield 440, 3), (548, .iload_n 2, 1), (549, .isub, 1), (550, .iconst 2, 1), (551, .isub, 1), (552, .aload_n 0, 1), (553, .getfield 440, 3), (556, .iload_n 2, 1), (557, .isub, 1), (558, .iconst 1, 1), (559, .isub, 1), (560, .aload_n 0, 1), (561, .getfield 440, 3), (564, .iload_n 2, 1), (565, .isub, 1), (566, .iload_n 2, 1)] = true := by decide +kernel
theorem dX1_step_545 : decode cX1_step 545 = .ok (.getfield 440, 3) := zdec_at bX1_step_545 0 rfl
theorem dX1_step_548 : decode cX1_step 548 = .ok (.iload_n 2, 1) := zdec_at bX1_step_545 1 rfl
theorem dX1_step_549 : decode cX1_step 549 = .ok (.isub, 1) := zdec_at bX1_step_545 2 rfl
theorem dX1_step_550 : decode cX1_step 550 = .ok (.iconst 2, 1) := zdec_at bX1_step_545 3 rfl
theorem dX1_step_551 : decode cX1_step 551 = .ok (.isub, 1) := zdec_at bX1_step_545 4 rfl
theorem dX1_step_552 : decode cX1_step 552 = .ok (.aload_n 0, 1) := zdec_at bX1_step_545 5 rfl
theorem dX1_step_553 : decode cX1_step 553 = .ok (.getfield 440, 3) := zdec_at bX1_step_545 6 rfl
theorem dX1_step_556 : decode cX1_step 556 = .ok (.iload_n 2, 1) := zdec_at bX1_step_545 7 rfl
theorem dX1_step_557 : decode cX1_step 557 = .ok (.isub, 1) := zdec_at bX1_step_545 8 rfl
theorem dX1_step_558 : decode cX1_step 558 = .ok (.iconst 1, 1) := zdec_at bX1_step_545 9 rfl
theorem dX1_step_559 : decode cX1_step 559 = .ok (.isub, 1) := zdec_at bX1_step_545 10 rfl
theorem dX1_step_560 : decode cX1_step 560 = .ok (.aload_n 0, 1) := zdec_at bX1_step_545 11 rfl
theorem dX1_step_561 : decode cX1_step 561 = .ok (.getfield 440, 3) := zdec_at bX1_step_545 12 rfl
theorem dX1_step_564 : decode cX1_step 564 = .ok (.iload_n 2, 1) := zdec_at bX1_step_545 13 rfl
theorem dX1_step_565 : decode cX1_step 565 = .ok (.isub, 1) := zdec_at bX1_step_545 14 rfl
theorem dX1_step_566 : decode cX1_step 566 = .ok (.iload_n 2, 1) := zdec_at bX1_step_545 15 rfl
theorem bX1_step_567 : zdec cX1_step 567 [(567, .aload_n 0, 1), (568, .getfield 440, 3), (571, .iload_n 2, 1), (572, .isub, 1), (573, .iconst 2, 1), (574, .isub, 1), (575, .invokevirtual 520, 3), (578, .goto 34, 3), (581, .aload_n 0, 1), (582, .iload_n 2, 1), (583, .iload_n 3, 1), (584, .invokevirtual 523, 3), (587, .goto 25, 3), (590, .aload_n 0, 1), (591, .getfield 166, 3), (594, .iload 4, 2)] = true := by decide +kernel
theorem dX1_step_567 : decode cX1_step 567 = .ok (.aload_n 0, 1) := zdec_at bX1_step_567 0 rfl
theorem dX1_step_568 : decode cX1_step 568 = .ok (.getfield 440, 3) := zdec_at bX1_step_567 1 rfl
theorem dX1_step_571 : decode cX1_step 571 = .ok (.iload_n 2, 1) := zdec_at bX1_step_567 2 rfl
theorem dX1_step_572 : decode cX1_step 572 = .ok (.isub, 1) := zdec_at bX1_step_567 3 rfl
theorem dX1_step_573 : decode cX1_step 573 = .ok (.iconst 2, 1) := zdec_at bX1_step_567 4 rfl
theorem dX1_step_574 : decode cX1_step 574 = .ok (.isub, 1) := zdec_at bX1_step_567 5 rfl
theorem dX1_step_575 : decode cX1_step 575 = .ok (.invokevirtual 520, 3) := zdec_at bX1_step_567 6 rfl
theorem dX1_step_578 : decode cX1_step 578 = .ok (.goto 34, 3) := zdec_at bX1_step_567 7 rfl
theorem dX1_step_581 : decode cX1_step 581 = .ok (.aload_n 0, 1) := zdec_at bX1_step_567 8 rfl
theorem dX1_step_582 : decode cX1_step 582 = .ok (.iload_n 2, 1) := zdec_at bX1_step_567 9 rfl
theorem dX1_step_583 : decode cX1_step 583 = .ok (.iload_n 3, 1) := zdec_at bX1_step_567 10 rfl
theorem dX1_step_584 : decode cX1_step 584 = .ok (.invokevirtual 523, 3) := zdec_at bX1_step_567 11 rfl
theorem dX1_step_587 : decode cX1_step 587 = .ok (.goto 25, 3) := zdec_at bX1_step_567 12 rfl
theorem dX1_step_590 : decode cX1_step 590 = .ok (.aload_n 0, 1) := zdec_at bX1_step_567 13 rfl
theorem dX1_step_591 : decode cX1_step 591 = .ok (.getfield 166, 3) := zdec_at bX1_step_567 14 rfl
theorem dX1_step_594 : decode cX1_step 594 = .ok (.iload 4, 2) := zdec_at bX1_step_567 15 rfl
theorem bX1_step_596 : zdec cX1_step 596 [(596, .iload_n 2, 1), (597, .i2s, 1), (598, .sastore, 1), (599, .goto 13, 3), (602, .aload_n 0, 1), (603, .iload_n 1, 1), (604, .iload_n 2, 1), (605, .iload 4, 2), (607, .iload 5, 2), (609, .invokevirtual 526, 3), (612, .return_, 1)] = true := by decide +kernel
theorem dX1_step_596 : decode cX1_step 596 = .ok (.iload_n 2, 1) := zdec_at bX1_step_596 0 rfl
theorem dX1_step_597 : decode cX1_step 597 = .ok (.i2s, 1) := zdec_at bX1_step_596 1 rfl
theorem dX1_step_598 : decode cX1_step 598 = .ok (.sastore, 1) := zdec_at bX1_step_596 2 rfl
theorem dX1_step_599 : decode cX1_step 599 = .ok (.goto 13, 3) := zdec_at bX1_step_596 3 rfl
theorem dX1_step_602 : decode cX1_step 602 = .ok (.aload_n 0, 1) := zdec_at bX1_step_596 4 rfl
theorem dX1_step_603 : decode cX1_step 603 = .ok (.iload_n 1, 1) := zdec_at bX1_step_596 5 rfl
theorem dX1_step_604 : decode cX1_step 604 = .ok (.iload_n 2, 1) := zdec_at bX1_step_596 6 rfl
theorem dX1_step_605 : decode cX1_step 605 = .ok (.iload 4, 2) := zdec_at bX1_step_596 7 rfl
theorem dX1_step_607 : decode cX1_step 607 = .ok (.iload 5, 2) := zdec_at bX1_step_596 8 rfl
theorem dX1_step_609 : decode cX1_step 609 = .ok (.invokevirtual 526, 3) := zdec_at bX1_step_596 9 rfl
theorem dX1_step_612 : decode cX1_step 612 = .ok (.return_, 1) := zdec_at bX1_step_596 10 rfl
theorem sX1_step_0 {E : zE} {d : Nat} {Q : zO → zM → Prop} (M : zM) (l1 : Int32) (hw : cw M) (k : vp_in l1 600 ∧ (vp_in l1 600 ∧ (vp_in ((gi M 16 49) - (1 : Int32)) 24 ∧ (vp_in l1 600 ∧ (if (gi M 30 (l1).toNatClampNeg) = 0 then (Z E YX1_push d (si M 59 (((gi M 16 49) - (1 : Int32))).toNatClampNeg (vp_nar .short ((l1 + (1 : Int32))).toInt16.toInt32)) (zargs 0 [vr (some (16, 0, 0)), vi (gi M 31 (l1).toNatClampNeg), vi (gi M 34 (l1).toNatClampNeg)]) 0 [] (zafter E YX1_step (d + 1) [] 163 3 [] Q)) else (if (gi M 30 (l1).toNatClampNeg) = 1 then (Z E YX1_scopeAt d (si M 59 (((gi M 16 49) - (1 : Int32))).toNatClampNeg (vp_nar .short ((l1 + (1 : Int32))).toInt16.toInt32)) (zargs 0 [vr (some (16, 0, 0)), vi ((gi M 16 49) - (1 : Int32)), vi (gi M 31 (l1).toNatClampNeg)]) 0 [] (zafter E YX1_step (d + 1) [(0, vr (some (16, 0, 0))), (3, vi (gi M 34 (l1).toNatClampNeg))] 174 3 [vr (some (16, 0, 0))] Q)) else (if (gi M 30 (l1).toNatClampNeg) = 2 then (Z E YX1_scopeAt d (si M 59 (((gi M 16 49) - (1 : Int32))).toNatClampNeg (vp_nar .short ((l1 + (1 : Int32))).toInt16.toInt32)) (zargs 0 [vr (some (16, 0, 0)), vi ((gi M 16 49) - (1 : Int32)), vi (gi M 31 (l1).toNatClampNeg)]) 0 [] (zafter E YX1_step (d + 1) [(0, vr (some (16, 0, 0))), (3, vi (gi M 34 (l1).toNatClampNeg)), (5, vi ((gi M 16 38) - (1 : Int32)))] 209 3 [vr (some (16, 0, 0))] Q)) else (if (gi M 30 (l1).toNatClampNeg) = 3 then (Z E YX1_own d (si M 59 (((gi M 16 49) - (1 : Int32))).toNatClampNeg (vp_nar .short ((l1 + (1 : Int32))).toInt16.toInt32)) (zargs 0 [vr (some (16, 0, 0)), vi (0 : Int32), vi (gi M 34 (l1).toNatClampNeg)]) 0 [] (zafter E YX1_step (d + 1) [(0, vr (some (16, 0, 0)))] 236 3 [] Q)) else (if (gi M 30 (l1).toNatClampNeg) = 4 then (vp_in ((gi M 16 38) - (1 : Int32)) 14500 ∧ (vp_in ((gi M 16 38) - (1 : Int32)) 14500 ∧ (Z E YX1_setOwn d (si M 59 (((gi M 16 49) - (1 : Int32))).toNatClampNeg (vp_nar .short ((l1 + (1 : Int32))).toInt16.toInt32)) (zargs 0 [vr (some (16, 0, 0)), vi (0 : Int32), vi (gi M 34 (l1).toNatClampNeg), vi (gi M 53 (((gi M 16 38) - (1 : Int32))).toNatClampNeg), vi (gi M 54 (((gi M 16 38) - (1 : Int32))).toNatClampNeg)]) 0 [] (zafter E YX1_step (d + 1) [] 291 3 [] Q)))) else (if (gi M 30 (l1).toNatClampNeg) = 5 then (Z E YX1_own d (si M 59 (((gi M 16 49) - (1 : Int32))).toNatClampNeg (vp_nar .short ((l1 + (1 : Int32))).toInt16.toInt32)) (zargs 0 [vr (some (16, 0, 0)), vi (0 : Int32), vi (gi M 34 (l1).toNatClampNeg)]) 0 [] (zafter E YX1_step (d + 1) [(0, vr (some (16, 0, 0)))] 300 3 [] Q)) else (if (gi M 30 (l1).toNatClampNeg) = 6 then (vp_in ((gi M 16 49) - (1 : Int32)) 24 ∧ (vp_in ((gi M 16 49) - (1 : Int32)) 24 ∧ (Z E YX1_push d (si M 59 (((gi M 16 49) - (1 : Int32))).toNatClampNeg (vp_nar .short ((l1 + (1 : Int32))).toInt16.toInt32)) (zargs 0 [vr (some (16, 0, 0)), vi (gi M 63 (((gi M 16 49) - (1 : Int32))).toNatClampNeg), vi (gi M 64 (((gi M 16 49) - (1 : Int32))).toNatClampNeg)]) 0 [] (zafter E YX1_step (d + 1) [] 358 3 [] Q)))) else (if (gi M 30 (l1).toNatClampNeg) = 7 then (Z E YX1_sitePair d (si M 59 (((gi M 16 49) - (1 : Int32))).toNatClampNeg (vp_nar .short ((l1 + (1 : Int32))).toInt16.toInt32)) (zargs 0 [vr (some (16, 0, 0)), vi (gi M 31 (l1).toNatClampNeg)]) 0 [] (zafter E YX1_step (d + 1) [] 371 3 [vi (0 : Int32), vr (some (16, 0, 0)), vi (7 : Int32), vr (some (16, 0, 0))] Q)) else (if (gi M 30 (l1).toNatClampNeg) = 8 then (Z E YX1_sitePair d (si M 59 (((gi M 16 49) - (1 : Int32))).toNatClampNeg (vp_nar .short ((l1 + (1 : Int32))).toInt16.toInt32)) (zargs 0 [vr (some (16, 0, 0)), vi (gi M 31 (l1).toNatClampNeg)]) 0 [] (zafter E YX1_step (d + 1) [] 391 3 [vr (some (16, 0, 0)), vi (7 : Int32), vr (some (16, 0, 0))] Q)) else (if (gi M 30 (l1).toNatClampNeg) = 9 then (vp_in ((gi M 16 49) - (1 : Int32)) 24 ∧ (Z E YX1_closure d (si M 59 (((gi M 16 49) - (1 : Int32))).toNatClampNeg (vp_nar .short ((l1 + (1 : Int32))).toInt16.toInt32)) (zargs 0 [vr (some (16, 0, 0)), vi (gi M 31 (l1).toNatClampNeg), vi (gi M 58 (((gi M 16 49) - (1 : Int32))).toNatClampNeg)]) 0 [] (zafter E YX1_step (d + 1) [] 415 3 [vi (7 : Int32), vr (some (16, 0, 0))] Q))) else (if (gi M 30 (l1).toNatClampNeg) = 10 then (Z E YX1_getOf d (si M 59 (((gi M 16 49) - (1 : Int32))).toNatClampNeg (vp_nar .short ((l1 + (1 : Int32))).toInt16.toInt32)) (zargs 0 [vr (some (16, 0, 0))]) 0 [] (zafter E YX1_step (d + 1) [] 425 3 [] Q)) else (if (gi M 30 (l1).toNatClampNeg) = 11 then (Z E YX1_putIn d (si M 59 (((gi M 16 49) - (1 : Int32))).toNatClampNeg (vp_nar .short ((l1 + (1 : Int32))).toInt16.toInt32)) (zargs 0 [vr (some (16, 0, 0))]) 0 [] (zafter E YX1_step (d + 1) [] 432 3 [] Q)) else (if (gi M 30 (l1).toNatClampNeg) = 12 then (Z E YX1_deleteIn d (si M 59 (((gi M 16 49) - (1 : Int32))).toNatClampNeg (vp_nar .short ((l1 + (1 : Int32))).toInt16.toInt32)) (zargs 0 [vr (some (16, 0, 0))]) 0 [] (zafter E YX1_step (d + 1) [] 439 3 [] Q)) else (if (gi M 30 (l1).toNatClampNeg) = 13 then (vp_in ((gi M 16 38) - (1 : Int32)) 14500 ∧ (vp_in ((gi M 16 38) - (1 : Int32)) 14500 ∧ (Z E YX1_unary d (si M 59 (((gi M 16 49) - (1 : Int32))).toNatClampNeg (vp_nar .short ((l1 + (1 : Int32))).toInt16.toInt32)) (zargs 0 [vr (some (16, 0, 0)), vi (gi M 31 (l1).toNatClampNeg), vi (gi M 53 (((gi M 16 38) - (1 : Int32))).toNatClampNeg), vi (gi M 54 (((gi M 16 38) - (1 : Int32))).toNatClampNeg)]) 0 [] (zafter E YX1_step (d + 1) [(0, vr (some (16, 0, 0)))] 461 3 [] Q)))) else (if (gi M 30 (l1).toNatClampNeg) = 14 then (if (19 : Int32) ≤ (gi M 31 (l1).toNatClampNeg) then (if (gi M 31 (l1).toNatClampNeg) = (19 : Int32) then (Z E YX1_readsKey d (si M 59 (((gi M 16 49) - (1 : Int32))).toNatClampNeg (vp_nar .short ((l1 + (1 : Int32))).toInt16.toInt32)) (zargs 0 [vr (some (16, 0, 0))]) 0 [] (zafter E YX1_step (d + 1) [(0, vr (some (16, 0, 0)))] 525 3 [] Q)) else (Z E YX1_instance d (si M 59 (((gi M 16 49) - (1 : Int32))).toNatClampNeg (vp_nar .short ((l1 + (1 : Int32))).toInt16.toInt32)) (zargs 0 [vr (some (16, 0, 0))]) 0 [] (zafter E YX1_step (d + 1) [(0, vr (some (16, 0, 0)))] 532 3 [] Q))) else (vp_in (((gi M 16 38) - (1 : Int32)) - (1 : Int32)) 14500 ∧ (vp_in (((gi M 16 38) - (1 : Int32)) - (1 : Int32)) 14500 ∧ (vp_in ((gi M 16 38) - (1 : Int32)) 14500 ∧ (vp_in ((gi M 16 38) - (1 : Int32)) 14500 ∧ (Z E YX1_binary d (si M 59 (((gi M 16 49) - (1 : Int32))).toNatClampNeg (vp_nar .short ((l1 + (1 : Int32))).toInt16.toInt32)) (zargs 0 [vr (some (16, 0, 0)), vi (gi M 31 (l1).toNatClampNeg), vi (gi M 53 ((((gi M 16 38) - (1 : Int32)) - (1 : Int32))).toNatClampNeg), vi (gi M 54 ((((gi M 16 38) - (1 : Int32)) - (1 : Int32))).toNatClampNeg), vi (gi M 53 (((gi M 16 38) - (1 : Int32))).toNatClampNeg), vi (gi M 54 (((gi M 16 38) - (1 : Int32))).toNatClampNeg)]) 0 [] (zafter E YX1_step (d + 1) [(0, vr (some (16, 0, 0)))] 512 3 [] Q))))))) else (if (gi M 30 (l1).toNatClampNeg) = 15 then (Z E YX1_call d (si M 59 (((gi M 16 49) - (1 : Int32))).toNatClampNeg (vp_nar .short ((l1 + (1 : Int32))).toInt16.toInt32)) (zargs 0 [vr (some (16, 0, 0)), vi (((gi M 16 38) - (gi M 31 (l1).toNatClampNeg)) - (2 : Int32)), vi (((gi M 16 38) - (gi M 31 (l1).toNatClampNeg)) - (1 : Int32)), vi ((gi M 16 38) - (gi M 31 (l1).toNatClampNeg)), vi (gi M 31 (l1).toNatClampNeg), vi (((gi M 16 38) - (gi M 31 (l1).toNatClampNeg)) - (2 : Int32))]) 0 [] (zafter E YX1_step (d + 1) [] 575 3 [] Q)) else (if (gi M 30 (l1).toNatClampNeg) = 16 then (Z E YX1_makeNew d (si M 59 (((gi M 16 49) - (1 : Int32))).toNatClampNeg (vp_nar .short ((l1 + (1 : Int32))).toInt16.toInt32)) (zargs 0 [vr (some (16, 0, 0)), vi (gi M 31 (l1).toNatClampNeg), vi (gi M 34 (l1).toNatClampNeg)]) 0 [] (zafter E YX1_step (d + 1) [] 584 3 [] Q)) else (if (gi M 30 (l1).toNatClampNeg) = 17 then (Z E YX1_moves d (si M 59 (((gi M 16 49) - (1 : Int32))).toNatClampNeg (vp_nar .short ((l1 + (1 : Int32))).toInt16.toInt32)) (zargs 0 [vr (some (16, 0, 0)), vi l1, vi (gi M 31 (l1).toNatClampNeg), vi ((gi M 16 49) - (1 : Int32)), vi ((gi M 16 38) - (1 : Int32))]) 0 [] (zafter E YX1_step (d + 1) [] 609 3 [] Q)) else (if (gi M 30 (l1).toNatClampNeg) = 18 then (Z E YX1_moves d (si M 59 (((gi M 16 49) - (1 : Int32))).toNatClampNeg (vp_nar .short ((l1 + (1 : Int32))).toInt16.toInt32)) (zargs 0 [vr (some (16, 0, 0)), vi l1, vi (gi M 31 (l1).toNatClampNeg), vi ((gi M 16 49) - (1 : Int32)), vi ((gi M 16 38) - (1 : Int32))]) 0 [] (zafter E YX1_step (d + 1) [] 609 3 [] Q)) else (if (gi M 30 (l1).toNatClampNeg) = 19 then (Z E YX1_moves d (si M 59 (((gi M 16 49) - (1 : Int32))).toNatClampNeg (vp_nar .short ((l1 + (1 : Int32))).toInt16.toInt32)) (zargs 0 [vr (some (16, 0, 0)), vi l1, vi (gi M 31 (l1).toNatClampNeg), vi ((gi M 16 49) - (1 : Int32)), vi ((gi M 16 38) - (1 : Int32))]) 0 [] (zafter E YX1_step (d + 1) [] 609 3 [] Q)) else (if (gi M 30 (l1).toNatClampNeg) = 20 then (Z E YX1_moves d (si M 59 (((gi M 16 49) - (1 : Int32))).toNatClampNeg (vp_nar .short ((l1 + (1 : Int32))).toInt16.toInt32)) (zargs 0 [vr (some (16, 0, 0)), vi l1, vi (gi M 31 (l1).toNatClampNeg), vi ((gi M 16 49) - (1 : Int32)), vi ((gi M 16 38) - (1 : Int32))]) 0 [] (zafter E YX1_step (d + 1) [] 609 3 [] Q)) else (if (gi M 30 (l1).toNatClampNeg) = 21 then (vp_in ((gi M 16 49) - (1 : Int32)) 24 ∧ (Z E YX1_step (d + 1) (si (si M 59 (((gi M 16 49) - (1 : Int32))).toNatClampNeg (vp_nar .short ((l1 + (1 : Int32))).toInt16.toInt32)) 59 (((gi M 16 49) - (1 : Int32))).toNatClampNeg (vp_nar .short ((gi M 31 (l1).toNatClampNeg)).toInt16.toInt32)) [] 612 [] Q)) else (Z E YX1_moves d (si M 59 (((gi M 16 49) - (1 : Int32))).toNatClampNeg (vp_nar .short ((l1 + (1 : Int32))).toInt16.toInt32)) (zargs 0 [vr (some (16, 0, 0)), vi l1, vi (gi M 31 (l1).toNatClampNeg), vi ((gi M 16 49) - (1 : Int32)), vi ((gi M 16 38) - (1 : Int32))]) 0 [] (zafter E YX1_step (d + 1) [] 609 3 [] Q)))))))))))))))))))))))))))) : Z E YX1_step (d + 1) M [(0, vr (some (16, 0, 0))), (1, vi l1)] 0 [] Q := by
  refine z_aload_n dX1_step_0 rfl rfl ?_
  refine z_getr dX1_step_1 fsX1_89_0 (show gr M 16 9 = some (29, 3, 0) from cw_at hw 5 rfl) ?_
  refine z_getr dX1_step_4 fsX1_337_3 (show gr M 29 1 = some (31, 102, 600) from cw_at hw 51 rfl) ?_
  refine z_iload_n dX1_step_7 rfl rfl ?_
  obtain ⟨b_, k⟩ := k
  refine z_sald dX1_step_8 b_ ?_
  refine z_ist_n dX1_step_9 rfl (by decide) (lv' := [(0, vr (some (16, 0, 0))), (1, vi l1), (2, vi (gi M 31 (l1).toNatClampNeg))]) rfl ?_
  refine z_aload_n dX1_step_10 rfl rfl ?_
  refine z_getr dX1_step_11 fsX1_89_0 (show gr M 16 9 = some (29, 3, 0) from cw_at hw 5 rfl) ?_
  refine z_getr dX1_step_14 fsX1_340_3 (show gr M 29 4 = some (34, 100, 600) from cw_at hw 54 rfl) ?_
  refine z_iload_n dX1_step_17 rfl rfl ?_
  obtain ⟨b_, k⟩ := k
  refine z_iald dX1_step_18 b_ ?_
  refine z_ist_n dX1_step_19 rfl (by decide) (lv' := [(0, vr (some (16, 0, 0))), (1, vi l1), (2, vi (gi M 31 (l1).toNatClampNeg)), (3, vi (gi M 34 (l1).toNatClampNeg))]) rfl ?_
  refine z_aload_n dX1_step_20 rfl rfl ?_
  refine z_geti dX1_step_21 fsX1_328_0 ?_
  refine z_iconst (v := 1) dX1_step_24 rfl ?_
  refine z_isub dX1_step_25 ?_
  refine z_ist dX1_step_26 (by decide) (lv' := [(0, vr (some (16, 0, 0))), (1, vi l1), (2, vi (gi M 31 (l1).toNatClampNeg)), (3, vi (gi M 34 (l1).toNatClampNeg)), (4, vi ((gi M 16 49) - (1 : Int32)))]) rfl ?_
  refine z_aload_n dX1_step_28 rfl rfl ?_
  refine z_geti dX1_step_29 fsX1_440_0 ?_
  refine z_iconst (v := 1) dX1_step_32 rfl ?_
  refine z_isub dX1_step_33 ?_
  refine z_ist dX1_step_34 (by decide) (lv' := [(0, vr (some (16, 0, 0))), (1, vi l1), (2, vi (gi M 31 (l1).toNatClampNeg)), (3, vi (gi M 34 (l1).toNatClampNeg)), (4, vi ((gi M 16 49) - (1 : Int32))), (5, vi ((gi M 16 38) - (1 : Int32)))]) rfl ?_
  refine z_aload_n dX1_step_36 rfl rfl ?_
  refine z_getr dX1_step_37 fsX1_166_0 (show gr M 16 41 = some (59, 102, 24) from cw_at hw 27 rfl) ?_
  refine z_iload dX1_step_40 rfl ?_
  refine z_iload_n dX1_step_42 rfl rfl ?_
  refine z_iconst (v := 1) dX1_step_43 rfl ?_
  refine z_iadd dX1_step_44 ?_
  refine z_i2s dX1_step_45 ?_
  obtain ⟨b_, k⟩ := k
  refine z_sast (by decide) dX1_step_46 b_ ?_
  refine z_aload_n dX1_step_47 rfl rfl ?_
  refine z_getr dX1_step_48 fsX1_89_0 (show gr M 16 9 = some (29, 3, 0) from cw_at hw 5 rfl) ?_
  refine z_getr dX1_step_51 fsX1_334_3 (show gr M 29 0 = some (30, 101, 600) from cw_at hw 50 rfl) ?_
  refine z_iload_n dX1_step_54 rfl rfl ?_
  obtain ⟨b_, k⟩ := k
  refine z_bald dX1_step_55 b_ ?_
  refine Z.eqs (lv' := [(0, vr (some (16, 0, 0))), (1, vi l1), (2, vi (gi M 31 (l1).toNatClampNeg)), (3, vi (gi M 34 (l1).toNatClampNeg)), (4, vi ((gi M 16 49) - (1 : Int32))), (5, vi ((gi M 16 38) - (1 : Int32)))]) (st' := [vi (gi M 30 (l1).toNatClampNeg)]) rfl rfl ?_
  by_cases h0_ : (gi M 30 (l1).toNatClampNeg) = 0
  · have k := zit h0_ k
    refine z_tableIn (off := 104) (tgt := 160) dX1_step_56 (by rw [h0_]; decide) (by rw [h0_]; decide) (by rw [h0_]; rfl) rfl ?_
    refine z_aload_n dX1_step_160 rfl rfl ?_
    refine z_iload_n dX1_step_161 rfl rfl ?_
    refine z_iload_n dX1_step_162 rfl rfl ?_
    refine Z.pick [] rfl ?_
    exact z_callV (as := [vi (gi M 31 (l1).toNatClampNeg), vi (gi M 34 (l1).toNatClampNeg)]) (st := []) dX1_step_163 vsX1_476_0 (Nat.le_refl _) (Nat.le_of_ble_eq_true rfl) (Nat.le_of_ble_eq_true rfl) rfl k
  · have k := zif h0_ k
    by_cases h1_ : (gi M 30 (l1).toNatClampNeg) = 1
    · have k := zit h1_ k
      refine z_tableIn (off := 113) (tgt := 169) dX1_step_56 (by rw [h1_]; decide) (by rw [h1_]; decide) (by rw [h1_]; rfl) rfl ?_
      refine z_aload_n dX1_step_169 rfl rfl ?_
      refine z_aload_n dX1_step_170 rfl rfl ?_
      refine z_iload dX1_step_171 rfl ?_
      refine z_iload_n dX1_step_173 rfl rfl ?_
      refine Z.pick [0, 3] rfl ?_
      exact z_callV (as := [vi ((gi M 16 49) - (1 : Int32)), vi (gi M 31 (l1).toNatClampNeg)]) (st := [vr (some (16, 0, 0))]) dX1_step_174 vsX1_479_0 (Nat.le_refl _) (Nat.le_of_ble_eq_true rfl) (Nat.le_of_ble_eq_true rfl) rfl k
    · have k := zif h1_ k
      by_cases h2_ : (gi M 30 (l1).toNatClampNeg) = 2
      · have k := zit h2_ k
        refine z_tableIn (off := 148) (tgt := 204) dX1_step_56 (by rw [h2_]; decide) (by rw [h2_]; decide) (by rw [h2_]; rfl) rfl ?_
        refine z_aload_n dX1_step_204 rfl rfl ?_
        refine z_aload_n dX1_step_205 rfl rfl ?_
        refine z_iload dX1_step_206 rfl ?_
        refine z_iload_n dX1_step_208 rfl rfl ?_
        refine Z.pick [0, 3, 5] rfl ?_
        exact z_callV (as := [vi ((gi M 16 49) - (1 : Int32)), vi (gi M 31 (l1).toNatClampNeg)]) (st := [vr (some (16, 0, 0))]) dX1_step_209 vsX1_479_0 (Nat.le_refl _) (Nat.le_of_ble_eq_true rfl) (Nat.le_of_ble_eq_true rfl) rfl k
      · have k := zif h2_ k
        by_cases h3_ : (gi M 30 (l1).toNatClampNeg) = 3
        · have k := zit h3_ k
          refine z_tableIn (off := 177) (tgt := 233) dX1_step_56 (by rw [h3_]; decide) (by rw [h3_]; decide) (by rw [h3_]; rfl) rfl ?_
          refine z_aload_n dX1_step_233 rfl rfl ?_
          refine z_iconst (v := 0) dX1_step_234 rfl ?_
          refine z_iload_n dX1_step_235 rfl rfl ?_
          refine Z.pick [0] rfl ?_
          exact z_callV (as := [vi (0 : Int32), vi (gi M 34 (l1).toNatClampNeg)]) (st := []) dX1_step_236 vsX1_346_0 (Nat.le_refl _) (Nat.le_of_ble_eq_true rfl) (Nat.le_of_ble_eq_true rfl) rfl k
        · have k := zif h3_ k
          by_cases h4_ : (gi M 30 (l1).toNatClampNeg) = 4
          · have k := zit h4_ k
            refine z_tableIn (off := 218) (tgt := 274) dX1_step_56 (by rw [h4_]; decide) (by rw [h4_]; decide) (by rw [h4_]; rfl) rfl ?_
            refine z_aload_n dX1_step_274 rfl rfl ?_
            refine z_iconst (v := 0) dX1_step_275 rfl ?_
            refine z_iload_n dX1_step_276 rfl rfl ?_
            refine z_aload_n dX1_step_277 rfl rfl ?_
            refine z_getr dX1_step_278 fsX1_148_0 (show gr M 16 34 = some (53, 101, 14500) from cw_at hw 21 rfl) ?_
            refine z_iload dX1_step_281 rfl ?_
            obtain ⟨b_, k⟩ := k
            refine z_bald dX1_step_283 b_ ?_
            refine z_aload_n dX1_step_284 rfl rfl ?_
            refine z_getr dX1_step_285 fsX1_151_0 (show gr M 16 35 = some (54, 100, 14500) from cw_at hw 22 rfl) ?_
            refine z_iload dX1_step_288 rfl ?_
            obtain ⟨b_, k⟩ := k
            refine z_iald dX1_step_290 b_ ?_
            refine Z.pick [] rfl ?_
            exact z_callV (as := [vi (0 : Int32), vi (gi M 34 (l1).toNatClampNeg), vi (gi M 53 (((gi M 16 38) - (1 : Int32))).toNatClampNeg), vi (gi M 54 (((gi M 16 38) - (1 : Int32))).toNatClampNeg)]) (st := []) dX1_step_291 vsX1_358_0 (Nat.le_refl _) (Nat.le_of_ble_eq_true rfl) (Nat.le_of_ble_eq_true rfl) rfl k
          · have k := zif h4_ k
            by_cases h5_ : (gi M 30 (l1).toNatClampNeg) = 5
            · have k := zit h5_ k
              refine z_tableIn (off := 241) (tgt := 297) dX1_step_56 (by rw [h5_]; decide) (by rw [h5_]; decide) (by rw [h5_]; rfl) rfl ?_
              refine z_aload_n dX1_step_297 rfl rfl ?_
              refine z_iconst (v := 0) dX1_step_298 rfl ?_
              refine z_iload_n dX1_step_299 rfl rfl ?_
              refine Z.pick [0] rfl ?_
              exact z_callV (as := [vi (0 : Int32), vi (gi M 34 (l1).toNatClampNeg)]) (st := []) dX1_step_300 vsX1_346_0 (Nat.le_refl _) (Nat.le_of_ble_eq_true rfl) (Nat.le_of_ble_eq_true rfl) rfl k
            · have k := zif h5_ k
              by_cases h6_ : (gi M 30 (l1).toNatClampNeg) = 6
              · have k := zit h6_ k
                refine z_tableIn (off := 287) (tgt := 343) dX1_step_56 (by rw [h6_]; decide) (by rw [h6_]; decide) (by rw [h6_]; rfl) rfl ?_
                refine z_aload_n dX1_step_343 rfl rfl ?_
                refine z_aload_n dX1_step_344 rfl rfl ?_
                refine z_getr dX1_step_345 fsX1_178_0 (show gr M 16 45 = some (63, 101, 24) from cw_at hw 31 rfl) ?_
                refine z_iload dX1_step_348 rfl ?_
                obtain ⟨b_, k⟩ := k
                refine z_bald dX1_step_350 b_ ?_
                refine z_aload_n dX1_step_351 rfl rfl ?_
                refine z_getr dX1_step_352 fsX1_181_0 (show gr M 16 46 = some (64, 100, 24) from cw_at hw 32 rfl) ?_
                refine z_iload dX1_step_355 rfl ?_
                obtain ⟨b_, k⟩ := k
                refine z_iald dX1_step_357 b_ ?_
                refine Z.pick [] rfl ?_
                exact z_callV (as := [vi (gi M 63 (((gi M 16 49) - (1 : Int32))).toNatClampNeg), vi (gi M 64 (((gi M 16 49) - (1 : Int32))).toNatClampNeg)]) (st := []) dX1_step_358 vsX1_476_0 (Nat.le_refl _) (Nat.le_of_ble_eq_true rfl) (Nat.le_of_ble_eq_true rfl) rfl k
              · have k := zif h6_ k
                by_cases h7_ : (gi M 30 (l1).toNatClampNeg) = 7
                · have k := zit h7_ k
                  refine z_tableIn (off := 308) (tgt := 364) dX1_step_56 (by rw [h7_]; decide) (by rw [h7_]; decide) (by rw [h7_]; rfl) rfl ?_
                  refine z_aload_n dX1_step_364 rfl rfl ?_
                  refine z_bipush (v := 7) dX1_step_365 rfl ?_
                  refine z_aload_n dX1_step_367 rfl rfl ?_
                  refine z_iconst (v := 0) dX1_step_368 rfl ?_
                  refine z_aload_n dX1_step_369 rfl rfl ?_
                  refine z_iload_n dX1_step_370 rfl rfl ?_
                  refine Z.pick [] rfl ?_
                  exact z_callV (as := [vi (gi M 31 (l1).toNatClampNeg)]) (st := [vi (0 : Int32), vr (some (16, 0, 0)), vi (7 : Int32), vr (some (16, 0, 0))]) dX1_step_371 vsX1_486_0 (Nat.le_refl _) (Nat.le_of_ble_eq_true rfl) (Nat.le_of_ble_eq_true rfl) rfl k
                · have k := zif h7_ k
                  by_cases h8_ : (gi M 30 (l1).toNatClampNeg) = 8
                  · have k := zit h8_ k
                    refine z_tableIn (off := 329) (tgt := 385) dX1_step_56 (by rw [h8_]; decide) (by rw [h8_]; decide) (by rw [h8_]; rfl) rfl ?_
                    refine z_aload_n dX1_step_385 rfl rfl ?_
                    refine z_bipush (v := 7) dX1_step_386 rfl ?_
                    refine z_aload_n dX1_step_388 rfl rfl ?_
                    refine z_aload_n dX1_step_389 rfl rfl ?_
                    refine z_iload_n dX1_step_390 rfl rfl ?_
                    refine Z.pick [] rfl ?_
                    exact z_callV (as := [vi (gi M 31 (l1).toNatClampNeg)]) (st := [vr (some (16, 0, 0)), vi (7 : Int32), vr (some (16, 0, 0))]) dX1_step_391 vsX1_486_0 (Nat.le_refl _) (Nat.le_of_ble_eq_true rfl) (Nat.le_of_ble_eq_true rfl) rfl k
                  · have k := zif h8_ k
                    by_cases h9_ : (gi M 30 (l1).toNatClampNeg) = 9
                    · have k := zit h9_ k
                      refine z_tableIn (off := 347) (tgt := 403) dX1_step_56 (by rw [h9_]; decide) (by rw [h9_]; decide) (by rw [h9_]; rfl) rfl ?_
                      refine z_aload_n dX1_step_403 rfl rfl ?_
                      refine z_bipush (v := 7) dX1_step_404 rfl ?_
                      refine z_aload_n dX1_step_406 rfl rfl ?_
                      refine z_iload_n dX1_step_407 rfl rfl ?_
                      refine z_aload_n dX1_step_408 rfl rfl ?_
                      refine z_getr dX1_step_409 fsX1_163_0 (show gr M 16 40 = some (58, 102, 24) from cw_at hw 26 rfl) ?_
                      refine z_iload dX1_step_412 rfl ?_
                      obtain ⟨b_, k⟩ := k
                      refine z_sald dX1_step_414 b_ ?_
                      refine Z.pick [] rfl ?_
                      exact z_callV (as := [vi (gi M 31 (l1).toNatClampNeg), vi (gi M 58 (((gi M 16 49) - (1 : Int32))).toNatClampNeg)]) (st := [vi (7 : Int32), vr (some (16, 0, 0))]) dX1_step_415 vsX1_492_0 (Nat.le_refl _) (Nat.le_of_ble_eq_true rfl) (Nat.le_of_ble_eq_true rfl) rfl k
                    · have k := zif h9_ k
                      by_cases h10_ : (gi M 30 (l1).toNatClampNeg) = 10
                      · have k := zit h10_ k
                        refine z_tableIn (off := 368) (tgt := 424) dX1_step_56 (by rw [h10_]; decide) (by rw [h10_]; decide) (by rw [h10_]; rfl) rfl ?_
                        refine z_aload_n dX1_step_424 rfl rfl ?_
                        refine Z.pick [] rfl ?_
                        exact z_callV (as := []) (st := []) dX1_step_425 vsX1_495_0 (Nat.le_refl _) (Nat.le_of_ble_eq_true rfl) (Nat.le_of_ble_eq_true rfl) rfl k
                      · have k := zif h10_ k
                        by_cases h11_ : (gi M 30 (l1).toNatClampNeg) = 11
                        · have k := zit h11_ k
                          refine z_tableIn (off := 375) (tgt := 431) dX1_step_56 (by rw [h11_]; decide) (by rw [h11_]; decide) (by rw [h11_]; rfl) rfl ?_
                          refine z_aload_n dX1_step_431 rfl rfl ?_
                          refine Z.pick [] rfl ?_
                          exact z_callV (as := []) (st := []) dX1_step_432 vsX1_498_0 (Nat.le_refl _) (Nat.le_of_ble_eq_true rfl) (Nat.le_of_ble_eq_true rfl) rfl k
                        · have k := zif h11_ k
                          by_cases h12_ : (gi M 30 (l1).toNatClampNeg) = 12
                          · have k := zit h12_ k
                            refine z_tableIn (off := 382) (tgt := 438) dX1_step_56 (by rw [h12_]; decide) (by rw [h12_]; decide) (by rw [h12_]; rfl) rfl ?_
                            refine z_aload_n dX1_step_438 rfl rfl ?_
                            refine Z.pick [] rfl ?_
                            exact z_callV (as := []) (st := []) dX1_step_439 vsX1_501_0 (Nat.le_refl _) (Nat.le_of_ble_eq_true rfl) (Nat.le_of_ble_eq_true rfl) rfl k
                          · have k := zif h12_ k
                            by_cases h13_ : (gi M 30 (l1).toNatClampNeg) = 13
                            · have k := zit h13_ k
                              refine z_tableIn (off := 389) (tgt := 445) dX1_step_56 (by rw [h13_]; decide) (by rw [h13_]; decide) (by rw [h13_]; rfl) rfl ?_
                              refine z_aload_n dX1_step_445 rfl rfl ?_
                              refine z_iload_n dX1_step_446 rfl rfl ?_
                              refine z_aload_n dX1_step_447 rfl rfl ?_
                              refine z_getr dX1_step_448 fsX1_148_0 (show gr M 16 34 = some (53, 101, 14500) from cw_at hw 21 rfl) ?_
                              refine z_iload dX1_step_451 rfl ?_
                              obtain ⟨b_, k⟩ := k
                              refine z_bald dX1_step_453 b_ ?_
                              refine z_aload_n dX1_step_454 rfl rfl ?_
                              refine z_getr dX1_step_455 fsX1_151_0 (show gr M 16 35 = some (54, 100, 14500) from cw_at hw 22 rfl) ?_
                              refine z_iload dX1_step_458 rfl ?_
                              obtain ⟨b_, k⟩ := k
                              refine z_iald dX1_step_460 b_ ?_
                              refine Z.pick [0] rfl ?_
                              exact z_callV (as := [vi (gi M 31 (l1).toNatClampNeg), vi (gi M 53 (((gi M 16 38) - (1 : Int32))).toNatClampNeg), vi (gi M 54 (((gi M 16 38) - (1 : Int32))).toNatClampNeg)]) (st := []) dX1_step_461 vsX1_504_0 (Nat.le_refl _) (Nat.le_of_ble_eq_true rfl) (Nat.le_of_ble_eq_true rfl) rfl k
                            · have k := zif h13_ k
                              by_cases h14_ : (gi M 30 (l1).toNatClampNeg) = 14
                              · have k := zit h14_ k
                                refine z_tableIn (off := 416) (tgt := 472) dX1_step_56 (by rw [h14_]; decide) (by rw [h14_]; decide) (by rw [h14_]; rfl) rfl ?_
                                refine z_iload_n dX1_step_472 rfl rfl ?_
                                refine z_bipush (v := 19) dX1_step_473 rfl ?_
                                refine z_icmp_ge (tgt := 518) dX1_step_475 rfl (fun h_ => ?_) (fun h_ => ?_)
                                · have k := zit h_ k
                                  refine z_iload_n dX1_step_518 rfl rfl ?_
                                  refine z_bipush (v := 19) dX1_step_519 rfl ?_
                                  refine z_icmp_ne (tgt := 531) dX1_step_521 rfl (fun h_ => ?_) (fun h_ => ?_)
                                  · have k := zif h_ k
                                    refine z_aload_n dX1_step_531 rfl rfl ?_
                                    refine Z.pick [0] rfl ?_
                                    exact z_callV (as := []) (st := []) dX1_step_532 vsX1_517_0 (Nat.le_refl _) (Nat.le_of_ble_eq_true rfl) (Nat.le_of_ble_eq_true rfl) rfl k
                                  · have k := zit h_ k
                                    refine z_aload_n dX1_step_524 rfl rfl ?_
                                    refine Z.pick [0] rfl ?_
                                    exact z_callV (as := []) (st := []) dX1_step_525 vsX1_514_0 (Nat.le_refl _) (Nat.le_of_ble_eq_true rfl) (Nat.le_of_ble_eq_true rfl) rfl k
                                · have k := zif h_ k
                                  refine z_aload_n dX1_step_478 rfl rfl ?_
                                  refine z_iload_n dX1_step_479 rfl rfl ?_
                                  refine z_aload_n dX1_step_480 rfl rfl ?_
                                  refine z_getr dX1_step_481 fsX1_148_0 (show gr M 16 34 = some (53, 101, 14500) from cw_at hw 21 rfl) ?_
                                  refine z_iload dX1_step_484 rfl ?_
                                  refine z_iconst (v := 1) dX1_step_486 rfl ?_
                                  refine z_isub dX1_step_487 ?_
                                  obtain ⟨b_, k⟩ := k
                                  refine z_bald dX1_step_488 b_ ?_
                                  refine z_aload_n dX1_step_489 rfl rfl ?_
                                  refine z_getr dX1_step_490 fsX1_151_0 (show gr M 16 35 = some (54, 100, 14500) from cw_at hw 22 rfl) ?_
                                  refine z_iload dX1_step_493 rfl ?_
                                  refine z_iconst (v := 1) dX1_step_495 rfl ?_
                                  refine z_isub dX1_step_496 ?_
                                  obtain ⟨b_, k⟩ := k
                                  refine z_iald dX1_step_497 b_ ?_
                                  refine z_aload_n dX1_step_498 rfl rfl ?_
                                  refine z_getr dX1_step_499 fsX1_148_0 (show gr M 16 34 = some (53, 101, 14500) from cw_at hw 21 rfl) ?_
                                  refine z_iload dX1_step_502 rfl ?_
                                  obtain ⟨b_, k⟩ := k
                                  refine z_bald dX1_step_504 b_ ?_
                                  refine z_aload_n dX1_step_505 rfl rfl ?_
                                  refine z_getr dX1_step_506 fsX1_151_0 (show gr M 16 35 = some (54, 100, 14500) from cw_at hw 22 rfl) ?_
                                  refine z_iload dX1_step_509 rfl ?_
                                  obtain ⟨b_, k⟩ := k
                                  refine z_iald dX1_step_511 b_ ?_
                                  refine Z.pick [0] rfl ?_
                                  exact z_callV (as := [vi (gi M 31 (l1).toNatClampNeg), vi (gi M 53 ((((gi M 16 38) - (1 : Int32)) - (1 : Int32))).toNatClampNeg), vi (gi M 54 ((((gi M 16 38) - (1 : Int32)) - (1 : Int32))).toNatClampNeg), vi (gi M 53 (((gi M 16 38) - (1 : Int32))).toNatClampNeg), vi (gi M 54 (((gi M 16 38) - (1 : Int32))).toNatClampNeg)]) (st := []) dX1_step_512 vsX1_511_0 (Nat.le_refl _) (Nat.le_of_ble_eq_true rfl) (Nat.le_of_ble_eq_true rfl) rfl k
                              · have k := zif h14_ k
                                by_cases h15_ : (gi M 30 (l1).toNatClampNeg) = 15
                                · have k := zit h15_ k
                                  refine z_tableIn (off := 487) (tgt := 543) dX1_step_56 (by rw [h15_]; decide) (by rw [h15_]; decide) (by rw [h15_]; rfl) rfl ?_
                                  refine z_aload_n dX1_step_543 rfl rfl ?_
                                  refine z_aload_n dX1_step_544 rfl rfl ?_
                                  refine z_geti dX1_step_545 fsX1_440_0 ?_
                                  refine z_iload_n dX1_step_548 rfl rfl ?_
                                  refine z_isub dX1_step_549 ?_
                                  refine z_iconst (v := 2) dX1_step_550 rfl ?_
                                  refine z_isub dX1_step_551 ?_
                                  refine z_aload_n dX1_step_552 rfl rfl ?_
                                  refine z_geti dX1_step_553 fsX1_440_0 ?_
                                  refine z_iload_n dX1_step_556 rfl rfl ?_
                                  refine z_isub dX1_step_557 ?_
                                  refine z_iconst (v := 1) dX1_step_558 rfl ?_
                                  refine z_isub dX1_step_559 ?_
                                  refine z_aload_n dX1_step_560 rfl rfl ?_
                                  refine z_geti dX1_step_561 fsX1_440_0 ?_
                                  refine z_iload_n dX1_step_564 rfl rfl ?_
                                  refine z_isub dX1_step_565 ?_
                                  refine z_iload_n dX1_step_566 rfl rfl ?_
                                  refine z_aload_n dX1_step_567 rfl rfl ?_
                                  refine z_geti dX1_step_568 fsX1_440_0 ?_
                                  refine z_iload_n dX1_step_571 rfl rfl ?_
                                  refine z_isub dX1_step_572 ?_
                                  refine z_iconst (v := 2) dX1_step_573 rfl ?_
                                  refine z_isub dX1_step_574 ?_
                                  refine Z.pick [] rfl ?_
                                  exact z_callV (as := [vi (((gi M 16 38) - (gi M 31 (l1).toNatClampNeg)) - (2 : Int32)), vi (((gi M 16 38) - (gi M 31 (l1).toNatClampNeg)) - (1 : Int32)), vi ((gi M 16 38) - (gi M 31 (l1).toNatClampNeg)), vi (gi M 31 (l1).toNatClampNeg), vi (((gi M 16 38) - (gi M 31 (l1).toNatClampNeg)) - (2 : Int32))]) (st := []) dX1_step_575 vsX1_520_0 (Nat.le_refl _) (Nat.le_of_ble_eq_true rfl) (Nat.le_of_ble_eq_true rfl) rfl k
                                · have k := zif h15_ k
                                  by_cases h16_ : (gi M 30 (l1).toNatClampNeg) = 16
                                  · have k := zit h16_ k
                                    refine z_tableIn (off := 525) (tgt := 581) dX1_step_56 (by rw [h16_]; decide) (by rw [h16_]; decide) (by rw [h16_]; rfl) rfl ?_
                                    refine z_aload_n dX1_step_581 rfl rfl ?_
                                    refine z_iload_n dX1_step_582 rfl rfl ?_
                                    refine z_iload_n dX1_step_583 rfl rfl ?_
                                    refine Z.pick [] rfl ?_
                                    exact z_callV (as := [vi (gi M 31 (l1).toNatClampNeg), vi (gi M 34 (l1).toNatClampNeg)]) (st := []) dX1_step_584 vsX1_523_0 (Nat.le_refl _) (Nat.le_of_ble_eq_true rfl) (Nat.le_of_ble_eq_true rfl) rfl k
                                  · have k := zif h16_ k
                                    by_cases h17_ : (gi M 30 (l1).toNatClampNeg) = 17
                                    · have k := zit h17_ k
                                      refine z_tableIn (off := 546) (tgt := 602) dX1_step_56 (by rw [h17_]; decide) (by rw [h17_]; decide) (by rw [h17_]; rfl) rfl ?_
                                      refine z_aload_n dX1_step_602 rfl rfl ?_
                                      refine z_iload_n dX1_step_603 rfl rfl ?_
                                      refine z_iload_n dX1_step_604 rfl rfl ?_
                                      refine z_iload dX1_step_605 rfl ?_
                                      refine z_iload dX1_step_607 rfl ?_
                                      refine Z.pick [] rfl ?_
                                      exact z_callV (as := [vi l1, vi (gi M 31 (l1).toNatClampNeg), vi ((gi M 16 49) - (1 : Int32)), vi ((gi M 16 38) - (1 : Int32))]) (st := []) dX1_step_609 vsX1_526_0 (Nat.le_refl _) (Nat.le_of_ble_eq_true rfl) (Nat.le_of_ble_eq_true rfl) rfl k
                                    · have k := zif h17_ k
                                      by_cases h18_ : (gi M 30 (l1).toNatClampNeg) = 18
                                      · have k := zit h18_ k
                                        refine z_tableIn (off := 546) (tgt := 602) dX1_step_56 (by rw [h18_]; decide) (by rw [h18_]; decide) (by rw [h18_]; rfl) rfl ?_
                                        refine z_aload_n dX1_step_602 rfl rfl ?_
                                        refine z_iload_n dX1_step_603 rfl rfl ?_
                                        refine z_iload_n dX1_step_604 rfl rfl ?_
                                        refine z_iload dX1_step_605 rfl ?_
                                        refine z_iload dX1_step_607 rfl ?_
                                        refine Z.pick [] rfl ?_
                                        exact z_callV (as := [vi l1, vi (gi M 31 (l1).toNatClampNeg), vi ((gi M 16 49) - (1 : Int32)), vi ((gi M 16 38) - (1 : Int32))]) (st := []) dX1_step_609 vsX1_526_0 (Nat.le_refl _) (Nat.le_of_ble_eq_true rfl) (Nat.le_of_ble_eq_true rfl) rfl k
                                      · have k := zif h18_ k
                                        by_cases h19_ : (gi M 30 (l1).toNatClampNeg) = 19
                                        · have k := zit h19_ k
                                          refine z_tableIn (off := 546) (tgt := 602) dX1_step_56 (by rw [h19_]; decide) (by rw [h19_]; decide) (by rw [h19_]; rfl) rfl ?_
                                          refine z_aload_n dX1_step_602 rfl rfl ?_
                                          refine z_iload_n dX1_step_603 rfl rfl ?_
                                          refine z_iload_n dX1_step_604 rfl rfl ?_
                                          refine z_iload dX1_step_605 rfl ?_
                                          refine z_iload dX1_step_607 rfl ?_
                                          refine Z.pick [] rfl ?_
                                          exact z_callV (as := [vi l1, vi (gi M 31 (l1).toNatClampNeg), vi ((gi M 16 49) - (1 : Int32)), vi ((gi M 16 38) - (1 : Int32))]) (st := []) dX1_step_609 vsX1_526_0 (Nat.le_refl _) (Nat.le_of_ble_eq_true rfl) (Nat.le_of_ble_eq_true rfl) rfl k
                                        · have k := zif h19_ k
                                          by_cases h20_ : (gi M 30 (l1).toNatClampNeg) = 20
                                          · have k := zit h20_ k
                                            refine z_tableIn (off := 546) (tgt := 602) dX1_step_56 (by rw [h20_]; decide) (by rw [h20_]; decide) (by rw [h20_]; rfl) rfl ?_
                                            refine z_aload_n dX1_step_602 rfl rfl ?_
                                            refine z_iload_n dX1_step_603 rfl rfl ?_
                                            refine z_iload_n dX1_step_604 rfl rfl ?_
                                            refine z_iload dX1_step_605 rfl ?_
                                            refine z_iload dX1_step_607 rfl ?_
                                            refine Z.pick [] rfl ?_
                                            exact z_callV (as := [vi l1, vi (gi M 31 (l1).toNatClampNeg), vi ((gi M 16 49) - (1 : Int32)), vi ((gi M 16 38) - (1 : Int32))]) (st := []) dX1_step_609 vsX1_526_0 (Nat.le_refl _) (Nat.le_of_ble_eq_true rfl) (Nat.le_of_ble_eq_true rfl) rfl k
                                          · have k := zif h20_ k
                                            by_cases h21_ : (gi M 30 (l1).toNatClampNeg) = 21
                                            · have k := zit h21_ k
                                              refine z_tableIn (off := 534) (tgt := 590) dX1_step_56 (by rw [h21_]; decide) (by rw [h21_]; decide) (by rw [h21_]; rfl) rfl ?_
                                              refine z_aload_n dX1_step_590 rfl rfl ?_
                                              refine z_getr dX1_step_591 fsX1_166_0 (show gr M 16 41 = some (59, 102, 24) from cw_at hw 27 rfl) ?_
                                              refine z_iload dX1_step_594 rfl ?_
                                              refine z_iload_n dX1_step_596 rfl rfl ?_
                                              refine z_i2s dX1_step_597 ?_
                                              obtain ⟨b_, k⟩ := k
                                              refine z_sast (by decide) dX1_step_598 b_ ?_
                                              refine z_goto (tgt := 612) dX1_step_599 rfl ?_
                                              refine Z.pick [] rfl ?_
                                              exact k
                                            · have k := zif h21_ k
                                              refine z_tout (tgt := 602) [0, 1, 2, 3, 4, 5, 6, 7, 8, 9, 10, 11, 12, 13, 14, 15, 16, 17, 18, 19, 20, 21] (by decide) dX1_step_56 (zall_1 h0_ (zall_1 h1_ (zall_1 h2_ (zall_1 h3_ (zall_1 h4_ (zall_1 h5_ (zall_1 h6_ (zall_1 h7_ (zall_1 h8_ (zall_1 h9_ (zall_1 h10_ (zall_1 h11_ (zall_1 h12_ (zall_1 h13_ (zall_1 h14_ (zall_1 h15_ (zall_1 h16_ (zall_1 h17_ (zall_1 h18_ (zall_1 h19_ (zall_1 h20_ (zall_1 h21_ zall_0)))))))))))))))))))))) rfl ?_
                                              refine z_aload_n dX1_step_602 rfl rfl ?_
                                              refine z_iload_n dX1_step_603 rfl rfl ?_
                                              refine z_iload_n dX1_step_604 rfl rfl ?_
                                              refine z_iload dX1_step_605 rfl ?_
                                              refine z_iload dX1_step_607 rfl ?_
                                              refine Z.pick [] rfl ?_
                                              exact z_callV (as := [vi l1, vi (gi M 31 (l1).toNatClampNeg), vi ((gi M 16 49) - (1 : Int32)), vi ((gi M 16 38) - (1 : Int32))]) (st := []) dX1_step_609 vsX1_526_0 (Nat.le_refl _) (Nat.le_of_ble_eq_true rfl) (Nat.le_of_ble_eq_true rfl) rfl k
theorem sX1_step_166 {E : zE} {d : Nat} {Q : zO → zM → Prop} (M : zM)  (hw : cw M) (k : Z E YX1_step (d + 1) M [] 612 [] Q) : Z E YX1_step (d + 1) M [] 166 [] Q := by
  refine z_goto (tgt := 612) dX1_step_166 rfl ?_
  exact k
theorem sX1_step_177 {E : zE} {d : Nat} {Q : zO → zM → Prop} (M : zM) (l3 : Int32) (s0 : Int32) (hw : cw M) (k : Z E YX1_own d M (zargs 0 [vr (some (16, 0, 0)), vi s0, vi l3]) 0 [] (zafter E YX1_step (d + 1) [(0, vr (some (16, 0, 0)))] 178 3 [] Q)) : Z E YX1_step (d + 1) M [(0, vr (some (16, 0, 0))), (3, vi l3)] 177 [vi s0, vr (some (16, 0, 0))] Q := by
  refine z_iload_n dX1_step_177 rfl rfl ?_
  refine Z.pick [0] rfl ?_
  exact z_callV (as := [vi s0, vi l3]) (st := []) dX1_step_178 vsX1_346_0 (Nat.le_refl _) (Nat.le_of_ble_eq_true rfl) (Nat.le_of_ble_eq_true rfl) rfl k
theorem sX1_step_181 {E : zE} {d : Nat} {Q : zO → zM → Prop} (M : zM) (s0 : Int32) (hw : cw M) (k : vp_in s0 3000 ∧ (vp_in s0 3000 ∧ (Z E YX1_push d M (zargs 0 [vr (some (16, 0, 0)), vi (gi M 48 (s0).toNatClampNeg), vi (gi M 49 (s0).toNatClampNeg)]) 0 [] (zafter E YX1_step (d + 1) [] 198 3 [] Q)))) : Z E YX1_step (d + 1) M [(0, vr (some (16, 0, 0)))] 181 [vi s0] Q := by
  refine z_ist dX1_step_181 (by decide) (lv' := [(0, vr (some (16, 0, 0))), (6, vi s0)]) rfl ?_
  refine z_aload_n dX1_step_183 rfl rfl ?_
  refine z_aload_n dX1_step_184 rfl rfl ?_
  refine z_getr dX1_step_185 fsX1_124_0 (show gr M 16 23 = some (48, 101, 3000) from cw_at hw 16 rfl) ?_
  refine z_iload dX1_step_188 rfl ?_
  obtain ⟨b_, k⟩ := k
  refine z_bald dX1_step_190 b_ ?_
  refine z_aload_n dX1_step_191 rfl rfl ?_
  refine z_getr dX1_step_192 fsX1_127_0 (show gr M 16 24 = some (49, 100, 3000) from cw_at hw 17 rfl) ?_
  refine z_iload dX1_step_195 rfl ?_
  obtain ⟨b_, k⟩ := k
  refine z_iald dX1_step_197 b_ ?_
  refine Z.pick [] rfl ?_
  exact z_callV (as := [vi (gi M 48 (s0).toNatClampNeg), vi (gi M 49 (s0).toNatClampNeg)]) (st := []) dX1_step_198 vsX1_476_0 (Nat.le_refl _) (Nat.le_of_ble_eq_true rfl) (Nat.le_of_ble_eq_true rfl) rfl k
theorem sX1_step_201 {E : zE} {d : Nat} {Q : zO → zM → Prop} (M : zM)  (hw : cw M) (k : Z E YX1_step (d + 1) M [] 612 [] Q) : Z E YX1_step (d + 1) M [] 201 [] Q := by
  refine z_goto (tgt := 612) dX1_step_201 rfl ?_
  exact k
theorem sX1_step_212 {E : zE} {d : Nat} {Q : zO → zM → Prop} (M : zM) (l3 : Int32) (l5 : Int32) (s0 : Int32) (hw : cw M) (k : vp_in l5 14500 ∧ (vp_in l5 14500 ∧ (Z E YX1_setOwn d M (zargs 0 [vr (some (16, 0, 0)), vi s0, vi l3, vi (gi M 53 (l5).toNatClampNeg), vi (gi M 54 (l5).toNatClampNeg)]) 0 [] (zafter E YX1_step (d + 1) [] 227 3 [] Q)))) : Z E YX1_step (d + 1) M [(0, vr (some (16, 0, 0))), (3, vi l3), (5, vi l5)] 212 [vi s0, vr (some (16, 0, 0))] Q := by
  refine z_iload_n dX1_step_212 rfl rfl ?_
  refine z_aload_n dX1_step_213 rfl rfl ?_
  refine z_getr dX1_step_214 fsX1_148_0 (show gr M 16 34 = some (53, 101, 14500) from cw_at hw 21 rfl) ?_
  refine z_iload dX1_step_217 rfl ?_
  obtain ⟨b_, k⟩ := k
  refine z_bald dX1_step_219 b_ ?_
  refine z_aload_n dX1_step_220 rfl rfl ?_
  refine z_getr dX1_step_221 fsX1_151_0 (show gr M 16 35 = some (54, 100, 14500) from cw_at hw 22 rfl) ?_
  refine z_iload dX1_step_224 rfl ?_
  obtain ⟨b_, k⟩ := k
  refine z_iald dX1_step_226 b_ ?_
  refine Z.pick [] rfl ?_
  exact z_callV (as := [vi s0, vi l3, vi (gi M 53 (l5).toNatClampNeg), vi (gi M 54 (l5).toNatClampNeg)]) (st := []) dX1_step_227 vsX1_358_0 (Nat.le_refl _) (Nat.le_of_ble_eq_true rfl) (Nat.le_of_ble_eq_true rfl) rfl k
theorem sX1_step_230 {E : zE} {d : Nat} {Q : zO → zM → Prop} (M : zM)  (hw : cw M) (k : Z E YX1_step (d + 1) M [] 612 [] Q) : Z E YX1_step (d + 1) M [] 230 [] Q := by
  refine z_goto (tgt := 612) dX1_step_230 rfl ?_
  exact k
theorem sX1_step_239 {E : zE} {d : Nat} {Q : zO → zM → Prop} (M : zM) (s0 : Int32) (hw : cw M) (k : if s0 = (-1 : Int32) then (Z E YX1_error d M (zargs 0 [vr (some (16, 0, 0)), vi (1 : Int32)]) 0 [] (zafter E YX1_step (d + 1) [] 249 3 [] Q)) else (vp_in s0 3000 ∧ (vp_in s0 3000 ∧ (Z E YX1_push d M (zargs 0 [vr (some (16, 0, 0)), vi (gi M 48 (s0).toNatClampNeg), vi (gi M 49 (s0).toNatClampNeg)]) 0 [] (zafter E YX1_step (d + 1) [] 268 3 [] Q))))) : Z E YX1_step (d + 1) M [(0, vr (some (16, 0, 0)))] 239 [vi s0] Q := by
  refine z_ist dX1_step_239 (by decide) (lv' := [(0, vr (some (16, 0, 0))), (6, vi s0)]) rfl ?_
  refine z_iload dX1_step_241 rfl ?_
  refine z_iconst (v := -1) dX1_step_243 rfl ?_
  refine z_icmp_ne (tgt := 253) dX1_step_244 rfl (fun h_ => ?_) (fun h_ => ?_)
  · have k := zif h_ k
    refine z_aload_n dX1_step_253 rfl rfl ?_
    refine z_aload_n dX1_step_254 rfl rfl ?_
    refine z_getr dX1_step_255 fsX1_124_0 (show gr M 16 23 = some (48, 101, 3000) from cw_at hw 16 rfl) ?_
    refine z_iload dX1_step_258 rfl ?_
    obtain ⟨b_, k⟩ := k
    refine z_bald dX1_step_260 b_ ?_
    refine z_aload_n dX1_step_261 rfl rfl ?_
    refine z_getr dX1_step_262 fsX1_127_0 (show gr M 16 24 = some (49, 100, 3000) from cw_at hw 17 rfl) ?_
    refine z_iload dX1_step_265 rfl ?_
    obtain ⟨b_, k⟩ := k
    refine z_iald dX1_step_267 b_ ?_
    refine Z.pick [] rfl ?_
    exact z_callV (as := [vi (gi M 48 (s0).toNatClampNeg), vi (gi M 49 (s0).toNatClampNeg)]) (st := []) dX1_step_268 vsX1_476_0 (Nat.le_refl _) (Nat.le_of_ble_eq_true rfl) (Nat.le_of_ble_eq_true rfl) rfl k
  · have k := zit h_ k
    refine z_aload_n dX1_step_247 rfl rfl ?_
    refine z_iconst (v := 1) dX1_step_248 rfl ?_
    refine Z.pick [] rfl ?_
    exact z_callV (as := [vi (1 : Int32)]) (st := []) dX1_step_249 vsX1_482_0 (Nat.le_refl _) (Nat.le_of_ble_eq_true rfl) (Nat.le_of_ble_eq_true rfl) rfl k
theorem sX1_step_252 {E : zE} {d : Nat} {Q : zO → zM → Prop} (M : zM) (u0 : Option zP) (hw : cw M) (k : ∃ b1 : Nat, u0 = some (b1, 14, 0) ∧ (Q (.inr (b1, 14, 0)) M)) : Z E YX1_step (d + 1) M [] 252 [vr u0] Q := by
  obtain ⟨b1, e1_, k⟩ := k
  refine Z.eqs (lv' := []) (st' := [vr (some (b1, 14, 0))]) rfl (by rw [e1_] <;> rfl) ?_
  exact z_athrow dX1_step_252 (ZT.out (by decide) k)
theorem sX1_step_271 {E : zE} {d : Nat} {Q : zO → zM → Prop} (M : zM)  (hw : cw M) (k : Z E YX1_step (d + 1) M [] 612 [] Q) : Z E YX1_step (d + 1) M [] 271 [] Q := by
  refine z_goto (tgt := 612) dX1_step_271 rfl ?_
  exact k
theorem sX1_step_294 {E : zE} {d : Nat} {Q : zO → zM → Prop} (M : zM)  (hw : cw M) (k : Z E YX1_step (d + 1) M [] 612 [] Q) : Z E YX1_step (d + 1) M [] 294 [] Q := by
  refine z_goto (tgt := 612) dX1_step_294 rfl ?_
  exact k
theorem sX1_step_303 {E : zE} {d : Nat} {Q : zO → zM → Prop} (M : zM) (s0 : Int32) (hw : cw M) (k : if s0 = (-1 : Int32) then (Z E YX1_step (d + 1) M [] 337 [vi (19 : Int32), vi (6 : Int32), vr (some (16, 0, 0))] Q) else (vp_in s0 3000 ∧ (vp_in s0 3000 ∧ (Z E YX1_typeOf d M (zargs 0 [vr (some (16, 0, 0)), vi (gi M 48 (s0).toNatClampNeg), vi (gi M 49 (s0).toNatClampNeg)]) 0 [] (zafter E YX1_step (d + 1) [] 334 3 [vi (6 : Int32), vr (some (16, 0, 0))] Q))))) : Z E YX1_step (d + 1) M [(0, vr (some (16, 0, 0)))] 303 [vi s0] Q := by
  refine z_ist dX1_step_303 (by decide) (lv' := [(0, vr (some (16, 0, 0))), (6, vi s0)]) rfl ?_
  refine z_aload_n dX1_step_305 rfl rfl ?_
  refine z_bipush (v := 6) dX1_step_306 rfl ?_
  refine z_iload dX1_step_308 rfl ?_
  refine z_iconst (v := -1) dX1_step_310 rfl ?_
  refine z_icmp_ne (tgt := 319) dX1_step_311 rfl (fun h_ => ?_) (fun h_ => ?_)
  · have k := zif h_ k
    refine z_aload_n dX1_step_319 rfl rfl ?_
    refine z_aload_n dX1_step_320 rfl rfl ?_
    refine z_getr dX1_step_321 fsX1_124_0 (show gr M 16 23 = some (48, 101, 3000) from cw_at hw 16 rfl) ?_
    refine z_iload dX1_step_324 rfl ?_
    obtain ⟨b_, k⟩ := k
    refine z_bald dX1_step_326 b_ ?_
    refine z_aload_n dX1_step_327 rfl rfl ?_
    refine z_getr dX1_step_328 fsX1_127_0 (show gr M 16 24 = some (49, 100, 3000) from cw_at hw 17 rfl) ?_
    refine z_iload dX1_step_331 rfl ?_
    obtain ⟨b_, k⟩ := k
    refine z_iald dX1_step_333 b_ ?_
    refine Z.pick [] rfl ?_
    exact z_callV (as := [vi (gi M 48 (s0).toNatClampNeg), vi (gi M 49 (s0).toNatClampNeg)]) (st := [vi (6 : Int32), vr (some (16, 0, 0))]) dX1_step_334 vsX1_409_0 (Nat.le_refl _) (Nat.le_of_ble_eq_true rfl) (Nat.le_of_ble_eq_true rfl) rfl k
  · have k := zit h_ k
    refine z_bipush (v := 19) dX1_step_314 rfl ?_
    refine z_goto (tgt := 337) dX1_step_316 rfl ?_
    refine Z.pick [] rfl ?_
    exact k
theorem sX1_step_337 {E : zE} {d : Nat} {Q : zO → zM → Prop} (M : zM) (s0 : Int32) (s1 : Int32) (hw : cw M) (k : Z E YX1_push d M (zargs 0 [vr (some (16, 0, 0)), vi s1, vi s0]) 0 [] (zafter E YX1_step (d + 1) [] 337 3 [] Q)) : Z E YX1_step (d + 1) M [] 337 [vi s0, vi s1, vr (some (16, 0, 0))] Q := by
  exact z_callV (as := [vi s1, vi s0]) (st := []) dX1_step_337 vsX1_476_0 (Nat.le_refl _) (Nat.le_of_ble_eq_true rfl) (Nat.le_of_ble_eq_true rfl) rfl k
theorem sX1_step_340 {E : zE} {d : Nat} {Q : zO → zM → Prop} (M : zM)  (hw : cw M) (k : Z E YX1_step (d + 1) M [] 612 [] Q) : Z E YX1_step (d + 1) M [] 340 [] Q := by
  refine z_goto (tgt := 612) dX1_step_340 rfl ?_
  exact k
theorem sX1_step_361 {E : zE} {d : Nat} {Q : zO → zM → Prop} (M : zM)  (hw : cw M) (k : Z E YX1_step (d + 1) M [] 612 [] Q) : Z E YX1_step (d + 1) M [] 361 [] Q := by
  refine z_goto (tgt := 612) dX1_step_361 rfl ?_
  exact k
theorem sX1_step_374 {E : zE} {d : Nat} {Q : zO → zM → Prop} (M : zM) (s0 : Int32) (s1 : Int32) (s3 : Int32) (hw : cw M) (k : Z E YX1_born d M (zargs 0 [vr (some (16, 0, 0)), vi s1, vi s0, vi (1 : Int32), vi (-1 : Int32)]) 0 [] (zafter E YX1_step (d + 1) [] 376 3 [vi s3, vr (some (16, 0, 0))] Q)) : Z E YX1_step (d + 1) M [] 374 [vi s0, vi s1, vr (some (16, 0, 0)), vi s3, vr (some (16, 0, 0))] Q := by
  refine z_iconst (v := 1) dX1_step_374 rfl ?_
  refine z_iconst (v := -1) dX1_step_375 rfl ?_
  exact z_callV (as := [vi s1, vi s0, vi (1 : Int32), vi (-1 : Int32)]) (st := [vi s3, vr (some (16, 0, 0))]) dX1_step_376 vsX1_362_0 (Nat.le_refl _) (Nat.le_of_ble_eq_true rfl) (Nat.le_of_ble_eq_true rfl) rfl k
theorem sX1_step_379 {E : zE} {d : Nat} {Q : zO → zM → Prop} (M : zM) (s0 : Int32) (s1 : Int32) (hw : cw M) (k : Z E YX1_push d M (zargs 0 [vr (some (16, 0, 0)), vi s1, vi s0]) 0 [] (zafter E YX1_step (d + 1) [] 379 3 [] Q)) : Z E YX1_step (d + 1) M [] 379 [vi s0, vi s1, vr (some (16, 0, 0))] Q := by
  exact z_callV (as := [vi s1, vi s0]) (st := []) dX1_step_379 vsX1_476_0 (Nat.le_refl _) (Nat.le_of_ble_eq_true rfl) (Nat.le_of_ble_eq_true rfl) rfl k
theorem sX1_step_382 {E : zE} {d : Nat} {Q : zO → zM → Prop} (M : zM)  (hw : cw M) (k : Z E YX1_step (d + 1) M [] 612 [] Q) : Z E YX1_step (d + 1) M [] 382 [] Q := by
  refine z_goto (tgt := 612) dX1_step_382 rfl ?_
  exact k
theorem sX1_step_394 {E : zE} {d : Nat} {Q : zO → zM → Prop} (M : zM) (s0 : Int32) (s2 : Int32) (hw : cw M) (k : Z E YX1_array d M (zargs 0 [vr (some (16, 0, 0)), vi s0]) 0 [] (zafter E YX1_step (d + 1) [] 394 3 [vi s2, vr (some (16, 0, 0))] Q)) : Z E YX1_step (d + 1) M [] 394 [vi s0, vr (some (16, 0, 0)), vi s2, vr (some (16, 0, 0))] Q := by
  exact z_callV (as := [vi s0]) (st := [vi s2, vr (some (16, 0, 0))]) dX1_step_394 vsX1_489_0 (Nat.le_refl _) (Nat.le_of_ble_eq_true rfl) (Nat.le_of_ble_eq_true rfl) rfl k
theorem sX1_step_397 {E : zE} {d : Nat} {Q : zO → zM → Prop} (M : zM) (s0 : Int32) (s1 : Int32) (hw : cw M) (k : Z E YX1_push d M (zargs 0 [vr (some (16, 0, 0)), vi s1, vi s0]) 0 [] (zafter E YX1_step (d + 1) [] 397 3 [] Q)) : Z E YX1_step (d + 1) M [] 397 [vi s0, vi s1, vr (some (16, 0, 0))] Q := by
  exact z_callV (as := [vi s1, vi s0]) (st := []) dX1_step_397 vsX1_476_0 (Nat.le_refl _) (Nat.le_of_ble_eq_true rfl) (Nat.le_of_ble_eq_true rfl) rfl k
theorem sX1_step_400 {E : zE} {d : Nat} {Q : zO → zM → Prop} (M : zM)  (hw : cw M) (k : Z E YX1_step (d + 1) M [] 612 [] Q) : Z E YX1_step (d + 1) M [] 400 [] Q := by
  refine z_goto (tgt := 612) dX1_step_400 rfl ?_
  exact k
theorem sX1_step_418 {E : zE} {d : Nat} {Q : zO → zM → Prop} (M : zM) (s0 : Int32) (s1 : Int32) (hw : cw M) (k : Z E YX1_push d M (zargs 0 [vr (some (16, 0, 0)), vi s1, vi s0]) 0 [] (zafter E YX1_step (d + 1) [] 418 3 [] Q)) : Z E YX1_step (d + 1) M [] 418 [vi s0, vi s1, vr (some (16, 0, 0))] Q := by
  exact z_callV (as := [vi s1, vi s0]) (st := []) dX1_step_418 vsX1_476_0 (Nat.le_refl _) (Nat.le_of_ble_eq_true rfl) (Nat.le_of_ble_eq_true rfl) rfl k
theorem sX1_step_421 {E : zE} {d : Nat} {Q : zO → zM → Prop} (M : zM)  (hw : cw M) (k : Z E YX1_step (d + 1) M [] 612 [] Q) : Z E YX1_step (d + 1) M [] 421 [] Q := by
  refine z_goto (tgt := 612) dX1_step_421 rfl ?_
  exact k
theorem sX1_step_428 {E : zE} {d : Nat} {Q : zO → zM → Prop} (M : zM)  (hw : cw M) (k : Z E YX1_step (d + 1) M [] 612 [] Q) : Z E YX1_step (d + 1) M [] 428 [] Q := by
  refine z_goto (tgt := 612) dX1_step_428 rfl ?_
  exact k
theorem sX1_step_435 {E : zE} {d : Nat} {Q : zO → zM → Prop} (M : zM)  (hw : cw M) (k : Z E YX1_step (d + 1) M [] 612 [] Q) : Z E YX1_step (d + 1) M [] 435 [] Q := by
  refine z_goto (tgt := 612) dX1_step_435 rfl ?_
  exact k
theorem sX1_step_442 {E : zE} {d : Nat} {Q : zO → zM → Prop} (M : zM)  (hw : cw M) (k : Z E YX1_step (d + 1) M [] 612 [] Q) : Z E YX1_step (d + 1) M [] 442 [] Q := by
  refine z_goto (tgt := 612) dX1_step_442 rfl ?_
  exact k
theorem sX1_step_464 {E : zE} {d : Nat} {Q : zO → zM → Prop} (M : zM)  (hw : cw M) (k : Z E YX1_leaves d M (zargs 0 [vr (some (16, 0, 0)), vi (1 : Int32)]) 0 [] (zafter E YX1_step (d + 1) [] 466 3 [] Q)) : Z E YX1_step (d + 1) M [(0, vr (some (16, 0, 0)))] 464 [] Q := by
  refine z_aload_n dX1_step_464 rfl rfl ?_
  refine z_iconst (v := 1) dX1_step_465 rfl ?_
  refine Z.pick [] rfl ?_
  exact z_callV (as := [vi (1 : Int32)]) (st := []) dX1_step_466 vsX1_508_0 (Nat.le_refl _) (Nat.le_of_ble_eq_true rfl) (Nat.le_of_ble_eq_true rfl) rfl k
theorem sX1_step_469 {E : zE} {d : Nat} {Q : zO → zM → Prop} (M : zM)  (hw : cw M) (k : Z E YX1_step (d + 1) M [] 612 [] Q) : Z E YX1_step (d + 1) M [] 469 [] Q := by
  refine z_goto (tgt := 612) dX1_step_469 rfl ?_
  exact k
theorem sX1_step_515 {E : zE} {d : Nat} {Q : zO → zM → Prop} (M : zM)  (hw : cw M) (k : Z E YX1_step (d + 1) M [(0, vr (some (16, 0, 0)))] 535 [] Q) : Z E YX1_step (d + 1) M [(0, vr (some (16, 0, 0)))] 515 [] Q := by
  refine z_goto (tgt := 535) dX1_step_515 rfl ?_
  exact k
theorem sX1_step_528 {E : zE} {d : Nat} {Q : zO → zM → Prop} (M : zM)  (hw : cw M) (k : Z E YX1_step (d + 1) M [(0, vr (some (16, 0, 0)))] 535 [] Q) : Z E YX1_step (d + 1) M [(0, vr (some (16, 0, 0)))] 528 [] Q := by
  refine z_goto (tgt := 535) dX1_step_528 rfl ?_
  exact k
theorem sX1_step_535 {E : zE} {d : Nat} {Q : zO → zM → Prop} (M : zM)  (hw : cw M) (k : Z E YX1_leaves d M (zargs 0 [vr (some (16, 0, 0)), vi (2 : Int32)]) 0 [] (zafter E YX1_step (d + 1) [] 537 3 [] Q)) : Z E YX1_step (d + 1) M [(0, vr (some (16, 0, 0)))] 535 [] Q := by
  refine z_aload_n dX1_step_535 rfl rfl ?_
  refine z_iconst (v := 2) dX1_step_536 rfl ?_
  refine Z.pick [] rfl ?_
  exact z_callV (as := [vi (2 : Int32)]) (st := []) dX1_step_537 vsX1_508_0 (Nat.le_refl _) (Nat.le_of_ble_eq_true rfl) (Nat.le_of_ble_eq_true rfl) rfl k
theorem sX1_step_540 {E : zE} {d : Nat} {Q : zO → zM → Prop} (M : zM)  (hw : cw M) (k : Z E YX1_step (d + 1) M [] 612 [] Q) : Z E YX1_step (d + 1) M [] 540 [] Q := by
  refine z_goto (tgt := 612) dX1_step_540 rfl ?_
  exact k
theorem sX1_step_578 {E : zE} {d : Nat} {Q : zO → zM → Prop} (M : zM)  (hw : cw M) (k : Z E YX1_step (d + 1) M [] 612 [] Q) : Z E YX1_step (d + 1) M [] 578 [] Q := by
  refine z_goto (tgt := 612) dX1_step_578 rfl ?_
  exact k
theorem sX1_step_587 {E : zE} {d : Nat} {Q : zO → zM → Prop} (M : zM)  (hw : cw M) (k : Z E YX1_step (d + 1) M [] 612 [] Q) : Z E YX1_step (d + 1) M [] 587 [] Q := by
  refine z_goto (tgt := 612) dX1_step_587 rfl ?_
  exact k
theorem sX1_step_612 {E : zE} {d : Nat} {Q : zO → zM → Prop} (M : zM)  (hw : cw M) (k : Q (.inl none) M) : Z E YX1_step (d + 1) M [] 612 [] Q := by
  exact z_vret dX1_step_612 rfl k
/-! ScriptTypes.push(II)V -/
theorem bX1_push_0 : zdec cX1_push 0 [(0, .aload_n 0, 1), (1, .getfield 148, 3), (4, .aload_n 0, 1), (5, .getfield 440, 3), (8, .iload_n 1, 1), (9, .i2b, 1), (10, .bastore, 1), (11, .aload_n 0, 1), (12, .getfield 151, 3), (15, .aload_n 0, 1), (16, .dup, 1), (17, .getfield 440, 3), (20, .dup_x1, 1), (21, .iconst 1, 1), (22, .iadd, 1), (23, .putfield 440, 3)] = true := by decide +kernel
theorem dX1_push_0 : decode cX1_push 0 = .ok (.aload_n 0, 1) := zdec_at bX1_push_0 0 rfl
theorem dX1_push_1 : decode cX1_push 1 = .ok (.getfield 148, 3) := zdec_at bX1_push_0 1 rfl
theorem dX1_push_4 : decode cX1_push 4 = .ok (.aload_n 0, 1) := zdec_at bX1_push_0 2 rfl
theorem dX1_push_5 : decode cX1_push 5 = .ok (.getfield 440, 3) := zdec_at bX1_push_0 3 rfl
theorem dX1_push_8 : decode cX1_push 8 = .ok (.iload_n 1, 1) := zdec_at bX1_push_0 4 rfl
theorem dX1_push_9 : decode cX1_push 9 = .ok (.i2b, 1) := zdec_at bX1_push_0 5 rfl
theorem dX1_push_10 : decode cX1_push 10 = .ok (.bastore, 1) := zdec_at bX1_push_0 6 rfl
theorem dX1_push_11 : decode cX1_push 11 = .ok (.aload_n 0, 1) := zdec_at bX1_push_0 7 rfl
theorem dX1_push_12 : decode cX1_push 12 = .ok (.getfield 151, 3) := zdec_at bX1_push_0 8 rfl
theorem dX1_push_15 : decode cX1_push 15 = .ok (.aload_n 0, 1) := zdec_at bX1_push_0 9 rfl
theorem dX1_push_16 : decode cX1_push 16 = .ok (.dup, 1) := zdec_at bX1_push_0 10 rfl
theorem dX1_push_17 : decode cX1_push 17 = .ok (.getfield 440, 3) := zdec_at bX1_push_0 11 rfl
theorem dX1_push_20 : decode cX1_push 20 = .ok (.dup_x1, 1) := zdec_at bX1_push_0 12 rfl
theorem dX1_push_21 : decode cX1_push 21 = .ok (.iconst 1, 1) := zdec_at bX1_push_0 13 rfl
theorem dX1_push_22 : decode cX1_push 22 = .ok (.iadd, 1) := zdec_at bX1_push_0 14 rfl
theorem dX1_push_23 : decode cX1_push 23 = .ok (.putfield 440, 3) := zdec_at bX1_push_0 15 rfl
theorem bX1_push_26 : zdec cX1_push 26 [(26, .iload_n 2, 1), (27, .iastore, 1), (28, .return_, 1)] = true := by decide +kernel
theorem dX1_push_26 : decode cX1_push 26 = .ok (.iload_n 2, 1) := zdec_at bX1_push_26 0 rfl
theorem dX1_push_27 : decode cX1_push 27 = .ok (.iastore, 1) := zdec_at bX1_push_26 1 rfl
theorem dX1_push_28 : decode cX1_push 28 = .ok (.return_, 1) := zdec_at bX1_push_26 2 rfl
theorem sX1_push_0 {E : zE} {d : Nat} {Q : zO → zM → Prop} (M : zM) (l1 : Int32) (l2 : Int32) (hw : cw M) (k : vp_in (gi M 16 38) 14500 ∧ (vp_in (gi M 16 38) 14500 ∧ (Q (.inl none) (si (si (si M 53 ((gi M 16 38)).toNatClampNeg (vp_nar .byte (l1).toInt8.toInt32)) 16 38 ((gi M 16 38) + (1 : Int32))) 54 ((gi M 16 38)).toNatClampNeg l2)))) : Z E YX1_push d M [(0, vr (some (16, 0, 0))), (1, vi l1), (2, vi l2)] 0 [] Q := by
  refine z_aload_n dX1_push_0 rfl rfl ?_
  refine z_getr dX1_push_1 fsX1_148_0 (show gr M 16 34 = some (53, 101, 14500) from cw_at hw 21 rfl) ?_
  refine z_aload_n dX1_push_4 rfl rfl ?_
  refine z_geti dX1_push_5 fsX1_440_0 ?_
  refine z_iload_n dX1_push_8 rfl rfl ?_
  refine z_i2b dX1_push_9 ?_
  obtain ⟨b_, k⟩ := k
  refine z_bast (by decide) dX1_push_10 b_ ?_
  refine z_aload_n dX1_push_11 rfl rfl ?_
  refine z_getr dX1_push_12 fsX1_151_0 (show gr M 16 35 = some (54, 100, 14500) from cw_at hw 22 rfl) ?_
  refine z_aload_n dX1_push_15 rfl rfl ?_
  refine z_dup dX1_push_16 rfl ?_
  refine z_geti dX1_push_17 fsX1_440_0 ?_
  refine z_dup_x1 dX1_push_20 rfl rfl ?_
  refine z_iconst (v := 1) dX1_push_21 rfl ?_
  refine z_iadd dX1_push_22 ?_
  refine z_puti (by decide) dX1_push_23 (zfwN.w fwX1_440_0) rfl ⟨rfl, rfl⟩ ?_
  refine z_iload_n dX1_push_26 rfl rfl ?_
  obtain ⟨b_, k⟩ := k
  refine z_iast (by decide) dX1_push_27 b_ ?_
  exact z_vret dX1_push_28 rfl k
/-! ScriptTypes.scopeAt(II)I -/
theorem bX1_scopeAt_0 : zdec cX1_scopeAt 0 [(0, .aload_n 0, 1), (1, .getfield 163, 3), (4, .iload_n 1, 1), (5, .saload, 1), (6, .istore_n 3, 1), (7, .iconst 0, 1), (8, .istore 4, 2), (10, .iload 4, 2), (12, .iload_n 2, 1), (13, .if_icmp .ge 16, 3), (16, .aload_n 0, 1), (17, .getfield 106, 3), (20, .iload_n 3, 1), (21, .saload, 1), (22, .istore_n 3, 1), (23, .iinc 4 1, 3)] = true := by decide +kernel
theorem dX1_scopeAt_0 : decode cX1_scopeAt 0 = .ok (.aload_n 0, 1) := zdec_at bX1_scopeAt_0 0 rfl
theorem dX1_scopeAt_1 : decode cX1_scopeAt 1 = .ok (.getfield 163, 3) := zdec_at bX1_scopeAt_0 1 rfl
theorem dX1_scopeAt_4 : decode cX1_scopeAt 4 = .ok (.iload_n 1, 1) := zdec_at bX1_scopeAt_0 2 rfl
theorem dX1_scopeAt_5 : decode cX1_scopeAt 5 = .ok (.saload, 1) := zdec_at bX1_scopeAt_0 3 rfl
theorem dX1_scopeAt_6 : decode cX1_scopeAt 6 = .ok (.istore_n 3, 1) := zdec_at bX1_scopeAt_0 4 rfl
theorem dX1_scopeAt_7 : decode cX1_scopeAt 7 = .ok (.iconst 0, 1) := zdec_at bX1_scopeAt_0 5 rfl
theorem dX1_scopeAt_8 : decode cX1_scopeAt 8 = .ok (.istore 4, 2) := zdec_at bX1_scopeAt_0 6 rfl
theorem dX1_scopeAt_10 : decode cX1_scopeAt 10 = .ok (.iload 4, 2) := zdec_at bX1_scopeAt_0 7 rfl
theorem dX1_scopeAt_12 : decode cX1_scopeAt 12 = .ok (.iload_n 2, 1) := zdec_at bX1_scopeAt_0 8 rfl
theorem dX1_scopeAt_13 : decode cX1_scopeAt 13 = .ok (.if_icmp .ge 16, 3) := zdec_at bX1_scopeAt_0 9 rfl
theorem dX1_scopeAt_16 : decode cX1_scopeAt 16 = .ok (.aload_n 0, 1) := zdec_at bX1_scopeAt_0 10 rfl
theorem dX1_scopeAt_17 : decode cX1_scopeAt 17 = .ok (.getfield 106, 3) := zdec_at bX1_scopeAt_0 11 rfl
theorem dX1_scopeAt_20 : decode cX1_scopeAt 20 = .ok (.iload_n 3, 1) := zdec_at bX1_scopeAt_0 12 rfl
theorem dX1_scopeAt_21 : decode cX1_scopeAt 21 = .ok (.saload, 1) := zdec_at bX1_scopeAt_0 13 rfl
theorem dX1_scopeAt_22 : decode cX1_scopeAt 22 = .ok (.istore_n 3, 1) := zdec_at bX1_scopeAt_0 14 rfl
theorem dX1_scopeAt_23 : decode cX1_scopeAt 23 = .ok (.iinc 4 1, 3) := zdec_at bX1_scopeAt_0 15 rfl
theorem bX1_scopeAt_26 : zdec cX1_scopeAt 26 [(26, .goto (-16), 3), (29, .iload_n 3, 1), (30, .ireturn, 1)] = true := by decide +kernel
theorem dX1_scopeAt_26 : decode cX1_scopeAt 26 = .ok (.goto (-16), 3) := zdec_at bX1_scopeAt_26 0 rfl
theorem dX1_scopeAt_29 : decode cX1_scopeAt 29 = .ok (.iload_n 3, 1) := zdec_at bX1_scopeAt_26 1 rfl
theorem dX1_scopeAt_30 : decode cX1_scopeAt 30 = .ok (.ireturn, 1) := zdec_at bX1_scopeAt_26 2 rfl
theorem sX1_scopeAt_0 {E : zE} {d : Nat} {Q : zO → zM → Prop} (M : zM) (l1 : Int32) (l2 : Int32) (hw : cw M) (k : vp_in l1 24 ∧ (Z E YX1_scopeAt d M [(0, vr (some (16, 0, 0))), (2, vi l2), (3, vi (gi M 58 (l1).toNatClampNeg)), (4, vi (0 : Int32))] 10 [] Q)) : Z E YX1_scopeAt d M [(0, vr (some (16, 0, 0))), (1, vi l1), (2, vi l2)] 0 [] Q := by
  refine z_aload_n dX1_scopeAt_0 rfl rfl ?_
  refine z_getr dX1_scopeAt_1 fsX1_163_0 (show gr M 16 40 = some (58, 102, 24) from cw_at hw 26 rfl) ?_
  refine z_iload_n dX1_scopeAt_4 rfl rfl ?_
  obtain ⟨b_, k⟩ := k
  refine z_sald dX1_scopeAt_5 b_ ?_
  refine z_ist_n dX1_scopeAt_6 rfl (by decide) (lv' := [(0, vr (some (16, 0, 0))), (1, vi l1), (2, vi l2), (3, vi (gi M 58 (l1).toNatClampNeg))]) rfl ?_
  refine z_iconst (v := 0) dX1_scopeAt_7 rfl ?_
  refine z_ist dX1_scopeAt_8 (by decide) (lv' := [(0, vr (some (16, 0, 0))), (1, vi l1), (2, vi l2), (3, vi (gi M 58 (l1).toNatClampNeg)), (4, vi (0 : Int32))]) rfl ?_
  refine Z.pick [0, 2, 3, 4] rfl ?_
  exact k
theorem sX1_scopeAt_10 {E : zE} {d : Nat} {Q : zO → zM → Prop} (M : zM) (l2 : Int32) (l3 : Int32) (l4 : Int32) (hw : cw M) (k : if l2 ≤ l4 then (Q (.inl (some (vi l3))) M) else (vp_in l3 300 ∧ (Z E YX1_scopeAt d M [(0, vr (some (16, 0, 0))), (2, vi l2), (3, vi (gi M 42 (l3).toNatClampNeg)), (4, vi (l4 + (1 : Int32)))] 10 [] Q))) : Z E YX1_scopeAt d M [(0, vr (some (16, 0, 0))), (2, vi l2), (3, vi l3), (4, vi l4)] 10 [] Q := by
  refine z_iload dX1_scopeAt_10 rfl ?_
  refine z_iload_n dX1_scopeAt_12 rfl rfl ?_
  refine z_icmp_ge (tgt := 29) dX1_scopeAt_13 rfl (fun h_ => ?_) (fun h_ => ?_)
  · have k := zit h_ k
    refine z_iload_n dX1_scopeAt_29 rfl rfl ?_
    exact z_iret dX1_scopeAt_30 rfl rfl k
  · have k := zif h_ k
    refine z_aload_n dX1_scopeAt_16 rfl rfl ?_
    refine z_getr dX1_scopeAt_17 fsX1_106_0 (show gr M 16 17 = some (42, 102, 300) from cw_at hw 10 rfl) ?_
    refine z_iload_n dX1_scopeAt_20 rfl rfl ?_
    obtain ⟨b_, k⟩ := k
    refine z_sald dX1_scopeAt_21 b_ ?_
    refine z_ist_n dX1_scopeAt_22 rfl (by decide) (lv' := [(0, vr (some (16, 0, 0))), (2, vi l2), (3, vi (gi M 42 (l3).toNatClampNeg)), (4, vi l4)]) rfl ?_
    refine z_inc (v := (l4 + (1 : Int32))) dX1_scopeAt_23 rfl rfl (by decide) (lv' := [(0, vr (some (16, 0, 0))), (2, vi l2), (3, vi (gi M 42 (l3).toNatClampNeg)), (4, vi (l4 + (1 : Int32)))]) rfl ?_
    refine z_goto (tgt := 10) dX1_scopeAt_26 rfl ?_
    exact k
/-! ScriptTypes.error(I)LScriptTypes$Thrown; -/
theorem bX1_error_0 : zdec cX1_error 0 [(0, .aload_n 0, 1), (1, .bipush 7, 2), (3, .aload_n 0, 1), (4, .iconst 0, 1), (5, .bipush 26, 2), (7, .iload_n 1, 1), (8, .iadd, 1), (9, .bipush 6, 2), (11, .iload_n 1, 1), (12, .iadd, 1), (13, .iconst (-1), 1), (14, .invokevirtual 362, 3), (17, .invokevirtual 466, 3), (20, .areturn, 1)] = true := by decide +kernel
theorem dX1_error_0 : decode cX1_error 0 = .ok (.aload_n 0, 1) := zdec_at bX1_error_0 0 rfl
theorem dX1_error_1 : decode cX1_error 1 = .ok (.bipush 7, 2) := zdec_at bX1_error_0 1 rfl
theorem dX1_error_3 : decode cX1_error 3 = .ok (.aload_n 0, 1) := zdec_at bX1_error_0 2 rfl
theorem dX1_error_4 : decode cX1_error 4 = .ok (.iconst 0, 1) := zdec_at bX1_error_0 3 rfl
theorem dX1_error_5 : decode cX1_error 5 = .ok (.bipush 26, 2) := zdec_at bX1_error_0 4 rfl
theorem dX1_error_7 : decode cX1_error 7 = .ok (.iload_n 1, 1) := zdec_at bX1_error_0 5 rfl
theorem dX1_error_8 : decode cX1_error 8 = .ok (.iadd, 1) := zdec_at bX1_error_0 6 rfl
theorem dX1_error_9 : decode cX1_error 9 = .ok (.bipush 6, 2) := zdec_at bX1_error_0 7 rfl
theorem dX1_error_11 : decode cX1_error 11 = .ok (.iload_n 1, 1) := zdec_at bX1_error_0 8 rfl
theorem dX1_error_12 : decode cX1_error 12 = .ok (.iadd, 1) := zdec_at bX1_error_0 9 rfl
theorem dX1_error_13 : decode cX1_error 13 = .ok (.iconst (-1), 1) := zdec_at bX1_error_0 10 rfl
theorem dX1_error_14 : decode cX1_error 14 = .ok (.invokevirtual 362, 3) := zdec_at bX1_error_0 11 rfl
theorem dX1_error_17 : decode cX1_error 17 = .ok (.invokevirtual 466, 3) := zdec_at bX1_error_0 12 rfl
theorem dX1_error_20 : decode cX1_error 20 = .ok (.areturn, 1) := zdec_at bX1_error_0 13 rfl
theorem sX1_error_0 {E : zE} {d : Nat} {Q : zO → zM → Prop} (M : zM) (l1 : Int32) (hw : cw M) (k : Z E YX1_born d M (zargs 0 [vr (some (16, 0, 0)), vi (0 : Int32), vi ((26 : Int32) + l1), vi ((6 : Int32) + l1), vi (-1 : Int32)]) 0 [] (zafter E YX1_error (d + 1) [] 14 3 [vi (7 : Int32), vr (some (16, 0, 0))] Q)) : Z E YX1_error (d + 1) M [(0, vr (some (16, 0, 0))), (1, vi l1)] 0 [] Q := by
  refine z_aload_n dX1_error_0 rfl rfl ?_
  refine z_bipush (v := 7) dX1_error_1 rfl ?_
  refine z_aload_n dX1_error_3 rfl rfl ?_
  refine z_iconst (v := 0) dX1_error_4 rfl ?_
  refine z_bipush (v := 26) dX1_error_5 rfl ?_
  refine z_iload_n dX1_error_7 rfl rfl ?_
  refine z_iadd dX1_error_8 ?_
  refine z_bipush (v := 6) dX1_error_9 rfl ?_
  refine z_iload_n dX1_error_11 rfl rfl ?_
  refine z_iadd dX1_error_12 ?_
  refine z_iconst (v := -1) dX1_error_13 rfl ?_
  refine Z.pick [] rfl ?_
  exact z_callV (as := [vi (0 : Int32), vi ((26 : Int32) + l1), vi ((6 : Int32) + l1), vi (-1 : Int32)]) (st := [vi (7 : Int32), vr (some (16, 0, 0))]) dX1_error_14 vsX1_362_0 (Nat.le_refl _) (Nat.le_of_ble_eq_true rfl) (Nat.le_of_ble_eq_true rfl) rfl k
theorem sX1_error_17 {E : zE} {d : Nat} {Q : zO → zM → Prop} (M : zM) (s0 : Int32) (s1 : Int32) (hw : cw M) (k : Z E YX1_raises d M (zargs 0 [vr (some (16, 0, 0)), vi s1, vi s0]) 0 [] (zafter E YX1_error (d + 1) [] 17 3 [] Q)) : Z E YX1_error (d + 1) M [] 17 [vi s0, vi s1, vr (some (16, 0, 0))] Q := by
  exact z_callV (as := [vi s1, vi s0]) (st := []) dX1_error_17 vsX1_466_0 (Nat.le_refl _) (Nat.le_of_ble_eq_true rfl) (Nat.le_of_ble_eq_true rfl) rfl k
theorem sX1_error_20 {E : zE} {d : Nat} {Q : zO → zM → Prop} (M : zM) (u0 : Option zP) (hw : cw M) (k : Q (.inl (some (vr u0))) M) : Z E YX1_error (d + 1) M [] 20 [vr u0] Q := by
  exact z_aret dX1_error_20 rfl rfl k
/-! ScriptTypes.raises(II)LScriptTypes$Thrown; -/
theorem bX1_raises_0 : zdec cX1_raises 0 [(0, .aload_n 0, 1), (1, .iload_n 1, 1), (2, .putfield 460, 3), (5, .aload_n 0, 1), (6, .iload_n 2, 1), (7, .putfield 463, 3), (10, .aload_n 0, 1), (11, .getfield 144, 3), (14, .areturn, 1)] = true := by decide +kernel
theorem dX1_raises_0 : decode cX1_raises 0 = .ok (.aload_n 0, 1) := zdec_at bX1_raises_0 0 rfl
theorem dX1_raises_1 : decode cX1_raises 1 = .ok (.iload_n 1, 1) := zdec_at bX1_raises_0 1 rfl
theorem dX1_raises_2 : decode cX1_raises 2 = .ok (.putfield 460, 3) := zdec_at bX1_raises_0 2 rfl
theorem dX1_raises_5 : decode cX1_raises 5 = .ok (.aload_n 0, 1) := zdec_at bX1_raises_0 3 rfl
theorem dX1_raises_6 : decode cX1_raises 6 = .ok (.iload_n 2, 1) := zdec_at bX1_raises_0 4 rfl
theorem dX1_raises_7 : decode cX1_raises 7 = .ok (.putfield 463, 3) := zdec_at bX1_raises_0 5 rfl
theorem dX1_raises_10 : decode cX1_raises 10 = .ok (.aload_n 0, 1) := zdec_at bX1_raises_0 6 rfl
theorem dX1_raises_11 : decode cX1_raises 11 = .ok (.getfield 144, 3) := zdec_at bX1_raises_0 7 rfl
theorem dX1_raises_14 : decode cX1_raises 14 = .ok (.areturn, 1) := zdec_at bX1_raises_0 8 rfl
theorem sX1_raises_0 {E : zE} {d : Nat} {Q : zO → zM → Prop} (M : zM) (l1 : Int32) (l2 : Int32) (hw : cw M) (k : Q (.inl (some (vr (some (52, 14, 0))))) (si (si M 16 57 l1) 16 58 l2)) : Z E YX1_raises d M [(0, vr (some (16, 0, 0))), (1, vi l1), (2, vi l2)] 0 [] Q := by
  refine z_aload_n dX1_raises_0 rfl rfl ?_
  refine z_iload_n dX1_raises_1 rfl rfl ?_
  refine z_puti (by decide) dX1_raises_2 (zfwN.w fwX1_460_0) rfl ⟨rfl, rfl⟩ ?_
  refine z_aload_n dX1_raises_5 rfl rfl ?_
  refine z_iload_n dX1_raises_6 rfl rfl ?_
  refine z_puti (by decide) dX1_raises_7 (zfwN.w fwX1_463_0) rfl ⟨rfl, rfl⟩ ?_
  refine z_aload_n dX1_raises_10 rfl rfl ?_
  refine z_getr dX1_raises_11 fsX1_144_0 (show gr M 16 31 = some (52, 14, 0) from cw_at hw 20 rfl) ?_
  exact z_aret dX1_raises_14 rfl rfl k
/-! ScriptTypes.typeOf(II)I -/
theorem bX1_typeOf_0 : zdec cX1_typeOf 0 [(0, .iload_n 1, 1)] = true := by decide +kernel
theorem dX1_typeOf_0 : decode cX1_typeOf 0 = .ok (.iload_n 1, 1) := zdec_at bX1_typeOf_0 0 rfl
theorem dX1_typeOf_1 : decode cX1_typeOf 1 = .ok (.tableswitch 58 0 6 #[43, 46, 49, 49, 52, 52, 55], 43) := by decide +kernel
theorem bX1_typeOf_44 : zdec cX1_typeOf 44 [(44, .bipush 19, 2), (46, .ireturn, 1), (47, .bipush 20, 2), (49, .ireturn, 1), (50, .bipush 21, 2), (52, .ireturn, 1), (53, .bipush 22, 2), (55, .ireturn, 1), (56, .bipush 23, 2), (58, .ireturn, 1), (59, .aload_n 0, 1), (60, .getfield 93, 3), (63, .iload_n 2, 1), (64, .baload, 1), (65, .iconst 1, 1), (66, .if_icmp .ne 8, 3)] = true := by decide +kernel
theorem dX1_typeOf_44 : decode cX1_typeOf 44 = .ok (.bipush 19, 2) := zdec_at bX1_typeOf_44 0 rfl
theorem dX1_typeOf_46 : decode cX1_typeOf 46 = .ok (.ireturn, 1) := zdec_at bX1_typeOf_44 1 rfl
theorem dX1_typeOf_47 : decode cX1_typeOf 47 = .ok (.bipush 20, 2) := zdec_at bX1_typeOf_44 2 rfl
theorem dX1_typeOf_49 : decode cX1_typeOf 49 = .ok (.ireturn, 1) := zdec_at bX1_typeOf_44 3 rfl
theorem dX1_typeOf_50 : decode cX1_typeOf 50 = .ok (.bipush 21, 2) := zdec_at bX1_typeOf_44 4 rfl
theorem dX1_typeOf_52 : decode cX1_typeOf 52 = .ok (.ireturn, 1) := zdec_at bX1_typeOf_44 5 rfl
theorem dX1_typeOf_53 : decode cX1_typeOf 53 = .ok (.bipush 22, 2) := zdec_at bX1_typeOf_44 6 rfl
theorem dX1_typeOf_55 : decode cX1_typeOf 55 = .ok (.ireturn, 1) := zdec_at bX1_typeOf_44 7 rfl
theorem dX1_typeOf_56 : decode cX1_typeOf 56 = .ok (.bipush 23, 2) := zdec_at bX1_typeOf_44 8 rfl
theorem dX1_typeOf_58 : decode cX1_typeOf 58 = .ok (.ireturn, 1) := zdec_at bX1_typeOf_44 9 rfl
theorem dX1_typeOf_59 : decode cX1_typeOf 59 = .ok (.aload_n 0, 1) := zdec_at bX1_typeOf_44 10 rfl
theorem dX1_typeOf_60 : decode cX1_typeOf 60 = .ok (.getfield 93, 3) := zdec_at bX1_typeOf_44 11 rfl
theorem dX1_typeOf_63 : decode cX1_typeOf 63 = .ok (.iload_n 2, 1) := zdec_at bX1_typeOf_44 12 rfl
theorem dX1_typeOf_64 : decode cX1_typeOf 64 = .ok (.baload, 1) := zdec_at bX1_typeOf_44 13 rfl
theorem dX1_typeOf_65 : decode cX1_typeOf 65 = .ok (.iconst 1, 1) := zdec_at bX1_typeOf_44 14 rfl
theorem dX1_typeOf_66 : decode cX1_typeOf 66 = .ok (.if_icmp .ne 8, 3) := zdec_at bX1_typeOf_44 15 rfl
theorem bX1_typeOf_69 : zdec cX1_typeOf 69 [(69, .bipush 24, 2), (71, .goto 5, 3), (74, .bipush 20, 2), (76, .ireturn, 1)] = true := by decide +kernel
theorem dX1_typeOf_69 : decode cX1_typeOf 69 = .ok (.bipush 24, 2) := zdec_at bX1_typeOf_69 0 rfl
theorem dX1_typeOf_71 : decode cX1_typeOf 71 = .ok (.goto 5, 3) := zdec_at bX1_typeOf_69 1 rfl
theorem dX1_typeOf_74 : decode cX1_typeOf 74 = .ok (.bipush 20, 2) := zdec_at bX1_typeOf_69 2 rfl
theorem dX1_typeOf_76 : decode cX1_typeOf 76 = .ok (.ireturn, 1) := zdec_at bX1_typeOf_69 3 rfl
theorem sX1_typeOf_0 {E : zE} {d : Nat} {Q : zO → zM → Prop} (M : zM) (l1 : Int32) (l2 : Int32) (hw : cw M) (k : if l1 = 0 then (Q (.inl (some (vi (19 : Int32)))) M) else (if l1 = 1 then (Q (.inl (some (vi (20 : Int32)))) M) else (if l1 = 2 then (Q (.inl (some (vi (21 : Int32)))) M) else (if l1 = 3 then (Q (.inl (some (vi (21 : Int32)))) M) else (if l1 = 4 then (Q (.inl (some (vi (22 : Int32)))) M) else (if l1 = 5 then (Q (.inl (some (vi (22 : Int32)))) M) else (if l1 = 6 then (Q (.inl (some (vi (23 : Int32)))) M) else (vp_in l2 300 ∧ (if (gi M 38 (l2).toNatClampNeg) = (1 : Int32) then (Q (.inl (some (vi (24 : Int32)))) M) else (Q (.inl (some (vi (20 : Int32)))) M)))))))))) : Z E YX1_typeOf d M [(0, vr (some (16, 0, 0))), (1, vi l1), (2, vi l2)] 0 [] Q := by
  refine z_iload_n dX1_typeOf_0 rfl rfl ?_
  by_cases h0_ : l1 = 0
  · have k := zit h0_ k
    refine z_tableIn (off := 43) (tgt := 44) dX1_typeOf_1 (by rw [h0_]; decide) (by rw [h0_]; decide) (by rw [h0_]; rfl) rfl ?_
    refine z_bipush (v := 19) dX1_typeOf_44 rfl ?_
    exact z_iret dX1_typeOf_46 rfl rfl k
  · have k := zif h0_ k
    by_cases h1_ : l1 = 1
    · have k := zit h1_ k
      refine z_tableIn (off := 46) (tgt := 47) dX1_typeOf_1 (by rw [h1_]; decide) (by rw [h1_]; decide) (by rw [h1_]; rfl) rfl ?_
      refine z_bipush (v := 20) dX1_typeOf_47 rfl ?_
      exact z_iret dX1_typeOf_49 rfl rfl k
    · have k := zif h1_ k
      by_cases h2_ : l1 = 2
      · have k := zit h2_ k
        refine z_tableIn (off := 49) (tgt := 50) dX1_typeOf_1 (by rw [h2_]; decide) (by rw [h2_]; decide) (by rw [h2_]; rfl) rfl ?_
        refine z_bipush (v := 21) dX1_typeOf_50 rfl ?_
        exact z_iret dX1_typeOf_52 rfl rfl k
      · have k := zif h2_ k
        by_cases h3_ : l1 = 3
        · have k := zit h3_ k
          refine z_tableIn (off := 49) (tgt := 50) dX1_typeOf_1 (by rw [h3_]; decide) (by rw [h3_]; decide) (by rw [h3_]; rfl) rfl ?_
          refine z_bipush (v := 21) dX1_typeOf_50 rfl ?_
          exact z_iret dX1_typeOf_52 rfl rfl k
        · have k := zif h3_ k
          by_cases h4_ : l1 = 4
          · have k := zit h4_ k
            refine z_tableIn (off := 52) (tgt := 53) dX1_typeOf_1 (by rw [h4_]; decide) (by rw [h4_]; decide) (by rw [h4_]; rfl) rfl ?_
            refine z_bipush (v := 22) dX1_typeOf_53 rfl ?_
            exact z_iret dX1_typeOf_55 rfl rfl k
          · have k := zif h4_ k
            by_cases h5_ : l1 = 5
            · have k := zit h5_ k
              refine z_tableIn (off := 52) (tgt := 53) dX1_typeOf_1 (by rw [h5_]; decide) (by rw [h5_]; decide) (by rw [h5_]; rfl) rfl ?_
              refine z_bipush (v := 22) dX1_typeOf_53 rfl ?_
              exact z_iret dX1_typeOf_55 rfl rfl k
            · have k := zif h5_ k
              by_cases h6_ : l1 = 6
              · have k := zit h6_ k
                refine z_tableIn (off := 55) (tgt := 56) dX1_typeOf_1 (by rw [h6_]; decide) (by rw [h6_]; decide) (by rw [h6_]; rfl) rfl ?_
                refine z_bipush (v := 23) dX1_typeOf_56 rfl ?_
                exact z_iret dX1_typeOf_58 rfl rfl k
              · have k := zif h6_ k
                refine z_tout (tgt := 59) [0, 1, 2, 3, 4, 5, 6] (by decide) dX1_typeOf_1 (zall_1 h0_ (zall_1 h1_ (zall_1 h2_ (zall_1 h3_ (zall_1 h4_ (zall_1 h5_ (zall_1 h6_ zall_0))))))) rfl ?_
                refine z_aload_n dX1_typeOf_59 rfl rfl ?_
                refine z_getr dX1_typeOf_60 fsX1_93_0 (show gr M 16 13 = some (38, 101, 300) from cw_at hw 6 rfl) ?_
                refine z_iload_n dX1_typeOf_63 rfl rfl ?_
                obtain ⟨b_, k⟩ := k
                refine z_bald dX1_typeOf_64 b_ ?_
                refine z_iconst (v := 1) dX1_typeOf_65 rfl ?_
                refine z_icmp_ne (tgt := 74) dX1_typeOf_66 rfl (fun h_ => ?_) (fun h_ => ?_)
                · have k := zif h_ k
                  refine z_bipush (v := 20) dX1_typeOf_74 rfl ?_
                  exact z_iret dX1_typeOf_76 rfl rfl k
                · have k := zit h_ k
                  refine z_bipush (v := 24) dX1_typeOf_69 rfl ?_
                  refine z_goto (tgt := 76) dX1_typeOf_71 rfl ?_
                  exact z_iret dX1_typeOf_76 rfl rfl k
/-! ScriptTypes.sitePair(I)I -/
theorem bX1_sitePair_0 : zdec cX1_sitePair 0 [(0, .bipush 29, 2), (2, .bipush 6, 2), (4, .aload_n 0, 1), (5, .getfield 82, 3), (8, .invokevirtual 291, 3), (11, .iconst 1, 1), (12, .isub, 1), (13, .imul, 1), (14, .iadd, 1), (15, .iconst 2, 1), (16, .iload_n 1, 1), (17, .imul, 1), (18, .iadd, 1), (19, .ireturn, 1)] = true := by decide +kernel
theorem dX1_sitePair_0 : decode cX1_sitePair 0 = .ok (.bipush 29, 2) := zdec_at bX1_sitePair_0 0 rfl
theorem dX1_sitePair_2 : decode cX1_sitePair 2 = .ok (.bipush 6, 2) := zdec_at bX1_sitePair_0 1 rfl
theorem dX1_sitePair_4 : decode cX1_sitePair 4 = .ok (.aload_n 0, 1) := zdec_at bX1_sitePair_0 2 rfl
theorem dX1_sitePair_5 : decode cX1_sitePair 5 = .ok (.getfield 82, 3) := zdec_at bX1_sitePair_0 3 rfl
theorem dX1_sitePair_8 : decode cX1_sitePair 8 = .ok (.invokevirtual 291, 3) := zdec_at bX1_sitePair_0 4 rfl
theorem dX1_sitePair_11 : decode cX1_sitePair 11 = .ok (.iconst 1, 1) := zdec_at bX1_sitePair_0 5 rfl
theorem dX1_sitePair_12 : decode cX1_sitePair 12 = .ok (.isub, 1) := zdec_at bX1_sitePair_0 6 rfl
theorem dX1_sitePair_13 : decode cX1_sitePair 13 = .ok (.imul, 1) := zdec_at bX1_sitePair_0 7 rfl
theorem dX1_sitePair_14 : decode cX1_sitePair 14 = .ok (.iadd, 1) := zdec_at bX1_sitePair_0 8 rfl
theorem dX1_sitePair_15 : decode cX1_sitePair 15 = .ok (.iconst 2, 1) := zdec_at bX1_sitePair_0 9 rfl
theorem dX1_sitePair_16 : decode cX1_sitePair 16 = .ok (.iload_n 1, 1) := zdec_at bX1_sitePair_0 10 rfl
theorem dX1_sitePair_17 : decode cX1_sitePair 17 = .ok (.imul, 1) := zdec_at bX1_sitePair_0 11 rfl
theorem dX1_sitePair_18 : decode cX1_sitePair 18 = .ok (.iadd, 1) := zdec_at bX1_sitePair_0 12 rfl
theorem dX1_sitePair_19 : decode cX1_sitePair 19 = .ok (.ireturn, 1) := zdec_at bX1_sitePair_0 13 rfl
theorem sX1_sitePair_0 {E : zE} {d : Nat} {Q : zO → zM → Prop} (M : zM) (l1 : Int32) (hw : cw M) (k : ∃ b1 : Nat, (gr M 16 8) = some (b1, 11, 0) ∧ (Z E YJ2_size d M (zargs 0 [vr (some (b1, 11, 0))]) 0 [] (zafter E YX1_sitePair (d + 1) [(1, vi l1)] 8 3 [vi (6 : Int32), vi (29 : Int32)] Q))) : Z E YX1_sitePair (d + 1) M [(0, vr (some (16, 0, 0))), (1, vi l1)] 0 [] Q := by
  refine z_bipush (v := 29) dX1_sitePair_0 rfl ?_
  refine z_bipush (v := 6) dX1_sitePair_2 rfl ?_
  refine z_aload_n dX1_sitePair_4 rfl rfl ?_
  refine z_getr (r := (gr M 16 8)) dX1_sitePair_5 fsX1_82_0 rfl ?_
  obtain ⟨b1, e1_, k⟩ := k
  refine Z.eqs (lv' := [(0, vr (some (16, 0, 0))), (1, vi l1)]) (st' := [vr (some (b1, 11, 0)), vi (6 : Int32), vi (29 : Int32)]) rfl (by rw [e1_] <;> rfl) ?_
  refine Z.pick [1] rfl ?_
  exact z_callV (as := []) (st := [vi (6 : Int32), vi (29 : Int32)]) dX1_sitePair_8 vsX1_291_11 (Nat.le_refl _) (Nat.le_of_ble_eq_true rfl) (Nat.le_of_ble_eq_true rfl) rfl k
theorem sX1_sitePair_11 {E : zE} {d : Nat} {Q : zO → zM → Prop} (M : zM) (l1 : Int32) (s0 : Int32) (s1 : Int32) (s2 : Int32) (hw : cw M) (k : Q (.inl (some (vi ((s2 + (s1 * (s0 - (1 : Int32)))) + ((2 : Int32) * l1))))) M) : Z E YX1_sitePair (d + 1) M [(1, vi l1)] 11 [vi s0, vi s1, vi s2] Q := by
  refine z_iconst (v := 1) dX1_sitePair_11 rfl ?_
  refine z_isub dX1_sitePair_12 ?_
  refine z_imul dX1_sitePair_13 ?_
  refine z_iadd dX1_sitePair_14 ?_
  refine z_iconst (v := 2) dX1_sitePair_15 rfl ?_
  refine z_iload_n dX1_sitePair_16 rfl rfl ?_
  refine z_imul dX1_sitePair_17 ?_
  refine z_iadd dX1_sitePair_18 ?_
  exact z_iret dX1_sitePair_19 rfl rfl k
/-! ScriptTypes.array(I)I -/
theorem bX1_array_0 : zdec cX1_array 0 [(0, .aload_n 0, 1), (1, .iconst 2, 1), (2, .iload_n 1, 1), (3, .iconst 3, 1), (4, .iconst (-1), 1), (5, .invokevirtual 362, 3), (8, .istore_n 2, 1), (9, .aload_n 0, 1), (10, .iload_n 2, 1), (11, .iconst 0, 1), (12, .iconst 5, 1), (13, .iconst 0, 1), (14, .invokevirtual 358, 3), (17, .iload_n 2, 1), (18, .ireturn, 1)] = true := by decide +kernel
theorem dX1_array_0 : decode cX1_array 0 = .ok (.aload_n 0, 1) := zdec_at bX1_array_0 0 rfl
theorem dX1_array_1 : decode cX1_array 1 = .ok (.iconst 2, 1) := zdec_at bX1_array_0 1 rfl
theorem dX1_array_2 : decode cX1_array 2 = .ok (.iload_n 1, 1) := zdec_at bX1_array_0 2 rfl
theorem dX1_array_3 : decode cX1_array 3 = .ok (.iconst 3, 1) := zdec_at bX1_array_0 3 rfl
theorem dX1_array_4 : decode cX1_array 4 = .ok (.iconst (-1), 1) := zdec_at bX1_array_0 4 rfl
theorem dX1_array_5 : decode cX1_array 5 = .ok (.invokevirtual 362, 3) := zdec_at bX1_array_0 5 rfl
theorem dX1_array_8 : decode cX1_array 8 = .ok (.istore_n 2, 1) := zdec_at bX1_array_0 6 rfl
theorem dX1_array_9 : decode cX1_array 9 = .ok (.aload_n 0, 1) := zdec_at bX1_array_0 7 rfl
theorem dX1_array_10 : decode cX1_array 10 = .ok (.iload_n 2, 1) := zdec_at bX1_array_0 8 rfl
theorem dX1_array_11 : decode cX1_array 11 = .ok (.iconst 0, 1) := zdec_at bX1_array_0 9 rfl
theorem dX1_array_12 : decode cX1_array 12 = .ok (.iconst 5, 1) := zdec_at bX1_array_0 10 rfl
theorem dX1_array_13 : decode cX1_array 13 = .ok (.iconst 0, 1) := zdec_at bX1_array_0 11 rfl
theorem dX1_array_14 : decode cX1_array 14 = .ok (.invokevirtual 358, 3) := zdec_at bX1_array_0 12 rfl
theorem dX1_array_17 : decode cX1_array 17 = .ok (.iload_n 2, 1) := zdec_at bX1_array_0 13 rfl
theorem dX1_array_18 : decode cX1_array 18 = .ok (.ireturn, 1) := zdec_at bX1_array_0 14 rfl
theorem sX1_array_0 {E : zE} {d : Nat} {Q : zO → zM → Prop} (M : zM) (l1 : Int32) (hw : cw M) (k : Z E YX1_born d M (zargs 0 [vr (some (16, 0, 0)), vi (2 : Int32), vi l1, vi (3 : Int32), vi (-1 : Int32)]) 0 [] (zafter E YX1_array (d + 1) [(0, vr (some (16, 0, 0)))] 5 3 [] Q)) : Z E YX1_array (d + 1) M [(0, vr (some (16, 0, 0))), (1, vi l1)] 0 [] Q := by
  refine z_aload_n dX1_array_0 rfl rfl ?_
  refine z_iconst (v := 2) dX1_array_1 rfl ?_
  refine z_iload_n dX1_array_2 rfl rfl ?_
  refine z_iconst (v := 3) dX1_array_3 rfl ?_
  refine z_iconst (v := -1) dX1_array_4 rfl ?_
  refine Z.pick [0] rfl ?_
  exact z_callV (as := [vi (2 : Int32), vi l1, vi (3 : Int32), vi (-1 : Int32)]) (st := []) dX1_array_5 vsX1_362_0 (Nat.le_refl _) (Nat.le_of_ble_eq_true rfl) (Nat.le_of_ble_eq_true rfl) rfl k
theorem sX1_array_8 {E : zE} {d : Nat} {Q : zO → zM → Prop} (M : zM) (s0 : Int32) (hw : cw M) (k : Z E YX1_setOwn d M (zargs 0 [vr (some (16, 0, 0)), vi s0, vi (0 : Int32), vi (5 : Int32), vi (0 : Int32)]) 0 [] (zafter E YX1_array (d + 1) [(2, vi s0)] 14 3 [] Q)) : Z E YX1_array (d + 1) M [(0, vr (some (16, 0, 0)))] 8 [vi s0] Q := by
  refine z_ist_n dX1_array_8 rfl (by decide) (lv' := [(0, vr (some (16, 0, 0))), (2, vi s0)]) rfl ?_
  refine z_aload_n dX1_array_9 rfl rfl ?_
  refine z_iload_n dX1_array_10 rfl rfl ?_
  refine z_iconst (v := 0) dX1_array_11 rfl ?_
  refine z_iconst (v := 5) dX1_array_12 rfl ?_
  refine z_iconst (v := 0) dX1_array_13 rfl ?_
  refine Z.pick [1] rfl ?_
  exact z_callV (as := [vi s0, vi (0 : Int32), vi (5 : Int32), vi (0 : Int32)]) (st := []) dX1_array_14 vsX1_358_0 (Nat.le_refl _) (Nat.le_of_ble_eq_true rfl) (Nat.le_of_ble_eq_true rfl) rfl k
theorem sX1_array_17 {E : zE} {d : Nat} {Q : zO → zM → Prop} (M : zM) (l2 : Int32) (hw : cw M) (k : Q (.inl (some (vi l2))) M) : Z E YX1_array (d + 1) M [(2, vi l2)] 17 [] Q := by
  refine z_iload_n dX1_array_17 rfl rfl ?_
  exact z_iret dX1_array_18 rfl rfl k
/-! ScriptTypes.closure(II)I -/
theorem bX1_closure_0 : zdec cX1_closure 0 [(0, .aload_n 0, 1), (1, .iconst 1, 1), (2, .aload_n 0, 1), (3, .iload_n 1, 1), (4, .invokevirtual 538, 3), (7, .iconst 2, 1), (8, .iadd, 1), (9, .iconst 2, 1), (10, .iload_n 2, 1), (11, .invokevirtual 362, 3), (14, .istore_n 3, 1), (15, .aload_n 0, 1), (16, .iconst 0, 1), (17, .aload_n 0, 1), (18, .iload_n 1, 1), (19, .invokevirtual 538, 3)] = true := by decide +kernel
theorem dX1_closure_0 : decode cX1_closure 0 = .ok (.aload_n 0, 1) := zdec_at bX1_closure_0 0 rfl
theorem dX1_closure_1 : decode cX1_closure 1 = .ok (.iconst 1, 1) := zdec_at bX1_closure_0 1 rfl
theorem dX1_closure_2 : decode cX1_closure 2 = .ok (.aload_n 0, 1) := zdec_at bX1_closure_0 2 rfl
theorem dX1_closure_3 : decode cX1_closure 3 = .ok (.iload_n 1, 1) := zdec_at bX1_closure_0 3 rfl
theorem dX1_closure_4 : decode cX1_closure 4 = .ok (.invokevirtual 538, 3) := zdec_at bX1_closure_0 4 rfl
theorem dX1_closure_7 : decode cX1_closure 7 = .ok (.iconst 2, 1) := zdec_at bX1_closure_0 5 rfl
theorem dX1_closure_8 : decode cX1_closure 8 = .ok (.iadd, 1) := zdec_at bX1_closure_0 6 rfl
theorem dX1_closure_9 : decode cX1_closure 9 = .ok (.iconst 2, 1) := zdec_at bX1_closure_0 7 rfl
theorem dX1_closure_10 : decode cX1_closure 10 = .ok (.iload_n 2, 1) := zdec_at bX1_closure_0 8 rfl
theorem dX1_closure_11 : decode cX1_closure 11 = .ok (.invokevirtual 362, 3) := zdec_at bX1_closure_0 9 rfl
theorem dX1_closure_14 : decode cX1_closure 14 = .ok (.istore_n 3, 1) := zdec_at bX1_closure_0 10 rfl
theorem dX1_closure_15 : decode cX1_closure 15 = .ok (.aload_n 0, 1) := zdec_at bX1_closure_0 11 rfl
theorem dX1_closure_16 : decode cX1_closure 16 = .ok (.iconst 0, 1) := zdec_at bX1_closure_0 12 rfl
theorem dX1_closure_17 : decode cX1_closure 17 = .ok (.aload_n 0, 1) := zdec_at bX1_closure_0 13 rfl
theorem dX1_closure_18 : decode cX1_closure 18 = .ok (.iload_n 1, 1) := zdec_at bX1_closure_0 14 rfl
theorem dX1_closure_19 : decode cX1_closure 19 = .ok (.invokevirtual 538, 3) := zdec_at bX1_closure_0 15 rfl
theorem bX1_closure_22 : zdec cX1_closure 22 [(22, .iconst 4, 1), (23, .iadd, 1), (24, .iconst 1, 1), (25, .iconst (-1), 1), (26, .invokevirtual 362, 3), (29, .istore 4, 2), (31, .aload_n 0, 1), (32, .getfield 96, 3), (35, .iload_n 3, 1), (36, .iload_n 1, 1), (37, .i2b, 1), (38, .bastore, 1), (39, .aload_n 0, 1), (40, .iload_n 3, 1), (41, .iconst 1, 1), (42, .bipush 7, 2)] = true := by decide +kernel
theorem dX1_closure_22 : decode cX1_closure 22 = .ok (.iconst 4, 1) := zdec_at bX1_closure_22 0 rfl
theorem dX1_closure_23 : decode cX1_closure 23 = .ok (.iadd, 1) := zdec_at bX1_closure_22 1 rfl
theorem dX1_closure_24 : decode cX1_closure 24 = .ok (.iconst 1, 1) := zdec_at bX1_closure_22 2 rfl
theorem dX1_closure_25 : decode cX1_closure 25 = .ok (.iconst (-1), 1) := zdec_at bX1_closure_22 3 rfl
theorem dX1_closure_26 : decode cX1_closure 26 = .ok (.invokevirtual 362, 3) := zdec_at bX1_closure_22 4 rfl
theorem dX1_closure_29 : decode cX1_closure 29 = .ok (.istore 4, 2) := zdec_at bX1_closure_22 5 rfl
theorem dX1_closure_31 : decode cX1_closure 31 = .ok (.aload_n 0, 1) := zdec_at bX1_closure_22 6 rfl
theorem dX1_closure_32 : decode cX1_closure 32 = .ok (.getfield 96, 3) := zdec_at bX1_closure_22 7 rfl
theorem dX1_closure_35 : decode cX1_closure 35 = .ok (.iload_n 3, 1) := zdec_at bX1_closure_22 8 rfl
theorem dX1_closure_36 : decode cX1_closure 36 = .ok (.iload_n 1, 1) := zdec_at bX1_closure_22 9 rfl
theorem dX1_closure_37 : decode cX1_closure 37 = .ok (.i2b, 1) := zdec_at bX1_closure_22 10 rfl
theorem dX1_closure_38 : decode cX1_closure 38 = .ok (.bastore, 1) := zdec_at bX1_closure_22 11 rfl
theorem dX1_closure_39 : decode cX1_closure 39 = .ok (.aload_n 0, 1) := zdec_at bX1_closure_22 12 rfl
theorem dX1_closure_40 : decode cX1_closure 40 = .ok (.iload_n 3, 1) := zdec_at bX1_closure_22 13 rfl
theorem dX1_closure_41 : decode cX1_closure 41 = .ok (.iconst 1, 1) := zdec_at bX1_closure_22 14 rfl
theorem dX1_closure_42 : decode cX1_closure 42 = .ok (.bipush 7, 2) := zdec_at bX1_closure_22 15 rfl
theorem bX1_closure_44 : zdec cX1_closure 44 [(44, .iload 4, 2), (46, .invokevirtual 358, 3), (49, .aload_n 0, 1), (50, .iload 4, 2), (52, .iconst 2, 1), (53, .bipush 7, 2), (55, .iload_n 3, 1), (56, .invokevirtual 358, 3), (59, .iload_n 3, 1), (60, .ireturn, 1)] = true := by decide +kernel
theorem dX1_closure_44 : decode cX1_closure 44 = .ok (.iload 4, 2) := zdec_at bX1_closure_44 0 rfl
theorem dX1_closure_46 : decode cX1_closure 46 = .ok (.invokevirtual 358, 3) := zdec_at bX1_closure_44 1 rfl
theorem dX1_closure_49 : decode cX1_closure 49 = .ok (.aload_n 0, 1) := zdec_at bX1_closure_44 2 rfl
theorem dX1_closure_50 : decode cX1_closure 50 = .ok (.iload 4, 2) := zdec_at bX1_closure_44 3 rfl
theorem dX1_closure_52 : decode cX1_closure 52 = .ok (.iconst 2, 1) := zdec_at bX1_closure_44 4 rfl
theorem dX1_closure_53 : decode cX1_closure 53 = .ok (.bipush 7, 2) := zdec_at bX1_closure_44 5 rfl
theorem dX1_closure_55 : decode cX1_closure 55 = .ok (.iload_n 3, 1) := zdec_at bX1_closure_44 6 rfl
theorem dX1_closure_56 : decode cX1_closure 56 = .ok (.invokevirtual 358, 3) := zdec_at bX1_closure_44 7 rfl
theorem dX1_closure_59 : decode cX1_closure 59 = .ok (.iload_n 3, 1) := zdec_at bX1_closure_44 8 rfl
theorem dX1_closure_60 : decode cX1_closure 60 = .ok (.ireturn, 1) := zdec_at bX1_closure_44 9 rfl
theorem sX1_closure_0 {E : zE} {d : Nat} {Q : zO → zM → Prop} (M : zM) (l1 : Int32) (l2 : Int32) (hw : cw M) (k : Z E YX1_scopePair d M (zargs 0 [vr (some (16, 0, 0)), vi l1]) 0 [] (zafter E YX1_closure (d + 1) [(0, vr (some (16, 0, 0))), (1, vi l1), (2, vi l2)] 4 3 [vi (1 : Int32), vr (some (16, 0, 0))] Q)) : Z E YX1_closure (d + 1) M [(0, vr (some (16, 0, 0))), (1, vi l1), (2, vi l2)] 0 [] Q := by
  refine z_aload_n dX1_closure_0 rfl rfl ?_
  refine z_iconst (v := 1) dX1_closure_1 rfl ?_
  refine z_aload_n dX1_closure_2 rfl rfl ?_
  refine z_iload_n dX1_closure_3 rfl rfl ?_
  exact z_callV (as := [vi l1]) (st := [vi (1 : Int32), vr (some (16, 0, 0))]) dX1_closure_4 vsX1_538_0 (Nat.le_refl _) (Nat.le_of_ble_eq_true rfl) (Nat.le_of_ble_eq_true rfl) rfl k
theorem sX1_closure_7 {E : zE} {d : Nat} {Q : zO → zM → Prop} (M : zM) (l1 : Int32) (l2 : Int32) (s0 : Int32) (s1 : Int32) (hw : cw M) (k : Z E YX1_born d M (zargs 0 [vr (some (16, 0, 0)), vi s1, vi (s0 + (2 : Int32)), vi (2 : Int32), vi l2]) 0 [] (zafter E YX1_closure (d + 1) [(0, vr (some (16, 0, 0))), (1, vi l1)] 11 3 [] Q)) : Z E YX1_closure (d + 1) M [(0, vr (some (16, 0, 0))), (1, vi l1), (2, vi l2)] 7 [vi s0, vi s1, vr (some (16, 0, 0))] Q := by
  refine z_iconst (v := 2) dX1_closure_7 rfl ?_
  refine z_iadd dX1_closure_8 ?_
  refine z_iconst (v := 2) dX1_closure_9 rfl ?_
  refine z_iload_n dX1_closure_10 rfl rfl ?_
  refine Z.pick [0, 1] rfl ?_
  exact z_callV (as := [vi s1, vi (s0 + (2 : Int32)), vi (2 : Int32), vi l2]) (st := []) dX1_closure_11 vsX1_362_0 (Nat.le_refl _) (Nat.le_of_ble_eq_true rfl) (Nat.le_of_ble_eq_true rfl) rfl k
theorem sX1_closure_14 {E : zE} {d : Nat} {Q : zO → zM → Prop} (M : zM) (l1 : Int32) (s0 : Int32) (hw : cw M) (k : Z E YX1_scopePair d M (zargs 0 [vr (some (16, 0, 0)), vi l1]) 0 [] (zafter E YX1_closure (d + 1) [(0, vr (some (16, 0, 0))), (1, vi l1), (3, vi s0)] 19 3 [vi (0 : Int32), vr (some (16, 0, 0))] Q)) : Z E YX1_closure (d + 1) M [(0, vr (some (16, 0, 0))), (1, vi l1)] 14 [vi s0] Q := by
  refine z_ist_n dX1_closure_14 rfl (by decide) (lv' := [(0, vr (some (16, 0, 0))), (1, vi l1), (3, vi s0)]) rfl ?_
  refine z_aload_n dX1_closure_15 rfl rfl ?_
  refine z_iconst (v := 0) dX1_closure_16 rfl ?_
  refine z_aload_n dX1_closure_17 rfl rfl ?_
  refine z_iload_n dX1_closure_18 rfl rfl ?_
  exact z_callV (as := [vi l1]) (st := [vi (0 : Int32), vr (some (16, 0, 0))]) dX1_closure_19 vsX1_538_0 (Nat.le_refl _) (Nat.le_of_ble_eq_true rfl) (Nat.le_of_ble_eq_true rfl) rfl k
theorem sX1_closure_22 {E : zE} {d : Nat} {Q : zO → zM → Prop} (M : zM) (l1 : Int32) (l3 : Int32) (s0 : Int32) (s1 : Int32) (hw : cw M) (k : Z E YX1_born d M (zargs 0 [vr (some (16, 0, 0)), vi s1, vi (s0 + (4 : Int32)), vi (1 : Int32), vi (-1 : Int32)]) 0 [] (zafter E YX1_closure (d + 1) [(0, vr (some (16, 0, 0))), (1, vi l1), (3, vi l3)] 26 3 [] Q)) : Z E YX1_closure (d + 1) M [(0, vr (some (16, 0, 0))), (1, vi l1), (3, vi l3)] 22 [vi s0, vi s1, vr (some (16, 0, 0))] Q := by
  refine z_iconst (v := 4) dX1_closure_22 rfl ?_
  refine z_iadd dX1_closure_23 ?_
  refine z_iconst (v := 1) dX1_closure_24 rfl ?_
  refine z_iconst (v := -1) dX1_closure_25 rfl ?_
  exact z_callV (as := [vi s1, vi (s0 + (4 : Int32)), vi (1 : Int32), vi (-1 : Int32)]) (st := []) dX1_closure_26 vsX1_362_0 (Nat.le_refl _) (Nat.le_of_ble_eq_true rfl) (Nat.le_of_ble_eq_true rfl) rfl k
theorem sX1_closure_29 {E : zE} {d : Nat} {Q : zO → zM → Prop} (M : zM) (l1 : Int32) (l3 : Int32) (s0 : Int32) (hw : cw M) (k : vp_in l3 300 ∧ (Z E YX1_setOwn d (si M 39 (l3).toNatClampNeg (vp_nar .byte (l1).toInt8.toInt32)) (zargs 0 [vr (some (16, 0, 0)), vi l3, vi (1 : Int32), vi (7 : Int32), vi s0]) 0 [] (zafter E YX1_closure (d + 1) [(0, vr (some (16, 0, 0))), (3, vi l3), (4, vi s0)] 46 3 [] Q))) : Z E YX1_closure (d + 1) M [(0, vr (some (16, 0, 0))), (1, vi l1), (3, vi l3)] 29 [vi s0] Q := by
  refine z_ist dX1_closure_29 (by decide) (lv' := [(0, vr (some (16, 0, 0))), (1, vi l1), (3, vi l3), (4, vi s0)]) rfl ?_
  refine z_aload_n dX1_closure_31 rfl rfl ?_
  refine z_getr dX1_closure_32 fsX1_96_0 (show gr M 16 14 = some (39, 101, 300) from cw_at hw 7 rfl) ?_
  refine z_iload_n dX1_closure_35 rfl rfl ?_
  refine z_iload_n dX1_closure_36 rfl rfl ?_
  refine z_i2b dX1_closure_37 ?_
  obtain ⟨b_, k⟩ := k
  refine z_bast (by decide) dX1_closure_38 b_ ?_
  refine z_aload_n dX1_closure_39 rfl rfl ?_
  refine z_iload_n dX1_closure_40 rfl rfl ?_
  refine z_iconst (v := 1) dX1_closure_41 rfl ?_
  refine z_bipush (v := 7) dX1_closure_42 rfl ?_
  refine z_iload dX1_closure_44 rfl ?_
  refine Z.pick [0, 2, 3] rfl ?_
  exact z_callV (as := [vi l3, vi (1 : Int32), vi (7 : Int32), vi s0]) (st := []) dX1_closure_46 vsX1_358_0 (Nat.le_refl _) (Nat.le_of_ble_eq_true rfl) (Nat.le_of_ble_eq_true rfl) rfl k
theorem sX1_closure_49 {E : zE} {d : Nat} {Q : zO → zM → Prop} (M : zM) (l3 : Int32) (l4 : Int32) (hw : cw M) (k : Z E YX1_setOwn d M (zargs 0 [vr (some (16, 0, 0)), vi l4, vi (2 : Int32), vi (7 : Int32), vi l3]) 0 [] (zafter E YX1_closure (d + 1) [(3, vi l3)] 56 3 [] Q)) : Z E YX1_closure (d + 1) M [(0, vr (some (16, 0, 0))), (3, vi l3), (4, vi l4)] 49 [] Q := by
  refine z_aload_n dX1_closure_49 rfl rfl ?_
  refine z_iload dX1_closure_50 rfl ?_
  refine z_iconst (v := 2) dX1_closure_52 rfl ?_
  refine z_bipush (v := 7) dX1_closure_53 rfl ?_
  refine z_iload_n dX1_closure_55 rfl rfl ?_
  refine Z.pick [1] rfl ?_
  exact z_callV (as := [vi l4, vi (2 : Int32), vi (7 : Int32), vi l3]) (st := []) dX1_closure_56 vsX1_358_0 (Nat.le_refl _) (Nat.le_of_ble_eq_true rfl) (Nat.le_of_ble_eq_true rfl) rfl k
theorem sX1_closure_59 {E : zE} {d : Nat} {Q : zO → zM → Prop} (M : zM) (l3 : Int32) (hw : cw M) (k : Q (.inl (some (vi l3))) M) : Z E YX1_closure (d + 1) M [(3, vi l3)] 59 [] Q := by
  refine z_iload_n dX1_closure_59 rfl rfl ?_
  exact z_iret dX1_closure_60 rfl rfl k
/-! ScriptTypes.scopePair(I)I -/
theorem bX1_scopePair_0 : zdec cX1_scopePair 0 [(0, .bipush 29, 2), (2, .bipush 6, 2), (4, .iload_n 1, 1), (5, .iconst 1, 1), (6, .isub, 1), (7, .imul, 1), (8, .iadd, 1), (9, .ireturn, 1)] = true := by decide +kernel
theorem dX1_scopePair_0 : decode cX1_scopePair 0 = .ok (.bipush 29, 2) := zdec_at bX1_scopePair_0 0 rfl
theorem dX1_scopePair_2 : decode cX1_scopePair 2 = .ok (.bipush 6, 2) := zdec_at bX1_scopePair_0 1 rfl
theorem dX1_scopePair_4 : decode cX1_scopePair 4 = .ok (.iload_n 1, 1) := zdec_at bX1_scopePair_0 2 rfl
theorem dX1_scopePair_5 : decode cX1_scopePair 5 = .ok (.iconst 1, 1) := zdec_at bX1_scopePair_0 3 rfl
theorem dX1_scopePair_6 : decode cX1_scopePair 6 = .ok (.isub, 1) := zdec_at bX1_scopePair_0 4 rfl
theorem dX1_scopePair_7 : decode cX1_scopePair 7 = .ok (.imul, 1) := zdec_at bX1_scopePair_0 5 rfl
theorem dX1_scopePair_8 : decode cX1_scopePair 8 = .ok (.iadd, 1) := zdec_at bX1_scopePair_0 6 rfl
theorem dX1_scopePair_9 : decode cX1_scopePair 9 = .ok (.ireturn, 1) := zdec_at bX1_scopePair_0 7 rfl
theorem sX1_scopePair_0 {E : zE} {d : Nat} {Q : zO → zM → Prop} (M : zM) (l1 : Int32) (hw : cw M) (k : Q (.inl (some (vi ((29 : Int32) + ((6 : Int32) * (l1 - (1 : Int32))))))) M) : Z E YX1_scopePair d M [(0, vr (some (16, 0, 0))), (1, vi l1)] 0 [] Q := by
  refine z_bipush (v := 29) dX1_scopePair_0 rfl ?_
  refine z_bipush (v := 6) dX1_scopePair_2 rfl ?_
  refine z_iload_n dX1_scopePair_4 rfl rfl ?_
  refine z_iconst (v := 1) dX1_scopePair_5 rfl ?_
  refine z_isub dX1_scopePair_6 ?_
  refine z_imul dX1_scopePair_7 ?_
  refine z_iadd dX1_scopePair_8 ?_
  exact z_iret dX1_scopePair_9 rfl rfl k
/-! ScriptTypes.getOf()V -/
theorem bX1_getOf_0 : zdec cX1_getOf 0 [(0, .aload_n 0, 1), (1, .getfield 148, 3), (4, .aload_n 0, 1), (5, .getfield 440, 3), (8, .iconst 2, 1), (9, .isub, 1), (10, .baload, 1), (11, .istore_n 1, 1), (12, .aload_n 0, 1), (13, .getfield 151, 3), (16, .aload_n 0, 1), (17, .getfield 440, 3), (20, .iconst 2, 1), (21, .isub, 1), (22, .iaload, 1), (23, .istore_n 2, 1)] = true := by decide +kernel
theorem dX1_getOf_0 : decode cX1_getOf 0 = .ok (.aload_n 0, 1) := zdec_at bX1_getOf_0 0 rfl
theorem dX1_getOf_1 : decode cX1_getOf 1 = .ok (.getfield 148, 3) := zdec_at bX1_getOf_0 1 rfl
theorem dX1_getOf_4 : decode cX1_getOf 4 = .ok (.aload_n 0, 1) := zdec_at bX1_getOf_0 2 rfl
theorem dX1_getOf_5 : decode cX1_getOf 5 = .ok (.getfield 440, 3) := zdec_at bX1_getOf_0 3 rfl
theorem dX1_getOf_8 : decode cX1_getOf 8 = .ok (.iconst 2, 1) := zdec_at bX1_getOf_0 4 rfl
theorem dX1_getOf_9 : decode cX1_getOf 9 = .ok (.isub, 1) := zdec_at bX1_getOf_0 5 rfl
theorem dX1_getOf_10 : decode cX1_getOf 10 = .ok (.baload, 1) := zdec_at bX1_getOf_0 6 rfl
theorem dX1_getOf_11 : decode cX1_getOf 11 = .ok (.istore_n 1, 1) := zdec_at bX1_getOf_0 7 rfl
theorem dX1_getOf_12 : decode cX1_getOf 12 = .ok (.aload_n 0, 1) := zdec_at bX1_getOf_0 8 rfl
theorem dX1_getOf_13 : decode cX1_getOf 13 = .ok (.getfield 151, 3) := zdec_at bX1_getOf_0 9 rfl
theorem dX1_getOf_16 : decode cX1_getOf 16 = .ok (.aload_n 0, 1) := zdec_at bX1_getOf_0 10 rfl
theorem dX1_getOf_17 : decode cX1_getOf 17 = .ok (.getfield 440, 3) := zdec_at bX1_getOf_0 11 rfl
theorem dX1_getOf_20 : decode cX1_getOf 20 = .ok (.iconst 2, 1) := zdec_at bX1_getOf_0 12 rfl
theorem dX1_getOf_21 : decode cX1_getOf 21 = .ok (.isub, 1) := zdec_at bX1_getOf_0 13 rfl
theorem dX1_getOf_22 : decode cX1_getOf 22 = .ok (.iaload, 1) := zdec_at bX1_getOf_0 14 rfl
theorem dX1_getOf_23 : decode cX1_getOf 23 = .ok (.istore_n 2, 1) := zdec_at bX1_getOf_0 15 rfl
theorem bX1_getOf_24 : zdec cX1_getOf 24 [(24, .aload_n 0, 1), (25, .aload_n 0, 1), (26, .getfield 148, 3), (29, .aload_n 0, 1), (30, .getfield 440, 3), (33, .iconst 1, 1), (34, .isub, 1), (35, .baload, 1), (36, .aload_n 0, 1), (37, .getfield 151, 3), (40, .aload_n 0, 1), (41, .getfield 440, 3), (44, .iconst 1, 1), (45, .isub, 1), (46, .iaload, 1), (47, .invokevirtual 541, 3)] = true := by decide +kernel
theorem dX1_getOf_24 : decode cX1_getOf 24 = .ok (.aload_n 0, 1) := zdec_at bX1_getOf_24 0 rfl
theorem dX1_getOf_25 : decode cX1_getOf 25 = .ok (.aload_n 0, 1) := zdec_at bX1_getOf_24 1 rfl
theorem dX1_getOf_26 : decode cX1_getOf 26 = .ok (.getfield 148, 3) := zdec_at bX1_getOf_24 2 rfl
theorem dX1_getOf_29 : decode cX1_getOf 29 = .ok (.aload_n 0, 1) := zdec_at bX1_getOf_24 3 rfl
theorem dX1_getOf_30 : decode cX1_getOf 30 = .ok (.getfield 440, 3) := zdec_at bX1_getOf_24 4 rfl
theorem dX1_getOf_33 : decode cX1_getOf 33 = .ok (.iconst 1, 1) := zdec_at bX1_getOf_24 5 rfl
theorem dX1_getOf_34 : decode cX1_getOf 34 = .ok (.isub, 1) := zdec_at bX1_getOf_24 6 rfl
theorem dX1_getOf_35 : decode cX1_getOf 35 = .ok (.baload, 1) := zdec_at bX1_getOf_24 7 rfl
theorem dX1_getOf_36 : decode cX1_getOf 36 = .ok (.aload_n 0, 1) := zdec_at bX1_getOf_24 8 rfl
theorem dX1_getOf_37 : decode cX1_getOf 37 = .ok (.getfield 151, 3) := zdec_at bX1_getOf_24 9 rfl
theorem dX1_getOf_40 : decode cX1_getOf 40 = .ok (.aload_n 0, 1) := zdec_at bX1_getOf_24 10 rfl
theorem dX1_getOf_41 : decode cX1_getOf 41 = .ok (.getfield 440, 3) := zdec_at bX1_getOf_24 11 rfl
theorem dX1_getOf_44 : decode cX1_getOf 44 = .ok (.iconst 1, 1) := zdec_at bX1_getOf_24 12 rfl
theorem dX1_getOf_45 : decode cX1_getOf 45 = .ok (.isub, 1) := zdec_at bX1_getOf_24 13 rfl
theorem dX1_getOf_46 : decode cX1_getOf 46 = .ok (.iaload, 1) := zdec_at bX1_getOf_24 14 rfl
theorem dX1_getOf_47 : decode cX1_getOf 47 = .ok (.invokevirtual 541, 3) := zdec_at bX1_getOf_24 15 rfl
theorem bX1_getOf_50 : zdec cX1_getOf 50 [(50, .istore_n 3, 1), (51, .iload_n 1, 1), (52, .iconst 2, 1), (53, .if_icmp .ge 9, 3), (56, .aload_n 0, 1), (57, .iconst 0, 1), (58, .invokevirtual 482, 3), (61, .athrow, 1), (62, .iload_n 1, 1), (63, .bipush 7, 2), (65, .if_icmp .ne 16, 3), (68, .aload_n 0, 1), (69, .aload_n 0, 1), (70, .iload_n 2, 1), (71, .iload_n 3, 1), (72, .invokevirtual 544, 3)] = true := by decide +kernel
theorem dX1_getOf_50 : decode cX1_getOf 50 = .ok (.istore_n 3, 1) := zdec_at bX1_getOf_50 0 rfl
theorem dX1_getOf_51 : decode cX1_getOf 51 = .ok (.iload_n 1, 1) := zdec_at bX1_getOf_50 1 rfl
theorem dX1_getOf_52 : decode cX1_getOf 52 = .ok (.iconst 2, 1) := zdec_at bX1_getOf_50 2 rfl
theorem dX1_getOf_53 : decode cX1_getOf 53 = .ok (.if_icmp .ge 9, 3) := zdec_at bX1_getOf_50 3 rfl
theorem dX1_getOf_56 : decode cX1_getOf 56 = .ok (.aload_n 0, 1) := zdec_at bX1_getOf_50 4 rfl
theorem dX1_getOf_57 : decode cX1_getOf 57 = .ok (.iconst 0, 1) := zdec_at bX1_getOf_50 5 rfl
theorem dX1_getOf_58 : decode cX1_getOf 58 = .ok (.invokevirtual 482, 3) := zdec_at bX1_getOf_50 6 rfl
theorem dX1_getOf_61 : decode cX1_getOf 61 = .ok (.athrow, 1) := zdec_at bX1_getOf_50 7 rfl
theorem dX1_getOf_62 : decode cX1_getOf 62 = .ok (.iload_n 1, 1) := zdec_at bX1_getOf_50 8 rfl
theorem dX1_getOf_63 : decode cX1_getOf 63 = .ok (.bipush 7, 2) := zdec_at bX1_getOf_50 9 rfl
theorem dX1_getOf_65 : decode cX1_getOf 65 = .ok (.if_icmp .ne 16, 3) := zdec_at bX1_getOf_50 10 rfl
theorem dX1_getOf_68 : decode cX1_getOf 68 = .ok (.aload_n 0, 1) := zdec_at bX1_getOf_50 11 rfl
theorem dX1_getOf_69 : decode cX1_getOf 69 = .ok (.aload_n 0, 1) := zdec_at bX1_getOf_50 12 rfl
theorem dX1_getOf_70 : decode cX1_getOf 70 = .ok (.iload_n 2, 1) := zdec_at bX1_getOf_50 13 rfl
theorem dX1_getOf_71 : decode cX1_getOf 71 = .ok (.iload_n 3, 1) := zdec_at bX1_getOf_50 14 rfl
theorem dX1_getOf_72 : decode cX1_getOf 72 = .ok (.invokevirtual 544, 3) := zdec_at bX1_getOf_50 15 rfl
theorem bX1_getOf_75 : zdec cX1_getOf 75 [(75, .invokevirtual 546, 3), (78, .goto 54, 3), (81, .iload_n 1, 1), (82, .bipush 6, 2), (84, .if_icmp .ne 23, 3), (87, .iload_n 3, 1), (88, .ifCond .ne 19, 3), (91, .aload_n 0, 1), (92, .iconst 5, 1), (93, .aload_n 0, 1), (94, .getfield 19, 3), (97, .iload_n 2, 1), (98, .invokevirtual 23, 3), (101, .invokevirtual 395, 3), (104, .goto 28, 3), (107, .iload_n 1, 1)] = true := by decide +kernel
theorem dX1_getOf_75 : decode cX1_getOf 75 = .ok (.invokevirtual 546, 3) := zdec_at bX1_getOf_75 0 rfl
theorem dX1_getOf_78 : decode cX1_getOf 78 = .ok (.goto 54, 3) := zdec_at bX1_getOf_75 1 rfl
theorem dX1_getOf_81 : decode cX1_getOf 81 = .ok (.iload_n 1, 1) := zdec_at bX1_getOf_75 2 rfl
theorem dX1_getOf_82 : decode cX1_getOf 82 = .ok (.bipush 6, 2) := zdec_at bX1_getOf_75 3 rfl
theorem dX1_getOf_84 : decode cX1_getOf 84 = .ok (.if_icmp .ne 23, 3) := zdec_at bX1_getOf_75 4 rfl
theorem dX1_getOf_87 : decode cX1_getOf 87 = .ok (.iload_n 3, 1) := zdec_at bX1_getOf_75 5 rfl
theorem dX1_getOf_88 : decode cX1_getOf 88 = .ok (.ifCond .ne 19, 3) := zdec_at bX1_getOf_75 6 rfl
theorem dX1_getOf_91 : decode cX1_getOf 91 = .ok (.aload_n 0, 1) := zdec_at bX1_getOf_75 7 rfl
theorem dX1_getOf_92 : decode cX1_getOf 92 = .ok (.iconst 5, 1) := zdec_at bX1_getOf_75 8 rfl
theorem dX1_getOf_93 : decode cX1_getOf 93 = .ok (.aload_n 0, 1) := zdec_at bX1_getOf_75 9 rfl
theorem dX1_getOf_94 : decode cX1_getOf 94 = .ok (.getfield 19, 3) := zdec_at bX1_getOf_75 10 rfl
theorem dX1_getOf_97 : decode cX1_getOf 97 = .ok (.iload_n 2, 1) := zdec_at bX1_getOf_75 11 rfl
theorem dX1_getOf_98 : decode cX1_getOf 98 = .ok (.invokevirtual 23, 3) := zdec_at bX1_getOf_75 12 rfl
theorem dX1_getOf_101 : decode cX1_getOf 101 = .ok (.invokevirtual 395, 3) := zdec_at bX1_getOf_75 13 rfl
theorem dX1_getOf_104 : decode cX1_getOf 104 = .ok (.goto 28, 3) := zdec_at bX1_getOf_75 14 rfl
theorem dX1_getOf_107 : decode cX1_getOf 107 = .ok (.iload_n 1, 1) := zdec_at bX1_getOf_75 15 rfl
theorem bX1_getOf_108 : zdec cX1_getOf 108 [(108, .bipush 6, 2), (110, .if_icmp .ne 16, 3), (113, .aload_n 0, 1), (114, .aload_n 0, 1), (115, .iconst 4, 1), (116, .iload_n 3, 1), (117, .invokevirtual 544, 3), (120, .invokevirtual 546, 3), (123, .goto 9, 3), (126, .aload_n 0, 1), (127, .iconst 0, 1), (128, .iconst 0, 1), (129, .invokevirtual 395, 3), (132, .aload_n 0, 1), (133, .iconst 2, 1), (134, .invokevirtual 508, 3)] = true := by decide +kernel
theorem dX1_getOf_108 : decode cX1_getOf 108 = .ok (.bipush 6, 2) := zdec_at bX1_getOf_108 0 rfl
theorem dX1_getOf_110 : decode cX1_getOf 110 = .ok (.if_icmp .ne 16, 3) := zdec_at bX1_getOf_108 1 rfl
theorem dX1_getOf_113 : decode cX1_getOf 113 = .ok (.aload_n 0, 1) := zdec_at bX1_getOf_108 2 rfl
theorem dX1_getOf_114 : decode cX1_getOf 114 = .ok (.aload_n 0, 1) := zdec_at bX1_getOf_108 3 rfl
theorem dX1_getOf_115 : decode cX1_getOf 115 = .ok (.iconst 4, 1) := zdec_at bX1_getOf_108 4 rfl
theorem dX1_getOf_116 : decode cX1_getOf 116 = .ok (.iload_n 3, 1) := zdec_at bX1_getOf_108 5 rfl
theorem dX1_getOf_117 : decode cX1_getOf 117 = .ok (.invokevirtual 544, 3) := zdec_at bX1_getOf_108 6 rfl
theorem dX1_getOf_120 : decode cX1_getOf 120 = .ok (.invokevirtual 546, 3) := zdec_at bX1_getOf_108 7 rfl
theorem dX1_getOf_123 : decode cX1_getOf 123 = .ok (.goto 9, 3) := zdec_at bX1_getOf_108 8 rfl
theorem dX1_getOf_126 : decode cX1_getOf 126 = .ok (.aload_n 0, 1) := zdec_at bX1_getOf_108 9 rfl
theorem dX1_getOf_127 : decode cX1_getOf 127 = .ok (.iconst 0, 1) := zdec_at bX1_getOf_108 10 rfl
theorem dX1_getOf_128 : decode cX1_getOf 128 = .ok (.iconst 0, 1) := zdec_at bX1_getOf_108 11 rfl
theorem dX1_getOf_129 : decode cX1_getOf 129 = .ok (.invokevirtual 395, 3) := zdec_at bX1_getOf_108 12 rfl
theorem dX1_getOf_132 : decode cX1_getOf 132 = .ok (.aload_n 0, 1) := zdec_at bX1_getOf_108 13 rfl
theorem dX1_getOf_133 : decode cX1_getOf 133 = .ok (.iconst 2, 1) := zdec_at bX1_getOf_108 14 rfl
theorem dX1_getOf_134 : decode cX1_getOf 134 = .ok (.invokevirtual 508, 3) := zdec_at bX1_getOf_108 15 rfl
theorem bX1_getOf_137 : zdec cX1_getOf 137 [(137, .return_, 1)] = true := by decide +kernel
theorem dX1_getOf_137 : decode cX1_getOf 137 = .ok (.return_, 1) := zdec_at bX1_getOf_137 0 rfl
theorem sX1_getOf_0 {E : zE} {d : Nat} {Q : zO → zM → Prop} (M : zM)  (hw : cw M) (k : vp_in ((gi M 16 38) - (2 : Int32)) 14500 ∧ (vp_in ((gi M 16 38) - (2 : Int32)) 14500 ∧ (vp_in ((gi M 16 38) - (1 : Int32)) 14500 ∧ (vp_in ((gi M 16 38) - (1 : Int32)) 14500 ∧ (Z E YX1_textOf d M (zargs 0 [vr (some (16, 0, 0)), vi (gi M 53 (((gi M 16 38) - (1 : Int32))).toNatClampNeg), vi (gi M 54 (((gi M 16 38) - (1 : Int32))).toNatClampNeg)]) 0 [] (zafter E YX1_getOf (d + 1) [(0, vr (some (16, 0, 0))), (1, vi (gi M 53 (((gi M 16 38) - (2 : Int32))).toNatClampNeg)), (2, vi (gi M 54 (((gi M 16 38) - (2 : Int32))).toNatClampNeg))] 47 3 [] Q)))))) : Z E YX1_getOf (d + 1) M [(0, vr (some (16, 0, 0)))] 0 [] Q := by
  refine z_aload_n dX1_getOf_0 rfl rfl ?_
  refine z_getr dX1_getOf_1 fsX1_148_0 (show gr M 16 34 = some (53, 101, 14500) from cw_at hw 21 rfl) ?_
  refine z_aload_n dX1_getOf_4 rfl rfl ?_
  refine z_geti dX1_getOf_5 fsX1_440_0 ?_
  refine z_iconst (v := 2) dX1_getOf_8 rfl ?_
  refine z_isub dX1_getOf_9 ?_
  obtain ⟨b_, k⟩ := k
  refine z_bald dX1_getOf_10 b_ ?_
  refine z_ist_n dX1_getOf_11 rfl (by decide) (lv' := [(0, vr (some (16, 0, 0))), (1, vi (gi M 53 (((gi M 16 38) - (2 : Int32))).toNatClampNeg))]) rfl ?_
  refine z_aload_n dX1_getOf_12 rfl rfl ?_
  refine z_getr dX1_getOf_13 fsX1_151_0 (show gr M 16 35 = some (54, 100, 14500) from cw_at hw 22 rfl) ?_
  refine z_aload_n dX1_getOf_16 rfl rfl ?_
  refine z_geti dX1_getOf_17 fsX1_440_0 ?_
  refine z_iconst (v := 2) dX1_getOf_20 rfl ?_
  refine z_isub dX1_getOf_21 ?_
  obtain ⟨b_, k⟩ := k
  refine z_iald dX1_getOf_22 b_ ?_
  refine z_ist_n dX1_getOf_23 rfl (by decide) (lv' := [(0, vr (some (16, 0, 0))), (1, vi (gi M 53 (((gi M 16 38) - (2 : Int32))).toNatClampNeg)), (2, vi (gi M 54 (((gi M 16 38) - (2 : Int32))).toNatClampNeg))]) rfl ?_
  refine z_aload_n dX1_getOf_24 rfl rfl ?_
  refine z_aload_n dX1_getOf_25 rfl rfl ?_
  refine z_getr dX1_getOf_26 fsX1_148_0 (show gr M 16 34 = some (53, 101, 14500) from cw_at hw 21 rfl) ?_
  refine z_aload_n dX1_getOf_29 rfl rfl ?_
  refine z_geti dX1_getOf_30 fsX1_440_0 ?_
  refine z_iconst (v := 1) dX1_getOf_33 rfl ?_
  refine z_isub dX1_getOf_34 ?_
  obtain ⟨b_, k⟩ := k
  refine z_bald dX1_getOf_35 b_ ?_
  refine z_aload_n dX1_getOf_36 rfl rfl ?_
  refine z_getr dX1_getOf_37 fsX1_151_0 (show gr M 16 35 = some (54, 100, 14500) from cw_at hw 22 rfl) ?_
  refine z_aload_n dX1_getOf_40 rfl rfl ?_
  refine z_geti dX1_getOf_41 fsX1_440_0 ?_
  refine z_iconst (v := 1) dX1_getOf_44 rfl ?_
  refine z_isub dX1_getOf_45 ?_
  obtain ⟨b_, k⟩ := k
  refine z_iald dX1_getOf_46 b_ ?_
  exact z_callV (as := [vi (gi M 53 (((gi M 16 38) - (1 : Int32))).toNatClampNeg), vi (gi M 54 (((gi M 16 38) - (1 : Int32))).toNatClampNeg)]) (st := []) dX1_getOf_47 vsX1_541_0 (Nat.le_refl _) (Nat.le_of_ble_eq_true rfl) (Nat.le_of_ble_eq_true rfl) rfl k
theorem sX1_getOf_50 {E : zE} {d : Nat} {Q : zO → zM → Prop} (M : zM) (l1 : Int32) (l2 : Int32) (s0 : Int32) (hw : cw M) (k : if (2 : Int32) ≤ l1 then (if l1 = (7 : Int32) then (Z E YX1_find d M (zargs 0 [vr (some (16, 0, 0)), vi l2, vi s0]) 0 [] (zafter E YX1_getOf (d + 1) [(0, vr (some (16, 0, 0)))] 72 3 [vr (some (16, 0, 0))] Q)) else (if l1 = (6 : Int32) then (if s0 = 0 then (Z E YX2_length d M (zargs 0 [vr (some (17, 2, 0)), vi l2]) 0 [] (zafter E YX1_getOf (d + 1) [(0, vr (some (16, 0, 0)))] 98 3 [vi (5 : Int32), vr (some (16, 0, 0))] Q)) else (Z E YX1_getOf (d + 1) M [(0, vr (some (16, 0, 0))), (1, vi l1), (3, vi s0)] 107 [] Q)) else (Z E YX1_getOf (d + 1) M [(0, vr (some (16, 0, 0))), (1, vi l1), (3, vi s0)] 107 [] Q))) else (Z E YX1_error d M (zargs 0 [vr (some (16, 0, 0)), vi (0 : Int32)]) 0 [] (zafter E YX1_getOf (d + 1) [] 58 3 [] Q))) : Z E YX1_getOf (d + 1) M [(0, vr (some (16, 0, 0))), (1, vi l1), (2, vi l2)] 50 [vi s0] Q := by
  refine z_ist_n dX1_getOf_50 rfl (by decide) (lv' := [(0, vr (some (16, 0, 0))), (1, vi l1), (2, vi l2), (3, vi s0)]) rfl ?_
  refine z_iload_n dX1_getOf_51 rfl rfl ?_
  refine z_iconst (v := 2) dX1_getOf_52 rfl ?_
  refine z_icmp_ge (tgt := 62) dX1_getOf_53 rfl (fun h_ => ?_) (fun h_ => ?_)
  · have k := zit h_ k
    refine z_iload_n dX1_getOf_62 rfl rfl ?_
    refine z_bipush (v := 7) dX1_getOf_63 rfl ?_
    refine z_icmp_ne (tgt := 81) dX1_getOf_65 rfl (fun h_ => ?_) (fun h_ => ?_)
    · have k := zif h_ k
      refine z_iload_n dX1_getOf_81 rfl rfl ?_
      refine z_bipush (v := 6) dX1_getOf_82 rfl ?_
      refine z_icmp_ne (tgt := 107) dX1_getOf_84 rfl (fun h_ => ?_) (fun h_ => ?_)
      · have k := zif h_ k
        refine Z.pick [0, 1, 3] rfl ?_
        exact k
      · have k := zit h_ k
        refine z_iload_n dX1_getOf_87 rfl rfl ?_
        refine z_if_ne (tgt := 107) dX1_getOf_88 rfl (fun h_ => ?_) (fun h_ => ?_)
        · have k := zif h_ k
          refine Z.pick [0, 1, 3] rfl ?_
          exact k
        · have k := zit h_ k
          refine z_aload_n dX1_getOf_91 rfl rfl ?_
          refine z_iconst (v := 5) dX1_getOf_92 rfl ?_
          refine z_aload_n dX1_getOf_93 rfl rfl ?_
          refine z_getr dX1_getOf_94 fsX1_19_0 (show gr M 16 0 = some (17, 2, 0) from cw_at hw 0 rfl) ?_
          refine z_iload_n dX1_getOf_97 rfl rfl ?_
          refine Z.pick [0] rfl ?_
          exact z_callV (as := [vi l2]) (st := [vi (5 : Int32), vr (some (16, 0, 0))]) dX1_getOf_98 vsX1_23_2 (Nat.le_refl _) (Nat.le_of_ble_eq_true rfl) (Nat.le_of_ble_eq_true rfl) rfl k
    · have k := zit h_ k
      refine z_aload_n dX1_getOf_68 rfl rfl ?_
      refine z_aload_n dX1_getOf_69 rfl rfl ?_
      refine z_iload_n dX1_getOf_70 rfl rfl ?_
      refine z_iload_n dX1_getOf_71 rfl rfl ?_
      refine Z.pick [0] rfl ?_
      exact z_callV (as := [vi l2, vi s0]) (st := [vr (some (16, 0, 0))]) dX1_getOf_72 vsX1_544_0 (Nat.le_refl _) (Nat.le_of_ble_eq_true rfl) (Nat.le_of_ble_eq_true rfl) rfl k
  · have k := zif h_ k
    refine z_aload_n dX1_getOf_56 rfl rfl ?_
    refine z_iconst (v := 0) dX1_getOf_57 rfl ?_
    refine Z.pick [] rfl ?_
    exact z_callV (as := [vi (0 : Int32)]) (st := []) dX1_getOf_58 vsX1_482_0 (Nat.le_refl _) (Nat.le_of_ble_eq_true rfl) (Nat.le_of_ble_eq_true rfl) rfl k
theorem sX1_getOf_61 {E : zE} {d : Nat} {Q : zO → zM → Prop} (M : zM) (u0 : Option zP) (hw : cw M) (k : ∃ b1 : Nat, u0 = some (b1, 14, 0) ∧ (Q (.inr (b1, 14, 0)) M)) : Z E YX1_getOf (d + 1) M [] 61 [vr u0] Q := by
  obtain ⟨b1, e1_, k⟩ := k
  refine Z.eqs (lv' := []) (st' := [vr (some (b1, 14, 0))]) rfl (by rw [e1_] <;> rfl) ?_
  exact z_athrow dX1_getOf_61 (ZT.out (by decide) k)
theorem sX1_getOf_75 {E : zE} {d : Nat} {Q : zO → zM → Prop} (M : zM) (s0 : Int32) (hw : cw M) (k : Z E YX1_givesProperty d M (zargs 0 [vr (some (16, 0, 0)), vi s0]) 0 [] (zafter E YX1_getOf (d + 1) [(0, vr (some (16, 0, 0)))] 75 3 [] Q)) : Z E YX1_getOf (d + 1) M [(0, vr (some (16, 0, 0)))] 75 [vi s0, vr (some (16, 0, 0))] Q := by
  exact z_callV (as := [vi s0]) (st := []) dX1_getOf_75 vsX1_546_0 (Nat.le_refl _) (Nat.le_of_ble_eq_true rfl) (Nat.le_of_ble_eq_true rfl) rfl k
theorem sX1_getOf_78 {E : zE} {d : Nat} {Q : zO → zM → Prop} (M : zM)  (hw : cw M) (k : Z E YX1_getOf (d + 1) M [(0, vr (some (16, 0, 0)))] 132 [] Q) : Z E YX1_getOf (d + 1) M [(0, vr (some (16, 0, 0)))] 78 [] Q := by
  refine z_goto (tgt := 132) dX1_getOf_78 rfl ?_
  exact k
theorem sX1_getOf_101 {E : zE} {d : Nat} {Q : zO → zM → Prop} (M : zM) (s0 : Int32) (s1 : Int32) (hw : cw M) (k : Z E YX1_gives d M (zargs 0 [vr (some (16, 0, 0)), vi s1, vi s0]) 0 [] (zafter E YX1_getOf (d + 1) [(0, vr (some (16, 0, 0)))] 101 3 [] Q)) : Z E YX1_getOf (d + 1) M [(0, vr (some (16, 0, 0)))] 101 [vi s0, vi s1, vr (some (16, 0, 0))] Q := by
  exact z_callV (as := [vi s1, vi s0]) (st := []) dX1_getOf_101 vsX1_395_0 (Nat.le_refl _) (Nat.le_of_ble_eq_true rfl) (Nat.le_of_ble_eq_true rfl) rfl k
theorem sX1_getOf_104 {E : zE} {d : Nat} {Q : zO → zM → Prop} (M : zM)  (hw : cw M) (k : Z E YX1_getOf (d + 1) M [(0, vr (some (16, 0, 0)))] 132 [] Q) : Z E YX1_getOf (d + 1) M [(0, vr (some (16, 0, 0)))] 104 [] Q := by
  refine z_goto (tgt := 132) dX1_getOf_104 rfl ?_
  exact k
theorem sX1_getOf_107 {E : zE} {d : Nat} {Q : zO → zM → Prop} (M : zM) (l1 : Int32) (l3 : Int32) (hw : cw M) (k : if l1 = (6 : Int32) then (Z E YX1_find d M (zargs 0 [vr (some (16, 0, 0)), vi (4 : Int32), vi l3]) 0 [] (zafter E YX1_getOf (d + 1) [(0, vr (some (16, 0, 0)))] 117 3 [vr (some (16, 0, 0))] Q)) else (Z E YX1_gives d M (zargs 0 [vr (some (16, 0, 0)), vi (0 : Int32), vi (0 : Int32)]) 0 [] (zafter E YX1_getOf (d + 1) [(0, vr (some (16, 0, 0)))] 129 3 [] Q))) : Z E YX1_getOf (d + 1) M [(0, vr (some (16, 0, 0))), (1, vi l1), (3, vi l3)] 107 [] Q := by
  refine z_iload_n dX1_getOf_107 rfl rfl ?_
  refine z_bipush (v := 6) dX1_getOf_108 rfl ?_
  refine z_icmp_ne (tgt := 126) dX1_getOf_110 rfl (fun h_ => ?_) (fun h_ => ?_)
  · have k := zif h_ k
    refine z_aload_n dX1_getOf_126 rfl rfl ?_
    refine z_iconst (v := 0) dX1_getOf_127 rfl ?_
    refine z_iconst (v := 0) dX1_getOf_128 rfl ?_
    refine Z.pick [0] rfl ?_
    exact z_callV (as := [vi (0 : Int32), vi (0 : Int32)]) (st := []) dX1_getOf_129 vsX1_395_0 (Nat.le_refl _) (Nat.le_of_ble_eq_true rfl) (Nat.le_of_ble_eq_true rfl) rfl k
  · have k := zit h_ k
    refine z_aload_n dX1_getOf_113 rfl rfl ?_
    refine z_aload_n dX1_getOf_114 rfl rfl ?_
    refine z_iconst (v := 4) dX1_getOf_115 rfl ?_
    refine z_iload_n dX1_getOf_116 rfl rfl ?_
    refine Z.pick [0] rfl ?_
    exact z_callV (as := [vi (4 : Int32), vi l3]) (st := [vr (some (16, 0, 0))]) dX1_getOf_117 vsX1_544_0 (Nat.le_refl _) (Nat.le_of_ble_eq_true rfl) (Nat.le_of_ble_eq_true rfl) rfl k
theorem sX1_getOf_120 {E : zE} {d : Nat} {Q : zO → zM → Prop} (M : zM) (s0 : Int32) (hw : cw M) (k : Z E YX1_givesProperty d M (zargs 0 [vr (some (16, 0, 0)), vi s0]) 0 [] (zafter E YX1_getOf (d + 1) [(0, vr (some (16, 0, 0)))] 120 3 [] Q)) : Z E YX1_getOf (d + 1) M [(0, vr (some (16, 0, 0)))] 120 [vi s0, vr (some (16, 0, 0))] Q := by
  exact z_callV (as := [vi s0]) (st := []) dX1_getOf_120 vsX1_546_0 (Nat.le_refl _) (Nat.le_of_ble_eq_true rfl) (Nat.le_of_ble_eq_true rfl) rfl k
theorem sX1_getOf_123 {E : zE} {d : Nat} {Q : zO → zM → Prop} (M : zM)  (hw : cw M) (k : Z E YX1_getOf (d + 1) M [(0, vr (some (16, 0, 0)))] 132 [] Q) : Z E YX1_getOf (d + 1) M [(0, vr (some (16, 0, 0)))] 123 [] Q := by
  refine z_goto (tgt := 132) dX1_getOf_123 rfl ?_
  exact k
theorem sX1_getOf_132 {E : zE} {d : Nat} {Q : zO → zM → Prop} (M : zM)  (hw : cw M) (k : Z E YX1_leaves d M (zargs 0 [vr (some (16, 0, 0)), vi (2 : Int32)]) 0 [] (zafter E YX1_getOf (d + 1) [] 134 3 [] Q)) : Z E YX1_getOf (d + 1) M [(0, vr (some (16, 0, 0)))] 132 [] Q := by
  refine z_aload_n dX1_getOf_132 rfl rfl ?_
  refine z_iconst (v := 2) dX1_getOf_133 rfl ?_
  refine Z.pick [] rfl ?_
  exact z_callV (as := [vi (2 : Int32)]) (st := []) dX1_getOf_134 vsX1_508_0 (Nat.le_refl _) (Nat.le_of_ble_eq_true rfl) (Nat.le_of_ble_eq_true rfl) rfl k
theorem sX1_getOf_137 {E : zE} {d : Nat} {Q : zO → zM → Prop} (M : zM)  (hw : cw M) (k : Q (.inl none) M) : Z E YX1_getOf (d + 1) M [] 137 [] Q := by
  exact z_vret dX1_getOf_137 rfl k
/-! ScriptTypes.textOf(II)I -/
theorem bX1_textOf_0 : zdec cX1_textOf 0 [(0, .iload_n 1, 1), (1, .bipush 6, 2), (3, .if_icmp .ne 5, 3), (6, .iload_n 2, 1), (7, .ireturn, 1), (8, .aload_n 0, 1), (9, .invokevirtual 37, 3), (12, .aload_n 0, 1), (13, .iload_n 1, 1), (14, .iload_n 2, 1), (15, .invokevirtual 383, 3), (18, .aload_n 0, 1), (19, .invokevirtual 386, 3), (22, .ireturn, 1)] = true := by decide +kernel
theorem dX1_textOf_0 : decode cX1_textOf 0 = .ok (.iload_n 1, 1) := zdec_at bX1_textOf_0 0 rfl
theorem dX1_textOf_1 : decode cX1_textOf 1 = .ok (.bipush 6, 2) := zdec_at bX1_textOf_0 1 rfl
theorem dX1_textOf_3 : decode cX1_textOf 3 = .ok (.if_icmp .ne 5, 3) := zdec_at bX1_textOf_0 2 rfl
theorem dX1_textOf_6 : decode cX1_textOf 6 = .ok (.iload_n 2, 1) := zdec_at bX1_textOf_0 3 rfl
theorem dX1_textOf_7 : decode cX1_textOf 7 = .ok (.ireturn, 1) := zdec_at bX1_textOf_0 4 rfl
theorem dX1_textOf_8 : decode cX1_textOf 8 = .ok (.aload_n 0, 1) := zdec_at bX1_textOf_0 5 rfl
theorem dX1_textOf_9 : decode cX1_textOf 9 = .ok (.invokevirtual 37, 3) := zdec_at bX1_textOf_0 6 rfl
theorem dX1_textOf_12 : decode cX1_textOf 12 = .ok (.aload_n 0, 1) := zdec_at bX1_textOf_0 7 rfl
theorem dX1_textOf_13 : decode cX1_textOf 13 = .ok (.iload_n 1, 1) := zdec_at bX1_textOf_0 8 rfl
theorem dX1_textOf_14 : decode cX1_textOf 14 = .ok (.iload_n 2, 1) := zdec_at bX1_textOf_0 9 rfl
theorem dX1_textOf_15 : decode cX1_textOf 15 = .ok (.invokevirtual 383, 3) := zdec_at bX1_textOf_0 10 rfl
theorem dX1_textOf_18 : decode cX1_textOf 18 = .ok (.aload_n 0, 1) := zdec_at bX1_textOf_0 11 rfl
theorem dX1_textOf_19 : decode cX1_textOf 19 = .ok (.invokevirtual 386, 3) := zdec_at bX1_textOf_0 12 rfl
theorem dX1_textOf_22 : decode cX1_textOf 22 = .ok (.ireturn, 1) := zdec_at bX1_textOf_0 13 rfl
theorem sX1_textOf_0 {E : zE} {d : Nat} {Q : zO → zM → Prop} (M : zM) (l1 : Int32) (l2 : Int32) (hw : cw M) (k : if l1 = (6 : Int32) then (Q (.inl (some (vi l2))) M) else (Z E YX1_clearRow d M (zargs 0 [vr (some (16, 0, 0))]) 0 [] (zafter E YX1_textOf (d + 1) [(0, vr (some (16, 0, 0))), (1, vi l1), (2, vi l2)] 9 3 [] Q))) : Z E YX1_textOf (d + 1) M [(0, vr (some (16, 0, 0))), (1, vi l1), (2, vi l2)] 0 [] Q := by
  refine z_iload_n dX1_textOf_0 rfl rfl ?_
  refine z_bipush (v := 6) dX1_textOf_1 rfl ?_
  refine z_icmp_ne (tgt := 8) dX1_textOf_3 rfl (fun h_ => ?_) (fun h_ => ?_)
  · have k := zif h_ k
    refine z_aload_n dX1_textOf_8 rfl rfl ?_
    exact z_callV (as := []) (st := []) dX1_textOf_9 vsX1_37_0 (Nat.le_refl _) (Nat.le_of_ble_eq_true rfl) (Nat.le_of_ble_eq_true rfl) rfl k
  · have k := zit h_ k
    refine z_iload_n dX1_textOf_6 rfl rfl ?_
    exact z_iret dX1_textOf_7 rfl rfl k
theorem sX1_textOf_12 {E : zE} {d : Nat} {Q : zO → zM → Prop} (M : zM) (l1 : Int32) (l2 : Int32) (hw : cw M) (k : Z E YX1_putValue d M (zargs 0 [vr (some (16, 0, 0)), vi l1, vi l2]) 0 [] (zafter E YX1_textOf (d + 1) [(0, vr (some (16, 0, 0)))] 15 3 [] Q)) : Z E YX1_textOf (d + 1) M [(0, vr (some (16, 0, 0))), (1, vi l1), (2, vi l2)] 12 [] Q := by
  refine z_aload_n dX1_textOf_12 rfl rfl ?_
  refine z_iload_n dX1_textOf_13 rfl rfl ?_
  refine z_iload_n dX1_textOf_14 rfl rfl ?_
  refine Z.pick [0] rfl ?_
  exact z_callV (as := [vi l1, vi l2]) (st := []) dX1_textOf_15 vsX1_383_0 (Nat.le_refl _) (Nat.le_of_ble_eq_true rfl) (Nat.le_of_ble_eq_true rfl) rfl k
theorem sX1_textOf_18 {E : zE} {d : Nat} {Q : zO → zM → Prop} (M : zM)  (hw : cw M) (k : Z E YX1_string d M (zargs 0 [vr (some (16, 0, 0))]) 0 [] (zafter E YX1_textOf (d + 1) [] 19 3 [] Q)) : Z E YX1_textOf (d + 1) M [(0, vr (some (16, 0, 0)))] 18 [] Q := by
  refine z_aload_n dX1_textOf_18 rfl rfl ?_
  refine Z.pick [] rfl ?_
  exact z_callV (as := []) (st := []) dX1_textOf_19 vsX1_386_0 (Nat.le_refl _) (Nat.le_of_ble_eq_true rfl) (Nat.le_of_ble_eq_true rfl) rfl k
theorem sX1_textOf_22 {E : zE} {d : Nat} {Q : zO → zM → Prop} (M : zM) (s0 : Int32) (hw : cw M) (k : Q (.inl (some (vi s0))) M) : Z E YX1_textOf (d + 1) M [] 22 [vi s0] Q := by
  exact z_iret dX1_textOf_22 rfl rfl k
/-! ScriptTypes.putValue(II)V -/
theorem bX1_putValue_0 : zdec cX1_putValue 0 [(0, .iload_n 1, 1), (1, .iconst 5, 1), (2, .if_icmp .ne 11, 3), (5, .aload_n 0, 1), (6, .iload_n 2, 1), (7, .invokevirtual 377, 3), (10, .goto 72, 3), (13, .iload_n 1, 1), (14, .bipush 6, 2), (16, .if_icmp .ne 11, 3), (19, .aload_n 0, 1), (20, .iload_n 2, 1), (21, .invokevirtual 380, 3), (24, .goto 58, 3), (27, .aload_n 0, 1), (28, .iload_n 1, 1)] = true := by decide +kernel
theorem dX1_putValue_0 : decode cX1_putValue 0 = .ok (.iload_n 1, 1) := zdec_at bX1_putValue_0 0 rfl
theorem dX1_putValue_1 : decode cX1_putValue 1 = .ok (.iconst 5, 1) := zdec_at bX1_putValue_0 1 rfl
theorem dX1_putValue_2 : decode cX1_putValue 2 = .ok (.if_icmp .ne 11, 3) := zdec_at bX1_putValue_0 2 rfl
theorem dX1_putValue_5 : decode cX1_putValue 5 = .ok (.aload_n 0, 1) := zdec_at bX1_putValue_0 3 rfl
theorem dX1_putValue_6 : decode cX1_putValue 6 = .ok (.iload_n 2, 1) := zdec_at bX1_putValue_0 4 rfl
theorem dX1_putValue_7 : decode cX1_putValue 7 = .ok (.invokevirtual 377, 3) := zdec_at bX1_putValue_0 5 rfl
theorem dX1_putValue_10 : decode cX1_putValue 10 = .ok (.goto 72, 3) := zdec_at bX1_putValue_0 6 rfl
theorem dX1_putValue_13 : decode cX1_putValue 13 = .ok (.iload_n 1, 1) := zdec_at bX1_putValue_0 7 rfl
theorem dX1_putValue_14 : decode cX1_putValue 14 = .ok (.bipush 6, 2) := zdec_at bX1_putValue_0 8 rfl
theorem dX1_putValue_16 : decode cX1_putValue 16 = .ok (.if_icmp .ne 11, 3) := zdec_at bX1_putValue_0 9 rfl
theorem dX1_putValue_19 : decode cX1_putValue 19 = .ok (.aload_n 0, 1) := zdec_at bX1_putValue_0 10 rfl
theorem dX1_putValue_20 : decode cX1_putValue 20 = .ok (.iload_n 2, 1) := zdec_at bX1_putValue_0 11 rfl
theorem dX1_putValue_21 : decode cX1_putValue 21 = .ok (.invokevirtual 380, 3) := zdec_at bX1_putValue_0 12 rfl
theorem dX1_putValue_24 : decode cX1_putValue 24 = .ok (.goto 58, 3) := zdec_at bX1_putValue_0 13 rfl
theorem dX1_putValue_27 : decode cX1_putValue 27 = .ok (.aload_n 0, 1) := zdec_at bX1_putValue_0 14 rfl
theorem dX1_putValue_28 : decode cX1_putValue 28 = .ok (.iload_n 1, 1) := zdec_at bX1_putValue_0 15 rfl
theorem bX1_putValue_29 : zdec cX1_putValue 29 [(29, .ifCond .ne 8, 3), (32, .bipush 19, 2), (34, .goto 45, 3), (37, .iload_n 1, 1), (38, .iconst 1, 1), (39, .if_icmp .ne 8, 3), (42, .bipush 25, 2), (44, .goto 35, 3), (47, .iload_n 1, 1), (48, .iconst 2, 1), (49, .if_icmp .ne 8, 3), (52, .bipush 26, 2), (54, .goto 25, 3), (57, .iload_n 1, 1), (58, .iconst 3, 1), (59, .if_icmp .ne 8, 3)] = true := by decide +kernel
theorem dX1_putValue_29 : decode cX1_putValue 29 = .ok (.ifCond .ne 8, 3) := zdec_at bX1_putValue_29 0 rfl
theorem dX1_putValue_32 : decode cX1_putValue 32 = .ok (.bipush 19, 2) := zdec_at bX1_putValue_29 1 rfl
theorem dX1_putValue_34 : decode cX1_putValue 34 = .ok (.goto 45, 3) := zdec_at bX1_putValue_29 2 rfl
theorem dX1_putValue_37 : decode cX1_putValue 37 = .ok (.iload_n 1, 1) := zdec_at bX1_putValue_29 3 rfl
theorem dX1_putValue_38 : decode cX1_putValue 38 = .ok (.iconst 1, 1) := zdec_at bX1_putValue_29 4 rfl
theorem dX1_putValue_39 : decode cX1_putValue 39 = .ok (.if_icmp .ne 8, 3) := zdec_at bX1_putValue_29 5 rfl
theorem dX1_putValue_42 : decode cX1_putValue 42 = .ok (.bipush 25, 2) := zdec_at bX1_putValue_29 6 rfl
theorem dX1_putValue_44 : decode cX1_putValue 44 = .ok (.goto 35, 3) := zdec_at bX1_putValue_29 7 rfl
theorem dX1_putValue_47 : decode cX1_putValue 47 = .ok (.iload_n 1, 1) := zdec_at bX1_putValue_29 8 rfl
theorem dX1_putValue_48 : decode cX1_putValue 48 = .ok (.iconst 2, 1) := zdec_at bX1_putValue_29 9 rfl
theorem dX1_putValue_49 : decode cX1_putValue 49 = .ok (.if_icmp .ne 8, 3) := zdec_at bX1_putValue_29 10 rfl
theorem dX1_putValue_52 : decode cX1_putValue 52 = .ok (.bipush 26, 2) := zdec_at bX1_putValue_29 11 rfl
theorem dX1_putValue_54 : decode cX1_putValue 54 = .ok (.goto 25, 3) := zdec_at bX1_putValue_29 12 rfl
theorem dX1_putValue_57 : decode cX1_putValue 57 = .ok (.iload_n 1, 1) := zdec_at bX1_putValue_29 13 rfl
theorem dX1_putValue_58 : decode cX1_putValue 58 = .ok (.iconst 3, 1) := zdec_at bX1_putValue_29 14 rfl
theorem dX1_putValue_59 : decode cX1_putValue 59 = .ok (.if_icmp .ne 8, 3) := zdec_at bX1_putValue_29 15 rfl
theorem bX1_putValue_62 : zdec cX1_putValue 62 [(62, .bipush 27, 2), (64, .goto 15, 3), (67, .iload_n 1, 1), (68, .iconst 4, 1), (69, .if_icmp .ne 8, 3), (72, .bipush 28, 2), (74, .goto 5, 3), (77, .bipush 29, 2), (79, .invokevirtual 380, 3), (82, .return_, 1)] = true := by decide +kernel
theorem dX1_putValue_62 : decode cX1_putValue 62 = .ok (.bipush 27, 2) := zdec_at bX1_putValue_62 0 rfl
theorem dX1_putValue_64 : decode cX1_putValue 64 = .ok (.goto 15, 3) := zdec_at bX1_putValue_62 1 rfl
theorem dX1_putValue_67 : decode cX1_putValue 67 = .ok (.iload_n 1, 1) := zdec_at bX1_putValue_62 2 rfl
theorem dX1_putValue_68 : decode cX1_putValue 68 = .ok (.iconst 4, 1) := zdec_at bX1_putValue_62 3 rfl
theorem dX1_putValue_69 : decode cX1_putValue 69 = .ok (.if_icmp .ne 8, 3) := zdec_at bX1_putValue_62 4 rfl
theorem dX1_putValue_72 : decode cX1_putValue 72 = .ok (.bipush 28, 2) := zdec_at bX1_putValue_62 5 rfl
theorem dX1_putValue_74 : decode cX1_putValue 74 = .ok (.goto 5, 3) := zdec_at bX1_putValue_62 6 rfl
theorem dX1_putValue_77 : decode cX1_putValue 77 = .ok (.bipush 29, 2) := zdec_at bX1_putValue_62 7 rfl
theorem dX1_putValue_79 : decode cX1_putValue 79 = .ok (.invokevirtual 380, 3) := zdec_at bX1_putValue_62 8 rfl
theorem dX1_putValue_82 : decode cX1_putValue 82 = .ok (.return_, 1) := zdec_at bX1_putValue_62 9 rfl
theorem sX1_putValue_0 {E : zE} {d : Nat} {Q : zO → zM → Prop} (M : zM) (l1 : Int32) (l2 : Int32) (hw : cw M) (k : if l1 = (5 : Int32) then (Z E YX1_putDigits d M (zargs 0 [vr (some (16, 0, 0)), vi l2]) 0 [] (zafter E YX1_putValue (d + 1) [] 7 3 [] Q)) else (if l1 = (6 : Int32) then (Z E YX1_putText d M (zargs 0 [vr (some (16, 0, 0)), vi l2]) 0 [] (zafter E YX1_putValue (d + 1) [] 21 3 [] Q)) else (if l1 = 0 then (Z E YX1_putText d M (zargs 0 [vr (some (16, 0, 0)), vi (19 : Int32)]) 0 [] (zafter E YX1_putValue (d + 1) [] 79 3 [] Q)) else (if l1 = (1 : Int32) then (Z E YX1_putText d M (zargs 0 [vr (some (16, 0, 0)), vi (25 : Int32)]) 0 [] (zafter E YX1_putValue (d + 1) [] 79 3 [] Q)) else (if l1 = (2 : Int32) then (Z E YX1_putText d M (zargs 0 [vr (some (16, 0, 0)), vi (26 : Int32)]) 0 [] (zafter E YX1_putValue (d + 1) [] 79 3 [] Q)) else (if l1 = (3 : Int32) then (Z E YX1_putText d M (zargs 0 [vr (some (16, 0, 0)), vi (27 : Int32)]) 0 [] (zafter E YX1_putValue (d + 1) [] 79 3 [] Q)) else (if l1 = (4 : Int32) then (Z E YX1_putText d M (zargs 0 [vr (some (16, 0, 0)), vi (28 : Int32)]) 0 [] (zafter E YX1_putValue (d + 1) [] 79 3 [] Q)) else (Z E YX1_putText d M (zargs 0 [vr (some (16, 0, 0)), vi (29 : Int32)]) 0 [] (zafter E YX1_putValue (d + 1) [] 79 3 [] Q))))))))) : Z E YX1_putValue (d + 1) M [(0, vr (some (16, 0, 0))), (1, vi l1), (2, vi l2)] 0 [] Q := by
  refine z_iload_n dX1_putValue_0 rfl rfl ?_
  refine z_iconst (v := 5) dX1_putValue_1 rfl ?_
  refine z_icmp_ne (tgt := 13) dX1_putValue_2 rfl (fun h_ => ?_) (fun h_ => ?_)
  · have k := zif h_ k
    refine z_iload_n dX1_putValue_13 rfl rfl ?_
    refine z_bipush (v := 6) dX1_putValue_14 rfl ?_
    refine z_icmp_ne (tgt := 27) dX1_putValue_16 rfl (fun h_ => ?_) (fun h_ => ?_)
    · have k := zif h_ k
      refine z_aload_n dX1_putValue_27 rfl rfl ?_
      refine z_iload_n dX1_putValue_28 rfl rfl ?_
      refine z_if_ne (tgt := 37) dX1_putValue_29 rfl (fun h_ => ?_) (fun h_ => ?_)
      · have k := zif h_ k
        refine z_iload_n dX1_putValue_37 rfl rfl ?_
        refine z_iconst (v := 1) dX1_putValue_38 rfl ?_
        refine z_icmp_ne (tgt := 47) dX1_putValue_39 rfl (fun h_ => ?_) (fun h_ => ?_)
        · have k := zif h_ k
          refine z_iload_n dX1_putValue_47 rfl rfl ?_
          refine z_iconst (v := 2) dX1_putValue_48 rfl ?_
          refine z_icmp_ne (tgt := 57) dX1_putValue_49 rfl (fun h_ => ?_) (fun h_ => ?_)
          · have k := zif h_ k
            refine z_iload_n dX1_putValue_57 rfl rfl ?_
            refine z_iconst (v := 3) dX1_putValue_58 rfl ?_
            refine z_icmp_ne (tgt := 67) dX1_putValue_59 rfl (fun h_ => ?_) (fun h_ => ?_)
            · have k := zif h_ k
              refine z_iload_n dX1_putValue_67 rfl rfl ?_
              refine z_iconst (v := 4) dX1_putValue_68 rfl ?_
              refine z_icmp_ne (tgt := 77) dX1_putValue_69 rfl (fun h_ => ?_) (fun h_ => ?_)
              · have k := zif h_ k
                refine z_bipush (v := 29) dX1_putValue_77 rfl ?_
                refine Z.pick [] rfl ?_
                exact z_callV (as := [vi (29 : Int32)]) (st := []) dX1_putValue_79 vsX1_380_0 (Nat.le_refl _) (Nat.le_of_ble_eq_true rfl) (Nat.le_of_ble_eq_true rfl) rfl k
              · have k := zit h_ k
                refine z_bipush (v := 28) dX1_putValue_72 rfl ?_
                refine z_goto (tgt := 79) dX1_putValue_74 rfl ?_
                refine Z.pick [] rfl ?_
                exact z_callV (as := [vi (28 : Int32)]) (st := []) dX1_putValue_79 vsX1_380_0 (Nat.le_refl _) (Nat.le_of_ble_eq_true rfl) (Nat.le_of_ble_eq_true rfl) rfl k
            · have k := zit h_ k
              refine z_bipush (v := 27) dX1_putValue_62 rfl ?_
              refine z_goto (tgt := 79) dX1_putValue_64 rfl ?_
              refine Z.pick [] rfl ?_
              exact z_callV (as := [vi (27 : Int32)]) (st := []) dX1_putValue_79 vsX1_380_0 (Nat.le_refl _) (Nat.le_of_ble_eq_true rfl) (Nat.le_of_ble_eq_true rfl) rfl k
          · have k := zit h_ k
            refine z_bipush (v := 26) dX1_putValue_52 rfl ?_
            refine z_goto (tgt := 79) dX1_putValue_54 rfl ?_
            refine Z.pick [] rfl ?_
            exact z_callV (as := [vi (26 : Int32)]) (st := []) dX1_putValue_79 vsX1_380_0 (Nat.le_refl _) (Nat.le_of_ble_eq_true rfl) (Nat.le_of_ble_eq_true rfl) rfl k
        · have k := zit h_ k
          refine z_bipush (v := 25) dX1_putValue_42 rfl ?_
          refine z_goto (tgt := 79) dX1_putValue_44 rfl ?_
          refine Z.pick [] rfl ?_
          exact z_callV (as := [vi (25 : Int32)]) (st := []) dX1_putValue_79 vsX1_380_0 (Nat.le_refl _) (Nat.le_of_ble_eq_true rfl) (Nat.le_of_ble_eq_true rfl) rfl k
      · have k := zit h_ k
        refine z_bipush (v := 19) dX1_putValue_32 rfl ?_
        refine z_goto (tgt := 79) dX1_putValue_34 rfl ?_
        refine Z.pick [] rfl ?_
        exact z_callV (as := [vi (19 : Int32)]) (st := []) dX1_putValue_79 vsX1_380_0 (Nat.le_refl _) (Nat.le_of_ble_eq_true rfl) (Nat.le_of_ble_eq_true rfl) rfl k
    · have k := zit h_ k
      refine z_aload_n dX1_putValue_19 rfl rfl ?_
      refine z_iload_n dX1_putValue_20 rfl rfl ?_
      refine Z.pick [] rfl ?_
      exact z_callV (as := [vi l2]) (st := []) dX1_putValue_21 vsX1_380_0 (Nat.le_refl _) (Nat.le_of_ble_eq_true rfl) (Nat.le_of_ble_eq_true rfl) rfl k
  · have k := zit h_ k
    refine z_aload_n dX1_putValue_5 rfl rfl ?_
    refine z_iload_n dX1_putValue_6 rfl rfl ?_
    refine Z.pick [] rfl ?_
    exact z_callV (as := [vi l2]) (st := []) dX1_putValue_7 vsX1_377_0 (Nat.le_refl _) (Nat.le_of_ble_eq_true rfl) (Nat.le_of_ble_eq_true rfl) rfl k
theorem sX1_putValue_10 {E : zE} {d : Nat} {Q : zO → zM → Prop} (M : zM)  (hw : cw M) (k : Z E YX1_putValue (d + 1) M [] 82 [] Q) : Z E YX1_putValue (d + 1) M [] 10 [] Q := by
  refine z_goto (tgt := 82) dX1_putValue_10 rfl ?_
  exact k
theorem sX1_putValue_24 {E : zE} {d : Nat} {Q : zO → zM → Prop} (M : zM)  (hw : cw M) (k : Z E YX1_putValue (d + 1) M [] 82 [] Q) : Z E YX1_putValue (d + 1) M [] 24 [] Q := by
  refine z_goto (tgt := 82) dX1_putValue_24 rfl ?_
  exact k
theorem sX1_putValue_82 {E : zE} {d : Nat} {Q : zO → zM → Prop} (M : zM)  (hw : cw M) (k : Q (.inl none) M) : Z E YX1_putValue (d + 1) M [] 82 [] Q := by
  exact z_vret dX1_putValue_82 rfl k
/-! ScriptTypes.string()I -/
theorem bX1_string_0 : zdec cX1_string 0 [(0, .aload_n 0, 1), (1, .getfield 1, 3), (4, .bipush 60, 2), (6, .invokestatic 369, 3), (9, .istore_n 1, 1), (10, .aload_n 0, 1), (11, .getfield 19, 3), (14, .aload_n 0, 1), (15, .getfield 7, 3), (18, .iload_n 1, 1), (19, .invokevirtual 374, 3), (22, .istore_n 2, 1), (23, .iload_n 2, 1), (24, .iconst (-1), 1), (25, .if_icmp .eq 5, 3), (28, .iload_n 2, 1)] = true := by decide +kernel
theorem dX1_string_0 : decode cX1_string 0 = .ok (.aload_n 0, 1) := zdec_at bX1_string_0 0 rfl
theorem dX1_string_1 : decode cX1_string 1 = .ok (.getfield 1, 3) := zdec_at bX1_string_0 1 rfl
theorem dX1_string_4 : decode cX1_string 4 = .ok (.bipush 60, 2) := zdec_at bX1_string_0 2 rfl
theorem dX1_string_6 : decode cX1_string 6 = .ok (.invokestatic 369, 3) := zdec_at bX1_string_0 3 rfl
theorem dX1_string_9 : decode cX1_string 9 = .ok (.istore_n 1, 1) := zdec_at bX1_string_0 4 rfl
theorem dX1_string_10 : decode cX1_string 10 = .ok (.aload_n 0, 1) := zdec_at bX1_string_0 5 rfl
theorem dX1_string_11 : decode cX1_string 11 = .ok (.getfield 19, 3) := zdec_at bX1_string_0 6 rfl
theorem dX1_string_14 : decode cX1_string 14 = .ok (.aload_n 0, 1) := zdec_at bX1_string_0 7 rfl
theorem dX1_string_15 : decode cX1_string 15 = .ok (.getfield 7, 3) := zdec_at bX1_string_0 8 rfl
theorem dX1_string_18 : decode cX1_string 18 = .ok (.iload_n 1, 1) := zdec_at bX1_string_0 9 rfl
theorem dX1_string_19 : decode cX1_string 19 = .ok (.invokevirtual 374, 3) := zdec_at bX1_string_0 10 rfl
theorem dX1_string_22 : decode cX1_string 22 = .ok (.istore_n 2, 1) := zdec_at bX1_string_0 11 rfl
theorem dX1_string_23 : decode cX1_string 23 = .ok (.iload_n 2, 1) := zdec_at bX1_string_0 12 rfl
theorem dX1_string_24 : decode cX1_string 24 = .ok (.iconst (-1), 1) := zdec_at bX1_string_0 13 rfl
theorem dX1_string_25 : decode cX1_string 25 = .ok (.if_icmp .eq 5, 3) := zdec_at bX1_string_0 14 rfl
theorem dX1_string_28 : decode cX1_string 28 = .ok (.iload_n 2, 1) := zdec_at bX1_string_0 15 rfl
theorem bX1_string_29 : zdec cX1_string 29 [(29, .ireturn, 1), (30, .aload_n 0, 1), (31, .getfield 19, 3), (34, .getfield 41, 3), (37, .sipush 400, 3), (40, .if_icmp .ne 8, 3), (43, .aload_n 0, 1), (44, .getfield 137, 3), (47, .athrow, 1), (48, .aload_n 0, 1), (49, .getfield 19, 3), (52, .aload_n 0, 1), (53, .getfield 7, 3), (56, .iload_n 1, 1), (57, .invokevirtual 33, 3), (60, .ireturn, 1)] = true := by decide +kernel
theorem dX1_string_29 : decode cX1_string 29 = .ok (.ireturn, 1) := zdec_at bX1_string_29 0 rfl
theorem dX1_string_30 : decode cX1_string 30 = .ok (.aload_n 0, 1) := zdec_at bX1_string_29 1 rfl
theorem dX1_string_31 : decode cX1_string 31 = .ok (.getfield 19, 3) := zdec_at bX1_string_29 2 rfl
theorem dX1_string_34 : decode cX1_string 34 = .ok (.getfield 41, 3) := zdec_at bX1_string_29 3 rfl
theorem dX1_string_37 : decode cX1_string 37 = .ok (.sipush 400, 3) := zdec_at bX1_string_29 4 rfl
theorem dX1_string_40 : decode cX1_string 40 = .ok (.if_icmp .ne 8, 3) := zdec_at bX1_string_29 5 rfl
theorem dX1_string_43 : decode cX1_string 43 = .ok (.aload_n 0, 1) := zdec_at bX1_string_29 6 rfl
theorem dX1_string_44 : decode cX1_string 44 = .ok (.getfield 137, 3) := zdec_at bX1_string_29 7 rfl
theorem dX1_string_47 : decode cX1_string 47 = .ok (.athrow, 1) := zdec_at bX1_string_29 8 rfl
theorem dX1_string_48 : decode cX1_string 48 = .ok (.aload_n 0, 1) := zdec_at bX1_string_29 9 rfl
theorem dX1_string_49 : decode cX1_string 49 = .ok (.getfield 19, 3) := zdec_at bX1_string_29 10 rfl
theorem dX1_string_52 : decode cX1_string 52 = .ok (.aload_n 0, 1) := zdec_at bX1_string_29 11 rfl
theorem dX1_string_53 : decode cX1_string 53 = .ok (.getfield 7, 3) := zdec_at bX1_string_29 12 rfl
theorem dX1_string_56 : decode cX1_string 56 = .ok (.iload_n 1, 1) := zdec_at bX1_string_29 13 rfl
theorem dX1_string_57 : decode cX1_string 57 = .ok (.invokevirtual 33, 3) := zdec_at bX1_string_29 14 rfl
theorem dX1_string_60 : decode cX1_string 60 = .ok (.ireturn, 1) := zdec_at bX1_string_29 15 rfl
theorem sX1_string_0 {E : zE} {d : Nat} {Q : zO → zM → Prop} (M : zM)  (hw : cw M) (k : Z E YJ11_min d M (zargs 0 [vi (gi M 16 3), vi (60 : Int32)]) 0 [] (zafter E YX1_string (d + 1) [(0, vr (some (16, 0, 0)))] 6 3 [] Q)) : Z E YX1_string (d + 1) M [(0, vr (some (16, 0, 0)))] 0 [] Q := by
  refine z_aload_n dX1_string_0 rfl rfl ?_
  refine z_geti dX1_string_1 fsX1_1_0 ?_
  refine z_bipush (v := 60) dX1_string_4 rfl ?_
  exact z_callS (as := [vi (gi M 16 3), vi (60 : Int32)]) (st := []) dX1_string_6 ssX1_369 (Nat.le_refl _) (Nat.le_of_ble_eq_true rfl) (Nat.le_of_ble_eq_true rfl) rfl k
theorem sX1_string_9 {E : zE} {d : Nat} {Q : zO → zM → Prop} (M : zM) (s0 : Int32) (hw : cw M) (k : Z E YX2_find d M (zargs 0 [vr (some (17, 2, 0)), vr (some (20, 101, 256)), vi s0]) 0 [] (zafter E YX1_string (d + 1) [(0, vr (some (16, 0, 0))), (1, vi s0)] 19 3 [] Q)) : Z E YX1_string (d + 1) M [(0, vr (some (16, 0, 0)))] 9 [vi s0] Q := by
  refine z_ist_n dX1_string_9 rfl (by decide) (lv' := [(0, vr (some (16, 0, 0))), (1, vi s0)]) rfl ?_
  refine z_aload_n dX1_string_10 rfl rfl ?_
  refine z_getr dX1_string_11 fsX1_19_0 (show gr M 16 0 = some (17, 2, 0) from cw_at hw 0 rfl) ?_
  refine z_aload_n dX1_string_14 rfl rfl ?_
  refine z_getr dX1_string_15 fsX1_7_0 (show gr M 16 2 = some (20, 101, 256) from cw_at hw 1 rfl) ?_
  refine z_iload_n dX1_string_18 rfl rfl ?_
  exact z_callV (as := [vr (some (20, 101, 256)), vi s0]) (st := []) dX1_string_19 vsX1_374_2 (Nat.le_refl _) (Nat.le_of_ble_eq_true rfl) (Nat.le_of_ble_eq_true rfl) rfl k
theorem sX1_string_22 {E : zE} {d : Nat} {Q : zO → zM → Prop} (M : zM) (l1 : Int32) (s0 : Int32) (hw : cw M) (k : if s0 = (-1 : Int32) then (if (gi M 17 2) = (400 : Int32) then (Q (.inr (51, 13, 0)) M) else (Z E YX2_add d M (zargs 0 [vr (some (17, 2, 0)), vr (some (20, 101, 256)), vi l1]) 0 [] (zafter E YX1_string (d + 1) [] 57 3 [] Q))) else (Q (.inl (some (vi s0))) M)) : Z E YX1_string (d + 1) M [(0, vr (some (16, 0, 0))), (1, vi l1)] 22 [vi s0] Q := by
  refine z_ist_n dX1_string_22 rfl (by decide) (lv' := [(0, vr (some (16, 0, 0))), (1, vi l1), (2, vi s0)]) rfl ?_
  refine z_iload_n dX1_string_23 rfl rfl ?_
  refine z_iconst (v := -1) dX1_string_24 rfl ?_
  refine z_icmp_eq (tgt := 30) dX1_string_25 rfl (fun h_ => ?_) (fun h_ => ?_)
  · have k := zit h_ k
    refine z_aload_n dX1_string_30 rfl rfl ?_
    refine z_getr dX1_string_31 fsX1_19_0 (show gr M 16 0 = some (17, 2, 0) from cw_at hw 0 rfl) ?_
    refine z_geti dX1_string_34 fsX1_41_2 ?_
    refine z_sipush (v := 400) dX1_string_37 rfl ?_
    refine z_icmp_ne (tgt := 48) dX1_string_40 rfl (fun h_ => ?_) (fun h_ => ?_)
    · have k := zif h_ k
      refine z_aload_n dX1_string_48 rfl rfl ?_
      refine z_getr dX1_string_49 fsX1_19_0 (show gr M 16 0 = some (17, 2, 0) from cw_at hw 0 rfl) ?_
      refine z_aload_n dX1_string_52 rfl rfl ?_
      refine z_getr dX1_string_53 fsX1_7_0 (show gr M 16 2 = some (20, 101, 256) from cw_at hw 1 rfl) ?_
      refine z_iload_n dX1_string_56 rfl rfl ?_
      refine Z.pick [] rfl ?_
      exact z_callV (as := [vr (some (20, 101, 256)), vi l1]) (st := []) dX1_string_57 vsX1_33_2 (Nat.le_refl _) (Nat.le_of_ble_eq_true rfl) (Nat.le_of_ble_eq_true rfl) rfl k
    · have k := zit h_ k
      refine z_aload_n dX1_string_43 rfl rfl ?_
      refine z_getr dX1_string_44 fsX1_137_0 (show gr M 16 30 = some (51, 13, 0) from cw_at hw 19 rfl) ?_
      exact z_athrow dX1_string_47 (ZT.out (by decide) k)
  · have k := zif h_ k
    refine z_iload_n dX1_string_28 rfl rfl ?_
    exact z_iret dX1_string_29 rfl rfl k
theorem sX1_string_60 {E : zE} {d : Nat} {Q : zO → zM → Prop} (M : zM) (s0 : Int32) (hw : cw M) (k : Q (.inl (some (vi s0))) M) : Z E YX1_string (d + 1) M [] 60 [vi s0] Q := by
  exact z_iret dX1_string_60 rfl rfl k
/-! ScriptTypes.find(II)I -/
theorem bX1_find_0 : zdec cX1_find 0 [(0, .iload_n 1, 1), (1, .istore_n 3, 1), (2, .iconst (-1), 1), (3, .istore 4, 2), (5, .iload_n 3, 1), (6, .iconst (-1), 1), (7, .if_icmp .eq 27, 3), (10, .iload 4, 2), (12, .iconst (-1), 1), (13, .if_icmp .ne 21, 3), (16, .aload_n 0, 1), (17, .iload_n 3, 1), (18, .iload_n 2, 1), (19, .invokevirtual 346, 3), (22, .istore 4, 2), (24, .aload_n 0, 1)] = true := by decide +kernel
theorem dX1_find_0 : decode cX1_find 0 = .ok (.iload_n 1, 1) := zdec_at bX1_find_0 0 rfl
theorem dX1_find_1 : decode cX1_find 1 = .ok (.istore_n 3, 1) := zdec_at bX1_find_0 1 rfl
theorem dX1_find_2 : decode cX1_find 2 = .ok (.iconst (-1), 1) := zdec_at bX1_find_0 2 rfl
theorem dX1_find_3 : decode cX1_find 3 = .ok (.istore 4, 2) := zdec_at bX1_find_0 3 rfl
theorem dX1_find_5 : decode cX1_find 5 = .ok (.iload_n 3, 1) := zdec_at bX1_find_0 4 rfl
theorem dX1_find_6 : decode cX1_find 6 = .ok (.iconst (-1), 1) := zdec_at bX1_find_0 5 rfl
theorem dX1_find_7 : decode cX1_find 7 = .ok (.if_icmp .eq 27, 3) := zdec_at bX1_find_0 6 rfl
theorem dX1_find_10 : decode cX1_find 10 = .ok (.iload 4, 2) := zdec_at bX1_find_0 7 rfl
theorem dX1_find_12 : decode cX1_find 12 = .ok (.iconst (-1), 1) := zdec_at bX1_find_0 8 rfl
theorem dX1_find_13 : decode cX1_find 13 = .ok (.if_icmp .ne 21, 3) := zdec_at bX1_find_0 9 rfl
theorem dX1_find_16 : decode cX1_find 16 = .ok (.aload_n 0, 1) := zdec_at bX1_find_0 10 rfl
theorem dX1_find_17 : decode cX1_find 17 = .ok (.iload_n 3, 1) := zdec_at bX1_find_0 11 rfl
theorem dX1_find_18 : decode cX1_find 18 = .ok (.iload_n 2, 1) := zdec_at bX1_find_0 12 rfl
theorem dX1_find_19 : decode cX1_find 19 = .ok (.invokevirtual 346, 3) := zdec_at bX1_find_0 13 rfl
theorem dX1_find_22 : decode cX1_find 22 = .ok (.istore 4, 2) := zdec_at bX1_find_0 14 rfl
theorem dX1_find_24 : decode cX1_find 24 = .ok (.aload_n 0, 1) := zdec_at bX1_find_0 15 rfl
theorem bX1_find_25 : zdec cX1_find 25 [(25, .getfield 103, 3), (28, .iload_n 3, 1), (29, .saload, 1), (30, .istore_n 3, 1), (31, .goto (-26), 3), (34, .iload 4, 2), (36, .ireturn, 1)] = true := by decide +kernel
theorem dX1_find_25 : decode cX1_find 25 = .ok (.getfield 103, 3) := zdec_at bX1_find_25 0 rfl
theorem dX1_find_28 : decode cX1_find 28 = .ok (.iload_n 3, 1) := zdec_at bX1_find_25 1 rfl
theorem dX1_find_29 : decode cX1_find 29 = .ok (.saload, 1) := zdec_at bX1_find_25 2 rfl
theorem dX1_find_30 : decode cX1_find 30 = .ok (.istore_n 3, 1) := zdec_at bX1_find_25 3 rfl
theorem dX1_find_31 : decode cX1_find 31 = .ok (.goto (-26), 3) := zdec_at bX1_find_25 4 rfl
theorem dX1_find_34 : decode cX1_find 34 = .ok (.iload 4, 2) := zdec_at bX1_find_25 5 rfl
theorem dX1_find_36 : decode cX1_find 36 = .ok (.ireturn, 1) := zdec_at bX1_find_25 6 rfl
theorem sX1_find_0 {E : zE} {d : Nat} {Q : zO → zM → Prop} (M : zM) (l1 : Int32) (l2 : Int32) (hw : cw M) (k : Z E YX1_find (d + 1) M [(0, vr (some (16, 0, 0))), (2, vi l2), (3, vi l1), (4, vi (-1 : Int32))] 5 [] Q) : Z E YX1_find (d + 1) M [(0, vr (some (16, 0, 0))), (1, vi l1), (2, vi l2)] 0 [] Q := by
  refine z_iload_n dX1_find_0 rfl rfl ?_
  refine z_ist_n dX1_find_1 rfl (by decide) (lv' := [(0, vr (some (16, 0, 0))), (1, vi l1), (2, vi l2), (3, vi l1)]) rfl ?_
  refine z_iconst (v := -1) dX1_find_2 rfl ?_
  refine z_ist dX1_find_3 (by decide) (lv' := [(0, vr (some (16, 0, 0))), (1, vi l1), (2, vi l2), (3, vi l1), (4, vi (-1 : Int32))]) rfl ?_
  refine Z.pick [0, 2, 3, 4] rfl ?_
  exact k
theorem sX1_find_5 {E : zE} {d : Nat} {Q : zO → zM → Prop} (M : zM) (l2 : Int32) (l3 : Int32) (l4 : Int32) (hw : cw M) (k : if l3 = (-1 : Int32) then (Q (.inl (some (vi l4))) M) else (if l4 = (-1 : Int32) then (Z E YX1_own d M (zargs 0 [vr (some (16, 0, 0)), vi l3, vi l2]) 0 [] (zafter E YX1_find (d + 1) [(0, vr (some (16, 0, 0))), (2, vi l2), (3, vi l3)] 19 3 [] Q)) else (Q (.inl (some (vi l4))) M))) : Z E YX1_find (d + 1) M [(0, vr (some (16, 0, 0))), (2, vi l2), (3, vi l3), (4, vi l4)] 5 [] Q := by
  refine z_iload_n dX1_find_5 rfl rfl ?_
  refine z_iconst (v := -1) dX1_find_6 rfl ?_
  refine z_icmp_eq (tgt := 34) dX1_find_7 rfl (fun h_ => ?_) (fun h_ => ?_)
  · have k := zit h_ k
    refine z_iload dX1_find_34 rfl ?_
    exact z_iret dX1_find_36 rfl rfl k
  · have k := zif h_ k
    refine z_iload dX1_find_10 rfl ?_
    refine z_iconst (v := -1) dX1_find_12 rfl ?_
    refine z_icmp_ne (tgt := 34) dX1_find_13 rfl (fun h_ => ?_) (fun h_ => ?_)
    · have k := zif h_ k
      refine z_iload dX1_find_34 rfl ?_
      exact z_iret dX1_find_36 rfl rfl k
    · have k := zit h_ k
      refine z_aload_n dX1_find_16 rfl rfl ?_
      refine z_iload_n dX1_find_17 rfl rfl ?_
      refine z_iload_n dX1_find_18 rfl rfl ?_
      refine Z.pick [0, 1, 2] rfl ?_
      exact z_callV (as := [vi l3, vi l2]) (st := []) dX1_find_19 vsX1_346_0 (Nat.le_refl _) (Nat.le_of_ble_eq_true rfl) (Nat.le_of_ble_eq_true rfl) rfl k
theorem sX1_find_22 {E : zE} {d : Nat} {Q : zO → zM → Prop} (M : zM) (l2 : Int32) (l3 : Int32) (s0 : Int32) (hw : cw M) (k : vp_in l3 300 ∧ (Z E YX1_find (d + 1) M [(0, vr (some (16, 0, 0))), (2, vi l2), (3, vi (gi M 41 (l3).toNatClampNeg)), (4, vi s0)] 5 [] Q)) : Z E YX1_find (d + 1) M [(0, vr (some (16, 0, 0))), (2, vi l2), (3, vi l3)] 22 [vi s0] Q := by
  refine z_ist dX1_find_22 (by decide) (lv' := [(0, vr (some (16, 0, 0))), (2, vi l2), (3, vi l3), (4, vi s0)]) rfl ?_
  refine z_aload_n dX1_find_24 rfl rfl ?_
  refine z_getr dX1_find_25 fsX1_103_0 (show gr M 16 16 = some (41, 102, 300) from cw_at hw 9 rfl) ?_
  refine z_iload_n dX1_find_28 rfl rfl ?_
  obtain ⟨b_, k⟩ := k
  refine z_sald dX1_find_29 b_ ?_
  refine z_ist_n dX1_find_30 rfl (by decide) (lv' := [(0, vr (some (16, 0, 0))), (2, vi l2), (3, vi (gi M 41 (l3).toNatClampNeg)), (4, vi s0)]) rfl ?_
  refine z_goto (tgt := 5) dX1_find_31 rfl ?_
  exact k
/-! ScriptTypes.givesProperty(I)V -/
theorem bX1_givesProperty_0 : zdec cX1_givesProperty 0 [(0, .iload_n 1, 1), (1, .iconst (-1), 1), (2, .if_icmp .ne 12, 3), (5, .aload_n 0, 1), (6, .iconst 0, 1), (7, .iconst 0, 1), (8, .invokevirtual 395, 3), (11, .goto 19, 3), (14, .aload_n 0, 1), (15, .aload_n 0, 1), (16, .getfield 124, 3), (19, .iload_n 1, 1), (20, .baload, 1), (21, .aload_n 0, 1), (22, .getfield 127, 3), (25, .iload_n 1, 1)] = true := by decide +kernel
theorem dX1_givesProperty_0 : decode cX1_givesProperty 0 = .ok (.iload_n 1, 1) := zdec_at bX1_givesProperty_0 0 rfl
theorem dX1_givesProperty_1 : decode cX1_givesProperty 1 = .ok (.iconst (-1), 1) := zdec_at bX1_givesProperty_0 1 rfl
theorem dX1_givesProperty_2 : decode cX1_givesProperty 2 = .ok (.if_icmp .ne 12, 3) := zdec_at bX1_givesProperty_0 2 rfl
theorem dX1_givesProperty_5 : decode cX1_givesProperty 5 = .ok (.aload_n 0, 1) := zdec_at bX1_givesProperty_0 3 rfl
theorem dX1_givesProperty_6 : decode cX1_givesProperty 6 = .ok (.iconst 0, 1) := zdec_at bX1_givesProperty_0 4 rfl
theorem dX1_givesProperty_7 : decode cX1_givesProperty 7 = .ok (.iconst 0, 1) := zdec_at bX1_givesProperty_0 5 rfl
theorem dX1_givesProperty_8 : decode cX1_givesProperty 8 = .ok (.invokevirtual 395, 3) := zdec_at bX1_givesProperty_0 6 rfl
theorem dX1_givesProperty_11 : decode cX1_givesProperty 11 = .ok (.goto 19, 3) := zdec_at bX1_givesProperty_0 7 rfl
theorem dX1_givesProperty_14 : decode cX1_givesProperty 14 = .ok (.aload_n 0, 1) := zdec_at bX1_givesProperty_0 8 rfl
theorem dX1_givesProperty_15 : decode cX1_givesProperty 15 = .ok (.aload_n 0, 1) := zdec_at bX1_givesProperty_0 9 rfl
theorem dX1_givesProperty_16 : decode cX1_givesProperty 16 = .ok (.getfield 124, 3) := zdec_at bX1_givesProperty_0 10 rfl
theorem dX1_givesProperty_19 : decode cX1_givesProperty 19 = .ok (.iload_n 1, 1) := zdec_at bX1_givesProperty_0 11 rfl
theorem dX1_givesProperty_20 : decode cX1_givesProperty 20 = .ok (.baload, 1) := zdec_at bX1_givesProperty_0 12 rfl
theorem dX1_givesProperty_21 : decode cX1_givesProperty 21 = .ok (.aload_n 0, 1) := zdec_at bX1_givesProperty_0 13 rfl
theorem dX1_givesProperty_22 : decode cX1_givesProperty 22 = .ok (.getfield 127, 3) := zdec_at bX1_givesProperty_0 14 rfl
theorem dX1_givesProperty_25 : decode cX1_givesProperty 25 = .ok (.iload_n 1, 1) := zdec_at bX1_givesProperty_0 15 rfl
theorem bX1_givesProperty_26 : zdec cX1_givesProperty 26 [(26, .iaload, 1), (27, .invokevirtual 395, 3), (30, .return_, 1)] = true := by decide +kernel
theorem dX1_givesProperty_26 : decode cX1_givesProperty 26 = .ok (.iaload, 1) := zdec_at bX1_givesProperty_26 0 rfl
theorem dX1_givesProperty_27 : decode cX1_givesProperty 27 = .ok (.invokevirtual 395, 3) := zdec_at bX1_givesProperty_26 1 rfl
theorem dX1_givesProperty_30 : decode cX1_givesProperty 30 = .ok (.return_, 1) := zdec_at bX1_givesProperty_26 2 rfl
theorem sX1_givesProperty_0 {E : zE} {d : Nat} {Q : zO → zM → Prop} (M : zM) (l1 : Int32) (hw : cw M) (k : if l1 = (-1 : Int32) then (Z E YX1_gives d M (zargs 0 [vr (some (16, 0, 0)), vi (0 : Int32), vi (0 : Int32)]) 0 [] (zafter E YX1_givesProperty (d + 1) [] 8 3 [] Q)) else (vp_in l1 3000 ∧ (vp_in l1 3000 ∧ (Z E YX1_gives d M (zargs 0 [vr (some (16, 0, 0)), vi (gi M 48 (l1).toNatClampNeg), vi (gi M 49 (l1).toNatClampNeg)]) 0 [] (zafter E YX1_givesProperty (d + 1) [] 27 3 [] Q))))) : Z E YX1_givesProperty (d + 1) M [(0, vr (some (16, 0, 0))), (1, vi l1)] 0 [] Q := by
  refine z_iload_n dX1_givesProperty_0 rfl rfl ?_
  refine z_iconst (v := -1) dX1_givesProperty_1 rfl ?_
  refine z_icmp_ne (tgt := 14) dX1_givesProperty_2 rfl (fun h_ => ?_) (fun h_ => ?_)
  · have k := zif h_ k
    refine z_aload_n dX1_givesProperty_14 rfl rfl ?_
    refine z_aload_n dX1_givesProperty_15 rfl rfl ?_
    refine z_getr dX1_givesProperty_16 fsX1_124_0 (show gr M 16 23 = some (48, 101, 3000) from cw_at hw 16 rfl) ?_
    refine z_iload_n dX1_givesProperty_19 rfl rfl ?_
    obtain ⟨b_, k⟩ := k
    refine z_bald dX1_givesProperty_20 b_ ?_
    refine z_aload_n dX1_givesProperty_21 rfl rfl ?_
    refine z_getr dX1_givesProperty_22 fsX1_127_0 (show gr M 16 24 = some (49, 100, 3000) from cw_at hw 17 rfl) ?_
    refine z_iload_n dX1_givesProperty_25 rfl rfl ?_
    obtain ⟨b_, k⟩ := k
    refine z_iald dX1_givesProperty_26 b_ ?_
    refine Z.pick [] rfl ?_
    exact z_callV (as := [vi (gi M 48 (l1).toNatClampNeg), vi (gi M 49 (l1).toNatClampNeg)]) (st := []) dX1_givesProperty_27 vsX1_395_0 (Nat.le_refl _) (Nat.le_of_ble_eq_true rfl) (Nat.le_of_ble_eq_true rfl) rfl k
  · have k := zit h_ k
    refine z_aload_n dX1_givesProperty_5 rfl rfl ?_
    refine z_iconst (v := 0) dX1_givesProperty_6 rfl ?_
    refine z_iconst (v := 0) dX1_givesProperty_7 rfl ?_
    refine Z.pick [] rfl ?_
    exact z_callV (as := [vi (0 : Int32), vi (0 : Int32)]) (st := []) dX1_givesProperty_8 vsX1_395_0 (Nat.le_refl _) (Nat.le_of_ble_eq_true rfl) (Nat.le_of_ble_eq_true rfl) rfl k
theorem sX1_givesProperty_11 {E : zE} {d : Nat} {Q : zO → zM → Prop} (M : zM)  (hw : cw M) (k : Z E YX1_givesProperty (d + 1) M [] 30 [] Q) : Z E YX1_givesProperty (d + 1) M [] 11 [] Q := by
  refine z_goto (tgt := 30) dX1_givesProperty_11 rfl ?_
  exact k
theorem sX1_givesProperty_30 {E : zE} {d : Nat} {Q : zO → zM → Prop} (M : zM)  (hw : cw M) (k : Q (.inl none) M) : Z E YX1_givesProperty (d + 1) M [] 30 [] Q := by
  exact z_vret dX1_givesProperty_30 rfl k
/-! ScriptTypes.gives(II)V -/
theorem bX1_gives_0 : zdec cX1_gives 0 [(0, .aload_n 0, 1), (1, .iload_n 1, 1), (2, .putfield 389, 3), (5, .aload_n 0, 1), (6, .iload_n 2, 1), (7, .putfield 392, 3), (10, .return_, 1)] = true := by decide +kernel
theorem dX1_gives_0 : decode cX1_gives 0 = .ok (.aload_n 0, 1) := zdec_at bX1_gives_0 0 rfl
theorem dX1_gives_1 : decode cX1_gives 1 = .ok (.iload_n 1, 1) := zdec_at bX1_gives_0 1 rfl
theorem dX1_gives_2 : decode cX1_gives 2 = .ok (.putfield 389, 3) := zdec_at bX1_gives_0 2 rfl
theorem dX1_gives_5 : decode cX1_gives 5 = .ok (.aload_n 0, 1) := zdec_at bX1_gives_0 3 rfl
theorem dX1_gives_6 : decode cX1_gives 6 = .ok (.iload_n 2, 1) := zdec_at bX1_gives_0 4 rfl
theorem dX1_gives_7 : decode cX1_gives 7 = .ok (.putfield 392, 3) := zdec_at bX1_gives_0 5 rfl
theorem dX1_gives_10 : decode cX1_gives 10 = .ok (.return_, 1) := zdec_at bX1_gives_0 6 rfl
theorem sX1_gives_0 {E : zE} {d : Nat} {Q : zO → zM → Prop} (M : zM) (l1 : Int32) (l2 : Int32) (hw : cw M) (k : Q (.inl none) (si (si M 16 33 l1) 16 32 l2)) : Z E YX1_gives d M [(0, vr (some (16, 0, 0))), (1, vi l1), (2, vi l2)] 0 [] Q := by
  refine z_aload_n dX1_gives_0 rfl rfl ?_
  refine z_iload_n dX1_gives_1 rfl rfl ?_
  refine z_puti (by decide) dX1_gives_2 (zfwN.w fwX1_389_0) rfl ⟨rfl, rfl⟩ ?_
  refine z_aload_n dX1_gives_5 rfl rfl ?_
  refine z_iload_n dX1_gives_6 rfl rfl ?_
  refine z_puti (by decide) dX1_gives_7 (zfwN.w fwX1_392_0) rfl ⟨rfl, rfl⟩ ?_
  exact z_vret dX1_gives_10 rfl k
/-! ScriptTypes.leaves(I)V -/
theorem bX1_leaves_0 : zdec cX1_leaves 0 [(0, .aload_n 0, 1), (1, .dup, 1), (2, .getfield 440, 3), (5, .iload_n 1, 1), (6, .isub, 1), (7, .putfield 440, 3), (10, .aload_n 0, 1), (11, .aload_n 0, 1), (12, .getfield 389, 3), (15, .aload_n 0, 1), (16, .getfield 392, 3), (19, .invokevirtual 476, 3), (22, .return_, 1)] = true := by decide +kernel
theorem dX1_leaves_0 : decode cX1_leaves 0 = .ok (.aload_n 0, 1) := zdec_at bX1_leaves_0 0 rfl
theorem dX1_leaves_1 : decode cX1_leaves 1 = .ok (.dup, 1) := zdec_at bX1_leaves_0 1 rfl
theorem dX1_leaves_2 : decode cX1_leaves 2 = .ok (.getfield 440, 3) := zdec_at bX1_leaves_0 2 rfl
theorem dX1_leaves_5 : decode cX1_leaves 5 = .ok (.iload_n 1, 1) := zdec_at bX1_leaves_0 3 rfl
theorem dX1_leaves_6 : decode cX1_leaves 6 = .ok (.isub, 1) := zdec_at bX1_leaves_0 4 rfl
theorem dX1_leaves_7 : decode cX1_leaves 7 = .ok (.putfield 440, 3) := zdec_at bX1_leaves_0 5 rfl
theorem dX1_leaves_10 : decode cX1_leaves 10 = .ok (.aload_n 0, 1) := zdec_at bX1_leaves_0 6 rfl
theorem dX1_leaves_11 : decode cX1_leaves 11 = .ok (.aload_n 0, 1) := zdec_at bX1_leaves_0 7 rfl
theorem dX1_leaves_12 : decode cX1_leaves 12 = .ok (.getfield 389, 3) := zdec_at bX1_leaves_0 8 rfl
theorem dX1_leaves_15 : decode cX1_leaves 15 = .ok (.aload_n 0, 1) := zdec_at bX1_leaves_0 9 rfl
theorem dX1_leaves_16 : decode cX1_leaves 16 = .ok (.getfield 392, 3) := zdec_at bX1_leaves_0 10 rfl
theorem dX1_leaves_19 : decode cX1_leaves 19 = .ok (.invokevirtual 476, 3) := zdec_at bX1_leaves_0 11 rfl
theorem dX1_leaves_22 : decode cX1_leaves 22 = .ok (.return_, 1) := zdec_at bX1_leaves_0 12 rfl
theorem sX1_leaves_0 {E : zE} {d : Nat} {Q : zO → zM → Prop} (M : zM) (l1 : Int32) (hw : cw M) (k : Z E YX1_push d (si M 16 38 ((gi M 16 38) - l1)) (zargs 0 [vr (some (16, 0, 0)), vi (gi M 16 33), vi (gi M 16 32)]) 0 [] (zafter E YX1_leaves (d + 1) [] 19 3 [] Q)) : Z E YX1_leaves (d + 1) M [(0, vr (some (16, 0, 0))), (1, vi l1)] 0 [] Q := by
  refine z_aload_n dX1_leaves_0 rfl rfl ?_
  refine z_dup dX1_leaves_1 rfl ?_
  refine z_geti dX1_leaves_2 fsX1_440_0 ?_
  refine z_iload_n dX1_leaves_5 rfl rfl ?_
  refine z_isub dX1_leaves_6 ?_
  refine z_puti (by decide) dX1_leaves_7 (zfwN.w fwX1_440_0) rfl ⟨rfl, rfl⟩ ?_
  refine z_aload_n dX1_leaves_10 rfl rfl ?_
  refine z_aload_n dX1_leaves_11 rfl rfl ?_
  refine z_geti dX1_leaves_12 fsX1_389_0 ?_
  refine z_aload_n dX1_leaves_15 rfl rfl ?_
  refine z_geti dX1_leaves_16 fsX1_392_0 ?_
  refine Z.pick [] rfl ?_
  exact z_callV (as := [vi (gi M 16 33), vi (gi M 16 32)]) (st := []) dX1_leaves_19 vsX1_476_0 (Nat.le_refl _) (Nat.le_of_ble_eq_true rfl) (Nat.le_of_ble_eq_true rfl) rfl k
theorem sX1_leaves_22 {E : zE} {d : Nat} {Q : zO → zM → Prop} (M : zM)  (hw : cw M) (k : Q (.inl none) M) : Z E YX1_leaves (d + 1) M [] 22 [] Q := by
  exact z_vret dX1_leaves_22 rfl k
/-! ScriptTypes.putIn()V -/
theorem bX1_putIn_0 : zdec cX1_putIn 0 [(0, .aload_n 0, 1), (1, .getfield 148, 3), (4, .aload_n 0, 1), (5, .getfield 440, 3), (8, .iconst 3, 1), (9, .isub, 1), (10, .baload, 1), (11, .istore_n 1, 1), (12, .aload_n 0, 1), (13, .getfield 151, 3), (16, .aload_n 0, 1), (17, .getfield 440, 3), (20, .iconst 3, 1), (21, .isub, 1), (22, .iaload, 1), (23, .istore_n 2, 1)] = true := by decide +kernel
theorem dX1_putIn_0 : decode cX1_putIn 0 = .ok (.aload_n 0, 1) := zdec_at bX1_putIn_0 0 rfl
theorem dX1_putIn_1 : decode cX1_putIn 1 = .ok (.getfield 148, 3) := zdec_at bX1_putIn_0 1 rfl
theorem dX1_putIn_4 : decode cX1_putIn 4 = .ok (.aload_n 0, 1) := zdec_at bX1_putIn_0 2 rfl
theorem dX1_putIn_5 : decode cX1_putIn 5 = .ok (.getfield 440, 3) := zdec_at bX1_putIn_0 3 rfl
theorem dX1_putIn_8 : decode cX1_putIn 8 = .ok (.iconst 3, 1) := zdec_at bX1_putIn_0 4 rfl
theorem dX1_putIn_9 : decode cX1_putIn 9 = .ok (.isub, 1) := zdec_at bX1_putIn_0 5 rfl
theorem dX1_putIn_10 : decode cX1_putIn 10 = .ok (.baload, 1) := zdec_at bX1_putIn_0 6 rfl
theorem dX1_putIn_11 : decode cX1_putIn 11 = .ok (.istore_n 1, 1) := zdec_at bX1_putIn_0 7 rfl
theorem dX1_putIn_12 : decode cX1_putIn 12 = .ok (.aload_n 0, 1) := zdec_at bX1_putIn_0 8 rfl
theorem dX1_putIn_13 : decode cX1_putIn 13 = .ok (.getfield 151, 3) := zdec_at bX1_putIn_0 9 rfl
theorem dX1_putIn_16 : decode cX1_putIn 16 = .ok (.aload_n 0, 1) := zdec_at bX1_putIn_0 10 rfl
theorem dX1_putIn_17 : decode cX1_putIn 17 = .ok (.getfield 440, 3) := zdec_at bX1_putIn_0 11 rfl
theorem dX1_putIn_20 : decode cX1_putIn 20 = .ok (.iconst 3, 1) := zdec_at bX1_putIn_0 12 rfl
theorem dX1_putIn_21 : decode cX1_putIn 21 = .ok (.isub, 1) := zdec_at bX1_putIn_0 13 rfl
theorem dX1_putIn_22 : decode cX1_putIn 22 = .ok (.iaload, 1) := zdec_at bX1_putIn_0 14 rfl
theorem dX1_putIn_23 : decode cX1_putIn 23 = .ok (.istore_n 2, 1) := zdec_at bX1_putIn_0 15 rfl
theorem bX1_putIn_24 : zdec cX1_putIn 24 [(24, .aload_n 0, 1), (25, .aload_n 0, 1), (26, .getfield 148, 3), (29, .aload_n 0, 1), (30, .getfield 440, 3), (33, .iconst 2, 1), (34, .isub, 1), (35, .baload, 1), (36, .aload_n 0, 1), (37, .getfield 151, 3), (40, .aload_n 0, 1), (41, .getfield 440, 3), (44, .iconst 2, 1), (45, .isub, 1), (46, .iaload, 1), (47, .invokevirtual 541, 3)] = true := by decide +kernel
theorem dX1_putIn_24 : decode cX1_putIn 24 = .ok (.aload_n 0, 1) := zdec_at bX1_putIn_24 0 rfl
theorem dX1_putIn_25 : decode cX1_putIn 25 = .ok (.aload_n 0, 1) := zdec_at bX1_putIn_24 1 rfl
theorem dX1_putIn_26 : decode cX1_putIn 26 = .ok (.getfield 148, 3) := zdec_at bX1_putIn_24 2 rfl
theorem dX1_putIn_29 : decode cX1_putIn 29 = .ok (.aload_n 0, 1) := zdec_at bX1_putIn_24 3 rfl
theorem dX1_putIn_30 : decode cX1_putIn 30 = .ok (.getfield 440, 3) := zdec_at bX1_putIn_24 4 rfl
theorem dX1_putIn_33 : decode cX1_putIn 33 = .ok (.iconst 2, 1) := zdec_at bX1_putIn_24 5 rfl
theorem dX1_putIn_34 : decode cX1_putIn 34 = .ok (.isub, 1) := zdec_at bX1_putIn_24 6 rfl
theorem dX1_putIn_35 : decode cX1_putIn 35 = .ok (.baload, 1) := zdec_at bX1_putIn_24 7 rfl
theorem dX1_putIn_36 : decode cX1_putIn 36 = .ok (.aload_n 0, 1) := zdec_at bX1_putIn_24 8 rfl
theorem dX1_putIn_37 : decode cX1_putIn 37 = .ok (.getfield 151, 3) := zdec_at bX1_putIn_24 9 rfl
theorem dX1_putIn_40 : decode cX1_putIn 40 = .ok (.aload_n 0, 1) := zdec_at bX1_putIn_24 10 rfl
theorem dX1_putIn_41 : decode cX1_putIn 41 = .ok (.getfield 440, 3) := zdec_at bX1_putIn_24 11 rfl
theorem dX1_putIn_44 : decode cX1_putIn 44 = .ok (.iconst 2, 1) := zdec_at bX1_putIn_24 12 rfl
theorem dX1_putIn_45 : decode cX1_putIn 45 = .ok (.isub, 1) := zdec_at bX1_putIn_24 13 rfl
theorem dX1_putIn_46 : decode cX1_putIn 46 = .ok (.iaload, 1) := zdec_at bX1_putIn_24 14 rfl
theorem dX1_putIn_47 : decode cX1_putIn 47 = .ok (.invokevirtual 541, 3) := zdec_at bX1_putIn_24 15 rfl
theorem bX1_putIn_50 : zdec cX1_putIn 50 [(50, .istore_n 3, 1), (51, .iload_n 1, 1), (52, .iconst 2, 1), (53, .if_icmp .ge 9, 3), (56, .aload_n 0, 1), (57, .iconst 0, 1), (58, .invokevirtual 482, 3), (61, .athrow, 1), (62, .aload_n 0, 1), (63, .iload_n 1, 1), (64, .iload_n 2, 1), (65, .invokevirtual 549, 3), (68, .istore 4, 2), (70, .iload_n 1, 1), (71, .bipush 7, 2), (73, .if_icmp .ne 102, 3)] = true := by decide +kernel
theorem dX1_putIn_50 : decode cX1_putIn 50 = .ok (.istore_n 3, 1) := zdec_at bX1_putIn_50 0 rfl
theorem dX1_putIn_51 : decode cX1_putIn 51 = .ok (.iload_n 1, 1) := zdec_at bX1_putIn_50 1 rfl
theorem dX1_putIn_52 : decode cX1_putIn 52 = .ok (.iconst 2, 1) := zdec_at bX1_putIn_50 2 rfl
theorem dX1_putIn_53 : decode cX1_putIn 53 = .ok (.if_icmp .ge 9, 3) := zdec_at bX1_putIn_50 3 rfl
theorem dX1_putIn_56 : decode cX1_putIn 56 = .ok (.aload_n 0, 1) := zdec_at bX1_putIn_50 4 rfl
theorem dX1_putIn_57 : decode cX1_putIn 57 = .ok (.iconst 0, 1) := zdec_at bX1_putIn_50 5 rfl
theorem dX1_putIn_58 : decode cX1_putIn 58 = .ok (.invokevirtual 482, 3) := zdec_at bX1_putIn_50 6 rfl
theorem dX1_putIn_61 : decode cX1_putIn 61 = .ok (.athrow, 1) := zdec_at bX1_putIn_50 7 rfl
theorem dX1_putIn_62 : decode cX1_putIn 62 = .ok (.aload_n 0, 1) := zdec_at bX1_putIn_50 8 rfl
theorem dX1_putIn_63 : decode cX1_putIn 63 = .ok (.iload_n 1, 1) := zdec_at bX1_putIn_50 9 rfl
theorem dX1_putIn_64 : decode cX1_putIn 64 = .ok (.iload_n 2, 1) := zdec_at bX1_putIn_50 10 rfl
theorem dX1_putIn_65 : decode cX1_putIn 65 = .ok (.invokevirtual 549, 3) := zdec_at bX1_putIn_50 11 rfl
theorem dX1_putIn_68 : decode cX1_putIn 68 = .ok (.istore 4, 2) := zdec_at bX1_putIn_50 12 rfl
theorem dX1_putIn_70 : decode cX1_putIn 70 = .ok (.iload_n 1, 1) := zdec_at bX1_putIn_50 13 rfl
theorem dX1_putIn_71 : decode cX1_putIn 71 = .ok (.bipush 7, 2) := zdec_at bX1_putIn_50 14 rfl
theorem dX1_putIn_73 : decode cX1_putIn 73 = .ok (.if_icmp .ne 102, 3) := zdec_at bX1_putIn_50 15 rfl
theorem bX1_putIn_76 : zdec cX1_putIn 76 [(76, .iload 4, 2), (78, .ifCond .eq 7, 3), (81, .iload_n 3, 1), (82, .ifCond .eq 93, 3), (85, .aload_n 0, 1), (86, .iload_n 2, 1), (87, .iload_n 3, 1), (88, .aload_n 0, 1), (89, .getfield 148, 3), (92, .aload_n 0, 1), (93, .getfield 440, 3), (96, .iconst 1, 1), (97, .isub, 1), (98, .baload, 1), (99, .aload_n 0, 1), (100, .getfield 151, 3)] = true := by decide +kernel
theorem dX1_putIn_76 : decode cX1_putIn 76 = .ok (.iload 4, 2) := zdec_at bX1_putIn_76 0 rfl
theorem dX1_putIn_78 : decode cX1_putIn 78 = .ok (.ifCond .eq 7, 3) := zdec_at bX1_putIn_76 1 rfl
theorem dX1_putIn_81 : decode cX1_putIn 81 = .ok (.iload_n 3, 1) := zdec_at bX1_putIn_76 2 rfl
theorem dX1_putIn_82 : decode cX1_putIn 82 = .ok (.ifCond .eq 93, 3) := zdec_at bX1_putIn_76 3 rfl
theorem dX1_putIn_85 : decode cX1_putIn 85 = .ok (.aload_n 0, 1) := zdec_at bX1_putIn_76 4 rfl
theorem dX1_putIn_86 : decode cX1_putIn 86 = .ok (.iload_n 2, 1) := zdec_at bX1_putIn_76 5 rfl
theorem dX1_putIn_87 : decode cX1_putIn 87 = .ok (.iload_n 3, 1) := zdec_at bX1_putIn_76 6 rfl
theorem dX1_putIn_88 : decode cX1_putIn 88 = .ok (.aload_n 0, 1) := zdec_at bX1_putIn_76 7 rfl
theorem dX1_putIn_89 : decode cX1_putIn 89 = .ok (.getfield 148, 3) := zdec_at bX1_putIn_76 8 rfl
theorem dX1_putIn_92 : decode cX1_putIn 92 = .ok (.aload_n 0, 1) := zdec_at bX1_putIn_76 9 rfl
theorem dX1_putIn_93 : decode cX1_putIn 93 = .ok (.getfield 440, 3) := zdec_at bX1_putIn_76 10 rfl
theorem dX1_putIn_96 : decode cX1_putIn 96 = .ok (.iconst 1, 1) := zdec_at bX1_putIn_76 11 rfl
theorem dX1_putIn_97 : decode cX1_putIn 97 = .ok (.isub, 1) := zdec_at bX1_putIn_76 12 rfl
theorem dX1_putIn_98 : decode cX1_putIn 98 = .ok (.baload, 1) := zdec_at bX1_putIn_76 13 rfl
theorem dX1_putIn_99 : decode cX1_putIn 99 = .ok (.aload_n 0, 1) := zdec_at bX1_putIn_76 14 rfl
theorem dX1_putIn_100 : decode cX1_putIn 100 = .ok (.getfield 151, 3) := zdec_at bX1_putIn_76 15 rfl
theorem bX1_putIn_103 : zdec cX1_putIn 103 [(103, .aload_n 0, 1), (104, .getfield 440, 3), (107, .iconst 1, 1), (108, .isub, 1), (109, .iaload, 1), (110, .invokevirtual 358, 3), (113, .iload 4, 2), (115, .ifCond .eq 11, 3), (118, .aload_n 0, 1), (119, .iload_n 3, 1), (120, .invokevirtual 552, 3), (123, .goto 4, 3), (126, .iconst (-1), 1), (127, .istore 5, 2), (129, .iload 4, 2), (131, .ifCond .eq 12, 3)] = true := by decide +kernel
theorem dX1_putIn_103 : decode cX1_putIn 103 = .ok (.aload_n 0, 1) := zdec_at bX1_putIn_103 0 rfl
theorem dX1_putIn_104 : decode cX1_putIn 104 = .ok (.getfield 440, 3) := zdec_at bX1_putIn_103 1 rfl
theorem dX1_putIn_107 : decode cX1_putIn 107 = .ok (.iconst 1, 1) := zdec_at bX1_putIn_103 2 rfl
theorem dX1_putIn_108 : decode cX1_putIn 108 = .ok (.isub, 1) := zdec_at bX1_putIn_103 3 rfl
theorem dX1_putIn_109 : decode cX1_putIn 109 = .ok (.iaload, 1) := zdec_at bX1_putIn_103 4 rfl
theorem dX1_putIn_110 : decode cX1_putIn 110 = .ok (.invokevirtual 358, 3) := zdec_at bX1_putIn_103 5 rfl
theorem dX1_putIn_113 : decode cX1_putIn 113 = .ok (.iload 4, 2) := zdec_at bX1_putIn_103 6 rfl
theorem dX1_putIn_115 : decode cX1_putIn 115 = .ok (.ifCond .eq 11, 3) := zdec_at bX1_putIn_103 7 rfl
theorem dX1_putIn_118 : decode cX1_putIn 118 = .ok (.aload_n 0, 1) := zdec_at bX1_putIn_103 8 rfl
theorem dX1_putIn_119 : decode cX1_putIn 119 = .ok (.iload_n 3, 1) := zdec_at bX1_putIn_103 9 rfl
theorem dX1_putIn_120 : decode cX1_putIn 120 = .ok (.invokevirtual 552, 3) := zdec_at bX1_putIn_103 10 rfl
theorem dX1_putIn_123 : decode cX1_putIn 123 = .ok (.goto 4, 3) := zdec_at bX1_putIn_103 11 rfl
theorem dX1_putIn_126 : decode cX1_putIn 126 = .ok (.iconst (-1), 1) := zdec_at bX1_putIn_103 12 rfl
theorem dX1_putIn_127 : decode cX1_putIn 127 = .ok (.istore 5, 2) := zdec_at bX1_putIn_103 13 rfl
theorem dX1_putIn_129 : decode cX1_putIn 129 = .ok (.iload 4, 2) := zdec_at bX1_putIn_103 14 rfl
theorem dX1_putIn_131 : decode cX1_putIn 131 = .ok (.ifCond .eq 12, 3) := zdec_at bX1_putIn_103 15 rfl
theorem bX1_putIn_134 : zdec cX1_putIn 134 [(134, .aload_n 0, 1), (135, .iload_n 2, 1), (136, .iconst 0, 1), (137, .invokevirtual 346, 3), (140, .goto 4, 3), (143, .iconst (-1), 1), (144, .istore 6, 2), (146, .iload 5, 2), (148, .iconst (-1), 1), (149, .if_icmp .eq 26, 3), (152, .iload 5, 2), (154, .aload_n 0, 1), (155, .getfield 127, 3), (158, .iload 6, 2), (160, .iaload, 1), (161, .if_icmp .lt 14, 3)] = true := by decide +kernel
theorem dX1_putIn_134 : decode cX1_putIn 134 = .ok (.aload_n 0, 1) := zdec_at bX1_putIn_134 0 rfl
theorem dX1_putIn_135 : decode cX1_putIn 135 = .ok (.iload_n 2, 1) := zdec_at bX1_putIn_134 1 rfl
theorem dX1_putIn_136 : decode cX1_putIn 136 = .ok (.iconst 0, 1) := zdec_at bX1_putIn_134 2 rfl
theorem dX1_putIn_137 : decode cX1_putIn 137 = .ok (.invokevirtual 346, 3) := zdec_at bX1_putIn_134 3 rfl
theorem dX1_putIn_140 : decode cX1_putIn 140 = .ok (.goto 4, 3) := zdec_at bX1_putIn_134 4 rfl
theorem dX1_putIn_143 : decode cX1_putIn 143 = .ok (.iconst (-1), 1) := zdec_at bX1_putIn_134 5 rfl
theorem dX1_putIn_144 : decode cX1_putIn 144 = .ok (.istore 6, 2) := zdec_at bX1_putIn_134 6 rfl
theorem dX1_putIn_146 : decode cX1_putIn 146 = .ok (.iload 5, 2) := zdec_at bX1_putIn_134 7 rfl
theorem dX1_putIn_148 : decode cX1_putIn 148 = .ok (.iconst (-1), 1) := zdec_at bX1_putIn_134 8 rfl
theorem dX1_putIn_149 : decode cX1_putIn 149 = .ok (.if_icmp .eq 26, 3) := zdec_at bX1_putIn_134 9 rfl
theorem dX1_putIn_152 : decode cX1_putIn 152 = .ok (.iload 5, 2) := zdec_at bX1_putIn_134 10 rfl
theorem dX1_putIn_154 : decode cX1_putIn 154 = .ok (.aload_n 0, 1) := zdec_at bX1_putIn_134 11 rfl
theorem dX1_putIn_155 : decode cX1_putIn 155 = .ok (.getfield 127, 3) := zdec_at bX1_putIn_134 12 rfl
theorem dX1_putIn_158 : decode cX1_putIn 158 = .ok (.iload 6, 2) := zdec_at bX1_putIn_134 13 rfl
theorem dX1_putIn_160 : decode cX1_putIn 160 = .ok (.iaload, 1) := zdec_at bX1_putIn_134 14 rfl
theorem dX1_putIn_161 : decode cX1_putIn 161 = .ok (.if_icmp .lt 14, 3) := zdec_at bX1_putIn_134 15 rfl
theorem bX1_putIn_164 : zdec cX1_putIn 164 [(164, .aload_n 0, 1), (165, .getfield 127, 3), (168, .iload 6, 2), (170, .iload 5, 2), (172, .iconst 1, 1), (173, .iadd, 1), (174, .iastore, 1), (175, .aload_n 0, 1), (176, .aload_n 0, 1), (177, .getfield 148, 3), (180, .aload_n 0, 1), (181, .getfield 440, 3), (184, .iconst 1, 1), (185, .isub, 1), (186, .baload, 1), (187, .aload_n 0, 1)] = true := by decide +kernel
theorem dX1_putIn_164 : decode cX1_putIn 164 = .ok (.aload_n 0, 1) := zdec_at bX1_putIn_164 0 rfl
theorem dX1_putIn_165 : decode cX1_putIn 165 = .ok (.getfield 127, 3) := zdec_at bX1_putIn_164 1 rfl
theorem dX1_putIn_168 : decode cX1_putIn 168 = .ok (.iload 6, 2) := zdec_at bX1_putIn_164 2 rfl
theorem dX1_putIn_170 : decode cX1_putIn 170 = .ok (.iload 5, 2) := zdec_at bX1_putIn_164 3 rfl
theorem dX1_putIn_172 : decode cX1_putIn 172 = .ok (.iconst 1, 1) := zdec_at bX1_putIn_164 4 rfl
theorem dX1_putIn_173 : decode cX1_putIn 173 = .ok (.iadd, 1) := zdec_at bX1_putIn_164 5 rfl
theorem dX1_putIn_174 : decode cX1_putIn 174 = .ok (.iastore, 1) := zdec_at bX1_putIn_164 6 rfl
theorem dX1_putIn_175 : decode cX1_putIn 175 = .ok (.aload_n 0, 1) := zdec_at bX1_putIn_164 7 rfl
theorem dX1_putIn_176 : decode cX1_putIn 176 = .ok (.aload_n 0, 1) := zdec_at bX1_putIn_164 8 rfl
theorem dX1_putIn_177 : decode cX1_putIn 177 = .ok (.getfield 148, 3) := zdec_at bX1_putIn_164 9 rfl
theorem dX1_putIn_180 : decode cX1_putIn 180 = .ok (.aload_n 0, 1) := zdec_at bX1_putIn_164 10 rfl
theorem dX1_putIn_181 : decode cX1_putIn 181 = .ok (.getfield 440, 3) := zdec_at bX1_putIn_164 11 rfl
theorem dX1_putIn_184 : decode cX1_putIn 184 = .ok (.iconst 1, 1) := zdec_at bX1_putIn_164 12 rfl
theorem dX1_putIn_185 : decode cX1_putIn 185 = .ok (.isub, 1) := zdec_at bX1_putIn_164 13 rfl
theorem dX1_putIn_186 : decode cX1_putIn 186 = .ok (.baload, 1) := zdec_at bX1_putIn_164 14 rfl
theorem dX1_putIn_187 : decode cX1_putIn 187 = .ok (.aload_n 0, 1) := zdec_at bX1_putIn_164 15 rfl
theorem bX1_putIn_188 : zdec cX1_putIn 188 [(188, .getfield 151, 3), (191, .aload_n 0, 1), (192, .getfield 440, 3), (195, .iconst 1, 1), (196, .isub, 1), (197, .iaload, 1), (198, .invokevirtual 395, 3), (201, .aload_n 0, 1), (202, .iconst 3, 1), (203, .invokevirtual 508, 3), (206, .return_, 1)] = true := by decide +kernel
theorem dX1_putIn_188 : decode cX1_putIn 188 = .ok (.getfield 151, 3) := zdec_at bX1_putIn_188 0 rfl
theorem dX1_putIn_191 : decode cX1_putIn 191 = .ok (.aload_n 0, 1) := zdec_at bX1_putIn_188 1 rfl
theorem dX1_putIn_192 : decode cX1_putIn 192 = .ok (.getfield 440, 3) := zdec_at bX1_putIn_188 2 rfl
theorem dX1_putIn_195 : decode cX1_putIn 195 = .ok (.iconst 1, 1) := zdec_at bX1_putIn_188 3 rfl
theorem dX1_putIn_196 : decode cX1_putIn 196 = .ok (.isub, 1) := zdec_at bX1_putIn_188 4 rfl
theorem dX1_putIn_197 : decode cX1_putIn 197 = .ok (.iaload, 1) := zdec_at bX1_putIn_188 5 rfl
theorem dX1_putIn_198 : decode cX1_putIn 198 = .ok (.invokevirtual 395, 3) := zdec_at bX1_putIn_188 6 rfl
theorem dX1_putIn_201 : decode cX1_putIn 201 = .ok (.aload_n 0, 1) := zdec_at bX1_putIn_188 7 rfl
theorem dX1_putIn_202 : decode cX1_putIn 202 = .ok (.iconst 3, 1) := zdec_at bX1_putIn_188 8 rfl
theorem dX1_putIn_203 : decode cX1_putIn 203 = .ok (.invokevirtual 508, 3) := zdec_at bX1_putIn_188 9 rfl
theorem dX1_putIn_206 : decode cX1_putIn 206 = .ok (.return_, 1) := zdec_at bX1_putIn_188 10 rfl
theorem sX1_putIn_0 {E : zE} {d : Nat} {Q : zO → zM → Prop} (M : zM)  (hw : cw M) (k : vp_in ((gi M 16 38) - (3 : Int32)) 14500 ∧ (vp_in ((gi M 16 38) - (3 : Int32)) 14500 ∧ (vp_in ((gi M 16 38) - (2 : Int32)) 14500 ∧ (vp_in ((gi M 16 38) - (2 : Int32)) 14500 ∧ (Z E YX1_textOf d M (zargs 0 [vr (some (16, 0, 0)), vi (gi M 53 (((gi M 16 38) - (2 : Int32))).toNatClampNeg), vi (gi M 54 (((gi M 16 38) - (2 : Int32))).toNatClampNeg)]) 0 [] (zafter E YX1_putIn (d + 1) [(0, vr (some (16, 0, 0))), (1, vi (gi M 53 (((gi M 16 38) - (3 : Int32))).toNatClampNeg)), (2, vi (gi M 54 (((gi M 16 38) - (3 : Int32))).toNatClampNeg))] 47 3 [] Q)))))) : Z E YX1_putIn (d + 1) M [(0, vr (some (16, 0, 0)))] 0 [] Q := by
  refine z_aload_n dX1_putIn_0 rfl rfl ?_
  refine z_getr dX1_putIn_1 fsX1_148_0 (show gr M 16 34 = some (53, 101, 14500) from cw_at hw 21 rfl) ?_
  refine z_aload_n dX1_putIn_4 rfl rfl ?_
  refine z_geti dX1_putIn_5 fsX1_440_0 ?_
  refine z_iconst (v := 3) dX1_putIn_8 rfl ?_
  refine z_isub dX1_putIn_9 ?_
  obtain ⟨b_, k⟩ := k
  refine z_bald dX1_putIn_10 b_ ?_
  refine z_ist_n dX1_putIn_11 rfl (by decide) (lv' := [(0, vr (some (16, 0, 0))), (1, vi (gi M 53 (((gi M 16 38) - (3 : Int32))).toNatClampNeg))]) rfl ?_
  refine z_aload_n dX1_putIn_12 rfl rfl ?_
  refine z_getr dX1_putIn_13 fsX1_151_0 (show gr M 16 35 = some (54, 100, 14500) from cw_at hw 22 rfl) ?_
  refine z_aload_n dX1_putIn_16 rfl rfl ?_
  refine z_geti dX1_putIn_17 fsX1_440_0 ?_
  refine z_iconst (v := 3) dX1_putIn_20 rfl ?_
  refine z_isub dX1_putIn_21 ?_
  obtain ⟨b_, k⟩ := k
  refine z_iald dX1_putIn_22 b_ ?_
  refine z_ist_n dX1_putIn_23 rfl (by decide) (lv' := [(0, vr (some (16, 0, 0))), (1, vi (gi M 53 (((gi M 16 38) - (3 : Int32))).toNatClampNeg)), (2, vi (gi M 54 (((gi M 16 38) - (3 : Int32))).toNatClampNeg))]) rfl ?_
  refine z_aload_n dX1_putIn_24 rfl rfl ?_
  refine z_aload_n dX1_putIn_25 rfl rfl ?_
  refine z_getr dX1_putIn_26 fsX1_148_0 (show gr M 16 34 = some (53, 101, 14500) from cw_at hw 21 rfl) ?_
  refine z_aload_n dX1_putIn_29 rfl rfl ?_
  refine z_geti dX1_putIn_30 fsX1_440_0 ?_
  refine z_iconst (v := 2) dX1_putIn_33 rfl ?_
  refine z_isub dX1_putIn_34 ?_
  obtain ⟨b_, k⟩ := k
  refine z_bald dX1_putIn_35 b_ ?_
  refine z_aload_n dX1_putIn_36 rfl rfl ?_
  refine z_getr dX1_putIn_37 fsX1_151_0 (show gr M 16 35 = some (54, 100, 14500) from cw_at hw 22 rfl) ?_
  refine z_aload_n dX1_putIn_40 rfl rfl ?_
  refine z_geti dX1_putIn_41 fsX1_440_0 ?_
  refine z_iconst (v := 2) dX1_putIn_44 rfl ?_
  refine z_isub dX1_putIn_45 ?_
  obtain ⟨b_, k⟩ := k
  refine z_iald dX1_putIn_46 b_ ?_
  exact z_callV (as := [vi (gi M 53 (((gi M 16 38) - (2 : Int32))).toNatClampNeg), vi (gi M 54 (((gi M 16 38) - (2 : Int32))).toNatClampNeg)]) (st := []) dX1_putIn_47 vsX1_541_0 (Nat.le_refl _) (Nat.le_of_ble_eq_true rfl) (Nat.le_of_ble_eq_true rfl) rfl k
theorem sX1_putIn_50 {E : zE} {d : Nat} {Q : zO → zM → Prop} (M : zM) (l1 : Int32) (l2 : Int32) (s0 : Int32) (hw : cw M) (k : if (2 : Int32) ≤ l1 then (Z E YX1_isArray d M (zargs 0 [vr (some (16, 0, 0)), vi l1, vi l2]) 0 [] (zafter E YX1_putIn (d + 1) [(0, vr (some (16, 0, 0))), (1, vi l1), (2, vi l2), (3, vi s0)] 65 3 [] Q)) else (Z E YX1_error d M (zargs 0 [vr (some (16, 0, 0)), vi (0 : Int32)]) 0 [] (zafter E YX1_putIn (d + 1) [] 58 3 [] Q))) : Z E YX1_putIn (d + 1) M [(0, vr (some (16, 0, 0))), (1, vi l1), (2, vi l2)] 50 [vi s0] Q := by
  refine z_ist_n dX1_putIn_50 rfl (by decide) (lv' := [(0, vr (some (16, 0, 0))), (1, vi l1), (2, vi l2), (3, vi s0)]) rfl ?_
  refine z_iload_n dX1_putIn_51 rfl rfl ?_
  refine z_iconst (v := 2) dX1_putIn_52 rfl ?_
  refine z_icmp_ge (tgt := 62) dX1_putIn_53 rfl (fun h_ => ?_) (fun h_ => ?_)
  · have k := zit h_ k
    refine z_aload_n dX1_putIn_62 rfl rfl ?_
    refine z_iload_n dX1_putIn_63 rfl rfl ?_
    refine z_iload_n dX1_putIn_64 rfl rfl ?_
    exact z_callV (as := [vi l1, vi l2]) (st := []) dX1_putIn_65 vsX1_549_0 (Nat.le_refl _) (Nat.le_of_ble_eq_true rfl) (Nat.le_of_ble_eq_true rfl) rfl k
  · have k := zif h_ k
    refine z_aload_n dX1_putIn_56 rfl rfl ?_
    refine z_iconst (v := 0) dX1_putIn_57 rfl ?_
    refine Z.pick [] rfl ?_
    exact z_callV (as := [vi (0 : Int32)]) (st := []) dX1_putIn_58 vsX1_482_0 (Nat.le_refl _) (Nat.le_of_ble_eq_true rfl) (Nat.le_of_ble_eq_true rfl) rfl k
theorem sX1_putIn_61 {E : zE} {d : Nat} {Q : zO → zM → Prop} (M : zM) (u0 : Option zP) (hw : cw M) (k : ∃ b1 : Nat, u0 = some (b1, 14, 0) ∧ (Q (.inr (b1, 14, 0)) M)) : Z E YX1_putIn (d + 1) M [] 61 [vr u0] Q := by
  obtain ⟨b1, e1_, k⟩ := k
  refine Z.eqs (lv' := []) (st' := [vr (some (b1, 14, 0))]) rfl (by rw [e1_] <;> rfl) ?_
  exact z_athrow dX1_putIn_61 (ZT.out (by decide) k)
theorem sX1_putIn_68 {E : zE} {d : Nat} {Q : zO → zM → Prop} (M : zM) (l1 : Int32) (l2 : Int32) (l3 : Int32) (s0 : Int32) (hw : cw M) (k : if l1 = (7 : Int32) then (if s0 = 0 then (Z E YX1_putIn (d + 1) M [(0, vr (some (16, 0, 0))), (2, vi l2), (3, vi l3), (4, vi s0)] 85 [] Q) else (if l3 = 0 then (Z E YX1_putIn (d + 1) M [(0, vr (some (16, 0, 0)))] 175 [] Q) else (Z E YX1_putIn (d + 1) M [(0, vr (some (16, 0, 0))), (2, vi l2), (3, vi l3), (4, vi s0)] 85 [] Q))) else (Z E YX1_putIn (d + 1) M [(0, vr (some (16, 0, 0)))] 175 [] Q)) : Z E YX1_putIn (d + 1) M [(0, vr (some (16, 0, 0))), (1, vi l1), (2, vi l2), (3, vi l3)] 68 [vi s0] Q := by
  refine z_ist dX1_putIn_68 (by decide) (lv' := [(0, vr (some (16, 0, 0))), (1, vi l1), (2, vi l2), (3, vi l3), (4, vi s0)]) rfl ?_
  refine z_iload_n dX1_putIn_70 rfl rfl ?_
  refine z_bipush (v := 7) dX1_putIn_71 rfl ?_
  refine z_icmp_ne (tgt := 175) dX1_putIn_73 rfl (fun h_ => ?_) (fun h_ => ?_)
  · have k := zif h_ k
    refine Z.pick [0] rfl ?_
    exact k
  · have k := zit h_ k
    refine z_iload dX1_putIn_76 rfl ?_
    refine z_if_eq (tgt := 85) dX1_putIn_78 rfl (fun h_ => ?_) (fun h_ => ?_)
    · have k := zit h_ k
      refine Z.pick [0, 2, 3, 4] rfl ?_
      exact k
    · have k := zif h_ k
      refine z_iload_n dX1_putIn_81 rfl rfl ?_
      refine z_if_eq (tgt := 175) dX1_putIn_82 rfl (fun h_ => ?_) (fun h_ => ?_)
      · have k := zit h_ k
        refine Z.pick [0] rfl ?_
        exact k
      · have k := zif h_ k
        refine Z.pick [0, 2, 3, 4] rfl ?_
        exact k
theorem sX1_putIn_85 {E : zE} {d : Nat} {Q : zO → zM → Prop} (M : zM) (l2 : Int32) (l3 : Int32) (l4 : Int32) (hw : cw M) (k : vp_in ((gi M 16 38) - (1 : Int32)) 14500 ∧ (vp_in ((gi M 16 38) - (1 : Int32)) 14500 ∧ (Z E YX1_setOwn d M (zargs 0 [vr (some (16, 0, 0)), vi l2, vi l3, vi (gi M 53 (((gi M 16 38) - (1 : Int32))).toNatClampNeg), vi (gi M 54 (((gi M 16 38) - (1 : Int32))).toNatClampNeg)]) 0 [] (zafter E YX1_putIn (d + 1) [(0, vr (some (16, 0, 0))), (2, vi l2), (3, vi l3), (4, vi l4)] 110 3 [] Q)))) : Z E YX1_putIn (d + 1) M [(0, vr (some (16, 0, 0))), (2, vi l2), (3, vi l3), (4, vi l4)] 85 [] Q := by
  refine z_aload_n dX1_putIn_85 rfl rfl ?_
  refine z_iload_n dX1_putIn_86 rfl rfl ?_
  refine z_iload_n dX1_putIn_87 rfl rfl ?_
  refine z_aload_n dX1_putIn_88 rfl rfl ?_
  refine z_getr dX1_putIn_89 fsX1_148_0 (show gr M 16 34 = some (53, 101, 14500) from cw_at hw 21 rfl) ?_
  refine z_aload_n dX1_putIn_92 rfl rfl ?_
  refine z_geti dX1_putIn_93 fsX1_440_0 ?_
  refine z_iconst (v := 1) dX1_putIn_96 rfl ?_
  refine z_isub dX1_putIn_97 ?_
  obtain ⟨b_, k⟩ := k
  refine z_bald dX1_putIn_98 b_ ?_
  refine z_aload_n dX1_putIn_99 rfl rfl ?_
  refine z_getr dX1_putIn_100 fsX1_151_0 (show gr M 16 35 = some (54, 100, 14500) from cw_at hw 22 rfl) ?_
  refine z_aload_n dX1_putIn_103 rfl rfl ?_
  refine z_geti dX1_putIn_104 fsX1_440_0 ?_
  refine z_iconst (v := 1) dX1_putIn_107 rfl ?_
  refine z_isub dX1_putIn_108 ?_
  obtain ⟨b_, k⟩ := k
  refine z_iald dX1_putIn_109 b_ ?_
  exact z_callV (as := [vi l2, vi l3, vi (gi M 53 (((gi M 16 38) - (1 : Int32))).toNatClampNeg), vi (gi M 54 (((gi M 16 38) - (1 : Int32))).toNatClampNeg)]) (st := []) dX1_putIn_110 vsX1_358_0 (Nat.le_refl _) (Nat.le_of_ble_eq_true rfl) (Nat.le_of_ble_eq_true rfl) rfl k
theorem sX1_putIn_113 {E : zE} {d : Nat} {Q : zO → zM → Prop} (M : zM) (l2 : Int32) (l3 : Int32) (l4 : Int32) (hw : cw M) (k : if l4 = 0 then (Z E YX1_putIn (d + 1) M [(0, vr (some (16, 0, 0))), (2, vi l2), (4, vi l4)] 127 [vi (-1 : Int32)] Q) else (Z E YX1_indexOf d M (zargs 0 [vr (some (16, 0, 0)), vi l3]) 0 [] (zafter E YX1_putIn (d + 1) [(0, vr (some (16, 0, 0))), (2, vi l2), (4, vi l4)] 120 3 [] Q))) : Z E YX1_putIn (d + 1) M [(0, vr (some (16, 0, 0))), (2, vi l2), (3, vi l3), (4, vi l4)] 113 [] Q := by
  refine z_iload dX1_putIn_113 rfl ?_
  refine z_if_eq (tgt := 126) dX1_putIn_115 rfl (fun h_ => ?_) (fun h_ => ?_)
  · have k := zit h_ k
    refine z_iconst (v := -1) dX1_putIn_126 rfl ?_
    refine Z.pick [0, 1, 3] rfl ?_
    exact k
  · have k := zif h_ k
    refine z_aload_n dX1_putIn_118 rfl rfl ?_
    refine z_iload_n dX1_putIn_119 rfl rfl ?_
    refine Z.pick [0, 1, 3] rfl ?_
    exact z_callV (as := [vi l3]) (st := []) dX1_putIn_120 vsX1_552_0 (Nat.le_refl _) (Nat.le_of_ble_eq_true rfl) (Nat.le_of_ble_eq_true rfl) rfl k
theorem sX1_putIn_123 {E : zE} {d : Nat} {Q : zO → zM → Prop} (M : zM) (l2 : Int32) (l4 : Int32) (s0 : Int32) (hw : cw M) (k : Z E YX1_putIn (d + 1) M [(0, vr (some (16, 0, 0))), (2, vi l2), (4, vi l4)] 127 [vi s0] Q) : Z E YX1_putIn (d + 1) M [(0, vr (some (16, 0, 0))), (2, vi l2), (4, vi l4)] 123 [vi s0] Q := by
  refine z_goto (tgt := 127) dX1_putIn_123 rfl ?_
  exact k
theorem sX1_putIn_127 {E : zE} {d : Nat} {Q : zO → zM → Prop} (M : zM) (l2 : Int32) (l4 : Int32) (s0 : Int32) (hw : cw M) (k : if l4 = 0 then (Z E YX1_putIn (d + 1) M [(0, vr (some (16, 0, 0))), (5, vi s0)] 144 [vi (-1 : Int32)] Q) else (Z E YX1_own d M (zargs 0 [vr (some (16, 0, 0)), vi l2, vi (0 : Int32)]) 0 [] (zafter E YX1_putIn (d + 1) [(0, vr (some (16, 0, 0))), (5, vi s0)] 137 3 [] Q))) : Z E YX1_putIn (d + 1) M [(0, vr (some (16, 0, 0))), (2, vi l2), (4, vi l4)] 127 [vi s0] Q := by
  refine z_ist dX1_putIn_127 (by decide) (lv' := [(0, vr (some (16, 0, 0))), (2, vi l2), (4, vi l4), (5, vi s0)]) rfl ?_
  refine z_iload dX1_putIn_129 rfl ?_
  refine z_if_eq (tgt := 143) dX1_putIn_131 rfl (fun h_ => ?_) (fun h_ => ?_)
  · have k := zit h_ k
    refine z_iconst (v := -1) dX1_putIn_143 rfl ?_
    refine Z.pick [0, 3] rfl ?_
    exact k
  · have k := zif h_ k
    refine z_aload_n dX1_putIn_134 rfl rfl ?_
    refine z_iload_n dX1_putIn_135 rfl rfl ?_
    refine z_iconst (v := 0) dX1_putIn_136 rfl ?_
    refine Z.pick [0, 3] rfl ?_
    exact z_callV (as := [vi l2, vi (0 : Int32)]) (st := []) dX1_putIn_137 vsX1_346_0 (Nat.le_refl _) (Nat.le_of_ble_eq_true rfl) (Nat.le_of_ble_eq_true rfl) rfl k
theorem sX1_putIn_140 {E : zE} {d : Nat} {Q : zO → zM → Prop} (M : zM) (l5 : Int32) (s0 : Int32) (hw : cw M) (k : Z E YX1_putIn (d + 1) M [(0, vr (some (16, 0, 0))), (5, vi l5)] 144 [vi s0] Q) : Z E YX1_putIn (d + 1) M [(0, vr (some (16, 0, 0))), (5, vi l5)] 140 [vi s0] Q := by
  refine z_goto (tgt := 144) dX1_putIn_140 rfl ?_
  exact k
theorem sX1_putIn_144 {E : zE} {d : Nat} {Q : zO → zM → Prop} (M : zM) (l5 : Int32) (s0 : Int32) (hw : cw M) (k : if l5 = (-1 : Int32) then (Z E YX1_putIn (d + 1) M [(0, vr (some (16, 0, 0)))] 175 [] Q) else (vp_in s0 3000 ∧ (if l5 < (gi M 49 (s0).toNatClampNeg) then (Z E YX1_putIn (d + 1) M [(0, vr (some (16, 0, 0)))] 175 [] Q) else (vp_in s0 3000 ∧ (Z E YX1_putIn (d + 1) (si M 49 (s0).toNatClampNeg (l5 + (1 : Int32))) [(0, vr (some (16, 0, 0)))] 175 [] Q))))) : Z E YX1_putIn (d + 1) M [(0, vr (some (16, 0, 0))), (5, vi l5)] 144 [vi s0] Q := by
  refine z_ist dX1_putIn_144 (by decide) (lv' := [(0, vr (some (16, 0, 0))), (5, vi l5), (6, vi s0)]) rfl ?_
  refine z_iload dX1_putIn_146 rfl ?_
  refine z_iconst (v := -1) dX1_putIn_148 rfl ?_
  refine z_icmp_eq (tgt := 175) dX1_putIn_149 rfl (fun h_ => ?_) (fun h_ => ?_)
  · have k := zit h_ k
    refine Z.pick [0] rfl ?_
    exact k
  · have k := zif h_ k
    refine z_iload dX1_putIn_152 rfl ?_
    refine z_aload_n dX1_putIn_154 rfl rfl ?_
    refine z_getr dX1_putIn_155 fsX1_127_0 (show gr M 16 24 = some (49, 100, 3000) from cw_at hw 17 rfl) ?_
    refine z_iload dX1_putIn_158 rfl ?_
    obtain ⟨b_, k⟩ := k
    refine z_iald dX1_putIn_160 b_ ?_
    refine z_icmp_lt (tgt := 175) dX1_putIn_161 rfl (fun h_ => ?_) (fun h_ => ?_)
    · have k := zit h_ k
      refine Z.pick [0] rfl ?_
      exact k
    · have k := zif h_ k
      refine z_aload_n dX1_putIn_164 rfl rfl ?_
      refine z_getr dX1_putIn_165 fsX1_127_0 (show gr M 16 24 = some (49, 100, 3000) from cw_at hw 17 rfl) ?_
      refine z_iload dX1_putIn_168 rfl ?_
      refine z_iload dX1_putIn_170 rfl ?_
      refine z_iconst (v := 1) dX1_putIn_172 rfl ?_
      refine z_iadd dX1_putIn_173 ?_
      obtain ⟨b_, k⟩ := k
      refine z_iast (by decide) dX1_putIn_174 b_ ?_
      refine Z.pick [0] rfl ?_
      exact k
theorem sX1_putIn_175 {E : zE} {d : Nat} {Q : zO → zM → Prop} (M : zM)  (hw : cw M) (k : vp_in ((gi M 16 38) - (1 : Int32)) 14500 ∧ (vp_in ((gi M 16 38) - (1 : Int32)) 14500 ∧ (Z E YX1_gives d M (zargs 0 [vr (some (16, 0, 0)), vi (gi M 53 (((gi M 16 38) - (1 : Int32))).toNatClampNeg), vi (gi M 54 (((gi M 16 38) - (1 : Int32))).toNatClampNeg)]) 0 [] (zafter E YX1_putIn (d + 1) [(0, vr (some (16, 0, 0)))] 198 3 [] Q)))) : Z E YX1_putIn (d + 1) M [(0, vr (some (16, 0, 0)))] 175 [] Q := by
  refine z_aload_n dX1_putIn_175 rfl rfl ?_
  refine z_aload_n dX1_putIn_176 rfl rfl ?_
  refine z_getr dX1_putIn_177 fsX1_148_0 (show gr M 16 34 = some (53, 101, 14500) from cw_at hw 21 rfl) ?_
  refine z_aload_n dX1_putIn_180 rfl rfl ?_
  refine z_geti dX1_putIn_181 fsX1_440_0 ?_
  refine z_iconst (v := 1) dX1_putIn_184 rfl ?_
  refine z_isub dX1_putIn_185 ?_
  obtain ⟨b_, k⟩ := k
  refine z_bald dX1_putIn_186 b_ ?_
  refine z_aload_n dX1_putIn_187 rfl rfl ?_
  refine z_getr dX1_putIn_188 fsX1_151_0 (show gr M 16 35 = some (54, 100, 14500) from cw_at hw 22 rfl) ?_
  refine z_aload_n dX1_putIn_191 rfl rfl ?_
  refine z_geti dX1_putIn_192 fsX1_440_0 ?_
  refine z_iconst (v := 1) dX1_putIn_195 rfl ?_
  refine z_isub dX1_putIn_196 ?_
  obtain ⟨b_, k⟩ := k
  refine z_iald dX1_putIn_197 b_ ?_
  exact z_callV (as := [vi (gi M 53 (((gi M 16 38) - (1 : Int32))).toNatClampNeg), vi (gi M 54 (((gi M 16 38) - (1 : Int32))).toNatClampNeg)]) (st := []) dX1_putIn_198 vsX1_395_0 (Nat.le_refl _) (Nat.le_of_ble_eq_true rfl) (Nat.le_of_ble_eq_true rfl) rfl k
theorem sX1_putIn_201 {E : zE} {d : Nat} {Q : zO → zM → Prop} (M : zM)  (hw : cw M) (k : Z E YX1_leaves d M (zargs 0 [vr (some (16, 0, 0)), vi (3 : Int32)]) 0 [] (zafter E YX1_putIn (d + 1) [] 203 3 [] Q)) : Z E YX1_putIn (d + 1) M [(0, vr (some (16, 0, 0)))] 201 [] Q := by
  refine z_aload_n dX1_putIn_201 rfl rfl ?_
  refine z_iconst (v := 3) dX1_putIn_202 rfl ?_
  refine Z.pick [] rfl ?_
  exact z_callV (as := [vi (3 : Int32)]) (st := []) dX1_putIn_203 vsX1_508_0 (Nat.le_refl _) (Nat.le_of_ble_eq_true rfl) (Nat.le_of_ble_eq_true rfl) rfl k
theorem sX1_putIn_206 {E : zE} {d : Nat} {Q : zO → zM → Prop} (M : zM)  (hw : cw M) (k : Q (.inl none) M) : Z E YX1_putIn (d + 1) M [] 206 [] Q := by
  exact z_vret dX1_putIn_206 rfl k
/-! ScriptTypes.isArray(II)Z -/
theorem bX1_isArray_0 : zdec cX1_isArray 0 [(0, .iload_n 1, 1), (1, .bipush 7, 2), (3, .if_icmp .ne 17, 3), (6, .aload_n 0, 1), (7, .getfield 93, 3), (10, .iload_n 2, 1), (11, .baload, 1), (12, .iconst 2, 1), (13, .if_icmp .ne 7, 3), (16, .iconst 1, 1), (17, .goto 4, 3), (20, .iconst 0, 1), (21, .ireturn, 1)] = true := by decide +kernel
theorem dX1_isArray_0 : decode cX1_isArray 0 = .ok (.iload_n 1, 1) := zdec_at bX1_isArray_0 0 rfl
theorem dX1_isArray_1 : decode cX1_isArray 1 = .ok (.bipush 7, 2) := zdec_at bX1_isArray_0 1 rfl
theorem dX1_isArray_3 : decode cX1_isArray 3 = .ok (.if_icmp .ne 17, 3) := zdec_at bX1_isArray_0 2 rfl
theorem dX1_isArray_6 : decode cX1_isArray 6 = .ok (.aload_n 0, 1) := zdec_at bX1_isArray_0 3 rfl
theorem dX1_isArray_7 : decode cX1_isArray 7 = .ok (.getfield 93, 3) := zdec_at bX1_isArray_0 4 rfl
theorem dX1_isArray_10 : decode cX1_isArray 10 = .ok (.iload_n 2, 1) := zdec_at bX1_isArray_0 5 rfl
theorem dX1_isArray_11 : decode cX1_isArray 11 = .ok (.baload, 1) := zdec_at bX1_isArray_0 6 rfl
theorem dX1_isArray_12 : decode cX1_isArray 12 = .ok (.iconst 2, 1) := zdec_at bX1_isArray_0 7 rfl
theorem dX1_isArray_13 : decode cX1_isArray 13 = .ok (.if_icmp .ne 7, 3) := zdec_at bX1_isArray_0 8 rfl
theorem dX1_isArray_16 : decode cX1_isArray 16 = .ok (.iconst 1, 1) := zdec_at bX1_isArray_0 9 rfl
theorem dX1_isArray_17 : decode cX1_isArray 17 = .ok (.goto 4, 3) := zdec_at bX1_isArray_0 10 rfl
theorem dX1_isArray_20 : decode cX1_isArray 20 = .ok (.iconst 0, 1) := zdec_at bX1_isArray_0 11 rfl
theorem dX1_isArray_21 : decode cX1_isArray 21 = .ok (.ireturn, 1) := zdec_at bX1_isArray_0 12 rfl
theorem sX1_isArray_0 {E : zE} {d : Nat} {Q : zO → zM → Prop} (M : zM) (l1 : Int32) (l2 : Int32) (hw : cw M) (k : if l1 = (7 : Int32) then (vp_in l2 300 ∧ (if (gi M 38 (l2).toNatClampNeg) = (2 : Int32) then (Q (.inl (some (vi (1 : Int32)))) M) else (Q (.inl (some (vi (0 : Int32)))) M))) else (Q (.inl (some (vi (0 : Int32)))) M)) : Z E YX1_isArray d M [(0, vr (some (16, 0, 0))), (1, vi l1), (2, vi l2)] 0 [] Q := by
  refine z_iload_n dX1_isArray_0 rfl rfl ?_
  refine z_bipush (v := 7) dX1_isArray_1 rfl ?_
  refine z_icmp_ne (tgt := 20) dX1_isArray_3 rfl (fun h_ => ?_) (fun h_ => ?_)
  · have k := zif h_ k
    refine z_iconst (v := 0) dX1_isArray_20 rfl ?_
    exact z_iret dX1_isArray_21 rfl (by decide) k
  · have k := zit h_ k
    refine z_aload_n dX1_isArray_6 rfl rfl ?_
    refine z_getr dX1_isArray_7 fsX1_93_0 (show gr M 16 13 = some (38, 101, 300) from cw_at hw 6 rfl) ?_
    refine z_iload_n dX1_isArray_10 rfl rfl ?_
    obtain ⟨b_, k⟩ := k
    refine z_bald dX1_isArray_11 b_ ?_
    refine z_iconst (v := 2) dX1_isArray_12 rfl ?_
    refine z_icmp_ne (tgt := 20) dX1_isArray_13 rfl (fun h_ => ?_) (fun h_ => ?_)
    · have k := zif h_ k
      refine z_iconst (v := 0) dX1_isArray_20 rfl ?_
      exact z_iret dX1_isArray_21 rfl (by decide) k
    · have k := zit h_ k
      refine z_iconst (v := 1) dX1_isArray_16 rfl ?_
      refine z_goto (tgt := 21) dX1_isArray_17 rfl ?_
      exact z_iret dX1_isArray_21 rfl (by decide) k
/-! ScriptTypes.indexOf(I)I -/
theorem bX1_indexOf_0 : zdec cX1_indexOf 0 [(0, .aload_n 0, 1), (1, .getfield 19, 3), (4, .iload_n 1, 1), (5, .invokevirtual 23, 3), (8, .istore_n 2, 1), (9, .iload_n 2, 1), (10, .ifCond .eq 27, 3), (13, .iload_n 2, 1), (14, .iconst 2, 1), (15, .if_icmp .gt 22, 3), (18, .iload_n 2, 1), (19, .iconst 2, 1), (20, .if_icmp .ne 19, 3), (23, .aload_n 0, 1), (24, .getfield 19, 3), (27, .iload_n 1, 1)] = true := by decide +kernel
theorem dX1_indexOf_0 : decode cX1_indexOf 0 = .ok (.aload_n 0, 1) := zdec_at bX1_indexOf_0 0 rfl
theorem dX1_indexOf_1 : decode cX1_indexOf 1 = .ok (.getfield 19, 3) := zdec_at bX1_indexOf_0 1 rfl
theorem dX1_indexOf_4 : decode cX1_indexOf 4 = .ok (.iload_n 1, 1) := zdec_at bX1_indexOf_0 2 rfl
theorem dX1_indexOf_5 : decode cX1_indexOf 5 = .ok (.invokevirtual 23, 3) := zdec_at bX1_indexOf_0 3 rfl
theorem dX1_indexOf_8 : decode cX1_indexOf 8 = .ok (.istore_n 2, 1) := zdec_at bX1_indexOf_0 4 rfl
theorem dX1_indexOf_9 : decode cX1_indexOf 9 = .ok (.iload_n 2, 1) := zdec_at bX1_indexOf_0 5 rfl
theorem dX1_indexOf_10 : decode cX1_indexOf 10 = .ok (.ifCond .eq 27, 3) := zdec_at bX1_indexOf_0 6 rfl
theorem dX1_indexOf_13 : decode cX1_indexOf 13 = .ok (.iload_n 2, 1) := zdec_at bX1_indexOf_0 7 rfl
theorem dX1_indexOf_14 : decode cX1_indexOf 14 = .ok (.iconst 2, 1) := zdec_at bX1_indexOf_0 8 rfl
theorem dX1_indexOf_15 : decode cX1_indexOf 15 = .ok (.if_icmp .gt 22, 3) := zdec_at bX1_indexOf_0 9 rfl
theorem dX1_indexOf_18 : decode cX1_indexOf 18 = .ok (.iload_n 2, 1) := zdec_at bX1_indexOf_0 10 rfl
theorem dX1_indexOf_19 : decode cX1_indexOf 19 = .ok (.iconst 2, 1) := zdec_at bX1_indexOf_0 11 rfl
theorem dX1_indexOf_20 : decode cX1_indexOf 20 = .ok (.if_icmp .ne 19, 3) := zdec_at bX1_indexOf_0 12 rfl
theorem dX1_indexOf_23 : decode cX1_indexOf 23 = .ok (.aload_n 0, 1) := zdec_at bX1_indexOf_0 13 rfl
theorem dX1_indexOf_24 : decode cX1_indexOf 24 = .ok (.getfield 19, 3) := zdec_at bX1_indexOf_0 14 rfl
theorem dX1_indexOf_27 : decode cX1_indexOf 27 = .ok (.iload_n 1, 1) := zdec_at bX1_indexOf_0 15 rfl
theorem bX1_indexOf_28 : zdec cX1_indexOf 28 [(28, .iconst 0, 1), (29, .invokevirtual 29, 3), (32, .bipush 48, 2), (34, .if_icmp .ne 5, 3), (37, .iconst (-1), 1), (38, .ireturn, 1), (39, .iconst 0, 1), (40, .istore_n 3, 1), (41, .iconst 0, 1), (42, .istore 4, 2), (44, .iload 4, 2), (46, .iload_n 2, 1), (47, .if_icmp .ge 46, 3), (50, .aload_n 0, 1), (51, .getfield 19, 3), (54, .iload_n 1, 1)] = true := by decide +kernel
theorem dX1_indexOf_28 : decode cX1_indexOf 28 = .ok (.iconst 0, 1) := zdec_at bX1_indexOf_28 0 rfl
theorem dX1_indexOf_29 : decode cX1_indexOf 29 = .ok (.invokevirtual 29, 3) := zdec_at bX1_indexOf_28 1 rfl
theorem dX1_indexOf_32 : decode cX1_indexOf 32 = .ok (.bipush 48, 2) := zdec_at bX1_indexOf_28 2 rfl
theorem dX1_indexOf_34 : decode cX1_indexOf 34 = .ok (.if_icmp .ne 5, 3) := zdec_at bX1_indexOf_28 3 rfl
theorem dX1_indexOf_37 : decode cX1_indexOf 37 = .ok (.iconst (-1), 1) := zdec_at bX1_indexOf_28 4 rfl
theorem dX1_indexOf_38 : decode cX1_indexOf 38 = .ok (.ireturn, 1) := zdec_at bX1_indexOf_28 5 rfl
theorem dX1_indexOf_39 : decode cX1_indexOf 39 = .ok (.iconst 0, 1) := zdec_at bX1_indexOf_28 6 rfl
theorem dX1_indexOf_40 : decode cX1_indexOf 40 = .ok (.istore_n 3, 1) := zdec_at bX1_indexOf_28 7 rfl
theorem dX1_indexOf_41 : decode cX1_indexOf 41 = .ok (.iconst 0, 1) := zdec_at bX1_indexOf_28 8 rfl
theorem dX1_indexOf_42 : decode cX1_indexOf 42 = .ok (.istore 4, 2) := zdec_at bX1_indexOf_28 9 rfl
theorem dX1_indexOf_44 : decode cX1_indexOf 44 = .ok (.iload 4, 2) := zdec_at bX1_indexOf_28 10 rfl
theorem dX1_indexOf_46 : decode cX1_indexOf 46 = .ok (.iload_n 2, 1) := zdec_at bX1_indexOf_28 11 rfl
theorem dX1_indexOf_47 : decode cX1_indexOf 47 = .ok (.if_icmp .ge 46, 3) := zdec_at bX1_indexOf_28 12 rfl
theorem dX1_indexOf_50 : decode cX1_indexOf 50 = .ok (.aload_n 0, 1) := zdec_at bX1_indexOf_28 13 rfl
theorem dX1_indexOf_51 : decode cX1_indexOf 51 = .ok (.getfield 19, 3) := zdec_at bX1_indexOf_28 14 rfl
theorem dX1_indexOf_54 : decode cX1_indexOf 54 = .ok (.iload_n 1, 1) := zdec_at bX1_indexOf_28 15 rfl
theorem bX1_indexOf_55 : zdec cX1_indexOf 55 [(55, .iload 4, 2), (57, .invokevirtual 29, 3), (60, .invokestatic 267, 3), (63, .ifCond .ne 5, 3), (66, .iconst (-1), 1), (67, .ireturn, 1), (68, .bipush 10, 2), (70, .iload_n 3, 1), (71, .imul, 1), (72, .aload_n 0, 1), (73, .getfield 19, 3), (76, .iload_n 1, 1), (77, .iload 4, 2), (79, .invokevirtual 29, 3), (82, .iadd, 1), (83, .bipush 48, 2)] = true := by decide +kernel
theorem dX1_indexOf_55 : decode cX1_indexOf 55 = .ok (.iload 4, 2) := zdec_at bX1_indexOf_55 0 rfl
theorem dX1_indexOf_57 : decode cX1_indexOf 57 = .ok (.invokevirtual 29, 3) := zdec_at bX1_indexOf_55 1 rfl
theorem dX1_indexOf_60 : decode cX1_indexOf 60 = .ok (.invokestatic 267, 3) := zdec_at bX1_indexOf_55 2 rfl
theorem dX1_indexOf_63 : decode cX1_indexOf 63 = .ok (.ifCond .ne 5, 3) := zdec_at bX1_indexOf_55 3 rfl
theorem dX1_indexOf_66 : decode cX1_indexOf 66 = .ok (.iconst (-1), 1) := zdec_at bX1_indexOf_55 4 rfl
theorem dX1_indexOf_67 : decode cX1_indexOf 67 = .ok (.ireturn, 1) := zdec_at bX1_indexOf_55 5 rfl
theorem dX1_indexOf_68 : decode cX1_indexOf 68 = .ok (.bipush 10, 2) := zdec_at bX1_indexOf_55 6 rfl
theorem dX1_indexOf_70 : decode cX1_indexOf 70 = .ok (.iload_n 3, 1) := zdec_at bX1_indexOf_55 7 rfl
theorem dX1_indexOf_71 : decode cX1_indexOf 71 = .ok (.imul, 1) := zdec_at bX1_indexOf_55 8 rfl
theorem dX1_indexOf_72 : decode cX1_indexOf 72 = .ok (.aload_n 0, 1) := zdec_at bX1_indexOf_55 9 rfl
theorem dX1_indexOf_73 : decode cX1_indexOf 73 = .ok (.getfield 19, 3) := zdec_at bX1_indexOf_55 10 rfl
theorem dX1_indexOf_76 : decode cX1_indexOf 76 = .ok (.iload_n 1, 1) := zdec_at bX1_indexOf_55 11 rfl
theorem dX1_indexOf_77 : decode cX1_indexOf 77 = .ok (.iload 4, 2) := zdec_at bX1_indexOf_55 12 rfl
theorem dX1_indexOf_79 : decode cX1_indexOf 79 = .ok (.invokevirtual 29, 3) := zdec_at bX1_indexOf_55 13 rfl
theorem dX1_indexOf_82 : decode cX1_indexOf 82 = .ok (.iadd, 1) := zdec_at bX1_indexOf_55 14 rfl
theorem dX1_indexOf_83 : decode cX1_indexOf 83 = .ok (.bipush 48, 2) := zdec_at bX1_indexOf_55 15 rfl
theorem bX1_indexOf_85 : zdec cX1_indexOf 85 [(85, .isub, 1), (86, .istore_n 3, 1), (87, .iinc 4 1, 3), (90, .goto (-46), 3), (93, .iload_n 3, 1), (94, .ireturn, 1)] = true := by decide +kernel
theorem dX1_indexOf_85 : decode cX1_indexOf 85 = .ok (.isub, 1) := zdec_at bX1_indexOf_85 0 rfl
theorem dX1_indexOf_86 : decode cX1_indexOf 86 = .ok (.istore_n 3, 1) := zdec_at bX1_indexOf_85 1 rfl
theorem dX1_indexOf_87 : decode cX1_indexOf 87 = .ok (.iinc 4 1, 3) := zdec_at bX1_indexOf_85 2 rfl
theorem dX1_indexOf_90 : decode cX1_indexOf 90 = .ok (.goto (-46), 3) := zdec_at bX1_indexOf_85 3 rfl
theorem dX1_indexOf_93 : decode cX1_indexOf 93 = .ok (.iload_n 3, 1) := zdec_at bX1_indexOf_85 4 rfl
theorem dX1_indexOf_94 : decode cX1_indexOf 94 = .ok (.ireturn, 1) := zdec_at bX1_indexOf_85 5 rfl
theorem sX1_indexOf_0 {E : zE} {d : Nat} {Q : zO → zM → Prop} (M : zM) (l1 : Int32) (hw : cw M) (k : Z E YX2_length d M (zargs 0 [vr (some (17, 2, 0)), vi l1]) 0 [] (zafter E YX1_indexOf (d + 1) [(0, vr (some (16, 0, 0))), (1, vi l1)] 5 3 [] Q)) : Z E YX1_indexOf (d + 1) M [(0, vr (some (16, 0, 0))), (1, vi l1)] 0 [] Q := by
  refine z_aload_n dX1_indexOf_0 rfl rfl ?_
  refine z_getr dX1_indexOf_1 fsX1_19_0 (show gr M 16 0 = some (17, 2, 0) from cw_at hw 0 rfl) ?_
  refine z_iload_n dX1_indexOf_4 rfl rfl ?_
  exact z_callV (as := [vi l1]) (st := []) dX1_indexOf_5 vsX1_23_2 (Nat.le_refl _) (Nat.le_of_ble_eq_true rfl) (Nat.le_of_ble_eq_true rfl) rfl k
theorem sX1_indexOf_8 {E : zE} {d : Nat} {Q : zO → zM → Prop} (M : zM) (l1 : Int32) (s0 : Int32) (hw : cw M) (k : if s0 = 0 then (Q (.inl (some (vi (-1 : Int32)))) M) else (if (2 : Int32) < s0 then (Q (.inl (some (vi (-1 : Int32)))) M) else (if s0 = (2 : Int32) then (Z E YX2_sign d M (zargs 0 [vr (some (17, 2, 0)), vi l1, vi (0 : Int32)]) 0 [] (zafter E YX1_indexOf (d + 1) [(0, vr (some (16, 0, 0))), (1, vi l1), (2, vi s0)] 29 3 [] Q)) else (Z E YX1_indexOf (d + 1) M [(0, vr (some (16, 0, 0))), (1, vi l1), (2, vi s0), (3, vi (0 : Int32)), (4, vi (0 : Int32))] 44 [] Q)))) : Z E YX1_indexOf (d + 1) M [(0, vr (some (16, 0, 0))), (1, vi l1)] 8 [vi s0] Q := by
  refine z_ist_n dX1_indexOf_8 rfl (by decide) (lv' := [(0, vr (some (16, 0, 0))), (1, vi l1), (2, vi s0)]) rfl ?_
  refine z_iload_n dX1_indexOf_9 rfl rfl ?_
  refine z_if_eq (tgt := 37) dX1_indexOf_10 rfl (fun h_ => ?_) (fun h_ => ?_)
  · have k := zit h_ k
    refine z_iconst (v := -1) dX1_indexOf_37 rfl ?_
    exact z_iret dX1_indexOf_38 rfl rfl k
  · have k := zif h_ k
    refine z_iload_n dX1_indexOf_13 rfl rfl ?_
    refine z_iconst (v := 2) dX1_indexOf_14 rfl ?_
    refine z_icmp_gt (tgt := 37) dX1_indexOf_15 rfl (fun h_ => ?_) (fun h_ => ?_)
    · have k := zit h_ k
      refine z_iconst (v := -1) dX1_indexOf_37 rfl ?_
      exact z_iret dX1_indexOf_38 rfl rfl k
    · have k := zif h_ k
      refine z_iload_n dX1_indexOf_18 rfl rfl ?_
      refine z_iconst (v := 2) dX1_indexOf_19 rfl ?_
      refine z_icmp_ne (tgt := 39) dX1_indexOf_20 rfl (fun h_ => ?_) (fun h_ => ?_)
      · have k := zif h_ k
        refine z_iconst (v := 0) dX1_indexOf_39 rfl ?_
        refine z_ist_n dX1_indexOf_40 rfl (by decide) (lv' := [(0, vr (some (16, 0, 0))), (1, vi l1), (2, vi s0), (3, vi (0 : Int32))]) rfl ?_
        refine z_iconst (v := 0) dX1_indexOf_41 rfl ?_
        refine z_ist dX1_indexOf_42 (by decide) (lv' := [(0, vr (some (16, 0, 0))), (1, vi l1), (2, vi s0), (3, vi (0 : Int32)), (4, vi (0 : Int32))]) rfl ?_
        exact k
      · have k := zit h_ k
        refine z_aload_n dX1_indexOf_23 rfl rfl ?_
        refine z_getr dX1_indexOf_24 fsX1_19_0 (show gr M 16 0 = some (17, 2, 0) from cw_at hw 0 rfl) ?_
        refine z_iload_n dX1_indexOf_27 rfl rfl ?_
        refine z_iconst (v := 0) dX1_indexOf_28 rfl ?_
        exact z_callV (as := [vi l1, vi (0 : Int32)]) (st := []) dX1_indexOf_29 vsX1_29_2 (Nat.le_refl _) (Nat.le_of_ble_eq_true rfl) (Nat.le_of_ble_eq_true rfl) rfl k
theorem sX1_indexOf_32 {E : zE} {d : Nat} {Q : zO → zM → Prop} (M : zM) (l1 : Int32) (l2 : Int32) (s0 : Int32) (hw : cw M) (k : if s0 = (48 : Int32) then (Q (.inl (some (vi (-1 : Int32)))) M) else (Z E YX1_indexOf (d + 1) M [(0, vr (some (16, 0, 0))), (1, vi l1), (2, vi l2), (3, vi (0 : Int32)), (4, vi (0 : Int32))] 44 [] Q)) : Z E YX1_indexOf (d + 1) M [(0, vr (some (16, 0, 0))), (1, vi l1), (2, vi l2)] 32 [vi s0] Q := by
  refine z_bipush (v := 48) dX1_indexOf_32 rfl ?_
  refine z_icmp_ne (tgt := 39) dX1_indexOf_34 rfl (fun h_ => ?_) (fun h_ => ?_)
  · have k := zif h_ k
    refine z_iconst (v := 0) dX1_indexOf_39 rfl ?_
    refine z_ist_n dX1_indexOf_40 rfl (by decide) (lv' := [(0, vr (some (16, 0, 0))), (1, vi l1), (2, vi l2), (3, vi (0 : Int32))]) rfl ?_
    refine z_iconst (v := 0) dX1_indexOf_41 rfl ?_
    refine z_ist dX1_indexOf_42 (by decide) (lv' := [(0, vr (some (16, 0, 0))), (1, vi l1), (2, vi l2), (3, vi (0 : Int32)), (4, vi (0 : Int32))]) rfl ?_
    exact k
  · have k := zit h_ k
    refine z_iconst (v := -1) dX1_indexOf_37 rfl ?_
    exact z_iret dX1_indexOf_38 rfl rfl k
theorem sX1_indexOf_44 {E : zE} {d : Nat} {Q : zO → zM → Prop} (M : zM) (l1 : Int32) (l2 : Int32) (l3 : Int32) (l4 : Int32) (hw : cw M) (k : if l2 ≤ l4 then (Q (.inl (some (vi l3))) M) else (Z E YX2_sign d M (zargs 0 [vr (some (17, 2, 0)), vi l1, vi l4]) 0 [] (zafter E YX1_indexOf (d + 1) [(0, vr (some (16, 0, 0))), (1, vi l1), (2, vi l2), (3, vi l3), (4, vi l4)] 57 3 [] Q))) : Z E YX1_indexOf (d + 1) M [(0, vr (some (16, 0, 0))), (1, vi l1), (2, vi l2), (3, vi l3), (4, vi l4)] 44 [] Q := by
  refine z_iload dX1_indexOf_44 rfl ?_
  refine z_iload_n dX1_indexOf_46 rfl rfl ?_
  refine z_icmp_ge (tgt := 93) dX1_indexOf_47 rfl (fun h_ => ?_) (fun h_ => ?_)
  · have k := zit h_ k
    refine z_iload_n dX1_indexOf_93 rfl rfl ?_
    exact z_iret dX1_indexOf_94 rfl rfl k
  · have k := zif h_ k
    refine z_aload_n dX1_indexOf_50 rfl rfl ?_
    refine z_getr dX1_indexOf_51 fsX1_19_0 (show gr M 16 0 = some (17, 2, 0) from cw_at hw 0 rfl) ?_
    refine z_iload_n dX1_indexOf_54 rfl rfl ?_
    refine z_iload dX1_indexOf_55 rfl ?_
    exact z_callV (as := [vi l1, vi l4]) (st := []) dX1_indexOf_57 vsX1_29_2 (Nat.le_refl _) (Nat.le_of_ble_eq_true rfl) (Nat.le_of_ble_eq_true rfl) rfl k
theorem sX1_indexOf_60 {E : zE} {d : Nat} {Q : zO → zM → Prop} (M : zM) (l1 : Int32) (l2 : Int32) (l3 : Int32) (l4 : Int32) (s0 : Int32) (hw : cw M) (k : Z E YX1_digit d M (zargs 0 [vi s0]) 0 [] (zafter E YX1_indexOf (d + 1) [(0, vr (some (16, 0, 0))), (1, vi l1), (2, vi l2), (3, vi l3), (4, vi l4)] 60 3 [] Q)) : Z E YX1_indexOf (d + 1) M [(0, vr (some (16, 0, 0))), (1, vi l1), (2, vi l2), (3, vi l3), (4, vi l4)] 60 [vi s0] Q := by
  exact z_callS (as := [vi s0]) (st := []) dX1_indexOf_60 ssX1_267 (Nat.le_refl _) (Nat.le_of_ble_eq_true rfl) (Nat.le_of_ble_eq_true rfl) rfl k
theorem sX1_indexOf_63 {E : zE} {d : Nat} {Q : zO → zM → Prop} (M : zM) (l1 : Int32) (l2 : Int32) (l3 : Int32) (l4 : Int32) (s0 : Int32) (hw : cw M) (k : if s0 = 0 then (Q (.inl (some (vi (-1 : Int32)))) M) else (Z E YX2_sign d M (zargs 0 [vr (some (17, 2, 0)), vi l1, vi l4]) 0 [] (zafter E YX1_indexOf (d + 1) [(0, vr (some (16, 0, 0))), (1, vi l1), (2, vi l2), (4, vi l4)] 79 3 [vi ((10 : Int32) * l3)] Q))) : Z E YX1_indexOf (d + 1) M [(0, vr (some (16, 0, 0))), (1, vi l1), (2, vi l2), (3, vi l3), (4, vi l4)] 63 [vi s0] Q := by
  refine z_if_ne (tgt := 68) dX1_indexOf_63 rfl (fun h_ => ?_) (fun h_ => ?_)
  · have k := zif h_ k
    refine z_bipush (v := 10) dX1_indexOf_68 rfl ?_
    refine z_iload_n dX1_indexOf_70 rfl rfl ?_
    refine z_imul dX1_indexOf_71 ?_
    refine z_aload_n dX1_indexOf_72 rfl rfl ?_
    refine z_getr dX1_indexOf_73 fsX1_19_0 (show gr M 16 0 = some (17, 2, 0) from cw_at hw 0 rfl) ?_
    refine z_iload_n dX1_indexOf_76 rfl rfl ?_
    refine z_iload dX1_indexOf_77 rfl ?_
    refine Z.pick [0, 1, 2, 4] rfl ?_
    exact z_callV (as := [vi l1, vi l4]) (st := [vi ((10 : Int32) * l3)]) dX1_indexOf_79 vsX1_29_2 (Nat.le_refl _) (Nat.le_of_ble_eq_true rfl) (Nat.le_of_ble_eq_true rfl) rfl k
  · have k := zit h_ k
    refine z_iconst (v := -1) dX1_indexOf_66 rfl ?_
    exact z_iret dX1_indexOf_67 rfl rfl k
theorem sX1_indexOf_82 {E : zE} {d : Nat} {Q : zO → zM → Prop} (M : zM) (l1 : Int32) (l2 : Int32) (l4 : Int32) (s0 : Int32) (s1 : Int32) (hw : cw M) (k : Z E YX1_indexOf (d + 1) M [(0, vr (some (16, 0, 0))), (1, vi l1), (2, vi l2), (3, vi ((s1 + s0) - (48 : Int32))), (4, vi (l4 + (1 : Int32)))] 44 [] Q) : Z E YX1_indexOf (d + 1) M [(0, vr (some (16, 0, 0))), (1, vi l1), (2, vi l2), (4, vi l4)] 82 [vi s0, vi s1] Q := by
  refine z_iadd dX1_indexOf_82 ?_
  refine z_bipush (v := 48) dX1_indexOf_83 rfl ?_
  refine z_isub dX1_indexOf_85 ?_
  refine z_ist_n dX1_indexOf_86 rfl (by decide) (lv' := [(0, vr (some (16, 0, 0))), (1, vi l1), (2, vi l2), (3, vi ((s1 + s0) - (48 : Int32))), (4, vi l4)]) rfl ?_
  refine z_inc (v := (l4 + (1 : Int32))) dX1_indexOf_87 rfl rfl (by decide) (lv' := [(0, vr (some (16, 0, 0))), (1, vi l1), (2, vi l2), (3, vi ((s1 + s0) - (48 : Int32))), (4, vi (l4 + (1 : Int32)))]) rfl ?_
  refine z_goto (tgt := 44) dX1_indexOf_90 rfl ?_
  exact k
/-! ScriptTypes.deleteIn()V -/
theorem bX1_deleteIn_0 : zdec cX1_deleteIn 0 [(0, .aload_n 0, 1), (1, .getfield 148, 3), (4, .aload_n 0, 1), (5, .getfield 440, 3), (8, .iconst 2, 1), (9, .isub, 1), (10, .baload, 1), (11, .istore_n 1, 1), (12, .aload_n 0, 1), (13, .getfield 151, 3), (16, .aload_n 0, 1), (17, .getfield 440, 3), (20, .iconst 2, 1), (21, .isub, 1), (22, .iaload, 1), (23, .istore_n 2, 1)] = true := by decide +kernel
theorem dX1_deleteIn_0 : decode cX1_deleteIn 0 = .ok (.aload_n 0, 1) := zdec_at bX1_deleteIn_0 0 rfl
theorem dX1_deleteIn_1 : decode cX1_deleteIn 1 = .ok (.getfield 148, 3) := zdec_at bX1_deleteIn_0 1 rfl
theorem dX1_deleteIn_4 : decode cX1_deleteIn 4 = .ok (.aload_n 0, 1) := zdec_at bX1_deleteIn_0 2 rfl
theorem dX1_deleteIn_5 : decode cX1_deleteIn 5 = .ok (.getfield 440, 3) := zdec_at bX1_deleteIn_0 3 rfl
theorem dX1_deleteIn_8 : decode cX1_deleteIn 8 = .ok (.iconst 2, 1) := zdec_at bX1_deleteIn_0 4 rfl
theorem dX1_deleteIn_9 : decode cX1_deleteIn 9 = .ok (.isub, 1) := zdec_at bX1_deleteIn_0 5 rfl
theorem dX1_deleteIn_10 : decode cX1_deleteIn 10 = .ok (.baload, 1) := zdec_at bX1_deleteIn_0 6 rfl
theorem dX1_deleteIn_11 : decode cX1_deleteIn 11 = .ok (.istore_n 1, 1) := zdec_at bX1_deleteIn_0 7 rfl
theorem dX1_deleteIn_12 : decode cX1_deleteIn 12 = .ok (.aload_n 0, 1) := zdec_at bX1_deleteIn_0 8 rfl
theorem dX1_deleteIn_13 : decode cX1_deleteIn 13 = .ok (.getfield 151, 3) := zdec_at bX1_deleteIn_0 9 rfl
theorem dX1_deleteIn_16 : decode cX1_deleteIn 16 = .ok (.aload_n 0, 1) := zdec_at bX1_deleteIn_0 10 rfl
theorem dX1_deleteIn_17 : decode cX1_deleteIn 17 = .ok (.getfield 440, 3) := zdec_at bX1_deleteIn_0 11 rfl
theorem dX1_deleteIn_20 : decode cX1_deleteIn 20 = .ok (.iconst 2, 1) := zdec_at bX1_deleteIn_0 12 rfl
theorem dX1_deleteIn_21 : decode cX1_deleteIn 21 = .ok (.isub, 1) := zdec_at bX1_deleteIn_0 13 rfl
theorem dX1_deleteIn_22 : decode cX1_deleteIn 22 = .ok (.iaload, 1) := zdec_at bX1_deleteIn_0 14 rfl
theorem dX1_deleteIn_23 : decode cX1_deleteIn 23 = .ok (.istore_n 2, 1) := zdec_at bX1_deleteIn_0 15 rfl
theorem bX1_deleteIn_24 : zdec cX1_deleteIn 24 [(24, .aload_n 0, 1), (25, .aload_n 0, 1), (26, .getfield 148, 3), (29, .aload_n 0, 1), (30, .getfield 440, 3), (33, .iconst 1, 1), (34, .isub, 1), (35, .baload, 1), (36, .aload_n 0, 1), (37, .getfield 151, 3), (40, .aload_n 0, 1), (41, .getfield 440, 3), (44, .iconst 1, 1), (45, .isub, 1), (46, .iaload, 1), (47, .invokevirtual 541, 3)] = true := by decide +kernel
theorem dX1_deleteIn_24 : decode cX1_deleteIn 24 = .ok (.aload_n 0, 1) := zdec_at bX1_deleteIn_24 0 rfl
theorem dX1_deleteIn_25 : decode cX1_deleteIn 25 = .ok (.aload_n 0, 1) := zdec_at bX1_deleteIn_24 1 rfl
theorem dX1_deleteIn_26 : decode cX1_deleteIn 26 = .ok (.getfield 148, 3) := zdec_at bX1_deleteIn_24 2 rfl
theorem dX1_deleteIn_29 : decode cX1_deleteIn 29 = .ok (.aload_n 0, 1) := zdec_at bX1_deleteIn_24 3 rfl
theorem dX1_deleteIn_30 : decode cX1_deleteIn 30 = .ok (.getfield 440, 3) := zdec_at bX1_deleteIn_24 4 rfl
theorem dX1_deleteIn_33 : decode cX1_deleteIn 33 = .ok (.iconst 1, 1) := zdec_at bX1_deleteIn_24 5 rfl
theorem dX1_deleteIn_34 : decode cX1_deleteIn 34 = .ok (.isub, 1) := zdec_at bX1_deleteIn_24 6 rfl
theorem dX1_deleteIn_35 : decode cX1_deleteIn 35 = .ok (.baload, 1) := zdec_at bX1_deleteIn_24 7 rfl
theorem dX1_deleteIn_36 : decode cX1_deleteIn 36 = .ok (.aload_n 0, 1) := zdec_at bX1_deleteIn_24 8 rfl
theorem dX1_deleteIn_37 : decode cX1_deleteIn 37 = .ok (.getfield 151, 3) := zdec_at bX1_deleteIn_24 9 rfl
theorem dX1_deleteIn_40 : decode cX1_deleteIn 40 = .ok (.aload_n 0, 1) := zdec_at bX1_deleteIn_24 10 rfl
theorem dX1_deleteIn_41 : decode cX1_deleteIn 41 = .ok (.getfield 440, 3) := zdec_at bX1_deleteIn_24 11 rfl
theorem dX1_deleteIn_44 : decode cX1_deleteIn 44 = .ok (.iconst 1, 1) := zdec_at bX1_deleteIn_24 12 rfl
theorem dX1_deleteIn_45 : decode cX1_deleteIn 45 = .ok (.isub, 1) := zdec_at bX1_deleteIn_24 13 rfl
theorem dX1_deleteIn_46 : decode cX1_deleteIn 46 = .ok (.iaload, 1) := zdec_at bX1_deleteIn_24 14 rfl
theorem dX1_deleteIn_47 : decode cX1_deleteIn 47 = .ok (.invokevirtual 541, 3) := zdec_at bX1_deleteIn_24 15 rfl
theorem bX1_deleteIn_50 : zdec cX1_deleteIn 50 [(50, .istore_n 3, 1), (51, .iload_n 1, 1), (52, .iconst 2, 1), (53, .if_icmp .ge 9, 3), (56, .aload_n 0, 1), (57, .iconst 0, 1), (58, .invokevirtual 482, 3), (61, .athrow, 1), (62, .aload_n 0, 1), (63, .iload_n 1, 1), (64, .iload_n 2, 1), (65, .invokevirtual 549, 3), (68, .ifCond .eq 11, 3), (71, .iload_n 3, 1), (72, .ifCond .ne 7, 3), (75, .iconst 1, 1)] = true := by decide +kernel
theorem dX1_deleteIn_50 : decode cX1_deleteIn 50 = .ok (.istore_n 3, 1) := zdec_at bX1_deleteIn_50 0 rfl
theorem dX1_deleteIn_51 : decode cX1_deleteIn 51 = .ok (.iload_n 1, 1) := zdec_at bX1_deleteIn_50 1 rfl
theorem dX1_deleteIn_52 : decode cX1_deleteIn 52 = .ok (.iconst 2, 1) := zdec_at bX1_deleteIn_50 2 rfl
theorem dX1_deleteIn_53 : decode cX1_deleteIn 53 = .ok (.if_icmp .ge 9, 3) := zdec_at bX1_deleteIn_50 3 rfl
theorem dX1_deleteIn_56 : decode cX1_deleteIn 56 = .ok (.aload_n 0, 1) := zdec_at bX1_deleteIn_50 4 rfl
theorem dX1_deleteIn_57 : decode cX1_deleteIn 57 = .ok (.iconst 0, 1) := zdec_at bX1_deleteIn_50 5 rfl
theorem dX1_deleteIn_58 : decode cX1_deleteIn 58 = .ok (.invokevirtual 482, 3) := zdec_at bX1_deleteIn_50 6 rfl
theorem dX1_deleteIn_61 : decode cX1_deleteIn 61 = .ok (.athrow, 1) := zdec_at bX1_deleteIn_50 7 rfl
theorem dX1_deleteIn_62 : decode cX1_deleteIn 62 = .ok (.aload_n 0, 1) := zdec_at bX1_deleteIn_50 8 rfl
theorem dX1_deleteIn_63 : decode cX1_deleteIn 63 = .ok (.iload_n 1, 1) := zdec_at bX1_deleteIn_50 9 rfl
theorem dX1_deleteIn_64 : decode cX1_deleteIn 64 = .ok (.iload_n 2, 1) := zdec_at bX1_deleteIn_50 10 rfl
theorem dX1_deleteIn_65 : decode cX1_deleteIn 65 = .ok (.invokevirtual 549, 3) := zdec_at bX1_deleteIn_50 11 rfl
theorem dX1_deleteIn_68 : decode cX1_deleteIn 68 = .ok (.ifCond .eq 11, 3) := zdec_at bX1_deleteIn_50 12 rfl
theorem dX1_deleteIn_71 : decode cX1_deleteIn 71 = .ok (.iload_n 3, 1) := zdec_at bX1_deleteIn_50 13 rfl
theorem dX1_deleteIn_72 : decode cX1_deleteIn 72 = .ok (.ifCond .ne 7, 3) := zdec_at bX1_deleteIn_50 14 rfl
theorem dX1_deleteIn_75 : decode cX1_deleteIn 75 = .ok (.iconst 1, 1) := zdec_at bX1_deleteIn_50 15 rfl
theorem bX1_deleteIn_76 : zdec cX1_deleteIn 76 [(76, .goto 4, 3), (79, .iconst 0, 1), (80, .istore 4, 2), (82, .iload_n 1, 1), (83, .bipush 7, 2), (85, .if_icmp .ne 14, 3), (88, .iload 4, 2), (90, .ifCond .ne 9, 3), (93, .aload_n 0, 1), (94, .iload_n 2, 1), (95, .iload_n 3, 1), (96, .invokevirtual 555, 3), (99, .aload_n 0, 1), (100, .iload 4, 2), (102, .ifCond .ne 7, 3), (105, .iconst 1, 1)] = true := by decide +kernel
theorem dX1_deleteIn_76 : decode cX1_deleteIn 76 = .ok (.goto 4, 3) := zdec_at bX1_deleteIn_76 0 rfl
theorem dX1_deleteIn_79 : decode cX1_deleteIn 79 = .ok (.iconst 0, 1) := zdec_at bX1_deleteIn_76 1 rfl
theorem dX1_deleteIn_80 : decode cX1_deleteIn 80 = .ok (.istore 4, 2) := zdec_at bX1_deleteIn_76 2 rfl
theorem dX1_deleteIn_82 : decode cX1_deleteIn 82 = .ok (.iload_n 1, 1) := zdec_at bX1_deleteIn_76 3 rfl
theorem dX1_deleteIn_83 : decode cX1_deleteIn 83 = .ok (.bipush 7, 2) := zdec_at bX1_deleteIn_76 4 rfl
theorem dX1_deleteIn_85 : decode cX1_deleteIn 85 = .ok (.if_icmp .ne 14, 3) := zdec_at bX1_deleteIn_76 5 rfl
theorem dX1_deleteIn_88 : decode cX1_deleteIn 88 = .ok (.iload 4, 2) := zdec_at bX1_deleteIn_76 6 rfl
theorem dX1_deleteIn_90 : decode cX1_deleteIn 90 = .ok (.ifCond .ne 9, 3) := zdec_at bX1_deleteIn_76 7 rfl
theorem dX1_deleteIn_93 : decode cX1_deleteIn 93 = .ok (.aload_n 0, 1) := zdec_at bX1_deleteIn_76 8 rfl
theorem dX1_deleteIn_94 : decode cX1_deleteIn 94 = .ok (.iload_n 2, 1) := zdec_at bX1_deleteIn_76 9 rfl
theorem dX1_deleteIn_95 : decode cX1_deleteIn 95 = .ok (.iload_n 3, 1) := zdec_at bX1_deleteIn_76 10 rfl
theorem dX1_deleteIn_96 : decode cX1_deleteIn 96 = .ok (.invokevirtual 555, 3) := zdec_at bX1_deleteIn_76 11 rfl
theorem dX1_deleteIn_99 : decode cX1_deleteIn 99 = .ok (.aload_n 0, 1) := zdec_at bX1_deleteIn_76 12 rfl
theorem dX1_deleteIn_100 : decode cX1_deleteIn 100 = .ok (.iload 4, 2) := zdec_at bX1_deleteIn_76 13 rfl
theorem dX1_deleteIn_102 : decode cX1_deleteIn 102 = .ok (.ifCond .ne 7, 3) := zdec_at bX1_deleteIn_76 14 rfl
theorem dX1_deleteIn_105 : decode cX1_deleteIn 105 = .ok (.iconst 1, 1) := zdec_at bX1_deleteIn_76 15 rfl
theorem bX1_deleteIn_106 : zdec cX1_deleteIn 106 [(106, .goto 4, 3), (109, .iconst 0, 1), (110, .invokevirtual 405, 3), (113, .aload_n 0, 1), (114, .iconst 2, 1), (115, .invokevirtual 508, 3), (118, .return_, 1)] = true := by decide +kernel
theorem dX1_deleteIn_106 : decode cX1_deleteIn 106 = .ok (.goto 4, 3) := zdec_at bX1_deleteIn_106 0 rfl
theorem dX1_deleteIn_109 : decode cX1_deleteIn 109 = .ok (.iconst 0, 1) := zdec_at bX1_deleteIn_106 1 rfl
theorem dX1_deleteIn_110 : decode cX1_deleteIn 110 = .ok (.invokevirtual 405, 3) := zdec_at bX1_deleteIn_106 2 rfl
theorem dX1_deleteIn_113 : decode cX1_deleteIn 113 = .ok (.aload_n 0, 1) := zdec_at bX1_deleteIn_106 3 rfl
theorem dX1_deleteIn_114 : decode cX1_deleteIn 114 = .ok (.iconst 2, 1) := zdec_at bX1_deleteIn_106 4 rfl
theorem dX1_deleteIn_115 : decode cX1_deleteIn 115 = .ok (.invokevirtual 508, 3) := zdec_at bX1_deleteIn_106 5 rfl
theorem dX1_deleteIn_118 : decode cX1_deleteIn 118 = .ok (.return_, 1) := zdec_at bX1_deleteIn_106 6 rfl
theorem sX1_deleteIn_0 {E : zE} {d : Nat} {Q : zO → zM → Prop} (M : zM)  (hw : cw M) (k : vp_in ((gi M 16 38) - (2 : Int32)) 14500 ∧ (vp_in ((gi M 16 38) - (2 : Int32)) 14500 ∧ (vp_in ((gi M 16 38) - (1 : Int32)) 14500 ∧ (vp_in ((gi M 16 38) - (1 : Int32)) 14500 ∧ (Z E YX1_textOf d M (zargs 0 [vr (some (16, 0, 0)), vi (gi M 53 (((gi M 16 38) - (1 : Int32))).toNatClampNeg), vi (gi M 54 (((gi M 16 38) - (1 : Int32))).toNatClampNeg)]) 0 [] (zafter E YX1_deleteIn (d + 1) [(0, vr (some (16, 0, 0))), (1, vi (gi M 53 (((gi M 16 38) - (2 : Int32))).toNatClampNeg)), (2, vi (gi M 54 (((gi M 16 38) - (2 : Int32))).toNatClampNeg))] 47 3 [] Q)))))) : Z E YX1_deleteIn (d + 1) M [(0, vr (some (16, 0, 0)))] 0 [] Q := by
  refine z_aload_n dX1_deleteIn_0 rfl rfl ?_
  refine z_getr dX1_deleteIn_1 fsX1_148_0 (show gr M 16 34 = some (53, 101, 14500) from cw_at hw 21 rfl) ?_
  refine z_aload_n dX1_deleteIn_4 rfl rfl ?_
  refine z_geti dX1_deleteIn_5 fsX1_440_0 ?_
  refine z_iconst (v := 2) dX1_deleteIn_8 rfl ?_
  refine z_isub dX1_deleteIn_9 ?_
  obtain ⟨b_, k⟩ := k
  refine z_bald dX1_deleteIn_10 b_ ?_
  refine z_ist_n dX1_deleteIn_11 rfl (by decide) (lv' := [(0, vr (some (16, 0, 0))), (1, vi (gi M 53 (((gi M 16 38) - (2 : Int32))).toNatClampNeg))]) rfl ?_
  refine z_aload_n dX1_deleteIn_12 rfl rfl ?_
  refine z_getr dX1_deleteIn_13 fsX1_151_0 (show gr M 16 35 = some (54, 100, 14500) from cw_at hw 22 rfl) ?_
  refine z_aload_n dX1_deleteIn_16 rfl rfl ?_
  refine z_geti dX1_deleteIn_17 fsX1_440_0 ?_
  refine z_iconst (v := 2) dX1_deleteIn_20 rfl ?_
  refine z_isub dX1_deleteIn_21 ?_
  obtain ⟨b_, k⟩ := k
  refine z_iald dX1_deleteIn_22 b_ ?_
  refine z_ist_n dX1_deleteIn_23 rfl (by decide) (lv' := [(0, vr (some (16, 0, 0))), (1, vi (gi M 53 (((gi M 16 38) - (2 : Int32))).toNatClampNeg)), (2, vi (gi M 54 (((gi M 16 38) - (2 : Int32))).toNatClampNeg))]) rfl ?_
  refine z_aload_n dX1_deleteIn_24 rfl rfl ?_
  refine z_aload_n dX1_deleteIn_25 rfl rfl ?_
  refine z_getr dX1_deleteIn_26 fsX1_148_0 (show gr M 16 34 = some (53, 101, 14500) from cw_at hw 21 rfl) ?_
  refine z_aload_n dX1_deleteIn_29 rfl rfl ?_
  refine z_geti dX1_deleteIn_30 fsX1_440_0 ?_
  refine z_iconst (v := 1) dX1_deleteIn_33 rfl ?_
  refine z_isub dX1_deleteIn_34 ?_
  obtain ⟨b_, k⟩ := k
  refine z_bald dX1_deleteIn_35 b_ ?_
  refine z_aload_n dX1_deleteIn_36 rfl rfl ?_
  refine z_getr dX1_deleteIn_37 fsX1_151_0 (show gr M 16 35 = some (54, 100, 14500) from cw_at hw 22 rfl) ?_
  refine z_aload_n dX1_deleteIn_40 rfl rfl ?_
  refine z_geti dX1_deleteIn_41 fsX1_440_0 ?_
  refine z_iconst (v := 1) dX1_deleteIn_44 rfl ?_
  refine z_isub dX1_deleteIn_45 ?_
  obtain ⟨b_, k⟩ := k
  refine z_iald dX1_deleteIn_46 b_ ?_
  exact z_callV (as := [vi (gi M 53 (((gi M 16 38) - (1 : Int32))).toNatClampNeg), vi (gi M 54 (((gi M 16 38) - (1 : Int32))).toNatClampNeg)]) (st := []) dX1_deleteIn_47 vsX1_541_0 (Nat.le_refl _) (Nat.le_of_ble_eq_true rfl) (Nat.le_of_ble_eq_true rfl) rfl k
theorem sX1_deleteIn_50 {E : zE} {d : Nat} {Q : zO → zM → Prop} (M : zM) (l1 : Int32) (l2 : Int32) (s0 : Int32) (hw : cw M) (k : if (2 : Int32) ≤ l1 then (Z E YX1_isArray d M (zargs 0 [vr (some (16, 0, 0)), vi l1, vi l2]) 0 [] (zafter E YX1_deleteIn (d + 1) [(0, vr (some (16, 0, 0))), (1, vi l1), (2, vi l2), (3, vi s0)] 65 3 [] Q)) else (Z E YX1_error d M (zargs 0 [vr (some (16, 0, 0)), vi (0 : Int32)]) 0 [] (zafter E YX1_deleteIn (d + 1) [] 58 3 [] Q))) : Z E YX1_deleteIn (d + 1) M [(0, vr (some (16, 0, 0))), (1, vi l1), (2, vi l2)] 50 [vi s0] Q := by
  refine z_ist_n dX1_deleteIn_50 rfl (by decide) (lv' := [(0, vr (some (16, 0, 0))), (1, vi l1), (2, vi l2), (3, vi s0)]) rfl ?_
  refine z_iload_n dX1_deleteIn_51 rfl rfl ?_
  refine z_iconst (v := 2) dX1_deleteIn_52 rfl ?_
  refine z_icmp_ge (tgt := 62) dX1_deleteIn_53 rfl (fun h_ => ?_) (fun h_ => ?_)
  · have k := zit h_ k
    refine z_aload_n dX1_deleteIn_62 rfl rfl ?_
    refine z_iload_n dX1_deleteIn_63 rfl rfl ?_
    refine z_iload_n dX1_deleteIn_64 rfl rfl ?_
    exact z_callV (as := [vi l1, vi l2]) (st := []) dX1_deleteIn_65 vsX1_549_0 (Nat.le_refl _) (Nat.le_of_ble_eq_true rfl) (Nat.le_of_ble_eq_true rfl) rfl k
  · have k := zif h_ k
    refine z_aload_n dX1_deleteIn_56 rfl rfl ?_
    refine z_iconst (v := 0) dX1_deleteIn_57 rfl ?_
    refine Z.pick [] rfl ?_
    exact z_callV (as := [vi (0 : Int32)]) (st := []) dX1_deleteIn_58 vsX1_482_0 (Nat.le_refl _) (Nat.le_of_ble_eq_true rfl) (Nat.le_of_ble_eq_true rfl) rfl k
theorem sX1_deleteIn_61 {E : zE} {d : Nat} {Q : zO → zM → Prop} (M : zM) (u0 : Option zP) (hw : cw M) (k : ∃ b1 : Nat, u0 = some (b1, 14, 0) ∧ (Q (.inr (b1, 14, 0)) M)) : Z E YX1_deleteIn (d + 1) M [] 61 [vr u0] Q := by
  obtain ⟨b1, e1_, k⟩ := k
  refine Z.eqs (lv' := []) (st' := [vr (some (b1, 14, 0))]) rfl (by rw [e1_] <;> rfl) ?_
  exact z_athrow dX1_deleteIn_61 (ZT.out (by decide) k)
theorem sX1_deleteIn_68 {E : zE} {d : Nat} {Q : zO → zM → Prop} (M : zM) (l1 : Int32) (l2 : Int32) (l3 : Int32) (s0 : Int32) (hw : cw M) (k : if s0 = 0 then (Z E YX1_deleteIn (d + 1) M [(0, vr (some (16, 0, 0))), (1, vi l1), (2, vi l2), (3, vi l3)] 80 [vi (0 : Int32)] Q) else (if l3 = 0 then (Z E YX1_deleteIn (d + 1) M [(0, vr (some (16, 0, 0))), (1, vi l1), (2, vi l2), (3, vi l3)] 80 [vi (1 : Int32)] Q) else (Z E YX1_deleteIn (d + 1) M [(0, vr (some (16, 0, 0))), (1, vi l1), (2, vi l2), (3, vi l3)] 80 [vi (0 : Int32)] Q))) : Z E YX1_deleteIn (d + 1) M [(0, vr (some (16, 0, 0))), (1, vi l1), (2, vi l2), (3, vi l3)] 68 [vi s0] Q := by
  refine z_if_eq (tgt := 79) dX1_deleteIn_68 rfl (fun h_ => ?_) (fun h_ => ?_)
  · have k := zit h_ k
    refine z_iconst (v := 0) dX1_deleteIn_79 rfl ?_
    exact k
  · have k := zif h_ k
    refine z_iload_n dX1_deleteIn_71 rfl rfl ?_
    refine z_if_ne (tgt := 79) dX1_deleteIn_72 rfl (fun h_ => ?_) (fun h_ => ?_)
    · have k := zif h_ k
      refine z_iconst (v := 0) dX1_deleteIn_79 rfl ?_
      exact k
    · have k := zit h_ k
      refine z_iconst (v := 1) dX1_deleteIn_75 rfl ?_
      refine z_goto (tgt := 80) dX1_deleteIn_76 rfl ?_
      exact k
theorem sX1_deleteIn_80 {E : zE} {d : Nat} {Q : zO → zM → Prop} (M : zM) (l1 : Int32) (l2 : Int32) (l3 : Int32) (s0 : Int32) (hw : cw M) (k : if l1 = (7 : Int32) then (if s0 = 0 then (Z E YX1_remove d M (zargs 0 [vr (some (16, 0, 0)), vi l2, vi l3]) 0 [] (zafter E YX1_deleteIn (d + 1) [(0, vr (some (16, 0, 0))), (4, vi s0)] 96 3 [] Q)) else (Z E YX1_deleteIn (d + 1) M [(0, vr (some (16, 0, 0))), (4, vi s0)] 99 [] Q)) else (Z E YX1_deleteIn (d + 1) M [(0, vr (some (16, 0, 0))), (4, vi s0)] 99 [] Q)) : Z E YX1_deleteIn (d + 1) M [(0, vr (some (16, 0, 0))), (1, vi l1), (2, vi l2), (3, vi l3)] 80 [vi s0] Q := by
  refine z_ist dX1_deleteIn_80 (by decide) (lv' := [(0, vr (some (16, 0, 0))), (1, vi l1), (2, vi l2), (3, vi l3), (4, vi s0)]) rfl ?_
  refine z_iload_n dX1_deleteIn_82 rfl rfl ?_
  refine z_bipush (v := 7) dX1_deleteIn_83 rfl ?_
  refine z_icmp_ne (tgt := 99) dX1_deleteIn_85 rfl (fun h_ => ?_) (fun h_ => ?_)
  · have k := zif h_ k
    refine Z.pick [0, 4] rfl ?_
    exact k
  · have k := zit h_ k
    refine z_iload dX1_deleteIn_88 rfl ?_
    refine z_if_ne (tgt := 99) dX1_deleteIn_90 rfl (fun h_ => ?_) (fun h_ => ?_)
    · have k := zif h_ k
      refine Z.pick [0, 4] rfl ?_
      exact k
    · have k := zit h_ k
      refine z_aload_n dX1_deleteIn_93 rfl rfl ?_
      refine z_iload_n dX1_deleteIn_94 rfl rfl ?_
      refine z_iload_n dX1_deleteIn_95 rfl rfl ?_
      refine Z.pick [0, 4] rfl ?_
      exact z_callV (as := [vi l2, vi l3]) (st := []) dX1_deleteIn_96 vsX1_555_0 (Nat.le_refl _) (Nat.le_of_ble_eq_true rfl) (Nat.le_of_ble_eq_true rfl) rfl k
theorem sX1_deleteIn_99 {E : zE} {d : Nat} {Q : zO → zM → Prop} (M : zM) (l4 : Int32) (hw : cw M) (k : if l4 = 0 then (Z E YX1_givesTruth d M (zargs 0 [vr (some (16, 0, 0)), vi (1 : Int32)]) 0 [] (zafter E YX1_deleteIn (d + 1) [(0, vr (some (16, 0, 0)))] 110 3 [] Q)) else (Z E YX1_givesTruth d M (zargs 0 [vr (some (16, 0, 0)), vi (0 : Int32)]) 0 [] (zafter E YX1_deleteIn (d + 1) [(0, vr (some (16, 0, 0)))] 110 3 [] Q))) : Z E YX1_deleteIn (d + 1) M [(0, vr (some (16, 0, 0))), (4, vi l4)] 99 [] Q := by
  refine z_aload_n dX1_deleteIn_99 rfl rfl ?_
  refine z_iload dX1_deleteIn_100 rfl ?_
  refine z_if_ne (tgt := 109) dX1_deleteIn_102 rfl (fun h_ => ?_) (fun h_ => ?_)
  · have k := zif h_ k
    refine z_iconst (v := 0) dX1_deleteIn_109 rfl ?_
    refine Z.pick [0] rfl ?_
    exact z_callV (as := [vi (0 : Int32)]) (st := []) dX1_deleteIn_110 vsX1_405_0 (Nat.le_refl _) (Nat.le_of_ble_eq_true rfl) (Nat.le_of_ble_eq_true rfl) rfl k
  · have k := zit h_ k
    refine z_iconst (v := 1) dX1_deleteIn_105 rfl ?_
    refine z_goto (tgt := 110) dX1_deleteIn_106 rfl ?_
    refine Z.pick [0] rfl ?_
    exact z_callV (as := [vi (1 : Int32)]) (st := []) dX1_deleteIn_110 vsX1_405_0 (Nat.le_refl _) (Nat.le_of_ble_eq_true rfl) (Nat.le_of_ble_eq_true rfl) rfl k
theorem sX1_deleteIn_113 {E : zE} {d : Nat} {Q : zO → zM → Prop} (M : zM)  (hw : cw M) (k : Z E YX1_leaves d M (zargs 0 [vr (some (16, 0, 0)), vi (2 : Int32)]) 0 [] (zafter E YX1_deleteIn (d + 1) [] 115 3 [] Q)) : Z E YX1_deleteIn (d + 1) M [(0, vr (some (16, 0, 0)))] 113 [] Q := by
  refine z_aload_n dX1_deleteIn_113 rfl rfl ?_
  refine z_iconst (v := 2) dX1_deleteIn_114 rfl ?_
  refine Z.pick [] rfl ?_
  exact z_callV (as := [vi (2 : Int32)]) (st := []) dX1_deleteIn_115 vsX1_508_0 (Nat.le_refl _) (Nat.le_of_ble_eq_true rfl) (Nat.le_of_ble_eq_true rfl) rfl k
theorem sX1_deleteIn_118 {E : zE} {d : Nat} {Q : zO → zM → Prop} (M : zM)  (hw : cw M) (k : Q (.inl none) M) : Z E YX1_deleteIn (d + 1) M [] 118 [] Q := by
  exact z_vret dX1_deleteIn_118 rfl k
