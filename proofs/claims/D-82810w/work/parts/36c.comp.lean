/-! ScriptTypes.copyOf(I)V -/
theorem bX1_copyOf_0 : zdec cX1_copyOf 0 [(0, .aload_n 0, 1), (1, .getfield 148, 3), (4, .aload_n 0, 1), (5, .getfield 440, 3), (8, .aload_n 0, 1), (9, .getfield 148, 3), (12, .iload_n 1, 1), (13, .baload, 1), (14, .bastore, 1), (15, .aload_n 0, 1), (16, .getfield 151, 3), (19, .aload_n 0, 1), (20, .getfield 440, 3), (23, .aload_n 0, 1), (24, .getfield 151, 3), (27, .iload_n 1, 1)] = true := by decide +kernel
theorem dX1_copyOf_0 : decode cX1_copyOf 0 = .ok (.aload_n 0, 1) := zdec_at bX1_copyOf_0 0 rfl
theorem dX1_copyOf_1 : decode cX1_copyOf 1 = .ok (.getfield 148, 3) := zdec_at bX1_copyOf_0 1 rfl
theorem dX1_copyOf_4 : decode cX1_copyOf 4 = .ok (.aload_n 0, 1) := zdec_at bX1_copyOf_0 2 rfl
theorem dX1_copyOf_5 : decode cX1_copyOf 5 = .ok (.getfield 440, 3) := zdec_at bX1_copyOf_0 3 rfl
theorem dX1_copyOf_8 : decode cX1_copyOf 8 = .ok (.aload_n 0, 1) := zdec_at bX1_copyOf_0 4 rfl
theorem dX1_copyOf_9 : decode cX1_copyOf 9 = .ok (.getfield 148, 3) := zdec_at bX1_copyOf_0 5 rfl
theorem dX1_copyOf_12 : decode cX1_copyOf 12 = .ok (.iload_n 1, 1) := zdec_at bX1_copyOf_0 6 rfl
theorem dX1_copyOf_13 : decode cX1_copyOf 13 = .ok (.baload, 1) := zdec_at bX1_copyOf_0 7 rfl
theorem dX1_copyOf_14 : decode cX1_copyOf 14 = .ok (.bastore, 1) := zdec_at bX1_copyOf_0 8 rfl
theorem dX1_copyOf_15 : decode cX1_copyOf 15 = .ok (.aload_n 0, 1) := zdec_at bX1_copyOf_0 9 rfl
theorem dX1_copyOf_16 : decode cX1_copyOf 16 = .ok (.getfield 151, 3) := zdec_at bX1_copyOf_0 10 rfl
theorem dX1_copyOf_19 : decode cX1_copyOf 19 = .ok (.aload_n 0, 1) := zdec_at bX1_copyOf_0 11 rfl
theorem dX1_copyOf_20 : decode cX1_copyOf 20 = .ok (.getfield 440, 3) := zdec_at bX1_copyOf_0 12 rfl
theorem dX1_copyOf_23 : decode cX1_copyOf 23 = .ok (.aload_n 0, 1) := zdec_at bX1_copyOf_0 13 rfl
theorem dX1_copyOf_24 : decode cX1_copyOf 24 = .ok (.getfield 151, 3) := zdec_at bX1_copyOf_0 14 rfl
theorem dX1_copyOf_27 : decode cX1_copyOf 27 = .ok (.iload_n 1, 1) := zdec_at bX1_copyOf_0 15 rfl
theorem bX1_copyOf_28 : zdec cX1_copyOf 28 [(28, .iaload, 1), (29, .iastore, 1), (30, .aload_n 0, 1), (31, .getfield 154, 3), (34, .aload_n 0, 1), (35, .getfield 440, 3), (38, .aload_n 0, 1), (39, .getfield 154, 3), (42, .iload_n 1, 1), (43, .iaload, 1), (44, .iastore, 1), (45, .aload_n 0, 1), (46, .getfield 157, 3), (49, .aload_n 0, 1), (50, .getfield 440, 3), (53, .aload_n 0, 1)] = true := by decide +kernel
theorem dX1_copyOf_28 : decode cX1_copyOf 28 = .ok (.iaload, 1) := zdec_at bX1_copyOf_28 0 rfl
theorem dX1_copyOf_29 : decode cX1_copyOf 29 = .ok (.iastore, 1) := zdec_at bX1_copyOf_28 1 rfl
theorem dX1_copyOf_30 : decode cX1_copyOf 30 = .ok (.aload_n 0, 1) := zdec_at bX1_copyOf_28 2 rfl
theorem dX1_copyOf_31 : decode cX1_copyOf 31 = .ok (.getfield 154, 3) := zdec_at bX1_copyOf_28 3 rfl
theorem dX1_copyOf_34 : decode cX1_copyOf 34 = .ok (.aload_n 0, 1) := zdec_at bX1_copyOf_28 4 rfl
theorem dX1_copyOf_35 : decode cX1_copyOf 35 = .ok (.getfield 440, 3) := zdec_at bX1_copyOf_28 5 rfl
theorem dX1_copyOf_38 : decode cX1_copyOf 38 = .ok (.aload_n 0, 1) := zdec_at bX1_copyOf_28 6 rfl
theorem dX1_copyOf_39 : decode cX1_copyOf 39 = .ok (.getfield 154, 3) := zdec_at bX1_copyOf_28 7 rfl
theorem dX1_copyOf_42 : decode cX1_copyOf 42 = .ok (.iload_n 1, 1) := zdec_at bX1_copyOf_28 8 rfl
theorem dX1_copyOf_43 : decode cX1_copyOf 43 = .ok (.iaload, 1) := zdec_at bX1_copyOf_28 9 rfl
theorem dX1_copyOf_44 : decode cX1_copyOf 44 = .ok (.iastore, 1) := zdec_at bX1_copyOf_28 10 rfl
theorem dX1_copyOf_45 : decode cX1_copyOf 45 = .ok (.aload_n 0, 1) := zdec_at bX1_copyOf_28 11 rfl
theorem dX1_copyOf_46 : decode cX1_copyOf 46 = .ok (.getfield 157, 3) := zdec_at bX1_copyOf_28 12 rfl
theorem dX1_copyOf_49 : decode cX1_copyOf 49 = .ok (.aload_n 0, 1) := zdec_at bX1_copyOf_28 13 rfl
theorem dX1_copyOf_50 : decode cX1_copyOf 50 = .ok (.getfield 440, 3) := zdec_at bX1_copyOf_28 14 rfl
theorem dX1_copyOf_53 : decode cX1_copyOf 53 = .ok (.aload_n 0, 1) := zdec_at bX1_copyOf_28 15 rfl
theorem bX1_copyOf_54 : zdec cX1_copyOf 54 [(54, .getfield 157, 3), (57, .iload_n 1, 1), (58, .iaload, 1), (59, .iastore, 1), (60, .aload_n 0, 1), (61, .dup, 1), (62, .getfield 440, 3), (65, .iconst 1, 1), (66, .iadd, 1), (67, .putfield 440, 3), (70, .return_, 1)] = true := by decide +kernel
theorem dX1_copyOf_54 : decode cX1_copyOf 54 = .ok (.getfield 157, 3) := zdec_at bX1_copyOf_54 0 rfl
theorem dX1_copyOf_57 : decode cX1_copyOf 57 = .ok (.iload_n 1, 1) := zdec_at bX1_copyOf_54 1 rfl
theorem dX1_copyOf_58 : decode cX1_copyOf 58 = .ok (.iaload, 1) := zdec_at bX1_copyOf_54 2 rfl
theorem dX1_copyOf_59 : decode cX1_copyOf 59 = .ok (.iastore, 1) := zdec_at bX1_copyOf_54 3 rfl
theorem dX1_copyOf_60 : decode cX1_copyOf 60 = .ok (.aload_n 0, 1) := zdec_at bX1_copyOf_54 4 rfl
theorem dX1_copyOf_61 : decode cX1_copyOf 61 = .ok (.dup, 1) := zdec_at bX1_copyOf_54 5 rfl
theorem dX1_copyOf_62 : decode cX1_copyOf 62 = .ok (.getfield 440, 3) := zdec_at bX1_copyOf_54 6 rfl
theorem dX1_copyOf_65 : decode cX1_copyOf 65 = .ok (.iconst 1, 1) := zdec_at bX1_copyOf_54 7 rfl
theorem dX1_copyOf_66 : decode cX1_copyOf 66 = .ok (.iadd, 1) := zdec_at bX1_copyOf_54 8 rfl
theorem dX1_copyOf_67 : decode cX1_copyOf 67 = .ok (.putfield 440, 3) := zdec_at bX1_copyOf_54 9 rfl
theorem dX1_copyOf_70 : decode cX1_copyOf 70 = .ok (.return_, 1) := zdec_at bX1_copyOf_54 10 rfl
theorem sX1_copyOf_0 {E : zE} {d : Nat} {Q : zO → zM → Prop} (M : zM) (l1 : Int32) (hw : cw M) (k : vp_in l1 14500 ∧ (vp_in (gi M 16 38) 14500 ∧ (vp_in l1 14500 ∧ (vp_in (gi M 16 38) 14500 ∧ (vp_in l1 14500 ∧ (vp_in (gi M 16 38) 14500 ∧ (vp_in l1 14500 ∧ (vp_in (gi M 16 38) 14500 ∧ (Q (.inl none) (si (si (si (si (si M 53 ((gi M 16 38)).toNatClampNeg (vp_nar .byte (gi M 53 (l1).toNatClampNeg))) 54 ((gi M 16 38)).toNatClampNeg (gi M 54 (l1).toNatClampNeg)) 55 ((gi M 16 38)).toNatClampNeg (gi M 55 (l1).toNatClampNeg)) 56 ((gi M 16 38)).toNatClampNeg (gi M 56 (l1).toNatClampNeg)) 16 38 ((gi M 16 38) + (1 : Int32)))))))))))) : Z E YX1_copyOf d M [(0, vr (some (16, 0, 0))), (1, vi l1)] 0 [] Q := by
  refine z_aload_n dX1_copyOf_0 rfl rfl ?_
  refine z_getr dX1_copyOf_1 fsX1_148_0 (show gr M 16 34 = some (53, 101, 14500) from cw_at hw 21 rfl) ?_
  refine z_aload_n dX1_copyOf_4 rfl rfl ?_
  refine z_geti dX1_copyOf_5 fsX1_440_0 ?_
  refine z_aload_n dX1_copyOf_8 rfl rfl ?_
  refine z_getr dX1_copyOf_9 fsX1_148_0 (show gr M 16 34 = some (53, 101, 14500) from cw_at hw 21 rfl) ?_
  refine z_iload_n dX1_copyOf_12 rfl rfl ?_
  obtain ⟨b_, k⟩ := k
  refine z_bald dX1_copyOf_13 b_ ?_
  obtain ⟨b_, k⟩ := k
  refine z_bast (by decide) dX1_copyOf_14 b_ ?_
  refine z_aload_n dX1_copyOf_15 rfl rfl ?_
  refine z_getr dX1_copyOf_16 fsX1_151_0 (show gr M 16 35 = some (54, 100, 14500) from cw_at hw 22 rfl) ?_
  refine z_aload_n dX1_copyOf_19 rfl rfl ?_
  refine z_geti dX1_copyOf_20 fsX1_440_0 ?_
  refine z_aload_n dX1_copyOf_23 rfl rfl ?_
  refine z_getr dX1_copyOf_24 fsX1_151_0 (show gr M 16 35 = some (54, 100, 14500) from cw_at hw 22 rfl) ?_
  refine z_iload_n dX1_copyOf_27 rfl rfl ?_
  obtain ⟨b_, k⟩ := k
  refine z_iald dX1_copyOf_28 b_ ?_
  obtain ⟨b_, k⟩ := k
  refine z_iast (by decide) dX1_copyOf_29 b_ ?_
  refine z_aload_n dX1_copyOf_30 rfl rfl ?_
  refine z_getr dX1_copyOf_31 fsX1_154_0 (show gr M 16 36 = some (55, 100, 14500) from cw_at hw 23 rfl) ?_
  refine z_aload_n dX1_copyOf_34 rfl rfl ?_
  refine z_geti dX1_copyOf_35 fsX1_440_0 ?_
  refine z_aload_n dX1_copyOf_38 rfl rfl ?_
  refine z_getr dX1_copyOf_39 fsX1_154_0 (show gr M 16 36 = some (55, 100, 14500) from cw_at hw 23 rfl) ?_
  refine z_iload_n dX1_copyOf_42 rfl rfl ?_
  obtain ⟨b_, k⟩ := k
  refine z_iald dX1_copyOf_43 b_ ?_
  obtain ⟨b_, k⟩ := k
  refine z_iast (by decide) dX1_copyOf_44 b_ ?_
  refine z_aload_n dX1_copyOf_45 rfl rfl ?_
  refine z_getr dX1_copyOf_46 fsX1_157_0 (show gr M 16 37 = some (56, 100, 14500) from cw_at hw 24 rfl) ?_
  refine z_aload_n dX1_copyOf_49 rfl rfl ?_
  refine z_geti dX1_copyOf_50 fsX1_440_0 ?_
  refine z_aload_n dX1_copyOf_53 rfl rfl ?_
  refine z_getr dX1_copyOf_54 fsX1_157_0 (show gr M 16 37 = some (56, 100, 14500) from cw_at hw 24 rfl) ?_
  refine z_iload_n dX1_copyOf_57 rfl rfl ?_
  obtain ⟨b_, k⟩ := k
  refine z_iald dX1_copyOf_58 b_ ?_
  obtain ⟨b_, k⟩ := k
  refine z_iast (by decide) dX1_copyOf_59 b_ ?_
  refine z_aload_n dX1_copyOf_60 rfl rfl ?_
  refine z_dup dX1_copyOf_61 rfl ?_
  refine z_geti dX1_copyOf_62 fsX1_440_0 ?_
  refine z_iconst (v := 1) dX1_copyOf_65 rfl ?_
  refine z_iadd dX1_copyOf_66 ?_
  refine z_puti (by decide) dX1_copyOf_67 (zfwN.w fwX1_440_0) rfl ⟨rfl, rfl⟩ ?_
  exact z_vret dX1_copyOf_70 rfl k
/-! ScriptTypes.comeBack(II)V -/
theorem bX1_comeBack_0 : zdec cX1_comeBack 0 [(0, .aload_n 0, 1), (1, .getfield 148, 3), (4, .iload_n 2, 1), (5, .baload, 1), (6, .istore_n 3, 1), (7, .aload_n 0, 1), (8, .getfield 151, 3), (11, .iload_n 2, 1), (12, .iaload, 1), (13, .istore 4, 2), (15, .aload_n 0, 1), (16, .getfield 172, 3), (19, .iload_n 1, 1), (20, .saload, 1), (21, .iconst (-1), 1), (22, .if_icmp .eq 20, 3)] = true := by decide +kernel
theorem dX1_comeBack_0 : decode cX1_comeBack 0 = .ok (.aload_n 0, 1) := zdec_at bX1_comeBack_0 0 rfl
theorem dX1_comeBack_1 : decode cX1_comeBack 1 = .ok (.getfield 148, 3) := zdec_at bX1_comeBack_0 1 rfl
theorem dX1_comeBack_4 : decode cX1_comeBack 4 = .ok (.iload_n 2, 1) := zdec_at bX1_comeBack_0 2 rfl
theorem dX1_comeBack_5 : decode cX1_comeBack 5 = .ok (.baload, 1) := zdec_at bX1_comeBack_0 3 rfl
theorem dX1_comeBack_6 : decode cX1_comeBack 6 = .ok (.istore_n 3, 1) := zdec_at bX1_comeBack_0 4 rfl
theorem dX1_comeBack_7 : decode cX1_comeBack 7 = .ok (.aload_n 0, 1) := zdec_at bX1_comeBack_0 5 rfl
theorem dX1_comeBack_8 : decode cX1_comeBack 8 = .ok (.getfield 151, 3) := zdec_at bX1_comeBack_0 6 rfl
theorem dX1_comeBack_11 : decode cX1_comeBack 11 = .ok (.iload_n 2, 1) := zdec_at bX1_comeBack_0 7 rfl
theorem dX1_comeBack_12 : decode cX1_comeBack 12 = .ok (.iaload, 1) := zdec_at bX1_comeBack_0 8 rfl
theorem dX1_comeBack_13 : decode cX1_comeBack 13 = .ok (.istore 4, 2) := zdec_at bX1_comeBack_0 9 rfl
theorem dX1_comeBack_15 : decode cX1_comeBack 15 = .ok (.aload_n 0, 1) := zdec_at bX1_comeBack_0 10 rfl
theorem dX1_comeBack_16 : decode cX1_comeBack 16 = .ok (.getfield 172, 3) := zdec_at bX1_comeBack_0 11 rfl
theorem dX1_comeBack_19 : decode cX1_comeBack 19 = .ok (.iload_n 1, 1) := zdec_at bX1_comeBack_0 12 rfl
theorem dX1_comeBack_20 : decode cX1_comeBack 20 = .ok (.saload, 1) := zdec_at bX1_comeBack_0 13 rfl
theorem dX1_comeBack_21 : decode cX1_comeBack 21 = .ok (.iconst (-1), 1) := zdec_at bX1_comeBack_0 14 rfl
theorem dX1_comeBack_22 : decode cX1_comeBack 22 = .ok (.if_icmp .eq 20, 3) := zdec_at bX1_comeBack_0 15 rfl
theorem bX1_comeBack_25 : zdec cX1_comeBack 25 [(25, .iload_n 3, 1), (26, .bipush 7, 2), (28, .if_icmp .eq 14, 3), (31, .bipush 7, 2), (33, .istore_n 3, 1), (34, .aload_n 0, 1), (35, .getfield 172, 3), (38, .iload_n 1, 1), (39, .saload, 1), (40, .istore 4, 2), (42, .aload_n 0, 1), (43, .aload_n 0, 1), (44, .getfield 169, 3), (47, .iload_n 1, 1), (48, .saload, 1), (49, .putfield 440, 3)] = true := by decide +kernel
theorem dX1_comeBack_25 : decode cX1_comeBack 25 = .ok (.iload_n 3, 1) := zdec_at bX1_comeBack_25 0 rfl
theorem dX1_comeBack_26 : decode cX1_comeBack 26 = .ok (.bipush 7, 2) := zdec_at bX1_comeBack_25 1 rfl
theorem dX1_comeBack_28 : decode cX1_comeBack 28 = .ok (.if_icmp .eq 14, 3) := zdec_at bX1_comeBack_25 2 rfl
theorem dX1_comeBack_31 : decode cX1_comeBack 31 = .ok (.bipush 7, 2) := zdec_at bX1_comeBack_25 3 rfl
theorem dX1_comeBack_33 : decode cX1_comeBack 33 = .ok (.istore_n 3, 1) := zdec_at bX1_comeBack_25 4 rfl
theorem dX1_comeBack_34 : decode cX1_comeBack 34 = .ok (.aload_n 0, 1) := zdec_at bX1_comeBack_25 5 rfl
theorem dX1_comeBack_35 : decode cX1_comeBack 35 = .ok (.getfield 172, 3) := zdec_at bX1_comeBack_25 6 rfl
theorem dX1_comeBack_38 : decode cX1_comeBack 38 = .ok (.iload_n 1, 1) := zdec_at bX1_comeBack_25 7 rfl
theorem dX1_comeBack_39 : decode cX1_comeBack 39 = .ok (.saload, 1) := zdec_at bX1_comeBack_25 8 rfl
theorem dX1_comeBack_40 : decode cX1_comeBack 40 = .ok (.istore 4, 2) := zdec_at bX1_comeBack_25 9 rfl
theorem dX1_comeBack_42 : decode cX1_comeBack 42 = .ok (.aload_n 0, 1) := zdec_at bX1_comeBack_25 10 rfl
theorem dX1_comeBack_43 : decode cX1_comeBack 43 = .ok (.aload_n 0, 1) := zdec_at bX1_comeBack_25 11 rfl
theorem dX1_comeBack_44 : decode cX1_comeBack 44 = .ok (.getfield 169, 3) := zdec_at bX1_comeBack_25 12 rfl
theorem dX1_comeBack_47 : decode cX1_comeBack 47 = .ok (.iload_n 1, 1) := zdec_at bX1_comeBack_25 13 rfl
theorem dX1_comeBack_48 : decode cX1_comeBack 48 = .ok (.saload, 1) := zdec_at bX1_comeBack_25 14 rfl
theorem dX1_comeBack_49 : decode cX1_comeBack 49 = .ok (.putfield 440, 3) := zdec_at bX1_comeBack_25 15 rfl
theorem bX1_comeBack_52 : zdec cX1_comeBack 52 [(52, .aload_n 0, 1), (53, .aload_n 0, 1), (54, .getfield 175, 3), (57, .iload_n 1, 1), (58, .saload, 1), (59, .putfield 443, 3), (62, .aload_n 0, 1), (63, .dup, 1), (64, .getfield 328, 3), (67, .iconst 1, 1), (68, .isub, 1), (69, .putfield 328, 3), (72, .aload_n 0, 1), (73, .getfield 328, 3), (76, .ifCond .ne 11, 3), (79, .aload_n 0, 1)] = true := by decide +kernel
theorem dX1_comeBack_52 : decode cX1_comeBack 52 = .ok (.aload_n 0, 1) := zdec_at bX1_comeBack_52 0 rfl
theorem dX1_comeBack_53 : decode cX1_comeBack 53 = .ok (.aload_n 0, 1) := zdec_at bX1_comeBack_52 1 rfl
theorem dX1_comeBack_54 : decode cX1_comeBack 54 = .ok (.getfield 175, 3) := zdec_at bX1_comeBack_52 2 rfl
theorem dX1_comeBack_57 : decode cX1_comeBack 57 = .ok (.iload_n 1, 1) := zdec_at bX1_comeBack_52 3 rfl
theorem dX1_comeBack_58 : decode cX1_comeBack 58 = .ok (.saload, 1) := zdec_at bX1_comeBack_52 4 rfl
theorem dX1_comeBack_59 : decode cX1_comeBack 59 = .ok (.putfield 443, 3) := zdec_at bX1_comeBack_52 5 rfl
theorem dX1_comeBack_62 : decode cX1_comeBack 62 = .ok (.aload_n 0, 1) := zdec_at bX1_comeBack_52 6 rfl
theorem dX1_comeBack_63 : decode cX1_comeBack 63 = .ok (.dup, 1) := zdec_at bX1_comeBack_52 7 rfl
theorem dX1_comeBack_64 : decode cX1_comeBack 64 = .ok (.getfield 328, 3) := zdec_at bX1_comeBack_52 8 rfl
theorem dX1_comeBack_67 : decode cX1_comeBack 67 = .ok (.iconst 1, 1) := zdec_at bX1_comeBack_52 9 rfl
theorem dX1_comeBack_68 : decode cX1_comeBack 68 = .ok (.isub, 1) := zdec_at bX1_comeBack_52 10 rfl
theorem dX1_comeBack_69 : decode cX1_comeBack 69 = .ok (.putfield 328, 3) := zdec_at bX1_comeBack_52 11 rfl
theorem dX1_comeBack_72 : decode cX1_comeBack 72 = .ok (.aload_n 0, 1) := zdec_at bX1_comeBack_52 12 rfl
theorem dX1_comeBack_73 : decode cX1_comeBack 73 = .ok (.getfield 328, 3) := zdec_at bX1_comeBack_52 13 rfl
theorem dX1_comeBack_76 : decode cX1_comeBack 76 = .ok (.ifCond .ne 11, 3) := zdec_at bX1_comeBack_52 14 rfl
theorem dX1_comeBack_79 : decode cX1_comeBack 79 = .ok (.aload_n 0, 1) := zdec_at bX1_comeBack_52 15 rfl
theorem bX1_comeBack_80 : zdec cX1_comeBack 80 [(80, .iconst 2, 1), (81, .putfield 277, 3), (84, .goto 10, 3), (87, .aload_n 0, 1), (88, .iload_n 3, 1), (89, .iload 4, 2), (91, .invokevirtual 476, 3), (94, .return_, 1)] = true := by decide +kernel
theorem dX1_comeBack_80 : decode cX1_comeBack 80 = .ok (.iconst 2, 1) := zdec_at bX1_comeBack_80 0 rfl
theorem dX1_comeBack_81 : decode cX1_comeBack 81 = .ok (.putfield 277, 3) := zdec_at bX1_comeBack_80 1 rfl
theorem dX1_comeBack_84 : decode cX1_comeBack 84 = .ok (.goto 10, 3) := zdec_at bX1_comeBack_80 2 rfl
theorem dX1_comeBack_87 : decode cX1_comeBack 87 = .ok (.aload_n 0, 1) := zdec_at bX1_comeBack_80 3 rfl
theorem dX1_comeBack_88 : decode cX1_comeBack 88 = .ok (.iload_n 3, 1) := zdec_at bX1_comeBack_80 4 rfl
theorem dX1_comeBack_89 : decode cX1_comeBack 89 = .ok (.iload 4, 2) := zdec_at bX1_comeBack_80 5 rfl
theorem dX1_comeBack_91 : decode cX1_comeBack 91 = .ok (.invokevirtual 476, 3) := zdec_at bX1_comeBack_80 6 rfl
theorem dX1_comeBack_94 : decode cX1_comeBack 94 = .ok (.return_, 1) := zdec_at bX1_comeBack_80 7 rfl
theorem sX1_comeBack_0 {E : zE} {d : Nat} {Q : zO → zM → Prop} (M : zM) (l1 : Int32) (l2 : Int32) (hw : cw M) (k : vp_in l2 14500 ∧ (vp_in l2 14500 ∧ (vp_in l1 24 ∧ (if (gi M 61 (l1).toNatClampNeg) = (-1 : Int32) then (Z E YX1_comeBack (d + 1) M [(0, vr (some (16, 0, 0))), (1, vi l1), (3, vi (gi M 53 (l2).toNatClampNeg)), (4, vi (gi M 54 (l2).toNatClampNeg))] 42 [] Q) else (if (gi M 53 (l2).toNatClampNeg) = (7 : Int32) then (Z E YX1_comeBack (d + 1) M [(0, vr (some (16, 0, 0))), (1, vi l1), (3, vi (gi M 53 (l2).toNatClampNeg)), (4, vi (gi M 54 (l2).toNatClampNeg))] 42 [] Q) else (vp_in l1 24 ∧ (Z E YX1_comeBack (d + 1) M [(0, vr (some (16, 0, 0))), (1, vi l1), (3, vi (7 : Int32)), (4, vi (gi M 61 (l1).toNatClampNeg))] 42 [] Q))))))) : Z E YX1_comeBack (d + 1) M [(0, vr (some (16, 0, 0))), (1, vi l1), (2, vi l2)] 0 [] Q := by
  refine z_aload_n dX1_comeBack_0 rfl rfl ?_
  refine z_getr dX1_comeBack_1 fsX1_148_0 (show gr M 16 34 = some (53, 101, 14500) from cw_at hw 21 rfl) ?_
  refine z_iload_n dX1_comeBack_4 rfl rfl ?_
  obtain ⟨b_, k⟩ := k
  refine z_bald dX1_comeBack_5 b_ ?_
  refine z_ist_n dX1_comeBack_6 rfl (by decide) (lv' := [(0, vr (some (16, 0, 0))), (1, vi l1), (2, vi l2), (3, vi (gi M 53 (l2).toNatClampNeg))]) rfl ?_
  refine z_aload_n dX1_comeBack_7 rfl rfl ?_
  refine z_getr dX1_comeBack_8 fsX1_151_0 (show gr M 16 35 = some (54, 100, 14500) from cw_at hw 22 rfl) ?_
  refine z_iload_n dX1_comeBack_11 rfl rfl ?_
  obtain ⟨b_, k⟩ := k
  refine z_iald dX1_comeBack_12 b_ ?_
  refine z_ist dX1_comeBack_13 (by decide) (lv' := [(0, vr (some (16, 0, 0))), (1, vi l1), (2, vi l2), (3, vi (gi M 53 (l2).toNatClampNeg)), (4, vi (gi M 54 (l2).toNatClampNeg))]) rfl ?_
  refine z_aload_n dX1_comeBack_15 rfl rfl ?_
  refine z_getr dX1_comeBack_16 fsX1_172_0 (show gr M 16 43 = some (61, 102, 24) from cw_at hw 29 rfl) ?_
  refine z_iload_n dX1_comeBack_19 rfl rfl ?_
  obtain ⟨b_, k⟩ := k
  refine z_sald dX1_comeBack_20 b_ ?_
  refine z_iconst (v := -1) dX1_comeBack_21 rfl ?_
  refine z_icmp_eq (tgt := 42) dX1_comeBack_22 rfl (fun h_ => ?_) (fun h_ => ?_)
  · have k := zit h_ k
    refine Z.pick [0, 1, 3, 4] rfl ?_
    exact k
  · have k := zif h_ k
    refine z_iload_n dX1_comeBack_25 rfl rfl ?_
    refine z_bipush (v := 7) dX1_comeBack_26 rfl ?_
    refine z_icmp_eq (tgt := 42) dX1_comeBack_28 rfl (fun h_ => ?_) (fun h_ => ?_)
    · have k := zit h_ k
      refine Z.pick [0, 1, 3, 4] rfl ?_
      exact k
    · have k := zif h_ k
      refine z_bipush (v := 7) dX1_comeBack_31 rfl ?_
      refine z_ist_n dX1_comeBack_33 rfl (by decide) (lv' := [(0, vr (some (16, 0, 0))), (1, vi l1), (2, vi l2), (3, vi (7 : Int32)), (4, vi (gi M 54 (l2).toNatClampNeg))]) rfl ?_
      refine z_aload_n dX1_comeBack_34 rfl rfl ?_
      refine z_getr dX1_comeBack_35 fsX1_172_0 (show gr M 16 43 = some (61, 102, 24) from cw_at hw 29 rfl) ?_
      refine z_iload_n dX1_comeBack_38 rfl rfl ?_
      obtain ⟨b_, k⟩ := k
      refine z_sald dX1_comeBack_39 b_ ?_
      refine z_ist dX1_comeBack_40 (by decide) (lv' := [(0, vr (some (16, 0, 0))), (1, vi l1), (2, vi l2), (3, vi (7 : Int32)), (4, vi (gi M 61 (l1).toNatClampNeg))]) rfl ?_
      refine Z.pick [0, 1, 3, 4] rfl ?_
      exact k
theorem sX1_comeBack_42 {E : zE} {d : Nat} {Q : zO → zM → Prop} (M : zM) (l1 : Int32) (l3 : Int32) (l4 : Int32) (hw : cw M) (k : vp_in l1 24 ∧ (vp_in l1 24 ∧ (if ((gi M 16 49) - (1 : Int32)) = 0 then (Z E YX1_comeBack (d + 1) (si (si (si (si M 16 38 (gi M 60 (l1).toNatClampNeg)) 16 50 (gi M 62 (l1).toNatClampNeg)) 16 49 ((gi M 16 49) - (1 : Int32))) 16 51 (2 : Int32)) [] 94 [] Q) else (Z E YX1_push d (si (si (si M 16 38 (gi M 60 (l1).toNatClampNeg)) 16 50 (gi M 62 (l1).toNatClampNeg)) 16 49 ((gi M 16 49) - (1 : Int32))) (zargs 0 [vr (some (16, 0, 0)), vi l3, vi l4]) 0 [] (zafter E YX1_comeBack (d + 1) [] 91 3 [] Q))))) : Z E YX1_comeBack (d + 1) M [(0, vr (some (16, 0, 0))), (1, vi l1), (3, vi l3), (4, vi l4)] 42 [] Q := by
  refine z_aload_n dX1_comeBack_42 rfl rfl ?_
  refine z_aload_n dX1_comeBack_43 rfl rfl ?_
  refine z_getr dX1_comeBack_44 fsX1_169_0 (show gr M 16 42 = some (60, 102, 24) from cw_at hw 28 rfl) ?_
  refine z_iload_n dX1_comeBack_47 rfl rfl ?_
  obtain ⟨b_, k⟩ := k
  refine z_sald dX1_comeBack_48 b_ ?_
  refine z_puti (by decide) dX1_comeBack_49 (zfwN.w fwX1_440_0) rfl ⟨rfl, rfl⟩ ?_
  refine z_aload_n dX1_comeBack_52 rfl rfl ?_
  refine z_aload_n dX1_comeBack_53 rfl rfl ?_
  refine z_getr dX1_comeBack_54 fsX1_175_0 (show gr M 16 44 = some (62, 102, 24) from cw_at hw 30 rfl) ?_
  refine z_iload_n dX1_comeBack_57 rfl rfl ?_
  obtain ⟨b_, k⟩ := k
  refine z_sald dX1_comeBack_58 b_ ?_
  refine z_puti (by decide) dX1_comeBack_59 (zfwN.w fwX1_443_0) rfl ⟨rfl, rfl⟩ ?_
  refine z_aload_n dX1_comeBack_62 rfl rfl ?_
  refine z_dup dX1_comeBack_63 rfl ?_
  refine z_geti dX1_comeBack_64 fsX1_328_0 ?_
  refine z_iconst (v := 1) dX1_comeBack_67 rfl ?_
  refine z_isub dX1_comeBack_68 ?_
  refine z_puti (by decide) dX1_comeBack_69 (zfwN.w fwX1_328_0) rfl ⟨rfl, rfl⟩ ?_
  refine z_aload_n dX1_comeBack_72 rfl rfl ?_
  refine z_geti dX1_comeBack_73 fsX1_328_0 ?_
  refine z_if_ne (tgt := 87) dX1_comeBack_76 rfl (fun h_ => ?_) (fun h_ => ?_)
  · have k := zif h_ k
    refine z_aload_n dX1_comeBack_87 rfl rfl ?_
    refine z_iload_n dX1_comeBack_88 rfl rfl ?_
    refine z_iload dX1_comeBack_89 rfl ?_
    refine Z.pick [] rfl ?_
    exact z_callV (as := [vi l3, vi l4]) (st := []) dX1_comeBack_91 vsX1_476_0 (Nat.le_refl _) (Nat.le_of_ble_eq_true rfl) (Nat.le_of_ble_eq_true rfl) rfl k
  · have k := zit h_ k
    refine z_aload_n dX1_comeBack_79 rfl rfl ?_
    refine z_iconst (v := 2) dX1_comeBack_80 rfl ?_
    refine z_puti (by decide) dX1_comeBack_81 (zfwN.w fwX1_277_0) rfl ⟨rfl, rfl⟩ ?_
    refine z_goto (tgt := 94) dX1_comeBack_84 rfl ?_
    refine Z.pick [] rfl ?_
    exact k
theorem sX1_comeBack_94 {E : zE} {d : Nat} {Q : zO → zM → Prop} (M : zM)  (hw : cw M) (k : Q (.inl none) M) : Z E YX1_comeBack (d + 1) M [] 94 [] Q := by
  exact z_vret dX1_comeBack_94 rfl k
/-! ScriptTypes.unwind()V -/
theorem bX1_unwind_0 : zdec cX1_unwind 0 [(0, .aload_n 0, 1), (1, .getfield 328, 3), (4, .ifCond .le 34, 3), (7, .aload_n 0, 1), (8, .getfield 443, 3), (11, .aload_n 0, 1), (12, .getfield 175, 3), (15, .aload_n 0, 1), (16, .getfield 328, 3), (19, .iconst 1, 1), (20, .isub, 1), (21, .saload, 1), (22, .if_icmp .ne 16, 3), (25, .aload_n 0, 1), (26, .dup, 1), (27, .getfield 328, 3)] = true := by decide +kernel
theorem dX1_unwind_0 : decode cX1_unwind 0 = .ok (.aload_n 0, 1) := zdec_at bX1_unwind_0 0 rfl
theorem dX1_unwind_1 : decode cX1_unwind 1 = .ok (.getfield 328, 3) := zdec_at bX1_unwind_0 1 rfl
theorem dX1_unwind_4 : decode cX1_unwind 4 = .ok (.ifCond .le 34, 3) := zdec_at bX1_unwind_0 2 rfl
theorem dX1_unwind_7 : decode cX1_unwind 7 = .ok (.aload_n 0, 1) := zdec_at bX1_unwind_0 3 rfl
theorem dX1_unwind_8 : decode cX1_unwind 8 = .ok (.getfield 443, 3) := zdec_at bX1_unwind_0 4 rfl
theorem dX1_unwind_11 : decode cX1_unwind 11 = .ok (.aload_n 0, 1) := zdec_at bX1_unwind_0 5 rfl
theorem dX1_unwind_12 : decode cX1_unwind 12 = .ok (.getfield 175, 3) := zdec_at bX1_unwind_0 6 rfl
theorem dX1_unwind_15 : decode cX1_unwind 15 = .ok (.aload_n 0, 1) := zdec_at bX1_unwind_0 7 rfl
theorem dX1_unwind_16 : decode cX1_unwind 16 = .ok (.getfield 328, 3) := zdec_at bX1_unwind_0 8 rfl
theorem dX1_unwind_19 : decode cX1_unwind 19 = .ok (.iconst 1, 1) := zdec_at bX1_unwind_0 9 rfl
theorem dX1_unwind_20 : decode cX1_unwind 20 = .ok (.isub, 1) := zdec_at bX1_unwind_0 10 rfl
theorem dX1_unwind_21 : decode cX1_unwind 21 = .ok (.saload, 1) := zdec_at bX1_unwind_0 11 rfl
theorem dX1_unwind_22 : decode cX1_unwind 22 = .ok (.if_icmp .ne 16, 3) := zdec_at bX1_unwind_0 12 rfl
theorem dX1_unwind_25 : decode cX1_unwind 25 = .ok (.aload_n 0, 1) := zdec_at bX1_unwind_0 13 rfl
theorem dX1_unwind_26 : decode cX1_unwind 26 = .ok (.dup, 1) := zdec_at bX1_unwind_0 14 rfl
theorem dX1_unwind_27 : decode cX1_unwind 27 = .ok (.getfield 328, 3) := zdec_at bX1_unwind_0 15 rfl
theorem bX1_unwind_30 : zdec cX1_unwind 30 [(30, .iconst 1, 1), (31, .isub, 1), (32, .putfield 328, 3), (35, .goto (-35), 3), (38, .aload_n 0, 1), (39, .getfield 328, 3), (42, .ifCond .ne 30, 3), (45, .aload_n 0, 1), (46, .iconst 0, 1), (47, .putfield 440, 3), (50, .aload_n 0, 1), (51, .iconst 3, 1), (52, .putfield 277, 3), (55, .aload_n 0, 1), (56, .aload_n 0, 1), (57, .getfield 460, 3)] = true := by decide +kernel
theorem dX1_unwind_30 : decode cX1_unwind 30 = .ok (.iconst 1, 1) := zdec_at bX1_unwind_30 0 rfl
theorem dX1_unwind_31 : decode cX1_unwind 31 = .ok (.isub, 1) := zdec_at bX1_unwind_30 1 rfl
theorem dX1_unwind_32 : decode cX1_unwind 32 = .ok (.putfield 328, 3) := zdec_at bX1_unwind_30 2 rfl
theorem dX1_unwind_35 : decode cX1_unwind 35 = .ok (.goto (-35), 3) := zdec_at bX1_unwind_30 3 rfl
theorem dX1_unwind_38 : decode cX1_unwind 38 = .ok (.aload_n 0, 1) := zdec_at bX1_unwind_30 4 rfl
theorem dX1_unwind_39 : decode cX1_unwind 39 = .ok (.getfield 328, 3) := zdec_at bX1_unwind_30 5 rfl
theorem dX1_unwind_42 : decode cX1_unwind 42 = .ok (.ifCond .ne 30, 3) := zdec_at bX1_unwind_30 6 rfl
theorem dX1_unwind_45 : decode cX1_unwind 45 = .ok (.aload_n 0, 1) := zdec_at bX1_unwind_30 7 rfl
theorem dX1_unwind_46 : decode cX1_unwind 46 = .ok (.iconst 0, 1) := zdec_at bX1_unwind_30 8 rfl
theorem dX1_unwind_47 : decode cX1_unwind 47 = .ok (.putfield 440, 3) := zdec_at bX1_unwind_30 9 rfl
theorem dX1_unwind_50 : decode cX1_unwind 50 = .ok (.aload_n 0, 1) := zdec_at bX1_unwind_30 10 rfl
theorem dX1_unwind_51 : decode cX1_unwind 51 = .ok (.iconst 3, 1) := zdec_at bX1_unwind_30 11 rfl
theorem dX1_unwind_52 : decode cX1_unwind 52 = .ok (.putfield 277, 3) := zdec_at bX1_unwind_30 12 rfl
theorem dX1_unwind_55 : decode cX1_unwind 55 = .ok (.aload_n 0, 1) := zdec_at bX1_unwind_30 13 rfl
theorem dX1_unwind_56 : decode cX1_unwind 56 = .ok (.aload_n 0, 1) := zdec_at bX1_unwind_30 14 rfl
theorem dX1_unwind_57 : decode cX1_unwind 57 = .ok (.getfield 460, 3) := zdec_at bX1_unwind_30 15 rfl
theorem bX1_unwind_60 : zdec cX1_unwind 60 [(60, .putfield 470, 3), (63, .aload_n 0, 1), (64, .aload_n 0, 1), (65, .getfield 463, 3), (68, .putfield 473, 3), (71, .return_, 1), (72, .aload_n 0, 1), (73, .dup, 1), (74, .getfield 443, 3), (77, .iconst 1, 1), (78, .isub, 1), (79, .putfield 443, 3), (82, .aload_n 0, 1), (83, .aload_n 0, 1), (84, .getfield 169, 3), (87, .aload_n 0, 1)] = true := by decide +kernel
theorem dX1_unwind_60 : decode cX1_unwind 60 = .ok (.putfield 470, 3) := zdec_at bX1_unwind_60 0 rfl
theorem dX1_unwind_63 : decode cX1_unwind 63 = .ok (.aload_n 0, 1) := zdec_at bX1_unwind_60 1 rfl
theorem dX1_unwind_64 : decode cX1_unwind 64 = .ok (.aload_n 0, 1) := zdec_at bX1_unwind_60 2 rfl
theorem dX1_unwind_65 : decode cX1_unwind 65 = .ok (.getfield 463, 3) := zdec_at bX1_unwind_60 3 rfl
theorem dX1_unwind_68 : decode cX1_unwind 68 = .ok (.putfield 473, 3) := zdec_at bX1_unwind_60 4 rfl
theorem dX1_unwind_71 : decode cX1_unwind 71 = .ok (.return_, 1) := zdec_at bX1_unwind_60 5 rfl
theorem dX1_unwind_72 : decode cX1_unwind 72 = .ok (.aload_n 0, 1) := zdec_at bX1_unwind_60 6 rfl
theorem dX1_unwind_73 : decode cX1_unwind 73 = .ok (.dup, 1) := zdec_at bX1_unwind_60 7 rfl
theorem dX1_unwind_74 : decode cX1_unwind 74 = .ok (.getfield 443, 3) := zdec_at bX1_unwind_60 8 rfl
theorem dX1_unwind_77 : decode cX1_unwind 77 = .ok (.iconst 1, 1) := zdec_at bX1_unwind_60 9 rfl
theorem dX1_unwind_78 : decode cX1_unwind 78 = .ok (.isub, 1) := zdec_at bX1_unwind_60 10 rfl
theorem dX1_unwind_79 : decode cX1_unwind 79 = .ok (.putfield 443, 3) := zdec_at bX1_unwind_60 11 rfl
theorem dX1_unwind_82 : decode cX1_unwind 82 = .ok (.aload_n 0, 1) := zdec_at bX1_unwind_60 12 rfl
theorem dX1_unwind_83 : decode cX1_unwind 83 = .ok (.aload_n 0, 1) := zdec_at bX1_unwind_60 13 rfl
theorem dX1_unwind_84 : decode cX1_unwind 84 = .ok (.getfield 169, 3) := zdec_at bX1_unwind_60 14 rfl
theorem dX1_unwind_87 : decode cX1_unwind 87 = .ok (.aload_n 0, 1) := zdec_at bX1_unwind_60 15 rfl
theorem bX1_unwind_88 : zdec cX1_unwind 88 [(88, .getfield 328, 3), (91, .iconst 1, 1), (92, .isub, 1), (93, .saload, 1), (94, .aload_n 0, 1), (95, .getfield 187, 3), (98, .aload_n 0, 1), (99, .getfield 443, 3), (102, .saload, 1), (103, .iadd, 1), (104, .putfield 440, 3), (107, .aload_n 0, 1), (108, .aload_n 0, 1), (109, .getfield 460, 3), (112, .aload_n 0, 1), (113, .getfield 463, 3)] = true := by decide +kernel
theorem dX1_unwind_88 : decode cX1_unwind 88 = .ok (.getfield 328, 3) := zdec_at bX1_unwind_88 0 rfl
theorem dX1_unwind_91 : decode cX1_unwind 91 = .ok (.iconst 1, 1) := zdec_at bX1_unwind_88 1 rfl
theorem dX1_unwind_92 : decode cX1_unwind 92 = .ok (.isub, 1) := zdec_at bX1_unwind_88 2 rfl
theorem dX1_unwind_93 : decode cX1_unwind 93 = .ok (.saload, 1) := zdec_at bX1_unwind_88 3 rfl
theorem dX1_unwind_94 : decode cX1_unwind 94 = .ok (.aload_n 0, 1) := zdec_at bX1_unwind_88 4 rfl
theorem dX1_unwind_95 : decode cX1_unwind 95 = .ok (.getfield 187, 3) := zdec_at bX1_unwind_88 5 rfl
theorem dX1_unwind_98 : decode cX1_unwind 98 = .ok (.aload_n 0, 1) := zdec_at bX1_unwind_88 6 rfl
theorem dX1_unwind_99 : decode cX1_unwind 99 = .ok (.getfield 443, 3) := zdec_at bX1_unwind_88 7 rfl
theorem dX1_unwind_102 : decode cX1_unwind 102 = .ok (.saload, 1) := zdec_at bX1_unwind_88 8 rfl
theorem dX1_unwind_103 : decode cX1_unwind 103 = .ok (.iadd, 1) := zdec_at bX1_unwind_88 9 rfl
theorem dX1_unwind_104 : decode cX1_unwind 104 = .ok (.putfield 440, 3) := zdec_at bX1_unwind_88 10 rfl
theorem dX1_unwind_107 : decode cX1_unwind 107 = .ok (.aload_n 0, 1) := zdec_at bX1_unwind_88 11 rfl
theorem dX1_unwind_108 : decode cX1_unwind 108 = .ok (.aload_n 0, 1) := zdec_at bX1_unwind_88 12 rfl
theorem dX1_unwind_109 : decode cX1_unwind 109 = .ok (.getfield 460, 3) := zdec_at bX1_unwind_88 13 rfl
theorem dX1_unwind_112 : decode cX1_unwind 112 = .ok (.aload_n 0, 1) := zdec_at bX1_unwind_88 14 rfl
theorem dX1_unwind_113 : decode cX1_unwind 113 = .ok (.getfield 463, 3) := zdec_at bX1_unwind_88 15 rfl
theorem bX1_unwind_116 : zdec cX1_unwind 116 [(116, .invokevirtual 476, 3), (119, .aload_n 0, 1), (120, .getfield 166, 3), (123, .aload_n 0, 1), (124, .getfield 328, 3), (127, .iconst 1, 1), (128, .isub, 1), (129, .aload_n 0, 1), (130, .getfield 184, 3), (133, .aload_n 0, 1), (134, .getfield 443, 3), (137, .saload, 1), (138, .sastore, 1), (139, .return_, 1)] = true := by decide +kernel
theorem dX1_unwind_116 : decode cX1_unwind 116 = .ok (.invokevirtual 476, 3) := zdec_at bX1_unwind_116 0 rfl
theorem dX1_unwind_119 : decode cX1_unwind 119 = .ok (.aload_n 0, 1) := zdec_at bX1_unwind_116 1 rfl
theorem dX1_unwind_120 : decode cX1_unwind 120 = .ok (.getfield 166, 3) := zdec_at bX1_unwind_116 2 rfl
theorem dX1_unwind_123 : decode cX1_unwind 123 = .ok (.aload_n 0, 1) := zdec_at bX1_unwind_116 3 rfl
theorem dX1_unwind_124 : decode cX1_unwind 124 = .ok (.getfield 328, 3) := zdec_at bX1_unwind_116 4 rfl
theorem dX1_unwind_127 : decode cX1_unwind 127 = .ok (.iconst 1, 1) := zdec_at bX1_unwind_116 5 rfl
theorem dX1_unwind_128 : decode cX1_unwind 128 = .ok (.isub, 1) := zdec_at bX1_unwind_116 6 rfl
theorem dX1_unwind_129 : decode cX1_unwind 129 = .ok (.aload_n 0, 1) := zdec_at bX1_unwind_116 7 rfl
theorem dX1_unwind_130 : decode cX1_unwind 130 = .ok (.getfield 184, 3) := zdec_at bX1_unwind_116 8 rfl
theorem dX1_unwind_133 : decode cX1_unwind 133 = .ok (.aload_n 0, 1) := zdec_at bX1_unwind_116 9 rfl
theorem dX1_unwind_134 : decode cX1_unwind 134 = .ok (.getfield 443, 3) := zdec_at bX1_unwind_116 10 rfl
theorem dX1_unwind_137 : decode cX1_unwind 137 = .ok (.saload, 1) := zdec_at bX1_unwind_116 11 rfl
theorem dX1_unwind_138 : decode cX1_unwind 138 = .ok (.sastore, 1) := zdec_at bX1_unwind_116 12 rfl
theorem dX1_unwind_139 : decode cX1_unwind 139 = .ok (.return_, 1) := zdec_at bX1_unwind_116 13 rfl
theorem sX1_unwind_0 {E : zE} {d : Nat} {Q : zO → zM → Prop} (M : zM)  (hw : cw M) (k : if (gi M 16 49) ≤ 0 then (Z E YX1_unwind (d + 1) M [(0, vr (some (16, 0, 0)))] 38 [] Q) else (vp_in ((gi M 16 49) - (1 : Int32)) 24 ∧ (if (gi M 16 50) = (gi M 62 (((gi M 16 49) - (1 : Int32))).toNatClampNeg) then (Z E YX1_unwind (d + 1) (si M 16 49 ((gi M 16 49) - (1 : Int32))) [(0, vr (some (16, 0, 0)))] 0 [] Q) else (Z E YX1_unwind (d + 1) M [(0, vr (some (16, 0, 0)))] 38 [] Q)))) : Z E YX1_unwind (d + 1) M [(0, vr (some (16, 0, 0)))] 0 [] Q := by
  refine z_aload_n dX1_unwind_0 rfl rfl ?_
  refine z_geti dX1_unwind_1 fsX1_328_0 ?_
  refine z_if_le (tgt := 38) dX1_unwind_4 rfl (fun h_ => ?_) (fun h_ => ?_)
  · have k := zit h_ k
    exact k
  · have k := zif h_ k
    refine z_aload_n dX1_unwind_7 rfl rfl ?_
    refine z_geti dX1_unwind_8 fsX1_443_0 ?_
    refine z_aload_n dX1_unwind_11 rfl rfl ?_
    refine z_getr dX1_unwind_12 fsX1_175_0 (show gr M 16 44 = some (62, 102, 24) from cw_at hw 30 rfl) ?_
    refine z_aload_n dX1_unwind_15 rfl rfl ?_
    refine z_geti dX1_unwind_16 fsX1_328_0 ?_
    refine z_iconst (v := 1) dX1_unwind_19 rfl ?_
    refine z_isub dX1_unwind_20 ?_
    obtain ⟨b_, k⟩ := k
    refine z_sald dX1_unwind_21 b_ ?_
    refine z_icmp_ne (tgt := 38) dX1_unwind_22 rfl (fun h_ => ?_) (fun h_ => ?_)
    · have k := zif h_ k
      exact k
    · have k := zit h_ k
      refine z_aload_n dX1_unwind_25 rfl rfl ?_
      refine z_dup dX1_unwind_26 rfl ?_
      refine z_geti dX1_unwind_27 fsX1_328_0 ?_
      refine z_iconst (v := 1) dX1_unwind_30 rfl ?_
      refine z_isub dX1_unwind_31 ?_
      refine z_puti (by decide) dX1_unwind_32 (zfwN.w fwX1_328_0) rfl ⟨rfl, rfl⟩ ?_
      refine z_goto (tgt := 0) dX1_unwind_35 rfl ?_
      exact k
theorem sX1_unwind_38 {E : zE} {d : Nat} {Q : zO → zM → Prop} (M : zM)  (hw : cw M) (k : if (gi M 16 49) = 0 then (Q (.inl none) (si (si (si (si M 16 38 (0 : Int32)) 16 51 (3 : Int32)) 16 54 (gi M 16 57)) 16 55 (gi M 16 58))) else (vp_in ((gi M 16 49) - (1 : Int32)) 24 ∧ (vp_in ((gi M 16 50) - (1 : Int32)) 960 ∧ (Z E YX1_push d (si (si M 16 50 ((gi M 16 50) - (1 : Int32))) 16 38 ((gi M 60 (((gi M 16 49) - (1 : Int32))).toNatClampNeg) + (gi M 66 (((gi M 16 50) - (1 : Int32))).toNatClampNeg))) (zargs 0 [vr (some (16, 0, 0)), vi (gi M 16 57), vi (gi M 16 58)]) 0 [] (zafter E YX1_unwind (d + 1) [(0, vr (some (16, 0, 0)))] 116 3 [] Q))))) : Z E YX1_unwind (d + 1) M [(0, vr (some (16, 0, 0)))] 38 [] Q := by
  refine z_aload_n dX1_unwind_38 rfl rfl ?_
  refine z_geti dX1_unwind_39 fsX1_328_0 ?_
  refine z_if_ne (tgt := 72) dX1_unwind_42 rfl (fun h_ => ?_) (fun h_ => ?_)
  · have k := zif h_ k
    refine z_aload_n dX1_unwind_72 rfl rfl ?_
    refine z_dup dX1_unwind_73 rfl ?_
    refine z_geti dX1_unwind_74 fsX1_443_0 ?_
    refine z_iconst (v := 1) dX1_unwind_77 rfl ?_
    refine z_isub dX1_unwind_78 ?_
    refine z_puti (by decide) dX1_unwind_79 (zfwN.w fwX1_443_0) rfl ⟨rfl, rfl⟩ ?_
    refine z_aload_n dX1_unwind_82 rfl rfl ?_
    refine z_aload_n dX1_unwind_83 rfl rfl ?_
    refine z_getr dX1_unwind_84 fsX1_169_0 (show gr M 16 42 = some (60, 102, 24) from cw_at hw 28 rfl) ?_
    refine z_aload_n dX1_unwind_87 rfl rfl ?_
    refine z_geti dX1_unwind_88 fsX1_328_0 ?_
    refine z_iconst (v := 1) dX1_unwind_91 rfl ?_
    refine z_isub dX1_unwind_92 ?_
    obtain ⟨b_, k⟩ := k
    refine z_sald dX1_unwind_93 b_ ?_
    refine z_aload_n dX1_unwind_94 rfl rfl ?_
    refine z_getr dX1_unwind_95 fsX1_187_0 (show gr M 16 48 = some (66, 102, 960) from cw_at hw 34 rfl) ?_
    refine z_aload_n dX1_unwind_98 rfl rfl ?_
    refine z_geti dX1_unwind_99 fsX1_443_0 ?_
    obtain ⟨b_, k⟩ := k
    refine z_sald dX1_unwind_102 b_ ?_
    refine z_iadd dX1_unwind_103 ?_
    refine z_puti (by decide) dX1_unwind_104 (zfwN.w fwX1_440_0) rfl ⟨rfl, rfl⟩ ?_
    refine z_aload_n dX1_unwind_107 rfl rfl ?_
    refine z_aload_n dX1_unwind_108 rfl rfl ?_
    refine z_geti dX1_unwind_109 fsX1_460_0 ?_
    refine z_aload_n dX1_unwind_112 rfl rfl ?_
    refine z_geti dX1_unwind_113 fsX1_463_0 ?_
    exact z_callV (as := [vi (gi M 16 57), vi (gi M 16 58)]) (st := []) dX1_unwind_116 vsX1_476_0 (Nat.le_refl _) (Nat.le_of_ble_eq_true rfl) (Nat.le_of_ble_eq_true rfl) rfl k
  · have k := zit h_ k
    refine z_aload_n dX1_unwind_45 rfl rfl ?_
    refine z_iconst (v := 0) dX1_unwind_46 rfl ?_
    refine z_puti (by decide) dX1_unwind_47 (zfwN.w fwX1_440_0) rfl ⟨rfl, rfl⟩ ?_
    refine z_aload_n dX1_unwind_50 rfl rfl ?_
    refine z_iconst (v := 3) dX1_unwind_51 rfl ?_
    refine z_puti (by decide) dX1_unwind_52 (zfwN.w fwX1_277_0) rfl ⟨rfl, rfl⟩ ?_
    refine z_aload_n dX1_unwind_55 rfl rfl ?_
    refine z_aload_n dX1_unwind_56 rfl rfl ?_
    refine z_geti dX1_unwind_57 fsX1_460_0 ?_
    refine z_puti (by decide) dX1_unwind_60 (zfwN.w fwX1_470_0) rfl ⟨rfl, rfl⟩ ?_
    refine z_aload_n dX1_unwind_63 rfl rfl ?_
    refine z_aload_n dX1_unwind_64 rfl rfl ?_
    refine z_geti dX1_unwind_65 fsX1_463_0 ?_
    refine z_puti (by decide) dX1_unwind_68 (zfwN.w fwX1_473_0) rfl ⟨rfl, rfl⟩ ?_
    exact z_vret dX1_unwind_71 rfl k
theorem sX1_unwind_119 {E : zE} {d : Nat} {Q : zO → zM → Prop} (M : zM)  (hw : cw M) (k : vp_in (gi M 16 50) 960 ∧ (vp_in ((gi M 16 49) - (1 : Int32)) 24 ∧ (Q (.inl none) (si M 59 (((gi M 16 49) - (1 : Int32))).toNatClampNeg (vp_nar .short (gi M 65 ((gi M 16 50)).toNatClampNeg)))))) : Z E YX1_unwind (d + 1) M [(0, vr (some (16, 0, 0)))] 119 [] Q := by
  refine z_aload_n dX1_unwind_119 rfl rfl ?_
  refine z_getr dX1_unwind_120 fsX1_166_0 (show gr M 16 41 = some (59, 102, 24) from cw_at hw 27 rfl) ?_
  refine z_aload_n dX1_unwind_123 rfl rfl ?_
  refine z_geti dX1_unwind_124 fsX1_328_0 ?_
  refine z_iconst (v := 1) dX1_unwind_127 rfl ?_
  refine z_isub dX1_unwind_128 ?_
  refine z_aload_n dX1_unwind_129 rfl rfl ?_
  refine z_getr dX1_unwind_130 fsX1_184_0 (show gr M 16 47 = some (65, 102, 960) from cw_at hw 33 rfl) ?_
  refine z_aload_n dX1_unwind_133 rfl rfl ?_
  refine z_geti dX1_unwind_134 fsX1_443_0 ?_
  obtain ⟨b_, k⟩ := k
  refine z_sald dX1_unwind_137 b_ ?_
  obtain ⟨b_, k⟩ := k
  refine z_sast (by decide) dX1_unwind_138 b_ ?_
  exact z_vret dX1_unwind_139 rfl k
