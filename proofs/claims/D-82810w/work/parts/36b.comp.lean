/-! ScriptTypes.remove(II)V -/
theorem bX1_remove_0 : zdec cX1_remove 0 [(0, .aload_n 0, 1), (1, .getfield 109, 3), (4, .iload_n 1, 1), (5, .saload, 1), (6, .istore_n 3, 1), (7, .iconst (-1), 1), (8, .istore 4, 2), (10, .iload_n 3, 1), (11, .iconst (-1), 1), (12, .if_icmp .eq 26, 3), (15, .aload_n 0, 1), (16, .getfield 118, 3), (19, .iload_n 3, 1), (20, .saload, 1), (21, .iload_n 2, 1), (22, .if_icmp .eq 16, 3)] = true := by decide +kernel
theorem dX1_remove_0 : decode cX1_remove 0 = .ok (.aload_n 0, 1) := zdec_at bX1_remove_0 0 rfl
theorem dX1_remove_1 : decode cX1_remove 1 = .ok (.getfield 109, 3) := zdec_at bX1_remove_0 1 rfl
theorem dX1_remove_4 : decode cX1_remove 4 = .ok (.iload_n 1, 1) := zdec_at bX1_remove_0 2 rfl
theorem dX1_remove_5 : decode cX1_remove 5 = .ok (.saload, 1) := zdec_at bX1_remove_0 3 rfl
theorem dX1_remove_6 : decode cX1_remove 6 = .ok (.istore_n 3, 1) := zdec_at bX1_remove_0 4 rfl
theorem dX1_remove_7 : decode cX1_remove 7 = .ok (.iconst (-1), 1) := zdec_at bX1_remove_0 5 rfl
theorem dX1_remove_8 : decode cX1_remove 8 = .ok (.istore 4, 2) := zdec_at bX1_remove_0 6 rfl
theorem dX1_remove_10 : decode cX1_remove 10 = .ok (.iload_n 3, 1) := zdec_at bX1_remove_0 7 rfl
theorem dX1_remove_11 : decode cX1_remove 11 = .ok (.iconst (-1), 1) := zdec_at bX1_remove_0 8 rfl
theorem dX1_remove_12 : decode cX1_remove 12 = .ok (.if_icmp .eq 26, 3) := zdec_at bX1_remove_0 9 rfl
theorem dX1_remove_15 : decode cX1_remove 15 = .ok (.aload_n 0, 1) := zdec_at bX1_remove_0 10 rfl
theorem dX1_remove_16 : decode cX1_remove 16 = .ok (.getfield 118, 3) := zdec_at bX1_remove_0 11 rfl
theorem dX1_remove_19 : decode cX1_remove 19 = .ok (.iload_n 3, 1) := zdec_at bX1_remove_0 12 rfl
theorem dX1_remove_20 : decode cX1_remove 20 = .ok (.saload, 1) := zdec_at bX1_remove_0 13 rfl
theorem dX1_remove_21 : decode cX1_remove 21 = .ok (.iload_n 2, 1) := zdec_at bX1_remove_0 14 rfl
theorem dX1_remove_22 : decode cX1_remove 22 = .ok (.if_icmp .eq 16, 3) := zdec_at bX1_remove_0 15 rfl
theorem bX1_remove_25 : zdec cX1_remove 25 [(25, .iload_n 3, 1), (26, .istore 4, 2), (28, .aload_n 0, 1), (29, .getfield 121, 3), (32, .iload_n 3, 1), (33, .saload, 1), (34, .istore_n 3, 1), (35, .goto (-25), 3), (38, .iload_n 3, 1), (39, .iconst (-1), 1), (40, .if_icmp .ne 4, 3), (43, .return_, 1), (44, .iload 4, 2), (46, .iconst (-1), 1), (47, .if_icmp .ne 18, 3), (50, .aload_n 0, 1)] = true := by decide +kernel
theorem dX1_remove_25 : decode cX1_remove 25 = .ok (.iload_n 3, 1) := zdec_at bX1_remove_25 0 rfl
theorem dX1_remove_26 : decode cX1_remove 26 = .ok (.istore 4, 2) := zdec_at bX1_remove_25 1 rfl
theorem dX1_remove_28 : decode cX1_remove 28 = .ok (.aload_n 0, 1) := zdec_at bX1_remove_25 2 rfl
theorem dX1_remove_29 : decode cX1_remove 29 = .ok (.getfield 121, 3) := zdec_at bX1_remove_25 3 rfl
theorem dX1_remove_32 : decode cX1_remove 32 = .ok (.iload_n 3, 1) := zdec_at bX1_remove_25 4 rfl
theorem dX1_remove_33 : decode cX1_remove 33 = .ok (.saload, 1) := zdec_at bX1_remove_25 5 rfl
theorem dX1_remove_34 : decode cX1_remove 34 = .ok (.istore_n 3, 1) := zdec_at bX1_remove_25 6 rfl
theorem dX1_remove_35 : decode cX1_remove 35 = .ok (.goto (-25), 3) := zdec_at bX1_remove_25 7 rfl
theorem dX1_remove_38 : decode cX1_remove 38 = .ok (.iload_n 3, 1) := zdec_at bX1_remove_25 8 rfl
theorem dX1_remove_39 : decode cX1_remove 39 = .ok (.iconst (-1), 1) := zdec_at bX1_remove_25 9 rfl
theorem dX1_remove_40 : decode cX1_remove 40 = .ok (.if_icmp .ne 4, 3) := zdec_at bX1_remove_25 10 rfl
theorem dX1_remove_43 : decode cX1_remove 43 = .ok (.return_, 1) := zdec_at bX1_remove_25 11 rfl
theorem dX1_remove_44 : decode cX1_remove 44 = .ok (.iload 4, 2) := zdec_at bX1_remove_25 12 rfl
theorem dX1_remove_46 : decode cX1_remove 46 = .ok (.iconst (-1), 1) := zdec_at bX1_remove_25 13 rfl
theorem dX1_remove_47 : decode cX1_remove 47 = .ok (.if_icmp .ne 18, 3) := zdec_at bX1_remove_25 14 rfl
theorem dX1_remove_50 : decode cX1_remove 50 = .ok (.aload_n 0, 1) := zdec_at bX1_remove_25 15 rfl
theorem bX1_remove_51 : zdec cX1_remove 51 [(51, .getfield 109, 3), (54, .iload_n 1, 1), (55, .aload_n 0, 1), (56, .getfield 121, 3), (59, .iload_n 3, 1), (60, .saload, 1), (61, .sastore, 1), (62, .goto 16, 3), (65, .aload_n 0, 1), (66, .getfield 121, 3), (69, .iload 4, 2), (71, .aload_n 0, 1), (72, .getfield 121, 3), (75, .iload_n 3, 1), (76, .saload, 1), (77, .sastore, 1)] = true := by decide +kernel
theorem dX1_remove_51 : decode cX1_remove 51 = .ok (.getfield 109, 3) := zdec_at bX1_remove_51 0 rfl
theorem dX1_remove_54 : decode cX1_remove 54 = .ok (.iload_n 1, 1) := zdec_at bX1_remove_51 1 rfl
theorem dX1_remove_55 : decode cX1_remove 55 = .ok (.aload_n 0, 1) := zdec_at bX1_remove_51 2 rfl
theorem dX1_remove_56 : decode cX1_remove 56 = .ok (.getfield 121, 3) := zdec_at bX1_remove_51 3 rfl
theorem dX1_remove_59 : decode cX1_remove 59 = .ok (.iload_n 3, 1) := zdec_at bX1_remove_51 4 rfl
theorem dX1_remove_60 : decode cX1_remove 60 = .ok (.saload, 1) := zdec_at bX1_remove_51 5 rfl
theorem dX1_remove_61 : decode cX1_remove 61 = .ok (.sastore, 1) := zdec_at bX1_remove_51 6 rfl
theorem dX1_remove_62 : decode cX1_remove 62 = .ok (.goto 16, 3) := zdec_at bX1_remove_51 7 rfl
theorem dX1_remove_65 : decode cX1_remove 65 = .ok (.aload_n 0, 1) := zdec_at bX1_remove_51 8 rfl
theorem dX1_remove_66 : decode cX1_remove 66 = .ok (.getfield 121, 3) := zdec_at bX1_remove_51 9 rfl
theorem dX1_remove_69 : decode cX1_remove 69 = .ok (.iload 4, 2) := zdec_at bX1_remove_51 10 rfl
theorem dX1_remove_71 : decode cX1_remove 71 = .ok (.aload_n 0, 1) := zdec_at bX1_remove_51 11 rfl
theorem dX1_remove_72 : decode cX1_remove 72 = .ok (.getfield 121, 3) := zdec_at bX1_remove_51 12 rfl
theorem dX1_remove_75 : decode cX1_remove 75 = .ok (.iload_n 3, 1) := zdec_at bX1_remove_51 13 rfl
theorem dX1_remove_76 : decode cX1_remove 76 = .ok (.saload, 1) := zdec_at bX1_remove_51 14 rfl
theorem dX1_remove_77 : decode cX1_remove 77 = .ok (.sastore, 1) := zdec_at bX1_remove_51 15 rfl
theorem bX1_remove_78 : zdec cX1_remove 78 [(78, .aload_n 0, 1), (79, .getfield 112, 3), (82, .iload_n 1, 1), (83, .saload, 1), (84, .iload_n 3, 1), (85, .if_icmp .ne 12, 3), (88, .aload_n 0, 1), (89, .getfield 112, 3), (92, .iload_n 1, 1), (93, .iload 4, 2), (95, .i2s, 1), (96, .sastore, 1), (97, .aload_n 0, 1), (98, .getfield 121, 3), (101, .iload_n 3, 1), (102, .aload_n 0, 1)] = true := by decide +kernel
theorem dX1_remove_78 : decode cX1_remove 78 = .ok (.aload_n 0, 1) := zdec_at bX1_remove_78 0 rfl
theorem dX1_remove_79 : decode cX1_remove 79 = .ok (.getfield 112, 3) := zdec_at bX1_remove_78 1 rfl
theorem dX1_remove_82 : decode cX1_remove 82 = .ok (.iload_n 1, 1) := zdec_at bX1_remove_78 2 rfl
theorem dX1_remove_83 : decode cX1_remove 83 = .ok (.saload, 1) := zdec_at bX1_remove_78 3 rfl
theorem dX1_remove_84 : decode cX1_remove 84 = .ok (.iload_n 3, 1) := zdec_at bX1_remove_78 4 rfl
theorem dX1_remove_85 : decode cX1_remove 85 = .ok (.if_icmp .ne 12, 3) := zdec_at bX1_remove_78 5 rfl
theorem dX1_remove_88 : decode cX1_remove 88 = .ok (.aload_n 0, 1) := zdec_at bX1_remove_78 6 rfl
theorem dX1_remove_89 : decode cX1_remove 89 = .ok (.getfield 112, 3) := zdec_at bX1_remove_78 7 rfl
theorem dX1_remove_92 : decode cX1_remove 92 = .ok (.iload_n 1, 1) := zdec_at bX1_remove_78 8 rfl
theorem dX1_remove_93 : decode cX1_remove 93 = .ok (.iload 4, 2) := zdec_at bX1_remove_78 9 rfl
theorem dX1_remove_95 : decode cX1_remove 95 = .ok (.i2s, 1) := zdec_at bX1_remove_78 10 rfl
theorem dX1_remove_96 : decode cX1_remove 96 = .ok (.sastore, 1) := zdec_at bX1_remove_78 11 rfl
theorem dX1_remove_97 : decode cX1_remove 97 = .ok (.aload_n 0, 1) := zdec_at bX1_remove_78 12 rfl
theorem dX1_remove_98 : decode cX1_remove 98 = .ok (.getfield 121, 3) := zdec_at bX1_remove_78 13 rfl
theorem dX1_remove_101 : decode cX1_remove 101 = .ok (.iload_n 3, 1) := zdec_at bX1_remove_78 14 rfl
theorem dX1_remove_102 : decode cX1_remove 102 = .ok (.aload_n 0, 1) := zdec_at bX1_remove_78 15 rfl
theorem bX1_remove_103 : zdec cX1_remove 103 [(103, .getfield 349, 3), (106, .i2s, 1), (107, .sastore, 1), (108, .aload_n 0, 1), (109, .iload_n 3, 1), (110, .putfield 349, 3), (113, .return_, 1)] = true := by decide +kernel
theorem dX1_remove_103 : decode cX1_remove 103 = .ok (.getfield 349, 3) := zdec_at bX1_remove_103 0 rfl
theorem dX1_remove_106 : decode cX1_remove 106 = .ok (.i2s, 1) := zdec_at bX1_remove_103 1 rfl
theorem dX1_remove_107 : decode cX1_remove 107 = .ok (.sastore, 1) := zdec_at bX1_remove_103 2 rfl
theorem dX1_remove_108 : decode cX1_remove 108 = .ok (.aload_n 0, 1) := zdec_at bX1_remove_103 3 rfl
theorem dX1_remove_109 : decode cX1_remove 109 = .ok (.iload_n 3, 1) := zdec_at bX1_remove_103 4 rfl
theorem dX1_remove_110 : decode cX1_remove 110 = .ok (.putfield 349, 3) := zdec_at bX1_remove_103 5 rfl
theorem dX1_remove_113 : decode cX1_remove 113 = .ok (.return_, 1) := zdec_at bX1_remove_103 6 rfl
theorem sX1_remove_0 {E : zE} {d : Nat} {Q : zO → zM → Prop} (M : zM) (l1 : Int32) (l2 : Int32) (hw : cw M) (k : vp_in l1 300 ∧ (Z E YX1_remove d M [(0, vr (some (16, 0, 0))), (1, vi l1), (2, vi l2), (3, vi (gi M 43 (l1).toNatClampNeg)), (4, vi (-1 : Int32))] 10 [] Q)) : Z E YX1_remove d M [(0, vr (some (16, 0, 0))), (1, vi l1), (2, vi l2)] 0 [] Q := by
  refine z_aload_n dX1_remove_0 rfl rfl ?_
  refine z_getr dX1_remove_1 fsX1_109_0 (show gr M 16 18 = some (43, 102, 300) from cw_at hw 11 rfl) ?_
  refine z_iload_n dX1_remove_4 rfl rfl ?_
  obtain ⟨b_, k⟩ := k
  refine z_sald dX1_remove_5 b_ ?_
  refine z_ist_n dX1_remove_6 rfl (by decide) (lv' := [(0, vr (some (16, 0, 0))), (1, vi l1), (2, vi l2), (3, vi (gi M 43 (l1).toNatClampNeg))]) rfl ?_
  refine z_iconst (v := -1) dX1_remove_7 rfl ?_
  refine z_ist dX1_remove_8 (by decide) (lv' := [(0, vr (some (16, 0, 0))), (1, vi l1), (2, vi l2), (3, vi (gi M 43 (l1).toNatClampNeg)), (4, vi (-1 : Int32))]) rfl ?_
  exact k
theorem sX1_remove_10 {E : zE} {d : Nat} {Q : zO → zM → Prop} (M : zM) (l1 : Int32) (l2 : Int32) (l3 : Int32) (l4 : Int32) (hw : cw M) (k : if l3 = (-1 : Int32) then (Z E YX1_remove d M [(0, vr (some (16, 0, 0))), (1, vi l1), (3, vi l3), (4, vi l4)] 38 [] Q) else (vp_in l3 3000 ∧ (if (gi M 46 (l3).toNatClampNeg) = l2 then (Z E YX1_remove d M [(0, vr (some (16, 0, 0))), (1, vi l1), (3, vi l3), (4, vi l4)] 38 [] Q) else (vp_in l3 3000 ∧ (Z E YX1_remove d M [(0, vr (some (16, 0, 0))), (1, vi l1), (2, vi l2), (3, vi (gi M 47 (l3).toNatClampNeg)), (4, vi l3)] 10 [] Q))))) : Z E YX1_remove d M [(0, vr (some (16, 0, 0))), (1, vi l1), (2, vi l2), (3, vi l3), (4, vi l4)] 10 [] Q := by
  refine z_iload_n dX1_remove_10 rfl rfl ?_
  refine z_iconst (v := -1) dX1_remove_11 rfl ?_
  refine z_icmp_eq (tgt := 38) dX1_remove_12 rfl (fun h_ => ?_) (fun h_ => ?_)
  · have k := zit h_ k
    refine Z.pick [0, 1, 3, 4] rfl ?_
    exact k
  · have k := zif h_ k
    refine z_aload_n dX1_remove_15 rfl rfl ?_
    refine z_getr dX1_remove_16 fsX1_118_0 (show gr M 16 21 = some (46, 102, 3000) from cw_at hw 14 rfl) ?_
    refine z_iload_n dX1_remove_19 rfl rfl ?_
    obtain ⟨b_, k⟩ := k
    refine z_sald dX1_remove_20 b_ ?_
    refine z_iload_n dX1_remove_21 rfl rfl ?_
    refine z_icmp_eq (tgt := 38) dX1_remove_22 rfl (fun h_ => ?_) (fun h_ => ?_)
    · have k := zit h_ k
      refine Z.pick [0, 1, 3, 4] rfl ?_
      exact k
    · have k := zif h_ k
      refine z_iload_n dX1_remove_25 rfl rfl ?_
      refine z_ist dX1_remove_26 (by decide) (lv' := [(0, vr (some (16, 0, 0))), (1, vi l1), (2, vi l2), (3, vi l3), (4, vi l3)]) rfl ?_
      refine z_aload_n dX1_remove_28 rfl rfl ?_
      refine z_getr dX1_remove_29 fsX1_121_0 (show gr M 16 22 = some (47, 102, 3000) from cw_at hw 15 rfl) ?_
      refine z_iload_n dX1_remove_32 rfl rfl ?_
      obtain ⟨b_, k⟩ := k
      refine z_sald dX1_remove_33 b_ ?_
      refine z_ist_n dX1_remove_34 rfl (by decide) (lv' := [(0, vr (some (16, 0, 0))), (1, vi l1), (2, vi l2), (3, vi (gi M 47 (l3).toNatClampNeg)), (4, vi l3)]) rfl ?_
      refine z_goto (tgt := 10) dX1_remove_35 rfl ?_
      exact k
theorem sX1_remove_38 {E : zE} {d : Nat} {Q : zO → zM → Prop} (M : zM) (l1 : Int32) (l3 : Int32) (l4 : Int32) (hw : cw M) (k : if l3 = (-1 : Int32) then (Q (.inl none) M) else (if l4 = (-1 : Int32) then (vp_in l3 3000 ∧ (vp_in l1 300 ∧ (Z E YX1_remove d (si M 43 (l1).toNatClampNeg (vp_nar .short (gi M 47 (l3).toNatClampNeg))) [(0, vr (some (16, 0, 0))), (1, vi l1), (3, vi l3), (4, vi l4)] 78 [] Q))) else (vp_in l3 3000 ∧ (vp_in l4 3000 ∧ (Z E YX1_remove d (si M 47 (l4).toNatClampNeg (vp_nar .short (gi M 47 (l3).toNatClampNeg))) [(0, vr (some (16, 0, 0))), (1, vi l1), (3, vi l3), (4, vi l4)] 78 [] Q))))) : Z E YX1_remove d M [(0, vr (some (16, 0, 0))), (1, vi l1), (3, vi l3), (4, vi l4)] 38 [] Q := by
  refine z_iload_n dX1_remove_38 rfl rfl ?_
  refine z_iconst (v := -1) dX1_remove_39 rfl ?_
  refine z_icmp_ne (tgt := 44) dX1_remove_40 rfl (fun h_ => ?_) (fun h_ => ?_)
  · have k := zif h_ k
    refine z_iload dX1_remove_44 rfl ?_
    refine z_iconst (v := -1) dX1_remove_46 rfl ?_
    refine z_icmp_ne (tgt := 65) dX1_remove_47 rfl (fun h_ => ?_) (fun h_ => ?_)
    · have k := zif h_ k
      refine z_aload_n dX1_remove_65 rfl rfl ?_
      refine z_getr dX1_remove_66 fsX1_121_0 (show gr M 16 22 = some (47, 102, 3000) from cw_at hw 15 rfl) ?_
      refine z_iload dX1_remove_69 rfl ?_
      refine z_aload_n dX1_remove_71 rfl rfl ?_
      refine z_getr dX1_remove_72 fsX1_121_0 (show gr M 16 22 = some (47, 102, 3000) from cw_at hw 15 rfl) ?_
      refine z_iload_n dX1_remove_75 rfl rfl ?_
      obtain ⟨b_, k⟩ := k
      refine z_sald dX1_remove_76 b_ ?_
      obtain ⟨b_, k⟩ := k
      refine z_sast (by decide) dX1_remove_77 b_ ?_
      exact k
    · have k := zit h_ k
      refine z_aload_n dX1_remove_50 rfl rfl ?_
      refine z_getr dX1_remove_51 fsX1_109_0 (show gr M 16 18 = some (43, 102, 300) from cw_at hw 11 rfl) ?_
      refine z_iload_n dX1_remove_54 rfl rfl ?_
      refine z_aload_n dX1_remove_55 rfl rfl ?_
      refine z_getr dX1_remove_56 fsX1_121_0 (show gr M 16 22 = some (47, 102, 3000) from cw_at hw 15 rfl) ?_
      refine z_iload_n dX1_remove_59 rfl rfl ?_
      obtain ⟨b_, k⟩ := k
      refine z_sald dX1_remove_60 b_ ?_
      obtain ⟨b_, k⟩ := k
      refine z_sast (by decide) dX1_remove_61 b_ ?_
      refine z_goto (tgt := 78) dX1_remove_62 rfl ?_
      exact k
  · have k := zit h_ k
    exact z_vret dX1_remove_43 rfl k
theorem sX1_remove_78 {E : zE} {d : Nat} {Q : zO → zM → Prop} (M : zM) (l1 : Int32) (l3 : Int32) (l4 : Int32) (hw : cw M) (k : vp_in l1 300 ∧ (if (gi M 44 (l1).toNatClampNeg) = l3 then (vp_in l1 300 ∧ (Z E YX1_remove d (si M 44 (l1).toNatClampNeg (vp_nar .short (l4).toInt16.toInt32)) [(0, vr (some (16, 0, 0))), (3, vi l3)] 97 [] Q)) else (Z E YX1_remove d M [(0, vr (some (16, 0, 0))), (3, vi l3)] 97 [] Q))) : Z E YX1_remove d M [(0, vr (some (16, 0, 0))), (1, vi l1), (3, vi l3), (4, vi l4)] 78 [] Q := by
  refine z_aload_n dX1_remove_78 rfl rfl ?_
  refine z_getr dX1_remove_79 fsX1_112_0 (show gr M 16 19 = some (44, 102, 300) from cw_at hw 12 rfl) ?_
  refine z_iload_n dX1_remove_82 rfl rfl ?_
  obtain ⟨b_, k⟩ := k
  refine z_sald dX1_remove_83 b_ ?_
  refine z_iload_n dX1_remove_84 rfl rfl ?_
  refine z_icmp_ne (tgt := 97) dX1_remove_85 rfl (fun h_ => ?_) (fun h_ => ?_)
  · have k := zif h_ k
    refine Z.pick [0, 2] rfl ?_
    exact k
  · have k := zit h_ k
    refine z_aload_n dX1_remove_88 rfl rfl ?_
    refine z_getr dX1_remove_89 fsX1_112_0 (show gr M 16 19 = some (44, 102, 300) from cw_at hw 12 rfl) ?_
    refine z_iload_n dX1_remove_92 rfl rfl ?_
    refine z_iload dX1_remove_93 rfl ?_
    refine z_i2s dX1_remove_95 ?_
    obtain ⟨b_, k⟩ := k
    refine z_sast (by decide) dX1_remove_96 b_ ?_
    refine Z.pick [0, 2] rfl ?_
    exact k
theorem sX1_remove_97 {E : zE} {d : Nat} {Q : zO → zM → Prop} (M : zM) (l3 : Int32) (hw : cw M) (k : vp_in l3 3000 ∧ (Q (.inl none) (si (si M 47 (l3).toNatClampNeg (vp_nar .short ((gi M 16 28)).toInt16.toInt32)) 16 28 l3))) : Z E YX1_remove d M [(0, vr (some (16, 0, 0))), (3, vi l3)] 97 [] Q := by
  refine z_aload_n dX1_remove_97 rfl rfl ?_
  refine z_getr dX1_remove_98 fsX1_121_0 (show gr M 16 22 = some (47, 102, 3000) from cw_at hw 15 rfl) ?_
  refine z_iload_n dX1_remove_101 rfl rfl ?_
  refine z_aload_n dX1_remove_102 rfl rfl ?_
  refine z_geti dX1_remove_103 fsX1_349_0 ?_
  refine z_i2s dX1_remove_106 ?_
  obtain ⟨b_, k⟩ := k
  refine z_sast (by decide) dX1_remove_107 b_ ?_
  refine z_aload_n dX1_remove_108 rfl rfl ?_
  refine z_iload_n dX1_remove_109 rfl rfl ?_
  refine z_puti (by decide) dX1_remove_110 (zfwN.w fwX1_349_0) rfl ⟨rfl, rfl⟩ ?_
  exact z_vret dX1_remove_113 rfl k
/-! ScriptTypes.givesTruth(Z)V -/
theorem bX1_givesTruth_0 : zdec cX1_givesTruth 0 [(0, .aload_n 0, 1), (1, .iload_n 1, 1), (2, .ifCond .eq 7, 3), (5, .iconst 2, 1), (6, .goto 4, 3), (9, .iconst 3, 1), (10, .iconst 0, 1), (11, .invokevirtual 395, 3), (14, .return_, 1)] = true := by decide +kernel
theorem dX1_givesTruth_0 : decode cX1_givesTruth 0 = .ok (.aload_n 0, 1) := zdec_at bX1_givesTruth_0 0 rfl
theorem dX1_givesTruth_1 : decode cX1_givesTruth 1 = .ok (.iload_n 1, 1) := zdec_at bX1_givesTruth_0 1 rfl
theorem dX1_givesTruth_2 : decode cX1_givesTruth 2 = .ok (.ifCond .eq 7, 3) := zdec_at bX1_givesTruth_0 2 rfl
theorem dX1_givesTruth_5 : decode cX1_givesTruth 5 = .ok (.iconst 2, 1) := zdec_at bX1_givesTruth_0 3 rfl
theorem dX1_givesTruth_6 : decode cX1_givesTruth 6 = .ok (.goto 4, 3) := zdec_at bX1_givesTruth_0 4 rfl
theorem dX1_givesTruth_9 : decode cX1_givesTruth 9 = .ok (.iconst 3, 1) := zdec_at bX1_givesTruth_0 5 rfl
theorem dX1_givesTruth_10 : decode cX1_givesTruth 10 = .ok (.iconst 0, 1) := zdec_at bX1_givesTruth_0 6 rfl
theorem dX1_givesTruth_11 : decode cX1_givesTruth 11 = .ok (.invokevirtual 395, 3) := zdec_at bX1_givesTruth_0 7 rfl
theorem dX1_givesTruth_14 : decode cX1_givesTruth 14 = .ok (.return_, 1) := zdec_at bX1_givesTruth_0 8 rfl
theorem sX1_givesTruth_0 {E : zE} {d : Nat} {Q : zO → zM → Prop} (M : zM) (l1 : Int32) (hw : cw M) (k : if l1 = 0 then (Z E YX1_gives d M (zargs 0 [vr (some (16, 0, 0)), vi (3 : Int32), vi (0 : Int32)]) 0 [] (zafter E YX1_givesTruth (d + 1) [] 11 3 [] Q)) else (Z E YX1_gives d M (zargs 0 [vr (some (16, 0, 0)), vi (2 : Int32), vi (0 : Int32)]) 0 [] (zafter E YX1_givesTruth (d + 1) [] 11 3 [] Q))) : Z E YX1_givesTruth (d + 1) M [(0, vr (some (16, 0, 0))), (1, vi l1)] 0 [] Q := by
  refine z_aload_n dX1_givesTruth_0 rfl rfl ?_
  refine z_iload_n dX1_givesTruth_1 rfl rfl ?_
  refine z_if_eq (tgt := 9) dX1_givesTruth_2 rfl (fun h_ => ?_) (fun h_ => ?_)
  · have k := zit h_ k
    refine z_iconst (v := 3) dX1_givesTruth_9 rfl ?_
    refine z_iconst (v := 0) dX1_givesTruth_10 rfl ?_
    refine Z.pick [] rfl ?_
    exact z_callV (as := [vi (3 : Int32), vi (0 : Int32)]) (st := []) dX1_givesTruth_11 vsX1_395_0 (Nat.le_refl _) (Nat.le_of_ble_eq_true rfl) (Nat.le_of_ble_eq_true rfl) rfl k
  · have k := zif h_ k
    refine z_iconst (v := 2) dX1_givesTruth_5 rfl ?_
    refine z_goto (tgt := 10) dX1_givesTruth_6 rfl ?_
    refine z_iconst (v := 0) dX1_givesTruth_10 rfl ?_
    refine Z.pick [] rfl ?_
    exact z_callV (as := [vi (2 : Int32), vi (0 : Int32)]) (st := []) dX1_givesTruth_11 vsX1_395_0 (Nat.le_refl _) (Nat.le_of_ble_eq_true rfl) (Nat.le_of_ble_eq_true rfl) rfl k
theorem sX1_givesTruth_14 {E : zE} {d : Nat} {Q : zO → zM → Prop} (M : zM)  (hw : cw M) (k : Q (.inl none) M) : Z E YX1_givesTruth (d + 1) M [] 14 [] Q := by
  exact z_vret dX1_givesTruth_14 rfl k
/-! ScriptTypes.unary(III)V -/
theorem bX1_unary_0 : zdec cX1_unary 0 [(0, .iload_n 1, 1), (1, .iconst 3, 1), (2, .if_icmp .ne 24, 3), (5, .aload_n 0, 1), (6, .aload_n 0, 1), (7, .iload_n 2, 1), (8, .iload_n 3, 1), (9, .invokevirtual 401, 3), (12, .ifCond .ne 7, 3), (15, .iconst 1, 1), (16, .goto 4, 3), (19, .iconst 0, 1), (20, .invokevirtual 405, 3), (23, .goto 94, 3), (26, .iload_n 1, 1), (27, .iconst 4, 1)] = true := by decide +kernel
theorem dX1_unary_0 : decode cX1_unary 0 = .ok (.iload_n 1, 1) := zdec_at bX1_unary_0 0 rfl
theorem dX1_unary_1 : decode cX1_unary 1 = .ok (.iconst 3, 1) := zdec_at bX1_unary_0 1 rfl
theorem dX1_unary_2 : decode cX1_unary 2 = .ok (.if_icmp .ne 24, 3) := zdec_at bX1_unary_0 2 rfl
theorem dX1_unary_5 : decode cX1_unary 5 = .ok (.aload_n 0, 1) := zdec_at bX1_unary_0 3 rfl
theorem dX1_unary_6 : decode cX1_unary 6 = .ok (.aload_n 0, 1) := zdec_at bX1_unary_0 4 rfl
theorem dX1_unary_7 : decode cX1_unary 7 = .ok (.iload_n 2, 1) := zdec_at bX1_unary_0 5 rfl
theorem dX1_unary_8 : decode cX1_unary 8 = .ok (.iload_n 3, 1) := zdec_at bX1_unary_0 6 rfl
theorem dX1_unary_9 : decode cX1_unary 9 = .ok (.invokevirtual 401, 3) := zdec_at bX1_unary_0 7 rfl
theorem dX1_unary_12 : decode cX1_unary 12 = .ok (.ifCond .ne 7, 3) := zdec_at bX1_unary_0 8 rfl
theorem dX1_unary_15 : decode cX1_unary 15 = .ok (.iconst 1, 1) := zdec_at bX1_unary_0 9 rfl
theorem dX1_unary_16 : decode cX1_unary 16 = .ok (.goto 4, 3) := zdec_at bX1_unary_0 10 rfl
theorem dX1_unary_19 : decode cX1_unary 19 = .ok (.iconst 0, 1) := zdec_at bX1_unary_0 11 rfl
theorem dX1_unary_20 : decode cX1_unary 20 = .ok (.invokevirtual 405, 3) := zdec_at bX1_unary_0 12 rfl
theorem dX1_unary_23 : decode cX1_unary 23 = .ok (.goto 94, 3) := zdec_at bX1_unary_0 13 rfl
theorem dX1_unary_26 : decode cX1_unary 26 = .ok (.iload_n 1, 1) := zdec_at bX1_unary_0 14 rfl
theorem dX1_unary_27 : decode cX1_unary 27 = .ok (.iconst 4, 1) := zdec_at bX1_unary_0 15 rfl
theorem bX1_unary_28 : zdec cX1_unary 28 [(28, .if_icmp .ne 18, 3), (31, .aload_n 0, 1), (32, .bipush 6, 2), (34, .aload_n 0, 1), (35, .iload_n 2, 1), (36, .iload_n 3, 1), (37, .invokevirtual 409, 3), (40, .invokevirtual 395, 3), (43, .goto 74, 3), (46, .aload_n 0, 1), (47, .iload_n 2, 1), (48, .iload_n 3, 1), (49, .invokevirtual 412, 3), (52, .istore 4, 2), (54, .iload_n 1, 1), (55, .iconst 2, 1)] = true := by decide +kernel
theorem dX1_unary_28 : decode cX1_unary 28 = .ok (.if_icmp .ne 18, 3) := zdec_at bX1_unary_28 0 rfl
theorem dX1_unary_31 : decode cX1_unary 31 = .ok (.aload_n 0, 1) := zdec_at bX1_unary_28 1 rfl
theorem dX1_unary_32 : decode cX1_unary 32 = .ok (.bipush 6, 2) := zdec_at bX1_unary_28 2 rfl
theorem dX1_unary_34 : decode cX1_unary 34 = .ok (.aload_n 0, 1) := zdec_at bX1_unary_28 3 rfl
theorem dX1_unary_35 : decode cX1_unary 35 = .ok (.iload_n 2, 1) := zdec_at bX1_unary_28 4 rfl
theorem dX1_unary_36 : decode cX1_unary 36 = .ok (.iload_n 3, 1) := zdec_at bX1_unary_28 5 rfl
theorem dX1_unary_37 : decode cX1_unary 37 = .ok (.invokevirtual 409, 3) := zdec_at bX1_unary_28 6 rfl
theorem dX1_unary_40 : decode cX1_unary 40 = .ok (.invokevirtual 395, 3) := zdec_at bX1_unary_28 7 rfl
theorem dX1_unary_43 : decode cX1_unary 43 = .ok (.goto 74, 3) := zdec_at bX1_unary_28 8 rfl
theorem dX1_unary_46 : decode cX1_unary 46 = .ok (.aload_n 0, 1) := zdec_at bX1_unary_28 9 rfl
theorem dX1_unary_47 : decode cX1_unary 47 = .ok (.iload_n 2, 1) := zdec_at bX1_unary_28 10 rfl
theorem dX1_unary_48 : decode cX1_unary 48 = .ok (.iload_n 3, 1) := zdec_at bX1_unary_28 11 rfl
theorem dX1_unary_49 : decode cX1_unary 49 = .ok (.invokevirtual 412, 3) := zdec_at bX1_unary_28 12 rfl
theorem dX1_unary_52 : decode cX1_unary 52 = .ok (.istore 4, 2) := zdec_at bX1_unary_28 13 rfl
theorem dX1_unary_54 : decode cX1_unary 54 = .ok (.iload_n 1, 1) := zdec_at bX1_unary_28 14 rfl
theorem dX1_unary_55 : decode cX1_unary 55 = .ok (.iconst 2, 1) := zdec_at bX1_unary_28 15 rfl
theorem bX1_unary_56 : zdec cX1_unary 56 [(56, .if_icmp .ne 26, 3), (59, .aload_n 0, 1), (60, .iconst 5, 1), (61, .iload 4, 2), (63, .ifCond .eq 10, 3), (66, .aload_n 0, 1), (67, .getfield 392, 3), (70, .goto 4, 3), (73, .iconst 0, 1), (74, .iconst (-1), 1), (75, .ixor, 1), (76, .invokevirtual 395, 3), (79, .goto 38, 3), (82, .iload 4, 2), (84, .ifCond .ne 12, 3), (87, .aload_n 0, 1)] = true := by decide +kernel
theorem dX1_unary_56 : decode cX1_unary 56 = .ok (.if_icmp .ne 26, 3) := zdec_at bX1_unary_56 0 rfl
theorem dX1_unary_59 : decode cX1_unary 59 = .ok (.aload_n 0, 1) := zdec_at bX1_unary_56 1 rfl
theorem dX1_unary_60 : decode cX1_unary 60 = .ok (.iconst 5, 1) := zdec_at bX1_unary_56 2 rfl
theorem dX1_unary_61 : decode cX1_unary 61 = .ok (.iload 4, 2) := zdec_at bX1_unary_56 3 rfl
theorem dX1_unary_63 : decode cX1_unary 63 = .ok (.ifCond .eq 10, 3) := zdec_at bX1_unary_56 4 rfl
theorem dX1_unary_66 : decode cX1_unary 66 = .ok (.aload_n 0, 1) := zdec_at bX1_unary_56 5 rfl
theorem dX1_unary_67 : decode cX1_unary 67 = .ok (.getfield 392, 3) := zdec_at bX1_unary_56 6 rfl
theorem dX1_unary_70 : decode cX1_unary 70 = .ok (.goto 4, 3) := zdec_at bX1_unary_56 7 rfl
theorem dX1_unary_73 : decode cX1_unary 73 = .ok (.iconst 0, 1) := zdec_at bX1_unary_56 8 rfl
theorem dX1_unary_74 : decode cX1_unary 74 = .ok (.iconst (-1), 1) := zdec_at bX1_unary_56 9 rfl
theorem dX1_unary_75 : decode cX1_unary 75 = .ok (.ixor, 1) := zdec_at bX1_unary_56 10 rfl
theorem dX1_unary_76 : decode cX1_unary 76 = .ok (.invokevirtual 395, 3) := zdec_at bX1_unary_56 11 rfl
theorem dX1_unary_79 : decode cX1_unary 79 = .ok (.goto 38, 3) := zdec_at bX1_unary_56 12 rfl
theorem dX1_unary_82 : decode cX1_unary 82 = .ok (.iload 4, 2) := zdec_at bX1_unary_56 13 rfl
theorem dX1_unary_84 : decode cX1_unary 84 = .ok (.ifCond .ne 12, 3) := zdec_at bX1_unary_56 14 rfl
theorem dX1_unary_87 : decode cX1_unary 87 = .ok (.aload_n 0, 1) := zdec_at bX1_unary_56 15 rfl
theorem bX1_unary_88 : zdec cX1_unary 88 [(88, .iconst 4, 1), (89, .iconst 0, 1), (90, .invokevirtual 395, 3), (93, .goto 24, 3), (96, .aload_n 0, 1), (97, .iconst 5, 1), (98, .iload_n 1, 1), (99, .ifCond .ne 10, 3), (102, .aload_n 0, 1), (103, .getfield 392, 3), (106, .goto 8, 3), (109, .aload_n 0, 1), (110, .getfield 392, 3), (113, .ineg, 1), (114, .invokevirtual 395, 3), (117, .return_, 1)] = true := by decide +kernel
theorem dX1_unary_88 : decode cX1_unary 88 = .ok (.iconst 4, 1) := zdec_at bX1_unary_88 0 rfl
theorem dX1_unary_89 : decode cX1_unary 89 = .ok (.iconst 0, 1) := zdec_at bX1_unary_88 1 rfl
theorem dX1_unary_90 : decode cX1_unary 90 = .ok (.invokevirtual 395, 3) := zdec_at bX1_unary_88 2 rfl
theorem dX1_unary_93 : decode cX1_unary 93 = .ok (.goto 24, 3) := zdec_at bX1_unary_88 3 rfl
theorem dX1_unary_96 : decode cX1_unary 96 = .ok (.aload_n 0, 1) := zdec_at bX1_unary_88 4 rfl
theorem dX1_unary_97 : decode cX1_unary 97 = .ok (.iconst 5, 1) := zdec_at bX1_unary_88 5 rfl
theorem dX1_unary_98 : decode cX1_unary 98 = .ok (.iload_n 1, 1) := zdec_at bX1_unary_88 6 rfl
theorem dX1_unary_99 : decode cX1_unary 99 = .ok (.ifCond .ne 10, 3) := zdec_at bX1_unary_88 7 rfl
theorem dX1_unary_102 : decode cX1_unary 102 = .ok (.aload_n 0, 1) := zdec_at bX1_unary_88 8 rfl
theorem dX1_unary_103 : decode cX1_unary 103 = .ok (.getfield 392, 3) := zdec_at bX1_unary_88 9 rfl
theorem dX1_unary_106 : decode cX1_unary 106 = .ok (.goto 8, 3) := zdec_at bX1_unary_88 10 rfl
theorem dX1_unary_109 : decode cX1_unary 109 = .ok (.aload_n 0, 1) := zdec_at bX1_unary_88 11 rfl
theorem dX1_unary_110 : decode cX1_unary 110 = .ok (.getfield 392, 3) := zdec_at bX1_unary_88 12 rfl
theorem dX1_unary_113 : decode cX1_unary 113 = .ok (.ineg, 1) := zdec_at bX1_unary_88 13 rfl
theorem dX1_unary_114 : decode cX1_unary 114 = .ok (.invokevirtual 395, 3) := zdec_at bX1_unary_88 14 rfl
theorem dX1_unary_117 : decode cX1_unary 117 = .ok (.return_, 1) := zdec_at bX1_unary_88 15 rfl
theorem sX1_unary_0 {E : zE} {d : Nat} {Q : zO → zM → Prop} (M : zM) (l1 : Int32) (l2 : Int32) (l3 : Int32) (hw : cw M) (k : if l1 = (3 : Int32) then (Z E YX1_isTrue d M (zargs 0 [vr (some (16, 0, 0)), vi l2, vi l3]) 0 [] (zafter E YX1_unary (d + 1) [] 9 3 [vr (some (16, 0, 0))] Q)) else (if l1 = (4 : Int32) then (Z E YX1_typeOf d M (zargs 0 [vr (some (16, 0, 0)), vi l2, vi l3]) 0 [] (zafter E YX1_unary (d + 1) [] 37 3 [vi (6 : Int32), vr (some (16, 0, 0))] Q)) else (Z E YX1_hasNumber d M (zargs 0 [vr (some (16, 0, 0)), vi l2, vi l3]) 0 [] (zafter E YX1_unary (d + 1) [(0, vr (some (16, 0, 0))), (1, vi l1)] 49 3 [] Q)))) : Z E YX1_unary (d + 1) M [(0, vr (some (16, 0, 0))), (1, vi l1), (2, vi l2), (3, vi l3)] 0 [] Q := by
  refine z_iload_n dX1_unary_0 rfl rfl ?_
  refine z_iconst (v := 3) dX1_unary_1 rfl ?_
  refine z_icmp_ne (tgt := 26) dX1_unary_2 rfl (fun h_ => ?_) (fun h_ => ?_)
  · have k := zif h_ k
    refine z_iload_n dX1_unary_26 rfl rfl ?_
    refine z_iconst (v := 4) dX1_unary_27 rfl ?_
    refine z_icmp_ne (tgt := 46) dX1_unary_28 rfl (fun h_ => ?_) (fun h_ => ?_)
    · have k := zif h_ k
      refine z_aload_n dX1_unary_46 rfl rfl ?_
      refine z_iload_n dX1_unary_47 rfl rfl ?_
      refine z_iload_n dX1_unary_48 rfl rfl ?_
      refine Z.pick [0, 1] rfl ?_
      exact z_callV (as := [vi l2, vi l3]) (st := []) dX1_unary_49 vsX1_412_0 (Nat.le_refl _) (Nat.le_of_ble_eq_true rfl) (Nat.le_of_ble_eq_true rfl) rfl k
    · have k := zit h_ k
      refine z_aload_n dX1_unary_31 rfl rfl ?_
      refine z_bipush (v := 6) dX1_unary_32 rfl ?_
      refine z_aload_n dX1_unary_34 rfl rfl ?_
      refine z_iload_n dX1_unary_35 rfl rfl ?_
      refine z_iload_n dX1_unary_36 rfl rfl ?_
      refine Z.pick [] rfl ?_
      exact z_callV (as := [vi l2, vi l3]) (st := [vi (6 : Int32), vr (some (16, 0, 0))]) dX1_unary_37 vsX1_409_0 (Nat.le_refl _) (Nat.le_of_ble_eq_true rfl) (Nat.le_of_ble_eq_true rfl) rfl k
  · have k := zit h_ k
    refine z_aload_n dX1_unary_5 rfl rfl ?_
    refine z_aload_n dX1_unary_6 rfl rfl ?_
    refine z_iload_n dX1_unary_7 rfl rfl ?_
    refine z_iload_n dX1_unary_8 rfl rfl ?_
    refine Z.pick [] rfl ?_
    exact z_callV (as := [vi l2, vi l3]) (st := [vr (some (16, 0, 0))]) dX1_unary_9 vsX1_401_0 (Nat.le_refl _) (Nat.le_of_ble_eq_true rfl) (Nat.le_of_ble_eq_true rfl) rfl k
theorem sX1_unary_12 {E : zE} {d : Nat} {Q : zO → zM → Prop} (M : zM) (s0 : Int32) (hw : cw M) (k : if s0 = 0 then (Z E YX1_givesTruth d M (zargs 0 [vr (some (16, 0, 0)), vi (1 : Int32)]) 0 [] (zafter E YX1_unary (d + 1) [] 20 3 [] Q)) else (Z E YX1_givesTruth d M (zargs 0 [vr (some (16, 0, 0)), vi (0 : Int32)]) 0 [] (zafter E YX1_unary (d + 1) [] 20 3 [] Q))) : Z E YX1_unary (d + 1) M [] 12 [vi s0, vr (some (16, 0, 0))] Q := by
  refine z_if_ne (tgt := 19) dX1_unary_12 rfl (fun h_ => ?_) (fun h_ => ?_)
  · have k := zif h_ k
    refine z_iconst (v := 0) dX1_unary_19 rfl ?_
    exact z_callV (as := [vi (0 : Int32)]) (st := []) dX1_unary_20 vsX1_405_0 (Nat.le_refl _) (Nat.le_of_ble_eq_true rfl) (Nat.le_of_ble_eq_true rfl) rfl k
  · have k := zit h_ k
    refine z_iconst (v := 1) dX1_unary_15 rfl ?_
    refine z_goto (tgt := 20) dX1_unary_16 rfl ?_
    exact z_callV (as := [vi (1 : Int32)]) (st := []) dX1_unary_20 vsX1_405_0 (Nat.le_refl _) (Nat.le_of_ble_eq_true rfl) (Nat.le_of_ble_eq_true rfl) rfl k
theorem sX1_unary_23 {E : zE} {d : Nat} {Q : zO → zM → Prop} (M : zM)  (hw : cw M) (k : Z E YX1_unary (d + 1) M [] 117 [] Q) : Z E YX1_unary (d + 1) M [] 23 [] Q := by
  refine z_goto (tgt := 117) dX1_unary_23 rfl ?_
  exact k
theorem sX1_unary_40 {E : zE} {d : Nat} {Q : zO → zM → Prop} (M : zM) (s0 : Int32) (s1 : Int32) (hw : cw M) (k : Z E YX1_gives d M (zargs 0 [vr (some (16, 0, 0)), vi s1, vi s0]) 0 [] (zafter E YX1_unary (d + 1) [] 40 3 [] Q)) : Z E YX1_unary (d + 1) M [] 40 [vi s0, vi s1, vr (some (16, 0, 0))] Q := by
  exact z_callV (as := [vi s1, vi s0]) (st := []) dX1_unary_40 vsX1_395_0 (Nat.le_refl _) (Nat.le_of_ble_eq_true rfl) (Nat.le_of_ble_eq_true rfl) rfl k
theorem sX1_unary_43 {E : zE} {d : Nat} {Q : zO → zM → Prop} (M : zM)  (hw : cw M) (k : Z E YX1_unary (d + 1) M [] 117 [] Q) : Z E YX1_unary (d + 1) M [] 43 [] Q := by
  refine z_goto (tgt := 117) dX1_unary_43 rfl ?_
  exact k
theorem sX1_unary_52 {E : zE} {d : Nat} {Q : zO → zM → Prop} (M : zM) (l1 : Int32) (s0 : Int32) (hw : cw M) (k : if l1 = (2 : Int32) then (if s0 = 0 then (Z E YX1_gives d M (zargs 0 [vr (some (16, 0, 0)), vi (5 : Int32), vi ((0 : Int32) ^^^ (-1 : Int32))]) 0 [] (zafter E YX1_unary (d + 1) [] 76 3 [] Q)) else (Z E YX1_gives d M (zargs 0 [vr (some (16, 0, 0)), vi (5 : Int32), vi ((gi M 16 32) ^^^ (-1 : Int32))]) 0 [] (zafter E YX1_unary (d + 1) [] 76 3 [] Q))) else (if s0 = 0 then (Z E YX1_gives d M (zargs 0 [vr (some (16, 0, 0)), vi (4 : Int32), vi (0 : Int32)]) 0 [] (zafter E YX1_unary (d + 1) [] 90 3 [] Q)) else (if l1 = 0 then (Z E YX1_gives d M (zargs 0 [vr (some (16, 0, 0)), vi (5 : Int32), vi (gi M 16 32)]) 0 [] (zafter E YX1_unary (d + 1) [] 114 3 [] Q)) else (Z E YX1_gives d M (zargs 0 [vr (some (16, 0, 0)), vi (5 : Int32), vi (-(gi M 16 32))]) 0 [] (zafter E YX1_unary (d + 1) [] 114 3 [] Q))))) : Z E YX1_unary (d + 1) M [(0, vr (some (16, 0, 0))), (1, vi l1)] 52 [vi s0] Q := by
  refine z_ist dX1_unary_52 (by decide) (lv' := [(0, vr (some (16, 0, 0))), (1, vi l1), (4, vi s0)]) rfl ?_
  refine z_iload_n dX1_unary_54 rfl rfl ?_
  refine z_iconst (v := 2) dX1_unary_55 rfl ?_
  refine z_icmp_ne (tgt := 82) dX1_unary_56 rfl (fun h_ => ?_) (fun h_ => ?_)
  · have k := zif h_ k
    refine z_iload dX1_unary_82 rfl ?_
    refine z_if_ne (tgt := 96) dX1_unary_84 rfl (fun h_ => ?_) (fun h_ => ?_)
    · have k := zif h_ k
      refine z_aload_n dX1_unary_96 rfl rfl ?_
      refine z_iconst (v := 5) dX1_unary_97 rfl ?_
      refine z_iload_n dX1_unary_98 rfl rfl ?_
      refine z_if_ne (tgt := 109) dX1_unary_99 rfl (fun h_ => ?_) (fun h_ => ?_)
      · have k := zif h_ k
        refine z_aload_n dX1_unary_109 rfl rfl ?_
        refine z_geti dX1_unary_110 fsX1_392_0 ?_
        refine z_ineg dX1_unary_113 ?_
        refine Z.pick [] rfl ?_
        exact z_callV (as := [vi (5 : Int32), vi (-(gi M 16 32))]) (st := []) dX1_unary_114 vsX1_395_0 (Nat.le_refl _) (Nat.le_of_ble_eq_true rfl) (Nat.le_of_ble_eq_true rfl) rfl k
      · have k := zit h_ k
        refine z_aload_n dX1_unary_102 rfl rfl ?_
        refine z_geti dX1_unary_103 fsX1_392_0 ?_
        refine z_goto (tgt := 114) dX1_unary_106 rfl ?_
        refine Z.pick [] rfl ?_
        exact z_callV (as := [vi (5 : Int32), vi (gi M 16 32)]) (st := []) dX1_unary_114 vsX1_395_0 (Nat.le_refl _) (Nat.le_of_ble_eq_true rfl) (Nat.le_of_ble_eq_true rfl) rfl k
    · have k := zit h_ k
      refine z_aload_n dX1_unary_87 rfl rfl ?_
      refine z_iconst (v := 4) dX1_unary_88 rfl ?_
      refine z_iconst (v := 0) dX1_unary_89 rfl ?_
      refine Z.pick [] rfl ?_
      exact z_callV (as := [vi (4 : Int32), vi (0 : Int32)]) (st := []) dX1_unary_90 vsX1_395_0 (Nat.le_refl _) (Nat.le_of_ble_eq_true rfl) (Nat.le_of_ble_eq_true rfl) rfl k
  · have k := zit h_ k
    refine z_aload_n dX1_unary_59 rfl rfl ?_
    refine z_iconst (v := 5) dX1_unary_60 rfl ?_
    refine z_iload dX1_unary_61 rfl ?_
    refine z_if_eq (tgt := 73) dX1_unary_63 rfl (fun h_ => ?_) (fun h_ => ?_)
    · have k := zit h_ k
      refine z_iconst (v := 0) dX1_unary_73 rfl ?_
      refine z_iconst (v := -1) dX1_unary_74 rfl ?_
      refine z_ixor dX1_unary_75 ?_
      refine Z.pick [] rfl ?_
      exact z_callV (as := [vi (5 : Int32), vi ((0 : Int32) ^^^ (-1 : Int32))]) (st := []) dX1_unary_76 vsX1_395_0 (Nat.le_refl _) (Nat.le_of_ble_eq_true rfl) (Nat.le_of_ble_eq_true rfl) rfl k
    · have k := zif h_ k
      refine z_aload_n dX1_unary_66 rfl rfl ?_
      refine z_geti dX1_unary_67 fsX1_392_0 ?_
      refine z_goto (tgt := 74) dX1_unary_70 rfl ?_
      refine z_iconst (v := -1) dX1_unary_74 rfl ?_
      refine z_ixor dX1_unary_75 ?_
      refine Z.pick [] rfl ?_
      exact z_callV (as := [vi (5 : Int32), vi ((gi M 16 32) ^^^ (-1 : Int32))]) (st := []) dX1_unary_76 vsX1_395_0 (Nat.le_refl _) (Nat.le_of_ble_eq_true rfl) (Nat.le_of_ble_eq_true rfl) rfl k
theorem sX1_unary_79 {E : zE} {d : Nat} {Q : zO → zM → Prop} (M : zM)  (hw : cw M) (k : Z E YX1_unary (d + 1) M [] 117 [] Q) : Z E YX1_unary (d + 1) M [] 79 [] Q := by
  refine z_goto (tgt := 117) dX1_unary_79 rfl ?_
  exact k
theorem sX1_unary_93 {E : zE} {d : Nat} {Q : zO → zM → Prop} (M : zM)  (hw : cw M) (k : Z E YX1_unary (d + 1) M [] 117 [] Q) : Z E YX1_unary (d + 1) M [] 93 [] Q := by
  refine z_goto (tgt := 117) dX1_unary_93 rfl ?_
  exact k
theorem sX1_unary_117 {E : zE} {d : Nat} {Q : zO → zM → Prop} (M : zM)  (hw : cw M) (k : Q (.inl none) M) : Z E YX1_unary (d + 1) M [] 117 [] Q := by
  exact z_vret dX1_unary_117 rfl k
/-! ScriptTypes.isTrue(II)Z -/
theorem bX1_isTrue_0 : zdec cX1_isTrue 0 [(0, .iload_n 1, 1), (1, .iconst 5, 1), (2, .if_icmp .ne 13, 3), (5, .iload_n 2, 1), (6, .ifCond .eq 7, 3), (9, .iconst 1, 1), (10, .goto 4, 3), (13, .iconst 0, 1), (14, .ireturn, 1), (15, .iload_n 1, 1), (16, .bipush 6, 2), (18, .if_icmp .ne 22, 3), (21, .aload_n 0, 1), (22, .getfield 19, 3), (25, .iload_n 2, 1), (26, .invokevirtual 23, 3)] = true := by decide +kernel
theorem dX1_isTrue_0 : decode cX1_isTrue 0 = .ok (.iload_n 1, 1) := zdec_at bX1_isTrue_0 0 rfl
theorem dX1_isTrue_1 : decode cX1_isTrue 1 = .ok (.iconst 5, 1) := zdec_at bX1_isTrue_0 1 rfl
theorem dX1_isTrue_2 : decode cX1_isTrue 2 = .ok (.if_icmp .ne 13, 3) := zdec_at bX1_isTrue_0 2 rfl
theorem dX1_isTrue_5 : decode cX1_isTrue 5 = .ok (.iload_n 2, 1) := zdec_at bX1_isTrue_0 3 rfl
theorem dX1_isTrue_6 : decode cX1_isTrue 6 = .ok (.ifCond .eq 7, 3) := zdec_at bX1_isTrue_0 4 rfl
theorem dX1_isTrue_9 : decode cX1_isTrue 9 = .ok (.iconst 1, 1) := zdec_at bX1_isTrue_0 5 rfl
theorem dX1_isTrue_10 : decode cX1_isTrue 10 = .ok (.goto 4, 3) := zdec_at bX1_isTrue_0 6 rfl
theorem dX1_isTrue_13 : decode cX1_isTrue 13 = .ok (.iconst 0, 1) := zdec_at bX1_isTrue_0 7 rfl
theorem dX1_isTrue_14 : decode cX1_isTrue 14 = .ok (.ireturn, 1) := zdec_at bX1_isTrue_0 8 rfl
theorem dX1_isTrue_15 : decode cX1_isTrue 15 = .ok (.iload_n 1, 1) := zdec_at bX1_isTrue_0 9 rfl
theorem dX1_isTrue_16 : decode cX1_isTrue 16 = .ok (.bipush 6, 2) := zdec_at bX1_isTrue_0 10 rfl
theorem dX1_isTrue_18 : decode cX1_isTrue 18 = .ok (.if_icmp .ne 22, 3) := zdec_at bX1_isTrue_0 11 rfl
theorem dX1_isTrue_21 : decode cX1_isTrue 21 = .ok (.aload_n 0, 1) := zdec_at bX1_isTrue_0 12 rfl
theorem dX1_isTrue_22 : decode cX1_isTrue 22 = .ok (.getfield 19, 3) := zdec_at bX1_isTrue_0 13 rfl
theorem dX1_isTrue_25 : decode cX1_isTrue 25 = .ok (.iload_n 2, 1) := zdec_at bX1_isTrue_0 14 rfl
theorem dX1_isTrue_26 : decode cX1_isTrue 26 = .ok (.invokevirtual 23, 3) := zdec_at bX1_isTrue_0 15 rfl
theorem bX1_isTrue_29 : zdec cX1_isTrue 29 [(29, .ifCond .le 7, 3), (32, .iconst 1, 1), (33, .goto 23, 3), (36, .iconst 0, 1), (37, .goto 19, 3), (40, .iload_n 1, 1), (41, .iconst 2, 1), (42, .if_icmp .eq 9, 3), (45, .iload_n 1, 1), (46, .bipush 7, 2), (48, .if_icmp .ne 7, 3), (51, .iconst 1, 1), (52, .goto 4, 3), (55, .iconst 0, 1), (56, .ireturn, 1)] = true := by decide +kernel
theorem dX1_isTrue_29 : decode cX1_isTrue 29 = .ok (.ifCond .le 7, 3) := zdec_at bX1_isTrue_29 0 rfl
theorem dX1_isTrue_32 : decode cX1_isTrue 32 = .ok (.iconst 1, 1) := zdec_at bX1_isTrue_29 1 rfl
theorem dX1_isTrue_33 : decode cX1_isTrue 33 = .ok (.goto 23, 3) := zdec_at bX1_isTrue_29 2 rfl
theorem dX1_isTrue_36 : decode cX1_isTrue 36 = .ok (.iconst 0, 1) := zdec_at bX1_isTrue_29 3 rfl
theorem dX1_isTrue_37 : decode cX1_isTrue 37 = .ok (.goto 19, 3) := zdec_at bX1_isTrue_29 4 rfl
theorem dX1_isTrue_40 : decode cX1_isTrue 40 = .ok (.iload_n 1, 1) := zdec_at bX1_isTrue_29 5 rfl
theorem dX1_isTrue_41 : decode cX1_isTrue 41 = .ok (.iconst 2, 1) := zdec_at bX1_isTrue_29 6 rfl
theorem dX1_isTrue_42 : decode cX1_isTrue 42 = .ok (.if_icmp .eq 9, 3) := zdec_at bX1_isTrue_29 7 rfl
theorem dX1_isTrue_45 : decode cX1_isTrue 45 = .ok (.iload_n 1, 1) := zdec_at bX1_isTrue_29 8 rfl
theorem dX1_isTrue_46 : decode cX1_isTrue 46 = .ok (.bipush 7, 2) := zdec_at bX1_isTrue_29 9 rfl
theorem dX1_isTrue_48 : decode cX1_isTrue 48 = .ok (.if_icmp .ne 7, 3) := zdec_at bX1_isTrue_29 10 rfl
theorem dX1_isTrue_51 : decode cX1_isTrue 51 = .ok (.iconst 1, 1) := zdec_at bX1_isTrue_29 11 rfl
theorem dX1_isTrue_52 : decode cX1_isTrue 52 = .ok (.goto 4, 3) := zdec_at bX1_isTrue_29 12 rfl
theorem dX1_isTrue_55 : decode cX1_isTrue 55 = .ok (.iconst 0, 1) := zdec_at bX1_isTrue_29 13 rfl
theorem dX1_isTrue_56 : decode cX1_isTrue 56 = .ok (.ireturn, 1) := zdec_at bX1_isTrue_29 14 rfl
theorem sX1_isTrue_0 {E : zE} {d : Nat} {Q : zO → zM → Prop} (M : zM) (l1 : Int32) (l2 : Int32) (hw : cw M) (k : if l1 = (5 : Int32) then (if l2 = 0 then (Q (.inl (some (vi (0 : Int32)))) M) else (Q (.inl (some (vi (1 : Int32)))) M)) else (if l1 = (6 : Int32) then (Z E YX2_length d M (zargs 0 [vr (some (17, 2, 0)), vi l2]) 0 [] (zafter E YX1_isTrue (d + 1) [] 26 3 [] Q)) else (if l1 = (2 : Int32) then (Q (.inl (some (vi (1 : Int32)))) M) else (if l1 = (7 : Int32) then (Q (.inl (some (vi (1 : Int32)))) M) else (Q (.inl (some (vi (0 : Int32)))) M))))) : Z E YX1_isTrue (d + 1) M [(0, vr (some (16, 0, 0))), (1, vi l1), (2, vi l2)] 0 [] Q := by
  refine z_iload_n dX1_isTrue_0 rfl rfl ?_
  refine z_iconst (v := 5) dX1_isTrue_1 rfl ?_
  refine z_icmp_ne (tgt := 15) dX1_isTrue_2 rfl (fun h_ => ?_) (fun h_ => ?_)
  · have k := zif h_ k
    refine z_iload_n dX1_isTrue_15 rfl rfl ?_
    refine z_bipush (v := 6) dX1_isTrue_16 rfl ?_
    refine z_icmp_ne (tgt := 40) dX1_isTrue_18 rfl (fun h_ => ?_) (fun h_ => ?_)
    · have k := zif h_ k
      refine z_iload_n dX1_isTrue_40 rfl rfl ?_
      refine z_iconst (v := 2) dX1_isTrue_41 rfl ?_
      refine z_icmp_eq (tgt := 51) dX1_isTrue_42 rfl (fun h_ => ?_) (fun h_ => ?_)
      · have k := zit h_ k
        refine z_iconst (v := 1) dX1_isTrue_51 rfl ?_
        refine z_goto (tgt := 56) dX1_isTrue_52 rfl ?_
        exact z_iret dX1_isTrue_56 rfl (by decide) k
      · have k := zif h_ k
        refine z_iload_n dX1_isTrue_45 rfl rfl ?_
        refine z_bipush (v := 7) dX1_isTrue_46 rfl ?_
        refine z_icmp_ne (tgt := 55) dX1_isTrue_48 rfl (fun h_ => ?_) (fun h_ => ?_)
        · have k := zif h_ k
          refine z_iconst (v := 0) dX1_isTrue_55 rfl ?_
          exact z_iret dX1_isTrue_56 rfl (by decide) k
        · have k := zit h_ k
          refine z_iconst (v := 1) dX1_isTrue_51 rfl ?_
          refine z_goto (tgt := 56) dX1_isTrue_52 rfl ?_
          exact z_iret dX1_isTrue_56 rfl (by decide) k
    · have k := zit h_ k
      refine z_aload_n dX1_isTrue_21 rfl rfl ?_
      refine z_getr dX1_isTrue_22 fsX1_19_0 (show gr M 16 0 = some (17, 2, 0) from cw_at hw 0 rfl) ?_
      refine z_iload_n dX1_isTrue_25 rfl rfl ?_
      refine Z.pick [] rfl ?_
      exact z_callV (as := [vi l2]) (st := []) dX1_isTrue_26 vsX1_23_2 (Nat.le_refl _) (Nat.le_of_ble_eq_true rfl) (Nat.le_of_ble_eq_true rfl) rfl k
  · have k := zit h_ k
    refine z_iload_n dX1_isTrue_5 rfl rfl ?_
    refine z_if_eq (tgt := 13) dX1_isTrue_6 rfl (fun h_ => ?_) (fun h_ => ?_)
    · have k := zit h_ k
      refine z_iconst (v := 0) dX1_isTrue_13 rfl ?_
      exact z_iret dX1_isTrue_14 rfl (by decide) k
    · have k := zif h_ k
      refine z_iconst (v := 1) dX1_isTrue_9 rfl ?_
      refine z_goto (tgt := 14) dX1_isTrue_10 rfl ?_
      exact z_iret dX1_isTrue_14 rfl (by decide) k
theorem sX1_isTrue_29 {E : zE} {d : Nat} {Q : zO → zM → Prop} (M : zM) (s0 : Int32) (hw : cw M) (k : if s0 ≤ 0 then (Q (.inl (some (vi (0 : Int32)))) M) else (Q (.inl (some (vi (1 : Int32)))) M)) : Z E YX1_isTrue (d + 1) M [] 29 [vi s0] Q := by
  refine z_if_le (tgt := 36) dX1_isTrue_29 rfl (fun h_ => ?_) (fun h_ => ?_)
  · have k := zit h_ k
    refine z_iconst (v := 0) dX1_isTrue_36 rfl ?_
    refine z_goto (tgt := 56) dX1_isTrue_37 rfl ?_
    exact z_iret dX1_isTrue_56 rfl (by decide) k
  · have k := zif h_ k
    refine z_iconst (v := 1) dX1_isTrue_32 rfl ?_
    refine z_goto (tgt := 56) dX1_isTrue_33 rfl ?_
    exact z_iret dX1_isTrue_56 rfl (by decide) k
/-! ScriptTypes.hasNumber(II)Z -/
theorem bX1_hasNumber_0 : zdec cX1_hasNumber 0 [(0, .aload_n 0, 1), (1, .iload_n 1, 1), (2, .iconst 2, 1), (3, .if_icmp .ne 7, 3), (6, .iconst 1, 1), (7, .goto 13, 3), (10, .iload_n 1, 1), (11, .iconst 5, 1), (12, .if_icmp .ne 7, 3), (15, .iload_n 2, 1), (16, .goto 4, 3), (19, .iconst 0, 1), (20, .putfield 392, 3), (23, .iload_n 1, 1), (24, .bipush 6, 2), (26, .if_icmp .ne 9, 3)] = true := by decide +kernel
theorem dX1_hasNumber_0 : decode cX1_hasNumber 0 = .ok (.aload_n 0, 1) := zdec_at bX1_hasNumber_0 0 rfl
theorem dX1_hasNumber_1 : decode cX1_hasNumber 1 = .ok (.iload_n 1, 1) := zdec_at bX1_hasNumber_0 1 rfl
theorem dX1_hasNumber_2 : decode cX1_hasNumber 2 = .ok (.iconst 2, 1) := zdec_at bX1_hasNumber_0 2 rfl
theorem dX1_hasNumber_3 : decode cX1_hasNumber 3 = .ok (.if_icmp .ne 7, 3) := zdec_at bX1_hasNumber_0 3 rfl
theorem dX1_hasNumber_6 : decode cX1_hasNumber 6 = .ok (.iconst 1, 1) := zdec_at bX1_hasNumber_0 4 rfl
theorem dX1_hasNumber_7 : decode cX1_hasNumber 7 = .ok (.goto 13, 3) := zdec_at bX1_hasNumber_0 5 rfl
theorem dX1_hasNumber_10 : decode cX1_hasNumber 10 = .ok (.iload_n 1, 1) := zdec_at bX1_hasNumber_0 6 rfl
theorem dX1_hasNumber_11 : decode cX1_hasNumber 11 = .ok (.iconst 5, 1) := zdec_at bX1_hasNumber_0 7 rfl
theorem dX1_hasNumber_12 : decode cX1_hasNumber 12 = .ok (.if_icmp .ne 7, 3) := zdec_at bX1_hasNumber_0 8 rfl
theorem dX1_hasNumber_15 : decode cX1_hasNumber 15 = .ok (.iload_n 2, 1) := zdec_at bX1_hasNumber_0 9 rfl
theorem dX1_hasNumber_16 : decode cX1_hasNumber 16 = .ok (.goto 4, 3) := zdec_at bX1_hasNumber_0 10 rfl
theorem dX1_hasNumber_19 : decode cX1_hasNumber 19 = .ok (.iconst 0, 1) := zdec_at bX1_hasNumber_0 11 rfl
theorem dX1_hasNumber_20 : decode cX1_hasNumber 20 = .ok (.putfield 392, 3) := zdec_at bX1_hasNumber_0 12 rfl
theorem dX1_hasNumber_23 : decode cX1_hasNumber 23 = .ok (.iload_n 1, 1) := zdec_at bX1_hasNumber_0 13 rfl
theorem dX1_hasNumber_24 : decode cX1_hasNumber 24 = .ok (.bipush 6, 2) := zdec_at bX1_hasNumber_0 14 rfl
theorem dX1_hasNumber_26 : decode cX1_hasNumber 26 = .ok (.if_icmp .ne 9, 3) := zdec_at bX1_hasNumber_0 15 rfl
theorem bX1_hasNumber_29 : zdec cX1_hasNumber 29 [(29, .aload_n 0, 1), (30, .iload_n 2, 1), (31, .invokevirtual 398, 3), (34, .ireturn, 1), (35, .iload_n 1, 1), (36, .ifCond .eq 18, 3), (39, .iload_n 1, 1), (40, .iconst 4, 1), (41, .if_icmp .eq 13, 3), (44, .iload_n 1, 1), (45, .bipush 7, 2), (47, .if_icmp .eq 7, 3), (50, .iconst 1, 1), (51, .goto 4, 3), (54, .iconst 0, 1), (55, .ireturn, 1)] = true := by decide +kernel
theorem dX1_hasNumber_29 : decode cX1_hasNumber 29 = .ok (.aload_n 0, 1) := zdec_at bX1_hasNumber_29 0 rfl
theorem dX1_hasNumber_30 : decode cX1_hasNumber 30 = .ok (.iload_n 2, 1) := zdec_at bX1_hasNumber_29 1 rfl
theorem dX1_hasNumber_31 : decode cX1_hasNumber 31 = .ok (.invokevirtual 398, 3) := zdec_at bX1_hasNumber_29 2 rfl
theorem dX1_hasNumber_34 : decode cX1_hasNumber 34 = .ok (.ireturn, 1) := zdec_at bX1_hasNumber_29 3 rfl
theorem dX1_hasNumber_35 : decode cX1_hasNumber 35 = .ok (.iload_n 1, 1) := zdec_at bX1_hasNumber_29 4 rfl
theorem dX1_hasNumber_36 : decode cX1_hasNumber 36 = .ok (.ifCond .eq 18, 3) := zdec_at bX1_hasNumber_29 5 rfl
theorem dX1_hasNumber_39 : decode cX1_hasNumber 39 = .ok (.iload_n 1, 1) := zdec_at bX1_hasNumber_29 6 rfl
theorem dX1_hasNumber_40 : decode cX1_hasNumber 40 = .ok (.iconst 4, 1) := zdec_at bX1_hasNumber_29 7 rfl
theorem dX1_hasNumber_41 : decode cX1_hasNumber 41 = .ok (.if_icmp .eq 13, 3) := zdec_at bX1_hasNumber_29 8 rfl
theorem dX1_hasNumber_44 : decode cX1_hasNumber 44 = .ok (.iload_n 1, 1) := zdec_at bX1_hasNumber_29 9 rfl
theorem dX1_hasNumber_45 : decode cX1_hasNumber 45 = .ok (.bipush 7, 2) := zdec_at bX1_hasNumber_29 10 rfl
theorem dX1_hasNumber_47 : decode cX1_hasNumber 47 = .ok (.if_icmp .eq 7, 3) := zdec_at bX1_hasNumber_29 11 rfl
theorem dX1_hasNumber_50 : decode cX1_hasNumber 50 = .ok (.iconst 1, 1) := zdec_at bX1_hasNumber_29 12 rfl
theorem dX1_hasNumber_51 : decode cX1_hasNumber 51 = .ok (.goto 4, 3) := zdec_at bX1_hasNumber_29 13 rfl
theorem dX1_hasNumber_54 : decode cX1_hasNumber 54 = .ok (.iconst 0, 1) := zdec_at bX1_hasNumber_29 14 rfl
theorem dX1_hasNumber_55 : decode cX1_hasNumber 55 = .ok (.ireturn, 1) := zdec_at bX1_hasNumber_29 15 rfl
theorem sX1_hasNumber_0 {E : zE} {d : Nat} {Q : zO → zM → Prop} (M : zM) (l1 : Int32) (l2 : Int32) (hw : cw M) (k : if l1 = (2 : Int32) then (Z E YX1_hasNumber (d + 1) M [(0, vr (some (16, 0, 0))), (1, vi l1), (2, vi l2)] 20 [vi (1 : Int32), vr (some (16, 0, 0))] Q) else (if l1 = (5 : Int32) then (Z E YX1_hasNumber (d + 1) M [(0, vr (some (16, 0, 0))), (1, vi l1), (2, vi l2)] 20 [vi l2, vr (some (16, 0, 0))] Q) else (Z E YX1_hasNumber (d + 1) M [(0, vr (some (16, 0, 0))), (1, vi l1), (2, vi l2)] 20 [vi (0 : Int32), vr (some (16, 0, 0))] Q))) : Z E YX1_hasNumber (d + 1) M [(0, vr (some (16, 0, 0))), (1, vi l1), (2, vi l2)] 0 [] Q := by
  refine z_aload_n dX1_hasNumber_0 rfl rfl ?_
  refine z_iload_n dX1_hasNumber_1 rfl rfl ?_
  refine z_iconst (v := 2) dX1_hasNumber_2 rfl ?_
  refine z_icmp_ne (tgt := 10) dX1_hasNumber_3 rfl (fun h_ => ?_) (fun h_ => ?_)
  · have k := zif h_ k
    refine z_iload_n dX1_hasNumber_10 rfl rfl ?_
    refine z_iconst (v := 5) dX1_hasNumber_11 rfl ?_
    refine z_icmp_ne (tgt := 19) dX1_hasNumber_12 rfl (fun h_ => ?_) (fun h_ => ?_)
    · have k := zif h_ k
      refine z_iconst (v := 0) dX1_hasNumber_19 rfl ?_
      exact k
    · have k := zit h_ k
      refine z_iload_n dX1_hasNumber_15 rfl rfl ?_
      refine z_goto (tgt := 20) dX1_hasNumber_16 rfl ?_
      exact k
  · have k := zit h_ k
    refine z_iconst (v := 1) dX1_hasNumber_6 rfl ?_
    refine z_goto (tgt := 20) dX1_hasNumber_7 rfl ?_
    exact k
theorem sX1_hasNumber_20 {E : zE} {d : Nat} {Q : zO → zM → Prop} (M : zM) (l1 : Int32) (l2 : Int32) (s0 : Int32) (hw : cw M) (k : if l1 = (6 : Int32) then (Z E YX1_readsNumber d (si M 16 32 s0) (zargs 0 [vr (some (16, 0, 0)), vi l2]) 0 [] (zafter E YX1_hasNumber (d + 1) [] 31 3 [] Q)) else (if l1 = 0 then (Q (.inl (some (vi (0 : Int32)))) (si M 16 32 s0)) else (if l1 = (4 : Int32) then (Q (.inl (some (vi (0 : Int32)))) (si M 16 32 s0)) else (if l1 = (7 : Int32) then (Q (.inl (some (vi (0 : Int32)))) (si M 16 32 s0)) else (Q (.inl (some (vi (1 : Int32)))) (si M 16 32 s0)))))) : Z E YX1_hasNumber (d + 1) M [(0, vr (some (16, 0, 0))), (1, vi l1), (2, vi l2)] 20 [vi s0, vr (some (16, 0, 0))] Q := by
  refine z_puti (by decide) dX1_hasNumber_20 (zfwN.w fwX1_392_0) rfl ⟨rfl, rfl⟩ ?_
  refine z_iload_n dX1_hasNumber_23 rfl rfl ?_
  refine z_bipush (v := 6) dX1_hasNumber_24 rfl ?_
  refine z_icmp_ne (tgt := 35) dX1_hasNumber_26 rfl (fun h_ => ?_) (fun h_ => ?_)
  · have k := zif h_ k
    refine z_iload_n dX1_hasNumber_35 rfl rfl ?_
    refine z_if_eq (tgt := 54) dX1_hasNumber_36 rfl (fun h_ => ?_) (fun h_ => ?_)
    · have k := zit h_ k
      refine z_iconst (v := 0) dX1_hasNumber_54 rfl ?_
      exact z_iret dX1_hasNumber_55 rfl (by decide) k
    · have k := zif h_ k
      refine z_iload_n dX1_hasNumber_39 rfl rfl ?_
      refine z_iconst (v := 4) dX1_hasNumber_40 rfl ?_
      refine z_icmp_eq (tgt := 54) dX1_hasNumber_41 rfl (fun h_ => ?_) (fun h_ => ?_)
      · have k := zit h_ k
        refine z_iconst (v := 0) dX1_hasNumber_54 rfl ?_
        exact z_iret dX1_hasNumber_55 rfl (by decide) k
      · have k := zif h_ k
        refine z_iload_n dX1_hasNumber_44 rfl rfl ?_
        refine z_bipush (v := 7) dX1_hasNumber_45 rfl ?_
        refine z_icmp_eq (tgt := 54) dX1_hasNumber_47 rfl (fun h_ => ?_) (fun h_ => ?_)
        · have k := zit h_ k
          refine z_iconst (v := 0) dX1_hasNumber_54 rfl ?_
          exact z_iret dX1_hasNumber_55 rfl (by decide) k
        · have k := zif h_ k
          refine z_iconst (v := 1) dX1_hasNumber_50 rfl ?_
          refine z_goto (tgt := 55) dX1_hasNumber_51 rfl ?_
          exact z_iret dX1_hasNumber_55 rfl (by decide) k
  · have k := zit h_ k
    refine z_aload_n dX1_hasNumber_29 rfl rfl ?_
    refine z_iload_n dX1_hasNumber_30 rfl rfl ?_
    refine Z.pick [] rfl ?_
    exact z_callV (as := [vi l2]) (st := []) dX1_hasNumber_31 vsX1_398_0 (Nat.le_refl _) (Nat.le_of_ble_eq_true rfl) (Nat.le_of_ble_eq_true rfl) rfl k
theorem sX1_hasNumber_34 {E : zE} {d : Nat} {Q : zO → zM → Prop} (M : zM) (s0 : Int32) (hw : cw M) (k : (narrow .boolean (.int s0) = .int s0) ∧ Q (.inl (some (vi s0))) M) : Z E YX1_hasNumber (d + 1) M [] 34 [vi s0] Q := by
  exact z_iret dX1_hasNumber_34 rfl k.1 k.2
/-! ScriptTypes.readsNumber(I)Z -/
theorem bX1_readsNumber_0 : zdec cX1_readsNumber 0 [(0, .aload_n 0, 1), (1, .getfield 19, 3), (4, .iload_n 1, 1), (5, .invokevirtual 23, 3), (8, .istore_n 2, 1), (9, .iload_n 2, 1), (10, .ifCond .le 21, 3), (13, .aload_n 0, 1), (14, .getfield 19, 3), (17, .iload_n 1, 1), (18, .iconst 0, 1), (19, .invokevirtual 29, 3), (22, .bipush 45, 2), (24, .if_icmp .ne 7, 3), (27, .iconst 1, 1), (28, .goto 4, 3)] = true := by decide +kernel
theorem dX1_readsNumber_0 : decode cX1_readsNumber 0 = .ok (.aload_n 0, 1) := zdec_at bX1_readsNumber_0 0 rfl
theorem dX1_readsNumber_1 : decode cX1_readsNumber 1 = .ok (.getfield 19, 3) := zdec_at bX1_readsNumber_0 1 rfl
theorem dX1_readsNumber_4 : decode cX1_readsNumber 4 = .ok (.iload_n 1, 1) := zdec_at bX1_readsNumber_0 2 rfl
theorem dX1_readsNumber_5 : decode cX1_readsNumber 5 = .ok (.invokevirtual 23, 3) := zdec_at bX1_readsNumber_0 3 rfl
theorem dX1_readsNumber_8 : decode cX1_readsNumber 8 = .ok (.istore_n 2, 1) := zdec_at bX1_readsNumber_0 4 rfl
theorem dX1_readsNumber_9 : decode cX1_readsNumber 9 = .ok (.iload_n 2, 1) := zdec_at bX1_readsNumber_0 5 rfl
theorem dX1_readsNumber_10 : decode cX1_readsNumber 10 = .ok (.ifCond .le 21, 3) := zdec_at bX1_readsNumber_0 6 rfl
theorem dX1_readsNumber_13 : decode cX1_readsNumber 13 = .ok (.aload_n 0, 1) := zdec_at bX1_readsNumber_0 7 rfl
theorem dX1_readsNumber_14 : decode cX1_readsNumber 14 = .ok (.getfield 19, 3) := zdec_at bX1_readsNumber_0 8 rfl
theorem dX1_readsNumber_17 : decode cX1_readsNumber 17 = .ok (.iload_n 1, 1) := zdec_at bX1_readsNumber_0 9 rfl
theorem dX1_readsNumber_18 : decode cX1_readsNumber 18 = .ok (.iconst 0, 1) := zdec_at bX1_readsNumber_0 10 rfl
theorem dX1_readsNumber_19 : decode cX1_readsNumber 19 = .ok (.invokevirtual 29, 3) := zdec_at bX1_readsNumber_0 11 rfl
theorem dX1_readsNumber_22 : decode cX1_readsNumber 22 = .ok (.bipush 45, 2) := zdec_at bX1_readsNumber_0 12 rfl
theorem dX1_readsNumber_24 : decode cX1_readsNumber 24 = .ok (.if_icmp .ne 7, 3) := zdec_at bX1_readsNumber_0 13 rfl
theorem dX1_readsNumber_27 : decode cX1_readsNumber 27 = .ok (.iconst 1, 1) := zdec_at bX1_readsNumber_0 14 rfl
theorem dX1_readsNumber_28 : decode cX1_readsNumber 28 = .ok (.goto 4, 3) := zdec_at bX1_readsNumber_0 15 rfl
theorem bX1_readsNumber_31 : zdec cX1_readsNumber 31 [(31, .iconst 0, 1), (32, .istore_n 3, 1), (33, .iload_n 2, 1), (34, .ifCond .ne 5, 3), (37, .iconst 1, 1), (38, .ireturn, 1), (39, .iload_n 2, 1), (40, .iload_n 3, 1), (41, .if_icmp .eq 11, 3), (44, .iload_n 2, 1), (45, .iload_n 3, 1), (46, .isub, 1), (47, .bipush 10, 2), (49, .if_icmp .le 5, 3), (52, .iconst 0, 1), (53, .ireturn, 1)] = true := by decide +kernel
theorem dX1_readsNumber_31 : decode cX1_readsNumber 31 = .ok (.iconst 0, 1) := zdec_at bX1_readsNumber_31 0 rfl
theorem dX1_readsNumber_32 : decode cX1_readsNumber 32 = .ok (.istore_n 3, 1) := zdec_at bX1_readsNumber_31 1 rfl
theorem dX1_readsNumber_33 : decode cX1_readsNumber 33 = .ok (.iload_n 2, 1) := zdec_at bX1_readsNumber_31 2 rfl
theorem dX1_readsNumber_34 : decode cX1_readsNumber 34 = .ok (.ifCond .ne 5, 3) := zdec_at bX1_readsNumber_31 3 rfl
theorem dX1_readsNumber_37 : decode cX1_readsNumber 37 = .ok (.iconst 1, 1) := zdec_at bX1_readsNumber_31 4 rfl
theorem dX1_readsNumber_38 : decode cX1_readsNumber 38 = .ok (.ireturn, 1) := zdec_at bX1_readsNumber_31 5 rfl
theorem dX1_readsNumber_39 : decode cX1_readsNumber 39 = .ok (.iload_n 2, 1) := zdec_at bX1_readsNumber_31 6 rfl
theorem dX1_readsNumber_40 : decode cX1_readsNumber 40 = .ok (.iload_n 3, 1) := zdec_at bX1_readsNumber_31 7 rfl
theorem dX1_readsNumber_41 : decode cX1_readsNumber 41 = .ok (.if_icmp .eq 11, 3) := zdec_at bX1_readsNumber_31 8 rfl
theorem dX1_readsNumber_44 : decode cX1_readsNumber 44 = .ok (.iload_n 2, 1) := zdec_at bX1_readsNumber_31 9 rfl
theorem dX1_readsNumber_45 : decode cX1_readsNumber 45 = .ok (.iload_n 3, 1) := zdec_at bX1_readsNumber_31 10 rfl
theorem dX1_readsNumber_46 : decode cX1_readsNumber 46 = .ok (.isub, 1) := zdec_at bX1_readsNumber_31 11 rfl
theorem dX1_readsNumber_47 : decode cX1_readsNumber 47 = .ok (.bipush 10, 2) := zdec_at bX1_readsNumber_31 12 rfl
theorem dX1_readsNumber_49 : decode cX1_readsNumber 49 = .ok (.if_icmp .le 5, 3) := zdec_at bX1_readsNumber_31 13 rfl
theorem dX1_readsNumber_52 : decode cX1_readsNumber 52 = .ok (.iconst 0, 1) := zdec_at bX1_readsNumber_31 14 rfl
theorem dX1_readsNumber_53 : decode cX1_readsNumber 53 = .ok (.ireturn, 1) := zdec_at bX1_readsNumber_31 15 rfl
theorem bX1_readsNumber_54 : zdec cX1_readsNumber 54 [(54, .lconst 0, 1), (55, .lstore 4, 2), (57, .iload_n 3, 1), (58, .istore 6, 2), (60, .iload 6, 2), (62, .iload_n 2, 1), (63, .if_icmp .ge 51, 3), (66, .aload_n 0, 1), (67, .getfield 19, 3), (70, .iload_n 1, 1), (71, .iload 6, 2), (73, .invokevirtual 29, 3), (76, .invokestatic 267, 3), (79, .ifCond .ne 5, 3), (82, .iconst 0, 1), (83, .ireturn, 1)] = true := by decide +kernel
theorem dX1_readsNumber_54 : decode cX1_readsNumber 54 = .ok (.lconst 0, 1) := zdec_at bX1_readsNumber_54 0 rfl
theorem dX1_readsNumber_55 : decode cX1_readsNumber 55 = .ok (.lstore 4, 2) := zdec_at bX1_readsNumber_54 1 rfl
theorem dX1_readsNumber_57 : decode cX1_readsNumber 57 = .ok (.iload_n 3, 1) := zdec_at bX1_readsNumber_54 2 rfl
theorem dX1_readsNumber_58 : decode cX1_readsNumber 58 = .ok (.istore 6, 2) := zdec_at bX1_readsNumber_54 3 rfl
theorem dX1_readsNumber_60 : decode cX1_readsNumber 60 = .ok (.iload 6, 2) := zdec_at bX1_readsNumber_54 4 rfl
theorem dX1_readsNumber_62 : decode cX1_readsNumber 62 = .ok (.iload_n 2, 1) := zdec_at bX1_readsNumber_54 5 rfl
theorem dX1_readsNumber_63 : decode cX1_readsNumber 63 = .ok (.if_icmp .ge 51, 3) := zdec_at bX1_readsNumber_54 6 rfl
theorem dX1_readsNumber_66 : decode cX1_readsNumber 66 = .ok (.aload_n 0, 1) := zdec_at bX1_readsNumber_54 7 rfl
theorem dX1_readsNumber_67 : decode cX1_readsNumber 67 = .ok (.getfield 19, 3) := zdec_at bX1_readsNumber_54 8 rfl
theorem dX1_readsNumber_70 : decode cX1_readsNumber 70 = .ok (.iload_n 1, 1) := zdec_at bX1_readsNumber_54 9 rfl
theorem dX1_readsNumber_71 : decode cX1_readsNumber 71 = .ok (.iload 6, 2) := zdec_at bX1_readsNumber_54 10 rfl
theorem dX1_readsNumber_73 : decode cX1_readsNumber 73 = .ok (.invokevirtual 29, 3) := zdec_at bX1_readsNumber_54 11 rfl
theorem dX1_readsNumber_76 : decode cX1_readsNumber 76 = .ok (.invokestatic 267, 3) := zdec_at bX1_readsNumber_54 12 rfl
theorem dX1_readsNumber_79 : decode cX1_readsNumber 79 = .ok (.ifCond .ne 5, 3) := zdec_at bX1_readsNumber_54 13 rfl
theorem dX1_readsNumber_82 : decode cX1_readsNumber 82 = .ok (.iconst 0, 1) := zdec_at bX1_readsNumber_54 14 rfl
theorem dX1_readsNumber_83 : decode cX1_readsNumber 83 = .ok (.ireturn, 1) := zdec_at bX1_readsNumber_54 15 rfl
theorem bX1_readsNumber_84 : zdec cX1_readsNumber 84 [(84, .ldc2_w 15, 3), (87, .lload 4, 2), (89, .lmul, 1), (90, .aload_n 0, 1), (91, .getfield 19, 3), (94, .iload_n 1, 1), (95, .iload 6, 2), (97, .invokevirtual 29, 3), (100, .i2l, 1), (101, .ladd, 1), (102, .ldc2_w 17, 3), (105, .lsub, 1), (106, .lstore 4, 2), (108, .iinc 6 1, 3), (111, .goto (-51), 3), (114, .iload_n 3, 1)] = true := by decide +kernel
theorem dX1_readsNumber_84 : decode cX1_readsNumber 84 = .ok (.ldc2_w 15, 3) := zdec_at bX1_readsNumber_84 0 rfl
theorem dX1_readsNumber_87 : decode cX1_readsNumber 87 = .ok (.lload 4, 2) := zdec_at bX1_readsNumber_84 1 rfl
theorem dX1_readsNumber_89 : decode cX1_readsNumber 89 = .ok (.lmul, 1) := zdec_at bX1_readsNumber_84 2 rfl
theorem dX1_readsNumber_90 : decode cX1_readsNumber 90 = .ok (.aload_n 0, 1) := zdec_at bX1_readsNumber_84 3 rfl
theorem dX1_readsNumber_91 : decode cX1_readsNumber 91 = .ok (.getfield 19, 3) := zdec_at bX1_readsNumber_84 4 rfl
theorem dX1_readsNumber_94 : decode cX1_readsNumber 94 = .ok (.iload_n 1, 1) := zdec_at bX1_readsNumber_84 5 rfl
theorem dX1_readsNumber_95 : decode cX1_readsNumber 95 = .ok (.iload 6, 2) := zdec_at bX1_readsNumber_84 6 rfl
theorem dX1_readsNumber_97 : decode cX1_readsNumber 97 = .ok (.invokevirtual 29, 3) := zdec_at bX1_readsNumber_84 7 rfl
theorem dX1_readsNumber_100 : decode cX1_readsNumber 100 = .ok (.i2l, 1) := zdec_at bX1_readsNumber_84 8 rfl
theorem dX1_readsNumber_101 : decode cX1_readsNumber 101 = .ok (.ladd, 1) := zdec_at bX1_readsNumber_84 9 rfl
theorem dX1_readsNumber_102 : decode cX1_readsNumber 102 = .ok (.ldc2_w 17, 3) := zdec_at bX1_readsNumber_84 10 rfl
theorem dX1_readsNumber_105 : decode cX1_readsNumber 105 = .ok (.lsub, 1) := zdec_at bX1_readsNumber_84 11 rfl
theorem dX1_readsNumber_106 : decode cX1_readsNumber 106 = .ok (.lstore 4, 2) := zdec_at bX1_readsNumber_84 12 rfl
theorem dX1_readsNumber_108 : decode cX1_readsNumber 108 = .ok (.iinc 6 1, 3) := zdec_at bX1_readsNumber_84 13 rfl
theorem dX1_readsNumber_111 : decode cX1_readsNumber 111 = .ok (.goto (-51), 3) := zdec_at bX1_readsNumber_84 14 rfl
theorem dX1_readsNumber_114 : decode cX1_readsNumber 114 = .ok (.iload_n 3, 1) := zdec_at bX1_readsNumber_84 15 rfl
theorem bX1_readsNumber_115 : zdec cX1_readsNumber 115 [(115, .iconst 1, 1), (116, .if_icmp .ne 9, 3), (119, .lload 4, 2), (121, .lneg, 1), (122, .goto 5, 3), (125, .lload 4, 2), (127, .lstore 4, 2), (129, .aload_n 0, 1), (130, .lload 4, 2), (132, .l2i, 1), (133, .putfield 392, 3), (136, .lload 4, 2), (138, .lload 4, 2), (140, .l2i, 1), (141, .i2l, 1), (142, .lcmp, 1)] = true := by decide +kernel
theorem dX1_readsNumber_115 : decode cX1_readsNumber 115 = .ok (.iconst 1, 1) := zdec_at bX1_readsNumber_115 0 rfl
theorem dX1_readsNumber_116 : decode cX1_readsNumber 116 = .ok (.if_icmp .ne 9, 3) := zdec_at bX1_readsNumber_115 1 rfl
theorem dX1_readsNumber_119 : decode cX1_readsNumber 119 = .ok (.lload 4, 2) := zdec_at bX1_readsNumber_115 2 rfl
theorem dX1_readsNumber_121 : decode cX1_readsNumber 121 = .ok (.lneg, 1) := zdec_at bX1_readsNumber_115 3 rfl
theorem dX1_readsNumber_122 : decode cX1_readsNumber 122 = .ok (.goto 5, 3) := zdec_at bX1_readsNumber_115 4 rfl
theorem dX1_readsNumber_125 : decode cX1_readsNumber 125 = .ok (.lload 4, 2) := zdec_at bX1_readsNumber_115 5 rfl
theorem dX1_readsNumber_127 : decode cX1_readsNumber 127 = .ok (.lstore 4, 2) := zdec_at bX1_readsNumber_115 6 rfl
theorem dX1_readsNumber_129 : decode cX1_readsNumber 129 = .ok (.aload_n 0, 1) := zdec_at bX1_readsNumber_115 7 rfl
theorem dX1_readsNumber_130 : decode cX1_readsNumber 130 = .ok (.lload 4, 2) := zdec_at bX1_readsNumber_115 8 rfl
theorem dX1_readsNumber_132 : decode cX1_readsNumber 132 = .ok (.l2i, 1) := zdec_at bX1_readsNumber_115 9 rfl
theorem dX1_readsNumber_133 : decode cX1_readsNumber 133 = .ok (.putfield 392, 3) := zdec_at bX1_readsNumber_115 10 rfl
theorem dX1_readsNumber_136 : decode cX1_readsNumber 136 = .ok (.lload 4, 2) := zdec_at bX1_readsNumber_115 11 rfl
theorem dX1_readsNumber_138 : decode cX1_readsNumber 138 = .ok (.lload 4, 2) := zdec_at bX1_readsNumber_115 12 rfl
theorem dX1_readsNumber_140 : decode cX1_readsNumber 140 = .ok (.l2i, 1) := zdec_at bX1_readsNumber_115 13 rfl
theorem dX1_readsNumber_141 : decode cX1_readsNumber 141 = .ok (.i2l, 1) := zdec_at bX1_readsNumber_115 14 rfl
theorem dX1_readsNumber_142 : decode cX1_readsNumber 142 = .ok (.lcmp, 1) := zdec_at bX1_readsNumber_115 15 rfl
theorem bX1_readsNumber_143 : zdec cX1_readsNumber 143 [(143, .ifCond .ne 7, 3), (146, .iconst 1, 1), (147, .goto 4, 3), (150, .iconst 0, 1), (151, .ireturn, 1)] = true := by decide +kernel
theorem dX1_readsNumber_143 : decode cX1_readsNumber 143 = .ok (.ifCond .ne 7, 3) := zdec_at bX1_readsNumber_143 0 rfl
theorem dX1_readsNumber_146 : decode cX1_readsNumber 146 = .ok (.iconst 1, 1) := zdec_at bX1_readsNumber_143 1 rfl
theorem dX1_readsNumber_147 : decode cX1_readsNumber 147 = .ok (.goto 4, 3) := zdec_at bX1_readsNumber_143 2 rfl
theorem dX1_readsNumber_150 : decode cX1_readsNumber 150 = .ok (.iconst 0, 1) := zdec_at bX1_readsNumber_143 3 rfl
theorem dX1_readsNumber_151 : decode cX1_readsNumber 151 = .ok (.ireturn, 1) := zdec_at bX1_readsNumber_143 4 rfl
theorem sX1_readsNumber_0 {E : zE} {d : Nat} {Q : zO → zM → Prop} (M : zM) (l1 : Int32) (hw : cw M) (k : Z E YX2_length d M (zargs 0 [vr (some (17, 2, 0)), vi l1]) 0 [] (zafter E YX1_readsNumber (d + 1) [(0, vr (some (16, 0, 0))), (1, vi l1)] 5 3 [] Q)) : Z E YX1_readsNumber (d + 1) M [(0, vr (some (16, 0, 0))), (1, vi l1)] 0 [] Q := by
  refine z_aload_n dX1_readsNumber_0 rfl rfl ?_
  refine z_getr dX1_readsNumber_1 fsX1_19_0 (show gr M 16 0 = some (17, 2, 0) from cw_at hw 0 rfl) ?_
  refine z_iload_n dX1_readsNumber_4 rfl rfl ?_
  exact z_callV (as := [vi l1]) (st := []) dX1_readsNumber_5 vsX1_23_2 (Nat.le_refl _) (Nat.le_of_ble_eq_true rfl) (Nat.le_of_ble_eq_true rfl) rfl k
theorem sX1_readsNumber_8 {E : zE} {d : Nat} {Q : zO → zM → Prop} (M : zM) (l1 : Int32) (s0 : Int32) (hw : cw M) (k : if s0 ≤ 0 then (Z E YX1_readsNumber (d + 1) M [(0, vr (some (16, 0, 0))), (1, vi l1), (2, vi s0)] 32 [vi (0 : Int32)] Q) else (Z E YX2_sign d M (zargs 0 [vr (some (17, 2, 0)), vi l1, vi (0 : Int32)]) 0 [] (zafter E YX1_readsNumber (d + 1) [(0, vr (some (16, 0, 0))), (1, vi l1), (2, vi s0)] 19 3 [] Q))) : Z E YX1_readsNumber (d + 1) M [(0, vr (some (16, 0, 0))), (1, vi l1)] 8 [vi s0] Q := by
  refine z_ist_n dX1_readsNumber_8 rfl (by decide) (lv' := [(0, vr (some (16, 0, 0))), (1, vi l1), (2, vi s0)]) rfl ?_
  refine z_iload_n dX1_readsNumber_9 rfl rfl ?_
  refine z_if_le (tgt := 31) dX1_readsNumber_10 rfl (fun h_ => ?_) (fun h_ => ?_)
  · have k := zit h_ k
    refine z_iconst (v := 0) dX1_readsNumber_31 rfl ?_
    exact k
  · have k := zif h_ k
    refine z_aload_n dX1_readsNumber_13 rfl rfl ?_
    refine z_getr dX1_readsNumber_14 fsX1_19_0 (show gr M 16 0 = some (17, 2, 0) from cw_at hw 0 rfl) ?_
    refine z_iload_n dX1_readsNumber_17 rfl rfl ?_
    refine z_iconst (v := 0) dX1_readsNumber_18 rfl ?_
    exact z_callV (as := [vi l1, vi (0 : Int32)]) (st := []) dX1_readsNumber_19 vsX1_29_2 (Nat.le_refl _) (Nat.le_of_ble_eq_true rfl) (Nat.le_of_ble_eq_true rfl) rfl k
theorem sX1_readsNumber_22 {E : zE} {d : Nat} {Q : zO → zM → Prop} (M : zM) (l1 : Int32) (l2 : Int32) (s0 : Int32) (hw : cw M) (k : if s0 = (45 : Int32) then (Z E YX1_readsNumber (d + 1) M [(0, vr (some (16, 0, 0))), (1, vi l1), (2, vi l2)] 32 [vi (1 : Int32)] Q) else (Z E YX1_readsNumber (d + 1) M [(0, vr (some (16, 0, 0))), (1, vi l1), (2, vi l2)] 32 [vi (0 : Int32)] Q)) : Z E YX1_readsNumber (d + 1) M [(0, vr (some (16, 0, 0))), (1, vi l1), (2, vi l2)] 22 [vi s0] Q := by
  refine z_bipush (v := 45) dX1_readsNumber_22 rfl ?_
  refine z_icmp_ne (tgt := 31) dX1_readsNumber_24 rfl (fun h_ => ?_) (fun h_ => ?_)
  · have k := zif h_ k
    refine z_iconst (v := 0) dX1_readsNumber_31 rfl ?_
    exact k
  · have k := zit h_ k
    refine z_iconst (v := 1) dX1_readsNumber_27 rfl ?_
    refine z_goto (tgt := 32) dX1_readsNumber_28 rfl ?_
    exact k
theorem sX1_readsNumber_32 {E : zE} {d : Nat} {Q : zO → zM → Prop} (M : zM) (l1 : Int32) (l2 : Int32) (s0 : Int32) (hw : cw M) (k : if l2 = 0 then (Q (.inl (some (vi (1 : Int32)))) M) else (if l2 = s0 then (Q (.inl (some (vi (0 : Int32)))) M) else (if (l2 - s0) ≤ (10 : Int32) then (Z E YX1_readsNumber (d + 1) M [(0, vr (some (16, 0, 0))), (1, vi l1), (2, vi l2), (3, vi s0), (4, vl (0 : Int64)), (6, vi s0)] 60 [] Q) else (Q (.inl (some (vi (0 : Int32)))) M)))) : Z E YX1_readsNumber (d + 1) M [(0, vr (some (16, 0, 0))), (1, vi l1), (2, vi l2)] 32 [vi s0] Q := by
  refine z_ist_n dX1_readsNumber_32 rfl (by decide) (lv' := [(0, vr (some (16, 0, 0))), (1, vi l1), (2, vi l2), (3, vi s0)]) rfl ?_
  refine z_iload_n dX1_readsNumber_33 rfl rfl ?_
  refine z_if_ne (tgt := 39) dX1_readsNumber_34 rfl (fun h_ => ?_) (fun h_ => ?_)
  · have k := zif h_ k
    refine z_iload_n dX1_readsNumber_39 rfl rfl ?_
    refine z_iload_n dX1_readsNumber_40 rfl rfl ?_
    refine z_icmp_eq (tgt := 52) dX1_readsNumber_41 rfl (fun h_ => ?_) (fun h_ => ?_)
    · have k := zit h_ k
      refine z_iconst (v := 0) dX1_readsNumber_52 rfl ?_
      exact z_iret dX1_readsNumber_53 rfl (by decide) k
    · have k := zif h_ k
      refine z_iload_n dX1_readsNumber_44 rfl rfl ?_
      refine z_iload_n dX1_readsNumber_45 rfl rfl ?_
      refine z_isub dX1_readsNumber_46 ?_
      refine z_bipush (v := 10) dX1_readsNumber_47 rfl ?_
      refine z_icmp_le (tgt := 54) dX1_readsNumber_49 rfl (fun h_ => ?_) (fun h_ => ?_)
      · have k := zit h_ k
        refine z_lconst (v := 0) dX1_readsNumber_54 rfl ?_
        refine z_lst dX1_readsNumber_55 (by decide) (lv' := [(0, vr (some (16, 0, 0))), (1, vi l1), (2, vi l2), (3, vi s0), (4, vl (0 : Int64))]) rfl ?_
        refine z_iload_n dX1_readsNumber_57 rfl rfl ?_
        refine z_ist dX1_readsNumber_58 (by decide) (lv' := [(0, vr (some (16, 0, 0))), (1, vi l1), (2, vi l2), (3, vi s0), (4, vl (0 : Int64)), (6, vi s0)]) rfl ?_
        exact k
      · have k := zif h_ k
        refine z_iconst (v := 0) dX1_readsNumber_52 rfl ?_
        exact z_iret dX1_readsNumber_53 rfl (by decide) k
  · have k := zit h_ k
    refine z_iconst (v := 1) dX1_readsNumber_37 rfl ?_
    exact z_iret dX1_readsNumber_38 rfl (by decide) k
theorem sX1_readsNumber_60 {E : zE} {d : Nat} {Q : zO → zM → Prop} (M : zM) (l1 : Int32) (l2 : Int32) (l3 : Int32) (l4 : Int64) (l6 : Int32) (hw : cw M) (k : if l2 ≤ l6 then (if l3 = (1 : Int32) then (Z E YX1_readsNumber (d + 1) M [(0, vr (some (16, 0, 0)))] 127 [vl (-l4)] Q) else (Z E YX1_readsNumber (d + 1) M [(0, vr (some (16, 0, 0)))] 127 [vl l4] Q)) else (Z E YX2_sign d M (zargs 0 [vr (some (17, 2, 0)), vi l1, vi l6]) 0 [] (zafter E YX1_readsNumber (d + 1) [(0, vr (some (16, 0, 0))), (1, vi l1), (2, vi l2), (3, vi l3), (4, vl l4), (6, vi l6)] 73 3 [] Q))) : Z E YX1_readsNumber (d + 1) M [(0, vr (some (16, 0, 0))), (1, vi l1), (2, vi l2), (3, vi l3), (4, vl l4), (6, vi l6)] 60 [] Q := by
  refine z_iload dX1_readsNumber_60 rfl ?_
  refine z_iload_n dX1_readsNumber_62 rfl rfl ?_
  refine z_icmp_ge (tgt := 114) dX1_readsNumber_63 rfl (fun h_ => ?_) (fun h_ => ?_)
  · have k := zit h_ k
    refine z_iload_n dX1_readsNumber_114 rfl rfl ?_
    refine z_iconst (v := 1) dX1_readsNumber_115 rfl ?_
    refine z_icmp_ne (tgt := 125) dX1_readsNumber_116 rfl (fun h_ => ?_) (fun h_ => ?_)
    · have k := zif h_ k
      refine z_lload dX1_readsNumber_125 rfl ?_
      refine Z.pick [0] rfl ?_
      exact k
    · have k := zit h_ k
      refine z_lload dX1_readsNumber_119 rfl ?_
      refine z_lneg dX1_readsNumber_121 ?_
      refine z_goto (tgt := 127) dX1_readsNumber_122 rfl ?_
      refine Z.pick [0] rfl ?_
      exact k
  · have k := zif h_ k
    refine z_aload_n dX1_readsNumber_66 rfl rfl ?_
    refine z_getr dX1_readsNumber_67 fsX1_19_0 (show gr M 16 0 = some (17, 2, 0) from cw_at hw 0 rfl) ?_
    refine z_iload_n dX1_readsNumber_70 rfl rfl ?_
    refine z_iload dX1_readsNumber_71 rfl ?_
    exact z_callV (as := [vi l1, vi l6]) (st := []) dX1_readsNumber_73 vsX1_29_2 (Nat.le_refl _) (Nat.le_of_ble_eq_true rfl) (Nat.le_of_ble_eq_true rfl) rfl k
theorem sX1_readsNumber_76 {E : zE} {d : Nat} {Q : zO → zM → Prop} (M : zM) (l1 : Int32) (l2 : Int32) (l3 : Int32) (l4 : Int64) (l6 : Int32) (s0 : Int32) (hw : cw M) (k : Z E YX1_digit d M (zargs 0 [vi s0]) 0 [] (zafter E YX1_readsNumber (d + 1) [(0, vr (some (16, 0, 0))), (1, vi l1), (2, vi l2), (3, vi l3), (4, vl l4), (6, vi l6)] 76 3 [] Q)) : Z E YX1_readsNumber (d + 1) M [(0, vr (some (16, 0, 0))), (1, vi l1), (2, vi l2), (3, vi l3), (4, vl l4), (6, vi l6)] 76 [vi s0] Q := by
  exact z_callS (as := [vi s0]) (st := []) dX1_readsNumber_76 ssX1_267 (Nat.le_refl _) (Nat.le_of_ble_eq_true rfl) (Nat.le_of_ble_eq_true rfl) rfl k
theorem sX1_readsNumber_79 {E : zE} {d : Nat} {Q : zO → zM → Prop} (M : zM) (l1 : Int32) (l2 : Int32) (l3 : Int32) (l4 : Int64) (l6 : Int32) (s0 : Int32) (hw : cw M) (k : if s0 = 0 then (Q (.inl (some (vi (0 : Int32)))) M) else (Z E YX2_sign d M (zargs 0 [vr (some (17, 2, 0)), vi l1, vi l6]) 0 [] (zafter E YX1_readsNumber (d + 1) [(0, vr (some (16, 0, 0))), (1, vi l1), (2, vi l2), (3, vi l3), (6, vi l6)] 97 3 [vl ((10 : Int64) * l4)] Q))) : Z E YX1_readsNumber (d + 1) M [(0, vr (some (16, 0, 0))), (1, vi l1), (2, vi l2), (3, vi l3), (4, vl l4), (6, vi l6)] 79 [vi s0] Q := by
  refine z_if_ne (tgt := 84) dX1_readsNumber_79 rfl (fun h_ => ?_) (fun h_ => ?_)
  · have k := zif h_ k
    refine z_ldc2 (v := 10) dX1_readsNumber_84 q1714 ?_
    refine z_lload dX1_readsNumber_87 rfl ?_
    refine z_lmul dX1_readsNumber_89 ?_
    refine z_aload_n dX1_readsNumber_90 rfl rfl ?_
    refine z_getr dX1_readsNumber_91 fsX1_19_0 (show gr M 16 0 = some (17, 2, 0) from cw_at hw 0 rfl) ?_
    refine z_iload_n dX1_readsNumber_94 rfl rfl ?_
    refine z_iload dX1_readsNumber_95 rfl ?_
    refine Z.pick [0, 1, 2, 3, 5] rfl ?_
    exact z_callV (as := [vi l1, vi l6]) (st := [vl ((10 : Int64) * l4)]) dX1_readsNumber_97 vsX1_29_2 (Nat.le_refl _) (Nat.le_of_ble_eq_true rfl) (Nat.le_of_ble_eq_true rfl) rfl k
  · have k := zit h_ k
    refine z_iconst (v := 0) dX1_readsNumber_82 rfl ?_
    exact z_iret dX1_readsNumber_83 rfl (by decide) k
theorem sX1_readsNumber_100 {E : zE} {d : Nat} {Q : zO → zM → Prop} (M : zM) (l1 : Int32) (l2 : Int32) (l3 : Int32) (l6 : Int32) (s0 : Int32) (s1 : Int64) (hw : cw M) (k : Z E YX1_readsNumber (d + 1) M [(0, vr (some (16, 0, 0))), (1, vi l1), (2, vi l2), (3, vi l3), (4, vl ((s1 + (s0).toInt64) - (48 : Int64))), (6, vi (l6 + (1 : Int32)))] 60 [] Q) : Z E YX1_readsNumber (d + 1) M [(0, vr (some (16, 0, 0))), (1, vi l1), (2, vi l2), (3, vi l3), (6, vi l6)] 100 [vi s0, vl s1] Q := by
  refine z_i2l dX1_readsNumber_100 ?_
  refine z_ladd dX1_readsNumber_101 ?_
  refine z_ldc2 (v := 48) dX1_readsNumber_102 q1715 ?_
  refine z_lsub dX1_readsNumber_105 ?_
  refine z_lst dX1_readsNumber_106 (by decide) (lv' := [(0, vr (some (16, 0, 0))), (1, vi l1), (2, vi l2), (3, vi l3), (4, vl ((s1 + (s0).toInt64) - (48 : Int64))), (6, vi l6)]) rfl ?_
  refine z_inc (v := (l6 + (1 : Int32))) dX1_readsNumber_108 rfl rfl (by decide) (lv' := [(0, vr (some (16, 0, 0))), (1, vi l1), (2, vi l2), (3, vi l3), (4, vl ((s1 + (s0).toInt64) - (48 : Int64))), (6, vi (l6 + (1 : Int32)))]) rfl ?_
  refine z_goto (tgt := 60) dX1_readsNumber_111 rfl ?_
  exact k
theorem sX1_readsNumber_127 {E : zE} {d : Nat} {Q : zO → zM → Prop} (M : zM) (s0 : Int64) (hw : cw M) (k : if (lg_cmp s0 ((s0).toInt32).toInt64) = 0 then (Q (.inl (some (vi (1 : Int32)))) (si M 16 32 (s0).toInt32)) else (Q (.inl (some (vi (0 : Int32)))) (si M 16 32 (s0).toInt32))) : Z E YX1_readsNumber (d + 1) M [(0, vr (some (16, 0, 0)))] 127 [vl s0] Q := by
  refine z_lst dX1_readsNumber_127 (by decide) (lv' := [(0, vr (some (16, 0, 0))), (4, vl s0)]) rfl ?_
  refine z_aload_n dX1_readsNumber_129 rfl rfl ?_
  refine z_lload dX1_readsNumber_130 rfl ?_
  refine z_l2i dX1_readsNumber_132 ?_
  refine z_puti (by decide) dX1_readsNumber_133 (zfwN.w fwX1_392_0) rfl ⟨rfl, rfl⟩ ?_
  refine z_lload dX1_readsNumber_136 rfl ?_
  refine z_lload dX1_readsNumber_138 rfl ?_
  refine z_l2i dX1_readsNumber_140 ?_
  refine z_i2l dX1_readsNumber_141 ?_
  refine z_lcmp dX1_readsNumber_142 ?_
  refine z_if_ne (tgt := 150) dX1_readsNumber_143 rfl (fun h_ => ?_) (fun h_ => ?_)
  · have k := zif h_ k
    refine z_iconst (v := 0) dX1_readsNumber_150 rfl ?_
    exact z_iret dX1_readsNumber_151 rfl (by decide) k
  · have k := zit h_ k
    refine z_iconst (v := 1) dX1_readsNumber_146 rfl ?_
    refine z_goto (tgt := 151) dX1_readsNumber_147 rfl ?_
    exact z_iret dX1_readsNumber_151 rfl (by decide) k
/-! ScriptTypes.binary(IIIII)V -/
theorem bX1_binary_0 : zdec cX1_binary 0 [(0, .iload_n 1, 1), (1, .ifCond .ne 60, 3), (4, .iload_n 2, 1), (5, .bipush 6, 2), (7, .if_icmp .eq 23, 3), (10, .iload_n 2, 1), (11, .bipush 7, 2), (13, .if_icmp .eq 17, 3), (16, .iload 4, 2), (18, .bipush 6, 2), (20, .if_icmp .eq 10, 3), (23, .iload 4, 2), (25, .bipush 7, 2), (27, .if_icmp .ne 34, 3), (30, .aload_n 0, 1), (31, .invokevirtual 37, 3)] = true := by decide +kernel
theorem dX1_binary_0 : decode cX1_binary 0 = .ok (.iload_n 1, 1) := zdec_at bX1_binary_0 0 rfl
theorem dX1_binary_1 : decode cX1_binary 1 = .ok (.ifCond .ne 60, 3) := zdec_at bX1_binary_0 1 rfl
theorem dX1_binary_4 : decode cX1_binary 4 = .ok (.iload_n 2, 1) := zdec_at bX1_binary_0 2 rfl
theorem dX1_binary_5 : decode cX1_binary 5 = .ok (.bipush 6, 2) := zdec_at bX1_binary_0 3 rfl
theorem dX1_binary_7 : decode cX1_binary 7 = .ok (.if_icmp .eq 23, 3) := zdec_at bX1_binary_0 4 rfl
theorem dX1_binary_10 : decode cX1_binary 10 = .ok (.iload_n 2, 1) := zdec_at bX1_binary_0 5 rfl
theorem dX1_binary_11 : decode cX1_binary 11 = .ok (.bipush 7, 2) := zdec_at bX1_binary_0 6 rfl
theorem dX1_binary_13 : decode cX1_binary 13 = .ok (.if_icmp .eq 17, 3) := zdec_at bX1_binary_0 7 rfl
theorem dX1_binary_16 : decode cX1_binary 16 = .ok (.iload 4, 2) := zdec_at bX1_binary_0 8 rfl
theorem dX1_binary_18 : decode cX1_binary 18 = .ok (.bipush 6, 2) := zdec_at bX1_binary_0 9 rfl
theorem dX1_binary_20 : decode cX1_binary 20 = .ok (.if_icmp .eq 10, 3) := zdec_at bX1_binary_0 10 rfl
theorem dX1_binary_23 : decode cX1_binary 23 = .ok (.iload 4, 2) := zdec_at bX1_binary_0 11 rfl
theorem dX1_binary_25 : decode cX1_binary 25 = .ok (.bipush 7, 2) := zdec_at bX1_binary_0 12 rfl
theorem dX1_binary_27 : decode cX1_binary 27 = .ok (.if_icmp .ne 34, 3) := zdec_at bX1_binary_0 13 rfl
theorem dX1_binary_30 : decode cX1_binary 30 = .ok (.aload_n 0, 1) := zdec_at bX1_binary_0 14 rfl
theorem dX1_binary_31 : decode cX1_binary 31 = .ok (.invokevirtual 37, 3) := zdec_at bX1_binary_0 15 rfl
theorem bX1_binary_34 : zdec cX1_binary 34 [(34, .aload_n 0, 1), (35, .iload_n 2, 1), (36, .iload_n 3, 1), (37, .invokevirtual 383, 3), (40, .aload_n 0, 1), (41, .iload 4, 2), (43, .iload 5, 2), (45, .invokevirtual 383, 3), (48, .aload_n 0, 1), (49, .bipush 6, 2), (51, .aload_n 0, 1), (52, .invokevirtual 386, 3), (55, .invokevirtual 395, 3), (58, .goto 299, 3), (61, .iload_n 1, 1), (62, .iconst 5, 1)] = true := by decide +kernel
theorem dX1_binary_34 : decode cX1_binary 34 = .ok (.aload_n 0, 1) := zdec_at bX1_binary_34 0 rfl
theorem dX1_binary_35 : decode cX1_binary 35 = .ok (.iload_n 2, 1) := zdec_at bX1_binary_34 1 rfl
theorem dX1_binary_36 : decode cX1_binary 36 = .ok (.iload_n 3, 1) := zdec_at bX1_binary_34 2 rfl
theorem dX1_binary_37 : decode cX1_binary 37 = .ok (.invokevirtual 383, 3) := zdec_at bX1_binary_34 3 rfl
theorem dX1_binary_40 : decode cX1_binary 40 = .ok (.aload_n 0, 1) := zdec_at bX1_binary_34 4 rfl
theorem dX1_binary_41 : decode cX1_binary 41 = .ok (.iload 4, 2) := zdec_at bX1_binary_34 5 rfl
theorem dX1_binary_43 : decode cX1_binary 43 = .ok (.iload 5, 2) := zdec_at bX1_binary_34 6 rfl
theorem dX1_binary_45 : decode cX1_binary 45 = .ok (.invokevirtual 383, 3) := zdec_at bX1_binary_34 7 rfl
theorem dX1_binary_48 : decode cX1_binary 48 = .ok (.aload_n 0, 1) := zdec_at bX1_binary_34 8 rfl
theorem dX1_binary_49 : decode cX1_binary 49 = .ok (.bipush 6, 2) := zdec_at bX1_binary_34 9 rfl
theorem dX1_binary_51 : decode cX1_binary 51 = .ok (.aload_n 0, 1) := zdec_at bX1_binary_34 10 rfl
theorem dX1_binary_52 : decode cX1_binary 52 = .ok (.invokevirtual 386, 3) := zdec_at bX1_binary_34 11 rfl
theorem dX1_binary_55 : decode cX1_binary 55 = .ok (.invokevirtual 395, 3) := zdec_at bX1_binary_34 12 rfl
theorem dX1_binary_58 : decode cX1_binary 58 = .ok (.goto 299, 3) := zdec_at bX1_binary_34 13 rfl
theorem dX1_binary_61 : decode cX1_binary 61 = .ok (.iload_n 1, 1) := zdec_at bX1_binary_34 14 rfl
theorem dX1_binary_62 : decode cX1_binary 62 = .ok (.iconst 5, 1) := zdec_at bX1_binary_34 15 rfl
theorem bX1_binary_63 : zdec cX1_binary 63 [(63, .if_icmp .ge 17, 3), (66, .aload_n 0, 1), (67, .iload_n 1, 1), (68, .iload_n 2, 1), (69, .iload_n 3, 1), (70, .iload 4, 2), (72, .iload 5, 2), (74, .invokevirtual 424, 3), (77, .goto 280, 3), (80, .iload_n 1, 1), (81, .bipush 11, 2), (83, .if_icmp .ge 134, 3), (86, .aload_n 0, 1), (87, .iload_n 2, 1), (88, .iload_n 3, 1), (89, .invokevirtual 412, 3)] = true := by decide +kernel
theorem dX1_binary_63 : decode cX1_binary 63 = .ok (.if_icmp .ge 17, 3) := zdec_at bX1_binary_63 0 rfl
theorem dX1_binary_66 : decode cX1_binary 66 = .ok (.aload_n 0, 1) := zdec_at bX1_binary_63 1 rfl
theorem dX1_binary_67 : decode cX1_binary 67 = .ok (.iload_n 1, 1) := zdec_at bX1_binary_63 2 rfl
theorem dX1_binary_68 : decode cX1_binary 68 = .ok (.iload_n 2, 1) := zdec_at bX1_binary_63 3 rfl
theorem dX1_binary_69 : decode cX1_binary 69 = .ok (.iload_n 3, 1) := zdec_at bX1_binary_63 4 rfl
theorem dX1_binary_70 : decode cX1_binary 70 = .ok (.iload 4, 2) := zdec_at bX1_binary_63 5 rfl
theorem dX1_binary_72 : decode cX1_binary 72 = .ok (.iload 5, 2) := zdec_at bX1_binary_63 6 rfl
theorem dX1_binary_74 : decode cX1_binary 74 = .ok (.invokevirtual 424, 3) := zdec_at bX1_binary_63 7 rfl
theorem dX1_binary_77 : decode cX1_binary 77 = .ok (.goto 280, 3) := zdec_at bX1_binary_63 8 rfl
theorem dX1_binary_80 : decode cX1_binary 80 = .ok (.iload_n 1, 1) := zdec_at bX1_binary_63 9 rfl
theorem dX1_binary_81 : decode cX1_binary 81 = .ok (.bipush 11, 2) := zdec_at bX1_binary_63 10 rfl
theorem dX1_binary_83 : decode cX1_binary 83 = .ok (.if_icmp .ge 134, 3) := zdec_at bX1_binary_63 11 rfl
theorem dX1_binary_86 : decode cX1_binary 86 = .ok (.aload_n 0, 1) := zdec_at bX1_binary_63 12 rfl
theorem dX1_binary_87 : decode cX1_binary 87 = .ok (.iload_n 2, 1) := zdec_at bX1_binary_63 13 rfl
theorem dX1_binary_88 : decode cX1_binary 88 = .ok (.iload_n 3, 1) := zdec_at bX1_binary_63 14 rfl
theorem dX1_binary_89 : decode cX1_binary 89 = .ok (.invokevirtual 412, 3) := zdec_at bX1_binary_63 15 rfl
theorem bX1_binary_92 : zdec cX1_binary 92 [(92, .ifCond .eq 10, 3), (95, .aload_n 0, 1), (96, .getfield 392, 3), (99, .goto 4, 3), (102, .iconst 0, 1), (103, .istore 6, 2), (105, .aload_n 0, 1), (106, .iload 4, 2), (108, .iload 5, 2), (110, .invokevirtual 412, 3), (113, .ifCond .eq 10, 3), (116, .aload_n 0, 1), (117, .getfield 392, 3), (120, .goto 4, 3), (123, .iconst 0, 1), (124, .istore 7, 2)] = true := by decide +kernel
theorem dX1_binary_92 : decode cX1_binary 92 = .ok (.ifCond .eq 10, 3) := zdec_at bX1_binary_92 0 rfl
theorem dX1_binary_95 : decode cX1_binary 95 = .ok (.aload_n 0, 1) := zdec_at bX1_binary_92 1 rfl
theorem dX1_binary_96 : decode cX1_binary 96 = .ok (.getfield 392, 3) := zdec_at bX1_binary_92 2 rfl
theorem dX1_binary_99 : decode cX1_binary 99 = .ok (.goto 4, 3) := zdec_at bX1_binary_92 3 rfl
theorem dX1_binary_102 : decode cX1_binary 102 = .ok (.iconst 0, 1) := zdec_at bX1_binary_92 4 rfl
theorem dX1_binary_103 : decode cX1_binary 103 = .ok (.istore 6, 2) := zdec_at bX1_binary_92 5 rfl
theorem dX1_binary_105 : decode cX1_binary 105 = .ok (.aload_n 0, 1) := zdec_at bX1_binary_92 6 rfl
theorem dX1_binary_106 : decode cX1_binary 106 = .ok (.iload 4, 2) := zdec_at bX1_binary_92 7 rfl
theorem dX1_binary_108 : decode cX1_binary 108 = .ok (.iload 5, 2) := zdec_at bX1_binary_92 8 rfl
theorem dX1_binary_110 : decode cX1_binary 110 = .ok (.invokevirtual 412, 3) := zdec_at bX1_binary_92 9 rfl
theorem dX1_binary_113 : decode cX1_binary 113 = .ok (.ifCond .eq 10, 3) := zdec_at bX1_binary_92 10 rfl
theorem dX1_binary_116 : decode cX1_binary 116 = .ok (.aload_n 0, 1) := zdec_at bX1_binary_92 11 rfl
theorem dX1_binary_117 : decode cX1_binary 117 = .ok (.getfield 392, 3) := zdec_at bX1_binary_92 12 rfl
theorem dX1_binary_120 : decode cX1_binary 120 = .ok (.goto 4, 3) := zdec_at bX1_binary_92 13 rfl
theorem dX1_binary_123 : decode cX1_binary 123 = .ok (.iconst 0, 1) := zdec_at bX1_binary_92 14 rfl
theorem dX1_binary_124 : decode cX1_binary 124 = .ok (.istore 7, 2) := zdec_at bX1_binary_92 15 rfl
theorem bX1_binary_126 : zdec cX1_binary 126 [(126, .aload_n 0, 1), (127, .iconst 5, 1), (128, .iload_n 1, 1), (129, .iconst 5, 1), (130, .if_icmp .ne 14, 3), (133, .iload 6, 2), (135, .iload 7, 2), (137, .bipush 31, 2), (139, .iand, 1), (140, .ishl, 1), (141, .goto 70, 3), (144, .iload_n 1, 1), (145, .bipush 6, 2), (147, .if_icmp .ne 14, 3), (150, .iload 6, 2), (152, .iload 7, 2)] = true := by decide +kernel
theorem dX1_binary_126 : decode cX1_binary 126 = .ok (.aload_n 0, 1) := zdec_at bX1_binary_126 0 rfl
theorem dX1_binary_127 : decode cX1_binary 127 = .ok (.iconst 5, 1) := zdec_at bX1_binary_126 1 rfl
theorem dX1_binary_128 : decode cX1_binary 128 = .ok (.iload_n 1, 1) := zdec_at bX1_binary_126 2 rfl
theorem dX1_binary_129 : decode cX1_binary 129 = .ok (.iconst 5, 1) := zdec_at bX1_binary_126 3 rfl
theorem dX1_binary_130 : decode cX1_binary 130 = .ok (.if_icmp .ne 14, 3) := zdec_at bX1_binary_126 4 rfl
theorem dX1_binary_133 : decode cX1_binary 133 = .ok (.iload 6, 2) := zdec_at bX1_binary_126 5 rfl
theorem dX1_binary_135 : decode cX1_binary 135 = .ok (.iload 7, 2) := zdec_at bX1_binary_126 6 rfl
theorem dX1_binary_137 : decode cX1_binary 137 = .ok (.bipush 31, 2) := zdec_at bX1_binary_126 7 rfl
theorem dX1_binary_139 : decode cX1_binary 139 = .ok (.iand, 1) := zdec_at bX1_binary_126 8 rfl
theorem dX1_binary_140 : decode cX1_binary 140 = .ok (.ishl, 1) := zdec_at bX1_binary_126 9 rfl
theorem dX1_binary_141 : decode cX1_binary 141 = .ok (.goto 70, 3) := zdec_at bX1_binary_126 10 rfl
theorem dX1_binary_144 : decode cX1_binary 144 = .ok (.iload_n 1, 1) := zdec_at bX1_binary_126 11 rfl
theorem dX1_binary_145 : decode cX1_binary 145 = .ok (.bipush 6, 2) := zdec_at bX1_binary_126 12 rfl
theorem dX1_binary_147 : decode cX1_binary 147 = .ok (.if_icmp .ne 14, 3) := zdec_at bX1_binary_126 13 rfl
theorem dX1_binary_150 : decode cX1_binary 150 = .ok (.iload 6, 2) := zdec_at bX1_binary_126 14 rfl
theorem dX1_binary_152 : decode cX1_binary 152 = .ok (.iload 7, 2) := zdec_at bX1_binary_126 15 rfl
theorem bX1_binary_154 : zdec cX1_binary 154 [(154, .bipush 31, 2), (156, .iand, 1), (157, .ishr, 1), (158, .goto 53, 3), (161, .iload_n 1, 1), (162, .bipush 7, 2), (164, .if_icmp .ne 14, 3), (167, .iload 6, 2), (169, .iload 7, 2), (171, .bipush 31, 2), (173, .iand, 1), (174, .iushr, 1), (175, .goto 36, 3), (178, .iload_n 1, 1), (179, .bipush 8, 2), (181, .if_icmp .ne 11, 3)] = true := by decide +kernel
theorem dX1_binary_154 : decode cX1_binary 154 = .ok (.bipush 31, 2) := zdec_at bX1_binary_154 0 rfl
theorem dX1_binary_156 : decode cX1_binary 156 = .ok (.iand, 1) := zdec_at bX1_binary_154 1 rfl
theorem dX1_binary_157 : decode cX1_binary 157 = .ok (.ishr, 1) := zdec_at bX1_binary_154 2 rfl
theorem dX1_binary_158 : decode cX1_binary 158 = .ok (.goto 53, 3) := zdec_at bX1_binary_154 3 rfl
theorem dX1_binary_161 : decode cX1_binary 161 = .ok (.iload_n 1, 1) := zdec_at bX1_binary_154 4 rfl
theorem dX1_binary_162 : decode cX1_binary 162 = .ok (.bipush 7, 2) := zdec_at bX1_binary_154 5 rfl
theorem dX1_binary_164 : decode cX1_binary 164 = .ok (.if_icmp .ne 14, 3) := zdec_at bX1_binary_154 6 rfl
theorem dX1_binary_167 : decode cX1_binary 167 = .ok (.iload 6, 2) := zdec_at bX1_binary_154 7 rfl
theorem dX1_binary_169 : decode cX1_binary 169 = .ok (.iload 7, 2) := zdec_at bX1_binary_154 8 rfl
theorem dX1_binary_171 : decode cX1_binary 171 = .ok (.bipush 31, 2) := zdec_at bX1_binary_154 9 rfl
theorem dX1_binary_173 : decode cX1_binary 173 = .ok (.iand, 1) := zdec_at bX1_binary_154 10 rfl
theorem dX1_binary_174 : decode cX1_binary 174 = .ok (.iushr, 1) := zdec_at bX1_binary_154 11 rfl
theorem dX1_binary_175 : decode cX1_binary 175 = .ok (.goto 36, 3) := zdec_at bX1_binary_154 12 rfl
theorem dX1_binary_178 : decode cX1_binary 178 = .ok (.iload_n 1, 1) := zdec_at bX1_binary_154 13 rfl
theorem dX1_binary_179 : decode cX1_binary 179 = .ok (.bipush 8, 2) := zdec_at bX1_binary_154 14 rfl
theorem dX1_binary_181 : decode cX1_binary 181 = .ok (.if_icmp .ne 11, 3) := zdec_at bX1_binary_154 15 rfl
theorem bX1_binary_184 : zdec cX1_binary 184 [(184, .iload 6, 2), (186, .iload 7, 2), (188, .iand, 1), (189, .goto 22, 3), (192, .iload_n 1, 1), (193, .bipush 9, 2), (195, .if_icmp .ne 11, 3), (198, .iload 6, 2), (200, .iload 7, 2), (202, .ior, 1), (203, .goto 8, 3), (206, .iload 6, 2), (208, .iload 7, 2), (210, .ixor, 1), (211, .invokevirtual 395, 3), (214, .goto 143, 3)] = true := by decide +kernel
theorem dX1_binary_184 : decode cX1_binary 184 = .ok (.iload 6, 2) := zdec_at bX1_binary_184 0 rfl
theorem dX1_binary_186 : decode cX1_binary 186 = .ok (.iload 7, 2) := zdec_at bX1_binary_184 1 rfl
theorem dX1_binary_188 : decode cX1_binary 188 = .ok (.iand, 1) := zdec_at bX1_binary_184 2 rfl
theorem dX1_binary_189 : decode cX1_binary 189 = .ok (.goto 22, 3) := zdec_at bX1_binary_184 3 rfl
theorem dX1_binary_192 : decode cX1_binary 192 = .ok (.iload_n 1, 1) := zdec_at bX1_binary_184 4 rfl
theorem dX1_binary_193 : decode cX1_binary 193 = .ok (.bipush 9, 2) := zdec_at bX1_binary_184 5 rfl
theorem dX1_binary_195 : decode cX1_binary 195 = .ok (.if_icmp .ne 11, 3) := zdec_at bX1_binary_184 6 rfl
theorem dX1_binary_198 : decode cX1_binary 198 = .ok (.iload 6, 2) := zdec_at bX1_binary_184 7 rfl
theorem dX1_binary_200 : decode cX1_binary 200 = .ok (.iload 7, 2) := zdec_at bX1_binary_184 8 rfl
theorem dX1_binary_202 : decode cX1_binary 202 = .ok (.ior, 1) := zdec_at bX1_binary_184 9 rfl
theorem dX1_binary_203 : decode cX1_binary 203 = .ok (.goto 8, 3) := zdec_at bX1_binary_184 10 rfl
theorem dX1_binary_206 : decode cX1_binary 206 = .ok (.iload 6, 2) := zdec_at bX1_binary_184 11 rfl
theorem dX1_binary_208 : decode cX1_binary 208 = .ok (.iload 7, 2) := zdec_at bX1_binary_184 12 rfl
theorem dX1_binary_210 : decode cX1_binary 210 = .ok (.ixor, 1) := zdec_at bX1_binary_184 13 rfl
theorem dX1_binary_211 : decode cX1_binary 211 = .ok (.invokevirtual 395, 3) := zdec_at bX1_binary_184 14 rfl
theorem dX1_binary_214 : decode cX1_binary 214 = .ok (.goto 143, 3) := zdec_at bX1_binary_184 15 rfl
theorem bX1_binary_217 : zdec cX1_binary 217 [(217, .iload_n 1, 1), (218, .bipush 15, 2), (220, .if_icmp .ge 63, 3), (223, .aload_n 0, 1), (224, .iload_n 1, 1), (225, .bipush 13, 2), (227, .if_icmp .ge 16, 3), (230, .aload_n 0, 1), (231, .iload_n 2, 1), (232, .iload_n 3, 1), (233, .iload 4, 2), (235, .iload 5, 2), (237, .invokevirtual 428, 3), (240, .goto 12, 3), (243, .iload_n 2, 1), (244, .iload_n 3, 1)] = true := by decide +kernel
theorem dX1_binary_217 : decode cX1_binary 217 = .ok (.iload_n 1, 1) := zdec_at bX1_binary_217 0 rfl
theorem dX1_binary_218 : decode cX1_binary 218 = .ok (.bipush 15, 2) := zdec_at bX1_binary_217 1 rfl
theorem dX1_binary_220 : decode cX1_binary 220 = .ok (.if_icmp .ge 63, 3) := zdec_at bX1_binary_217 2 rfl
theorem dX1_binary_223 : decode cX1_binary 223 = .ok (.aload_n 0, 1) := zdec_at bX1_binary_217 3 rfl
theorem dX1_binary_224 : decode cX1_binary 224 = .ok (.iload_n 1, 1) := zdec_at bX1_binary_217 4 rfl
theorem dX1_binary_225 : decode cX1_binary 225 = .ok (.bipush 13, 2) := zdec_at bX1_binary_217 5 rfl
theorem dX1_binary_227 : decode cX1_binary 227 = .ok (.if_icmp .ge 16, 3) := zdec_at bX1_binary_217 6 rfl
theorem dX1_binary_230 : decode cX1_binary 230 = .ok (.aload_n 0, 1) := zdec_at bX1_binary_217 7 rfl
theorem dX1_binary_231 : decode cX1_binary 231 = .ok (.iload_n 2, 1) := zdec_at bX1_binary_217 8 rfl
theorem dX1_binary_232 : decode cX1_binary 232 = .ok (.iload_n 3, 1) := zdec_at bX1_binary_217 9 rfl
theorem dX1_binary_233 : decode cX1_binary 233 = .ok (.iload 4, 2) := zdec_at bX1_binary_217 10 rfl
theorem dX1_binary_235 : decode cX1_binary 235 = .ok (.iload 5, 2) := zdec_at bX1_binary_217 11 rfl
theorem dX1_binary_237 : decode cX1_binary 237 = .ok (.invokevirtual 428, 3) := zdec_at bX1_binary_217 12 rfl
theorem dX1_binary_240 : decode cX1_binary 240 = .ok (.goto 12, 3) := zdec_at bX1_binary_217 13 rfl
theorem dX1_binary_243 : decode cX1_binary 243 = .ok (.iload_n 2, 1) := zdec_at bX1_binary_217 14 rfl
theorem dX1_binary_244 : decode cX1_binary 244 = .ok (.iload_n 3, 1) := zdec_at bX1_binary_217 15 rfl
theorem bX1_binary_245 : zdec cX1_binary 245 [(245, .iload 4, 2), (247, .iload 5, 2), (249, .invokestatic 415, 3), (252, .iload_n 1, 1), (253, .bipush 11, 2), (255, .if_icmp .eq 9, 3), (258, .iload_n 1, 1), (259, .bipush 13, 2), (261, .if_icmp .ne 7, 3), (264, .iconst 1, 1), (265, .goto 4, 3), (268, .iconst 0, 1), (269, .if_icmp .ne 7, 3), (272, .iconst 1, 1), (273, .goto 4, 3), (276, .iconst 0, 1)] = true := by decide +kernel
theorem dX1_binary_245 : decode cX1_binary 245 = .ok (.iload 4, 2) := zdec_at bX1_binary_245 0 rfl
theorem dX1_binary_247 : decode cX1_binary 247 = .ok (.iload 5, 2) := zdec_at bX1_binary_245 1 rfl
theorem dX1_binary_249 : decode cX1_binary 249 = .ok (.invokestatic 415, 3) := zdec_at bX1_binary_245 2 rfl
theorem dX1_binary_252 : decode cX1_binary 252 = .ok (.iload_n 1, 1) := zdec_at bX1_binary_245 3 rfl
theorem dX1_binary_253 : decode cX1_binary 253 = .ok (.bipush 11, 2) := zdec_at bX1_binary_245 4 rfl
theorem dX1_binary_255 : decode cX1_binary 255 = .ok (.if_icmp .eq 9, 3) := zdec_at bX1_binary_245 5 rfl
theorem dX1_binary_258 : decode cX1_binary 258 = .ok (.iload_n 1, 1) := zdec_at bX1_binary_245 6 rfl
theorem dX1_binary_259 : decode cX1_binary 259 = .ok (.bipush 13, 2) := zdec_at bX1_binary_245 7 rfl
theorem dX1_binary_261 : decode cX1_binary 261 = .ok (.if_icmp .ne 7, 3) := zdec_at bX1_binary_245 8 rfl
theorem dX1_binary_264 : decode cX1_binary 264 = .ok (.iconst 1, 1) := zdec_at bX1_binary_245 9 rfl
theorem dX1_binary_265 : decode cX1_binary 265 = .ok (.goto 4, 3) := zdec_at bX1_binary_245 10 rfl
theorem dX1_binary_268 : decode cX1_binary 268 = .ok (.iconst 0, 1) := zdec_at bX1_binary_245 11 rfl
theorem dX1_binary_269 : decode cX1_binary 269 = .ok (.if_icmp .ne 7, 3) := zdec_at bX1_binary_245 12 rfl
theorem dX1_binary_272 : decode cX1_binary 272 = .ok (.iconst 1, 1) := zdec_at bX1_binary_245 13 rfl
theorem dX1_binary_273 : decode cX1_binary 273 = .ok (.goto 4, 3) := zdec_at bX1_binary_245 14 rfl
theorem dX1_binary_276 : decode cX1_binary 276 = .ok (.iconst 0, 1) := zdec_at bX1_binary_245 15 rfl
theorem bX1_binary_277 : zdec cX1_binary 277 [(277, .invokevirtual 405, 3), (280, .goto 77, 3), (283, .aload_n 0, 1), (284, .iload_n 2, 1), (285, .iload_n 3, 1), (286, .iload 4, 2), (288, .iload 5, 2), (290, .invokevirtual 431, 3), (293, .istore 6, 2), (295, .aload_n 0, 1), (296, .iload 6, 2), (298, .iconst 2, 1), (299, .if_icmp .eq 54, 3), (302, .iload_n 1, 1), (303, .bipush 15, 2), (305, .if_icmp .ne 11, 3)] = true := by decide +kernel
theorem dX1_binary_277 : decode cX1_binary 277 = .ok (.invokevirtual 405, 3) := zdec_at bX1_binary_277 0 rfl
theorem dX1_binary_280 : decode cX1_binary 280 = .ok (.goto 77, 3) := zdec_at bX1_binary_277 1 rfl
theorem dX1_binary_283 : decode cX1_binary 283 = .ok (.aload_n 0, 1) := zdec_at bX1_binary_277 2 rfl
theorem dX1_binary_284 : decode cX1_binary 284 = .ok (.iload_n 2, 1) := zdec_at bX1_binary_277 3 rfl
theorem dX1_binary_285 : decode cX1_binary 285 = .ok (.iload_n 3, 1) := zdec_at bX1_binary_277 4 rfl
theorem dX1_binary_286 : decode cX1_binary 286 = .ok (.iload 4, 2) := zdec_at bX1_binary_277 5 rfl
theorem dX1_binary_288 : decode cX1_binary 288 = .ok (.iload 5, 2) := zdec_at bX1_binary_277 6 rfl
theorem dX1_binary_290 : decode cX1_binary 290 = .ok (.invokevirtual 431, 3) := zdec_at bX1_binary_277 7 rfl
theorem dX1_binary_293 : decode cX1_binary 293 = .ok (.istore 6, 2) := zdec_at bX1_binary_277 8 rfl
theorem dX1_binary_295 : decode cX1_binary 295 = .ok (.aload_n 0, 1) := zdec_at bX1_binary_277 9 rfl
theorem dX1_binary_296 : decode cX1_binary 296 = .ok (.iload 6, 2) := zdec_at bX1_binary_277 10 rfl
theorem dX1_binary_298 : decode cX1_binary 298 = .ok (.iconst 2, 1) := zdec_at bX1_binary_277 11 rfl
theorem dX1_binary_299 : decode cX1_binary 299 = .ok (.if_icmp .eq 54, 3) := zdec_at bX1_binary_277 12 rfl
theorem dX1_binary_302 : decode cX1_binary 302 = .ok (.iload_n 1, 1) := zdec_at bX1_binary_277 13 rfl
theorem dX1_binary_303 : decode cX1_binary 303 = .ok (.bipush 15, 2) := zdec_at bX1_binary_277 14 rfl
theorem dX1_binary_305 : decode cX1_binary 305 = .ok (.if_icmp .ne 11, 3) := zdec_at bX1_binary_277 15 rfl
theorem bX1_binary_308 : zdec cX1_binary 308 [(308, .iload 6, 2), (310, .ifCond .ge 43, 3), (313, .goto 36, 3), (316, .iload_n 1, 1), (317, .bipush 16, 2), (319, .if_icmp .ne 11, 3), (322, .iload 6, 2), (324, .ifCond .le 29, 3), (327, .goto 22, 3), (330, .iload_n 1, 1), (331, .bipush 17, 2), (333, .if_icmp .ne 11, 3), (336, .iload 6, 2), (338, .ifCond .gt 15, 3), (341, .goto 8, 3), (344, .iload 6, 2)] = true := by decide +kernel
theorem dX1_binary_308 : decode cX1_binary 308 = .ok (.iload 6, 2) := zdec_at bX1_binary_308 0 rfl
theorem dX1_binary_310 : decode cX1_binary 310 = .ok (.ifCond .ge 43, 3) := zdec_at bX1_binary_308 1 rfl
theorem dX1_binary_313 : decode cX1_binary 313 = .ok (.goto 36, 3) := zdec_at bX1_binary_308 2 rfl
theorem dX1_binary_316 : decode cX1_binary 316 = .ok (.iload_n 1, 1) := zdec_at bX1_binary_308 3 rfl
theorem dX1_binary_317 : decode cX1_binary 317 = .ok (.bipush 16, 2) := zdec_at bX1_binary_308 4 rfl
theorem dX1_binary_319 : decode cX1_binary 319 = .ok (.if_icmp .ne 11, 3) := zdec_at bX1_binary_308 5 rfl
theorem dX1_binary_322 : decode cX1_binary 322 = .ok (.iload 6, 2) := zdec_at bX1_binary_308 6 rfl
theorem dX1_binary_324 : decode cX1_binary 324 = .ok (.ifCond .le 29, 3) := zdec_at bX1_binary_308 7 rfl
theorem dX1_binary_327 : decode cX1_binary 327 = .ok (.goto 22, 3) := zdec_at bX1_binary_308 8 rfl
theorem dX1_binary_330 : decode cX1_binary 330 = .ok (.iload_n 1, 1) := zdec_at bX1_binary_308 9 rfl
theorem dX1_binary_331 : decode cX1_binary 331 = .ok (.bipush 17, 2) := zdec_at bX1_binary_308 10 rfl
theorem dX1_binary_333 : decode cX1_binary 333 = .ok (.if_icmp .ne 11, 3) := zdec_at bX1_binary_308 11 rfl
theorem dX1_binary_336 : decode cX1_binary 336 = .ok (.iload 6, 2) := zdec_at bX1_binary_308 12 rfl
theorem dX1_binary_338 : decode cX1_binary 338 = .ok (.ifCond .gt 15, 3) := zdec_at bX1_binary_308 13 rfl
theorem dX1_binary_341 : decode cX1_binary 341 = .ok (.goto 8, 3) := zdec_at bX1_binary_308 14 rfl
theorem dX1_binary_344 : decode cX1_binary 344 = .ok (.iload 6, 2) := zdec_at bX1_binary_308 15 rfl
theorem bX1_binary_346 : zdec cX1_binary 346 [(346, .ifCond .lt 7, 3), (349, .iconst 1, 1), (350, .goto 4, 3), (353, .iconst 0, 1), (354, .invokevirtual 405, 3), (357, .return_, 1)] = true := by decide +kernel
theorem dX1_binary_346 : decode cX1_binary 346 = .ok (.ifCond .lt 7, 3) := zdec_at bX1_binary_346 0 rfl
theorem dX1_binary_349 : decode cX1_binary 349 = .ok (.iconst 1, 1) := zdec_at bX1_binary_346 1 rfl
theorem dX1_binary_350 : decode cX1_binary 350 = .ok (.goto 4, 3) := zdec_at bX1_binary_346 2 rfl
theorem dX1_binary_353 : decode cX1_binary 353 = .ok (.iconst 0, 1) := zdec_at bX1_binary_346 3 rfl
theorem dX1_binary_354 : decode cX1_binary 354 = .ok (.invokevirtual 405, 3) := zdec_at bX1_binary_346 4 rfl
theorem dX1_binary_357 : decode cX1_binary 357 = .ok (.return_, 1) := zdec_at bX1_binary_346 5 rfl
theorem sX1_binary_0 {E : zE} {d : Nat} {Q : zO → zM → Prop} (M : zM) (l1 : Int32) (l2 : Int32) (l3 : Int32) (l4 : Int32) (l5 : Int32) (hw : cw M) (k : if l1 = 0 then (if l2 = (6 : Int32) then (Z E YX1_clearRow d M (zargs 0 [vr (some (16, 0, 0))]) 0 [] (zafter E YX1_binary (d + 1) [(0, vr (some (16, 0, 0))), (2, vi l2), (3, vi l3), (4, vi l4), (5, vi l5)] 31 3 [] Q)) else (if l2 = (7 : Int32) then (Z E YX1_clearRow d M (zargs 0 [vr (some (16, 0, 0))]) 0 [] (zafter E YX1_binary (d + 1) [(0, vr (some (16, 0, 0))), (2, vi l2), (3, vi l3), (4, vi l4), (5, vi l5)] 31 3 [] Q)) else (if l4 = (6 : Int32) then (Z E YX1_clearRow d M (zargs 0 [vr (some (16, 0, 0))]) 0 [] (zafter E YX1_binary (d + 1) [(0, vr (some (16, 0, 0))), (2, vi l2), (3, vi l3), (4, vi l4), (5, vi l5)] 31 3 [] Q)) else (if l4 = (7 : Int32) then (Z E YX1_clearRow d M (zargs 0 [vr (some (16, 0, 0))]) 0 [] (zafter E YX1_binary (d + 1) [(0, vr (some (16, 0, 0))), (2, vi l2), (3, vi l3), (4, vi l4), (5, vi l5)] 31 3 [] Q)) else (Z E YX1_binary (d + 1) M [(0, vr (some (16, 0, 0))), (1, vi l1), (2, vi l2), (3, vi l3), (4, vi l4), (5, vi l5)] 61 [] Q))))) else (Z E YX1_binary (d + 1) M [(0, vr (some (16, 0, 0))), (1, vi l1), (2, vi l2), (3, vi l3), (4, vi l4), (5, vi l5)] 61 [] Q)) : Z E YX1_binary (d + 1) M [(0, vr (some (16, 0, 0))), (1, vi l1), (2, vi l2), (3, vi l3), (4, vi l4), (5, vi l5)] 0 [] Q := by
  refine z_iload_n dX1_binary_0 rfl rfl ?_
  refine z_if_ne (tgt := 61) dX1_binary_1 rfl (fun h_ => ?_) (fun h_ => ?_)
  · have k := zif h_ k
    exact k
  · have k := zit h_ k
    refine z_iload_n dX1_binary_4 rfl rfl ?_
    refine z_bipush (v := 6) dX1_binary_5 rfl ?_
    refine z_icmp_eq (tgt := 30) dX1_binary_7 rfl (fun h_ => ?_) (fun h_ => ?_)
    · have k := zit h_ k
      refine z_aload_n dX1_binary_30 rfl rfl ?_
      refine Z.pick [0, 2, 3, 4, 5] rfl ?_
      exact z_callV (as := []) (st := []) dX1_binary_31 vsX1_37_0 (Nat.le_refl _) (Nat.le_of_ble_eq_true rfl) (Nat.le_of_ble_eq_true rfl) rfl k
    · have k := zif h_ k
      refine z_iload_n dX1_binary_10 rfl rfl ?_
      refine z_bipush (v := 7) dX1_binary_11 rfl ?_
      refine z_icmp_eq (tgt := 30) dX1_binary_13 rfl (fun h_ => ?_) (fun h_ => ?_)
      · have k := zit h_ k
        refine z_aload_n dX1_binary_30 rfl rfl ?_
        refine Z.pick [0, 2, 3, 4, 5] rfl ?_
        exact z_callV (as := []) (st := []) dX1_binary_31 vsX1_37_0 (Nat.le_refl _) (Nat.le_of_ble_eq_true rfl) (Nat.le_of_ble_eq_true rfl) rfl k
      · have k := zif h_ k
        refine z_iload dX1_binary_16 rfl ?_
        refine z_bipush (v := 6) dX1_binary_18 rfl ?_
        refine z_icmp_eq (tgt := 30) dX1_binary_20 rfl (fun h_ => ?_) (fun h_ => ?_)
        · have k := zit h_ k
          refine z_aload_n dX1_binary_30 rfl rfl ?_
          refine Z.pick [0, 2, 3, 4, 5] rfl ?_
          exact z_callV (as := []) (st := []) dX1_binary_31 vsX1_37_0 (Nat.le_refl _) (Nat.le_of_ble_eq_true rfl) (Nat.le_of_ble_eq_true rfl) rfl k
        · have k := zif h_ k
          refine z_iload dX1_binary_23 rfl ?_
          refine z_bipush (v := 7) dX1_binary_25 rfl ?_
          refine z_icmp_ne (tgt := 61) dX1_binary_27 rfl (fun h_ => ?_) (fun h_ => ?_)
          · have k := zif h_ k
            exact k
          · have k := zit h_ k
            refine z_aload_n dX1_binary_30 rfl rfl ?_
            refine Z.pick [0, 2, 3, 4, 5] rfl ?_
            exact z_callV (as := []) (st := []) dX1_binary_31 vsX1_37_0 (Nat.le_refl _) (Nat.le_of_ble_eq_true rfl) (Nat.le_of_ble_eq_true rfl) rfl k
theorem sX1_binary_34 {E : zE} {d : Nat} {Q : zO → zM → Prop} (M : zM) (l2 : Int32) (l3 : Int32) (l4 : Int32) (l5 : Int32) (hw : cw M) (k : Z E YX1_putValue d M (zargs 0 [vr (some (16, 0, 0)), vi l2, vi l3]) 0 [] (zafter E YX1_binary (d + 1) [(0, vr (some (16, 0, 0))), (4, vi l4), (5, vi l5)] 37 3 [] Q)) : Z E YX1_binary (d + 1) M [(0, vr (some (16, 0, 0))), (2, vi l2), (3, vi l3), (4, vi l4), (5, vi l5)] 34 [] Q := by
  refine z_aload_n dX1_binary_34 rfl rfl ?_
  refine z_iload_n dX1_binary_35 rfl rfl ?_
  refine z_iload_n dX1_binary_36 rfl rfl ?_
  refine Z.pick [0, 3, 4] rfl ?_
  exact z_callV (as := [vi l2, vi l3]) (st := []) dX1_binary_37 vsX1_383_0 (Nat.le_refl _) (Nat.le_of_ble_eq_true rfl) (Nat.le_of_ble_eq_true rfl) rfl k
theorem sX1_binary_40 {E : zE} {d : Nat} {Q : zO → zM → Prop} (M : zM) (l4 : Int32) (l5 : Int32) (hw : cw M) (k : Z E YX1_putValue d M (zargs 0 [vr (some (16, 0, 0)), vi l4, vi l5]) 0 [] (zafter E YX1_binary (d + 1) [(0, vr (some (16, 0, 0)))] 45 3 [] Q)) : Z E YX1_binary (d + 1) M [(0, vr (some (16, 0, 0))), (4, vi l4), (5, vi l5)] 40 [] Q := by
  refine z_aload_n dX1_binary_40 rfl rfl ?_
  refine z_iload dX1_binary_41 rfl ?_
  refine z_iload dX1_binary_43 rfl ?_
  refine Z.pick [0] rfl ?_
  exact z_callV (as := [vi l4, vi l5]) (st := []) dX1_binary_45 vsX1_383_0 (Nat.le_refl _) (Nat.le_of_ble_eq_true rfl) (Nat.le_of_ble_eq_true rfl) rfl k
theorem sX1_binary_48 {E : zE} {d : Nat} {Q : zO → zM → Prop} (M : zM)  (hw : cw M) (k : Z E YX1_string d M (zargs 0 [vr (some (16, 0, 0))]) 0 [] (zafter E YX1_binary (d + 1) [] 52 3 [vi (6 : Int32), vr (some (16, 0, 0))] Q)) : Z E YX1_binary (d + 1) M [(0, vr (some (16, 0, 0)))] 48 [] Q := by
  refine z_aload_n dX1_binary_48 rfl rfl ?_
  refine z_bipush (v := 6) dX1_binary_49 rfl ?_
  refine z_aload_n dX1_binary_51 rfl rfl ?_
  refine Z.pick [] rfl ?_
  exact z_callV (as := []) (st := [vi (6 : Int32), vr (some (16, 0, 0))]) dX1_binary_52 vsX1_386_0 (Nat.le_refl _) (Nat.le_of_ble_eq_true rfl) (Nat.le_of_ble_eq_true rfl) rfl k
theorem sX1_binary_55 {E : zE} {d : Nat} {Q : zO → zM → Prop} (M : zM) (s0 : Int32) (s1 : Int32) (hw : cw M) (k : Z E YX1_gives d M (zargs 0 [vr (some (16, 0, 0)), vi s1, vi s0]) 0 [] (zafter E YX1_binary (d + 1) [] 55 3 [] Q)) : Z E YX1_binary (d + 1) M [] 55 [vi s0, vi s1, vr (some (16, 0, 0))] Q := by
  exact z_callV (as := [vi s1, vi s0]) (st := []) dX1_binary_55 vsX1_395_0 (Nat.le_refl _) (Nat.le_of_ble_eq_true rfl) (Nat.le_of_ble_eq_true rfl) rfl k
theorem sX1_binary_58 {E : zE} {d : Nat} {Q : zO → zM → Prop} (M : zM)  (hw : cw M) (k : Z E YX1_binary (d + 1) M [] 357 [] Q) : Z E YX1_binary (d + 1) M [] 58 [] Q := by
  refine z_goto (tgt := 357) dX1_binary_58 rfl ?_
  exact k
theorem sX1_binary_61 {E : zE} {d : Nat} {Q : zO → zM → Prop} (M : zM) (l1 : Int32) (l2 : Int32) (l3 : Int32) (l4 : Int32) (l5 : Int32) (hw : cw M) (k : if (5 : Int32) ≤ l1 then (if (11 : Int32) ≤ l1 then (if (15 : Int32) ≤ l1 then (Z E YX1_order d M (zargs 0 [vr (some (16, 0, 0)), vi l2, vi l3, vi l4, vi l5]) 0 [] (zafter E YX1_binary (d + 1) [(0, vr (some (16, 0, 0))), (1, vi l1)] 290 3 [] Q)) else (if (13 : Int32) ≤ l1 then (Z E YX1_same d M (zargs 0 [vi l2, vi l3, vi l4, vi l5]) 0 [] (zafter E YX1_binary (d + 1) [(1, vi l1)] 249 3 [vr (some (16, 0, 0))] Q)) else (Z E YX1_equal d M (zargs 0 [vr (some (16, 0, 0)), vi l2, vi l3, vi l4, vi l5]) 0 [] (zafter E YX1_binary (d + 1) [(1, vi l1)] 237 3 [vr (some (16, 0, 0))] Q)))) else (Z E YX1_hasNumber d M (zargs 0 [vr (some (16, 0, 0)), vi l2, vi l3]) 0 [] (zafter E YX1_binary (d + 1) [(0, vr (some (16, 0, 0))), (1, vi l1), (4, vi l4), (5, vi l5)] 89 3 [] Q))) else (Z E YX1_sum d M (zargs 0 [vr (some (16, 0, 0)), vi l1, vi l2, vi l3, vi l4, vi l5]) 0 [] (zafter E YX1_binary (d + 1) [] 74 3 [] Q))) : Z E YX1_binary (d + 1) M [(0, vr (some (16, 0, 0))), (1, vi l1), (2, vi l2), (3, vi l3), (4, vi l4), (5, vi l5)] 61 [] Q := by
  refine z_iload_n dX1_binary_61 rfl rfl ?_
  refine z_iconst (v := 5) dX1_binary_62 rfl ?_
  refine z_icmp_ge (tgt := 80) dX1_binary_63 rfl (fun h_ => ?_) (fun h_ => ?_)
  · have k := zit h_ k
    refine z_iload_n dX1_binary_80 rfl rfl ?_
    refine z_bipush (v := 11) dX1_binary_81 rfl ?_
    refine z_icmp_ge (tgt := 217) dX1_binary_83 rfl (fun h_ => ?_) (fun h_ => ?_)
    · have k := zit h_ k
      refine z_iload_n dX1_binary_217 rfl rfl ?_
      refine z_bipush (v := 15) dX1_binary_218 rfl ?_
      refine z_icmp_ge (tgt := 283) dX1_binary_220 rfl (fun h_ => ?_) (fun h_ => ?_)
      · have k := zit h_ k
        refine z_aload_n dX1_binary_283 rfl rfl ?_
        refine z_iload_n dX1_binary_284 rfl rfl ?_
        refine z_iload_n dX1_binary_285 rfl rfl ?_
        refine z_iload dX1_binary_286 rfl ?_
        refine z_iload dX1_binary_288 rfl ?_
        refine Z.pick [0, 1] rfl ?_
        exact z_callV (as := [vi l2, vi l3, vi l4, vi l5]) (st := []) dX1_binary_290 vsX1_431_0 (Nat.le_refl _) (Nat.le_of_ble_eq_true rfl) (Nat.le_of_ble_eq_true rfl) rfl k
      · have k := zif h_ k
        refine z_aload_n dX1_binary_223 rfl rfl ?_
        refine z_iload_n dX1_binary_224 rfl rfl ?_
        refine z_bipush (v := 13) dX1_binary_225 rfl ?_
        refine z_icmp_ge (tgt := 243) dX1_binary_227 rfl (fun h_ => ?_) (fun h_ => ?_)
        · have k := zit h_ k
          refine z_iload_n dX1_binary_243 rfl rfl ?_
          refine z_iload_n dX1_binary_244 rfl rfl ?_
          refine z_iload dX1_binary_245 rfl ?_
          refine z_iload dX1_binary_247 rfl ?_
          refine Z.pick [1] rfl ?_
          exact z_callS (as := [vi l2, vi l3, vi l4, vi l5]) (st := [vr (some (16, 0, 0))]) dX1_binary_249 ssX1_415 (Nat.le_refl _) (Nat.le_of_ble_eq_true rfl) (Nat.le_of_ble_eq_true rfl) rfl k
        · have k := zif h_ k
          refine z_aload_n dX1_binary_230 rfl rfl ?_
          refine z_iload_n dX1_binary_231 rfl rfl ?_
          refine z_iload_n dX1_binary_232 rfl rfl ?_
          refine z_iload dX1_binary_233 rfl ?_
          refine z_iload dX1_binary_235 rfl ?_
          refine Z.pick [1] rfl ?_
          exact z_callV (as := [vi l2, vi l3, vi l4, vi l5]) (st := [vr (some (16, 0, 0))]) dX1_binary_237 vsX1_428_0 (Nat.le_refl _) (Nat.le_of_ble_eq_true rfl) (Nat.le_of_ble_eq_true rfl) rfl k
    · have k := zif h_ k
      refine z_aload_n dX1_binary_86 rfl rfl ?_
      refine z_iload_n dX1_binary_87 rfl rfl ?_
      refine z_iload_n dX1_binary_88 rfl rfl ?_
      refine Z.pick [0, 1, 4, 5] rfl ?_
      exact z_callV (as := [vi l2, vi l3]) (st := []) dX1_binary_89 vsX1_412_0 (Nat.le_refl _) (Nat.le_of_ble_eq_true rfl) (Nat.le_of_ble_eq_true rfl) rfl k
  · have k := zif h_ k
    refine z_aload_n dX1_binary_66 rfl rfl ?_
    refine z_iload_n dX1_binary_67 rfl rfl ?_
    refine z_iload_n dX1_binary_68 rfl rfl ?_
    refine z_iload_n dX1_binary_69 rfl rfl ?_
    refine z_iload dX1_binary_70 rfl ?_
    refine z_iload dX1_binary_72 rfl ?_
    refine Z.pick [] rfl ?_
    exact z_callV (as := [vi l1, vi l2, vi l3, vi l4, vi l5]) (st := []) dX1_binary_74 vsX1_424_0 (Nat.le_refl _) (Nat.le_of_ble_eq_true rfl) (Nat.le_of_ble_eq_true rfl) rfl k
theorem sX1_binary_77 {E : zE} {d : Nat} {Q : zO → zM → Prop} (M : zM)  (hw : cw M) (k : Z E YX1_binary (d + 1) M [] 357 [] Q) : Z E YX1_binary (d + 1) M [] 77 [] Q := by
  refine z_goto (tgt := 357) dX1_binary_77 rfl ?_
  exact k
theorem sX1_binary_92 {E : zE} {d : Nat} {Q : zO → zM → Prop} (M : zM) (l1 : Int32) (l4 : Int32) (l5 : Int32) (s0 : Int32) (hw : cw M) (k : if s0 = 0 then (Z E YX1_hasNumber d M (zargs 0 [vr (some (16, 0, 0)), vi l4, vi l5]) 0 [] (zafter E YX1_binary (d + 1) [(0, vr (some (16, 0, 0))), (1, vi l1), (6, vi (0 : Int32))] 110 3 [] Q)) else (Z E YX1_hasNumber d M (zargs 0 [vr (some (16, 0, 0)), vi l4, vi l5]) 0 [] (zafter E YX1_binary (d + 1) [(0, vr (some (16, 0, 0))), (1, vi l1), (6, vi (gi M 16 32))] 110 3 [] Q))) : Z E YX1_binary (d + 1) M [(0, vr (some (16, 0, 0))), (1, vi l1), (4, vi l4), (5, vi l5)] 92 [vi s0] Q := by
  refine z_if_eq (tgt := 102) dX1_binary_92 rfl (fun h_ => ?_) (fun h_ => ?_)
  · have k := zit h_ k
    refine z_iconst (v := 0) dX1_binary_102 rfl ?_
    refine z_ist dX1_binary_103 (by decide) (lv' := [(0, vr (some (16, 0, 0))), (1, vi l1), (4, vi l4), (5, vi l5), (6, vi (0 : Int32))]) rfl ?_
    refine z_aload_n dX1_binary_105 rfl rfl ?_
    refine z_iload dX1_binary_106 rfl ?_
    refine z_iload dX1_binary_108 rfl ?_
    refine Z.pick [0, 1, 4] rfl ?_
    exact z_callV (as := [vi l4, vi l5]) (st := []) dX1_binary_110 vsX1_412_0 (Nat.le_refl _) (Nat.le_of_ble_eq_true rfl) (Nat.le_of_ble_eq_true rfl) rfl k
  · have k := zif h_ k
    refine z_aload_n dX1_binary_95 rfl rfl ?_
    refine z_geti dX1_binary_96 fsX1_392_0 ?_
    refine z_goto (tgt := 103) dX1_binary_99 rfl ?_
    refine z_ist dX1_binary_103 (by decide) (lv' := [(0, vr (some (16, 0, 0))), (1, vi l1), (4, vi l4), (5, vi l5), (6, vi (gi M 16 32))]) rfl ?_
    refine z_aload_n dX1_binary_105 rfl rfl ?_
    refine z_iload dX1_binary_106 rfl ?_
    refine z_iload dX1_binary_108 rfl ?_
    refine Z.pick [0, 1, 4] rfl ?_
    exact z_callV (as := [vi l4, vi l5]) (st := []) dX1_binary_110 vsX1_412_0 (Nat.le_refl _) (Nat.le_of_ble_eq_true rfl) (Nat.le_of_ble_eq_true rfl) rfl k
theorem sX1_binary_113 {E : zE} {d : Nat} {Q : zO → zM → Prop} (M : zM) (l1 : Int32) (l6 : Int32) (s0 : Int32) (hw : cw M) (k : if s0 = 0 then (Z E YX1_binary (d + 1) M [(0, vr (some (16, 0, 0))), (1, vi l1), (6, vi l6)] 124 [vi (0 : Int32)] Q) else (Z E YX1_binary (d + 1) M [(0, vr (some (16, 0, 0))), (1, vi l1), (6, vi l6)] 124 [vi (gi M 16 32)] Q)) : Z E YX1_binary (d + 1) M [(0, vr (some (16, 0, 0))), (1, vi l1), (6, vi l6)] 113 [vi s0] Q := by
  refine z_if_eq (tgt := 123) dX1_binary_113 rfl (fun h_ => ?_) (fun h_ => ?_)
  · have k := zit h_ k
    refine z_iconst (v := 0) dX1_binary_123 rfl ?_
    exact k
  · have k := zif h_ k
    refine z_aload_n dX1_binary_116 rfl rfl ?_
    refine z_geti dX1_binary_117 fsX1_392_0 ?_
    refine z_goto (tgt := 124) dX1_binary_120 rfl ?_
    exact k
theorem sX1_binary_124 {E : zE} {d : Nat} {Q : zO → zM → Prop} (M : zM) (l1 : Int32) (l6 : Int32) (s0 : Int32) (hw : cw M) (k : if l1 = (5 : Int32) then (Z E YX1_gives d M (zargs 0 [vr (some (16, 0, 0)), vi (5 : Int32), vi (l6 <<< ((s0 &&& (31 : Int32)) &&& 31))]) 0 [] (zafter E YX1_binary (d + 1) [] 211 3 [] Q)) else (if l1 = (6 : Int32) then (Z E YX1_gives d M (zargs 0 [vr (some (16, 0, 0)), vi (5 : Int32), vi (l6 >>> ((s0 &&& (31 : Int32)) &&& 31))]) 0 [] (zafter E YX1_binary (d + 1) [] 211 3 [] Q)) else (if l1 = (7 : Int32) then (Z E YX1_gives d M (zargs 0 [vr (some (16, 0, 0)), vi (5 : Int32), vi (zus l6 (s0 &&& (31 : Int32)))]) 0 [] (zafter E YX1_binary (d + 1) [] 211 3 [] Q)) else (if l1 = (8 : Int32) then (Z E YX1_gives d M (zargs 0 [vr (some (16, 0, 0)), vi (5 : Int32), vi (l6 &&& s0)]) 0 [] (zafter E YX1_binary (d + 1) [] 211 3 [] Q)) else (if l1 = (9 : Int32) then (Z E YX1_gives d M (zargs 0 [vr (some (16, 0, 0)), vi (5 : Int32), vi (l6 ||| s0)]) 0 [] (zafter E YX1_binary (d + 1) [] 211 3 [] Q)) else (Z E YX1_gives d M (zargs 0 [vr (some (16, 0, 0)), vi (5 : Int32), vi (l6 ^^^ s0)]) 0 [] (zafter E YX1_binary (d + 1) [] 211 3 [] Q))))))) : Z E YX1_binary (d + 1) M [(0, vr (some (16, 0, 0))), (1, vi l1), (6, vi l6)] 124 [vi s0] Q := by
  refine z_ist dX1_binary_124 (by decide) (lv' := [(0, vr (some (16, 0, 0))), (1, vi l1), (6, vi l6), (7, vi s0)]) rfl ?_
  refine z_aload_n dX1_binary_126 rfl rfl ?_
  refine z_iconst (v := 5) dX1_binary_127 rfl ?_
  refine z_iload_n dX1_binary_128 rfl rfl ?_
  refine z_iconst (v := 5) dX1_binary_129 rfl ?_
  refine z_icmp_ne (tgt := 144) dX1_binary_130 rfl (fun h_ => ?_) (fun h_ => ?_)
  · have k := zif h_ k
    refine z_iload_n dX1_binary_144 rfl rfl ?_
    refine z_bipush (v := 6) dX1_binary_145 rfl ?_
    refine z_icmp_ne (tgt := 161) dX1_binary_147 rfl (fun h_ => ?_) (fun h_ => ?_)
    · have k := zif h_ k
      refine z_iload_n dX1_binary_161 rfl rfl ?_
      refine z_bipush (v := 7) dX1_binary_162 rfl ?_
      refine z_icmp_ne (tgt := 178) dX1_binary_164 rfl (fun h_ => ?_) (fun h_ => ?_)
      · have k := zif h_ k
        refine z_iload_n dX1_binary_178 rfl rfl ?_
        refine z_bipush (v := 8) dX1_binary_179 rfl ?_
        refine z_icmp_ne (tgt := 192) dX1_binary_181 rfl (fun h_ => ?_) (fun h_ => ?_)
        · have k := zif h_ k
          refine z_iload_n dX1_binary_192 rfl rfl ?_
          refine z_bipush (v := 9) dX1_binary_193 rfl ?_
          refine z_icmp_ne (tgt := 206) dX1_binary_195 rfl (fun h_ => ?_) (fun h_ => ?_)
          · have k := zif h_ k
            refine z_iload dX1_binary_206 rfl ?_
            refine z_iload dX1_binary_208 rfl ?_
            refine z_ixor dX1_binary_210 ?_
            refine Z.pick [] rfl ?_
            exact z_callV (as := [vi (5 : Int32), vi (l6 ^^^ s0)]) (st := []) dX1_binary_211 vsX1_395_0 (Nat.le_refl _) (Nat.le_of_ble_eq_true rfl) (Nat.le_of_ble_eq_true rfl) rfl k
          · have k := zit h_ k
            refine z_iload dX1_binary_198 rfl ?_
            refine z_iload dX1_binary_200 rfl ?_
            refine z_ior dX1_binary_202 ?_
            refine z_goto (tgt := 211) dX1_binary_203 rfl ?_
            refine Z.pick [] rfl ?_
            exact z_callV (as := [vi (5 : Int32), vi (l6 ||| s0)]) (st := []) dX1_binary_211 vsX1_395_0 (Nat.le_refl _) (Nat.le_of_ble_eq_true rfl) (Nat.le_of_ble_eq_true rfl) rfl k
        · have k := zit h_ k
          refine z_iload dX1_binary_184 rfl ?_
          refine z_iload dX1_binary_186 rfl ?_
          refine z_iand dX1_binary_188 ?_
          refine z_goto (tgt := 211) dX1_binary_189 rfl ?_
          refine Z.pick [] rfl ?_
          exact z_callV (as := [vi (5 : Int32), vi (l6 &&& s0)]) (st := []) dX1_binary_211 vsX1_395_0 (Nat.le_refl _) (Nat.le_of_ble_eq_true rfl) (Nat.le_of_ble_eq_true rfl) rfl k
      · have k := zit h_ k
        refine z_iload dX1_binary_167 rfl ?_
        refine z_iload dX1_binary_169 rfl ?_
        refine z_bipush (v := 31) dX1_binary_171 rfl ?_
        refine z_iand dX1_binary_173 ?_
        refine z_iushr dX1_binary_174 ?_
        refine z_goto (tgt := 211) dX1_binary_175 rfl ?_
        refine Z.pick [] rfl ?_
        exact z_callV (as := [vi (5 : Int32), vi (zus l6 (s0 &&& (31 : Int32)))]) (st := []) dX1_binary_211 vsX1_395_0 (Nat.le_refl _) (Nat.le_of_ble_eq_true rfl) (Nat.le_of_ble_eq_true rfl) rfl k
    · have k := zit h_ k
      refine z_iload dX1_binary_150 rfl ?_
      refine z_iload dX1_binary_152 rfl ?_
      refine z_bipush (v := 31) dX1_binary_154 rfl ?_
      refine z_iand dX1_binary_156 ?_
      refine z_ishr dX1_binary_157 ?_
      refine z_goto (tgt := 211) dX1_binary_158 rfl ?_
      refine Z.pick [] rfl ?_
      exact z_callV (as := [vi (5 : Int32), vi (l6 >>> ((s0 &&& (31 : Int32)) &&& 31))]) (st := []) dX1_binary_211 vsX1_395_0 (Nat.le_refl _) (Nat.le_of_ble_eq_true rfl) (Nat.le_of_ble_eq_true rfl) rfl k
  · have k := zit h_ k
    refine z_iload dX1_binary_133 rfl ?_
    refine z_iload dX1_binary_135 rfl ?_
    refine z_bipush (v := 31) dX1_binary_137 rfl ?_
    refine z_iand dX1_binary_139 ?_
    refine z_ishl dX1_binary_140 ?_
    refine z_goto (tgt := 211) dX1_binary_141 rfl ?_
    refine Z.pick [] rfl ?_
    exact z_callV (as := [vi (5 : Int32), vi (l6 <<< ((s0 &&& (31 : Int32)) &&& 31))]) (st := []) dX1_binary_211 vsX1_395_0 (Nat.le_refl _) (Nat.le_of_ble_eq_true rfl) (Nat.le_of_ble_eq_true rfl) rfl k
theorem sX1_binary_214 {E : zE} {d : Nat} {Q : zO → zM → Prop} (M : zM)  (hw : cw M) (k : Z E YX1_binary (d + 1) M [] 357 [] Q) : Z E YX1_binary (d + 1) M [] 214 [] Q := by
  refine z_goto (tgt := 357) dX1_binary_214 rfl ?_
  exact k
theorem sX1_binary_240 {E : zE} {d : Nat} {Q : zO → zM → Prop} (M : zM) (l1 : Int32) (s0 : Int32) (hw : cw M) (k : Z E YX1_binary (d + 1) M [(1, vi l1)] 252 [vi s0, vr (some (16, 0, 0))] Q) : Z E YX1_binary (d + 1) M [(1, vi l1)] 240 [vi s0, vr (some (16, 0, 0))] Q := by
  refine z_goto (tgt := 252) dX1_binary_240 rfl ?_
  exact k
theorem sX1_binary_252 {E : zE} {d : Nat} {Q : zO → zM → Prop} (M : zM) (l1 : Int32) (s0 : Int32) (hw : cw M) (k : if l1 = (11 : Int32) then (Z E YX1_binary (d + 1) M [] 264 [vi s0, vr (some (16, 0, 0))] Q) else (if l1 = (13 : Int32) then (Z E YX1_binary (d + 1) M [] 264 [vi s0, vr (some (16, 0, 0))] Q) else (if s0 = (0 : Int32) then (Z E YX1_givesTruth d M (zargs 0 [vr (some (16, 0, 0)), vi (1 : Int32)]) 0 [] (zafter E YX1_binary (d + 1) [] 277 3 [] Q)) else (Z E YX1_givesTruth d M (zargs 0 [vr (some (16, 0, 0)), vi (0 : Int32)]) 0 [] (zafter E YX1_binary (d + 1) [] 277 3 [] Q))))) : Z E YX1_binary (d + 1) M [(1, vi l1)] 252 [vi s0, vr (some (16, 0, 0))] Q := by
  refine z_iload_n dX1_binary_252 rfl rfl ?_
  refine z_bipush (v := 11) dX1_binary_253 rfl ?_
  refine z_icmp_eq (tgt := 264) dX1_binary_255 rfl (fun h_ => ?_) (fun h_ => ?_)
  · have k := zit h_ k
    refine Z.pick [] rfl ?_
    exact k
  · have k := zif h_ k
    refine z_iload_n dX1_binary_258 rfl rfl ?_
    refine z_bipush (v := 13) dX1_binary_259 rfl ?_
    refine z_icmp_ne (tgt := 268) dX1_binary_261 rfl (fun h_ => ?_) (fun h_ => ?_)
    · have k := zif h_ k
      refine z_iconst (v := 0) dX1_binary_268 rfl ?_
      refine z_icmp_ne (tgt := 276) dX1_binary_269 rfl (fun h_ => ?_) (fun h_ => ?_)
      · have k := zif h_ k
        refine z_iconst (v := 0) dX1_binary_276 rfl ?_
        refine Z.pick [] rfl ?_
        exact z_callV (as := [vi (0 : Int32)]) (st := []) dX1_binary_277 vsX1_405_0 (Nat.le_refl _) (Nat.le_of_ble_eq_true rfl) (Nat.le_of_ble_eq_true rfl) rfl k
      · have k := zit h_ k
        refine z_iconst (v := 1) dX1_binary_272 rfl ?_
        refine z_goto (tgt := 277) dX1_binary_273 rfl ?_
        refine Z.pick [] rfl ?_
        exact z_callV (as := [vi (1 : Int32)]) (st := []) dX1_binary_277 vsX1_405_0 (Nat.le_refl _) (Nat.le_of_ble_eq_true rfl) (Nat.le_of_ble_eq_true rfl) rfl k
    · have k := zit h_ k
      refine Z.pick [] rfl ?_
      exact k
theorem sX1_binary_264 {E : zE} {d : Nat} {Q : zO → zM → Prop} (M : zM) (s0 : Int32) (hw : cw M) (k : if s0 = (1 : Int32) then (Z E YX1_givesTruth d M (zargs 0 [vr (some (16, 0, 0)), vi (1 : Int32)]) 0 [] (zafter E YX1_binary (d + 1) [] 277 3 [] Q)) else (Z E YX1_givesTruth d M (zargs 0 [vr (some (16, 0, 0)), vi (0 : Int32)]) 0 [] (zafter E YX1_binary (d + 1) [] 277 3 [] Q))) : Z E YX1_binary (d + 1) M [] 264 [vi s0, vr (some (16, 0, 0))] Q := by
  refine z_iconst (v := 1) dX1_binary_264 rfl ?_
  refine z_goto (tgt := 269) dX1_binary_265 rfl ?_
  refine z_icmp_ne (tgt := 276) dX1_binary_269 rfl (fun h_ => ?_) (fun h_ => ?_)
  · have k := zif h_ k
    refine z_iconst (v := 0) dX1_binary_276 rfl ?_
    exact z_callV (as := [vi (0 : Int32)]) (st := []) dX1_binary_277 vsX1_405_0 (Nat.le_refl _) (Nat.le_of_ble_eq_true rfl) (Nat.le_of_ble_eq_true rfl) rfl k
  · have k := zit h_ k
    refine z_iconst (v := 1) dX1_binary_272 rfl ?_
    refine z_goto (tgt := 277) dX1_binary_273 rfl ?_
    exact z_callV (as := [vi (1 : Int32)]) (st := []) dX1_binary_277 vsX1_405_0 (Nat.le_refl _) (Nat.le_of_ble_eq_true rfl) (Nat.le_of_ble_eq_true rfl) rfl k
theorem sX1_binary_280 {E : zE} {d : Nat} {Q : zO → zM → Prop} (M : zM)  (hw : cw M) (k : Z E YX1_binary (d + 1) M [] 357 [] Q) : Z E YX1_binary (d + 1) M [] 280 [] Q := by
  refine z_goto (tgt := 357) dX1_binary_280 rfl ?_
  exact k
theorem sX1_binary_293 {E : zE} {d : Nat} {Q : zO → zM → Prop} (M : zM) (l1 : Int32) (s0 : Int32) (hw : cw M) (k : if s0 = (2 : Int32) then (Z E YX1_givesTruth d M (zargs 0 [vr (some (16, 0, 0)), vi (0 : Int32)]) 0 [] (zafter E YX1_binary (d + 1) [] 354 3 [] Q)) else (if l1 = (15 : Int32) then (if 0 ≤ s0 then (Z E YX1_givesTruth d M (zargs 0 [vr (some (16, 0, 0)), vi (0 : Int32)]) 0 [] (zafter E YX1_binary (d + 1) [] 354 3 [] Q)) else (Z E YX1_givesTruth d M (zargs 0 [vr (some (16, 0, 0)), vi (1 : Int32)]) 0 [] (zafter E YX1_binary (d + 1) [] 354 3 [] Q))) else (if l1 = (16 : Int32) then (if s0 ≤ 0 then (Z E YX1_givesTruth d M (zargs 0 [vr (some (16, 0, 0)), vi (0 : Int32)]) 0 [] (zafter E YX1_binary (d + 1) [] 354 3 [] Q)) else (Z E YX1_givesTruth d M (zargs 0 [vr (some (16, 0, 0)), vi (1 : Int32)]) 0 [] (zafter E YX1_binary (d + 1) [] 354 3 [] Q))) else (if l1 = (17 : Int32) then (if 0 < s0 then (Z E YX1_givesTruth d M (zargs 0 [vr (some (16, 0, 0)), vi (0 : Int32)]) 0 [] (zafter E YX1_binary (d + 1) [] 354 3 [] Q)) else (Z E YX1_givesTruth d M (zargs 0 [vr (some (16, 0, 0)), vi (1 : Int32)]) 0 [] (zafter E YX1_binary (d + 1) [] 354 3 [] Q))) else (if s0 < 0 then (Z E YX1_givesTruth d M (zargs 0 [vr (some (16, 0, 0)), vi (0 : Int32)]) 0 [] (zafter E YX1_binary (d + 1) [] 354 3 [] Q)) else (Z E YX1_givesTruth d M (zargs 0 [vr (some (16, 0, 0)), vi (1 : Int32)]) 0 [] (zafter E YX1_binary (d + 1) [] 354 3 [] Q))))))) : Z E YX1_binary (d + 1) M [(0, vr (some (16, 0, 0))), (1, vi l1)] 293 [vi s0] Q := by
  refine z_ist dX1_binary_293 (by decide) (lv' := [(0, vr (some (16, 0, 0))), (1, vi l1), (6, vi s0)]) rfl ?_
  refine z_aload_n dX1_binary_295 rfl rfl ?_
  refine z_iload dX1_binary_296 rfl ?_
  refine z_iconst (v := 2) dX1_binary_298 rfl ?_
  refine z_icmp_eq (tgt := 353) dX1_binary_299 rfl (fun h_ => ?_) (fun h_ => ?_)
  · have k := zit h_ k
    refine z_iconst (v := 0) dX1_binary_353 rfl ?_
    refine Z.pick [] rfl ?_
    exact z_callV (as := [vi (0 : Int32)]) (st := []) dX1_binary_354 vsX1_405_0 (Nat.le_refl _) (Nat.le_of_ble_eq_true rfl) (Nat.le_of_ble_eq_true rfl) rfl k
  · have k := zif h_ k
    refine z_iload_n dX1_binary_302 rfl rfl ?_
    refine z_bipush (v := 15) dX1_binary_303 rfl ?_
    refine z_icmp_ne (tgt := 316) dX1_binary_305 rfl (fun h_ => ?_) (fun h_ => ?_)
    · have k := zif h_ k
      refine z_iload_n dX1_binary_316 rfl rfl ?_
      refine z_bipush (v := 16) dX1_binary_317 rfl ?_
      refine z_icmp_ne (tgt := 330) dX1_binary_319 rfl (fun h_ => ?_) (fun h_ => ?_)
      · have k := zif h_ k
        refine z_iload_n dX1_binary_330 rfl rfl ?_
        refine z_bipush (v := 17) dX1_binary_331 rfl ?_
        refine z_icmp_ne (tgt := 344) dX1_binary_333 rfl (fun h_ => ?_) (fun h_ => ?_)
        · have k := zif h_ k
          refine z_iload dX1_binary_344 rfl ?_
          refine z_if_lt (tgt := 353) dX1_binary_346 rfl (fun h_ => ?_) (fun h_ => ?_)
          · have k := zit h_ k
            refine z_iconst (v := 0) dX1_binary_353 rfl ?_
            refine Z.pick [] rfl ?_
            exact z_callV (as := [vi (0 : Int32)]) (st := []) dX1_binary_354 vsX1_405_0 (Nat.le_refl _) (Nat.le_of_ble_eq_true rfl) (Nat.le_of_ble_eq_true rfl) rfl k
          · have k := zif h_ k
            refine z_iconst (v := 1) dX1_binary_349 rfl ?_
            refine z_goto (tgt := 354) dX1_binary_350 rfl ?_
            refine Z.pick [] rfl ?_
            exact z_callV (as := [vi (1 : Int32)]) (st := []) dX1_binary_354 vsX1_405_0 (Nat.le_refl _) (Nat.le_of_ble_eq_true rfl) (Nat.le_of_ble_eq_true rfl) rfl k
        · have k := zit h_ k
          refine z_iload dX1_binary_336 rfl ?_
          refine z_if_gt (tgt := 353) dX1_binary_338 rfl (fun h_ => ?_) (fun h_ => ?_)
          · have k := zit h_ k
            refine z_iconst (v := 0) dX1_binary_353 rfl ?_
            refine Z.pick [] rfl ?_
            exact z_callV (as := [vi (0 : Int32)]) (st := []) dX1_binary_354 vsX1_405_0 (Nat.le_refl _) (Nat.le_of_ble_eq_true rfl) (Nat.le_of_ble_eq_true rfl) rfl k
          · have k := zif h_ k
            refine z_goto (tgt := 349) dX1_binary_341 rfl ?_
            refine z_iconst (v := 1) dX1_binary_349 rfl ?_
            refine z_goto (tgt := 354) dX1_binary_350 rfl ?_
            refine Z.pick [] rfl ?_
            exact z_callV (as := [vi (1 : Int32)]) (st := []) dX1_binary_354 vsX1_405_0 (Nat.le_refl _) (Nat.le_of_ble_eq_true rfl) (Nat.le_of_ble_eq_true rfl) rfl k
      · have k := zit h_ k
        refine z_iload dX1_binary_322 rfl ?_
        refine z_if_le (tgt := 353) dX1_binary_324 rfl (fun h_ => ?_) (fun h_ => ?_)
        · have k := zit h_ k
          refine z_iconst (v := 0) dX1_binary_353 rfl ?_
          refine Z.pick [] rfl ?_
          exact z_callV (as := [vi (0 : Int32)]) (st := []) dX1_binary_354 vsX1_405_0 (Nat.le_refl _) (Nat.le_of_ble_eq_true rfl) (Nat.le_of_ble_eq_true rfl) rfl k
        · have k := zif h_ k
          refine z_goto (tgt := 349) dX1_binary_327 rfl ?_
          refine z_iconst (v := 1) dX1_binary_349 rfl ?_
          refine z_goto (tgt := 354) dX1_binary_350 rfl ?_
          refine Z.pick [] rfl ?_
          exact z_callV (as := [vi (1 : Int32)]) (st := []) dX1_binary_354 vsX1_405_0 (Nat.le_refl _) (Nat.le_of_ble_eq_true rfl) (Nat.le_of_ble_eq_true rfl) rfl k
    · have k := zit h_ k
      refine z_iload dX1_binary_308 rfl ?_
      refine z_if_ge (tgt := 353) dX1_binary_310 rfl (fun h_ => ?_) (fun h_ => ?_)
      · have k := zit h_ k
        refine z_iconst (v := 0) dX1_binary_353 rfl ?_
        refine Z.pick [] rfl ?_
        exact z_callV (as := [vi (0 : Int32)]) (st := []) dX1_binary_354 vsX1_405_0 (Nat.le_refl _) (Nat.le_of_ble_eq_true rfl) (Nat.le_of_ble_eq_true rfl) rfl k
      · have k := zif h_ k
        refine z_goto (tgt := 349) dX1_binary_313 rfl ?_
        refine z_iconst (v := 1) dX1_binary_349 rfl ?_
        refine z_goto (tgt := 354) dX1_binary_350 rfl ?_
        refine Z.pick [] rfl ?_
        exact z_callV (as := [vi (1 : Int32)]) (st := []) dX1_binary_354 vsX1_405_0 (Nat.le_refl _) (Nat.le_of_ble_eq_true rfl) (Nat.le_of_ble_eq_true rfl) rfl k
theorem sX1_binary_357 {E : zE} {d : Nat} {Q : zO → zM → Prop} (M : zM)  (hw : cw M) (k : Q (.inl none) M) : Z E YX1_binary (d + 1) M [] 357 [] Q := by
  exact z_vret dX1_binary_357 rfl k
/-! ScriptTypes.sum(IIIII)V -/
theorem bX1_sum_0 : zdec cX1_sum 0 [(0, .aload_n 0, 1), (1, .iload_n 2, 1), (2, .iload_n 3, 1), (3, .invokevirtual 412, 3), (6, .istore 6, 2), (8, .aload_n 0, 1), (9, .getfield 392, 3), (12, .istore 7, 2), (14, .iload 6, 2), (16, .aload_n 0, 1), (17, .iload 4, 2), (19, .iload 5, 2), (21, .invokevirtual 412, 3), (24, .iand, 1), (25, .istore 6, 2), (27, .aload_n 0, 1)] = true := by decide +kernel
theorem dX1_sum_0 : decode cX1_sum 0 = .ok (.aload_n 0, 1) := zdec_at bX1_sum_0 0 rfl
theorem dX1_sum_1 : decode cX1_sum 1 = .ok (.iload_n 2, 1) := zdec_at bX1_sum_0 1 rfl
theorem dX1_sum_2 : decode cX1_sum 2 = .ok (.iload_n 3, 1) := zdec_at bX1_sum_0 2 rfl
theorem dX1_sum_3 : decode cX1_sum 3 = .ok (.invokevirtual 412, 3) := zdec_at bX1_sum_0 3 rfl
theorem dX1_sum_6 : decode cX1_sum 6 = .ok (.istore 6, 2) := zdec_at bX1_sum_0 4 rfl
theorem dX1_sum_8 : decode cX1_sum 8 = .ok (.aload_n 0, 1) := zdec_at bX1_sum_0 5 rfl
theorem dX1_sum_9 : decode cX1_sum 9 = .ok (.getfield 392, 3) := zdec_at bX1_sum_0 6 rfl
theorem dX1_sum_12 : decode cX1_sum 12 = .ok (.istore 7, 2) := zdec_at bX1_sum_0 7 rfl
theorem dX1_sum_14 : decode cX1_sum 14 = .ok (.iload 6, 2) := zdec_at bX1_sum_0 8 rfl
theorem dX1_sum_16 : decode cX1_sum 16 = .ok (.aload_n 0, 1) := zdec_at bX1_sum_0 9 rfl
theorem dX1_sum_17 : decode cX1_sum 17 = .ok (.iload 4, 2) := zdec_at bX1_sum_0 10 rfl
theorem dX1_sum_19 : decode cX1_sum 19 = .ok (.iload 5, 2) := zdec_at bX1_sum_0 11 rfl
theorem dX1_sum_21 : decode cX1_sum 21 = .ok (.invokevirtual 412, 3) := zdec_at bX1_sum_0 12 rfl
theorem dX1_sum_24 : decode cX1_sum 24 = .ok (.iand, 1) := zdec_at bX1_sum_0 13 rfl
theorem dX1_sum_25 : decode cX1_sum 25 = .ok (.istore 6, 2) := zdec_at bX1_sum_0 14 rfl
theorem dX1_sum_27 : decode cX1_sum 27 = .ok (.aload_n 0, 1) := zdec_at bX1_sum_0 15 rfl
theorem bX1_sum_28 : zdec cX1_sum 28 [(28, .getfield 392, 3), (31, .istore 8, 2), (33, .iload 6, 2), (35, .ifCond .eq 13, 3), (38, .iload_n 1, 1), (39, .iconst 2, 1), (40, .if_icmp .le 17, 3), (43, .iload 8, 2), (45, .ifCond .ne 12, 3), (48, .aload_n 0, 1), (49, .iconst 4, 1), (50, .iconst 0, 1), (51, .invokevirtual 395, 3), (54, .goto 64, 3), (57, .aload_n 0, 1), (58, .iconst 5, 1)] = true := by decide +kernel
theorem dX1_sum_28 : decode cX1_sum 28 = .ok (.getfield 392, 3) := zdec_at bX1_sum_28 0 rfl
theorem dX1_sum_31 : decode cX1_sum 31 = .ok (.istore 8, 2) := zdec_at bX1_sum_28 1 rfl
theorem dX1_sum_33 : decode cX1_sum 33 = .ok (.iload 6, 2) := zdec_at bX1_sum_28 2 rfl
theorem dX1_sum_35 : decode cX1_sum 35 = .ok (.ifCond .eq 13, 3) := zdec_at bX1_sum_28 3 rfl
theorem dX1_sum_38 : decode cX1_sum 38 = .ok (.iload_n 1, 1) := zdec_at bX1_sum_28 4 rfl
theorem dX1_sum_39 : decode cX1_sum 39 = .ok (.iconst 2, 1) := zdec_at bX1_sum_28 5 rfl
theorem dX1_sum_40 : decode cX1_sum 40 = .ok (.if_icmp .le 17, 3) := zdec_at bX1_sum_28 6 rfl
theorem dX1_sum_43 : decode cX1_sum 43 = .ok (.iload 8, 2) := zdec_at bX1_sum_28 7 rfl
theorem dX1_sum_45 : decode cX1_sum 45 = .ok (.ifCond .ne 12, 3) := zdec_at bX1_sum_28 8 rfl
theorem dX1_sum_48 : decode cX1_sum 48 = .ok (.aload_n 0, 1) := zdec_at bX1_sum_28 9 rfl
theorem dX1_sum_49 : decode cX1_sum 49 = .ok (.iconst 4, 1) := zdec_at bX1_sum_28 10 rfl
theorem dX1_sum_50 : decode cX1_sum 50 = .ok (.iconst 0, 1) := zdec_at bX1_sum_28 11 rfl
theorem dX1_sum_51 : decode cX1_sum 51 = .ok (.invokevirtual 395, 3) := zdec_at bX1_sum_28 12 rfl
theorem dX1_sum_54 : decode cX1_sum 54 = .ok (.goto 64, 3) := zdec_at bX1_sum_28 13 rfl
theorem dX1_sum_57 : decode cX1_sum 57 = .ok (.aload_n 0, 1) := zdec_at bX1_sum_28 14 rfl
theorem dX1_sum_58 : decode cX1_sum 58 = .ok (.iconst 5, 1) := zdec_at bX1_sum_28 15 rfl
theorem bX1_sum_59 : zdec cX1_sum 59 [(59, .iload_n 1, 1), (60, .ifCond .ne 11, 3), (63, .iload 7, 2), (65, .iload 8, 2), (67, .iadd, 1), (68, .goto 47, 3), (71, .iload_n 1, 1), (72, .iconst 1, 1), (73, .if_icmp .ne 11, 3), (76, .iload 7, 2), (78, .iload 8, 2), (80, .isub, 1), (81, .goto 34, 3), (84, .iload_n 1, 1), (85, .iconst 2, 1), (86, .if_icmp .ne 11, 3)] = true := by decide +kernel
theorem dX1_sum_59 : decode cX1_sum 59 = .ok (.iload_n 1, 1) := zdec_at bX1_sum_59 0 rfl
theorem dX1_sum_60 : decode cX1_sum 60 = .ok (.ifCond .ne 11, 3) := zdec_at bX1_sum_59 1 rfl
theorem dX1_sum_63 : decode cX1_sum 63 = .ok (.iload 7, 2) := zdec_at bX1_sum_59 2 rfl
theorem dX1_sum_65 : decode cX1_sum 65 = .ok (.iload 8, 2) := zdec_at bX1_sum_59 3 rfl
theorem dX1_sum_67 : decode cX1_sum 67 = .ok (.iadd, 1) := zdec_at bX1_sum_59 4 rfl
theorem dX1_sum_68 : decode cX1_sum 68 = .ok (.goto 47, 3) := zdec_at bX1_sum_59 5 rfl
theorem dX1_sum_71 : decode cX1_sum 71 = .ok (.iload_n 1, 1) := zdec_at bX1_sum_59 6 rfl
theorem dX1_sum_72 : decode cX1_sum 72 = .ok (.iconst 1, 1) := zdec_at bX1_sum_59 7 rfl
theorem dX1_sum_73 : decode cX1_sum 73 = .ok (.if_icmp .ne 11, 3) := zdec_at bX1_sum_59 8 rfl
theorem dX1_sum_76 : decode cX1_sum 76 = .ok (.iload 7, 2) := zdec_at bX1_sum_59 9 rfl
theorem dX1_sum_78 : decode cX1_sum 78 = .ok (.iload 8, 2) := zdec_at bX1_sum_59 10 rfl
theorem dX1_sum_80 : decode cX1_sum 80 = .ok (.isub, 1) := zdec_at bX1_sum_59 11 rfl
theorem dX1_sum_81 : decode cX1_sum 81 = .ok (.goto 34, 3) := zdec_at bX1_sum_59 12 rfl
theorem dX1_sum_84 : decode cX1_sum 84 = .ok (.iload_n 1, 1) := zdec_at bX1_sum_59 13 rfl
theorem dX1_sum_85 : decode cX1_sum 85 = .ok (.iconst 2, 1) := zdec_at bX1_sum_59 14 rfl
theorem dX1_sum_86 : decode cX1_sum 86 = .ok (.if_icmp .ne 11, 3) := zdec_at bX1_sum_59 15 rfl
theorem bX1_sum_89 : zdec cX1_sum 89 [(89, .iload 7, 2), (91, .iload 8, 2), (93, .imul, 1), (94, .goto 21, 3), (97, .iload_n 1, 1), (98, .iconst 3, 1), (99, .if_icmp .ne 11, 3), (102, .iload 7, 2), (104, .iload 8, 2), (106, .idiv, 1), (107, .goto 8, 3), (110, .iload 7, 2), (112, .iload 8, 2), (114, .irem, 1), (115, .invokevirtual 395, 3), (118, .return_, 1)] = true := by decide +kernel
theorem dX1_sum_89 : decode cX1_sum 89 = .ok (.iload 7, 2) := zdec_at bX1_sum_89 0 rfl
theorem dX1_sum_91 : decode cX1_sum 91 = .ok (.iload 8, 2) := zdec_at bX1_sum_89 1 rfl
theorem dX1_sum_93 : decode cX1_sum 93 = .ok (.imul, 1) := zdec_at bX1_sum_89 2 rfl
theorem dX1_sum_94 : decode cX1_sum 94 = .ok (.goto 21, 3) := zdec_at bX1_sum_89 3 rfl
theorem dX1_sum_97 : decode cX1_sum 97 = .ok (.iload_n 1, 1) := zdec_at bX1_sum_89 4 rfl
theorem dX1_sum_98 : decode cX1_sum 98 = .ok (.iconst 3, 1) := zdec_at bX1_sum_89 5 rfl
theorem dX1_sum_99 : decode cX1_sum 99 = .ok (.if_icmp .ne 11, 3) := zdec_at bX1_sum_89 6 rfl
theorem dX1_sum_102 : decode cX1_sum 102 = .ok (.iload 7, 2) := zdec_at bX1_sum_89 7 rfl
theorem dX1_sum_104 : decode cX1_sum 104 = .ok (.iload 8, 2) := zdec_at bX1_sum_89 8 rfl
theorem dX1_sum_106 : decode cX1_sum 106 = .ok (.idiv, 1) := zdec_at bX1_sum_89 9 rfl
theorem dX1_sum_107 : decode cX1_sum 107 = .ok (.goto 8, 3) := zdec_at bX1_sum_89 10 rfl
theorem dX1_sum_110 : decode cX1_sum 110 = .ok (.iload 7, 2) := zdec_at bX1_sum_89 11 rfl
theorem dX1_sum_112 : decode cX1_sum 112 = .ok (.iload 8, 2) := zdec_at bX1_sum_89 12 rfl
theorem dX1_sum_114 : decode cX1_sum 114 = .ok (.irem, 1) := zdec_at bX1_sum_89 13 rfl
theorem dX1_sum_115 : decode cX1_sum 115 = .ok (.invokevirtual 395, 3) := zdec_at bX1_sum_89 14 rfl
theorem dX1_sum_118 : decode cX1_sum 118 = .ok (.return_, 1) := zdec_at bX1_sum_89 15 rfl
theorem sX1_sum_0 {E : zE} {d : Nat} {Q : zO → zM → Prop} (M : zM) (l1 : Int32) (l2 : Int32) (l3 : Int32) (l4 : Int32) (l5 : Int32) (hw : cw M) (k : Z E YX1_hasNumber d M (zargs 0 [vr (some (16, 0, 0)), vi l2, vi l3]) 0 [] (zafter E YX1_sum (d + 1) [(0, vr (some (16, 0, 0))), (1, vi l1), (4, vi l4), (5, vi l5)] 3 3 [] Q)) : Z E YX1_sum (d + 1) M [(0, vr (some (16, 0, 0))), (1, vi l1), (2, vi l2), (3, vi l3), (4, vi l4), (5, vi l5)] 0 [] Q := by
  refine z_aload_n dX1_sum_0 rfl rfl ?_
  refine z_iload_n dX1_sum_1 rfl rfl ?_
  refine z_iload_n dX1_sum_2 rfl rfl ?_
  refine Z.pick [0, 1, 4, 5] rfl ?_
  exact z_callV (as := [vi l2, vi l3]) (st := []) dX1_sum_3 vsX1_412_0 (Nat.le_refl _) (Nat.le_of_ble_eq_true rfl) (Nat.le_of_ble_eq_true rfl) rfl k
theorem sX1_sum_6 {E : zE} {d : Nat} {Q : zO → zM → Prop} (M : zM) (l1 : Int32) (l4 : Int32) (l5 : Int32) (s0 : Int32) (hw : cw M) (k : Z E YX1_hasNumber d M (zargs 0 [vr (some (16, 0, 0)), vi l4, vi l5]) 0 [] (zafter E YX1_sum (d + 1) [(0, vr (some (16, 0, 0))), (1, vi l1), (7, vi (gi M 16 32))] 21 3 [vi s0] Q)) : Z E YX1_sum (d + 1) M [(0, vr (some (16, 0, 0))), (1, vi l1), (4, vi l4), (5, vi l5)] 6 [vi s0] Q := by
  refine z_ist dX1_sum_6 (by decide) (lv' := [(0, vr (some (16, 0, 0))), (1, vi l1), (4, vi l4), (5, vi l5), (6, vi s0)]) rfl ?_
  refine z_aload_n dX1_sum_8 rfl rfl ?_
  refine z_geti dX1_sum_9 fsX1_392_0 ?_
  refine z_ist dX1_sum_12 (by decide) (lv' := [(0, vr (some (16, 0, 0))), (1, vi l1), (4, vi l4), (5, vi l5), (6, vi s0), (7, vi (gi M 16 32))]) rfl ?_
  refine z_iload dX1_sum_14 rfl ?_
  refine z_aload_n dX1_sum_16 rfl rfl ?_
  refine z_iload dX1_sum_17 rfl ?_
  refine z_iload dX1_sum_19 rfl ?_
  refine Z.pick [0, 1, 5] rfl ?_
  exact z_callV (as := [vi l4, vi l5]) (st := [vi s0]) dX1_sum_21 vsX1_412_0 (Nat.le_refl _) (Nat.le_of_ble_eq_true rfl) (Nat.le_of_ble_eq_true rfl) rfl k
theorem sX1_sum_24 {E : zE} {d : Nat} {Q : zO → zM → Prop} (M : zM) (l1 : Int32) (l7 : Int32) (s0 : Int32) (s1 : Int32) (hw : cw M) (k : if (s1 &&& s0) = 0 then (Z E YX1_gives d M (zargs 0 [vr (some (16, 0, 0)), vi (4 : Int32), vi (0 : Int32)]) 0 [] (zafter E YX1_sum (d + 1) [] 51 3 [] Q)) else (if l1 ≤ (2 : Int32) then (Z E YX1_sum (d + 1) M [(0, vr (some (16, 0, 0))), (1, vi l1), (7, vi l7), (8, vi (gi M 16 32))] 57 [] Q) else (if (gi M 16 32) = 0 then (Z E YX1_gives d M (zargs 0 [vr (some (16, 0, 0)), vi (4 : Int32), vi (0 : Int32)]) 0 [] (zafter E YX1_sum (d + 1) [] 51 3 [] Q)) else (Z E YX1_sum (d + 1) M [(0, vr (some (16, 0, 0))), (1, vi l1), (7, vi l7), (8, vi (gi M 16 32))] 57 [] Q)))) : Z E YX1_sum (d + 1) M [(0, vr (some (16, 0, 0))), (1, vi l1), (7, vi l7)] 24 [vi s0, vi s1] Q := by
  refine z_iand dX1_sum_24 ?_
  refine z_ist dX1_sum_25 (by decide) (lv' := [(0, vr (some (16, 0, 0))), (1, vi l1), (6, vi (s1 &&& s0)), (7, vi l7)]) rfl ?_
  refine z_aload_n dX1_sum_27 rfl rfl ?_
  refine z_geti dX1_sum_28 fsX1_392_0 ?_
  refine z_ist dX1_sum_31 (by decide) (lv' := [(0, vr (some (16, 0, 0))), (1, vi l1), (6, vi (s1 &&& s0)), (7, vi l7), (8, vi (gi M 16 32))]) rfl ?_
  refine z_iload dX1_sum_33 rfl ?_
  refine z_if_eq (tgt := 48) dX1_sum_35 rfl (fun h_ => ?_) (fun h_ => ?_)
  · have k := zit h_ k
    refine z_aload_n dX1_sum_48 rfl rfl ?_
    refine z_iconst (v := 4) dX1_sum_49 rfl ?_
    refine z_iconst (v := 0) dX1_sum_50 rfl ?_
    refine Z.pick [] rfl ?_
    exact z_callV (as := [vi (4 : Int32), vi (0 : Int32)]) (st := []) dX1_sum_51 vsX1_395_0 (Nat.le_refl _) (Nat.le_of_ble_eq_true rfl) (Nat.le_of_ble_eq_true rfl) rfl k
  · have k := zif h_ k
    refine z_iload_n dX1_sum_38 rfl rfl ?_
    refine z_iconst (v := 2) dX1_sum_39 rfl ?_
    refine z_icmp_le (tgt := 57) dX1_sum_40 rfl (fun h_ => ?_) (fun h_ => ?_)
    · have k := zit h_ k
      refine Z.pick [0, 1, 3, 4] rfl ?_
      exact k
    · have k := zif h_ k
      refine z_iload dX1_sum_43 rfl ?_
      refine z_if_ne (tgt := 57) dX1_sum_45 rfl (fun h_ => ?_) (fun h_ => ?_)
      · have k := zif h_ k
        refine Z.pick [0, 1, 3, 4] rfl ?_
        exact k
      · have k := zit h_ k
        refine z_aload_n dX1_sum_48 rfl rfl ?_
        refine z_iconst (v := 4) dX1_sum_49 rfl ?_
        refine z_iconst (v := 0) dX1_sum_50 rfl ?_
        refine Z.pick [] rfl ?_
        exact z_callV (as := [vi (4 : Int32), vi (0 : Int32)]) (st := []) dX1_sum_51 vsX1_395_0 (Nat.le_refl _) (Nat.le_of_ble_eq_true rfl) (Nat.le_of_ble_eq_true rfl) rfl k
theorem sX1_sum_54 {E : zE} {d : Nat} {Q : zO → zM → Prop} (M : zM)  (hw : cw M) (k : Z E YX1_sum (d + 1) M [] 118 [] Q) : Z E YX1_sum (d + 1) M [] 54 [] Q := by
  refine z_goto (tgt := 118) dX1_sum_54 rfl ?_
  exact k
theorem sX1_sum_57 {E : zE} {d : Nat} {Q : zO → zM → Prop} (M : zM) (l1 : Int32) (l7 : Int32) (l8 : Int32) (hw : cw M) (k : if l1 = 0 then (Z E YX1_gives d M (zargs 0 [vr (some (16, 0, 0)), vi (5 : Int32), vi (l7 + l8)]) 0 [] (zafter E YX1_sum (d + 1) [] 115 3 [] Q)) else (if l1 = (1 : Int32) then (Z E YX1_gives d M (zargs 0 [vr (some (16, 0, 0)), vi (5 : Int32), vi (l7 - l8)]) 0 [] (zafter E YX1_sum (d + 1) [] 115 3 [] Q)) else (if l1 = (2 : Int32) then (Z E YX1_gives d M (zargs 0 [vr (some (16, 0, 0)), vi (5 : Int32), vi (l7 * l8)]) 0 [] (zafter E YX1_sum (d + 1) [] 115 3 [] Q)) else (if l1 = (3 : Int32) then ((¬ l8 = 0) ∧ (Z E YX1_gives d M (zargs 0 [vr (some (16, 0, 0)), vi (5 : Int32), vi (l7 / l8)]) 0 [] (zafter E YX1_sum (d + 1) [] 115 3 [] Q))) else ((¬ l8 = 0) ∧ (Z E YX1_gives d M (zargs 0 [vr (some (16, 0, 0)), vi (5 : Int32), vi (l7 - l7 / l8 * l8)]) 0 [] (zafter E YX1_sum (d + 1) [] 115 3 [] Q))))))) : Z E YX1_sum (d + 1) M [(0, vr (some (16, 0, 0))), (1, vi l1), (7, vi l7), (8, vi l8)] 57 [] Q := by
  refine z_aload_n dX1_sum_57 rfl rfl ?_
  refine z_iconst (v := 5) dX1_sum_58 rfl ?_
  refine z_iload_n dX1_sum_59 rfl rfl ?_
  refine z_if_ne (tgt := 71) dX1_sum_60 rfl (fun h_ => ?_) (fun h_ => ?_)
  · have k := zif h_ k
    refine z_iload_n dX1_sum_71 rfl rfl ?_
    refine z_iconst (v := 1) dX1_sum_72 rfl ?_
    refine z_icmp_ne (tgt := 84) dX1_sum_73 rfl (fun h_ => ?_) (fun h_ => ?_)
    · have k := zif h_ k
      refine z_iload_n dX1_sum_84 rfl rfl ?_
      refine z_iconst (v := 2) dX1_sum_85 rfl ?_
      refine z_icmp_ne (tgt := 97) dX1_sum_86 rfl (fun h_ => ?_) (fun h_ => ?_)
      · have k := zif h_ k
        refine z_iload_n dX1_sum_97 rfl rfl ?_
        refine z_iconst (v := 3) dX1_sum_98 rfl ?_
        refine z_icmp_ne (tgt := 110) dX1_sum_99 rfl (fun h_ => ?_) (fun h_ => ?_)
        · have k := zif h_ k
          refine z_iload dX1_sum_110 rfl ?_
          refine z_iload dX1_sum_112 rfl ?_
          obtain ⟨b_, k⟩ := k
          refine z_irem dX1_sum_114 b_ ?_
          refine Z.pick [] rfl ?_
          exact z_callV (as := [vi (5 : Int32), vi (l7 - l7 / l8 * l8)]) (st := []) dX1_sum_115 vsX1_395_0 (Nat.le_refl _) (Nat.le_of_ble_eq_true rfl) (Nat.le_of_ble_eq_true rfl) rfl k
        · have k := zit h_ k
          refine z_iload dX1_sum_102 rfl ?_
          refine z_iload dX1_sum_104 rfl ?_
          obtain ⟨b_, k⟩ := k
          refine z_idiv dX1_sum_106 b_ ?_
          refine z_goto (tgt := 115) dX1_sum_107 rfl ?_
          refine Z.pick [] rfl ?_
          exact z_callV (as := [vi (5 : Int32), vi (l7 / l8)]) (st := []) dX1_sum_115 vsX1_395_0 (Nat.le_refl _) (Nat.le_of_ble_eq_true rfl) (Nat.le_of_ble_eq_true rfl) rfl k
      · have k := zit h_ k
        refine z_iload dX1_sum_89 rfl ?_
        refine z_iload dX1_sum_91 rfl ?_
        refine z_imul dX1_sum_93 ?_
        refine z_goto (tgt := 115) dX1_sum_94 rfl ?_
        refine Z.pick [] rfl ?_
        exact z_callV (as := [vi (5 : Int32), vi (l7 * l8)]) (st := []) dX1_sum_115 vsX1_395_0 (Nat.le_refl _) (Nat.le_of_ble_eq_true rfl) (Nat.le_of_ble_eq_true rfl) rfl k
    · have k := zit h_ k
      refine z_iload dX1_sum_76 rfl ?_
      refine z_iload dX1_sum_78 rfl ?_
      refine z_isub dX1_sum_80 ?_
      refine z_goto (tgt := 115) dX1_sum_81 rfl ?_
      refine Z.pick [] rfl ?_
      exact z_callV (as := [vi (5 : Int32), vi (l7 - l8)]) (st := []) dX1_sum_115 vsX1_395_0 (Nat.le_refl _) (Nat.le_of_ble_eq_true rfl) (Nat.le_of_ble_eq_true rfl) rfl k
  · have k := zit h_ k
    refine z_iload dX1_sum_63 rfl ?_
    refine z_iload dX1_sum_65 rfl ?_
    refine z_iadd dX1_sum_67 ?_
    refine z_goto (tgt := 115) dX1_sum_68 rfl ?_
    refine Z.pick [] rfl ?_
    exact z_callV (as := [vi (5 : Int32), vi (l7 + l8)]) (st := []) dX1_sum_115 vsX1_395_0 (Nat.le_refl _) (Nat.le_of_ble_eq_true rfl) (Nat.le_of_ble_eq_true rfl) rfl k
theorem sX1_sum_118 {E : zE} {d : Nat} {Q : zO → zM → Prop} (M : zM)  (hw : cw M) (k : Q (.inl none) M) : Z E YX1_sum (d + 1) M [] 118 [] Q := by
  exact z_vret dX1_sum_118 rfl k
/-! ScriptTypes.equal(IIII)Z -/
theorem bX1_equal_0 : zdec cX1_equal 0 [(0, .iload_n 1, 1), (1, .iconst 2, 1), (2, .if_icmp .ge 7, 3), (5, .iconst 1, 1), (6, .goto 4, 3), (9, .iconst 0, 1), (10, .istore 5, 2), (12, .iload_n 3, 1), (13, .iconst 2, 1), (14, .if_icmp .ge 7, 3), (17, .iconst 1, 1), (18, .goto 4, 3), (21, .iconst 0, 1), (22, .istore 6, 2), (24, .iload 5, 2), (26, .ifCond .ne 8, 3)] = true := by decide +kernel
theorem dX1_equal_0 : decode cX1_equal 0 = .ok (.iload_n 1, 1) := zdec_at bX1_equal_0 0 rfl
theorem dX1_equal_1 : decode cX1_equal 1 = .ok (.iconst 2, 1) := zdec_at bX1_equal_0 1 rfl
theorem dX1_equal_2 : decode cX1_equal 2 = .ok (.if_icmp .ge 7, 3) := zdec_at bX1_equal_0 2 rfl
theorem dX1_equal_5 : decode cX1_equal 5 = .ok (.iconst 1, 1) := zdec_at bX1_equal_0 3 rfl
theorem dX1_equal_6 : decode cX1_equal 6 = .ok (.goto 4, 3) := zdec_at bX1_equal_0 4 rfl
theorem dX1_equal_9 : decode cX1_equal 9 = .ok (.iconst 0, 1) := zdec_at bX1_equal_0 5 rfl
theorem dX1_equal_10 : decode cX1_equal 10 = .ok (.istore 5, 2) := zdec_at bX1_equal_0 6 rfl
theorem dX1_equal_12 : decode cX1_equal 12 = .ok (.iload_n 3, 1) := zdec_at bX1_equal_0 7 rfl
theorem dX1_equal_13 : decode cX1_equal 13 = .ok (.iconst 2, 1) := zdec_at bX1_equal_0 8 rfl
theorem dX1_equal_14 : decode cX1_equal 14 = .ok (.if_icmp .ge 7, 3) := zdec_at bX1_equal_0 9 rfl
theorem dX1_equal_17 : decode cX1_equal 17 = .ok (.iconst 1, 1) := zdec_at bX1_equal_0 10 rfl
theorem dX1_equal_18 : decode cX1_equal 18 = .ok (.goto 4, 3) := zdec_at bX1_equal_0 11 rfl
theorem dX1_equal_21 : decode cX1_equal 21 = .ok (.iconst 0, 1) := zdec_at bX1_equal_0 12 rfl
theorem dX1_equal_22 : decode cX1_equal 22 = .ok (.istore 6, 2) := zdec_at bX1_equal_0 13 rfl
theorem dX1_equal_24 : decode cX1_equal 24 = .ok (.iload 5, 2) := zdec_at bX1_equal_0 14 rfl
theorem dX1_equal_26 : decode cX1_equal 26 = .ok (.ifCond .ne 8, 3) := zdec_at bX1_equal_0 15 rfl
theorem bX1_equal_29 : zdec cX1_equal 29 [(29, .iload 6, 2), (31, .ifCond .eq 19, 3), (34, .iload 5, 2), (36, .ifCond .eq 12, 3), (39, .iload 6, 2), (41, .ifCond .eq 7, 3), (44, .iconst 1, 1), (45, .goto 4, 3), (48, .iconst 0, 1), (49, .ireturn, 1), (50, .iload_n 1, 1), (51, .iconst 3, 1), (52, .if_icmp .ne 7, 3), (55, .iconst 2, 1), (56, .goto 13, 3), (59, .iload_n 1, 1)] = true := by decide +kernel
theorem dX1_equal_29 : decode cX1_equal 29 = .ok (.iload 6, 2) := zdec_at bX1_equal_29 0 rfl
theorem dX1_equal_31 : decode cX1_equal 31 = .ok (.ifCond .eq 19, 3) := zdec_at bX1_equal_29 1 rfl
theorem dX1_equal_34 : decode cX1_equal 34 = .ok (.iload 5, 2) := zdec_at bX1_equal_29 2 rfl
theorem dX1_equal_36 : decode cX1_equal 36 = .ok (.ifCond .eq 12, 3) := zdec_at bX1_equal_29 3 rfl
theorem dX1_equal_39 : decode cX1_equal 39 = .ok (.iload 6, 2) := zdec_at bX1_equal_29 4 rfl
theorem dX1_equal_41 : decode cX1_equal 41 = .ok (.ifCond .eq 7, 3) := zdec_at bX1_equal_29 5 rfl
theorem dX1_equal_44 : decode cX1_equal 44 = .ok (.iconst 1, 1) := zdec_at bX1_equal_29 6 rfl
theorem dX1_equal_45 : decode cX1_equal 45 = .ok (.goto 4, 3) := zdec_at bX1_equal_29 7 rfl
theorem dX1_equal_48 : decode cX1_equal 48 = .ok (.iconst 0, 1) := zdec_at bX1_equal_29 8 rfl
theorem dX1_equal_49 : decode cX1_equal 49 = .ok (.ireturn, 1) := zdec_at bX1_equal_29 9 rfl
theorem dX1_equal_50 : decode cX1_equal 50 = .ok (.iload_n 1, 1) := zdec_at bX1_equal_29 10 rfl
theorem dX1_equal_51 : decode cX1_equal 51 = .ok (.iconst 3, 1) := zdec_at bX1_equal_29 11 rfl
theorem dX1_equal_52 : decode cX1_equal 52 = .ok (.if_icmp .ne 7, 3) := zdec_at bX1_equal_29 12 rfl
theorem dX1_equal_55 : decode cX1_equal 55 = .ok (.iconst 2, 1) := zdec_at bX1_equal_29 13 rfl
theorem dX1_equal_56 : decode cX1_equal 56 = .ok (.goto 13, 3) := zdec_at bX1_equal_29 14 rfl
theorem dX1_equal_59 : decode cX1_equal 59 = .ok (.iload_n 1, 1) := zdec_at bX1_equal_29 15 rfl
theorem bX1_equal_60 : zdec cX1_equal 60 [(60, .iconst 4, 1), (61, .if_icmp .ne 7, 3), (64, .iconst 5, 1), (65, .goto 4, 3), (68, .iload_n 1, 1), (69, .istore 7, 2), (71, .iload_n 3, 1), (72, .iconst 3, 1), (73, .if_icmp .ne 7, 3), (76, .iconst 2, 1), (77, .goto 13, 3), (80, .iload_n 3, 1), (81, .iconst 4, 1), (82, .if_icmp .ne 7, 3), (85, .iconst 5, 1), (86, .goto 4, 3)] = true := by decide +kernel
theorem dX1_equal_60 : decode cX1_equal 60 = .ok (.iconst 4, 1) := zdec_at bX1_equal_60 0 rfl
theorem dX1_equal_61 : decode cX1_equal 61 = .ok (.if_icmp .ne 7, 3) := zdec_at bX1_equal_60 1 rfl
theorem dX1_equal_64 : decode cX1_equal 64 = .ok (.iconst 5, 1) := zdec_at bX1_equal_60 2 rfl
theorem dX1_equal_65 : decode cX1_equal 65 = .ok (.goto 4, 3) := zdec_at bX1_equal_60 3 rfl
theorem dX1_equal_68 : decode cX1_equal 68 = .ok (.iload_n 1, 1) := zdec_at bX1_equal_60 4 rfl
theorem dX1_equal_69 : decode cX1_equal 69 = .ok (.istore 7, 2) := zdec_at bX1_equal_60 5 rfl
theorem dX1_equal_71 : decode cX1_equal 71 = .ok (.iload_n 3, 1) := zdec_at bX1_equal_60 6 rfl
theorem dX1_equal_72 : decode cX1_equal 72 = .ok (.iconst 3, 1) := zdec_at bX1_equal_60 7 rfl
theorem dX1_equal_73 : decode cX1_equal 73 = .ok (.if_icmp .ne 7, 3) := zdec_at bX1_equal_60 8 rfl
theorem dX1_equal_76 : decode cX1_equal 76 = .ok (.iconst 2, 1) := zdec_at bX1_equal_60 9 rfl
theorem dX1_equal_77 : decode cX1_equal 77 = .ok (.goto 13, 3) := zdec_at bX1_equal_60 10 rfl
theorem dX1_equal_80 : decode cX1_equal 80 = .ok (.iload_n 3, 1) := zdec_at bX1_equal_60 11 rfl
theorem dX1_equal_81 : decode cX1_equal 81 = .ok (.iconst 4, 1) := zdec_at bX1_equal_60 12 rfl
theorem dX1_equal_82 : decode cX1_equal 82 = .ok (.if_icmp .ne 7, 3) := zdec_at bX1_equal_60 13 rfl
theorem dX1_equal_85 : decode cX1_equal 85 = .ok (.iconst 5, 1) := zdec_at bX1_equal_60 14 rfl
theorem dX1_equal_86 : decode cX1_equal 86 = .ok (.goto 4, 3) := zdec_at bX1_equal_60 15 rfl
theorem bX1_equal_89 : zdec cX1_equal 89 [(89, .iload_n 3, 1), (90, .istore 8, 2), (92, .iload 7, 2), (94, .iload 8, 2), (96, .if_icmp .ne 12, 3), (99, .iload_n 1, 1), (100, .iload_n 2, 1), (101, .iload_n 3, 1), (102, .iload 4, 2), (104, .invokestatic 415, 3), (107, .ireturn, 1), (108, .iload_n 1, 1), (109, .bipush 7, 2), (111, .if_icmp .eq 9, 3), (114, .iload_n 3, 1), (115, .bipush 7, 2)] = true := by decide +kernel
theorem dX1_equal_89 : decode cX1_equal 89 = .ok (.iload_n 3, 1) := zdec_at bX1_equal_89 0 rfl
theorem dX1_equal_90 : decode cX1_equal 90 = .ok (.istore 8, 2) := zdec_at bX1_equal_89 1 rfl
theorem dX1_equal_92 : decode cX1_equal 92 = .ok (.iload 7, 2) := zdec_at bX1_equal_89 2 rfl
theorem dX1_equal_94 : decode cX1_equal 94 = .ok (.iload 8, 2) := zdec_at bX1_equal_89 3 rfl
theorem dX1_equal_96 : decode cX1_equal 96 = .ok (.if_icmp .ne 12, 3) := zdec_at bX1_equal_89 4 rfl
theorem dX1_equal_99 : decode cX1_equal 99 = .ok (.iload_n 1, 1) := zdec_at bX1_equal_89 5 rfl
theorem dX1_equal_100 : decode cX1_equal 100 = .ok (.iload_n 2, 1) := zdec_at bX1_equal_89 6 rfl
theorem dX1_equal_101 : decode cX1_equal 101 = .ok (.iload_n 3, 1) := zdec_at bX1_equal_89 7 rfl
theorem dX1_equal_102 : decode cX1_equal 102 = .ok (.iload 4, 2) := zdec_at bX1_equal_89 8 rfl
theorem dX1_equal_104 : decode cX1_equal 104 = .ok (.invokestatic 415, 3) := zdec_at bX1_equal_89 9 rfl
theorem dX1_equal_107 : decode cX1_equal 107 = .ok (.ireturn, 1) := zdec_at bX1_equal_89 10 rfl
theorem dX1_equal_108 : decode cX1_equal 108 = .ok (.iload_n 1, 1) := zdec_at bX1_equal_89 11 rfl
theorem dX1_equal_109 : decode cX1_equal 109 = .ok (.bipush 7, 2) := zdec_at bX1_equal_89 12 rfl
theorem dX1_equal_111 : decode cX1_equal 111 = .ok (.if_icmp .eq 9, 3) := zdec_at bX1_equal_89 13 rfl
theorem dX1_equal_114 : decode cX1_equal 114 = .ok (.iload_n 3, 1) := zdec_at bX1_equal_89 14 rfl
theorem dX1_equal_115 : decode cX1_equal 115 = .ok (.bipush 7, 2) := zdec_at bX1_equal_89 15 rfl
theorem bX1_equal_117 : zdec cX1_equal 117 [(117, .if_icmp .ne 5, 3), (120, .iconst 0, 1), (121, .ireturn, 1), (122, .aload_n 0, 1), (123, .iload_n 1, 1), (124, .iload_n 2, 1), (125, .invokevirtual 412, 3), (128, .ifCond .ne 5, 3), (131, .iconst 0, 1), (132, .ireturn, 1), (133, .aload_n 0, 1), (134, .getfield 392, 3), (137, .istore 9, 2), (139, .aload_n 0, 1), (140, .iload_n 3, 1), (141, .iload 4, 2)] = true := by decide +kernel
theorem dX1_equal_117 : decode cX1_equal 117 = .ok (.if_icmp .ne 5, 3) := zdec_at bX1_equal_117 0 rfl
theorem dX1_equal_120 : decode cX1_equal 120 = .ok (.iconst 0, 1) := zdec_at bX1_equal_117 1 rfl
theorem dX1_equal_121 : decode cX1_equal 121 = .ok (.ireturn, 1) := zdec_at bX1_equal_117 2 rfl
theorem dX1_equal_122 : decode cX1_equal 122 = .ok (.aload_n 0, 1) := zdec_at bX1_equal_117 3 rfl
theorem dX1_equal_123 : decode cX1_equal 123 = .ok (.iload_n 1, 1) := zdec_at bX1_equal_117 4 rfl
theorem dX1_equal_124 : decode cX1_equal 124 = .ok (.iload_n 2, 1) := zdec_at bX1_equal_117 5 rfl
theorem dX1_equal_125 : decode cX1_equal 125 = .ok (.invokevirtual 412, 3) := zdec_at bX1_equal_117 6 rfl
theorem dX1_equal_128 : decode cX1_equal 128 = .ok (.ifCond .ne 5, 3) := zdec_at bX1_equal_117 7 rfl
theorem dX1_equal_131 : decode cX1_equal 131 = .ok (.iconst 0, 1) := zdec_at bX1_equal_117 8 rfl
theorem dX1_equal_132 : decode cX1_equal 132 = .ok (.ireturn, 1) := zdec_at bX1_equal_117 9 rfl
theorem dX1_equal_133 : decode cX1_equal 133 = .ok (.aload_n 0, 1) := zdec_at bX1_equal_117 10 rfl
theorem dX1_equal_134 : decode cX1_equal 134 = .ok (.getfield 392, 3) := zdec_at bX1_equal_117 11 rfl
theorem dX1_equal_137 : decode cX1_equal 137 = .ok (.istore 9, 2) := zdec_at bX1_equal_117 12 rfl
theorem dX1_equal_139 : decode cX1_equal 139 = .ok (.aload_n 0, 1) := zdec_at bX1_equal_117 13 rfl
theorem dX1_equal_140 : decode cX1_equal 140 = .ok (.iload_n 3, 1) := zdec_at bX1_equal_117 14 rfl
theorem dX1_equal_141 : decode cX1_equal 141 = .ok (.iload 4, 2) := zdec_at bX1_equal_117 15 rfl
theorem bX1_equal_143 : zdec cX1_equal 143 [(143, .invokevirtual 412, 3), (146, .ifCond .eq 16, 3), (149, .aload_n 0, 1), (150, .getfield 392, 3), (153, .iload 9, 2), (155, .if_icmp .ne 7, 3), (158, .iconst 1, 1), (159, .goto 4, 3), (162, .iconst 0, 1), (163, .ireturn, 1)] = true := by decide +kernel
theorem dX1_equal_143 : decode cX1_equal 143 = .ok (.invokevirtual 412, 3) := zdec_at bX1_equal_143 0 rfl
theorem dX1_equal_146 : decode cX1_equal 146 = .ok (.ifCond .eq 16, 3) := zdec_at bX1_equal_143 1 rfl
theorem dX1_equal_149 : decode cX1_equal 149 = .ok (.aload_n 0, 1) := zdec_at bX1_equal_143 2 rfl
theorem dX1_equal_150 : decode cX1_equal 150 = .ok (.getfield 392, 3) := zdec_at bX1_equal_143 3 rfl
theorem dX1_equal_153 : decode cX1_equal 153 = .ok (.iload 9, 2) := zdec_at bX1_equal_143 4 rfl
theorem dX1_equal_155 : decode cX1_equal 155 = .ok (.if_icmp .ne 7, 3) := zdec_at bX1_equal_143 5 rfl
theorem dX1_equal_158 : decode cX1_equal 158 = .ok (.iconst 1, 1) := zdec_at bX1_equal_143 6 rfl
theorem dX1_equal_159 : decode cX1_equal 159 = .ok (.goto 4, 3) := zdec_at bX1_equal_143 7 rfl
theorem dX1_equal_162 : decode cX1_equal 162 = .ok (.iconst 0, 1) := zdec_at bX1_equal_143 8 rfl
theorem dX1_equal_163 : decode cX1_equal 163 = .ok (.ireturn, 1) := zdec_at bX1_equal_143 9 rfl
theorem sX1_equal_0 {E : zE} {d : Nat} {Q : zO → zM → Prop} (M : zM) (l1 : Int32) (l2 : Int32) (l3 : Int32) (l4 : Int32) (hw : cw M) (k : if (2 : Int32) ≤ l1 then (if (2 : Int32) ≤ l3 then (Z E YX1_equal (d + 1) M [(0, vr (some (16, 0, 0))), (1, vi l1), (2, vi l2), (3, vi l3), (4, vi l4), (5, vi (0 : Int32))] 22 [vi (0 : Int32)] Q) else (Z E YX1_equal (d + 1) M [(0, vr (some (16, 0, 0))), (1, vi l1), (2, vi l2), (3, vi l3), (4, vi l4), (5, vi (0 : Int32))] 22 [vi (1 : Int32)] Q)) else (if (2 : Int32) ≤ l3 then (Z E YX1_equal (d + 1) M [(0, vr (some (16, 0, 0))), (1, vi l1), (2, vi l2), (3, vi l3), (4, vi l4), (5, vi (1 : Int32))] 22 [vi (0 : Int32)] Q) else (Z E YX1_equal (d + 1) M [(0, vr (some (16, 0, 0))), (1, vi l1), (2, vi l2), (3, vi l3), (4, vi l4), (5, vi (1 : Int32))] 22 [vi (1 : Int32)] Q))) : Z E YX1_equal (d + 1) M [(0, vr (some (16, 0, 0))), (1, vi l1), (2, vi l2), (3, vi l3), (4, vi l4)] 0 [] Q := by
  refine z_iload_n dX1_equal_0 rfl rfl ?_
  refine z_iconst (v := 2) dX1_equal_1 rfl ?_
  refine z_icmp_ge (tgt := 9) dX1_equal_2 rfl (fun h_ => ?_) (fun h_ => ?_)
  · have k := zit h_ k
    refine z_iconst (v := 0) dX1_equal_9 rfl ?_
    refine z_ist dX1_equal_10 (by decide) (lv' := [(0, vr (some (16, 0, 0))), (1, vi l1), (2, vi l2), (3, vi l3), (4, vi l4), (5, vi (0 : Int32))]) rfl ?_
    refine z_iload_n dX1_equal_12 rfl rfl ?_
    refine z_iconst (v := 2) dX1_equal_13 rfl ?_
    refine z_icmp_ge (tgt := 21) dX1_equal_14 rfl (fun h_ => ?_) (fun h_ => ?_)
    · have k := zit h_ k
      refine z_iconst (v := 0) dX1_equal_21 rfl ?_
      exact k
    · have k := zif h_ k
      refine z_iconst (v := 1) dX1_equal_17 rfl ?_
      refine z_goto (tgt := 22) dX1_equal_18 rfl ?_
      exact k
  · have k := zif h_ k
    refine z_iconst (v := 1) dX1_equal_5 rfl ?_
    refine z_goto (tgt := 10) dX1_equal_6 rfl ?_
    refine z_ist dX1_equal_10 (by decide) (lv' := [(0, vr (some (16, 0, 0))), (1, vi l1), (2, vi l2), (3, vi l3), (4, vi l4), (5, vi (1 : Int32))]) rfl ?_
    refine z_iload_n dX1_equal_12 rfl rfl ?_
    refine z_iconst (v := 2) dX1_equal_13 rfl ?_
    refine z_icmp_ge (tgt := 21) dX1_equal_14 rfl (fun h_ => ?_) (fun h_ => ?_)
    · have k := zit h_ k
      refine z_iconst (v := 0) dX1_equal_21 rfl ?_
      exact k
    · have k := zif h_ k
      refine z_iconst (v := 1) dX1_equal_17 rfl ?_
      refine z_goto (tgt := 22) dX1_equal_18 rfl ?_
      exact k
theorem sX1_equal_22 {E : zE} {d : Nat} {Q : zO → zM → Prop} (M : zM) (l1 : Int32) (l2 : Int32) (l3 : Int32) (l4 : Int32) (l5 : Int32) (s0 : Int32) (hw : cw M) (k : if l5 = 0 then (if s0 = 0 then (if l1 = (3 : Int32) then (Z E YX1_equal (d + 1) M [(0, vr (some (16, 0, 0))), (1, vi l1), (2, vi l2), (3, vi l3), (4, vi l4)] 69 [vi (2 : Int32)] Q) else (if l1 = (4 : Int32) then (Z E YX1_equal (d + 1) M [(0, vr (some (16, 0, 0))), (1, vi l1), (2, vi l2), (3, vi l3), (4, vi l4)] 69 [vi (5 : Int32)] Q) else (Z E YX1_equal (d + 1) M [(0, vr (some (16, 0, 0))), (1, vi l1), (2, vi l2), (3, vi l3), (4, vi l4)] 69 [vi l1] Q))) else (Z E YX1_equal (d + 1) M [(5, vi l5), (6, vi s0)] 34 [] Q)) else (Z E YX1_equal (d + 1) M [(5, vi l5), (6, vi s0)] 34 [] Q)) : Z E YX1_equal (d + 1) M [(0, vr (some (16, 0, 0))), (1, vi l1), (2, vi l2), (3, vi l3), (4, vi l4), (5, vi l5)] 22 [vi s0] Q := by
  refine z_ist dX1_equal_22 (by decide) (lv' := [(0, vr (some (16, 0, 0))), (1, vi l1), (2, vi l2), (3, vi l3), (4, vi l4), (5, vi l5), (6, vi s0)]) rfl ?_
  refine z_iload dX1_equal_24 rfl ?_
  refine z_if_ne (tgt := 34) dX1_equal_26 rfl (fun h_ => ?_) (fun h_ => ?_)
  · have k := zif h_ k
    refine Z.pick [5, 6] rfl ?_
    exact k
  · have k := zit h_ k
    refine z_iload dX1_equal_29 rfl ?_
    refine z_if_eq (tgt := 50) dX1_equal_31 rfl (fun h_ => ?_) (fun h_ => ?_)
    · have k := zit h_ k
      refine z_iload_n dX1_equal_50 rfl rfl ?_
      refine z_iconst (v := 3) dX1_equal_51 rfl ?_
      refine z_icmp_ne (tgt := 59) dX1_equal_52 rfl (fun h_ => ?_) (fun h_ => ?_)
      · have k := zif h_ k
        refine z_iload_n dX1_equal_59 rfl rfl ?_
        refine z_iconst (v := 4) dX1_equal_60 rfl ?_
        refine z_icmp_ne (tgt := 68) dX1_equal_61 rfl (fun h_ => ?_) (fun h_ => ?_)
        · have k := zif h_ k
          refine z_iload_n dX1_equal_68 rfl rfl ?_
          refine Z.pick [0, 1, 2, 3, 4] rfl ?_
          exact k
        · have k := zit h_ k
          refine z_iconst (v := 5) dX1_equal_64 rfl ?_
          refine z_goto (tgt := 69) dX1_equal_65 rfl ?_
          refine Z.pick [0, 1, 2, 3, 4] rfl ?_
          exact k
      · have k := zit h_ k
        refine z_iconst (v := 2) dX1_equal_55 rfl ?_
        refine z_goto (tgt := 69) dX1_equal_56 rfl ?_
        refine Z.pick [0, 1, 2, 3, 4] rfl ?_
        exact k
    · have k := zif h_ k
      refine Z.pick [5, 6] rfl ?_
      exact k
theorem sX1_equal_34 {E : zE} {d : Nat} {Q : zO → zM → Prop} (M : zM) (l5 : Int32) (l6 : Int32) (hw : cw M) (k : if l5 = 0 then (Q (.inl (some (vi (0 : Int32)))) M) else (if l6 = 0 then (Q (.inl (some (vi (0 : Int32)))) M) else (Q (.inl (some (vi (1 : Int32)))) M))) : Z E YX1_equal (d + 1) M [(5, vi l5), (6, vi l6)] 34 [] Q := by
  refine z_iload dX1_equal_34 rfl ?_
  refine z_if_eq (tgt := 48) dX1_equal_36 rfl (fun h_ => ?_) (fun h_ => ?_)
  · have k := zit h_ k
    refine z_iconst (v := 0) dX1_equal_48 rfl ?_
    exact z_iret dX1_equal_49 rfl (by decide) k
  · have k := zif h_ k
    refine z_iload dX1_equal_39 rfl ?_
    refine z_if_eq (tgt := 48) dX1_equal_41 rfl (fun h_ => ?_) (fun h_ => ?_)
    · have k := zit h_ k
      refine z_iconst (v := 0) dX1_equal_48 rfl ?_
      exact z_iret dX1_equal_49 rfl (by decide) k
    · have k := zif h_ k
      refine z_iconst (v := 1) dX1_equal_44 rfl ?_
      refine z_goto (tgt := 49) dX1_equal_45 rfl ?_
      exact z_iret dX1_equal_49 rfl (by decide) k
theorem sX1_equal_69 {E : zE} {d : Nat} {Q : zO → zM → Prop} (M : zM) (l1 : Int32) (l2 : Int32) (l3 : Int32) (l4 : Int32) (s0 : Int32) (hw : cw M) (k : if l3 = (3 : Int32) then (Z E YX1_equal (d + 1) M [(0, vr (some (16, 0, 0))), (1, vi l1), (2, vi l2), (3, vi l3), (4, vi l4), (7, vi s0)] 90 [vi (2 : Int32)] Q) else (if l3 = (4 : Int32) then (Z E YX1_equal (d + 1) M [(0, vr (some (16, 0, 0))), (1, vi l1), (2, vi l2), (3, vi l3), (4, vi l4), (7, vi s0)] 90 [vi (5 : Int32)] Q) else (Z E YX1_equal (d + 1) M [(0, vr (some (16, 0, 0))), (1, vi l1), (2, vi l2), (3, vi l3), (4, vi l4), (7, vi s0)] 90 [vi l3] Q))) : Z E YX1_equal (d + 1) M [(0, vr (some (16, 0, 0))), (1, vi l1), (2, vi l2), (3, vi l3), (4, vi l4)] 69 [vi s0] Q := by
  refine z_ist dX1_equal_69 (by decide) (lv' := [(0, vr (some (16, 0, 0))), (1, vi l1), (2, vi l2), (3, vi l3), (4, vi l4), (7, vi s0)]) rfl ?_
  refine z_iload_n dX1_equal_71 rfl rfl ?_
  refine z_iconst (v := 3) dX1_equal_72 rfl ?_
  refine z_icmp_ne (tgt := 80) dX1_equal_73 rfl (fun h_ => ?_) (fun h_ => ?_)
  · have k := zif h_ k
    refine z_iload_n dX1_equal_80 rfl rfl ?_
    refine z_iconst (v := 4) dX1_equal_81 rfl ?_
    refine z_icmp_ne (tgt := 89) dX1_equal_82 rfl (fun h_ => ?_) (fun h_ => ?_)
    · have k := zif h_ k
      refine z_iload_n dX1_equal_89 rfl rfl ?_
      exact k
    · have k := zit h_ k
      refine z_iconst (v := 5) dX1_equal_85 rfl ?_
      refine z_goto (tgt := 90) dX1_equal_86 rfl ?_
      exact k
  · have k := zit h_ k
    refine z_iconst (v := 2) dX1_equal_76 rfl ?_
    refine z_goto (tgt := 90) dX1_equal_77 rfl ?_
    exact k
theorem sX1_equal_90 {E : zE} {d : Nat} {Q : zO → zM → Prop} (M : zM) (l1 : Int32) (l2 : Int32) (l3 : Int32) (l4 : Int32) (l7 : Int32) (s0 : Int32) (hw : cw M) (k : if l7 = s0 then (Z E YX1_same d M (zargs 0 [vi l1, vi l2, vi l3, vi l4]) 0 [] (zafter E YX1_equal (d + 1) [] 104 3 [] Q)) else (if l1 = (7 : Int32) then (Q (.inl (some (vi (0 : Int32)))) M) else (if l3 = (7 : Int32) then (Q (.inl (some (vi (0 : Int32)))) M) else (Z E YX1_hasNumber d M (zargs 0 [vr (some (16, 0, 0)), vi l1, vi l2]) 0 [] (zafter E YX1_equal (d + 1) [(0, vr (some (16, 0, 0))), (3, vi l3), (4, vi l4)] 125 3 [] Q))))) : Z E YX1_equal (d + 1) M [(0, vr (some (16, 0, 0))), (1, vi l1), (2, vi l2), (3, vi l3), (4, vi l4), (7, vi l7)] 90 [vi s0] Q := by
  refine z_ist dX1_equal_90 (by decide) (lv' := [(0, vr (some (16, 0, 0))), (1, vi l1), (2, vi l2), (3, vi l3), (4, vi l4), (7, vi l7), (8, vi s0)]) rfl ?_
  refine z_iload dX1_equal_92 rfl ?_
  refine z_iload dX1_equal_94 rfl ?_
  refine z_icmp_ne (tgt := 108) dX1_equal_96 rfl (fun h_ => ?_) (fun h_ => ?_)
  · have k := zif h_ k
    refine z_iload_n dX1_equal_108 rfl rfl ?_
    refine z_bipush (v := 7) dX1_equal_109 rfl ?_
    refine z_icmp_eq (tgt := 120) dX1_equal_111 rfl (fun h_ => ?_) (fun h_ => ?_)
    · have k := zit h_ k
      refine z_iconst (v := 0) dX1_equal_120 rfl ?_
      exact z_iret dX1_equal_121 rfl (by decide) k
    · have k := zif h_ k
      refine z_iload_n dX1_equal_114 rfl rfl ?_
      refine z_bipush (v := 7) dX1_equal_115 rfl ?_
      refine z_icmp_ne (tgt := 122) dX1_equal_117 rfl (fun h_ => ?_) (fun h_ => ?_)
      · have k := zif h_ k
        refine z_aload_n dX1_equal_122 rfl rfl ?_
        refine z_iload_n dX1_equal_123 rfl rfl ?_
        refine z_iload_n dX1_equal_124 rfl rfl ?_
        refine Z.pick [0, 3, 4] rfl ?_
        exact z_callV (as := [vi l1, vi l2]) (st := []) dX1_equal_125 vsX1_412_0 (Nat.le_refl _) (Nat.le_of_ble_eq_true rfl) (Nat.le_of_ble_eq_true rfl) rfl k
      · have k := zit h_ k
        refine z_iconst (v := 0) dX1_equal_120 rfl ?_
        exact z_iret dX1_equal_121 rfl (by decide) k
  · have k := zit h_ k
    refine z_iload_n dX1_equal_99 rfl rfl ?_
    refine z_iload_n dX1_equal_100 rfl rfl ?_
    refine z_iload_n dX1_equal_101 rfl rfl ?_
    refine z_iload dX1_equal_102 rfl ?_
    refine Z.pick [] rfl ?_
    exact z_callS (as := [vi l1, vi l2, vi l3, vi l4]) (st := []) dX1_equal_104 ssX1_415 (Nat.le_refl _) (Nat.le_of_ble_eq_true rfl) (Nat.le_of_ble_eq_true rfl) rfl k
theorem sX1_equal_107 {E : zE} {d : Nat} {Q : zO → zM → Prop} (M : zM) (s0 : Int32) (hw : cw M) (k : (narrow .boolean (.int s0) = .int s0) ∧ Q (.inl (some (vi s0))) M) : Z E YX1_equal (d + 1) M [] 107 [vi s0] Q := by
  exact z_iret dX1_equal_107 rfl k.1 k.2
theorem sX1_equal_128 {E : zE} {d : Nat} {Q : zO → zM → Prop} (M : zM) (l3 : Int32) (l4 : Int32) (s0 : Int32) (hw : cw M) (k : if s0 = 0 then (Q (.inl (some (vi (0 : Int32)))) M) else (Z E YX1_hasNumber d M (zargs 0 [vr (some (16, 0, 0)), vi l3, vi l4]) 0 [] (zafter E YX1_equal (d + 1) [(0, vr (some (16, 0, 0))), (9, vi (gi M 16 32))] 143 3 [] Q))) : Z E YX1_equal (d + 1) M [(0, vr (some (16, 0, 0))), (3, vi l3), (4, vi l4)] 128 [vi s0] Q := by
  refine z_if_ne (tgt := 133) dX1_equal_128 rfl (fun h_ => ?_) (fun h_ => ?_)
  · have k := zif h_ k
    refine z_aload_n dX1_equal_133 rfl rfl ?_
    refine z_geti dX1_equal_134 fsX1_392_0 ?_
    refine z_ist dX1_equal_137 (by decide) (lv' := [(0, vr (some (16, 0, 0))), (3, vi l3), (4, vi l4), (9, vi (gi M 16 32))]) rfl ?_
    refine z_aload_n dX1_equal_139 rfl rfl ?_
    refine z_iload_n dX1_equal_140 rfl rfl ?_
    refine z_iload dX1_equal_141 rfl ?_
    refine Z.pick [0, 3] rfl ?_
    exact z_callV (as := [vi l3, vi l4]) (st := []) dX1_equal_143 vsX1_412_0 (Nat.le_refl _) (Nat.le_of_ble_eq_true rfl) (Nat.le_of_ble_eq_true rfl) rfl k
  · have k := zit h_ k
    refine z_iconst (v := 0) dX1_equal_131 rfl ?_
    exact z_iret dX1_equal_132 rfl (by decide) k
theorem sX1_equal_146 {E : zE} {d : Nat} {Q : zO → zM → Prop} (M : zM) (l9 : Int32) (s0 : Int32) (hw : cw M) (k : if s0 = 0 then (Q (.inl (some (vi (0 : Int32)))) M) else (if (gi M 16 32) = l9 then (Q (.inl (some (vi (1 : Int32)))) M) else (Q (.inl (some (vi (0 : Int32)))) M))) : Z E YX1_equal (d + 1) M [(0, vr (some (16, 0, 0))), (9, vi l9)] 146 [vi s0] Q := by
  refine z_if_eq (tgt := 162) dX1_equal_146 rfl (fun h_ => ?_) (fun h_ => ?_)
  · have k := zit h_ k
    refine z_iconst (v := 0) dX1_equal_162 rfl ?_
    exact z_iret dX1_equal_163 rfl (by decide) k
  · have k := zif h_ k
    refine z_aload_n dX1_equal_149 rfl rfl ?_
    refine z_geti dX1_equal_150 fsX1_392_0 ?_
    refine z_iload dX1_equal_153 rfl ?_
    refine z_icmp_ne (tgt := 162) dX1_equal_155 rfl (fun h_ => ?_) (fun h_ => ?_)
    · have k := zif h_ k
      refine z_iconst (v := 0) dX1_equal_162 rfl ?_
      exact z_iret dX1_equal_163 rfl (by decide) k
    · have k := zit h_ k
      refine z_iconst (v := 1) dX1_equal_158 rfl ?_
      refine z_goto (tgt := 163) dX1_equal_159 rfl ?_
      exact z_iret dX1_equal_163 rfl (by decide) k
/-! ScriptTypes.same(IIII)Z -/
theorem bX1_same_0 : zdec cX1_same 0 [(0, .iload_n 0, 1), (1, .iload_n 2, 1), (2, .if_icmp .ne 22, 3), (5, .iload_n 0, 1), (6, .iconst 4, 1), (7, .if_icmp .eq 17, 3), (10, .iload_n 0, 1), (11, .iconst 5, 1), (12, .if_icmp .lt 8, 3), (15, .iload_n 1, 1), (16, .iload_n 3, 1), (17, .if_icmp .ne 7, 3), (20, .iconst 1, 1), (21, .goto 4, 3), (24, .iconst 0, 1), (25, .ireturn, 1)] = true := by decide +kernel
theorem dX1_same_0 : decode cX1_same 0 = .ok (.iload_n 0, 1) := zdec_at bX1_same_0 0 rfl
theorem dX1_same_1 : decode cX1_same 1 = .ok (.iload_n 2, 1) := zdec_at bX1_same_0 1 rfl
theorem dX1_same_2 : decode cX1_same 2 = .ok (.if_icmp .ne 22, 3) := zdec_at bX1_same_0 2 rfl
theorem dX1_same_5 : decode cX1_same 5 = .ok (.iload_n 0, 1) := zdec_at bX1_same_0 3 rfl
theorem dX1_same_6 : decode cX1_same 6 = .ok (.iconst 4, 1) := zdec_at bX1_same_0 4 rfl
theorem dX1_same_7 : decode cX1_same 7 = .ok (.if_icmp .eq 17, 3) := zdec_at bX1_same_0 5 rfl
theorem dX1_same_10 : decode cX1_same 10 = .ok (.iload_n 0, 1) := zdec_at bX1_same_0 6 rfl
theorem dX1_same_11 : decode cX1_same 11 = .ok (.iconst 5, 1) := zdec_at bX1_same_0 7 rfl
theorem dX1_same_12 : decode cX1_same 12 = .ok (.if_icmp .lt 8, 3) := zdec_at bX1_same_0 8 rfl
theorem dX1_same_15 : decode cX1_same 15 = .ok (.iload_n 1, 1) := zdec_at bX1_same_0 9 rfl
theorem dX1_same_16 : decode cX1_same 16 = .ok (.iload_n 3, 1) := zdec_at bX1_same_0 10 rfl
theorem dX1_same_17 : decode cX1_same 17 = .ok (.if_icmp .ne 7, 3) := zdec_at bX1_same_0 11 rfl
theorem dX1_same_20 : decode cX1_same 20 = .ok (.iconst 1, 1) := zdec_at bX1_same_0 12 rfl
theorem dX1_same_21 : decode cX1_same 21 = .ok (.goto 4, 3) := zdec_at bX1_same_0 13 rfl
theorem dX1_same_24 : decode cX1_same 24 = .ok (.iconst 0, 1) := zdec_at bX1_same_0 14 rfl
theorem dX1_same_25 : decode cX1_same 25 = .ok (.ireturn, 1) := zdec_at bX1_same_0 15 rfl
theorem sX1_same_0 {E : zE} {d : Nat} {Q : zO → zM → Prop} (M : zM) (l0 : Int32) (l1 : Int32) (l2 : Int32) (l3 : Int32) (hw : cw M) (k : if l0 = l2 then (if l0 = (4 : Int32) then (Q (.inl (some (vi (0 : Int32)))) M) else (if l0 < (5 : Int32) then (Q (.inl (some (vi (1 : Int32)))) M) else (if l1 = l3 then (Q (.inl (some (vi (1 : Int32)))) M) else (Q (.inl (some (vi (0 : Int32)))) M)))) else (Q (.inl (some (vi (0 : Int32)))) M)) : Z E YX1_same d M [(0, vi l0), (1, vi l1), (2, vi l2), (3, vi l3)] 0 [] Q := by
  refine z_iload_n dX1_same_0 rfl rfl ?_
  refine z_iload_n dX1_same_1 rfl rfl ?_
  refine z_icmp_ne (tgt := 24) dX1_same_2 rfl (fun h_ => ?_) (fun h_ => ?_)
  · have k := zif h_ k
    refine z_iconst (v := 0) dX1_same_24 rfl ?_
    exact z_iret dX1_same_25 rfl (by decide) k
  · have k := zit h_ k
    refine z_iload_n dX1_same_5 rfl rfl ?_
    refine z_iconst (v := 4) dX1_same_6 rfl ?_
    refine z_icmp_eq (tgt := 24) dX1_same_7 rfl (fun h_ => ?_) (fun h_ => ?_)
    · have k := zit h_ k
      refine z_iconst (v := 0) dX1_same_24 rfl ?_
      exact z_iret dX1_same_25 rfl (by decide) k
    · have k := zif h_ k
      refine z_iload_n dX1_same_10 rfl rfl ?_
      refine z_iconst (v := 5) dX1_same_11 rfl ?_
      refine z_icmp_lt (tgt := 20) dX1_same_12 rfl (fun h_ => ?_) (fun h_ => ?_)
      · have k := zit h_ k
        refine z_iconst (v := 1) dX1_same_20 rfl ?_
        refine z_goto (tgt := 25) dX1_same_21 rfl ?_
        exact z_iret dX1_same_25 rfl (by decide) k
      · have k := zif h_ k
        refine z_iload_n dX1_same_15 rfl rfl ?_
        refine z_iload_n dX1_same_16 rfl rfl ?_
        refine z_icmp_ne (tgt := 24) dX1_same_17 rfl (fun h_ => ?_) (fun h_ => ?_)
        · have k := zif h_ k
          refine z_iconst (v := 0) dX1_same_24 rfl ?_
          exact z_iret dX1_same_25 rfl (by decide) k
        · have k := zit h_ k
          refine z_iconst (v := 1) dX1_same_20 rfl ?_
          refine z_goto (tgt := 25) dX1_same_21 rfl ?_
          exact z_iret dX1_same_25 rfl (by decide) k
/-! ScriptTypes.order(IIII)I -/
theorem bX1_order_0 : zdec cX1_order 0 [(0, .iload_n 1, 1), (1, .bipush 6, 2), (3, .if_icmp .ne 122, 3), (6, .iload_n 3, 1), (7, .bipush 6, 2), (9, .if_icmp .ne 116, 3), (12, .aload_n 0, 1), (13, .getfield 19, 3), (16, .iload_n 2, 1), (17, .invokevirtual 23, 3), (20, .aload_n 0, 1), (21, .getfield 19, 3), (24, .iload 4, 2), (26, .invokevirtual 23, 3), (29, .invokestatic 369, 3), (32, .istore 5, 2)] = true := by decide +kernel
theorem dX1_order_0 : decode cX1_order 0 = .ok (.iload_n 1, 1) := zdec_at bX1_order_0 0 rfl
theorem dX1_order_1 : decode cX1_order 1 = .ok (.bipush 6, 2) := zdec_at bX1_order_0 1 rfl
theorem dX1_order_3 : decode cX1_order 3 = .ok (.if_icmp .ne 122, 3) := zdec_at bX1_order_0 2 rfl
theorem dX1_order_6 : decode cX1_order 6 = .ok (.iload_n 3, 1) := zdec_at bX1_order_0 3 rfl
theorem dX1_order_7 : decode cX1_order 7 = .ok (.bipush 6, 2) := zdec_at bX1_order_0 4 rfl
theorem dX1_order_9 : decode cX1_order 9 = .ok (.if_icmp .ne 116, 3) := zdec_at bX1_order_0 5 rfl
theorem dX1_order_12 : decode cX1_order 12 = .ok (.aload_n 0, 1) := zdec_at bX1_order_0 6 rfl
theorem dX1_order_13 : decode cX1_order 13 = .ok (.getfield 19, 3) := zdec_at bX1_order_0 7 rfl
theorem dX1_order_16 : decode cX1_order 16 = .ok (.iload_n 2, 1) := zdec_at bX1_order_0 8 rfl
theorem dX1_order_17 : decode cX1_order 17 = .ok (.invokevirtual 23, 3) := zdec_at bX1_order_0 9 rfl
theorem dX1_order_20 : decode cX1_order 20 = .ok (.aload_n 0, 1) := zdec_at bX1_order_0 10 rfl
theorem dX1_order_21 : decode cX1_order 21 = .ok (.getfield 19, 3) := zdec_at bX1_order_0 11 rfl
theorem dX1_order_24 : decode cX1_order 24 = .ok (.iload 4, 2) := zdec_at bX1_order_0 12 rfl
theorem dX1_order_26 : decode cX1_order 26 = .ok (.invokevirtual 23, 3) := zdec_at bX1_order_0 13 rfl
theorem dX1_order_29 : decode cX1_order 29 = .ok (.invokestatic 369, 3) := zdec_at bX1_order_0 14 rfl
theorem dX1_order_32 : decode cX1_order 32 = .ok (.istore 5, 2) := zdec_at bX1_order_0 15 rfl
theorem bX1_order_34 : zdec cX1_order 34 [(34, .iconst 0, 1), (35, .istore 6, 2), (37, .iload 6, 2), (39, .iload 5, 2), (41, .if_icmp .ge 63, 3), (44, .aload_n 0, 1), (45, .getfield 19, 3), (48, .iload_n 2, 1), (49, .iload 6, 2), (51, .invokevirtual 29, 3), (54, .aload_n 0, 1), (55, .getfield 19, 3), (58, .iload 4, 2), (60, .iload 6, 2), (62, .invokevirtual 29, 3), (65, .if_icmp .eq 33, 3)] = true := by decide +kernel
theorem dX1_order_34 : decode cX1_order 34 = .ok (.iconst 0, 1) := zdec_at bX1_order_34 0 rfl
theorem dX1_order_35 : decode cX1_order 35 = .ok (.istore 6, 2) := zdec_at bX1_order_34 1 rfl
theorem dX1_order_37 : decode cX1_order 37 = .ok (.iload 6, 2) := zdec_at bX1_order_34 2 rfl
theorem dX1_order_39 : decode cX1_order 39 = .ok (.iload 5, 2) := zdec_at bX1_order_34 3 rfl
theorem dX1_order_41 : decode cX1_order 41 = .ok (.if_icmp .ge 63, 3) := zdec_at bX1_order_34 4 rfl
theorem dX1_order_44 : decode cX1_order 44 = .ok (.aload_n 0, 1) := zdec_at bX1_order_34 5 rfl
theorem dX1_order_45 : decode cX1_order 45 = .ok (.getfield 19, 3) := zdec_at bX1_order_34 6 rfl
theorem dX1_order_48 : decode cX1_order 48 = .ok (.iload_n 2, 1) := zdec_at bX1_order_34 7 rfl
theorem dX1_order_49 : decode cX1_order 49 = .ok (.iload 6, 2) := zdec_at bX1_order_34 8 rfl
theorem dX1_order_51 : decode cX1_order 51 = .ok (.invokevirtual 29, 3) := zdec_at bX1_order_34 9 rfl
theorem dX1_order_54 : decode cX1_order 54 = .ok (.aload_n 0, 1) := zdec_at bX1_order_34 10 rfl
theorem dX1_order_55 : decode cX1_order 55 = .ok (.getfield 19, 3) := zdec_at bX1_order_34 11 rfl
theorem dX1_order_58 : decode cX1_order 58 = .ok (.iload 4, 2) := zdec_at bX1_order_34 12 rfl
theorem dX1_order_60 : decode cX1_order 60 = .ok (.iload 6, 2) := zdec_at bX1_order_34 13 rfl
theorem dX1_order_62 : decode cX1_order 62 = .ok (.invokevirtual 29, 3) := zdec_at bX1_order_34 14 rfl
theorem dX1_order_65 : decode cX1_order 65 = .ok (.if_icmp .eq 33, 3) := zdec_at bX1_order_34 15 rfl
theorem bX1_order_68 : zdec cX1_order 68 [(68, .aload_n 0, 1), (69, .getfield 19, 3), (72, .iload_n 2, 1), (73, .iload 6, 2), (75, .invokevirtual 29, 3), (78, .aload_n 0, 1), (79, .getfield 19, 3), (82, .iload 4, 2), (84, .iload 6, 2), (86, .invokevirtual 29, 3), (89, .if_icmp .ge 7, 3), (92, .iconst (-1), 1), (93, .goto 4, 3), (96, .iconst 1, 1), (97, .ireturn, 1), (98, .iinc 6 1, 3)] = true := by decide +kernel
theorem dX1_order_68 : decode cX1_order 68 = .ok (.aload_n 0, 1) := zdec_at bX1_order_68 0 rfl
theorem dX1_order_69 : decode cX1_order 69 = .ok (.getfield 19, 3) := zdec_at bX1_order_68 1 rfl
theorem dX1_order_72 : decode cX1_order 72 = .ok (.iload_n 2, 1) := zdec_at bX1_order_68 2 rfl
theorem dX1_order_73 : decode cX1_order 73 = .ok (.iload 6, 2) := zdec_at bX1_order_68 3 rfl
theorem dX1_order_75 : decode cX1_order 75 = .ok (.invokevirtual 29, 3) := zdec_at bX1_order_68 4 rfl
theorem dX1_order_78 : decode cX1_order 78 = .ok (.aload_n 0, 1) := zdec_at bX1_order_68 5 rfl
theorem dX1_order_79 : decode cX1_order 79 = .ok (.getfield 19, 3) := zdec_at bX1_order_68 6 rfl
theorem dX1_order_82 : decode cX1_order 82 = .ok (.iload 4, 2) := zdec_at bX1_order_68 7 rfl
theorem dX1_order_84 : decode cX1_order 84 = .ok (.iload 6, 2) := zdec_at bX1_order_68 8 rfl
theorem dX1_order_86 : decode cX1_order 86 = .ok (.invokevirtual 29, 3) := zdec_at bX1_order_68 9 rfl
theorem dX1_order_89 : decode cX1_order 89 = .ok (.if_icmp .ge 7, 3) := zdec_at bX1_order_68 10 rfl
theorem dX1_order_92 : decode cX1_order 92 = .ok (.iconst (-1), 1) := zdec_at bX1_order_68 11 rfl
theorem dX1_order_93 : decode cX1_order 93 = .ok (.goto 4, 3) := zdec_at bX1_order_68 12 rfl
theorem dX1_order_96 : decode cX1_order 96 = .ok (.iconst 1, 1) := zdec_at bX1_order_68 13 rfl
theorem dX1_order_97 : decode cX1_order 97 = .ok (.ireturn, 1) := zdec_at bX1_order_68 14 rfl
theorem dX1_order_98 : decode cX1_order 98 = .ok (.iinc 6 1, 3) := zdec_at bX1_order_68 15 rfl
theorem bX1_order_101 : zdec cX1_order 101 [(101, .goto (-64), 3), (104, .aload_n 0, 1), (105, .getfield 19, 3), (108, .iload_n 2, 1), (109, .invokevirtual 23, 3), (112, .aload_n 0, 1), (113, .getfield 19, 3), (116, .iload 4, 2), (118, .invokevirtual 23, 3), (121, .invokestatic 419, 3), (124, .ireturn, 1), (125, .aload_n 0, 1), (126, .iload_n 1, 1), (127, .iload_n 2, 1), (128, .invokevirtual 412, 3), (131, .ifCond .ne 5, 3)] = true := by decide +kernel
theorem dX1_order_101 : decode cX1_order 101 = .ok (.goto (-64), 3) := zdec_at bX1_order_101 0 rfl
theorem dX1_order_104 : decode cX1_order 104 = .ok (.aload_n 0, 1) := zdec_at bX1_order_101 1 rfl
theorem dX1_order_105 : decode cX1_order 105 = .ok (.getfield 19, 3) := zdec_at bX1_order_101 2 rfl
theorem dX1_order_108 : decode cX1_order 108 = .ok (.iload_n 2, 1) := zdec_at bX1_order_101 3 rfl
theorem dX1_order_109 : decode cX1_order 109 = .ok (.invokevirtual 23, 3) := zdec_at bX1_order_101 4 rfl
theorem dX1_order_112 : decode cX1_order 112 = .ok (.aload_n 0, 1) := zdec_at bX1_order_101 5 rfl
theorem dX1_order_113 : decode cX1_order 113 = .ok (.getfield 19, 3) := zdec_at bX1_order_101 6 rfl
theorem dX1_order_116 : decode cX1_order 116 = .ok (.iload 4, 2) := zdec_at bX1_order_101 7 rfl
theorem dX1_order_118 : decode cX1_order 118 = .ok (.invokevirtual 23, 3) := zdec_at bX1_order_101 8 rfl
theorem dX1_order_121 : decode cX1_order 121 = .ok (.invokestatic 419, 3) := zdec_at bX1_order_101 9 rfl
theorem dX1_order_124 : decode cX1_order 124 = .ok (.ireturn, 1) := zdec_at bX1_order_101 10 rfl
theorem dX1_order_125 : decode cX1_order 125 = .ok (.aload_n 0, 1) := zdec_at bX1_order_101 11 rfl
theorem dX1_order_126 : decode cX1_order 126 = .ok (.iload_n 1, 1) := zdec_at bX1_order_101 12 rfl
theorem dX1_order_127 : decode cX1_order 127 = .ok (.iload_n 2, 1) := zdec_at bX1_order_101 13 rfl
theorem dX1_order_128 : decode cX1_order 128 = .ok (.invokevirtual 412, 3) := zdec_at bX1_order_101 14 rfl
theorem dX1_order_131 : decode cX1_order 131 = .ok (.ifCond .ne 5, 3) := zdec_at bX1_order_101 15 rfl
theorem bX1_order_134 : zdec cX1_order 134 [(134, .iconst 2, 1), (135, .ireturn, 1), (136, .aload_n 0, 1), (137, .getfield 392, 3), (140, .istore 5, 2), (142, .aload_n 0, 1), (143, .iload_n 3, 1), (144, .iload 4, 2), (146, .invokevirtual 412, 3), (149, .ifCond .eq 15, 3), (152, .iload 5, 2), (154, .aload_n 0, 1), (155, .getfield 392, 3), (158, .invokestatic 419, 3), (161, .goto 4, 3), (164, .iconst 2, 1)] = true := by decide +kernel
theorem dX1_order_134 : decode cX1_order 134 = .ok (.iconst 2, 1) := zdec_at bX1_order_134 0 rfl
theorem dX1_order_135 : decode cX1_order 135 = .ok (.ireturn, 1) := zdec_at bX1_order_134 1 rfl
theorem dX1_order_136 : decode cX1_order 136 = .ok (.aload_n 0, 1) := zdec_at bX1_order_134 2 rfl
theorem dX1_order_137 : decode cX1_order 137 = .ok (.getfield 392, 3) := zdec_at bX1_order_134 3 rfl
theorem dX1_order_140 : decode cX1_order 140 = .ok (.istore 5, 2) := zdec_at bX1_order_134 4 rfl
theorem dX1_order_142 : decode cX1_order 142 = .ok (.aload_n 0, 1) := zdec_at bX1_order_134 5 rfl
theorem dX1_order_143 : decode cX1_order 143 = .ok (.iload_n 3, 1) := zdec_at bX1_order_134 6 rfl
theorem dX1_order_144 : decode cX1_order 144 = .ok (.iload 4, 2) := zdec_at bX1_order_134 7 rfl
theorem dX1_order_146 : decode cX1_order 146 = .ok (.invokevirtual 412, 3) := zdec_at bX1_order_134 8 rfl
theorem dX1_order_149 : decode cX1_order 149 = .ok (.ifCond .eq 15, 3) := zdec_at bX1_order_134 9 rfl
theorem dX1_order_152 : decode cX1_order 152 = .ok (.iload 5, 2) := zdec_at bX1_order_134 10 rfl
theorem dX1_order_154 : decode cX1_order 154 = .ok (.aload_n 0, 1) := zdec_at bX1_order_134 11 rfl
theorem dX1_order_155 : decode cX1_order 155 = .ok (.getfield 392, 3) := zdec_at bX1_order_134 12 rfl
theorem dX1_order_158 : decode cX1_order 158 = .ok (.invokestatic 419, 3) := zdec_at bX1_order_134 13 rfl
theorem dX1_order_161 : decode cX1_order 161 = .ok (.goto 4, 3) := zdec_at bX1_order_134 14 rfl
theorem dX1_order_164 : decode cX1_order 164 = .ok (.iconst 2, 1) := zdec_at bX1_order_134 15 rfl
theorem bX1_order_165 : zdec cX1_order 165 [(165, .ireturn, 1)] = true := by decide +kernel
theorem dX1_order_165 : decode cX1_order 165 = .ok (.ireturn, 1) := zdec_at bX1_order_165 0 rfl
theorem sX1_order_0 {E : zE} {d : Nat} {Q : zO → zM → Prop} (M : zM) (l1 : Int32) (l2 : Int32) (l3 : Int32) (l4 : Int32) (hw : cw M) (k : if l1 = (6 : Int32) then (if l3 = (6 : Int32) then (Z E YX2_length d M (zargs 0 [vr (some (17, 2, 0)), vi l2]) 0 [] (zafter E YX1_order (d + 1) [(0, vr (some (16, 0, 0))), (2, vi l2), (4, vi l4)] 17 3 [] Q)) else (Z E YX1_hasNumber d M (zargs 0 [vr (some (16, 0, 0)), vi l1, vi l2]) 0 [] (zafter E YX1_order (d + 1) [(0, vr (some (16, 0, 0))), (3, vi l3), (4, vi l4)] 128 3 [] Q))) else (Z E YX1_hasNumber d M (zargs 0 [vr (some (16, 0, 0)), vi l1, vi l2]) 0 [] (zafter E YX1_order (d + 1) [(0, vr (some (16, 0, 0))), (3, vi l3), (4, vi l4)] 128 3 [] Q))) : Z E YX1_order (d + 1) M [(0, vr (some (16, 0, 0))), (1, vi l1), (2, vi l2), (3, vi l3), (4, vi l4)] 0 [] Q := by
  refine z_iload_n dX1_order_0 rfl rfl ?_
  refine z_bipush (v := 6) dX1_order_1 rfl ?_
  refine z_icmp_ne (tgt := 125) dX1_order_3 rfl (fun h_ => ?_) (fun h_ => ?_)
  · have k := zif h_ k
    refine z_aload_n dX1_order_125 rfl rfl ?_
    refine z_iload_n dX1_order_126 rfl rfl ?_
    refine z_iload_n dX1_order_127 rfl rfl ?_
    refine Z.pick [0, 3, 4] rfl ?_
    exact z_callV (as := [vi l1, vi l2]) (st := []) dX1_order_128 vsX1_412_0 (Nat.le_refl _) (Nat.le_of_ble_eq_true rfl) (Nat.le_of_ble_eq_true rfl) rfl k
  · have k := zit h_ k
    refine z_iload_n dX1_order_6 rfl rfl ?_
    refine z_bipush (v := 6) dX1_order_7 rfl ?_
    refine z_icmp_ne (tgt := 125) dX1_order_9 rfl (fun h_ => ?_) (fun h_ => ?_)
    · have k := zif h_ k
      refine z_aload_n dX1_order_125 rfl rfl ?_
      refine z_iload_n dX1_order_126 rfl rfl ?_
      refine z_iload_n dX1_order_127 rfl rfl ?_
      refine Z.pick [0, 3, 4] rfl ?_
      exact z_callV (as := [vi l1, vi l2]) (st := []) dX1_order_128 vsX1_412_0 (Nat.le_refl _) (Nat.le_of_ble_eq_true rfl) (Nat.le_of_ble_eq_true rfl) rfl k
    · have k := zit h_ k
      refine z_aload_n dX1_order_12 rfl rfl ?_
      refine z_getr dX1_order_13 fsX1_19_0 (show gr M 16 0 = some (17, 2, 0) from cw_at hw 0 rfl) ?_
      refine z_iload_n dX1_order_16 rfl rfl ?_
      refine Z.pick [0, 2, 4] rfl ?_
      exact z_callV (as := [vi l2]) (st := []) dX1_order_17 vsX1_23_2 (Nat.le_refl _) (Nat.le_of_ble_eq_true rfl) (Nat.le_of_ble_eq_true rfl) rfl k
theorem sX1_order_20 {E : zE} {d : Nat} {Q : zO → zM → Prop} (M : zM) (l2 : Int32) (l4 : Int32) (s0 : Int32) (hw : cw M) (k : Z E YX2_length d M (zargs 0 [vr (some (17, 2, 0)), vi l4]) 0 [] (zafter E YX1_order (d + 1) [(0, vr (some (16, 0, 0))), (2, vi l2), (4, vi l4)] 26 3 [vi s0] Q)) : Z E YX1_order (d + 1) M [(0, vr (some (16, 0, 0))), (2, vi l2), (4, vi l4)] 20 [vi s0] Q := by
  refine z_aload_n dX1_order_20 rfl rfl ?_
  refine z_getr dX1_order_21 fsX1_19_0 (show gr M 16 0 = some (17, 2, 0) from cw_at hw 0 rfl) ?_
  refine z_iload dX1_order_24 rfl ?_
  exact z_callV (as := [vi l4]) (st := [vi s0]) dX1_order_26 vsX1_23_2 (Nat.le_refl _) (Nat.le_of_ble_eq_true rfl) (Nat.le_of_ble_eq_true rfl) rfl k
theorem sX1_order_29 {E : zE} {d : Nat} {Q : zO → zM → Prop} (M : zM) (l2 : Int32) (l4 : Int32) (s0 : Int32) (s1 : Int32) (hw : cw M) (k : Z E YJ11_min d M (zargs 0 [vi s1, vi s0]) 0 [] (zafter E YX1_order (d + 1) [(0, vr (some (16, 0, 0))), (2, vi l2), (4, vi l4)] 29 3 [] Q)) : Z E YX1_order (d + 1) M [(0, vr (some (16, 0, 0))), (2, vi l2), (4, vi l4)] 29 [vi s0, vi s1] Q := by
  exact z_callS (as := [vi s1, vi s0]) (st := []) dX1_order_29 ssX1_369 (Nat.le_refl _) (Nat.le_of_ble_eq_true rfl) (Nat.le_of_ble_eq_true rfl) rfl k
theorem sX1_order_32 {E : zE} {d : Nat} {Q : zO → zM → Prop} (M : zM) (l2 : Int32) (l4 : Int32) (s0 : Int32) (hw : cw M) (k : Z E YX1_order (d + 1) M [(0, vr (some (16, 0, 0))), (2, vi l2), (4, vi l4), (5, vi s0), (6, vi (0 : Int32))] 37 [] Q) : Z E YX1_order (d + 1) M [(0, vr (some (16, 0, 0))), (2, vi l2), (4, vi l4)] 32 [vi s0] Q := by
  refine z_ist dX1_order_32 (by decide) (lv' := [(0, vr (some (16, 0, 0))), (2, vi l2), (4, vi l4), (5, vi s0)]) rfl ?_
  refine z_iconst (v := 0) dX1_order_34 rfl ?_
  refine z_ist dX1_order_35 (by decide) (lv' := [(0, vr (some (16, 0, 0))), (2, vi l2), (4, vi l4), (5, vi s0), (6, vi (0 : Int32))]) rfl ?_
  exact k
theorem sX1_order_37 {E : zE} {d : Nat} {Q : zO → zM → Prop} (M : zM) (l2 : Int32) (l4 : Int32) (l5 : Int32) (l6 : Int32) (hw : cw M) (k : if l5 ≤ l6 then (Z E YX2_length d M (zargs 0 [vr (some (17, 2, 0)), vi l2]) 0 [] (zafter E YX1_order (d + 1) [(0, vr (some (16, 0, 0))), (4, vi l4)] 109 3 [] Q)) else (Z E YX2_sign d M (zargs 0 [vr (some (17, 2, 0)), vi l2, vi l6]) 0 [] (zafter E YX1_order (d + 1) [(0, vr (some (16, 0, 0))), (2, vi l2), (4, vi l4), (5, vi l5), (6, vi l6)] 51 3 [] Q))) : Z E YX1_order (d + 1) M [(0, vr (some (16, 0, 0))), (2, vi l2), (4, vi l4), (5, vi l5), (6, vi l6)] 37 [] Q := by
  refine z_iload dX1_order_37 rfl ?_
  refine z_iload dX1_order_39 rfl ?_
  refine z_icmp_ge (tgt := 104) dX1_order_41 rfl (fun h_ => ?_) (fun h_ => ?_)
  · have k := zit h_ k
    refine z_aload_n dX1_order_104 rfl rfl ?_
    refine z_getr dX1_order_105 fsX1_19_0 (show gr M 16 0 = some (17, 2, 0) from cw_at hw 0 rfl) ?_
    refine z_iload_n dX1_order_108 rfl rfl ?_
    refine Z.pick [0, 2] rfl ?_
    exact z_callV (as := [vi l2]) (st := []) dX1_order_109 vsX1_23_2 (Nat.le_refl _) (Nat.le_of_ble_eq_true rfl) (Nat.le_of_ble_eq_true rfl) rfl k
  · have k := zif h_ k
    refine z_aload_n dX1_order_44 rfl rfl ?_
    refine z_getr dX1_order_45 fsX1_19_0 (show gr M 16 0 = some (17, 2, 0) from cw_at hw 0 rfl) ?_
    refine z_iload_n dX1_order_48 rfl rfl ?_
    refine z_iload dX1_order_49 rfl ?_
    exact z_callV (as := [vi l2, vi l6]) (st := []) dX1_order_51 vsX1_29_2 (Nat.le_refl _) (Nat.le_of_ble_eq_true rfl) (Nat.le_of_ble_eq_true rfl) rfl k
theorem sX1_order_54 {E : zE} {d : Nat} {Q : zO → zM → Prop} (M : zM) (l2 : Int32) (l4 : Int32) (l5 : Int32) (l6 : Int32) (s0 : Int32) (hw : cw M) (k : Z E YX2_sign d M (zargs 0 [vr (some (17, 2, 0)), vi l4, vi l6]) 0 [] (zafter E YX1_order (d + 1) [(0, vr (some (16, 0, 0))), (2, vi l2), (4, vi l4), (5, vi l5), (6, vi l6)] 62 3 [vi s0] Q)) : Z E YX1_order (d + 1) M [(0, vr (some (16, 0, 0))), (2, vi l2), (4, vi l4), (5, vi l5), (6, vi l6)] 54 [vi s0] Q := by
  refine z_aload_n dX1_order_54 rfl rfl ?_
  refine z_getr dX1_order_55 fsX1_19_0 (show gr M 16 0 = some (17, 2, 0) from cw_at hw 0 rfl) ?_
  refine z_iload dX1_order_58 rfl ?_
  refine z_iload dX1_order_60 rfl ?_
  exact z_callV (as := [vi l4, vi l6]) (st := [vi s0]) dX1_order_62 vsX1_29_2 (Nat.le_refl _) (Nat.le_of_ble_eq_true rfl) (Nat.le_of_ble_eq_true rfl) rfl k
theorem sX1_order_65 {E : zE} {d : Nat} {Q : zO → zM → Prop} (M : zM) (l2 : Int32) (l4 : Int32) (l5 : Int32) (l6 : Int32) (s0 : Int32) (s1 : Int32) (hw : cw M) (k : if s1 = s0 then (Z E YX1_order (d + 1) M [(0, vr (some (16, 0, 0))), (2, vi l2), (4, vi l4), (5, vi l5), (6, vi (l6 + (1 : Int32)))] 37 [] Q) else (Z E YX2_sign d M (zargs 0 [vr (some (17, 2, 0)), vi l2, vi l6]) 0 [] (zafter E YX1_order (d + 1) [(0, vr (some (16, 0, 0))), (4, vi l4), (6, vi l6)] 75 3 [] Q))) : Z E YX1_order (d + 1) M [(0, vr (some (16, 0, 0))), (2, vi l2), (4, vi l4), (5, vi l5), (6, vi l6)] 65 [vi s0, vi s1] Q := by
  refine z_icmp_eq (tgt := 98) dX1_order_65 rfl (fun h_ => ?_) (fun h_ => ?_)
  · have k := zit h_ k
    refine z_inc (v := (l6 + (1 : Int32))) dX1_order_98 rfl rfl (by decide) (lv' := [(0, vr (some (16, 0, 0))), (2, vi l2), (4, vi l4), (5, vi l5), (6, vi (l6 + (1 : Int32)))]) rfl ?_
    refine z_goto (tgt := 37) dX1_order_101 rfl ?_
    exact k
  · have k := zif h_ k
    refine z_aload_n dX1_order_68 rfl rfl ?_
    refine z_getr dX1_order_69 fsX1_19_0 (show gr M 16 0 = some (17, 2, 0) from cw_at hw 0 rfl) ?_
    refine z_iload_n dX1_order_72 rfl rfl ?_
    refine z_iload dX1_order_73 rfl ?_
    refine Z.pick [0, 2, 4] rfl ?_
    exact z_callV (as := [vi l2, vi l6]) (st := []) dX1_order_75 vsX1_29_2 (Nat.le_refl _) (Nat.le_of_ble_eq_true rfl) (Nat.le_of_ble_eq_true rfl) rfl k
theorem sX1_order_78 {E : zE} {d : Nat} {Q : zO → zM → Prop} (M : zM) (l4 : Int32) (l6 : Int32) (s0 : Int32) (hw : cw M) (k : Z E YX2_sign d M (zargs 0 [vr (some (17, 2, 0)), vi l4, vi l6]) 0 [] (zafter E YX1_order (d + 1) [] 86 3 [vi s0] Q)) : Z E YX1_order (d + 1) M [(0, vr (some (16, 0, 0))), (4, vi l4), (6, vi l6)] 78 [vi s0] Q := by
  refine z_aload_n dX1_order_78 rfl rfl ?_
  refine z_getr dX1_order_79 fsX1_19_0 (show gr M 16 0 = some (17, 2, 0) from cw_at hw 0 rfl) ?_
  refine z_iload dX1_order_82 rfl ?_
  refine z_iload dX1_order_84 rfl ?_
  refine Z.pick [] rfl ?_
  exact z_callV (as := [vi l4, vi l6]) (st := [vi s0]) dX1_order_86 vsX1_29_2 (Nat.le_refl _) (Nat.le_of_ble_eq_true rfl) (Nat.le_of_ble_eq_true rfl) rfl k
theorem sX1_order_89 {E : zE} {d : Nat} {Q : zO → zM → Prop} (M : zM) (s0 : Int32) (s1 : Int32) (hw : cw M) (k : if s0 ≤ s1 then (Q (.inl (some (vi (1 : Int32)))) M) else (Q (.inl (some (vi (-1 : Int32)))) M)) : Z E YX1_order (d + 1) M [] 89 [vi s0, vi s1] Q := by
  refine z_icmp_ge (tgt := 96) dX1_order_89 rfl (fun h_ => ?_) (fun h_ => ?_)
  · have k := zit h_ k
    refine z_iconst (v := 1) dX1_order_96 rfl ?_
    exact z_iret dX1_order_97 rfl rfl k
  · have k := zif h_ k
    refine z_iconst (v := -1) dX1_order_92 rfl ?_
    refine z_goto (tgt := 97) dX1_order_93 rfl ?_
    exact z_iret dX1_order_97 rfl rfl k
theorem sX1_order_112 {E : zE} {d : Nat} {Q : zO → zM → Prop} (M : zM) (l4 : Int32) (s0 : Int32) (hw : cw M) (k : Z E YX2_length d M (zargs 0 [vr (some (17, 2, 0)), vi l4]) 0 [] (zafter E YX1_order (d + 1) [] 118 3 [vi s0] Q)) : Z E YX1_order (d + 1) M [(0, vr (some (16, 0, 0))), (4, vi l4)] 112 [vi s0] Q := by
  refine z_aload_n dX1_order_112 rfl rfl ?_
  refine z_getr dX1_order_113 fsX1_19_0 (show gr M 16 0 = some (17, 2, 0) from cw_at hw 0 rfl) ?_
  refine z_iload dX1_order_116 rfl ?_
  refine Z.pick [] rfl ?_
  exact z_callV (as := [vi l4]) (st := [vi s0]) dX1_order_118 vsX1_23_2 (Nat.le_refl _) (Nat.le_of_ble_eq_true rfl) (Nat.le_of_ble_eq_true rfl) rfl k
theorem sX1_order_121 {E : zE} {d : Nat} {Q : zO → zM → Prop} (M : zM) (s0 : Int32) (s1 : Int32) (hw : cw M) (k : Z E YJ16_compare d M (zargs 0 [vi s1, vi s0]) 0 [] (zafter E YX1_order (d + 1) [] 121 3 [] Q)) : Z E YX1_order (d + 1) M [] 121 [vi s0, vi s1] Q := by
  exact z_callS (as := [vi s1, vi s0]) (st := []) dX1_order_121 ssX1_419 (Nat.le_refl _) (Nat.le_of_ble_eq_true rfl) (Nat.le_of_ble_eq_true rfl) rfl k
theorem sX1_order_124 {E : zE} {d : Nat} {Q : zO → zM → Prop} (M : zM) (s0 : Int32) (hw : cw M) (k : Q (.inl (some (vi s0))) M) : Z E YX1_order (d + 1) M [] 124 [vi s0] Q := by
  exact z_iret dX1_order_124 rfl rfl k
theorem sX1_order_131 {E : zE} {d : Nat} {Q : zO → zM → Prop} (M : zM) (l3 : Int32) (l4 : Int32) (s0 : Int32) (hw : cw M) (k : if s0 = 0 then (Q (.inl (some (vi (2 : Int32)))) M) else (Z E YX1_hasNumber d M (zargs 0 [vr (some (16, 0, 0)), vi l3, vi l4]) 0 [] (zafter E YX1_order (d + 1) [(0, vr (some (16, 0, 0))), (5, vi (gi M 16 32))] 146 3 [] Q))) : Z E YX1_order (d + 1) M [(0, vr (some (16, 0, 0))), (3, vi l3), (4, vi l4)] 131 [vi s0] Q := by
  refine z_if_ne (tgt := 136) dX1_order_131 rfl (fun h_ => ?_) (fun h_ => ?_)
  · have k := zif h_ k
    refine z_aload_n dX1_order_136 rfl rfl ?_
    refine z_geti dX1_order_137 fsX1_392_0 ?_
    refine z_ist dX1_order_140 (by decide) (lv' := [(0, vr (some (16, 0, 0))), (3, vi l3), (4, vi l4), (5, vi (gi M 16 32))]) rfl ?_
    refine z_aload_n dX1_order_142 rfl rfl ?_
    refine z_iload_n dX1_order_143 rfl rfl ?_
    refine z_iload dX1_order_144 rfl ?_
    refine Z.pick [0, 3] rfl ?_
    exact z_callV (as := [vi l3, vi l4]) (st := []) dX1_order_146 vsX1_412_0 (Nat.le_refl _) (Nat.le_of_ble_eq_true rfl) (Nat.le_of_ble_eq_true rfl) rfl k
  · have k := zit h_ k
    refine z_iconst (v := 2) dX1_order_134 rfl ?_
    exact z_iret dX1_order_135 rfl rfl k
theorem sX1_order_149 {E : zE} {d : Nat} {Q : zO → zM → Prop} (M : zM) (l5 : Int32) (s0 : Int32) (hw : cw M) (k : if s0 = 0 then (Q (.inl (some (vi (2 : Int32)))) M) else (Z E YJ16_compare d M (zargs 0 [vi l5, vi (gi M 16 32)]) 0 [] (zafter E YX1_order (d + 1) [] 158 3 [] Q))) : Z E YX1_order (d + 1) M [(0, vr (some (16, 0, 0))), (5, vi l5)] 149 [vi s0] Q := by
  refine z_if_eq (tgt := 164) dX1_order_149 rfl (fun h_ => ?_) (fun h_ => ?_)
  · have k := zit h_ k
    refine z_iconst (v := 2) dX1_order_164 rfl ?_
    exact z_iret dX1_order_165 rfl rfl k
  · have k := zif h_ k
    refine z_iload dX1_order_152 rfl ?_
    refine z_aload_n dX1_order_154 rfl rfl ?_
    refine z_geti dX1_order_155 fsX1_392_0 ?_
    refine Z.pick [] rfl ?_
    exact z_callS (as := [vi l5, vi (gi M 16 32)]) (st := []) dX1_order_158 ssX1_419 (Nat.le_refl _) (Nat.le_of_ble_eq_true rfl) (Nat.le_of_ble_eq_true rfl) rfl k
theorem sX1_order_161 {E : zE} {d : Nat} {Q : zO → zM → Prop} (M : zM) (s0 : Int32) (hw : cw M) (k : Q (.inl (some (vi s0))) M) : Z E YX1_order (d + 1) M [] 161 [vi s0] Q := by
  refine z_goto (tgt := 165) dX1_order_161 rfl ?_
  exact z_iret dX1_order_165 rfl rfl k
/-! ScriptTypes.readsKey()V -/
theorem bX1_readsKey_0 : zdec cX1_readsKey 0 [(0, .aload_n 0, 1), (1, .aload_n 0, 1), (2, .getfield 148, 3), (5, .aload_n 0, 1), (6, .getfield 440, 3), (9, .iconst 2, 1), (10, .isub, 1), (11, .baload, 1), (12, .aload_n 0, 1), (13, .getfield 151, 3), (16, .aload_n 0, 1), (17, .getfield 440, 3), (20, .iconst 2, 1), (21, .isub, 1), (22, .iaload, 1), (23, .invokevirtual 541, 3)] = true := by decide +kernel
theorem dX1_readsKey_0 : decode cX1_readsKey 0 = .ok (.aload_n 0, 1) := zdec_at bX1_readsKey_0 0 rfl
theorem dX1_readsKey_1 : decode cX1_readsKey 1 = .ok (.aload_n 0, 1) := zdec_at bX1_readsKey_0 1 rfl
theorem dX1_readsKey_2 : decode cX1_readsKey 2 = .ok (.getfield 148, 3) := zdec_at bX1_readsKey_0 2 rfl
theorem dX1_readsKey_5 : decode cX1_readsKey 5 = .ok (.aload_n 0, 1) := zdec_at bX1_readsKey_0 3 rfl
theorem dX1_readsKey_6 : decode cX1_readsKey 6 = .ok (.getfield 440, 3) := zdec_at bX1_readsKey_0 4 rfl
theorem dX1_readsKey_9 : decode cX1_readsKey 9 = .ok (.iconst 2, 1) := zdec_at bX1_readsKey_0 5 rfl
theorem dX1_readsKey_10 : decode cX1_readsKey 10 = .ok (.isub, 1) := zdec_at bX1_readsKey_0 6 rfl
theorem dX1_readsKey_11 : decode cX1_readsKey 11 = .ok (.baload, 1) := zdec_at bX1_readsKey_0 7 rfl
theorem dX1_readsKey_12 : decode cX1_readsKey 12 = .ok (.aload_n 0, 1) := zdec_at bX1_readsKey_0 8 rfl
theorem dX1_readsKey_13 : decode cX1_readsKey 13 = .ok (.getfield 151, 3) := zdec_at bX1_readsKey_0 9 rfl
theorem dX1_readsKey_16 : decode cX1_readsKey 16 = .ok (.aload_n 0, 1) := zdec_at bX1_readsKey_0 10 rfl
theorem dX1_readsKey_17 : decode cX1_readsKey 17 = .ok (.getfield 440, 3) := zdec_at bX1_readsKey_0 11 rfl
theorem dX1_readsKey_20 : decode cX1_readsKey 20 = .ok (.iconst 2, 1) := zdec_at bX1_readsKey_0 12 rfl
theorem dX1_readsKey_21 : decode cX1_readsKey 21 = .ok (.isub, 1) := zdec_at bX1_readsKey_0 13 rfl
theorem dX1_readsKey_22 : decode cX1_readsKey 22 = .ok (.iaload, 1) := zdec_at bX1_readsKey_0 14 rfl
theorem dX1_readsKey_23 : decode cX1_readsKey 23 = .ok (.invokevirtual 541, 3) := zdec_at bX1_readsKey_0 15 rfl
theorem bX1_readsKey_26 : zdec cX1_readsKey 26 [(26, .istore_n 1, 1), (27, .aload_n 0, 1), (28, .getfield 148, 3), (31, .aload_n 0, 1), (32, .getfield 440, 3), (35, .iconst 1, 1), (36, .isub, 1), (37, .baload, 1), (38, .bipush 7, 2), (40, .if_icmp .eq 9, 3), (43, .aload_n 0, 1), (44, .iconst 0, 1), (45, .invokevirtual 482, 3), (48, .athrow, 1), (49, .aload_n 0, 1), (50, .aload_n 0, 1)] = true := by decide +kernel
theorem dX1_readsKey_26 : decode cX1_readsKey 26 = .ok (.istore_n 1, 1) := zdec_at bX1_readsKey_26 0 rfl
theorem dX1_readsKey_27 : decode cX1_readsKey 27 = .ok (.aload_n 0, 1) := zdec_at bX1_readsKey_26 1 rfl
theorem dX1_readsKey_28 : decode cX1_readsKey 28 = .ok (.getfield 148, 3) := zdec_at bX1_readsKey_26 2 rfl
theorem dX1_readsKey_31 : decode cX1_readsKey 31 = .ok (.aload_n 0, 1) := zdec_at bX1_readsKey_26 3 rfl
theorem dX1_readsKey_32 : decode cX1_readsKey 32 = .ok (.getfield 440, 3) := zdec_at bX1_readsKey_26 4 rfl
theorem dX1_readsKey_35 : decode cX1_readsKey 35 = .ok (.iconst 1, 1) := zdec_at bX1_readsKey_26 5 rfl
theorem dX1_readsKey_36 : decode cX1_readsKey 36 = .ok (.isub, 1) := zdec_at bX1_readsKey_26 6 rfl
theorem dX1_readsKey_37 : decode cX1_readsKey 37 = .ok (.baload, 1) := zdec_at bX1_readsKey_26 7 rfl
theorem dX1_readsKey_38 : decode cX1_readsKey 38 = .ok (.bipush 7, 2) := zdec_at bX1_readsKey_26 8 rfl
theorem dX1_readsKey_40 : decode cX1_readsKey 40 = .ok (.if_icmp .eq 9, 3) := zdec_at bX1_readsKey_26 9 rfl
theorem dX1_readsKey_43 : decode cX1_readsKey 43 = .ok (.aload_n 0, 1) := zdec_at bX1_readsKey_26 10 rfl
theorem dX1_readsKey_44 : decode cX1_readsKey 44 = .ok (.iconst 0, 1) := zdec_at bX1_readsKey_26 11 rfl
theorem dX1_readsKey_45 : decode cX1_readsKey 45 = .ok (.invokevirtual 482, 3) := zdec_at bX1_readsKey_26 12 rfl
theorem dX1_readsKey_48 : decode cX1_readsKey 48 = .ok (.athrow, 1) := zdec_at bX1_readsKey_26 13 rfl
theorem dX1_readsKey_49 : decode cX1_readsKey 49 = .ok (.aload_n 0, 1) := zdec_at bX1_readsKey_26 14 rfl
theorem dX1_readsKey_50 : decode cX1_readsKey 50 = .ok (.aload_n 0, 1) := zdec_at bX1_readsKey_26 15 rfl
theorem bX1_readsKey_51 : zdec cX1_readsKey 51 [(51, .aload_n 0, 1), (52, .getfield 151, 3), (55, .aload_n 0, 1), (56, .getfield 440, 3), (59, .iconst 1, 1), (60, .isub, 1), (61, .iaload, 1), (62, .iload_n 1, 1), (63, .invokevirtual 544, 3), (66, .iconst (-1), 1), (67, .if_icmp .eq 7, 3), (70, .iconst 1, 1), (71, .goto 4, 3), (74, .iconst 0, 1), (75, .invokevirtual 405, 3), (78, .return_, 1)] = true := by decide +kernel
theorem dX1_readsKey_51 : decode cX1_readsKey 51 = .ok (.aload_n 0, 1) := zdec_at bX1_readsKey_51 0 rfl
theorem dX1_readsKey_52 : decode cX1_readsKey 52 = .ok (.getfield 151, 3) := zdec_at bX1_readsKey_51 1 rfl
theorem dX1_readsKey_55 : decode cX1_readsKey 55 = .ok (.aload_n 0, 1) := zdec_at bX1_readsKey_51 2 rfl
theorem dX1_readsKey_56 : decode cX1_readsKey 56 = .ok (.getfield 440, 3) := zdec_at bX1_readsKey_51 3 rfl
theorem dX1_readsKey_59 : decode cX1_readsKey 59 = .ok (.iconst 1, 1) := zdec_at bX1_readsKey_51 4 rfl
theorem dX1_readsKey_60 : decode cX1_readsKey 60 = .ok (.isub, 1) := zdec_at bX1_readsKey_51 5 rfl
theorem dX1_readsKey_61 : decode cX1_readsKey 61 = .ok (.iaload, 1) := zdec_at bX1_readsKey_51 6 rfl
theorem dX1_readsKey_62 : decode cX1_readsKey 62 = .ok (.iload_n 1, 1) := zdec_at bX1_readsKey_51 7 rfl
theorem dX1_readsKey_63 : decode cX1_readsKey 63 = .ok (.invokevirtual 544, 3) := zdec_at bX1_readsKey_51 8 rfl
theorem dX1_readsKey_66 : decode cX1_readsKey 66 = .ok (.iconst (-1), 1) := zdec_at bX1_readsKey_51 9 rfl
theorem dX1_readsKey_67 : decode cX1_readsKey 67 = .ok (.if_icmp .eq 7, 3) := zdec_at bX1_readsKey_51 10 rfl
theorem dX1_readsKey_70 : decode cX1_readsKey 70 = .ok (.iconst 1, 1) := zdec_at bX1_readsKey_51 11 rfl
theorem dX1_readsKey_71 : decode cX1_readsKey 71 = .ok (.goto 4, 3) := zdec_at bX1_readsKey_51 12 rfl
theorem dX1_readsKey_74 : decode cX1_readsKey 74 = .ok (.iconst 0, 1) := zdec_at bX1_readsKey_51 13 rfl
theorem dX1_readsKey_75 : decode cX1_readsKey 75 = .ok (.invokevirtual 405, 3) := zdec_at bX1_readsKey_51 14 rfl
theorem dX1_readsKey_78 : decode cX1_readsKey 78 = .ok (.return_, 1) := zdec_at bX1_readsKey_51 15 rfl
theorem sX1_readsKey_0 {E : zE} {d : Nat} {Q : zO → zM → Prop} (M : zM)  (hw : cw M) (k : vp_in ((gi M 16 38) - (2 : Int32)) 14500 ∧ (vp_in ((gi M 16 38) - (2 : Int32)) 14500 ∧ (Z E YX1_textOf d M (zargs 0 [vr (some (16, 0, 0)), vi (gi M 53 (((gi M 16 38) - (2 : Int32))).toNatClampNeg), vi (gi M 54 (((gi M 16 38) - (2 : Int32))).toNatClampNeg)]) 0 [] (zafter E YX1_readsKey (d + 1) [(0, vr (some (16, 0, 0)))] 23 3 [] Q)))) : Z E YX1_readsKey (d + 1) M [(0, vr (some (16, 0, 0)))] 0 [] Q := by
  refine z_aload_n dX1_readsKey_0 rfl rfl ?_
  refine z_aload_n dX1_readsKey_1 rfl rfl ?_
  refine z_getr dX1_readsKey_2 fsX1_148_0 (show gr M 16 34 = some (53, 101, 14500) from cw_at hw 21 rfl) ?_
  refine z_aload_n dX1_readsKey_5 rfl rfl ?_
  refine z_geti dX1_readsKey_6 fsX1_440_0 ?_
  refine z_iconst (v := 2) dX1_readsKey_9 rfl ?_
  refine z_isub dX1_readsKey_10 ?_
  obtain ⟨b_, k⟩ := k
  refine z_bald dX1_readsKey_11 b_ ?_
  refine z_aload_n dX1_readsKey_12 rfl rfl ?_
  refine z_getr dX1_readsKey_13 fsX1_151_0 (show gr M 16 35 = some (54, 100, 14500) from cw_at hw 22 rfl) ?_
  refine z_aload_n dX1_readsKey_16 rfl rfl ?_
  refine z_geti dX1_readsKey_17 fsX1_440_0 ?_
  refine z_iconst (v := 2) dX1_readsKey_20 rfl ?_
  refine z_isub dX1_readsKey_21 ?_
  obtain ⟨b_, k⟩ := k
  refine z_iald dX1_readsKey_22 b_ ?_
  exact z_callV (as := [vi (gi M 53 (((gi M 16 38) - (2 : Int32))).toNatClampNeg), vi (gi M 54 (((gi M 16 38) - (2 : Int32))).toNatClampNeg)]) (st := []) dX1_readsKey_23 vsX1_541_0 (Nat.le_refl _) (Nat.le_of_ble_eq_true rfl) (Nat.le_of_ble_eq_true rfl) rfl k
theorem sX1_readsKey_26 {E : zE} {d : Nat} {Q : zO → zM → Prop} (M : zM) (s0 : Int32) (hw : cw M) (k : vp_in ((gi M 16 38) - (1 : Int32)) 14500 ∧ (if (gi M 53 (((gi M 16 38) - (1 : Int32))).toNatClampNeg) = (7 : Int32) then (vp_in ((gi M 16 38) - (1 : Int32)) 14500 ∧ (Z E YX1_find d M (zargs 0 [vr (some (16, 0, 0)), vi (gi M 54 (((gi M 16 38) - (1 : Int32))).toNatClampNeg), vi s0]) 0 [] (zafter E YX1_readsKey (d + 1) [] 63 3 [vr (some (16, 0, 0))] Q))) else (Z E YX1_error d M (zargs 0 [vr (some (16, 0, 0)), vi (0 : Int32)]) 0 [] (zafter E YX1_readsKey (d + 1) [] 45 3 [] Q)))) : Z E YX1_readsKey (d + 1) M [(0, vr (some (16, 0, 0)))] 26 [vi s0] Q := by
  refine z_ist_n dX1_readsKey_26 rfl (by decide) (lv' := [(0, vr (some (16, 0, 0))), (1, vi s0)]) rfl ?_
  refine z_aload_n dX1_readsKey_27 rfl rfl ?_
  refine z_getr dX1_readsKey_28 fsX1_148_0 (show gr M 16 34 = some (53, 101, 14500) from cw_at hw 21 rfl) ?_
  refine z_aload_n dX1_readsKey_31 rfl rfl ?_
  refine z_geti dX1_readsKey_32 fsX1_440_0 ?_
  refine z_iconst (v := 1) dX1_readsKey_35 rfl ?_
  refine z_isub dX1_readsKey_36 ?_
  obtain ⟨b_, k⟩ := k
  refine z_bald dX1_readsKey_37 b_ ?_
  refine z_bipush (v := 7) dX1_readsKey_38 rfl ?_
  refine z_icmp_eq (tgt := 49) dX1_readsKey_40 rfl (fun h_ => ?_) (fun h_ => ?_)
  · have k := zit h_ k
    refine z_aload_n dX1_readsKey_49 rfl rfl ?_
    refine z_aload_n dX1_readsKey_50 rfl rfl ?_
    refine z_aload_n dX1_readsKey_51 rfl rfl ?_
    refine z_getr dX1_readsKey_52 fsX1_151_0 (show gr M 16 35 = some (54, 100, 14500) from cw_at hw 22 rfl) ?_
    refine z_aload_n dX1_readsKey_55 rfl rfl ?_
    refine z_geti dX1_readsKey_56 fsX1_440_0 ?_
    refine z_iconst (v := 1) dX1_readsKey_59 rfl ?_
    refine z_isub dX1_readsKey_60 ?_
    obtain ⟨b_, k⟩ := k
    refine z_iald dX1_readsKey_61 b_ ?_
    refine z_iload_n dX1_readsKey_62 rfl rfl ?_
    refine Z.pick [] rfl ?_
    exact z_callV (as := [vi (gi M 54 (((gi M 16 38) - (1 : Int32))).toNatClampNeg), vi s0]) (st := [vr (some (16, 0, 0))]) dX1_readsKey_63 vsX1_544_0 (Nat.le_refl _) (Nat.le_of_ble_eq_true rfl) (Nat.le_of_ble_eq_true rfl) rfl k
  · have k := zif h_ k
    refine z_aload_n dX1_readsKey_43 rfl rfl ?_
    refine z_iconst (v := 0) dX1_readsKey_44 rfl ?_
    refine Z.pick [] rfl ?_
    exact z_callV (as := [vi (0 : Int32)]) (st := []) dX1_readsKey_45 vsX1_482_0 (Nat.le_refl _) (Nat.le_of_ble_eq_true rfl) (Nat.le_of_ble_eq_true rfl) rfl k
theorem sX1_readsKey_48 {E : zE} {d : Nat} {Q : zO → zM → Prop} (M : zM) (u0 : Option zP) (hw : cw M) (k : ∃ b1 : Nat, u0 = some (b1, 14, 0) ∧ (Q (.inr (b1, 14, 0)) M)) : Z E YX1_readsKey (d + 1) M [] 48 [vr u0] Q := by
  obtain ⟨b1, e1_, k⟩ := k
  refine Z.eqs (lv' := []) (st' := [vr (some (b1, 14, 0))]) rfl (by rw [e1_] <;> rfl) ?_
  exact z_athrow dX1_readsKey_48 (ZT.out (by decide) k)
theorem sX1_readsKey_66 {E : zE} {d : Nat} {Q : zO → zM → Prop} (M : zM) (s0 : Int32) (hw : cw M) (k : if s0 = (-1 : Int32) then (Z E YX1_givesTruth d M (zargs 0 [vr (some (16, 0, 0)), vi (0 : Int32)]) 0 [] (zafter E YX1_readsKey (d + 1) [] 75 3 [] Q)) else (Z E YX1_givesTruth d M (zargs 0 [vr (some (16, 0, 0)), vi (1 : Int32)]) 0 [] (zafter E YX1_readsKey (d + 1) [] 75 3 [] Q))) : Z E YX1_readsKey (d + 1) M [] 66 [vi s0, vr (some (16, 0, 0))] Q := by
  refine z_iconst (v := -1) dX1_readsKey_66 rfl ?_
  refine z_icmp_eq (tgt := 74) dX1_readsKey_67 rfl (fun h_ => ?_) (fun h_ => ?_)
  · have k := zit h_ k
    refine z_iconst (v := 0) dX1_readsKey_74 rfl ?_
    exact z_callV (as := [vi (0 : Int32)]) (st := []) dX1_readsKey_75 vsX1_405_0 (Nat.le_refl _) (Nat.le_of_ble_eq_true rfl) (Nat.le_of_ble_eq_true rfl) rfl k
  · have k := zif h_ k
    refine z_iconst (v := 1) dX1_readsKey_70 rfl ?_
    refine z_goto (tgt := 75) dX1_readsKey_71 rfl ?_
    exact z_callV (as := [vi (1 : Int32)]) (st := []) dX1_readsKey_75 vsX1_405_0 (Nat.le_refl _) (Nat.le_of_ble_eq_true rfl) (Nat.le_of_ble_eq_true rfl) rfl k
theorem sX1_readsKey_78 {E : zE} {d : Nat} {Q : zO → zM → Prop} (M : zM)  (hw : cw M) (k : Q (.inl none) M) : Z E YX1_readsKey (d + 1) M [] 78 [] Q := by
  exact z_vret dX1_readsKey_78 rfl k
/-! ScriptTypes.instance()V -/
theorem bX1_instance_0 : zdec cX1_instance 0 [(0, .aload_n 0, 1), (1, .aload_n 0, 1), (2, .getfield 148, 3), (5, .aload_n 0, 1), (6, .getfield 440, 3), (9, .iconst 1, 1), (10, .isub, 1), (11, .baload, 1), (12, .aload_n 0, 1), (13, .getfield 151, 3), (16, .aload_n 0, 1), (17, .getfield 440, 3), (20, .iconst 1, 1), (21, .isub, 1), (22, .iaload, 1), (23, .invokevirtual 558, 3)] = true := by decide +kernel
theorem dX1_instance_0 : decode cX1_instance 0 = .ok (.aload_n 0, 1) := zdec_at bX1_instance_0 0 rfl
theorem dX1_instance_1 : decode cX1_instance 1 = .ok (.aload_n 0, 1) := zdec_at bX1_instance_0 1 rfl
theorem dX1_instance_2 : decode cX1_instance 2 = .ok (.getfield 148, 3) := zdec_at bX1_instance_0 2 rfl
theorem dX1_instance_5 : decode cX1_instance 5 = .ok (.aload_n 0, 1) := zdec_at bX1_instance_0 3 rfl
theorem dX1_instance_6 : decode cX1_instance 6 = .ok (.getfield 440, 3) := zdec_at bX1_instance_0 4 rfl
theorem dX1_instance_9 : decode cX1_instance 9 = .ok (.iconst 1, 1) := zdec_at bX1_instance_0 5 rfl
theorem dX1_instance_10 : decode cX1_instance 10 = .ok (.isub, 1) := zdec_at bX1_instance_0 6 rfl
theorem dX1_instance_11 : decode cX1_instance 11 = .ok (.baload, 1) := zdec_at bX1_instance_0 7 rfl
theorem dX1_instance_12 : decode cX1_instance 12 = .ok (.aload_n 0, 1) := zdec_at bX1_instance_0 8 rfl
theorem dX1_instance_13 : decode cX1_instance 13 = .ok (.getfield 151, 3) := zdec_at bX1_instance_0 9 rfl
theorem dX1_instance_16 : decode cX1_instance 16 = .ok (.aload_n 0, 1) := zdec_at bX1_instance_0 10 rfl
theorem dX1_instance_17 : decode cX1_instance 17 = .ok (.getfield 440, 3) := zdec_at bX1_instance_0 11 rfl
theorem dX1_instance_20 : decode cX1_instance 20 = .ok (.iconst 1, 1) := zdec_at bX1_instance_0 12 rfl
theorem dX1_instance_21 : decode cX1_instance 21 = .ok (.isub, 1) := zdec_at bX1_instance_0 13 rfl
theorem dX1_instance_22 : decode cX1_instance 22 = .ok (.iaload, 1) := zdec_at bX1_instance_0 14 rfl
theorem dX1_instance_23 : decode cX1_instance 23 = .ok (.invokevirtual 558, 3) := zdec_at bX1_instance_0 15 rfl
theorem bX1_instance_26 : zdec cX1_instance 26 [(26, .ifCond .ne 9, 3), (29, .aload_n 0, 1), (30, .iconst 0, 1), (31, .invokevirtual 482, 3), (34, .athrow, 1), (35, .aload_n 0, 1), (36, .aload_n 0, 1), (37, .getfield 151, 3), (40, .aload_n 0, 1), (41, .getfield 440, 3), (44, .iconst 1, 1), (45, .isub, 1), (46, .iaload, 1), (47, .iconst 1, 1), (48, .invokevirtual 544, 3), (51, .istore_n 1, 1)] = true := by decide +kernel
theorem dX1_instance_26 : decode cX1_instance 26 = .ok (.ifCond .ne 9, 3) := zdec_at bX1_instance_26 0 rfl
theorem dX1_instance_29 : decode cX1_instance 29 = .ok (.aload_n 0, 1) := zdec_at bX1_instance_26 1 rfl
theorem dX1_instance_30 : decode cX1_instance 30 = .ok (.iconst 0, 1) := zdec_at bX1_instance_26 2 rfl
theorem dX1_instance_31 : decode cX1_instance 31 = .ok (.invokevirtual 482, 3) := zdec_at bX1_instance_26 3 rfl
theorem dX1_instance_34 : decode cX1_instance 34 = .ok (.athrow, 1) := zdec_at bX1_instance_26 4 rfl
theorem dX1_instance_35 : decode cX1_instance 35 = .ok (.aload_n 0, 1) := zdec_at bX1_instance_26 5 rfl
theorem dX1_instance_36 : decode cX1_instance 36 = .ok (.aload_n 0, 1) := zdec_at bX1_instance_26 6 rfl
theorem dX1_instance_37 : decode cX1_instance 37 = .ok (.getfield 151, 3) := zdec_at bX1_instance_26 7 rfl
theorem dX1_instance_40 : decode cX1_instance 40 = .ok (.aload_n 0, 1) := zdec_at bX1_instance_26 8 rfl
theorem dX1_instance_41 : decode cX1_instance 41 = .ok (.getfield 440, 3) := zdec_at bX1_instance_26 9 rfl
theorem dX1_instance_44 : decode cX1_instance 44 = .ok (.iconst 1, 1) := zdec_at bX1_instance_26 10 rfl
theorem dX1_instance_45 : decode cX1_instance 45 = .ok (.isub, 1) := zdec_at bX1_instance_26 11 rfl
theorem dX1_instance_46 : decode cX1_instance 46 = .ok (.iaload, 1) := zdec_at bX1_instance_26 12 rfl
theorem dX1_instance_47 : decode cX1_instance 47 = .ok (.iconst 1, 1) := zdec_at bX1_instance_26 13 rfl
theorem dX1_instance_48 : decode cX1_instance 48 = .ok (.invokevirtual 544, 3) := zdec_at bX1_instance_26 14 rfl
theorem dX1_instance_51 : decode cX1_instance 51 = .ok (.istore_n 1, 1) := zdec_at bX1_instance_26 15 rfl
theorem bX1_instance_52 : zdec cX1_instance 52 [(52, .iload_n 1, 1), (53, .iconst (-1), 1), (54, .if_icmp .eq 14, 3), (57, .aload_n 0, 1), (58, .getfield 124, 3), (61, .iload_n 1, 1), (62, .baload, 1), (63, .bipush 7, 2), (65, .if_icmp .eq 9, 3), (68, .aload_n 0, 1), (69, .iconst 0, 1), (70, .invokevirtual 482, 3), (73, .athrow, 1), (74, .aload_n 0, 1), (75, .getfield 148, 3), (78, .aload_n 0, 1)] = true := by decide +kernel
theorem dX1_instance_52 : decode cX1_instance 52 = .ok (.iload_n 1, 1) := zdec_at bX1_instance_52 0 rfl
theorem dX1_instance_53 : decode cX1_instance 53 = .ok (.iconst (-1), 1) := zdec_at bX1_instance_52 1 rfl
theorem dX1_instance_54 : decode cX1_instance 54 = .ok (.if_icmp .eq 14, 3) := zdec_at bX1_instance_52 2 rfl
theorem dX1_instance_57 : decode cX1_instance 57 = .ok (.aload_n 0, 1) := zdec_at bX1_instance_52 3 rfl
theorem dX1_instance_58 : decode cX1_instance 58 = .ok (.getfield 124, 3) := zdec_at bX1_instance_52 4 rfl
theorem dX1_instance_61 : decode cX1_instance 61 = .ok (.iload_n 1, 1) := zdec_at bX1_instance_52 5 rfl
theorem dX1_instance_62 : decode cX1_instance 62 = .ok (.baload, 1) := zdec_at bX1_instance_52 6 rfl
theorem dX1_instance_63 : decode cX1_instance 63 = .ok (.bipush 7, 2) := zdec_at bX1_instance_52 7 rfl
theorem dX1_instance_65 : decode cX1_instance 65 = .ok (.if_icmp .eq 9, 3) := zdec_at bX1_instance_52 8 rfl
theorem dX1_instance_68 : decode cX1_instance 68 = .ok (.aload_n 0, 1) := zdec_at bX1_instance_52 9 rfl
theorem dX1_instance_69 : decode cX1_instance 69 = .ok (.iconst 0, 1) := zdec_at bX1_instance_52 10 rfl
theorem dX1_instance_70 : decode cX1_instance 70 = .ok (.invokevirtual 482, 3) := zdec_at bX1_instance_52 11 rfl
theorem dX1_instance_73 : decode cX1_instance 73 = .ok (.athrow, 1) := zdec_at bX1_instance_52 12 rfl
theorem dX1_instance_74 : decode cX1_instance 74 = .ok (.aload_n 0, 1) := zdec_at bX1_instance_52 13 rfl
theorem dX1_instance_75 : decode cX1_instance 75 = .ok (.getfield 148, 3) := zdec_at bX1_instance_52 14 rfl
theorem dX1_instance_78 : decode cX1_instance 78 = .ok (.aload_n 0, 1) := zdec_at bX1_instance_52 15 rfl
theorem bX1_instance_79 : zdec cX1_instance 79 [(79, .getfield 440, 3), (82, .iconst 2, 1), (83, .isub, 1), (84, .baload, 1), (85, .bipush 7, 2), (87, .if_icmp .ne 22, 3), (90, .aload_n 0, 1), (91, .getfield 103, 3), (94, .aload_n 0, 1), (95, .getfield 151, 3), (98, .aload_n 0, 1), (99, .getfield 440, 3), (102, .iconst 2, 1), (103, .isub, 1), (104, .iaload, 1), (105, .saload, 1)] = true := by decide +kernel
theorem dX1_instance_79 : decode cX1_instance 79 = .ok (.getfield 440, 3) := zdec_at bX1_instance_79 0 rfl
theorem dX1_instance_82 : decode cX1_instance 82 = .ok (.iconst 2, 1) := zdec_at bX1_instance_79 1 rfl
theorem dX1_instance_83 : decode cX1_instance 83 = .ok (.isub, 1) := zdec_at bX1_instance_79 2 rfl
theorem dX1_instance_84 : decode cX1_instance 84 = .ok (.baload, 1) := zdec_at bX1_instance_79 3 rfl
theorem dX1_instance_85 : decode cX1_instance 85 = .ok (.bipush 7, 2) := zdec_at bX1_instance_79 4 rfl
theorem dX1_instance_87 : decode cX1_instance 87 = .ok (.if_icmp .ne 22, 3) := zdec_at bX1_instance_79 5 rfl
theorem dX1_instance_90 : decode cX1_instance 90 = .ok (.aload_n 0, 1) := zdec_at bX1_instance_79 6 rfl
theorem dX1_instance_91 : decode cX1_instance 91 = .ok (.getfield 103, 3) := zdec_at bX1_instance_79 7 rfl
theorem dX1_instance_94 : decode cX1_instance 94 = .ok (.aload_n 0, 1) := zdec_at bX1_instance_79 8 rfl
theorem dX1_instance_95 : decode cX1_instance 95 = .ok (.getfield 151, 3) := zdec_at bX1_instance_79 9 rfl
theorem dX1_instance_98 : decode cX1_instance 98 = .ok (.aload_n 0, 1) := zdec_at bX1_instance_79 10 rfl
theorem dX1_instance_99 : decode cX1_instance 99 = .ok (.getfield 440, 3) := zdec_at bX1_instance_79 11 rfl
theorem dX1_instance_102 : decode cX1_instance 102 = .ok (.iconst 2, 1) := zdec_at bX1_instance_79 12 rfl
theorem dX1_instance_103 : decode cX1_instance 103 = .ok (.isub, 1) := zdec_at bX1_instance_79 13 rfl
theorem dX1_instance_104 : decode cX1_instance 104 = .ok (.iaload, 1) := zdec_at bX1_instance_79 14 rfl
theorem dX1_instance_105 : decode cX1_instance 105 = .ok (.saload, 1) := zdec_at bX1_instance_79 15 rfl
theorem bX1_instance_106 : zdec cX1_instance 106 [(106, .goto 4, 3), (109, .iconst (-1), 1), (110, .istore_n 2, 1), (111, .iload_n 2, 1), (112, .iconst (-1), 1), (113, .if_icmp .eq 23, 3), (116, .iload_n 2, 1), (117, .aload_n 0, 1), (118, .getfield 127, 3), (121, .iload_n 1, 1), (122, .iaload, 1), (123, .if_icmp .eq 13, 3), (126, .aload_n 0, 1), (127, .getfield 103, 3), (130, .iload_n 2, 1), (131, .saload, 1)] = true := by decide +kernel
theorem dX1_instance_106 : decode cX1_instance 106 = .ok (.goto 4, 3) := zdec_at bX1_instance_106 0 rfl
theorem dX1_instance_109 : decode cX1_instance 109 = .ok (.iconst (-1), 1) := zdec_at bX1_instance_106 1 rfl
theorem dX1_instance_110 : decode cX1_instance 110 = .ok (.istore_n 2, 1) := zdec_at bX1_instance_106 2 rfl
theorem dX1_instance_111 : decode cX1_instance 111 = .ok (.iload_n 2, 1) := zdec_at bX1_instance_106 3 rfl
theorem dX1_instance_112 : decode cX1_instance 112 = .ok (.iconst (-1), 1) := zdec_at bX1_instance_106 4 rfl
theorem dX1_instance_113 : decode cX1_instance 113 = .ok (.if_icmp .eq 23, 3) := zdec_at bX1_instance_106 5 rfl
theorem dX1_instance_116 : decode cX1_instance 116 = .ok (.iload_n 2, 1) := zdec_at bX1_instance_106 6 rfl
theorem dX1_instance_117 : decode cX1_instance 117 = .ok (.aload_n 0, 1) := zdec_at bX1_instance_106 7 rfl
theorem dX1_instance_118 : decode cX1_instance 118 = .ok (.getfield 127, 3) := zdec_at bX1_instance_106 8 rfl
theorem dX1_instance_121 : decode cX1_instance 121 = .ok (.iload_n 1, 1) := zdec_at bX1_instance_106 9 rfl
theorem dX1_instance_122 : decode cX1_instance 122 = .ok (.iaload, 1) := zdec_at bX1_instance_106 10 rfl
theorem dX1_instance_123 : decode cX1_instance 123 = .ok (.if_icmp .eq 13, 3) := zdec_at bX1_instance_106 11 rfl
theorem dX1_instance_126 : decode cX1_instance 126 = .ok (.aload_n 0, 1) := zdec_at bX1_instance_106 12 rfl
theorem dX1_instance_127 : decode cX1_instance 127 = .ok (.getfield 103, 3) := zdec_at bX1_instance_106 13 rfl
theorem dX1_instance_130 : decode cX1_instance 130 = .ok (.iload_n 2, 1) := zdec_at bX1_instance_106 14 rfl
theorem dX1_instance_131 : decode cX1_instance 131 = .ok (.saload, 1) := zdec_at bX1_instance_106 15 rfl
theorem bX1_instance_132 : zdec cX1_instance 132 [(132, .istore_n 2, 1), (133, .goto (-22), 3), (136, .aload_n 0, 1), (137, .iload_n 2, 1), (138, .iconst (-1), 1), (139, .if_icmp .eq 7, 3), (142, .iconst 1, 1), (143, .goto 4, 3), (146, .iconst 0, 1), (147, .invokevirtual 405, 3), (150, .return_, 1)] = true := by decide +kernel
theorem dX1_instance_132 : decode cX1_instance 132 = .ok (.istore_n 2, 1) := zdec_at bX1_instance_132 0 rfl
theorem dX1_instance_133 : decode cX1_instance 133 = .ok (.goto (-22), 3) := zdec_at bX1_instance_132 1 rfl
theorem dX1_instance_136 : decode cX1_instance 136 = .ok (.aload_n 0, 1) := zdec_at bX1_instance_132 2 rfl
theorem dX1_instance_137 : decode cX1_instance 137 = .ok (.iload_n 2, 1) := zdec_at bX1_instance_132 3 rfl
theorem dX1_instance_138 : decode cX1_instance 138 = .ok (.iconst (-1), 1) := zdec_at bX1_instance_132 4 rfl
theorem dX1_instance_139 : decode cX1_instance 139 = .ok (.if_icmp .eq 7, 3) := zdec_at bX1_instance_132 5 rfl
theorem dX1_instance_142 : decode cX1_instance 142 = .ok (.iconst 1, 1) := zdec_at bX1_instance_132 6 rfl
theorem dX1_instance_143 : decode cX1_instance 143 = .ok (.goto 4, 3) := zdec_at bX1_instance_132 7 rfl
theorem dX1_instance_146 : decode cX1_instance 146 = .ok (.iconst 0, 1) := zdec_at bX1_instance_132 8 rfl
theorem dX1_instance_147 : decode cX1_instance 147 = .ok (.invokevirtual 405, 3) := zdec_at bX1_instance_132 9 rfl
theorem dX1_instance_150 : decode cX1_instance 150 = .ok (.return_, 1) := zdec_at bX1_instance_132 10 rfl
theorem sX1_instance_0 {E : zE} {d : Nat} {Q : zO → zM → Prop} (M : zM)  (hw : cw M) (k : vp_in ((gi M 16 38) - (1 : Int32)) 14500 ∧ (vp_in ((gi M 16 38) - (1 : Int32)) 14500 ∧ (Z E YX1_isCalled d M (zargs 0 [vr (some (16, 0, 0)), vi (gi M 53 (((gi M 16 38) - (1 : Int32))).toNatClampNeg), vi (gi M 54 (((gi M 16 38) - (1 : Int32))).toNatClampNeg)]) 0 [] (zafter E YX1_instance (d + 1) [(0, vr (some (16, 0, 0)))] 23 3 [] Q)))) : Z E YX1_instance (d + 1) M [(0, vr (some (16, 0, 0)))] 0 [] Q := by
  refine z_aload_n dX1_instance_0 rfl rfl ?_
  refine z_aload_n dX1_instance_1 rfl rfl ?_
  refine z_getr dX1_instance_2 fsX1_148_0 (show gr M 16 34 = some (53, 101, 14500) from cw_at hw 21 rfl) ?_
  refine z_aload_n dX1_instance_5 rfl rfl ?_
  refine z_geti dX1_instance_6 fsX1_440_0 ?_
  refine z_iconst (v := 1) dX1_instance_9 rfl ?_
  refine z_isub dX1_instance_10 ?_
  obtain ⟨b_, k⟩ := k
  refine z_bald dX1_instance_11 b_ ?_
  refine z_aload_n dX1_instance_12 rfl rfl ?_
  refine z_getr dX1_instance_13 fsX1_151_0 (show gr M 16 35 = some (54, 100, 14500) from cw_at hw 22 rfl) ?_
  refine z_aload_n dX1_instance_16 rfl rfl ?_
  refine z_geti dX1_instance_17 fsX1_440_0 ?_
  refine z_iconst (v := 1) dX1_instance_20 rfl ?_
  refine z_isub dX1_instance_21 ?_
  obtain ⟨b_, k⟩ := k
  refine z_iald dX1_instance_22 b_ ?_
  exact z_callV (as := [vi (gi M 53 (((gi M 16 38) - (1 : Int32))).toNatClampNeg), vi (gi M 54 (((gi M 16 38) - (1 : Int32))).toNatClampNeg)]) (st := []) dX1_instance_23 vsX1_558_0 (Nat.le_refl _) (Nat.le_of_ble_eq_true rfl) (Nat.le_of_ble_eq_true rfl) rfl k
theorem sX1_instance_26 {E : zE} {d : Nat} {Q : zO → zM → Prop} (M : zM) (s0 : Int32) (hw : cw M) (k : if s0 = 0 then (Z E YX1_error d M (zargs 0 [vr (some (16, 0, 0)), vi (0 : Int32)]) 0 [] (zafter E YX1_instance (d + 1) [] 31 3 [] Q)) else (vp_in ((gi M 16 38) - (1 : Int32)) 14500 ∧ (Z E YX1_find d M (zargs 0 [vr (some (16, 0, 0)), vi (gi M 54 (((gi M 16 38) - (1 : Int32))).toNatClampNeg), vi (1 : Int32)]) 0 [] (zafter E YX1_instance (d + 1) [(0, vr (some (16, 0, 0)))] 48 3 [] Q)))) : Z E YX1_instance (d + 1) M [(0, vr (some (16, 0, 0)))] 26 [vi s0] Q := by
  refine z_if_ne (tgt := 35) dX1_instance_26 rfl (fun h_ => ?_) (fun h_ => ?_)
  · have k := zif h_ k
    refine z_aload_n dX1_instance_35 rfl rfl ?_
    refine z_aload_n dX1_instance_36 rfl rfl ?_
    refine z_getr dX1_instance_37 fsX1_151_0 (show gr M 16 35 = some (54, 100, 14500) from cw_at hw 22 rfl) ?_
    refine z_aload_n dX1_instance_40 rfl rfl ?_
    refine z_geti dX1_instance_41 fsX1_440_0 ?_
    refine z_iconst (v := 1) dX1_instance_44 rfl ?_
    refine z_isub dX1_instance_45 ?_
    obtain ⟨b_, k⟩ := k
    refine z_iald dX1_instance_46 b_ ?_
    refine z_iconst (v := 1) dX1_instance_47 rfl ?_
    exact z_callV (as := [vi (gi M 54 (((gi M 16 38) - (1 : Int32))).toNatClampNeg), vi (1 : Int32)]) (st := []) dX1_instance_48 vsX1_544_0 (Nat.le_refl _) (Nat.le_of_ble_eq_true rfl) (Nat.le_of_ble_eq_true rfl) rfl k
  · have k := zit h_ k
    refine z_aload_n dX1_instance_29 rfl rfl ?_
    refine z_iconst (v := 0) dX1_instance_30 rfl ?_
    refine Z.pick [] rfl ?_
    exact z_callV (as := [vi (0 : Int32)]) (st := []) dX1_instance_31 vsX1_482_0 (Nat.le_refl _) (Nat.le_of_ble_eq_true rfl) (Nat.le_of_ble_eq_true rfl) rfl k
theorem sX1_instance_34 {E : zE} {d : Nat} {Q : zO → zM → Prop} (M : zM) (u0 : Option zP) (hw : cw M) (k : ∃ b1 : Nat, u0 = some (b1, 14, 0) ∧ (Q (.inr (b1, 14, 0)) M)) : Z E YX1_instance (d + 1) M [] 34 [vr u0] Q := by
  obtain ⟨b1, e1_, k⟩ := k
  refine Z.eqs (lv' := []) (st' := [vr (some (b1, 14, 0))]) rfl (by rw [e1_] <;> rfl) ?_
  exact z_athrow dX1_instance_34 (ZT.out (by decide) k)
theorem sX1_instance_51 {E : zE} {d : Nat} {Q : zO → zM → Prop} (M : zM) (s0 : Int32) (hw : cw M) (k : if s0 = (-1 : Int32) then (Z E YX1_error d M (zargs 0 [vr (some (16, 0, 0)), vi (0 : Int32)]) 0 [] (zafter E YX1_instance (d + 1) [] 70 3 [] Q)) else (vp_in s0 3000 ∧ (if (gi M 48 (s0).toNatClampNeg) = (7 : Int32) then (vp_in ((gi M 16 38) - (2 : Int32)) 14500 ∧ (if (gi M 53 (((gi M 16 38) - (2 : Int32))).toNatClampNeg) = (7 : Int32) then (vp_in ((gi M 16 38) - (2 : Int32)) 14500 ∧ (vp_in (gi M 54 (((gi M 16 38) - (2 : Int32))).toNatClampNeg) 300 ∧ (Z E YX1_instance (d + 1) M [(0, vr (some (16, 0, 0))), (1, vi s0), (2, vi (gi M 41 ((gi M 54 (((gi M 16 38) - (2 : Int32))).toNatClampNeg)).toNatClampNeg))] 111 [] Q))) else (Z E YX1_instance (d + 1) M [(0, vr (some (16, 0, 0))), (1, vi s0), (2, vi (-1 : Int32))] 111 [] Q))) else (Z E YX1_error d M (zargs 0 [vr (some (16, 0, 0)), vi (0 : Int32)]) 0 [] (zafter E YX1_instance (d + 1) [] 70 3 [] Q))))) : Z E YX1_instance (d + 1) M [(0, vr (some (16, 0, 0)))] 51 [vi s0] Q := by
  refine z_ist_n dX1_instance_51 rfl (by decide) (lv' := [(0, vr (some (16, 0, 0))), (1, vi s0)]) rfl ?_
  refine z_iload_n dX1_instance_52 rfl rfl ?_
  refine z_iconst (v := -1) dX1_instance_53 rfl ?_
  refine z_icmp_eq (tgt := 68) dX1_instance_54 rfl (fun h_ => ?_) (fun h_ => ?_)
  · have k := zit h_ k
    refine z_aload_n dX1_instance_68 rfl rfl ?_
    refine z_iconst (v := 0) dX1_instance_69 rfl ?_
    refine Z.pick [] rfl ?_
    exact z_callV (as := [vi (0 : Int32)]) (st := []) dX1_instance_70 vsX1_482_0 (Nat.le_refl _) (Nat.le_of_ble_eq_true rfl) (Nat.le_of_ble_eq_true rfl) rfl k
  · have k := zif h_ k
    refine z_aload_n dX1_instance_57 rfl rfl ?_
    refine z_getr dX1_instance_58 fsX1_124_0 (show gr M 16 23 = some (48, 101, 3000) from cw_at hw 16 rfl) ?_
    refine z_iload_n dX1_instance_61 rfl rfl ?_
    obtain ⟨b_, k⟩ := k
    refine z_bald dX1_instance_62 b_ ?_
    refine z_bipush (v := 7) dX1_instance_63 rfl ?_
    refine z_icmp_eq (tgt := 74) dX1_instance_65 rfl (fun h_ => ?_) (fun h_ => ?_)
    · have k := zit h_ k
      refine z_aload_n dX1_instance_74 rfl rfl ?_
      refine z_getr dX1_instance_75 fsX1_148_0 (show gr M 16 34 = some (53, 101, 14500) from cw_at hw 21 rfl) ?_
      refine z_aload_n dX1_instance_78 rfl rfl ?_
      refine z_geti dX1_instance_79 fsX1_440_0 ?_
      refine z_iconst (v := 2) dX1_instance_82 rfl ?_
      refine z_isub dX1_instance_83 ?_
      obtain ⟨b_, k⟩ := k
      refine z_bald dX1_instance_84 b_ ?_
      refine z_bipush (v := 7) dX1_instance_85 rfl ?_
      refine z_icmp_ne (tgt := 109) dX1_instance_87 rfl (fun h_ => ?_) (fun h_ => ?_)
      · have k := zif h_ k
        refine z_iconst (v := -1) dX1_instance_109 rfl ?_
        refine z_ist_n dX1_instance_110 rfl (by decide) (lv' := [(0, vr (some (16, 0, 0))), (1, vi s0), (2, vi (-1 : Int32))]) rfl ?_
        exact k
      · have k := zit h_ k
        refine z_aload_n dX1_instance_90 rfl rfl ?_
        refine z_getr dX1_instance_91 fsX1_103_0 (show gr M 16 16 = some (41, 102, 300) from cw_at hw 9 rfl) ?_
        refine z_aload_n dX1_instance_94 rfl rfl ?_
        refine z_getr dX1_instance_95 fsX1_151_0 (show gr M 16 35 = some (54, 100, 14500) from cw_at hw 22 rfl) ?_
        refine z_aload_n dX1_instance_98 rfl rfl ?_
        refine z_geti dX1_instance_99 fsX1_440_0 ?_
        refine z_iconst (v := 2) dX1_instance_102 rfl ?_
        refine z_isub dX1_instance_103 ?_
        obtain ⟨b_, k⟩ := k
        refine z_iald dX1_instance_104 b_ ?_
        obtain ⟨b_, k⟩ := k
        refine z_sald dX1_instance_105 b_ ?_
        refine z_goto (tgt := 110) dX1_instance_106 rfl ?_
        refine z_ist_n dX1_instance_110 rfl (by decide) (lv' := [(0, vr (some (16, 0, 0))), (1, vi s0), (2, vi (gi M 41 ((gi M 54 (((gi M 16 38) - (2 : Int32))).toNatClampNeg)).toNatClampNeg))]) rfl ?_
        exact k
    · have k := zif h_ k
      refine z_aload_n dX1_instance_68 rfl rfl ?_
      refine z_iconst (v := 0) dX1_instance_69 rfl ?_
      refine Z.pick [] rfl ?_
      exact z_callV (as := [vi (0 : Int32)]) (st := []) dX1_instance_70 vsX1_482_0 (Nat.le_refl _) (Nat.le_of_ble_eq_true rfl) (Nat.le_of_ble_eq_true rfl) rfl k
theorem sX1_instance_73 {E : zE} {d : Nat} {Q : zO → zM → Prop} (M : zM) (u0 : Option zP) (hw : cw M) (k : ∃ b1 : Nat, u0 = some (b1, 14, 0) ∧ (Q (.inr (b1, 14, 0)) M)) : Z E YX1_instance (d + 1) M [] 73 [vr u0] Q := by
  obtain ⟨b1, e1_, k⟩ := k
  refine Z.eqs (lv' := []) (st' := [vr (some (b1, 14, 0))]) rfl (by rw [e1_] <;> rfl) ?_
  exact z_athrow dX1_instance_73 (ZT.out (by decide) k)
theorem sX1_instance_111 {E : zE} {d : Nat} {Q : zO → zM → Prop} (M : zM) (l1 : Int32) (l2 : Int32) (hw : cw M) (k : if l2 = (-1 : Int32) then (Z E YX1_instance (d + 1) M [(0, vr (some (16, 0, 0))), (2, vi l2)] 136 [] Q) else (vp_in l1 3000 ∧ (if l2 = (gi M 49 (l1).toNatClampNeg) then (Z E YX1_instance (d + 1) M [(0, vr (some (16, 0, 0))), (2, vi l2)] 136 [] Q) else (vp_in l2 300 ∧ (Z E YX1_instance (d + 1) M [(0, vr (some (16, 0, 0))), (1, vi l1), (2, vi (gi M 41 (l2).toNatClampNeg))] 111 [] Q))))) : Z E YX1_instance (d + 1) M [(0, vr (some (16, 0, 0))), (1, vi l1), (2, vi l2)] 111 [] Q := by
  refine z_iload_n dX1_instance_111 rfl rfl ?_
  refine z_iconst (v := -1) dX1_instance_112 rfl ?_
  refine z_icmp_eq (tgt := 136) dX1_instance_113 rfl (fun h_ => ?_) (fun h_ => ?_)
  · have k := zit h_ k
    refine Z.pick [0, 2] rfl ?_
    exact k
  · have k := zif h_ k
    refine z_iload_n dX1_instance_116 rfl rfl ?_
    refine z_aload_n dX1_instance_117 rfl rfl ?_
    refine z_getr dX1_instance_118 fsX1_127_0 (show gr M 16 24 = some (49, 100, 3000) from cw_at hw 17 rfl) ?_
    refine z_iload_n dX1_instance_121 rfl rfl ?_
    obtain ⟨b_, k⟩ := k
    refine z_iald dX1_instance_122 b_ ?_
    refine z_icmp_eq (tgt := 136) dX1_instance_123 rfl (fun h_ => ?_) (fun h_ => ?_)
    · have k := zit h_ k
      refine Z.pick [0, 2] rfl ?_
      exact k
    · have k := zif h_ k
      refine z_aload_n dX1_instance_126 rfl rfl ?_
      refine z_getr dX1_instance_127 fsX1_103_0 (show gr M 16 16 = some (41, 102, 300) from cw_at hw 9 rfl) ?_
      refine z_iload_n dX1_instance_130 rfl rfl ?_
      obtain ⟨b_, k⟩ := k
      refine z_sald dX1_instance_131 b_ ?_
      refine z_ist_n dX1_instance_132 rfl (by decide) (lv' := [(0, vr (some (16, 0, 0))), (1, vi l1), (2, vi (gi M 41 (l2).toNatClampNeg))]) rfl ?_
      refine z_goto (tgt := 111) dX1_instance_133 rfl ?_
      exact k
theorem sX1_instance_136 {E : zE} {d : Nat} {Q : zO → zM → Prop} (M : zM) (l2 : Int32) (hw : cw M) (k : if l2 = (-1 : Int32) then (Z E YX1_givesTruth d M (zargs 0 [vr (some (16, 0, 0)), vi (0 : Int32)]) 0 [] (zafter E YX1_instance (d + 1) [] 147 3 [] Q)) else (Z E YX1_givesTruth d M (zargs 0 [vr (some (16, 0, 0)), vi (1 : Int32)]) 0 [] (zafter E YX1_instance (d + 1) [] 147 3 [] Q))) : Z E YX1_instance (d + 1) M [(0, vr (some (16, 0, 0))), (2, vi l2)] 136 [] Q := by
  refine z_aload_n dX1_instance_136 rfl rfl ?_
  refine z_iload_n dX1_instance_137 rfl rfl ?_
  refine z_iconst (v := -1) dX1_instance_138 rfl ?_
  refine z_icmp_eq (tgt := 146) dX1_instance_139 rfl (fun h_ => ?_) (fun h_ => ?_)
  · have k := zit h_ k
    refine z_iconst (v := 0) dX1_instance_146 rfl ?_
    refine Z.pick [] rfl ?_
    exact z_callV (as := [vi (0 : Int32)]) (st := []) dX1_instance_147 vsX1_405_0 (Nat.le_refl _) (Nat.le_of_ble_eq_true rfl) (Nat.le_of_ble_eq_true rfl) rfl k
  · have k := zif h_ k
    refine z_iconst (v := 1) dX1_instance_142 rfl ?_
    refine z_goto (tgt := 147) dX1_instance_143 rfl ?_
    refine Z.pick [] rfl ?_
    exact z_callV (as := [vi (1 : Int32)]) (st := []) dX1_instance_147 vsX1_405_0 (Nat.le_refl _) (Nat.le_of_ble_eq_true rfl) (Nat.le_of_ble_eq_true rfl) rfl k
theorem sX1_instance_150 {E : zE} {d : Nat} {Q : zO → zM → Prop} (M : zM)  (hw : cw M) (k : Q (.inl none) M) : Z E YX1_instance (d + 1) M [] 150 [] Q := by
  exact z_vret dX1_instance_150 rfl k
/-! ScriptTypes.isCalled(II)Z -/
theorem bX1_isCalled_0 : zdec cX1_isCalled 0 [(0, .iload_n 1, 1), (1, .bipush 7, 2), (3, .if_icmp .ne 17, 3), (6, .aload_n 0, 1), (7, .getfield 93, 3), (10, .iload_n 2, 1), (11, .baload, 1), (12, .iconst 1, 1), (13, .if_icmp .ne 7, 3), (16, .iconst 1, 1), (17, .goto 4, 3), (20, .iconst 0, 1), (21, .ireturn, 1)] = true := by decide +kernel
theorem dX1_isCalled_0 : decode cX1_isCalled 0 = .ok (.iload_n 1, 1) := zdec_at bX1_isCalled_0 0 rfl
theorem dX1_isCalled_1 : decode cX1_isCalled 1 = .ok (.bipush 7, 2) := zdec_at bX1_isCalled_0 1 rfl
theorem dX1_isCalled_3 : decode cX1_isCalled 3 = .ok (.if_icmp .ne 17, 3) := zdec_at bX1_isCalled_0 2 rfl
theorem dX1_isCalled_6 : decode cX1_isCalled 6 = .ok (.aload_n 0, 1) := zdec_at bX1_isCalled_0 3 rfl
theorem dX1_isCalled_7 : decode cX1_isCalled 7 = .ok (.getfield 93, 3) := zdec_at bX1_isCalled_0 4 rfl
theorem dX1_isCalled_10 : decode cX1_isCalled 10 = .ok (.iload_n 2, 1) := zdec_at bX1_isCalled_0 5 rfl
theorem dX1_isCalled_11 : decode cX1_isCalled 11 = .ok (.baload, 1) := zdec_at bX1_isCalled_0 6 rfl
theorem dX1_isCalled_12 : decode cX1_isCalled 12 = .ok (.iconst 1, 1) := zdec_at bX1_isCalled_0 7 rfl
theorem dX1_isCalled_13 : decode cX1_isCalled 13 = .ok (.if_icmp .ne 7, 3) := zdec_at bX1_isCalled_0 8 rfl
theorem dX1_isCalled_16 : decode cX1_isCalled 16 = .ok (.iconst 1, 1) := zdec_at bX1_isCalled_0 9 rfl
theorem dX1_isCalled_17 : decode cX1_isCalled 17 = .ok (.goto 4, 3) := zdec_at bX1_isCalled_0 10 rfl
theorem dX1_isCalled_20 : decode cX1_isCalled 20 = .ok (.iconst 0, 1) := zdec_at bX1_isCalled_0 11 rfl
theorem dX1_isCalled_21 : decode cX1_isCalled 21 = .ok (.ireturn, 1) := zdec_at bX1_isCalled_0 12 rfl
theorem sX1_isCalled_0 {E : zE} {d : Nat} {Q : zO → zM → Prop} (M : zM) (l1 : Int32) (l2 : Int32) (hw : cw M) (k : if l1 = (7 : Int32) then (vp_in l2 300 ∧ (if (gi M 38 (l2).toNatClampNeg) = (1 : Int32) then (Q (.inl (some (vi (1 : Int32)))) M) else (Q (.inl (some (vi (0 : Int32)))) M))) else (Q (.inl (some (vi (0 : Int32)))) M)) : Z E YX1_isCalled d M [(0, vr (some (16, 0, 0))), (1, vi l1), (2, vi l2)] 0 [] Q := by
  refine z_iload_n dX1_isCalled_0 rfl rfl ?_
  refine z_bipush (v := 7) dX1_isCalled_1 rfl ?_
  refine z_icmp_ne (tgt := 20) dX1_isCalled_3 rfl (fun h_ => ?_) (fun h_ => ?_)
  · have k := zif h_ k
    refine z_iconst (v := 0) dX1_isCalled_20 rfl ?_
    exact z_iret dX1_isCalled_21 rfl (by decide) k
  · have k := zit h_ k
    refine z_aload_n dX1_isCalled_6 rfl rfl ?_
    refine z_getr dX1_isCalled_7 fsX1_93_0 (show gr M 16 13 = some (38, 101, 300) from cw_at hw 6 rfl) ?_
    refine z_iload_n dX1_isCalled_10 rfl rfl ?_
    obtain ⟨b_, k⟩ := k
    refine z_bald dX1_isCalled_11 b_ ?_
    refine z_iconst (v := 1) dX1_isCalled_12 rfl ?_
    refine z_icmp_ne (tgt := 20) dX1_isCalled_13 rfl (fun h_ => ?_) (fun h_ => ?_)
    · have k := zif h_ k
      refine z_iconst (v := 0) dX1_isCalled_20 rfl ?_
      exact z_iret dX1_isCalled_21 rfl (by decide) k
    · have k := zit h_ k
      refine z_iconst (v := 1) dX1_isCalled_16 rfl ?_
      refine z_goto (tgt := 21) dX1_isCalled_17 rfl ?_
      exact z_iret dX1_isCalled_21 rfl (by decide) k
/-! ScriptTypes.call(IIIII)V -/
theorem bX1_call_0 : zdec cX1_call 0 [(0, .aload_n 0, 1), (1, .getfield 148, 3), (4, .iload_n 1, 1), (5, .baload, 1), (6, .istore 6, 2), (8, .aload_n 0, 1), (9, .getfield 151, 3), (12, .iload_n 1, 1), (13, .iaload, 1), (14, .istore 7, 2), (16, .aload_n 0, 1), (17, .aload_n 0, 1), (18, .getfield 148, 3), (21, .iload_n 2, 1), (22, .baload, 1), (23, .aload_n 0, 1)] = true := by decide +kernel
theorem dX1_call_0 : decode cX1_call 0 = .ok (.aload_n 0, 1) := zdec_at bX1_call_0 0 rfl
theorem dX1_call_1 : decode cX1_call 1 = .ok (.getfield 148, 3) := zdec_at bX1_call_0 1 rfl
theorem dX1_call_4 : decode cX1_call 4 = .ok (.iload_n 1, 1) := zdec_at bX1_call_0 2 rfl
theorem dX1_call_5 : decode cX1_call 5 = .ok (.baload, 1) := zdec_at bX1_call_0 3 rfl
theorem dX1_call_6 : decode cX1_call 6 = .ok (.istore 6, 2) := zdec_at bX1_call_0 4 rfl
theorem dX1_call_8 : decode cX1_call 8 = .ok (.aload_n 0, 1) := zdec_at bX1_call_0 5 rfl
theorem dX1_call_9 : decode cX1_call 9 = .ok (.getfield 151, 3) := zdec_at bX1_call_0 6 rfl
theorem dX1_call_12 : decode cX1_call 12 = .ok (.iload_n 1, 1) := zdec_at bX1_call_0 7 rfl
theorem dX1_call_13 : decode cX1_call 13 = .ok (.iaload, 1) := zdec_at bX1_call_0 8 rfl
theorem dX1_call_14 : decode cX1_call 14 = .ok (.istore 7, 2) := zdec_at bX1_call_0 9 rfl
theorem dX1_call_16 : decode cX1_call 16 = .ok (.aload_n 0, 1) := zdec_at bX1_call_0 10 rfl
theorem dX1_call_17 : decode cX1_call 17 = .ok (.aload_n 0, 1) := zdec_at bX1_call_0 11 rfl
theorem dX1_call_18 : decode cX1_call 18 = .ok (.getfield 148, 3) := zdec_at bX1_call_0 12 rfl
theorem dX1_call_21 : decode cX1_call 21 = .ok (.iload_n 2, 1) := zdec_at bX1_call_0 13 rfl
theorem dX1_call_22 : decode cX1_call 22 = .ok (.baload, 1) := zdec_at bX1_call_0 14 rfl
theorem dX1_call_23 : decode cX1_call 23 = .ok (.aload_n 0, 1) := zdec_at bX1_call_0 15 rfl
theorem bX1_call_24 : zdec cX1_call 24 [(24, .getfield 151, 3), (27, .iload_n 2, 1), (28, .iaload, 1), (29, .invokevirtual 558, 3), (32, .ifCond .eq 12, 3), (35, .aload_n 0, 1), (36, .getfield 151, 3), (39, .iload_n 2, 1), (40, .iaload, 1), (41, .goto 4, 3), (44, .iconst (-1), 1), (45, .istore 8, 2), (47, .iload_n 3, 1), (48, .istore 9, 2), (50, .iload 4, 2), (52, .istore 10, 2)] = true := by decide +kernel
theorem dX1_call_24 : decode cX1_call 24 = .ok (.getfield 151, 3) := zdec_at bX1_call_24 0 rfl
theorem dX1_call_27 : decode cX1_call 27 = .ok (.iload_n 2, 1) := zdec_at bX1_call_24 1 rfl
theorem dX1_call_28 : decode cX1_call 28 = .ok (.iaload, 1) := zdec_at bX1_call_24 2 rfl
theorem dX1_call_29 : decode cX1_call 29 = .ok (.invokevirtual 558, 3) := zdec_at bX1_call_24 3 rfl
theorem dX1_call_32 : decode cX1_call 32 = .ok (.ifCond .eq 12, 3) := zdec_at bX1_call_24 4 rfl
theorem dX1_call_35 : decode cX1_call 35 = .ok (.aload_n 0, 1) := zdec_at bX1_call_24 5 rfl
theorem dX1_call_36 : decode cX1_call 36 = .ok (.getfield 151, 3) := zdec_at bX1_call_24 6 rfl
theorem dX1_call_39 : decode cX1_call 39 = .ok (.iload_n 2, 1) := zdec_at bX1_call_24 7 rfl
theorem dX1_call_40 : decode cX1_call 40 = .ok (.iaload, 1) := zdec_at bX1_call_24 8 rfl
theorem dX1_call_41 : decode cX1_call 41 = .ok (.goto 4, 3) := zdec_at bX1_call_24 9 rfl
theorem dX1_call_44 : decode cX1_call 44 = .ok (.iconst (-1), 1) := zdec_at bX1_call_24 10 rfl
theorem dX1_call_45 : decode cX1_call 45 = .ok (.istore 8, 2) := zdec_at bX1_call_24 11 rfl
theorem dX1_call_47 : decode cX1_call 47 = .ok (.iload_n 3, 1) := zdec_at bX1_call_24 12 rfl
theorem dX1_call_48 : decode cX1_call 48 = .ok (.istore 9, 2) := zdec_at bX1_call_24 13 rfl
theorem dX1_call_50 : decode cX1_call 50 = .ok (.iload 4, 2) := zdec_at bX1_call_24 14 rfl
theorem dX1_call_52 : decode cX1_call 52 = .ok (.istore 10, 2) := zdec_at bX1_call_24 15 rfl
theorem bX1_call_54 : zdec cX1_call 54 [(54, .iload 8, 2), (56, .iconst (-1), 1), (57, .if_icmp .ne 9, 3), (60, .aload_n 0, 1), (61, .iconst 0, 1), (62, .invokevirtual 482, 3), (65, .athrow, 1), (66, .aload_n 0, 1), (67, .getfield 96, 3), (70, .iload 8, 2), (72, .baload, 1), (73, .bipush (-20), 2), (75, .if_icmp .ne 76, 3), (78, .aload_n 0, 1), (79, .iload 6, 2), (81, .iload 7, 2)] = true := by decide +kernel
theorem dX1_call_54 : decode cX1_call 54 = .ok (.iload 8, 2) := zdec_at bX1_call_54 0 rfl
theorem dX1_call_56 : decode cX1_call 56 = .ok (.iconst (-1), 1) := zdec_at bX1_call_54 1 rfl
theorem dX1_call_57 : decode cX1_call 57 = .ok (.if_icmp .ne 9, 3) := zdec_at bX1_call_54 2 rfl
theorem dX1_call_60 : decode cX1_call 60 = .ok (.aload_n 0, 1) := zdec_at bX1_call_54 3 rfl
theorem dX1_call_61 : decode cX1_call 61 = .ok (.iconst 0, 1) := zdec_at bX1_call_54 4 rfl
theorem dX1_call_62 : decode cX1_call 62 = .ok (.invokevirtual 482, 3) := zdec_at bX1_call_54 5 rfl
theorem dX1_call_65 : decode cX1_call 65 = .ok (.athrow, 1) := zdec_at bX1_call_54 6 rfl
theorem dX1_call_66 : decode cX1_call 66 = .ok (.aload_n 0, 1) := zdec_at bX1_call_54 7 rfl
theorem dX1_call_67 : decode cX1_call 67 = .ok (.getfield 96, 3) := zdec_at bX1_call_54 8 rfl
theorem dX1_call_70 : decode cX1_call 70 = .ok (.iload 8, 2) := zdec_at bX1_call_54 9 rfl
theorem dX1_call_72 : decode cX1_call 72 = .ok (.baload, 1) := zdec_at bX1_call_54 10 rfl
theorem dX1_call_73 : decode cX1_call 73 = .ok (.bipush (-20), 2) := zdec_at bX1_call_54 11 rfl
theorem dX1_call_75 : decode cX1_call 75 = .ok (.if_icmp .ne 76, 3) := zdec_at bX1_call_54 12 rfl
theorem dX1_call_78 : decode cX1_call 78 = .ok (.aload_n 0, 1) := zdec_at bX1_call_54 13 rfl
theorem dX1_call_79 : decode cX1_call 79 = .ok (.iload 6, 2) := zdec_at bX1_call_54 14 rfl
theorem dX1_call_81 : decode cX1_call 81 = .ok (.iload 7, 2) := zdec_at bX1_call_54 15 rfl
theorem bX1_call_83 : zdec cX1_call 83 [(83, .invokevirtual 558, 3), (86, .ifCond .ne 9, 3), (89, .aload_n 0, 1), (90, .iconst 0, 1), (91, .invokevirtual 482, 3), (94, .athrow, 1), (95, .iload 7, 2), (97, .istore 8, 2), (99, .iload 10, 2), (101, .ifCond .le 13, 3), (104, .aload_n 0, 1), (105, .getfield 148, 3), (108, .iload 9, 2), (110, .baload, 1), (111, .goto 4, 3), (114, .iconst 0, 1)] = true := by decide +kernel
theorem dX1_call_83 : decode cX1_call 83 = .ok (.invokevirtual 558, 3) := zdec_at bX1_call_83 0 rfl
theorem dX1_call_86 : decode cX1_call 86 = .ok (.ifCond .ne 9, 3) := zdec_at bX1_call_83 1 rfl
theorem dX1_call_89 : decode cX1_call 89 = .ok (.aload_n 0, 1) := zdec_at bX1_call_83 2 rfl
theorem dX1_call_90 : decode cX1_call 90 = .ok (.iconst 0, 1) := zdec_at bX1_call_83 3 rfl
theorem dX1_call_91 : decode cX1_call 91 = .ok (.invokevirtual 482, 3) := zdec_at bX1_call_83 4 rfl
theorem dX1_call_94 : decode cX1_call 94 = .ok (.athrow, 1) := zdec_at bX1_call_83 5 rfl
theorem dX1_call_95 : decode cX1_call 95 = .ok (.iload 7, 2) := zdec_at bX1_call_83 6 rfl
theorem dX1_call_97 : decode cX1_call 97 = .ok (.istore 8, 2) := zdec_at bX1_call_83 7 rfl
theorem dX1_call_99 : decode cX1_call 99 = .ok (.iload 10, 2) := zdec_at bX1_call_83 8 rfl
theorem dX1_call_101 : decode cX1_call 101 = .ok (.ifCond .le 13, 3) := zdec_at bX1_call_83 9 rfl
theorem dX1_call_104 : decode cX1_call 104 = .ok (.aload_n 0, 1) := zdec_at bX1_call_83 10 rfl
theorem dX1_call_105 : decode cX1_call 105 = .ok (.getfield 148, 3) := zdec_at bX1_call_83 11 rfl
theorem dX1_call_108 : decode cX1_call 108 = .ok (.iload 9, 2) := zdec_at bX1_call_83 12 rfl
theorem dX1_call_110 : decode cX1_call 110 = .ok (.baload, 1) := zdec_at bX1_call_83 13 rfl
theorem dX1_call_111 : decode cX1_call 111 = .ok (.goto 4, 3) := zdec_at bX1_call_83 14 rfl
theorem dX1_call_114 : decode cX1_call 114 = .ok (.iconst 0, 1) := zdec_at bX1_call_83 15 rfl
theorem bX1_call_115 : zdec cX1_call 115 [(115, .istore 6, 2), (117, .iload 10, 2), (119, .ifCond .le 13, 3), (122, .aload_n 0, 1), (123, .getfield 151, 3), (126, .iload 9, 2), (128, .iaload, 1), (129, .goto 4, 3), (132, .iconst 0, 1), (133, .istore 7, 2), (135, .iinc 9 1, 3), (138, .iconst 0, 1), (139, .iload 10, 2), (141, .iconst 1, 1), (142, .isub, 1), (143, .invokestatic 561, 3)] = true := by decide +kernel
theorem dX1_call_115 : decode cX1_call 115 = .ok (.istore 6, 2) := zdec_at bX1_call_115 0 rfl
theorem dX1_call_117 : decode cX1_call 117 = .ok (.iload 10, 2) := zdec_at bX1_call_115 1 rfl
theorem dX1_call_119 : decode cX1_call 119 = .ok (.ifCond .le 13, 3) := zdec_at bX1_call_115 2 rfl
theorem dX1_call_122 : decode cX1_call 122 = .ok (.aload_n 0, 1) := zdec_at bX1_call_115 3 rfl
theorem dX1_call_123 : decode cX1_call 123 = .ok (.getfield 151, 3) := zdec_at bX1_call_115 4 rfl
theorem dX1_call_126 : decode cX1_call 126 = .ok (.iload 9, 2) := zdec_at bX1_call_115 5 rfl
theorem dX1_call_128 : decode cX1_call 128 = .ok (.iaload, 1) := zdec_at bX1_call_115 6 rfl
theorem dX1_call_129 : decode cX1_call 129 = .ok (.goto 4, 3) := zdec_at bX1_call_115 7 rfl
theorem dX1_call_132 : decode cX1_call 132 = .ok (.iconst 0, 1) := zdec_at bX1_call_115 8 rfl
theorem dX1_call_133 : decode cX1_call 133 = .ok (.istore 7, 2) := zdec_at bX1_call_115 9 rfl
theorem dX1_call_135 : decode cX1_call 135 = .ok (.iinc 9 1, 3) := zdec_at bX1_call_115 10 rfl
theorem dX1_call_138 : decode cX1_call 138 = .ok (.iconst 0, 1) := zdec_at bX1_call_115 11 rfl
theorem dX1_call_139 : decode cX1_call 139 = .ok (.iload 10, 2) := zdec_at bX1_call_115 12 rfl
theorem dX1_call_141 : decode cX1_call 141 = .ok (.iconst 1, 1) := zdec_at bX1_call_115 13 rfl
theorem dX1_call_142 : decode cX1_call 142 = .ok (.isub, 1) := zdec_at bX1_call_115 14 rfl
theorem dX1_call_143 : decode cX1_call 143 = .ok (.invokestatic 561, 3) := zdec_at bX1_call_115 15 rfl
theorem bX1_call_146 : zdec cX1_call 146 [(146, .istore 10, 2), (148, .goto (-82), 3), (151, .aload_n 0, 1), (152, .getfield 96, 3), (155, .iload 8, 2), (157, .baload, 1), (158, .ifCond .le 23, 3), (161, .aload_n 0, 1), (162, .iload 8, 2), (164, .iload 6, 2), (166, .iload 7, 2), (168, .iload 9, 2), (170, .iload 10, 2), (172, .iload 5, 2), (174, .iconst (-1), 1), (175, .invokevirtual 564, 3)] = true := by decide +kernel
theorem dX1_call_146 : decode cX1_call 146 = .ok (.istore 10, 2) := zdec_at bX1_call_146 0 rfl
theorem dX1_call_148 : decode cX1_call 148 = .ok (.goto (-82), 3) := zdec_at bX1_call_146 1 rfl
theorem dX1_call_151 : decode cX1_call 151 = .ok (.aload_n 0, 1) := zdec_at bX1_call_146 2 rfl
theorem dX1_call_152 : decode cX1_call 152 = .ok (.getfield 96, 3) := zdec_at bX1_call_146 3 rfl
theorem dX1_call_155 : decode cX1_call 155 = .ok (.iload 8, 2) := zdec_at bX1_call_146 4 rfl
theorem dX1_call_157 : decode cX1_call 157 = .ok (.baload, 1) := zdec_at bX1_call_146 5 rfl
theorem dX1_call_158 : decode cX1_call 158 = .ok (.ifCond .le 23, 3) := zdec_at bX1_call_146 6 rfl
theorem dX1_call_161 : decode cX1_call 161 = .ok (.aload_n 0, 1) := zdec_at bX1_call_146 7 rfl
theorem dX1_call_162 : decode cX1_call 162 = .ok (.iload 8, 2) := zdec_at bX1_call_146 8 rfl
theorem dX1_call_164 : decode cX1_call 164 = .ok (.iload 6, 2) := zdec_at bX1_call_146 9 rfl
theorem dX1_call_166 : decode cX1_call 166 = .ok (.iload 7, 2) := zdec_at bX1_call_146 10 rfl
theorem dX1_call_168 : decode cX1_call 168 = .ok (.iload 9, 2) := zdec_at bX1_call_146 11 rfl
theorem dX1_call_170 : decode cX1_call 170 = .ok (.iload 10, 2) := zdec_at bX1_call_146 12 rfl
theorem dX1_call_172 : decode cX1_call 172 = .ok (.iload 5, 2) := zdec_at bX1_call_146 13 rfl
theorem dX1_call_174 : decode cX1_call 174 = .ok (.iconst (-1), 1) := zdec_at bX1_call_146 14 rfl
theorem dX1_call_175 : decode cX1_call 175 = .ok (.invokevirtual 564, 3) := zdec_at bX1_call_146 15 rfl
theorem bX1_call_178 : zdec cX1_call 178 [(178, .goto 41, 3), (181, .aload_n 0, 1), (182, .aload_n 0, 1), (183, .getfield 96, 3), (186, .iload 8, 2), (188, .baload, 1), (189, .ineg, 1), (190, .iload 6, 2), (192, .iload 7, 2), (194, .iload 9, 2), (196, .iload 10, 2), (198, .invokevirtual 568, 3), (201, .aload_n 0, 1), (202, .iload 5, 2), (204, .putfield 440, 3), (207, .aload_n 0, 1)] = true := by decide +kernel
theorem dX1_call_178 : decode cX1_call 178 = .ok (.goto 41, 3) := zdec_at bX1_call_178 0 rfl
theorem dX1_call_181 : decode cX1_call 181 = .ok (.aload_n 0, 1) := zdec_at bX1_call_178 1 rfl
theorem dX1_call_182 : decode cX1_call 182 = .ok (.aload_n 0, 1) := zdec_at bX1_call_178 2 rfl
theorem dX1_call_183 : decode cX1_call 183 = .ok (.getfield 96, 3) := zdec_at bX1_call_178 3 rfl
theorem dX1_call_186 : decode cX1_call 186 = .ok (.iload 8, 2) := zdec_at bX1_call_178 4 rfl
theorem dX1_call_188 : decode cX1_call 188 = .ok (.baload, 1) := zdec_at bX1_call_178 5 rfl
theorem dX1_call_189 : decode cX1_call 189 = .ok (.ineg, 1) := zdec_at bX1_call_178 6 rfl
theorem dX1_call_190 : decode cX1_call 190 = .ok (.iload 6, 2) := zdec_at bX1_call_178 7 rfl
theorem dX1_call_192 : decode cX1_call 192 = .ok (.iload 7, 2) := zdec_at bX1_call_178 8 rfl
theorem dX1_call_194 : decode cX1_call 194 = .ok (.iload 9, 2) := zdec_at bX1_call_178 9 rfl
theorem dX1_call_196 : decode cX1_call 196 = .ok (.iload 10, 2) := zdec_at bX1_call_178 10 rfl
theorem dX1_call_198 : decode cX1_call 198 = .ok (.invokevirtual 568, 3) := zdec_at bX1_call_178 11 rfl
theorem dX1_call_201 : decode cX1_call 201 = .ok (.aload_n 0, 1) := zdec_at bX1_call_178 12 rfl
theorem dX1_call_202 : decode cX1_call 202 = .ok (.iload 5, 2) := zdec_at bX1_call_178 13 rfl
theorem dX1_call_204 : decode cX1_call 204 = .ok (.putfield 440, 3) := zdec_at bX1_call_178 14 rfl
theorem dX1_call_207 : decode cX1_call 207 = .ok (.aload_n 0, 1) := zdec_at bX1_call_178 15 rfl
theorem bX1_call_208 : zdec cX1_call 208 [(208, .aload_n 0, 1), (209, .getfield 389, 3), (212, .aload_n 0, 1), (213, .getfield 392, 3), (216, .invokevirtual 476, 3), (219, .return_, 1)] = true := by decide +kernel
theorem dX1_call_208 : decode cX1_call 208 = .ok (.aload_n 0, 1) := zdec_at bX1_call_208 0 rfl
theorem dX1_call_209 : decode cX1_call 209 = .ok (.getfield 389, 3) := zdec_at bX1_call_208 1 rfl
theorem dX1_call_212 : decode cX1_call 212 = .ok (.aload_n 0, 1) := zdec_at bX1_call_208 2 rfl
theorem dX1_call_213 : decode cX1_call 213 = .ok (.getfield 392, 3) := zdec_at bX1_call_208 3 rfl
theorem dX1_call_216 : decode cX1_call 216 = .ok (.invokevirtual 476, 3) := zdec_at bX1_call_208 4 rfl
theorem dX1_call_219 : decode cX1_call 219 = .ok (.return_, 1) := zdec_at bX1_call_208 5 rfl
theorem sX1_call_0 {E : zE} {d : Nat} {Q : zO → zM → Prop} (M : zM) (l1 : Int32) (l2 : Int32) (l3 : Int32) (l4 : Int32) (l5 : Int32) (hw : cw M) (k : vp_in l1 14500 ∧ (vp_in l1 14500 ∧ (vp_in l2 14500 ∧ (vp_in l2 14500 ∧ (Z E YX1_isCalled d M (zargs 0 [vr (some (16, 0, 0)), vi (gi M 53 (l2).toNatClampNeg), vi (gi M 54 (l2).toNatClampNeg)]) 0 [] (zafter E YX1_call (d + 1) [(0, vr (some (16, 0, 0))), (2, vi l2), (3, vi l3), (4, vi l4), (5, vi l5), (6, vi (gi M 53 (l1).toNatClampNeg)), (7, vi (gi M 54 (l1).toNatClampNeg))] 29 3 [] Q)))))) : Z E YX1_call (d + 1) M [(0, vr (some (16, 0, 0))), (1, vi l1), (2, vi l2), (3, vi l3), (4, vi l4), (5, vi l5)] 0 [] Q := by
  refine z_aload_n dX1_call_0 rfl rfl ?_
  refine z_getr dX1_call_1 fsX1_148_0 (show gr M 16 34 = some (53, 101, 14500) from cw_at hw 21 rfl) ?_
  refine z_iload_n dX1_call_4 rfl rfl ?_
  obtain ⟨b_, k⟩ := k
  refine z_bald dX1_call_5 b_ ?_
  refine z_ist dX1_call_6 (by decide) (lv' := [(0, vr (some (16, 0, 0))), (1, vi l1), (2, vi l2), (3, vi l3), (4, vi l4), (5, vi l5), (6, vi (gi M 53 (l1).toNatClampNeg))]) rfl ?_
  refine z_aload_n dX1_call_8 rfl rfl ?_
  refine z_getr dX1_call_9 fsX1_151_0 (show gr M 16 35 = some (54, 100, 14500) from cw_at hw 22 rfl) ?_
  refine z_iload_n dX1_call_12 rfl rfl ?_
  obtain ⟨b_, k⟩ := k
  refine z_iald dX1_call_13 b_ ?_
  refine z_ist dX1_call_14 (by decide) (lv' := [(0, vr (some (16, 0, 0))), (1, vi l1), (2, vi l2), (3, vi l3), (4, vi l4), (5, vi l5), (6, vi (gi M 53 (l1).toNatClampNeg)), (7, vi (gi M 54 (l1).toNatClampNeg))]) rfl ?_
  refine z_aload_n dX1_call_16 rfl rfl ?_
  refine z_aload_n dX1_call_17 rfl rfl ?_
  refine z_getr dX1_call_18 fsX1_148_0 (show gr M 16 34 = some (53, 101, 14500) from cw_at hw 21 rfl) ?_
  refine z_iload_n dX1_call_21 rfl rfl ?_
  obtain ⟨b_, k⟩ := k
  refine z_bald dX1_call_22 b_ ?_
  refine z_aload_n dX1_call_23 rfl rfl ?_
  refine z_getr dX1_call_24 fsX1_151_0 (show gr M 16 35 = some (54, 100, 14500) from cw_at hw 22 rfl) ?_
  refine z_iload_n dX1_call_27 rfl rfl ?_
  obtain ⟨b_, k⟩ := k
  refine z_iald dX1_call_28 b_ ?_
  refine Z.pick [0, 2, 3, 4, 5, 6, 7] rfl ?_
  exact z_callV (as := [vi (gi M 53 (l2).toNatClampNeg), vi (gi M 54 (l2).toNatClampNeg)]) (st := []) dX1_call_29 vsX1_558_0 (Nat.le_refl _) (Nat.le_of_ble_eq_true rfl) (Nat.le_of_ble_eq_true rfl) rfl k
theorem sX1_call_32 {E : zE} {d : Nat} {Q : zO → zM → Prop} (M : zM) (l2 : Int32) (l3 : Int32) (l4 : Int32) (l5 : Int32) (l6 : Int32) (l7 : Int32) (s0 : Int32) (hw : cw M) (k : if s0 = 0 then (Z E YX1_call (d + 1) M [(0, vr (some (16, 0, 0))), (3, vi l3), (4, vi l4), (5, vi l5), (6, vi l6), (7, vi l7)] 45 [vi (-1 : Int32)] Q) else (vp_in l2 14500 ∧ (Z E YX1_call (d + 1) M [(0, vr (some (16, 0, 0))), (3, vi l3), (4, vi l4), (5, vi l5), (6, vi l6), (7, vi l7)] 45 [vi (gi M 54 (l2).toNatClampNeg)] Q))) : Z E YX1_call (d + 1) M [(0, vr (some (16, 0, 0))), (2, vi l2), (3, vi l3), (4, vi l4), (5, vi l5), (6, vi l6), (7, vi l7)] 32 [vi s0] Q := by
  refine z_if_eq (tgt := 44) dX1_call_32 rfl (fun h_ => ?_) (fun h_ => ?_)
  · have k := zit h_ k
    refine z_iconst (v := -1) dX1_call_44 rfl ?_
    refine Z.pick [0, 2, 3, 4, 5, 6] rfl ?_
    exact k
  · have k := zif h_ k
    refine z_aload_n dX1_call_35 rfl rfl ?_
    refine z_getr dX1_call_36 fsX1_151_0 (show gr M 16 35 = some (54, 100, 14500) from cw_at hw 22 rfl) ?_
    refine z_iload_n dX1_call_39 rfl rfl ?_
    obtain ⟨b_, k⟩ := k
    refine z_iald dX1_call_40 b_ ?_
    refine z_goto (tgt := 45) dX1_call_41 rfl ?_
    refine Z.pick [0, 2, 3, 4, 5, 6] rfl ?_
    exact k
theorem sX1_call_45 {E : zE} {d : Nat} {Q : zO → zM → Prop} (M : zM) (l3 : Int32) (l4 : Int32) (l5 : Int32) (l6 : Int32) (l7 : Int32) (s0 : Int32) (hw : cw M) (k : if s0 = (-1 : Int32) then (Z E YX1_error d M (zargs 0 [vr (some (16, 0, 0)), vi (0 : Int32)]) 0 [] (zafter E YX1_call (d + 1) [] 62 3 [] Q)) else (Z E YX1_call (d + 1) M [(0, vr (some (16, 0, 0))), (5, vi l5), (6, vi l6), (7, vi l7), (8, vi s0), (9, vi l3), (10, vi l4)] 66 [] Q)) : Z E YX1_call (d + 1) M [(0, vr (some (16, 0, 0))), (3, vi l3), (4, vi l4), (5, vi l5), (6, vi l6), (7, vi l7)] 45 [vi s0] Q := by
  refine z_ist dX1_call_45 (by decide) (lv' := [(0, vr (some (16, 0, 0))), (3, vi l3), (4, vi l4), (5, vi l5), (6, vi l6), (7, vi l7), (8, vi s0)]) rfl ?_
  refine z_iload_n dX1_call_47 rfl rfl ?_
  refine z_ist dX1_call_48 (by decide) (lv' := [(0, vr (some (16, 0, 0))), (3, vi l3), (4, vi l4), (5, vi l5), (6, vi l6), (7, vi l7), (8, vi s0), (9, vi l3)]) rfl ?_
  refine z_iload dX1_call_50 rfl ?_
  refine z_ist dX1_call_52 (by decide) (lv' := [(0, vr (some (16, 0, 0))), (3, vi l3), (4, vi l4), (5, vi l5), (6, vi l6), (7, vi l7), (8, vi s0), (9, vi l3), (10, vi l4)]) rfl ?_
  refine z_iload dX1_call_54 rfl ?_
  refine z_iconst (v := -1) dX1_call_56 rfl ?_
  refine z_icmp_ne (tgt := 66) dX1_call_57 rfl (fun h_ => ?_) (fun h_ => ?_)
  · have k := zif h_ k
    refine Z.pick [0, 3, 4, 5, 6, 7, 8] rfl ?_
    exact k
  · have k := zit h_ k
    refine z_aload_n dX1_call_60 rfl rfl ?_
    refine z_iconst (v := 0) dX1_call_61 rfl ?_
    refine Z.pick [] rfl ?_
    exact z_callV (as := [vi (0 : Int32)]) (st := []) dX1_call_62 vsX1_482_0 (Nat.le_refl _) (Nat.le_of_ble_eq_true rfl) (Nat.le_of_ble_eq_true rfl) rfl k
theorem sX1_call_65 {E : zE} {d : Nat} {Q : zO → zM → Prop} (M : zM) (u0 : Option zP) (hw : cw M) (k : ∃ b1 : Nat, u0 = some (b1, 14, 0) ∧ (Q (.inr (b1, 14, 0)) M)) : Z E YX1_call (d + 1) M [] 65 [vr u0] Q := by
  obtain ⟨b1, e1_, k⟩ := k
  refine Z.eqs (lv' := []) (st' := [vr (some (b1, 14, 0))]) rfl (by rw [e1_] <;> rfl) ?_
  exact z_athrow dX1_call_65 (ZT.out (by decide) k)
theorem sX1_call_66 {E : zE} {d : Nat} {Q : zO → zM → Prop} (M : zM) (l5 : Int32) (l6 : Int32) (l7 : Int32) (l8 : Int32) (l9 : Int32) (l10 : Int32) (hw : cw M) (k : vp_in l8 300 ∧ (if (gi M 39 (l8).toNatClampNeg) = (-20 : Int32) then (Z E YX1_isCalled d M (zargs 0 [vr (some (16, 0, 0)), vi l6, vi l7]) 0 [] (zafter E YX1_call (d + 1) [(0, vr (some (16, 0, 0))), (5, vi l5), (7, vi l7), (9, vi l9), (10, vi l10)] 83 3 [] Q)) else (vp_in l8 300 ∧ (if (gi M 39 (l8).toNatClampNeg) ≤ 0 then (vp_in l8 300 ∧ (Z E YX1_carryOut d M (zargs 0 [vr (some (16, 0, 0)), vi (-(gi M 39 (l8).toNatClampNeg)), vi l6, vi l7, vi l9, vi l10]) 0 [] (zafter E YX1_call (d + 1) [(0, vr (some (16, 0, 0))), (5, vi l5)] 198 3 [] Q))) else (Z E YX1_enter d M (zargs 0 [vr (some (16, 0, 0)), vi l8, vi l6, vi l7, vi l9, vi l10, vi l5, vi (-1 : Int32)]) 0 [] (zafter E YX1_call (d + 1) [] 175 3 [] Q)))))) : Z E YX1_call (d + 1) M [(0, vr (some (16, 0, 0))), (5, vi l5), (6, vi l6), (7, vi l7), (8, vi l8), (9, vi l9), (10, vi l10)] 66 [] Q := by
  refine z_aload_n dX1_call_66 rfl rfl ?_
  refine z_getr dX1_call_67 fsX1_96_0 (show gr M 16 14 = some (39, 101, 300) from cw_at hw 7 rfl) ?_
  refine z_iload dX1_call_70 rfl ?_
  obtain ⟨b_, k⟩ := k
  refine z_bald dX1_call_72 b_ ?_
  refine z_bipush (v := -20) dX1_call_73 rfl ?_
  refine z_icmp_ne (tgt := 151) dX1_call_75 rfl (fun h_ => ?_) (fun h_ => ?_)
  · have k := zif h_ k
    refine z_aload_n dX1_call_151 rfl rfl ?_
    refine z_getr dX1_call_152 fsX1_96_0 (show gr M 16 14 = some (39, 101, 300) from cw_at hw 7 rfl) ?_
    refine z_iload dX1_call_155 rfl ?_
    obtain ⟨b_, k⟩ := k
    refine z_bald dX1_call_157 b_ ?_
    refine z_if_le (tgt := 181) dX1_call_158 rfl (fun h_ => ?_) (fun h_ => ?_)
    · have k := zit h_ k
      refine z_aload_n dX1_call_181 rfl rfl ?_
      refine z_aload_n dX1_call_182 rfl rfl ?_
      refine z_getr dX1_call_183 fsX1_96_0 (show gr M 16 14 = some (39, 101, 300) from cw_at hw 7 rfl) ?_
      refine z_iload dX1_call_186 rfl ?_
      obtain ⟨b_, k⟩ := k
      refine z_bald dX1_call_188 b_ ?_
      refine z_ineg dX1_call_189 ?_
      refine z_iload dX1_call_190 rfl ?_
      refine z_iload dX1_call_192 rfl ?_
      refine z_iload dX1_call_194 rfl ?_
      refine z_iload dX1_call_196 rfl ?_
      refine Z.pick [0, 1] rfl ?_
      exact z_callV (as := [vi (-(gi M 39 (l8).toNatClampNeg)), vi l6, vi l7, vi l9, vi l10]) (st := []) dX1_call_198 vsX1_568_0 (Nat.le_refl _) (Nat.le_of_ble_eq_true rfl) (Nat.le_of_ble_eq_true rfl) rfl k
    · have k := zif h_ k
      refine z_aload_n dX1_call_161 rfl rfl ?_
      refine z_iload dX1_call_162 rfl ?_
      refine z_iload dX1_call_164 rfl ?_
      refine z_iload dX1_call_166 rfl ?_
      refine z_iload dX1_call_168 rfl ?_
      refine z_iload dX1_call_170 rfl ?_
      refine z_iload dX1_call_172 rfl ?_
      refine z_iconst (v := -1) dX1_call_174 rfl ?_
      refine Z.pick [] rfl ?_
      exact z_callV (as := [vi l8, vi l6, vi l7, vi l9, vi l10, vi l5, vi (-1 : Int32)]) (st := []) dX1_call_175 vsX1_564_0 (Nat.le_refl _) (Nat.le_of_ble_eq_true rfl) (Nat.le_of_ble_eq_true rfl) rfl k
  · have k := zit h_ k
    refine z_aload_n dX1_call_78 rfl rfl ?_
    refine z_iload dX1_call_79 rfl ?_
    refine z_iload dX1_call_81 rfl ?_
    refine Z.pick [0, 1, 3, 5, 6] rfl ?_
    exact z_callV (as := [vi l6, vi l7]) (st := []) dX1_call_83 vsX1_558_0 (Nat.le_refl _) (Nat.le_of_ble_eq_true rfl) (Nat.le_of_ble_eq_true rfl) rfl k
theorem sX1_call_86 {E : zE} {d : Nat} {Q : zO → zM → Prop} (M : zM) (l5 : Int32) (l7 : Int32) (l9 : Int32) (l10 : Int32) (s0 : Int32) (hw : cw M) (k : if s0 = 0 then (Z E YX1_error d M (zargs 0 [vr (some (16, 0, 0)), vi (0 : Int32)]) 0 [] (zafter E YX1_call (d + 1) [] 91 3 [] Q)) else (if l10 ≤ 0 then (Z E YX1_call (d + 1) M [(0, vr (some (16, 0, 0))), (5, vi l5), (8, vi l7), (9, vi l9), (10, vi l10)] 115 [vi (0 : Int32)] Q) else (vp_in l9 14500 ∧ (Z E YX1_call (d + 1) M [(0, vr (some (16, 0, 0))), (5, vi l5), (8, vi l7), (9, vi l9), (10, vi l10)] 115 [vi (gi M 53 (l9).toNatClampNeg)] Q)))) : Z E YX1_call (d + 1) M [(0, vr (some (16, 0, 0))), (5, vi l5), (7, vi l7), (9, vi l9), (10, vi l10)] 86 [vi s0] Q := by
  refine z_if_ne (tgt := 95) dX1_call_86 rfl (fun h_ => ?_) (fun h_ => ?_)
  · have k := zif h_ k
    refine z_iload dX1_call_95 rfl ?_
    refine z_ist dX1_call_97 (by decide) (lv' := [(0, vr (some (16, 0, 0))), (5, vi l5), (7, vi l7), (8, vi l7), (9, vi l9), (10, vi l10)]) rfl ?_
    refine z_iload dX1_call_99 rfl ?_
    refine z_if_le (tgt := 114) dX1_call_101 rfl (fun h_ => ?_) (fun h_ => ?_)
    · have k := zit h_ k
      refine z_iconst (v := 0) dX1_call_114 rfl ?_
      refine Z.pick [0, 1, 3, 4, 5] rfl ?_
      exact k
    · have k := zif h_ k
      refine z_aload_n dX1_call_104 rfl rfl ?_
      refine z_getr dX1_call_105 fsX1_148_0 (show gr M 16 34 = some (53, 101, 14500) from cw_at hw 21 rfl) ?_
      refine z_iload dX1_call_108 rfl ?_
      obtain ⟨b_, k⟩ := k
      refine z_bald dX1_call_110 b_ ?_
      refine z_goto (tgt := 115) dX1_call_111 rfl ?_
      refine Z.pick [0, 1, 3, 4, 5] rfl ?_
      exact k
  · have k := zit h_ k
    refine z_aload_n dX1_call_89 rfl rfl ?_
    refine z_iconst (v := 0) dX1_call_90 rfl ?_
    refine Z.pick [] rfl ?_
    exact z_callV (as := [vi (0 : Int32)]) (st := []) dX1_call_91 vsX1_482_0 (Nat.le_refl _) (Nat.le_of_ble_eq_true rfl) (Nat.le_of_ble_eq_true rfl) rfl k
theorem sX1_call_94 {E : zE} {d : Nat} {Q : zO → zM → Prop} (M : zM) (u0 : Option zP) (hw : cw M) (k : ∃ b1 : Nat, u0 = some (b1, 14, 0) ∧ (Q (.inr (b1, 14, 0)) M)) : Z E YX1_call (d + 1) M [] 94 [vr u0] Q := by
  obtain ⟨b1, e1_, k⟩ := k
  refine Z.eqs (lv' := []) (st' := [vr (some (b1, 14, 0))]) rfl (by rw [e1_] <;> rfl) ?_
  exact z_athrow dX1_call_94 (ZT.out (by decide) k)
theorem sX1_call_115 {E : zE} {d : Nat} {Q : zO → zM → Prop} (M : zM) (l5 : Int32) (l8 : Int32) (l9 : Int32) (l10 : Int32) (s0 : Int32) (hw : cw M) (k : if l10 ≤ 0 then (Z E YJ11_max d M (zargs 0 [vi (0 : Int32), vi (l10 - (1 : Int32))]) 0 [] (zafter E YX1_call (d + 1) [(0, vr (some (16, 0, 0))), (5, vi l5), (6, vi s0), (7, vi (0 : Int32)), (8, vi l8), (9, vi (l9 + (1 : Int32)))] 143 3 [] Q)) else (vp_in l9 14500 ∧ (Z E YJ11_max d M (zargs 0 [vi (0 : Int32), vi (l10 - (1 : Int32))]) 0 [] (zafter E YX1_call (d + 1) [(0, vr (some (16, 0, 0))), (5, vi l5), (6, vi s0), (7, vi (gi M 54 (l9).toNatClampNeg)), (8, vi l8), (9, vi (l9 + (1 : Int32)))] 143 3 [] Q)))) : Z E YX1_call (d + 1) M [(0, vr (some (16, 0, 0))), (5, vi l5), (8, vi l8), (9, vi l9), (10, vi l10)] 115 [vi s0] Q := by
  refine z_ist dX1_call_115 (by decide) (lv' := [(0, vr (some (16, 0, 0))), (5, vi l5), (6, vi s0), (8, vi l8), (9, vi l9), (10, vi l10)]) rfl ?_
  refine z_iload dX1_call_117 rfl ?_
  refine z_if_le (tgt := 132) dX1_call_119 rfl (fun h_ => ?_) (fun h_ => ?_)
  · have k := zit h_ k
    refine z_iconst (v := 0) dX1_call_132 rfl ?_
    refine z_ist dX1_call_133 (by decide) (lv' := [(0, vr (some (16, 0, 0))), (5, vi l5), (6, vi s0), (7, vi (0 : Int32)), (8, vi l8), (9, vi l9), (10, vi l10)]) rfl ?_
    refine z_inc (v := (l9 + (1 : Int32))) dX1_call_135 rfl rfl (by decide) (lv' := [(0, vr (some (16, 0, 0))), (5, vi l5), (6, vi s0), (7, vi (0 : Int32)), (8, vi l8), (9, vi (l9 + (1 : Int32))), (10, vi l10)]) rfl ?_
    refine z_iconst (v := 0) dX1_call_138 rfl ?_
    refine z_iload dX1_call_139 rfl ?_
    refine z_iconst (v := 1) dX1_call_141 rfl ?_
    refine z_isub dX1_call_142 ?_
    refine Z.pick [0, 1, 2, 3, 4, 5] rfl ?_
    exact z_callS (as := [vi (0 : Int32), vi (l10 - (1 : Int32))]) (st := []) dX1_call_143 ssX1_561 (Nat.le_refl _) (Nat.le_of_ble_eq_true rfl) (Nat.le_of_ble_eq_true rfl) rfl k
  · have k := zif h_ k
    refine z_aload_n dX1_call_122 rfl rfl ?_
    refine z_getr dX1_call_123 fsX1_151_0 (show gr M 16 35 = some (54, 100, 14500) from cw_at hw 22 rfl) ?_
    refine z_iload dX1_call_126 rfl ?_
    obtain ⟨b_, k⟩ := k
    refine z_iald dX1_call_128 b_ ?_
    refine z_goto (tgt := 133) dX1_call_129 rfl ?_
    refine z_ist dX1_call_133 (by decide) (lv' := [(0, vr (some (16, 0, 0))), (5, vi l5), (6, vi s0), (7, vi (gi M 54 (l9).toNatClampNeg)), (8, vi l8), (9, vi l9), (10, vi l10)]) rfl ?_
    refine z_inc (v := (l9 + (1 : Int32))) dX1_call_135 rfl rfl (by decide) (lv' := [(0, vr (some (16, 0, 0))), (5, vi l5), (6, vi s0), (7, vi (gi M 54 (l9).toNatClampNeg)), (8, vi l8), (9, vi (l9 + (1 : Int32))), (10, vi l10)]) rfl ?_
    refine z_iconst (v := 0) dX1_call_138 rfl ?_
    refine z_iload dX1_call_139 rfl ?_
    refine z_iconst (v := 1) dX1_call_141 rfl ?_
    refine z_isub dX1_call_142 ?_
    refine Z.pick [0, 1, 2, 3, 4, 5] rfl ?_
    exact z_callS (as := [vi (0 : Int32), vi (l10 - (1 : Int32))]) (st := []) dX1_call_143 ssX1_561 (Nat.le_refl _) (Nat.le_of_ble_eq_true rfl) (Nat.le_of_ble_eq_true rfl) rfl k
theorem sX1_call_146 {E : zE} {d : Nat} {Q : zO → zM → Prop} (M : zM) (l5 : Int32) (l6 : Int32) (l7 : Int32) (l8 : Int32) (l9 : Int32) (s0 : Int32) (hw : cw M) (k : Z E YX1_call (d + 1) M [(0, vr (some (16, 0, 0))), (5, vi l5), (6, vi l6), (7, vi l7), (8, vi l8), (9, vi l9), (10, vi s0)] 66 [] Q) : Z E YX1_call (d + 1) M [(0, vr (some (16, 0, 0))), (5, vi l5), (6, vi l6), (7, vi l7), (8, vi l8), (9, vi l9)] 146 [vi s0] Q := by
  refine z_ist dX1_call_146 (by decide) (lv' := [(0, vr (some (16, 0, 0))), (5, vi l5), (6, vi l6), (7, vi l7), (8, vi l8), (9, vi l9), (10, vi s0)]) rfl ?_
  refine z_goto (tgt := 66) dX1_call_148 rfl ?_
  exact k
theorem sX1_call_178 {E : zE} {d : Nat} {Q : zO → zM → Prop} (M : zM)  (hw : cw M) (k : Z E YX1_call (d + 1) M [] 219 [] Q) : Z E YX1_call (d + 1) M [] 178 [] Q := by
  refine z_goto (tgt := 219) dX1_call_178 rfl ?_
  exact k
theorem sX1_call_201 {E : zE} {d : Nat} {Q : zO → zM → Prop} (M : zM) (l5 : Int32) (hw : cw M) (k : Z E YX1_push d (si M 16 38 l5) (zargs 0 [vr (some (16, 0, 0)), vi (gi M 16 33), vi (gi M 16 32)]) 0 [] (zafter E YX1_call (d + 1) [] 216 3 [] Q)) : Z E YX1_call (d + 1) M [(0, vr (some (16, 0, 0))), (5, vi l5)] 201 [] Q := by
  refine z_aload_n dX1_call_201 rfl rfl ?_
  refine z_iload dX1_call_202 rfl ?_
  refine z_puti (by decide) dX1_call_204 (zfwN.w fwX1_440_0) rfl ⟨rfl, rfl⟩ ?_
  refine z_aload_n dX1_call_207 rfl rfl ?_
  refine z_aload_n dX1_call_208 rfl rfl ?_
  refine z_geti dX1_call_209 fsX1_389_0 ?_
  refine z_aload_n dX1_call_212 rfl rfl ?_
  refine z_geti dX1_call_213 fsX1_392_0 ?_
  refine Z.pick [] rfl ?_
  exact z_callV (as := [vi (gi M 16 33), vi (gi M 16 32)]) (st := []) dX1_call_216 vsX1_476_0 (Nat.le_refl _) (Nat.le_of_ble_eq_true rfl) (Nat.le_of_ble_eq_true rfl) rfl k
theorem sX1_call_219 {E : zE} {d : Nat} {Q : zO → zM → Prop} (M : zM)  (hw : cw M) (k : Q (.inl none) M) : Z E YX1_call (d + 1) M [] 219 [] Q := by
  exact z_vret dX1_call_219 rfl k
/-! ScriptTypes.enter(IIIIIII)V -/
theorem bX1_enter_0 : zdec cX1_enter 0 [(0, .aload_n 0, 1), (1, .getfield 328, 3), (4, .bipush 24, 2), (6, .if_icmp .ne 9, 3), (9, .aload_n 0, 1), (10, .iconst 2, 1), (11, .invokevirtual 482, 3), (14, .athrow, 1), (15, .aload_n 0, 1), (16, .getfield 82, 3), (19, .aload_n 0, 1), (20, .getfield 96, 3), (23, .iload_n 1, 1), (24, .baload, 1), (25, .invokevirtual 294, 3), (28, .checkcast 298, 3)] = true := by decide +kernel
theorem dX1_enter_0 : decode cX1_enter 0 = .ok (.aload_n 0, 1) := zdec_at bX1_enter_0 0 rfl
theorem dX1_enter_1 : decode cX1_enter 1 = .ok (.getfield 328, 3) := zdec_at bX1_enter_0 1 rfl
theorem dX1_enter_4 : decode cX1_enter 4 = .ok (.bipush 24, 2) := zdec_at bX1_enter_0 2 rfl
theorem dX1_enter_6 : decode cX1_enter 6 = .ok (.if_icmp .ne 9, 3) := zdec_at bX1_enter_0 3 rfl
theorem dX1_enter_9 : decode cX1_enter 9 = .ok (.aload_n 0, 1) := zdec_at bX1_enter_0 4 rfl
theorem dX1_enter_10 : decode cX1_enter 10 = .ok (.iconst 2, 1) := zdec_at bX1_enter_0 5 rfl
theorem dX1_enter_11 : decode cX1_enter 11 = .ok (.invokevirtual 482, 3) := zdec_at bX1_enter_0 6 rfl
theorem dX1_enter_14 : decode cX1_enter 14 = .ok (.athrow, 1) := zdec_at bX1_enter_0 7 rfl
theorem dX1_enter_15 : decode cX1_enter 15 = .ok (.aload_n 0, 1) := zdec_at bX1_enter_0 8 rfl
theorem dX1_enter_16 : decode cX1_enter 16 = .ok (.getfield 82, 3) := zdec_at bX1_enter_0 9 rfl
theorem dX1_enter_19 : decode cX1_enter 19 = .ok (.aload_n 0, 1) := zdec_at bX1_enter_0 10 rfl
theorem dX1_enter_20 : decode cX1_enter 20 = .ok (.getfield 96, 3) := zdec_at bX1_enter_0 11 rfl
theorem dX1_enter_23 : decode cX1_enter 23 = .ok (.iload_n 1, 1) := zdec_at bX1_enter_0 12 rfl
theorem dX1_enter_24 : decode cX1_enter 24 = .ok (.baload, 1) := zdec_at bX1_enter_0 13 rfl
theorem dX1_enter_25 : decode cX1_enter 25 = .ok (.invokevirtual 294, 3) := zdec_at bX1_enter_0 14 rfl
theorem dX1_enter_28 : decode cX1_enter 28 = .ok (.checkcast 298, 3) := zdec_at bX1_enter_0 15 rfl
theorem bX1_enter_31 : zdec cX1_enter 31 [(31, .astore 8, 2), (33, .aload_n 0, 1), (34, .iconst 3, 1), (35, .aload_n 0, 1), (36, .aload 8, 2), (38, .getfield 571, 3), (41, .invokevirtual 538, 3), (44, .iconst (-1), 1), (45, .aload_n 0, 1), (46, .getfield 106, 3), (49, .iload_n 1, 1), (50, .saload, 1), (51, .invokevirtual 362, 3), (54, .istore 9, 2), (56, .iconst 0, 1), (57, .istore 10, 2)] = true := by decide +kernel
theorem dX1_enter_31 : decode cX1_enter 31 = .ok (.astore 8, 2) := zdec_at bX1_enter_31 0 rfl
theorem dX1_enter_33 : decode cX1_enter 33 = .ok (.aload_n 0, 1) := zdec_at bX1_enter_31 1 rfl
theorem dX1_enter_34 : decode cX1_enter 34 = .ok (.iconst 3, 1) := zdec_at bX1_enter_31 2 rfl
theorem dX1_enter_35 : decode cX1_enter 35 = .ok (.aload_n 0, 1) := zdec_at bX1_enter_31 3 rfl
theorem dX1_enter_36 : decode cX1_enter 36 = .ok (.aload 8, 2) := zdec_at bX1_enter_31 4 rfl
theorem dX1_enter_38 : decode cX1_enter 38 = .ok (.getfield 571, 3) := zdec_at bX1_enter_31 5 rfl
theorem dX1_enter_41 : decode cX1_enter 41 = .ok (.invokevirtual 538, 3) := zdec_at bX1_enter_31 6 rfl
theorem dX1_enter_44 : decode cX1_enter 44 = .ok (.iconst (-1), 1) := zdec_at bX1_enter_31 7 rfl
theorem dX1_enter_45 : decode cX1_enter 45 = .ok (.aload_n 0, 1) := zdec_at bX1_enter_31 8 rfl
theorem dX1_enter_46 : decode cX1_enter 46 = .ok (.getfield 106, 3) := zdec_at bX1_enter_31 9 rfl
theorem dX1_enter_49 : decode cX1_enter 49 = .ok (.iload_n 1, 1) := zdec_at bX1_enter_31 10 rfl
theorem dX1_enter_50 : decode cX1_enter 50 = .ok (.saload, 1) := zdec_at bX1_enter_31 11 rfl
theorem dX1_enter_51 : decode cX1_enter 51 = .ok (.invokevirtual 362, 3) := zdec_at bX1_enter_31 12 rfl
theorem dX1_enter_54 : decode cX1_enter 54 = .ok (.istore 9, 2) := zdec_at bX1_enter_31 13 rfl
theorem dX1_enter_56 : decode cX1_enter 56 = .ok (.iconst 0, 1) := zdec_at bX1_enter_31 14 rfl
theorem dX1_enter_57 : decode cX1_enter 57 = .ok (.istore 10, 2) := zdec_at bX1_enter_31 15 rfl
theorem bX1_enter_59 : zdec cX1_enter 59 [(59, .iload 10, 2), (61, .aload 8, 2), (63, .getfield 316, 3), (66, .if_icmp .ge 127, 3), (69, .iload 10, 2), (71, .aload 8, 2), (73, .getfield 574, 3), (76, .if_icmp .ge 62, 3), (79, .aload_n 0, 1), (80, .iload 9, 2), (82, .aload 8, 2), (84, .getfield 577, 3), (87, .iload 10, 2), (89, .iaload, 1), (90, .iload 10, 2), (92, .iload 5, 2)] = true := by decide +kernel
theorem dX1_enter_59 : decode cX1_enter 59 = .ok (.iload 10, 2) := zdec_at bX1_enter_59 0 rfl
theorem dX1_enter_61 : decode cX1_enter 61 = .ok (.aload 8, 2) := zdec_at bX1_enter_59 1 rfl
theorem dX1_enter_63 : decode cX1_enter 63 = .ok (.getfield 316, 3) := zdec_at bX1_enter_59 2 rfl
theorem dX1_enter_66 : decode cX1_enter 66 = .ok (.if_icmp .ge 127, 3) := zdec_at bX1_enter_59 3 rfl
theorem dX1_enter_69 : decode cX1_enter 69 = .ok (.iload 10, 2) := zdec_at bX1_enter_59 4 rfl
theorem dX1_enter_71 : decode cX1_enter 71 = .ok (.aload 8, 2) := zdec_at bX1_enter_59 5 rfl
theorem dX1_enter_73 : decode cX1_enter 73 = .ok (.getfield 574, 3) := zdec_at bX1_enter_59 6 rfl
theorem dX1_enter_76 : decode cX1_enter 76 = .ok (.if_icmp .ge 62, 3) := zdec_at bX1_enter_59 7 rfl
theorem dX1_enter_79 : decode cX1_enter 79 = .ok (.aload_n 0, 1) := zdec_at bX1_enter_59 8 rfl
theorem dX1_enter_80 : decode cX1_enter 80 = .ok (.iload 9, 2) := zdec_at bX1_enter_59 9 rfl
theorem dX1_enter_82 : decode cX1_enter 82 = .ok (.aload 8, 2) := zdec_at bX1_enter_59 10 rfl
theorem dX1_enter_84 : decode cX1_enter 84 = .ok (.getfield 577, 3) := zdec_at bX1_enter_59 11 rfl
theorem dX1_enter_87 : decode cX1_enter 87 = .ok (.iload 10, 2) := zdec_at bX1_enter_59 12 rfl
theorem dX1_enter_89 : decode cX1_enter 89 = .ok (.iaload, 1) := zdec_at bX1_enter_59 13 rfl
theorem dX1_enter_90 : decode cX1_enter 90 = .ok (.iload 10, 2) := zdec_at bX1_enter_59 14 rfl
theorem dX1_enter_92 : decode cX1_enter 92 = .ok (.iload 5, 2) := zdec_at bX1_enter_59 15 rfl
theorem bX1_enter_94 : zdec cX1_enter 94 [(94, .if_icmp .ge 16, 3), (97, .aload_n 0, 1), (98, .getfield 148, 3), (101, .iload 4, 2), (103, .iload 10, 2), (105, .iadd, 1), (106, .baload, 1), (107, .goto 4, 3), (110, .iconst 0, 1), (111, .iload 10, 2), (113, .iload 5, 2), (115, .if_icmp .ge 16, 3), (118, .aload_n 0, 1), (119, .getfield 151, 3), (122, .iload 4, 2), (124, .iload 10, 2)] = true := by decide +kernel
theorem dX1_enter_94 : decode cX1_enter 94 = .ok (.if_icmp .ge 16, 3) := zdec_at bX1_enter_94 0 rfl
theorem dX1_enter_97 : decode cX1_enter 97 = .ok (.aload_n 0, 1) := zdec_at bX1_enter_94 1 rfl
theorem dX1_enter_98 : decode cX1_enter 98 = .ok (.getfield 148, 3) := zdec_at bX1_enter_94 2 rfl
theorem dX1_enter_101 : decode cX1_enter 101 = .ok (.iload 4, 2) := zdec_at bX1_enter_94 3 rfl
theorem dX1_enter_103 : decode cX1_enter 103 = .ok (.iload 10, 2) := zdec_at bX1_enter_94 4 rfl
theorem dX1_enter_105 : decode cX1_enter 105 = .ok (.iadd, 1) := zdec_at bX1_enter_94 5 rfl
theorem dX1_enter_106 : decode cX1_enter 106 = .ok (.baload, 1) := zdec_at bX1_enter_94 6 rfl
theorem dX1_enter_107 : decode cX1_enter 107 = .ok (.goto 4, 3) := zdec_at bX1_enter_94 7 rfl
theorem dX1_enter_110 : decode cX1_enter 110 = .ok (.iconst 0, 1) := zdec_at bX1_enter_94 8 rfl
theorem dX1_enter_111 : decode cX1_enter 111 = .ok (.iload 10, 2) := zdec_at bX1_enter_94 9 rfl
theorem dX1_enter_113 : decode cX1_enter 113 = .ok (.iload 5, 2) := zdec_at bX1_enter_94 10 rfl
theorem dX1_enter_115 : decode cX1_enter 115 = .ok (.if_icmp .ge 16, 3) := zdec_at bX1_enter_94 11 rfl
theorem dX1_enter_118 : decode cX1_enter 118 = .ok (.aload_n 0, 1) := zdec_at bX1_enter_94 12 rfl
theorem dX1_enter_119 : decode cX1_enter 119 = .ok (.getfield 151, 3) := zdec_at bX1_enter_94 13 rfl
theorem dX1_enter_122 : decode cX1_enter 122 = .ok (.iload 4, 2) := zdec_at bX1_enter_94 14 rfl
theorem dX1_enter_124 : decode cX1_enter 124 = .ok (.iload 10, 2) := zdec_at bX1_enter_94 15 rfl
theorem bX1_enter_126 : zdec cX1_enter 126 [(126, .iadd, 1), (127, .iaload, 1), (128, .goto 4, 3), (131, .iconst 0, 1), (132, .invokevirtual 358, 3), (135, .goto 52, 3), (138, .aload 8, 2), (140, .getfield 577, 3), (143, .iload 10, 2), (145, .iaload, 1), (146, .aload 8, 2), (148, .getfield 580, 3), (151, .if_icmp .ne 20, 3), (154, .aload_n 0, 1), (155, .iload 9, 2), (157, .aload 8, 2)] = true := by decide +kernel
theorem dX1_enter_126 : decode cX1_enter 126 = .ok (.iadd, 1) := zdec_at bX1_enter_126 0 rfl
theorem dX1_enter_127 : decode cX1_enter 127 = .ok (.iaload, 1) := zdec_at bX1_enter_126 1 rfl
theorem dX1_enter_128 : decode cX1_enter 128 = .ok (.goto 4, 3) := zdec_at bX1_enter_126 2 rfl
theorem dX1_enter_131 : decode cX1_enter 131 = .ok (.iconst 0, 1) := zdec_at bX1_enter_126 3 rfl
theorem dX1_enter_132 : decode cX1_enter 132 = .ok (.invokevirtual 358, 3) := zdec_at bX1_enter_126 4 rfl
theorem dX1_enter_135 : decode cX1_enter 135 = .ok (.goto 52, 3) := zdec_at bX1_enter_126 5 rfl
theorem dX1_enter_138 : decode cX1_enter 138 = .ok (.aload 8, 2) := zdec_at bX1_enter_126 6 rfl
theorem dX1_enter_140 : decode cX1_enter 140 = .ok (.getfield 577, 3) := zdec_at bX1_enter_126 7 rfl
theorem dX1_enter_143 : decode cX1_enter 143 = .ok (.iload 10, 2) := zdec_at bX1_enter_126 8 rfl
theorem dX1_enter_145 : decode cX1_enter 145 = .ok (.iaload, 1) := zdec_at bX1_enter_126 9 rfl
theorem dX1_enter_146 : decode cX1_enter 146 = .ok (.aload 8, 2) := zdec_at bX1_enter_126 10 rfl
theorem dX1_enter_148 : decode cX1_enter 148 = .ok (.getfield 580, 3) := zdec_at bX1_enter_126 11 rfl
theorem dX1_enter_151 : decode cX1_enter 151 = .ok (.if_icmp .ne 20, 3) := zdec_at bX1_enter_126 12 rfl
theorem dX1_enter_154 : decode cX1_enter 154 = .ok (.aload_n 0, 1) := zdec_at bX1_enter_126 13 rfl
theorem dX1_enter_155 : decode cX1_enter 155 = .ok (.iload 9, 2) := zdec_at bX1_enter_126 14 rfl
theorem dX1_enter_157 : decode cX1_enter 157 = .ok (.aload 8, 2) := zdec_at bX1_enter_126 15 rfl
theorem bX1_enter_159 : zdec cX1_enter 159 [(159, .getfield 580, 3), (162, .bipush 7, 2), (164, .iload_n 1, 1), (165, .invokevirtual 358, 3), (168, .goto 19, 3), (171, .aload_n 0, 1), (172, .iload 9, 2), (174, .aload 8, 2), (176, .getfield 577, 3), (179, .iload 10, 2), (181, .iaload, 1), (182, .iconst 0, 1), (183, .iconst 0, 1), (184, .invokevirtual 358, 3), (187, .iinc 10 1, 3), (190, .goto (-131), 3)] = true := by decide +kernel
theorem dX1_enter_159 : decode cX1_enter 159 = .ok (.getfield 580, 3) := zdec_at bX1_enter_159 0 rfl
theorem dX1_enter_162 : decode cX1_enter 162 = .ok (.bipush 7, 2) := zdec_at bX1_enter_159 1 rfl
theorem dX1_enter_164 : decode cX1_enter 164 = .ok (.iload_n 1, 1) := zdec_at bX1_enter_159 2 rfl
theorem dX1_enter_165 : decode cX1_enter 165 = .ok (.invokevirtual 358, 3) := zdec_at bX1_enter_159 3 rfl
theorem dX1_enter_168 : decode cX1_enter 168 = .ok (.goto 19, 3) := zdec_at bX1_enter_159 4 rfl
theorem dX1_enter_171 : decode cX1_enter 171 = .ok (.aload_n 0, 1) := zdec_at bX1_enter_159 5 rfl
theorem dX1_enter_172 : decode cX1_enter 172 = .ok (.iload 9, 2) := zdec_at bX1_enter_159 6 rfl
theorem dX1_enter_174 : decode cX1_enter 174 = .ok (.aload 8, 2) := zdec_at bX1_enter_159 7 rfl
theorem dX1_enter_176 : decode cX1_enter 176 = .ok (.getfield 577, 3) := zdec_at bX1_enter_159 8 rfl
theorem dX1_enter_179 : decode cX1_enter 179 = .ok (.iload 10, 2) := zdec_at bX1_enter_159 9 rfl
theorem dX1_enter_181 : decode cX1_enter 181 = .ok (.iaload, 1) := zdec_at bX1_enter_159 10 rfl
theorem dX1_enter_182 : decode cX1_enter 182 = .ok (.iconst 0, 1) := zdec_at bX1_enter_159 11 rfl
theorem dX1_enter_183 : decode cX1_enter 183 = .ok (.iconst 0, 1) := zdec_at bX1_enter_159 12 rfl
theorem dX1_enter_184 : decode cX1_enter 184 = .ok (.invokevirtual 358, 3) := zdec_at bX1_enter_159 13 rfl
theorem dX1_enter_187 : decode cX1_enter 187 = .ok (.iinc 10 1, 3) := zdec_at bX1_enter_159 14 rfl
theorem dX1_enter_190 : decode cX1_enter 190 = .ok (.goto (-131), 3) := zdec_at bX1_enter_159 15 rfl
theorem bX1_enter_193 : zdec cX1_enter 193 [(193, .aload_n 0, 1), (194, .iload 6, 2), (196, .putfield 440, 3), (199, .aload_n 0, 1), (200, .aload 8, 2), (202, .getfield 571, 3), (205, .iload 9, 2), (207, .iload_n 2, 1), (208, .iload_n 3, 1), (209, .iload 7, 2), (211, .invokevirtual 446, 3), (214, .return_, 1)] = true := by decide +kernel
theorem dX1_enter_193 : decode cX1_enter 193 = .ok (.aload_n 0, 1) := zdec_at bX1_enter_193 0 rfl
theorem dX1_enter_194 : decode cX1_enter 194 = .ok (.iload 6, 2) := zdec_at bX1_enter_193 1 rfl
theorem dX1_enter_196 : decode cX1_enter 196 = .ok (.putfield 440, 3) := zdec_at bX1_enter_193 2 rfl
theorem dX1_enter_199 : decode cX1_enter 199 = .ok (.aload_n 0, 1) := zdec_at bX1_enter_193 3 rfl
theorem dX1_enter_200 : decode cX1_enter 200 = .ok (.aload 8, 2) := zdec_at bX1_enter_193 4 rfl
theorem dX1_enter_202 : decode cX1_enter 202 = .ok (.getfield 571, 3) := zdec_at bX1_enter_193 5 rfl
theorem dX1_enter_205 : decode cX1_enter 205 = .ok (.iload 9, 2) := zdec_at bX1_enter_193 6 rfl
theorem dX1_enter_207 : decode cX1_enter 207 = .ok (.iload_n 2, 1) := zdec_at bX1_enter_193 7 rfl
theorem dX1_enter_208 : decode cX1_enter 208 = .ok (.iload_n 3, 1) := zdec_at bX1_enter_193 8 rfl
theorem dX1_enter_209 : decode cX1_enter 209 = .ok (.iload 7, 2) := zdec_at bX1_enter_193 9 rfl
theorem dX1_enter_211 : decode cX1_enter 211 = .ok (.invokevirtual 446, 3) := zdec_at bX1_enter_193 10 rfl
theorem dX1_enter_214 : decode cX1_enter 214 = .ok (.return_, 1) := zdec_at bX1_enter_193 11 rfl
theorem sX1_enter_0 {E : zE} {d : Nat} {Q : zO → zM → Prop} (M : zM) (l1 : Int32) (l2 : Int32) (l3 : Int32) (l4 : Int32) (l5 : Int32) (l6 : Int32) (l7 : Int32) (hw : cw M) (k : if (gi M 16 49) = (24 : Int32) then (Z E YX1_error d M (zargs 0 [vr (some (16, 0, 0)), vi (2 : Int32)]) 0 [] (zafter E YX1_enter (d + 1) [] 11 3 [] Q)) else (vp_in l1 300 ∧ (∃ b1 : Nat, (gr M 16 8) = some (b1, 11, 0) ∧ (Z E YJ2_get d M (zargs 0 [vr (some (b1, 11, 0)), vi (gi M 39 (l1).toNatClampNeg)]) 0 [] (zafter E YX1_enter (d + 1) [(0, vr (some (16, 0, 0))), (1, vi l1), (2, vi l2), (3, vi l3), (4, vi l4), (5, vi l5), (6, vi l6), (7, vi l7)] 25 3 [] Q))))) : Z E YX1_enter (d + 1) M [(0, vr (some (16, 0, 0))), (1, vi l1), (2, vi l2), (3, vi l3), (4, vi l4), (5, vi l5), (6, vi l6), (7, vi l7)] 0 [] Q := by
  refine z_aload_n dX1_enter_0 rfl rfl ?_
  refine z_geti dX1_enter_1 fsX1_328_0 ?_
  refine z_bipush (v := 24) dX1_enter_4 rfl ?_
  refine z_icmp_ne (tgt := 15) dX1_enter_6 rfl (fun h_ => ?_) (fun h_ => ?_)
  · have k := zif h_ k
    refine z_aload_n dX1_enter_15 rfl rfl ?_
    refine z_getr (r := (gr M 16 8)) dX1_enter_16 fsX1_82_0 rfl ?_
    refine z_aload_n dX1_enter_19 rfl rfl ?_
    refine z_getr dX1_enter_20 fsX1_96_0 (show gr M 16 14 = some (39, 101, 300) from cw_at hw 7 rfl) ?_
    refine z_iload_n dX1_enter_23 rfl rfl ?_
    obtain ⟨b_, k⟩ := k
    refine z_bald dX1_enter_24 b_ ?_
    obtain ⟨b1, e1_, k⟩ := k
    refine Z.eqs (lv' := [(0, vr (some (16, 0, 0))), (1, vi l1), (2, vi l2), (3, vi l3), (4, vi l4), (5, vi l5), (6, vi l6), (7, vi l7)]) (st' := [vi (gi M 39 (l1).toNatClampNeg), vr (some (b1, 11, 0))]) rfl (by rw [e1_] <;> rfl) ?_
    exact z_callV (as := [vi (gi M 39 (l1).toNatClampNeg)]) (st := []) dX1_enter_25 vsX1_294_11 (Nat.le_refl _) (Nat.le_of_ble_eq_true rfl) (Nat.le_of_ble_eq_true rfl) rfl k
  · have k := zit h_ k
    refine z_aload_n dX1_enter_9 rfl rfl ?_
    refine z_iconst (v := 2) dX1_enter_10 rfl ?_
    refine Z.pick [] rfl ?_
    exact z_callV (as := [vi (2 : Int32)]) (st := []) dX1_enter_11 vsX1_482_0 (Nat.le_refl _) (Nat.le_of_ble_eq_true rfl) (Nat.le_of_ble_eq_true rfl) rfl k
theorem sX1_enter_14 {E : zE} {d : Nat} {Q : zO → zM → Prop} (M : zM) (u0 : Option zP) (hw : cw M) (k : ∃ b1 : Nat, u0 = some (b1, 14, 0) ∧ (Q (.inr (b1, 14, 0)) M)) : Z E YX1_enter (d + 1) M [] 14 [vr u0] Q := by
  obtain ⟨b1, e1_, k⟩ := k
  refine Z.eqs (lv' := []) (st' := [vr (some (b1, 14, 0))]) rfl (by rw [e1_] <;> rfl) ?_
  exact z_athrow dX1_enter_14 (ZT.out (by decide) k)
theorem sX1_enter_28 {E : zE} {d : Nat} {Q : zO → zM → Prop} (M : zM) (l1 : Int32) (l2 : Int32) (l3 : Int32) (l4 : Int32) (l5 : Int32) (l6 : Int32) (l7 : Int32) (u0 : Option zP) (hw : cw M) (k : ∃ b1 : Nat, u0 = some (b1, 10, 0) ∧ (Z E YX1_scopePair d M (zargs 0 [vr (some (16, 0, 0)), vi (gi M b1 0)]) 0 [] (zafter E YX1_enter (d + 1) [(0, vr (some (16, 0, 0))), (1, vi l1), (2, vi l2), (3, vi l3), (4, vi l4), (5, vi l5), (6, vi l6), (7, vi l7), (8, vr (some (b1, 10, 0)))] 41 3 [vi (3 : Int32), vr (some (16, 0, 0))] Q))) : Z E YX1_enter (d + 1) M [(0, vr (some (16, 0, 0))), (1, vi l1), (2, vi l2), (3, vi l3), (4, vi l4), (5, vi l5), (6, vi l6), (7, vi l7)] 28 [vr u0] Q := by
  obtain ⟨b1, e1_, k⟩ := k
  refine Z.eqs (lv' := [(0, vr (some (16, 0, 0))), (1, vi l1), (2, vi l2), (3, vi l3), (4, vi l4), (5, vi l5), (6, vi l6), (7, vi l7)]) (st' := [vr (some (b1, 10, 0))]) rfl (by rw [e1_] <;> rfl) ?_
  refine z_ckcast dX1_enter_28 ctX1_298_10 ?_
  refine z_ast dX1_enter_31 (by decide) (lv' := [(0, vr (some (16, 0, 0))), (1, vi l1), (2, vi l2), (3, vi l3), (4, vi l4), (5, vi l5), (6, vi l6), (7, vi l7), (8, vr (some (b1, 10, 0)))]) rfl ?_
  refine z_aload_n dX1_enter_33 rfl rfl ?_
  refine z_iconst (v := 3) dX1_enter_34 rfl ?_
  refine z_aload_n dX1_enter_35 rfl rfl ?_
  refine z_aload dX1_enter_36 rfl ?_
  refine z_geti dX1_enter_38 fsX1_571_10 ?_
  exact z_callV (as := [vi (gi M b1 0)]) (st := [vi (3 : Int32), vr (some (16, 0, 0))]) dX1_enter_41 vsX1_538_0 (Nat.le_refl _) (Nat.le_of_ble_eq_true rfl) (Nat.le_of_ble_eq_true rfl) rfl k
theorem sX1_enter_44 {E : zE} {d : Nat} {Q : zO → zM → Prop} (M : zM) (l1 : Int32) (l2 : Int32) (l3 : Int32) (l4 : Int32) (l5 : Int32) (l6 : Int32) (l7 : Int32) (a8 : Nat) (s0 : Int32) (s1 : Int32) (hw : cw M) (k : vp_in l1 300 ∧ (Z E YX1_born d M (zargs 0 [vr (some (16, 0, 0)), vi s1, vi s0, vi (-1 : Int32), vi (gi M 42 (l1).toNatClampNeg)]) 0 [] (zafter E YX1_enter (d + 1) [(0, vr (some (16, 0, 0))), (1, vi l1), (2, vi l2), (3, vi l3), (4, vi l4), (5, vi l5), (6, vi l6), (7, vi l7), (8, vr (some (a8, 10, 0)))] 51 3 [] Q))) : Z E YX1_enter (d + 1) M [(0, vr (some (16, 0, 0))), (1, vi l1), (2, vi l2), (3, vi l3), (4, vi l4), (5, vi l5), (6, vi l6), (7, vi l7), (8, vr (some (a8, 10, 0)))] 44 [vi s0, vi s1, vr (some (16, 0, 0))] Q := by
  refine z_iconst (v := -1) dX1_enter_44 rfl ?_
  refine z_aload_n dX1_enter_45 rfl rfl ?_
  refine z_getr dX1_enter_46 fsX1_106_0 (show gr M 16 17 = some (42, 102, 300) from cw_at hw 10 rfl) ?_
  refine z_iload_n dX1_enter_49 rfl rfl ?_
  obtain ⟨b_, k⟩ := k
  refine z_sald dX1_enter_50 b_ ?_
  exact z_callV (as := [vi s1, vi s0, vi (-1 : Int32), vi (gi M 42 (l1).toNatClampNeg)]) (st := []) dX1_enter_51 vsX1_362_0 (Nat.le_refl _) (Nat.le_of_ble_eq_true rfl) (Nat.le_of_ble_eq_true rfl) rfl k
theorem sX1_enter_54 {E : zE} {d : Nat} {Q : zO → zM → Prop} (M : zM) (l1 : Int32) (l2 : Int32) (l3 : Int32) (l4 : Int32) (l5 : Int32) (l6 : Int32) (l7 : Int32) (a8 : Nat) (s0 : Int32) (hw : cw M) (k : Z E YX1_enter (d + 1) M [(0, vr (some (16, 0, 0))), (1, vi l1), (2, vi l2), (3, vi l3), (4, vi l4), (5, vi l5), (6, vi l6), (7, vi l7), (8, vr (some (a8, 10, 0))), (9, vi s0), (10, vi (0 : Int32))] 59 [] Q) : Z E YX1_enter (d + 1) M [(0, vr (some (16, 0, 0))), (1, vi l1), (2, vi l2), (3, vi l3), (4, vi l4), (5, vi l5), (6, vi l6), (7, vi l7), (8, vr (some (a8, 10, 0)))] 54 [vi s0] Q := by
  refine z_ist dX1_enter_54 (by decide) (lv' := [(0, vr (some (16, 0, 0))), (1, vi l1), (2, vi l2), (3, vi l3), (4, vi l4), (5, vi l5), (6, vi l6), (7, vi l7), (8, vr (some (a8, 10, 0))), (9, vi s0)]) rfl ?_
  refine z_iconst (v := 0) dX1_enter_56 rfl ?_
  refine z_ist dX1_enter_57 (by decide) (lv' := [(0, vr (some (16, 0, 0))), (1, vi l1), (2, vi l2), (3, vi l3), (4, vi l4), (5, vi l5), (6, vi l6), (7, vi l7), (8, vr (some (a8, 10, 0))), (9, vi s0), (10, vi (0 : Int32))]) rfl ?_
  exact k
theorem sX1_enter_59 {E : zE} {d : Nat} {Q : zO → zM → Prop} (M : zM) (l1 : Int32) (l2 : Int32) (l3 : Int32) (l4 : Int32) (l5 : Int32) (l6 : Int32) (l7 : Int32) (a8 : Nat) (l9 : Int32) (l10 : Int32) (hw : cw M) (k : if (gi M a8 5) ≤ l10 then (Z E YX1_comes d (si M 16 38 l6) (zargs 0 [vr (some (16, 0, 0)), vi (gi (si M 16 38 l6) a8 0), vi l9, vi l2, vi l3, vi l7]) 0 [] (zafter E YX1_enter (d + 1) [] 211 3 [] Q)) else (if (gi M a8 6) ≤ l10 then (∃ b1 m1 : Nat, (gr M a8 4) = some (b1, 100, m1) ∧ (vp_in l10 m1 ∧ (if (gi M b1 (l10).toNatClampNeg) = (gi M a8 8) then (Z E YX1_setOwn d M (zargs 0 [vr (some (16, 0, 0)), vi l9, vi (gi M a8 8), vi (7 : Int32), vi l1]) 0 [] (zafter E YX1_enter (d + 1) [(0, vr (some (16, 0, 0))), (1, vi l1), (2, vi l2), (3, vi l3), (4, vi l4), (5, vi l5), (6, vi l6), (7, vi l7), (8, vr (some (a8, 10, 0))), (9, vi l9), (10, vi l10)] 165 3 [] Q)) else (∃ b2 m2 : Nat, (gr M a8 4) = some (b2, 100, m2) ∧ (vp_in l10 m2 ∧ (Z E YX1_setOwn d M (zargs 0 [vr (some (16, 0, 0)), vi l9, vi (gi M b2 (l10).toNatClampNeg), vi (0 : Int32), vi (0 : Int32)]) 0 [] (zafter E YX1_enter (d + 1) [(0, vr (some (16, 0, 0))), (1, vi l1), (2, vi l2), (3, vi l3), (4, vi l4), (5, vi l5), (6, vi l6), (7, vi l7), (8, vr (some (a8, 10, 0))), (9, vi l9), (10, vi l10)] 184 3 [] Q))))))) else (∃ b1 m1 : Nat, (gr M a8 4) = some (b1, 100, m1) ∧ (vp_in l10 m1 ∧ (if l5 ≤ l10 then (Z E YX1_enter (d + 1) M [(0, vr (some (16, 0, 0))), (1, vi l1), (2, vi l2), (3, vi l3), (4, vi l4), (5, vi l5), (6, vi l6), (7, vi l7), (8, vr (some (a8, 10, 0))), (9, vi l9), (10, vi l10)] 111 [vi (0 : Int32), vi (gi M b1 (l10).toNatClampNeg), vi l9, vr (some (16, 0, 0))] Q) else (vp_in (l4 + l10) 14500 ∧ (Z E YX1_enter (d + 1) M [(0, vr (some (16, 0, 0))), (1, vi l1), (2, vi l2), (3, vi l3), (4, vi l4), (5, vi l5), (6, vi l6), (7, vi l7), (8, vr (some (a8, 10, 0))), (9, vi l9), (10, vi l10)] 111 [vi (gi M 53 ((l4 + l10)).toNatClampNeg), vi (gi M b1 (l10).toNatClampNeg), vi l9, vr (some (16, 0, 0))] Q))))))) : Z E YX1_enter (d + 1) M [(0, vr (some (16, 0, 0))), (1, vi l1), (2, vi l2), (3, vi l3), (4, vi l4), (5, vi l5), (6, vi l6), (7, vi l7), (8, vr (some (a8, 10, 0))), (9, vi l9), (10, vi l10)] 59 [] Q := by
  refine z_iload dX1_enter_59 rfl ?_
  refine z_aload dX1_enter_61 rfl ?_
  refine z_geti dX1_enter_63 fsX1_316_10 ?_
  refine z_icmp_ge (tgt := 193) dX1_enter_66 rfl (fun h_ => ?_) (fun h_ => ?_)
  · have k := zit h_ k
    refine z_aload_n dX1_enter_193 rfl rfl ?_
    refine z_iload dX1_enter_194 rfl ?_
    refine z_puti (by decide) dX1_enter_196 (zfwN.w fwX1_440_0) rfl ⟨rfl, rfl⟩ ?_
    refine z_aload_n dX1_enter_199 rfl rfl ?_
    refine z_aload dX1_enter_200 rfl ?_
    refine z_geti dX1_enter_202 fsX1_571_10 ?_
    refine z_iload dX1_enter_205 rfl ?_
    refine z_iload_n dX1_enter_207 rfl rfl ?_
    refine z_iload_n dX1_enter_208 rfl rfl ?_
    refine z_iload dX1_enter_209 rfl ?_
    refine Z.pick [] rfl ?_
    exact z_callV (as := [vi (gi (si M 16 38 l6) a8 0), vi l9, vi l2, vi l3, vi l7]) (st := []) dX1_enter_211 vsX1_446_0 (Nat.le_refl _) (Nat.le_of_ble_eq_true rfl) (Nat.le_of_ble_eq_true rfl) rfl k
  · have k := zif h_ k
    refine z_iload dX1_enter_69 rfl ?_
    refine z_aload dX1_enter_71 rfl ?_
    refine z_geti dX1_enter_73 fsX1_574_10 ?_
    refine z_icmp_ge (tgt := 138) dX1_enter_76 rfl (fun h_ => ?_) (fun h_ => ?_)
    · have k := zit h_ k
      refine z_aload dX1_enter_138 rfl ?_
      refine z_getr (r := (gr M a8 4)) dX1_enter_140 fsX1_577_10 rfl ?_
      refine z_iload dX1_enter_143 rfl ?_
      obtain ⟨b1, m1, e1_, k⟩ := k
      refine Z.eqs (lv' := [(0, vr (some (16, 0, 0))), (1, vi l1), (2, vi l2), (3, vi l3), (4, vi l4), (5, vi l5), (6, vi l6), (7, vi l7), (8, vr (some (a8, 10, 0))), (9, vi l9), (10, vi l10)]) (st' := [vi l10, vr (some (b1, 100, m1))]) rfl (by rw [e1_] <;> rfl) ?_
      obtain ⟨b_, k⟩ := k
      refine z_iald dX1_enter_145 b_ ?_
      refine z_aload dX1_enter_146 rfl ?_
      refine z_geti dX1_enter_148 fsX1_580_10 ?_
      refine z_icmp_ne (tgt := 171) dX1_enter_151 rfl (fun h_ => ?_) (fun h_ => ?_)
      · have k := zif h_ k
        refine z_aload_n dX1_enter_171 rfl rfl ?_
        refine z_iload dX1_enter_172 rfl ?_
        refine z_aload dX1_enter_174 rfl ?_
        refine z_getr (r := (gr M a8 4)) dX1_enter_176 fsX1_577_10 rfl ?_
        refine z_iload dX1_enter_179 rfl ?_
        obtain ⟨b2, m2, e2_, k⟩ := k
        refine Z.eqs (lv' := [(0, vr (some (16, 0, 0))), (1, vi l1), (2, vi l2), (3, vi l3), (4, vi l4), (5, vi l5), (6, vi l6), (7, vi l7), (8, vr (some (a8, 10, 0))), (9, vi l9), (10, vi l10)]) (st' := [vi l10, vr (some (b2, 100, m2)), vi l9, vr (some (16, 0, 0))]) rfl (by rw [e2_] <;> rfl) ?_
        obtain ⟨b_, k⟩ := k
        refine z_iald dX1_enter_181 b_ ?_
        refine z_iconst (v := 0) dX1_enter_182 rfl ?_
        refine z_iconst (v := 0) dX1_enter_183 rfl ?_
        exact z_callV (as := [vi l9, vi (gi M b2 (l10).toNatClampNeg), vi (0 : Int32), vi (0 : Int32)]) (st := []) dX1_enter_184 vsX1_358_0 (Nat.le_refl _) (Nat.le_of_ble_eq_true rfl) (Nat.le_of_ble_eq_true rfl) rfl k
      · have k := zit h_ k
        refine z_aload_n dX1_enter_154 rfl rfl ?_
        refine z_iload dX1_enter_155 rfl ?_
        refine z_aload dX1_enter_157 rfl ?_
        refine z_geti dX1_enter_159 fsX1_580_10 ?_
        refine z_bipush (v := 7) dX1_enter_162 rfl ?_
        refine z_iload_n dX1_enter_164 rfl rfl ?_
        exact z_callV (as := [vi l9, vi (gi M a8 8), vi (7 : Int32), vi l1]) (st := []) dX1_enter_165 vsX1_358_0 (Nat.le_refl _) (Nat.le_of_ble_eq_true rfl) (Nat.le_of_ble_eq_true rfl) rfl k
    · have k := zif h_ k
      refine z_aload_n dX1_enter_79 rfl rfl ?_
      refine z_iload dX1_enter_80 rfl ?_
      refine z_aload dX1_enter_82 rfl ?_
      refine z_getr (r := (gr M a8 4)) dX1_enter_84 fsX1_577_10 rfl ?_
      refine z_iload dX1_enter_87 rfl ?_
      obtain ⟨b1, m1, e1_, k⟩ := k
      refine Z.eqs (lv' := [(0, vr (some (16, 0, 0))), (1, vi l1), (2, vi l2), (3, vi l3), (4, vi l4), (5, vi l5), (6, vi l6), (7, vi l7), (8, vr (some (a8, 10, 0))), (9, vi l9), (10, vi l10)]) (st' := [vi l10, vr (some (b1, 100, m1)), vi l9, vr (some (16, 0, 0))]) rfl (by rw [e1_] <;> rfl) ?_
      obtain ⟨b_, k⟩ := k
      refine z_iald dX1_enter_89 b_ ?_
      refine z_iload dX1_enter_90 rfl ?_
      refine z_iload dX1_enter_92 rfl ?_
      refine z_icmp_ge (tgt := 110) dX1_enter_94 rfl (fun h_ => ?_) (fun h_ => ?_)
      · have k := zit h_ k
        refine z_iconst (v := 0) dX1_enter_110 rfl ?_
        exact k
      · have k := zif h_ k
        refine z_aload_n dX1_enter_97 rfl rfl ?_
        refine z_getr dX1_enter_98 fsX1_148_0 (show gr M 16 34 = some (53, 101, 14500) from cw_at hw 21 rfl) ?_
        refine z_iload dX1_enter_101 rfl ?_
        refine z_iload dX1_enter_103 rfl ?_
        refine z_iadd dX1_enter_105 ?_
        obtain ⟨b_, k⟩ := k
        refine z_bald dX1_enter_106 b_ ?_
        refine z_goto (tgt := 111) dX1_enter_107 rfl ?_
        exact k
theorem sX1_enter_111 {E : zE} {d : Nat} {Q : zO → zM → Prop} (M : zM) (l1 : Int32) (l2 : Int32) (l3 : Int32) (l4 : Int32) (l5 : Int32) (l6 : Int32) (l7 : Int32) (a8 : Nat) (l9 : Int32) (l10 : Int32) (s0 : Int32) (s1 : Int32) (s2 : Int32) (hw : cw M) (k : if l5 ≤ l10 then (Z E YX1_setOwn d M (zargs 0 [vr (some (16, 0, 0)), vi s2, vi s1, vi s0, vi (0 : Int32)]) 0 [] (zafter E YX1_enter (d + 1) [(0, vr (some (16, 0, 0))), (1, vi l1), (2, vi l2), (3, vi l3), (4, vi l4), (5, vi l5), (6, vi l6), (7, vi l7), (8, vr (some (a8, 10, 0))), (9, vi l9), (10, vi l10)] 132 3 [] Q)) else (vp_in (l4 + l10) 14500 ∧ (Z E YX1_setOwn d M (zargs 0 [vr (some (16, 0, 0)), vi s2, vi s1, vi s0, vi (gi M 54 ((l4 + l10)).toNatClampNeg)]) 0 [] (zafter E YX1_enter (d + 1) [(0, vr (some (16, 0, 0))), (1, vi l1), (2, vi l2), (3, vi l3), (4, vi l4), (5, vi l5), (6, vi l6), (7, vi l7), (8, vr (some (a8, 10, 0))), (9, vi l9), (10, vi l10)] 132 3 [] Q)))) : Z E YX1_enter (d + 1) M [(0, vr (some (16, 0, 0))), (1, vi l1), (2, vi l2), (3, vi l3), (4, vi l4), (5, vi l5), (6, vi l6), (7, vi l7), (8, vr (some (a8, 10, 0))), (9, vi l9), (10, vi l10)] 111 [vi s0, vi s1, vi s2, vr (some (16, 0, 0))] Q := by
  refine z_iload dX1_enter_111 rfl ?_
  refine z_iload dX1_enter_113 rfl ?_
  refine z_icmp_ge (tgt := 131) dX1_enter_115 rfl (fun h_ => ?_) (fun h_ => ?_)
  · have k := zit h_ k
    refine z_iconst (v := 0) dX1_enter_131 rfl ?_
    exact z_callV (as := [vi s2, vi s1, vi s0, vi (0 : Int32)]) (st := []) dX1_enter_132 vsX1_358_0 (Nat.le_refl _) (Nat.le_of_ble_eq_true rfl) (Nat.le_of_ble_eq_true rfl) rfl k
  · have k := zif h_ k
    refine z_aload_n dX1_enter_118 rfl rfl ?_
    refine z_getr dX1_enter_119 fsX1_151_0 (show gr M 16 35 = some (54, 100, 14500) from cw_at hw 22 rfl) ?_
    refine z_iload dX1_enter_122 rfl ?_
    refine z_iload dX1_enter_124 rfl ?_
    refine z_iadd dX1_enter_126 ?_
    obtain ⟨b_, k⟩ := k
    refine z_iald dX1_enter_127 b_ ?_
    refine z_goto (tgt := 132) dX1_enter_128 rfl ?_
    exact z_callV (as := [vi s2, vi s1, vi s0, vi (gi M 54 ((l4 + l10)).toNatClampNeg)]) (st := []) dX1_enter_132 vsX1_358_0 (Nat.le_refl _) (Nat.le_of_ble_eq_true rfl) (Nat.le_of_ble_eq_true rfl) rfl k
theorem sX1_enter_135 {E : zE} {d : Nat} {Q : zO → zM → Prop} (M : zM) (l1 : Int32) (l2 : Int32) (l3 : Int32) (l4 : Int32) (l5 : Int32) (l6 : Int32) (l7 : Int32) (a8 : Nat) (l9 : Int32) (l10 : Int32) (hw : cw M) (k : Z E YX1_enter (d + 1) M [(0, vr (some (16, 0, 0))), (1, vi l1), (2, vi l2), (3, vi l3), (4, vi l4), (5, vi l5), (6, vi l6), (7, vi l7), (8, vr (some (a8, 10, 0))), (9, vi l9), (10, vi l10)] 187 [] Q) : Z E YX1_enter (d + 1) M [(0, vr (some (16, 0, 0))), (1, vi l1), (2, vi l2), (3, vi l3), (4, vi l4), (5, vi l5), (6, vi l6), (7, vi l7), (8, vr (some (a8, 10, 0))), (9, vi l9), (10, vi l10)] 135 [] Q := by
  refine z_goto (tgt := 187) dX1_enter_135 rfl ?_
  exact k
theorem sX1_enter_168 {E : zE} {d : Nat} {Q : zO → zM → Prop} (M : zM) (l1 : Int32) (l2 : Int32) (l3 : Int32) (l4 : Int32) (l5 : Int32) (l6 : Int32) (l7 : Int32) (a8 : Nat) (l9 : Int32) (l10 : Int32) (hw : cw M) (k : Z E YX1_enter (d + 1) M [(0, vr (some (16, 0, 0))), (1, vi l1), (2, vi l2), (3, vi l3), (4, vi l4), (5, vi l5), (6, vi l6), (7, vi l7), (8, vr (some (a8, 10, 0))), (9, vi l9), (10, vi l10)] 187 [] Q) : Z E YX1_enter (d + 1) M [(0, vr (some (16, 0, 0))), (1, vi l1), (2, vi l2), (3, vi l3), (4, vi l4), (5, vi l5), (6, vi l6), (7, vi l7), (8, vr (some (a8, 10, 0))), (9, vi l9), (10, vi l10)] 168 [] Q := by
  refine z_goto (tgt := 187) dX1_enter_168 rfl ?_
  exact k
theorem sX1_enter_187 {E : zE} {d : Nat} {Q : zO → zM → Prop} (M : zM) (l1 : Int32) (l2 : Int32) (l3 : Int32) (l4 : Int32) (l5 : Int32) (l6 : Int32) (l7 : Int32) (a8 : Nat) (l9 : Int32) (l10 : Int32) (hw : cw M) (k : Z E YX1_enter (d + 1) M [(0, vr (some (16, 0, 0))), (1, vi l1), (2, vi l2), (3, vi l3), (4, vi l4), (5, vi l5), (6, vi l6), (7, vi l7), (8, vr (some (a8, 10, 0))), (9, vi l9), (10, vi (l10 + (1 : Int32)))] 59 [] Q) : Z E YX1_enter (d + 1) M [(0, vr (some (16, 0, 0))), (1, vi l1), (2, vi l2), (3, vi l3), (4, vi l4), (5, vi l5), (6, vi l6), (7, vi l7), (8, vr (some (a8, 10, 0))), (9, vi l9), (10, vi l10)] 187 [] Q := by
  refine z_inc (v := (l10 + (1 : Int32))) dX1_enter_187 rfl rfl (by decide) (lv' := [(0, vr (some (16, 0, 0))), (1, vi l1), (2, vi l2), (3, vi l3), (4, vi l4), (5, vi l5), (6, vi l6), (7, vi l7), (8, vr (some (a8, 10, 0))), (9, vi l9), (10, vi (l10 + (1 : Int32)))]) rfl ?_
  refine z_goto (tgt := 59) dX1_enter_190 rfl ?_
  exact k
theorem sX1_enter_214 {E : zE} {d : Nat} {Q : zO → zM → Prop} (M : zM)  (hw : cw M) (k : Q (.inl none) M) : Z E YX1_enter (d + 1) M [] 214 [] Q := by
  exact z_vret dX1_enter_214 rfl k
/-! ScriptTypes.carryOut(IIIII)V -/
theorem bX1_carryOut_0 : zdec cX1_carryOut 0 [(0, .iload 5, 2), (2, .ifCond .le 13, 3), (5, .aload_n 0, 1), (6, .getfield 148, 3), (9, .iload 4, 2), (11, .baload, 1), (12, .goto 4, 3), (15, .iconst 0, 1), (16, .istore 6, 2), (18, .iload 5, 2), (20, .ifCond .le 13, 3), (23, .aload_n 0, 1), (24, .getfield 151, 3), (27, .iload 4, 2), (29, .iaload, 1), (30, .goto 4, 3)] = true := by decide +kernel
theorem dX1_carryOut_0 : decode cX1_carryOut 0 = .ok (.iload 5, 2) := zdec_at bX1_carryOut_0 0 rfl
theorem dX1_carryOut_2 : decode cX1_carryOut 2 = .ok (.ifCond .le 13, 3) := zdec_at bX1_carryOut_0 1 rfl
theorem dX1_carryOut_5 : decode cX1_carryOut 5 = .ok (.aload_n 0, 1) := zdec_at bX1_carryOut_0 2 rfl
theorem dX1_carryOut_6 : decode cX1_carryOut 6 = .ok (.getfield 148, 3) := zdec_at bX1_carryOut_0 3 rfl
theorem dX1_carryOut_9 : decode cX1_carryOut 9 = .ok (.iload 4, 2) := zdec_at bX1_carryOut_0 4 rfl
theorem dX1_carryOut_11 : decode cX1_carryOut 11 = .ok (.baload, 1) := zdec_at bX1_carryOut_0 5 rfl
theorem dX1_carryOut_12 : decode cX1_carryOut 12 = .ok (.goto 4, 3) := zdec_at bX1_carryOut_0 6 rfl
theorem dX1_carryOut_15 : decode cX1_carryOut 15 = .ok (.iconst 0, 1) := zdec_at bX1_carryOut_0 7 rfl
theorem dX1_carryOut_16 : decode cX1_carryOut 16 = .ok (.istore 6, 2) := zdec_at bX1_carryOut_0 8 rfl
theorem dX1_carryOut_18 : decode cX1_carryOut 18 = .ok (.iload 5, 2) := zdec_at bX1_carryOut_0 9 rfl
theorem dX1_carryOut_20 : decode cX1_carryOut 20 = .ok (.ifCond .le 13, 3) := zdec_at bX1_carryOut_0 10 rfl
theorem dX1_carryOut_23 : decode cX1_carryOut 23 = .ok (.aload_n 0, 1) := zdec_at bX1_carryOut_0 11 rfl
theorem dX1_carryOut_24 : decode cX1_carryOut 24 = .ok (.getfield 151, 3) := zdec_at bX1_carryOut_0 12 rfl
theorem dX1_carryOut_27 : decode cX1_carryOut 27 = .ok (.iload 4, 2) := zdec_at bX1_carryOut_0 13 rfl
theorem dX1_carryOut_29 : decode cX1_carryOut 29 = .ok (.iaload, 1) := zdec_at bX1_carryOut_0 14 rfl
theorem dX1_carryOut_30 : decode cX1_carryOut 30 = .ok (.goto 4, 3) := zdec_at bX1_carryOut_0 15 rfl
theorem bX1_carryOut_33 : zdec cX1_carryOut 33 [(33, .iconst 0, 1), (34, .istore 7, 2), (36, .iload_n 1, 1)] = true := by decide +kernel
theorem dX1_carryOut_33 : decode cX1_carryOut 33 = .ok (.iconst 0, 1) := zdec_at bX1_carryOut_33 0 rfl
theorem dX1_carryOut_34 : decode cX1_carryOut 34 = .ok (.istore 7, 2) := zdec_at bX1_carryOut_33 1 rfl
theorem dX1_carryOut_36 : decode cX1_carryOut 36 = .ok (.iload_n 1, 1) := zdec_at bX1_carryOut_33 2 rfl
theorem dX1_carryOut_37 : decode cX1_carryOut 37 = .ok (.tableswitch 346 9 22 #[71, 118, 136, 151, 178, 346, 346, 346, 346, 201, 214, 346, 223, 264], 71) := by decide +kernel
theorem bX1_carryOut_108 : zdec cX1_carryOut 108 [(108, .aload_n 0, 1), (109, .iload 6, 2), (111, .iload 7, 2), (113, .invokevirtual 541, 3), (116, .istore 8, 2), (118, .aload_n 0, 1), (119, .getfield 325, 3), (122, .bipush 100, 2), (124, .if_icmp .ge 22, 3), (127, .aload_n 0, 1), (128, .getfield 190, 3), (131, .aload_n 0, 1), (132, .dup, 1), (133, .getfield 325, 3), (136, .dup_x1, 1), (137, .iconst 1, 1)] = true := by decide +kernel
theorem dX1_carryOut_108 : decode cX1_carryOut 108 = .ok (.aload_n 0, 1) := zdec_at bX1_carryOut_108 0 rfl
theorem dX1_carryOut_109 : decode cX1_carryOut 109 = .ok (.iload 6, 2) := zdec_at bX1_carryOut_108 1 rfl
theorem dX1_carryOut_111 : decode cX1_carryOut 111 = .ok (.iload 7, 2) := zdec_at bX1_carryOut_108 2 rfl
theorem dX1_carryOut_113 : decode cX1_carryOut 113 = .ok (.invokevirtual 541, 3) := zdec_at bX1_carryOut_108 3 rfl
theorem dX1_carryOut_116 : decode cX1_carryOut 116 = .ok (.istore 8, 2) := zdec_at bX1_carryOut_108 4 rfl
theorem dX1_carryOut_118 : decode cX1_carryOut 118 = .ok (.aload_n 0, 1) := zdec_at bX1_carryOut_108 5 rfl
theorem dX1_carryOut_119 : decode cX1_carryOut 119 = .ok (.getfield 325, 3) := zdec_at bX1_carryOut_108 6 rfl
theorem dX1_carryOut_122 : decode cX1_carryOut 122 = .ok (.bipush 100, 2) := zdec_at bX1_carryOut_108 7 rfl
theorem dX1_carryOut_124 : decode cX1_carryOut 124 = .ok (.if_icmp .ge 22, 3) := zdec_at bX1_carryOut_108 8 rfl
theorem dX1_carryOut_127 : decode cX1_carryOut 127 = .ok (.aload_n 0, 1) := zdec_at bX1_carryOut_108 9 rfl
theorem dX1_carryOut_128 : decode cX1_carryOut 128 = .ok (.getfield 190, 3) := zdec_at bX1_carryOut_108 10 rfl
theorem dX1_carryOut_131 : decode cX1_carryOut 131 = .ok (.aload_n 0, 1) := zdec_at bX1_carryOut_108 11 rfl
theorem dX1_carryOut_132 : decode cX1_carryOut 132 = .ok (.dup, 1) := zdec_at bX1_carryOut_108 12 rfl
theorem dX1_carryOut_133 : decode cX1_carryOut 133 = .ok (.getfield 325, 3) := zdec_at bX1_carryOut_108 13 rfl
theorem dX1_carryOut_136 : decode cX1_carryOut 136 = .ok (.dup_x1, 1) := zdec_at bX1_carryOut_108 14 rfl
theorem dX1_carryOut_137 : decode cX1_carryOut 137 = .ok (.iconst 1, 1) := zdec_at bX1_carryOut_108 15 rfl
theorem bX1_carryOut_138 : zdec cX1_carryOut 138 [(138, .iadd, 1), (139, .putfield 325, 3), (142, .iload 8, 2), (144, .i2s, 1), (145, .sastore, 1), (146, .aload_n 0, 1), (147, .iconst 0, 1), (148, .iconst 0, 1), (149, .invokevirtual 395, 3), (152, .goto 277, 3), (155, .aload_n 0, 1), (156, .bipush 7, 2), (158, .aload_n 0, 1), (159, .iconst 0, 1), (160, .bipush 23, 2), (162, .iconst 1, 1)] = true := by decide +kernel
theorem dX1_carryOut_138 : decode cX1_carryOut 138 = .ok (.iadd, 1) := zdec_at bX1_carryOut_138 0 rfl
theorem dX1_carryOut_139 : decode cX1_carryOut 139 = .ok (.putfield 325, 3) := zdec_at bX1_carryOut_138 1 rfl
theorem dX1_carryOut_142 : decode cX1_carryOut 142 = .ok (.iload 8, 2) := zdec_at bX1_carryOut_138 2 rfl
theorem dX1_carryOut_144 : decode cX1_carryOut 144 = .ok (.i2s, 1) := zdec_at bX1_carryOut_138 3 rfl
theorem dX1_carryOut_145 : decode cX1_carryOut 145 = .ok (.sastore, 1) := zdec_at bX1_carryOut_138 4 rfl
theorem dX1_carryOut_146 : decode cX1_carryOut 146 = .ok (.aload_n 0, 1) := zdec_at bX1_carryOut_138 5 rfl
theorem dX1_carryOut_147 : decode cX1_carryOut 147 = .ok (.iconst 0, 1) := zdec_at bX1_carryOut_138 6 rfl
theorem dX1_carryOut_148 : decode cX1_carryOut 148 = .ok (.iconst 0, 1) := zdec_at bX1_carryOut_138 7 rfl
theorem dX1_carryOut_149 : decode cX1_carryOut 149 = .ok (.invokevirtual 395, 3) := zdec_at bX1_carryOut_138 8 rfl
theorem dX1_carryOut_152 : decode cX1_carryOut 152 = .ok (.goto 277, 3) := zdec_at bX1_carryOut_138 9 rfl
theorem dX1_carryOut_155 : decode cX1_carryOut 155 = .ok (.aload_n 0, 1) := zdec_at bX1_carryOut_138 10 rfl
theorem dX1_carryOut_156 : decode cX1_carryOut 156 = .ok (.bipush 7, 2) := zdec_at bX1_carryOut_138 11 rfl
theorem dX1_carryOut_158 : decode cX1_carryOut 158 = .ok (.aload_n 0, 1) := zdec_at bX1_carryOut_138 12 rfl
theorem dX1_carryOut_159 : decode cX1_carryOut 159 = .ok (.iconst 0, 1) := zdec_at bX1_carryOut_138 13 rfl
theorem dX1_carryOut_160 : decode cX1_carryOut 160 = .ok (.bipush 23, 2) := zdec_at bX1_carryOut_138 14 rfl
theorem dX1_carryOut_162 : decode cX1_carryOut 162 = .ok (.iconst 1, 1) := zdec_at bX1_carryOut_138 15 rfl
theorem bX1_carryOut_163 : zdec cX1_carryOut 163 [(163, .iconst (-1), 1), (164, .invokevirtual 362, 3), (167, .invokevirtual 395, 3), (170, .goto 259, 3), (173, .aload_n 0, 1), (174, .bipush 7, 2), (176, .aload_n 0, 1), (177, .bipush 24, 2), (179, .invokevirtual 489, 3), (182, .invokevirtual 395, 3), (185, .goto 244, 3), (188, .aload_n 0, 1), (189, .bipush 6, 2), (191, .iload 5, 2), (193, .ifCond .le 14, 3), (196, .aload_n 0, 1)] = true := by decide +kernel
theorem dX1_carryOut_163 : decode cX1_carryOut 163 = .ok (.iconst (-1), 1) := zdec_at bX1_carryOut_163 0 rfl
theorem dX1_carryOut_164 : decode cX1_carryOut 164 = .ok (.invokevirtual 362, 3) := zdec_at bX1_carryOut_163 1 rfl
theorem dX1_carryOut_167 : decode cX1_carryOut 167 = .ok (.invokevirtual 395, 3) := zdec_at bX1_carryOut_163 2 rfl
theorem dX1_carryOut_170 : decode cX1_carryOut 170 = .ok (.goto 259, 3) := zdec_at bX1_carryOut_163 3 rfl
theorem dX1_carryOut_173 : decode cX1_carryOut 173 = .ok (.aload_n 0, 1) := zdec_at bX1_carryOut_163 4 rfl
theorem dX1_carryOut_174 : decode cX1_carryOut 174 = .ok (.bipush 7, 2) := zdec_at bX1_carryOut_163 5 rfl
theorem dX1_carryOut_176 : decode cX1_carryOut 176 = .ok (.aload_n 0, 1) := zdec_at bX1_carryOut_163 6 rfl
theorem dX1_carryOut_177 : decode cX1_carryOut 177 = .ok (.bipush 24, 2) := zdec_at bX1_carryOut_163 7 rfl
theorem dX1_carryOut_179 : decode cX1_carryOut 179 = .ok (.invokevirtual 489, 3) := zdec_at bX1_carryOut_163 8 rfl
theorem dX1_carryOut_182 : decode cX1_carryOut 182 = .ok (.invokevirtual 395, 3) := zdec_at bX1_carryOut_163 9 rfl
theorem dX1_carryOut_185 : decode cX1_carryOut 185 = .ok (.goto 244, 3) := zdec_at bX1_carryOut_163 10 rfl
theorem dX1_carryOut_188 : decode cX1_carryOut 188 = .ok (.aload_n 0, 1) := zdec_at bX1_carryOut_163 11 rfl
theorem dX1_carryOut_189 : decode cX1_carryOut 189 = .ok (.bipush 6, 2) := zdec_at bX1_carryOut_163 12 rfl
theorem dX1_carryOut_191 : decode cX1_carryOut 191 = .ok (.iload 5, 2) := zdec_at bX1_carryOut_163 13 rfl
theorem dX1_carryOut_193 : decode cX1_carryOut 193 = .ok (.ifCond .le 14, 3) := zdec_at bX1_carryOut_163 14 rfl
theorem dX1_carryOut_196 : decode cX1_carryOut 196 = .ok (.aload_n 0, 1) := zdec_at bX1_carryOut_163 15 rfl
theorem bX1_carryOut_197 : zdec cX1_carryOut 197 [(197, .iload 6, 2), (199, .iload 7, 2), (201, .invokevirtual 541, 3), (204, .goto 5, 3), (207, .bipush 30, 2), (209, .invokevirtual 395, 3), (212, .goto 217, 3), (215, .aload_n 0, 1), (216, .aload_n 0, 1), (217, .iload 6, 2), (219, .iload 7, 2), (221, .invokevirtual 412, 3), (224, .ifCond .ne 7, 3), (227, .iconst 1, 1), (228, .goto 4, 3), (231, .iconst 0, 1)] = true := by decide +kernel
theorem dX1_carryOut_197 : decode cX1_carryOut 197 = .ok (.iload 6, 2) := zdec_at bX1_carryOut_197 0 rfl
theorem dX1_carryOut_199 : decode cX1_carryOut 199 = .ok (.iload 7, 2) := zdec_at bX1_carryOut_197 1 rfl
theorem dX1_carryOut_201 : decode cX1_carryOut 201 = .ok (.invokevirtual 541, 3) := zdec_at bX1_carryOut_197 2 rfl
theorem dX1_carryOut_204 : decode cX1_carryOut 204 = .ok (.goto 5, 3) := zdec_at bX1_carryOut_197 3 rfl
theorem dX1_carryOut_207 : decode cX1_carryOut 207 = .ok (.bipush 30, 2) := zdec_at bX1_carryOut_197 4 rfl
theorem dX1_carryOut_209 : decode cX1_carryOut 209 = .ok (.invokevirtual 395, 3) := zdec_at bX1_carryOut_197 5 rfl
theorem dX1_carryOut_212 : decode cX1_carryOut 212 = .ok (.goto 217, 3) := zdec_at bX1_carryOut_197 6 rfl
theorem dX1_carryOut_215 : decode cX1_carryOut 215 = .ok (.aload_n 0, 1) := zdec_at bX1_carryOut_197 7 rfl
theorem dX1_carryOut_216 : decode cX1_carryOut 216 = .ok (.aload_n 0, 1) := zdec_at bX1_carryOut_197 8 rfl
theorem dX1_carryOut_217 : decode cX1_carryOut 217 = .ok (.iload 6, 2) := zdec_at bX1_carryOut_197 9 rfl
theorem dX1_carryOut_219 : decode cX1_carryOut 219 = .ok (.iload 7, 2) := zdec_at bX1_carryOut_197 10 rfl
theorem dX1_carryOut_221 : decode cX1_carryOut 221 = .ok (.invokevirtual 412, 3) := zdec_at bX1_carryOut_197 11 rfl
theorem dX1_carryOut_224 : decode cX1_carryOut 224 = .ok (.ifCond .ne 7, 3) := zdec_at bX1_carryOut_197 12 rfl
theorem dX1_carryOut_227 : decode cX1_carryOut 227 = .ok (.iconst 1, 1) := zdec_at bX1_carryOut_197 13 rfl
theorem dX1_carryOut_228 : decode cX1_carryOut 228 = .ok (.goto 4, 3) := zdec_at bX1_carryOut_197 14 rfl
theorem dX1_carryOut_231 : decode cX1_carryOut 231 = .ok (.iconst 0, 1) := zdec_at bX1_carryOut_197 15 rfl
theorem bX1_carryOut_232 : zdec cX1_carryOut 232 [(232, .invokevirtual 405, 3), (235, .goto 194, 3), (238, .aload_n 0, 1), (239, .iload_n 2, 1), (240, .iload_n 3, 1), (241, .iload 6, 2), (243, .iload 7, 2), (245, .invokevirtual 582, 3), (248, .goto 181, 3), (251, .aload_n 0, 1), (252, .iload_n 2, 1), (253, .iload_n 3, 1), (254, .invokevirtual 585, 3), (257, .goto 172, 3), (260, .iload_n 2, 1), (261, .bipush 7, 2)] = true := by decide +kernel
theorem dX1_carryOut_232 : decode cX1_carryOut 232 = .ok (.invokevirtual 405, 3) := zdec_at bX1_carryOut_232 0 rfl
theorem dX1_carryOut_235 : decode cX1_carryOut 235 = .ok (.goto 194, 3) := zdec_at bX1_carryOut_232 1 rfl
theorem dX1_carryOut_238 : decode cX1_carryOut 238 = .ok (.aload_n 0, 1) := zdec_at bX1_carryOut_232 2 rfl
theorem dX1_carryOut_239 : decode cX1_carryOut 239 = .ok (.iload_n 2, 1) := zdec_at bX1_carryOut_232 3 rfl
theorem dX1_carryOut_240 : decode cX1_carryOut 240 = .ok (.iload_n 3, 1) := zdec_at bX1_carryOut_232 4 rfl
theorem dX1_carryOut_241 : decode cX1_carryOut 241 = .ok (.iload 6, 2) := zdec_at bX1_carryOut_232 5 rfl
theorem dX1_carryOut_243 : decode cX1_carryOut 243 = .ok (.iload 7, 2) := zdec_at bX1_carryOut_232 6 rfl
theorem dX1_carryOut_245 : decode cX1_carryOut 245 = .ok (.invokevirtual 582, 3) := zdec_at bX1_carryOut_232 7 rfl
theorem dX1_carryOut_248 : decode cX1_carryOut 248 = .ok (.goto 181, 3) := zdec_at bX1_carryOut_232 8 rfl
theorem dX1_carryOut_251 : decode cX1_carryOut 251 = .ok (.aload_n 0, 1) := zdec_at bX1_carryOut_232 9 rfl
theorem dX1_carryOut_252 : decode cX1_carryOut 252 = .ok (.iload_n 2, 1) := zdec_at bX1_carryOut_232 10 rfl
theorem dX1_carryOut_253 : decode cX1_carryOut 253 = .ok (.iload_n 3, 1) := zdec_at bX1_carryOut_232 11 rfl
theorem dX1_carryOut_254 : decode cX1_carryOut 254 = .ok (.invokevirtual 585, 3) := zdec_at bX1_carryOut_232 12 rfl
theorem dX1_carryOut_257 : decode cX1_carryOut 257 = .ok (.goto 172, 3) := zdec_at bX1_carryOut_232 13 rfl
theorem dX1_carryOut_260 : decode cX1_carryOut 260 = .ok (.iload_n 2, 1) := zdec_at bX1_carryOut_232 14 rfl
theorem dX1_carryOut_261 : decode cX1_carryOut 261 = .ok (.bipush 7, 2) := zdec_at bX1_carryOut_232 15 rfl
theorem bX1_carryOut_263 : zdec cX1_carryOut 263 [(263, .if_icmp .eq 9, 3), (266, .aload_n 0, 1), (267, .iconst 0, 1), (268, .invokevirtual 482, 3), (271, .athrow, 1), (272, .aload_n 0, 1), (273, .aload_n 0, 1), (274, .iload_n 3, 1), (275, .aload_n 0, 1), (276, .iload 6, 2), (278, .iload 7, 2), (280, .invokevirtual 541, 3), (283, .invokevirtual 346, 3), (286, .iconst (-1), 1), (287, .if_icmp .eq 7, 3), (290, .iconst 1, 1)] = true := by decide +kernel
theorem dX1_carryOut_263 : decode cX1_carryOut 263 = .ok (.if_icmp .eq 9, 3) := zdec_at bX1_carryOut_263 0 rfl
theorem dX1_carryOut_266 : decode cX1_carryOut 266 = .ok (.aload_n 0, 1) := zdec_at bX1_carryOut_263 1 rfl
theorem dX1_carryOut_267 : decode cX1_carryOut 267 = .ok (.iconst 0, 1) := zdec_at bX1_carryOut_263 2 rfl
theorem dX1_carryOut_268 : decode cX1_carryOut 268 = .ok (.invokevirtual 482, 3) := zdec_at bX1_carryOut_263 3 rfl
theorem dX1_carryOut_271 : decode cX1_carryOut 271 = .ok (.athrow, 1) := zdec_at bX1_carryOut_263 4 rfl
theorem dX1_carryOut_272 : decode cX1_carryOut 272 = .ok (.aload_n 0, 1) := zdec_at bX1_carryOut_263 5 rfl
theorem dX1_carryOut_273 : decode cX1_carryOut 273 = .ok (.aload_n 0, 1) := zdec_at bX1_carryOut_263 6 rfl
theorem dX1_carryOut_274 : decode cX1_carryOut 274 = .ok (.iload_n 3, 1) := zdec_at bX1_carryOut_263 7 rfl
theorem dX1_carryOut_275 : decode cX1_carryOut 275 = .ok (.aload_n 0, 1) := zdec_at bX1_carryOut_263 8 rfl
theorem dX1_carryOut_276 : decode cX1_carryOut 276 = .ok (.iload 6, 2) := zdec_at bX1_carryOut_263 9 rfl
theorem dX1_carryOut_278 : decode cX1_carryOut 278 = .ok (.iload 7, 2) := zdec_at bX1_carryOut_263 10 rfl
theorem dX1_carryOut_280 : decode cX1_carryOut 280 = .ok (.invokevirtual 541, 3) := zdec_at bX1_carryOut_263 11 rfl
theorem dX1_carryOut_283 : decode cX1_carryOut 283 = .ok (.invokevirtual 346, 3) := zdec_at bX1_carryOut_263 12 rfl
theorem dX1_carryOut_286 : decode cX1_carryOut 286 = .ok (.iconst (-1), 1) := zdec_at bX1_carryOut_263 13 rfl
theorem dX1_carryOut_287 : decode cX1_carryOut 287 = .ok (.if_icmp .eq 7, 3) := zdec_at bX1_carryOut_263 14 rfl
theorem dX1_carryOut_290 : decode cX1_carryOut 290 = .ok (.iconst 1, 1) := zdec_at bX1_carryOut_263 15 rfl
theorem bX1_carryOut_291 : zdec cX1_carryOut 291 [(291, .goto 4, 3), (294, .iconst 0, 1), (295, .invokevirtual 405, 3), (298, .goto 131, 3), (301, .iload_n 2, 1), (302, .bipush 6, 2), (304, .if_icmp .eq 9, 3), (307, .aload_n 0, 1), (308, .iconst 0, 1), (309, .invokevirtual 482, 3), (312, .athrow, 1), (313, .aload_n 0, 1), (314, .iload 6, 2), (316, .iload 7, 2), (318, .invokevirtual 412, 3), (321, .ifCond .eq 10, 3)] = true := by decide +kernel
theorem dX1_carryOut_291 : decode cX1_carryOut 291 = .ok (.goto 4, 3) := zdec_at bX1_carryOut_291 0 rfl
theorem dX1_carryOut_294 : decode cX1_carryOut 294 = .ok (.iconst 0, 1) := zdec_at bX1_carryOut_291 1 rfl
theorem dX1_carryOut_295 : decode cX1_carryOut 295 = .ok (.invokevirtual 405, 3) := zdec_at bX1_carryOut_291 2 rfl
theorem dX1_carryOut_298 : decode cX1_carryOut 298 = .ok (.goto 131, 3) := zdec_at bX1_carryOut_291 3 rfl
theorem dX1_carryOut_301 : decode cX1_carryOut 301 = .ok (.iload_n 2, 1) := zdec_at bX1_carryOut_291 4 rfl
theorem dX1_carryOut_302 : decode cX1_carryOut 302 = .ok (.bipush 6, 2) := zdec_at bX1_carryOut_291 5 rfl
theorem dX1_carryOut_304 : decode cX1_carryOut 304 = .ok (.if_icmp .eq 9, 3) := zdec_at bX1_carryOut_291 6 rfl
theorem dX1_carryOut_307 : decode cX1_carryOut 307 = .ok (.aload_n 0, 1) := zdec_at bX1_carryOut_291 7 rfl
theorem dX1_carryOut_308 : decode cX1_carryOut 308 = .ok (.iconst 0, 1) := zdec_at bX1_carryOut_291 8 rfl
theorem dX1_carryOut_309 : decode cX1_carryOut 309 = .ok (.invokevirtual 482, 3) := zdec_at bX1_carryOut_291 9 rfl
theorem dX1_carryOut_312 : decode cX1_carryOut 312 = .ok (.athrow, 1) := zdec_at bX1_carryOut_291 10 rfl
theorem dX1_carryOut_313 : decode cX1_carryOut 313 = .ok (.aload_n 0, 1) := zdec_at bX1_carryOut_291 11 rfl
theorem dX1_carryOut_314 : decode cX1_carryOut 314 = .ok (.iload 6, 2) := zdec_at bX1_carryOut_291 12 rfl
theorem dX1_carryOut_316 : decode cX1_carryOut 316 = .ok (.iload 7, 2) := zdec_at bX1_carryOut_291 13 rfl
theorem dX1_carryOut_318 : decode cX1_carryOut 318 = .ok (.invokevirtual 412, 3) := zdec_at bX1_carryOut_291 14 rfl
theorem dX1_carryOut_321 : decode cX1_carryOut 321 = .ok (.ifCond .eq 10, 3) := zdec_at bX1_carryOut_291 15 rfl
theorem bX1_carryOut_324 : zdec cX1_carryOut 324 [(324, .aload_n 0, 1), (325, .getfield 392, 3), (328, .goto 4, 3), (331, .iconst 0, 1), (332, .istore 8, 2), (334, .aload_n 0, 1), (335, .invokevirtual 37, 3), (338, .iload 8, 2), (340, .ifCond .lt 30, 3), (343, .iload 8, 2), (345, .aload_n 0, 1), (346, .getfield 19, 3), (349, .iload_n 3, 1), (350, .invokevirtual 23, 3), (353, .if_icmp .ge 17, 3), (356, .aload_n 0, 1)] = true := by decide +kernel
theorem dX1_carryOut_324 : decode cX1_carryOut 324 = .ok (.aload_n 0, 1) := zdec_at bX1_carryOut_324 0 rfl
theorem dX1_carryOut_325 : decode cX1_carryOut 325 = .ok (.getfield 392, 3) := zdec_at bX1_carryOut_324 1 rfl
theorem dX1_carryOut_328 : decode cX1_carryOut 328 = .ok (.goto 4, 3) := zdec_at bX1_carryOut_324 2 rfl
theorem dX1_carryOut_331 : decode cX1_carryOut 331 = .ok (.iconst 0, 1) := zdec_at bX1_carryOut_324 3 rfl
theorem dX1_carryOut_332 : decode cX1_carryOut 332 = .ok (.istore 8, 2) := zdec_at bX1_carryOut_324 4 rfl
theorem dX1_carryOut_334 : decode cX1_carryOut 334 = .ok (.aload_n 0, 1) := zdec_at bX1_carryOut_324 5 rfl
theorem dX1_carryOut_335 : decode cX1_carryOut 335 = .ok (.invokevirtual 37, 3) := zdec_at bX1_carryOut_324 6 rfl
theorem dX1_carryOut_338 : decode cX1_carryOut 338 = .ok (.iload 8, 2) := zdec_at bX1_carryOut_324 7 rfl
theorem dX1_carryOut_340 : decode cX1_carryOut 340 = .ok (.ifCond .lt 30, 3) := zdec_at bX1_carryOut_324 8 rfl
theorem dX1_carryOut_343 : decode cX1_carryOut 343 = .ok (.iload 8, 2) := zdec_at bX1_carryOut_324 9 rfl
theorem dX1_carryOut_345 : decode cX1_carryOut 345 = .ok (.aload_n 0, 1) := zdec_at bX1_carryOut_324 10 rfl
theorem dX1_carryOut_346 : decode cX1_carryOut 346 = .ok (.getfield 19, 3) := zdec_at bX1_carryOut_324 11 rfl
theorem dX1_carryOut_349 : decode cX1_carryOut 349 = .ok (.iload_n 3, 1) := zdec_at bX1_carryOut_324 12 rfl
theorem dX1_carryOut_350 : decode cX1_carryOut 350 = .ok (.invokevirtual 23, 3) := zdec_at bX1_carryOut_324 13 rfl
theorem dX1_carryOut_353 : decode cX1_carryOut 353 = .ok (.if_icmp .ge 17, 3) := zdec_at bX1_carryOut_324 14 rfl
theorem dX1_carryOut_356 : decode cX1_carryOut 356 = .ok (.aload_n 0, 1) := zdec_at bX1_carryOut_324 15 rfl
theorem bX1_carryOut_357 : zdec cX1_carryOut 357 [(357, .aload_n 0, 1), (358, .getfield 19, 3), (361, .iload_n 3, 1), (362, .iload 8, 2), (364, .invokevirtual 29, 3), (367, .invokevirtual 11, 3), (370, .aload_n 0, 1), (371, .bipush 6, 2), (373, .aload_n 0, 1), (374, .invokevirtual 386, 3), (377, .invokevirtual 395, 3), (380, .goto 49, 3), (383, .aload_n 0, 1), (384, .iconst 0, 1), (385, .iload_n 1, 1), (386, .bipush 11, 2)] = true := by decide +kernel
theorem dX1_carryOut_357 : decode cX1_carryOut 357 = .ok (.aload_n 0, 1) := zdec_at bX1_carryOut_357 0 rfl
theorem dX1_carryOut_358 : decode cX1_carryOut 358 = .ok (.getfield 19, 3) := zdec_at bX1_carryOut_357 1 rfl
theorem dX1_carryOut_361 : decode cX1_carryOut 361 = .ok (.iload_n 3, 1) := zdec_at bX1_carryOut_357 2 rfl
theorem dX1_carryOut_362 : decode cX1_carryOut 362 = .ok (.iload 8, 2) := zdec_at bX1_carryOut_357 3 rfl
theorem dX1_carryOut_364 : decode cX1_carryOut 364 = .ok (.invokevirtual 29, 3) := zdec_at bX1_carryOut_357 4 rfl
theorem dX1_carryOut_367 : decode cX1_carryOut 367 = .ok (.invokevirtual 11, 3) := zdec_at bX1_carryOut_357 5 rfl
theorem dX1_carryOut_370 : decode cX1_carryOut 370 = .ok (.aload_n 0, 1) := zdec_at bX1_carryOut_357 6 rfl
theorem dX1_carryOut_371 : decode cX1_carryOut 371 = .ok (.bipush 6, 2) := zdec_at bX1_carryOut_357 7 rfl
theorem dX1_carryOut_373 : decode cX1_carryOut 373 = .ok (.aload_n 0, 1) := zdec_at bX1_carryOut_357 8 rfl
theorem dX1_carryOut_374 : decode cX1_carryOut 374 = .ok (.invokevirtual 386, 3) := zdec_at bX1_carryOut_357 9 rfl
theorem dX1_carryOut_377 : decode cX1_carryOut 377 = .ok (.invokevirtual 395, 3) := zdec_at bX1_carryOut_357 10 rfl
theorem dX1_carryOut_380 : decode cX1_carryOut 380 = .ok (.goto 49, 3) := zdec_at bX1_carryOut_357 11 rfl
theorem dX1_carryOut_383 : decode cX1_carryOut 383 = .ok (.aload_n 0, 1) := zdec_at bX1_carryOut_357 12 rfl
theorem dX1_carryOut_384 : decode cX1_carryOut 384 = .ok (.iconst 0, 1) := zdec_at bX1_carryOut_357 13 rfl
theorem dX1_carryOut_385 : decode cX1_carryOut 385 = .ok (.iload_n 1, 1) := zdec_at bX1_carryOut_357 14 rfl
theorem dX1_carryOut_386 : decode cX1_carryOut 386 = .ok (.bipush 11, 2) := zdec_at bX1_carryOut_357 15 rfl
theorem bX1_carryOut_388 : zdec cX1_carryOut 388 [(388, .iadd, 1), (389, .iload_n 1, 1), (390, .bipush 9, 2), (392, .isub, 1), (393, .iconst (-1), 1), (394, .invokevirtual 362, 3), (397, .istore 8, 2), (399, .iload 5, 2), (401, .ifCond .le 20, 3), (404, .aload_n 0, 1), (405, .iload 8, 2), (407, .iconst 3, 1), (408, .bipush 6, 2), (410, .aload_n 0, 1), (411, .iload 6, 2), (413, .iload 7, 2)] = true := by decide +kernel
theorem dX1_carryOut_388 : decode cX1_carryOut 388 = .ok (.iadd, 1) := zdec_at bX1_carryOut_388 0 rfl
theorem dX1_carryOut_389 : decode cX1_carryOut 389 = .ok (.iload_n 1, 1) := zdec_at bX1_carryOut_388 1 rfl
theorem dX1_carryOut_390 : decode cX1_carryOut 390 = .ok (.bipush 9, 2) := zdec_at bX1_carryOut_388 2 rfl
theorem dX1_carryOut_392 : decode cX1_carryOut 392 = .ok (.isub, 1) := zdec_at bX1_carryOut_388 3 rfl
theorem dX1_carryOut_393 : decode cX1_carryOut 393 = .ok (.iconst (-1), 1) := zdec_at bX1_carryOut_388 4 rfl
theorem dX1_carryOut_394 : decode cX1_carryOut 394 = .ok (.invokevirtual 362, 3) := zdec_at bX1_carryOut_388 5 rfl
theorem dX1_carryOut_397 : decode cX1_carryOut 397 = .ok (.istore 8, 2) := zdec_at bX1_carryOut_388 6 rfl
theorem dX1_carryOut_399 : decode cX1_carryOut 399 = .ok (.iload 5, 2) := zdec_at bX1_carryOut_388 7 rfl
theorem dX1_carryOut_401 : decode cX1_carryOut 401 = .ok (.ifCond .le 20, 3) := zdec_at bX1_carryOut_388 8 rfl
theorem dX1_carryOut_404 : decode cX1_carryOut 404 = .ok (.aload_n 0, 1) := zdec_at bX1_carryOut_388 9 rfl
theorem dX1_carryOut_405 : decode cX1_carryOut 405 = .ok (.iload 8, 2) := zdec_at bX1_carryOut_388 10 rfl
theorem dX1_carryOut_407 : decode cX1_carryOut 407 = .ok (.iconst 3, 1) := zdec_at bX1_carryOut_388 11 rfl
theorem dX1_carryOut_408 : decode cX1_carryOut 408 = .ok (.bipush 6, 2) := zdec_at bX1_carryOut_388 12 rfl
theorem dX1_carryOut_410 : decode cX1_carryOut 410 = .ok (.aload_n 0, 1) := zdec_at bX1_carryOut_388 13 rfl
theorem dX1_carryOut_411 : decode cX1_carryOut 411 = .ok (.iload 6, 2) := zdec_at bX1_carryOut_388 14 rfl
theorem dX1_carryOut_413 : decode cX1_carryOut 413 = .ok (.iload 7, 2) := zdec_at bX1_carryOut_388 15 rfl
theorem bX1_carryOut_415 : zdec cX1_carryOut 415 [(415, .invokevirtual 541, 3), (418, .invokevirtual 358, 3), (421, .aload_n 0, 1), (422, .bipush 7, 2), (424, .iload 8, 2), (426, .invokevirtual 395, 3), (429, .return_, 1)] = true := by decide +kernel
theorem dX1_carryOut_415 : decode cX1_carryOut 415 = .ok (.invokevirtual 541, 3) := zdec_at bX1_carryOut_415 0 rfl
theorem dX1_carryOut_418 : decode cX1_carryOut 418 = .ok (.invokevirtual 358, 3) := zdec_at bX1_carryOut_415 1 rfl
theorem dX1_carryOut_421 : decode cX1_carryOut 421 = .ok (.aload_n 0, 1) := zdec_at bX1_carryOut_415 2 rfl
theorem dX1_carryOut_422 : decode cX1_carryOut 422 = .ok (.bipush 7, 2) := zdec_at bX1_carryOut_415 3 rfl
theorem dX1_carryOut_424 : decode cX1_carryOut 424 = .ok (.iload 8, 2) := zdec_at bX1_carryOut_415 4 rfl
theorem dX1_carryOut_426 : decode cX1_carryOut 426 = .ok (.invokevirtual 395, 3) := zdec_at bX1_carryOut_415 5 rfl
theorem dX1_carryOut_429 : decode cX1_carryOut 429 = .ok (.return_, 1) := zdec_at bX1_carryOut_415 6 rfl
theorem sX1_carryOut_0 {E : zE} {d : Nat} {Q : zO → zM → Prop} (M : zM) (l1 : Int32) (l2 : Int32) (l3 : Int32) (l4 : Int32) (l5 : Int32) (hw : cw M) (k : if l5 ≤ 0 then (Z E YX1_carryOut (d + 1) M [(0, vr (some (16, 0, 0))), (1, vi l1), (2, vi l2), (3, vi l3), (4, vi l4), (5, vi l5)] 16 [vi (0 : Int32)] Q) else (vp_in l4 14500 ∧ (Z E YX1_carryOut (d + 1) M [(0, vr (some (16, 0, 0))), (1, vi l1), (2, vi l2), (3, vi l3), (4, vi l4), (5, vi l5)] 16 [vi (gi M 53 (l4).toNatClampNeg)] Q))) : Z E YX1_carryOut (d + 1) M [(0, vr (some (16, 0, 0))), (1, vi l1), (2, vi l2), (3, vi l3), (4, vi l4), (5, vi l5)] 0 [] Q := by
  refine z_iload dX1_carryOut_0 rfl ?_
  refine z_if_le (tgt := 15) dX1_carryOut_2 rfl (fun h_ => ?_) (fun h_ => ?_)
  · have k := zit h_ k
    refine z_iconst (v := 0) dX1_carryOut_15 rfl ?_
    exact k
  · have k := zif h_ k
    refine z_aload_n dX1_carryOut_5 rfl rfl ?_
    refine z_getr dX1_carryOut_6 fsX1_148_0 (show gr M 16 34 = some (53, 101, 14500) from cw_at hw 21 rfl) ?_
    refine z_iload dX1_carryOut_9 rfl ?_
    obtain ⟨b_, k⟩ := k
    refine z_bald dX1_carryOut_11 b_ ?_
    refine z_goto (tgt := 16) dX1_carryOut_12 rfl ?_
    exact k
theorem sX1_carryOut_16 {E : zE} {d : Nat} {Q : zO → zM → Prop} (M : zM) (l1 : Int32) (l2 : Int32) (l3 : Int32) (l4 : Int32) (l5 : Int32) (s0 : Int32) (hw : cw M) (k : if l5 ≤ 0 then (Z E YX1_carryOut (d + 1) M [(0, vr (some (16, 0, 0))), (1, vi l1), (2, vi l2), (3, vi l3), (5, vi l5), (6, vi s0)] 34 [vi (0 : Int32)] Q) else (vp_in l4 14500 ∧ (Z E YX1_carryOut (d + 1) M [(0, vr (some (16, 0, 0))), (1, vi l1), (2, vi l2), (3, vi l3), (5, vi l5), (6, vi s0)] 34 [vi (gi M 54 (l4).toNatClampNeg)] Q))) : Z E YX1_carryOut (d + 1) M [(0, vr (some (16, 0, 0))), (1, vi l1), (2, vi l2), (3, vi l3), (4, vi l4), (5, vi l5)] 16 [vi s0] Q := by
  refine z_ist dX1_carryOut_16 (by decide) (lv' := [(0, vr (some (16, 0, 0))), (1, vi l1), (2, vi l2), (3, vi l3), (4, vi l4), (5, vi l5), (6, vi s0)]) rfl ?_
  refine z_iload dX1_carryOut_18 rfl ?_
  refine z_if_le (tgt := 33) dX1_carryOut_20 rfl (fun h_ => ?_) (fun h_ => ?_)
  · have k := zit h_ k
    refine z_iconst (v := 0) dX1_carryOut_33 rfl ?_
    refine Z.pick [0, 1, 2, 3, 5, 6] rfl ?_
    exact k
  · have k := zif h_ k
    refine z_aload_n dX1_carryOut_23 rfl rfl ?_
    refine z_getr dX1_carryOut_24 fsX1_151_0 (show gr M 16 35 = some (54, 100, 14500) from cw_at hw 22 rfl) ?_
    refine z_iload dX1_carryOut_27 rfl ?_
    obtain ⟨b_, k⟩ := k
    refine z_iald dX1_carryOut_29 b_ ?_
    refine z_goto (tgt := 34) dX1_carryOut_30 rfl ?_
    refine Z.pick [0, 1, 2, 3, 5, 6] rfl ?_
    exact k
theorem sX1_carryOut_34 {E : zE} {d : Nat} {Q : zO → zM → Prop} (M : zM) (l1 : Int32) (l2 : Int32) (l3 : Int32) (l5 : Int32) (l6 : Int32) (s0 : Int32) (hw : cw M) (k : if l1 = 9 then (Z E YX1_textOf d M (zargs 0 [vr (some (16, 0, 0)), vi l6, vi s0]) 0 [] (zafter E YX1_carryOut (d + 1) [(0, vr (some (16, 0, 0)))] 113 3 [] Q)) else (if l1 = 10 then (Z E YX1_born d M (zargs 0 [vr (some (16, 0, 0)), vi (0 : Int32), vi (23 : Int32), vi (1 : Int32), vi (-1 : Int32)]) 0 [] (zafter E YX1_carryOut (d + 1) [] 164 3 [vi (7 : Int32), vr (some (16, 0, 0))] Q)) else (if l1 = 11 then (Z E YX1_array d M (zargs 0 [vr (some (16, 0, 0)), vi (24 : Int32)]) 0 [] (zafter E YX1_carryOut (d + 1) [] 179 3 [vi (7 : Int32), vr (some (16, 0, 0))] Q)) else (if l1 = 12 then (if l5 ≤ 0 then (Z E YX1_gives d M (zargs 0 [vr (some (16, 0, 0)), vi (6 : Int32), vi (30 : Int32)]) 0 [] (zafter E YX1_carryOut (d + 1) [] 209 3 [] Q)) else (Z E YX1_textOf d M (zargs 0 [vr (some (16, 0, 0)), vi l6, vi s0]) 0 [] (zafter E YX1_carryOut (d + 1) [] 201 3 [vi (6 : Int32), vr (some (16, 0, 0))] Q))) else (if l1 = 13 then (Z E YX1_hasNumber d M (zargs 0 [vr (some (16, 0, 0)), vi l6, vi s0]) 0 [] (zafter E YX1_carryOut (d + 1) [] 221 3 [vr (some (16, 0, 0))] Q)) else (if l1 = 14 then (Z E YX1_born d M (zargs 0 [vr (some (16, 0, 0)), vi (0 : Int32), vi (l1 + (11 : Int32)), vi (l1 - (9 : Int32)), vi (-1 : Int32)]) 0 [] (zafter E YX1_carryOut (d + 1) [(0, vr (some (16, 0, 0))), (5, vi l5), (6, vi l6), (7, vi s0)] 394 3 [] Q)) else (if l1 = 15 then (Z E YX1_born d M (zargs 0 [vr (some (16, 0, 0)), vi (0 : Int32), vi (l1 + (11 : Int32)), vi (l1 - (9 : Int32)), vi (-1 : Int32)]) 0 [] (zafter E YX1_carryOut (d + 1) [(0, vr (some (16, 0, 0))), (5, vi l5), (6, vi l6), (7, vi s0)] 394 3 [] Q)) else (if l1 = 16 then (Z E YX1_born d M (zargs 0 [vr (some (16, 0, 0)), vi (0 : Int32), vi (l1 + (11 : Int32)), vi (l1 - (9 : Int32)), vi (-1 : Int32)]) 0 [] (zafter E YX1_carryOut (d + 1) [(0, vr (some (16, 0, 0))), (5, vi l5), (6, vi l6), (7, vi s0)] 394 3 [] Q)) else (if l1 = 17 then (Z E YX1_born d M (zargs 0 [vr (some (16, 0, 0)), vi (0 : Int32), vi (l1 + (11 : Int32)), vi (l1 - (9 : Int32)), vi (-1 : Int32)]) 0 [] (zafter E YX1_carryOut (d + 1) [(0, vr (some (16, 0, 0))), (5, vi l5), (6, vi l6), (7, vi s0)] 394 3 [] Q)) else (if l1 = 18 then (Z E YX1_pushed d M (zargs 0 [vr (some (16, 0, 0)), vi l2, vi l3, vi l6, vi s0]) 0 [] (zafter E YX1_carryOut (d + 1) [] 245 3 [] Q)) else (if l1 = 19 then (Z E YX1_popped d M (zargs 0 [vr (some (16, 0, 0)), vi l2, vi l3]) 0 [] (zafter E YX1_carryOut (d + 1) [] 254 3 [] Q)) else (if l1 = 20 then (Z E YX1_born d M (zargs 0 [vr (some (16, 0, 0)), vi (0 : Int32), vi (l1 + (11 : Int32)), vi (l1 - (9 : Int32)), vi (-1 : Int32)]) 0 [] (zafter E YX1_carryOut (d + 1) [(0, vr (some (16, 0, 0))), (5, vi l5), (6, vi l6), (7, vi s0)] 394 3 [] Q)) else (if l1 = 21 then (if l2 = (7 : Int32) then (Z E YX1_textOf d M (zargs 0 [vr (some (16, 0, 0)), vi l6, vi s0]) 0 [] (zafter E YX1_carryOut (d + 1) [] 280 3 [vi l3, vr (some (16, 0, 0)), vr (some (16, 0, 0))] Q)) else (Z E YX1_error d M (zargs 0 [vr (some (16, 0, 0)), vi (0 : Int32)]) 0 [] (zafter E YX1_carryOut (d + 1) [] 268 3 [] Q))) else (if l1 = 22 then (if l2 = (6 : Int32) then (Z E YX1_hasNumber d M (zargs 0 [vr (some (16, 0, 0)), vi l6, vi s0]) 0 [] (zafter E YX1_carryOut (d + 1) [(0, vr (some (16, 0, 0))), (3, vi l3)] 318 3 [] Q)) else (Z E YX1_error d M (zargs 0 [vr (some (16, 0, 0)), vi (0 : Int32)]) 0 [] (zafter E YX1_carryOut (d + 1) [] 309 3 [] Q))) else (Z E YX1_born d M (zargs 0 [vr (some (16, 0, 0)), vi (0 : Int32), vi (l1 + (11 : Int32)), vi (l1 - (9 : Int32)), vi (-1 : Int32)]) 0 [] (zafter E YX1_carryOut (d + 1) [(0, vr (some (16, 0, 0))), (5, vi l5), (6, vi l6), (7, vi s0)] 394 3 [] Q)))))))))))))))) : Z E YX1_carryOut (d + 1) M [(0, vr (some (16, 0, 0))), (1, vi l1), (2, vi l2), (3, vi l3), (5, vi l5), (6, vi l6)] 34 [vi s0] Q := by
  refine z_ist dX1_carryOut_34 (by decide) (lv' := [(0, vr (some (16, 0, 0))), (1, vi l1), (2, vi l2), (3, vi l3), (5, vi l5), (6, vi l6), (7, vi s0)]) rfl ?_
  refine z_iload_n dX1_carryOut_36 rfl rfl ?_
  by_cases h0_ : l1 = 9
  · have k := zit h0_ k
    refine z_tableIn (off := 71) (tgt := 108) dX1_carryOut_37 (by rw [h0_]; decide) (by rw [h0_]; decide) (by rw [h0_]; rfl) rfl ?_
    refine z_aload_n dX1_carryOut_108 rfl rfl ?_
    refine z_iload dX1_carryOut_109 rfl ?_
    refine z_iload dX1_carryOut_111 rfl ?_
    refine Z.pick [0] rfl ?_
    exact z_callV (as := [vi l6, vi s0]) (st := []) dX1_carryOut_113 vsX1_541_0 (Nat.le_refl _) (Nat.le_of_ble_eq_true rfl) (Nat.le_of_ble_eq_true rfl) rfl k
  · have k := zif h0_ k
    by_cases h1_ : l1 = 10
    · have k := zit h1_ k
      refine z_tableIn (off := 118) (tgt := 155) dX1_carryOut_37 (by rw [h1_]; decide) (by rw [h1_]; decide) (by rw [h1_]; rfl) rfl ?_
      refine z_aload_n dX1_carryOut_155 rfl rfl ?_
      refine z_bipush (v := 7) dX1_carryOut_156 rfl ?_
      refine z_aload_n dX1_carryOut_158 rfl rfl ?_
      refine z_iconst (v := 0) dX1_carryOut_159 rfl ?_
      refine z_bipush (v := 23) dX1_carryOut_160 rfl ?_
      refine z_iconst (v := 1) dX1_carryOut_162 rfl ?_
      refine z_iconst (v := -1) dX1_carryOut_163 rfl ?_
      refine Z.pick [] rfl ?_
      exact z_callV (as := [vi (0 : Int32), vi (23 : Int32), vi (1 : Int32), vi (-1 : Int32)]) (st := [vi (7 : Int32), vr (some (16, 0, 0))]) dX1_carryOut_164 vsX1_362_0 (Nat.le_refl _) (Nat.le_of_ble_eq_true rfl) (Nat.le_of_ble_eq_true rfl) rfl k
    · have k := zif h1_ k
      by_cases h2_ : l1 = 11
      · have k := zit h2_ k
        refine z_tableIn (off := 136) (tgt := 173) dX1_carryOut_37 (by rw [h2_]; decide) (by rw [h2_]; decide) (by rw [h2_]; rfl) rfl ?_
        refine z_aload_n dX1_carryOut_173 rfl rfl ?_
        refine z_bipush (v := 7) dX1_carryOut_174 rfl ?_
        refine z_aload_n dX1_carryOut_176 rfl rfl ?_
        refine z_bipush (v := 24) dX1_carryOut_177 rfl ?_
        refine Z.pick [] rfl ?_
        exact z_callV (as := [vi (24 : Int32)]) (st := [vi (7 : Int32), vr (some (16, 0, 0))]) dX1_carryOut_179 vsX1_489_0 (Nat.le_refl _) (Nat.le_of_ble_eq_true rfl) (Nat.le_of_ble_eq_true rfl) rfl k
      · have k := zif h2_ k
        by_cases h3_ : l1 = 12
        · have k := zit h3_ k
          refine z_tableIn (off := 151) (tgt := 188) dX1_carryOut_37 (by rw [h3_]; decide) (by rw [h3_]; decide) (by rw [h3_]; rfl) rfl ?_
          refine z_aload_n dX1_carryOut_188 rfl rfl ?_
          refine z_bipush (v := 6) dX1_carryOut_189 rfl ?_
          refine z_iload dX1_carryOut_191 rfl ?_
          refine z_if_le (tgt := 207) dX1_carryOut_193 rfl (fun h_ => ?_) (fun h_ => ?_)
          · have k := zit h_ k
            refine z_bipush (v := 30) dX1_carryOut_207 rfl ?_
            refine Z.pick [] rfl ?_
            exact z_callV (as := [vi (6 : Int32), vi (30 : Int32)]) (st := []) dX1_carryOut_209 vsX1_395_0 (Nat.le_refl _) (Nat.le_of_ble_eq_true rfl) (Nat.le_of_ble_eq_true rfl) rfl k
          · have k := zif h_ k
            refine z_aload_n dX1_carryOut_196 rfl rfl ?_
            refine z_iload dX1_carryOut_197 rfl ?_
            refine z_iload dX1_carryOut_199 rfl ?_
            refine Z.pick [] rfl ?_
            exact z_callV (as := [vi l6, vi s0]) (st := [vi (6 : Int32), vr (some (16, 0, 0))]) dX1_carryOut_201 vsX1_541_0 (Nat.le_refl _) (Nat.le_of_ble_eq_true rfl) (Nat.le_of_ble_eq_true rfl) rfl k
        · have k := zif h3_ k
          by_cases h4_ : l1 = 13
          · have k := zit h4_ k
            refine z_tableIn (off := 178) (tgt := 215) dX1_carryOut_37 (by rw [h4_]; decide) (by rw [h4_]; decide) (by rw [h4_]; rfl) rfl ?_
            refine z_aload_n dX1_carryOut_215 rfl rfl ?_
            refine z_aload_n dX1_carryOut_216 rfl rfl ?_
            refine z_iload dX1_carryOut_217 rfl ?_
            refine z_iload dX1_carryOut_219 rfl ?_
            refine Z.pick [] rfl ?_
            exact z_callV (as := [vi l6, vi s0]) (st := [vr (some (16, 0, 0))]) dX1_carryOut_221 vsX1_412_0 (Nat.le_refl _) (Nat.le_of_ble_eq_true rfl) (Nat.le_of_ble_eq_true rfl) rfl k
          · have k := zif h4_ k
            by_cases h5_ : l1 = 14
            · have k := zit h5_ k
              refine z_tableIn (off := 346) (tgt := 383) dX1_carryOut_37 (by rw [h5_]; decide) (by rw [h5_]; decide) (by rw [h5_]; rfl) rfl ?_
              refine z_aload_n dX1_carryOut_383 rfl rfl ?_
              refine z_iconst (v := 0) dX1_carryOut_384 rfl ?_
              refine z_iload_n dX1_carryOut_385 rfl rfl ?_
              refine z_bipush (v := 11) dX1_carryOut_386 rfl ?_
              refine z_iadd dX1_carryOut_388 ?_
              refine z_iload_n dX1_carryOut_389 rfl rfl ?_
              refine z_bipush (v := 9) dX1_carryOut_390 rfl ?_
              refine z_isub dX1_carryOut_392 ?_
              refine z_iconst (v := -1) dX1_carryOut_393 rfl ?_
              refine Z.pick [0, 4, 5, 6] rfl ?_
              exact z_callV (as := [vi (0 : Int32), vi (l1 + (11 : Int32)), vi (l1 - (9 : Int32)), vi (-1 : Int32)]) (st := []) dX1_carryOut_394 vsX1_362_0 (Nat.le_refl _) (Nat.le_of_ble_eq_true rfl) (Nat.le_of_ble_eq_true rfl) rfl k
            · have k := zif h5_ k
              by_cases h6_ : l1 = 15
              · have k := zit h6_ k
                refine z_tableIn (off := 346) (tgt := 383) dX1_carryOut_37 (by rw [h6_]; decide) (by rw [h6_]; decide) (by rw [h6_]; rfl) rfl ?_
                refine z_aload_n dX1_carryOut_383 rfl rfl ?_
                refine z_iconst (v := 0) dX1_carryOut_384 rfl ?_
                refine z_iload_n dX1_carryOut_385 rfl rfl ?_
                refine z_bipush (v := 11) dX1_carryOut_386 rfl ?_
                refine z_iadd dX1_carryOut_388 ?_
                refine z_iload_n dX1_carryOut_389 rfl rfl ?_
                refine z_bipush (v := 9) dX1_carryOut_390 rfl ?_
                refine z_isub dX1_carryOut_392 ?_
                refine z_iconst (v := -1) dX1_carryOut_393 rfl ?_
                refine Z.pick [0, 4, 5, 6] rfl ?_
                exact z_callV (as := [vi (0 : Int32), vi (l1 + (11 : Int32)), vi (l1 - (9 : Int32)), vi (-1 : Int32)]) (st := []) dX1_carryOut_394 vsX1_362_0 (Nat.le_refl _) (Nat.le_of_ble_eq_true rfl) (Nat.le_of_ble_eq_true rfl) rfl k
              · have k := zif h6_ k
                by_cases h7_ : l1 = 16
                · have k := zit h7_ k
                  refine z_tableIn (off := 346) (tgt := 383) dX1_carryOut_37 (by rw [h7_]; decide) (by rw [h7_]; decide) (by rw [h7_]; rfl) rfl ?_
                  refine z_aload_n dX1_carryOut_383 rfl rfl ?_
                  refine z_iconst (v := 0) dX1_carryOut_384 rfl ?_
                  refine z_iload_n dX1_carryOut_385 rfl rfl ?_
                  refine z_bipush (v := 11) dX1_carryOut_386 rfl ?_
                  refine z_iadd dX1_carryOut_388 ?_
                  refine z_iload_n dX1_carryOut_389 rfl rfl ?_
                  refine z_bipush (v := 9) dX1_carryOut_390 rfl ?_
                  refine z_isub dX1_carryOut_392 ?_
                  refine z_iconst (v := -1) dX1_carryOut_393 rfl ?_
                  refine Z.pick [0, 4, 5, 6] rfl ?_
                  exact z_callV (as := [vi (0 : Int32), vi (l1 + (11 : Int32)), vi (l1 - (9 : Int32)), vi (-1 : Int32)]) (st := []) dX1_carryOut_394 vsX1_362_0 (Nat.le_refl _) (Nat.le_of_ble_eq_true rfl) (Nat.le_of_ble_eq_true rfl) rfl k
                · have k := zif h7_ k
                  by_cases h8_ : l1 = 17
                  · have k := zit h8_ k
                    refine z_tableIn (off := 346) (tgt := 383) dX1_carryOut_37 (by rw [h8_]; decide) (by rw [h8_]; decide) (by rw [h8_]; rfl) rfl ?_
                    refine z_aload_n dX1_carryOut_383 rfl rfl ?_
                    refine z_iconst (v := 0) dX1_carryOut_384 rfl ?_
                    refine z_iload_n dX1_carryOut_385 rfl rfl ?_
                    refine z_bipush (v := 11) dX1_carryOut_386 rfl ?_
                    refine z_iadd dX1_carryOut_388 ?_
                    refine z_iload_n dX1_carryOut_389 rfl rfl ?_
                    refine z_bipush (v := 9) dX1_carryOut_390 rfl ?_
                    refine z_isub dX1_carryOut_392 ?_
                    refine z_iconst (v := -1) dX1_carryOut_393 rfl ?_
                    refine Z.pick [0, 4, 5, 6] rfl ?_
                    exact z_callV (as := [vi (0 : Int32), vi (l1 + (11 : Int32)), vi (l1 - (9 : Int32)), vi (-1 : Int32)]) (st := []) dX1_carryOut_394 vsX1_362_0 (Nat.le_refl _) (Nat.le_of_ble_eq_true rfl) (Nat.le_of_ble_eq_true rfl) rfl k
                  · have k := zif h8_ k
                    by_cases h9_ : l1 = 18
                    · have k := zit h9_ k
                      refine z_tableIn (off := 201) (tgt := 238) dX1_carryOut_37 (by rw [h9_]; decide) (by rw [h9_]; decide) (by rw [h9_]; rfl) rfl ?_
                      refine z_aload_n dX1_carryOut_238 rfl rfl ?_
                      refine z_iload_n dX1_carryOut_239 rfl rfl ?_
                      refine z_iload_n dX1_carryOut_240 rfl rfl ?_
                      refine z_iload dX1_carryOut_241 rfl ?_
                      refine z_iload dX1_carryOut_243 rfl ?_
                      refine Z.pick [] rfl ?_
                      exact z_callV (as := [vi l2, vi l3, vi l6, vi s0]) (st := []) dX1_carryOut_245 vsX1_582_0 (Nat.le_refl _) (Nat.le_of_ble_eq_true rfl) (Nat.le_of_ble_eq_true rfl) rfl k
                    · have k := zif h9_ k
                      by_cases h10_ : l1 = 19
                      · have k := zit h10_ k
                        refine z_tableIn (off := 214) (tgt := 251) dX1_carryOut_37 (by rw [h10_]; decide) (by rw [h10_]; decide) (by rw [h10_]; rfl) rfl ?_
                        refine z_aload_n dX1_carryOut_251 rfl rfl ?_
                        refine z_iload_n dX1_carryOut_252 rfl rfl ?_
                        refine z_iload_n dX1_carryOut_253 rfl rfl ?_
                        refine Z.pick [] rfl ?_
                        exact z_callV (as := [vi l2, vi l3]) (st := []) dX1_carryOut_254 vsX1_585_0 (Nat.le_refl _) (Nat.le_of_ble_eq_true rfl) (Nat.le_of_ble_eq_true rfl) rfl k
                      · have k := zif h10_ k
                        by_cases h11_ : l1 = 20
                        · have k := zit h11_ k
                          refine z_tableIn (off := 346) (tgt := 383) dX1_carryOut_37 (by rw [h11_]; decide) (by rw [h11_]; decide) (by rw [h11_]; rfl) rfl ?_
                          refine z_aload_n dX1_carryOut_383 rfl rfl ?_
                          refine z_iconst (v := 0) dX1_carryOut_384 rfl ?_
                          refine z_iload_n dX1_carryOut_385 rfl rfl ?_
                          refine z_bipush (v := 11) dX1_carryOut_386 rfl ?_
                          refine z_iadd dX1_carryOut_388 ?_
                          refine z_iload_n dX1_carryOut_389 rfl rfl ?_
                          refine z_bipush (v := 9) dX1_carryOut_390 rfl ?_
                          refine z_isub dX1_carryOut_392 ?_
                          refine z_iconst (v := -1) dX1_carryOut_393 rfl ?_
                          refine Z.pick [0, 4, 5, 6] rfl ?_
                          exact z_callV (as := [vi (0 : Int32), vi (l1 + (11 : Int32)), vi (l1 - (9 : Int32)), vi (-1 : Int32)]) (st := []) dX1_carryOut_394 vsX1_362_0 (Nat.le_refl _) (Nat.le_of_ble_eq_true rfl) (Nat.le_of_ble_eq_true rfl) rfl k
                        · have k := zif h11_ k
                          by_cases h12_ : l1 = 21
                          · have k := zit h12_ k
                            refine z_tableIn (off := 223) (tgt := 260) dX1_carryOut_37 (by rw [h12_]; decide) (by rw [h12_]; decide) (by rw [h12_]; rfl) rfl ?_
                            refine z_iload_n dX1_carryOut_260 rfl rfl ?_
                            refine z_bipush (v := 7) dX1_carryOut_261 rfl ?_
                            refine z_icmp_eq (tgt := 272) dX1_carryOut_263 rfl (fun h_ => ?_) (fun h_ => ?_)
                            · have k := zit h_ k
                              refine z_aload_n dX1_carryOut_272 rfl rfl ?_
                              refine z_aload_n dX1_carryOut_273 rfl rfl ?_
                              refine z_iload_n dX1_carryOut_274 rfl rfl ?_
                              refine z_aload_n dX1_carryOut_275 rfl rfl ?_
                              refine z_iload dX1_carryOut_276 rfl ?_
                              refine z_iload dX1_carryOut_278 rfl ?_
                              refine Z.pick [] rfl ?_
                              exact z_callV (as := [vi l6, vi s0]) (st := [vi l3, vr (some (16, 0, 0)), vr (some (16, 0, 0))]) dX1_carryOut_280 vsX1_541_0 (Nat.le_refl _) (Nat.le_of_ble_eq_true rfl) (Nat.le_of_ble_eq_true rfl) rfl k
                            · have k := zif h_ k
                              refine z_aload_n dX1_carryOut_266 rfl rfl ?_
                              refine z_iconst (v := 0) dX1_carryOut_267 rfl ?_
                              refine Z.pick [] rfl ?_
                              exact z_callV (as := [vi (0 : Int32)]) (st := []) dX1_carryOut_268 vsX1_482_0 (Nat.le_refl _) (Nat.le_of_ble_eq_true rfl) (Nat.le_of_ble_eq_true rfl) rfl k
                          · have k := zif h12_ k
                            by_cases h13_ : l1 = 22
                            · have k := zit h13_ k
                              refine z_tableIn (off := 264) (tgt := 301) dX1_carryOut_37 (by rw [h13_]; decide) (by rw [h13_]; decide) (by rw [h13_]; rfl) rfl ?_
                              refine z_iload_n dX1_carryOut_301 rfl rfl ?_
                              refine z_bipush (v := 6) dX1_carryOut_302 rfl ?_
                              refine z_icmp_eq (tgt := 313) dX1_carryOut_304 rfl (fun h_ => ?_) (fun h_ => ?_)
                              · have k := zit h_ k
                                refine z_aload_n dX1_carryOut_313 rfl rfl ?_
                                refine z_iload dX1_carryOut_314 rfl ?_
                                refine z_iload dX1_carryOut_316 rfl ?_
                                refine Z.pick [0, 3] rfl ?_
                                exact z_callV (as := [vi l6, vi s0]) (st := []) dX1_carryOut_318 vsX1_412_0 (Nat.le_refl _) (Nat.le_of_ble_eq_true rfl) (Nat.le_of_ble_eq_true rfl) rfl k
                              · have k := zif h_ k
                                refine z_aload_n dX1_carryOut_307 rfl rfl ?_
                                refine z_iconst (v := 0) dX1_carryOut_308 rfl ?_
                                refine Z.pick [] rfl ?_
                                exact z_callV (as := [vi (0 : Int32)]) (st := []) dX1_carryOut_309 vsX1_482_0 (Nat.le_refl _) (Nat.le_of_ble_eq_true rfl) (Nat.le_of_ble_eq_true rfl) rfl k
                            · have k := zif h13_ k
                              refine z_tout (tgt := 383) [9, 10, 11, 12, 13, 14, 15, 16, 17, 18, 19, 20, 21, 22] (by decide) dX1_carryOut_37 (zall_1 h0_ (zall_1 h1_ (zall_1 h2_ (zall_1 h3_ (zall_1 h4_ (zall_1 h5_ (zall_1 h6_ (zall_1 h7_ (zall_1 h8_ (zall_1 h9_ (zall_1 h10_ (zall_1 h11_ (zall_1 h12_ (zall_1 h13_ zall_0)))))))))))))) rfl ?_
                              refine z_aload_n dX1_carryOut_383 rfl rfl ?_
                              refine z_iconst (v := 0) dX1_carryOut_384 rfl ?_
                              refine z_iload_n dX1_carryOut_385 rfl rfl ?_
                              refine z_bipush (v := 11) dX1_carryOut_386 rfl ?_
                              refine z_iadd dX1_carryOut_388 ?_
                              refine z_iload_n dX1_carryOut_389 rfl rfl ?_
                              refine z_bipush (v := 9) dX1_carryOut_390 rfl ?_
                              refine z_isub dX1_carryOut_392 ?_
                              refine z_iconst (v := -1) dX1_carryOut_393 rfl ?_
                              refine Z.pick [0, 4, 5, 6] rfl ?_
                              exact z_callV (as := [vi (0 : Int32), vi (l1 + (11 : Int32)), vi (l1 - (9 : Int32)), vi (-1 : Int32)]) (st := []) dX1_carryOut_394 vsX1_362_0 (Nat.le_refl _) (Nat.le_of_ble_eq_true rfl) (Nat.le_of_ble_eq_true rfl) rfl k
theorem sX1_carryOut_116 {E : zE} {d : Nat} {Q : zO → zM → Prop} (M : zM) (s0 : Int32) (hw : cw M) (k : if (100 : Int32) ≤ (gi M 16 53) then (Z E YX1_gives d M (zargs 0 [vr (some (16, 0, 0)), vi (0 : Int32), vi (0 : Int32)]) 0 [] (zafter E YX1_carryOut (d + 1) [] 149 3 [] Q)) else (vp_in (gi M 16 53) 100 ∧ (Z E YX1_gives d (si (si M 16 53 ((gi M 16 53) + (1 : Int32))) 67 ((gi M 16 53)).toNatClampNeg (vp_nar .short (s0).toInt16.toInt32)) (zargs 0 [vr (some (16, 0, 0)), vi (0 : Int32), vi (0 : Int32)]) 0 [] (zafter E YX1_carryOut (d + 1) [] 149 3 [] Q)))) : Z E YX1_carryOut (d + 1) M [(0, vr (some (16, 0, 0)))] 116 [vi s0] Q := by
  refine z_ist dX1_carryOut_116 (by decide) (lv' := [(0, vr (some (16, 0, 0))), (8, vi s0)]) rfl ?_
  refine z_aload_n dX1_carryOut_118 rfl rfl ?_
  refine z_geti dX1_carryOut_119 fsX1_325_0 ?_
  refine z_bipush (v := 100) dX1_carryOut_122 rfl ?_
  refine z_icmp_ge (tgt := 146) dX1_carryOut_124 rfl (fun h_ => ?_) (fun h_ => ?_)
  · have k := zit h_ k
    refine z_aload_n dX1_carryOut_146 rfl rfl ?_
    refine z_iconst (v := 0) dX1_carryOut_147 rfl ?_
    refine z_iconst (v := 0) dX1_carryOut_148 rfl ?_
    refine Z.pick [] rfl ?_
    exact z_callV (as := [vi (0 : Int32), vi (0 : Int32)]) (st := []) dX1_carryOut_149 vsX1_395_0 (Nat.le_refl _) (Nat.le_of_ble_eq_true rfl) (Nat.le_of_ble_eq_true rfl) rfl k
  · have k := zif h_ k
    refine z_aload_n dX1_carryOut_127 rfl rfl ?_
    refine z_getr dX1_carryOut_128 fsX1_190_0 (show gr M 16 56 = some (67, 102, 100) from cw_at hw 35 rfl) ?_
    refine z_aload_n dX1_carryOut_131 rfl rfl ?_
    refine z_dup dX1_carryOut_132 rfl ?_
    refine z_geti dX1_carryOut_133 fsX1_325_0 ?_
    refine z_dup_x1 dX1_carryOut_136 rfl rfl ?_
    refine z_iconst (v := 1) dX1_carryOut_137 rfl ?_
    refine z_iadd dX1_carryOut_138 ?_
    refine z_puti (by decide) dX1_carryOut_139 (zfwN.w fwX1_325_0) rfl ⟨rfl, rfl⟩ ?_
    refine z_iload dX1_carryOut_142 rfl ?_
    refine z_i2s dX1_carryOut_144 ?_
    obtain ⟨b_, k⟩ := k
    refine z_sast (by decide) dX1_carryOut_145 b_ ?_
    refine z_aload_n dX1_carryOut_146 rfl rfl ?_
    refine z_iconst (v := 0) dX1_carryOut_147 rfl ?_
    refine z_iconst (v := 0) dX1_carryOut_148 rfl ?_
    refine Z.pick [] rfl ?_
    exact z_callV (as := [vi (0 : Int32), vi (0 : Int32)]) (st := []) dX1_carryOut_149 vsX1_395_0 (Nat.le_refl _) (Nat.le_of_ble_eq_true rfl) (Nat.le_of_ble_eq_true rfl) rfl k
theorem sX1_carryOut_152 {E : zE} {d : Nat} {Q : zO → zM → Prop} (M : zM)  (hw : cw M) (k : Z E YX1_carryOut (d + 1) M [] 429 [] Q) : Z E YX1_carryOut (d + 1) M [] 152 [] Q := by
  refine z_goto (tgt := 429) dX1_carryOut_152 rfl ?_
  exact k
theorem sX1_carryOut_167 {E : zE} {d : Nat} {Q : zO → zM → Prop} (M : zM) (s0 : Int32) (s1 : Int32) (hw : cw M) (k : Z E YX1_gives d M (zargs 0 [vr (some (16, 0, 0)), vi s1, vi s0]) 0 [] (zafter E YX1_carryOut (d + 1) [] 167 3 [] Q)) : Z E YX1_carryOut (d + 1) M [] 167 [vi s0, vi s1, vr (some (16, 0, 0))] Q := by
  exact z_callV (as := [vi s1, vi s0]) (st := []) dX1_carryOut_167 vsX1_395_0 (Nat.le_refl _) (Nat.le_of_ble_eq_true rfl) (Nat.le_of_ble_eq_true rfl) rfl k
theorem sX1_carryOut_170 {E : zE} {d : Nat} {Q : zO → zM → Prop} (M : zM)  (hw : cw M) (k : Z E YX1_carryOut (d + 1) M [] 429 [] Q) : Z E YX1_carryOut (d + 1) M [] 170 [] Q := by
  refine z_goto (tgt := 429) dX1_carryOut_170 rfl ?_
  exact k
theorem sX1_carryOut_182 {E : zE} {d : Nat} {Q : zO → zM → Prop} (M : zM) (s0 : Int32) (s1 : Int32) (hw : cw M) (k : Z E YX1_gives d M (zargs 0 [vr (some (16, 0, 0)), vi s1, vi s0]) 0 [] (zafter E YX1_carryOut (d + 1) [] 182 3 [] Q)) : Z E YX1_carryOut (d + 1) M [] 182 [vi s0, vi s1, vr (some (16, 0, 0))] Q := by
  exact z_callV (as := [vi s1, vi s0]) (st := []) dX1_carryOut_182 vsX1_395_0 (Nat.le_refl _) (Nat.le_of_ble_eq_true rfl) (Nat.le_of_ble_eq_true rfl) rfl k
theorem sX1_carryOut_185 {E : zE} {d : Nat} {Q : zO → zM → Prop} (M : zM)  (hw : cw M) (k : Z E YX1_carryOut (d + 1) M [] 429 [] Q) : Z E YX1_carryOut (d + 1) M [] 185 [] Q := by
  refine z_goto (tgt := 429) dX1_carryOut_185 rfl ?_
  exact k
theorem sX1_carryOut_204 {E : zE} {d : Nat} {Q : zO → zM → Prop} (M : zM) (s0 : Int32) (s1 : Int32) (hw : cw M) (k : Z E YX1_gives d M (zargs 0 [vr (some (16, 0, 0)), vi s1, vi s0]) 0 [] (zafter E YX1_carryOut (d + 1) [] 209 3 [] Q)) : Z E YX1_carryOut (d + 1) M [] 204 [vi s0, vi s1, vr (some (16, 0, 0))] Q := by
  refine z_goto (tgt := 209) dX1_carryOut_204 rfl ?_
  exact z_callV (as := [vi s1, vi s0]) (st := []) dX1_carryOut_209 vsX1_395_0 (Nat.le_refl _) (Nat.le_of_ble_eq_true rfl) (Nat.le_of_ble_eq_true rfl) rfl k
theorem sX1_carryOut_212 {E : zE} {d : Nat} {Q : zO → zM → Prop} (M : zM)  (hw : cw M) (k : Z E YX1_carryOut (d + 1) M [] 429 [] Q) : Z E YX1_carryOut (d + 1) M [] 212 [] Q := by
  refine z_goto (tgt := 429) dX1_carryOut_212 rfl ?_
  exact k
theorem sX1_carryOut_224 {E : zE} {d : Nat} {Q : zO → zM → Prop} (M : zM) (s0 : Int32) (hw : cw M) (k : if s0 = 0 then (Z E YX1_givesTruth d M (zargs 0 [vr (some (16, 0, 0)), vi (1 : Int32)]) 0 [] (zafter E YX1_carryOut (d + 1) [] 232 3 [] Q)) else (Z E YX1_givesTruth d M (zargs 0 [vr (some (16, 0, 0)), vi (0 : Int32)]) 0 [] (zafter E YX1_carryOut (d + 1) [] 232 3 [] Q))) : Z E YX1_carryOut (d + 1) M [] 224 [vi s0, vr (some (16, 0, 0))] Q := by
  refine z_if_ne (tgt := 231) dX1_carryOut_224 rfl (fun h_ => ?_) (fun h_ => ?_)
  · have k := zif h_ k
    refine z_iconst (v := 0) dX1_carryOut_231 rfl ?_
    exact z_callV (as := [vi (0 : Int32)]) (st := []) dX1_carryOut_232 vsX1_405_0 (Nat.le_refl _) (Nat.le_of_ble_eq_true rfl) (Nat.le_of_ble_eq_true rfl) rfl k
  · have k := zit h_ k
    refine z_iconst (v := 1) dX1_carryOut_227 rfl ?_
    refine z_goto (tgt := 232) dX1_carryOut_228 rfl ?_
    exact z_callV (as := [vi (1 : Int32)]) (st := []) dX1_carryOut_232 vsX1_405_0 (Nat.le_refl _) (Nat.le_of_ble_eq_true rfl) (Nat.le_of_ble_eq_true rfl) rfl k
theorem sX1_carryOut_235 {E : zE} {d : Nat} {Q : zO → zM → Prop} (M : zM)  (hw : cw M) (k : Z E YX1_carryOut (d + 1) M [] 429 [] Q) : Z E YX1_carryOut (d + 1) M [] 235 [] Q := by
  refine z_goto (tgt := 429) dX1_carryOut_235 rfl ?_
  exact k
theorem sX1_carryOut_248 {E : zE} {d : Nat} {Q : zO → zM → Prop} (M : zM)  (hw : cw M) (k : Z E YX1_carryOut (d + 1) M [] 429 [] Q) : Z E YX1_carryOut (d + 1) M [] 248 [] Q := by
  refine z_goto (tgt := 429) dX1_carryOut_248 rfl ?_
  exact k
theorem sX1_carryOut_257 {E : zE} {d : Nat} {Q : zO → zM → Prop} (M : zM)  (hw : cw M) (k : Z E YX1_carryOut (d + 1) M [] 429 [] Q) : Z E YX1_carryOut (d + 1) M [] 257 [] Q := by
  refine z_goto (tgt := 429) dX1_carryOut_257 rfl ?_
  exact k
theorem sX1_carryOut_271 {E : zE} {d : Nat} {Q : zO → zM → Prop} (M : zM) (u0 : Option zP) (hw : cw M) (k : ∃ b1 : Nat, u0 = some (b1, 14, 0) ∧ (Q (.inr (b1, 14, 0)) M)) : Z E YX1_carryOut (d + 1) M [] 271 [vr u0] Q := by
  obtain ⟨b1, e1_, k⟩ := k
  refine Z.eqs (lv' := []) (st' := [vr (some (b1, 14, 0))]) rfl (by rw [e1_] <;> rfl) ?_
  exact z_athrow dX1_carryOut_271 (ZT.out (by decide) k)
theorem sX1_carryOut_283 {E : zE} {d : Nat} {Q : zO → zM → Prop} (M : zM) (s0 : Int32) (s1 : Int32) (hw : cw M) (k : Z E YX1_own d M (zargs 0 [vr (some (16, 0, 0)), vi s1, vi s0]) 0 [] (zafter E YX1_carryOut (d + 1) [] 283 3 [vr (some (16, 0, 0))] Q)) : Z E YX1_carryOut (d + 1) M [] 283 [vi s0, vi s1, vr (some (16, 0, 0)), vr (some (16, 0, 0))] Q := by
  exact z_callV (as := [vi s1, vi s0]) (st := [vr (some (16, 0, 0))]) dX1_carryOut_283 vsX1_346_0 (Nat.le_refl _) (Nat.le_of_ble_eq_true rfl) (Nat.le_of_ble_eq_true rfl) rfl k
theorem sX1_carryOut_286 {E : zE} {d : Nat} {Q : zO → zM → Prop} (M : zM) (s0 : Int32) (hw : cw M) (k : if s0 = (-1 : Int32) then (Z E YX1_givesTruth d M (zargs 0 [vr (some (16, 0, 0)), vi (0 : Int32)]) 0 [] (zafter E YX1_carryOut (d + 1) [] 295 3 [] Q)) else (Z E YX1_givesTruth d M (zargs 0 [vr (some (16, 0, 0)), vi (1 : Int32)]) 0 [] (zafter E YX1_carryOut (d + 1) [] 295 3 [] Q))) : Z E YX1_carryOut (d + 1) M [] 286 [vi s0, vr (some (16, 0, 0))] Q := by
  refine z_iconst (v := -1) dX1_carryOut_286 rfl ?_
  refine z_icmp_eq (tgt := 294) dX1_carryOut_287 rfl (fun h_ => ?_) (fun h_ => ?_)
  · have k := zit h_ k
    refine z_iconst (v := 0) dX1_carryOut_294 rfl ?_
    exact z_callV (as := [vi (0 : Int32)]) (st := []) dX1_carryOut_295 vsX1_405_0 (Nat.le_refl _) (Nat.le_of_ble_eq_true rfl) (Nat.le_of_ble_eq_true rfl) rfl k
  · have k := zif h_ k
    refine z_iconst (v := 1) dX1_carryOut_290 rfl ?_
    refine z_goto (tgt := 295) dX1_carryOut_291 rfl ?_
    exact z_callV (as := [vi (1 : Int32)]) (st := []) dX1_carryOut_295 vsX1_405_0 (Nat.le_refl _) (Nat.le_of_ble_eq_true rfl) (Nat.le_of_ble_eq_true rfl) rfl k
theorem sX1_carryOut_298 {E : zE} {d : Nat} {Q : zO → zM → Prop} (M : zM)  (hw : cw M) (k : Z E YX1_carryOut (d + 1) M [] 429 [] Q) : Z E YX1_carryOut (d + 1) M [] 298 [] Q := by
  refine z_goto (tgt := 429) dX1_carryOut_298 rfl ?_
  exact k
theorem sX1_carryOut_312 {E : zE} {d : Nat} {Q : zO → zM → Prop} (M : zM) (u0 : Option zP) (hw : cw M) (k : ∃ b1 : Nat, u0 = some (b1, 14, 0) ∧ (Q (.inr (b1, 14, 0)) M)) : Z E YX1_carryOut (d + 1) M [] 312 [vr u0] Q := by
  obtain ⟨b1, e1_, k⟩ := k
  refine Z.eqs (lv' := []) (st' := [vr (some (b1, 14, 0))]) rfl (by rw [e1_] <;> rfl) ?_
  exact z_athrow dX1_carryOut_312 (ZT.out (by decide) k)
theorem sX1_carryOut_321 {E : zE} {d : Nat} {Q : zO → zM → Prop} (M : zM) (l3 : Int32) (s0 : Int32) (hw : cw M) (k : if s0 = 0 then (Z E YX1_clearRow d M (zargs 0 [vr (some (16, 0, 0))]) 0 [] (zafter E YX1_carryOut (d + 1) [(0, vr (some (16, 0, 0))), (3, vi l3), (8, vi (0 : Int32))] 335 3 [] Q)) else (Z E YX1_clearRow d M (zargs 0 [vr (some (16, 0, 0))]) 0 [] (zafter E YX1_carryOut (d + 1) [(0, vr (some (16, 0, 0))), (3, vi l3), (8, vi (gi M 16 32))] 335 3 [] Q))) : Z E YX1_carryOut (d + 1) M [(0, vr (some (16, 0, 0))), (3, vi l3)] 321 [vi s0] Q := by
  refine z_if_eq (tgt := 331) dX1_carryOut_321 rfl (fun h_ => ?_) (fun h_ => ?_)
  · have k := zit h_ k
    refine z_iconst (v := 0) dX1_carryOut_331 rfl ?_
    refine z_ist dX1_carryOut_332 (by decide) (lv' := [(0, vr (some (16, 0, 0))), (3, vi l3), (8, vi (0 : Int32))]) rfl ?_
    refine z_aload_n dX1_carryOut_334 rfl rfl ?_
    exact z_callV (as := []) (st := []) dX1_carryOut_335 vsX1_37_0 (Nat.le_refl _) (Nat.le_of_ble_eq_true rfl) (Nat.le_of_ble_eq_true rfl) rfl k
  · have k := zif h_ k
    refine z_aload_n dX1_carryOut_324 rfl rfl ?_
    refine z_geti dX1_carryOut_325 fsX1_392_0 ?_
    refine z_goto (tgt := 332) dX1_carryOut_328 rfl ?_
    refine z_ist dX1_carryOut_332 (by decide) (lv' := [(0, vr (some (16, 0, 0))), (3, vi l3), (8, vi (gi M 16 32))]) rfl ?_
    refine z_aload_n dX1_carryOut_334 rfl rfl ?_
    exact z_callV (as := []) (st := []) dX1_carryOut_335 vsX1_37_0 (Nat.le_refl _) (Nat.le_of_ble_eq_true rfl) (Nat.le_of_ble_eq_true rfl) rfl k
theorem sX1_carryOut_338 {E : zE} {d : Nat} {Q : zO → zM → Prop} (M : zM) (l3 : Int32) (l8 : Int32) (hw : cw M) (k : if l8 < 0 then (Z E YX1_carryOut (d + 1) M [(0, vr (some (16, 0, 0)))] 370 [] Q) else (Z E YX2_length d M (zargs 0 [vr (some (17, 2, 0)), vi l3]) 0 [] (zafter E YX1_carryOut (d + 1) [(0, vr (some (16, 0, 0))), (3, vi l3), (8, vi l8)] 350 3 [vi l8] Q))) : Z E YX1_carryOut (d + 1) M [(0, vr (some (16, 0, 0))), (3, vi l3), (8, vi l8)] 338 [] Q := by
  refine z_iload dX1_carryOut_338 rfl ?_
  refine z_if_lt (tgt := 370) dX1_carryOut_340 rfl (fun h_ => ?_) (fun h_ => ?_)
  · have k := zit h_ k
    refine Z.pick [0] rfl ?_
    exact k
  · have k := zif h_ k
    refine z_iload dX1_carryOut_343 rfl ?_
    refine z_aload_n dX1_carryOut_345 rfl rfl ?_
    refine z_getr dX1_carryOut_346 fsX1_19_0 (show gr M 16 0 = some (17, 2, 0) from cw_at hw 0 rfl) ?_
    refine z_iload_n dX1_carryOut_349 rfl rfl ?_
    exact z_callV (as := [vi l3]) (st := [vi l8]) dX1_carryOut_350 vsX1_23_2 (Nat.le_refl _) (Nat.le_of_ble_eq_true rfl) (Nat.le_of_ble_eq_true rfl) rfl k
theorem sX1_carryOut_353 {E : zE} {d : Nat} {Q : zO → zM → Prop} (M : zM) (l3 : Int32) (l8 : Int32) (s0 : Int32) (s1 : Int32) (hw : cw M) (k : if s0 ≤ s1 then (Z E YX1_carryOut (d + 1) M [(0, vr (some (16, 0, 0)))] 370 [] Q) else (Z E YX2_sign d M (zargs 0 [vr (some (17, 2, 0)), vi l3, vi l8]) 0 [] (zafter E YX1_carryOut (d + 1) [(0, vr (some (16, 0, 0)))] 364 3 [vr (some (16, 0, 0))] Q))) : Z E YX1_carryOut (d + 1) M [(0, vr (some (16, 0, 0))), (3, vi l3), (8, vi l8)] 353 [vi s0, vi s1] Q := by
  refine z_icmp_ge (tgt := 370) dX1_carryOut_353 rfl (fun h_ => ?_) (fun h_ => ?_)
  · have k := zit h_ k
    refine Z.pick [0] rfl ?_
    exact k
  · have k := zif h_ k
    refine z_aload_n dX1_carryOut_356 rfl rfl ?_
    refine z_aload_n dX1_carryOut_357 rfl rfl ?_
    refine z_getr dX1_carryOut_358 fsX1_19_0 (show gr M 16 0 = some (17, 2, 0) from cw_at hw 0 rfl) ?_
    refine z_iload_n dX1_carryOut_361 rfl rfl ?_
    refine z_iload dX1_carryOut_362 rfl ?_
    refine Z.pick [0] rfl ?_
    exact z_callV (as := [vi l3, vi l8]) (st := [vr (some (16, 0, 0))]) dX1_carryOut_364 vsX1_29_2 (Nat.le_refl _) (Nat.le_of_ble_eq_true rfl) (Nat.le_of_ble_eq_true rfl) rfl k
theorem sX1_carryOut_367 {E : zE} {d : Nat} {Q : zO → zM → Prop} (M : zM) (s0 : Int32) (hw : cw M) (k : Z E YX1_write d M (zargs 0 [vr (some (16, 0, 0)), vi s0]) 0 [] (zafter E YX1_carryOut (d + 1) [(0, vr (some (16, 0, 0)))] 367 3 [] Q)) : Z E YX1_carryOut (d + 1) M [(0, vr (some (16, 0, 0)))] 367 [vi s0, vr (some (16, 0, 0))] Q := by
  exact z_callV (as := [vi s0]) (st := []) dX1_carryOut_367 vsX1_11_0 (Nat.le_refl _) (Nat.le_of_ble_eq_true rfl) (Nat.le_of_ble_eq_true rfl) rfl k
theorem sX1_carryOut_370 {E : zE} {d : Nat} {Q : zO → zM → Prop} (M : zM)  (hw : cw M) (k : Z E YX1_string d M (zargs 0 [vr (some (16, 0, 0))]) 0 [] (zafter E YX1_carryOut (d + 1) [] 374 3 [vi (6 : Int32), vr (some (16, 0, 0))] Q)) : Z E YX1_carryOut (d + 1) M [(0, vr (some (16, 0, 0)))] 370 [] Q := by
  refine z_aload_n dX1_carryOut_370 rfl rfl ?_
  refine z_bipush (v := 6) dX1_carryOut_371 rfl ?_
  refine z_aload_n dX1_carryOut_373 rfl rfl ?_
  refine Z.pick [] rfl ?_
  exact z_callV (as := []) (st := [vi (6 : Int32), vr (some (16, 0, 0))]) dX1_carryOut_374 vsX1_386_0 (Nat.le_refl _) (Nat.le_of_ble_eq_true rfl) (Nat.le_of_ble_eq_true rfl) rfl k
theorem sX1_carryOut_377 {E : zE} {d : Nat} {Q : zO → zM → Prop} (M : zM) (s0 : Int32) (s1 : Int32) (hw : cw M) (k : Z E YX1_gives d M (zargs 0 [vr (some (16, 0, 0)), vi s1, vi s0]) 0 [] (zafter E YX1_carryOut (d + 1) [] 377 3 [] Q)) : Z E YX1_carryOut (d + 1) M [] 377 [vi s0, vi s1, vr (some (16, 0, 0))] Q := by
  exact z_callV (as := [vi s1, vi s0]) (st := []) dX1_carryOut_377 vsX1_395_0 (Nat.le_refl _) (Nat.le_of_ble_eq_true rfl) (Nat.le_of_ble_eq_true rfl) rfl k
theorem sX1_carryOut_380 {E : zE} {d : Nat} {Q : zO → zM → Prop} (M : zM)  (hw : cw M) (k : Z E YX1_carryOut (d + 1) M [] 429 [] Q) : Z E YX1_carryOut (d + 1) M [] 380 [] Q := by
  refine z_goto (tgt := 429) dX1_carryOut_380 rfl ?_
  exact k
theorem sX1_carryOut_397 {E : zE} {d : Nat} {Q : zO → zM → Prop} (M : zM) (l5 : Int32) (l6 : Int32) (l7 : Int32) (s0 : Int32) (hw : cw M) (k : if l5 ≤ 0 then (Z E YX1_carryOut (d + 1) M [(0, vr (some (16, 0, 0))), (8, vi s0)] 421 [] Q) else (Z E YX1_textOf d M (zargs 0 [vr (some (16, 0, 0)), vi l6, vi l7]) 0 [] (zafter E YX1_carryOut (d + 1) [(0, vr (some (16, 0, 0))), (8, vi s0)] 415 3 [vi (6 : Int32), vi (3 : Int32), vi s0, vr (some (16, 0, 0))] Q))) : Z E YX1_carryOut (d + 1) M [(0, vr (some (16, 0, 0))), (5, vi l5), (6, vi l6), (7, vi l7)] 397 [vi s0] Q := by
  refine z_ist dX1_carryOut_397 (by decide) (lv' := [(0, vr (some (16, 0, 0))), (5, vi l5), (6, vi l6), (7, vi l7), (8, vi s0)]) rfl ?_
  refine z_iload dX1_carryOut_399 rfl ?_
  refine z_if_le (tgt := 421) dX1_carryOut_401 rfl (fun h_ => ?_) (fun h_ => ?_)
  · have k := zit h_ k
    refine Z.pick [0, 4] rfl ?_
    exact k
  · have k := zif h_ k
    refine z_aload_n dX1_carryOut_404 rfl rfl ?_
    refine z_iload dX1_carryOut_405 rfl ?_
    refine z_iconst (v := 3) dX1_carryOut_407 rfl ?_
    refine z_bipush (v := 6) dX1_carryOut_408 rfl ?_
    refine z_aload_n dX1_carryOut_410 rfl rfl ?_
    refine z_iload dX1_carryOut_411 rfl ?_
    refine z_iload dX1_carryOut_413 rfl ?_
    refine Z.pick [0, 4] rfl ?_
    exact z_callV (as := [vi l6, vi l7]) (st := [vi (6 : Int32), vi (3 : Int32), vi s0, vr (some (16, 0, 0))]) dX1_carryOut_415 vsX1_541_0 (Nat.le_refl _) (Nat.le_of_ble_eq_true rfl) (Nat.le_of_ble_eq_true rfl) rfl k
theorem sX1_carryOut_418 {E : zE} {d : Nat} {Q : zO → zM → Prop} (M : zM) (l8 : Int32) (s0 : Int32) (s1 : Int32) (s2 : Int32) (s3 : Int32) (hw : cw M) (k : Z E YX1_setOwn d M (zargs 0 [vr (some (16, 0, 0)), vi s3, vi s2, vi s1, vi s0]) 0 [] (zafter E YX1_carryOut (d + 1) [(0, vr (some (16, 0, 0))), (8, vi l8)] 418 3 [] Q)) : Z E YX1_carryOut (d + 1) M [(0, vr (some (16, 0, 0))), (8, vi l8)] 418 [vi s0, vi s1, vi s2, vi s3, vr (some (16, 0, 0))] Q := by
  exact z_callV (as := [vi s3, vi s2, vi s1, vi s0]) (st := []) dX1_carryOut_418 vsX1_358_0 (Nat.le_refl _) (Nat.le_of_ble_eq_true rfl) (Nat.le_of_ble_eq_true rfl) rfl k
theorem sX1_carryOut_421 {E : zE} {d : Nat} {Q : zO → zM → Prop} (M : zM) (l8 : Int32) (hw : cw M) (k : Z E YX1_gives d M (zargs 0 [vr (some (16, 0, 0)), vi (7 : Int32), vi l8]) 0 [] (zafter E YX1_carryOut (d + 1) [] 426 3 [] Q)) : Z E YX1_carryOut (d + 1) M [(0, vr (some (16, 0, 0))), (8, vi l8)] 421 [] Q := by
  refine z_aload_n dX1_carryOut_421 rfl rfl ?_
  refine z_bipush (v := 7) dX1_carryOut_422 rfl ?_
  refine z_iload dX1_carryOut_424 rfl ?_
  refine Z.pick [] rfl ?_
  exact z_callV (as := [vi (7 : Int32), vi l8]) (st := []) dX1_carryOut_426 vsX1_395_0 (Nat.le_refl _) (Nat.le_of_ble_eq_true rfl) (Nat.le_of_ble_eq_true rfl) rfl k
theorem sX1_carryOut_429 {E : zE} {d : Nat} {Q : zO → zM → Prop} (M : zM)  (hw : cw M) (k : Q (.inl none) M) : Z E YX1_carryOut (d + 1) M [] 429 [] Q := by
  exact z_vret dX1_carryOut_429 rfl k
/-! ScriptTypes.pushed(IIII)V -/
theorem bX1_pushed_0 : zdec cX1_pushed 0 [(0, .aload_n 0, 1), (1, .iload_n 1, 1), (2, .iload_n 2, 1), (3, .invokevirtual 549, 3), (6, .ifCond .ne 9, 3), (9, .aload_n 0, 1), (10, .iconst 0, 1), (11, .invokevirtual 482, 3), (14, .athrow, 1), (15, .aload_n 0, 1), (16, .getfield 127, 3), (19, .aload_n 0, 1), (20, .iload_n 2, 1), (21, .iconst 0, 1), (22, .invokevirtual 346, 3), (25, .iaload, 1)] = true := by decide +kernel
theorem dX1_pushed_0 : decode cX1_pushed 0 = .ok (.aload_n 0, 1) := zdec_at bX1_pushed_0 0 rfl
theorem dX1_pushed_1 : decode cX1_pushed 1 = .ok (.iload_n 1, 1) := zdec_at bX1_pushed_0 1 rfl
theorem dX1_pushed_2 : decode cX1_pushed 2 = .ok (.iload_n 2, 1) := zdec_at bX1_pushed_0 2 rfl
theorem dX1_pushed_3 : decode cX1_pushed 3 = .ok (.invokevirtual 549, 3) := zdec_at bX1_pushed_0 3 rfl
theorem dX1_pushed_6 : decode cX1_pushed 6 = .ok (.ifCond .ne 9, 3) := zdec_at bX1_pushed_0 4 rfl
theorem dX1_pushed_9 : decode cX1_pushed 9 = .ok (.aload_n 0, 1) := zdec_at bX1_pushed_0 5 rfl
theorem dX1_pushed_10 : decode cX1_pushed 10 = .ok (.iconst 0, 1) := zdec_at bX1_pushed_0 6 rfl
theorem dX1_pushed_11 : decode cX1_pushed 11 = .ok (.invokevirtual 482, 3) := zdec_at bX1_pushed_0 7 rfl
theorem dX1_pushed_14 : decode cX1_pushed 14 = .ok (.athrow, 1) := zdec_at bX1_pushed_0 8 rfl
theorem dX1_pushed_15 : decode cX1_pushed 15 = .ok (.aload_n 0, 1) := zdec_at bX1_pushed_0 9 rfl
theorem dX1_pushed_16 : decode cX1_pushed 16 = .ok (.getfield 127, 3) := zdec_at bX1_pushed_0 10 rfl
theorem dX1_pushed_19 : decode cX1_pushed 19 = .ok (.aload_n 0, 1) := zdec_at bX1_pushed_0 11 rfl
theorem dX1_pushed_20 : decode cX1_pushed 20 = .ok (.iload_n 2, 1) := zdec_at bX1_pushed_0 12 rfl
theorem dX1_pushed_21 : decode cX1_pushed 21 = .ok (.iconst 0, 1) := zdec_at bX1_pushed_0 13 rfl
theorem dX1_pushed_22 : decode cX1_pushed 22 = .ok (.invokevirtual 346, 3) := zdec_at bX1_pushed_0 14 rfl
theorem dX1_pushed_25 : decode cX1_pushed 25 = .ok (.iaload, 1) := zdec_at bX1_pushed_0 15 rfl
theorem bX1_pushed_26 : zdec cX1_pushed 26 [(26, .istore 5, 2), (28, .aload_n 0, 1), (29, .iload_n 2, 1), (30, .aload_n 0, 1), (31, .iconst 5, 1), (32, .iload 5, 2), (34, .invokevirtual 541, 3), (37, .iload_n 3, 1), (38, .iload 4, 2), (40, .invokevirtual 358, 3), (43, .bipush 100, 2), (45, .iload 5, 2), (47, .iconst 1, 1), (48, .iadd, 1), (49, .invokestatic 369, 3), (52, .istore 5, 2)] = true := by decide +kernel
theorem dX1_pushed_26 : decode cX1_pushed 26 = .ok (.istore 5, 2) := zdec_at bX1_pushed_26 0 rfl
theorem dX1_pushed_28 : decode cX1_pushed 28 = .ok (.aload_n 0, 1) := zdec_at bX1_pushed_26 1 rfl
theorem dX1_pushed_29 : decode cX1_pushed 29 = .ok (.iload_n 2, 1) := zdec_at bX1_pushed_26 2 rfl
theorem dX1_pushed_30 : decode cX1_pushed 30 = .ok (.aload_n 0, 1) := zdec_at bX1_pushed_26 3 rfl
theorem dX1_pushed_31 : decode cX1_pushed 31 = .ok (.iconst 5, 1) := zdec_at bX1_pushed_26 4 rfl
theorem dX1_pushed_32 : decode cX1_pushed 32 = .ok (.iload 5, 2) := zdec_at bX1_pushed_26 5 rfl
theorem dX1_pushed_34 : decode cX1_pushed 34 = .ok (.invokevirtual 541, 3) := zdec_at bX1_pushed_26 6 rfl
theorem dX1_pushed_37 : decode cX1_pushed 37 = .ok (.iload_n 3, 1) := zdec_at bX1_pushed_26 7 rfl
theorem dX1_pushed_38 : decode cX1_pushed 38 = .ok (.iload 4, 2) := zdec_at bX1_pushed_26 8 rfl
theorem dX1_pushed_40 : decode cX1_pushed 40 = .ok (.invokevirtual 358, 3) := zdec_at bX1_pushed_26 9 rfl
theorem dX1_pushed_43 : decode cX1_pushed 43 = .ok (.bipush 100, 2) := zdec_at bX1_pushed_26 10 rfl
theorem dX1_pushed_45 : decode cX1_pushed 45 = .ok (.iload 5, 2) := zdec_at bX1_pushed_26 11 rfl
theorem dX1_pushed_47 : decode cX1_pushed 47 = .ok (.iconst 1, 1) := zdec_at bX1_pushed_26 12 rfl
theorem dX1_pushed_48 : decode cX1_pushed 48 = .ok (.iadd, 1) := zdec_at bX1_pushed_26 13 rfl
theorem dX1_pushed_49 : decode cX1_pushed 49 = .ok (.invokestatic 369, 3) := zdec_at bX1_pushed_26 14 rfl
theorem dX1_pushed_52 : decode cX1_pushed 52 = .ok (.istore 5, 2) := zdec_at bX1_pushed_26 15 rfl
theorem bX1_pushed_54 : zdec cX1_pushed 54 [(54, .aload_n 0, 1), (55, .getfield 127, 3), (58, .aload_n 0, 1), (59, .iload_n 2, 1), (60, .iconst 0, 1), (61, .invokevirtual 346, 3), (64, .iload 5, 2), (66, .iastore, 1), (67, .aload_n 0, 1), (68, .iconst 5, 1), (69, .iload 5, 2), (71, .invokevirtual 395, 3), (74, .return_, 1)] = true := by decide +kernel
theorem dX1_pushed_54 : decode cX1_pushed 54 = .ok (.aload_n 0, 1) := zdec_at bX1_pushed_54 0 rfl
theorem dX1_pushed_55 : decode cX1_pushed 55 = .ok (.getfield 127, 3) := zdec_at bX1_pushed_54 1 rfl
theorem dX1_pushed_58 : decode cX1_pushed 58 = .ok (.aload_n 0, 1) := zdec_at bX1_pushed_54 2 rfl
theorem dX1_pushed_59 : decode cX1_pushed 59 = .ok (.iload_n 2, 1) := zdec_at bX1_pushed_54 3 rfl
theorem dX1_pushed_60 : decode cX1_pushed 60 = .ok (.iconst 0, 1) := zdec_at bX1_pushed_54 4 rfl
theorem dX1_pushed_61 : decode cX1_pushed 61 = .ok (.invokevirtual 346, 3) := zdec_at bX1_pushed_54 5 rfl
theorem dX1_pushed_64 : decode cX1_pushed 64 = .ok (.iload 5, 2) := zdec_at bX1_pushed_54 6 rfl
theorem dX1_pushed_66 : decode cX1_pushed 66 = .ok (.iastore, 1) := zdec_at bX1_pushed_54 7 rfl
theorem dX1_pushed_67 : decode cX1_pushed 67 = .ok (.aload_n 0, 1) := zdec_at bX1_pushed_54 8 rfl
theorem dX1_pushed_68 : decode cX1_pushed 68 = .ok (.iconst 5, 1) := zdec_at bX1_pushed_54 9 rfl
theorem dX1_pushed_69 : decode cX1_pushed 69 = .ok (.iload 5, 2) := zdec_at bX1_pushed_54 10 rfl
theorem dX1_pushed_71 : decode cX1_pushed 71 = .ok (.invokevirtual 395, 3) := zdec_at bX1_pushed_54 11 rfl
theorem dX1_pushed_74 : decode cX1_pushed 74 = .ok (.return_, 1) := zdec_at bX1_pushed_54 12 rfl
theorem sX1_pushed_0 {E : zE} {d : Nat} {Q : zO → zM → Prop} (M : zM) (l1 : Int32) (l2 : Int32) (l3 : Int32) (l4 : Int32) (hw : cw M) (k : Z E YX1_isArray d M (zargs 0 [vr (some (16, 0, 0)), vi l1, vi l2]) 0 [] (zafter E YX1_pushed (d + 1) [(0, vr (some (16, 0, 0))), (2, vi l2), (3, vi l3), (4, vi l4)] 3 3 [] Q)) : Z E YX1_pushed (d + 1) M [(0, vr (some (16, 0, 0))), (1, vi l1), (2, vi l2), (3, vi l3), (4, vi l4)] 0 [] Q := by
  refine z_aload_n dX1_pushed_0 rfl rfl ?_
  refine z_iload_n dX1_pushed_1 rfl rfl ?_
  refine z_iload_n dX1_pushed_2 rfl rfl ?_
  refine Z.pick [0, 2, 3, 4] rfl ?_
  exact z_callV (as := [vi l1, vi l2]) (st := []) dX1_pushed_3 vsX1_549_0 (Nat.le_refl _) (Nat.le_of_ble_eq_true rfl) (Nat.le_of_ble_eq_true rfl) rfl k
theorem sX1_pushed_6 {E : zE} {d : Nat} {Q : zO → zM → Prop} (M : zM) (l2 : Int32) (l3 : Int32) (l4 : Int32) (s0 : Int32) (hw : cw M) (k : if s0 = 0 then (Z E YX1_error d M (zargs 0 [vr (some (16, 0, 0)), vi (0 : Int32)]) 0 [] (zafter E YX1_pushed (d + 1) [] 11 3 [] Q)) else (Z E YX1_own d M (zargs 0 [vr (some (16, 0, 0)), vi l2, vi (0 : Int32)]) 0 [] (zafter E YX1_pushed (d + 1) [(0, vr (some (16, 0, 0))), (2, vi l2), (3, vi l3), (4, vi l4)] 22 3 [vr (some (49, 100, 3000))] Q))) : Z E YX1_pushed (d + 1) M [(0, vr (some (16, 0, 0))), (2, vi l2), (3, vi l3), (4, vi l4)] 6 [vi s0] Q := by
  refine z_if_ne (tgt := 15) dX1_pushed_6 rfl (fun h_ => ?_) (fun h_ => ?_)
  · have k := zif h_ k
    refine z_aload_n dX1_pushed_15 rfl rfl ?_
    refine z_getr dX1_pushed_16 fsX1_127_0 (show gr M 16 24 = some (49, 100, 3000) from cw_at hw 17 rfl) ?_
    refine z_aload_n dX1_pushed_19 rfl rfl ?_
    refine z_iload_n dX1_pushed_20 rfl rfl ?_
    refine z_iconst (v := 0) dX1_pushed_21 rfl ?_
    exact z_callV (as := [vi l2, vi (0 : Int32)]) (st := [vr (some (49, 100, 3000))]) dX1_pushed_22 vsX1_346_0 (Nat.le_refl _) (Nat.le_of_ble_eq_true rfl) (Nat.le_of_ble_eq_true rfl) rfl k
  · have k := zit h_ k
    refine z_aload_n dX1_pushed_9 rfl rfl ?_
    refine z_iconst (v := 0) dX1_pushed_10 rfl ?_
    refine Z.pick [] rfl ?_
    exact z_callV (as := [vi (0 : Int32)]) (st := []) dX1_pushed_11 vsX1_482_0 (Nat.le_refl _) (Nat.le_of_ble_eq_true rfl) (Nat.le_of_ble_eq_true rfl) rfl k
theorem sX1_pushed_14 {E : zE} {d : Nat} {Q : zO → zM → Prop} (M : zM) (u0 : Option zP) (hw : cw M) (k : ∃ b1 : Nat, u0 = some (b1, 14, 0) ∧ (Q (.inr (b1, 14, 0)) M)) : Z E YX1_pushed (d + 1) M [] 14 [vr u0] Q := by
  obtain ⟨b1, e1_, k⟩ := k
  refine Z.eqs (lv' := []) (st' := [vr (some (b1, 14, 0))]) rfl (by rw [e1_] <;> rfl) ?_
  exact z_athrow dX1_pushed_14 (ZT.out (by decide) k)
theorem sX1_pushed_25 {E : zE} {d : Nat} {Q : zO → zM → Prop} (M : zM) (l2 : Int32) (l3 : Int32) (l4 : Int32) (s0 : Int32) (hw : cw M) (k : vp_in s0 3000 ∧ (Z E YX1_textOf d M (zargs 0 [vr (some (16, 0, 0)), vi (5 : Int32), vi (gi M 49 (s0).toNatClampNeg)]) 0 [] (zafter E YX1_pushed (d + 1) [(0, vr (some (16, 0, 0))), (2, vi l2), (3, vi l3), (4, vi l4), (5, vi (gi M 49 (s0).toNatClampNeg))] 34 3 [vi l2, vr (some (16, 0, 0))] Q))) : Z E YX1_pushed (d + 1) M [(0, vr (some (16, 0, 0))), (2, vi l2), (3, vi l3), (4, vi l4)] 25 [vi s0, vr (some (49, 100, 3000))] Q := by
  obtain ⟨b_, k⟩ := k
  refine z_iald dX1_pushed_25 b_ ?_
  refine z_ist dX1_pushed_26 (by decide) (lv' := [(0, vr (some (16, 0, 0))), (2, vi l2), (3, vi l3), (4, vi l4), (5, vi (gi M 49 (s0).toNatClampNeg))]) rfl ?_
  refine z_aload_n dX1_pushed_28 rfl rfl ?_
  refine z_iload_n dX1_pushed_29 rfl rfl ?_
  refine z_aload_n dX1_pushed_30 rfl rfl ?_
  refine z_iconst (v := 5) dX1_pushed_31 rfl ?_
  refine z_iload dX1_pushed_32 rfl ?_
  exact z_callV (as := [vi (5 : Int32), vi (gi M 49 (s0).toNatClampNeg)]) (st := [vi l2, vr (some (16, 0, 0))]) dX1_pushed_34 vsX1_541_0 (Nat.le_refl _) (Nat.le_of_ble_eq_true rfl) (Nat.le_of_ble_eq_true rfl) rfl k
theorem sX1_pushed_37 {E : zE} {d : Nat} {Q : zO → zM → Prop} (M : zM) (l2 : Int32) (l3 : Int32) (l4 : Int32) (l5 : Int32) (s0 : Int32) (s1 : Int32) (hw : cw M) (k : Z E YX1_setOwn d M (zargs 0 [vr (some (16, 0, 0)), vi s1, vi s0, vi l3, vi l4]) 0 [] (zafter E YX1_pushed (d + 1) [(0, vr (some (16, 0, 0))), (2, vi l2), (5, vi l5)] 40 3 [] Q)) : Z E YX1_pushed (d + 1) M [(0, vr (some (16, 0, 0))), (2, vi l2), (3, vi l3), (4, vi l4), (5, vi l5)] 37 [vi s0, vi s1, vr (some (16, 0, 0))] Q := by
  refine z_iload_n dX1_pushed_37 rfl rfl ?_
  refine z_iload dX1_pushed_38 rfl ?_
  refine Z.pick [0, 1, 4] rfl ?_
  exact z_callV (as := [vi s1, vi s0, vi l3, vi l4]) (st := []) dX1_pushed_40 vsX1_358_0 (Nat.le_refl _) (Nat.le_of_ble_eq_true rfl) (Nat.le_of_ble_eq_true rfl) rfl k
theorem sX1_pushed_43 {E : zE} {d : Nat} {Q : zO → zM → Prop} (M : zM) (l2 : Int32) (l5 : Int32) (hw : cw M) (k : Z E YJ11_min d M (zargs 0 [vi (100 : Int32), vi (l5 + (1 : Int32))]) 0 [] (zafter E YX1_pushed (d + 1) [(0, vr (some (16, 0, 0))), (2, vi l2)] 49 3 [] Q)) : Z E YX1_pushed (d + 1) M [(0, vr (some (16, 0, 0))), (2, vi l2), (5, vi l5)] 43 [] Q := by
  refine z_bipush (v := 100) dX1_pushed_43 rfl ?_
  refine z_iload dX1_pushed_45 rfl ?_
  refine z_iconst (v := 1) dX1_pushed_47 rfl ?_
  refine z_iadd dX1_pushed_48 ?_
  refine Z.pick [0, 1] rfl ?_
  exact z_callS (as := [vi (100 : Int32), vi (l5 + (1 : Int32))]) (st := []) dX1_pushed_49 ssX1_369 (Nat.le_refl _) (Nat.le_of_ble_eq_true rfl) (Nat.le_of_ble_eq_true rfl) rfl k
theorem sX1_pushed_52 {E : zE} {d : Nat} {Q : zO → zM → Prop} (M : zM) (l2 : Int32) (s0 : Int32) (hw : cw M) (k : Z E YX1_own d M (zargs 0 [vr (some (16, 0, 0)), vi l2, vi (0 : Int32)]) 0 [] (zafter E YX1_pushed (d + 1) [(0, vr (some (16, 0, 0))), (5, vi s0)] 61 3 [vr (some (49, 100, 3000))] Q)) : Z E YX1_pushed (d + 1) M [(0, vr (some (16, 0, 0))), (2, vi l2)] 52 [vi s0] Q := by
  refine z_ist dX1_pushed_52 (by decide) (lv' := [(0, vr (some (16, 0, 0))), (2, vi l2), (5, vi s0)]) rfl ?_
  refine z_aload_n dX1_pushed_54 rfl rfl ?_
  refine z_getr dX1_pushed_55 fsX1_127_0 (show gr M 16 24 = some (49, 100, 3000) from cw_at hw 17 rfl) ?_
  refine z_aload_n dX1_pushed_58 rfl rfl ?_
  refine z_iload_n dX1_pushed_59 rfl rfl ?_
  refine z_iconst (v := 0) dX1_pushed_60 rfl ?_
  refine Z.pick [0, 2] rfl ?_
  exact z_callV (as := [vi l2, vi (0 : Int32)]) (st := [vr (some (49, 100, 3000))]) dX1_pushed_61 vsX1_346_0 (Nat.le_refl _) (Nat.le_of_ble_eq_true rfl) (Nat.le_of_ble_eq_true rfl) rfl k
theorem sX1_pushed_64 {E : zE} {d : Nat} {Q : zO → zM → Prop} (M : zM) (l5 : Int32) (s0 : Int32) (hw : cw M) (k : vp_in s0 3000 ∧ (Z E YX1_gives d (si M 49 (s0).toNatClampNeg l5) (zargs 0 [vr (some (16, 0, 0)), vi (5 : Int32), vi l5]) 0 [] (zafter E YX1_pushed (d + 1) [] 71 3 [] Q))) : Z E YX1_pushed (d + 1) M [(0, vr (some (16, 0, 0))), (5, vi l5)] 64 [vi s0, vr (some (49, 100, 3000))] Q := by
  refine z_iload dX1_pushed_64 rfl ?_
  obtain ⟨b_, k⟩ := k
  refine z_iast (by decide) dX1_pushed_66 b_ ?_
  refine z_aload_n dX1_pushed_67 rfl rfl ?_
  refine z_iconst (v := 5) dX1_pushed_68 rfl ?_
  refine z_iload dX1_pushed_69 rfl ?_
  refine Z.pick [] rfl ?_
  exact z_callV (as := [vi (5 : Int32), vi l5]) (st := []) dX1_pushed_71 vsX1_395_0 (Nat.le_refl _) (Nat.le_of_ble_eq_true rfl) (Nat.le_of_ble_eq_true rfl) rfl k
theorem sX1_pushed_74 {E : zE} {d : Nat} {Q : zO → zM → Prop} (M : zM)  (hw : cw M) (k : Q (.inl none) M) : Z E YX1_pushed (d + 1) M [] 74 [] Q := by
  exact z_vret dX1_pushed_74 rfl k
/-! ScriptTypes.popped(II)V -/
theorem bX1_popped_0 : zdec cX1_popped 0 [(0, .aload_n 0, 1), (1, .iload_n 1, 1), (2, .iload_n 2, 1), (3, .invokevirtual 549, 3), (6, .ifCond .ne 9, 3), (9, .aload_n 0, 1), (10, .iconst 0, 1), (11, .invokevirtual 482, 3), (14, .athrow, 1), (15, .aload_n 0, 1), (16, .iload_n 2, 1), (17, .iconst 0, 1), (18, .invokevirtual 346, 3), (21, .istore_n 3, 1), (22, .aload_n 0, 1), (23, .getfield 127, 3)] = true := by decide +kernel
theorem dX1_popped_0 : decode cX1_popped 0 = .ok (.aload_n 0, 1) := zdec_at bX1_popped_0 0 rfl
theorem dX1_popped_1 : decode cX1_popped 1 = .ok (.iload_n 1, 1) := zdec_at bX1_popped_0 1 rfl
theorem dX1_popped_2 : decode cX1_popped 2 = .ok (.iload_n 2, 1) := zdec_at bX1_popped_0 2 rfl
theorem dX1_popped_3 : decode cX1_popped 3 = .ok (.invokevirtual 549, 3) := zdec_at bX1_popped_0 3 rfl
theorem dX1_popped_6 : decode cX1_popped 6 = .ok (.ifCond .ne 9, 3) := zdec_at bX1_popped_0 4 rfl
theorem dX1_popped_9 : decode cX1_popped 9 = .ok (.aload_n 0, 1) := zdec_at bX1_popped_0 5 rfl
theorem dX1_popped_10 : decode cX1_popped 10 = .ok (.iconst 0, 1) := zdec_at bX1_popped_0 6 rfl
theorem dX1_popped_11 : decode cX1_popped 11 = .ok (.invokevirtual 482, 3) := zdec_at bX1_popped_0 7 rfl
theorem dX1_popped_14 : decode cX1_popped 14 = .ok (.athrow, 1) := zdec_at bX1_popped_0 8 rfl
theorem dX1_popped_15 : decode cX1_popped 15 = .ok (.aload_n 0, 1) := zdec_at bX1_popped_0 9 rfl
theorem dX1_popped_16 : decode cX1_popped 16 = .ok (.iload_n 2, 1) := zdec_at bX1_popped_0 10 rfl
theorem dX1_popped_17 : decode cX1_popped 17 = .ok (.iconst 0, 1) := zdec_at bX1_popped_0 11 rfl
theorem dX1_popped_18 : decode cX1_popped 18 = .ok (.invokevirtual 346, 3) := zdec_at bX1_popped_0 12 rfl
theorem dX1_popped_21 : decode cX1_popped 21 = .ok (.istore_n 3, 1) := zdec_at bX1_popped_0 13 rfl
theorem dX1_popped_22 : decode cX1_popped 22 = .ok (.aload_n 0, 1) := zdec_at bX1_popped_0 14 rfl
theorem dX1_popped_23 : decode cX1_popped 23 = .ok (.getfield 127, 3) := zdec_at bX1_popped_0 15 rfl
theorem bX1_popped_26 : zdec cX1_popped 26 [(26, .iload_n 3, 1), (27, .iaload, 1), (28, .istore 4, 2), (30, .iload 4, 2), (32, .ifCond .ne 10, 3), (35, .aload_n 0, 1), (36, .iconst 0, 1), (37, .iconst 0, 1), (38, .invokevirtual 395, 3), (41, .return_, 1), (42, .aload_n 0, 1), (43, .iconst 5, 1), (44, .iload 4, 2), (46, .iconst 1, 1), (47, .isub, 1), (48, .invokevirtual 541, 3)] = true := by decide +kernel
theorem dX1_popped_26 : decode cX1_popped 26 = .ok (.iload_n 3, 1) := zdec_at bX1_popped_26 0 rfl
theorem dX1_popped_27 : decode cX1_popped 27 = .ok (.iaload, 1) := zdec_at bX1_popped_26 1 rfl
theorem dX1_popped_28 : decode cX1_popped 28 = .ok (.istore 4, 2) := zdec_at bX1_popped_26 2 rfl
theorem dX1_popped_30 : decode cX1_popped 30 = .ok (.iload 4, 2) := zdec_at bX1_popped_26 3 rfl
theorem dX1_popped_32 : decode cX1_popped 32 = .ok (.ifCond .ne 10, 3) := zdec_at bX1_popped_26 4 rfl
theorem dX1_popped_35 : decode cX1_popped 35 = .ok (.aload_n 0, 1) := zdec_at bX1_popped_26 5 rfl
theorem dX1_popped_36 : decode cX1_popped 36 = .ok (.iconst 0, 1) := zdec_at bX1_popped_26 6 rfl
theorem dX1_popped_37 : decode cX1_popped 37 = .ok (.iconst 0, 1) := zdec_at bX1_popped_26 7 rfl
theorem dX1_popped_38 : decode cX1_popped 38 = .ok (.invokevirtual 395, 3) := zdec_at bX1_popped_26 8 rfl
theorem dX1_popped_41 : decode cX1_popped 41 = .ok (.return_, 1) := zdec_at bX1_popped_26 9 rfl
theorem dX1_popped_42 : decode cX1_popped 42 = .ok (.aload_n 0, 1) := zdec_at bX1_popped_26 10 rfl
theorem dX1_popped_43 : decode cX1_popped 43 = .ok (.iconst 5, 1) := zdec_at bX1_popped_26 11 rfl
theorem dX1_popped_44 : decode cX1_popped 44 = .ok (.iload 4, 2) := zdec_at bX1_popped_26 12 rfl
theorem dX1_popped_46 : decode cX1_popped 46 = .ok (.iconst 1, 1) := zdec_at bX1_popped_26 13 rfl
theorem dX1_popped_47 : decode cX1_popped 47 = .ok (.isub, 1) := zdec_at bX1_popped_26 14 rfl
theorem dX1_popped_48 : decode cX1_popped 48 = .ok (.invokevirtual 541, 3) := zdec_at bX1_popped_26 15 rfl
theorem bX1_popped_51 : zdec cX1_popped 51 [(51, .istore 5, 2), (53, .aload_n 0, 1), (54, .aload_n 0, 1), (55, .iload_n 2, 1), (56, .iload 5, 2), (58, .invokevirtual 346, 3), (61, .invokevirtual 546, 3), (64, .aload_n 0, 1), (65, .iload_n 2, 1), (66, .iload 5, 2), (68, .invokevirtual 555, 3), (71, .aload_n 0, 1), (72, .getfield 127, 3), (75, .iload_n 3, 1), (76, .iload 4, 2), (78, .iconst 1, 1)] = true := by decide +kernel
theorem dX1_popped_51 : decode cX1_popped 51 = .ok (.istore 5, 2) := zdec_at bX1_popped_51 0 rfl
theorem dX1_popped_53 : decode cX1_popped 53 = .ok (.aload_n 0, 1) := zdec_at bX1_popped_51 1 rfl
theorem dX1_popped_54 : decode cX1_popped 54 = .ok (.aload_n 0, 1) := zdec_at bX1_popped_51 2 rfl
theorem dX1_popped_55 : decode cX1_popped 55 = .ok (.iload_n 2, 1) := zdec_at bX1_popped_51 3 rfl
theorem dX1_popped_56 : decode cX1_popped 56 = .ok (.iload 5, 2) := zdec_at bX1_popped_51 4 rfl
theorem dX1_popped_58 : decode cX1_popped 58 = .ok (.invokevirtual 346, 3) := zdec_at bX1_popped_51 5 rfl
theorem dX1_popped_61 : decode cX1_popped 61 = .ok (.invokevirtual 546, 3) := zdec_at bX1_popped_51 6 rfl
theorem dX1_popped_64 : decode cX1_popped 64 = .ok (.aload_n 0, 1) := zdec_at bX1_popped_51 7 rfl
theorem dX1_popped_65 : decode cX1_popped 65 = .ok (.iload_n 2, 1) := zdec_at bX1_popped_51 8 rfl
theorem dX1_popped_66 : decode cX1_popped 66 = .ok (.iload 5, 2) := zdec_at bX1_popped_51 9 rfl
theorem dX1_popped_68 : decode cX1_popped 68 = .ok (.invokevirtual 555, 3) := zdec_at bX1_popped_51 10 rfl
theorem dX1_popped_71 : decode cX1_popped 71 = .ok (.aload_n 0, 1) := zdec_at bX1_popped_51 11 rfl
theorem dX1_popped_72 : decode cX1_popped 72 = .ok (.getfield 127, 3) := zdec_at bX1_popped_51 12 rfl
theorem dX1_popped_75 : decode cX1_popped 75 = .ok (.iload_n 3, 1) := zdec_at bX1_popped_51 13 rfl
theorem dX1_popped_76 : decode cX1_popped 76 = .ok (.iload 4, 2) := zdec_at bX1_popped_51 14 rfl
theorem dX1_popped_78 : decode cX1_popped 78 = .ok (.iconst 1, 1) := zdec_at bX1_popped_51 15 rfl
theorem bX1_popped_79 : zdec cX1_popped 79 [(79, .isub, 1), (80, .iastore, 1), (81, .return_, 1)] = true := by decide +kernel
theorem dX1_popped_79 : decode cX1_popped 79 = .ok (.isub, 1) := zdec_at bX1_popped_79 0 rfl
theorem dX1_popped_80 : decode cX1_popped 80 = .ok (.iastore, 1) := zdec_at bX1_popped_79 1 rfl
theorem dX1_popped_81 : decode cX1_popped 81 = .ok (.return_, 1) := zdec_at bX1_popped_79 2 rfl
theorem sX1_popped_0 {E : zE} {d : Nat} {Q : zO → zM → Prop} (M : zM) (l1 : Int32) (l2 : Int32) (hw : cw M) (k : Z E YX1_isArray d M (zargs 0 [vr (some (16, 0, 0)), vi l1, vi l2]) 0 [] (zafter E YX1_popped (d + 1) [(0, vr (some (16, 0, 0))), (2, vi l2)] 3 3 [] Q)) : Z E YX1_popped (d + 1) M [(0, vr (some (16, 0, 0))), (1, vi l1), (2, vi l2)] 0 [] Q := by
  refine z_aload_n dX1_popped_0 rfl rfl ?_
  refine z_iload_n dX1_popped_1 rfl rfl ?_
  refine z_iload_n dX1_popped_2 rfl rfl ?_
  refine Z.pick [0, 2] rfl ?_
  exact z_callV (as := [vi l1, vi l2]) (st := []) dX1_popped_3 vsX1_549_0 (Nat.le_refl _) (Nat.le_of_ble_eq_true rfl) (Nat.le_of_ble_eq_true rfl) rfl k
theorem sX1_popped_6 {E : zE} {d : Nat} {Q : zO → zM → Prop} (M : zM) (l2 : Int32) (s0 : Int32) (hw : cw M) (k : if s0 = 0 then (Z E YX1_error d M (zargs 0 [vr (some (16, 0, 0)), vi (0 : Int32)]) 0 [] (zafter E YX1_popped (d + 1) [] 11 3 [] Q)) else (Z E YX1_own d M (zargs 0 [vr (some (16, 0, 0)), vi l2, vi (0 : Int32)]) 0 [] (zafter E YX1_popped (d + 1) [(0, vr (some (16, 0, 0))), (2, vi l2)] 18 3 [] Q))) : Z E YX1_popped (d + 1) M [(0, vr (some (16, 0, 0))), (2, vi l2)] 6 [vi s0] Q := by
  refine z_if_ne (tgt := 15) dX1_popped_6 rfl (fun h_ => ?_) (fun h_ => ?_)
  · have k := zif h_ k
    refine z_aload_n dX1_popped_15 rfl rfl ?_
    refine z_iload_n dX1_popped_16 rfl rfl ?_
    refine z_iconst (v := 0) dX1_popped_17 rfl ?_
    exact z_callV (as := [vi l2, vi (0 : Int32)]) (st := []) dX1_popped_18 vsX1_346_0 (Nat.le_refl _) (Nat.le_of_ble_eq_true rfl) (Nat.le_of_ble_eq_true rfl) rfl k
  · have k := zit h_ k
    refine z_aload_n dX1_popped_9 rfl rfl ?_
    refine z_iconst (v := 0) dX1_popped_10 rfl ?_
    refine Z.pick [] rfl ?_
    exact z_callV (as := [vi (0 : Int32)]) (st := []) dX1_popped_11 vsX1_482_0 (Nat.le_refl _) (Nat.le_of_ble_eq_true rfl) (Nat.le_of_ble_eq_true rfl) rfl k
theorem sX1_popped_14 {E : zE} {d : Nat} {Q : zO → zM → Prop} (M : zM) (u0 : Option zP) (hw : cw M) (k : ∃ b1 : Nat, u0 = some (b1, 14, 0) ∧ (Q (.inr (b1, 14, 0)) M)) : Z E YX1_popped (d + 1) M [] 14 [vr u0] Q := by
  obtain ⟨b1, e1_, k⟩ := k
  refine Z.eqs (lv' := []) (st' := [vr (some (b1, 14, 0))]) rfl (by rw [e1_] <;> rfl) ?_
  exact z_athrow dX1_popped_14 (ZT.out (by decide) k)
theorem sX1_popped_21 {E : zE} {d : Nat} {Q : zO → zM → Prop} (M : zM) (l2 : Int32) (s0 : Int32) (hw : cw M) (k : vp_in s0 3000 ∧ (if (gi M 49 (s0).toNatClampNeg) = 0 then (Z E YX1_gives d M (zargs 0 [vr (some (16, 0, 0)), vi (0 : Int32), vi (0 : Int32)]) 0 [] (zafter E YX1_popped (d + 1) [] 38 3 [] Q)) else (Z E YX1_textOf d M (zargs 0 [vr (some (16, 0, 0)), vi (5 : Int32), vi ((gi M 49 (s0).toNatClampNeg) - (1 : Int32))]) 0 [] (zafter E YX1_popped (d + 1) [(0, vr (some (16, 0, 0))), (2, vi l2), (3, vi s0), (4, vi (gi M 49 (s0).toNatClampNeg))] 48 3 [] Q)))) : Z E YX1_popped (d + 1) M [(0, vr (some (16, 0, 0))), (2, vi l2)] 21 [vi s0] Q := by
  refine z_ist_n dX1_popped_21 rfl (by decide) (lv' := [(0, vr (some (16, 0, 0))), (2, vi l2), (3, vi s0)]) rfl ?_
  refine z_aload_n dX1_popped_22 rfl rfl ?_
  refine z_getr dX1_popped_23 fsX1_127_0 (show gr M 16 24 = some (49, 100, 3000) from cw_at hw 17 rfl) ?_
  refine z_iload_n dX1_popped_26 rfl rfl ?_
  obtain ⟨b_, k⟩ := k
  refine z_iald dX1_popped_27 b_ ?_
  refine z_ist dX1_popped_28 (by decide) (lv' := [(0, vr (some (16, 0, 0))), (2, vi l2), (3, vi s0), (4, vi (gi M 49 (s0).toNatClampNeg))]) rfl ?_
  refine z_iload dX1_popped_30 rfl ?_
  refine z_if_ne (tgt := 42) dX1_popped_32 rfl (fun h_ => ?_) (fun h_ => ?_)
  · have k := zif h_ k
    refine z_aload_n dX1_popped_42 rfl rfl ?_
    refine z_iconst (v := 5) dX1_popped_43 rfl ?_
    refine z_iload dX1_popped_44 rfl ?_
    refine z_iconst (v := 1) dX1_popped_46 rfl ?_
    refine z_isub dX1_popped_47 ?_
    exact z_callV (as := [vi (5 : Int32), vi ((gi M 49 (s0).toNatClampNeg) - (1 : Int32))]) (st := []) dX1_popped_48 vsX1_541_0 (Nat.le_refl _) (Nat.le_of_ble_eq_true rfl) (Nat.le_of_ble_eq_true rfl) rfl k
  · have k := zit h_ k
    refine z_aload_n dX1_popped_35 rfl rfl ?_
    refine z_iconst (v := 0) dX1_popped_36 rfl ?_
    refine z_iconst (v := 0) dX1_popped_37 rfl ?_
    refine Z.pick [] rfl ?_
    exact z_callV (as := [vi (0 : Int32), vi (0 : Int32)]) (st := []) dX1_popped_38 vsX1_395_0 (Nat.le_refl _) (Nat.le_of_ble_eq_true rfl) (Nat.le_of_ble_eq_true rfl) rfl k
theorem sX1_popped_41 {E : zE} {d : Nat} {Q : zO → zM → Prop} (M : zM)  (hw : cw M) (k : Q (.inl none) M) : Z E YX1_popped (d + 1) M [] 41 [] Q := by
  exact z_vret dX1_popped_41 rfl k
theorem sX1_popped_51 {E : zE} {d : Nat} {Q : zO → zM → Prop} (M : zM) (l2 : Int32) (l3 : Int32) (l4 : Int32) (s0 : Int32) (hw : cw M) (k : Z E YX1_own d M (zargs 0 [vr (some (16, 0, 0)), vi l2, vi s0]) 0 [] (zafter E YX1_popped (d + 1) [(0, vr (some (16, 0, 0))), (2, vi l2), (3, vi l3), (4, vi l4), (5, vi s0)] 58 3 [vr (some (16, 0, 0))] Q)) : Z E YX1_popped (d + 1) M [(0, vr (some (16, 0, 0))), (2, vi l2), (3, vi l3), (4, vi l4)] 51 [vi s0] Q := by
  refine z_ist dX1_popped_51 (by decide) (lv' := [(0, vr (some (16, 0, 0))), (2, vi l2), (3, vi l3), (4, vi l4), (5, vi s0)]) rfl ?_
  refine z_aload_n dX1_popped_53 rfl rfl ?_
  refine z_aload_n dX1_popped_54 rfl rfl ?_
  refine z_iload_n dX1_popped_55 rfl rfl ?_
  refine z_iload dX1_popped_56 rfl ?_
  exact z_callV (as := [vi l2, vi s0]) (st := [vr (some (16, 0, 0))]) dX1_popped_58 vsX1_346_0 (Nat.le_refl _) (Nat.le_of_ble_eq_true rfl) (Nat.le_of_ble_eq_true rfl) rfl k
theorem sX1_popped_61 {E : zE} {d : Nat} {Q : zO → zM → Prop} (M : zM) (l2 : Int32) (l3 : Int32) (l4 : Int32) (l5 : Int32) (s0 : Int32) (hw : cw M) (k : Z E YX1_givesProperty d M (zargs 0 [vr (some (16, 0, 0)), vi s0]) 0 [] (zafter E YX1_popped (d + 1) [(0, vr (some (16, 0, 0))), (2, vi l2), (3, vi l3), (4, vi l4), (5, vi l5)] 61 3 [] Q)) : Z E YX1_popped (d + 1) M [(0, vr (some (16, 0, 0))), (2, vi l2), (3, vi l3), (4, vi l4), (5, vi l5)] 61 [vi s0, vr (some (16, 0, 0))] Q := by
  exact z_callV (as := [vi s0]) (st := []) dX1_popped_61 vsX1_546_0 (Nat.le_refl _) (Nat.le_of_ble_eq_true rfl) (Nat.le_of_ble_eq_true rfl) rfl k
theorem sX1_popped_64 {E : zE} {d : Nat} {Q : zO → zM → Prop} (M : zM) (l2 : Int32) (l3 : Int32) (l4 : Int32) (l5 : Int32) (hw : cw M) (k : Z E YX1_remove d M (zargs 0 [vr (some (16, 0, 0)), vi l2, vi l5]) 0 [] (zafter E YX1_popped (d + 1) [(0, vr (some (16, 0, 0))), (3, vi l3), (4, vi l4)] 68 3 [] Q)) : Z E YX1_popped (d + 1) M [(0, vr (some (16, 0, 0))), (2, vi l2), (3, vi l3), (4, vi l4), (5, vi l5)] 64 [] Q := by
  refine z_aload_n dX1_popped_64 rfl rfl ?_
  refine z_iload_n dX1_popped_65 rfl rfl ?_
  refine z_iload dX1_popped_66 rfl ?_
  refine Z.pick [0, 2, 3] rfl ?_
  exact z_callV (as := [vi l2, vi l5]) (st := []) dX1_popped_68 vsX1_555_0 (Nat.le_refl _) (Nat.le_of_ble_eq_true rfl) (Nat.le_of_ble_eq_true rfl) rfl k
theorem sX1_popped_71 {E : zE} {d : Nat} {Q : zO → zM → Prop} (M : zM) (l3 : Int32) (l4 : Int32) (hw : cw M) (k : vp_in l3 3000 ∧ (Q (.inl none) (si M 49 (l3).toNatClampNeg (l4 - (1 : Int32))))) : Z E YX1_popped (d + 1) M [(0, vr (some (16, 0, 0))), (3, vi l3), (4, vi l4)] 71 [] Q := by
  refine z_aload_n dX1_popped_71 rfl rfl ?_
  refine z_getr dX1_popped_72 fsX1_127_0 (show gr M 16 24 = some (49, 100, 3000) from cw_at hw 17 rfl) ?_
  refine z_iload_n dX1_popped_75 rfl rfl ?_
  refine z_iload dX1_popped_76 rfl ?_
  refine z_iconst (v := 1) dX1_popped_78 rfl ?_
  refine z_isub dX1_popped_79 ?_
  obtain ⟨b_, k⟩ := k
  refine z_iast (by decide) dX1_popped_80 b_ ?_
  exact z_vret dX1_popped_81 rfl k
/-! ScriptTypes.makeNew(II)V -/
theorem bX1_makeNew_0 : zdec cX1_makeNew 0 [(0, .aload_n 0, 1), (1, .getfield 440, 3), (4, .iload_n 1, 1), (5, .isub, 1), (6, .iconst 1, 1), (7, .isub, 1), (8, .istore_n 3, 1), (9, .aload_n 0, 1), (10, .aload_n 0, 1), (11, .getfield 148, 3), (14, .iload_n 3, 1), (15, .baload, 1), (16, .aload_n 0, 1), (17, .getfield 151, 3), (20, .iload_n 3, 1), (21, .iaload, 1)] = true := by decide +kernel
theorem dX1_makeNew_0 : decode cX1_makeNew 0 = .ok (.aload_n 0, 1) := zdec_at bX1_makeNew_0 0 rfl
theorem dX1_makeNew_1 : decode cX1_makeNew 1 = .ok (.getfield 440, 3) := zdec_at bX1_makeNew_0 1 rfl
theorem dX1_makeNew_4 : decode cX1_makeNew 4 = .ok (.iload_n 1, 1) := zdec_at bX1_makeNew_0 2 rfl
theorem dX1_makeNew_5 : decode cX1_makeNew 5 = .ok (.isub, 1) := zdec_at bX1_makeNew_0 3 rfl
theorem dX1_makeNew_6 : decode cX1_makeNew 6 = .ok (.iconst 1, 1) := zdec_at bX1_makeNew_0 4 rfl
theorem dX1_makeNew_7 : decode cX1_makeNew 7 = .ok (.isub, 1) := zdec_at bX1_makeNew_0 5 rfl
theorem dX1_makeNew_8 : decode cX1_makeNew 8 = .ok (.istore_n 3, 1) := zdec_at bX1_makeNew_0 6 rfl
theorem dX1_makeNew_9 : decode cX1_makeNew 9 = .ok (.aload_n 0, 1) := zdec_at bX1_makeNew_0 7 rfl
theorem dX1_makeNew_10 : decode cX1_makeNew 10 = .ok (.aload_n 0, 1) := zdec_at bX1_makeNew_0 8 rfl
theorem dX1_makeNew_11 : decode cX1_makeNew 11 = .ok (.getfield 148, 3) := zdec_at bX1_makeNew_0 9 rfl
theorem dX1_makeNew_14 : decode cX1_makeNew 14 = .ok (.iload_n 3, 1) := zdec_at bX1_makeNew_0 10 rfl
theorem dX1_makeNew_15 : decode cX1_makeNew 15 = .ok (.baload, 1) := zdec_at bX1_makeNew_0 11 rfl
theorem dX1_makeNew_16 : decode cX1_makeNew 16 = .ok (.aload_n 0, 1) := zdec_at bX1_makeNew_0 12 rfl
theorem dX1_makeNew_17 : decode cX1_makeNew 17 = .ok (.getfield 151, 3) := zdec_at bX1_makeNew_0 13 rfl
theorem dX1_makeNew_20 : decode cX1_makeNew 20 = .ok (.iload_n 3, 1) := zdec_at bX1_makeNew_0 14 rfl
theorem dX1_makeNew_21 : decode cX1_makeNew 21 = .ok (.iaload, 1) := zdec_at bX1_makeNew_0 15 rfl
theorem bX1_makeNew_22 : zdec cX1_makeNew 22 [(22, .invokevirtual 558, 3), (25, .ifCond .eq 12, 3), (28, .aload_n 0, 1), (29, .getfield 151, 3), (32, .iload_n 3, 1), (33, .iaload, 1), (34, .goto 4, 3), (37, .iconst (-1), 1), (38, .istore 4, 2), (40, .iload 4, 2), (42, .iconst (-1), 1), (43, .if_icmp .ne 7, 3), (46, .iconst 0, 1), (47, .goto 10, 3), (50, .aload_n 0, 1), (51, .getfield 96, 3)] = true := by decide +kernel
theorem dX1_makeNew_22 : decode cX1_makeNew 22 = .ok (.invokevirtual 558, 3) := zdec_at bX1_makeNew_22 0 rfl
theorem dX1_makeNew_25 : decode cX1_makeNew 25 = .ok (.ifCond .eq 12, 3) := zdec_at bX1_makeNew_22 1 rfl
theorem dX1_makeNew_28 : decode cX1_makeNew 28 = .ok (.aload_n 0, 1) := zdec_at bX1_makeNew_22 2 rfl
theorem dX1_makeNew_29 : decode cX1_makeNew 29 = .ok (.getfield 151, 3) := zdec_at bX1_makeNew_22 3 rfl
theorem dX1_makeNew_32 : decode cX1_makeNew 32 = .ok (.iload_n 3, 1) := zdec_at bX1_makeNew_22 4 rfl
theorem dX1_makeNew_33 : decode cX1_makeNew 33 = .ok (.iaload, 1) := zdec_at bX1_makeNew_22 5 rfl
theorem dX1_makeNew_34 : decode cX1_makeNew 34 = .ok (.goto 4, 3) := zdec_at bX1_makeNew_22 6 rfl
theorem dX1_makeNew_37 : decode cX1_makeNew 37 = .ok (.iconst (-1), 1) := zdec_at bX1_makeNew_22 7 rfl
theorem dX1_makeNew_38 : decode cX1_makeNew 38 = .ok (.istore 4, 2) := zdec_at bX1_makeNew_22 8 rfl
theorem dX1_makeNew_40 : decode cX1_makeNew 40 = .ok (.iload 4, 2) := zdec_at bX1_makeNew_22 9 rfl
theorem dX1_makeNew_42 : decode cX1_makeNew 42 = .ok (.iconst (-1), 1) := zdec_at bX1_makeNew_22 10 rfl
theorem dX1_makeNew_43 : decode cX1_makeNew 43 = .ok (.if_icmp .ne 7, 3) := zdec_at bX1_makeNew_22 11 rfl
theorem dX1_makeNew_46 : decode cX1_makeNew 46 = .ok (.iconst 0, 1) := zdec_at bX1_makeNew_22 12 rfl
theorem dX1_makeNew_47 : decode cX1_makeNew 47 = .ok (.goto 10, 3) := zdec_at bX1_makeNew_22 13 rfl
theorem dX1_makeNew_50 : decode cX1_makeNew 50 = .ok (.aload_n 0, 1) := zdec_at bX1_makeNew_22 14 rfl
theorem dX1_makeNew_51 : decode cX1_makeNew 51 = .ok (.getfield 96, 3) := zdec_at bX1_makeNew_22 15 rfl
theorem bX1_makeNew_54 : zdec cX1_makeNew 54 [(54, .iload 4, 2), (56, .baload, 1), (57, .istore 5, 2), (59, .iload 4, 2), (61, .iconst (-1), 1), (62, .if_icmp .eq 43, 3), (65, .iload 5, 2), (67, .ifCond .ge 44, 3), (70, .iload 5, 2), (72, .bipush (-10), 2), (74, .if_icmp .eq 37, 3), (77, .iload 5, 2), (79, .bipush (-11), 2), (81, .if_icmp .eq 30, 3), (84, .iload 5, 2), (86, .bipush (-12), 2)] = true := by decide +kernel
theorem dX1_makeNew_54 : decode cX1_makeNew 54 = .ok (.iload 4, 2) := zdec_at bX1_makeNew_54 0 rfl
theorem dX1_makeNew_56 : decode cX1_makeNew 56 = .ok (.baload, 1) := zdec_at bX1_makeNew_54 1 rfl
theorem dX1_makeNew_57 : decode cX1_makeNew 57 = .ok (.istore 5, 2) := zdec_at bX1_makeNew_54 2 rfl
theorem dX1_makeNew_59 : decode cX1_makeNew 59 = .ok (.iload 4, 2) := zdec_at bX1_makeNew_54 3 rfl
theorem dX1_makeNew_61 : decode cX1_makeNew 61 = .ok (.iconst (-1), 1) := zdec_at bX1_makeNew_54 4 rfl
theorem dX1_makeNew_62 : decode cX1_makeNew 62 = .ok (.if_icmp .eq 43, 3) := zdec_at bX1_makeNew_54 5 rfl
theorem dX1_makeNew_65 : decode cX1_makeNew 65 = .ok (.iload 5, 2) := zdec_at bX1_makeNew_54 6 rfl
theorem dX1_makeNew_67 : decode cX1_makeNew 67 = .ok (.ifCond .ge 44, 3) := zdec_at bX1_makeNew_54 7 rfl
theorem dX1_makeNew_70 : decode cX1_makeNew 70 = .ok (.iload 5, 2) := zdec_at bX1_makeNew_54 8 rfl
theorem dX1_makeNew_72 : decode cX1_makeNew 72 = .ok (.bipush (-10), 2) := zdec_at bX1_makeNew_54 9 rfl
theorem dX1_makeNew_74 : decode cX1_makeNew 74 = .ok (.if_icmp .eq 37, 3) := zdec_at bX1_makeNew_54 10 rfl
theorem dX1_makeNew_77 : decode cX1_makeNew 77 = .ok (.iload 5, 2) := zdec_at bX1_makeNew_54 11 rfl
theorem dX1_makeNew_79 : decode cX1_makeNew 79 = .ok (.bipush (-11), 2) := zdec_at bX1_makeNew_54 12 rfl
theorem dX1_makeNew_81 : decode cX1_makeNew 81 = .ok (.if_icmp .eq 30, 3) := zdec_at bX1_makeNew_54 13 rfl
theorem dX1_makeNew_84 : decode cX1_makeNew 84 = .ok (.iload 5, 2) := zdec_at bX1_makeNew_54 14 rfl
theorem dX1_makeNew_86 : decode cX1_makeNew 86 = .ok (.bipush (-12), 2) := zdec_at bX1_makeNew_54 15 rfl
theorem bX1_makeNew_88 : zdec cX1_makeNew 88 [(88, .if_icmp .eq 23, 3), (91, .iload 5, 2), (93, .bipush (-14), 2), (95, .if_icmp .gt 10, 3), (98, .iload 5, 2), (100, .bipush (-17), 2), (102, .if_icmp .ge 9, 3), (105, .aload_n 0, 1), (106, .iconst 0, 1), (107, .invokevirtual 482, 3), (110, .athrow, 1), (111, .iload 5, 2), (113, .ifCond .ge 34, 3), (116, .aload_n 0, 1), (117, .iload 5, 2), (119, .ineg, 1)] = true := by decide +kernel
theorem dX1_makeNew_88 : decode cX1_makeNew 88 = .ok (.if_icmp .eq 23, 3) := zdec_at bX1_makeNew_88 0 rfl
theorem dX1_makeNew_91 : decode cX1_makeNew 91 = .ok (.iload 5, 2) := zdec_at bX1_makeNew_88 1 rfl
theorem dX1_makeNew_93 : decode cX1_makeNew 93 = .ok (.bipush (-14), 2) := zdec_at bX1_makeNew_88 2 rfl
theorem dX1_makeNew_95 : decode cX1_makeNew 95 = .ok (.if_icmp .gt 10, 3) := zdec_at bX1_makeNew_88 3 rfl
theorem dX1_makeNew_98 : decode cX1_makeNew 98 = .ok (.iload 5, 2) := zdec_at bX1_makeNew_88 4 rfl
theorem dX1_makeNew_100 : decode cX1_makeNew 100 = .ok (.bipush (-17), 2) := zdec_at bX1_makeNew_88 5 rfl
theorem dX1_makeNew_102 : decode cX1_makeNew 102 = .ok (.if_icmp .ge 9, 3) := zdec_at bX1_makeNew_88 6 rfl
theorem dX1_makeNew_105 : decode cX1_makeNew 105 = .ok (.aload_n 0, 1) := zdec_at bX1_makeNew_88 7 rfl
theorem dX1_makeNew_106 : decode cX1_makeNew 106 = .ok (.iconst 0, 1) := zdec_at bX1_makeNew_88 8 rfl
theorem dX1_makeNew_107 : decode cX1_makeNew 107 = .ok (.invokevirtual 482, 3) := zdec_at bX1_makeNew_88 9 rfl
theorem dX1_makeNew_110 : decode cX1_makeNew 110 = .ok (.athrow, 1) := zdec_at bX1_makeNew_88 10 rfl
theorem dX1_makeNew_111 : decode cX1_makeNew 111 = .ok (.iload 5, 2) := zdec_at bX1_makeNew_88 11 rfl
theorem dX1_makeNew_113 : decode cX1_makeNew 113 = .ok (.ifCond .ge 34, 3) := zdec_at bX1_makeNew_88 12 rfl
theorem dX1_makeNew_116 : decode cX1_makeNew 116 = .ok (.aload_n 0, 1) := zdec_at bX1_makeNew_88 13 rfl
theorem dX1_makeNew_117 : decode cX1_makeNew 117 = .ok (.iload 5, 2) := zdec_at bX1_makeNew_88 14 rfl
theorem dX1_makeNew_119 : decode cX1_makeNew 119 = .ok (.ineg, 1) := zdec_at bX1_makeNew_88 15 rfl
theorem bX1_makeNew_120 : zdec cX1_makeNew 120 [(120, .iconst 0, 1), (121, .iconst 0, 1), (122, .iload_n 3, 1), (123, .iconst 1, 1), (124, .iadd, 1), (125, .iload_n 1, 1), (126, .invokevirtual 568, 3), (129, .aload_n 0, 1), (130, .iload_n 3, 1), (131, .putfield 440, 3), (134, .aload_n 0, 1), (135, .aload_n 0, 1), (136, .getfield 389, 3), (139, .aload_n 0, 1), (140, .getfield 392, 3), (143, .invokevirtual 476, 3)] = true := by decide +kernel
theorem dX1_makeNew_120 : decode cX1_makeNew 120 = .ok (.iconst 0, 1) := zdec_at bX1_makeNew_120 0 rfl
theorem dX1_makeNew_121 : decode cX1_makeNew 121 = .ok (.iconst 0, 1) := zdec_at bX1_makeNew_120 1 rfl
theorem dX1_makeNew_122 : decode cX1_makeNew 122 = .ok (.iload_n 3, 1) := zdec_at bX1_makeNew_120 2 rfl
theorem dX1_makeNew_123 : decode cX1_makeNew 123 = .ok (.iconst 1, 1) := zdec_at bX1_makeNew_120 3 rfl
theorem dX1_makeNew_124 : decode cX1_makeNew 124 = .ok (.iadd, 1) := zdec_at bX1_makeNew_120 4 rfl
theorem dX1_makeNew_125 : decode cX1_makeNew 125 = .ok (.iload_n 1, 1) := zdec_at bX1_makeNew_120 5 rfl
theorem dX1_makeNew_126 : decode cX1_makeNew 126 = .ok (.invokevirtual 568, 3) := zdec_at bX1_makeNew_120 6 rfl
theorem dX1_makeNew_129 : decode cX1_makeNew 129 = .ok (.aload_n 0, 1) := zdec_at bX1_makeNew_120 7 rfl
theorem dX1_makeNew_130 : decode cX1_makeNew 130 = .ok (.iload_n 3, 1) := zdec_at bX1_makeNew_120 8 rfl
theorem dX1_makeNew_131 : decode cX1_makeNew 131 = .ok (.putfield 440, 3) := zdec_at bX1_makeNew_120 9 rfl
theorem dX1_makeNew_134 : decode cX1_makeNew 134 = .ok (.aload_n 0, 1) := zdec_at bX1_makeNew_120 10 rfl
theorem dX1_makeNew_135 : decode cX1_makeNew 135 = .ok (.aload_n 0, 1) := zdec_at bX1_makeNew_120 11 rfl
theorem dX1_makeNew_136 : decode cX1_makeNew 136 = .ok (.getfield 389, 3) := zdec_at bX1_makeNew_120 12 rfl
theorem dX1_makeNew_139 : decode cX1_makeNew 139 = .ok (.aload_n 0, 1) := zdec_at bX1_makeNew_120 13 rfl
theorem dX1_makeNew_140 : decode cX1_makeNew 140 = .ok (.getfield 392, 3) := zdec_at bX1_makeNew_120 14 rfl
theorem dX1_makeNew_143 : decode cX1_makeNew 143 = .ok (.invokevirtual 476, 3) := zdec_at bX1_makeNew_120 15 rfl
theorem bX1_makeNew_146 : zdec cX1_makeNew 146 [(146, .return_, 1), (147, .aload_n 0, 1), (148, .iload 4, 2), (150, .iconst 1, 1), (151, .invokevirtual 544, 3), (154, .istore 6, 2), (156, .aload_n 0, 1), (157, .iconst 0, 1), (158, .aload_n 0, 1), (159, .iload_n 2, 1), (160, .invokevirtual 486, 3), (163, .iload 6, 2), (165, .iconst (-1), 1), (166, .if_icmp .eq 25, 3), (169, .aload_n 0, 1), (170, .getfield 124, 3)] = true := by decide +kernel
theorem dX1_makeNew_146 : decode cX1_makeNew 146 = .ok (.return_, 1) := zdec_at bX1_makeNew_146 0 rfl
theorem dX1_makeNew_147 : decode cX1_makeNew 147 = .ok (.aload_n 0, 1) := zdec_at bX1_makeNew_146 1 rfl
theorem dX1_makeNew_148 : decode cX1_makeNew 148 = .ok (.iload 4, 2) := zdec_at bX1_makeNew_146 2 rfl
theorem dX1_makeNew_150 : decode cX1_makeNew 150 = .ok (.iconst 1, 1) := zdec_at bX1_makeNew_146 3 rfl
theorem dX1_makeNew_151 : decode cX1_makeNew 151 = .ok (.invokevirtual 544, 3) := zdec_at bX1_makeNew_146 4 rfl
theorem dX1_makeNew_154 : decode cX1_makeNew 154 = .ok (.istore 6, 2) := zdec_at bX1_makeNew_146 5 rfl
theorem dX1_makeNew_156 : decode cX1_makeNew 156 = .ok (.aload_n 0, 1) := zdec_at bX1_makeNew_146 6 rfl
theorem dX1_makeNew_157 : decode cX1_makeNew 157 = .ok (.iconst 0, 1) := zdec_at bX1_makeNew_146 7 rfl
theorem dX1_makeNew_158 : decode cX1_makeNew 158 = .ok (.aload_n 0, 1) := zdec_at bX1_makeNew_146 8 rfl
theorem dX1_makeNew_159 : decode cX1_makeNew 159 = .ok (.iload_n 2, 1) := zdec_at bX1_makeNew_146 9 rfl
theorem dX1_makeNew_160 : decode cX1_makeNew 160 = .ok (.invokevirtual 486, 3) := zdec_at bX1_makeNew_146 10 rfl
theorem dX1_makeNew_163 : decode cX1_makeNew 163 = .ok (.iload 6, 2) := zdec_at bX1_makeNew_146 11 rfl
theorem dX1_makeNew_165 : decode cX1_makeNew 165 = .ok (.iconst (-1), 1) := zdec_at bX1_makeNew_146 12 rfl
theorem dX1_makeNew_166 : decode cX1_makeNew 166 = .ok (.if_icmp .eq 25, 3) := zdec_at bX1_makeNew_146 13 rfl
theorem dX1_makeNew_169 : decode cX1_makeNew 169 = .ok (.aload_n 0, 1) := zdec_at bX1_makeNew_146 14 rfl
theorem dX1_makeNew_170 : decode cX1_makeNew 170 = .ok (.getfield 124, 3) := zdec_at bX1_makeNew_146 15 rfl
theorem bX1_makeNew_173 : zdec cX1_makeNew 173 [(173, .iload 6, 2), (175, .baload, 1), (176, .bipush 7, 2), (178, .if_icmp .ne 13, 3), (181, .aload_n 0, 1), (182, .getfield 127, 3), (185, .iload 6, 2), (187, .iaload, 1), (188, .goto 4, 3), (191, .iconst 1, 1), (192, .iconst (-1), 1), (193, .invokevirtual 362, 3), (196, .istore 7, 2), (198, .aload_n 0, 1), (199, .iload 4, 2), (201, .bipush 7, 2)] = true := by decide +kernel
theorem dX1_makeNew_173 : decode cX1_makeNew 173 = .ok (.iload 6, 2) := zdec_at bX1_makeNew_173 0 rfl
theorem dX1_makeNew_175 : decode cX1_makeNew 175 = .ok (.baload, 1) := zdec_at bX1_makeNew_173 1 rfl
theorem dX1_makeNew_176 : decode cX1_makeNew 176 = .ok (.bipush 7, 2) := zdec_at bX1_makeNew_173 2 rfl
theorem dX1_makeNew_178 : decode cX1_makeNew 178 = .ok (.if_icmp .ne 13, 3) := zdec_at bX1_makeNew_173 3 rfl
theorem dX1_makeNew_181 : decode cX1_makeNew 181 = .ok (.aload_n 0, 1) := zdec_at bX1_makeNew_173 4 rfl
theorem dX1_makeNew_182 : decode cX1_makeNew 182 = .ok (.getfield 127, 3) := zdec_at bX1_makeNew_173 5 rfl
theorem dX1_makeNew_185 : decode cX1_makeNew 185 = .ok (.iload 6, 2) := zdec_at bX1_makeNew_173 6 rfl
theorem dX1_makeNew_187 : decode cX1_makeNew 187 = .ok (.iaload, 1) := zdec_at bX1_makeNew_173 7 rfl
theorem dX1_makeNew_188 : decode cX1_makeNew 188 = .ok (.goto 4, 3) := zdec_at bX1_makeNew_173 8 rfl
theorem dX1_makeNew_191 : decode cX1_makeNew 191 = .ok (.iconst 1, 1) := zdec_at bX1_makeNew_173 9 rfl
theorem dX1_makeNew_192 : decode cX1_makeNew 192 = .ok (.iconst (-1), 1) := zdec_at bX1_makeNew_173 10 rfl
theorem dX1_makeNew_193 : decode cX1_makeNew 193 = .ok (.invokevirtual 362, 3) := zdec_at bX1_makeNew_173 11 rfl
theorem dX1_makeNew_196 : decode cX1_makeNew 196 = .ok (.istore 7, 2) := zdec_at bX1_makeNew_173 12 rfl
theorem dX1_makeNew_198 : decode cX1_makeNew 198 = .ok (.aload_n 0, 1) := zdec_at bX1_makeNew_173 13 rfl
theorem dX1_makeNew_199 : decode cX1_makeNew 199 = .ok (.iload 4, 2) := zdec_at bX1_makeNew_173 14 rfl
theorem dX1_makeNew_201 : decode cX1_makeNew 201 = .ok (.bipush 7, 2) := zdec_at bX1_makeNew_173 15 rfl
theorem bX1_makeNew_203 : zdec cX1_makeNew 203 [(203, .iload 7, 2), (205, .iload_n 3, 1), (206, .iconst 1, 1), (207, .iadd, 1), (208, .iload_n 1, 1), (209, .iload_n 3, 1), (210, .iload 7, 2), (212, .invokevirtual 564, 3), (215, .return_, 1)] = true := by decide +kernel
theorem dX1_makeNew_203 : decode cX1_makeNew 203 = .ok (.iload 7, 2) := zdec_at bX1_makeNew_203 0 rfl
theorem dX1_makeNew_205 : decode cX1_makeNew 205 = .ok (.iload_n 3, 1) := zdec_at bX1_makeNew_203 1 rfl
theorem dX1_makeNew_206 : decode cX1_makeNew 206 = .ok (.iconst 1, 1) := zdec_at bX1_makeNew_203 2 rfl
theorem dX1_makeNew_207 : decode cX1_makeNew 207 = .ok (.iadd, 1) := zdec_at bX1_makeNew_203 3 rfl
theorem dX1_makeNew_208 : decode cX1_makeNew 208 = .ok (.iload_n 1, 1) := zdec_at bX1_makeNew_203 4 rfl
theorem dX1_makeNew_209 : decode cX1_makeNew 209 = .ok (.iload_n 3, 1) := zdec_at bX1_makeNew_203 5 rfl
theorem dX1_makeNew_210 : decode cX1_makeNew 210 = .ok (.iload 7, 2) := zdec_at bX1_makeNew_203 6 rfl
theorem dX1_makeNew_212 : decode cX1_makeNew 212 = .ok (.invokevirtual 564, 3) := zdec_at bX1_makeNew_203 7 rfl
theorem dX1_makeNew_215 : decode cX1_makeNew 215 = .ok (.return_, 1) := zdec_at bX1_makeNew_203 8 rfl
theorem sX1_makeNew_0 {E : zE} {d : Nat} {Q : zO → zM → Prop} (M : zM) (l1 : Int32) (l2 : Int32) (hw : cw M) (k : vp_in (((gi M 16 38) - l1) - (1 : Int32)) 14500 ∧ (vp_in (((gi M 16 38) - l1) - (1 : Int32)) 14500 ∧ (Z E YX1_isCalled d M (zargs 0 [vr (some (16, 0, 0)), vi (gi M 53 ((((gi M 16 38) - l1) - (1 : Int32))).toNatClampNeg), vi (gi M 54 ((((gi M 16 38) - l1) - (1 : Int32))).toNatClampNeg)]) 0 [] (zafter E YX1_makeNew (d + 1) [(0, vr (some (16, 0, 0))), (1, vi l1), (2, vi l2), (3, vi (((gi M 16 38) - l1) - (1 : Int32)))] 22 3 [] Q)))) : Z E YX1_makeNew (d + 1) M [(0, vr (some (16, 0, 0))), (1, vi l1), (2, vi l2)] 0 [] Q := by
  refine z_aload_n dX1_makeNew_0 rfl rfl ?_
  refine z_geti dX1_makeNew_1 fsX1_440_0 ?_
  refine z_iload_n dX1_makeNew_4 rfl rfl ?_
  refine z_isub dX1_makeNew_5 ?_
  refine z_iconst (v := 1) dX1_makeNew_6 rfl ?_
  refine z_isub dX1_makeNew_7 ?_
  refine z_ist_n dX1_makeNew_8 rfl (by decide) (lv' := [(0, vr (some (16, 0, 0))), (1, vi l1), (2, vi l2), (3, vi (((gi M 16 38) - l1) - (1 : Int32)))]) rfl ?_
  refine z_aload_n dX1_makeNew_9 rfl rfl ?_
  refine z_aload_n dX1_makeNew_10 rfl rfl ?_
  refine z_getr dX1_makeNew_11 fsX1_148_0 (show gr M 16 34 = some (53, 101, 14500) from cw_at hw 21 rfl) ?_
  refine z_iload_n dX1_makeNew_14 rfl rfl ?_
  obtain ⟨b_, k⟩ := k
  refine z_bald dX1_makeNew_15 b_ ?_
  refine z_aload_n dX1_makeNew_16 rfl rfl ?_
  refine z_getr dX1_makeNew_17 fsX1_151_0 (show gr M 16 35 = some (54, 100, 14500) from cw_at hw 22 rfl) ?_
  refine z_iload_n dX1_makeNew_20 rfl rfl ?_
  obtain ⟨b_, k⟩ := k
  refine z_iald dX1_makeNew_21 b_ ?_
  exact z_callV (as := [vi (gi M 53 ((((gi M 16 38) - l1) - (1 : Int32))).toNatClampNeg), vi (gi M 54 ((((gi M 16 38) - l1) - (1 : Int32))).toNatClampNeg)]) (st := []) dX1_makeNew_22 vsX1_558_0 (Nat.le_refl _) (Nat.le_of_ble_eq_true rfl) (Nat.le_of_ble_eq_true rfl) rfl k
theorem sX1_makeNew_25 {E : zE} {d : Nat} {Q : zO → zM → Prop} (M : zM) (l1 : Int32) (l2 : Int32) (l3 : Int32) (s0 : Int32) (hw : cw M) (k : if s0 = 0 then (Z E YX1_makeNew (d + 1) M [(0, vr (some (16, 0, 0))), (1, vi l1), (2, vi l2), (3, vi l3)] 38 [vi (-1 : Int32)] Q) else (vp_in l3 14500 ∧ (Z E YX1_makeNew (d + 1) M [(0, vr (some (16, 0, 0))), (1, vi l1), (2, vi l2), (3, vi l3)] 38 [vi (gi M 54 (l3).toNatClampNeg)] Q))) : Z E YX1_makeNew (d + 1) M [(0, vr (some (16, 0, 0))), (1, vi l1), (2, vi l2), (3, vi l3)] 25 [vi s0] Q := by
  refine z_if_eq (tgt := 37) dX1_makeNew_25 rfl (fun h_ => ?_) (fun h_ => ?_)
  · have k := zit h_ k
    refine z_iconst (v := -1) dX1_makeNew_37 rfl ?_
    exact k
  · have k := zif h_ k
    refine z_aload_n dX1_makeNew_28 rfl rfl ?_
    refine z_getr dX1_makeNew_29 fsX1_151_0 (show gr M 16 35 = some (54, 100, 14500) from cw_at hw 22 rfl) ?_
    refine z_iload_n dX1_makeNew_32 rfl rfl ?_
    obtain ⟨b_, k⟩ := k
    refine z_iald dX1_makeNew_33 b_ ?_
    refine z_goto (tgt := 38) dX1_makeNew_34 rfl ?_
    exact k
theorem sX1_makeNew_38 {E : zE} {d : Nat} {Q : zO → zM → Prop} (M : zM) (l1 : Int32) (l2 : Int32) (l3 : Int32) (s0 : Int32) (hw : cw M) (k : if s0 = (-1 : Int32) then (Z E YX1_makeNew (d + 1) M [(0, vr (some (16, 0, 0))), (1, vi l1), (2, vi l2), (3, vi l3), (4, vi s0)] 57 [vi (0 : Int32)] Q) else (vp_in s0 300 ∧ (Z E YX1_makeNew (d + 1) M [(0, vr (some (16, 0, 0))), (1, vi l1), (2, vi l2), (3, vi l3), (4, vi s0)] 57 [vi (gi M 39 (s0).toNatClampNeg)] Q))) : Z E YX1_makeNew (d + 1) M [(0, vr (some (16, 0, 0))), (1, vi l1), (2, vi l2), (3, vi l3)] 38 [vi s0] Q := by
  refine z_ist dX1_makeNew_38 (by decide) (lv' := [(0, vr (some (16, 0, 0))), (1, vi l1), (2, vi l2), (3, vi l3), (4, vi s0)]) rfl ?_
  refine z_iload dX1_makeNew_40 rfl ?_
  refine z_iconst (v := -1) dX1_makeNew_42 rfl ?_
  refine z_icmp_ne (tgt := 50) dX1_makeNew_43 rfl (fun h_ => ?_) (fun h_ => ?_)
  · have k := zif h_ k
    refine z_aload_n dX1_makeNew_50 rfl rfl ?_
    refine z_getr dX1_makeNew_51 fsX1_96_0 (show gr M 16 14 = some (39, 101, 300) from cw_at hw 7 rfl) ?_
    refine z_iload dX1_makeNew_54 rfl ?_
    obtain ⟨b_, k⟩ := k
    refine z_bald dX1_makeNew_56 b_ ?_
    exact k
  · have k := zit h_ k
    refine z_iconst (v := 0) dX1_makeNew_46 rfl ?_
    refine z_goto (tgt := 57) dX1_makeNew_47 rfl ?_
    exact k
theorem sX1_makeNew_57 {E : zE} {d : Nat} {Q : zO → zM → Prop} (M : zM) (l1 : Int32) (l2 : Int32) (l3 : Int32) (l4 : Int32) (s0 : Int32) (hw : cw M) (k : if l4 = (-1 : Int32) then (Z E YX1_error d M (zargs 0 [vr (some (16, 0, 0)), vi (0 : Int32)]) 0 [] (zafter E YX1_makeNew (d + 1) [] 107 3 [] Q)) else (if 0 ≤ s0 then (Z E YX1_makeNew (d + 1) M [(0, vr (some (16, 0, 0))), (1, vi l1), (2, vi l2), (3, vi l3), (4, vi l4), (5, vi s0)] 111 [] Q) else (if s0 = (-10 : Int32) then (Z E YX1_makeNew (d + 1) M [(0, vr (some (16, 0, 0))), (1, vi l1), (2, vi l2), (3, vi l3), (4, vi l4), (5, vi s0)] 111 [] Q) else (if s0 = (-11 : Int32) then (Z E YX1_makeNew (d + 1) M [(0, vr (some (16, 0, 0))), (1, vi l1), (2, vi l2), (3, vi l3), (4, vi l4), (5, vi s0)] 111 [] Q) else (if s0 = (-12 : Int32) then (Z E YX1_makeNew (d + 1) M [(0, vr (some (16, 0, 0))), (1, vi l1), (2, vi l2), (3, vi l3), (4, vi l4), (5, vi s0)] 111 [] Q) else (if (-14 : Int32) < s0 then (Z E YX1_error d M (zargs 0 [vr (some (16, 0, 0)), vi (0 : Int32)]) 0 [] (zafter E YX1_makeNew (d + 1) [] 107 3 [] Q)) else (if (-17 : Int32) ≤ s0 then (Z E YX1_makeNew (d + 1) M [(0, vr (some (16, 0, 0))), (1, vi l1), (2, vi l2), (3, vi l3), (4, vi l4), (5, vi s0)] 111 [] Q) else (Z E YX1_error d M (zargs 0 [vr (some (16, 0, 0)), vi (0 : Int32)]) 0 [] (zafter E YX1_makeNew (d + 1) [] 107 3 [] Q))))))))) : Z E YX1_makeNew (d + 1) M [(0, vr (some (16, 0, 0))), (1, vi l1), (2, vi l2), (3, vi l3), (4, vi l4)] 57 [vi s0] Q := by
  refine z_ist dX1_makeNew_57 (by decide) (lv' := [(0, vr (some (16, 0, 0))), (1, vi l1), (2, vi l2), (3, vi l3), (4, vi l4), (5, vi s0)]) rfl ?_
  refine z_iload dX1_makeNew_59 rfl ?_
  refine z_iconst (v := -1) dX1_makeNew_61 rfl ?_
  refine z_icmp_eq (tgt := 105) dX1_makeNew_62 rfl (fun h_ => ?_) (fun h_ => ?_)
  · have k := zit h_ k
    refine z_aload_n dX1_makeNew_105 rfl rfl ?_
    refine z_iconst (v := 0) dX1_makeNew_106 rfl ?_
    refine Z.pick [] rfl ?_
    exact z_callV (as := [vi (0 : Int32)]) (st := []) dX1_makeNew_107 vsX1_482_0 (Nat.le_refl _) (Nat.le_of_ble_eq_true rfl) (Nat.le_of_ble_eq_true rfl) rfl k
  · have k := zif h_ k
    refine z_iload dX1_makeNew_65 rfl ?_
    refine z_if_ge (tgt := 111) dX1_makeNew_67 rfl (fun h_ => ?_) (fun h_ => ?_)
    · have k := zit h_ k
      exact k
    · have k := zif h_ k
      refine z_iload dX1_makeNew_70 rfl ?_
      refine z_bipush (v := -10) dX1_makeNew_72 rfl ?_
      refine z_icmp_eq (tgt := 111) dX1_makeNew_74 rfl (fun h_ => ?_) (fun h_ => ?_)
      · have k := zit h_ k
        exact k
      · have k := zif h_ k
        refine z_iload dX1_makeNew_77 rfl ?_
        refine z_bipush (v := -11) dX1_makeNew_79 rfl ?_
        refine z_icmp_eq (tgt := 111) dX1_makeNew_81 rfl (fun h_ => ?_) (fun h_ => ?_)
        · have k := zit h_ k
          exact k
        · have k := zif h_ k
          refine z_iload dX1_makeNew_84 rfl ?_
          refine z_bipush (v := -12) dX1_makeNew_86 rfl ?_
          refine z_icmp_eq (tgt := 111) dX1_makeNew_88 rfl (fun h_ => ?_) (fun h_ => ?_)
          · have k := zit h_ k
            exact k
          · have k := zif h_ k
            refine z_iload dX1_makeNew_91 rfl ?_
            refine z_bipush (v := -14) dX1_makeNew_93 rfl ?_
            refine z_icmp_gt (tgt := 105) dX1_makeNew_95 rfl (fun h_ => ?_) (fun h_ => ?_)
            · have k := zit h_ k
              refine z_aload_n dX1_makeNew_105 rfl rfl ?_
              refine z_iconst (v := 0) dX1_makeNew_106 rfl ?_
              refine Z.pick [] rfl ?_
              exact z_callV (as := [vi (0 : Int32)]) (st := []) dX1_makeNew_107 vsX1_482_0 (Nat.le_refl _) (Nat.le_of_ble_eq_true rfl) (Nat.le_of_ble_eq_true rfl) rfl k
            · have k := zif h_ k
              refine z_iload dX1_makeNew_98 rfl ?_
              refine z_bipush (v := -17) dX1_makeNew_100 rfl ?_
              refine z_icmp_ge (tgt := 111) dX1_makeNew_102 rfl (fun h_ => ?_) (fun h_ => ?_)
              · have k := zit h_ k
                exact k
              · have k := zif h_ k
                refine z_aload_n dX1_makeNew_105 rfl rfl ?_
                refine z_iconst (v := 0) dX1_makeNew_106 rfl ?_
                refine Z.pick [] rfl ?_
                exact z_callV (as := [vi (0 : Int32)]) (st := []) dX1_makeNew_107 vsX1_482_0 (Nat.le_refl _) (Nat.le_of_ble_eq_true rfl) (Nat.le_of_ble_eq_true rfl) rfl k
theorem sX1_makeNew_110 {E : zE} {d : Nat} {Q : zO → zM → Prop} (M : zM) (u0 : Option zP) (hw : cw M) (k : ∃ b1 : Nat, u0 = some (b1, 14, 0) ∧ (Q (.inr (b1, 14, 0)) M)) : Z E YX1_makeNew (d + 1) M [] 110 [vr u0] Q := by
  obtain ⟨b1, e1_, k⟩ := k
  refine Z.eqs (lv' := []) (st' := [vr (some (b1, 14, 0))]) rfl (by rw [e1_] <;> rfl) ?_
  exact z_athrow dX1_makeNew_110 (ZT.out (by decide) k)
theorem sX1_makeNew_111 {E : zE} {d : Nat} {Q : zO → zM → Prop} (M : zM) (l1 : Int32) (l2 : Int32) (l3 : Int32) (l4 : Int32) (l5 : Int32) (hw : cw M) (k : if 0 ≤ l5 then (Z E YX1_find d M (zargs 0 [vr (some (16, 0, 0)), vi l4, vi (1 : Int32)]) 0 [] (zafter E YX1_makeNew (d + 1) [(0, vr (some (16, 0, 0))), (1, vi l1), (2, vi l2), (3, vi l3), (4, vi l4)] 151 3 [] Q)) else (Z E YX1_carryOut d M (zargs 0 [vr (some (16, 0, 0)), vi (-l5), vi (0 : Int32), vi (0 : Int32), vi (l3 + (1 : Int32)), vi l1]) 0 [] (zafter E YX1_makeNew (d + 1) [(0, vr (some (16, 0, 0))), (3, vi l3)] 126 3 [] Q))) : Z E YX1_makeNew (d + 1) M [(0, vr (some (16, 0, 0))), (1, vi l1), (2, vi l2), (3, vi l3), (4, vi l4), (5, vi l5)] 111 [] Q := by
  refine z_iload dX1_makeNew_111 rfl ?_
  refine z_if_ge (tgt := 147) dX1_makeNew_113 rfl (fun h_ => ?_) (fun h_ => ?_)
  · have k := zit h_ k
    refine z_aload_n dX1_makeNew_147 rfl rfl ?_
    refine z_iload dX1_makeNew_148 rfl ?_
    refine z_iconst (v := 1) dX1_makeNew_150 rfl ?_
    refine Z.pick [0, 1, 2, 3, 4] rfl ?_
    exact z_callV (as := [vi l4, vi (1 : Int32)]) (st := []) dX1_makeNew_151 vsX1_544_0 (Nat.le_refl _) (Nat.le_of_ble_eq_true rfl) (Nat.le_of_ble_eq_true rfl) rfl k
  · have k := zif h_ k
    refine z_aload_n dX1_makeNew_116 rfl rfl ?_
    refine z_iload dX1_makeNew_117 rfl ?_
    refine z_ineg dX1_makeNew_119 ?_
    refine z_iconst (v := 0) dX1_makeNew_120 rfl ?_
    refine z_iconst (v := 0) dX1_makeNew_121 rfl ?_
    refine z_iload_n dX1_makeNew_122 rfl rfl ?_
    refine z_iconst (v := 1) dX1_makeNew_123 rfl ?_
    refine z_iadd dX1_makeNew_124 ?_
    refine z_iload_n dX1_makeNew_125 rfl rfl ?_
    refine Z.pick [0, 3] rfl ?_
    exact z_callV (as := [vi (-l5), vi (0 : Int32), vi (0 : Int32), vi (l3 + (1 : Int32)), vi l1]) (st := []) dX1_makeNew_126 vsX1_568_0 (Nat.le_refl _) (Nat.le_of_ble_eq_true rfl) (Nat.le_of_ble_eq_true rfl) rfl k
theorem sX1_makeNew_129 {E : zE} {d : Nat} {Q : zO → zM → Prop} (M : zM) (l3 : Int32) (hw : cw M) (k : Z E YX1_push d (si M 16 38 l3) (zargs 0 [vr (some (16, 0, 0)), vi (gi M 16 33), vi (gi M 16 32)]) 0 [] (zafter E YX1_makeNew (d + 1) [] 143 3 [] Q)) : Z E YX1_makeNew (d + 1) M [(0, vr (some (16, 0, 0))), (3, vi l3)] 129 [] Q := by
  refine z_aload_n dX1_makeNew_129 rfl rfl ?_
  refine z_iload_n dX1_makeNew_130 rfl rfl ?_
  refine z_puti (by decide) dX1_makeNew_131 (zfwN.w fwX1_440_0) rfl ⟨rfl, rfl⟩ ?_
  refine z_aload_n dX1_makeNew_134 rfl rfl ?_
  refine z_aload_n dX1_makeNew_135 rfl rfl ?_
  refine z_geti dX1_makeNew_136 fsX1_389_0 ?_
  refine z_aload_n dX1_makeNew_139 rfl rfl ?_
  refine z_geti dX1_makeNew_140 fsX1_392_0 ?_
  refine Z.pick [] rfl ?_
  exact z_callV (as := [vi (gi M 16 33), vi (gi M 16 32)]) (st := []) dX1_makeNew_143 vsX1_476_0 (Nat.le_refl _) (Nat.le_of_ble_eq_true rfl) (Nat.le_of_ble_eq_true rfl) rfl k
theorem sX1_makeNew_146 {E : zE} {d : Nat} {Q : zO → zM → Prop} (M : zM)  (hw : cw M) (k : Q (.inl none) M) : Z E YX1_makeNew (d + 1) M [] 146 [] Q := by
  exact z_vret dX1_makeNew_146 rfl k
theorem sX1_makeNew_154 {E : zE} {d : Nat} {Q : zO → zM → Prop} (M : zM) (l1 : Int32) (l2 : Int32) (l3 : Int32) (l4 : Int32) (s0 : Int32) (hw : cw M) (k : Z E YX1_sitePair d M (zargs 0 [vr (some (16, 0, 0)), vi l2]) 0 [] (zafter E YX1_makeNew (d + 1) [(0, vr (some (16, 0, 0))), (1, vi l1), (3, vi l3), (4, vi l4), (6, vi s0)] 160 3 [vi (0 : Int32), vr (some (16, 0, 0))] Q)) : Z E YX1_makeNew (d + 1) M [(0, vr (some (16, 0, 0))), (1, vi l1), (2, vi l2), (3, vi l3), (4, vi l4)] 154 [vi s0] Q := by
  refine z_ist dX1_makeNew_154 (by decide) (lv' := [(0, vr (some (16, 0, 0))), (1, vi l1), (2, vi l2), (3, vi l3), (4, vi l4), (6, vi s0)]) rfl ?_
  refine z_aload_n dX1_makeNew_156 rfl rfl ?_
  refine z_iconst (v := 0) dX1_makeNew_157 rfl ?_
  refine z_aload_n dX1_makeNew_158 rfl rfl ?_
  refine z_iload_n dX1_makeNew_159 rfl rfl ?_
  refine Z.pick [0, 1, 3, 4, 5] rfl ?_
  exact z_callV (as := [vi l2]) (st := [vi (0 : Int32), vr (some (16, 0, 0))]) dX1_makeNew_160 vsX1_486_0 (Nat.le_refl _) (Nat.le_of_ble_eq_true rfl) (Nat.le_of_ble_eq_true rfl) rfl k
theorem sX1_makeNew_163 {E : zE} {d : Nat} {Q : zO → zM → Prop} (M : zM) (l1 : Int32) (l3 : Int32) (l4 : Int32) (l6 : Int32) (s0 : Int32) (s1 : Int32) (hw : cw M) (k : if l6 = (-1 : Int32) then (Z E YX1_born d M (zargs 0 [vr (some (16, 0, 0)), vi s1, vi s0, vi (1 : Int32), vi (-1 : Int32)]) 0 [] (zafter E YX1_makeNew (d + 1) [(0, vr (some (16, 0, 0))), (1, vi l1), (3, vi l3), (4, vi l4)] 193 3 [] Q)) else (vp_in l6 3000 ∧ (if (gi M 48 (l6).toNatClampNeg) = (7 : Int32) then (vp_in l6 3000 ∧ (Z E YX1_born d M (zargs 0 [vr (some (16, 0, 0)), vi s1, vi s0, vi (gi M 49 (l6).toNatClampNeg), vi (-1 : Int32)]) 0 [] (zafter E YX1_makeNew (d + 1) [(0, vr (some (16, 0, 0))), (1, vi l1), (3, vi l3), (4, vi l4)] 193 3 [] Q))) else (Z E YX1_born d M (zargs 0 [vr (some (16, 0, 0)), vi s1, vi s0, vi (1 : Int32), vi (-1 : Int32)]) 0 [] (zafter E YX1_makeNew (d + 1) [(0, vr (some (16, 0, 0))), (1, vi l1), (3, vi l3), (4, vi l4)] 193 3 [] Q))))) : Z E YX1_makeNew (d + 1) M [(0, vr (some (16, 0, 0))), (1, vi l1), (3, vi l3), (4, vi l4), (6, vi l6)] 163 [vi s0, vi s1, vr (some (16, 0, 0))] Q := by
  refine z_iload dX1_makeNew_163 rfl ?_
  refine z_iconst (v := -1) dX1_makeNew_165 rfl ?_
  refine z_icmp_eq (tgt := 191) dX1_makeNew_166 rfl (fun h_ => ?_) (fun h_ => ?_)
  · have k := zit h_ k
    refine z_iconst (v := 1) dX1_makeNew_191 rfl ?_
    refine z_iconst (v := -1) dX1_makeNew_192 rfl ?_
    refine Z.pick [0, 1, 2, 3] rfl ?_
    exact z_callV (as := [vi s1, vi s0, vi (1 : Int32), vi (-1 : Int32)]) (st := []) dX1_makeNew_193 vsX1_362_0 (Nat.le_refl _) (Nat.le_of_ble_eq_true rfl) (Nat.le_of_ble_eq_true rfl) rfl k
  · have k := zif h_ k
    refine z_aload_n dX1_makeNew_169 rfl rfl ?_
    refine z_getr dX1_makeNew_170 fsX1_124_0 (show gr M 16 23 = some (48, 101, 3000) from cw_at hw 16 rfl) ?_
    refine z_iload dX1_makeNew_173 rfl ?_
    obtain ⟨b_, k⟩ := k
    refine z_bald dX1_makeNew_175 b_ ?_
    refine z_bipush (v := 7) dX1_makeNew_176 rfl ?_
    refine z_icmp_ne (tgt := 191) dX1_makeNew_178 rfl (fun h_ => ?_) (fun h_ => ?_)
    · have k := zif h_ k
      refine z_iconst (v := 1) dX1_makeNew_191 rfl ?_
      refine z_iconst (v := -1) dX1_makeNew_192 rfl ?_
      refine Z.pick [0, 1, 2, 3] rfl ?_
      exact z_callV (as := [vi s1, vi s0, vi (1 : Int32), vi (-1 : Int32)]) (st := []) dX1_makeNew_193 vsX1_362_0 (Nat.le_refl _) (Nat.le_of_ble_eq_true rfl) (Nat.le_of_ble_eq_true rfl) rfl k
    · have k := zit h_ k
      refine z_aload_n dX1_makeNew_181 rfl rfl ?_
      refine z_getr dX1_makeNew_182 fsX1_127_0 (show gr M 16 24 = some (49, 100, 3000) from cw_at hw 17 rfl) ?_
      refine z_iload dX1_makeNew_185 rfl ?_
      obtain ⟨b_, k⟩ := k
      refine z_iald dX1_makeNew_187 b_ ?_
      refine z_goto (tgt := 192) dX1_makeNew_188 rfl ?_
      refine z_iconst (v := -1) dX1_makeNew_192 rfl ?_
      refine Z.pick [0, 1, 2, 3] rfl ?_
      exact z_callV (as := [vi s1, vi s0, vi (gi M 49 (l6).toNatClampNeg), vi (-1 : Int32)]) (st := []) dX1_makeNew_193 vsX1_362_0 (Nat.le_refl _) (Nat.le_of_ble_eq_true rfl) (Nat.le_of_ble_eq_true rfl) rfl k
theorem sX1_makeNew_196 {E : zE} {d : Nat} {Q : zO → zM → Prop} (M : zM) (l1 : Int32) (l3 : Int32) (l4 : Int32) (s0 : Int32) (hw : cw M) (k : Z E YX1_enter d M (zargs 0 [vr (some (16, 0, 0)), vi l4, vi (7 : Int32), vi s0, vi (l3 + (1 : Int32)), vi l1, vi l3, vi s0]) 0 [] (zafter E YX1_makeNew (d + 1) [] 212 3 [] Q)) : Z E YX1_makeNew (d + 1) M [(0, vr (some (16, 0, 0))), (1, vi l1), (3, vi l3), (4, vi l4)] 196 [vi s0] Q := by
  refine z_ist dX1_makeNew_196 (by decide) (lv' := [(0, vr (some (16, 0, 0))), (1, vi l1), (3, vi l3), (4, vi l4), (7, vi s0)]) rfl ?_
  refine z_aload_n dX1_makeNew_198 rfl rfl ?_
  refine z_iload dX1_makeNew_199 rfl ?_
  refine z_bipush (v := 7) dX1_makeNew_201 rfl ?_
  refine z_iload dX1_makeNew_203 rfl ?_
  refine z_iload_n dX1_makeNew_205 rfl rfl ?_
  refine z_iconst (v := 1) dX1_makeNew_206 rfl ?_
  refine z_iadd dX1_makeNew_207 ?_
  refine z_iload_n dX1_makeNew_208 rfl rfl ?_
  refine z_iload_n dX1_makeNew_209 rfl rfl ?_
  refine z_iload dX1_makeNew_210 rfl ?_
  refine Z.pick [] rfl ?_
  exact z_callV (as := [vi l4, vi (7 : Int32), vi s0, vi (l3 + (1 : Int32)), vi l1, vi l3, vi s0]) (st := []) dX1_makeNew_212 vsX1_564_0 (Nat.le_refl _) (Nat.le_of_ble_eq_true rfl) (Nat.le_of_ble_eq_true rfl) rfl k
theorem sX1_makeNew_215 {E : zE} {d : Nat} {Q : zO → zM → Prop} (M : zM)  (hw : cw M) (k : Q (.inl none) M) : Z E YX1_makeNew (d + 1) M [] 215 [] Q := by
  exact z_vret dX1_makeNew_215 rfl k
/-! ScriptTypes.moves(IIII)V -/
theorem bX1_moves_0 : zdec cX1_moves 0 [(0, .aload_n 0, 1), (1, .getfield 89, 3), (4, .getfield 334, 3), (7, .iload_n 1, 1), (8, .baload, 1)] = true := by decide +kernel
theorem dX1_moves_0 : decode cX1_moves 0 = .ok (.aload_n 0, 1) := zdec_at bX1_moves_0 0 rfl
theorem dX1_moves_1 : decode cX1_moves 1 = .ok (.getfield 89, 3) := zdec_at bX1_moves_0 1 rfl
theorem dX1_moves_4 : decode cX1_moves 4 = .ok (.getfield 334, 3) := zdec_at bX1_moves_0 2 rfl
theorem dX1_moves_7 : decode cX1_moves 7 = .ok (.iload_n 1, 1) := zdec_at bX1_moves_0 3 rfl
theorem dX1_moves_8 : decode cX1_moves 8 = .ok (.baload, 1) := zdec_at bX1_moves_0 4 rfl
theorem dX1_moves_9 : decode cX1_moves 9 = .ok (.tableswitch 453 17 29 #[67, 80, 89, 106, 453, 202, 244, 244, 308, 318, 337, 379, 392], 67) := by decide +kernel
theorem bX1_moves_76 : zdec cX1_moves 76 [(76, .aload_n 0, 1), (77, .dup, 1), (78, .getfield 440, 3), (81, .iconst 1, 1), (82, .isub, 1), (83, .putfield 440, 3), (86, .goto 438, 3), (89, .aload_n 0, 1), (90, .iload 4, 2), (92, .invokevirtual 529, 3), (95, .goto 429, 3), (98, .aload_n 0, 1), (99, .iload 4, 2), (101, .iconst 1, 1), (102, .isub, 1), (103, .invokevirtual 529, 3)] = true := by decide +kernel
theorem dX1_moves_76 : decode cX1_moves 76 = .ok (.aload_n 0, 1) := zdec_at bX1_moves_76 0 rfl
theorem dX1_moves_77 : decode cX1_moves 77 = .ok (.dup, 1) := zdec_at bX1_moves_76 1 rfl
theorem dX1_moves_78 : decode cX1_moves 78 = .ok (.getfield 440, 3) := zdec_at bX1_moves_76 2 rfl
theorem dX1_moves_81 : decode cX1_moves 81 = .ok (.iconst 1, 1) := zdec_at bX1_moves_76 3 rfl
theorem dX1_moves_82 : decode cX1_moves 82 = .ok (.isub, 1) := zdec_at bX1_moves_76 4 rfl
theorem dX1_moves_83 : decode cX1_moves 83 = .ok (.putfield 440, 3) := zdec_at bX1_moves_76 5 rfl
theorem dX1_moves_86 : decode cX1_moves 86 = .ok (.goto 438, 3) := zdec_at bX1_moves_76 6 rfl
theorem dX1_moves_89 : decode cX1_moves 89 = .ok (.aload_n 0, 1) := zdec_at bX1_moves_76 7 rfl
theorem dX1_moves_90 : decode cX1_moves 90 = .ok (.iload 4, 2) := zdec_at bX1_moves_76 8 rfl
theorem dX1_moves_92 : decode cX1_moves 92 = .ok (.invokevirtual 529, 3) := zdec_at bX1_moves_76 9 rfl
theorem dX1_moves_95 : decode cX1_moves 95 = .ok (.goto 429, 3) := zdec_at bX1_moves_76 10 rfl
theorem dX1_moves_98 : decode cX1_moves 98 = .ok (.aload_n 0, 1) := zdec_at bX1_moves_76 11 rfl
theorem dX1_moves_99 : decode cX1_moves 99 = .ok (.iload 4, 2) := zdec_at bX1_moves_76 12 rfl
theorem dX1_moves_101 : decode cX1_moves 101 = .ok (.iconst 1, 1) := zdec_at bX1_moves_76 13 rfl
theorem dX1_moves_102 : decode cX1_moves 102 = .ok (.isub, 1) := zdec_at bX1_moves_76 14 rfl
theorem dX1_moves_103 : decode cX1_moves 103 = .ok (.invokevirtual 529, 3) := zdec_at bX1_moves_76 15 rfl
theorem bX1_moves_106 : zdec cX1_moves 106 [(106, .aload_n 0, 1), (107, .iload 4, 2), (109, .invokevirtual 529, 3), (112, .goto 412, 3), (115, .aload_n 0, 1), (116, .iload 4, 2), (118, .invokevirtual 529, 3), (121, .iload 4, 2), (123, .istore 5, 2), (125, .iload 5, 2), (127, .iload 4, 2), (129, .iconst 2, 1), (130, .isub, 1), (131, .if_icmp .le 41, 3), (134, .aload_n 0, 1), (135, .getfield 148, 3)] = true := by decide +kernel
theorem dX1_moves_106 : decode cX1_moves 106 = .ok (.aload_n 0, 1) := zdec_at bX1_moves_106 0 rfl
theorem dX1_moves_107 : decode cX1_moves 107 = .ok (.iload 4, 2) := zdec_at bX1_moves_106 1 rfl
theorem dX1_moves_109 : decode cX1_moves 109 = .ok (.invokevirtual 529, 3) := zdec_at bX1_moves_106 2 rfl
theorem dX1_moves_112 : decode cX1_moves 112 = .ok (.goto 412, 3) := zdec_at bX1_moves_106 3 rfl
theorem dX1_moves_115 : decode cX1_moves 115 = .ok (.aload_n 0, 1) := zdec_at bX1_moves_106 4 rfl
theorem dX1_moves_116 : decode cX1_moves 116 = .ok (.iload 4, 2) := zdec_at bX1_moves_106 5 rfl
theorem dX1_moves_118 : decode cX1_moves 118 = .ok (.invokevirtual 529, 3) := zdec_at bX1_moves_106 6 rfl
theorem dX1_moves_121 : decode cX1_moves 121 = .ok (.iload 4, 2) := zdec_at bX1_moves_106 7 rfl
theorem dX1_moves_123 : decode cX1_moves 123 = .ok (.istore 5, 2) := zdec_at bX1_moves_106 8 rfl
theorem dX1_moves_125 : decode cX1_moves 125 = .ok (.iload 5, 2) := zdec_at bX1_moves_106 9 rfl
theorem dX1_moves_127 : decode cX1_moves 127 = .ok (.iload 4, 2) := zdec_at bX1_moves_106 10 rfl
theorem dX1_moves_129 : decode cX1_moves 129 = .ok (.iconst 2, 1) := zdec_at bX1_moves_106 11 rfl
theorem dX1_moves_130 : decode cX1_moves 130 = .ok (.isub, 1) := zdec_at bX1_moves_106 12 rfl
theorem dX1_moves_131 : decode cX1_moves 131 = .ok (.if_icmp .le 41, 3) := zdec_at bX1_moves_106 13 rfl
theorem dX1_moves_134 : decode cX1_moves 134 = .ok (.aload_n 0, 1) := zdec_at bX1_moves_106 14 rfl
theorem dX1_moves_135 : decode cX1_moves 135 = .ok (.getfield 148, 3) := zdec_at bX1_moves_106 15 rfl
theorem bX1_moves_138 : zdec cX1_moves 138 [(138, .iload 5, 2), (140, .aload_n 0, 1), (141, .getfield 148, 3), (144, .iload 5, 2), (146, .iconst 1, 1), (147, .isub, 1), (148, .baload, 1), (149, .bastore, 1), (150, .aload_n 0, 1), (151, .getfield 151, 3), (154, .iload 5, 2), (156, .aload_n 0, 1), (157, .getfield 151, 3), (160, .iload 5, 2), (162, .iconst 1, 1), (163, .isub, 1)] = true := by decide +kernel
theorem dX1_moves_138 : decode cX1_moves 138 = .ok (.iload 5, 2) := zdec_at bX1_moves_138 0 rfl
theorem dX1_moves_140 : decode cX1_moves 140 = .ok (.aload_n 0, 1) := zdec_at bX1_moves_138 1 rfl
theorem dX1_moves_141 : decode cX1_moves 141 = .ok (.getfield 148, 3) := zdec_at bX1_moves_138 2 rfl
theorem dX1_moves_144 : decode cX1_moves 144 = .ok (.iload 5, 2) := zdec_at bX1_moves_138 3 rfl
theorem dX1_moves_146 : decode cX1_moves 146 = .ok (.iconst 1, 1) := zdec_at bX1_moves_138 4 rfl
theorem dX1_moves_147 : decode cX1_moves 147 = .ok (.isub, 1) := zdec_at bX1_moves_138 5 rfl
theorem dX1_moves_148 : decode cX1_moves 148 = .ok (.baload, 1) := zdec_at bX1_moves_138 6 rfl
theorem dX1_moves_149 : decode cX1_moves 149 = .ok (.bastore, 1) := zdec_at bX1_moves_138 7 rfl
theorem dX1_moves_150 : decode cX1_moves 150 = .ok (.aload_n 0, 1) := zdec_at bX1_moves_138 8 rfl
theorem dX1_moves_151 : decode cX1_moves 151 = .ok (.getfield 151, 3) := zdec_at bX1_moves_138 9 rfl
theorem dX1_moves_154 : decode cX1_moves 154 = .ok (.iload 5, 2) := zdec_at bX1_moves_138 10 rfl
theorem dX1_moves_156 : decode cX1_moves 156 = .ok (.aload_n 0, 1) := zdec_at bX1_moves_138 11 rfl
theorem dX1_moves_157 : decode cX1_moves 157 = .ok (.getfield 151, 3) := zdec_at bX1_moves_138 12 rfl
theorem dX1_moves_160 : decode cX1_moves 160 = .ok (.iload 5, 2) := zdec_at bX1_moves_138 13 rfl
theorem dX1_moves_162 : decode cX1_moves 162 = .ok (.iconst 1, 1) := zdec_at bX1_moves_138 14 rfl
theorem dX1_moves_163 : decode cX1_moves 163 = .ok (.isub, 1) := zdec_at bX1_moves_138 15 rfl
theorem bX1_moves_164 : zdec cX1_moves 164 [(164, .iaload, 1), (165, .iastore, 1), (166, .iinc 5 (-1), 3), (169, .goto (-44), 3), (172, .aload_n 0, 1), (173, .getfield 148, 3), (176, .iload 4, 2), (178, .iconst 2, 1), (179, .isub, 1), (180, .aload_n 0, 1), (181, .getfield 148, 3), (184, .iload 4, 2), (186, .iconst 1, 1), (187, .iadd, 1), (188, .baload, 1), (189, .bastore, 1)] = true := by decide +kernel
theorem dX1_moves_164 : decode cX1_moves 164 = .ok (.iaload, 1) := zdec_at bX1_moves_164 0 rfl
theorem dX1_moves_165 : decode cX1_moves 165 = .ok (.iastore, 1) := zdec_at bX1_moves_164 1 rfl
theorem dX1_moves_166 : decode cX1_moves 166 = .ok (.iinc 5 (-1), 3) := zdec_at bX1_moves_164 2 rfl
theorem dX1_moves_169 : decode cX1_moves 169 = .ok (.goto (-44), 3) := zdec_at bX1_moves_164 3 rfl
theorem dX1_moves_172 : decode cX1_moves 172 = .ok (.aload_n 0, 1) := zdec_at bX1_moves_164 4 rfl
theorem dX1_moves_173 : decode cX1_moves 173 = .ok (.getfield 148, 3) := zdec_at bX1_moves_164 5 rfl
theorem dX1_moves_176 : decode cX1_moves 176 = .ok (.iload 4, 2) := zdec_at bX1_moves_164 6 rfl
theorem dX1_moves_178 : decode cX1_moves 178 = .ok (.iconst 2, 1) := zdec_at bX1_moves_164 7 rfl
theorem dX1_moves_179 : decode cX1_moves 179 = .ok (.isub, 1) := zdec_at bX1_moves_164 8 rfl
theorem dX1_moves_180 : decode cX1_moves 180 = .ok (.aload_n 0, 1) := zdec_at bX1_moves_164 9 rfl
theorem dX1_moves_181 : decode cX1_moves 181 = .ok (.getfield 148, 3) := zdec_at bX1_moves_164 10 rfl
theorem dX1_moves_184 : decode cX1_moves 184 = .ok (.iload 4, 2) := zdec_at bX1_moves_164 11 rfl
theorem dX1_moves_186 : decode cX1_moves 186 = .ok (.iconst 1, 1) := zdec_at bX1_moves_164 12 rfl
theorem dX1_moves_187 : decode cX1_moves 187 = .ok (.iadd, 1) := zdec_at bX1_moves_164 13 rfl
theorem dX1_moves_188 : decode cX1_moves 188 = .ok (.baload, 1) := zdec_at bX1_moves_164 14 rfl
theorem dX1_moves_189 : decode cX1_moves 189 = .ok (.bastore, 1) := zdec_at bX1_moves_164 15 rfl
theorem bX1_moves_190 : zdec cX1_moves 190 [(190, .aload_n 0, 1), (191, .getfield 151, 3), (194, .iload 4, 2), (196, .iconst 2, 1), (197, .isub, 1), (198, .aload_n 0, 1), (199, .getfield 151, 3), (202, .iload 4, 2), (204, .iconst 1, 1), (205, .iadd, 1), (206, .iaload, 1), (207, .iastore, 1), (208, .goto 316, 3), (211, .aload_n 0, 1), (212, .dup, 1), (213, .getfield 440, 3)] = true := by decide +kernel
theorem dX1_moves_190 : decode cX1_moves 190 = .ok (.aload_n 0, 1) := zdec_at bX1_moves_190 0 rfl
theorem dX1_moves_191 : decode cX1_moves 191 = .ok (.getfield 151, 3) := zdec_at bX1_moves_190 1 rfl
theorem dX1_moves_194 : decode cX1_moves 194 = .ok (.iload 4, 2) := zdec_at bX1_moves_190 2 rfl
theorem dX1_moves_196 : decode cX1_moves 196 = .ok (.iconst 2, 1) := zdec_at bX1_moves_190 3 rfl
theorem dX1_moves_197 : decode cX1_moves 197 = .ok (.isub, 1) := zdec_at bX1_moves_190 4 rfl
theorem dX1_moves_198 : decode cX1_moves 198 = .ok (.aload_n 0, 1) := zdec_at bX1_moves_190 5 rfl
theorem dX1_moves_199 : decode cX1_moves 199 = .ok (.getfield 151, 3) := zdec_at bX1_moves_190 6 rfl
theorem dX1_moves_202 : decode cX1_moves 202 = .ok (.iload 4, 2) := zdec_at bX1_moves_190 7 rfl
theorem dX1_moves_204 : decode cX1_moves 204 = .ok (.iconst 1, 1) := zdec_at bX1_moves_190 8 rfl
theorem dX1_moves_205 : decode cX1_moves 205 = .ok (.iadd, 1) := zdec_at bX1_moves_190 9 rfl
theorem dX1_moves_206 : decode cX1_moves 206 = .ok (.iaload, 1) := zdec_at bX1_moves_190 10 rfl
theorem dX1_moves_207 : decode cX1_moves 207 = .ok (.iastore, 1) := zdec_at bX1_moves_190 11 rfl
theorem dX1_moves_208 : decode cX1_moves 208 = .ok (.goto 316, 3) := zdec_at bX1_moves_190 12 rfl
theorem dX1_moves_211 : decode cX1_moves 211 = .ok (.aload_n 0, 1) := zdec_at bX1_moves_190 13 rfl
theorem dX1_moves_212 : decode cX1_moves 212 = .ok (.dup, 1) := zdec_at bX1_moves_190 14 rfl
theorem dX1_moves_213 : decode cX1_moves 213 = .ok (.getfield 440, 3) := zdec_at bX1_moves_190 15 rfl
theorem bX1_moves_216 : zdec cX1_moves 216 [(216, .iconst 1, 1), (217, .isub, 1), (218, .putfield 440, 3), (221, .aload_n 0, 1), (222, .aload_n 0, 1), (223, .getfield 148, 3), (226, .iload 4, 2), (228, .baload, 1), (229, .aload_n 0, 1), (230, .getfield 151, 3), (233, .iload 4, 2), (235, .iaload, 1), (236, .invokevirtual 401, 3), (239, .ifCond .ne 285, 3), (242, .aload_n 0, 1), (243, .getfield 166, 3)] = true := by decide +kernel
theorem dX1_moves_216 : decode cX1_moves 216 = .ok (.iconst 1, 1) := zdec_at bX1_moves_216 0 rfl
theorem dX1_moves_217 : decode cX1_moves 217 = .ok (.isub, 1) := zdec_at bX1_moves_216 1 rfl
theorem dX1_moves_218 : decode cX1_moves 218 = .ok (.putfield 440, 3) := zdec_at bX1_moves_216 2 rfl
theorem dX1_moves_221 : decode cX1_moves 221 = .ok (.aload_n 0, 1) := zdec_at bX1_moves_216 3 rfl
theorem dX1_moves_222 : decode cX1_moves 222 = .ok (.aload_n 0, 1) := zdec_at bX1_moves_216 4 rfl
theorem dX1_moves_223 : decode cX1_moves 223 = .ok (.getfield 148, 3) := zdec_at bX1_moves_216 5 rfl
theorem dX1_moves_226 : decode cX1_moves 226 = .ok (.iload 4, 2) := zdec_at bX1_moves_216 6 rfl
theorem dX1_moves_228 : decode cX1_moves 228 = .ok (.baload, 1) := zdec_at bX1_moves_216 7 rfl
theorem dX1_moves_229 : decode cX1_moves 229 = .ok (.aload_n 0, 1) := zdec_at bX1_moves_216 8 rfl
theorem dX1_moves_230 : decode cX1_moves 230 = .ok (.getfield 151, 3) := zdec_at bX1_moves_216 9 rfl
theorem dX1_moves_233 : decode cX1_moves 233 = .ok (.iload 4, 2) := zdec_at bX1_moves_216 10 rfl
theorem dX1_moves_235 : decode cX1_moves 235 = .ok (.iaload, 1) := zdec_at bX1_moves_216 11 rfl
theorem dX1_moves_236 : decode cX1_moves 236 = .ok (.invokevirtual 401, 3) := zdec_at bX1_moves_216 12 rfl
theorem dX1_moves_239 : decode cX1_moves 239 = .ok (.ifCond .ne 285, 3) := zdec_at bX1_moves_216 13 rfl
theorem dX1_moves_242 : decode cX1_moves 242 = .ok (.aload_n 0, 1) := zdec_at bX1_moves_216 14 rfl
theorem dX1_moves_243 : decode cX1_moves 243 = .ok (.getfield 166, 3) := zdec_at bX1_moves_216 15 rfl
theorem bX1_moves_246 : zdec cX1_moves 246 [(246, .iload_n 3, 1), (247, .iload_n 2, 1), (248, .i2s, 1), (249, .sastore, 1), (250, .goto 274, 3), (253, .aload_n 0, 1), (254, .aload_n 0, 1), (255, .getfield 148, 3), (258, .iload 4, 2), (260, .baload, 1), (261, .aload_n 0, 1), (262, .getfield 151, 3), (265, .iload 4, 2), (267, .iaload, 1), (268, .invokevirtual 401, 3), (271, .aload_n 0, 1)] = true := by decide +kernel
theorem dX1_moves_246 : decode cX1_moves 246 = .ok (.iload_n 3, 1) := zdec_at bX1_moves_246 0 rfl
theorem dX1_moves_247 : decode cX1_moves 247 = .ok (.iload_n 2, 1) := zdec_at bX1_moves_246 1 rfl
theorem dX1_moves_248 : decode cX1_moves 248 = .ok (.i2s, 1) := zdec_at bX1_moves_246 2 rfl
theorem dX1_moves_249 : decode cX1_moves 249 = .ok (.sastore, 1) := zdec_at bX1_moves_246 3 rfl
theorem dX1_moves_250 : decode cX1_moves 250 = .ok (.goto 274, 3) := zdec_at bX1_moves_246 4 rfl
theorem dX1_moves_253 : decode cX1_moves 253 = .ok (.aload_n 0, 1) := zdec_at bX1_moves_246 5 rfl
theorem dX1_moves_254 : decode cX1_moves 254 = .ok (.aload_n 0, 1) := zdec_at bX1_moves_246 6 rfl
theorem dX1_moves_255 : decode cX1_moves 255 = .ok (.getfield 148, 3) := zdec_at bX1_moves_246 7 rfl
theorem dX1_moves_258 : decode cX1_moves 258 = .ok (.iload 4, 2) := zdec_at bX1_moves_246 8 rfl
theorem dX1_moves_260 : decode cX1_moves 260 = .ok (.baload, 1) := zdec_at bX1_moves_246 9 rfl
theorem dX1_moves_261 : decode cX1_moves 261 = .ok (.aload_n 0, 1) := zdec_at bX1_moves_246 10 rfl
theorem dX1_moves_262 : decode cX1_moves 262 = .ok (.getfield 151, 3) := zdec_at bX1_moves_246 11 rfl
theorem dX1_moves_265 : decode cX1_moves 265 = .ok (.iload 4, 2) := zdec_at bX1_moves_246 12 rfl
theorem dX1_moves_267 : decode cX1_moves 267 = .ok (.iaload, 1) := zdec_at bX1_moves_246 13 rfl
theorem dX1_moves_268 : decode cX1_moves 268 = .ok (.invokevirtual 401, 3) := zdec_at bX1_moves_246 14 rfl
theorem dX1_moves_271 : decode cX1_moves 271 = .ok (.aload_n 0, 1) := zdec_at bX1_moves_246 15 rfl
theorem bX1_moves_272 : zdec cX1_moves 272 [(272, .getfield 89, 3), (275, .getfield 334, 3), (278, .iload_n 1, 1), (279, .baload, 1), (280, .bipush 24, 2), (282, .if_icmp .ne 7, 3), (285, .iconst 1, 1), (286, .goto 4, 3), (289, .iconst 0, 1), (290, .if_icmp .ne 14, 3), (293, .aload_n 0, 1), (294, .getfield 166, 3), (297, .iload_n 3, 1), (298, .iload_n 2, 1), (299, .i2s, 1), (300, .sastore, 1)] = true := by decide +kernel
theorem dX1_moves_272 : decode cX1_moves 272 = .ok (.getfield 89, 3) := zdec_at bX1_moves_272 0 rfl
theorem dX1_moves_275 : decode cX1_moves 275 = .ok (.getfield 334, 3) := zdec_at bX1_moves_272 1 rfl
theorem dX1_moves_278 : decode cX1_moves 278 = .ok (.iload_n 1, 1) := zdec_at bX1_moves_272 2 rfl
theorem dX1_moves_279 : decode cX1_moves 279 = .ok (.baload, 1) := zdec_at bX1_moves_272 3 rfl
theorem dX1_moves_280 : decode cX1_moves 280 = .ok (.bipush 24, 2) := zdec_at bX1_moves_272 4 rfl
theorem dX1_moves_282 : decode cX1_moves 282 = .ok (.if_icmp .ne 7, 3) := zdec_at bX1_moves_272 5 rfl
theorem dX1_moves_285 : decode cX1_moves 285 = .ok (.iconst 1, 1) := zdec_at bX1_moves_272 6 rfl
theorem dX1_moves_286 : decode cX1_moves 286 = .ok (.goto 4, 3) := zdec_at bX1_moves_272 7 rfl
theorem dX1_moves_289 : decode cX1_moves 289 = .ok (.iconst 0, 1) := zdec_at bX1_moves_272 8 rfl
theorem dX1_moves_290 : decode cX1_moves 290 = .ok (.if_icmp .ne 14, 3) := zdec_at bX1_moves_272 9 rfl
theorem dX1_moves_293 : decode cX1_moves 293 = .ok (.aload_n 0, 1) := zdec_at bX1_moves_272 10 rfl
theorem dX1_moves_294 : decode cX1_moves 294 = .ok (.getfield 166, 3) := zdec_at bX1_moves_272 11 rfl
theorem dX1_moves_297 : decode cX1_moves 297 = .ok (.iload_n 3, 1) := zdec_at bX1_moves_272 12 rfl
theorem dX1_moves_298 : decode cX1_moves 298 = .ok (.iload_n 2, 1) := zdec_at bX1_moves_272 13 rfl
theorem dX1_moves_299 : decode cX1_moves 299 = .ok (.i2s, 1) := zdec_at bX1_moves_272 14 rfl
theorem dX1_moves_300 : decode cX1_moves 300 = .ok (.sastore, 1) := zdec_at bX1_moves_272 15 rfl
theorem bX1_moves_301 : zdec cX1_moves 301 [(301, .goto 223, 3), (304, .aload_n 0, 1), (305, .dup, 1), (306, .getfield 440, 3), (309, .iconst 1, 1), (310, .isub, 1), (311, .putfield 440, 3), (314, .goto 210, 3), (317, .aload_n 0, 1), (318, .iload_n 3, 1), (319, .iload 4, 2), (321, .invokevirtual 532, 3), (324, .goto 200, 3), (327, .aload_n 0, 1), (328, .aload_n 0, 1), (329, .getfield 148, 3)] = true := by decide +kernel
theorem dX1_moves_301 : decode cX1_moves 301 = .ok (.goto 223, 3) := zdec_at bX1_moves_301 0 rfl
theorem dX1_moves_304 : decode cX1_moves 304 = .ok (.aload_n 0, 1) := zdec_at bX1_moves_301 1 rfl
theorem dX1_moves_305 : decode cX1_moves 305 = .ok (.dup, 1) := zdec_at bX1_moves_301 2 rfl
theorem dX1_moves_306 : decode cX1_moves 306 = .ok (.getfield 440, 3) := zdec_at bX1_moves_301 3 rfl
theorem dX1_moves_309 : decode cX1_moves 309 = .ok (.iconst 1, 1) := zdec_at bX1_moves_301 4 rfl
theorem dX1_moves_310 : decode cX1_moves 310 = .ok (.isub, 1) := zdec_at bX1_moves_301 5 rfl
theorem dX1_moves_311 : decode cX1_moves 311 = .ok (.putfield 440, 3) := zdec_at bX1_moves_301 6 rfl
theorem dX1_moves_314 : decode cX1_moves 314 = .ok (.goto 210, 3) := zdec_at bX1_moves_301 7 rfl
theorem dX1_moves_317 : decode cX1_moves 317 = .ok (.aload_n 0, 1) := zdec_at bX1_moves_301 8 rfl
theorem dX1_moves_318 : decode cX1_moves 318 = .ok (.iload_n 3, 1) := zdec_at bX1_moves_301 9 rfl
theorem dX1_moves_319 : decode cX1_moves 319 = .ok (.iload 4, 2) := zdec_at bX1_moves_301 10 rfl
theorem dX1_moves_321 : decode cX1_moves 321 = .ok (.invokevirtual 532, 3) := zdec_at bX1_moves_301 11 rfl
theorem dX1_moves_324 : decode cX1_moves 324 = .ok (.goto 200, 3) := zdec_at bX1_moves_301 12 rfl
theorem dX1_moves_327 : decode cX1_moves 327 = .ok (.aload_n 0, 1) := zdec_at bX1_moves_301 13 rfl
theorem dX1_moves_328 : decode cX1_moves 328 = .ok (.aload_n 0, 1) := zdec_at bX1_moves_301 14 rfl
theorem dX1_moves_329 : decode cX1_moves 329 = .ok (.getfield 148, 3) := zdec_at bX1_moves_301 15 rfl
theorem bX1_moves_332 : zdec cX1_moves 332 [(332, .iload 4, 2), (334, .baload, 1), (335, .aload_n 0, 1), (336, .getfield 151, 3), (339, .iload 4, 2), (341, .iaload, 1), (342, .invokevirtual 466, 3), (345, .athrow, 1), (346, .aload_n 0, 1), (347, .getfield 184, 3), (350, .aload_n 0, 1), (351, .getfield 443, 3), (354, .iload_n 2, 1), (355, .i2s, 1), (356, .sastore, 1), (357, .aload_n 0, 1)] = true := by decide +kernel
theorem dX1_moves_332 : decode cX1_moves 332 = .ok (.iload 4, 2) := zdec_at bX1_moves_332 0 rfl
theorem dX1_moves_334 : decode cX1_moves 334 = .ok (.baload, 1) := zdec_at bX1_moves_332 1 rfl
theorem dX1_moves_335 : decode cX1_moves 335 = .ok (.aload_n 0, 1) := zdec_at bX1_moves_332 2 rfl
theorem dX1_moves_336 : decode cX1_moves 336 = .ok (.getfield 151, 3) := zdec_at bX1_moves_332 3 rfl
theorem dX1_moves_339 : decode cX1_moves 339 = .ok (.iload 4, 2) := zdec_at bX1_moves_332 4 rfl
theorem dX1_moves_341 : decode cX1_moves 341 = .ok (.iaload, 1) := zdec_at bX1_moves_332 5 rfl
theorem dX1_moves_342 : decode cX1_moves 342 = .ok (.invokevirtual 466, 3) := zdec_at bX1_moves_332 6 rfl
theorem dX1_moves_345 : decode cX1_moves 345 = .ok (.athrow, 1) := zdec_at bX1_moves_332 7 rfl
theorem dX1_moves_346 : decode cX1_moves 346 = .ok (.aload_n 0, 1) := zdec_at bX1_moves_332 8 rfl
theorem dX1_moves_347 : decode cX1_moves 347 = .ok (.getfield 184, 3) := zdec_at bX1_moves_332 9 rfl
theorem dX1_moves_350 : decode cX1_moves 350 = .ok (.aload_n 0, 1) := zdec_at bX1_moves_332 10 rfl
theorem dX1_moves_351 : decode cX1_moves 351 = .ok (.getfield 443, 3) := zdec_at bX1_moves_332 11 rfl
theorem dX1_moves_354 : decode cX1_moves 354 = .ok (.iload_n 2, 1) := zdec_at bX1_moves_332 12 rfl
theorem dX1_moves_355 : decode cX1_moves 355 = .ok (.i2s, 1) := zdec_at bX1_moves_332 13 rfl
theorem dX1_moves_356 : decode cX1_moves 356 = .ok (.sastore, 1) := zdec_at bX1_moves_332 14 rfl
theorem dX1_moves_357 : decode cX1_moves 357 = .ok (.aload_n 0, 1) := zdec_at bX1_moves_332 15 rfl
theorem bX1_moves_358 : zdec cX1_moves 358 [(358, .getfield 187, 3), (361, .aload_n 0, 1), (362, .dup, 1), (363, .getfield 443, 3), (366, .dup_x1, 1), (367, .iconst 1, 1), (368, .iadd, 1), (369, .putfield 443, 3), (372, .aload_n 0, 1), (373, .getfield 440, 3), (376, .aload_n 0, 1), (377, .getfield 169, 3), (380, .iload_n 3, 1), (381, .saload, 1), (382, .isub, 1), (383, .i2s, 1)] = true := by decide +kernel
theorem dX1_moves_358 : decode cX1_moves 358 = .ok (.getfield 187, 3) := zdec_at bX1_moves_358 0 rfl
theorem dX1_moves_361 : decode cX1_moves 361 = .ok (.aload_n 0, 1) := zdec_at bX1_moves_358 1 rfl
theorem dX1_moves_362 : decode cX1_moves 362 = .ok (.dup, 1) := zdec_at bX1_moves_358 2 rfl
theorem dX1_moves_363 : decode cX1_moves 363 = .ok (.getfield 443, 3) := zdec_at bX1_moves_358 3 rfl
theorem dX1_moves_366 : decode cX1_moves 366 = .ok (.dup_x1, 1) := zdec_at bX1_moves_358 4 rfl
theorem dX1_moves_367 : decode cX1_moves 367 = .ok (.iconst 1, 1) := zdec_at bX1_moves_358 5 rfl
theorem dX1_moves_368 : decode cX1_moves 368 = .ok (.iadd, 1) := zdec_at bX1_moves_358 6 rfl
theorem dX1_moves_369 : decode cX1_moves 369 = .ok (.putfield 443, 3) := zdec_at bX1_moves_358 7 rfl
theorem dX1_moves_372 : decode cX1_moves 372 = .ok (.aload_n 0, 1) := zdec_at bX1_moves_358 8 rfl
theorem dX1_moves_373 : decode cX1_moves 373 = .ok (.getfield 440, 3) := zdec_at bX1_moves_358 9 rfl
theorem dX1_moves_376 : decode cX1_moves 376 = .ok (.aload_n 0, 1) := zdec_at bX1_moves_358 10 rfl
theorem dX1_moves_377 : decode cX1_moves 377 = .ok (.getfield 169, 3) := zdec_at bX1_moves_358 11 rfl
theorem dX1_moves_380 : decode cX1_moves 380 = .ok (.iload_n 3, 1) := zdec_at bX1_moves_358 12 rfl
theorem dX1_moves_381 : decode cX1_moves 381 = .ok (.saload, 1) := zdec_at bX1_moves_358 13 rfl
theorem dX1_moves_382 : decode cX1_moves 382 = .ok (.isub, 1) := zdec_at bX1_moves_358 14 rfl
theorem dX1_moves_383 : decode cX1_moves 383 = .ok (.i2s, 1) := zdec_at bX1_moves_358 15 rfl
theorem bX1_moves_384 : zdec cX1_moves 384 [(384, .sastore, 1), (385, .goto 139, 3), (388, .aload_n 0, 1), (389, .dup, 1), (390, .getfield 443, 3), (393, .iconst 1, 1), (394, .isub, 1), (395, .putfield 443, 3), (398, .goto 126, 3), (401, .aload_n 0, 1), (402, .getfield 151, 3), (405, .iload 4, 2), (407, .aload_n 0, 1), (408, .getfield 148, 3), (411, .iload 4, 2), (413, .baload, 1)] = true := by decide +kernel
theorem dX1_moves_384 : decode cX1_moves 384 = .ok (.sastore, 1) := zdec_at bX1_moves_384 0 rfl
theorem dX1_moves_385 : decode cX1_moves 385 = .ok (.goto 139, 3) := zdec_at bX1_moves_384 1 rfl
theorem dX1_moves_388 : decode cX1_moves 388 = .ok (.aload_n 0, 1) := zdec_at bX1_moves_384 2 rfl
theorem dX1_moves_389 : decode cX1_moves 389 = .ok (.dup, 1) := zdec_at bX1_moves_384 3 rfl
theorem dX1_moves_390 : decode cX1_moves 390 = .ok (.getfield 443, 3) := zdec_at bX1_moves_384 4 rfl
theorem dX1_moves_393 : decode cX1_moves 393 = .ok (.iconst 1, 1) := zdec_at bX1_moves_384 5 rfl
theorem dX1_moves_394 : decode cX1_moves 394 = .ok (.isub, 1) := zdec_at bX1_moves_384 6 rfl
theorem dX1_moves_395 : decode cX1_moves 395 = .ok (.putfield 443, 3) := zdec_at bX1_moves_384 7 rfl
theorem dX1_moves_398 : decode cX1_moves 398 = .ok (.goto 126, 3) := zdec_at bX1_moves_384 8 rfl
theorem dX1_moves_401 : decode cX1_moves 401 = .ok (.aload_n 0, 1) := zdec_at bX1_moves_384 9 rfl
theorem dX1_moves_402 : decode cX1_moves 402 = .ok (.getfield 151, 3) := zdec_at bX1_moves_384 10 rfl
theorem dX1_moves_405 : decode cX1_moves 405 = .ok (.iload 4, 2) := zdec_at bX1_moves_384 11 rfl
theorem dX1_moves_407 : decode cX1_moves 407 = .ok (.aload_n 0, 1) := zdec_at bX1_moves_384 12 rfl
theorem dX1_moves_408 : decode cX1_moves 408 = .ok (.getfield 148, 3) := zdec_at bX1_moves_384 13 rfl
theorem dX1_moves_411 : decode cX1_moves 411 = .ok (.iload 4, 2) := zdec_at bX1_moves_384 14 rfl
theorem dX1_moves_413 : decode cX1_moves 413 = .ok (.baload, 1) := zdec_at bX1_moves_384 15 rfl
theorem bX1_moves_414 : zdec cX1_moves 414 [(414, .bipush 7, 2), (416, .if_icmp .ne 13, 3), (419, .aload_n 0, 1), (420, .getfield 151, 3), (423, .iload 4, 2), (425, .iaload, 1), (426, .goto 4, 3), (429, .iconst (-1), 1), (430, .iastore, 1), (431, .aload_n 0, 1), (432, .getfield 148, 3), (435, .iload 4, 2), (437, .bipush 8, 2), (439, .bastore, 1), (440, .aload_n 0, 1), (441, .getfield 154, 3)] = true := by decide +kernel
theorem dX1_moves_414 : decode cX1_moves 414 = .ok (.bipush 7, 2) := zdec_at bX1_moves_414 0 rfl
theorem dX1_moves_416 : decode cX1_moves 416 = .ok (.if_icmp .ne 13, 3) := zdec_at bX1_moves_414 1 rfl
theorem dX1_moves_419 : decode cX1_moves 419 = .ok (.aload_n 0, 1) := zdec_at bX1_moves_414 2 rfl
theorem dX1_moves_420 : decode cX1_moves 420 = .ok (.getfield 151, 3) := zdec_at bX1_moves_414 3 rfl
theorem dX1_moves_423 : decode cX1_moves 423 = .ok (.iload 4, 2) := zdec_at bX1_moves_414 4 rfl
theorem dX1_moves_425 : decode cX1_moves 425 = .ok (.iaload, 1) := zdec_at bX1_moves_414 5 rfl
theorem dX1_moves_426 : decode cX1_moves 426 = .ok (.goto 4, 3) := zdec_at bX1_moves_414 6 rfl
theorem dX1_moves_429 : decode cX1_moves 429 = .ok (.iconst (-1), 1) := zdec_at bX1_moves_414 7 rfl
theorem dX1_moves_430 : decode cX1_moves 430 = .ok (.iastore, 1) := zdec_at bX1_moves_414 8 rfl
theorem dX1_moves_431 : decode cX1_moves 431 = .ok (.aload_n 0, 1) := zdec_at bX1_moves_414 9 rfl
theorem dX1_moves_432 : decode cX1_moves 432 = .ok (.getfield 148, 3) := zdec_at bX1_moves_414 10 rfl
theorem dX1_moves_435 : decode cX1_moves 435 = .ok (.iload 4, 2) := zdec_at bX1_moves_414 11 rfl
theorem dX1_moves_437 : decode cX1_moves 437 = .ok (.bipush 8, 2) := zdec_at bX1_moves_414 12 rfl
theorem dX1_moves_439 : decode cX1_moves 439 = .ok (.bastore, 1) := zdec_at bX1_moves_414 13 rfl
theorem dX1_moves_440 : decode cX1_moves 440 = .ok (.aload_n 0, 1) := zdec_at bX1_moves_414 14 rfl
theorem dX1_moves_441 : decode cX1_moves 441 = .ok (.getfield 154, 3) := zdec_at bX1_moves_414 15 rfl
theorem bX1_moves_444 : zdec cX1_moves 444 [(444, .iload 4, 2), (446, .aload_n 0, 1), (447, .getfield 355, 3), (450, .iastore, 1), (451, .aload_n 0, 1), (452, .getfield 157, 3), (455, .iload 4, 2), (457, .iconst 0, 1), (458, .iastore, 1), (459, .goto 65, 3), (462, .aload_n 0, 1), (463, .iload 4, 2), (465, .invokevirtual 535, 3), (468, .istore 5, 2), (470, .iload 5, 2), (472, .iconst (-1), 1)] = true := by decide +kernel
theorem dX1_moves_444 : decode cX1_moves 444 = .ok (.iload 4, 2) := zdec_at bX1_moves_444 0 rfl
theorem dX1_moves_446 : decode cX1_moves 446 = .ok (.aload_n 0, 1) := zdec_at bX1_moves_444 1 rfl
theorem dX1_moves_447 : decode cX1_moves 447 = .ok (.getfield 355, 3) := zdec_at bX1_moves_444 2 rfl
theorem dX1_moves_450 : decode cX1_moves 450 = .ok (.iastore, 1) := zdec_at bX1_moves_444 3 rfl
theorem dX1_moves_451 : decode cX1_moves 451 = .ok (.aload_n 0, 1) := zdec_at bX1_moves_444 4 rfl
theorem dX1_moves_452 : decode cX1_moves 452 = .ok (.getfield 157, 3) := zdec_at bX1_moves_444 5 rfl
theorem dX1_moves_455 : decode cX1_moves 455 = .ok (.iload 4, 2) := zdec_at bX1_moves_444 6 rfl
theorem dX1_moves_457 : decode cX1_moves 457 = .ok (.iconst 0, 1) := zdec_at bX1_moves_444 7 rfl
theorem dX1_moves_458 : decode cX1_moves 458 = .ok (.iastore, 1) := zdec_at bX1_moves_444 8 rfl
theorem dX1_moves_459 : decode cX1_moves 459 = .ok (.goto 65, 3) := zdec_at bX1_moves_444 9 rfl
theorem dX1_moves_462 : decode cX1_moves 462 = .ok (.aload_n 0, 1) := zdec_at bX1_moves_444 10 rfl
theorem dX1_moves_463 : decode cX1_moves 463 = .ok (.iload 4, 2) := zdec_at bX1_moves_444 11 rfl
theorem dX1_moves_465 : decode cX1_moves 465 = .ok (.invokevirtual 535, 3) := zdec_at bX1_moves_444 12 rfl
theorem dX1_moves_468 : decode cX1_moves 468 = .ok (.istore 5, 2) := zdec_at bX1_moves_444 13 rfl
theorem dX1_moves_470 : decode cX1_moves 470 = .ok (.iload 5, 2) := zdec_at bX1_moves_444 14 rfl
theorem dX1_moves_472 : decode cX1_moves 472 = .ok (.iconst (-1), 1) := zdec_at bX1_moves_444 15 rfl
theorem bX1_moves_473 : zdec cX1_moves 473 [(473, .if_icmp .ne 24, 3), (476, .aload_n 0, 1), (477, .dup, 1), (478, .getfield 440, 3), (481, .iconst 1, 1), (482, .isub, 1), (483, .putfield 440, 3), (486, .aload_n 0, 1), (487, .getfield 166, 3), (490, .iload_n 3, 1), (491, .iload_n 2, 1), (492, .i2s, 1), (493, .sastore, 1), (494, .goto 30, 3), (497, .aload_n 0, 1), (498, .getfield 157, 3)] = true := by decide +kernel
theorem dX1_moves_473 : decode cX1_moves 473 = .ok (.if_icmp .ne 24, 3) := zdec_at bX1_moves_473 0 rfl
theorem dX1_moves_476 : decode cX1_moves 476 = .ok (.aload_n 0, 1) := zdec_at bX1_moves_473 1 rfl
theorem dX1_moves_477 : decode cX1_moves 477 = .ok (.dup, 1) := zdec_at bX1_moves_473 2 rfl
theorem dX1_moves_478 : decode cX1_moves 478 = .ok (.getfield 440, 3) := zdec_at bX1_moves_473 3 rfl
theorem dX1_moves_481 : decode cX1_moves 481 = .ok (.iconst 1, 1) := zdec_at bX1_moves_473 4 rfl
theorem dX1_moves_482 : decode cX1_moves 482 = .ok (.isub, 1) := zdec_at bX1_moves_473 5 rfl
theorem dX1_moves_483 : decode cX1_moves 483 = .ok (.putfield 440, 3) := zdec_at bX1_moves_473 6 rfl
theorem dX1_moves_486 : decode cX1_moves 486 = .ok (.aload_n 0, 1) := zdec_at bX1_moves_473 7 rfl
theorem dX1_moves_487 : decode cX1_moves 487 = .ok (.getfield 166, 3) := zdec_at bX1_moves_473 8 rfl
theorem dX1_moves_490 : decode cX1_moves 490 = .ok (.iload_n 3, 1) := zdec_at bX1_moves_473 9 rfl
theorem dX1_moves_491 : decode cX1_moves 491 = .ok (.iload_n 2, 1) := zdec_at bX1_moves_473 10 rfl
theorem dX1_moves_492 : decode cX1_moves 492 = .ok (.i2s, 1) := zdec_at bX1_moves_473 11 rfl
theorem dX1_moves_493 : decode cX1_moves 493 = .ok (.sastore, 1) := zdec_at bX1_moves_473 12 rfl
theorem dX1_moves_494 : decode cX1_moves 494 = .ok (.goto 30, 3) := zdec_at bX1_moves_473 13 rfl
theorem dX1_moves_497 : decode cX1_moves 497 = .ok (.aload_n 0, 1) := zdec_at bX1_moves_473 14 rfl
theorem dX1_moves_498 : decode cX1_moves 498 = .ok (.getfield 157, 3) := zdec_at bX1_moves_473 15 rfl
theorem bX1_moves_501 : zdec cX1_moves 501 [(501, .iload 4, 2), (503, .aload_n 0, 1), (504, .getfield 131, 3), (507, .iload 5, 2), (509, .iaload, 1), (510, .iastore, 1), (511, .aload_n 0, 1), (512, .bipush 6, 2), (514, .aload_n 0, 1), (515, .getfield 118, 3), (518, .iload 5, 2), (520, .saload, 1), (521, .invokevirtual 476, 3), (524, .return_, 1)] = true := by decide +kernel
theorem dX1_moves_501 : decode cX1_moves 501 = .ok (.iload 4, 2) := zdec_at bX1_moves_501 0 rfl
theorem dX1_moves_503 : decode cX1_moves 503 = .ok (.aload_n 0, 1) := zdec_at bX1_moves_501 1 rfl
theorem dX1_moves_504 : decode cX1_moves 504 = .ok (.getfield 131, 3) := zdec_at bX1_moves_501 2 rfl
theorem dX1_moves_507 : decode cX1_moves 507 = .ok (.iload 5, 2) := zdec_at bX1_moves_501 3 rfl
theorem dX1_moves_509 : decode cX1_moves 509 = .ok (.iaload, 1) := zdec_at bX1_moves_501 4 rfl
theorem dX1_moves_510 : decode cX1_moves 510 = .ok (.iastore, 1) := zdec_at bX1_moves_501 5 rfl
theorem dX1_moves_511 : decode cX1_moves 511 = .ok (.aload_n 0, 1) := zdec_at bX1_moves_501 6 rfl
theorem dX1_moves_512 : decode cX1_moves 512 = .ok (.bipush 6, 2) := zdec_at bX1_moves_501 7 rfl
theorem dX1_moves_514 : decode cX1_moves 514 = .ok (.aload_n 0, 1) := zdec_at bX1_moves_501 8 rfl
theorem dX1_moves_515 : decode cX1_moves 515 = .ok (.getfield 118, 3) := zdec_at bX1_moves_501 9 rfl
theorem dX1_moves_518 : decode cX1_moves 518 = .ok (.iload 5, 2) := zdec_at bX1_moves_501 10 rfl
theorem dX1_moves_520 : decode cX1_moves 520 = .ok (.saload, 1) := zdec_at bX1_moves_501 11 rfl
theorem dX1_moves_521 : decode cX1_moves 521 = .ok (.invokevirtual 476, 3) := zdec_at bX1_moves_501 12 rfl
theorem dX1_moves_524 : decode cX1_moves 524 = .ok (.return_, 1) := zdec_at bX1_moves_501 13 rfl
theorem sX1_moves_0 {E : zE} {d : Nat} {Q : zO → zM → Prop} (M : zM) (l1 : Int32) (l2 : Int32) (l3 : Int32) (l4 : Int32) (hw : cw M) (k : vp_in l1 600 ∧ (if (gi M 30 (l1).toNatClampNeg) = 17 then (Z E YX1_moves (d + 1) (si M 16 38 ((gi M 16 38) - (1 : Int32))) [] 524 [] Q) else (if (gi M 30 (l1).toNatClampNeg) = 18 then (Z E YX1_copyOf d M (zargs 0 [vr (some (16, 0, 0)), vi l4]) 0 [] (zafter E YX1_moves (d + 1) [] 92 3 [] Q)) else (if (gi M 30 (l1).toNatClampNeg) = 19 then (Z E YX1_copyOf d M (zargs 0 [vr (some (16, 0, 0)), vi (l4 - (1 : Int32))]) 0 [] (zafter E YX1_moves (d + 1) [(0, vr (some (16, 0, 0))), (4, vi l4)] 103 3 [] Q)) else (if (gi M 30 (l1).toNatClampNeg) = 20 then (Z E YX1_copyOf d M (zargs 0 [vr (some (16, 0, 0)), vi l4]) 0 [] (zafter E YX1_moves (d + 1) [(0, vr (some (16, 0, 0))), (4, vi l4)] 118 3 [] Q)) else (if (gi M 30 (l1).toNatClampNeg) = 21 then (Z E YX1_following d M (zargs 0 [vr (some (16, 0, 0)), vi l4]) 0 [] (zafter E YX1_moves (d + 1) [(0, vr (some (16, 0, 0))), (2, vi l2), (3, vi l3), (4, vi l4)] 465 3 [] Q)) else (if (gi M 30 (l1).toNatClampNeg) = 22 then (vp_in l4 14500 ∧ (vp_in l4 14500 ∧ (Z E YX1_isTrue d (si M 16 38 ((gi M 16 38) - (1 : Int32))) (zargs 0 [vr (some (16, 0, 0)), vi (gi M 53 (l4).toNatClampNeg), vi (gi M 54 (l4).toNatClampNeg)]) 0 [] (zafter E YX1_moves (d + 1) [(0, vr (some (16, 0, 0))), (2, vi l2), (3, vi l3)] 236 3 [] Q)))) else (if (gi M 30 (l1).toNatClampNeg) = 23 then (vp_in l4 14500 ∧ (vp_in l4 14500 ∧ (Z E YX1_isTrue d M (zargs 0 [vr (some (16, 0, 0)), vi (gi M 53 (l4).toNatClampNeg), vi (gi M 54 (l4).toNatClampNeg)]) 0 [] (zafter E YX1_moves (d + 1) [(0, vr (some (16, 0, 0))), (1, vi l1), (2, vi l2), (3, vi l3)] 268 3 [] Q)))) else (if (gi M 30 (l1).toNatClampNeg) = 24 then (vp_in l4 14500 ∧ (vp_in l4 14500 ∧ (Z E YX1_isTrue d M (zargs 0 [vr (some (16, 0, 0)), vi (gi M 53 (l4).toNatClampNeg), vi (gi M 54 (l4).toNatClampNeg)]) 0 [] (zafter E YX1_moves (d + 1) [(0, vr (some (16, 0, 0))), (1, vi l1), (2, vi l2), (3, vi l3)] 268 3 [] Q)))) else (if (gi M 30 (l1).toNatClampNeg) = 25 then (Z E YX1_comeBack d M (zargs 0 [vr (some (16, 0, 0)), vi l3, vi l4]) 0 [] (zafter E YX1_moves (d + 1) [] 321 3 [] Q)) else (if (gi M 30 (l1).toNatClampNeg) = 26 then (vp_in l4 14500 ∧ (vp_in l4 14500 ∧ (Z E YX1_raises d M (zargs 0 [vr (some (16, 0, 0)), vi (gi M 53 (l4).toNatClampNeg), vi (gi M 54 (l4).toNatClampNeg)]) 0 [] (zafter E YX1_moves (d + 1) [] 342 3 [] Q)))) else (if (gi M 30 (l1).toNatClampNeg) = 27 then (vp_in (gi M 16 50) 960 ∧ (vp_in l3 24 ∧ (vp_in (gi M 16 50) 960 ∧ (Z E YX1_moves (d + 1) (si (si (si M 65 ((gi M 16 50)).toNatClampNeg (vp_nar .short (l2).toInt16.toInt32)) 16 50 ((gi M 16 50) + (1 : Int32))) 66 ((gi M 16 50)).toNatClampNeg (vp_nar .short (((gi M 16 38) - (gi M 60 (l3).toNatClampNeg))).toInt16.toInt32)) [] 524 [] Q)))) else (if (gi M 30 (l1).toNatClampNeg) = 28 then (Z E YX1_moves (d + 1) (si M 16 50 ((gi M 16 50) - (1 : Int32))) [] 524 [] Q) else (if (gi M 30 (l1).toNatClampNeg) = 29 then (vp_in l4 14500 ∧ (if (gi M 53 (l4).toNatClampNeg) = (7 : Int32) then (vp_in l4 14500 ∧ (Z E YX1_moves (d + 1) M [(0, vr (some (16, 0, 0))), (4, vi l4)] 430 [vi (gi M 54 (l4).toNatClampNeg), vi l4, vr (some (54, 100, 14500))] Q)) else (Z E YX1_moves (d + 1) M [(0, vr (some (16, 0, 0))), (4, vi l4)] 430 [vi (-1 : Int32), vi l4, vr (some (54, 100, 14500))] Q))) else (Z E YX1_following d M (zargs 0 [vr (some (16, 0, 0)), vi l4]) 0 [] (zafter E YX1_moves (d + 1) [(0, vr (some (16, 0, 0))), (2, vi l2), (3, vi l3), (4, vi l4)] 465 3 [] Q)))))))))))))))) : Z E YX1_moves (d + 1) M [(0, vr (some (16, 0, 0))), (1, vi l1), (2, vi l2), (3, vi l3), (4, vi l4)] 0 [] Q := by
  refine z_aload_n dX1_moves_0 rfl rfl ?_
  refine z_getr dX1_moves_1 fsX1_89_0 (show gr M 16 9 = some (29, 3, 0) from cw_at hw 5 rfl) ?_
  refine z_getr dX1_moves_4 fsX1_334_3 (show gr M 29 0 = some (30, 101, 600) from cw_at hw 50 rfl) ?_
  refine z_iload_n dX1_moves_7 rfl rfl ?_
  obtain ⟨b_, k⟩ := k
  refine z_bald dX1_moves_8 b_ ?_
  by_cases h0_ : (gi M 30 (l1).toNatClampNeg) = 17
  · have k := zit h0_ k
    refine z_tableIn (off := 67) (tgt := 76) dX1_moves_9 (by rw [h0_]; decide) (by rw [h0_]; decide) (by rw [h0_]; rfl) rfl ?_
    refine z_aload_n dX1_moves_76 rfl rfl ?_
    refine z_dup dX1_moves_77 rfl ?_
    refine z_geti dX1_moves_78 fsX1_440_0 ?_
    refine z_iconst (v := 1) dX1_moves_81 rfl ?_
    refine z_isub dX1_moves_82 ?_
    refine z_puti (by decide) dX1_moves_83 (zfwN.w fwX1_440_0) rfl ⟨rfl, rfl⟩ ?_
    refine z_goto (tgt := 524) dX1_moves_86 rfl ?_
    refine Z.pick [] rfl ?_
    exact k
  · have k := zif h0_ k
    by_cases h1_ : (gi M 30 (l1).toNatClampNeg) = 18
    · have k := zit h1_ k
      refine z_tableIn (off := 80) (tgt := 89) dX1_moves_9 (by rw [h1_]; decide) (by rw [h1_]; decide) (by rw [h1_]; rfl) rfl ?_
      refine z_aload_n dX1_moves_89 rfl rfl ?_
      refine z_iload dX1_moves_90 rfl ?_
      refine Z.pick [] rfl ?_
      exact z_callV (as := [vi l4]) (st := []) dX1_moves_92 vsX1_529_0 (Nat.le_refl _) (Nat.le_of_ble_eq_true rfl) (Nat.le_of_ble_eq_true rfl) rfl k
    · have k := zif h1_ k
      by_cases h2_ : (gi M 30 (l1).toNatClampNeg) = 19
      · have k := zit h2_ k
        refine z_tableIn (off := 89) (tgt := 98) dX1_moves_9 (by rw [h2_]; decide) (by rw [h2_]; decide) (by rw [h2_]; rfl) rfl ?_
        refine z_aload_n dX1_moves_98 rfl rfl ?_
        refine z_iload dX1_moves_99 rfl ?_
        refine z_iconst (v := 1) dX1_moves_101 rfl ?_
        refine z_isub dX1_moves_102 ?_
        refine Z.pick [0, 4] rfl ?_
        exact z_callV (as := [vi (l4 - (1 : Int32))]) (st := []) dX1_moves_103 vsX1_529_0 (Nat.le_refl _) (Nat.le_of_ble_eq_true rfl) (Nat.le_of_ble_eq_true rfl) rfl k
      · have k := zif h2_ k
        by_cases h3_ : (gi M 30 (l1).toNatClampNeg) = 20
        · have k := zit h3_ k
          refine z_tableIn (off := 106) (tgt := 115) dX1_moves_9 (by rw [h3_]; decide) (by rw [h3_]; decide) (by rw [h3_]; rfl) rfl ?_
          refine z_aload_n dX1_moves_115 rfl rfl ?_
          refine z_iload dX1_moves_116 rfl ?_
          refine Z.pick [0, 4] rfl ?_
          exact z_callV (as := [vi l4]) (st := []) dX1_moves_118 vsX1_529_0 (Nat.le_refl _) (Nat.le_of_ble_eq_true rfl) (Nat.le_of_ble_eq_true rfl) rfl k
        · have k := zif h3_ k
          by_cases h4_ : (gi M 30 (l1).toNatClampNeg) = 21
          · have k := zit h4_ k
            refine z_tableIn (off := 453) (tgt := 462) dX1_moves_9 (by rw [h4_]; decide) (by rw [h4_]; decide) (by rw [h4_]; rfl) rfl ?_
            refine z_aload_n dX1_moves_462 rfl rfl ?_
            refine z_iload dX1_moves_463 rfl ?_
            refine Z.pick [0, 2, 3, 4] rfl ?_
            exact z_callV (as := [vi l4]) (st := []) dX1_moves_465 vsX1_535_0 (Nat.le_refl _) (Nat.le_of_ble_eq_true rfl) (Nat.le_of_ble_eq_true rfl) rfl k
          · have k := zif h4_ k
            by_cases h5_ : (gi M 30 (l1).toNatClampNeg) = 22
            · have k := zit h5_ k
              refine z_tableIn (off := 202) (tgt := 211) dX1_moves_9 (by rw [h5_]; decide) (by rw [h5_]; decide) (by rw [h5_]; rfl) rfl ?_
              refine z_aload_n dX1_moves_211 rfl rfl ?_
              refine z_dup dX1_moves_212 rfl ?_
              refine z_geti dX1_moves_213 fsX1_440_0 ?_
              refine z_iconst (v := 1) dX1_moves_216 rfl ?_
              refine z_isub dX1_moves_217 ?_
              refine z_puti (by decide) dX1_moves_218 (zfwN.w fwX1_440_0) rfl ⟨rfl, rfl⟩ ?_
              refine z_aload_n dX1_moves_221 rfl rfl ?_
              refine z_aload_n dX1_moves_222 rfl rfl ?_
              refine z_getr dX1_moves_223 fsX1_148_0 (show gr M 16 34 = some (53, 101, 14500) from cw_at hw 21 rfl) ?_
              refine z_iload dX1_moves_226 rfl ?_
              obtain ⟨b_, k⟩ := k
              refine z_bald dX1_moves_228 b_ ?_
              refine z_aload_n dX1_moves_229 rfl rfl ?_
              refine z_getr dX1_moves_230 fsX1_151_0 (show gr M 16 35 = some (54, 100, 14500) from cw_at hw 22 rfl) ?_
              refine z_iload dX1_moves_233 rfl ?_
              obtain ⟨b_, k⟩ := k
              refine z_iald dX1_moves_235 b_ ?_
              refine Z.pick [0, 2, 3] rfl ?_
              exact z_callV (as := [vi (gi M 53 (l4).toNatClampNeg), vi (gi M 54 (l4).toNatClampNeg)]) (st := []) dX1_moves_236 vsX1_401_0 (Nat.le_refl _) (Nat.le_of_ble_eq_true rfl) (Nat.le_of_ble_eq_true rfl) rfl k
            · have k := zif h5_ k
              by_cases h6_ : (gi M 30 (l1).toNatClampNeg) = 23
              · have k := zit h6_ k
                refine z_tableIn (off := 244) (tgt := 253) dX1_moves_9 (by rw [h6_]; decide) (by rw [h6_]; decide) (by rw [h6_]; rfl) rfl ?_
                refine z_aload_n dX1_moves_253 rfl rfl ?_
                refine z_aload_n dX1_moves_254 rfl rfl ?_
                refine z_getr dX1_moves_255 fsX1_148_0 (show gr M 16 34 = some (53, 101, 14500) from cw_at hw 21 rfl) ?_
                refine z_iload dX1_moves_258 rfl ?_
                obtain ⟨b_, k⟩ := k
                refine z_bald dX1_moves_260 b_ ?_
                refine z_aload_n dX1_moves_261 rfl rfl ?_
                refine z_getr dX1_moves_262 fsX1_151_0 (show gr M 16 35 = some (54, 100, 14500) from cw_at hw 22 rfl) ?_
                refine z_iload dX1_moves_265 rfl ?_
                obtain ⟨b_, k⟩ := k
                refine z_iald dX1_moves_267 b_ ?_
                refine Z.pick [0, 1, 2, 3] rfl ?_
                exact z_callV (as := [vi (gi M 53 (l4).toNatClampNeg), vi (gi M 54 (l4).toNatClampNeg)]) (st := []) dX1_moves_268 vsX1_401_0 (Nat.le_refl _) (Nat.le_of_ble_eq_true rfl) (Nat.le_of_ble_eq_true rfl) rfl k
              · have k := zif h6_ k
                by_cases h7_ : (gi M 30 (l1).toNatClampNeg) = 24
                · have k := zit h7_ k
                  refine z_tableIn (off := 244) (tgt := 253) dX1_moves_9 (by rw [h7_]; decide) (by rw [h7_]; decide) (by rw [h7_]; rfl) rfl ?_
                  refine z_aload_n dX1_moves_253 rfl rfl ?_
                  refine z_aload_n dX1_moves_254 rfl rfl ?_
                  refine z_getr dX1_moves_255 fsX1_148_0 (show gr M 16 34 = some (53, 101, 14500) from cw_at hw 21 rfl) ?_
                  refine z_iload dX1_moves_258 rfl ?_
                  obtain ⟨b_, k⟩ := k
                  refine z_bald dX1_moves_260 b_ ?_
                  refine z_aload_n dX1_moves_261 rfl rfl ?_
                  refine z_getr dX1_moves_262 fsX1_151_0 (show gr M 16 35 = some (54, 100, 14500) from cw_at hw 22 rfl) ?_
                  refine z_iload dX1_moves_265 rfl ?_
                  obtain ⟨b_, k⟩ := k
                  refine z_iald dX1_moves_267 b_ ?_
                  refine Z.pick [0, 1, 2, 3] rfl ?_
                  exact z_callV (as := [vi (gi M 53 (l4).toNatClampNeg), vi (gi M 54 (l4).toNatClampNeg)]) (st := []) dX1_moves_268 vsX1_401_0 (Nat.le_refl _) (Nat.le_of_ble_eq_true rfl) (Nat.le_of_ble_eq_true rfl) rfl k
                · have k := zif h7_ k
                  by_cases h8_ : (gi M 30 (l1).toNatClampNeg) = 25
                  · have k := zit h8_ k
                    refine z_tableIn (off := 308) (tgt := 317) dX1_moves_9 (by rw [h8_]; decide) (by rw [h8_]; decide) (by rw [h8_]; rfl) rfl ?_
                    refine z_aload_n dX1_moves_317 rfl rfl ?_
                    refine z_iload_n dX1_moves_318 rfl rfl ?_
                    refine z_iload dX1_moves_319 rfl ?_
                    refine Z.pick [] rfl ?_
                    exact z_callV (as := [vi l3, vi l4]) (st := []) dX1_moves_321 vsX1_532_0 (Nat.le_refl _) (Nat.le_of_ble_eq_true rfl) (Nat.le_of_ble_eq_true rfl) rfl k
                  · have k := zif h8_ k
                    by_cases h9_ : (gi M 30 (l1).toNatClampNeg) = 26
                    · have k := zit h9_ k
                      refine z_tableIn (off := 318) (tgt := 327) dX1_moves_9 (by rw [h9_]; decide) (by rw [h9_]; decide) (by rw [h9_]; rfl) rfl ?_
                      refine z_aload_n dX1_moves_327 rfl rfl ?_
                      refine z_aload_n dX1_moves_328 rfl rfl ?_
                      refine z_getr dX1_moves_329 fsX1_148_0 (show gr M 16 34 = some (53, 101, 14500) from cw_at hw 21 rfl) ?_
                      refine z_iload dX1_moves_332 rfl ?_
                      obtain ⟨b_, k⟩ := k
                      refine z_bald dX1_moves_334 b_ ?_
                      refine z_aload_n dX1_moves_335 rfl rfl ?_
                      refine z_getr dX1_moves_336 fsX1_151_0 (show gr M 16 35 = some (54, 100, 14500) from cw_at hw 22 rfl) ?_
                      refine z_iload dX1_moves_339 rfl ?_
                      obtain ⟨b_, k⟩ := k
                      refine z_iald dX1_moves_341 b_ ?_
                      refine Z.pick [] rfl ?_
                      exact z_callV (as := [vi (gi M 53 (l4).toNatClampNeg), vi (gi M 54 (l4).toNatClampNeg)]) (st := []) dX1_moves_342 vsX1_466_0 (Nat.le_refl _) (Nat.le_of_ble_eq_true rfl) (Nat.le_of_ble_eq_true rfl) rfl k
                    · have k := zif h9_ k
                      by_cases h10_ : (gi M 30 (l1).toNatClampNeg) = 27
                      · have k := zit h10_ k
                        refine z_tableIn (off := 337) (tgt := 346) dX1_moves_9 (by rw [h10_]; decide) (by rw [h10_]; decide) (by rw [h10_]; rfl) rfl ?_
                        refine z_aload_n dX1_moves_346 rfl rfl ?_
                        refine z_getr dX1_moves_347 fsX1_184_0 (show gr M 16 47 = some (65, 102, 960) from cw_at hw 33 rfl) ?_
                        refine z_aload_n dX1_moves_350 rfl rfl ?_
                        refine z_geti dX1_moves_351 fsX1_443_0 ?_
                        refine z_iload_n dX1_moves_354 rfl rfl ?_
                        refine z_i2s dX1_moves_355 ?_
                        obtain ⟨b_, k⟩ := k
                        refine z_sast (by decide) dX1_moves_356 b_ ?_
                        refine z_aload_n dX1_moves_357 rfl rfl ?_
                        refine z_getr dX1_moves_358 fsX1_187_0 (show gr M 16 48 = some (66, 102, 960) from cw_at hw 34 rfl) ?_
                        refine z_aload_n dX1_moves_361 rfl rfl ?_
                        refine z_dup dX1_moves_362 rfl ?_
                        refine z_geti dX1_moves_363 fsX1_443_0 ?_
                        refine z_dup_x1 dX1_moves_366 rfl rfl ?_
                        refine z_iconst (v := 1) dX1_moves_367 rfl ?_
                        refine z_iadd dX1_moves_368 ?_
                        refine z_puti (by decide) dX1_moves_369 (zfwN.w fwX1_443_0) rfl ⟨rfl, rfl⟩ ?_
                        refine z_aload_n dX1_moves_372 rfl rfl ?_
                        refine z_geti dX1_moves_373 fsX1_440_0 ?_
                        refine z_aload_n dX1_moves_376 rfl rfl ?_
                        refine z_getr dX1_moves_377 fsX1_169_0 (show gr M 16 42 = some (60, 102, 24) from cw_at hw 28 rfl) ?_
                        refine z_iload_n dX1_moves_380 rfl rfl ?_
                        obtain ⟨b_, k⟩ := k
                        refine z_sald dX1_moves_381 b_ ?_
                        refine z_isub dX1_moves_382 ?_
                        refine z_i2s dX1_moves_383 ?_
                        obtain ⟨b_, k⟩ := k
                        refine z_sast (by decide) dX1_moves_384 b_ ?_
                        refine z_goto (tgt := 524) dX1_moves_385 rfl ?_
                        refine Z.pick [] rfl ?_
                        exact k
                      · have k := zif h10_ k
                        by_cases h11_ : (gi M 30 (l1).toNatClampNeg) = 28
                        · have k := zit h11_ k
                          refine z_tableIn (off := 379) (tgt := 388) dX1_moves_9 (by rw [h11_]; decide) (by rw [h11_]; decide) (by rw [h11_]; rfl) rfl ?_
                          refine z_aload_n dX1_moves_388 rfl rfl ?_
                          refine z_dup dX1_moves_389 rfl ?_
                          refine z_geti dX1_moves_390 fsX1_443_0 ?_
                          refine z_iconst (v := 1) dX1_moves_393 rfl ?_
                          refine z_isub dX1_moves_394 ?_
                          refine z_puti (by decide) dX1_moves_395 (zfwN.w fwX1_443_0) rfl ⟨rfl, rfl⟩ ?_
                          refine z_goto (tgt := 524) dX1_moves_398 rfl ?_
                          refine Z.pick [] rfl ?_
                          exact k
                        · have k := zif h11_ k
                          by_cases h12_ : (gi M 30 (l1).toNatClampNeg) = 29
                          · have k := zit h12_ k
                            refine z_tableIn (off := 392) (tgt := 401) dX1_moves_9 (by rw [h12_]; decide) (by rw [h12_]; decide) (by rw [h12_]; rfl) rfl ?_
                            refine z_aload_n dX1_moves_401 rfl rfl ?_
                            refine z_getr dX1_moves_402 fsX1_151_0 (show gr M 16 35 = some (54, 100, 14500) from cw_at hw 22 rfl) ?_
                            refine z_iload dX1_moves_405 rfl ?_
                            refine z_aload_n dX1_moves_407 rfl rfl ?_
                            refine z_getr dX1_moves_408 fsX1_148_0 (show gr M 16 34 = some (53, 101, 14500) from cw_at hw 21 rfl) ?_
                            refine z_iload dX1_moves_411 rfl ?_
                            obtain ⟨b_, k⟩ := k
                            refine z_bald dX1_moves_413 b_ ?_
                            refine z_bipush (v := 7) dX1_moves_414 rfl ?_
                            refine z_icmp_ne (tgt := 429) dX1_moves_416 rfl (fun h_ => ?_) (fun h_ => ?_)
                            · have k := zif h_ k
                              refine z_iconst (v := -1) dX1_moves_429 rfl ?_
                              refine Z.pick [0, 4] rfl ?_
                              exact k
                            · have k := zit h_ k
                              refine z_aload_n dX1_moves_419 rfl rfl ?_
                              refine z_getr dX1_moves_420 fsX1_151_0 (show gr M 16 35 = some (54, 100, 14500) from cw_at hw 22 rfl) ?_
                              refine z_iload dX1_moves_423 rfl ?_
                              obtain ⟨b_, k⟩ := k
                              refine z_iald dX1_moves_425 b_ ?_
                              refine z_goto (tgt := 430) dX1_moves_426 rfl ?_
                              refine Z.pick [0, 4] rfl ?_
                              exact k
                          · have k := zif h12_ k
                            refine z_tout (tgt := 462) [17, 18, 19, 20, 21, 22, 23, 24, 25, 26, 27, 28, 29] (by decide) dX1_moves_9 (zall_1 h0_ (zall_1 h1_ (zall_1 h2_ (zall_1 h3_ (zall_1 h4_ (zall_1 h5_ (zall_1 h6_ (zall_1 h7_ (zall_1 h8_ (zall_1 h9_ (zall_1 h10_ (zall_1 h11_ (zall_1 h12_ zall_0))))))))))))) rfl ?_
                            refine z_aload_n dX1_moves_462 rfl rfl ?_
                            refine z_iload dX1_moves_463 rfl ?_
                            refine Z.pick [0, 2, 3, 4] rfl ?_
                            exact z_callV (as := [vi l4]) (st := []) dX1_moves_465 vsX1_535_0 (Nat.le_refl _) (Nat.le_of_ble_eq_true rfl) (Nat.le_of_ble_eq_true rfl) rfl k
theorem sX1_moves_95 {E : zE} {d : Nat} {Q : zO → zM → Prop} (M : zM)  (hw : cw M) (k : Z E YX1_moves (d + 1) M [] 524 [] Q) : Z E YX1_moves (d + 1) M [] 95 [] Q := by
  refine z_goto (tgt := 524) dX1_moves_95 rfl ?_
  exact k
theorem sX1_moves_106 {E : zE} {d : Nat} {Q : zO → zM → Prop} (M : zM) (l4 : Int32) (hw : cw M) (k : Z E YX1_copyOf d M (zargs 0 [vr (some (16, 0, 0)), vi l4]) 0 [] (zafter E YX1_moves (d + 1) [] 109 3 [] Q)) : Z E YX1_moves (d + 1) M [(0, vr (some (16, 0, 0))), (4, vi l4)] 106 [] Q := by
  refine z_aload_n dX1_moves_106 rfl rfl ?_
  refine z_iload dX1_moves_107 rfl ?_
  refine Z.pick [] rfl ?_
  exact z_callV (as := [vi l4]) (st := []) dX1_moves_109 vsX1_529_0 (Nat.le_refl _) (Nat.le_of_ble_eq_true rfl) (Nat.le_of_ble_eq_true rfl) rfl k
theorem sX1_moves_112 {E : zE} {d : Nat} {Q : zO → zM → Prop} (M : zM)  (hw : cw M) (k : Z E YX1_moves (d + 1) M [] 524 [] Q) : Z E YX1_moves (d + 1) M [] 112 [] Q := by
  refine z_goto (tgt := 524) dX1_moves_112 rfl ?_
  exact k
theorem sX1_moves_121 {E : zE} {d : Nat} {Q : zO → zM → Prop} (M : zM) (l4 : Int32) (hw : cw M) (k : Z E YX1_moves (d + 1) M [(0, vr (some (16, 0, 0))), (4, vi l4), (5, vi l4)] 125 [] Q) : Z E YX1_moves (d + 1) M [(0, vr (some (16, 0, 0))), (4, vi l4)] 121 [] Q := by
  refine z_iload dX1_moves_121 rfl ?_
  refine z_ist dX1_moves_123 (by decide) (lv' := [(0, vr (some (16, 0, 0))), (4, vi l4), (5, vi l4)]) rfl ?_
  exact k
theorem sX1_moves_125 {E : zE} {d : Nat} {Q : zO → zM → Prop} (M : zM) (l4 : Int32) (l5 : Int32) (hw : cw M) (k : if l5 ≤ (l4 - (2 : Int32)) then (vp_in (l4 + (1 : Int32)) 14500 ∧ (vp_in (l4 - (2 : Int32)) 14500 ∧ (vp_in (l4 + (1 : Int32)) 14500 ∧ (vp_in (l4 - (2 : Int32)) 14500 ∧ (Z E YX1_moves (d + 1) (si (si M 53 ((l4 - (2 : Int32))).toNatClampNeg (vp_nar .byte (gi M 53 ((l4 + (1 : Int32))).toNatClampNeg))) 54 ((l4 - (2 : Int32))).toNatClampNeg (gi M 54 ((l4 + (1 : Int32))).toNatClampNeg)) [] 524 [] Q))))) else (vp_in (l5 - (1 : Int32)) 14500 ∧ (vp_in l5 14500 ∧ (vp_in (l5 - (1 : Int32)) 14500 ∧ (vp_in l5 14500 ∧ (Z E YX1_moves (d + 1) (si (si M 53 (l5).toNatClampNeg (vp_nar .byte (gi M 53 ((l5 - (1 : Int32))).toNatClampNeg))) 54 (l5).toNatClampNeg (gi M 54 ((l5 - (1 : Int32))).toNatClampNeg)) [(0, vr (some (16, 0, 0))), (4, vi l4), (5, vi (l5 + (-1 : Int32)))] 125 [] Q)))))) : Z E YX1_moves (d + 1) M [(0, vr (some (16, 0, 0))), (4, vi l4), (5, vi l5)] 125 [] Q := by
  refine z_iload dX1_moves_125 rfl ?_
  refine z_iload dX1_moves_127 rfl ?_
  refine z_iconst (v := 2) dX1_moves_129 rfl ?_
  refine z_isub dX1_moves_130 ?_
  refine z_icmp_le (tgt := 172) dX1_moves_131 rfl (fun h_ => ?_) (fun h_ => ?_)
  · have k := zit h_ k
    refine z_aload_n dX1_moves_172 rfl rfl ?_
    refine z_getr dX1_moves_173 fsX1_148_0 (show gr M 16 34 = some (53, 101, 14500) from cw_at hw 21 rfl) ?_
    refine z_iload dX1_moves_176 rfl ?_
    refine z_iconst (v := 2) dX1_moves_178 rfl ?_
    refine z_isub dX1_moves_179 ?_
    refine z_aload_n dX1_moves_180 rfl rfl ?_
    refine z_getr dX1_moves_181 fsX1_148_0 (show gr M 16 34 = some (53, 101, 14500) from cw_at hw 21 rfl) ?_
    refine z_iload dX1_moves_184 rfl ?_
    refine z_iconst (v := 1) dX1_moves_186 rfl ?_
    refine z_iadd dX1_moves_187 ?_
    obtain ⟨b_, k⟩ := k
    refine z_bald dX1_moves_188 b_ ?_
    obtain ⟨b_, k⟩ := k
    refine z_bast (by decide) dX1_moves_189 b_ ?_
    refine z_aload_n dX1_moves_190 rfl rfl ?_
    refine z_getr dX1_moves_191 fsX1_151_0 (show gr M 16 35 = some (54, 100, 14500) from cw_at hw 22 rfl) ?_
    refine z_iload dX1_moves_194 rfl ?_
    refine z_iconst (v := 2) dX1_moves_196 rfl ?_
    refine z_isub dX1_moves_197 ?_
    refine z_aload_n dX1_moves_198 rfl rfl ?_
    refine z_getr dX1_moves_199 fsX1_151_0 (show gr M 16 35 = some (54, 100, 14500) from cw_at hw 22 rfl) ?_
    refine z_iload dX1_moves_202 rfl ?_
    refine z_iconst (v := 1) dX1_moves_204 rfl ?_
    refine z_iadd dX1_moves_205 ?_
    obtain ⟨b_, k⟩ := k
    refine z_iald dX1_moves_206 b_ ?_
    obtain ⟨b_, k⟩ := k
    refine z_iast (by decide) dX1_moves_207 b_ ?_
    refine z_goto (tgt := 524) dX1_moves_208 rfl ?_
    refine Z.pick [] rfl ?_
    exact k
  · have k := zif h_ k
    refine z_aload_n dX1_moves_134 rfl rfl ?_
    refine z_getr dX1_moves_135 fsX1_148_0 (show gr M 16 34 = some (53, 101, 14500) from cw_at hw 21 rfl) ?_
    refine z_iload dX1_moves_138 rfl ?_
    refine z_aload_n dX1_moves_140 rfl rfl ?_
    refine z_getr dX1_moves_141 fsX1_148_0 (show gr M 16 34 = some (53, 101, 14500) from cw_at hw 21 rfl) ?_
    refine z_iload dX1_moves_144 rfl ?_
    refine z_iconst (v := 1) dX1_moves_146 rfl ?_
    refine z_isub dX1_moves_147 ?_
    obtain ⟨b_, k⟩ := k
    refine z_bald dX1_moves_148 b_ ?_
    obtain ⟨b_, k⟩ := k
    refine z_bast (by decide) dX1_moves_149 b_ ?_
    refine z_aload_n dX1_moves_150 rfl rfl ?_
    refine z_getr dX1_moves_151 fsX1_151_0 (show gr M 16 35 = some (54, 100, 14500) from cw_at hw 22 rfl) ?_
    refine z_iload dX1_moves_154 rfl ?_
    refine z_aload_n dX1_moves_156 rfl rfl ?_
    refine z_getr dX1_moves_157 fsX1_151_0 (show gr M 16 35 = some (54, 100, 14500) from cw_at hw 22 rfl) ?_
    refine z_iload dX1_moves_160 rfl ?_
    refine z_iconst (v := 1) dX1_moves_162 rfl ?_
    refine z_isub dX1_moves_163 ?_
    obtain ⟨b_, k⟩ := k
    refine z_iald dX1_moves_164 b_ ?_
    obtain ⟨b_, k⟩ := k
    refine z_iast (by decide) dX1_moves_165 b_ ?_
    refine z_inc (v := (l5 + (-1 : Int32))) dX1_moves_166 rfl rfl (by decide) (lv' := [(0, vr (some (16, 0, 0))), (4, vi l4), (5, vi (l5 + (-1 : Int32)))]) rfl ?_
    refine z_goto (tgt := 125) dX1_moves_169 rfl ?_
    exact k
theorem sX1_moves_239 {E : zE} {d : Nat} {Q : zO → zM → Prop} (M : zM) (l2 : Int32) (l3 : Int32) (s0 : Int32) (hw : cw M) (k : if s0 = 0 then (vp_in l3 24 ∧ (Z E YX1_moves (d + 1) (si M 59 (l3).toNatClampNeg (vp_nar .short (l2).toInt16.toInt32)) [] 524 [] Q)) else (Z E YX1_moves (d + 1) M [] 524 [] Q)) : Z E YX1_moves (d + 1) M [(0, vr (some (16, 0, 0))), (2, vi l2), (3, vi l3)] 239 [vi s0] Q := by
  refine z_if_ne (tgt := 524) dX1_moves_239 rfl (fun h_ => ?_) (fun h_ => ?_)
  · have k := zif h_ k
    refine Z.pick [] rfl ?_
    exact k
  · have k := zit h_ k
    refine z_aload_n dX1_moves_242 rfl rfl ?_
    refine z_getr dX1_moves_243 fsX1_166_0 (show gr M 16 41 = some (59, 102, 24) from cw_at hw 27 rfl) ?_
    refine z_iload_n dX1_moves_246 rfl rfl ?_
    refine z_iload_n dX1_moves_247 rfl rfl ?_
    refine z_i2s dX1_moves_248 ?_
    obtain ⟨b_, k⟩ := k
    refine z_sast (by decide) dX1_moves_249 b_ ?_
    refine z_goto (tgt := 524) dX1_moves_250 rfl ?_
    refine Z.pick [] rfl ?_
    exact k
theorem sX1_moves_271 {E : zE} {d : Nat} {Q : zO → zM → Prop} (M : zM) (l1 : Int32) (l2 : Int32) (l3 : Int32) (s0 : Int32) (hw : cw M) (k : vp_in l1 600 ∧ (if (gi M 30 (l1).toNatClampNeg) = (24 : Int32) then (Z E YX1_moves (d + 1) M [(0, vr (some (16, 0, 0))), (2, vi l2), (3, vi l3)] 290 [vi (1 : Int32), vi s0] Q) else (Z E YX1_moves (d + 1) M [(0, vr (some (16, 0, 0))), (2, vi l2), (3, vi l3)] 290 [vi (0 : Int32), vi s0] Q))) : Z E YX1_moves (d + 1) M [(0, vr (some (16, 0, 0))), (1, vi l1), (2, vi l2), (3, vi l3)] 271 [vi s0] Q := by
  refine z_aload_n dX1_moves_271 rfl rfl ?_
  refine z_getr dX1_moves_272 fsX1_89_0 (show gr M 16 9 = some (29, 3, 0) from cw_at hw 5 rfl) ?_
  refine z_getr dX1_moves_275 fsX1_334_3 (show gr M 29 0 = some (30, 101, 600) from cw_at hw 50 rfl) ?_
  refine z_iload_n dX1_moves_278 rfl rfl ?_
  obtain ⟨b_, k⟩ := k
  refine z_bald dX1_moves_279 b_ ?_
  refine z_bipush (v := 24) dX1_moves_280 rfl ?_
  refine z_icmp_ne (tgt := 289) dX1_moves_282 rfl (fun h_ => ?_) (fun h_ => ?_)
  · have k := zif h_ k
    refine z_iconst (v := 0) dX1_moves_289 rfl ?_
    refine Z.pick [0, 2, 3] rfl ?_
    exact k
  · have k := zit h_ k
    refine z_iconst (v := 1) dX1_moves_285 rfl ?_
    refine z_goto (tgt := 290) dX1_moves_286 rfl ?_
    refine Z.pick [0, 2, 3] rfl ?_
    exact k
theorem sX1_moves_290 {E : zE} {d : Nat} {Q : zO → zM → Prop} (M : zM) (l2 : Int32) (l3 : Int32) (s0 : Int32) (s1 : Int32) (hw : cw M) (k : if s1 = s0 then (vp_in l3 24 ∧ (Z E YX1_moves (d + 1) (si M 59 (l3).toNatClampNeg (vp_nar .short (l2).toInt16.toInt32)) [] 524 [] Q)) else (Z E YX1_moves (d + 1) (si M 16 38 ((gi M 16 38) - (1 : Int32))) [] 524 [] Q)) : Z E YX1_moves (d + 1) M [(0, vr (some (16, 0, 0))), (2, vi l2), (3, vi l3)] 290 [vi s0, vi s1] Q := by
  refine z_icmp_ne (tgt := 304) dX1_moves_290 rfl (fun h_ => ?_) (fun h_ => ?_)
  · have k := zif h_ k
    refine z_aload_n dX1_moves_304 rfl rfl ?_
    refine z_dup dX1_moves_305 rfl ?_
    refine z_geti dX1_moves_306 fsX1_440_0 ?_
    refine z_iconst (v := 1) dX1_moves_309 rfl ?_
    refine z_isub dX1_moves_310 ?_
    refine z_puti (by decide) dX1_moves_311 (zfwN.w fwX1_440_0) rfl ⟨rfl, rfl⟩ ?_
    refine z_goto (tgt := 524) dX1_moves_314 rfl ?_
    refine Z.pick [] rfl ?_
    exact k
  · have k := zit h_ k
    refine z_aload_n dX1_moves_293 rfl rfl ?_
    refine z_getr dX1_moves_294 fsX1_166_0 (show gr M 16 41 = some (59, 102, 24) from cw_at hw 27 rfl) ?_
    refine z_iload_n dX1_moves_297 rfl rfl ?_
    refine z_iload_n dX1_moves_298 rfl rfl ?_
    refine z_i2s dX1_moves_299 ?_
    obtain ⟨b_, k⟩ := k
    refine z_sast (by decide) dX1_moves_300 b_ ?_
    refine z_goto (tgt := 524) dX1_moves_301 rfl ?_
    refine Z.pick [] rfl ?_
    exact k
theorem sX1_moves_324 {E : zE} {d : Nat} {Q : zO → zM → Prop} (M : zM)  (hw : cw M) (k : Z E YX1_moves (d + 1) M [] 524 [] Q) : Z E YX1_moves (d + 1) M [] 324 [] Q := by
  refine z_goto (tgt := 524) dX1_moves_324 rfl ?_
  exact k
theorem sX1_moves_345 {E : zE} {d : Nat} {Q : zO → zM → Prop} (M : zM) (u0 : Option zP) (hw : cw M) (k : ∃ b1 : Nat, u0 = some (b1, 14, 0) ∧ (Q (.inr (b1, 14, 0)) M)) : Z E YX1_moves (d + 1) M [] 345 [vr u0] Q := by
  obtain ⟨b1, e1_, k⟩ := k
  refine Z.eqs (lv' := []) (st' := [vr (some (b1, 14, 0))]) rfl (by rw [e1_] <;> rfl) ?_
  exact z_athrow dX1_moves_345 (ZT.out (by decide) k)
theorem sX1_moves_430 {E : zE} {d : Nat} {Q : zO → zM → Prop} (M : zM) (l4 : Int32) (s0 : Int32) (s1 : Int32) (hw : cw M) (k : vp_in s1 14500 ∧ (vp_in l4 14500 ∧ (vp_in l4 14500 ∧ (vp_in l4 14500 ∧ (Z E YX1_moves (d + 1) (si (si (si (si M 54 (s1).toNatClampNeg s0) 53 (l4).toNatClampNeg (vp_nar .byte (8 : Int32))) 55 (l4).toNatClampNeg (gi M 16 29)) 56 (l4).toNatClampNeg (0 : Int32)) [] 524 [] Q))))) : Z E YX1_moves (d + 1) M [(0, vr (some (16, 0, 0))), (4, vi l4)] 430 [vi s0, vi s1, vr (some (54, 100, 14500))] Q := by
  obtain ⟨b_, k⟩ := k
  refine z_iast (by decide) dX1_moves_430 b_ ?_
  refine z_aload_n dX1_moves_431 rfl rfl ?_
  refine z_getr dX1_moves_432 fsX1_148_0 (show gr M 16 34 = some (53, 101, 14500) from cw_at hw 21 rfl) ?_
  refine z_iload dX1_moves_435 rfl ?_
  refine z_bipush (v := 8) dX1_moves_437 rfl ?_
  obtain ⟨b_, k⟩ := k
  refine z_bast (by decide) dX1_moves_439 b_ ?_
  refine z_aload_n dX1_moves_440 rfl rfl ?_
  refine z_getr dX1_moves_441 fsX1_154_0 (show gr M 16 36 = some (55, 100, 14500) from cw_at hw 23 rfl) ?_
  refine z_iload dX1_moves_444 rfl ?_
  refine z_aload_n dX1_moves_446 rfl rfl ?_
  refine z_geti dX1_moves_447 fsX1_355_0 ?_
  obtain ⟨b_, k⟩ := k
  refine z_iast (by decide) dX1_moves_450 b_ ?_
  refine z_aload_n dX1_moves_451 rfl rfl ?_
  refine z_getr dX1_moves_452 fsX1_157_0 (show gr M 16 37 = some (56, 100, 14500) from cw_at hw 24 rfl) ?_
  refine z_iload dX1_moves_455 rfl ?_
  refine z_iconst (v := 0) dX1_moves_457 rfl ?_
  obtain ⟨b_, k⟩ := k
  refine z_iast (by decide) dX1_moves_458 b_ ?_
  refine z_goto (tgt := 524) dX1_moves_459 rfl ?_
  refine Z.pick [] rfl ?_
  exact k
theorem sX1_moves_468 {E : zE} {d : Nat} {Q : zO → zM → Prop} (M : zM) (l2 : Int32) (l3 : Int32) (l4 : Int32) (s0 : Int32) (hw : cw M) (k : if s0 = (-1 : Int32) then (vp_in l3 24 ∧ (Z E YX1_moves (d + 1) (si (si M 16 38 ((gi M 16 38) - (1 : Int32))) 59 (l3).toNatClampNeg (vp_nar .short (l2).toInt16.toInt32)) [] 524 [] Q)) else (vp_in s0 3000 ∧ (vp_in l4 14500 ∧ (vp_in s0 3000 ∧ (Z E YX1_push d (si M 56 (l4).toNatClampNeg (gi M 50 (s0).toNatClampNeg)) (zargs 0 [vr (some (16, 0, 0)), vi (6 : Int32), vi (gi M 46 (s0).toNatClampNeg)]) 0 [] (zafter E YX1_moves (d + 1) [] 521 3 [] Q)))))) : Z E YX1_moves (d + 1) M [(0, vr (some (16, 0, 0))), (2, vi l2), (3, vi l3), (4, vi l4)] 468 [vi s0] Q := by
  refine z_ist dX1_moves_468 (by decide) (lv' := [(0, vr (some (16, 0, 0))), (2, vi l2), (3, vi l3), (4, vi l4), (5, vi s0)]) rfl ?_
  refine z_iload dX1_moves_470 rfl ?_
  refine z_iconst (v := -1) dX1_moves_472 rfl ?_
  refine z_icmp_ne (tgt := 497) dX1_moves_473 rfl (fun h_ => ?_) (fun h_ => ?_)
  · have k := zif h_ k
    refine z_aload_n dX1_moves_497 rfl rfl ?_
    refine z_getr dX1_moves_498 fsX1_157_0 (show gr M 16 37 = some (56, 100, 14500) from cw_at hw 24 rfl) ?_
    refine z_iload dX1_moves_501 rfl ?_
    refine z_aload_n dX1_moves_503 rfl rfl ?_
    refine z_getr dX1_moves_504 fsX1_131_0 (show gr M 16 25 = some (50, 100, 3000) from cw_at hw 18 rfl) ?_
    refine z_iload dX1_moves_507 rfl ?_
    obtain ⟨b_, k⟩ := k
    refine z_iald dX1_moves_509 b_ ?_
    obtain ⟨b_, k⟩ := k
    refine z_iast (by decide) dX1_moves_510 b_ ?_
    refine z_aload_n dX1_moves_511 rfl rfl ?_
    refine z_bipush (v := 6) dX1_moves_512 rfl ?_
    refine z_aload_n dX1_moves_514 rfl rfl ?_
    refine z_getr dX1_moves_515 fsX1_118_0 (show gr M 16 21 = some (46, 102, 3000) from cw_at hw 14 rfl) ?_
    refine z_iload dX1_moves_518 rfl ?_
    obtain ⟨b_, k⟩ := k
    refine z_sald dX1_moves_520 b_ ?_
    refine Z.pick [] rfl ?_
    exact z_callV (as := [vi (6 : Int32), vi (gi M 46 (s0).toNatClampNeg)]) (st := []) dX1_moves_521 vsX1_476_0 (Nat.le_refl _) (Nat.le_of_ble_eq_true rfl) (Nat.le_of_ble_eq_true rfl) rfl k
  · have k := zit h_ k
    refine z_aload_n dX1_moves_476 rfl rfl ?_
    refine z_dup dX1_moves_477 rfl ?_
    refine z_geti dX1_moves_478 fsX1_440_0 ?_
    refine z_iconst (v := 1) dX1_moves_481 rfl ?_
    refine z_isub dX1_moves_482 ?_
    refine z_puti (by decide) dX1_moves_483 (zfwN.w fwX1_440_0) rfl ⟨rfl, rfl⟩ ?_
    refine z_aload_n dX1_moves_486 rfl rfl ?_
    refine z_getr dX1_moves_487 fsX1_166_0 (show gr M 16 41 = some (59, 102, 24) from cw_at hw 27 rfl) ?_
    refine z_iload_n dX1_moves_490 rfl rfl ?_
    refine z_iload_n dX1_moves_491 rfl rfl ?_
    refine z_i2s dX1_moves_492 ?_
    obtain ⟨b_, k⟩ := k
    refine z_sast (by decide) dX1_moves_493 b_ ?_
    refine z_goto (tgt := 524) dX1_moves_494 rfl ?_
    refine Z.pick [] rfl ?_
    exact k
theorem sX1_moves_524 {E : zE} {d : Nat} {Q : zO → zM → Prop} (M : zM)  (hw : cw M) (k : Q (.inl none) M) : Z E YX1_moves (d + 1) M [] 524 [] Q := by
  exact z_vret dX1_moves_524 rfl k
