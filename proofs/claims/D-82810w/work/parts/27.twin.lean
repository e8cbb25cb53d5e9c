/-! ScriptTypesModel.renameIn(II)V -/
theorem bX8_renameIn_0 : zdec cX8_renameIn 0 [(0, .aload_n 0, 1), (1, .getfield 220, 3), (4, .iload_n 1, 1), (5, .laload, 1), (6, .aload_n 0, 1), (7, .getfield 223, 3), (10, .iload_n 1, 1), (11, .laload, 1), (12, .iload_n 2, 1), (13, .invokestatic 1125, 3), (16, .ifCond .ne 4, 3), (19, .return_, 1), (20, .iload_n 2, 1), (21, .bipush 64, 2), (23, .if_icmp .ge 26, 3), (26, .aload_n 0, 1)] = true := by decide +kernel
theorem dX8_renameIn_0 : decode cX8_renameIn 0 = .ok (.aload_n 0, 1) := zdec_at bX8_renameIn_0 0 rfl
theorem dX8_renameIn_1 : decode cX8_renameIn 1 = .ok (.getfield 220, 3) := zdec_at bX8_renameIn_0 1 rfl
theorem dX8_renameIn_4 : decode cX8_renameIn 4 = .ok (.iload_n 1, 1) := zdec_at bX8_renameIn_0 2 rfl
theorem dX8_renameIn_5 : decode cX8_renameIn 5 = .ok (.laload, 1) := zdec_at bX8_renameIn_0 3 rfl
theorem dX8_renameIn_6 : decode cX8_renameIn 6 = .ok (.aload_n 0, 1) := zdec_at bX8_renameIn_0 4 rfl
theorem dX8_renameIn_7 : decode cX8_renameIn 7 = .ok (.getfield 223, 3) := zdec_at bX8_renameIn_0 5 rfl
theorem dX8_renameIn_10 : decode cX8_renameIn 10 = .ok (.iload_n 1, 1) := zdec_at bX8_renameIn_0 6 rfl
theorem dX8_renameIn_11 : decode cX8_renameIn 11 = .ok (.laload, 1) := zdec_at bX8_renameIn_0 7 rfl
theorem dX8_renameIn_12 : decode cX8_renameIn 12 = .ok (.iload_n 2, 1) := zdec_at bX8_renameIn_0 8 rfl
theorem dX8_renameIn_13 : decode cX8_renameIn 13 = .ok (.invokestatic 1125, 3) := zdec_at bX8_renameIn_0 9 rfl
theorem dX8_renameIn_16 : decode cX8_renameIn 16 = .ok (.ifCond .ne 4, 3) := zdec_at bX8_renameIn_0 10 rfl
theorem dX8_renameIn_19 : decode cX8_renameIn 19 = .ok (.return_, 1) := zdec_at bX8_renameIn_0 11 rfl
theorem dX8_renameIn_20 : decode cX8_renameIn 20 = .ok (.iload_n 2, 1) := zdec_at bX8_renameIn_0 12 rfl
theorem dX8_renameIn_21 : decode cX8_renameIn 21 = .ok (.bipush 64, 2) := zdec_at bX8_renameIn_0 13 rfl
theorem dX8_renameIn_23 : decode cX8_renameIn 23 = .ok (.if_icmp .ge 26, 3) := zdec_at bX8_renameIn_0 14 rfl
theorem dX8_renameIn_26 : decode cX8_renameIn 26 = .ok (.aload_n 0, 1) := zdec_at bX8_renameIn_0 15 rfl
theorem bX8_renameIn_27 : zdec cX8_renameIn 27 [(27, .getfield 220, 3), (30, .iload_n 1, 1), (31, .aload_n 0, 1), (32, .getfield 220, 3), (35, .iload_n 1, 1), (36, .laload, 1), (37, .lconst 1, 1), (38, .iload_n 2, 1), (39, .lshl, 1), (40, .ldc2_w 1110, 3), (43, .lxor, 1), (44, .land, 1), (45, .lastore, 1), (46, .goto 26, 3), (49, .aload_n 0, 1), (50, .getfield 223, 3)] = true := by decide +kernel
theorem dX8_renameIn_27 : decode cX8_renameIn 27 = .ok (.getfield 220, 3) := zdec_at bX8_renameIn_27 0 rfl
theorem dX8_renameIn_30 : decode cX8_renameIn 30 = .ok (.iload_n 1, 1) := zdec_at bX8_renameIn_27 1 rfl
theorem dX8_renameIn_31 : decode cX8_renameIn 31 = .ok (.aload_n 0, 1) := zdec_at bX8_renameIn_27 2 rfl
theorem dX8_renameIn_32 : decode cX8_renameIn 32 = .ok (.getfield 220, 3) := zdec_at bX8_renameIn_27 3 rfl
theorem dX8_renameIn_35 : decode cX8_renameIn 35 = .ok (.iload_n 1, 1) := zdec_at bX8_renameIn_27 4 rfl
theorem dX8_renameIn_36 : decode cX8_renameIn 36 = .ok (.laload, 1) := zdec_at bX8_renameIn_27 5 rfl
theorem dX8_renameIn_37 : decode cX8_renameIn 37 = .ok (.lconst 1, 1) := zdec_at bX8_renameIn_27 6 rfl
theorem dX8_renameIn_38 : decode cX8_renameIn 38 = .ok (.iload_n 2, 1) := zdec_at bX8_renameIn_27 7 rfl
theorem dX8_renameIn_39 : decode cX8_renameIn 39 = .ok (.lshl, 1) := zdec_at bX8_renameIn_27 8 rfl
theorem dX8_renameIn_40 : decode cX8_renameIn 40 = .ok (.ldc2_w 1110, 3) := zdec_at bX8_renameIn_27 9 rfl
theorem dX8_renameIn_43 : decode cX8_renameIn 43 = .ok (.lxor, 1) := zdec_at bX8_renameIn_27 10 rfl
theorem dX8_renameIn_44 : decode cX8_renameIn 44 = .ok (.land, 1) := zdec_at bX8_renameIn_27 11 rfl
theorem dX8_renameIn_45 : decode cX8_renameIn 45 = .ok (.lastore, 1) := zdec_at bX8_renameIn_27 12 rfl
theorem dX8_renameIn_46 : decode cX8_renameIn 46 = .ok (.goto 26, 3) := zdec_at bX8_renameIn_27 13 rfl
theorem dX8_renameIn_49 : decode cX8_renameIn 49 = .ok (.aload_n 0, 1) := zdec_at bX8_renameIn_27 14 rfl
theorem dX8_renameIn_50 : decode cX8_renameIn 50 = .ok (.getfield 223, 3) := zdec_at bX8_renameIn_27 15 rfl
theorem bX8_renameIn_53 : zdec cX8_renameIn 53 [(53, .iload_n 1, 1), (54, .aload_n 0, 1), (55, .getfield 223, 3), (58, .iload_n 1, 1), (59, .laload, 1), (60, .lconst 1, 1), (61, .iload_n 2, 1), (62, .bipush 64, 2), (64, .isub, 1), (65, .lshl, 1), (66, .ldc2_w 1110, 3), (69, .lxor, 1), (70, .land, 1), (71, .lastore, 1), (72, .aload_n 0, 1), (73, .iload_n 1, 1)] = true := by decide +kernel
theorem dX8_renameIn_53 : decode cX8_renameIn 53 = .ok (.iload_n 1, 1) := zdec_at bX8_renameIn_53 0 rfl
theorem dX8_renameIn_54 : decode cX8_renameIn 54 = .ok (.aload_n 0, 1) := zdec_at bX8_renameIn_53 1 rfl
theorem dX8_renameIn_55 : decode cX8_renameIn 55 = .ok (.getfield 223, 3) := zdec_at bX8_renameIn_53 2 rfl
theorem dX8_renameIn_58 : decode cX8_renameIn 58 = .ok (.iload_n 1, 1) := zdec_at bX8_renameIn_53 3 rfl
theorem dX8_renameIn_59 : decode cX8_renameIn 59 = .ok (.laload, 1) := zdec_at bX8_renameIn_53 4 rfl
theorem dX8_renameIn_60 : decode cX8_renameIn 60 = .ok (.lconst 1, 1) := zdec_at bX8_renameIn_53 5 rfl
theorem dX8_renameIn_61 : decode cX8_renameIn 61 = .ok (.iload_n 2, 1) := zdec_at bX8_renameIn_53 6 rfl
theorem dX8_renameIn_62 : decode cX8_renameIn 62 = .ok (.bipush 64, 2) := zdec_at bX8_renameIn_53 7 rfl
theorem dX8_renameIn_64 : decode cX8_renameIn 64 = .ok (.isub, 1) := zdec_at bX8_renameIn_53 8 rfl
theorem dX8_renameIn_65 : decode cX8_renameIn 65 = .ok (.lshl, 1) := zdec_at bX8_renameIn_53 9 rfl
theorem dX8_renameIn_66 : decode cX8_renameIn 66 = .ok (.ldc2_w 1110, 3) := zdec_at bX8_renameIn_53 10 rfl
theorem dX8_renameIn_69 : decode cX8_renameIn 69 = .ok (.lxor, 1) := zdec_at bX8_renameIn_53 11 rfl
theorem dX8_renameIn_70 : decode cX8_renameIn 70 = .ok (.land, 1) := zdec_at bX8_renameIn_53 12 rfl
theorem dX8_renameIn_71 : decode cX8_renameIn 71 = .ok (.lastore, 1) := zdec_at bX8_renameIn_53 13 rfl
theorem dX8_renameIn_72 : decode cX8_renameIn 72 = .ok (.aload_n 0, 1) := zdec_at bX8_renameIn_53 14 rfl
theorem dX8_renameIn_73 : decode cX8_renameIn 73 = .ok (.iload_n 1, 1) := zdec_at bX8_renameIn_53 15 rfl
theorem bX8_renameIn_74 : zdec cX8_renameIn 74 [(74, .iload_n 2, 1), (75, .iconst 1, 1), (76, .iadd, 1), (77, .invokevirtual 1081, 3), (80, .return_, 1)] = true := by decide +kernel
theorem dX8_renameIn_74 : decode cX8_renameIn 74 = .ok (.iload_n 2, 1) := zdec_at bX8_renameIn_74 0 rfl
theorem dX8_renameIn_75 : decode cX8_renameIn 75 = .ok (.iconst 1, 1) := zdec_at bX8_renameIn_74 1 rfl
theorem dX8_renameIn_76 : decode cX8_renameIn 76 = .ok (.iadd, 1) := zdec_at bX8_renameIn_74 2 rfl
theorem dX8_renameIn_77 : decode cX8_renameIn 77 = .ok (.invokevirtual 1081, 3) := zdec_at bX8_renameIn_74 3 rfl
theorem dX8_renameIn_80 : decode cX8_renameIn 80 = .ok (.return_, 1) := zdec_at bX8_renameIn_74 4 rfl
theorem sX8_renameIn_0 {E : zE} {d : Nat} {Q : zO → zM → Prop} (M : zM) (l1 : Int32) (l2 : Int32) (k : vp_in l1 647800 ∧ (vp_in l1 647800 ∧ (Zm E YX8_isIn d M (zargs 0 [vl (gl M 166 (l1).toNatClampNeg), vl (gl M 167 (l1).toNatClampNeg), vi l2]) 0 [] (zma E YX8_renameIn (d + 1) [(0, vr (some (97, 1, 0))), (1, vi l1), (2, vi l2)] 13 3 [] Q)))) : Zm E YX8_renameIn (d + 1) M [(0, vr (some (97, 1, 0))), (1, vi l1), (2, vi l2)] 0 [] Q := by
  refine Zm.l (fun _ _ k_ => z_aload_n dX8_renameIn_0 rfl rfl k_) ?_
  refine zm_getr 63 dX8_renameIn_1 fsX8_220_1 rfl ?_
  refine Zm.l (fun _ _ k_ => z_iload_n dX8_renameIn_4 rfl rfl k_) ?_
  obtain ⟨b_, k⟩ := k
  refine zm_lald dX8_renameIn_5 b_ (by decide) (by decide) ?_
  refine Zm.l (fun _ _ k_ => z_aload_n dX8_renameIn_6 rfl rfl k_) ?_
  refine zm_getr 64 dX8_renameIn_7 fsX8_223_1 rfl ?_
  refine Zm.l (fun _ _ k_ => z_iload_n dX8_renameIn_10 rfl rfl k_) ?_
  obtain ⟨b_, k⟩ := k
  refine zm_lald dX8_renameIn_11 b_ (by decide) (by decide) ?_
  refine Zm.l (fun _ _ k_ => z_iload_n dX8_renameIn_12 rfl rfl k_) ?_
  exact zm_callS (as := [vl (gl M 166 (l1).toNatClampNeg), vl (gl M 167 (l1).toNatClampNeg), vi l2]) (st := []) dX8_renameIn_13 ssX8_1125 (Nat.le_refl _) (Nat.le_of_ble_eq_true rfl) (Nat.le_of_ble_eq_true rfl) rfl k
theorem sX8_renameIn_16 {E : zE} {d : Nat} {Q : zO → zM → Prop} (M : zM) (l1 : Int32) (l2 : Int32) (s0 : Int32) (k : if s0 = 0 then (Q (.inl none) M) else (if (64 : Int32) ≤ l2 then (vp_in l1 647800 ∧ (vp_in l1 647800 ∧ (Zm E YX8_addLabel d (sl M 167 (l1).toNatClampNeg ((gl M 167 (l1).toNatClampNeg) &&& ((zls (1 : Int64) (l2 - (64 : Int32))) ^^^ (-1 : Int64)))) (zargs 0 [vr (some (97, 1, 0)), vi l1, vi (l2 + (1 : Int32))]) 0 [] (zma E YX8_renameIn (d + 1) [] 77 3 [] Q)))) else (vp_in l1 647800 ∧ (vp_in l1 647800 ∧ (Zm E YX8_addLabel d (sl M 166 (l1).toNatClampNeg ((gl M 166 (l1).toNatClampNeg) &&& ((zls (1 : Int64) l2) ^^^ (-1 : Int64)))) (zargs 0 [vr (some (97, 1, 0)), vi l1, vi (l2 + (1 : Int32))]) 0 [] (zma E YX8_renameIn (d + 1) [] 77 3 [] Q)))))) : Zm E YX8_renameIn (d + 1) M [(0, vr (some (97, 1, 0))), (1, vi l1), (2, vi l2)] 16 [vi s0] Q := by
  refine Zm.brn (fun _ _ k1_ k2_ => z_if_ne (tgt := 20) dX8_renameIn_16 rfl k1_ k2_) (fun h_ => ?_) (fun h_ => ?_)
  · have k := zif h_ k
    refine Zm.l (fun _ _ k_ => z_iload_n dX8_renameIn_20 rfl rfl k_) ?_
    refine Zm.l (fun _ _ k_ => z_bipush (v := 64) dX8_renameIn_21 rfl k_) ?_
    refine Zm.br (fun _ _ k1_ k2_ => z_icmp_ge (tgt := 49) dX8_renameIn_23 rfl k1_ k2_) (fun h_ => ?_) (fun h_ => ?_)
    · have k := zit h_ k
      refine Zm.l (fun _ _ k_ => z_aload_n dX8_renameIn_49 rfl rfl k_) ?_
      refine zm_getr 64 dX8_renameIn_50 fsX8_223_1 rfl ?_
      refine Zm.l (fun _ _ k_ => z_iload_n dX8_renameIn_53 rfl rfl k_) ?_
      refine Zm.l (fun _ _ k_ => z_aload_n dX8_renameIn_54 rfl rfl k_) ?_
      refine zm_getr 64 dX8_renameIn_55 fsX8_223_1 rfl ?_
      refine Zm.l (fun _ _ k_ => z_iload_n dX8_renameIn_58 rfl rfl k_) ?_
      obtain ⟨b_, k⟩ := k
      refine zm_lald dX8_renameIn_59 b_ (by decide) (by decide) ?_
      refine Zm.l (fun _ _ k_ => z_lconst (v := 1) dX8_renameIn_60 rfl k_) ?_
      refine Zm.l (fun _ _ k_ => z_iload_n dX8_renameIn_61 rfl rfl k_) ?_
      refine Zm.l (fun _ _ k_ => z_bipush (v := 64) dX8_renameIn_62 rfl k_) ?_
      refine Zm.l (fun _ _ k_ => z_isub dX8_renameIn_64 k_) ?_
      refine Zm.l (fun _ _ k_ => z_lshl dX8_renameIn_65 k_) ?_
      refine Zm.l (fun _ _ k_ => z_ldc2 (v := -1) dX8_renameIn_66 q4859 k_) ?_
      refine Zm.l (fun _ _ k_ => z_lxor dX8_renameIn_69 k_) ?_
      refine Zm.l (fun _ _ k_ => z_land dX8_renameIn_70 k_) ?_
      obtain ⟨b_, k⟩ := k
      refine zm_last dX8_renameIn_71 b_ (by decide) (by decide) ?_
      refine Zm.l (fun _ _ k_ => z_aload_n dX8_renameIn_72 rfl rfl k_) ?_
      refine Zm.l (fun _ _ k_ => z_iload_n dX8_renameIn_73 rfl rfl k_) ?_
      refine Zm.l (fun _ _ k_ => z_iload_n dX8_renameIn_74 rfl rfl k_) ?_
      refine Zm.l (fun _ _ k_ => z_iconst (v := 1) dX8_renameIn_75 rfl k_) ?_
      refine Zm.l (fun _ _ k_ => z_iadd dX8_renameIn_76 k_) ?_
      refine Zm.pick [] rfl ?_
      exact zm_callV (as := [vi l1, vi (l2 + (1 : Int32))]) (st := []) dX8_renameIn_77 vsX8_1081_1 (Nat.le_refl _) (Nat.le_of_ble_eq_true rfl) (Nat.le_of_ble_eq_true rfl) rfl k
    · have k := zif h_ k
      refine Zm.l (fun _ _ k_ => z_aload_n dX8_renameIn_26 rfl rfl k_) ?_
      refine zm_getr 63 dX8_renameIn_27 fsX8_220_1 rfl ?_
      refine Zm.l (fun _ _ k_ => z_iload_n dX8_renameIn_30 rfl rfl k_) ?_
      refine Zm.l (fun _ _ k_ => z_aload_n dX8_renameIn_31 rfl rfl k_) ?_
      refine zm_getr 63 dX8_renameIn_32 fsX8_220_1 rfl ?_
      refine Zm.l (fun _ _ k_ => z_iload_n dX8_renameIn_35 rfl rfl k_) ?_
      obtain ⟨b_, k⟩ := k
      refine zm_lald dX8_renameIn_36 b_ (by decide) (by decide) ?_
      refine Zm.l (fun _ _ k_ => z_lconst (v := 1) dX8_renameIn_37 rfl k_) ?_
      refine Zm.l (fun _ _ k_ => z_iload_n dX8_renameIn_38 rfl rfl k_) ?_
      refine Zm.l (fun _ _ k_ => z_lshl dX8_renameIn_39 k_) ?_
      refine Zm.l (fun _ _ k_ => z_ldc2 (v := -1) dX8_renameIn_40 q4859 k_) ?_
      refine Zm.l (fun _ _ k_ => z_lxor dX8_renameIn_43 k_) ?_
      refine Zm.l (fun _ _ k_ => z_land dX8_renameIn_44 k_) ?_
      obtain ⟨b_, k⟩ := k
      refine zm_last dX8_renameIn_45 b_ (by decide) (by decide) ?_
      refine Zm.l (fun _ _ k_ => z_goto (tgt := 72) dX8_renameIn_46 rfl k_) ?_
      refine Zm.l (fun _ _ k_ => z_aload_n dX8_renameIn_72 rfl rfl k_) ?_
      refine Zm.l (fun _ _ k_ => z_iload_n dX8_renameIn_73 rfl rfl k_) ?_
      refine Zm.l (fun _ _ k_ => z_iload_n dX8_renameIn_74 rfl rfl k_) ?_
      refine Zm.l (fun _ _ k_ => z_iconst (v := 1) dX8_renameIn_75 rfl k_) ?_
      refine Zm.l (fun _ _ k_ => z_iadd dX8_renameIn_76 k_) ?_
      refine Zm.pick [] rfl ?_
      exact zm_callV (as := [vi l1, vi (l2 + (1 : Int32))]) (st := []) dX8_renameIn_77 vsX8_1081_1 (Nat.le_refl _) (Nat.le_of_ble_eq_true rfl) (Nat.le_of_ble_eq_true rfl) rfl k
  · have k := zit h_ k
    exact zm_vret dX8_renameIn_19 rfl k
theorem sX8_renameIn_80 {E : zE} {d : Nat} {Q : zO → zM → Prop} (M : zM)  (k : Q (.inl none) M) : Zm E YX8_renameIn (d + 1) M [] 80 [] Q := by
  exact zm_vret dX8_renameIn_80 rfl k
/-! ScriptTypesModel.waysOfGet()V -/
theorem bX8_waysOfGet_0 : zdec cX8_waysOfGet 0 [(0, .aload_n 0, 1), (1, .iconst 1, 1), (2, .invokevirtual 1195, 3), (5, .istore_n 1, 1), (6, .aload_n 0, 1), (7, .iconst 0, 1), (8, .invokevirtual 1195, 3), (11, .istore_n 2, 1), (12, .ldc_w 1218, 3), (15, .istore_n 3, 1), (16, .aload_n 0, 1), (17, .iload_n 1, 1), (18, .invokevirtual 1059, 3), (21, .istore 4, 2), (23, .aload_n 0, 1), (24, .iload_n 3, 1)] = true := by decide +kernel
theorem dX8_waysOfGet_0 : decode cX8_waysOfGet 0 = .ok (.aload_n 0, 1) := zdec_at bX8_waysOfGet_0 0 rfl
theorem dX8_waysOfGet_1 : decode cX8_waysOfGet 1 = .ok (.iconst 1, 1) := zdec_at bX8_waysOfGet_0 1 rfl
theorem dX8_waysOfGet_2 : decode cX8_waysOfGet 2 = .ok (.invokevirtual 1195, 3) := zdec_at bX8_waysOfGet_0 2 rfl
theorem dX8_waysOfGet_5 : decode cX8_waysOfGet 5 = .ok (.istore_n 1, 1) := zdec_at bX8_waysOfGet_0 3 rfl
theorem dX8_waysOfGet_6 : decode cX8_waysOfGet 6 = .ok (.aload_n 0, 1) := zdec_at bX8_waysOfGet_0 4 rfl
theorem dX8_waysOfGet_7 : decode cX8_waysOfGet 7 = .ok (.iconst 0, 1) := zdec_at bX8_waysOfGet_0 5 rfl
theorem dX8_waysOfGet_8 : decode cX8_waysOfGet 8 = .ok (.invokevirtual 1195, 3) := zdec_at bX8_waysOfGet_0 6 rfl
theorem dX8_waysOfGet_11 : decode cX8_waysOfGet 11 = .ok (.istore_n 2, 1) := zdec_at bX8_waysOfGet_0 7 rfl
theorem dX8_waysOfGet_12 : decode cX8_waysOfGet 12 = .ok (.ldc_w 1218, 3) := zdec_at bX8_waysOfGet_0 8 rfl
theorem dX8_waysOfGet_15 : decode cX8_waysOfGet 15 = .ok (.istore_n 3, 1) := zdec_at bX8_waysOfGet_0 9 rfl
theorem dX8_waysOfGet_16 : decode cX8_waysOfGet 16 = .ok (.aload_n 0, 1) := zdec_at bX8_waysOfGet_0 10 rfl
theorem dX8_waysOfGet_17 : decode cX8_waysOfGet 17 = .ok (.iload_n 1, 1) := zdec_at bX8_waysOfGet_0 11 rfl
theorem dX8_waysOfGet_18 : decode cX8_waysOfGet 18 = .ok (.invokevirtual 1059, 3) := zdec_at bX8_waysOfGet_0 12 rfl
theorem dX8_waysOfGet_21 : decode cX8_waysOfGet 21 = .ok (.istore 4, 2) := zdec_at bX8_waysOfGet_0 13 rfl
theorem dX8_waysOfGet_23 : decode cX8_waysOfGet 23 = .ok (.aload_n 0, 1) := zdec_at bX8_waysOfGet_0 14 rfl
theorem dX8_waysOfGet_24 : decode cX8_waysOfGet 24 = .ok (.iload_n 3, 1) := zdec_at bX8_waysOfGet_0 15 rfl
theorem bX8_waysOfGet_25 : zdec cX8_waysOfGet 25 [(25, .invokevirtual 1066, 3), (28, .iload 4, 2), (30, .bipush 124, 2), (32, .iand, 1), (33, .ifCond .eq 9, 3), (36, .aload_n 0, 1), (37, .iload_n 3, 1), (38, .iconst 1, 1), (39, .invokevirtual 1072, 3), (42, .aload_n 0, 1), (43, .iload_n 2, 1), (44, .invokevirtual 1147, 3), (47, .iload 4, 2), (49, .sipush 384, 3), (52, .iand, 1), (53, .ifCond .eq 9, 3)] = true := by decide +kernel
theorem dX8_waysOfGet_25 : decode cX8_waysOfGet 25 = .ok (.invokevirtual 1066, 3) := zdec_at bX8_waysOfGet_25 0 rfl
theorem dX8_waysOfGet_28 : decode cX8_waysOfGet 28 = .ok (.iload 4, 2) := zdec_at bX8_waysOfGet_25 1 rfl
theorem dX8_waysOfGet_30 : decode cX8_waysOfGet 30 = .ok (.bipush 124, 2) := zdec_at bX8_waysOfGet_25 2 rfl
theorem dX8_waysOfGet_32 : decode cX8_waysOfGet 32 = .ok (.iand, 1) := zdec_at bX8_waysOfGet_25 3 rfl
theorem dX8_waysOfGet_33 : decode cX8_waysOfGet 33 = .ok (.ifCond .eq 9, 3) := zdec_at bX8_waysOfGet_25 4 rfl
theorem dX8_waysOfGet_36 : decode cX8_waysOfGet 36 = .ok (.aload_n 0, 1) := zdec_at bX8_waysOfGet_25 5 rfl
theorem dX8_waysOfGet_37 : decode cX8_waysOfGet 37 = .ok (.iload_n 3, 1) := zdec_at bX8_waysOfGet_25 6 rfl
theorem dX8_waysOfGet_38 : decode cX8_waysOfGet 38 = .ok (.iconst 1, 1) := zdec_at bX8_waysOfGet_25 7 rfl
theorem dX8_waysOfGet_39 : decode cX8_waysOfGet 39 = .ok (.invokevirtual 1072, 3) := zdec_at bX8_waysOfGet_25 8 rfl
theorem dX8_waysOfGet_42 : decode cX8_waysOfGet 42 = .ok (.aload_n 0, 1) := zdec_at bX8_waysOfGet_25 9 rfl
theorem dX8_waysOfGet_43 : decode cX8_waysOfGet 43 = .ok (.iload_n 2, 1) := zdec_at bX8_waysOfGet_25 10 rfl
theorem dX8_waysOfGet_44 : decode cX8_waysOfGet 44 = .ok (.invokevirtual 1147, 3) := zdec_at bX8_waysOfGet_25 11 rfl
theorem dX8_waysOfGet_47 : decode cX8_waysOfGet 47 = .ok (.iload 4, 2) := zdec_at bX8_waysOfGet_25 12 rfl
theorem dX8_waysOfGet_49 : decode cX8_waysOfGet 49 = .ok (.sipush 384, 3) := zdec_at bX8_waysOfGet_25 13 rfl
theorem dX8_waysOfGet_52 : decode cX8_waysOfGet 52 = .ok (.iand, 1) := zdec_at bX8_waysOfGet_25 14 rfl
theorem dX8_waysOfGet_53 : decode cX8_waysOfGet 53 = .ok (.ifCond .eq 9, 3) := zdec_at bX8_waysOfGet_25 15 rfl
theorem bX8_waysOfGet_56 : zdec cX8_waysOfGet 56 [(56, .aload_n 0, 1), (57, .iload_n 1, 1), (58, .iload_n 3, 1), (59, .invokevirtual 1303, 3), (62, .aload_n 0, 1), (63, .iload_n 2, 1), (64, .invokevirtual 1147, 3), (67, .aload_n 0, 1), (68, .iload_n 1, 1), (69, .invokevirtual 1062, 3), (72, .ifCond .eq 45, 3), (75, .aload_n 0, 1), (76, .aload_n 0, 1), (77, .getfield 220, 3), (80, .iload_n 1, 1), (81, .laload, 1)] = true := by decide +kernel
theorem dX8_waysOfGet_56 : decode cX8_waysOfGet 56 = .ok (.aload_n 0, 1) := zdec_at bX8_waysOfGet_56 0 rfl
theorem dX8_waysOfGet_57 : decode cX8_waysOfGet 57 = .ok (.iload_n 1, 1) := zdec_at bX8_waysOfGet_56 1 rfl
theorem dX8_waysOfGet_58 : decode cX8_waysOfGet 58 = .ok (.iload_n 3, 1) := zdec_at bX8_waysOfGet_56 2 rfl
theorem dX8_waysOfGet_59 : decode cX8_waysOfGet 59 = .ok (.invokevirtual 1303, 3) := zdec_at bX8_waysOfGet_56 3 rfl
theorem dX8_waysOfGet_62 : decode cX8_waysOfGet 62 = .ok (.aload_n 0, 1) := zdec_at bX8_waysOfGet_56 4 rfl
theorem dX8_waysOfGet_63 : decode cX8_waysOfGet 63 = .ok (.iload_n 2, 1) := zdec_at bX8_waysOfGet_56 5 rfl
theorem dX8_waysOfGet_64 : decode cX8_waysOfGet 64 = .ok (.invokevirtual 1147, 3) := zdec_at bX8_waysOfGet_56 6 rfl
theorem dX8_waysOfGet_67 : decode cX8_waysOfGet 67 = .ok (.aload_n 0, 1) := zdec_at bX8_waysOfGet_56 7 rfl
theorem dX8_waysOfGet_68 : decode cX8_waysOfGet 68 = .ok (.iload_n 1, 1) := zdec_at bX8_waysOfGet_56 8 rfl
theorem dX8_waysOfGet_69 : decode cX8_waysOfGet 69 = .ok (.invokevirtual 1062, 3) := zdec_at bX8_waysOfGet_56 9 rfl
theorem dX8_waysOfGet_72 : decode cX8_waysOfGet 72 = .ok (.ifCond .eq 45, 3) := zdec_at bX8_waysOfGet_56 10 rfl
theorem dX8_waysOfGet_75 : decode cX8_waysOfGet 75 = .ok (.aload_n 0, 1) := zdec_at bX8_waysOfGet_56 11 rfl
theorem dX8_waysOfGet_76 : decode cX8_waysOfGet 76 = .ok (.aload_n 0, 1) := zdec_at bX8_waysOfGet_56 12 rfl
theorem dX8_waysOfGet_77 : decode cX8_waysOfGet 77 = .ok (.getfield 220, 3) := zdec_at bX8_waysOfGet_56 13 rfl
theorem dX8_waysOfGet_80 : decode cX8_waysOfGet 80 = .ok (.iload_n 1, 1) := zdec_at bX8_waysOfGet_56 14 rfl
theorem dX8_waysOfGet_81 : decode cX8_waysOfGet 81 = .ok (.laload, 1) := zdec_at bX8_waysOfGet_56 15 rfl
theorem bX8_waysOfGet_82 : zdec cX8_waysOfGet 82 [(82, .aload_n 0, 1), (83, .getfield 223, 3), (86, .iload_n 1, 1), (87, .laload, 1), (88, .iload_n 3, 1), (89, .iconst 1, 1), (90, .iadd, 1), (91, .invokevirtual 1306, 3), (94, .aload_n 0, 1), (95, .iload_n 3, 1), (96, .iconst 1, 1), (97, .iadd, 1), (98, .iload_n 3, 1), (99, .invokevirtual 1069, 3), (102, .istore 5, 2), (104, .aload_n 0, 1)] = true := by decide +kernel
theorem dX8_waysOfGet_82 : decode cX8_waysOfGet 82 = .ok (.aload_n 0, 1) := zdec_at bX8_waysOfGet_82 0 rfl
theorem dX8_waysOfGet_83 : decode cX8_waysOfGet 83 = .ok (.getfield 223, 3) := zdec_at bX8_waysOfGet_82 1 rfl
theorem dX8_waysOfGet_86 : decode cX8_waysOfGet 86 = .ok (.iload_n 1, 1) := zdec_at bX8_waysOfGet_82 2 rfl
theorem dX8_waysOfGet_87 : decode cX8_waysOfGet 87 = .ok (.laload, 1) := zdec_at bX8_waysOfGet_82 3 rfl
theorem dX8_waysOfGet_88 : decode cX8_waysOfGet 88 = .ok (.iload_n 3, 1) := zdec_at bX8_waysOfGet_82 4 rfl
theorem dX8_waysOfGet_89 : decode cX8_waysOfGet 89 = .ok (.iconst 1, 1) := zdec_at bX8_waysOfGet_82 5 rfl
theorem dX8_waysOfGet_90 : decode cX8_waysOfGet 90 = .ok (.iadd, 1) := zdec_at bX8_waysOfGet_82 6 rfl
theorem dX8_waysOfGet_91 : decode cX8_waysOfGet 91 = .ok (.invokevirtual 1306, 3) := zdec_at bX8_waysOfGet_82 7 rfl
theorem dX8_waysOfGet_94 : decode cX8_waysOfGet 94 = .ok (.aload_n 0, 1) := zdec_at bX8_waysOfGet_82 8 rfl
theorem dX8_waysOfGet_95 : decode cX8_waysOfGet 95 = .ok (.iload_n 3, 1) := zdec_at bX8_waysOfGet_82 9 rfl
theorem dX8_waysOfGet_96 : decode cX8_waysOfGet 96 = .ok (.iconst 1, 1) := zdec_at bX8_waysOfGet_82 10 rfl
theorem dX8_waysOfGet_97 : decode cX8_waysOfGet 97 = .ok (.iadd, 1) := zdec_at bX8_waysOfGet_82 11 rfl
theorem dX8_waysOfGet_98 : decode cX8_waysOfGet 98 = .ok (.iload_n 3, 1) := zdec_at bX8_waysOfGet_82 12 rfl
theorem dX8_waysOfGet_99 : decode cX8_waysOfGet 99 = .ok (.invokevirtual 1069, 3) := zdec_at bX8_waysOfGet_82 13 rfl
theorem dX8_waysOfGet_102 : decode cX8_waysOfGet 102 = .ok (.istore 5, 2) := zdec_at bX8_waysOfGet_82 14 rfl
theorem dX8_waysOfGet_104 : decode cX8_waysOfGet 104 = .ok (.aload_n 0, 1) := zdec_at bX8_waysOfGet_82 15 rfl
theorem bX8_waysOfGet_105 : zdec cX8_waysOfGet 105 [(105, .getfield 1156, 3), (108, .ifCond .eq 9, 3), (111, .aload_n 0, 1), (112, .iload_n 3, 1), (113, .iconst 1, 1), (114, .invokevirtual 1072, 3), (117, .aload_n 0, 1), (118, .iload_n 1, 1), (119, .invokevirtual 1062, 3), (122, .ifCond .eq 24, 3), (125, .aload_n 0, 1), (126, .iload_n 3, 1), (127, .invokevirtual 1059, 3), (130, .iconst 1, 1), (131, .if_icmp .ne 15, 3), (134, .aload_n 0, 1)] = true := by decide +kernel
theorem dX8_waysOfGet_105 : decode cX8_waysOfGet 105 = .ok (.getfield 1156, 3) := zdec_at bX8_waysOfGet_105 0 rfl
theorem dX8_waysOfGet_108 : decode cX8_waysOfGet 108 = .ok (.ifCond .eq 9, 3) := zdec_at bX8_waysOfGet_105 1 rfl
theorem dX8_waysOfGet_111 : decode cX8_waysOfGet 111 = .ok (.aload_n 0, 1) := zdec_at bX8_waysOfGet_105 2 rfl
theorem dX8_waysOfGet_112 : decode cX8_waysOfGet 112 = .ok (.iload_n 3, 1) := zdec_at bX8_waysOfGet_105 3 rfl
theorem dX8_waysOfGet_113 : decode cX8_waysOfGet 113 = .ok (.iconst 1, 1) := zdec_at bX8_waysOfGet_105 4 rfl
theorem dX8_waysOfGet_114 : decode cX8_waysOfGet 114 = .ok (.invokevirtual 1072, 3) := zdec_at bX8_waysOfGet_105 5 rfl
theorem dX8_waysOfGet_117 : decode cX8_waysOfGet 117 = .ok (.aload_n 0, 1) := zdec_at bX8_waysOfGet_105 6 rfl
theorem dX8_waysOfGet_118 : decode cX8_waysOfGet 118 = .ok (.iload_n 1, 1) := zdec_at bX8_waysOfGet_105 7 rfl
theorem dX8_waysOfGet_119 : decode cX8_waysOfGet 119 = .ok (.invokevirtual 1062, 3) := zdec_at bX8_waysOfGet_105 8 rfl
theorem dX8_waysOfGet_122 : decode cX8_waysOfGet 122 = .ok (.ifCond .eq 24, 3) := zdec_at bX8_waysOfGet_105 9 rfl
theorem dX8_waysOfGet_125 : decode cX8_waysOfGet 125 = .ok (.aload_n 0, 1) := zdec_at bX8_waysOfGet_105 10 rfl
theorem dX8_waysOfGet_126 : decode cX8_waysOfGet 126 = .ok (.iload_n 3, 1) := zdec_at bX8_waysOfGet_105 11 rfl
theorem dX8_waysOfGet_127 : decode cX8_waysOfGet 127 = .ok (.invokevirtual 1059, 3) := zdec_at bX8_waysOfGet_105 12 rfl
theorem dX8_waysOfGet_130 : decode cX8_waysOfGet 130 = .ok (.iconst 1, 1) := zdec_at bX8_waysOfGet_105 13 rfl
theorem dX8_waysOfGet_131 : decode cX8_waysOfGet 131 = .ok (.if_icmp .ne 15, 3) := zdec_at bX8_waysOfGet_105 14 rfl
theorem dX8_waysOfGet_134 : decode cX8_waysOfGet 134 = .ok (.aload_n 0, 1) := zdec_at bX8_waysOfGet_105 15 rfl
theorem bX8_waysOfGet_135 : zdec cX8_waysOfGet 135 [(135, .iload_n 3, 1), (136, .invokevirtual 1062, 3), (139, .ifCond .ne 7, 3), (142, .iconst 1, 1), (143, .goto 4, 3), (146, .iconst 0, 1), (147, .istore 5, 2), (149, .aload_n 0, 1), (150, .iconst 2, 1), (151, .iload_n 3, 1), (152, .invokevirtual 1258, 3), (155, .aload_n 0, 1), (156, .aload_n 0, 1), (157, .getfield 1208, 3), (160, .iload 5, 2), (162, .ifCond .eq 8, 3)] = true := by decide +kernel
theorem dX8_waysOfGet_135 : decode cX8_waysOfGet 135 = .ok (.iload_n 3, 1) := zdec_at bX8_waysOfGet_135 0 rfl
theorem dX8_waysOfGet_136 : decode cX8_waysOfGet 136 = .ok (.invokevirtual 1062, 3) := zdec_at bX8_waysOfGet_135 1 rfl
theorem dX8_waysOfGet_139 : decode cX8_waysOfGet 139 = .ok (.ifCond .ne 7, 3) := zdec_at bX8_waysOfGet_135 2 rfl
theorem dX8_waysOfGet_142 : decode cX8_waysOfGet 142 = .ok (.iconst 1, 1) := zdec_at bX8_waysOfGet_135 3 rfl
theorem dX8_waysOfGet_143 : decode cX8_waysOfGet 143 = .ok (.goto 4, 3) := zdec_at bX8_waysOfGet_135 4 rfl
theorem dX8_waysOfGet_146 : decode cX8_waysOfGet 146 = .ok (.iconst 0, 1) := zdec_at bX8_waysOfGet_135 5 rfl
theorem dX8_waysOfGet_147 : decode cX8_waysOfGet 147 = .ok (.istore 5, 2) := zdec_at bX8_waysOfGet_135 6 rfl
theorem dX8_waysOfGet_149 : decode cX8_waysOfGet 149 = .ok (.aload_n 0, 1) := zdec_at bX8_waysOfGet_135 7 rfl
theorem dX8_waysOfGet_150 : decode cX8_waysOfGet 150 = .ok (.iconst 2, 1) := zdec_at bX8_waysOfGet_135 8 rfl
theorem dX8_waysOfGet_151 : decode cX8_waysOfGet 151 = .ok (.iload_n 3, 1) := zdec_at bX8_waysOfGet_135 9 rfl
theorem dX8_waysOfGet_152 : decode cX8_waysOfGet 152 = .ok (.invokevirtual 1258, 3) := zdec_at bX8_waysOfGet_135 10 rfl
theorem dX8_waysOfGet_155 : decode cX8_waysOfGet 155 = .ok (.aload_n 0, 1) := zdec_at bX8_waysOfGet_135 11 rfl
theorem dX8_waysOfGet_156 : decode cX8_waysOfGet 156 = .ok (.aload_n 0, 1) := zdec_at bX8_waysOfGet_135 12 rfl
theorem dX8_waysOfGet_157 : decode cX8_waysOfGet 157 = .ok (.getfield 1208, 3) := zdec_at bX8_waysOfGet_135 13 rfl
theorem dX8_waysOfGet_160 : decode cX8_waysOfGet 160 = .ok (.iload 5, 2) := zdec_at bX8_waysOfGet_135 14 rfl
theorem dX8_waysOfGet_162 : decode cX8_waysOfGet 162 = .ok (.ifCond .eq 8, 3) := zdec_at bX8_waysOfGet_135 15 rfl
theorem bX8_waysOfGet_165 : zdec cX8_waysOfGet 165 [(165, .bipush 8, 2), (167, .goto 4, 3), (170, .iconst 0, 1), (171, .ior, 1), (172, .putfield 1208, 3), (175, .iload 4, 2), (177, .iconst 3, 1), (178, .iand, 1), (179, .ifCond .eq 13, 3), (182, .aload_n 0, 1), (183, .aload_n 0, 1), (184, .getfield 1188, 3), (187, .bipush 6, 2), (189, .invokevirtual 1292, 3), (192, .return_, 1)] = true := by decide +kernel
theorem dX8_waysOfGet_165 : decode cX8_waysOfGet 165 = .ok (.bipush 8, 2) := zdec_at bX8_waysOfGet_165 0 rfl
theorem dX8_waysOfGet_167 : decode cX8_waysOfGet 167 = .ok (.goto 4, 3) := zdec_at bX8_waysOfGet_165 1 rfl
theorem dX8_waysOfGet_170 : decode cX8_waysOfGet 170 = .ok (.iconst 0, 1) := zdec_at bX8_waysOfGet_165 2 rfl
theorem dX8_waysOfGet_171 : decode cX8_waysOfGet 171 = .ok (.ior, 1) := zdec_at bX8_waysOfGet_165 3 rfl
theorem dX8_waysOfGet_172 : decode cX8_waysOfGet 172 = .ok (.putfield 1208, 3) := zdec_at bX8_waysOfGet_165 4 rfl
theorem dX8_waysOfGet_175 : decode cX8_waysOfGet 175 = .ok (.iload 4, 2) := zdec_at bX8_waysOfGet_165 5 rfl
theorem dX8_waysOfGet_177 : decode cX8_waysOfGet 177 = .ok (.iconst 3, 1) := zdec_at bX8_waysOfGet_165 6 rfl
theorem dX8_waysOfGet_178 : decode cX8_waysOfGet 178 = .ok (.iand, 1) := zdec_at bX8_waysOfGet_165 7 rfl
theorem dX8_waysOfGet_179 : decode cX8_waysOfGet 179 = .ok (.ifCond .eq 13, 3) := zdec_at bX8_waysOfGet_165 8 rfl
theorem dX8_waysOfGet_182 : decode cX8_waysOfGet 182 = .ok (.aload_n 0, 1) := zdec_at bX8_waysOfGet_165 9 rfl
theorem dX8_waysOfGet_183 : decode cX8_waysOfGet 183 = .ok (.aload_n 0, 1) := zdec_at bX8_waysOfGet_165 10 rfl
theorem dX8_waysOfGet_184 : decode cX8_waysOfGet 184 = .ok (.getfield 1188, 3) := zdec_at bX8_waysOfGet_165 11 rfl
theorem dX8_waysOfGet_187 : decode cX8_waysOfGet 187 = .ok (.bipush 6, 2) := zdec_at bX8_waysOfGet_165 12 rfl
theorem dX8_waysOfGet_189 : decode cX8_waysOfGet 189 = .ok (.invokevirtual 1292, 3) := zdec_at bX8_waysOfGet_165 13 rfl
theorem dX8_waysOfGet_192 : decode cX8_waysOfGet 192 = .ok (.return_, 1) := zdec_at bX8_waysOfGet_165 14 rfl
theorem sX8_waysOfGet_0 {E : zE} {d : Nat} {Q : zO → zM → Prop} (M : zM)  (k : Zm E YX8_fromTop d M (zargs 0 [vr (some (97, 1, 0)), vi (1 : Int32)]) 0 [] (zma E YX8_waysOfGet (d + 1) [(0, vr (some (97, 1, 0)))] 2 3 [] Q)) : Zm E YX8_waysOfGet (d + 1) M [(0, vr (some (97, 1, 0)))] 0 [] Q := by
  refine Zm.l (fun _ _ k_ => z_aload_n dX8_waysOfGet_0 rfl rfl k_) ?_
  refine Zm.l (fun _ _ k_ => z_iconst (v := 1) dX8_waysOfGet_1 rfl k_) ?_
  exact zm_callV (as := [vi (1 : Int32)]) (st := []) dX8_waysOfGet_2 vsX8_1195_1 (Nat.le_refl _) (Nat.le_of_ble_eq_true rfl) (Nat.le_of_ble_eq_true rfl) rfl k
theorem sX8_waysOfGet_5 {E : zE} {d : Nat} {Q : zO → zM → Prop} (M : zM) (s0 : Int32) (k : Zm E YX8_fromTop d M (zargs 0 [vr (some (97, 1, 0)), vi (0 : Int32)]) 0 [] (zma E YX8_waysOfGet (d + 1) [(0, vr (some (97, 1, 0))), (1, vi s0)] 8 3 [] Q)) : Zm E YX8_waysOfGet (d + 1) M [(0, vr (some (97, 1, 0)))] 5 [vi s0] Q := by
  refine Zm.l (fun _ _ k_ => z_ist_n dX8_waysOfGet_5 rfl (by decide) (lv' := [(0, vr (some (97, 1, 0))), (1, vi s0)]) rfl k_) ?_
  refine Zm.l (fun _ _ k_ => z_aload_n dX8_waysOfGet_6 rfl rfl k_) ?_
  refine Zm.l (fun _ _ k_ => z_iconst (v := 0) dX8_waysOfGet_7 rfl k_) ?_
  exact zm_callV (as := [vi (0 : Int32)]) (st := []) dX8_waysOfGet_8 vsX8_1195_1 (Nat.le_refl _) (Nat.le_of_ble_eq_true rfl) (Nat.le_of_ble_eq_true rfl) rfl k
theorem sX8_waysOfGet_11 {E : zE} {d : Nat} {Q : zO → zM → Prop} (M : zM) (l1 : Int32) (s0 : Int32) (k : Zm E YX8_plainly d M (zargs 0 [vr (some (97, 1, 0)), vi l1]) 0 [] (zma E YX8_waysOfGet (d + 1) [(0, vr (some (97, 1, 0))), (1, vi l1), (2, vi s0), (3, vi (647740 : Int32))] 18 3 [] Q)) : Zm E YX8_waysOfGet (d + 1) M [(0, vr (some (97, 1, 0))), (1, vi l1)] 11 [vi s0] Q := by
  refine Zm.l (fun _ _ k_ => z_ist_n dX8_waysOfGet_11 rfl (by decide) (lv' := [(0, vr (some (97, 1, 0))), (1, vi l1), (2, vi s0)]) rfl k_) ?_
  refine Zm.l (fun _ _ k_ => z_ldcw (v := 647740) dX8_waysOfGet_12 q4880 k_) ?_
  refine Zm.l (fun _ _ k_ => z_ist_n dX8_waysOfGet_15 rfl (by decide) (lv' := [(0, vr (some (97, 1, 0))), (1, vi l1), (2, vi s0), (3, vi (647740 : Int32))]) rfl k_) ?_
  refine Zm.l (fun _ _ k_ => z_aload_n dX8_waysOfGet_16 rfl rfl k_) ?_
  refine Zm.l (fun _ _ k_ => z_iload_n dX8_waysOfGet_17 rfl rfl k_) ?_
  exact zm_callV (as := [vi l1]) (st := []) dX8_waysOfGet_18 vsX8_1059_1 (Nat.le_refl _) (Nat.le_of_ble_eq_true rfl) (Nat.le_of_ble_eq_true rfl) rfl k
theorem sX8_waysOfGet_21 {E : zE} {d : Nat} {Q : zO → zM → Prop} (M : zM) (l1 : Int32) (l2 : Int32) (l3 : Int32) (s0 : Int32) (k : Zm E YX8_empty d M (zargs 0 [vr (some (97, 1, 0)), vi l3]) 0 [] (zma E YX8_waysOfGet (d + 1) [(0, vr (some (97, 1, 0))), (1, vi l1), (2, vi l2), (3, vi l3), (4, vi s0)] 25 3 [] Q)) : Zm E YX8_waysOfGet (d + 1) M [(0, vr (some (97, 1, 0))), (1, vi l1), (2, vi l2), (3, vi l3)] 21 [vi s0] Q := by
  refine Zm.l (fun _ _ k_ => z_ist dX8_waysOfGet_21 (by decide) (lv' := [(0, vr (some (97, 1, 0))), (1, vi l1), (2, vi l2), (3, vi l3), (4, vi s0)]) rfl k_) ?_
  refine Zm.l (fun _ _ k_ => z_aload_n dX8_waysOfGet_23 rfl rfl k_) ?_
  refine Zm.l (fun _ _ k_ => z_iload_n dX8_waysOfGet_24 rfl rfl k_) ?_
  exact zm_callV (as := [vi l3]) (st := []) dX8_waysOfGet_25 vsX8_1066_1 (Nat.le_refl _) (Nat.le_of_ble_eq_true rfl) (Nat.le_of_ble_eq_true rfl) rfl k
theorem sX8_waysOfGet_28 {E : zE} {d : Nat} {Q : zO → zM → Prop} (M : zM) (l1 : Int32) (l2 : Int32) (l3 : Int32) (l4 : Int32) (k : if (l4 &&& (124 : Int32)) = 0 then (Zm E YX8_waysOfGet (d + 1) M [(0, vr (some (97, 1, 0))), (1, vi l1), (2, vi l2), (3, vi l3), (4, vi l4)] 42 [] Q) else (Zm E YX8_addSort d M (zargs 0 [vr (some (97, 1, 0)), vi l3, vi (1 : Int32)]) 0 [] (zma E YX8_waysOfGet (d + 1) [(0, vr (some (97, 1, 0))), (1, vi l1), (2, vi l2), (3, vi l3), (4, vi l4)] 39 3 [] Q))) : Zm E YX8_waysOfGet (d + 1) M [(0, vr (some (97, 1, 0))), (1, vi l1), (2, vi l2), (3, vi l3), (4, vi l4)] 28 [] Q := by
  refine Zm.l (fun _ _ k_ => z_iload dX8_waysOfGet_28 rfl k_) ?_
  refine Zm.l (fun _ _ k_ => z_bipush (v := 124) dX8_waysOfGet_30 rfl k_) ?_
  refine Zm.l (fun _ _ k_ => z_iand dX8_waysOfGet_32 k_) ?_
  refine Zm.br (fun _ _ k1_ k2_ => z_if_eq (tgt := 42) dX8_waysOfGet_33 rfl k1_ k2_) (fun h_ => ?_) (fun h_ => ?_)
  · have k := zit h_ k
    exact k
  · have k := zif h_ k
    refine Zm.l (fun _ _ k_ => z_aload_n dX8_waysOfGet_36 rfl rfl k_) ?_
    refine Zm.l (fun _ _ k_ => z_iload_n dX8_waysOfGet_37 rfl rfl k_) ?_
    refine Zm.l (fun _ _ k_ => z_iconst (v := 1) dX8_waysOfGet_38 rfl k_) ?_
    exact zm_callV (as := [vi l3, vi (1 : Int32)]) (st := []) dX8_waysOfGet_39 vsX8_1072_1 (Nat.le_refl _) (Nat.le_of_ble_eq_true rfl) (Nat.le_of_ble_eq_true rfl) rfl k
theorem sX8_waysOfGet_42 {E : zE} {d : Nat} {Q : zO → zM → Prop} (M : zM) (l1 : Int32) (l2 : Int32) (l3 : Int32) (l4 : Int32) (k : Zm E YX8_keysOf d M (zargs 0 [vr (some (97, 1, 0)), vi l2]) 0 [] (zma E YX8_waysOfGet (d + 1) [(0, vr (some (97, 1, 0))), (1, vi l1), (2, vi l2), (3, vi l3), (4, vi l4)] 44 3 [] Q)) : Zm E YX8_waysOfGet (d + 1) M [(0, vr (some (97, 1, 0))), (1, vi l1), (2, vi l2), (3, vi l3), (4, vi l4)] 42 [] Q := by
  refine Zm.l (fun _ _ k_ => z_aload_n dX8_waysOfGet_42 rfl rfl k_) ?_
  refine Zm.l (fun _ _ k_ => z_iload_n dX8_waysOfGet_43 rfl rfl k_) ?_
  exact zm_callV (as := [vi l2]) (st := []) dX8_waysOfGet_44 vsX8_1147_1 (Nat.le_refl _) (Nat.le_of_ble_eq_true rfl) (Nat.le_of_ble_eq_true rfl) rfl k
theorem sX8_waysOfGet_47 {E : zE} {d : Nat} {Q : zO → zM → Prop} (M : zM) (l1 : Int32) (l2 : Int32) (l3 : Int32) (l4 : Int32) (k : if (l4 &&& (384 : Int32)) = 0 then (Zm E YX8_waysOfGet (d + 1) M [(0, vr (some (97, 1, 0))), (1, vi l1), (2, vi l2), (3, vi l3), (4, vi l4)] 62 [] Q) else (Zm E YX8_getOfString d M (zargs 0 [vr (some (97, 1, 0)), vi l1, vi l3]) 0 [] (zma E YX8_waysOfGet (d + 1) [(0, vr (some (97, 1, 0))), (1, vi l1), (2, vi l2), (3, vi l3), (4, vi l4)] 59 3 [] Q))) : Zm E YX8_waysOfGet (d + 1) M [(0, vr (some (97, 1, 0))), (1, vi l1), (2, vi l2), (3, vi l3), (4, vi l4)] 47 [] Q := by
  refine Zm.l (fun _ _ k_ => z_iload dX8_waysOfGet_47 rfl k_) ?_
  refine Zm.l (fun _ _ k_ => z_sipush (v := 384) dX8_waysOfGet_49 rfl k_) ?_
  refine Zm.l (fun _ _ k_ => z_iand dX8_waysOfGet_52 k_) ?_
  refine Zm.br (fun _ _ k1_ k2_ => z_if_eq (tgt := 62) dX8_waysOfGet_53 rfl k1_ k2_) (fun h_ => ?_) (fun h_ => ?_)
  · have k := zit h_ k
    exact k
  · have k := zif h_ k
    refine Zm.l (fun _ _ k_ => z_aload_n dX8_waysOfGet_56 rfl rfl k_) ?_
    refine Zm.l (fun _ _ k_ => z_iload_n dX8_waysOfGet_57 rfl rfl k_) ?_
    refine Zm.l (fun _ _ k_ => z_iload_n dX8_waysOfGet_58 rfl rfl k_) ?_
    exact zm_callV (as := [vi l1, vi l3]) (st := []) dX8_waysOfGet_59 vsX8_1303_1 (Nat.le_refl _) (Nat.le_of_ble_eq_true rfl) (Nat.le_of_ble_eq_true rfl) rfl k
theorem sX8_waysOfGet_62 {E : zE} {d : Nat} {Q : zO → zM → Prop} (M : zM) (l1 : Int32) (l2 : Int32) (l3 : Int32) (l4 : Int32) (k : Zm E YX8_keysOf d M (zargs 0 [vr (some (97, 1, 0)), vi l2]) 0 [] (zma E YX8_waysOfGet (d + 1) [(0, vr (some (97, 1, 0))), (1, vi l1), (3, vi l3), (4, vi l4)] 64 3 [] Q)) : Zm E YX8_waysOfGet (d + 1) M [(0, vr (some (97, 1, 0))), (1, vi l1), (2, vi l2), (3, vi l3), (4, vi l4)] 62 [] Q := by
  refine Zm.l (fun _ _ k_ => z_aload_n dX8_waysOfGet_62 rfl rfl k_) ?_
  refine Zm.l (fun _ _ k_ => z_iload_n dX8_waysOfGet_63 rfl rfl k_) ?_
  refine Zm.pick [0, 1, 3, 4] rfl ?_
  exact zm_callV (as := [vi l2]) (st := []) dX8_waysOfGet_64 vsX8_1147_1 (Nat.le_refl _) (Nat.le_of_ble_eq_true rfl) (Nat.le_of_ble_eq_true rfl) rfl k
theorem sX8_waysOfGet_67 {E : zE} {d : Nat} {Q : zO → zM → Prop} (M : zM) (l1 : Int32) (l3 : Int32) (l4 : Int32) (k : Zm E YX8_hasLabels d M (zargs 0 [vr (some (97, 1, 0)), vi l1]) 0 [] (zma E YX8_waysOfGet (d + 1) [(0, vr (some (97, 1, 0))), (1, vi l1), (3, vi l3), (4, vi l4)] 69 3 [] Q)) : Zm E YX8_waysOfGet (d + 1) M [(0, vr (some (97, 1, 0))), (1, vi l1), (3, vi l3), (4, vi l4)] 67 [] Q := by
  refine Zm.l (fun _ _ k_ => z_aload_n dX8_waysOfGet_67 rfl rfl k_) ?_
  refine Zm.l (fun _ _ k_ => z_iload_n dX8_waysOfGet_68 rfl rfl k_) ?_
  exact zm_callV (as := [vi l1]) (st := []) dX8_waysOfGet_69 vsX8_1062_1 (Nat.le_refl _) (Nat.le_of_ble_eq_true rfl) (Nat.le_of_ble_eq_true rfl) rfl k
theorem sX8_waysOfGet_72 {E : zE} {d : Nat} {Q : zO → zM → Prop} (M : zM) (l1 : Int32) (l3 : Int32) (l4 : Int32) (s0 : Int32) (k : if s0 = 0 then (Zm E YX8_waysOfGet (d + 1) M [(0, vr (some (97, 1, 0))), (1, vi l1), (3, vi l3), (4, vi l4)] 117 [] Q) else (vp_in l1 647800 ∧ (vp_in l1 647800 ∧ (Zm E YX8_readFrom d M (zargs 0 [vr (some (97, 1, 0)), vl (gl M 166 (l1).toNatClampNeg), vl (gl M 167 (l1).toNatClampNeg), vi (l3 + (1 : Int32))]) 0 [] (zma E YX8_waysOfGet (d + 1) [(0, vr (some (97, 1, 0))), (1, vi l1), (3, vi l3), (4, vi l4)] 91 3 [] Q))))) : Zm E YX8_waysOfGet (d + 1) M [(0, vr (some (97, 1, 0))), (1, vi l1), (3, vi l3), (4, vi l4)] 72 [vi s0] Q := by
  refine Zm.br (fun _ _ k1_ k2_ => z_if_eq (tgt := 117) dX8_waysOfGet_72 rfl k1_ k2_) (fun h_ => ?_) (fun h_ => ?_)
  · have k := zit h_ k
    exact k
  · have k := zif h_ k
    refine Zm.l (fun _ _ k_ => z_aload_n dX8_waysOfGet_75 rfl rfl k_) ?_
    refine Zm.l (fun _ _ k_ => z_aload_n dX8_waysOfGet_76 rfl rfl k_) ?_
    refine zm_getr 63 dX8_waysOfGet_77 fsX8_220_1 rfl ?_
    refine Zm.l (fun _ _ k_ => z_iload_n dX8_waysOfGet_80 rfl rfl k_) ?_
    obtain ⟨b_, k⟩ := k
    refine zm_lald dX8_waysOfGet_81 b_ (by decide) (by decide) ?_
    refine Zm.l (fun _ _ k_ => z_aload_n dX8_waysOfGet_82 rfl rfl k_) ?_
    refine zm_getr 64 dX8_waysOfGet_83 fsX8_223_1 rfl ?_
    refine Zm.l (fun _ _ k_ => z_iload_n dX8_waysOfGet_86 rfl rfl k_) ?_
    obtain ⟨b_, k⟩ := k
    refine zm_lald dX8_waysOfGet_87 b_ (by decide) (by decide) ?_
    refine Zm.l (fun _ _ k_ => z_iload_n dX8_waysOfGet_88 rfl rfl k_) ?_
    refine Zm.l (fun _ _ k_ => z_iconst (v := 1) dX8_waysOfGet_89 rfl k_) ?_
    refine Zm.l (fun _ _ k_ => z_iadd dX8_waysOfGet_90 k_) ?_
    exact zm_callV (as := [vl (gl M 166 (l1).toNatClampNeg), vl (gl M 167 (l1).toNatClampNeg), vi (l3 + (1 : Int32))]) (st := []) dX8_waysOfGet_91 vsX8_1306_1 (Nat.le_refl _) (Nat.le_of_ble_eq_true rfl) (Nat.le_of_ble_eq_true rfl) rfl k
theorem sX8_waysOfGet_94 {E : zE} {d : Nat} {Q : zO → zM → Prop} (M : zM) (l1 : Int32) (l3 : Int32) (l4 : Int32) (k : Zm E YX8_join d M (zargs 0 [vr (some (97, 1, 0)), vi (l3 + (1 : Int32)), vi l3]) 0 [] (zma E YX8_waysOfGet (d + 1) [(0, vr (some (97, 1, 0))), (1, vi l1), (3, vi l3), (4, vi l4)] 99 3 [] Q)) : Zm E YX8_waysOfGet (d + 1) M [(0, vr (some (97, 1, 0))), (1, vi l1), (3, vi l3), (4, vi l4)] 94 [] Q := by
  refine Zm.l (fun _ _ k_ => z_aload_n dX8_waysOfGet_94 rfl rfl k_) ?_
  refine Zm.l (fun _ _ k_ => z_iload_n dX8_waysOfGet_95 rfl rfl k_) ?_
  refine Zm.l (fun _ _ k_ => z_iconst (v := 1) dX8_waysOfGet_96 rfl k_) ?_
  refine Zm.l (fun _ _ k_ => z_iadd dX8_waysOfGet_97 k_) ?_
  refine Zm.l (fun _ _ k_ => z_iload_n dX8_waysOfGet_98 rfl rfl k_) ?_
  exact zm_callV (as := [vi (l3 + (1 : Int32)), vi l3]) (st := []) dX8_waysOfGet_99 vsX8_1069_1 (Nat.le_refl _) (Nat.le_of_ble_eq_true rfl) (Nat.le_of_ble_eq_true rfl) rfl k
theorem sX8_waysOfGet_102 {E : zE} {d : Nat} {Q : zO → zM → Prop} (M : zM) (l1 : Int32) (l3 : Int32) (l4 : Int32) (s0 : Int32) (k : if (gi M 97 145) = 0 then (Zm E YX8_waysOfGet (d + 1) M [(0, vr (some (97, 1, 0))), (1, vi l1), (3, vi l3), (4, vi l4)] 117 [] Q) else (Zm E YX8_addSort d M (zargs 0 [vr (some (97, 1, 0)), vi l3, vi (1 : Int32)]) 0 [] (zma E YX8_waysOfGet (d + 1) [(0, vr (some (97, 1, 0))), (1, vi l1), (3, vi l3), (4, vi l4)] 114 3 [] Q))) : Zm E YX8_waysOfGet (d + 1) M [(0, vr (some (97, 1, 0))), (1, vi l1), (3, vi l3), (4, vi l4)] 102 [vi s0] Q := by
  refine Zm.l (fun _ _ k_ => z_ist dX8_waysOfGet_102 (by decide) (lv' := [(0, vr (some (97, 1, 0))), (1, vi l1), (3, vi l3), (4, vi l4), (5, vi s0)]) rfl k_) ?_
  refine Zm.l (fun _ _ k_ => z_aload_n dX8_waysOfGet_104 rfl rfl k_) ?_
  refine zm_geti dX8_waysOfGet_105 fsX8_1156_1 (by decide) (by decide) ?_
  refine Zm.br (fun _ _ k1_ k2_ => z_if_eq (tgt := 117) dX8_waysOfGet_108 rfl k1_ k2_) (fun h_ => ?_) (fun h_ => ?_)
  · have k := zit h_ k
    refine Zm.pick [0, 1, 2, 3] rfl ?_
    exact k
  · have k := zif h_ k
    refine Zm.l (fun _ _ k_ => z_aload_n dX8_waysOfGet_111 rfl rfl k_) ?_
    refine Zm.l (fun _ _ k_ => z_iload_n dX8_waysOfGet_112 rfl rfl k_) ?_
    refine Zm.l (fun _ _ k_ => z_iconst (v := 1) dX8_waysOfGet_113 rfl k_) ?_
    refine Zm.pick [0, 1, 2, 3] rfl ?_
    exact zm_callV (as := [vi l3, vi (1 : Int32)]) (st := []) dX8_waysOfGet_114 vsX8_1072_1 (Nat.le_refl _) (Nat.le_of_ble_eq_true rfl) (Nat.le_of_ble_eq_true rfl) rfl k
theorem sX8_waysOfGet_117 {E : zE} {d : Nat} {Q : zO → zM → Prop} (M : zM) (l1 : Int32) (l3 : Int32) (l4 : Int32) (k : Zm E YX8_hasLabels d M (zargs 0 [vr (some (97, 1, 0)), vi l1]) 0 [] (zma E YX8_waysOfGet (d + 1) [(0, vr (some (97, 1, 0))), (3, vi l3), (4, vi l4)] 119 3 [] Q)) : Zm E YX8_waysOfGet (d + 1) M [(0, vr (some (97, 1, 0))), (1, vi l1), (3, vi l3), (4, vi l4)] 117 [] Q := by
  refine Zm.l (fun _ _ k_ => z_aload_n dX8_waysOfGet_117 rfl rfl k_) ?_
  refine Zm.l (fun _ _ k_ => z_iload_n dX8_waysOfGet_118 rfl rfl k_) ?_
  refine Zm.pick [0, 2, 3] rfl ?_
  exact zm_callV (as := [vi l1]) (st := []) dX8_waysOfGet_119 vsX8_1062_1 (Nat.le_refl _) (Nat.le_of_ble_eq_true rfl) (Nat.le_of_ble_eq_true rfl) rfl k
theorem sX8_waysOfGet_122 {E : zE} {d : Nat} {Q : zO → zM → Prop} (M : zM) (l3 : Int32) (l4 : Int32) (s0 : Int32) (k : if s0 = 0 then (Zm E YX8_replace d M (zargs 0 [vr (some (97, 1, 0)), vi (2 : Int32), vi l3]) 0 [] (zma E YX8_waysOfGet (d + 1) [(0, vr (some (97, 1, 0))), (4, vi l4), (5, vi (0 : Int32))] 152 3 [] Q)) else (Zm E YX8_plainly d M (zargs 0 [vr (some (97, 1, 0)), vi l3]) 0 [] (zma E YX8_waysOfGet (d + 1) [(0, vr (some (97, 1, 0))), (3, vi l3), (4, vi l4)] 127 3 [] Q))) : Zm E YX8_waysOfGet (d + 1) M [(0, vr (some (97, 1, 0))), (3, vi l3), (4, vi l4)] 122 [vi s0] Q := by
  refine Zm.br (fun _ _ k1_ k2_ => z_if_eq (tgt := 146) dX8_waysOfGet_122 rfl k1_ k2_) (fun h_ => ?_) (fun h_ => ?_)
  · have k := zit h_ k
    refine Zm.l (fun _ _ k_ => z_iconst (v := 0) dX8_waysOfGet_146 rfl k_) ?_
    refine Zm.l (fun _ _ k_ => z_ist dX8_waysOfGet_147 (by decide) (lv' := [(0, vr (some (97, 1, 0))), (3, vi l3), (4, vi l4), (5, vi (0 : Int32))]) rfl k_) ?_
    refine Zm.l (fun _ _ k_ => z_aload_n dX8_waysOfGet_149 rfl rfl k_) ?_
    refine Zm.l (fun _ _ k_ => z_iconst (v := 2) dX8_waysOfGet_150 rfl k_) ?_
    refine Zm.l (fun _ _ k_ => z_iload_n dX8_waysOfGet_151 rfl rfl k_) ?_
    refine Zm.pick [0, 2, 3] rfl ?_
    exact zm_callV (as := [vi (2 : Int32), vi l3]) (st := []) dX8_waysOfGet_152 vsX8_1258_1 (Nat.le_refl _) (Nat.le_of_ble_eq_true rfl) (Nat.le_of_ble_eq_true rfl) rfl k
  · have k := zif h_ k
    refine Zm.l (fun _ _ k_ => z_aload_n dX8_waysOfGet_125 rfl rfl k_) ?_
    refine Zm.l (fun _ _ k_ => z_iload_n dX8_waysOfGet_126 rfl rfl k_) ?_
    exact zm_callV (as := [vi l3]) (st := []) dX8_waysOfGet_127 vsX8_1059_1 (Nat.le_refl _) (Nat.le_of_ble_eq_true rfl) (Nat.le_of_ble_eq_true rfl) rfl k
theorem sX8_waysOfGet_130 {E : zE} {d : Nat} {Q : zO → zM → Prop} (M : zM) (l3 : Int32) (l4 : Int32) (s0 : Int32) (k : if s0 = (1 : Int32) then (Zm E YX8_hasLabels d M (zargs 0 [vr (some (97, 1, 0)), vi l3]) 0 [] (zma E YX8_waysOfGet (d + 1) [(0, vr (some (97, 1, 0))), (3, vi l3), (4, vi l4)] 136 3 [] Q)) else (Zm E YX8_replace d M (zargs 0 [vr (some (97, 1, 0)), vi (2 : Int32), vi l3]) 0 [] (zma E YX8_waysOfGet (d + 1) [(0, vr (some (97, 1, 0))), (4, vi l4), (5, vi (0 : Int32))] 152 3 [] Q))) : Zm E YX8_waysOfGet (d + 1) M [(0, vr (some (97, 1, 0))), (3, vi l3), (4, vi l4)] 130 [vi s0] Q := by
  refine Zm.l (fun _ _ k_ => z_iconst (v := 1) dX8_waysOfGet_130 rfl k_) ?_
  refine Zm.brn (fun _ _ k1_ k2_ => z_icmp_ne (tgt := 146) dX8_waysOfGet_131 rfl k1_ k2_) (fun h_ => ?_) (fun h_ => ?_)
  · have k := zif h_ k
    refine Zm.l (fun _ _ k_ => z_iconst (v := 0) dX8_waysOfGet_146 rfl k_) ?_
    refine Zm.l (fun _ _ k_ => z_ist dX8_waysOfGet_147 (by decide) (lv' := [(0, vr (some (97, 1, 0))), (3, vi l3), (4, vi l4), (5, vi (0 : Int32))]) rfl k_) ?_
    refine Zm.l (fun _ _ k_ => z_aload_n dX8_waysOfGet_149 rfl rfl k_) ?_
    refine Zm.l (fun _ _ k_ => z_iconst (v := 2) dX8_waysOfGet_150 rfl k_) ?_
    refine Zm.l (fun _ _ k_ => z_iload_n dX8_waysOfGet_151 rfl rfl k_) ?_
    refine Zm.pick [0, 2, 3] rfl ?_
    exact zm_callV (as := [vi (2 : Int32), vi l3]) (st := []) dX8_waysOfGet_152 vsX8_1258_1 (Nat.le_refl _) (Nat.le_of_ble_eq_true rfl) (Nat.le_of_ble_eq_true rfl) rfl k
  · have k := zit h_ k
    refine Zm.l (fun _ _ k_ => z_aload_n dX8_waysOfGet_134 rfl rfl k_) ?_
    refine Zm.l (fun _ _ k_ => z_iload_n dX8_waysOfGet_135 rfl rfl k_) ?_
    exact zm_callV (as := [vi l3]) (st := []) dX8_waysOfGet_136 vsX8_1062_1 (Nat.le_refl _) (Nat.le_of_ble_eq_true rfl) (Nat.le_of_ble_eq_true rfl) rfl k
theorem sX8_waysOfGet_139 {E : zE} {d : Nat} {Q : zO → zM → Prop} (M : zM) (l3 : Int32) (l4 : Int32) (s0 : Int32) (k : if s0 = 0 then (Zm E YX8_replace d M (zargs 0 [vr (some (97, 1, 0)), vi (2 : Int32), vi l3]) 0 [] (zma E YX8_waysOfGet (d + 1) [(0, vr (some (97, 1, 0))), (4, vi l4), (5, vi (1 : Int32))] 152 3 [] Q)) else (Zm E YX8_replace d M (zargs 0 [vr (some (97, 1, 0)), vi (2 : Int32), vi l3]) 0 [] (zma E YX8_waysOfGet (d + 1) [(0, vr (some (97, 1, 0))), (4, vi l4), (5, vi (0 : Int32))] 152 3 [] Q))) : Zm E YX8_waysOfGet (d + 1) M [(0, vr (some (97, 1, 0))), (3, vi l3), (4, vi l4)] 139 [vi s0] Q := by
  refine Zm.brn (fun _ _ k1_ k2_ => z_if_ne (tgt := 146) dX8_waysOfGet_139 rfl k1_ k2_) (fun h_ => ?_) (fun h_ => ?_)
  · have k := zif h_ k
    refine Zm.l (fun _ _ k_ => z_iconst (v := 0) dX8_waysOfGet_146 rfl k_) ?_
    refine Zm.l (fun _ _ k_ => z_ist dX8_waysOfGet_147 (by decide) (lv' := [(0, vr (some (97, 1, 0))), (3, vi l3), (4, vi l4), (5, vi (0 : Int32))]) rfl k_) ?_
    refine Zm.l (fun _ _ k_ => z_aload_n dX8_waysOfGet_149 rfl rfl k_) ?_
    refine Zm.l (fun _ _ k_ => z_iconst (v := 2) dX8_waysOfGet_150 rfl k_) ?_
    refine Zm.l (fun _ _ k_ => z_iload_n dX8_waysOfGet_151 rfl rfl k_) ?_
    refine Zm.pick [0, 2, 3] rfl ?_
    exact zm_callV (as := [vi (2 : Int32), vi l3]) (st := []) dX8_waysOfGet_152 vsX8_1258_1 (Nat.le_refl _) (Nat.le_of_ble_eq_true rfl) (Nat.le_of_ble_eq_true rfl) rfl k
  · have k := zit h_ k
    refine Zm.l (fun _ _ k_ => z_iconst (v := 1) dX8_waysOfGet_142 rfl k_) ?_
    refine Zm.l (fun _ _ k_ => z_goto (tgt := 147) dX8_waysOfGet_143 rfl k_) ?_
    refine Zm.l (fun _ _ k_ => z_ist dX8_waysOfGet_147 (by decide) (lv' := [(0, vr (some (97, 1, 0))), (3, vi l3), (4, vi l4), (5, vi (1 : Int32))]) rfl k_) ?_
    refine Zm.l (fun _ _ k_ => z_aload_n dX8_waysOfGet_149 rfl rfl k_) ?_
    refine Zm.l (fun _ _ k_ => z_iconst (v := 2) dX8_waysOfGet_150 rfl k_) ?_
    refine Zm.l (fun _ _ k_ => z_iload_n dX8_waysOfGet_151 rfl rfl k_) ?_
    refine Zm.pick [0, 2, 3] rfl ?_
    exact zm_callV (as := [vi (2 : Int32), vi l3]) (st := []) dX8_waysOfGet_152 vsX8_1258_1 (Nat.le_refl _) (Nat.le_of_ble_eq_true rfl) (Nat.le_of_ble_eq_true rfl) rfl k
theorem sX8_waysOfGet_155 {E : zE} {d : Nat} {Q : zO → zM → Prop} (M : zM) (l4 : Int32) (l5 : Int32) (k : if l5 = 0 then (Zm E YX8_waysOfGet (d + 1) M [(0, vr (some (97, 1, 0))), (4, vi l4)] 171 [vi (0 : Int32), vi (gi M 97 149), vr (some (97, 1, 0))] Q) else (Zm E YX8_waysOfGet (d + 1) M [(0, vr (some (97, 1, 0))), (4, vi l4)] 171 [vi (8 : Int32), vi (gi M 97 149), vr (some (97, 1, 0))] Q)) : Zm E YX8_waysOfGet (d + 1) M [(0, vr (some (97, 1, 0))), (4, vi l4), (5, vi l5)] 155 [] Q := by
  refine Zm.l (fun _ _ k_ => z_aload_n dX8_waysOfGet_155 rfl rfl k_) ?_
  refine Zm.l (fun _ _ k_ => z_aload_n dX8_waysOfGet_156 rfl rfl k_) ?_
  refine zm_geti dX8_waysOfGet_157 fsX8_1208_1 (by decide) (by decide) ?_
  refine Zm.l (fun _ _ k_ => z_iload dX8_waysOfGet_160 rfl k_) ?_
  refine Zm.br (fun _ _ k1_ k2_ => z_if_eq (tgt := 170) dX8_waysOfGet_162 rfl k1_ k2_) (fun h_ => ?_) (fun h_ => ?_)
  · have k := zit h_ k
    refine Zm.l (fun _ _ k_ => z_iconst (v := 0) dX8_waysOfGet_170 rfl k_) ?_
    refine Zm.pick [0, 1] rfl ?_
    exact k
  · have k := zif h_ k
    refine Zm.l (fun _ _ k_ => z_bipush (v := 8) dX8_waysOfGet_165 rfl k_) ?_
    refine Zm.l (fun _ _ k_ => z_goto (tgt := 171) dX8_waysOfGet_167 rfl k_) ?_
    refine Zm.pick [0, 1] rfl ?_
    exact k
theorem sX8_waysOfGet_171 {E : zE} {d : Nat} {Q : zO → zM → Prop} (M : zM) (l4 : Int32) (s0 : Int32) (s1 : Int32) (k : if (l4 &&& (3 : Int32)) = 0 then (Zm E YX8_waysOfGet (d + 1) (si M 97 149 (s1 ||| s0)) [] 192 [] Q) else (Zm E YX8_error_2 d (si M 97 149 (s1 ||| s0)) (zargs 0 [vr (some (97, 1, 0)), vi (gi M 97 148), vi (6 : Int32)]) 0 [] (zma E YX8_waysOfGet (d + 1) [] 189 3 [] Q))) : Zm E YX8_waysOfGet (d + 1) M [(0, vr (some (97, 1, 0))), (4, vi l4)] 171 [vi s0, vi s1, vr (some (97, 1, 0))] Q := by
  refine Zm.l (fun _ _ k_ => z_ior dX8_waysOfGet_171 k_) ?_
  refine zm_puti (by decide) (by decide) dX8_waysOfGet_172 (zfwN.w fwX8_1208_1) rfl ⟨rfl, rfl⟩ ?_
  refine Zm.l (fun _ _ k_ => z_iload dX8_waysOfGet_175 rfl k_) ?_
  refine Zm.l (fun _ _ k_ => z_iconst (v := 3) dX8_waysOfGet_177 rfl k_) ?_
  refine Zm.l (fun _ _ k_ => z_iand dX8_waysOfGet_178 k_) ?_
  refine Zm.br (fun _ _ k1_ k2_ => z_if_eq (tgt := 192) dX8_waysOfGet_179 rfl k1_ k2_) (fun h_ => ?_) (fun h_ => ?_)
  · have k := zit h_ k
    refine Zm.pick [] rfl ?_
    exact k
  · have k := zif h_ k
    refine Zm.l (fun _ _ k_ => z_aload_n dX8_waysOfGet_182 rfl rfl k_) ?_
    refine Zm.l (fun _ _ k_ => z_aload_n dX8_waysOfGet_183 rfl rfl k_) ?_
    refine zm_geti dX8_waysOfGet_184 fsX8_1188_1 (by decide) (by decide) ?_
    refine Zm.l (fun _ _ k_ => z_bipush (v := 6) dX8_waysOfGet_187 rfl k_) ?_
    refine Zm.pick [] rfl ?_
    exact zm_callV (as := [vi (gi M 97 148), vi (6 : Int32)]) (st := []) dX8_waysOfGet_189 vsX8_1292_1 (Nat.le_refl _) (Nat.le_of_ble_eq_true rfl) (Nat.le_of_ble_eq_true rfl) rfl k
theorem sX8_waysOfGet_192 {E : zE} {d : Nat} {Q : zO → zM → Prop} (M : zM)  (k : Q (.inl none) M) : Zm E YX8_waysOfGet (d + 1) M [] 192 [] Q := by
  exact zm_vret dX8_waysOfGet_192 rfl k
/-! ScriptTypesModel.getOfString(II)V -/
theorem bX8_getOfString_0 : zdec cX8_getOfString 0 [(0, .aload_n 0, 1), (1, .iconst 0, 1), (2, .invokevirtual 1153, 3), (5, .ifCond .eq 36, 3), (8, .aload_n 0, 1), (9, .iload_n 1, 1), (10, .invokevirtual 1294, 3), (13, .ifCond .eq 21, 3), (16, .aload_n 0, 1), (17, .iload_n 2, 1), (18, .aload_n 0, 1), (19, .getfield 20, 3), (22, .aload_n 0, 1), (23, .iload_n 1, 1), (24, .invokevirtual 1053, 3), (27, .iaload, 1)] = true := by decide +kernel
theorem dX8_getOfString_0 : decode cX8_getOfString 0 = .ok (.aload_n 0, 1) := zdec_at bX8_getOfString_0 0 rfl
theorem dX8_getOfString_1 : decode cX8_getOfString 1 = .ok (.iconst 0, 1) := zdec_at bX8_getOfString_0 1 rfl
theorem dX8_getOfString_2 : decode cX8_getOfString 2 = .ok (.invokevirtual 1153, 3) := zdec_at bX8_getOfString_0 2 rfl
theorem dX8_getOfString_5 : decode cX8_getOfString 5 = .ok (.ifCond .eq 36, 3) := zdec_at bX8_getOfString_0 3 rfl
theorem dX8_getOfString_8 : decode cX8_getOfString 8 = .ok (.aload_n 0, 1) := zdec_at bX8_getOfString_0 4 rfl
theorem dX8_getOfString_9 : decode cX8_getOfString 9 = .ok (.iload_n 1, 1) := zdec_at bX8_getOfString_0 5 rfl
theorem dX8_getOfString_10 : decode cX8_getOfString 10 = .ok (.invokevirtual 1294, 3) := zdec_at bX8_getOfString_0 6 rfl
theorem dX8_getOfString_13 : decode cX8_getOfString 13 = .ok (.ifCond .eq 21, 3) := zdec_at bX8_getOfString_0 7 rfl
theorem dX8_getOfString_16 : decode cX8_getOfString 16 = .ok (.aload_n 0, 1) := zdec_at bX8_getOfString_0 8 rfl
theorem dX8_getOfString_17 : decode cX8_getOfString 17 = .ok (.iload_n 2, 1) := zdec_at bX8_getOfString_0 9 rfl
theorem dX8_getOfString_18 : decode cX8_getOfString 18 = .ok (.aload_n 0, 1) := zdec_at bX8_getOfString_0 10 rfl
theorem dX8_getOfString_19 : decode cX8_getOfString 19 = .ok (.getfield 20, 3) := zdec_at bX8_getOfString_0 11 rfl
theorem dX8_getOfString_22 : decode cX8_getOfString 22 = .ok (.aload_n 0, 1) := zdec_at bX8_getOfString_0 12 rfl
theorem dX8_getOfString_23 : decode cX8_getOfString 23 = .ok (.iload_n 1, 1) := zdec_at bX8_getOfString_0 13 rfl
theorem dX8_getOfString_24 : decode cX8_getOfString 24 = .ok (.invokevirtual 1053, 3) := zdec_at bX8_getOfString_0 14 rfl
theorem dX8_getOfString_27 : decode cX8_getOfString 27 = .ok (.iaload, 1) := zdec_at bX8_getOfString_0 15 rfl
theorem bX8_getOfString_28 : zdec cX8_getOfString 28 [(28, .invokevirtual 1075, 3), (31, .goto 10, 3), (34, .aload_n 0, 1), (35, .iload_n 2, 1), (36, .bipush 64, 2), (38, .invokevirtual 1072, 3), (41, .aload_n 0, 1), (42, .aload_n 0, 1), (43, .getfield 1118, 3), (46, .ldc2_w 1310, 3), (49, .land, 1), (50, .putfield 1118, 3), (53, .aload_n 0, 1), (54, .ldc2_w 1312, 3), (57, .lconst 0, 1), (58, .iload_n 2, 1)] = true := by decide +kernel
theorem dX8_getOfString_28 : decode cX8_getOfString 28 = .ok (.invokevirtual 1075, 3) := zdec_at bX8_getOfString_28 0 rfl
theorem dX8_getOfString_31 : decode cX8_getOfString 31 = .ok (.goto 10, 3) := zdec_at bX8_getOfString_28 1 rfl
theorem dX8_getOfString_34 : decode cX8_getOfString 34 = .ok (.aload_n 0, 1) := zdec_at bX8_getOfString_28 2 rfl
theorem dX8_getOfString_35 : decode cX8_getOfString 35 = .ok (.iload_n 2, 1) := zdec_at bX8_getOfString_28 3 rfl
theorem dX8_getOfString_36 : decode cX8_getOfString 36 = .ok (.bipush 64, 2) := zdec_at bX8_getOfString_28 4 rfl
theorem dX8_getOfString_38 : decode cX8_getOfString 38 = .ok (.invokevirtual 1072, 3) := zdec_at bX8_getOfString_28 5 rfl
theorem dX8_getOfString_41 : decode cX8_getOfString 41 = .ok (.aload_n 0, 1) := zdec_at bX8_getOfString_28 6 rfl
theorem dX8_getOfString_42 : decode cX8_getOfString 42 = .ok (.aload_n 0, 1) := zdec_at bX8_getOfString_28 7 rfl
theorem dX8_getOfString_43 : decode cX8_getOfString 43 = .ok (.getfield 1118, 3) := zdec_at bX8_getOfString_28 8 rfl
theorem dX8_getOfString_46 : decode cX8_getOfString 46 = .ok (.ldc2_w 1310, 3) := zdec_at bX8_getOfString_28 9 rfl
theorem dX8_getOfString_49 : decode cX8_getOfString 49 = .ok (.land, 1) := zdec_at bX8_getOfString_28 10 rfl
theorem dX8_getOfString_50 : decode cX8_getOfString 50 = .ok (.putfield 1118, 3) := zdec_at bX8_getOfString_28 11 rfl
theorem dX8_getOfString_53 : decode cX8_getOfString 53 = .ok (.aload_n 0, 1) := zdec_at bX8_getOfString_28 12 rfl
theorem dX8_getOfString_54 : decode cX8_getOfString 54 = .ok (.ldc2_w 1312, 3) := zdec_at bX8_getOfString_28 13 rfl
theorem dX8_getOfString_57 : decode cX8_getOfString 57 = .ok (.lconst 0, 1) := zdec_at bX8_getOfString_28 14 rfl
theorem dX8_getOfString_58 : decode cX8_getOfString 58 = .ok (.iload_n 2, 1) := zdec_at bX8_getOfString_28 15 rfl
theorem bX8_getOfString_59 : zdec cX8_getOfString 59 [(59, .iconst 1, 1), (60, .iadd, 1), (61, .invokevirtual 1306, 3), (64, .aload_n 0, 1), (65, .iload_n 2, 1), (66, .iconst 1, 1), (67, .iadd, 1), (68, .iload_n 2, 1), (69, .invokevirtual 1069, 3), (72, .istore_n 3, 1), (73, .aload_n 0, 1), (74, .getfield 1156, 3), (77, .ifCond .eq 9, 3), (80, .aload_n 0, 1), (81, .iload_n 2, 1), (82, .iconst 1, 1)] = true := by decide +kernel
theorem dX8_getOfString_59 : decode cX8_getOfString 59 = .ok (.iconst 1, 1) := zdec_at bX8_getOfString_59 0 rfl
theorem dX8_getOfString_60 : decode cX8_getOfString 60 = .ok (.iadd, 1) := zdec_at bX8_getOfString_59 1 rfl
theorem dX8_getOfString_61 : decode cX8_getOfString 61 = .ok (.invokevirtual 1306, 3) := zdec_at bX8_getOfString_59 2 rfl
theorem dX8_getOfString_64 : decode cX8_getOfString 64 = .ok (.aload_n 0, 1) := zdec_at bX8_getOfString_59 3 rfl
theorem dX8_getOfString_65 : decode cX8_getOfString 65 = .ok (.iload_n 2, 1) := zdec_at bX8_getOfString_59 4 rfl
theorem dX8_getOfString_66 : decode cX8_getOfString 66 = .ok (.iconst 1, 1) := zdec_at bX8_getOfString_59 5 rfl
theorem dX8_getOfString_67 : decode cX8_getOfString 67 = .ok (.iadd, 1) := zdec_at bX8_getOfString_59 6 rfl
theorem dX8_getOfString_68 : decode cX8_getOfString 68 = .ok (.iload_n 2, 1) := zdec_at bX8_getOfString_59 7 rfl
theorem dX8_getOfString_69 : decode cX8_getOfString 69 = .ok (.invokevirtual 1069, 3) := zdec_at bX8_getOfString_59 8 rfl
theorem dX8_getOfString_72 : decode cX8_getOfString 72 = .ok (.istore_n 3, 1) := zdec_at bX8_getOfString_59 9 rfl
theorem dX8_getOfString_73 : decode cX8_getOfString 73 = .ok (.aload_n 0, 1) := zdec_at bX8_getOfString_59 10 rfl
theorem dX8_getOfString_74 : decode cX8_getOfString 74 = .ok (.getfield 1156, 3) := zdec_at bX8_getOfString_59 11 rfl
theorem dX8_getOfString_77 : decode cX8_getOfString 77 = .ok (.ifCond .eq 9, 3) := zdec_at bX8_getOfString_59 12 rfl
theorem dX8_getOfString_80 : decode cX8_getOfString 80 = .ok (.aload_n 0, 1) := zdec_at bX8_getOfString_59 13 rfl
theorem dX8_getOfString_81 : decode cX8_getOfString 81 = .ok (.iload_n 2, 1) := zdec_at bX8_getOfString_59 14 rfl
theorem dX8_getOfString_82 : decode cX8_getOfString 82 = .ok (.iconst 1, 1) := zdec_at bX8_getOfString_59 15 rfl
theorem bX8_getOfString_83 : zdec cX8_getOfString 83 [(83, .invokevirtual 1072, 3), (86, .return_, 1)] = true := by decide +kernel
theorem dX8_getOfString_83 : decode cX8_getOfString 83 = .ok (.invokevirtual 1072, 3) := zdec_at bX8_getOfString_83 0 rfl
theorem dX8_getOfString_86 : decode cX8_getOfString 86 = .ok (.return_, 1) := zdec_at bX8_getOfString_83 1 rfl
theorem sX8_getOfString_0 {E : zE} {d : Nat} {Q : zO → zM → Prop} (M : zM) (l1 : Int32) (l2 : Int32) (k : Zm E YX8_hasKey d M (zargs 0 [vr (some (97, 1, 0)), vi (0 : Int32)]) 0 [] (zma E YX8_getOfString (d + 1) [(0, vr (some (97, 1, 0))), (1, vi l1), (2, vi l2)] 2 3 [] Q)) : Zm E YX8_getOfString (d + 1) M [(0, vr (some (97, 1, 0))), (1, vi l1), (2, vi l2)] 0 [] Q := by
  refine Zm.l (fun _ _ k_ => z_aload_n dX8_getOfString_0 rfl rfl k_) ?_
  refine Zm.l (fun _ _ k_ => z_iconst (v := 0) dX8_getOfString_1 rfl k_) ?_
  exact zm_callV (as := [vi (0 : Int32)]) (st := []) dX8_getOfString_2 vsX8_1153_1 (Nat.le_refl _) (Nat.le_of_ble_eq_true rfl) (Nat.le_of_ble_eq_true rfl) rfl k
theorem sX8_getOfString_5 {E : zE} {d : Nat} {Q : zO → zM → Prop} (M : zM) (l1 : Int32) (l2 : Int32) (s0 : Int32) (k : if s0 = 0 then (Zm E YX8_getOfString (d + 1) M [(0, vr (some (97, 1, 0))), (2, vi l2)] 41 [] Q) else (Zm E YX8_isAlone d M (zargs 0 [vr (some (97, 1, 0)), vi l1]) 0 [] (zma E YX8_getOfString (d + 1) [(0, vr (some (97, 1, 0))), (1, vi l1), (2, vi l2)] 10 3 [] Q))) : Zm E YX8_getOfString (d + 1) M [(0, vr (some (97, 1, 0))), (1, vi l1), (2, vi l2)] 5 [vi s0] Q := by
  refine Zm.br (fun _ _ k1_ k2_ => z_if_eq (tgt := 41) dX8_getOfString_5 rfl k1_ k2_) (fun h_ => ?_) (fun h_ => ?_)
  · have k := zit h_ k
    refine Zm.pick [0, 2] rfl ?_
    exact k
  · have k := zif h_ k
    refine Zm.l (fun _ _ k_ => z_aload_n dX8_getOfString_8 rfl rfl k_) ?_
    refine Zm.l (fun _ _ k_ => z_iload_n dX8_getOfString_9 rfl rfl k_) ?_
    exact zm_callV (as := [vi l1]) (st := []) dX8_getOfString_10 vsX8_1294_1 (Nat.le_refl _) (Nat.le_of_ble_eq_true rfl) (Nat.le_of_ble_eq_true rfl) rfl k
theorem sX8_getOfString_13 {E : zE} {d : Nat} {Q : zO → zM → Prop} (M : zM) (l1 : Int32) (l2 : Int32) (s0 : Int32) (k : if s0 = 0 then (Zm E YX8_addSort d M (zargs 0 [vr (some (97, 1, 0)), vi l2, vi (64 : Int32)]) 0 [] (zma E YX8_getOfString (d + 1) [(0, vr (some (97, 1, 0))), (2, vi l2)] 38 3 [] Q)) else (Zm E YX8_name d M (zargs 0 [vr (some (97, 1, 0)), vi l1]) 0 [] (zma E YX8_getOfString (d + 1) [(0, vr (some (97, 1, 0))), (2, vi l2)] 24 3 [vr (some (101, 100, 400)), vi l2, vr (some (97, 1, 0))] Q))) : Zm E YX8_getOfString (d + 1) M [(0, vr (some (97, 1, 0))), (1, vi l1), (2, vi l2)] 13 [vi s0] Q := by
  refine Zm.br (fun _ _ k1_ k2_ => z_if_eq (tgt := 34) dX8_getOfString_13 rfl k1_ k2_) (fun h_ => ?_) (fun h_ => ?_)
  · have k := zit h_ k
    refine Zm.l (fun _ _ k_ => z_aload_n dX8_getOfString_34 rfl rfl k_) ?_
    refine Zm.l (fun _ _ k_ => z_iload_n dX8_getOfString_35 rfl rfl k_) ?_
    refine Zm.l (fun _ _ k_ => z_bipush (v := 64) dX8_getOfString_36 rfl k_) ?_
    refine Zm.pick [0, 2] rfl ?_
    exact zm_callV (as := [vi l2, vi (64 : Int32)]) (st := []) dX8_getOfString_38 vsX8_1072_1 (Nat.le_refl _) (Nat.le_of_ble_eq_true rfl) (Nat.le_of_ble_eq_true rfl) rfl k
  · have k := zif h_ k
    refine Zm.l (fun _ _ k_ => z_aload_n dX8_getOfString_16 rfl rfl k_) ?_
    refine Zm.l (fun _ _ k_ => z_iload_n dX8_getOfString_17 rfl rfl k_) ?_
    refine Zm.l (fun _ _ k_ => z_aload_n dX8_getOfString_18 rfl rfl k_) ?_
    refine zm_getr 3 dX8_getOfString_19 fsX8_20_1 rfl ?_
    refine Zm.l (fun _ _ k_ => z_aload_n dX8_getOfString_22 rfl rfl k_) ?_
    refine Zm.l (fun _ _ k_ => z_iload_n dX8_getOfString_23 rfl rfl k_) ?_
    refine Zm.pick [0, 2] rfl ?_
    exact zm_callV (as := [vi l1]) (st := [vr (some (101, 100, 400)), vi l2, vr (some (97, 1, 0))]) dX8_getOfString_24 vsX8_1053_1 (Nat.le_refl _) (Nat.le_of_ble_eq_true rfl) (Nat.le_of_ble_eq_true rfl) rfl k
theorem sX8_getOfString_27 {E : zE} {d : Nat} {Q : zO → zM → Prop} (M : zM) (l2 : Int32) (s0 : Int32) (s2 : Int32) (k : vp_in s0 400 ∧ (Zm E YX8_addNumber d M (zargs 0 [vr (some (97, 1, 0)), vi s2, vi (gi M 101 (s0).toNatClampNeg)]) 0 [] (zma E YX8_getOfString (d + 1) [(0, vr (some (97, 1, 0))), (2, vi l2)] 28 3 [] Q))) : Zm E YX8_getOfString (d + 1) M [(0, vr (some (97, 1, 0))), (2, vi l2)] 27 [vi s0, vr (some (101, 100, 400)), vi s2, vr (some (97, 1, 0))] Q := by
  obtain ⟨b_, k⟩ := k
  refine zm_iald dX8_getOfString_27 b_ (by decide) (by decide) ?_
  exact zm_callV (as := [vi s2, vi (gi M 101 (s0).toNatClampNeg)]) (st := []) dX8_getOfString_28 vsX8_1075_1 (Nat.le_refl _) (Nat.le_of_ble_eq_true rfl) (Nat.le_of_ble_eq_true rfl) rfl k
theorem sX8_getOfString_31 {E : zE} {d : Nat} {Q : zO → zM → Prop} (M : zM) (l2 : Int32) (k : Zm E YX8_getOfString (d + 1) M [(0, vr (some (97, 1, 0))), (2, vi l2)] 41 [] Q) : Zm E YX8_getOfString (d + 1) M [(0, vr (some (97, 1, 0))), (2, vi l2)] 31 [] Q := by
  refine Zm.l (fun _ _ k_ => z_goto (tgt := 41) dX8_getOfString_31 rfl k_) ?_
  exact k
theorem sX8_getOfString_41 {E : zE} {d : Nat} {Q : zO → zM → Prop} (M : zM) (l2 : Int32) (k : Zm E YX8_readFrom d (sl M 97 143 ((gl M 97 143) &&& (-2 : Int64))) (zargs 0 [vr (some (97, 1, 0)), vl (16 : Int64), vl (0 : Int64), vi (l2 + (1 : Int32))]) 0 [] (zma E YX8_getOfString (d + 1) [(0, vr (some (97, 1, 0))), (2, vi l2)] 61 3 [] Q)) : Zm E YX8_getOfString (d + 1) M [(0, vr (some (97, 1, 0))), (2, vi l2)] 41 [] Q := by
  refine Zm.l (fun _ _ k_ => z_aload_n dX8_getOfString_41 rfl rfl k_) ?_
  refine Zm.l (fun _ _ k_ => z_aload_n dX8_getOfString_42 rfl rfl k_) ?_
  refine zm_getl dX8_getOfString_43 fsX8_1118_1 (by decide) (by decide) ?_
  refine Zm.l (fun _ _ k_ => z_ldc2 (v := -2) dX8_getOfString_46 q5024 k_) ?_
  refine Zm.l (fun _ _ k_ => z_land dX8_getOfString_49 k_) ?_
  refine zm_putl (by decide) (by decide) dX8_getOfString_50 (zfwN.w fwX8_1118_1) ?_
  refine Zm.l (fun _ _ k_ => z_aload_n dX8_getOfString_53 rfl rfl k_) ?_
  refine Zm.l (fun _ _ k_ => z_ldc2 (v := 16) dX8_getOfString_54 q5025 k_) ?_
  refine Zm.l (fun _ _ k_ => z_lconst (v := 0) dX8_getOfString_57 rfl k_) ?_
  refine Zm.l (fun _ _ k_ => z_iload_n dX8_getOfString_58 rfl rfl k_) ?_
  refine Zm.l (fun _ _ k_ => z_iconst (v := 1) dX8_getOfString_59 rfl k_) ?_
  refine Zm.l (fun _ _ k_ => z_iadd dX8_getOfString_60 k_) ?_
  exact zm_callV (as := [vl (16 : Int64), vl (0 : Int64), vi (l2 + (1 : Int32))]) (st := []) dX8_getOfString_61 vsX8_1306_1 (Nat.le_refl _) (Nat.le_of_ble_eq_true rfl) (Nat.le_of_ble_eq_true rfl) rfl k
theorem sX8_getOfString_64 {E : zE} {d : Nat} {Q : zO → zM → Prop} (M : zM) (l2 : Int32) (k : Zm E YX8_join d M (zargs 0 [vr (some (97, 1, 0)), vi (l2 + (1 : Int32)), vi l2]) 0 [] (zma E YX8_getOfString (d + 1) [(0, vr (some (97, 1, 0))), (2, vi l2)] 69 3 [] Q)) : Zm E YX8_getOfString (d + 1) M [(0, vr (some (97, 1, 0))), (2, vi l2)] 64 [] Q := by
  refine Zm.l (fun _ _ k_ => z_aload_n dX8_getOfString_64 rfl rfl k_) ?_
  refine Zm.l (fun _ _ k_ => z_iload_n dX8_getOfString_65 rfl rfl k_) ?_
  refine Zm.l (fun _ _ k_ => z_iconst (v := 1) dX8_getOfString_66 rfl k_) ?_
  refine Zm.l (fun _ _ k_ => z_iadd dX8_getOfString_67 k_) ?_
  refine Zm.l (fun _ _ k_ => z_iload_n dX8_getOfString_68 rfl rfl k_) ?_
  exact zm_callV (as := [vi (l2 + (1 : Int32)), vi l2]) (st := []) dX8_getOfString_69 vsX8_1069_1 (Nat.le_refl _) (Nat.le_of_ble_eq_true rfl) (Nat.le_of_ble_eq_true rfl) rfl k
theorem sX8_getOfString_72 {E : zE} {d : Nat} {Q : zO → zM → Prop} (M : zM) (l2 : Int32) (s0 : Int32) (k : if (gi M 97 145) = 0 then (Zm E YX8_getOfString (d + 1) M [] 86 [] Q) else (Zm E YX8_addSort d M (zargs 0 [vr (some (97, 1, 0)), vi l2, vi (1 : Int32)]) 0 [] (zma E YX8_getOfString (d + 1) [] 83 3 [] Q))) : Zm E YX8_getOfString (d + 1) M [(0, vr (some (97, 1, 0))), (2, vi l2)] 72 [vi s0] Q := by
  refine Zm.l (fun _ _ k_ => z_ist_n dX8_getOfString_72 rfl (by decide) (lv' := [(0, vr (some (97, 1, 0))), (2, vi l2), (3, vi s0)]) rfl k_) ?_
  refine Zm.l (fun _ _ k_ => z_aload_n dX8_getOfString_73 rfl rfl k_) ?_
  refine zm_geti dX8_getOfString_74 fsX8_1156_1 (by decide) (by decide) ?_
  refine Zm.br (fun _ _ k1_ k2_ => z_if_eq (tgt := 86) dX8_getOfString_77 rfl k1_ k2_) (fun h_ => ?_) (fun h_ => ?_)
  · have k := zit h_ k
    refine Zm.pick [] rfl ?_
    exact k
  · have k := zif h_ k
    refine Zm.l (fun _ _ k_ => z_aload_n dX8_getOfString_80 rfl rfl k_) ?_
    refine Zm.l (fun _ _ k_ => z_iload_n dX8_getOfString_81 rfl rfl k_) ?_
    refine Zm.l (fun _ _ k_ => z_iconst (v := 1) dX8_getOfString_82 rfl k_) ?_
    refine Zm.pick [] rfl ?_
    exact zm_callV (as := [vi l2, vi (1 : Int32)]) (st := []) dX8_getOfString_83 vsX8_1072_1 (Nat.le_refl _) (Nat.le_of_ble_eq_true rfl) (Nat.le_of_ble_eq_true rfl) rfl k
theorem sX8_getOfString_86 {E : zE} {d : Nat} {Q : zO → zM → Prop} (M : zM)  (k : Q (.inl none) M) : Zm E YX8_getOfString (d + 1) M [] 86 [] Q := by
  exact zm_vret dX8_getOfString_86 rfl k
/-! ScriptTypesModel.isAlone(I)Z -/
theorem bX8_isAlone_0 : zdec cX8_isAlone 0 [(0, .aload_n 0, 1), (1, .iload_n 1, 1), (2, .invokevirtual 1059, 3), (5, .istore_n 2, 1), (6, .aload_n 0, 1), (7, .iload_n 1, 1), (8, .invokevirtual 1062, 3), (11, .ifCond .ne 47, 3), (14, .iload_n 2, 1), (15, .iconst 1, 1), (16, .if_icmp .eq 38, 3), (19, .iload_n 2, 1), (20, .iconst 2, 1), (21, .if_icmp .eq 33, 3), (24, .iload_n 2, 1), (25, .iconst 4, 1)] = true := by decide +kernel
theorem dX8_isAlone_0 : decode cX8_isAlone 0 = .ok (.aload_n 0, 1) := zdec_at bX8_isAlone_0 0 rfl
theorem dX8_isAlone_1 : decode cX8_isAlone 1 = .ok (.iload_n 1, 1) := zdec_at bX8_isAlone_0 1 rfl
theorem dX8_isAlone_2 : decode cX8_isAlone 2 = .ok (.invokevirtual 1059, 3) := zdec_at bX8_isAlone_0 2 rfl
theorem dX8_isAlone_5 : decode cX8_isAlone 5 = .ok (.istore_n 2, 1) := zdec_at bX8_isAlone_0 3 rfl
theorem dX8_isAlone_6 : decode cX8_isAlone 6 = .ok (.aload_n 0, 1) := zdec_at bX8_isAlone_0 4 rfl
theorem dX8_isAlone_7 : decode cX8_isAlone 7 = .ok (.iload_n 1, 1) := zdec_at bX8_isAlone_0 5 rfl
theorem dX8_isAlone_8 : decode cX8_isAlone 8 = .ok (.invokevirtual 1062, 3) := zdec_at bX8_isAlone_0 6 rfl
theorem dX8_isAlone_11 : decode cX8_isAlone 11 = .ok (.ifCond .ne 47, 3) := zdec_at bX8_isAlone_0 7 rfl
theorem dX8_isAlone_14 : decode cX8_isAlone 14 = .ok (.iload_n 2, 1) := zdec_at bX8_isAlone_0 8 rfl
theorem dX8_isAlone_15 : decode cX8_isAlone 15 = .ok (.iconst 1, 1) := zdec_at bX8_isAlone_0 9 rfl
theorem dX8_isAlone_16 : decode cX8_isAlone 16 = .ok (.if_icmp .eq 38, 3) := zdec_at bX8_isAlone_0 10 rfl
theorem dX8_isAlone_19 : decode cX8_isAlone 19 = .ok (.iload_n 2, 1) := zdec_at bX8_isAlone_0 11 rfl
theorem dX8_isAlone_20 : decode cX8_isAlone 20 = .ok (.iconst 2, 1) := zdec_at bX8_isAlone_0 12 rfl
theorem dX8_isAlone_21 : decode cX8_isAlone 21 = .ok (.if_icmp .eq 33, 3) := zdec_at bX8_isAlone_0 13 rfl
theorem dX8_isAlone_24 : decode cX8_isAlone 24 = .ok (.iload_n 2, 1) := zdec_at bX8_isAlone_0 14 rfl
theorem dX8_isAlone_25 : decode cX8_isAlone 25 = .ok (.iconst 4, 1) := zdec_at bX8_isAlone_0 15 rfl
theorem bX8_isAlone_26 : zdec cX8_isAlone 26 [(26, .if_icmp .eq 28, 3), (29, .iload_n 2, 1), (30, .bipush 8, 2), (32, .if_icmp .eq 22, 3), (35, .iload_n 2, 1), (36, .bipush 16, 2), (38, .if_icmp .eq 16, 3), (41, .iload_n 2, 1), (42, .bipush 32, 2), (44, .if_icmp .eq 10, 3), (47, .iload_n 2, 1), (48, .sipush 128, 3), (51, .if_icmp .ne 7, 3), (54, .iconst 1, 1), (55, .goto 4, 3), (58, .iconst 0, 1)] = true := by decide +kernel
theorem dX8_isAlone_26 : decode cX8_isAlone 26 = .ok (.if_icmp .eq 28, 3) := zdec_at bX8_isAlone_26 0 rfl
theorem dX8_isAlone_29 : decode cX8_isAlone 29 = .ok (.iload_n 2, 1) := zdec_at bX8_isAlone_26 1 rfl
theorem dX8_isAlone_30 : decode cX8_isAlone 30 = .ok (.bipush 8, 2) := zdec_at bX8_isAlone_26 2 rfl
theorem dX8_isAlone_32 : decode cX8_isAlone 32 = .ok (.if_icmp .eq 22, 3) := zdec_at bX8_isAlone_26 3 rfl
theorem dX8_isAlone_35 : decode cX8_isAlone 35 = .ok (.iload_n 2, 1) := zdec_at bX8_isAlone_26 4 rfl
theorem dX8_isAlone_36 : decode cX8_isAlone 36 = .ok (.bipush 16, 2) := zdec_at bX8_isAlone_26 5 rfl
theorem dX8_isAlone_38 : decode cX8_isAlone 38 = .ok (.if_icmp .eq 16, 3) := zdec_at bX8_isAlone_26 6 rfl
theorem dX8_isAlone_41 : decode cX8_isAlone 41 = .ok (.iload_n 2, 1) := zdec_at bX8_isAlone_26 7 rfl
theorem dX8_isAlone_42 : decode cX8_isAlone 42 = .ok (.bipush 32, 2) := zdec_at bX8_isAlone_26 8 rfl
theorem dX8_isAlone_44 : decode cX8_isAlone 44 = .ok (.if_icmp .eq 10, 3) := zdec_at bX8_isAlone_26 9 rfl
theorem dX8_isAlone_47 : decode cX8_isAlone 47 = .ok (.iload_n 2, 1) := zdec_at bX8_isAlone_26 10 rfl
theorem dX8_isAlone_48 : decode cX8_isAlone 48 = .ok (.sipush 128, 3) := zdec_at bX8_isAlone_26 11 rfl
theorem dX8_isAlone_51 : decode cX8_isAlone 51 = .ok (.if_icmp .ne 7, 3) := zdec_at bX8_isAlone_26 12 rfl
theorem dX8_isAlone_54 : decode cX8_isAlone 54 = .ok (.iconst 1, 1) := zdec_at bX8_isAlone_26 13 rfl
theorem dX8_isAlone_55 : decode cX8_isAlone 55 = .ok (.goto 4, 3) := zdec_at bX8_isAlone_26 14 rfl
theorem dX8_isAlone_58 : decode cX8_isAlone 58 = .ok (.iconst 0, 1) := zdec_at bX8_isAlone_26 15 rfl
theorem bX8_isAlone_59 : zdec cX8_isAlone 59 [(59, .ireturn, 1)] = true := by decide +kernel
theorem dX8_isAlone_59 : decode cX8_isAlone 59 = .ok (.ireturn, 1) := zdec_at bX8_isAlone_59 0 rfl
theorem sX8_isAlone_0 {E : zE} {d : Nat} {Q : zO → zM → Prop} (M : zM) (l1 : Int32) (k : Zm E YX8_plainly d M (zargs 0 [vr (some (97, 1, 0)), vi l1]) 0 [] (zma E YX8_isAlone (d + 1) [(0, vr (some (97, 1, 0))), (1, vi l1)] 2 3 [] Q)) : Zm E YX8_isAlone (d + 1) M [(0, vr (some (97, 1, 0))), (1, vi l1)] 0 [] Q := by
  refine Zm.l (fun _ _ k_ => z_aload_n dX8_isAlone_0 rfl rfl k_) ?_
  refine Zm.l (fun _ _ k_ => z_iload_n dX8_isAlone_1 rfl rfl k_) ?_
  exact zm_callV (as := [vi l1]) (st := []) dX8_isAlone_2 vsX8_1059_1 (Nat.le_refl _) (Nat.le_of_ble_eq_true rfl) (Nat.le_of_ble_eq_true rfl) rfl k
theorem sX8_isAlone_5 {E : zE} {d : Nat} {Q : zO → zM → Prop} (M : zM) (l1 : Int32) (s0 : Int32) (k : Zm E YX8_hasLabels d M (zargs 0 [vr (some (97, 1, 0)), vi l1]) 0 [] (zma E YX8_isAlone (d + 1) [(2, vi s0)] 8 3 [] Q)) : Zm E YX8_isAlone (d + 1) M [(0, vr (some (97, 1, 0))), (1, vi l1)] 5 [vi s0] Q := by
  refine Zm.l (fun _ _ k_ => z_ist_n dX8_isAlone_5 rfl (by decide) (lv' := [(0, vr (some (97, 1, 0))), (1, vi l1), (2, vi s0)]) rfl k_) ?_
  refine Zm.l (fun _ _ k_ => z_aload_n dX8_isAlone_6 rfl rfl k_) ?_
  refine Zm.l (fun _ _ k_ => z_iload_n dX8_isAlone_7 rfl rfl k_) ?_
  refine Zm.pick [2] rfl ?_
  exact zm_callV (as := [vi l1]) (st := []) dX8_isAlone_8 vsX8_1062_1 (Nat.le_refl _) (Nat.le_of_ble_eq_true rfl) (Nat.le_of_ble_eq_true rfl) rfl k
theorem sX8_isAlone_11 {E : zE} {d : Nat} {Q : zO → zM → Prop} (M : zM) (l2 : Int32) (s0 : Int32) (k : if s0 = 0 then (if l2 = (1 : Int32) then (Q (.inl (some (vi (1 : Int32)))) M) else (if l2 = (2 : Int32) then (Q (.inl (some (vi (1 : Int32)))) M) else (if l2 = (4 : Int32) then (Q (.inl (some (vi (1 : Int32)))) M) else (if l2 = (8 : Int32) then (Q (.inl (some (vi (1 : Int32)))) M) else (if l2 = (16 : Int32) then (Q (.inl (some (vi (1 : Int32)))) M) else (if l2 = (32 : Int32) then (Q (.inl (some (vi (1 : Int32)))) M) else (if l2 = (128 : Int32) then (Q (.inl (some (vi (1 : Int32)))) M) else (Q (.inl (some (vi (0 : Int32)))) M)))))))) else (Q (.inl (some (vi (0 : Int32)))) M)) : Zm E YX8_isAlone (d + 1) M [(2, vi l2)] 11 [vi s0] Q := by
  refine Zm.brn (fun _ _ k1_ k2_ => z_if_ne (tgt := 58) dX8_isAlone_11 rfl k1_ k2_) (fun h_ => ?_) (fun h_ => ?_)
  · have k := zif h_ k
    refine Zm.l (fun _ _ k_ => z_iconst (v := 0) dX8_isAlone_58 rfl k_) ?_
    exact zm_iret dX8_isAlone_59 rfl (by decide) k
  · have k := zit h_ k
    refine Zm.l (fun _ _ k_ => z_iload_n dX8_isAlone_14 rfl rfl k_) ?_
    refine Zm.l (fun _ _ k_ => z_iconst (v := 1) dX8_isAlone_15 rfl k_) ?_
    refine Zm.br (fun _ _ k1_ k2_ => z_icmp_eq (tgt := 54) dX8_isAlone_16 rfl k1_ k2_) (fun h_ => ?_) (fun h_ => ?_)
    · have k := zit h_ k
      refine Zm.l (fun _ _ k_ => z_iconst (v := 1) dX8_isAlone_54 rfl k_) ?_
      refine Zm.l (fun _ _ k_ => z_goto (tgt := 59) dX8_isAlone_55 rfl k_) ?_
      exact zm_iret dX8_isAlone_59 rfl (by decide) k
    · have k := zif h_ k
      refine Zm.l (fun _ _ k_ => z_iload_n dX8_isAlone_19 rfl rfl k_) ?_
      refine Zm.l (fun _ _ k_ => z_iconst (v := 2) dX8_isAlone_20 rfl k_) ?_
      refine Zm.br (fun _ _ k1_ k2_ => z_icmp_eq (tgt := 54) dX8_isAlone_21 rfl k1_ k2_) (fun h_ => ?_) (fun h_ => ?_)
      · have k := zit h_ k
        refine Zm.l (fun _ _ k_ => z_iconst (v := 1) dX8_isAlone_54 rfl k_) ?_
        refine Zm.l (fun _ _ k_ => z_goto (tgt := 59) dX8_isAlone_55 rfl k_) ?_
        exact zm_iret dX8_isAlone_59 rfl (by decide) k
      · have k := zif h_ k
        refine Zm.l (fun _ _ k_ => z_iload_n dX8_isAlone_24 rfl rfl k_) ?_
        refine Zm.l (fun _ _ k_ => z_iconst (v := 4) dX8_isAlone_25 rfl k_) ?_
        refine Zm.br (fun _ _ k1_ k2_ => z_icmp_eq (tgt := 54) dX8_isAlone_26 rfl k1_ k2_) (fun h_ => ?_) (fun h_ => ?_)
        · have k := zit h_ k
          refine Zm.l (fun _ _ k_ => z_iconst (v := 1) dX8_isAlone_54 rfl k_) ?_
          refine Zm.l (fun _ _ k_ => z_goto (tgt := 59) dX8_isAlone_55 rfl k_) ?_
          exact zm_iret dX8_isAlone_59 rfl (by decide) k
        · have k := zif h_ k
          refine Zm.l (fun _ _ k_ => z_iload_n dX8_isAlone_29 rfl rfl k_) ?_
          refine Zm.l (fun _ _ k_ => z_bipush (v := 8) dX8_isAlone_30 rfl k_) ?_
          refine Zm.br (fun _ _ k1_ k2_ => z_icmp_eq (tgt := 54) dX8_isAlone_32 rfl k1_ k2_) (fun h_ => ?_) (fun h_ => ?_)
          · have k := zit h_ k
            refine Zm.l (fun _ _ k_ => z_iconst (v := 1) dX8_isAlone_54 rfl k_) ?_
            refine Zm.l (fun _ _ k_ => z_goto (tgt := 59) dX8_isAlone_55 rfl k_) ?_
            exact zm_iret dX8_isAlone_59 rfl (by decide) k
          · have k := zif h_ k
            refine Zm.l (fun _ _ k_ => z_iload_n dX8_isAlone_35 rfl rfl k_) ?_
            refine Zm.l (fun _ _ k_ => z_bipush (v := 16) dX8_isAlone_36 rfl k_) ?_
            refine Zm.br (fun _ _ k1_ k2_ => z_icmp_eq (tgt := 54) dX8_isAlone_38 rfl k1_ k2_) (fun h_ => ?_) (fun h_ => ?_)
            · have k := zit h_ k
              refine Zm.l (fun _ _ k_ => z_iconst (v := 1) dX8_isAlone_54 rfl k_) ?_
              refine Zm.l (fun _ _ k_ => z_goto (tgt := 59) dX8_isAlone_55 rfl k_) ?_
              exact zm_iret dX8_isAlone_59 rfl (by decide) k
            · have k := zif h_ k
              refine Zm.l (fun _ _ k_ => z_iload_n dX8_isAlone_41 rfl rfl k_) ?_
              refine Zm.l (fun _ _ k_ => z_bipush (v := 32) dX8_isAlone_42 rfl k_) ?_
              refine Zm.br (fun _ _ k1_ k2_ => z_icmp_eq (tgt := 54) dX8_isAlone_44 rfl k1_ k2_) (fun h_ => ?_) (fun h_ => ?_)
              · have k := zit h_ k
                refine Zm.l (fun _ _ k_ => z_iconst (v := 1) dX8_isAlone_54 rfl k_) ?_
                refine Zm.l (fun _ _ k_ => z_goto (tgt := 59) dX8_isAlone_55 rfl k_) ?_
                exact zm_iret dX8_isAlone_59 rfl (by decide) k
              · have k := zif h_ k
                refine Zm.l (fun _ _ k_ => z_iload_n dX8_isAlone_47 rfl rfl k_) ?_
                refine Zm.l (fun _ _ k_ => z_sipush (v := 128) dX8_isAlone_48 rfl k_) ?_
                refine Zm.brn (fun _ _ k1_ k2_ => z_icmp_ne (tgt := 58) dX8_isAlone_51 rfl k1_ k2_) (fun h_ => ?_) (fun h_ => ?_)
                · have k := zif h_ k
                  refine Zm.l (fun _ _ k_ => z_iconst (v := 0) dX8_isAlone_58 rfl k_) ?_
                  exact zm_iret dX8_isAlone_59 rfl (by decide) k
                · have k := zit h_ k
                  refine Zm.l (fun _ _ k_ => z_iconst (v := 1) dX8_isAlone_54 rfl k_) ?_
                  refine Zm.l (fun _ _ k_ => z_goto (tgt := 59) dX8_isAlone_55 rfl k_) ?_
                  exact zm_iret dX8_isAlone_59 rfl (by decide) k
/-! ScriptTypesModel.readFrom(JJI)V -/
theorem bX8_readFrom_0 : zdec cX8_readFrom 0 [(0, .aload_n 0, 1), (1, .iload 5, 2), (3, .invokevirtual 1066, 3), (6, .aload_n 0, 1), (7, .iconst 0, 1), (8, .putfield 1156, 3), (11, .iconst 0, 1), (12, .istore 6, 2), (14, .iload 6, 2), (16, .aload_n 0, 1), (17, .getfield 762, 3), (20, .if_icmp .gt 28, 3), (23, .aload_n 0, 1), (24, .iload 6, 2), (26, .invokevirtual 1153, 3), (29, .ifCond .eq 13, 3)] = true := by decide +kernel
theorem dX8_readFrom_0 : decode cX8_readFrom 0 = .ok (.aload_n 0, 1) := zdec_at bX8_readFrom_0 0 rfl
theorem dX8_readFrom_1 : decode cX8_readFrom 1 = .ok (.iload 5, 2) := zdec_at bX8_readFrom_0 1 rfl
theorem dX8_readFrom_3 : decode cX8_readFrom 3 = .ok (.invokevirtual 1066, 3) := zdec_at bX8_readFrom_0 2 rfl
theorem dX8_readFrom_6 : decode cX8_readFrom 6 = .ok (.aload_n 0, 1) := zdec_at bX8_readFrom_0 3 rfl
theorem dX8_readFrom_7 : decode cX8_readFrom 7 = .ok (.iconst 0, 1) := zdec_at bX8_readFrom_0 4 rfl
theorem dX8_readFrom_8 : decode cX8_readFrom 8 = .ok (.putfield 1156, 3) := zdec_at bX8_readFrom_0 5 rfl
theorem dX8_readFrom_11 : decode cX8_readFrom 11 = .ok (.iconst 0, 1) := zdec_at bX8_readFrom_0 6 rfl
theorem dX8_readFrom_12 : decode cX8_readFrom 12 = .ok (.istore 6, 2) := zdec_at bX8_readFrom_0 7 rfl
theorem dX8_readFrom_14 : decode cX8_readFrom 14 = .ok (.iload 6, 2) := zdec_at bX8_readFrom_0 8 rfl
theorem dX8_readFrom_16 : decode cX8_readFrom 16 = .ok (.aload_n 0, 1) := zdec_at bX8_readFrom_0 9 rfl
theorem dX8_readFrom_17 : decode cX8_readFrom 17 = .ok (.getfield 762, 3) := zdec_at bX8_readFrom_0 10 rfl
theorem dX8_readFrom_20 : decode cX8_readFrom 20 = .ok (.if_icmp .gt 28, 3) := zdec_at bX8_readFrom_0 11 rfl
theorem dX8_readFrom_23 : decode cX8_readFrom 23 = .ok (.aload_n 0, 1) := zdec_at bX8_readFrom_0 12 rfl
theorem dX8_readFrom_24 : decode cX8_readFrom 24 = .ok (.iload 6, 2) := zdec_at bX8_readFrom_0 13 rfl
theorem dX8_readFrom_26 : decode cX8_readFrom 26 = .ok (.invokevirtual 1153, 3) := zdec_at bX8_readFrom_0 14 rfl
theorem dX8_readFrom_29 : decode cX8_readFrom 29 = .ok (.ifCond .eq 13, 3) := zdec_at bX8_readFrom_0 15 rfl
theorem bX8_readFrom_32 : zdec cX8_readFrom 32 [(32, .aload_n 0, 1), (33, .lload_n 1, 1), (34, .lload_n 3, 1), (35, .iload 6, 2), (37, .iload 5, 2), (39, .invokevirtual 1159, 3), (42, .iinc 6 1, 3), (45, .goto (-31), 3), (48, .return_, 1)] = true := by decide +kernel
theorem dX8_readFrom_32 : decode cX8_readFrom 32 = .ok (.aload_n 0, 1) := zdec_at bX8_readFrom_32 0 rfl
theorem dX8_readFrom_33 : decode cX8_readFrom 33 = .ok (.lload_n 1, 1) := zdec_at bX8_readFrom_32 1 rfl
theorem dX8_readFrom_34 : decode cX8_readFrom 34 = .ok (.lload_n 3, 1) := zdec_at bX8_readFrom_32 2 rfl
theorem dX8_readFrom_35 : decode cX8_readFrom 35 = .ok (.iload 6, 2) := zdec_at bX8_readFrom_32 3 rfl
theorem dX8_readFrom_37 : decode cX8_readFrom 37 = .ok (.iload 5, 2) := zdec_at bX8_readFrom_32 4 rfl
theorem dX8_readFrom_39 : decode cX8_readFrom 39 = .ok (.invokevirtual 1159, 3) := zdec_at bX8_readFrom_32 5 rfl
theorem dX8_readFrom_42 : decode cX8_readFrom 42 = .ok (.iinc 6 1, 3) := zdec_at bX8_readFrom_32 6 rfl
theorem dX8_readFrom_45 : decode cX8_readFrom 45 = .ok (.goto (-31), 3) := zdec_at bX8_readFrom_32 7 rfl
theorem dX8_readFrom_48 : decode cX8_readFrom 48 = .ok (.return_, 1) := zdec_at bX8_readFrom_32 8 rfl
theorem sX8_readFrom_0 {E : zE} {d : Nat} {Q : zO → zM → Prop} (M : zM) (l1 : Int64) (l3 : Int64) (l5 : Int32) (k : Zm E YX8_empty d M (zargs 0 [vr (some (97, 1, 0)), vi l5]) 0 [] (zma E YX8_readFrom (d + 1) [(0, vr (some (97, 1, 0))), (1, vl l1), (3, vl l3), (5, vi l5)] 3 3 [] Q)) : Zm E YX8_readFrom (d + 1) M [(0, vr (some (97, 1, 0))), (1, vl l1), (3, vl l3), (5, vi l5)] 0 [] Q := by
  refine Zm.l (fun _ _ k_ => z_aload_n dX8_readFrom_0 rfl rfl k_) ?_
  refine Zm.l (fun _ _ k_ => z_iload dX8_readFrom_1 rfl k_) ?_
  exact zm_callV (as := [vi l5]) (st := []) dX8_readFrom_3 vsX8_1066_1 (Nat.le_refl _) (Nat.le_of_ble_eq_true rfl) (Nat.le_of_ble_eq_true rfl) rfl k
theorem sX8_readFrom_6 {E : zE} {d : Nat} {Q : zO → zM → Prop} (M : zM) (l1 : Int64) (l3 : Int64) (l5 : Int32) (k : Zm E YX8_readFrom (d + 1) (si M 97 145 (0 : Int32)) [(0, vr (some (97, 1, 0))), (1, vl l1), (3, vl l3), (5, vi l5), (6, vi (0 : Int32))] 14 [] Q) : Zm E YX8_readFrom (d + 1) M [(0, vr (some (97, 1, 0))), (1, vl l1), (3, vl l3), (5, vi l5)] 6 [] Q := by
  refine Zm.l (fun _ _ k_ => z_aload_n dX8_readFrom_6 rfl rfl k_) ?_
  refine Zm.l (fun _ _ k_ => z_iconst (v := 0) dX8_readFrom_7 rfl k_) ?_
  refine zm_puti (by decide) (by decide) dX8_readFrom_8 (zfwN.w fwX8_1156_1) rfl ⟨by decide, by decide⟩ ?_
  refine Zm.l (fun _ _ k_ => z_iconst (v := 0) dX8_readFrom_11 rfl k_) ?_
  refine Zm.l (fun _ _ k_ => z_ist dX8_readFrom_12 (by decide) (lv' := [(0, vr (some (97, 1, 0))), (1, vl l1), (3, vl l3), (5, vi l5), (6, vi (0 : Int32))]) rfl k_) ?_
  exact k
theorem sX8_readFrom_14 {E : zE} {d : Nat} {Q : zO → zM → Prop} (M : zM) (l1 : Int64) (l3 : Int64) (l5 : Int32) (l6 : Int32) (k : if (gi M 97 8) < l6 then (Q (.inl none) M) else (Zm E YX8_hasKey d M (zargs 0 [vr (some (97, 1, 0)), vi l6]) 0 [] (zma E YX8_readFrom (d + 1) [(0, vr (some (97, 1, 0))), (1, vl l1), (3, vl l3), (5, vi l5), (6, vi l6)] 26 3 [] Q))) : Zm E YX8_readFrom (d + 1) M [(0, vr (some (97, 1, 0))), (1, vl l1), (3, vl l3), (5, vi l5), (6, vi l6)] 14 [] Q := by
  refine Zm.l (fun _ _ k_ => z_iload dX8_readFrom_14 rfl k_) ?_
  refine Zm.l (fun _ _ k_ => z_aload_n dX8_readFrom_16 rfl rfl k_) ?_
  refine zm_geti dX8_readFrom_17 fsX8_762_1 (by decide) (by decide) ?_
  refine Zm.br (fun _ _ k1_ k2_ => z_icmp_gt (tgt := 48) dX8_readFrom_20 rfl k1_ k2_) (fun h_ => ?_) (fun h_ => ?_)
  · have k := zit h_ k
    exact zm_vret dX8_readFrom_48 rfl k
  · have k := zif h_ k
    refine Zm.l (fun _ _ k_ => z_aload_n dX8_readFrom_23 rfl rfl k_) ?_
    refine Zm.l (fun _ _ k_ => z_iload dX8_readFrom_24 rfl k_) ?_
    exact zm_callV (as := [vi l6]) (st := []) dX8_readFrom_26 vsX8_1153_1 (Nat.le_refl _) (Nat.le_of_ble_eq_true rfl) (Nat.le_of_ble_eq_true rfl) rfl k
theorem sX8_readFrom_29 {E : zE} {d : Nat} {Q : zO → zM → Prop} (M : zM) (l1 : Int64) (l3 : Int64) (l5 : Int32) (l6 : Int32) (s0 : Int32) (k : if s0 = 0 then (Zm E YX8_readFrom (d + 1) M [(0, vr (some (97, 1, 0))), (1, vl l1), (3, vl l3), (5, vi l5), (6, vi l6)] 42 [] Q) else (Zm E YX8_readKey d M (zargs 0 [vr (some (97, 1, 0)), vl l1, vl l3, vi l6, vi l5]) 0 [] (zma E YX8_readFrom (d + 1) [(0, vr (some (97, 1, 0))), (1, vl l1), (3, vl l3), (5, vi l5), (6, vi l6)] 39 3 [] Q))) : Zm E YX8_readFrom (d + 1) M [(0, vr (some (97, 1, 0))), (1, vl l1), (3, vl l3), (5, vi l5), (6, vi l6)] 29 [vi s0] Q := by
  refine Zm.br (fun _ _ k1_ k2_ => z_if_eq (tgt := 42) dX8_readFrom_29 rfl k1_ k2_) (fun h_ => ?_) (fun h_ => ?_)
  · have k := zit h_ k
    exact k
  · have k := zif h_ k
    refine Zm.l (fun _ _ k_ => z_aload_n dX8_readFrom_32 rfl rfl k_) ?_
    refine Zm.l (fun _ _ k_ => z_lload_n dX8_readFrom_33 rfl rfl k_) ?_
    refine Zm.l (fun _ _ k_ => z_lload_n dX8_readFrom_34 rfl rfl k_) ?_
    refine Zm.l (fun _ _ k_ => z_iload dX8_readFrom_35 rfl k_) ?_
    refine Zm.l (fun _ _ k_ => z_iload dX8_readFrom_37 rfl k_) ?_
    exact zm_callV (as := [vl l1, vl l3, vi l6, vi l5]) (st := []) dX8_readFrom_39 vsX8_1159_1 (Nat.le_refl _) (Nat.le_of_ble_eq_true rfl) (Nat.le_of_ble_eq_true rfl) rfl k
theorem sX8_readFrom_42 {E : zE} {d : Nat} {Q : zO → zM → Prop} (M : zM) (l1 : Int64) (l3 : Int64) (l5 : Int32) (l6 : Int32) (k : Zm E YX8_readFrom (d + 1) M [(0, vr (some (97, 1, 0))), (1, vl l1), (3, vl l3), (5, vi l5), (6, vi (l6 + (1 : Int32)))] 14 [] Q) : Zm E YX8_readFrom (d + 1) M [(0, vr (some (97, 1, 0))), (1, vl l1), (3, vl l3), (5, vi l5), (6, vi l6)] 42 [] Q := by
  refine Zm.l (fun _ _ k_ => z_inc (v := (l6 + (1 : Int32))) dX8_readFrom_42 rfl rfl (by decide) (lv' := [(0, vr (some (97, 1, 0))), (1, vl l1), (3, vl l3), (5, vi l5), (6, vi (l6 + (1 : Int32)))]) rfl k_) ?_
  refine Zm.l (fun _ _ k_ => z_goto (tgt := 14) dX8_readFrom_45 rfl k_) ?_
  exact k
/-! ScriptTypesModel.readKey(JJII)V -/
theorem bX8_readKey_0 : zdec cX8_readKey 0 [(0, .lload_n 1, 1), (1, .lstore 7, 2), (3, .lload_n 3, 1), (4, .lstore 9, 2), (6, .lconst 0, 1), (7, .lstore 11, 2), (9, .lconst 0, 1), (10, .lstore 13, 2), (12, .lload 7, 2), (14, .lload 11, 2), (16, .ldc2_w 1110, 3), (19, .lxor, 1), (20, .land, 1), (21, .lconst 0, 1), (22, .lcmp, 1), (23, .ifCond .ne 17, 3)] = true := by decide +kernel
theorem dX8_readKey_0 : decode cX8_readKey 0 = .ok (.lload_n 1, 1) := zdec_at bX8_readKey_0 0 rfl
theorem dX8_readKey_1 : decode cX8_readKey 1 = .ok (.lstore 7, 2) := zdec_at bX8_readKey_0 1 rfl
theorem dX8_readKey_3 : decode cX8_readKey 3 = .ok (.lload_n 3, 1) := zdec_at bX8_readKey_0 2 rfl
theorem dX8_readKey_4 : decode cX8_readKey 4 = .ok (.lstore 9, 2) := zdec_at bX8_readKey_0 3 rfl
theorem dX8_readKey_6 : decode cX8_readKey 6 = .ok (.lconst 0, 1) := zdec_at bX8_readKey_0 4 rfl
theorem dX8_readKey_7 : decode cX8_readKey 7 = .ok (.lstore 11, 2) := zdec_at bX8_readKey_0 5 rfl
theorem dX8_readKey_9 : decode cX8_readKey 9 = .ok (.lconst 0, 1) := zdec_at bX8_readKey_0 6 rfl
theorem dX8_readKey_10 : decode cX8_readKey 10 = .ok (.lstore 13, 2) := zdec_at bX8_readKey_0 7 rfl
theorem dX8_readKey_12 : decode cX8_readKey 12 = .ok (.lload 7, 2) := zdec_at bX8_readKey_0 8 rfl
theorem dX8_readKey_14 : decode cX8_readKey 14 = .ok (.lload 11, 2) := zdec_at bX8_readKey_0 9 rfl
theorem dX8_readKey_16 : decode cX8_readKey 16 = .ok (.ldc2_w 1110, 3) := zdec_at bX8_readKey_0 10 rfl
theorem dX8_readKey_19 : decode cX8_readKey 19 = .ok (.lxor, 1) := zdec_at bX8_readKey_0 11 rfl
theorem dX8_readKey_20 : decode cX8_readKey 20 = .ok (.land, 1) := zdec_at bX8_readKey_0 12 rfl
theorem dX8_readKey_21 : decode cX8_readKey 21 = .ok (.lconst 0, 1) := zdec_at bX8_readKey_0 13 rfl
theorem dX8_readKey_22 : decode cX8_readKey 22 = .ok (.lcmp, 1) := zdec_at bX8_readKey_0 14 rfl
theorem dX8_readKey_23 : decode cX8_readKey 23 = .ok (.ifCond .ne 17, 3) := zdec_at bX8_readKey_0 15 rfl
theorem bX8_readKey_26 : zdec cX8_readKey 26 [(26, .lload 9, 2), (28, .lload 13, 2), (30, .ldc2_w 1110, 3), (33, .lxor, 1), (34, .land, 1), (35, .lconst 0, 1), (36, .lcmp, 1), (37, .ifCond .eq 172, 3), (40, .iconst 0, 1), (41, .istore 15, 2), (43, .lload 7, 2), (45, .lload 11, 2), (47, .ldc2_w 1110, 3), (50, .lxor, 1), (51, .land, 1), (52, .lload 9, 2)] = true := by decide +kernel
theorem dX8_readKey_26 : decode cX8_readKey 26 = .ok (.lload 9, 2) := zdec_at bX8_readKey_26 0 rfl
theorem dX8_readKey_28 : decode cX8_readKey 28 = .ok (.lload 13, 2) := zdec_at bX8_readKey_26 1 rfl
theorem dX8_readKey_30 : decode cX8_readKey 30 = .ok (.ldc2_w 1110, 3) := zdec_at bX8_readKey_26 2 rfl
theorem dX8_readKey_33 : decode cX8_readKey 33 = .ok (.lxor, 1) := zdec_at bX8_readKey_26 3 rfl
theorem dX8_readKey_34 : decode cX8_readKey 34 = .ok (.land, 1) := zdec_at bX8_readKey_26 4 rfl
theorem dX8_readKey_35 : decode cX8_readKey 35 = .ok (.lconst 0, 1) := zdec_at bX8_readKey_26 5 rfl
theorem dX8_readKey_36 : decode cX8_readKey 36 = .ok (.lcmp, 1) := zdec_at bX8_readKey_26 6 rfl
theorem dX8_readKey_37 : decode cX8_readKey 37 = .ok (.ifCond .eq 172, 3) := zdec_at bX8_readKey_26 7 rfl
theorem dX8_readKey_40 : decode cX8_readKey 40 = .ok (.iconst 0, 1) := zdec_at bX8_readKey_26 8 rfl
theorem dX8_readKey_41 : decode cX8_readKey 41 = .ok (.istore 15, 2) := zdec_at bX8_readKey_26 9 rfl
theorem dX8_readKey_43 : decode cX8_readKey 43 = .ok (.lload 7, 2) := zdec_at bX8_readKey_26 10 rfl
theorem dX8_readKey_45 : decode cX8_readKey 45 = .ok (.lload 11, 2) := zdec_at bX8_readKey_26 11 rfl
theorem dX8_readKey_47 : decode cX8_readKey 47 = .ok (.ldc2_w 1110, 3) := zdec_at bX8_readKey_26 12 rfl
theorem dX8_readKey_50 : decode cX8_readKey 50 = .ok (.lxor, 1) := zdec_at bX8_readKey_26 13 rfl
theorem dX8_readKey_51 : decode cX8_readKey 51 = .ok (.land, 1) := zdec_at bX8_readKey_26 14 rfl
theorem dX8_readKey_52 : decode cX8_readKey 52 = .ok (.lload 9, 2) := zdec_at bX8_readKey_26 15 rfl
theorem bX8_readKey_54 : zdec cX8_readKey 54 [(54, .lload 13, 2), (56, .ldc2_w 1110, 3), (59, .lxor, 1), (60, .land, 1), (61, .iload 15, 2), (63, .invokestatic 1125, 3), (66, .ifCond .ne 9, 3), (69, .iinc 15 1, 3), (72, .goto (-29), 3), (75, .iload 15, 2), (77, .bipush 64, 2), (79, .if_icmp .ge 15, 3), (82, .lload 11, 2), (84, .lconst 1, 1), (85, .iload 15, 2), (87, .lshl, 1)] = true := by decide +kernel
theorem dX8_readKey_54 : decode cX8_readKey 54 = .ok (.lload 13, 2) := zdec_at bX8_readKey_54 0 rfl
theorem dX8_readKey_56 : decode cX8_readKey 56 = .ok (.ldc2_w 1110, 3) := zdec_at bX8_readKey_54 1 rfl
theorem dX8_readKey_59 : decode cX8_readKey 59 = .ok (.lxor, 1) := zdec_at bX8_readKey_54 2 rfl
theorem dX8_readKey_60 : decode cX8_readKey 60 = .ok (.land, 1) := zdec_at bX8_readKey_54 3 rfl
theorem dX8_readKey_61 : decode cX8_readKey 61 = .ok (.iload 15, 2) := zdec_at bX8_readKey_54 4 rfl
theorem dX8_readKey_63 : decode cX8_readKey 63 = .ok (.invokestatic 1125, 3) := zdec_at bX8_readKey_54 5 rfl
theorem dX8_readKey_66 : decode cX8_readKey 66 = .ok (.ifCond .ne 9, 3) := zdec_at bX8_readKey_54 6 rfl
theorem dX8_readKey_69 : decode cX8_readKey 69 = .ok (.iinc 15 1, 3) := zdec_at bX8_readKey_54 7 rfl
theorem dX8_readKey_72 : decode cX8_readKey 72 = .ok (.goto (-29), 3) := zdec_at bX8_readKey_54 8 rfl
theorem dX8_readKey_75 : decode cX8_readKey 75 = .ok (.iload 15, 2) := zdec_at bX8_readKey_54 9 rfl
theorem dX8_readKey_77 : decode cX8_readKey 77 = .ok (.bipush 64, 2) := zdec_at bX8_readKey_54 10 rfl
theorem dX8_readKey_79 : decode cX8_readKey 79 = .ok (.if_icmp .ge 15, 3) := zdec_at bX8_readKey_54 11 rfl
theorem dX8_readKey_82 : decode cX8_readKey 82 = .ok (.lload 11, 2) := zdec_at bX8_readKey_54 12 rfl
theorem dX8_readKey_84 : decode cX8_readKey 84 = .ok (.lconst 1, 1) := zdec_at bX8_readKey_54 13 rfl
theorem dX8_readKey_85 : decode cX8_readKey 85 = .ok (.iload 15, 2) := zdec_at bX8_readKey_54 14 rfl
theorem dX8_readKey_87 : decode cX8_readKey 87 = .ok (.lshl, 1) := zdec_at bX8_readKey_54 15 rfl
theorem bX8_readKey_88 : zdec cX8_readKey 88 [(88, .lor, 1), (89, .lstore 11, 2), (91, .goto 15, 3), (94, .lload 13, 2), (96, .lconst 1, 1), (97, .iload 15, 2), (99, .bipush 64, 2), (101, .isub, 1), (102, .lshl, 1), (103, .lor, 1), (104, .lstore 13, 2), (106, .aload_n 0, 1), (107, .sipush 639, 3), (110, .iload 15, 2), (112, .iload 5, 2), (114, .invokevirtual 1163, 3)] = true := by decide +kernel
theorem dX8_readKey_88 : decode cX8_readKey 88 = .ok (.lor, 1) := zdec_at bX8_readKey_88 0 rfl
theorem dX8_readKey_89 : decode cX8_readKey 89 = .ok (.lstore 11, 2) := zdec_at bX8_readKey_88 1 rfl
theorem dX8_readKey_91 : decode cX8_readKey 91 = .ok (.goto 15, 3) := zdec_at bX8_readKey_88 2 rfl
theorem dX8_readKey_94 : decode cX8_readKey 94 = .ok (.lload 13, 2) := zdec_at bX8_readKey_88 3 rfl
theorem dX8_readKey_96 : decode cX8_readKey 96 = .ok (.lconst 1, 1) := zdec_at bX8_readKey_88 4 rfl
theorem dX8_readKey_97 : decode cX8_readKey 97 = .ok (.iload 15, 2) := zdec_at bX8_readKey_88 5 rfl
theorem dX8_readKey_99 : decode cX8_readKey 99 = .ok (.bipush 64, 2) := zdec_at bX8_readKey_88 6 rfl
theorem dX8_readKey_101 : decode cX8_readKey 101 = .ok (.isub, 1) := zdec_at bX8_readKey_88 7 rfl
theorem dX8_readKey_102 : decode cX8_readKey 102 = .ok (.lshl, 1) := zdec_at bX8_readKey_88 8 rfl
theorem dX8_readKey_103 : decode cX8_readKey 103 = .ok (.lor, 1) := zdec_at bX8_readKey_88 9 rfl
theorem dX8_readKey_104 : decode cX8_readKey 104 = .ok (.lstore 13, 2) := zdec_at bX8_readKey_88 10 rfl
theorem dX8_readKey_106 : decode cX8_readKey 106 = .ok (.aload_n 0, 1) := zdec_at bX8_readKey_88 11 rfl
theorem dX8_readKey_107 : decode cX8_readKey 107 = .ok (.sipush 639, 3) := zdec_at bX8_readKey_88 12 rfl
theorem dX8_readKey_110 : decode cX8_readKey 110 = .ok (.iload 15, 2) := zdec_at bX8_readKey_88 13 rfl
theorem dX8_readKey_112 : decode cX8_readKey 112 = .ok (.iload 5, 2) := zdec_at bX8_readKey_88 14 rfl
theorem dX8_readKey_114 : decode cX8_readKey 114 = .ok (.invokevirtual 1163, 3) := zdec_at bX8_readKey_88 15 rfl
theorem bX8_readKey_117 : zdec cX8_readKey 117 [(117, .istore 16, 2), (119, .aload_n 0, 1), (120, .iload 16, 2), (122, .iload 6, 2), (124, .invokevirtual 1069, 3), (127, .istore 17, 2), (129, .aload_n 0, 1), (130, .iload 16, 2), (132, .invokevirtual 1047, 3), (135, .sipush 512, 3), (138, .iand, 1), (139, .ifCond .ne 6, 3), (142, .goto (-130), 3), (145, .aload_n 0, 1), (146, .sipush 639, 3), (149, .iload 15, 2)] = true := by decide +kernel
theorem dX8_readKey_117 : decode cX8_readKey 117 = .ok (.istore 16, 2) := zdec_at bX8_readKey_117 0 rfl
theorem dX8_readKey_119 : decode cX8_readKey 119 = .ok (.aload_n 0, 1) := zdec_at bX8_readKey_117 1 rfl
theorem dX8_readKey_120 : decode cX8_readKey 120 = .ok (.iload 16, 2) := zdec_at bX8_readKey_117 2 rfl
theorem dX8_readKey_122 : decode cX8_readKey 122 = .ok (.iload 6, 2) := zdec_at bX8_readKey_117 3 rfl
theorem dX8_readKey_124 : decode cX8_readKey 124 = .ok (.invokevirtual 1069, 3) := zdec_at bX8_readKey_117 4 rfl
theorem dX8_readKey_127 : decode cX8_readKey 127 = .ok (.istore 17, 2) := zdec_at bX8_readKey_117 5 rfl
theorem dX8_readKey_129 : decode cX8_readKey 129 = .ok (.aload_n 0, 1) := zdec_at bX8_readKey_117 6 rfl
theorem dX8_readKey_130 : decode cX8_readKey 130 = .ok (.iload 16, 2) := zdec_at bX8_readKey_117 7 rfl
theorem dX8_readKey_132 : decode cX8_readKey 132 = .ok (.invokevirtual 1047, 3) := zdec_at bX8_readKey_117 8 rfl
theorem dX8_readKey_135 : decode cX8_readKey 135 = .ok (.sipush 512, 3) := zdec_at bX8_readKey_117 9 rfl
theorem dX8_readKey_138 : decode cX8_readKey 138 = .ok (.iand, 1) := zdec_at bX8_readKey_117 10 rfl
theorem dX8_readKey_139 : decode cX8_readKey 139 = .ok (.ifCond .ne 6, 3) := zdec_at bX8_readKey_117 11 rfl
theorem dX8_readKey_142 : decode cX8_readKey 142 = .ok (.goto (-130), 3) := zdec_at bX8_readKey_117 12 rfl
theorem dX8_readKey_145 : decode cX8_readKey 145 = .ok (.aload_n 0, 1) := zdec_at bX8_readKey_117 13 rfl
theorem dX8_readKey_146 : decode cX8_readKey 146 = .ok (.sipush 639, 3) := zdec_at bX8_readKey_117 14 rfl
theorem dX8_readKey_149 : decode cX8_readKey 149 = .ok (.iload 15, 2) := zdec_at bX8_readKey_117 15 rfl
theorem bX8_readKey_151 : zdec cX8_readKey 151 [(151, .invokevirtual 1101, 3), (154, .istore 18, 2), (156, .lload 7, 2), (158, .aload_n 0, 1), (159, .getfield 262, 3), (162, .iload 18, 2), (164, .laload, 1), (165, .lor, 1), (166, .lstore 7, 2), (168, .lload 9, 2), (170, .aload_n 0, 1), (171, .getfield 265, 3), (174, .iload 18, 2), (176, .laload, 1), (177, .lor, 1), (178, .lstore 9, 2)] = true := by decide +kernel
theorem dX8_readKey_151 : decode cX8_readKey 151 = .ok (.invokevirtual 1101, 3) := zdec_at bX8_readKey_151 0 rfl
theorem dX8_readKey_154 : decode cX8_readKey 154 = .ok (.istore 18, 2) := zdec_at bX8_readKey_151 1 rfl
theorem dX8_readKey_156 : decode cX8_readKey 156 = .ok (.lload 7, 2) := zdec_at bX8_readKey_151 2 rfl
theorem dX8_readKey_158 : decode cX8_readKey 158 = .ok (.aload_n 0, 1) := zdec_at bX8_readKey_151 3 rfl
theorem dX8_readKey_159 : decode cX8_readKey 159 = .ok (.getfield 262, 3) := zdec_at bX8_readKey_151 4 rfl
theorem dX8_readKey_162 : decode cX8_readKey 162 = .ok (.iload 18, 2) := zdec_at bX8_readKey_151 5 rfl
theorem dX8_readKey_164 : decode cX8_readKey 164 = .ok (.laload, 1) := zdec_at bX8_readKey_151 6 rfl
theorem dX8_readKey_165 : decode cX8_readKey 165 = .ok (.lor, 1) := zdec_at bX8_readKey_151 7 rfl
theorem dX8_readKey_166 : decode cX8_readKey 166 = .ok (.lstore 7, 2) := zdec_at bX8_readKey_151 8 rfl
theorem dX8_readKey_168 : decode cX8_readKey 168 = .ok (.lload 9, 2) := zdec_at bX8_readKey_151 9 rfl
theorem dX8_readKey_170 : decode cX8_readKey 170 = .ok (.aload_n 0, 1) := zdec_at bX8_readKey_151 10 rfl
theorem dX8_readKey_171 : decode cX8_readKey 171 = .ok (.getfield 265, 3) := zdec_at bX8_readKey_151 11 rfl
theorem dX8_readKey_174 : decode cX8_readKey 174 = .ok (.iload 18, 2) := zdec_at bX8_readKey_151 12 rfl
theorem dX8_readKey_176 : decode cX8_readKey 176 = .ok (.laload, 1) := zdec_at bX8_readKey_151 13 rfl
theorem dX8_readKey_177 : decode cX8_readKey 177 = .ok (.lor, 1) := zdec_at bX8_readKey_151 14 rfl
theorem dX8_readKey_178 : decode cX8_readKey 178 = .ok (.lstore 9, 2) := zdec_at bX8_readKey_151 15 rfl
theorem bX8_readKey_180 : zdec cX8_readKey 180 [(180, .aload_n 0, 1), (181, .aload_n 0, 1), (182, .getfield 1156, 3), (185, .ifCond .ne 13, 3), (188, .aload_n 0, 1), (189, .getfield 259, 3), (192, .iload 18, 2), (194, .baload, 1), (195, .ifCond .eq 7, 3), (198, .iconst 1, 1), (199, .goto 4, 3), (202, .iconst 0, 1), (203, .putfield 1156, 3), (206, .goto (-194), 3), (209, .aload_n 0, 1), (210, .iload 6, 2)] = true := by decide +kernel
theorem dX8_readKey_180 : decode cX8_readKey 180 = .ok (.aload_n 0, 1) := zdec_at bX8_readKey_180 0 rfl
theorem dX8_readKey_181 : decode cX8_readKey 181 = .ok (.aload_n 0, 1) := zdec_at bX8_readKey_180 1 rfl
theorem dX8_readKey_182 : decode cX8_readKey 182 = .ok (.getfield 1156, 3) := zdec_at bX8_readKey_180 2 rfl
theorem dX8_readKey_185 : decode cX8_readKey 185 = .ok (.ifCond .ne 13, 3) := zdec_at bX8_readKey_180 3 rfl
theorem dX8_readKey_188 : decode cX8_readKey 188 = .ok (.aload_n 0, 1) := zdec_at bX8_readKey_180 4 rfl
theorem dX8_readKey_189 : decode cX8_readKey 189 = .ok (.getfield 259, 3) := zdec_at bX8_readKey_180 5 rfl
theorem dX8_readKey_192 : decode cX8_readKey 192 = .ok (.iload 18, 2) := zdec_at bX8_readKey_180 6 rfl
theorem dX8_readKey_194 : decode cX8_readKey 194 = .ok (.baload, 1) := zdec_at bX8_readKey_180 7 rfl
theorem dX8_readKey_195 : decode cX8_readKey 195 = .ok (.ifCond .eq 7, 3) := zdec_at bX8_readKey_180 8 rfl
theorem dX8_readKey_198 : decode cX8_readKey 198 = .ok (.iconst 1, 1) := zdec_at bX8_readKey_180 9 rfl
theorem dX8_readKey_199 : decode cX8_readKey 199 = .ok (.goto 4, 3) := zdec_at bX8_readKey_180 10 rfl
theorem dX8_readKey_202 : decode cX8_readKey 202 = .ok (.iconst 0, 1) := zdec_at bX8_readKey_180 11 rfl
theorem dX8_readKey_203 : decode cX8_readKey 203 = .ok (.putfield 1156, 3) := zdec_at bX8_readKey_180 12 rfl
theorem dX8_readKey_206 : decode cX8_readKey 206 = .ok (.goto (-194), 3) := zdec_at bX8_readKey_180 13 rfl
theorem dX8_readKey_209 : decode cX8_readKey 209 = .ok (.aload_n 0, 1) := zdec_at bX8_readKey_180 14 rfl
theorem dX8_readKey_210 : decode cX8_readKey 210 = .ok (.iload 6, 2) := zdec_at bX8_readKey_180 15 rfl
theorem bX8_readKey_212 : zdec cX8_readKey 212 [(212, .aload_n 0, 1), (213, .iload 6, 2), (215, .invokevirtual 1059, 3), (218, .aload_n 0, 1), (219, .iload 6, 2), (221, .invokevirtual 1053, 3), (224, .aload_n 0, 1), (225, .iload 6, 2), (227, .invokevirtual 1050, 3), (230, .invokevirtual 1056, 3), (233, .return_, 1)] = true := by decide +kernel
theorem dX8_readKey_212 : decode cX8_readKey 212 = .ok (.aload_n 0, 1) := zdec_at bX8_readKey_212 0 rfl
theorem dX8_readKey_213 : decode cX8_readKey 213 = .ok (.iload 6, 2) := zdec_at bX8_readKey_212 1 rfl
theorem dX8_readKey_215 : decode cX8_readKey 215 = .ok (.invokevirtual 1059, 3) := zdec_at bX8_readKey_212 2 rfl
theorem dX8_readKey_218 : decode cX8_readKey 218 = .ok (.aload_n 0, 1) := zdec_at bX8_readKey_212 3 rfl
theorem dX8_readKey_219 : decode cX8_readKey 219 = .ok (.iload 6, 2) := zdec_at bX8_readKey_212 4 rfl
theorem dX8_readKey_221 : decode cX8_readKey 221 = .ok (.invokevirtual 1053, 3) := zdec_at bX8_readKey_212 5 rfl
theorem dX8_readKey_224 : decode cX8_readKey 224 = .ok (.aload_n 0, 1) := zdec_at bX8_readKey_212 6 rfl
theorem dX8_readKey_225 : decode cX8_readKey 225 = .ok (.iload 6, 2) := zdec_at bX8_readKey_212 7 rfl
theorem dX8_readKey_227 : decode cX8_readKey 227 = .ok (.invokevirtual 1050, 3) := zdec_at bX8_readKey_212 8 rfl
theorem dX8_readKey_230 : decode cX8_readKey 230 = .ok (.invokevirtual 1056, 3) := zdec_at bX8_readKey_212 9 rfl
theorem dX8_readKey_233 : decode cX8_readKey 233 = .ok (.return_, 1) := zdec_at bX8_readKey_212 10 rfl
theorem sX8_readKey_0 {E : zE} {d : Nat} {Q : zO → zM → Prop} (M : zM) (l1 : Int64) (l3 : Int64) (l5 : Int32) (l6 : Int32) (k : Zm E YX8_readKey (d + 1) M [(0, vr (some (97, 1, 0))), (5, vi l5), (6, vi l6), (7, vl l1), (9, vl l3), (11, vl (0 : Int64)), (13, vl (0 : Int64))] 12 [] Q) : Zm E YX8_readKey (d + 1) M [(0, vr (some (97, 1, 0))), (1, vl l1), (3, vl l3), (5, vi l5), (6, vi l6)] 0 [] Q := by
  refine Zm.l (fun _ _ k_ => z_lload_n dX8_readKey_0 rfl rfl k_) ?_
  refine Zm.l (fun _ _ k_ => z_lst dX8_readKey_1 (by decide) (lv' := [(0, vr (some (97, 1, 0))), (1, vl l1), (3, vl l3), (5, vi l5), (6, vi l6), (7, vl l1)]) rfl k_) ?_
  refine Zm.l (fun _ _ k_ => z_lload_n dX8_readKey_3 rfl rfl k_) ?_
  refine Zm.l (fun _ _ k_ => z_lst dX8_readKey_4 (by decide) (lv' := [(0, vr (some (97, 1, 0))), (1, vl l1), (3, vl l3), (5, vi l5), (6, vi l6), (7, vl l1), (9, vl l3)]) rfl k_) ?_
  refine Zm.l (fun _ _ k_ => z_lconst (v := 0) dX8_readKey_6 rfl k_) ?_
  refine Zm.l (fun _ _ k_ => z_lst dX8_readKey_7 (by decide) (lv' := [(0, vr (some (97, 1, 0))), (1, vl l1), (3, vl l3), (5, vi l5), (6, vi l6), (7, vl l1), (9, vl l3), (11, vl (0 : Int64))]) rfl k_) ?_
  refine Zm.l (fun _ _ k_ => z_lconst (v := 0) dX8_readKey_9 rfl k_) ?_
  refine Zm.l (fun _ _ k_ => z_lst dX8_readKey_10 (by decide) (lv' := [(0, vr (some (97, 1, 0))), (1, vl l1), (3, vl l3), (5, vi l5), (6, vi l6), (7, vl l1), (9, vl l3), (11, vl (0 : Int64)), (13, vl (0 : Int64))]) rfl k_) ?_
  refine Zm.pick [0, 3, 4, 5, 6, 7, 8] rfl ?_
  exact k
theorem sX8_readKey_12 {E : zE} {d : Nat} {Q : zO → zM → Prop} (M : zM) (l5 : Int32) (l6 : Int32) (l7 : Int64) (l9 : Int64) (l11 : Int64) (l13 : Int64) (k : if (lg_cmp (l7 &&& (l11 ^^^ (-1 : Int64))) (0 : Int64)) = 0 then (if (lg_cmp (l9 &&& (l13 ^^^ (-1 : Int64))) (0 : Int64)) = 0 then (Zm E YX8_plainly d M (zargs 0 [vr (some (97, 1, 0)), vi l6]) 0 [] (zma E YX8_readKey (d + 1) [(0, vr (some (97, 1, 0))), (6, vi l6)] 215 3 [vi l6, vr (some (97, 1, 0))] Q)) else (Zm E YX8_readKey (d + 1) M [(0, vr (some (97, 1, 0))), (5, vi l5), (6, vi l6), (7, vl l7), (9, vl l9), (11, vl l11), (13, vl l13), (15, vi (0 : Int32))] 43 [] Q)) else (Zm E YX8_readKey (d + 1) M [(0, vr (some (97, 1, 0))), (5, vi l5), (6, vi l6), (7, vl l7), (9, vl l9), (11, vl l11), (13, vl l13), (15, vi (0 : Int32))] 43 [] Q)) : Zm E YX8_readKey (d + 1) M [(0, vr (some (97, 1, 0))), (5, vi l5), (6, vi l6), (7, vl l7), (9, vl l9), (11, vl l11), (13, vl l13)] 12 [] Q := by
  refine Zm.l (fun _ _ k_ => z_lload dX8_readKey_12 rfl k_) ?_
  refine Zm.l (fun _ _ k_ => z_lload dX8_readKey_14 rfl k_) ?_
  refine Zm.l (fun _ _ k_ => z_ldc2 (v := -1) dX8_readKey_16 q4859 k_) ?_
  refine Zm.l (fun _ _ k_ => z_lxor dX8_readKey_19 k_) ?_
  refine Zm.l (fun _ _ k_ => z_land dX8_readKey_20 k_) ?_
  refine Zm.l (fun _ _ k_ => z_lconst (v := 0) dX8_readKey_21 rfl k_) ?_
  refine Zm.l (fun _ _ k_ => z_lcmp dX8_readKey_22 k_) ?_
  refine Zm.brn (fun _ _ k1_ k2_ => z_if_ne (tgt := 40) dX8_readKey_23 rfl k1_ k2_) (fun h_ => ?_) (fun h_ => ?_)
  · have k := zif h_ k
    refine Zm.l (fun _ _ k_ => z_iconst (v := 0) dX8_readKey_40 rfl k_) ?_
    refine Zm.l (fun _ _ k_ => z_ist dX8_readKey_41 (by decide) (lv' := [(0, vr (some (97, 1, 0))), (5, vi l5), (6, vi l6), (7, vl l7), (9, vl l9), (11, vl l11), (13, vl l13), (15, vi (0 : Int32))]) rfl k_) ?_
    exact k
  · have k := zit h_ k
    refine Zm.l (fun _ _ k_ => z_lload dX8_readKey_26 rfl k_) ?_
    refine Zm.l (fun _ _ k_ => z_lload dX8_readKey_28 rfl k_) ?_
    refine Zm.l (fun _ _ k_ => z_ldc2 (v := -1) dX8_readKey_30 q4859 k_) ?_
    refine Zm.l (fun _ _ k_ => z_lxor dX8_readKey_33 k_) ?_
    refine Zm.l (fun _ _ k_ => z_land dX8_readKey_34 k_) ?_
    refine Zm.l (fun _ _ k_ => z_lconst (v := 0) dX8_readKey_35 rfl k_) ?_
    refine Zm.l (fun _ _ k_ => z_lcmp dX8_readKey_36 k_) ?_
    refine Zm.br (fun _ _ k1_ k2_ => z_if_eq (tgt := 209) dX8_readKey_37 rfl k1_ k2_) (fun h_ => ?_) (fun h_ => ?_)
    · have k := zit h_ k
      refine Zm.l (fun _ _ k_ => z_aload_n dX8_readKey_209 rfl rfl k_) ?_
      refine Zm.l (fun _ _ k_ => z_iload dX8_readKey_210 rfl k_) ?_
      refine Zm.l (fun _ _ k_ => z_aload_n dX8_readKey_212 rfl rfl k_) ?_
      refine Zm.l (fun _ _ k_ => z_iload dX8_readKey_213 rfl k_) ?_
      refine Zm.pick [0, 2] rfl ?_
      exact zm_callV (as := [vi l6]) (st := [vi l6, vr (some (97, 1, 0))]) dX8_readKey_215 vsX8_1059_1 (Nat.le_refl _) (Nat.le_of_ble_eq_true rfl) (Nat.le_of_ble_eq_true rfl) rfl k
    · have k := zif h_ k
      refine Zm.l (fun _ _ k_ => z_iconst (v := 0) dX8_readKey_40 rfl k_) ?_
      refine Zm.l (fun _ _ k_ => z_ist dX8_readKey_41 (by decide) (lv' := [(0, vr (some (97, 1, 0))), (5, vi l5), (6, vi l6), (7, vl l7), (9, vl l9), (11, vl l11), (13, vl l13), (15, vi (0 : Int32))]) rfl k_) ?_
      exact k
theorem sX8_readKey_43 {E : zE} {d : Nat} {Q : zO → zM → Prop} (M : zM) (l5 : Int32) (l6 : Int32) (l7 : Int64) (l9 : Int64) (l11 : Int64) (l13 : Int64) (l15 : Int32) (k : Zm E YX8_isIn d M (zargs 0 [vl (l7 &&& (l11 ^^^ (-1 : Int64))), vl (l9 &&& (l13 ^^^ (-1 : Int64))), vi l15]) 0 [] (zma E YX8_readKey (d + 1) [(0, vr (some (97, 1, 0))), (5, vi l5), (6, vi l6), (7, vl l7), (9, vl l9), (11, vl l11), (13, vl l13), (15, vi l15)] 63 3 [] Q)) : Zm E YX8_readKey (d + 1) M [(0, vr (some (97, 1, 0))), (5, vi l5), (6, vi l6), (7, vl l7), (9, vl l9), (11, vl l11), (13, vl l13), (15, vi l15)] 43 [] Q := by
  refine Zm.l (fun _ _ k_ => z_lload dX8_readKey_43 rfl k_) ?_
  refine Zm.l (fun _ _ k_ => z_lload dX8_readKey_45 rfl k_) ?_
  refine Zm.l (fun _ _ k_ => z_ldc2 (v := -1) dX8_readKey_47 q4859 k_) ?_
  refine Zm.l (fun _ _ k_ => z_lxor dX8_readKey_50 k_) ?_
  refine Zm.l (fun _ _ k_ => z_land dX8_readKey_51 k_) ?_
  refine Zm.l (fun _ _ k_ => z_lload dX8_readKey_52 rfl k_) ?_
  refine Zm.l (fun _ _ k_ => z_lload dX8_readKey_54 rfl k_) ?_
  refine Zm.l (fun _ _ k_ => z_ldc2 (v := -1) dX8_readKey_56 q4859 k_) ?_
  refine Zm.l (fun _ _ k_ => z_lxor dX8_readKey_59 k_) ?_
  refine Zm.l (fun _ _ k_ => z_land dX8_readKey_60 k_) ?_
  refine Zm.l (fun _ _ k_ => z_iload dX8_readKey_61 rfl k_) ?_
  exact zm_callS (as := [vl (l7 &&& (l11 ^^^ (-1 : Int64))), vl (l9 &&& (l13 ^^^ (-1 : Int64))), vi l15]) (st := []) dX8_readKey_63 ssX8_1125 (Nat.le_refl _) (Nat.le_of_ble_eq_true rfl) (Nat.le_of_ble_eq_true rfl) rfl k
theorem sX8_readKey_66 {E : zE} {d : Nat} {Q : zO → zM → Prop} (M : zM) (l5 : Int32) (l6 : Int32) (l7 : Int64) (l9 : Int64) (l11 : Int64) (l13 : Int64) (l15 : Int32) (s0 : Int32) (k : if s0 = 0 then (Zm E YX8_readKey (d + 1) M [(0, vr (some (97, 1, 0))), (5, vi l5), (6, vi l6), (7, vl l7), (9, vl l9), (11, vl l11), (13, vl l13), (15, vi (l15 + (1 : Int32)))] 43 [] Q) else (if (64 : Int32) ≤ l15 then (Zm E YX8_field d M (zargs 0 [vr (some (97, 1, 0)), vi (639 : Int32), vi l15, vi l5]) 0 [] (zma E YX8_readKey (d + 1) [(0, vr (some (97, 1, 0))), (5, vi l5), (6, vi l6), (7, vl l7), (9, vl l9), (11, vl l11), (13, vl (l13 ||| (zls (1 : Int64) (l15 - (64 : Int32))))), (15, vi l15)] 114 3 [] Q)) else (Zm E YX8_field d M (zargs 0 [vr (some (97, 1, 0)), vi (639 : Int32), vi l15, vi l5]) 0 [] (zma E YX8_readKey (d + 1) [(0, vr (some (97, 1, 0))), (5, vi l5), (6, vi l6), (7, vl l7), (9, vl l9), (11, vl (l11 ||| (zls (1 : Int64) l15))), (13, vl l13), (15, vi l15)] 114 3 [] Q)))) : Zm E YX8_readKey (d + 1) M [(0, vr (some (97, 1, 0))), (5, vi l5), (6, vi l6), (7, vl l7), (9, vl l9), (11, vl l11), (13, vl l13), (15, vi l15)] 66 [vi s0] Q := by
  refine Zm.brn (fun _ _ k1_ k2_ => z_if_ne (tgt := 75) dX8_readKey_66 rfl k1_ k2_) (fun h_ => ?_) (fun h_ => ?_)
  · have k := zif h_ k
    refine Zm.l (fun _ _ k_ => z_iload dX8_readKey_75 rfl k_) ?_
    refine Zm.l (fun _ _ k_ => z_bipush (v := 64) dX8_readKey_77 rfl k_) ?_
    refine Zm.br (fun _ _ k1_ k2_ => z_icmp_ge (tgt := 94) dX8_readKey_79 rfl k1_ k2_) (fun h_ => ?_) (fun h_ => ?_)
    · have k := zit h_ k
      refine Zm.l (fun _ _ k_ => z_lload dX8_readKey_94 rfl k_) ?_
      refine Zm.l (fun _ _ k_ => z_lconst (v := 1) dX8_readKey_96 rfl k_) ?_
      refine Zm.l (fun _ _ k_ => z_iload dX8_readKey_97 rfl k_) ?_
      refine Zm.l (fun _ _ k_ => z_bipush (v := 64) dX8_readKey_99 rfl k_) ?_
      refine Zm.l (fun _ _ k_ => z_isub dX8_readKey_101 k_) ?_
      refine Zm.l (fun _ _ k_ => z_lshl dX8_readKey_102 k_) ?_
      refine Zm.l (fun _ _ k_ => z_lor dX8_readKey_103 k_) ?_
      refine Zm.l (fun _ _ k_ => z_lst dX8_readKey_104 (by decide) (lv' := [(0, vr (some (97, 1, 0))), (5, vi l5), (6, vi l6), (7, vl l7), (9, vl l9), (11, vl l11), (13, vl (l13 ||| (zls (1 : Int64) (l15 - (64 : Int32))))), (15, vi l15)]) rfl k_) ?_
      refine Zm.l (fun _ _ k_ => z_aload_n dX8_readKey_106 rfl rfl k_) ?_
      refine Zm.l (fun _ _ k_ => z_sipush (v := 639) dX8_readKey_107 rfl k_) ?_
      refine Zm.l (fun _ _ k_ => z_iload dX8_readKey_110 rfl k_) ?_
      refine Zm.l (fun _ _ k_ => z_iload dX8_readKey_112 rfl k_) ?_
      exact zm_callV (as := [vi (639 : Int32), vi l15, vi l5]) (st := []) dX8_readKey_114 vsX8_1163_1 (Nat.le_refl _) (Nat.le_of_ble_eq_true rfl) (Nat.le_of_ble_eq_true rfl) rfl k
    · have k := zif h_ k
      refine Zm.l (fun _ _ k_ => z_lload dX8_readKey_82 rfl k_) ?_
      refine Zm.l (fun _ _ k_ => z_lconst (v := 1) dX8_readKey_84 rfl k_) ?_
      refine Zm.l (fun _ _ k_ => z_iload dX8_readKey_85 rfl k_) ?_
      refine Zm.l (fun _ _ k_ => z_lshl dX8_readKey_87 k_) ?_
      refine Zm.l (fun _ _ k_ => z_lor dX8_readKey_88 k_) ?_
      refine Zm.l (fun _ _ k_ => z_lst dX8_readKey_89 (by decide) (lv' := [(0, vr (some (97, 1, 0))), (5, vi l5), (6, vi l6), (7, vl l7), (9, vl l9), (11, vl (l11 ||| (zls (1 : Int64) l15))), (13, vl l13), (15, vi l15)]) rfl k_) ?_
      refine Zm.l (fun _ _ k_ => z_goto (tgt := 106) dX8_readKey_91 rfl k_) ?_
      refine Zm.l (fun _ _ k_ => z_aload_n dX8_readKey_106 rfl rfl k_) ?_
      refine Zm.l (fun _ _ k_ => z_sipush (v := 639) dX8_readKey_107 rfl k_) ?_
      refine Zm.l (fun _ _ k_ => z_iload dX8_readKey_110 rfl k_) ?_
      refine Zm.l (fun _ _ k_ => z_iload dX8_readKey_112 rfl k_) ?_
      exact zm_callV (as := [vi (639 : Int32), vi l15, vi l5]) (st := []) dX8_readKey_114 vsX8_1163_1 (Nat.le_refl _) (Nat.le_of_ble_eq_true rfl) (Nat.le_of_ble_eq_true rfl) rfl k
  · have k := zit h_ k
    refine Zm.l (fun _ _ k_ => z_inc (v := (l15 + (1 : Int32))) dX8_readKey_69 rfl rfl (by decide) (lv' := [(0, vr (some (97, 1, 0))), (5, vi l5), (6, vi l6), (7, vl l7), (9, vl l9), (11, vl l11), (13, vl l13), (15, vi (l15 + (1 : Int32)))]) rfl k_) ?_
    refine Zm.l (fun _ _ k_ => z_goto (tgt := 43) dX8_readKey_72 rfl k_) ?_
    exact k
theorem sX8_readKey_117 {E : zE} {d : Nat} {Q : zO → zM → Prop} (M : zM) (l5 : Int32) (l6 : Int32) (l7 : Int64) (l9 : Int64) (l11 : Int64) (l13 : Int64) (l15 : Int32) (s0 : Int32) (k : Zm E YX8_join d M (zargs 0 [vr (some (97, 1, 0)), vi s0, vi l6]) 0 [] (zma E YX8_readKey (d + 1) [(0, vr (some (97, 1, 0))), (5, vi l5), (6, vi l6), (7, vl l7), (9, vl l9), (11, vl l11), (13, vl l13), (15, vi l15), (16, vi s0)] 124 3 [] Q)) : Zm E YX8_readKey (d + 1) M [(0, vr (some (97, 1, 0))), (5, vi l5), (6, vi l6), (7, vl l7), (9, vl l9), (11, vl l11), (13, vl l13), (15, vi l15)] 117 [vi s0] Q := by
  refine Zm.l (fun _ _ k_ => z_ist dX8_readKey_117 (by decide) (lv' := [(0, vr (some (97, 1, 0))), (5, vi l5), (6, vi l6), (7, vl l7), (9, vl l9), (11, vl l11), (13, vl l13), (15, vi l15), (16, vi s0)]) rfl k_) ?_
  refine Zm.l (fun _ _ k_ => z_aload_n dX8_readKey_119 rfl rfl k_) ?_
  refine Zm.l (fun _ _ k_ => z_iload dX8_readKey_120 rfl k_) ?_
  refine Zm.l (fun _ _ k_ => z_iload dX8_readKey_122 rfl k_) ?_
  exact zm_callV (as := [vi s0, vi l6]) (st := []) dX8_readKey_124 vsX8_1069_1 (Nat.le_refl _) (Nat.le_of_ble_eq_true rfl) (Nat.le_of_ble_eq_true rfl) rfl k
theorem sX8_readKey_127 {E : zE} {d : Nat} {Q : zO → zM → Prop} (M : zM) (l5 : Int32) (l6 : Int32) (l7 : Int64) (l9 : Int64) (l11 : Int64) (l13 : Int64) (l15 : Int32) (l16 : Int32) (s0 : Int32) (k : Zm E YX8_has d M (zargs 0 [vr (some (97, 1, 0)), vi l16]) 0 [] (zma E YX8_readKey (d + 1) [(0, vr (some (97, 1, 0))), (5, vi l5), (6, vi l6), (7, vl l7), (9, vl l9), (11, vl l11), (13, vl l13), (15, vi l15)] 132 3 [] Q)) : Zm E YX8_readKey (d + 1) M [(0, vr (some (97, 1, 0))), (5, vi l5), (6, vi l6), (7, vl l7), (9, vl l9), (11, vl l11), (13, vl l13), (15, vi l15), (16, vi l16)] 127 [vi s0] Q := by
  refine Zm.l (fun _ _ k_ => z_ist dX8_readKey_127 (by decide) (lv' := [(0, vr (some (97, 1, 0))), (5, vi l5), (6, vi l6), (7, vl l7), (9, vl l9), (11, vl l11), (13, vl l13), (15, vi l15), (16, vi l16), (17, vi s0)]) rfl k_) ?_
  refine Zm.l (fun _ _ k_ => z_aload_n dX8_readKey_129 rfl rfl k_) ?_
  refine Zm.l (fun _ _ k_ => z_iload dX8_readKey_130 rfl k_) ?_
  refine Zm.pick [0, 1, 2, 3, 4, 5, 6, 7] rfl ?_
  exact zm_callV (as := [vi l16]) (st := []) dX8_readKey_132 vsX8_1047_1 (Nat.le_refl _) (Nat.le_of_ble_eq_true rfl) (Nat.le_of_ble_eq_true rfl) rfl k
theorem sX8_readKey_135 {E : zE} {d : Nat} {Q : zO → zM → Prop} (M : zM) (l5 : Int32) (l6 : Int32) (l7 : Int64) (l9 : Int64) (l11 : Int64) (l13 : Int64) (l15 : Int32) (s0 : Int32) (k : if (s0 &&& (512 : Int32)) = 0 then (Zm E YX8_readKey (d + 1) M [(0, vr (some (97, 1, 0))), (5, vi l5), (6, vi l6), (7, vl l7), (9, vl l9), (11, vl l11), (13, vl l13)] 12 [] Q) else (Zm E YX8_of d M (zargs 0 [vr (some (97, 1, 0)), vi (639 : Int32), vi l15]) 0 [] (zma E YX8_readKey (d + 1) [(0, vr (some (97, 1, 0))), (5, vi l5), (6, vi l6), (7, vl l7), (9, vl l9), (11, vl l11), (13, vl l13)] 151 3 [] Q))) : Zm E YX8_readKey (d + 1) M [(0, vr (some (97, 1, 0))), (5, vi l5), (6, vi l6), (7, vl l7), (9, vl l9), (11, vl l11), (13, vl l13), (15, vi l15)] 135 [vi s0] Q := by
  refine Zm.l (fun _ _ k_ => z_sipush (v := 512) dX8_readKey_135 rfl k_) ?_
  refine Zm.l (fun _ _ k_ => z_iand dX8_readKey_138 k_) ?_
  refine Zm.brn (fun _ _ k1_ k2_ => z_if_ne (tgt := 145) dX8_readKey_139 rfl k1_ k2_) (fun h_ => ?_) (fun h_ => ?_)
  · have k := zif h_ k
    refine Zm.l (fun _ _ k_ => z_aload_n dX8_readKey_145 rfl rfl k_) ?_
    refine Zm.l (fun _ _ k_ => z_sipush (v := 639) dX8_readKey_146 rfl k_) ?_
    refine Zm.l (fun _ _ k_ => z_iload dX8_readKey_149 rfl k_) ?_
    refine Zm.pick [0, 1, 2, 3, 4, 5, 6] rfl ?_
    exact zm_callV (as := [vi (639 : Int32), vi l15]) (st := []) dX8_readKey_151 vsX8_1101_1 (Nat.le_refl _) (Nat.le_of_ble_eq_true rfl) (Nat.le_of_ble_eq_true rfl) rfl k
  · have k := zit h_ k
    refine Zm.l (fun _ _ k_ => z_goto (tgt := 12) dX8_readKey_142 rfl k_) ?_
    refine Zm.pick [0, 1, 2, 3, 4, 5, 6] rfl ?_
    exact k
theorem sX8_readKey_154 {E : zE} {d : Nat} {Q : zO → zM → Prop} (M : zM) (l5 : Int32) (l6 : Int32) (l7 : Int64) (l9 : Int64) (l11 : Int64) (l13 : Int64) (s0 : Int32) (k : vp_in s0 15128 ∧ (vp_in s0 15128 ∧ (if (gi M 97 145) = 0 then (vp_in s0 15128 ∧ (if (gi M 179 (s0).toNatClampNeg) = 0 then (Zm E YX8_readKey (d + 1) (si M 97 145 (0 : Int32)) [(0, vr (some (97, 1, 0))), (5, vi l5), (6, vi l6), (7, vl (l7 ||| (gl M 180 (s0).toNatClampNeg))), (9, vl (l9 ||| (gl M 181 (s0).toNatClampNeg))), (11, vl l11), (13, vl l13)] 12 [] Q) else (Zm E YX8_readKey (d + 1) (si M 97 145 (1 : Int32)) [(0, vr (some (97, 1, 0))), (5, vi l5), (6, vi l6), (7, vl (l7 ||| (gl M 180 (s0).toNatClampNeg))), (9, vl (l9 ||| (gl M 181 (s0).toNatClampNeg))), (11, vl l11), (13, vl l13)] 12 [] Q))) else (Zm E YX8_readKey (d + 1) (si M 97 145 (1 : Int32)) [(0, vr (some (97, 1, 0))), (5, vi l5), (6, vi l6), (7, vl (l7 ||| (gl M 180 (s0).toNatClampNeg))), (9, vl (l9 ||| (gl M 181 (s0).toNatClampNeg))), (11, vl l11), (13, vl l13)] 12 [] Q)))) : Zm E YX8_readKey (d + 1) M [(0, vr (some (97, 1, 0))), (5, vi l5), (6, vi l6), (7, vl l7), (9, vl l9), (11, vl l11), (13, vl l13)] 154 [vi s0] Q := by
  refine Zm.l (fun _ _ k_ => z_ist dX8_readKey_154 (by decide) (lv' := [(0, vr (some (97, 1, 0))), (5, vi l5), (6, vi l6), (7, vl l7), (9, vl l9), (11, vl l11), (13, vl l13), (18, vi s0)]) rfl k_) ?_
  refine Zm.l (fun _ _ k_ => z_lload dX8_readKey_156 rfl k_) ?_
  refine Zm.l (fun _ _ k_ => z_aload_n dX8_readKey_158 rfl rfl k_) ?_
  refine zm_getr 77 dX8_readKey_159 fsX8_262_1 rfl ?_
  refine Zm.l (fun _ _ k_ => z_iload dX8_readKey_162 rfl k_) ?_
  obtain ⟨b_, k⟩ := k
  refine zm_lald dX8_readKey_164 b_ (by decide) (by decide) ?_
  refine Zm.l (fun _ _ k_ => z_lor dX8_readKey_165 k_) ?_
  refine Zm.l (fun _ _ k_ => z_lst dX8_readKey_166 (by decide) (lv' := [(0, vr (some (97, 1, 0))), (5, vi l5), (6, vi l6), (7, vl (l7 ||| (gl M 180 (s0).toNatClampNeg))), (9, vl l9), (11, vl l11), (13, vl l13), (18, vi s0)]) rfl k_) ?_
  refine Zm.l (fun _ _ k_ => z_lload dX8_readKey_168 rfl k_) ?_
  refine Zm.l (fun _ _ k_ => z_aload_n dX8_readKey_170 rfl rfl k_) ?_
  refine zm_getr 78 dX8_readKey_171 fsX8_265_1 rfl ?_
  refine Zm.l (fun _ _ k_ => z_iload dX8_readKey_174 rfl k_) ?_
  obtain ⟨b_, k⟩ := k
  refine zm_lald dX8_readKey_176 b_ (by decide) (by decide) ?_
  refine Zm.l (fun _ _ k_ => z_lor dX8_readKey_177 k_) ?_
  refine Zm.l (fun _ _ k_ => z_lst dX8_readKey_178 (by decide) (lv' := [(0, vr (some (97, 1, 0))), (5, vi l5), (6, vi l6), (7, vl (l7 ||| (gl M 180 (s0).toNatClampNeg))), (9, vl (l9 ||| (gl M 181 (s0).toNatClampNeg))), (11, vl l11), (13, vl l13), (18, vi s0)]) rfl k_) ?_
  refine Zm.l (fun _ _ k_ => z_aload_n dX8_readKey_180 rfl rfl k_) ?_
  refine Zm.l (fun _ _ k_ => z_aload_n dX8_readKey_181 rfl rfl k_) ?_
  refine zm_geti dX8_readKey_182 fsX8_1156_1 (by decide) (by decide) ?_
  refine Zm.brn (fun _ _ k1_ k2_ => z_if_ne (tgt := 198) dX8_readKey_185 rfl k1_ k2_) (fun h_ => ?_) (fun h_ => ?_)
  · have k := zif h_ k
    refine Zm.l (fun _ _ k_ => z_iconst (v := 1) dX8_readKey_198 rfl k_) ?_
    refine Zm.l (fun _ _ k_ => z_goto (tgt := 203) dX8_readKey_199 rfl k_) ?_
    refine zm_puti (by decide) (by decide) dX8_readKey_203 (zfwN.w fwX8_1156_1) rfl ⟨by decide, by decide⟩ ?_
    refine Zm.l (fun _ _ k_ => z_goto (tgt := 12) dX8_readKey_206 rfl k_) ?_
    refine Zm.pick [0, 1, 2, 3, 4, 5, 6] rfl ?_
    exact k
  · have k := zit h_ k
    refine Zm.l (fun _ _ k_ => z_aload_n dX8_readKey_188 rfl rfl k_) ?_
    refine zm_getr 76 dX8_readKey_189 fsX8_259_1 rfl ?_
    refine Zm.l (fun _ _ k_ => z_iload dX8_readKey_192 rfl k_) ?_
    obtain ⟨b_, k⟩ := k
    refine zm_zald dX8_readKey_194 b_ (by decide) (by decide) ?_
    refine Zm.br (fun _ _ k1_ k2_ => z_if_eq (tgt := 202) dX8_readKey_195 rfl k1_ k2_) (fun h_ => ?_) (fun h_ => ?_)
    · have k := zit h_ k
      refine Zm.l (fun _ _ k_ => z_iconst (v := 0) dX8_readKey_202 rfl k_) ?_
      refine zm_puti (by decide) (by decide) dX8_readKey_203 (zfwN.w fwX8_1156_1) rfl ⟨by decide, by decide⟩ ?_
      refine Zm.l (fun _ _ k_ => z_goto (tgt := 12) dX8_readKey_206 rfl k_) ?_
      refine Zm.pick [0, 1, 2, 3, 4, 5, 6] rfl ?_
      exact k
    · have k := zif h_ k
      refine Zm.l (fun _ _ k_ => z_iconst (v := 1) dX8_readKey_198 rfl k_) ?_
      refine Zm.l (fun _ _ k_ => z_goto (tgt := 203) dX8_readKey_199 rfl k_) ?_
      refine zm_puti (by decide) (by decide) dX8_readKey_203 (zfwN.w fwX8_1156_1) rfl ⟨by decide, by decide⟩ ?_
      refine Zm.l (fun _ _ k_ => z_goto (tgt := 12) dX8_readKey_206 rfl k_) ?_
      refine Zm.pick [0, 1, 2, 3, 4, 5, 6] rfl ?_
      exact k
theorem sX8_readKey_218 {E : zE} {d : Nat} {Q : zO → zM → Prop} (M : zM) (l6 : Int32) (s0 : Int32) (s1 : Int32) (k : Zm E YX8_name d M (zargs 0 [vr (some (97, 1, 0)), vi l6]) 0 [] (zma E YX8_readKey (d + 1) [(0, vr (some (97, 1, 0))), (6, vi l6)] 221 3 [vi s0, vi s1, vr (some (97, 1, 0))] Q)) : Zm E YX8_readKey (d + 1) M [(0, vr (some (97, 1, 0))), (6, vi l6)] 218 [vi s0, vi s1, vr (some (97, 1, 0))] Q := by
  refine Zm.l (fun _ _ k_ => z_aload_n dX8_readKey_218 rfl rfl k_) ?_
  refine Zm.l (fun _ _ k_ => z_iload dX8_readKey_219 rfl k_) ?_
  exact zm_callV (as := [vi l6]) (st := [vi s0, vi s1, vr (some (97, 1, 0))]) dX8_readKey_221 vsX8_1053_1 (Nat.le_refl _) (Nat.le_of_ble_eq_true rfl) (Nat.le_of_ble_eq_true rfl) rfl k
theorem sX8_readKey_224 {E : zE} {d : Nat} {Q : zO → zM → Prop} (M : zM) (l6 : Int32) (s0 : Int32) (s1 : Int32) (s2 : Int32) (k : Zm E YX8_number d M (zargs 0 [vr (some (97, 1, 0)), vi l6]) 0 [] (zma E YX8_readKey (d + 1) [] 227 3 [vi s0, vi s1, vi s2, vr (some (97, 1, 0))] Q)) : Zm E YX8_readKey (d + 1) M [(0, vr (some (97, 1, 0))), (6, vi l6)] 224 [vi s0, vi s1, vi s2, vr (some (97, 1, 0))] Q := by
  refine Zm.l (fun _ _ k_ => z_aload_n dX8_readKey_224 rfl rfl k_) ?_
  refine Zm.l (fun _ _ k_ => z_iload dX8_readKey_225 rfl k_) ?_
  refine Zm.pick [] rfl ?_
  exact zm_callV (as := [vi l6]) (st := [vi s0, vi s1, vi s2, vr (some (97, 1, 0))]) dX8_readKey_227 vsX8_1050_1 (Nat.le_refl _) (Nat.le_of_ble_eq_true rfl) (Nat.le_of_ble_eq_true rfl) rfl k
theorem sX8_readKey_230 {E : zE} {d : Nat} {Q : zO → zM → Prop} (M : zM) (s0 : Int32) (s1 : Int32) (s2 : Int32) (s3 : Int32) (k : Zm E YX8_write d M (zargs 0 [vr (some (97, 1, 0)), vi s3, vi s2, vi s1, vi s0]) 0 [] (zma E YX8_readKey (d + 1) [] 230 3 [] Q)) : Zm E YX8_readKey (d + 1) M [] 230 [vi s0, vi s1, vi s2, vi s3, vr (some (97, 1, 0))] Q := by
  exact zm_callV (as := [vi s3, vi s2, vi s1, vi s0]) (st := []) dX8_readKey_230 vsX8_1056_1 (Nat.le_refl _) (Nat.le_of_ble_eq_true rfl) (Nat.le_of_ble_eq_true rfl) rfl k
theorem sX8_readKey_233 {E : zE} {d : Nat} {Q : zO → zM → Prop} (M : zM)  (k : Q (.inl none) M) : Zm E YX8_readKey (d + 1) M [] 233 [] Q := by
  exact zm_vret dX8_readKey_233 rfl k
/-! ScriptTypesModel.waysOfPut()V -/
theorem bX8_waysOfPut_0 : zdec cX8_waysOfPut 0 [(0, .aload_n 0, 1), (1, .iconst 2, 1), (2, .invokevirtual 1195, 3), (5, .istore_n 1, 1), (6, .aload_n 0, 1), (7, .iconst 0, 1), (8, .invokevirtual 1195, 3), (11, .istore_n 2, 1), (12, .aload_n 0, 1), (13, .iload_n 1, 1), (14, .invokevirtual 1059, 3), (17, .istore_n 3, 1), (18, .aload_n 0, 1), (19, .aload_n 0, 1), (20, .iconst 1, 1), (21, .invokevirtual 1195, 3)] = true := by decide +kernel
theorem dX8_waysOfPut_0 : decode cX8_waysOfPut 0 = .ok (.aload_n 0, 1) := zdec_at bX8_waysOfPut_0 0 rfl
theorem dX8_waysOfPut_1 : decode cX8_waysOfPut 1 = .ok (.iconst 2, 1) := zdec_at bX8_waysOfPut_0 1 rfl
theorem dX8_waysOfPut_2 : decode cX8_waysOfPut 2 = .ok (.invokevirtual 1195, 3) := zdec_at bX8_waysOfPut_0 2 rfl
theorem dX8_waysOfPut_5 : decode cX8_waysOfPut 5 = .ok (.istore_n 1, 1) := zdec_at bX8_waysOfPut_0 3 rfl
theorem dX8_waysOfPut_6 : decode cX8_waysOfPut 6 = .ok (.aload_n 0, 1) := zdec_at bX8_waysOfPut_0 4 rfl
theorem dX8_waysOfPut_7 : decode cX8_waysOfPut 7 = .ok (.iconst 0, 1) := zdec_at bX8_waysOfPut_0 5 rfl
theorem dX8_waysOfPut_8 : decode cX8_waysOfPut 8 = .ok (.invokevirtual 1195, 3) := zdec_at bX8_waysOfPut_0 6 rfl
theorem dX8_waysOfPut_11 : decode cX8_waysOfPut 11 = .ok (.istore_n 2, 1) := zdec_at bX8_waysOfPut_0 7 rfl
theorem dX8_waysOfPut_12 : decode cX8_waysOfPut 12 = .ok (.aload_n 0, 1) := zdec_at bX8_waysOfPut_0 8 rfl
theorem dX8_waysOfPut_13 : decode cX8_waysOfPut 13 = .ok (.iload_n 1, 1) := zdec_at bX8_waysOfPut_0 9 rfl
theorem dX8_waysOfPut_14 : decode cX8_waysOfPut 14 = .ok (.invokevirtual 1059, 3) := zdec_at bX8_waysOfPut_0 10 rfl
theorem dX8_waysOfPut_17 : decode cX8_waysOfPut 17 = .ok (.istore_n 3, 1) := zdec_at bX8_waysOfPut_0 11 rfl
theorem dX8_waysOfPut_18 : decode cX8_waysOfPut 18 = .ok (.aload_n 0, 1) := zdec_at bX8_waysOfPut_0 12 rfl
theorem dX8_waysOfPut_19 : decode cX8_waysOfPut 19 = .ok (.aload_n 0, 1) := zdec_at bX8_waysOfPut_0 13 rfl
theorem dX8_waysOfPut_20 : decode cX8_waysOfPut 20 = .ok (.iconst 1, 1) := zdec_at bX8_waysOfPut_0 14 rfl
theorem dX8_waysOfPut_21 : decode cX8_waysOfPut 21 = .ok (.invokevirtual 1195, 3) := zdec_at bX8_waysOfPut_0 15 rfl
theorem bX8_waysOfPut_24 : zdec cX8_waysOfPut 24 [(24, .invokevirtual 1147, 3), (27, .iload_n 3, 1), (28, .bipush (-4), 2), (30, .iand, 1), (31, .ifCond .ne 11, 3), (34, .aload_n 0, 1), (35, .iload_n 1, 1), (36, .invokevirtual 1062, 3), (39, .ifCond .eq 7, 3), (42, .iconst 1, 1), (43, .goto 4, 3), (46, .iconst 0, 1), (47, .istore 4, 2), (49, .iload 4, 2), (51, .ifCond .eq 193, 3), (54, .aload_n 0, 1)] = true := by decide +kernel
theorem dX8_waysOfPut_24 : decode cX8_waysOfPut 24 = .ok (.invokevirtual 1147, 3) := zdec_at bX8_waysOfPut_24 0 rfl
theorem dX8_waysOfPut_27 : decode cX8_waysOfPut 27 = .ok (.iload_n 3, 1) := zdec_at bX8_waysOfPut_24 1 rfl
theorem dX8_waysOfPut_28 : decode cX8_waysOfPut 28 = .ok (.bipush (-4), 2) := zdec_at bX8_waysOfPut_24 2 rfl
theorem dX8_waysOfPut_30 : decode cX8_waysOfPut 30 = .ok (.iand, 1) := zdec_at bX8_waysOfPut_24 3 rfl
theorem dX8_waysOfPut_31 : decode cX8_waysOfPut 31 = .ok (.ifCond .ne 11, 3) := zdec_at bX8_waysOfPut_24 4 rfl
theorem dX8_waysOfPut_34 : decode cX8_waysOfPut 34 = .ok (.aload_n 0, 1) := zdec_at bX8_waysOfPut_24 5 rfl
theorem dX8_waysOfPut_35 : decode cX8_waysOfPut 35 = .ok (.iload_n 1, 1) := zdec_at bX8_waysOfPut_24 6 rfl
theorem dX8_waysOfPut_36 : decode cX8_waysOfPut 36 = .ok (.invokevirtual 1062, 3) := zdec_at bX8_waysOfPut_24 7 rfl
theorem dX8_waysOfPut_39 : decode cX8_waysOfPut 39 = .ok (.ifCond .eq 7, 3) := zdec_at bX8_waysOfPut_24 8 rfl
theorem dX8_waysOfPut_42 : decode cX8_waysOfPut 42 = .ok (.iconst 1, 1) := zdec_at bX8_waysOfPut_24 9 rfl
theorem dX8_waysOfPut_43 : decode cX8_waysOfPut 43 = .ok (.goto 4, 3) := zdec_at bX8_waysOfPut_24 10 rfl
theorem dX8_waysOfPut_46 : decode cX8_waysOfPut 46 = .ok (.iconst 0, 1) := zdec_at bX8_waysOfPut_24 11 rfl
theorem dX8_waysOfPut_47 : decode cX8_waysOfPut 47 = .ok (.istore 4, 2) := zdec_at bX8_waysOfPut_24 12 rfl
theorem dX8_waysOfPut_49 : decode cX8_waysOfPut 49 = .ok (.iload 4, 2) := zdec_at bX8_waysOfPut_24 13 rfl
theorem dX8_waysOfPut_51 : decode cX8_waysOfPut 51 = .ok (.ifCond .eq 193, 3) := zdec_at bX8_waysOfPut_24 14 rfl
theorem dX8_waysOfPut_54 : decode cX8_waysOfPut 54 = .ok (.aload_n 0, 1) := zdec_at bX8_waysOfPut_24 15 rfl
theorem bX8_waysOfPut_55 : zdec cX8_waysOfPut 55 [(55, .aload_n 0, 1), (56, .getfield 220, 3), (59, .iload_n 1, 1), (60, .laload, 1), (61, .aload_n 0, 1), (62, .getfield 223, 3), (65, .iload_n 1, 1), (66, .laload, 1), (67, .iload_n 2, 1), (68, .iload_n 3, 1), (69, .ifCond .ne 7, 3), (72, .iconst 1, 1), (73, .goto 4, 3), (76, .iconst 0, 1), (77, .iconst 1, 1), (78, .invokevirtual 1234, 3)] = true := by decide +kernel
theorem dX8_waysOfPut_55 : decode cX8_waysOfPut 55 = .ok (.aload_n 0, 1) := zdec_at bX8_waysOfPut_55 0 rfl
theorem dX8_waysOfPut_56 : decode cX8_waysOfPut 56 = .ok (.getfield 220, 3) := zdec_at bX8_waysOfPut_55 1 rfl
theorem dX8_waysOfPut_59 : decode cX8_waysOfPut 59 = .ok (.iload_n 1, 1) := zdec_at bX8_waysOfPut_55 2 rfl
theorem dX8_waysOfPut_60 : decode cX8_waysOfPut 60 = .ok (.laload, 1) := zdec_at bX8_waysOfPut_55 3 rfl
theorem dX8_waysOfPut_61 : decode cX8_waysOfPut 61 = .ok (.aload_n 0, 1) := zdec_at bX8_waysOfPut_55 4 rfl
theorem dX8_waysOfPut_62 : decode cX8_waysOfPut 62 = .ok (.getfield 223, 3) := zdec_at bX8_waysOfPut_55 5 rfl
theorem dX8_waysOfPut_65 : decode cX8_waysOfPut 65 = .ok (.iload_n 1, 1) := zdec_at bX8_waysOfPut_55 6 rfl
theorem dX8_waysOfPut_66 : decode cX8_waysOfPut 66 = .ok (.laload, 1) := zdec_at bX8_waysOfPut_55 7 rfl
theorem dX8_waysOfPut_67 : decode cX8_waysOfPut 67 = .ok (.iload_n 2, 1) := zdec_at bX8_waysOfPut_55 8 rfl
theorem dX8_waysOfPut_68 : decode cX8_waysOfPut 68 = .ok (.iload_n 3, 1) := zdec_at bX8_waysOfPut_55 9 rfl
theorem dX8_waysOfPut_69 : decode cX8_waysOfPut 69 = .ok (.ifCond .ne 7, 3) := zdec_at bX8_waysOfPut_55 10 rfl
theorem dX8_waysOfPut_72 : decode cX8_waysOfPut 72 = .ok (.iconst 1, 1) := zdec_at bX8_waysOfPut_55 11 rfl
theorem dX8_waysOfPut_73 : decode cX8_waysOfPut 73 = .ok (.goto 4, 3) := zdec_at bX8_waysOfPut_55 12 rfl
theorem dX8_waysOfPut_76 : decode cX8_waysOfPut 76 = .ok (.iconst 0, 1) := zdec_at bX8_waysOfPut_55 13 rfl
theorem dX8_waysOfPut_77 : decode cX8_waysOfPut 77 = .ok (.iconst 1, 1) := zdec_at bX8_waysOfPut_55 14 rfl
theorem dX8_waysOfPut_78 : decode cX8_waysOfPut 78 = .ok (.invokevirtual 1234, 3) := zdec_at bX8_waysOfPut_55 15 rfl
theorem bX8_waysOfPut_81 : zdec cX8_waysOfPut 81 [(81, .aload_n 0, 1), (82, .aload_n 0, 1), (83, .getfield 762, 3), (86, .invokevirtual 1153, 3), (89, .istore 5, 2), (91, .iconst 0, 1), (92, .istore 6, 2), (94, .iload 6, 2), (96, .aload_n 0, 1), (97, .getfield 762, 3), (100, .if_icmp .ge 40, 3), (103, .iload 5, 2), (105, .ifCond .ne 22, 3), (108, .aload_n 0, 1), (109, .iload 6, 2), (111, .invokevirtual 1153, 3)] = true := by decide +kernel
theorem dX8_waysOfPut_81 : decode cX8_waysOfPut 81 = .ok (.aload_n 0, 1) := zdec_at bX8_waysOfPut_81 0 rfl
theorem dX8_waysOfPut_82 : decode cX8_waysOfPut 82 = .ok (.aload_n 0, 1) := zdec_at bX8_waysOfPut_81 1 rfl
theorem dX8_waysOfPut_83 : decode cX8_waysOfPut 83 = .ok (.getfield 762, 3) := zdec_at bX8_waysOfPut_81 2 rfl
theorem dX8_waysOfPut_86 : decode cX8_waysOfPut 86 = .ok (.invokevirtual 1153, 3) := zdec_at bX8_waysOfPut_81 3 rfl
theorem dX8_waysOfPut_89 : decode cX8_waysOfPut 89 = .ok (.istore 5, 2) := zdec_at bX8_waysOfPut_81 4 rfl
theorem dX8_waysOfPut_91 : decode cX8_waysOfPut 91 = .ok (.iconst 0, 1) := zdec_at bX8_waysOfPut_81 5 rfl
theorem dX8_waysOfPut_92 : decode cX8_waysOfPut 92 = .ok (.istore 6, 2) := zdec_at bX8_waysOfPut_81 6 rfl
theorem dX8_waysOfPut_94 : decode cX8_waysOfPut 94 = .ok (.iload 6, 2) := zdec_at bX8_waysOfPut_81 7 rfl
theorem dX8_waysOfPut_96 : decode cX8_waysOfPut 96 = .ok (.aload_n 0, 1) := zdec_at bX8_waysOfPut_81 8 rfl
theorem dX8_waysOfPut_97 : decode cX8_waysOfPut 97 = .ok (.getfield 762, 3) := zdec_at bX8_waysOfPut_81 9 rfl
theorem dX8_waysOfPut_100 : decode cX8_waysOfPut 100 = .ok (.if_icmp .ge 40, 3) := zdec_at bX8_waysOfPut_81 10 rfl
theorem dX8_waysOfPut_103 : decode cX8_waysOfPut 103 = .ok (.iload 5, 2) := zdec_at bX8_waysOfPut_81 11 rfl
theorem dX8_waysOfPut_105 : decode cX8_waysOfPut 105 = .ok (.ifCond .ne 22, 3) := zdec_at bX8_waysOfPut_81 12 rfl
theorem dX8_waysOfPut_108 : decode cX8_waysOfPut 108 = .ok (.aload_n 0, 1) := zdec_at bX8_waysOfPut_81 13 rfl
theorem dX8_waysOfPut_109 : decode cX8_waysOfPut 109 = .ok (.iload 6, 2) := zdec_at bX8_waysOfPut_81 14 rfl
theorem dX8_waysOfPut_111 : decode cX8_waysOfPut 111 = .ok (.invokevirtual 1153, 3) := zdec_at bX8_waysOfPut_81 15 rfl
theorem bX8_waysOfPut_114 : zdec cX8_waysOfPut 114 [(114, .ifCond .eq 17, 3), (117, .aload_n 0, 1), (118, .getfield 277, 3), (121, .iload 6, 2), (123, .baload, 1), (124, .ifCond .eq 7, 3), (127, .iconst 1, 1), (128, .goto 4, 3), (131, .iconst 0, 1), (132, .istore 5, 2), (134, .iinc 6 1, 3), (137, .goto (-43), 3), (140, .iconst 0, 1), (141, .istore 6, 2), (143, .iload 6, 2), (145, .aload_n 0, 1)] = true := by decide +kernel
theorem dX8_waysOfPut_114 : decode cX8_waysOfPut 114 = .ok (.ifCond .eq 17, 3) := zdec_at bX8_waysOfPut_114 0 rfl
theorem dX8_waysOfPut_117 : decode cX8_waysOfPut 117 = .ok (.aload_n 0, 1) := zdec_at bX8_waysOfPut_114 1 rfl
theorem dX8_waysOfPut_118 : decode cX8_waysOfPut 118 = .ok (.getfield 277, 3) := zdec_at bX8_waysOfPut_114 2 rfl
theorem dX8_waysOfPut_121 : decode cX8_waysOfPut 121 = .ok (.iload 6, 2) := zdec_at bX8_waysOfPut_114 3 rfl
theorem dX8_waysOfPut_123 : decode cX8_waysOfPut 123 = .ok (.baload, 1) := zdec_at bX8_waysOfPut_114 4 rfl
theorem dX8_waysOfPut_124 : decode cX8_waysOfPut 124 = .ok (.ifCond .eq 7, 3) := zdec_at bX8_waysOfPut_114 5 rfl
theorem dX8_waysOfPut_127 : decode cX8_waysOfPut 127 = .ok (.iconst 1, 1) := zdec_at bX8_waysOfPut_114 6 rfl
theorem dX8_waysOfPut_128 : decode cX8_waysOfPut 128 = .ok (.goto 4, 3) := zdec_at bX8_waysOfPut_114 7 rfl
theorem dX8_waysOfPut_131 : decode cX8_waysOfPut 131 = .ok (.iconst 0, 1) := zdec_at bX8_waysOfPut_114 8 rfl
theorem dX8_waysOfPut_132 : decode cX8_waysOfPut 132 = .ok (.istore 5, 2) := zdec_at bX8_waysOfPut_114 9 rfl
theorem dX8_waysOfPut_134 : decode cX8_waysOfPut 134 = .ok (.iinc 6 1, 3) := zdec_at bX8_waysOfPut_114 10 rfl
theorem dX8_waysOfPut_137 : decode cX8_waysOfPut 137 = .ok (.goto (-43), 3) := zdec_at bX8_waysOfPut_114 11 rfl
theorem dX8_waysOfPut_140 : decode cX8_waysOfPut 140 = .ok (.iconst 0, 1) := zdec_at bX8_waysOfPut_114 12 rfl
theorem dX8_waysOfPut_141 : decode cX8_waysOfPut 141 = .ok (.istore 6, 2) := zdec_at bX8_waysOfPut_114 13 rfl
theorem dX8_waysOfPut_143 : decode cX8_waysOfPut 143 = .ok (.iload 6, 2) := zdec_at bX8_waysOfPut_114 14 rfl
theorem dX8_waysOfPut_145 : decode cX8_waysOfPut 145 = .ok (.aload_n 0, 1) := zdec_at bX8_waysOfPut_114 15 rfl
theorem bX8_waysOfPut_146 : zdec cX8_waysOfPut 146 [(146, .getfield 765, 3), (149, .if_icmp .ge 76, 3), (152, .iload 5, 2), (154, .ifCond .eq 71, 3), (157, .aload_n 0, 1), (158, .getfield 220, 3), (161, .iload_n 1, 1), (162, .laload, 1), (163, .aload_n 0, 1), (164, .getfield 223, 3), (167, .iload_n 1, 1), (168, .laload, 1), (169, .iload 6, 2), (171, .invokestatic 1125, 3), (174, .ifCond .eq 45, 3), (177, .aload_n 0, 1)] = true := by decide +kernel
theorem dX8_waysOfPut_146 : decode cX8_waysOfPut 146 = .ok (.getfield 765, 3) := zdec_at bX8_waysOfPut_146 0 rfl
theorem dX8_waysOfPut_149 : decode cX8_waysOfPut 149 = .ok (.if_icmp .ge 76, 3) := zdec_at bX8_waysOfPut_146 1 rfl
theorem dX8_waysOfPut_152 : decode cX8_waysOfPut 152 = .ok (.iload 5, 2) := zdec_at bX8_waysOfPut_146 2 rfl
theorem dX8_waysOfPut_154 : decode cX8_waysOfPut 154 = .ok (.ifCond .eq 71, 3) := zdec_at bX8_waysOfPut_146 3 rfl
theorem dX8_waysOfPut_157 : decode cX8_waysOfPut 157 = .ok (.aload_n 0, 1) := zdec_at bX8_waysOfPut_146 4 rfl
theorem dX8_waysOfPut_158 : decode cX8_waysOfPut 158 = .ok (.getfield 220, 3) := zdec_at bX8_waysOfPut_146 5 rfl
theorem dX8_waysOfPut_161 : decode cX8_waysOfPut 161 = .ok (.iload_n 1, 1) := zdec_at bX8_waysOfPut_146 6 rfl
theorem dX8_waysOfPut_162 : decode cX8_waysOfPut 162 = .ok (.laload, 1) := zdec_at bX8_waysOfPut_146 7 rfl
theorem dX8_waysOfPut_163 : decode cX8_waysOfPut 163 = .ok (.aload_n 0, 1) := zdec_at bX8_waysOfPut_146 8 rfl
theorem dX8_waysOfPut_164 : decode cX8_waysOfPut 164 = .ok (.getfield 223, 3) := zdec_at bX8_waysOfPut_146 9 rfl
theorem dX8_waysOfPut_167 : decode cX8_waysOfPut 167 = .ok (.iload_n 1, 1) := zdec_at bX8_waysOfPut_146 10 rfl
theorem dX8_waysOfPut_168 : decode cX8_waysOfPut 168 = .ok (.laload, 1) := zdec_at bX8_waysOfPut_146 11 rfl
theorem dX8_waysOfPut_169 : decode cX8_waysOfPut 169 = .ok (.iload 6, 2) := zdec_at bX8_waysOfPut_146 12 rfl
theorem dX8_waysOfPut_171 : decode cX8_waysOfPut 171 = .ok (.invokestatic 1125, 3) := zdec_at bX8_waysOfPut_146 13 rfl
theorem dX8_waysOfPut_174 : decode cX8_waysOfPut 174 = .ok (.ifCond .eq 45, 3) := zdec_at bX8_waysOfPut_146 14 rfl
theorem dX8_waysOfPut_177 : decode cX8_waysOfPut 177 = .ok (.aload_n 0, 1) := zdec_at bX8_waysOfPut_146 15 rfl
theorem bX8_waysOfPut_178 : zdec cX8_waysOfPut 178 [(178, .iload 6, 2), (180, .invokevirtual 1169, 3), (183, .ifCond .eq 36, 3), (186, .aload_n 0, 1), (187, .getfield 256, 3), (190, .aload_n 0, 1), (191, .sipush 639, 3), (194, .iload 6, 2), (196, .invokevirtual 1101, 3), (199, .baload, 1), (200, .ifCond .eq 19, 3), (203, .aload_n 0, 1), (204, .aload_n 0, 1), (205, .sipush 639, 3), (208, .iload 6, 2), (210, .iconst 0, 1)] = true := by decide +kernel
theorem dX8_waysOfPut_178 : decode cX8_waysOfPut 178 = .ok (.iload 6, 2) := zdec_at bX8_waysOfPut_178 0 rfl
theorem dX8_waysOfPut_180 : decode cX8_waysOfPut 180 = .ok (.invokevirtual 1169, 3) := zdec_at bX8_waysOfPut_178 1 rfl
theorem dX8_waysOfPut_183 : decode cX8_waysOfPut 183 = .ok (.ifCond .eq 36, 3) := zdec_at bX8_waysOfPut_178 2 rfl
theorem dX8_waysOfPut_186 : decode cX8_waysOfPut 186 = .ok (.aload_n 0, 1) := zdec_at bX8_waysOfPut_178 3 rfl
theorem dX8_waysOfPut_187 : decode cX8_waysOfPut 187 = .ok (.getfield 256, 3) := zdec_at bX8_waysOfPut_178 4 rfl
theorem dX8_waysOfPut_190 : decode cX8_waysOfPut 190 = .ok (.aload_n 0, 1) := zdec_at bX8_waysOfPut_178 5 rfl
theorem dX8_waysOfPut_191 : decode cX8_waysOfPut 191 = .ok (.sipush 639, 3) := zdec_at bX8_waysOfPut_178 6 rfl
theorem dX8_waysOfPut_194 : decode cX8_waysOfPut 194 = .ok (.iload 6, 2) := zdec_at bX8_waysOfPut_178 7 rfl
theorem dX8_waysOfPut_196 : decode cX8_waysOfPut 196 = .ok (.invokevirtual 1101, 3) := zdec_at bX8_waysOfPut_178 8 rfl
theorem dX8_waysOfPut_199 : decode cX8_waysOfPut 199 = .ok (.baload, 1) := zdec_at bX8_waysOfPut_178 9 rfl
theorem dX8_waysOfPut_200 : decode cX8_waysOfPut 200 = .ok (.ifCond .eq 19, 3) := zdec_at bX8_waysOfPut_178 10 rfl
theorem dX8_waysOfPut_203 : decode cX8_waysOfPut 203 = .ok (.aload_n 0, 1) := zdec_at bX8_waysOfPut_178 11 rfl
theorem dX8_waysOfPut_204 : decode cX8_waysOfPut 204 = .ok (.aload_n 0, 1) := zdec_at bX8_waysOfPut_178 12 rfl
theorem dX8_waysOfPut_205 : decode cX8_waysOfPut 205 = .ok (.sipush 639, 3) := zdec_at bX8_waysOfPut_178 13 rfl
theorem dX8_waysOfPut_208 : decode cX8_waysOfPut 208 = .ok (.iload 6, 2) := zdec_at bX8_waysOfPut_178 14 rfl
theorem dX8_waysOfPut_210 : decode cX8_waysOfPut 210 = .ok (.iconst 0, 1) := zdec_at bX8_waysOfPut_178 15 rfl
theorem bX8_waysOfPut_211 : zdec cX8_waysOfPut 211 [(211, .invokevirtual 1163, 3), (214, .bipush 64, 2), (216, .invokevirtual 1072, 3), (219, .iinc 6 1, 3), (222, .goto (-79), 3), (225, .ldc_w 1218, 3), (228, .istore 6, 2), (230, .aload_n 0, 1), (231, .iload_n 2, 1), (232, .iload 6, 2), (234, .invokevirtual 1092, 3), (237, .aload_n 0, 1), (238, .iconst 3, 1), (239, .iload 6, 2), (241, .invokevirtual 1258, 3), (244, .iload_n 3, 1)] = true := by decide +kernel
theorem dX8_waysOfPut_211 : decode cX8_waysOfPut 211 = .ok (.invokevirtual 1163, 3) := zdec_at bX8_waysOfPut_211 0 rfl
theorem dX8_waysOfPut_214 : decode cX8_waysOfPut 214 = .ok (.bipush 64, 2) := zdec_at bX8_waysOfPut_211 1 rfl
theorem dX8_waysOfPut_216 : decode cX8_waysOfPut 216 = .ok (.invokevirtual 1072, 3) := zdec_at bX8_waysOfPut_211 2 rfl
theorem dX8_waysOfPut_219 : decode cX8_waysOfPut 219 = .ok (.iinc 6 1, 3) := zdec_at bX8_waysOfPut_211 3 rfl
theorem dX8_waysOfPut_222 : decode cX8_waysOfPut 222 = .ok (.goto (-79), 3) := zdec_at bX8_waysOfPut_211 4 rfl
theorem dX8_waysOfPut_225 : decode cX8_waysOfPut 225 = .ok (.ldc_w 1218, 3) := zdec_at bX8_waysOfPut_211 5 rfl
theorem dX8_waysOfPut_228 : decode cX8_waysOfPut 228 = .ok (.istore 6, 2) := zdec_at bX8_waysOfPut_211 6 rfl
theorem dX8_waysOfPut_230 : decode cX8_waysOfPut 230 = .ok (.aload_n 0, 1) := zdec_at bX8_waysOfPut_211 7 rfl
theorem dX8_waysOfPut_231 : decode cX8_waysOfPut 231 = .ok (.iload_n 2, 1) := zdec_at bX8_waysOfPut_211 8 rfl
theorem dX8_waysOfPut_232 : decode cX8_waysOfPut 232 = .ok (.iload 6, 2) := zdec_at bX8_waysOfPut_211 9 rfl
theorem dX8_waysOfPut_234 : decode cX8_waysOfPut 234 = .ok (.invokevirtual 1092, 3) := zdec_at bX8_waysOfPut_211 10 rfl
theorem dX8_waysOfPut_237 : decode cX8_waysOfPut 237 = .ok (.aload_n 0, 1) := zdec_at bX8_waysOfPut_211 11 rfl
theorem dX8_waysOfPut_238 : decode cX8_waysOfPut 238 = .ok (.iconst 3, 1) := zdec_at bX8_waysOfPut_211 12 rfl
theorem dX8_waysOfPut_239 : decode cX8_waysOfPut 239 = .ok (.iload 6, 2) := zdec_at bX8_waysOfPut_211 13 rfl
theorem dX8_waysOfPut_241 : decode cX8_waysOfPut 241 = .ok (.invokevirtual 1258, 3) := zdec_at bX8_waysOfPut_211 14 rfl
theorem dX8_waysOfPut_244 : decode cX8_waysOfPut 244 = .ok (.iload_n 3, 1) := zdec_at bX8_waysOfPut_211 15 rfl
theorem bX8_waysOfPut_245 : zdec cX8_waysOfPut 245 [(245, .iconst 3, 1), (246, .iand, 1), (247, .ifCond .eq 13, 3), (250, .aload_n 0, 1), (251, .aload_n 0, 1), (252, .getfield 1188, 3), (255, .bipush 6, 2), (257, .invokevirtual 1292, 3), (260, .return_, 1)] = true := by decide +kernel
theorem dX8_waysOfPut_245 : decode cX8_waysOfPut 245 = .ok (.iconst 3, 1) := zdec_at bX8_waysOfPut_245 0 rfl
theorem dX8_waysOfPut_246 : decode cX8_waysOfPut 246 = .ok (.iand, 1) := zdec_at bX8_waysOfPut_245 1 rfl
theorem dX8_waysOfPut_247 : decode cX8_waysOfPut 247 = .ok (.ifCond .eq 13, 3) := zdec_at bX8_waysOfPut_245 2 rfl
theorem dX8_waysOfPut_250 : decode cX8_waysOfPut 250 = .ok (.aload_n 0, 1) := zdec_at bX8_waysOfPut_245 3 rfl
theorem dX8_waysOfPut_251 : decode cX8_waysOfPut 251 = .ok (.aload_n 0, 1) := zdec_at bX8_waysOfPut_245 4 rfl
theorem dX8_waysOfPut_252 : decode cX8_waysOfPut 252 = .ok (.getfield 1188, 3) := zdec_at bX8_waysOfPut_245 5 rfl
theorem dX8_waysOfPut_255 : decode cX8_waysOfPut 255 = .ok (.bipush 6, 2) := zdec_at bX8_waysOfPut_245 6 rfl
theorem dX8_waysOfPut_257 : decode cX8_waysOfPut 257 = .ok (.invokevirtual 1292, 3) := zdec_at bX8_waysOfPut_245 7 rfl
theorem dX8_waysOfPut_260 : decode cX8_waysOfPut 260 = .ok (.return_, 1) := zdec_at bX8_waysOfPut_245 8 rfl
theorem sX8_waysOfPut_0 {E : zE} {d : Nat} {Q : zO → zM → Prop} (M : zM)  (k : Zm E YX8_fromTop d M (zargs 0 [vr (some (97, 1, 0)), vi (2 : Int32)]) 0 [] (zma E YX8_waysOfPut (d + 1) [(0, vr (some (97, 1, 0)))] 2 3 [] Q)) : Zm E YX8_waysOfPut (d + 1) M [(0, vr (some (97, 1, 0)))] 0 [] Q := by
  refine Zm.l (fun _ _ k_ => z_aload_n dX8_waysOfPut_0 rfl rfl k_) ?_
  refine Zm.l (fun _ _ k_ => z_iconst (v := 2) dX8_waysOfPut_1 rfl k_) ?_
  exact zm_callV (as := [vi (2 : Int32)]) (st := []) dX8_waysOfPut_2 vsX8_1195_1 (Nat.le_refl _) (Nat.le_of_ble_eq_true rfl) (Nat.le_of_ble_eq_true rfl) rfl k
theorem sX8_waysOfPut_5 {E : zE} {d : Nat} {Q : zO → zM → Prop} (M : zM) (s0 : Int32) (k : Zm E YX8_fromTop d M (zargs 0 [vr (some (97, 1, 0)), vi (0 : Int32)]) 0 [] (zma E YX8_waysOfPut (d + 1) [(0, vr (some (97, 1, 0))), (1, vi s0)] 8 3 [] Q)) : Zm E YX8_waysOfPut (d + 1) M [(0, vr (some (97, 1, 0)))] 5 [vi s0] Q := by
  refine Zm.l (fun _ _ k_ => z_ist_n dX8_waysOfPut_5 rfl (by decide) (lv' := [(0, vr (some (97, 1, 0))), (1, vi s0)]) rfl k_) ?_
  refine Zm.l (fun _ _ k_ => z_aload_n dX8_waysOfPut_6 rfl rfl k_) ?_
  refine Zm.l (fun _ _ k_ => z_iconst (v := 0) dX8_waysOfPut_7 rfl k_) ?_
  exact zm_callV (as := [vi (0 : Int32)]) (st := []) dX8_waysOfPut_8 vsX8_1195_1 (Nat.le_refl _) (Nat.le_of_ble_eq_true rfl) (Nat.le_of_ble_eq_true rfl) rfl k
theorem sX8_waysOfPut_11 {E : zE} {d : Nat} {Q : zO → zM → Prop} (M : zM) (l1 : Int32) (s0 : Int32) (k : Zm E YX8_plainly d M (zargs 0 [vr (some (97, 1, 0)), vi l1]) 0 [] (zma E YX8_waysOfPut (d + 1) [(0, vr (some (97, 1, 0))), (1, vi l1), (2, vi s0)] 14 3 [] Q)) : Zm E YX8_waysOfPut (d + 1) M [(0, vr (some (97, 1, 0))), (1, vi l1)] 11 [vi s0] Q := by
  refine Zm.l (fun _ _ k_ => z_ist_n dX8_waysOfPut_11 rfl (by decide) (lv' := [(0, vr (some (97, 1, 0))), (1, vi l1), (2, vi s0)]) rfl k_) ?_
  refine Zm.l (fun _ _ k_ => z_aload_n dX8_waysOfPut_12 rfl rfl k_) ?_
  refine Zm.l (fun _ _ k_ => z_iload_n dX8_waysOfPut_13 rfl rfl k_) ?_
  exact zm_callV (as := [vi l1]) (st := []) dX8_waysOfPut_14 vsX8_1059_1 (Nat.le_refl _) (Nat.le_of_ble_eq_true rfl) (Nat.le_of_ble_eq_true rfl) rfl k
theorem sX8_waysOfPut_17 {E : zE} {d : Nat} {Q : zO → zM → Prop} (M : zM) (l1 : Int32) (l2 : Int32) (s0 : Int32) (k : Zm E YX8_fromTop d M (zargs 0 [vr (some (97, 1, 0)), vi (1 : Int32)]) 0 [] (zma E YX8_waysOfPut (d + 1) [(0, vr (some (97, 1, 0))), (1, vi l1), (2, vi l2), (3, vi s0)] 21 3 [vr (some (97, 1, 0))] Q)) : Zm E YX8_waysOfPut (d + 1) M [(0, vr (some (97, 1, 0))), (1, vi l1), (2, vi l2)] 17 [vi s0] Q := by
  refine Zm.l (fun _ _ k_ => z_ist_n dX8_waysOfPut_17 rfl (by decide) (lv' := [(0, vr (some (97, 1, 0))), (1, vi l1), (2, vi l2), (3, vi s0)]) rfl k_) ?_
  refine Zm.l (fun _ _ k_ => z_aload_n dX8_waysOfPut_18 rfl rfl k_) ?_
  refine Zm.l (fun _ _ k_ => z_aload_n dX8_waysOfPut_19 rfl rfl k_) ?_
  refine Zm.l (fun _ _ k_ => z_iconst (v := 1) dX8_waysOfPut_20 rfl k_) ?_
  exact zm_callV (as := [vi (1 : Int32)]) (st := [vr (some (97, 1, 0))]) dX8_waysOfPut_21 vsX8_1195_1 (Nat.le_refl _) (Nat.le_of_ble_eq_true rfl) (Nat.le_of_ble_eq_true rfl) rfl k
theorem sX8_waysOfPut_24 {E : zE} {d : Nat} {Q : zO → zM → Prop} (M : zM) (l1 : Int32) (l2 : Int32) (l3 : Int32) (s0 : Int32) (k : Zm E YX8_keysOf d M (zargs 0 [vr (some (97, 1, 0)), vi s0]) 0 [] (zma E YX8_waysOfPut (d + 1) [(0, vr (some (97, 1, 0))), (1, vi l1), (2, vi l2), (3, vi l3)] 24 3 [] Q)) : Zm E YX8_waysOfPut (d + 1) M [(0, vr (some (97, 1, 0))), (1, vi l1), (2, vi l2), (3, vi l3)] 24 [vi s0, vr (some (97, 1, 0))] Q := by
  exact zm_callV (as := [vi s0]) (st := []) dX8_waysOfPut_24 vsX8_1147_1 (Nat.le_refl _) (Nat.le_of_ble_eq_true rfl) (Nat.le_of_ble_eq_true rfl) rfl k
theorem sX8_waysOfPut_27 {E : zE} {d : Nat} {Q : zO → zM → Prop} (M : zM) (l1 : Int32) (l2 : Int32) (l3 : Int32) (k : if (l3 &&& (-4 : Int32)) = 0 then (Zm E YX8_hasLabels d M (zargs 0 [vr (some (97, 1, 0)), vi l1]) 0 [] (zma E YX8_waysOfPut (d + 1) [(0, vr (some (97, 1, 0))), (1, vi l1), (2, vi l2), (3, vi l3)] 36 3 [] Q)) else (Zm E YX8_waysOfPut (d + 1) M [(0, vr (some (97, 1, 0))), (1, vi l1), (2, vi l2), (3, vi l3)] 47 [vi (1 : Int32)] Q)) : Zm E YX8_waysOfPut (d + 1) M [(0, vr (some (97, 1, 0))), (1, vi l1), (2, vi l2), (3, vi l3)] 27 [] Q := by
  refine Zm.l (fun _ _ k_ => z_iload_n dX8_waysOfPut_27 rfl rfl k_) ?_
  refine Zm.l (fun _ _ k_ => z_bipush (v := -4) dX8_waysOfPut_28 rfl k_) ?_
  refine Zm.l (fun _ _ k_ => z_iand dX8_waysOfPut_30 k_) ?_
  refine Zm.brn (fun _ _ k1_ k2_ => z_if_ne (tgt := 42) dX8_waysOfPut_31 rfl k1_ k2_) (fun h_ => ?_) (fun h_ => ?_)
  · have k := zif h_ k
    refine Zm.l (fun _ _ k_ => z_iconst (v := 1) dX8_waysOfPut_42 rfl k_) ?_
    refine Zm.l (fun _ _ k_ => z_goto (tgt := 47) dX8_waysOfPut_43 rfl k_) ?_
    exact k
  · have k := zit h_ k
    refine Zm.l (fun _ _ k_ => z_aload_n dX8_waysOfPut_34 rfl rfl k_) ?_
    refine Zm.l (fun _ _ k_ => z_iload_n dX8_waysOfPut_35 rfl rfl k_) ?_
    exact zm_callV (as := [vi l1]) (st := []) dX8_waysOfPut_36 vsX8_1062_1 (Nat.le_refl _) (Nat.le_of_ble_eq_true rfl) (Nat.le_of_ble_eq_true rfl) rfl k
theorem sX8_waysOfPut_39 {E : zE} {d : Nat} {Q : zO → zM → Prop} (M : zM) (l1 : Int32) (l2 : Int32) (l3 : Int32) (s0 : Int32) (k : if s0 = 0 then (Zm E YX8_waysOfPut (d + 1) M [(0, vr (some (97, 1, 0))), (1, vi l1), (2, vi l2), (3, vi l3)] 47 [vi (0 : Int32)] Q) else (Zm E YX8_waysOfPut (d + 1) M [(0, vr (some (97, 1, 0))), (1, vi l1), (2, vi l2), (3, vi l3)] 47 [vi (1 : Int32)] Q)) : Zm E YX8_waysOfPut (d + 1) M [(0, vr (some (97, 1, 0))), (1, vi l1), (2, vi l2), (3, vi l3)] 39 [vi s0] Q := by
  refine Zm.br (fun _ _ k1_ k2_ => z_if_eq (tgt := 46) dX8_waysOfPut_39 rfl k1_ k2_) (fun h_ => ?_) (fun h_ => ?_)
  · have k := zit h_ k
    refine Zm.l (fun _ _ k_ => z_iconst (v := 0) dX8_waysOfPut_46 rfl k_) ?_
    exact k
  · have k := zif h_ k
    refine Zm.l (fun _ _ k_ => z_iconst (v := 1) dX8_waysOfPut_42 rfl k_) ?_
    refine Zm.l (fun _ _ k_ => z_goto (tgt := 47) dX8_waysOfPut_43 rfl k_) ?_
    exact k
theorem sX8_waysOfPut_47 {E : zE} {d : Nat} {Q : zO → zM → Prop} (M : zM) (l1 : Int32) (l2 : Int32) (l3 : Int32) (s0 : Int32) (k : if s0 = 0 then (Zm E YX8_waysOfPut (d + 1) M [(0, vr (some (97, 1, 0))), (3, vi l3)] 244 [] Q) else (vp_in l1 647800 ∧ (vp_in l1 647800 ∧ (if l3 = 0 then (Zm E YX8_writeTo d M (zargs 0 [vr (some (97, 1, 0)), vl (gl M 166 (l1).toNatClampNeg), vl (gl M 167 (l1).toNatClampNeg), vi l2, vi (1 : Int32), vi (1 : Int32)]) 0 [] (zma E YX8_waysOfPut (d + 1) [(0, vr (some (97, 1, 0))), (1, vi l1), (2, vi l2), (3, vi l3)] 78 3 [] Q)) else (Zm E YX8_writeTo d M (zargs 0 [vr (some (97, 1, 0)), vl (gl M 166 (l1).toNatClampNeg), vl (gl M 167 (l1).toNatClampNeg), vi l2, vi (0 : Int32), vi (1 : Int32)]) 0 [] (zma E YX8_waysOfPut (d + 1) [(0, vr (some (97, 1, 0))), (1, vi l1), (2, vi l2), (3, vi l3)] 78 3 [] Q)))))) : Zm E YX8_waysOfPut (d + 1) M [(0, vr (some (97, 1, 0))), (1, vi l1), (2, vi l2), (3, vi l3)] 47 [vi s0] Q := by
  refine Zm.l (fun _ _ k_ => z_ist dX8_waysOfPut_47 (by decide) (lv' := [(0, vr (some (97, 1, 0))), (1, vi l1), (2, vi l2), (3, vi l3), (4, vi s0)]) rfl k_) ?_
  refine Zm.l (fun _ _ k_ => z_iload dX8_waysOfPut_49 rfl k_) ?_
  refine Zm.br (fun _ _ k1_ k2_ => z_if_eq (tgt := 244) dX8_waysOfPut_51 rfl k1_ k2_) (fun h_ => ?_) (fun h_ => ?_)
  · have k := zit h_ k
    refine Zm.pick [0, 3] rfl ?_
    exact k
  · have k := zif h_ k
    refine Zm.l (fun _ _ k_ => z_aload_n dX8_waysOfPut_54 rfl rfl k_) ?_
    refine Zm.l (fun _ _ k_ => z_aload_n dX8_waysOfPut_55 rfl rfl k_) ?_
    refine zm_getr 63 dX8_waysOfPut_56 fsX8_220_1 rfl ?_
    refine Zm.l (fun _ _ k_ => z_iload_n dX8_waysOfPut_59 rfl rfl k_) ?_
    obtain ⟨b_, k⟩ := k
    refine zm_lald dX8_waysOfPut_60 b_ (by decide) (by decide) ?_
    refine Zm.l (fun _ _ k_ => z_aload_n dX8_waysOfPut_61 rfl rfl k_) ?_
    refine zm_getr 64 dX8_waysOfPut_62 fsX8_223_1 rfl ?_
    refine Zm.l (fun _ _ k_ => z_iload_n dX8_waysOfPut_65 rfl rfl k_) ?_
    obtain ⟨b_, k⟩ := k
    refine zm_lald dX8_waysOfPut_66 b_ (by decide) (by decide) ?_
    refine Zm.l (fun _ _ k_ => z_iload_n dX8_waysOfPut_67 rfl rfl k_) ?_
    refine Zm.l (fun _ _ k_ => z_iload_n dX8_waysOfPut_68 rfl rfl k_) ?_
    refine Zm.brn (fun _ _ k1_ k2_ => z_if_ne (tgt := 76) dX8_waysOfPut_69 rfl k1_ k2_) (fun h_ => ?_) (fun h_ => ?_)
    · have k := zif h_ k
      refine Zm.l (fun _ _ k_ => z_iconst (v := 0) dX8_waysOfPut_76 rfl k_) ?_
      refine Zm.l (fun _ _ k_ => z_iconst (v := 1) dX8_waysOfPut_77 rfl k_) ?_
      refine Zm.pick [0, 1, 2, 3] rfl ?_
      exact zm_callV (as := [vl (gl M 166 (l1).toNatClampNeg), vl (gl M 167 (l1).toNatClampNeg), vi l2, vi (0 : Int32), vi (1 : Int32)]) (st := []) dX8_waysOfPut_78 vsX8_1234_1 (Nat.le_refl _) (Nat.le_of_ble_eq_true rfl) (Nat.le_of_ble_eq_true rfl) rfl k
    · have k := zit h_ k
      refine Zm.l (fun _ _ k_ => z_iconst (v := 1) dX8_waysOfPut_72 rfl k_) ?_
      refine Zm.l (fun _ _ k_ => z_goto (tgt := 77) dX8_waysOfPut_73 rfl k_) ?_
      refine Zm.l (fun _ _ k_ => z_iconst (v := 1) dX8_waysOfPut_77 rfl k_) ?_
      refine Zm.pick [0, 1, 2, 3] rfl ?_
      exact zm_callV (as := [vl (gl M 166 (l1).toNatClampNeg), vl (gl M 167 (l1).toNatClampNeg), vi l2, vi (1 : Int32), vi (1 : Int32)]) (st := []) dX8_waysOfPut_78 vsX8_1234_1 (Nat.le_refl _) (Nat.le_of_ble_eq_true rfl) (Nat.le_of_ble_eq_true rfl) rfl k
theorem sX8_waysOfPut_81 {E : zE} {d : Nat} {Q : zO → zM → Prop} (M : zM) (l1 : Int32) (l2 : Int32) (l3 : Int32) (k : Zm E YX8_hasKey d M (zargs 0 [vr (some (97, 1, 0)), vi (gi M 97 8)]) 0 [] (zma E YX8_waysOfPut (d + 1) [(0, vr (some (97, 1, 0))), (1, vi l1), (2, vi l2), (3, vi l3)] 86 3 [] Q)) : Zm E YX8_waysOfPut (d + 1) M [(0, vr (some (97, 1, 0))), (1, vi l1), (2, vi l2), (3, vi l3)] 81 [] Q := by
  refine Zm.l (fun _ _ k_ => z_aload_n dX8_waysOfPut_81 rfl rfl k_) ?_
  refine Zm.l (fun _ _ k_ => z_aload_n dX8_waysOfPut_82 rfl rfl k_) ?_
  refine zm_geti dX8_waysOfPut_83 fsX8_762_1 (by decide) (by decide) ?_
  exact zm_callV (as := [vi (gi M 97 8)]) (st := []) dX8_waysOfPut_86 vsX8_1153_1 (Nat.le_refl _) (Nat.le_of_ble_eq_true rfl) (Nat.le_of_ble_eq_true rfl) rfl k
theorem sX8_waysOfPut_89 {E : zE} {d : Nat} {Q : zO → zM → Prop} (M : zM) (l1 : Int32) (l2 : Int32) (l3 : Int32) (s0 : Int32) (k : Zm E YX8_waysOfPut (d + 1) M [(0, vr (some (97, 1, 0))), (1, vi l1), (2, vi l2), (3, vi l3), (5, vi s0), (6, vi (0 : Int32))] 94 [] Q) : Zm E YX8_waysOfPut (d + 1) M [(0, vr (some (97, 1, 0))), (1, vi l1), (2, vi l2), (3, vi l3)] 89 [vi s0] Q := by
  refine Zm.l (fun _ _ k_ => z_ist dX8_waysOfPut_89 (by decide) (lv' := [(0, vr (some (97, 1, 0))), (1, vi l1), (2, vi l2), (3, vi l3), (5, vi s0)]) rfl k_) ?_
  refine Zm.l (fun _ _ k_ => z_iconst (v := 0) dX8_waysOfPut_91 rfl k_) ?_
  refine Zm.l (fun _ _ k_ => z_ist dX8_waysOfPut_92 (by decide) (lv' := [(0, vr (some (97, 1, 0))), (1, vi l1), (2, vi l2), (3, vi l3), (5, vi s0), (6, vi (0 : Int32))]) rfl k_) ?_
  exact k
theorem sX8_waysOfPut_94 {E : zE} {d : Nat} {Q : zO → zM → Prop} (M : zM) (l1 : Int32) (l2 : Int32) (l3 : Int32) (l5 : Int32) (l6 : Int32) (k : if (gi M 97 8) ≤ l6 then (Zm E YX8_waysOfPut (d + 1) M [(0, vr (some (97, 1, 0))), (1, vi l1), (2, vi l2), (3, vi l3), (5, vi l5), (6, vi (0 : Int32))] 143 [] Q) else (if l5 = 0 then (Zm E YX8_hasKey d M (zargs 0 [vr (some (97, 1, 0)), vi l6]) 0 [] (zma E YX8_waysOfPut (d + 1) [(0, vr (some (97, 1, 0))), (1, vi l1), (2, vi l2), (3, vi l3), (6, vi l6)] 111 3 [] Q)) else (Zm E YX8_waysOfPut (d + 1) M [(0, vr (some (97, 1, 0))), (1, vi l1), (2, vi l2), (3, vi l3), (5, vi (1 : Int32)), (6, vi (l6 + (1 : Int32)))] 94 [] Q))) : Zm E YX8_waysOfPut (d + 1) M [(0, vr (some (97, 1, 0))), (1, vi l1), (2, vi l2), (3, vi l3), (5, vi l5), (6, vi l6)] 94 [] Q := by
  refine Zm.l (fun _ _ k_ => z_iload dX8_waysOfPut_94 rfl k_) ?_
  refine Zm.l (fun _ _ k_ => z_aload_n dX8_waysOfPut_96 rfl rfl k_) ?_
  refine zm_geti dX8_waysOfPut_97 fsX8_762_1 (by decide) (by decide) ?_
  refine Zm.br (fun _ _ k1_ k2_ => z_icmp_ge (tgt := 140) dX8_waysOfPut_100 rfl k1_ k2_) (fun h_ => ?_) (fun h_ => ?_)
  · have k := zit h_ k
    refine Zm.l (fun _ _ k_ => z_iconst (v := 0) dX8_waysOfPut_140 rfl k_) ?_
    refine Zm.l (fun _ _ k_ => z_ist dX8_waysOfPut_141 (by decide) (lv' := [(0, vr (some (97, 1, 0))), (1, vi l1), (2, vi l2), (3, vi l3), (5, vi l5), (6, vi (0 : Int32))]) rfl k_) ?_
    exact k
  · have k := zif h_ k
    refine Zm.l (fun _ _ k_ => z_iload dX8_waysOfPut_103 rfl k_) ?_
    refine Zm.brn (fun _ _ k1_ k2_ => z_if_ne (tgt := 127) dX8_waysOfPut_105 rfl k1_ k2_) (fun h_ => ?_) (fun h_ => ?_)
    · have k := zif h_ k
      refine Zm.l (fun _ _ k_ => z_iconst (v := 1) dX8_waysOfPut_127 rfl k_) ?_
      refine Zm.l (fun _ _ k_ => z_goto (tgt := 132) dX8_waysOfPut_128 rfl k_) ?_
      refine Zm.l (fun _ _ k_ => z_ist dX8_waysOfPut_132 (by decide) (lv' := [(0, vr (some (97, 1, 0))), (1, vi l1), (2, vi l2), (3, vi l3), (5, vi (1 : Int32)), (6, vi l6)]) rfl k_) ?_
      refine Zm.l (fun _ _ k_ => z_inc (v := (l6 + (1 : Int32))) dX8_waysOfPut_134 rfl rfl (by decide) (lv' := [(0, vr (some (97, 1, 0))), (1, vi l1), (2, vi l2), (3, vi l3), (5, vi (1 : Int32)), (6, vi (l6 + (1 : Int32)))]) rfl k_) ?_
      refine Zm.l (fun _ _ k_ => z_goto (tgt := 94) dX8_waysOfPut_137 rfl k_) ?_
      exact k
    · have k := zit h_ k
      refine Zm.l (fun _ _ k_ => z_aload_n dX8_waysOfPut_108 rfl rfl k_) ?_
      refine Zm.l (fun _ _ k_ => z_iload dX8_waysOfPut_109 rfl k_) ?_
      refine Zm.pick [0, 1, 2, 3, 5] rfl ?_
      exact zm_callV (as := [vi l6]) (st := []) dX8_waysOfPut_111 vsX8_1153_1 (Nat.le_refl _) (Nat.le_of_ble_eq_true rfl) (Nat.le_of_ble_eq_true rfl) rfl k
theorem sX8_waysOfPut_114 {E : zE} {d : Nat} {Q : zO → zM → Prop} (M : zM) (l1 : Int32) (l2 : Int32) (l3 : Int32) (l6 : Int32) (s0 : Int32) (k : if s0 = 0 then (Zm E YX8_waysOfPut (d + 1) M [(0, vr (some (97, 1, 0))), (1, vi l1), (2, vi l2), (3, vi l3), (5, vi (0 : Int32)), (6, vi (l6 + (1 : Int32)))] 94 [] Q) else (vp_in l6 90 ∧ (if (gi M 185 (l6).toNatClampNeg) = 0 then (Zm E YX8_waysOfPut (d + 1) M [(0, vr (some (97, 1, 0))), (1, vi l1), (2, vi l2), (3, vi l3), (5, vi (0 : Int32)), (6, vi (l6 + (1 : Int32)))] 94 [] Q) else (Zm E YX8_waysOfPut (d + 1) M [(0, vr (some (97, 1, 0))), (1, vi l1), (2, vi l2), (3, vi l3), (5, vi (1 : Int32)), (6, vi (l6 + (1 : Int32)))] 94 [] Q)))) : Zm E YX8_waysOfPut (d + 1) M [(0, vr (some (97, 1, 0))), (1, vi l1), (2, vi l2), (3, vi l3), (6, vi l6)] 114 [vi s0] Q := by
  refine Zm.br (fun _ _ k1_ k2_ => z_if_eq (tgt := 131) dX8_waysOfPut_114 rfl k1_ k2_) (fun h_ => ?_) (fun h_ => ?_)
  · have k := zit h_ k
    refine Zm.l (fun _ _ k_ => z_iconst (v := 0) dX8_waysOfPut_131 rfl k_) ?_
    refine Zm.l (fun _ _ k_ => z_ist dX8_waysOfPut_132 (by decide) (lv' := [(0, vr (some (97, 1, 0))), (1, vi l1), (2, vi l2), (3, vi l3), (5, vi (0 : Int32)), (6, vi l6)]) rfl k_) ?_
    refine Zm.l (fun _ _ k_ => z_inc (v := (l6 + (1 : Int32))) dX8_waysOfPut_134 rfl rfl (by decide) (lv' := [(0, vr (some (97, 1, 0))), (1, vi l1), (2, vi l2), (3, vi l3), (5, vi (0 : Int32)), (6, vi (l6 + (1 : Int32)))]) rfl k_) ?_
    refine Zm.l (fun _ _ k_ => z_goto (tgt := 94) dX8_waysOfPut_137 rfl k_) ?_
    exact k
  · have k := zif h_ k
    refine Zm.l (fun _ _ k_ => z_aload_n dX8_waysOfPut_117 rfl rfl k_) ?_
    refine zm_getr 82 dX8_waysOfPut_118 fsX8_277_1 rfl ?_
    refine Zm.l (fun _ _ k_ => z_iload dX8_waysOfPut_121 rfl k_) ?_
    obtain ⟨b_, k⟩ := k
    refine zm_zald dX8_waysOfPut_123 b_ (by decide) (by decide) ?_
    refine Zm.br (fun _ _ k1_ k2_ => z_if_eq (tgt := 131) dX8_waysOfPut_124 rfl k1_ k2_) (fun h_ => ?_) (fun h_ => ?_)
    · have k := zit h_ k
      refine Zm.l (fun _ _ k_ => z_iconst (v := 0) dX8_waysOfPut_131 rfl k_) ?_
      refine Zm.l (fun _ _ k_ => z_ist dX8_waysOfPut_132 (by decide) (lv' := [(0, vr (some (97, 1, 0))), (1, vi l1), (2, vi l2), (3, vi l3), (5, vi (0 : Int32)), (6, vi l6)]) rfl k_) ?_
      refine Zm.l (fun _ _ k_ => z_inc (v := (l6 + (1 : Int32))) dX8_waysOfPut_134 rfl rfl (by decide) (lv' := [(0, vr (some (97, 1, 0))), (1, vi l1), (2, vi l2), (3, vi l3), (5, vi (0 : Int32)), (6, vi (l6 + (1 : Int32)))]) rfl k_) ?_
      refine Zm.l (fun _ _ k_ => z_goto (tgt := 94) dX8_waysOfPut_137 rfl k_) ?_
      exact k
    · have k := zif h_ k
      refine Zm.l (fun _ _ k_ => z_iconst (v := 1) dX8_waysOfPut_127 rfl k_) ?_
      refine Zm.l (fun _ _ k_ => z_goto (tgt := 132) dX8_waysOfPut_128 rfl k_) ?_
      refine Zm.l (fun _ _ k_ => z_ist dX8_waysOfPut_132 (by decide) (lv' := [(0, vr (some (97, 1, 0))), (1, vi l1), (2, vi l2), (3, vi l3), (5, vi (1 : Int32)), (6, vi l6)]) rfl k_) ?_
      refine Zm.l (fun _ _ k_ => z_inc (v := (l6 + (1 : Int32))) dX8_waysOfPut_134 rfl rfl (by decide) (lv' := [(0, vr (some (97, 1, 0))), (1, vi l1), (2, vi l2), (3, vi l3), (5, vi (1 : Int32)), (6, vi (l6 + (1 : Int32)))]) rfl k_) ?_
      refine Zm.l (fun _ _ k_ => z_goto (tgt := 94) dX8_waysOfPut_137 rfl k_) ?_
      exact k
theorem sX8_waysOfPut_143 {E : zE} {d : Nat} {Q : zO → zM → Prop} (M : zM) (l1 : Int32) (l2 : Int32) (l3 : Int32) (l5 : Int32) (l6 : Int32) (k : if (gi M 97 71) ≤ l6 then (Zm E YX8_copySet d M (zargs 0 [vr (some (97, 1, 0)), vi l2, vi (647740 : Int32)]) 0 [] (zma E YX8_waysOfPut (d + 1) [(0, vr (some (97, 1, 0))), (3, vi l3), (6, vi (647740 : Int32))] 234 3 [] Q)) else (if l5 = 0 then (Zm E YX8_copySet d M (zargs 0 [vr (some (97, 1, 0)), vi l2, vi (647740 : Int32)]) 0 [] (zma E YX8_waysOfPut (d + 1) [(0, vr (some (97, 1, 0))), (3, vi l3), (6, vi (647740 : Int32))] 234 3 [] Q)) else (vp_in l1 647800 ∧ (vp_in l1 647800 ∧ (Zm E YX8_isIn d M (zargs 0 [vl (gl M 166 (l1).toNatClampNeg), vl (gl M 167 (l1).toNatClampNeg), vi l6]) 0 [] (zma E YX8_waysOfPut (d + 1) [(0, vr (some (97, 1, 0))), (1, vi l1), (2, vi l2), (3, vi l3), (5, vi l5), (6, vi l6)] 171 3 [] Q)))))) : Zm E YX8_waysOfPut (d + 1) M [(0, vr (some (97, 1, 0))), (1, vi l1), (2, vi l2), (3, vi l3), (5, vi l5), (6, vi l6)] 143 [] Q := by
  refine Zm.l (fun _ _ k_ => z_iload dX8_waysOfPut_143 rfl k_) ?_
  refine Zm.l (fun _ _ k_ => z_aload_n dX8_waysOfPut_145 rfl rfl k_) ?_
  refine zm_geti dX8_waysOfPut_146 fsX8_765_1 (by decide) (by decide) ?_
  refine Zm.br (fun _ _ k1_ k2_ => z_icmp_ge (tgt := 225) dX8_waysOfPut_149 rfl k1_ k2_) (fun h_ => ?_) (fun h_ => ?_)
  · have k := zit h_ k
    refine Zm.l (fun _ _ k_ => z_ldcw (v := 647740) dX8_waysOfPut_225 q4880 k_) ?_
    refine Zm.l (fun _ _ k_ => z_ist dX8_waysOfPut_228 (by decide) (lv' := [(0, vr (some (97, 1, 0))), (1, vi l1), (2, vi l2), (3, vi l3), (5, vi l5), (6, vi (647740 : Int32))]) rfl k_) ?_
    refine Zm.l (fun _ _ k_ => z_aload_n dX8_waysOfPut_230 rfl rfl k_) ?_
    refine Zm.l (fun _ _ k_ => z_iload_n dX8_waysOfPut_231 rfl rfl k_) ?_
    refine Zm.l (fun _ _ k_ => z_iload dX8_waysOfPut_232 rfl k_) ?_
    refine Zm.pick [0, 3, 5] rfl ?_
    exact zm_callV (as := [vi l2, vi (647740 : Int32)]) (st := []) dX8_waysOfPut_234 vsX8_1092_1 (Nat.le_refl _) (Nat.le_of_ble_eq_true rfl) (Nat.le_of_ble_eq_true rfl) rfl k
  · have k := zif h_ k
    refine Zm.l (fun _ _ k_ => z_iload dX8_waysOfPut_152 rfl k_) ?_
    refine Zm.br (fun _ _ k1_ k2_ => z_if_eq (tgt := 225) dX8_waysOfPut_154 rfl k1_ k2_) (fun h_ => ?_) (fun h_ => ?_)
    · have k := zit h_ k
      refine Zm.l (fun _ _ k_ => z_ldcw (v := 647740) dX8_waysOfPut_225 q4880 k_) ?_
      refine Zm.l (fun _ _ k_ => z_ist dX8_waysOfPut_228 (by decide) (lv' := [(0, vr (some (97, 1, 0))), (1, vi l1), (2, vi l2), (3, vi l3), (5, vi l5), (6, vi (647740 : Int32))]) rfl k_) ?_
      refine Zm.l (fun _ _ k_ => z_aload_n dX8_waysOfPut_230 rfl rfl k_) ?_
      refine Zm.l (fun _ _ k_ => z_iload_n dX8_waysOfPut_231 rfl rfl k_) ?_
      refine Zm.l (fun _ _ k_ => z_iload dX8_waysOfPut_232 rfl k_) ?_
      refine Zm.pick [0, 3, 5] rfl ?_
      exact zm_callV (as := [vi l2, vi (647740 : Int32)]) (st := []) dX8_waysOfPut_234 vsX8_1092_1 (Nat.le_refl _) (Nat.le_of_ble_eq_true rfl) (Nat.le_of_ble_eq_true rfl) rfl k
    · have k := zif h_ k
      refine Zm.l (fun _ _ k_ => z_aload_n dX8_waysOfPut_157 rfl rfl k_) ?_
      refine zm_getr 63 dX8_waysOfPut_158 fsX8_220_1 rfl ?_
      refine Zm.l (fun _ _ k_ => z_iload_n dX8_waysOfPut_161 rfl rfl k_) ?_
      obtain ⟨b_, k⟩ := k
      refine zm_lald dX8_waysOfPut_162 b_ (by decide) (by decide) ?_
      refine Zm.l (fun _ _ k_ => z_aload_n dX8_waysOfPut_163 rfl rfl k_) ?_
      refine zm_getr 64 dX8_waysOfPut_164 fsX8_223_1 rfl ?_
      refine Zm.l (fun _ _ k_ => z_iload_n dX8_waysOfPut_167 rfl rfl k_) ?_
      obtain ⟨b_, k⟩ := k
      refine zm_lald dX8_waysOfPut_168 b_ (by decide) (by decide) ?_
      refine Zm.l (fun _ _ k_ => z_iload dX8_waysOfPut_169 rfl k_) ?_
      exact zm_callS (as := [vl (gl M 166 (l1).toNatClampNeg), vl (gl M 167 (l1).toNatClampNeg), vi l6]) (st := []) dX8_waysOfPut_171 ssX8_1125 (Nat.le_refl _) (Nat.le_of_ble_eq_true rfl) (Nat.le_of_ble_eq_true rfl) rfl k
theorem sX8_waysOfPut_174 {E : zE} {d : Nat} {Q : zO → zM → Prop} (M : zM) (l1 : Int32) (l2 : Int32) (l3 : Int32) (l5 : Int32) (l6 : Int32) (s0 : Int32) (k : if s0 = 0 then (Zm E YX8_waysOfPut (d + 1) M [(0, vr (some (97, 1, 0))), (1, vi l1), (2, vi l2), (3, vi l3), (5, vi l5), (6, vi l6)] 219 [] Q) else (Zm E YX8_isArrayLabel d M (zargs 0 [vr (some (97, 1, 0)), vi l6]) 0 [] (zma E YX8_waysOfPut (d + 1) [(0, vr (some (97, 1, 0))), (1, vi l1), (2, vi l2), (3, vi l3), (5, vi l5), (6, vi l6)] 180 3 [] Q))) : Zm E YX8_waysOfPut (d + 1) M [(0, vr (some (97, 1, 0))), (1, vi l1), (2, vi l2), (3, vi l3), (5, vi l5), (6, vi l6)] 174 [vi s0] Q := by
  refine Zm.br (fun _ _ k1_ k2_ => z_if_eq (tgt := 219) dX8_waysOfPut_174 rfl k1_ k2_) (fun h_ => ?_) (fun h_ => ?_)
  · have k := zit h_ k
    exact k
  · have k := zif h_ k
    refine Zm.l (fun _ _ k_ => z_aload_n dX8_waysOfPut_177 rfl rfl k_) ?_
    refine Zm.l (fun _ _ k_ => z_iload dX8_waysOfPut_178 rfl k_) ?_
    exact zm_callV (as := [vi l6]) (st := []) dX8_waysOfPut_180 vsX8_1169_1 (Nat.le_refl _) (Nat.le_of_ble_eq_true rfl) (Nat.le_of_ble_eq_true rfl) rfl k
theorem sX8_waysOfPut_183 {E : zE} {d : Nat} {Q : zO → zM → Prop} (M : zM) (l1 : Int32) (l2 : Int32) (l3 : Int32) (l5 : Int32) (l6 : Int32) (s0 : Int32) (k : if s0 = 0 then (Zm E YX8_waysOfPut (d + 1) M [(0, vr (some (97, 1, 0))), (1, vi l1), (2, vi l2), (3, vi l3), (5, vi l5), (6, vi l6)] 219 [] Q) else (Zm E YX8_of d M (zargs 0 [vr (some (97, 1, 0)), vi (639 : Int32), vi l6]) 0 [] (zma E YX8_waysOfPut (d + 1) [(0, vr (some (97, 1, 0))), (1, vi l1), (2, vi l2), (3, vi l3), (5, vi l5), (6, vi l6)] 196 3 [vr (some (178, 104, 15128))] Q))) : Zm E YX8_waysOfPut (d + 1) M [(0, vr (some (97, 1, 0))), (1, vi l1), (2, vi l2), (3, vi l3), (5, vi l5), (6, vi l6)] 183 [vi s0] Q := by
  refine Zm.br (fun _ _ k1_ k2_ => z_if_eq (tgt := 219) dX8_waysOfPut_183 rfl k1_ k2_) (fun h_ => ?_) (fun h_ => ?_)
  · have k := zit h_ k
    exact k
  · have k := zif h_ k
    refine Zm.l (fun _ _ k_ => z_aload_n dX8_waysOfPut_186 rfl rfl k_) ?_
    refine zm_getr 75 dX8_waysOfPut_187 fsX8_256_1 rfl ?_
    refine Zm.l (fun _ _ k_ => z_aload_n dX8_waysOfPut_190 rfl rfl k_) ?_
    refine Zm.l (fun _ _ k_ => z_sipush (v := 639) dX8_waysOfPut_191 rfl k_) ?_
    refine Zm.l (fun _ _ k_ => z_iload dX8_waysOfPut_194 rfl k_) ?_
    exact zm_callV (as := [vi (639 : Int32), vi l6]) (st := [vr (some (178, 104, 15128))]) dX8_waysOfPut_196 vsX8_1101_1 (Nat.le_refl _) (Nat.le_of_ble_eq_true rfl) (Nat.le_of_ble_eq_true rfl) rfl k
theorem sX8_waysOfPut_199 {E : zE} {d : Nat} {Q : zO → zM → Prop} (M : zM) (l1 : Int32) (l2 : Int32) (l3 : Int32) (l5 : Int32) (l6 : Int32) (s0 : Int32) (k : vp_in s0 15128 ∧ (if (gi M 178 (s0).toNatClampNeg) = 0 then (Zm E YX8_waysOfPut (d + 1) M [(0, vr (some (97, 1, 0))), (1, vi l1), (2, vi l2), (3, vi l3), (5, vi l5), (6, vi l6)] 219 [] Q) else (Zm E YX8_field d M (zargs 0 [vr (some (97, 1, 0)), vi (639 : Int32), vi l6, vi (0 : Int32)]) 0 [] (zma E YX8_waysOfPut (d + 1) [(0, vr (some (97, 1, 0))), (1, vi l1), (2, vi l2), (3, vi l3), (5, vi l5), (6, vi l6)] 211 3 [vr (some (97, 1, 0))] Q)))) : Zm E YX8_waysOfPut (d + 1) M [(0, vr (some (97, 1, 0))), (1, vi l1), (2, vi l2), (3, vi l3), (5, vi l5), (6, vi l6)] 199 [vi s0, vr (some (178, 104, 15128))] Q := by
  obtain ⟨b_, k⟩ := k
  refine zm_zald dX8_waysOfPut_199 b_ (by decide) (by decide) ?_
  refine Zm.br (fun _ _ k1_ k2_ => z_if_eq (tgt := 219) dX8_waysOfPut_200 rfl k1_ k2_) (fun h_ => ?_) (fun h_ => ?_)
  · have k := zit h_ k
    exact k
  · have k := zif h_ k
    refine Zm.l (fun _ _ k_ => z_aload_n dX8_waysOfPut_203 rfl rfl k_) ?_
    refine Zm.l (fun _ _ k_ => z_aload_n dX8_waysOfPut_204 rfl rfl k_) ?_
    refine Zm.l (fun _ _ k_ => z_sipush (v := 639) dX8_waysOfPut_205 rfl k_) ?_
    refine Zm.l (fun _ _ k_ => z_iload dX8_waysOfPut_208 rfl k_) ?_
    refine Zm.l (fun _ _ k_ => z_iconst (v := 0) dX8_waysOfPut_210 rfl k_) ?_
    exact zm_callV (as := [vi (639 : Int32), vi l6, vi (0 : Int32)]) (st := [vr (some (97, 1, 0))]) dX8_waysOfPut_211 vsX8_1163_1 (Nat.le_refl _) (Nat.le_of_ble_eq_true rfl) (Nat.le_of_ble_eq_true rfl) rfl k
theorem sX8_waysOfPut_214 {E : zE} {d : Nat} {Q : zO → zM → Prop} (M : zM) (l1 : Int32) (l2 : Int32) (l3 : Int32) (l5 : Int32) (l6 : Int32) (s0 : Int32) (k : Zm E YX8_addSort d M (zargs 0 [vr (some (97, 1, 0)), vi s0, vi (64 : Int32)]) 0 [] (zma E YX8_waysOfPut (d + 1) [(0, vr (some (97, 1, 0))), (1, vi l1), (2, vi l2), (3, vi l3), (5, vi l5), (6, vi l6)] 216 3 [] Q)) : Zm E YX8_waysOfPut (d + 1) M [(0, vr (some (97, 1, 0))), (1, vi l1), (2, vi l2), (3, vi l3), (5, vi l5), (6, vi l6)] 214 [vi s0, vr (some (97, 1, 0))] Q := by
  refine Zm.l (fun _ _ k_ => z_bipush (v := 64) dX8_waysOfPut_214 rfl k_) ?_
  exact zm_callV (as := [vi s0, vi (64 : Int32)]) (st := []) dX8_waysOfPut_216 vsX8_1072_1 (Nat.le_refl _) (Nat.le_of_ble_eq_true rfl) (Nat.le_of_ble_eq_true rfl) rfl k
theorem sX8_waysOfPut_219 {E : zE} {d : Nat} {Q : zO → zM → Prop} (M : zM) (l1 : Int32) (l2 : Int32) (l3 : Int32) (l5 : Int32) (l6 : Int32) (k : Zm E YX8_waysOfPut (d + 1) M [(0, vr (some (97, 1, 0))), (1, vi l1), (2, vi l2), (3, vi l3), (5, vi l5), (6, vi (l6 + (1 : Int32)))] 143 [] Q) : Zm E YX8_waysOfPut (d + 1) M [(0, vr (some (97, 1, 0))), (1, vi l1), (2, vi l2), (3, vi l3), (5, vi l5), (6, vi l6)] 219 [] Q := by
  refine Zm.l (fun _ _ k_ => z_inc (v := (l6 + (1 : Int32))) dX8_waysOfPut_219 rfl rfl (by decide) (lv' := [(0, vr (some (97, 1, 0))), (1, vi l1), (2, vi l2), (3, vi l3), (5, vi l5), (6, vi (l6 + (1 : Int32)))]) rfl k_) ?_
  refine Zm.l (fun _ _ k_ => z_goto (tgt := 143) dX8_waysOfPut_222 rfl k_) ?_
  exact k
theorem sX8_waysOfPut_237 {E : zE} {d : Nat} {Q : zO → zM → Prop} (M : zM) (l3 : Int32) (l6 : Int32) (k : Zm E YX8_replace d M (zargs 0 [vr (some (97, 1, 0)), vi (3 : Int32), vi l6]) 0 [] (zma E YX8_waysOfPut (d + 1) [(0, vr (some (97, 1, 0))), (3, vi l3)] 241 3 [] Q)) : Zm E YX8_waysOfPut (d + 1) M [(0, vr (some (97, 1, 0))), (3, vi l3), (6, vi l6)] 237 [] Q := by
  refine Zm.l (fun _ _ k_ => z_aload_n dX8_waysOfPut_237 rfl rfl k_) ?_
  refine Zm.l (fun _ _ k_ => z_iconst (v := 3) dX8_waysOfPut_238 rfl k_) ?_
  refine Zm.l (fun _ _ k_ => z_iload dX8_waysOfPut_239 rfl k_) ?_
  refine Zm.pick [0, 1] rfl ?_
  exact zm_callV (as := [vi (3 : Int32), vi l6]) (st := []) dX8_waysOfPut_241 vsX8_1258_1 (Nat.le_refl _) (Nat.le_of_ble_eq_true rfl) (Nat.le_of_ble_eq_true rfl) rfl k
theorem sX8_waysOfPut_244 {E : zE} {d : Nat} {Q : zO → zM → Prop} (M : zM) (l3 : Int32) (k : if (l3 &&& (3 : Int32)) = 0 then (Zm E YX8_waysOfPut (d + 1) M [] 260 [] Q) else (Zm E YX8_error_2 d M (zargs 0 [vr (some (97, 1, 0)), vi (gi M 97 148), vi (6 : Int32)]) 0 [] (zma E YX8_waysOfPut (d + 1) [] 257 3 [] Q))) : Zm E YX8_waysOfPut (d + 1) M [(0, vr (some (97, 1, 0))), (3, vi l3)] 244 [] Q := by
  refine Zm.l (fun _ _ k_ => z_iload_n dX8_waysOfPut_244 rfl rfl k_) ?_
  refine Zm.l (fun _ _ k_ => z_iconst (v := 3) dX8_waysOfPut_245 rfl k_) ?_
  refine Zm.l (fun _ _ k_ => z_iand dX8_waysOfPut_246 k_) ?_
  refine Zm.br (fun _ _ k1_ k2_ => z_if_eq (tgt := 260) dX8_waysOfPut_247 rfl k1_ k2_) (fun h_ => ?_) (fun h_ => ?_)
  · have k := zit h_ k
    refine Zm.pick [] rfl ?_
    exact k
  · have k := zif h_ k
    refine Zm.l (fun _ _ k_ => z_aload_n dX8_waysOfPut_250 rfl rfl k_) ?_
    refine Zm.l (fun _ _ k_ => z_aload_n dX8_waysOfPut_251 rfl rfl k_) ?_
    refine zm_geti dX8_waysOfPut_252 fsX8_1188_1 (by decide) (by decide) ?_
    refine Zm.l (fun _ _ k_ => z_bipush (v := 6) dX8_waysOfPut_255 rfl k_) ?_
    refine Zm.pick [] rfl ?_
    exact zm_callV (as := [vi (gi M 97 148), vi (6 : Int32)]) (st := []) dX8_waysOfPut_257 vsX8_1292_1 (Nat.le_refl _) (Nat.le_of_ble_eq_true rfl) (Nat.le_of_ble_eq_true rfl) rfl k
theorem sX8_waysOfPut_260 {E : zE} {d : Nat} {Q : zO → zM → Prop} (M : zM)  (k : Q (.inl none) M) : Zm E YX8_waysOfPut (d + 1) M [] 260 [] Q := by
  exact zm_vret dX8_waysOfPut_260 rfl k
/-! ScriptTypesModel.waysOfDelete()V -/
theorem bX8_waysOfDelete_0 : zdec cX8_waysOfDelete 0 [(0, .aload_n 0, 1), (1, .iconst 1, 1), (2, .invokevirtual 1195, 3), (5, .istore_n 1, 1), (6, .aload_n 0, 1), (7, .iload_n 1, 1), (8, .invokevirtual 1059, 3), (11, .istore_n 2, 1), (12, .aload_n 0, 1), (13, .aload_n 0, 1), (14, .iconst 0, 1), (15, .invokevirtual 1195, 3), (18, .invokevirtual 1147, 3), (21, .iload_n 2, 1), (22, .bipush (-4), 2), (24, .iand, 1)] = true := by decide +kernel
theorem dX8_waysOfDelete_0 : decode cX8_waysOfDelete 0 = .ok (.aload_n 0, 1) := zdec_at bX8_waysOfDelete_0 0 rfl
theorem dX8_waysOfDelete_1 : decode cX8_waysOfDelete 1 = .ok (.iconst 1, 1) := zdec_at bX8_waysOfDelete_0 1 rfl
theorem dX8_waysOfDelete_2 : decode cX8_waysOfDelete 2 = .ok (.invokevirtual 1195, 3) := zdec_at bX8_waysOfDelete_0 2 rfl
theorem dX8_waysOfDelete_5 : decode cX8_waysOfDelete 5 = .ok (.istore_n 1, 1) := zdec_at bX8_waysOfDelete_0 3 rfl
theorem dX8_waysOfDelete_6 : decode cX8_waysOfDelete 6 = .ok (.aload_n 0, 1) := zdec_at bX8_waysOfDelete_0 4 rfl
theorem dX8_waysOfDelete_7 : decode cX8_waysOfDelete 7 = .ok (.iload_n 1, 1) := zdec_at bX8_waysOfDelete_0 5 rfl
theorem dX8_waysOfDelete_8 : decode cX8_waysOfDelete 8 = .ok (.invokevirtual 1059, 3) := zdec_at bX8_waysOfDelete_0 6 rfl
theorem dX8_waysOfDelete_11 : decode cX8_waysOfDelete 11 = .ok (.istore_n 2, 1) := zdec_at bX8_waysOfDelete_0 7 rfl
theorem dX8_waysOfDelete_12 : decode cX8_waysOfDelete 12 = .ok (.aload_n 0, 1) := zdec_at bX8_waysOfDelete_0 8 rfl
theorem dX8_waysOfDelete_13 : decode cX8_waysOfDelete 13 = .ok (.aload_n 0, 1) := zdec_at bX8_waysOfDelete_0 9 rfl
theorem dX8_waysOfDelete_14 : decode cX8_waysOfDelete 14 = .ok (.iconst 0, 1) := zdec_at bX8_waysOfDelete_0 10 rfl
theorem dX8_waysOfDelete_15 : decode cX8_waysOfDelete 15 = .ok (.invokevirtual 1195, 3) := zdec_at bX8_waysOfDelete_0 11 rfl
theorem dX8_waysOfDelete_18 : decode cX8_waysOfDelete 18 = .ok (.invokevirtual 1147, 3) := zdec_at bX8_waysOfDelete_0 12 rfl
theorem dX8_waysOfDelete_21 : decode cX8_waysOfDelete 21 = .ok (.iload_n 2, 1) := zdec_at bX8_waysOfDelete_0 13 rfl
theorem dX8_waysOfDelete_22 : decode cX8_waysOfDelete 22 = .ok (.bipush (-4), 2) := zdec_at bX8_waysOfDelete_0 14 rfl
theorem dX8_waysOfDelete_24 : decode cX8_waysOfDelete 24 = .ok (.iand, 1) := zdec_at bX8_waysOfDelete_0 15 rfl
theorem bX8_waysOfDelete_25 : zdec cX8_waysOfDelete 25 [(25, .ifCond .ne 11, 3), (28, .aload_n 0, 1), (29, .iload_n 1, 1), (30, .invokevirtual 1062, 3), (33, .ifCond .eq 7, 3), (36, .iconst 1, 1), (37, .goto 4, 3), (40, .iconst 0, 1), (41, .istore_n 3, 1), (42, .iload_n 3, 1), (43, .ifCond .eq 336, 3), (46, .iconst 0, 1), (47, .istore 4, 2), (49, .iload_n 2, 1), (50, .ifCond .ne 25, 3), (53, .aload_n 0, 1)] = true := by decide +kernel
theorem dX8_waysOfDelete_25 : decode cX8_waysOfDelete 25 = .ok (.ifCond .ne 11, 3) := zdec_at bX8_waysOfDelete_25 0 rfl
theorem dX8_waysOfDelete_28 : decode cX8_waysOfDelete 28 = .ok (.aload_n 0, 1) := zdec_at bX8_waysOfDelete_25 1 rfl
theorem dX8_waysOfDelete_29 : decode cX8_waysOfDelete 29 = .ok (.iload_n 1, 1) := zdec_at bX8_waysOfDelete_25 2 rfl
theorem dX8_waysOfDelete_30 : decode cX8_waysOfDelete 30 = .ok (.invokevirtual 1062, 3) := zdec_at bX8_waysOfDelete_25 3 rfl
theorem dX8_waysOfDelete_33 : decode cX8_waysOfDelete 33 = .ok (.ifCond .eq 7, 3) := zdec_at bX8_waysOfDelete_25 4 rfl
theorem dX8_waysOfDelete_36 : decode cX8_waysOfDelete 36 = .ok (.iconst 1, 1) := zdec_at bX8_waysOfDelete_25 5 rfl
theorem dX8_waysOfDelete_37 : decode cX8_waysOfDelete 37 = .ok (.goto 4, 3) := zdec_at bX8_waysOfDelete_25 6 rfl
theorem dX8_waysOfDelete_40 : decode cX8_waysOfDelete 40 = .ok (.iconst 0, 1) := zdec_at bX8_waysOfDelete_25 7 rfl
theorem dX8_waysOfDelete_41 : decode cX8_waysOfDelete 41 = .ok (.istore_n 3, 1) := zdec_at bX8_waysOfDelete_25 8 rfl
theorem dX8_waysOfDelete_42 : decode cX8_waysOfDelete 42 = .ok (.iload_n 3, 1) := zdec_at bX8_waysOfDelete_25 9 rfl
theorem dX8_waysOfDelete_43 : decode cX8_waysOfDelete 43 = .ok (.ifCond .eq 336, 3) := zdec_at bX8_waysOfDelete_25 10 rfl
theorem dX8_waysOfDelete_46 : decode cX8_waysOfDelete 46 = .ok (.iconst 0, 1) := zdec_at bX8_waysOfDelete_25 11 rfl
theorem dX8_waysOfDelete_47 : decode cX8_waysOfDelete 47 = .ok (.istore 4, 2) := zdec_at bX8_waysOfDelete_25 12 rfl
theorem dX8_waysOfDelete_49 : decode cX8_waysOfDelete 49 = .ok (.iload_n 2, 1) := zdec_at bX8_waysOfDelete_25 13 rfl
theorem dX8_waysOfDelete_50 : decode cX8_waysOfDelete 50 = .ok (.ifCond .ne 25, 3) := zdec_at bX8_waysOfDelete_25 14 rfl
theorem dX8_waysOfDelete_53 : decode cX8_waysOfDelete 53 = .ok (.aload_n 0, 1) := zdec_at bX8_waysOfDelete_25 15 rfl
theorem bX8_waysOfDelete_54 : zdec cX8_waysOfDelete 54 [(54, .getfield 1118, 3), (57, .lconst 1, 1), (58, .lcmp, 1), (59, .ifCond .ne 16, 3), (62, .aload_n 0, 1), (63, .getfield 1122, 3), (66, .lconst 0, 1), (67, .lcmp, 1), (68, .ifCond .ne 7, 3), (71, .iconst 1, 1), (72, .goto 4, 3), (75, .iconst 0, 1), (76, .istore 5, 2), (78, .aload_n 0, 1), (79, .getfield 220, 3), (82, .iload_n 1, 1)] = true := by decide +kernel
theorem dX8_waysOfDelete_54 : decode cX8_waysOfDelete 54 = .ok (.getfield 1118, 3) := zdec_at bX8_waysOfDelete_54 0 rfl
theorem dX8_waysOfDelete_57 : decode cX8_waysOfDelete 57 = .ok (.lconst 1, 1) := zdec_at bX8_waysOfDelete_54 1 rfl
theorem dX8_waysOfDelete_58 : decode cX8_waysOfDelete 58 = .ok (.lcmp, 1) := zdec_at bX8_waysOfDelete_54 2 rfl
theorem dX8_waysOfDelete_59 : decode cX8_waysOfDelete 59 = .ok (.ifCond .ne 16, 3) := zdec_at bX8_waysOfDelete_54 3 rfl
theorem dX8_waysOfDelete_62 : decode cX8_waysOfDelete 62 = .ok (.aload_n 0, 1) := zdec_at bX8_waysOfDelete_54 4 rfl
theorem dX8_waysOfDelete_63 : decode cX8_waysOfDelete 63 = .ok (.getfield 1122, 3) := zdec_at bX8_waysOfDelete_54 5 rfl
theorem dX8_waysOfDelete_66 : decode cX8_waysOfDelete 66 = .ok (.lconst 0, 1) := zdec_at bX8_waysOfDelete_54 6 rfl
theorem dX8_waysOfDelete_67 : decode cX8_waysOfDelete 67 = .ok (.lcmp, 1) := zdec_at bX8_waysOfDelete_54 7 rfl
theorem dX8_waysOfDelete_68 : decode cX8_waysOfDelete 68 = .ok (.ifCond .ne 7, 3) := zdec_at bX8_waysOfDelete_54 8 rfl
theorem dX8_waysOfDelete_71 : decode cX8_waysOfDelete 71 = .ok (.iconst 1, 1) := zdec_at bX8_waysOfDelete_54 9 rfl
theorem dX8_waysOfDelete_72 : decode cX8_waysOfDelete 72 = .ok (.goto 4, 3) := zdec_at bX8_waysOfDelete_54 10 rfl
theorem dX8_waysOfDelete_75 : decode cX8_waysOfDelete 75 = .ok (.iconst 0, 1) := zdec_at bX8_waysOfDelete_54 11 rfl
theorem dX8_waysOfDelete_76 : decode cX8_waysOfDelete 76 = .ok (.istore 5, 2) := zdec_at bX8_waysOfDelete_54 12 rfl
theorem dX8_waysOfDelete_78 : decode cX8_waysOfDelete 78 = .ok (.aload_n 0, 1) := zdec_at bX8_waysOfDelete_54 13 rfl
theorem dX8_waysOfDelete_79 : decode cX8_waysOfDelete 79 = .ok (.getfield 220, 3) := zdec_at bX8_waysOfDelete_54 14 rfl
theorem dX8_waysOfDelete_82 : decode cX8_waysOfDelete 82 = .ok (.iload_n 1, 1) := zdec_at bX8_waysOfDelete_54 15 rfl
theorem bX8_waysOfDelete_83 : zdec cX8_waysOfDelete 83 [(83, .laload, 1), (84, .invokestatic 1129, 3), (87, .aload_n 0, 1), (88, .getfield 223, 3), (91, .iload_n 1, 1), (92, .laload, 1), (93, .invokestatic 1129, 3), (96, .iadd, 1), (97, .istore 6, 2), (99, .iconst 0, 1), (100, .istore 7, 2), (102, .iload 7, 2), (104, .aload_n 0, 1), (105, .getfield 765, 3), (108, .if_icmp .ge 221, 3), (111, .aload_n 0, 1)] = true := by decide +kernel
theorem dX8_waysOfDelete_83 : decode cX8_waysOfDelete 83 = .ok (.laload, 1) := zdec_at bX8_waysOfDelete_83 0 rfl
theorem dX8_waysOfDelete_84 : decode cX8_waysOfDelete 84 = .ok (.invokestatic 1129, 3) := zdec_at bX8_waysOfDelete_83 1 rfl
theorem dX8_waysOfDelete_87 : decode cX8_waysOfDelete 87 = .ok (.aload_n 0, 1) := zdec_at bX8_waysOfDelete_83 2 rfl
theorem dX8_waysOfDelete_88 : decode cX8_waysOfDelete 88 = .ok (.getfield 223, 3) := zdec_at bX8_waysOfDelete_83 3 rfl
theorem dX8_waysOfDelete_91 : decode cX8_waysOfDelete 91 = .ok (.iload_n 1, 1) := zdec_at bX8_waysOfDelete_83 4 rfl
theorem dX8_waysOfDelete_92 : decode cX8_waysOfDelete 92 = .ok (.laload, 1) := zdec_at bX8_waysOfDelete_83 5 rfl
theorem dX8_waysOfDelete_93 : decode cX8_waysOfDelete 93 = .ok (.invokestatic 1129, 3) := zdec_at bX8_waysOfDelete_83 6 rfl
theorem dX8_waysOfDelete_96 : decode cX8_waysOfDelete 96 = .ok (.iadd, 1) := zdec_at bX8_waysOfDelete_83 7 rfl
theorem dX8_waysOfDelete_97 : decode cX8_waysOfDelete 97 = .ok (.istore 6, 2) := zdec_at bX8_waysOfDelete_83 8 rfl
theorem dX8_waysOfDelete_99 : decode cX8_waysOfDelete 99 = .ok (.iconst 0, 1) := zdec_at bX8_waysOfDelete_83 9 rfl
theorem dX8_waysOfDelete_100 : decode cX8_waysOfDelete 100 = .ok (.istore 7, 2) := zdec_at bX8_waysOfDelete_83 10 rfl
theorem dX8_waysOfDelete_102 : decode cX8_waysOfDelete 102 = .ok (.iload 7, 2) := zdec_at bX8_waysOfDelete_83 11 rfl
theorem dX8_waysOfDelete_104 : decode cX8_waysOfDelete 104 = .ok (.aload_n 0, 1) := zdec_at bX8_waysOfDelete_83 12 rfl
theorem dX8_waysOfDelete_105 : decode cX8_waysOfDelete 105 = .ok (.getfield 765, 3) := zdec_at bX8_waysOfDelete_83 13 rfl
theorem dX8_waysOfDelete_108 : decode cX8_waysOfDelete 108 = .ok (.if_icmp .ge 221, 3) := zdec_at bX8_waysOfDelete_83 14 rfl
theorem dX8_waysOfDelete_111 : decode cX8_waysOfDelete 111 = .ok (.aload_n 0, 1) := zdec_at bX8_waysOfDelete_83 15 rfl
theorem bX8_waysOfDelete_112 : zdec cX8_waysOfDelete 112 [(112, .getfield 220, 3), (115, .iload_n 1, 1), (116, .laload, 1), (117, .aload_n 0, 1), (118, .getfield 223, 3), (121, .iload_n 1, 1), (122, .laload, 1), (123, .iload 7, 2), (125, .invokestatic 1125, 3), (128, .ifCond .ne 6, 3), (131, .goto 192, 3), (134, .aload_n 0, 1), (135, .iload 7, 2), (137, .invokevirtual 1169, 3), (140, .istore 8, 2), (142, .iload 4, 2)] = true := by decide +kernel
theorem dX8_waysOfDelete_112 : decode cX8_waysOfDelete 112 = .ok (.getfield 220, 3) := zdec_at bX8_waysOfDelete_112 0 rfl
theorem dX8_waysOfDelete_115 : decode cX8_waysOfDelete 115 = .ok (.iload_n 1, 1) := zdec_at bX8_waysOfDelete_112 1 rfl
theorem dX8_waysOfDelete_116 : decode cX8_waysOfDelete 116 = .ok (.laload, 1) := zdec_at bX8_waysOfDelete_112 2 rfl
theorem dX8_waysOfDelete_117 : decode cX8_waysOfDelete 117 = .ok (.aload_n 0, 1) := zdec_at bX8_waysOfDelete_112 3 rfl
theorem dX8_waysOfDelete_118 : decode cX8_waysOfDelete 118 = .ok (.getfield 223, 3) := zdec_at bX8_waysOfDelete_112 4 rfl
theorem dX8_waysOfDelete_121 : decode cX8_waysOfDelete 121 = .ok (.iload_n 1, 1) := zdec_at bX8_waysOfDelete_112 5 rfl
theorem dX8_waysOfDelete_122 : decode cX8_waysOfDelete 122 = .ok (.laload, 1) := zdec_at bX8_waysOfDelete_112 6 rfl
theorem dX8_waysOfDelete_123 : decode cX8_waysOfDelete 123 = .ok (.iload 7, 2) := zdec_at bX8_waysOfDelete_112 7 rfl
theorem dX8_waysOfDelete_125 : decode cX8_waysOfDelete 125 = .ok (.invokestatic 1125, 3) := zdec_at bX8_waysOfDelete_112 8 rfl
theorem dX8_waysOfDelete_128 : decode cX8_waysOfDelete 128 = .ok (.ifCond .ne 6, 3) := zdec_at bX8_waysOfDelete_112 9 rfl
theorem dX8_waysOfDelete_131 : decode cX8_waysOfDelete 131 = .ok (.goto 192, 3) := zdec_at bX8_waysOfDelete_112 10 rfl
theorem dX8_waysOfDelete_134 : decode cX8_waysOfDelete 134 = .ok (.aload_n 0, 1) := zdec_at bX8_waysOfDelete_112 11 rfl
theorem dX8_waysOfDelete_135 : decode cX8_waysOfDelete 135 = .ok (.iload 7, 2) := zdec_at bX8_waysOfDelete_112 12 rfl
theorem dX8_waysOfDelete_137 : decode cX8_waysOfDelete 137 = .ok (.invokevirtual 1169, 3) := zdec_at bX8_waysOfDelete_112 13 rfl
theorem dX8_waysOfDelete_140 : decode cX8_waysOfDelete 140 = .ok (.istore 8, 2) := zdec_at bX8_waysOfDelete_112 14 rfl
theorem dX8_waysOfDelete_142 : decode cX8_waysOfDelete 142 = .ok (.iload 4, 2) := zdec_at bX8_waysOfDelete_112 15 rfl
theorem bX8_waysOfDelete_144 : zdec cX8_waysOfDelete 144 [(144, .ifCond .ne 16, 3), (147, .iload 8, 2), (149, .ifCond .eq 15, 3), (152, .aload_n 0, 1), (153, .iconst 0, 1), (154, .invokevirtual 1153, 3), (157, .ifCond .eq 7, 3), (160, .iconst 1, 1), (161, .goto 4, 3), (164, .iconst 0, 1), (165, .istore 4, 2), (167, .iload 5, 2), (169, .ifCond .eq 12, 3), (172, .iload 8, 2), (174, .ifCond .eq 7, 3), (177, .iconst 1, 1)] = true := by decide +kernel
theorem dX8_waysOfDelete_144 : decode cX8_waysOfDelete 144 = .ok (.ifCond .ne 16, 3) := zdec_at bX8_waysOfDelete_144 0 rfl
theorem dX8_waysOfDelete_147 : decode cX8_waysOfDelete 147 = .ok (.iload 8, 2) := zdec_at bX8_waysOfDelete_144 1 rfl
theorem dX8_waysOfDelete_149 : decode cX8_waysOfDelete 149 = .ok (.ifCond .eq 15, 3) := zdec_at bX8_waysOfDelete_144 2 rfl
theorem dX8_waysOfDelete_152 : decode cX8_waysOfDelete 152 = .ok (.aload_n 0, 1) := zdec_at bX8_waysOfDelete_144 3 rfl
theorem dX8_waysOfDelete_153 : decode cX8_waysOfDelete 153 = .ok (.iconst 0, 1) := zdec_at bX8_waysOfDelete_144 4 rfl
theorem dX8_waysOfDelete_154 : decode cX8_waysOfDelete 154 = .ok (.invokevirtual 1153, 3) := zdec_at bX8_waysOfDelete_144 5 rfl
theorem dX8_waysOfDelete_157 : decode cX8_waysOfDelete 157 = .ok (.ifCond .eq 7, 3) := zdec_at bX8_waysOfDelete_144 6 rfl
theorem dX8_waysOfDelete_160 : decode cX8_waysOfDelete 160 = .ok (.iconst 1, 1) := zdec_at bX8_waysOfDelete_144 7 rfl
theorem dX8_waysOfDelete_161 : decode cX8_waysOfDelete 161 = .ok (.goto 4, 3) := zdec_at bX8_waysOfDelete_144 8 rfl
theorem dX8_waysOfDelete_164 : decode cX8_waysOfDelete 164 = .ok (.iconst 0, 1) := zdec_at bX8_waysOfDelete_144 9 rfl
theorem dX8_waysOfDelete_165 : decode cX8_waysOfDelete 165 = .ok (.istore 4, 2) := zdec_at bX8_waysOfDelete_144 10 rfl
theorem dX8_waysOfDelete_167 : decode cX8_waysOfDelete 167 = .ok (.iload 5, 2) := zdec_at bX8_waysOfDelete_144 11 rfl
theorem dX8_waysOfDelete_169 : decode cX8_waysOfDelete 169 = .ok (.ifCond .eq 12, 3) := zdec_at bX8_waysOfDelete_144 12 rfl
theorem dX8_waysOfDelete_172 : decode cX8_waysOfDelete 172 = .ok (.iload 8, 2) := zdec_at bX8_waysOfDelete_144 13 rfl
theorem dX8_waysOfDelete_174 : decode cX8_waysOfDelete 174 = .ok (.ifCond .eq 7, 3) := zdec_at bX8_waysOfDelete_144 14 rfl
theorem dX8_waysOfDelete_177 : decode cX8_waysOfDelete 177 = .ok (.iconst 1, 1) := zdec_at bX8_waysOfDelete_144 15 rfl
theorem bX8_waysOfDelete_178 : zdec cX8_waysOfDelete 178 [(178, .goto 4, 3), (181, .iconst 0, 1), (182, .istore 5, 2), (184, .iload_n 2, 1), (185, .ifCond .ne 40, 3), (188, .iload 6, 2), (190, .iconst 1, 1), (191, .if_icmp .ne 34, 3), (194, .iload 7, 2), (196, .invokestatic 1166, 3), (199, .ifCond .eq 26, 3), (202, .aload_n 0, 1), (203, .invokevirtual 1150, 3), (206, .iconst 1, 1), (207, .if_icmp .ne 18, 3), (210, .aload_n 0, 1)] = true := by decide +kernel
theorem dX8_waysOfDelete_178 : decode cX8_waysOfDelete 178 = .ok (.goto 4, 3) := zdec_at bX8_waysOfDelete_178 0 rfl
theorem dX8_waysOfDelete_181 : decode cX8_waysOfDelete 181 = .ok (.iconst 0, 1) := zdec_at bX8_waysOfDelete_178 1 rfl
theorem dX8_waysOfDelete_182 : decode cX8_waysOfDelete 182 = .ok (.istore 5, 2) := zdec_at bX8_waysOfDelete_178 2 rfl
theorem dX8_waysOfDelete_184 : decode cX8_waysOfDelete 184 = .ok (.iload_n 2, 1) := zdec_at bX8_waysOfDelete_178 3 rfl
theorem dX8_waysOfDelete_185 : decode cX8_waysOfDelete 185 = .ok (.ifCond .ne 40, 3) := zdec_at bX8_waysOfDelete_178 4 rfl
theorem dX8_waysOfDelete_188 : decode cX8_waysOfDelete 188 = .ok (.iload 6, 2) := zdec_at bX8_waysOfDelete_178 5 rfl
theorem dX8_waysOfDelete_190 : decode cX8_waysOfDelete 190 = .ok (.iconst 1, 1) := zdec_at bX8_waysOfDelete_178 6 rfl
theorem dX8_waysOfDelete_191 : decode cX8_waysOfDelete 191 = .ok (.if_icmp .ne 34, 3) := zdec_at bX8_waysOfDelete_178 7 rfl
theorem dX8_waysOfDelete_194 : decode cX8_waysOfDelete 194 = .ok (.iload 7, 2) := zdec_at bX8_waysOfDelete_178 8 rfl
theorem dX8_waysOfDelete_196 : decode cX8_waysOfDelete 196 = .ok (.invokestatic 1166, 3) := zdec_at bX8_waysOfDelete_178 9 rfl
theorem dX8_waysOfDelete_199 : decode cX8_waysOfDelete 199 = .ok (.ifCond .eq 26, 3) := zdec_at bX8_waysOfDelete_178 10 rfl
theorem dX8_waysOfDelete_202 : decode cX8_waysOfDelete 202 = .ok (.aload_n 0, 1) := zdec_at bX8_waysOfDelete_178 11 rfl
theorem dX8_waysOfDelete_203 : decode cX8_waysOfDelete 203 = .ok (.invokevirtual 1150, 3) := zdec_at bX8_waysOfDelete_178 12 rfl
theorem dX8_waysOfDelete_206 : decode cX8_waysOfDelete 206 = .ok (.iconst 1, 1) := zdec_at bX8_waysOfDelete_178 13 rfl
theorem dX8_waysOfDelete_207 : decode cX8_waysOfDelete 207 = .ok (.if_icmp .ne 18, 3) := zdec_at bX8_waysOfDelete_178 14 rfl
theorem dX8_waysOfDelete_210 : decode cX8_waysOfDelete 210 = .ok (.aload_n 0, 1) := zdec_at bX8_waysOfDelete_178 15 rfl
theorem bX8_waysOfDelete_211 : zdec cX8_waysOfDelete 211 [(211, .aload_n 0, 1), (212, .getfield 762, 3), (215, .invokevirtual 1153, 3), (218, .ifCond .ne 7, 3), (221, .iconst 1, 1), (222, .goto 4, 3), (225, .iconst 0, 1), (226, .istore 9, 2), (228, .iconst 0, 1), (229, .istore 10, 2), (231, .iload 10, 2), (233, .aload_n 0, 1), (234, .getfield 762, 3), (237, .if_icmp .gt 86, 3), (240, .aload_n 0, 1), (241, .iload 10, 2)] = true := by decide +kernel
theorem dX8_waysOfDelete_211 : decode cX8_waysOfDelete 211 = .ok (.aload_n 0, 1) := zdec_at bX8_waysOfDelete_211 0 rfl
theorem dX8_waysOfDelete_212 : decode cX8_waysOfDelete 212 = .ok (.getfield 762, 3) := zdec_at bX8_waysOfDelete_211 1 rfl
theorem dX8_waysOfDelete_215 : decode cX8_waysOfDelete 215 = .ok (.invokevirtual 1153, 3) := zdec_at bX8_waysOfDelete_211 2 rfl
theorem dX8_waysOfDelete_218 : decode cX8_waysOfDelete 218 = .ok (.ifCond .ne 7, 3) := zdec_at bX8_waysOfDelete_211 3 rfl
theorem dX8_waysOfDelete_221 : decode cX8_waysOfDelete 221 = .ok (.iconst 1, 1) := zdec_at bX8_waysOfDelete_211 4 rfl
theorem dX8_waysOfDelete_222 : decode cX8_waysOfDelete 222 = .ok (.goto 4, 3) := zdec_at bX8_waysOfDelete_211 5 rfl
theorem dX8_waysOfDelete_225 : decode cX8_waysOfDelete 225 = .ok (.iconst 0, 1) := zdec_at bX8_waysOfDelete_211 6 rfl
theorem dX8_waysOfDelete_226 : decode cX8_waysOfDelete 226 = .ok (.istore 9, 2) := zdec_at bX8_waysOfDelete_211 7 rfl
theorem dX8_waysOfDelete_228 : decode cX8_waysOfDelete 228 = .ok (.iconst 0, 1) := zdec_at bX8_waysOfDelete_211 8 rfl
theorem dX8_waysOfDelete_229 : decode cX8_waysOfDelete 229 = .ok (.istore 10, 2) := zdec_at bX8_waysOfDelete_211 9 rfl
theorem dX8_waysOfDelete_231 : decode cX8_waysOfDelete 231 = .ok (.iload 10, 2) := zdec_at bX8_waysOfDelete_211 10 rfl
theorem dX8_waysOfDelete_233 : decode cX8_waysOfDelete 233 = .ok (.aload_n 0, 1) := zdec_at bX8_waysOfDelete_211 11 rfl
theorem dX8_waysOfDelete_234 : decode cX8_waysOfDelete 234 = .ok (.getfield 762, 3) := zdec_at bX8_waysOfDelete_211 12 rfl
theorem dX8_waysOfDelete_237 : decode cX8_waysOfDelete 237 = .ok (.if_icmp .gt 86, 3) := zdec_at bX8_waysOfDelete_211 13 rfl
theorem dX8_waysOfDelete_240 : decode cX8_waysOfDelete 240 = .ok (.aload_n 0, 1) := zdec_at bX8_waysOfDelete_211 14 rfl
theorem dX8_waysOfDelete_241 : decode cX8_waysOfDelete 241 = .ok (.iload 10, 2) := zdec_at bX8_waysOfDelete_211 15 rfl
theorem bX8_waysOfDelete_243 : zdec cX8_waysOfDelete 243 [(243, .invokevirtual 1153, 3), (246, .ifCond .eq 71, 3), (249, .iload 10, 2), (251, .ifCond .ne 8, 3), (254, .iload 8, 2), (256, .ifCond .ne 61, 3), (259, .aload_n 0, 1), (260, .getfield 256, 3), (263, .aload_n 0, 1), (264, .sipush 639, 3), (267, .iload 7, 2), (269, .invokevirtual 1101, 3), (272, .baload, 1), (273, .ifCond .ne 6, 3), (276, .goto 41, 3), (279, .iload 9, 2)] = true := by decide +kernel
theorem dX8_waysOfDelete_243 : decode cX8_waysOfDelete 243 = .ok (.invokevirtual 1153, 3) := zdec_at bX8_waysOfDelete_243 0 rfl
theorem dX8_waysOfDelete_246 : decode cX8_waysOfDelete 246 = .ok (.ifCond .eq 71, 3) := zdec_at bX8_waysOfDelete_243 1 rfl
theorem dX8_waysOfDelete_249 : decode cX8_waysOfDelete 249 = .ok (.iload 10, 2) := zdec_at bX8_waysOfDelete_243 2 rfl
theorem dX8_waysOfDelete_251 : decode cX8_waysOfDelete 251 = .ok (.ifCond .ne 8, 3) := zdec_at bX8_waysOfDelete_243 3 rfl
theorem dX8_waysOfDelete_254 : decode cX8_waysOfDelete 254 = .ok (.iload 8, 2) := zdec_at bX8_waysOfDelete_243 4 rfl
theorem dX8_waysOfDelete_256 : decode cX8_waysOfDelete 256 = .ok (.ifCond .ne 61, 3) := zdec_at bX8_waysOfDelete_243 5 rfl
theorem dX8_waysOfDelete_259 : decode cX8_waysOfDelete 259 = .ok (.aload_n 0, 1) := zdec_at bX8_waysOfDelete_243 6 rfl
theorem dX8_waysOfDelete_260 : decode cX8_waysOfDelete 260 = .ok (.getfield 256, 3) := zdec_at bX8_waysOfDelete_243 7 rfl
theorem dX8_waysOfDelete_263 : decode cX8_waysOfDelete 263 = .ok (.aload_n 0, 1) := zdec_at bX8_waysOfDelete_243 8 rfl
theorem dX8_waysOfDelete_264 : decode cX8_waysOfDelete 264 = .ok (.sipush 639, 3) := zdec_at bX8_waysOfDelete_243 9 rfl
theorem dX8_waysOfDelete_267 : decode cX8_waysOfDelete 267 = .ok (.iload 7, 2) := zdec_at bX8_waysOfDelete_243 10 rfl
theorem dX8_waysOfDelete_269 : decode cX8_waysOfDelete 269 = .ok (.invokevirtual 1101, 3) := zdec_at bX8_waysOfDelete_243 11 rfl
theorem dX8_waysOfDelete_272 : decode cX8_waysOfDelete 272 = .ok (.baload, 1) := zdec_at bX8_waysOfDelete_243 12 rfl
theorem dX8_waysOfDelete_273 : decode cX8_waysOfDelete 273 = .ok (.ifCond .ne 6, 3) := zdec_at bX8_waysOfDelete_243 13 rfl
theorem dX8_waysOfDelete_276 : decode cX8_waysOfDelete 276 = .ok (.goto 41, 3) := zdec_at bX8_waysOfDelete_243 14 rfl
theorem dX8_waysOfDelete_279 : decode cX8_waysOfDelete 279 = .ok (.iload 9, 2) := zdec_at bX8_waysOfDelete_243 15 rfl
theorem bX8_waysOfDelete_281 : zdec cX8_waysOfDelete 281 [(281, .ifCond .eq 18, 3), (284, .aload_n 0, 1), (285, .aload_n 0, 1), (286, .sipush 639, 3), (289, .iload 7, 2), (291, .iload 10, 2), (293, .invokevirtual 1163, 3), (296, .invokevirtual 1066, 3), (299, .aload_n 0, 1), (300, .aload_n 0, 1), (301, .sipush 639, 3), (304, .iload 7, 2), (306, .iload 10, 2), (308, .invokevirtual 1163, 3), (311, .sipush 512, 3), (314, .invokevirtual 1072, 3)] = true := by decide +kernel
theorem dX8_waysOfDelete_281 : decode cX8_waysOfDelete 281 = .ok (.ifCond .eq 18, 3) := zdec_at bX8_waysOfDelete_281 0 rfl
theorem dX8_waysOfDelete_284 : decode cX8_waysOfDelete 284 = .ok (.aload_n 0, 1) := zdec_at bX8_waysOfDelete_281 1 rfl
theorem dX8_waysOfDelete_285 : decode cX8_waysOfDelete 285 = .ok (.aload_n 0, 1) := zdec_at bX8_waysOfDelete_281 2 rfl
theorem dX8_waysOfDelete_286 : decode cX8_waysOfDelete 286 = .ok (.sipush 639, 3) := zdec_at bX8_waysOfDelete_281 3 rfl
theorem dX8_waysOfDelete_289 : decode cX8_waysOfDelete 289 = .ok (.iload 7, 2) := zdec_at bX8_waysOfDelete_281 4 rfl
theorem dX8_waysOfDelete_291 : decode cX8_waysOfDelete 291 = .ok (.iload 10, 2) := zdec_at bX8_waysOfDelete_281 5 rfl
theorem dX8_waysOfDelete_293 : decode cX8_waysOfDelete 293 = .ok (.invokevirtual 1163, 3) := zdec_at bX8_waysOfDelete_281 6 rfl
theorem dX8_waysOfDelete_296 : decode cX8_waysOfDelete 296 = .ok (.invokevirtual 1066, 3) := zdec_at bX8_waysOfDelete_281 7 rfl
theorem dX8_waysOfDelete_299 : decode cX8_waysOfDelete 299 = .ok (.aload_n 0, 1) := zdec_at bX8_waysOfDelete_281 8 rfl
theorem dX8_waysOfDelete_300 : decode cX8_waysOfDelete 300 = .ok (.aload_n 0, 1) := zdec_at bX8_waysOfDelete_281 9 rfl
theorem dX8_waysOfDelete_301 : decode cX8_waysOfDelete 301 = .ok (.sipush 639, 3) := zdec_at bX8_waysOfDelete_281 10 rfl
theorem dX8_waysOfDelete_304 : decode cX8_waysOfDelete 304 = .ok (.iload 7, 2) := zdec_at bX8_waysOfDelete_281 11 rfl
theorem dX8_waysOfDelete_306 : decode cX8_waysOfDelete 306 = .ok (.iload 10, 2) := zdec_at bX8_waysOfDelete_281 12 rfl
theorem dX8_waysOfDelete_308 : decode cX8_waysOfDelete 308 = .ok (.invokevirtual 1163, 3) := zdec_at bX8_waysOfDelete_281 13 rfl
theorem dX8_waysOfDelete_311 : decode cX8_waysOfDelete 311 = .ok (.sipush 512, 3) := zdec_at bX8_waysOfDelete_281 14 rfl
theorem dX8_waysOfDelete_314 : decode cX8_waysOfDelete 314 = .ok (.invokevirtual 1072, 3) := zdec_at bX8_waysOfDelete_281 15 rfl
theorem bX8_waysOfDelete_317 : zdec cX8_waysOfDelete 317 [(317, .iinc 10 1, 3), (320, .goto (-89), 3), (323, .iinc 7 1, 3), (326, .goto (-224), 3), (329, .ldc_w 1218, 3), (332, .istore 7, 2), (334, .aload_n 0, 1), (335, .iload 7, 2), (337, .invokevirtual 1066, 3), (340, .aload_n 0, 1), (341, .iload 7, 2), (343, .iload 4, 2), (345, .ifCond .eq 13, 3), (348, .iload 5, 2), (350, .ifCond .eq 8, 3), (353, .bipush 8, 2)] = true := by decide +kernel
theorem dX8_waysOfDelete_317 : decode cX8_waysOfDelete 317 = .ok (.iinc 10 1, 3) := zdec_at bX8_waysOfDelete_317 0 rfl
theorem dX8_waysOfDelete_320 : decode cX8_waysOfDelete 320 = .ok (.goto (-89), 3) := zdec_at bX8_waysOfDelete_317 1 rfl
theorem dX8_waysOfDelete_323 : decode cX8_waysOfDelete 323 = .ok (.iinc 7 1, 3) := zdec_at bX8_waysOfDelete_317 2 rfl
theorem dX8_waysOfDelete_326 : decode cX8_waysOfDelete 326 = .ok (.goto (-224), 3) := zdec_at bX8_waysOfDelete_317 3 rfl
theorem dX8_waysOfDelete_329 : decode cX8_waysOfDelete 329 = .ok (.ldc_w 1218, 3) := zdec_at bX8_waysOfDelete_317 4 rfl
theorem dX8_waysOfDelete_332 : decode cX8_waysOfDelete 332 = .ok (.istore 7, 2) := zdec_at bX8_waysOfDelete_317 5 rfl
theorem dX8_waysOfDelete_334 : decode cX8_waysOfDelete 334 = .ok (.aload_n 0, 1) := zdec_at bX8_waysOfDelete_317 6 rfl
theorem dX8_waysOfDelete_335 : decode cX8_waysOfDelete 335 = .ok (.iload 7, 2) := zdec_at bX8_waysOfDelete_317 7 rfl
theorem dX8_waysOfDelete_337 : decode cX8_waysOfDelete 337 = .ok (.invokevirtual 1066, 3) := zdec_at bX8_waysOfDelete_317 8 rfl
theorem dX8_waysOfDelete_340 : decode cX8_waysOfDelete 340 = .ok (.aload_n 0, 1) := zdec_at bX8_waysOfDelete_317 9 rfl
theorem dX8_waysOfDelete_341 : decode cX8_waysOfDelete 341 = .ok (.iload 7, 2) := zdec_at bX8_waysOfDelete_317 10 rfl
theorem dX8_waysOfDelete_343 : decode cX8_waysOfDelete 343 = .ok (.iload 4, 2) := zdec_at bX8_waysOfDelete_317 11 rfl
theorem dX8_waysOfDelete_345 : decode cX8_waysOfDelete 345 = .ok (.ifCond .eq 13, 3) := zdec_at bX8_waysOfDelete_317 12 rfl
theorem dX8_waysOfDelete_348 : decode cX8_waysOfDelete 348 = .ok (.iload 5, 2) := zdec_at bX8_waysOfDelete_317 13 rfl
theorem dX8_waysOfDelete_350 : decode cX8_waysOfDelete 350 = .ok (.ifCond .eq 8, 3) := zdec_at bX8_waysOfDelete_317 14 rfl
theorem dX8_waysOfDelete_353 : decode cX8_waysOfDelete 353 = .ok (.bipush 8, 2) := zdec_at bX8_waysOfDelete_317 15 rfl
theorem bX8_waysOfDelete_355 : zdec cX8_waysOfDelete 355 [(355, .goto 14, 3), (358, .iload 4, 2), (360, .ifCond .eq 8, 3), (363, .bipush 12, 2), (365, .goto 4, 3), (368, .iconst 4, 1), (369, .invokevirtual 1072, 3), (372, .aload_n 0, 1), (373, .iconst 2, 1), (374, .iload 7, 2), (376, .invokevirtual 1258, 3), (379, .iload_n 2, 1), (380, .iconst 3, 1), (381, .iand, 1), (382, .ifCond .eq 13, 3), (385, .aload_n 0, 1)] = true := by decide +kernel
theorem dX8_waysOfDelete_355 : decode cX8_waysOfDelete 355 = .ok (.goto 14, 3) := zdec_at bX8_waysOfDelete_355 0 rfl
theorem dX8_waysOfDelete_358 : decode cX8_waysOfDelete 358 = .ok (.iload 4, 2) := zdec_at bX8_waysOfDelete_355 1 rfl
theorem dX8_waysOfDelete_360 : decode cX8_waysOfDelete 360 = .ok (.ifCond .eq 8, 3) := zdec_at bX8_waysOfDelete_355 2 rfl
theorem dX8_waysOfDelete_363 : decode cX8_waysOfDelete 363 = .ok (.bipush 12, 2) := zdec_at bX8_waysOfDelete_355 3 rfl
theorem dX8_waysOfDelete_365 : decode cX8_waysOfDelete 365 = .ok (.goto 4, 3) := zdec_at bX8_waysOfDelete_355 4 rfl
theorem dX8_waysOfDelete_368 : decode cX8_waysOfDelete 368 = .ok (.iconst 4, 1) := zdec_at bX8_waysOfDelete_355 5 rfl
theorem dX8_waysOfDelete_369 : decode cX8_waysOfDelete 369 = .ok (.invokevirtual 1072, 3) := zdec_at bX8_waysOfDelete_355 6 rfl
theorem dX8_waysOfDelete_372 : decode cX8_waysOfDelete 372 = .ok (.aload_n 0, 1) := zdec_at bX8_waysOfDelete_355 7 rfl
theorem dX8_waysOfDelete_373 : decode cX8_waysOfDelete 373 = .ok (.iconst 2, 1) := zdec_at bX8_waysOfDelete_355 8 rfl
theorem dX8_waysOfDelete_374 : decode cX8_waysOfDelete 374 = .ok (.iload 7, 2) := zdec_at bX8_waysOfDelete_355 9 rfl
theorem dX8_waysOfDelete_376 : decode cX8_waysOfDelete 376 = .ok (.invokevirtual 1258, 3) := zdec_at bX8_waysOfDelete_355 10 rfl
theorem dX8_waysOfDelete_379 : decode cX8_waysOfDelete 379 = .ok (.iload_n 2, 1) := zdec_at bX8_waysOfDelete_355 11 rfl
theorem dX8_waysOfDelete_380 : decode cX8_waysOfDelete 380 = .ok (.iconst 3, 1) := zdec_at bX8_waysOfDelete_355 12 rfl
theorem dX8_waysOfDelete_381 : decode cX8_waysOfDelete 381 = .ok (.iand, 1) := zdec_at bX8_waysOfDelete_355 13 rfl
theorem dX8_waysOfDelete_382 : decode cX8_waysOfDelete 382 = .ok (.ifCond .eq 13, 3) := zdec_at bX8_waysOfDelete_355 14 rfl
theorem dX8_waysOfDelete_385 : decode cX8_waysOfDelete 385 = .ok (.aload_n 0, 1) := zdec_at bX8_waysOfDelete_355 15 rfl
theorem bX8_waysOfDelete_386 : zdec cX8_waysOfDelete 386 [(386, .aload_n 0, 1), (387, .getfield 1188, 3), (390, .bipush 6, 2), (392, .invokevirtual 1292, 3), (395, .return_, 1)] = true := by decide +kernel
theorem dX8_waysOfDelete_386 : decode cX8_waysOfDelete 386 = .ok (.aload_n 0, 1) := zdec_at bX8_waysOfDelete_386 0 rfl
theorem dX8_waysOfDelete_387 : decode cX8_waysOfDelete 387 = .ok (.getfield 1188, 3) := zdec_at bX8_waysOfDelete_386 1 rfl
theorem dX8_waysOfDelete_390 : decode cX8_waysOfDelete 390 = .ok (.bipush 6, 2) := zdec_at bX8_waysOfDelete_386 2 rfl
theorem dX8_waysOfDelete_392 : decode cX8_waysOfDelete 392 = .ok (.invokevirtual 1292, 3) := zdec_at bX8_waysOfDelete_386 3 rfl
theorem dX8_waysOfDelete_395 : decode cX8_waysOfDelete 395 = .ok (.return_, 1) := zdec_at bX8_waysOfDelete_386 4 rfl
theorem sX8_waysOfDelete_0 {E : zE} {d : Nat} {Q : zO → zM → Prop} (M : zM)  (k : Zm E YX8_fromTop d M (zargs 0 [vr (some (97, 1, 0)), vi (1 : Int32)]) 0 [] (zma E YX8_waysOfDelete (d + 1) [(0, vr (some (97, 1, 0)))] 2 3 [] Q)) : Zm E YX8_waysOfDelete (d + 1) M [(0, vr (some (97, 1, 0)))] 0 [] Q := by
  refine Zm.l (fun _ _ k_ => z_aload_n dX8_waysOfDelete_0 rfl rfl k_) ?_
  refine Zm.l (fun _ _ k_ => z_iconst (v := 1) dX8_waysOfDelete_1 rfl k_) ?_
  exact zm_callV (as := [vi (1 : Int32)]) (st := []) dX8_waysOfDelete_2 vsX8_1195_1 (Nat.le_refl _) (Nat.le_of_ble_eq_true rfl) (Nat.le_of_ble_eq_true rfl) rfl k
theorem sX8_waysOfDelete_5 {E : zE} {d : Nat} {Q : zO → zM → Prop} (M : zM) (s0 : Int32) (k : Zm E YX8_plainly d M (zargs 0 [vr (some (97, 1, 0)), vi s0]) 0 [] (zma E YX8_waysOfDelete (d + 1) [(0, vr (some (97, 1, 0))), (1, vi s0)] 8 3 [] Q)) : Zm E YX8_waysOfDelete (d + 1) M [(0, vr (some (97, 1, 0)))] 5 [vi s0] Q := by
  refine Zm.l (fun _ _ k_ => z_ist_n dX8_waysOfDelete_5 rfl (by decide) (lv' := [(0, vr (some (97, 1, 0))), (1, vi s0)]) rfl k_) ?_
  refine Zm.l (fun _ _ k_ => z_aload_n dX8_waysOfDelete_6 rfl rfl k_) ?_
  refine Zm.l (fun _ _ k_ => z_iload_n dX8_waysOfDelete_7 rfl rfl k_) ?_
  exact zm_callV (as := [vi s0]) (st := []) dX8_waysOfDelete_8 vsX8_1059_1 (Nat.le_refl _) (Nat.le_of_ble_eq_true rfl) (Nat.le_of_ble_eq_true rfl) rfl k
theorem sX8_waysOfDelete_11 {E : zE} {d : Nat} {Q : zO → zM → Prop} (M : zM) (l1 : Int32) (s0 : Int32) (k : Zm E YX8_fromTop d M (zargs 0 [vr (some (97, 1, 0)), vi (0 : Int32)]) 0 [] (zma E YX8_waysOfDelete (d + 1) [(0, vr (some (97, 1, 0))), (1, vi l1), (2, vi s0)] 15 3 [vr (some (97, 1, 0))] Q)) : Zm E YX8_waysOfDelete (d + 1) M [(0, vr (some (97, 1, 0))), (1, vi l1)] 11 [vi s0] Q := by
  refine Zm.l (fun _ _ k_ => z_ist_n dX8_waysOfDelete_11 rfl (by decide) (lv' := [(0, vr (some (97, 1, 0))), (1, vi l1), (2, vi s0)]) rfl k_) ?_
  refine Zm.l (fun _ _ k_ => z_aload_n dX8_waysOfDelete_12 rfl rfl k_) ?_
  refine Zm.l (fun _ _ k_ => z_aload_n dX8_waysOfDelete_13 rfl rfl k_) ?_
  refine Zm.l (fun _ _ k_ => z_iconst (v := 0) dX8_waysOfDelete_14 rfl k_) ?_
  exact zm_callV (as := [vi (0 : Int32)]) (st := [vr (some (97, 1, 0))]) dX8_waysOfDelete_15 vsX8_1195_1 (Nat.le_refl _) (Nat.le_of_ble_eq_true rfl) (Nat.le_of_ble_eq_true rfl) rfl k
theorem sX8_waysOfDelete_18 {E : zE} {d : Nat} {Q : zO → zM → Prop} (M : zM) (l1 : Int32) (l2 : Int32) (s0 : Int32) (k : Zm E YX8_keysOf d M (zargs 0 [vr (some (97, 1, 0)), vi s0]) 0 [] (zma E YX8_waysOfDelete (d + 1) [(0, vr (some (97, 1, 0))), (1, vi l1), (2, vi l2)] 18 3 [] Q)) : Zm E YX8_waysOfDelete (d + 1) M [(0, vr (some (97, 1, 0))), (1, vi l1), (2, vi l2)] 18 [vi s0, vr (some (97, 1, 0))] Q := by
  exact zm_callV (as := [vi s0]) (st := []) dX8_waysOfDelete_18 vsX8_1147_1 (Nat.le_refl _) (Nat.le_of_ble_eq_true rfl) (Nat.le_of_ble_eq_true rfl) rfl k
theorem sX8_waysOfDelete_21 {E : zE} {d : Nat} {Q : zO → zM → Prop} (M : zM) (l1 : Int32) (l2 : Int32) (k : if (l2 &&& (-4 : Int32)) = 0 then (Zm E YX8_hasLabels d M (zargs 0 [vr (some (97, 1, 0)), vi l1]) 0 [] (zma E YX8_waysOfDelete (d + 1) [(0, vr (some (97, 1, 0))), (1, vi l1), (2, vi l2)] 30 3 [] Q)) else (Zm E YX8_waysOfDelete (d + 1) M [(0, vr (some (97, 1, 0))), (1, vi l1), (2, vi l2)] 41 [vi (1 : Int32)] Q)) : Zm E YX8_waysOfDelete (d + 1) M [(0, vr (some (97, 1, 0))), (1, vi l1), (2, vi l2)] 21 [] Q := by
  refine Zm.l (fun _ _ k_ => z_iload_n dX8_waysOfDelete_21 rfl rfl k_) ?_
  refine Zm.l (fun _ _ k_ => z_bipush (v := -4) dX8_waysOfDelete_22 rfl k_) ?_
  refine Zm.l (fun _ _ k_ => z_iand dX8_waysOfDelete_24 k_) ?_
  refine Zm.brn (fun _ _ k1_ k2_ => z_if_ne (tgt := 36) dX8_waysOfDelete_25 rfl k1_ k2_) (fun h_ => ?_) (fun h_ => ?_)
  · have k := zif h_ k
    refine Zm.l (fun _ _ k_ => z_iconst (v := 1) dX8_waysOfDelete_36 rfl k_) ?_
    refine Zm.l (fun _ _ k_ => z_goto (tgt := 41) dX8_waysOfDelete_37 rfl k_) ?_
    exact k
  · have k := zit h_ k
    refine Zm.l (fun _ _ k_ => z_aload_n dX8_waysOfDelete_28 rfl rfl k_) ?_
    refine Zm.l (fun _ _ k_ => z_iload_n dX8_waysOfDelete_29 rfl rfl k_) ?_
    exact zm_callV (as := [vi l1]) (st := []) dX8_waysOfDelete_30 vsX8_1062_1 (Nat.le_refl _) (Nat.le_of_ble_eq_true rfl) (Nat.le_of_ble_eq_true rfl) rfl k
theorem sX8_waysOfDelete_33 {E : zE} {d : Nat} {Q : zO → zM → Prop} (M : zM) (l1 : Int32) (l2 : Int32) (s0 : Int32) (k : if s0 = 0 then (Zm E YX8_waysOfDelete (d + 1) M [(0, vr (some (97, 1, 0))), (1, vi l1), (2, vi l2)] 41 [vi (0 : Int32)] Q) else (Zm E YX8_waysOfDelete (d + 1) M [(0, vr (some (97, 1, 0))), (1, vi l1), (2, vi l2)] 41 [vi (1 : Int32)] Q)) : Zm E YX8_waysOfDelete (d + 1) M [(0, vr (some (97, 1, 0))), (1, vi l1), (2, vi l2)] 33 [vi s0] Q := by
  refine Zm.br (fun _ _ k1_ k2_ => z_if_eq (tgt := 40) dX8_waysOfDelete_33 rfl k1_ k2_) (fun h_ => ?_) (fun h_ => ?_)
  · have k := zit h_ k
    refine Zm.l (fun _ _ k_ => z_iconst (v := 0) dX8_waysOfDelete_40 rfl k_) ?_
    exact k
  · have k := zif h_ k
    refine Zm.l (fun _ _ k_ => z_iconst (v := 1) dX8_waysOfDelete_36 rfl k_) ?_
    refine Zm.l (fun _ _ k_ => z_goto (tgt := 41) dX8_waysOfDelete_37 rfl k_) ?_
    exact k
theorem sX8_waysOfDelete_41 {E : zE} {d : Nat} {Q : zO → zM → Prop} (M : zM) (l1 : Int32) (l2 : Int32) (s0 : Int32) (k : if s0 = 0 then (Zm E YX8_waysOfDelete (d + 1) M [(0, vr (some (97, 1, 0))), (2, vi l2)] 379 [] Q) else (if l2 = 0 then (if (lg_cmp (gl M 97 143) (1 : Int64)) = 0 then (if (lg_cmp (gl M 97 144) (0 : Int64)) = 0 then (vp_in l1 647800 ∧ (Zm E YJ17_bitCount d M (zargs 0 [vl (gl M 166 (l1).toNatClampNeg)]) 0 [] (zma E YX8_waysOfDelete (d + 1) [(0, vr (some (97, 1, 0))), (1, vi l1), (2, vi l2), (4, vi (0 : Int32)), (5, vi (1 : Int32))] 84 3 [] Q))) else (vp_in l1 647800 ∧ (Zm E YJ17_bitCount d M (zargs 0 [vl (gl M 166 (l1).toNatClampNeg)]) 0 [] (zma E YX8_waysOfDelete (d + 1) [(0, vr (some (97, 1, 0))), (1, vi l1), (2, vi l2), (4, vi (0 : Int32)), (5, vi (0 : Int32))] 84 3 [] Q)))) else (vp_in l1 647800 ∧ (Zm E YJ17_bitCount d M (zargs 0 [vl (gl M 166 (l1).toNatClampNeg)]) 0 [] (zma E YX8_waysOfDelete (d + 1) [(0, vr (some (97, 1, 0))), (1, vi l1), (2, vi l2), (4, vi (0 : Int32)), (5, vi (0 : Int32))] 84 3 [] Q)))) else (vp_in l1 647800 ∧ (Zm E YJ17_bitCount d M (zargs 0 [vl (gl M 166 (l1).toNatClampNeg)]) 0 [] (zma E YX8_waysOfDelete (d + 1) [(0, vr (some (97, 1, 0))), (1, vi l1), (2, vi l2), (4, vi (0 : Int32)), (5, vi (0 : Int32))] 84 3 [] Q))))) : Zm E YX8_waysOfDelete (d + 1) M [(0, vr (some (97, 1, 0))), (1, vi l1), (2, vi l2)] 41 [vi s0] Q := by
  refine Zm.l (fun _ _ k_ => z_ist_n dX8_waysOfDelete_41 rfl (by decide) (lv' := [(0, vr (some (97, 1, 0))), (1, vi l1), (2, vi l2), (3, vi s0)]) rfl k_) ?_
  refine Zm.l (fun _ _ k_ => z_iload_n dX8_waysOfDelete_42 rfl rfl k_) ?_
  refine Zm.br (fun _ _ k1_ k2_ => z_if_eq (tgt := 379) dX8_waysOfDelete_43 rfl k1_ k2_) (fun h_ => ?_) (fun h_ => ?_)
  · have k := zit h_ k
    refine Zm.pick [0, 2] rfl ?_
    exact k
  · have k := zif h_ k
    refine Zm.l (fun _ _ k_ => z_iconst (v := 0) dX8_waysOfDelete_46 rfl k_) ?_
    refine Zm.l (fun _ _ k_ => z_ist dX8_waysOfDelete_47 (by decide) (lv' := [(0, vr (some (97, 1, 0))), (1, vi l1), (2, vi l2), (3, vi s0), (4, vi (0 : Int32))]) rfl k_) ?_
    refine Zm.l (fun _ _ k_ => z_iload_n dX8_waysOfDelete_49 rfl rfl k_) ?_
    refine Zm.brn (fun _ _ k1_ k2_ => z_if_ne (tgt := 75) dX8_waysOfDelete_50 rfl k1_ k2_) (fun h_ => ?_) (fun h_ => ?_)
    · have k := zif h_ k
      refine Zm.l (fun _ _ k_ => z_iconst (v := 0) dX8_waysOfDelete_75 rfl k_) ?_
      refine Zm.l (fun _ _ k_ => z_ist dX8_waysOfDelete_76 (by decide) (lv' := [(0, vr (some (97, 1, 0))), (1, vi l1), (2, vi l2), (3, vi s0), (4, vi (0 : Int32)), (5, vi (0 : Int32))]) rfl k_) ?_
      refine Zm.l (fun _ _ k_ => z_aload_n dX8_waysOfDelete_78 rfl rfl k_) ?_
      refine zm_getr 63 dX8_waysOfDelete_79 fsX8_220_1 rfl ?_
      refine Zm.l (fun _ _ k_ => z_iload_n dX8_waysOfDelete_82 rfl rfl k_) ?_
      obtain ⟨b_, k⟩ := k
      refine zm_lald dX8_waysOfDelete_83 b_ (by decide) (by decide) ?_
      refine Zm.pick [0, 1, 2, 4, 5] rfl ?_
      exact zm_callS (as := [vl (gl M 166 (l1).toNatClampNeg)]) (st := []) dX8_waysOfDelete_84 ssX8_1129 (Nat.le_refl _) (Nat.le_of_ble_eq_true rfl) (Nat.le_of_ble_eq_true rfl) rfl k
    · have k := zit h_ k
      refine Zm.l (fun _ _ k_ => z_aload_n dX8_waysOfDelete_53 rfl rfl k_) ?_
      refine zm_getl dX8_waysOfDelete_54 fsX8_1118_1 (by decide) (by decide) ?_
      refine Zm.l (fun _ _ k_ => z_lconst (v := 1) dX8_waysOfDelete_57 rfl k_) ?_
      refine Zm.l (fun _ _ k_ => z_lcmp dX8_waysOfDelete_58 k_) ?_
      refine Zm.brn (fun _ _ k1_ k2_ => z_if_ne (tgt := 75) dX8_waysOfDelete_59 rfl k1_ k2_) (fun h_ => ?_) (fun h_ => ?_)
      · have k := zif h_ k
        refine Zm.l (fun _ _ k_ => z_iconst (v := 0) dX8_waysOfDelete_75 rfl k_) ?_
        refine Zm.l (fun _ _ k_ => z_ist dX8_waysOfDelete_76 (by decide) (lv' := [(0, vr (some (97, 1, 0))), (1, vi l1), (2, vi l2), (3, vi s0), (4, vi (0 : Int32)), (5, vi (0 : Int32))]) rfl k_) ?_
        refine Zm.l (fun _ _ k_ => z_aload_n dX8_waysOfDelete_78 rfl rfl k_) ?_
        refine zm_getr 63 dX8_waysOfDelete_79 fsX8_220_1 rfl ?_
        refine Zm.l (fun _ _ k_ => z_iload_n dX8_waysOfDelete_82 rfl rfl k_) ?_
        obtain ⟨b_, k⟩ := k
        refine zm_lald dX8_waysOfDelete_83 b_ (by decide) (by decide) ?_
        refine Zm.pick [0, 1, 2, 4, 5] rfl ?_
        exact zm_callS (as := [vl (gl M 166 (l1).toNatClampNeg)]) (st := []) dX8_waysOfDelete_84 ssX8_1129 (Nat.le_refl _) (Nat.le_of_ble_eq_true rfl) (Nat.le_of_ble_eq_true rfl) rfl k
      · have k := zit h_ k
        refine Zm.l (fun _ _ k_ => z_aload_n dX8_waysOfDelete_62 rfl rfl k_) ?_
        refine zm_getl dX8_waysOfDelete_63 fsX8_1122_1 (by decide) (by decide) ?_
        refine Zm.l (fun _ _ k_ => z_lconst (v := 0) dX8_waysOfDelete_66 rfl k_) ?_
        refine Zm.l (fun _ _ k_ => z_lcmp dX8_waysOfDelete_67 k_) ?_
        refine Zm.brn (fun _ _ k1_ k2_ => z_if_ne (tgt := 75) dX8_waysOfDelete_68 rfl k1_ k2_) (fun h_ => ?_) (fun h_ => ?_)
        · have k := zif h_ k
          refine Zm.l (fun _ _ k_ => z_iconst (v := 0) dX8_waysOfDelete_75 rfl k_) ?_
          refine Zm.l (fun _ _ k_ => z_ist dX8_waysOfDelete_76 (by decide) (lv' := [(0, vr (some (97, 1, 0))), (1, vi l1), (2, vi l2), (3, vi s0), (4, vi (0 : Int32)), (5, vi (0 : Int32))]) rfl k_) ?_
          refine Zm.l (fun _ _ k_ => z_aload_n dX8_waysOfDelete_78 rfl rfl k_) ?_
          refine zm_getr 63 dX8_waysOfDelete_79 fsX8_220_1 rfl ?_
          refine Zm.l (fun _ _ k_ => z_iload_n dX8_waysOfDelete_82 rfl rfl k_) ?_
          obtain ⟨b_, k⟩ := k
          refine zm_lald dX8_waysOfDelete_83 b_ (by decide) (by decide) ?_
          refine Zm.pick [0, 1, 2, 4, 5] rfl ?_
          exact zm_callS (as := [vl (gl M 166 (l1).toNatClampNeg)]) (st := []) dX8_waysOfDelete_84 ssX8_1129 (Nat.le_refl _) (Nat.le_of_ble_eq_true rfl) (Nat.le_of_ble_eq_true rfl) rfl k
        · have k := zit h_ k
          refine Zm.l (fun _ _ k_ => z_iconst (v := 1) dX8_waysOfDelete_71 rfl k_) ?_
          refine Zm.l (fun _ _ k_ => z_goto (tgt := 76) dX8_waysOfDelete_72 rfl k_) ?_
          refine Zm.l (fun _ _ k_ => z_ist dX8_waysOfDelete_76 (by decide) (lv' := [(0, vr (some (97, 1, 0))), (1, vi l1), (2, vi l2), (3, vi s0), (4, vi (0 : Int32)), (5, vi (1 : Int32))]) rfl k_) ?_
          refine Zm.l (fun _ _ k_ => z_aload_n dX8_waysOfDelete_78 rfl rfl k_) ?_
          refine zm_getr 63 dX8_waysOfDelete_79 fsX8_220_1 rfl ?_
          refine Zm.l (fun _ _ k_ => z_iload_n dX8_waysOfDelete_82 rfl rfl k_) ?_
          obtain ⟨b_, k⟩ := k
          refine zm_lald dX8_waysOfDelete_83 b_ (by decide) (by decide) ?_
          refine Zm.pick [0, 1, 2, 4, 5] rfl ?_
          exact zm_callS (as := [vl (gl M 166 (l1).toNatClampNeg)]) (st := []) dX8_waysOfDelete_84 ssX8_1129 (Nat.le_refl _) (Nat.le_of_ble_eq_true rfl) (Nat.le_of_ble_eq_true rfl) rfl k
theorem sX8_waysOfDelete_87 {E : zE} {d : Nat} {Q : zO → zM → Prop} (M : zM) (l1 : Int32) (l2 : Int32) (l4 : Int32) (l5 : Int32) (s0 : Int32) (k : vp_in l1 647800 ∧ (Zm E YJ17_bitCount d M (zargs 0 [vl (gl M 167 (l1).toNatClampNeg)]) 0 [] (zma E YX8_waysOfDelete (d + 1) [(0, vr (some (97, 1, 0))), (1, vi l1), (2, vi l2), (4, vi l4), (5, vi l5)] 93 3 [vi s0] Q))) : Zm E YX8_waysOfDelete (d + 1) M [(0, vr (some (97, 1, 0))), (1, vi l1), (2, vi l2), (4, vi l4), (5, vi l5)] 87 [vi s0] Q := by
  refine Zm.l (fun _ _ k_ => z_aload_n dX8_waysOfDelete_87 rfl rfl k_) ?_
  refine zm_getr 64 dX8_waysOfDelete_88 fsX8_223_1 rfl ?_
  refine Zm.l (fun _ _ k_ => z_iload_n dX8_waysOfDelete_91 rfl rfl k_) ?_
  obtain ⟨b_, k⟩ := k
  refine zm_lald dX8_waysOfDelete_92 b_ (by decide) (by decide) ?_
  exact zm_callS (as := [vl (gl M 167 (l1).toNatClampNeg)]) (st := [vi s0]) dX8_waysOfDelete_93 ssX8_1129 (Nat.le_refl _) (Nat.le_of_ble_eq_true rfl) (Nat.le_of_ble_eq_true rfl) rfl k
theorem sX8_waysOfDelete_96 {E : zE} {d : Nat} {Q : zO → zM → Prop} (M : zM) (l1 : Int32) (l2 : Int32) (l4 : Int32) (l5 : Int32) (s0 : Int32) (s1 : Int32) (k : Zm E YX8_waysOfDelete (d + 1) M [(0, vr (some (97, 1, 0))), (1, vi l1), (2, vi l2), (4, vi l4), (5, vi l5), (6, vi (s1 + s0)), (7, vi (0 : Int32))] 102 [] Q) : Zm E YX8_waysOfDelete (d + 1) M [(0, vr (some (97, 1, 0))), (1, vi l1), (2, vi l2), (4, vi l4), (5, vi l5)] 96 [vi s0, vi s1] Q := by
  refine Zm.l (fun _ _ k_ => z_iadd dX8_waysOfDelete_96 k_) ?_
  refine Zm.l (fun _ _ k_ => z_ist dX8_waysOfDelete_97 (by decide) (lv' := [(0, vr (some (97, 1, 0))), (1, vi l1), (2, vi l2), (4, vi l4), (5, vi l5), (6, vi (s1 + s0))]) rfl k_) ?_
  refine Zm.l (fun _ _ k_ => z_iconst (v := 0) dX8_waysOfDelete_99 rfl k_) ?_
  refine Zm.l (fun _ _ k_ => z_ist dX8_waysOfDelete_100 (by decide) (lv' := [(0, vr (some (97, 1, 0))), (1, vi l1), (2, vi l2), (4, vi l4), (5, vi l5), (6, vi (s1 + s0)), (7, vi (0 : Int32))]) rfl k_) ?_
  exact k
theorem sX8_waysOfDelete_102 {E : zE} {d : Nat} {Q : zO → zM → Prop} (M : zM) (l1 : Int32) (l2 : Int32) (l4 : Int32) (l5 : Int32) (l6 : Int32) (l7 : Int32) (k : if (gi M 97 71) ≤ l7 then (Zm E YX8_empty d M (zargs 0 [vr (some (97, 1, 0)), vi (647740 : Int32)]) 0 [] (zma E YX8_waysOfDelete (d + 1) [(0, vr (some (97, 1, 0))), (2, vi l2), (4, vi l4), (5, vi l5), (7, vi (647740 : Int32))] 337 3 [] Q)) else (vp_in l1 647800 ∧ (vp_in l1 647800 ∧ (Zm E YX8_isIn d M (zargs 0 [vl (gl M 166 (l1).toNatClampNeg), vl (gl M 167 (l1).toNatClampNeg), vi l7]) 0 [] (zma E YX8_waysOfDelete (d + 1) [(0, vr (some (97, 1, 0))), (1, vi l1), (2, vi l2), (4, vi l4), (5, vi l5), (6, vi l6), (7, vi l7)] 125 3 [] Q))))) : Zm E YX8_waysOfDelete (d + 1) M [(0, vr (some (97, 1, 0))), (1, vi l1), (2, vi l2), (4, vi l4), (5, vi l5), (6, vi l6), (7, vi l7)] 102 [] Q := by
  refine Zm.l (fun _ _ k_ => z_iload dX8_waysOfDelete_102 rfl k_) ?_
  refine Zm.l (fun _ _ k_ => z_aload_n dX8_waysOfDelete_104 rfl rfl k_) ?_
  refine zm_geti dX8_waysOfDelete_105 fsX8_765_1 (by decide) (by decide) ?_
  refine Zm.br (fun _ _ k1_ k2_ => z_icmp_ge (tgt := 329) dX8_waysOfDelete_108 rfl k1_ k2_) (fun h_ => ?_) (fun h_ => ?_)
  · have k := zit h_ k
    refine Zm.l (fun _ _ k_ => z_ldcw (v := 647740) dX8_waysOfDelete_329 q4880 k_) ?_
    refine Zm.l (fun _ _ k_ => z_ist dX8_waysOfDelete_332 (by decide) (lv' := [(0, vr (some (97, 1, 0))), (1, vi l1), (2, vi l2), (4, vi l4), (5, vi l5), (6, vi l6), (7, vi (647740 : Int32))]) rfl k_) ?_
    refine Zm.l (fun _ _ k_ => z_aload_n dX8_waysOfDelete_334 rfl rfl k_) ?_
    refine Zm.l (fun _ _ k_ => z_iload dX8_waysOfDelete_335 rfl k_) ?_
    refine Zm.pick [0, 2, 3, 4, 6] rfl ?_
    exact zm_callV (as := [vi (647740 : Int32)]) (st := []) dX8_waysOfDelete_337 vsX8_1066_1 (Nat.le_refl _) (Nat.le_of_ble_eq_true rfl) (Nat.le_of_ble_eq_true rfl) rfl k
  · have k := zif h_ k
    refine Zm.l (fun _ _ k_ => z_aload_n dX8_waysOfDelete_111 rfl rfl k_) ?_
    refine zm_getr 63 dX8_waysOfDelete_112 fsX8_220_1 rfl ?_
    refine Zm.l (fun _ _ k_ => z_iload_n dX8_waysOfDelete_115 rfl rfl k_) ?_
    obtain ⟨b_, k⟩ := k
    refine zm_lald dX8_waysOfDelete_116 b_ (by decide) (by decide) ?_
    refine Zm.l (fun _ _ k_ => z_aload_n dX8_waysOfDelete_117 rfl rfl k_) ?_
    refine zm_getr 64 dX8_waysOfDelete_118 fsX8_223_1 rfl ?_
    refine Zm.l (fun _ _ k_ => z_iload_n dX8_waysOfDelete_121 rfl rfl k_) ?_
    obtain ⟨b_, k⟩ := k
    refine zm_lald dX8_waysOfDelete_122 b_ (by decide) (by decide) ?_
    refine Zm.l (fun _ _ k_ => z_iload dX8_waysOfDelete_123 rfl k_) ?_
    exact zm_callS (as := [vl (gl M 166 (l1).toNatClampNeg), vl (gl M 167 (l1).toNatClampNeg), vi l7]) (st := []) dX8_waysOfDelete_125 ssX8_1125 (Nat.le_refl _) (Nat.le_of_ble_eq_true rfl) (Nat.le_of_ble_eq_true rfl) rfl k
theorem sX8_waysOfDelete_128 {E : zE} {d : Nat} {Q : zO → zM → Prop} (M : zM) (l1 : Int32) (l2 : Int32) (l4 : Int32) (l5 : Int32) (l6 : Int32) (l7 : Int32) (s0 : Int32) (k : if s0 = 0 then (Zm E YX8_waysOfDelete (d + 1) M [(0, vr (some (97, 1, 0))), (1, vi l1), (2, vi l2), (4, vi l4), (5, vi l5), (6, vi l6), (7, vi (l7 + (1 : Int32)))] 102 [] Q) else (Zm E YX8_isArrayLabel d M (zargs 0 [vr (some (97, 1, 0)), vi l7]) 0 [] (zma E YX8_waysOfDelete (d + 1) [(0, vr (some (97, 1, 0))), (1, vi l1), (2, vi l2), (4, vi l4), (5, vi l5), (6, vi l6), (7, vi l7)] 137 3 [] Q))) : Zm E YX8_waysOfDelete (d + 1) M [(0, vr (some (97, 1, 0))), (1, vi l1), (2, vi l2), (4, vi l4), (5, vi l5), (6, vi l6), (7, vi l7)] 128 [vi s0] Q := by
  refine Zm.brn (fun _ _ k1_ k2_ => z_if_ne (tgt := 134) dX8_waysOfDelete_128 rfl k1_ k2_) (fun h_ => ?_) (fun h_ => ?_)
  · have k := zif h_ k
    refine Zm.l (fun _ _ k_ => z_aload_n dX8_waysOfDelete_134 rfl rfl k_) ?_
    refine Zm.l (fun _ _ k_ => z_iload dX8_waysOfDelete_135 rfl k_) ?_
    exact zm_callV (as := [vi l7]) (st := []) dX8_waysOfDelete_137 vsX8_1169_1 (Nat.le_refl _) (Nat.le_of_ble_eq_true rfl) (Nat.le_of_ble_eq_true rfl) rfl k
  · have k := zit h_ k
    refine Zm.l (fun _ _ k_ => z_goto (tgt := 323) dX8_waysOfDelete_131 rfl k_) ?_
    refine Zm.l (fun _ _ k_ => z_inc (v := (l7 + (1 : Int32))) dX8_waysOfDelete_323 rfl rfl (by decide) (lv' := [(0, vr (some (97, 1, 0))), (1, vi l1), (2, vi l2), (4, vi l4), (5, vi l5), (6, vi l6), (7, vi (l7 + (1 : Int32)))]) rfl k_) ?_
    refine Zm.l (fun _ _ k_ => z_goto (tgt := 102) dX8_waysOfDelete_326 rfl k_) ?_
    exact k
theorem sX8_waysOfDelete_140 {E : zE} {d : Nat} {Q : zO → zM → Prop} (M : zM) (l1 : Int32) (l2 : Int32) (l4 : Int32) (l5 : Int32) (l6 : Int32) (l7 : Int32) (s0 : Int32) (k : if l4 = 0 then (if s0 = 0 then (Zm E YX8_waysOfDelete (d + 1) M [(0, vr (some (97, 1, 0))), (1, vi l1), (2, vi l2), (5, vi l5), (6, vi l6), (7, vi l7), (8, vi s0)] 165 [vi (0 : Int32)] Q) else (Zm E YX8_hasKey d M (zargs 0 [vr (some (97, 1, 0)), vi (0 : Int32)]) 0 [] (zma E YX8_waysOfDelete (d + 1) [(0, vr (some (97, 1, 0))), (1, vi l1), (2, vi l2), (5, vi l5), (6, vi l6), (7, vi l7), (8, vi s0)] 154 3 [] Q))) else (Zm E YX8_waysOfDelete (d + 1) M [(0, vr (some (97, 1, 0))), (1, vi l1), (2, vi l2), (5, vi l5), (6, vi l6), (7, vi l7), (8, vi s0)] 165 [vi (1 : Int32)] Q)) : Zm E YX8_waysOfDelete (d + 1) M [(0, vr (some (97, 1, 0))), (1, vi l1), (2, vi l2), (4, vi l4), (5, vi l5), (6, vi l6), (7, vi l7)] 140 [vi s0] Q := by
  refine Zm.l (fun _ _ k_ => z_ist dX8_waysOfDelete_140 (by decide) (lv' := [(0, vr (some (97, 1, 0))), (1, vi l1), (2, vi l2), (4, vi l4), (5, vi l5), (6, vi l6), (7, vi l7), (8, vi s0)]) rfl k_) ?_
  refine Zm.l (fun _ _ k_ => z_iload dX8_waysOfDelete_142 rfl k_) ?_
  refine Zm.brn (fun _ _ k1_ k2_ => z_if_ne (tgt := 160) dX8_waysOfDelete_144 rfl k1_ k2_) (fun h_ => ?_) (fun h_ => ?_)
  · have k := zif h_ k
    refine Zm.l (fun _ _ k_ => z_iconst (v := 1) dX8_waysOfDelete_160 rfl k_) ?_
    refine Zm.l (fun _ _ k_ => z_goto (tgt := 165) dX8_waysOfDelete_161 rfl k_) ?_
    refine Zm.pick [0, 1, 2, 4, 5, 6, 7] rfl ?_
    exact k
  · have k := zit h_ k
    refine Zm.l (fun _ _ k_ => z_iload dX8_waysOfDelete_147 rfl k_) ?_
    refine Zm.br (fun _ _ k1_ k2_ => z_if_eq (tgt := 164) dX8_waysOfDelete_149 rfl k1_ k2_) (fun h_ => ?_) (fun h_ => ?_)
    · have k := zit h_ k
      refine Zm.l (fun _ _ k_ => z_iconst (v := 0) dX8_waysOfDelete_164 rfl k_) ?_
      refine Zm.pick [0, 1, 2, 4, 5, 6, 7] rfl ?_
      exact k
    · have k := zif h_ k
      refine Zm.l (fun _ _ k_ => z_aload_n dX8_waysOfDelete_152 rfl rfl k_) ?_
      refine Zm.l (fun _ _ k_ => z_iconst (v := 0) dX8_waysOfDelete_153 rfl k_) ?_
      refine Zm.pick [0, 1, 2, 4, 5, 6, 7] rfl ?_
      exact zm_callV (as := [vi (0 : Int32)]) (st := []) dX8_waysOfDelete_154 vsX8_1153_1 (Nat.le_refl _) (Nat.le_of_ble_eq_true rfl) (Nat.le_of_ble_eq_true rfl) rfl k
theorem sX8_waysOfDelete_157 {E : zE} {d : Nat} {Q : zO → zM → Prop} (M : zM) (l1 : Int32) (l2 : Int32) (l5 : Int32) (l6 : Int32) (l7 : Int32) (l8 : Int32) (s0 : Int32) (k : if s0 = 0 then (Zm E YX8_waysOfDelete (d + 1) M [(0, vr (some (97, 1, 0))), (1, vi l1), (2, vi l2), (5, vi l5), (6, vi l6), (7, vi l7), (8, vi l8)] 165 [vi (0 : Int32)] Q) else (Zm E YX8_waysOfDelete (d + 1) M [(0, vr (some (97, 1, 0))), (1, vi l1), (2, vi l2), (5, vi l5), (6, vi l6), (7, vi l7), (8, vi l8)] 165 [vi (1 : Int32)] Q)) : Zm E YX8_waysOfDelete (d + 1) M [(0, vr (some (97, 1, 0))), (1, vi l1), (2, vi l2), (5, vi l5), (6, vi l6), (7, vi l7), (8, vi l8)] 157 [vi s0] Q := by
  refine Zm.br (fun _ _ k1_ k2_ => z_if_eq (tgt := 164) dX8_waysOfDelete_157 rfl k1_ k2_) (fun h_ => ?_) (fun h_ => ?_)
  · have k := zit h_ k
    refine Zm.l (fun _ _ k_ => z_iconst (v := 0) dX8_waysOfDelete_164 rfl k_) ?_
    exact k
  · have k := zif h_ k
    refine Zm.l (fun _ _ k_ => z_iconst (v := 1) dX8_waysOfDelete_160 rfl k_) ?_
    refine Zm.l (fun _ _ k_ => z_goto (tgt := 165) dX8_waysOfDelete_161 rfl k_) ?_
    exact k
theorem sX8_waysOfDelete_165 {E : zE} {d : Nat} {Q : zO → zM → Prop} (M : zM) (l1 : Int32) (l2 : Int32) (l5 : Int32) (l6 : Int32) (l7 : Int32) (l8 : Int32) (s0 : Int32) (k : if l5 = 0 then (Zm E YX8_waysOfDelete (d + 1) M [(0, vr (some (97, 1, 0))), (1, vi l1), (2, vi l2), (4, vi s0), (6, vi l6), (7, vi l7), (8, vi l8)] 182 [vi (0 : Int32)] Q) else (if l8 = 0 then (Zm E YX8_waysOfDelete (d + 1) M [(0, vr (some (97, 1, 0))), (1, vi l1), (2, vi l2), (4, vi s0), (6, vi l6), (7, vi l7), (8, vi l8)] 182 [vi (0 : Int32)] Q) else (Zm E YX8_waysOfDelete (d + 1) M [(0, vr (some (97, 1, 0))), (1, vi l1), (2, vi l2), (4, vi s0), (6, vi l6), (7, vi l7), (8, vi l8)] 182 [vi (1 : Int32)] Q))) : Zm E YX8_waysOfDelete (d + 1) M [(0, vr (some (97, 1, 0))), (1, vi l1), (2, vi l2), (5, vi l5), (6, vi l6), (7, vi l7), (8, vi l8)] 165 [vi s0] Q := by
  refine Zm.l (fun _ _ k_ => z_ist dX8_waysOfDelete_165 (by decide) (lv' := [(0, vr (some (97, 1, 0))), (1, vi l1), (2, vi l2), (4, vi s0), (5, vi l5), (6, vi l6), (7, vi l7), (8, vi l8)]) rfl k_) ?_
  refine Zm.l (fun _ _ k_ => z_iload dX8_waysOfDelete_167 rfl k_) ?_
  refine Zm.br (fun _ _ k1_ k2_ => z_if_eq (tgt := 181) dX8_waysOfDelete_169 rfl k1_ k2_) (fun h_ => ?_) (fun h_ => ?_)
  · have k := zit h_ k
    refine Zm.l (fun _ _ k_ => z_iconst (v := 0) dX8_waysOfDelete_181 rfl k_) ?_
    refine Zm.pick [0, 1, 2, 3, 5, 6, 7] rfl ?_
    exact k
  · have k := zif h_ k
    refine Zm.l (fun _ _ k_ => z_iload dX8_waysOfDelete_172 rfl k_) ?_
    refine Zm.br (fun _ _ k1_ k2_ => z_if_eq (tgt := 181) dX8_waysOfDelete_174 rfl k1_ k2_) (fun h_ => ?_) (fun h_ => ?_)
    · have k := zit h_ k
      refine Zm.l (fun _ _ k_ => z_iconst (v := 0) dX8_waysOfDelete_181 rfl k_) ?_
      refine Zm.pick [0, 1, 2, 3, 5, 6, 7] rfl ?_
      exact k
    · have k := zif h_ k
      refine Zm.l (fun _ _ k_ => z_iconst (v := 1) dX8_waysOfDelete_177 rfl k_) ?_
      refine Zm.l (fun _ _ k_ => z_goto (tgt := 182) dX8_waysOfDelete_178 rfl k_) ?_
      refine Zm.pick [0, 1, 2, 3, 5, 6, 7] rfl ?_
      exact k
theorem sX8_waysOfDelete_182 {E : zE} {d : Nat} {Q : zO → zM → Prop} (M : zM) (l1 : Int32) (l2 : Int32) (l4 : Int32) (l6 : Int32) (l7 : Int32) (l8 : Int32) (s0 : Int32) (k : if l2 = 0 then (if l6 = (1 : Int32) then (Zm E YX8_isSingle d M (zargs 0 [vi l7]) 0 [] (zma E YX8_waysOfDelete (d + 1) [(0, vr (some (97, 1, 0))), (1, vi l1), (2, vi l2), (4, vi l4), (5, vi s0), (6, vi l6), (7, vi l7), (8, vi l8)] 196 3 [] Q)) else (Zm E YX8_waysOfDelete (d + 1) M [(0, vr (some (97, 1, 0))), (1, vi l1), (2, vi l2), (4, vi l4), (5, vi s0), (6, vi l6), (7, vi l7), (8, vi l8), (9, vi (0 : Int32)), (10, vi (0 : Int32))] 231 [] Q)) else (Zm E YX8_waysOfDelete (d + 1) M [(0, vr (some (97, 1, 0))), (1, vi l1), (2, vi l2), (4, vi l4), (5, vi s0), (6, vi l6), (7, vi l7), (8, vi l8), (9, vi (0 : Int32)), (10, vi (0 : Int32))] 231 [] Q)) : Zm E YX8_waysOfDelete (d + 1) M [(0, vr (some (97, 1, 0))), (1, vi l1), (2, vi l2), (4, vi l4), (6, vi l6), (7, vi l7), (8, vi l8)] 182 [vi s0] Q := by
  refine Zm.l (fun _ _ k_ => z_ist dX8_waysOfDelete_182 (by decide) (lv' := [(0, vr (some (97, 1, 0))), (1, vi l1), (2, vi l2), (4, vi l4), (5, vi s0), (6, vi l6), (7, vi l7), (8, vi l8)]) rfl k_) ?_
  refine Zm.l (fun _ _ k_ => z_iload_n dX8_waysOfDelete_184 rfl rfl k_) ?_
  refine Zm.brn (fun _ _ k1_ k2_ => z_if_ne (tgt := 225) dX8_waysOfDelete_185 rfl k1_ k2_) (fun h_ => ?_) (fun h_ => ?_)
  · have k := zif h_ k
    refine Zm.l (fun _ _ k_ => z_iconst (v := 0) dX8_waysOfDelete_225 rfl k_) ?_
    refine Zm.l (fun _ _ k_ => z_ist dX8_waysOfDelete_226 (by decide) (lv' := [(0, vr (some (97, 1, 0))), (1, vi l1), (2, vi l2), (4, vi l4), (5, vi s0), (6, vi l6), (7, vi l7), (8, vi l8), (9, vi (0 : Int32))]) rfl k_) ?_
    refine Zm.l (fun _ _ k_ => z_iconst (v := 0) dX8_waysOfDelete_228 rfl k_) ?_
    refine Zm.l (fun _ _ k_ => z_ist dX8_waysOfDelete_229 (by decide) (lv' := [(0, vr (some (97, 1, 0))), (1, vi l1), (2, vi l2), (4, vi l4), (5, vi s0), (6, vi l6), (7, vi l7), (8, vi l8), (9, vi (0 : Int32)), (10, vi (0 : Int32))]) rfl k_) ?_
    exact k
  · have k := zit h_ k
    refine Zm.l (fun _ _ k_ => z_iload dX8_waysOfDelete_188 rfl k_) ?_
    refine Zm.l (fun _ _ k_ => z_iconst (v := 1) dX8_waysOfDelete_190 rfl k_) ?_
    refine Zm.brn (fun _ _ k1_ k2_ => z_icmp_ne (tgt := 225) dX8_waysOfDelete_191 rfl k1_ k2_) (fun h_ => ?_) (fun h_ => ?_)
    · have k := zif h_ k
      refine Zm.l (fun _ _ k_ => z_iconst (v := 0) dX8_waysOfDelete_225 rfl k_) ?_
      refine Zm.l (fun _ _ k_ => z_ist dX8_waysOfDelete_226 (by decide) (lv' := [(0, vr (some (97, 1, 0))), (1, vi l1), (2, vi l2), (4, vi l4), (5, vi s0), (6, vi l6), (7, vi l7), (8, vi l8), (9, vi (0 : Int32))]) rfl k_) ?_
      refine Zm.l (fun _ _ k_ => z_iconst (v := 0) dX8_waysOfDelete_228 rfl k_) ?_
      refine Zm.l (fun _ _ k_ => z_ist dX8_waysOfDelete_229 (by decide) (lv' := [(0, vr (some (97, 1, 0))), (1, vi l1), (2, vi l2), (4, vi l4), (5, vi s0), (6, vi l6), (7, vi l7), (8, vi l8), (9, vi (0 : Int32)), (10, vi (0 : Int32))]) rfl k_) ?_
      exact k
    · have k := zit h_ k
      refine Zm.l (fun _ _ k_ => z_iload dX8_waysOfDelete_194 rfl k_) ?_
      exact zm_callS (as := [vi l7]) (st := []) dX8_waysOfDelete_196 ssX8_1166 (Nat.le_refl _) (Nat.le_of_ble_eq_true rfl) (Nat.le_of_ble_eq_true rfl) rfl k
theorem sX8_waysOfDelete_199 {E : zE} {d : Nat} {Q : zO → zM → Prop} (M : zM) (l1 : Int32) (l2 : Int32) (l4 : Int32) (l5 : Int32) (l6 : Int32) (l7 : Int32) (l8 : Int32) (s0 : Int32) (k : if s0 = 0 then (Zm E YX8_waysOfDelete (d + 1) M [(0, vr (some (97, 1, 0))), (1, vi l1), (2, vi l2), (4, vi l4), (5, vi l5), (6, vi l6), (7, vi l7), (8, vi l8), (9, vi (0 : Int32)), (10, vi (0 : Int32))] 231 [] Q) else (Zm E YX8_manyKeys d M (zargs 0 [vr (some (97, 1, 0))]) 0 [] (zma E YX8_waysOfDelete (d + 1) [(0, vr (some (97, 1, 0))), (1, vi l1), (2, vi l2), (4, vi l4), (5, vi l5), (6, vi l6), (7, vi l7), (8, vi l8)] 203 3 [] Q))) : Zm E YX8_waysOfDelete (d + 1) M [(0, vr (some (97, 1, 0))), (1, vi l1), (2, vi l2), (4, vi l4), (5, vi l5), (6, vi l6), (7, vi l7), (8, vi l8)] 199 [vi s0] Q := by
  refine Zm.br (fun _ _ k1_ k2_ => z_if_eq (tgt := 225) dX8_waysOfDelete_199 rfl k1_ k2_) (fun h_ => ?_) (fun h_ => ?_)
  · have k := zit h_ k
    refine Zm.l (fun _ _ k_ => z_iconst (v := 0) dX8_waysOfDelete_225 rfl k_) ?_
    refine Zm.l (fun _ _ k_ => z_ist dX8_waysOfDelete_226 (by decide) (lv' := [(0, vr (some (97, 1, 0))), (1, vi l1), (2, vi l2), (4, vi l4), (5, vi l5), (6, vi l6), (7, vi l7), (8, vi l8), (9, vi (0 : Int32))]) rfl k_) ?_
    refine Zm.l (fun _ _ k_ => z_iconst (v := 0) dX8_waysOfDelete_228 rfl k_) ?_
    refine Zm.l (fun _ _ k_ => z_ist dX8_waysOfDelete_229 (by decide) (lv' := [(0, vr (some (97, 1, 0))), (1, vi l1), (2, vi l2), (4, vi l4), (5, vi l5), (6, vi l6), (7, vi l7), (8, vi l8), (9, vi (0 : Int32)), (10, vi (0 : Int32))]) rfl k_) ?_
    exact k
  · have k := zif h_ k
    refine Zm.l (fun _ _ k_ => z_aload_n dX8_waysOfDelete_202 rfl rfl k_) ?_
    exact zm_callV (as := []) (st := []) dX8_waysOfDelete_203 vsX8_1150_1 (Nat.le_refl _) (Nat.le_of_ble_eq_true rfl) (Nat.le_of_ble_eq_true rfl) rfl k
theorem sX8_waysOfDelete_206 {E : zE} {d : Nat} {Q : zO → zM → Prop} (M : zM) (l1 : Int32) (l2 : Int32) (l4 : Int32) (l5 : Int32) (l6 : Int32) (l7 : Int32) (l8 : Int32) (s0 : Int32) (k : if s0 = (1 : Int32) then (Zm E YX8_hasKey d M (zargs 0 [vr (some (97, 1, 0)), vi (gi M 97 8)]) 0 [] (zma E YX8_waysOfDelete (d + 1) [(0, vr (some (97, 1, 0))), (1, vi l1), (2, vi l2), (4, vi l4), (5, vi l5), (6, vi l6), (7, vi l7), (8, vi l8)] 215 3 [] Q)) else (Zm E YX8_waysOfDelete (d + 1) M [(0, vr (some (97, 1, 0))), (1, vi l1), (2, vi l2), (4, vi l4), (5, vi l5), (6, vi l6), (7, vi l7), (8, vi l8), (9, vi (0 : Int32)), (10, vi (0 : Int32))] 231 [] Q)) : Zm E YX8_waysOfDelete (d + 1) M [(0, vr (some (97, 1, 0))), (1, vi l1), (2, vi l2), (4, vi l4), (5, vi l5), (6, vi l6), (7, vi l7), (8, vi l8)] 206 [vi s0] Q := by
  refine Zm.l (fun _ _ k_ => z_iconst (v := 1) dX8_waysOfDelete_206 rfl k_) ?_
  refine Zm.brn (fun _ _ k1_ k2_ => z_icmp_ne (tgt := 225) dX8_waysOfDelete_207 rfl k1_ k2_) (fun h_ => ?_) (fun h_ => ?_)
  · have k := zif h_ k
    refine Zm.l (fun _ _ k_ => z_iconst (v := 0) dX8_waysOfDelete_225 rfl k_) ?_
    refine Zm.l (fun _ _ k_ => z_ist dX8_waysOfDelete_226 (by decide) (lv' := [(0, vr (some (97, 1, 0))), (1, vi l1), (2, vi l2), (4, vi l4), (5, vi l5), (6, vi l6), (7, vi l7), (8, vi l8), (9, vi (0 : Int32))]) rfl k_) ?_
    refine Zm.l (fun _ _ k_ => z_iconst (v := 0) dX8_waysOfDelete_228 rfl k_) ?_
    refine Zm.l (fun _ _ k_ => z_ist dX8_waysOfDelete_229 (by decide) (lv' := [(0, vr (some (97, 1, 0))), (1, vi l1), (2, vi l2), (4, vi l4), (5, vi l5), (6, vi l6), (7, vi l7), (8, vi l8), (9, vi (0 : Int32)), (10, vi (0 : Int32))]) rfl k_) ?_
    exact k
  · have k := zit h_ k
    refine Zm.l (fun _ _ k_ => z_aload_n dX8_waysOfDelete_210 rfl rfl k_) ?_
    refine Zm.l (fun _ _ k_ => z_aload_n dX8_waysOfDelete_211 rfl rfl k_) ?_
    refine zm_geti dX8_waysOfDelete_212 fsX8_762_1 (by decide) (by decide) ?_
    exact zm_callV (as := [vi (gi M 97 8)]) (st := []) dX8_waysOfDelete_215 vsX8_1153_1 (Nat.le_refl _) (Nat.le_of_ble_eq_true rfl) (Nat.le_of_ble_eq_true rfl) rfl k
theorem sX8_waysOfDelete_218 {E : zE} {d : Nat} {Q : zO → zM → Prop} (M : zM) (l1 : Int32) (l2 : Int32) (l4 : Int32) (l5 : Int32) (l6 : Int32) (l7 : Int32) (l8 : Int32) (s0 : Int32) (k : if s0 = 0 then (Zm E YX8_waysOfDelete (d + 1) M [(0, vr (some (97, 1, 0))), (1, vi l1), (2, vi l2), (4, vi l4), (5, vi l5), (6, vi l6), (7, vi l7), (8, vi l8), (9, vi (1 : Int32)), (10, vi (0 : Int32))] 231 [] Q) else (Zm E YX8_waysOfDelete (d + 1) M [(0, vr (some (97, 1, 0))), (1, vi l1), (2, vi l2), (4, vi l4), (5, vi l5), (6, vi l6), (7, vi l7), (8, vi l8), (9, vi (0 : Int32)), (10, vi (0 : Int32))] 231 [] Q)) : Zm E YX8_waysOfDelete (d + 1) M [(0, vr (some (97, 1, 0))), (1, vi l1), (2, vi l2), (4, vi l4), (5, vi l5), (6, vi l6), (7, vi l7), (8, vi l8)] 218 [vi s0] Q := by
  refine Zm.brn (fun _ _ k1_ k2_ => z_if_ne (tgt := 225) dX8_waysOfDelete_218 rfl k1_ k2_) (fun h_ => ?_) (fun h_ => ?_)
  · have k := zif h_ k
    refine Zm.l (fun _ _ k_ => z_iconst (v := 0) dX8_waysOfDelete_225 rfl k_) ?_
    refine Zm.l (fun _ _ k_ => z_ist dX8_waysOfDelete_226 (by decide) (lv' := [(0, vr (some (97, 1, 0))), (1, vi l1), (2, vi l2), (4, vi l4), (5, vi l5), (6, vi l6), (7, vi l7), (8, vi l8), (9, vi (0 : Int32))]) rfl k_) ?_
    refine Zm.l (fun _ _ k_ => z_iconst (v := 0) dX8_waysOfDelete_228 rfl k_) ?_
    refine Zm.l (fun _ _ k_ => z_ist dX8_waysOfDelete_229 (by decide) (lv' := [(0, vr (some (97, 1, 0))), (1, vi l1), (2, vi l2), (4, vi l4), (5, vi l5), (6, vi l6), (7, vi l7), (8, vi l8), (9, vi (0 : Int32)), (10, vi (0 : Int32))]) rfl k_) ?_
    exact k
  · have k := zit h_ k
    refine Zm.l (fun _ _ k_ => z_iconst (v := 1) dX8_waysOfDelete_221 rfl k_) ?_
    refine Zm.l (fun _ _ k_ => z_goto (tgt := 226) dX8_waysOfDelete_222 rfl k_) ?_
    refine Zm.l (fun _ _ k_ => z_ist dX8_waysOfDelete_226 (by decide) (lv' := [(0, vr (some (97, 1, 0))), (1, vi l1), (2, vi l2), (4, vi l4), (5, vi l5), (6, vi l6), (7, vi l7), (8, vi l8), (9, vi (1 : Int32))]) rfl k_) ?_
    refine Zm.l (fun _ _ k_ => z_iconst (v := 0) dX8_waysOfDelete_228 rfl k_) ?_
    refine Zm.l (fun _ _ k_ => z_ist dX8_waysOfDelete_229 (by decide) (lv' := [(0, vr (some (97, 1, 0))), (1, vi l1), (2, vi l2), (4, vi l4), (5, vi l5), (6, vi l6), (7, vi l7), (8, vi l8), (9, vi (1 : Int32)), (10, vi (0 : Int32))]) rfl k_) ?_
    exact k
theorem sX8_waysOfDelete_231 {E : zE} {d : Nat} {Q : zO → zM → Prop} (M : zM) (l1 : Int32) (l2 : Int32) (l4 : Int32) (l5 : Int32) (l6 : Int32) (l7 : Int32) (l8 : Int32) (l9 : Int32) (l10 : Int32) (k : if (gi M 97 8) < l10 then (Zm E YX8_waysOfDelete (d + 1) M [(0, vr (some (97, 1, 0))), (1, vi l1), (2, vi l2), (4, vi l4), (5, vi l5), (6, vi l6), (7, vi (l7 + (1 : Int32)))] 102 [] Q) else (Zm E YX8_hasKey d M (zargs 0 [vr (some (97, 1, 0)), vi l10]) 0 [] (zma E YX8_waysOfDelete (d + 1) [(0, vr (some (97, 1, 0))), (1, vi l1), (2, vi l2), (4, vi l4), (5, vi l5), (6, vi l6), (7, vi l7), (8, vi l8), (9, vi l9), (10, vi l10)] 243 3 [] Q))) : Zm E YX8_waysOfDelete (d + 1) M [(0, vr (some (97, 1, 0))), (1, vi l1), (2, vi l2), (4, vi l4), (5, vi l5), (6, vi l6), (7, vi l7), (8, vi l8), (9, vi l9), (10, vi l10)] 231 [] Q := by
  refine Zm.l (fun _ _ k_ => z_iload dX8_waysOfDelete_231 rfl k_) ?_
  refine Zm.l (fun _ _ k_ => z_aload_n dX8_waysOfDelete_233 rfl rfl k_) ?_
  refine zm_geti dX8_waysOfDelete_234 fsX8_762_1 (by decide) (by decide) ?_
  refine Zm.br (fun _ _ k1_ k2_ => z_icmp_gt (tgt := 323) dX8_waysOfDelete_237 rfl k1_ k2_) (fun h_ => ?_) (fun h_ => ?_)
  · have k := zit h_ k
    refine Zm.l (fun _ _ k_ => z_inc (v := (l7 + (1 : Int32))) dX8_waysOfDelete_323 rfl rfl (by decide) (lv' := [(0, vr (some (97, 1, 0))), (1, vi l1), (2, vi l2), (4, vi l4), (5, vi l5), (6, vi l6), (7, vi (l7 + (1 : Int32))), (8, vi l8), (9, vi l9), (10, vi l10)]) rfl k_) ?_
    refine Zm.l (fun _ _ k_ => z_goto (tgt := 102) dX8_waysOfDelete_326 rfl k_) ?_
    refine Zm.pick [0, 1, 2, 3, 4, 5, 6] rfl ?_
    exact k
  · have k := zif h_ k
    refine Zm.l (fun _ _ k_ => z_aload_n dX8_waysOfDelete_240 rfl rfl k_) ?_
    refine Zm.l (fun _ _ k_ => z_iload dX8_waysOfDelete_241 rfl k_) ?_
    exact zm_callV (as := [vi l10]) (st := []) dX8_waysOfDelete_243 vsX8_1153_1 (Nat.le_refl _) (Nat.le_of_ble_eq_true rfl) (Nat.le_of_ble_eq_true rfl) rfl k
theorem sX8_waysOfDelete_246 {E : zE} {d : Nat} {Q : zO → zM → Prop} (M : zM) (l1 : Int32) (l2 : Int32) (l4 : Int32) (l5 : Int32) (l6 : Int32) (l7 : Int32) (l8 : Int32) (l9 : Int32) (l10 : Int32) (s0 : Int32) (k : if s0 = 0 then (Zm E YX8_waysOfDelete (d + 1) M [(0, vr (some (97, 1, 0))), (1, vi l1), (2, vi l2), (4, vi l4), (5, vi l5), (6, vi l6), (7, vi l7), (8, vi l8), (9, vi l9), (10, vi l10)] 317 [] Q) else (if l10 = 0 then (if l8 = 0 then (Zm E YX8_of d M (zargs 0 [vr (some (97, 1, 0)), vi (639 : Int32), vi l7]) 0 [] (zma E YX8_waysOfDelete (d + 1) [(0, vr (some (97, 1, 0))), (1, vi l1), (2, vi l2), (4, vi l4), (5, vi l5), (6, vi l6), (7, vi l7), (8, vi l8), (9, vi l9), (10, vi l10)] 269 3 [vr (some (178, 104, 15128))] Q)) else (Zm E YX8_waysOfDelete (d + 1) M [(0, vr (some (97, 1, 0))), (1, vi l1), (2, vi l2), (4, vi l4), (5, vi l5), (6, vi l6), (7, vi l7), (8, vi l8), (9, vi l9), (10, vi l10)] 317 [] Q)) else (Zm E YX8_of d M (zargs 0 [vr (some (97, 1, 0)), vi (639 : Int32), vi l7]) 0 [] (zma E YX8_waysOfDelete (d + 1) [(0, vr (some (97, 1, 0))), (1, vi l1), (2, vi l2), (4, vi l4), (5, vi l5), (6, vi l6), (7, vi l7), (8, vi l8), (9, vi l9), (10, vi l10)] 269 3 [vr (some (178, 104, 15128))] Q)))) : Zm E YX8_waysOfDelete (d + 1) M [(0, vr (some (97, 1, 0))), (1, vi l1), (2, vi l2), (4, vi l4), (5, vi l5), (6, vi l6), (7, vi l7), (8, vi l8), (9, vi l9), (10, vi l10)] 246 [vi s0] Q := by
  refine Zm.br (fun _ _ k1_ k2_ => z_if_eq (tgt := 317) dX8_waysOfDelete_246 rfl k1_ k2_) (fun h_ => ?_) (fun h_ => ?_)
  · have k := zit h_ k
    exact k
  · have k := zif h_ k
    refine Zm.l (fun _ _ k_ => z_iload dX8_waysOfDelete_249 rfl k_) ?_
    refine Zm.brn (fun _ _ k1_ k2_ => z_if_ne (tgt := 259) dX8_waysOfDelete_251 rfl k1_ k2_) (fun h_ => ?_) (fun h_ => ?_)
    · have k := zif h_ k
      refine Zm.l (fun _ _ k_ => z_aload_n dX8_waysOfDelete_259 rfl rfl k_) ?_
      refine zm_getr 75 dX8_waysOfDelete_260 fsX8_256_1 rfl ?_
      refine Zm.l (fun _ _ k_ => z_aload_n dX8_waysOfDelete_263 rfl rfl k_) ?_
      refine Zm.l (fun _ _ k_ => z_sipush (v := 639) dX8_waysOfDelete_264 rfl k_) ?_
      refine Zm.l (fun _ _ k_ => z_iload dX8_waysOfDelete_267 rfl k_) ?_
      exact zm_callV (as := [vi (639 : Int32), vi l7]) (st := [vr (some (178, 104, 15128))]) dX8_waysOfDelete_269 vsX8_1101_1 (Nat.le_refl _) (Nat.le_of_ble_eq_true rfl) (Nat.le_of_ble_eq_true rfl) rfl k
    · have k := zit h_ k
      refine Zm.l (fun _ _ k_ => z_iload dX8_waysOfDelete_254 rfl k_) ?_
      refine Zm.brn (fun _ _ k1_ k2_ => z_if_ne (tgt := 317) dX8_waysOfDelete_256 rfl k1_ k2_) (fun h_ => ?_) (fun h_ => ?_)
      · have k := zif h_ k
        exact k
      · have k := zit h_ k
        refine Zm.l (fun _ _ k_ => z_aload_n dX8_waysOfDelete_259 rfl rfl k_) ?_
        refine zm_getr 75 dX8_waysOfDelete_260 fsX8_256_1 rfl ?_
        refine Zm.l (fun _ _ k_ => z_aload_n dX8_waysOfDelete_263 rfl rfl k_) ?_
        refine Zm.l (fun _ _ k_ => z_sipush (v := 639) dX8_waysOfDelete_264 rfl k_) ?_
        refine Zm.l (fun _ _ k_ => z_iload dX8_waysOfDelete_267 rfl k_) ?_
        exact zm_callV (as := [vi (639 : Int32), vi l7]) (st := [vr (some (178, 104, 15128))]) dX8_waysOfDelete_269 vsX8_1101_1 (Nat.le_refl _) (Nat.le_of_ble_eq_true rfl) (Nat.le_of_ble_eq_true rfl) rfl k
theorem sX8_waysOfDelete_272 {E : zE} {d : Nat} {Q : zO → zM → Prop} (M : zM) (l1 : Int32) (l2 : Int32) (l4 : Int32) (l5 : Int32) (l6 : Int32) (l7 : Int32) (l8 : Int32) (l9 : Int32) (l10 : Int32) (s0 : Int32) (k : vp_in s0 15128 ∧ (if (gi M 178 (s0).toNatClampNeg) = 0 then (Zm E YX8_waysOfDelete (d + 1) M [(0, vr (some (97, 1, 0))), (1, vi l1), (2, vi l2), (4, vi l4), (5, vi l5), (6, vi l6), (7, vi l7), (8, vi l8), (9, vi l9), (10, vi l10)] 317 [] Q) else (if l9 = 0 then (Zm E YX8_waysOfDelete (d + 1) M [(0, vr (some (97, 1, 0))), (1, vi l1), (2, vi l2), (4, vi l4), (5, vi l5), (6, vi l6), (7, vi l7), (8, vi l8), (9, vi l9), (10, vi l10)] 299 [] Q) else (Zm E YX8_field d M (zargs 0 [vr (some (97, 1, 0)), vi (639 : Int32), vi l7, vi l10]) 0 [] (zma E YX8_waysOfDelete (d + 1) [(0, vr (some (97, 1, 0))), (1, vi l1), (2, vi l2), (4, vi l4), (5, vi l5), (6, vi l6), (7, vi l7), (8, vi l8), (9, vi l9), (10, vi l10)] 293 3 [vr (some (97, 1, 0))] Q))))) : Zm E YX8_waysOfDelete (d + 1) M [(0, vr (some (97, 1, 0))), (1, vi l1), (2, vi l2), (4, vi l4), (5, vi l5), (6, vi l6), (7, vi l7), (8, vi l8), (9, vi l9), (10, vi l10)] 272 [vi s0, vr (some (178, 104, 15128))] Q := by
  obtain ⟨b_, k⟩ := k
  refine zm_zald dX8_waysOfDelete_272 b_ (by decide) (by decide) ?_
  refine Zm.brn (fun _ _ k1_ k2_ => z_if_ne (tgt := 279) dX8_waysOfDelete_273 rfl k1_ k2_) (fun h_ => ?_) (fun h_ => ?_)
  · have k := zif h_ k
    refine Zm.l (fun _ _ k_ => z_iload dX8_waysOfDelete_279 rfl k_) ?_
    refine Zm.br (fun _ _ k1_ k2_ => z_if_eq (tgt := 299) dX8_waysOfDelete_281 rfl k1_ k2_) (fun h_ => ?_) (fun h_ => ?_)
    · have k := zit h_ k
      exact k
    · have k := zif h_ k
      refine Zm.l (fun _ _ k_ => z_aload_n dX8_waysOfDelete_284 rfl rfl k_) ?_
      refine Zm.l (fun _ _ k_ => z_aload_n dX8_waysOfDelete_285 rfl rfl k_) ?_
      refine Zm.l (fun _ _ k_ => z_sipush (v := 639) dX8_waysOfDelete_286 rfl k_) ?_
      refine Zm.l (fun _ _ k_ => z_iload dX8_waysOfDelete_289 rfl k_) ?_
      refine Zm.l (fun _ _ k_ => z_iload dX8_waysOfDelete_291 rfl k_) ?_
      exact zm_callV (as := [vi (639 : Int32), vi l7, vi l10]) (st := [vr (some (97, 1, 0))]) dX8_waysOfDelete_293 vsX8_1163_1 (Nat.le_refl _) (Nat.le_of_ble_eq_true rfl) (Nat.le_of_ble_eq_true rfl) rfl k
  · have k := zit h_ k
    refine Zm.l (fun _ _ k_ => z_goto (tgt := 317) dX8_waysOfDelete_276 rfl k_) ?_
    exact k
theorem sX8_waysOfDelete_296 {E : zE} {d : Nat} {Q : zO → zM → Prop} (M : zM) (l1 : Int32) (l2 : Int32) (l4 : Int32) (l5 : Int32) (l6 : Int32) (l7 : Int32) (l8 : Int32) (l9 : Int32) (l10 : Int32) (s0 : Int32) (k : Zm E YX8_empty d M (zargs 0 [vr (some (97, 1, 0)), vi s0]) 0 [] (zma E YX8_waysOfDelete (d + 1) [(0, vr (some (97, 1, 0))), (1, vi l1), (2, vi l2), (4, vi l4), (5, vi l5), (6, vi l6), (7, vi l7), (8, vi l8), (9, vi l9), (10, vi l10)] 296 3 [] Q)) : Zm E YX8_waysOfDelete (d + 1) M [(0, vr (some (97, 1, 0))), (1, vi l1), (2, vi l2), (4, vi l4), (5, vi l5), (6, vi l6), (7, vi l7), (8, vi l8), (9, vi l9), (10, vi l10)] 296 [vi s0, vr (some (97, 1, 0))] Q := by
  exact zm_callV (as := [vi s0]) (st := []) dX8_waysOfDelete_296 vsX8_1066_1 (Nat.le_refl _) (Nat.le_of_ble_eq_true rfl) (Nat.le_of_ble_eq_true rfl) rfl k
theorem sX8_waysOfDelete_299 {E : zE} {d : Nat} {Q : zO → zM → Prop} (M : zM) (l1 : Int32) (l2 : Int32) (l4 : Int32) (l5 : Int32) (l6 : Int32) (l7 : Int32) (l8 : Int32) (l9 : Int32) (l10 : Int32) (k : Zm E YX8_field d M (zargs 0 [vr (some (97, 1, 0)), vi (639 : Int32), vi l7, vi l10]) 0 [] (zma E YX8_waysOfDelete (d + 1) [(0, vr (some (97, 1, 0))), (1, vi l1), (2, vi l2), (4, vi l4), (5, vi l5), (6, vi l6), (7, vi l7), (8, vi l8), (9, vi l9), (10, vi l10)] 308 3 [vr (some (97, 1, 0))] Q)) : Zm E YX8_waysOfDelete (d + 1) M [(0, vr (some (97, 1, 0))), (1, vi l1), (2, vi l2), (4, vi l4), (5, vi l5), (6, vi l6), (7, vi l7), (8, vi l8), (9, vi l9), (10, vi l10)] 299 [] Q := by
  refine Zm.l (fun _ _ k_ => z_aload_n dX8_waysOfDelete_299 rfl rfl k_) ?_
  refine Zm.l (fun _ _ k_ => z_aload_n dX8_waysOfDelete_300 rfl rfl k_) ?_
  refine Zm.l (fun _ _ k_ => z_sipush (v := 639) dX8_waysOfDelete_301 rfl k_) ?_
  refine Zm.l (fun _ _ k_ => z_iload dX8_waysOfDelete_304 rfl k_) ?_
  refine Zm.l (fun _ _ k_ => z_iload dX8_waysOfDelete_306 rfl k_) ?_
  exact zm_callV (as := [vi (639 : Int32), vi l7, vi l10]) (st := [vr (some (97, 1, 0))]) dX8_waysOfDelete_308 vsX8_1163_1 (Nat.le_refl _) (Nat.le_of_ble_eq_true rfl) (Nat.le_of_ble_eq_true rfl) rfl k
theorem sX8_waysOfDelete_311 {E : zE} {d : Nat} {Q : zO → zM → Prop} (M : zM) (l1 : Int32) (l2 : Int32) (l4 : Int32) (l5 : Int32) (l6 : Int32) (l7 : Int32) (l8 : Int32) (l9 : Int32) (l10 : Int32) (s0 : Int32) (k : Zm E YX8_addSort d M (zargs 0 [vr (some (97, 1, 0)), vi s0, vi (512 : Int32)]) 0 [] (zma E YX8_waysOfDelete (d + 1) [(0, vr (some (97, 1, 0))), (1, vi l1), (2, vi l2), (4, vi l4), (5, vi l5), (6, vi l6), (7, vi l7), (8, vi l8), (9, vi l9), (10, vi l10)] 314 3 [] Q)) : Zm E YX8_waysOfDelete (d + 1) M [(0, vr (some (97, 1, 0))), (1, vi l1), (2, vi l2), (4, vi l4), (5, vi l5), (6, vi l6), (7, vi l7), (8, vi l8), (9, vi l9), (10, vi l10)] 311 [vi s0, vr (some (97, 1, 0))] Q := by
  refine Zm.l (fun _ _ k_ => z_sipush (v := 512) dX8_waysOfDelete_311 rfl k_) ?_
  exact zm_callV (as := [vi s0, vi (512 : Int32)]) (st := []) dX8_waysOfDelete_314 vsX8_1072_1 (Nat.le_refl _) (Nat.le_of_ble_eq_true rfl) (Nat.le_of_ble_eq_true rfl) rfl k
theorem sX8_waysOfDelete_317 {E : zE} {d : Nat} {Q : zO → zM → Prop} (M : zM) (l1 : Int32) (l2 : Int32) (l4 : Int32) (l5 : Int32) (l6 : Int32) (l7 : Int32) (l8 : Int32) (l9 : Int32) (l10 : Int32) (k : Zm E YX8_waysOfDelete (d + 1) M [(0, vr (some (97, 1, 0))), (1, vi l1), (2, vi l2), (4, vi l4), (5, vi l5), (6, vi l6), (7, vi l7), (8, vi l8), (9, vi l9), (10, vi (l10 + (1 : Int32)))] 231 [] Q) : Zm E YX8_waysOfDelete (d + 1) M [(0, vr (some (97, 1, 0))), (1, vi l1), (2, vi l2), (4, vi l4), (5, vi l5), (6, vi l6), (7, vi l7), (8, vi l8), (9, vi l9), (10, vi l10)] 317 [] Q := by
  refine Zm.l (fun _ _ k_ => z_inc (v := (l10 + (1 : Int32))) dX8_waysOfDelete_317 rfl rfl (by decide) (lv' := [(0, vr (some (97, 1, 0))), (1, vi l1), (2, vi l2), (4, vi l4), (5, vi l5), (6, vi l6), (7, vi l7), (8, vi l8), (9, vi l9), (10, vi (l10 + (1 : Int32)))]) rfl k_) ?_
  refine Zm.l (fun _ _ k_ => z_goto (tgt := 231) dX8_waysOfDelete_320 rfl k_) ?_
  exact k
theorem sX8_waysOfDelete_340 {E : zE} {d : Nat} {Q : zO → zM → Prop} (M : zM) (l2 : Int32) (l4 : Int32) (l5 : Int32) (l7 : Int32) (k : if l4 = 0 then (if l4 = 0 then (Zm E YX8_addSort d M (zargs 0 [vr (some (97, 1, 0)), vi l7, vi (4 : Int32)]) 0 [] (zma E YX8_waysOfDelete (d + 1) [(0, vr (some (97, 1, 0))), (2, vi l2), (7, vi l7)] 369 3 [] Q)) else (Zm E YX8_addSort d M (zargs 0 [vr (some (97, 1, 0)), vi l7, vi (12 : Int32)]) 0 [] (zma E YX8_waysOfDelete (d + 1) [(0, vr (some (97, 1, 0))), (2, vi l2), (7, vi l7)] 369 3 [] Q))) else (if l5 = 0 then (if l4 = 0 then (Zm E YX8_addSort d M (zargs 0 [vr (some (97, 1, 0)), vi l7, vi (4 : Int32)]) 0 [] (zma E YX8_waysOfDelete (d + 1) [(0, vr (some (97, 1, 0))), (2, vi l2), (7, vi l7)] 369 3 [] Q)) else (Zm E YX8_addSort d M (zargs 0 [vr (some (97, 1, 0)), vi l7, vi (12 : Int32)]) 0 [] (zma E YX8_waysOfDelete (d + 1) [(0, vr (some (97, 1, 0))), (2, vi l2), (7, vi l7)] 369 3 [] Q))) else (Zm E YX8_addSort d M (zargs 0 [vr (some (97, 1, 0)), vi l7, vi (8 : Int32)]) 0 [] (zma E YX8_waysOfDelete (d + 1) [(0, vr (some (97, 1, 0))), (2, vi l2), (7, vi l7)] 369 3 [] Q)))) : Zm E YX8_waysOfDelete (d + 1) M [(0, vr (some (97, 1, 0))), (2, vi l2), (4, vi l4), (5, vi l5), (7, vi l7)] 340 [] Q := by
  refine Zm.l (fun _ _ k_ => z_aload_n dX8_waysOfDelete_340 rfl rfl k_) ?_
  refine Zm.l (fun _ _ k_ => z_iload dX8_waysOfDelete_341 rfl k_) ?_
  refine Zm.l (fun _ _ k_ => z_iload dX8_waysOfDelete_343 rfl k_) ?_
  refine Zm.br (fun _ _ k1_ k2_ => z_if_eq (tgt := 358) dX8_waysOfDelete_345 rfl k1_ k2_) (fun h_ => ?_) (fun h_ => ?_)
  · have k := zit h_ k
    refine Zm.l (fun _ _ k_ => z_iload dX8_waysOfDelete_358 rfl k_) ?_
    refine Zm.br (fun _ _ k1_ k2_ => z_if_eq (tgt := 368) dX8_waysOfDelete_360 rfl k1_ k2_) (fun h_ => ?_) (fun h_ => ?_)
    · have k := zit h_ k
      refine Zm.l (fun _ _ k_ => z_iconst (v := 4) dX8_waysOfDelete_368 rfl k_) ?_
      refine Zm.pick [0, 1, 4] rfl ?_
      exact zm_callV (as := [vi l7, vi (4 : Int32)]) (st := []) dX8_waysOfDelete_369 vsX8_1072_1 (Nat.le_refl _) (Nat.le_of_ble_eq_true rfl) (Nat.le_of_ble_eq_true rfl) rfl k
    · have k := zif h_ k
      refine Zm.l (fun _ _ k_ => z_bipush (v := 12) dX8_waysOfDelete_363 rfl k_) ?_
      refine Zm.l (fun _ _ k_ => z_goto (tgt := 369) dX8_waysOfDelete_365 rfl k_) ?_
      refine Zm.pick [0, 1, 4] rfl ?_
      exact zm_callV (as := [vi l7, vi (12 : Int32)]) (st := []) dX8_waysOfDelete_369 vsX8_1072_1 (Nat.le_refl _) (Nat.le_of_ble_eq_true rfl) (Nat.le_of_ble_eq_true rfl) rfl k
  · have k := zif h_ k
    refine Zm.l (fun _ _ k_ => z_iload dX8_waysOfDelete_348 rfl k_) ?_
    refine Zm.br (fun _ _ k1_ k2_ => z_if_eq (tgt := 358) dX8_waysOfDelete_350 rfl k1_ k2_) (fun h_ => ?_) (fun h_ => ?_)
    · have k := zit h_ k
      refine Zm.l (fun _ _ k_ => z_iload dX8_waysOfDelete_358 rfl k_) ?_
      refine Zm.br (fun _ _ k1_ k2_ => z_if_eq (tgt := 368) dX8_waysOfDelete_360 rfl k1_ k2_) (fun h_ => ?_) (fun h_ => ?_)
      · have k := zit h_ k
        refine Zm.l (fun _ _ k_ => z_iconst (v := 4) dX8_waysOfDelete_368 rfl k_) ?_
        refine Zm.pick [0, 1, 4] rfl ?_
        exact zm_callV (as := [vi l7, vi (4 : Int32)]) (st := []) dX8_waysOfDelete_369 vsX8_1072_1 (Nat.le_refl _) (Nat.le_of_ble_eq_true rfl) (Nat.le_of_ble_eq_true rfl) rfl k
      · have k := zif h_ k
        refine Zm.l (fun _ _ k_ => z_bipush (v := 12) dX8_waysOfDelete_363 rfl k_) ?_
        refine Zm.l (fun _ _ k_ => z_goto (tgt := 369) dX8_waysOfDelete_365 rfl k_) ?_
        refine Zm.pick [0, 1, 4] rfl ?_
        exact zm_callV (as := [vi l7, vi (12 : Int32)]) (st := []) dX8_waysOfDelete_369 vsX8_1072_1 (Nat.le_refl _) (Nat.le_of_ble_eq_true rfl) (Nat.le_of_ble_eq_true rfl) rfl k
    · have k := zif h_ k
      refine Zm.l (fun _ _ k_ => z_bipush (v := 8) dX8_waysOfDelete_353 rfl k_) ?_
      refine Zm.l (fun _ _ k_ => z_goto (tgt := 369) dX8_waysOfDelete_355 rfl k_) ?_
      refine Zm.pick [0, 1, 4] rfl ?_
      exact zm_callV (as := [vi l7, vi (8 : Int32)]) (st := []) dX8_waysOfDelete_369 vsX8_1072_1 (Nat.le_refl _) (Nat.le_of_ble_eq_true rfl) (Nat.le_of_ble_eq_true rfl) rfl k
theorem sX8_waysOfDelete_372 {E : zE} {d : Nat} {Q : zO → zM → Prop} (M : zM) (l2 : Int32) (l7 : Int32) (k : Zm E YX8_replace d M (zargs 0 [vr (some (97, 1, 0)), vi (2 : Int32), vi l7]) 0 [] (zma E YX8_waysOfDelete (d + 1) [(0, vr (some (97, 1, 0))), (2, vi l2)] 376 3 [] Q)) : Zm E YX8_waysOfDelete (d + 1) M [(0, vr (some (97, 1, 0))), (2, vi l2), (7, vi l7)] 372 [] Q := by
  refine Zm.l (fun _ _ k_ => z_aload_n dX8_waysOfDelete_372 rfl rfl k_) ?_
  refine Zm.l (fun _ _ k_ => z_iconst (v := 2) dX8_waysOfDelete_373 rfl k_) ?_
  refine Zm.l (fun _ _ k_ => z_iload dX8_waysOfDelete_374 rfl k_) ?_
  refine Zm.pick [0, 1] rfl ?_
  exact zm_callV (as := [vi (2 : Int32), vi l7]) (st := []) dX8_waysOfDelete_376 vsX8_1258_1 (Nat.le_refl _) (Nat.le_of_ble_eq_true rfl) (Nat.le_of_ble_eq_true rfl) rfl k
theorem sX8_waysOfDelete_379 {E : zE} {d : Nat} {Q : zO → zM → Prop} (M : zM) (l2 : Int32) (k : if (l2 &&& (3 : Int32)) = 0 then (Zm E YX8_waysOfDelete (d + 1) M [] 395 [] Q) else (Zm E YX8_error_2 d M (zargs 0 [vr (some (97, 1, 0)), vi (gi M 97 148), vi (6 : Int32)]) 0 [] (zma E YX8_waysOfDelete (d + 1) [] 392 3 [] Q))) : Zm E YX8_waysOfDelete (d + 1) M [(0, vr (some (97, 1, 0))), (2, vi l2)] 379 [] Q := by
  refine Zm.l (fun _ _ k_ => z_iload_n dX8_waysOfDelete_379 rfl rfl k_) ?_
  refine Zm.l (fun _ _ k_ => z_iconst (v := 3) dX8_waysOfDelete_380 rfl k_) ?_
  refine Zm.l (fun _ _ k_ => z_iand dX8_waysOfDelete_381 k_) ?_
  refine Zm.br (fun _ _ k1_ k2_ => z_if_eq (tgt := 395) dX8_waysOfDelete_382 rfl k1_ k2_) (fun h_ => ?_) (fun h_ => ?_)
  · have k := zit h_ k
    refine Zm.pick [] rfl ?_
    exact k
  · have k := zif h_ k
    refine Zm.l (fun _ _ k_ => z_aload_n dX8_waysOfDelete_385 rfl rfl k_) ?_
    refine Zm.l (fun _ _ k_ => z_aload_n dX8_waysOfDelete_386 rfl rfl k_) ?_
    refine zm_geti dX8_waysOfDelete_387 fsX8_1188_1 (by decide) (by decide) ?_
    refine Zm.l (fun _ _ k_ => z_bipush (v := 6) dX8_waysOfDelete_390 rfl k_) ?_
    refine Zm.pick [] rfl ?_
    exact zm_callV (as := [vi (gi M 97 148), vi (6 : Int32)]) (st := []) dX8_waysOfDelete_392 vsX8_1292_1 (Nat.le_refl _) (Nat.le_of_ble_eq_true rfl) (Nat.le_of_ble_eq_true rfl) rfl k
theorem sX8_waysOfDelete_395 {E : zE} {d : Nat} {Q : zO → zM → Prop} (M : zM)  (k : Q (.inl none) M) : Zm E YX8_waysOfDelete (d + 1) M [] 395 [] Q := by
  exact zm_vret dX8_waysOfDelete_395 rfl k
/-! ScriptTypesModel.unarySet(III)V -/
theorem bX8_unarySet_0 : zdec cX8_unarySet 0 [(0, .aload_n 0, 1), (1, .iload_n 3, 1), (2, .invokevirtual 1066, 3), (5, .iload_n 1, 1), (6, .iconst 4, 1), (7, .if_icmp .ne 12, 3), (10, .aload_n 0, 1), (11, .iload_n 2, 1), (12, .iload_n 3, 1), (13, .invokevirtual 1289, 3), (16, .goto 96, 3), (19, .aload_n 0, 1), (20, .iload_n 2, 1), (21, .invokevirtual 1294, 3), (24, .ifCond .eq 34, 3), (27, .aload_n 0, 1)] = true := by decide +kernel
theorem dX8_unarySet_0 : decode cX8_unarySet 0 = .ok (.aload_n 0, 1) := zdec_at bX8_unarySet_0 0 rfl
theorem dX8_unarySet_1 : decode cX8_unarySet 1 = .ok (.iload_n 3, 1) := zdec_at bX8_unarySet_0 1 rfl
theorem dX8_unarySet_2 : decode cX8_unarySet 2 = .ok (.invokevirtual 1066, 3) := zdec_at bX8_unarySet_0 2 rfl
theorem dX8_unarySet_5 : decode cX8_unarySet 5 = .ok (.iload_n 1, 1) := zdec_at bX8_unarySet_0 3 rfl
theorem dX8_unarySet_6 : decode cX8_unarySet 6 = .ok (.iconst 4, 1) := zdec_at bX8_unarySet_0 4 rfl
theorem dX8_unarySet_7 : decode cX8_unarySet 7 = .ok (.if_icmp .ne 12, 3) := zdec_at bX8_unarySet_0 5 rfl
theorem dX8_unarySet_10 : decode cX8_unarySet 10 = .ok (.aload_n 0, 1) := zdec_at bX8_unarySet_0 6 rfl
theorem dX8_unarySet_11 : decode cX8_unarySet 11 = .ok (.iload_n 2, 1) := zdec_at bX8_unarySet_0 7 rfl
theorem dX8_unarySet_12 : decode cX8_unarySet 12 = .ok (.iload_n 3, 1) := zdec_at bX8_unarySet_0 8 rfl
theorem dX8_unarySet_13 : decode cX8_unarySet 13 = .ok (.invokevirtual 1289, 3) := zdec_at bX8_unarySet_0 9 rfl
theorem dX8_unarySet_16 : decode cX8_unarySet 16 = .ok (.goto 96, 3) := zdec_at bX8_unarySet_0 10 rfl
theorem dX8_unarySet_19 : decode cX8_unarySet 19 = .ok (.aload_n 0, 1) := zdec_at bX8_unarySet_0 11 rfl
theorem dX8_unarySet_20 : decode cX8_unarySet 20 = .ok (.iload_n 2, 1) := zdec_at bX8_unarySet_0 12 rfl
theorem dX8_unarySet_21 : decode cX8_unarySet 21 = .ok (.invokevirtual 1294, 3) := zdec_at bX8_unarySet_0 13 rfl
theorem dX8_unarySet_24 : decode cX8_unarySet 24 = .ok (.ifCond .eq 34, 3) := zdec_at bX8_unarySet_0 14 rfl
theorem dX8_unarySet_27 : decode cX8_unarySet 27 = .ok (.aload_n 0, 1) := zdec_at bX8_unarySet_0 15 rfl
theorem bX8_unarySet_28 : zdec cX8_unarySet 28 [(28, .iload_n 1, 1), (29, .aload_n 0, 1), (30, .iload_n 2, 1), (31, .invokevirtual 1297, 3), (34, .aload_n 0, 1), (35, .iload_n 2, 1), (36, .invokevirtual 1300, 3), (39, .invokevirtual 940, 3), (42, .aload_n 0, 1), (43, .iload_n 3, 1), (44, .aload_n 0, 1), (45, .getfield 788, 3), (48, .aload_n 0, 1), (49, .getfield 791, 3), (52, .invokevirtual 1219, 3), (55, .goto 57, 3)] = true := by decide +kernel
theorem dX8_unarySet_28 : decode cX8_unarySet 28 = .ok (.iload_n 1, 1) := zdec_at bX8_unarySet_28 0 rfl
theorem dX8_unarySet_29 : decode cX8_unarySet 29 = .ok (.aload_n 0, 1) := zdec_at bX8_unarySet_28 1 rfl
theorem dX8_unarySet_30 : decode cX8_unarySet 30 = .ok (.iload_n 2, 1) := zdec_at bX8_unarySet_28 2 rfl
theorem dX8_unarySet_31 : decode cX8_unarySet 31 = .ok (.invokevirtual 1297, 3) := zdec_at bX8_unarySet_28 3 rfl
theorem dX8_unarySet_34 : decode cX8_unarySet 34 = .ok (.aload_n 0, 1) := zdec_at bX8_unarySet_28 4 rfl
theorem dX8_unarySet_35 : decode cX8_unarySet 35 = .ok (.iload_n 2, 1) := zdec_at bX8_unarySet_28 5 rfl
theorem dX8_unarySet_36 : decode cX8_unarySet 36 = .ok (.invokevirtual 1300, 3) := zdec_at bX8_unarySet_28 6 rfl
theorem dX8_unarySet_39 : decode cX8_unarySet 39 = .ok (.invokevirtual 940, 3) := zdec_at bX8_unarySet_28 7 rfl
theorem dX8_unarySet_42 : decode cX8_unarySet 42 = .ok (.aload_n 0, 1) := zdec_at bX8_unarySet_28 8 rfl
theorem dX8_unarySet_43 : decode cX8_unarySet 43 = .ok (.iload_n 3, 1) := zdec_at bX8_unarySet_28 9 rfl
theorem dX8_unarySet_44 : decode cX8_unarySet 44 = .ok (.aload_n 0, 1) := zdec_at bX8_unarySet_28 10 rfl
theorem dX8_unarySet_45 : decode cX8_unarySet 45 = .ok (.getfield 788, 3) := zdec_at bX8_unarySet_28 11 rfl
theorem dX8_unarySet_48 : decode cX8_unarySet 48 = .ok (.aload_n 0, 1) := zdec_at bX8_unarySet_28 12 rfl
theorem dX8_unarySet_49 : decode cX8_unarySet 49 = .ok (.getfield 791, 3) := zdec_at bX8_unarySet_28 13 rfl
theorem dX8_unarySet_52 : decode cX8_unarySet 52 = .ok (.invokevirtual 1219, 3) := zdec_at bX8_unarySet_28 14 rfl
theorem dX8_unarySet_55 : decode cX8_unarySet 55 = .ok (.goto 57, 3) := zdec_at bX8_unarySet_28 15 rfl
theorem bX8_unarySet_58 : zdec cX8_unarySet 58 [(58, .iload_n 1, 1), (59, .iconst 3, 1), (60, .if_icmp .ge 23, 3), (63, .aload_n 0, 1), (64, .iload_n 3, 1), (65, .iload_n 1, 1), (66, .iconst 2, 1), (67, .if_icmp .ne 8, 3), (70, .bipush 64, 2), (72, .goto 5, 3), (75, .bipush 80, 2), (77, .invokevirtual 1072, 3), (80, .goto 32, 3), (83, .aload_n 0, 1), (84, .iload_n 2, 1), (85, .invokevirtual 1286, 3)] = true := by decide +kernel
theorem dX8_unarySet_58 : decode cX8_unarySet 58 = .ok (.iload_n 1, 1) := zdec_at bX8_unarySet_58 0 rfl
theorem dX8_unarySet_59 : decode cX8_unarySet 59 = .ok (.iconst 3, 1) := zdec_at bX8_unarySet_58 1 rfl
theorem dX8_unarySet_60 : decode cX8_unarySet 60 = .ok (.if_icmp .ge 23, 3) := zdec_at bX8_unarySet_58 2 rfl
theorem dX8_unarySet_63 : decode cX8_unarySet 63 = .ok (.aload_n 0, 1) := zdec_at bX8_unarySet_58 3 rfl
theorem dX8_unarySet_64 : decode cX8_unarySet 64 = .ok (.iload_n 3, 1) := zdec_at bX8_unarySet_58 4 rfl
theorem dX8_unarySet_65 : decode cX8_unarySet 65 = .ok (.iload_n 1, 1) := zdec_at bX8_unarySet_58 5 rfl
theorem dX8_unarySet_66 : decode cX8_unarySet 66 = .ok (.iconst 2, 1) := zdec_at bX8_unarySet_58 6 rfl
theorem dX8_unarySet_67 : decode cX8_unarySet 67 = .ok (.if_icmp .ne 8, 3) := zdec_at bX8_unarySet_58 7 rfl
theorem dX8_unarySet_70 : decode cX8_unarySet 70 = .ok (.bipush 64, 2) := zdec_at bX8_unarySet_58 8 rfl
theorem dX8_unarySet_72 : decode cX8_unarySet 72 = .ok (.goto 5, 3) := zdec_at bX8_unarySet_58 9 rfl
theorem dX8_unarySet_75 : decode cX8_unarySet 75 = .ok (.bipush 80, 2) := zdec_at bX8_unarySet_58 10 rfl
theorem dX8_unarySet_77 : decode cX8_unarySet 77 = .ok (.invokevirtual 1072, 3) := zdec_at bX8_unarySet_58 11 rfl
theorem dX8_unarySet_80 : decode cX8_unarySet 80 = .ok (.goto 32, 3) := zdec_at bX8_unarySet_58 12 rfl
theorem dX8_unarySet_83 : decode cX8_unarySet 83 = .ok (.aload_n 0, 1) := zdec_at bX8_unarySet_58 13 rfl
theorem dX8_unarySet_84 : decode cX8_unarySet 84 = .ok (.iload_n 2, 1) := zdec_at bX8_unarySet_58 14 rfl
theorem dX8_unarySet_85 : decode cX8_unarySet 85 = .ok (.invokevirtual 1286, 3) := zdec_at bX8_unarySet_58 15 rfl
theorem bX8_unarySet_88 : zdec cX8_unarySet 88 [(88, .ifCond .eq 9, 3), (91, .aload_n 0, 1), (92, .iload_n 3, 1), (93, .iconst 4, 1), (94, .invokevirtual 1072, 3), (97, .aload_n 0, 1), (98, .iload_n 2, 1), (99, .invokevirtual 1283, 3), (102, .ifCond .eq 10, 3), (105, .aload_n 0, 1), (106, .iload_n 3, 1), (107, .bipush 8, 2), (109, .invokevirtual 1072, 3), (112, .return_, 1)] = true := by decide +kernel
theorem dX8_unarySet_88 : decode cX8_unarySet 88 = .ok (.ifCond .eq 9, 3) := zdec_at bX8_unarySet_88 0 rfl
theorem dX8_unarySet_91 : decode cX8_unarySet 91 = .ok (.aload_n 0, 1) := zdec_at bX8_unarySet_88 1 rfl
theorem dX8_unarySet_92 : decode cX8_unarySet 92 = .ok (.iload_n 3, 1) := zdec_at bX8_unarySet_88 2 rfl
theorem dX8_unarySet_93 : decode cX8_unarySet 93 = .ok (.iconst 4, 1) := zdec_at bX8_unarySet_88 3 rfl
theorem dX8_unarySet_94 : decode cX8_unarySet 94 = .ok (.invokevirtual 1072, 3) := zdec_at bX8_unarySet_88 4 rfl
theorem dX8_unarySet_97 : decode cX8_unarySet 97 = .ok (.aload_n 0, 1) := zdec_at bX8_unarySet_88 5 rfl
theorem dX8_unarySet_98 : decode cX8_unarySet 98 = .ok (.iload_n 2, 1) := zdec_at bX8_unarySet_88 6 rfl
theorem dX8_unarySet_99 : decode cX8_unarySet 99 = .ok (.invokevirtual 1283, 3) := zdec_at bX8_unarySet_88 7 rfl
theorem dX8_unarySet_102 : decode cX8_unarySet 102 = .ok (.ifCond .eq 10, 3) := zdec_at bX8_unarySet_88 8 rfl
theorem dX8_unarySet_105 : decode cX8_unarySet 105 = .ok (.aload_n 0, 1) := zdec_at bX8_unarySet_88 9 rfl
theorem dX8_unarySet_106 : decode cX8_unarySet 106 = .ok (.iload_n 3, 1) := zdec_at bX8_unarySet_88 10 rfl
theorem dX8_unarySet_107 : decode cX8_unarySet 107 = .ok (.bipush 8, 2) := zdec_at bX8_unarySet_88 11 rfl
theorem dX8_unarySet_109 : decode cX8_unarySet 109 = .ok (.invokevirtual 1072, 3) := zdec_at bX8_unarySet_88 12 rfl
theorem dX8_unarySet_112 : decode cX8_unarySet 112 = .ok (.return_, 1) := zdec_at bX8_unarySet_88 13 rfl
theorem sX8_unarySet_0 {E : zE} {d : Nat} {Q : zO → zM → Prop} (M : zM) (l1 : Int32) (l2 : Int32) (l3 : Int32) (k : Zm E YX8_empty d M (zargs 0 [vr (some (97, 1, 0)), vi l3]) 0 [] (zma E YX8_unarySet (d + 1) [(0, vr (some (97, 1, 0))), (1, vi l1), (2, vi l2), (3, vi l3)] 2 3 [] Q)) : Zm E YX8_unarySet (d + 1) M [(0, vr (some (97, 1, 0))), (1, vi l1), (2, vi l2), (3, vi l3)] 0 [] Q := by
  refine Zm.l (fun _ _ k_ => z_aload_n dX8_unarySet_0 rfl rfl k_) ?_
  refine Zm.l (fun _ _ k_ => z_iload_n dX8_unarySet_1 rfl rfl k_) ?_
  exact zm_callV (as := [vi l3]) (st := []) dX8_unarySet_2 vsX8_1066_1 (Nat.le_refl _) (Nat.le_of_ble_eq_true rfl) (Nat.le_of_ble_eq_true rfl) rfl k
theorem sX8_unarySet_5 {E : zE} {d : Nat} {Q : zO → zM → Prop} (M : zM) (l1 : Int32) (l2 : Int32) (l3 : Int32) (k : if l1 = (4 : Int32) then (Zm E YX8_typesOf d M (zargs 0 [vr (some (97, 1, 0)), vi l2, vi l3]) 0 [] (zma E YX8_unarySet (d + 1) [] 13 3 [] Q)) else (Zm E YX8_isAlone d M (zargs 0 [vr (some (97, 1, 0)), vi l2]) 0 [] (zma E YX8_unarySet (d + 1) [(0, vr (some (97, 1, 0))), (1, vi l1), (2, vi l2), (3, vi l3)] 21 3 [] Q))) : Zm E YX8_unarySet (d + 1) M [(0, vr (some (97, 1, 0))), (1, vi l1), (2, vi l2), (3, vi l3)] 5 [] Q := by
  refine Zm.l (fun _ _ k_ => z_iload_n dX8_unarySet_5 rfl rfl k_) ?_
  refine Zm.l (fun _ _ k_ => z_iconst (v := 4) dX8_unarySet_6 rfl k_) ?_
  refine Zm.brn (fun _ _ k1_ k2_ => z_icmp_ne (tgt := 19) dX8_unarySet_7 rfl k1_ k2_) (fun h_ => ?_) (fun h_ => ?_)
  · have k := zif h_ k
    refine Zm.l (fun _ _ k_ => z_aload_n dX8_unarySet_19 rfl rfl k_) ?_
    refine Zm.l (fun _ _ k_ => z_iload_n dX8_unarySet_20 rfl rfl k_) ?_
    exact zm_callV (as := [vi l2]) (st := []) dX8_unarySet_21 vsX8_1294_1 (Nat.le_refl _) (Nat.le_of_ble_eq_true rfl) (Nat.le_of_ble_eq_true rfl) rfl k
  · have k := zit h_ k
    refine Zm.l (fun _ _ k_ => z_aload_n dX8_unarySet_10 rfl rfl k_) ?_
    refine Zm.l (fun _ _ k_ => z_iload_n dX8_unarySet_11 rfl rfl k_) ?_
    refine Zm.l (fun _ _ k_ => z_iload_n dX8_unarySet_12 rfl rfl k_) ?_
    refine Zm.pick [] rfl ?_
    exact zm_callV (as := [vi l2, vi l3]) (st := []) dX8_unarySet_13 vsX8_1289_1 (Nat.le_refl _) (Nat.le_of_ble_eq_true rfl) (Nat.le_of_ble_eq_true rfl) rfl k
theorem sX8_unarySet_16 {E : zE} {d : Nat} {Q : zO → zM → Prop} (M : zM)  (k : Zm E YX8_unarySet (d + 1) M [] 112 [] Q) : Zm E YX8_unarySet (d + 1) M [] 16 [] Q := by
  refine Zm.l (fun _ _ k_ => z_goto (tgt := 112) dX8_unarySet_16 rfl k_) ?_
  exact k
theorem sX8_unarySet_24 {E : zE} {d : Nat} {Q : zO → zM → Prop} (M : zM) (l1 : Int32) (l2 : Int32) (l3 : Int32) (s0 : Int32) (k : if s0 = 0 then (if (3 : Int32) ≤ l1 then (Zm E YX8_mayBeFalse d M (zargs 0 [vr (some (97, 1, 0)), vi l2]) 0 [] (zma E YX8_unarySet (d + 1) [(0, vr (some (97, 1, 0))), (2, vi l2), (3, vi l3)] 85 3 [] Q)) else (if l1 = (2 : Int32) then (Zm E YX8_addSort d M (zargs 0 [vr (some (97, 1, 0)), vi l3, vi (64 : Int32)]) 0 [] (zma E YX8_unarySet (d + 1) [] 77 3 [] Q)) else (Zm E YX8_addSort d M (zargs 0 [vr (some (97, 1, 0)), vi l3, vi (80 : Int32)]) 0 [] (zma E YX8_unarySet (d + 1) [] 77 3 [] Q)))) else (Zm E YX8_sortOfAlone d M (zargs 0 [vr (some (97, 1, 0)), vi l2]) 0 [] (zma E YX8_unarySet (d + 1) [(0, vr (some (97, 1, 0))), (2, vi l2), (3, vi l3)] 31 3 [vi l1, vr (some (97, 1, 0))] Q))) : Zm E YX8_unarySet (d + 1) M [(0, vr (some (97, 1, 0))), (1, vi l1), (2, vi l2), (3, vi l3)] 24 [vi s0] Q := by
  refine Zm.br (fun _ _ k1_ k2_ => z_if_eq (tgt := 58) dX8_unarySet_24 rfl k1_ k2_) (fun h_ => ?_) (fun h_ => ?_)
  · have k := zit h_ k
    refine Zm.l (fun _ _ k_ => z_iload_n dX8_unarySet_58 rfl rfl k_) ?_
    refine Zm.l (fun _ _ k_ => z_iconst (v := 3) dX8_unarySet_59 rfl k_) ?_
    refine Zm.br (fun _ _ k1_ k2_ => z_icmp_ge (tgt := 83) dX8_unarySet_60 rfl k1_ k2_) (fun h_ => ?_) (fun h_ => ?_)
    · have k := zit h_ k
      refine Zm.l (fun _ _ k_ => z_aload_n dX8_unarySet_83 rfl rfl k_) ?_
      refine Zm.l (fun _ _ k_ => z_iload_n dX8_unarySet_84 rfl rfl k_) ?_
      refine Zm.pick [0, 2, 3] rfl ?_
      exact zm_callV (as := [vi l2]) (st := []) dX8_unarySet_85 vsX8_1286_1 (Nat.le_refl _) (Nat.le_of_ble_eq_true rfl) (Nat.le_of_ble_eq_true rfl) rfl k
    · have k := zif h_ k
      refine Zm.l (fun _ _ k_ => z_aload_n dX8_unarySet_63 rfl rfl k_) ?_
      refine Zm.l (fun _ _ k_ => z_iload_n dX8_unarySet_64 rfl rfl k_) ?_
      refine Zm.l (fun _ _ k_ => z_iload_n dX8_unarySet_65 rfl rfl k_) ?_
      refine Zm.l (fun _ _ k_ => z_iconst (v := 2) dX8_unarySet_66 rfl k_) ?_
      refine Zm.brn (fun _ _ k1_ k2_ => z_icmp_ne (tgt := 75) dX8_unarySet_67 rfl k1_ k2_) (fun h_ => ?_) (fun h_ => ?_)
      · have k := zif h_ k
        refine Zm.l (fun _ _ k_ => z_bipush (v := 80) dX8_unarySet_75 rfl k_) ?_
        refine Zm.pick [] rfl ?_
        exact zm_callV (as := [vi l3, vi (80 : Int32)]) (st := []) dX8_unarySet_77 vsX8_1072_1 (Nat.le_refl _) (Nat.le_of_ble_eq_true rfl) (Nat.le_of_ble_eq_true rfl) rfl k
      · have k := zit h_ k
        refine Zm.l (fun _ _ k_ => z_bipush (v := 64) dX8_unarySet_70 rfl k_) ?_
        refine Zm.l (fun _ _ k_ => z_goto (tgt := 77) dX8_unarySet_72 rfl k_) ?_
        refine Zm.pick [] rfl ?_
        exact zm_callV (as := [vi l3, vi (64 : Int32)]) (st := []) dX8_unarySet_77 vsX8_1072_1 (Nat.le_refl _) (Nat.le_of_ble_eq_true rfl) (Nat.le_of_ble_eq_true rfl) rfl k
  · have k := zif h_ k
    refine Zm.l (fun _ _ k_ => z_aload_n dX8_unarySet_27 rfl rfl k_) ?_
    refine Zm.l (fun _ _ k_ => z_iload_n dX8_unarySet_28 rfl rfl k_) ?_
    refine Zm.l (fun _ _ k_ => z_aload_n dX8_unarySet_29 rfl rfl k_) ?_
    refine Zm.l (fun _ _ k_ => z_iload_n dX8_unarySet_30 rfl rfl k_) ?_
    refine Zm.pick [0, 2, 3] rfl ?_
    exact zm_callV (as := [vi l2]) (st := [vi l1, vr (some (97, 1, 0))]) dX8_unarySet_31 vsX8_1297_1 (Nat.le_refl _) (Nat.le_of_ble_eq_true rfl) (Nat.le_of_ble_eq_true rfl) rfl k
theorem sX8_unarySet_34 {E : zE} {d : Nat} {Q : zO → zM → Prop} (M : zM) (l2 : Int32) (l3 : Int32) (s0 : Int32) (s1 : Int32) (k : Zm E YX8_valueOfAlone d M (zargs 0 [vr (some (97, 1, 0)), vi l2]) 0 [] (zma E YX8_unarySet (d + 1) [(0, vr (some (97, 1, 0))), (3, vi l3)] 36 3 [vi s0, vi s1, vr (some (97, 1, 0))] Q)) : Zm E YX8_unarySet (d + 1) M [(0, vr (some (97, 1, 0))), (2, vi l2), (3, vi l3)] 34 [vi s0, vi s1, vr (some (97, 1, 0))] Q := by
  refine Zm.l (fun _ _ k_ => z_aload_n dX8_unarySet_34 rfl rfl k_) ?_
  refine Zm.l (fun _ _ k_ => z_iload_n dX8_unarySet_35 rfl rfl k_) ?_
  refine Zm.pick [0, 2] rfl ?_
  exact zm_callV (as := [vi l2]) (st := [vi s0, vi s1, vr (some (97, 1, 0))]) dX8_unarySet_36 vsX8_1300_1 (Nat.le_refl _) (Nat.le_of_ble_eq_true rfl) (Nat.le_of_ble_eq_true rfl) rfl k
theorem sX8_unarySet_39 {E : zE} {d : Nat} {Q : zO → zM → Prop} (M : zM) (l3 : Int32) (s0 : Int32) (s1 : Int32) (s2 : Int32) (k : Zm E YX8_unaryOf d M (zargs 0 [vr (some (97, 1, 0)), vi s2, vi s1, vi s0]) 0 [] (zma E YX8_unarySet (d + 1) [(0, vr (some (97, 1, 0))), (3, vi l3)] 39 3 [] Q)) : Zm E YX8_unarySet (d + 1) M [(0, vr (some (97, 1, 0))), (3, vi l3)] 39 [vi s0, vi s1, vi s2, vr (some (97, 1, 0))] Q := by
  exact zm_callV (as := [vi s2, vi s1, vi s0]) (st := []) dX8_unarySet_39 vsX8_940_1 (Nat.le_refl _) (Nat.le_of_ble_eq_true rfl) (Nat.le_of_ble_eq_true rfl) rfl k
theorem sX8_unarySet_42 {E : zE} {d : Nat} {Q : zO → zM → Prop} (M : zM) (l3 : Int32) (k : Zm E YX8_addValue d M (zargs 0 [vr (some (97, 1, 0)), vi l3, vi (gi M 97 111), vi (gi M 97 112)]) 0 [] (zma E YX8_unarySet (d + 1) [] 52 3 [] Q)) : Zm E YX8_unarySet (d + 1) M [(0, vr (some (97, 1, 0))), (3, vi l3)] 42 [] Q := by
  refine Zm.l (fun _ _ k_ => z_aload_n dX8_unarySet_42 rfl rfl k_) ?_
  refine Zm.l (fun _ _ k_ => z_iload_n dX8_unarySet_43 rfl rfl k_) ?_
  refine Zm.l (fun _ _ k_ => z_aload_n dX8_unarySet_44 rfl rfl k_) ?_
  refine zm_geti dX8_unarySet_45 fsX8_788_1 (by decide) (by decide) ?_
  refine Zm.l (fun _ _ k_ => z_aload_n dX8_unarySet_48 rfl rfl k_) ?_
  refine zm_geti dX8_unarySet_49 fsX8_791_1 (by decide) (by decide) ?_
  refine Zm.pick [] rfl ?_
  exact zm_callV (as := [vi l3, vi (gi M 97 111), vi (gi M 97 112)]) (st := []) dX8_unarySet_52 vsX8_1219_1 (Nat.le_refl _) (Nat.le_of_ble_eq_true rfl) (Nat.le_of_ble_eq_true rfl) rfl k
theorem sX8_unarySet_55 {E : zE} {d : Nat} {Q : zO → zM → Prop} (M : zM)  (k : Zm E YX8_unarySet (d + 1) M [] 112 [] Q) : Zm E YX8_unarySet (d + 1) M [] 55 [] Q := by
  refine Zm.l (fun _ _ k_ => z_goto (tgt := 112) dX8_unarySet_55 rfl k_) ?_
  exact k
theorem sX8_unarySet_80 {E : zE} {d : Nat} {Q : zO → zM → Prop} (M : zM)  (k : Zm E YX8_unarySet (d + 1) M [] 112 [] Q) : Zm E YX8_unarySet (d + 1) M [] 80 [] Q := by
  refine Zm.l (fun _ _ k_ => z_goto (tgt := 112) dX8_unarySet_80 rfl k_) ?_
  exact k
theorem sX8_unarySet_88 {E : zE} {d : Nat} {Q : zO → zM → Prop} (M : zM) (l2 : Int32) (l3 : Int32) (s0 : Int32) (k : if s0 = 0 then (Zm E YX8_unarySet (d + 1) M [(0, vr (some (97, 1, 0))), (2, vi l2), (3, vi l3)] 97 [] Q) else (Zm E YX8_addSort d M (zargs 0 [vr (some (97, 1, 0)), vi l3, vi (4 : Int32)]) 0 [] (zma E YX8_unarySet (d + 1) [(0, vr (some (97, 1, 0))), (2, vi l2), (3, vi l3)] 94 3 [] Q))) : Zm E YX8_unarySet (d + 1) M [(0, vr (some (97, 1, 0))), (2, vi l2), (3, vi l3)] 88 [vi s0] Q := by
  refine Zm.br (fun _ _ k1_ k2_ => z_if_eq (tgt := 97) dX8_unarySet_88 rfl k1_ k2_) (fun h_ => ?_) (fun h_ => ?_)
  · have k := zit h_ k
    exact k
  · have k := zif h_ k
    refine Zm.l (fun _ _ k_ => z_aload_n dX8_unarySet_91 rfl rfl k_) ?_
    refine Zm.l (fun _ _ k_ => z_iload_n dX8_unarySet_92 rfl rfl k_) ?_
    refine Zm.l (fun _ _ k_ => z_iconst (v := 4) dX8_unarySet_93 rfl k_) ?_
    exact zm_callV (as := [vi l3, vi (4 : Int32)]) (st := []) dX8_unarySet_94 vsX8_1072_1 (Nat.le_refl _) (Nat.le_of_ble_eq_true rfl) (Nat.le_of_ble_eq_true rfl) rfl k
theorem sX8_unarySet_97 {E : zE} {d : Nat} {Q : zO → zM → Prop} (M : zM) (l2 : Int32) (l3 : Int32) (k : Zm E YX8_mayBeTrue d M (zargs 0 [vr (some (97, 1, 0)), vi l2]) 0 [] (zma E YX8_unarySet (d + 1) [(0, vr (some (97, 1, 0))), (3, vi l3)] 99 3 [] Q)) : Zm E YX8_unarySet (d + 1) M [(0, vr (some (97, 1, 0))), (2, vi l2), (3, vi l3)] 97 [] Q := by
  refine Zm.l (fun _ _ k_ => z_aload_n dX8_unarySet_97 rfl rfl k_) ?_
  refine Zm.l (fun _ _ k_ => z_iload_n dX8_unarySet_98 rfl rfl k_) ?_
  refine Zm.pick [0, 2] rfl ?_
  exact zm_callV (as := [vi l2]) (st := []) dX8_unarySet_99 vsX8_1283_1 (Nat.le_refl _) (Nat.le_of_ble_eq_true rfl) (Nat.le_of_ble_eq_true rfl) rfl k
theorem sX8_unarySet_102 {E : zE} {d : Nat} {Q : zO → zM → Prop} (M : zM) (l3 : Int32) (s0 : Int32) (k : if s0 = 0 then (Zm E YX8_unarySet (d + 1) M [] 112 [] Q) else (Zm E YX8_addSort d M (zargs 0 [vr (some (97, 1, 0)), vi l3, vi (8 : Int32)]) 0 [] (zma E YX8_unarySet (d + 1) [] 109 3 [] Q))) : Zm E YX8_unarySet (d + 1) M [(0, vr (some (97, 1, 0))), (3, vi l3)] 102 [vi s0] Q := by
  refine Zm.br (fun _ _ k1_ k2_ => z_if_eq (tgt := 112) dX8_unarySet_102 rfl k1_ k2_) (fun h_ => ?_) (fun h_ => ?_)
  · have k := zit h_ k
    refine Zm.pick [] rfl ?_
    exact k
  · have k := zif h_ k
    refine Zm.l (fun _ _ k_ => z_aload_n dX8_unarySet_105 rfl rfl k_) ?_
    refine Zm.l (fun _ _ k_ => z_iload_n dX8_unarySet_106 rfl rfl k_) ?_
    refine Zm.l (fun _ _ k_ => z_bipush (v := 8) dX8_unarySet_107 rfl k_) ?_
    refine Zm.pick [] rfl ?_
    exact zm_callV (as := [vi l3, vi (8 : Int32)]) (st := []) dX8_unarySet_109 vsX8_1072_1 (Nat.le_refl _) (Nat.le_of_ble_eq_true rfl) (Nat.le_of_ble_eq_true rfl) rfl k
theorem sX8_unarySet_112 {E : zE} {d : Nat} {Q : zO → zM → Prop} (M : zM)  (k : Q (.inl none) M) : Zm E YX8_unarySet (d + 1) M [] 112 [] Q := by
  exact zm_vret dX8_unarySet_112 rfl k
/-! ScriptTypesModel.sortOfAlone(I)I -/
theorem bX8_sortOfAlone_0 : zdec cX8_sortOfAlone 0 [(0, .aload_n 0, 1), (1, .iload_n 1, 1), (2, .invokevirtual 1059, 3), (5, .istore_n 2, 1), (6, .iload_n 2, 1), (7, .bipush 32, 2), (9, .if_icmp .ne 7, 3), (12, .iconst 5, 1), (13, .goto 53, 3), (16, .iload_n 2, 1), (17, .sipush 128, 3), (20, .if_icmp .ne 8, 3), (23, .bipush 6, 2), (25, .goto 41, 3), (28, .iload_n 2, 1), (29, .iconst 1, 1)] = true := by decide +kernel
theorem dX8_sortOfAlone_0 : decode cX8_sortOfAlone 0 = .ok (.aload_n 0, 1) := zdec_at bX8_sortOfAlone_0 0 rfl
theorem dX8_sortOfAlone_1 : decode cX8_sortOfAlone 1 = .ok (.iload_n 1, 1) := zdec_at bX8_sortOfAlone_0 1 rfl
theorem dX8_sortOfAlone_2 : decode cX8_sortOfAlone 2 = .ok (.invokevirtual 1059, 3) := zdec_at bX8_sortOfAlone_0 2 rfl
theorem dX8_sortOfAlone_5 : decode cX8_sortOfAlone 5 = .ok (.istore_n 2, 1) := zdec_at bX8_sortOfAlone_0 3 rfl
theorem dX8_sortOfAlone_6 : decode cX8_sortOfAlone 6 = .ok (.iload_n 2, 1) := zdec_at bX8_sortOfAlone_0 4 rfl
theorem dX8_sortOfAlone_7 : decode cX8_sortOfAlone 7 = .ok (.bipush 32, 2) := zdec_at bX8_sortOfAlone_0 5 rfl
theorem dX8_sortOfAlone_9 : decode cX8_sortOfAlone 9 = .ok (.if_icmp .ne 7, 3) := zdec_at bX8_sortOfAlone_0 6 rfl
theorem dX8_sortOfAlone_12 : decode cX8_sortOfAlone 12 = .ok (.iconst 5, 1) := zdec_at bX8_sortOfAlone_0 7 rfl
theorem dX8_sortOfAlone_13 : decode cX8_sortOfAlone 13 = .ok (.goto 53, 3) := zdec_at bX8_sortOfAlone_0 8 rfl
theorem dX8_sortOfAlone_16 : decode cX8_sortOfAlone 16 = .ok (.iload_n 2, 1) := zdec_at bX8_sortOfAlone_0 9 rfl
theorem dX8_sortOfAlone_17 : decode cX8_sortOfAlone 17 = .ok (.sipush 128, 3) := zdec_at bX8_sortOfAlone_0 10 rfl
theorem dX8_sortOfAlone_20 : decode cX8_sortOfAlone 20 = .ok (.if_icmp .ne 8, 3) := zdec_at bX8_sortOfAlone_0 11 rfl
theorem dX8_sortOfAlone_23 : decode cX8_sortOfAlone 23 = .ok (.bipush 6, 2) := zdec_at bX8_sortOfAlone_0 12 rfl
theorem dX8_sortOfAlone_25 : decode cX8_sortOfAlone 25 = .ok (.goto 41, 3) := zdec_at bX8_sortOfAlone_0 13 rfl
theorem dX8_sortOfAlone_28 : decode cX8_sortOfAlone 28 = .ok (.iload_n 2, 1) := zdec_at bX8_sortOfAlone_0 14 rfl
theorem dX8_sortOfAlone_29 : decode cX8_sortOfAlone 29 = .ok (.iconst 1, 1) := zdec_at bX8_sortOfAlone_0 15 rfl
theorem bX8_sortOfAlone_30 : zdec cX8_sortOfAlone 30 [(30, .if_icmp .ne 7, 3), (33, .iconst 0, 1), (34, .goto 32, 3), (37, .iload_n 2, 1), (38, .iconst 2, 1), (39, .if_icmp .ne 7, 3), (42, .iconst 1, 1), (43, .goto 23, 3), (46, .iload_n 2, 1), (47, .iconst 4, 1), (48, .if_icmp .ne 7, 3), (51, .iconst 2, 1), (52, .goto 14, 3), (55, .iload_n 2, 1), (56, .bipush 8, 2), (58, .if_icmp .ne 7, 3)] = true := by decide +kernel
theorem dX8_sortOfAlone_30 : decode cX8_sortOfAlone 30 = .ok (.if_icmp .ne 7, 3) := zdec_at bX8_sortOfAlone_30 0 rfl
theorem dX8_sortOfAlone_33 : decode cX8_sortOfAlone 33 = .ok (.iconst 0, 1) := zdec_at bX8_sortOfAlone_30 1 rfl
theorem dX8_sortOfAlone_34 : decode cX8_sortOfAlone 34 = .ok (.goto 32, 3) := zdec_at bX8_sortOfAlone_30 2 rfl
theorem dX8_sortOfAlone_37 : decode cX8_sortOfAlone 37 = .ok (.iload_n 2, 1) := zdec_at bX8_sortOfAlone_30 3 rfl
theorem dX8_sortOfAlone_38 : decode cX8_sortOfAlone 38 = .ok (.iconst 2, 1) := zdec_at bX8_sortOfAlone_30 4 rfl
theorem dX8_sortOfAlone_39 : decode cX8_sortOfAlone 39 = .ok (.if_icmp .ne 7, 3) := zdec_at bX8_sortOfAlone_30 5 rfl
theorem dX8_sortOfAlone_42 : decode cX8_sortOfAlone 42 = .ok (.iconst 1, 1) := zdec_at bX8_sortOfAlone_30 6 rfl
theorem dX8_sortOfAlone_43 : decode cX8_sortOfAlone 43 = .ok (.goto 23, 3) := zdec_at bX8_sortOfAlone_30 7 rfl
theorem dX8_sortOfAlone_46 : decode cX8_sortOfAlone 46 = .ok (.iload_n 2, 1) := zdec_at bX8_sortOfAlone_30 8 rfl
theorem dX8_sortOfAlone_47 : decode cX8_sortOfAlone 47 = .ok (.iconst 4, 1) := zdec_at bX8_sortOfAlone_30 9 rfl
theorem dX8_sortOfAlone_48 : decode cX8_sortOfAlone 48 = .ok (.if_icmp .ne 7, 3) := zdec_at bX8_sortOfAlone_30 10 rfl
theorem dX8_sortOfAlone_51 : decode cX8_sortOfAlone 51 = .ok (.iconst 2, 1) := zdec_at bX8_sortOfAlone_30 11 rfl
theorem dX8_sortOfAlone_52 : decode cX8_sortOfAlone 52 = .ok (.goto 14, 3) := zdec_at bX8_sortOfAlone_30 12 rfl
theorem dX8_sortOfAlone_55 : decode cX8_sortOfAlone 55 = .ok (.iload_n 2, 1) := zdec_at bX8_sortOfAlone_30 13 rfl
theorem dX8_sortOfAlone_56 : decode cX8_sortOfAlone 56 = .ok (.bipush 8, 2) := zdec_at bX8_sortOfAlone_30 14 rfl
theorem dX8_sortOfAlone_58 : decode cX8_sortOfAlone 58 = .ok (.if_icmp .ne 7, 3) := zdec_at bX8_sortOfAlone_30 15 rfl
theorem bX8_sortOfAlone_61 : zdec cX8_sortOfAlone 61 [(61, .iconst 3, 1), (62, .goto 4, 3), (65, .iconst 4, 1), (66, .ireturn, 1)] = true := by decide +kernel
theorem dX8_sortOfAlone_61 : decode cX8_sortOfAlone 61 = .ok (.iconst 3, 1) := zdec_at bX8_sortOfAlone_61 0 rfl
theorem dX8_sortOfAlone_62 : decode cX8_sortOfAlone 62 = .ok (.goto 4, 3) := zdec_at bX8_sortOfAlone_61 1 rfl
theorem dX8_sortOfAlone_65 : decode cX8_sortOfAlone 65 = .ok (.iconst 4, 1) := zdec_at bX8_sortOfAlone_61 2 rfl
theorem dX8_sortOfAlone_66 : decode cX8_sortOfAlone 66 = .ok (.ireturn, 1) := zdec_at bX8_sortOfAlone_61 3 rfl
theorem sX8_sortOfAlone_0 {E : zE} {d : Nat} {Q : zO → zM → Prop} (M : zM) (l1 : Int32) (k : Zm E YX8_plainly d M (zargs 0 [vr (some (97, 1, 0)), vi l1]) 0 [] (zma E YX8_sortOfAlone (d + 1) [] 2 3 [] Q)) : Zm E YX8_sortOfAlone (d + 1) M [(0, vr (some (97, 1, 0))), (1, vi l1)] 0 [] Q := by
  refine Zm.l (fun _ _ k_ => z_aload_n dX8_sortOfAlone_0 rfl rfl k_) ?_
  refine Zm.l (fun _ _ k_ => z_iload_n dX8_sortOfAlone_1 rfl rfl k_) ?_
  refine Zm.pick [] rfl ?_
  exact zm_callV (as := [vi l1]) (st := []) dX8_sortOfAlone_2 vsX8_1059_1 (Nat.le_refl _) (Nat.le_of_ble_eq_true rfl) (Nat.le_of_ble_eq_true rfl) rfl k
theorem sX8_sortOfAlone_5 {E : zE} {d : Nat} {Q : zO → zM → Prop} (M : zM) (s0 : Int32) (k : if s0 = (32 : Int32) then (Q (.inl (some (vi (5 : Int32)))) M) else (if s0 = (128 : Int32) then (Q (.inl (some (vi (6 : Int32)))) M) else (if s0 = (1 : Int32) then (Q (.inl (some (vi (0 : Int32)))) M) else (if s0 = (2 : Int32) then (Q (.inl (some (vi (1 : Int32)))) M) else (if s0 = (4 : Int32) then (Q (.inl (some (vi (2 : Int32)))) M) else (if s0 = (8 : Int32) then (Q (.inl (some (vi (3 : Int32)))) M) else (Q (.inl (some (vi (4 : Int32)))) M))))))) : Zm E YX8_sortOfAlone (d + 1) M [] 5 [vi s0] Q := by
  refine Zm.l (fun _ _ k_ => z_ist_n dX8_sortOfAlone_5 rfl (by decide) (lv' := [(2, vi s0)]) rfl k_) ?_
  refine Zm.l (fun _ _ k_ => z_iload_n dX8_sortOfAlone_6 rfl rfl k_) ?_
  refine Zm.l (fun _ _ k_ => z_bipush (v := 32) dX8_sortOfAlone_7 rfl k_) ?_
  refine Zm.brn (fun _ _ k1_ k2_ => z_icmp_ne (tgt := 16) dX8_sortOfAlone_9 rfl k1_ k2_) (fun h_ => ?_) (fun h_ => ?_)
  · have k := zif h_ k
    refine Zm.l (fun _ _ k_ => z_iload_n dX8_sortOfAlone_16 rfl rfl k_) ?_
    refine Zm.l (fun _ _ k_ => z_sipush (v := 128) dX8_sortOfAlone_17 rfl k_) ?_
    refine Zm.brn (fun _ _ k1_ k2_ => z_icmp_ne (tgt := 28) dX8_sortOfAlone_20 rfl k1_ k2_) (fun h_ => ?_) (fun h_ => ?_)
    · have k := zif h_ k
      refine Zm.l (fun _ _ k_ => z_iload_n dX8_sortOfAlone_28 rfl rfl k_) ?_
      refine Zm.l (fun _ _ k_ => z_iconst (v := 1) dX8_sortOfAlone_29 rfl k_) ?_
      refine Zm.brn (fun _ _ k1_ k2_ => z_icmp_ne (tgt := 37) dX8_sortOfAlone_30 rfl k1_ k2_) (fun h_ => ?_) (fun h_ => ?_)
      · have k := zif h_ k
        refine Zm.l (fun _ _ k_ => z_iload_n dX8_sortOfAlone_37 rfl rfl k_) ?_
        refine Zm.l (fun _ _ k_ => z_iconst (v := 2) dX8_sortOfAlone_38 rfl k_) ?_
        refine Zm.brn (fun _ _ k1_ k2_ => z_icmp_ne (tgt := 46) dX8_sortOfAlone_39 rfl k1_ k2_) (fun h_ => ?_) (fun h_ => ?_)
        · have k := zif h_ k
          refine Zm.l (fun _ _ k_ => z_iload_n dX8_sortOfAlone_46 rfl rfl k_) ?_
          refine Zm.l (fun _ _ k_ => z_iconst (v := 4) dX8_sortOfAlone_47 rfl k_) ?_
          refine Zm.brn (fun _ _ k1_ k2_ => z_icmp_ne (tgt := 55) dX8_sortOfAlone_48 rfl k1_ k2_) (fun h_ => ?_) (fun h_ => ?_)
          · have k := zif h_ k
            refine Zm.l (fun _ _ k_ => z_iload_n dX8_sortOfAlone_55 rfl rfl k_) ?_
            refine Zm.l (fun _ _ k_ => z_bipush (v := 8) dX8_sortOfAlone_56 rfl k_) ?_
            refine Zm.brn (fun _ _ k1_ k2_ => z_icmp_ne (tgt := 65) dX8_sortOfAlone_58 rfl k1_ k2_) (fun h_ => ?_) (fun h_ => ?_)
            · have k := zif h_ k
              refine Zm.l (fun _ _ k_ => z_iconst (v := 4) dX8_sortOfAlone_65 rfl k_) ?_
              exact zm_iret dX8_sortOfAlone_66 rfl rfl k
            · have k := zit h_ k
              refine Zm.l (fun _ _ k_ => z_iconst (v := 3) dX8_sortOfAlone_61 rfl k_) ?_
              refine Zm.l (fun _ _ k_ => z_goto (tgt := 66) dX8_sortOfAlone_62 rfl k_) ?_
              exact zm_iret dX8_sortOfAlone_66 rfl rfl k
          · have k := zit h_ k
            refine Zm.l (fun _ _ k_ => z_iconst (v := 2) dX8_sortOfAlone_51 rfl k_) ?_
            refine Zm.l (fun _ _ k_ => z_goto (tgt := 66) dX8_sortOfAlone_52 rfl k_) ?_
            exact zm_iret dX8_sortOfAlone_66 rfl rfl k
        · have k := zit h_ k
          refine Zm.l (fun _ _ k_ => z_iconst (v := 1) dX8_sortOfAlone_42 rfl k_) ?_
          refine Zm.l (fun _ _ k_ => z_goto (tgt := 66) dX8_sortOfAlone_43 rfl k_) ?_
          exact zm_iret dX8_sortOfAlone_66 rfl rfl k
      · have k := zit h_ k
        refine Zm.l (fun _ _ k_ => z_iconst (v := 0) dX8_sortOfAlone_33 rfl k_) ?_
        refine Zm.l (fun _ _ k_ => z_goto (tgt := 66) dX8_sortOfAlone_34 rfl k_) ?_
        exact zm_iret dX8_sortOfAlone_66 rfl rfl k
    · have k := zit h_ k
      refine Zm.l (fun _ _ k_ => z_bipush (v := 6) dX8_sortOfAlone_23 rfl k_) ?_
      refine Zm.l (fun _ _ k_ => z_goto (tgt := 66) dX8_sortOfAlone_25 rfl k_) ?_
      exact zm_iret dX8_sortOfAlone_66 rfl rfl k
  · have k := zit h_ k
    refine Zm.l (fun _ _ k_ => z_iconst (v := 5) dX8_sortOfAlone_12 rfl k_) ?_
    refine Zm.l (fun _ _ k_ => z_goto (tgt := 66) dX8_sortOfAlone_13 rfl k_) ?_
    exact zm_iret dX8_sortOfAlone_66 rfl rfl k
/-! ScriptTypesModel.valueOfAlone(I)I -/
theorem bX8_valueOfAlone_0 : zdec cX8_valueOfAlone 0 [(0, .aload_n 0, 1), (1, .iload_n 1, 1), (2, .invokevirtual 1059, 3), (5, .bipush 32, 2), (7, .if_icmp .ne 11, 3), (10, .aload_n 0, 1), (11, .iload_n 1, 1), (12, .invokevirtual 1050, 3), (15, .goto 23, 3), (18, .aload_n 0, 1), (19, .iload_n 1, 1), (20, .invokevirtual 1059, 3), (23, .sipush 128, 3), (26, .if_icmp .ne 11, 3), (29, .aload_n 0, 1), (30, .iload_n 1, 1)] = true := by decide +kernel
theorem dX8_valueOfAlone_0 : decode cX8_valueOfAlone 0 = .ok (.aload_n 0, 1) := zdec_at bX8_valueOfAlone_0 0 rfl
theorem dX8_valueOfAlone_1 : decode cX8_valueOfAlone 1 = .ok (.iload_n 1, 1) := zdec_at bX8_valueOfAlone_0 1 rfl
theorem dX8_valueOfAlone_2 : decode cX8_valueOfAlone 2 = .ok (.invokevirtual 1059, 3) := zdec_at bX8_valueOfAlone_0 2 rfl
theorem dX8_valueOfAlone_5 : decode cX8_valueOfAlone 5 = .ok (.bipush 32, 2) := zdec_at bX8_valueOfAlone_0 3 rfl
theorem dX8_valueOfAlone_7 : decode cX8_valueOfAlone 7 = .ok (.if_icmp .ne 11, 3) := zdec_at bX8_valueOfAlone_0 4 rfl
theorem dX8_valueOfAlone_10 : decode cX8_valueOfAlone 10 = .ok (.aload_n 0, 1) := zdec_at bX8_valueOfAlone_0 5 rfl
theorem dX8_valueOfAlone_11 : decode cX8_valueOfAlone 11 = .ok (.iload_n 1, 1) := zdec_at bX8_valueOfAlone_0 6 rfl
theorem dX8_valueOfAlone_12 : decode cX8_valueOfAlone 12 = .ok (.invokevirtual 1050, 3) := zdec_at bX8_valueOfAlone_0 7 rfl
theorem dX8_valueOfAlone_15 : decode cX8_valueOfAlone 15 = .ok (.goto 23, 3) := zdec_at bX8_valueOfAlone_0 8 rfl
theorem dX8_valueOfAlone_18 : decode cX8_valueOfAlone 18 = .ok (.aload_n 0, 1) := zdec_at bX8_valueOfAlone_0 9 rfl
theorem dX8_valueOfAlone_19 : decode cX8_valueOfAlone 19 = .ok (.iload_n 1, 1) := zdec_at bX8_valueOfAlone_0 10 rfl
theorem dX8_valueOfAlone_20 : decode cX8_valueOfAlone 20 = .ok (.invokevirtual 1059, 3) := zdec_at bX8_valueOfAlone_0 11 rfl
theorem dX8_valueOfAlone_23 : decode cX8_valueOfAlone 23 = .ok (.sipush 128, 3) := zdec_at bX8_valueOfAlone_0 12 rfl
theorem dX8_valueOfAlone_26 : decode cX8_valueOfAlone 26 = .ok (.if_icmp .ne 11, 3) := zdec_at bX8_valueOfAlone_0 13 rfl
theorem dX8_valueOfAlone_29 : decode cX8_valueOfAlone 29 = .ok (.aload_n 0, 1) := zdec_at bX8_valueOfAlone_0 14 rfl
theorem dX8_valueOfAlone_30 : decode cX8_valueOfAlone 30 = .ok (.iload_n 1, 1) := zdec_at bX8_valueOfAlone_0 15 rfl
theorem bX8_valueOfAlone_31 : zdec cX8_valueOfAlone 31 [(31, .invokevirtual 1053, 3), (34, .goto 4, 3), (37, .iconst 0, 1), (38, .ireturn, 1)] = true := by decide +kernel
theorem dX8_valueOfAlone_31 : decode cX8_valueOfAlone 31 = .ok (.invokevirtual 1053, 3) := zdec_at bX8_valueOfAlone_31 0 rfl
theorem dX8_valueOfAlone_34 : decode cX8_valueOfAlone 34 = .ok (.goto 4, 3) := zdec_at bX8_valueOfAlone_31 1 rfl
theorem dX8_valueOfAlone_37 : decode cX8_valueOfAlone 37 = .ok (.iconst 0, 1) := zdec_at bX8_valueOfAlone_31 2 rfl
theorem dX8_valueOfAlone_38 : decode cX8_valueOfAlone 38 = .ok (.ireturn, 1) := zdec_at bX8_valueOfAlone_31 3 rfl
theorem sX8_valueOfAlone_0 {E : zE} {d : Nat} {Q : zO → zM → Prop} (M : zM) (l1 : Int32) (k : Zm E YX8_plainly d M (zargs 0 [vr (some (97, 1, 0)), vi l1]) 0 [] (zma E YX8_valueOfAlone (d + 1) [(0, vr (some (97, 1, 0))), (1, vi l1)] 2 3 [] Q)) : Zm E YX8_valueOfAlone (d + 1) M [(0, vr (some (97, 1, 0))), (1, vi l1)] 0 [] Q := by
  refine Zm.l (fun _ _ k_ => z_aload_n dX8_valueOfAlone_0 rfl rfl k_) ?_
  refine Zm.l (fun _ _ k_ => z_iload_n dX8_valueOfAlone_1 rfl rfl k_) ?_
  exact zm_callV (as := [vi l1]) (st := []) dX8_valueOfAlone_2 vsX8_1059_1 (Nat.le_refl _) (Nat.le_of_ble_eq_true rfl) (Nat.le_of_ble_eq_true rfl) rfl k
theorem sX8_valueOfAlone_5 {E : zE} {d : Nat} {Q : zO → zM → Prop} (M : zM) (l1 : Int32) (s0 : Int32) (k : if s0 = (32 : Int32) then (Zm E YX8_number d M (zargs 0 [vr (some (97, 1, 0)), vi l1]) 0 [] (zma E YX8_valueOfAlone (d + 1) [] 12 3 [] Q)) else (Zm E YX8_plainly d M (zargs 0 [vr (some (97, 1, 0)), vi l1]) 0 [] (zma E YX8_valueOfAlone (d + 1) [(0, vr (some (97, 1, 0))), (1, vi l1)] 20 3 [] Q))) : Zm E YX8_valueOfAlone (d + 1) M [(0, vr (some (97, 1, 0))), (1, vi l1)] 5 [vi s0] Q := by
  refine Zm.l (fun _ _ k_ => z_bipush (v := 32) dX8_valueOfAlone_5 rfl k_) ?_
  refine Zm.brn (fun _ _ k1_ k2_ => z_icmp_ne (tgt := 18) dX8_valueOfAlone_7 rfl k1_ k2_) (fun h_ => ?_) (fun h_ => ?_)
  · have k := zif h_ k
    refine Zm.l (fun _ _ k_ => z_aload_n dX8_valueOfAlone_18 rfl rfl k_) ?_
    refine Zm.l (fun _ _ k_ => z_iload_n dX8_valueOfAlone_19 rfl rfl k_) ?_
    exact zm_callV (as := [vi l1]) (st := []) dX8_valueOfAlone_20 vsX8_1059_1 (Nat.le_refl _) (Nat.le_of_ble_eq_true rfl) (Nat.le_of_ble_eq_true rfl) rfl k
  · have k := zit h_ k
    refine Zm.l (fun _ _ k_ => z_aload_n dX8_valueOfAlone_10 rfl rfl k_) ?_
    refine Zm.l (fun _ _ k_ => z_iload_n dX8_valueOfAlone_11 rfl rfl k_) ?_
    refine Zm.pick [] rfl ?_
    exact zm_callV (as := [vi l1]) (st := []) dX8_valueOfAlone_12 vsX8_1050_1 (Nat.le_refl _) (Nat.le_of_ble_eq_true rfl) (Nat.le_of_ble_eq_true rfl) rfl k
theorem sX8_valueOfAlone_15 {E : zE} {d : Nat} {Q : zO → zM → Prop} (M : zM) (s0 : Int32) (k : Q (.inl (some (vi s0))) M) : Zm E YX8_valueOfAlone (d + 1) M [] 15 [vi s0] Q := by
  refine Zm.l (fun _ _ k_ => z_goto (tgt := 38) dX8_valueOfAlone_15 rfl k_) ?_
  exact zm_iret dX8_valueOfAlone_38 rfl rfl k
theorem sX8_valueOfAlone_23 {E : zE} {d : Nat} {Q : zO → zM → Prop} (M : zM) (l1 : Int32) (s0 : Int32) (k : if s0 = (128 : Int32) then (Zm E YX8_name d M (zargs 0 [vr (some (97, 1, 0)), vi l1]) 0 [] (zma E YX8_valueOfAlone (d + 1) [] 31 3 [] Q)) else (Q (.inl (some (vi (0 : Int32)))) M)) : Zm E YX8_valueOfAlone (d + 1) M [(0, vr (some (97, 1, 0))), (1, vi l1)] 23 [vi s0] Q := by
  refine Zm.l (fun _ _ k_ => z_sipush (v := 128) dX8_valueOfAlone_23 rfl k_) ?_
  refine Zm.brn (fun _ _ k1_ k2_ => z_icmp_ne (tgt := 37) dX8_valueOfAlone_26 rfl k1_ k2_) (fun h_ => ?_) (fun h_ => ?_)
  · have k := zif h_ k
    refine Zm.l (fun _ _ k_ => z_iconst (v := 0) dX8_valueOfAlone_37 rfl k_) ?_
    exact zm_iret dX8_valueOfAlone_38 rfl rfl k
  · have k := zit h_ k
    refine Zm.l (fun _ _ k_ => z_aload_n dX8_valueOfAlone_29 rfl rfl k_) ?_
    refine Zm.l (fun _ _ k_ => z_iload_n dX8_valueOfAlone_30 rfl rfl k_) ?_
    refine Zm.pick [] rfl ?_
    exact zm_callV (as := [vi l1]) (st := []) dX8_valueOfAlone_31 vsX8_1053_1 (Nat.le_refl _) (Nat.le_of_ble_eq_true rfl) (Nat.le_of_ble_eq_true rfl) rfl k
theorem sX8_valueOfAlone_34 {E : zE} {d : Nat} {Q : zO → zM → Prop} (M : zM) (s0 : Int32) (k : Q (.inl (some (vi s0))) M) : Zm E YX8_valueOfAlone (d + 1) M [] 34 [vi s0] Q := by
  refine Zm.l (fun _ _ k_ => z_goto (tgt := 38) dX8_valueOfAlone_34 rfl k_) ?_
  exact zm_iret dX8_valueOfAlone_38 rfl rfl k
/-! ScriptTypesModel.mayBeFalse(I)Z -/
theorem bX8_mayBeFalse_0 : zdec cX8_mayBeFalse 0 [(0, .aload_n 0, 1), (1, .iload_n 1, 1), (2, .invokevirtual 1047, 3), (5, .istore_n 2, 1), (6, .iload_n 2, 1), (7, .sipush 347, 3), (10, .iand, 1), (11, .ifCond .ne 36, 3), (14, .iload_n 2, 1), (15, .bipush 32, 2), (17, .iand, 1), (18, .ifCond .eq 11, 3), (21, .aload_n 0, 1), (22, .iload_n 1, 1), (23, .invokevirtual 1050, 3), (26, .ifCond .eq 21, 3)] = true := by decide +kernel
theorem dX8_mayBeFalse_0 : decode cX8_mayBeFalse 0 = .ok (.aload_n 0, 1) := zdec_at bX8_mayBeFalse_0 0 rfl
theorem dX8_mayBeFalse_1 : decode cX8_mayBeFalse 1 = .ok (.iload_n 1, 1) := zdec_at bX8_mayBeFalse_0 1 rfl
theorem dX8_mayBeFalse_2 : decode cX8_mayBeFalse 2 = .ok (.invokevirtual 1047, 3) := zdec_at bX8_mayBeFalse_0 2 rfl
theorem dX8_mayBeFalse_5 : decode cX8_mayBeFalse 5 = .ok (.istore_n 2, 1) := zdec_at bX8_mayBeFalse_0 3 rfl
theorem dX8_mayBeFalse_6 : decode cX8_mayBeFalse 6 = .ok (.iload_n 2, 1) := zdec_at bX8_mayBeFalse_0 4 rfl
theorem dX8_mayBeFalse_7 : decode cX8_mayBeFalse 7 = .ok (.sipush 347, 3) := zdec_at bX8_mayBeFalse_0 5 rfl
theorem dX8_mayBeFalse_10 : decode cX8_mayBeFalse 10 = .ok (.iand, 1) := zdec_at bX8_mayBeFalse_0 6 rfl
theorem dX8_mayBeFalse_11 : decode cX8_mayBeFalse 11 = .ok (.ifCond .ne 36, 3) := zdec_at bX8_mayBeFalse_0 7 rfl
theorem dX8_mayBeFalse_14 : decode cX8_mayBeFalse 14 = .ok (.iload_n 2, 1) := zdec_at bX8_mayBeFalse_0 8 rfl
theorem dX8_mayBeFalse_15 : decode cX8_mayBeFalse 15 = .ok (.bipush 32, 2) := zdec_at bX8_mayBeFalse_0 9 rfl
theorem dX8_mayBeFalse_17 : decode cX8_mayBeFalse 17 = .ok (.iand, 1) := zdec_at bX8_mayBeFalse_0 10 rfl
theorem dX8_mayBeFalse_18 : decode cX8_mayBeFalse 18 = .ok (.ifCond .eq 11, 3) := zdec_at bX8_mayBeFalse_0 11 rfl
theorem dX8_mayBeFalse_21 : decode cX8_mayBeFalse 21 = .ok (.aload_n 0, 1) := zdec_at bX8_mayBeFalse_0 12 rfl
theorem dX8_mayBeFalse_22 : decode cX8_mayBeFalse 22 = .ok (.iload_n 1, 1) := zdec_at bX8_mayBeFalse_0 13 rfl
theorem dX8_mayBeFalse_23 : decode cX8_mayBeFalse 23 = .ok (.invokevirtual 1050, 3) := zdec_at bX8_mayBeFalse_0 14 rfl
theorem dX8_mayBeFalse_26 : decode cX8_mayBeFalse 26 = .ok (.ifCond .eq 21, 3) := zdec_at bX8_mayBeFalse_0 15 rfl
theorem bX8_mayBeFalse_29 : zdec cX8_mayBeFalse 29 [(29, .iload_n 2, 1), (30, .sipush 128, 3), (33, .iand, 1), (34, .ifCond .eq 17, 3), (37, .aload_n 0, 1), (38, .iload_n 1, 1), (39, .invokevirtual 1053, 3), (42, .bipush 30, 2), (44, .if_icmp .ne 7, 3), (47, .iconst 1, 1), (48, .goto 4, 3), (51, .iconst 0, 1), (52, .ireturn, 1)] = true := by decide +kernel
theorem dX8_mayBeFalse_29 : decode cX8_mayBeFalse 29 = .ok (.iload_n 2, 1) := zdec_at bX8_mayBeFalse_29 0 rfl
theorem dX8_mayBeFalse_30 : decode cX8_mayBeFalse 30 = .ok (.sipush 128, 3) := zdec_at bX8_mayBeFalse_29 1 rfl
theorem dX8_mayBeFalse_33 : decode cX8_mayBeFalse 33 = .ok (.iand, 1) := zdec_at bX8_mayBeFalse_29 2 rfl
theorem dX8_mayBeFalse_34 : decode cX8_mayBeFalse 34 = .ok (.ifCond .eq 17, 3) := zdec_at bX8_mayBeFalse_29 3 rfl
theorem dX8_mayBeFalse_37 : decode cX8_mayBeFalse 37 = .ok (.aload_n 0, 1) := zdec_at bX8_mayBeFalse_29 4 rfl
theorem dX8_mayBeFalse_38 : decode cX8_mayBeFalse 38 = .ok (.iload_n 1, 1) := zdec_at bX8_mayBeFalse_29 5 rfl
theorem dX8_mayBeFalse_39 : decode cX8_mayBeFalse 39 = .ok (.invokevirtual 1053, 3) := zdec_at bX8_mayBeFalse_29 6 rfl
theorem dX8_mayBeFalse_42 : decode cX8_mayBeFalse 42 = .ok (.bipush 30, 2) := zdec_at bX8_mayBeFalse_29 7 rfl
theorem dX8_mayBeFalse_44 : decode cX8_mayBeFalse 44 = .ok (.if_icmp .ne 7, 3) := zdec_at bX8_mayBeFalse_29 8 rfl
theorem dX8_mayBeFalse_47 : decode cX8_mayBeFalse 47 = .ok (.iconst 1, 1) := zdec_at bX8_mayBeFalse_29 9 rfl
theorem dX8_mayBeFalse_48 : decode cX8_mayBeFalse 48 = .ok (.goto 4, 3) := zdec_at bX8_mayBeFalse_29 10 rfl
theorem dX8_mayBeFalse_51 : decode cX8_mayBeFalse 51 = .ok (.iconst 0, 1) := zdec_at bX8_mayBeFalse_29 11 rfl
theorem dX8_mayBeFalse_52 : decode cX8_mayBeFalse 52 = .ok (.ireturn, 1) := zdec_at bX8_mayBeFalse_29 12 rfl
theorem sX8_mayBeFalse_0 {E : zE} {d : Nat} {Q : zO → zM → Prop} (M : zM) (l1 : Int32) (k : Zm E YX8_has d M (zargs 0 [vr (some (97, 1, 0)), vi l1]) 0 [] (zma E YX8_mayBeFalse (d + 1) [(0, vr (some (97, 1, 0))), (1, vi l1)] 2 3 [] Q)) : Zm E YX8_mayBeFalse (d + 1) M [(0, vr (some (97, 1, 0))), (1, vi l1)] 0 [] Q := by
  refine Zm.l (fun _ _ k_ => z_aload_n dX8_mayBeFalse_0 rfl rfl k_) ?_
  refine Zm.l (fun _ _ k_ => z_iload_n dX8_mayBeFalse_1 rfl rfl k_) ?_
  exact zm_callV (as := [vi l1]) (st := []) dX8_mayBeFalse_2 vsX8_1047_1 (Nat.le_refl _) (Nat.le_of_ble_eq_true rfl) (Nat.le_of_ble_eq_true rfl) rfl k
theorem sX8_mayBeFalse_5 {E : zE} {d : Nat} {Q : zO → zM → Prop} (M : zM) (l1 : Int32) (s0 : Int32) (k : if (s0 &&& (347 : Int32)) = 0 then (if (s0 &&& (32 : Int32)) = 0 then (Zm E YX8_mayBeFalse (d + 1) M [(0, vr (some (97, 1, 0))), (1, vi l1), (2, vi s0)] 29 [] Q) else (Zm E YX8_number d M (zargs 0 [vr (some (97, 1, 0)), vi l1]) 0 [] (zma E YX8_mayBeFalse (d + 1) [(0, vr (some (97, 1, 0))), (1, vi l1), (2, vi s0)] 23 3 [] Q))) else (Q (.inl (some (vi (1 : Int32)))) M)) : Zm E YX8_mayBeFalse (d + 1) M [(0, vr (some (97, 1, 0))), (1, vi l1)] 5 [vi s0] Q := by
  refine Zm.l (fun _ _ k_ => z_ist_n dX8_mayBeFalse_5 rfl (by decide) (lv' := [(0, vr (some (97, 1, 0))), (1, vi l1), (2, vi s0)]) rfl k_) ?_
  refine Zm.l (fun _ _ k_ => z_iload_n dX8_mayBeFalse_6 rfl rfl k_) ?_
  refine Zm.l (fun _ _ k_ => z_sipush (v := 347) dX8_mayBeFalse_7 rfl k_) ?_
  refine Zm.l (fun _ _ k_ => z_iand dX8_mayBeFalse_10 k_) ?_
  refine Zm.brn (fun _ _ k1_ k2_ => z_if_ne (tgt := 47) dX8_mayBeFalse_11 rfl k1_ k2_) (fun h_ => ?_) (fun h_ => ?_)
  · have k := zif h_ k
    refine Zm.l (fun _ _ k_ => z_iconst (v := 1) dX8_mayBeFalse_47 rfl k_) ?_
    refine Zm.l (fun _ _ k_ => z_goto (tgt := 52) dX8_mayBeFalse_48 rfl k_) ?_
    exact zm_iret dX8_mayBeFalse_52 rfl (by decide) k
  · have k := zit h_ k
    refine Zm.l (fun _ _ k_ => z_iload_n dX8_mayBeFalse_14 rfl rfl k_) ?_
    refine Zm.l (fun _ _ k_ => z_bipush (v := 32) dX8_mayBeFalse_15 rfl k_) ?_
    refine Zm.l (fun _ _ k_ => z_iand dX8_mayBeFalse_17 k_) ?_
    refine Zm.br (fun _ _ k1_ k2_ => z_if_eq (tgt := 29) dX8_mayBeFalse_18 rfl k1_ k2_) (fun h_ => ?_) (fun h_ => ?_)
    · have k := zit h_ k
      exact k
    · have k := zif h_ k
      refine Zm.l (fun _ _ k_ => z_aload_n dX8_mayBeFalse_21 rfl rfl k_) ?_
      refine Zm.l (fun _ _ k_ => z_iload_n dX8_mayBeFalse_22 rfl rfl k_) ?_
      exact zm_callV (as := [vi l1]) (st := []) dX8_mayBeFalse_23 vsX8_1050_1 (Nat.le_refl _) (Nat.le_of_ble_eq_true rfl) (Nat.le_of_ble_eq_true rfl) rfl k
theorem sX8_mayBeFalse_26 {E : zE} {d : Nat} {Q : zO → zM → Prop} (M : zM) (l1 : Int32) (l2 : Int32) (s0 : Int32) (k : if s0 = 0 then (Q (.inl (some (vi (1 : Int32)))) M) else (Zm E YX8_mayBeFalse (d + 1) M [(0, vr (some (97, 1, 0))), (1, vi l1), (2, vi l2)] 29 [] Q)) : Zm E YX8_mayBeFalse (d + 1) M [(0, vr (some (97, 1, 0))), (1, vi l1), (2, vi l2)] 26 [vi s0] Q := by
  refine Zm.br (fun _ _ k1_ k2_ => z_if_eq (tgt := 47) dX8_mayBeFalse_26 rfl k1_ k2_) (fun h_ => ?_) (fun h_ => ?_)
  · have k := zit h_ k
    refine Zm.l (fun _ _ k_ => z_iconst (v := 1) dX8_mayBeFalse_47 rfl k_) ?_
    refine Zm.l (fun _ _ k_ => z_goto (tgt := 52) dX8_mayBeFalse_48 rfl k_) ?_
    exact zm_iret dX8_mayBeFalse_52 rfl (by decide) k
  · have k := zif h_ k
    exact k
theorem sX8_mayBeFalse_29 {E : zE} {d : Nat} {Q : zO → zM → Prop} (M : zM) (l1 : Int32) (l2 : Int32) (k : if (l2 &&& (128 : Int32)) = 0 then (Q (.inl (some (vi (0 : Int32)))) M) else (Zm E YX8_name d M (zargs 0 [vr (some (97, 1, 0)), vi l1]) 0 [] (zma E YX8_mayBeFalse (d + 1) [] 39 3 [] Q))) : Zm E YX8_mayBeFalse (d + 1) M [(0, vr (some (97, 1, 0))), (1, vi l1), (2, vi l2)] 29 [] Q := by
  refine Zm.l (fun _ _ k_ => z_iload_n dX8_mayBeFalse_29 rfl rfl k_) ?_
  refine Zm.l (fun _ _ k_ => z_sipush (v := 128) dX8_mayBeFalse_30 rfl k_) ?_
  refine Zm.l (fun _ _ k_ => z_iand dX8_mayBeFalse_33 k_) ?_
  refine Zm.br (fun _ _ k1_ k2_ => z_if_eq (tgt := 51) dX8_mayBeFalse_34 rfl k1_ k2_) (fun h_ => ?_) (fun h_ => ?_)
  · have k := zit h_ k
    refine Zm.l (fun _ _ k_ => z_iconst (v := 0) dX8_mayBeFalse_51 rfl k_) ?_
    exact zm_iret dX8_mayBeFalse_52 rfl (by decide) k
  · have k := zif h_ k
    refine Zm.l (fun _ _ k_ => z_aload_n dX8_mayBeFalse_37 rfl rfl k_) ?_
    refine Zm.l (fun _ _ k_ => z_iload_n dX8_mayBeFalse_38 rfl rfl k_) ?_
    refine Zm.pick [] rfl ?_
    exact zm_callV (as := [vi l1]) (st := []) dX8_mayBeFalse_39 vsX8_1053_1 (Nat.le_refl _) (Nat.le_of_ble_eq_true rfl) (Nat.le_of_ble_eq_true rfl) rfl k
theorem sX8_mayBeFalse_42 {E : zE} {d : Nat} {Q : zO → zM → Prop} (M : zM) (s0 : Int32) (k : if s0 = (30 : Int32) then (Q (.inl (some (vi (1 : Int32)))) M) else (Q (.inl (some (vi (0 : Int32)))) M)) : Zm E YX8_mayBeFalse (d + 1) M [] 42 [vi s0] Q := by
  refine Zm.l (fun _ _ k_ => z_bipush (v := 30) dX8_mayBeFalse_42 rfl k_) ?_
  refine Zm.brn (fun _ _ k1_ k2_ => z_icmp_ne (tgt := 51) dX8_mayBeFalse_44 rfl k1_ k2_) (fun h_ => ?_) (fun h_ => ?_)
  · have k := zif h_ k
    refine Zm.l (fun _ _ k_ => z_iconst (v := 0) dX8_mayBeFalse_51 rfl k_) ?_
    exact zm_iret dX8_mayBeFalse_52 rfl (by decide) k
  · have k := zit h_ k
    refine Zm.l (fun _ _ k_ => z_iconst (v := 1) dX8_mayBeFalse_47 rfl k_) ?_
    refine Zm.l (fun _ _ k_ => z_goto (tgt := 52) dX8_mayBeFalse_48 rfl k_) ?_
    exact zm_iret dX8_mayBeFalse_52 rfl (by decide) k
/-! ScriptTypesModel.mayBeTrue(I)Z -/
theorem bX8_mayBeTrue_0 : zdec cX8_mayBeTrue 0 [(0, .aload_n 0, 1), (1, .iload_n 1, 1), (2, .invokevirtual 1047, 3), (5, .istore_n 2, 1), (6, .iload_n 2, 1), (7, .sipush 324, 3), (10, .iand, 1), (11, .ifCond .ne 44, 3), (14, .iload_n 2, 1), (15, .bipush 32, 2), (17, .iand, 1), (18, .ifCond .eq 11, 3), (21, .aload_n 0, 1), (22, .iload_n 1, 1), (23, .invokevirtual 1050, 3), (26, .ifCond .ne 29, 3)] = true := by decide +kernel
theorem dX8_mayBeTrue_0 : decode cX8_mayBeTrue 0 = .ok (.aload_n 0, 1) := zdec_at bX8_mayBeTrue_0 0 rfl
theorem dX8_mayBeTrue_1 : decode cX8_mayBeTrue 1 = .ok (.iload_n 1, 1) := zdec_at bX8_mayBeTrue_0 1 rfl
theorem dX8_mayBeTrue_2 : decode cX8_mayBeTrue 2 = .ok (.invokevirtual 1047, 3) := zdec_at bX8_mayBeTrue_0 2 rfl
theorem dX8_mayBeTrue_5 : decode cX8_mayBeTrue 5 = .ok (.istore_n 2, 1) := zdec_at bX8_mayBeTrue_0 3 rfl
theorem dX8_mayBeTrue_6 : decode cX8_mayBeTrue 6 = .ok (.iload_n 2, 1) := zdec_at bX8_mayBeTrue_0 4 rfl
theorem dX8_mayBeTrue_7 : decode cX8_mayBeTrue 7 = .ok (.sipush 324, 3) := zdec_at bX8_mayBeTrue_0 5 rfl
theorem dX8_mayBeTrue_10 : decode cX8_mayBeTrue 10 = .ok (.iand, 1) := zdec_at bX8_mayBeTrue_0 6 rfl
theorem dX8_mayBeTrue_11 : decode cX8_mayBeTrue 11 = .ok (.ifCond .ne 44, 3) := zdec_at bX8_mayBeTrue_0 7 rfl
theorem dX8_mayBeTrue_14 : decode cX8_mayBeTrue 14 = .ok (.iload_n 2, 1) := zdec_at bX8_mayBeTrue_0 8 rfl
theorem dX8_mayBeTrue_15 : decode cX8_mayBeTrue 15 = .ok (.bipush 32, 2) := zdec_at bX8_mayBeTrue_0 9 rfl
theorem dX8_mayBeTrue_17 : decode cX8_mayBeTrue 17 = .ok (.iand, 1) := zdec_at bX8_mayBeTrue_0 10 rfl
theorem dX8_mayBeTrue_18 : decode cX8_mayBeTrue 18 = .ok (.ifCond .eq 11, 3) := zdec_at bX8_mayBeTrue_0 11 rfl
theorem dX8_mayBeTrue_21 : decode cX8_mayBeTrue 21 = .ok (.aload_n 0, 1) := zdec_at bX8_mayBeTrue_0 12 rfl
theorem dX8_mayBeTrue_22 : decode cX8_mayBeTrue 22 = .ok (.iload_n 1, 1) := zdec_at bX8_mayBeTrue_0 13 rfl
theorem dX8_mayBeTrue_23 : decode cX8_mayBeTrue 23 = .ok (.invokevirtual 1050, 3) := zdec_at bX8_mayBeTrue_0 14 rfl
theorem dX8_mayBeTrue_26 : decode cX8_mayBeTrue 26 = .ok (.ifCond .ne 29, 3) := zdec_at bX8_mayBeTrue_0 15 rfl
theorem bX8_mayBeTrue_29 : zdec cX8_mayBeTrue 29 [(29, .iload_n 2, 1), (30, .sipush 128, 3), (33, .iand, 1), (34, .ifCond .eq 13, 3), (37, .aload_n 0, 1), (38, .iload_n 1, 1), (39, .invokevirtual 1053, 3), (42, .bipush 30, 2), (44, .if_icmp .ne 11, 3), (47, .aload_n 0, 1), (48, .iload_n 1, 1), (49, .invokevirtual 1062, 3), (52, .ifCond .eq 7, 3), (55, .iconst 1, 1), (56, .goto 4, 3), (59, .iconst 0, 1)] = true := by decide +kernel
theorem dX8_mayBeTrue_29 : decode cX8_mayBeTrue 29 = .ok (.iload_n 2, 1) := zdec_at bX8_mayBeTrue_29 0 rfl
theorem dX8_mayBeTrue_30 : decode cX8_mayBeTrue 30 = .ok (.sipush 128, 3) := zdec_at bX8_mayBeTrue_29 1 rfl
theorem dX8_mayBeTrue_33 : decode cX8_mayBeTrue 33 = .ok (.iand, 1) := zdec_at bX8_mayBeTrue_29 2 rfl
theorem dX8_mayBeTrue_34 : decode cX8_mayBeTrue 34 = .ok (.ifCond .eq 13, 3) := zdec_at bX8_mayBeTrue_29 3 rfl
theorem dX8_mayBeTrue_37 : decode cX8_mayBeTrue 37 = .ok (.aload_n 0, 1) := zdec_at bX8_mayBeTrue_29 4 rfl
theorem dX8_mayBeTrue_38 : decode cX8_mayBeTrue 38 = .ok (.iload_n 1, 1) := zdec_at bX8_mayBeTrue_29 5 rfl
theorem dX8_mayBeTrue_39 : decode cX8_mayBeTrue 39 = .ok (.invokevirtual 1053, 3) := zdec_at bX8_mayBeTrue_29 6 rfl
theorem dX8_mayBeTrue_42 : decode cX8_mayBeTrue 42 = .ok (.bipush 30, 2) := zdec_at bX8_mayBeTrue_29 7 rfl
theorem dX8_mayBeTrue_44 : decode cX8_mayBeTrue 44 = .ok (.if_icmp .ne 11, 3) := zdec_at bX8_mayBeTrue_29 8 rfl
theorem dX8_mayBeTrue_47 : decode cX8_mayBeTrue 47 = .ok (.aload_n 0, 1) := zdec_at bX8_mayBeTrue_29 9 rfl
theorem dX8_mayBeTrue_48 : decode cX8_mayBeTrue 48 = .ok (.iload_n 1, 1) := zdec_at bX8_mayBeTrue_29 10 rfl
theorem dX8_mayBeTrue_49 : decode cX8_mayBeTrue 49 = .ok (.invokevirtual 1062, 3) := zdec_at bX8_mayBeTrue_29 11 rfl
theorem dX8_mayBeTrue_52 : decode cX8_mayBeTrue 52 = .ok (.ifCond .eq 7, 3) := zdec_at bX8_mayBeTrue_29 12 rfl
theorem dX8_mayBeTrue_55 : decode cX8_mayBeTrue 55 = .ok (.iconst 1, 1) := zdec_at bX8_mayBeTrue_29 13 rfl
theorem dX8_mayBeTrue_56 : decode cX8_mayBeTrue 56 = .ok (.goto 4, 3) := zdec_at bX8_mayBeTrue_29 14 rfl
theorem dX8_mayBeTrue_59 : decode cX8_mayBeTrue 59 = .ok (.iconst 0, 1) := zdec_at bX8_mayBeTrue_29 15 rfl
theorem bX8_mayBeTrue_60 : zdec cX8_mayBeTrue 60 [(60, .ireturn, 1)] = true := by decide +kernel
theorem dX8_mayBeTrue_60 : decode cX8_mayBeTrue 60 = .ok (.ireturn, 1) := zdec_at bX8_mayBeTrue_60 0 rfl
theorem sX8_mayBeTrue_0 {E : zE} {d : Nat} {Q : zO → zM → Prop} (M : zM) (l1 : Int32) (k : Zm E YX8_has d M (zargs 0 [vr (some (97, 1, 0)), vi l1]) 0 [] (zma E YX8_mayBeTrue (d + 1) [(0, vr (some (97, 1, 0))), (1, vi l1)] 2 3 [] Q)) : Zm E YX8_mayBeTrue (d + 1) M [(0, vr (some (97, 1, 0))), (1, vi l1)] 0 [] Q := by
  refine Zm.l (fun _ _ k_ => z_aload_n dX8_mayBeTrue_0 rfl rfl k_) ?_
  refine Zm.l (fun _ _ k_ => z_iload_n dX8_mayBeTrue_1 rfl rfl k_) ?_
  exact zm_callV (as := [vi l1]) (st := []) dX8_mayBeTrue_2 vsX8_1047_1 (Nat.le_refl _) (Nat.le_of_ble_eq_true rfl) (Nat.le_of_ble_eq_true rfl) rfl k
theorem sX8_mayBeTrue_5 {E : zE} {d : Nat} {Q : zO → zM → Prop} (M : zM) (l1 : Int32) (s0 : Int32) (k : if (s0 &&& (324 : Int32)) = 0 then (if (s0 &&& (32 : Int32)) = 0 then (Zm E YX8_mayBeTrue (d + 1) M [(0, vr (some (97, 1, 0))), (1, vi l1), (2, vi s0)] 29 [] Q) else (Zm E YX8_number d M (zargs 0 [vr (some (97, 1, 0)), vi l1]) 0 [] (zma E YX8_mayBeTrue (d + 1) [(0, vr (some (97, 1, 0))), (1, vi l1), (2, vi s0)] 23 3 [] Q))) else (Q (.inl (some (vi (1 : Int32)))) M)) : Zm E YX8_mayBeTrue (d + 1) M [(0, vr (some (97, 1, 0))), (1, vi l1)] 5 [vi s0] Q := by
  refine Zm.l (fun _ _ k_ => z_ist_n dX8_mayBeTrue_5 rfl (by decide) (lv' := [(0, vr (some (97, 1, 0))), (1, vi l1), (2, vi s0)]) rfl k_) ?_
  refine Zm.l (fun _ _ k_ => z_iload_n dX8_mayBeTrue_6 rfl rfl k_) ?_
  refine Zm.l (fun _ _ k_ => z_sipush (v := 324) dX8_mayBeTrue_7 rfl k_) ?_
  refine Zm.l (fun _ _ k_ => z_iand dX8_mayBeTrue_10 k_) ?_
  refine Zm.brn (fun _ _ k1_ k2_ => z_if_ne (tgt := 55) dX8_mayBeTrue_11 rfl k1_ k2_) (fun h_ => ?_) (fun h_ => ?_)
  · have k := zif h_ k
    refine Zm.l (fun _ _ k_ => z_iconst (v := 1) dX8_mayBeTrue_55 rfl k_) ?_
    refine Zm.l (fun _ _ k_ => z_goto (tgt := 60) dX8_mayBeTrue_56 rfl k_) ?_
    exact zm_iret dX8_mayBeTrue_60 rfl (by decide) k
  · have k := zit h_ k
    refine Zm.l (fun _ _ k_ => z_iload_n dX8_mayBeTrue_14 rfl rfl k_) ?_
    refine Zm.l (fun _ _ k_ => z_bipush (v := 32) dX8_mayBeTrue_15 rfl k_) ?_
    refine Zm.l (fun _ _ k_ => z_iand dX8_mayBeTrue_17 k_) ?_
    refine Zm.br (fun _ _ k1_ k2_ => z_if_eq (tgt := 29) dX8_mayBeTrue_18 rfl k1_ k2_) (fun h_ => ?_) (fun h_ => ?_)
    · have k := zit h_ k
      exact k
    · have k := zif h_ k
      refine Zm.l (fun _ _ k_ => z_aload_n dX8_mayBeTrue_21 rfl rfl k_) ?_
      refine Zm.l (fun _ _ k_ => z_iload_n dX8_mayBeTrue_22 rfl rfl k_) ?_
      exact zm_callV (as := [vi l1]) (st := []) dX8_mayBeTrue_23 vsX8_1050_1 (Nat.le_refl _) (Nat.le_of_ble_eq_true rfl) (Nat.le_of_ble_eq_true rfl) rfl k
theorem sX8_mayBeTrue_26 {E : zE} {d : Nat} {Q : zO → zM → Prop} (M : zM) (l1 : Int32) (l2 : Int32) (s0 : Int32) (k : if s0 = 0 then (Zm E YX8_mayBeTrue (d + 1) M [(0, vr (some (97, 1, 0))), (1, vi l1), (2, vi l2)] 29 [] Q) else (Q (.inl (some (vi (1 : Int32)))) M)) : Zm E YX8_mayBeTrue (d + 1) M [(0, vr (some (97, 1, 0))), (1, vi l1), (2, vi l2)] 26 [vi s0] Q := by
  refine Zm.brn (fun _ _ k1_ k2_ => z_if_ne (tgt := 55) dX8_mayBeTrue_26 rfl k1_ k2_) (fun h_ => ?_) (fun h_ => ?_)
  · have k := zif h_ k
    refine Zm.l (fun _ _ k_ => z_iconst (v := 1) dX8_mayBeTrue_55 rfl k_) ?_
    refine Zm.l (fun _ _ k_ => z_goto (tgt := 60) dX8_mayBeTrue_56 rfl k_) ?_
    exact zm_iret dX8_mayBeTrue_60 rfl (by decide) k
  · have k := zit h_ k
    exact k
theorem sX8_mayBeTrue_29 {E : zE} {d : Nat} {Q : zO → zM → Prop} (M : zM) (l1 : Int32) (l2 : Int32) (k : if (l2 &&& (128 : Int32)) = 0 then (Zm E YX8_hasLabels d M (zargs 0 [vr (some (97, 1, 0)), vi l1]) 0 [] (zma E YX8_mayBeTrue (d + 1) [] 49 3 [] Q)) else (Zm E YX8_name d M (zargs 0 [vr (some (97, 1, 0)), vi l1]) 0 [] (zma E YX8_mayBeTrue (d + 1) [(0, vr (some (97, 1, 0))), (1, vi l1)] 39 3 [] Q))) : Zm E YX8_mayBeTrue (d + 1) M [(0, vr (some (97, 1, 0))), (1, vi l1), (2, vi l2)] 29 [] Q := by
  refine Zm.l (fun _ _ k_ => z_iload_n dX8_mayBeTrue_29 rfl rfl k_) ?_
  refine Zm.l (fun _ _ k_ => z_sipush (v := 128) dX8_mayBeTrue_30 rfl k_) ?_
  refine Zm.l (fun _ _ k_ => z_iand dX8_mayBeTrue_33 k_) ?_
  refine Zm.br (fun _ _ k1_ k2_ => z_if_eq (tgt := 47) dX8_mayBeTrue_34 rfl k1_ k2_) (fun h_ => ?_) (fun h_ => ?_)
  · have k := zit h_ k
    refine Zm.l (fun _ _ k_ => z_aload_n dX8_mayBeTrue_47 rfl rfl k_) ?_
    refine Zm.l (fun _ _ k_ => z_iload_n dX8_mayBeTrue_48 rfl rfl k_) ?_
    refine Zm.pick [] rfl ?_
    exact zm_callV (as := [vi l1]) (st := []) dX8_mayBeTrue_49 vsX8_1062_1 (Nat.le_refl _) (Nat.le_of_ble_eq_true rfl) (Nat.le_of_ble_eq_true rfl) rfl k
  · have k := zif h_ k
    refine Zm.l (fun _ _ k_ => z_aload_n dX8_mayBeTrue_37 rfl rfl k_) ?_
    refine Zm.l (fun _ _ k_ => z_iload_n dX8_mayBeTrue_38 rfl rfl k_) ?_
    refine Zm.pick [0, 1] rfl ?_
    exact zm_callV (as := [vi l1]) (st := []) dX8_mayBeTrue_39 vsX8_1053_1 (Nat.le_refl _) (Nat.le_of_ble_eq_true rfl) (Nat.le_of_ble_eq_true rfl) rfl k
theorem sX8_mayBeTrue_42 {E : zE} {d : Nat} {Q : zO → zM → Prop} (M : zM) (l1 : Int32) (s0 : Int32) (k : if s0 = (30 : Int32) then (Zm E YX8_hasLabels d M (zargs 0 [vr (some (97, 1, 0)), vi l1]) 0 [] (zma E YX8_mayBeTrue (d + 1) [] 49 3 [] Q)) else (Q (.inl (some (vi (1 : Int32)))) M)) : Zm E YX8_mayBeTrue (d + 1) M [(0, vr (some (97, 1, 0))), (1, vi l1)] 42 [vi s0] Q := by
  refine Zm.l (fun _ _ k_ => z_bipush (v := 30) dX8_mayBeTrue_42 rfl k_) ?_
  refine Zm.brn (fun _ _ k1_ k2_ => z_icmp_ne (tgt := 55) dX8_mayBeTrue_44 rfl k1_ k2_) (fun h_ => ?_) (fun h_ => ?_)
  · have k := zif h_ k
    refine Zm.l (fun _ _ k_ => z_iconst (v := 1) dX8_mayBeTrue_55 rfl k_) ?_
    refine Zm.l (fun _ _ k_ => z_goto (tgt := 60) dX8_mayBeTrue_56 rfl k_) ?_
    exact zm_iret dX8_mayBeTrue_60 rfl (by decide) k
  · have k := zit h_ k
    refine Zm.l (fun _ _ k_ => z_aload_n dX8_mayBeTrue_47 rfl rfl k_) ?_
    refine Zm.l (fun _ _ k_ => z_iload_n dX8_mayBeTrue_48 rfl rfl k_) ?_
    refine Zm.pick [] rfl ?_
    exact zm_callV (as := [vi l1]) (st := []) dX8_mayBeTrue_49 vsX8_1062_1 (Nat.le_refl _) (Nat.le_of_ble_eq_true rfl) (Nat.le_of_ble_eq_true rfl) rfl k
theorem sX8_mayBeTrue_52 {E : zE} {d : Nat} {Q : zO → zM → Prop} (M : zM) (s0 : Int32) (k : if s0 = 0 then (Q (.inl (some (vi (0 : Int32)))) M) else (Q (.inl (some (vi (1 : Int32)))) M)) : Zm E YX8_mayBeTrue (d + 1) M [] 52 [vi s0] Q := by
  refine Zm.br (fun _ _ k1_ k2_ => z_if_eq (tgt := 59) dX8_mayBeTrue_52 rfl k1_ k2_) (fun h_ => ?_) (fun h_ => ?_)
  · have k := zit h_ k
    refine Zm.l (fun _ _ k_ => z_iconst (v := 0) dX8_mayBeTrue_59 rfl k_) ?_
    exact zm_iret dX8_mayBeTrue_60 rfl (by decide) k
  · have k := zif h_ k
    refine Zm.l (fun _ _ k_ => z_iconst (v := 1) dX8_mayBeTrue_55 rfl k_) ?_
    refine Zm.l (fun _ _ k_ => z_goto (tgt := 60) dX8_mayBeTrue_56 rfl k_) ?_
    exact zm_iret dX8_mayBeTrue_60 rfl (by decide) k
/-! ScriptTypesModel.waysOfBinary(I)V -/
theorem bX8_waysOfBinary_0 : zdec cX8_waysOfBinary 0 [(0, .aload_n 0, 1), (1, .iconst 1, 1), (2, .invokevirtual 1195, 3), (5, .istore_n 2, 1), (6, .aload_n 0, 1), (7, .iconst 0, 1), (8, .invokevirtual 1195, 3), (11, .istore_n 3, 1), (12, .ldc_w 1218, 3), (15, .istore 4, 2), (17, .iconst 0, 1), (18, .istore 5, 2), (20, .aload_n 0, 1), (21, .iload 4, 2), (23, .invokevirtual 1066, 3), (26, .iload_n 1, 1)] = true := by decide +kernel
theorem dX8_waysOfBinary_0 : decode cX8_waysOfBinary 0 = .ok (.aload_n 0, 1) := zdec_at bX8_waysOfBinary_0 0 rfl
theorem dX8_waysOfBinary_1 : decode cX8_waysOfBinary 1 = .ok (.iconst 1, 1) := zdec_at bX8_waysOfBinary_0 1 rfl
theorem dX8_waysOfBinary_2 : decode cX8_waysOfBinary 2 = .ok (.invokevirtual 1195, 3) := zdec_at bX8_waysOfBinary_0 2 rfl
theorem dX8_waysOfBinary_5 : decode cX8_waysOfBinary 5 = .ok (.istore_n 2, 1) := zdec_at bX8_waysOfBinary_0 3 rfl
theorem dX8_waysOfBinary_6 : decode cX8_waysOfBinary 6 = .ok (.aload_n 0, 1) := zdec_at bX8_waysOfBinary_0 4 rfl
theorem dX8_waysOfBinary_7 : decode cX8_waysOfBinary 7 = .ok (.iconst 0, 1) := zdec_at bX8_waysOfBinary_0 5 rfl
theorem dX8_waysOfBinary_8 : decode cX8_waysOfBinary 8 = .ok (.invokevirtual 1195, 3) := zdec_at bX8_waysOfBinary_0 6 rfl
theorem dX8_waysOfBinary_11 : decode cX8_waysOfBinary 11 = .ok (.istore_n 3, 1) := zdec_at bX8_waysOfBinary_0 7 rfl
theorem dX8_waysOfBinary_12 : decode cX8_waysOfBinary 12 = .ok (.ldc_w 1218, 3) := zdec_at bX8_waysOfBinary_0 8 rfl
theorem dX8_waysOfBinary_15 : decode cX8_waysOfBinary 15 = .ok (.istore 4, 2) := zdec_at bX8_waysOfBinary_0 9 rfl
theorem dX8_waysOfBinary_17 : decode cX8_waysOfBinary 17 = .ok (.iconst 0, 1) := zdec_at bX8_waysOfBinary_0 10 rfl
theorem dX8_waysOfBinary_18 : decode cX8_waysOfBinary 18 = .ok (.istore 5, 2) := zdec_at bX8_waysOfBinary_0 11 rfl
theorem dX8_waysOfBinary_20 : decode cX8_waysOfBinary 20 = .ok (.aload_n 0, 1) := zdec_at bX8_waysOfBinary_0 12 rfl
theorem dX8_waysOfBinary_21 : decode cX8_waysOfBinary 21 = .ok (.iload 4, 2) := zdec_at bX8_waysOfBinary_0 13 rfl
theorem dX8_waysOfBinary_23 : decode cX8_waysOfBinary 23 = .ok (.invokevirtual 1066, 3) := zdec_at bX8_waysOfBinary_0 14 rfl
theorem dX8_waysOfBinary_26 : decode cX8_waysOfBinary 26 = .ok (.iload_n 1, 1) := zdec_at bX8_waysOfBinary_0 15 rfl
theorem bX8_waysOfBinary_27 : zdec cX8_waysOfBinary 27 [(27, .bipush 19, 2), (29, .if_icmp .ne 87, 3), (32, .aload_n 0, 1), (33, .iload_n 2, 1), (34, .invokevirtual 1147, 3), (37, .aload_n 0, 1), (38, .iload_n 3, 1), (39, .invokevirtual 1059, 3), (42, .ifCond .eq 7, 3), (45, .iconst 1, 1), (46, .goto 4, 3), (49, .iconst 0, 1), (50, .istore 5, 2), (52, .aload_n 0, 1), (53, .iload_n 3, 1), (54, .invokevirtual 1062, 3)] = true := by decide +kernel
theorem dX8_waysOfBinary_27 : decode cX8_waysOfBinary 27 = .ok (.bipush 19, 2) := zdec_at bX8_waysOfBinary_27 0 rfl
theorem dX8_waysOfBinary_29 : decode cX8_waysOfBinary 29 = .ok (.if_icmp .ne 87, 3) := zdec_at bX8_waysOfBinary_27 1 rfl
theorem dX8_waysOfBinary_32 : decode cX8_waysOfBinary 32 = .ok (.aload_n 0, 1) := zdec_at bX8_waysOfBinary_27 2 rfl
theorem dX8_waysOfBinary_33 : decode cX8_waysOfBinary 33 = .ok (.iload_n 2, 1) := zdec_at bX8_waysOfBinary_27 3 rfl
theorem dX8_waysOfBinary_34 : decode cX8_waysOfBinary 34 = .ok (.invokevirtual 1147, 3) := zdec_at bX8_waysOfBinary_27 4 rfl
theorem dX8_waysOfBinary_37 : decode cX8_waysOfBinary 37 = .ok (.aload_n 0, 1) := zdec_at bX8_waysOfBinary_27 5 rfl
theorem dX8_waysOfBinary_38 : decode cX8_waysOfBinary 38 = .ok (.iload_n 3, 1) := zdec_at bX8_waysOfBinary_27 6 rfl
theorem dX8_waysOfBinary_39 : decode cX8_waysOfBinary 39 = .ok (.invokevirtual 1059, 3) := zdec_at bX8_waysOfBinary_27 7 rfl
theorem dX8_waysOfBinary_42 : decode cX8_waysOfBinary 42 = .ok (.ifCond .eq 7, 3) := zdec_at bX8_waysOfBinary_27 8 rfl
theorem dX8_waysOfBinary_45 : decode cX8_waysOfBinary 45 = .ok (.iconst 1, 1) := zdec_at bX8_waysOfBinary_27 9 rfl
theorem dX8_waysOfBinary_46 : decode cX8_waysOfBinary 46 = .ok (.goto 4, 3) := zdec_at bX8_waysOfBinary_27 10 rfl
theorem dX8_waysOfBinary_49 : decode cX8_waysOfBinary 49 = .ok (.iconst 0, 1) := zdec_at bX8_waysOfBinary_27 11 rfl
theorem dX8_waysOfBinary_50 : decode cX8_waysOfBinary 50 = .ok (.istore 5, 2) := zdec_at bX8_waysOfBinary_27 12 rfl
theorem dX8_waysOfBinary_52 : decode cX8_waysOfBinary 52 = .ok (.aload_n 0, 1) := zdec_at bX8_waysOfBinary_27 13 rfl
theorem dX8_waysOfBinary_53 : decode cX8_waysOfBinary 53 = .ok (.iload_n 3, 1) := zdec_at bX8_waysOfBinary_27 14 rfl
theorem dX8_waysOfBinary_54 : decode cX8_waysOfBinary 54 = .ok (.invokevirtual 1062, 3) := zdec_at bX8_waysOfBinary_27 15 rfl
theorem bX8_waysOfBinary_57 : zdec cX8_waysOfBinary 57 [(57, .ifCond .eq 87, 3), (60, .aload_n 0, 1), (61, .aload_n 0, 1), (62, .getfield 220, 3), (65, .iload_n 3, 1), (66, .laload, 1), (67, .aload_n 0, 1), (68, .getfield 223, 3), (71, .iload_n 3, 1), (72, .laload, 1), (73, .iload 4, 2), (75, .iconst 1, 1), (76, .iadd, 1), (77, .invokevirtual 1306, 3), (80, .aload_n 0, 1), (81, .iload 4, 2)] = true := by decide +kernel
theorem dX8_waysOfBinary_57 : decode cX8_waysOfBinary 57 = .ok (.ifCond .eq 87, 3) := zdec_at bX8_waysOfBinary_57 0 rfl
theorem dX8_waysOfBinary_60 : decode cX8_waysOfBinary 60 = .ok (.aload_n 0, 1) := zdec_at bX8_waysOfBinary_57 1 rfl
theorem dX8_waysOfBinary_61 : decode cX8_waysOfBinary 61 = .ok (.aload_n 0, 1) := zdec_at bX8_waysOfBinary_57 2 rfl
theorem dX8_waysOfBinary_62 : decode cX8_waysOfBinary 62 = .ok (.getfield 220, 3) := zdec_at bX8_waysOfBinary_57 3 rfl
theorem dX8_waysOfBinary_65 : decode cX8_waysOfBinary 65 = .ok (.iload_n 3, 1) := zdec_at bX8_waysOfBinary_57 4 rfl
theorem dX8_waysOfBinary_66 : decode cX8_waysOfBinary 66 = .ok (.laload, 1) := zdec_at bX8_waysOfBinary_57 5 rfl
theorem dX8_waysOfBinary_67 : decode cX8_waysOfBinary 67 = .ok (.aload_n 0, 1) := zdec_at bX8_waysOfBinary_57 6 rfl
theorem dX8_waysOfBinary_68 : decode cX8_waysOfBinary 68 = .ok (.getfield 223, 3) := zdec_at bX8_waysOfBinary_57 7 rfl
theorem dX8_waysOfBinary_71 : decode cX8_waysOfBinary 71 = .ok (.iload_n 3, 1) := zdec_at bX8_waysOfBinary_57 8 rfl
theorem dX8_waysOfBinary_72 : decode cX8_waysOfBinary 72 = .ok (.laload, 1) := zdec_at bX8_waysOfBinary_57 9 rfl
theorem dX8_waysOfBinary_73 : decode cX8_waysOfBinary 73 = .ok (.iload 4, 2) := zdec_at bX8_waysOfBinary_57 10 rfl
theorem dX8_waysOfBinary_75 : decode cX8_waysOfBinary 75 = .ok (.iconst 1, 1) := zdec_at bX8_waysOfBinary_57 11 rfl
theorem dX8_waysOfBinary_76 : decode cX8_waysOfBinary 76 = .ok (.iadd, 1) := zdec_at bX8_waysOfBinary_57 12 rfl
theorem dX8_waysOfBinary_77 : decode cX8_waysOfBinary 77 = .ok (.invokevirtual 1306, 3) := zdec_at bX8_waysOfBinary_57 13 rfl
theorem dX8_waysOfBinary_80 : decode cX8_waysOfBinary 80 = .ok (.aload_n 0, 1) := zdec_at bX8_waysOfBinary_57 14 rfl
theorem dX8_waysOfBinary_81 : decode cX8_waysOfBinary 81 = .ok (.iload 4, 2) := zdec_at bX8_waysOfBinary_57 15 rfl
theorem bX8_waysOfBinary_83 : zdec cX8_waysOfBinary 83 [(83, .iconst 1, 1), (84, .iadd, 1), (85, .invokevirtual 1231, 3), (88, .ifCond .ne 10, 3), (91, .aload_n 0, 1), (92, .iload 4, 2), (94, .iconst 4, 1), (95, .invokevirtual 1072, 3), (98, .aload_n 0, 1), (99, .getfield 1156, 3), (102, .ifCond .eq 42, 3), (105, .aload_n 0, 1), (106, .iload 4, 2), (108, .bipush 8, 2), (110, .invokevirtual 1072, 3), (113, .goto 31, 3)] = true := by decide +kernel
theorem dX8_waysOfBinary_83 : decode cX8_waysOfBinary 83 = .ok (.iconst 1, 1) := zdec_at bX8_waysOfBinary_83 0 rfl
theorem dX8_waysOfBinary_84 : decode cX8_waysOfBinary 84 = .ok (.iadd, 1) := zdec_at bX8_waysOfBinary_83 1 rfl
theorem dX8_waysOfBinary_85 : decode cX8_waysOfBinary 85 = .ok (.invokevirtual 1231, 3) := zdec_at bX8_waysOfBinary_83 2 rfl
theorem dX8_waysOfBinary_88 : decode cX8_waysOfBinary 88 = .ok (.ifCond .ne 10, 3) := zdec_at bX8_waysOfBinary_83 3 rfl
theorem dX8_waysOfBinary_91 : decode cX8_waysOfBinary 91 = .ok (.aload_n 0, 1) := zdec_at bX8_waysOfBinary_83 4 rfl
theorem dX8_waysOfBinary_92 : decode cX8_waysOfBinary 92 = .ok (.iload 4, 2) := zdec_at bX8_waysOfBinary_83 5 rfl
theorem dX8_waysOfBinary_94 : decode cX8_waysOfBinary 94 = .ok (.iconst 4, 1) := zdec_at bX8_waysOfBinary_83 6 rfl
theorem dX8_waysOfBinary_95 : decode cX8_waysOfBinary 95 = .ok (.invokevirtual 1072, 3) := zdec_at bX8_waysOfBinary_83 7 rfl
theorem dX8_waysOfBinary_98 : decode cX8_waysOfBinary 98 = .ok (.aload_n 0, 1) := zdec_at bX8_waysOfBinary_83 8 rfl
theorem dX8_waysOfBinary_99 : decode cX8_waysOfBinary 99 = .ok (.getfield 1156, 3) := zdec_at bX8_waysOfBinary_83 9 rfl
theorem dX8_waysOfBinary_102 : decode cX8_waysOfBinary 102 = .ok (.ifCond .eq 42, 3) := zdec_at bX8_waysOfBinary_83 10 rfl
theorem dX8_waysOfBinary_105 : decode cX8_waysOfBinary 105 = .ok (.aload_n 0, 1) := zdec_at bX8_waysOfBinary_83 11 rfl
theorem dX8_waysOfBinary_106 : decode cX8_waysOfBinary 106 = .ok (.iload 4, 2) := zdec_at bX8_waysOfBinary_83 12 rfl
theorem dX8_waysOfBinary_108 : decode cX8_waysOfBinary 108 = .ok (.bipush 8, 2) := zdec_at bX8_waysOfBinary_83 13 rfl
theorem dX8_waysOfBinary_110 : decode cX8_waysOfBinary 110 = .ok (.invokevirtual 1072, 3) := zdec_at bX8_waysOfBinary_83 14 rfl
theorem dX8_waysOfBinary_113 : decode cX8_waysOfBinary 113 = .ok (.goto 31, 3) := zdec_at bX8_waysOfBinary_83 15 rfl
theorem bX8_waysOfBinary_116 : zdec cX8_waysOfBinary 116 [(116, .iload_n 1, 1), (117, .bipush 20, 2), (119, .if_icmp .ne 16, 3), (122, .aload_n 0, 1), (123, .iload_n 2, 1), (124, .iload_n 3, 1), (125, .iload 4, 2), (127, .invokevirtual 1314, 3), (130, .istore 5, 2), (132, .goto 12, 3), (135, .aload_n 0, 1), (136, .iload_n 1, 1), (137, .iload_n 2, 1), (138, .iload_n 3, 1), (139, .iload 4, 2), (141, .invokevirtual 1317, 3)] = true := by decide +kernel
theorem dX8_waysOfBinary_116 : decode cX8_waysOfBinary 116 = .ok (.iload_n 1, 1) := zdec_at bX8_waysOfBinary_116 0 rfl
theorem dX8_waysOfBinary_117 : decode cX8_waysOfBinary 117 = .ok (.bipush 20, 2) := zdec_at bX8_waysOfBinary_116 1 rfl
theorem dX8_waysOfBinary_119 : decode cX8_waysOfBinary 119 = .ok (.if_icmp .ne 16, 3) := zdec_at bX8_waysOfBinary_116 2 rfl
theorem dX8_waysOfBinary_122 : decode cX8_waysOfBinary 122 = .ok (.aload_n 0, 1) := zdec_at bX8_waysOfBinary_116 3 rfl
theorem dX8_waysOfBinary_123 : decode cX8_waysOfBinary 123 = .ok (.iload_n 2, 1) := zdec_at bX8_waysOfBinary_116 4 rfl
theorem dX8_waysOfBinary_124 : decode cX8_waysOfBinary 124 = .ok (.iload_n 3, 1) := zdec_at bX8_waysOfBinary_116 5 rfl
theorem dX8_waysOfBinary_125 : decode cX8_waysOfBinary 125 = .ok (.iload 4, 2) := zdec_at bX8_waysOfBinary_116 6 rfl
theorem dX8_waysOfBinary_127 : decode cX8_waysOfBinary 127 = .ok (.invokevirtual 1314, 3) := zdec_at bX8_waysOfBinary_116 7 rfl
theorem dX8_waysOfBinary_130 : decode cX8_waysOfBinary 130 = .ok (.istore 5, 2) := zdec_at bX8_waysOfBinary_116 8 rfl
theorem dX8_waysOfBinary_132 : decode cX8_waysOfBinary 132 = .ok (.goto 12, 3) := zdec_at bX8_waysOfBinary_116 9 rfl
theorem dX8_waysOfBinary_135 : decode cX8_waysOfBinary 135 = .ok (.aload_n 0, 1) := zdec_at bX8_waysOfBinary_116 10 rfl
theorem dX8_waysOfBinary_136 : decode cX8_waysOfBinary 136 = .ok (.iload_n 1, 1) := zdec_at bX8_waysOfBinary_116 11 rfl
theorem dX8_waysOfBinary_137 : decode cX8_waysOfBinary 137 = .ok (.iload_n 2, 1) := zdec_at bX8_waysOfBinary_116 12 rfl
theorem dX8_waysOfBinary_138 : decode cX8_waysOfBinary 138 = .ok (.iload_n 3, 1) := zdec_at bX8_waysOfBinary_116 13 rfl
theorem dX8_waysOfBinary_139 : decode cX8_waysOfBinary 139 = .ok (.iload 4, 2) := zdec_at bX8_waysOfBinary_116 14 rfl
theorem dX8_waysOfBinary_141 : decode cX8_waysOfBinary 141 = .ok (.invokevirtual 1317, 3) := zdec_at bX8_waysOfBinary_116 15 rfl
theorem bX8_waysOfBinary_144 : zdec cX8_waysOfBinary 144 [(144, .aload_n 0, 1), (145, .iconst 2, 1), (146, .iload 4, 2), (148, .invokevirtual 1258, 3), (151, .iload 5, 2), (153, .ifCond .eq 13, 3), (156, .aload_n 0, 1), (157, .aload_n 0, 1), (158, .getfield 1188, 3), (161, .bipush 6, 2), (163, .invokevirtual 1292, 3), (166, .return_, 1)] = true := by decide +kernel
theorem dX8_waysOfBinary_144 : decode cX8_waysOfBinary 144 = .ok (.aload_n 0, 1) := zdec_at bX8_waysOfBinary_144 0 rfl
theorem dX8_waysOfBinary_145 : decode cX8_waysOfBinary 145 = .ok (.iconst 2, 1) := zdec_at bX8_waysOfBinary_144 1 rfl
theorem dX8_waysOfBinary_146 : decode cX8_waysOfBinary 146 = .ok (.iload 4, 2) := zdec_at bX8_waysOfBinary_144 2 rfl
theorem dX8_waysOfBinary_148 : decode cX8_waysOfBinary 148 = .ok (.invokevirtual 1258, 3) := zdec_at bX8_waysOfBinary_144 3 rfl
theorem dX8_waysOfBinary_151 : decode cX8_waysOfBinary 151 = .ok (.iload 5, 2) := zdec_at bX8_waysOfBinary_144 4 rfl
theorem dX8_waysOfBinary_153 : decode cX8_waysOfBinary 153 = .ok (.ifCond .eq 13, 3) := zdec_at bX8_waysOfBinary_144 5 rfl
theorem dX8_waysOfBinary_156 : decode cX8_waysOfBinary 156 = .ok (.aload_n 0, 1) := zdec_at bX8_waysOfBinary_144 6 rfl
theorem dX8_waysOfBinary_157 : decode cX8_waysOfBinary 157 = .ok (.aload_n 0, 1) := zdec_at bX8_waysOfBinary_144 7 rfl
theorem dX8_waysOfBinary_158 : decode cX8_waysOfBinary 158 = .ok (.getfield 1188, 3) := zdec_at bX8_waysOfBinary_144 8 rfl
theorem dX8_waysOfBinary_161 : decode cX8_waysOfBinary 161 = .ok (.bipush 6, 2) := zdec_at bX8_waysOfBinary_144 9 rfl
theorem dX8_waysOfBinary_163 : decode cX8_waysOfBinary 163 = .ok (.invokevirtual 1292, 3) := zdec_at bX8_waysOfBinary_144 10 rfl
theorem dX8_waysOfBinary_166 : decode cX8_waysOfBinary 166 = .ok (.return_, 1) := zdec_at bX8_waysOfBinary_144 11 rfl
theorem sX8_waysOfBinary_0 {E : zE} {d : Nat} {Q : zO → zM → Prop} (M : zM) (l1 : Int32) (k : Zm E YX8_fromTop d M (zargs 0 [vr (some (97, 1, 0)), vi (1 : Int32)]) 0 [] (zma E YX8_waysOfBinary (d + 1) [(0, vr (some (97, 1, 0))), (1, vi l1)] 2 3 [] Q)) : Zm E YX8_waysOfBinary (d + 1) M [(0, vr (some (97, 1, 0))), (1, vi l1)] 0 [] Q := by
  refine Zm.l (fun _ _ k_ => z_aload_n dX8_waysOfBinary_0 rfl rfl k_) ?_
  refine Zm.l (fun _ _ k_ => z_iconst (v := 1) dX8_waysOfBinary_1 rfl k_) ?_
  exact zm_callV (as := [vi (1 : Int32)]) (st := []) dX8_waysOfBinary_2 vsX8_1195_1 (Nat.le_refl _) (Nat.le_of_ble_eq_true rfl) (Nat.le_of_ble_eq_true rfl) rfl k
theorem sX8_waysOfBinary_5 {E : zE} {d : Nat} {Q : zO → zM → Prop} (M : zM) (l1 : Int32) (s0 : Int32) (k : Zm E YX8_fromTop d M (zargs 0 [vr (some (97, 1, 0)), vi (0 : Int32)]) 0 [] (zma E YX8_waysOfBinary (d + 1) [(0, vr (some (97, 1, 0))), (1, vi l1), (2, vi s0)] 8 3 [] Q)) : Zm E YX8_waysOfBinary (d + 1) M [(0, vr (some (97, 1, 0))), (1, vi l1)] 5 [vi s0] Q := by
  refine Zm.l (fun _ _ k_ => z_ist_n dX8_waysOfBinary_5 rfl (by decide) (lv' := [(0, vr (some (97, 1, 0))), (1, vi l1), (2, vi s0)]) rfl k_) ?_
  refine Zm.l (fun _ _ k_ => z_aload_n dX8_waysOfBinary_6 rfl rfl k_) ?_
  refine Zm.l (fun _ _ k_ => z_iconst (v := 0) dX8_waysOfBinary_7 rfl k_) ?_
  exact zm_callV (as := [vi (0 : Int32)]) (st := []) dX8_waysOfBinary_8 vsX8_1195_1 (Nat.le_refl _) (Nat.le_of_ble_eq_true rfl) (Nat.le_of_ble_eq_true rfl) rfl k
theorem sX8_waysOfBinary_11 {E : zE} {d : Nat} {Q : zO → zM → Prop} (M : zM) (l1 : Int32) (l2 : Int32) (s0 : Int32) (k : Zm E YX8_empty d M (zargs 0 [vr (some (97, 1, 0)), vi (647740 : Int32)]) 0 [] (zma E YX8_waysOfBinary (d + 1) [(0, vr (some (97, 1, 0))), (1, vi l1), (2, vi l2), (3, vi s0), (4, vi (647740 : Int32)), (5, vi (0 : Int32))] 23 3 [] Q)) : Zm E YX8_waysOfBinary (d + 1) M [(0, vr (some (97, 1, 0))), (1, vi l1), (2, vi l2)] 11 [vi s0] Q := by
  refine Zm.l (fun _ _ k_ => z_ist_n dX8_waysOfBinary_11 rfl (by decide) (lv' := [(0, vr (some (97, 1, 0))), (1, vi l1), (2, vi l2), (3, vi s0)]) rfl k_) ?_
  refine Zm.l (fun _ _ k_ => z_ldcw (v := 647740) dX8_waysOfBinary_12 q4880 k_) ?_
  refine Zm.l (fun _ _ k_ => z_ist dX8_waysOfBinary_15 (by decide) (lv' := [(0, vr (some (97, 1, 0))), (1, vi l1), (2, vi l2), (3, vi s0), (4, vi (647740 : Int32))]) rfl k_) ?_
  refine Zm.l (fun _ _ k_ => z_iconst (v := 0) dX8_waysOfBinary_17 rfl k_) ?_
  refine Zm.l (fun _ _ k_ => z_ist dX8_waysOfBinary_18 (by decide) (lv' := [(0, vr (some (97, 1, 0))), (1, vi l1), (2, vi l2), (3, vi s0), (4, vi (647740 : Int32)), (5, vi (0 : Int32))]) rfl k_) ?_
  refine Zm.l (fun _ _ k_ => z_aload_n dX8_waysOfBinary_20 rfl rfl k_) ?_
  refine Zm.l (fun _ _ k_ => z_iload dX8_waysOfBinary_21 rfl k_) ?_
  exact zm_callV (as := [vi (647740 : Int32)]) (st := []) dX8_waysOfBinary_23 vsX8_1066_1 (Nat.le_refl _) (Nat.le_of_ble_eq_true rfl) (Nat.le_of_ble_eq_true rfl) rfl k
theorem sX8_waysOfBinary_26 {E : zE} {d : Nat} {Q : zO → zM → Prop} (M : zM) (l1 : Int32) (l2 : Int32) (l3 : Int32) (l4 : Int32) (l5 : Int32) (k : if l1 = (19 : Int32) then (Zm E YX8_keysOf d M (zargs 0 [vr (some (97, 1, 0)), vi l2]) 0 [] (zma E YX8_waysOfBinary (d + 1) [(0, vr (some (97, 1, 0))), (3, vi l3), (4, vi l4)] 34 3 [] Q)) else (if l1 = (20 : Int32) then (Zm E YX8_isMadeBySet d M (zargs 0 [vr (some (97, 1, 0)), vi l2, vi l3, vi l4]) 0 [] (zma E YX8_waysOfBinary (d + 1) [(0, vr (some (97, 1, 0))), (4, vi l4)] 127 3 [] Q)) else (Zm E YX8_binarySet d M (zargs 0 [vr (some (97, 1, 0)), vi l1, vi l2, vi l3, vi l4]) 0 [] (zma E YX8_waysOfBinary (d + 1) [(0, vr (some (97, 1, 0))), (4, vi l4), (5, vi l5)] 141 3 [] Q)))) : Zm E YX8_waysOfBinary (d + 1) M [(0, vr (some (97, 1, 0))), (1, vi l1), (2, vi l2), (3, vi l3), (4, vi l4), (5, vi l5)] 26 [] Q := by
  refine Zm.l (fun _ _ k_ => z_iload_n dX8_waysOfBinary_26 rfl rfl k_) ?_
  refine Zm.l (fun _ _ k_ => z_bipush (v := 19) dX8_waysOfBinary_27 rfl k_) ?_
  refine Zm.brn (fun _ _ k1_ k2_ => z_icmp_ne (tgt := 116) dX8_waysOfBinary_29 rfl k1_ k2_) (fun h_ => ?_) (fun h_ => ?_)
  · have k := zif h_ k
    refine Zm.l (fun _ _ k_ => z_iload_n dX8_waysOfBinary_116 rfl rfl k_) ?_
    refine Zm.l (fun _ _ k_ => z_bipush (v := 20) dX8_waysOfBinary_117 rfl k_) ?_
    refine Zm.brn (fun _ _ k1_ k2_ => z_icmp_ne (tgt := 135) dX8_waysOfBinary_119 rfl k1_ k2_) (fun h_ => ?_) (fun h_ => ?_)
    · have k := zif h_ k
      refine Zm.l (fun _ _ k_ => z_aload_n dX8_waysOfBinary_135 rfl rfl k_) ?_
      refine Zm.l (fun _ _ k_ => z_iload_n dX8_waysOfBinary_136 rfl rfl k_) ?_
      refine Zm.l (fun _ _ k_ => z_iload_n dX8_waysOfBinary_137 rfl rfl k_) ?_
      refine Zm.l (fun _ _ k_ => z_iload_n dX8_waysOfBinary_138 rfl rfl k_) ?_
      refine Zm.l (fun _ _ k_ => z_iload dX8_waysOfBinary_139 rfl k_) ?_
      refine Zm.pick [0, 4, 5] rfl ?_
      exact zm_callV (as := [vi l1, vi l2, vi l3, vi l4]) (st := []) dX8_waysOfBinary_141 vsX8_1317_1 (Nat.le_refl _) (Nat.le_of_ble_eq_true rfl) (Nat.le_of_ble_eq_true rfl) rfl k
    · have k := zit h_ k
      refine Zm.l (fun _ _ k_ => z_aload_n dX8_waysOfBinary_122 rfl rfl k_) ?_
      refine Zm.l (fun _ _ k_ => z_iload_n dX8_waysOfBinary_123 rfl rfl k_) ?_
      refine Zm.l (fun _ _ k_ => z_iload_n dX8_waysOfBinary_124 rfl rfl k_) ?_
      refine Zm.l (fun _ _ k_ => z_iload dX8_waysOfBinary_125 rfl k_) ?_
      refine Zm.pick [0, 4] rfl ?_
      exact zm_callV (as := [vi l2, vi l3, vi l4]) (st := []) dX8_waysOfBinary_127 vsX8_1314_1 (Nat.le_refl _) (Nat.le_of_ble_eq_true rfl) (Nat.le_of_ble_eq_true rfl) rfl k
  · have k := zit h_ k
    refine Zm.l (fun _ _ k_ => z_aload_n dX8_waysOfBinary_32 rfl rfl k_) ?_
    refine Zm.l (fun _ _ k_ => z_iload_n dX8_waysOfBinary_33 rfl rfl k_) ?_
    refine Zm.pick [0, 3, 4] rfl ?_
    exact zm_callV (as := [vi l2]) (st := []) dX8_waysOfBinary_34 vsX8_1147_1 (Nat.le_refl _) (Nat.le_of_ble_eq_true rfl) (Nat.le_of_ble_eq_true rfl) rfl k
theorem sX8_waysOfBinary_37 {E : zE} {d : Nat} {Q : zO → zM → Prop} (M : zM) (l3 : Int32) (l4 : Int32) (k : Zm E YX8_plainly d M (zargs 0 [vr (some (97, 1, 0)), vi l3]) 0 [] (zma E YX8_waysOfBinary (d + 1) [(0, vr (some (97, 1, 0))), (3, vi l3), (4, vi l4)] 39 3 [] Q)) : Zm E YX8_waysOfBinary (d + 1) M [(0, vr (some (97, 1, 0))), (3, vi l3), (4, vi l4)] 37 [] Q := by
  refine Zm.l (fun _ _ k_ => z_aload_n dX8_waysOfBinary_37 rfl rfl k_) ?_
  refine Zm.l (fun _ _ k_ => z_iload_n dX8_waysOfBinary_38 rfl rfl k_) ?_
  exact zm_callV (as := [vi l3]) (st := []) dX8_waysOfBinary_39 vsX8_1059_1 (Nat.le_refl _) (Nat.le_of_ble_eq_true rfl) (Nat.le_of_ble_eq_true rfl) rfl k
theorem sX8_waysOfBinary_42 {E : zE} {d : Nat} {Q : zO → zM → Prop} (M : zM) (l3 : Int32) (l4 : Int32) (s0 : Int32) (k : if s0 = 0 then (Zm E YX8_hasLabels d M (zargs 0 [vr (some (97, 1, 0)), vi l3]) 0 [] (zma E YX8_waysOfBinary (d + 1) [(0, vr (some (97, 1, 0))), (3, vi l3), (4, vi l4), (5, vi (0 : Int32))] 54 3 [] Q)) else (Zm E YX8_hasLabels d M (zargs 0 [vr (some (97, 1, 0)), vi l3]) 0 [] (zma E YX8_waysOfBinary (d + 1) [(0, vr (some (97, 1, 0))), (3, vi l3), (4, vi l4), (5, vi (1 : Int32))] 54 3 [] Q))) : Zm E YX8_waysOfBinary (d + 1) M [(0, vr (some (97, 1, 0))), (3, vi l3), (4, vi l4)] 42 [vi s0] Q := by
  refine Zm.br (fun _ _ k1_ k2_ => z_if_eq (tgt := 49) dX8_waysOfBinary_42 rfl k1_ k2_) (fun h_ => ?_) (fun h_ => ?_)
  · have k := zit h_ k
    refine Zm.l (fun _ _ k_ => z_iconst (v := 0) dX8_waysOfBinary_49 rfl k_) ?_
    refine Zm.l (fun _ _ k_ => z_ist dX8_waysOfBinary_50 (by decide) (lv' := [(0, vr (some (97, 1, 0))), (3, vi l3), (4, vi l4), (5, vi (0 : Int32))]) rfl k_) ?_
    refine Zm.l (fun _ _ k_ => z_aload_n dX8_waysOfBinary_52 rfl rfl k_) ?_
    refine Zm.l (fun _ _ k_ => z_iload_n dX8_waysOfBinary_53 rfl rfl k_) ?_
    exact zm_callV (as := [vi l3]) (st := []) dX8_waysOfBinary_54 vsX8_1062_1 (Nat.le_refl _) (Nat.le_of_ble_eq_true rfl) (Nat.le_of_ble_eq_true rfl) rfl k
  · have k := zif h_ k
    refine Zm.l (fun _ _ k_ => z_iconst (v := 1) dX8_waysOfBinary_45 rfl k_) ?_
    refine Zm.l (fun _ _ k_ => z_goto (tgt := 50) dX8_waysOfBinary_46 rfl k_) ?_
    refine Zm.l (fun _ _ k_ => z_ist dX8_waysOfBinary_50 (by decide) (lv' := [(0, vr (some (97, 1, 0))), (3, vi l3), (4, vi l4), (5, vi (1 : Int32))]) rfl k_) ?_
    refine Zm.l (fun _ _ k_ => z_aload_n dX8_waysOfBinary_52 rfl rfl k_) ?_
    refine Zm.l (fun _ _ k_ => z_iload_n dX8_waysOfBinary_53 rfl rfl k_) ?_
    exact zm_callV (as := [vi l3]) (st := []) dX8_waysOfBinary_54 vsX8_1062_1 (Nat.le_refl _) (Nat.le_of_ble_eq_true rfl) (Nat.le_of_ble_eq_true rfl) rfl k
theorem sX8_waysOfBinary_57 {E : zE} {d : Nat} {Q : zO → zM → Prop} (M : zM) (l3 : Int32) (l4 : Int32) (l5 : Int32) (s0 : Int32) (k : if s0 = 0 then (Zm E YX8_waysOfBinary (d + 1) M [(0, vr (some (97, 1, 0))), (4, vi l4), (5, vi l5)] 144 [] Q) else (vp_in l3 647800 ∧ (vp_in l3 647800 ∧ (Zm E YX8_readFrom d M (zargs 0 [vr (some (97, 1, 0)), vl (gl M 166 (l3).toNatClampNeg), vl (gl M 167 (l3).toNatClampNeg), vi (l4 + (1 : Int32))]) 0 [] (zma E YX8_waysOfBinary (d + 1) [(0, vr (some (97, 1, 0))), (4, vi l4), (5, vi l5)] 77 3 [] Q))))) : Zm E YX8_waysOfBinary (d + 1) M [(0, vr (some (97, 1, 0))), (3, vi l3), (4, vi l4), (5, vi l5)] 57 [vi s0] Q := by
  refine Zm.br (fun _ _ k1_ k2_ => z_if_eq (tgt := 144) dX8_waysOfBinary_57 rfl k1_ k2_) (fun h_ => ?_) (fun h_ => ?_)
  · have k := zit h_ k
    refine Zm.pick [0, 2, 3] rfl ?_
    exact k
  · have k := zif h_ k
    refine Zm.l (fun _ _ k_ => z_aload_n dX8_waysOfBinary_60 rfl rfl k_) ?_
    refine Zm.l (fun _ _ k_ => z_aload_n dX8_waysOfBinary_61 rfl rfl k_) ?_
    refine zm_getr 63 dX8_waysOfBinary_62 fsX8_220_1 rfl ?_
    refine Zm.l (fun _ _ k_ => z_iload_n dX8_waysOfBinary_65 rfl rfl k_) ?_
    obtain ⟨b_, k⟩ := k
    refine zm_lald dX8_waysOfBinary_66 b_ (by decide) (by decide) ?_
    refine Zm.l (fun _ _ k_ => z_aload_n dX8_waysOfBinary_67 rfl rfl k_) ?_
    refine zm_getr 64 dX8_waysOfBinary_68 fsX8_223_1 rfl ?_
    refine Zm.l (fun _ _ k_ => z_iload_n dX8_waysOfBinary_71 rfl rfl k_) ?_
    obtain ⟨b_, k⟩ := k
    refine zm_lald dX8_waysOfBinary_72 b_ (by decide) (by decide) ?_
    refine Zm.l (fun _ _ k_ => z_iload dX8_waysOfBinary_73 rfl k_) ?_
    refine Zm.l (fun _ _ k_ => z_iconst (v := 1) dX8_waysOfBinary_75 rfl k_) ?_
    refine Zm.l (fun _ _ k_ => z_iadd dX8_waysOfBinary_76 k_) ?_
    refine Zm.pick [0, 2, 3] rfl ?_
    exact zm_callV (as := [vl (gl M 166 (l3).toNatClampNeg), vl (gl M 167 (l3).toNatClampNeg), vi (l4 + (1 : Int32))]) (st := []) dX8_waysOfBinary_77 vsX8_1306_1 (Nat.le_refl _) (Nat.le_of_ble_eq_true rfl) (Nat.le_of_ble_eq_true rfl) rfl k
theorem sX8_waysOfBinary_80 {E : zE} {d : Nat} {Q : zO → zM → Prop} (M : zM) (l4 : Int32) (l5 : Int32) (k : Zm E YX8_isEmpty d M (zargs 0 [vr (some (97, 1, 0)), vi (l4 + (1 : Int32))]) 0 [] (zma E YX8_waysOfBinary (d + 1) [(0, vr (some (97, 1, 0))), (4, vi l4), (5, vi l5)] 85 3 [] Q)) : Zm E YX8_waysOfBinary (d + 1) M [(0, vr (some (97, 1, 0))), (4, vi l4), (5, vi l5)] 80 [] Q := by
  refine Zm.l (fun _ _ k_ => z_aload_n dX8_waysOfBinary_80 rfl rfl k_) ?_
  refine Zm.l (fun _ _ k_ => z_iload dX8_waysOfBinary_81 rfl k_) ?_
  refine Zm.l (fun _ _ k_ => z_iconst (v := 1) dX8_waysOfBinary_83 rfl k_) ?_
  refine Zm.l (fun _ _ k_ => z_iadd dX8_waysOfBinary_84 k_) ?_
  exact zm_callV (as := [vi (l4 + (1 : Int32))]) (st := []) dX8_waysOfBinary_85 vsX8_1231_1 (Nat.le_refl _) (Nat.le_of_ble_eq_true rfl) (Nat.le_of_ble_eq_true rfl) rfl k
theorem sX8_waysOfBinary_88 {E : zE} {d : Nat} {Q : zO → zM → Prop} (M : zM) (l4 : Int32) (l5 : Int32) (s0 : Int32) (k : if s0 = 0 then (Zm E YX8_addSort d M (zargs 0 [vr (some (97, 1, 0)), vi l4, vi (4 : Int32)]) 0 [] (zma E YX8_waysOfBinary (d + 1) [(0, vr (some (97, 1, 0))), (4, vi l4), (5, vi l5)] 95 3 [] Q)) else (Zm E YX8_waysOfBinary (d + 1) M [(0, vr (some (97, 1, 0))), (4, vi l4), (5, vi l5)] 98 [] Q)) : Zm E YX8_waysOfBinary (d + 1) M [(0, vr (some (97, 1, 0))), (4, vi l4), (5, vi l5)] 88 [vi s0] Q := by
  refine Zm.brn (fun _ _ k1_ k2_ => z_if_ne (tgt := 98) dX8_waysOfBinary_88 rfl k1_ k2_) (fun h_ => ?_) (fun h_ => ?_)
  · have k := zif h_ k
    exact k
  · have k := zit h_ k
    refine Zm.l (fun _ _ k_ => z_aload_n dX8_waysOfBinary_91 rfl rfl k_) ?_
    refine Zm.l (fun _ _ k_ => z_iload dX8_waysOfBinary_92 rfl k_) ?_
    refine Zm.l (fun _ _ k_ => z_iconst (v := 4) dX8_waysOfBinary_94 rfl k_) ?_
    exact zm_callV (as := [vi l4, vi (4 : Int32)]) (st := []) dX8_waysOfBinary_95 vsX8_1072_1 (Nat.le_refl _) (Nat.le_of_ble_eq_true rfl) (Nat.le_of_ble_eq_true rfl) rfl k
theorem sX8_waysOfBinary_98 {E : zE} {d : Nat} {Q : zO → zM → Prop} (M : zM) (l4 : Int32) (l5 : Int32) (k : if (gi M 97 145) = 0 then (Zm E YX8_waysOfBinary (d + 1) M [(0, vr (some (97, 1, 0))), (4, vi l4), (5, vi l5)] 144 [] Q) else (Zm E YX8_addSort d M (zargs 0 [vr (some (97, 1, 0)), vi l4, vi (8 : Int32)]) 0 [] (zma E YX8_waysOfBinary (d + 1) [(0, vr (some (97, 1, 0))), (4, vi l4), (5, vi l5)] 110 3 [] Q))) : Zm E YX8_waysOfBinary (d + 1) M [(0, vr (some (97, 1, 0))), (4, vi l4), (5, vi l5)] 98 [] Q := by
  refine Zm.l (fun _ _ k_ => z_aload_n dX8_waysOfBinary_98 rfl rfl k_) ?_
  refine zm_geti dX8_waysOfBinary_99 fsX8_1156_1 (by decide) (by decide) ?_
  refine Zm.br (fun _ _ k1_ k2_ => z_if_eq (tgt := 144) dX8_waysOfBinary_102 rfl k1_ k2_) (fun h_ => ?_) (fun h_ => ?_)
  · have k := zit h_ k
    exact k
  · have k := zif h_ k
    refine Zm.l (fun _ _ k_ => z_aload_n dX8_waysOfBinary_105 rfl rfl k_) ?_
    refine Zm.l (fun _ _ k_ => z_iload dX8_waysOfBinary_106 rfl k_) ?_
    refine Zm.l (fun _ _ k_ => z_bipush (v := 8) dX8_waysOfBinary_108 rfl k_) ?_
    exact zm_callV (as := [vi l4, vi (8 : Int32)]) (st := []) dX8_waysOfBinary_110 vsX8_1072_1 (Nat.le_refl _) (Nat.le_of_ble_eq_true rfl) (Nat.le_of_ble_eq_true rfl) rfl k
theorem sX8_waysOfBinary_113 {E : zE} {d : Nat} {Q : zO → zM → Prop} (M : zM) (l4 : Int32) (l5 : Int32) (k : Zm E YX8_waysOfBinary (d + 1) M [(0, vr (some (97, 1, 0))), (4, vi l4), (5, vi l5)] 144 [] Q) : Zm E YX8_waysOfBinary (d + 1) M [(0, vr (some (97, 1, 0))), (4, vi l4), (5, vi l5)] 113 [] Q := by
  refine Zm.l (fun _ _ k_ => z_goto (tgt := 144) dX8_waysOfBinary_113 rfl k_) ?_
  exact k
theorem sX8_waysOfBinary_130 {E : zE} {d : Nat} {Q : zO → zM → Prop} (M : zM) (l4 : Int32) (s0 : Int32) (k : Zm E YX8_waysOfBinary (d + 1) M [(0, vr (some (97, 1, 0))), (4, vi l4), (5, vi s0)] 144 [] Q) : Zm E YX8_waysOfBinary (d + 1) M [(0, vr (some (97, 1, 0))), (4, vi l4)] 130 [vi s0] Q := by
  refine Zm.l (fun _ _ k_ => z_ist dX8_waysOfBinary_130 (by decide) (lv' := [(0, vr (some (97, 1, 0))), (4, vi l4), (5, vi s0)]) rfl k_) ?_
  refine Zm.l (fun _ _ k_ => z_goto (tgt := 144) dX8_waysOfBinary_132 rfl k_) ?_
  exact k
theorem sX8_waysOfBinary_144 {E : zE} {d : Nat} {Q : zO → zM → Prop} (M : zM) (l4 : Int32) (l5 : Int32) (k : Zm E YX8_replace d M (zargs 0 [vr (some (97, 1, 0)), vi (2 : Int32), vi l4]) 0 [] (zma E YX8_waysOfBinary (d + 1) [(0, vr (some (97, 1, 0))), (5, vi l5)] 148 3 [] Q)) : Zm E YX8_waysOfBinary (d + 1) M [(0, vr (some (97, 1, 0))), (4, vi l4), (5, vi l5)] 144 [] Q := by
  refine Zm.l (fun _ _ k_ => z_aload_n dX8_waysOfBinary_144 rfl rfl k_) ?_
  refine Zm.l (fun _ _ k_ => z_iconst (v := 2) dX8_waysOfBinary_145 rfl k_) ?_
  refine Zm.l (fun _ _ k_ => z_iload dX8_waysOfBinary_146 rfl k_) ?_
  refine Zm.pick [0, 2] rfl ?_
  exact zm_callV (as := [vi (2 : Int32), vi l4]) (st := []) dX8_waysOfBinary_148 vsX8_1258_1 (Nat.le_refl _) (Nat.le_of_ble_eq_true rfl) (Nat.le_of_ble_eq_true rfl) rfl k
theorem sX8_waysOfBinary_151 {E : zE} {d : Nat} {Q : zO → zM → Prop} (M : zM) (l5 : Int32) (k : if l5 = 0 then (Zm E YX8_waysOfBinary (d + 1) M [] 166 [] Q) else (Zm E YX8_error_2 d M (zargs 0 [vr (some (97, 1, 0)), vi (gi M 97 148), vi (6 : Int32)]) 0 [] (zma E YX8_waysOfBinary (d + 1) [] 163 3 [] Q))) : Zm E YX8_waysOfBinary (d + 1) M [(0, vr (some (97, 1, 0))), (5, vi l5)] 151 [] Q := by
  refine Zm.l (fun _ _ k_ => z_iload dX8_waysOfBinary_151 rfl k_) ?_
  refine Zm.br (fun _ _ k1_ k2_ => z_if_eq (tgt := 166) dX8_waysOfBinary_153 rfl k1_ k2_) (fun h_ => ?_) (fun h_ => ?_)
  · have k := zit h_ k
    refine Zm.pick [] rfl ?_
    exact k
  · have k := zif h_ k
    refine Zm.l (fun _ _ k_ => z_aload_n dX8_waysOfBinary_156 rfl rfl k_) ?_
    refine Zm.l (fun _ _ k_ => z_aload_n dX8_waysOfBinary_157 rfl rfl k_) ?_
    refine zm_geti dX8_waysOfBinary_158 fsX8_1188_1 (by decide) (by decide) ?_
    refine Zm.l (fun _ _ k_ => z_bipush (v := 6) dX8_waysOfBinary_161 rfl k_) ?_
    refine Zm.pick [] rfl ?_
    exact zm_callV (as := [vi (gi M 97 148), vi (6 : Int32)]) (st := []) dX8_waysOfBinary_163 vsX8_1292_1 (Nat.le_refl _) (Nat.le_of_ble_eq_true rfl) (Nat.le_of_ble_eq_true rfl) rfl k
theorem sX8_waysOfBinary_166 {E : zE} {d : Nat} {Q : zO → zM → Prop} (M : zM)  (k : Q (.inl none) M) : Zm E YX8_waysOfBinary (d + 1) M [] 166 [] Q := by
  exact zm_vret dX8_waysOfBinary_166 rfl k
/-! ScriptTypesModel.isMadeBySet(III)Z -/
theorem bX8_isMadeBySet_0 : zdec cX8_isMadeBySet 0 [(0, .lconst 0, 1), (1, .lstore 4, 2), (3, .lconst 0, 1), (4, .lstore 6, 2), (6, .aload_n 0, 1), (7, .iload_n 2, 1), (8, .invokevirtual 1059, 3), (11, .ifCond .eq 7, 3), (14, .iconst 1, 1), (15, .goto 4, 3), (18, .iconst 0, 1), (19, .istore 8, 2), (21, .iconst 0, 1), (22, .istore 9, 2), (24, .iload 9, 2), (26, .aload_n 0, 1)] = true := by decide +kernel
theorem dX8_isMadeBySet_0 : decode cX8_isMadeBySet 0 = .ok (.lconst 0, 1) := zdec_at bX8_isMadeBySet_0 0 rfl
theorem dX8_isMadeBySet_1 : decode cX8_isMadeBySet 1 = .ok (.lstore 4, 2) := zdec_at bX8_isMadeBySet_0 1 rfl
theorem dX8_isMadeBySet_3 : decode cX8_isMadeBySet 3 = .ok (.lconst 0, 1) := zdec_at bX8_isMadeBySet_0 2 rfl
theorem dX8_isMadeBySet_4 : decode cX8_isMadeBySet 4 = .ok (.lstore 6, 2) := zdec_at bX8_isMadeBySet_0 3 rfl
theorem dX8_isMadeBySet_6 : decode cX8_isMadeBySet 6 = .ok (.aload_n 0, 1) := zdec_at bX8_isMadeBySet_0 4 rfl
theorem dX8_isMadeBySet_7 : decode cX8_isMadeBySet 7 = .ok (.iload_n 2, 1) := zdec_at bX8_isMadeBySet_0 5 rfl
theorem dX8_isMadeBySet_8 : decode cX8_isMadeBySet 8 = .ok (.invokevirtual 1059, 3) := zdec_at bX8_isMadeBySet_0 6 rfl
theorem dX8_isMadeBySet_11 : decode cX8_isMadeBySet 11 = .ok (.ifCond .eq 7, 3) := zdec_at bX8_isMadeBySet_0 7 rfl
theorem dX8_isMadeBySet_14 : decode cX8_isMadeBySet 14 = .ok (.iconst 1, 1) := zdec_at bX8_isMadeBySet_0 8 rfl
theorem dX8_isMadeBySet_15 : decode cX8_isMadeBySet 15 = .ok (.goto 4, 3) := zdec_at bX8_isMadeBySet_0 9 rfl
theorem dX8_isMadeBySet_18 : decode cX8_isMadeBySet 18 = .ok (.iconst 0, 1) := zdec_at bX8_isMadeBySet_0 10 rfl
theorem dX8_isMadeBySet_19 : decode cX8_isMadeBySet 19 = .ok (.istore 8, 2) := zdec_at bX8_isMadeBySet_0 11 rfl
theorem dX8_isMadeBySet_21 : decode cX8_isMadeBySet 21 = .ok (.iconst 0, 1) := zdec_at bX8_isMadeBySet_0 12 rfl
theorem dX8_isMadeBySet_22 : decode cX8_isMadeBySet 22 = .ok (.istore 9, 2) := zdec_at bX8_isMadeBySet_0 13 rfl
theorem dX8_isMadeBySet_24 : decode cX8_isMadeBySet 24 = .ok (.iload 9, 2) := zdec_at bX8_isMadeBySet_0 14 rfl
theorem dX8_isMadeBySet_26 : decode cX8_isMadeBySet 26 = .ok (.aload_n 0, 1) := zdec_at bX8_isMadeBySet_0 15 rfl
theorem bX8_isMadeBySet_27 : zdec cX8_isMadeBySet 27 [(27, .getfield 765, 3), (30, .if_icmp .ge 96, 3), (33, .aload_n 0, 1), (34, .getfield 220, 3), (37, .iload_n 2, 1), (38, .laload, 1), (39, .aload_n 0, 1), (40, .getfield 223, 3), (43, .iload_n 2, 1), (44, .laload, 1), (45, .iload 9, 2), (47, .invokestatic 1125, 3), (50, .ifCond .ne 6, 3), (53, .goto 67, 3), (56, .iload 8, 2), (58, .ifCond .ne 12, 3)] = true := by decide +kernel
theorem dX8_isMadeBySet_27 : decode cX8_isMadeBySet 27 = .ok (.getfield 765, 3) := zdec_at bX8_isMadeBySet_27 0 rfl
theorem dX8_isMadeBySet_30 : decode cX8_isMadeBySet 30 = .ok (.if_icmp .ge 96, 3) := zdec_at bX8_isMadeBySet_27 1 rfl
theorem dX8_isMadeBySet_33 : decode cX8_isMadeBySet 33 = .ok (.aload_n 0, 1) := zdec_at bX8_isMadeBySet_27 2 rfl
theorem dX8_isMadeBySet_34 : decode cX8_isMadeBySet 34 = .ok (.getfield 220, 3) := zdec_at bX8_isMadeBySet_27 3 rfl
theorem dX8_isMadeBySet_37 : decode cX8_isMadeBySet 37 = .ok (.iload_n 2, 1) := zdec_at bX8_isMadeBySet_27 4 rfl
theorem dX8_isMadeBySet_38 : decode cX8_isMadeBySet 38 = .ok (.laload, 1) := zdec_at bX8_isMadeBySet_27 5 rfl
theorem dX8_isMadeBySet_39 : decode cX8_isMadeBySet 39 = .ok (.aload_n 0, 1) := zdec_at bX8_isMadeBySet_27 6 rfl
theorem dX8_isMadeBySet_40 : decode cX8_isMadeBySet 40 = .ok (.getfield 223, 3) := zdec_at bX8_isMadeBySet_27 7 rfl
theorem dX8_isMadeBySet_43 : decode cX8_isMadeBySet 43 = .ok (.iload_n 2, 1) := zdec_at bX8_isMadeBySet_27 8 rfl
theorem dX8_isMadeBySet_44 : decode cX8_isMadeBySet 44 = .ok (.laload, 1) := zdec_at bX8_isMadeBySet_27 9 rfl
theorem dX8_isMadeBySet_45 : decode cX8_isMadeBySet 45 = .ok (.iload 9, 2) := zdec_at bX8_isMadeBySet_27 10 rfl
theorem dX8_isMadeBySet_47 : decode cX8_isMadeBySet 47 = .ok (.invokestatic 1125, 3) := zdec_at bX8_isMadeBySet_27 11 rfl
theorem dX8_isMadeBySet_50 : decode cX8_isMadeBySet 50 = .ok (.ifCond .ne 6, 3) := zdec_at bX8_isMadeBySet_27 12 rfl
theorem dX8_isMadeBySet_53 : decode cX8_isMadeBySet 53 = .ok (.goto 67, 3) := zdec_at bX8_isMadeBySet_27 13 rfl
theorem dX8_isMadeBySet_56 : decode cX8_isMadeBySet 56 = .ok (.iload 8, 2) := zdec_at bX8_isMadeBySet_27 14 rfl
theorem dX8_isMadeBySet_58 : decode cX8_isMadeBySet 58 = .ok (.ifCond .ne 12, 3) := zdec_at bX8_isMadeBySet_27 15 rfl
theorem bX8_isMadeBySet_61 : zdec cX8_isMadeBySet 61 [(61, .aload_n 0, 1), (62, .iload 9, 2), (64, .invokevirtual 1115, 3), (67, .ifCond .ne 7, 3), (70, .iconst 1, 1), (71, .goto 4, 3), (74, .iconst 0, 1), (75, .istore 8, 2), (77, .aload_n 0, 1), (78, .iload 9, 2), (80, .invokevirtual 1115, 3), (83, .ifCond .ne 6, 3), (86, .goto 34, 3), (89, .iload 9, 2), (91, .bipush 64, 2), (93, .if_icmp .ge 15, 3)] = true := by decide +kernel
theorem dX8_isMadeBySet_61 : decode cX8_isMadeBySet 61 = .ok (.aload_n 0, 1) := zdec_at bX8_isMadeBySet_61 0 rfl
theorem dX8_isMadeBySet_62 : decode cX8_isMadeBySet 62 = .ok (.iload 9, 2) := zdec_at bX8_isMadeBySet_61 1 rfl
theorem dX8_isMadeBySet_64 : decode cX8_isMadeBySet 64 = .ok (.invokevirtual 1115, 3) := zdec_at bX8_isMadeBySet_61 2 rfl
theorem dX8_isMadeBySet_67 : decode cX8_isMadeBySet 67 = .ok (.ifCond .ne 7, 3) := zdec_at bX8_isMadeBySet_61 3 rfl
theorem dX8_isMadeBySet_70 : decode cX8_isMadeBySet 70 = .ok (.iconst 1, 1) := zdec_at bX8_isMadeBySet_61 4 rfl
theorem dX8_isMadeBySet_71 : decode cX8_isMadeBySet 71 = .ok (.goto 4, 3) := zdec_at bX8_isMadeBySet_61 5 rfl
theorem dX8_isMadeBySet_74 : decode cX8_isMadeBySet 74 = .ok (.iconst 0, 1) := zdec_at bX8_isMadeBySet_61 6 rfl
theorem dX8_isMadeBySet_75 : decode cX8_isMadeBySet 75 = .ok (.istore 8, 2) := zdec_at bX8_isMadeBySet_61 7 rfl
theorem dX8_isMadeBySet_77 : decode cX8_isMadeBySet 77 = .ok (.aload_n 0, 1) := zdec_at bX8_isMadeBySet_61 8 rfl
theorem dX8_isMadeBySet_78 : decode cX8_isMadeBySet 78 = .ok (.iload 9, 2) := zdec_at bX8_isMadeBySet_61 9 rfl
theorem dX8_isMadeBySet_80 : decode cX8_isMadeBySet 80 = .ok (.invokevirtual 1115, 3) := zdec_at bX8_isMadeBySet_61 10 rfl
theorem dX8_isMadeBySet_83 : decode cX8_isMadeBySet 83 = .ok (.ifCond .ne 6, 3) := zdec_at bX8_isMadeBySet_61 11 rfl
theorem dX8_isMadeBySet_86 : decode cX8_isMadeBySet 86 = .ok (.goto 34, 3) := zdec_at bX8_isMadeBySet_61 12 rfl
theorem dX8_isMadeBySet_89 : decode cX8_isMadeBySet 89 = .ok (.iload 9, 2) := zdec_at bX8_isMadeBySet_61 13 rfl
theorem dX8_isMadeBySet_91 : decode cX8_isMadeBySet 91 = .ok (.bipush 64, 2) := zdec_at bX8_isMadeBySet_61 14 rfl
theorem dX8_isMadeBySet_93 : decode cX8_isMadeBySet 93 = .ok (.if_icmp .ge 15, 3) := zdec_at bX8_isMadeBySet_61 15 rfl
theorem bX8_isMadeBySet_96 : zdec cX8_isMadeBySet 96 [(96, .lload 4, 2), (98, .lconst 1, 1), (99, .iload 9, 2), (101, .lshl, 1), (102, .lor, 1), (103, .lstore 4, 2), (105, .goto 15, 3), (108, .lload 6, 2), (110, .lconst 1, 1), (111, .iload 9, 2), (113, .bipush 64, 2), (115, .isub, 1), (116, .lshl, 1), (117, .lor, 1), (118, .lstore 6, 2), (120, .iinc 9 1, 3)] = true := by decide +kernel
theorem dX8_isMadeBySet_96 : decode cX8_isMadeBySet 96 = .ok (.lload 4, 2) := zdec_at bX8_isMadeBySet_96 0 rfl
theorem dX8_isMadeBySet_98 : decode cX8_isMadeBySet 98 = .ok (.lconst 1, 1) := zdec_at bX8_isMadeBySet_96 1 rfl
theorem dX8_isMadeBySet_99 : decode cX8_isMadeBySet 99 = .ok (.iload 9, 2) := zdec_at bX8_isMadeBySet_96 2 rfl
theorem dX8_isMadeBySet_101 : decode cX8_isMadeBySet 101 = .ok (.lshl, 1) := zdec_at bX8_isMadeBySet_96 3 rfl
theorem dX8_isMadeBySet_102 : decode cX8_isMadeBySet 102 = .ok (.lor, 1) := zdec_at bX8_isMadeBySet_96 4 rfl
theorem dX8_isMadeBySet_103 : decode cX8_isMadeBySet 103 = .ok (.lstore 4, 2) := zdec_at bX8_isMadeBySet_96 5 rfl
theorem dX8_isMadeBySet_105 : decode cX8_isMadeBySet 105 = .ok (.goto 15, 3) := zdec_at bX8_isMadeBySet_96 6 rfl
theorem dX8_isMadeBySet_108 : decode cX8_isMadeBySet 108 = .ok (.lload 6, 2) := zdec_at bX8_isMadeBySet_96 7 rfl
theorem dX8_isMadeBySet_110 : decode cX8_isMadeBySet 110 = .ok (.lconst 1, 1) := zdec_at bX8_isMadeBySet_96 8 rfl
theorem dX8_isMadeBySet_111 : decode cX8_isMadeBySet 111 = .ok (.iload 9, 2) := zdec_at bX8_isMadeBySet_96 9 rfl
theorem dX8_isMadeBySet_113 : decode cX8_isMadeBySet 113 = .ok (.bipush 64, 2) := zdec_at bX8_isMadeBySet_96 10 rfl
theorem dX8_isMadeBySet_115 : decode cX8_isMadeBySet 115 = .ok (.isub, 1) := zdec_at bX8_isMadeBySet_96 11 rfl
theorem dX8_isMadeBySet_116 : decode cX8_isMadeBySet 116 = .ok (.lshl, 1) := zdec_at bX8_isMadeBySet_96 12 rfl
theorem dX8_isMadeBySet_117 : decode cX8_isMadeBySet 117 = .ok (.lor, 1) := zdec_at bX8_isMadeBySet_96 13 rfl
theorem dX8_isMadeBySet_118 : decode cX8_isMadeBySet 118 = .ok (.lstore 6, 2) := zdec_at bX8_isMadeBySet_96 14 rfl
theorem dX8_isMadeBySet_120 : decode cX8_isMadeBySet 120 = .ok (.iinc 9 1, 3) := zdec_at bX8_isMadeBySet_96 15 rfl
theorem bX8_isMadeBySet_123 : zdec cX8_isMadeBySet 123 [(123, .goto (-99), 3), (126, .aload_n 0, 1), (127, .invokevirtual 1135, 3), (130, .aload_n 0, 1), (131, .iconst 1, 1), (132, .invokevirtual 1138, 3), (135, .aload_n 0, 1), (136, .lload 4, 2), (138, .lload 6, 2), (140, .iload_n 3, 1), (141, .iconst 1, 1), (142, .iadd, 1), (143, .invokevirtual 1306, 3), (146, .aload_n 0, 1), (147, .iload_n 3, 1), (148, .iconst 1, 1)] = true := by decide +kernel
theorem dX8_isMadeBySet_123 : decode cX8_isMadeBySet 123 = .ok (.goto (-99), 3) := zdec_at bX8_isMadeBySet_123 0 rfl
theorem dX8_isMadeBySet_126 : decode cX8_isMadeBySet 126 = .ok (.aload_n 0, 1) := zdec_at bX8_isMadeBySet_123 1 rfl
theorem dX8_isMadeBySet_127 : decode cX8_isMadeBySet 127 = .ok (.invokevirtual 1135, 3) := zdec_at bX8_isMadeBySet_123 2 rfl
theorem dX8_isMadeBySet_130 : decode cX8_isMadeBySet 130 = .ok (.aload_n 0, 1) := zdec_at bX8_isMadeBySet_123 3 rfl
theorem dX8_isMadeBySet_131 : decode cX8_isMadeBySet 131 = .ok (.iconst 1, 1) := zdec_at bX8_isMadeBySet_123 4 rfl
theorem dX8_isMadeBySet_132 : decode cX8_isMadeBySet 132 = .ok (.invokevirtual 1138, 3) := zdec_at bX8_isMadeBySet_123 5 rfl
theorem dX8_isMadeBySet_135 : decode cX8_isMadeBySet 135 = .ok (.aload_n 0, 1) := zdec_at bX8_isMadeBySet_123 6 rfl
theorem dX8_isMadeBySet_136 : decode cX8_isMadeBySet 136 = .ok (.lload 4, 2) := zdec_at bX8_isMadeBySet_123 7 rfl
theorem dX8_isMadeBySet_138 : decode cX8_isMadeBySet 138 = .ok (.lload 6, 2) := zdec_at bX8_isMadeBySet_123 8 rfl
theorem dX8_isMadeBySet_140 : decode cX8_isMadeBySet 140 = .ok (.iload_n 3, 1) := zdec_at bX8_isMadeBySet_123 9 rfl
theorem dX8_isMadeBySet_141 : decode cX8_isMadeBySet 141 = .ok (.iconst 1, 1) := zdec_at bX8_isMadeBySet_123 10 rfl
theorem dX8_isMadeBySet_142 : decode cX8_isMadeBySet 142 = .ok (.iadd, 1) := zdec_at bX8_isMadeBySet_123 11 rfl
theorem dX8_isMadeBySet_143 : decode cX8_isMadeBySet 143 = .ok (.invokevirtual 1306, 3) := zdec_at bX8_isMadeBySet_123 12 rfl
theorem dX8_isMadeBySet_146 : decode cX8_isMadeBySet 146 = .ok (.aload_n 0, 1) := zdec_at bX8_isMadeBySet_123 13 rfl
theorem dX8_isMadeBySet_147 : decode cX8_isMadeBySet 147 = .ok (.iload_n 3, 1) := zdec_at bX8_isMadeBySet_123 14 rfl
theorem dX8_isMadeBySet_148 : decode cX8_isMadeBySet 148 = .ok (.iconst 1, 1) := zdec_at bX8_isMadeBySet_123 15 rfl
theorem bX8_isMadeBySet_149 : zdec cX8_isMadeBySet 149 [(149, .iadd, 1), (150, .invokevirtual 1062, 3), (153, .ifCond .eq 23, 3), (156, .aload_n 0, 1), (157, .iload_n 3, 1), (158, .aload_n 0, 1), (159, .iload_n 1, 1), (160, .invokevirtual 1062, 3), (163, .ifCond .eq 8, 3), (166, .bipush 12, 2), (168, .goto 5, 3), (171, .bipush 8, 2), (173, .invokevirtual 1072, 3), (176, .iload 8, 2), (178, .ifCond .ne 20, 3), (181, .aload_n 0, 1)] = true := by decide +kernel
theorem dX8_isMadeBySet_149 : decode cX8_isMadeBySet 149 = .ok (.iadd, 1) := zdec_at bX8_isMadeBySet_149 0 rfl
theorem dX8_isMadeBySet_150 : decode cX8_isMadeBySet 150 = .ok (.invokevirtual 1062, 3) := zdec_at bX8_isMadeBySet_149 1 rfl
theorem dX8_isMadeBySet_153 : decode cX8_isMadeBySet 153 = .ok (.ifCond .eq 23, 3) := zdec_at bX8_isMadeBySet_149 2 rfl
theorem dX8_isMadeBySet_156 : decode cX8_isMadeBySet 156 = .ok (.aload_n 0, 1) := zdec_at bX8_isMadeBySet_149 3 rfl
theorem dX8_isMadeBySet_157 : decode cX8_isMadeBySet 157 = .ok (.iload_n 3, 1) := zdec_at bX8_isMadeBySet_149 4 rfl
theorem dX8_isMadeBySet_158 : decode cX8_isMadeBySet 158 = .ok (.aload_n 0, 1) := zdec_at bX8_isMadeBySet_149 5 rfl
theorem dX8_isMadeBySet_159 : decode cX8_isMadeBySet 159 = .ok (.iload_n 1, 1) := zdec_at bX8_isMadeBySet_149 6 rfl
theorem dX8_isMadeBySet_160 : decode cX8_isMadeBySet 160 = .ok (.invokevirtual 1062, 3) := zdec_at bX8_isMadeBySet_149 7 rfl
theorem dX8_isMadeBySet_163 : decode cX8_isMadeBySet 163 = .ok (.ifCond .eq 8, 3) := zdec_at bX8_isMadeBySet_149 8 rfl
theorem dX8_isMadeBySet_166 : decode cX8_isMadeBySet 166 = .ok (.bipush 12, 2) := zdec_at bX8_isMadeBySet_149 9 rfl
theorem dX8_isMadeBySet_168 : decode cX8_isMadeBySet 168 = .ok (.goto 5, 3) := zdec_at bX8_isMadeBySet_149 10 rfl
theorem dX8_isMadeBySet_171 : decode cX8_isMadeBySet 171 = .ok (.bipush 8, 2) := zdec_at bX8_isMadeBySet_149 11 rfl
theorem dX8_isMadeBySet_173 : decode cX8_isMadeBySet 173 = .ok (.invokevirtual 1072, 3) := zdec_at bX8_isMadeBySet_149 12 rfl
theorem dX8_isMadeBySet_176 : decode cX8_isMadeBySet 176 = .ok (.iload 8, 2) := zdec_at bX8_isMadeBySet_149 13 rfl
theorem dX8_isMadeBySet_178 : decode cX8_isMadeBySet 178 = .ok (.ifCond .ne 20, 3) := zdec_at bX8_isMadeBySet_149 14 rfl
theorem dX8_isMadeBySet_181 : decode cX8_isMadeBySet 181 = .ok (.aload_n 0, 1) := zdec_at bX8_isMadeBySet_149 15 rfl
theorem bX8_isMadeBySet_182 : zdec cX8_isMadeBySet 182 [(182, .iload_n 3, 1), (183, .iconst 1, 1), (184, .iadd, 1), (185, .invokevirtual 1059, 3), (188, .ifCond .ne 10, 3), (191, .aload_n 0, 1), (192, .getfield 1156, 3), (195, .ifCond .eq 7, 3), (198, .iconst 1, 1), (199, .goto 4, 3), (202, .iconst 0, 1), (203, .ireturn, 1)] = true := by decide +kernel
theorem dX8_isMadeBySet_182 : decode cX8_isMadeBySet 182 = .ok (.iload_n 3, 1) := zdec_at bX8_isMadeBySet_182 0 rfl
theorem dX8_isMadeBySet_183 : decode cX8_isMadeBySet 183 = .ok (.iconst 1, 1) := zdec_at bX8_isMadeBySet_182 1 rfl
theorem dX8_isMadeBySet_184 : decode cX8_isMadeBySet 184 = .ok (.iadd, 1) := zdec_at bX8_isMadeBySet_182 2 rfl
theorem dX8_isMadeBySet_185 : decode cX8_isMadeBySet 185 = .ok (.invokevirtual 1059, 3) := zdec_at bX8_isMadeBySet_182 3 rfl
theorem dX8_isMadeBySet_188 : decode cX8_isMadeBySet 188 = .ok (.ifCond .ne 10, 3) := zdec_at bX8_isMadeBySet_182 4 rfl
theorem dX8_isMadeBySet_191 : decode cX8_isMadeBySet 191 = .ok (.aload_n 0, 1) := zdec_at bX8_isMadeBySet_182 5 rfl
theorem dX8_isMadeBySet_192 : decode cX8_isMadeBySet 192 = .ok (.getfield 1156, 3) := zdec_at bX8_isMadeBySet_182 6 rfl
theorem dX8_isMadeBySet_195 : decode cX8_isMadeBySet 195 = .ok (.ifCond .eq 7, 3) := zdec_at bX8_isMadeBySet_182 7 rfl
theorem dX8_isMadeBySet_198 : decode cX8_isMadeBySet 198 = .ok (.iconst 1, 1) := zdec_at bX8_isMadeBySet_182 8 rfl
theorem dX8_isMadeBySet_199 : decode cX8_isMadeBySet 199 = .ok (.goto 4, 3) := zdec_at bX8_isMadeBySet_182 9 rfl
theorem dX8_isMadeBySet_202 : decode cX8_isMadeBySet 202 = .ok (.iconst 0, 1) := zdec_at bX8_isMadeBySet_182 10 rfl
theorem dX8_isMadeBySet_203 : decode cX8_isMadeBySet 203 = .ok (.ireturn, 1) := zdec_at bX8_isMadeBySet_182 11 rfl
theorem sX8_isMadeBySet_0 {E : zE} {d : Nat} {Q : zO → zM → Prop} (M : zM) (l1 : Int32) (l2 : Int32) (l3 : Int32) (k : Zm E YX8_plainly d M (zargs 0 [vr (some (97, 1, 0)), vi l2]) 0 [] (zma E YX8_isMadeBySet (d + 1) [(0, vr (some (97, 1, 0))), (1, vi l1), (2, vi l2), (3, vi l3), (4, vl (0 : Int64)), (6, vl (0 : Int64))] 8 3 [] Q)) : Zm E YX8_isMadeBySet (d + 1) M [(0, vr (some (97, 1, 0))), (1, vi l1), (2, vi l2), (3, vi l3)] 0 [] Q := by
  refine Zm.l (fun _ _ k_ => z_lconst (v := 0) dX8_isMadeBySet_0 rfl k_) ?_
  refine Zm.l (fun _ _ k_ => z_lst dX8_isMadeBySet_1 (by decide) (lv' := [(0, vr (some (97, 1, 0))), (1, vi l1), (2, vi l2), (3, vi l3), (4, vl (0 : Int64))]) rfl k_) ?_
  refine Zm.l (fun _ _ k_ => z_lconst (v := 0) dX8_isMadeBySet_3 rfl k_) ?_
  refine Zm.l (fun _ _ k_ => z_lst dX8_isMadeBySet_4 (by decide) (lv' := [(0, vr (some (97, 1, 0))), (1, vi l1), (2, vi l2), (3, vi l3), (4, vl (0 : Int64)), (6, vl (0 : Int64))]) rfl k_) ?_
  refine Zm.l (fun _ _ k_ => z_aload_n dX8_isMadeBySet_6 rfl rfl k_) ?_
  refine Zm.l (fun _ _ k_ => z_iload_n dX8_isMadeBySet_7 rfl rfl k_) ?_
  exact zm_callV (as := [vi l2]) (st := []) dX8_isMadeBySet_8 vsX8_1059_1 (Nat.le_refl _) (Nat.le_of_ble_eq_true rfl) (Nat.le_of_ble_eq_true rfl) rfl k
theorem sX8_isMadeBySet_11 {E : zE} {d : Nat} {Q : zO → zM → Prop} (M : zM) (l1 : Int32) (l2 : Int32) (l3 : Int32) (l4 : Int64) (l6 : Int64) (s0 : Int32) (k : if s0 = 0 then (Zm E YX8_isMadeBySet (d + 1) M [(0, vr (some (97, 1, 0))), (1, vi l1), (2, vi l2), (3, vi l3), (4, vl l4), (6, vl l6), (8, vi (0 : Int32)), (9, vi (0 : Int32))] 24 [] Q) else (Zm E YX8_isMadeBySet (d + 1) M [(0, vr (some (97, 1, 0))), (1, vi l1), (2, vi l2), (3, vi l3), (4, vl l4), (6, vl l6), (8, vi (1 : Int32)), (9, vi (0 : Int32))] 24 [] Q)) : Zm E YX8_isMadeBySet (d + 1) M [(0, vr (some (97, 1, 0))), (1, vi l1), (2, vi l2), (3, vi l3), (4, vl l4), (6, vl l6)] 11 [vi s0] Q := by
  refine Zm.br (fun _ _ k1_ k2_ => z_if_eq (tgt := 18) dX8_isMadeBySet_11 rfl k1_ k2_) (fun h_ => ?_) (fun h_ => ?_)
  · have k := zit h_ k
    refine Zm.l (fun _ _ k_ => z_iconst (v := 0) dX8_isMadeBySet_18 rfl k_) ?_
    refine Zm.l (fun _ _ k_ => z_ist dX8_isMadeBySet_19 (by decide) (lv' := [(0, vr (some (97, 1, 0))), (1, vi l1), (2, vi l2), (3, vi l3), (4, vl l4), (6, vl l6), (8, vi (0 : Int32))]) rfl k_) ?_
    refine Zm.l (fun _ _ k_ => z_iconst (v := 0) dX8_isMadeBySet_21 rfl k_) ?_
    refine Zm.l (fun _ _ k_ => z_ist dX8_isMadeBySet_22 (by decide) (lv' := [(0, vr (some (97, 1, 0))), (1, vi l1), (2, vi l2), (3, vi l3), (4, vl l4), (6, vl l6), (8, vi (0 : Int32)), (9, vi (0 : Int32))]) rfl k_) ?_
    exact k
  · have k := zif h_ k
    refine Zm.l (fun _ _ k_ => z_iconst (v := 1) dX8_isMadeBySet_14 rfl k_) ?_
    refine Zm.l (fun _ _ k_ => z_goto (tgt := 19) dX8_isMadeBySet_15 rfl k_) ?_
    refine Zm.l (fun _ _ k_ => z_ist dX8_isMadeBySet_19 (by decide) (lv' := [(0, vr (some (97, 1, 0))), (1, vi l1), (2, vi l2), (3, vi l3), (4, vl l4), (6, vl l6), (8, vi (1 : Int32))]) rfl k_) ?_
    refine Zm.l (fun _ _ k_ => z_iconst (v := 0) dX8_isMadeBySet_21 rfl k_) ?_
    refine Zm.l (fun _ _ k_ => z_ist dX8_isMadeBySet_22 (by decide) (lv' := [(0, vr (some (97, 1, 0))), (1, vi l1), (2, vi l2), (3, vi l3), (4, vl l4), (6, vl l6), (8, vi (1 : Int32)), (9, vi (0 : Int32))]) rfl k_) ?_
    exact k
theorem sX8_isMadeBySet_24 {E : zE} {d : Nat} {Q : zO → zM → Prop} (M : zM) (l1 : Int32) (l2 : Int32) (l3 : Int32) (l4 : Int64) (l6 : Int64) (l8 : Int32) (l9 : Int32) (k : if (gi M 97 71) ≤ l9 then (Zm E YX8_noKeys d M (zargs 0 [vr (some (97, 1, 0))]) 0 [] (zma E YX8_isMadeBySet (d + 1) [(0, vr (some (97, 1, 0))), (1, vi l1), (3, vi l3), (4, vl l4), (6, vl l6), (8, vi l8)] 127 3 [] Q)) else (vp_in l2 647800 ∧ (vp_in l2 647800 ∧ (Zm E YX8_isIn d M (zargs 0 [vl (gl M 166 (l2).toNatClampNeg), vl (gl M 167 (l2).toNatClampNeg), vi l9]) 0 [] (zma E YX8_isMadeBySet (d + 1) [(0, vr (some (97, 1, 0))), (1, vi l1), (2, vi l2), (3, vi l3), (4, vl l4), (6, vl l6), (8, vi l8), (9, vi l9)] 47 3 [] Q))))) : Zm E YX8_isMadeBySet (d + 1) M [(0, vr (some (97, 1, 0))), (1, vi l1), (2, vi l2), (3, vi l3), (4, vl l4), (6, vl l6), (8, vi l8), (9, vi l9)] 24 [] Q := by
  refine Zm.l (fun _ _ k_ => z_iload dX8_isMadeBySet_24 rfl k_) ?_
  refine Zm.l (fun _ _ k_ => z_aload_n dX8_isMadeBySet_26 rfl rfl k_) ?_
  refine zm_geti dX8_isMadeBySet_27 fsX8_765_1 (by decide) (by decide) ?_
  refine Zm.br (fun _ _ k1_ k2_ => z_icmp_ge (tgt := 126) dX8_isMadeBySet_30 rfl k1_ k2_) (fun h_ => ?_) (fun h_ => ?_)
  · have k := zit h_ k
    refine Zm.l (fun _ _ k_ => z_aload_n dX8_isMadeBySet_126 rfl rfl k_) ?_
    refine Zm.pick [0, 1, 3, 4, 5, 6] rfl ?_
    exact zm_callV (as := []) (st := []) dX8_isMadeBySet_127 vsX8_1135_1 (Nat.le_refl _) (Nat.le_of_ble_eq_true rfl) (Nat.le_of_ble_eq_true rfl) rfl k
  · have k := zif h_ k
    refine Zm.l (fun _ _ k_ => z_aload_n dX8_isMadeBySet_33 rfl rfl k_) ?_
    refine zm_getr 63 dX8_isMadeBySet_34 fsX8_220_1 rfl ?_
    refine Zm.l (fun _ _ k_ => z_iload_n dX8_isMadeBySet_37 rfl rfl k_) ?_
    obtain ⟨b_, k⟩ := k
    refine zm_lald dX8_isMadeBySet_38 b_ (by decide) (by decide) ?_
    refine Zm.l (fun _ _ k_ => z_aload_n dX8_isMadeBySet_39 rfl rfl k_) ?_
    refine zm_getr 64 dX8_isMadeBySet_40 fsX8_223_1 rfl ?_
    refine Zm.l (fun _ _ k_ => z_iload_n dX8_isMadeBySet_43 rfl rfl k_) ?_
    obtain ⟨b_, k⟩ := k
    refine zm_lald dX8_isMadeBySet_44 b_ (by decide) (by decide) ?_
    refine Zm.l (fun _ _ k_ => z_iload dX8_isMadeBySet_45 rfl k_) ?_
    exact zm_callS (as := [vl (gl M 166 (l2).toNatClampNeg), vl (gl M 167 (l2).toNatClampNeg), vi l9]) (st := []) dX8_isMadeBySet_47 ssX8_1125 (Nat.le_refl _) (Nat.le_of_ble_eq_true rfl) (Nat.le_of_ble_eq_true rfl) rfl k
theorem sX8_isMadeBySet_50 {E : zE} {d : Nat} {Q : zO → zM → Prop} (M : zM) (l1 : Int32) (l2 : Int32) (l3 : Int32) (l4 : Int64) (l6 : Int64) (l8 : Int32) (l9 : Int32) (s0 : Int32) (k : if s0 = 0 then (Zm E YX8_isMadeBySet (d + 1) M [(0, vr (some (97, 1, 0))), (1, vi l1), (2, vi l2), (3, vi l3), (4, vl l4), (6, vl l6), (8, vi l8), (9, vi (l9 + (1 : Int32)))] 24 [] Q) else (if l8 = 0 then (Zm E YX8_isFunctionLabel d M (zargs 0 [vr (some (97, 1, 0)), vi l9]) 0 [] (zma E YX8_isMadeBySet (d + 1) [(0, vr (some (97, 1, 0))), (1, vi l1), (2, vi l2), (3, vi l3), (4, vl l4), (6, vl l6), (9, vi l9)] 64 3 [] Q)) else (Zm E YX8_isFunctionLabel d M (zargs 0 [vr (some (97, 1, 0)), vi l9]) 0 [] (zma E YX8_isMadeBySet (d + 1) [(0, vr (some (97, 1, 0))), (1, vi l1), (2, vi l2), (3, vi l3), (4, vl l4), (6, vl l6), (8, vi (1 : Int32)), (9, vi l9)] 80 3 [] Q)))) : Zm E YX8_isMadeBySet (d + 1) M [(0, vr (some (97, 1, 0))), (1, vi l1), (2, vi l2), (3, vi l3), (4, vl l4), (6, vl l6), (8, vi l8), (9, vi l9)] 50 [vi s0] Q := by
  refine Zm.brn (fun _ _ k1_ k2_ => z_if_ne (tgt := 56) dX8_isMadeBySet_50 rfl k1_ k2_) (fun h_ => ?_) (fun h_ => ?_)
  · have k := zif h_ k
    refine Zm.l (fun _ _ k_ => z_iload dX8_isMadeBySet_56 rfl k_) ?_
    refine Zm.brn (fun _ _ k1_ k2_ => z_if_ne (tgt := 70) dX8_isMadeBySet_58 rfl k1_ k2_) (fun h_ => ?_) (fun h_ => ?_)
    · have k := zif h_ k
      refine Zm.l (fun _ _ k_ => z_iconst (v := 1) dX8_isMadeBySet_70 rfl k_) ?_
      refine Zm.l (fun _ _ k_ => z_goto (tgt := 75) dX8_isMadeBySet_71 rfl k_) ?_
      refine Zm.l (fun _ _ k_ => z_ist dX8_isMadeBySet_75 (by decide) (lv' := [(0, vr (some (97, 1, 0))), (1, vi l1), (2, vi l2), (3, vi l3), (4, vl l4), (6, vl l6), (8, vi (1 : Int32)), (9, vi l9)]) rfl k_) ?_
      refine Zm.l (fun _ _ k_ => z_aload_n dX8_isMadeBySet_77 rfl rfl k_) ?_
      refine Zm.l (fun _ _ k_ => z_iload dX8_isMadeBySet_78 rfl k_) ?_
      exact zm_callV (as := [vi l9]) (st := []) dX8_isMadeBySet_80 vsX8_1115_1 (Nat.le_refl _) (Nat.le_of_ble_eq_true rfl) (Nat.le_of_ble_eq_true rfl) rfl k
    · have k := zit h_ k
      refine Zm.l (fun _ _ k_ => z_aload_n dX8_isMadeBySet_61 rfl rfl k_) ?_
      refine Zm.l (fun _ _ k_ => z_iload dX8_isMadeBySet_62 rfl k_) ?_
      refine Zm.pick [0, 1, 2, 3, 4, 5, 7] rfl ?_
      exact zm_callV (as := [vi l9]) (st := []) dX8_isMadeBySet_64 vsX8_1115_1 (Nat.le_refl _) (Nat.le_of_ble_eq_true rfl) (Nat.le_of_ble_eq_true rfl) rfl k
  · have k := zit h_ k
    refine Zm.l (fun _ _ k_ => z_goto (tgt := 120) dX8_isMadeBySet_53 rfl k_) ?_
    refine Zm.l (fun _ _ k_ => z_inc (v := (l9 + (1 : Int32))) dX8_isMadeBySet_120 rfl rfl (by decide) (lv' := [(0, vr (some (97, 1, 0))), (1, vi l1), (2, vi l2), (3, vi l3), (4, vl l4), (6, vl l6), (8, vi l8), (9, vi (l9 + (1 : Int32)))]) rfl k_) ?_
    refine Zm.l (fun _ _ k_ => z_goto (tgt := 24) dX8_isMadeBySet_123 rfl k_) ?_
    exact k
theorem sX8_isMadeBySet_67 {E : zE} {d : Nat} {Q : zO → zM → Prop} (M : zM) (l1 : Int32) (l2 : Int32) (l3 : Int32) (l4 : Int64) (l6 : Int64) (l9 : Int32) (s0 : Int32) (k : if s0 = 0 then (Zm E YX8_isFunctionLabel d M (zargs 0 [vr (some (97, 1, 0)), vi l9]) 0 [] (zma E YX8_isMadeBySet (d + 1) [(0, vr (some (97, 1, 0))), (1, vi l1), (2, vi l2), (3, vi l3), (4, vl l4), (6, vl l6), (8, vi (1 : Int32)), (9, vi l9)] 80 3 [] Q)) else (Zm E YX8_isFunctionLabel d M (zargs 0 [vr (some (97, 1, 0)), vi l9]) 0 [] (zma E YX8_isMadeBySet (d + 1) [(0, vr (some (97, 1, 0))), (1, vi l1), (2, vi l2), (3, vi l3), (4, vl l4), (6, vl l6), (8, vi (0 : Int32)), (9, vi l9)] 80 3 [] Q))) : Zm E YX8_isMadeBySet (d + 1) M [(0, vr (some (97, 1, 0))), (1, vi l1), (2, vi l2), (3, vi l3), (4, vl l4), (6, vl l6), (9, vi l9)] 67 [vi s0] Q := by
  refine Zm.brn (fun _ _ k1_ k2_ => z_if_ne (tgt := 74) dX8_isMadeBySet_67 rfl k1_ k2_) (fun h_ => ?_) (fun h_ => ?_)
  · have k := zif h_ k
    refine Zm.l (fun _ _ k_ => z_iconst (v := 0) dX8_isMadeBySet_74 rfl k_) ?_
    refine Zm.l (fun _ _ k_ => z_ist dX8_isMadeBySet_75 (by decide) (lv' := [(0, vr (some (97, 1, 0))), (1, vi l1), (2, vi l2), (3, vi l3), (4, vl l4), (6, vl l6), (8, vi (0 : Int32)), (9, vi l9)]) rfl k_) ?_
    refine Zm.l (fun _ _ k_ => z_aload_n dX8_isMadeBySet_77 rfl rfl k_) ?_
    refine Zm.l (fun _ _ k_ => z_iload dX8_isMadeBySet_78 rfl k_) ?_
    exact zm_callV (as := [vi l9]) (st := []) dX8_isMadeBySet_80 vsX8_1115_1 (Nat.le_refl _) (Nat.le_of_ble_eq_true rfl) (Nat.le_of_ble_eq_true rfl) rfl k
  · have k := zit h_ k
    refine Zm.l (fun _ _ k_ => z_iconst (v := 1) dX8_isMadeBySet_70 rfl k_) ?_
    refine Zm.l (fun _ _ k_ => z_goto (tgt := 75) dX8_isMadeBySet_71 rfl k_) ?_
    refine Zm.l (fun _ _ k_ => z_ist dX8_isMadeBySet_75 (by decide) (lv' := [(0, vr (some (97, 1, 0))), (1, vi l1), (2, vi l2), (3, vi l3), (4, vl l4), (6, vl l6), (8, vi (1 : Int32)), (9, vi l9)]) rfl k_) ?_
    refine Zm.l (fun _ _ k_ => z_aload_n dX8_isMadeBySet_77 rfl rfl k_) ?_
    refine Zm.l (fun _ _ k_ => z_iload dX8_isMadeBySet_78 rfl k_) ?_
    exact zm_callV (as := [vi l9]) (st := []) dX8_isMadeBySet_80 vsX8_1115_1 (Nat.le_refl _) (Nat.le_of_ble_eq_true rfl) (Nat.le_of_ble_eq_true rfl) rfl k
theorem sX8_isMadeBySet_83 {E : zE} {d : Nat} {Q : zO → zM → Prop} (M : zM) (l1 : Int32) (l2 : Int32) (l3 : Int32) (l4 : Int64) (l6 : Int64) (l8 : Int32) (l9 : Int32) (s0 : Int32) (k : if s0 = 0 then (Zm E YX8_isMadeBySet (d + 1) M [(0, vr (some (97, 1, 0))), (1, vi l1), (2, vi l2), (3, vi l3), (4, vl l4), (6, vl l6), (8, vi l8), (9, vi (l9 + (1 : Int32)))] 24 [] Q) else (if (64 : Int32) ≤ l9 then (Zm E YX8_isMadeBySet (d + 1) M [(0, vr (some (97, 1, 0))), (1, vi l1), (2, vi l2), (3, vi l3), (4, vl l4), (6, vl (l6 ||| (zls (1 : Int64) (l9 - (64 : Int32))))), (8, vi l8), (9, vi (l9 + (1 : Int32)))] 24 [] Q) else (Zm E YX8_isMadeBySet (d + 1) M [(0, vr (some (97, 1, 0))), (1, vi l1), (2, vi l2), (3, vi l3), (4, vl (l4 ||| (zls (1 : Int64) l9))), (6, vl l6), (8, vi l8), (9, vi (l9 + (1 : Int32)))] 24 [] Q))) : Zm E YX8_isMadeBySet (d + 1) M [(0, vr (some (97, 1, 0))), (1, vi l1), (2, vi l2), (3, vi l3), (4, vl l4), (6, vl l6), (8, vi l8), (9, vi l9)] 83 [vi s0] Q := by
  refine Zm.brn (fun _ _ k1_ k2_ => z_if_ne (tgt := 89) dX8_isMadeBySet_83 rfl k1_ k2_) (fun h_ => ?_) (fun h_ => ?_)
  · have k := zif h_ k
    refine Zm.l (fun _ _ k_ => z_iload dX8_isMadeBySet_89 rfl k_) ?_
    refine Zm.l (fun _ _ k_ => z_bipush (v := 64) dX8_isMadeBySet_91 rfl k_) ?_
    refine Zm.br (fun _ _ k1_ k2_ => z_icmp_ge (tgt := 108) dX8_isMadeBySet_93 rfl k1_ k2_) (fun h_ => ?_) (fun h_ => ?_)
    · have k := zit h_ k
      refine Zm.l (fun _ _ k_ => z_lload dX8_isMadeBySet_108 rfl k_) ?_
      refine Zm.l (fun _ _ k_ => z_lconst (v := 1) dX8_isMadeBySet_110 rfl k_) ?_
      refine Zm.l (fun _ _ k_ => z_iload dX8_isMadeBySet_111 rfl k_) ?_
      refine Zm.l (fun _ _ k_ => z_bipush (v := 64) dX8_isMadeBySet_113 rfl k_) ?_
      refine Zm.l (fun _ _ k_ => z_isub dX8_isMadeBySet_115 k_) ?_
      refine Zm.l (fun _ _ k_ => z_lshl dX8_isMadeBySet_116 k_) ?_
      refine Zm.l (fun _ _ k_ => z_lor dX8_isMadeBySet_117 k_) ?_
      refine Zm.l (fun _ _ k_ => z_lst dX8_isMadeBySet_118 (by decide) (lv' := [(0, vr (some (97, 1, 0))), (1, vi l1), (2, vi l2), (3, vi l3), (4, vl l4), (6, vl (l6 ||| (zls (1 : Int64) (l9 - (64 : Int32))))), (8, vi l8), (9, vi l9)]) rfl k_) ?_
      refine Zm.l (fun _ _ k_ => z_inc (v := (l9 + (1 : Int32))) dX8_isMadeBySet_120 rfl rfl (by decide) (lv' := [(0, vr (some (97, 1, 0))), (1, vi l1), (2, vi l2), (3, vi l3), (4, vl l4), (6, vl (l6 ||| (zls (1 : Int64) (l9 - (64 : Int32))))), (8, vi l8), (9, vi (l9 + (1 : Int32)))]) rfl k_) ?_
      refine Zm.l (fun _ _ k_ => z_goto (tgt := 24) dX8_isMadeBySet_123 rfl k_) ?_
      exact k
    · have k := zif h_ k
      refine Zm.l (fun _ _ k_ => z_lload dX8_isMadeBySet_96 rfl k_) ?_
      refine Zm.l (fun _ _ k_ => z_lconst (v := 1) dX8_isMadeBySet_98 rfl k_) ?_
      refine Zm.l (fun _ _ k_ => z_iload dX8_isMadeBySet_99 rfl k_) ?_
      refine Zm.l (fun _ _ k_ => z_lshl dX8_isMadeBySet_101 k_) ?_
      refine Zm.l (fun _ _ k_ => z_lor dX8_isMadeBySet_102 k_) ?_
      refine Zm.l (fun _ _ k_ => z_lst dX8_isMadeBySet_103 (by decide) (lv' := [(0, vr (some (97, 1, 0))), (1, vi l1), (2, vi l2), (3, vi l3), (4, vl (l4 ||| (zls (1 : Int64) l9))), (6, vl l6), (8, vi l8), (9, vi l9)]) rfl k_) ?_
      refine Zm.l (fun _ _ k_ => z_goto (tgt := 120) dX8_isMadeBySet_105 rfl k_) ?_
      refine Zm.l (fun _ _ k_ => z_inc (v := (l9 + (1 : Int32))) dX8_isMadeBySet_120 rfl rfl (by decide) (lv' := [(0, vr (some (97, 1, 0))), (1, vi l1), (2, vi l2), (3, vi l3), (4, vl (l4 ||| (zls (1 : Int64) l9))), (6, vl l6), (8, vi l8), (9, vi (l9 + (1 : Int32)))]) rfl k_) ?_
      refine Zm.l (fun _ _ k_ => z_goto (tgt := 24) dX8_isMadeBySet_123 rfl k_) ?_
      exact k
  · have k := zit h_ k
    refine Zm.l (fun _ _ k_ => z_goto (tgt := 120) dX8_isMadeBySet_86 rfl k_) ?_
    refine Zm.l (fun _ _ k_ => z_inc (v := (l9 + (1 : Int32))) dX8_isMadeBySet_120 rfl rfl (by decide) (lv' := [(0, vr (some (97, 1, 0))), (1, vi l1), (2, vi l2), (3, vi l3), (4, vl l4), (6, vl l6), (8, vi l8), (9, vi (l9 + (1 : Int32)))]) rfl k_) ?_
    refine Zm.l (fun _ _ k_ => z_goto (tgt := 24) dX8_isMadeBySet_123 rfl k_) ?_
    exact k
theorem sX8_isMadeBySet_130 {E : zE} {d : Nat} {Q : zO → zM → Prop} (M : zM) (l1 : Int32) (l3 : Int32) (l4 : Int64) (l6 : Int64) (l8 : Int32) (k : Zm E YX8_addKey d M (zargs 0 [vr (some (97, 1, 0)), vi (1 : Int32)]) 0 [] (zma E YX8_isMadeBySet (d + 1) [(0, vr (some (97, 1, 0))), (1, vi l1), (3, vi l3), (4, vl l4), (6, vl l6), (8, vi l8)] 132 3 [] Q)) : Zm E YX8_isMadeBySet (d + 1) M [(0, vr (some (97, 1, 0))), (1, vi l1), (3, vi l3), (4, vl l4), (6, vl l6), (8, vi l8)] 130 [] Q := by
  refine Zm.l (fun _ _ k_ => z_aload_n dX8_isMadeBySet_130 rfl rfl k_) ?_
  refine Zm.l (fun _ _ k_ => z_iconst (v := 1) dX8_isMadeBySet_131 rfl k_) ?_
  exact zm_callV (as := [vi (1 : Int32)]) (st := []) dX8_isMadeBySet_132 vsX8_1138_1 (Nat.le_refl _) (Nat.le_of_ble_eq_true rfl) (Nat.le_of_ble_eq_true rfl) rfl k
theorem sX8_isMadeBySet_135 {E : zE} {d : Nat} {Q : zO → zM → Prop} (M : zM) (l1 : Int32) (l3 : Int32) (l4 : Int64) (l6 : Int64) (l8 : Int32) (k : Zm E YX8_readFrom d M (zargs 0 [vr (some (97, 1, 0)), vl l4, vl l6, vi (l3 + (1 : Int32))]) 0 [] (zma E YX8_isMadeBySet (d + 1) [(0, vr (some (97, 1, 0))), (1, vi l1), (3, vi l3), (8, vi l8)] 143 3 [] Q)) : Zm E YX8_isMadeBySet (d + 1) M [(0, vr (some (97, 1, 0))), (1, vi l1), (3, vi l3), (4, vl l4), (6, vl l6), (8, vi l8)] 135 [] Q := by
  refine Zm.l (fun _ _ k_ => z_aload_n dX8_isMadeBySet_135 rfl rfl k_) ?_
  refine Zm.l (fun _ _ k_ => z_lload dX8_isMadeBySet_136 rfl k_) ?_
  refine Zm.l (fun _ _ k_ => z_lload dX8_isMadeBySet_138 rfl k_) ?_
  refine Zm.l (fun _ _ k_ => z_iload_n dX8_isMadeBySet_140 rfl rfl k_) ?_
  refine Zm.l (fun _ _ k_ => z_iconst (v := 1) dX8_isMadeBySet_141 rfl k_) ?_
  refine Zm.l (fun _ _ k_ => z_iadd dX8_isMadeBySet_142 k_) ?_
  refine Zm.pick [0, 1, 2, 5] rfl ?_
  exact zm_callV (as := [vl l4, vl l6, vi (l3 + (1 : Int32))]) (st := []) dX8_isMadeBySet_143 vsX8_1306_1 (Nat.le_refl _) (Nat.le_of_ble_eq_true rfl) (Nat.le_of_ble_eq_true rfl) rfl k
theorem sX8_isMadeBySet_146 {E : zE} {d : Nat} {Q : zO → zM → Prop} (M : zM) (l1 : Int32) (l3 : Int32) (l8 : Int32) (k : Zm E YX8_hasLabels d M (zargs 0 [vr (some (97, 1, 0)), vi (l3 + (1 : Int32))]) 0 [] (zma E YX8_isMadeBySet (d + 1) [(0, vr (some (97, 1, 0))), (1, vi l1), (3, vi l3), (8, vi l8)] 150 3 [] Q)) : Zm E YX8_isMadeBySet (d + 1) M [(0, vr (some (97, 1, 0))), (1, vi l1), (3, vi l3), (8, vi l8)] 146 [] Q := by
  refine Zm.l (fun _ _ k_ => z_aload_n dX8_isMadeBySet_146 rfl rfl k_) ?_
  refine Zm.l (fun _ _ k_ => z_iload_n dX8_isMadeBySet_147 rfl rfl k_) ?_
  refine Zm.l (fun _ _ k_ => z_iconst (v := 1) dX8_isMadeBySet_148 rfl k_) ?_
  refine Zm.l (fun _ _ k_ => z_iadd dX8_isMadeBySet_149 k_) ?_
  exact zm_callV (as := [vi (l3 + (1 : Int32))]) (st := []) dX8_isMadeBySet_150 vsX8_1062_1 (Nat.le_refl _) (Nat.le_of_ble_eq_true rfl) (Nat.le_of_ble_eq_true rfl) rfl k
theorem sX8_isMadeBySet_153 {E : zE} {d : Nat} {Q : zO → zM → Prop} (M : zM) (l1 : Int32) (l3 : Int32) (l8 : Int32) (s0 : Int32) (k : if s0 = 0 then (Zm E YX8_isMadeBySet (d + 1) M [(0, vr (some (97, 1, 0))), (3, vi l3), (8, vi l8)] 176 [] Q) else (Zm E YX8_hasLabels d M (zargs 0 [vr (some (97, 1, 0)), vi l1]) 0 [] (zma E YX8_isMadeBySet (d + 1) [(0, vr (some (97, 1, 0))), (3, vi l3), (8, vi l8)] 160 3 [vi l3, vr (some (97, 1, 0))] Q))) : Zm E YX8_isMadeBySet (d + 1) M [(0, vr (some (97, 1, 0))), (1, vi l1), (3, vi l3), (8, vi l8)] 153 [vi s0] Q := by
  refine Zm.br (fun _ _ k1_ k2_ => z_if_eq (tgt := 176) dX8_isMadeBySet_153 rfl k1_ k2_) (fun h_ => ?_) (fun h_ => ?_)
  · have k := zit h_ k
    refine Zm.pick [0, 2, 3] rfl ?_
    exact k
  · have k := zif h_ k
    refine Zm.l (fun _ _ k_ => z_aload_n dX8_isMadeBySet_156 rfl rfl k_) ?_
    refine Zm.l (fun _ _ k_ => z_iload_n dX8_isMadeBySet_157 rfl rfl k_) ?_
    refine Zm.l (fun _ _ k_ => z_aload_n dX8_isMadeBySet_158 rfl rfl k_) ?_
    refine Zm.l (fun _ _ k_ => z_iload_n dX8_isMadeBySet_159 rfl rfl k_) ?_
    refine Zm.pick [0, 2, 3] rfl ?_
    exact zm_callV (as := [vi l1]) (st := [vi l3, vr (some (97, 1, 0))]) dX8_isMadeBySet_160 vsX8_1062_1 (Nat.le_refl _) (Nat.le_of_ble_eq_true rfl) (Nat.le_of_ble_eq_true rfl) rfl k
theorem sX8_isMadeBySet_163 {E : zE} {d : Nat} {Q : zO → zM → Prop} (M : zM) (l3 : Int32) (l8 : Int32) (s0 : Int32) (s1 : Int32) (k : if s0 = 0 then (Zm E YX8_addSort d M (zargs 0 [vr (some (97, 1, 0)), vi s1, vi (8 : Int32)]) 0 [] (zma E YX8_isMadeBySet (d + 1) [(0, vr (some (97, 1, 0))), (3, vi l3), (8, vi l8)] 173 3 [] Q)) else (Zm E YX8_addSort d M (zargs 0 [vr (some (97, 1, 0)), vi s1, vi (12 : Int32)]) 0 [] (zma E YX8_isMadeBySet (d + 1) [(0, vr (some (97, 1, 0))), (3, vi l3), (8, vi l8)] 173 3 [] Q))) : Zm E YX8_isMadeBySet (d + 1) M [(0, vr (some (97, 1, 0))), (3, vi l3), (8, vi l8)] 163 [vi s0, vi s1, vr (some (97, 1, 0))] Q := by
  refine Zm.br (fun _ _ k1_ k2_ => z_if_eq (tgt := 171) dX8_isMadeBySet_163 rfl k1_ k2_) (fun h_ => ?_) (fun h_ => ?_)
  · have k := zit h_ k
    refine Zm.l (fun _ _ k_ => z_bipush (v := 8) dX8_isMadeBySet_171 rfl k_) ?_
    exact zm_callV (as := [vi s1, vi (8 : Int32)]) (st := []) dX8_isMadeBySet_173 vsX8_1072_1 (Nat.le_refl _) (Nat.le_of_ble_eq_true rfl) (Nat.le_of_ble_eq_true rfl) rfl k
  · have k := zif h_ k
    refine Zm.l (fun _ _ k_ => z_bipush (v := 12) dX8_isMadeBySet_166 rfl k_) ?_
    refine Zm.l (fun _ _ k_ => z_goto (tgt := 173) dX8_isMadeBySet_168 rfl k_) ?_
    exact zm_callV (as := [vi s1, vi (12 : Int32)]) (st := []) dX8_isMadeBySet_173 vsX8_1072_1 (Nat.le_refl _) (Nat.le_of_ble_eq_true rfl) (Nat.le_of_ble_eq_true rfl) rfl k
theorem sX8_isMadeBySet_176 {E : zE} {d : Nat} {Q : zO → zM → Prop} (M : zM) (l3 : Int32) (l8 : Int32) (k : if l8 = 0 then (Zm E YX8_plainly d M (zargs 0 [vr (some (97, 1, 0)), vi (l3 + (1 : Int32))]) 0 [] (zma E YX8_isMadeBySet (d + 1) [(0, vr (some (97, 1, 0)))] 185 3 [] Q)) else (Q (.inl (some (vi (1 : Int32)))) M)) : Zm E YX8_isMadeBySet (d + 1) M [(0, vr (some (97, 1, 0))), (3, vi l3), (8, vi l8)] 176 [] Q := by
  refine Zm.l (fun _ _ k_ => z_iload dX8_isMadeBySet_176 rfl k_) ?_
  refine Zm.brn (fun _ _ k1_ k2_ => z_if_ne (tgt := 198) dX8_isMadeBySet_178 rfl k1_ k2_) (fun h_ => ?_) (fun h_ => ?_)
  · have k := zif h_ k
    refine Zm.l (fun _ _ k_ => z_iconst (v := 1) dX8_isMadeBySet_198 rfl k_) ?_
    refine Zm.l (fun _ _ k_ => z_goto (tgt := 203) dX8_isMadeBySet_199 rfl k_) ?_
    exact zm_iret dX8_isMadeBySet_203 rfl (by decide) k
  · have k := zit h_ k
    refine Zm.l (fun _ _ k_ => z_aload_n dX8_isMadeBySet_181 rfl rfl k_) ?_
    refine Zm.l (fun _ _ k_ => z_iload_n dX8_isMadeBySet_182 rfl rfl k_) ?_
    refine Zm.l (fun _ _ k_ => z_iconst (v := 1) dX8_isMadeBySet_183 rfl k_) ?_
    refine Zm.l (fun _ _ k_ => z_iadd dX8_isMadeBySet_184 k_) ?_
    refine Zm.pick [0] rfl ?_
    exact zm_callV (as := [vi (l3 + (1 : Int32))]) (st := []) dX8_isMadeBySet_185 vsX8_1059_1 (Nat.le_refl _) (Nat.le_of_ble_eq_true rfl) (Nat.le_of_ble_eq_true rfl) rfl k
theorem sX8_isMadeBySet_188 {E : zE} {d : Nat} {Q : zO → zM → Prop} (M : zM) (s0 : Int32) (k : if s0 = 0 then (if (gi M 97 145) = 0 then (Q (.inl (some (vi (0 : Int32)))) M) else (Q (.inl (some (vi (1 : Int32)))) M)) else (Q (.inl (some (vi (1 : Int32)))) M)) : Zm E YX8_isMadeBySet (d + 1) M [(0, vr (some (97, 1, 0)))] 188 [vi s0] Q := by
  refine Zm.brn (fun _ _ k1_ k2_ => z_if_ne (tgt := 198) dX8_isMadeBySet_188 rfl k1_ k2_) (fun h_ => ?_) (fun h_ => ?_)
  · have k := zif h_ k
    refine Zm.l (fun _ _ k_ => z_iconst (v := 1) dX8_isMadeBySet_198 rfl k_) ?_
    refine Zm.l (fun _ _ k_ => z_goto (tgt := 203) dX8_isMadeBySet_199 rfl k_) ?_
    exact zm_iret dX8_isMadeBySet_203 rfl (by decide) k
  · have k := zit h_ k
    refine Zm.l (fun _ _ k_ => z_aload_n dX8_isMadeBySet_191 rfl rfl k_) ?_
    refine zm_geti dX8_isMadeBySet_192 fsX8_1156_1 (by decide) (by decide) ?_
    refine Zm.br (fun _ _ k1_ k2_ => z_if_eq (tgt := 202) dX8_isMadeBySet_195 rfl k1_ k2_) (fun h_ => ?_) (fun h_ => ?_)
    · have k := zit h_ k
      refine Zm.l (fun _ _ k_ => z_iconst (v := 0) dX8_isMadeBySet_202 rfl k_) ?_
      exact zm_iret dX8_isMadeBySet_203 rfl (by decide) k
    · have k := zif h_ k
      refine Zm.l (fun _ _ k_ => z_iconst (v := 1) dX8_isMadeBySet_198 rfl k_) ?_
      refine Zm.l (fun _ _ k_ => z_goto (tgt := 203) dX8_isMadeBySet_199 rfl k_) ?_
      exact zm_iret dX8_isMadeBySet_203 rfl (by decide) k
/-! ScriptTypesModel.binarySet(IIII)V -/
theorem bX8_binarySet_0 : zdec cX8_binarySet 0 [(0, .aload_n 0, 1), (1, .iload 4, 2), (3, .invokevirtual 1066, 3), (6, .aload_n 0, 1), (7, .iload_n 2, 1), (8, .invokevirtual 1294, 3), (11, .ifCond .eq 108, 3), (14, .aload_n 0, 1), (15, .iload_n 3, 1), (16, .invokevirtual 1294, 3), (19, .ifCond .eq 100, 3), (22, .aload_n 0, 1), (23, .iload_n 2, 1), (24, .invokevirtual 1297, 3), (27, .istore 5, 2), (29, .aload_n 0, 1)] = true := by decide +kernel
theorem dX8_binarySet_0 : decode cX8_binarySet 0 = .ok (.aload_n 0, 1) := zdec_at bX8_binarySet_0 0 rfl
theorem dX8_binarySet_1 : decode cX8_binarySet 1 = .ok (.iload 4, 2) := zdec_at bX8_binarySet_0 1 rfl
theorem dX8_binarySet_3 : decode cX8_binarySet 3 = .ok (.invokevirtual 1066, 3) := zdec_at bX8_binarySet_0 2 rfl
theorem dX8_binarySet_6 : decode cX8_binarySet 6 = .ok (.aload_n 0, 1) := zdec_at bX8_binarySet_0 3 rfl
theorem dX8_binarySet_7 : decode cX8_binarySet 7 = .ok (.iload_n 2, 1) := zdec_at bX8_binarySet_0 4 rfl
theorem dX8_binarySet_8 : decode cX8_binarySet 8 = .ok (.invokevirtual 1294, 3) := zdec_at bX8_binarySet_0 5 rfl
theorem dX8_binarySet_11 : decode cX8_binarySet 11 = .ok (.ifCond .eq 108, 3) := zdec_at bX8_binarySet_0 6 rfl
theorem dX8_binarySet_14 : decode cX8_binarySet 14 = .ok (.aload_n 0, 1) := zdec_at bX8_binarySet_0 7 rfl
theorem dX8_binarySet_15 : decode cX8_binarySet 15 = .ok (.iload_n 3, 1) := zdec_at bX8_binarySet_0 8 rfl
theorem dX8_binarySet_16 : decode cX8_binarySet 16 = .ok (.invokevirtual 1294, 3) := zdec_at bX8_binarySet_0 9 rfl
theorem dX8_binarySet_19 : decode cX8_binarySet 19 = .ok (.ifCond .eq 100, 3) := zdec_at bX8_binarySet_0 10 rfl
theorem dX8_binarySet_22 : decode cX8_binarySet 22 = .ok (.aload_n 0, 1) := zdec_at bX8_binarySet_0 11 rfl
theorem dX8_binarySet_23 : decode cX8_binarySet 23 = .ok (.iload_n 2, 1) := zdec_at bX8_binarySet_0 12 rfl
theorem dX8_binarySet_24 : decode cX8_binarySet 24 = .ok (.invokevirtual 1297, 3) := zdec_at bX8_binarySet_0 13 rfl
theorem dX8_binarySet_27 : decode cX8_binarySet 27 = .ok (.istore 5, 2) := zdec_at bX8_binarySet_0 14 rfl
theorem dX8_binarySet_29 : decode cX8_binarySet 29 = .ok (.aload_n 0, 1) := zdec_at bX8_binarySet_0 15 rfl
theorem bX8_binarySet_30 : zdec cX8_binarySet 30 [(30, .iload_n 3, 1), (31, .invokevirtual 1297, 3), (34, .istore 6, 2), (36, .aload_n 0, 1), (37, .iload_n 1, 1), (38, .iload 5, 2), (40, .aload_n 0, 1), (41, .iload_n 2, 1), (42, .invokevirtual 1300, 3), (45, .iload 6, 2), (47, .aload_n 0, 1), (48, .iload_n 3, 1), (49, .invokevirtual 1300, 3), (52, .invokevirtual 990, 3), (55, .aload_n 0, 1), (56, .iload_n 1, 1)] = true := by decide +kernel
theorem dX8_binarySet_30 : decode cX8_binarySet 30 = .ok (.iload_n 3, 1) := zdec_at bX8_binarySet_30 0 rfl
theorem dX8_binarySet_31 : decode cX8_binarySet 31 = .ok (.invokevirtual 1297, 3) := zdec_at bX8_binarySet_30 1 rfl
theorem dX8_binarySet_34 : decode cX8_binarySet 34 = .ok (.istore 6, 2) := zdec_at bX8_binarySet_30 2 rfl
theorem dX8_binarySet_36 : decode cX8_binarySet 36 = .ok (.aload_n 0, 1) := zdec_at bX8_binarySet_30 3 rfl
theorem dX8_binarySet_37 : decode cX8_binarySet 37 = .ok (.iload_n 1, 1) := zdec_at bX8_binarySet_30 4 rfl
theorem dX8_binarySet_38 : decode cX8_binarySet 38 = .ok (.iload 5, 2) := zdec_at bX8_binarySet_30 5 rfl
theorem dX8_binarySet_40 : decode cX8_binarySet 40 = .ok (.aload_n 0, 1) := zdec_at bX8_binarySet_30 6 rfl
theorem dX8_binarySet_41 : decode cX8_binarySet 41 = .ok (.iload_n 2, 1) := zdec_at bX8_binarySet_30 7 rfl
theorem dX8_binarySet_42 : decode cX8_binarySet 42 = .ok (.invokevirtual 1300, 3) := zdec_at bX8_binarySet_30 8 rfl
theorem dX8_binarySet_45 : decode cX8_binarySet 45 = .ok (.iload 6, 2) := zdec_at bX8_binarySet_30 9 rfl
theorem dX8_binarySet_47 : decode cX8_binarySet 47 = .ok (.aload_n 0, 1) := zdec_at bX8_binarySet_30 10 rfl
theorem dX8_binarySet_48 : decode cX8_binarySet 48 = .ok (.iload_n 3, 1) := zdec_at bX8_binarySet_30 11 rfl
theorem dX8_binarySet_49 : decode cX8_binarySet 49 = .ok (.invokevirtual 1300, 3) := zdec_at bX8_binarySet_30 12 rfl
theorem dX8_binarySet_52 : decode cX8_binarySet 52 = .ok (.invokevirtual 990, 3) := zdec_at bX8_binarySet_30 13 rfl
theorem dX8_binarySet_55 : decode cX8_binarySet 55 = .ok (.aload_n 0, 1) := zdec_at bX8_binarySet_30 14 rfl
theorem dX8_binarySet_56 : decode cX8_binarySet 56 = .ok (.iload_n 1, 1) := zdec_at bX8_binarySet_30 15 rfl
theorem bX8_binarySet_57 : zdec cX8_binarySet 57 [(57, .iload 5, 2), (59, .iload 6, 2), (61, .invokevirtual 830, 3), (64, .ifCond .eq 38, 3), (67, .aload_n 0, 1), (68, .aload_n 0, 1), (69, .getfield 299, 3), (72, .bipush 60, 2), (74, .if_icmp .le 8, 3), (77, .bipush 60, 2), (79, .goto 7, 3), (82, .aload_n 0, 1), (83, .getfield 299, 3), (86, .putfield 299, 3), (89, .aload_n 0, 1), (90, .iload 4, 2)] = true := by decide +kernel
theorem dX8_binarySet_57 : decode cX8_binarySet 57 = .ok (.iload 5, 2) := zdec_at bX8_binarySet_57 0 rfl
theorem dX8_binarySet_59 : decode cX8_binarySet 59 = .ok (.iload 6, 2) := zdec_at bX8_binarySet_57 1 rfl
theorem dX8_binarySet_61 : decode cX8_binarySet 61 = .ok (.invokevirtual 830, 3) := zdec_at bX8_binarySet_57 2 rfl
theorem dX8_binarySet_64 : decode cX8_binarySet 64 = .ok (.ifCond .eq 38, 3) := zdec_at bX8_binarySet_57 3 rfl
theorem dX8_binarySet_67 : decode cX8_binarySet 67 = .ok (.aload_n 0, 1) := zdec_at bX8_binarySet_57 4 rfl
theorem dX8_binarySet_68 : decode cX8_binarySet 68 = .ok (.aload_n 0, 1) := zdec_at bX8_binarySet_57 5 rfl
theorem dX8_binarySet_69 : decode cX8_binarySet 69 = .ok (.getfield 299, 3) := zdec_at bX8_binarySet_57 6 rfl
theorem dX8_binarySet_72 : decode cX8_binarySet 72 = .ok (.bipush 60, 2) := zdec_at bX8_binarySet_57 7 rfl
theorem dX8_binarySet_74 : decode cX8_binarySet 74 = .ok (.if_icmp .le 8, 3) := zdec_at bX8_binarySet_57 8 rfl
theorem dX8_binarySet_77 : decode cX8_binarySet 77 = .ok (.bipush 60, 2) := zdec_at bX8_binarySet_57 9 rfl
theorem dX8_binarySet_79 : decode cX8_binarySet 79 = .ok (.goto 7, 3) := zdec_at bX8_binarySet_57 10 rfl
theorem dX8_binarySet_82 : decode cX8_binarySet 82 = .ok (.aload_n 0, 1) := zdec_at bX8_binarySet_57 11 rfl
theorem dX8_binarySet_83 : decode cX8_binarySet 83 = .ok (.getfield 299, 3) := zdec_at bX8_binarySet_57 12 rfl
theorem dX8_binarySet_86 : decode cX8_binarySet 86 = .ok (.putfield 299, 3) := zdec_at bX8_binarySet_57 13 rfl
theorem dX8_binarySet_89 : decode cX8_binarySet 89 = .ok (.aload_n 0, 1) := zdec_at bX8_binarySet_57 14 rfl
theorem dX8_binarySet_90 : decode cX8_binarySet 90 = .ok (.iload 4, 2) := zdec_at bX8_binarySet_57 15 rfl
theorem bX8_binarySet_92 : zdec cX8_binarySet 92 [(92, .aload_n 0, 1), (93, .invokevirtual 1144, 3), (96, .invokevirtual 1078, 3), (99, .goto 17, 3), (102, .aload_n 0, 1), (103, .iload 4, 2), (105, .aload_n 0, 1), (106, .getfield 788, 3), (109, .aload_n 0, 1), (110, .getfield 791, 3), (113, .invokevirtual 1219, 3), (116, .goto 118, 3), (119, .iload_n 1, 1), (120, .ifCond .ne 85, 3), (123, .sipush 384, 3), (126, .istore 5, 2)] = true := by decide +kernel
theorem dX8_binarySet_92 : decode cX8_binarySet 92 = .ok (.aload_n 0, 1) := zdec_at bX8_binarySet_92 0 rfl
theorem dX8_binarySet_93 : decode cX8_binarySet 93 = .ok (.invokevirtual 1144, 3) := zdec_at bX8_binarySet_92 1 rfl
theorem dX8_binarySet_96 : decode cX8_binarySet 96 = .ok (.invokevirtual 1078, 3) := zdec_at bX8_binarySet_92 2 rfl
theorem dX8_binarySet_99 : decode cX8_binarySet 99 = .ok (.goto 17, 3) := zdec_at bX8_binarySet_92 3 rfl
theorem dX8_binarySet_102 : decode cX8_binarySet 102 = .ok (.aload_n 0, 1) := zdec_at bX8_binarySet_92 4 rfl
theorem dX8_binarySet_103 : decode cX8_binarySet 103 = .ok (.iload 4, 2) := zdec_at bX8_binarySet_92 5 rfl
theorem dX8_binarySet_105 : decode cX8_binarySet 105 = .ok (.aload_n 0, 1) := zdec_at bX8_binarySet_92 6 rfl
theorem dX8_binarySet_106 : decode cX8_binarySet 106 = .ok (.getfield 788, 3) := zdec_at bX8_binarySet_92 7 rfl
theorem dX8_binarySet_109 : decode cX8_binarySet 109 = .ok (.aload_n 0, 1) := zdec_at bX8_binarySet_92 8 rfl
theorem dX8_binarySet_110 : decode cX8_binarySet 110 = .ok (.getfield 791, 3) := zdec_at bX8_binarySet_92 9 rfl
theorem dX8_binarySet_113 : decode cX8_binarySet 113 = .ok (.invokevirtual 1219, 3) := zdec_at bX8_binarySet_92 10 rfl
theorem dX8_binarySet_116 : decode cX8_binarySet 116 = .ok (.goto 118, 3) := zdec_at bX8_binarySet_92 11 rfl
theorem dX8_binarySet_119 : decode cX8_binarySet 119 = .ok (.iload_n 1, 1) := zdec_at bX8_binarySet_92 12 rfl
theorem dX8_binarySet_120 : decode cX8_binarySet 120 = .ok (.ifCond .ne 85, 3) := zdec_at bX8_binarySet_92 13 rfl
theorem dX8_binarySet_123 : decode cX8_binarySet 123 = .ok (.sipush 384, 3) := zdec_at bX8_binarySet_92 14 rfl
theorem dX8_binarySet_126 : decode cX8_binarySet 126 = .ok (.istore 5, 2) := zdec_at bX8_binarySet_92 15 rfl
theorem bX8_binarySet_128 : zdec cX8_binarySet 128 [(128, .aload_n 0, 1), (129, .iload_n 2, 1), (130, .invokevirtual 1047, 3), (133, .aload_n 0, 1), (134, .iload_n 3, 1), (135, .invokevirtual 1047, 3), (138, .ior, 1), (139, .iload 5, 2), (141, .iand, 1), (142, .ifCond .ne 19, 3), (145, .aload_n 0, 1), (146, .iload_n 2, 1), (147, .invokevirtual 1062, 3), (150, .ifCond .ne 11, 3), (153, .aload_n 0, 1), (154, .iload_n 3, 1)] = true := by decide +kernel
theorem dX8_binarySet_128 : decode cX8_binarySet 128 = .ok (.aload_n 0, 1) := zdec_at bX8_binarySet_128 0 rfl
theorem dX8_binarySet_129 : decode cX8_binarySet 129 = .ok (.iload_n 2, 1) := zdec_at bX8_binarySet_128 1 rfl
theorem dX8_binarySet_130 : decode cX8_binarySet 130 = .ok (.invokevirtual 1047, 3) := zdec_at bX8_binarySet_128 2 rfl
theorem dX8_binarySet_133 : decode cX8_binarySet 133 = .ok (.aload_n 0, 1) := zdec_at bX8_binarySet_128 3 rfl
theorem dX8_binarySet_134 : decode cX8_binarySet 134 = .ok (.iload_n 3, 1) := zdec_at bX8_binarySet_128 4 rfl
theorem dX8_binarySet_135 : decode cX8_binarySet 135 = .ok (.invokevirtual 1047, 3) := zdec_at bX8_binarySet_128 5 rfl
theorem dX8_binarySet_138 : decode cX8_binarySet 138 = .ok (.ior, 1) := zdec_at bX8_binarySet_128 6 rfl
theorem dX8_binarySet_139 : decode cX8_binarySet 139 = .ok (.iload 5, 2) := zdec_at bX8_binarySet_128 7 rfl
theorem dX8_binarySet_141 : decode cX8_binarySet 141 = .ok (.iand, 1) := zdec_at bX8_binarySet_128 8 rfl
theorem dX8_binarySet_142 : decode cX8_binarySet 142 = .ok (.ifCond .ne 19, 3) := zdec_at bX8_binarySet_128 9 rfl
theorem dX8_binarySet_145 : decode cX8_binarySet 145 = .ok (.aload_n 0, 1) := zdec_at bX8_binarySet_128 10 rfl
theorem dX8_binarySet_146 : decode cX8_binarySet 146 = .ok (.iload_n 2, 1) := zdec_at bX8_binarySet_128 11 rfl
theorem dX8_binarySet_147 : decode cX8_binarySet 147 = .ok (.invokevirtual 1062, 3) := zdec_at bX8_binarySet_128 12 rfl
theorem dX8_binarySet_150 : decode cX8_binarySet 150 = .ok (.ifCond .ne 11, 3) := zdec_at bX8_binarySet_128 13 rfl
theorem dX8_binarySet_153 : decode cX8_binarySet 153 = .ok (.aload_n 0, 1) := zdec_at bX8_binarySet_128 14 rfl
theorem dX8_binarySet_154 : decode cX8_binarySet 154 = .ok (.iload_n 3, 1) := zdec_at bX8_binarySet_128 15 rfl
theorem bX8_binarySet_155 : zdec cX8_binarySet 155 [(155, .invokevirtual 1062, 3), (158, .ifCond .eq 10, 3), (161, .aload_n 0, 1), (162, .iload 4, 2), (164, .iconst (-1), 1), (165, .invokevirtual 1078, 3), (168, .aload_n 0, 1), (169, .iload_n 2, 1), (170, .invokevirtual 1059, 3), (173, .iload 5, 2), (175, .iconst (-1), 1), (176, .ixor, 1), (177, .iand, 1), (178, .ifCond .eq 24, 3), (181, .aload_n 0, 1), (182, .iload_n 3, 1)] = true := by decide +kernel
theorem dX8_binarySet_155 : decode cX8_binarySet 155 = .ok (.invokevirtual 1062, 3) := zdec_at bX8_binarySet_155 0 rfl
theorem dX8_binarySet_158 : decode cX8_binarySet 158 = .ok (.ifCond .eq 10, 3) := zdec_at bX8_binarySet_155 1 rfl
theorem dX8_binarySet_161 : decode cX8_binarySet 161 = .ok (.aload_n 0, 1) := zdec_at bX8_binarySet_155 2 rfl
theorem dX8_binarySet_162 : decode cX8_binarySet 162 = .ok (.iload 4, 2) := zdec_at bX8_binarySet_155 3 rfl
theorem dX8_binarySet_164 : decode cX8_binarySet 164 = .ok (.iconst (-1), 1) := zdec_at bX8_binarySet_155 4 rfl
theorem dX8_binarySet_165 : decode cX8_binarySet 165 = .ok (.invokevirtual 1078, 3) := zdec_at bX8_binarySet_155 5 rfl
theorem dX8_binarySet_168 : decode cX8_binarySet 168 = .ok (.aload_n 0, 1) := zdec_at bX8_binarySet_155 6 rfl
theorem dX8_binarySet_169 : decode cX8_binarySet 169 = .ok (.iload_n 2, 1) := zdec_at bX8_binarySet_155 7 rfl
theorem dX8_binarySet_170 : decode cX8_binarySet 170 = .ok (.invokevirtual 1059, 3) := zdec_at bX8_binarySet_155 8 rfl
theorem dX8_binarySet_173 : decode cX8_binarySet 173 = .ok (.iload 5, 2) := zdec_at bX8_binarySet_155 9 rfl
theorem dX8_binarySet_175 : decode cX8_binarySet 175 = .ok (.iconst (-1), 1) := zdec_at bX8_binarySet_155 10 rfl
theorem dX8_binarySet_176 : decode cX8_binarySet 176 = .ok (.ixor, 1) := zdec_at bX8_binarySet_155 11 rfl
theorem dX8_binarySet_177 : decode cX8_binarySet 177 = .ok (.iand, 1) := zdec_at bX8_binarySet_155 12 rfl
theorem dX8_binarySet_178 : decode cX8_binarySet 178 = .ok (.ifCond .eq 24, 3) := zdec_at bX8_binarySet_155 13 rfl
theorem dX8_binarySet_181 : decode cX8_binarySet 181 = .ok (.aload_n 0, 1) := zdec_at bX8_binarySet_155 14 rfl
theorem dX8_binarySet_182 : decode cX8_binarySet 182 = .ok (.iload_n 3, 1) := zdec_at bX8_binarySet_155 15 rfl
theorem bX8_binarySet_183 : zdec cX8_binarySet 183 [(183, .invokevirtual 1059, 3), (186, .iload 5, 2), (188, .iconst (-1), 1), (189, .ixor, 1), (190, .iand, 1), (191, .ifCond .eq 11, 3), (194, .aload_n 0, 1), (195, .iload 4, 2), (197, .bipush 80, 2), (199, .invokevirtual 1072, 3), (202, .goto 32, 3), (205, .aload_n 0, 1), (206, .iload 4, 2), (208, .iload_n 1, 1), (209, .iconst 5, 1), (210, .if_icmp .ge 8, 3)] = true := by decide +kernel
theorem dX8_binarySet_183 : decode cX8_binarySet 183 = .ok (.invokevirtual 1059, 3) := zdec_at bX8_binarySet_183 0 rfl
theorem dX8_binarySet_186 : decode cX8_binarySet 186 = .ok (.iload 5, 2) := zdec_at bX8_binarySet_183 1 rfl
theorem dX8_binarySet_188 : decode cX8_binarySet 188 = .ok (.iconst (-1), 1) := zdec_at bX8_binarySet_183 2 rfl
theorem dX8_binarySet_189 : decode cX8_binarySet 189 = .ok (.ixor, 1) := zdec_at bX8_binarySet_183 3 rfl
theorem dX8_binarySet_190 : decode cX8_binarySet 190 = .ok (.iand, 1) := zdec_at bX8_binarySet_183 4 rfl
theorem dX8_binarySet_191 : decode cX8_binarySet 191 = .ok (.ifCond .eq 11, 3) := zdec_at bX8_binarySet_183 5 rfl
theorem dX8_binarySet_194 : decode cX8_binarySet 194 = .ok (.aload_n 0, 1) := zdec_at bX8_binarySet_183 6 rfl
theorem dX8_binarySet_195 : decode cX8_binarySet 195 = .ok (.iload 4, 2) := zdec_at bX8_binarySet_183 7 rfl
theorem dX8_binarySet_197 : decode cX8_binarySet 197 = .ok (.bipush 80, 2) := zdec_at bX8_binarySet_183 8 rfl
theorem dX8_binarySet_199 : decode cX8_binarySet 199 = .ok (.invokevirtual 1072, 3) := zdec_at bX8_binarySet_183 9 rfl
theorem dX8_binarySet_202 : decode cX8_binarySet 202 = .ok (.goto 32, 3) := zdec_at bX8_binarySet_183 10 rfl
theorem dX8_binarySet_205 : decode cX8_binarySet 205 = .ok (.aload_n 0, 1) := zdec_at bX8_binarySet_183 11 rfl
theorem dX8_binarySet_206 : decode cX8_binarySet 206 = .ok (.iload 4, 2) := zdec_at bX8_binarySet_183 12 rfl
theorem dX8_binarySet_208 : decode cX8_binarySet 208 = .ok (.iload_n 1, 1) := zdec_at bX8_binarySet_183 13 rfl
theorem dX8_binarySet_209 : decode cX8_binarySet 209 = .ok (.iconst 5, 1) := zdec_at bX8_binarySet_183 14 rfl
theorem dX8_binarySet_210 : decode cX8_binarySet 210 = .ok (.if_icmp .ge 8, 3) := zdec_at bX8_binarySet_183 15 rfl
theorem bX8_binarySet_213 : zdec cX8_binarySet 213 [(213, .bipush 80, 2), (215, .goto 16, 3), (218, .iload_n 1, 1), (219, .bipush 11, 2), (221, .if_icmp .ge 8, 3), (224, .bipush 64, 2), (226, .goto 5, 3), (229, .bipush 12, 2), (231, .invokevirtual 1072, 3), (234, .return_, 1)] = true := by decide +kernel
theorem dX8_binarySet_213 : decode cX8_binarySet 213 = .ok (.bipush 80, 2) := zdec_at bX8_binarySet_213 0 rfl
theorem dX8_binarySet_215 : decode cX8_binarySet 215 = .ok (.goto 16, 3) := zdec_at bX8_binarySet_213 1 rfl
theorem dX8_binarySet_218 : decode cX8_binarySet 218 = .ok (.iload_n 1, 1) := zdec_at bX8_binarySet_213 2 rfl
theorem dX8_binarySet_219 : decode cX8_binarySet 219 = .ok (.bipush 11, 2) := zdec_at bX8_binarySet_213 3 rfl
theorem dX8_binarySet_221 : decode cX8_binarySet 221 = .ok (.if_icmp .ge 8, 3) := zdec_at bX8_binarySet_213 4 rfl
theorem dX8_binarySet_224 : decode cX8_binarySet 224 = .ok (.bipush 64, 2) := zdec_at bX8_binarySet_213 5 rfl
theorem dX8_binarySet_226 : decode cX8_binarySet 226 = .ok (.goto 5, 3) := zdec_at bX8_binarySet_213 6 rfl
theorem dX8_binarySet_229 : decode cX8_binarySet 229 = .ok (.bipush 12, 2) := zdec_at bX8_binarySet_213 7 rfl
theorem dX8_binarySet_231 : decode cX8_binarySet 231 = .ok (.invokevirtual 1072, 3) := zdec_at bX8_binarySet_213 8 rfl
theorem dX8_binarySet_234 : decode cX8_binarySet 234 = .ok (.return_, 1) := zdec_at bX8_binarySet_213 9 rfl
theorem sX8_binarySet_0 {E : zE} {d : Nat} {Q : zO → zM → Prop} (M : zM) (l1 : Int32) (l2 : Int32) (l3 : Int32) (l4 : Int32) (k : Zm E YX8_empty d M (zargs 0 [vr (some (97, 1, 0)), vi l4]) 0 [] (zma E YX8_binarySet (d + 1) [(0, vr (some (97, 1, 0))), (1, vi l1), (2, vi l2), (3, vi l3), (4, vi l4)] 3 3 [] Q)) : Zm E YX8_binarySet (d + 1) M [(0, vr (some (97, 1, 0))), (1, vi l1), (2, vi l2), (3, vi l3), (4, vi l4)] 0 [] Q := by
  refine Zm.l (fun _ _ k_ => z_aload_n dX8_binarySet_0 rfl rfl k_) ?_
  refine Zm.l (fun _ _ k_ => z_iload dX8_binarySet_1 rfl k_) ?_
  exact zm_callV (as := [vi l4]) (st := []) dX8_binarySet_3 vsX8_1066_1 (Nat.le_refl _) (Nat.le_of_ble_eq_true rfl) (Nat.le_of_ble_eq_true rfl) rfl k
theorem sX8_binarySet_6 {E : zE} {d : Nat} {Q : zO → zM → Prop} (M : zM) (l1 : Int32) (l2 : Int32) (l3 : Int32) (l4 : Int32) (k : Zm E YX8_isAlone d M (zargs 0 [vr (some (97, 1, 0)), vi l2]) 0 [] (zma E YX8_binarySet (d + 1) [(0, vr (some (97, 1, 0))), (1, vi l1), (2, vi l2), (3, vi l3), (4, vi l4)] 8 3 [] Q)) : Zm E YX8_binarySet (d + 1) M [(0, vr (some (97, 1, 0))), (1, vi l1), (2, vi l2), (3, vi l3), (4, vi l4)] 6 [] Q := by
  refine Zm.l (fun _ _ k_ => z_aload_n dX8_binarySet_6 rfl rfl k_) ?_
  refine Zm.l (fun _ _ k_ => z_iload_n dX8_binarySet_7 rfl rfl k_) ?_
  exact zm_callV (as := [vi l2]) (st := []) dX8_binarySet_8 vsX8_1294_1 (Nat.le_refl _) (Nat.le_of_ble_eq_true rfl) (Nat.le_of_ble_eq_true rfl) rfl k
theorem sX8_binarySet_11 {E : zE} {d : Nat} {Q : zO → zM → Prop} (M : zM) (l1 : Int32) (l2 : Int32) (l3 : Int32) (l4 : Int32) (s0 : Int32) (k : if s0 = 0 then (Zm E YX8_binarySet (d + 1) M [(0, vr (some (97, 1, 0))), (1, vi l1), (2, vi l2), (3, vi l3), (4, vi l4)] 119 [] Q) else (Zm E YX8_isAlone d M (zargs 0 [vr (some (97, 1, 0)), vi l3]) 0 [] (zma E YX8_binarySet (d + 1) [(0, vr (some (97, 1, 0))), (1, vi l1), (2, vi l2), (3, vi l3), (4, vi l4)] 16 3 [] Q))) : Zm E YX8_binarySet (d + 1) M [(0, vr (some (97, 1, 0))), (1, vi l1), (2, vi l2), (3, vi l3), (4, vi l4)] 11 [vi s0] Q := by
  refine Zm.br (fun _ _ k1_ k2_ => z_if_eq (tgt := 119) dX8_binarySet_11 rfl k1_ k2_) (fun h_ => ?_) (fun h_ => ?_)
  · have k := zit h_ k
    exact k
  · have k := zif h_ k
    refine Zm.l (fun _ _ k_ => z_aload_n dX8_binarySet_14 rfl rfl k_) ?_
    refine Zm.l (fun _ _ k_ => z_iload_n dX8_binarySet_15 rfl rfl k_) ?_
    exact zm_callV (as := [vi l3]) (st := []) dX8_binarySet_16 vsX8_1294_1 (Nat.le_refl _) (Nat.le_of_ble_eq_true rfl) (Nat.le_of_ble_eq_true rfl) rfl k
theorem sX8_binarySet_19 {E : zE} {d : Nat} {Q : zO → zM → Prop} (M : zM) (l1 : Int32) (l2 : Int32) (l3 : Int32) (l4 : Int32) (s0 : Int32) (k : if s0 = 0 then (Zm E YX8_binarySet (d + 1) M [(0, vr (some (97, 1, 0))), (1, vi l1), (2, vi l2), (3, vi l3), (4, vi l4)] 119 [] Q) else (Zm E YX8_sortOfAlone d M (zargs 0 [vr (some (97, 1, 0)), vi l2]) 0 [] (zma E YX8_binarySet (d + 1) [(0, vr (some (97, 1, 0))), (1, vi l1), (2, vi l2), (3, vi l3), (4, vi l4)] 24 3 [] Q))) : Zm E YX8_binarySet (d + 1) M [(0, vr (some (97, 1, 0))), (1, vi l1), (2, vi l2), (3, vi l3), (4, vi l4)] 19 [vi s0] Q := by
  refine Zm.br (fun _ _ k1_ k2_ => z_if_eq (tgt := 119) dX8_binarySet_19 rfl k1_ k2_) (fun h_ => ?_) (fun h_ => ?_)
  · have k := zit h_ k
    exact k
  · have k := zif h_ k
    refine Zm.l (fun _ _ k_ => z_aload_n dX8_binarySet_22 rfl rfl k_) ?_
    refine Zm.l (fun _ _ k_ => z_iload_n dX8_binarySet_23 rfl rfl k_) ?_
    exact zm_callV (as := [vi l2]) (st := []) dX8_binarySet_24 vsX8_1297_1 (Nat.le_refl _) (Nat.le_of_ble_eq_true rfl) (Nat.le_of_ble_eq_true rfl) rfl k
theorem sX8_binarySet_27 {E : zE} {d : Nat} {Q : zO → zM → Prop} (M : zM) (l1 : Int32) (l2 : Int32) (l3 : Int32) (l4 : Int32) (s0 : Int32) (k : Zm E YX8_sortOfAlone d M (zargs 0 [vr (some (97, 1, 0)), vi l3]) 0 [] (zma E YX8_binarySet (d + 1) [(0, vr (some (97, 1, 0))), (1, vi l1), (2, vi l2), (3, vi l3), (4, vi l4), (5, vi s0)] 31 3 [] Q)) : Zm E YX8_binarySet (d + 1) M [(0, vr (some (97, 1, 0))), (1, vi l1), (2, vi l2), (3, vi l3), (4, vi l4)] 27 [vi s0] Q := by
  refine Zm.l (fun _ _ k_ => z_ist dX8_binarySet_27 (by decide) (lv' := [(0, vr (some (97, 1, 0))), (1, vi l1), (2, vi l2), (3, vi l3), (4, vi l4), (5, vi s0)]) rfl k_) ?_
  refine Zm.l (fun _ _ k_ => z_aload_n dX8_binarySet_29 rfl rfl k_) ?_
  refine Zm.l (fun _ _ k_ => z_iload_n dX8_binarySet_30 rfl rfl k_) ?_
  exact zm_callV (as := [vi l3]) (st := []) dX8_binarySet_31 vsX8_1297_1 (Nat.le_refl _) (Nat.le_of_ble_eq_true rfl) (Nat.le_of_ble_eq_true rfl) rfl k
theorem sX8_binarySet_34 {E : zE} {d : Nat} {Q : zO → zM → Prop} (M : zM) (l1 : Int32) (l2 : Int32) (l3 : Int32) (l4 : Int32) (l5 : Int32) (s0 : Int32) (k : Zm E YX8_valueOfAlone d M (zargs 0 [vr (some (97, 1, 0)), vi l2]) 0 [] (zma E YX8_binarySet (d + 1) [(0, vr (some (97, 1, 0))), (1, vi l1), (3, vi l3), (4, vi l4), (5, vi l5), (6, vi s0)] 42 3 [vi l5, vi l1, vr (some (97, 1, 0))] Q)) : Zm E YX8_binarySet (d + 1) M [(0, vr (some (97, 1, 0))), (1, vi l1), (2, vi l2), (3, vi l3), (4, vi l4), (5, vi l5)] 34 [vi s0] Q := by
  refine Zm.l (fun _ _ k_ => z_ist dX8_binarySet_34 (by decide) (lv' := [(0, vr (some (97, 1, 0))), (1, vi l1), (2, vi l2), (3, vi l3), (4, vi l4), (5, vi l5), (6, vi s0)]) rfl k_) ?_
  refine Zm.l (fun _ _ k_ => z_aload_n dX8_binarySet_36 rfl rfl k_) ?_
  refine Zm.l (fun _ _ k_ => z_iload_n dX8_binarySet_37 rfl rfl k_) ?_
  refine Zm.l (fun _ _ k_ => z_iload dX8_binarySet_38 rfl k_) ?_
  refine Zm.l (fun _ _ k_ => z_aload_n dX8_binarySet_40 rfl rfl k_) ?_
  refine Zm.l (fun _ _ k_ => z_iload_n dX8_binarySet_41 rfl rfl k_) ?_
  refine Zm.pick [0, 1, 3, 4, 5, 6] rfl ?_
  exact zm_callV (as := [vi l2]) (st := [vi l5, vi l1, vr (some (97, 1, 0))]) dX8_binarySet_42 vsX8_1300_1 (Nat.le_refl _) (Nat.le_of_ble_eq_true rfl) (Nat.le_of_ble_eq_true rfl) rfl k
theorem sX8_binarySet_45 {E : zE} {d : Nat} {Q : zO → zM → Prop} (M : zM) (l1 : Int32) (l3 : Int32) (l4 : Int32) (l5 : Int32) (l6 : Int32) (s0 : Int32) (s1 : Int32) (s2 : Int32) (k : Zm E YX8_valueOfAlone d M (zargs 0 [vr (some (97, 1, 0)), vi l3]) 0 [] (zma E YX8_binarySet (d + 1) [(0, vr (some (97, 1, 0))), (1, vi l1), (4, vi l4), (5, vi l5), (6, vi l6)] 49 3 [vi l6, vi s0, vi s1, vi s2, vr (some (97, 1, 0))] Q)) : Zm E YX8_binarySet (d + 1) M [(0, vr (some (97, 1, 0))), (1, vi l1), (3, vi l3), (4, vi l4), (5, vi l5), (6, vi l6)] 45 [vi s0, vi s1, vi s2, vr (some (97, 1, 0))] Q := by
  refine Zm.l (fun _ _ k_ => z_iload dX8_binarySet_45 rfl k_) ?_
  refine Zm.l (fun _ _ k_ => z_aload_n dX8_binarySet_47 rfl rfl k_) ?_
  refine Zm.l (fun _ _ k_ => z_iload_n dX8_binarySet_48 rfl rfl k_) ?_
  refine Zm.pick [0, 1, 3, 4, 5] rfl ?_
  exact zm_callV (as := [vi l3]) (st := [vi l6, vi s0, vi s1, vi s2, vr (some (97, 1, 0))]) dX8_binarySet_49 vsX8_1300_1 (Nat.le_refl _) (Nat.le_of_ble_eq_true rfl) (Nat.le_of_ble_eq_true rfl) rfl k
theorem sX8_binarySet_52 {E : zE} {d : Nat} {Q : zO → zM → Prop} (M : zM) (l1 : Int32) (l4 : Int32) (l5 : Int32) (l6 : Int32) (s0 : Int32) (s1 : Int32) (s2 : Int32) (s3 : Int32) (s4 : Int32) (k : Zm E YX8_binaryOf_2 d M (zargs 0 [vr (some (97, 1, 0)), vi s4, vi s3, vi s2, vi s1, vi s0]) 0 [] (zma E YX8_binarySet (d + 1) [(0, vr (some (97, 1, 0))), (1, vi l1), (4, vi l4), (5, vi l5), (6, vi l6)] 52 3 [] Q)) : Zm E YX8_binarySet (d + 1) M [(0, vr (some (97, 1, 0))), (1, vi l1), (4, vi l4), (5, vi l5), (6, vi l6)] 52 [vi s0, vi s1, vi s2, vi s3, vi s4, vr (some (97, 1, 0))] Q := by
  exact zm_callV (as := [vi s4, vi s3, vi s2, vi s1, vi s0]) (st := []) dX8_binarySet_52 vsX8_990_1 (Nat.le_refl _) (Nat.le_of_ble_eq_true rfl) (Nat.le_of_ble_eq_true rfl) rfl k
theorem sX8_binarySet_55 {E : zE} {d : Nat} {Q : zO → zM → Prop} (M : zM) (l1 : Int32) (l4 : Int32) (l5 : Int32) (l6 : Int32) (k : Zm E YX8_joinsTexts d M (zargs 0 [vr (some (97, 1, 0)), vi l1, vi l5, vi l6]) 0 [] (zma E YX8_binarySet (d + 1) [(0, vr (some (97, 1, 0))), (4, vi l4)] 61 3 [] Q)) : Zm E YX8_binarySet (d + 1) M [(0, vr (some (97, 1, 0))), (1, vi l1), (4, vi l4), (5, vi l5), (6, vi l6)] 55 [] Q := by
  refine Zm.l (fun _ _ k_ => z_aload_n dX8_binarySet_55 rfl rfl k_) ?_
  refine Zm.l (fun _ _ k_ => z_iload_n dX8_binarySet_56 rfl rfl k_) ?_
  refine Zm.l (fun _ _ k_ => z_iload dX8_binarySet_57 rfl k_) ?_
  refine Zm.l (fun _ _ k_ => z_iload dX8_binarySet_59 rfl k_) ?_
  refine Zm.pick [0, 2] rfl ?_
  exact zm_callV (as := [vi l1, vi l5, vi l6]) (st := []) dX8_binarySet_61 vsX8_830_1 (Nat.le_refl _) (Nat.le_of_ble_eq_true rfl) (Nat.le_of_ble_eq_true rfl) rfl k
theorem sX8_binarySet_64 {E : zE} {d : Nat} {Q : zO → zM → Prop} (M : zM) (l4 : Int32) (s0 : Int32) (k : if s0 = 0 then (Zm E YX8_addValue d M (zargs 0 [vr (some (97, 1, 0)), vi l4, vi (gi M 97 111), vi (gi M 97 112)]) 0 [] (zma E YX8_binarySet (d + 1) [] 113 3 [] Q)) else (if (gi M 97 11) ≤ (60 : Int32) then (Zm E YX8_findName d (si M 97 11 (gi M 97 11)) (zargs 0 [vr (some (97, 1, 0))]) 0 [] (zma E YX8_binarySet (d + 1) [] 93 3 [vi l4, vr (some (97, 1, 0))] Q)) else (Zm E YX8_findName d (si M 97 11 (60 : Int32)) (zargs 0 [vr (some (97, 1, 0))]) 0 [] (zma E YX8_binarySet (d + 1) [] 93 3 [vi l4, vr (some (97, 1, 0))] Q)))) : Zm E YX8_binarySet (d + 1) M [(0, vr (some (97, 1, 0))), (4, vi l4)] 64 [vi s0] Q := by
  refine Zm.br (fun _ _ k1_ k2_ => z_if_eq (tgt := 102) dX8_binarySet_64 rfl k1_ k2_) (fun h_ => ?_) (fun h_ => ?_)
  · have k := zit h_ k
    refine Zm.l (fun _ _ k_ => z_aload_n dX8_binarySet_102 rfl rfl k_) ?_
    refine Zm.l (fun _ _ k_ => z_iload dX8_binarySet_103 rfl k_) ?_
    refine Zm.l (fun _ _ k_ => z_aload_n dX8_binarySet_105 rfl rfl k_) ?_
    refine zm_geti dX8_binarySet_106 fsX8_788_1 (by decide) (by decide) ?_
    refine Zm.l (fun _ _ k_ => z_aload_n dX8_binarySet_109 rfl rfl k_) ?_
    refine zm_geti dX8_binarySet_110 fsX8_791_1 (by decide) (by decide) ?_
    refine Zm.pick [] rfl ?_
    exact zm_callV (as := [vi l4, vi (gi M 97 111), vi (gi M 97 112)]) (st := []) dX8_binarySet_113 vsX8_1219_1 (Nat.le_refl _) (Nat.le_of_ble_eq_true rfl) (Nat.le_of_ble_eq_true rfl) rfl k
  · have k := zif h_ k
    refine Zm.l (fun _ _ k_ => z_aload_n dX8_binarySet_67 rfl rfl k_) ?_
    refine Zm.l (fun _ _ k_ => z_aload_n dX8_binarySet_68 rfl rfl k_) ?_
    refine zm_geti dX8_binarySet_69 fsX8_299_1 (by decide) (by decide) ?_
    refine Zm.l (fun _ _ k_ => z_bipush (v := 60) dX8_binarySet_72 rfl k_) ?_
    refine Zm.br (fun _ _ k1_ k2_ => z_icmp_le (tgt := 82) dX8_binarySet_74 rfl k1_ k2_) (fun h_ => ?_) (fun h_ => ?_)
    · have k := zit h_ k
      refine Zm.l (fun _ _ k_ => z_aload_n dX8_binarySet_82 rfl rfl k_) ?_
      refine zm_geti dX8_binarySet_83 fsX8_299_1 (by decide) (by decide) ?_
      refine zm_puti (by decide) (by decide) dX8_binarySet_86 (zfwN.w fwX8_299_1) rfl ⟨rfl, rfl⟩ ?_
      refine Zm.l (fun _ _ k_ => z_aload_n dX8_binarySet_89 rfl rfl k_) ?_
      refine Zm.l (fun _ _ k_ => z_iload dX8_binarySet_90 rfl k_) ?_
      refine Zm.l (fun _ _ k_ => z_aload_n dX8_binarySet_92 rfl rfl k_) ?_
      refine Zm.pick [] rfl ?_
      exact zm_callV (as := []) (st := [vi l4, vr (some (97, 1, 0))]) dX8_binarySet_93 vsX8_1144_1 (Nat.le_refl _) (Nat.le_of_ble_eq_true rfl) (Nat.le_of_ble_eq_true rfl) rfl k
    · have k := zif h_ k
      refine Zm.l (fun _ _ k_ => z_bipush (v := 60) dX8_binarySet_77 rfl k_) ?_
      refine Zm.l (fun _ _ k_ => z_goto (tgt := 86) dX8_binarySet_79 rfl k_) ?_
      refine zm_puti (by decide) (by decide) dX8_binarySet_86 (zfwN.w fwX8_299_1) rfl ⟨rfl, rfl⟩ ?_
      refine Zm.l (fun _ _ k_ => z_aload_n dX8_binarySet_89 rfl rfl k_) ?_
      refine Zm.l (fun _ _ k_ => z_iload dX8_binarySet_90 rfl k_) ?_
      refine Zm.l (fun _ _ k_ => z_aload_n dX8_binarySet_92 rfl rfl k_) ?_
      refine Zm.pick [] rfl ?_
      exact zm_callV (as := []) (st := [vi l4, vr (some (97, 1, 0))]) dX8_binarySet_93 vsX8_1144_1 (Nat.le_refl _) (Nat.le_of_ble_eq_true rfl) (Nat.le_of_ble_eq_true rfl) rfl k
theorem sX8_binarySet_96 {E : zE} {d : Nat} {Q : zO → zM → Prop} (M : zM) (s0 : Int32) (s1 : Int32) (k : Zm E YX8_addString d M (zargs 0 [vr (some (97, 1, 0)), vi s1, vi s0]) 0 [] (zma E YX8_binarySet (d + 1) [] 96 3 [] Q)) : Zm E YX8_binarySet (d + 1) M [] 96 [vi s0, vi s1, vr (some (97, 1, 0))] Q := by
  exact zm_callV (as := [vi s1, vi s0]) (st := []) dX8_binarySet_96 vsX8_1078_1 (Nat.le_refl _) (Nat.le_of_ble_eq_true rfl) (Nat.le_of_ble_eq_true rfl) rfl k
theorem sX8_binarySet_99 {E : zE} {d : Nat} {Q : zO → zM → Prop} (M : zM)  (k : Zm E YX8_binarySet (d + 1) M [] 116 [] Q) : Zm E YX8_binarySet (d + 1) M [] 99 [] Q := by
  refine Zm.l (fun _ _ k_ => z_goto (tgt := 116) dX8_binarySet_99 rfl k_) ?_
  exact k
theorem sX8_binarySet_116 {E : zE} {d : Nat} {Q : zO → zM → Prop} (M : zM)  (k : Zm E YX8_binarySet (d + 1) M [] 234 [] Q) : Zm E YX8_binarySet (d + 1) M [] 116 [] Q := by
  refine Zm.l (fun _ _ k_ => z_goto (tgt := 234) dX8_binarySet_116 rfl k_) ?_
  exact k
theorem sX8_binarySet_119 {E : zE} {d : Nat} {Q : zO → zM → Prop} (M : zM) (l1 : Int32) (l2 : Int32) (l3 : Int32) (l4 : Int32) (k : if l1 = 0 then (Zm E YX8_has d M (zargs 0 [vr (some (97, 1, 0)), vi l2]) 0 [] (zma E YX8_binarySet (d + 1) [(0, vr (some (97, 1, 0))), (2, vi l2), (3, vi l3), (4, vi l4), (5, vi (384 : Int32))] 130 3 [] Q)) else (if (5 : Int32) ≤ l1 then (if (11 : Int32) ≤ l1 then (Zm E YX8_addSort d M (zargs 0 [vr (some (97, 1, 0)), vi l4, vi (12 : Int32)]) 0 [] (zma E YX8_binarySet (d + 1) [] 231 3 [] Q)) else (Zm E YX8_addSort d M (zargs 0 [vr (some (97, 1, 0)), vi l4, vi (64 : Int32)]) 0 [] (zma E YX8_binarySet (d + 1) [] 231 3 [] Q))) else (Zm E YX8_addSort d M (zargs 0 [vr (some (97, 1, 0)), vi l4, vi (80 : Int32)]) 0 [] (zma E YX8_binarySet (d + 1) [] 231 3 [] Q)))) : Zm E YX8_binarySet (d + 1) M [(0, vr (some (97, 1, 0))), (1, vi l1), (2, vi l2), (3, vi l3), (4, vi l4)] 119 [] Q := by
  refine Zm.l (fun _ _ k_ => z_iload_n dX8_binarySet_119 rfl rfl k_) ?_
  refine Zm.brn (fun _ _ k1_ k2_ => z_if_ne (tgt := 205) dX8_binarySet_120 rfl k1_ k2_) (fun h_ => ?_) (fun h_ => ?_)
  · have k := zif h_ k
    refine Zm.l (fun _ _ k_ => z_aload_n dX8_binarySet_205 rfl rfl k_) ?_
    refine Zm.l (fun _ _ k_ => z_iload dX8_binarySet_206 rfl k_) ?_
    refine Zm.l (fun _ _ k_ => z_iload_n dX8_binarySet_208 rfl rfl k_) ?_
    refine Zm.l (fun _ _ k_ => z_iconst (v := 5) dX8_binarySet_209 rfl k_) ?_
    refine Zm.br (fun _ _ k1_ k2_ => z_icmp_ge (tgt := 218) dX8_binarySet_210 rfl k1_ k2_) (fun h_ => ?_) (fun h_ => ?_)
    · have k := zit h_ k
      refine Zm.l (fun _ _ k_ => z_iload_n dX8_binarySet_218 rfl rfl k_) ?_
      refine Zm.l (fun _ _ k_ => z_bipush (v := 11) dX8_binarySet_219 rfl k_) ?_
      refine Zm.br (fun _ _ k1_ k2_ => z_icmp_ge (tgt := 229) dX8_binarySet_221 rfl k1_ k2_) (fun h_ => ?_) (fun h_ => ?_)
      · have k := zit h_ k
        refine Zm.l (fun _ _ k_ => z_bipush (v := 12) dX8_binarySet_229 rfl k_) ?_
        refine Zm.pick [] rfl ?_
        exact zm_callV (as := [vi l4, vi (12 : Int32)]) (st := []) dX8_binarySet_231 vsX8_1072_1 (Nat.le_refl _) (Nat.le_of_ble_eq_true rfl) (Nat.le_of_ble_eq_true rfl) rfl k
      · have k := zif h_ k
        refine Zm.l (fun _ _ k_ => z_bipush (v := 64) dX8_binarySet_224 rfl k_) ?_
        refine Zm.l (fun _ _ k_ => z_goto (tgt := 231) dX8_binarySet_226 rfl k_) ?_
        refine Zm.pick [] rfl ?_
        exact zm_callV (as := [vi l4, vi (64 : Int32)]) (st := []) dX8_binarySet_231 vsX8_1072_1 (Nat.le_refl _) (Nat.le_of_ble_eq_true rfl) (Nat.le_of_ble_eq_true rfl) rfl k
    · have k := zif h_ k
      refine Zm.l (fun _ _ k_ => z_bipush (v := 80) dX8_binarySet_213 rfl k_) ?_
      refine Zm.l (fun _ _ k_ => z_goto (tgt := 231) dX8_binarySet_215 rfl k_) ?_
      refine Zm.pick [] rfl ?_
      exact zm_callV (as := [vi l4, vi (80 : Int32)]) (st := []) dX8_binarySet_231 vsX8_1072_1 (Nat.le_refl _) (Nat.le_of_ble_eq_true rfl) (Nat.le_of_ble_eq_true rfl) rfl k
  · have k := zit h_ k
    refine Zm.l (fun _ _ k_ => z_sipush (v := 384) dX8_binarySet_123 rfl k_) ?_
    refine Zm.l (fun _ _ k_ => z_ist dX8_binarySet_126 (by decide) (lv' := [(0, vr (some (97, 1, 0))), (1, vi l1), (2, vi l2), (3, vi l3), (4, vi l4), (5, vi (384 : Int32))]) rfl k_) ?_
    refine Zm.l (fun _ _ k_ => z_aload_n dX8_binarySet_128 rfl rfl k_) ?_
    refine Zm.l (fun _ _ k_ => z_iload_n dX8_binarySet_129 rfl rfl k_) ?_
    refine Zm.pick [0, 2, 3, 4, 5] rfl ?_
    exact zm_callV (as := [vi l2]) (st := []) dX8_binarySet_130 vsX8_1047_1 (Nat.le_refl _) (Nat.le_of_ble_eq_true rfl) (Nat.le_of_ble_eq_true rfl) rfl k
theorem sX8_binarySet_133 {E : zE} {d : Nat} {Q : zO → zM → Prop} (M : zM) (l2 : Int32) (l3 : Int32) (l4 : Int32) (l5 : Int32) (s0 : Int32) (k : Zm E YX8_has d M (zargs 0 [vr (some (97, 1, 0)), vi l3]) 0 [] (zma E YX8_binarySet (d + 1) [(0, vr (some (97, 1, 0))), (2, vi l2), (3, vi l3), (4, vi l4), (5, vi l5)] 135 3 [vi s0] Q)) : Zm E YX8_binarySet (d + 1) M [(0, vr (some (97, 1, 0))), (2, vi l2), (3, vi l3), (4, vi l4), (5, vi l5)] 133 [vi s0] Q := by
  refine Zm.l (fun _ _ k_ => z_aload_n dX8_binarySet_133 rfl rfl k_) ?_
  refine Zm.l (fun _ _ k_ => z_iload_n dX8_binarySet_134 rfl rfl k_) ?_
  exact zm_callV (as := [vi l3]) (st := [vi s0]) dX8_binarySet_135 vsX8_1047_1 (Nat.le_refl _) (Nat.le_of_ble_eq_true rfl) (Nat.le_of_ble_eq_true rfl) rfl k
theorem sX8_binarySet_138 {E : zE} {d : Nat} {Q : zO → zM → Prop} (M : zM) (l2 : Int32) (l3 : Int32) (l4 : Int32) (l5 : Int32) (s0 : Int32) (s1 : Int32) (k : if ((s1 ||| s0) &&& l5) = 0 then (Zm E YX8_hasLabels d M (zargs 0 [vr (some (97, 1, 0)), vi l2]) 0 [] (zma E YX8_binarySet (d + 1) [(0, vr (some (97, 1, 0))), (2, vi l2), (3, vi l3), (4, vi l4), (5, vi l5)] 147 3 [] Q)) else (Zm E YX8_addString d M (zargs 0 [vr (some (97, 1, 0)), vi l4, vi (-1 : Int32)]) 0 [] (zma E YX8_binarySet (d + 1) [(0, vr (some (97, 1, 0))), (2, vi l2), (3, vi l3), (4, vi l4), (5, vi l5)] 165 3 [] Q))) : Zm E YX8_binarySet (d + 1) M [(0, vr (some (97, 1, 0))), (2, vi l2), (3, vi l3), (4, vi l4), (5, vi l5)] 138 [vi s0, vi s1] Q := by
  refine Zm.l (fun _ _ k_ => z_ior dX8_binarySet_138 k_) ?_
  refine Zm.l (fun _ _ k_ => z_iload dX8_binarySet_139 rfl k_) ?_
  refine Zm.l (fun _ _ k_ => z_iand dX8_binarySet_141 k_) ?_
  refine Zm.brn (fun _ _ k1_ k2_ => z_if_ne (tgt := 161) dX8_binarySet_142 rfl k1_ k2_) (fun h_ => ?_) (fun h_ => ?_)
  · have k := zif h_ k
    refine Zm.l (fun _ _ k_ => z_aload_n dX8_binarySet_161 rfl rfl k_) ?_
    refine Zm.l (fun _ _ k_ => z_iload dX8_binarySet_162 rfl k_) ?_
    refine Zm.l (fun _ _ k_ => z_iconst (v := -1) dX8_binarySet_164 rfl k_) ?_
    exact zm_callV (as := [vi l4, vi (-1 : Int32)]) (st := []) dX8_binarySet_165 vsX8_1078_1 (Nat.le_refl _) (Nat.le_of_ble_eq_true rfl) (Nat.le_of_ble_eq_true rfl) rfl k
  · have k := zit h_ k
    refine Zm.l (fun _ _ k_ => z_aload_n dX8_binarySet_145 rfl rfl k_) ?_
    refine Zm.l (fun _ _ k_ => z_iload_n dX8_binarySet_146 rfl rfl k_) ?_
    exact zm_callV (as := [vi l2]) (st := []) dX8_binarySet_147 vsX8_1062_1 (Nat.le_refl _) (Nat.le_of_ble_eq_true rfl) (Nat.le_of_ble_eq_true rfl) rfl k
theorem sX8_binarySet_150 {E : zE} {d : Nat} {Q : zO → zM → Prop} (M : zM) (l2 : Int32) (l3 : Int32) (l4 : Int32) (l5 : Int32) (s0 : Int32) (k : if s0 = 0 then (Zm E YX8_hasLabels d M (zargs 0 [vr (some (97, 1, 0)), vi l3]) 0 [] (zma E YX8_binarySet (d + 1) [(0, vr (some (97, 1, 0))), (2, vi l2), (3, vi l3), (4, vi l4), (5, vi l5)] 155 3 [] Q)) else (Zm E YX8_addString d M (zargs 0 [vr (some (97, 1, 0)), vi l4, vi (-1 : Int32)]) 0 [] (zma E YX8_binarySet (d + 1) [(0, vr (some (97, 1, 0))), (2, vi l2), (3, vi l3), (4, vi l4), (5, vi l5)] 165 3 [] Q))) : Zm E YX8_binarySet (d + 1) M [(0, vr (some (97, 1, 0))), (2, vi l2), (3, vi l3), (4, vi l4), (5, vi l5)] 150 [vi s0] Q := by
  refine Zm.brn (fun _ _ k1_ k2_ => z_if_ne (tgt := 161) dX8_binarySet_150 rfl k1_ k2_) (fun h_ => ?_) (fun h_ => ?_)
  · have k := zif h_ k
    refine Zm.l (fun _ _ k_ => z_aload_n dX8_binarySet_161 rfl rfl k_) ?_
    refine Zm.l (fun _ _ k_ => z_iload dX8_binarySet_162 rfl k_) ?_
    refine Zm.l (fun _ _ k_ => z_iconst (v := -1) dX8_binarySet_164 rfl k_) ?_
    exact zm_callV (as := [vi l4, vi (-1 : Int32)]) (st := []) dX8_binarySet_165 vsX8_1078_1 (Nat.le_refl _) (Nat.le_of_ble_eq_true rfl) (Nat.le_of_ble_eq_true rfl) rfl k
  · have k := zit h_ k
    refine Zm.l (fun _ _ k_ => z_aload_n dX8_binarySet_153 rfl rfl k_) ?_
    refine Zm.l (fun _ _ k_ => z_iload_n dX8_binarySet_154 rfl rfl k_) ?_
    exact zm_callV (as := [vi l3]) (st := []) dX8_binarySet_155 vsX8_1062_1 (Nat.le_refl _) (Nat.le_of_ble_eq_true rfl) (Nat.le_of_ble_eq_true rfl) rfl k
theorem sX8_binarySet_158 {E : zE} {d : Nat} {Q : zO → zM → Prop} (M : zM) (l2 : Int32) (l3 : Int32) (l4 : Int32) (l5 : Int32) (s0 : Int32) (k : if s0 = 0 then (Zm E YX8_binarySet (d + 1) M [(0, vr (some (97, 1, 0))), (2, vi l2), (3, vi l3), (4, vi l4), (5, vi l5)] 168 [] Q) else (Zm E YX8_addString d M (zargs 0 [vr (some (97, 1, 0)), vi l4, vi (-1 : Int32)]) 0 [] (zma E YX8_binarySet (d + 1) [(0, vr (some (97, 1, 0))), (2, vi l2), (3, vi l3), (4, vi l4), (5, vi l5)] 165 3 [] Q))) : Zm E YX8_binarySet (d + 1) M [(0, vr (some (97, 1, 0))), (2, vi l2), (3, vi l3), (4, vi l4), (5, vi l5)] 158 [vi s0] Q := by
  refine Zm.br (fun _ _ k1_ k2_ => z_if_eq (tgt := 168) dX8_binarySet_158 rfl k1_ k2_) (fun h_ => ?_) (fun h_ => ?_)
  · have k := zit h_ k
    exact k
  · have k := zif h_ k
    refine Zm.l (fun _ _ k_ => z_aload_n dX8_binarySet_161 rfl rfl k_) ?_
    refine Zm.l (fun _ _ k_ => z_iload dX8_binarySet_162 rfl k_) ?_
    refine Zm.l (fun _ _ k_ => z_iconst (v := -1) dX8_binarySet_164 rfl k_) ?_
    exact zm_callV (as := [vi l4, vi (-1 : Int32)]) (st := []) dX8_binarySet_165 vsX8_1078_1 (Nat.le_refl _) (Nat.le_of_ble_eq_true rfl) (Nat.le_of_ble_eq_true rfl) rfl k
theorem sX8_binarySet_168 {E : zE} {d : Nat} {Q : zO → zM → Prop} (M : zM) (l2 : Int32) (l3 : Int32) (l4 : Int32) (l5 : Int32) (k : Zm E YX8_plainly d M (zargs 0 [vr (some (97, 1, 0)), vi l2]) 0 [] (zma E YX8_binarySet (d + 1) [(0, vr (some (97, 1, 0))), (3, vi l3), (4, vi l4), (5, vi l5)] 170 3 [] Q)) : Zm E YX8_binarySet (d + 1) M [(0, vr (some (97, 1, 0))), (2, vi l2), (3, vi l3), (4, vi l4), (5, vi l5)] 168 [] Q := by
  refine Zm.l (fun _ _ k_ => z_aload_n dX8_binarySet_168 rfl rfl k_) ?_
  refine Zm.l (fun _ _ k_ => z_iload_n dX8_binarySet_169 rfl rfl k_) ?_
  refine Zm.pick [0, 2, 3, 4] rfl ?_
  exact zm_callV (as := [vi l2]) (st := []) dX8_binarySet_170 vsX8_1059_1 (Nat.le_refl _) (Nat.le_of_ble_eq_true rfl) (Nat.le_of_ble_eq_true rfl) rfl k
theorem sX8_binarySet_173 {E : zE} {d : Nat} {Q : zO → zM → Prop} (M : zM) (l3 : Int32) (l4 : Int32) (l5 : Int32) (s0 : Int32) (k : if (s0 &&& (l5 ^^^ (-1 : Int32))) = 0 then (Zm E YX8_binarySet (d + 1) M [] 202 [] Q) else (Zm E YX8_plainly d M (zargs 0 [vr (some (97, 1, 0)), vi l3]) 0 [] (zma E YX8_binarySet (d + 1) [(0, vr (some (97, 1, 0))), (4, vi l4), (5, vi l5)] 183 3 [] Q))) : Zm E YX8_binarySet (d + 1) M [(0, vr (some (97, 1, 0))), (3, vi l3), (4, vi l4), (5, vi l5)] 173 [vi s0] Q := by
  refine Zm.l (fun _ _ k_ => z_iload dX8_binarySet_173 rfl k_) ?_
  refine Zm.l (fun _ _ k_ => z_iconst (v := -1) dX8_binarySet_175 rfl k_) ?_
  refine Zm.l (fun _ _ k_ => z_ixor dX8_binarySet_176 k_) ?_
  refine Zm.l (fun _ _ k_ => z_iand dX8_binarySet_177 k_) ?_
  refine Zm.br (fun _ _ k1_ k2_ => z_if_eq (tgt := 202) dX8_binarySet_178 rfl k1_ k2_) (fun h_ => ?_) (fun h_ => ?_)
  · have k := zit h_ k
    refine Zm.pick [] rfl ?_
    exact k
  · have k := zif h_ k
    refine Zm.l (fun _ _ k_ => z_aload_n dX8_binarySet_181 rfl rfl k_) ?_
    refine Zm.l (fun _ _ k_ => z_iload_n dX8_binarySet_182 rfl rfl k_) ?_
    refine Zm.pick [0, 2, 3] rfl ?_
    exact zm_callV (as := [vi l3]) (st := []) dX8_binarySet_183 vsX8_1059_1 (Nat.le_refl _) (Nat.le_of_ble_eq_true rfl) (Nat.le_of_ble_eq_true rfl) rfl k
theorem sX8_binarySet_186 {E : zE} {d : Nat} {Q : zO → zM → Prop} (M : zM) (l4 : Int32) (l5 : Int32) (s0 : Int32) (k : if (s0 &&& (l5 ^^^ (-1 : Int32))) = 0 then (Zm E YX8_binarySet (d + 1) M [] 202 [] Q) else (Zm E YX8_addSort d M (zargs 0 [vr (some (97, 1, 0)), vi l4, vi (80 : Int32)]) 0 [] (zma E YX8_binarySet (d + 1) [] 199 3 [] Q))) : Zm E YX8_binarySet (d + 1) M [(0, vr (some (97, 1, 0))), (4, vi l4), (5, vi l5)] 186 [vi s0] Q := by
  refine Zm.l (fun _ _ k_ => z_iload dX8_binarySet_186 rfl k_) ?_
  refine Zm.l (fun _ _ k_ => z_iconst (v := -1) dX8_binarySet_188 rfl k_) ?_
  refine Zm.l (fun _ _ k_ => z_ixor dX8_binarySet_189 k_) ?_
  refine Zm.l (fun _ _ k_ => z_iand dX8_binarySet_190 k_) ?_
  refine Zm.br (fun _ _ k1_ k2_ => z_if_eq (tgt := 202) dX8_binarySet_191 rfl k1_ k2_) (fun h_ => ?_) (fun h_ => ?_)
  · have k := zit h_ k
    refine Zm.pick [] rfl ?_
    exact k
  · have k := zif h_ k
    refine Zm.l (fun _ _ k_ => z_aload_n dX8_binarySet_194 rfl rfl k_) ?_
    refine Zm.l (fun _ _ k_ => z_iload dX8_binarySet_195 rfl k_) ?_
    refine Zm.l (fun _ _ k_ => z_bipush (v := 80) dX8_binarySet_197 rfl k_) ?_
    refine Zm.pick [] rfl ?_
    exact zm_callV (as := [vi l4, vi (80 : Int32)]) (st := []) dX8_binarySet_199 vsX8_1072_1 (Nat.le_refl _) (Nat.le_of_ble_eq_true rfl) (Nat.le_of_ble_eq_true rfl) rfl k
theorem sX8_binarySet_202 {E : zE} {d : Nat} {Q : zO → zM → Prop} (M : zM)  (k : Zm E YX8_binarySet (d + 1) M [] 234 [] Q) : Zm E YX8_binarySet (d + 1) M [] 202 [] Q := by
  refine Zm.l (fun _ _ k_ => z_goto (tgt := 234) dX8_binarySet_202 rfl k_) ?_
  exact k
theorem sX8_binarySet_234 {E : zE} {d : Nat} {Q : zO → zM → Prop} (M : zM)  (k : Q (.inl none) M) : Zm E YX8_binarySet (d + 1) M [] 234 [] Q := by
  exact zm_vret dX8_binarySet_234 rfl k
/-! ScriptTypesModel.waysOfCall(I)V -/
theorem bX8_waysOfCall_0 : zdec cX8_waysOfCall 0 [(0, .aload_n 0, 1), (1, .getfield 235, 3), (4, .sipush 639, 3), (7, .iaload, 1), (8, .istore_n 2, 1), (9, .aload_n 0, 1), (10, .iload_n 2, 1), (11, .iload_n 1, 1), (12, .isub, 1), (13, .iconst 1, 1), (14, .isub, 1), (15, .iload_n 2, 1), (16, .iload_n 1, 1), (17, .isub, 1), (18, .iconst 2, 1), (19, .isub, 1)] = true := by decide +kernel
theorem dX8_waysOfCall_0 : decode cX8_waysOfCall 0 = .ok (.aload_n 0, 1) := zdec_at bX8_waysOfCall_0 0 rfl
theorem dX8_waysOfCall_1 : decode cX8_waysOfCall 1 = .ok (.getfield 235, 3) := zdec_at bX8_waysOfCall_0 1 rfl
theorem dX8_waysOfCall_4 : decode cX8_waysOfCall 4 = .ok (.sipush 639, 3) := zdec_at bX8_waysOfCall_0 2 rfl
theorem dX8_waysOfCall_7 : decode cX8_waysOfCall 7 = .ok (.iaload, 1) := zdec_at bX8_waysOfCall_0 3 rfl
theorem dX8_waysOfCall_8 : decode cX8_waysOfCall 8 = .ok (.istore_n 2, 1) := zdec_at bX8_waysOfCall_0 4 rfl
theorem dX8_waysOfCall_9 : decode cX8_waysOfCall 9 = .ok (.aload_n 0, 1) := zdec_at bX8_waysOfCall_0 5 rfl
theorem dX8_waysOfCall_10 : decode cX8_waysOfCall 10 = .ok (.iload_n 2, 1) := zdec_at bX8_waysOfCall_0 6 rfl
theorem dX8_waysOfCall_11 : decode cX8_waysOfCall 11 = .ok (.iload_n 1, 1) := zdec_at bX8_waysOfCall_0 7 rfl
theorem dX8_waysOfCall_12 : decode cX8_waysOfCall 12 = .ok (.isub, 1) := zdec_at bX8_waysOfCall_0 8 rfl
theorem dX8_waysOfCall_13 : decode cX8_waysOfCall 13 = .ok (.iconst 1, 1) := zdec_at bX8_waysOfCall_0 9 rfl
theorem dX8_waysOfCall_14 : decode cX8_waysOfCall 14 = .ok (.isub, 1) := zdec_at bX8_waysOfCall_0 10 rfl
theorem dX8_waysOfCall_15 : decode cX8_waysOfCall 15 = .ok (.iload_n 2, 1) := zdec_at bX8_waysOfCall_0 11 rfl
theorem dX8_waysOfCall_16 : decode cX8_waysOfCall 16 = .ok (.iload_n 1, 1) := zdec_at bX8_waysOfCall_0 12 rfl
theorem dX8_waysOfCall_17 : decode cX8_waysOfCall 17 = .ok (.isub, 1) := zdec_at bX8_waysOfCall_0 13 rfl
theorem dX8_waysOfCall_18 : decode cX8_waysOfCall 18 = .ok (.iconst 2, 1) := zdec_at bX8_waysOfCall_0 14 rfl
theorem dX8_waysOfCall_19 : decode cX8_waysOfCall 19 = .ok (.isub, 1) := zdec_at bX8_waysOfCall_0 15 rfl
theorem bX8_waysOfCall_20 : zdec cX8_waysOfCall 20 [(20, .iload_n 2, 1), (21, .iload_n 1, 1), (22, .isub, 1), (23, .iload_n 1, 1), (24, .iload_n 1, 1), (25, .iconst 2, 1), (26, .iadd, 1), (27, .invokevirtual 1320, 3), (30, .return_, 1)] = true := by decide +kernel
theorem dX8_waysOfCall_20 : decode cX8_waysOfCall 20 = .ok (.iload_n 2, 1) := zdec_at bX8_waysOfCall_20 0 rfl
theorem dX8_waysOfCall_21 : decode cX8_waysOfCall 21 = .ok (.iload_n 1, 1) := zdec_at bX8_waysOfCall_20 1 rfl
theorem dX8_waysOfCall_22 : decode cX8_waysOfCall 22 = .ok (.isub, 1) := zdec_at bX8_waysOfCall_20 2 rfl
theorem dX8_waysOfCall_23 : decode cX8_waysOfCall 23 = .ok (.iload_n 1, 1) := zdec_at bX8_waysOfCall_20 3 rfl
theorem dX8_waysOfCall_24 : decode cX8_waysOfCall 24 = .ok (.iload_n 1, 1) := zdec_at bX8_waysOfCall_20 4 rfl
theorem dX8_waysOfCall_25 : decode cX8_waysOfCall 25 = .ok (.iconst 2, 1) := zdec_at bX8_waysOfCall_20 5 rfl
theorem dX8_waysOfCall_26 : decode cX8_waysOfCall 26 = .ok (.iadd, 1) := zdec_at bX8_waysOfCall_20 6 rfl
theorem dX8_waysOfCall_27 : decode cX8_waysOfCall 27 = .ok (.invokevirtual 1320, 3) := zdec_at bX8_waysOfCall_20 7 rfl
theorem dX8_waysOfCall_30 : decode cX8_waysOfCall 30 = .ok (.return_, 1) := zdec_at bX8_waysOfCall_20 8 rfl
theorem sX8_waysOfCall_0 {E : zE} {d : Nat} {Q : zO → zM → Prop} (M : zM) (l1 : Int32) (k : vp_in (639 : Int32) 640 ∧ (Zm E YX8_callWays d M (zargs 0 [vr (some (97, 1, 0)), vi (((gi M 171 ((639 : Int32)).toNatClampNeg) - l1) - (1 : Int32)), vi (((gi M 171 ((639 : Int32)).toNatClampNeg) - l1) - (2 : Int32)), vi ((gi M 171 ((639 : Int32)).toNatClampNeg) - l1), vi l1, vi (l1 + (2 : Int32))]) 0 [] (zma E YX8_waysOfCall (d + 1) [] 27 3 [] Q))) : Zm E YX8_waysOfCall (d + 1) M [(0, vr (some (97, 1, 0))), (1, vi l1)] 0 [] Q := by
  refine Zm.l (fun _ _ k_ => z_aload_n dX8_waysOfCall_0 rfl rfl k_) ?_
  refine zm_getr 68 dX8_waysOfCall_1 fsX8_235_1 rfl ?_
  refine Zm.l (fun _ _ k_ => z_sipush (v := 639) dX8_waysOfCall_4 rfl k_) ?_
  obtain ⟨b_, k⟩ := k
  refine zm_iald dX8_waysOfCall_7 b_ (by decide) (by decide) ?_
  refine Zm.l (fun _ _ k_ => z_ist_n dX8_waysOfCall_8 rfl (by decide) (lv' := [(0, vr (some (97, 1, 0))), (1, vi l1), (2, vi (gi M 171 ((639 : Int32)).toNatClampNeg))]) rfl k_) ?_
  refine Zm.l (fun _ _ k_ => z_aload_n dX8_waysOfCall_9 rfl rfl k_) ?_
  refine Zm.l (fun _ _ k_ => z_iload_n dX8_waysOfCall_10 rfl rfl k_) ?_
  refine Zm.l (fun _ _ k_ => z_iload_n dX8_waysOfCall_11 rfl rfl k_) ?_
  refine Zm.l (fun _ _ k_ => z_isub dX8_waysOfCall_12 k_) ?_
  refine Zm.l (fun _ _ k_ => z_iconst (v := 1) dX8_waysOfCall_13 rfl k_) ?_
  refine Zm.l (fun _ _ k_ => z_isub dX8_waysOfCall_14 k_) ?_
  refine Zm.l (fun _ _ k_ => z_iload_n dX8_waysOfCall_15 rfl rfl k_) ?_
  refine Zm.l (fun _ _ k_ => z_iload_n dX8_waysOfCall_16 rfl rfl k_) ?_
  refine Zm.l (fun _ _ k_ => z_isub dX8_waysOfCall_17 k_) ?_
  refine Zm.l (fun _ _ k_ => z_iconst (v := 2) dX8_waysOfCall_18 rfl k_) ?_
  refine Zm.l (fun _ _ k_ => z_isub dX8_waysOfCall_19 k_) ?_
  refine Zm.l (fun _ _ k_ => z_iload_n dX8_waysOfCall_20 rfl rfl k_) ?_
  refine Zm.l (fun _ _ k_ => z_iload_n dX8_waysOfCall_21 rfl rfl k_) ?_
  refine Zm.l (fun _ _ k_ => z_isub dX8_waysOfCall_22 k_) ?_
  refine Zm.l (fun _ _ k_ => z_iload_n dX8_waysOfCall_23 rfl rfl k_) ?_
  refine Zm.l (fun _ _ k_ => z_iload_n dX8_waysOfCall_24 rfl rfl k_) ?_
  refine Zm.l (fun _ _ k_ => z_iconst (v := 2) dX8_waysOfCall_25 rfl k_) ?_
  refine Zm.l (fun _ _ k_ => z_iadd dX8_waysOfCall_26 k_) ?_
  refine Zm.pick [] rfl ?_
  exact zm_callV (as := [vi (((gi M 171 ((639 : Int32)).toNatClampNeg) - l1) - (1 : Int32)), vi (((gi M 171 ((639 : Int32)).toNatClampNeg) - l1) - (2 : Int32)), vi ((gi M 171 ((639 : Int32)).toNatClampNeg) - l1), vi l1, vi (l1 + (2 : Int32))]) (st := []) dX8_waysOfCall_27 vsX8_1320_1 (Nat.le_refl _) (Nat.le_of_ble_eq_true rfl) (Nat.le_of_ble_eq_true rfl) rfl k
theorem sX8_waysOfCall_30 {E : zE} {d : Nat} {Q : zO → zM → Prop} (M : zM)  (k : Q (.inl none) M) : Zm E YX8_waysOfCall (d + 1) M [] 30 [] Q := by
  exact zm_vret dX8_waysOfCall_30 rfl k
/-! ScriptTypesModel.callWays(IIIII)V -/
theorem bX8_callWays_0 : zdec cX8_callWays 0 [(0, .iload_n 1, 1), (1, .iconst (-1), 1), (2, .if_icmp .ne 14, 3), (5, .aload_n 0, 1), (6, .aload_n 0, 1), (7, .getfield 1188, 3), (10, .bipush 6, 2), (12, .invokevirtual 1292, 3), (15, .return_, 1), (16, .aload_n 0, 1), (17, .aload_n 0, 1), (18, .getfield 1188, 3), (21, .invokevirtual 1211, 3), (24, .aload_n 0, 1), (25, .sipush 639, 3), (28, .iload_n 1, 1)] = true := by decide +kernel
theorem dX8_callWays_0 : decode cX8_callWays 0 = .ok (.iload_n 1, 1) := zdec_at bX8_callWays_0 0 rfl
theorem dX8_callWays_1 : decode cX8_callWays 1 = .ok (.iconst (-1), 1) := zdec_at bX8_callWays_0 1 rfl
theorem dX8_callWays_2 : decode cX8_callWays 2 = .ok (.if_icmp .ne 14, 3) := zdec_at bX8_callWays_0 2 rfl
theorem dX8_callWays_5 : decode cX8_callWays 5 = .ok (.aload_n 0, 1) := zdec_at bX8_callWays_0 3 rfl
theorem dX8_callWays_6 : decode cX8_callWays 6 = .ok (.aload_n 0, 1) := zdec_at bX8_callWays_0 4 rfl
theorem dX8_callWays_7 : decode cX8_callWays 7 = .ok (.getfield 1188, 3) := zdec_at bX8_callWays_0 5 rfl
theorem dX8_callWays_10 : decode cX8_callWays 10 = .ok (.bipush 6, 2) := zdec_at bX8_callWays_0 6 rfl
theorem dX8_callWays_12 : decode cX8_callWays 12 = .ok (.invokevirtual 1292, 3) := zdec_at bX8_callWays_0 7 rfl
theorem dX8_callWays_15 : decode cX8_callWays 15 = .ok (.return_, 1) := zdec_at bX8_callWays_0 8 rfl
theorem dX8_callWays_16 : decode cX8_callWays 16 = .ok (.aload_n 0, 1) := zdec_at bX8_callWays_0 9 rfl
theorem dX8_callWays_17 : decode cX8_callWays 17 = .ok (.aload_n 0, 1) := zdec_at bX8_callWays_0 10 rfl
theorem dX8_callWays_18 : decode cX8_callWays 18 = .ok (.getfield 1188, 3) := zdec_at bX8_callWays_0 11 rfl
theorem dX8_callWays_21 : decode cX8_callWays 21 = .ok (.invokevirtual 1211, 3) := zdec_at bX8_callWays_0 12 rfl
theorem dX8_callWays_24 : decode cX8_callWays 24 = .ok (.aload_n 0, 1) := zdec_at bX8_callWays_0 13 rfl
theorem dX8_callWays_25 : decode cX8_callWays 25 = .ok (.sipush 639, 3) := zdec_at bX8_callWays_0 14 rfl
theorem dX8_callWays_28 : decode cX8_callWays 28 = .ok (.iload_n 1, 1) := zdec_at bX8_callWays_0 15 rfl
theorem bX8_callWays_29 : zdec cX8_callWays 29 [(29, .invokevirtual 1323, 3), (32, .istore 6, 2), (34, .aload_n 0, 1), (35, .getfield 220, 3), (38, .iload 6, 2), (40, .laload, 1), (41, .lstore 7, 2), (43, .aload_n 0, 1), (44, .getfield 223, 3), (47, .iload 6, 2), (49, .laload, 1), (50, .lstore 9, 2), (52, .aload_n 0, 1), (53, .iload 6, 2), (55, .invokevirtual 1059, 3), (58, .ifCond .eq 7, 3)] = true := by decide +kernel
theorem dX8_callWays_29 : decode cX8_callWays 29 = .ok (.invokevirtual 1323, 3) := zdec_at bX8_callWays_29 0 rfl
theorem dX8_callWays_32 : decode cX8_callWays 32 = .ok (.istore 6, 2) := zdec_at bX8_callWays_29 1 rfl
theorem dX8_callWays_34 : decode cX8_callWays 34 = .ok (.aload_n 0, 1) := zdec_at bX8_callWays_29 2 rfl
theorem dX8_callWays_35 : decode cX8_callWays 35 = .ok (.getfield 220, 3) := zdec_at bX8_callWays_29 3 rfl
theorem dX8_callWays_38 : decode cX8_callWays 38 = .ok (.iload 6, 2) := zdec_at bX8_callWays_29 4 rfl
theorem dX8_callWays_40 : decode cX8_callWays 40 = .ok (.laload, 1) := zdec_at bX8_callWays_29 5 rfl
theorem dX8_callWays_41 : decode cX8_callWays 41 = .ok (.lstore 7, 2) := zdec_at bX8_callWays_29 6 rfl
theorem dX8_callWays_43 : decode cX8_callWays 43 = .ok (.aload_n 0, 1) := zdec_at bX8_callWays_29 7 rfl
theorem dX8_callWays_44 : decode cX8_callWays 44 = .ok (.getfield 223, 3) := zdec_at bX8_callWays_29 8 rfl
theorem dX8_callWays_47 : decode cX8_callWays 47 = .ok (.iload 6, 2) := zdec_at bX8_callWays_29 9 rfl
theorem dX8_callWays_49 : decode cX8_callWays 49 = .ok (.laload, 1) := zdec_at bX8_callWays_29 10 rfl
theorem dX8_callWays_50 : decode cX8_callWays 50 = .ok (.lstore 9, 2) := zdec_at bX8_callWays_29 11 rfl
theorem dX8_callWays_52 : decode cX8_callWays 52 = .ok (.aload_n 0, 1) := zdec_at bX8_callWays_29 12 rfl
theorem dX8_callWays_53 : decode cX8_callWays 53 = .ok (.iload 6, 2) := zdec_at bX8_callWays_29 13 rfl
theorem dX8_callWays_55 : decode cX8_callWays 55 = .ok (.invokevirtual 1059, 3) := zdec_at bX8_callWays_29 14 rfl
theorem dX8_callWays_58 : decode cX8_callWays 58 = .ok (.ifCond .eq 7, 3) := zdec_at bX8_callWays_29 15 rfl
theorem bX8_callWays_61 : zdec cX8_callWays 61 [(61, .iconst 1, 1), (62, .goto 4, 3), (65, .iconst 0, 1), (66, .istore 11, 2), (68, .iconst 0, 1), (69, .istore 12, 2), (71, .iconst 0, 1), (72, .istore 13, 2), (74, .iload 13, 2), (76, .aload_n 0, 1), (77, .getfield 765, 3), (80, .if_icmp .ge 66, 3), (83, .lload 7, 2), (85, .lload 9, 2), (87, .iload 13, 2), (89, .invokestatic 1125, 3)] = true := by decide +kernel
theorem dX8_callWays_61 : decode cX8_callWays 61 = .ok (.iconst 1, 1) := zdec_at bX8_callWays_61 0 rfl
theorem dX8_callWays_62 : decode cX8_callWays 62 = .ok (.goto 4, 3) := zdec_at bX8_callWays_61 1 rfl
theorem dX8_callWays_65 : decode cX8_callWays 65 = .ok (.iconst 0, 1) := zdec_at bX8_callWays_61 2 rfl
theorem dX8_callWays_66 : decode cX8_callWays 66 = .ok (.istore 11, 2) := zdec_at bX8_callWays_61 3 rfl
theorem dX8_callWays_68 : decode cX8_callWays 68 = .ok (.iconst 0, 1) := zdec_at bX8_callWays_61 4 rfl
theorem dX8_callWays_69 : decode cX8_callWays 69 = .ok (.istore 12, 2) := zdec_at bX8_callWays_61 5 rfl
theorem dX8_callWays_71 : decode cX8_callWays 71 = .ok (.iconst 0, 1) := zdec_at bX8_callWays_61 6 rfl
theorem dX8_callWays_72 : decode cX8_callWays 72 = .ok (.istore 13, 2) := zdec_at bX8_callWays_61 7 rfl
theorem dX8_callWays_74 : decode cX8_callWays 74 = .ok (.iload 13, 2) := zdec_at bX8_callWays_61 8 rfl
theorem dX8_callWays_76 : decode cX8_callWays 76 = .ok (.aload_n 0, 1) := zdec_at bX8_callWays_61 9 rfl
theorem dX8_callWays_77 : decode cX8_callWays 77 = .ok (.getfield 765, 3) := zdec_at bX8_callWays_61 10 rfl
theorem dX8_callWays_80 : decode cX8_callWays 80 = .ok (.if_icmp .ge 66, 3) := zdec_at bX8_callWays_61 11 rfl
theorem dX8_callWays_83 : decode cX8_callWays 83 = .ok (.lload 7, 2) := zdec_at bX8_callWays_61 12 rfl
theorem dX8_callWays_85 : decode cX8_callWays 85 = .ok (.lload 9, 2) := zdec_at bX8_callWays_61 13 rfl
theorem dX8_callWays_87 : decode cX8_callWays 87 = .ok (.iload 13, 2) := zdec_at bX8_callWays_61 14 rfl
theorem dX8_callWays_89 : decode cX8_callWays 89 = .ok (.invokestatic 1125, 3) := zdec_at bX8_callWays_61 15 rfl
theorem bX8_callWays_92 : zdec cX8_callWays 92 [(92, .ifCond .ne 6, 3), (95, .goto 45, 3), (98, .iload 11, 2), (100, .ifCond .ne 12, 3), (103, .aload_n 0, 1), (104, .iload 13, 2), (106, .invokevirtual 1115, 3), (109, .ifCond .ne 7, 3), (112, .iconst 1, 1), (113, .goto 4, 3), (116, .iconst 0, 1), (117, .istore 11, 2), (119, .iload 12, 2), (121, .ifCond .ne 12, 3), (124, .aload_n 0, 1), (125, .iload 13, 2)] = true := by decide +kernel
theorem dX8_callWays_92 : decode cX8_callWays 92 = .ok (.ifCond .ne 6, 3) := zdec_at bX8_callWays_92 0 rfl
theorem dX8_callWays_95 : decode cX8_callWays 95 = .ok (.goto 45, 3) := zdec_at bX8_callWays_92 1 rfl
theorem dX8_callWays_98 : decode cX8_callWays 98 = .ok (.iload 11, 2) := zdec_at bX8_callWays_92 2 rfl
theorem dX8_callWays_100 : decode cX8_callWays 100 = .ok (.ifCond .ne 12, 3) := zdec_at bX8_callWays_92 3 rfl
theorem dX8_callWays_103 : decode cX8_callWays 103 = .ok (.aload_n 0, 1) := zdec_at bX8_callWays_92 4 rfl
theorem dX8_callWays_104 : decode cX8_callWays 104 = .ok (.iload 13, 2) := zdec_at bX8_callWays_92 5 rfl
theorem dX8_callWays_106 : decode cX8_callWays 106 = .ok (.invokevirtual 1115, 3) := zdec_at bX8_callWays_92 6 rfl
theorem dX8_callWays_109 : decode cX8_callWays 109 = .ok (.ifCond .ne 7, 3) := zdec_at bX8_callWays_92 7 rfl
theorem dX8_callWays_112 : decode cX8_callWays 112 = .ok (.iconst 1, 1) := zdec_at bX8_callWays_92 8 rfl
theorem dX8_callWays_113 : decode cX8_callWays 113 = .ok (.goto 4, 3) := zdec_at bX8_callWays_92 9 rfl
theorem dX8_callWays_116 : decode cX8_callWays 116 = .ok (.iconst 0, 1) := zdec_at bX8_callWays_92 10 rfl
theorem dX8_callWays_117 : decode cX8_callWays 117 = .ok (.istore 11, 2) := zdec_at bX8_callWays_92 11 rfl
theorem dX8_callWays_119 : decode cX8_callWays 119 = .ok (.iload 12, 2) := zdec_at bX8_callWays_92 12 rfl
theorem dX8_callWays_121 : decode cX8_callWays 121 = .ok (.ifCond .ne 12, 3) := zdec_at bX8_callWays_92 13 rfl
theorem dX8_callWays_124 : decode cX8_callWays 124 = .ok (.aload_n 0, 1) := zdec_at bX8_callWays_92 14 rfl
theorem dX8_callWays_125 : decode cX8_callWays 125 = .ok (.iload 13, 2) := zdec_at bX8_callWays_92 15 rfl
theorem bX8_callWays_127 : zdec cX8_callWays 127 [(127, .invokevirtual 1326, 3), (130, .ifCond .le 7, 3), (133, .iconst 1, 1), (134, .goto 4, 3), (137, .iconst 0, 1), (138, .istore 12, 2), (140, .iinc 13 1, 3), (143, .goto (-69), 3), (146, .iload 11, 2), (148, .ifCond .eq 13, 3), (151, .aload_n 0, 1), (152, .aload_n 0, 1), (153, .getfield 1188, 3), (156, .bipush 6, 2), (158, .invokevirtual 1292, 3), (161, .iload 12, 2)] = true := by decide +kernel
theorem dX8_callWays_127 : decode cX8_callWays 127 = .ok (.invokevirtual 1326, 3) := zdec_at bX8_callWays_127 0 rfl
theorem dX8_callWays_130 : decode cX8_callWays 130 = .ok (.ifCond .le 7, 3) := zdec_at bX8_callWays_127 1 rfl
theorem dX8_callWays_133 : decode cX8_callWays 133 = .ok (.iconst 1, 1) := zdec_at bX8_callWays_127 2 rfl
theorem dX8_callWays_134 : decode cX8_callWays 134 = .ok (.goto 4, 3) := zdec_at bX8_callWays_127 3 rfl
theorem dX8_callWays_137 : decode cX8_callWays 137 = .ok (.iconst 0, 1) := zdec_at bX8_callWays_127 4 rfl
theorem dX8_callWays_138 : decode cX8_callWays 138 = .ok (.istore 12, 2) := zdec_at bX8_callWays_127 5 rfl
theorem dX8_callWays_140 : decode cX8_callWays 140 = .ok (.iinc 13 1, 3) := zdec_at bX8_callWays_127 6 rfl
theorem dX8_callWays_143 : decode cX8_callWays 143 = .ok (.goto (-69), 3) := zdec_at bX8_callWays_127 7 rfl
theorem dX8_callWays_146 : decode cX8_callWays 146 = .ok (.iload 11, 2) := zdec_at bX8_callWays_127 8 rfl
theorem dX8_callWays_148 : decode cX8_callWays 148 = .ok (.ifCond .eq 13, 3) := zdec_at bX8_callWays_127 9 rfl
theorem dX8_callWays_151 : decode cX8_callWays 151 = .ok (.aload_n 0, 1) := zdec_at bX8_callWays_127 10 rfl
theorem dX8_callWays_152 : decode cX8_callWays 152 = .ok (.aload_n 0, 1) := zdec_at bX8_callWays_127 11 rfl
theorem dX8_callWays_153 : decode cX8_callWays 153 = .ok (.getfield 1188, 3) := zdec_at bX8_callWays_127 12 rfl
theorem dX8_callWays_156 : decode cX8_callWays 156 = .ok (.bipush 6, 2) := zdec_at bX8_callWays_127 13 rfl
theorem dX8_callWays_158 : decode cX8_callWays 158 = .ok (.invokevirtual 1292, 3) := zdec_at bX8_callWays_127 14 rfl
theorem dX8_callWays_161 : decode cX8_callWays 161 = .ok (.iload 12, 2) := zdec_at bX8_callWays_127 15 rfl
theorem bX8_callWays_163 : zdec cX8_callWays 163 [(163, .ifCond .eq 13, 3), (166, .aload_n 0, 1), (167, .aload_n 0, 1), (168, .getfield 1188, 3), (171, .bipush 8, 2), (173, .invokevirtual 1292, 3), (176, .bipush 9, 2), (178, .istore 13, 2), (180, .iload 13, 2), (182, .bipush 23, 2), (184, .if_icmp .ge 79, 3), (187, .lload 7, 2), (189, .lload 9, 2), (191, .iload 13, 2), (193, .invokestatic 1125, 3), (196, .ifCond .ne 6, 3)] = true := by decide +kernel
theorem dX8_callWays_163 : decode cX8_callWays 163 = .ok (.ifCond .eq 13, 3) := zdec_at bX8_callWays_163 0 rfl
theorem dX8_callWays_166 : decode cX8_callWays 166 = .ok (.aload_n 0, 1) := zdec_at bX8_callWays_163 1 rfl
theorem dX8_callWays_167 : decode cX8_callWays 167 = .ok (.aload_n 0, 1) := zdec_at bX8_callWays_163 2 rfl
theorem dX8_callWays_168 : decode cX8_callWays 168 = .ok (.getfield 1188, 3) := zdec_at bX8_callWays_163 3 rfl
theorem dX8_callWays_171 : decode cX8_callWays 171 = .ok (.bipush 8, 2) := zdec_at bX8_callWays_163 4 rfl
theorem dX8_callWays_173 : decode cX8_callWays 173 = .ok (.invokevirtual 1292, 3) := zdec_at bX8_callWays_163 5 rfl
theorem dX8_callWays_176 : decode cX8_callWays 176 = .ok (.bipush 9, 2) := zdec_at bX8_callWays_163 6 rfl
theorem dX8_callWays_178 : decode cX8_callWays 178 = .ok (.istore 13, 2) := zdec_at bX8_callWays_163 7 rfl
theorem dX8_callWays_180 : decode cX8_callWays 180 = .ok (.iload 13, 2) := zdec_at bX8_callWays_163 8 rfl
theorem dX8_callWays_182 : decode cX8_callWays 182 = .ok (.bipush 23, 2) := zdec_at bX8_callWays_163 9 rfl
theorem dX8_callWays_184 : decode cX8_callWays 184 = .ok (.if_icmp .ge 79, 3) := zdec_at bX8_callWays_163 10 rfl
theorem dX8_callWays_187 : decode cX8_callWays 187 = .ok (.lload 7, 2) := zdec_at bX8_callWays_163 11 rfl
theorem dX8_callWays_189 : decode cX8_callWays 189 = .ok (.lload 9, 2) := zdec_at bX8_callWays_163 12 rfl
theorem dX8_callWays_191 : decode cX8_callWays 191 = .ok (.iload 13, 2) := zdec_at bX8_callWays_163 13 rfl
theorem dX8_callWays_193 : decode cX8_callWays 193 = .ok (.invokestatic 1125, 3) := zdec_at bX8_callWays_163 14 rfl
theorem dX8_callWays_196 : decode cX8_callWays 196 = .ok (.ifCond .ne 6, 3) := zdec_at bX8_callWays_163 15 rfl
theorem bX8_callWays_199 : zdec cX8_callWays 199 [(199, .goto 58, 3), (202, .iload 13, 2), (204, .bipush 20, 2), (206, .if_icmp .ne 39, 3), (209, .aload_n 0, 1), (210, .iload_n 2, 1), (211, .iload 4, 2), (213, .ifCond .le 7, 3), (216, .iload_n 3, 1), (217, .goto 4, 3), (220, .iconst (-1), 1), (221, .iload_n 3, 1), (222, .iconst 1, 1), (223, .iadd, 1), (224, .iload 4, 2), (226, .ifCond .le 10, 3)] = true := by decide +kernel
theorem dX8_callWays_199 : decode cX8_callWays 199 = .ok (.goto 58, 3) := zdec_at bX8_callWays_199 0 rfl
theorem dX8_callWays_202 : decode cX8_callWays 202 = .ok (.iload 13, 2) := zdec_at bX8_callWays_199 1 rfl
theorem dX8_callWays_204 : decode cX8_callWays 204 = .ok (.bipush 20, 2) := zdec_at bX8_callWays_199 2 rfl
theorem dX8_callWays_206 : decode cX8_callWays 206 = .ok (.if_icmp .ne 39, 3) := zdec_at bX8_callWays_199 3 rfl
theorem dX8_callWays_209 : decode cX8_callWays 209 = .ok (.aload_n 0, 1) := zdec_at bX8_callWays_199 4 rfl
theorem dX8_callWays_210 : decode cX8_callWays 210 = .ok (.iload_n 2, 1) := zdec_at bX8_callWays_199 5 rfl
theorem dX8_callWays_211 : decode cX8_callWays 211 = .ok (.iload 4, 2) := zdec_at bX8_callWays_199 6 rfl
theorem dX8_callWays_213 : decode cX8_callWays 213 = .ok (.ifCond .le 7, 3) := zdec_at bX8_callWays_199 7 rfl
theorem dX8_callWays_216 : decode cX8_callWays 216 = .ok (.iload_n 3, 1) := zdec_at bX8_callWays_199 8 rfl
theorem dX8_callWays_217 : decode cX8_callWays 217 = .ok (.goto 4, 3) := zdec_at bX8_callWays_199 9 rfl
theorem dX8_callWays_220 : decode cX8_callWays 220 = .ok (.iconst (-1), 1) := zdec_at bX8_callWays_199 10 rfl
theorem dX8_callWays_221 : decode cX8_callWays 221 = .ok (.iload_n 3, 1) := zdec_at bX8_callWays_199 11 rfl
theorem dX8_callWays_222 : decode cX8_callWays 222 = .ok (.iconst 1, 1) := zdec_at bX8_callWays_199 12 rfl
theorem dX8_callWays_223 : decode cX8_callWays 223 = .ok (.iadd, 1) := zdec_at bX8_callWays_199 13 rfl
theorem dX8_callWays_224 : decode cX8_callWays 224 = .ok (.iload 4, 2) := zdec_at bX8_callWays_199 14 rfl
theorem dX8_callWays_226 : decode cX8_callWays 226 = .ok (.ifCond .le 10, 3) := zdec_at bX8_callWays_199 15 rfl
theorem bX8_callWays_229 : zdec cX8_callWays 229 [(229, .iload 4, 2), (231, .iconst 1, 1), (232, .isub, 1), (233, .goto 4, 3), (236, .iconst 0, 1), (237, .iload 5, 2), (239, .invokevirtual 1320, 3), (242, .goto 15, 3), (245, .aload_n 0, 1), (246, .iload 13, 2), (248, .iload_n 2, 1), (249, .iload_n 3, 1), (250, .iload 4, 2), (252, .iload 5, 2), (254, .invokevirtual 1329, 3), (257, .iinc 13 1, 3)] = true := by decide +kernel
theorem dX8_callWays_229 : decode cX8_callWays 229 = .ok (.iload 4, 2) := zdec_at bX8_callWays_229 0 rfl
theorem dX8_callWays_231 : decode cX8_callWays 231 = .ok (.iconst 1, 1) := zdec_at bX8_callWays_229 1 rfl
theorem dX8_callWays_232 : decode cX8_callWays 232 = .ok (.isub, 1) := zdec_at bX8_callWays_229 2 rfl
theorem dX8_callWays_233 : decode cX8_callWays 233 = .ok (.goto 4, 3) := zdec_at bX8_callWays_229 3 rfl
theorem dX8_callWays_236 : decode cX8_callWays 236 = .ok (.iconst 0, 1) := zdec_at bX8_callWays_229 4 rfl
theorem dX8_callWays_237 : decode cX8_callWays 237 = .ok (.iload 5, 2) := zdec_at bX8_callWays_229 5 rfl
theorem dX8_callWays_239 : decode cX8_callWays 239 = .ok (.invokevirtual 1320, 3) := zdec_at bX8_callWays_229 6 rfl
theorem dX8_callWays_242 : decode cX8_callWays 242 = .ok (.goto 15, 3) := zdec_at bX8_callWays_229 7 rfl
theorem dX8_callWays_245 : decode cX8_callWays 245 = .ok (.aload_n 0, 1) := zdec_at bX8_callWays_229 8 rfl
theorem dX8_callWays_246 : decode cX8_callWays 246 = .ok (.iload 13, 2) := zdec_at bX8_callWays_229 9 rfl
theorem dX8_callWays_248 : decode cX8_callWays 248 = .ok (.iload_n 2, 1) := zdec_at bX8_callWays_229 10 rfl
theorem dX8_callWays_249 : decode cX8_callWays 249 = .ok (.iload_n 3, 1) := zdec_at bX8_callWays_229 11 rfl
theorem dX8_callWays_250 : decode cX8_callWays 250 = .ok (.iload 4, 2) := zdec_at bX8_callWays_229 12 rfl
theorem dX8_callWays_252 : decode cX8_callWays 252 = .ok (.iload 5, 2) := zdec_at bX8_callWays_229 13 rfl
theorem dX8_callWays_254 : decode cX8_callWays 254 = .ok (.invokevirtual 1329, 3) := zdec_at bX8_callWays_229 14 rfl
theorem dX8_callWays_257 : decode cX8_callWays 257 = .ok (.iinc 13 1, 3) := zdec_at bX8_callWays_229 15 rfl
theorem bX8_callWays_260 : zdec cX8_callWays 260 [(260, .goto (-80), 3), (263, .iconst 1, 1), (264, .istore 13, 2), (266, .iload 13, 2), (268, .aload_n 0, 1), (269, .getfield 527, 3), (272, .if_icmp .ge 26, 3), (275, .aload_n 0, 1), (276, .iload 13, 2), (278, .lload 7, 2), (280, .lload 9, 2), (282, .iload_n 2, 1), (283, .iload_n 3, 1), (284, .iload 4, 2), (286, .iload 5, 2), (288, .iconst (-1), 1)] = true := by decide +kernel
theorem dX8_callWays_260 : decode cX8_callWays 260 = .ok (.goto (-80), 3) := zdec_at bX8_callWays_260 0 rfl
theorem dX8_callWays_263 : decode cX8_callWays 263 = .ok (.iconst 1, 1) := zdec_at bX8_callWays_260 1 rfl
theorem dX8_callWays_264 : decode cX8_callWays 264 = .ok (.istore 13, 2) := zdec_at bX8_callWays_260 2 rfl
theorem dX8_callWays_266 : decode cX8_callWays 266 = .ok (.iload 13, 2) := zdec_at bX8_callWays_260 3 rfl
theorem dX8_callWays_268 : decode cX8_callWays 268 = .ok (.aload_n 0, 1) := zdec_at bX8_callWays_260 4 rfl
theorem dX8_callWays_269 : decode cX8_callWays 269 = .ok (.getfield 527, 3) := zdec_at bX8_callWays_260 5 rfl
theorem dX8_callWays_272 : decode cX8_callWays 272 = .ok (.if_icmp .ge 26, 3) := zdec_at bX8_callWays_260 6 rfl
theorem dX8_callWays_275 : decode cX8_callWays 275 = .ok (.aload_n 0, 1) := zdec_at bX8_callWays_260 7 rfl
theorem dX8_callWays_276 : decode cX8_callWays 276 = .ok (.iload 13, 2) := zdec_at bX8_callWays_260 8 rfl
theorem dX8_callWays_278 : decode cX8_callWays 278 = .ok (.lload 7, 2) := zdec_at bX8_callWays_260 9 rfl
theorem dX8_callWays_280 : decode cX8_callWays 280 = .ok (.lload 9, 2) := zdec_at bX8_callWays_260 10 rfl
theorem dX8_callWays_282 : decode cX8_callWays 282 = .ok (.iload_n 2, 1) := zdec_at bX8_callWays_260 11 rfl
theorem dX8_callWays_283 : decode cX8_callWays 283 = .ok (.iload_n 3, 1) := zdec_at bX8_callWays_260 12 rfl
theorem dX8_callWays_284 : decode cX8_callWays 284 = .ok (.iload 4, 2) := zdec_at bX8_callWays_260 13 rfl
theorem dX8_callWays_286 : decode cX8_callWays 286 = .ok (.iload 5, 2) := zdec_at bX8_callWays_260 14 rfl
theorem dX8_callWays_288 : decode cX8_callWays 288 = .ok (.iconst (-1), 1) := zdec_at bX8_callWays_260 15 rfl
theorem bX8_callWays_289 : zdec cX8_callWays 289 [(289, .invokevirtual 1332, 3), (292, .iinc 13 1, 3), (295, .goto (-29), 3), (298, .return_, 1)] = true := by decide +kernel
theorem dX8_callWays_289 : decode cX8_callWays 289 = .ok (.invokevirtual 1332, 3) := zdec_at bX8_callWays_289 0 rfl
theorem dX8_callWays_292 : decode cX8_callWays 292 = .ok (.iinc 13 1, 3) := zdec_at bX8_callWays_289 1 rfl
theorem dX8_callWays_295 : decode cX8_callWays 295 = .ok (.goto (-29), 3) := zdec_at bX8_callWays_289 2 rfl
theorem dX8_callWays_298 : decode cX8_callWays 298 = .ok (.return_, 1) := zdec_at bX8_callWays_289 3 rfl
theorem sX8_callWays_0 {E : zE} {d : Nat} {Q : zO → zM → Prop} (M : zM) (l1 : Int32) (l2 : Int32) (l3 : Int32) (l4 : Int32) (l5 : Int32) (k : if l1 = (-1 : Int32) then (Zm E YX8_error_2 d M (zargs 0 [vr (some (97, 1, 0)), vi (gi M 97 148), vi (6 : Int32)]) 0 [] (zma E YX8_callWays (d + 1) [] 12 3 [] Q)) else (Zm E YX8_load d M (zargs 0 [vr (some (97, 1, 0)), vi (gi M 97 148)]) 0 [] (zma E YX8_callWays (d + 1) [(0, vr (some (97, 1, 0))), (1, vi l1), (2, vi l2), (3, vi l3), (4, vi l4), (5, vi l5)] 21 3 [] Q))) : Zm E YX8_callWays (d + 1) M [(0, vr (some (97, 1, 0))), (1, vi l1), (2, vi l2), (3, vi l3), (4, vi l4), (5, vi l5)] 0 [] Q := by
  refine Zm.l (fun _ _ k_ => z_iload_n dX8_callWays_0 rfl rfl k_) ?_
  refine Zm.l (fun _ _ k_ => z_iconst (v := -1) dX8_callWays_1 rfl k_) ?_
  refine Zm.brn (fun _ _ k1_ k2_ => z_icmp_ne (tgt := 16) dX8_callWays_2 rfl k1_ k2_) (fun h_ => ?_) (fun h_ => ?_)
  · have k := zif h_ k
    refine Zm.l (fun _ _ k_ => z_aload_n dX8_callWays_16 rfl rfl k_) ?_
    refine Zm.l (fun _ _ k_ => z_aload_n dX8_callWays_17 rfl rfl k_) ?_
    refine zm_geti dX8_callWays_18 fsX8_1188_1 (by decide) (by decide) ?_
    exact zm_callV (as := [vi (gi M 97 148)]) (st := []) dX8_callWays_21 vsX8_1211_1 (Nat.le_refl _) (Nat.le_of_ble_eq_true rfl) (Nat.le_of_ble_eq_true rfl) rfl k
  · have k := zit h_ k
    refine Zm.l (fun _ _ k_ => z_aload_n dX8_callWays_5 rfl rfl k_) ?_
    refine Zm.l (fun _ _ k_ => z_aload_n dX8_callWays_6 rfl rfl k_) ?_
    refine zm_geti dX8_callWays_7 fsX8_1188_1 (by decide) (by decide) ?_
    refine Zm.l (fun _ _ k_ => z_bipush (v := 6) dX8_callWays_10 rfl k_) ?_
    refine Zm.pick [] rfl ?_
    exact zm_callV (as := [vi (gi M 97 148), vi (6 : Int32)]) (st := []) dX8_callWays_12 vsX8_1292_1 (Nat.le_refl _) (Nat.le_of_ble_eq_true rfl) (Nat.le_of_ble_eq_true rfl) rfl k
theorem sX8_callWays_15 {E : zE} {d : Nat} {Q : zO → zM → Prop} (M : zM)  (k : Q (.inl none) M) : Zm E YX8_callWays (d + 1) M [] 15 [] Q := by
  exact zm_vret dX8_callWays_15 rfl k
theorem sX8_callWays_24 {E : zE} {d : Nat} {Q : zO → zM → Prop} (M : zM) (l1 : Int32) (l2 : Int32) (l3 : Int32) (l4 : Int32) (l5 : Int32) (k : Zm E YX8_onStack d M (zargs 0 [vr (some (97, 1, 0)), vi (639 : Int32), vi l1]) 0 [] (zma E YX8_callWays (d + 1) [(0, vr (some (97, 1, 0))), (2, vi l2), (3, vi l3), (4, vi l4), (5, vi l5)] 29 3 [] Q)) : Zm E YX8_callWays (d + 1) M [(0, vr (some (97, 1, 0))), (1, vi l1), (2, vi l2), (3, vi l3), (4, vi l4), (5, vi l5)] 24 [] Q := by
  refine Zm.l (fun _ _ k_ => z_aload_n dX8_callWays_24 rfl rfl k_) ?_
  refine Zm.l (fun _ _ k_ => z_sipush (v := 639) dX8_callWays_25 rfl k_) ?_
  refine Zm.l (fun _ _ k_ => z_iload_n dX8_callWays_28 rfl rfl k_) ?_
  refine Zm.pick [0, 2, 3, 4, 5] rfl ?_
  exact zm_callV (as := [vi (639 : Int32), vi l1]) (st := []) dX8_callWays_29 vsX8_1323_1 (Nat.le_refl _) (Nat.le_of_ble_eq_true rfl) (Nat.le_of_ble_eq_true rfl) rfl k
theorem sX8_callWays_32 {E : zE} {d : Nat} {Q : zO → zM → Prop} (M : zM) (l2 : Int32) (l3 : Int32) (l4 : Int32) (l5 : Int32) (s0 : Int32) (k : vp_in s0 647800 ∧ (vp_in s0 647800 ∧ (Zm E YX8_plainly d M (zargs 0 [vr (some (97, 1, 0)), vi s0]) 0 [] (zma E YX8_callWays (d + 1) [(0, vr (some (97, 1, 0))), (2, vi l2), (3, vi l3), (4, vi l4), (5, vi l5), (7, vl (gl M 166 (s0).toNatClampNeg)), (9, vl (gl M 167 (s0).toNatClampNeg))] 55 3 [] Q)))) : Zm E YX8_callWays (d + 1) M [(0, vr (some (97, 1, 0))), (2, vi l2), (3, vi l3), (4, vi l4), (5, vi l5)] 32 [vi s0] Q := by
  refine Zm.l (fun _ _ k_ => z_ist dX8_callWays_32 (by decide) (lv' := [(0, vr (some (97, 1, 0))), (2, vi l2), (3, vi l3), (4, vi l4), (5, vi l5), (6, vi s0)]) rfl k_) ?_
  refine Zm.l (fun _ _ k_ => z_aload_n dX8_callWays_34 rfl rfl k_) ?_
  refine zm_getr 63 dX8_callWays_35 fsX8_220_1 rfl ?_
  refine Zm.l (fun _ _ k_ => z_iload dX8_callWays_38 rfl k_) ?_
  obtain ⟨b_, k⟩ := k
  refine zm_lald dX8_callWays_40 b_ (by decide) (by decide) ?_
  refine Zm.l (fun _ _ k_ => z_lst dX8_callWays_41 (by decide) (lv' := [(0, vr (some (97, 1, 0))), (2, vi l2), (3, vi l3), (4, vi l4), (5, vi l5), (6, vi s0), (7, vl (gl M 166 (s0).toNatClampNeg))]) rfl k_) ?_
  refine Zm.l (fun _ _ k_ => z_aload_n dX8_callWays_43 rfl rfl k_) ?_
  refine zm_getr 64 dX8_callWays_44 fsX8_223_1 rfl ?_
  refine Zm.l (fun _ _ k_ => z_iload dX8_callWays_47 rfl k_) ?_
  obtain ⟨b_, k⟩ := k
  refine zm_lald dX8_callWays_49 b_ (by decide) (by decide) ?_
  refine Zm.l (fun _ _ k_ => z_lst dX8_callWays_50 (by decide) (lv' := [(0, vr (some (97, 1, 0))), (2, vi l2), (3, vi l3), (4, vi l4), (5, vi l5), (6, vi s0), (7, vl (gl M 166 (s0).toNatClampNeg)), (9, vl (gl M 167 (s0).toNatClampNeg))]) rfl k_) ?_
  refine Zm.l (fun _ _ k_ => z_aload_n dX8_callWays_52 rfl rfl k_) ?_
  refine Zm.l (fun _ _ k_ => z_iload dX8_callWays_53 rfl k_) ?_
  refine Zm.pick [0, 1, 2, 3, 4, 6, 7] rfl ?_
  exact zm_callV (as := [vi s0]) (st := []) dX8_callWays_55 vsX8_1059_1 (Nat.le_refl _) (Nat.le_of_ble_eq_true rfl) (Nat.le_of_ble_eq_true rfl) rfl k
theorem sX8_callWays_58 {E : zE} {d : Nat} {Q : zO → zM → Prop} (M : zM) (l2 : Int32) (l3 : Int32) (l4 : Int32) (l5 : Int32) (l7 : Int64) (l9 : Int64) (s0 : Int32) (k : if s0 = 0 then (Zm E YX8_callWays (d + 1) M [(0, vr (some (97, 1, 0))), (2, vi l2), (3, vi l3), (4, vi l4), (5, vi l5), (7, vl l7), (9, vl l9), (11, vi (0 : Int32)), (12, vi (0 : Int32)), (13, vi (0 : Int32))] 74 [] Q) else (Zm E YX8_callWays (d + 1) M [(0, vr (some (97, 1, 0))), (2, vi l2), (3, vi l3), (4, vi l4), (5, vi l5), (7, vl l7), (9, vl l9), (11, vi (1 : Int32)), (12, vi (0 : Int32)), (13, vi (0 : Int32))] 74 [] Q)) : Zm E YX8_callWays (d + 1) M [(0, vr (some (97, 1, 0))), (2, vi l2), (3, vi l3), (4, vi l4), (5, vi l5), (7, vl l7), (9, vl l9)] 58 [vi s0] Q := by
  refine Zm.br (fun _ _ k1_ k2_ => z_if_eq (tgt := 65) dX8_callWays_58 rfl k1_ k2_) (fun h_ => ?_) (fun h_ => ?_)
  · have k := zit h_ k
    refine Zm.l (fun _ _ k_ => z_iconst (v := 0) dX8_callWays_65 rfl k_) ?_
    refine Zm.l (fun _ _ k_ => z_ist dX8_callWays_66 (by decide) (lv' := [(0, vr (some (97, 1, 0))), (2, vi l2), (3, vi l3), (4, vi l4), (5, vi l5), (7, vl l7), (9, vl l9), (11, vi (0 : Int32))]) rfl k_) ?_
    refine Zm.l (fun _ _ k_ => z_iconst (v := 0) dX8_callWays_68 rfl k_) ?_
    refine Zm.l (fun _ _ k_ => z_ist dX8_callWays_69 (by decide) (lv' := [(0, vr (some (97, 1, 0))), (2, vi l2), (3, vi l3), (4, vi l4), (5, vi l5), (7, vl l7), (9, vl l9), (11, vi (0 : Int32)), (12, vi (0 : Int32))]) rfl k_) ?_
    refine Zm.l (fun _ _ k_ => z_iconst (v := 0) dX8_callWays_71 rfl k_) ?_
    refine Zm.l (fun _ _ k_ => z_ist dX8_callWays_72 (by decide) (lv' := [(0, vr (some (97, 1, 0))), (2, vi l2), (3, vi l3), (4, vi l4), (5, vi l5), (7, vl l7), (9, vl l9), (11, vi (0 : Int32)), (12, vi (0 : Int32)), (13, vi (0 : Int32))]) rfl k_) ?_
    exact k
  · have k := zif h_ k
    refine Zm.l (fun _ _ k_ => z_iconst (v := 1) dX8_callWays_61 rfl k_) ?_
    refine Zm.l (fun _ _ k_ => z_goto (tgt := 66) dX8_callWays_62 rfl k_) ?_
    refine Zm.l (fun _ _ k_ => z_ist dX8_callWays_66 (by decide) (lv' := [(0, vr (some (97, 1, 0))), (2, vi l2), (3, vi l3), (4, vi l4), (5, vi l5), (7, vl l7), (9, vl l9), (11, vi (1 : Int32))]) rfl k_) ?_
    refine Zm.l (fun _ _ k_ => z_iconst (v := 0) dX8_callWays_68 rfl k_) ?_
    refine Zm.l (fun _ _ k_ => z_ist dX8_callWays_69 (by decide) (lv' := [(0, vr (some (97, 1, 0))), (2, vi l2), (3, vi l3), (4, vi l4), (5, vi l5), (7, vl l7), (9, vl l9), (11, vi (1 : Int32)), (12, vi (0 : Int32))]) rfl k_) ?_
    refine Zm.l (fun _ _ k_ => z_iconst (v := 0) dX8_callWays_71 rfl k_) ?_
    refine Zm.l (fun _ _ k_ => z_ist dX8_callWays_72 (by decide) (lv' := [(0, vr (some (97, 1, 0))), (2, vi l2), (3, vi l3), (4, vi l4), (5, vi l5), (7, vl l7), (9, vl l9), (11, vi (1 : Int32)), (12, vi (0 : Int32)), (13, vi (0 : Int32))]) rfl k_) ?_
    exact k
theorem sX8_callWays_74 {E : zE} {d : Nat} {Q : zO → zM → Prop} (M : zM) (l2 : Int32) (l3 : Int32) (l4 : Int32) (l5 : Int32) (l7 : Int64) (l9 : Int64) (l11 : Int32) (l12 : Int32) (l13 : Int32) (k : if (gi M 97 71) ≤ l13 then (if l11 = 0 then (Zm E YX8_callWays (d + 1) M [(0, vr (some (97, 1, 0))), (2, vi l2), (3, vi l3), (4, vi l4), (5, vi l5), (7, vl l7), (9, vl l9), (12, vi l12)] 161 [] Q) else (Zm E YX8_error_2 d M (zargs 0 [vr (some (97, 1, 0)), vi (gi M 97 148), vi (6 : Int32)]) 0 [] (zma E YX8_callWays (d + 1) [(0, vr (some (97, 1, 0))), (2, vi l2), (3, vi l3), (4, vi l4), (5, vi l5), (7, vl l7), (9, vl l9), (12, vi l12)] 158 3 [] Q))) else (Zm E YX8_isIn d M (zargs 0 [vl l7, vl l9, vi l13]) 0 [] (zma E YX8_callWays (d + 1) [(0, vr (some (97, 1, 0))), (2, vi l2), (3, vi l3), (4, vi l4), (5, vi l5), (7, vl l7), (9, vl l9), (11, vi l11), (12, vi l12), (13, vi l13)] 89 3 [] Q))) : Zm E YX8_callWays (d + 1) M [(0, vr (some (97, 1, 0))), (2, vi l2), (3, vi l3), (4, vi l4), (5, vi l5), (7, vl l7), (9, vl l9), (11, vi l11), (12, vi l12), (13, vi l13)] 74 [] Q := by
  refine Zm.l (fun _ _ k_ => z_iload dX8_callWays_74 rfl k_) ?_
  refine Zm.l (fun _ _ k_ => z_aload_n dX8_callWays_76 rfl rfl k_) ?_
  refine zm_geti dX8_callWays_77 fsX8_765_1 (by decide) (by decide) ?_
  refine Zm.br (fun _ _ k1_ k2_ => z_icmp_ge (tgt := 146) dX8_callWays_80 rfl k1_ k2_) (fun h_ => ?_) (fun h_ => ?_)
  · have k := zit h_ k
    refine Zm.l (fun _ _ k_ => z_iload dX8_callWays_146 rfl k_) ?_
    refine Zm.br (fun _ _ k1_ k2_ => z_if_eq (tgt := 161) dX8_callWays_148 rfl k1_ k2_) (fun h_ => ?_) (fun h_ => ?_)
    · have k := zit h_ k
      refine Zm.pick [0, 1, 2, 3, 4, 5, 6, 8] rfl ?_
      exact k
    · have k := zif h_ k
      refine Zm.l (fun _ _ k_ => z_aload_n dX8_callWays_151 rfl rfl k_) ?_
      refine Zm.l (fun _ _ k_ => z_aload_n dX8_callWays_152 rfl rfl k_) ?_
      refine zm_geti dX8_callWays_153 fsX8_1188_1 (by decide) (by decide) ?_
      refine Zm.l (fun _ _ k_ => z_bipush (v := 6) dX8_callWays_156 rfl k_) ?_
      refine Zm.pick [0, 1, 2, 3, 4, 5, 6, 8] rfl ?_
      exact zm_callV (as := [vi (gi M 97 148), vi (6 : Int32)]) (st := []) dX8_callWays_158 vsX8_1292_1 (Nat.le_refl _) (Nat.le_of_ble_eq_true rfl) (Nat.le_of_ble_eq_true rfl) rfl k
  · have k := zif h_ k
    refine Zm.l (fun _ _ k_ => z_lload dX8_callWays_83 rfl k_) ?_
    refine Zm.l (fun _ _ k_ => z_lload dX8_callWays_85 rfl k_) ?_
    refine Zm.l (fun _ _ k_ => z_iload dX8_callWays_87 rfl k_) ?_
    exact zm_callS (as := [vl l7, vl l9, vi l13]) (st := []) dX8_callWays_89 ssX8_1125 (Nat.le_refl _) (Nat.le_of_ble_eq_true rfl) (Nat.le_of_ble_eq_true rfl) rfl k
theorem sX8_callWays_92 {E : zE} {d : Nat} {Q : zO → zM → Prop} (M : zM) (l2 : Int32) (l3 : Int32) (l4 : Int32) (l5 : Int32) (l7 : Int64) (l9 : Int64) (l11 : Int32) (l12 : Int32) (l13 : Int32) (s0 : Int32) (k : if s0 = 0 then (Zm E YX8_callWays (d + 1) M [(0, vr (some (97, 1, 0))), (2, vi l2), (3, vi l3), (4, vi l4), (5, vi l5), (7, vl l7), (9, vl l9), (11, vi l11), (12, vi l12), (13, vi (l13 + (1 : Int32)))] 74 [] Q) else (if l11 = 0 then (Zm E YX8_isFunctionLabel d M (zargs 0 [vr (some (97, 1, 0)), vi l13]) 0 [] (zma E YX8_callWays (d + 1) [(0, vr (some (97, 1, 0))), (2, vi l2), (3, vi l3), (4, vi l4), (5, vi l5), (7, vl l7), (9, vl l9), (12, vi l12), (13, vi l13)] 106 3 [] Q)) else (Zm E YX8_callWays (d + 1) M [(0, vr (some (97, 1, 0))), (2, vi l2), (3, vi l3), (4, vi l4), (5, vi l5), (7, vl l7), (9, vl l9), (12, vi l12), (13, vi l13)] 117 [vi (1 : Int32)] Q))) : Zm E YX8_callWays (d + 1) M [(0, vr (some (97, 1, 0))), (2, vi l2), (3, vi l3), (4, vi l4), (5, vi l5), (7, vl l7), (9, vl l9), (11, vi l11), (12, vi l12), (13, vi l13)] 92 [vi s0] Q := by
  refine Zm.brn (fun _ _ k1_ k2_ => z_if_ne (tgt := 98) dX8_callWays_92 rfl k1_ k2_) (fun h_ => ?_) (fun h_ => ?_)
  · have k := zif h_ k
    refine Zm.l (fun _ _ k_ => z_iload dX8_callWays_98 rfl k_) ?_
    refine Zm.brn (fun _ _ k1_ k2_ => z_if_ne (tgt := 112) dX8_callWays_100 rfl k1_ k2_) (fun h_ => ?_) (fun h_ => ?_)
    · have k := zif h_ k
      refine Zm.l (fun _ _ k_ => z_iconst (v := 1) dX8_callWays_112 rfl k_) ?_
      refine Zm.l (fun _ _ k_ => z_goto (tgt := 117) dX8_callWays_113 rfl k_) ?_
      refine Zm.pick [0, 1, 2, 3, 4, 5, 6, 8, 9] rfl ?_
      exact k
    · have k := zit h_ k
      refine Zm.l (fun _ _ k_ => z_aload_n dX8_callWays_103 rfl rfl k_) ?_
      refine Zm.l (fun _ _ k_ => z_iload dX8_callWays_104 rfl k_) ?_
      refine Zm.pick [0, 1, 2, 3, 4, 5, 6, 8, 9] rfl ?_
      exact zm_callV (as := [vi l13]) (st := []) dX8_callWays_106 vsX8_1115_1 (Nat.le_refl _) (Nat.le_of_ble_eq_true rfl) (Nat.le_of_ble_eq_true rfl) rfl k
  · have k := zit h_ k
    refine Zm.l (fun _ _ k_ => z_goto (tgt := 140) dX8_callWays_95 rfl k_) ?_
    refine Zm.l (fun _ _ k_ => z_inc (v := (l13 + (1 : Int32))) dX8_callWays_140 rfl rfl (by decide) (lv' := [(0, vr (some (97, 1, 0))), (2, vi l2), (3, vi l3), (4, vi l4), (5, vi l5), (7, vl l7), (9, vl l9), (11, vi l11), (12, vi l12), (13, vi (l13 + (1 : Int32)))]) rfl k_) ?_
    refine Zm.l (fun _ _ k_ => z_goto (tgt := 74) dX8_callWays_143 rfl k_) ?_
    exact k
theorem sX8_callWays_109 {E : zE} {d : Nat} {Q : zO → zM → Prop} (M : zM) (l2 : Int32) (l3 : Int32) (l4 : Int32) (l5 : Int32) (l7 : Int64) (l9 : Int64) (l12 : Int32) (l13 : Int32) (s0 : Int32) (k : if s0 = 0 then (Zm E YX8_callWays (d + 1) M [(0, vr (some (97, 1, 0))), (2, vi l2), (3, vi l3), (4, vi l4), (5, vi l5), (7, vl l7), (9, vl l9), (12, vi l12), (13, vi l13)] 117 [vi (1 : Int32)] Q) else (Zm E YX8_callWays (d + 1) M [(0, vr (some (97, 1, 0))), (2, vi l2), (3, vi l3), (4, vi l4), (5, vi l5), (7, vl l7), (9, vl l9), (12, vi l12), (13, vi l13)] 117 [vi (0 : Int32)] Q)) : Zm E YX8_callWays (d + 1) M [(0, vr (some (97, 1, 0))), (2, vi l2), (3, vi l3), (4, vi l4), (5, vi l5), (7, vl l7), (9, vl l9), (12, vi l12), (13, vi l13)] 109 [vi s0] Q := by
  refine Zm.brn (fun _ _ k1_ k2_ => z_if_ne (tgt := 116) dX8_callWays_109 rfl k1_ k2_) (fun h_ => ?_) (fun h_ => ?_)
  · have k := zif h_ k
    refine Zm.l (fun _ _ k_ => z_iconst (v := 0) dX8_callWays_116 rfl k_) ?_
    exact k
  · have k := zit h_ k
    refine Zm.l (fun _ _ k_ => z_iconst (v := 1) dX8_callWays_112 rfl k_) ?_
    refine Zm.l (fun _ _ k_ => z_goto (tgt := 117) dX8_callWays_113 rfl k_) ?_
    exact k
theorem sX8_callWays_117 {E : zE} {d : Nat} {Q : zO → zM → Prop} (M : zM) (l2 : Int32) (l3 : Int32) (l4 : Int32) (l5 : Int32) (l7 : Int64) (l9 : Int64) (l12 : Int32) (l13 : Int32) (s0 : Int32) (k : if l12 = 0 then (Zm E YX8_codeOfLabel d M (zargs 0 [vr (some (97, 1, 0)), vi l13]) 0 [] (zma E YX8_callWays (d + 1) [(0, vr (some (97, 1, 0))), (2, vi l2), (3, vi l3), (4, vi l4), (5, vi l5), (7, vl l7), (9, vl l9), (11, vi s0), (13, vi l13)] 127 3 [] Q)) else (Zm E YX8_callWays (d + 1) M [(0, vr (some (97, 1, 0))), (2, vi l2), (3, vi l3), (4, vi l4), (5, vi l5), (7, vl l7), (9, vl l9), (11, vi s0), (12, vi (1 : Int32)), (13, vi (l13 + (1 : Int32)))] 74 [] Q)) : Zm E YX8_callWays (d + 1) M [(0, vr (some (97, 1, 0))), (2, vi l2), (3, vi l3), (4, vi l4), (5, vi l5), (7, vl l7), (9, vl l9), (12, vi l12), (13, vi l13)] 117 [vi s0] Q := by
  refine Zm.l (fun _ _ k_ => z_ist dX8_callWays_117 (by decide) (lv' := [(0, vr (some (97, 1, 0))), (2, vi l2), (3, vi l3), (4, vi l4), (5, vi l5), (7, vl l7), (9, vl l9), (11, vi s0), (12, vi l12), (13, vi l13)]) rfl k_) ?_
  refine Zm.l (fun _ _ k_ => z_iload dX8_callWays_119 rfl k_) ?_
  refine Zm.brn (fun _ _ k1_ k2_ => z_if_ne (tgt := 133) dX8_callWays_121 rfl k1_ k2_) (fun h_ => ?_) (fun h_ => ?_)
  · have k := zif h_ k
    refine Zm.l (fun _ _ k_ => z_iconst (v := 1) dX8_callWays_133 rfl k_) ?_
    refine Zm.l (fun _ _ k_ => z_goto (tgt := 138) dX8_callWays_134 rfl k_) ?_
    refine Zm.l (fun _ _ k_ => z_ist dX8_callWays_138 (by decide) (lv' := [(0, vr (some (97, 1, 0))), (2, vi l2), (3, vi l3), (4, vi l4), (5, vi l5), (7, vl l7), (9, vl l9), (11, vi s0), (12, vi (1 : Int32)), (13, vi l13)]) rfl k_) ?_
    refine Zm.l (fun _ _ k_ => z_inc (v := (l13 + (1 : Int32))) dX8_callWays_140 rfl rfl (by decide) (lv' := [(0, vr (some (97, 1, 0))), (2, vi l2), (3, vi l3), (4, vi l4), (5, vi l5), (7, vl l7), (9, vl l9), (11, vi s0), (12, vi (1 : Int32)), (13, vi (l13 + (1 : Int32)))]) rfl k_) ?_
    refine Zm.l (fun _ _ k_ => z_goto (tgt := 74) dX8_callWays_143 rfl k_) ?_
    exact k
  · have k := zit h_ k
    refine Zm.l (fun _ _ k_ => z_aload_n dX8_callWays_124 rfl rfl k_) ?_
    refine Zm.l (fun _ _ k_ => z_iload dX8_callWays_125 rfl k_) ?_
    refine Zm.pick [0, 1, 2, 3, 4, 5, 6, 7, 9] rfl ?_
    exact zm_callV (as := [vi l13]) (st := []) dX8_callWays_127 vsX8_1326_1 (Nat.le_refl _) (Nat.le_of_ble_eq_true rfl) (Nat.le_of_ble_eq_true rfl) rfl k
theorem sX8_callWays_130 {E : zE} {d : Nat} {Q : zO → zM → Prop} (M : zM) (l2 : Int32) (l3 : Int32) (l4 : Int32) (l5 : Int32) (l7 : Int64) (l9 : Int64) (l11 : Int32) (l13 : Int32) (s0 : Int32) (k : if s0 ≤ 0 then (Zm E YX8_callWays (d + 1) M [(0, vr (some (97, 1, 0))), (2, vi l2), (3, vi l3), (4, vi l4), (5, vi l5), (7, vl l7), (9, vl l9), (11, vi l11), (12, vi (0 : Int32)), (13, vi (l13 + (1 : Int32)))] 74 [] Q) else (Zm E YX8_callWays (d + 1) M [(0, vr (some (97, 1, 0))), (2, vi l2), (3, vi l3), (4, vi l4), (5, vi l5), (7, vl l7), (9, vl l9), (11, vi l11), (12, vi (1 : Int32)), (13, vi (l13 + (1 : Int32)))] 74 [] Q)) : Zm E YX8_callWays (d + 1) M [(0, vr (some (97, 1, 0))), (2, vi l2), (3, vi l3), (4, vi l4), (5, vi l5), (7, vl l7), (9, vl l9), (11, vi l11), (13, vi l13)] 130 [vi s0] Q := by
  refine Zm.br (fun _ _ k1_ k2_ => z_if_le (tgt := 137) dX8_callWays_130 rfl k1_ k2_) (fun h_ => ?_) (fun h_ => ?_)
  · have k := zit h_ k
    refine Zm.l (fun _ _ k_ => z_iconst (v := 0) dX8_callWays_137 rfl k_) ?_
    refine Zm.l (fun _ _ k_ => z_ist dX8_callWays_138 (by decide) (lv' := [(0, vr (some (97, 1, 0))), (2, vi l2), (3, vi l3), (4, vi l4), (5, vi l5), (7, vl l7), (9, vl l9), (11, vi l11), (12, vi (0 : Int32)), (13, vi l13)]) rfl k_) ?_
    refine Zm.l (fun _ _ k_ => z_inc (v := (l13 + (1 : Int32))) dX8_callWays_140 rfl rfl (by decide) (lv' := [(0, vr (some (97, 1, 0))), (2, vi l2), (3, vi l3), (4, vi l4), (5, vi l5), (7, vl l7), (9, vl l9), (11, vi l11), (12, vi (0 : Int32)), (13, vi (l13 + (1 : Int32)))]) rfl k_) ?_
    refine Zm.l (fun _ _ k_ => z_goto (tgt := 74) dX8_callWays_143 rfl k_) ?_
    exact k
  · have k := zif h_ k
    refine Zm.l (fun _ _ k_ => z_iconst (v := 1) dX8_callWays_133 rfl k_) ?_
    refine Zm.l (fun _ _ k_ => z_goto (tgt := 138) dX8_callWays_134 rfl k_) ?_
    refine Zm.l (fun _ _ k_ => z_ist dX8_callWays_138 (by decide) (lv' := [(0, vr (some (97, 1, 0))), (2, vi l2), (3, vi l3), (4, vi l4), (5, vi l5), (7, vl l7), (9, vl l9), (11, vi l11), (12, vi (1 : Int32)), (13, vi l13)]) rfl k_) ?_
    refine Zm.l (fun _ _ k_ => z_inc (v := (l13 + (1 : Int32))) dX8_callWays_140 rfl rfl (by decide) (lv' := [(0, vr (some (97, 1, 0))), (2, vi l2), (3, vi l3), (4, vi l4), (5, vi l5), (7, vl l7), (9, vl l9), (11, vi l11), (12, vi (1 : Int32)), (13, vi (l13 + (1 : Int32)))]) rfl k_) ?_
    refine Zm.l (fun _ _ k_ => z_goto (tgt := 74) dX8_callWays_143 rfl k_) ?_
    exact k
theorem sX8_callWays_161 {E : zE} {d : Nat} {Q : zO → zM → Prop} (M : zM) (l2 : Int32) (l3 : Int32) (l4 : Int32) (l5 : Int32) (l7 : Int64) (l9 : Int64) (l12 : Int32) (k : if l12 = 0 then (Zm E YX8_callWays (d + 1) M [(0, vr (some (97, 1, 0))), (2, vi l2), (3, vi l3), (4, vi l4), (5, vi l5), (7, vl l7), (9, vl l9)] 176 [] Q) else (Zm E YX8_error_2 d M (zargs 0 [vr (some (97, 1, 0)), vi (gi M 97 148), vi (8 : Int32)]) 0 [] (zma E YX8_callWays (d + 1) [(0, vr (some (97, 1, 0))), (2, vi l2), (3, vi l3), (4, vi l4), (5, vi l5), (7, vl l7), (9, vl l9)] 173 3 [] Q))) : Zm E YX8_callWays (d + 1) M [(0, vr (some (97, 1, 0))), (2, vi l2), (3, vi l3), (4, vi l4), (5, vi l5), (7, vl l7), (9, vl l9), (12, vi l12)] 161 [] Q := by
  refine Zm.l (fun _ _ k_ => z_iload dX8_callWays_161 rfl k_) ?_
  refine Zm.br (fun _ _ k1_ k2_ => z_if_eq (tgt := 176) dX8_callWays_163 rfl k1_ k2_) (fun h_ => ?_) (fun h_ => ?_)
  · have k := zit h_ k
    refine Zm.pick [0, 1, 2, 3, 4, 5, 6] rfl ?_
    exact k
  · have k := zif h_ k
    refine Zm.l (fun _ _ k_ => z_aload_n dX8_callWays_166 rfl rfl k_) ?_
    refine Zm.l (fun _ _ k_ => z_aload_n dX8_callWays_167 rfl rfl k_) ?_
    refine zm_geti dX8_callWays_168 fsX8_1188_1 (by decide) (by decide) ?_
    refine Zm.l (fun _ _ k_ => z_bipush (v := 8) dX8_callWays_171 rfl k_) ?_
    refine Zm.pick [0, 1, 2, 3, 4, 5, 6] rfl ?_
    exact zm_callV (as := [vi (gi M 97 148), vi (8 : Int32)]) (st := []) dX8_callWays_173 vsX8_1292_1 (Nat.le_refl _) (Nat.le_of_ble_eq_true rfl) (Nat.le_of_ble_eq_true rfl) rfl k
theorem sX8_callWays_176 {E : zE} {d : Nat} {Q : zO → zM → Prop} (M : zM) (l2 : Int32) (l3 : Int32) (l4 : Int32) (l5 : Int32) (l7 : Int64) (l9 : Int64) (k : Zm E YX8_callWays (d + 1) M [(0, vr (some (97, 1, 0))), (2, vi l2), (3, vi l3), (4, vi l4), (5, vi l5), (7, vl l7), (9, vl l9), (13, vi (9 : Int32))] 180 [] Q) : Zm E YX8_callWays (d + 1) M [(0, vr (some (97, 1, 0))), (2, vi l2), (3, vi l3), (4, vi l4), (5, vi l5), (7, vl l7), (9, vl l9)] 176 [] Q := by
  refine Zm.l (fun _ _ k_ => z_bipush (v := 9) dX8_callWays_176 rfl k_) ?_
  refine Zm.l (fun _ _ k_ => z_ist dX8_callWays_178 (by decide) (lv' := [(0, vr (some (97, 1, 0))), (2, vi l2), (3, vi l3), (4, vi l4), (5, vi l5), (7, vl l7), (9, vl l9), (13, vi (9 : Int32))]) rfl k_) ?_
  exact k
theorem sX8_callWays_180 {E : zE} {d : Nat} {Q : zO → zM → Prop} (M : zM) (l2 : Int32) (l3 : Int32) (l4 : Int32) (l5 : Int32) (l7 : Int64) (l9 : Int64) (l13 : Int32) (k : if (23 : Int32) ≤ l13 then (Zm E YX8_callWays (d + 1) M [(0, vr (some (97, 1, 0))), (2, vi l2), (3, vi l3), (4, vi l4), (5, vi l5), (7, vl l7), (9, vl l9), (13, vi (1 : Int32))] 266 [] Q) else (Zm E YX8_isIn d M (zargs 0 [vl l7, vl l9, vi l13]) 0 [] (zma E YX8_callWays (d + 1) [(0, vr (some (97, 1, 0))), (2, vi l2), (3, vi l3), (4, vi l4), (5, vi l5), (7, vl l7), (9, vl l9), (13, vi l13)] 193 3 [] Q))) : Zm E YX8_callWays (d + 1) M [(0, vr (some (97, 1, 0))), (2, vi l2), (3, vi l3), (4, vi l4), (5, vi l5), (7, vl l7), (9, vl l9), (13, vi l13)] 180 [] Q := by
  refine Zm.l (fun _ _ k_ => z_iload dX8_callWays_180 rfl k_) ?_
  refine Zm.l (fun _ _ k_ => z_bipush (v := 23) dX8_callWays_182 rfl k_) ?_
  refine Zm.br (fun _ _ k1_ k2_ => z_icmp_ge (tgt := 263) dX8_callWays_184 rfl k1_ k2_) (fun h_ => ?_) (fun h_ => ?_)
  · have k := zit h_ k
    refine Zm.l (fun _ _ k_ => z_iconst (v := 1) dX8_callWays_263 rfl k_) ?_
    refine Zm.l (fun _ _ k_ => z_ist dX8_callWays_264 (by decide) (lv' := [(0, vr (some (97, 1, 0))), (2, vi l2), (3, vi l3), (4, vi l4), (5, vi l5), (7, vl l7), (9, vl l9), (13, vi (1 : Int32))]) rfl k_) ?_
    exact k
  · have k := zif h_ k
    refine Zm.l (fun _ _ k_ => z_lload dX8_callWays_187 rfl k_) ?_
    refine Zm.l (fun _ _ k_ => z_lload dX8_callWays_189 rfl k_) ?_
    refine Zm.l (fun _ _ k_ => z_iload dX8_callWays_191 rfl k_) ?_
    exact zm_callS (as := [vl l7, vl l9, vi l13]) (st := []) dX8_callWays_193 ssX8_1125 (Nat.le_refl _) (Nat.le_of_ble_eq_true rfl) (Nat.le_of_ble_eq_true rfl) rfl k
theorem sX8_callWays_196 {E : zE} {d : Nat} {Q : zO → zM → Prop} (M : zM) (l2 : Int32) (l3 : Int32) (l4 : Int32) (l5 : Int32) (l7 : Int64) (l9 : Int64) (l13 : Int32) (s0 : Int32) (k : if s0 = 0 then (Zm E YX8_callWays (d + 1) M [(0, vr (some (97, 1, 0))), (2, vi l2), (3, vi l3), (4, vi l4), (5, vi l5), (7, vl l7), (9, vl l9), (13, vi l13)] 257 [] Q) else (if l13 = (20 : Int32) then (if l4 ≤ 0 then (Zm E YX8_callWays (d + 1) M [(0, vr (some (97, 1, 0))), (2, vi l2), (3, vi l3), (4, vi l4), (5, vi l5), (7, vl l7), (9, vl l9), (13, vi l13)] 221 [vi (-1 : Int32), vi l2, vr (some (97, 1, 0))] Q) else (Zm E YX8_callWays (d + 1) M [(0, vr (some (97, 1, 0))), (2, vi l2), (3, vi l3), (4, vi l4), (5, vi l5), (7, vl l7), (9, vl l9), (13, vi l13)] 221 [vi l3, vi l2, vr (some (97, 1, 0))] Q)) else (Zm E YX8_nativeWays d M (zargs 0 [vr (some (97, 1, 0)), vi l13, vi l2, vi l3, vi l4, vi l5]) 0 [] (zma E YX8_callWays (d + 1) [(0, vr (some (97, 1, 0))), (2, vi l2), (3, vi l3), (4, vi l4), (5, vi l5), (7, vl l7), (9, vl l9), (13, vi l13)] 254 3 [] Q)))) : Zm E YX8_callWays (d + 1) M [(0, vr (some (97, 1, 0))), (2, vi l2), (3, vi l3), (4, vi l4), (5, vi l5), (7, vl l7), (9, vl l9), (13, vi l13)] 196 [vi s0] Q := by
  refine Zm.brn (fun _ _ k1_ k2_ => z_if_ne (tgt := 202) dX8_callWays_196 rfl k1_ k2_) (fun h_ => ?_) (fun h_ => ?_)
  · have k := zif h_ k
    refine Zm.l (fun _ _ k_ => z_iload dX8_callWays_202 rfl k_) ?_
    refine Zm.l (fun _ _ k_ => z_bipush (v := 20) dX8_callWays_204 rfl k_) ?_
    refine Zm.brn (fun _ _ k1_ k2_ => z_icmp_ne (tgt := 245) dX8_callWays_206 rfl k1_ k2_) (fun h_ => ?_) (fun h_ => ?_)
    · have k := zif h_ k
      refine Zm.l (fun _ _ k_ => z_aload_n dX8_callWays_245 rfl rfl k_) ?_
      refine Zm.l (fun _ _ k_ => z_iload dX8_callWays_246 rfl k_) ?_
      refine Zm.l (fun _ _ k_ => z_iload_n dX8_callWays_248 rfl rfl k_) ?_
      refine Zm.l (fun _ _ k_ => z_iload_n dX8_callWays_249 rfl rfl k_) ?_
      refine Zm.l (fun _ _ k_ => z_iload dX8_callWays_250 rfl k_) ?_
      refine Zm.l (fun _ _ k_ => z_iload dX8_callWays_252 rfl k_) ?_
      exact zm_callV (as := [vi l13, vi l2, vi l3, vi l4, vi l5]) (st := []) dX8_callWays_254 vsX8_1329_1 (Nat.le_refl _) (Nat.le_of_ble_eq_true rfl) (Nat.le_of_ble_eq_true rfl) rfl k
    · have k := zit h_ k
      refine Zm.l (fun _ _ k_ => z_aload_n dX8_callWays_209 rfl rfl k_) ?_
      refine Zm.l (fun _ _ k_ => z_iload_n dX8_callWays_210 rfl rfl k_) ?_
      refine Zm.l (fun _ _ k_ => z_iload dX8_callWays_211 rfl k_) ?_
      refine Zm.br (fun _ _ k1_ k2_ => z_if_le (tgt := 220) dX8_callWays_213 rfl k1_ k2_) (fun h_ => ?_) (fun h_ => ?_)
      · have k := zit h_ k
        refine Zm.l (fun _ _ k_ => z_iconst (v := -1) dX8_callWays_220 rfl k_) ?_
        exact k
      · have k := zif h_ k
        refine Zm.l (fun _ _ k_ => z_iload_n dX8_callWays_216 rfl rfl k_) ?_
        refine Zm.l (fun _ _ k_ => z_goto (tgt := 221) dX8_callWays_217 rfl k_) ?_
        exact k
  · have k := zit h_ k
    refine Zm.l (fun _ _ k_ => z_goto (tgt := 257) dX8_callWays_199 rfl k_) ?_
    exact k
theorem sX8_callWays_221 {E : zE} {d : Nat} {Q : zO → zM → Prop} (M : zM) (l2 : Int32) (l3 : Int32) (l4 : Int32) (l5 : Int32) (l7 : Int64) (l9 : Int64) (l13 : Int32) (s0 : Int32) (s1 : Int32) (k : if l4 ≤ 0 then (Zm E YX8_callWays d M (zargs 0 [vr (some (97, 1, 0)), vi s1, vi s0, vi (l3 + (1 : Int32)), vi (0 : Int32), vi l5]) 0 [] (zma E YX8_callWays (d + 1) [(0, vr (some (97, 1, 0))), (2, vi l2), (3, vi l3), (4, vi l4), (5, vi l5), (7, vl l7), (9, vl l9), (13, vi l13)] 239 3 [] Q)) else (Zm E YX8_callWays d M (zargs 0 [vr (some (97, 1, 0)), vi s1, vi s0, vi (l3 + (1 : Int32)), vi (l4 - (1 : Int32)), vi l5]) 0 [] (zma E YX8_callWays (d + 1) [(0, vr (some (97, 1, 0))), (2, vi l2), (3, vi l3), (4, vi l4), (5, vi l5), (7, vl l7), (9, vl l9), (13, vi l13)] 239 3 [] Q))) : Zm E YX8_callWays (d + 1) M [(0, vr (some (97, 1, 0))), (2, vi l2), (3, vi l3), (4, vi l4), (5, vi l5), (7, vl l7), (9, vl l9), (13, vi l13)] 221 [vi s0, vi s1, vr (some (97, 1, 0))] Q := by
  refine Zm.l (fun _ _ k_ => z_iload_n dX8_callWays_221 rfl rfl k_) ?_
  refine Zm.l (fun _ _ k_ => z_iconst (v := 1) dX8_callWays_222 rfl k_) ?_
  refine Zm.l (fun _ _ k_ => z_iadd dX8_callWays_223 k_) ?_
  refine Zm.l (fun _ _ k_ => z_iload dX8_callWays_224 rfl k_) ?_
  refine Zm.br (fun _ _ k1_ k2_ => z_if_le (tgt := 236) dX8_callWays_226 rfl k1_ k2_) (fun h_ => ?_) (fun h_ => ?_)
  · have k := zit h_ k
    refine Zm.l (fun _ _ k_ => z_iconst (v := 0) dX8_callWays_236 rfl k_) ?_
    refine Zm.l (fun _ _ k_ => z_iload dX8_callWays_237 rfl k_) ?_
    exact zm_callV (as := [vi s1, vi s0, vi (l3 + (1 : Int32)), vi (0 : Int32), vi l5]) (st := []) dX8_callWays_239 vsX8_1320_1 (Nat.le_refl _) (Nat.le_of_ble_eq_true rfl) (Nat.le_of_ble_eq_true rfl) rfl k
  · have k := zif h_ k
    refine Zm.l (fun _ _ k_ => z_iload dX8_callWays_229 rfl k_) ?_
    refine Zm.l (fun _ _ k_ => z_iconst (v := 1) dX8_callWays_231 rfl k_) ?_
    refine Zm.l (fun _ _ k_ => z_isub dX8_callWays_232 k_) ?_
    refine Zm.l (fun _ _ k_ => z_goto (tgt := 237) dX8_callWays_233 rfl k_) ?_
    refine Zm.l (fun _ _ k_ => z_iload dX8_callWays_237 rfl k_) ?_
    exact zm_callV (as := [vi s1, vi s0, vi (l3 + (1 : Int32)), vi (l4 - (1 : Int32)), vi l5]) (st := []) dX8_callWays_239 vsX8_1320_1 (Nat.le_refl _) (Nat.le_of_ble_eq_true rfl) (Nat.le_of_ble_eq_true rfl) rfl k
theorem sX8_callWays_242 {E : zE} {d : Nat} {Q : zO → zM → Prop} (M : zM) (l2 : Int32) (l3 : Int32) (l4 : Int32) (l5 : Int32) (l7 : Int64) (l9 : Int64) (l13 : Int32) (k : Zm E YX8_callWays (d + 1) M [(0, vr (some (97, 1, 0))), (2, vi l2), (3, vi l3), (4, vi l4), (5, vi l5), (7, vl l7), (9, vl l9), (13, vi l13)] 257 [] Q) : Zm E YX8_callWays (d + 1) M [(0, vr (some (97, 1, 0))), (2, vi l2), (3, vi l3), (4, vi l4), (5, vi l5), (7, vl l7), (9, vl l9), (13, vi l13)] 242 [] Q := by
  refine Zm.l (fun _ _ k_ => z_goto (tgt := 257) dX8_callWays_242 rfl k_) ?_
  exact k
theorem sX8_callWays_257 {E : zE} {d : Nat} {Q : zO → zM → Prop} (M : zM) (l2 : Int32) (l3 : Int32) (l4 : Int32) (l5 : Int32) (l7 : Int64) (l9 : Int64) (l13 : Int32) (k : Zm E YX8_callWays (d + 1) M [(0, vr (some (97, 1, 0))), (2, vi l2), (3, vi l3), (4, vi l4), (5, vi l5), (7, vl l7), (9, vl l9), (13, vi (l13 + (1 : Int32)))] 180 [] Q) : Zm E YX8_callWays (d + 1) M [(0, vr (some (97, 1, 0))), (2, vi l2), (3, vi l3), (4, vi l4), (5, vi l5), (7, vl l7), (9, vl l9), (13, vi l13)] 257 [] Q := by
  refine Zm.l (fun _ _ k_ => z_inc (v := (l13 + (1 : Int32))) dX8_callWays_257 rfl rfl (by decide) (lv' := [(0, vr (some (97, 1, 0))), (2, vi l2), (3, vi l3), (4, vi l4), (5, vi l5), (7, vl l7), (9, vl l9), (13, vi (l13 + (1 : Int32)))]) rfl k_) ?_
  refine Zm.l (fun _ _ k_ => z_goto (tgt := 180) dX8_callWays_260 rfl k_) ?_
  exact k
theorem sX8_callWays_266 {E : zE} {d : Nat} {Q : zO → zM → Prop} (M : zM) (l2 : Int32) (l3 : Int32) (l4 : Int32) (l5 : Int32) (l7 : Int64) (l9 : Int64) (l13 : Int32) (k : if (gi M 97 32) ≤ l13 then (Q (.inl none) M) else (Zm E YX8_codeWays d M (zargs 0 [vr (some (97, 1, 0)), vi l13, vl l7, vl l9, vi l2, vi l3, vi l4, vi l5, vi (-1 : Int32)]) 0 [] (zma E YX8_callWays (d + 1) [(0, vr (some (97, 1, 0))), (2, vi l2), (3, vi l3), (4, vi l4), (5, vi l5), (7, vl l7), (9, vl l9), (13, vi l13)] 289 3 [] Q))) : Zm E YX8_callWays (d + 1) M [(0, vr (some (97, 1, 0))), (2, vi l2), (3, vi l3), (4, vi l4), (5, vi l5), (7, vl l7), (9, vl l9), (13, vi l13)] 266 [] Q := by
  refine Zm.l (fun _ _ k_ => z_iload dX8_callWays_266 rfl k_) ?_
  refine Zm.l (fun _ _ k_ => z_aload_n dX8_callWays_268 rfl rfl k_) ?_
  refine zm_geti dX8_callWays_269 fsX8_527_1 (by decide) (by decide) ?_
  refine Zm.br (fun _ _ k1_ k2_ => z_icmp_ge (tgt := 298) dX8_callWays_272 rfl k1_ k2_) (fun h_ => ?_) (fun h_ => ?_)
  · have k := zit h_ k
    exact zm_vret dX8_callWays_298 rfl k
  · have k := zif h_ k
    refine Zm.l (fun _ _ k_ => z_aload_n dX8_callWays_275 rfl rfl k_) ?_
    refine Zm.l (fun _ _ k_ => z_iload dX8_callWays_276 rfl k_) ?_
    refine Zm.l (fun _ _ k_ => z_lload dX8_callWays_278 rfl k_) ?_
    refine Zm.l (fun _ _ k_ => z_lload dX8_callWays_280 rfl k_) ?_
    refine Zm.l (fun _ _ k_ => z_iload_n dX8_callWays_282 rfl rfl k_) ?_
    refine Zm.l (fun _ _ k_ => z_iload_n dX8_callWays_283 rfl rfl k_) ?_
    refine Zm.l (fun _ _ k_ => z_iload dX8_callWays_284 rfl k_) ?_
    refine Zm.l (fun _ _ k_ => z_iload dX8_callWays_286 rfl k_) ?_
    refine Zm.l (fun _ _ k_ => z_iconst (v := -1) dX8_callWays_288 rfl k_) ?_
    exact zm_callV (as := [vi l13, vl l7, vl l9, vi l2, vi l3, vi l4, vi l5, vi (-1 : Int32)]) (st := []) dX8_callWays_289 vsX8_1332_1 (Nat.le_refl _) (Nat.le_of_ble_eq_true rfl) (Nat.le_of_ble_eq_true rfl) rfl k
theorem sX8_callWays_292 {E : zE} {d : Nat} {Q : zO → zM → Prop} (M : zM) (l2 : Int32) (l3 : Int32) (l4 : Int32) (l5 : Int32) (l7 : Int64) (l9 : Int64) (l13 : Int32) (k : Zm E YX8_callWays (d + 1) M [(0, vr (some (97, 1, 0))), (2, vi l2), (3, vi l3), (4, vi l4), (5, vi l5), (7, vl l7), (9, vl l9), (13, vi (l13 + (1 : Int32)))] 266 [] Q) : Zm E YX8_callWays (d + 1) M [(0, vr (some (97, 1, 0))), (2, vi l2), (3, vi l3), (4, vi l4), (5, vi l5), (7, vl l7), (9, vl l9), (13, vi l13)] 292 [] Q := by
  refine Zm.l (fun _ _ k_ => z_inc (v := (l13 + (1 : Int32))) dX8_callWays_292 rfl rfl (by decide) (lv' := [(0, vr (some (97, 1, 0))), (2, vi l2), (3, vi l3), (4, vi l4), (5, vi l5), (7, vl l7), (9, vl l9), (13, vi (l13 + (1 : Int32)))]) rfl k_) ?_
  refine Zm.l (fun _ _ k_ => z_goto (tgt := 266) dX8_callWays_295 rfl k_) ?_
  exact k
/-! ScriptTypesModel.onStack(II)I -/
theorem bX8_onStack_0 : zdec cX8_onStack 0 [(0, .aload_n 0, 1), (1, .getfield 238, 3), (4, .iload_n 1, 1), (5, .iaload, 1), (6, .iload_n 2, 1), (7, .iadd, 1), (8, .ireturn, 1)] = true := by decide +kernel
theorem dX8_onStack_0 : decode cX8_onStack 0 = .ok (.aload_n 0, 1) := zdec_at bX8_onStack_0 0 rfl
theorem dX8_onStack_1 : decode cX8_onStack 1 = .ok (.getfield 238, 3) := zdec_at bX8_onStack_0 1 rfl
theorem dX8_onStack_4 : decode cX8_onStack 4 = .ok (.iload_n 1, 1) := zdec_at bX8_onStack_0 2 rfl
theorem dX8_onStack_5 : decode cX8_onStack 5 = .ok (.iaload, 1) := zdec_at bX8_onStack_0 3 rfl
theorem dX8_onStack_6 : decode cX8_onStack 6 = .ok (.iload_n 2, 1) := zdec_at bX8_onStack_0 4 rfl
theorem dX8_onStack_7 : decode cX8_onStack 7 = .ok (.iadd, 1) := zdec_at bX8_onStack_0 5 rfl
theorem dX8_onStack_8 : decode cX8_onStack 8 = .ok (.ireturn, 1) := zdec_at bX8_onStack_0 6 rfl
theorem sX8_onStack_0 {E : zE} {d : Nat} {Q : zO → zM → Prop} (M : zM) (l1 : Int32) (l2 : Int32) (k : vp_in l1 640 ∧ (Q (.inl (some (vi ((gi M 172 (l1).toNatClampNeg) + l2)))) M)) : Zm E YX8_onStack d M [(0, vr (some (97, 1, 0))), (1, vi l1), (2, vi l2)] 0 [] Q := by
  refine Zm.l (fun _ _ k_ => z_aload_n dX8_onStack_0 rfl rfl k_) ?_
  refine zm_getr 69 dX8_onStack_1 fsX8_238_1 rfl ?_
  refine Zm.l (fun _ _ k_ => z_iload_n dX8_onStack_4 rfl rfl k_) ?_
  obtain ⟨b_, k⟩ := k
  refine zm_iald dX8_onStack_5 b_ (by decide) (by decide) ?_
  refine Zm.l (fun _ _ k_ => z_iload_n dX8_onStack_6 rfl rfl k_) ?_
  refine Zm.l (fun _ _ k_ => z_iadd dX8_onStack_7 k_) ?_
  exact zm_iret dX8_onStack_8 rfl rfl k
/-! ScriptTypesModel.codeOfLabel(I)I -/
theorem bX8_codeOfLabel_0 : zdec cX8_codeOfLabel 0 [(0, .iload_n 1, 1), (1, .bipush 29, 2), (3, .if_icmp .lt 23, 3), (6, .aload_n 0, 1), (7, .iload_n 1, 1), (8, .invokevirtual 1115, 3), (11, .ifCond .eq 15, 3), (14, .iconst 1, 1), (15, .iload_n 1, 1), (16, .bipush 29, 2), (18, .isub, 1), (19, .bipush 6, 2), (21, .idiv, 1), (22, .iadd, 1), (23, .goto 4, 3), (26, .iconst 0, 1)] = true := by decide +kernel
theorem dX8_codeOfLabel_0 : decode cX8_codeOfLabel 0 = .ok (.iload_n 1, 1) := zdec_at bX8_codeOfLabel_0 0 rfl
theorem dX8_codeOfLabel_1 : decode cX8_codeOfLabel 1 = .ok (.bipush 29, 2) := zdec_at bX8_codeOfLabel_0 1 rfl
theorem dX8_codeOfLabel_3 : decode cX8_codeOfLabel 3 = .ok (.if_icmp .lt 23, 3) := zdec_at bX8_codeOfLabel_0 2 rfl
theorem dX8_codeOfLabel_6 : decode cX8_codeOfLabel 6 = .ok (.aload_n 0, 1) := zdec_at bX8_codeOfLabel_0 3 rfl
theorem dX8_codeOfLabel_7 : decode cX8_codeOfLabel 7 = .ok (.iload_n 1, 1) := zdec_at bX8_codeOfLabel_0 4 rfl
theorem dX8_codeOfLabel_8 : decode cX8_codeOfLabel 8 = .ok (.invokevirtual 1115, 3) := zdec_at bX8_codeOfLabel_0 5 rfl
theorem dX8_codeOfLabel_11 : decode cX8_codeOfLabel 11 = .ok (.ifCond .eq 15, 3) := zdec_at bX8_codeOfLabel_0 6 rfl
theorem dX8_codeOfLabel_14 : decode cX8_codeOfLabel 14 = .ok (.iconst 1, 1) := zdec_at bX8_codeOfLabel_0 7 rfl
theorem dX8_codeOfLabel_15 : decode cX8_codeOfLabel 15 = .ok (.iload_n 1, 1) := zdec_at bX8_codeOfLabel_0 8 rfl
theorem dX8_codeOfLabel_16 : decode cX8_codeOfLabel 16 = .ok (.bipush 29, 2) := zdec_at bX8_codeOfLabel_0 9 rfl
theorem dX8_codeOfLabel_18 : decode cX8_codeOfLabel 18 = .ok (.isub, 1) := zdec_at bX8_codeOfLabel_0 10 rfl
theorem dX8_codeOfLabel_19 : decode cX8_codeOfLabel 19 = .ok (.bipush 6, 2) := zdec_at bX8_codeOfLabel_0 11 rfl
theorem dX8_codeOfLabel_21 : decode cX8_codeOfLabel 21 = .ok (.idiv, 1) := zdec_at bX8_codeOfLabel_0 12 rfl
theorem dX8_codeOfLabel_22 : decode cX8_codeOfLabel 22 = .ok (.iadd, 1) := zdec_at bX8_codeOfLabel_0 13 rfl
theorem dX8_codeOfLabel_23 : decode cX8_codeOfLabel 23 = .ok (.goto 4, 3) := zdec_at bX8_codeOfLabel_0 14 rfl
theorem dX8_codeOfLabel_26 : decode cX8_codeOfLabel 26 = .ok (.iconst 0, 1) := zdec_at bX8_codeOfLabel_0 15 rfl
theorem bX8_codeOfLabel_27 : zdec cX8_codeOfLabel 27 [(27, .ireturn, 1)] = true := by decide +kernel
theorem dX8_codeOfLabel_27 : decode cX8_codeOfLabel 27 = .ok (.ireturn, 1) := zdec_at bX8_codeOfLabel_27 0 rfl
theorem sX8_codeOfLabel_0 {E : zE} {d : Nat} {Q : zO → zM → Prop} (M : zM) (l1 : Int32) (k : if l1 < (29 : Int32) then (Q (.inl (some (vi (0 : Int32)))) M) else (Zm E YX8_isFunctionLabel d M (zargs 0 [vr (some (97, 1, 0)), vi l1]) 0 [] (zma E YX8_codeOfLabel (d + 1) [(1, vi l1)] 8 3 [] Q))) : Zm E YX8_codeOfLabel (d + 1) M [(0, vr (some (97, 1, 0))), (1, vi l1)] 0 [] Q := by
  refine Zm.l (fun _ _ k_ => z_iload_n dX8_codeOfLabel_0 rfl rfl k_) ?_
  refine Zm.l (fun _ _ k_ => z_bipush (v := 29) dX8_codeOfLabel_1 rfl k_) ?_
  refine Zm.br (fun _ _ k1_ k2_ => z_icmp_lt (tgt := 26) dX8_codeOfLabel_3 rfl k1_ k2_) (fun h_ => ?_) (fun h_ => ?_)
  · have k := zit h_ k
    refine Zm.l (fun _ _ k_ => z_iconst (v := 0) dX8_codeOfLabel_26 rfl k_) ?_
    exact zm_iret dX8_codeOfLabel_27 rfl rfl k
  · have k := zif h_ k
    refine Zm.l (fun _ _ k_ => z_aload_n dX8_codeOfLabel_6 rfl rfl k_) ?_
    refine Zm.l (fun _ _ k_ => z_iload_n dX8_codeOfLabel_7 rfl rfl k_) ?_
    refine Zm.pick [1] rfl ?_
    exact zm_callV (as := [vi l1]) (st := []) dX8_codeOfLabel_8 vsX8_1115_1 (Nat.le_refl _) (Nat.le_of_ble_eq_true rfl) (Nat.le_of_ble_eq_true rfl) rfl k
theorem sX8_codeOfLabel_11 {E : zE} {d : Nat} {Q : zO → zM → Prop} (M : zM) (l1 : Int32) (s0 : Int32) (k : if s0 = 0 then (Q (.inl (some (vi (0 : Int32)))) M) else (Q (.inl (some (vi ((1 : Int32) + ((l1 - (29 : Int32)) / (6 : Int32)))))) M)) : Zm E YX8_codeOfLabel (d + 1) M [(1, vi l1)] 11 [vi s0] Q := by
  refine Zm.br (fun _ _ k1_ k2_ => z_if_eq (tgt := 26) dX8_codeOfLabel_11 rfl k1_ k2_) (fun h_ => ?_) (fun h_ => ?_)
  · have k := zit h_ k
    refine Zm.l (fun _ _ k_ => z_iconst (v := 0) dX8_codeOfLabel_26 rfl k_) ?_
    exact zm_iret dX8_codeOfLabel_27 rfl rfl k
  · have k := zif h_ k
    refine Zm.l (fun _ _ k_ => z_iconst (v := 1) dX8_codeOfLabel_14 rfl k_) ?_
    refine Zm.l (fun _ _ k_ => z_iload_n dX8_codeOfLabel_15 rfl rfl k_) ?_
    refine Zm.l (fun _ _ k_ => z_bipush (v := 29) dX8_codeOfLabel_16 rfl k_) ?_
    refine Zm.l (fun _ _ k_ => z_isub dX8_codeOfLabel_18 k_) ?_
    refine Zm.l (fun _ _ k_ => z_bipush (v := 6) dX8_codeOfLabel_19 rfl k_) ?_
    refine Zm.l (fun _ _ k_ => z_idiv dX8_codeOfLabel_21 (by decide) k_) ?_
    refine Zm.l (fun _ _ k_ => z_iadd dX8_codeOfLabel_22 k_) ?_
    refine Zm.l (fun _ _ k_ => z_goto (tgt := 27) dX8_codeOfLabel_23 rfl k_) ?_
    exact zm_iret dX8_codeOfLabel_27 rfl rfl k
/-! ScriptTypesModel.nativeWays(IIIII)V -/
theorem bX8_nativeWays_0 : zdec cX8_nativeWays 0 [(0, .aload_n 0, 1), (1, .aload_n 0, 1), (2, .getfield 1188, 3), (5, .invokevirtual 1211, 3), (8, .ldc_w 1358, 3), (11, .istore 6, 2), (13, .ldc_w 1359, 3), (16, .istore 7, 2), (18, .ldc_w 1360, 3), (21, .istore 8, 2), (23, .aload_n 0, 1), (24, .iload 6, 2), (26, .invokevirtual 1066, 3), (29, .aload_n 0, 1), (30, .iload 7, 2), (32, .invokevirtual 1066, 3)] = true := by decide +kernel
theorem dX8_nativeWays_0 : decode cX8_nativeWays 0 = .ok (.aload_n 0, 1) := zdec_at bX8_nativeWays_0 0 rfl
theorem dX8_nativeWays_1 : decode cX8_nativeWays 1 = .ok (.aload_n 0, 1) := zdec_at bX8_nativeWays_0 1 rfl
theorem dX8_nativeWays_2 : decode cX8_nativeWays 2 = .ok (.getfield 1188, 3) := zdec_at bX8_nativeWays_0 2 rfl
theorem dX8_nativeWays_5 : decode cX8_nativeWays 5 = .ok (.invokevirtual 1211, 3) := zdec_at bX8_nativeWays_0 3 rfl
theorem dX8_nativeWays_8 : decode cX8_nativeWays 8 = .ok (.ldc_w 1358, 3) := zdec_at bX8_nativeWays_0 4 rfl
theorem dX8_nativeWays_11 : decode cX8_nativeWays 11 = .ok (.istore 6, 2) := zdec_at bX8_nativeWays_0 5 rfl
theorem dX8_nativeWays_13 : decode cX8_nativeWays 13 = .ok (.ldc_w 1359, 3) := zdec_at bX8_nativeWays_0 6 rfl
theorem dX8_nativeWays_16 : decode cX8_nativeWays 16 = .ok (.istore 7, 2) := zdec_at bX8_nativeWays_0 7 rfl
theorem dX8_nativeWays_18 : decode cX8_nativeWays 18 = .ok (.ldc_w 1360, 3) := zdec_at bX8_nativeWays_0 8 rfl
theorem dX8_nativeWays_21 : decode cX8_nativeWays 21 = .ok (.istore 8, 2) := zdec_at bX8_nativeWays_0 9 rfl
theorem dX8_nativeWays_23 : decode cX8_nativeWays 23 = .ok (.aload_n 0, 1) := zdec_at bX8_nativeWays_0 10 rfl
theorem dX8_nativeWays_24 : decode cX8_nativeWays 24 = .ok (.iload 6, 2) := zdec_at bX8_nativeWays_0 11 rfl
theorem dX8_nativeWays_26 : decode cX8_nativeWays 26 = .ok (.invokevirtual 1066, 3) := zdec_at bX8_nativeWays_0 12 rfl
theorem dX8_nativeWays_29 : decode cX8_nativeWays 29 = .ok (.aload_n 0, 1) := zdec_at bX8_nativeWays_0 13 rfl
theorem dX8_nativeWays_30 : decode cX8_nativeWays 30 = .ok (.iload 7, 2) := zdec_at bX8_nativeWays_0 14 rfl
theorem dX8_nativeWays_32 : decode cX8_nativeWays 32 = .ok (.invokevirtual 1066, 3) := zdec_at bX8_nativeWays_0 15 rfl
theorem bX8_nativeWays_35 : zdec cX8_nativeWays 35 [(35, .aload_n 0, 1), (36, .iload 8, 2), (38, .invokevirtual 1066, 3), (41, .iload 4, 2), (43, .ifCond .le 20, 3), (46, .aload_n 0, 1), (47, .aload_n 0, 1), (48, .sipush 639, 3), (51, .iload_n 3, 1), (52, .invokevirtual 1323, 3), (55, .iload 7, 2), (57, .invokevirtual 1092, 3), (60, .goto 10, 3), (63, .aload_n 0, 1), (64, .iload 7, 2), (66, .iconst 1, 1)] = true := by decide +kernel
theorem dX8_nativeWays_35 : decode cX8_nativeWays 35 = .ok (.aload_n 0, 1) := zdec_at bX8_nativeWays_35 0 rfl
theorem dX8_nativeWays_36 : decode cX8_nativeWays 36 = .ok (.iload 8, 2) := zdec_at bX8_nativeWays_35 1 rfl
theorem dX8_nativeWays_38 : decode cX8_nativeWays 38 = .ok (.invokevirtual 1066, 3) := zdec_at bX8_nativeWays_35 2 rfl
theorem dX8_nativeWays_41 : decode cX8_nativeWays 41 = .ok (.iload 4, 2) := zdec_at bX8_nativeWays_35 3 rfl
theorem dX8_nativeWays_43 : decode cX8_nativeWays 43 = .ok (.ifCond .le 20, 3) := zdec_at bX8_nativeWays_35 4 rfl
theorem dX8_nativeWays_46 : decode cX8_nativeWays 46 = .ok (.aload_n 0, 1) := zdec_at bX8_nativeWays_35 5 rfl
theorem dX8_nativeWays_47 : decode cX8_nativeWays 47 = .ok (.aload_n 0, 1) := zdec_at bX8_nativeWays_35 6 rfl
theorem dX8_nativeWays_48 : decode cX8_nativeWays 48 = .ok (.sipush 639, 3) := zdec_at bX8_nativeWays_35 7 rfl
theorem dX8_nativeWays_51 : decode cX8_nativeWays 51 = .ok (.iload_n 3, 1) := zdec_at bX8_nativeWays_35 8 rfl
theorem dX8_nativeWays_52 : decode cX8_nativeWays 52 = .ok (.invokevirtual 1323, 3) := zdec_at bX8_nativeWays_35 9 rfl
theorem dX8_nativeWays_55 : decode cX8_nativeWays 55 = .ok (.iload 7, 2) := zdec_at bX8_nativeWays_35 10 rfl
theorem dX8_nativeWays_57 : decode cX8_nativeWays 57 = .ok (.invokevirtual 1092, 3) := zdec_at bX8_nativeWays_35 11 rfl
theorem dX8_nativeWays_60 : decode cX8_nativeWays 60 = .ok (.goto 10, 3) := zdec_at bX8_nativeWays_35 12 rfl
theorem dX8_nativeWays_63 : decode cX8_nativeWays 63 = .ok (.aload_n 0, 1) := zdec_at bX8_nativeWays_35 13 rfl
theorem dX8_nativeWays_64 : decode cX8_nativeWays 64 = .ok (.iload 7, 2) := zdec_at bX8_nativeWays_35 14 rfl
theorem dX8_nativeWays_66 : decode cX8_nativeWays 66 = .ok (.iconst 1, 1) := zdec_at bX8_nativeWays_35 15 rfl
theorem bX8_nativeWays_67 : zdec cX8_nativeWays 67 [(67, .invokevirtual 1072, 3), (70, .iload_n 2, 1), (71, .iconst (-1), 1), (72, .if_icmp .ne 13, 3), (75, .aload_n 0, 1), (76, .iload 8, 2), (78, .iconst 1, 1), (79, .invokevirtual 1072, 3), (82, .goto 17, 3), (85, .aload_n 0, 1), (86, .aload_n 0, 1), (87, .sipush 639, 3), (90, .iload_n 2, 1), (91, .invokevirtual 1323, 3), (94, .iload 8, 2), (96, .invokevirtual 1092, 3)] = true := by decide +kernel
theorem dX8_nativeWays_67 : decode cX8_nativeWays 67 = .ok (.invokevirtual 1072, 3) := zdec_at bX8_nativeWays_67 0 rfl
theorem dX8_nativeWays_70 : decode cX8_nativeWays 70 = .ok (.iload_n 2, 1) := zdec_at bX8_nativeWays_67 1 rfl
theorem dX8_nativeWays_71 : decode cX8_nativeWays 71 = .ok (.iconst (-1), 1) := zdec_at bX8_nativeWays_67 2 rfl
theorem dX8_nativeWays_72 : decode cX8_nativeWays 72 = .ok (.if_icmp .ne 13, 3) := zdec_at bX8_nativeWays_67 3 rfl
theorem dX8_nativeWays_75 : decode cX8_nativeWays 75 = .ok (.aload_n 0, 1) := zdec_at bX8_nativeWays_67 4 rfl
theorem dX8_nativeWays_76 : decode cX8_nativeWays 76 = .ok (.iload 8, 2) := zdec_at bX8_nativeWays_67 5 rfl
theorem dX8_nativeWays_78 : decode cX8_nativeWays 78 = .ok (.iconst 1, 1) := zdec_at bX8_nativeWays_67 6 rfl
theorem dX8_nativeWays_79 : decode cX8_nativeWays 79 = .ok (.invokevirtual 1072, 3) := zdec_at bX8_nativeWays_67 7 rfl
theorem dX8_nativeWays_82 : decode cX8_nativeWays 82 = .ok (.goto 17, 3) := zdec_at bX8_nativeWays_67 8 rfl
theorem dX8_nativeWays_85 : decode cX8_nativeWays 85 = .ok (.aload_n 0, 1) := zdec_at bX8_nativeWays_67 9 rfl
theorem dX8_nativeWays_86 : decode cX8_nativeWays 86 = .ok (.aload_n 0, 1) := zdec_at bX8_nativeWays_67 10 rfl
theorem dX8_nativeWays_87 : decode cX8_nativeWays 87 = .ok (.sipush 639, 3) := zdec_at bX8_nativeWays_67 11 rfl
theorem dX8_nativeWays_90 : decode cX8_nativeWays 90 = .ok (.iload_n 2, 1) := zdec_at bX8_nativeWays_67 12 rfl
theorem dX8_nativeWays_91 : decode cX8_nativeWays 91 = .ok (.invokevirtual 1323, 3) := zdec_at bX8_nativeWays_67 13 rfl
theorem dX8_nativeWays_94 : decode cX8_nativeWays 94 = .ok (.iload 8, 2) := zdec_at bX8_nativeWays_67 14 rfl
theorem dX8_nativeWays_96 : decode cX8_nativeWays 96 = .ok (.invokevirtual 1092, 3) := zdec_at bX8_nativeWays_67 15 rfl
theorem bX8_nativeWays_99 : zdec cX8_nativeWays 99 [(99, .iconst 0, 1), (100, .istore 9, 2), (102, .iload_n 1, 1)] = true := by decide +kernel
theorem dX8_nativeWays_99 : decode cX8_nativeWays 99 = .ok (.iconst 0, 1) := zdec_at bX8_nativeWays_99 0 rfl
theorem dX8_nativeWays_100 : decode cX8_nativeWays 100 = .ok (.istore 9, 2) := zdec_at bX8_nativeWays_99 1 rfl
theorem dX8_nativeWays_102 : decode cX8_nativeWays 102 = .ok (.iload_n 1, 1) := zdec_at bX8_nativeWays_99 2 rfl
theorem dX8_nativeWays_103 : decode cX8_nativeWays 103 = .ok (.tableswitch 240 9 22 #[69, 79, 99, 119, 146, 240, 240, 240, 240, 157, 157, 240, 173, 188], 69) := by decide +kernel
theorem bX8_nativeWays_172 : zdec cX8_nativeWays 172 [(172, .aload_n 0, 1), (173, .iload 6, 2), (175, .iconst 1, 1), (176, .invokevirtual 1072, 3), (179, .goto 198, 3), (182, .aload_n 0, 1), (183, .bipush 23, 2), (185, .iconst 1, 1), (186, .iconst 0, 1), (187, .iconst (-1), 1), (188, .invokevirtual 1204, 3), (191, .aload_n 0, 1), (192, .iload 6, 2), (194, .bipush 23, 2), (196, .invokevirtual 1081, 3), (199, .goto 178, 3)] = true := by decide +kernel
theorem dX8_nativeWays_172 : decode cX8_nativeWays 172 = .ok (.aload_n 0, 1) := zdec_at bX8_nativeWays_172 0 rfl
theorem dX8_nativeWays_173 : decode cX8_nativeWays 173 = .ok (.iload 6, 2) := zdec_at bX8_nativeWays_172 1 rfl
theorem dX8_nativeWays_175 : decode cX8_nativeWays 175 = .ok (.iconst 1, 1) := zdec_at bX8_nativeWays_172 2 rfl
theorem dX8_nativeWays_176 : decode cX8_nativeWays 176 = .ok (.invokevirtual 1072, 3) := zdec_at bX8_nativeWays_172 3 rfl
theorem dX8_nativeWays_179 : decode cX8_nativeWays 179 = .ok (.goto 198, 3) := zdec_at bX8_nativeWays_172 4 rfl
theorem dX8_nativeWays_182 : decode cX8_nativeWays 182 = .ok (.aload_n 0, 1) := zdec_at bX8_nativeWays_172 5 rfl
theorem dX8_nativeWays_183 : decode cX8_nativeWays 183 = .ok (.bipush 23, 2) := zdec_at bX8_nativeWays_172 6 rfl
theorem dX8_nativeWays_185 : decode cX8_nativeWays 185 = .ok (.iconst 1, 1) := zdec_at bX8_nativeWays_172 7 rfl
theorem dX8_nativeWays_186 : decode cX8_nativeWays 186 = .ok (.iconst 0, 1) := zdec_at bX8_nativeWays_172 8 rfl
theorem dX8_nativeWays_187 : decode cX8_nativeWays 187 = .ok (.iconst (-1), 1) := zdec_at bX8_nativeWays_172 9 rfl
theorem dX8_nativeWays_188 : decode cX8_nativeWays 188 = .ok (.invokevirtual 1204, 3) := zdec_at bX8_nativeWays_172 10 rfl
theorem dX8_nativeWays_191 : decode cX8_nativeWays 191 = .ok (.aload_n 0, 1) := zdec_at bX8_nativeWays_172 11 rfl
theorem dX8_nativeWays_192 : decode cX8_nativeWays 192 = .ok (.iload 6, 2) := zdec_at bX8_nativeWays_172 12 rfl
theorem dX8_nativeWays_194 : decode cX8_nativeWays 194 = .ok (.bipush 23, 2) := zdec_at bX8_nativeWays_172 13 rfl
theorem dX8_nativeWays_196 : decode cX8_nativeWays 196 = .ok (.invokevirtual 1081, 3) := zdec_at bX8_nativeWays_172 14 rfl
theorem dX8_nativeWays_199 : decode cX8_nativeWays 199 = .ok (.goto 178, 3) := zdec_at bX8_nativeWays_172 15 rfl
theorem bX8_nativeWays_202 : zdec cX8_nativeWays 202 [(202, .aload_n 0, 1), (203, .bipush 24, 2), (205, .iconst 3, 1), (206, .iconst 1, 1), (207, .iconst (-1), 1), (208, .invokevirtual 1204, 3), (211, .aload_n 0, 1), (212, .iload 6, 2), (214, .bipush 24, 2), (216, .invokevirtual 1081, 3), (219, .goto 158, 3), (222, .iload 4, 2), (224, .ifCond .ne 14, 3), (227, .aload_n 0, 1), (228, .iload 6, 2), (230, .bipush 30, 2)] = true := by decide +kernel
theorem dX8_nativeWays_202 : decode cX8_nativeWays 202 = .ok (.aload_n 0, 1) := zdec_at bX8_nativeWays_202 0 rfl
theorem dX8_nativeWays_203 : decode cX8_nativeWays 203 = .ok (.bipush 24, 2) := zdec_at bX8_nativeWays_202 1 rfl
theorem dX8_nativeWays_205 : decode cX8_nativeWays 205 = .ok (.iconst 3, 1) := zdec_at bX8_nativeWays_202 2 rfl
theorem dX8_nativeWays_206 : decode cX8_nativeWays 206 = .ok (.iconst 1, 1) := zdec_at bX8_nativeWays_202 3 rfl
theorem dX8_nativeWays_207 : decode cX8_nativeWays 207 = .ok (.iconst (-1), 1) := zdec_at bX8_nativeWays_202 4 rfl
theorem dX8_nativeWays_208 : decode cX8_nativeWays 208 = .ok (.invokevirtual 1204, 3) := zdec_at bX8_nativeWays_202 5 rfl
theorem dX8_nativeWays_211 : decode cX8_nativeWays 211 = .ok (.aload_n 0, 1) := zdec_at bX8_nativeWays_202 6 rfl
theorem dX8_nativeWays_212 : decode cX8_nativeWays 212 = .ok (.iload 6, 2) := zdec_at bX8_nativeWays_202 7 rfl
theorem dX8_nativeWays_214 : decode cX8_nativeWays 214 = .ok (.bipush 24, 2) := zdec_at bX8_nativeWays_202 8 rfl
theorem dX8_nativeWays_216 : decode cX8_nativeWays 216 = .ok (.invokevirtual 1081, 3) := zdec_at bX8_nativeWays_202 9 rfl
theorem dX8_nativeWays_219 : decode cX8_nativeWays 219 = .ok (.goto 158, 3) := zdec_at bX8_nativeWays_202 10 rfl
theorem dX8_nativeWays_222 : decode cX8_nativeWays 222 = .ok (.iload 4, 2) := zdec_at bX8_nativeWays_202 11 rfl
theorem dX8_nativeWays_224 : decode cX8_nativeWays 224 = .ok (.ifCond .ne 14, 3) := zdec_at bX8_nativeWays_202 12 rfl
theorem dX8_nativeWays_227 : decode cX8_nativeWays 227 = .ok (.aload_n 0, 1) := zdec_at bX8_nativeWays_202 13 rfl
theorem dX8_nativeWays_228 : decode cX8_nativeWays 228 = .ok (.iload 6, 2) := zdec_at bX8_nativeWays_202 14 rfl
theorem dX8_nativeWays_230 : decode cX8_nativeWays 230 = .ok (.bipush 30, 2) := zdec_at bX8_nativeWays_202 15 rfl
theorem bX8_nativeWays_232 : zdec cX8_nativeWays 232 [(232, .invokevirtual 1078, 3), (235, .goto 142, 3), (238, .aload_n 0, 1), (239, .iload 7, 2), (241, .iload 6, 2), (243, .invokevirtual 1172, 3), (246, .goto 131, 3), (249, .aload_n 0, 1), (250, .iload 7, 2), (252, .iload 6, 2), (254, .invokevirtual 1361, 3), (257, .goto 120, 3), (260, .aload_n 0, 1), (261, .iload_n 1, 1), (262, .iload 8, 2), (264, .iload 7, 2)] = true := by decide +kernel
theorem dX8_nativeWays_232 : decode cX8_nativeWays 232 = .ok (.invokevirtual 1078, 3) := zdec_at bX8_nativeWays_232 0 rfl
theorem dX8_nativeWays_235 : decode cX8_nativeWays 235 = .ok (.goto 142, 3) := zdec_at bX8_nativeWays_232 1 rfl
theorem dX8_nativeWays_238 : decode cX8_nativeWays 238 = .ok (.aload_n 0, 1) := zdec_at bX8_nativeWays_232 2 rfl
theorem dX8_nativeWays_239 : decode cX8_nativeWays 239 = .ok (.iload 7, 2) := zdec_at bX8_nativeWays_232 3 rfl
theorem dX8_nativeWays_241 : decode cX8_nativeWays 241 = .ok (.iload 6, 2) := zdec_at bX8_nativeWays_232 4 rfl
theorem dX8_nativeWays_243 : decode cX8_nativeWays 243 = .ok (.invokevirtual 1172, 3) := zdec_at bX8_nativeWays_232 5 rfl
theorem dX8_nativeWays_246 : decode cX8_nativeWays 246 = .ok (.goto 131, 3) := zdec_at bX8_nativeWays_232 6 rfl
theorem dX8_nativeWays_249 : decode cX8_nativeWays 249 = .ok (.aload_n 0, 1) := zdec_at bX8_nativeWays_232 7 rfl
theorem dX8_nativeWays_250 : decode cX8_nativeWays 250 = .ok (.iload 7, 2) := zdec_at bX8_nativeWays_232 8 rfl
theorem dX8_nativeWays_252 : decode cX8_nativeWays 252 = .ok (.iload 6, 2) := zdec_at bX8_nativeWays_232 9 rfl
theorem dX8_nativeWays_254 : decode cX8_nativeWays 254 = .ok (.invokevirtual 1361, 3) := zdec_at bX8_nativeWays_232 10 rfl
theorem dX8_nativeWays_257 : decode cX8_nativeWays 257 = .ok (.goto 120, 3) := zdec_at bX8_nativeWays_232 11 rfl
theorem dX8_nativeWays_260 : decode cX8_nativeWays 260 = .ok (.aload_n 0, 1) := zdec_at bX8_nativeWays_232 12 rfl
theorem dX8_nativeWays_261 : decode cX8_nativeWays 261 = .ok (.iload_n 1, 1) := zdec_at bX8_nativeWays_232 13 rfl
theorem dX8_nativeWays_262 : decode cX8_nativeWays 262 = .ok (.iload 8, 2) := zdec_at bX8_nativeWays_232 14 rfl
theorem dX8_nativeWays_264 : decode cX8_nativeWays 264 = .ok (.iload 7, 2) := zdec_at bX8_nativeWays_232 15 rfl
theorem bX8_nativeWays_266 : zdec cX8_nativeWays 266 [(266, .iload 6, 2), (268, .invokevirtual 1364, 3), (271, .istore 9, 2), (273, .goto 104, 3), (276, .aload_n 0, 1), (277, .iload 8, 2), (279, .iload 7, 2), (281, .iload 6, 2), (283, .invokevirtual 1367, 3), (286, .istore 9, 2), (288, .goto 89, 3), (291, .aload_n 0, 1), (292, .iload 8, 2), (294, .invokevirtual 1059, 3), (297, .sipush (-385), 3), (300, .iand, 1)] = true := by decide +kernel
theorem dX8_nativeWays_266 : decode cX8_nativeWays 266 = .ok (.iload 6, 2) := zdec_at bX8_nativeWays_266 0 rfl
theorem dX8_nativeWays_268 : decode cX8_nativeWays 268 = .ok (.invokevirtual 1364, 3) := zdec_at bX8_nativeWays_266 1 rfl
theorem dX8_nativeWays_271 : decode cX8_nativeWays 271 = .ok (.istore 9, 2) := zdec_at bX8_nativeWays_266 2 rfl
theorem dX8_nativeWays_273 : decode cX8_nativeWays 273 = .ok (.goto 104, 3) := zdec_at bX8_nativeWays_266 3 rfl
theorem dX8_nativeWays_276 : decode cX8_nativeWays 276 = .ok (.aload_n 0, 1) := zdec_at bX8_nativeWays_266 4 rfl
theorem dX8_nativeWays_277 : decode cX8_nativeWays 277 = .ok (.iload 8, 2) := zdec_at bX8_nativeWays_266 5 rfl
theorem dX8_nativeWays_279 : decode cX8_nativeWays 279 = .ok (.iload 7, 2) := zdec_at bX8_nativeWays_266 6 rfl
theorem dX8_nativeWays_281 : decode cX8_nativeWays 281 = .ok (.iload 6, 2) := zdec_at bX8_nativeWays_266 7 rfl
theorem dX8_nativeWays_283 : decode cX8_nativeWays 283 = .ok (.invokevirtual 1367, 3) := zdec_at bX8_nativeWays_266 8 rfl
theorem dX8_nativeWays_286 : decode cX8_nativeWays 286 = .ok (.istore 9, 2) := zdec_at bX8_nativeWays_266 9 rfl
theorem dX8_nativeWays_288 : decode cX8_nativeWays 288 = .ok (.goto 89, 3) := zdec_at bX8_nativeWays_266 10 rfl
theorem dX8_nativeWays_291 : decode cX8_nativeWays 291 = .ok (.aload_n 0, 1) := zdec_at bX8_nativeWays_266 11 rfl
theorem dX8_nativeWays_292 : decode cX8_nativeWays 292 = .ok (.iload 8, 2) := zdec_at bX8_nativeWays_266 12 rfl
theorem dX8_nativeWays_294 : decode cX8_nativeWays 294 = .ok (.invokevirtual 1059, 3) := zdec_at bX8_nativeWays_266 13 rfl
theorem dX8_nativeWays_297 : decode cX8_nativeWays 297 = .ok (.sipush (-385), 3) := zdec_at bX8_nativeWays_266 14 rfl
theorem dX8_nativeWays_300 : decode cX8_nativeWays 300 = .ok (.iand, 1) := zdec_at bX8_nativeWays_266 15 rfl
theorem bX8_nativeWays_301 : zdec cX8_nativeWays 301 [(301, .ifCond .ne 12, 3), (304, .aload_n 0, 1), (305, .iload 8, 2), (307, .invokevirtual 1062, 3), (310, .ifCond .eq 7, 3), (313, .iconst 1, 1), (314, .goto 4, 3), (317, .iconst 0, 1), (318, .istore 9, 2), (320, .aload_n 0, 1), (321, .iload 8, 2), (323, .invokevirtual 1059, 3), (326, .sipush 384, 3), (329, .iand, 1), (330, .ifCond .eq 47, 3), (333, .aload_n 0, 1)] = true := by decide +kernel
theorem dX8_nativeWays_301 : decode cX8_nativeWays 301 = .ok (.ifCond .ne 12, 3) := zdec_at bX8_nativeWays_301 0 rfl
theorem dX8_nativeWays_304 : decode cX8_nativeWays 304 = .ok (.aload_n 0, 1) := zdec_at bX8_nativeWays_301 1 rfl
theorem dX8_nativeWays_305 : decode cX8_nativeWays 305 = .ok (.iload 8, 2) := zdec_at bX8_nativeWays_301 2 rfl
theorem dX8_nativeWays_307 : decode cX8_nativeWays 307 = .ok (.invokevirtual 1062, 3) := zdec_at bX8_nativeWays_301 3 rfl
theorem dX8_nativeWays_310 : decode cX8_nativeWays 310 = .ok (.ifCond .eq 7, 3) := zdec_at bX8_nativeWays_301 4 rfl
theorem dX8_nativeWays_313 : decode cX8_nativeWays 313 = .ok (.iconst 1, 1) := zdec_at bX8_nativeWays_301 5 rfl
theorem dX8_nativeWays_314 : decode cX8_nativeWays 314 = .ok (.goto 4, 3) := zdec_at bX8_nativeWays_301 6 rfl
theorem dX8_nativeWays_317 : decode cX8_nativeWays 317 = .ok (.iconst 0, 1) := zdec_at bX8_nativeWays_301 7 rfl
theorem dX8_nativeWays_318 : decode cX8_nativeWays 318 = .ok (.istore 9, 2) := zdec_at bX8_nativeWays_301 8 rfl
theorem dX8_nativeWays_320 : decode cX8_nativeWays 320 = .ok (.aload_n 0, 1) := zdec_at bX8_nativeWays_301 9 rfl
theorem dX8_nativeWays_321 : decode cX8_nativeWays 321 = .ok (.iload 8, 2) := zdec_at bX8_nativeWays_301 10 rfl
theorem dX8_nativeWays_323 : decode cX8_nativeWays 323 = .ok (.invokevirtual 1059, 3) := zdec_at bX8_nativeWays_301 11 rfl
theorem dX8_nativeWays_326 : decode cX8_nativeWays 326 = .ok (.sipush 384, 3) := zdec_at bX8_nativeWays_301 12 rfl
theorem dX8_nativeWays_329 : decode cX8_nativeWays 329 = .ok (.iand, 1) := zdec_at bX8_nativeWays_301 13 rfl
theorem dX8_nativeWays_330 : decode cX8_nativeWays 330 = .ok (.ifCond .eq 47, 3) := zdec_at bX8_nativeWays_301 14 rfl
theorem dX8_nativeWays_333 : decode cX8_nativeWays 333 = .ok (.aload_n 0, 1) := zdec_at bX8_nativeWays_301 15 rfl
theorem bX8_nativeWays_334 : zdec cX8_nativeWays 334 [(334, .iload 6, 2), (336, .iconst (-1), 1), (337, .invokevirtual 1078, 3), (340, .goto 37, 3), (343, .aload_n 0, 1), (344, .iload_n 1, 1), (345, .bipush 11, 2), (347, .iadd, 1), (348, .iload_n 1, 1), (349, .bipush 9, 2), (351, .isub, 1), (352, .iconst 0, 1), (353, .iload 4, 2), (355, .ifCond .le 8, 3), (358, .iload 7, 2), (360, .goto 4, 3)] = true := by decide +kernel
theorem dX8_nativeWays_334 : decode cX8_nativeWays 334 = .ok (.iload 6, 2) := zdec_at bX8_nativeWays_334 0 rfl
theorem dX8_nativeWays_336 : decode cX8_nativeWays 336 = .ok (.iconst (-1), 1) := zdec_at bX8_nativeWays_334 1 rfl
theorem dX8_nativeWays_337 : decode cX8_nativeWays 337 = .ok (.invokevirtual 1078, 3) := zdec_at bX8_nativeWays_334 2 rfl
theorem dX8_nativeWays_340 : decode cX8_nativeWays 340 = .ok (.goto 37, 3) := zdec_at bX8_nativeWays_334 3 rfl
theorem dX8_nativeWays_343 : decode cX8_nativeWays 343 = .ok (.aload_n 0, 1) := zdec_at bX8_nativeWays_334 4 rfl
theorem dX8_nativeWays_344 : decode cX8_nativeWays 344 = .ok (.iload_n 1, 1) := zdec_at bX8_nativeWays_334 5 rfl
theorem dX8_nativeWays_345 : decode cX8_nativeWays 345 = .ok (.bipush 11, 2) := zdec_at bX8_nativeWays_334 6 rfl
theorem dX8_nativeWays_347 : decode cX8_nativeWays 347 = .ok (.iadd, 1) := zdec_at bX8_nativeWays_334 7 rfl
theorem dX8_nativeWays_348 : decode cX8_nativeWays 348 = .ok (.iload_n 1, 1) := zdec_at bX8_nativeWays_334 8 rfl
theorem dX8_nativeWays_349 : decode cX8_nativeWays 349 = .ok (.bipush 9, 2) := zdec_at bX8_nativeWays_334 9 rfl
theorem dX8_nativeWays_351 : decode cX8_nativeWays 351 = .ok (.isub, 1) := zdec_at bX8_nativeWays_334 10 rfl
theorem dX8_nativeWays_352 : decode cX8_nativeWays 352 = .ok (.iconst 0, 1) := zdec_at bX8_nativeWays_334 11 rfl
theorem dX8_nativeWays_353 : decode cX8_nativeWays 353 = .ok (.iload 4, 2) := zdec_at bX8_nativeWays_334 12 rfl
theorem dX8_nativeWays_355 : decode cX8_nativeWays 355 = .ok (.ifCond .le 8, 3) := zdec_at bX8_nativeWays_334 13 rfl
theorem dX8_nativeWays_358 : decode cX8_nativeWays 358 = .ok (.iload 7, 2) := zdec_at bX8_nativeWays_334 14 rfl
theorem dX8_nativeWays_360 : decode cX8_nativeWays 360 = .ok (.goto 4, 3) := zdec_at bX8_nativeWays_334 15 rfl
theorem bX8_nativeWays_363 : zdec cX8_nativeWays 363 [(363, .iconst (-1), 1), (364, .invokevirtual 1204, 3), (367, .aload_n 0, 1), (368, .iload 6, 2), (370, .iload_n 1, 1), (371, .bipush 11, 2), (373, .iadd, 1), (374, .invokevirtual 1081, 3), (377, .aload_n 0, 1), (378, .iload 5, 2), (380, .iload 6, 2), (382, .invokevirtual 1258, 3), (385, .iload 9, 2), (387, .ifCond .eq 13, 3), (390, .aload_n 0, 1), (391, .aload_n 0, 1)] = true := by decide +kernel
theorem dX8_nativeWays_363 : decode cX8_nativeWays 363 = .ok (.iconst (-1), 1) := zdec_at bX8_nativeWays_363 0 rfl
theorem dX8_nativeWays_364 : decode cX8_nativeWays 364 = .ok (.invokevirtual 1204, 3) := zdec_at bX8_nativeWays_363 1 rfl
theorem dX8_nativeWays_367 : decode cX8_nativeWays 367 = .ok (.aload_n 0, 1) := zdec_at bX8_nativeWays_363 2 rfl
theorem dX8_nativeWays_368 : decode cX8_nativeWays 368 = .ok (.iload 6, 2) := zdec_at bX8_nativeWays_363 3 rfl
theorem dX8_nativeWays_370 : decode cX8_nativeWays 370 = .ok (.iload_n 1, 1) := zdec_at bX8_nativeWays_363 4 rfl
theorem dX8_nativeWays_371 : decode cX8_nativeWays 371 = .ok (.bipush 11, 2) := zdec_at bX8_nativeWays_363 5 rfl
theorem dX8_nativeWays_373 : decode cX8_nativeWays 373 = .ok (.iadd, 1) := zdec_at bX8_nativeWays_363 6 rfl
theorem dX8_nativeWays_374 : decode cX8_nativeWays 374 = .ok (.invokevirtual 1081, 3) := zdec_at bX8_nativeWays_363 7 rfl
theorem dX8_nativeWays_377 : decode cX8_nativeWays 377 = .ok (.aload_n 0, 1) := zdec_at bX8_nativeWays_363 8 rfl
theorem dX8_nativeWays_378 : decode cX8_nativeWays 378 = .ok (.iload 5, 2) := zdec_at bX8_nativeWays_363 9 rfl
theorem dX8_nativeWays_380 : decode cX8_nativeWays 380 = .ok (.iload 6, 2) := zdec_at bX8_nativeWays_363 10 rfl
theorem dX8_nativeWays_382 : decode cX8_nativeWays 382 = .ok (.invokevirtual 1258, 3) := zdec_at bX8_nativeWays_363 11 rfl
theorem dX8_nativeWays_385 : decode cX8_nativeWays 385 = .ok (.iload 9, 2) := zdec_at bX8_nativeWays_363 12 rfl
theorem dX8_nativeWays_387 : decode cX8_nativeWays 387 = .ok (.ifCond .eq 13, 3) := zdec_at bX8_nativeWays_363 13 rfl
theorem dX8_nativeWays_390 : decode cX8_nativeWays 390 = .ok (.aload_n 0, 1) := zdec_at bX8_nativeWays_363 14 rfl
theorem dX8_nativeWays_391 : decode cX8_nativeWays 391 = .ok (.aload_n 0, 1) := zdec_at bX8_nativeWays_363 15 rfl
theorem bX8_nativeWays_392 : zdec cX8_nativeWays 392 [(392, .getfield 1188, 3), (395, .bipush 6, 2), (397, .invokevirtual 1292, 3), (400, .return_, 1)] = true := by decide +kernel
theorem dX8_nativeWays_392 : decode cX8_nativeWays 392 = .ok (.getfield 1188, 3) := zdec_at bX8_nativeWays_392 0 rfl
theorem dX8_nativeWays_395 : decode cX8_nativeWays 395 = .ok (.bipush 6, 2) := zdec_at bX8_nativeWays_392 1 rfl
theorem dX8_nativeWays_397 : decode cX8_nativeWays 397 = .ok (.invokevirtual 1292, 3) := zdec_at bX8_nativeWays_392 2 rfl
theorem dX8_nativeWays_400 : decode cX8_nativeWays 400 = .ok (.return_, 1) := zdec_at bX8_nativeWays_392 3 rfl
theorem sX8_nativeWays_0 {E : zE} {d : Nat} {Q : zO → zM → Prop} (M : zM) (l1 : Int32) (l2 : Int32) (l3 : Int32) (l4 : Int32) (l5 : Int32) (k : Zm E YX8_load d M (zargs 0 [vr (some (97, 1, 0)), vi (gi M 97 148)]) 0 [] (zma E YX8_nativeWays (d + 1) [(0, vr (some (97, 1, 0))), (1, vi l1), (2, vi l2), (3, vi l3), (4, vi l4), (5, vi l5)] 5 3 [] Q)) : Zm E YX8_nativeWays (d + 1) M [(0, vr (some (97, 1, 0))), (1, vi l1), (2, vi l2), (3, vi l3), (4, vi l4), (5, vi l5)] 0 [] Q := by
  refine Zm.l (fun _ _ k_ => z_aload_n dX8_nativeWays_0 rfl rfl k_) ?_
  refine Zm.l (fun _ _ k_ => z_aload_n dX8_nativeWays_1 rfl rfl k_) ?_
  refine zm_geti dX8_nativeWays_2 fsX8_1188_1 (by decide) (by decide) ?_
  exact zm_callV (as := [vi (gi M 97 148)]) (st := []) dX8_nativeWays_5 vsX8_1211_1 (Nat.le_refl _) (Nat.le_of_ble_eq_true rfl) (Nat.le_of_ble_eq_true rfl) rfl k
theorem sX8_nativeWays_8 {E : zE} {d : Nat} {Q : zO → zM → Prop} (M : zM) (l1 : Int32) (l2 : Int32) (l3 : Int32) (l4 : Int32) (l5 : Int32) (k : Zm E YX8_empty d M (zargs 0 [vr (some (97, 1, 0)), vi (647760 : Int32)]) 0 [] (zma E YX8_nativeWays (d + 1) [(0, vr (some (97, 1, 0))), (1, vi l1), (2, vi l2), (3, vi l3), (4, vi l4), (5, vi l5), (6, vi (647760 : Int32)), (7, vi (647761 : Int32)), (8, vi (647762 : Int32))] 26 3 [] Q)) : Zm E YX8_nativeWays (d + 1) M [(0, vr (some (97, 1, 0))), (1, vi l1), (2, vi l2), (3, vi l3), (4, vi l4), (5, vi l5)] 8 [] Q := by
  refine Zm.l (fun _ _ k_ => z_ldcw (v := 647760) dX8_nativeWays_8 q5094 k_) ?_
  refine Zm.l (fun _ _ k_ => z_ist dX8_nativeWays_11 (by decide) (lv' := [(0, vr (some (97, 1, 0))), (1, vi l1), (2, vi l2), (3, vi l3), (4, vi l4), (5, vi l5), (6, vi (647760 : Int32))]) rfl k_) ?_
  refine Zm.l (fun _ _ k_ => z_ldcw (v := 647761) dX8_nativeWays_13 q5095 k_) ?_
  refine Zm.l (fun _ _ k_ => z_ist dX8_nativeWays_16 (by decide) (lv' := [(0, vr (some (97, 1, 0))), (1, vi l1), (2, vi l2), (3, vi l3), (4, vi l4), (5, vi l5), (6, vi (647760 : Int32)), (7, vi (647761 : Int32))]) rfl k_) ?_
  refine Zm.l (fun _ _ k_ => z_ldcw (v := 647762) dX8_nativeWays_18 q5096 k_) ?_
  refine Zm.l (fun _ _ k_ => z_ist dX8_nativeWays_21 (by decide) (lv' := [(0, vr (some (97, 1, 0))), (1, vi l1), (2, vi l2), (3, vi l3), (4, vi l4), (5, vi l5), (6, vi (647760 : Int32)), (7, vi (647761 : Int32)), (8, vi (647762 : Int32))]) rfl k_) ?_
  refine Zm.l (fun _ _ k_ => z_aload_n dX8_nativeWays_23 rfl rfl k_) ?_
  refine Zm.l (fun _ _ k_ => z_iload dX8_nativeWays_24 rfl k_) ?_
  exact zm_callV (as := [vi (647760 : Int32)]) (st := []) dX8_nativeWays_26 vsX8_1066_1 (Nat.le_refl _) (Nat.le_of_ble_eq_true rfl) (Nat.le_of_ble_eq_true rfl) rfl k
theorem sX8_nativeWays_29 {E : zE} {d : Nat} {Q : zO → zM → Prop} (M : zM) (l1 : Int32) (l2 : Int32) (l3 : Int32) (l4 : Int32) (l5 : Int32) (l6 : Int32) (l7 : Int32) (l8 : Int32) (k : Zm E YX8_empty d M (zargs 0 [vr (some (97, 1, 0)), vi l7]) 0 [] (zma E YX8_nativeWays (d + 1) [(0, vr (some (97, 1, 0))), (1, vi l1), (2, vi l2), (3, vi l3), (4, vi l4), (5, vi l5), (6, vi l6), (7, vi l7), (8, vi l8)] 32 3 [] Q)) : Zm E YX8_nativeWays (d + 1) M [(0, vr (some (97, 1, 0))), (1, vi l1), (2, vi l2), (3, vi l3), (4, vi l4), (5, vi l5), (6, vi l6), (7, vi l7), (8, vi l8)] 29 [] Q := by
  refine Zm.l (fun _ _ k_ => z_aload_n dX8_nativeWays_29 rfl rfl k_) ?_
  refine Zm.l (fun _ _ k_ => z_iload dX8_nativeWays_30 rfl k_) ?_
  exact zm_callV (as := [vi l7]) (st := []) dX8_nativeWays_32 vsX8_1066_1 (Nat.le_refl _) (Nat.le_of_ble_eq_true rfl) (Nat.le_of_ble_eq_true rfl) rfl k
theorem sX8_nativeWays_35 {E : zE} {d : Nat} {Q : zO → zM → Prop} (M : zM) (l1 : Int32) (l2 : Int32) (l3 : Int32) (l4 : Int32) (l5 : Int32) (l6 : Int32) (l7 : Int32) (l8 : Int32) (k : Zm E YX8_empty d M (zargs 0 [vr (some (97, 1, 0)), vi l8]) 0 [] (zma E YX8_nativeWays (d + 1) [(0, vr (some (97, 1, 0))), (1, vi l1), (2, vi l2), (3, vi l3), (4, vi l4), (5, vi l5), (6, vi l6), (7, vi l7), (8, vi l8)] 38 3 [] Q)) : Zm E YX8_nativeWays (d + 1) M [(0, vr (some (97, 1, 0))), (1, vi l1), (2, vi l2), (3, vi l3), (4, vi l4), (5, vi l5), (6, vi l6), (7, vi l7), (8, vi l8)] 35 [] Q := by
  refine Zm.l (fun _ _ k_ => z_aload_n dX8_nativeWays_35 rfl rfl k_) ?_
  refine Zm.l (fun _ _ k_ => z_iload dX8_nativeWays_36 rfl k_) ?_
  exact zm_callV (as := [vi l8]) (st := []) dX8_nativeWays_38 vsX8_1066_1 (Nat.le_refl _) (Nat.le_of_ble_eq_true rfl) (Nat.le_of_ble_eq_true rfl) rfl k
theorem sX8_nativeWays_41 {E : zE} {d : Nat} {Q : zO → zM → Prop} (M : zM) (l1 : Int32) (l2 : Int32) (l3 : Int32) (l4 : Int32) (l5 : Int32) (l6 : Int32) (l7 : Int32) (l8 : Int32) (k : if l4 ≤ 0 then (Zm E YX8_addSort d M (zargs 0 [vr (some (97, 1, 0)), vi l7, vi (1 : Int32)]) 0 [] (zma E YX8_nativeWays (d + 1) [(0, vr (some (97, 1, 0))), (1, vi l1), (2, vi l2), (4, vi l4), (5, vi l5), (6, vi l6), (7, vi l7), (8, vi l8)] 67 3 [] Q)) else (Zm E YX8_onStack d M (zargs 0 [vr (some (97, 1, 0)), vi (639 : Int32), vi l3]) 0 [] (zma E YX8_nativeWays (d + 1) [(0, vr (some (97, 1, 0))), (1, vi l1), (2, vi l2), (4, vi l4), (5, vi l5), (6, vi l6), (7, vi l7), (8, vi l8)] 52 3 [vr (some (97, 1, 0))] Q))) : Zm E YX8_nativeWays (d + 1) M [(0, vr (some (97, 1, 0))), (1, vi l1), (2, vi l2), (3, vi l3), (4, vi l4), (5, vi l5), (6, vi l6), (7, vi l7), (8, vi l8)] 41 [] Q := by
  refine Zm.l (fun _ _ k_ => z_iload dX8_nativeWays_41 rfl k_) ?_
  refine Zm.br (fun _ _ k1_ k2_ => z_if_le (tgt := 63) dX8_nativeWays_43 rfl k1_ k2_) (fun h_ => ?_) (fun h_ => ?_)
  · have k := zit h_ k
    refine Zm.l (fun _ _ k_ => z_aload_n dX8_nativeWays_63 rfl rfl k_) ?_
    refine Zm.l (fun _ _ k_ => z_iload dX8_nativeWays_64 rfl k_) ?_
    refine Zm.l (fun _ _ k_ => z_iconst (v := 1) dX8_nativeWays_66 rfl k_) ?_
    refine Zm.pick [0, 1, 2, 4, 5, 6, 7, 8] rfl ?_
    exact zm_callV (as := [vi l7, vi (1 : Int32)]) (st := []) dX8_nativeWays_67 vsX8_1072_1 (Nat.le_refl _) (Nat.le_of_ble_eq_true rfl) (Nat.le_of_ble_eq_true rfl) rfl k
  · have k := zif h_ k
    refine Zm.l (fun _ _ k_ => z_aload_n dX8_nativeWays_46 rfl rfl k_) ?_
    refine Zm.l (fun _ _ k_ => z_aload_n dX8_nativeWays_47 rfl rfl k_) ?_
    refine Zm.l (fun _ _ k_ => z_sipush (v := 639) dX8_nativeWays_48 rfl k_) ?_
    refine Zm.l (fun _ _ k_ => z_iload_n dX8_nativeWays_51 rfl rfl k_) ?_
    refine Zm.pick [0, 1, 2, 4, 5, 6, 7, 8] rfl ?_
    exact zm_callV (as := [vi (639 : Int32), vi l3]) (st := [vr (some (97, 1, 0))]) dX8_nativeWays_52 vsX8_1323_1 (Nat.le_refl _) (Nat.le_of_ble_eq_true rfl) (Nat.le_of_ble_eq_true rfl) rfl k
theorem sX8_nativeWays_55 {E : zE} {d : Nat} {Q : zO → zM → Prop} (M : zM) (l1 : Int32) (l2 : Int32) (l4 : Int32) (l5 : Int32) (l6 : Int32) (l7 : Int32) (l8 : Int32) (s0 : Int32) (k : Zm E YX8_copySet d M (zargs 0 [vr (some (97, 1, 0)), vi s0, vi l7]) 0 [] (zma E YX8_nativeWays (d + 1) [(0, vr (some (97, 1, 0))), (1, vi l1), (2, vi l2), (4, vi l4), (5, vi l5), (6, vi l6), (7, vi l7), (8, vi l8)] 57 3 [] Q)) : Zm E YX8_nativeWays (d + 1) M [(0, vr (some (97, 1, 0))), (1, vi l1), (2, vi l2), (4, vi l4), (5, vi l5), (6, vi l6), (7, vi l7), (8, vi l8)] 55 [vi s0, vr (some (97, 1, 0))] Q := by
  refine Zm.l (fun _ _ k_ => z_iload dX8_nativeWays_55 rfl k_) ?_
  exact zm_callV (as := [vi s0, vi l7]) (st := []) dX8_nativeWays_57 vsX8_1092_1 (Nat.le_refl _) (Nat.le_of_ble_eq_true rfl) (Nat.le_of_ble_eq_true rfl) rfl k
theorem sX8_nativeWays_60 {E : zE} {d : Nat} {Q : zO → zM → Prop} (M : zM) (l1 : Int32) (l2 : Int32) (l4 : Int32) (l5 : Int32) (l6 : Int32) (l7 : Int32) (l8 : Int32) (k : Zm E YX8_nativeWays (d + 1) M [(0, vr (some (97, 1, 0))), (1, vi l1), (2, vi l2), (4, vi l4), (5, vi l5), (6, vi l6), (7, vi l7), (8, vi l8)] 70 [] Q) : Zm E YX8_nativeWays (d + 1) M [(0, vr (some (97, 1, 0))), (1, vi l1), (2, vi l2), (4, vi l4), (5, vi l5), (6, vi l6), (7, vi l7), (8, vi l8)] 60 [] Q := by
  refine Zm.l (fun _ _ k_ => z_goto (tgt := 70) dX8_nativeWays_60 rfl k_) ?_
  exact k
theorem sX8_nativeWays_70 {E : zE} {d : Nat} {Q : zO → zM → Prop} (M : zM) (l1 : Int32) (l2 : Int32) (l4 : Int32) (l5 : Int32) (l6 : Int32) (l7 : Int32) (l8 : Int32) (k : if l2 = (-1 : Int32) then (Zm E YX8_addSort d M (zargs 0 [vr (some (97, 1, 0)), vi l8, vi (1 : Int32)]) 0 [] (zma E YX8_nativeWays (d + 1) [(0, vr (some (97, 1, 0))), (1, vi l1), (4, vi l4), (5, vi l5), (6, vi l6), (7, vi l7), (8, vi l8)] 79 3 [] Q)) else (Zm E YX8_onStack d M (zargs 0 [vr (some (97, 1, 0)), vi (639 : Int32), vi l2]) 0 [] (zma E YX8_nativeWays (d + 1) [(0, vr (some (97, 1, 0))), (1, vi l1), (4, vi l4), (5, vi l5), (6, vi l6), (7, vi l7), (8, vi l8)] 91 3 [vr (some (97, 1, 0))] Q))) : Zm E YX8_nativeWays (d + 1) M [(0, vr (some (97, 1, 0))), (1, vi l1), (2, vi l2), (4, vi l4), (5, vi l5), (6, vi l6), (7, vi l7), (8, vi l8)] 70 [] Q := by
  refine Zm.l (fun _ _ k_ => z_iload_n dX8_nativeWays_70 rfl rfl k_) ?_
  refine Zm.l (fun _ _ k_ => z_iconst (v := -1) dX8_nativeWays_71 rfl k_) ?_
  refine Zm.brn (fun _ _ k1_ k2_ => z_icmp_ne (tgt := 85) dX8_nativeWays_72 rfl k1_ k2_) (fun h_ => ?_) (fun h_ => ?_)
  · have k := zif h_ k
    refine Zm.l (fun _ _ k_ => z_aload_n dX8_nativeWays_85 rfl rfl k_) ?_
    refine Zm.l (fun _ _ k_ => z_aload_n dX8_nativeWays_86 rfl rfl k_) ?_
    refine Zm.l (fun _ _ k_ => z_sipush (v := 639) dX8_nativeWays_87 rfl k_) ?_
    refine Zm.l (fun _ _ k_ => z_iload_n dX8_nativeWays_90 rfl rfl k_) ?_
    refine Zm.pick [0, 1, 3, 4, 5, 6, 7] rfl ?_
    exact zm_callV (as := [vi (639 : Int32), vi l2]) (st := [vr (some (97, 1, 0))]) dX8_nativeWays_91 vsX8_1323_1 (Nat.le_refl _) (Nat.le_of_ble_eq_true rfl) (Nat.le_of_ble_eq_true rfl) rfl k
  · have k := zit h_ k
    refine Zm.l (fun _ _ k_ => z_aload_n dX8_nativeWays_75 rfl rfl k_) ?_
    refine Zm.l (fun _ _ k_ => z_iload dX8_nativeWays_76 rfl k_) ?_
    refine Zm.l (fun _ _ k_ => z_iconst (v := 1) dX8_nativeWays_78 rfl k_) ?_
    refine Zm.pick [0, 1, 3, 4, 5, 6, 7] rfl ?_
    exact zm_callV (as := [vi l8, vi (1 : Int32)]) (st := []) dX8_nativeWays_79 vsX8_1072_1 (Nat.le_refl _) (Nat.le_of_ble_eq_true rfl) (Nat.le_of_ble_eq_true rfl) rfl k
theorem sX8_nativeWays_82 {E : zE} {d : Nat} {Q : zO → zM → Prop} (M : zM) (l1 : Int32) (l4 : Int32) (l5 : Int32) (l6 : Int32) (l7 : Int32) (l8 : Int32) (k : Zm E YX8_nativeWays (d + 1) M [(0, vr (some (97, 1, 0))), (1, vi l1), (4, vi l4), (5, vi l5), (6, vi l6), (7, vi l7), (8, vi l8)] 99 [] Q) : Zm E YX8_nativeWays (d + 1) M [(0, vr (some (97, 1, 0))), (1, vi l1), (4, vi l4), (5, vi l5), (6, vi l6), (7, vi l7), (8, vi l8)] 82 [] Q := by
  refine Zm.l (fun _ _ k_ => z_goto (tgt := 99) dX8_nativeWays_82 rfl k_) ?_
  exact k
theorem sX8_nativeWays_94 {E : zE} {d : Nat} {Q : zO → zM → Prop} (M : zM) (l1 : Int32) (l4 : Int32) (l5 : Int32) (l6 : Int32) (l7 : Int32) (l8 : Int32) (s0 : Int32) (k : Zm E YX8_copySet d M (zargs 0 [vr (some (97, 1, 0)), vi s0, vi l8]) 0 [] (zma E YX8_nativeWays (d + 1) [(0, vr (some (97, 1, 0))), (1, vi l1), (4, vi l4), (5, vi l5), (6, vi l6), (7, vi l7), (8, vi l8)] 96 3 [] Q)) : Zm E YX8_nativeWays (d + 1) M [(0, vr (some (97, 1, 0))), (1, vi l1), (4, vi l4), (5, vi l5), (6, vi l6), (7, vi l7), (8, vi l8)] 94 [vi s0, vr (some (97, 1, 0))] Q := by
  refine Zm.l (fun _ _ k_ => z_iload dX8_nativeWays_94 rfl k_) ?_
  exact zm_callV (as := [vi s0, vi l8]) (st := []) dX8_nativeWays_96 vsX8_1092_1 (Nat.le_refl _) (Nat.le_of_ble_eq_true rfl) (Nat.le_of_ble_eq_true rfl) rfl k
theorem sX8_nativeWays_99 {E : zE} {d : Nat} {Q : zO → zM → Prop} (M : zM) (l1 : Int32) (l4 : Int32) (l5 : Int32) (l6 : Int32) (l7 : Int32) (l8 : Int32) (k : if l1 = 9 then (Zm E YX8_addSort d M (zargs 0 [vr (some (97, 1, 0)), vi l6, vi (1 : Int32)]) 0 [] (zma E YX8_nativeWays (d + 1) [(0, vr (some (97, 1, 0))), (5, vi l5), (6, vi l6), (9, vi (0 : Int32))] 176 3 [] Q)) else (if l1 = 10 then (Zm E YX8_addNew d M (zargs 0 [vr (some (97, 1, 0)), vi (23 : Int32), vi (1 : Int32), vi (0 : Int32), vi (-1 : Int32)]) 0 [] (zma E YX8_nativeWays (d + 1) [(0, vr (some (97, 1, 0))), (5, vi l5), (6, vi l6), (9, vi (0 : Int32))] 188 3 [] Q)) else (if l1 = 11 then (Zm E YX8_addNew d M (zargs 0 [vr (some (97, 1, 0)), vi (24 : Int32), vi (3 : Int32), vi (1 : Int32), vi (-1 : Int32)]) 0 [] (zma E YX8_nativeWays (d + 1) [(0, vr (some (97, 1, 0))), (5, vi l5), (6, vi l6), (9, vi (0 : Int32))] 208 3 [] Q)) else (if l1 = 12 then (if l4 = 0 then (Zm E YX8_addString d M (zargs 0 [vr (some (97, 1, 0)), vi l6, vi (30 : Int32)]) 0 [] (zma E YX8_nativeWays (d + 1) [(0, vr (some (97, 1, 0))), (5, vi l5), (6, vi l6), (9, vi (0 : Int32))] 232 3 [] Q)) else (Zm E YX8_addTextOf d M (zargs 0 [vr (some (97, 1, 0)), vi l7, vi l6]) 0 [] (zma E YX8_nativeWays (d + 1) [(0, vr (some (97, 1, 0))), (5, vi l5), (6, vi l6), (9, vi (0 : Int32))] 243 3 [] Q))) else (if l1 = 13 then (Zm E YX8_isNaNOf d M (zargs 0 [vr (some (97, 1, 0)), vi l7, vi l6]) 0 [] (zma E YX8_nativeWays (d + 1) [(0, vr (some (97, 1, 0))), (5, vi l5), (6, vi l6), (9, vi (0 : Int32))] 254 3 [] Q)) else (if l1 = 14 then (if l4 ≤ 0 then (Zm E YX8_addNew d M (zargs 0 [vr (some (97, 1, 0)), vi (l1 + (11 : Int32)), vi (l1 - (9 : Int32)), vi (0 : Int32), vi (-1 : Int32)]) 0 [] (zma E YX8_nativeWays (d + 1) [(0, vr (some (97, 1, 0))), (1, vi l1), (5, vi l5), (6, vi l6), (9, vi (0 : Int32))] 364 3 [] Q)) else (Zm E YX8_addNew d M (zargs 0 [vr (some (97, 1, 0)), vi (l1 + (11 : Int32)), vi (l1 - (9 : Int32)), vi (0 : Int32), vi l7]) 0 [] (zma E YX8_nativeWays (d + 1) [(0, vr (some (97, 1, 0))), (1, vi l1), (5, vi l5), (6, vi l6), (9, vi (0 : Int32))] 364 3 [] Q))) else (if l1 = 15 then (if l4 ≤ 0 then (Zm E YX8_addNew d M (zargs 0 [vr (some (97, 1, 0)), vi (l1 + (11 : Int32)), vi (l1 - (9 : Int32)), vi (0 : Int32), vi (-1 : Int32)]) 0 [] (zma E YX8_nativeWays (d + 1) [(0, vr (some (97, 1, 0))), (1, vi l1), (5, vi l5), (6, vi l6), (9, vi (0 : Int32))] 364 3 [] Q)) else (Zm E YX8_addNew d M (zargs 0 [vr (some (97, 1, 0)), vi (l1 + (11 : Int32)), vi (l1 - (9 : Int32)), vi (0 : Int32), vi l7]) 0 [] (zma E YX8_nativeWays (d + 1) [(0, vr (some (97, 1, 0))), (1, vi l1), (5, vi l5), (6, vi l6), (9, vi (0 : Int32))] 364 3 [] Q))) else (if l1 = 16 then (if l4 ≤ 0 then (Zm E YX8_addNew d M (zargs 0 [vr (some (97, 1, 0)), vi (l1 + (11 : Int32)), vi (l1 - (9 : Int32)), vi (0 : Int32), vi (-1 : Int32)]) 0 [] (zma E YX8_nativeWays (d + 1) [(0, vr (some (97, 1, 0))), (1, vi l1), (5, vi l5), (6, vi l6), (9, vi (0 : Int32))] 364 3 [] Q)) else (Zm E YX8_addNew d M (zargs 0 [vr (some (97, 1, 0)), vi (l1 + (11 : Int32)), vi (l1 - (9 : Int32)), vi (0 : Int32), vi l7]) 0 [] (zma E YX8_nativeWays (d + 1) [(0, vr (some (97, 1, 0))), (1, vi l1), (5, vi l5), (6, vi l6), (9, vi (0 : Int32))] 364 3 [] Q))) else (if l1 = 17 then (if l4 ≤ 0 then (Zm E YX8_addNew d M (zargs 0 [vr (some (97, 1, 0)), vi (l1 + (11 : Int32)), vi (l1 - (9 : Int32)), vi (0 : Int32), vi (-1 : Int32)]) 0 [] (zma E YX8_nativeWays (d + 1) [(0, vr (some (97, 1, 0))), (1, vi l1), (5, vi l5), (6, vi l6), (9, vi (0 : Int32))] 364 3 [] Q)) else (Zm E YX8_addNew d M (zargs 0 [vr (some (97, 1, 0)), vi (l1 + (11 : Int32)), vi (l1 - (9 : Int32)), vi (0 : Int32), vi l7]) 0 [] (zma E YX8_nativeWays (d + 1) [(0, vr (some (97, 1, 0))), (1, vi l1), (5, vi l5), (6, vi l6), (9, vi (0 : Int32))] 364 3 [] Q))) else (if l1 = 18 then (Zm E YX8_rowWays d M (zargs 0 [vr (some (97, 1, 0)), vi l1, vi l8, vi l7, vi l6]) 0 [] (zma E YX8_nativeWays (d + 1) [(0, vr (some (97, 1, 0))), (5, vi l5), (6, vi l6)] 268 3 [] Q)) else (if l1 = 19 then (Zm E YX8_rowWays d M (zargs 0 [vr (some (97, 1, 0)), vi l1, vi l8, vi l7, vi l6]) 0 [] (zma E YX8_nativeWays (d + 1) [(0, vr (some (97, 1, 0))), (5, vi l5), (6, vi l6)] 268 3 [] Q)) else (if l1 = 20 then (if l4 ≤ 0 then (Zm E YX8_addNew d M (zargs 0 [vr (some (97, 1, 0)), vi (l1 + (11 : Int32)), vi (l1 - (9 : Int32)), vi (0 : Int32), vi (-1 : Int32)]) 0 [] (zma E YX8_nativeWays (d + 1) [(0, vr (some (97, 1, 0))), (1, vi l1), (5, vi l5), (6, vi l6), (9, vi (0 : Int32))] 364 3 [] Q)) else (Zm E YX8_addNew d M (zargs 0 [vr (some (97, 1, 0)), vi (l1 + (11 : Int32)), vi (l1 - (9 : Int32)), vi (0 : Int32), vi l7]) 0 [] (zma E YX8_nativeWays (d + 1) [(0, vr (some (97, 1, 0))), (1, vi l1), (5, vi l5), (6, vi l6), (9, vi (0 : Int32))] 364 3 [] Q))) else (if l1 = 21 then (Zm E YX8_ownWays d M (zargs 0 [vr (some (97, 1, 0)), vi l8, vi l7, vi l6]) 0 [] (zma E YX8_nativeWays (d + 1) [(0, vr (some (97, 1, 0))), (5, vi l5), (6, vi l6)] 283 3 [] Q)) else (if l1 = 22 then (Zm E YX8_plainly d M (zargs 0 [vr (some (97, 1, 0)), vi l8]) 0 [] (zma E YX8_nativeWays (d + 1) [(0, vr (some (97, 1, 0))), (5, vi l5), (6, vi l6), (8, vi l8)] 294 3 [] Q)) else (if l4 ≤ 0 then (Zm E YX8_addNew d M (zargs 0 [vr (some (97, 1, 0)), vi (l1 + (11 : Int32)), vi (l1 - (9 : Int32)), vi (0 : Int32), vi (-1 : Int32)]) 0 [] (zma E YX8_nativeWays (d + 1) [(0, vr (some (97, 1, 0))), (1, vi l1), (5, vi l5), (6, vi l6), (9, vi (0 : Int32))] 364 3 [] Q)) else (Zm E YX8_addNew d M (zargs 0 [vr (some (97, 1, 0)), vi (l1 + (11 : Int32)), vi (l1 - (9 : Int32)), vi (0 : Int32), vi l7]) 0 [] (zma E YX8_nativeWays (d + 1) [(0, vr (some (97, 1, 0))), (1, vi l1), (5, vi l5), (6, vi l6), (9, vi (0 : Int32))] 364 3 [] Q))))))))))))))))) : Zm E YX8_nativeWays (d + 1) M [(0, vr (some (97, 1, 0))), (1, vi l1), (4, vi l4), (5, vi l5), (6, vi l6), (7, vi l7), (8, vi l8)] 99 [] Q := by
  refine Zm.l (fun _ _ k_ => z_iconst (v := 0) dX8_nativeWays_99 rfl k_) ?_
  refine Zm.l (fun _ _ k_ => z_ist dX8_nativeWays_100 (by decide) (lv' := [(0, vr (some (97, 1, 0))), (1, vi l1), (4, vi l4), (5, vi l5), (6, vi l6), (7, vi l7), (8, vi l8), (9, vi (0 : Int32))]) rfl k_) ?_
  refine Zm.l (fun _ _ k_ => z_iload_n dX8_nativeWays_102 rfl rfl k_) ?_
  by_cases h0_ : l1 = 9
  · have k := zit h0_ k
    refine Zm.l (fun _ _ k_ => z_tableIn (off := 69) (tgt := 172) dX8_nativeWays_103 (by rw [h0_]; decide) (by rw [h0_]; decide) (by rw [h0_]; rfl) rfl k_) ?_
    refine Zm.l (fun _ _ k_ => z_aload_n dX8_nativeWays_172 rfl rfl k_) ?_
    refine Zm.l (fun _ _ k_ => z_iload dX8_nativeWays_173 rfl k_) ?_
    refine Zm.l (fun _ _ k_ => z_iconst (v := 1) dX8_nativeWays_175 rfl k_) ?_
    refine Zm.pick [0, 3, 4, 7] rfl ?_
    exact zm_callV (as := [vi l6, vi (1 : Int32)]) (st := []) dX8_nativeWays_176 vsX8_1072_1 (Nat.le_refl _) (Nat.le_of_ble_eq_true rfl) (Nat.le_of_ble_eq_true rfl) rfl k
  · have k := zif h0_ k
    by_cases h1_ : l1 = 10
    · have k := zit h1_ k
      refine Zm.l (fun _ _ k_ => z_tableIn (off := 79) (tgt := 182) dX8_nativeWays_103 (by rw [h1_]; decide) (by rw [h1_]; decide) (by rw [h1_]; rfl) rfl k_) ?_
      refine Zm.l (fun _ _ k_ => z_aload_n dX8_nativeWays_182 rfl rfl k_) ?_
      refine Zm.l (fun _ _ k_ => z_bipush (v := 23) dX8_nativeWays_183 rfl k_) ?_
      refine Zm.l (fun _ _ k_ => z_iconst (v := 1) dX8_nativeWays_185 rfl k_) ?_
      refine Zm.l (fun _ _ k_ => z_iconst (v := 0) dX8_nativeWays_186 rfl k_) ?_
      refine Zm.l (fun _ _ k_ => z_iconst (v := -1) dX8_nativeWays_187 rfl k_) ?_
      refine Zm.pick [0, 3, 4, 7] rfl ?_
      exact zm_callV (as := [vi (23 : Int32), vi (1 : Int32), vi (0 : Int32), vi (-1 : Int32)]) (st := []) dX8_nativeWays_188 vsX8_1204_1 (Nat.le_refl _) (Nat.le_of_ble_eq_true rfl) (Nat.le_of_ble_eq_true rfl) rfl k
    · have k := zif h1_ k
      by_cases h2_ : l1 = 11
      · have k := zit h2_ k
        refine Zm.l (fun _ _ k_ => z_tableIn (off := 99) (tgt := 202) dX8_nativeWays_103 (by rw [h2_]; decide) (by rw [h2_]; decide) (by rw [h2_]; rfl) rfl k_) ?_
        refine Zm.l (fun _ _ k_ => z_aload_n dX8_nativeWays_202 rfl rfl k_) ?_
        refine Zm.l (fun _ _ k_ => z_bipush (v := 24) dX8_nativeWays_203 rfl k_) ?_
        refine Zm.l (fun _ _ k_ => z_iconst (v := 3) dX8_nativeWays_205 rfl k_) ?_
        refine Zm.l (fun _ _ k_ => z_iconst (v := 1) dX8_nativeWays_206 rfl k_) ?_
        refine Zm.l (fun _ _ k_ => z_iconst (v := -1) dX8_nativeWays_207 rfl k_) ?_
        refine Zm.pick [0, 3, 4, 7] rfl ?_
        exact zm_callV (as := [vi (24 : Int32), vi (3 : Int32), vi (1 : Int32), vi (-1 : Int32)]) (st := []) dX8_nativeWays_208 vsX8_1204_1 (Nat.le_refl _) (Nat.le_of_ble_eq_true rfl) (Nat.le_of_ble_eq_true rfl) rfl k
      · have k := zif h2_ k
        by_cases h3_ : l1 = 12
        · have k := zit h3_ k
          refine Zm.l (fun _ _ k_ => z_tableIn (off := 119) (tgt := 222) dX8_nativeWays_103 (by rw [h3_]; decide) (by rw [h3_]; decide) (by rw [h3_]; rfl) rfl k_) ?_
          refine Zm.l (fun _ _ k_ => z_iload dX8_nativeWays_222 rfl k_) ?_
          refine Zm.brn (fun _ _ k1_ k2_ => z_if_ne (tgt := 238) dX8_nativeWays_224 rfl k1_ k2_) (fun h_ => ?_) (fun h_ => ?_)
          · have k := zif h_ k
            refine Zm.l (fun _ _ k_ => z_aload_n dX8_nativeWays_238 rfl rfl k_) ?_
            refine Zm.l (fun _ _ k_ => z_iload dX8_nativeWays_239 rfl k_) ?_
            refine Zm.l (fun _ _ k_ => z_iload dX8_nativeWays_241 rfl k_) ?_
            refine Zm.pick [0, 3, 4, 7] rfl ?_
            exact zm_callV (as := [vi l7, vi l6]) (st := []) dX8_nativeWays_243 vsX8_1172_1 (Nat.le_refl _) (Nat.le_of_ble_eq_true rfl) (Nat.le_of_ble_eq_true rfl) rfl k
          · have k := zit h_ k
            refine Zm.l (fun _ _ k_ => z_aload_n dX8_nativeWays_227 rfl rfl k_) ?_
            refine Zm.l (fun _ _ k_ => z_iload dX8_nativeWays_228 rfl k_) ?_
            refine Zm.l (fun _ _ k_ => z_bipush (v := 30) dX8_nativeWays_230 rfl k_) ?_
            refine Zm.pick [0, 3, 4, 7] rfl ?_
            exact zm_callV (as := [vi l6, vi (30 : Int32)]) (st := []) dX8_nativeWays_232 vsX8_1078_1 (Nat.le_refl _) (Nat.le_of_ble_eq_true rfl) (Nat.le_of_ble_eq_true rfl) rfl k
        · have k := zif h3_ k
          by_cases h4_ : l1 = 13
          · have k := zit h4_ k
            refine Zm.l (fun _ _ k_ => z_tableIn (off := 146) (tgt := 249) dX8_nativeWays_103 (by rw [h4_]; decide) (by rw [h4_]; decide) (by rw [h4_]; rfl) rfl k_) ?_
            refine Zm.l (fun _ _ k_ => z_aload_n dX8_nativeWays_249 rfl rfl k_) ?_
            refine Zm.l (fun _ _ k_ => z_iload dX8_nativeWays_250 rfl k_) ?_
            refine Zm.l (fun _ _ k_ => z_iload dX8_nativeWays_252 rfl k_) ?_
            refine Zm.pick [0, 3, 4, 7] rfl ?_
            exact zm_callV (as := [vi l7, vi l6]) (st := []) dX8_nativeWays_254 vsX8_1361_1 (Nat.le_refl _) (Nat.le_of_ble_eq_true rfl) (Nat.le_of_ble_eq_true rfl) rfl k
          · have k := zif h4_ k
            by_cases h5_ : l1 = 14
            · have k := zit h5_ k
              refine Zm.l (fun _ _ k_ => z_tableIn (off := 240) (tgt := 343) dX8_nativeWays_103 (by rw [h5_]; decide) (by rw [h5_]; decide) (by rw [h5_]; rfl) rfl k_) ?_
              refine Zm.l (fun _ _ k_ => z_aload_n dX8_nativeWays_343 rfl rfl k_) ?_
              refine Zm.l (fun _ _ k_ => z_iload_n dX8_nativeWays_344 rfl rfl k_) ?_
              refine Zm.l (fun _ _ k_ => z_bipush (v := 11) dX8_nativeWays_345 rfl k_) ?_
              refine Zm.l (fun _ _ k_ => z_iadd dX8_nativeWays_347 k_) ?_
              refine Zm.l (fun _ _ k_ => z_iload_n dX8_nativeWays_348 rfl rfl k_) ?_
              refine Zm.l (fun _ _ k_ => z_bipush (v := 9) dX8_nativeWays_349 rfl k_) ?_
              refine Zm.l (fun _ _ k_ => z_isub dX8_nativeWays_351 k_) ?_
              refine Zm.l (fun _ _ k_ => z_iconst (v := 0) dX8_nativeWays_352 rfl k_) ?_
              refine Zm.l (fun _ _ k_ => z_iload dX8_nativeWays_353 rfl k_) ?_
              refine Zm.br (fun _ _ k1_ k2_ => z_if_le (tgt := 363) dX8_nativeWays_355 rfl k1_ k2_) (fun h_ => ?_) (fun h_ => ?_)
              · have k := zit h_ k
                refine Zm.l (fun _ _ k_ => z_iconst (v := -1) dX8_nativeWays_363 rfl k_) ?_
                refine Zm.pick [0, 1, 3, 4, 7] rfl ?_
                exact zm_callV (as := [vi (l1 + (11 : Int32)), vi (l1 - (9 : Int32)), vi (0 : Int32), vi (-1 : Int32)]) (st := []) dX8_nativeWays_364 vsX8_1204_1 (Nat.le_refl _) (Nat.le_of_ble_eq_true rfl) (Nat.le_of_ble_eq_true rfl) rfl k
              · have k := zif h_ k
                refine Zm.l (fun _ _ k_ => z_iload dX8_nativeWays_358 rfl k_) ?_
                refine Zm.l (fun _ _ k_ => z_goto (tgt := 364) dX8_nativeWays_360 rfl k_) ?_
                refine Zm.pick [0, 1, 3, 4, 7] rfl ?_
                exact zm_callV (as := [vi (l1 + (11 : Int32)), vi (l1 - (9 : Int32)), vi (0 : Int32), vi l7]) (st := []) dX8_nativeWays_364 vsX8_1204_1 (Nat.le_refl _) (Nat.le_of_ble_eq_true rfl) (Nat.le_of_ble_eq_true rfl) rfl k
            · have k := zif h5_ k
              by_cases h6_ : l1 = 15
              · have k := zit h6_ k
                refine Zm.l (fun _ _ k_ => z_tableIn (off := 240) (tgt := 343) dX8_nativeWays_103 (by rw [h6_]; decide) (by rw [h6_]; decide) (by rw [h6_]; rfl) rfl k_) ?_
                refine Zm.l (fun _ _ k_ => z_aload_n dX8_nativeWays_343 rfl rfl k_) ?_
                refine Zm.l (fun _ _ k_ => z_iload_n dX8_nativeWays_344 rfl rfl k_) ?_
                refine Zm.l (fun _ _ k_ => z_bipush (v := 11) dX8_nativeWays_345 rfl k_) ?_
                refine Zm.l (fun _ _ k_ => z_iadd dX8_nativeWays_347 k_) ?_
                refine Zm.l (fun _ _ k_ => z_iload_n dX8_nativeWays_348 rfl rfl k_) ?_
                refine Zm.l (fun _ _ k_ => z_bipush (v := 9) dX8_nativeWays_349 rfl k_) ?_
                refine Zm.l (fun _ _ k_ => z_isub dX8_nativeWays_351 k_) ?_
                refine Zm.l (fun _ _ k_ => z_iconst (v := 0) dX8_nativeWays_352 rfl k_) ?_
                refine Zm.l (fun _ _ k_ => z_iload dX8_nativeWays_353 rfl k_) ?_
                refine Zm.br (fun _ _ k1_ k2_ => z_if_le (tgt := 363) dX8_nativeWays_355 rfl k1_ k2_) (fun h_ => ?_) (fun h_ => ?_)
                · have k := zit h_ k
                  refine Zm.l (fun _ _ k_ => z_iconst (v := -1) dX8_nativeWays_363 rfl k_) ?_
                  refine Zm.pick [0, 1, 3, 4, 7] rfl ?_
                  exact zm_callV (as := [vi (l1 + (11 : Int32)), vi (l1 - (9 : Int32)), vi (0 : Int32), vi (-1 : Int32)]) (st := []) dX8_nativeWays_364 vsX8_1204_1 (Nat.le_refl _) (Nat.le_of_ble_eq_true rfl) (Nat.le_of_ble_eq_true rfl) rfl k
                · have k := zif h_ k
                  refine Zm.l (fun _ _ k_ => z_iload dX8_nativeWays_358 rfl k_) ?_
                  refine Zm.l (fun _ _ k_ => z_goto (tgt := 364) dX8_nativeWays_360 rfl k_) ?_
                  refine Zm.pick [0, 1, 3, 4, 7] rfl ?_
                  exact zm_callV (as := [vi (l1 + (11 : Int32)), vi (l1 - (9 : Int32)), vi (0 : Int32), vi l7]) (st := []) dX8_nativeWays_364 vsX8_1204_1 (Nat.le_refl _) (Nat.le_of_ble_eq_true rfl) (Nat.le_of_ble_eq_true rfl) rfl k
              · have k := zif h6_ k
                by_cases h7_ : l1 = 16
                · have k := zit h7_ k
                  refine Zm.l (fun _ _ k_ => z_tableIn (off := 240) (tgt := 343) dX8_nativeWays_103 (by rw [h7_]; decide) (by rw [h7_]; decide) (by rw [h7_]; rfl) rfl k_) ?_
                  refine Zm.l (fun _ _ k_ => z_aload_n dX8_nativeWays_343 rfl rfl k_) ?_
                  refine Zm.l (fun _ _ k_ => z_iload_n dX8_nativeWays_344 rfl rfl k_) ?_
                  refine Zm.l (fun _ _ k_ => z_bipush (v := 11) dX8_nativeWays_345 rfl k_) ?_
                  refine Zm.l (fun _ _ k_ => z_iadd dX8_nativeWays_347 k_) ?_
                  refine Zm.l (fun _ _ k_ => z_iload_n dX8_nativeWays_348 rfl rfl k_) ?_
                  refine Zm.l (fun _ _ k_ => z_bipush (v := 9) dX8_nativeWays_349 rfl k_) ?_
                  refine Zm.l (fun _ _ k_ => z_isub dX8_nativeWays_351 k_) ?_
                  refine Zm.l (fun _ _ k_ => z_iconst (v := 0) dX8_nativeWays_352 rfl k_) ?_
                  refine Zm.l (fun _ _ k_ => z_iload dX8_nativeWays_353 rfl k_) ?_
                  refine Zm.br (fun _ _ k1_ k2_ => z_if_le (tgt := 363) dX8_nativeWays_355 rfl k1_ k2_) (fun h_ => ?_) (fun h_ => ?_)
                  · have k := zit h_ k
                    refine Zm.l (fun _ _ k_ => z_iconst (v := -1) dX8_nativeWays_363 rfl k_) ?_
                    refine Zm.pick [0, 1, 3, 4, 7] rfl ?_
                    exact zm_callV (as := [vi (l1 + (11 : Int32)), vi (l1 - (9 : Int32)), vi (0 : Int32), vi (-1 : Int32)]) (st := []) dX8_nativeWays_364 vsX8_1204_1 (Nat.le_refl _) (Nat.le_of_ble_eq_true rfl) (Nat.le_of_ble_eq_true rfl) rfl k
                  · have k := zif h_ k
                    refine Zm.l (fun _ _ k_ => z_iload dX8_nativeWays_358 rfl k_) ?_
                    refine Zm.l (fun _ _ k_ => z_goto (tgt := 364) dX8_nativeWays_360 rfl k_) ?_
                    refine Zm.pick [0, 1, 3, 4, 7] rfl ?_
                    exact zm_callV (as := [vi (l1 + (11 : Int32)), vi (l1 - (9 : Int32)), vi (0 : Int32), vi l7]) (st := []) dX8_nativeWays_364 vsX8_1204_1 (Nat.le_refl _) (Nat.le_of_ble_eq_true rfl) (Nat.le_of_ble_eq_true rfl) rfl k
                · have k := zif h7_ k
                  by_cases h8_ : l1 = 17
                  · have k := zit h8_ k
                    refine Zm.l (fun _ _ k_ => z_tableIn (off := 240) (tgt := 343) dX8_nativeWays_103 (by rw [h8_]; decide) (by rw [h8_]; decide) (by rw [h8_]; rfl) rfl k_) ?_
                    refine Zm.l (fun _ _ k_ => z_aload_n dX8_nativeWays_343 rfl rfl k_) ?_
                    refine Zm.l (fun _ _ k_ => z_iload_n dX8_nativeWays_344 rfl rfl k_) ?_
                    refine Zm.l (fun _ _ k_ => z_bipush (v := 11) dX8_nativeWays_345 rfl k_) ?_
                    refine Zm.l (fun _ _ k_ => z_iadd dX8_nativeWays_347 k_) ?_
                    refine Zm.l (fun _ _ k_ => z_iload_n dX8_nativeWays_348 rfl rfl k_) ?_
                    refine Zm.l (fun _ _ k_ => z_bipush (v := 9) dX8_nativeWays_349 rfl k_) ?_
                    refine Zm.l (fun _ _ k_ => z_isub dX8_nativeWays_351 k_) ?_
                    refine Zm.l (fun _ _ k_ => z_iconst (v := 0) dX8_nativeWays_352 rfl k_) ?_
                    refine Zm.l (fun _ _ k_ => z_iload dX8_nativeWays_353 rfl k_) ?_
                    refine Zm.br (fun _ _ k1_ k2_ => z_if_le (tgt := 363) dX8_nativeWays_355 rfl k1_ k2_) (fun h_ => ?_) (fun h_ => ?_)
                    · have k := zit h_ k
                      refine Zm.l (fun _ _ k_ => z_iconst (v := -1) dX8_nativeWays_363 rfl k_) ?_
                      refine Zm.pick [0, 1, 3, 4, 7] rfl ?_
                      exact zm_callV (as := [vi (l1 + (11 : Int32)), vi (l1 - (9 : Int32)), vi (0 : Int32), vi (-1 : Int32)]) (st := []) dX8_nativeWays_364 vsX8_1204_1 (Nat.le_refl _) (Nat.le_of_ble_eq_true rfl) (Nat.le_of_ble_eq_true rfl) rfl k
                    · have k := zif h_ k
                      refine Zm.l (fun _ _ k_ => z_iload dX8_nativeWays_358 rfl k_) ?_
                      refine Zm.l (fun _ _ k_ => z_goto (tgt := 364) dX8_nativeWays_360 rfl k_) ?_
                      refine Zm.pick [0, 1, 3, 4, 7] rfl ?_
                      exact zm_callV (as := [vi (l1 + (11 : Int32)), vi (l1 - (9 : Int32)), vi (0 : Int32), vi l7]) (st := []) dX8_nativeWays_364 vsX8_1204_1 (Nat.le_refl _) (Nat.le_of_ble_eq_true rfl) (Nat.le_of_ble_eq_true rfl) rfl k
                  · have k := zif h8_ k
                    by_cases h9_ : l1 = 18
                    · have k := zit h9_ k
                      refine Zm.l (fun _ _ k_ => z_tableIn (off := 157) (tgt := 260) dX8_nativeWays_103 (by rw [h9_]; decide) (by rw [h9_]; decide) (by rw [h9_]; rfl) rfl k_) ?_
                      refine Zm.l (fun _ _ k_ => z_aload_n dX8_nativeWays_260 rfl rfl k_) ?_
                      refine Zm.l (fun _ _ k_ => z_iload_n dX8_nativeWays_261 rfl rfl k_) ?_
                      refine Zm.l (fun _ _ k_ => z_iload dX8_nativeWays_262 rfl k_) ?_
                      refine Zm.l (fun _ _ k_ => z_iload dX8_nativeWays_264 rfl k_) ?_
                      refine Zm.l (fun _ _ k_ => z_iload dX8_nativeWays_266 rfl k_) ?_
                      refine Zm.pick [0, 3, 4] rfl ?_
                      exact zm_callV (as := [vi l1, vi l8, vi l7, vi l6]) (st := []) dX8_nativeWays_268 vsX8_1364_1 (Nat.le_refl _) (Nat.le_of_ble_eq_true rfl) (Nat.le_of_ble_eq_true rfl) rfl k
                    · have k := zif h9_ k
                      by_cases h10_ : l1 = 19
                      · have k := zit h10_ k
                        refine Zm.l (fun _ _ k_ => z_tableIn (off := 157) (tgt := 260) dX8_nativeWays_103 (by rw [h10_]; decide) (by rw [h10_]; decide) (by rw [h10_]; rfl) rfl k_) ?_
                        refine Zm.l (fun _ _ k_ => z_aload_n dX8_nativeWays_260 rfl rfl k_) ?_
                        refine Zm.l (fun _ _ k_ => z_iload_n dX8_nativeWays_261 rfl rfl k_) ?_
                        refine Zm.l (fun _ _ k_ => z_iload dX8_nativeWays_262 rfl k_) ?_
                        refine Zm.l (fun _ _ k_ => z_iload dX8_nativeWays_264 rfl k_) ?_
                        refine Zm.l (fun _ _ k_ => z_iload dX8_nativeWays_266 rfl k_) ?_
                        refine Zm.pick [0, 3, 4] rfl ?_
                        exact zm_callV (as := [vi l1, vi l8, vi l7, vi l6]) (st := []) dX8_nativeWays_268 vsX8_1364_1 (Nat.le_refl _) (Nat.le_of_ble_eq_true rfl) (Nat.le_of_ble_eq_true rfl) rfl k
                      · have k := zif h10_ k
                        by_cases h11_ : l1 = 20
                        · have k := zit h11_ k
                          refine Zm.l (fun _ _ k_ => z_tableIn (off := 240) (tgt := 343) dX8_nativeWays_103 (by rw [h11_]; decide) (by rw [h11_]; decide) (by rw [h11_]; rfl) rfl k_) ?_
                          refine Zm.l (fun _ _ k_ => z_aload_n dX8_nativeWays_343 rfl rfl k_) ?_
                          refine Zm.l (fun _ _ k_ => z_iload_n dX8_nativeWays_344 rfl rfl k_) ?_
                          refine Zm.l (fun _ _ k_ => z_bipush (v := 11) dX8_nativeWays_345 rfl k_) ?_
                          refine Zm.l (fun _ _ k_ => z_iadd dX8_nativeWays_347 k_) ?_
                          refine Zm.l (fun _ _ k_ => z_iload_n dX8_nativeWays_348 rfl rfl k_) ?_
                          refine Zm.l (fun _ _ k_ => z_bipush (v := 9) dX8_nativeWays_349 rfl k_) ?_
                          refine Zm.l (fun _ _ k_ => z_isub dX8_nativeWays_351 k_) ?_
                          refine Zm.l (fun _ _ k_ => z_iconst (v := 0) dX8_nativeWays_352 rfl k_) ?_
                          refine Zm.l (fun _ _ k_ => z_iload dX8_nativeWays_353 rfl k_) ?_
                          refine Zm.br (fun _ _ k1_ k2_ => z_if_le (tgt := 363) dX8_nativeWays_355 rfl k1_ k2_) (fun h_ => ?_) (fun h_ => ?_)
                          · have k := zit h_ k
                            refine Zm.l (fun _ _ k_ => z_iconst (v := -1) dX8_nativeWays_363 rfl k_) ?_
                            refine Zm.pick [0, 1, 3, 4, 7] rfl ?_
                            exact zm_callV (as := [vi (l1 + (11 : Int32)), vi (l1 - (9 : Int32)), vi (0 : Int32), vi (-1 : Int32)]) (st := []) dX8_nativeWays_364 vsX8_1204_1 (Nat.le_refl _) (Nat.le_of_ble_eq_true rfl) (Nat.le_of_ble_eq_true rfl) rfl k
                          · have k := zif h_ k
                            refine Zm.l (fun _ _ k_ => z_iload dX8_nativeWays_358 rfl k_) ?_
                            refine Zm.l (fun _ _ k_ => z_goto (tgt := 364) dX8_nativeWays_360 rfl k_) ?_
                            refine Zm.pick [0, 1, 3, 4, 7] rfl ?_
                            exact zm_callV (as := [vi (l1 + (11 : Int32)), vi (l1 - (9 : Int32)), vi (0 : Int32), vi l7]) (st := []) dX8_nativeWays_364 vsX8_1204_1 (Nat.le_refl _) (Nat.le_of_ble_eq_true rfl) (Nat.le_of_ble_eq_true rfl) rfl k
                        · have k := zif h11_ k
                          by_cases h12_ : l1 = 21
                          · have k := zit h12_ k
                            refine Zm.l (fun _ _ k_ => z_tableIn (off := 173) (tgt := 276) dX8_nativeWays_103 (by rw [h12_]; decide) (by rw [h12_]; decide) (by rw [h12_]; rfl) rfl k_) ?_
                            refine Zm.l (fun _ _ k_ => z_aload_n dX8_nativeWays_276 rfl rfl k_) ?_
                            refine Zm.l (fun _ _ k_ => z_iload dX8_nativeWays_277 rfl k_) ?_
                            refine Zm.l (fun _ _ k_ => z_iload dX8_nativeWays_279 rfl k_) ?_
                            refine Zm.l (fun _ _ k_ => z_iload dX8_nativeWays_281 rfl k_) ?_
                            refine Zm.pick [0, 3, 4] rfl ?_
                            exact zm_callV (as := [vi l8, vi l7, vi l6]) (st := []) dX8_nativeWays_283 vsX8_1367_1 (Nat.le_refl _) (Nat.le_of_ble_eq_true rfl) (Nat.le_of_ble_eq_true rfl) rfl k
                          · have k := zif h12_ k
                            by_cases h13_ : l1 = 22
                            · have k := zit h13_ k
                              refine Zm.l (fun _ _ k_ => z_tableIn (off := 188) (tgt := 291) dX8_nativeWays_103 (by rw [h13_]; decide) (by rw [h13_]; decide) (by rw [h13_]; rfl) rfl k_) ?_
                              refine Zm.l (fun _ _ k_ => z_aload_n dX8_nativeWays_291 rfl rfl k_) ?_
                              refine Zm.l (fun _ _ k_ => z_iload dX8_nativeWays_292 rfl k_) ?_
                              refine Zm.pick [0, 3, 4, 6] rfl ?_
                              exact zm_callV (as := [vi l8]) (st := []) dX8_nativeWays_294 vsX8_1059_1 (Nat.le_refl _) (Nat.le_of_ble_eq_true rfl) (Nat.le_of_ble_eq_true rfl) rfl k
                            · have k := zif h13_ k
                              refine Zm.l (fun _ _ k_ => z_tout (tgt := 343) [9, 10, 11, 12, 13, 14, 15, 16, 17, 18, 19, 20, 21, 22] (by decide) dX8_nativeWays_103 (zall_1 h0_ (zall_1 h1_ (zall_1 h2_ (zall_1 h3_ (zall_1 h4_ (zall_1 h5_ (zall_1 h6_ (zall_1 h7_ (zall_1 h8_ (zall_1 h9_ (zall_1 h10_ (zall_1 h11_ (zall_1 h12_ (zall_1 h13_ zall_0)))))))))))))) rfl k_) ?_
                              refine Zm.l (fun _ _ k_ => z_aload_n dX8_nativeWays_343 rfl rfl k_) ?_
                              refine Zm.l (fun _ _ k_ => z_iload_n dX8_nativeWays_344 rfl rfl k_) ?_
                              refine Zm.l (fun _ _ k_ => z_bipush (v := 11) dX8_nativeWays_345 rfl k_) ?_
                              refine Zm.l (fun _ _ k_ => z_iadd dX8_nativeWays_347 k_) ?_
                              refine Zm.l (fun _ _ k_ => z_iload_n dX8_nativeWays_348 rfl rfl k_) ?_
                              refine Zm.l (fun _ _ k_ => z_bipush (v := 9) dX8_nativeWays_349 rfl k_) ?_
                              refine Zm.l (fun _ _ k_ => z_isub dX8_nativeWays_351 k_) ?_
                              refine Zm.l (fun _ _ k_ => z_iconst (v := 0) dX8_nativeWays_352 rfl k_) ?_
                              refine Zm.l (fun _ _ k_ => z_iload dX8_nativeWays_353 rfl k_) ?_
                              refine Zm.br (fun _ _ k1_ k2_ => z_if_le (tgt := 363) dX8_nativeWays_355 rfl k1_ k2_) (fun h_ => ?_) (fun h_ => ?_)
                              · have k := zit h_ k
                                refine Zm.l (fun _ _ k_ => z_iconst (v := -1) dX8_nativeWays_363 rfl k_) ?_
                                refine Zm.pick [0, 1, 3, 4, 7] rfl ?_
                                exact zm_callV (as := [vi (l1 + (11 : Int32)), vi (l1 - (9 : Int32)), vi (0 : Int32), vi (-1 : Int32)]) (st := []) dX8_nativeWays_364 vsX8_1204_1 (Nat.le_refl _) (Nat.le_of_ble_eq_true rfl) (Nat.le_of_ble_eq_true rfl) rfl k
                              · have k := zif h_ k
                                refine Zm.l (fun _ _ k_ => z_iload dX8_nativeWays_358 rfl k_) ?_
                                refine Zm.l (fun _ _ k_ => z_goto (tgt := 364) dX8_nativeWays_360 rfl k_) ?_
                                refine Zm.pick [0, 1, 3, 4, 7] rfl ?_
                                exact zm_callV (as := [vi (l1 + (11 : Int32)), vi (l1 - (9 : Int32)), vi (0 : Int32), vi l7]) (st := []) dX8_nativeWays_364 vsX8_1204_1 (Nat.le_refl _) (Nat.le_of_ble_eq_true rfl) (Nat.le_of_ble_eq_true rfl) rfl k
theorem sX8_nativeWays_179 {E : zE} {d : Nat} {Q : zO → zM → Prop} (M : zM) (l5 : Int32) (l6 : Int32) (l9 : Int32) (k : Zm E YX8_nativeWays (d + 1) M [(0, vr (some (97, 1, 0))), (5, vi l5), (6, vi l6), (9, vi l9)] 377 [] Q) : Zm E YX8_nativeWays (d + 1) M [(0, vr (some (97, 1, 0))), (5, vi l5), (6, vi l6), (9, vi l9)] 179 [] Q := by
  refine Zm.l (fun _ _ k_ => z_goto (tgt := 377) dX8_nativeWays_179 rfl k_) ?_
  exact k
theorem sX8_nativeWays_191 {E : zE} {d : Nat} {Q : zO → zM → Prop} (M : zM) (l5 : Int32) (l6 : Int32) (l9 : Int32) (k : Zm E YX8_addLabel d M (zargs 0 [vr (some (97, 1, 0)), vi l6, vi (23 : Int32)]) 0 [] (zma E YX8_nativeWays (d + 1) [(0, vr (some (97, 1, 0))), (5, vi l5), (6, vi l6), (9, vi l9)] 196 3 [] Q)) : Zm E YX8_nativeWays (d + 1) M [(0, vr (some (97, 1, 0))), (5, vi l5), (6, vi l6), (9, vi l9)] 191 [] Q := by
  refine Zm.l (fun _ _ k_ => z_aload_n dX8_nativeWays_191 rfl rfl k_) ?_
  refine Zm.l (fun _ _ k_ => z_iload dX8_nativeWays_192 rfl k_) ?_
  refine Zm.l (fun _ _ k_ => z_bipush (v := 23) dX8_nativeWays_194 rfl k_) ?_
  exact zm_callV (as := [vi l6, vi (23 : Int32)]) (st := []) dX8_nativeWays_196 vsX8_1081_1 (Nat.le_refl _) (Nat.le_of_ble_eq_true rfl) (Nat.le_of_ble_eq_true rfl) rfl k
theorem sX8_nativeWays_199 {E : zE} {d : Nat} {Q : zO → zM → Prop} (M : zM) (l5 : Int32) (l6 : Int32) (l9 : Int32) (k : Zm E YX8_nativeWays (d + 1) M [(0, vr (some (97, 1, 0))), (5, vi l5), (6, vi l6), (9, vi l9)] 377 [] Q) : Zm E YX8_nativeWays (d + 1) M [(0, vr (some (97, 1, 0))), (5, vi l5), (6, vi l6), (9, vi l9)] 199 [] Q := by
  refine Zm.l (fun _ _ k_ => z_goto (tgt := 377) dX8_nativeWays_199 rfl k_) ?_
  exact k
theorem sX8_nativeWays_211 {E : zE} {d : Nat} {Q : zO → zM → Prop} (M : zM) (l5 : Int32) (l6 : Int32) (l9 : Int32) (k : Zm E YX8_addLabel d M (zargs 0 [vr (some (97, 1, 0)), vi l6, vi (24 : Int32)]) 0 [] (zma E YX8_nativeWays (d + 1) [(0, vr (some (97, 1, 0))), (5, vi l5), (6, vi l6), (9, vi l9)] 216 3 [] Q)) : Zm E YX8_nativeWays (d + 1) M [(0, vr (some (97, 1, 0))), (5, vi l5), (6, vi l6), (9, vi l9)] 211 [] Q := by
  refine Zm.l (fun _ _ k_ => z_aload_n dX8_nativeWays_211 rfl rfl k_) ?_
  refine Zm.l (fun _ _ k_ => z_iload dX8_nativeWays_212 rfl k_) ?_
  refine Zm.l (fun _ _ k_ => z_bipush (v := 24) dX8_nativeWays_214 rfl k_) ?_
  exact zm_callV (as := [vi l6, vi (24 : Int32)]) (st := []) dX8_nativeWays_216 vsX8_1081_1 (Nat.le_refl _) (Nat.le_of_ble_eq_true rfl) (Nat.le_of_ble_eq_true rfl) rfl k
theorem sX8_nativeWays_219 {E : zE} {d : Nat} {Q : zO → zM → Prop} (M : zM) (l5 : Int32) (l6 : Int32) (l9 : Int32) (k : Zm E YX8_nativeWays (d + 1) M [(0, vr (some (97, 1, 0))), (5, vi l5), (6, vi l6), (9, vi l9)] 377 [] Q) : Zm E YX8_nativeWays (d + 1) M [(0, vr (some (97, 1, 0))), (5, vi l5), (6, vi l6), (9, vi l9)] 219 [] Q := by
  refine Zm.l (fun _ _ k_ => z_goto (tgt := 377) dX8_nativeWays_219 rfl k_) ?_
  exact k
theorem sX8_nativeWays_235 {E : zE} {d : Nat} {Q : zO → zM → Prop} (M : zM) (l5 : Int32) (l6 : Int32) (l9 : Int32) (k : Zm E YX8_nativeWays (d + 1) M [(0, vr (some (97, 1, 0))), (5, vi l5), (6, vi l6), (9, vi l9)] 377 [] Q) : Zm E YX8_nativeWays (d + 1) M [(0, vr (some (97, 1, 0))), (5, vi l5), (6, vi l6), (9, vi l9)] 235 [] Q := by
  refine Zm.l (fun _ _ k_ => z_goto (tgt := 377) dX8_nativeWays_235 rfl k_) ?_
  exact k
theorem sX8_nativeWays_246 {E : zE} {d : Nat} {Q : zO → zM → Prop} (M : zM) (l5 : Int32) (l6 : Int32) (l9 : Int32) (k : Zm E YX8_nativeWays (d + 1) M [(0, vr (some (97, 1, 0))), (5, vi l5), (6, vi l6), (9, vi l9)] 377 [] Q) : Zm E YX8_nativeWays (d + 1) M [(0, vr (some (97, 1, 0))), (5, vi l5), (6, vi l6), (9, vi l9)] 246 [] Q := by
  refine Zm.l (fun _ _ k_ => z_goto (tgt := 377) dX8_nativeWays_246 rfl k_) ?_
  exact k
theorem sX8_nativeWays_257 {E : zE} {d : Nat} {Q : zO → zM → Prop} (M : zM) (l5 : Int32) (l6 : Int32) (l9 : Int32) (k : Zm E YX8_nativeWays (d + 1) M [(0, vr (some (97, 1, 0))), (5, vi l5), (6, vi l6), (9, vi l9)] 377 [] Q) : Zm E YX8_nativeWays (d + 1) M [(0, vr (some (97, 1, 0))), (5, vi l5), (6, vi l6), (9, vi l9)] 257 [] Q := by
  refine Zm.l (fun _ _ k_ => z_goto (tgt := 377) dX8_nativeWays_257 rfl k_) ?_
  exact k
theorem sX8_nativeWays_271 {E : zE} {d : Nat} {Q : zO → zM → Prop} (M : zM) (l5 : Int32) (l6 : Int32) (s0 : Int32) (k : Zm E YX8_nativeWays (d + 1) M [(0, vr (some (97, 1, 0))), (5, vi l5), (6, vi l6), (9, vi s0)] 377 [] Q) : Zm E YX8_nativeWays (d + 1) M [(0, vr (some (97, 1, 0))), (5, vi l5), (6, vi l6)] 271 [vi s0] Q := by
  refine Zm.l (fun _ _ k_ => z_ist dX8_nativeWays_271 (by decide) (lv' := [(0, vr (some (97, 1, 0))), (5, vi l5), (6, vi l6), (9, vi s0)]) rfl k_) ?_
  refine Zm.l (fun _ _ k_ => z_goto (tgt := 377) dX8_nativeWays_273 rfl k_) ?_
  exact k
theorem sX8_nativeWays_286 {E : zE} {d : Nat} {Q : zO → zM → Prop} (M : zM) (l5 : Int32) (l6 : Int32) (s0 : Int32) (k : Zm E YX8_nativeWays (d + 1) M [(0, vr (some (97, 1, 0))), (5, vi l5), (6, vi l6), (9, vi s0)] 377 [] Q) : Zm E YX8_nativeWays (d + 1) M [(0, vr (some (97, 1, 0))), (5, vi l5), (6, vi l6)] 286 [vi s0] Q := by
  refine Zm.l (fun _ _ k_ => z_ist dX8_nativeWays_286 (by decide) (lv' := [(0, vr (some (97, 1, 0))), (5, vi l5), (6, vi l6), (9, vi s0)]) rfl k_) ?_
  refine Zm.l (fun _ _ k_ => z_goto (tgt := 377) dX8_nativeWays_288 rfl k_) ?_
  exact k
theorem sX8_nativeWays_297 {E : zE} {d : Nat} {Q : zO → zM → Prop} (M : zM) (l5 : Int32) (l6 : Int32) (l8 : Int32) (s0 : Int32) (k : if (s0 &&& (-385 : Int32)) = 0 then (Zm E YX8_hasLabels d M (zargs 0 [vr (some (97, 1, 0)), vi l8]) 0 [] (zma E YX8_nativeWays (d + 1) [(0, vr (some (97, 1, 0))), (5, vi l5), (6, vi l6), (8, vi l8)] 307 3 [] Q)) else (Zm E YX8_plainly d M (zargs 0 [vr (some (97, 1, 0)), vi l8]) 0 [] (zma E YX8_nativeWays (d + 1) [(0, vr (some (97, 1, 0))), (5, vi l5), (6, vi l6), (9, vi (1 : Int32))] 323 3 [] Q))) : Zm E YX8_nativeWays (d + 1) M [(0, vr (some (97, 1, 0))), (5, vi l5), (6, vi l6), (8, vi l8)] 297 [vi s0] Q := by
  refine Zm.l (fun _ _ k_ => z_sipush (v := -385) dX8_nativeWays_297 rfl k_) ?_
  refine Zm.l (fun _ _ k_ => z_iand dX8_nativeWays_300 k_) ?_
  refine Zm.brn (fun _ _ k1_ k2_ => z_if_ne (tgt := 313) dX8_nativeWays_301 rfl k1_ k2_) (fun h_ => ?_) (fun h_ => ?_)
  · have k := zif h_ k
    refine Zm.l (fun _ _ k_ => z_iconst (v := 1) dX8_nativeWays_313 rfl k_) ?_
    refine Zm.l (fun _ _ k_ => z_goto (tgt := 318) dX8_nativeWays_314 rfl k_) ?_
    refine Zm.l (fun _ _ k_ => z_ist dX8_nativeWays_318 (by decide) (lv' := [(0, vr (some (97, 1, 0))), (5, vi l5), (6, vi l6), (8, vi l8), (9, vi (1 : Int32))]) rfl k_) ?_
    refine Zm.l (fun _ _ k_ => z_aload_n dX8_nativeWays_320 rfl rfl k_) ?_
    refine Zm.l (fun _ _ k_ => z_iload dX8_nativeWays_321 rfl k_) ?_
    refine Zm.pick [0, 1, 2, 4] rfl ?_
    exact zm_callV (as := [vi l8]) (st := []) dX8_nativeWays_323 vsX8_1059_1 (Nat.le_refl _) (Nat.le_of_ble_eq_true rfl) (Nat.le_of_ble_eq_true rfl) rfl k
  · have k := zit h_ k
    refine Zm.l (fun _ _ k_ => z_aload_n dX8_nativeWays_304 rfl rfl k_) ?_
    refine Zm.l (fun _ _ k_ => z_iload dX8_nativeWays_305 rfl k_) ?_
    exact zm_callV (as := [vi l8]) (st := []) dX8_nativeWays_307 vsX8_1062_1 (Nat.le_refl _) (Nat.le_of_ble_eq_true rfl) (Nat.le_of_ble_eq_true rfl) rfl k
theorem sX8_nativeWays_310 {E : zE} {d : Nat} {Q : zO → zM → Prop} (M : zM) (l5 : Int32) (l6 : Int32) (l8 : Int32) (s0 : Int32) (k : if s0 = 0 then (Zm E YX8_plainly d M (zargs 0 [vr (some (97, 1, 0)), vi l8]) 0 [] (zma E YX8_nativeWays (d + 1) [(0, vr (some (97, 1, 0))), (5, vi l5), (6, vi l6), (9, vi (0 : Int32))] 323 3 [] Q)) else (Zm E YX8_plainly d M (zargs 0 [vr (some (97, 1, 0)), vi l8]) 0 [] (zma E YX8_nativeWays (d + 1) [(0, vr (some (97, 1, 0))), (5, vi l5), (6, vi l6), (9, vi (1 : Int32))] 323 3 [] Q))) : Zm E YX8_nativeWays (d + 1) M [(0, vr (some (97, 1, 0))), (5, vi l5), (6, vi l6), (8, vi l8)] 310 [vi s0] Q := by
  refine Zm.br (fun _ _ k1_ k2_ => z_if_eq (tgt := 317) dX8_nativeWays_310 rfl k1_ k2_) (fun h_ => ?_) (fun h_ => ?_)
  · have k := zit h_ k
    refine Zm.l (fun _ _ k_ => z_iconst (v := 0) dX8_nativeWays_317 rfl k_) ?_
    refine Zm.l (fun _ _ k_ => z_ist dX8_nativeWays_318 (by decide) (lv' := [(0, vr (some (97, 1, 0))), (5, vi l5), (6, vi l6), (8, vi l8), (9, vi (0 : Int32))]) rfl k_) ?_
    refine Zm.l (fun _ _ k_ => z_aload_n dX8_nativeWays_320 rfl rfl k_) ?_
    refine Zm.l (fun _ _ k_ => z_iload dX8_nativeWays_321 rfl k_) ?_
    refine Zm.pick [0, 1, 2, 4] rfl ?_
    exact zm_callV (as := [vi l8]) (st := []) dX8_nativeWays_323 vsX8_1059_1 (Nat.le_refl _) (Nat.le_of_ble_eq_true rfl) (Nat.le_of_ble_eq_true rfl) rfl k
  · have k := zif h_ k
    refine Zm.l (fun _ _ k_ => z_iconst (v := 1) dX8_nativeWays_313 rfl k_) ?_
    refine Zm.l (fun _ _ k_ => z_goto (tgt := 318) dX8_nativeWays_314 rfl k_) ?_
    refine Zm.l (fun _ _ k_ => z_ist dX8_nativeWays_318 (by decide) (lv' := [(0, vr (some (97, 1, 0))), (5, vi l5), (6, vi l6), (8, vi l8), (9, vi (1 : Int32))]) rfl k_) ?_
    refine Zm.l (fun _ _ k_ => z_aload_n dX8_nativeWays_320 rfl rfl k_) ?_
    refine Zm.l (fun _ _ k_ => z_iload dX8_nativeWays_321 rfl k_) ?_
    refine Zm.pick [0, 1, 2, 4] rfl ?_
    exact zm_callV (as := [vi l8]) (st := []) dX8_nativeWays_323 vsX8_1059_1 (Nat.le_refl _) (Nat.le_of_ble_eq_true rfl) (Nat.le_of_ble_eq_true rfl) rfl k
theorem sX8_nativeWays_326 {E : zE} {d : Nat} {Q : zO → zM → Prop} (M : zM) (l5 : Int32) (l6 : Int32) (l9 : Int32) (s0 : Int32) (k : if (s0 &&& (384 : Int32)) = 0 then (Zm E YX8_nativeWays (d + 1) M [(0, vr (some (97, 1, 0))), (5, vi l5), (6, vi l6), (9, vi l9)] 377 [] Q) else (Zm E YX8_addString d M (zargs 0 [vr (some (97, 1, 0)), vi l6, vi (-1 : Int32)]) 0 [] (zma E YX8_nativeWays (d + 1) [(0, vr (some (97, 1, 0))), (5, vi l5), (6, vi l6), (9, vi l9)] 337 3 [] Q))) : Zm E YX8_nativeWays (d + 1) M [(0, vr (some (97, 1, 0))), (5, vi l5), (6, vi l6), (9, vi l9)] 326 [vi s0] Q := by
  refine Zm.l (fun _ _ k_ => z_sipush (v := 384) dX8_nativeWays_326 rfl k_) ?_
  refine Zm.l (fun _ _ k_ => z_iand dX8_nativeWays_329 k_) ?_
  refine Zm.br (fun _ _ k1_ k2_ => z_if_eq (tgt := 377) dX8_nativeWays_330 rfl k1_ k2_) (fun h_ => ?_) (fun h_ => ?_)
  · have k := zit h_ k
    exact k
  · have k := zif h_ k
    refine Zm.l (fun _ _ k_ => z_aload_n dX8_nativeWays_333 rfl rfl k_) ?_
    refine Zm.l (fun _ _ k_ => z_iload dX8_nativeWays_334 rfl k_) ?_
    refine Zm.l (fun _ _ k_ => z_iconst (v := -1) dX8_nativeWays_336 rfl k_) ?_
    exact zm_callV (as := [vi l6, vi (-1 : Int32)]) (st := []) dX8_nativeWays_337 vsX8_1078_1 (Nat.le_refl _) (Nat.le_of_ble_eq_true rfl) (Nat.le_of_ble_eq_true rfl) rfl k
theorem sX8_nativeWays_340 {E : zE} {d : Nat} {Q : zO → zM → Prop} (M : zM) (l5 : Int32) (l6 : Int32) (l9 : Int32) (k : Zm E YX8_nativeWays (d + 1) M [(0, vr (some (97, 1, 0))), (5, vi l5), (6, vi l6), (9, vi l9)] 377 [] Q) : Zm E YX8_nativeWays (d + 1) M [(0, vr (some (97, 1, 0))), (5, vi l5), (6, vi l6), (9, vi l9)] 340 [] Q := by
  refine Zm.l (fun _ _ k_ => z_goto (tgt := 377) dX8_nativeWays_340 rfl k_) ?_
  exact k
theorem sX8_nativeWays_367 {E : zE} {d : Nat} {Q : zO → zM → Prop} (M : zM) (l1 : Int32) (l5 : Int32) (l6 : Int32) (l9 : Int32) (k : Zm E YX8_addLabel d M (zargs 0 [vr (some (97, 1, 0)), vi l6, vi (l1 + (11 : Int32))]) 0 [] (zma E YX8_nativeWays (d + 1) [(0, vr (some (97, 1, 0))), (5, vi l5), (6, vi l6), (9, vi l9)] 374 3 [] Q)) : Zm E YX8_nativeWays (d + 1) M [(0, vr (some (97, 1, 0))), (1, vi l1), (5, vi l5), (6, vi l6), (9, vi l9)] 367 [] Q := by
  refine Zm.l (fun _ _ k_ => z_aload_n dX8_nativeWays_367 rfl rfl k_) ?_
  refine Zm.l (fun _ _ k_ => z_iload dX8_nativeWays_368 rfl k_) ?_
  refine Zm.l (fun _ _ k_ => z_iload_n dX8_nativeWays_370 rfl rfl k_) ?_
  refine Zm.l (fun _ _ k_ => z_bipush (v := 11) dX8_nativeWays_371 rfl k_) ?_
  refine Zm.l (fun _ _ k_ => z_iadd dX8_nativeWays_373 k_) ?_
  refine Zm.pick [0, 2, 3, 4] rfl ?_
  exact zm_callV (as := [vi l6, vi (l1 + (11 : Int32))]) (st := []) dX8_nativeWays_374 vsX8_1081_1 (Nat.le_refl _) (Nat.le_of_ble_eq_true rfl) (Nat.le_of_ble_eq_true rfl) rfl k
theorem sX8_nativeWays_377 {E : zE} {d : Nat} {Q : zO → zM → Prop} (M : zM) (l5 : Int32) (l6 : Int32) (l9 : Int32) (k : Zm E YX8_replace d M (zargs 0 [vr (some (97, 1, 0)), vi l5, vi l6]) 0 [] (zma E YX8_nativeWays (d + 1) [(0, vr (some (97, 1, 0))), (9, vi l9)] 382 3 [] Q)) : Zm E YX8_nativeWays (d + 1) M [(0, vr (some (97, 1, 0))), (5, vi l5), (6, vi l6), (9, vi l9)] 377 [] Q := by
  refine Zm.l (fun _ _ k_ => z_aload_n dX8_nativeWays_377 rfl rfl k_) ?_
  refine Zm.l (fun _ _ k_ => z_iload dX8_nativeWays_378 rfl k_) ?_
  refine Zm.l (fun _ _ k_ => z_iload dX8_nativeWays_380 rfl k_) ?_
  refine Zm.pick [0, 3] rfl ?_
  exact zm_callV (as := [vi l5, vi l6]) (st := []) dX8_nativeWays_382 vsX8_1258_1 (Nat.le_refl _) (Nat.le_of_ble_eq_true rfl) (Nat.le_of_ble_eq_true rfl) rfl k
theorem sX8_nativeWays_385 {E : zE} {d : Nat} {Q : zO → zM → Prop} (M : zM) (l9 : Int32) (k : if l9 = 0 then (Zm E YX8_nativeWays (d + 1) M [] 400 [] Q) else (Zm E YX8_error_2 d M (zargs 0 [vr (some (97, 1, 0)), vi (gi M 97 148), vi (6 : Int32)]) 0 [] (zma E YX8_nativeWays (d + 1) [] 397 3 [] Q))) : Zm E YX8_nativeWays (d + 1) M [(0, vr (some (97, 1, 0))), (9, vi l9)] 385 [] Q := by
  refine Zm.l (fun _ _ k_ => z_iload dX8_nativeWays_385 rfl k_) ?_
  refine Zm.br (fun _ _ k1_ k2_ => z_if_eq (tgt := 400) dX8_nativeWays_387 rfl k1_ k2_) (fun h_ => ?_) (fun h_ => ?_)
  · have k := zit h_ k
    refine Zm.pick [] rfl ?_
    exact k
  · have k := zif h_ k
    refine Zm.l (fun _ _ k_ => z_aload_n dX8_nativeWays_390 rfl rfl k_) ?_
    refine Zm.l (fun _ _ k_ => z_aload_n dX8_nativeWays_391 rfl rfl k_) ?_
    refine zm_geti dX8_nativeWays_392 fsX8_1188_1 (by decide) (by decide) ?_
    refine Zm.l (fun _ _ k_ => z_bipush (v := 6) dX8_nativeWays_395 rfl k_) ?_
    refine Zm.pick [] rfl ?_
    exact zm_callV (as := [vi (gi M 97 148), vi (6 : Int32)]) (st := []) dX8_nativeWays_397 vsX8_1292_1 (Nat.le_refl _) (Nat.le_of_ble_eq_true rfl) (Nat.le_of_ble_eq_true rfl) rfl k
theorem sX8_nativeWays_400 {E : zE} {d : Nat} {Q : zO → zM → Prop} (M : zM)  (k : Q (.inl none) M) : Zm E YX8_nativeWays (d + 1) M [] 400 [] Q := by
  exact zm_vret dX8_nativeWays_400 rfl k
/-! ScriptTypesModel.isNaNOf(II)V -/
theorem bX8_isNaNOf_0 : zdec cX8_isNaNOf 0 [(0, .aload_n 0, 1), (1, .iload_n 1, 1), (2, .invokevirtual 1294, 3), (5, .ifCond .ne 11, 3), (8, .aload_n 0, 1), (9, .iload_n 2, 1), (10, .bipush 12, 2), (12, .invokevirtual 1072, 3), (15, .return_, 1), (16, .aload_n 0, 1), (17, .aload_n 0, 1), (18, .iload_n 1, 1), (19, .invokevirtual 1297, 3), (22, .aload_n 0, 1), (23, .iload_n 1, 1), (24, .invokevirtual 1300, 3)] = true := by decide +kernel
theorem dX8_isNaNOf_0 : decode cX8_isNaNOf 0 = .ok (.aload_n 0, 1) := zdec_at bX8_isNaNOf_0 0 rfl
theorem dX8_isNaNOf_1 : decode cX8_isNaNOf 1 = .ok (.iload_n 1, 1) := zdec_at bX8_isNaNOf_0 1 rfl
theorem dX8_isNaNOf_2 : decode cX8_isNaNOf 2 = .ok (.invokevirtual 1294, 3) := zdec_at bX8_isNaNOf_0 2 rfl
theorem dX8_isNaNOf_5 : decode cX8_isNaNOf 5 = .ok (.ifCond .ne 11, 3) := zdec_at bX8_isNaNOf_0 3 rfl
theorem dX8_isNaNOf_8 : decode cX8_isNaNOf 8 = .ok (.aload_n 0, 1) := zdec_at bX8_isNaNOf_0 4 rfl
theorem dX8_isNaNOf_9 : decode cX8_isNaNOf 9 = .ok (.iload_n 2, 1) := zdec_at bX8_isNaNOf_0 5 rfl
theorem dX8_isNaNOf_10 : decode cX8_isNaNOf 10 = .ok (.bipush 12, 2) := zdec_at bX8_isNaNOf_0 6 rfl
theorem dX8_isNaNOf_12 : decode cX8_isNaNOf 12 = .ok (.invokevirtual 1072, 3) := zdec_at bX8_isNaNOf_0 7 rfl
theorem dX8_isNaNOf_15 : decode cX8_isNaNOf 15 = .ok (.return_, 1) := zdec_at bX8_isNaNOf_0 8 rfl
theorem dX8_isNaNOf_16 : decode cX8_isNaNOf 16 = .ok (.aload_n 0, 1) := zdec_at bX8_isNaNOf_0 9 rfl
theorem dX8_isNaNOf_17 : decode cX8_isNaNOf 17 = .ok (.aload_n 0, 1) := zdec_at bX8_isNaNOf_0 10 rfl
theorem dX8_isNaNOf_18 : decode cX8_isNaNOf 18 = .ok (.iload_n 1, 1) := zdec_at bX8_isNaNOf_0 11 rfl
theorem dX8_isNaNOf_19 : decode cX8_isNaNOf 19 = .ok (.invokevirtual 1297, 3) := zdec_at bX8_isNaNOf_0 12 rfl
theorem dX8_isNaNOf_22 : decode cX8_isNaNOf 22 = .ok (.aload_n 0, 1) := zdec_at bX8_isNaNOf_0 13 rfl
theorem dX8_isNaNOf_23 : decode cX8_isNaNOf 23 = .ok (.iload_n 1, 1) := zdec_at bX8_isNaNOf_0 14 rfl
theorem dX8_isNaNOf_24 : decode cX8_isNaNOf 24 = .ok (.invokevirtual 1300, 3) := zdec_at bX8_isNaNOf_0 15 rfl
theorem bX8_isNaNOf_27 : zdec cX8_isNaNOf 27 [(27, .invokevirtual 816, 3), (30, .istore_n 3, 1), (31, .aload_n 0, 1), (32, .iload_n 2, 1), (33, .aload_n 0, 1), (34, .getfield 806, 3), (37, .ifCond .eq 8, 3), (40, .bipush 8, 2), (42, .goto 4, 3), (45, .iconst 4, 1), (46, .invokevirtual 1072, 3), (49, .return_, 1)] = true := by decide +kernel
theorem dX8_isNaNOf_27 : decode cX8_isNaNOf 27 = .ok (.invokevirtual 816, 3) := zdec_at bX8_isNaNOf_27 0 rfl
theorem dX8_isNaNOf_30 : decode cX8_isNaNOf 30 = .ok (.istore_n 3, 1) := zdec_at bX8_isNaNOf_27 1 rfl
theorem dX8_isNaNOf_31 : decode cX8_isNaNOf 31 = .ok (.aload_n 0, 1) := zdec_at bX8_isNaNOf_27 2 rfl
theorem dX8_isNaNOf_32 : decode cX8_isNaNOf 32 = .ok (.iload_n 2, 1) := zdec_at bX8_isNaNOf_27 3 rfl
theorem dX8_isNaNOf_33 : decode cX8_isNaNOf 33 = .ok (.aload_n 0, 1) := zdec_at bX8_isNaNOf_27 4 rfl
theorem dX8_isNaNOf_34 : decode cX8_isNaNOf 34 = .ok (.getfield 806, 3) := zdec_at bX8_isNaNOf_27 5 rfl
theorem dX8_isNaNOf_37 : decode cX8_isNaNOf 37 = .ok (.ifCond .eq 8, 3) := zdec_at bX8_isNaNOf_27 6 rfl
theorem dX8_isNaNOf_40 : decode cX8_isNaNOf 40 = .ok (.bipush 8, 2) := zdec_at bX8_isNaNOf_27 7 rfl
theorem dX8_isNaNOf_42 : decode cX8_isNaNOf 42 = .ok (.goto 4, 3) := zdec_at bX8_isNaNOf_27 8 rfl
theorem dX8_isNaNOf_45 : decode cX8_isNaNOf 45 = .ok (.iconst 4, 1) := zdec_at bX8_isNaNOf_27 9 rfl
theorem dX8_isNaNOf_46 : decode cX8_isNaNOf 46 = .ok (.invokevirtual 1072, 3) := zdec_at bX8_isNaNOf_27 10 rfl
theorem dX8_isNaNOf_49 : decode cX8_isNaNOf 49 = .ok (.return_, 1) := zdec_at bX8_isNaNOf_27 11 rfl
theorem sX8_isNaNOf_0 {E : zE} {d : Nat} {Q : zO → zM → Prop} (M : zM) (l1 : Int32) (l2 : Int32) (k : Zm E YX8_isAlone d M (zargs 0 [vr (some (97, 1, 0)), vi l1]) 0 [] (zma E YX8_isNaNOf (d + 1) [(0, vr (some (97, 1, 0))), (1, vi l1), (2, vi l2)] 2 3 [] Q)) : Zm E YX8_isNaNOf (d + 1) M [(0, vr (some (97, 1, 0))), (1, vi l1), (2, vi l2)] 0 [] Q := by
  refine Zm.l (fun _ _ k_ => z_aload_n dX8_isNaNOf_0 rfl rfl k_) ?_
  refine Zm.l (fun _ _ k_ => z_iload_n dX8_isNaNOf_1 rfl rfl k_) ?_
  exact zm_callV (as := [vi l1]) (st := []) dX8_isNaNOf_2 vsX8_1294_1 (Nat.le_refl _) (Nat.le_of_ble_eq_true rfl) (Nat.le_of_ble_eq_true rfl) rfl k
theorem sX8_isNaNOf_5 {E : zE} {d : Nat} {Q : zO → zM → Prop} (M : zM) (l1 : Int32) (l2 : Int32) (s0 : Int32) (k : if s0 = 0 then (Zm E YX8_addSort d M (zargs 0 [vr (some (97, 1, 0)), vi l2, vi (12 : Int32)]) 0 [] (zma E YX8_isNaNOf (d + 1) [] 12 3 [] Q)) else (Zm E YX8_sortOfAlone d M (zargs 0 [vr (some (97, 1, 0)), vi l1]) 0 [] (zma E YX8_isNaNOf (d + 1) [(0, vr (some (97, 1, 0))), (1, vi l1), (2, vi l2)] 19 3 [vr (some (97, 1, 0))] Q))) : Zm E YX8_isNaNOf (d + 1) M [(0, vr (some (97, 1, 0))), (1, vi l1), (2, vi l2)] 5 [vi s0] Q := by
  refine Zm.brn (fun _ _ k1_ k2_ => z_if_ne (tgt := 16) dX8_isNaNOf_5 rfl k1_ k2_) (fun h_ => ?_) (fun h_ => ?_)
  · have k := zif h_ k
    refine Zm.l (fun _ _ k_ => z_aload_n dX8_isNaNOf_16 rfl rfl k_) ?_
    refine Zm.l (fun _ _ k_ => z_aload_n dX8_isNaNOf_17 rfl rfl k_) ?_
    refine Zm.l (fun _ _ k_ => z_iload_n dX8_isNaNOf_18 rfl rfl k_) ?_
    exact zm_callV (as := [vi l1]) (st := [vr (some (97, 1, 0))]) dX8_isNaNOf_19 vsX8_1297_1 (Nat.le_refl _) (Nat.le_of_ble_eq_true rfl) (Nat.le_of_ble_eq_true rfl) rfl k
  · have k := zit h_ k
    refine Zm.l (fun _ _ k_ => z_aload_n dX8_isNaNOf_8 rfl rfl k_) ?_
    refine Zm.l (fun _ _ k_ => z_iload_n dX8_isNaNOf_9 rfl rfl k_) ?_
    refine Zm.l (fun _ _ k_ => z_bipush (v := 12) dX8_isNaNOf_10 rfl k_) ?_
    refine Zm.pick [] rfl ?_
    exact zm_callV (as := [vi l2, vi (12 : Int32)]) (st := []) dX8_isNaNOf_12 vsX8_1072_1 (Nat.le_refl _) (Nat.le_of_ble_eq_true rfl) (Nat.le_of_ble_eq_true rfl) rfl k
theorem sX8_isNaNOf_15 {E : zE} {d : Nat} {Q : zO → zM → Prop} (M : zM)  (k : Q (.inl none) M) : Zm E YX8_isNaNOf (d + 1) M [] 15 [] Q := by
  exact zm_vret dX8_isNaNOf_15 rfl k
theorem sX8_isNaNOf_22 {E : zE} {d : Nat} {Q : zO → zM → Prop} (M : zM) (l1 : Int32) (l2 : Int32) (s0 : Int32) (k : Zm E YX8_valueOfAlone d M (zargs 0 [vr (some (97, 1, 0)), vi l1]) 0 [] (zma E YX8_isNaNOf (d + 1) [(0, vr (some (97, 1, 0))), (2, vi l2)] 24 3 [vi s0, vr (some (97, 1, 0))] Q)) : Zm E YX8_isNaNOf (d + 1) M [(0, vr (some (97, 1, 0))), (1, vi l1), (2, vi l2)] 22 [vi s0, vr (some (97, 1, 0))] Q := by
  refine Zm.l (fun _ _ k_ => z_aload_n dX8_isNaNOf_22 rfl rfl k_) ?_
  refine Zm.l (fun _ _ k_ => z_iload_n dX8_isNaNOf_23 rfl rfl k_) ?_
  refine Zm.pick [0, 2] rfl ?_
  exact zm_callV (as := [vi l1]) (st := [vi s0, vr (some (97, 1, 0))]) dX8_isNaNOf_24 vsX8_1300_1 (Nat.le_refl _) (Nat.le_of_ble_eq_true rfl) (Nat.le_of_ble_eq_true rfl) rfl k
theorem sX8_isNaNOf_27 {E : zE} {d : Nat} {Q : zO → zM → Prop} (M : zM) (l2 : Int32) (s0 : Int32) (s1 : Int32) (k : Zm E YX8_numberOf d M (zargs 0 [vr (some (97, 1, 0)), vi s1, vi s0]) 0 [] (zma E YX8_isNaNOf (d + 1) [(0, vr (some (97, 1, 0))), (2, vi l2)] 27 3 [] Q)) : Zm E YX8_isNaNOf (d + 1) M [(0, vr (some (97, 1, 0))), (2, vi l2)] 27 [vi s0, vi s1, vr (some (97, 1, 0))] Q := by
  exact zm_callV (as := [vi s1, vi s0]) (st := []) dX8_isNaNOf_27 vsX8_816_1 (Nat.le_refl _) (Nat.le_of_ble_eq_true rfl) (Nat.le_of_ble_eq_true rfl) rfl k
theorem sX8_isNaNOf_30 {E : zE} {d : Nat} {Q : zO → zM → Prop} (M : zM) (l2 : Int32) (s0 : Int32) (k : if (gi M 97 113) = 0 then (Zm E YX8_addSort d M (zargs 0 [vr (some (97, 1, 0)), vi l2, vi (4 : Int32)]) 0 [] (zma E YX8_isNaNOf (d + 1) [] 46 3 [] Q)) else (Zm E YX8_addSort d M (zargs 0 [vr (some (97, 1, 0)), vi l2, vi (8 : Int32)]) 0 [] (zma E YX8_isNaNOf (d + 1) [] 46 3 [] Q))) : Zm E YX8_isNaNOf (d + 1) M [(0, vr (some (97, 1, 0))), (2, vi l2)] 30 [vi s0] Q := by
  refine Zm.l (fun _ _ k_ => z_ist_n dX8_isNaNOf_30 rfl (by decide) (lv' := [(0, vr (some (97, 1, 0))), (2, vi l2), (3, vi s0)]) rfl k_) ?_
  refine Zm.l (fun _ _ k_ => z_aload_n dX8_isNaNOf_31 rfl rfl k_) ?_
  refine Zm.l (fun _ _ k_ => z_iload_n dX8_isNaNOf_32 rfl rfl k_) ?_
  refine Zm.l (fun _ _ k_ => z_aload_n dX8_isNaNOf_33 rfl rfl k_) ?_
  refine zm_geti dX8_isNaNOf_34 fsX8_806_1 (by decide) (by decide) ?_
  refine Zm.br (fun _ _ k1_ k2_ => z_if_eq (tgt := 45) dX8_isNaNOf_37 rfl k1_ k2_) (fun h_ => ?_) (fun h_ => ?_)
  · have k := zit h_ k
    refine Zm.l (fun _ _ k_ => z_iconst (v := 4) dX8_isNaNOf_45 rfl k_) ?_
    refine Zm.pick [] rfl ?_
    exact zm_callV (as := [vi l2, vi (4 : Int32)]) (st := []) dX8_isNaNOf_46 vsX8_1072_1 (Nat.le_refl _) (Nat.le_of_ble_eq_true rfl) (Nat.le_of_ble_eq_true rfl) rfl k
  · have k := zif h_ k
    refine Zm.l (fun _ _ k_ => z_bipush (v := 8) dX8_isNaNOf_40 rfl k_) ?_
    refine Zm.l (fun _ _ k_ => z_goto (tgt := 46) dX8_isNaNOf_42 rfl k_) ?_
    refine Zm.pick [] rfl ?_
    exact zm_callV (as := [vi l2, vi (8 : Int32)]) (st := []) dX8_isNaNOf_46 vsX8_1072_1 (Nat.le_refl _) (Nat.le_of_ble_eq_true rfl) (Nat.le_of_ble_eq_true rfl) rfl k
theorem sX8_isNaNOf_49 {E : zE} {d : Nat} {Q : zO → zM → Prop} (M : zM)  (k : Q (.inl none) M) : Zm E YX8_isNaNOf (d + 1) M [] 49 [] Q := by
  exact zm_vret dX8_isNaNOf_49 rfl k
/-! ScriptTypesModel.rowWays(IIII)Z -/
theorem bX8_rowWays_0 : zdec cX8_rowWays 0 [(0, .aload_n 0, 1), (1, .iload_n 2, 1), (2, .invokevirtual 1059, 3), (5, .ifCond .eq 7, 3), (8, .iconst 1, 1), (9, .goto 4, 3), (12, .iconst 0, 1), (13, .istore 5, 2), (15, .iconst 0, 1), (16, .istore 6, 2), (18, .iload 6, 2), (20, .aload_n 0, 1), (21, .getfield 765, 3), (24, .if_icmp .ge 205, 3), (27, .aload_n 0, 1), (28, .getfield 220, 3)] = true := by decide +kernel
theorem dX8_rowWays_0 : decode cX8_rowWays 0 = .ok (.aload_n 0, 1) := zdec_at bX8_rowWays_0 0 rfl
theorem dX8_rowWays_1 : decode cX8_rowWays 1 = .ok (.iload_n 2, 1) := zdec_at bX8_rowWays_0 1 rfl
theorem dX8_rowWays_2 : decode cX8_rowWays 2 = .ok (.invokevirtual 1059, 3) := zdec_at bX8_rowWays_0 2 rfl
theorem dX8_rowWays_5 : decode cX8_rowWays 5 = .ok (.ifCond .eq 7, 3) := zdec_at bX8_rowWays_0 3 rfl
theorem dX8_rowWays_8 : decode cX8_rowWays 8 = .ok (.iconst 1, 1) := zdec_at bX8_rowWays_0 4 rfl
theorem dX8_rowWays_9 : decode cX8_rowWays 9 = .ok (.goto 4, 3) := zdec_at bX8_rowWays_0 5 rfl
theorem dX8_rowWays_12 : decode cX8_rowWays 12 = .ok (.iconst 0, 1) := zdec_at bX8_rowWays_0 6 rfl
theorem dX8_rowWays_13 : decode cX8_rowWays 13 = .ok (.istore 5, 2) := zdec_at bX8_rowWays_0 7 rfl
theorem dX8_rowWays_15 : decode cX8_rowWays 15 = .ok (.iconst 0, 1) := zdec_at bX8_rowWays_0 8 rfl
theorem dX8_rowWays_16 : decode cX8_rowWays 16 = .ok (.istore 6, 2) := zdec_at bX8_rowWays_0 9 rfl
theorem dX8_rowWays_18 : decode cX8_rowWays 18 = .ok (.iload 6, 2) := zdec_at bX8_rowWays_0 10 rfl
theorem dX8_rowWays_20 : decode cX8_rowWays 20 = .ok (.aload_n 0, 1) := zdec_at bX8_rowWays_0 11 rfl
theorem dX8_rowWays_21 : decode cX8_rowWays 21 = .ok (.getfield 765, 3) := zdec_at bX8_rowWays_0 12 rfl
theorem dX8_rowWays_24 : decode cX8_rowWays 24 = .ok (.if_icmp .ge 205, 3) := zdec_at bX8_rowWays_0 13 rfl
theorem dX8_rowWays_27 : decode cX8_rowWays 27 = .ok (.aload_n 0, 1) := zdec_at bX8_rowWays_0 14 rfl
theorem dX8_rowWays_28 : decode cX8_rowWays 28 = .ok (.getfield 220, 3) := zdec_at bX8_rowWays_0 15 rfl
theorem bX8_rowWays_31 : zdec cX8_rowWays 31 [(31, .iload_n 2, 1), (32, .laload, 1), (33, .aload_n 0, 1), (34, .getfield 223, 3), (37, .iload_n 2, 1), (38, .laload, 1), (39, .iload 6, 2), (41, .invokestatic 1125, 3), (44, .ifCond .ne 6, 3), (47, .goto 176, 3), (50, .aload_n 0, 1), (51, .iload 6, 2), (53, .invokevirtual 1169, 3), (56, .ifCond .ne 9, 3), (59, .iconst 1, 1), (60, .istore 5, 2)] = true := by decide +kernel
theorem dX8_rowWays_31 : decode cX8_rowWays 31 = .ok (.iload_n 2, 1) := zdec_at bX8_rowWays_31 0 rfl
theorem dX8_rowWays_32 : decode cX8_rowWays 32 = .ok (.laload, 1) := zdec_at bX8_rowWays_31 1 rfl
theorem dX8_rowWays_33 : decode cX8_rowWays 33 = .ok (.aload_n 0, 1) := zdec_at bX8_rowWays_31 2 rfl
theorem dX8_rowWays_34 : decode cX8_rowWays 34 = .ok (.getfield 223, 3) := zdec_at bX8_rowWays_31 3 rfl
theorem dX8_rowWays_37 : decode cX8_rowWays 37 = .ok (.iload_n 2, 1) := zdec_at bX8_rowWays_31 4 rfl
theorem dX8_rowWays_38 : decode cX8_rowWays 38 = .ok (.laload, 1) := zdec_at bX8_rowWays_31 5 rfl
theorem dX8_rowWays_39 : decode cX8_rowWays 39 = .ok (.iload 6, 2) := zdec_at bX8_rowWays_31 6 rfl
theorem dX8_rowWays_41 : decode cX8_rowWays 41 = .ok (.invokestatic 1125, 3) := zdec_at bX8_rowWays_31 7 rfl
theorem dX8_rowWays_44 : decode cX8_rowWays 44 = .ok (.ifCond .ne 6, 3) := zdec_at bX8_rowWays_31 8 rfl
theorem dX8_rowWays_47 : decode cX8_rowWays 47 = .ok (.goto 176, 3) := zdec_at bX8_rowWays_31 9 rfl
theorem dX8_rowWays_50 : decode cX8_rowWays 50 = .ok (.aload_n 0, 1) := zdec_at bX8_rowWays_31 10 rfl
theorem dX8_rowWays_51 : decode cX8_rowWays 51 = .ok (.iload 6, 2) := zdec_at bX8_rowWays_31 11 rfl
theorem dX8_rowWays_53 : decode cX8_rowWays 53 = .ok (.invokevirtual 1169, 3) := zdec_at bX8_rowWays_31 12 rfl
theorem dX8_rowWays_56 : decode cX8_rowWays 56 = .ok (.ifCond .ne 9, 3) := zdec_at bX8_rowWays_31 13 rfl
theorem dX8_rowWays_59 : decode cX8_rowWays 59 = .ok (.iconst 1, 1) := zdec_at bX8_rowWays_31 14 rfl
theorem dX8_rowWays_60 : decode cX8_rowWays 60 = .ok (.istore 5, 2) := zdec_at bX8_rowWays_31 15 rfl
theorem bX8_rowWays_62 : zdec cX8_rowWays 62 [(62, .goto 161, 3), (65, .aload_n 0, 1), (66, .iload 4, 2), (68, .iload_n 1, 1), (69, .bipush 18, 2), (71, .if_icmp .ne 8, 3), (74, .bipush 64, 2), (76, .goto 4, 3), (79, .iconst 1, 1), (80, .invokevirtual 1072, 3), (83, .aload_n 0, 1), (84, .getfield 256, 3), (87, .aload_n 0, 1), (88, .sipush 639, 3), (91, .iload 6, 2), (93, .invokevirtual 1101, 3)] = true := by decide +kernel
theorem dX8_rowWays_62 : decode cX8_rowWays 62 = .ok (.goto 161, 3) := zdec_at bX8_rowWays_62 0 rfl
theorem dX8_rowWays_65 : decode cX8_rowWays 65 = .ok (.aload_n 0, 1) := zdec_at bX8_rowWays_62 1 rfl
theorem dX8_rowWays_66 : decode cX8_rowWays 66 = .ok (.iload 4, 2) := zdec_at bX8_rowWays_62 2 rfl
theorem dX8_rowWays_68 : decode cX8_rowWays 68 = .ok (.iload_n 1, 1) := zdec_at bX8_rowWays_62 3 rfl
theorem dX8_rowWays_69 : decode cX8_rowWays 69 = .ok (.bipush 18, 2) := zdec_at bX8_rowWays_62 4 rfl
theorem dX8_rowWays_71 : decode cX8_rowWays 71 = .ok (.if_icmp .ne 8, 3) := zdec_at bX8_rowWays_62 5 rfl
theorem dX8_rowWays_74 : decode cX8_rowWays 74 = .ok (.bipush 64, 2) := zdec_at bX8_rowWays_62 6 rfl
theorem dX8_rowWays_76 : decode cX8_rowWays 76 = .ok (.goto 4, 3) := zdec_at bX8_rowWays_62 7 rfl
theorem dX8_rowWays_79 : decode cX8_rowWays 79 = .ok (.iconst 1, 1) := zdec_at bX8_rowWays_62 8 rfl
theorem dX8_rowWays_80 : decode cX8_rowWays 80 = .ok (.invokevirtual 1072, 3) := zdec_at bX8_rowWays_62 9 rfl
theorem dX8_rowWays_83 : decode cX8_rowWays 83 = .ok (.aload_n 0, 1) := zdec_at bX8_rowWays_62 10 rfl
theorem dX8_rowWays_84 : decode cX8_rowWays 84 = .ok (.getfield 256, 3) := zdec_at bX8_rowWays_62 11 rfl
theorem dX8_rowWays_87 : decode cX8_rowWays 87 = .ok (.aload_n 0, 1) := zdec_at bX8_rowWays_62 12 rfl
theorem dX8_rowWays_88 : decode cX8_rowWays 88 = .ok (.sipush 639, 3) := zdec_at bX8_rowWays_62 13 rfl
theorem dX8_rowWays_91 : decode cX8_rowWays 91 = .ok (.iload 6, 2) := zdec_at bX8_rowWays_62 14 rfl
theorem dX8_rowWays_93 : decode cX8_rowWays 93 = .ok (.invokevirtual 1101, 3) := zdec_at bX8_rowWays_62 15 rfl
theorem bX8_rowWays_96 : zdec cX8_rowWays 96 [(96, .baload, 1), (97, .ifCond .ne 6, 3), (100, .goto 123, 3), (103, .iconst 0, 1), (104, .istore 7, 2), (106, .iload 7, 2), (108, .aload_n 0, 1), (109, .getfield 762, 3), (112, .if_icmp .gt 95, 3), (115, .iload 7, 2), (117, .aload_n 0, 1), (118, .getfield 762, 3), (121, .if_icmp .ge 32, 3), (124, .aload_n 0, 1), (125, .getfield 277, 3), (128, .iload 7, 2)] = true := by decide +kernel
theorem dX8_rowWays_96 : decode cX8_rowWays 96 = .ok (.baload, 1) := zdec_at bX8_rowWays_96 0 rfl
theorem dX8_rowWays_97 : decode cX8_rowWays 97 = .ok (.ifCond .ne 6, 3) := zdec_at bX8_rowWays_96 1 rfl
theorem dX8_rowWays_100 : decode cX8_rowWays 100 = .ok (.goto 123, 3) := zdec_at bX8_rowWays_96 2 rfl
theorem dX8_rowWays_103 : decode cX8_rowWays 103 = .ok (.iconst 0, 1) := zdec_at bX8_rowWays_96 3 rfl
theorem dX8_rowWays_104 : decode cX8_rowWays 104 = .ok (.istore 7, 2) := zdec_at bX8_rowWays_96 4 rfl
theorem dX8_rowWays_106 : decode cX8_rowWays 106 = .ok (.iload 7, 2) := zdec_at bX8_rowWays_96 5 rfl
theorem dX8_rowWays_108 : decode cX8_rowWays 108 = .ok (.aload_n 0, 1) := zdec_at bX8_rowWays_96 6 rfl
theorem dX8_rowWays_109 : decode cX8_rowWays 109 = .ok (.getfield 762, 3) := zdec_at bX8_rowWays_96 7 rfl
theorem dX8_rowWays_112 : decode cX8_rowWays 112 = .ok (.if_icmp .gt 95, 3) := zdec_at bX8_rowWays_96 8 rfl
theorem dX8_rowWays_115 : decode cX8_rowWays 115 = .ok (.iload 7, 2) := zdec_at bX8_rowWays_96 9 rfl
theorem dX8_rowWays_117 : decode cX8_rowWays 117 = .ok (.aload_n 0, 1) := zdec_at bX8_rowWays_96 10 rfl
theorem dX8_rowWays_118 : decode cX8_rowWays 118 = .ok (.getfield 762, 3) := zdec_at bX8_rowWays_96 11 rfl
theorem dX8_rowWays_121 : decode cX8_rowWays 121 = .ok (.if_icmp .ge 32, 3) := zdec_at bX8_rowWays_96 12 rfl
theorem dX8_rowWays_124 : decode cX8_rowWays 124 = .ok (.aload_n 0, 1) := zdec_at bX8_rowWays_96 13 rfl
theorem dX8_rowWays_125 : decode cX8_rowWays 125 = .ok (.getfield 277, 3) := zdec_at bX8_rowWays_96 14 rfl
theorem dX8_rowWays_128 : decode cX8_rowWays 128 = .ok (.iload 7, 2) := zdec_at bX8_rowWays_96 15 rfl
theorem bX8_rowWays_130 : zdec cX8_rowWays 130 [(130, .baload, 1), (131, .ifCond .ne 22, 3), (134, .iload_n 1, 1), (135, .bipush 18, 2), (137, .if_icmp .ne 64, 3), (140, .aload_n 0, 1), (141, .getfield 280, 3), (144, .iload 7, 2), (146, .baload, 1), (147, .ifCond .ne 6, 3), (150, .goto 51, 3), (153, .aload_n 0, 1), (154, .sipush 639, 3), (157, .iload 6, 2), (159, .iload 7, 2), (161, .invokevirtual 1163, 3)] = true := by decide +kernel
theorem dX8_rowWays_130 : decode cX8_rowWays 130 = .ok (.baload, 1) := zdec_at bX8_rowWays_130 0 rfl
theorem dX8_rowWays_131 : decode cX8_rowWays 131 = .ok (.ifCond .ne 22, 3) := zdec_at bX8_rowWays_130 1 rfl
theorem dX8_rowWays_134 : decode cX8_rowWays 134 = .ok (.iload_n 1, 1) := zdec_at bX8_rowWays_130 2 rfl
theorem dX8_rowWays_135 : decode cX8_rowWays 135 = .ok (.bipush 18, 2) := zdec_at bX8_rowWays_130 3 rfl
theorem dX8_rowWays_137 : decode cX8_rowWays 137 = .ok (.if_icmp .ne 64, 3) := zdec_at bX8_rowWays_130 4 rfl
theorem dX8_rowWays_140 : decode cX8_rowWays 140 = .ok (.aload_n 0, 1) := zdec_at bX8_rowWays_130 5 rfl
theorem dX8_rowWays_141 : decode cX8_rowWays 141 = .ok (.getfield 280, 3) := zdec_at bX8_rowWays_130 6 rfl
theorem dX8_rowWays_144 : decode cX8_rowWays 144 = .ok (.iload 7, 2) := zdec_at bX8_rowWays_130 7 rfl
theorem dX8_rowWays_146 : decode cX8_rowWays 146 = .ok (.baload, 1) := zdec_at bX8_rowWays_130 8 rfl
theorem dX8_rowWays_147 : decode cX8_rowWays 147 = .ok (.ifCond .ne 6, 3) := zdec_at bX8_rowWays_130 9 rfl
theorem dX8_rowWays_150 : decode cX8_rowWays 150 = .ok (.goto 51, 3) := zdec_at bX8_rowWays_130 10 rfl
theorem dX8_rowWays_153 : decode cX8_rowWays 153 = .ok (.aload_n 0, 1) := zdec_at bX8_rowWays_130 11 rfl
theorem dX8_rowWays_154 : decode cX8_rowWays 154 = .ok (.sipush 639, 3) := zdec_at bX8_rowWays_130 12 rfl
theorem dX8_rowWays_157 : decode cX8_rowWays 157 = .ok (.iload 6, 2) := zdec_at bX8_rowWays_130 13 rfl
theorem dX8_rowWays_159 : decode cX8_rowWays 159 = .ok (.iload 7, 2) := zdec_at bX8_rowWays_130 14 rfl
theorem dX8_rowWays_161 : decode cX8_rowWays 161 = .ok (.invokevirtual 1163, 3) := zdec_at bX8_rowWays_130 15 rfl
theorem bX8_rowWays_164 : zdec cX8_rowWays 164 [(164, .istore 8, 2), (166, .iload_n 1, 1), (167, .bipush 18, 2), (169, .if_icmp .ne 15, 3), (172, .aload_n 0, 1), (173, .iload_n 3, 1), (174, .iload 8, 2), (176, .invokevirtual 1069, 3), (179, .istore 9, 2), (181, .goto 20, 3), (184, .aload_n 0, 1), (185, .iload 8, 2), (187, .iload 4, 2), (189, .invokevirtual 1228, 3), (192, .aload_n 0, 1), (193, .iload 8, 2)] = true := by decide +kernel
theorem dX8_rowWays_164 : decode cX8_rowWays 164 = .ok (.istore 8, 2) := zdec_at bX8_rowWays_164 0 rfl
theorem dX8_rowWays_166 : decode cX8_rowWays 166 = .ok (.iload_n 1, 1) := zdec_at bX8_rowWays_164 1 rfl
theorem dX8_rowWays_167 : decode cX8_rowWays 167 = .ok (.bipush 18, 2) := zdec_at bX8_rowWays_164 2 rfl
theorem dX8_rowWays_169 : decode cX8_rowWays 169 = .ok (.if_icmp .ne 15, 3) := zdec_at bX8_rowWays_164 3 rfl
theorem dX8_rowWays_172 : decode cX8_rowWays 172 = .ok (.aload_n 0, 1) := zdec_at bX8_rowWays_164 4 rfl
theorem dX8_rowWays_173 : decode cX8_rowWays 173 = .ok (.iload_n 3, 1) := zdec_at bX8_rowWays_164 5 rfl
theorem dX8_rowWays_174 : decode cX8_rowWays 174 = .ok (.iload 8, 2) := zdec_at bX8_rowWays_164 6 rfl
theorem dX8_rowWays_176 : decode cX8_rowWays 176 = .ok (.invokevirtual 1069, 3) := zdec_at bX8_rowWays_164 7 rfl
theorem dX8_rowWays_179 : decode cX8_rowWays 179 = .ok (.istore 9, 2) := zdec_at bX8_rowWays_164 8 rfl
theorem dX8_rowWays_181 : decode cX8_rowWays 181 = .ok (.goto 20, 3) := zdec_at bX8_rowWays_164 9 rfl
theorem dX8_rowWays_184 : decode cX8_rowWays 184 = .ok (.aload_n 0, 1) := zdec_at bX8_rowWays_164 10 rfl
theorem dX8_rowWays_185 : decode cX8_rowWays 185 = .ok (.iload 8, 2) := zdec_at bX8_rowWays_164 11 rfl
theorem dX8_rowWays_187 : decode cX8_rowWays 187 = .ok (.iload 4, 2) := zdec_at bX8_rowWays_164 12 rfl
theorem dX8_rowWays_189 : decode cX8_rowWays 189 = .ok (.invokevirtual 1228, 3) := zdec_at bX8_rowWays_164 13 rfl
theorem dX8_rowWays_192 : decode cX8_rowWays 192 = .ok (.aload_n 0, 1) := zdec_at bX8_rowWays_164 14 rfl
theorem dX8_rowWays_193 : decode cX8_rowWays 193 = .ok (.iload 8, 2) := zdec_at bX8_rowWays_164 15 rfl
theorem bX8_rowWays_195 : zdec cX8_rowWays 195 [(195, .sipush 512, 3), (198, .invokevirtual 1072, 3), (201, .iinc 7 1, 3), (204, .goto (-98), 3), (207, .aload_n 0, 1), (208, .aload_n 0, 1), (209, .sipush 639, 3), (212, .iload 6, 2), (214, .iconst 0, 1), (215, .invokevirtual 1163, 3), (218, .bipush 64, 2), (220, .invokevirtual 1072, 3), (223, .iinc 6 1, 3), (226, .goto (-208), 3), (229, .iload 5, 2), (231, .ireturn, 1)] = true := by decide +kernel
theorem dX8_rowWays_195 : decode cX8_rowWays 195 = .ok (.sipush 512, 3) := zdec_at bX8_rowWays_195 0 rfl
theorem dX8_rowWays_198 : decode cX8_rowWays 198 = .ok (.invokevirtual 1072, 3) := zdec_at bX8_rowWays_195 1 rfl
theorem dX8_rowWays_201 : decode cX8_rowWays 201 = .ok (.iinc 7 1, 3) := zdec_at bX8_rowWays_195 2 rfl
theorem dX8_rowWays_204 : decode cX8_rowWays 204 = .ok (.goto (-98), 3) := zdec_at bX8_rowWays_195 3 rfl
theorem dX8_rowWays_207 : decode cX8_rowWays 207 = .ok (.aload_n 0, 1) := zdec_at bX8_rowWays_195 4 rfl
theorem dX8_rowWays_208 : decode cX8_rowWays 208 = .ok (.aload_n 0, 1) := zdec_at bX8_rowWays_195 5 rfl
theorem dX8_rowWays_209 : decode cX8_rowWays 209 = .ok (.sipush 639, 3) := zdec_at bX8_rowWays_195 6 rfl
theorem dX8_rowWays_212 : decode cX8_rowWays 212 = .ok (.iload 6, 2) := zdec_at bX8_rowWays_195 7 rfl
theorem dX8_rowWays_214 : decode cX8_rowWays 214 = .ok (.iconst 0, 1) := zdec_at bX8_rowWays_195 8 rfl
theorem dX8_rowWays_215 : decode cX8_rowWays 215 = .ok (.invokevirtual 1163, 3) := zdec_at bX8_rowWays_195 9 rfl
theorem dX8_rowWays_218 : decode cX8_rowWays 218 = .ok (.bipush 64, 2) := zdec_at bX8_rowWays_195 10 rfl
theorem dX8_rowWays_220 : decode cX8_rowWays 220 = .ok (.invokevirtual 1072, 3) := zdec_at bX8_rowWays_195 11 rfl
theorem dX8_rowWays_223 : decode cX8_rowWays 223 = .ok (.iinc 6 1, 3) := zdec_at bX8_rowWays_195 12 rfl
theorem dX8_rowWays_226 : decode cX8_rowWays 226 = .ok (.goto (-208), 3) := zdec_at bX8_rowWays_195 13 rfl
theorem dX8_rowWays_229 : decode cX8_rowWays 229 = .ok (.iload 5, 2) := zdec_at bX8_rowWays_195 14 rfl
theorem dX8_rowWays_231 : decode cX8_rowWays 231 = .ok (.ireturn, 1) := zdec_at bX8_rowWays_195 15 rfl
theorem sX8_rowWays_0 {E : zE} {d : Nat} {Q : zO → zM → Prop} (M : zM) (l1 : Int32) (l2 : Int32) (l3 : Int32) (l4 : Int32) (k : Zm E YX8_plainly d M (zargs 0 [vr (some (97, 1, 0)), vi l2]) 0 [] (zma E YX8_rowWays (d + 1) [(0, vr (some (97, 1, 0))), (1, vi l1), (2, vi l2), (3, vi l3), (4, vi l4)] 2 3 [] Q)) : Zm E YX8_rowWays (d + 1) M [(0, vr (some (97, 1, 0))), (1, vi l1), (2, vi l2), (3, vi l3), (4, vi l4)] 0 [] Q := by
  refine Zm.l (fun _ _ k_ => z_aload_n dX8_rowWays_0 rfl rfl k_) ?_
  refine Zm.l (fun _ _ k_ => z_iload_n dX8_rowWays_1 rfl rfl k_) ?_
  exact zm_callV (as := [vi l2]) (st := []) dX8_rowWays_2 vsX8_1059_1 (Nat.le_refl _) (Nat.le_of_ble_eq_true rfl) (Nat.le_of_ble_eq_true rfl) rfl k
theorem sX8_rowWays_5 {E : zE} {d : Nat} {Q : zO → zM → Prop} (M : zM) (l1 : Int32) (l2 : Int32) (l3 : Int32) (l4 : Int32) (s0 : Int32) (k : if s0 = 0 then (Zm E YX8_rowWays (d + 1) M [(0, vr (some (97, 1, 0))), (1, vi l1), (2, vi l2), (3, vi l3), (4, vi l4), (5, vi (0 : Int32)), (6, vi (0 : Int32))] 18 [] Q) else (Zm E YX8_rowWays (d + 1) M [(0, vr (some (97, 1, 0))), (1, vi l1), (2, vi l2), (3, vi l3), (4, vi l4), (5, vi (1 : Int32)), (6, vi (0 : Int32))] 18 [] Q)) : Zm E YX8_rowWays (d + 1) M [(0, vr (some (97, 1, 0))), (1, vi l1), (2, vi l2), (3, vi l3), (4, vi l4)] 5 [vi s0] Q := by
  refine Zm.br (fun _ _ k1_ k2_ => z_if_eq (tgt := 12) dX8_rowWays_5 rfl k1_ k2_) (fun h_ => ?_) (fun h_ => ?_)
  · have k := zit h_ k
    refine Zm.l (fun _ _ k_ => z_iconst (v := 0) dX8_rowWays_12 rfl k_) ?_
    refine Zm.l (fun _ _ k_ => z_ist dX8_rowWays_13 (by decide) (lv' := [(0, vr (some (97, 1, 0))), (1, vi l1), (2, vi l2), (3, vi l3), (4, vi l4), (5, vi (0 : Int32))]) rfl k_) ?_
    refine Zm.l (fun _ _ k_ => z_iconst (v := 0) dX8_rowWays_15 rfl k_) ?_
    refine Zm.l (fun _ _ k_ => z_ist dX8_rowWays_16 (by decide) (lv' := [(0, vr (some (97, 1, 0))), (1, vi l1), (2, vi l2), (3, vi l3), (4, vi l4), (5, vi (0 : Int32)), (6, vi (0 : Int32))]) rfl k_) ?_
    exact k
  · have k := zif h_ k
    refine Zm.l (fun _ _ k_ => z_iconst (v := 1) dX8_rowWays_8 rfl k_) ?_
    refine Zm.l (fun _ _ k_ => z_goto (tgt := 13) dX8_rowWays_9 rfl k_) ?_
    refine Zm.l (fun _ _ k_ => z_ist dX8_rowWays_13 (by decide) (lv' := [(0, vr (some (97, 1, 0))), (1, vi l1), (2, vi l2), (3, vi l3), (4, vi l4), (5, vi (1 : Int32))]) rfl k_) ?_
    refine Zm.l (fun _ _ k_ => z_iconst (v := 0) dX8_rowWays_15 rfl k_) ?_
    refine Zm.l (fun _ _ k_ => z_ist dX8_rowWays_16 (by decide) (lv' := [(0, vr (some (97, 1, 0))), (1, vi l1), (2, vi l2), (3, vi l3), (4, vi l4), (5, vi (1 : Int32)), (6, vi (0 : Int32))]) rfl k_) ?_
    exact k
theorem sX8_rowWays_18 {E : zE} {d : Nat} {Q : zO → zM → Prop} (M : zM) (l1 : Int32) (l2 : Int32) (l3 : Int32) (l4 : Int32) (l5 : Int32) (l6 : Int32) (k : if (gi M 97 71) ≤ l6 then ((narrow .boolean (.int l5) = .int l5) ∧ Q (.inl (some (vi l5))) M) else (vp_in l2 647800 ∧ (vp_in l2 647800 ∧ (Zm E YX8_isIn d M (zargs 0 [vl (gl M 166 (l2).toNatClampNeg), vl (gl M 167 (l2).toNatClampNeg), vi l6]) 0 [] (zma E YX8_rowWays (d + 1) [(0, vr (some (97, 1, 0))), (1, vi l1), (2, vi l2), (3, vi l3), (4, vi l4), (5, vi l5), (6, vi l6)] 41 3 [] Q))))) : Zm E YX8_rowWays (d + 1) M [(0, vr (some (97, 1, 0))), (1, vi l1), (2, vi l2), (3, vi l3), (4, vi l4), (5, vi l5), (6, vi l6)] 18 [] Q := by
  refine Zm.l (fun _ _ k_ => z_iload dX8_rowWays_18 rfl k_) ?_
  refine Zm.l (fun _ _ k_ => z_aload_n dX8_rowWays_20 rfl rfl k_) ?_
  refine zm_geti dX8_rowWays_21 fsX8_765_1 (by decide) (by decide) ?_
  refine Zm.br (fun _ _ k1_ k2_ => z_icmp_ge (tgt := 229) dX8_rowWays_24 rfl k1_ k2_) (fun h_ => ?_) (fun h_ => ?_)
  · have k := zit h_ k
    refine Zm.l (fun _ _ k_ => z_iload dX8_rowWays_229 rfl k_) ?_
    exact zm_iret dX8_rowWays_231 rfl k.1 k.2
  · have k := zif h_ k
    refine Zm.l (fun _ _ k_ => z_aload_n dX8_rowWays_27 rfl rfl k_) ?_
    refine zm_getr 63 dX8_rowWays_28 fsX8_220_1 rfl ?_
    refine Zm.l (fun _ _ k_ => z_iload_n dX8_rowWays_31 rfl rfl k_) ?_
    obtain ⟨b_, k⟩ := k
    refine zm_lald dX8_rowWays_32 b_ (by decide) (by decide) ?_
    refine Zm.l (fun _ _ k_ => z_aload_n dX8_rowWays_33 rfl rfl k_) ?_
    refine zm_getr 64 dX8_rowWays_34 fsX8_223_1 rfl ?_
    refine Zm.l (fun _ _ k_ => z_iload_n dX8_rowWays_37 rfl rfl k_) ?_
    obtain ⟨b_, k⟩ := k
    refine zm_lald dX8_rowWays_38 b_ (by decide) (by decide) ?_
    refine Zm.l (fun _ _ k_ => z_iload dX8_rowWays_39 rfl k_) ?_
    exact zm_callS (as := [vl (gl M 166 (l2).toNatClampNeg), vl (gl M 167 (l2).toNatClampNeg), vi l6]) (st := []) dX8_rowWays_41 ssX8_1125 (Nat.le_refl _) (Nat.le_of_ble_eq_true rfl) (Nat.le_of_ble_eq_true rfl) rfl k
theorem sX8_rowWays_44 {E : zE} {d : Nat} {Q : zO → zM → Prop} (M : zM) (l1 : Int32) (l2 : Int32) (l3 : Int32) (l4 : Int32) (l5 : Int32) (l6 : Int32) (s0 : Int32) (k : if s0 = 0 then (Zm E YX8_rowWays (d + 1) M [(0, vr (some (97, 1, 0))), (1, vi l1), (2, vi l2), (3, vi l3), (4, vi l4), (5, vi l5), (6, vi l6)] 223 [] Q) else (Zm E YX8_isArrayLabel d M (zargs 0 [vr (some (97, 1, 0)), vi l6]) 0 [] (zma E YX8_rowWays (d + 1) [(0, vr (some (97, 1, 0))), (1, vi l1), (2, vi l2), (3, vi l3), (4, vi l4), (5, vi l5), (6, vi l6)] 53 3 [] Q))) : Zm E YX8_rowWays (d + 1) M [(0, vr (some (97, 1, 0))), (1, vi l1), (2, vi l2), (3, vi l3), (4, vi l4), (5, vi l5), (6, vi l6)] 44 [vi s0] Q := by
  refine Zm.brn (fun _ _ k1_ k2_ => z_if_ne (tgt := 50) dX8_rowWays_44 rfl k1_ k2_) (fun h_ => ?_) (fun h_ => ?_)
  · have k := zif h_ k
    refine Zm.l (fun _ _ k_ => z_aload_n dX8_rowWays_50 rfl rfl k_) ?_
    refine Zm.l (fun _ _ k_ => z_iload dX8_rowWays_51 rfl k_) ?_
    exact zm_callV (as := [vi l6]) (st := []) dX8_rowWays_53 vsX8_1169_1 (Nat.le_refl _) (Nat.le_of_ble_eq_true rfl) (Nat.le_of_ble_eq_true rfl) rfl k
  · have k := zit h_ k
    refine Zm.l (fun _ _ k_ => z_goto (tgt := 223) dX8_rowWays_47 rfl k_) ?_
    exact k
theorem sX8_rowWays_56 {E : zE} {d : Nat} {Q : zO → zM → Prop} (M : zM) (l1 : Int32) (l2 : Int32) (l3 : Int32) (l4 : Int32) (l5 : Int32) (l6 : Int32) (s0 : Int32) (k : if s0 = 0 then (Zm E YX8_rowWays (d + 1) M [(0, vr (some (97, 1, 0))), (1, vi l1), (2, vi l2), (3, vi l3), (4, vi l4), (5, vi (1 : Int32)), (6, vi l6)] 223 [] Q) else (if l1 = (18 : Int32) then (Zm E YX8_addSort d M (zargs 0 [vr (some (97, 1, 0)), vi l4, vi (64 : Int32)]) 0 [] (zma E YX8_rowWays (d + 1) [(0, vr (some (97, 1, 0))), (1, vi l1), (2, vi l2), (3, vi l3), (4, vi l4), (5, vi l5), (6, vi l6)] 80 3 [] Q)) else (Zm E YX8_addSort d M (zargs 0 [vr (some (97, 1, 0)), vi l4, vi (1 : Int32)]) 0 [] (zma E YX8_rowWays (d + 1) [(0, vr (some (97, 1, 0))), (1, vi l1), (2, vi l2), (3, vi l3), (4, vi l4), (5, vi l5), (6, vi l6)] 80 3 [] Q)))) : Zm E YX8_rowWays (d + 1) M [(0, vr (some (97, 1, 0))), (1, vi l1), (2, vi l2), (3, vi l3), (4, vi l4), (5, vi l5), (6, vi l6)] 56 [vi s0] Q := by
  refine Zm.brn (fun _ _ k1_ k2_ => z_if_ne (tgt := 65) dX8_rowWays_56 rfl k1_ k2_) (fun h_ => ?_) (fun h_ => ?_)
  · have k := zif h_ k
    refine Zm.l (fun _ _ k_ => z_aload_n dX8_rowWays_65 rfl rfl k_) ?_
    refine Zm.l (fun _ _ k_ => z_iload dX8_rowWays_66 rfl k_) ?_
    refine Zm.l (fun _ _ k_ => z_iload_n dX8_rowWays_68 rfl rfl k_) ?_
    refine Zm.l (fun _ _ k_ => z_bipush (v := 18) dX8_rowWays_69 rfl k_) ?_
    refine Zm.brn (fun _ _ k1_ k2_ => z_icmp_ne (tgt := 79) dX8_rowWays_71 rfl k1_ k2_) (fun h_ => ?_) (fun h_ => ?_)
    · have k := zif h_ k
      refine Zm.l (fun _ _ k_ => z_iconst (v := 1) dX8_rowWays_79 rfl k_) ?_
      exact zm_callV (as := [vi l4, vi (1 : Int32)]) (st := []) dX8_rowWays_80 vsX8_1072_1 (Nat.le_refl _) (Nat.le_of_ble_eq_true rfl) (Nat.le_of_ble_eq_true rfl) rfl k
    · have k := zit h_ k
      refine Zm.l (fun _ _ k_ => z_bipush (v := 64) dX8_rowWays_74 rfl k_) ?_
      refine Zm.l (fun _ _ k_ => z_goto (tgt := 80) dX8_rowWays_76 rfl k_) ?_
      exact zm_callV (as := [vi l4, vi (64 : Int32)]) (st := []) dX8_rowWays_80 vsX8_1072_1 (Nat.le_refl _) (Nat.le_of_ble_eq_true rfl) (Nat.le_of_ble_eq_true rfl) rfl k
  · have k := zit h_ k
    refine Zm.l (fun _ _ k_ => z_iconst (v := 1) dX8_rowWays_59 rfl k_) ?_
    refine Zm.l (fun _ _ k_ => z_ist dX8_rowWays_60 (by decide) (lv' := [(0, vr (some (97, 1, 0))), (1, vi l1), (2, vi l2), (3, vi l3), (4, vi l4), (5, vi (1 : Int32)), (6, vi l6)]) rfl k_) ?_
    refine Zm.l (fun _ _ k_ => z_goto (tgt := 223) dX8_rowWays_62 rfl k_) ?_
    exact k
theorem sX8_rowWays_83 {E : zE} {d : Nat} {Q : zO → zM → Prop} (M : zM) (l1 : Int32) (l2 : Int32) (l3 : Int32) (l4 : Int32) (l5 : Int32) (l6 : Int32) (k : Zm E YX8_of d M (zargs 0 [vr (some (97, 1, 0)), vi (639 : Int32), vi l6]) 0 [] (zma E YX8_rowWays (d + 1) [(0, vr (some (97, 1, 0))), (1, vi l1), (2, vi l2), (3, vi l3), (4, vi l4), (5, vi l5), (6, vi l6)] 93 3 [vr (some (178, 104, 15128))] Q)) : Zm E YX8_rowWays (d + 1) M [(0, vr (some (97, 1, 0))), (1, vi l1), (2, vi l2), (3, vi l3), (4, vi l4), (5, vi l5), (6, vi l6)] 83 [] Q := by
  refine Zm.l (fun _ _ k_ => z_aload_n dX8_rowWays_83 rfl rfl k_) ?_
  refine zm_getr 75 dX8_rowWays_84 fsX8_256_1 rfl ?_
  refine Zm.l (fun _ _ k_ => z_aload_n dX8_rowWays_87 rfl rfl k_) ?_
  refine Zm.l (fun _ _ k_ => z_sipush (v := 639) dX8_rowWays_88 rfl k_) ?_
  refine Zm.l (fun _ _ k_ => z_iload dX8_rowWays_91 rfl k_) ?_
  exact zm_callV (as := [vi (639 : Int32), vi l6]) (st := [vr (some (178, 104, 15128))]) dX8_rowWays_93 vsX8_1101_1 (Nat.le_refl _) (Nat.le_of_ble_eq_true rfl) (Nat.le_of_ble_eq_true rfl) rfl k
theorem sX8_rowWays_96 {E : zE} {d : Nat} {Q : zO → zM → Prop} (M : zM) (l1 : Int32) (l2 : Int32) (l3 : Int32) (l4 : Int32) (l5 : Int32) (l6 : Int32) (s0 : Int32) (k : vp_in s0 15128 ∧ (if (gi M 178 (s0).toNatClampNeg) = 0 then (Zm E YX8_rowWays (d + 1) M [(0, vr (some (97, 1, 0))), (1, vi l1), (2, vi l2), (3, vi l3), (4, vi l4), (5, vi l5), (6, vi l6)] 223 [] Q) else (Zm E YX8_rowWays (d + 1) M [(0, vr (some (97, 1, 0))), (1, vi l1), (2, vi l2), (3, vi l3), (4, vi l4), (5, vi l5), (6, vi l6), (7, vi (0 : Int32))] 106 [] Q))) : Zm E YX8_rowWays (d + 1) M [(0, vr (some (97, 1, 0))), (1, vi l1), (2, vi l2), (3, vi l3), (4, vi l4), (5, vi l5), (6, vi l6)] 96 [vi s0, vr (some (178, 104, 15128))] Q := by
  obtain ⟨b_, k⟩ := k
  refine zm_zald dX8_rowWays_96 b_ (by decide) (by decide) ?_
  refine Zm.brn (fun _ _ k1_ k2_ => z_if_ne (tgt := 103) dX8_rowWays_97 rfl k1_ k2_) (fun h_ => ?_) (fun h_ => ?_)
  · have k := zif h_ k
    refine Zm.l (fun _ _ k_ => z_iconst (v := 0) dX8_rowWays_103 rfl k_) ?_
    refine Zm.l (fun _ _ k_ => z_ist dX8_rowWays_104 (by decide) (lv' := [(0, vr (some (97, 1, 0))), (1, vi l1), (2, vi l2), (3, vi l3), (4, vi l4), (5, vi l5), (6, vi l6), (7, vi (0 : Int32))]) rfl k_) ?_
    exact k
  · have k := zit h_ k
    refine Zm.l (fun _ _ k_ => z_goto (tgt := 223) dX8_rowWays_100 rfl k_) ?_
    exact k
theorem sX8_rowWays_106 {E : zE} {d : Nat} {Q : zO → zM → Prop} (M : zM) (l1 : Int32) (l2 : Int32) (l3 : Int32) (l4 : Int32) (l5 : Int32) (l6 : Int32) (l7 : Int32) (k : if (gi M 97 8) < l7 then (Zm E YX8_field d M (zargs 0 [vr (some (97, 1, 0)), vi (639 : Int32), vi l6, vi (0 : Int32)]) 0 [] (zma E YX8_rowWays (d + 1) [(0, vr (some (97, 1, 0))), (1, vi l1), (2, vi l2), (3, vi l3), (4, vi l4), (5, vi l5), (6, vi l6)] 215 3 [vr (some (97, 1, 0))] Q)) else (if (gi M 97 8) ≤ l7 then (Zm E YX8_field d M (zargs 0 [vr (some (97, 1, 0)), vi (639 : Int32), vi l6, vi l7]) 0 [] (zma E YX8_rowWays (d + 1) [(0, vr (some (97, 1, 0))), (1, vi l1), (2, vi l2), (3, vi l3), (4, vi l4), (5, vi l5), (6, vi l6), (7, vi l7)] 161 3 [] Q)) else (vp_in l7 90 ∧ (if (gi M 185 (l7).toNatClampNeg) = 0 then (if l1 = (18 : Int32) then (vp_in l7 90 ∧ (if (gi M 186 (l7).toNatClampNeg) = 0 then (Zm E YX8_rowWays (d + 1) M [(0, vr (some (97, 1, 0))), (1, vi l1), (2, vi l2), (3, vi l3), (4, vi l4), (5, vi l5), (6, vi l6), (7, vi l7)] 201 [] Q) else (Zm E YX8_field d M (zargs 0 [vr (some (97, 1, 0)), vi (639 : Int32), vi l6, vi l7]) 0 [] (zma E YX8_rowWays (d + 1) [(0, vr (some (97, 1, 0))), (1, vi l1), (2, vi l2), (3, vi l3), (4, vi l4), (5, vi l5), (6, vi l6), (7, vi l7)] 161 3 [] Q)))) else (Zm E YX8_rowWays (d + 1) M [(0, vr (some (97, 1, 0))), (1, vi l1), (2, vi l2), (3, vi l3), (4, vi l4), (5, vi l5), (6, vi l6), (7, vi l7)] 201 [] Q)) else (Zm E YX8_field d M (zargs 0 [vr (some (97, 1, 0)), vi (639 : Int32), vi l6, vi l7]) 0 [] (zma E YX8_rowWays (d + 1) [(0, vr (some (97, 1, 0))), (1, vi l1), (2, vi l2), (3, vi l3), (4, vi l4), (5, vi l5), (6, vi l6), (7, vi l7)] 161 3 [] Q)))))) : Zm E YX8_rowWays (d + 1) M [(0, vr (some (97, 1, 0))), (1, vi l1), (2, vi l2), (3, vi l3), (4, vi l4), (5, vi l5), (6, vi l6), (7, vi l7)] 106 [] Q := by
  refine Zm.l (fun _ _ k_ => z_iload dX8_rowWays_106 rfl k_) ?_
  refine Zm.l (fun _ _ k_ => z_aload_n dX8_rowWays_108 rfl rfl k_) ?_
  refine zm_geti dX8_rowWays_109 fsX8_762_1 (by decide) (by decide) ?_
  refine Zm.br (fun _ _ k1_ k2_ => z_icmp_gt (tgt := 207) dX8_rowWays_112 rfl k1_ k2_) (fun h_ => ?_) (fun h_ => ?_)
  · have k := zit h_ k
    refine Zm.l (fun _ _ k_ => z_aload_n dX8_rowWays_207 rfl rfl k_) ?_
    refine Zm.l (fun _ _ k_ => z_aload_n dX8_rowWays_208 rfl rfl k_) ?_
    refine Zm.l (fun _ _ k_ => z_sipush (v := 639) dX8_rowWays_209 rfl k_) ?_
    refine Zm.l (fun _ _ k_ => z_iload dX8_rowWays_212 rfl k_) ?_
    refine Zm.l (fun _ _ k_ => z_iconst (v := 0) dX8_rowWays_214 rfl k_) ?_
    refine Zm.pick [0, 1, 2, 3, 4, 5, 6] rfl ?_
    exact zm_callV (as := [vi (639 : Int32), vi l6, vi (0 : Int32)]) (st := [vr (some (97, 1, 0))]) dX8_rowWays_215 vsX8_1163_1 (Nat.le_refl _) (Nat.le_of_ble_eq_true rfl) (Nat.le_of_ble_eq_true rfl) rfl k
  · have k := zif h_ k
    refine Zm.l (fun _ _ k_ => z_iload dX8_rowWays_115 rfl k_) ?_
    refine Zm.l (fun _ _ k_ => z_aload_n dX8_rowWays_117 rfl rfl k_) ?_
    refine zm_geti dX8_rowWays_118 fsX8_762_1 (by decide) (by decide) ?_
    refine Zm.br (fun _ _ k1_ k2_ => z_icmp_ge (tgt := 153) dX8_rowWays_121 rfl k1_ k2_) (fun h_ => ?_) (fun h_ => ?_)
    · have k := zit h_ k
      refine Zm.l (fun _ _ k_ => z_aload_n dX8_rowWays_153 rfl rfl k_) ?_
      refine Zm.l (fun _ _ k_ => z_sipush (v := 639) dX8_rowWays_154 rfl k_) ?_
      refine Zm.l (fun _ _ k_ => z_iload dX8_rowWays_157 rfl k_) ?_
      refine Zm.l (fun _ _ k_ => z_iload dX8_rowWays_159 rfl k_) ?_
      exact zm_callV (as := [vi (639 : Int32), vi l6, vi l7]) (st := []) dX8_rowWays_161 vsX8_1163_1 (Nat.le_refl _) (Nat.le_of_ble_eq_true rfl) (Nat.le_of_ble_eq_true rfl) rfl k
    · have k := zif h_ k
      refine Zm.l (fun _ _ k_ => z_aload_n dX8_rowWays_124 rfl rfl k_) ?_
      refine zm_getr 82 dX8_rowWays_125 fsX8_277_1 rfl ?_
      refine Zm.l (fun _ _ k_ => z_iload dX8_rowWays_128 rfl k_) ?_
      obtain ⟨b_, k⟩ := k
      refine zm_zald dX8_rowWays_130 b_ (by decide) (by decide) ?_
      refine Zm.brn (fun _ _ k1_ k2_ => z_if_ne (tgt := 153) dX8_rowWays_131 rfl k1_ k2_) (fun h_ => ?_) (fun h_ => ?_)
      · have k := zif h_ k
        refine Zm.l (fun _ _ k_ => z_aload_n dX8_rowWays_153 rfl rfl k_) ?_
        refine Zm.l (fun _ _ k_ => z_sipush (v := 639) dX8_rowWays_154 rfl k_) ?_
        refine Zm.l (fun _ _ k_ => z_iload dX8_rowWays_157 rfl k_) ?_
        refine Zm.l (fun _ _ k_ => z_iload dX8_rowWays_159 rfl k_) ?_
        exact zm_callV (as := [vi (639 : Int32), vi l6, vi l7]) (st := []) dX8_rowWays_161 vsX8_1163_1 (Nat.le_refl _) (Nat.le_of_ble_eq_true rfl) (Nat.le_of_ble_eq_true rfl) rfl k
      · have k := zit h_ k
        refine Zm.l (fun _ _ k_ => z_iload_n dX8_rowWays_134 rfl rfl k_) ?_
        refine Zm.l (fun _ _ k_ => z_bipush (v := 18) dX8_rowWays_135 rfl k_) ?_
        refine Zm.brn (fun _ _ k1_ k2_ => z_icmp_ne (tgt := 201) dX8_rowWays_137 rfl k1_ k2_) (fun h_ => ?_) (fun h_ => ?_)
        · have k := zif h_ k
          exact k
        · have k := zit h_ k
          refine Zm.l (fun _ _ k_ => z_aload_n dX8_rowWays_140 rfl rfl k_) ?_
          refine zm_getr 83 dX8_rowWays_141 fsX8_280_1 rfl ?_
          refine Zm.l (fun _ _ k_ => z_iload dX8_rowWays_144 rfl k_) ?_
          obtain ⟨b_, k⟩ := k
          refine zm_zald dX8_rowWays_146 b_ (by decide) (by decide) ?_
          refine Zm.brn (fun _ _ k1_ k2_ => z_if_ne (tgt := 153) dX8_rowWays_147 rfl k1_ k2_) (fun h_ => ?_) (fun h_ => ?_)
          · have k := zif h_ k
            refine Zm.l (fun _ _ k_ => z_aload_n dX8_rowWays_153 rfl rfl k_) ?_
            refine Zm.l (fun _ _ k_ => z_sipush (v := 639) dX8_rowWays_154 rfl k_) ?_
            refine Zm.l (fun _ _ k_ => z_iload dX8_rowWays_157 rfl k_) ?_
            refine Zm.l (fun _ _ k_ => z_iload dX8_rowWays_159 rfl k_) ?_
            exact zm_callV (as := [vi (639 : Int32), vi l6, vi l7]) (st := []) dX8_rowWays_161 vsX8_1163_1 (Nat.le_refl _) (Nat.le_of_ble_eq_true rfl) (Nat.le_of_ble_eq_true rfl) rfl k
          · have k := zit h_ k
            refine Zm.l (fun _ _ k_ => z_goto (tgt := 201) dX8_rowWays_150 rfl k_) ?_
            exact k
theorem sX8_rowWays_164 {E : zE} {d : Nat} {Q : zO → zM → Prop} (M : zM) (l1 : Int32) (l2 : Int32) (l3 : Int32) (l4 : Int32) (l5 : Int32) (l6 : Int32) (l7 : Int32) (s0 : Int32) (k : if l1 = (18 : Int32) then (Zm E YX8_join d M (zargs 0 [vr (some (97, 1, 0)), vi l3, vi s0]) 0 [] (zma E YX8_rowWays (d + 1) [(0, vr (some (97, 1, 0))), (1, vi l1), (2, vi l2), (3, vi l3), (4, vi l4), (5, vi l5), (6, vi l6), (7, vi l7)] 176 3 [] Q)) else (Zm E YX8_joinPlain d M (zargs 0 [vr (some (97, 1, 0)), vi s0, vi l4]) 0 [] (zma E YX8_rowWays (d + 1) [(0, vr (some (97, 1, 0))), (1, vi l1), (2, vi l2), (3, vi l3), (4, vi l4), (5, vi l5), (6, vi l6), (7, vi l7), (8, vi s0)] 189 3 [] Q))) : Zm E YX8_rowWays (d + 1) M [(0, vr (some (97, 1, 0))), (1, vi l1), (2, vi l2), (3, vi l3), (4, vi l4), (5, vi l5), (6, vi l6), (7, vi l7)] 164 [vi s0] Q := by
  refine Zm.l (fun _ _ k_ => z_ist dX8_rowWays_164 (by decide) (lv' := [(0, vr (some (97, 1, 0))), (1, vi l1), (2, vi l2), (3, vi l3), (4, vi l4), (5, vi l5), (6, vi l6), (7, vi l7), (8, vi s0)]) rfl k_) ?_
  refine Zm.l (fun _ _ k_ => z_iload_n dX8_rowWays_166 rfl rfl k_) ?_
  refine Zm.l (fun _ _ k_ => z_bipush (v := 18) dX8_rowWays_167 rfl k_) ?_
  refine Zm.brn (fun _ _ k1_ k2_ => z_icmp_ne (tgt := 184) dX8_rowWays_169 rfl k1_ k2_) (fun h_ => ?_) (fun h_ => ?_)
  · have k := zif h_ k
    refine Zm.l (fun _ _ k_ => z_aload_n dX8_rowWays_184 rfl rfl k_) ?_
    refine Zm.l (fun _ _ k_ => z_iload dX8_rowWays_185 rfl k_) ?_
    refine Zm.l (fun _ _ k_ => z_iload dX8_rowWays_187 rfl k_) ?_
    exact zm_callV (as := [vi s0, vi l4]) (st := []) dX8_rowWays_189 vsX8_1228_1 (Nat.le_refl _) (Nat.le_of_ble_eq_true rfl) (Nat.le_of_ble_eq_true rfl) rfl k
  · have k := zit h_ k
    refine Zm.l (fun _ _ k_ => z_aload_n dX8_rowWays_172 rfl rfl k_) ?_
    refine Zm.l (fun _ _ k_ => z_iload_n dX8_rowWays_173 rfl rfl k_) ?_
    refine Zm.l (fun _ _ k_ => z_iload dX8_rowWays_174 rfl k_) ?_
    refine Zm.pick [0, 1, 2, 3, 4, 5, 6, 7] rfl ?_
    exact zm_callV (as := [vi l3, vi s0]) (st := []) dX8_rowWays_176 vsX8_1069_1 (Nat.le_refl _) (Nat.le_of_ble_eq_true rfl) (Nat.le_of_ble_eq_true rfl) rfl k
theorem sX8_rowWays_179 {E : zE} {d : Nat} {Q : zO → zM → Prop} (M : zM) (l1 : Int32) (l2 : Int32) (l3 : Int32) (l4 : Int32) (l5 : Int32) (l6 : Int32) (l7 : Int32) (s0 : Int32) (k : Zm E YX8_rowWays (d + 1) M [(0, vr (some (97, 1, 0))), (1, vi l1), (2, vi l2), (3, vi l3), (4, vi l4), (5, vi l5), (6, vi l6), (7, vi l7)] 201 [] Q) : Zm E YX8_rowWays (d + 1) M [(0, vr (some (97, 1, 0))), (1, vi l1), (2, vi l2), (3, vi l3), (4, vi l4), (5, vi l5), (6, vi l6), (7, vi l7)] 179 [vi s0] Q := by
  refine Zm.l (fun _ _ k_ => z_ist dX8_rowWays_179 (by decide) (lv' := [(0, vr (some (97, 1, 0))), (1, vi l1), (2, vi l2), (3, vi l3), (4, vi l4), (5, vi l5), (6, vi l6), (7, vi l7), (9, vi s0)]) rfl k_) ?_
  refine Zm.l (fun _ _ k_ => z_goto (tgt := 201) dX8_rowWays_181 rfl k_) ?_
  refine Zm.pick [0, 1, 2, 3, 4, 5, 6, 7] rfl ?_
  exact k
theorem sX8_rowWays_192 {E : zE} {d : Nat} {Q : zO → zM → Prop} (M : zM) (l1 : Int32) (l2 : Int32) (l3 : Int32) (l4 : Int32) (l5 : Int32) (l6 : Int32) (l7 : Int32) (l8 : Int32) (k : Zm E YX8_addSort d M (zargs 0 [vr (some (97, 1, 0)), vi l8, vi (512 : Int32)]) 0 [] (zma E YX8_rowWays (d + 1) [(0, vr (some (97, 1, 0))), (1, vi l1), (2, vi l2), (3, vi l3), (4, vi l4), (5, vi l5), (6, vi l6), (7, vi l7)] 198 3 [] Q)) : Zm E YX8_rowWays (d + 1) M [(0, vr (some (97, 1, 0))), (1, vi l1), (2, vi l2), (3, vi l3), (4, vi l4), (5, vi l5), (6, vi l6), (7, vi l7), (8, vi l8)] 192 [] Q := by
  refine Zm.l (fun _ _ k_ => z_aload_n dX8_rowWays_192 rfl rfl k_) ?_
  refine Zm.l (fun _ _ k_ => z_iload dX8_rowWays_193 rfl k_) ?_
  refine Zm.l (fun _ _ k_ => z_sipush (v := 512) dX8_rowWays_195 rfl k_) ?_
  refine Zm.pick [0, 1, 2, 3, 4, 5, 6, 7] rfl ?_
  exact zm_callV (as := [vi l8, vi (512 : Int32)]) (st := []) dX8_rowWays_198 vsX8_1072_1 (Nat.le_refl _) (Nat.le_of_ble_eq_true rfl) (Nat.le_of_ble_eq_true rfl) rfl k
theorem sX8_rowWays_201 {E : zE} {d : Nat} {Q : zO → zM → Prop} (M : zM) (l1 : Int32) (l2 : Int32) (l3 : Int32) (l4 : Int32) (l5 : Int32) (l6 : Int32) (l7 : Int32) (k : Zm E YX8_rowWays (d + 1) M [(0, vr (some (97, 1, 0))), (1, vi l1), (2, vi l2), (3, vi l3), (4, vi l4), (5, vi l5), (6, vi l6), (7, vi (l7 + (1 : Int32)))] 106 [] Q) : Zm E YX8_rowWays (d + 1) M [(0, vr (some (97, 1, 0))), (1, vi l1), (2, vi l2), (3, vi l3), (4, vi l4), (5, vi l5), (6, vi l6), (7, vi l7)] 201 [] Q := by
  refine Zm.l (fun _ _ k_ => z_inc (v := (l7 + (1 : Int32))) dX8_rowWays_201 rfl rfl (by decide) (lv' := [(0, vr (some (97, 1, 0))), (1, vi l1), (2, vi l2), (3, vi l3), (4, vi l4), (5, vi l5), (6, vi l6), (7, vi (l7 + (1 : Int32)))]) rfl k_) ?_
  refine Zm.l (fun _ _ k_ => z_goto (tgt := 106) dX8_rowWays_204 rfl k_) ?_
  exact k
theorem sX8_rowWays_218 {E : zE} {d : Nat} {Q : zO → zM → Prop} (M : zM) (l1 : Int32) (l2 : Int32) (l3 : Int32) (l4 : Int32) (l5 : Int32) (l6 : Int32) (s0 : Int32) (k : Zm E YX8_addSort d M (zargs 0 [vr (some (97, 1, 0)), vi s0, vi (64 : Int32)]) 0 [] (zma E YX8_rowWays (d + 1) [(0, vr (some (97, 1, 0))), (1, vi l1), (2, vi l2), (3, vi l3), (4, vi l4), (5, vi l5), (6, vi l6)] 220 3 [] Q)) : Zm E YX8_rowWays (d + 1) M [(0, vr (some (97, 1, 0))), (1, vi l1), (2, vi l2), (3, vi l3), (4, vi l4), (5, vi l5), (6, vi l6)] 218 [vi s0, vr (some (97, 1, 0))] Q := by
  refine Zm.l (fun _ _ k_ => z_bipush (v := 64) dX8_rowWays_218 rfl k_) ?_
  exact zm_callV (as := [vi s0, vi (64 : Int32)]) (st := []) dX8_rowWays_220 vsX8_1072_1 (Nat.le_refl _) (Nat.le_of_ble_eq_true rfl) (Nat.le_of_ble_eq_true rfl) rfl k
theorem sX8_rowWays_223 {E : zE} {d : Nat} {Q : zO → zM → Prop} (M : zM) (l1 : Int32) (l2 : Int32) (l3 : Int32) (l4 : Int32) (l5 : Int32) (l6 : Int32) (k : Zm E YX8_rowWays (d + 1) M [(0, vr (some (97, 1, 0))), (1, vi l1), (2, vi l2), (3, vi l3), (4, vi l4), (5, vi l5), (6, vi (l6 + (1 : Int32)))] 18 [] Q) : Zm E YX8_rowWays (d + 1) M [(0, vr (some (97, 1, 0))), (1, vi l1), (2, vi l2), (3, vi l3), (4, vi l4), (5, vi l5), (6, vi l6)] 223 [] Q := by
  refine Zm.l (fun _ _ k_ => z_inc (v := (l6 + (1 : Int32))) dX8_rowWays_223 rfl rfl (by decide) (lv' := [(0, vr (some (97, 1, 0))), (1, vi l1), (2, vi l2), (3, vi l3), (4, vi l4), (5, vi l5), (6, vi (l6 + (1 : Int32)))]) rfl k_) ?_
  refine Zm.l (fun _ _ k_ => z_goto (tgt := 18) dX8_rowWays_226 rfl k_) ?_
  exact k
/-! ScriptTypesModel.ownWays(III)Z -/
theorem bX8_ownWays_0 : zdec cX8_ownWays 0 [(0, .aload_n 0, 1), (1, .iload_n 2, 1), (2, .invokevirtual 1147, 3), (5, .iconst 0, 1), (6, .istore 4, 2), (8, .iload 4, 2), (10, .aload_n 0, 1), (11, .getfield 765, 3), (14, .if_icmp .ge 115, 3), (17, .aload_n 0, 1), (18, .getfield 220, 3), (21, .iload_n 1, 1), (22, .laload, 1), (23, .aload_n 0, 1), (24, .getfield 223, 3), (27, .iload_n 1, 1)] = true := by decide +kernel
theorem dX8_ownWays_0 : decode cX8_ownWays 0 = .ok (.aload_n 0, 1) := zdec_at bX8_ownWays_0 0 rfl
theorem dX8_ownWays_1 : decode cX8_ownWays 1 = .ok (.iload_n 2, 1) := zdec_at bX8_ownWays_0 1 rfl
theorem dX8_ownWays_2 : decode cX8_ownWays 2 = .ok (.invokevirtual 1147, 3) := zdec_at bX8_ownWays_0 2 rfl
theorem dX8_ownWays_5 : decode cX8_ownWays 5 = .ok (.iconst 0, 1) := zdec_at bX8_ownWays_0 3 rfl
theorem dX8_ownWays_6 : decode cX8_ownWays 6 = .ok (.istore 4, 2) := zdec_at bX8_ownWays_0 4 rfl
theorem dX8_ownWays_8 : decode cX8_ownWays 8 = .ok (.iload 4, 2) := zdec_at bX8_ownWays_0 5 rfl
theorem dX8_ownWays_10 : decode cX8_ownWays 10 = .ok (.aload_n 0, 1) := zdec_at bX8_ownWays_0 6 rfl
theorem dX8_ownWays_11 : decode cX8_ownWays 11 = .ok (.getfield 765, 3) := zdec_at bX8_ownWays_0 7 rfl
theorem dX8_ownWays_14 : decode cX8_ownWays 14 = .ok (.if_icmp .ge 115, 3) := zdec_at bX8_ownWays_0 8 rfl
theorem dX8_ownWays_17 : decode cX8_ownWays 17 = .ok (.aload_n 0, 1) := zdec_at bX8_ownWays_0 9 rfl
theorem dX8_ownWays_18 : decode cX8_ownWays 18 = .ok (.getfield 220, 3) := zdec_at bX8_ownWays_0 10 rfl
theorem dX8_ownWays_21 : decode cX8_ownWays 21 = .ok (.iload_n 1, 1) := zdec_at bX8_ownWays_0 11 rfl
theorem dX8_ownWays_22 : decode cX8_ownWays 22 = .ok (.laload, 1) := zdec_at bX8_ownWays_0 12 rfl
theorem dX8_ownWays_23 : decode cX8_ownWays 23 = .ok (.aload_n 0, 1) := zdec_at bX8_ownWays_0 13 rfl
theorem dX8_ownWays_24 : decode cX8_ownWays 24 = .ok (.getfield 223, 3) := zdec_at bX8_ownWays_0 14 rfl
theorem dX8_ownWays_27 : decode cX8_ownWays 27 = .ok (.iload_n 1, 1) := zdec_at bX8_ownWays_0 15 rfl
theorem bX8_ownWays_28 : zdec cX8_ownWays 28 [(28, .laload, 1), (29, .iload 4, 2), (31, .invokestatic 1125, 3), (34, .ifCond .ne 6, 3), (37, .goto 86, 3), (40, .iconst 0, 1), (41, .istore 5, 2), (43, .iload 5, 2), (45, .aload_n 0, 1), (46, .getfield 762, 3), (49, .if_icmp .gt 74, 3), (52, .aload_n 0, 1), (53, .iload 5, 2), (55, .invokevirtual 1153, 3), (58, .ifCond .ne 6, 3), (61, .goto 56, 3)] = true := by decide +kernel
theorem dX8_ownWays_28 : decode cX8_ownWays 28 = .ok (.laload, 1) := zdec_at bX8_ownWays_28 0 rfl
theorem dX8_ownWays_29 : decode cX8_ownWays 29 = .ok (.iload 4, 2) := zdec_at bX8_ownWays_28 1 rfl
theorem dX8_ownWays_31 : decode cX8_ownWays 31 = .ok (.invokestatic 1125, 3) := zdec_at bX8_ownWays_28 2 rfl
theorem dX8_ownWays_34 : decode cX8_ownWays 34 = .ok (.ifCond .ne 6, 3) := zdec_at bX8_ownWays_28 3 rfl
theorem dX8_ownWays_37 : decode cX8_ownWays 37 = .ok (.goto 86, 3) := zdec_at bX8_ownWays_28 4 rfl
theorem dX8_ownWays_40 : decode cX8_ownWays 40 = .ok (.iconst 0, 1) := zdec_at bX8_ownWays_28 5 rfl
theorem dX8_ownWays_41 : decode cX8_ownWays 41 = .ok (.istore 5, 2) := zdec_at bX8_ownWays_28 6 rfl
theorem dX8_ownWays_43 : decode cX8_ownWays 43 = .ok (.iload 5, 2) := zdec_at bX8_ownWays_28 7 rfl
theorem dX8_ownWays_45 : decode cX8_ownWays 45 = .ok (.aload_n 0, 1) := zdec_at bX8_ownWays_28 8 rfl
theorem dX8_ownWays_46 : decode cX8_ownWays 46 = .ok (.getfield 762, 3) := zdec_at bX8_ownWays_28 9 rfl
theorem dX8_ownWays_49 : decode cX8_ownWays 49 = .ok (.if_icmp .gt 74, 3) := zdec_at bX8_ownWays_28 10 rfl
theorem dX8_ownWays_52 : decode cX8_ownWays 52 = .ok (.aload_n 0, 1) := zdec_at bX8_ownWays_28 11 rfl
theorem dX8_ownWays_53 : decode cX8_ownWays 53 = .ok (.iload 5, 2) := zdec_at bX8_ownWays_28 12 rfl
theorem dX8_ownWays_55 : decode cX8_ownWays 55 = .ok (.invokevirtual 1153, 3) := zdec_at bX8_ownWays_28 13 rfl
theorem dX8_ownWays_58 : decode cX8_ownWays 58 = .ok (.ifCond .ne 6, 3) := zdec_at bX8_ownWays_28 14 rfl
theorem dX8_ownWays_61 : decode cX8_ownWays 61 = .ok (.goto 56, 3) := zdec_at bX8_ownWays_28 15 rfl
theorem bX8_ownWays_64 : zdec cX8_ownWays 64 [(64, .aload_n 0, 1), (65, .aload_n 0, 1), (66, .sipush 639, 3), (69, .iload 4, 2), (71, .iload 5, 2), (73, .invokevirtual 1163, 3), (76, .invokevirtual 1231, 3), (79, .ifCond .ne 9, 3), (82, .aload_n 0, 1), (83, .iload_n 3, 1), (84, .iconst 4, 1), (85, .invokevirtual 1072, 3), (88, .aload_n 0, 1), (89, .aload_n 0, 1), (90, .sipush 639, 3), (93, .iload 4, 2)] = true := by decide +kernel
theorem dX8_ownWays_64 : decode cX8_ownWays 64 = .ok (.aload_n 0, 1) := zdec_at bX8_ownWays_64 0 rfl
theorem dX8_ownWays_65 : decode cX8_ownWays 65 = .ok (.aload_n 0, 1) := zdec_at bX8_ownWays_64 1 rfl
theorem dX8_ownWays_66 : decode cX8_ownWays 66 = .ok (.sipush 639, 3) := zdec_at bX8_ownWays_64 2 rfl
theorem dX8_ownWays_69 : decode cX8_ownWays 69 = .ok (.iload 4, 2) := zdec_at bX8_ownWays_64 3 rfl
theorem dX8_ownWays_71 : decode cX8_ownWays 71 = .ok (.iload 5, 2) := zdec_at bX8_ownWays_64 4 rfl
theorem dX8_ownWays_73 : decode cX8_ownWays 73 = .ok (.invokevirtual 1163, 3) := zdec_at bX8_ownWays_64 5 rfl
theorem dX8_ownWays_76 : decode cX8_ownWays 76 = .ok (.invokevirtual 1231, 3) := zdec_at bX8_ownWays_64 6 rfl
theorem dX8_ownWays_79 : decode cX8_ownWays 79 = .ok (.ifCond .ne 9, 3) := zdec_at bX8_ownWays_64 7 rfl
theorem dX8_ownWays_82 : decode cX8_ownWays 82 = .ok (.aload_n 0, 1) := zdec_at bX8_ownWays_64 8 rfl
theorem dX8_ownWays_83 : decode cX8_ownWays 83 = .ok (.iload_n 3, 1) := zdec_at bX8_ownWays_64 9 rfl
theorem dX8_ownWays_84 : decode cX8_ownWays 84 = .ok (.iconst 4, 1) := zdec_at bX8_ownWays_64 10 rfl
theorem dX8_ownWays_85 : decode cX8_ownWays 85 = .ok (.invokevirtual 1072, 3) := zdec_at bX8_ownWays_64 11 rfl
theorem dX8_ownWays_88 : decode cX8_ownWays 88 = .ok (.aload_n 0, 1) := zdec_at bX8_ownWays_64 12 rfl
theorem dX8_ownWays_89 : decode cX8_ownWays 89 = .ok (.aload_n 0, 1) := zdec_at bX8_ownWays_64 13 rfl
theorem dX8_ownWays_90 : decode cX8_ownWays 90 = .ok (.sipush 639, 3) := zdec_at bX8_ownWays_64 14 rfl
theorem dX8_ownWays_93 : decode cX8_ownWays 93 = .ok (.iload 4, 2) := zdec_at bX8_ownWays_64 15 rfl
theorem bX8_ownWays_95 : zdec cX8_ownWays 95 [(95, .iload 5, 2), (97, .invokevirtual 1163, 3), (100, .invokevirtual 1047, 3), (103, .sipush 512, 3), (106, .iand, 1), (107, .ifCond .eq 10, 3), (110, .aload_n 0, 1), (111, .iload_n 3, 1), (112, .bipush 8, 2), (114, .invokevirtual 1072, 3), (117, .iinc 5 1, 3), (120, .goto (-77), 3), (123, .iinc 4 1, 3), (126, .goto (-118), 3), (129, .aload_n 0, 1), (130, .iload_n 1, 1)] = true := by decide +kernel
theorem dX8_ownWays_95 : decode cX8_ownWays 95 = .ok (.iload 5, 2) := zdec_at bX8_ownWays_95 0 rfl
theorem dX8_ownWays_97 : decode cX8_ownWays 97 = .ok (.invokevirtual 1163, 3) := zdec_at bX8_ownWays_95 1 rfl
theorem dX8_ownWays_100 : decode cX8_ownWays 100 = .ok (.invokevirtual 1047, 3) := zdec_at bX8_ownWays_95 2 rfl
theorem dX8_ownWays_103 : decode cX8_ownWays 103 = .ok (.sipush 512, 3) := zdec_at bX8_ownWays_95 3 rfl
theorem dX8_ownWays_106 : decode cX8_ownWays 106 = .ok (.iand, 1) := zdec_at bX8_ownWays_95 4 rfl
theorem dX8_ownWays_107 : decode cX8_ownWays 107 = .ok (.ifCond .eq 10, 3) := zdec_at bX8_ownWays_95 5 rfl
theorem dX8_ownWays_110 : decode cX8_ownWays 110 = .ok (.aload_n 0, 1) := zdec_at bX8_ownWays_95 6 rfl
theorem dX8_ownWays_111 : decode cX8_ownWays 111 = .ok (.iload_n 3, 1) := zdec_at bX8_ownWays_95 7 rfl
theorem dX8_ownWays_112 : decode cX8_ownWays 112 = .ok (.bipush 8, 2) := zdec_at bX8_ownWays_95 8 rfl
theorem dX8_ownWays_114 : decode cX8_ownWays 114 = .ok (.invokevirtual 1072, 3) := zdec_at bX8_ownWays_95 9 rfl
theorem dX8_ownWays_117 : decode cX8_ownWays 117 = .ok (.iinc 5 1, 3) := zdec_at bX8_ownWays_95 10 rfl
theorem dX8_ownWays_120 : decode cX8_ownWays 120 = .ok (.goto (-77), 3) := zdec_at bX8_ownWays_95 11 rfl
theorem dX8_ownWays_123 : decode cX8_ownWays 123 = .ok (.iinc 4 1, 3) := zdec_at bX8_ownWays_95 12 rfl
theorem dX8_ownWays_126 : decode cX8_ownWays 126 = .ok (.goto (-118), 3) := zdec_at bX8_ownWays_95 13 rfl
theorem dX8_ownWays_129 : decode cX8_ownWays 129 = .ok (.aload_n 0, 1) := zdec_at bX8_ownWays_95 14 rfl
theorem dX8_ownWays_130 : decode cX8_ownWays 130 = .ok (.iload_n 1, 1) := zdec_at bX8_ownWays_95 15 rfl
theorem bX8_ownWays_131 : zdec cX8_ownWays 131 [(131, .invokevirtual 1059, 3), (134, .ifCond .eq 7, 3), (137, .iconst 1, 1), (138, .goto 4, 3), (141, .iconst 0, 1), (142, .ireturn, 1)] = true := by decide +kernel
theorem dX8_ownWays_131 : decode cX8_ownWays 131 = .ok (.invokevirtual 1059, 3) := zdec_at bX8_ownWays_131 0 rfl
theorem dX8_ownWays_134 : decode cX8_ownWays 134 = .ok (.ifCond .eq 7, 3) := zdec_at bX8_ownWays_131 1 rfl
theorem dX8_ownWays_137 : decode cX8_ownWays 137 = .ok (.iconst 1, 1) := zdec_at bX8_ownWays_131 2 rfl
theorem dX8_ownWays_138 : decode cX8_ownWays 138 = .ok (.goto 4, 3) := zdec_at bX8_ownWays_131 3 rfl
theorem dX8_ownWays_141 : decode cX8_ownWays 141 = .ok (.iconst 0, 1) := zdec_at bX8_ownWays_131 4 rfl
theorem dX8_ownWays_142 : decode cX8_ownWays 142 = .ok (.ireturn, 1) := zdec_at bX8_ownWays_131 5 rfl
theorem sX8_ownWays_0 {E : zE} {d : Nat} {Q : zO → zM → Prop} (M : zM) (l1 : Int32) (l2 : Int32) (l3 : Int32) (k : Zm E YX8_keysOf d M (zargs 0 [vr (some (97, 1, 0)), vi l2]) 0 [] (zma E YX8_ownWays (d + 1) [(0, vr (some (97, 1, 0))), (1, vi l1), (3, vi l3)] 2 3 [] Q)) : Zm E YX8_ownWays (d + 1) M [(0, vr (some (97, 1, 0))), (1, vi l1), (2, vi l2), (3, vi l3)] 0 [] Q := by
  refine Zm.l (fun _ _ k_ => z_aload_n dX8_ownWays_0 rfl rfl k_) ?_
  refine Zm.l (fun _ _ k_ => z_iload_n dX8_ownWays_1 rfl rfl k_) ?_
  refine Zm.pick [0, 1, 3] rfl ?_
  exact zm_callV (as := [vi l2]) (st := []) dX8_ownWays_2 vsX8_1147_1 (Nat.le_refl _) (Nat.le_of_ble_eq_true rfl) (Nat.le_of_ble_eq_true rfl) rfl k
theorem sX8_ownWays_5 {E : zE} {d : Nat} {Q : zO → zM → Prop} (M : zM) (l1 : Int32) (l3 : Int32) (k : Zm E YX8_ownWays (d + 1) M [(0, vr (some (97, 1, 0))), (1, vi l1), (3, vi l3), (4, vi (0 : Int32))] 8 [] Q) : Zm E YX8_ownWays (d + 1) M [(0, vr (some (97, 1, 0))), (1, vi l1), (3, vi l3)] 5 [] Q := by
  refine Zm.l (fun _ _ k_ => z_iconst (v := 0) dX8_ownWays_5 rfl k_) ?_
  refine Zm.l (fun _ _ k_ => z_ist dX8_ownWays_6 (by decide) (lv' := [(0, vr (some (97, 1, 0))), (1, vi l1), (3, vi l3), (4, vi (0 : Int32))]) rfl k_) ?_
  exact k
theorem sX8_ownWays_8 {E : zE} {d : Nat} {Q : zO → zM → Prop} (M : zM) (l1 : Int32) (l3 : Int32) (l4 : Int32) (k : if (gi M 97 71) ≤ l4 then (Zm E YX8_plainly d M (zargs 0 [vr (some (97, 1, 0)), vi l1]) 0 [] (zma E YX8_ownWays (d + 1) [] 131 3 [] Q)) else (vp_in l1 647800 ∧ (vp_in l1 647800 ∧ (Zm E YX8_isIn d M (zargs 0 [vl (gl M 166 (l1).toNatClampNeg), vl (gl M 167 (l1).toNatClampNeg), vi l4]) 0 [] (zma E YX8_ownWays (d + 1) [(0, vr (some (97, 1, 0))), (1, vi l1), (3, vi l3), (4, vi l4)] 31 3 [] Q))))) : Zm E YX8_ownWays (d + 1) M [(0, vr (some (97, 1, 0))), (1, vi l1), (3, vi l3), (4, vi l4)] 8 [] Q := by
  refine Zm.l (fun _ _ k_ => z_iload dX8_ownWays_8 rfl k_) ?_
  refine Zm.l (fun _ _ k_ => z_aload_n dX8_ownWays_10 rfl rfl k_) ?_
  refine zm_geti dX8_ownWays_11 fsX8_765_1 (by decide) (by decide) ?_
  refine Zm.br (fun _ _ k1_ k2_ => z_icmp_ge (tgt := 129) dX8_ownWays_14 rfl k1_ k2_) (fun h_ => ?_) (fun h_ => ?_)
  · have k := zit h_ k
    refine Zm.l (fun _ _ k_ => z_aload_n dX8_ownWays_129 rfl rfl k_) ?_
    refine Zm.l (fun _ _ k_ => z_iload_n dX8_ownWays_130 rfl rfl k_) ?_
    refine Zm.pick [] rfl ?_
    exact zm_callV (as := [vi l1]) (st := []) dX8_ownWays_131 vsX8_1059_1 (Nat.le_refl _) (Nat.le_of_ble_eq_true rfl) (Nat.le_of_ble_eq_true rfl) rfl k
  · have k := zif h_ k
    refine Zm.l (fun _ _ k_ => z_aload_n dX8_ownWays_17 rfl rfl k_) ?_
    refine zm_getr 63 dX8_ownWays_18 fsX8_220_1 rfl ?_
    refine Zm.l (fun _ _ k_ => z_iload_n dX8_ownWays_21 rfl rfl k_) ?_
    obtain ⟨b_, k⟩ := k
    refine zm_lald dX8_ownWays_22 b_ (by decide) (by decide) ?_
    refine Zm.l (fun _ _ k_ => z_aload_n dX8_ownWays_23 rfl rfl k_) ?_
    refine zm_getr 64 dX8_ownWays_24 fsX8_223_1 rfl ?_
    refine Zm.l (fun _ _ k_ => z_iload_n dX8_ownWays_27 rfl rfl k_) ?_
    obtain ⟨b_, k⟩ := k
    refine zm_lald dX8_ownWays_28 b_ (by decide) (by decide) ?_
    refine Zm.l (fun _ _ k_ => z_iload dX8_ownWays_29 rfl k_) ?_
    exact zm_callS (as := [vl (gl M 166 (l1).toNatClampNeg), vl (gl M 167 (l1).toNatClampNeg), vi l4]) (st := []) dX8_ownWays_31 ssX8_1125 (Nat.le_refl _) (Nat.le_of_ble_eq_true rfl) (Nat.le_of_ble_eq_true rfl) rfl k
theorem sX8_ownWays_34 {E : zE} {d : Nat} {Q : zO → zM → Prop} (M : zM) (l1 : Int32) (l3 : Int32) (l4 : Int32) (s0 : Int32) (k : if s0 = 0 then (Zm E YX8_ownWays (d + 1) M [(0, vr (some (97, 1, 0))), (1, vi l1), (3, vi l3), (4, vi (l4 + (1 : Int32)))] 8 [] Q) else (Zm E YX8_ownWays (d + 1) M [(0, vr (some (97, 1, 0))), (1, vi l1), (3, vi l3), (4, vi l4), (5, vi (0 : Int32))] 43 [] Q)) : Zm E YX8_ownWays (d + 1) M [(0, vr (some (97, 1, 0))), (1, vi l1), (3, vi l3), (4, vi l4)] 34 [vi s0] Q := by
  refine Zm.brn (fun _ _ k1_ k2_ => z_if_ne (tgt := 40) dX8_ownWays_34 rfl k1_ k2_) (fun h_ => ?_) (fun h_ => ?_)
  · have k := zif h_ k
    refine Zm.l (fun _ _ k_ => z_iconst (v := 0) dX8_ownWays_40 rfl k_) ?_
    refine Zm.l (fun _ _ k_ => z_ist dX8_ownWays_41 (by decide) (lv' := [(0, vr (some (97, 1, 0))), (1, vi l1), (3, vi l3), (4, vi l4), (5, vi (0 : Int32))]) rfl k_) ?_
    exact k
  · have k := zit h_ k
    refine Zm.l (fun _ _ k_ => z_goto (tgt := 123) dX8_ownWays_37 rfl k_) ?_
    refine Zm.l (fun _ _ k_ => z_inc (v := (l4 + (1 : Int32))) dX8_ownWays_123 rfl rfl (by decide) (lv' := [(0, vr (some (97, 1, 0))), (1, vi l1), (3, vi l3), (4, vi (l4 + (1 : Int32)))]) rfl k_) ?_
    refine Zm.l (fun _ _ k_ => z_goto (tgt := 8) dX8_ownWays_126 rfl k_) ?_
    exact k
theorem sX8_ownWays_43 {E : zE} {d : Nat} {Q : zO → zM → Prop} (M : zM) (l1 : Int32) (l3 : Int32) (l4 : Int32) (l5 : Int32) (k : if (gi M 97 8) < l5 then (Zm E YX8_ownWays (d + 1) M [(0, vr (some (97, 1, 0))), (1, vi l1), (3, vi l3), (4, vi (l4 + (1 : Int32)))] 8 [] Q) else (Zm E YX8_hasKey d M (zargs 0 [vr (some (97, 1, 0)), vi l5]) 0 [] (zma E YX8_ownWays (d + 1) [(0, vr (some (97, 1, 0))), (1, vi l1), (3, vi l3), (4, vi l4), (5, vi l5)] 55 3 [] Q))) : Zm E YX8_ownWays (d + 1) M [(0, vr (some (97, 1, 0))), (1, vi l1), (3, vi l3), (4, vi l4), (5, vi l5)] 43 [] Q := by
  refine Zm.l (fun _ _ k_ => z_iload dX8_ownWays_43 rfl k_) ?_
  refine Zm.l (fun _ _ k_ => z_aload_n dX8_ownWays_45 rfl rfl k_) ?_
  refine zm_geti dX8_ownWays_46 fsX8_762_1 (by decide) (by decide) ?_
  refine Zm.br (fun _ _ k1_ k2_ => z_icmp_gt (tgt := 123) dX8_ownWays_49 rfl k1_ k2_) (fun h_ => ?_) (fun h_ => ?_)
  · have k := zit h_ k
    refine Zm.l (fun _ _ k_ => z_inc (v := (l4 + (1 : Int32))) dX8_ownWays_123 rfl rfl (by decide) (lv' := [(0, vr (some (97, 1, 0))), (1, vi l1), (3, vi l3), (4, vi (l4 + (1 : Int32))), (5, vi l5)]) rfl k_) ?_
    refine Zm.l (fun _ _ k_ => z_goto (tgt := 8) dX8_ownWays_126 rfl k_) ?_
    refine Zm.pick [0, 1, 2, 3] rfl ?_
    exact k
  · have k := zif h_ k
    refine Zm.l (fun _ _ k_ => z_aload_n dX8_ownWays_52 rfl rfl k_) ?_
    refine Zm.l (fun _ _ k_ => z_iload dX8_ownWays_53 rfl k_) ?_
    exact zm_callV (as := [vi l5]) (st := []) dX8_ownWays_55 vsX8_1153_1 (Nat.le_refl _) (Nat.le_of_ble_eq_true rfl) (Nat.le_of_ble_eq_true rfl) rfl k
theorem sX8_ownWays_58 {E : zE} {d : Nat} {Q : zO → zM → Prop} (M : zM) (l1 : Int32) (l3 : Int32) (l4 : Int32) (l5 : Int32) (s0 : Int32) (k : if s0 = 0 then (Zm E YX8_ownWays (d + 1) M [(0, vr (some (97, 1, 0))), (1, vi l1), (3, vi l3), (4, vi l4), (5, vi l5)] 117 [] Q) else (Zm E YX8_field d M (zargs 0 [vr (some (97, 1, 0)), vi (639 : Int32), vi l4, vi l5]) 0 [] (zma E YX8_ownWays (d + 1) [(0, vr (some (97, 1, 0))), (1, vi l1), (3, vi l3), (4, vi l4), (5, vi l5)] 73 3 [vr (some (97, 1, 0))] Q))) : Zm E YX8_ownWays (d + 1) M [(0, vr (some (97, 1, 0))), (1, vi l1), (3, vi l3), (4, vi l4), (5, vi l5)] 58 [vi s0] Q := by
  refine Zm.brn (fun _ _ k1_ k2_ => z_if_ne (tgt := 64) dX8_ownWays_58 rfl k1_ k2_) (fun h_ => ?_) (fun h_ => ?_)
  · have k := zif h_ k
    refine Zm.l (fun _ _ k_ => z_aload_n dX8_ownWays_64 rfl rfl k_) ?_
    refine Zm.l (fun _ _ k_ => z_aload_n dX8_ownWays_65 rfl rfl k_) ?_
    refine Zm.l (fun _ _ k_ => z_sipush (v := 639) dX8_ownWays_66 rfl k_) ?_
    refine Zm.l (fun _ _ k_ => z_iload dX8_ownWays_69 rfl k_) ?_
    refine Zm.l (fun _ _ k_ => z_iload dX8_ownWays_71 rfl k_) ?_
    exact zm_callV (as := [vi (639 : Int32), vi l4, vi l5]) (st := [vr (some (97, 1, 0))]) dX8_ownWays_73 vsX8_1163_1 (Nat.le_refl _) (Nat.le_of_ble_eq_true rfl) (Nat.le_of_ble_eq_true rfl) rfl k
  · have k := zit h_ k
    refine Zm.l (fun _ _ k_ => z_goto (tgt := 117) dX8_ownWays_61 rfl k_) ?_
    exact k
theorem sX8_ownWays_76 {E : zE} {d : Nat} {Q : zO → zM → Prop} (M : zM) (l1 : Int32) (l3 : Int32) (l4 : Int32) (l5 : Int32) (s0 : Int32) (k : Zm E YX8_isEmpty d M (zargs 0 [vr (some (97, 1, 0)), vi s0]) 0 [] (zma E YX8_ownWays (d + 1) [(0, vr (some (97, 1, 0))), (1, vi l1), (3, vi l3), (4, vi l4), (5, vi l5)] 76 3 [] Q)) : Zm E YX8_ownWays (d + 1) M [(0, vr (some (97, 1, 0))), (1, vi l1), (3, vi l3), (4, vi l4), (5, vi l5)] 76 [vi s0, vr (some (97, 1, 0))] Q := by
  exact zm_callV (as := [vi s0]) (st := []) dX8_ownWays_76 vsX8_1231_1 (Nat.le_refl _) (Nat.le_of_ble_eq_true rfl) (Nat.le_of_ble_eq_true rfl) rfl k
theorem sX8_ownWays_79 {E : zE} {d : Nat} {Q : zO → zM → Prop} (M : zM) (l1 : Int32) (l3 : Int32) (l4 : Int32) (l5 : Int32) (s0 : Int32) (k : if s0 = 0 then (Zm E YX8_addSort d M (zargs 0 [vr (some (97, 1, 0)), vi l3, vi (4 : Int32)]) 0 [] (zma E YX8_ownWays (d + 1) [(0, vr (some (97, 1, 0))), (1, vi l1), (3, vi l3), (4, vi l4), (5, vi l5)] 85 3 [] Q)) else (Zm E YX8_ownWays (d + 1) M [(0, vr (some (97, 1, 0))), (1, vi l1), (3, vi l3), (4, vi l4), (5, vi l5)] 88 [] Q)) : Zm E YX8_ownWays (d + 1) M [(0, vr (some (97, 1, 0))), (1, vi l1), (3, vi l3), (4, vi l4), (5, vi l5)] 79 [vi s0] Q := by
  refine Zm.brn (fun _ _ k1_ k2_ => z_if_ne (tgt := 88) dX8_ownWays_79 rfl k1_ k2_) (fun h_ => ?_) (fun h_ => ?_)
  · have k := zif h_ k
    exact k
  · have k := zit h_ k
    refine Zm.l (fun _ _ k_ => z_aload_n dX8_ownWays_82 rfl rfl k_) ?_
    refine Zm.l (fun _ _ k_ => z_iload_n dX8_ownWays_83 rfl rfl k_) ?_
    refine Zm.l (fun _ _ k_ => z_iconst (v := 4) dX8_ownWays_84 rfl k_) ?_
    exact zm_callV (as := [vi l3, vi (4 : Int32)]) (st := []) dX8_ownWays_85 vsX8_1072_1 (Nat.le_refl _) (Nat.le_of_ble_eq_true rfl) (Nat.le_of_ble_eq_true rfl) rfl k
theorem sX8_ownWays_88 {E : zE} {d : Nat} {Q : zO → zM → Prop} (M : zM) (l1 : Int32) (l3 : Int32) (l4 : Int32) (l5 : Int32) (k : Zm E YX8_field d M (zargs 0 [vr (some (97, 1, 0)), vi (639 : Int32), vi l4, vi l5]) 0 [] (zma E YX8_ownWays (d + 1) [(0, vr (some (97, 1, 0))), (1, vi l1), (3, vi l3), (4, vi l4), (5, vi l5)] 97 3 [vr (some (97, 1, 0))] Q)) : Zm E YX8_ownWays (d + 1) M [(0, vr (some (97, 1, 0))), (1, vi l1), (3, vi l3), (4, vi l4), (5, vi l5)] 88 [] Q := by
  refine Zm.l (fun _ _ k_ => z_aload_n dX8_ownWays_88 rfl rfl k_) ?_
  refine Zm.l (fun _ _ k_ => z_aload_n dX8_ownWays_89 rfl rfl k_) ?_
  refine Zm.l (fun _ _ k_ => z_sipush (v := 639) dX8_ownWays_90 rfl k_) ?_
  refine Zm.l (fun _ _ k_ => z_iload dX8_ownWays_93 rfl k_) ?_
  refine Zm.l (fun _ _ k_ => z_iload dX8_ownWays_95 rfl k_) ?_
  exact zm_callV (as := [vi (639 : Int32), vi l4, vi l5]) (st := [vr (some (97, 1, 0))]) dX8_ownWays_97 vsX8_1163_1 (Nat.le_refl _) (Nat.le_of_ble_eq_true rfl) (Nat.le_of_ble_eq_true rfl) rfl k
theorem sX8_ownWays_100 {E : zE} {d : Nat} {Q : zO → zM → Prop} (M : zM) (l1 : Int32) (l3 : Int32) (l4 : Int32) (l5 : Int32) (s0 : Int32) (k : Zm E YX8_has d M (zargs 0 [vr (some (97, 1, 0)), vi s0]) 0 [] (zma E YX8_ownWays (d + 1) [(0, vr (some (97, 1, 0))), (1, vi l1), (3, vi l3), (4, vi l4), (5, vi l5)] 100 3 [] Q)) : Zm E YX8_ownWays (d + 1) M [(0, vr (some (97, 1, 0))), (1, vi l1), (3, vi l3), (4, vi l4), (5, vi l5)] 100 [vi s0, vr (some (97, 1, 0))] Q := by
  exact zm_callV (as := [vi s0]) (st := []) dX8_ownWays_100 vsX8_1047_1 (Nat.le_refl _) (Nat.le_of_ble_eq_true rfl) (Nat.le_of_ble_eq_true rfl) rfl k
theorem sX8_ownWays_103 {E : zE} {d : Nat} {Q : zO → zM → Prop} (M : zM) (l1 : Int32) (l3 : Int32) (l4 : Int32) (l5 : Int32) (s0 : Int32) (k : if (s0 &&& (512 : Int32)) = 0 then (Zm E YX8_ownWays (d + 1) M [(0, vr (some (97, 1, 0))), (1, vi l1), (3, vi l3), (4, vi l4), (5, vi l5)] 117 [] Q) else (Zm E YX8_addSort d M (zargs 0 [vr (some (97, 1, 0)), vi l3, vi (8 : Int32)]) 0 [] (zma E YX8_ownWays (d + 1) [(0, vr (some (97, 1, 0))), (1, vi l1), (3, vi l3), (4, vi l4), (5, vi l5)] 114 3 [] Q))) : Zm E YX8_ownWays (d + 1) M [(0, vr (some (97, 1, 0))), (1, vi l1), (3, vi l3), (4, vi l4), (5, vi l5)] 103 [vi s0] Q := by
  refine Zm.l (fun _ _ k_ => z_sipush (v := 512) dX8_ownWays_103 rfl k_) ?_
  refine Zm.l (fun _ _ k_ => z_iand dX8_ownWays_106 k_) ?_
  refine Zm.br (fun _ _ k1_ k2_ => z_if_eq (tgt := 117) dX8_ownWays_107 rfl k1_ k2_) (fun h_ => ?_) (fun h_ => ?_)
  · have k := zit h_ k
    exact k
  · have k := zif h_ k
    refine Zm.l (fun _ _ k_ => z_aload_n dX8_ownWays_110 rfl rfl k_) ?_
    refine Zm.l (fun _ _ k_ => z_iload_n dX8_ownWays_111 rfl rfl k_) ?_
    refine Zm.l (fun _ _ k_ => z_bipush (v := 8) dX8_ownWays_112 rfl k_) ?_
    exact zm_callV (as := [vi l3, vi (8 : Int32)]) (st := []) dX8_ownWays_114 vsX8_1072_1 (Nat.le_refl _) (Nat.le_of_ble_eq_true rfl) (Nat.le_of_ble_eq_true rfl) rfl k
theorem sX8_ownWays_117 {E : zE} {d : Nat} {Q : zO → zM → Prop} (M : zM) (l1 : Int32) (l3 : Int32) (l4 : Int32) (l5 : Int32) (k : Zm E YX8_ownWays (d + 1) M [(0, vr (some (97, 1, 0))), (1, vi l1), (3, vi l3), (4, vi l4), (5, vi (l5 + (1 : Int32)))] 43 [] Q) : Zm E YX8_ownWays (d + 1) M [(0, vr (some (97, 1, 0))), (1, vi l1), (3, vi l3), (4, vi l4), (5, vi l5)] 117 [] Q := by
  refine Zm.l (fun _ _ k_ => z_inc (v := (l5 + (1 : Int32))) dX8_ownWays_117 rfl rfl (by decide) (lv' := [(0, vr (some (97, 1, 0))), (1, vi l1), (3, vi l3), (4, vi l4), (5, vi (l5 + (1 : Int32)))]) rfl k_) ?_
  refine Zm.l (fun _ _ k_ => z_goto (tgt := 43) dX8_ownWays_120 rfl k_) ?_
  exact k
theorem sX8_ownWays_134 {E : zE} {d : Nat} {Q : zO → zM → Prop} (M : zM) (s0 : Int32) (k : if s0 = 0 then (Q (.inl (some (vi (0 : Int32)))) M) else (Q (.inl (some (vi (1 : Int32)))) M)) : Zm E YX8_ownWays (d + 1) M [] 134 [vi s0] Q := by
  refine Zm.br (fun _ _ k1_ k2_ => z_if_eq (tgt := 141) dX8_ownWays_134 rfl k1_ k2_) (fun h_ => ?_) (fun h_ => ?_)
  · have k := zit h_ k
    refine Zm.l (fun _ _ k_ => z_iconst (v := 0) dX8_ownWays_141 rfl k_) ?_
    exact zm_iret dX8_ownWays_142 rfl (by decide) k
  · have k := zif h_ k
    refine Zm.l (fun _ _ k_ => z_iconst (v := 1) dX8_ownWays_137 rfl k_) ?_
    refine Zm.l (fun _ _ k_ => z_goto (tgt := 142) dX8_ownWays_138 rfl k_) ?_
    exact zm_iret dX8_ownWays_142 rfl (by decide) k
/-! ScriptTypesModel.codeWays(IJJIIIII)V -/
theorem bX8_codeWays_0 : zdec cX8_codeWays 0 [(0, .bipush 29, 2), (2, .bipush 6, 2), (4, .iload_n 1, 1), (5, .iconst 1, 1), (6, .isub, 1), (7, .imul, 1), (8, .iadd, 1), (9, .iconst 2, 1), (10, .iadd, 1), (11, .istore 11, 2), (13, .lload_n 2, 1), (14, .lload 4, 2), (16, .iload 11, 2), (18, .invokestatic 1125, 3), (21, .istore 12, 2), (23, .lload_n 2, 1)] = true := by decide +kernel
theorem dX8_codeWays_0 : decode cX8_codeWays 0 = .ok (.bipush 29, 2) := zdec_at bX8_codeWays_0 0 rfl
theorem dX8_codeWays_2 : decode cX8_codeWays 2 = .ok (.bipush 6, 2) := zdec_at bX8_codeWays_0 1 rfl
theorem dX8_codeWays_4 : decode cX8_codeWays 4 = .ok (.iload_n 1, 1) := zdec_at bX8_codeWays_0 2 rfl
theorem dX8_codeWays_5 : decode cX8_codeWays 5 = .ok (.iconst 1, 1) := zdec_at bX8_codeWays_0 3 rfl
theorem dX8_codeWays_6 : decode cX8_codeWays 6 = .ok (.isub, 1) := zdec_at bX8_codeWays_0 4 rfl
theorem dX8_codeWays_7 : decode cX8_codeWays 7 = .ok (.imul, 1) := zdec_at bX8_codeWays_0 5 rfl
theorem dX8_codeWays_8 : decode cX8_codeWays 8 = .ok (.iadd, 1) := zdec_at bX8_codeWays_0 6 rfl
theorem dX8_codeWays_9 : decode cX8_codeWays 9 = .ok (.iconst 2, 1) := zdec_at bX8_codeWays_0 7 rfl
theorem dX8_codeWays_10 : decode cX8_codeWays 10 = .ok (.iadd, 1) := zdec_at bX8_codeWays_0 8 rfl
theorem dX8_codeWays_11 : decode cX8_codeWays 11 = .ok (.istore 11, 2) := zdec_at bX8_codeWays_0 9 rfl
theorem dX8_codeWays_13 : decode cX8_codeWays 13 = .ok (.lload_n 2, 1) := zdec_at bX8_codeWays_0 10 rfl
theorem dX8_codeWays_14 : decode cX8_codeWays 14 = .ok (.lload 4, 2) := zdec_at bX8_codeWays_0 11 rfl
theorem dX8_codeWays_16 : decode cX8_codeWays 16 = .ok (.iload 11, 2) := zdec_at bX8_codeWays_0 12 rfl
theorem dX8_codeWays_18 : decode cX8_codeWays 18 = .ok (.invokestatic 1125, 3) := zdec_at bX8_codeWays_0 13 rfl
theorem dX8_codeWays_21 : decode cX8_codeWays 21 = .ok (.istore 12, 2) := zdec_at bX8_codeWays_0 14 rfl
theorem dX8_codeWays_23 : decode cX8_codeWays 23 = .ok (.lload_n 2, 1) := zdec_at bX8_codeWays_0 15 rfl
theorem bX8_codeWays_24 : zdec cX8_codeWays 24 [(24, .lload 4, 2), (26, .iload 11, 2), (28, .iconst 1, 1), (29, .iadd, 1), (30, .invokestatic 1125, 3), (33, .istore 13, 2), (35, .iload 12, 2), (37, .ifCond .ne 9, 3), (40, .iload 13, 2), (42, .ifCond .ne 4, 3), (45, .return_, 1), (46, .aload_n 0, 1), (47, .lload_n 2, 1), (48, .lload 4, 2), (50, .iload 10, 2), (52, .invokevirtual 1336, 3)] = true := by decide +kernel
theorem dX8_codeWays_24 : decode cX8_codeWays 24 = .ok (.lload 4, 2) := zdec_at bX8_codeWays_24 0 rfl
theorem dX8_codeWays_26 : decode cX8_codeWays 26 = .ok (.iload 11, 2) := zdec_at bX8_codeWays_24 1 rfl
theorem dX8_codeWays_28 : decode cX8_codeWays 28 = .ok (.iconst 1, 1) := zdec_at bX8_codeWays_24 2 rfl
theorem dX8_codeWays_29 : decode cX8_codeWays 29 = .ok (.iadd, 1) := zdec_at bX8_codeWays_24 3 rfl
theorem dX8_codeWays_30 : decode cX8_codeWays 30 = .ok (.invokestatic 1125, 3) := zdec_at bX8_codeWays_24 4 rfl
theorem dX8_codeWays_33 : decode cX8_codeWays 33 = .ok (.istore 13, 2) := zdec_at bX8_codeWays_24 5 rfl
theorem dX8_codeWays_35 : decode cX8_codeWays 35 = .ok (.iload 12, 2) := zdec_at bX8_codeWays_24 6 rfl
theorem dX8_codeWays_37 : decode cX8_codeWays 37 = .ok (.ifCond .ne 9, 3) := zdec_at bX8_codeWays_24 7 rfl
theorem dX8_codeWays_40 : decode cX8_codeWays 40 = .ok (.iload 13, 2) := zdec_at bX8_codeWays_24 8 rfl
theorem dX8_codeWays_42 : decode cX8_codeWays 42 = .ok (.ifCond .ne 4, 3) := zdec_at bX8_codeWays_24 9 rfl
theorem dX8_codeWays_45 : decode cX8_codeWays 45 = .ok (.return_, 1) := zdec_at bX8_codeWays_24 10 rfl
theorem dX8_codeWays_46 : decode cX8_codeWays 46 = .ok (.aload_n 0, 1) := zdec_at bX8_codeWays_24 11 rfl
theorem dX8_codeWays_47 : decode cX8_codeWays 47 = .ok (.lload_n 2, 1) := zdec_at bX8_codeWays_24 12 rfl
theorem dX8_codeWays_48 : decode cX8_codeWays 48 = .ok (.lload 4, 2) := zdec_at bX8_codeWays_24 13 rfl
theorem dX8_codeWays_50 : decode cX8_codeWays 50 = .ok (.iload 10, 2) := zdec_at bX8_codeWays_24 14 rfl
theorem dX8_codeWays_52 : decode cX8_codeWays 52 = .ok (.invokevirtual 1336, 3) := zdec_at bX8_codeWays_24 15 rfl
theorem bX8_codeWays_55 : zdec cX8_codeWays 55 [(55, .aload_n 0, 1), (56, .iload_n 1, 1), (57, .iload 12, 2), (59, .iload 13, 2), (61, .iload 6, 2), (63, .iload 7, 2), (65, .iload 8, 2), (67, .iload 10, 2), (69, .invokevirtual 1342, 3), (72, .aload_n 0, 1), (73, .getfield 606, 3), (76, .iconst 2, 1), (77, .iload_n 1, 1), (78, .imul, 1), (79, .iadd, 1), (80, .istore 14, 2)] = true := by decide +kernel
theorem dX8_codeWays_55 : decode cX8_codeWays 55 = .ok (.aload_n 0, 1) := zdec_at bX8_codeWays_55 0 rfl
theorem dX8_codeWays_56 : decode cX8_codeWays 56 = .ok (.iload_n 1, 1) := zdec_at bX8_codeWays_55 1 rfl
theorem dX8_codeWays_57 : decode cX8_codeWays 57 = .ok (.iload 12, 2) := zdec_at bX8_codeWays_55 2 rfl
theorem dX8_codeWays_59 : decode cX8_codeWays 59 = .ok (.iload 13, 2) := zdec_at bX8_codeWays_55 3 rfl
theorem dX8_codeWays_61 : decode cX8_codeWays 61 = .ok (.iload 6, 2) := zdec_at bX8_codeWays_55 4 rfl
theorem dX8_codeWays_63 : decode cX8_codeWays 63 = .ok (.iload 7, 2) := zdec_at bX8_codeWays_55 5 rfl
theorem dX8_codeWays_65 : decode cX8_codeWays 65 = .ok (.iload 8, 2) := zdec_at bX8_codeWays_55 6 rfl
theorem dX8_codeWays_67 : decode cX8_codeWays 67 = .ok (.iload 10, 2) := zdec_at bX8_codeWays_55 7 rfl
theorem dX8_codeWays_69 : decode cX8_codeWays 69 = .ok (.invokevirtual 1342, 3) := zdec_at bX8_codeWays_55 8 rfl
theorem dX8_codeWays_72 : decode cX8_codeWays 72 = .ok (.aload_n 0, 1) := zdec_at bX8_codeWays_55 9 rfl
theorem dX8_codeWays_73 : decode cX8_codeWays 73 = .ok (.getfield 606, 3) := zdec_at bX8_codeWays_55 10 rfl
theorem dX8_codeWays_76 : decode cX8_codeWays 76 = .ok (.iconst 2, 1) := zdec_at bX8_codeWays_55 11 rfl
theorem dX8_codeWays_77 : decode cX8_codeWays 77 = .ok (.iload_n 1, 1) := zdec_at bX8_codeWays_55 12 rfl
theorem dX8_codeWays_78 : decode cX8_codeWays 78 = .ok (.imul, 1) := zdec_at bX8_codeWays_55 13 rfl
theorem dX8_codeWays_79 : decode cX8_codeWays 79 = .ok (.iadd, 1) := zdec_at bX8_codeWays_55 14 rfl
theorem dX8_codeWays_80 : decode cX8_codeWays 80 = .ok (.istore 14, 2) := zdec_at bX8_codeWays_55 15 rfl
theorem bX8_codeWays_82 : zdec cX8_codeWays 82 [(82, .aload_n 0, 1), (83, .getfield 226, 3), (86, .iload 14, 2), (88, .baload, 1), (89, .ifCond .eq 100, 3), (92, .aload_n 0, 1), (93, .lload_n 2, 1), (94, .lload 4, 2), (96, .iload 10, 2), (98, .invokevirtual 1336, 3), (101, .aload_n 0, 1), (102, .iload 14, 2), (104, .invokevirtual 1346, 3), (107, .ldc_w 1349, 3), (110, .istore 15, 2), (112, .aload_n 0, 1)] = true := by decide +kernel
theorem dX8_codeWays_82 : decode cX8_codeWays 82 = .ok (.aload_n 0, 1) := zdec_at bX8_codeWays_82 0 rfl
theorem dX8_codeWays_83 : decode cX8_codeWays 83 = .ok (.getfield 226, 3) := zdec_at bX8_codeWays_82 1 rfl
theorem dX8_codeWays_86 : decode cX8_codeWays 86 = .ok (.iload 14, 2) := zdec_at bX8_codeWays_82 2 rfl
theorem dX8_codeWays_88 : decode cX8_codeWays 88 = .ok (.baload, 1) := zdec_at bX8_codeWays_82 3 rfl
theorem dX8_codeWays_89 : decode cX8_codeWays 89 = .ok (.ifCond .eq 100, 3) := zdec_at bX8_codeWays_82 4 rfl
theorem dX8_codeWays_92 : decode cX8_codeWays 92 = .ok (.aload_n 0, 1) := zdec_at bX8_codeWays_82 5 rfl
theorem dX8_codeWays_93 : decode cX8_codeWays 93 = .ok (.lload_n 2, 1) := zdec_at bX8_codeWays_82 6 rfl
theorem dX8_codeWays_94 : decode cX8_codeWays 94 = .ok (.lload 4, 2) := zdec_at bX8_codeWays_82 7 rfl
theorem dX8_codeWays_96 : decode cX8_codeWays 96 = .ok (.iload 10, 2) := zdec_at bX8_codeWays_82 8 rfl
theorem dX8_codeWays_98 : decode cX8_codeWays 98 = .ok (.invokevirtual 1336, 3) := zdec_at bX8_codeWays_82 9 rfl
theorem dX8_codeWays_101 : decode cX8_codeWays 101 = .ok (.aload_n 0, 1) := zdec_at bX8_codeWays_82 10 rfl
theorem dX8_codeWays_102 : decode cX8_codeWays 102 = .ok (.iload 14, 2) := zdec_at bX8_codeWays_82 11 rfl
theorem dX8_codeWays_104 : decode cX8_codeWays 104 = .ok (.invokevirtual 1346, 3) := zdec_at bX8_codeWays_82 12 rfl
theorem dX8_codeWays_107 : decode cX8_codeWays 107 = .ok (.ldc_w 1349, 3) := zdec_at bX8_codeWays_82 13 rfl
theorem dX8_codeWays_110 : decode cX8_codeWays 110 = .ok (.istore 15, 2) := zdec_at bX8_codeWays_82 14 rfl
theorem dX8_codeWays_112 : decode cX8_codeWays 112 = .ok (.aload_n 0, 1) := zdec_at bX8_codeWays_82 15 rfl
theorem bX8_codeWays_113 : zdec cX8_codeWays 113 [(113, .aload_n 0, 1), (114, .getfield 238, 3), (117, .iload 14, 2), (119, .iaload, 1), (120, .iload 15, 2), (122, .invokevirtual 1092, 3), (125, .iload 10, 2), (127, .iconst (-1), 1), (128, .if_icmp .eq 38, 3), (131, .aload_n 0, 1), (132, .iload 15, 2), (134, .invokevirtual 1059, 3), (137, .ifCond .eq 29, 3), (140, .aload_n 0, 1), (141, .iload 15, 2), (143, .aload_n 0, 1)] = true := by decide +kernel
theorem dX8_codeWays_113 : decode cX8_codeWays 113 = .ok (.aload_n 0, 1) := zdec_at bX8_codeWays_113 0 rfl
theorem dX8_codeWays_114 : decode cX8_codeWays 114 = .ok (.getfield 238, 3) := zdec_at bX8_codeWays_113 1 rfl
theorem dX8_codeWays_117 : decode cX8_codeWays 117 = .ok (.iload 14, 2) := zdec_at bX8_codeWays_113 2 rfl
theorem dX8_codeWays_119 : decode cX8_codeWays 119 = .ok (.iaload, 1) := zdec_at bX8_codeWays_113 3 rfl
theorem dX8_codeWays_120 : decode cX8_codeWays 120 = .ok (.iload 15, 2) := zdec_at bX8_codeWays_113 4 rfl
theorem dX8_codeWays_122 : decode cX8_codeWays 122 = .ok (.invokevirtual 1092, 3) := zdec_at bX8_codeWays_113 5 rfl
theorem dX8_codeWays_125 : decode cX8_codeWays 125 = .ok (.iload 10, 2) := zdec_at bX8_codeWays_113 6 rfl
theorem dX8_codeWays_127 : decode cX8_codeWays 127 = .ok (.iconst (-1), 1) := zdec_at bX8_codeWays_113 7 rfl
theorem dX8_codeWays_128 : decode cX8_codeWays 128 = .ok (.if_icmp .eq 38, 3) := zdec_at bX8_codeWays_113 8 rfl
theorem dX8_codeWays_131 : decode cX8_codeWays 131 = .ok (.aload_n 0, 1) := zdec_at bX8_codeWays_113 9 rfl
theorem dX8_codeWays_132 : decode cX8_codeWays 132 = .ok (.iload 15, 2) := zdec_at bX8_codeWays_113 10 rfl
theorem dX8_codeWays_134 : decode cX8_codeWays 134 = .ok (.invokevirtual 1059, 3) := zdec_at bX8_codeWays_113 11 rfl
theorem dX8_codeWays_137 : decode cX8_codeWays 137 = .ok (.ifCond .eq 29, 3) := zdec_at bX8_codeWays_113 12 rfl
theorem dX8_codeWays_140 : decode cX8_codeWays 140 = .ok (.aload_n 0, 1) := zdec_at bX8_codeWays_113 13 rfl
theorem dX8_codeWays_141 : decode cX8_codeWays 141 = .ok (.iload 15, 2) := zdec_at bX8_codeWays_113 14 rfl
theorem dX8_codeWays_143 : decode cX8_codeWays 143 = .ok (.aload_n 0, 1) := zdec_at bX8_codeWays_113 15 rfl
theorem bX8_codeWays_144 : zdec cX8_codeWays 144 [(144, .iload 10, 2), (146, .invokevirtual 920, 3), (149, .invokevirtual 1081, 3), (152, .aload_n 0, 1), (153, .iload 15, 2), (155, .aload_n 0, 1), (156, .iload 10, 2), (158, .invokevirtual 920, 3), (161, .iconst 1, 1), (162, .iadd, 1), (163, .invokevirtual 1081, 3), (166, .iload 10, 2), (168, .iconst (-1), 1), (169, .if_icmp .eq 12, 3), (172, .aload_n 0, 1), (173, .iload 15, 2)] = true := by decide +kernel
theorem dX8_codeWays_144 : decode cX8_codeWays 144 = .ok (.iload 10, 2) := zdec_at bX8_codeWays_144 0 rfl
theorem dX8_codeWays_146 : decode cX8_codeWays 146 = .ok (.invokevirtual 920, 3) := zdec_at bX8_codeWays_144 1 rfl
theorem dX8_codeWays_149 : decode cX8_codeWays 149 = .ok (.invokevirtual 1081, 3) := zdec_at bX8_codeWays_144 2 rfl
theorem dX8_codeWays_152 : decode cX8_codeWays 152 = .ok (.aload_n 0, 1) := zdec_at bX8_codeWays_144 3 rfl
theorem dX8_codeWays_153 : decode cX8_codeWays 153 = .ok (.iload 15, 2) := zdec_at bX8_codeWays_144 4 rfl
theorem dX8_codeWays_155 : decode cX8_codeWays 155 = .ok (.aload_n 0, 1) := zdec_at bX8_codeWays_144 5 rfl
theorem dX8_codeWays_156 : decode cX8_codeWays 156 = .ok (.iload 10, 2) := zdec_at bX8_codeWays_144 6 rfl
theorem dX8_codeWays_158 : decode cX8_codeWays 158 = .ok (.invokevirtual 920, 3) := zdec_at bX8_codeWays_144 7 rfl
theorem dX8_codeWays_161 : decode cX8_codeWays 161 = .ok (.iconst 1, 1) := zdec_at bX8_codeWays_144 8 rfl
theorem dX8_codeWays_162 : decode cX8_codeWays 162 = .ok (.iadd, 1) := zdec_at bX8_codeWays_144 9 rfl
theorem dX8_codeWays_163 : decode cX8_codeWays 163 = .ok (.invokevirtual 1081, 3) := zdec_at bX8_codeWays_144 10 rfl
theorem dX8_codeWays_166 : decode cX8_codeWays 166 = .ok (.iload 10, 2) := zdec_at bX8_codeWays_144 11 rfl
theorem dX8_codeWays_168 : decode cX8_codeWays 168 = .ok (.iconst (-1), 1) := zdec_at bX8_codeWays_144 12 rfl
theorem dX8_codeWays_169 : decode cX8_codeWays 169 = .ok (.if_icmp .eq 12, 3) := zdec_at bX8_codeWays_144 13 rfl
theorem dX8_codeWays_172 : decode cX8_codeWays 172 = .ok (.aload_n 0, 1) := zdec_at bX8_codeWays_144 14 rfl
theorem dX8_codeWays_173 : decode cX8_codeWays 173 = .ok (.iload 15, 2) := zdec_at bX8_codeWays_144 15 rfl
theorem bX8_codeWays_175 : zdec cX8_codeWays 175 [(175, .iconst 0, 1), (176, .iconst 0, 1), (177, .iconst 0, 1), (178, .invokevirtual 1056, 3), (181, .aload_n 0, 1), (182, .iload 9, 2), (184, .iload 15, 2), (186, .invokevirtual 1258, 3), (189, .aload_n 0, 1), (190, .getfield 226, 3), (193, .iload 14, 2), (195, .iconst 1, 1), (196, .iadd, 1), (197, .baload, 1), (198, .ifCond .eq 46, 3), (201, .aload_n 0, 1)] = true := by decide +kernel
theorem dX8_codeWays_175 : decode cX8_codeWays 175 = .ok (.iconst 0, 1) := zdec_at bX8_codeWays_175 0 rfl
theorem dX8_codeWays_176 : decode cX8_codeWays 176 = .ok (.iconst 0, 1) := zdec_at bX8_codeWays_175 1 rfl
theorem dX8_codeWays_177 : decode cX8_codeWays 177 = .ok (.iconst 0, 1) := zdec_at bX8_codeWays_175 2 rfl
theorem dX8_codeWays_178 : decode cX8_codeWays 178 = .ok (.invokevirtual 1056, 3) := zdec_at bX8_codeWays_175 3 rfl
theorem dX8_codeWays_181 : decode cX8_codeWays 181 = .ok (.aload_n 0, 1) := zdec_at bX8_codeWays_175 4 rfl
theorem dX8_codeWays_182 : decode cX8_codeWays 182 = .ok (.iload 9, 2) := zdec_at bX8_codeWays_175 5 rfl
theorem dX8_codeWays_184 : decode cX8_codeWays 184 = .ok (.iload 15, 2) := zdec_at bX8_codeWays_175 6 rfl
theorem dX8_codeWays_186 : decode cX8_codeWays 186 = .ok (.invokevirtual 1258, 3) := zdec_at bX8_codeWays_175 7 rfl
theorem dX8_codeWays_189 : decode cX8_codeWays 189 = .ok (.aload_n 0, 1) := zdec_at bX8_codeWays_175 8 rfl
theorem dX8_codeWays_190 : decode cX8_codeWays 190 = .ok (.getfield 226, 3) := zdec_at bX8_codeWays_175 9 rfl
theorem dX8_codeWays_193 : decode cX8_codeWays 193 = .ok (.iload 14, 2) := zdec_at bX8_codeWays_175 10 rfl
theorem dX8_codeWays_195 : decode cX8_codeWays 195 = .ok (.iconst 1, 1) := zdec_at bX8_codeWays_175 11 rfl
theorem dX8_codeWays_196 : decode cX8_codeWays 196 = .ok (.iadd, 1) := zdec_at bX8_codeWays_175 12 rfl
theorem dX8_codeWays_197 : decode cX8_codeWays 197 = .ok (.baload, 1) := zdec_at bX8_codeWays_175 13 rfl
theorem dX8_codeWays_198 : decode cX8_codeWays 198 = .ok (.ifCond .eq 46, 3) := zdec_at bX8_codeWays_175 14 rfl
theorem dX8_codeWays_201 : decode cX8_codeWays 201 = .ok (.aload_n 0, 1) := zdec_at bX8_codeWays_175 15 rfl
theorem bX8_codeWays_202 : zdec cX8_codeWays 202 [(202, .lload_n 2, 1), (203, .lload 4, 2), (205, .iload 10, 2), (207, .invokevirtual 1336, 3), (210, .aload_n 0, 1), (211, .iload 14, 2), (213, .iconst 1, 1), (214, .iadd, 1), (215, .invokevirtual 1346, 3), (218, .ldc_w 1349, 3), (221, .istore 15, 2), (223, .aload_n 0, 1), (224, .aload_n 0, 1), (225, .getfield 238, 3), (228, .iload 14, 2), (230, .iconst 1, 1)] = true := by decide +kernel
theorem dX8_codeWays_202 : decode cX8_codeWays 202 = .ok (.lload_n 2, 1) := zdec_at bX8_codeWays_202 0 rfl
theorem dX8_codeWays_203 : decode cX8_codeWays 203 = .ok (.lload 4, 2) := zdec_at bX8_codeWays_202 1 rfl
theorem dX8_codeWays_205 : decode cX8_codeWays 205 = .ok (.iload 10, 2) := zdec_at bX8_codeWays_202 2 rfl
theorem dX8_codeWays_207 : decode cX8_codeWays 207 = .ok (.invokevirtual 1336, 3) := zdec_at bX8_codeWays_202 3 rfl
theorem dX8_codeWays_210 : decode cX8_codeWays 210 = .ok (.aload_n 0, 1) := zdec_at bX8_codeWays_202 4 rfl
theorem dX8_codeWays_211 : decode cX8_codeWays 211 = .ok (.iload 14, 2) := zdec_at bX8_codeWays_202 5 rfl
theorem dX8_codeWays_213 : decode cX8_codeWays 213 = .ok (.iconst 1, 1) := zdec_at bX8_codeWays_202 6 rfl
theorem dX8_codeWays_214 : decode cX8_codeWays 214 = .ok (.iadd, 1) := zdec_at bX8_codeWays_202 7 rfl
theorem dX8_codeWays_215 : decode cX8_codeWays 215 = .ok (.invokevirtual 1346, 3) := zdec_at bX8_codeWays_202 8 rfl
theorem dX8_codeWays_218 : decode cX8_codeWays 218 = .ok (.ldc_w 1349, 3) := zdec_at bX8_codeWays_202 9 rfl
theorem dX8_codeWays_221 : decode cX8_codeWays 221 = .ok (.istore 15, 2) := zdec_at bX8_codeWays_202 10 rfl
theorem dX8_codeWays_223 : decode cX8_codeWays 223 = .ok (.aload_n 0, 1) := zdec_at bX8_codeWays_202 11 rfl
theorem dX8_codeWays_224 : decode cX8_codeWays 224 = .ok (.aload_n 0, 1) := zdec_at bX8_codeWays_202 12 rfl
theorem dX8_codeWays_225 : decode cX8_codeWays 225 = .ok (.getfield 238, 3) := zdec_at bX8_codeWays_202 13 rfl
theorem dX8_codeWays_228 : decode cX8_codeWays 228 = .ok (.iload 14, 2) := zdec_at bX8_codeWays_202 14 rfl
theorem dX8_codeWays_230 : decode cX8_codeWays 230 = .ok (.iconst 1, 1) := zdec_at bX8_codeWays_202 15 rfl
theorem bX8_codeWays_231 : zdec cX8_codeWays 231 [(231, .iadd, 1), (232, .iaload, 1), (233, .iload 15, 2), (235, .invokevirtual 1092, 3), (238, .aload_n 0, 1), (239, .iload 15, 2), (241, .invokevirtual 1198, 3), (244, .return_, 1)] = true := by decide +kernel
theorem dX8_codeWays_231 : decode cX8_codeWays 231 = .ok (.iadd, 1) := zdec_at bX8_codeWays_231 0 rfl
theorem dX8_codeWays_232 : decode cX8_codeWays 232 = .ok (.iaload, 1) := zdec_at bX8_codeWays_231 1 rfl
theorem dX8_codeWays_233 : decode cX8_codeWays 233 = .ok (.iload 15, 2) := zdec_at bX8_codeWays_231 2 rfl
theorem dX8_codeWays_235 : decode cX8_codeWays 235 = .ok (.invokevirtual 1092, 3) := zdec_at bX8_codeWays_231 3 rfl
theorem dX8_codeWays_238 : decode cX8_codeWays 238 = .ok (.aload_n 0, 1) := zdec_at bX8_codeWays_231 4 rfl
theorem dX8_codeWays_239 : decode cX8_codeWays 239 = .ok (.iload 15, 2) := zdec_at bX8_codeWays_231 5 rfl
theorem dX8_codeWays_241 : decode cX8_codeWays 241 = .ok (.invokevirtual 1198, 3) := zdec_at bX8_codeWays_231 6 rfl
theorem dX8_codeWays_244 : decode cX8_codeWays 244 = .ok (.return_, 1) := zdec_at bX8_codeWays_231 7 rfl
theorem sX8_codeWays_0 {E : zE} {d : Nat} {Q : zO → zM → Prop} (M : zM) (l1 : Int32) (l2 : Int64) (l4 : Int64) (l6 : Int32) (l7 : Int32) (l8 : Int32) (l9 : Int32) (l10 : Int32) (k : Zm E YX8_isIn d M (zargs 0 [vl l2, vl l4, vi (((29 : Int32) + ((6 : Int32) * (l1 - (1 : Int32)))) + (2 : Int32))]) 0 [] (zma E YX8_codeWays (d + 1) [(0, vr (some (97, 1, 0))), (1, vi l1), (2, vl l2), (4, vl l4), (6, vi l6), (7, vi l7), (8, vi l8), (9, vi l9), (10, vi l10), (11, vi (((29 : Int32) + ((6 : Int32) * (l1 - (1 : Int32)))) + (2 : Int32)))] 18 3 [] Q)) : Zm E YX8_codeWays (d + 1) M [(0, vr (some (97, 1, 0))), (1, vi l1), (2, vl l2), (4, vl l4), (6, vi l6), (7, vi l7), (8, vi l8), (9, vi l9), (10, vi l10)] 0 [] Q := by
  refine Zm.l (fun _ _ k_ => z_bipush (v := 29) dX8_codeWays_0 rfl k_) ?_
  refine Zm.l (fun _ _ k_ => z_bipush (v := 6) dX8_codeWays_2 rfl k_) ?_
  refine Zm.l (fun _ _ k_ => z_iload_n dX8_codeWays_4 rfl rfl k_) ?_
  refine Zm.l (fun _ _ k_ => z_iconst (v := 1) dX8_codeWays_5 rfl k_) ?_
  refine Zm.l (fun _ _ k_ => z_isub dX8_codeWays_6 k_) ?_
  refine Zm.l (fun _ _ k_ => z_imul dX8_codeWays_7 k_) ?_
  refine Zm.l (fun _ _ k_ => z_iadd dX8_codeWays_8 k_) ?_
  refine Zm.l (fun _ _ k_ => z_iconst (v := 2) dX8_codeWays_9 rfl k_) ?_
  refine Zm.l (fun _ _ k_ => z_iadd dX8_codeWays_10 k_) ?_
  refine Zm.l (fun _ _ k_ => z_ist dX8_codeWays_11 (by decide) (lv' := [(0, vr (some (97, 1, 0))), (1, vi l1), (2, vl l2), (4, vl l4), (6, vi l6), (7, vi l7), (8, vi l8), (9, vi l9), (10, vi l10), (11, vi (((29 : Int32) + ((6 : Int32) * (l1 - (1 : Int32)))) + (2 : Int32)))]) rfl k_) ?_
  refine Zm.l (fun _ _ k_ => z_lload_n dX8_codeWays_13 rfl rfl k_) ?_
  refine Zm.l (fun _ _ k_ => z_lload dX8_codeWays_14 rfl k_) ?_
  refine Zm.l (fun _ _ k_ => z_iload dX8_codeWays_16 rfl k_) ?_
  exact zm_callS (as := [vl l2, vl l4, vi (((29 : Int32) + ((6 : Int32) * (l1 - (1 : Int32)))) + (2 : Int32))]) (st := []) dX8_codeWays_18 ssX8_1125 (Nat.le_refl _) (Nat.le_of_ble_eq_true rfl) (Nat.le_of_ble_eq_true rfl) rfl k
theorem sX8_codeWays_21 {E : zE} {d : Nat} {Q : zO → zM → Prop} (M : zM) (l1 : Int32) (l2 : Int64) (l4 : Int64) (l6 : Int32) (l7 : Int32) (l8 : Int32) (l9 : Int32) (l10 : Int32) (l11 : Int32) (s0 : Int32) (k : Zm E YX8_isIn d M (zargs 0 [vl l2, vl l4, vi (l11 + (1 : Int32))]) 0 [] (zma E YX8_codeWays (d + 1) [(0, vr (some (97, 1, 0))), (1, vi l1), (2, vl l2), (4, vl l4), (6, vi l6), (7, vi l7), (8, vi l8), (9, vi l9), (10, vi l10), (12, vi s0)] 30 3 [] Q)) : Zm E YX8_codeWays (d + 1) M [(0, vr (some (97, 1, 0))), (1, vi l1), (2, vl l2), (4, vl l4), (6, vi l6), (7, vi l7), (8, vi l8), (9, vi l9), (10, vi l10), (11, vi l11)] 21 [vi s0] Q := by
  refine Zm.l (fun _ _ k_ => z_ist dX8_codeWays_21 (by decide) (lv' := [(0, vr (some (97, 1, 0))), (1, vi l1), (2, vl l2), (4, vl l4), (6, vi l6), (7, vi l7), (8, vi l8), (9, vi l9), (10, vi l10), (11, vi l11), (12, vi s0)]) rfl k_) ?_
  refine Zm.l (fun _ _ k_ => z_lload_n dX8_codeWays_23 rfl rfl k_) ?_
  refine Zm.l (fun _ _ k_ => z_lload dX8_codeWays_24 rfl k_) ?_
  refine Zm.l (fun _ _ k_ => z_iload dX8_codeWays_26 rfl k_) ?_
  refine Zm.l (fun _ _ k_ => z_iconst (v := 1) dX8_codeWays_28 rfl k_) ?_
  refine Zm.l (fun _ _ k_ => z_iadd dX8_codeWays_29 k_) ?_
  refine Zm.pick [0, 1, 2, 3, 4, 5, 6, 7, 8, 10] rfl ?_
  exact zm_callS (as := [vl l2, vl l4, vi (l11 + (1 : Int32))]) (st := []) dX8_codeWays_30 ssX8_1125 (Nat.le_refl _) (Nat.le_of_ble_eq_true rfl) (Nat.le_of_ble_eq_true rfl) rfl k
theorem sX8_codeWays_33 {E : zE} {d : Nat} {Q : zO → zM → Prop} (M : zM) (l1 : Int32) (l2 : Int64) (l4 : Int64) (l6 : Int32) (l7 : Int32) (l8 : Int32) (l9 : Int32) (l10 : Int32) (l12 : Int32) (s0 : Int32) (k : if l12 = 0 then (if s0 = 0 then (Q (.inl none) M) else (Zm E YX8_prepare d M (zargs 0 [vr (some (97, 1, 0)), vl l2, vl l4, vi l10]) 0 [] (zma E YX8_codeWays (d + 1) [(0, vr (some (97, 1, 0))), (1, vi l1), (2, vl l2), (4, vl l4), (6, vi l6), (7, vi l7), (8, vi l8), (9, vi l9), (10, vi l10), (12, vi l12), (13, vi s0)] 52 3 [] Q))) else (Zm E YX8_prepare d M (zargs 0 [vr (some (97, 1, 0)), vl l2, vl l4, vi l10]) 0 [] (zma E YX8_codeWays (d + 1) [(0, vr (some (97, 1, 0))), (1, vi l1), (2, vl l2), (4, vl l4), (6, vi l6), (7, vi l7), (8, vi l8), (9, vi l9), (10, vi l10), (12, vi l12), (13, vi s0)] 52 3 [] Q))) : Zm E YX8_codeWays (d + 1) M [(0, vr (some (97, 1, 0))), (1, vi l1), (2, vl l2), (4, vl l4), (6, vi l6), (7, vi l7), (8, vi l8), (9, vi l9), (10, vi l10), (12, vi l12)] 33 [vi s0] Q := by
  refine Zm.l (fun _ _ k_ => z_ist dX8_codeWays_33 (by decide) (lv' := [(0, vr (some (97, 1, 0))), (1, vi l1), (2, vl l2), (4, vl l4), (6, vi l6), (7, vi l7), (8, vi l8), (9, vi l9), (10, vi l10), (12, vi l12), (13, vi s0)]) rfl k_) ?_
  refine Zm.l (fun _ _ k_ => z_iload dX8_codeWays_35 rfl k_) ?_
  refine Zm.brn (fun _ _ k1_ k2_ => z_if_ne (tgt := 46) dX8_codeWays_37 rfl k1_ k2_) (fun h_ => ?_) (fun h_ => ?_)
  · have k := zif h_ k
    refine Zm.l (fun _ _ k_ => z_aload_n dX8_codeWays_46 rfl rfl k_) ?_
    refine Zm.l (fun _ _ k_ => z_lload_n dX8_codeWays_47 rfl rfl k_) ?_
    refine Zm.l (fun _ _ k_ => z_lload dX8_codeWays_48 rfl k_) ?_
    refine Zm.l (fun _ _ k_ => z_iload dX8_codeWays_50 rfl k_) ?_
    exact zm_callV (as := [vl l2, vl l4, vi l10]) (st := []) dX8_codeWays_52 vsX8_1336_1 (Nat.le_refl _) (Nat.le_of_ble_eq_true rfl) (Nat.le_of_ble_eq_true rfl) rfl k
  · have k := zit h_ k
    refine Zm.l (fun _ _ k_ => z_iload dX8_codeWays_40 rfl k_) ?_
    refine Zm.brn (fun _ _ k1_ k2_ => z_if_ne (tgt := 46) dX8_codeWays_42 rfl k1_ k2_) (fun h_ => ?_) (fun h_ => ?_)
    · have k := zif h_ k
      refine Zm.l (fun _ _ k_ => z_aload_n dX8_codeWays_46 rfl rfl k_) ?_
      refine Zm.l (fun _ _ k_ => z_lload_n dX8_codeWays_47 rfl rfl k_) ?_
      refine Zm.l (fun _ _ k_ => z_lload dX8_codeWays_48 rfl k_) ?_
      refine Zm.l (fun _ _ k_ => z_iload dX8_codeWays_50 rfl k_) ?_
      exact zm_callV (as := [vl l2, vl l4, vi l10]) (st := []) dX8_codeWays_52 vsX8_1336_1 (Nat.le_refl _) (Nat.le_of_ble_eq_true rfl) (Nat.le_of_ble_eq_true rfl) rfl k
    · have k := zit h_ k
      exact zm_vret dX8_codeWays_45 rfl k
theorem sX8_codeWays_55 {E : zE} {d : Nat} {Q : zO → zM → Prop} (M : zM) (l1 : Int32) (l2 : Int64) (l4 : Int64) (l6 : Int32) (l7 : Int32) (l8 : Int32) (l9 : Int32) (l10 : Int32) (l12 : Int32) (l13 : Int32) (k : Zm E YX8_enterCode d M (zargs 0 [vr (some (97, 1, 0)), vi l1, vi l12, vi l13, vi l6, vi l7, vi l8, vi l10]) 0 [] (zma E YX8_codeWays (d + 1) [(0, vr (some (97, 1, 0))), (1, vi l1), (2, vl l2), (4, vl l4), (9, vi l9), (10, vi l10)] 69 3 [] Q)) : Zm E YX8_codeWays (d + 1) M [(0, vr (some (97, 1, 0))), (1, vi l1), (2, vl l2), (4, vl l4), (6, vi l6), (7, vi l7), (8, vi l8), (9, vi l9), (10, vi l10), (12, vi l12), (13, vi l13)] 55 [] Q := by
  refine Zm.l (fun _ _ k_ => z_aload_n dX8_codeWays_55 rfl rfl k_) ?_
  refine Zm.l (fun _ _ k_ => z_iload_n dX8_codeWays_56 rfl rfl k_) ?_
  refine Zm.l (fun _ _ k_ => z_iload dX8_codeWays_57 rfl k_) ?_
  refine Zm.l (fun _ _ k_ => z_iload dX8_codeWays_59 rfl k_) ?_
  refine Zm.l (fun _ _ k_ => z_iload dX8_codeWays_61 rfl k_) ?_
  refine Zm.l (fun _ _ k_ => z_iload dX8_codeWays_63 rfl k_) ?_
  refine Zm.l (fun _ _ k_ => z_iload dX8_codeWays_65 rfl k_) ?_
  refine Zm.l (fun _ _ k_ => z_iload dX8_codeWays_67 rfl k_) ?_
  refine Zm.pick [0, 1, 2, 3, 7, 8] rfl ?_
  exact zm_callV (as := [vi l1, vi l12, vi l13, vi l6, vi l7, vi l8, vi l10]) (st := []) dX8_codeWays_69 vsX8_1342_1 (Nat.le_refl _) (Nat.le_of_ble_eq_true rfl) (Nat.le_of_ble_eq_true rfl) rfl k
theorem sX8_codeWays_72 {E : zE} {d : Nat} {Q : zO → zM → Prop} (M : zM) (l1 : Int32) (l2 : Int64) (l4 : Int64) (l9 : Int32) (l10 : Int32) (k : vp_in ((gi M 97 46) + ((2 : Int32) * l1)) 640 ∧ (if (gi M 168 (((gi M 97 46) + ((2 : Int32) * l1))).toNatClampNeg) = 0 then (Zm E YX8_codeWays (d + 1) M [(0, vr (some (97, 1, 0))), (2, vl l2), (4, vl l4), (10, vi l10), (14, vi ((gi M 97 46) + ((2 : Int32) * l1)))] 189 [] Q) else (Zm E YX8_prepare d M (zargs 0 [vr (some (97, 1, 0)), vl l2, vl l4, vi l10]) 0 [] (zma E YX8_codeWays (d + 1) [(0, vr (some (97, 1, 0))), (2, vl l2), (4, vl l4), (9, vi l9), (10, vi l10), (14, vi ((gi M 97 46) + ((2 : Int32) * l1)))] 98 3 [] Q)))) : Zm E YX8_codeWays (d + 1) M [(0, vr (some (97, 1, 0))), (1, vi l1), (2, vl l2), (4, vl l4), (9, vi l9), (10, vi l10)] 72 [] Q := by
  refine Zm.l (fun _ _ k_ => z_aload_n dX8_codeWays_72 rfl rfl k_) ?_
  refine zm_geti dX8_codeWays_73 fsX8_606_1 (by decide) (by decide) ?_
  refine Zm.l (fun _ _ k_ => z_iconst (v := 2) dX8_codeWays_76 rfl k_) ?_
  refine Zm.l (fun _ _ k_ => z_iload_n dX8_codeWays_77 rfl rfl k_) ?_
  refine Zm.l (fun _ _ k_ => z_imul dX8_codeWays_78 k_) ?_
  refine Zm.l (fun _ _ k_ => z_iadd dX8_codeWays_79 k_) ?_
  refine Zm.l (fun _ _ k_ => z_ist dX8_codeWays_80 (by decide) (lv' := [(0, vr (some (97, 1, 0))), (1, vi l1), (2, vl l2), (4, vl l4), (9, vi l9), (10, vi l10), (14, vi ((gi M 97 46) + ((2 : Int32) * l1)))]) rfl k_) ?_
  refine Zm.l (fun _ _ k_ => z_aload_n dX8_codeWays_82 rfl rfl k_) ?_
  refine zm_getr 65 dX8_codeWays_83 fsX8_226_1 rfl ?_
  refine Zm.l (fun _ _ k_ => z_iload dX8_codeWays_86 rfl k_) ?_
  obtain ⟨b_, k⟩ := k
  refine zm_zald dX8_codeWays_88 b_ (by decide) (by decide) ?_
  refine Zm.br (fun _ _ k1_ k2_ => z_if_eq (tgt := 189) dX8_codeWays_89 rfl k1_ k2_) (fun h_ => ?_) (fun h_ => ?_)
  · have k := zit h_ k
    refine Zm.pick [0, 2, 3, 5, 6] rfl ?_
    exact k
  · have k := zif h_ k
    refine Zm.l (fun _ _ k_ => z_aload_n dX8_codeWays_92 rfl rfl k_) ?_
    refine Zm.l (fun _ _ k_ => z_lload_n dX8_codeWays_93 rfl rfl k_) ?_
    refine Zm.l (fun _ _ k_ => z_lload dX8_codeWays_94 rfl k_) ?_
    refine Zm.l (fun _ _ k_ => z_iload dX8_codeWays_96 rfl k_) ?_
    refine Zm.pick [0, 2, 3, 4, 5, 6] rfl ?_
    exact zm_callV (as := [vl l2, vl l4, vi l10]) (st := []) dX8_codeWays_98 vsX8_1336_1 (Nat.le_refl _) (Nat.le_of_ble_eq_true rfl) (Nat.le_of_ble_eq_true rfl) rfl k
theorem sX8_codeWays_101 {E : zE} {d : Nat} {Q : zO → zM → Prop} (M : zM) (l2 : Int64) (l4 : Int64) (l9 : Int32) (l10 : Int32) (l14 : Int32) (k : Zm E YX8_comeBack d M (zargs 0 [vr (some (97, 1, 0)), vi l14]) 0 [] (zma E YX8_codeWays (d + 1) [(0, vr (some (97, 1, 0))), (2, vl l2), (4, vl l4), (9, vi l9), (10, vi l10), (14, vi l14)] 104 3 [] Q)) : Zm E YX8_codeWays (d + 1) M [(0, vr (some (97, 1, 0))), (2, vl l2), (4, vl l4), (9, vi l9), (10, vi l10), (14, vi l14)] 101 [] Q := by
  refine Zm.l (fun _ _ k_ => z_aload_n dX8_codeWays_101 rfl rfl k_) ?_
  refine Zm.l (fun _ _ k_ => z_iload dX8_codeWays_102 rfl k_) ?_
  exact zm_callV (as := [vi l14]) (st := []) dX8_codeWays_104 vsX8_1346_1 (Nat.le_refl _) (Nat.le_of_ble_eq_true rfl) (Nat.le_of_ble_eq_true rfl) rfl k
theorem sX8_codeWays_107 {E : zE} {d : Nat} {Q : zO → zM → Prop} (M : zM) (l2 : Int64) (l4 : Int64) (l9 : Int32) (l10 : Int32) (l14 : Int32) (k : vp_in l14 640 ∧ (Zm E YX8_copySet d M (zargs 0 [vr (some (97, 1, 0)), vi (gi M 172 (l14).toNatClampNeg), vi (647751 : Int32)]) 0 [] (zma E YX8_codeWays (d + 1) [(0, vr (some (97, 1, 0))), (2, vl l2), (4, vl l4), (9, vi l9), (10, vi l10), (14, vi l14), (15, vi (647751 : Int32))] 122 3 [] Q))) : Zm E YX8_codeWays (d + 1) M [(0, vr (some (97, 1, 0))), (2, vl l2), (4, vl l4), (9, vi l9), (10, vi l10), (14, vi l14)] 107 [] Q := by
  refine Zm.l (fun _ _ k_ => z_ldcw (v := 647751) dX8_codeWays_107 q5137 k_) ?_
  refine Zm.l (fun _ _ k_ => z_ist dX8_codeWays_110 (by decide) (lv' := [(0, vr (some (97, 1, 0))), (2, vl l2), (4, vl l4), (9, vi l9), (10, vi l10), (14, vi l14), (15, vi (647751 : Int32))]) rfl k_) ?_
  refine Zm.l (fun _ _ k_ => z_aload_n dX8_codeWays_112 rfl rfl k_) ?_
  refine Zm.l (fun _ _ k_ => z_aload_n dX8_codeWays_113 rfl rfl k_) ?_
  refine zm_getr 69 dX8_codeWays_114 fsX8_238_1 rfl ?_
  refine Zm.l (fun _ _ k_ => z_iload dX8_codeWays_117 rfl k_) ?_
  obtain ⟨b_, k⟩ := k
  refine zm_iald dX8_codeWays_119 b_ (by decide) (by decide) ?_
  refine Zm.l (fun _ _ k_ => z_iload dX8_codeWays_120 rfl k_) ?_
  exact zm_callV (as := [vi (gi M 172 (l14).toNatClampNeg), vi (647751 : Int32)]) (st := []) dX8_codeWays_122 vsX8_1092_1 (Nat.le_refl _) (Nat.le_of_ble_eq_true rfl) (Nat.le_of_ble_eq_true rfl) rfl k
theorem sX8_codeWays_125 {E : zE} {d : Nat} {Q : zO → zM → Prop} (M : zM) (l2 : Int64) (l4 : Int64) (l9 : Int32) (l10 : Int32) (l14 : Int32) (l15 : Int32) (k : if l10 = (-1 : Int32) then (Zm E YX8_codeWays (d + 1) M [(0, vr (some (97, 1, 0))), (2, vl l2), (4, vl l4), (9, vi l9), (10, vi l10), (14, vi l14), (15, vi l15)] 166 [] Q) else (Zm E YX8_plainly d M (zargs 0 [vr (some (97, 1, 0)), vi l15]) 0 [] (zma E YX8_codeWays (d + 1) [(0, vr (some (97, 1, 0))), (2, vl l2), (4, vl l4), (9, vi l9), (10, vi l10), (14, vi l14), (15, vi l15)] 134 3 [] Q))) : Zm E YX8_codeWays (d + 1) M [(0, vr (some (97, 1, 0))), (2, vl l2), (4, vl l4), (9, vi l9), (10, vi l10), (14, vi l14), (15, vi l15)] 125 [] Q := by
  refine Zm.l (fun _ _ k_ => z_iload dX8_codeWays_125 rfl k_) ?_
  refine Zm.l (fun _ _ k_ => z_iconst (v := -1) dX8_codeWays_127 rfl k_) ?_
  refine Zm.br (fun _ _ k1_ k2_ => z_icmp_eq (tgt := 166) dX8_codeWays_128 rfl k1_ k2_) (fun h_ => ?_) (fun h_ => ?_)
  · have k := zit h_ k
    exact k
  · have k := zif h_ k
    refine Zm.l (fun _ _ k_ => z_aload_n dX8_codeWays_131 rfl rfl k_) ?_
    refine Zm.l (fun _ _ k_ => z_iload dX8_codeWays_132 rfl k_) ?_
    exact zm_callV (as := [vi l15]) (st := []) dX8_codeWays_134 vsX8_1059_1 (Nat.le_refl _) (Nat.le_of_ble_eq_true rfl) (Nat.le_of_ble_eq_true rfl) rfl k
theorem sX8_codeWays_137 {E : zE} {d : Nat} {Q : zO → zM → Prop} (M : zM) (l2 : Int64) (l4 : Int64) (l9 : Int32) (l10 : Int32) (l14 : Int32) (l15 : Int32) (s0 : Int32) (k : if s0 = 0 then (Zm E YX8_codeWays (d + 1) M [(0, vr (some (97, 1, 0))), (2, vl l2), (4, vl l4), (9, vi l9), (10, vi l10), (14, vi l14), (15, vi l15)] 166 [] Q) else (Zm E YX8_siteLabel d M (zargs 0 [vr (some (97, 1, 0)), vi l10]) 0 [] (zma E YX8_codeWays (d + 1) [(0, vr (some (97, 1, 0))), (2, vl l2), (4, vl l4), (9, vi l9), (10, vi l10), (14, vi l14), (15, vi l15)] 146 3 [vi l15, vr (some (97, 1, 0))] Q))) : Zm E YX8_codeWays (d + 1) M [(0, vr (some (97, 1, 0))), (2, vl l2), (4, vl l4), (9, vi l9), (10, vi l10), (14, vi l14), (15, vi l15)] 137 [vi s0] Q := by
  refine Zm.br (fun _ _ k1_ k2_ => z_if_eq (tgt := 166) dX8_codeWays_137 rfl k1_ k2_) (fun h_ => ?_) (fun h_ => ?_)
  · have k := zit h_ k
    exact k
  · have k := zif h_ k
    refine Zm.l (fun _ _ k_ => z_aload_n dX8_codeWays_140 rfl rfl k_) ?_
    refine Zm.l (fun _ _ k_ => z_iload dX8_codeWays_141 rfl k_) ?_
    refine Zm.l (fun _ _ k_ => z_aload_n dX8_codeWays_143 rfl rfl k_) ?_
    refine Zm.l (fun _ _ k_ => z_iload dX8_codeWays_144 rfl k_) ?_
    exact zm_callV (as := [vi l10]) (st := [vi l15, vr (some (97, 1, 0))]) dX8_codeWays_146 vsX8_920_1 (Nat.le_refl _) (Nat.le_of_ble_eq_true rfl) (Nat.le_of_ble_eq_true rfl) rfl k
theorem sX8_codeWays_149 {E : zE} {d : Nat} {Q : zO → zM → Prop} (M : zM) (l2 : Int64) (l4 : Int64) (l9 : Int32) (l10 : Int32) (l14 : Int32) (l15 : Int32) (s0 : Int32) (s1 : Int32) (k : Zm E YX8_addLabel d M (zargs 0 [vr (some (97, 1, 0)), vi s1, vi s0]) 0 [] (zma E YX8_codeWays (d + 1) [(0, vr (some (97, 1, 0))), (2, vl l2), (4, vl l4), (9, vi l9), (10, vi l10), (14, vi l14), (15, vi l15)] 149 3 [] Q)) : Zm E YX8_codeWays (d + 1) M [(0, vr (some (97, 1, 0))), (2, vl l2), (4, vl l4), (9, vi l9), (10, vi l10), (14, vi l14), (15, vi l15)] 149 [vi s0, vi s1, vr (some (97, 1, 0))] Q := by
  exact zm_callV (as := [vi s1, vi s0]) (st := []) dX8_codeWays_149 vsX8_1081_1 (Nat.le_refl _) (Nat.le_of_ble_eq_true rfl) (Nat.le_of_ble_eq_true rfl) rfl k
theorem sX8_codeWays_152 {E : zE} {d : Nat} {Q : zO → zM → Prop} (M : zM) (l2 : Int64) (l4 : Int64) (l9 : Int32) (l10 : Int32) (l14 : Int32) (l15 : Int32) (k : Zm E YX8_siteLabel d M (zargs 0 [vr (some (97, 1, 0)), vi l10]) 0 [] (zma E YX8_codeWays (d + 1) [(0, vr (some (97, 1, 0))), (2, vl l2), (4, vl l4), (9, vi l9), (10, vi l10), (14, vi l14), (15, vi l15)] 158 3 [vi l15, vr (some (97, 1, 0))] Q)) : Zm E YX8_codeWays (d + 1) M [(0, vr (some (97, 1, 0))), (2, vl l2), (4, vl l4), (9, vi l9), (10, vi l10), (14, vi l14), (15, vi l15)] 152 [] Q := by
  refine Zm.l (fun _ _ k_ => z_aload_n dX8_codeWays_152 rfl rfl k_) ?_
  refine Zm.l (fun _ _ k_ => z_iload dX8_codeWays_153 rfl k_) ?_
  refine Zm.l (fun _ _ k_ => z_aload_n dX8_codeWays_155 rfl rfl k_) ?_
  refine Zm.l (fun _ _ k_ => z_iload dX8_codeWays_156 rfl k_) ?_
  exact zm_callV (as := [vi l10]) (st := [vi l15, vr (some (97, 1, 0))]) dX8_codeWays_158 vsX8_920_1 (Nat.le_refl _) (Nat.le_of_ble_eq_true rfl) (Nat.le_of_ble_eq_true rfl) rfl k
theorem sX8_codeWays_161 {E : zE} {d : Nat} {Q : zO → zM → Prop} (M : zM) (l2 : Int64) (l4 : Int64) (l9 : Int32) (l10 : Int32) (l14 : Int32) (l15 : Int32) (s0 : Int32) (s1 : Int32) (k : Zm E YX8_addLabel d M (zargs 0 [vr (some (97, 1, 0)), vi s1, vi (s0 + (1 : Int32))]) 0 [] (zma E YX8_codeWays (d + 1) [(0, vr (some (97, 1, 0))), (2, vl l2), (4, vl l4), (9, vi l9), (10, vi l10), (14, vi l14), (15, vi l15)] 163 3 [] Q)) : Zm E YX8_codeWays (d + 1) M [(0, vr (some (97, 1, 0))), (2, vl l2), (4, vl l4), (9, vi l9), (10, vi l10), (14, vi l14), (15, vi l15)] 161 [vi s0, vi s1, vr (some (97, 1, 0))] Q := by
  refine Zm.l (fun _ _ k_ => z_iconst (v := 1) dX8_codeWays_161 rfl k_) ?_
  refine Zm.l (fun _ _ k_ => z_iadd dX8_codeWays_162 k_) ?_
  exact zm_callV (as := [vi s1, vi (s0 + (1 : Int32))]) (st := []) dX8_codeWays_163 vsX8_1081_1 (Nat.le_refl _) (Nat.le_of_ble_eq_true rfl) (Nat.le_of_ble_eq_true rfl) rfl k
theorem sX8_codeWays_166 {E : zE} {d : Nat} {Q : zO → zM → Prop} (M : zM) (l2 : Int64) (l4 : Int64) (l9 : Int32) (l10 : Int32) (l14 : Int32) (l15 : Int32) (k : if l10 = (-1 : Int32) then (Zm E YX8_codeWays (d + 1) M [(0, vr (some (97, 1, 0))), (2, vl l2), (4, vl l4), (9, vi l9), (10, vi l10), (14, vi l14), (15, vi l15)] 181 [] Q) else (Zm E YX8_write d M (zargs 0 [vr (some (97, 1, 0)), vi l15, vi (0 : Int32), vi (0 : Int32), vi (0 : Int32)]) 0 [] (zma E YX8_codeWays (d + 1) [(0, vr (some (97, 1, 0))), (2, vl l2), (4, vl l4), (9, vi l9), (10, vi l10), (14, vi l14), (15, vi l15)] 178 3 [] Q))) : Zm E YX8_codeWays (d + 1) M [(0, vr (some (97, 1, 0))), (2, vl l2), (4, vl l4), (9, vi l9), (10, vi l10), (14, vi l14), (15, vi l15)] 166 [] Q := by
  refine Zm.l (fun _ _ k_ => z_iload dX8_codeWays_166 rfl k_) ?_
  refine Zm.l (fun _ _ k_ => z_iconst (v := -1) dX8_codeWays_168 rfl k_) ?_
  refine Zm.br (fun _ _ k1_ k2_ => z_icmp_eq (tgt := 181) dX8_codeWays_169 rfl k1_ k2_) (fun h_ => ?_) (fun h_ => ?_)
  · have k := zit h_ k
    exact k
  · have k := zif h_ k
    refine Zm.l (fun _ _ k_ => z_aload_n dX8_codeWays_172 rfl rfl k_) ?_
    refine Zm.l (fun _ _ k_ => z_iload dX8_codeWays_173 rfl k_) ?_
    refine Zm.l (fun _ _ k_ => z_iconst (v := 0) dX8_codeWays_175 rfl k_) ?_
    refine Zm.l (fun _ _ k_ => z_iconst (v := 0) dX8_codeWays_176 rfl k_) ?_
    refine Zm.l (fun _ _ k_ => z_iconst (v := 0) dX8_codeWays_177 rfl k_) ?_
    exact zm_callV (as := [vi l15, vi (0 : Int32), vi (0 : Int32), vi (0 : Int32)]) (st := []) dX8_codeWays_178 vsX8_1056_1 (Nat.le_refl _) (Nat.le_of_ble_eq_true rfl) (Nat.le_of_ble_eq_true rfl) rfl k
theorem sX8_codeWays_181 {E : zE} {d : Nat} {Q : zO → zM → Prop} (M : zM) (l2 : Int64) (l4 : Int64) (l9 : Int32) (l10 : Int32) (l14 : Int32) (l15 : Int32) (k : Zm E YX8_replace d M (zargs 0 [vr (some (97, 1, 0)), vi l9, vi l15]) 0 [] (zma E YX8_codeWays (d + 1) [(0, vr (some (97, 1, 0))), (2, vl l2), (4, vl l4), (10, vi l10), (14, vi l14)] 186 3 [] Q)) : Zm E YX8_codeWays (d + 1) M [(0, vr (some (97, 1, 0))), (2, vl l2), (4, vl l4), (9, vi l9), (10, vi l10), (14, vi l14), (15, vi l15)] 181 [] Q := by
  refine Zm.l (fun _ _ k_ => z_aload_n dX8_codeWays_181 rfl rfl k_) ?_
  refine Zm.l (fun _ _ k_ => z_iload dX8_codeWays_182 rfl k_) ?_
  refine Zm.l (fun _ _ k_ => z_iload dX8_codeWays_184 rfl k_) ?_
  refine Zm.pick [0, 1, 2, 4, 5] rfl ?_
  exact zm_callV (as := [vi l9, vi l15]) (st := []) dX8_codeWays_186 vsX8_1258_1 (Nat.le_refl _) (Nat.le_of_ble_eq_true rfl) (Nat.le_of_ble_eq_true rfl) rfl k
theorem sX8_codeWays_189 {E : zE} {d : Nat} {Q : zO → zM → Prop} (M : zM) (l2 : Int64) (l4 : Int64) (l10 : Int32) (l14 : Int32) (k : vp_in (l14 + (1 : Int32)) 640 ∧ (if (gi M 168 ((l14 + (1 : Int32))).toNatClampNeg) = 0 then (Zm E YX8_codeWays (d + 1) M [] 244 [] Q) else (Zm E YX8_prepare d M (zargs 0 [vr (some (97, 1, 0)), vl l2, vl l4, vi l10]) 0 [] (zma E YX8_codeWays (d + 1) [(0, vr (some (97, 1, 0))), (14, vi l14)] 207 3 [] Q)))) : Zm E YX8_codeWays (d + 1) M [(0, vr (some (97, 1, 0))), (2, vl l2), (4, vl l4), (10, vi l10), (14, vi l14)] 189 [] Q := by
  refine Zm.l (fun _ _ k_ => z_aload_n dX8_codeWays_189 rfl rfl k_) ?_
  refine zm_getr 65 dX8_codeWays_190 fsX8_226_1 rfl ?_
  refine Zm.l (fun _ _ k_ => z_iload dX8_codeWays_193 rfl k_) ?_
  refine Zm.l (fun _ _ k_ => z_iconst (v := 1) dX8_codeWays_195 rfl k_) ?_
  refine Zm.l (fun _ _ k_ => z_iadd dX8_codeWays_196 k_) ?_
  obtain ⟨b_, k⟩ := k
  refine zm_zald dX8_codeWays_197 b_ (by decide) (by decide) ?_
  refine Zm.br (fun _ _ k1_ k2_ => z_if_eq (tgt := 244) dX8_codeWays_198 rfl k1_ k2_) (fun h_ => ?_) (fun h_ => ?_)
  · have k := zit h_ k
    refine Zm.pick [] rfl ?_
    exact k
  · have k := zif h_ k
    refine Zm.l (fun _ _ k_ => z_aload_n dX8_codeWays_201 rfl rfl k_) ?_
    refine Zm.l (fun _ _ k_ => z_lload_n dX8_codeWays_202 rfl rfl k_) ?_
    refine Zm.l (fun _ _ k_ => z_lload dX8_codeWays_203 rfl k_) ?_
    refine Zm.l (fun _ _ k_ => z_iload dX8_codeWays_205 rfl k_) ?_
    refine Zm.pick [0, 4] rfl ?_
    exact zm_callV (as := [vl l2, vl l4, vi l10]) (st := []) dX8_codeWays_207 vsX8_1336_1 (Nat.le_refl _) (Nat.le_of_ble_eq_true rfl) (Nat.le_of_ble_eq_true rfl) rfl k
theorem sX8_codeWays_210 {E : zE} {d : Nat} {Q : zO → zM → Prop} (M : zM) (l14 : Int32) (k : Zm E YX8_comeBack d M (zargs 0 [vr (some (97, 1, 0)), vi (l14 + (1 : Int32))]) 0 [] (zma E YX8_codeWays (d + 1) [(0, vr (some (97, 1, 0))), (14, vi l14)] 215 3 [] Q)) : Zm E YX8_codeWays (d + 1) M [(0, vr (some (97, 1, 0))), (14, vi l14)] 210 [] Q := by
  refine Zm.l (fun _ _ k_ => z_aload_n dX8_codeWays_210 rfl rfl k_) ?_
  refine Zm.l (fun _ _ k_ => z_iload dX8_codeWays_211 rfl k_) ?_
  refine Zm.l (fun _ _ k_ => z_iconst (v := 1) dX8_codeWays_213 rfl k_) ?_
  refine Zm.l (fun _ _ k_ => z_iadd dX8_codeWays_214 k_) ?_
  exact zm_callV (as := [vi (l14 + (1 : Int32))]) (st := []) dX8_codeWays_215 vsX8_1346_1 (Nat.le_refl _) (Nat.le_of_ble_eq_true rfl) (Nat.le_of_ble_eq_true rfl) rfl k
theorem sX8_codeWays_218 {E : zE} {d : Nat} {Q : zO → zM → Prop} (M : zM) (l14 : Int32) (k : vp_in (l14 + (1 : Int32)) 640 ∧ (Zm E YX8_copySet d M (zargs 0 [vr (some (97, 1, 0)), vi (gi M 172 ((l14 + (1 : Int32))).toNatClampNeg), vi (647751 : Int32)]) 0 [] (zma E YX8_codeWays (d + 1) [(0, vr (some (97, 1, 0))), (15, vi (647751 : Int32))] 235 3 [] Q))) : Zm E YX8_codeWays (d + 1) M [(0, vr (some (97, 1, 0))), (14, vi l14)] 218 [] Q := by
  refine Zm.l (fun _ _ k_ => z_ldcw (v := 647751) dX8_codeWays_218 q5137 k_) ?_
  refine Zm.l (fun _ _ k_ => z_ist dX8_codeWays_221 (by decide) (lv' := [(0, vr (some (97, 1, 0))), (14, vi l14), (15, vi (647751 : Int32))]) rfl k_) ?_
  refine Zm.l (fun _ _ k_ => z_aload_n dX8_codeWays_223 rfl rfl k_) ?_
  refine Zm.l (fun _ _ k_ => z_aload_n dX8_codeWays_224 rfl rfl k_) ?_
  refine zm_getr 69 dX8_codeWays_225 fsX8_238_1 rfl ?_
  refine Zm.l (fun _ _ k_ => z_iload dX8_codeWays_228 rfl k_) ?_
  refine Zm.l (fun _ _ k_ => z_iconst (v := 1) dX8_codeWays_230 rfl k_) ?_
  refine Zm.l (fun _ _ k_ => z_iadd dX8_codeWays_231 k_) ?_
  obtain ⟨b_, k⟩ := k
  refine zm_iald dX8_codeWays_232 b_ (by decide) (by decide) ?_
  refine Zm.l (fun _ _ k_ => z_iload dX8_codeWays_233 rfl k_) ?_
  refine Zm.pick [0, 2] rfl ?_
  exact zm_callV (as := [vi (gi M 172 ((l14 + (1 : Int32))).toNatClampNeg), vi (647751 : Int32)]) (st := []) dX8_codeWays_235 vsX8_1092_1 (Nat.le_refl _) (Nat.le_of_ble_eq_true rfl) (Nat.le_of_ble_eq_true rfl) rfl k
theorem sX8_codeWays_238 {E : zE} {d : Nat} {Q : zO → zM → Prop} (M : zM) (l15 : Int32) (k : Zm E YX8_tossSet d M (zargs 0 [vr (some (97, 1, 0)), vi l15]) 0 [] (zma E YX8_codeWays (d + 1) [] 241 3 [] Q)) : Zm E YX8_codeWays (d + 1) M [(0, vr (some (97, 1, 0))), (15, vi l15)] 238 [] Q := by
  refine Zm.l (fun _ _ k_ => z_aload_n dX8_codeWays_238 rfl rfl k_) ?_
  refine Zm.l (fun _ _ k_ => z_iload dX8_codeWays_239 rfl k_) ?_
  refine Zm.pick [] rfl ?_
  exact zm_callV (as := [vi l15]) (st := []) dX8_codeWays_241 vsX8_1198_1 (Nat.le_refl _) (Nat.le_of_ble_eq_true rfl) (Nat.le_of_ble_eq_true rfl) rfl k
theorem sX8_codeWays_244 {E : zE} {d : Nat} {Q : zO → zM → Prop} (M : zM)  (k : Q (.inl none) M) : Zm E YX8_codeWays (d + 1) M [] 244 [] Q := by
  exact zm_vret dX8_codeWays_244 rfl k
