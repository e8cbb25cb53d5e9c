/-! ScriptTypes$Bag.<init>()V -/
theorem bX6_init_0 : zdec cX6_init 0 [(0, .aload_n 0, 1), (1, .invokespecial 3, 3), (4, .return_, 1)] = true := by decide +kernel
theorem dX6_init_0 : decode cX6_init 0 = .ok (.aload_n 0, 1) := zdec_at bX6_init_0 0 rfl
theorem dX6_init_1 : decode cX6_init 1 = .ok (.invokespecial 3, 3) := zdec_at bX6_init_0 1 rfl
theorem dX6_init_4 : decode cX6_init 4 = .ok (.return_, 1) := zdec_at bX6_init_0 2 rfl
theorem sX6_init_0 {E : zE} {d : Nat} {Q : zO → zM → Prop} (M : zM) (a0 : Nat) (k : Q (.inl none) M) : Z E YX6_init (d + 1) M [(0, vr (some (a0, 4, 0)))] 0 [] Q := by
  refine z_aload_n dX6_init_0 rfl rfl ?_
  refine z_objInit dX6_init_1 oiX6_3 (by omega) (by decide) ?_
  exact z_vret dX6_init_4 rfl k
/-! ScriptTypes$Bag.of(J)LScriptTypes$Bag; -/
theorem bX6_of_0 : zdec cX6_of 0 [(0, .aload_n 0, 1), (1, .lconst 0, 1), (2, .putfield 9, 3), (5, .aload_n 0, 1), (6, .lconst 0, 1), (7, .putfield 15, 3), (10, .aload_n 0, 1), (11, .lload_n 1, 1), (12, .putfield 18, 3), (15, .aload_n 0, 1), (16, .areturn, 1)] = true := by decide +kernel
theorem dX6_of_0 : decode cX6_of 0 = .ok (.aload_n 0, 1) := zdec_at bX6_of_0 0 rfl
theorem dX6_of_1 : decode cX6_of 1 = .ok (.lconst 0, 1) := zdec_at bX6_of_0 1 rfl
theorem dX6_of_2 : decode cX6_of 2 = .ok (.putfield 9, 3) := zdec_at bX6_of_0 2 rfl
theorem dX6_of_5 : decode cX6_of 5 = .ok (.aload_n 0, 1) := zdec_at bX6_of_0 3 rfl
theorem dX6_of_6 : decode cX6_of 6 = .ok (.lconst 0, 1) := zdec_at bX6_of_0 4 rfl
theorem dX6_of_7 : decode cX6_of 7 = .ok (.putfield 15, 3) := zdec_at bX6_of_0 5 rfl
theorem dX6_of_10 : decode cX6_of 10 = .ok (.aload_n 0, 1) := zdec_at bX6_of_0 6 rfl
theorem dX6_of_11 : decode cX6_of 11 = .ok (.lload_n 1, 1) := zdec_at bX6_of_0 7 rfl
theorem dX6_of_12 : decode cX6_of 12 = .ok (.putfield 18, 3) := zdec_at bX6_of_0 8 rfl
theorem dX6_of_15 : decode cX6_of 15 = .ok (.aload_n 0, 1) := zdec_at bX6_of_0 9 rfl
theorem dX6_of_16 : decode cX6_of 16 = .ok (.areturn, 1) := zdec_at bX6_of_0 10 rfl
theorem sX6_of_0 {E : zE} {d : Nat} {Q : zO → zM → Prop} (M : zM) (a0 : Nat) (l1 : Int64) (k : 16 ≤ a0 ∧ (16 ≤ a0 ∧ (16 ≤ a0 ∧ (Q (.inl (some (vr (some (a0, 4, 0))))) (sl (sl (sl M a0 0 (0 : Int64)) a0 1 (0 : Int64)) a0 2 l1))))) : Z E YX6_of d M [(0, vr (some (a0, 4, 0))), (1, vl l1)] 0 [] Q := by
  refine z_aload_n dX6_of_0 rfl rfl ?_
  refine z_lconst (v := 0) dX6_of_1 rfl ?_
  obtain ⟨g_, k⟩ := k
  refine z_putl g_ dX6_of_2 (zfwN.w fwX6_9_4) ?_
  refine z_aload_n dX6_of_5 rfl rfl ?_
  refine z_lconst (v := 0) dX6_of_6 rfl ?_
  obtain ⟨g_, k⟩ := k
  refine z_putl g_ dX6_of_7 (zfwN.w fwX6_15_4) ?_
  refine z_aload_n dX6_of_10 rfl rfl ?_
  refine z_lload_n dX6_of_11 rfl rfl ?_
  obtain ⟨g_, k⟩ := k
  refine z_putl g_ dX6_of_12 (zfwN.w fwX6_18_4) ?_
  refine z_aload_n dX6_of_15 rfl rfl ?_
  exact z_aret dX6_of_16 rfl rfl k
/-! ScriptTypes$Bag.join3(JJJ)LScriptTypes$Bag; -/
theorem bX6_join3_0 : zdec cX6_join3 0 [(0, .aload_n 0, 1), (1, .dup, 1), (2, .getfield 9, 3), (5, .lload_n 1, 1), (6, .lor, 1), (7, .putfield 9, 3), (10, .aload_n 0, 1), (11, .dup, 1), (12, .getfield 15, 3), (15, .lload_n 3, 1), (16, .lor, 1), (17, .putfield 15, 3), (20, .aload_n 0, 1), (21, .aload_n 0, 1), (22, .getfield 18, 3), (25, .lload 5, 2)] = true := by decide +kernel
theorem dX6_join3_0 : decode cX6_join3 0 = .ok (.aload_n 0, 1) := zdec_at bX6_join3_0 0 rfl
theorem dX6_join3_1 : decode cX6_join3 1 = .ok (.dup, 1) := zdec_at bX6_join3_0 1 rfl
theorem dX6_join3_2 : decode cX6_join3 2 = .ok (.getfield 9, 3) := zdec_at bX6_join3_0 2 rfl
theorem dX6_join3_5 : decode cX6_join3 5 = .ok (.lload_n 1, 1) := zdec_at bX6_join3_0 3 rfl
theorem dX6_join3_6 : decode cX6_join3 6 = .ok (.lor, 1) := zdec_at bX6_join3_0 4 rfl
theorem dX6_join3_7 : decode cX6_join3 7 = .ok (.putfield 9, 3) := zdec_at bX6_join3_0 5 rfl
theorem dX6_join3_10 : decode cX6_join3 10 = .ok (.aload_n 0, 1) := zdec_at bX6_join3_0 6 rfl
theorem dX6_join3_11 : decode cX6_join3 11 = .ok (.dup, 1) := zdec_at bX6_join3_0 7 rfl
theorem dX6_join3_12 : decode cX6_join3 12 = .ok (.getfield 15, 3) := zdec_at bX6_join3_0 8 rfl
theorem dX6_join3_15 : decode cX6_join3 15 = .ok (.lload_n 3, 1) := zdec_at bX6_join3_0 9 rfl
theorem dX6_join3_16 : decode cX6_join3 16 = .ok (.lor, 1) := zdec_at bX6_join3_0 10 rfl
theorem dX6_join3_17 : decode cX6_join3 17 = .ok (.putfield 15, 3) := zdec_at bX6_join3_0 11 rfl
theorem dX6_join3_20 : decode cX6_join3 20 = .ok (.aload_n 0, 1) := zdec_at bX6_join3_0 12 rfl
theorem dX6_join3_21 : decode cX6_join3 21 = .ok (.aload_n 0, 1) := zdec_at bX6_join3_0 13 rfl
theorem dX6_join3_22 : decode cX6_join3 22 = .ok (.getfield 18, 3) := zdec_at bX6_join3_0 14 rfl
theorem dX6_join3_25 : decode cX6_join3 25 = .ok (.lload 5, 2) := zdec_at bX6_join3_0 15 rfl
theorem bX6_join3_27 : zdec cX6_join3 27 [(27, .invokestatic 25, 3), (30, .putfield 18, 3), (33, .aload_n 0, 1), (34, .areturn, 1)] = true := by decide +kernel
theorem dX6_join3_27 : decode cX6_join3 27 = .ok (.invokestatic 25, 3) := zdec_at bX6_join3_27 0 rfl
theorem dX6_join3_30 : decode cX6_join3 30 = .ok (.putfield 18, 3) := zdec_at bX6_join3_27 1 rfl
theorem dX6_join3_33 : decode cX6_join3 33 = .ok (.aload_n 0, 1) := zdec_at bX6_join3_27 2 rfl
theorem dX6_join3_34 : decode cX6_join3 34 = .ok (.areturn, 1) := zdec_at bX6_join3_27 3 rfl
theorem sX6_join3_0 {E : zE} {d : Nat} {Q : zO → zM → Prop} (M : zM) (a0 : Nat) (l1 : Int64) (l3 : Int64) (l5 : Int64) (k : 16 ≤ a0 ∧ (16 ≤ a0 ∧ (Z E YX1_joined d (sl (sl M a0 0 ((gl M a0 0) ||| l1)) a0 1 ((gl (sl M a0 0 ((gl M a0 0) ||| l1)) a0 1) ||| l3)) (zargs 0 [vl (gl (sl (sl M a0 0 ((gl M a0 0) ||| l1)) a0 1 ((gl (sl M a0 0 ((gl M a0 0) ||| l1)) a0 1) ||| l3)) a0 2), vl l5]) 0 [] (zafter E YX6_join3 (d + 1) [(0, vr (some (a0, 4, 0)))] 27 3 [vr (some (a0, 4, 0))] Q)))) : Z E YX6_join3 (d + 1) M [(0, vr (some (a0, 4, 0))), (1, vl l1), (3, vl l3), (5, vl l5)] 0 [] Q := by
  refine z_aload_n dX6_join3_0 rfl rfl ?_
  refine z_dup dX6_join3_1 rfl ?_
  refine z_getl dX6_join3_2 fsX6_9_4 ?_
  refine z_lload_n dX6_join3_5 rfl rfl ?_
  refine z_lor dX6_join3_6 ?_
  obtain ⟨g_, k⟩ := k
  refine z_putl g_ dX6_join3_7 (zfwN.w fwX6_9_4) ?_
  refine z_aload_n dX6_join3_10 rfl rfl ?_
  refine z_dup dX6_join3_11 rfl ?_
  refine z_getl dX6_join3_12 fsX6_15_4 ?_
  refine z_lload_n dX6_join3_15 rfl rfl ?_
  refine z_lor dX6_join3_16 ?_
  obtain ⟨g_, k⟩ := k
  refine z_putl g_ dX6_join3_17 (zfwN.w fwX6_15_4) ?_
  refine z_aload_n dX6_join3_20 rfl rfl ?_
  refine z_aload_n dX6_join3_21 rfl rfl ?_
  refine z_getl dX6_join3_22 fsX6_18_4 ?_
  refine z_lload dX6_join3_25 rfl ?_
  refine Z.pick [0] rfl ?_
  exact z_callS (as := [vl (gl (sl (sl M a0 0 ((gl M a0 0) ||| l1)) a0 1 ((gl (sl M a0 0 ((gl M a0 0) ||| l1)) a0 1) ||| l3)) a0 2), vl l5]) (st := [vr (some (a0, 4, 0))]) dX6_join3_27 ssX6_25 (Nat.le_refl _) (Nat.le_of_ble_eq_true rfl) (Nat.le_of_ble_eq_true rfl) rfl k
theorem sX6_join3_30 {E : zE} {d : Nat} {Q : zO → zM → Prop} (M : zM) (a0 : Nat) (s0 : Int64) (k : 16 ≤ a0 ∧ (Q (.inl (some (vr (some (a0, 4, 0))))) (sl M a0 2 s0))) : Z E YX6_join3 (d + 1) M [(0, vr (some (a0, 4, 0)))] 30 [vl s0, vr (some (a0, 4, 0))] Q := by
  obtain ⟨g_, k⟩ := k
  refine z_putl g_ dX6_join3_30 (zfwN.w fwX6_18_4) ?_
  refine z_aload_n dX6_join3_33 rfl rfl ?_
  exact z_aret dX6_join3_34 rfl rfl k
/-! ScriptTypes$Bag.told(I)J -/
theorem bX6_told_0 : zdec cX6_told 0 [(0, .iload_n 1, 1), (1, .ifCond .ne 14, 3), (4, .aload_n 0, 1), (5, .getfield 18, 3), (8, .ldc2_w 63, 3), (11, .land, 1), (12, .goto 81, 3), (15, .iload_n 1, 1), (16, .iconst 1, 1), (17, .if_icmp .ne 24, 3), (20, .aload_n 0, 1), (21, .bipush 32, 2), (23, .invokevirtual 47, 3), (26, .ifCond .eq 11, 3), (29, .aload_n 0, 1), (30, .invokevirtual 56, 3)] = true := by decide +kernel
theorem dX6_told_0 : decode cX6_told 0 = .ok (.iload_n 1, 1) := zdec_at bX6_told_0 0 rfl
theorem dX6_told_1 : decode cX6_told 1 = .ok (.ifCond .ne 14, 3) := zdec_at bX6_told_0 1 rfl
theorem dX6_told_4 : decode cX6_told 4 = .ok (.aload_n 0, 1) := zdec_at bX6_told_0 2 rfl
theorem dX6_told_5 : decode cX6_told 5 = .ok (.getfield 18, 3) := zdec_at bX6_told_0 3 rfl
theorem dX6_told_8 : decode cX6_told 8 = .ok (.ldc2_w 63, 3) := zdec_at bX6_told_0 4 rfl
theorem dX6_told_11 : decode cX6_told 11 = .ok (.land, 1) := zdec_at bX6_told_0 5 rfl
theorem dX6_told_12 : decode cX6_told 12 = .ok (.goto 81, 3) := zdec_at bX6_told_0 6 rfl
theorem dX6_told_15 : decode cX6_told 15 = .ok (.iload_n 1, 1) := zdec_at bX6_told_0 7 rfl
theorem dX6_told_16 : decode cX6_told 16 = .ok (.iconst 1, 1) := zdec_at bX6_told_0 8 rfl
theorem dX6_told_17 : decode cX6_told 17 = .ok (.if_icmp .ne 24, 3) := zdec_at bX6_told_0 9 rfl
theorem dX6_told_20 : decode cX6_told 20 = .ok (.aload_n 0, 1) := zdec_at bX6_told_0 10 rfl
theorem dX6_told_21 : decode cX6_told 21 = .ok (.bipush 32, 2) := zdec_at bX6_told_0 11 rfl
theorem dX6_told_23 : decode cX6_told 23 = .ok (.invokevirtual 47, 3) := zdec_at bX6_told_0 12 rfl
theorem dX6_told_26 : decode cX6_told 26 = .ok (.ifCond .eq 11, 3) := zdec_at bX6_told_0 13 rfl
theorem dX6_told_29 : decode cX6_told 29 = .ok (.aload_n 0, 1) := zdec_at bX6_told_0 14 rfl
theorem dX6_told_30 : decode cX6_told 30 = .ok (.invokevirtual 56, 3) := zdec_at bX6_told_0 15 rfl
theorem bX6_told_33 : zdec cX6_told 33 [(33, .i2l, 1), (34, .goto 59, 3), (37, .lconst 0, 1), (38, .goto 55, 3), (41, .iload_n 1, 1), (42, .iconst 2, 1), (43, .if_icmp .ne 25, 3), (46, .aload_n 0, 1), (47, .sipush 128, 3), (50, .invokevirtual 47, 3), (53, .ifCond .eq 11, 3), (56, .aload_n 0, 1), (57, .invokevirtual 60, 3), (60, .i2l, 1), (61, .goto 32, 3), (64, .lconst 0, 1)] = true := by decide +kernel
theorem dX6_told_33 : decode cX6_told 33 = .ok (.i2l, 1) := zdec_at bX6_told_33 0 rfl
theorem dX6_told_34 : decode cX6_told 34 = .ok (.goto 59, 3) := zdec_at bX6_told_33 1 rfl
theorem dX6_told_37 : decode cX6_told 37 = .ok (.lconst 0, 1) := zdec_at bX6_told_33 2 rfl
theorem dX6_told_38 : decode cX6_told 38 = .ok (.goto 55, 3) := zdec_at bX6_told_33 3 rfl
theorem dX6_told_41 : decode cX6_told 41 = .ok (.iload_n 1, 1) := zdec_at bX6_told_33 4 rfl
theorem dX6_told_42 : decode cX6_told 42 = .ok (.iconst 2, 1) := zdec_at bX6_told_33 5 rfl
theorem dX6_told_43 : decode cX6_told 43 = .ok (.if_icmp .ne 25, 3) := zdec_at bX6_told_33 6 rfl
theorem dX6_told_46 : decode cX6_told 46 = .ok (.aload_n 0, 1) := zdec_at bX6_told_33 7 rfl
theorem dX6_told_47 : decode cX6_told 47 = .ok (.sipush 128, 3) := zdec_at bX6_told_33 8 rfl
theorem dX6_told_50 : decode cX6_told 50 = .ok (.invokevirtual 47, 3) := zdec_at bX6_told_33 9 rfl
theorem dX6_told_53 : decode cX6_told 53 = .ok (.ifCond .eq 11, 3) := zdec_at bX6_told_33 10 rfl
theorem dX6_told_56 : decode cX6_told 56 = .ok (.aload_n 0, 1) := zdec_at bX6_told_33 11 rfl
theorem dX6_told_57 : decode cX6_told 57 = .ok (.invokevirtual 60, 3) := zdec_at bX6_told_33 12 rfl
theorem dX6_told_60 : decode cX6_told 60 = .ok (.i2l, 1) := zdec_at bX6_told_33 13 rfl
theorem dX6_told_61 : decode cX6_told 61 = .ok (.goto 32, 3) := zdec_at bX6_told_33 14 rfl
theorem dX6_told_64 : decode cX6_told 64 = .ok (.lconst 0, 1) := zdec_at bX6_told_33 15 rfl
theorem bX6_told_65 : zdec cX6_told 65 [(65, .goto 28, 3), (68, .iload_n 1, 1), (69, .iconst 3, 1), (70, .if_icmp .ne 10, 3), (73, .aload_n 0, 1), (74, .getfield 9, 3), (77, .goto 16, 3), (80, .iload_n 1, 1), (81, .iconst 4, 1), (82, .if_icmp .ne 10, 3), (85, .aload_n 0, 1), (86, .getfield 15, 3), (89, .goto 4, 3), (92, .lconst 0, 1), (93, .lreturn, 1)] = true := by decide +kernel
theorem dX6_told_65 : decode cX6_told 65 = .ok (.goto 28, 3) := zdec_at bX6_told_65 0 rfl
theorem dX6_told_68 : decode cX6_told 68 = .ok (.iload_n 1, 1) := zdec_at bX6_told_65 1 rfl
theorem dX6_told_69 : decode cX6_told 69 = .ok (.iconst 3, 1) := zdec_at bX6_told_65 2 rfl
theorem dX6_told_70 : decode cX6_told 70 = .ok (.if_icmp .ne 10, 3) := zdec_at bX6_told_65 3 rfl
theorem dX6_told_73 : decode cX6_told 73 = .ok (.aload_n 0, 1) := zdec_at bX6_told_65 4 rfl
theorem dX6_told_74 : decode cX6_told 74 = .ok (.getfield 9, 3) := zdec_at bX6_told_65 5 rfl
theorem dX6_told_77 : decode cX6_told 77 = .ok (.goto 16, 3) := zdec_at bX6_told_65 6 rfl
theorem dX6_told_80 : decode cX6_told 80 = .ok (.iload_n 1, 1) := zdec_at bX6_told_65 7 rfl
theorem dX6_told_81 : decode cX6_told 81 = .ok (.iconst 4, 1) := zdec_at bX6_told_65 8 rfl
theorem dX6_told_82 : decode cX6_told 82 = .ok (.if_icmp .ne 10, 3) := zdec_at bX6_told_65 9 rfl
theorem dX6_told_85 : decode cX6_told 85 = .ok (.aload_n 0, 1) := zdec_at bX6_told_65 10 rfl
theorem dX6_told_86 : decode cX6_told 86 = .ok (.getfield 15, 3) := zdec_at bX6_told_65 11 rfl
theorem dX6_told_89 : decode cX6_told 89 = .ok (.goto 4, 3) := zdec_at bX6_told_65 12 rfl
theorem dX6_told_92 : decode cX6_told 92 = .ok (.lconst 0, 1) := zdec_at bX6_told_65 13 rfl
theorem dX6_told_93 : decode cX6_told 93 = .ok (.lreturn, 1) := zdec_at bX6_told_65 14 rfl
theorem sX6_told_0 {E : zE} {d : Nat} {Q : zO → zM → Prop} (M : zM) (a0 : Nat) (l1 : Int32) (k : if l1 = 0 then (Q (.inl (some (vl ((gl M a0 2) &&& (1023 : Int64))))) M) else (if l1 = (1 : Int32) then (Z E YX6_has d M (zargs 0 [vr (some (a0, 4, 0)), vi (32 : Int32)]) 0 [] (zafter E YX6_told (d + 1) [(0, vr (some (a0, 4, 0)))] 23 3 [] Q)) else (if l1 = (2 : Int32) then (Z E YX6_has d M (zargs 0 [vr (some (a0, 4, 0)), vi (128 : Int32)]) 0 [] (zafter E YX6_told (d + 1) [(0, vr (some (a0, 4, 0)))] 50 3 [] Q)) else (if l1 = (3 : Int32) then (Q (.inl (some (vl (gl M a0 0)))) M) else (if l1 = (4 : Int32) then (Q (.inl (some (vl (gl M a0 1)))) M) else (Q (.inl (some (vl (0 : Int64)))) M)))))) : Z E YX6_told (d + 1) M [(0, vr (some (a0, 4, 0))), (1, vi l1)] 0 [] Q := by
  refine z_iload_n dX6_told_0 rfl rfl ?_
  refine z_if_ne (tgt := 15) dX6_told_1 rfl (fun h_ => ?_) (fun h_ => ?_)
  · have k := zif h_ k
    refine z_iload_n dX6_told_15 rfl rfl ?_
    refine z_iconst (v := 1) dX6_told_16 rfl ?_
    refine z_icmp_ne (tgt := 41) dX6_told_17 rfl (fun h_ => ?_) (fun h_ => ?_)
    · have k := zif h_ k
      refine z_iload_n dX6_told_41 rfl rfl ?_
      refine z_iconst (v := 2) dX6_told_42 rfl ?_
      refine z_icmp_ne (tgt := 68) dX6_told_43 rfl (fun h_ => ?_) (fun h_ => ?_)
      · have k := zif h_ k
        refine z_iload_n dX6_told_68 rfl rfl ?_
        refine z_iconst (v := 3) dX6_told_69 rfl ?_
        refine z_icmp_ne (tgt := 80) dX6_told_70 rfl (fun h_ => ?_) (fun h_ => ?_)
        · have k := zif h_ k
          refine z_iload_n dX6_told_80 rfl rfl ?_
          refine z_iconst (v := 4) dX6_told_81 rfl ?_
          refine z_icmp_ne (tgt := 92) dX6_told_82 rfl (fun h_ => ?_) (fun h_ => ?_)
          · have k := zif h_ k
            refine z_lconst (v := 0) dX6_told_92 rfl ?_
            exact z_lret dX6_told_93 rfl k
          · have k := zit h_ k
            refine z_aload_n dX6_told_85 rfl rfl ?_
            refine z_getl dX6_told_86 fsX6_15_4 ?_
            refine z_goto (tgt := 93) dX6_told_89 rfl ?_
            exact z_lret dX6_told_93 rfl k
        · have k := zit h_ k
          refine z_aload_n dX6_told_73 rfl rfl ?_
          refine z_getl dX6_told_74 fsX6_9_4 ?_
          refine z_goto (tgt := 93) dX6_told_77 rfl ?_
          exact z_lret dX6_told_93 rfl k
      · have k := zit h_ k
        refine z_aload_n dX6_told_46 rfl rfl ?_
        refine z_sipush (v := 128) dX6_told_47 rfl ?_
        refine Z.pick [0] rfl ?_
        exact z_callV (as := [vi (128 : Int32)]) (st := []) dX6_told_50 vsX6_47_4 (Nat.le_refl _) (Nat.le_of_ble_eq_true rfl) (Nat.le_of_ble_eq_true rfl) rfl k
    · have k := zit h_ k
      refine z_aload_n dX6_told_20 rfl rfl ?_
      refine z_bipush (v := 32) dX6_told_21 rfl ?_
      refine Z.pick [0] rfl ?_
      exact z_callV (as := [vi (32 : Int32)]) (st := []) dX6_told_23 vsX6_47_4 (Nat.le_refl _) (Nat.le_of_ble_eq_true rfl) (Nat.le_of_ble_eq_true rfl) rfl k
  · have k := zit h_ k
    refine z_aload_n dX6_told_4 rfl rfl ?_
    refine z_getl dX6_told_5 fsX6_18_4 ?_
    refine z_ldc2 (v := 1023) dX6_told_8 q2578 ?_
    refine z_land dX6_told_11 ?_
    refine z_goto (tgt := 93) dX6_told_12 rfl ?_
    exact z_lret dX6_told_93 rfl k
theorem sX6_told_26 {E : zE} {d : Nat} {Q : zO → zM → Prop} (M : zM) (a0 : Nat) (s0 : Int32) (k : if s0 = 0 then (Q (.inl (some (vl (0 : Int64)))) M) else (Z E YX6_number d M (zargs 0 [vr (some (a0, 4, 0))]) 0 [] (zafter E YX6_told (d + 1) [] 30 3 [] Q))) : Z E YX6_told (d + 1) M [(0, vr (some (a0, 4, 0)))] 26 [vi s0] Q := by
  refine z_if_eq (tgt := 37) dX6_told_26 rfl (fun h_ => ?_) (fun h_ => ?_)
  · have k := zit h_ k
    refine z_lconst (v := 0) dX6_told_37 rfl ?_
    refine z_goto (tgt := 93) dX6_told_38 rfl ?_
    exact z_lret dX6_told_93 rfl k
  · have k := zif h_ k
    refine z_aload_n dX6_told_29 rfl rfl ?_
    refine Z.pick [] rfl ?_
    exact z_callV (as := []) (st := []) dX6_told_30 vsX6_56_4 (Nat.le_refl _) (Nat.le_of_ble_eq_true rfl) (Nat.le_of_ble_eq_true rfl) rfl k
theorem sX6_told_33 {E : zE} {d : Nat} {Q : zO → zM → Prop} (M : zM) (s0 : Int32) (k : Q (.inl (some (vl (s0).toInt64))) M) : Z E YX6_told (d + 1) M [] 33 [vi s0] Q := by
  refine z_i2l dX6_told_33 ?_
  refine z_goto (tgt := 93) dX6_told_34 rfl ?_
  exact z_lret dX6_told_93 rfl k
theorem sX6_told_53 {E : zE} {d : Nat} {Q : zO → zM → Prop} (M : zM) (a0 : Nat) (s0 : Int32) (k : if s0 = 0 then (Q (.inl (some (vl (0 : Int64)))) M) else (Z E YX6_name d M (zargs 0 [vr (some (a0, 4, 0))]) 0 [] (zafter E YX6_told (d + 1) [] 57 3 [] Q))) : Z E YX6_told (d + 1) M [(0, vr (some (a0, 4, 0)))] 53 [vi s0] Q := by
  refine z_if_eq (tgt := 64) dX6_told_53 rfl (fun h_ => ?_) (fun h_ => ?_)
  · have k := zit h_ k
    refine z_lconst (v := 0) dX6_told_64 rfl ?_
    refine z_goto (tgt := 93) dX6_told_65 rfl ?_
    exact z_lret dX6_told_93 rfl k
  · have k := zif h_ k
    refine z_aload_n dX6_told_56 rfl rfl ?_
    refine Z.pick [] rfl ?_
    exact z_callV (as := []) (st := []) dX6_told_57 vsX6_60_4 (Nat.le_refl _) (Nat.le_of_ble_eq_true rfl) (Nat.le_of_ble_eq_true rfl) rfl k
theorem sX6_told_60 {E : zE} {d : Nat} {Q : zO → zM → Prop} (M : zM) (s0 : Int32) (k : Q (.inl (some (vl (s0).toInt64))) M) : Z E YX6_told (d + 1) M [] 60 [vi s0] Q := by
  refine z_i2l dX6_told_60 ?_
  refine z_goto (tgt := 93) dX6_told_61 rfl ?_
  exact z_lret dX6_told_93 rfl k
/-! ScriptTypes$Bag.has(I)Z -/
theorem bX6_has_0 : zdec cX6_has 0 [(0, .aload_n 0, 1), (1, .getfield 18, 3), (4, .iload_n 1, 1), (5, .i2l, 1), (6, .land, 1), (7, .lconst 0, 1), (8, .lcmp, 1), (9, .ifCond .eq 7, 3), (12, .iconst 1, 1), (13, .goto 4, 3), (16, .iconst 0, 1), (17, .ireturn, 1)] = true := by decide +kernel
theorem dX6_has_0 : decode cX6_has 0 = .ok (.aload_n 0, 1) := zdec_at bX6_has_0 0 rfl
theorem dX6_has_1 : decode cX6_has 1 = .ok (.getfield 18, 3) := zdec_at bX6_has_0 1 rfl
theorem dX6_has_4 : decode cX6_has 4 = .ok (.iload_n 1, 1) := zdec_at bX6_has_0 2 rfl
theorem dX6_has_5 : decode cX6_has 5 = .ok (.i2l, 1) := zdec_at bX6_has_0 3 rfl
theorem dX6_has_6 : decode cX6_has 6 = .ok (.land, 1) := zdec_at bX6_has_0 4 rfl
theorem dX6_has_7 : decode cX6_has 7 = .ok (.lconst 0, 1) := zdec_at bX6_has_0 5 rfl
theorem dX6_has_8 : decode cX6_has 8 = .ok (.lcmp, 1) := zdec_at bX6_has_0 6 rfl
theorem dX6_has_9 : decode cX6_has 9 = .ok (.ifCond .eq 7, 3) := zdec_at bX6_has_0 7 rfl
theorem dX6_has_12 : decode cX6_has 12 = .ok (.iconst 1, 1) := zdec_at bX6_has_0 8 rfl
theorem dX6_has_13 : decode cX6_has 13 = .ok (.goto 4, 3) := zdec_at bX6_has_0 9 rfl
theorem dX6_has_16 : decode cX6_has 16 = .ok (.iconst 0, 1) := zdec_at bX6_has_0 10 rfl
theorem dX6_has_17 : decode cX6_has 17 = .ok (.ireturn, 1) := zdec_at bX6_has_0 11 rfl
theorem sX6_has_0 {E : zE} {d : Nat} {Q : zO → zM → Prop} (M : zM) (a0 : Nat) (l1 : Int32) (k : if (lg_cmp ((gl M a0 2) &&& (l1).toInt64) (0 : Int64)) = 0 then (Q (.inl (some (vi (0 : Int32)))) M) else (Q (.inl (some (vi (1 : Int32)))) M)) : Z E YX6_has d M [(0, vr (some (a0, 4, 0))), (1, vi l1)] 0 [] Q := by
  refine z_aload_n dX6_has_0 rfl rfl ?_
  refine z_getl dX6_has_1 fsX6_18_4 ?_
  refine z_iload_n dX6_has_4 rfl rfl ?_
  refine z_i2l dX6_has_5 ?_
  refine z_land dX6_has_6 ?_
  refine z_lconst (v := 0) dX6_has_7 rfl ?_
  refine z_lcmp dX6_has_8 ?_
  refine z_if_eq (tgt := 16) dX6_has_9 rfl (fun h_ => ?_) (fun h_ => ?_)
  · have k := zit h_ k
    refine z_iconst (v := 0) dX6_has_16 rfl ?_
    exact z_iret dX6_has_17 rfl (by decide) k
  · have k := zif h_ k
    refine z_iconst (v := 1) dX6_has_12 rfl ?_
    refine z_goto (tgt := 17) dX6_has_13 rfl ?_
    exact z_iret dX6_has_17 rfl (by decide) k
/-! ScriptTypes$Bag.number()I -/
theorem bX6_number_0 : zdec cX6_number 0 [(0, .aload_n 0, 1), (1, .getfield 18, 3), (4, .bipush 32, 2), (6, .lshr, 1), (7, .l2i, 1), (8, .ireturn, 1)] = true := by decide +kernel
theorem dX6_number_0 : decode cX6_number 0 = .ok (.aload_n 0, 1) := zdec_at bX6_number_0 0 rfl
theorem dX6_number_1 : decode cX6_number 1 = .ok (.getfield 18, 3) := zdec_at bX6_number_0 1 rfl
theorem dX6_number_4 : decode cX6_number 4 = .ok (.bipush 32, 2) := zdec_at bX6_number_0 2 rfl
theorem dX6_number_6 : decode cX6_number 6 = .ok (.lshr, 1) := zdec_at bX6_number_0 3 rfl
theorem dX6_number_7 : decode cX6_number 7 = .ok (.l2i, 1) := zdec_at bX6_number_0 4 rfl
theorem dX6_number_8 : decode cX6_number 8 = .ok (.ireturn, 1) := zdec_at bX6_number_0 5 rfl
theorem sX6_number_0 {E : zE} {d : Nat} {Q : zO → zM → Prop} (M : zM) (a0 : Nat) (k : ∀ x1_ : Int64, x1_ = (zlr (gl M a0 2) (32 : Int32)) → (Q (.inl (some (vi (x1_).toInt32))) M)) : Z E YX6_number d M [(0, vr (some (a0, 4, 0)))] 0 [] Q := by
  refine z_aload_n dX6_number_0 rfl rfl ?_
  refine z_getl dX6_number_1 fsX6_18_4 ?_
  refine z_bipush (v := 32) dX6_number_4 rfl ?_
  refine z_lshr dX6_number_6 ?_
  generalize hx1_ : zlr (gl M a0 2) (32 : Int32) = x1_
  have k := k x1_ hx1_.symm
  refine z_l2i dX6_number_7 ?_
  exact z_iret dX6_number_8 rfl rfl k
/-! ScriptTypes$Bag.name()I -/
theorem bX6_name_0 : zdec cX6_name 0 [(0, .aload_n 0, 1), (1, .getfield 18, 3), (4, .bipush 16, 2), (6, .lshr, 1), (7, .ldc2_w 45, 3), (10, .land, 1), (11, .l2i, 1), (12, .ireturn, 1)] = true := by decide +kernel
theorem dX6_name_0 : decode cX6_name 0 = .ok (.aload_n 0, 1) := zdec_at bX6_name_0 0 rfl
theorem dX6_name_1 : decode cX6_name 1 = .ok (.getfield 18, 3) := zdec_at bX6_name_0 1 rfl
theorem dX6_name_4 : decode cX6_name 4 = .ok (.bipush 16, 2) := zdec_at bX6_name_0 2 rfl
theorem dX6_name_6 : decode cX6_name 6 = .ok (.lshr, 1) := zdec_at bX6_name_0 3 rfl
theorem dX6_name_7 : decode cX6_name 7 = .ok (.ldc2_w 45, 3) := zdec_at bX6_name_0 4 rfl
theorem dX6_name_10 : decode cX6_name 10 = .ok (.land, 1) := zdec_at bX6_name_0 5 rfl
theorem dX6_name_11 : decode cX6_name 11 = .ok (.l2i, 1) := zdec_at bX6_name_0 6 rfl
theorem dX6_name_12 : decode cX6_name 12 = .ok (.ireturn, 1) := zdec_at bX6_name_0 7 rfl
theorem sX6_name_0 {E : zE} {d : Nat} {Q : zO → zM → Prop} (M : zM) (a0 : Nat) (k : Q (.inl (some (vi (((zlr (gl M a0 2) (16 : Int32)) &&& (65535 : Int64))).toInt32))) M) : Z E YX6_name d M [(0, vr (some (a0, 4, 0)))] 0 [] Q := by
  refine z_aload_n dX6_name_0 rfl rfl ?_
  refine z_getl dX6_name_1 fsX6_18_4 ?_
  refine z_bipush (v := 16) dX6_name_4 rfl ?_
  refine z_lshr dX6_name_6 ?_
  refine z_ldc2 (v := 65535) dX6_name_7 q2591 ?_
  refine z_land dX6_name_10 ?_
  refine z_l2i dX6_name_11 ?_
  exact z_iret dX6_name_12 rfl rfl k
/-! ScriptTypes$Bag.isEmpty()Z -/
theorem bX6_isEmpty_0 : zdec cX6_isEmpty 0 [(0, .aload_n 0, 1), (1, .getfield 9, 3), (4, .lconst 0, 1), (5, .lcmp, 1), (6, .ifCond .ne 29, 3), (9, .aload_n 0, 1), (10, .getfield 15, 3), (13, .lconst 0, 1), (14, .lcmp, 1), (15, .ifCond .ne 20, 3), (18, .aload_n 0, 1), (19, .getfield 18, 3), (22, .ldc2_w 29, 3), (25, .land, 1), (26, .lconst 0, 1), (27, .lcmp, 1)] = true := by decide +kernel
theorem dX6_isEmpty_0 : decode cX6_isEmpty 0 = .ok (.aload_n 0, 1) := zdec_at bX6_isEmpty_0 0 rfl
theorem dX6_isEmpty_1 : decode cX6_isEmpty 1 = .ok (.getfield 9, 3) := zdec_at bX6_isEmpty_0 1 rfl
theorem dX6_isEmpty_4 : decode cX6_isEmpty 4 = .ok (.lconst 0, 1) := zdec_at bX6_isEmpty_0 2 rfl
theorem dX6_isEmpty_5 : decode cX6_isEmpty 5 = .ok (.lcmp, 1) := zdec_at bX6_isEmpty_0 3 rfl
theorem dX6_isEmpty_6 : decode cX6_isEmpty 6 = .ok (.ifCond .ne 29, 3) := zdec_at bX6_isEmpty_0 4 rfl
theorem dX6_isEmpty_9 : decode cX6_isEmpty 9 = .ok (.aload_n 0, 1) := zdec_at bX6_isEmpty_0 5 rfl
theorem dX6_isEmpty_10 : decode cX6_isEmpty 10 = .ok (.getfield 15, 3) := zdec_at bX6_isEmpty_0 6 rfl
theorem dX6_isEmpty_13 : decode cX6_isEmpty 13 = .ok (.lconst 0, 1) := zdec_at bX6_isEmpty_0 7 rfl
theorem dX6_isEmpty_14 : decode cX6_isEmpty 14 = .ok (.lcmp, 1) := zdec_at bX6_isEmpty_0 8 rfl
theorem dX6_isEmpty_15 : decode cX6_isEmpty 15 = .ok (.ifCond .ne 20, 3) := zdec_at bX6_isEmpty_0 9 rfl
theorem dX6_isEmpty_18 : decode cX6_isEmpty 18 = .ok (.aload_n 0, 1) := zdec_at bX6_isEmpty_0 10 rfl
theorem dX6_isEmpty_19 : decode cX6_isEmpty 19 = .ok (.getfield 18, 3) := zdec_at bX6_isEmpty_0 11 rfl
theorem dX6_isEmpty_22 : decode cX6_isEmpty 22 = .ok (.ldc2_w 29, 3) := zdec_at bX6_isEmpty_0 12 rfl
theorem dX6_isEmpty_25 : decode cX6_isEmpty 25 = .ok (.land, 1) := zdec_at bX6_isEmpty_0 13 rfl
theorem dX6_isEmpty_26 : decode cX6_isEmpty 26 = .ok (.lconst 0, 1) := zdec_at bX6_isEmpty_0 14 rfl
theorem dX6_isEmpty_27 : decode cX6_isEmpty 27 = .ok (.lcmp, 1) := zdec_at bX6_isEmpty_0 15 rfl
theorem bX6_isEmpty_28 : zdec cX6_isEmpty 28 [(28, .ifCond .ne 7, 3), (31, .iconst 1, 1), (32, .goto 4, 3), (35, .iconst 0, 1), (36, .ireturn, 1)] = true := by decide +kernel
theorem dX6_isEmpty_28 : decode cX6_isEmpty 28 = .ok (.ifCond .ne 7, 3) := zdec_at bX6_isEmpty_28 0 rfl
theorem dX6_isEmpty_31 : decode cX6_isEmpty 31 = .ok (.iconst 1, 1) := zdec_at bX6_isEmpty_28 1 rfl
theorem dX6_isEmpty_32 : decode cX6_isEmpty 32 = .ok (.goto 4, 3) := zdec_at bX6_isEmpty_28 2 rfl
theorem dX6_isEmpty_35 : decode cX6_isEmpty 35 = .ok (.iconst 0, 1) := zdec_at bX6_isEmpty_28 3 rfl
theorem dX6_isEmpty_36 : decode cX6_isEmpty 36 = .ok (.ireturn, 1) := zdec_at bX6_isEmpty_28 4 rfl
theorem sX6_isEmpty_0 {E : zE} {d : Nat} {Q : zO → zM → Prop} (M : zM) (a0 : Nat) (k : if (lg_cmp (gl M a0 0) (0 : Int64)) = 0 then (if (lg_cmp (gl M a0 1) (0 : Int64)) = 0 then (if (lg_cmp ((gl M a0 2) &&& (511 : Int64)) (0 : Int64)) = 0 then (Q (.inl (some (vi (1 : Int32)))) M) else (Q (.inl (some (vi (0 : Int32)))) M)) else (Q (.inl (some (vi (0 : Int32)))) M)) else (Q (.inl (some (vi (0 : Int32)))) M)) : Z E YX6_isEmpty d M [(0, vr (some (a0, 4, 0)))] 0 [] Q := by
  refine z_aload_n dX6_isEmpty_0 rfl rfl ?_
  refine z_getl dX6_isEmpty_1 fsX6_9_4 ?_
  refine z_lconst (v := 0) dX6_isEmpty_4 rfl ?_
  refine z_lcmp dX6_isEmpty_5 ?_
  refine z_if_ne (tgt := 35) dX6_isEmpty_6 rfl (fun h_ => ?_) (fun h_ => ?_)
  · have k := zif h_ k
    refine z_iconst (v := 0) dX6_isEmpty_35 rfl ?_
    exact z_iret dX6_isEmpty_36 rfl (by decide) k
  · have k := zit h_ k
    refine z_aload_n dX6_isEmpty_9 rfl rfl ?_
    refine z_getl dX6_isEmpty_10 fsX6_15_4 ?_
    refine z_lconst (v := 0) dX6_isEmpty_13 rfl ?_
    refine z_lcmp dX6_isEmpty_14 ?_
    refine z_if_ne (tgt := 35) dX6_isEmpty_15 rfl (fun h_ => ?_) (fun h_ => ?_)
    · have k := zif h_ k
      refine z_iconst (v := 0) dX6_isEmpty_35 rfl ?_
      exact z_iret dX6_isEmpty_36 rfl (by decide) k
    · have k := zit h_ k
      refine z_aload_n dX6_isEmpty_18 rfl rfl ?_
      refine z_getl dX6_isEmpty_19 fsX6_18_4 ?_
      refine z_ldc2 (v := 511) dX6_isEmpty_22 q3168 ?_
      refine z_land dX6_isEmpty_25 ?_
      refine z_lconst (v := 0) dX6_isEmpty_26 rfl ?_
      refine z_lcmp dX6_isEmpty_27 ?_
      refine z_if_ne (tgt := 35) dX6_isEmpty_28 rfl (fun h_ => ?_) (fun h_ => ?_)
      · have k := zif h_ k
        refine z_iconst (v := 0) dX6_isEmpty_35 rfl ?_
        exact z_iret dX6_isEmpty_36 rfl (by decide) k
      · have k := zit h_ k
        refine z_iconst (v := 1) dX6_isEmpty_31 rfl ?_
        refine z_goto (tgt := 36) dX6_isEmpty_32 rfl ?_
        exact z_iret dX6_isEmpty_36 rfl (by decide) k
/-! ScriptTypes$Bag.empty()LScriptTypes$Bag; -/
theorem bX6_empty_0 : zdec cX6_empty 0 [(0, .aload_n 0, 1), (1, .lconst 0, 1), (2, .putfield 9, 3), (5, .aload_n 0, 1), (6, .lconst 0, 1), (7, .putfield 15, 3), (10, .aload_n 0, 1), (11, .lconst 0, 1), (12, .putfield 18, 3), (15, .aload_n 0, 1), (16, .areturn, 1)] = true := by decide +kernel
theorem dX6_empty_0 : decode cX6_empty 0 = .ok (.aload_n 0, 1) := zdec_at bX6_empty_0 0 rfl
theorem dX6_empty_1 : decode cX6_empty 1 = .ok (.lconst 0, 1) := zdec_at bX6_empty_0 1 rfl
theorem dX6_empty_2 : decode cX6_empty 2 = .ok (.putfield 9, 3) := zdec_at bX6_empty_0 2 rfl
theorem dX6_empty_5 : decode cX6_empty 5 = .ok (.aload_n 0, 1) := zdec_at bX6_empty_0 3 rfl
theorem dX6_empty_6 : decode cX6_empty 6 = .ok (.lconst 0, 1) := zdec_at bX6_empty_0 4 rfl
theorem dX6_empty_7 : decode cX6_empty 7 = .ok (.putfield 15, 3) := zdec_at bX6_empty_0 5 rfl
theorem dX6_empty_10 : decode cX6_empty 10 = .ok (.aload_n 0, 1) := zdec_at bX6_empty_0 6 rfl
theorem dX6_empty_11 : decode cX6_empty 11 = .ok (.lconst 0, 1) := zdec_at bX6_empty_0 7 rfl
theorem dX6_empty_12 : decode cX6_empty 12 = .ok (.putfield 18, 3) := zdec_at bX6_empty_0 8 rfl
theorem dX6_empty_15 : decode cX6_empty 15 = .ok (.aload_n 0, 1) := zdec_at bX6_empty_0 9 rfl
theorem dX6_empty_16 : decode cX6_empty 16 = .ok (.areturn, 1) := zdec_at bX6_empty_0 10 rfl
theorem sX6_empty_0 {E : zE} {d : Nat} {Q : zO → zM → Prop} (M : zM) (a0 : Nat) (k : 16 ≤ a0 ∧ (16 ≤ a0 ∧ (16 ≤ a0 ∧ (Q (.inl (some (vr (some (a0, 4, 0))))) (sl (sl (sl M a0 0 (0 : Int64)) a0 1 (0 : Int64)) a0 2 (0 : Int64)))))) : Z E YX6_empty d M [(0, vr (some (a0, 4, 0)))] 0 [] Q := by
  refine z_aload_n dX6_empty_0 rfl rfl ?_
  refine z_lconst (v := 0) dX6_empty_1 rfl ?_
  obtain ⟨g_, k⟩ := k
  refine z_putl g_ dX6_empty_2 (zfwN.w fwX6_9_4) ?_
  refine z_aload_n dX6_empty_5 rfl rfl ?_
  refine z_lconst (v := 0) dX6_empty_6 rfl ?_
  obtain ⟨g_, k⟩ := k
  refine z_putl g_ dX6_empty_7 (zfwN.w fwX6_15_4) ?_
  refine z_aload_n dX6_empty_10 rfl rfl ?_
  refine z_lconst (v := 0) dX6_empty_11 rfl ?_
  obtain ⟨g_, k⟩ := k
  refine z_putl g_ dX6_empty_12 (zfwN.w fwX6_18_4) ?_
  refine z_aload_n dX6_empty_15 rfl rfl ?_
  exact z_aret dX6_empty_16 rfl rfl k
/-! ScriptTypes$Bag.meets(JJ)Z -/
theorem bX6_meets_0 : zdec cX6_meets 0 [(0, .aload_n 0, 1), (1, .getfield 9, 3), (4, .lload_n 1, 1), (5, .land, 1), (6, .lconst 0, 1), (7, .lcmp, 1), (8, .ifCond .ne 14, 3), (11, .aload_n 0, 1), (12, .getfield 15, 3), (15, .lload_n 3, 1), (16, .land, 1), (17, .lconst 0, 1), (18, .lcmp, 1), (19, .ifCond .eq 7, 3), (22, .iconst 1, 1), (23, .goto 4, 3)] = true := by decide +kernel
theorem dX6_meets_0 : decode cX6_meets 0 = .ok (.aload_n 0, 1) := zdec_at bX6_meets_0 0 rfl
theorem dX6_meets_1 : decode cX6_meets 1 = .ok (.getfield 9, 3) := zdec_at bX6_meets_0 1 rfl
theorem dX6_meets_4 : decode cX6_meets 4 = .ok (.lload_n 1, 1) := zdec_at bX6_meets_0 2 rfl
theorem dX6_meets_5 : decode cX6_meets 5 = .ok (.land, 1) := zdec_at bX6_meets_0 3 rfl
theorem dX6_meets_6 : decode cX6_meets 6 = .ok (.lconst 0, 1) := zdec_at bX6_meets_0 4 rfl
theorem dX6_meets_7 : decode cX6_meets 7 = .ok (.lcmp, 1) := zdec_at bX6_meets_0 5 rfl
theorem dX6_meets_8 : decode cX6_meets 8 = .ok (.ifCond .ne 14, 3) := zdec_at bX6_meets_0 6 rfl
theorem dX6_meets_11 : decode cX6_meets 11 = .ok (.aload_n 0, 1) := zdec_at bX6_meets_0 7 rfl
theorem dX6_meets_12 : decode cX6_meets 12 = .ok (.getfield 15, 3) := zdec_at bX6_meets_0 8 rfl
theorem dX6_meets_15 : decode cX6_meets 15 = .ok (.lload_n 3, 1) := zdec_at bX6_meets_0 9 rfl
theorem dX6_meets_16 : decode cX6_meets 16 = .ok (.land, 1) := zdec_at bX6_meets_0 10 rfl
theorem dX6_meets_17 : decode cX6_meets 17 = .ok (.lconst 0, 1) := zdec_at bX6_meets_0 11 rfl
theorem dX6_meets_18 : decode cX6_meets 18 = .ok (.lcmp, 1) := zdec_at bX6_meets_0 12 rfl
theorem dX6_meets_19 : decode cX6_meets 19 = .ok (.ifCond .eq 7, 3) := zdec_at bX6_meets_0 13 rfl
theorem dX6_meets_22 : decode cX6_meets 22 = .ok (.iconst 1, 1) := zdec_at bX6_meets_0 14 rfl
theorem dX6_meets_23 : decode cX6_meets 23 = .ok (.goto 4, 3) := zdec_at bX6_meets_0 15 rfl
theorem bX6_meets_26 : zdec cX6_meets 26 [(26, .iconst 0, 1), (27, .ireturn, 1)] = true := by decide +kernel
theorem dX6_meets_26 : decode cX6_meets 26 = .ok (.iconst 0, 1) := zdec_at bX6_meets_26 0 rfl
theorem dX6_meets_27 : decode cX6_meets 27 = .ok (.ireturn, 1) := zdec_at bX6_meets_26 1 rfl
theorem sX6_meets_0 {E : zE} {d : Nat} {Q : zO → zM → Prop} (M : zM) (a0 : Nat) (l1 : Int64) (l3 : Int64) (k : if (lg_cmp ((gl M a0 0) &&& l1) (0 : Int64)) = 0 then (if (lg_cmp ((gl M a0 1) &&& l3) (0 : Int64)) = 0 then (Q (.inl (some (vi (0 : Int32)))) M) else (Q (.inl (some (vi (1 : Int32)))) M)) else (Q (.inl (some (vi (1 : Int32)))) M)) : Z E YX6_meets d M [(0, vr (some (a0, 4, 0))), (1, vl l1), (3, vl l3)] 0 [] Q := by
  refine z_aload_n dX6_meets_0 rfl rfl ?_
  refine z_getl dX6_meets_1 fsX6_9_4 ?_
  refine z_lload_n dX6_meets_4 rfl rfl ?_
  refine z_land dX6_meets_5 ?_
  refine z_lconst (v := 0) dX6_meets_6 rfl ?_
  refine z_lcmp dX6_meets_7 ?_
  refine z_if_ne (tgt := 22) dX6_meets_8 rfl (fun h_ => ?_) (fun h_ => ?_)
  · have k := zif h_ k
    refine z_iconst (v := 1) dX6_meets_22 rfl ?_
    refine z_goto (tgt := 27) dX6_meets_23 rfl ?_
    exact z_iret dX6_meets_27 rfl (by decide) k
  · have k := zit h_ k
    refine z_aload_n dX6_meets_11 rfl rfl ?_
    refine z_getl dX6_meets_12 fsX6_15_4 ?_
    refine z_lload_n dX6_meets_15 rfl rfl ?_
    refine z_land dX6_meets_16 ?_
    refine z_lconst (v := 0) dX6_meets_17 rfl ?_
    refine z_lcmp dX6_meets_18 ?_
    refine z_if_eq (tgt := 26) dX6_meets_19 rfl (fun h_ => ?_) (fun h_ => ?_)
    · have k := zit h_ k
      refine z_iconst (v := 0) dX6_meets_26 rfl ?_
      exact z_iret dX6_meets_27 rfl (by decide) k
    · have k := zif h_ k
      refine z_iconst (v := 1) dX6_meets_22 rfl ?_
      refine z_goto (tgt := 27) dX6_meets_23 rfl ?_
      exact z_iret dX6_meets_27 rfl (by decide) k
/-! ScriptTypes$Bag.add(I)LScriptTypes$Bag; -/
theorem bX6_add_0 : zdec cX6_add 0 [(0, .iload_n 1, 1), (1, .bipush 64, 2), (3, .if_icmp .ge 18, 3), (6, .aload_n 0, 1), (7, .dup, 1), (8, .getfield 9, 3), (11, .lconst 1, 1), (12, .iload_n 1, 1), (13, .lshl, 1), (14, .lor, 1), (15, .putfield 9, 3), (18, .goto 18, 3), (21, .aload_n 0, 1), (22, .dup, 1), (23, .getfield 15, 3), (26, .lconst 1, 1)] = true := by decide +kernel
theorem dX6_add_0 : decode cX6_add 0 = .ok (.iload_n 1, 1) := zdec_at bX6_add_0 0 rfl
theorem dX6_add_1 : decode cX6_add 1 = .ok (.bipush 64, 2) := zdec_at bX6_add_0 1 rfl
theorem dX6_add_3 : decode cX6_add 3 = .ok (.if_icmp .ge 18, 3) := zdec_at bX6_add_0 2 rfl
theorem dX6_add_6 : decode cX6_add 6 = .ok (.aload_n 0, 1) := zdec_at bX6_add_0 3 rfl
theorem dX6_add_7 : decode cX6_add 7 = .ok (.dup, 1) := zdec_at bX6_add_0 4 rfl
theorem dX6_add_8 : decode cX6_add 8 = .ok (.getfield 9, 3) := zdec_at bX6_add_0 5 rfl
theorem dX6_add_11 : decode cX6_add 11 = .ok (.lconst 1, 1) := zdec_at bX6_add_0 6 rfl
theorem dX6_add_12 : decode cX6_add 12 = .ok (.iload_n 1, 1) := zdec_at bX6_add_0 7 rfl
theorem dX6_add_13 : decode cX6_add 13 = .ok (.lshl, 1) := zdec_at bX6_add_0 8 rfl
theorem dX6_add_14 : decode cX6_add 14 = .ok (.lor, 1) := zdec_at bX6_add_0 9 rfl
theorem dX6_add_15 : decode cX6_add 15 = .ok (.putfield 9, 3) := zdec_at bX6_add_0 10 rfl
theorem dX6_add_18 : decode cX6_add 18 = .ok (.goto 18, 3) := zdec_at bX6_add_0 11 rfl
theorem dX6_add_21 : decode cX6_add 21 = .ok (.aload_n 0, 1) := zdec_at bX6_add_0 12 rfl
theorem dX6_add_22 : decode cX6_add 22 = .ok (.dup, 1) := zdec_at bX6_add_0 13 rfl
theorem dX6_add_23 : decode cX6_add 23 = .ok (.getfield 15, 3) := zdec_at bX6_add_0 14 rfl
theorem dX6_add_26 : decode cX6_add 26 = .ok (.lconst 1, 1) := zdec_at bX6_add_0 15 rfl
theorem bX6_add_27 : zdec cX6_add 27 [(27, .iload_n 1, 1), (28, .bipush 64, 2), (30, .isub, 1), (31, .lshl, 1), (32, .lor, 1), (33, .putfield 15, 3), (36, .aload_n 0, 1), (37, .areturn, 1)] = true := by decide +kernel
theorem dX6_add_27 : decode cX6_add 27 = .ok (.iload_n 1, 1) := zdec_at bX6_add_27 0 rfl
theorem dX6_add_28 : decode cX6_add 28 = .ok (.bipush 64, 2) := zdec_at bX6_add_27 1 rfl
theorem dX6_add_30 : decode cX6_add 30 = .ok (.isub, 1) := zdec_at bX6_add_27 2 rfl
theorem dX6_add_31 : decode cX6_add 31 = .ok (.lshl, 1) := zdec_at bX6_add_27 3 rfl
theorem dX6_add_32 : decode cX6_add 32 = .ok (.lor, 1) := zdec_at bX6_add_27 4 rfl
theorem dX6_add_33 : decode cX6_add 33 = .ok (.putfield 15, 3) := zdec_at bX6_add_27 5 rfl
theorem dX6_add_36 : decode cX6_add 36 = .ok (.aload_n 0, 1) := zdec_at bX6_add_27 6 rfl
theorem dX6_add_37 : decode cX6_add 37 = .ok (.areturn, 1) := zdec_at bX6_add_27 7 rfl
theorem sX6_add_0 {E : zE} {d : Nat} {Q : zO → zM → Prop} (M : zM) (a0 : Nat) (l1 : Int32) (k : if (64 : Int32) ≤ l1 then (16 ≤ a0 ∧ (Q (.inl (some (vr (some (a0, 4, 0))))) (sl M a0 1 ((gl M a0 1) ||| (zls (1 : Int64) (l1 - (64 : Int32))))))) else (16 ≤ a0 ∧ (Q (.inl (some (vr (some (a0, 4, 0))))) (sl M a0 0 ((gl M a0 0) ||| (zls (1 : Int64) l1)))))) : Z E YX6_add d M [(0, vr (some (a0, 4, 0))), (1, vi l1)] 0 [] Q := by
  refine z_iload_n dX6_add_0 rfl rfl ?_
  refine z_bipush (v := 64) dX6_add_1 rfl ?_
  refine z_icmp_ge (tgt := 21) dX6_add_3 rfl (fun h_ => ?_) (fun h_ => ?_)
  · have k := zit h_ k
    refine z_aload_n dX6_add_21 rfl rfl ?_
    refine z_dup dX6_add_22 rfl ?_
    refine z_getl dX6_add_23 fsX6_15_4 ?_
    refine z_lconst (v := 1) dX6_add_26 rfl ?_
    refine z_iload_n dX6_add_27 rfl rfl ?_
    refine z_bipush (v := 64) dX6_add_28 rfl ?_
    refine z_isub dX6_add_30 ?_
    refine z_lshl dX6_add_31 ?_
    refine z_lor dX6_add_32 ?_
    obtain ⟨g_, k⟩ := k
    refine z_putl g_ dX6_add_33 (zfwN.w fwX6_15_4) ?_
    refine z_aload_n dX6_add_36 rfl rfl ?_
    exact z_aret dX6_add_37 rfl rfl k
  · have k := zif h_ k
    refine z_aload_n dX6_add_6 rfl rfl ?_
    refine z_dup dX6_add_7 rfl ?_
    refine z_getl dX6_add_8 fsX6_9_4 ?_
    refine z_lconst (v := 1) dX6_add_11 rfl ?_
    refine z_iload_n dX6_add_12 rfl rfl ?_
    refine z_lshl dX6_add_13 ?_
    refine z_lor dX6_add_14 ?_
    obtain ⟨g_, k⟩ := k
    refine z_putl g_ dX6_add_15 (zfwN.w fwX6_9_4) ?_
    refine z_goto (tgt := 36) dX6_add_18 rfl ?_
    refine z_aload_n dX6_add_36 rfl rfl ?_
    exact z_aret dX6_add_37 rfl rfl k
/-! ScriptTypes$Bag.hasLabels()Z -/
theorem bX6_hasLabels_0 : zdec cX6_hasLabels 0 [(0, .aload_n 0, 1), (1, .getfield 9, 3), (4, .lconst 0, 1), (5, .lcmp, 1), (6, .ifCond .ne 12, 3), (9, .aload_n 0, 1), (10, .getfield 15, 3), (13, .lconst 0, 1), (14, .lcmp, 1), (15, .ifCond .eq 7, 3), (18, .iconst 1, 1), (19, .goto 4, 3), (22, .iconst 0, 1), (23, .ireturn, 1)] = true := by decide +kernel
theorem dX6_hasLabels_0 : decode cX6_hasLabels 0 = .ok (.aload_n 0, 1) := zdec_at bX6_hasLabels_0 0 rfl
theorem dX6_hasLabels_1 : decode cX6_hasLabels 1 = .ok (.getfield 9, 3) := zdec_at bX6_hasLabels_0 1 rfl
theorem dX6_hasLabels_4 : decode cX6_hasLabels 4 = .ok (.lconst 0, 1) := zdec_at bX6_hasLabels_0 2 rfl
theorem dX6_hasLabels_5 : decode cX6_hasLabels 5 = .ok (.lcmp, 1) := zdec_at bX6_hasLabels_0 3 rfl
theorem dX6_hasLabels_6 : decode cX6_hasLabels 6 = .ok (.ifCond .ne 12, 3) := zdec_at bX6_hasLabels_0 4 rfl
theorem dX6_hasLabels_9 : decode cX6_hasLabels 9 = .ok (.aload_n 0, 1) := zdec_at bX6_hasLabels_0 5 rfl
theorem dX6_hasLabels_10 : decode cX6_hasLabels 10 = .ok (.getfield 15, 3) := zdec_at bX6_hasLabels_0 6 rfl
theorem dX6_hasLabels_13 : decode cX6_hasLabels 13 = .ok (.lconst 0, 1) := zdec_at bX6_hasLabels_0 7 rfl
theorem dX6_hasLabels_14 : decode cX6_hasLabels 14 = .ok (.lcmp, 1) := zdec_at bX6_hasLabels_0 8 rfl
theorem dX6_hasLabels_15 : decode cX6_hasLabels 15 = .ok (.ifCond .eq 7, 3) := zdec_at bX6_hasLabels_0 9 rfl
theorem dX6_hasLabels_18 : decode cX6_hasLabels 18 = .ok (.iconst 1, 1) := zdec_at bX6_hasLabels_0 10 rfl
theorem dX6_hasLabels_19 : decode cX6_hasLabels 19 = .ok (.goto 4, 3) := zdec_at bX6_hasLabels_0 11 rfl
theorem dX6_hasLabels_22 : decode cX6_hasLabels 22 = .ok (.iconst 0, 1) := zdec_at bX6_hasLabels_0 12 rfl
theorem dX6_hasLabels_23 : decode cX6_hasLabels 23 = .ok (.ireturn, 1) := zdec_at bX6_hasLabels_0 13 rfl
theorem sX6_hasLabels_0 {E : zE} {d : Nat} {Q : zO → zM → Prop} (M : zM) (a0 : Nat) (k : if (lg_cmp (gl M a0 0) (0 : Int64)) = 0 then (if (lg_cmp (gl M a0 1) (0 : Int64)) = 0 then (Q (.inl (some (vi (0 : Int32)))) M) else (Q (.inl (some (vi (1 : Int32)))) M)) else (Q (.inl (some (vi (1 : Int32)))) M)) : Z E YX6_hasLabels d M [(0, vr (some (a0, 4, 0)))] 0 [] Q := by
  refine z_aload_n dX6_hasLabels_0 rfl rfl ?_
  refine z_getl dX6_hasLabels_1 fsX6_9_4 ?_
  refine z_lconst (v := 0) dX6_hasLabels_4 rfl ?_
  refine z_lcmp dX6_hasLabels_5 ?_
  refine z_if_ne (tgt := 18) dX6_hasLabels_6 rfl (fun h_ => ?_) (fun h_ => ?_)
  · have k := zif h_ k
    refine z_iconst (v := 1) dX6_hasLabels_18 rfl ?_
    refine z_goto (tgt := 23) dX6_hasLabels_19 rfl ?_
    exact z_iret dX6_hasLabels_23 rfl (by decide) k
  · have k := zit h_ k
    refine z_aload_n dX6_hasLabels_9 rfl rfl ?_
    refine z_getl dX6_hasLabels_10 fsX6_15_4 ?_
    refine z_lconst (v := 0) dX6_hasLabels_13 rfl ?_
    refine z_lcmp dX6_hasLabels_14 ?_
    refine z_if_eq (tgt := 22) dX6_hasLabels_15 rfl (fun h_ => ?_) (fun h_ => ?_)
    · have k := zit h_ k
      refine z_iconst (v := 0) dX6_hasLabels_22 rfl ?_
      exact z_iret dX6_hasLabels_23 rfl (by decide) k
    · have k := zif h_ k
      refine z_iconst (v := 1) dX6_hasLabels_18 rfl ?_
      refine z_goto (tgt := 23) dX6_hasLabels_19 rfl ?_
      exact z_iret dX6_hasLabels_23 rfl (by decide) k
/-! ScriptTypes$Bag.isAlone()Z -/
theorem bX6_isAlone_0 : zdec cX6_isAlone 0 [(0, .aload_n 0, 1), (1, .invokevirtual 33, 3), (4, .ifCond .ne 35, 3), (7, .aload_n 0, 1), (8, .getfield 18, 3), (11, .ldc2_w 29, 3), (14, .land, 1), (15, .invokestatic 37, 3), (18, .iconst 1, 1), (19, .if_icmp .ne 20, 3), (22, .aload_n 0, 1), (23, .getfield 18, 3), (26, .ldc2_w 43, 3), (29, .land, 1), (30, .lconst 0, 1), (31, .lcmp, 1)] = true := by decide +kernel
theorem dX6_isAlone_0 : decode cX6_isAlone 0 = .ok (.aload_n 0, 1) := zdec_at bX6_isAlone_0 0 rfl
theorem dX6_isAlone_1 : decode cX6_isAlone 1 = .ok (.invokevirtual 33, 3) := zdec_at bX6_isAlone_0 1 rfl
theorem dX6_isAlone_4 : decode cX6_isAlone 4 = .ok (.ifCond .ne 35, 3) := zdec_at bX6_isAlone_0 2 rfl
theorem dX6_isAlone_7 : decode cX6_isAlone 7 = .ok (.aload_n 0, 1) := zdec_at bX6_isAlone_0 3 rfl
theorem dX6_isAlone_8 : decode cX6_isAlone 8 = .ok (.getfield 18, 3) := zdec_at bX6_isAlone_0 4 rfl
theorem dX6_isAlone_11 : decode cX6_isAlone 11 = .ok (.ldc2_w 29, 3) := zdec_at bX6_isAlone_0 5 rfl
theorem dX6_isAlone_14 : decode cX6_isAlone 14 = .ok (.land, 1) := zdec_at bX6_isAlone_0 6 rfl
theorem dX6_isAlone_15 : decode cX6_isAlone 15 = .ok (.invokestatic 37, 3) := zdec_at bX6_isAlone_0 7 rfl
theorem dX6_isAlone_18 : decode cX6_isAlone 18 = .ok (.iconst 1, 1) := zdec_at bX6_isAlone_0 8 rfl
theorem dX6_isAlone_19 : decode cX6_isAlone 19 = .ok (.if_icmp .ne 20, 3) := zdec_at bX6_isAlone_0 9 rfl
theorem dX6_isAlone_22 : decode cX6_isAlone 22 = .ok (.aload_n 0, 1) := zdec_at bX6_isAlone_0 10 rfl
theorem dX6_isAlone_23 : decode cX6_isAlone 23 = .ok (.getfield 18, 3) := zdec_at bX6_isAlone_0 11 rfl
theorem dX6_isAlone_26 : decode cX6_isAlone 26 = .ok (.ldc2_w 43, 3) := zdec_at bX6_isAlone_0 12 rfl
theorem dX6_isAlone_29 : decode cX6_isAlone 29 = .ok (.land, 1) := zdec_at bX6_isAlone_0 13 rfl
theorem dX6_isAlone_30 : decode cX6_isAlone 30 = .ok (.lconst 0, 1) := zdec_at bX6_isAlone_0 14 rfl
theorem dX6_isAlone_31 : decode cX6_isAlone 31 = .ok (.lcmp, 1) := zdec_at bX6_isAlone_0 15 rfl
theorem bX6_isAlone_32 : zdec cX6_isAlone 32 [(32, .ifCond .ne 7, 3), (35, .iconst 1, 1), (36, .goto 4, 3), (39, .iconst 0, 1), (40, .ireturn, 1)] = true := by decide +kernel
theorem dX6_isAlone_32 : decode cX6_isAlone 32 = .ok (.ifCond .ne 7, 3) := zdec_at bX6_isAlone_32 0 rfl
theorem dX6_isAlone_35 : decode cX6_isAlone 35 = .ok (.iconst 1, 1) := zdec_at bX6_isAlone_32 1 rfl
theorem dX6_isAlone_36 : decode cX6_isAlone 36 = .ok (.goto 4, 3) := zdec_at bX6_isAlone_32 2 rfl
theorem dX6_isAlone_39 : decode cX6_isAlone 39 = .ok (.iconst 0, 1) := zdec_at bX6_isAlone_32 3 rfl
theorem dX6_isAlone_40 : decode cX6_isAlone 40 = .ok (.ireturn, 1) := zdec_at bX6_isAlone_32 4 rfl
theorem sX6_isAlone_0 {E : zE} {d : Nat} {Q : zO → zM → Prop} (M : zM) (a0 : Nat) (k : Z E YX6_hasLabels d M (zargs 0 [vr (some (a0, 4, 0))]) 0 [] (zafter E YX6_isAlone (d + 1) [(0, vr (some (a0, 4, 0)))] 1 3 [] Q)) : Z E YX6_isAlone (d + 1) M [(0, vr (some (a0, 4, 0)))] 0 [] Q := by
  refine z_aload_n dX6_isAlone_0 rfl rfl ?_
  exact z_callV (as := []) (st := []) dX6_isAlone_1 vsX6_33_4 (Nat.le_refl _) (Nat.le_of_ble_eq_true rfl) (Nat.le_of_ble_eq_true rfl) rfl k
theorem sX6_isAlone_4 {E : zE} {d : Nat} {Q : zO → zM → Prop} (M : zM) (a0 : Nat) (s0 : Int32) (k : if s0 = 0 then (Z E YJ17_bitCount d M (zargs 0 [vl ((gl M a0 2) &&& (511 : Int64))]) 0 [] (zafter E YX6_isAlone (d + 1) [(0, vr (some (a0, 4, 0)))] 15 3 [] Q)) else (Q (.inl (some (vi (0 : Int32)))) M)) : Z E YX6_isAlone (d + 1) M [(0, vr (some (a0, 4, 0)))] 4 [vi s0] Q := by
  refine z_if_ne (tgt := 39) dX6_isAlone_4 rfl (fun h_ => ?_) (fun h_ => ?_)
  · have k := zif h_ k
    refine z_iconst (v := 0) dX6_isAlone_39 rfl ?_
    exact z_iret dX6_isAlone_40 rfl (by decide) k
  · have k := zit h_ k
    refine z_aload_n dX6_isAlone_7 rfl rfl ?_
    refine z_getl dX6_isAlone_8 fsX6_18_4 ?_
    refine z_ldc2 (v := 511) dX6_isAlone_11 q3168 ?_
    refine z_land dX6_isAlone_14 ?_
    exact z_callS (as := [vl ((gl M a0 2) &&& (511 : Int64))]) (st := []) dX6_isAlone_15 ssX6_37 (Nat.le_refl _) (Nat.le_of_ble_eq_true rfl) (Nat.le_of_ble_eq_true rfl) rfl k
theorem sX6_isAlone_18 {E : zE} {d : Nat} {Q : zO → zM → Prop} (M : zM) (a0 : Nat) (s0 : Int32) (k : if s0 = (1 : Int32) then (if (lg_cmp ((gl M a0 2) &&& (320 : Int64)) (0 : Int64)) = 0 then (Q (.inl (some (vi (1 : Int32)))) M) else (Q (.inl (some (vi (0 : Int32)))) M)) else (Q (.inl (some (vi (0 : Int32)))) M)) : Z E YX6_isAlone (d + 1) M [(0, vr (some (a0, 4, 0)))] 18 [vi s0] Q := by
  refine z_iconst (v := 1) dX6_isAlone_18 rfl ?_
  refine z_icmp_ne (tgt := 39) dX6_isAlone_19 rfl (fun h_ => ?_) (fun h_ => ?_)
  · have k := zif h_ k
    refine z_iconst (v := 0) dX6_isAlone_39 rfl ?_
    exact z_iret dX6_isAlone_40 rfl (by decide) k
  · have k := zit h_ k
    refine z_aload_n dX6_isAlone_22 rfl rfl ?_
    refine z_getl dX6_isAlone_23 fsX6_18_4 ?_
    refine z_ldc2 (v := 320) dX6_isAlone_26 q3339 ?_
    refine z_land dX6_isAlone_29 ?_
    refine z_lconst (v := 0) dX6_isAlone_30 rfl ?_
    refine z_lcmp dX6_isAlone_31 ?_
    refine z_if_ne (tgt := 39) dX6_isAlone_32 rfl (fun h_ => ?_) (fun h_ => ?_)
    · have k := zif h_ k
      refine z_iconst (v := 0) dX6_isAlone_39 rfl ?_
      exact z_iret dX6_isAlone_40 rfl (by decide) k
    · have k := zit h_ k
      refine z_iconst (v := 1) dX6_isAlone_35 rfl ?_
      refine z_goto (tgt := 40) dX6_isAlone_36 rfl ?_
      exact z_iret dX6_isAlone_40 rfl (by decide) k
/-! ScriptTypes$Bag.hasOnly(JJ)Z -/
theorem bX6_hasOnly_0 : zdec cX6_hasOnly 0 [(0, .aload_n 0, 1), (1, .getfield 18, 3), (4, .ldc2_w 29, 3), (7, .land, 1), (8, .lconst 0, 1), (9, .lcmp, 1), (10, .ifCond .ne 37, 3), (13, .aload_n 0, 1), (14, .getfield 9, 3), (17, .lload_n 1, 1), (18, .ldc2_w 31, 3), (21, .lxor, 1), (22, .land, 1), (23, .lconst 0, 1), (24, .lcmp, 1), (25, .ifCond .ne 22, 3)] = true := by decide +kernel
theorem dX6_hasOnly_0 : decode cX6_hasOnly 0 = .ok (.aload_n 0, 1) := zdec_at bX6_hasOnly_0 0 rfl
theorem dX6_hasOnly_1 : decode cX6_hasOnly 1 = .ok (.getfield 18, 3) := zdec_at bX6_hasOnly_0 1 rfl
theorem dX6_hasOnly_4 : decode cX6_hasOnly 4 = .ok (.ldc2_w 29, 3) := zdec_at bX6_hasOnly_0 2 rfl
theorem dX6_hasOnly_7 : decode cX6_hasOnly 7 = .ok (.land, 1) := zdec_at bX6_hasOnly_0 3 rfl
theorem dX6_hasOnly_8 : decode cX6_hasOnly 8 = .ok (.lconst 0, 1) := zdec_at bX6_hasOnly_0 4 rfl
theorem dX6_hasOnly_9 : decode cX6_hasOnly 9 = .ok (.lcmp, 1) := zdec_at bX6_hasOnly_0 5 rfl
theorem dX6_hasOnly_10 : decode cX6_hasOnly 10 = .ok (.ifCond .ne 37, 3) := zdec_at bX6_hasOnly_0 6 rfl
theorem dX6_hasOnly_13 : decode cX6_hasOnly 13 = .ok (.aload_n 0, 1) := zdec_at bX6_hasOnly_0 7 rfl
theorem dX6_hasOnly_14 : decode cX6_hasOnly 14 = .ok (.getfield 9, 3) := zdec_at bX6_hasOnly_0 8 rfl
theorem dX6_hasOnly_17 : decode cX6_hasOnly 17 = .ok (.lload_n 1, 1) := zdec_at bX6_hasOnly_0 9 rfl
theorem dX6_hasOnly_18 : decode cX6_hasOnly 18 = .ok (.ldc2_w 31, 3) := zdec_at bX6_hasOnly_0 10 rfl
theorem dX6_hasOnly_21 : decode cX6_hasOnly 21 = .ok (.lxor, 1) := zdec_at bX6_hasOnly_0 11 rfl
theorem dX6_hasOnly_22 : decode cX6_hasOnly 22 = .ok (.land, 1) := zdec_at bX6_hasOnly_0 12 rfl
theorem dX6_hasOnly_23 : decode cX6_hasOnly 23 = .ok (.lconst 0, 1) := zdec_at bX6_hasOnly_0 13 rfl
theorem dX6_hasOnly_24 : decode cX6_hasOnly 24 = .ok (.lcmp, 1) := zdec_at bX6_hasOnly_0 14 rfl
theorem dX6_hasOnly_25 : decode cX6_hasOnly 25 = .ok (.ifCond .ne 22, 3) := zdec_at bX6_hasOnly_0 15 rfl
theorem bX6_hasOnly_28 : zdec cX6_hasOnly 28 [(28, .aload_n 0, 1), (29, .getfield 15, 3), (32, .lload_n 3, 1), (33, .ldc2_w 31, 3), (36, .lxor, 1), (37, .land, 1), (38, .lconst 0, 1), (39, .lcmp, 1), (40, .ifCond .ne 7, 3), (43, .iconst 1, 1), (44, .goto 4, 3), (47, .iconst 0, 1), (48, .ireturn, 1)] = true := by decide +kernel
theorem dX6_hasOnly_28 : decode cX6_hasOnly 28 = .ok (.aload_n 0, 1) := zdec_at bX6_hasOnly_28 0 rfl
theorem dX6_hasOnly_29 : decode cX6_hasOnly 29 = .ok (.getfield 15, 3) := zdec_at bX6_hasOnly_28 1 rfl
theorem dX6_hasOnly_32 : decode cX6_hasOnly 32 = .ok (.lload_n 3, 1) := zdec_at bX6_hasOnly_28 2 rfl
theorem dX6_hasOnly_33 : decode cX6_hasOnly 33 = .ok (.ldc2_w 31, 3) := zdec_at bX6_hasOnly_28 3 rfl
theorem dX6_hasOnly_36 : decode cX6_hasOnly 36 = .ok (.lxor, 1) := zdec_at bX6_hasOnly_28 4 rfl
theorem dX6_hasOnly_37 : decode cX6_hasOnly 37 = .ok (.land, 1) := zdec_at bX6_hasOnly_28 5 rfl
theorem dX6_hasOnly_38 : decode cX6_hasOnly 38 = .ok (.lconst 0, 1) := zdec_at bX6_hasOnly_28 6 rfl
theorem dX6_hasOnly_39 : decode cX6_hasOnly 39 = .ok (.lcmp, 1) := zdec_at bX6_hasOnly_28 7 rfl
theorem dX6_hasOnly_40 : decode cX6_hasOnly 40 = .ok (.ifCond .ne 7, 3) := zdec_at bX6_hasOnly_28 8 rfl
theorem dX6_hasOnly_43 : decode cX6_hasOnly 43 = .ok (.iconst 1, 1) := zdec_at bX6_hasOnly_28 9 rfl
theorem dX6_hasOnly_44 : decode cX6_hasOnly 44 = .ok (.goto 4, 3) := zdec_at bX6_hasOnly_28 10 rfl
theorem dX6_hasOnly_47 : decode cX6_hasOnly 47 = .ok (.iconst 0, 1) := zdec_at bX6_hasOnly_28 11 rfl
theorem dX6_hasOnly_48 : decode cX6_hasOnly 48 = .ok (.ireturn, 1) := zdec_at bX6_hasOnly_28 12 rfl
theorem sX6_hasOnly_0 {E : zE} {d : Nat} {Q : zO → zM → Prop} (M : zM) (a0 : Nat) (l1 : Int64) (l3 : Int64) (k : if (lg_cmp ((gl M a0 2) &&& (511 : Int64)) (0 : Int64)) = 0 then (if (lg_cmp ((gl M a0 0) &&& (l1 ^^^ (-1 : Int64))) (0 : Int64)) = 0 then (if (lg_cmp ((gl M a0 1) &&& (l3 ^^^ (-1 : Int64))) (0 : Int64)) = 0 then (Q (.inl (some (vi (1 : Int32)))) M) else (Q (.inl (some (vi (0 : Int32)))) M)) else (Q (.inl (some (vi (0 : Int32)))) M)) else (Q (.inl (some (vi (0 : Int32)))) M)) : Z E YX6_hasOnly d M [(0, vr (some (a0, 4, 0))), (1, vl l1), (3, vl l3)] 0 [] Q := by
  refine z_aload_n dX6_hasOnly_0 rfl rfl ?_
  refine z_getl dX6_hasOnly_1 fsX6_18_4 ?_
  refine z_ldc2 (v := 511) dX6_hasOnly_4 q3168 ?_
  refine z_land dX6_hasOnly_7 ?_
  refine z_lconst (v := 0) dX6_hasOnly_8 rfl ?_
  refine z_lcmp dX6_hasOnly_9 ?_
  refine z_if_ne (tgt := 47) dX6_hasOnly_10 rfl (fun h_ => ?_) (fun h_ => ?_)
  · have k := zif h_ k
    refine z_iconst (v := 0) dX6_hasOnly_47 rfl ?_
    exact z_iret dX6_hasOnly_48 rfl (by decide) k
  · have k := zit h_ k
    refine z_aload_n dX6_hasOnly_13 rfl rfl ?_
    refine z_getl dX6_hasOnly_14 fsX6_9_4 ?_
    refine z_lload_n dX6_hasOnly_17 rfl rfl ?_
    refine z_ldc2 (v := -1) dX6_hasOnly_18 q3364 ?_
    refine z_lxor dX6_hasOnly_21 ?_
    refine z_land dX6_hasOnly_22 ?_
    refine z_lconst (v := 0) dX6_hasOnly_23 rfl ?_
    refine z_lcmp dX6_hasOnly_24 ?_
    refine z_if_ne (tgt := 47) dX6_hasOnly_25 rfl (fun h_ => ?_) (fun h_ => ?_)
    · have k := zif h_ k
      refine z_iconst (v := 0) dX6_hasOnly_47 rfl ?_
      exact z_iret dX6_hasOnly_48 rfl (by decide) k
    · have k := zit h_ k
      refine z_aload_n dX6_hasOnly_28 rfl rfl ?_
      refine z_getl dX6_hasOnly_29 fsX6_15_4 ?_
      refine z_lload_n dX6_hasOnly_32 rfl rfl ?_
      refine z_ldc2 (v := -1) dX6_hasOnly_33 q3364 ?_
      refine z_lxor dX6_hasOnly_36 ?_
      refine z_land dX6_hasOnly_37 ?_
      refine z_lconst (v := 0) dX6_hasOnly_38 rfl ?_
      refine z_lcmp dX6_hasOnly_39 ?_
      refine z_if_ne (tgt := 47) dX6_hasOnly_40 rfl (fun h_ => ?_) (fun h_ => ?_)
      · have k := zif h_ k
        refine z_iconst (v := 0) dX6_hasOnly_47 rfl ?_
        exact z_iret dX6_hasOnly_48 rfl (by decide) k
      · have k := zit h_ k
        refine z_iconst (v := 1) dX6_hasOnly_43 rfl ?_
        refine z_goto (tgt := 48) dX6_hasOnly_44 rfl ?_
        exact z_iret dX6_hasOnly_48 rfl (by decide) k
/-! ScriptTypes$Bag.sort()I -/
theorem bX6_sort_0 : zdec cX6_sort 0 [(0, .aload_n 0, 1), (1, .bipush 32, 2), (3, .invokevirtual 47, 3), (6, .ifCond .eq 7, 3), (9, .iconst 5, 1), (10, .goto 29, 3), (13, .aload_n 0, 1), (14, .sipush 128, 3), (17, .invokevirtual 47, 3), (20, .ifCond .eq 8, 3), (23, .bipush 6, 2), (25, .goto 14, 3), (28, .aload_n 0, 1), (29, .getfield 18, 3), (32, .ldc2_w 51, 3), (35, .land, 1)] = true := by decide +kernel
theorem dX6_sort_0 : decode cX6_sort 0 = .ok (.aload_n 0, 1) := zdec_at bX6_sort_0 0 rfl
theorem dX6_sort_1 : decode cX6_sort 1 = .ok (.bipush 32, 2) := zdec_at bX6_sort_0 1 rfl
theorem dX6_sort_3 : decode cX6_sort 3 = .ok (.invokevirtual 47, 3) := zdec_at bX6_sort_0 2 rfl
theorem dX6_sort_6 : decode cX6_sort 6 = .ok (.ifCond .eq 7, 3) := zdec_at bX6_sort_0 3 rfl
theorem dX6_sort_9 : decode cX6_sort 9 = .ok (.iconst 5, 1) := zdec_at bX6_sort_0 4 rfl
theorem dX6_sort_10 : decode cX6_sort 10 = .ok (.goto 29, 3) := zdec_at bX6_sort_0 5 rfl
theorem dX6_sort_13 : decode cX6_sort 13 = .ok (.aload_n 0, 1) := zdec_at bX6_sort_0 6 rfl
theorem dX6_sort_14 : decode cX6_sort 14 = .ok (.sipush 128, 3) := zdec_at bX6_sort_0 7 rfl
theorem dX6_sort_17 : decode cX6_sort 17 = .ok (.invokevirtual 47, 3) := zdec_at bX6_sort_0 8 rfl
theorem dX6_sort_20 : decode cX6_sort 20 = .ok (.ifCond .eq 8, 3) := zdec_at bX6_sort_0 9 rfl
theorem dX6_sort_23 : decode cX6_sort 23 = .ok (.bipush 6, 2) := zdec_at bX6_sort_0 10 rfl
theorem dX6_sort_25 : decode cX6_sort 25 = .ok (.goto 14, 3) := zdec_at bX6_sort_0 11 rfl
theorem dX6_sort_28 : decode cX6_sort 28 = .ok (.aload_n 0, 1) := zdec_at bX6_sort_0 12 rfl
theorem dX6_sort_29 : decode cX6_sort 29 = .ok (.getfield 18, 3) := zdec_at bX6_sort_0 13 rfl
theorem dX6_sort_32 : decode cX6_sort 32 = .ok (.ldc2_w 51, 3) := zdec_at bX6_sort_0 14 rfl
theorem dX6_sort_35 : decode cX6_sort 35 = .ok (.land, 1) := zdec_at bX6_sort_0 15 rfl
theorem bX6_sort_36 : zdec cX6_sort 36 [(36, .invokestatic 53, 3), (39, .ireturn, 1)] = true := by decide +kernel
theorem dX6_sort_36 : decode cX6_sort 36 = .ok (.invokestatic 53, 3) := zdec_at bX6_sort_36 0 rfl
theorem dX6_sort_39 : decode cX6_sort 39 = .ok (.ireturn, 1) := zdec_at bX6_sort_36 1 rfl
theorem sX6_sort_0 {E : zE} {d : Nat} {Q : zO → zM → Prop} (M : zM) (a0 : Nat) (k : Z E YX6_has d M (zargs 0 [vr (some (a0, 4, 0)), vi (32 : Int32)]) 0 [] (zafter E YX6_sort (d + 1) [(0, vr (some (a0, 4, 0)))] 3 3 [] Q)) : Z E YX6_sort (d + 1) M [(0, vr (some (a0, 4, 0)))] 0 [] Q := by
  refine z_aload_n dX6_sort_0 rfl rfl ?_
  refine z_bipush (v := 32) dX6_sort_1 rfl ?_
  exact z_callV (as := [vi (32 : Int32)]) (st := []) dX6_sort_3 vsX6_47_4 (Nat.le_refl _) (Nat.le_of_ble_eq_true rfl) (Nat.le_of_ble_eq_true rfl) rfl k
theorem sX6_sort_6 {E : zE} {d : Nat} {Q : zO → zM → Prop} (M : zM) (a0 : Nat) (s0 : Int32) (k : if s0 = 0 then (Z E YX6_has d M (zargs 0 [vr (some (a0, 4, 0)), vi (128 : Int32)]) 0 [] (zafter E YX6_sort (d + 1) [(0, vr (some (a0, 4, 0)))] 17 3 [] Q)) else (Z E YX6_sort (d + 1) M [] 39 [vi (5 : Int32)] Q)) : Z E YX6_sort (d + 1) M [(0, vr (some (a0, 4, 0)))] 6 [vi s0] Q := by
  refine z_if_eq (tgt := 13) dX6_sort_6 rfl (fun h_ => ?_) (fun h_ => ?_)
  · have k := zit h_ k
    refine z_aload_n dX6_sort_13 rfl rfl ?_
    refine z_sipush (v := 128) dX6_sort_14 rfl ?_
    exact z_callV (as := [vi (128 : Int32)]) (st := []) dX6_sort_17 vsX6_47_4 (Nat.le_refl _) (Nat.le_of_ble_eq_true rfl) (Nat.le_of_ble_eq_true rfl) rfl k
  · have k := zif h_ k
    refine z_iconst (v := 5) dX6_sort_9 rfl ?_
    refine z_goto (tgt := 39) dX6_sort_10 rfl ?_
    refine Z.pick [] rfl ?_
    exact k
theorem sX6_sort_20 {E : zE} {d : Nat} {Q : zO → zM → Prop} (M : zM) (a0 : Nat) (s0 : Int32) (k : if s0 = 0 then (Z E YJ17_numberOfTrailingZeros d M (zargs 0 [vl ((gl M a0 2) &&& (31 : Int64))]) 0 [] (zafter E YX6_sort (d + 1) [] 36 3 [] Q)) else (Z E YX6_sort (d + 1) M [] 39 [vi (6 : Int32)] Q)) : Z E YX6_sort (d + 1) M [(0, vr (some (a0, 4, 0)))] 20 [vi s0] Q := by
  refine z_if_eq (tgt := 28) dX6_sort_20 rfl (fun h_ => ?_) (fun h_ => ?_)
  · have k := zit h_ k
    refine z_aload_n dX6_sort_28 rfl rfl ?_
    refine z_getl dX6_sort_29 fsX6_18_4 ?_
    refine z_ldc2 (v := 31) dX6_sort_32 q3374 ?_
    refine z_land dX6_sort_35 ?_
    refine Z.pick [] rfl ?_
    exact z_callS (as := [vl ((gl M a0 2) &&& (31 : Int64))]) (st := []) dX6_sort_36 ssX6_53 (Nat.le_refl _) (Nat.le_of_ble_eq_true rfl) (Nat.le_of_ble_eq_true rfl) rfl k
  · have k := zif h_ k
    refine z_bipush (v := 6) dX6_sort_23 rfl ?_
    refine z_goto (tgt := 39) dX6_sort_25 rfl ?_
    refine Z.pick [] rfl ?_
    exact k
theorem sX6_sort_39 {E : zE} {d : Nat} {Q : zO → zM → Prop} (M : zM) (s0 : Int32) (k : Q (.inl (some (vi s0))) M) : Z E YX6_sort (d + 1) M [] 39 [vi s0] Q := by
  exact z_iret dX6_sort_39 rfl rfl k
/-! ScriptTypes$Bag.value()I -/
theorem bX6_value_0 : zdec cX6_value 0 [(0, .aload_n 0, 1), (1, .bipush 32, 2), (3, .invokevirtual 47, 3), (6, .ifCond .eq 10, 3), (9, .aload_n 0, 1), (10, .invokevirtual 56, 3), (13, .goto 21, 3), (16, .aload_n 0, 1), (17, .sipush 128, 3), (20, .invokevirtual 47, 3), (23, .ifCond .eq 10, 3), (26, .aload_n 0, 1), (27, .invokevirtual 60, 3), (30, .goto 4, 3), (33, .iconst 0, 1), (34, .ireturn, 1)] = true := by decide +kernel
theorem dX6_value_0 : decode cX6_value 0 = .ok (.aload_n 0, 1) := zdec_at bX6_value_0 0 rfl
theorem dX6_value_1 : decode cX6_value 1 = .ok (.bipush 32, 2) := zdec_at bX6_value_0 1 rfl
theorem dX6_value_3 : decode cX6_value 3 = .ok (.invokevirtual 47, 3) := zdec_at bX6_value_0 2 rfl
theorem dX6_value_6 : decode cX6_value 6 = .ok (.ifCond .eq 10, 3) := zdec_at bX6_value_0 3 rfl
theorem dX6_value_9 : decode cX6_value 9 = .ok (.aload_n 0, 1) := zdec_at bX6_value_0 4 rfl
theorem dX6_value_10 : decode cX6_value 10 = .ok (.invokevirtual 56, 3) := zdec_at bX6_value_0 5 rfl
theorem dX6_value_13 : decode cX6_value 13 = .ok (.goto 21, 3) := zdec_at bX6_value_0 6 rfl
theorem dX6_value_16 : decode cX6_value 16 = .ok (.aload_n 0, 1) := zdec_at bX6_value_0 7 rfl
theorem dX6_value_17 : decode cX6_value 17 = .ok (.sipush 128, 3) := zdec_at bX6_value_0 8 rfl
theorem dX6_value_20 : decode cX6_value 20 = .ok (.invokevirtual 47, 3) := zdec_at bX6_value_0 9 rfl
theorem dX6_value_23 : decode cX6_value 23 = .ok (.ifCond .eq 10, 3) := zdec_at bX6_value_0 10 rfl
theorem dX6_value_26 : decode cX6_value 26 = .ok (.aload_n 0, 1) := zdec_at bX6_value_0 11 rfl
theorem dX6_value_27 : decode cX6_value 27 = .ok (.invokevirtual 60, 3) := zdec_at bX6_value_0 12 rfl
theorem dX6_value_30 : decode cX6_value 30 = .ok (.goto 4, 3) := zdec_at bX6_value_0 13 rfl
theorem dX6_value_33 : decode cX6_value 33 = .ok (.iconst 0, 1) := zdec_at bX6_value_0 14 rfl
theorem dX6_value_34 : decode cX6_value 34 = .ok (.ireturn, 1) := zdec_at bX6_value_0 15 rfl
theorem sX6_value_0 {E : zE} {d : Nat} {Q : zO → zM → Prop} (M : zM) (a0 : Nat) (k : Z E YX6_has d M (zargs 0 [vr (some (a0, 4, 0)), vi (32 : Int32)]) 0 [] (zafter E YX6_value (d + 1) [(0, vr (some (a0, 4, 0)))] 3 3 [] Q)) : Z E YX6_value (d + 1) M [(0, vr (some (a0, 4, 0)))] 0 [] Q := by
  refine z_aload_n dX6_value_0 rfl rfl ?_
  refine z_bipush (v := 32) dX6_value_1 rfl ?_
  exact z_callV (as := [vi (32 : Int32)]) (st := []) dX6_value_3 vsX6_47_4 (Nat.le_refl _) (Nat.le_of_ble_eq_true rfl) (Nat.le_of_ble_eq_true rfl) rfl k
theorem sX6_value_6 {E : zE} {d : Nat} {Q : zO → zM → Prop} (M : zM) (a0 : Nat) (s0 : Int32) (k : if s0 = 0 then (Z E YX6_has d M (zargs 0 [vr (some (a0, 4, 0)), vi (128 : Int32)]) 0 [] (zafter E YX6_value (d + 1) [(0, vr (some (a0, 4, 0)))] 20 3 [] Q)) else (Z E YX6_number d M (zargs 0 [vr (some (a0, 4, 0))]) 0 [] (zafter E YX6_value (d + 1) [] 10 3 [] Q))) : Z E YX6_value (d + 1) M [(0, vr (some (a0, 4, 0)))] 6 [vi s0] Q := by
  refine z_if_eq (tgt := 16) dX6_value_6 rfl (fun h_ => ?_) (fun h_ => ?_)
  · have k := zit h_ k
    refine z_aload_n dX6_value_16 rfl rfl ?_
    refine z_sipush (v := 128) dX6_value_17 rfl ?_
    exact z_callV (as := [vi (128 : Int32)]) (st := []) dX6_value_20 vsX6_47_4 (Nat.le_refl _) (Nat.le_of_ble_eq_true rfl) (Nat.le_of_ble_eq_true rfl) rfl k
  · have k := zif h_ k
    refine z_aload_n dX6_value_9 rfl rfl ?_
    refine Z.pick [] rfl ?_
    exact z_callV (as := []) (st := []) dX6_value_10 vsX6_56_4 (Nat.le_refl _) (Nat.le_of_ble_eq_true rfl) (Nat.le_of_ble_eq_true rfl) rfl k
theorem sX6_value_13 {E : zE} {d : Nat} {Q : zO → zM → Prop} (M : zM) (s0 : Int32) (k : Q (.inl (some (vi s0))) M) : Z E YX6_value (d + 1) M [] 13 [vi s0] Q := by
  refine z_goto (tgt := 34) dX6_value_13 rfl ?_
  exact z_iret dX6_value_34 rfl rfl k
theorem sX6_value_23 {E : zE} {d : Nat} {Q : zO → zM → Prop} (M : zM) (a0 : Nat) (s0 : Int32) (k : if s0 = 0 then (Q (.inl (some (vi (0 : Int32)))) M) else (Z E YX6_name d M (zargs 0 [vr (some (a0, 4, 0))]) 0 [] (zafter E YX6_value (d + 1) [] 27 3 [] Q))) : Z E YX6_value (d + 1) M [(0, vr (some (a0, 4, 0)))] 23 [vi s0] Q := by
  refine z_if_eq (tgt := 33) dX6_value_23 rfl (fun h_ => ?_) (fun h_ => ?_)
  · have k := zit h_ k
    refine z_iconst (v := 0) dX6_value_33 rfl ?_
    exact z_iret dX6_value_34 rfl rfl k
  · have k := zif h_ k
    refine z_aload_n dX6_value_26 rfl rfl ?_
    refine Z.pick [] rfl ?_
    exact z_callV (as := []) (st := []) dX6_value_27 vsX6_60_4 (Nat.le_refl _) (Nat.le_of_ble_eq_true rfl) (Nat.le_of_ble_eq_true rfl) rfl k
theorem sX6_value_30 {E : zE} {d : Nat} {Q : zO → zM → Prop} (M : zM) (s0 : Int32) (k : Q (.inl (some (vi s0))) M) : Z E YX6_value (d + 1) M [] 30 [vi s0] Q := by
  refine z_goto (tgt := 34) dX6_value_30 rfl ?_
  exact z_iret dX6_value_34 rfl rfl k
/-! ScriptTypes$Bag.copy(LScriptTypes$Bag;)LScriptTypes$Bag; -/
theorem bX6_copy_0 : zdec cX6_copy 0 [(0, .aload_n 0, 1), (1, .aload_n 1, 1), (2, .getfield 9, 3), (5, .putfield 9, 3), (8, .aload_n 0, 1), (9, .aload_n 1, 1), (10, .getfield 15, 3), (13, .putfield 15, 3), (16, .aload_n 0, 1), (17, .aload_n 1, 1), (18, .getfield 18, 3), (21, .putfield 18, 3), (24, .aload_n 0, 1), (25, .areturn, 1)] = true := by decide +kernel
theorem dX6_copy_0 : decode cX6_copy 0 = .ok (.aload_n 0, 1) := zdec_at bX6_copy_0 0 rfl
theorem dX6_copy_1 : decode cX6_copy 1 = .ok (.aload_n 1, 1) := zdec_at bX6_copy_0 1 rfl
theorem dX6_copy_2 : decode cX6_copy 2 = .ok (.getfield 9, 3) := zdec_at bX6_copy_0 2 rfl
theorem dX6_copy_5 : decode cX6_copy 5 = .ok (.putfield 9, 3) := zdec_at bX6_copy_0 3 rfl
theorem dX6_copy_8 : decode cX6_copy 8 = .ok (.aload_n 0, 1) := zdec_at bX6_copy_0 4 rfl
theorem dX6_copy_9 : decode cX6_copy 9 = .ok (.aload_n 1, 1) := zdec_at bX6_copy_0 5 rfl
theorem dX6_copy_10 : decode cX6_copy 10 = .ok (.getfield 15, 3) := zdec_at bX6_copy_0 6 rfl
theorem dX6_copy_13 : decode cX6_copy 13 = .ok (.putfield 15, 3) := zdec_at bX6_copy_0 7 rfl
theorem dX6_copy_16 : decode cX6_copy 16 = .ok (.aload_n 0, 1) := zdec_at bX6_copy_0 8 rfl
theorem dX6_copy_17 : decode cX6_copy 17 = .ok (.aload_n 1, 1) := zdec_at bX6_copy_0 9 rfl
theorem dX6_copy_18 : decode cX6_copy 18 = .ok (.getfield 18, 3) := zdec_at bX6_copy_0 10 rfl
theorem dX6_copy_21 : decode cX6_copy 21 = .ok (.putfield 18, 3) := zdec_at bX6_copy_0 11 rfl
theorem dX6_copy_24 : decode cX6_copy 24 = .ok (.aload_n 0, 1) := zdec_at bX6_copy_0 12 rfl
theorem dX6_copy_25 : decode cX6_copy 25 = .ok (.areturn, 1) := zdec_at bX6_copy_0 13 rfl
theorem sX6_copy_0 {E : zE} {d : Nat} {Q : zO → zM → Prop} (M : zM) (a0 : Nat) (r1 : Option zP) (k : ∃ b1 : Nat, r1 = some (b1, 4, 0) ∧ (16 ≤ a0 ∧ (16 ≤ a0 ∧ (16 ≤ a0 ∧ (Q (.inl (some (vr (some (a0, 4, 0))))) (sl (sl (sl M a0 0 (gl M b1 0)) a0 1 (gl (sl M a0 0 (gl M b1 0)) b1 1)) a0 2 (gl (sl (sl M a0 0 (gl M b1 0)) a0 1 (gl (sl M a0 0 (gl M b1 0)) b1 1)) b1 2))))))) : Z E YX6_copy d M [(0, vr (some (a0, 4, 0))), (1, vr r1)] 0 [] Q := by
  refine z_aload_n dX6_copy_0 rfl rfl ?_
  refine z_aload_n dX6_copy_1 rfl rfl ?_
  obtain ⟨b1, e1_, k⟩ := k
  refine Z.eqs (lv' := [(0, vr (some (a0, 4, 0))), (1, vr (some (b1, 4, 0)))]) (st' := [vr (some (b1, 4, 0)), vr (some (a0, 4, 0))]) (by rw [e1_] <;> rfl) (by rw [e1_] <;> rfl) ?_
  refine z_getl dX6_copy_2 fsX6_9_4 ?_
  obtain ⟨g_, k⟩ := k
  refine z_putl g_ dX6_copy_5 (zfwN.w fwX6_9_4) ?_
  refine z_aload_n dX6_copy_8 rfl rfl ?_
  refine z_aload_n dX6_copy_9 rfl rfl ?_
  refine z_getl dX6_copy_10 fsX6_15_4 ?_
  obtain ⟨g_, k⟩ := k
  refine z_putl g_ dX6_copy_13 (zfwN.w fwX6_15_4) ?_
  refine z_aload_n dX6_copy_16 rfl rfl ?_
  refine z_aload_n dX6_copy_17 rfl rfl ?_
  refine z_getl dX6_copy_18 fsX6_18_4 ?_
  obtain ⟨g_, k⟩ := k
  refine z_putl g_ dX6_copy_21 (zfwN.w fwX6_18_4) ?_
  refine z_aload_n dX6_copy_24 rfl rfl ?_
  exact z_aret dX6_copy_25 rfl rfl k
/-! ScriptTypes$Kept.<init>(LScriptTypes;)V -/
theorem bX7_init_0 : zdec cX7_init 0 [(0, .aload_n 0, 1), (1, .invokespecial 3, 3), (4, .aload_n 0, 1), (5, .bipush 91, 2), (7, .newarray .long, 2), (9, .putfield 9, 3), (12, .aload_n 0, 1), (13, .bipush 91, 2), (15, .newarray .long, 2), (17, .putfield 15, 3), (20, .aload_n 0, 1), (21, .bipush 91, 2), (23, .newarray .long, 2), (25, .putfield 18, 3), (28, .aload_n 0, 1), (29, .aload_n 1, 1)] = true := by decide +kernel
theorem dX7_init_0 : decode cX7_init 0 = .ok (.aload_n 0, 1) := zdec_at bX7_init_0 0 rfl
theorem dX7_init_1 : decode cX7_init 1 = .ok (.invokespecial 3, 3) := zdec_at bX7_init_0 1 rfl
theorem dX7_init_4 : decode cX7_init 4 = .ok (.aload_n 0, 1) := zdec_at bX7_init_0 2 rfl
theorem dX7_init_5 : decode cX7_init 5 = .ok (.bipush 91, 2) := zdec_at bX7_init_0 3 rfl
theorem dX7_init_7 : decode cX7_init 7 = .ok (.newarray .long, 2) := zdec_at bX7_init_0 4 rfl
theorem dX7_init_9 : decode cX7_init 9 = .ok (.putfield 9, 3) := zdec_at bX7_init_0 5 rfl
theorem dX7_init_12 : decode cX7_init 12 = .ok (.aload_n 0, 1) := zdec_at bX7_init_0 6 rfl
theorem dX7_init_13 : decode cX7_init 13 = .ok (.bipush 91, 2) := zdec_at bX7_init_0 7 rfl
theorem dX7_init_15 : decode cX7_init 15 = .ok (.newarray .long, 2) := zdec_at bX7_init_0 8 rfl
theorem dX7_init_17 : decode cX7_init 17 = .ok (.putfield 15, 3) := zdec_at bX7_init_0 9 rfl
theorem dX7_init_20 : decode cX7_init 20 = .ok (.aload_n 0, 1) := zdec_at bX7_init_0 10 rfl
theorem dX7_init_21 : decode cX7_init 21 = .ok (.bipush 91, 2) := zdec_at bX7_init_0 11 rfl
theorem dX7_init_23 : decode cX7_init 23 = .ok (.newarray .long, 2) := zdec_at bX7_init_0 12 rfl
theorem dX7_init_25 : decode cX7_init 25 = .ok (.putfield 18, 3) := zdec_at bX7_init_0 13 rfl
theorem dX7_init_28 : decode cX7_init 28 = .ok (.aload_n 0, 1) := zdec_at bX7_init_0 14 rfl
theorem dX7_init_29 : decode cX7_init 29 = .ok (.aload_n 1, 1) := zdec_at bX7_init_0 15 rfl
theorem bX7_init_30 : zdec cX7_init 30 [(30, .putfield 21, 3), (33, .return_, 1)] = true := by decide +kernel
theorem dX7_init_30 : decode cX7_init 30 = .ok (.putfield 21, 3) := zdec_at bX7_init_30 0 rfl
theorem dX7_init_33 : decode cX7_init 33 = .ok (.return_, 1) := zdec_at bX7_init_30 1 rfl
theorem sX7_init_0 {E : zE} {d : Nat} {Q : zO → zM → Prop} (M : zM) (a0 : Nat) (r1 : Option zP) (k : Z E YX7_init (d + 1) (zn M 91) [(0, vr (some (a0, 5, 0))), (1, vr r1)] 9 [vr (some ((zsz M), 105, 91)), vr (some (a0, 5, 0))] Q) : Z E YX7_init (d + 1) M [(0, vr (some (a0, 5, 0))), (1, vr r1)] 0 [] Q := by
  refine z_aload_n dX7_init_0 rfl rfl ?_
  refine z_objInit dX7_init_1 oiX7_3 (by omega) (by decide) ?_
  refine z_aload_n dX7_init_4 rfl rfl ?_
  refine z_bipush (v := 91) dX7_init_5 rfl ?_
  refine z_newa (q := 5) (N := 91) dX7_init_7 rfl (by decide) q755 (by decide) (by decide) (by decide) ?_
  exact k
theorem sX7_init_9 {E : zE} {d : Nat} {Q : zO → zM → Prop} (M : zM) (a0 : Nat) (r1 : Option zP) (p0 : Nat) (k : 16 ≤ a0 ∧ (Z E YX7_init (d + 1) (zn (sr M a0 1 (some (p0, 105, 91))) 91) [(0, vr (some (a0, 5, 0))), (1, vr r1)] 17 [vr (some ((zsz M), 105, 91)), vr (some (a0, 5, 0))] Q)) : Z E YX7_init (d + 1) M [(0, vr (some (a0, 5, 0))), (1, vr r1)] 9 [vr (some (p0, 105, 91)), vr (some (a0, 5, 0))] Q := by
  obtain ⟨g_, k⟩ := k
  refine z_putr g_ dX7_init_9 (zfwN.f fwX7_9_5 rfl (fun q h => by rw [← Option.some.inj h]; rfl)) rfl ?_
  refine z_aload_n dX7_init_12 rfl rfl ?_
  refine z_bipush (v := 91) dX7_init_13 rfl ?_
  refine z_newa (q := 5) (N := 91) dX7_init_15 rfl (by decide) q755 (by decide) (by decide) (by decide) ?_
  exact k
theorem sX7_init_17 {E : zE} {d : Nat} {Q : zO → zM → Prop} (M : zM) (a0 : Nat) (r1 : Option zP) (p0 : Nat) (k : 16 ≤ a0 ∧ (Z E YX7_init (d + 1) (zn (sr M a0 2 (some (p0, 105, 91))) 91) [(0, vr (some (a0, 5, 0))), (1, vr r1)] 25 [vr (some ((zsz M), 105, 91)), vr (some (a0, 5, 0))] Q)) : Z E YX7_init (d + 1) M [(0, vr (some (a0, 5, 0))), (1, vr r1)] 17 [vr (some (p0, 105, 91)), vr (some (a0, 5, 0))] Q := by
  obtain ⟨g_, k⟩ := k
  refine z_putr g_ dX7_init_17 (zfwN.f fwX7_15_5 rfl (fun q h => by rw [← Option.some.inj h]; rfl)) rfl ?_
  refine z_aload_n dX7_init_20 rfl rfl ?_
  refine z_bipush (v := 91) dX7_init_21 rfl ?_
  refine z_newa (q := 5) (N := 91) dX7_init_23 rfl (by decide) q755 (by decide) (by decide) (by decide) ?_
  exact k
theorem sX7_init_25 {E : zE} {d : Nat} {Q : zO → zM → Prop} (M : zM) (a0 : Nat) (r1 : Option zP) (p0 : Nat) (k : 16 ≤ a0 ∧ (16 ≤ a0 ∧ (Q (.inl none) (sr (sr M a0 3 (some (p0, 105, 91))) a0 0 r1)))) : Z E YX7_init (d + 1) M [(0, vr (some (a0, 5, 0))), (1, vr r1)] 25 [vr (some (p0, 105, 91)), vr (some (a0, 5, 0))] Q := by
  obtain ⟨g_, k⟩ := k
  refine z_putr g_ dX7_init_25 (zfwN.f fwX7_18_5 rfl (fun q h => by rw [← Option.some.inj h]; rfl)) rfl ?_
  refine z_aload_n dX7_init_28 rfl rfl ?_
  refine z_aload_n dX7_init_29 rfl rfl ?_
  obtain ⟨g_, k⟩ := k
  refine z_putr g_ dX7_init_30 (zfwN.f fwX7_21_5 rfl (fun q h => by rw [← Option.some.inj h]; rfl)) rfl ?_
  exact z_vret dX7_init_33 rfl k
/-! ScriptTypes$Kept.save(LScriptTypes$Work;I)V -/
theorem bX7_save_0 : zdec cX7_save 0 [(0, .aload_n 1, 1), (1, .iload_n 2, 1), (2, .iconst 0, 1), (3, .invokevirtual 25, 3), (6, .istore_n 3, 1), (7, .iconst 0, 1), (8, .istore 4, 2), (10, .iload 4, 2), (12, .aload_n 0, 1), (13, .getfield 21, 3), (16, .getfield 31, 3), (19, .if_icmp .gt 57, 3), (22, .aload_n 0, 1), (23, .getfield 9, 3), (26, .iload 4, 2), (28, .aload_n 1, 1)] = true := by decide +kernel
theorem dX7_save_0 : decode cX7_save 0 = .ok (.aload_n 1, 1) := zdec_at bX7_save_0 0 rfl
theorem dX7_save_1 : decode cX7_save 1 = .ok (.iload_n 2, 1) := zdec_at bX7_save_0 1 rfl
theorem dX7_save_2 : decode cX7_save 2 = .ok (.iconst 0, 1) := zdec_at bX7_save_0 2 rfl
theorem dX7_save_3 : decode cX7_save 3 = .ok (.invokevirtual 25, 3) := zdec_at bX7_save_0 3 rfl
theorem dX7_save_6 : decode cX7_save 6 = .ok (.istore_n 3, 1) := zdec_at bX7_save_0 4 rfl
theorem dX7_save_7 : decode cX7_save 7 = .ok (.iconst 0, 1) := zdec_at bX7_save_0 5 rfl
theorem dX7_save_8 : decode cX7_save 8 = .ok (.istore 4, 2) := zdec_at bX7_save_0 6 rfl
theorem dX7_save_10 : decode cX7_save 10 = .ok (.iload 4, 2) := zdec_at bX7_save_0 7 rfl
theorem dX7_save_12 : decode cX7_save 12 = .ok (.aload_n 0, 1) := zdec_at bX7_save_0 8 rfl
theorem dX7_save_13 : decode cX7_save 13 = .ok (.getfield 21, 3) := zdec_at bX7_save_0 9 rfl
theorem dX7_save_16 : decode cX7_save 16 = .ok (.getfield 31, 3) := zdec_at bX7_save_0 10 rfl
theorem dX7_save_19 : decode cX7_save 19 = .ok (.if_icmp .gt 57, 3) := zdec_at bX7_save_0 11 rfl
theorem dX7_save_22 : decode cX7_save 22 = .ok (.aload_n 0, 1) := zdec_at bX7_save_0 12 rfl
theorem dX7_save_23 : decode cX7_save 23 = .ok (.getfield 9, 3) := zdec_at bX7_save_0 13 rfl
theorem dX7_save_26 : decode cX7_save 26 = .ok (.iload 4, 2) := zdec_at bX7_save_0 14 rfl
theorem dX7_save_28 : decode cX7_save 28 = .ok (.aload_n 1, 1) := zdec_at bX7_save_0 15 rfl
theorem bX7_save_29 : zdec cX7_save 29 [(29, .getfield 35, 3), (32, .iload_n 3, 1), (33, .iload 4, 2), (35, .iadd, 1), (36, .laload, 1), (37, .lastore, 1), (38, .aload_n 0, 1), (39, .getfield 15, 3), (42, .iload 4, 2), (44, .aload_n 1, 1), (45, .getfield 36, 3), (48, .iload_n 3, 1), (49, .iload 4, 2), (51, .iadd, 1), (52, .laload, 1), (53, .lastore, 1)] = true := by decide +kernel
theorem dX7_save_29 : decode cX7_save 29 = .ok (.getfield 35, 3) := zdec_at bX7_save_29 0 rfl
theorem dX7_save_32 : decode cX7_save 32 = .ok (.iload_n 3, 1) := zdec_at bX7_save_29 1 rfl
theorem dX7_save_33 : decode cX7_save 33 = .ok (.iload 4, 2) := zdec_at bX7_save_29 2 rfl
theorem dX7_save_35 : decode cX7_save 35 = .ok (.iadd, 1) := zdec_at bX7_save_29 3 rfl
theorem dX7_save_36 : decode cX7_save 36 = .ok (.laload, 1) := zdec_at bX7_save_29 4 rfl
theorem dX7_save_37 : decode cX7_save 37 = .ok (.lastore, 1) := zdec_at bX7_save_29 5 rfl
theorem dX7_save_38 : decode cX7_save 38 = .ok (.aload_n 0, 1) := zdec_at bX7_save_29 6 rfl
theorem dX7_save_39 : decode cX7_save 39 = .ok (.getfield 15, 3) := zdec_at bX7_save_29 7 rfl
theorem dX7_save_42 : decode cX7_save 42 = .ok (.iload 4, 2) := zdec_at bX7_save_29 8 rfl
theorem dX7_save_44 : decode cX7_save 44 = .ok (.aload_n 1, 1) := zdec_at bX7_save_29 9 rfl
theorem dX7_save_45 : decode cX7_save 45 = .ok (.getfield 36, 3) := zdec_at bX7_save_29 10 rfl
theorem dX7_save_48 : decode cX7_save 48 = .ok (.iload_n 3, 1) := zdec_at bX7_save_29 11 rfl
theorem dX7_save_49 : decode cX7_save 49 = .ok (.iload 4, 2) := zdec_at bX7_save_29 12 rfl
theorem dX7_save_51 : decode cX7_save 51 = .ok (.iadd, 1) := zdec_at bX7_save_29 13 rfl
theorem dX7_save_52 : decode cX7_save 52 = .ok (.laload, 1) := zdec_at bX7_save_29 14 rfl
theorem dX7_save_53 : decode cX7_save 53 = .ok (.lastore, 1) := zdec_at bX7_save_29 15 rfl
theorem bX7_save_54 : zdec cX7_save 54 [(54, .aload_n 0, 1), (55, .getfield 18, 3), (58, .iload 4, 2), (60, .aload_n 1, 1), (61, .getfield 37, 3), (64, .iload_n 3, 1), (65, .iload 4, 2), (67, .iadd, 1), (68, .laload, 1), (69, .lastore, 1), (70, .iinc 4 1, 3), (73, .goto (-63), 3), (76, .aload_n 0, 1), (77, .aload_n 1, 1), (78, .getfield 38, 3), (81, .iload_n 2, 1)] = true := by decide +kernel
theorem dX7_save_54 : decode cX7_save 54 = .ok (.aload_n 0, 1) := zdec_at bX7_save_54 0 rfl
theorem dX7_save_55 : decode cX7_save 55 = .ok (.getfield 18, 3) := zdec_at bX7_save_54 1 rfl
theorem dX7_save_58 : decode cX7_save 58 = .ok (.iload 4, 2) := zdec_at bX7_save_54 2 rfl
theorem dX7_save_60 : decode cX7_save 60 = .ok (.aload_n 1, 1) := zdec_at bX7_save_54 3 rfl
theorem dX7_save_61 : decode cX7_save 61 = .ok (.getfield 37, 3) := zdec_at bX7_save_54 4 rfl
theorem dX7_save_64 : decode cX7_save 64 = .ok (.iload_n 3, 1) := zdec_at bX7_save_54 5 rfl
theorem dX7_save_65 : decode cX7_save 65 = .ok (.iload 4, 2) := zdec_at bX7_save_54 6 rfl
theorem dX7_save_67 : decode cX7_save 67 = .ok (.iadd, 1) := zdec_at bX7_save_54 7 rfl
theorem dX7_save_68 : decode cX7_save 68 = .ok (.laload, 1) := zdec_at bX7_save_54 8 rfl
theorem dX7_save_69 : decode cX7_save 69 = .ok (.lastore, 1) := zdec_at bX7_save_54 9 rfl
theorem dX7_save_70 : decode cX7_save 70 = .ok (.iinc 4 1, 3) := zdec_at bX7_save_54 10 rfl
theorem dX7_save_73 : decode cX7_save 73 = .ok (.goto (-63), 3) := zdec_at bX7_save_54 11 rfl
theorem dX7_save_76 : decode cX7_save 76 = .ok (.aload_n 0, 1) := zdec_at bX7_save_54 12 rfl
theorem dX7_save_77 : decode cX7_save 77 = .ok (.aload_n 1, 1) := zdec_at bX7_save_54 13 rfl
theorem dX7_save_78 : decode cX7_save 78 = .ok (.getfield 38, 3) := zdec_at bX7_save_54 14 rfl
theorem dX7_save_81 : decode cX7_save 81 = .ok (.iload_n 2, 1) := zdec_at bX7_save_54 15 rfl
theorem bX7_save_82 : zdec cX7_save 82 [(82, .laload, 1), (83, .putfield 41, 3), (86, .aload_n 0, 1), (87, .aload_n 1, 1), (88, .getfield 44, 3), (91, .iload_n 2, 1), (92, .baload, 1), (93, .putfield 48, 3), (96, .return_, 1)] = true := by decide +kernel
theorem dX7_save_82 : decode cX7_save 82 = .ok (.laload, 1) := zdec_at bX7_save_82 0 rfl
theorem dX7_save_83 : decode cX7_save 83 = .ok (.putfield 41, 3) := zdec_at bX7_save_82 1 rfl
theorem dX7_save_86 : decode cX7_save 86 = .ok (.aload_n 0, 1) := zdec_at bX7_save_82 2 rfl
theorem dX7_save_87 : decode cX7_save 87 = .ok (.aload_n 1, 1) := zdec_at bX7_save_82 3 rfl
theorem dX7_save_88 : decode cX7_save 88 = .ok (.getfield 44, 3) := zdec_at bX7_save_82 4 rfl
theorem dX7_save_91 : decode cX7_save 91 = .ok (.iload_n 2, 1) := zdec_at bX7_save_82 5 rfl
theorem dX7_save_92 : decode cX7_save 92 = .ok (.baload, 1) := zdec_at bX7_save_82 6 rfl
theorem dX7_save_93 : decode cX7_save 93 = .ok (.putfield 48, 3) := zdec_at bX7_save_82 7 rfl
theorem dX7_save_96 : decode cX7_save 96 = .ok (.return_, 1) := zdec_at bX7_save_82 8 rfl
theorem sX7_save_0 {E : zE} {d : Nat} {Q : zO → zM → Prop} (M : zM) (a0 : Nat) (r1 : Option zP) (l2 : Int32) (k : ∃ b1 : Nat, r1 = some (b1, 7, 0) ∧ (Z E YX43_cell d M (zargs 0 [vr (some (b1, 7, 0)), vi l2, vi (0 : Int32)]) 0 [] (zafter E YX7_save (d + 1) [(0, vr (some (a0, 5, 0))), (1, vr (some (b1, 7, 0))), (2, vi l2)] 3 3 [] Q))) : Z E YX7_save (d + 1) M [(0, vr (some (a0, 5, 0))), (1, vr r1), (2, vi l2)] 0 [] Q := by
  refine z_aload_n dX7_save_0 rfl rfl ?_
  refine z_iload_n dX7_save_1 rfl rfl ?_
  refine z_iconst (v := 0) dX7_save_2 rfl ?_
  obtain ⟨b1, e1_, k⟩ := k
  refine Z.eqs (lv' := [(0, vr (some (a0, 5, 0))), (1, vr (some (b1, 7, 0))), (2, vi l2)]) (st' := [vi (0 : Int32), vi l2, vr (some (b1, 7, 0))]) (by rw [e1_] <;> rfl) (by rw [e1_] <;> rfl) ?_
  exact z_callV (as := [vi l2, vi (0 : Int32)]) (st := []) dX7_save_3 vsX7_25_7 (Nat.le_refl _) (Nat.le_of_ble_eq_true rfl) (Nat.le_of_ble_eq_true rfl) rfl k
theorem sX7_save_6 {E : zE} {d : Nat} {Q : zO → zM → Prop} (M : zM) (a0 : Nat) (a1 : Nat) (l2 : Int32) (s0 : Int32) (k : Z E YX7_save (d + 1) M [(0, vr (some (a0, 5, 0))), (1, vr (some (a1, 7, 0))), (2, vi l2), (3, vi s0), (4, vi (0 : Int32))] 10 [] Q) : Z E YX7_save (d + 1) M [(0, vr (some (a0, 5, 0))), (1, vr (some (a1, 7, 0))), (2, vi l2)] 6 [vi s0] Q := by
  refine z_ist_n dX7_save_6 rfl (by decide) (lv' := [(0, vr (some (a0, 5, 0))), (1, vr (some (a1, 7, 0))), (2, vi l2), (3, vi s0)]) rfl ?_
  refine z_iconst (v := 0) dX7_save_7 rfl ?_
  refine z_ist dX7_save_8 (by decide) (lv' := [(0, vr (some (a0, 5, 0))), (1, vr (some (a1, 7, 0))), (2, vi l2), (3, vi s0), (4, vi (0 : Int32))]) rfl ?_
  exact k
theorem sX7_save_10 {E : zE} {d : Nat} {Q : zO → zM → Prop} (M : zM) (a0 : Nat) (a1 : Nat) (l2 : Int32) (l3 : Int32) (l4 : Int32) (k : ∃ b1 : Nat, (gr M a0 0) = some (b1, 0, 0) ∧ (if (gi M b1 1) < l4 then (∃ b2 m2 : Nat, (gr M a1 4) = some (b2, 105, m2) ∧ (vp_in l2 m2 ∧ (16 ≤ a0 ∧ (∃ b3 m3 : Nat, (gr M a1 8) = some (b3, 104, m3) ∧ (vp_in l2 m3 ∧ (16 ≤ a0 ∧ (zfit .boolean (gi M b3 (l2).toNatClampNeg) ∧ (Q (.inl none) (si (sl M a0 4 (gl M b2 (l2).toNatClampNeg)) a0 5 (gi M b3 (l2).toNatClampNeg)))))))))) else (∃ b2 m2 : Nat, (gr M a1 1) = some (b2, 105, m2) ∧ (vp_in (l3 + l4) m2 ∧ (∃ b3 m3 : Nat, (gr M a0 1) = some (b3, 105, m3) ∧ (16 ≤ b3 ∧ (vp_in l4 m3 ∧ (∃ b4 m4 : Nat, (gr M a1 2) = some (b4, 105, m4) ∧ (vp_in (l3 + l4) m4 ∧ (∃ b5 m5 : Nat, (gr M a0 2) = some (b5, 105, m5) ∧ (16 ≤ b5 ∧ (vp_in l4 m5 ∧ (∃ b6 m6 : Nat, (gr M a1 3) = some (b6, 105, m6) ∧ (vp_in (l3 + l4) m6 ∧ (∃ b7 m7 : Nat, (gr M a0 3) = some (b7, 105, m7) ∧ (16 ≤ b7 ∧ (vp_in l4 m7 ∧ (Z E YX7_save (d + 1) (sl (sl (sl M b3 (l4).toNatClampNeg (gl M b2 ((l3 + l4)).toNatClampNeg)) b5 (l4).toNatClampNeg (gl (sl M b3 (l4).toNatClampNeg (gl M b2 ((l3 + l4)).toNatClampNeg)) b4 ((l3 + l4)).toNatClampNeg)) b7 (l4).toNatClampNeg (gl (sl (sl M b3 (l4).toNatClampNeg (gl M b2 ((l3 + l4)).toNatClampNeg)) b5 (l4).toNatClampNeg (gl (sl M b3 (l4).toNatClampNeg (gl M b2 ((l3 + l4)).toNatClampNeg)) b4 ((l3 + l4)).toNatClampNeg)) b6 ((l3 + l4)).toNatClampNeg)) [(0, vr (some (a0, 5, 0))), (1, vr (some (a1, 7, 0))), (2, vi l2), (3, vi l3), (4, vi (l4 + (1 : Int32)))] 10 [] Q)))))))))))))))))) : Z E YX7_save (d + 1) M [(0, vr (some (a0, 5, 0))), (1, vr (some (a1, 7, 0))), (2, vi l2), (3, vi l3), (4, vi l4)] 10 [] Q := by
  refine z_iload dX7_save_10 rfl ?_
  refine z_aload_n dX7_save_12 rfl rfl ?_
  refine z_getr (r := (gr M a0 0)) dX7_save_13 fsX7_21_5 rfl ?_
  obtain ⟨b1, e1_, k⟩ := k
  refine Z.eqs (lv' := [(0, vr (some (a0, 5, 0))), (1, vr (some (a1, 7, 0))), (2, vi l2), (3, vi l3), (4, vi l4)]) (st' := [vr (some (b1, 0, 0)), vi l4]) rfl (by rw [e1_] <;> rfl) ?_
  refine z_geti dX7_save_16 fsX7_31_0 ?_
  refine z_icmp_gt (tgt := 76) dX7_save_19 rfl (fun h_ => ?_) (fun h_ => ?_)
  · have k := zit h_ k
    refine z_aload_n dX7_save_76 rfl rfl ?_
    refine z_aload_n dX7_save_77 rfl rfl ?_
    refine z_getr (r := (gr M a1 4)) dX7_save_78 fsX7_38_7 rfl ?_
    refine z_iload_n dX7_save_81 rfl rfl ?_
    obtain ⟨b2, m2, e2_, k⟩ := k
    refine Z.eqs (lv' := [(0, vr (some (a0, 5, 0))), (1, vr (some (a1, 7, 0))), (2, vi l2), (3, vi l3), (4, vi l4)]) (st' := [vi l2, vr (some (b2, 105, m2)), vr (some (a0, 5, 0))]) rfl (by rw [e2_] <;> rfl) ?_
    obtain ⟨b_, k⟩ := k
    refine z_lald dX7_save_82 b_ ?_
    obtain ⟨g_, k⟩ := k
    refine z_putl g_ dX7_save_83 (zfwN.w fwX7_41_5) ?_
    refine z_aload_n dX7_save_86 rfl rfl ?_
    refine z_aload_n dX7_save_87 rfl rfl ?_
    refine z_getr (r := (gr M a1 8)) dX7_save_88 fsX7_44_7 rfl ?_
    refine z_iload_n dX7_save_91 rfl rfl ?_
    obtain ⟨b3, m3, e3_, k⟩ := k
    refine Z.eqs (lv' := [(0, vr (some (a0, 5, 0))), (1, vr (some (a1, 7, 0))), (2, vi l2), (3, vi l3), (4, vi l4)]) (st' := [vi l2, vr (some (b3, 104, m3)), vr (some (a0, 5, 0))]) rfl (by rw [e3_] <;> rfl) ?_
    obtain ⟨b_, k⟩ := k
    refine z_zald dX7_save_92 b_ ?_
    obtain ⟨g_, k⟩ := k
    obtain ⟨b_, k⟩ := k
    refine z_puti g_ dX7_save_93 (zfwN.w fwX7_48_5) rfl b_ ?_
    exact z_vret dX7_save_96 rfl k
  · have k := zif h_ k
    refine z_aload_n dX7_save_22 rfl rfl ?_
    refine z_getr (r := (gr M a0 1)) dX7_save_23 fsX7_9_5 rfl ?_
    refine z_iload dX7_save_26 rfl ?_
    refine z_aload_n dX7_save_28 rfl rfl ?_
    refine z_getr (r := (gr M a1 1)) dX7_save_29 fsX7_35_7 rfl ?_
    refine z_iload_n dX7_save_32 rfl rfl ?_
    refine z_iload dX7_save_33 rfl ?_
    refine z_iadd dX7_save_35 ?_
    obtain ⟨b2, m2, e2_, k⟩ := k
    refine Z.eqs (lv' := [(0, vr (some (a0, 5, 0))), (1, vr (some (a1, 7, 0))), (2, vi l2), (3, vi l3), (4, vi l4)]) (st' := [vi (l3 + l4), vr (some (b2, 105, m2)), vi l4, vr (gr M a0 1)]) rfl (by rw [e2_] <;> rfl) ?_
    obtain ⟨b_, k⟩ := k
    refine z_lald dX7_save_36 b_ ?_
    obtain ⟨b3, m3, e3_, k⟩ := k
    refine Z.eqs (lv' := [(0, vr (some (a0, 5, 0))), (1, vr (some (a1, 7, 0))), (2, vi l2), (3, vi l3), (4, vi l4)]) (st' := [vl (gl M b2 ((l3 + l4)).toNatClampNeg), vi l4, vr (some (b3, 105, m3))]) rfl (by rw [e3_] <;> rfl) ?_
    obtain ⟨g_, k⟩ := k
    obtain ⟨b_, k⟩ := k
    refine z_last g_ dX7_save_37 b_ ?_
    refine z_aload_n dX7_save_38 rfl rfl ?_
    refine z_getr (r := (gr M a0 2)) dX7_save_39 fsX7_15_5 rfl ?_
    refine z_iload dX7_save_42 rfl ?_
    refine z_aload_n dX7_save_44 rfl rfl ?_
    refine z_getr (r := (gr M a1 2)) dX7_save_45 fsX7_36_7 rfl ?_
    refine z_iload_n dX7_save_48 rfl rfl ?_
    refine z_iload dX7_save_49 rfl ?_
    refine z_iadd dX7_save_51 ?_
    obtain ⟨b4, m4, e4_, k⟩ := k
    refine Z.eqs (lv' := [(0, vr (some (a0, 5, 0))), (1, vr (some (a1, 7, 0))), (2, vi l2), (3, vi l3), (4, vi l4)]) (st' := [vi (l3 + l4), vr (some (b4, 105, m4)), vi l4, vr (gr M a0 2)]) rfl (by rw [e4_] <;> rfl) ?_
    obtain ⟨b_, k⟩ := k
    refine z_lald dX7_save_52 b_ ?_
    obtain ⟨b5, m5, e5_, k⟩ := k
    refine Z.eqs (lv' := [(0, vr (some (a0, 5, 0))), (1, vr (some (a1, 7, 0))), (2, vi l2), (3, vi l3), (4, vi l4)]) (st' := [vl (gl (sl M b3 (l4).toNatClampNeg (gl M b2 ((l3 + l4)).toNatClampNeg)) b4 ((l3 + l4)).toNatClampNeg), vi l4, vr (some (b5, 105, m5))]) rfl (by rw [e5_] <;> rfl) ?_
    obtain ⟨g_, k⟩ := k
    obtain ⟨b_, k⟩ := k
    refine z_last g_ dX7_save_53 b_ ?_
    refine z_aload_n dX7_save_54 rfl rfl ?_
    refine z_getr (r := (gr M a0 3)) dX7_save_55 fsX7_18_5 rfl ?_
    refine z_iload dX7_save_58 rfl ?_
    refine z_aload_n dX7_save_60 rfl rfl ?_
    refine z_getr (r := (gr M a1 3)) dX7_save_61 fsX7_37_7 rfl ?_
    refine z_iload_n dX7_save_64 rfl rfl ?_
    refine z_iload dX7_save_65 rfl ?_
    refine z_iadd dX7_save_67 ?_
    obtain ⟨b6, m6, e6_, k⟩ := k
    refine Z.eqs (lv' := [(0, vr (some (a0, 5, 0))), (1, vr (some (a1, 7, 0))), (2, vi l2), (3, vi l3), (4, vi l4)]) (st' := [vi (l3 + l4), vr (some (b6, 105, m6)), vi l4, vr (gr M a0 3)]) rfl (by rw [e6_] <;> rfl) ?_
    obtain ⟨b_, k⟩ := k
    refine z_lald dX7_save_68 b_ ?_
    obtain ⟨b7, m7, e7_, k⟩ := k
    refine Z.eqs (lv' := [(0, vr (some (a0, 5, 0))), (1, vr (some (a1, 7, 0))), (2, vi l2), (3, vi l3), (4, vi l4)]) (st' := [vl (gl (sl (sl M b3 (l4).toNatClampNeg (gl M b2 ((l3 + l4)).toNatClampNeg)) b5 (l4).toNatClampNeg (gl (sl M b3 (l4).toNatClampNeg (gl M b2 ((l3 + l4)).toNatClampNeg)) b4 ((l3 + l4)).toNatClampNeg)) b6 ((l3 + l4)).toNatClampNeg), vi l4, vr (some (b7, 105, m7))]) rfl (by rw [e7_] <;> rfl) ?_
    obtain ⟨g_, k⟩ := k
    obtain ⟨b_, k⟩ := k
    refine z_last g_ dX7_save_69 b_ ?_
    refine z_inc (v := (l4 + (1 : Int32))) dX7_save_70 rfl rfl (by decide) (lv' := [(0, vr (some (a0, 5, 0))), (1, vr (some (a1, 7, 0))), (2, vi l2), (3, vi l3), (4, vi (l4 + (1 : Int32)))]) rfl ?_
    refine z_goto (tgt := 10) dX7_save_73 rfl ?_
    exact k
/-! ScriptTypes$Kept.restore(LScriptTypes$Work;I)V -/
theorem bX7_restore_0 : zdec cX7_restore 0 [(0, .aload_n 1, 1), (1, .iload_n 2, 1), (2, .iconst 0, 1), (3, .invokevirtual 25, 3), (6, .istore_n 3, 1), (7, .iconst 0, 1), (8, .istore 4, 2), (10, .iload 4, 2), (12, .aload_n 0, 1), (13, .getfield 21, 3), (16, .getfield 31, 3), (19, .if_icmp .gt 57, 3), (22, .aload_n 1, 1), (23, .getfield 35, 3), (26, .iload_n 3, 1), (27, .iload 4, 2)] = true := by decide +kernel
theorem dX7_restore_0 : decode cX7_restore 0 = .ok (.aload_n 1, 1) := zdec_at bX7_restore_0 0 rfl
theorem dX7_restore_1 : decode cX7_restore 1 = .ok (.iload_n 2, 1) := zdec_at bX7_restore_0 1 rfl
theorem dX7_restore_2 : decode cX7_restore 2 = .ok (.iconst 0, 1) := zdec_at bX7_restore_0 2 rfl
theorem dX7_restore_3 : decode cX7_restore 3 = .ok (.invokevirtual 25, 3) := zdec_at bX7_restore_0 3 rfl
theorem dX7_restore_6 : decode cX7_restore 6 = .ok (.istore_n 3, 1) := zdec_at bX7_restore_0 4 rfl
theorem dX7_restore_7 : decode cX7_restore 7 = .ok (.iconst 0, 1) := zdec_at bX7_restore_0 5 rfl
theorem dX7_restore_8 : decode cX7_restore 8 = .ok (.istore 4, 2) := zdec_at bX7_restore_0 6 rfl
theorem dX7_restore_10 : decode cX7_restore 10 = .ok (.iload 4, 2) := zdec_at bX7_restore_0 7 rfl
theorem dX7_restore_12 : decode cX7_restore 12 = .ok (.aload_n 0, 1) := zdec_at bX7_restore_0 8 rfl
theorem dX7_restore_13 : decode cX7_restore 13 = .ok (.getfield 21, 3) := zdec_at bX7_restore_0 9 rfl
theorem dX7_restore_16 : decode cX7_restore 16 = .ok (.getfield 31, 3) := zdec_at bX7_restore_0 10 rfl
theorem dX7_restore_19 : decode cX7_restore 19 = .ok (.if_icmp .gt 57, 3) := zdec_at bX7_restore_0 11 rfl
theorem dX7_restore_22 : decode cX7_restore 22 = .ok (.aload_n 1, 1) := zdec_at bX7_restore_0 12 rfl
theorem dX7_restore_23 : decode cX7_restore 23 = .ok (.getfield 35, 3) := zdec_at bX7_restore_0 13 rfl
theorem dX7_restore_26 : decode cX7_restore 26 = .ok (.iload_n 3, 1) := zdec_at bX7_restore_0 14 rfl
theorem dX7_restore_27 : decode cX7_restore 27 = .ok (.iload 4, 2) := zdec_at bX7_restore_0 15 rfl
theorem bX7_restore_29 : zdec cX7_restore 29 [(29, .iadd, 1), (30, .aload_n 0, 1), (31, .getfield 9, 3), (34, .iload 4, 2), (36, .laload, 1), (37, .lastore, 1), (38, .aload_n 1, 1), (39, .getfield 36, 3), (42, .iload_n 3, 1), (43, .iload 4, 2), (45, .iadd, 1), (46, .aload_n 0, 1), (47, .getfield 15, 3), (50, .iload 4, 2), (52, .laload, 1), (53, .lastore, 1)] = true := by decide +kernel
theorem dX7_restore_29 : decode cX7_restore 29 = .ok (.iadd, 1) := zdec_at bX7_restore_29 0 rfl
theorem dX7_restore_30 : decode cX7_restore 30 = .ok (.aload_n 0, 1) := zdec_at bX7_restore_29 1 rfl
theorem dX7_restore_31 : decode cX7_restore 31 = .ok (.getfield 9, 3) := zdec_at bX7_restore_29 2 rfl
theorem dX7_restore_34 : decode cX7_restore 34 = .ok (.iload 4, 2) := zdec_at bX7_restore_29 3 rfl
theorem dX7_restore_36 : decode cX7_restore 36 = .ok (.laload, 1) := zdec_at bX7_restore_29 4 rfl
theorem dX7_restore_37 : decode cX7_restore 37 = .ok (.lastore, 1) := zdec_at bX7_restore_29 5 rfl
theorem dX7_restore_38 : decode cX7_restore 38 = .ok (.aload_n 1, 1) := zdec_at bX7_restore_29 6 rfl
theorem dX7_restore_39 : decode cX7_restore 39 = .ok (.getfield 36, 3) := zdec_at bX7_restore_29 7 rfl
theorem dX7_restore_42 : decode cX7_restore 42 = .ok (.iload_n 3, 1) := zdec_at bX7_restore_29 8 rfl
theorem dX7_restore_43 : decode cX7_restore 43 = .ok (.iload 4, 2) := zdec_at bX7_restore_29 9 rfl
theorem dX7_restore_45 : decode cX7_restore 45 = .ok (.iadd, 1) := zdec_at bX7_restore_29 10 rfl
theorem dX7_restore_46 : decode cX7_restore 46 = .ok (.aload_n 0, 1) := zdec_at bX7_restore_29 11 rfl
theorem dX7_restore_47 : decode cX7_restore 47 = .ok (.getfield 15, 3) := zdec_at bX7_restore_29 12 rfl
theorem dX7_restore_50 : decode cX7_restore 50 = .ok (.iload 4, 2) := zdec_at bX7_restore_29 13 rfl
theorem dX7_restore_52 : decode cX7_restore 52 = .ok (.laload, 1) := zdec_at bX7_restore_29 14 rfl
theorem dX7_restore_53 : decode cX7_restore 53 = .ok (.lastore, 1) := zdec_at bX7_restore_29 15 rfl
theorem bX7_restore_54 : zdec cX7_restore 54 [(54, .aload_n 1, 1), (55, .getfield 37, 3), (58, .iload_n 3, 1), (59, .iload 4, 2), (61, .iadd, 1), (62, .aload_n 0, 1), (63, .getfield 18, 3), (66, .iload 4, 2), (68, .laload, 1), (69, .lastore, 1), (70, .iinc 4 1, 3), (73, .goto (-63), 3), (76, .aload_n 1, 1), (77, .getfield 38, 3), (80, .iload_n 2, 1), (81, .aload_n 0, 1)] = true := by decide +kernel
theorem dX7_restore_54 : decode cX7_restore 54 = .ok (.aload_n 1, 1) := zdec_at bX7_restore_54 0 rfl
theorem dX7_restore_55 : decode cX7_restore 55 = .ok (.getfield 37, 3) := zdec_at bX7_restore_54 1 rfl
theorem dX7_restore_58 : decode cX7_restore 58 = .ok (.iload_n 3, 1) := zdec_at bX7_restore_54 2 rfl
theorem dX7_restore_59 : decode cX7_restore 59 = .ok (.iload 4, 2) := zdec_at bX7_restore_54 3 rfl
theorem dX7_restore_61 : decode cX7_restore 61 = .ok (.iadd, 1) := zdec_at bX7_restore_54 4 rfl
theorem dX7_restore_62 : decode cX7_restore 62 = .ok (.aload_n 0, 1) := zdec_at bX7_restore_54 5 rfl
theorem dX7_restore_63 : decode cX7_restore 63 = .ok (.getfield 18, 3) := zdec_at bX7_restore_54 6 rfl
theorem dX7_restore_66 : decode cX7_restore 66 = .ok (.iload 4, 2) := zdec_at bX7_restore_54 7 rfl
theorem dX7_restore_68 : decode cX7_restore 68 = .ok (.laload, 1) := zdec_at bX7_restore_54 8 rfl
theorem dX7_restore_69 : decode cX7_restore 69 = .ok (.lastore, 1) := zdec_at bX7_restore_54 9 rfl
theorem dX7_restore_70 : decode cX7_restore 70 = .ok (.iinc 4 1, 3) := zdec_at bX7_restore_54 10 rfl
theorem dX7_restore_73 : decode cX7_restore 73 = .ok (.goto (-63), 3) := zdec_at bX7_restore_54 11 rfl
theorem dX7_restore_76 : decode cX7_restore 76 = .ok (.aload_n 1, 1) := zdec_at bX7_restore_54 12 rfl
theorem dX7_restore_77 : decode cX7_restore 77 = .ok (.getfield 38, 3) := zdec_at bX7_restore_54 13 rfl
theorem dX7_restore_80 : decode cX7_restore 80 = .ok (.iload_n 2, 1) := zdec_at bX7_restore_54 14 rfl
theorem dX7_restore_81 : decode cX7_restore 81 = .ok (.aload_n 0, 1) := zdec_at bX7_restore_54 15 rfl
theorem bX7_restore_82 : zdec cX7_restore 82 [(82, .getfield 41, 3), (85, .lastore, 1), (86, .aload_n 1, 1), (87, .getfield 44, 3), (90, .iload_n 2, 1), (91, .aload_n 0, 1), (92, .getfield 48, 3), (95, .bastore, 1), (96, .return_, 1)] = true := by decide +kernel
theorem dX7_restore_82 : decode cX7_restore 82 = .ok (.getfield 41, 3) := zdec_at bX7_restore_82 0 rfl
theorem dX7_restore_85 : decode cX7_restore 85 = .ok (.lastore, 1) := zdec_at bX7_restore_82 1 rfl
theorem dX7_restore_86 : decode cX7_restore 86 = .ok (.aload_n 1, 1) := zdec_at bX7_restore_82 2 rfl
theorem dX7_restore_87 : decode cX7_restore 87 = .ok (.getfield 44, 3) := zdec_at bX7_restore_82 3 rfl
theorem dX7_restore_90 : decode cX7_restore 90 = .ok (.iload_n 2, 1) := zdec_at bX7_restore_82 4 rfl
theorem dX7_restore_91 : decode cX7_restore 91 = .ok (.aload_n 0, 1) := zdec_at bX7_restore_82 5 rfl
theorem dX7_restore_92 : decode cX7_restore 92 = .ok (.getfield 48, 3) := zdec_at bX7_restore_82 6 rfl
theorem dX7_restore_95 : decode cX7_restore 95 = .ok (.bastore, 1) := zdec_at bX7_restore_82 7 rfl
theorem dX7_restore_96 : decode cX7_restore 96 = .ok (.return_, 1) := zdec_at bX7_restore_82 8 rfl
theorem sX7_restore_0 {E : zE} {d : Nat} {Q : zO → zM → Prop} (M : zM) (a0 : Nat) (r1 : Option zP) (l2 : Int32) (k : ∃ b1 : Nat, r1 = some (b1, 7, 0) ∧ (Z E YX43_cell d M (zargs 0 [vr (some (b1, 7, 0)), vi l2, vi (0 : Int32)]) 0 [] (zafter E YX7_restore (d + 1) [(0, vr (some (a0, 5, 0))), (1, vr (some (b1, 7, 0))), (2, vi l2)] 3 3 [] Q))) : Z E YX7_restore (d + 1) M [(0, vr (some (a0, 5, 0))), (1, vr r1), (2, vi l2)] 0 [] Q := by
  refine z_aload_n dX7_restore_0 rfl rfl ?_
  refine z_iload_n dX7_restore_1 rfl rfl ?_
  refine z_iconst (v := 0) dX7_restore_2 rfl ?_
  obtain ⟨b1, e1_, k⟩ := k
  refine Z.eqs (lv' := [(0, vr (some (a0, 5, 0))), (1, vr (some (b1, 7, 0))), (2, vi l2)]) (st' := [vi (0 : Int32), vi l2, vr (some (b1, 7, 0))]) (by rw [e1_] <;> rfl) (by rw [e1_] <;> rfl) ?_
  exact z_callV (as := [vi l2, vi (0 : Int32)]) (st := []) dX7_restore_3 vsX7_25_7 (Nat.le_refl _) (Nat.le_of_ble_eq_true rfl) (Nat.le_of_ble_eq_true rfl) rfl k
theorem sX7_restore_6 {E : zE} {d : Nat} {Q : zO → zM → Prop} (M : zM) (a0 : Nat) (a1 : Nat) (l2 : Int32) (s0 : Int32) (k : Z E YX7_restore (d + 1) M [(0, vr (some (a0, 5, 0))), (1, vr (some (a1, 7, 0))), (2, vi l2), (3, vi s0), (4, vi (0 : Int32))] 10 [] Q) : Z E YX7_restore (d + 1) M [(0, vr (some (a0, 5, 0))), (1, vr (some (a1, 7, 0))), (2, vi l2)] 6 [vi s0] Q := by
  refine z_ist_n dX7_restore_6 rfl (by decide) (lv' := [(0, vr (some (a0, 5, 0))), (1, vr (some (a1, 7, 0))), (2, vi l2), (3, vi s0)]) rfl ?_
  refine z_iconst (v := 0) dX7_restore_7 rfl ?_
  refine z_ist dX7_restore_8 (by decide) (lv' := [(0, vr (some (a0, 5, 0))), (1, vr (some (a1, 7, 0))), (2, vi l2), (3, vi s0), (4, vi (0 : Int32))]) rfl ?_
  exact k
theorem sX7_restore_10 {E : zE} {d : Nat} {Q : zO → zM → Prop} (M : zM) (a0 : Nat) (a1 : Nat) (l2 : Int32) (l3 : Int32) (l4 : Int32) (k : ∃ b1 : Nat, (gr M a0 0) = some (b1, 0, 0) ∧ (if (gi M b1 1) < l4 then (∃ b2 m2 : Nat, (gr M a1 4) = some (b2, 105, m2) ∧ (16 ≤ b2 ∧ (vp_in l2 m2 ∧ (∃ b3 m3 : Nat, (gr M a1 8) = some (b3, 104, m3) ∧ (16 ≤ b3 ∧ (vp_in l2 m3 ∧ (Q (.inl none) (si (sl M b2 (l2).toNatClampNeg (gl M a0 4)) b3 (l2).toNatClampNeg (vp_nar .boolean (gi M a0 5)))))))))) else (∃ b2 m2 : Nat, (gr M a0 1) = some (b2, 105, m2) ∧ (vp_in l4 m2 ∧ (∃ b3 m3 : Nat, (gr M a1 1) = some (b3, 105, m3) ∧ (16 ≤ b3 ∧ (vp_in (l3 + l4) m3 ∧ (∃ b4 m4 : Nat, (gr M a0 2) = some (b4, 105, m4) ∧ (vp_in l4 m4 ∧ (∃ b5 m5 : Nat, (gr M a1 2) = some (b5, 105, m5) ∧ (16 ≤ b5 ∧ (vp_in (l3 + l4) m5 ∧ (∃ b6 m6 : Nat, (gr M a0 3) = some (b6, 105, m6) ∧ (vp_in l4 m6 ∧ (∃ b7 m7 : Nat, (gr M a1 3) = some (b7, 105, m7) ∧ (16 ≤ b7 ∧ (vp_in (l3 + l4) m7 ∧ (Z E YX7_restore (d + 1) (sl (sl (sl M b3 ((l3 + l4)).toNatClampNeg (gl M b2 (l4).toNatClampNeg)) b5 ((l3 + l4)).toNatClampNeg (gl (sl M b3 ((l3 + l4)).toNatClampNeg (gl M b2 (l4).toNatClampNeg)) b4 (l4).toNatClampNeg)) b7 ((l3 + l4)).toNatClampNeg (gl (sl (sl M b3 ((l3 + l4)).toNatClampNeg (gl M b2 (l4).toNatClampNeg)) b5 ((l3 + l4)).toNatClampNeg (gl (sl M b3 ((l3 + l4)).toNatClampNeg (gl M b2 (l4).toNatClampNeg)) b4 (l4).toNatClampNeg)) b6 (l4).toNatClampNeg)) [(0, vr (some (a0, 5, 0))), (1, vr (some (a1, 7, 0))), (2, vi l2), (3, vi l3), (4, vi (l4 + (1 : Int32)))] 10 [] Q)))))))))))))))))) : Z E YX7_restore (d + 1) M [(0, vr (some (a0, 5, 0))), (1, vr (some (a1, 7, 0))), (2, vi l2), (3, vi l3), (4, vi l4)] 10 [] Q := by
  refine z_iload dX7_restore_10 rfl ?_
  refine z_aload_n dX7_restore_12 rfl rfl ?_
  refine z_getr (r := (gr M a0 0)) dX7_restore_13 fsX7_21_5 rfl ?_
  obtain ⟨b1, e1_, k⟩ := k
  refine Z.eqs (lv' := [(0, vr (some (a0, 5, 0))), (1, vr (some (a1, 7, 0))), (2, vi l2), (3, vi l3), (4, vi l4)]) (st' := [vr (some (b1, 0, 0)), vi l4]) rfl (by rw [e1_] <;> rfl) ?_
  refine z_geti dX7_restore_16 fsX7_31_0 ?_
  refine z_icmp_gt (tgt := 76) dX7_restore_19 rfl (fun h_ => ?_) (fun h_ => ?_)
  · have k := zit h_ k
    refine z_aload_n dX7_restore_76 rfl rfl ?_
    refine z_getr (r := (gr M a1 4)) dX7_restore_77 fsX7_38_7 rfl ?_
    refine z_iload_n dX7_restore_80 rfl rfl ?_
    refine z_aload_n dX7_restore_81 rfl rfl ?_
    refine z_getl dX7_restore_82 fsX7_41_5 ?_
    obtain ⟨b2, m2, e2_, k⟩ := k
    refine Z.eqs (lv' := [(0, vr (some (a0, 5, 0))), (1, vr (some (a1, 7, 0))), (2, vi l2), (3, vi l3), (4, vi l4)]) (st' := [vl (gl M a0 4), vi l2, vr (some (b2, 105, m2))]) rfl (by rw [e2_] <;> rfl) ?_
    obtain ⟨g_, k⟩ := k
    obtain ⟨b_, k⟩ := k
    refine z_last g_ dX7_restore_85 b_ ?_
    refine z_aload_n dX7_restore_86 rfl rfl ?_
    refine z_getr (r := (gr M a1 8)) dX7_restore_87 fsX7_44_7 rfl ?_
    refine z_iload_n dX7_restore_90 rfl rfl ?_
    refine z_aload_n dX7_restore_91 rfl rfl ?_
    refine z_geti dX7_restore_92 fsX7_48_5 ?_
    obtain ⟨b3, m3, e3_, k⟩ := k
    refine Z.eqs (lv' := [(0, vr (some (a0, 5, 0))), (1, vr (some (a1, 7, 0))), (2, vi l2), (3, vi l3), (4, vi l4)]) (st' := [vi (gi M a0 5), vi l2, vr (some (b3, 104, m3))]) rfl (by rw [e3_] <;> rfl) ?_
    obtain ⟨g_, k⟩ := k
    obtain ⟨b_, k⟩ := k
    refine z_zast g_ dX7_restore_95 b_ ?_
    exact z_vret dX7_restore_96 rfl k
  · have k := zif h_ k
    refine z_aload_n dX7_restore_22 rfl rfl ?_
    refine z_getr (r := (gr M a1 1)) dX7_restore_23 fsX7_35_7 rfl ?_
    refine z_iload_n dX7_restore_26 rfl rfl ?_
    refine z_iload dX7_restore_27 rfl ?_
    refine z_iadd dX7_restore_29 ?_
    refine z_aload_n dX7_restore_30 rfl rfl ?_
    refine z_getr (r := (gr M a0 1)) dX7_restore_31 fsX7_9_5 rfl ?_
    refine z_iload dX7_restore_34 rfl ?_
    obtain ⟨b2, m2, e2_, k⟩ := k
    refine Z.eqs (lv' := [(0, vr (some (a0, 5, 0))), (1, vr (some (a1, 7, 0))), (2, vi l2), (3, vi l3), (4, vi l4)]) (st' := [vi l4, vr (some (b2, 105, m2)), vi (l3 + l4), vr (gr M a1 1)]) rfl (by rw [e2_] <;> rfl) ?_
    obtain ⟨b_, k⟩ := k
    refine z_lald dX7_restore_36 b_ ?_
    obtain ⟨b3, m3, e3_, k⟩ := k
    refine Z.eqs (lv' := [(0, vr (some (a0, 5, 0))), (1, vr (some (a1, 7, 0))), (2, vi l2), (3, vi l3), (4, vi l4)]) (st' := [vl (gl M b2 (l4).toNatClampNeg), vi (l3 + l4), vr (some (b3, 105, m3))]) rfl (by rw [e3_] <;> rfl) ?_
    obtain ⟨g_, k⟩ := k
    obtain ⟨b_, k⟩ := k
    refine z_last g_ dX7_restore_37 b_ ?_
    refine z_aload_n dX7_restore_38 rfl rfl ?_
    refine z_getr (r := (gr M a1 2)) dX7_restore_39 fsX7_36_7 rfl ?_
    refine z_iload_n dX7_restore_42 rfl rfl ?_
    refine z_iload dX7_restore_43 rfl ?_
    refine z_iadd dX7_restore_45 ?_
    refine z_aload_n dX7_restore_46 rfl rfl ?_
    refine z_getr (r := (gr M a0 2)) dX7_restore_47 fsX7_15_5 rfl ?_
    refine z_iload dX7_restore_50 rfl ?_
    obtain ⟨b4, m4, e4_, k⟩ := k
    refine Z.eqs (lv' := [(0, vr (some (a0, 5, 0))), (1, vr (some (a1, 7, 0))), (2, vi l2), (3, vi l3), (4, vi l4)]) (st' := [vi l4, vr (some (b4, 105, m4)), vi (l3 + l4), vr (gr M a1 2)]) rfl (by rw [e4_] <;> rfl) ?_
    obtain ⟨b_, k⟩ := k
    refine z_lald dX7_restore_52 b_ ?_
    obtain ⟨b5, m5, e5_, k⟩ := k
    refine Z.eqs (lv' := [(0, vr (some (a0, 5, 0))), (1, vr (some (a1, 7, 0))), (2, vi l2), (3, vi l3), (4, vi l4)]) (st' := [vl (gl (sl M b3 ((l3 + l4)).toNatClampNeg (gl M b2 (l4).toNatClampNeg)) b4 (l4).toNatClampNeg), vi (l3 + l4), vr (some (b5, 105, m5))]) rfl (by rw [e5_] <;> rfl) ?_
    obtain ⟨g_, k⟩ := k
    obtain ⟨b_, k⟩ := k
    refine z_last g_ dX7_restore_53 b_ ?_
    refine z_aload_n dX7_restore_54 rfl rfl ?_
    refine z_getr (r := (gr M a1 3)) dX7_restore_55 fsX7_37_7 rfl ?_
    refine z_iload_n dX7_restore_58 rfl rfl ?_
    refine z_iload dX7_restore_59 rfl ?_
    refine z_iadd dX7_restore_61 ?_
    refine z_aload_n dX7_restore_62 rfl rfl ?_
    refine z_getr (r := (gr M a0 3)) dX7_restore_63 fsX7_18_5 rfl ?_
    refine z_iload dX7_restore_66 rfl ?_
    obtain ⟨b6, m6, e6_, k⟩ := k
    refine Z.eqs (lv' := [(0, vr (some (a0, 5, 0))), (1, vr (some (a1, 7, 0))), (2, vi l2), (3, vi l3), (4, vi l4)]) (st' := [vi l4, vr (some (b6, 105, m6)), vi (l3 + l4), vr (gr M a1 3)]) rfl (by rw [e6_] <;> rfl) ?_
    obtain ⟨b_, k⟩ := k
    refine z_lald dX7_restore_68 b_ ?_
    obtain ⟨b7, m7, e7_, k⟩ := k
    refine Z.eqs (lv' := [(0, vr (some (a0, 5, 0))), (1, vr (some (a1, 7, 0))), (2, vi l2), (3, vi l3), (4, vi l4)]) (st' := [vl (gl (sl (sl M b3 ((l3 + l4)).toNatClampNeg (gl M b2 (l4).toNatClampNeg)) b5 ((l3 + l4)).toNatClampNeg (gl (sl M b3 ((l3 + l4)).toNatClampNeg (gl M b2 (l4).toNatClampNeg)) b4 (l4).toNatClampNeg)) b6 (l4).toNatClampNeg), vi (l3 + l4), vr (some (b7, 105, m7))]) rfl (by rw [e7_] <;> rfl) ?_
    obtain ⟨g_, k⟩ := k
    obtain ⟨b_, k⟩ := k
    refine z_last g_ dX7_restore_69 b_ ?_
    refine z_inc (v := (l4 + (1 : Int32))) dX7_restore_70 rfl rfl (by decide) (lv' := [(0, vr (some (a0, 5, 0))), (1, vr (some (a1, 7, 0))), (2, vi l2), (3, vi l3), (4, vi (l4 + (1 : Int32)))]) rfl ?_
    refine z_goto (tgt := 10) dX7_restore_73 rfl ?_
    exact k
/-! ScriptTypes$Table.<init>(LScriptTypes;)V -/
theorem bX42_init_0 : zdec cX42_init 0 [(0, .aload_n 0, 1), (1, .invokespecial 3, 3), (4, .aload_n 0, 1), (5, .ldc 9, 2), (7, .newarray .long, 2), (9, .putfield 10, 3), (12, .aload_n 0, 1), (13, .ldc 9, 2), (15, .newarray .long, 2), (17, .putfield 16, 3), (20, .aload_n 0, 1), (21, .ldc 9, 2), (23, .newarray .long, 2), (25, .putfield 19, 3), (28, .aload_n 0, 1), (29, .sipush 15000, 3)] = true := by decide +kernel
theorem dX42_init_0 : decode cX42_init 0 = .ok (.aload_n 0, 1) := zdec_at bX42_init_0 0 rfl
theorem dX42_init_1 : decode cX42_init 1 = .ok (.invokespecial 3, 3) := zdec_at bX42_init_0 1 rfl
theorem dX42_init_4 : decode cX42_init 4 = .ok (.aload_n 0, 1) := zdec_at bX42_init_0 2 rfl
theorem dX42_init_5 : decode cX42_init 5 = .ok (.ldc 9, 2) := zdec_at bX42_init_0 3 rfl
theorem dX42_init_7 : decode cX42_init 7 = .ok (.newarray .long, 2) := zdec_at bX42_init_0 4 rfl
theorem dX42_init_9 : decode cX42_init 9 = .ok (.putfield 10, 3) := zdec_at bX42_init_0 5 rfl
theorem dX42_init_12 : decode cX42_init 12 = .ok (.aload_n 0, 1) := zdec_at bX42_init_0 6 rfl
theorem dX42_init_13 : decode cX42_init 13 = .ok (.ldc 9, 2) := zdec_at bX42_init_0 7 rfl
theorem dX42_init_15 : decode cX42_init 15 = .ok (.newarray .long, 2) := zdec_at bX42_init_0 8 rfl
theorem dX42_init_17 : decode cX42_init 17 = .ok (.putfield 16, 3) := zdec_at bX42_init_0 9 rfl
theorem dX42_init_20 : decode cX42_init 20 = .ok (.aload_n 0, 1) := zdec_at bX42_init_0 10 rfl
theorem dX42_init_21 : decode cX42_init 21 = .ok (.ldc 9, 2) := zdec_at bX42_init_0 11 rfl
theorem dX42_init_23 : decode cX42_init 23 = .ok (.newarray .long, 2) := zdec_at bX42_init_0 12 rfl
theorem dX42_init_25 : decode cX42_init 25 = .ok (.putfield 19, 3) := zdec_at bX42_init_0 13 rfl
theorem dX42_init_28 : decode cX42_init 28 = .ok (.aload_n 0, 1) := zdec_at bX42_init_0 14 rfl
theorem dX42_init_29 : decode cX42_init 29 = .ok (.sipush 15000, 3) := zdec_at bX42_init_0 15 rfl
theorem bX42_init_32 : zdec cX42_init 32 [(32, .newarray .long, 2), (34, .putfield 22, 3), (37, .aload_n 0, 1), (38, .sipush 15000, 3), (41, .newarray .long, 2), (43, .putfield 25, 3), (46, .aload_n 0, 1), (47, .sipush 15000, 3), (50, .newarray .long, 2), (52, .putfield 28, 3), (55, .aload_n 0, 1), (56, .sipush 15000, 3), (59, .newarray .long, 2), (61, .putfield 31, 3), (64, .aload_n 0, 1), (65, .sipush 15000, 3)] = true := by decide +kernel
theorem dX42_init_32 : decode cX42_init 32 = .ok (.newarray .long, 2) := zdec_at bX42_init_32 0 rfl
theorem dX42_init_34 : decode cX42_init 34 = .ok (.putfield 22, 3) := zdec_at bX42_init_32 1 rfl
theorem dX42_init_37 : decode cX42_init 37 = .ok (.aload_n 0, 1) := zdec_at bX42_init_32 2 rfl
theorem dX42_init_38 : decode cX42_init 38 = .ok (.sipush 15000, 3) := zdec_at bX42_init_32 3 rfl
theorem dX42_init_41 : decode cX42_init 41 = .ok (.newarray .long, 2) := zdec_at bX42_init_32 4 rfl
theorem dX42_init_43 : decode cX42_init 43 = .ok (.putfield 25, 3) := zdec_at bX42_init_32 5 rfl
theorem dX42_init_46 : decode cX42_init 46 = .ok (.aload_n 0, 1) := zdec_at bX42_init_32 6 rfl
theorem dX42_init_47 : decode cX42_init 47 = .ok (.sipush 15000, 3) := zdec_at bX42_init_32 7 rfl
theorem dX42_init_50 : decode cX42_init 50 = .ok (.newarray .long, 2) := zdec_at bX42_init_32 8 rfl
theorem dX42_init_52 : decode cX42_init 52 = .ok (.putfield 28, 3) := zdec_at bX42_init_32 9 rfl
theorem dX42_init_55 : decode cX42_init 55 = .ok (.aload_n 0, 1) := zdec_at bX42_init_32 10 rfl
theorem dX42_init_56 : decode cX42_init 56 = .ok (.sipush 15000, 3) := zdec_at bX42_init_32 11 rfl
theorem dX42_init_59 : decode cX42_init 59 = .ok (.newarray .long, 2) := zdec_at bX42_init_32 12 rfl
theorem dX42_init_61 : decode cX42_init 61 = .ok (.putfield 31, 3) := zdec_at bX42_init_32 13 rfl
theorem dX42_init_64 : decode cX42_init 64 = .ok (.aload_n 0, 1) := zdec_at bX42_init_32 14 rfl
theorem dX42_init_65 : decode cX42_init 65 = .ok (.sipush 15000, 3) := zdec_at bX42_init_32 15 rfl
theorem bX42_init_68 : zdec cX42_init 68 [(68, .newarray .byte, 2), (70, .putfield 34, 3), (73, .aload_n 0, 1), (74, .sipush 624, 3), (77, .newarray .int, 2), (79, .putfield 38, 3), (82, .aload_n 0, 1), (83, .sipush 624, 3), (86, .newarray .int, 2), (88, .putfield 42, 3), (91, .aload_n 0, 1), (92, .sipush 624, 3), (95, .newarray .long, 2), (97, .putfield 45, 3), (100, .aload_n 0, 1), (101, .sipush 624, 3)] = true := by decide +kernel
theorem dX42_init_68 : decode cX42_init 68 = .ok (.newarray .byte, 2) := zdec_at bX42_init_68 0 rfl
theorem dX42_init_70 : decode cX42_init 70 = .ok (.putfield 34, 3) := zdec_at bX42_init_68 1 rfl
theorem dX42_init_73 : decode cX42_init 73 = .ok (.aload_n 0, 1) := zdec_at bX42_init_68 2 rfl
theorem dX42_init_74 : decode cX42_init 74 = .ok (.sipush 624, 3) := zdec_at bX42_init_68 3 rfl
theorem dX42_init_77 : decode cX42_init 77 = .ok (.newarray .int, 2) := zdec_at bX42_init_68 4 rfl
theorem dX42_init_79 : decode cX42_init 79 = .ok (.putfield 38, 3) := zdec_at bX42_init_68 5 rfl
theorem dX42_init_82 : decode cX42_init 82 = .ok (.aload_n 0, 1) := zdec_at bX42_init_68 6 rfl
theorem dX42_init_83 : decode cX42_init 83 = .ok (.sipush 624, 3) := zdec_at bX42_init_68 7 rfl
theorem dX42_init_86 : decode cX42_init 86 = .ok (.newarray .int, 2) := zdec_at bX42_init_68 8 rfl
theorem dX42_init_88 : decode cX42_init 88 = .ok (.putfield 42, 3) := zdec_at bX42_init_68 9 rfl
theorem dX42_init_91 : decode cX42_init 91 = .ok (.aload_n 0, 1) := zdec_at bX42_init_68 10 rfl
theorem dX42_init_92 : decode cX42_init 92 = .ok (.sipush 624, 3) := zdec_at bX42_init_68 11 rfl
theorem dX42_init_95 : decode cX42_init 95 = .ok (.newarray .long, 2) := zdec_at bX42_init_68 12 rfl
theorem dX42_init_97 : decode cX42_init 97 = .ok (.putfield 45, 3) := zdec_at bX42_init_68 13 rfl
theorem dX42_init_100 : decode cX42_init 100 = .ok (.aload_n 0, 1) := zdec_at bX42_init_68 14 rfl
theorem dX42_init_101 : decode cX42_init 101 = .ok (.sipush 624, 3) := zdec_at bX42_init_68 15 rfl
theorem bX42_init_104 : zdec cX42_init 104 [(104, .newarray .long, 2), (106, .putfield 48, 3), (109, .aload_n 0, 1), (110, .sipush 624, 3), (113, .newarray .long, 2), (115, .putfield 51, 3), (118, .aload_n 0, 1), (119, .sipush 624, 3), (122, .newarray .long, 2), (124, .putfield 54, 3), (127, .aload_n 0, 1), (128, .sipush 624, 3), (131, .newarray .long, 2), (133, .putfield 57, 3), (136, .aload_n 0, 1), (137, .sipush 4096, 3)] = true := by decide +kernel
theorem dX42_init_104 : decode cX42_init 104 = .ok (.newarray .long, 2) := zdec_at bX42_init_104 0 rfl
theorem dX42_init_106 : decode cX42_init 106 = .ok (.putfield 48, 3) := zdec_at bX42_init_104 1 rfl
theorem dX42_init_109 : decode cX42_init 109 = .ok (.aload_n 0, 1) := zdec_at bX42_init_104 2 rfl
theorem dX42_init_110 : decode cX42_init 110 = .ok (.sipush 624, 3) := zdec_at bX42_init_104 3 rfl
theorem dX42_init_113 : decode cX42_init 113 = .ok (.newarray .long, 2) := zdec_at bX42_init_104 4 rfl
theorem dX42_init_115 : decode cX42_init 115 = .ok (.putfield 51, 3) := zdec_at bX42_init_104 5 rfl
theorem dX42_init_118 : decode cX42_init 118 = .ok (.aload_n 0, 1) := zdec_at bX42_init_104 6 rfl
theorem dX42_init_119 : decode cX42_init 119 = .ok (.sipush 624, 3) := zdec_at bX42_init_104 7 rfl
theorem dX42_init_122 : decode cX42_init 122 = .ok (.newarray .long, 2) := zdec_at bX42_init_104 8 rfl
theorem dX42_init_124 : decode cX42_init 124 = .ok (.putfield 54, 3) := zdec_at bX42_init_104 9 rfl
theorem dX42_init_127 : decode cX42_init 127 = .ok (.aload_n 0, 1) := zdec_at bX42_init_104 10 rfl
theorem dX42_init_128 : decode cX42_init 128 = .ok (.sipush 624, 3) := zdec_at bX42_init_104 11 rfl
theorem dX42_init_131 : decode cX42_init 131 = .ok (.newarray .long, 2) := zdec_at bX42_init_104 12 rfl
theorem dX42_init_133 : decode cX42_init 133 = .ok (.putfield 57, 3) := zdec_at bX42_init_104 13 rfl
theorem dX42_init_136 : decode cX42_init 136 = .ok (.aload_n 0, 1) := zdec_at bX42_init_104 14 rfl
theorem dX42_init_137 : decode cX42_init 137 = .ok (.sipush 4096, 3) := zdec_at bX42_init_104 15 rfl
theorem bX42_init_140 : zdec cX42_init 140 [(140, .newarray .long, 2), (142, .putfield 60, 3), (145, .aload_n 0, 1), (146, .sipush 4096, 3), (149, .newarray .long, 2), (151, .putfield 63, 3), (154, .aload_n 0, 1), (155, .sipush 4096, 3), (158, .newarray .long, 2), (160, .putfield 66, 3), (163, .aload_n 0, 1), (164, .aload_n 1, 1), (165, .putfield 69, 3), (168, .return_, 1)] = true := by decide +kernel
theorem dX42_init_140 : decode cX42_init 140 = .ok (.newarray .long, 2) := zdec_at bX42_init_140 0 rfl
theorem dX42_init_142 : decode cX42_init 142 = .ok (.putfield 60, 3) := zdec_at bX42_init_140 1 rfl
theorem dX42_init_145 : decode cX42_init 145 = .ok (.aload_n 0, 1) := zdec_at bX42_init_140 2 rfl
theorem dX42_init_146 : decode cX42_init 146 = .ok (.sipush 4096, 3) := zdec_at bX42_init_140 3 rfl
theorem dX42_init_149 : decode cX42_init 149 = .ok (.newarray .long, 2) := zdec_at bX42_init_140 4 rfl
theorem dX42_init_151 : decode cX42_init 151 = .ok (.putfield 63, 3) := zdec_at bX42_init_140 5 rfl
theorem dX42_init_154 : decode cX42_init 154 = .ok (.aload_n 0, 1) := zdec_at bX42_init_140 6 rfl
theorem dX42_init_155 : decode cX42_init 155 = .ok (.sipush 4096, 3) := zdec_at bX42_init_140 7 rfl
theorem dX42_init_158 : decode cX42_init 158 = .ok (.newarray .long, 2) := zdec_at bX42_init_140 8 rfl
theorem dX42_init_160 : decode cX42_init 160 = .ok (.putfield 66, 3) := zdec_at bX42_init_140 9 rfl
theorem dX42_init_163 : decode cX42_init 163 = .ok (.aload_n 0, 1) := zdec_at bX42_init_140 10 rfl
theorem dX42_init_164 : decode cX42_init 164 = .ok (.aload_n 1, 1) := zdec_at bX42_init_140 11 rfl
theorem dX42_init_165 : decode cX42_init 165 = .ok (.putfield 69, 3) := zdec_at bX42_init_140 12 rfl
theorem dX42_init_168 : decode cX42_init 168 = .ok (.return_, 1) := zdec_at bX42_init_140 13 rfl
theorem sX42_init_0 {E : zE} {d : Nat} {Q : zO → zM → Prop} (M : zM) (a0 : Nat) (r1 : Option zP) (k : Z E YX42_init (d + 1) (zn M 465000) [(0, vr (some (a0, 6, 0))), (1, vr r1)] 9 [vr (some ((zsz M), 105, 465000)), vr (some (a0, 6, 0))] Q) : Z E YX42_init (d + 1) M [(0, vr (some (a0, 6, 0))), (1, vr r1)] 0 [] Q := by
  refine z_aload_n dX42_init_0 rfl rfl ?_
  refine z_objInit dX42_init_1 oiX42_3 (by omega) (by decide) ?_
  refine z_aload_n dX42_init_4 rfl rfl ?_
  refine z_ldc (v := 465000) dX42_init_5 q2891 ?_
  refine z_newa (q := 5) (N := 465000) dX42_init_7 rfl (by decide) q755 (by decide) (by decide) (by decide) ?_
  exact k
theorem sX42_init_9 {E : zE} {d : Nat} {Q : zO → zM → Prop} (M : zM) (a0 : Nat) (r1 : Option zP) (p0 : Nat) (k : 16 ≤ a0 ∧ (Z E YX42_init (d + 1) (zn (sr M a0 1 (some (p0, 105, 465000))) 465000) [(0, vr (some (a0, 6, 0))), (1, vr r1)] 17 [vr (some ((zsz M), 105, 465000)), vr (some (a0, 6, 0))] Q)) : Z E YX42_init (d + 1) M [(0, vr (some (a0, 6, 0))), (1, vr r1)] 9 [vr (some (p0, 105, 465000)), vr (some (a0, 6, 0))] Q := by
  obtain ⟨g_, k⟩ := k
  refine z_putr g_ dX42_init_9 (zfwN.f fwX42_10_6 rfl (fun q h => by rw [← Option.some.inj h]; rfl)) rfl ?_
  refine z_aload_n dX42_init_12 rfl rfl ?_
  refine z_ldc (v := 465000) dX42_init_13 q2891 ?_
  refine z_newa (q := 5) (N := 465000) dX42_init_15 rfl (by decide) q755 (by decide) (by decide) (by decide) ?_
  exact k
theorem sX42_init_17 {E : zE} {d : Nat} {Q : zO → zM → Prop} (M : zM) (a0 : Nat) (r1 : Option zP) (p0 : Nat) (k : 16 ≤ a0 ∧ (Z E YX42_init (d + 1) (zn (sr M a0 2 (some (p0, 105, 465000))) 465000) [(0, vr (some (a0, 6, 0))), (1, vr r1)] 25 [vr (some ((zsz M), 105, 465000)), vr (some (a0, 6, 0))] Q)) : Z E YX42_init (d + 1) M [(0, vr (some (a0, 6, 0))), (1, vr r1)] 17 [vr (some (p0, 105, 465000)), vr (some (a0, 6, 0))] Q := by
  obtain ⟨g_, k⟩ := k
  refine z_putr g_ dX42_init_17 (zfwN.f fwX42_16_6 rfl (fun q h => by rw [← Option.some.inj h]; rfl)) rfl ?_
  refine z_aload_n dX42_init_20 rfl rfl ?_
  refine z_ldc (v := 465000) dX42_init_21 q2891 ?_
  refine z_newa (q := 5) (N := 465000) dX42_init_23 rfl (by decide) q755 (by decide) (by decide) (by decide) ?_
  exact k
theorem sX42_init_25 {E : zE} {d : Nat} {Q : zO → zM → Prop} (M : zM) (a0 : Nat) (r1 : Option zP) (p0 : Nat) (k : 16 ≤ a0 ∧ (Z E YX42_init (d + 1) (zn (sr M a0 3 (some (p0, 105, 465000))) 15000) [(0, vr (some (a0, 6, 0))), (1, vr r1)] 34 [vr (some ((zsz M), 105, 15000)), vr (some (a0, 6, 0))] Q)) : Z E YX42_init (d + 1) M [(0, vr (some (a0, 6, 0))), (1, vr r1)] 25 [vr (some (p0, 105, 465000)), vr (some (a0, 6, 0))] Q := by
  obtain ⟨g_, k⟩ := k
  refine z_putr g_ dX42_init_25 (zfwN.f fwX42_19_6 rfl (fun q h => by rw [← Option.some.inj h]; rfl)) rfl ?_
  refine z_aload_n dX42_init_28 rfl rfl ?_
  refine z_sipush (v := 15000) dX42_init_29 rfl ?_
  refine z_newa (q := 5) (N := 15000) dX42_init_32 rfl (by decide) q755 (by decide) (by decide) (by decide) ?_
  exact k
theorem sX42_init_34 {E : zE} {d : Nat} {Q : zO → zM → Prop} (M : zM) (a0 : Nat) (r1 : Option zP) (p0 : Nat) (k : 16 ≤ a0 ∧ (Z E YX42_init (d + 1) (zn (sr M a0 4 (some (p0, 105, 15000))) 15000) [(0, vr (some (a0, 6, 0))), (1, vr r1)] 43 [vr (some ((zsz M), 105, 15000)), vr (some (a0, 6, 0))] Q)) : Z E YX42_init (d + 1) M [(0, vr (some (a0, 6, 0))), (1, vr r1)] 34 [vr (some (p0, 105, 15000)), vr (some (a0, 6, 0))] Q := by
  obtain ⟨g_, k⟩ := k
  refine z_putr g_ dX42_init_34 (zfwN.f fwX42_22_6 rfl (fun q h => by rw [← Option.some.inj h]; rfl)) rfl ?_
  refine z_aload_n dX42_init_37 rfl rfl ?_
  refine z_sipush (v := 15000) dX42_init_38 rfl ?_
  refine z_newa (q := 5) (N := 15000) dX42_init_41 rfl (by decide) q755 (by decide) (by decide) (by decide) ?_
  exact k
theorem sX42_init_43 {E : zE} {d : Nat} {Q : zO → zM → Prop} (M : zM) (a0 : Nat) (r1 : Option zP) (p0 : Nat) (k : 16 ≤ a0 ∧ (Z E YX42_init (d + 1) (zn (sr M a0 5 (some (p0, 105, 15000))) 15000) [(0, vr (some (a0, 6, 0))), (1, vr r1)] 52 [vr (some ((zsz M), 105, 15000)), vr (some (a0, 6, 0))] Q)) : Z E YX42_init (d + 1) M [(0, vr (some (a0, 6, 0))), (1, vr r1)] 43 [vr (some (p0, 105, 15000)), vr (some (a0, 6, 0))] Q := by
  obtain ⟨g_, k⟩ := k
  refine z_putr g_ dX42_init_43 (zfwN.f fwX42_25_6 rfl (fun q h => by rw [← Option.some.inj h]; rfl)) rfl ?_
  refine z_aload_n dX42_init_46 rfl rfl ?_
  refine z_sipush (v := 15000) dX42_init_47 rfl ?_
  refine z_newa (q := 5) (N := 15000) dX42_init_50 rfl (by decide) q755 (by decide) (by decide) (by decide) ?_
  exact k
theorem sX42_init_52 {E : zE} {d : Nat} {Q : zO → zM → Prop} (M : zM) (a0 : Nat) (r1 : Option zP) (p0 : Nat) (k : 16 ≤ a0 ∧ (Z E YX42_init (d + 1) (zn (sr M a0 6 (some (p0, 105, 15000))) 15000) [(0, vr (some (a0, 6, 0))), (1, vr r1)] 61 [vr (some ((zsz M), 105, 15000)), vr (some (a0, 6, 0))] Q)) : Z E YX42_init (d + 1) M [(0, vr (some (a0, 6, 0))), (1, vr r1)] 52 [vr (some (p0, 105, 15000)), vr (some (a0, 6, 0))] Q := by
  obtain ⟨g_, k⟩ := k
  refine z_putr g_ dX42_init_52 (zfwN.f fwX42_28_6 rfl (fun q h => by rw [← Option.some.inj h]; rfl)) rfl ?_
  refine z_aload_n dX42_init_55 rfl rfl ?_
  refine z_sipush (v := 15000) dX42_init_56 rfl ?_
  refine z_newa (q := 5) (N := 15000) dX42_init_59 rfl (by decide) q755 (by decide) (by decide) (by decide) ?_
  exact k
theorem sX42_init_61 {E : zE} {d : Nat} {Q : zO → zM → Prop} (M : zM) (a0 : Nat) (r1 : Option zP) (p0 : Nat) (k : 16 ≤ a0 ∧ (Z E YX42_init (d + 1) (zn (sr M a0 7 (some (p0, 105, 15000))) 15000) [(0, vr (some (a0, 6, 0))), (1, vr r1)] 70 [vr (some ((zsz M), 101, 15000)), vr (some (a0, 6, 0))] Q)) : Z E YX42_init (d + 1) M [(0, vr (some (a0, 6, 0))), (1, vr r1)] 61 [vr (some (p0, 105, 15000)), vr (some (a0, 6, 0))] Q := by
  obtain ⟨g_, k⟩ := k
  refine z_putr g_ dX42_init_61 (zfwN.f fwX42_31_6 rfl (fun q h => by rw [← Option.some.inj h]; rfl)) rfl ?_
  refine z_aload_n dX42_init_64 rfl rfl ?_
  refine z_sipush (v := 15000) dX42_init_65 rfl ?_
  refine z_newa (q := 1) (N := 15000) dX42_init_68 rfl (by decide) q536 (by decide) (by decide) (by decide) ?_
  exact k
theorem sX42_init_70 {E : zE} {d : Nat} {Q : zO → zM → Prop} (M : zM) (a0 : Nat) (r1 : Option zP) (p0 : Nat) (k : 16 ≤ a0 ∧ (Z E YX42_init (d + 1) (zn (sr M a0 8 (some (p0, 101, 15000))) 624) [(0, vr (some (a0, 6, 0))), (1, vr r1)] 79 [vr (some ((zsz M), 100, 624)), vr (some (a0, 6, 0))] Q)) : Z E YX42_init (d + 1) M [(0, vr (some (a0, 6, 0))), (1, vr r1)] 70 [vr (some (p0, 101, 15000)), vr (some (a0, 6, 0))] Q := by
  obtain ⟨g_, k⟩ := k
  refine z_putr g_ dX42_init_70 (zfwN.f fwX42_34_6 rfl (fun q h => by rw [← Option.some.inj h]; rfl)) rfl ?_
  refine z_aload_n dX42_init_73 rfl rfl ?_
  refine z_sipush (v := 624) dX42_init_74 rfl ?_
  refine z_newa (q := 0) (N := 624) dX42_init_77 rfl (by decide) q535 (by decide) (by decide) (by decide) ?_
  exact k
theorem sX42_init_79 {E : zE} {d : Nat} {Q : zO → zM → Prop} (M : zM) (a0 : Nat) (r1 : Option zP) (p0 : Nat) (k : 16 ≤ a0 ∧ (Z E YX42_init (d + 1) (zn (sr M a0 9 (some (p0, 100, 624))) 624) [(0, vr (some (a0, 6, 0))), (1, vr r1)] 88 [vr (some ((zsz M), 100, 624)), vr (some (a0, 6, 0))] Q)) : Z E YX42_init (d + 1) M [(0, vr (some (a0, 6, 0))), (1, vr r1)] 79 [vr (some (p0, 100, 624)), vr (some (a0, 6, 0))] Q := by
  obtain ⟨g_, k⟩ := k
  refine z_putr g_ dX42_init_79 (zfwN.f fwX42_38_6 rfl (fun q h => by rw [← Option.some.inj h]; rfl)) rfl ?_
  refine z_aload_n dX42_init_82 rfl rfl ?_
  refine z_sipush (v := 624) dX42_init_83 rfl ?_
  refine z_newa (q := 0) (N := 624) dX42_init_86 rfl (by decide) q535 (by decide) (by decide) (by decide) ?_
  exact k
theorem sX42_init_88 {E : zE} {d : Nat} {Q : zO → zM → Prop} (M : zM) (a0 : Nat) (r1 : Option zP) (p0 : Nat) (k : 16 ≤ a0 ∧ (Z E YX42_init (d + 1) (zn (sr M a0 10 (some (p0, 100, 624))) 624) [(0, vr (some (a0, 6, 0))), (1, vr r1)] 97 [vr (some ((zsz M), 105, 624)), vr (some (a0, 6, 0))] Q)) : Z E YX42_init (d + 1) M [(0, vr (some (a0, 6, 0))), (1, vr r1)] 88 [vr (some (p0, 100, 624)), vr (some (a0, 6, 0))] Q := by
  obtain ⟨g_, k⟩ := k
  refine z_putr g_ dX42_init_88 (zfwN.f fwX42_42_6 rfl (fun q h => by rw [← Option.some.inj h]; rfl)) rfl ?_
  refine z_aload_n dX42_init_91 rfl rfl ?_
  refine z_sipush (v := 624) dX42_init_92 rfl ?_
  refine z_newa (q := 5) (N := 624) dX42_init_95 rfl (by decide) q755 (by decide) (by decide) (by decide) ?_
  exact k
theorem sX42_init_97 {E : zE} {d : Nat} {Q : zO → zM → Prop} (M : zM) (a0 : Nat) (r1 : Option zP) (p0 : Nat) (k : 16 ≤ a0 ∧ (Z E YX42_init (d + 1) (zn (sr M a0 11 (some (p0, 105, 624))) 624) [(0, vr (some (a0, 6, 0))), (1, vr r1)] 106 [vr (some ((zsz M), 105, 624)), vr (some (a0, 6, 0))] Q)) : Z E YX42_init (d + 1) M [(0, vr (some (a0, 6, 0))), (1, vr r1)] 97 [vr (some (p0, 105, 624)), vr (some (a0, 6, 0))] Q := by
  obtain ⟨g_, k⟩ := k
  refine z_putr g_ dX42_init_97 (zfwN.f fwX42_45_6 rfl (fun q h => by rw [← Option.some.inj h]; rfl)) rfl ?_
  refine z_aload_n dX42_init_100 rfl rfl ?_
  refine z_sipush (v := 624) dX42_init_101 rfl ?_
  refine z_newa (q := 5) (N := 624) dX42_init_104 rfl (by decide) q755 (by decide) (by decide) (by decide) ?_
  exact k
theorem sX42_init_106 {E : zE} {d : Nat} {Q : zO → zM → Prop} (M : zM) (a0 : Nat) (r1 : Option zP) (p0 : Nat) (k : 16 ≤ a0 ∧ (Z E YX42_init (d + 1) (zn (sr M a0 12 (some (p0, 105, 624))) 624) [(0, vr (some (a0, 6, 0))), (1, vr r1)] 115 [vr (some ((zsz M), 105, 624)), vr (some (a0, 6, 0))] Q)) : Z E YX42_init (d + 1) M [(0, vr (some (a0, 6, 0))), (1, vr r1)] 106 [vr (some (p0, 105, 624)), vr (some (a0, 6, 0))] Q := by
  obtain ⟨g_, k⟩ := k
  refine z_putr g_ dX42_init_106 (zfwN.f fwX42_48_6 rfl (fun q h => by rw [← Option.some.inj h]; rfl)) rfl ?_
  refine z_aload_n dX42_init_109 rfl rfl ?_
  refine z_sipush (v := 624) dX42_init_110 rfl ?_
  refine z_newa (q := 5) (N := 624) dX42_init_113 rfl (by decide) q755 (by decide) (by decide) (by decide) ?_
  exact k
theorem sX42_init_115 {E : zE} {d : Nat} {Q : zO → zM → Prop} (M : zM) (a0 : Nat) (r1 : Option zP) (p0 : Nat) (k : 16 ≤ a0 ∧ (Z E YX42_init (d + 1) (zn (sr M a0 13 (some (p0, 105, 624))) 624) [(0, vr (some (a0, 6, 0))), (1, vr r1)] 124 [vr (some ((zsz M), 105, 624)), vr (some (a0, 6, 0))] Q)) : Z E YX42_init (d + 1) M [(0, vr (some (a0, 6, 0))), (1, vr r1)] 115 [vr (some (p0, 105, 624)), vr (some (a0, 6, 0))] Q := by
  obtain ⟨g_, k⟩ := k
  refine z_putr g_ dX42_init_115 (zfwN.f fwX42_51_6 rfl (fun q h => by rw [← Option.some.inj h]; rfl)) rfl ?_
  refine z_aload_n dX42_init_118 rfl rfl ?_
  refine z_sipush (v := 624) dX42_init_119 rfl ?_
  refine z_newa (q := 5) (N := 624) dX42_init_122 rfl (by decide) q755 (by decide) (by decide) (by decide) ?_
  exact k
theorem sX42_init_124 {E : zE} {d : Nat} {Q : zO → zM → Prop} (M : zM) (a0 : Nat) (r1 : Option zP) (p0 : Nat) (k : 16 ≤ a0 ∧ (Z E YX42_init (d + 1) (zn (sr M a0 14 (some (p0, 105, 624))) 624) [(0, vr (some (a0, 6, 0))), (1, vr r1)] 133 [vr (some ((zsz M), 105, 624)), vr (some (a0, 6, 0))] Q)) : Z E YX42_init (d + 1) M [(0, vr (some (a0, 6, 0))), (1, vr r1)] 124 [vr (some (p0, 105, 624)), vr (some (a0, 6, 0))] Q := by
  obtain ⟨g_, k⟩ := k
  refine z_putr g_ dX42_init_124 (zfwN.f fwX42_54_6 rfl (fun q h => by rw [← Option.some.inj h]; rfl)) rfl ?_
  refine z_aload_n dX42_init_127 rfl rfl ?_
  refine z_sipush (v := 624) dX42_init_128 rfl ?_
  refine z_newa (q := 5) (N := 624) dX42_init_131 rfl (by decide) q755 (by decide) (by decide) (by decide) ?_
  exact k
theorem sX42_init_133 {E : zE} {d : Nat} {Q : zO → zM → Prop} (M : zM) (a0 : Nat) (r1 : Option zP) (p0 : Nat) (k : 16 ≤ a0 ∧ (Z E YX42_init (d + 1) (zn (sr M a0 15 (some (p0, 105, 624))) 4096) [(0, vr (some (a0, 6, 0))), (1, vr r1)] 142 [vr (some ((zsz M), 105, 4096)), vr (some (a0, 6, 0))] Q)) : Z E YX42_init (d + 1) M [(0, vr (some (a0, 6, 0))), (1, vr r1)] 133 [vr (some (p0, 105, 624)), vr (some (a0, 6, 0))] Q := by
  obtain ⟨g_, k⟩ := k
  refine z_putr g_ dX42_init_133 (zfwN.f fwX42_57_6 rfl (fun q h => by rw [← Option.some.inj h]; rfl)) rfl ?_
  refine z_aload_n dX42_init_136 rfl rfl ?_
  refine z_sipush (v := 4096) dX42_init_137 rfl ?_
  refine z_newa (q := 5) (N := 4096) dX42_init_140 rfl (by decide) q755 (by decide) (by decide) (by decide) ?_
  exact k
theorem sX42_init_142 {E : zE} {d : Nat} {Q : zO → zM → Prop} (M : zM) (a0 : Nat) (r1 : Option zP) (p0 : Nat) (k : 16 ≤ a0 ∧ (Z E YX42_init (d + 1) (zn (sr M a0 16 (some (p0, 105, 4096))) 4096) [(0, vr (some (a0, 6, 0))), (1, vr r1)] 151 [vr (some ((zsz M), 105, 4096)), vr (some (a0, 6, 0))] Q)) : Z E YX42_init (d + 1) M [(0, vr (some (a0, 6, 0))), (1, vr r1)] 142 [vr (some (p0, 105, 4096)), vr (some (a0, 6, 0))] Q := by
  obtain ⟨g_, k⟩ := k
  refine z_putr g_ dX42_init_142 (zfwN.w fwX42_60_6) rfl ?_
  refine z_aload_n dX42_init_145 rfl rfl ?_
  refine z_sipush (v := 4096) dX42_init_146 rfl ?_
  refine z_newa (q := 5) (N := 4096) dX42_init_149 rfl (by decide) q755 (by decide) (by decide) (by decide) ?_
  exact k
theorem sX42_init_151 {E : zE} {d : Nat} {Q : zO → zM → Prop} (M : zM) (a0 : Nat) (r1 : Option zP) (p0 : Nat) (k : 16 ≤ a0 ∧ (Z E YX42_init (d + 1) (zn (sr M a0 17 (some (p0, 105, 4096))) 4096) [(0, vr (some (a0, 6, 0))), (1, vr r1)] 160 [vr (some ((zsz M), 105, 4096)), vr (some (a0, 6, 0))] Q)) : Z E YX42_init (d + 1) M [(0, vr (some (a0, 6, 0))), (1, vr r1)] 151 [vr (some (p0, 105, 4096)), vr (some (a0, 6, 0))] Q := by
  obtain ⟨g_, k⟩ := k
  refine z_putr g_ dX42_init_151 (zfwN.w fwX42_63_6) rfl ?_
  refine z_aload_n dX42_init_154 rfl rfl ?_
  refine z_sipush (v := 4096) dX42_init_155 rfl ?_
  refine z_newa (q := 5) (N := 4096) dX42_init_158 rfl (by decide) q755 (by decide) (by decide) (by decide) ?_
  exact k
theorem sX42_init_160 {E : zE} {d : Nat} {Q : zO → zM → Prop} (M : zM) (a0 : Nat) (r1 : Option zP) (p0 : Nat) (k : 16 ≤ a0 ∧ (16 ≤ a0 ∧ (Q (.inl none) (sr (sr M a0 18 (some (p0, 105, 4096))) a0 0 r1)))) : Z E YX42_init (d + 1) M [(0, vr (some (a0, 6, 0))), (1, vr r1)] 160 [vr (some (p0, 105, 4096)), vr (some (a0, 6, 0))] Q := by
  obtain ⟨g_, k⟩ := k
  refine z_putr g_ dX42_init_160 (zfwN.w fwX42_66_6) rfl ?_
  refine z_aload_n dX42_init_163 rfl rfl ?_
  refine z_aload_n dX42_init_164 rfl rfl ?_
  obtain ⟨g_, k⟩ := k
  refine z_putr g_ dX42_init_165 (zfwN.f fwX42_69_6 rfl (fun q h => by rw [← Option.some.inj h]; rfl)) rfl ?_
  exact z_vret dX42_init_168 rfl k
/-! ScriptTypes$Table.clear(I)V -/
theorem bX42_clear_0 : zdec cX42_clear 0 [(0, .iconst 0, 1), (1, .istore_n 2, 1), (2, .iload_n 2, 1), (3, .iload_n 1, 1), (4, .if_icmp .ge 16, 3), (7, .aload_n 0, 1), (8, .getfield 38, 3), (11, .iload_n 2, 1), (12, .iconst (-1), 1), (13, .iastore, 1), (14, .iinc 2 1, 3), (17, .goto (-15), 3), (20, .aload_n 0, 1), (21, .iconst 0, 1), (22, .putfield 73, 3), (25, .return_, 1)] = true := by decide +kernel
theorem dX42_clear_0 : decode cX42_clear 0 = .ok (.iconst 0, 1) := zdec_at bX42_clear_0 0 rfl
theorem dX42_clear_1 : decode cX42_clear 1 = .ok (.istore_n 2, 1) := zdec_at bX42_clear_0 1 rfl
theorem dX42_clear_2 : decode cX42_clear 2 = .ok (.iload_n 2, 1) := zdec_at bX42_clear_0 2 rfl
theorem dX42_clear_3 : decode cX42_clear 3 = .ok (.iload_n 1, 1) := zdec_at bX42_clear_0 3 rfl
theorem dX42_clear_4 : decode cX42_clear 4 = .ok (.if_icmp .ge 16, 3) := zdec_at bX42_clear_0 4 rfl
theorem dX42_clear_7 : decode cX42_clear 7 = .ok (.aload_n 0, 1) := zdec_at bX42_clear_0 5 rfl
theorem dX42_clear_8 : decode cX42_clear 8 = .ok (.getfield 38, 3) := zdec_at bX42_clear_0 6 rfl
theorem dX42_clear_11 : decode cX42_clear 11 = .ok (.iload_n 2, 1) := zdec_at bX42_clear_0 7 rfl
theorem dX42_clear_12 : decode cX42_clear 12 = .ok (.iconst (-1), 1) := zdec_at bX42_clear_0 8 rfl
theorem dX42_clear_13 : decode cX42_clear 13 = .ok (.iastore, 1) := zdec_at bX42_clear_0 9 rfl
theorem dX42_clear_14 : decode cX42_clear 14 = .ok (.iinc 2 1, 3) := zdec_at bX42_clear_0 10 rfl
theorem dX42_clear_17 : decode cX42_clear 17 = .ok (.goto (-15), 3) := zdec_at bX42_clear_0 11 rfl
theorem dX42_clear_20 : decode cX42_clear 20 = .ok (.aload_n 0, 1) := zdec_at bX42_clear_0 12 rfl
theorem dX42_clear_21 : decode cX42_clear 21 = .ok (.iconst 0, 1) := zdec_at bX42_clear_0 13 rfl
theorem dX42_clear_22 : decode cX42_clear 22 = .ok (.putfield 73, 3) := zdec_at bX42_clear_0 14 rfl
theorem dX42_clear_25 : decode cX42_clear 25 = .ok (.return_, 1) := zdec_at bX42_clear_0 15 rfl
theorem sX42_clear_0 {E : zE} {d : Nat} {Q : zO → zM → Prop} (M : zM) (a0 : Nat) (l1 : Int32) (k : Z E YX42_clear d M [(0, vr (some (a0, 6, 0))), (1, vi l1), (2, vi (0 : Int32))] 2 [] Q) : Z E YX42_clear d M [(0, vr (some (a0, 6, 0))), (1, vi l1)] 0 [] Q := by
  refine z_iconst (v := 0) dX42_clear_0 rfl ?_
  refine z_ist_n dX42_clear_1 rfl (by decide) (lv' := [(0, vr (some (a0, 6, 0))), (1, vi l1), (2, vi (0 : Int32))]) rfl ?_
  exact k
theorem sX42_clear_2 {E : zE} {d : Nat} {Q : zO → zM → Prop} (M : zM) (a0 : Nat) (l1 : Int32) (l2 : Int32) (k : if l1 ≤ l2 then (16 ≤ a0 ∧ (Q (.inl none) (si M a0 19 (0 : Int32)))) else (∃ b1 m1 : Nat, (gr M a0 9) = some (b1, 100, m1) ∧ (16 ≤ b1 ∧ (vp_in l2 m1 ∧ (Z E YX42_clear d (si M b1 (l2).toNatClampNeg (-1 : Int32)) [(0, vr (some (a0, 6, 0))), (1, vi l1), (2, vi (l2 + (1 : Int32)))] 2 [] Q))))) : Z E YX42_clear d M [(0, vr (some (a0, 6, 0))), (1, vi l1), (2, vi l2)] 2 [] Q := by
  refine z_iload_n dX42_clear_2 rfl rfl ?_
  refine z_iload_n dX42_clear_3 rfl rfl ?_
  refine z_icmp_ge (tgt := 20) dX42_clear_4 rfl (fun h_ => ?_) (fun h_ => ?_)
  · have k := zit h_ k
    refine z_aload_n dX42_clear_20 rfl rfl ?_
    refine z_iconst (v := 0) dX42_clear_21 rfl ?_
    obtain ⟨g_, k⟩ := k
    refine z_puti g_ dX42_clear_22 (zfwN.w fwX42_73_6) rfl ⟨rfl, rfl⟩ ?_
    exact z_vret dX42_clear_25 rfl k
  · have k := zif h_ k
    refine z_aload_n dX42_clear_7 rfl rfl ?_
    refine z_getr (r := (gr M a0 9)) dX42_clear_8 fsX42_38_6 rfl ?_
    refine z_iload_n dX42_clear_11 rfl rfl ?_
    refine z_iconst (v := -1) dX42_clear_12 rfl ?_
    obtain ⟨b1, m1, e1_, k⟩ := k
    refine Z.eqs (lv' := [(0, vr (some (a0, 6, 0))), (1, vi l1), (2, vi l2)]) (st' := [vi (-1 : Int32), vi l2, vr (some (b1, 100, m1))]) rfl (by rw [e1_] <;> rfl) ?_
    obtain ⟨g_, k⟩ := k
    obtain ⟨b_, k⟩ := k
    refine z_iast g_ dX42_clear_13 b_ ?_
    refine z_inc (v := (l2 + (1 : Int32))) dX42_clear_14 rfl rfl (by decide) (lv' := [(0, vr (some (a0, 6, 0))), (1, vi l1), (2, vi (l2 + (1 : Int32)))]) rfl ?_
    refine z_goto (tgt := 2) dX42_clear_17 rfl ?_
    exact k
/-! ScriptTypes$Table.join(ILScriptTypes$Work;)Z -/
theorem bX42_join_0 : zdec cX42_join 0 [(0, .aload_n 0, 1), (1, .getfield 38, 3), (4, .iload_n 1, 1), (5, .iaload, 1), (6, .iconst (-1), 1), (7, .if_icmp .ne 11, 3), (10, .aload_n 0, 1), (11, .iload_n 1, 1), (12, .aload_n 2, 1), (13, .invokevirtual 87, 3), (16, .iconst 1, 1), (17, .ireturn, 1), (18, .aload_n 0, 1), (19, .iconst 0, 1), (20, .putfield 83, 3), (23, .aload_n 0, 1)] = true := by decide +kernel
theorem dX42_join_0 : decode cX42_join 0 = .ok (.aload_n 0, 1) := zdec_at bX42_join_0 0 rfl
theorem dX42_join_1 : decode cX42_join 1 = .ok (.getfield 38, 3) := zdec_at bX42_join_0 1 rfl
theorem dX42_join_4 : decode cX42_join 4 = .ok (.iload_n 1, 1) := zdec_at bX42_join_0 2 rfl
theorem dX42_join_5 : decode cX42_join 5 = .ok (.iaload, 1) := zdec_at bX42_join_0 3 rfl
theorem dX42_join_6 : decode cX42_join 6 = .ok (.iconst (-1), 1) := zdec_at bX42_join_0 4 rfl
theorem dX42_join_7 : decode cX42_join 7 = .ok (.if_icmp .ne 11, 3) := zdec_at bX42_join_0 5 rfl
theorem dX42_join_10 : decode cX42_join 10 = .ok (.aload_n 0, 1) := zdec_at bX42_join_0 6 rfl
theorem dX42_join_11 : decode cX42_join 11 = .ok (.iload_n 1, 1) := zdec_at bX42_join_0 7 rfl
theorem dX42_join_12 : decode cX42_join 12 = .ok (.aload_n 2, 1) := zdec_at bX42_join_0 8 rfl
theorem dX42_join_13 : decode cX42_join 13 = .ok (.invokevirtual 87, 3) := zdec_at bX42_join_0 9 rfl
theorem dX42_join_16 : decode cX42_join 16 = .ok (.iconst 1, 1) := zdec_at bX42_join_0 10 rfl
theorem dX42_join_17 : decode cX42_join 17 = .ok (.ireturn, 1) := zdec_at bX42_join_0 11 rfl
theorem dX42_join_18 : decode cX42_join 18 = .ok (.aload_n 0, 1) := zdec_at bX42_join_0 12 rfl
theorem dX42_join_19 : decode cX42_join 19 = .ok (.iconst 0, 1) := zdec_at bX42_join_0 13 rfl
theorem dX42_join_20 : decode cX42_join 20 = .ok (.putfield 83, 3) := zdec_at bX42_join_0 14 rfl
theorem dX42_join_23 : decode cX42_join 23 = .ok (.aload_n 0, 1) := zdec_at bX42_join_0 15 rfl
theorem bX42_join_24 : zdec cX42_join 24 [(24, .getfield 69, 3), (27, .getfield 91, 3), (30, .aload_n 0, 1), (31, .getfield 69, 3), (34, .getfield 94, 3), (37, .iconst 1, 1), (38, .iadd, 1), (39, .imul, 1), (40, .istore_n 3, 1), (41, .iload_n 1, 1), (42, .iload_n 3, 1), (43, .imul, 1), (44, .istore 4, 2), (46, .iload_n 1, 1), (47, .aload_n 0, 1), (48, .getfield 69, 3)] = true := by decide +kernel
theorem dX42_join_24 : decode cX42_join 24 = .ok (.getfield 69, 3) := zdec_at bX42_join_24 0 rfl
theorem dX42_join_27 : decode cX42_join 27 = .ok (.getfield 91, 3) := zdec_at bX42_join_24 1 rfl
theorem dX42_join_30 : decode cX42_join 30 = .ok (.aload_n 0, 1) := zdec_at bX42_join_24 2 rfl
theorem dX42_join_31 : decode cX42_join 31 = .ok (.getfield 69, 3) := zdec_at bX42_join_24 3 rfl
theorem dX42_join_34 : decode cX42_join 34 = .ok (.getfield 94, 3) := zdec_at bX42_join_24 4 rfl
theorem dX42_join_37 : decode cX42_join 37 = .ok (.iconst 1, 1) := zdec_at bX42_join_24 5 rfl
theorem dX42_join_38 : decode cX42_join 38 = .ok (.iadd, 1) := zdec_at bX42_join_24 6 rfl
theorem dX42_join_39 : decode cX42_join 39 = .ok (.imul, 1) := zdec_at bX42_join_24 7 rfl
theorem dX42_join_40 : decode cX42_join 40 = .ok (.istore_n 3, 1) := zdec_at bX42_join_24 8 rfl
theorem dX42_join_41 : decode cX42_join 41 = .ok (.iload_n 1, 1) := zdec_at bX42_join_24 9 rfl
theorem dX42_join_42 : decode cX42_join 42 = .ok (.iload_n 3, 1) := zdec_at bX42_join_24 10 rfl
theorem dX42_join_43 : decode cX42_join 43 = .ok (.imul, 1) := zdec_at bX42_join_24 11 rfl
theorem dX42_join_44 : decode cX42_join 44 = .ok (.istore 4, 2) := zdec_at bX42_join_24 12 rfl
theorem dX42_join_46 : decode cX42_join 46 = .ok (.iload_n 1, 1) := zdec_at bX42_join_24 13 rfl
theorem dX42_join_47 : decode cX42_join 47 = .ok (.aload_n 0, 1) := zdec_at bX42_join_24 14 rfl
theorem dX42_join_48 : decode cX42_join 48 = .ok (.getfield 69, 3) := zdec_at bX42_join_24 15 rfl
theorem bX42_join_51 : zdec cX42_join 51 [(51, .getfield 91, 3), (54, .imul, 1), (55, .istore 5, 2), (57, .aload_n 0, 1), (58, .getfield 42, 3), (61, .iload_n 1, 1), (62, .iaload, 1), (63, .istore 6, 2), (65, .iconst 0, 1), (66, .istore 7, 2), (68, .iload 7, 2), (70, .iload_n 3, 1), (71, .if_icmp .ge 137, 3), (74, .aload_n 0, 1), (75, .getfield 10, 3), (78, .iload 4, 2)] = true := by decide +kernel
theorem dX42_join_51 : decode cX42_join 51 = .ok (.getfield 91, 3) := zdec_at bX42_join_51 0 rfl
theorem dX42_join_54 : decode cX42_join 54 = .ok (.imul, 1) := zdec_at bX42_join_51 1 rfl
theorem dX42_join_55 : decode cX42_join 55 = .ok (.istore 5, 2) := zdec_at bX42_join_51 2 rfl
theorem dX42_join_57 : decode cX42_join 57 = .ok (.aload_n 0, 1) := zdec_at bX42_join_51 3 rfl
theorem dX42_join_58 : decode cX42_join 58 = .ok (.getfield 42, 3) := zdec_at bX42_join_51 4 rfl
theorem dX42_join_61 : decode cX42_join 61 = .ok (.iload_n 1, 1) := zdec_at bX42_join_51 5 rfl
theorem dX42_join_62 : decode cX42_join 62 = .ok (.iaload, 1) := zdec_at bX42_join_51 6 rfl
theorem dX42_join_63 : decode cX42_join 63 = .ok (.istore 6, 2) := zdec_at bX42_join_51 7 rfl
theorem dX42_join_65 : decode cX42_join 65 = .ok (.iconst 0, 1) := zdec_at bX42_join_51 8 rfl
theorem dX42_join_66 : decode cX42_join 66 = .ok (.istore 7, 2) := zdec_at bX42_join_51 9 rfl
theorem dX42_join_68 : decode cX42_join 68 = .ok (.iload 7, 2) := zdec_at bX42_join_51 10 rfl
theorem dX42_join_70 : decode cX42_join 70 = .ok (.iload_n 3, 1) := zdec_at bX42_join_51 11 rfl
theorem dX42_join_71 : decode cX42_join 71 = .ok (.if_icmp .ge 137, 3) := zdec_at bX42_join_51 12 rfl
theorem dX42_join_74 : decode cX42_join 74 = .ok (.aload_n 0, 1) := zdec_at bX42_join_51 13 rfl
theorem dX42_join_75 : decode cX42_join 75 = .ok (.getfield 10, 3) := zdec_at bX42_join_51 14 rfl
theorem dX42_join_78 : decode cX42_join 78 = .ok (.iload 4, 2) := zdec_at bX42_join_51 15 rfl
theorem bX42_join_80 : zdec cX42_join 80 [(80, .iload 7, 2), (82, .iadd, 1), (83, .aload_n 0, 1), (84, .aload_n 0, 1), (85, .getfield 10, 3), (88, .iload 4, 2), (90, .iload 7, 2), (92, .iadd, 1), (93, .laload, 1), (94, .aload_n 0, 1), (95, .getfield 10, 3), (98, .iload 4, 2), (100, .iload 7, 2), (102, .iadd, 1), (103, .laload, 1), (104, .aload_n 2, 1)] = true := by decide +kernel
theorem dX42_join_80 : decode cX42_join 80 = .ok (.iload 7, 2) := zdec_at bX42_join_80 0 rfl
theorem dX42_join_82 : decode cX42_join 82 = .ok (.iadd, 1) := zdec_at bX42_join_80 1 rfl
theorem dX42_join_83 : decode cX42_join 83 = .ok (.aload_n 0, 1) := zdec_at bX42_join_80 2 rfl
theorem dX42_join_84 : decode cX42_join 84 = .ok (.aload_n 0, 1) := zdec_at bX42_join_80 3 rfl
theorem dX42_join_85 : decode cX42_join 85 = .ok (.getfield 10, 3) := zdec_at bX42_join_80 4 rfl
theorem dX42_join_88 : decode cX42_join 88 = .ok (.iload 4, 2) := zdec_at bX42_join_80 5 rfl
theorem dX42_join_90 : decode cX42_join 90 = .ok (.iload 7, 2) := zdec_at bX42_join_80 6 rfl
theorem dX42_join_92 : decode cX42_join 92 = .ok (.iadd, 1) := zdec_at bX42_join_80 7 rfl
theorem dX42_join_93 : decode cX42_join 93 = .ok (.laload, 1) := zdec_at bX42_join_80 8 rfl
theorem dX42_join_94 : decode cX42_join 94 = .ok (.aload_n 0, 1) := zdec_at bX42_join_80 9 rfl
theorem dX42_join_95 : decode cX42_join 95 = .ok (.getfield 10, 3) := zdec_at bX42_join_80 10 rfl
theorem dX42_join_98 : decode cX42_join 98 = .ok (.iload 4, 2) := zdec_at bX42_join_80 11 rfl
theorem dX42_join_100 : decode cX42_join 100 = .ok (.iload 7, 2) := zdec_at bX42_join_80 12 rfl
theorem dX42_join_102 : decode cX42_join 102 = .ok (.iadd, 1) := zdec_at bX42_join_80 13 rfl
theorem dX42_join_103 : decode cX42_join 103 = .ok (.laload, 1) := zdec_at bX42_join_80 14 rfl
theorem dX42_join_104 : decode cX42_join 104 = .ok (.aload_n 2, 1) := zdec_at bX42_join_80 15 rfl
theorem bX42_join_105 : zdec cX42_join 105 [(105, .getfield 97, 3), (108, .iload 7, 2), (110, .laload, 1), (111, .lor, 1), (112, .invokevirtual 100, 3), (115, .lastore, 1), (116, .aload_n 0, 1), (117, .getfield 16, 3), (120, .iload 4, 2), (122, .iload 7, 2), (124, .iadd, 1), (125, .aload_n 0, 1), (126, .aload_n 0, 1), (127, .getfield 16, 3), (130, .iload 4, 2), (132, .iload 7, 2)] = true := by decide +kernel
theorem dX42_join_105 : decode cX42_join 105 = .ok (.getfield 97, 3) := zdec_at bX42_join_105 0 rfl
theorem dX42_join_108 : decode cX42_join 108 = .ok (.iload 7, 2) := zdec_at bX42_join_105 1 rfl
theorem dX42_join_110 : decode cX42_join 110 = .ok (.laload, 1) := zdec_at bX42_join_105 2 rfl
theorem dX42_join_111 : decode cX42_join 111 = .ok (.lor, 1) := zdec_at bX42_join_105 3 rfl
theorem dX42_join_112 : decode cX42_join 112 = .ok (.invokevirtual 100, 3) := zdec_at bX42_join_105 4 rfl
theorem dX42_join_115 : decode cX42_join 115 = .ok (.lastore, 1) := zdec_at bX42_join_105 5 rfl
theorem dX42_join_116 : decode cX42_join 116 = .ok (.aload_n 0, 1) := zdec_at bX42_join_105 6 rfl
theorem dX42_join_117 : decode cX42_join 117 = .ok (.getfield 16, 3) := zdec_at bX42_join_105 7 rfl
theorem dX42_join_120 : decode cX42_join 120 = .ok (.iload 4, 2) := zdec_at bX42_join_105 8 rfl
theorem dX42_join_122 : decode cX42_join 122 = .ok (.iload 7, 2) := zdec_at bX42_join_105 9 rfl
theorem dX42_join_124 : decode cX42_join 124 = .ok (.iadd, 1) := zdec_at bX42_join_105 10 rfl
theorem dX42_join_125 : decode cX42_join 125 = .ok (.aload_n 0, 1) := zdec_at bX42_join_105 11 rfl
theorem dX42_join_126 : decode cX42_join 126 = .ok (.aload_n 0, 1) := zdec_at bX42_join_105 12 rfl
theorem dX42_join_127 : decode cX42_join 127 = .ok (.getfield 16, 3) := zdec_at bX42_join_105 13 rfl
theorem dX42_join_130 : decode cX42_join 130 = .ok (.iload 4, 2) := zdec_at bX42_join_105 14 rfl
theorem dX42_join_132 : decode cX42_join 132 = .ok (.iload 7, 2) := zdec_at bX42_join_105 15 rfl
theorem bX42_join_134 : zdec cX42_join 134 [(134, .iadd, 1), (135, .laload, 1), (136, .aload_n 0, 1), (137, .getfield 16, 3), (140, .iload 4, 2), (142, .iload 7, 2), (144, .iadd, 1), (145, .laload, 1), (146, .aload_n 2, 1), (147, .getfield 104, 3), (150, .iload 7, 2), (152, .laload, 1), (153, .lor, 1), (154, .invokevirtual 100, 3), (157, .lastore, 1), (158, .aload_n 0, 1)] = true := by decide +kernel
theorem dX42_join_134 : decode cX42_join 134 = .ok (.iadd, 1) := zdec_at bX42_join_134 0 rfl
theorem dX42_join_135 : decode cX42_join 135 = .ok (.laload, 1) := zdec_at bX42_join_134 1 rfl
theorem dX42_join_136 : decode cX42_join 136 = .ok (.aload_n 0, 1) := zdec_at bX42_join_134 2 rfl
theorem dX42_join_137 : decode cX42_join 137 = .ok (.getfield 16, 3) := zdec_at bX42_join_134 3 rfl
theorem dX42_join_140 : decode cX42_join 140 = .ok (.iload 4, 2) := zdec_at bX42_join_134 4 rfl
theorem dX42_join_142 : decode cX42_join 142 = .ok (.iload 7, 2) := zdec_at bX42_join_134 5 rfl
theorem dX42_join_144 : decode cX42_join 144 = .ok (.iadd, 1) := zdec_at bX42_join_134 6 rfl
theorem dX42_join_145 : decode cX42_join 145 = .ok (.laload, 1) := zdec_at bX42_join_134 7 rfl
theorem dX42_join_146 : decode cX42_join 146 = .ok (.aload_n 2, 1) := zdec_at bX42_join_134 8 rfl
theorem dX42_join_147 : decode cX42_join 147 = .ok (.getfield 104, 3) := zdec_at bX42_join_134 9 rfl
theorem dX42_join_150 : decode cX42_join 150 = .ok (.iload 7, 2) := zdec_at bX42_join_134 10 rfl
theorem dX42_join_152 : decode cX42_join 152 = .ok (.laload, 1) := zdec_at bX42_join_134 11 rfl
theorem dX42_join_153 : decode cX42_join 153 = .ok (.lor, 1) := zdec_at bX42_join_134 12 rfl
theorem dX42_join_154 : decode cX42_join 154 = .ok (.invokevirtual 100, 3) := zdec_at bX42_join_134 13 rfl
theorem dX42_join_157 : decode cX42_join 157 = .ok (.lastore, 1) := zdec_at bX42_join_134 14 rfl
theorem dX42_join_158 : decode cX42_join 158 = .ok (.aload_n 0, 1) := zdec_at bX42_join_134 15 rfl
theorem bX42_join_159 : zdec cX42_join 159 [(159, .getfield 19, 3), (162, .iload 4, 2), (164, .iload 7, 2), (166, .iadd, 1), (167, .aload_n 0, 1), (168, .aload_n 0, 1), (169, .getfield 19, 3), (172, .iload 4, 2), (174, .iload 7, 2), (176, .iadd, 1), (177, .laload, 1), (178, .aload_n 0, 1), (179, .getfield 19, 3), (182, .iload 4, 2), (184, .iload 7, 2), (186, .iadd, 1)] = true := by decide +kernel
theorem dX42_join_159 : decode cX42_join 159 = .ok (.getfield 19, 3) := zdec_at bX42_join_159 0 rfl
theorem dX42_join_162 : decode cX42_join 162 = .ok (.iload 4, 2) := zdec_at bX42_join_159 1 rfl
theorem dX42_join_164 : decode cX42_join 164 = .ok (.iload 7, 2) := zdec_at bX42_join_159 2 rfl
theorem dX42_join_166 : decode cX42_join 166 = .ok (.iadd, 1) := zdec_at bX42_join_159 3 rfl
theorem dX42_join_167 : decode cX42_join 167 = .ok (.aload_n 0, 1) := zdec_at bX42_join_159 4 rfl
theorem dX42_join_168 : decode cX42_join 168 = .ok (.aload_n 0, 1) := zdec_at bX42_join_159 5 rfl
theorem dX42_join_169 : decode cX42_join 169 = .ok (.getfield 19, 3) := zdec_at bX42_join_159 6 rfl
theorem dX42_join_172 : decode cX42_join 172 = .ok (.iload 4, 2) := zdec_at bX42_join_159 7 rfl
theorem dX42_join_174 : decode cX42_join 174 = .ok (.iload 7, 2) := zdec_at bX42_join_159 8 rfl
theorem dX42_join_176 : decode cX42_join 176 = .ok (.iadd, 1) := zdec_at bX42_join_159 9 rfl
theorem dX42_join_177 : decode cX42_join 177 = .ok (.laload, 1) := zdec_at bX42_join_159 10 rfl
theorem dX42_join_178 : decode cX42_join 178 = .ok (.aload_n 0, 1) := zdec_at bX42_join_159 11 rfl
theorem dX42_join_179 : decode cX42_join 179 = .ok (.getfield 19, 3) := zdec_at bX42_join_159 12 rfl
theorem dX42_join_182 : decode cX42_join 182 = .ok (.iload 4, 2) := zdec_at bX42_join_159 13 rfl
theorem dX42_join_184 : decode cX42_join 184 = .ok (.iload 7, 2) := zdec_at bX42_join_159 14 rfl
theorem dX42_join_186 : decode cX42_join 186 = .ok (.iadd, 1) := zdec_at bX42_join_159 15 rfl
theorem bX42_join_187 : zdec cX42_join 187 [(187, .laload, 1), (188, .aload_n 2, 1), (189, .getfield 105, 3), (192, .iload 7, 2), (194, .laload, 1), (195, .invokestatic 106, 3), (198, .invokevirtual 100, 3), (201, .lastore, 1), (202, .iinc 7 1, 3), (205, .goto (-137), 3), (208, .iconst 0, 1), (209, .istore 7, 2), (211, .iload 7, 2), (213, .aload_n 0, 1), (214, .getfield 69, 3), (217, .getfield 91, 3)] = true := by decide +kernel
theorem dX42_join_187 : decode cX42_join 187 = .ok (.laload, 1) := zdec_at bX42_join_187 0 rfl
theorem dX42_join_188 : decode cX42_join 188 = .ok (.aload_n 2, 1) := zdec_at bX42_join_187 1 rfl
theorem dX42_join_189 : decode cX42_join 189 = .ok (.getfield 105, 3) := zdec_at bX42_join_187 2 rfl
theorem dX42_join_192 : decode cX42_join 192 = .ok (.iload 7, 2) := zdec_at bX42_join_187 3 rfl
theorem dX42_join_194 : decode cX42_join 194 = .ok (.laload, 1) := zdec_at bX42_join_187 4 rfl
theorem dX42_join_195 : decode cX42_join 195 = .ok (.invokestatic 106, 3) := zdec_at bX42_join_187 5 rfl
theorem dX42_join_198 : decode cX42_join 198 = .ok (.invokevirtual 100, 3) := zdec_at bX42_join_187 6 rfl
theorem dX42_join_201 : decode cX42_join 201 = .ok (.lastore, 1) := zdec_at bX42_join_187 7 rfl
theorem dX42_join_202 : decode cX42_join 202 = .ok (.iinc 7 1, 3) := zdec_at bX42_join_187 8 rfl
theorem dX42_join_205 : decode cX42_join 205 = .ok (.goto (-137), 3) := zdec_at bX42_join_187 9 rfl
theorem dX42_join_208 : decode cX42_join 208 = .ok (.iconst 0, 1) := zdec_at bX42_join_187 10 rfl
theorem dX42_join_209 : decode cX42_join 209 = .ok (.istore 7, 2) := zdec_at bX42_join_187 11 rfl
theorem dX42_join_211 : decode cX42_join 211 = .ok (.iload 7, 2) := zdec_at bX42_join_187 12 rfl
theorem dX42_join_213 : decode cX42_join 213 = .ok (.aload_n 0, 1) := zdec_at bX42_join_187 13 rfl
theorem dX42_join_214 : decode cX42_join 214 = .ok (.getfield 69, 3) := zdec_at bX42_join_187 14 rfl
theorem dX42_join_217 : decode cX42_join 217 = .ok (.getfield 91, 3) := zdec_at bX42_join_187 15 rfl
theorem bX42_join_220 : zdec cX42_join 220 [(220, .if_icmp .ge 223, 3), (223, .aload_n 0, 1), (224, .getfield 22, 3), (227, .iload 5, 2), (229, .iload 7, 2), (231, .iadd, 1), (232, .aload_n 0, 1), (233, .aload_n 0, 1), (234, .getfield 22, 3), (237, .iload 5, 2), (239, .iload 7, 2), (241, .iadd, 1), (242, .laload, 1), (243, .aload_n 0, 1), (244, .getfield 22, 3), (247, .iload 5, 2)] = true := by decide +kernel
theorem dX42_join_220 : decode cX42_join 220 = .ok (.if_icmp .ge 223, 3) := zdec_at bX42_join_220 0 rfl
theorem dX42_join_223 : decode cX42_join 223 = .ok (.aload_n 0, 1) := zdec_at bX42_join_220 1 rfl
theorem dX42_join_224 : decode cX42_join 224 = .ok (.getfield 22, 3) := zdec_at bX42_join_220 2 rfl
theorem dX42_join_227 : decode cX42_join 227 = .ok (.iload 5, 2) := zdec_at bX42_join_220 3 rfl
theorem dX42_join_229 : decode cX42_join 229 = .ok (.iload 7, 2) := zdec_at bX42_join_220 4 rfl
theorem dX42_join_231 : decode cX42_join 231 = .ok (.iadd, 1) := zdec_at bX42_join_220 5 rfl
theorem dX42_join_232 : decode cX42_join 232 = .ok (.aload_n 0, 1) := zdec_at bX42_join_220 6 rfl
theorem dX42_join_233 : decode cX42_join 233 = .ok (.aload_n 0, 1) := zdec_at bX42_join_220 7 rfl
theorem dX42_join_234 : decode cX42_join 234 = .ok (.getfield 22, 3) := zdec_at bX42_join_220 8 rfl
theorem dX42_join_237 : decode cX42_join 237 = .ok (.iload 5, 2) := zdec_at bX42_join_220 9 rfl
theorem dX42_join_239 : decode cX42_join 239 = .ok (.iload 7, 2) := zdec_at bX42_join_220 10 rfl
theorem dX42_join_241 : decode cX42_join 241 = .ok (.iadd, 1) := zdec_at bX42_join_220 11 rfl
theorem dX42_join_242 : decode cX42_join 242 = .ok (.laload, 1) := zdec_at bX42_join_220 12 rfl
theorem dX42_join_243 : decode cX42_join 243 = .ok (.aload_n 0, 1) := zdec_at bX42_join_220 13 rfl
theorem dX42_join_244 : decode cX42_join 244 = .ok (.getfield 22, 3) := zdec_at bX42_join_220 14 rfl
theorem dX42_join_247 : decode cX42_join 247 = .ok (.iload 5, 2) := zdec_at bX42_join_220 15 rfl
theorem bX42_join_249 : zdec cX42_join 249 [(249, .iload 7, 2), (251, .iadd, 1), (252, .laload, 1), (253, .aload_n 2, 1), (254, .getfield 109, 3), (257, .iload 7, 2), (259, .laload, 1), (260, .lor, 1), (261, .invokevirtual 100, 3), (264, .lastore, 1), (265, .aload_n 0, 1), (266, .getfield 25, 3), (269, .iload 5, 2), (271, .iload 7, 2), (273, .iadd, 1), (274, .aload_n 0, 1)] = true := by decide +kernel
theorem dX42_join_249 : decode cX42_join 249 = .ok (.iload 7, 2) := zdec_at bX42_join_249 0 rfl
theorem dX42_join_251 : decode cX42_join 251 = .ok (.iadd, 1) := zdec_at bX42_join_249 1 rfl
theorem dX42_join_252 : decode cX42_join 252 = .ok (.laload, 1) := zdec_at bX42_join_249 2 rfl
theorem dX42_join_253 : decode cX42_join 253 = .ok (.aload_n 2, 1) := zdec_at bX42_join_249 3 rfl
theorem dX42_join_254 : decode cX42_join 254 = .ok (.getfield 109, 3) := zdec_at bX42_join_249 4 rfl
theorem dX42_join_257 : decode cX42_join 257 = .ok (.iload 7, 2) := zdec_at bX42_join_249 5 rfl
theorem dX42_join_259 : decode cX42_join 259 = .ok (.laload, 1) := zdec_at bX42_join_249 6 rfl
theorem dX42_join_260 : decode cX42_join 260 = .ok (.lor, 1) := zdec_at bX42_join_249 7 rfl
theorem dX42_join_261 : decode cX42_join 261 = .ok (.invokevirtual 100, 3) := zdec_at bX42_join_249 8 rfl
theorem dX42_join_264 : decode cX42_join 264 = .ok (.lastore, 1) := zdec_at bX42_join_249 9 rfl
theorem dX42_join_265 : decode cX42_join 265 = .ok (.aload_n 0, 1) := zdec_at bX42_join_249 10 rfl
theorem dX42_join_266 : decode cX42_join 266 = .ok (.getfield 25, 3) := zdec_at bX42_join_249 11 rfl
theorem dX42_join_269 : decode cX42_join 269 = .ok (.iload 5, 2) := zdec_at bX42_join_249 12 rfl
theorem dX42_join_271 : decode cX42_join 271 = .ok (.iload 7, 2) := zdec_at bX42_join_249 13 rfl
theorem dX42_join_273 : decode cX42_join 273 = .ok (.iadd, 1) := zdec_at bX42_join_249 14 rfl
theorem dX42_join_274 : decode cX42_join 274 = .ok (.aload_n 0, 1) := zdec_at bX42_join_249 15 rfl
theorem bX42_join_275 : zdec cX42_join 275 [(275, .aload_n 0, 1), (276, .getfield 25, 3), (279, .iload 5, 2), (281, .iload 7, 2), (283, .iadd, 1), (284, .laload, 1), (285, .aload_n 0, 1), (286, .getfield 25, 3), (289, .iload 5, 2), (291, .iload 7, 2), (293, .iadd, 1), (294, .laload, 1), (295, .aload_n 2, 1), (296, .getfield 110, 3), (299, .iload 7, 2), (301, .laload, 1)] = true := by decide +kernel
theorem dX42_join_275 : decode cX42_join 275 = .ok (.aload_n 0, 1) := zdec_at bX42_join_275 0 rfl
theorem dX42_join_276 : decode cX42_join 276 = .ok (.getfield 25, 3) := zdec_at bX42_join_275 1 rfl
theorem dX42_join_279 : decode cX42_join 279 = .ok (.iload 5, 2) := zdec_at bX42_join_275 2 rfl
theorem dX42_join_281 : decode cX42_join 281 = .ok (.iload 7, 2) := zdec_at bX42_join_275 3 rfl
theorem dX42_join_283 : decode cX42_join 283 = .ok (.iadd, 1) := zdec_at bX42_join_275 4 rfl
theorem dX42_join_284 : decode cX42_join 284 = .ok (.laload, 1) := zdec_at bX42_join_275 5 rfl
theorem dX42_join_285 : decode cX42_join 285 = .ok (.aload_n 0, 1) := zdec_at bX42_join_275 6 rfl
theorem dX42_join_286 : decode cX42_join 286 = .ok (.getfield 25, 3) := zdec_at bX42_join_275 7 rfl
theorem dX42_join_289 : decode cX42_join 289 = .ok (.iload 5, 2) := zdec_at bX42_join_275 8 rfl
theorem dX42_join_291 : decode cX42_join 291 = .ok (.iload 7, 2) := zdec_at bX42_join_275 9 rfl
theorem dX42_join_293 : decode cX42_join 293 = .ok (.iadd, 1) := zdec_at bX42_join_275 10 rfl
theorem dX42_join_294 : decode cX42_join 294 = .ok (.laload, 1) := zdec_at bX42_join_275 11 rfl
theorem dX42_join_295 : decode cX42_join 295 = .ok (.aload_n 2, 1) := zdec_at bX42_join_275 12 rfl
theorem dX42_join_296 : decode cX42_join 296 = .ok (.getfield 110, 3) := zdec_at bX42_join_275 13 rfl
theorem dX42_join_299 : decode cX42_join 299 = .ok (.iload 7, 2) := zdec_at bX42_join_275 14 rfl
theorem dX42_join_301 : decode cX42_join 301 = .ok (.laload, 1) := zdec_at bX42_join_275 15 rfl
theorem bX42_join_302 : zdec cX42_join 302 [(302, .lor, 1), (303, .invokevirtual 100, 3), (306, .lastore, 1), (307, .aload_n 0, 1), (308, .getfield 28, 3), (311, .iload 5, 2), (313, .iload 7, 2), (315, .iadd, 1), (316, .aload_n 0, 1), (317, .aload_n 0, 1), (318, .getfield 28, 3), (321, .iload 5, 2), (323, .iload 7, 2), (325, .iadd, 1), (326, .laload, 1), (327, .aload_n 0, 1)] = true := by decide +kernel
theorem dX42_join_302 : decode cX42_join 302 = .ok (.lor, 1) := zdec_at bX42_join_302 0 rfl
theorem dX42_join_303 : decode cX42_join 303 = .ok (.invokevirtual 100, 3) := zdec_at bX42_join_302 1 rfl
theorem dX42_join_306 : decode cX42_join 306 = .ok (.lastore, 1) := zdec_at bX42_join_302 2 rfl
theorem dX42_join_307 : decode cX42_join 307 = .ok (.aload_n 0, 1) := zdec_at bX42_join_302 3 rfl
theorem dX42_join_308 : decode cX42_join 308 = .ok (.getfield 28, 3) := zdec_at bX42_join_302 4 rfl
theorem dX42_join_311 : decode cX42_join 311 = .ok (.iload 5, 2) := zdec_at bX42_join_302 5 rfl
theorem dX42_join_313 : decode cX42_join 313 = .ok (.iload 7, 2) := zdec_at bX42_join_302 6 rfl
theorem dX42_join_315 : decode cX42_join 315 = .ok (.iadd, 1) := zdec_at bX42_join_302 7 rfl
theorem dX42_join_316 : decode cX42_join 316 = .ok (.aload_n 0, 1) := zdec_at bX42_join_302 8 rfl
theorem dX42_join_317 : decode cX42_join 317 = .ok (.aload_n 0, 1) := zdec_at bX42_join_302 9 rfl
theorem dX42_join_318 : decode cX42_join 318 = .ok (.getfield 28, 3) := zdec_at bX42_join_302 10 rfl
theorem dX42_join_321 : decode cX42_join 321 = .ok (.iload 5, 2) := zdec_at bX42_join_302 11 rfl
theorem dX42_join_323 : decode cX42_join 323 = .ok (.iload 7, 2) := zdec_at bX42_join_302 12 rfl
theorem dX42_join_325 : decode cX42_join 325 = .ok (.iadd, 1) := zdec_at bX42_join_302 13 rfl
theorem dX42_join_326 : decode cX42_join 326 = .ok (.laload, 1) := zdec_at bX42_join_302 14 rfl
theorem dX42_join_327 : decode cX42_join 327 = .ok (.aload_n 0, 1) := zdec_at bX42_join_302 15 rfl
theorem bX42_join_328 : zdec cX42_join 328 [(328, .getfield 28, 3), (331, .iload 5, 2), (333, .iload 7, 2), (335, .iadd, 1), (336, .laload, 1), (337, .aload_n 2, 1), (338, .getfield 111, 3), (341, .iload 7, 2), (343, .laload, 1), (344, .lor, 1), (345, .invokevirtual 100, 3), (348, .lastore, 1), (349, .aload_n 0, 1), (350, .getfield 31, 3), (353, .iload 5, 2), (355, .iload 7, 2)] = true := by decide +kernel
theorem dX42_join_328 : decode cX42_join 328 = .ok (.getfield 28, 3) := zdec_at bX42_join_328 0 rfl
theorem dX42_join_331 : decode cX42_join 331 = .ok (.iload 5, 2) := zdec_at bX42_join_328 1 rfl
theorem dX42_join_333 : decode cX42_join 333 = .ok (.iload 7, 2) := zdec_at bX42_join_328 2 rfl
theorem dX42_join_335 : decode cX42_join 335 = .ok (.iadd, 1) := zdec_at bX42_join_328 3 rfl
theorem dX42_join_336 : decode cX42_join 336 = .ok (.laload, 1) := zdec_at bX42_join_328 4 rfl
theorem dX42_join_337 : decode cX42_join 337 = .ok (.aload_n 2, 1) := zdec_at bX42_join_328 5 rfl
theorem dX42_join_338 : decode cX42_join 338 = .ok (.getfield 111, 3) := zdec_at bX42_join_328 6 rfl
theorem dX42_join_341 : decode cX42_join 341 = .ok (.iload 7, 2) := zdec_at bX42_join_328 7 rfl
theorem dX42_join_343 : decode cX42_join 343 = .ok (.laload, 1) := zdec_at bX42_join_328 8 rfl
theorem dX42_join_344 : decode cX42_join 344 = .ok (.lor, 1) := zdec_at bX42_join_328 9 rfl
theorem dX42_join_345 : decode cX42_join 345 = .ok (.invokevirtual 100, 3) := zdec_at bX42_join_328 10 rfl
theorem dX42_join_348 : decode cX42_join 348 = .ok (.lastore, 1) := zdec_at bX42_join_328 11 rfl
theorem dX42_join_349 : decode cX42_join 349 = .ok (.aload_n 0, 1) := zdec_at bX42_join_328 12 rfl
theorem dX42_join_350 : decode cX42_join 350 = .ok (.getfield 31, 3) := zdec_at bX42_join_328 13 rfl
theorem dX42_join_353 : decode cX42_join 353 = .ok (.iload 5, 2) := zdec_at bX42_join_328 14 rfl
theorem dX42_join_355 : decode cX42_join 355 = .ok (.iload 7, 2) := zdec_at bX42_join_328 15 rfl
theorem bX42_join_357 : zdec cX42_join 357 [(357, .iadd, 1), (358, .aload_n 0, 1), (359, .aload_n 0, 1), (360, .getfield 31, 3), (363, .iload 5, 2), (365, .iload 7, 2), (367, .iadd, 1), (368, .laload, 1), (369, .aload_n 0, 1), (370, .getfield 31, 3), (373, .iload 5, 2), (375, .iload 7, 2), (377, .iadd, 1), (378, .laload, 1), (379, .aload_n 2, 1), (380, .getfield 112, 3)] = true := by decide +kernel
theorem dX42_join_357 : decode cX42_join 357 = .ok (.iadd, 1) := zdec_at bX42_join_357 0 rfl
theorem dX42_join_358 : decode cX42_join 358 = .ok (.aload_n 0, 1) := zdec_at bX42_join_357 1 rfl
theorem dX42_join_359 : decode cX42_join 359 = .ok (.aload_n 0, 1) := zdec_at bX42_join_357 2 rfl
theorem dX42_join_360 : decode cX42_join 360 = .ok (.getfield 31, 3) := zdec_at bX42_join_357 3 rfl
theorem dX42_join_363 : decode cX42_join 363 = .ok (.iload 5, 2) := zdec_at bX42_join_357 4 rfl
theorem dX42_join_365 : decode cX42_join 365 = .ok (.iload 7, 2) := zdec_at bX42_join_357 5 rfl
theorem dX42_join_367 : decode cX42_join 367 = .ok (.iadd, 1) := zdec_at bX42_join_357 6 rfl
theorem dX42_join_368 : decode cX42_join 368 = .ok (.laload, 1) := zdec_at bX42_join_357 7 rfl
theorem dX42_join_369 : decode cX42_join 369 = .ok (.aload_n 0, 1) := zdec_at bX42_join_357 8 rfl
theorem dX42_join_370 : decode cX42_join 370 = .ok (.getfield 31, 3) := zdec_at bX42_join_357 9 rfl
theorem dX42_join_373 : decode cX42_join 373 = .ok (.iload 5, 2) := zdec_at bX42_join_357 10 rfl
theorem dX42_join_375 : decode cX42_join 375 = .ok (.iload 7, 2) := zdec_at bX42_join_357 11 rfl
theorem dX42_join_377 : decode cX42_join 377 = .ok (.iadd, 1) := zdec_at bX42_join_357 12 rfl
theorem dX42_join_378 : decode cX42_join 378 = .ok (.laload, 1) := zdec_at bX42_join_357 13 rfl
theorem dX42_join_379 : decode cX42_join 379 = .ok (.aload_n 2, 1) := zdec_at bX42_join_357 14 rfl
theorem dX42_join_380 : decode cX42_join 380 = .ok (.getfield 112, 3) := zdec_at bX42_join_357 15 rfl
theorem bX42_join_383 : zdec cX42_join 383 [(383, .iload 7, 2), (385, .laload, 1), (386, .lor, 1), (387, .invokevirtual 100, 3), (390, .lastore, 1), (391, .aload_n 0, 1), (392, .getfield 34, 3), (395, .iload 5, 2), (397, .iload 7, 2), (399, .iadd, 1), (400, .aload_n 0, 1), (401, .aload_n 0, 1), (402, .getfield 34, 3), (405, .iload 5, 2), (407, .iload 7, 2), (409, .iadd, 1)] = true := by decide +kernel
theorem dX42_join_383 : decode cX42_join 383 = .ok (.iload 7, 2) := zdec_at bX42_join_383 0 rfl
theorem dX42_join_385 : decode cX42_join 385 = .ok (.laload, 1) := zdec_at bX42_join_383 1 rfl
theorem dX42_join_386 : decode cX42_join 386 = .ok (.lor, 1) := zdec_at bX42_join_383 2 rfl
theorem dX42_join_387 : decode cX42_join 387 = .ok (.invokevirtual 100, 3) := zdec_at bX42_join_383 3 rfl
theorem dX42_join_390 : decode cX42_join 390 = .ok (.lastore, 1) := zdec_at bX42_join_383 4 rfl
theorem dX42_join_391 : decode cX42_join 391 = .ok (.aload_n 0, 1) := zdec_at bX42_join_383 5 rfl
theorem dX42_join_392 : decode cX42_join 392 = .ok (.getfield 34, 3) := zdec_at bX42_join_383 6 rfl
theorem dX42_join_395 : decode cX42_join 395 = .ok (.iload 5, 2) := zdec_at bX42_join_383 7 rfl
theorem dX42_join_397 : decode cX42_join 397 = .ok (.iload 7, 2) := zdec_at bX42_join_383 8 rfl
theorem dX42_join_399 : decode cX42_join 399 = .ok (.iadd, 1) := zdec_at bX42_join_383 9 rfl
theorem dX42_join_400 : decode cX42_join 400 = .ok (.aload_n 0, 1) := zdec_at bX42_join_383 10 rfl
theorem dX42_join_401 : decode cX42_join 401 = .ok (.aload_n 0, 1) := zdec_at bX42_join_383 11 rfl
theorem dX42_join_402 : decode cX42_join 402 = .ok (.getfield 34, 3) := zdec_at bX42_join_383 12 rfl
theorem dX42_join_405 : decode cX42_join 405 = .ok (.iload 5, 2) := zdec_at bX42_join_383 13 rfl
theorem dX42_join_407 : decode cX42_join 407 = .ok (.iload 7, 2) := zdec_at bX42_join_383 14 rfl
theorem dX42_join_409 : decode cX42_join 409 = .ok (.iadd, 1) := zdec_at bX42_join_383 15 rfl
theorem bX42_join_410 : zdec cX42_join 410 [(410, .baload, 1), (411, .i2l, 1), (412, .aload_n 0, 1), (413, .getfield 34, 3), (416, .iload 5, 2), (418, .iload 7, 2), (420, .iadd, 1), (421, .baload, 1), (422, .aload_n 0, 1), (423, .aload_n 2, 1), (424, .iload 7, 2), (426, .invokevirtual 113, 3), (429, .ior, 1), (430, .i2l, 1), (431, .invokevirtual 100, 3), (434, .l2i, 1)] = true := by decide +kernel
theorem dX42_join_410 : decode cX42_join 410 = .ok (.baload, 1) := zdec_at bX42_join_410 0 rfl
theorem dX42_join_411 : decode cX42_join 411 = .ok (.i2l, 1) := zdec_at bX42_join_410 1 rfl
theorem dX42_join_412 : decode cX42_join 412 = .ok (.aload_n 0, 1) := zdec_at bX42_join_410 2 rfl
theorem dX42_join_413 : decode cX42_join 413 = .ok (.getfield 34, 3) := zdec_at bX42_join_410 3 rfl
theorem dX42_join_416 : decode cX42_join 416 = .ok (.iload 5, 2) := zdec_at bX42_join_410 4 rfl
theorem dX42_join_418 : decode cX42_join 418 = .ok (.iload 7, 2) := zdec_at bX42_join_410 5 rfl
theorem dX42_join_420 : decode cX42_join 420 = .ok (.iadd, 1) := zdec_at bX42_join_410 6 rfl
theorem dX42_join_421 : decode cX42_join 421 = .ok (.baload, 1) := zdec_at bX42_join_410 7 rfl
theorem dX42_join_422 : decode cX42_join 422 = .ok (.aload_n 0, 1) := zdec_at bX42_join_410 8 rfl
theorem dX42_join_423 : decode cX42_join 423 = .ok (.aload_n 2, 1) := zdec_at bX42_join_410 9 rfl
theorem dX42_join_424 : decode cX42_join 424 = .ok (.iload 7, 2) := zdec_at bX42_join_410 10 rfl
theorem dX42_join_426 : decode cX42_join 426 = .ok (.invokevirtual 113, 3) := zdec_at bX42_join_410 11 rfl
theorem dX42_join_429 : decode cX42_join 429 = .ok (.ior, 1) := zdec_at bX42_join_410 12 rfl
theorem dX42_join_430 : decode cX42_join 430 = .ok (.i2l, 1) := zdec_at bX42_join_410 13 rfl
theorem dX42_join_431 : decode cX42_join 431 = .ok (.invokevirtual 100, 3) := zdec_at bX42_join_410 14 rfl
theorem dX42_join_434 : decode cX42_join 434 = .ok (.l2i, 1) := zdec_at bX42_join_410 15 rfl
theorem bX42_join_435 : zdec cX42_join 435 [(435, .i2b, 1), (436, .bastore, 1), (437, .iinc 7 1, 3), (440, .goto (-229), 3), (443, .iconst 0, 1), (444, .istore 7, 2), (446, .iload 7, 2), (448, .aload_n 0, 1), (449, .getfield 38, 3), (452, .iload_n 1, 1), (453, .iaload, 1), (454, .if_icmp .ge 137, 3), (457, .aload_n 0, 1), (458, .getfield 60, 3), (461, .iload 6, 2), (463, .iload 7, 2)] = true := by decide +kernel
theorem dX42_join_435 : decode cX42_join 435 = .ok (.i2b, 1) := zdec_at bX42_join_435 0 rfl
theorem dX42_join_436 : decode cX42_join 436 = .ok (.bastore, 1) := zdec_at bX42_join_435 1 rfl
theorem dX42_join_437 : decode cX42_join 437 = .ok (.iinc 7 1, 3) := zdec_at bX42_join_435 2 rfl
theorem dX42_join_440 : decode cX42_join 440 = .ok (.goto (-229), 3) := zdec_at bX42_join_435 3 rfl
theorem dX42_join_443 : decode cX42_join 443 = .ok (.iconst 0, 1) := zdec_at bX42_join_435 4 rfl
theorem dX42_join_444 : decode cX42_join 444 = .ok (.istore 7, 2) := zdec_at bX42_join_435 5 rfl
theorem dX42_join_446 : decode cX42_join 446 = .ok (.iload 7, 2) := zdec_at bX42_join_435 6 rfl
theorem dX42_join_448 : decode cX42_join 448 = .ok (.aload_n 0, 1) := zdec_at bX42_join_435 7 rfl
theorem dX42_join_449 : decode cX42_join 449 = .ok (.getfield 38, 3) := zdec_at bX42_join_435 8 rfl
theorem dX42_join_452 : decode cX42_join 452 = .ok (.iload_n 1, 1) := zdec_at bX42_join_435 9 rfl
theorem dX42_join_453 : decode cX42_join 453 = .ok (.iaload, 1) := zdec_at bX42_join_435 10 rfl
theorem dX42_join_454 : decode cX42_join 454 = .ok (.if_icmp .ge 137, 3) := zdec_at bX42_join_435 11 rfl
theorem dX42_join_457 : decode cX42_join 457 = .ok (.aload_n 0, 1) := zdec_at bX42_join_435 12 rfl
theorem dX42_join_458 : decode cX42_join 458 = .ok (.getfield 60, 3) := zdec_at bX42_join_435 13 rfl
theorem dX42_join_461 : decode cX42_join 461 = .ok (.iload 6, 2) := zdec_at bX42_join_435 14 rfl
theorem dX42_join_463 : decode cX42_join 463 = .ok (.iload 7, 2) := zdec_at bX42_join_435 15 rfl
theorem bX42_join_465 : zdec cX42_join 465 [(465, .iadd, 1), (466, .aload_n 0, 1), (467, .aload_n 0, 1), (468, .getfield 60, 3), (471, .iload 6, 2), (473, .iload 7, 2), (475, .iadd, 1), (476, .laload, 1), (477, .aload_n 0, 1), (478, .getfield 60, 3), (481, .iload 6, 2), (483, .iload 7, 2), (485, .iadd, 1), (486, .laload, 1), (487, .aload_n 2, 1), (488, .getfield 117, 3)] = true := by decide +kernel
theorem dX42_join_465 : decode cX42_join 465 = .ok (.iadd, 1) := zdec_at bX42_join_465 0 rfl
theorem dX42_join_466 : decode cX42_join 466 = .ok (.aload_n 0, 1) := zdec_at bX42_join_465 1 rfl
theorem dX42_join_467 : decode cX42_join 467 = .ok (.aload_n 0, 1) := zdec_at bX42_join_465 2 rfl
theorem dX42_join_468 : decode cX42_join 468 = .ok (.getfield 60, 3) := zdec_at bX42_join_465 3 rfl
theorem dX42_join_471 : decode cX42_join 471 = .ok (.iload 6, 2) := zdec_at bX42_join_465 4 rfl
theorem dX42_join_473 : decode cX42_join 473 = .ok (.iload 7, 2) := zdec_at bX42_join_465 5 rfl
theorem dX42_join_475 : decode cX42_join 475 = .ok (.iadd, 1) := zdec_at bX42_join_465 6 rfl
theorem dX42_join_476 : decode cX42_join 476 = .ok (.laload, 1) := zdec_at bX42_join_465 7 rfl
theorem dX42_join_477 : decode cX42_join 477 = .ok (.aload_n 0, 1) := zdec_at bX42_join_465 8 rfl
theorem dX42_join_478 : decode cX42_join 478 = .ok (.getfield 60, 3) := zdec_at bX42_join_465 9 rfl
theorem dX42_join_481 : decode cX42_join 481 = .ok (.iload 6, 2) := zdec_at bX42_join_465 10 rfl
theorem dX42_join_483 : decode cX42_join 483 = .ok (.iload 7, 2) := zdec_at bX42_join_465 11 rfl
theorem dX42_join_485 : decode cX42_join 485 = .ok (.iadd, 1) := zdec_at bX42_join_465 12 rfl
theorem dX42_join_486 : decode cX42_join 486 = .ok (.laload, 1) := zdec_at bX42_join_465 13 rfl
theorem dX42_join_487 : decode cX42_join 487 = .ok (.aload_n 2, 1) := zdec_at bX42_join_465 14 rfl
theorem dX42_join_488 : decode cX42_join 488 = .ok (.getfield 117, 3) := zdec_at bX42_join_465 15 rfl
theorem bX42_join_491 : zdec cX42_join 491 [(491, .iload 7, 2), (493, .laload, 1), (494, .lor, 1), (495, .invokevirtual 100, 3), (498, .lastore, 1), (499, .aload_n 0, 1), (500, .getfield 63, 3), (503, .iload 6, 2), (505, .iload 7, 2), (507, .iadd, 1), (508, .aload_n 0, 1), (509, .aload_n 0, 1), (510, .getfield 63, 3), (513, .iload 6, 2), (515, .iload 7, 2), (517, .iadd, 1)] = true := by decide +kernel
theorem dX42_join_491 : decode cX42_join 491 = .ok (.iload 7, 2) := zdec_at bX42_join_491 0 rfl
theorem dX42_join_493 : decode cX42_join 493 = .ok (.laload, 1) := zdec_at bX42_join_491 1 rfl
theorem dX42_join_494 : decode cX42_join 494 = .ok (.lor, 1) := zdec_at bX42_join_491 2 rfl
theorem dX42_join_495 : decode cX42_join 495 = .ok (.invokevirtual 100, 3) := zdec_at bX42_join_491 3 rfl
theorem dX42_join_498 : decode cX42_join 498 = .ok (.lastore, 1) := zdec_at bX42_join_491 4 rfl
theorem dX42_join_499 : decode cX42_join 499 = .ok (.aload_n 0, 1) := zdec_at bX42_join_491 5 rfl
theorem dX42_join_500 : decode cX42_join 500 = .ok (.getfield 63, 3) := zdec_at bX42_join_491 6 rfl
theorem dX42_join_503 : decode cX42_join 503 = .ok (.iload 6, 2) := zdec_at bX42_join_491 7 rfl
theorem dX42_join_505 : decode cX42_join 505 = .ok (.iload 7, 2) := zdec_at bX42_join_491 8 rfl
theorem dX42_join_507 : decode cX42_join 507 = .ok (.iadd, 1) := zdec_at bX42_join_491 9 rfl
theorem dX42_join_508 : decode cX42_join 508 = .ok (.aload_n 0, 1) := zdec_at bX42_join_491 10 rfl
theorem dX42_join_509 : decode cX42_join 509 = .ok (.aload_n 0, 1) := zdec_at bX42_join_491 11 rfl
theorem dX42_join_510 : decode cX42_join 510 = .ok (.getfield 63, 3) := zdec_at bX42_join_491 12 rfl
theorem dX42_join_513 : decode cX42_join 513 = .ok (.iload 6, 2) := zdec_at bX42_join_491 13 rfl
theorem dX42_join_515 : decode cX42_join 515 = .ok (.iload 7, 2) := zdec_at bX42_join_491 14 rfl
theorem dX42_join_517 : decode cX42_join 517 = .ok (.iadd, 1) := zdec_at bX42_join_491 15 rfl
theorem bX42_join_518 : zdec cX42_join 518 [(518, .laload, 1), (519, .aload_n 0, 1), (520, .getfield 63, 3), (523, .iload 6, 2), (525, .iload 7, 2), (527, .iadd, 1), (528, .laload, 1), (529, .aload_n 2, 1), (530, .getfield 118, 3), (533, .iload 7, 2), (535, .laload, 1), (536, .lor, 1), (537, .invokevirtual 100, 3), (540, .lastore, 1), (541, .aload_n 0, 1), (542, .getfield 66, 3)] = true := by decide +kernel
theorem dX42_join_518 : decode cX42_join 518 = .ok (.laload, 1) := zdec_at bX42_join_518 0 rfl
theorem dX42_join_519 : decode cX42_join 519 = .ok (.aload_n 0, 1) := zdec_at bX42_join_518 1 rfl
theorem dX42_join_520 : decode cX42_join 520 = .ok (.getfield 63, 3) := zdec_at bX42_join_518 2 rfl
theorem dX42_join_523 : decode cX42_join 523 = .ok (.iload 6, 2) := zdec_at bX42_join_518 3 rfl
theorem dX42_join_525 : decode cX42_join 525 = .ok (.iload 7, 2) := zdec_at bX42_join_518 4 rfl
theorem dX42_join_527 : decode cX42_join 527 = .ok (.iadd, 1) := zdec_at bX42_join_518 5 rfl
theorem dX42_join_528 : decode cX42_join 528 = .ok (.laload, 1) := zdec_at bX42_join_518 6 rfl
theorem dX42_join_529 : decode cX42_join 529 = .ok (.aload_n 2, 1) := zdec_at bX42_join_518 7 rfl
theorem dX42_join_530 : decode cX42_join 530 = .ok (.getfield 118, 3) := zdec_at bX42_join_518 8 rfl
theorem dX42_join_533 : decode cX42_join 533 = .ok (.iload 7, 2) := zdec_at bX42_join_518 9 rfl
theorem dX42_join_535 : decode cX42_join 535 = .ok (.laload, 1) := zdec_at bX42_join_518 10 rfl
theorem dX42_join_536 : decode cX42_join 536 = .ok (.lor, 1) := zdec_at bX42_join_518 11 rfl
theorem dX42_join_537 : decode cX42_join 537 = .ok (.invokevirtual 100, 3) := zdec_at bX42_join_518 12 rfl
theorem dX42_join_540 : decode cX42_join 540 = .ok (.lastore, 1) := zdec_at bX42_join_518 13 rfl
theorem dX42_join_541 : decode cX42_join 541 = .ok (.aload_n 0, 1) := zdec_at bX42_join_518 14 rfl
theorem dX42_join_542 : decode cX42_join 542 = .ok (.getfield 66, 3) := zdec_at bX42_join_518 15 rfl
theorem bX42_join_545 : zdec cX42_join 545 [(545, .iload 6, 2), (547, .iload 7, 2), (549, .iadd, 1), (550, .aload_n 0, 1), (551, .aload_n 0, 1), (552, .getfield 66, 3), (555, .iload 6, 2), (557, .iload 7, 2), (559, .iadd, 1), (560, .laload, 1), (561, .aload_n 0, 1), (562, .getfield 66, 3), (565, .iload 6, 2), (567, .iload 7, 2), (569, .iadd, 1), (570, .laload, 1)] = true := by decide +kernel
theorem dX42_join_545 : decode cX42_join 545 = .ok (.iload 6, 2) := zdec_at bX42_join_545 0 rfl
theorem dX42_join_547 : decode cX42_join 547 = .ok (.iload 7, 2) := zdec_at bX42_join_545 1 rfl
theorem dX42_join_549 : decode cX42_join 549 = .ok (.iadd, 1) := zdec_at bX42_join_545 2 rfl
theorem dX42_join_550 : decode cX42_join 550 = .ok (.aload_n 0, 1) := zdec_at bX42_join_545 3 rfl
theorem dX42_join_551 : decode cX42_join 551 = .ok (.aload_n 0, 1) := zdec_at bX42_join_545 4 rfl
theorem dX42_join_552 : decode cX42_join 552 = .ok (.getfield 66, 3) := zdec_at bX42_join_545 5 rfl
theorem dX42_join_555 : decode cX42_join 555 = .ok (.iload 6, 2) := zdec_at bX42_join_545 6 rfl
theorem dX42_join_557 : decode cX42_join 557 = .ok (.iload 7, 2) := zdec_at bX42_join_545 7 rfl
theorem dX42_join_559 : decode cX42_join 559 = .ok (.iadd, 1) := zdec_at bX42_join_545 8 rfl
theorem dX42_join_560 : decode cX42_join 560 = .ok (.laload, 1) := zdec_at bX42_join_545 9 rfl
theorem dX42_join_561 : decode cX42_join 561 = .ok (.aload_n 0, 1) := zdec_at bX42_join_545 10 rfl
theorem dX42_join_562 : decode cX42_join 562 = .ok (.getfield 66, 3) := zdec_at bX42_join_545 11 rfl
theorem dX42_join_565 : decode cX42_join 565 = .ok (.iload 6, 2) := zdec_at bX42_join_545 12 rfl
theorem dX42_join_567 : decode cX42_join 567 = .ok (.iload 7, 2) := zdec_at bX42_join_545 13 rfl
theorem dX42_join_569 : decode cX42_join 569 = .ok (.iadd, 1) := zdec_at bX42_join_545 14 rfl
theorem dX42_join_570 : decode cX42_join 570 = .ok (.laload, 1) := zdec_at bX42_join_545 15 rfl
theorem bX42_join_571 : zdec cX42_join 571 [(571, .aload_n 2, 1), (572, .getfield 119, 3), (575, .iload 7, 2), (577, .laload, 1), (578, .invokestatic 106, 3), (581, .invokevirtual 100, 3), (584, .lastore, 1), (585, .iinc 7 1, 3), (588, .goto (-142), 3), (591, .aload_n 0, 1), (592, .getfield 45, 3), (595, .iload_n 1, 1), (596, .aload_n 0, 1), (597, .aload_n 0, 1), (598, .getfield 45, 3), (601, .iload_n 1, 1)] = true := by decide +kernel
theorem dX42_join_571 : decode cX42_join 571 = .ok (.aload_n 2, 1) := zdec_at bX42_join_571 0 rfl
theorem dX42_join_572 : decode cX42_join 572 = .ok (.getfield 119, 3) := zdec_at bX42_join_571 1 rfl
theorem dX42_join_575 : decode cX42_join 575 = .ok (.iload 7, 2) := zdec_at bX42_join_571 2 rfl
theorem dX42_join_577 : decode cX42_join 577 = .ok (.laload, 1) := zdec_at bX42_join_571 3 rfl
theorem dX42_join_578 : decode cX42_join 578 = .ok (.invokestatic 106, 3) := zdec_at bX42_join_571 4 rfl
theorem dX42_join_581 : decode cX42_join 581 = .ok (.invokevirtual 100, 3) := zdec_at bX42_join_571 5 rfl
theorem dX42_join_584 : decode cX42_join 584 = .ok (.lastore, 1) := zdec_at bX42_join_571 6 rfl
theorem dX42_join_585 : decode cX42_join 585 = .ok (.iinc 7 1, 3) := zdec_at bX42_join_571 7 rfl
theorem dX42_join_588 : decode cX42_join 588 = .ok (.goto (-142), 3) := zdec_at bX42_join_571 8 rfl
theorem dX42_join_591 : decode cX42_join 591 = .ok (.aload_n 0, 1) := zdec_at bX42_join_571 9 rfl
theorem dX42_join_592 : decode cX42_join 592 = .ok (.getfield 45, 3) := zdec_at bX42_join_571 10 rfl
theorem dX42_join_595 : decode cX42_join 595 = .ok (.iload_n 1, 1) := zdec_at bX42_join_571 11 rfl
theorem dX42_join_596 : decode cX42_join 596 = .ok (.aload_n 0, 1) := zdec_at bX42_join_571 12 rfl
theorem dX42_join_597 : decode cX42_join 597 = .ok (.aload_n 0, 1) := zdec_at bX42_join_571 13 rfl
theorem dX42_join_598 : decode cX42_join 598 = .ok (.getfield 45, 3) := zdec_at bX42_join_571 14 rfl
theorem dX42_join_601 : decode cX42_join 601 = .ok (.iload_n 1, 1) := zdec_at bX42_join_571 15 rfl
theorem bX42_join_602 : zdec cX42_join 602 [(602, .laload, 1), (603, .aload_n 0, 1), (604, .getfield 45, 3), (607, .iload_n 1, 1), (608, .laload, 1), (609, .aload_n 2, 1), (610, .getfield 120, 3), (613, .lor, 1), (614, .invokevirtual 100, 3), (617, .lastore, 1), (618, .aload_n 0, 1), (619, .getfield 48, 3), (622, .iload_n 1, 1), (623, .aload_n 0, 1), (624, .aload_n 0, 1), (625, .getfield 48, 3)] = true := by decide +kernel
theorem dX42_join_602 : decode cX42_join 602 = .ok (.laload, 1) := zdec_at bX42_join_602 0 rfl
theorem dX42_join_603 : decode cX42_join 603 = .ok (.aload_n 0, 1) := zdec_at bX42_join_602 1 rfl
theorem dX42_join_604 : decode cX42_join 604 = .ok (.getfield 45, 3) := zdec_at bX42_join_602 2 rfl
theorem dX42_join_607 : decode cX42_join 607 = .ok (.iload_n 1, 1) := zdec_at bX42_join_602 3 rfl
theorem dX42_join_608 : decode cX42_join 608 = .ok (.laload, 1) := zdec_at bX42_join_602 4 rfl
theorem dX42_join_609 : decode cX42_join 609 = .ok (.aload_n 2, 1) := zdec_at bX42_join_602 5 rfl
theorem dX42_join_610 : decode cX42_join 610 = .ok (.getfield 120, 3) := zdec_at bX42_join_602 6 rfl
theorem dX42_join_613 : decode cX42_join 613 = .ok (.lor, 1) := zdec_at bX42_join_602 7 rfl
theorem dX42_join_614 : decode cX42_join 614 = .ok (.invokevirtual 100, 3) := zdec_at bX42_join_602 8 rfl
theorem dX42_join_617 : decode cX42_join 617 = .ok (.lastore, 1) := zdec_at bX42_join_602 9 rfl
theorem dX42_join_618 : decode cX42_join 618 = .ok (.aload_n 0, 1) := zdec_at bX42_join_602 10 rfl
theorem dX42_join_619 : decode cX42_join 619 = .ok (.getfield 48, 3) := zdec_at bX42_join_602 11 rfl
theorem dX42_join_622 : decode cX42_join 622 = .ok (.iload_n 1, 1) := zdec_at bX42_join_602 12 rfl
theorem dX42_join_623 : decode cX42_join 623 = .ok (.aload_n 0, 1) := zdec_at bX42_join_602 13 rfl
theorem dX42_join_624 : decode cX42_join 624 = .ok (.aload_n 0, 1) := zdec_at bX42_join_602 14 rfl
theorem dX42_join_625 : decode cX42_join 625 = .ok (.getfield 48, 3) := zdec_at bX42_join_602 15 rfl
theorem bX42_join_628 : zdec cX42_join 628 [(628, .iload_n 1, 1), (629, .laload, 1), (630, .aload_n 0, 1), (631, .getfield 48, 3), (634, .iload_n 1, 1), (635, .laload, 1), (636, .aload_n 2, 1), (637, .getfield 123, 3), (640, .lor, 1), (641, .invokevirtual 100, 3), (644, .lastore, 1), (645, .aload_n 0, 1), (646, .getfield 51, 3), (649, .iload_n 1, 1), (650, .aload_n 0, 1), (651, .aload_n 0, 1)] = true := by decide +kernel
theorem dX42_join_628 : decode cX42_join 628 = .ok (.iload_n 1, 1) := zdec_at bX42_join_628 0 rfl
theorem dX42_join_629 : decode cX42_join 629 = .ok (.laload, 1) := zdec_at bX42_join_628 1 rfl
theorem dX42_join_630 : decode cX42_join 630 = .ok (.aload_n 0, 1) := zdec_at bX42_join_628 2 rfl
theorem dX42_join_631 : decode cX42_join 631 = .ok (.getfield 48, 3) := zdec_at bX42_join_628 3 rfl
theorem dX42_join_634 : decode cX42_join 634 = .ok (.iload_n 1, 1) := zdec_at bX42_join_628 4 rfl
theorem dX42_join_635 : decode cX42_join 635 = .ok (.laload, 1) := zdec_at bX42_join_628 5 rfl
theorem dX42_join_636 : decode cX42_join 636 = .ok (.aload_n 2, 1) := zdec_at bX42_join_628 6 rfl
theorem dX42_join_637 : decode cX42_join 637 = .ok (.getfield 123, 3) := zdec_at bX42_join_628 7 rfl
theorem dX42_join_640 : decode cX42_join 640 = .ok (.lor, 1) := zdec_at bX42_join_628 8 rfl
theorem dX42_join_641 : decode cX42_join 641 = .ok (.invokevirtual 100, 3) := zdec_at bX42_join_628 9 rfl
theorem dX42_join_644 : decode cX42_join 644 = .ok (.lastore, 1) := zdec_at bX42_join_628 10 rfl
theorem dX42_join_645 : decode cX42_join 645 = .ok (.aload_n 0, 1) := zdec_at bX42_join_628 11 rfl
theorem dX42_join_646 : decode cX42_join 646 = .ok (.getfield 51, 3) := zdec_at bX42_join_628 12 rfl
theorem dX42_join_649 : decode cX42_join 649 = .ok (.iload_n 1, 1) := zdec_at bX42_join_628 13 rfl
theorem dX42_join_650 : decode cX42_join 650 = .ok (.aload_n 0, 1) := zdec_at bX42_join_628 14 rfl
theorem dX42_join_651 : decode cX42_join 651 = .ok (.aload_n 0, 1) := zdec_at bX42_join_628 15 rfl
theorem bX42_join_652 : zdec cX42_join 652 [(652, .getfield 51, 3), (655, .iload_n 1, 1), (656, .laload, 1), (657, .aload_n 0, 1), (658, .getfield 51, 3), (661, .iload_n 1, 1), (662, .laload, 1), (663, .aload_n 2, 1), (664, .getfield 125, 3), (667, .invokestatic 106, 3), (670, .invokevirtual 100, 3), (673, .lastore, 1), (674, .aload_n 0, 1), (675, .getfield 54, 3), (678, .iload_n 1, 1), (679, .aload_n 0, 1)] = true := by decide +kernel
theorem dX42_join_652 : decode cX42_join 652 = .ok (.getfield 51, 3) := zdec_at bX42_join_652 0 rfl
theorem dX42_join_655 : decode cX42_join 655 = .ok (.iload_n 1, 1) := zdec_at bX42_join_652 1 rfl
theorem dX42_join_656 : decode cX42_join 656 = .ok (.laload, 1) := zdec_at bX42_join_652 2 rfl
theorem dX42_join_657 : decode cX42_join 657 = .ok (.aload_n 0, 1) := zdec_at bX42_join_652 3 rfl
theorem dX42_join_658 : decode cX42_join 658 = .ok (.getfield 51, 3) := zdec_at bX42_join_652 4 rfl
theorem dX42_join_661 : decode cX42_join 661 = .ok (.iload_n 1, 1) := zdec_at bX42_join_652 5 rfl
theorem dX42_join_662 : decode cX42_join 662 = .ok (.laload, 1) := zdec_at bX42_join_652 6 rfl
theorem dX42_join_663 : decode cX42_join 663 = .ok (.aload_n 2, 1) := zdec_at bX42_join_652 7 rfl
theorem dX42_join_664 : decode cX42_join 664 = .ok (.getfield 125, 3) := zdec_at bX42_join_652 8 rfl
theorem dX42_join_667 : decode cX42_join 667 = .ok (.invokestatic 106, 3) := zdec_at bX42_join_652 9 rfl
theorem dX42_join_670 : decode cX42_join 670 = .ok (.invokevirtual 100, 3) := zdec_at bX42_join_652 10 rfl
theorem dX42_join_673 : decode cX42_join 673 = .ok (.lastore, 1) := zdec_at bX42_join_652 11 rfl
theorem dX42_join_674 : decode cX42_join 674 = .ok (.aload_n 0, 1) := zdec_at bX42_join_652 12 rfl
theorem dX42_join_675 : decode cX42_join 675 = .ok (.getfield 54, 3) := zdec_at bX42_join_652 13 rfl
theorem dX42_join_678 : decode cX42_join 678 = .ok (.iload_n 1, 1) := zdec_at bX42_join_652 14 rfl
theorem dX42_join_679 : decode cX42_join 679 = .ok (.aload_n 0, 1) := zdec_at bX42_join_652 15 rfl
theorem bX42_join_680 : zdec cX42_join 680 [(680, .aload_n 0, 1), (681, .getfield 54, 3), (684, .iload_n 1, 1), (685, .laload, 1), (686, .aload_n 0, 1), (687, .getfield 54, 3), (690, .iload_n 1, 1), (691, .laload, 1), (692, .aload_n 2, 1), (693, .getfield 127, 3), (696, .lor, 1), (697, .invokevirtual 100, 3), (700, .lastore, 1), (701, .aload_n 0, 1), (702, .getfield 57, 3), (705, .iload_n 1, 1)] = true := by decide +kernel
theorem dX42_join_680 : decode cX42_join 680 = .ok (.aload_n 0, 1) := zdec_at bX42_join_680 0 rfl
theorem dX42_join_681 : decode cX42_join 681 = .ok (.getfield 54, 3) := zdec_at bX42_join_680 1 rfl
theorem dX42_join_684 : decode cX42_join 684 = .ok (.iload_n 1, 1) := zdec_at bX42_join_680 2 rfl
theorem dX42_join_685 : decode cX42_join 685 = .ok (.laload, 1) := zdec_at bX42_join_680 3 rfl
theorem dX42_join_686 : decode cX42_join 686 = .ok (.aload_n 0, 1) := zdec_at bX42_join_680 4 rfl
theorem dX42_join_687 : decode cX42_join 687 = .ok (.getfield 54, 3) := zdec_at bX42_join_680 5 rfl
theorem dX42_join_690 : decode cX42_join 690 = .ok (.iload_n 1, 1) := zdec_at bX42_join_680 6 rfl
theorem dX42_join_691 : decode cX42_join 691 = .ok (.laload, 1) := zdec_at bX42_join_680 7 rfl
theorem dX42_join_692 : decode cX42_join 692 = .ok (.aload_n 2, 1) := zdec_at bX42_join_680 8 rfl
theorem dX42_join_693 : decode cX42_join 693 = .ok (.getfield 127, 3) := zdec_at bX42_join_680 9 rfl
theorem dX42_join_696 : decode cX42_join 696 = .ok (.lor, 1) := zdec_at bX42_join_680 10 rfl
theorem dX42_join_697 : decode cX42_join 697 = .ok (.invokevirtual 100, 3) := zdec_at bX42_join_680 11 rfl
theorem dX42_join_700 : decode cX42_join 700 = .ok (.lastore, 1) := zdec_at bX42_join_680 12 rfl
theorem dX42_join_701 : decode cX42_join 701 = .ok (.aload_n 0, 1) := zdec_at bX42_join_680 13 rfl
theorem dX42_join_702 : decode cX42_join 702 = .ok (.getfield 57, 3) := zdec_at bX42_join_680 14 rfl
theorem dX42_join_705 : decode cX42_join 705 = .ok (.iload_n 1, 1) := zdec_at bX42_join_680 15 rfl
theorem bX42_join_706 : zdec cX42_join 706 [(706, .aload_n 0, 1), (707, .aload_n 0, 1), (708, .getfield 57, 3), (711, .iload_n 1, 1), (712, .laload, 1), (713, .aload_n 0, 1), (714, .getfield 57, 3), (717, .iload_n 1, 1), (718, .laload, 1), (719, .aload_n 2, 1), (720, .getfield 129, 3), (723, .lor, 1), (724, .invokevirtual 100, 3), (727, .lastore, 1), (728, .aload_n 0, 1), (729, .getfield 83, 3)] = true := by decide +kernel
theorem dX42_join_706 : decode cX42_join 706 = .ok (.aload_n 0, 1) := zdec_at bX42_join_706 0 rfl
theorem dX42_join_707 : decode cX42_join 707 = .ok (.aload_n 0, 1) := zdec_at bX42_join_706 1 rfl
theorem dX42_join_708 : decode cX42_join 708 = .ok (.getfield 57, 3) := zdec_at bX42_join_706 2 rfl
theorem dX42_join_711 : decode cX42_join 711 = .ok (.iload_n 1, 1) := zdec_at bX42_join_706 3 rfl
theorem dX42_join_712 : decode cX42_join 712 = .ok (.laload, 1) := zdec_at bX42_join_706 4 rfl
theorem dX42_join_713 : decode cX42_join 713 = .ok (.aload_n 0, 1) := zdec_at bX42_join_706 5 rfl
theorem dX42_join_714 : decode cX42_join 714 = .ok (.getfield 57, 3) := zdec_at bX42_join_706 6 rfl
theorem dX42_join_717 : decode cX42_join 717 = .ok (.iload_n 1, 1) := zdec_at bX42_join_706 7 rfl
theorem dX42_join_718 : decode cX42_join 718 = .ok (.laload, 1) := zdec_at bX42_join_706 8 rfl
theorem dX42_join_719 : decode cX42_join 719 = .ok (.aload_n 2, 1) := zdec_at bX42_join_706 9 rfl
theorem dX42_join_720 : decode cX42_join 720 = .ok (.getfield 129, 3) := zdec_at bX42_join_706 10 rfl
theorem dX42_join_723 : decode cX42_join 723 = .ok (.lor, 1) := zdec_at bX42_join_706 11 rfl
theorem dX42_join_724 : decode cX42_join 724 = .ok (.invokevirtual 100, 3) := zdec_at bX42_join_706 12 rfl
theorem dX42_join_727 : decode cX42_join 727 = .ok (.lastore, 1) := zdec_at bX42_join_706 13 rfl
theorem dX42_join_728 : decode cX42_join 728 = .ok (.aload_n 0, 1) := zdec_at bX42_join_706 14 rfl
theorem dX42_join_729 : decode cX42_join 729 = .ok (.getfield 83, 3) := zdec_at bX42_join_706 15 rfl
theorem bX42_join_732 : zdec cX42_join 732 [(732, .ireturn, 1)] = true := by decide +kernel
theorem dX42_join_732 : decode cX42_join 732 = .ok (.ireturn, 1) := zdec_at bX42_join_732 0 rfl
theorem sX42_join_0 {E : zE} {d : Nat} {Q : zO → zM → Prop} (M : zM) (a0 : Nat) (l1 : Int32) (r2 : Option zP) (k : ∃ b1 m1 : Nat, (gr M a0 9) = some (b1, 100, m1) ∧ (vp_in l1 m1 ∧ (if (gi M b1 (l1).toNatClampNeg) = (-1 : Int32) then (Z E YX42_begin d M (zargs 0 [vr (some (a0, 6, 0)), vi l1, vr r2]) 0 [] (zafter E YX42_join (d + 1) [] 13 3 [] Q)) else (16 ≤ a0 ∧ (∃ b2 : Nat, (gr M a0 0) = some (b2, 0, 0) ∧ (∃ b3 : Nat, (gr M a0 0) = some (b3, 0, 0) ∧ (∃ b4 : Nat, (gr M a0 0) = some (b4, 0, 0) ∧ (∃ b5 m5 : Nat, (gr M a0 10) = some (b5, 100, m5) ∧ (vp_in l1 m5 ∧ (Z E YX42_join (d + 1) (si M a0 20 (0 : Int32)) [(0, vr (some (a0, 6, 0))), (1, vi l1), (2, vr r2), (3, vi ((gi (si M a0 20 (0 : Int32)) b2 11) * ((gi (si M a0 20 (0 : Int32)) b3 1) + (1 : Int32)))), (4, vi (l1 * ((gi (si M a0 20 (0 : Int32)) b2 11) * ((gi (si M a0 20 (0 : Int32)) b3 1) + (1 : Int32))))), (5, vi (l1 * (gi (si M a0 20 (0 : Int32)) b4 11))), (6, vi (gi (si M a0 20 (0 : Int32)) b5 (l1).toNatClampNeg)), (7, vi (0 : Int32))] 68 [] Q)))))))))) : Z E YX42_join (d + 1) M [(0, vr (some (a0, 6, 0))), (1, vi l1), (2, vr r2)] 0 [] Q := by
  refine z_aload_n dX42_join_0 rfl rfl ?_
  refine z_getr (r := (gr M a0 9)) dX42_join_1 fsX42_38_6 rfl ?_
  refine z_iload_n dX42_join_4 rfl rfl ?_
  obtain ⟨b1, m1, e1_, k⟩ := k
  refine Z.eqs (lv' := [(0, vr (some (a0, 6, 0))), (1, vi l1), (2, vr r2)]) (st' := [vi l1, vr (some (b1, 100, m1))]) rfl (by rw [e1_] <;> rfl) ?_
  obtain ⟨b_, k⟩ := k
  refine z_iald dX42_join_5 b_ ?_
  refine z_iconst (v := -1) dX42_join_6 rfl ?_
  refine z_icmp_ne (tgt := 18) dX42_join_7 rfl (fun h_ => ?_) (fun h_ => ?_)
  · have k := zif h_ k
    refine z_aload_n dX42_join_18 rfl rfl ?_
    refine z_iconst (v := 0) dX42_join_19 rfl ?_
    obtain ⟨g_, k⟩ := k
    refine z_puti g_ dX42_join_20 (zfwN.w fwX42_83_6) rfl ⟨by decide, by decide⟩ ?_
    refine z_aload_n dX42_join_23 rfl rfl ?_
    refine z_getr (r := (gr M a0 0)) dX42_join_24 fsX42_69_6 rfl ?_
    obtain ⟨b2, e2_, k⟩ := k
    refine Z.eqs (lv' := [(0, vr (some (a0, 6, 0))), (1, vi l1), (2, vr r2)]) (st' := [vr (some (b2, 0, 0))]) rfl (by rw [e2_] <;> rfl) ?_
    refine z_geti dX42_join_27 fsX42_91_0 ?_
    refine z_aload_n dX42_join_30 rfl rfl ?_
    refine z_getr (r := (gr M a0 0)) dX42_join_31 fsX42_69_6 rfl ?_
    obtain ⟨b3, e3_, k⟩ := k
    refine Z.eqs (lv' := [(0, vr (some (a0, 6, 0))), (1, vi l1), (2, vr r2)]) (st' := [vr (some (b3, 0, 0)), vi (gi (si M a0 20 (0 : Int32)) b2 11)]) rfl (by rw [e3_] <;> rfl) ?_
    refine z_geti dX42_join_34 fsX42_94_0 ?_
    refine z_iconst (v := 1) dX42_join_37 rfl ?_
    refine z_iadd dX42_join_38 ?_
    refine z_imul dX42_join_39 ?_
    refine z_ist_n dX42_join_40 rfl (by decide) (lv' := [(0, vr (some (a0, 6, 0))), (1, vi l1), (2, vr r2), (3, vi ((gi (si M a0 20 (0 : Int32)) b2 11) * ((gi (si M a0 20 (0 : Int32)) b3 1) + (1 : Int32))))]) rfl ?_
    refine z_iload_n dX42_join_41 rfl rfl ?_
    refine z_iload_n dX42_join_42 rfl rfl ?_
    refine z_imul dX42_join_43 ?_
    refine z_ist dX42_join_44 (by decide) (lv' := [(0, vr (some (a0, 6, 0))), (1, vi l1), (2, vr r2), (3, vi ((gi (si M a0 20 (0 : Int32)) b2 11) * ((gi (si M a0 20 (0 : Int32)) b3 1) + (1 : Int32)))), (4, vi (l1 * ((gi (si M a0 20 (0 : Int32)) b2 11) * ((gi (si M a0 20 (0 : Int32)) b3 1) + (1 : Int32)))))]) rfl ?_
    refine z_iload_n dX42_join_46 rfl rfl ?_
    refine z_aload_n dX42_join_47 rfl rfl ?_
    refine z_getr (r := (gr M a0 0)) dX42_join_48 fsX42_69_6 rfl ?_
    obtain ⟨b4, e4_, k⟩ := k
    refine Z.eqs (lv' := [(0, vr (some (a0, 6, 0))), (1, vi l1), (2, vr r2), (3, vi ((gi (si M a0 20 (0 : Int32)) b2 11) * ((gi (si M a0 20 (0 : Int32)) b3 1) + (1 : Int32)))), (4, vi (l1 * ((gi (si M a0 20 (0 : Int32)) b2 11) * ((gi (si M a0 20 (0 : Int32)) b3 1) + (1 : Int32)))))]) (st' := [vr (some (b4, 0, 0)), vi l1]) rfl (by rw [e4_] <;> rfl) ?_
    refine z_geti dX42_join_51 fsX42_91_0 ?_
    refine z_imul dX42_join_54 ?_
    refine z_ist dX42_join_55 (by decide) (lv' := [(0, vr (some (a0, 6, 0))), (1, vi l1), (2, vr r2), (3, vi ((gi (si M a0 20 (0 : Int32)) b2 11) * ((gi (si M a0 20 (0 : Int32)) b3 1) + (1 : Int32)))), (4, vi (l1 * ((gi (si M a0 20 (0 : Int32)) b2 11) * ((gi (si M a0 20 (0 : Int32)) b3 1) + (1 : Int32))))), (5, vi (l1 * (gi (si M a0 20 (0 : Int32)) b4 11)))]) rfl ?_
    refine z_aload_n dX42_join_57 rfl rfl ?_
    refine z_getr (r := (gr M a0 10)) dX42_join_58 fsX42_42_6 rfl ?_
    refine z_iload_n dX42_join_61 rfl rfl ?_
    obtain ⟨b5, m5, e5_, k⟩ := k
    refine Z.eqs (lv' := [(0, vr (some (a0, 6, 0))), (1, vi l1), (2, vr r2), (3, vi ((gi (si M a0 20 (0 : Int32)) b2 11) * ((gi (si M a0 20 (0 : Int32)) b3 1) + (1 : Int32)))), (4, vi (l1 * ((gi (si M a0 20 (0 : Int32)) b2 11) * ((gi (si M a0 20 (0 : Int32)) b3 1) + (1 : Int32))))), (5, vi (l1 * (gi (si M a0 20 (0 : Int32)) b4 11)))]) (st' := [vi l1, vr (some (b5, 100, m5))]) rfl (by rw [e5_] <;> rfl) ?_
    obtain ⟨b_, k⟩ := k
    refine z_iald dX42_join_62 b_ ?_
    refine z_ist dX42_join_63 (by decide) (lv' := [(0, vr (some (a0, 6, 0))), (1, vi l1), (2, vr r2), (3, vi ((gi (si M a0 20 (0 : Int32)) b2 11) * ((gi (si M a0 20 (0 : Int32)) b3 1) + (1 : Int32)))), (4, vi (l1 * ((gi (si M a0 20 (0 : Int32)) b2 11) * ((gi (si M a0 20 (0 : Int32)) b3 1) + (1 : Int32))))), (5, vi (l1 * (gi (si M a0 20 (0 : Int32)) b4 11))), (6, vi (gi (si M a0 20 (0 : Int32)) b5 (l1).toNatClampNeg))]) rfl ?_
    refine z_iconst (v := 0) dX42_join_65 rfl ?_
    refine z_ist dX42_join_66 (by decide) (lv' := [(0, vr (some (a0, 6, 0))), (1, vi l1), (2, vr r2), (3, vi ((gi (si M a0 20 (0 : Int32)) b2 11) * ((gi (si M a0 20 (0 : Int32)) b3 1) + (1 : Int32)))), (4, vi (l1 * ((gi (si M a0 20 (0 : Int32)) b2 11) * ((gi (si M a0 20 (0 : Int32)) b3 1) + (1 : Int32))))), (5, vi (l1 * (gi (si M a0 20 (0 : Int32)) b4 11))), (6, vi (gi (si M a0 20 (0 : Int32)) b5 (l1).toNatClampNeg)), (7, vi (0 : Int32))]) rfl ?_
    exact k
  · have k := zit h_ k
    refine z_aload_n dX42_join_10 rfl rfl ?_
    refine z_iload_n dX42_join_11 rfl rfl ?_
    refine z_aload_n dX42_join_12 rfl rfl ?_
    refine Z.pick [] rfl ?_
    exact z_callV (as := [vi l1, vr r2]) (st := []) dX42_join_13 vsX42_87_6 (Nat.le_refl _) (Nat.le_of_ble_eq_true rfl) (Nat.le_of_ble_eq_true rfl) rfl k
theorem sX42_join_16 {E : zE} {d : Nat} {Q : zO → zM → Prop} (M : zM)  (k : Q (.inl (some (vi (1 : Int32)))) M) : Z E YX42_join (d + 1) M [] 16 [] Q := by
  refine z_iconst (v := 1) dX42_join_16 rfl ?_
  exact z_iret dX42_join_17 rfl (by decide) k
theorem sX42_join_68 {E : zE} {d : Nat} {Q : zO → zM → Prop} (M : zM) (a0 : Nat) (l1 : Int32) (r2 : Option zP) (l3 : Int32) (l4 : Int32) (l5 : Int32) (l6 : Int32) (l7 : Int32) (k : if l3 ≤ l7 then (Z E YX42_join (d + 1) M [(0, vr (some (a0, 6, 0))), (1, vi l1), (2, vr r2), (5, vi l5), (6, vi l6), (7, vi (0 : Int32))] 211 [] Q) else (∃ b1 m1 : Nat, (gr M a0 1) = some (b1, 105, m1) ∧ (vp_in (l4 + l7) m1 ∧ (∃ b2 m2 : Nat, (gr M a0 1) = some (b2, 105, m2) ∧ (vp_in (l4 + l7) m2 ∧ (∃ b3 : Nat, r2 = some (b3, 7, 0) ∧ (∃ b4 m4 : Nat, (gr M b3 1) = some (b4, 105, m4) ∧ (vp_in l7 m4 ∧ (Z E YX42_more d M (zargs 0 [vr (some (a0, 6, 0)), vl (gl M b1 ((l4 + l7)).toNatClampNeg), vl ((gl M b2 ((l4 + l7)).toNatClampNeg) ||| (gl M b4 (l7).toNatClampNeg))]) 0 [] (zafter E YX42_join (d + 1) [(0, vr (some (a0, 6, 0))), (1, vi l1), (2, vr (some (b3, 7, 0))), (3, vi l3), (4, vi l4), (5, vi l5), (6, vi l6), (7, vi l7)] 112 3 [vi (l4 + l7), vr (some (b1, 105, m1))] Q)))))))))) : Z E YX42_join (d + 1) M [(0, vr (some (a0, 6, 0))), (1, vi l1), (2, vr r2), (3, vi l3), (4, vi l4), (5, vi l5), (6, vi l6), (7, vi l7)] 68 [] Q := by
  refine z_iload dX42_join_68 rfl ?_
  refine z_iload_n dX42_join_70 rfl rfl ?_
  refine z_icmp_ge (tgt := 208) dX42_join_71 rfl (fun h_ => ?_) (fun h_ => ?_)
  · have k := zit h_ k
    refine z_iconst (v := 0) dX42_join_208 rfl ?_
    refine z_ist dX42_join_209 (by decide) (lv' := [(0, vr (some (a0, 6, 0))), (1, vi l1), (2, vr r2), (3, vi l3), (4, vi l4), (5, vi l5), (6, vi l6), (7, vi (0 : Int32))]) rfl ?_
    refine Z.pick [0, 1, 2, 5, 6, 7] rfl ?_
    exact k
  · have k := zif h_ k
    refine z_aload_n dX42_join_74 rfl rfl ?_
    refine z_getr (r := (gr M a0 1)) dX42_join_75 fsX42_10_6 rfl ?_
    refine z_iload dX42_join_78 rfl ?_
    refine z_iload dX42_join_80 rfl ?_
    refine z_iadd dX42_join_82 ?_
    refine z_aload_n dX42_join_83 rfl rfl ?_
    refine z_aload_n dX42_join_84 rfl rfl ?_
    refine z_getr (r := (gr M a0 1)) dX42_join_85 fsX42_10_6 rfl ?_
    refine z_iload dX42_join_88 rfl ?_
    refine z_iload dX42_join_90 rfl ?_
    refine z_iadd dX42_join_92 ?_
    obtain ⟨b1, m1, e1_, k⟩ := k
    refine Z.eqs (lv' := [(0, vr (some (a0, 6, 0))), (1, vi l1), (2, vr r2), (3, vi l3), (4, vi l4), (5, vi l5), (6, vi l6), (7, vi l7)]) (st' := [vi (l4 + l7), vr (some (b1, 105, m1)), vr (some (a0, 6, 0)), vi (l4 + l7), vr (some (b1, 105, m1))]) rfl (by rw [e1_] <;> rfl) ?_
    obtain ⟨b_, k⟩ := k
    refine z_lald dX42_join_93 b_ ?_
    refine z_aload_n dX42_join_94 rfl rfl ?_
    refine z_getr (r := (gr M a0 1)) dX42_join_95 fsX42_10_6 rfl ?_
    refine z_iload dX42_join_98 rfl ?_
    refine z_iload dX42_join_100 rfl ?_
    refine z_iadd dX42_join_102 ?_
    obtain ⟨b2, m2, e2_, k⟩ := k
    refine Z.eqs (lv' := [(0, vr (some (a0, 6, 0))), (1, vi l1), (2, vr r2), (3, vi l3), (4, vi l4), (5, vi l5), (6, vi l6), (7, vi l7)]) (st' := [vi (l4 + l7), vr (some (b2, 105, m2)), vl (gl M b1 ((l4 + l7)).toNatClampNeg), vr (some (a0, 6, 0)), vi (l4 + l7), vr (some (b1, 105, m1))]) rfl (by rw [e2_] <;> rfl) ?_
    obtain ⟨b_, k⟩ := k
    refine z_lald dX42_join_103 b_ ?_
    refine z_aload_n dX42_join_104 rfl rfl ?_
    obtain ⟨b3, e3_, k⟩ := k
    refine Z.eqs (lv' := [(0, vr (some (a0, 6, 0))), (1, vi l1), (2, vr (some (b3, 7, 0))), (3, vi l3), (4, vi l4), (5, vi l5), (6, vi l6), (7, vi l7)]) (st' := [vr (some (b3, 7, 0)), vl (gl M b2 ((l4 + l7)).toNatClampNeg), vl (gl M b1 ((l4 + l7)).toNatClampNeg), vr (some (a0, 6, 0)), vi (l4 + l7), vr (some (b1, 105, m1))]) (by rw [e3_] <;> rfl) (by rw [e3_] <;> rfl) ?_
    refine z_getr (r := (gr M b3 1)) dX42_join_105 fsX42_97_7 rfl ?_
    refine z_iload dX42_join_108 rfl ?_
    obtain ⟨b4, m4, e4_, k⟩ := k
    refine Z.eqs (lv' := [(0, vr (some (a0, 6, 0))), (1, vi l1), (2, vr (some (b3, 7, 0))), (3, vi l3), (4, vi l4), (5, vi l5), (6, vi l6), (7, vi l7)]) (st' := [vi l7, vr (some (b4, 105, m4)), vl (gl M b2 ((l4 + l7)).toNatClampNeg), vl (gl M b1 ((l4 + l7)).toNatClampNeg), vr (some (a0, 6, 0)), vi (l4 + l7), vr (some (b1, 105, m1))]) rfl (by rw [e4_] <;> rfl) ?_
    obtain ⟨b_, k⟩ := k
    refine z_lald dX42_join_110 b_ ?_
    refine z_lor dX42_join_111 ?_
    exact z_callV (as := [vl (gl M b1 ((l4 + l7)).toNatClampNeg), vl ((gl M b2 ((l4 + l7)).toNatClampNeg) ||| (gl M b4 (l7).toNatClampNeg))]) (st := [vi (l4 + l7), vr (some (b1, 105, m1))]) dX42_join_112 vsX42_100_6 (Nat.le_refl _) (Nat.le_of_ble_eq_true rfl) (Nat.le_of_ble_eq_true rfl) rfl k
theorem sX42_join_115 {E : zE} {d : Nat} {Q : zO → zM → Prop} (M : zM) (a0 : Nat) (l1 : Int32) (a2 : Nat) (l3 : Int32) (l4 : Int32) (l5 : Int32) (l6 : Int32) (l7 : Int32) (s0 : Int64) (s1 : Int32) (p2 : Nat) (np2 : Nat) (k : 16 ≤ p2 ∧ (vp_in s1 np2 ∧ (∃ b1 m1 : Nat, (gr M a0 2) = some (b1, 105, m1) ∧ (vp_in (l4 + l7) m1 ∧ (∃ b2 m2 : Nat, (gr M a0 2) = some (b2, 105, m2) ∧ (vp_in (l4 + l7) m2 ∧ (∃ b3 m3 : Nat, (gr M a2 2) = some (b3, 105, m3) ∧ (vp_in l7 m3 ∧ (Z E YX42_more d (sl M p2 (s1).toNatClampNeg s0) (zargs 0 [vr (some (a0, 6, 0)), vl (gl (sl M p2 (s1).toNatClampNeg s0) b1 ((l4 + l7)).toNatClampNeg), vl ((gl (sl M p2 (s1).toNatClampNeg s0) b2 ((l4 + l7)).toNatClampNeg) ||| (gl (sl M p2 (s1).toNatClampNeg s0) b3 (l7).toNatClampNeg))]) 0 [] (zafter E YX42_join (d + 1) [(0, vr (some (a0, 6, 0))), (1, vi l1), (2, vr (some (a2, 7, 0))), (3, vi l3), (4, vi l4), (5, vi l5), (6, vi l6), (7, vi l7)] 154 3 [vi (l4 + l7), vr (some (b1, 105, m1))] Q)))))))))) : Z E YX42_join (d + 1) M [(0, vr (some (a0, 6, 0))), (1, vi l1), (2, vr (some (a2, 7, 0))), (3, vi l3), (4, vi l4), (5, vi l5), (6, vi l6), (7, vi l7)] 115 [vl s0, vi s1, vr (some (p2, 105, np2))] Q := by
  obtain ⟨g_, k⟩ := k
  obtain ⟨b_, k⟩ := k
  refine z_last g_ dX42_join_115 b_ ?_
  refine z_aload_n dX42_join_116 rfl rfl ?_
  refine z_getr (r := (gr M a0 2)) dX42_join_117 fsX42_16_6 rfl ?_
  refine z_iload dX42_join_120 rfl ?_
  refine z_iload dX42_join_122 rfl ?_
  refine z_iadd dX42_join_124 ?_
  refine z_aload_n dX42_join_125 rfl rfl ?_
  refine z_aload_n dX42_join_126 rfl rfl ?_
  refine z_getr (r := (gr M a0 2)) dX42_join_127 fsX42_16_6 rfl ?_
  refine z_iload dX42_join_130 rfl ?_
  refine z_iload dX42_join_132 rfl ?_
  refine z_iadd dX42_join_134 ?_
  obtain ⟨b1, m1, e1_, k⟩ := k
  refine Z.eqs (lv' := [(0, vr (some (a0, 6, 0))), (1, vi l1), (2, vr (some (a2, 7, 0))), (3, vi l3), (4, vi l4), (5, vi l5), (6, vi l6), (7, vi l7)]) (st' := [vi (l4 + l7), vr (some (b1, 105, m1)), vr (some (a0, 6, 0)), vi (l4 + l7), vr (some (b1, 105, m1))]) rfl (by rw [e1_] <;> rfl) ?_
  obtain ⟨b_, k⟩ := k
  refine z_lald dX42_join_135 b_ ?_
  refine z_aload_n dX42_join_136 rfl rfl ?_
  refine z_getr (r := (gr M a0 2)) dX42_join_137 fsX42_16_6 rfl ?_
  refine z_iload dX42_join_140 rfl ?_
  refine z_iload dX42_join_142 rfl ?_
  refine z_iadd dX42_join_144 ?_
  obtain ⟨b2, m2, e2_, k⟩ := k
  refine Z.eqs (lv' := [(0, vr (some (a0, 6, 0))), (1, vi l1), (2, vr (some (a2, 7, 0))), (3, vi l3), (4, vi l4), (5, vi l5), (6, vi l6), (7, vi l7)]) (st' := [vi (l4 + l7), vr (some (b2, 105, m2)), vl (gl (sl M p2 (s1).toNatClampNeg s0) b1 ((l4 + l7)).toNatClampNeg), vr (some (a0, 6, 0)), vi (l4 + l7), vr (some (b1, 105, m1))]) rfl (by rw [e2_] <;> rfl) ?_
  obtain ⟨b_, k⟩ := k
  refine z_lald dX42_join_145 b_ ?_
  refine z_aload_n dX42_join_146 rfl rfl ?_
  refine z_getr (r := (gr M a2 2)) dX42_join_147 fsX42_104_7 rfl ?_
  refine z_iload dX42_join_150 rfl ?_
  obtain ⟨b3, m3, e3_, k⟩ := k
  refine Z.eqs (lv' := [(0, vr (some (a0, 6, 0))), (1, vi l1), (2, vr (some (a2, 7, 0))), (3, vi l3), (4, vi l4), (5, vi l5), (6, vi l6), (7, vi l7)]) (st' := [vi l7, vr (some (b3, 105, m3)), vl (gl (sl M p2 (s1).toNatClampNeg s0) b2 ((l4 + l7)).toNatClampNeg), vl (gl (sl M p2 (s1).toNatClampNeg s0) b1 ((l4 + l7)).toNatClampNeg), vr (some (a0, 6, 0)), vi (l4 + l7), vr (some (b1, 105, m1))]) rfl (by rw [e3_] <;> rfl) ?_
  obtain ⟨b_, k⟩ := k
  refine z_lald dX42_join_152 b_ ?_
  refine z_lor dX42_join_153 ?_
  exact z_callV (as := [vl (gl (sl M p2 (s1).toNatClampNeg s0) b1 ((l4 + l7)).toNatClampNeg), vl ((gl (sl M p2 (s1).toNatClampNeg s0) b2 ((l4 + l7)).toNatClampNeg) ||| (gl (sl M p2 (s1).toNatClampNeg s0) b3 (l7).toNatClampNeg))]) (st := [vi (l4 + l7), vr (some (b1, 105, m1))]) dX42_join_154 vsX42_100_6 (Nat.le_refl _) (Nat.le_of_ble_eq_true rfl) (Nat.le_of_ble_eq_true rfl) rfl k
theorem sX42_join_157 {E : zE} {d : Nat} {Q : zO → zM → Prop} (M : zM) (a0 : Nat) (l1 : Int32) (a2 : Nat) (l3 : Int32) (l4 : Int32) (l5 : Int32) (l6 : Int32) (l7 : Int32) (s0 : Int64) (s1 : Int32) (p2 : Nat) (np2 : Nat) (k : 16 ≤ p2 ∧ (vp_in s1 np2 ∧ (∃ b1 m1 : Nat, (gr M a0 3) = some (b1, 105, m1) ∧ (vp_in (l4 + l7) m1 ∧ (∃ b2 m2 : Nat, (gr M a0 3) = some (b2, 105, m2) ∧ (vp_in (l4 + l7) m2 ∧ (∃ b3 m3 : Nat, (gr M a2 3) = some (b3, 105, m3) ∧ (vp_in l7 m3 ∧ (Z E YX1_joined d (sl M p2 (s1).toNatClampNeg s0) (zargs 0 [vl (gl (sl M p2 (s1).toNatClampNeg s0) b2 ((l4 + l7)).toNatClampNeg), vl (gl (sl M p2 (s1).toNatClampNeg s0) b3 (l7).toNatClampNeg)]) 0 [] (zafter E YX42_join (d + 1) [(0, vr (some (a0, 6, 0))), (1, vi l1), (2, vr (some (a2, 7, 0))), (3, vi l3), (4, vi l4), (5, vi l5), (6, vi l6), (7, vi l7)] 195 3 [vl (gl (sl M p2 (s1).toNatClampNeg s0) b1 ((l4 + l7)).toNatClampNeg), vr (some (a0, 6, 0)), vi (l4 + l7), vr (some (b1, 105, m1))] Q)))))))))) : Z E YX42_join (d + 1) M [(0, vr (some (a0, 6, 0))), (1, vi l1), (2, vr (some (a2, 7, 0))), (3, vi l3), (4, vi l4), (5, vi l5), (6, vi l6), (7, vi l7)] 157 [vl s0, vi s1, vr (some (p2, 105, np2))] Q := by
  obtain ⟨g_, k⟩ := k
  obtain ⟨b_, k⟩ := k
  refine z_last g_ dX42_join_157 b_ ?_
  refine z_aload_n dX42_join_158 rfl rfl ?_
  refine z_getr (r := (gr M a0 3)) dX42_join_159 fsX42_19_6 rfl ?_
  refine z_iload dX42_join_162 rfl ?_
  refine z_iload dX42_join_164 rfl ?_
  refine z_iadd dX42_join_166 ?_
  refine z_aload_n dX42_join_167 rfl rfl ?_
  refine z_aload_n dX42_join_168 rfl rfl ?_
  refine z_getr (r := (gr M a0 3)) dX42_join_169 fsX42_19_6 rfl ?_
  refine z_iload dX42_join_172 rfl ?_
  refine z_iload dX42_join_174 rfl ?_
  refine z_iadd dX42_join_176 ?_
  obtain ⟨b1, m1, e1_, k⟩ := k
  refine Z.eqs (lv' := [(0, vr (some (a0, 6, 0))), (1, vi l1), (2, vr (some (a2, 7, 0))), (3, vi l3), (4, vi l4), (5, vi l5), (6, vi l6), (7, vi l7)]) (st' := [vi (l4 + l7), vr (some (b1, 105, m1)), vr (some (a0, 6, 0)), vi (l4 + l7), vr (some (b1, 105, m1))]) rfl (by rw [e1_] <;> rfl) ?_
  obtain ⟨b_, k⟩ := k
  refine z_lald dX42_join_177 b_ ?_
  refine z_aload_n dX42_join_178 rfl rfl ?_
  refine z_getr (r := (gr M a0 3)) dX42_join_179 fsX42_19_6 rfl ?_
  refine z_iload dX42_join_182 rfl ?_
  refine z_iload dX42_join_184 rfl ?_
  refine z_iadd dX42_join_186 ?_
  obtain ⟨b2, m2, e2_, k⟩ := k
  refine Z.eqs (lv' := [(0, vr (some (a0, 6, 0))), (1, vi l1), (2, vr (some (a2, 7, 0))), (3, vi l3), (4, vi l4), (5, vi l5), (6, vi l6), (7, vi l7)]) (st' := [vi (l4 + l7), vr (some (b2, 105, m2)), vl (gl (sl M p2 (s1).toNatClampNeg s0) b1 ((l4 + l7)).toNatClampNeg), vr (some (a0, 6, 0)), vi (l4 + l7), vr (some (b1, 105, m1))]) rfl (by rw [e2_] <;> rfl) ?_
  obtain ⟨b_, k⟩ := k
  refine z_lald dX42_join_187 b_ ?_
  refine z_aload_n dX42_join_188 rfl rfl ?_
  refine z_getr (r := (gr M a2 3)) dX42_join_189 fsX42_105_7 rfl ?_
  refine z_iload dX42_join_192 rfl ?_
  obtain ⟨b3, m3, e3_, k⟩ := k
  refine Z.eqs (lv' := [(0, vr (some (a0, 6, 0))), (1, vi l1), (2, vr (some (a2, 7, 0))), (3, vi l3), (4, vi l4), (5, vi l5), (6, vi l6), (7, vi l7)]) (st' := [vi l7, vr (some (b3, 105, m3)), vl (gl (sl M p2 (s1).toNatClampNeg s0) b2 ((l4 + l7)).toNatClampNeg), vl (gl (sl M p2 (s1).toNatClampNeg s0) b1 ((l4 + l7)).toNatClampNeg), vr (some (a0, 6, 0)), vi (l4 + l7), vr (some (b1, 105, m1))]) rfl (by rw [e3_] <;> rfl) ?_
  obtain ⟨b_, k⟩ := k
  refine z_lald dX42_join_194 b_ ?_
  exact z_callS (as := [vl (gl (sl M p2 (s1).toNatClampNeg s0) b2 ((l4 + l7)).toNatClampNeg), vl (gl (sl M p2 (s1).toNatClampNeg s0) b3 (l7).toNatClampNeg)]) (st := [vl (gl (sl M p2 (s1).toNatClampNeg s0) b1 ((l4 + l7)).toNatClampNeg), vr (some (a0, 6, 0)), vi (l4 + l7), vr (some (b1, 105, m1))]) dX42_join_195 ssX42_106 (Nat.le_refl _) (Nat.le_of_ble_eq_true rfl) (Nat.le_of_ble_eq_true rfl) rfl k
theorem sX42_join_198 {E : zE} {d : Nat} {Q : zO → zM → Prop} (M : zM) (a0 : Nat) (l1 : Int32) (a2 : Nat) (l3 : Int32) (l4 : Int32) (l5 : Int32) (l6 : Int32) (l7 : Int32) (s0 : Int64) (s1 : Int64) (s3 : Int32) (p4 : Nat) (np4 : Nat) (k : Z E YX42_more d M (zargs 0 [vr (some (a0, 6, 0)), vl s1, vl s0]) 0 [] (zafter E YX42_join (d + 1) [(0, vr (some (a0, 6, 0))), (1, vi l1), (2, vr (some (a2, 7, 0))), (3, vi l3), (4, vi l4), (5, vi l5), (6, vi l6), (7, vi l7)] 198 3 [vi s3, vr (some (p4, 105, np4))] Q)) : Z E YX42_join (d + 1) M [(0, vr (some (a0, 6, 0))), (1, vi l1), (2, vr (some (a2, 7, 0))), (3, vi l3), (4, vi l4), (5, vi l5), (6, vi l6), (7, vi l7)] 198 [vl s0, vl s1, vr (some (a0, 6, 0)), vi s3, vr (some (p4, 105, np4))] Q := by
  exact z_callV (as := [vl s1, vl s0]) (st := [vi s3, vr (some (p4, 105, np4))]) dX42_join_198 vsX42_100_6 (Nat.le_refl _) (Nat.le_of_ble_eq_true rfl) (Nat.le_of_ble_eq_true rfl) rfl k
theorem sX42_join_201 {E : zE} {d : Nat} {Q : zO → zM → Prop} (M : zM) (a0 : Nat) (l1 : Int32) (a2 : Nat) (l3 : Int32) (l4 : Int32) (l5 : Int32) (l6 : Int32) (l7 : Int32) (s0 : Int64) (s1 : Int32) (p2 : Nat) (np2 : Nat) (k : 16 ≤ p2 ∧ (vp_in s1 np2 ∧ (Z E YX42_join (d + 1) (sl M p2 (s1).toNatClampNeg s0) [(0, vr (some (a0, 6, 0))), (1, vi l1), (2, vr (some (a2, 7, 0))), (3, vi l3), (4, vi l4), (5, vi l5), (6, vi l6), (7, vi (l7 + (1 : Int32)))] 68 [] Q))) : Z E YX42_join (d + 1) M [(0, vr (some (a0, 6, 0))), (1, vi l1), (2, vr (some (a2, 7, 0))), (3, vi l3), (4, vi l4), (5, vi l5), (6, vi l6), (7, vi l7)] 201 [vl s0, vi s1, vr (some (p2, 105, np2))] Q := by
  obtain ⟨g_, k⟩ := k
  obtain ⟨b_, k⟩ := k
  refine z_last g_ dX42_join_201 b_ ?_
  refine z_inc (v := (l7 + (1 : Int32))) dX42_join_202 rfl rfl (by decide) (lv' := [(0, vr (some (a0, 6, 0))), (1, vi l1), (2, vr (some (a2, 7, 0))), (3, vi l3), (4, vi l4), (5, vi l5), (6, vi l6), (7, vi (l7 + (1 : Int32)))]) rfl ?_
  refine z_goto (tgt := 68) dX42_join_205 rfl ?_
  exact k
theorem sX42_join_211 {E : zE} {d : Nat} {Q : zO → zM → Prop} (M : zM) (a0 : Nat) (l1 : Int32) (r2 : Option zP) (l5 : Int32) (l6 : Int32) (l7 : Int32) (k : ∃ b1 : Nat, (gr M a0 0) = some (b1, 0, 0) ∧ (if (gi M b1 11) ≤ l7 then (Z E YX42_join (d + 1) M [(0, vr (some (a0, 6, 0))), (1, vi l1), (2, vr r2), (6, vi l6), (7, vi (0 : Int32))] 446 [] Q) else (∃ b2 m2 : Nat, (gr M a0 4) = some (b2, 105, m2) ∧ (vp_in (l5 + l7) m2 ∧ (∃ b3 m3 : Nat, (gr M a0 4) = some (b3, 105, m3) ∧ (vp_in (l5 + l7) m3 ∧ (∃ b4 : Nat, r2 = some (b4, 7, 0) ∧ (∃ b5 m5 : Nat, (gr M b4 4) = some (b5, 105, m5) ∧ (vp_in l7 m5 ∧ (Z E YX42_more d M (zargs 0 [vr (some (a0, 6, 0)), vl (gl M b2 ((l5 + l7)).toNatClampNeg), vl ((gl M b3 ((l5 + l7)).toNatClampNeg) ||| (gl M b5 (l7).toNatClampNeg))]) 0 [] (zafter E YX42_join (d + 1) [(0, vr (some (a0, 6, 0))), (1, vi l1), (2, vr (some (b4, 7, 0))), (5, vi l5), (6, vi l6), (7, vi l7)] 261 3 [vi (l5 + l7), vr (some (b2, 105, m2))] Q))))))))))) : Z E YX42_join (d + 1) M [(0, vr (some (a0, 6, 0))), (1, vi l1), (2, vr r2), (5, vi l5), (6, vi l6), (7, vi l7)] 211 [] Q := by
  refine z_iload dX42_join_211 rfl ?_
  refine z_aload_n dX42_join_213 rfl rfl ?_
  refine z_getr (r := (gr M a0 0)) dX42_join_214 fsX42_69_6 rfl ?_
  obtain ⟨b1, e1_, k⟩ := k
  refine Z.eqs (lv' := [(0, vr (some (a0, 6, 0))), (1, vi l1), (2, vr r2), (5, vi l5), (6, vi l6), (7, vi l7)]) (st' := [vr (some (b1, 0, 0)), vi l7]) rfl (by rw [e1_] <;> rfl) ?_
  refine z_geti dX42_join_217 fsX42_91_0 ?_
  refine z_icmp_ge (tgt := 443) dX42_join_220 rfl (fun h_ => ?_) (fun h_ => ?_)
  · have k := zit h_ k
    refine z_iconst (v := 0) dX42_join_443 rfl ?_
    refine z_ist dX42_join_444 (by decide) (lv' := [(0, vr (some (a0, 6, 0))), (1, vi l1), (2, vr r2), (5, vi l5), (6, vi l6), (7, vi (0 : Int32))]) rfl ?_
    refine Z.pick [0, 1, 2, 4, 5] rfl ?_
    exact k
  · have k := zif h_ k
    refine z_aload_n dX42_join_223 rfl rfl ?_
    refine z_getr (r := (gr M a0 4)) dX42_join_224 fsX42_22_6 rfl ?_
    refine z_iload dX42_join_227 rfl ?_
    refine z_iload dX42_join_229 rfl ?_
    refine z_iadd dX42_join_231 ?_
    refine z_aload_n dX42_join_232 rfl rfl ?_
    refine z_aload_n dX42_join_233 rfl rfl ?_
    refine z_getr (r := (gr M a0 4)) dX42_join_234 fsX42_22_6 rfl ?_
    refine z_iload dX42_join_237 rfl ?_
    refine z_iload dX42_join_239 rfl ?_
    refine z_iadd dX42_join_241 ?_
    obtain ⟨b2, m2, e2_, k⟩ := k
    refine Z.eqs (lv' := [(0, vr (some (a0, 6, 0))), (1, vi l1), (2, vr r2), (5, vi l5), (6, vi l6), (7, vi l7)]) (st' := [vi (l5 + l7), vr (some (b2, 105, m2)), vr (some (a0, 6, 0)), vi (l5 + l7), vr (some (b2, 105, m2))]) rfl (by rw [e2_] <;> rfl) ?_
    obtain ⟨b_, k⟩ := k
    refine z_lald dX42_join_242 b_ ?_
    refine z_aload_n dX42_join_243 rfl rfl ?_
    refine z_getr (r := (gr M a0 4)) dX42_join_244 fsX42_22_6 rfl ?_
    refine z_iload dX42_join_247 rfl ?_
    refine z_iload dX42_join_249 rfl ?_
    refine z_iadd dX42_join_251 ?_
    obtain ⟨b3, m3, e3_, k⟩ := k
    refine Z.eqs (lv' := [(0, vr (some (a0, 6, 0))), (1, vi l1), (2, vr r2), (5, vi l5), (6, vi l6), (7, vi l7)]) (st' := [vi (l5 + l7), vr (some (b3, 105, m3)), vl (gl M b2 ((l5 + l7)).toNatClampNeg), vr (some (a0, 6, 0)), vi (l5 + l7), vr (some (b2, 105, m2))]) rfl (by rw [e3_] <;> rfl) ?_
    obtain ⟨b_, k⟩ := k
    refine z_lald dX42_join_252 b_ ?_
    refine z_aload_n dX42_join_253 rfl rfl ?_
    obtain ⟨b4, e4_, k⟩ := k
    refine Z.eqs (lv' := [(0, vr (some (a0, 6, 0))), (1, vi l1), (2, vr (some (b4, 7, 0))), (5, vi l5), (6, vi l6), (7, vi l7)]) (st' := [vr (some (b4, 7, 0)), vl (gl M b3 ((l5 + l7)).toNatClampNeg), vl (gl M b2 ((l5 + l7)).toNatClampNeg), vr (some (a0, 6, 0)), vi (l5 + l7), vr (some (b2, 105, m2))]) (by rw [e4_] <;> rfl) (by rw [e4_] <;> rfl) ?_
    refine z_getr (r := (gr M b4 4)) dX42_join_254 fsX42_109_7 rfl ?_
    refine z_iload dX42_join_257 rfl ?_
    obtain ⟨b5, m5, e5_, k⟩ := k
    refine Z.eqs (lv' := [(0, vr (some (a0, 6, 0))), (1, vi l1), (2, vr (some (b4, 7, 0))), (5, vi l5), (6, vi l6), (7, vi l7)]) (st' := [vi l7, vr (some (b5, 105, m5)), vl (gl M b3 ((l5 + l7)).toNatClampNeg), vl (gl M b2 ((l5 + l7)).toNatClampNeg), vr (some (a0, 6, 0)), vi (l5 + l7), vr (some (b2, 105, m2))]) rfl (by rw [e5_] <;> rfl) ?_
    obtain ⟨b_, k⟩ := k
    refine z_lald dX42_join_259 b_ ?_
    refine z_lor dX42_join_260 ?_
    exact z_callV (as := [vl (gl M b2 ((l5 + l7)).toNatClampNeg), vl ((gl M b3 ((l5 + l7)).toNatClampNeg) ||| (gl M b5 (l7).toNatClampNeg))]) (st := [vi (l5 + l7), vr (some (b2, 105, m2))]) dX42_join_261 vsX42_100_6 (Nat.le_refl _) (Nat.le_of_ble_eq_true rfl) (Nat.le_of_ble_eq_true rfl) rfl k
theorem sX42_join_264 {E : zE} {d : Nat} {Q : zO → zM → Prop} (M : zM) (a0 : Nat) (l1 : Int32) (a2 : Nat) (l5 : Int32) (l6 : Int32) (l7 : Int32) (s0 : Int64) (s1 : Int32) (p2 : Nat) (np2 : Nat) (k : 16 ≤ p2 ∧ (vp_in s1 np2 ∧ (∃ b1 m1 : Nat, (gr M a0 5) = some (b1, 105, m1) ∧ (vp_in (l5 + l7) m1 ∧ (∃ b2 m2 : Nat, (gr M a0 5) = some (b2, 105, m2) ∧ (vp_in (l5 + l7) m2 ∧ (∃ b3 m3 : Nat, (gr M a2 5) = some (b3, 105, m3) ∧ (vp_in l7 m3 ∧ (Z E YX42_more d (sl M p2 (s1).toNatClampNeg s0) (zargs 0 [vr (some (a0, 6, 0)), vl (gl (sl M p2 (s1).toNatClampNeg s0) b1 ((l5 + l7)).toNatClampNeg), vl ((gl (sl M p2 (s1).toNatClampNeg s0) b2 ((l5 + l7)).toNatClampNeg) ||| (gl (sl M p2 (s1).toNatClampNeg s0) b3 (l7).toNatClampNeg))]) 0 [] (zafter E YX42_join (d + 1) [(0, vr (some (a0, 6, 0))), (1, vi l1), (2, vr (some (a2, 7, 0))), (5, vi l5), (6, vi l6), (7, vi l7)] 303 3 [vi (l5 + l7), vr (some (b1, 105, m1))] Q)))))))))) : Z E YX42_join (d + 1) M [(0, vr (some (a0, 6, 0))), (1, vi l1), (2, vr (some (a2, 7, 0))), (5, vi l5), (6, vi l6), (7, vi l7)] 264 [vl s0, vi s1, vr (some (p2, 105, np2))] Q := by
  obtain ⟨g_, k⟩ := k
  obtain ⟨b_, k⟩ := k
  refine z_last g_ dX42_join_264 b_ ?_
  refine z_aload_n dX42_join_265 rfl rfl ?_
  refine z_getr (r := (gr M a0 5)) dX42_join_266 fsX42_25_6 rfl ?_
  refine z_iload dX42_join_269 rfl ?_
  refine z_iload dX42_join_271 rfl ?_
  refine z_iadd dX42_join_273 ?_
  refine z_aload_n dX42_join_274 rfl rfl ?_
  refine z_aload_n dX42_join_275 rfl rfl ?_
  refine z_getr (r := (gr M a0 5)) dX42_join_276 fsX42_25_6 rfl ?_
  refine z_iload dX42_join_279 rfl ?_
  refine z_iload dX42_join_281 rfl ?_
  refine z_iadd dX42_join_283 ?_
  obtain ⟨b1, m1, e1_, k⟩ := k
  refine Z.eqs (lv' := [(0, vr (some (a0, 6, 0))), (1, vi l1), (2, vr (some (a2, 7, 0))), (5, vi l5), (6, vi l6), (7, vi l7)]) (st' := [vi (l5 + l7), vr (some (b1, 105, m1)), vr (some (a0, 6, 0)), vi (l5 + l7), vr (some (b1, 105, m1))]) rfl (by rw [e1_] <;> rfl) ?_
  obtain ⟨b_, k⟩ := k
  refine z_lald dX42_join_284 b_ ?_
  refine z_aload_n dX42_join_285 rfl rfl ?_
  refine z_getr (r := (gr M a0 5)) dX42_join_286 fsX42_25_6 rfl ?_
  refine z_iload dX42_join_289 rfl ?_
  refine z_iload dX42_join_291 rfl ?_
  refine z_iadd dX42_join_293 ?_
  obtain ⟨b2, m2, e2_, k⟩ := k
  refine Z.eqs (lv' := [(0, vr (some (a0, 6, 0))), (1, vi l1), (2, vr (some (a2, 7, 0))), (5, vi l5), (6, vi l6), (7, vi l7)]) (st' := [vi (l5 + l7), vr (some (b2, 105, m2)), vl (gl (sl M p2 (s1).toNatClampNeg s0) b1 ((l5 + l7)).toNatClampNeg), vr (some (a0, 6, 0)), vi (l5 + l7), vr (some (b1, 105, m1))]) rfl (by rw [e2_] <;> rfl) ?_
  obtain ⟨b_, k⟩ := k
  refine z_lald dX42_join_294 b_ ?_
  refine z_aload_n dX42_join_295 rfl rfl ?_
  refine z_getr (r := (gr M a2 5)) dX42_join_296 fsX42_110_7 rfl ?_
  refine z_iload dX42_join_299 rfl ?_
  obtain ⟨b3, m3, e3_, k⟩ := k
  refine Z.eqs (lv' := [(0, vr (some (a0, 6, 0))), (1, vi l1), (2, vr (some (a2, 7, 0))), (5, vi l5), (6, vi l6), (7, vi l7)]) (st' := [vi l7, vr (some (b3, 105, m3)), vl (gl (sl M p2 (s1).toNatClampNeg s0) b2 ((l5 + l7)).toNatClampNeg), vl (gl (sl M p2 (s1).toNatClampNeg s0) b1 ((l5 + l7)).toNatClampNeg), vr (some (a0, 6, 0)), vi (l5 + l7), vr (some (b1, 105, m1))]) rfl (by rw [e3_] <;> rfl) ?_
  obtain ⟨b_, k⟩ := k
  refine z_lald dX42_join_301 b_ ?_
  refine z_lor dX42_join_302 ?_
  exact z_callV (as := [vl (gl (sl M p2 (s1).toNatClampNeg s0) b1 ((l5 + l7)).toNatClampNeg), vl ((gl (sl M p2 (s1).toNatClampNeg s0) b2 ((l5 + l7)).toNatClampNeg) ||| (gl (sl M p2 (s1).toNatClampNeg s0) b3 (l7).toNatClampNeg))]) (st := [vi (l5 + l7), vr (some (b1, 105, m1))]) dX42_join_303 vsX42_100_6 (Nat.le_refl _) (Nat.le_of_ble_eq_true rfl) (Nat.le_of_ble_eq_true rfl) rfl k
theorem sX42_join_306 {E : zE} {d : Nat} {Q : zO → zM → Prop} (M : zM) (a0 : Nat) (l1 : Int32) (a2 : Nat) (l5 : Int32) (l6 : Int32) (l7 : Int32) (s0 : Int64) (s1 : Int32) (p2 : Nat) (np2 : Nat) (k : 16 ≤ p2 ∧ (vp_in s1 np2 ∧ (∃ b1 m1 : Nat, (gr M a0 6) = some (b1, 105, m1) ∧ (vp_in (l5 + l7) m1 ∧ (∃ b2 m2 : Nat, (gr M a0 6) = some (b2, 105, m2) ∧ (vp_in (l5 + l7) m2 ∧ (∃ b3 m3 : Nat, (gr M a2 6) = some (b3, 105, m3) ∧ (vp_in l7 m3 ∧ (Z E YX42_more d (sl M p2 (s1).toNatClampNeg s0) (zargs 0 [vr (some (a0, 6, 0)), vl (gl (sl M p2 (s1).toNatClampNeg s0) b1 ((l5 + l7)).toNatClampNeg), vl ((gl (sl M p2 (s1).toNatClampNeg s0) b2 ((l5 + l7)).toNatClampNeg) ||| (gl (sl M p2 (s1).toNatClampNeg s0) b3 (l7).toNatClampNeg))]) 0 [] (zafter E YX42_join (d + 1) [(0, vr (some (a0, 6, 0))), (1, vi l1), (2, vr (some (a2, 7, 0))), (5, vi l5), (6, vi l6), (7, vi l7)] 345 3 [vi (l5 + l7), vr (some (b1, 105, m1))] Q)))))))))) : Z E YX42_join (d + 1) M [(0, vr (some (a0, 6, 0))), (1, vi l1), (2, vr (some (a2, 7, 0))), (5, vi l5), (6, vi l6), (7, vi l7)] 306 [vl s0, vi s1, vr (some (p2, 105, np2))] Q := by
  obtain ⟨g_, k⟩ := k
  obtain ⟨b_, k⟩ := k
  refine z_last g_ dX42_join_306 b_ ?_
  refine z_aload_n dX42_join_307 rfl rfl ?_
  refine z_getr (r := (gr M a0 6)) dX42_join_308 fsX42_28_6 rfl ?_
  refine z_iload dX42_join_311 rfl ?_
  refine z_iload dX42_join_313 rfl ?_
  refine z_iadd dX42_join_315 ?_
  refine z_aload_n dX42_join_316 rfl rfl ?_
  refine z_aload_n dX42_join_317 rfl rfl ?_
  refine z_getr (r := (gr M a0 6)) dX42_join_318 fsX42_28_6 rfl ?_
  refine z_iload dX42_join_321 rfl ?_
  refine z_iload dX42_join_323 rfl ?_
  refine z_iadd dX42_join_325 ?_
  obtain ⟨b1, m1, e1_, k⟩ := k
  refine Z.eqs (lv' := [(0, vr (some (a0, 6, 0))), (1, vi l1), (2, vr (some (a2, 7, 0))), (5, vi l5), (6, vi l6), (7, vi l7)]) (st' := [vi (l5 + l7), vr (some (b1, 105, m1)), vr (some (a0, 6, 0)), vi (l5 + l7), vr (some (b1, 105, m1))]) rfl (by rw [e1_] <;> rfl) ?_
  obtain ⟨b_, k⟩ := k
  refine z_lald dX42_join_326 b_ ?_
  refine z_aload_n dX42_join_327 rfl rfl ?_
  refine z_getr (r := (gr M a0 6)) dX42_join_328 fsX42_28_6 rfl ?_
  refine z_iload dX42_join_331 rfl ?_
  refine z_iload dX42_join_333 rfl ?_
  refine z_iadd dX42_join_335 ?_
  obtain ⟨b2, m2, e2_, k⟩ := k
  refine Z.eqs (lv' := [(0, vr (some (a0, 6, 0))), (1, vi l1), (2, vr (some (a2, 7, 0))), (5, vi l5), (6, vi l6), (7, vi l7)]) (st' := [vi (l5 + l7), vr (some (b2, 105, m2)), vl (gl (sl M p2 (s1).toNatClampNeg s0) b1 ((l5 + l7)).toNatClampNeg), vr (some (a0, 6, 0)), vi (l5 + l7), vr (some (b1, 105, m1))]) rfl (by rw [e2_] <;> rfl) ?_
  obtain ⟨b_, k⟩ := k
  refine z_lald dX42_join_336 b_ ?_
  refine z_aload_n dX42_join_337 rfl rfl ?_
  refine z_getr (r := (gr M a2 6)) dX42_join_338 fsX42_111_7 rfl ?_
  refine z_iload dX42_join_341 rfl ?_
  obtain ⟨b3, m3, e3_, k⟩ := k
  refine Z.eqs (lv' := [(0, vr (some (a0, 6, 0))), (1, vi l1), (2, vr (some (a2, 7, 0))), (5, vi l5), (6, vi l6), (7, vi l7)]) (st' := [vi l7, vr (some (b3, 105, m3)), vl (gl (sl M p2 (s1).toNatClampNeg s0) b2 ((l5 + l7)).toNatClampNeg), vl (gl (sl M p2 (s1).toNatClampNeg s0) b1 ((l5 + l7)).toNatClampNeg), vr (some (a0, 6, 0)), vi (l5 + l7), vr (some (b1, 105, m1))]) rfl (by rw [e3_] <;> rfl) ?_
  obtain ⟨b_, k⟩ := k
  refine z_lald dX42_join_343 b_ ?_
  refine z_lor dX42_join_344 ?_
  exact z_callV (as := [vl (gl (sl M p2 (s1).toNatClampNeg s0) b1 ((l5 + l7)).toNatClampNeg), vl ((gl (sl M p2 (s1).toNatClampNeg s0) b2 ((l5 + l7)).toNatClampNeg) ||| (gl (sl M p2 (s1).toNatClampNeg s0) b3 (l7).toNatClampNeg))]) (st := [vi (l5 + l7), vr (some (b1, 105, m1))]) dX42_join_345 vsX42_100_6 (Nat.le_refl _) (Nat.le_of_ble_eq_true rfl) (Nat.le_of_ble_eq_true rfl) rfl k
theorem sX42_join_348 {E : zE} {d : Nat} {Q : zO → zM → Prop} (M : zM) (a0 : Nat) (l1 : Int32) (a2 : Nat) (l5 : Int32) (l6 : Int32) (l7 : Int32) (s0 : Int64) (s1 : Int32) (p2 : Nat) (np2 : Nat) (k : 16 ≤ p2 ∧ (vp_in s1 np2 ∧ (∃ b1 m1 : Nat, (gr M a0 7) = some (b1, 105, m1) ∧ (vp_in (l5 + l7) m1 ∧ (∃ b2 m2 : Nat, (gr M a0 7) = some (b2, 105, m2) ∧ (vp_in (l5 + l7) m2 ∧ (∃ b3 m3 : Nat, (gr M a2 7) = some (b3, 105, m3) ∧ (vp_in l7 m3 ∧ (Z E YX42_more d (sl M p2 (s1).toNatClampNeg s0) (zargs 0 [vr (some (a0, 6, 0)), vl (gl (sl M p2 (s1).toNatClampNeg s0) b1 ((l5 + l7)).toNatClampNeg), vl ((gl (sl M p2 (s1).toNatClampNeg s0) b2 ((l5 + l7)).toNatClampNeg) ||| (gl (sl M p2 (s1).toNatClampNeg s0) b3 (l7).toNatClampNeg))]) 0 [] (zafter E YX42_join (d + 1) [(0, vr (some (a0, 6, 0))), (1, vi l1), (2, vr (some (a2, 7, 0))), (5, vi l5), (6, vi l6), (7, vi l7)] 387 3 [vi (l5 + l7), vr (some (b1, 105, m1))] Q)))))))))) : Z E YX42_join (d + 1) M [(0, vr (some (a0, 6, 0))), (1, vi l1), (2, vr (some (a2, 7, 0))), (5, vi l5), (6, vi l6), (7, vi l7)] 348 [vl s0, vi s1, vr (some (p2, 105, np2))] Q := by
  obtain ⟨g_, k⟩ := k
  obtain ⟨b_, k⟩ := k
  refine z_last g_ dX42_join_348 b_ ?_
  refine z_aload_n dX42_join_349 rfl rfl ?_
  refine z_getr (r := (gr M a0 7)) dX42_join_350 fsX42_31_6 rfl ?_
  refine z_iload dX42_join_353 rfl ?_
  refine z_iload dX42_join_355 rfl ?_
  refine z_iadd dX42_join_357 ?_
  refine z_aload_n dX42_join_358 rfl rfl ?_
  refine z_aload_n dX42_join_359 rfl rfl ?_
  refine z_getr (r := (gr M a0 7)) dX42_join_360 fsX42_31_6 rfl ?_
  refine z_iload dX42_join_363 rfl ?_
  refine z_iload dX42_join_365 rfl ?_
  refine z_iadd dX42_join_367 ?_
  obtain ⟨b1, m1, e1_, k⟩ := k
  refine Z.eqs (lv' := [(0, vr (some (a0, 6, 0))), (1, vi l1), (2, vr (some (a2, 7, 0))), (5, vi l5), (6, vi l6), (7, vi l7)]) (st' := [vi (l5 + l7), vr (some (b1, 105, m1)), vr (some (a0, 6, 0)), vi (l5 + l7), vr (some (b1, 105, m1))]) rfl (by rw [e1_] <;> rfl) ?_
  obtain ⟨b_, k⟩ := k
  refine z_lald dX42_join_368 b_ ?_
  refine z_aload_n dX42_join_369 rfl rfl ?_
  refine z_getr (r := (gr M a0 7)) dX42_join_370 fsX42_31_6 rfl ?_
  refine z_iload dX42_join_373 rfl ?_
  refine z_iload dX42_join_375 rfl ?_
  refine z_iadd dX42_join_377 ?_
  obtain ⟨b2, m2, e2_, k⟩ := k
  refine Z.eqs (lv' := [(0, vr (some (a0, 6, 0))), (1, vi l1), (2, vr (some (a2, 7, 0))), (5, vi l5), (6, vi l6), (7, vi l7)]) (st' := [vi (l5 + l7), vr (some (b2, 105, m2)), vl (gl (sl M p2 (s1).toNatClampNeg s0) b1 ((l5 + l7)).toNatClampNeg), vr (some (a0, 6, 0)), vi (l5 + l7), vr (some (b1, 105, m1))]) rfl (by rw [e2_] <;> rfl) ?_
  obtain ⟨b_, k⟩ := k
  refine z_lald dX42_join_378 b_ ?_
  refine z_aload_n dX42_join_379 rfl rfl ?_
  refine z_getr (r := (gr M a2 7)) dX42_join_380 fsX42_112_7 rfl ?_
  refine z_iload dX42_join_383 rfl ?_
  obtain ⟨b3, m3, e3_, k⟩ := k
  refine Z.eqs (lv' := [(0, vr (some (a0, 6, 0))), (1, vi l1), (2, vr (some (a2, 7, 0))), (5, vi l5), (6, vi l6), (7, vi l7)]) (st' := [vi l7, vr (some (b3, 105, m3)), vl (gl (sl M p2 (s1).toNatClampNeg s0) b2 ((l5 + l7)).toNatClampNeg), vl (gl (sl M p2 (s1).toNatClampNeg s0) b1 ((l5 + l7)).toNatClampNeg), vr (some (a0, 6, 0)), vi (l5 + l7), vr (some (b1, 105, m1))]) rfl (by rw [e3_] <;> rfl) ?_
  obtain ⟨b_, k⟩ := k
  refine z_lald dX42_join_385 b_ ?_
  refine z_lor dX42_join_386 ?_
  exact z_callV (as := [vl (gl (sl M p2 (s1).toNatClampNeg s0) b1 ((l5 + l7)).toNatClampNeg), vl ((gl (sl M p2 (s1).toNatClampNeg s0) b2 ((l5 + l7)).toNatClampNeg) ||| (gl (sl M p2 (s1).toNatClampNeg s0) b3 (l7).toNatClampNeg))]) (st := [vi (l5 + l7), vr (some (b1, 105, m1))]) dX42_join_387 vsX42_100_6 (Nat.le_refl _) (Nat.le_of_ble_eq_true rfl) (Nat.le_of_ble_eq_true rfl) rfl k
theorem sX42_join_390 {E : zE} {d : Nat} {Q : zO → zM → Prop} (M : zM) (a0 : Nat) (l1 : Int32) (a2 : Nat) (l5 : Int32) (l6 : Int32) (l7 : Int32) (s0 : Int64) (s1 : Int32) (p2 : Nat) (np2 : Nat) (k : 16 ≤ p2 ∧ (vp_in s1 np2 ∧ (∃ b1 m1 : Nat, (gr M a0 8) = some (b1, 101, m1) ∧ (vp_in (l5 + l7) m1 ∧ (∃ b2 m2 : Nat, (gr M a0 8) = some (b2, 101, m2) ∧ (vp_in (l5 + l7) m2 ∧ (Z E YX42_flagsOf d (sl M p2 (s1).toNatClampNeg s0) (zargs 0 [vr (some (a0, 6, 0)), vr (some (a2, 7, 0)), vi l7]) 0 [] (zafter E YX42_join (d + 1) [(0, vr (some (a0, 6, 0))), (1, vi l1), (2, vr (some (a2, 7, 0))), (5, vi l5), (6, vi l6), (7, vi l7)] 426 3 [vi (gi M b2 ((l5 + l7)).toNatClampNeg), vl ((gi M b1 ((l5 + l7)).toNatClampNeg)).toInt64, vr (some (a0, 6, 0)), vi (l5 + l7), vr (some (b1, 101, m1))] Q)))))))) : Z E YX42_join (d + 1) M [(0, vr (some (a0, 6, 0))), (1, vi l1), (2, vr (some (a2, 7, 0))), (5, vi l5), (6, vi l6), (7, vi l7)] 390 [vl s0, vi s1, vr (some (p2, 105, np2))] Q := by
  obtain ⟨g_, k⟩ := k
  obtain ⟨b_, k⟩ := k
  refine z_last g_ dX42_join_390 b_ ?_
  refine z_aload_n dX42_join_391 rfl rfl ?_
  refine z_getr (r := (gr M a0 8)) dX42_join_392 fsX42_34_6 rfl ?_
  refine z_iload dX42_join_395 rfl ?_
  refine z_iload dX42_join_397 rfl ?_
  refine z_iadd dX42_join_399 ?_
  refine z_aload_n dX42_join_400 rfl rfl ?_
  refine z_aload_n dX42_join_401 rfl rfl ?_
  refine z_getr (r := (gr M a0 8)) dX42_join_402 fsX42_34_6 rfl ?_
  refine z_iload dX42_join_405 rfl ?_
  refine z_iload dX42_join_407 rfl ?_
  refine z_iadd dX42_join_409 ?_
  obtain ⟨b1, m1, e1_, k⟩ := k
  refine Z.eqs (lv' := [(0, vr (some (a0, 6, 0))), (1, vi l1), (2, vr (some (a2, 7, 0))), (5, vi l5), (6, vi l6), (7, vi l7)]) (st' := [vi (l5 + l7), vr (some (b1, 101, m1)), vr (some (a0, 6, 0)), vi (l5 + l7), vr (some (b1, 101, m1))]) rfl (by rw [e1_] <;> rfl) ?_
  obtain ⟨b_, k⟩ := k
  refine z_bald dX42_join_410 b_ ?_
  refine z_i2l dX42_join_411 ?_
  refine z_aload_n dX42_join_412 rfl rfl ?_
  refine z_getr (r := (gr M a0 8)) dX42_join_413 fsX42_34_6 rfl ?_
  refine z_iload dX42_join_416 rfl ?_
  refine z_iload dX42_join_418 rfl ?_
  refine z_iadd dX42_join_420 ?_
  obtain ⟨b2, m2, e2_, k⟩ := k
  refine Z.eqs (lv' := [(0, vr (some (a0, 6, 0))), (1, vi l1), (2, vr (some (a2, 7, 0))), (5, vi l5), (6, vi l6), (7, vi l7)]) (st' := [vi (l5 + l7), vr (some (b2, 101, m2)), vl ((gi M b1 ((l5 + l7)).toNatClampNeg)).toInt64, vr (some (a0, 6, 0)), vi (l5 + l7), vr (some (b1, 101, m1))]) rfl (by rw [e2_] <;> rfl) ?_
  obtain ⟨b_, k⟩ := k
  refine z_bald dX42_join_421 b_ ?_
  refine z_aload_n dX42_join_422 rfl rfl ?_
  refine z_aload_n dX42_join_423 rfl rfl ?_
  refine z_iload dX42_join_424 rfl ?_
  exact z_callV (as := [vr (some (a2, 7, 0)), vi l7]) (st := [vi (gi M b2 ((l5 + l7)).toNatClampNeg), vl ((gi M b1 ((l5 + l7)).toNatClampNeg)).toInt64, vr (some (a0, 6, 0)), vi (l5 + l7), vr (some (b1, 101, m1))]) dX42_join_426 vsX42_113_6 (Nat.le_refl _) (Nat.le_of_ble_eq_true rfl) (Nat.le_of_ble_eq_true rfl) rfl k
theorem sX42_join_429 {E : zE} {d : Nat} {Q : zO → zM → Prop} (M : zM) (a0 : Nat) (l1 : Int32) (a2 : Nat) (l5 : Int32) (l6 : Int32) (l7 : Int32) (s0 : Int32) (s1 : Int32) (s2 : Int64) (s4 : Int32) (p5 : Nat) (np5 : Nat) (k : Z E YX42_more d M (zargs 0 [vr (some (a0, 6, 0)), vl s2, vl ((s1 ||| s0)).toInt64]) 0 [] (zafter E YX42_join (d + 1) [(0, vr (some (a0, 6, 0))), (1, vi l1), (2, vr (some (a2, 7, 0))), (5, vi l5), (6, vi l6), (7, vi l7)] 431 3 [vi s4, vr (some (p5, 101, np5))] Q)) : Z E YX42_join (d + 1) M [(0, vr (some (a0, 6, 0))), (1, vi l1), (2, vr (some (a2, 7, 0))), (5, vi l5), (6, vi l6), (7, vi l7)] 429 [vi s0, vi s1, vl s2, vr (some (a0, 6, 0)), vi s4, vr (some (p5, 101, np5))] Q := by
  refine z_ior dX42_join_429 ?_
  refine z_i2l dX42_join_430 ?_
  exact z_callV (as := [vl s2, vl ((s1 ||| s0)).toInt64]) (st := [vi s4, vr (some (p5, 101, np5))]) dX42_join_431 vsX42_100_6 (Nat.le_refl _) (Nat.le_of_ble_eq_true rfl) (Nat.le_of_ble_eq_true rfl) rfl k
theorem sX42_join_434 {E : zE} {d : Nat} {Q : zO → zM → Prop} (M : zM) (a0 : Nat) (l1 : Int32) (a2 : Nat) (l5 : Int32) (l6 : Int32) (l7 : Int32) (s0 : Int64) (s1 : Int32) (p2 : Nat) (np2 : Nat) (k : 16 ≤ p2 ∧ (vp_in s1 np2 ∧ (Z E YX42_join (d + 1) (si M p2 (s1).toNatClampNeg (vp_nar .byte ((s0).toInt32).toInt8.toInt32)) [(0, vr (some (a0, 6, 0))), (1, vi l1), (2, vr (some (a2, 7, 0))), (5, vi l5), (6, vi l6), (7, vi (l7 + (1 : Int32)))] 211 [] Q))) : Z E YX42_join (d + 1) M [(0, vr (some (a0, 6, 0))), (1, vi l1), (2, vr (some (a2, 7, 0))), (5, vi l5), (6, vi l6), (7, vi l7)] 434 [vl s0, vi s1, vr (some (p2, 101, np2))] Q := by
  refine z_l2i dX42_join_434 ?_
  refine z_i2b dX42_join_435 ?_
  obtain ⟨g_, k⟩ := k
  obtain ⟨b_, k⟩ := k
  refine z_bast g_ dX42_join_436 b_ ?_
  refine z_inc (v := (l7 + (1 : Int32))) dX42_join_437 rfl rfl (by decide) (lv' := [(0, vr (some (a0, 6, 0))), (1, vi l1), (2, vr (some (a2, 7, 0))), (5, vi l5), (6, vi l6), (7, vi (l7 + (1 : Int32)))]) rfl ?_
  refine z_goto (tgt := 211) dX42_join_440 rfl ?_
  exact k
theorem sX42_join_446 {E : zE} {d : Nat} {Q : zO → zM → Prop} (M : zM) (a0 : Nat) (l1 : Int32) (r2 : Option zP) (l6 : Int32) (l7 : Int32) (k : ∃ b1 m1 : Nat, (gr M a0 9) = some (b1, 100, m1) ∧ (vp_in l1 m1 ∧ (if (gi M b1 (l1).toNatClampNeg) ≤ l7 then (∃ b2 m2 : Nat, (gr M a0 11) = some (b2, 105, m2) ∧ (vp_in l1 m2 ∧ (∃ b3 m3 : Nat, (gr M a0 11) = some (b3, 105, m3) ∧ (vp_in l1 m3 ∧ (∃ b4 : Nat, r2 = some (b4, 7, 0) ∧ (Z E YX42_more d M (zargs 0 [vr (some (a0, 6, 0)), vl (gl M b2 (l1).toNatClampNeg), vl ((gl M b3 (l1).toNatClampNeg) ||| (gl M b4 14))]) 0 [] (zafter E YX42_join (d + 1) [(0, vr (some (a0, 6, 0))), (1, vi l1), (2, vr (some (b4, 7, 0)))] 614 3 [vi l1, vr (some (b2, 105, m2))] Q))))))) else (∃ b2 m2 : Nat, (gr M a0 16) = some (b2, 105, m2) ∧ (vp_in (l6 + l7) m2 ∧ (∃ b3 m3 : Nat, (gr M a0 16) = some (b3, 105, m3) ∧ (vp_in (l6 + l7) m3 ∧ (∃ b4 : Nat, r2 = some (b4, 7, 0) ∧ (∃ b5 m5 : Nat, (gr M b4 10) = some (b5, 105, m5) ∧ (vp_in l7 m5 ∧ (Z E YX42_more d M (zargs 0 [vr (some (a0, 6, 0)), vl (gl M b2 ((l6 + l7)).toNatClampNeg), vl ((gl M b3 ((l6 + l7)).toNatClampNeg) ||| (gl M b5 (l7).toNatClampNeg))]) 0 [] (zafter E YX42_join (d + 1) [(0, vr (some (a0, 6, 0))), (1, vi l1), (2, vr (some (b4, 7, 0))), (6, vi l6), (7, vi l7)] 495 3 [vi (l6 + l7), vr (some (b2, 105, m2))] Q)))))))))))) : Z E YX42_join (d + 1) M [(0, vr (some (a0, 6, 0))), (1, vi l1), (2, vr r2), (6, vi l6), (7, vi l7)] 446 [] Q := by
  refine z_iload dX42_join_446 rfl ?_
  refine z_aload_n dX42_join_448 rfl rfl ?_
  refine z_getr (r := (gr M a0 9)) dX42_join_449 fsX42_38_6 rfl ?_
  refine z_iload_n dX42_join_452 rfl rfl ?_
  obtain ⟨b1, m1, e1_, k⟩ := k
  refine Z.eqs (lv' := [(0, vr (some (a0, 6, 0))), (1, vi l1), (2, vr r2), (6, vi l6), (7, vi l7)]) (st' := [vi l1, vr (some (b1, 100, m1)), vi l7]) rfl (by rw [e1_] <;> rfl) ?_
  obtain ⟨b_, k⟩ := k
  refine z_iald dX42_join_453 b_ ?_
  refine z_icmp_ge (tgt := 591) dX42_join_454 rfl (fun h_ => ?_) (fun h_ => ?_)
  · have k := zit h_ k
    refine z_aload_n dX42_join_591 rfl rfl ?_
    refine z_getr (r := (gr M a0 11)) dX42_join_592 fsX42_45_6 rfl ?_
    refine z_iload_n dX42_join_595 rfl rfl ?_
    refine z_aload_n dX42_join_596 rfl rfl ?_
    refine z_aload_n dX42_join_597 rfl rfl ?_
    refine z_getr (r := (gr M a0 11)) dX42_join_598 fsX42_45_6 rfl ?_
    refine z_iload_n dX42_join_601 rfl rfl ?_
    obtain ⟨b2, m2, e2_, k⟩ := k
    refine Z.eqs (lv' := [(0, vr (some (a0, 6, 0))), (1, vi l1), (2, vr r2), (6, vi l6), (7, vi l7)]) (st' := [vi l1, vr (some (b2, 105, m2)), vr (some (a0, 6, 0)), vi l1, vr (some (b2, 105, m2))]) rfl (by rw [e2_] <;> rfl) ?_
    obtain ⟨b_, k⟩ := k
    refine z_lald dX42_join_602 b_ ?_
    refine z_aload_n dX42_join_603 rfl rfl ?_
    refine z_getr (r := (gr M a0 11)) dX42_join_604 fsX42_45_6 rfl ?_
    refine z_iload_n dX42_join_607 rfl rfl ?_
    obtain ⟨b3, m3, e3_, k⟩ := k
    refine Z.eqs (lv' := [(0, vr (some (a0, 6, 0))), (1, vi l1), (2, vr r2), (6, vi l6), (7, vi l7)]) (st' := [vi l1, vr (some (b3, 105, m3)), vl (gl M b2 (l1).toNatClampNeg), vr (some (a0, 6, 0)), vi l1, vr (some (b2, 105, m2))]) rfl (by rw [e3_] <;> rfl) ?_
    obtain ⟨b_, k⟩ := k
    refine z_lald dX42_join_608 b_ ?_
    refine z_aload_n dX42_join_609 rfl rfl ?_
    obtain ⟨b4, e4_, k⟩ := k
    refine Z.eqs (lv' := [(0, vr (some (a0, 6, 0))), (1, vi l1), (2, vr (some (b4, 7, 0))), (6, vi l6), (7, vi l7)]) (st' := [vr (some (b4, 7, 0)), vl (gl M b3 (l1).toNatClampNeg), vl (gl M b2 (l1).toNatClampNeg), vr (some (a0, 6, 0)), vi l1, vr (some (b2, 105, m2))]) (by rw [e4_] <;> rfl) (by rw [e4_] <;> rfl) ?_
    refine z_getl dX42_join_610 fsX42_120_7 ?_
    refine z_lor dX42_join_613 ?_
    refine Z.pick [0, 1, 2] rfl ?_
    exact z_callV (as := [vl (gl M b2 (l1).toNatClampNeg), vl ((gl M b3 (l1).toNatClampNeg) ||| (gl M b4 14))]) (st := [vi l1, vr (some (b2, 105, m2))]) dX42_join_614 vsX42_100_6 (Nat.le_refl _) (Nat.le_of_ble_eq_true rfl) (Nat.le_of_ble_eq_true rfl) rfl k
  · have k := zif h_ k
    refine z_aload_n dX42_join_457 rfl rfl ?_
    refine z_getr (r := (gr M a0 16)) dX42_join_458 fsX42_60_6 rfl ?_
    refine z_iload dX42_join_461 rfl ?_
    refine z_iload dX42_join_463 rfl ?_
    refine z_iadd dX42_join_465 ?_
    refine z_aload_n dX42_join_466 rfl rfl ?_
    refine z_aload_n dX42_join_467 rfl rfl ?_
    refine z_getr (r := (gr M a0 16)) dX42_join_468 fsX42_60_6 rfl ?_
    refine z_iload dX42_join_471 rfl ?_
    refine z_iload dX42_join_473 rfl ?_
    refine z_iadd dX42_join_475 ?_
    obtain ⟨b2, m2, e2_, k⟩ := k
    refine Z.eqs (lv' := [(0, vr (some (a0, 6, 0))), (1, vi l1), (2, vr r2), (6, vi l6), (7, vi l7)]) (st' := [vi (l6 + l7), vr (some (b2, 105, m2)), vr (some (a0, 6, 0)), vi (l6 + l7), vr (some (b2, 105, m2))]) rfl (by rw [e2_] <;> rfl) ?_
    obtain ⟨b_, k⟩ := k
    refine z_lald dX42_join_476 b_ ?_
    refine z_aload_n dX42_join_477 rfl rfl ?_
    refine z_getr (r := (gr M a0 16)) dX42_join_478 fsX42_60_6 rfl ?_
    refine z_iload dX42_join_481 rfl ?_
    refine z_iload dX42_join_483 rfl ?_
    refine z_iadd dX42_join_485 ?_
    obtain ⟨b3, m3, e3_, k⟩ := k
    refine Z.eqs (lv' := [(0, vr (some (a0, 6, 0))), (1, vi l1), (2, vr r2), (6, vi l6), (7, vi l7)]) (st' := [vi (l6 + l7), vr (some (b3, 105, m3)), vl (gl M b2 ((l6 + l7)).toNatClampNeg), vr (some (a0, 6, 0)), vi (l6 + l7), vr (some (b2, 105, m2))]) rfl (by rw [e3_] <;> rfl) ?_
    obtain ⟨b_, k⟩ := k
    refine z_lald dX42_join_486 b_ ?_
    refine z_aload_n dX42_join_487 rfl rfl ?_
    obtain ⟨b4, e4_, k⟩ := k
    refine Z.eqs (lv' := [(0, vr (some (a0, 6, 0))), (1, vi l1), (2, vr (some (b4, 7, 0))), (6, vi l6), (7, vi l7)]) (st' := [vr (some (b4, 7, 0)), vl (gl M b3 ((l6 + l7)).toNatClampNeg), vl (gl M b2 ((l6 + l7)).toNatClampNeg), vr (some (a0, 6, 0)), vi (l6 + l7), vr (some (b2, 105, m2))]) (by rw [e4_] <;> rfl) (by rw [e4_] <;> rfl) ?_
    refine z_getr (r := (gr M b4 10)) dX42_join_488 fsX42_117_7 rfl ?_
    refine z_iload dX42_join_491 rfl ?_
    obtain ⟨b5, m5, e5_, k⟩ := k
    refine Z.eqs (lv' := [(0, vr (some (a0, 6, 0))), (1, vi l1), (2, vr (some (b4, 7, 0))), (6, vi l6), (7, vi l7)]) (st' := [vi l7, vr (some (b5, 105, m5)), vl (gl M b3 ((l6 + l7)).toNatClampNeg), vl (gl M b2 ((l6 + l7)).toNatClampNeg), vr (some (a0, 6, 0)), vi (l6 + l7), vr (some (b2, 105, m2))]) rfl (by rw [e5_] <;> rfl) ?_
    obtain ⟨b_, k⟩ := k
    refine z_lald dX42_join_493 b_ ?_
    refine z_lor dX42_join_494 ?_
    exact z_callV (as := [vl (gl M b2 ((l6 + l7)).toNatClampNeg), vl ((gl M b3 ((l6 + l7)).toNatClampNeg) ||| (gl M b5 (l7).toNatClampNeg))]) (st := [vi (l6 + l7), vr (some (b2, 105, m2))]) dX42_join_495 vsX42_100_6 (Nat.le_refl _) (Nat.le_of_ble_eq_true rfl) (Nat.le_of_ble_eq_true rfl) rfl k
theorem sX42_join_498 {E : zE} {d : Nat} {Q : zO → zM → Prop} (M : zM) (a0 : Nat) (l1 : Int32) (a2 : Nat) (l6 : Int32) (l7 : Int32) (s0 : Int64) (s1 : Int32) (p2 : Nat) (np2 : Nat) (k : 16 ≤ p2 ∧ (vp_in s1 np2 ∧ (∃ b1 m1 : Nat, (gr M a0 17) = some (b1, 105, m1) ∧ (vp_in (l6 + l7) m1 ∧ (∃ b2 m2 : Nat, (gr M a0 17) = some (b2, 105, m2) ∧ (vp_in (l6 + l7) m2 ∧ (∃ b3 m3 : Nat, (gr M a2 11) = some (b3, 105, m3) ∧ (vp_in l7 m3 ∧ (Z E YX42_more d (sl M p2 (s1).toNatClampNeg s0) (zargs 0 [vr (some (a0, 6, 0)), vl (gl (sl M p2 (s1).toNatClampNeg s0) b1 ((l6 + l7)).toNatClampNeg), vl ((gl (sl M p2 (s1).toNatClampNeg s0) b2 ((l6 + l7)).toNatClampNeg) ||| (gl (sl M p2 (s1).toNatClampNeg s0) b3 (l7).toNatClampNeg))]) 0 [] (zafter E YX42_join (d + 1) [(0, vr (some (a0, 6, 0))), (1, vi l1), (2, vr (some (a2, 7, 0))), (6, vi l6), (7, vi l7)] 537 3 [vi (l6 + l7), vr (some (b1, 105, m1))] Q)))))))))) : Z E YX42_join (d + 1) M [(0, vr (some (a0, 6, 0))), (1, vi l1), (2, vr (some (a2, 7, 0))), (6, vi l6), (7, vi l7)] 498 [vl s0, vi s1, vr (some (p2, 105, np2))] Q := by
  obtain ⟨g_, k⟩ := k
  obtain ⟨b_, k⟩ := k
  refine z_last g_ dX42_join_498 b_ ?_
  refine z_aload_n dX42_join_499 rfl rfl ?_
  refine z_getr (r := (gr M a0 17)) dX42_join_500 fsX42_63_6 rfl ?_
  refine z_iload dX42_join_503 rfl ?_
  refine z_iload dX42_join_505 rfl ?_
  refine z_iadd dX42_join_507 ?_
  refine z_aload_n dX42_join_508 rfl rfl ?_
  refine z_aload_n dX42_join_509 rfl rfl ?_
  refine z_getr (r := (gr M a0 17)) dX42_join_510 fsX42_63_6 rfl ?_
  refine z_iload dX42_join_513 rfl ?_
  refine z_iload dX42_join_515 rfl ?_
  refine z_iadd dX42_join_517 ?_
  obtain ⟨b1, m1, e1_, k⟩ := k
  refine Z.eqs (lv' := [(0, vr (some (a0, 6, 0))), (1, vi l1), (2, vr (some (a2, 7, 0))), (6, vi l6), (7, vi l7)]) (st' := [vi (l6 + l7), vr (some (b1, 105, m1)), vr (some (a0, 6, 0)), vi (l6 + l7), vr (some (b1, 105, m1))]) rfl (by rw [e1_] <;> rfl) ?_
  obtain ⟨b_, k⟩ := k
  refine z_lald dX42_join_518 b_ ?_
  refine z_aload_n dX42_join_519 rfl rfl ?_
  refine z_getr (r := (gr M a0 17)) dX42_join_520 fsX42_63_6 rfl ?_
  refine z_iload dX42_join_523 rfl ?_
  refine z_iload dX42_join_525 rfl ?_
  refine z_iadd dX42_join_527 ?_
  obtain ⟨b2, m2, e2_, k⟩ := k
  refine Z.eqs (lv' := [(0, vr (some (a0, 6, 0))), (1, vi l1), (2, vr (some (a2, 7, 0))), (6, vi l6), (7, vi l7)]) (st' := [vi (l6 + l7), vr (some (b2, 105, m2)), vl (gl (sl M p2 (s1).toNatClampNeg s0) b1 ((l6 + l7)).toNatClampNeg), vr (some (a0, 6, 0)), vi (l6 + l7), vr (some (b1, 105, m1))]) rfl (by rw [e2_] <;> rfl) ?_
  obtain ⟨b_, k⟩ := k
  refine z_lald dX42_join_528 b_ ?_
  refine z_aload_n dX42_join_529 rfl rfl ?_
  refine z_getr (r := (gr M a2 11)) dX42_join_530 fsX42_118_7 rfl ?_
  refine z_iload dX42_join_533 rfl ?_
  obtain ⟨b3, m3, e3_, k⟩ := k
  refine Z.eqs (lv' := [(0, vr (some (a0, 6, 0))), (1, vi l1), (2, vr (some (a2, 7, 0))), (6, vi l6), (7, vi l7)]) (st' := [vi l7, vr (some (b3, 105, m3)), vl (gl (sl M p2 (s1).toNatClampNeg s0) b2 ((l6 + l7)).toNatClampNeg), vl (gl (sl M p2 (s1).toNatClampNeg s0) b1 ((l6 + l7)).toNatClampNeg), vr (some (a0, 6, 0)), vi (l6 + l7), vr (some (b1, 105, m1))]) rfl (by rw [e3_] <;> rfl) ?_
  obtain ⟨b_, k⟩ := k
  refine z_lald dX42_join_535 b_ ?_
  refine z_lor dX42_join_536 ?_
  exact z_callV (as := [vl (gl (sl M p2 (s1).toNatClampNeg s0) b1 ((l6 + l7)).toNatClampNeg), vl ((gl (sl M p2 (s1).toNatClampNeg s0) b2 ((l6 + l7)).toNatClampNeg) ||| (gl (sl M p2 (s1).toNatClampNeg s0) b3 (l7).toNatClampNeg))]) (st := [vi (l6 + l7), vr (some (b1, 105, m1))]) dX42_join_537 vsX42_100_6 (Nat.le_refl _) (Nat.le_of_ble_eq_true rfl) (Nat.le_of_ble_eq_true rfl) rfl k
theorem sX42_join_540 {E : zE} {d : Nat} {Q : zO → zM → Prop} (M : zM) (a0 : Nat) (l1 : Int32) (a2 : Nat) (l6 : Int32) (l7 : Int32) (s0 : Int64) (s1 : Int32) (p2 : Nat) (np2 : Nat) (k : 16 ≤ p2 ∧ (vp_in s1 np2 ∧ (∃ b1 m1 : Nat, (gr M a0 18) = some (b1, 105, m1) ∧ (vp_in (l6 + l7) m1 ∧ (∃ b2 m2 : Nat, (gr M a0 18) = some (b2, 105, m2) ∧ (vp_in (l6 + l7) m2 ∧ (∃ b3 m3 : Nat, (gr M a2 12) = some (b3, 105, m3) ∧ (vp_in l7 m3 ∧ (Z E YX1_joined d (sl M p2 (s1).toNatClampNeg s0) (zargs 0 [vl (gl (sl M p2 (s1).toNatClampNeg s0) b2 ((l6 + l7)).toNatClampNeg), vl (gl (sl M p2 (s1).toNatClampNeg s0) b3 (l7).toNatClampNeg)]) 0 [] (zafter E YX42_join (d + 1) [(0, vr (some (a0, 6, 0))), (1, vi l1), (2, vr (some (a2, 7, 0))), (6, vi l6), (7, vi l7)] 578 3 [vl (gl (sl M p2 (s1).toNatClampNeg s0) b1 ((l6 + l7)).toNatClampNeg), vr (some (a0, 6, 0)), vi (l6 + l7), vr (some (b1, 105, m1))] Q)))))))))) : Z E YX42_join (d + 1) M [(0, vr (some (a0, 6, 0))), (1, vi l1), (2, vr (some (a2, 7, 0))), (6, vi l6), (7, vi l7)] 540 [vl s0, vi s1, vr (some (p2, 105, np2))] Q := by
  obtain ⟨g_, k⟩ := k
  obtain ⟨b_, k⟩ := k
  refine z_last g_ dX42_join_540 b_ ?_
  refine z_aload_n dX42_join_541 rfl rfl ?_
  refine z_getr (r := (gr M a0 18)) dX42_join_542 fsX42_66_6 rfl ?_
  refine z_iload dX42_join_545 rfl ?_
  refine z_iload dX42_join_547 rfl ?_
  refine z_iadd dX42_join_549 ?_
  refine z_aload_n dX42_join_550 rfl rfl ?_
  refine z_aload_n dX42_join_551 rfl rfl ?_
  refine z_getr (r := (gr M a0 18)) dX42_join_552 fsX42_66_6 rfl ?_
  refine z_iload dX42_join_555 rfl ?_
  refine z_iload dX42_join_557 rfl ?_
  refine z_iadd dX42_join_559 ?_
  obtain ⟨b1, m1, e1_, k⟩ := k
  refine Z.eqs (lv' := [(0, vr (some (a0, 6, 0))), (1, vi l1), (2, vr (some (a2, 7, 0))), (6, vi l6), (7, vi l7)]) (st' := [vi (l6 + l7), vr (some (b1, 105, m1)), vr (some (a0, 6, 0)), vi (l6 + l7), vr (some (b1, 105, m1))]) rfl (by rw [e1_] <;> rfl) ?_
  obtain ⟨b_, k⟩ := k
  refine z_lald dX42_join_560 b_ ?_
  refine z_aload_n dX42_join_561 rfl rfl ?_
  refine z_getr (r := (gr M a0 18)) dX42_join_562 fsX42_66_6 rfl ?_
  refine z_iload dX42_join_565 rfl ?_
  refine z_iload dX42_join_567 rfl ?_
  refine z_iadd dX42_join_569 ?_
  obtain ⟨b2, m2, e2_, k⟩ := k
  refine Z.eqs (lv' := [(0, vr (some (a0, 6, 0))), (1, vi l1), (2, vr (some (a2, 7, 0))), (6, vi l6), (7, vi l7)]) (st' := [vi (l6 + l7), vr (some (b2, 105, m2)), vl (gl (sl M p2 (s1).toNatClampNeg s0) b1 ((l6 + l7)).toNatClampNeg), vr (some (a0, 6, 0)), vi (l6 + l7), vr (some (b1, 105, m1))]) rfl (by rw [e2_] <;> rfl) ?_
  obtain ⟨b_, k⟩ := k
  refine z_lald dX42_join_570 b_ ?_
  refine z_aload_n dX42_join_571 rfl rfl ?_
  refine z_getr (r := (gr M a2 12)) dX42_join_572 fsX42_119_7 rfl ?_
  refine z_iload dX42_join_575 rfl ?_
  obtain ⟨b3, m3, e3_, k⟩ := k
  refine Z.eqs (lv' := [(0, vr (some (a0, 6, 0))), (1, vi l1), (2, vr (some (a2, 7, 0))), (6, vi l6), (7, vi l7)]) (st' := [vi l7, vr (some (b3, 105, m3)), vl (gl (sl M p2 (s1).toNatClampNeg s0) b2 ((l6 + l7)).toNatClampNeg), vl (gl (sl M p2 (s1).toNatClampNeg s0) b1 ((l6 + l7)).toNatClampNeg), vr (some (a0, 6, 0)), vi (l6 + l7), vr (some (b1, 105, m1))]) rfl (by rw [e3_] <;> rfl) ?_
  obtain ⟨b_, k⟩ := k
  refine z_lald dX42_join_577 b_ ?_
  exact z_callS (as := [vl (gl (sl M p2 (s1).toNatClampNeg s0) b2 ((l6 + l7)).toNatClampNeg), vl (gl (sl M p2 (s1).toNatClampNeg s0) b3 (l7).toNatClampNeg)]) (st := [vl (gl (sl M p2 (s1).toNatClampNeg s0) b1 ((l6 + l7)).toNatClampNeg), vr (some (a0, 6, 0)), vi (l6 + l7), vr (some (b1, 105, m1))]) dX42_join_578 ssX42_106 (Nat.le_refl _) (Nat.le_of_ble_eq_true rfl) (Nat.le_of_ble_eq_true rfl) rfl k
theorem sX42_join_581 {E : zE} {d : Nat} {Q : zO → zM → Prop} (M : zM) (a0 : Nat) (l1 : Int32) (a2 : Nat) (l6 : Int32) (l7 : Int32) (s0 : Int64) (s1 : Int64) (s3 : Int32) (p4 : Nat) (np4 : Nat) (k : Z E YX42_more d M (zargs 0 [vr (some (a0, 6, 0)), vl s1, vl s0]) 0 [] (zafter E YX42_join (d + 1) [(0, vr (some (a0, 6, 0))), (1, vi l1), (2, vr (some (a2, 7, 0))), (6, vi l6), (7, vi l7)] 581 3 [vi s3, vr (some (p4, 105, np4))] Q)) : Z E YX42_join (d + 1) M [(0, vr (some (a0, 6, 0))), (1, vi l1), (2, vr (some (a2, 7, 0))), (6, vi l6), (7, vi l7)] 581 [vl s0, vl s1, vr (some (a0, 6, 0)), vi s3, vr (some (p4, 105, np4))] Q := by
  exact z_callV (as := [vl s1, vl s0]) (st := [vi s3, vr (some (p4, 105, np4))]) dX42_join_581 vsX42_100_6 (Nat.le_refl _) (Nat.le_of_ble_eq_true rfl) (Nat.le_of_ble_eq_true rfl) rfl k
theorem sX42_join_584 {E : zE} {d : Nat} {Q : zO → zM → Prop} (M : zM) (a0 : Nat) (l1 : Int32) (a2 : Nat) (l6 : Int32) (l7 : Int32) (s0 : Int64) (s1 : Int32) (p2 : Nat) (np2 : Nat) (k : 16 ≤ p2 ∧ (vp_in s1 np2 ∧ (Z E YX42_join (d + 1) (sl M p2 (s1).toNatClampNeg s0) [(0, vr (some (a0, 6, 0))), (1, vi l1), (2, vr (some (a2, 7, 0))), (6, vi l6), (7, vi (l7 + (1 : Int32)))] 446 [] Q))) : Z E YX42_join (d + 1) M [(0, vr (some (a0, 6, 0))), (1, vi l1), (2, vr (some (a2, 7, 0))), (6, vi l6), (7, vi l7)] 584 [vl s0, vi s1, vr (some (p2, 105, np2))] Q := by
  obtain ⟨g_, k⟩ := k
  obtain ⟨b_, k⟩ := k
  refine z_last g_ dX42_join_584 b_ ?_
  refine z_inc (v := (l7 + (1 : Int32))) dX42_join_585 rfl rfl (by decide) (lv' := [(0, vr (some (a0, 6, 0))), (1, vi l1), (2, vr (some (a2, 7, 0))), (6, vi l6), (7, vi (l7 + (1 : Int32)))]) rfl ?_
  refine z_goto (tgt := 446) dX42_join_588 rfl ?_
  exact k
theorem sX42_join_617 {E : zE} {d : Nat} {Q : zO → zM → Prop} (M : zM) (a0 : Nat) (l1 : Int32) (a2 : Nat) (s0 : Int64) (s1 : Int32) (p2 : Nat) (np2 : Nat) (k : 16 ≤ p2 ∧ (vp_in s1 np2 ∧ (∃ b1 m1 : Nat, (gr M a0 12) = some (b1, 105, m1) ∧ (vp_in l1 m1 ∧ (∃ b2 m2 : Nat, (gr M a0 12) = some (b2, 105, m2) ∧ (vp_in l1 m2 ∧ (Z E YX42_more d (sl M p2 (s1).toNatClampNeg s0) (zargs 0 [vr (some (a0, 6, 0)), vl (gl (sl M p2 (s1).toNatClampNeg s0) b1 (l1).toNatClampNeg), vl ((gl (sl M p2 (s1).toNatClampNeg s0) b2 (l1).toNatClampNeg) ||| (gl (sl M p2 (s1).toNatClampNeg s0) a2 15))]) 0 [] (zafter E YX42_join (d + 1) [(0, vr (some (a0, 6, 0))), (1, vi l1), (2, vr (some (a2, 7, 0)))] 641 3 [vi l1, vr (some (b1, 105, m1))] Q)))))))) : Z E YX42_join (d + 1) M [(0, vr (some (a0, 6, 0))), (1, vi l1), (2, vr (some (a2, 7, 0)))] 617 [vl s0, vi s1, vr (some (p2, 105, np2))] Q := by
  obtain ⟨g_, k⟩ := k
  obtain ⟨b_, k⟩ := k
  refine z_last g_ dX42_join_617 b_ ?_
  refine z_aload_n dX42_join_618 rfl rfl ?_
  refine z_getr (r := (gr M a0 12)) dX42_join_619 fsX42_48_6 rfl ?_
  refine z_iload_n dX42_join_622 rfl rfl ?_
  refine z_aload_n dX42_join_623 rfl rfl ?_
  refine z_aload_n dX42_join_624 rfl rfl ?_
  refine z_getr (r := (gr M a0 12)) dX42_join_625 fsX42_48_6 rfl ?_
  refine z_iload_n dX42_join_628 rfl rfl ?_
  obtain ⟨b1, m1, e1_, k⟩ := k
  refine Z.eqs (lv' := [(0, vr (some (a0, 6, 0))), (1, vi l1), (2, vr (some (a2, 7, 0)))]) (st' := [vi l1, vr (some (b1, 105, m1)), vr (some (a0, 6, 0)), vi l1, vr (some (b1, 105, m1))]) rfl (by rw [e1_] <;> rfl) ?_
  obtain ⟨b_, k⟩ := k
  refine z_lald dX42_join_629 b_ ?_
  refine z_aload_n dX42_join_630 rfl rfl ?_
  refine z_getr (r := (gr M a0 12)) dX42_join_631 fsX42_48_6 rfl ?_
  refine z_iload_n dX42_join_634 rfl rfl ?_
  obtain ⟨b2, m2, e2_, k⟩ := k
  refine Z.eqs (lv' := [(0, vr (some (a0, 6, 0))), (1, vi l1), (2, vr (some (a2, 7, 0)))]) (st' := [vi l1, vr (some (b2, 105, m2)), vl (gl (sl M p2 (s1).toNatClampNeg s0) b1 (l1).toNatClampNeg), vr (some (a0, 6, 0)), vi l1, vr (some (b1, 105, m1))]) rfl (by rw [e2_] <;> rfl) ?_
  obtain ⟨b_, k⟩ := k
  refine z_lald dX42_join_635 b_ ?_
  refine z_aload_n dX42_join_636 rfl rfl ?_
  refine z_getl dX42_join_637 fsX42_123_7 ?_
  refine z_lor dX42_join_640 ?_
  exact z_callV (as := [vl (gl (sl M p2 (s1).toNatClampNeg s0) b1 (l1).toNatClampNeg), vl ((gl (sl M p2 (s1).toNatClampNeg s0) b2 (l1).toNatClampNeg) ||| (gl (sl M p2 (s1).toNatClampNeg s0) a2 15))]) (st := [vi l1, vr (some (b1, 105, m1))]) dX42_join_641 vsX42_100_6 (Nat.le_refl _) (Nat.le_of_ble_eq_true rfl) (Nat.le_of_ble_eq_true rfl) rfl k
theorem sX42_join_644 {E : zE} {d : Nat} {Q : zO → zM → Prop} (M : zM) (a0 : Nat) (l1 : Int32) (a2 : Nat) (s0 : Int64) (s1 : Int32) (p2 : Nat) (np2 : Nat) (k : 16 ≤ p2 ∧ (vp_in s1 np2 ∧ (∃ b1 m1 : Nat, (gr M a0 13) = some (b1, 105, m1) ∧ (vp_in l1 m1 ∧ (∃ b2 m2 : Nat, (gr M a0 13) = some (b2, 105, m2) ∧ (vp_in l1 m2 ∧ (Z E YX1_joined d (sl M p2 (s1).toNatClampNeg s0) (zargs 0 [vl (gl (sl M p2 (s1).toNatClampNeg s0) b2 (l1).toNatClampNeg), vl (gl (sl M p2 (s1).toNatClampNeg s0) a2 16)]) 0 [] (zafter E YX42_join (d + 1) [(0, vr (some (a0, 6, 0))), (1, vi l1), (2, vr (some (a2, 7, 0)))] 667 3 [vl (gl (sl M p2 (s1).toNatClampNeg s0) b1 (l1).toNatClampNeg), vr (some (a0, 6, 0)), vi l1, vr (some (b1, 105, m1))] Q)))))))) : Z E YX42_join (d + 1) M [(0, vr (some (a0, 6, 0))), (1, vi l1), (2, vr (some (a2, 7, 0)))] 644 [vl s0, vi s1, vr (some (p2, 105, np2))] Q := by
  obtain ⟨g_, k⟩ := k
  obtain ⟨b_, k⟩ := k
  refine z_last g_ dX42_join_644 b_ ?_
  refine z_aload_n dX42_join_645 rfl rfl ?_
  refine z_getr (r := (gr M a0 13)) dX42_join_646 fsX42_51_6 rfl ?_
  refine z_iload_n dX42_join_649 rfl rfl ?_
  refine z_aload_n dX42_join_650 rfl rfl ?_
  refine z_aload_n dX42_join_651 rfl rfl ?_
  refine z_getr (r := (gr M a0 13)) dX42_join_652 fsX42_51_6 rfl ?_
  refine z_iload_n dX42_join_655 rfl rfl ?_
  obtain ⟨b1, m1, e1_, k⟩ := k
  refine Z.eqs (lv' := [(0, vr (some (a0, 6, 0))), (1, vi l1), (2, vr (some (a2, 7, 0)))]) (st' := [vi l1, vr (some (b1, 105, m1)), vr (some (a0, 6, 0)), vi l1, vr (some (b1, 105, m1))]) rfl (by rw [e1_] <;> rfl) ?_
  obtain ⟨b_, k⟩ := k
  refine z_lald dX42_join_656 b_ ?_
  refine z_aload_n dX42_join_657 rfl rfl ?_
  refine z_getr (r := (gr M a0 13)) dX42_join_658 fsX42_51_6 rfl ?_
  refine z_iload_n dX42_join_661 rfl rfl ?_
  obtain ⟨b2, m2, e2_, k⟩ := k
  refine Z.eqs (lv' := [(0, vr (some (a0, 6, 0))), (1, vi l1), (2, vr (some (a2, 7, 0)))]) (st' := [vi l1, vr (some (b2, 105, m2)), vl (gl (sl M p2 (s1).toNatClampNeg s0) b1 (l1).toNatClampNeg), vr (some (a0, 6, 0)), vi l1, vr (some (b1, 105, m1))]) rfl (by rw [e2_] <;> rfl) ?_
  obtain ⟨b_, k⟩ := k
  refine z_lald dX42_join_662 b_ ?_
  refine z_aload_n dX42_join_663 rfl rfl ?_
  refine z_getl dX42_join_664 fsX42_125_7 ?_
  exact z_callS (as := [vl (gl (sl M p2 (s1).toNatClampNeg s0) b2 (l1).toNatClampNeg), vl (gl (sl M p2 (s1).toNatClampNeg s0) a2 16)]) (st := [vl (gl (sl M p2 (s1).toNatClampNeg s0) b1 (l1).toNatClampNeg), vr (some (a0, 6, 0)), vi l1, vr (some (b1, 105, m1))]) dX42_join_667 ssX42_106 (Nat.le_refl _) (Nat.le_of_ble_eq_true rfl) (Nat.le_of_ble_eq_true rfl) rfl k
theorem sX42_join_670 {E : zE} {d : Nat} {Q : zO → zM → Prop} (M : zM) (a0 : Nat) (l1 : Int32) (a2 : Nat) (s0 : Int64) (s1 : Int64) (s3 : Int32) (p4 : Nat) (np4 : Nat) (k : Z E YX42_more d M (zargs 0 [vr (some (a0, 6, 0)), vl s1, vl s0]) 0 [] (zafter E YX42_join (d + 1) [(0, vr (some (a0, 6, 0))), (1, vi l1), (2, vr (some (a2, 7, 0)))] 670 3 [vi s3, vr (some (p4, 105, np4))] Q)) : Z E YX42_join (d + 1) M [(0, vr (some (a0, 6, 0))), (1, vi l1), (2, vr (some (a2, 7, 0)))] 670 [vl s0, vl s1, vr (some (a0, 6, 0)), vi s3, vr (some (p4, 105, np4))] Q := by
  exact z_callV (as := [vl s1, vl s0]) (st := [vi s3, vr (some (p4, 105, np4))]) dX42_join_670 vsX42_100_6 (Nat.le_refl _) (Nat.le_of_ble_eq_true rfl) (Nat.le_of_ble_eq_true rfl) rfl k
theorem sX42_join_673 {E : zE} {d : Nat} {Q : zO → zM → Prop} (M : zM) (a0 : Nat) (l1 : Int32) (a2 : Nat) (s0 : Int64) (s1 : Int32) (p2 : Nat) (np2 : Nat) (k : 16 ≤ p2 ∧ (vp_in s1 np2 ∧ (∃ b1 m1 : Nat, (gr M a0 14) = some (b1, 105, m1) ∧ (vp_in l1 m1 ∧ (∃ b2 m2 : Nat, (gr M a0 14) = some (b2, 105, m2) ∧ (vp_in l1 m2 ∧ (Z E YX42_more d (sl M p2 (s1).toNatClampNeg s0) (zargs 0 [vr (some (a0, 6, 0)), vl (gl (sl M p2 (s1).toNatClampNeg s0) b1 (l1).toNatClampNeg), vl ((gl (sl M p2 (s1).toNatClampNeg s0) b2 (l1).toNatClampNeg) ||| (gl (sl M p2 (s1).toNatClampNeg s0) a2 17))]) 0 [] (zafter E YX42_join (d + 1) [(0, vr (some (a0, 6, 0))), (1, vi l1), (2, vr (some (a2, 7, 0)))] 697 3 [vi l1, vr (some (b1, 105, m1))] Q)))))))) : Z E YX42_join (d + 1) M [(0, vr (some (a0, 6, 0))), (1, vi l1), (2, vr (some (a2, 7, 0)))] 673 [vl s0, vi s1, vr (some (p2, 105, np2))] Q := by
  obtain ⟨g_, k⟩ := k
  obtain ⟨b_, k⟩ := k
  refine z_last g_ dX42_join_673 b_ ?_
  refine z_aload_n dX42_join_674 rfl rfl ?_
  refine z_getr (r := (gr M a0 14)) dX42_join_675 fsX42_54_6 rfl ?_
  refine z_iload_n dX42_join_678 rfl rfl ?_
  refine z_aload_n dX42_join_679 rfl rfl ?_
  refine z_aload_n dX42_join_680 rfl rfl ?_
  refine z_getr (r := (gr M a0 14)) dX42_join_681 fsX42_54_6 rfl ?_
  refine z_iload_n dX42_join_684 rfl rfl ?_
  obtain ⟨b1, m1, e1_, k⟩ := k
  refine Z.eqs (lv' := [(0, vr (some (a0, 6, 0))), (1, vi l1), (2, vr (some (a2, 7, 0)))]) (st' := [vi l1, vr (some (b1, 105, m1)), vr (some (a0, 6, 0)), vi l1, vr (some (b1, 105, m1))]) rfl (by rw [e1_] <;> rfl) ?_
  obtain ⟨b_, k⟩ := k
  refine z_lald dX42_join_685 b_ ?_
  refine z_aload_n dX42_join_686 rfl rfl ?_
  refine z_getr (r := (gr M a0 14)) dX42_join_687 fsX42_54_6 rfl ?_
  refine z_iload_n dX42_join_690 rfl rfl ?_
  obtain ⟨b2, m2, e2_, k⟩ := k
  refine Z.eqs (lv' := [(0, vr (some (a0, 6, 0))), (1, vi l1), (2, vr (some (a2, 7, 0)))]) (st' := [vi l1, vr (some (b2, 105, m2)), vl (gl (sl M p2 (s1).toNatClampNeg s0) b1 (l1).toNatClampNeg), vr (some (a0, 6, 0)), vi l1, vr (some (b1, 105, m1))]) rfl (by rw [e2_] <;> rfl) ?_
  obtain ⟨b_, k⟩ := k
  refine z_lald dX42_join_691 b_ ?_
  refine z_aload_n dX42_join_692 rfl rfl ?_
  refine z_getl dX42_join_693 fsX42_127_7 ?_
  refine z_lor dX42_join_696 ?_
  exact z_callV (as := [vl (gl (sl M p2 (s1).toNatClampNeg s0) b1 (l1).toNatClampNeg), vl ((gl (sl M p2 (s1).toNatClampNeg s0) b2 (l1).toNatClampNeg) ||| (gl (sl M p2 (s1).toNatClampNeg s0) a2 17))]) (st := [vi l1, vr (some (b1, 105, m1))]) dX42_join_697 vsX42_100_6 (Nat.le_refl _) (Nat.le_of_ble_eq_true rfl) (Nat.le_of_ble_eq_true rfl) rfl k
theorem sX42_join_700 {E : zE} {d : Nat} {Q : zO → zM → Prop} (M : zM) (a0 : Nat) (l1 : Int32) (a2 : Nat) (s0 : Int64) (s1 : Int32) (p2 : Nat) (np2 : Nat) (k : 16 ≤ p2 ∧ (vp_in s1 np2 ∧ (∃ b1 m1 : Nat, (gr M a0 15) = some (b1, 105, m1) ∧ (vp_in l1 m1 ∧ (∃ b2 m2 : Nat, (gr M a0 15) = some (b2, 105, m2) ∧ (vp_in l1 m2 ∧ (Z E YX42_more d (sl M p2 (s1).toNatClampNeg s0) (zargs 0 [vr (some (a0, 6, 0)), vl (gl (sl M p2 (s1).toNatClampNeg s0) b1 (l1).toNatClampNeg), vl ((gl (sl M p2 (s1).toNatClampNeg s0) b2 (l1).toNatClampNeg) ||| (gl (sl M p2 (s1).toNatClampNeg s0) a2 18))]) 0 [] (zafter E YX42_join (d + 1) [(0, vr (some (a0, 6, 0)))] 724 3 [vi l1, vr (some (b1, 105, m1))] Q)))))))) : Z E YX42_join (d + 1) M [(0, vr (some (a0, 6, 0))), (1, vi l1), (2, vr (some (a2, 7, 0)))] 700 [vl s0, vi s1, vr (some (p2, 105, np2))] Q := by
  obtain ⟨g_, k⟩ := k
  obtain ⟨b_, k⟩ := k
  refine z_last g_ dX42_join_700 b_ ?_
  refine z_aload_n dX42_join_701 rfl rfl ?_
  refine z_getr (r := (gr M a0 15)) dX42_join_702 fsX42_57_6 rfl ?_
  refine z_iload_n dX42_join_705 rfl rfl ?_
  refine z_aload_n dX42_join_706 rfl rfl ?_
  refine z_aload_n dX42_join_707 rfl rfl ?_
  refine z_getr (r := (gr M a0 15)) dX42_join_708 fsX42_57_6 rfl ?_
  refine z_iload_n dX42_join_711 rfl rfl ?_
  obtain ⟨b1, m1, e1_, k⟩ := k
  refine Z.eqs (lv' := [(0, vr (some (a0, 6, 0))), (1, vi l1), (2, vr (some (a2, 7, 0)))]) (st' := [vi l1, vr (some (b1, 105, m1)), vr (some (a0, 6, 0)), vi l1, vr (some (b1, 105, m1))]) rfl (by rw [e1_] <;> rfl) ?_
  obtain ⟨b_, k⟩ := k
  refine z_lald dX42_join_712 b_ ?_
  refine z_aload_n dX42_join_713 rfl rfl ?_
  refine z_getr (r := (gr M a0 15)) dX42_join_714 fsX42_57_6 rfl ?_
  refine z_iload_n dX42_join_717 rfl rfl ?_
  obtain ⟨b2, m2, e2_, k⟩ := k
  refine Z.eqs (lv' := [(0, vr (some (a0, 6, 0))), (1, vi l1), (2, vr (some (a2, 7, 0)))]) (st' := [vi l1, vr (some (b2, 105, m2)), vl (gl (sl M p2 (s1).toNatClampNeg s0) b1 (l1).toNatClampNeg), vr (some (a0, 6, 0)), vi l1, vr (some (b1, 105, m1))]) rfl (by rw [e2_] <;> rfl) ?_
  obtain ⟨b_, k⟩ := k
  refine z_lald dX42_join_718 b_ ?_
  refine z_aload_n dX42_join_719 rfl rfl ?_
  refine z_getl dX42_join_720 fsX42_129_7 ?_
  refine z_lor dX42_join_723 ?_
  refine Z.pick [0] rfl ?_
  exact z_callV (as := [vl (gl (sl M p2 (s1).toNatClampNeg s0) b1 (l1).toNatClampNeg), vl ((gl (sl M p2 (s1).toNatClampNeg s0) b2 (l1).toNatClampNeg) ||| (gl (sl M p2 (s1).toNatClampNeg s0) a2 18))]) (st := [vi l1, vr (some (b1, 105, m1))]) dX42_join_724 vsX42_100_6 (Nat.le_refl _) (Nat.le_of_ble_eq_true rfl) (Nat.le_of_ble_eq_true rfl) rfl k
theorem sX42_join_727 {E : zE} {d : Nat} {Q : zO → zM → Prop} (M : zM) (a0 : Nat) (s0 : Int64) (s1 : Int32) (p2 : Nat) (np2 : Nat) (k : 16 ≤ p2 ∧ (vp_in s1 np2 ∧ ((narrow .boolean (.int (gi M a0 20)) = .int (gi M a0 20)) ∧ Q (.inl (some (vi (gi M a0 20)))) (sl M p2 (s1).toNatClampNeg s0)))) : Z E YX42_join (d + 1) M [(0, vr (some (a0, 6, 0)))] 727 [vl s0, vi s1, vr (some (p2, 105, np2))] Q := by
  obtain ⟨g_, k⟩ := k
  obtain ⟨b_, k⟩ := k
  refine z_last g_ dX42_join_727 b_ ?_
  refine z_aload_n dX42_join_728 rfl rfl ?_
  refine z_geti dX42_join_729 fsX42_83_6 ?_
  exact z_iret dX42_join_732 rfl k.1 k.2
/-! ScriptTypes$Table.begin(ILScriptTypes$Work;)V -/
theorem bX42_begin_0 : zdec cX42_begin 0 [(0, .aload_n 0, 1), (1, .getfield 69, 3), (4, .getfield 91, 3), (7, .aload_n 0, 1), (8, .getfield 69, 3), (11, .getfield 94, 3), (14, .iconst 1, 1), (15, .iadd, 1), (16, .imul, 1), (17, .istore_n 3, 1), (18, .iload_n 1, 1), (19, .iload_n 3, 1), (20, .imul, 1), (21, .istore 4, 2), (23, .iload_n 1, 1), (24, .aload_n 0, 1)] = true := by decide +kernel
theorem dX42_begin_0 : decode cX42_begin 0 = .ok (.aload_n 0, 1) := zdec_at bX42_begin_0 0 rfl
theorem dX42_begin_1 : decode cX42_begin 1 = .ok (.getfield 69, 3) := zdec_at bX42_begin_0 1 rfl
theorem dX42_begin_4 : decode cX42_begin 4 = .ok (.getfield 91, 3) := zdec_at bX42_begin_0 2 rfl
theorem dX42_begin_7 : decode cX42_begin 7 = .ok (.aload_n 0, 1) := zdec_at bX42_begin_0 3 rfl
theorem dX42_begin_8 : decode cX42_begin 8 = .ok (.getfield 69, 3) := zdec_at bX42_begin_0 4 rfl
theorem dX42_begin_11 : decode cX42_begin 11 = .ok (.getfield 94, 3) := zdec_at bX42_begin_0 5 rfl
theorem dX42_begin_14 : decode cX42_begin 14 = .ok (.iconst 1, 1) := zdec_at bX42_begin_0 6 rfl
theorem dX42_begin_15 : decode cX42_begin 15 = .ok (.iadd, 1) := zdec_at bX42_begin_0 7 rfl
theorem dX42_begin_16 : decode cX42_begin 16 = .ok (.imul, 1) := zdec_at bX42_begin_0 8 rfl
theorem dX42_begin_17 : decode cX42_begin 17 = .ok (.istore_n 3, 1) := zdec_at bX42_begin_0 9 rfl
theorem dX42_begin_18 : decode cX42_begin 18 = .ok (.iload_n 1, 1) := zdec_at bX42_begin_0 10 rfl
theorem dX42_begin_19 : decode cX42_begin 19 = .ok (.iload_n 3, 1) := zdec_at bX42_begin_0 11 rfl
theorem dX42_begin_20 : decode cX42_begin 20 = .ok (.imul, 1) := zdec_at bX42_begin_0 12 rfl
theorem dX42_begin_21 : decode cX42_begin 21 = .ok (.istore 4, 2) := zdec_at bX42_begin_0 13 rfl
theorem dX42_begin_23 : decode cX42_begin 23 = .ok (.iload_n 1, 1) := zdec_at bX42_begin_0 14 rfl
theorem dX42_begin_24 : decode cX42_begin 24 = .ok (.aload_n 0, 1) := zdec_at bX42_begin_0 15 rfl
theorem bX42_begin_25 : zdec cX42_begin 25 [(25, .getfield 69, 3), (28, .getfield 91, 3), (31, .imul, 1), (32, .istore 5, 2), (34, .aload_n 0, 1), (35, .getfield 38, 3), (38, .iload_n 1, 1), (39, .aload_n 2, 1), (40, .getfield 138, 3), (43, .iastore, 1), (44, .aload_n 0, 1), (45, .getfield 42, 3), (48, .iload_n 1, 1), (49, .aload_n 0, 1), (50, .getfield 73, 3), (53, .iastore, 1)] = true := by decide +kernel
theorem dX42_begin_25 : decode cX42_begin 25 = .ok (.getfield 69, 3) := zdec_at bX42_begin_25 0 rfl
theorem dX42_begin_28 : decode cX42_begin 28 = .ok (.getfield 91, 3) := zdec_at bX42_begin_25 1 rfl
theorem dX42_begin_31 : decode cX42_begin 31 = .ok (.imul, 1) := zdec_at bX42_begin_25 2 rfl
theorem dX42_begin_32 : decode cX42_begin 32 = .ok (.istore 5, 2) := zdec_at bX42_begin_25 3 rfl
theorem dX42_begin_34 : decode cX42_begin 34 = .ok (.aload_n 0, 1) := zdec_at bX42_begin_25 4 rfl
theorem dX42_begin_35 : decode cX42_begin 35 = .ok (.getfield 38, 3) := zdec_at bX42_begin_25 5 rfl
theorem dX42_begin_38 : decode cX42_begin 38 = .ok (.iload_n 1, 1) := zdec_at bX42_begin_25 6 rfl
theorem dX42_begin_39 : decode cX42_begin 39 = .ok (.aload_n 2, 1) := zdec_at bX42_begin_25 7 rfl
theorem dX42_begin_40 : decode cX42_begin 40 = .ok (.getfield 138, 3) := zdec_at bX42_begin_25 8 rfl
theorem dX42_begin_43 : decode cX42_begin 43 = .ok (.iastore, 1) := zdec_at bX42_begin_25 9 rfl
theorem dX42_begin_44 : decode cX42_begin 44 = .ok (.aload_n 0, 1) := zdec_at bX42_begin_25 10 rfl
theorem dX42_begin_45 : decode cX42_begin 45 = .ok (.getfield 42, 3) := zdec_at bX42_begin_25 11 rfl
theorem dX42_begin_48 : decode cX42_begin 48 = .ok (.iload_n 1, 1) := zdec_at bX42_begin_25 12 rfl
theorem dX42_begin_49 : decode cX42_begin 49 = .ok (.aload_n 0, 1) := zdec_at bX42_begin_25 13 rfl
theorem dX42_begin_50 : decode cX42_begin 50 = .ok (.getfield 73, 3) := zdec_at bX42_begin_25 14 rfl
theorem dX42_begin_53 : decode cX42_begin 53 = .ok (.iastore, 1) := zdec_at bX42_begin_25 15 rfl
theorem bX42_begin_54 : zdec cX42_begin 54 [(54, .aload_n 0, 1), (55, .getfield 73, 3), (58, .aload_n 2, 1), (59, .getfield 138, 3), (62, .iadd, 1), (63, .aload_n 0, 1), (64, .getfield 60, 3), (67, .arraylength, 1), (68, .if_icmp .le 42, 3), (71, .aload_n 0, 1), (72, .aload_n 0, 1), (73, .aload_n 0, 1), (74, .getfield 60, 3), (77, .invokevirtual 141, 3), (80, .putfield 60, 3), (83, .aload_n 0, 1)] = true := by decide +kernel
theorem dX42_begin_54 : decode cX42_begin 54 = .ok (.aload_n 0, 1) := zdec_at bX42_begin_54 0 rfl
theorem dX42_begin_55 : decode cX42_begin 55 = .ok (.getfield 73, 3) := zdec_at bX42_begin_54 1 rfl
theorem dX42_begin_58 : decode cX42_begin 58 = .ok (.aload_n 2, 1) := zdec_at bX42_begin_54 2 rfl
theorem dX42_begin_59 : decode cX42_begin 59 = .ok (.getfield 138, 3) := zdec_at bX42_begin_54 3 rfl
theorem dX42_begin_62 : decode cX42_begin 62 = .ok (.iadd, 1) := zdec_at bX42_begin_54 4 rfl
theorem dX42_begin_63 : decode cX42_begin 63 = .ok (.aload_n 0, 1) := zdec_at bX42_begin_54 5 rfl
theorem dX42_begin_64 : decode cX42_begin 64 = .ok (.getfield 60, 3) := zdec_at bX42_begin_54 6 rfl
theorem dX42_begin_67 : decode cX42_begin 67 = .ok (.arraylength, 1) := zdec_at bX42_begin_54 7 rfl
theorem dX42_begin_68 : decode cX42_begin 68 = .ok (.if_icmp .le 42, 3) := zdec_at bX42_begin_54 8 rfl
theorem dX42_begin_71 : decode cX42_begin 71 = .ok (.aload_n 0, 1) := zdec_at bX42_begin_54 9 rfl
theorem dX42_begin_72 : decode cX42_begin 72 = .ok (.aload_n 0, 1) := zdec_at bX42_begin_54 10 rfl
theorem dX42_begin_73 : decode cX42_begin 73 = .ok (.aload_n 0, 1) := zdec_at bX42_begin_54 11 rfl
theorem dX42_begin_74 : decode cX42_begin 74 = .ok (.getfield 60, 3) := zdec_at bX42_begin_54 12 rfl
theorem dX42_begin_77 : decode cX42_begin 77 = .ok (.invokevirtual 141, 3) := zdec_at bX42_begin_54 13 rfl
theorem dX42_begin_80 : decode cX42_begin 80 = .ok (.putfield 60, 3) := zdec_at bX42_begin_54 14 rfl
theorem dX42_begin_83 : decode cX42_begin 83 = .ok (.aload_n 0, 1) := zdec_at bX42_begin_54 15 rfl
theorem bX42_begin_84 : zdec cX42_begin 84 [(84, .aload_n 0, 1), (85, .aload_n 0, 1), (86, .getfield 63, 3), (89, .invokevirtual 141, 3), (92, .putfield 63, 3), (95, .aload_n 0, 1), (96, .aload_n 0, 1), (97, .aload_n 0, 1), (98, .getfield 66, 3), (101, .invokevirtual 141, 3), (104, .putfield 66, 3), (107, .goto (-53), 3), (110, .aload_n 2, 1), (111, .getfield 117, 3), (114, .iconst 0, 1), (115, .aload_n 0, 1)] = true := by decide +kernel
theorem dX42_begin_84 : decode cX42_begin 84 = .ok (.aload_n 0, 1) := zdec_at bX42_begin_84 0 rfl
theorem dX42_begin_85 : decode cX42_begin 85 = .ok (.aload_n 0, 1) := zdec_at bX42_begin_84 1 rfl
theorem dX42_begin_86 : decode cX42_begin 86 = .ok (.getfield 63, 3) := zdec_at bX42_begin_84 2 rfl
theorem dX42_begin_89 : decode cX42_begin 89 = .ok (.invokevirtual 141, 3) := zdec_at bX42_begin_84 3 rfl
theorem dX42_begin_92 : decode cX42_begin 92 = .ok (.putfield 63, 3) := zdec_at bX42_begin_84 4 rfl
theorem dX42_begin_95 : decode cX42_begin 95 = .ok (.aload_n 0, 1) := zdec_at bX42_begin_84 5 rfl
theorem dX42_begin_96 : decode cX42_begin 96 = .ok (.aload_n 0, 1) := zdec_at bX42_begin_84 6 rfl
theorem dX42_begin_97 : decode cX42_begin 97 = .ok (.aload_n 0, 1) := zdec_at bX42_begin_84 7 rfl
theorem dX42_begin_98 : decode cX42_begin 98 = .ok (.getfield 66, 3) := zdec_at bX42_begin_84 8 rfl
theorem dX42_begin_101 : decode cX42_begin 101 = .ok (.invokevirtual 141, 3) := zdec_at bX42_begin_84 9 rfl
theorem dX42_begin_104 : decode cX42_begin 104 = .ok (.putfield 66, 3) := zdec_at bX42_begin_84 10 rfl
theorem dX42_begin_107 : decode cX42_begin 107 = .ok (.goto (-53), 3) := zdec_at bX42_begin_84 11 rfl
theorem dX42_begin_110 : decode cX42_begin 110 = .ok (.aload_n 2, 1) := zdec_at bX42_begin_84 12 rfl
theorem dX42_begin_111 : decode cX42_begin 111 = .ok (.getfield 117, 3) := zdec_at bX42_begin_84 13 rfl
theorem dX42_begin_114 : decode cX42_begin 114 = .ok (.iconst 0, 1) := zdec_at bX42_begin_84 14 rfl
theorem dX42_begin_115 : decode cX42_begin 115 = .ok (.aload_n 0, 1) := zdec_at bX42_begin_84 15 rfl
theorem bX42_begin_116 : zdec cX42_begin 116 [(116, .getfield 60, 3), (119, .aload_n 0, 1), (120, .getfield 73, 3), (123, .aload_n 2, 1), (124, .getfield 138, 3), (127, .invokestatic 77, 3), (130, .aload_n 2, 1), (131, .getfield 118, 3), (134, .iconst 0, 1), (135, .aload_n 0, 1), (136, .getfield 63, 3), (139, .aload_n 0, 1), (140, .getfield 73, 3), (143, .aload_n 2, 1), (144, .getfield 138, 3), (147, .invokestatic 77, 3)] = true := by decide +kernel
theorem dX42_begin_116 : decode cX42_begin 116 = .ok (.getfield 60, 3) := zdec_at bX42_begin_116 0 rfl
theorem dX42_begin_119 : decode cX42_begin 119 = .ok (.aload_n 0, 1) := zdec_at bX42_begin_116 1 rfl
theorem dX42_begin_120 : decode cX42_begin 120 = .ok (.getfield 73, 3) := zdec_at bX42_begin_116 2 rfl
theorem dX42_begin_123 : decode cX42_begin 123 = .ok (.aload_n 2, 1) := zdec_at bX42_begin_116 3 rfl
theorem dX42_begin_124 : decode cX42_begin 124 = .ok (.getfield 138, 3) := zdec_at bX42_begin_116 4 rfl
theorem dX42_begin_127 : decode cX42_begin 127 = .ok (.invokestatic 77, 3) := zdec_at bX42_begin_116 5 rfl
theorem dX42_begin_130 : decode cX42_begin 130 = .ok (.aload_n 2, 1) := zdec_at bX42_begin_116 6 rfl
theorem dX42_begin_131 : decode cX42_begin 131 = .ok (.getfield 118, 3) := zdec_at bX42_begin_116 7 rfl
theorem dX42_begin_134 : decode cX42_begin 134 = .ok (.iconst 0, 1) := zdec_at bX42_begin_116 8 rfl
theorem dX42_begin_135 : decode cX42_begin 135 = .ok (.aload_n 0, 1) := zdec_at bX42_begin_116 9 rfl
theorem dX42_begin_136 : decode cX42_begin 136 = .ok (.getfield 63, 3) := zdec_at bX42_begin_116 10 rfl
theorem dX42_begin_139 : decode cX42_begin 139 = .ok (.aload_n 0, 1) := zdec_at bX42_begin_116 11 rfl
theorem dX42_begin_140 : decode cX42_begin 140 = .ok (.getfield 73, 3) := zdec_at bX42_begin_116 12 rfl
theorem dX42_begin_143 : decode cX42_begin 143 = .ok (.aload_n 2, 1) := zdec_at bX42_begin_116 13 rfl
theorem dX42_begin_144 : decode cX42_begin 144 = .ok (.getfield 138, 3) := zdec_at bX42_begin_116 14 rfl
theorem dX42_begin_147 : decode cX42_begin 147 = .ok (.invokestatic 77, 3) := zdec_at bX42_begin_116 15 rfl
theorem bX42_begin_150 : zdec cX42_begin 150 [(150, .aload_n 2, 1), (151, .getfield 119, 3), (154, .iconst 0, 1), (155, .aload_n 0, 1), (156, .getfield 66, 3), (159, .aload_n 0, 1), (160, .getfield 73, 3), (163, .aload_n 2, 1), (164, .getfield 138, 3), (167, .invokestatic 77, 3), (170, .aload_n 0, 1), (171, .dup, 1), (172, .getfield 73, 3), (175, .aload_n 2, 1), (176, .getfield 138, 3), (179, .iadd, 1)] = true := by decide +kernel
theorem dX42_begin_150 : decode cX42_begin 150 = .ok (.aload_n 2, 1) := zdec_at bX42_begin_150 0 rfl
theorem dX42_begin_151 : decode cX42_begin 151 = .ok (.getfield 119, 3) := zdec_at bX42_begin_150 1 rfl
theorem dX42_begin_154 : decode cX42_begin 154 = .ok (.iconst 0, 1) := zdec_at bX42_begin_150 2 rfl
theorem dX42_begin_155 : decode cX42_begin 155 = .ok (.aload_n 0, 1) := zdec_at bX42_begin_150 3 rfl
theorem dX42_begin_156 : decode cX42_begin 156 = .ok (.getfield 66, 3) := zdec_at bX42_begin_150 4 rfl
theorem dX42_begin_159 : decode cX42_begin 159 = .ok (.aload_n 0, 1) := zdec_at bX42_begin_150 5 rfl
theorem dX42_begin_160 : decode cX42_begin 160 = .ok (.getfield 73, 3) := zdec_at bX42_begin_150 6 rfl
theorem dX42_begin_163 : decode cX42_begin 163 = .ok (.aload_n 2, 1) := zdec_at bX42_begin_150 7 rfl
theorem dX42_begin_164 : decode cX42_begin 164 = .ok (.getfield 138, 3) := zdec_at bX42_begin_150 8 rfl
theorem dX42_begin_167 : decode cX42_begin 167 = .ok (.invokestatic 77, 3) := zdec_at bX42_begin_150 9 rfl
theorem dX42_begin_170 : decode cX42_begin 170 = .ok (.aload_n 0, 1) := zdec_at bX42_begin_150 10 rfl
theorem dX42_begin_171 : decode cX42_begin 171 = .ok (.dup, 1) := zdec_at bX42_begin_150 11 rfl
theorem dX42_begin_172 : decode cX42_begin 172 = .ok (.getfield 73, 3) := zdec_at bX42_begin_150 12 rfl
theorem dX42_begin_175 : decode cX42_begin 175 = .ok (.aload_n 2, 1) := zdec_at bX42_begin_150 13 rfl
theorem dX42_begin_176 : decode cX42_begin 176 = .ok (.getfield 138, 3) := zdec_at bX42_begin_150 14 rfl
theorem dX42_begin_179 : decode cX42_begin 179 = .ok (.iadd, 1) := zdec_at bX42_begin_150 15 rfl
theorem bX42_begin_180 : zdec cX42_begin 180 [(180, .putfield 73, 3), (183, .aload_n 2, 1), (184, .getfield 97, 3), (187, .iconst 0, 1), (188, .aload_n 0, 1), (189, .getfield 10, 3), (192, .iload 4, 2), (194, .iload_n 3, 1), (195, .invokestatic 77, 3), (198, .aload_n 2, 1), (199, .getfield 104, 3), (202, .iconst 0, 1), (203, .aload_n 0, 1), (204, .getfield 16, 3), (207, .iload 4, 2), (209, .iload_n 3, 1)] = true := by decide +kernel
theorem dX42_begin_180 : decode cX42_begin 180 = .ok (.putfield 73, 3) := zdec_at bX42_begin_180 0 rfl
theorem dX42_begin_183 : decode cX42_begin 183 = .ok (.aload_n 2, 1) := zdec_at bX42_begin_180 1 rfl
theorem dX42_begin_184 : decode cX42_begin 184 = .ok (.getfield 97, 3) := zdec_at bX42_begin_180 2 rfl
theorem dX42_begin_187 : decode cX42_begin 187 = .ok (.iconst 0, 1) := zdec_at bX42_begin_180 3 rfl
theorem dX42_begin_188 : decode cX42_begin 188 = .ok (.aload_n 0, 1) := zdec_at bX42_begin_180 4 rfl
theorem dX42_begin_189 : decode cX42_begin 189 = .ok (.getfield 10, 3) := zdec_at bX42_begin_180 5 rfl
theorem dX42_begin_192 : decode cX42_begin 192 = .ok (.iload 4, 2) := zdec_at bX42_begin_180 6 rfl
theorem dX42_begin_194 : decode cX42_begin 194 = .ok (.iload_n 3, 1) := zdec_at bX42_begin_180 7 rfl
theorem dX42_begin_195 : decode cX42_begin 195 = .ok (.invokestatic 77, 3) := zdec_at bX42_begin_180 8 rfl
theorem dX42_begin_198 : decode cX42_begin 198 = .ok (.aload_n 2, 1) := zdec_at bX42_begin_180 9 rfl
theorem dX42_begin_199 : decode cX42_begin 199 = .ok (.getfield 104, 3) := zdec_at bX42_begin_180 10 rfl
theorem dX42_begin_202 : decode cX42_begin 202 = .ok (.iconst 0, 1) := zdec_at bX42_begin_180 11 rfl
theorem dX42_begin_203 : decode cX42_begin 203 = .ok (.aload_n 0, 1) := zdec_at bX42_begin_180 12 rfl
theorem dX42_begin_204 : decode cX42_begin 204 = .ok (.getfield 16, 3) := zdec_at bX42_begin_180 13 rfl
theorem dX42_begin_207 : decode cX42_begin 207 = .ok (.iload 4, 2) := zdec_at bX42_begin_180 14 rfl
theorem dX42_begin_209 : decode cX42_begin 209 = .ok (.iload_n 3, 1) := zdec_at bX42_begin_180 15 rfl
theorem bX42_begin_210 : zdec cX42_begin 210 [(210, .invokestatic 77, 3), (213, .aload_n 2, 1), (214, .getfield 105, 3), (217, .iconst 0, 1), (218, .aload_n 0, 1), (219, .getfield 19, 3), (222, .iload 4, 2), (224, .iload_n 3, 1), (225, .invokestatic 77, 3), (228, .aload_n 2, 1), (229, .getfield 109, 3), (232, .iconst 0, 1), (233, .aload_n 0, 1), (234, .getfield 22, 3), (237, .iload 5, 2), (239, .aload_n 0, 1)] = true := by decide +kernel
theorem dX42_begin_210 : decode cX42_begin 210 = .ok (.invokestatic 77, 3) := zdec_at bX42_begin_210 0 rfl
theorem dX42_begin_213 : decode cX42_begin 213 = .ok (.aload_n 2, 1) := zdec_at bX42_begin_210 1 rfl
theorem dX42_begin_214 : decode cX42_begin 214 = .ok (.getfield 105, 3) := zdec_at bX42_begin_210 2 rfl
theorem dX42_begin_217 : decode cX42_begin 217 = .ok (.iconst 0, 1) := zdec_at bX42_begin_210 3 rfl
theorem dX42_begin_218 : decode cX42_begin 218 = .ok (.aload_n 0, 1) := zdec_at bX42_begin_210 4 rfl
theorem dX42_begin_219 : decode cX42_begin 219 = .ok (.getfield 19, 3) := zdec_at bX42_begin_210 5 rfl
theorem dX42_begin_222 : decode cX42_begin 222 = .ok (.iload 4, 2) := zdec_at bX42_begin_210 6 rfl
theorem dX42_begin_224 : decode cX42_begin 224 = .ok (.iload_n 3, 1) := zdec_at bX42_begin_210 7 rfl
theorem dX42_begin_225 : decode cX42_begin 225 = .ok (.invokestatic 77, 3) := zdec_at bX42_begin_210 8 rfl
theorem dX42_begin_228 : decode cX42_begin 228 = .ok (.aload_n 2, 1) := zdec_at bX42_begin_210 9 rfl
theorem dX42_begin_229 : decode cX42_begin 229 = .ok (.getfield 109, 3) := zdec_at bX42_begin_210 10 rfl
theorem dX42_begin_232 : decode cX42_begin 232 = .ok (.iconst 0, 1) := zdec_at bX42_begin_210 11 rfl
theorem dX42_begin_233 : decode cX42_begin 233 = .ok (.aload_n 0, 1) := zdec_at bX42_begin_210 12 rfl
theorem dX42_begin_234 : decode cX42_begin 234 = .ok (.getfield 22, 3) := zdec_at bX42_begin_210 13 rfl
theorem dX42_begin_237 : decode cX42_begin 237 = .ok (.iload 5, 2) := zdec_at bX42_begin_210 14 rfl
theorem dX42_begin_239 : decode cX42_begin 239 = .ok (.aload_n 0, 1) := zdec_at bX42_begin_210 15 rfl
theorem bX42_begin_240 : zdec cX42_begin 240 [(240, .getfield 69, 3), (243, .getfield 91, 3), (246, .invokestatic 77, 3), (249, .aload_n 2, 1), (250, .getfield 110, 3), (253, .iconst 0, 1), (254, .aload_n 0, 1), (255, .getfield 25, 3), (258, .iload 5, 2), (260, .aload_n 0, 1), (261, .getfield 69, 3), (264, .getfield 91, 3), (267, .invokestatic 77, 3), (270, .aload_n 2, 1), (271, .getfield 111, 3), (274, .iconst 0, 1)] = true := by decide +kernel
theorem dX42_begin_240 : decode cX42_begin 240 = .ok (.getfield 69, 3) := zdec_at bX42_begin_240 0 rfl
theorem dX42_begin_243 : decode cX42_begin 243 = .ok (.getfield 91, 3) := zdec_at bX42_begin_240 1 rfl
theorem dX42_begin_246 : decode cX42_begin 246 = .ok (.invokestatic 77, 3) := zdec_at bX42_begin_240 2 rfl
theorem dX42_begin_249 : decode cX42_begin 249 = .ok (.aload_n 2, 1) := zdec_at bX42_begin_240 3 rfl
theorem dX42_begin_250 : decode cX42_begin 250 = .ok (.getfield 110, 3) := zdec_at bX42_begin_240 4 rfl
theorem dX42_begin_253 : decode cX42_begin 253 = .ok (.iconst 0, 1) := zdec_at bX42_begin_240 5 rfl
theorem dX42_begin_254 : decode cX42_begin 254 = .ok (.aload_n 0, 1) := zdec_at bX42_begin_240 6 rfl
theorem dX42_begin_255 : decode cX42_begin 255 = .ok (.getfield 25, 3) := zdec_at bX42_begin_240 7 rfl
theorem dX42_begin_258 : decode cX42_begin 258 = .ok (.iload 5, 2) := zdec_at bX42_begin_240 8 rfl
theorem dX42_begin_260 : decode cX42_begin 260 = .ok (.aload_n 0, 1) := zdec_at bX42_begin_240 9 rfl
theorem dX42_begin_261 : decode cX42_begin 261 = .ok (.getfield 69, 3) := zdec_at bX42_begin_240 10 rfl
theorem dX42_begin_264 : decode cX42_begin 264 = .ok (.getfield 91, 3) := zdec_at bX42_begin_240 11 rfl
theorem dX42_begin_267 : decode cX42_begin 267 = .ok (.invokestatic 77, 3) := zdec_at bX42_begin_240 12 rfl
theorem dX42_begin_270 : decode cX42_begin 270 = .ok (.aload_n 2, 1) := zdec_at bX42_begin_240 13 rfl
theorem dX42_begin_271 : decode cX42_begin 271 = .ok (.getfield 111, 3) := zdec_at bX42_begin_240 14 rfl
theorem dX42_begin_274 : decode cX42_begin 274 = .ok (.iconst 0, 1) := zdec_at bX42_begin_240 15 rfl
theorem bX42_begin_275 : zdec cX42_begin 275 [(275, .aload_n 0, 1), (276, .getfield 28, 3), (279, .iload 5, 2), (281, .aload_n 0, 1), (282, .getfield 69, 3), (285, .getfield 91, 3), (288, .invokestatic 77, 3), (291, .aload_n 2, 1), (292, .getfield 112, 3), (295, .iconst 0, 1), (296, .aload_n 0, 1), (297, .getfield 31, 3), (300, .iload 5, 2), (302, .aload_n 0, 1), (303, .getfield 69, 3), (306, .getfield 91, 3)] = true := by decide +kernel
theorem dX42_begin_275 : decode cX42_begin 275 = .ok (.aload_n 0, 1) := zdec_at bX42_begin_275 0 rfl
theorem dX42_begin_276 : decode cX42_begin 276 = .ok (.getfield 28, 3) := zdec_at bX42_begin_275 1 rfl
theorem dX42_begin_279 : decode cX42_begin 279 = .ok (.iload 5, 2) := zdec_at bX42_begin_275 2 rfl
theorem dX42_begin_281 : decode cX42_begin 281 = .ok (.aload_n 0, 1) := zdec_at bX42_begin_275 3 rfl
theorem dX42_begin_282 : decode cX42_begin 282 = .ok (.getfield 69, 3) := zdec_at bX42_begin_275 4 rfl
theorem dX42_begin_285 : decode cX42_begin 285 = .ok (.getfield 91, 3) := zdec_at bX42_begin_275 5 rfl
theorem dX42_begin_288 : decode cX42_begin 288 = .ok (.invokestatic 77, 3) := zdec_at bX42_begin_275 6 rfl
theorem dX42_begin_291 : decode cX42_begin 291 = .ok (.aload_n 2, 1) := zdec_at bX42_begin_275 7 rfl
theorem dX42_begin_292 : decode cX42_begin 292 = .ok (.getfield 112, 3) := zdec_at bX42_begin_275 8 rfl
theorem dX42_begin_295 : decode cX42_begin 295 = .ok (.iconst 0, 1) := zdec_at bX42_begin_275 9 rfl
theorem dX42_begin_296 : decode cX42_begin 296 = .ok (.aload_n 0, 1) := zdec_at bX42_begin_275 10 rfl
theorem dX42_begin_297 : decode cX42_begin 297 = .ok (.getfield 31, 3) := zdec_at bX42_begin_275 11 rfl
theorem dX42_begin_300 : decode cX42_begin 300 = .ok (.iload 5, 2) := zdec_at bX42_begin_275 12 rfl
theorem dX42_begin_302 : decode cX42_begin 302 = .ok (.aload_n 0, 1) := zdec_at bX42_begin_275 13 rfl
theorem dX42_begin_303 : decode cX42_begin 303 = .ok (.getfield 69, 3) := zdec_at bX42_begin_275 14 rfl
theorem dX42_begin_306 : decode cX42_begin 306 = .ok (.getfield 91, 3) := zdec_at bX42_begin_275 15 rfl
theorem bX42_begin_309 : zdec cX42_begin 309 [(309, .invokestatic 77, 3), (312, .iconst 0, 1), (313, .istore 6, 2), (315, .iload 6, 2), (317, .aload_n 0, 1), (318, .getfield 69, 3), (321, .getfield 91, 3), (324, .if_icmp .ge 27, 3), (327, .aload_n 0, 1), (328, .getfield 34, 3), (331, .iload 5, 2), (333, .iload 6, 2), (335, .iadd, 1), (336, .aload_n 0, 1), (337, .aload_n 2, 1), (338, .iload 6, 2)] = true := by decide +kernel
theorem dX42_begin_309 : decode cX42_begin 309 = .ok (.invokestatic 77, 3) := zdec_at bX42_begin_309 0 rfl
theorem dX42_begin_312 : decode cX42_begin 312 = .ok (.iconst 0, 1) := zdec_at bX42_begin_309 1 rfl
theorem dX42_begin_313 : decode cX42_begin 313 = .ok (.istore 6, 2) := zdec_at bX42_begin_309 2 rfl
theorem dX42_begin_315 : decode cX42_begin 315 = .ok (.iload 6, 2) := zdec_at bX42_begin_309 3 rfl
theorem dX42_begin_317 : decode cX42_begin 317 = .ok (.aload_n 0, 1) := zdec_at bX42_begin_309 4 rfl
theorem dX42_begin_318 : decode cX42_begin 318 = .ok (.getfield 69, 3) := zdec_at bX42_begin_309 5 rfl
theorem dX42_begin_321 : decode cX42_begin 321 = .ok (.getfield 91, 3) := zdec_at bX42_begin_309 6 rfl
theorem dX42_begin_324 : decode cX42_begin 324 = .ok (.if_icmp .ge 27, 3) := zdec_at bX42_begin_309 7 rfl
theorem dX42_begin_327 : decode cX42_begin 327 = .ok (.aload_n 0, 1) := zdec_at bX42_begin_309 8 rfl
theorem dX42_begin_328 : decode cX42_begin 328 = .ok (.getfield 34, 3) := zdec_at bX42_begin_309 9 rfl
theorem dX42_begin_331 : decode cX42_begin 331 = .ok (.iload 5, 2) := zdec_at bX42_begin_309 10 rfl
theorem dX42_begin_333 : decode cX42_begin 333 = .ok (.iload 6, 2) := zdec_at bX42_begin_309 11 rfl
theorem dX42_begin_335 : decode cX42_begin 335 = .ok (.iadd, 1) := zdec_at bX42_begin_309 12 rfl
theorem dX42_begin_336 : decode cX42_begin 336 = .ok (.aload_n 0, 1) := zdec_at bX42_begin_309 13 rfl
theorem dX42_begin_337 : decode cX42_begin 337 = .ok (.aload_n 2, 1) := zdec_at bX42_begin_309 14 rfl
theorem dX42_begin_338 : decode cX42_begin 338 = .ok (.iload 6, 2) := zdec_at bX42_begin_309 15 rfl
theorem bX42_begin_340 : zdec cX42_begin 340 [(340, .invokevirtual 113, 3), (343, .i2b, 1), (344, .bastore, 1), (345, .iinc 6 1, 3), (348, .goto (-33), 3), (351, .aload_n 0, 1), (352, .getfield 45, 3), (355, .iload_n 1, 1), (356, .aload_n 2, 1), (357, .getfield 120, 3), (360, .lastore, 1), (361, .aload_n 0, 1), (362, .getfield 48, 3), (365, .iload_n 1, 1), (366, .aload_n 2, 1), (367, .getfield 123, 3)] = true := by decide +kernel
theorem dX42_begin_340 : decode cX42_begin 340 = .ok (.invokevirtual 113, 3) := zdec_at bX42_begin_340 0 rfl
theorem dX42_begin_343 : decode cX42_begin 343 = .ok (.i2b, 1) := zdec_at bX42_begin_340 1 rfl
theorem dX42_begin_344 : decode cX42_begin 344 = .ok (.bastore, 1) := zdec_at bX42_begin_340 2 rfl
theorem dX42_begin_345 : decode cX42_begin 345 = .ok (.iinc 6 1, 3) := zdec_at bX42_begin_340 3 rfl
theorem dX42_begin_348 : decode cX42_begin 348 = .ok (.goto (-33), 3) := zdec_at bX42_begin_340 4 rfl
theorem dX42_begin_351 : decode cX42_begin 351 = .ok (.aload_n 0, 1) := zdec_at bX42_begin_340 5 rfl
theorem dX42_begin_352 : decode cX42_begin 352 = .ok (.getfield 45, 3) := zdec_at bX42_begin_340 6 rfl
theorem dX42_begin_355 : decode cX42_begin 355 = .ok (.iload_n 1, 1) := zdec_at bX42_begin_340 7 rfl
theorem dX42_begin_356 : decode cX42_begin 356 = .ok (.aload_n 2, 1) := zdec_at bX42_begin_340 8 rfl
theorem dX42_begin_357 : decode cX42_begin 357 = .ok (.getfield 120, 3) := zdec_at bX42_begin_340 9 rfl
theorem dX42_begin_360 : decode cX42_begin 360 = .ok (.lastore, 1) := zdec_at bX42_begin_340 10 rfl
theorem dX42_begin_361 : decode cX42_begin 361 = .ok (.aload_n 0, 1) := zdec_at bX42_begin_340 11 rfl
theorem dX42_begin_362 : decode cX42_begin 362 = .ok (.getfield 48, 3) := zdec_at bX42_begin_340 12 rfl
theorem dX42_begin_365 : decode cX42_begin 365 = .ok (.iload_n 1, 1) := zdec_at bX42_begin_340 13 rfl
theorem dX42_begin_366 : decode cX42_begin 366 = .ok (.aload_n 2, 1) := zdec_at bX42_begin_340 14 rfl
theorem dX42_begin_367 : decode cX42_begin 367 = .ok (.getfield 123, 3) := zdec_at bX42_begin_340 15 rfl
theorem bX42_begin_370 : zdec cX42_begin 370 [(370, .lastore, 1), (371, .aload_n 0, 1), (372, .getfield 51, 3), (375, .iload_n 1, 1), (376, .aload_n 2, 1), (377, .getfield 125, 3), (380, .lastore, 1), (381, .aload_n 0, 1), (382, .getfield 54, 3), (385, .iload_n 1, 1), (386, .aload_n 2, 1), (387, .getfield 127, 3), (390, .lastore, 1), (391, .aload_n 0, 1), (392, .getfield 57, 3), (395, .iload_n 1, 1)] = true := by decide +kernel
theorem dX42_begin_370 : decode cX42_begin 370 = .ok (.lastore, 1) := zdec_at bX42_begin_370 0 rfl
theorem dX42_begin_371 : decode cX42_begin 371 = .ok (.aload_n 0, 1) := zdec_at bX42_begin_370 1 rfl
theorem dX42_begin_372 : decode cX42_begin 372 = .ok (.getfield 51, 3) := zdec_at bX42_begin_370 2 rfl
theorem dX42_begin_375 : decode cX42_begin 375 = .ok (.iload_n 1, 1) := zdec_at bX42_begin_370 3 rfl
theorem dX42_begin_376 : decode cX42_begin 376 = .ok (.aload_n 2, 1) := zdec_at bX42_begin_370 4 rfl
theorem dX42_begin_377 : decode cX42_begin 377 = .ok (.getfield 125, 3) := zdec_at bX42_begin_370 5 rfl
theorem dX42_begin_380 : decode cX42_begin 380 = .ok (.lastore, 1) := zdec_at bX42_begin_370 6 rfl
theorem dX42_begin_381 : decode cX42_begin 381 = .ok (.aload_n 0, 1) := zdec_at bX42_begin_370 7 rfl
theorem dX42_begin_382 : decode cX42_begin 382 = .ok (.getfield 54, 3) := zdec_at bX42_begin_370 8 rfl
theorem dX42_begin_385 : decode cX42_begin 385 = .ok (.iload_n 1, 1) := zdec_at bX42_begin_370 9 rfl
theorem dX42_begin_386 : decode cX42_begin 386 = .ok (.aload_n 2, 1) := zdec_at bX42_begin_370 10 rfl
theorem dX42_begin_387 : decode cX42_begin 387 = .ok (.getfield 127, 3) := zdec_at bX42_begin_370 11 rfl
theorem dX42_begin_390 : decode cX42_begin 390 = .ok (.lastore, 1) := zdec_at bX42_begin_370 12 rfl
theorem dX42_begin_391 : decode cX42_begin 391 = .ok (.aload_n 0, 1) := zdec_at bX42_begin_370 13 rfl
theorem dX42_begin_392 : decode cX42_begin 392 = .ok (.getfield 57, 3) := zdec_at bX42_begin_370 14 rfl
theorem dX42_begin_395 : decode cX42_begin 395 = .ok (.iload_n 1, 1) := zdec_at bX42_begin_370 15 rfl
theorem bX42_begin_396 : zdec cX42_begin 396 [(396, .aload_n 2, 1), (397, .getfield 129, 3), (400, .lastore, 1), (401, .return_, 1)] = true := by decide +kernel
theorem dX42_begin_396 : decode cX42_begin 396 = .ok (.aload_n 2, 1) := zdec_at bX42_begin_396 0 rfl
theorem dX42_begin_397 : decode cX42_begin 397 = .ok (.getfield 129, 3) := zdec_at bX42_begin_396 1 rfl
theorem dX42_begin_400 : decode cX42_begin 400 = .ok (.lastore, 1) := zdec_at bX42_begin_396 2 rfl
theorem dX42_begin_401 : decode cX42_begin 401 = .ok (.return_, 1) := zdec_at bX42_begin_396 3 rfl
theorem sX42_begin_0 {E : zE} {d : Nat} {Q : zO → zM → Prop} (M : zM) (a0 : Nat) (l1 : Int32) (r2 : Option zP) (k : ∃ b1 : Nat, (gr M a0 0) = some (b1, 0, 0) ∧ (∃ b2 : Nat, (gr M a0 0) = some (b2, 0, 0) ∧ (∃ b3 : Nat, (gr M a0 0) = some (b3, 0, 0) ∧ (∃ b4 : Nat, r2 = some (b4, 7, 0) ∧ (∃ b5 m5 : Nat, (gr M a0 9) = some (b5, 100, m5) ∧ (16 ≤ b5 ∧ (vp_in l1 m5 ∧ (∃ b6 m6 : Nat, (gr M a0 10) = some (b6, 100, m6) ∧ (16 ≤ b6 ∧ (vp_in l1 m6 ∧ (Z E YX42_begin (d + 1) (si (si M b5 (l1).toNatClampNeg (gi M b4 13)) b6 (l1).toNatClampNeg (gi (si M b5 (l1).toNatClampNeg (gi M b4 13)) a0 19)) [(0, vr (some (a0, 6, 0))), (1, vi l1), (2, vr (some (b4, 7, 0))), (3, vi ((gi M b1 11) * ((gi M b2 1) + (1 : Int32)))), (4, vi (l1 * ((gi M b1 11) * ((gi M b2 1) + (1 : Int32))))), (5, vi (l1 * (gi M b3 11)))] 54 [] Q))))))))))) : Z E YX42_begin (d + 1) M [(0, vr (some (a0, 6, 0))), (1, vi l1), (2, vr r2)] 0 [] Q := by
  refine z_aload_n dX42_begin_0 rfl rfl ?_
  refine z_getr (r := (gr M a0 0)) dX42_begin_1 fsX42_69_6 rfl ?_
  obtain ⟨b1, e1_, k⟩ := k
  refine Z.eqs (lv' := [(0, vr (some (a0, 6, 0))), (1, vi l1), (2, vr r2)]) (st' := [vr (some (b1, 0, 0))]) rfl (by rw [e1_] <;> rfl) ?_
  refine z_geti dX42_begin_4 fsX42_91_0 ?_
  refine z_aload_n dX42_begin_7 rfl rfl ?_
  refine z_getr (r := (gr M a0 0)) dX42_begin_8 fsX42_69_6 rfl ?_
  obtain ⟨b2, e2_, k⟩ := k
  refine Z.eqs (lv' := [(0, vr (some (a0, 6, 0))), (1, vi l1), (2, vr r2)]) (st' := [vr (some (b2, 0, 0)), vi (gi M b1 11)]) rfl (by rw [e2_] <;> rfl) ?_
  refine z_geti dX42_begin_11 fsX42_94_0 ?_
  refine z_iconst (v := 1) dX42_begin_14 rfl ?_
  refine z_iadd dX42_begin_15 ?_
  refine z_imul dX42_begin_16 ?_
  refine z_ist_n dX42_begin_17 rfl (by decide) (lv' := [(0, vr (some (a0, 6, 0))), (1, vi l1), (2, vr r2), (3, vi ((gi M b1 11) * ((gi M b2 1) + (1 : Int32))))]) rfl ?_
  refine z_iload_n dX42_begin_18 rfl rfl ?_
  refine z_iload_n dX42_begin_19 rfl rfl ?_
  refine z_imul dX42_begin_20 ?_
  refine z_ist dX42_begin_21 (by decide) (lv' := [(0, vr (some (a0, 6, 0))), (1, vi l1), (2, vr r2), (3, vi ((gi M b1 11) * ((gi M b2 1) + (1 : Int32)))), (4, vi (l1 * ((gi M b1 11) * ((gi M b2 1) + (1 : Int32)))))]) rfl ?_
  refine z_iload_n dX42_begin_23 rfl rfl ?_
  refine z_aload_n dX42_begin_24 rfl rfl ?_
  refine z_getr (r := (gr M a0 0)) dX42_begin_25 fsX42_69_6 rfl ?_
  obtain ⟨b3, e3_, k⟩ := k
  refine Z.eqs (lv' := [(0, vr (some (a0, 6, 0))), (1, vi l1), (2, vr r2), (3, vi ((gi M b1 11) * ((gi M b2 1) + (1 : Int32)))), (4, vi (l1 * ((gi M b1 11) * ((gi M b2 1) + (1 : Int32)))))]) (st' := [vr (some (b3, 0, 0)), vi l1]) rfl (by rw [e3_] <;> rfl) ?_
  refine z_geti dX42_begin_28 fsX42_91_0 ?_
  refine z_imul dX42_begin_31 ?_
  refine z_ist dX42_begin_32 (by decide) (lv' := [(0, vr (some (a0, 6, 0))), (1, vi l1), (2, vr r2), (3, vi ((gi M b1 11) * ((gi M b2 1) + (1 : Int32)))), (4, vi (l1 * ((gi M b1 11) * ((gi M b2 1) + (1 : Int32))))), (5, vi (l1 * (gi M b3 11)))]) rfl ?_
  refine z_aload_n dX42_begin_34 rfl rfl ?_
  refine z_getr (r := (gr M a0 9)) dX42_begin_35 fsX42_38_6 rfl ?_
  refine z_iload_n dX42_begin_38 rfl rfl ?_
  refine z_aload_n dX42_begin_39 rfl rfl ?_
  obtain ⟨b4, e4_, k⟩ := k
  refine Z.eqs (lv' := [(0, vr (some (a0, 6, 0))), (1, vi l1), (2, vr (some (b4, 7, 0))), (3, vi ((gi M b1 11) * ((gi M b2 1) + (1 : Int32)))), (4, vi (l1 * ((gi M b1 11) * ((gi M b2 1) + (1 : Int32))))), (5, vi (l1 * (gi M b3 11)))]) (st' := [vr (some (b4, 7, 0)), vi l1, vr (gr M a0 9)]) (by rw [e4_] <;> rfl) (by rw [e4_] <;> rfl) ?_
  refine z_geti dX42_begin_40 fsX42_138_7 ?_
  obtain ⟨b5, m5, e5_, k⟩ := k
  refine Z.eqs (lv' := [(0, vr (some (a0, 6, 0))), (1, vi l1), (2, vr (some (b4, 7, 0))), (3, vi ((gi M b1 11) * ((gi M b2 1) + (1 : Int32)))), (4, vi (l1 * ((gi M b1 11) * ((gi M b2 1) + (1 : Int32))))), (5, vi (l1 * (gi M b3 11)))]) (st' := [vi (gi M b4 13), vi l1, vr (some (b5, 100, m5))]) rfl (by rw [e5_] <;> rfl) ?_
  obtain ⟨g_, k⟩ := k
  obtain ⟨b_, k⟩ := k
  refine z_iast g_ dX42_begin_43 b_ ?_
  refine z_aload_n dX42_begin_44 rfl rfl ?_
  refine z_getr (r := (gr M a0 10)) dX42_begin_45 fsX42_42_6 rfl ?_
  refine z_iload_n dX42_begin_48 rfl rfl ?_
  refine z_aload_n dX42_begin_49 rfl rfl ?_
  refine z_geti dX42_begin_50 fsX42_73_6 ?_
  obtain ⟨b6, m6, e6_, k⟩ := k
  refine Z.eqs (lv' := [(0, vr (some (a0, 6, 0))), (1, vi l1), (2, vr (some (b4, 7, 0))), (3, vi ((gi M b1 11) * ((gi M b2 1) + (1 : Int32)))), (4, vi (l1 * ((gi M b1 11) * ((gi M b2 1) + (1 : Int32))))), (5, vi (l1 * (gi M b3 11)))]) (st' := [vi (gi (si M b5 (l1).toNatClampNeg (gi M b4 13)) a0 19), vi l1, vr (some (b6, 100, m6))]) rfl (by rw [e6_] <;> rfl) ?_
  obtain ⟨g_, k⟩ := k
  obtain ⟨b_, k⟩ := k
  refine z_iast g_ dX42_begin_53 b_ ?_
  exact k
theorem sX42_begin_54 {E : zE} {d : Nat} {Q : zO → zM → Prop} (M : zM) (a0 : Nat) (l1 : Int32) (a2 : Nat) (l3 : Int32) (l4 : Int32) (l5 : Int32) (k : ∃ b1 m1 : Nat, (gr M a0 16) = some (b1, 105, m1) ∧ (if ((gi M a0 19) + (gi M a2 13)) ≤ (Int32.ofNat m1) then (∃ b2 m2 : Nat, (gr M a0 16) = some (b2, 105, m2) ∧ (∃ b3 m3 : Nat, (gr M a2 10) = some (b3, 105, m3) ∧ (16 ≤ b2 ∧ ((1 ≤ (d + 1)) ∧ (((¬ (0 : Int32) < 0 ∧ ¬ (gi M a0 19) < 0 ∧ ¬ (gi M a2 13) < 0) ∧ ((0 : Int32)).toNatClampNeg + ((gi M a2 13)).toNatClampNeg ≤ m3 ∧ ((gi M a0 19)).toNatClampNeg + ((gi M a2 13)).toNatClampNeg ≤ m2) ∧ (Z E YX42_begin (d + 1) (cpl M b3 ((0 : Int32)).toNatClampNeg b2 ((gi M a0 19)).toNatClampNeg ((gi M a2 13)).toNatClampNeg) [(0, vr (some (a0, 6, 0))), (1, vi l1), (2, vr (some (a2, 7, 0))), (3, vi l3), (4, vi l4), (5, vi l5)] 130 [] Q)))))) else (Z E YX42_grown d M (zargs 0 [vr (some (a0, 6, 0)), vr (gr M a0 16)]) 0 [] (zafter E YX42_begin (d + 1) [(0, vr (some (a0, 6, 0))), (1, vi l1), (2, vr (some (a2, 7, 0))), (3, vi l3), (4, vi l4), (5, vi l5)] 77 3 [vr (some (a0, 6, 0))] Q)))) : Z E YX42_begin (d + 1) M [(0, vr (some (a0, 6, 0))), (1, vi l1), (2, vr (some (a2, 7, 0))), (3, vi l3), (4, vi l4), (5, vi l5)] 54 [] Q := by
  refine z_aload_n dX42_begin_54 rfl rfl ?_
  refine z_geti dX42_begin_55 fsX42_73_6 ?_
  refine z_aload_n dX42_begin_58 rfl rfl ?_
  refine z_geti dX42_begin_59 fsX42_138_7 ?_
  refine z_iadd dX42_begin_62 ?_
  refine z_aload_n dX42_begin_63 rfl rfl ?_
  refine z_getr (r := (gr M a0 16)) dX42_begin_64 fsX42_60_6 rfl ?_
  obtain ⟨b1, m1, e1_, k⟩ := k
  refine Z.eqs (lv' := [(0, vr (some (a0, 6, 0))), (1, vi l1), (2, vr (some (a2, 7, 0))), (3, vi l3), (4, vi l4), (5, vi l5)]) (st' := [vr (some (b1, 105, m1)), vi ((gi M a0 19) + (gi M a2 13))]) rfl (by rw [e1_] <;> rfl) ?_
  refine z_alen (q := 5) (v := Int32.ofNat m1) dX42_begin_67 rfl ?_
  refine z_icmp_le (tgt := 110) dX42_begin_68 rfl (fun h_ => ?_) (fun h_ => ?_)
  · have k := zit h_ k
    refine z_aload_n dX42_begin_110 rfl rfl ?_
    refine z_getr (r := (gr M a2 10)) dX42_begin_111 fsX42_117_7 rfl ?_
    refine z_iconst (v := 0) dX42_begin_114 rfl ?_
    refine z_aload_n dX42_begin_115 rfl rfl ?_
    refine z_getr (r := (gr M a0 16)) dX42_begin_116 fsX42_60_6 rfl ?_
    refine z_aload_n dX42_begin_119 rfl rfl ?_
    refine z_geti dX42_begin_120 fsX42_73_6 ?_
    refine z_aload_n dX42_begin_123 rfl rfl ?_
    refine z_geti dX42_begin_124 fsX42_138_7 ?_
    obtain ⟨b2, m2, e2_, k⟩ := k
    refine Z.eqs (lv' := [(0, vr (some (a0, 6, 0))), (1, vi l1), (2, vr (some (a2, 7, 0))), (3, vi l3), (4, vi l4), (5, vi l5)]) (st' := [vi (gi M a2 13), vi (gi M a0 19), vr (some (b2, 105, m2)), vi (0 : Int32), vr (gr M a2 10)]) rfl (by rw [e2_] <;> rfl) ?_
    obtain ⟨b3, m3, e3_, k⟩ := k
    refine Z.eqs (lv' := [(0, vr (some (a0, 6, 0))), (1, vi l1), (2, vr (some (a2, 7, 0))), (3, vi l3), (4, vi l4), (5, vi l5)]) (st' := [vi (gi M a2 13), vi (gi M a0 19), vr (some (b2, 105, m2)), vi (0 : Int32), vr (some (b3, 105, m3))]) rfl (by rw [e3_] <;> rfl) ?_
    obtain ⟨g_, k⟩ := k
    obtain ⟨d_, k⟩ := k
    obtain ⟨b_, k⟩ := k
    refine z_copyl g_ dX42_begin_127 q3135 d_ (Nat.le_of_ble_eq_true rfl) b_.1.1 b_.1.2.1 b_.1.2.2 b_.2.1 b_.2.2 ?_
    exact k
  · have k := zif h_ k
    refine z_aload_n dX42_begin_71 rfl rfl ?_
    refine z_aload_n dX42_begin_72 rfl rfl ?_
    refine z_aload_n dX42_begin_73 rfl rfl ?_
    refine z_getr (r := (gr M a0 16)) dX42_begin_74 fsX42_60_6 rfl ?_
    exact z_callV (as := [vr (gr M a0 16)]) (st := [vr (some (a0, 6, 0))]) dX42_begin_77 vsX42_141_6 (Nat.le_refl _) (Nat.le_of_ble_eq_true rfl) (Nat.le_of_ble_eq_true rfl) rfl k
theorem sX42_begin_80 {E : zE} {d : Nat} {Q : zO → zM → Prop} (M : zM) (a0 : Nat) (l1 : Int32) (a2 : Nat) (l3 : Int32) (l4 : Int32) (l5 : Int32) (u0 : Option zP) (k : 16 ≤ a0 ∧ (Z E YX42_grown d (sr M a0 16 u0) (zargs 0 [vr (some (a0, 6, 0)), vr (gr (sr M a0 16 u0) a0 17)]) 0 [] (zafter E YX42_begin (d + 1) [(0, vr (some (a0, 6, 0))), (1, vi l1), (2, vr (some (a2, 7, 0))), (3, vi l3), (4, vi l4), (5, vi l5)] 89 3 [vr (some (a0, 6, 0))] Q))) : Z E YX42_begin (d + 1) M [(0, vr (some (a0, 6, 0))), (1, vi l1), (2, vr (some (a2, 7, 0))), (3, vi l3), (4, vi l4), (5, vi l5)] 80 [vr u0, vr (some (a0, 6, 0))] Q := by
  obtain ⟨g_, k⟩ := k
  refine z_putr g_ dX42_begin_80 (zfwN.w fwX42_60_6) rfl ?_
  refine z_aload_n dX42_begin_83 rfl rfl ?_
  refine z_aload_n dX42_begin_84 rfl rfl ?_
  refine z_aload_n dX42_begin_85 rfl rfl ?_
  refine z_getr (r := (gr (sr M a0 16 u0) a0 17)) dX42_begin_86 fsX42_63_6 rfl ?_
  exact z_callV (as := [vr (gr (sr M a0 16 u0) a0 17)]) (st := [vr (some (a0, 6, 0))]) dX42_begin_89 vsX42_141_6 (Nat.le_refl _) (Nat.le_of_ble_eq_true rfl) (Nat.le_of_ble_eq_true rfl) rfl k
theorem sX42_begin_92 {E : zE} {d : Nat} {Q : zO → zM → Prop} (M : zM) (a0 : Nat) (l1 : Int32) (a2 : Nat) (l3 : Int32) (l4 : Int32) (l5 : Int32) (u0 : Option zP) (k : 16 ≤ a0 ∧ (Z E YX42_grown d (sr M a0 17 u0) (zargs 0 [vr (some (a0, 6, 0)), vr (gr (sr M a0 17 u0) a0 18)]) 0 [] (zafter E YX42_begin (d + 1) [(0, vr (some (a0, 6, 0))), (1, vi l1), (2, vr (some (a2, 7, 0))), (3, vi l3), (4, vi l4), (5, vi l5)] 101 3 [vr (some (a0, 6, 0))] Q))) : Z E YX42_begin (d + 1) M [(0, vr (some (a0, 6, 0))), (1, vi l1), (2, vr (some (a2, 7, 0))), (3, vi l3), (4, vi l4), (5, vi l5)] 92 [vr u0, vr (some (a0, 6, 0))] Q := by
  obtain ⟨g_, k⟩ := k
  refine z_putr g_ dX42_begin_92 (zfwN.w fwX42_63_6) rfl ?_
  refine z_aload_n dX42_begin_95 rfl rfl ?_
  refine z_aload_n dX42_begin_96 rfl rfl ?_
  refine z_aload_n dX42_begin_97 rfl rfl ?_
  refine z_getr (r := (gr (sr M a0 17 u0) a0 18)) dX42_begin_98 fsX42_66_6 rfl ?_
  exact z_callV (as := [vr (gr (sr M a0 17 u0) a0 18)]) (st := [vr (some (a0, 6, 0))]) dX42_begin_101 vsX42_141_6 (Nat.le_refl _) (Nat.le_of_ble_eq_true rfl) (Nat.le_of_ble_eq_true rfl) rfl k
theorem sX42_begin_104 {E : zE} {d : Nat} {Q : zO → zM → Prop} (M : zM) (a0 : Nat) (l1 : Int32) (a2 : Nat) (l3 : Int32) (l4 : Int32) (l5 : Int32) (u0 : Option zP) (k : 16 ≤ a0 ∧ (Z E YX42_begin (d + 1) (sr M a0 18 u0) [(0, vr (some (a0, 6, 0))), (1, vi l1), (2, vr (some (a2, 7, 0))), (3, vi l3), (4, vi l4), (5, vi l5)] 54 [] Q)) : Z E YX42_begin (d + 1) M [(0, vr (some (a0, 6, 0))), (1, vi l1), (2, vr (some (a2, 7, 0))), (3, vi l3), (4, vi l4), (5, vi l5)] 104 [vr u0, vr (some (a0, 6, 0))] Q := by
  obtain ⟨g_, k⟩ := k
  refine z_putr g_ dX42_begin_104 (zfwN.w fwX42_66_6) rfl ?_
  refine z_goto (tgt := 54) dX42_begin_107 rfl ?_
  exact k
theorem sX42_begin_130 {E : zE} {d : Nat} {Q : zO → zM → Prop} (M : zM) (a0 : Nat) (l1 : Int32) (a2 : Nat) (l3 : Int32) (l4 : Int32) (l5 : Int32) (k : ∃ b1 m1 : Nat, (gr M a0 17) = some (b1, 105, m1) ∧ (∃ b2 m2 : Nat, (gr M a2 11) = some (b2, 105, m2) ∧ (16 ≤ b1 ∧ ((1 ≤ (d + 1)) ∧ (((¬ (0 : Int32) < 0 ∧ ¬ (gi M a0 19) < 0 ∧ ¬ (gi M a2 13) < 0) ∧ ((0 : Int32)).toNatClampNeg + ((gi M a2 13)).toNatClampNeg ≤ m2 ∧ ((gi M a0 19)).toNatClampNeg + ((gi M a2 13)).toNatClampNeg ≤ m1) ∧ (Z E YX42_begin (d + 1) (cpl M b2 ((0 : Int32)).toNatClampNeg b1 ((gi M a0 19)).toNatClampNeg ((gi M a2 13)).toNatClampNeg) [(0, vr (some (a0, 6, 0))), (1, vi l1), (2, vr (some (a2, 7, 0))), (3, vi l3), (4, vi l4), (5, vi l5)] 150 [] Q)))))) : Z E YX42_begin (d + 1) M [(0, vr (some (a0, 6, 0))), (1, vi l1), (2, vr (some (a2, 7, 0))), (3, vi l3), (4, vi l4), (5, vi l5)] 130 [] Q := by
  refine z_aload_n dX42_begin_130 rfl rfl ?_
  refine z_getr (r := (gr M a2 11)) dX42_begin_131 fsX42_118_7 rfl ?_
  refine z_iconst (v := 0) dX42_begin_134 rfl ?_
  refine z_aload_n dX42_begin_135 rfl rfl ?_
  refine z_getr (r := (gr M a0 17)) dX42_begin_136 fsX42_63_6 rfl ?_
  refine z_aload_n dX42_begin_139 rfl rfl ?_
  refine z_geti dX42_begin_140 fsX42_73_6 ?_
  refine z_aload_n dX42_begin_143 rfl rfl ?_
  refine z_geti dX42_begin_144 fsX42_138_7 ?_
  obtain ⟨b1, m1, e1_, k⟩ := k
  refine Z.eqs (lv' := [(0, vr (some (a0, 6, 0))), (1, vi l1), (2, vr (some (a2, 7, 0))), (3, vi l3), (4, vi l4), (5, vi l5)]) (st' := [vi (gi M a2 13), vi (gi M a0 19), vr (some (b1, 105, m1)), vi (0 : Int32), vr (gr M a2 11)]) rfl (by rw [e1_] <;> rfl) ?_
  obtain ⟨b2, m2, e2_, k⟩ := k
  refine Z.eqs (lv' := [(0, vr (some (a0, 6, 0))), (1, vi l1), (2, vr (some (a2, 7, 0))), (3, vi l3), (4, vi l4), (5, vi l5)]) (st' := [vi (gi M a2 13), vi (gi M a0 19), vr (some (b1, 105, m1)), vi (0 : Int32), vr (some (b2, 105, m2))]) rfl (by rw [e2_] <;> rfl) ?_
  obtain ⟨g_, k⟩ := k
  obtain ⟨d_, k⟩ := k
  obtain ⟨b_, k⟩ := k
  refine z_copyl g_ dX42_begin_147 q3135 d_ (Nat.le_of_ble_eq_true rfl) b_.1.1 b_.1.2.1 b_.1.2.2 b_.2.1 b_.2.2 ?_
  exact k
theorem sX42_begin_150 {E : zE} {d : Nat} {Q : zO → zM → Prop} (M : zM) (a0 : Nat) (l1 : Int32) (a2 : Nat) (l3 : Int32) (l4 : Int32) (l5 : Int32) (k : ∃ b1 m1 : Nat, (gr M a0 18) = some (b1, 105, m1) ∧ (∃ b2 m2 : Nat, (gr M a2 12) = some (b2, 105, m2) ∧ (16 ≤ b1 ∧ ((1 ≤ (d + 1)) ∧ (((¬ (0 : Int32) < 0 ∧ ¬ (gi M a0 19) < 0 ∧ ¬ (gi M a2 13) < 0) ∧ ((0 : Int32)).toNatClampNeg + ((gi M a2 13)).toNatClampNeg ≤ m2 ∧ ((gi M a0 19)).toNatClampNeg + ((gi M a2 13)).toNatClampNeg ≤ m1) ∧ (Z E YX42_begin (d + 1) (cpl M b2 ((0 : Int32)).toNatClampNeg b1 ((gi M a0 19)).toNatClampNeg ((gi M a2 13)).toNatClampNeg) [(0, vr (some (a0, 6, 0))), (1, vi l1), (2, vr (some (a2, 7, 0))), (3, vi l3), (4, vi l4), (5, vi l5)] 170 [] Q)))))) : Z E YX42_begin (d + 1) M [(0, vr (some (a0, 6, 0))), (1, vi l1), (2, vr (some (a2, 7, 0))), (3, vi l3), (4, vi l4), (5, vi l5)] 150 [] Q := by
  refine z_aload_n dX42_begin_150 rfl rfl ?_
  refine z_getr (r := (gr M a2 12)) dX42_begin_151 fsX42_119_7 rfl ?_
  refine z_iconst (v := 0) dX42_begin_154 rfl ?_
  refine z_aload_n dX42_begin_155 rfl rfl ?_
  refine z_getr (r := (gr M a0 18)) dX42_begin_156 fsX42_66_6 rfl ?_
  refine z_aload_n dX42_begin_159 rfl rfl ?_
  refine z_geti dX42_begin_160 fsX42_73_6 ?_
  refine z_aload_n dX42_begin_163 rfl rfl ?_
  refine z_geti dX42_begin_164 fsX42_138_7 ?_
  obtain ⟨b1, m1, e1_, k⟩ := k
  refine Z.eqs (lv' := [(0, vr (some (a0, 6, 0))), (1, vi l1), (2, vr (some (a2, 7, 0))), (3, vi l3), (4, vi l4), (5, vi l5)]) (st' := [vi (gi M a2 13), vi (gi M a0 19), vr (some (b1, 105, m1)), vi (0 : Int32), vr (gr M a2 12)]) rfl (by rw [e1_] <;> rfl) ?_
  obtain ⟨b2, m2, e2_, k⟩ := k
  refine Z.eqs (lv' := [(0, vr (some (a0, 6, 0))), (1, vi l1), (2, vr (some (a2, 7, 0))), (3, vi l3), (4, vi l4), (5, vi l5)]) (st' := [vi (gi M a2 13), vi (gi M a0 19), vr (some (b1, 105, m1)), vi (0 : Int32), vr (some (b2, 105, m2))]) rfl (by rw [e2_] <;> rfl) ?_
  obtain ⟨g_, k⟩ := k
  obtain ⟨d_, k⟩ := k
  obtain ⟨b_, k⟩ := k
  refine z_copyl g_ dX42_begin_167 q3135 d_ (Nat.le_of_ble_eq_true rfl) b_.1.1 b_.1.2.1 b_.1.2.2 b_.2.1 b_.2.2 ?_
  exact k
theorem sX42_begin_170 {E : zE} {d : Nat} {Q : zO → zM → Prop} (M : zM) (a0 : Nat) (l1 : Int32) (a2 : Nat) (l3 : Int32) (l4 : Int32) (l5 : Int32) (k : 16 ≤ a0 ∧ (∃ b1 m1 : Nat, (gr M a0 1) = some (b1, 105, m1) ∧ (∃ b2 m2 : Nat, (gr M a2 1) = some (b2, 105, m2) ∧ (16 ≤ b1 ∧ ((1 ≤ (d + 1)) ∧ (((¬ (0 : Int32) < 0 ∧ ¬ l4 < 0 ∧ ¬ l3 < 0) ∧ ((0 : Int32)).toNatClampNeg + (l3).toNatClampNeg ≤ m2 ∧ (l4).toNatClampNeg + (l3).toNatClampNeg ≤ m1) ∧ (Z E YX42_begin (d + 1) (cpl (si M a0 19 ((gi M a0 19) + (gi M a2 13))) b2 ((0 : Int32)).toNatClampNeg b1 (l4).toNatClampNeg (l3).toNatClampNeg) [(0, vr (some (a0, 6, 0))), (1, vi l1), (2, vr (some (a2, 7, 0))), (3, vi l3), (4, vi l4), (5, vi l5)] 198 [] Q))))))) : Z E YX42_begin (d + 1) M [(0, vr (some (a0, 6, 0))), (1, vi l1), (2, vr (some (a2, 7, 0))), (3, vi l3), (4, vi l4), (5, vi l5)] 170 [] Q := by
  refine z_aload_n dX42_begin_170 rfl rfl ?_
  refine z_dup dX42_begin_171 rfl ?_
  refine z_geti dX42_begin_172 fsX42_73_6 ?_
  refine z_aload_n dX42_begin_175 rfl rfl ?_
  refine z_geti dX42_begin_176 fsX42_138_7 ?_
  refine z_iadd dX42_begin_179 ?_
  obtain ⟨g_, k⟩ := k
  refine z_puti g_ dX42_begin_180 (zfwN.w fwX42_73_6) rfl ⟨rfl, rfl⟩ ?_
  refine z_aload_n dX42_begin_183 rfl rfl ?_
  refine z_getr (r := (gr M a2 1)) dX42_begin_184 fsX42_97_7 rfl ?_
  refine z_iconst (v := 0) dX42_begin_187 rfl ?_
  refine z_aload_n dX42_begin_188 rfl rfl ?_
  refine z_getr (r := (gr M a0 1)) dX42_begin_189 fsX42_10_6 rfl ?_
  refine z_iload dX42_begin_192 rfl ?_
  refine z_iload_n dX42_begin_194 rfl rfl ?_
  obtain ⟨b1, m1, e1_, k⟩ := k
  refine Z.eqs (lv' := [(0, vr (some (a0, 6, 0))), (1, vi l1), (2, vr (some (a2, 7, 0))), (3, vi l3), (4, vi l4), (5, vi l5)]) (st' := [vi l3, vi l4, vr (some (b1, 105, m1)), vi (0 : Int32), vr (gr M a2 1)]) rfl (by rw [e1_] <;> rfl) ?_
  obtain ⟨b2, m2, e2_, k⟩ := k
  refine Z.eqs (lv' := [(0, vr (some (a0, 6, 0))), (1, vi l1), (2, vr (some (a2, 7, 0))), (3, vi l3), (4, vi l4), (5, vi l5)]) (st' := [vi l3, vi l4, vr (some (b1, 105, m1)), vi (0 : Int32), vr (some (b2, 105, m2))]) rfl (by rw [e2_] <;> rfl) ?_
  obtain ⟨g_, k⟩ := k
  obtain ⟨d_, k⟩ := k
  obtain ⟨b_, k⟩ := k
  refine z_copyl g_ dX42_begin_195 q3135 d_ (Nat.le_of_ble_eq_true rfl) b_.1.1 b_.1.2.1 b_.1.2.2 b_.2.1 b_.2.2 ?_
  exact k
theorem sX42_begin_198 {E : zE} {d : Nat} {Q : zO → zM → Prop} (M : zM) (a0 : Nat) (l1 : Int32) (a2 : Nat) (l3 : Int32) (l4 : Int32) (l5 : Int32) (k : ∃ b1 m1 : Nat, (gr M a0 2) = some (b1, 105, m1) ∧ (∃ b2 m2 : Nat, (gr M a2 2) = some (b2, 105, m2) ∧ (16 ≤ b1 ∧ ((1 ≤ (d + 1)) ∧ (((¬ (0 : Int32) < 0 ∧ ¬ l4 < 0 ∧ ¬ l3 < 0) ∧ ((0 : Int32)).toNatClampNeg + (l3).toNatClampNeg ≤ m2 ∧ (l4).toNatClampNeg + (l3).toNatClampNeg ≤ m1) ∧ (Z E YX42_begin (d + 1) (cpl M b2 ((0 : Int32)).toNatClampNeg b1 (l4).toNatClampNeg (l3).toNatClampNeg) [(0, vr (some (a0, 6, 0))), (1, vi l1), (2, vr (some (a2, 7, 0))), (3, vi l3), (4, vi l4), (5, vi l5)] 213 [] Q)))))) : Z E YX42_begin (d + 1) M [(0, vr (some (a0, 6, 0))), (1, vi l1), (2, vr (some (a2, 7, 0))), (3, vi l3), (4, vi l4), (5, vi l5)] 198 [] Q := by
  refine z_aload_n dX42_begin_198 rfl rfl ?_
  refine z_getr (r := (gr M a2 2)) dX42_begin_199 fsX42_104_7 rfl ?_
  refine z_iconst (v := 0) dX42_begin_202 rfl ?_
  refine z_aload_n dX42_begin_203 rfl rfl ?_
  refine z_getr (r := (gr M a0 2)) dX42_begin_204 fsX42_16_6 rfl ?_
  refine z_iload dX42_begin_207 rfl ?_
  refine z_iload_n dX42_begin_209 rfl rfl ?_
  obtain ⟨b1, m1, e1_, k⟩ := k
  refine Z.eqs (lv' := [(0, vr (some (a0, 6, 0))), (1, vi l1), (2, vr (some (a2, 7, 0))), (3, vi l3), (4, vi l4), (5, vi l5)]) (st' := [vi l3, vi l4, vr (some (b1, 105, m1)), vi (0 : Int32), vr (gr M a2 2)]) rfl (by rw [e1_] <;> rfl) ?_
  obtain ⟨b2, m2, e2_, k⟩ := k
  refine Z.eqs (lv' := [(0, vr (some (a0, 6, 0))), (1, vi l1), (2, vr (some (a2, 7, 0))), (3, vi l3), (4, vi l4), (5, vi l5)]) (st' := [vi l3, vi l4, vr (some (b1, 105, m1)), vi (0 : Int32), vr (some (b2, 105, m2))]) rfl (by rw [e2_] <;> rfl) ?_
  obtain ⟨g_, k⟩ := k
  obtain ⟨d_, k⟩ := k
  obtain ⟨b_, k⟩ := k
  refine z_copyl g_ dX42_begin_210 q3135 d_ (Nat.le_of_ble_eq_true rfl) b_.1.1 b_.1.2.1 b_.1.2.2 b_.2.1 b_.2.2 ?_
  exact k
theorem sX42_begin_213 {E : zE} {d : Nat} {Q : zO → zM → Prop} (M : zM) (a0 : Nat) (l1 : Int32) (a2 : Nat) (l3 : Int32) (l4 : Int32) (l5 : Int32) (k : ∃ b1 m1 : Nat, (gr M a0 3) = some (b1, 105, m1) ∧ (∃ b2 m2 : Nat, (gr M a2 3) = some (b2, 105, m2) ∧ (16 ≤ b1 ∧ ((1 ≤ (d + 1)) ∧ (((¬ (0 : Int32) < 0 ∧ ¬ l4 < 0 ∧ ¬ l3 < 0) ∧ ((0 : Int32)).toNatClampNeg + (l3).toNatClampNeg ≤ m2 ∧ (l4).toNatClampNeg + (l3).toNatClampNeg ≤ m1) ∧ (Z E YX42_begin (d + 1) (cpl M b2 ((0 : Int32)).toNatClampNeg b1 (l4).toNatClampNeg (l3).toNatClampNeg) [(0, vr (some (a0, 6, 0))), (1, vi l1), (2, vr (some (a2, 7, 0))), (5, vi l5)] 228 [] Q)))))) : Z E YX42_begin (d + 1) M [(0, vr (some (a0, 6, 0))), (1, vi l1), (2, vr (some (a2, 7, 0))), (3, vi l3), (4, vi l4), (5, vi l5)] 213 [] Q := by
  refine z_aload_n dX42_begin_213 rfl rfl ?_
  refine z_getr (r := (gr M a2 3)) dX42_begin_214 fsX42_105_7 rfl ?_
  refine z_iconst (v := 0) dX42_begin_217 rfl ?_
  refine z_aload_n dX42_begin_218 rfl rfl ?_
  refine z_getr (r := (gr M a0 3)) dX42_begin_219 fsX42_19_6 rfl ?_
  refine z_iload dX42_begin_222 rfl ?_
  refine z_iload_n dX42_begin_224 rfl rfl ?_
  obtain ⟨b1, m1, e1_, k⟩ := k
  refine Z.eqs (lv' := [(0, vr (some (a0, 6, 0))), (1, vi l1), (2, vr (some (a2, 7, 0))), (3, vi l3), (4, vi l4), (5, vi l5)]) (st' := [vi l3, vi l4, vr (some (b1, 105, m1)), vi (0 : Int32), vr (gr M a2 3)]) rfl (by rw [e1_] <;> rfl) ?_
  obtain ⟨b2, m2, e2_, k⟩ := k
  refine Z.eqs (lv' := [(0, vr (some (a0, 6, 0))), (1, vi l1), (2, vr (some (a2, 7, 0))), (3, vi l3), (4, vi l4), (5, vi l5)]) (st' := [vi l3, vi l4, vr (some (b1, 105, m1)), vi (0 : Int32), vr (some (b2, 105, m2))]) rfl (by rw [e2_] <;> rfl) ?_
  obtain ⟨g_, k⟩ := k
  obtain ⟨d_, k⟩ := k
  obtain ⟨b_, k⟩ := k
  refine z_copyl g_ dX42_begin_225 q3135 d_ (Nat.le_of_ble_eq_true rfl) b_.1.1 b_.1.2.1 b_.1.2.2 b_.2.1 b_.2.2 ?_
  refine Z.pick [0, 1, 2, 5] rfl ?_
  exact k
theorem sX42_begin_228 {E : zE} {d : Nat} {Q : zO → zM → Prop} (M : zM) (a0 : Nat) (l1 : Int32) (a2 : Nat) (l5 : Int32) (k : ∃ b1 : Nat, (gr M a0 0) = some (b1, 0, 0) ∧ (∃ b2 m2 : Nat, (gr M a0 4) = some (b2, 105, m2) ∧ (∃ b3 m3 : Nat, (gr M a2 4) = some (b3, 105, m3) ∧ (16 ≤ b2 ∧ ((1 ≤ (d + 1)) ∧ (((¬ (0 : Int32) < 0 ∧ ¬ l5 < 0 ∧ ¬ (gi M b1 11) < 0) ∧ ((0 : Int32)).toNatClampNeg + ((gi M b1 11)).toNatClampNeg ≤ m3 ∧ (l5).toNatClampNeg + ((gi M b1 11)).toNatClampNeg ≤ m2) ∧ (Z E YX42_begin (d + 1) (cpl M b3 ((0 : Int32)).toNatClampNeg b2 (l5).toNatClampNeg ((gi M b1 11)).toNatClampNeg) [(0, vr (some (a0, 6, 0))), (1, vi l1), (2, vr (some (a2, 7, 0))), (5, vi l5)] 249 [] Q))))))) : Z E YX42_begin (d + 1) M [(0, vr (some (a0, 6, 0))), (1, vi l1), (2, vr (some (a2, 7, 0))), (5, vi l5)] 228 [] Q := by
  refine z_aload_n dX42_begin_228 rfl rfl ?_
  refine z_getr (r := (gr M a2 4)) dX42_begin_229 fsX42_109_7 rfl ?_
  refine z_iconst (v := 0) dX42_begin_232 rfl ?_
  refine z_aload_n dX42_begin_233 rfl rfl ?_
  refine z_getr (r := (gr M a0 4)) dX42_begin_234 fsX42_22_6 rfl ?_
  refine z_iload dX42_begin_237 rfl ?_
  refine z_aload_n dX42_begin_239 rfl rfl ?_
  refine z_getr (r := (gr M a0 0)) dX42_begin_240 fsX42_69_6 rfl ?_
  obtain ⟨b1, e1_, k⟩ := k
  refine Z.eqs (lv' := [(0, vr (some (a0, 6, 0))), (1, vi l1), (2, vr (some (a2, 7, 0))), (5, vi l5)]) (st' := [vr (some (b1, 0, 0)), vi l5, vr (gr M a0 4), vi (0 : Int32), vr (gr M a2 4)]) rfl (by rw [e1_] <;> rfl) ?_
  refine z_geti dX42_begin_243 fsX42_91_0 ?_
  obtain ⟨b2, m2, e2_, k⟩ := k
  refine Z.eqs (lv' := [(0, vr (some (a0, 6, 0))), (1, vi l1), (2, vr (some (a2, 7, 0))), (5, vi l5)]) (st' := [vi (gi M b1 11), vi l5, vr (some (b2, 105, m2)), vi (0 : Int32), vr (gr M a2 4)]) rfl (by rw [e2_] <;> rfl) ?_
  obtain ⟨b3, m3, e3_, k⟩ := k
  refine Z.eqs (lv' := [(0, vr (some (a0, 6, 0))), (1, vi l1), (2, vr (some (a2, 7, 0))), (5, vi l5)]) (st' := [vi (gi M b1 11), vi l5, vr (some (b2, 105, m2)), vi (0 : Int32), vr (some (b3, 105, m3))]) rfl (by rw [e3_] <;> rfl) ?_
  obtain ⟨g_, k⟩ := k
  obtain ⟨d_, k⟩ := k
  obtain ⟨b_, k⟩ := k
  refine z_copyl g_ dX42_begin_246 q3135 d_ (Nat.le_of_ble_eq_true rfl) b_.1.1 b_.1.2.1 b_.1.2.2 b_.2.1 b_.2.2 ?_
  exact k
theorem sX42_begin_249 {E : zE} {d : Nat} {Q : zO → zM → Prop} (M : zM) (a0 : Nat) (l1 : Int32) (a2 : Nat) (l5 : Int32) (k : ∃ b1 : Nat, (gr M a0 0) = some (b1, 0, 0) ∧ (∃ b2 m2 : Nat, (gr M a0 5) = some (b2, 105, m2) ∧ (∃ b3 m3 : Nat, (gr M a2 5) = some (b3, 105, m3) ∧ (16 ≤ b2 ∧ ((1 ≤ (d + 1)) ∧ (((¬ (0 : Int32) < 0 ∧ ¬ l5 < 0 ∧ ¬ (gi M b1 11) < 0) ∧ ((0 : Int32)).toNatClampNeg + ((gi M b1 11)).toNatClampNeg ≤ m3 ∧ (l5).toNatClampNeg + ((gi M b1 11)).toNatClampNeg ≤ m2) ∧ (Z E YX42_begin (d + 1) (cpl M b3 ((0 : Int32)).toNatClampNeg b2 (l5).toNatClampNeg ((gi M b1 11)).toNatClampNeg) [(0, vr (some (a0, 6, 0))), (1, vi l1), (2, vr (some (a2, 7, 0))), (5, vi l5)] 270 [] Q))))))) : Z E YX42_begin (d + 1) M [(0, vr (some (a0, 6, 0))), (1, vi l1), (2, vr (some (a2, 7, 0))), (5, vi l5)] 249 [] Q := by
  refine z_aload_n dX42_begin_249 rfl rfl ?_
  refine z_getr (r := (gr M a2 5)) dX42_begin_250 fsX42_110_7 rfl ?_
  refine z_iconst (v := 0) dX42_begin_253 rfl ?_
  refine z_aload_n dX42_begin_254 rfl rfl ?_
  refine z_getr (r := (gr M a0 5)) dX42_begin_255 fsX42_25_6 rfl ?_
  refine z_iload dX42_begin_258 rfl ?_
  refine z_aload_n dX42_begin_260 rfl rfl ?_
  refine z_getr (r := (gr M a0 0)) dX42_begin_261 fsX42_69_6 rfl ?_
  obtain ⟨b1, e1_, k⟩ := k
  refine Z.eqs (lv' := [(0, vr (some (a0, 6, 0))), (1, vi l1), (2, vr (some (a2, 7, 0))), (5, vi l5)]) (st' := [vr (some (b1, 0, 0)), vi l5, vr (gr M a0 5), vi (0 : Int32), vr (gr M a2 5)]) rfl (by rw [e1_] <;> rfl) ?_
  refine z_geti dX42_begin_264 fsX42_91_0 ?_
  obtain ⟨b2, m2, e2_, k⟩ := k
  refine Z.eqs (lv' := [(0, vr (some (a0, 6, 0))), (1, vi l1), (2, vr (some (a2, 7, 0))), (5, vi l5)]) (st' := [vi (gi M b1 11), vi l5, vr (some (b2, 105, m2)), vi (0 : Int32), vr (gr M a2 5)]) rfl (by rw [e2_] <;> rfl) ?_
  obtain ⟨b3, m3, e3_, k⟩ := k
  refine Z.eqs (lv' := [(0, vr (some (a0, 6, 0))), (1, vi l1), (2, vr (some (a2, 7, 0))), (5, vi l5)]) (st' := [vi (gi M b1 11), vi l5, vr (some (b2, 105, m2)), vi (0 : Int32), vr (some (b3, 105, m3))]) rfl (by rw [e3_] <;> rfl) ?_
  obtain ⟨g_, k⟩ := k
  obtain ⟨d_, k⟩ := k
  obtain ⟨b_, k⟩ := k
  refine z_copyl g_ dX42_begin_267 q3135 d_ (Nat.le_of_ble_eq_true rfl) b_.1.1 b_.1.2.1 b_.1.2.2 b_.2.1 b_.2.2 ?_
  exact k
theorem sX42_begin_270 {E : zE} {d : Nat} {Q : zO → zM → Prop} (M : zM) (a0 : Nat) (l1 : Int32) (a2 : Nat) (l5 : Int32) (k : ∃ b1 : Nat, (gr M a0 0) = some (b1, 0, 0) ∧ (∃ b2 m2 : Nat, (gr M a0 6) = some (b2, 105, m2) ∧ (∃ b3 m3 : Nat, (gr M a2 6) = some (b3, 105, m3) ∧ (16 ≤ b2 ∧ ((1 ≤ (d + 1)) ∧ (((¬ (0 : Int32) < 0 ∧ ¬ l5 < 0 ∧ ¬ (gi M b1 11) < 0) ∧ ((0 : Int32)).toNatClampNeg + ((gi M b1 11)).toNatClampNeg ≤ m3 ∧ (l5).toNatClampNeg + ((gi M b1 11)).toNatClampNeg ≤ m2) ∧ (Z E YX42_begin (d + 1) (cpl M b3 ((0 : Int32)).toNatClampNeg b2 (l5).toNatClampNeg ((gi M b1 11)).toNatClampNeg) [(0, vr (some (a0, 6, 0))), (1, vi l1), (2, vr (some (a2, 7, 0))), (5, vi l5)] 291 [] Q))))))) : Z E YX42_begin (d + 1) M [(0, vr (some (a0, 6, 0))), (1, vi l1), (2, vr (some (a2, 7, 0))), (5, vi l5)] 270 [] Q := by
  refine z_aload_n dX42_begin_270 rfl rfl ?_
  refine z_getr (r := (gr M a2 6)) dX42_begin_271 fsX42_111_7 rfl ?_
  refine z_iconst (v := 0) dX42_begin_274 rfl ?_
  refine z_aload_n dX42_begin_275 rfl rfl ?_
  refine z_getr (r := (gr M a0 6)) dX42_begin_276 fsX42_28_6 rfl ?_
  refine z_iload dX42_begin_279 rfl ?_
  refine z_aload_n dX42_begin_281 rfl rfl ?_
  refine z_getr (r := (gr M a0 0)) dX42_begin_282 fsX42_69_6 rfl ?_
  obtain ⟨b1, e1_, k⟩ := k
  refine Z.eqs (lv' := [(0, vr (some (a0, 6, 0))), (1, vi l1), (2, vr (some (a2, 7, 0))), (5, vi l5)]) (st' := [vr (some (b1, 0, 0)), vi l5, vr (gr M a0 6), vi (0 : Int32), vr (gr M a2 6)]) rfl (by rw [e1_] <;> rfl) ?_
  refine z_geti dX42_begin_285 fsX42_91_0 ?_
  obtain ⟨b2, m2, e2_, k⟩ := k
  refine Z.eqs (lv' := [(0, vr (some (a0, 6, 0))), (1, vi l1), (2, vr (some (a2, 7, 0))), (5, vi l5)]) (st' := [vi (gi M b1 11), vi l5, vr (some (b2, 105, m2)), vi (0 : Int32), vr (gr M a2 6)]) rfl (by rw [e2_] <;> rfl) ?_
  obtain ⟨b3, m3, e3_, k⟩ := k
  refine Z.eqs (lv' := [(0, vr (some (a0, 6, 0))), (1, vi l1), (2, vr (some (a2, 7, 0))), (5, vi l5)]) (st' := [vi (gi M b1 11), vi l5, vr (some (b2, 105, m2)), vi (0 : Int32), vr (some (b3, 105, m3))]) rfl (by rw [e3_] <;> rfl) ?_
  obtain ⟨g_, k⟩ := k
  obtain ⟨d_, k⟩ := k
  obtain ⟨b_, k⟩ := k
  refine z_copyl g_ dX42_begin_288 q3135 d_ (Nat.le_of_ble_eq_true rfl) b_.1.1 b_.1.2.1 b_.1.2.2 b_.2.1 b_.2.2 ?_
  exact k
theorem sX42_begin_291 {E : zE} {d : Nat} {Q : zO → zM → Prop} (M : zM) (a0 : Nat) (l1 : Int32) (a2 : Nat) (l5 : Int32) (k : ∃ b1 : Nat, (gr M a0 0) = some (b1, 0, 0) ∧ (∃ b2 m2 : Nat, (gr M a0 7) = some (b2, 105, m2) ∧ (∃ b3 m3 : Nat, (gr M a2 7) = some (b3, 105, m3) ∧ (16 ≤ b2 ∧ ((1 ≤ (d + 1)) ∧ (((¬ (0 : Int32) < 0 ∧ ¬ l5 < 0 ∧ ¬ (gi M b1 11) < 0) ∧ ((0 : Int32)).toNatClampNeg + ((gi M b1 11)).toNatClampNeg ≤ m3 ∧ (l5).toNatClampNeg + ((gi M b1 11)).toNatClampNeg ≤ m2) ∧ (Z E YX42_begin (d + 1) (cpl M b3 ((0 : Int32)).toNatClampNeg b2 (l5).toNatClampNeg ((gi M b1 11)).toNatClampNeg) [(0, vr (some (a0, 6, 0))), (1, vi l1), (2, vr (some (a2, 7, 0))), (5, vi l5)] 312 [] Q))))))) : Z E YX42_begin (d + 1) M [(0, vr (some (a0, 6, 0))), (1, vi l1), (2, vr (some (a2, 7, 0))), (5, vi l5)] 291 [] Q := by
  refine z_aload_n dX42_begin_291 rfl rfl ?_
  refine z_getr (r := (gr M a2 7)) dX42_begin_292 fsX42_112_7 rfl ?_
  refine z_iconst (v := 0) dX42_begin_295 rfl ?_
  refine z_aload_n dX42_begin_296 rfl rfl ?_
  refine z_getr (r := (gr M a0 7)) dX42_begin_297 fsX42_31_6 rfl ?_
  refine z_iload dX42_begin_300 rfl ?_
  refine z_aload_n dX42_begin_302 rfl rfl ?_
  refine z_getr (r := (gr M a0 0)) dX42_begin_303 fsX42_69_6 rfl ?_
  obtain ⟨b1, e1_, k⟩ := k
  refine Z.eqs (lv' := [(0, vr (some (a0, 6, 0))), (1, vi l1), (2, vr (some (a2, 7, 0))), (5, vi l5)]) (st' := [vr (some (b1, 0, 0)), vi l5, vr (gr M a0 7), vi (0 : Int32), vr (gr M a2 7)]) rfl (by rw [e1_] <;> rfl) ?_
  refine z_geti dX42_begin_306 fsX42_91_0 ?_
  obtain ⟨b2, m2, e2_, k⟩ := k
  refine Z.eqs (lv' := [(0, vr (some (a0, 6, 0))), (1, vi l1), (2, vr (some (a2, 7, 0))), (5, vi l5)]) (st' := [vi (gi M b1 11), vi l5, vr (some (b2, 105, m2)), vi (0 : Int32), vr (gr M a2 7)]) rfl (by rw [e2_] <;> rfl) ?_
  obtain ⟨b3, m3, e3_, k⟩ := k
  refine Z.eqs (lv' := [(0, vr (some (a0, 6, 0))), (1, vi l1), (2, vr (some (a2, 7, 0))), (5, vi l5)]) (st' := [vi (gi M b1 11), vi l5, vr (some (b2, 105, m2)), vi (0 : Int32), vr (some (b3, 105, m3))]) rfl (by rw [e3_] <;> rfl) ?_
  obtain ⟨g_, k⟩ := k
  obtain ⟨d_, k⟩ := k
  obtain ⟨b_, k⟩ := k
  refine z_copyl g_ dX42_begin_309 q3135 d_ (Nat.le_of_ble_eq_true rfl) b_.1.1 b_.1.2.1 b_.1.2.2 b_.2.1 b_.2.2 ?_
  exact k
theorem sX42_begin_312 {E : zE} {d : Nat} {Q : zO → zM → Prop} (M : zM) (a0 : Nat) (l1 : Int32) (a2 : Nat) (l5 : Int32) (k : Z E YX42_begin (d + 1) M [(0, vr (some (a0, 6, 0))), (1, vi l1), (2, vr (some (a2, 7, 0))), (5, vi l5), (6, vi (0 : Int32))] 315 [] Q) : Z E YX42_begin (d + 1) M [(0, vr (some (a0, 6, 0))), (1, vi l1), (2, vr (some (a2, 7, 0))), (5, vi l5)] 312 [] Q := by
  refine z_iconst (v := 0) dX42_begin_312 rfl ?_
  refine z_ist dX42_begin_313 (by decide) (lv' := [(0, vr (some (a0, 6, 0))), (1, vi l1), (2, vr (some (a2, 7, 0))), (5, vi l5), (6, vi (0 : Int32))]) rfl ?_
  exact k
theorem sX42_begin_315 {E : zE} {d : Nat} {Q : zO → zM → Prop} (M : zM) (a0 : Nat) (l1 : Int32) (a2 : Nat) (l5 : Int32) (l6 : Int32) (k : ∃ b1 : Nat, (gr M a0 0) = some (b1, 0, 0) ∧ (if (gi M b1 11) ≤ l6 then (∃ b2 m2 : Nat, (gr M a0 11) = some (b2, 105, m2) ∧ (16 ≤ b2 ∧ (vp_in l1 m2 ∧ (∃ b3 m3 : Nat, (gr M a0 12) = some (b3, 105, m3) ∧ (16 ≤ b3 ∧ (vp_in l1 m3 ∧ (∃ b4 m4 : Nat, (gr M a0 13) = some (b4, 105, m4) ∧ (16 ≤ b4 ∧ (vp_in l1 m4 ∧ (∃ b5 m5 : Nat, (gr M a0 14) = some (b5, 105, m5) ∧ (16 ≤ b5 ∧ (vp_in l1 m5 ∧ (∃ b6 m6 : Nat, (gr M a0 15) = some (b6, 105, m6) ∧ (16 ≤ b6 ∧ (vp_in l1 m6 ∧ (Q (.inl none) (sl (sl (sl (sl (sl M b2 (l1).toNatClampNeg (gl M a2 14)) b3 (l1).toNatClampNeg (gl (sl M b2 (l1).toNatClampNeg (gl M a2 14)) a2 15)) b4 (l1).toNatClampNeg (gl (sl (sl M b2 (l1).toNatClampNeg (gl M a2 14)) b3 (l1).toNatClampNeg (gl (sl M b2 (l1).toNatClampNeg (gl M a2 14)) a2 15)) a2 16)) b5 (l1).toNatClampNeg (gl (sl (sl (sl M b2 (l1).toNatClampNeg (gl M a2 14)) b3 (l1).toNatClampNeg (gl (sl M b2 (l1).toNatClampNeg (gl M a2 14)) a2 15)) b4 (l1).toNatClampNeg (gl (sl (sl M b2 (l1).toNatClampNeg (gl M a2 14)) b3 (l1).toNatClampNeg (gl (sl M b2 (l1).toNatClampNeg (gl M a2 14)) a2 15)) a2 16)) a2 17)) b6 (l1).toNatClampNeg (gl (sl (sl (sl (sl M b2 (l1).toNatClampNeg (gl M a2 14)) b3 (l1).toNatClampNeg (gl (sl M b2 (l1).toNatClampNeg (gl M a2 14)) a2 15)) b4 (l1).toNatClampNeg (gl (sl (sl M b2 (l1).toNatClampNeg (gl M a2 14)) b3 (l1).toNatClampNeg (gl (sl M b2 (l1).toNatClampNeg (gl M a2 14)) a2 15)) a2 16)) b5 (l1).toNatClampNeg (gl (sl (sl (sl M b2 (l1).toNatClampNeg (gl M a2 14)) b3 (l1).toNatClampNeg (gl (sl M b2 (l1).toNatClampNeg (gl M a2 14)) a2 15)) b4 (l1).toNatClampNeg (gl (sl (sl M b2 (l1).toNatClampNeg (gl M a2 14)) b3 (l1).toNatClampNeg (gl (sl M b2 (l1).toNatClampNeg (gl M a2 14)) a2 15)) a2 16)) a2 17)) a2 18)))))))))))))))))) else (Z E YX42_flagsOf d M (zargs 0 [vr (some (a0, 6, 0)), vr (some (a2, 7, 0)), vi l6]) 0 [] (zafter E YX42_begin (d + 1) [(0, vr (some (a0, 6, 0))), (1, vi l1), (2, vr (some (a2, 7, 0))), (5, vi l5), (6, vi l6)] 340 3 [vi (l5 + l6), vr (gr M a0 8)] Q)))) : Z E YX42_begin (d + 1) M [(0, vr (some (a0, 6, 0))), (1, vi l1), (2, vr (some (a2, 7, 0))), (5, vi l5), (6, vi l6)] 315 [] Q := by
  refine z_iload dX42_begin_315 rfl ?_
  refine z_aload_n dX42_begin_317 rfl rfl ?_
  refine z_getr (r := (gr M a0 0)) dX42_begin_318 fsX42_69_6 rfl ?_
  obtain ⟨b1, e1_, k⟩ := k
  refine Z.eqs (lv' := [(0, vr (some (a0, 6, 0))), (1, vi l1), (2, vr (some (a2, 7, 0))), (5, vi l5), (6, vi l6)]) (st' := [vr (some (b1, 0, 0)), vi l6]) rfl (by rw [e1_] <;> rfl) ?_
  refine z_geti dX42_begin_321 fsX42_91_0 ?_
  refine z_icmp_ge (tgt := 351) dX42_begin_324 rfl (fun h_ => ?_) (fun h_ => ?_)
  · have k := zit h_ k
    refine z_aload_n dX42_begin_351 rfl rfl ?_
    refine z_getr (r := (gr M a0 11)) dX42_begin_352 fsX42_45_6 rfl ?_
    refine z_iload_n dX42_begin_355 rfl rfl ?_
    refine z_aload_n dX42_begin_356 rfl rfl ?_
    refine z_getl dX42_begin_357 fsX42_120_7 ?_
    obtain ⟨b2, m2, e2_, k⟩ := k
    refine Z.eqs (lv' := [(0, vr (some (a0, 6, 0))), (1, vi l1), (2, vr (some (a2, 7, 0))), (5, vi l5), (6, vi l6)]) (st' := [vl (gl M a2 14), vi l1, vr (some (b2, 105, m2))]) rfl (by rw [e2_] <;> rfl) ?_
    obtain ⟨g_, k⟩ := k
    obtain ⟨b_, k⟩ := k
    refine z_last g_ dX42_begin_360 b_ ?_
    refine z_aload_n dX42_begin_361 rfl rfl ?_
    refine z_getr (r := (gr M a0 12)) dX42_begin_362 fsX42_48_6 rfl ?_
    refine z_iload_n dX42_begin_365 rfl rfl ?_
    refine z_aload_n dX42_begin_366 rfl rfl ?_
    refine z_getl dX42_begin_367 fsX42_123_7 ?_
    obtain ⟨b3, m3, e3_, k⟩ := k
    refine Z.eqs (lv' := [(0, vr (some (a0, 6, 0))), (1, vi l1), (2, vr (some (a2, 7, 0))), (5, vi l5), (6, vi l6)]) (st' := [vl (gl (sl M b2 (l1).toNatClampNeg (gl M a2 14)) a2 15), vi l1, vr (some (b3, 105, m3))]) rfl (by rw [e3_] <;> rfl) ?_
    obtain ⟨g_, k⟩ := k
    obtain ⟨b_, k⟩ := k
    refine z_last g_ dX42_begin_370 b_ ?_
    refine z_aload_n dX42_begin_371 rfl rfl ?_
    refine z_getr (r := (gr M a0 13)) dX42_begin_372 fsX42_51_6 rfl ?_
    refine z_iload_n dX42_begin_375 rfl rfl ?_
    refine z_aload_n dX42_begin_376 rfl rfl ?_
    refine z_getl dX42_begin_377 fsX42_125_7 ?_
    obtain ⟨b4, m4, e4_, k⟩ := k
    refine Z.eqs (lv' := [(0, vr (some (a0, 6, 0))), (1, vi l1), (2, vr (some (a2, 7, 0))), (5, vi l5), (6, vi l6)]) (st' := [vl (gl (sl (sl M b2 (l1).toNatClampNeg (gl M a2 14)) b3 (l1).toNatClampNeg (gl (sl M b2 (l1).toNatClampNeg (gl M a2 14)) a2 15)) a2 16), vi l1, vr (some (b4, 105, m4))]) rfl (by rw [e4_] <;> rfl) ?_
    obtain ⟨g_, k⟩ := k
    obtain ⟨b_, k⟩ := k
    refine z_last g_ dX42_begin_380 b_ ?_
    refine z_aload_n dX42_begin_381 rfl rfl ?_
    refine z_getr (r := (gr M a0 14)) dX42_begin_382 fsX42_54_6 rfl ?_
    refine z_iload_n dX42_begin_385 rfl rfl ?_
    refine z_aload_n dX42_begin_386 rfl rfl ?_
    refine z_getl dX42_begin_387 fsX42_127_7 ?_
    obtain ⟨b5, m5, e5_, k⟩ := k
    refine Z.eqs (lv' := [(0, vr (some (a0, 6, 0))), (1, vi l1), (2, vr (some (a2, 7, 0))), (5, vi l5), (6, vi l6)]) (st' := [vl (gl (sl (sl (sl M b2 (l1).toNatClampNeg (gl M a2 14)) b3 (l1).toNatClampNeg (gl (sl M b2 (l1).toNatClampNeg (gl M a2 14)) a2 15)) b4 (l1).toNatClampNeg (gl (sl (sl M b2 (l1).toNatClampNeg (gl M a2 14)) b3 (l1).toNatClampNeg (gl (sl M b2 (l1).toNatClampNeg (gl M a2 14)) a2 15)) a2 16)) a2 17), vi l1, vr (some (b5, 105, m5))]) rfl (by rw [e5_] <;> rfl) ?_
    obtain ⟨g_, k⟩ := k
    obtain ⟨b_, k⟩ := k
    refine z_last g_ dX42_begin_390 b_ ?_
    refine z_aload_n dX42_begin_391 rfl rfl ?_
    refine z_getr (r := (gr M a0 15)) dX42_begin_392 fsX42_57_6 rfl ?_
    refine z_iload_n dX42_begin_395 rfl rfl ?_
    refine z_aload_n dX42_begin_396 rfl rfl ?_
    refine z_getl dX42_begin_397 fsX42_129_7 ?_
    obtain ⟨b6, m6, e6_, k⟩ := k
    refine Z.eqs (lv' := [(0, vr (some (a0, 6, 0))), (1, vi l1), (2, vr (some (a2, 7, 0))), (5, vi l5), (6, vi l6)]) (st' := [vl (gl (sl (sl (sl (sl M b2 (l1).toNatClampNeg (gl M a2 14)) b3 (l1).toNatClampNeg (gl (sl M b2 (l1).toNatClampNeg (gl M a2 14)) a2 15)) b4 (l1).toNatClampNeg (gl (sl (sl M b2 (l1).toNatClampNeg (gl M a2 14)) b3 (l1).toNatClampNeg (gl (sl M b2 (l1).toNatClampNeg (gl M a2 14)) a2 15)) a2 16)) b5 (l1).toNatClampNeg (gl (sl (sl (sl M b2 (l1).toNatClampNeg (gl M a2 14)) b3 (l1).toNatClampNeg (gl (sl M b2 (l1).toNatClampNeg (gl M a2 14)) a2 15)) b4 (l1).toNatClampNeg (gl (sl (sl M b2 (l1).toNatClampNeg (gl M a2 14)) b3 (l1).toNatClampNeg (gl (sl M b2 (l1).toNatClampNeg (gl M a2 14)) a2 15)) a2 16)) a2 17)) a2 18), vi l1, vr (some (b6, 105, m6))]) rfl (by rw [e6_] <;> rfl) ?_
    obtain ⟨g_, k⟩ := k
    obtain ⟨b_, k⟩ := k
    refine z_last g_ dX42_begin_400 b_ ?_
    exact z_vret dX42_begin_401 rfl k
  · have k := zif h_ k
    refine z_aload_n dX42_begin_327 rfl rfl ?_
    refine z_getr (r := (gr M a0 8)) dX42_begin_328 fsX42_34_6 rfl ?_
    refine z_iload dX42_begin_331 rfl ?_
    refine z_iload dX42_begin_333 rfl ?_
    refine z_iadd dX42_begin_335 ?_
    refine z_aload_n dX42_begin_336 rfl rfl ?_
    refine z_aload_n dX42_begin_337 rfl rfl ?_
    refine z_iload dX42_begin_338 rfl ?_
    exact z_callV (as := [vr (some (a2, 7, 0)), vi l6]) (st := [vi (l5 + l6), vr (gr M a0 8)]) dX42_begin_340 vsX42_113_6 (Nat.le_refl _) (Nat.le_of_ble_eq_true rfl) (Nat.le_of_ble_eq_true rfl) rfl k
theorem sX42_begin_343 {E : zE} {d : Nat} {Q : zO → zM → Prop} (M : zM) (a0 : Nat) (l1 : Int32) (a2 : Nat) (l5 : Int32) (l6 : Int32) (s0 : Int32) (s1 : Int32) (u2 : Option zP) (k : ∃ b1 m1 : Nat, u2 = some (b1, 101, m1) ∧ (16 ≤ b1 ∧ (vp_in s1 m1 ∧ (Z E YX42_begin (d + 1) (si M b1 (s1).toNatClampNeg (vp_nar .byte (s0).toInt8.toInt32)) [(0, vr (some (a0, 6, 0))), (1, vi l1), (2, vr (some (a2, 7, 0))), (5, vi l5), (6, vi (l6 + (1 : Int32)))] 315 [] Q)))) : Z E YX42_begin (d + 1) M [(0, vr (some (a0, 6, 0))), (1, vi l1), (2, vr (some (a2, 7, 0))), (5, vi l5), (6, vi l6)] 343 [vi s0, vi s1, vr u2] Q := by
  refine z_i2b dX42_begin_343 ?_
  obtain ⟨b1, m1, e1_, k⟩ := k
  refine Z.eqs (lv' := [(0, vr (some (a0, 6, 0))), (1, vi l1), (2, vr (some (a2, 7, 0))), (5, vi l5), (6, vi l6)]) (st' := [vi (s0).toInt8.toInt32, vi s1, vr (some (b1, 101, m1))]) rfl (by rw [e1_] <;> rfl) ?_
  obtain ⟨g_, k⟩ := k
  obtain ⟨b_, k⟩ := k
  refine z_bast g_ dX42_begin_344 b_ ?_
  refine z_inc (v := (l6 + (1 : Int32))) dX42_begin_345 rfl rfl (by decide) (lv' := [(0, vr (some (a0, 6, 0))), (1, vi l1), (2, vr (some (a2, 7, 0))), (5, vi l5), (6, vi (l6 + (1 : Int32)))]) rfl ?_
  refine z_goto (tgt := 315) dX42_begin_348 rfl ?_
  exact k
/-! ScriptTypes$Table.grown([J)[J -/
theorem bX42_grown_0 : zdec cX42_grown 0 [(0, .iconst 2, 1), (1, .aload_n 1, 1), (2, .arraylength, 1), (3, .imul, 1), (4, .newarray .long, 2), (6, .astore_n 2, 1), (7, .aload_n 1, 1), (8, .iconst 0, 1), (9, .aload_n 2, 1), (10, .iconst 0, 1), (11, .aload_n 0, 1), (12, .getfield 73, 3), (15, .invokestatic 77, 3), (18, .aload_n 2, 1), (19, .areturn, 1)] = true := by decide +kernel
theorem dX42_grown_0 : decode cX42_grown 0 = .ok (.iconst 2, 1) := zdec_at bX42_grown_0 0 rfl
theorem dX42_grown_1 : decode cX42_grown 1 = .ok (.aload_n 1, 1) := zdec_at bX42_grown_0 1 rfl
theorem dX42_grown_2 : decode cX42_grown 2 = .ok (.arraylength, 1) := zdec_at bX42_grown_0 2 rfl
theorem dX42_grown_3 : decode cX42_grown 3 = .ok (.imul, 1) := zdec_at bX42_grown_0 3 rfl
theorem dX42_grown_4 : decode cX42_grown 4 = .ok (.newarray .long, 2) := zdec_at bX42_grown_0 4 rfl
theorem dX42_grown_6 : decode cX42_grown 6 = .ok (.astore_n 2, 1) := zdec_at bX42_grown_0 5 rfl
theorem dX42_grown_7 : decode cX42_grown 7 = .ok (.aload_n 1, 1) := zdec_at bX42_grown_0 6 rfl
theorem dX42_grown_8 : decode cX42_grown 8 = .ok (.iconst 0, 1) := zdec_at bX42_grown_0 7 rfl
theorem dX42_grown_9 : decode cX42_grown 9 = .ok (.aload_n 2, 1) := zdec_at bX42_grown_0 8 rfl
theorem dX42_grown_10 : decode cX42_grown 10 = .ok (.iconst 0, 1) := zdec_at bX42_grown_0 9 rfl
theorem dX42_grown_11 : decode cX42_grown 11 = .ok (.aload_n 0, 1) := zdec_at bX42_grown_0 10 rfl
theorem dX42_grown_12 : decode cX42_grown 12 = .ok (.getfield 73, 3) := zdec_at bX42_grown_0 11 rfl
theorem dX42_grown_15 : decode cX42_grown 15 = .ok (.invokestatic 77, 3) := zdec_at bX42_grown_0 12 rfl
theorem dX42_grown_18 : decode cX42_grown 18 = .ok (.aload_n 2, 1) := zdec_at bX42_grown_0 13 rfl
theorem dX42_grown_19 : decode cX42_grown 19 = .ok (.areturn, 1) := zdec_at bX42_grown_0 14 rfl
theorem sX42_grown_0 {E : zE} {d : Nat} {Q : zO → zM → Prop} (M : zM) (a0 : Nat) (r1 : Option zP) (k : ∃ b1 m1 : Nat, r1 = some (b1, 105, m1) ∧ ((¬ ((2 : Int32) * (Int32.ofNat m1)) < 0 ∧ (((2 : Int32) * (Int32.ofNat m1))).toNatClampNeg * 8 ≤ 536870912) ∧ (Z E YX42_grown d (zn M (((2 : Int32) * (Int32.ofNat m1))).toNatClampNeg) [(0, vr (some (a0, 6, 0))), (1, vr (some (b1, 105, m1)))] 6 [vr (some ((zsz M), 105, (((2 : Int32) * (Int32.ofNat m1))).toNatClampNeg))] Q))) : Z E YX42_grown d M [(0, vr (some (a0, 6, 0))), (1, vr r1)] 0 [] Q := by
  refine z_iconst (v := 2) dX42_grown_0 rfl ?_
  refine z_aload_n dX42_grown_1 rfl rfl ?_
  obtain ⟨b1, m1, e1_, k⟩ := k
  refine Z.eqs (lv' := [(0, vr (some (a0, 6, 0))), (1, vr (some (b1, 105, m1)))]) (st' := [vr (some (b1, 105, m1)), vi (2 : Int32)]) (by rw [e1_] <;> rfl) (by rw [e1_] <;> rfl) ?_
  refine z_alen (q := 5) (v := Int32.ofNat m1) dX42_grown_2 rfl ?_
  refine z_imul dX42_grown_3 ?_
  obtain ⟨b_, k⟩ := k
  refine z_newa (q := 5) (N := (((2 : Int32) * (Int32.ofNat m1))).toNatClampNeg) dX42_grown_4 rfl (by decide) q755 b_.1 rfl b_.2 ?_
  exact k
theorem sX42_grown_6 {E : zE} {d : Nat} {Q : zO → zM → Prop} (M : zM) (a0 : Nat) (a1 : Nat) (na1 : Nat) (p0 : Nat) (np0 : Nat) (k : 16 ≤ p0 ∧ ((1 ≤ d) ∧ (((¬ (0 : Int32) < 0 ∧ ¬ (0 : Int32) < 0 ∧ ¬ (gi M a0 19) < 0) ∧ ((0 : Int32)).toNatClampNeg + ((gi M a0 19)).toNatClampNeg ≤ na1 ∧ ((0 : Int32)).toNatClampNeg + ((gi M a0 19)).toNatClampNeg ≤ np0) ∧ (Z E YX42_grown d (cpl M a1 ((0 : Int32)).toNatClampNeg p0 ((0 : Int32)).toNatClampNeg ((gi M a0 19)).toNatClampNeg) [(2, vr (some (p0, 105, np0)))] 18 [] Q)))) : Z E YX42_grown d M [(0, vr (some (a0, 6, 0))), (1, vr (some (a1, 105, na1)))] 6 [vr (some (p0, 105, np0))] Q := by
  refine z_ast_n dX42_grown_6 rfl (by decide) (lv' := [(0, vr (some (a0, 6, 0))), (1, vr (some (a1, 105, na1))), (2, vr (some (p0, 105, np0)))]) rfl ?_
  refine z_aload_n dX42_grown_7 rfl rfl ?_
  refine z_iconst (v := 0) dX42_grown_8 rfl ?_
  refine z_aload_n dX42_grown_9 rfl rfl ?_
  refine z_iconst (v := 0) dX42_grown_10 rfl ?_
  refine z_aload_n dX42_grown_11 rfl rfl ?_
  refine z_geti dX42_grown_12 fsX42_73_6 ?_
  obtain ⟨g_, k⟩ := k
  obtain ⟨d_, k⟩ := k
  obtain ⟨b_, k⟩ := k
  refine z_copyl g_ dX42_grown_15 q3135 d_ (Nat.le_of_ble_eq_true rfl) b_.1.1 b_.1.2.1 b_.1.2.2 b_.2.1 b_.2.2 ?_
  refine Z.pick [2] rfl ?_
  exact k
theorem sX42_grown_18 {E : zE} {d : Nat} {Q : zO → zM → Prop} (M : zM) (a2 : Nat) (na2 : Nat) (k : Q (.inl (some (vr (some (a2, 105, na2))))) M) : Z E YX42_grown d M [(2, vr (some (a2, 105, na2)))] 18 [] Q := by
  refine z_aload_n dX42_grown_18 rfl rfl ?_
  exact z_aret dX42_grown_19 rfl rfl k
/-! ScriptTypes$Table.flagsOf(LScriptTypes$Work;I)I -/
theorem bX42_flagsOf_0 : zdec cX42_flagsOf 0 [(0, .aload_n 1, 1), (1, .getfield 131, 3), (4, .iload_n 2, 1), (5, .baload, 1), (6, .ifCond .eq 7, 3), (9, .iconst 1, 1), (10, .goto 4, 3), (13, .iconst 0, 1), (14, .aload_n 1, 1), (15, .getfield 135, 3), (18, .iload_n 2, 1), (19, .baload, 1), (20, .ifCond .eq 7, 3), (23, .iconst 2, 1), (24, .goto 4, 3), (27, .iconst 0, 1)] = true := by decide +kernel
theorem dX42_flagsOf_0 : decode cX42_flagsOf 0 = .ok (.aload_n 1, 1) := zdec_at bX42_flagsOf_0 0 rfl
theorem dX42_flagsOf_1 : decode cX42_flagsOf 1 = .ok (.getfield 131, 3) := zdec_at bX42_flagsOf_0 1 rfl
theorem dX42_flagsOf_4 : decode cX42_flagsOf 4 = .ok (.iload_n 2, 1) := zdec_at bX42_flagsOf_0 2 rfl
theorem dX42_flagsOf_5 : decode cX42_flagsOf 5 = .ok (.baload, 1) := zdec_at bX42_flagsOf_0 3 rfl
theorem dX42_flagsOf_6 : decode cX42_flagsOf 6 = .ok (.ifCond .eq 7, 3) := zdec_at bX42_flagsOf_0 4 rfl
theorem dX42_flagsOf_9 : decode cX42_flagsOf 9 = .ok (.iconst 1, 1) := zdec_at bX42_flagsOf_0 5 rfl
theorem dX42_flagsOf_10 : decode cX42_flagsOf 10 = .ok (.goto 4, 3) := zdec_at bX42_flagsOf_0 6 rfl
theorem dX42_flagsOf_13 : decode cX42_flagsOf 13 = .ok (.iconst 0, 1) := zdec_at bX42_flagsOf_0 7 rfl
theorem dX42_flagsOf_14 : decode cX42_flagsOf 14 = .ok (.aload_n 1, 1) := zdec_at bX42_flagsOf_0 8 rfl
theorem dX42_flagsOf_15 : decode cX42_flagsOf 15 = .ok (.getfield 135, 3) := zdec_at bX42_flagsOf_0 9 rfl
theorem dX42_flagsOf_18 : decode cX42_flagsOf 18 = .ok (.iload_n 2, 1) := zdec_at bX42_flagsOf_0 10 rfl
theorem dX42_flagsOf_19 : decode cX42_flagsOf 19 = .ok (.baload, 1) := zdec_at bX42_flagsOf_0 11 rfl
theorem dX42_flagsOf_20 : decode cX42_flagsOf 20 = .ok (.ifCond .eq 7, 3) := zdec_at bX42_flagsOf_0 12 rfl
theorem dX42_flagsOf_23 : decode cX42_flagsOf 23 = .ok (.iconst 2, 1) := zdec_at bX42_flagsOf_0 13 rfl
theorem dX42_flagsOf_24 : decode cX42_flagsOf 24 = .ok (.goto 4, 3) := zdec_at bX42_flagsOf_0 14 rfl
theorem dX42_flagsOf_27 : decode cX42_flagsOf 27 = .ok (.iconst 0, 1) := zdec_at bX42_flagsOf_0 15 rfl
theorem bX42_flagsOf_28 : zdec cX42_flagsOf 28 [(28, .ior, 1), (29, .ireturn, 1)] = true := by decide +kernel
theorem dX42_flagsOf_28 : decode cX42_flagsOf 28 = .ok (.ior, 1) := zdec_at bX42_flagsOf_28 0 rfl
theorem dX42_flagsOf_29 : decode cX42_flagsOf 29 = .ok (.ireturn, 1) := zdec_at bX42_flagsOf_28 1 rfl
theorem sX42_flagsOf_0 {E : zE} {d : Nat} {Q : zO → zM → Prop} (M : zM) (a0 : Nat) (r1 : Option zP) (l2 : Int32) (k : ∃ b1 : Nat, r1 = some (b1, 7, 0) ∧ (∃ b2 m2 : Nat, (gr M b1 8) = some (b2, 104, m2) ∧ (vp_in l2 m2 ∧ (if (gi M b2 (l2).toNatClampNeg) = 0 then (Z E YX42_flagsOf d M [(1, vr (some (b1, 7, 0))), (2, vi l2)] 14 [vi (0 : Int32)] Q) else (Z E YX42_flagsOf d M [(1, vr (some (b1, 7, 0))), (2, vi l2)] 14 [vi (1 : Int32)] Q))))) : Z E YX42_flagsOf d M [(0, vr (some (a0, 6, 0))), (1, vr r1), (2, vi l2)] 0 [] Q := by
  refine z_aload_n dX42_flagsOf_0 rfl rfl ?_
  obtain ⟨b1, e1_, k⟩ := k
  refine Z.eqs (lv' := [(0, vr (some (a0, 6, 0))), (1, vr (some (b1, 7, 0))), (2, vi l2)]) (st' := [vr (some (b1, 7, 0))]) (by rw [e1_] <;> rfl) (by rw [e1_] <;> rfl) ?_
  refine z_getr (r := (gr M b1 8)) dX42_flagsOf_1 fsX42_131_7 rfl ?_
  refine z_iload_n dX42_flagsOf_4 rfl rfl ?_
  obtain ⟨b2, m2, e2_, k⟩ := k
  refine Z.eqs (lv' := [(0, vr (some (a0, 6, 0))), (1, vr (some (b1, 7, 0))), (2, vi l2)]) (st' := [vi l2, vr (some (b2, 104, m2))]) rfl (by rw [e2_] <;> rfl) ?_
  obtain ⟨b_, k⟩ := k
  refine z_zald dX42_flagsOf_5 b_ ?_
  refine z_if_eq (tgt := 13) dX42_flagsOf_6 rfl (fun h_ => ?_) (fun h_ => ?_)
  · have k := zit h_ k
    refine z_iconst (v := 0) dX42_flagsOf_13 rfl ?_
    refine Z.pick [1, 2] rfl ?_
    exact k
  · have k := zif h_ k
    refine z_iconst (v := 1) dX42_flagsOf_9 rfl ?_
    refine z_goto (tgt := 14) dX42_flagsOf_10 rfl ?_
    refine Z.pick [1, 2] rfl ?_
    exact k
theorem sX42_flagsOf_14 {E : zE} {d : Nat} {Q : zO → zM → Prop} (M : zM) (a1 : Nat) (l2 : Int32) (s0 : Int32) (k : ∃ b1 m1 : Nat, (gr M a1 9) = some (b1, 104, m1) ∧ (vp_in l2 m1 ∧ (if (gi M b1 (l2).toNatClampNeg) = 0 then (Q (.inl (some (vi (s0 ||| (0 : Int32))))) M) else (Q (.inl (some (vi (s0 ||| (2 : Int32))))) M)))) : Z E YX42_flagsOf d M [(1, vr (some (a1, 7, 0))), (2, vi l2)] 14 [vi s0] Q := by
  refine z_aload_n dX42_flagsOf_14 rfl rfl ?_
  refine z_getr (r := (gr M a1 9)) dX42_flagsOf_15 fsX42_135_7 rfl ?_
  refine z_iload_n dX42_flagsOf_18 rfl rfl ?_
  obtain ⟨b1, m1, e1_, k⟩ := k
  refine Z.eqs (lv' := [(1, vr (some (a1, 7, 0))), (2, vi l2)]) (st' := [vi l2, vr (some (b1, 104, m1)), vi s0]) rfl (by rw [e1_] <;> rfl) ?_
  obtain ⟨b_, k⟩ := k
  refine z_zald dX42_flagsOf_19 b_ ?_
  refine z_if_eq (tgt := 27) dX42_flagsOf_20 rfl (fun h_ => ?_) (fun h_ => ?_)
  · have k := zit h_ k
    refine z_iconst (v := 0) dX42_flagsOf_27 rfl ?_
    refine z_ior dX42_flagsOf_28 ?_
    exact z_iret dX42_flagsOf_29 rfl rfl k
  · have k := zif h_ k
    refine z_iconst (v := 2) dX42_flagsOf_23 rfl ?_
    refine z_goto (tgt := 28) dX42_flagsOf_24 rfl ?_
    refine z_ior dX42_flagsOf_28 ?_
    exact z_iret dX42_flagsOf_29 rfl rfl k
/-! ScriptTypes$Table.more(JJ)J -/
theorem bX42_more_0 : zdec cX42_more 0 [(0, .aload_n 0, 1), (1, .dup, 1), (2, .getfield 83, 3), (5, .lload_n 1, 1), (6, .lload_n 3, 1), (7, .lcmp, 1), (8, .ifCond .eq 7, 3), (11, .iconst 1, 1), (12, .goto 4, 3), (15, .iconst 0, 1), (16, .ior, 1), (17, .putfield 83, 3), (20, .lload_n 3, 1), (21, .lreturn, 1)] = true := by decide +kernel
theorem dX42_more_0 : decode cX42_more 0 = .ok (.aload_n 0, 1) := zdec_at bX42_more_0 0 rfl
theorem dX42_more_1 : decode cX42_more 1 = .ok (.dup, 1) := zdec_at bX42_more_0 1 rfl
theorem dX42_more_2 : decode cX42_more 2 = .ok (.getfield 83, 3) := zdec_at bX42_more_0 2 rfl
theorem dX42_more_5 : decode cX42_more 5 = .ok (.lload_n 1, 1) := zdec_at bX42_more_0 3 rfl
theorem dX42_more_6 : decode cX42_more 6 = .ok (.lload_n 3, 1) := zdec_at bX42_more_0 4 rfl
theorem dX42_more_7 : decode cX42_more 7 = .ok (.lcmp, 1) := zdec_at bX42_more_0 5 rfl
theorem dX42_more_8 : decode cX42_more 8 = .ok (.ifCond .eq 7, 3) := zdec_at bX42_more_0 6 rfl
theorem dX42_more_11 : decode cX42_more 11 = .ok (.iconst 1, 1) := zdec_at bX42_more_0 7 rfl
theorem dX42_more_12 : decode cX42_more 12 = .ok (.goto 4, 3) := zdec_at bX42_more_0 8 rfl
theorem dX42_more_15 : decode cX42_more 15 = .ok (.iconst 0, 1) := zdec_at bX42_more_0 9 rfl
theorem dX42_more_16 : decode cX42_more 16 = .ok (.ior, 1) := zdec_at bX42_more_0 10 rfl
theorem dX42_more_17 : decode cX42_more 17 = .ok (.putfield 83, 3) := zdec_at bX42_more_0 11 rfl
theorem dX42_more_20 : decode cX42_more 20 = .ok (.lload_n 3, 1) := zdec_at bX42_more_0 12 rfl
theorem dX42_more_21 : decode cX42_more 21 = .ok (.lreturn, 1) := zdec_at bX42_more_0 13 rfl
theorem sX42_more_0 {E : zE} {d : Nat} {Q : zO → zM → Prop} (M : zM) (a0 : Nat) (l1 : Int64) (l3 : Int64) (k : if (lg_cmp l1 l3) = 0 then (16 ≤ a0 ∧ (zfit .boolean ((gi M a0 20) ||| (0 : Int32)) ∧ (Q (.inl (some (vl l3))) (si M a0 20 ((gi M a0 20) ||| (0 : Int32)))))) else (16 ≤ a0 ∧ (zfit .boolean ((gi M a0 20) ||| (1 : Int32)) ∧ (Q (.inl (some (vl l3))) (si M a0 20 ((gi M a0 20) ||| (1 : Int32))))))) : Z E YX42_more d M [(0, vr (some (a0, 6, 0))), (1, vl l1), (3, vl l3)] 0 [] Q := by
  refine z_aload_n dX42_more_0 rfl rfl ?_
  refine z_dup dX42_more_1 rfl ?_
  refine z_geti dX42_more_2 fsX42_83_6 ?_
  refine z_lload_n dX42_more_5 rfl rfl ?_
  refine z_lload_n dX42_more_6 rfl rfl ?_
  refine z_lcmp dX42_more_7 ?_
  refine z_if_eq (tgt := 15) dX42_more_8 rfl (fun h_ => ?_) (fun h_ => ?_)
  · have k := zit h_ k
    refine z_iconst (v := 0) dX42_more_15 rfl ?_
    refine z_ior dX42_more_16 ?_
    obtain ⟨g_, k⟩ := k
    obtain ⟨b_, k⟩ := k
    refine z_puti g_ dX42_more_17 (zfwN.w fwX42_83_6) rfl b_ ?_
    refine z_lload_n dX42_more_20 rfl rfl ?_
    exact z_lret dX42_more_21 rfl k
  · have k := zif h_ k
    refine z_iconst (v := 1) dX42_more_11 rfl ?_
    refine z_goto (tgt := 16) dX42_more_12 rfl ?_
    refine z_ior dX42_more_16 ?_
    obtain ⟨g_, k⟩ := k
    obtain ⟨b_, k⟩ := k
    refine z_puti g_ dX42_more_17 (zfwN.w fwX42_83_6) rfl b_ ?_
    refine z_lload_n dX42_more_20 rfl rfl ?_
    exact z_lret dX42_more_21 rfl k
/-! ScriptTypes$Table.load(ILScriptTypes$Work;)V -/
theorem bX42_load_0 : zdec cX42_load 0 [(0, .aload_n 0, 1), (1, .iload_n 1, 1), (2, .aload_n 2, 1), (3, .invokevirtual 145, 3), (6, .aload_n 2, 1), (7, .aload_n 0, 1), (8, .getfield 38, 3), (11, .iload_n 1, 1), (12, .iaload, 1), (13, .putfield 138, 3), (16, .aload_n 0, 1), (17, .getfield 60, 3), (20, .aload_n 0, 1), (21, .getfield 42, 3), (24, .iload_n 1, 1), (25, .iaload, 1)] = true := by decide +kernel
theorem dX42_load_0 : decode cX42_load 0 = .ok (.aload_n 0, 1) := zdec_at bX42_load_0 0 rfl
theorem dX42_load_1 : decode cX42_load 1 = .ok (.iload_n 1, 1) := zdec_at bX42_load_0 1 rfl
theorem dX42_load_2 : decode cX42_load 2 = .ok (.aload_n 2, 1) := zdec_at bX42_load_0 2 rfl
theorem dX42_load_3 : decode cX42_load 3 = .ok (.invokevirtual 145, 3) := zdec_at bX42_load_0 3 rfl
theorem dX42_load_6 : decode cX42_load 6 = .ok (.aload_n 2, 1) := zdec_at bX42_load_0 4 rfl
theorem dX42_load_7 : decode cX42_load 7 = .ok (.aload_n 0, 1) := zdec_at bX42_load_0 5 rfl
theorem dX42_load_8 : decode cX42_load 8 = .ok (.getfield 38, 3) := zdec_at bX42_load_0 6 rfl
theorem dX42_load_11 : decode cX42_load 11 = .ok (.iload_n 1, 1) := zdec_at bX42_load_0 7 rfl
theorem dX42_load_12 : decode cX42_load 12 = .ok (.iaload, 1) := zdec_at bX42_load_0 8 rfl
theorem dX42_load_13 : decode cX42_load 13 = .ok (.putfield 138, 3) := zdec_at bX42_load_0 9 rfl
theorem dX42_load_16 : decode cX42_load 16 = .ok (.aload_n 0, 1) := zdec_at bX42_load_0 10 rfl
theorem dX42_load_17 : decode cX42_load 17 = .ok (.getfield 60, 3) := zdec_at bX42_load_0 11 rfl
theorem dX42_load_20 : decode cX42_load 20 = .ok (.aload_n 0, 1) := zdec_at bX42_load_0 12 rfl
theorem dX42_load_21 : decode cX42_load 21 = .ok (.getfield 42, 3) := zdec_at bX42_load_0 13 rfl
theorem dX42_load_24 : decode cX42_load 24 = .ok (.iload_n 1, 1) := zdec_at bX42_load_0 14 rfl
theorem dX42_load_25 : decode cX42_load 25 = .ok (.iaload, 1) := zdec_at bX42_load_0 15 rfl
theorem bX42_load_26 : zdec cX42_load 26 [(26, .aload_n 2, 1), (27, .getfield 117, 3), (30, .iconst 0, 1), (31, .aload_n 2, 1), (32, .getfield 138, 3), (35, .invokestatic 77, 3), (38, .aload_n 0, 1), (39, .getfield 63, 3), (42, .aload_n 0, 1), (43, .getfield 42, 3), (46, .iload_n 1, 1), (47, .iaload, 1), (48, .aload_n 2, 1), (49, .getfield 118, 3), (52, .iconst 0, 1), (53, .aload_n 2, 1)] = true := by decide +kernel
theorem dX42_load_26 : decode cX42_load 26 = .ok (.aload_n 2, 1) := zdec_at bX42_load_26 0 rfl
theorem dX42_load_27 : decode cX42_load 27 = .ok (.getfield 117, 3) := zdec_at bX42_load_26 1 rfl
theorem dX42_load_30 : decode cX42_load 30 = .ok (.iconst 0, 1) := zdec_at bX42_load_26 2 rfl
theorem dX42_load_31 : decode cX42_load 31 = .ok (.aload_n 2, 1) := zdec_at bX42_load_26 3 rfl
theorem dX42_load_32 : decode cX42_load 32 = .ok (.getfield 138, 3) := zdec_at bX42_load_26 4 rfl
theorem dX42_load_35 : decode cX42_load 35 = .ok (.invokestatic 77, 3) := zdec_at bX42_load_26 5 rfl
theorem dX42_load_38 : decode cX42_load 38 = .ok (.aload_n 0, 1) := zdec_at bX42_load_26 6 rfl
theorem dX42_load_39 : decode cX42_load 39 = .ok (.getfield 63, 3) := zdec_at bX42_load_26 7 rfl
theorem dX42_load_42 : decode cX42_load 42 = .ok (.aload_n 0, 1) := zdec_at bX42_load_26 8 rfl
theorem dX42_load_43 : decode cX42_load 43 = .ok (.getfield 42, 3) := zdec_at bX42_load_26 9 rfl
theorem dX42_load_46 : decode cX42_load 46 = .ok (.iload_n 1, 1) := zdec_at bX42_load_26 10 rfl
theorem dX42_load_47 : decode cX42_load 47 = .ok (.iaload, 1) := zdec_at bX42_load_26 11 rfl
theorem dX42_load_48 : decode cX42_load 48 = .ok (.aload_n 2, 1) := zdec_at bX42_load_26 12 rfl
theorem dX42_load_49 : decode cX42_load 49 = .ok (.getfield 118, 3) := zdec_at bX42_load_26 13 rfl
theorem dX42_load_52 : decode cX42_load 52 = .ok (.iconst 0, 1) := zdec_at bX42_load_26 14 rfl
theorem dX42_load_53 : decode cX42_load 53 = .ok (.aload_n 2, 1) := zdec_at bX42_load_26 15 rfl
theorem bX42_load_54 : zdec cX42_load 54 [(54, .getfield 138, 3), (57, .invokestatic 77, 3), (60, .aload_n 0, 1), (61, .getfield 66, 3), (64, .aload_n 0, 1), (65, .getfield 42, 3), (68, .iload_n 1, 1), (69, .iaload, 1), (70, .aload_n 2, 1), (71, .getfield 119, 3), (74, .iconst 0, 1), (75, .aload_n 2, 1), (76, .getfield 138, 3), (79, .invokestatic 77, 3), (82, .aload_n 2, 1), (83, .aload_n 0, 1)] = true := by decide +kernel
theorem dX42_load_54 : decode cX42_load 54 = .ok (.getfield 138, 3) := zdec_at bX42_load_54 0 rfl
theorem dX42_load_57 : decode cX42_load 57 = .ok (.invokestatic 77, 3) := zdec_at bX42_load_54 1 rfl
theorem dX42_load_60 : decode cX42_load 60 = .ok (.aload_n 0, 1) := zdec_at bX42_load_54 2 rfl
theorem dX42_load_61 : decode cX42_load 61 = .ok (.getfield 66, 3) := zdec_at bX42_load_54 3 rfl
theorem dX42_load_64 : decode cX42_load 64 = .ok (.aload_n 0, 1) := zdec_at bX42_load_54 4 rfl
theorem dX42_load_65 : decode cX42_load 65 = .ok (.getfield 42, 3) := zdec_at bX42_load_54 5 rfl
theorem dX42_load_68 : decode cX42_load 68 = .ok (.iload_n 1, 1) := zdec_at bX42_load_54 6 rfl
theorem dX42_load_69 : decode cX42_load 69 = .ok (.iaload, 1) := zdec_at bX42_load_54 7 rfl
theorem dX42_load_70 : decode cX42_load 70 = .ok (.aload_n 2, 1) := zdec_at bX42_load_54 8 rfl
theorem dX42_load_71 : decode cX42_load 71 = .ok (.getfield 119, 3) := zdec_at bX42_load_54 9 rfl
theorem dX42_load_74 : decode cX42_load 74 = .ok (.iconst 0, 1) := zdec_at bX42_load_54 10 rfl
theorem dX42_load_75 : decode cX42_load 75 = .ok (.aload_n 2, 1) := zdec_at bX42_load_54 11 rfl
theorem dX42_load_76 : decode cX42_load 76 = .ok (.getfield 138, 3) := zdec_at bX42_load_54 12 rfl
theorem dX42_load_79 : decode cX42_load 79 = .ok (.invokestatic 77, 3) := zdec_at bX42_load_54 13 rfl
theorem dX42_load_82 : decode cX42_load 82 = .ok (.aload_n 2, 1) := zdec_at bX42_load_54 14 rfl
theorem dX42_load_83 : decode cX42_load 83 = .ok (.aload_n 0, 1) := zdec_at bX42_load_54 15 rfl
theorem bX42_load_84 : zdec cX42_load 84 [(84, .getfield 45, 3), (87, .iload_n 1, 1), (88, .laload, 1), (89, .putfield 120, 3), (92, .aload_n 2, 1), (93, .aload_n 0, 1), (94, .getfield 48, 3), (97, .iload_n 1, 1), (98, .laload, 1), (99, .putfield 123, 3), (102, .aload_n 2, 1), (103, .aload_n 0, 1), (104, .getfield 51, 3), (107, .iload_n 1, 1), (108, .laload, 1), (109, .putfield 125, 3)] = true := by decide +kernel
theorem dX42_load_84 : decode cX42_load 84 = .ok (.getfield 45, 3) := zdec_at bX42_load_84 0 rfl
theorem dX42_load_87 : decode cX42_load 87 = .ok (.iload_n 1, 1) := zdec_at bX42_load_84 1 rfl
theorem dX42_load_88 : decode cX42_load 88 = .ok (.laload, 1) := zdec_at bX42_load_84 2 rfl
theorem dX42_load_89 : decode cX42_load 89 = .ok (.putfield 120, 3) := zdec_at bX42_load_84 3 rfl
theorem dX42_load_92 : decode cX42_load 92 = .ok (.aload_n 2, 1) := zdec_at bX42_load_84 4 rfl
theorem dX42_load_93 : decode cX42_load 93 = .ok (.aload_n 0, 1) := zdec_at bX42_load_84 5 rfl
theorem dX42_load_94 : decode cX42_load 94 = .ok (.getfield 48, 3) := zdec_at bX42_load_84 6 rfl
theorem dX42_load_97 : decode cX42_load 97 = .ok (.iload_n 1, 1) := zdec_at bX42_load_84 7 rfl
theorem dX42_load_98 : decode cX42_load 98 = .ok (.laload, 1) := zdec_at bX42_load_84 8 rfl
theorem dX42_load_99 : decode cX42_load 99 = .ok (.putfield 123, 3) := zdec_at bX42_load_84 9 rfl
theorem dX42_load_102 : decode cX42_load 102 = .ok (.aload_n 2, 1) := zdec_at bX42_load_84 10 rfl
theorem dX42_load_103 : decode cX42_load 103 = .ok (.aload_n 0, 1) := zdec_at bX42_load_84 11 rfl
theorem dX42_load_104 : decode cX42_load 104 = .ok (.getfield 51, 3) := zdec_at bX42_load_84 12 rfl
theorem dX42_load_107 : decode cX42_load 107 = .ok (.iload_n 1, 1) := zdec_at bX42_load_84 13 rfl
theorem dX42_load_108 : decode cX42_load 108 = .ok (.laload, 1) := zdec_at bX42_load_84 14 rfl
theorem dX42_load_109 : decode cX42_load 109 = .ok (.putfield 125, 3) := zdec_at bX42_load_84 15 rfl
theorem bX42_load_112 : zdec cX42_load 112 [(112, .aload_n 2, 1), (113, .aload_n 0, 1), (114, .getfield 54, 3), (117, .iload_n 1, 1), (118, .laload, 1), (119, .putfield 127, 3), (122, .aload_n 2, 1), (123, .aload_n 0, 1), (124, .getfield 57, 3), (127, .iload_n 1, 1), (128, .laload, 1), (129, .putfield 129, 3), (132, .return_, 1)] = true := by decide +kernel
theorem dX42_load_112 : decode cX42_load 112 = .ok (.aload_n 2, 1) := zdec_at bX42_load_112 0 rfl
theorem dX42_load_113 : decode cX42_load 113 = .ok (.aload_n 0, 1) := zdec_at bX42_load_112 1 rfl
theorem dX42_load_114 : decode cX42_load 114 = .ok (.getfield 54, 3) := zdec_at bX42_load_112 2 rfl
theorem dX42_load_117 : decode cX42_load 117 = .ok (.iload_n 1, 1) := zdec_at bX42_load_112 3 rfl
theorem dX42_load_118 : decode cX42_load 118 = .ok (.laload, 1) := zdec_at bX42_load_112 4 rfl
theorem dX42_load_119 : decode cX42_load 119 = .ok (.putfield 127, 3) := zdec_at bX42_load_112 5 rfl
theorem dX42_load_122 : decode cX42_load 122 = .ok (.aload_n 2, 1) := zdec_at bX42_load_112 6 rfl
theorem dX42_load_123 : decode cX42_load 123 = .ok (.aload_n 0, 1) := zdec_at bX42_load_112 7 rfl
theorem dX42_load_124 : decode cX42_load 124 = .ok (.getfield 57, 3) := zdec_at bX42_load_112 8 rfl
theorem dX42_load_127 : decode cX42_load 127 = .ok (.iload_n 1, 1) := zdec_at bX42_load_112 9 rfl
theorem dX42_load_128 : decode cX42_load 128 = .ok (.laload, 1) := zdec_at bX42_load_112 10 rfl
theorem dX42_load_129 : decode cX42_load 129 = .ok (.putfield 129, 3) := zdec_at bX42_load_112 11 rfl
theorem dX42_load_132 : decode cX42_load 132 = .ok (.return_, 1) := zdec_at bX42_load_112 12 rfl
theorem sX42_load_0 {E : zE} {d : Nat} {Q : zO → zM → Prop} (M : zM) (a0 : Nat) (l1 : Int32) (r2 : Option zP) (k : Z E YX42_heap d M (zargs 0 [vr (some (a0, 6, 0)), vi l1, vr r2]) 0 [] (zafter E YX42_load (d + 1) [(0, vr (some (a0, 6, 0))), (1, vi l1), (2, vr r2)] 3 3 [] Q)) : Z E YX42_load (d + 1) M [(0, vr (some (a0, 6, 0))), (1, vi l1), (2, vr r2)] 0 [] Q := by
  refine z_aload_n dX42_load_0 rfl rfl ?_
  refine z_iload_n dX42_load_1 rfl rfl ?_
  refine z_aload_n dX42_load_2 rfl rfl ?_
  exact z_callV (as := [vi l1, vr r2]) (st := []) dX42_load_3 vsX42_145_6 (Nat.le_refl _) (Nat.le_of_ble_eq_true rfl) (Nat.le_of_ble_eq_true rfl) rfl k
theorem sX42_load_6 {E : zE} {d : Nat} {Q : zO → zM → Prop} (M : zM) (a0 : Nat) (l1 : Int32) (r2 : Option zP) (k : ∃ b1 m1 : Nat, (gr M a0 9) = some (b1, 100, m1) ∧ (vp_in l1 m1 ∧ (∃ b2 : Nat, r2 = some (b2, 7, 0) ∧ (16 ≤ b2 ∧ (∃ b3 m3 : Nat, (gr M a0 10) = some (b3, 100, m3) ∧ (vp_in l1 m3 ∧ (∃ b4 m4 : Nat, (gr M b2 10) = some (b4, 105, m4) ∧ (∃ b5 m5 : Nat, (gr M a0 16) = some (b5, 105, m5) ∧ (16 ≤ b4 ∧ ((1 ≤ (d + 1)) ∧ (((¬ (gi (si M b2 13 (gi M b1 (l1).toNatClampNeg)) b3 (l1).toNatClampNeg) < 0 ∧ ¬ (0 : Int32) < 0 ∧ ¬ (gi (si M b2 13 (gi M b1 (l1).toNatClampNeg)) b2 13) < 0) ∧ ((gi (si M b2 13 (gi M b1 (l1).toNatClampNeg)) b3 (l1).toNatClampNeg)).toNatClampNeg + ((gi (si M b2 13 (gi M b1 (l1).toNatClampNeg)) b2 13)).toNatClampNeg ≤ m5 ∧ ((0 : Int32)).toNatClampNeg + ((gi (si M b2 13 (gi M b1 (l1).toNatClampNeg)) b2 13)).toNatClampNeg ≤ m4) ∧ (Z E YX42_load (d + 1) (cpl (si M b2 13 (gi M b1 (l1).toNatClampNeg)) b5 ((gi (si M b2 13 (gi M b1 (l1).toNatClampNeg)) b3 (l1).toNatClampNeg)).toNatClampNeg b4 ((0 : Int32)).toNatClampNeg ((gi (si M b2 13 (gi M b1 (l1).toNatClampNeg)) b2 13)).toNatClampNeg) [(0, vr (some (a0, 6, 0))), (1, vi l1), (2, vr (some (b2, 7, 0)))] 38 [] Q)))))))))))) : Z E YX42_load (d + 1) M [(0, vr (some (a0, 6, 0))), (1, vi l1), (2, vr r2)] 6 [] Q := by
  refine z_aload_n dX42_load_6 rfl rfl ?_
  refine z_aload_n dX42_load_7 rfl rfl ?_
  refine z_getr (r := (gr M a0 9)) dX42_load_8 fsX42_38_6 rfl ?_
  refine z_iload_n dX42_load_11 rfl rfl ?_
  obtain ⟨b1, m1, e1_, k⟩ := k
  refine Z.eqs (lv' := [(0, vr (some (a0, 6, 0))), (1, vi l1), (2, vr r2)]) (st' := [vi l1, vr (some (b1, 100, m1)), vr r2]) rfl (by rw [e1_] <;> rfl) ?_
  obtain ⟨b_, k⟩ := k
  refine z_iald dX42_load_12 b_ ?_
  obtain ⟨b2, e2_, k⟩ := k
  refine Z.eqs (lv' := [(0, vr (some (a0, 6, 0))), (1, vi l1), (2, vr (some (b2, 7, 0)))]) (st' := [vi (gi M b1 (l1).toNatClampNeg), vr (some (b2, 7, 0))]) (by rw [e2_] <;> rfl) (by rw [e2_] <;> rfl) ?_
  obtain ⟨g_, k⟩ := k
  refine z_puti g_ dX42_load_13 (zfwN.w fwX42_138_7) rfl ⟨rfl, rfl⟩ ?_
  refine z_aload_n dX42_load_16 rfl rfl ?_
  refine z_getr (r := (gr M a0 16)) dX42_load_17 fsX42_60_6 rfl ?_
  refine z_aload_n dX42_load_20 rfl rfl ?_
  refine z_getr (r := (gr M a0 10)) dX42_load_21 fsX42_42_6 rfl ?_
  refine z_iload_n dX42_load_24 rfl rfl ?_
  obtain ⟨b3, m3, e3_, k⟩ := k
  refine Z.eqs (lv' := [(0, vr (some (a0, 6, 0))), (1, vi l1), (2, vr (some (b2, 7, 0)))]) (st' := [vi l1, vr (some (b3, 100, m3)), vr (gr M a0 16)]) rfl (by rw [e3_] <;> rfl) ?_
  obtain ⟨b_, k⟩ := k
  refine z_iald dX42_load_25 b_ ?_
  refine z_aload_n dX42_load_26 rfl rfl ?_
  refine z_getr (r := (gr M b2 10)) dX42_load_27 fsX42_117_7 rfl ?_
  refine z_iconst (v := 0) dX42_load_30 rfl ?_
  refine z_aload_n dX42_load_31 rfl rfl ?_
  refine z_geti dX42_load_32 fsX42_138_7 ?_
  obtain ⟨b4, m4, e4_, k⟩ := k
  refine Z.eqs (lv' := [(0, vr (some (a0, 6, 0))), (1, vi l1), (2, vr (some (b2, 7, 0)))]) (st' := [vi (gi (si M b2 13 (gi M b1 (l1).toNatClampNeg)) b2 13), vi (0 : Int32), vr (some (b4, 105, m4)), vi (gi (si M b2 13 (gi M b1 (l1).toNatClampNeg)) b3 (l1).toNatClampNeg), vr (gr M a0 16)]) rfl (by rw [e4_] <;> rfl) ?_
  obtain ⟨b5, m5, e5_, k⟩ := k
  refine Z.eqs (lv' := [(0, vr (some (a0, 6, 0))), (1, vi l1), (2, vr (some (b2, 7, 0)))]) (st' := [vi (gi (si M b2 13 (gi M b1 (l1).toNatClampNeg)) b2 13), vi (0 : Int32), vr (some (b4, 105, m4)), vi (gi (si M b2 13 (gi M b1 (l1).toNatClampNeg)) b3 (l1).toNatClampNeg), vr (some (b5, 105, m5))]) rfl (by rw [e5_] <;> rfl) ?_
  obtain ⟨g_, k⟩ := k
  obtain ⟨d_, k⟩ := k
  obtain ⟨b_, k⟩ := k
  refine z_copyl g_ dX42_load_35 q3135 d_ (Nat.le_of_ble_eq_true rfl) b_.1.1 b_.1.2.1 b_.1.2.2 b_.2.1 b_.2.2 ?_
  exact k
theorem sX42_load_38 {E : zE} {d : Nat} {Q : zO → zM → Prop} (M : zM) (a0 : Nat) (l1 : Int32) (a2 : Nat) (k : ∃ b1 m1 : Nat, (gr M a0 10) = some (b1, 100, m1) ∧ (vp_in l1 m1 ∧ (∃ b2 m2 : Nat, (gr M a2 11) = some (b2, 105, m2) ∧ (∃ b3 m3 : Nat, (gr M a0 17) = some (b3, 105, m3) ∧ (16 ≤ b2 ∧ ((1 ≤ (d + 1)) ∧ (((¬ (gi M b1 (l1).toNatClampNeg) < 0 ∧ ¬ (0 : Int32) < 0 ∧ ¬ (gi M a2 13) < 0) ∧ ((gi M b1 (l1).toNatClampNeg)).toNatClampNeg + ((gi M a2 13)).toNatClampNeg ≤ m3 ∧ ((0 : Int32)).toNatClampNeg + ((gi M a2 13)).toNatClampNeg ≤ m2) ∧ (Z E YX42_load (d + 1) (cpl M b3 ((gi M b1 (l1).toNatClampNeg)).toNatClampNeg b2 ((0 : Int32)).toNatClampNeg ((gi M a2 13)).toNatClampNeg) [(0, vr (some (a0, 6, 0))), (1, vi l1), (2, vr (some (a2, 7, 0)))] 60 [] Q)))))))) : Z E YX42_load (d + 1) M [(0, vr (some (a0, 6, 0))), (1, vi l1), (2, vr (some (a2, 7, 0)))] 38 [] Q := by
  refine z_aload_n dX42_load_38 rfl rfl ?_
  refine z_getr (r := (gr M a0 17)) dX42_load_39 fsX42_63_6 rfl ?_
  refine z_aload_n dX42_load_42 rfl rfl ?_
  refine z_getr (r := (gr M a0 10)) dX42_load_43 fsX42_42_6 rfl ?_
  refine z_iload_n dX42_load_46 rfl rfl ?_
  obtain ⟨b1, m1, e1_, k⟩ := k
  refine Z.eqs (lv' := [(0, vr (some (a0, 6, 0))), (1, vi l1), (2, vr (some (a2, 7, 0)))]) (st' := [vi l1, vr (some (b1, 100, m1)), vr (gr M a0 17)]) rfl (by rw [e1_] <;> rfl) ?_
  obtain ⟨b_, k⟩ := k
  refine z_iald dX42_load_47 b_ ?_
  refine z_aload_n dX42_load_48 rfl rfl ?_
  refine z_getr (r := (gr M a2 11)) dX42_load_49 fsX42_118_7 rfl ?_
  refine z_iconst (v := 0) dX42_load_52 rfl ?_
  refine z_aload_n dX42_load_53 rfl rfl ?_
  refine z_geti dX42_load_54 fsX42_138_7 ?_
  obtain ⟨b2, m2, e2_, k⟩ := k
  refine Z.eqs (lv' := [(0, vr (some (a0, 6, 0))), (1, vi l1), (2, vr (some (a2, 7, 0)))]) (st' := [vi (gi M a2 13), vi (0 : Int32), vr (some (b2, 105, m2)), vi (gi M b1 (l1).toNatClampNeg), vr (gr M a0 17)]) rfl (by rw [e2_] <;> rfl) ?_
  obtain ⟨b3, m3, e3_, k⟩ := k
  refine Z.eqs (lv' := [(0, vr (some (a0, 6, 0))), (1, vi l1), (2, vr (some (a2, 7, 0)))]) (st' := [vi (gi M a2 13), vi (0 : Int32), vr (some (b2, 105, m2)), vi (gi M b1 (l1).toNatClampNeg), vr (some (b3, 105, m3))]) rfl (by rw [e3_] <;> rfl) ?_
  obtain ⟨g_, k⟩ := k
  obtain ⟨d_, k⟩ := k
  obtain ⟨b_, k⟩ := k
  refine z_copyl g_ dX42_load_57 q3135 d_ (Nat.le_of_ble_eq_true rfl) b_.1.1 b_.1.2.1 b_.1.2.2 b_.2.1 b_.2.2 ?_
  exact k
theorem sX42_load_60 {E : zE} {d : Nat} {Q : zO → zM → Prop} (M : zM) (a0 : Nat) (l1 : Int32) (a2 : Nat) (k : ∃ b1 m1 : Nat, (gr M a0 10) = some (b1, 100, m1) ∧ (vp_in l1 m1 ∧ (∃ b2 m2 : Nat, (gr M a2 12) = some (b2, 105, m2) ∧ (∃ b3 m3 : Nat, (gr M a0 18) = some (b3, 105, m3) ∧ (16 ≤ b2 ∧ ((1 ≤ (d + 1)) ∧ (((¬ (gi M b1 (l1).toNatClampNeg) < 0 ∧ ¬ (0 : Int32) < 0 ∧ ¬ (gi M a2 13) < 0) ∧ ((gi M b1 (l1).toNatClampNeg)).toNatClampNeg + ((gi M a2 13)).toNatClampNeg ≤ m3 ∧ ((0 : Int32)).toNatClampNeg + ((gi M a2 13)).toNatClampNeg ≤ m2) ∧ (Z E YX42_load (d + 1) (cpl M b3 ((gi M b1 (l1).toNatClampNeg)).toNatClampNeg b2 ((0 : Int32)).toNatClampNeg ((gi M a2 13)).toNatClampNeg) [(0, vr (some (a0, 6, 0))), (1, vi l1), (2, vr (some (a2, 7, 0)))] 82 [] Q)))))))) : Z E YX42_load (d + 1) M [(0, vr (some (a0, 6, 0))), (1, vi l1), (2, vr (some (a2, 7, 0)))] 60 [] Q := by
  refine z_aload_n dX42_load_60 rfl rfl ?_
  refine z_getr (r := (gr M a0 18)) dX42_load_61 fsX42_66_6 rfl ?_
  refine z_aload_n dX42_load_64 rfl rfl ?_
  refine z_getr (r := (gr M a0 10)) dX42_load_65 fsX42_42_6 rfl ?_
  refine z_iload_n dX42_load_68 rfl rfl ?_
  obtain ⟨b1, m1, e1_, k⟩ := k
  refine Z.eqs (lv' := [(0, vr (some (a0, 6, 0))), (1, vi l1), (2, vr (some (a2, 7, 0)))]) (st' := [vi l1, vr (some (b1, 100, m1)), vr (gr M a0 18)]) rfl (by rw [e1_] <;> rfl) ?_
  obtain ⟨b_, k⟩ := k
  refine z_iald dX42_load_69 b_ ?_
  refine z_aload_n dX42_load_70 rfl rfl ?_
  refine z_getr (r := (gr M a2 12)) dX42_load_71 fsX42_119_7 rfl ?_
  refine z_iconst (v := 0) dX42_load_74 rfl ?_
  refine z_aload_n dX42_load_75 rfl rfl ?_
  refine z_geti dX42_load_76 fsX42_138_7 ?_
  obtain ⟨b2, m2, e2_, k⟩ := k
  refine Z.eqs (lv' := [(0, vr (some (a0, 6, 0))), (1, vi l1), (2, vr (some (a2, 7, 0)))]) (st' := [vi (gi M a2 13), vi (0 : Int32), vr (some (b2, 105, m2)), vi (gi M b1 (l1).toNatClampNeg), vr (gr M a0 18)]) rfl (by rw [e2_] <;> rfl) ?_
  obtain ⟨b3, m3, e3_, k⟩ := k
  refine Z.eqs (lv' := [(0, vr (some (a0, 6, 0))), (1, vi l1), (2, vr (some (a2, 7, 0)))]) (st' := [vi (gi M a2 13), vi (0 : Int32), vr (some (b2, 105, m2)), vi (gi M b1 (l1).toNatClampNeg), vr (some (b3, 105, m3))]) rfl (by rw [e3_] <;> rfl) ?_
  obtain ⟨g_, k⟩ := k
  obtain ⟨d_, k⟩ := k
  obtain ⟨b_, k⟩ := k
  refine z_copyl g_ dX42_load_79 q3135 d_ (Nat.le_of_ble_eq_true rfl) b_.1.1 b_.1.2.1 b_.1.2.2 b_.2.1 b_.2.2 ?_
  exact k
theorem sX42_load_82 {E : zE} {d : Nat} {Q : zO → zM → Prop} (M : zM) (a0 : Nat) (l1 : Int32) (a2 : Nat) (k : ∃ b1 m1 : Nat, (gr M a0 11) = some (b1, 105, m1) ∧ (vp_in l1 m1 ∧ (16 ≤ a2 ∧ (∃ b2 m2 : Nat, (gr M a0 12) = some (b2, 105, m2) ∧ (vp_in l1 m2 ∧ (16 ≤ a2 ∧ (∃ b3 m3 : Nat, (gr M a0 13) = some (b3, 105, m3) ∧ (vp_in l1 m3 ∧ (16 ≤ a2 ∧ (∃ b4 m4 : Nat, (gr M a0 14) = some (b4, 105, m4) ∧ (vp_in l1 m4 ∧ (16 ≤ a2 ∧ (∃ b5 m5 : Nat, (gr M a0 15) = some (b5, 105, m5) ∧ (vp_in l1 m5 ∧ (16 ≤ a2 ∧ (Q (.inl none) (sl (sl (sl (sl (sl M a2 14 (gl M b1 (l1).toNatClampNeg)) a2 15 (gl (sl M a2 14 (gl M b1 (l1).toNatClampNeg)) b2 (l1).toNatClampNeg)) a2 16 (gl (sl (sl M a2 14 (gl M b1 (l1).toNatClampNeg)) a2 15 (gl (sl M a2 14 (gl M b1 (l1).toNatClampNeg)) b2 (l1).toNatClampNeg)) b3 (l1).toNatClampNeg)) a2 17 (gl (sl (sl (sl M a2 14 (gl M b1 (l1).toNatClampNeg)) a2 15 (gl (sl M a2 14 (gl M b1 (l1).toNatClampNeg)) b2 (l1).toNatClampNeg)) a2 16 (gl (sl (sl M a2 14 (gl M b1 (l1).toNatClampNeg)) a2 15 (gl (sl M a2 14 (gl M b1 (l1).toNatClampNeg)) b2 (l1).toNatClampNeg)) b3 (l1).toNatClampNeg)) b4 (l1).toNatClampNeg)) a2 18 (gl (sl (sl (sl (sl M a2 14 (gl M b1 (l1).toNatClampNeg)) a2 15 (gl (sl M a2 14 (gl M b1 (l1).toNatClampNeg)) b2 (l1).toNatClampNeg)) a2 16 (gl (sl (sl M a2 14 (gl M b1 (l1).toNatClampNeg)) a2 15 (gl (sl M a2 14 (gl M b1 (l1).toNatClampNeg)) b2 (l1).toNatClampNeg)) b3 (l1).toNatClampNeg)) a2 17 (gl (sl (sl (sl M a2 14 (gl M b1 (l1).toNatClampNeg)) a2 15 (gl (sl M a2 14 (gl M b1 (l1).toNatClampNeg)) b2 (l1).toNatClampNeg)) a2 16 (gl (sl (sl M a2 14 (gl M b1 (l1).toNatClampNeg)) a2 15 (gl (sl M a2 14 (gl M b1 (l1).toNatClampNeg)) b2 (l1).toNatClampNeg)) b3 (l1).toNatClampNeg)) b4 (l1).toNatClampNeg)) b5 (l1).toNatClampNeg)))))))))))))))))) : Z E YX42_load (d + 1) M [(0, vr (some (a0, 6, 0))), (1, vi l1), (2, vr (some (a2, 7, 0)))] 82 [] Q := by
  refine z_aload_n dX42_load_82 rfl rfl ?_
  refine z_aload_n dX42_load_83 rfl rfl ?_
  refine z_getr (r := (gr M a0 11)) dX42_load_84 fsX42_45_6 rfl ?_
  refine z_iload_n dX42_load_87 rfl rfl ?_
  obtain ⟨b1, m1, e1_, k⟩ := k
  refine Z.eqs (lv' := [(0, vr (some (a0, 6, 0))), (1, vi l1), (2, vr (some (a2, 7, 0)))]) (st' := [vi l1, vr (some (b1, 105, m1)), vr (some (a2, 7, 0))]) rfl (by rw [e1_] <;> rfl) ?_
  obtain ⟨b_, k⟩ := k
  refine z_lald dX42_load_88 b_ ?_
  obtain ⟨g_, k⟩ := k
  refine z_putl g_ dX42_load_89 (zfwN.w fwX42_120_7) ?_
  refine z_aload_n dX42_load_92 rfl rfl ?_
  refine z_aload_n dX42_load_93 rfl rfl ?_
  refine z_getr (r := (gr M a0 12)) dX42_load_94 fsX42_48_6 rfl ?_
  refine z_iload_n dX42_load_97 rfl rfl ?_
  obtain ⟨b2, m2, e2_, k⟩ := k
  refine Z.eqs (lv' := [(0, vr (some (a0, 6, 0))), (1, vi l1), (2, vr (some (a2, 7, 0)))]) (st' := [vi l1, vr (some (b2, 105, m2)), vr (some (a2, 7, 0))]) rfl (by rw [e2_] <;> rfl) ?_
  obtain ⟨b_, k⟩ := k
  refine z_lald dX42_load_98 b_ ?_
  obtain ⟨g_, k⟩ := k
  refine z_putl g_ dX42_load_99 (zfwN.w fwX42_123_7) ?_
  refine z_aload_n dX42_load_102 rfl rfl ?_
  refine z_aload_n dX42_load_103 rfl rfl ?_
  refine z_getr (r := (gr M a0 13)) dX42_load_104 fsX42_51_6 rfl ?_
  refine z_iload_n dX42_load_107 rfl rfl ?_
  obtain ⟨b3, m3, e3_, k⟩ := k
  refine Z.eqs (lv' := [(0, vr (some (a0, 6, 0))), (1, vi l1), (2, vr (some (a2, 7, 0)))]) (st' := [vi l1, vr (some (b3, 105, m3)), vr (some (a2, 7, 0))]) rfl (by rw [e3_] <;> rfl) ?_
  obtain ⟨b_, k⟩ := k
  refine z_lald dX42_load_108 b_ ?_
  obtain ⟨g_, k⟩ := k
  refine z_putl g_ dX42_load_109 (zfwN.w fwX42_125_7) ?_
  refine z_aload_n dX42_load_112 rfl rfl ?_
  refine z_aload_n dX42_load_113 rfl rfl ?_
  refine z_getr (r := (gr M a0 14)) dX42_load_114 fsX42_54_6 rfl ?_
  refine z_iload_n dX42_load_117 rfl rfl ?_
  obtain ⟨b4, m4, e4_, k⟩ := k
  refine Z.eqs (lv' := [(0, vr (some (a0, 6, 0))), (1, vi l1), (2, vr (some (a2, 7, 0)))]) (st' := [vi l1, vr (some (b4, 105, m4)), vr (some (a2, 7, 0))]) rfl (by rw [e4_] <;> rfl) ?_
  obtain ⟨b_, k⟩ := k
  refine z_lald dX42_load_118 b_ ?_
  obtain ⟨g_, k⟩ := k
  refine z_putl g_ dX42_load_119 (zfwN.w fwX42_127_7) ?_
  refine z_aload_n dX42_load_122 rfl rfl ?_
  refine z_aload_n dX42_load_123 rfl rfl ?_
  refine z_getr (r := (gr M a0 15)) dX42_load_124 fsX42_57_6 rfl ?_
  refine z_iload_n dX42_load_127 rfl rfl ?_
  obtain ⟨b5, m5, e5_, k⟩ := k
  refine Z.eqs (lv' := [(0, vr (some (a0, 6, 0))), (1, vi l1), (2, vr (some (a2, 7, 0)))]) (st' := [vi l1, vr (some (b5, 105, m5)), vr (some (a2, 7, 0))]) rfl (by rw [e5_] <;> rfl) ?_
  obtain ⟨b_, k⟩ := k
  refine z_lald dX42_load_128 b_ ?_
  obtain ⟨g_, k⟩ := k
  refine z_putl g_ dX42_load_129 (zfwN.w fwX42_129_7) ?_
  exact z_vret dX42_load_132 rfl k
/-! ScriptTypes$Table.heap(ILScriptTypes$Work;)V -/
theorem bX42_heap_0 : zdec cX42_heap 0 [(0, .aload_n 0, 1), (1, .getfield 69, 3), (4, .getfield 91, 3), (7, .aload_n 0, 1), (8, .getfield 69, 3), (11, .getfield 94, 3), (14, .iconst 1, 1), (15, .iadd, 1), (16, .imul, 1), (17, .istore_n 3, 1), (18, .iload_n 1, 1), (19, .iload_n 3, 1), (20, .imul, 1), (21, .istore 4, 2), (23, .iload_n 1, 1), (24, .aload_n 0, 1)] = true := by decide +kernel
theorem dX42_heap_0 : decode cX42_heap 0 = .ok (.aload_n 0, 1) := zdec_at bX42_heap_0 0 rfl
theorem dX42_heap_1 : decode cX42_heap 1 = .ok (.getfield 69, 3) := zdec_at bX42_heap_0 1 rfl
theorem dX42_heap_4 : decode cX42_heap 4 = .ok (.getfield 91, 3) := zdec_at bX42_heap_0 2 rfl
theorem dX42_heap_7 : decode cX42_heap 7 = .ok (.aload_n 0, 1) := zdec_at bX42_heap_0 3 rfl
theorem dX42_heap_8 : decode cX42_heap 8 = .ok (.getfield 69, 3) := zdec_at bX42_heap_0 4 rfl
theorem dX42_heap_11 : decode cX42_heap 11 = .ok (.getfield 94, 3) := zdec_at bX42_heap_0 5 rfl
theorem dX42_heap_14 : decode cX42_heap 14 = .ok (.iconst 1, 1) := zdec_at bX42_heap_0 6 rfl
theorem dX42_heap_15 : decode cX42_heap 15 = .ok (.iadd, 1) := zdec_at bX42_heap_0 7 rfl
theorem dX42_heap_16 : decode cX42_heap 16 = .ok (.imul, 1) := zdec_at bX42_heap_0 8 rfl
theorem dX42_heap_17 : decode cX42_heap 17 = .ok (.istore_n 3, 1) := zdec_at bX42_heap_0 9 rfl
theorem dX42_heap_18 : decode cX42_heap 18 = .ok (.iload_n 1, 1) := zdec_at bX42_heap_0 10 rfl
theorem dX42_heap_19 : decode cX42_heap 19 = .ok (.iload_n 3, 1) := zdec_at bX42_heap_0 11 rfl
theorem dX42_heap_20 : decode cX42_heap 20 = .ok (.imul, 1) := zdec_at bX42_heap_0 12 rfl
theorem dX42_heap_21 : decode cX42_heap 21 = .ok (.istore 4, 2) := zdec_at bX42_heap_0 13 rfl
theorem dX42_heap_23 : decode cX42_heap 23 = .ok (.iload_n 1, 1) := zdec_at bX42_heap_0 14 rfl
theorem dX42_heap_24 : decode cX42_heap 24 = .ok (.aload_n 0, 1) := zdec_at bX42_heap_0 15 rfl
theorem bX42_heap_25 : zdec cX42_heap 25 [(25, .getfield 69, 3), (28, .getfield 91, 3), (31, .imul, 1), (32, .istore 5, 2), (34, .aload_n 0, 1), (35, .getfield 10, 3), (38, .iload 4, 2), (40, .aload_n 2, 1), (41, .getfield 97, 3), (44, .iconst 0, 1), (45, .iload_n 3, 1), (46, .invokestatic 77, 3), (49, .aload_n 0, 1), (50, .getfield 16, 3), (53, .iload 4, 2), (55, .aload_n 2, 1)] = true := by decide +kernel
theorem dX42_heap_25 : decode cX42_heap 25 = .ok (.getfield 69, 3) := zdec_at bX42_heap_25 0 rfl
theorem dX42_heap_28 : decode cX42_heap 28 = .ok (.getfield 91, 3) := zdec_at bX42_heap_25 1 rfl
theorem dX42_heap_31 : decode cX42_heap 31 = .ok (.imul, 1) := zdec_at bX42_heap_25 2 rfl
theorem dX42_heap_32 : decode cX42_heap 32 = .ok (.istore 5, 2) := zdec_at bX42_heap_25 3 rfl
theorem dX42_heap_34 : decode cX42_heap 34 = .ok (.aload_n 0, 1) := zdec_at bX42_heap_25 4 rfl
theorem dX42_heap_35 : decode cX42_heap 35 = .ok (.getfield 10, 3) := zdec_at bX42_heap_25 5 rfl
theorem dX42_heap_38 : decode cX42_heap 38 = .ok (.iload 4, 2) := zdec_at bX42_heap_25 6 rfl
theorem dX42_heap_40 : decode cX42_heap 40 = .ok (.aload_n 2, 1) := zdec_at bX42_heap_25 7 rfl
theorem dX42_heap_41 : decode cX42_heap 41 = .ok (.getfield 97, 3) := zdec_at bX42_heap_25 8 rfl
theorem dX42_heap_44 : decode cX42_heap 44 = .ok (.iconst 0, 1) := zdec_at bX42_heap_25 9 rfl
theorem dX42_heap_45 : decode cX42_heap 45 = .ok (.iload_n 3, 1) := zdec_at bX42_heap_25 10 rfl
theorem dX42_heap_46 : decode cX42_heap 46 = .ok (.invokestatic 77, 3) := zdec_at bX42_heap_25 11 rfl
theorem dX42_heap_49 : decode cX42_heap 49 = .ok (.aload_n 0, 1) := zdec_at bX42_heap_25 12 rfl
theorem dX42_heap_50 : decode cX42_heap 50 = .ok (.getfield 16, 3) := zdec_at bX42_heap_25 13 rfl
theorem dX42_heap_53 : decode cX42_heap 53 = .ok (.iload 4, 2) := zdec_at bX42_heap_25 14 rfl
theorem dX42_heap_55 : decode cX42_heap 55 = .ok (.aload_n 2, 1) := zdec_at bX42_heap_25 15 rfl
theorem bX42_heap_56 : zdec cX42_heap 56 [(56, .getfield 104, 3), (59, .iconst 0, 1), (60, .iload_n 3, 1), (61, .invokestatic 77, 3), (64, .aload_n 0, 1), (65, .getfield 19, 3), (68, .iload 4, 2), (70, .aload_n 2, 1), (71, .getfield 105, 3), (74, .iconst 0, 1), (75, .iload_n 3, 1), (76, .invokestatic 77, 3), (79, .aload_n 0, 1), (80, .getfield 22, 3), (83, .iload 5, 2), (85, .aload_n 2, 1)] = true := by decide +kernel
theorem dX42_heap_56 : decode cX42_heap 56 = .ok (.getfield 104, 3) := zdec_at bX42_heap_56 0 rfl
theorem dX42_heap_59 : decode cX42_heap 59 = .ok (.iconst 0, 1) := zdec_at bX42_heap_56 1 rfl
theorem dX42_heap_60 : decode cX42_heap 60 = .ok (.iload_n 3, 1) := zdec_at bX42_heap_56 2 rfl
theorem dX42_heap_61 : decode cX42_heap 61 = .ok (.invokestatic 77, 3) := zdec_at bX42_heap_56 3 rfl
theorem dX42_heap_64 : decode cX42_heap 64 = .ok (.aload_n 0, 1) := zdec_at bX42_heap_56 4 rfl
theorem dX42_heap_65 : decode cX42_heap 65 = .ok (.getfield 19, 3) := zdec_at bX42_heap_56 5 rfl
theorem dX42_heap_68 : decode cX42_heap 68 = .ok (.iload 4, 2) := zdec_at bX42_heap_56 6 rfl
theorem dX42_heap_70 : decode cX42_heap 70 = .ok (.aload_n 2, 1) := zdec_at bX42_heap_56 7 rfl
theorem dX42_heap_71 : decode cX42_heap 71 = .ok (.getfield 105, 3) := zdec_at bX42_heap_56 8 rfl
theorem dX42_heap_74 : decode cX42_heap 74 = .ok (.iconst 0, 1) := zdec_at bX42_heap_56 9 rfl
theorem dX42_heap_75 : decode cX42_heap 75 = .ok (.iload_n 3, 1) := zdec_at bX42_heap_56 10 rfl
theorem dX42_heap_76 : decode cX42_heap 76 = .ok (.invokestatic 77, 3) := zdec_at bX42_heap_56 11 rfl
theorem dX42_heap_79 : decode cX42_heap 79 = .ok (.aload_n 0, 1) := zdec_at bX42_heap_56 12 rfl
theorem dX42_heap_80 : decode cX42_heap 80 = .ok (.getfield 22, 3) := zdec_at bX42_heap_56 13 rfl
theorem dX42_heap_83 : decode cX42_heap 83 = .ok (.iload 5, 2) := zdec_at bX42_heap_56 14 rfl
theorem dX42_heap_85 : decode cX42_heap 85 = .ok (.aload_n 2, 1) := zdec_at bX42_heap_56 15 rfl
theorem bX42_heap_86 : zdec cX42_heap 86 [(86, .getfield 109, 3), (89, .iconst 0, 1), (90, .aload_n 0, 1), (91, .getfield 69, 3), (94, .getfield 91, 3), (97, .invokestatic 77, 3), (100, .aload_n 0, 1), (101, .getfield 25, 3), (104, .iload 5, 2), (106, .aload_n 2, 1), (107, .getfield 110, 3), (110, .iconst 0, 1), (111, .aload_n 0, 1), (112, .getfield 69, 3), (115, .getfield 91, 3), (118, .invokestatic 77, 3)] = true := by decide +kernel
theorem dX42_heap_86 : decode cX42_heap 86 = .ok (.getfield 109, 3) := zdec_at bX42_heap_86 0 rfl
theorem dX42_heap_89 : decode cX42_heap 89 = .ok (.iconst 0, 1) := zdec_at bX42_heap_86 1 rfl
theorem dX42_heap_90 : decode cX42_heap 90 = .ok (.aload_n 0, 1) := zdec_at bX42_heap_86 2 rfl
theorem dX42_heap_91 : decode cX42_heap 91 = .ok (.getfield 69, 3) := zdec_at bX42_heap_86 3 rfl
theorem dX42_heap_94 : decode cX42_heap 94 = .ok (.getfield 91, 3) := zdec_at bX42_heap_86 4 rfl
theorem dX42_heap_97 : decode cX42_heap 97 = .ok (.invokestatic 77, 3) := zdec_at bX42_heap_86 5 rfl
theorem dX42_heap_100 : decode cX42_heap 100 = .ok (.aload_n 0, 1) := zdec_at bX42_heap_86 6 rfl
theorem dX42_heap_101 : decode cX42_heap 101 = .ok (.getfield 25, 3) := zdec_at bX42_heap_86 7 rfl
theorem dX42_heap_104 : decode cX42_heap 104 = .ok (.iload 5, 2) := zdec_at bX42_heap_86 8 rfl
theorem dX42_heap_106 : decode cX42_heap 106 = .ok (.aload_n 2, 1) := zdec_at bX42_heap_86 9 rfl
theorem dX42_heap_107 : decode cX42_heap 107 = .ok (.getfield 110, 3) := zdec_at bX42_heap_86 10 rfl
theorem dX42_heap_110 : decode cX42_heap 110 = .ok (.iconst 0, 1) := zdec_at bX42_heap_86 11 rfl
theorem dX42_heap_111 : decode cX42_heap 111 = .ok (.aload_n 0, 1) := zdec_at bX42_heap_86 12 rfl
theorem dX42_heap_112 : decode cX42_heap 112 = .ok (.getfield 69, 3) := zdec_at bX42_heap_86 13 rfl
theorem dX42_heap_115 : decode cX42_heap 115 = .ok (.getfield 91, 3) := zdec_at bX42_heap_86 14 rfl
theorem dX42_heap_118 : decode cX42_heap 118 = .ok (.invokestatic 77, 3) := zdec_at bX42_heap_86 15 rfl
theorem bX42_heap_121 : zdec cX42_heap 121 [(121, .aload_n 0, 1), (122, .getfield 28, 3), (125, .iload 5, 2), (127, .aload_n 2, 1), (128, .getfield 111, 3), (131, .iconst 0, 1), (132, .aload_n 0, 1), (133, .getfield 69, 3), (136, .getfield 91, 3), (139, .invokestatic 77, 3), (142, .aload_n 0, 1), (143, .getfield 31, 3), (146, .iload 5, 2), (148, .aload_n 2, 1), (149, .getfield 112, 3), (152, .iconst 0, 1)] = true := by decide +kernel
theorem dX42_heap_121 : decode cX42_heap 121 = .ok (.aload_n 0, 1) := zdec_at bX42_heap_121 0 rfl
theorem dX42_heap_122 : decode cX42_heap 122 = .ok (.getfield 28, 3) := zdec_at bX42_heap_121 1 rfl
theorem dX42_heap_125 : decode cX42_heap 125 = .ok (.iload 5, 2) := zdec_at bX42_heap_121 2 rfl
theorem dX42_heap_127 : decode cX42_heap 127 = .ok (.aload_n 2, 1) := zdec_at bX42_heap_121 3 rfl
theorem dX42_heap_128 : decode cX42_heap 128 = .ok (.getfield 111, 3) := zdec_at bX42_heap_121 4 rfl
theorem dX42_heap_131 : decode cX42_heap 131 = .ok (.iconst 0, 1) := zdec_at bX42_heap_121 5 rfl
theorem dX42_heap_132 : decode cX42_heap 132 = .ok (.aload_n 0, 1) := zdec_at bX42_heap_121 6 rfl
theorem dX42_heap_133 : decode cX42_heap 133 = .ok (.getfield 69, 3) := zdec_at bX42_heap_121 7 rfl
theorem dX42_heap_136 : decode cX42_heap 136 = .ok (.getfield 91, 3) := zdec_at bX42_heap_121 8 rfl
theorem dX42_heap_139 : decode cX42_heap 139 = .ok (.invokestatic 77, 3) := zdec_at bX42_heap_121 9 rfl
theorem dX42_heap_142 : decode cX42_heap 142 = .ok (.aload_n 0, 1) := zdec_at bX42_heap_121 10 rfl
theorem dX42_heap_143 : decode cX42_heap 143 = .ok (.getfield 31, 3) := zdec_at bX42_heap_121 11 rfl
theorem dX42_heap_146 : decode cX42_heap 146 = .ok (.iload 5, 2) := zdec_at bX42_heap_121 12 rfl
theorem dX42_heap_148 : decode cX42_heap 148 = .ok (.aload_n 2, 1) := zdec_at bX42_heap_121 13 rfl
theorem dX42_heap_149 : decode cX42_heap 149 = .ok (.getfield 112, 3) := zdec_at bX42_heap_121 14 rfl
theorem dX42_heap_152 : decode cX42_heap 152 = .ok (.iconst 0, 1) := zdec_at bX42_heap_121 15 rfl
theorem bX42_heap_153 : zdec cX42_heap 153 [(153, .aload_n 0, 1), (154, .getfield 69, 3), (157, .getfield 91, 3), (160, .invokestatic 77, 3), (163, .iconst 0, 1), (164, .istore 6, 2), (166, .iload 6, 2), (168, .aload_n 0, 1), (169, .getfield 69, 3), (172, .getfield 91, 3), (175, .if_icmp .ge 63, 3), (178, .aload_n 2, 1), (179, .getfield 131, 3), (182, .iload 6, 2), (184, .aload_n 0, 1), (185, .getfield 34, 3)] = true := by decide +kernel
theorem dX42_heap_153 : decode cX42_heap 153 = .ok (.aload_n 0, 1) := zdec_at bX42_heap_153 0 rfl
theorem dX42_heap_154 : decode cX42_heap 154 = .ok (.getfield 69, 3) := zdec_at bX42_heap_153 1 rfl
theorem dX42_heap_157 : decode cX42_heap 157 = .ok (.getfield 91, 3) := zdec_at bX42_heap_153 2 rfl
theorem dX42_heap_160 : decode cX42_heap 160 = .ok (.invokestatic 77, 3) := zdec_at bX42_heap_153 3 rfl
theorem dX42_heap_163 : decode cX42_heap 163 = .ok (.iconst 0, 1) := zdec_at bX42_heap_153 4 rfl
theorem dX42_heap_164 : decode cX42_heap 164 = .ok (.istore 6, 2) := zdec_at bX42_heap_153 5 rfl
theorem dX42_heap_166 : decode cX42_heap 166 = .ok (.iload 6, 2) := zdec_at bX42_heap_153 6 rfl
theorem dX42_heap_168 : decode cX42_heap 168 = .ok (.aload_n 0, 1) := zdec_at bX42_heap_153 7 rfl
theorem dX42_heap_169 : decode cX42_heap 169 = .ok (.getfield 69, 3) := zdec_at bX42_heap_153 8 rfl
theorem dX42_heap_172 : decode cX42_heap 172 = .ok (.getfield 91, 3) := zdec_at bX42_heap_153 9 rfl
theorem dX42_heap_175 : decode cX42_heap 175 = .ok (.if_icmp .ge 63, 3) := zdec_at bX42_heap_153 10 rfl
theorem dX42_heap_178 : decode cX42_heap 178 = .ok (.aload_n 2, 1) := zdec_at bX42_heap_153 11 rfl
theorem dX42_heap_179 : decode cX42_heap 179 = .ok (.getfield 131, 3) := zdec_at bX42_heap_153 12 rfl
theorem dX42_heap_182 : decode cX42_heap 182 = .ok (.iload 6, 2) := zdec_at bX42_heap_153 13 rfl
theorem dX42_heap_184 : decode cX42_heap 184 = .ok (.aload_n 0, 1) := zdec_at bX42_heap_153 14 rfl
theorem dX42_heap_185 : decode cX42_heap 185 = .ok (.getfield 34, 3) := zdec_at bX42_heap_153 15 rfl
theorem bX42_heap_188 : zdec cX42_heap 188 [(188, .iload 5, 2), (190, .iload 6, 2), (192, .iadd, 1), (193, .baload, 1), (194, .iconst 1, 1), (195, .iand, 1), (196, .ifCond .eq 7, 3), (199, .iconst 1, 1), (200, .goto 4, 3), (203, .iconst 0, 1), (204, .bastore, 1), (205, .aload_n 2, 1), (206, .getfield 135, 3), (209, .iload 6, 2), (211, .aload_n 0, 1), (212, .getfield 34, 3)] = true := by decide +kernel
theorem dX42_heap_188 : decode cX42_heap 188 = .ok (.iload 5, 2) := zdec_at bX42_heap_188 0 rfl
theorem dX42_heap_190 : decode cX42_heap 190 = .ok (.iload 6, 2) := zdec_at bX42_heap_188 1 rfl
theorem dX42_heap_192 : decode cX42_heap 192 = .ok (.iadd, 1) := zdec_at bX42_heap_188 2 rfl
theorem dX42_heap_193 : decode cX42_heap 193 = .ok (.baload, 1) := zdec_at bX42_heap_188 3 rfl
theorem dX42_heap_194 : decode cX42_heap 194 = .ok (.iconst 1, 1) := zdec_at bX42_heap_188 4 rfl
theorem dX42_heap_195 : decode cX42_heap 195 = .ok (.iand, 1) := zdec_at bX42_heap_188 5 rfl
theorem dX42_heap_196 : decode cX42_heap 196 = .ok (.ifCond .eq 7, 3) := zdec_at bX42_heap_188 6 rfl
theorem dX42_heap_199 : decode cX42_heap 199 = .ok (.iconst 1, 1) := zdec_at bX42_heap_188 7 rfl
theorem dX42_heap_200 : decode cX42_heap 200 = .ok (.goto 4, 3) := zdec_at bX42_heap_188 8 rfl
theorem dX42_heap_203 : decode cX42_heap 203 = .ok (.iconst 0, 1) := zdec_at bX42_heap_188 9 rfl
theorem dX42_heap_204 : decode cX42_heap 204 = .ok (.bastore, 1) := zdec_at bX42_heap_188 10 rfl
theorem dX42_heap_205 : decode cX42_heap 205 = .ok (.aload_n 2, 1) := zdec_at bX42_heap_188 11 rfl
theorem dX42_heap_206 : decode cX42_heap 206 = .ok (.getfield 135, 3) := zdec_at bX42_heap_188 12 rfl
theorem dX42_heap_209 : decode cX42_heap 209 = .ok (.iload 6, 2) := zdec_at bX42_heap_188 13 rfl
theorem dX42_heap_211 : decode cX42_heap 211 = .ok (.aload_n 0, 1) := zdec_at bX42_heap_188 14 rfl
theorem dX42_heap_212 : decode cX42_heap 212 = .ok (.getfield 34, 3) := zdec_at bX42_heap_188 15 rfl
theorem bX42_heap_215 : zdec cX42_heap 215 [(215, .iload 5, 2), (217, .iload 6, 2), (219, .iadd, 1), (220, .baload, 1), (221, .iconst 2, 1), (222, .iand, 1), (223, .ifCond .eq 7, 3), (226, .iconst 1, 1), (227, .goto 4, 3), (230, .iconst 0, 1), (231, .bastore, 1), (232, .iinc 6 1, 3), (235, .goto (-69), 3), (238, .return_, 1)] = true := by decide +kernel
theorem dX42_heap_215 : decode cX42_heap 215 = .ok (.iload 5, 2) := zdec_at bX42_heap_215 0 rfl
theorem dX42_heap_217 : decode cX42_heap 217 = .ok (.iload 6, 2) := zdec_at bX42_heap_215 1 rfl
theorem dX42_heap_219 : decode cX42_heap 219 = .ok (.iadd, 1) := zdec_at bX42_heap_215 2 rfl
theorem dX42_heap_220 : decode cX42_heap 220 = .ok (.baload, 1) := zdec_at bX42_heap_215 3 rfl
theorem dX42_heap_221 : decode cX42_heap 221 = .ok (.iconst 2, 1) := zdec_at bX42_heap_215 4 rfl
theorem dX42_heap_222 : decode cX42_heap 222 = .ok (.iand, 1) := zdec_at bX42_heap_215 5 rfl
theorem dX42_heap_223 : decode cX42_heap 223 = .ok (.ifCond .eq 7, 3) := zdec_at bX42_heap_215 6 rfl
theorem dX42_heap_226 : decode cX42_heap 226 = .ok (.iconst 1, 1) := zdec_at bX42_heap_215 7 rfl
theorem dX42_heap_227 : decode cX42_heap 227 = .ok (.goto 4, 3) := zdec_at bX42_heap_215 8 rfl
theorem dX42_heap_230 : decode cX42_heap 230 = .ok (.iconst 0, 1) := zdec_at bX42_heap_215 9 rfl
theorem dX42_heap_231 : decode cX42_heap 231 = .ok (.bastore, 1) := zdec_at bX42_heap_215 10 rfl
theorem dX42_heap_232 : decode cX42_heap 232 = .ok (.iinc 6 1, 3) := zdec_at bX42_heap_215 11 rfl
theorem dX42_heap_235 : decode cX42_heap 235 = .ok (.goto (-69), 3) := zdec_at bX42_heap_215 12 rfl
theorem dX42_heap_238 : decode cX42_heap 238 = .ok (.return_, 1) := zdec_at bX42_heap_215 13 rfl
theorem sX42_heap_0 {E : zE} {d : Nat} {Q : zO → zM → Prop} (M : zM) (a0 : Nat) (l1 : Int32) (r2 : Option zP) (k : ∃ b1 : Nat, (gr M a0 0) = some (b1, 0, 0) ∧ (∃ b2 : Nat, (gr M a0 0) = some (b2, 0, 0) ∧ (∃ b3 : Nat, (gr M a0 0) = some (b3, 0, 0) ∧ (∃ b4 : Nat, r2 = some (b4, 7, 0) ∧ (∃ b5 m5 : Nat, (gr M b4 1) = some (b5, 105, m5) ∧ (∃ b6 m6 : Nat, (gr M a0 1) = some (b6, 105, m6) ∧ (16 ≤ b5 ∧ ((1 ≤ d) ∧ (((¬ (l1 * ((gi M b1 11) * ((gi M b2 1) + (1 : Int32)))) < 0 ∧ ¬ (0 : Int32) < 0 ∧ ¬ ((gi M b1 11) * ((gi M b2 1) + (1 : Int32))) < 0) ∧ ((l1 * ((gi M b1 11) * ((gi M b2 1) + (1 : Int32))))).toNatClampNeg + (((gi M b1 11) * ((gi M b2 1) + (1 : Int32)))).toNatClampNeg ≤ m6 ∧ ((0 : Int32)).toNatClampNeg + (((gi M b1 11) * ((gi M b2 1) + (1 : Int32)))).toNatClampNeg ≤ m5) ∧ (Z E YX42_heap d (cpl M b6 ((l1 * ((gi M b1 11) * ((gi M b2 1) + (1 : Int32))))).toNatClampNeg b5 ((0 : Int32)).toNatClampNeg (((gi M b1 11) * ((gi M b2 1) + (1 : Int32)))).toNatClampNeg) [(0, vr (some (a0, 6, 0))), (2, vr (some (b4, 7, 0))), (3, vi ((gi M b1 11) * ((gi M b2 1) + (1 : Int32)))), (4, vi (l1 * ((gi M b1 11) * ((gi M b2 1) + (1 : Int32))))), (5, vi (l1 * (gi M b3 11)))] 49 [] Q)))))))))) : Z E YX42_heap d M [(0, vr (some (a0, 6, 0))), (1, vi l1), (2, vr r2)] 0 [] Q := by
  refine z_aload_n dX42_heap_0 rfl rfl ?_
  refine z_getr (r := (gr M a0 0)) dX42_heap_1 fsX42_69_6 rfl ?_
  obtain ⟨b1, e1_, k⟩ := k
  refine Z.eqs (lv' := [(0, vr (some (a0, 6, 0))), (1, vi l1), (2, vr r2)]) (st' := [vr (some (b1, 0, 0))]) rfl (by rw [e1_] <;> rfl) ?_
  refine z_geti dX42_heap_4 fsX42_91_0 ?_
  refine z_aload_n dX42_heap_7 rfl rfl ?_
  refine z_getr (r := (gr M a0 0)) dX42_heap_8 fsX42_69_6 rfl ?_
  obtain ⟨b2, e2_, k⟩ := k
  refine Z.eqs (lv' := [(0, vr (some (a0, 6, 0))), (1, vi l1), (2, vr r2)]) (st' := [vr (some (b2, 0, 0)), vi (gi M b1 11)]) rfl (by rw [e2_] <;> rfl) ?_
  refine z_geti dX42_heap_11 fsX42_94_0 ?_
  refine z_iconst (v := 1) dX42_heap_14 rfl ?_
  refine z_iadd dX42_heap_15 ?_
  refine z_imul dX42_heap_16 ?_
  refine z_ist_n dX42_heap_17 rfl (by decide) (lv' := [(0, vr (some (a0, 6, 0))), (1, vi l1), (2, vr r2), (3, vi ((gi M b1 11) * ((gi M b2 1) + (1 : Int32))))]) rfl ?_
  refine z_iload_n dX42_heap_18 rfl rfl ?_
  refine z_iload_n dX42_heap_19 rfl rfl ?_
  refine z_imul dX42_heap_20 ?_
  refine z_ist dX42_heap_21 (by decide) (lv' := [(0, vr (some (a0, 6, 0))), (1, vi l1), (2, vr r2), (3, vi ((gi M b1 11) * ((gi M b2 1) + (1 : Int32)))), (4, vi (l1 * ((gi M b1 11) * ((gi M b2 1) + (1 : Int32)))))]) rfl ?_
  refine z_iload_n dX42_heap_23 rfl rfl ?_
  refine z_aload_n dX42_heap_24 rfl rfl ?_
  refine z_getr (r := (gr M a0 0)) dX42_heap_25 fsX42_69_6 rfl ?_
  obtain ⟨b3, e3_, k⟩ := k
  refine Z.eqs (lv' := [(0, vr (some (a0, 6, 0))), (1, vi l1), (2, vr r2), (3, vi ((gi M b1 11) * ((gi M b2 1) + (1 : Int32)))), (4, vi (l1 * ((gi M b1 11) * ((gi M b2 1) + (1 : Int32)))))]) (st' := [vr (some (b3, 0, 0)), vi l1]) rfl (by rw [e3_] <;> rfl) ?_
  refine z_geti dX42_heap_28 fsX42_91_0 ?_
  refine z_imul dX42_heap_31 ?_
  refine z_ist dX42_heap_32 (by decide) (lv' := [(0, vr (some (a0, 6, 0))), (1, vi l1), (2, vr r2), (3, vi ((gi M b1 11) * ((gi M b2 1) + (1 : Int32)))), (4, vi (l1 * ((gi M b1 11) * ((gi M b2 1) + (1 : Int32))))), (5, vi (l1 * (gi M b3 11)))]) rfl ?_
  refine z_aload_n dX42_heap_34 rfl rfl ?_
  refine z_getr (r := (gr M a0 1)) dX42_heap_35 fsX42_10_6 rfl ?_
  refine z_iload dX42_heap_38 rfl ?_
  refine z_aload_n dX42_heap_40 rfl rfl ?_
  obtain ⟨b4, e4_, k⟩ := k
  refine Z.eqs (lv' := [(0, vr (some (a0, 6, 0))), (1, vi l1), (2, vr (some (b4, 7, 0))), (3, vi ((gi M b1 11) * ((gi M b2 1) + (1 : Int32)))), (4, vi (l1 * ((gi M b1 11) * ((gi M b2 1) + (1 : Int32))))), (5, vi (l1 * (gi M b3 11)))]) (st' := [vr (some (b4, 7, 0)), vi (l1 * ((gi M b1 11) * ((gi M b2 1) + (1 : Int32)))), vr (gr M a0 1)]) (by rw [e4_] <;> rfl) (by rw [e4_] <;> rfl) ?_
  refine z_getr (r := (gr M b4 1)) dX42_heap_41 fsX42_97_7 rfl ?_
  refine z_iconst (v := 0) dX42_heap_44 rfl ?_
  refine z_iload_n dX42_heap_45 rfl rfl ?_
  obtain ⟨b5, m5, e5_, k⟩ := k
  refine Z.eqs (lv' := [(0, vr (some (a0, 6, 0))), (1, vi l1), (2, vr (some (b4, 7, 0))), (3, vi ((gi M b1 11) * ((gi M b2 1) + (1 : Int32)))), (4, vi (l1 * ((gi M b1 11) * ((gi M b2 1) + (1 : Int32))))), (5, vi (l1 * (gi M b3 11)))]) (st' := [vi ((gi M b1 11) * ((gi M b2 1) + (1 : Int32))), vi (0 : Int32), vr (some (b5, 105, m5)), vi (l1 * ((gi M b1 11) * ((gi M b2 1) + (1 : Int32)))), vr (gr M a0 1)]) rfl (by rw [e5_] <;> rfl) ?_
  obtain ⟨b6, m6, e6_, k⟩ := k
  refine Z.eqs (lv' := [(0, vr (some (a0, 6, 0))), (1, vi l1), (2, vr (some (b4, 7, 0))), (3, vi ((gi M b1 11) * ((gi M b2 1) + (1 : Int32)))), (4, vi (l1 * ((gi M b1 11) * ((gi M b2 1) + (1 : Int32))))), (5, vi (l1 * (gi M b3 11)))]) (st' := [vi ((gi M b1 11) * ((gi M b2 1) + (1 : Int32))), vi (0 : Int32), vr (some (b5, 105, m5)), vi (l1 * ((gi M b1 11) * ((gi M b2 1) + (1 : Int32)))), vr (some (b6, 105, m6))]) rfl (by rw [e6_] <;> rfl) ?_
  obtain ⟨g_, k⟩ := k
  obtain ⟨d_, k⟩ := k
  obtain ⟨b_, k⟩ := k
  refine z_copyl g_ dX42_heap_46 q3135 d_ (Nat.le_of_ble_eq_true rfl) b_.1.1 b_.1.2.1 b_.1.2.2 b_.2.1 b_.2.2 ?_
  refine Z.pick [0, 2, 3, 4, 5] rfl ?_
  exact k
theorem sX42_heap_49 {E : zE} {d : Nat} {Q : zO → zM → Prop} (M : zM) (a0 : Nat) (a2 : Nat) (l3 : Int32) (l4 : Int32) (l5 : Int32) (k : ∃ b1 m1 : Nat, (gr M a2 2) = some (b1, 105, m1) ∧ (∃ b2 m2 : Nat, (gr M a0 2) = some (b2, 105, m2) ∧ (16 ≤ b1 ∧ ((1 ≤ d) ∧ (((¬ l4 < 0 ∧ ¬ (0 : Int32) < 0 ∧ ¬ l3 < 0) ∧ (l4).toNatClampNeg + (l3).toNatClampNeg ≤ m2 ∧ ((0 : Int32)).toNatClampNeg + (l3).toNatClampNeg ≤ m1) ∧ (Z E YX42_heap d (cpl M b2 (l4).toNatClampNeg b1 ((0 : Int32)).toNatClampNeg (l3).toNatClampNeg) [(0, vr (some (a0, 6, 0))), (2, vr (some (a2, 7, 0))), (3, vi l3), (4, vi l4), (5, vi l5)] 64 [] Q)))))) : Z E YX42_heap d M [(0, vr (some (a0, 6, 0))), (2, vr (some (a2, 7, 0))), (3, vi l3), (4, vi l4), (5, vi l5)] 49 [] Q := by
  refine z_aload_n dX42_heap_49 rfl rfl ?_
  refine z_getr (r := (gr M a0 2)) dX42_heap_50 fsX42_16_6 rfl ?_
  refine z_iload dX42_heap_53 rfl ?_
  refine z_aload_n dX42_heap_55 rfl rfl ?_
  refine z_getr (r := (gr M a2 2)) dX42_heap_56 fsX42_104_7 rfl ?_
  refine z_iconst (v := 0) dX42_heap_59 rfl ?_
  refine z_iload_n dX42_heap_60 rfl rfl ?_
  obtain ⟨b1, m1, e1_, k⟩ := k
  refine Z.eqs (lv' := [(0, vr (some (a0, 6, 0))), (2, vr (some (a2, 7, 0))), (3, vi l3), (4, vi l4), (5, vi l5)]) (st' := [vi l3, vi (0 : Int32), vr (some (b1, 105, m1)), vi l4, vr (gr M a0 2)]) rfl (by rw [e1_] <;> rfl) ?_
  obtain ⟨b2, m2, e2_, k⟩ := k
  refine Z.eqs (lv' := [(0, vr (some (a0, 6, 0))), (2, vr (some (a2, 7, 0))), (3, vi l3), (4, vi l4), (5, vi l5)]) (st' := [vi l3, vi (0 : Int32), vr (some (b1, 105, m1)), vi l4, vr (some (b2, 105, m2))]) rfl (by rw [e2_] <;> rfl) ?_
  obtain ⟨g_, k⟩ := k
  obtain ⟨d_, k⟩ := k
  obtain ⟨b_, k⟩ := k
  refine z_copyl g_ dX42_heap_61 q3135 d_ (Nat.le_of_ble_eq_true rfl) b_.1.1 b_.1.2.1 b_.1.2.2 b_.2.1 b_.2.2 ?_
  exact k
theorem sX42_heap_64 {E : zE} {d : Nat} {Q : zO → zM → Prop} (M : zM) (a0 : Nat) (a2 : Nat) (l3 : Int32) (l4 : Int32) (l5 : Int32) (k : ∃ b1 m1 : Nat, (gr M a2 3) = some (b1, 105, m1) ∧ (∃ b2 m2 : Nat, (gr M a0 3) = some (b2, 105, m2) ∧ (16 ≤ b1 ∧ ((1 ≤ d) ∧ (((¬ l4 < 0 ∧ ¬ (0 : Int32) < 0 ∧ ¬ l3 < 0) ∧ (l4).toNatClampNeg + (l3).toNatClampNeg ≤ m2 ∧ ((0 : Int32)).toNatClampNeg + (l3).toNatClampNeg ≤ m1) ∧ (Z E YX42_heap d (cpl M b2 (l4).toNatClampNeg b1 ((0 : Int32)).toNatClampNeg (l3).toNatClampNeg) [(0, vr (some (a0, 6, 0))), (2, vr (some (a2, 7, 0))), (5, vi l5)] 79 [] Q)))))) : Z E YX42_heap d M [(0, vr (some (a0, 6, 0))), (2, vr (some (a2, 7, 0))), (3, vi l3), (4, vi l4), (5, vi l5)] 64 [] Q := by
  refine z_aload_n dX42_heap_64 rfl rfl ?_
  refine z_getr (r := (gr M a0 3)) dX42_heap_65 fsX42_19_6 rfl ?_
  refine z_iload dX42_heap_68 rfl ?_
  refine z_aload_n dX42_heap_70 rfl rfl ?_
  refine z_getr (r := (gr M a2 3)) dX42_heap_71 fsX42_105_7 rfl ?_
  refine z_iconst (v := 0) dX42_heap_74 rfl ?_
  refine z_iload_n dX42_heap_75 rfl rfl ?_
  obtain ⟨b1, m1, e1_, k⟩ := k
  refine Z.eqs (lv' := [(0, vr (some (a0, 6, 0))), (2, vr (some (a2, 7, 0))), (3, vi l3), (4, vi l4), (5, vi l5)]) (st' := [vi l3, vi (0 : Int32), vr (some (b1, 105, m1)), vi l4, vr (gr M a0 3)]) rfl (by rw [e1_] <;> rfl) ?_
  obtain ⟨b2, m2, e2_, k⟩ := k
  refine Z.eqs (lv' := [(0, vr (some (a0, 6, 0))), (2, vr (some (a2, 7, 0))), (3, vi l3), (4, vi l4), (5, vi l5)]) (st' := [vi l3, vi (0 : Int32), vr (some (b1, 105, m1)), vi l4, vr (some (b2, 105, m2))]) rfl (by rw [e2_] <;> rfl) ?_
  obtain ⟨g_, k⟩ := k
  obtain ⟨d_, k⟩ := k
  obtain ⟨b_, k⟩ := k
  refine z_copyl g_ dX42_heap_76 q3135 d_ (Nat.le_of_ble_eq_true rfl) b_.1.1 b_.1.2.1 b_.1.2.2 b_.2.1 b_.2.2 ?_
  refine Z.pick [0, 1, 4] rfl ?_
  exact k
theorem sX42_heap_79 {E : zE} {d : Nat} {Q : zO → zM → Prop} (M : zM) (a0 : Nat) (a2 : Nat) (l5 : Int32) (k : ∃ b1 : Nat, (gr M a0 0) = some (b1, 0, 0) ∧ (∃ b2 m2 : Nat, (gr M a2 4) = some (b2, 105, m2) ∧ (∃ b3 m3 : Nat, (gr M a0 4) = some (b3, 105, m3) ∧ (16 ≤ b2 ∧ ((1 ≤ d) ∧ (((¬ l5 < 0 ∧ ¬ (0 : Int32) < 0 ∧ ¬ (gi M b1 11) < 0) ∧ (l5).toNatClampNeg + ((gi M b1 11)).toNatClampNeg ≤ m3 ∧ ((0 : Int32)).toNatClampNeg + ((gi M b1 11)).toNatClampNeg ≤ m2) ∧ (Z E YX42_heap d (cpl M b3 (l5).toNatClampNeg b2 ((0 : Int32)).toNatClampNeg ((gi M b1 11)).toNatClampNeg) [(0, vr (some (a0, 6, 0))), (2, vr (some (a2, 7, 0))), (5, vi l5)] 100 [] Q))))))) : Z E YX42_heap d M [(0, vr (some (a0, 6, 0))), (2, vr (some (a2, 7, 0))), (5, vi l5)] 79 [] Q := by
  refine z_aload_n dX42_heap_79 rfl rfl ?_
  refine z_getr (r := (gr M a0 4)) dX42_heap_80 fsX42_22_6 rfl ?_
  refine z_iload dX42_heap_83 rfl ?_
  refine z_aload_n dX42_heap_85 rfl rfl ?_
  refine z_getr (r := (gr M a2 4)) dX42_heap_86 fsX42_109_7 rfl ?_
  refine z_iconst (v := 0) dX42_heap_89 rfl ?_
  refine z_aload_n dX42_heap_90 rfl rfl ?_
  refine z_getr (r := (gr M a0 0)) dX42_heap_91 fsX42_69_6 rfl ?_
  obtain ⟨b1, e1_, k⟩ := k
  refine Z.eqs (lv' := [(0, vr (some (a0, 6, 0))), (2, vr (some (a2, 7, 0))), (5, vi l5)]) (st' := [vr (some (b1, 0, 0)), vi (0 : Int32), vr (gr M a2 4), vi l5, vr (gr M a0 4)]) rfl (by rw [e1_] <;> rfl) ?_
  refine z_geti dX42_heap_94 fsX42_91_0 ?_
  obtain ⟨b2, m2, e2_, k⟩ := k
  refine Z.eqs (lv' := [(0, vr (some (a0, 6, 0))), (2, vr (some (a2, 7, 0))), (5, vi l5)]) (st' := [vi (gi M b1 11), vi (0 : Int32), vr (some (b2, 105, m2)), vi l5, vr (gr M a0 4)]) rfl (by rw [e2_] <;> rfl) ?_
  obtain ⟨b3, m3, e3_, k⟩ := k
  refine Z.eqs (lv' := [(0, vr (some (a0, 6, 0))), (2, vr (some (a2, 7, 0))), (5, vi l5)]) (st' := [vi (gi M b1 11), vi (0 : Int32), vr (some (b2, 105, m2)), vi l5, vr (some (b3, 105, m3))]) rfl (by rw [e3_] <;> rfl) ?_
  obtain ⟨g_, k⟩ := k
  obtain ⟨d_, k⟩ := k
  obtain ⟨b_, k⟩ := k
  refine z_copyl g_ dX42_heap_97 q3135 d_ (Nat.le_of_ble_eq_true rfl) b_.1.1 b_.1.2.1 b_.1.2.2 b_.2.1 b_.2.2 ?_
  exact k
theorem sX42_heap_100 {E : zE} {d : Nat} {Q : zO → zM → Prop} (M : zM) (a0 : Nat) (a2 : Nat) (l5 : Int32) (k : ∃ b1 : Nat, (gr M a0 0) = some (b1, 0, 0) ∧ (∃ b2 m2 : Nat, (gr M a2 5) = some (b2, 105, m2) ∧ (∃ b3 m3 : Nat, (gr M a0 5) = some (b3, 105, m3) ∧ (16 ≤ b2 ∧ ((1 ≤ d) ∧ (((¬ l5 < 0 ∧ ¬ (0 : Int32) < 0 ∧ ¬ (gi M b1 11) < 0) ∧ (l5).toNatClampNeg + ((gi M b1 11)).toNatClampNeg ≤ m3 ∧ ((0 : Int32)).toNatClampNeg + ((gi M b1 11)).toNatClampNeg ≤ m2) ∧ (Z E YX42_heap d (cpl M b3 (l5).toNatClampNeg b2 ((0 : Int32)).toNatClampNeg ((gi M b1 11)).toNatClampNeg) [(0, vr (some (a0, 6, 0))), (2, vr (some (a2, 7, 0))), (5, vi l5)] 121 [] Q))))))) : Z E YX42_heap d M [(0, vr (some (a0, 6, 0))), (2, vr (some (a2, 7, 0))), (5, vi l5)] 100 [] Q := by
  refine z_aload_n dX42_heap_100 rfl rfl ?_
  refine z_getr (r := (gr M a0 5)) dX42_heap_101 fsX42_25_6 rfl ?_
  refine z_iload dX42_heap_104 rfl ?_
  refine z_aload_n dX42_heap_106 rfl rfl ?_
  refine z_getr (r := (gr M a2 5)) dX42_heap_107 fsX42_110_7 rfl ?_
  refine z_iconst (v := 0) dX42_heap_110 rfl ?_
  refine z_aload_n dX42_heap_111 rfl rfl ?_
  refine z_getr (r := (gr M a0 0)) dX42_heap_112 fsX42_69_6 rfl ?_
  obtain ⟨b1, e1_, k⟩ := k
  refine Z.eqs (lv' := [(0, vr (some (a0, 6, 0))), (2, vr (some (a2, 7, 0))), (5, vi l5)]) (st' := [vr (some (b1, 0, 0)), vi (0 : Int32), vr (gr M a2 5), vi l5, vr (gr M a0 5)]) rfl (by rw [e1_] <;> rfl) ?_
  refine z_geti dX42_heap_115 fsX42_91_0 ?_
  obtain ⟨b2, m2, e2_, k⟩ := k
  refine Z.eqs (lv' := [(0, vr (some (a0, 6, 0))), (2, vr (some (a2, 7, 0))), (5, vi l5)]) (st' := [vi (gi M b1 11), vi (0 : Int32), vr (some (b2, 105, m2)), vi l5, vr (gr M a0 5)]) rfl (by rw [e2_] <;> rfl) ?_
  obtain ⟨b3, m3, e3_, k⟩ := k
  refine Z.eqs (lv' := [(0, vr (some (a0, 6, 0))), (2, vr (some (a2, 7, 0))), (5, vi l5)]) (st' := [vi (gi M b1 11), vi (0 : Int32), vr (some (b2, 105, m2)), vi l5, vr (some (b3, 105, m3))]) rfl (by rw [e3_] <;> rfl) ?_
  obtain ⟨g_, k⟩ := k
  obtain ⟨d_, k⟩ := k
  obtain ⟨b_, k⟩ := k
  refine z_copyl g_ dX42_heap_118 q3135 d_ (Nat.le_of_ble_eq_true rfl) b_.1.1 b_.1.2.1 b_.1.2.2 b_.2.1 b_.2.2 ?_
  exact k
theorem sX42_heap_121 {E : zE} {d : Nat} {Q : zO → zM → Prop} (M : zM) (a0 : Nat) (a2 : Nat) (l5 : Int32) (k : ∃ b1 : Nat, (gr M a0 0) = some (b1, 0, 0) ∧ (∃ b2 m2 : Nat, (gr M a2 6) = some (b2, 105, m2) ∧ (∃ b3 m3 : Nat, (gr M a0 6) = some (b3, 105, m3) ∧ (16 ≤ b2 ∧ ((1 ≤ d) ∧ (((¬ l5 < 0 ∧ ¬ (0 : Int32) < 0 ∧ ¬ (gi M b1 11) < 0) ∧ (l5).toNatClampNeg + ((gi M b1 11)).toNatClampNeg ≤ m3 ∧ ((0 : Int32)).toNatClampNeg + ((gi M b1 11)).toNatClampNeg ≤ m2) ∧ (Z E YX42_heap d (cpl M b3 (l5).toNatClampNeg b2 ((0 : Int32)).toNatClampNeg ((gi M b1 11)).toNatClampNeg) [(0, vr (some (a0, 6, 0))), (2, vr (some (a2, 7, 0))), (5, vi l5)] 142 [] Q))))))) : Z E YX42_heap d M [(0, vr (some (a0, 6, 0))), (2, vr (some (a2, 7, 0))), (5, vi l5)] 121 [] Q := by
  refine z_aload_n dX42_heap_121 rfl rfl ?_
  refine z_getr (r := (gr M a0 6)) dX42_heap_122 fsX42_28_6 rfl ?_
  refine z_iload dX42_heap_125 rfl ?_
  refine z_aload_n dX42_heap_127 rfl rfl ?_
  refine z_getr (r := (gr M a2 6)) dX42_heap_128 fsX42_111_7 rfl ?_
  refine z_iconst (v := 0) dX42_heap_131 rfl ?_
  refine z_aload_n dX42_heap_132 rfl rfl ?_
  refine z_getr (r := (gr M a0 0)) dX42_heap_133 fsX42_69_6 rfl ?_
  obtain ⟨b1, e1_, k⟩ := k
  refine Z.eqs (lv' := [(0, vr (some (a0, 6, 0))), (2, vr (some (a2, 7, 0))), (5, vi l5)]) (st' := [vr (some (b1, 0, 0)), vi (0 : Int32), vr (gr M a2 6), vi l5, vr (gr M a0 6)]) rfl (by rw [e1_] <;> rfl) ?_
  refine z_geti dX42_heap_136 fsX42_91_0 ?_
  obtain ⟨b2, m2, e2_, k⟩ := k
  refine Z.eqs (lv' := [(0, vr (some (a0, 6, 0))), (2, vr (some (a2, 7, 0))), (5, vi l5)]) (st' := [vi (gi M b1 11), vi (0 : Int32), vr (some (b2, 105, m2)), vi l5, vr (gr M a0 6)]) rfl (by rw [e2_] <;> rfl) ?_
  obtain ⟨b3, m3, e3_, k⟩ := k
  refine Z.eqs (lv' := [(0, vr (some (a0, 6, 0))), (2, vr (some (a2, 7, 0))), (5, vi l5)]) (st' := [vi (gi M b1 11), vi (0 : Int32), vr (some (b2, 105, m2)), vi l5, vr (some (b3, 105, m3))]) rfl (by rw [e3_] <;> rfl) ?_
  obtain ⟨g_, k⟩ := k
  obtain ⟨d_, k⟩ := k
  obtain ⟨b_, k⟩ := k
  refine z_copyl g_ dX42_heap_139 q3135 d_ (Nat.le_of_ble_eq_true rfl) b_.1.1 b_.1.2.1 b_.1.2.2 b_.2.1 b_.2.2 ?_
  exact k
theorem sX42_heap_142 {E : zE} {d : Nat} {Q : zO → zM → Prop} (M : zM) (a0 : Nat) (a2 : Nat) (l5 : Int32) (k : ∃ b1 : Nat, (gr M a0 0) = some (b1, 0, 0) ∧ (∃ b2 m2 : Nat, (gr M a2 7) = some (b2, 105, m2) ∧ (∃ b3 m3 : Nat, (gr M a0 7) = some (b3, 105, m3) ∧ (16 ≤ b2 ∧ ((1 ≤ d) ∧ (((¬ l5 < 0 ∧ ¬ (0 : Int32) < 0 ∧ ¬ (gi M b1 11) < 0) ∧ (l5).toNatClampNeg + ((gi M b1 11)).toNatClampNeg ≤ m3 ∧ ((0 : Int32)).toNatClampNeg + ((gi M b1 11)).toNatClampNeg ≤ m2) ∧ (Z E YX42_heap d (cpl M b3 (l5).toNatClampNeg b2 ((0 : Int32)).toNatClampNeg ((gi M b1 11)).toNatClampNeg) [(0, vr (some (a0, 6, 0))), (2, vr (some (a2, 7, 0))), (5, vi l5)] 163 [] Q))))))) : Z E YX42_heap d M [(0, vr (some (a0, 6, 0))), (2, vr (some (a2, 7, 0))), (5, vi l5)] 142 [] Q := by
  refine z_aload_n dX42_heap_142 rfl rfl ?_
  refine z_getr (r := (gr M a0 7)) dX42_heap_143 fsX42_31_6 rfl ?_
  refine z_iload dX42_heap_146 rfl ?_
  refine z_aload_n dX42_heap_148 rfl rfl ?_
  refine z_getr (r := (gr M a2 7)) dX42_heap_149 fsX42_112_7 rfl ?_
  refine z_iconst (v := 0) dX42_heap_152 rfl ?_
  refine z_aload_n dX42_heap_153 rfl rfl ?_
  refine z_getr (r := (gr M a0 0)) dX42_heap_154 fsX42_69_6 rfl ?_
  obtain ⟨b1, e1_, k⟩ := k
  refine Z.eqs (lv' := [(0, vr (some (a0, 6, 0))), (2, vr (some (a2, 7, 0))), (5, vi l5)]) (st' := [vr (some (b1, 0, 0)), vi (0 : Int32), vr (gr M a2 7), vi l5, vr (gr M a0 7)]) rfl (by rw [e1_] <;> rfl) ?_
  refine z_geti dX42_heap_157 fsX42_91_0 ?_
  obtain ⟨b2, m2, e2_, k⟩ := k
  refine Z.eqs (lv' := [(0, vr (some (a0, 6, 0))), (2, vr (some (a2, 7, 0))), (5, vi l5)]) (st' := [vi (gi M b1 11), vi (0 : Int32), vr (some (b2, 105, m2)), vi l5, vr (gr M a0 7)]) rfl (by rw [e2_] <;> rfl) ?_
  obtain ⟨b3, m3, e3_, k⟩ := k
  refine Z.eqs (lv' := [(0, vr (some (a0, 6, 0))), (2, vr (some (a2, 7, 0))), (5, vi l5)]) (st' := [vi (gi M b1 11), vi (0 : Int32), vr (some (b2, 105, m2)), vi l5, vr (some (b3, 105, m3))]) rfl (by rw [e3_] <;> rfl) ?_
  obtain ⟨g_, k⟩ := k
  obtain ⟨d_, k⟩ := k
  obtain ⟨b_, k⟩ := k
  refine z_copyl g_ dX42_heap_160 q3135 d_ (Nat.le_of_ble_eq_true rfl) b_.1.1 b_.1.2.1 b_.1.2.2 b_.2.1 b_.2.2 ?_
  exact k
theorem sX42_heap_163 {E : zE} {d : Nat} {Q : zO → zM → Prop} (M : zM) (a0 : Nat) (a2 : Nat) (l5 : Int32) (k : Z E YX42_heap d M [(0, vr (some (a0, 6, 0))), (2, vr (some (a2, 7, 0))), (5, vi l5), (6, vi (0 : Int32))] 166 [] Q) : Z E YX42_heap d M [(0, vr (some (a0, 6, 0))), (2, vr (some (a2, 7, 0))), (5, vi l5)] 163 [] Q := by
  refine z_iconst (v := 0) dX42_heap_163 rfl ?_
  refine z_ist dX42_heap_164 (by decide) (lv' := [(0, vr (some (a0, 6, 0))), (2, vr (some (a2, 7, 0))), (5, vi l5), (6, vi (0 : Int32))]) rfl ?_
  exact k
theorem sX42_heap_166 {E : zE} {d : Nat} {Q : zO → zM → Prop} (M : zM) (a0 : Nat) (a2 : Nat) (l5 : Int32) (l6 : Int32) (k : ∃ b1 : Nat, (gr M a0 0) = some (b1, 0, 0) ∧ (if (gi M b1 11) ≤ l6 then (Q (.inl none) M) else (∃ b2 m2 : Nat, (gr M a0 8) = some (b2, 101, m2) ∧ (vp_in (l5 + l6) m2 ∧ (if ((gi M b2 ((l5 + l6)).toNatClampNeg) &&& (1 : Int32)) = 0 then (Z E YX42_heap d M [(0, vr (some (a0, 6, 0))), (2, vr (some (a2, 7, 0))), (5, vi l5), (6, vi l6)] 204 [vi (0 : Int32), vi l6, vr (gr M a2 8)] Q) else (Z E YX42_heap d M [(0, vr (some (a0, 6, 0))), (2, vr (some (a2, 7, 0))), (5, vi l5), (6, vi l6)] 204 [vi (1 : Int32), vi l6, vr (gr M a2 8)] Q)))))) : Z E YX42_heap d M [(0, vr (some (a0, 6, 0))), (2, vr (some (a2, 7, 0))), (5, vi l5), (6, vi l6)] 166 [] Q := by
  refine z_iload dX42_heap_166 rfl ?_
  refine z_aload_n dX42_heap_168 rfl rfl ?_
  refine z_getr (r := (gr M a0 0)) dX42_heap_169 fsX42_69_6 rfl ?_
  obtain ⟨b1, e1_, k⟩ := k
  refine Z.eqs (lv' := [(0, vr (some (a0, 6, 0))), (2, vr (some (a2, 7, 0))), (5, vi l5), (6, vi l6)]) (st' := [vr (some (b1, 0, 0)), vi l6]) rfl (by rw [e1_] <;> rfl) ?_
  refine z_geti dX42_heap_172 fsX42_91_0 ?_
  refine z_icmp_ge (tgt := 238) dX42_heap_175 rfl (fun h_ => ?_) (fun h_ => ?_)
  · have k := zit h_ k
    exact z_vret dX42_heap_238 rfl k
  · have k := zif h_ k
    refine z_aload_n dX42_heap_178 rfl rfl ?_
    refine z_getr (r := (gr M a2 8)) dX42_heap_179 fsX42_131_7 rfl ?_
    refine z_iload dX42_heap_182 rfl ?_
    refine z_aload_n dX42_heap_184 rfl rfl ?_
    refine z_getr (r := (gr M a0 8)) dX42_heap_185 fsX42_34_6 rfl ?_
    refine z_iload dX42_heap_188 rfl ?_
    refine z_iload dX42_heap_190 rfl ?_
    refine z_iadd dX42_heap_192 ?_
    obtain ⟨b2, m2, e2_, k⟩ := k
    refine Z.eqs (lv' := [(0, vr (some (a0, 6, 0))), (2, vr (some (a2, 7, 0))), (5, vi l5), (6, vi l6)]) (st' := [vi (l5 + l6), vr (some (b2, 101, m2)), vi l6, vr (gr M a2 8)]) rfl (by rw [e2_] <;> rfl) ?_
    obtain ⟨b_, k⟩ := k
    refine z_bald dX42_heap_193 b_ ?_
    refine z_iconst (v := 1) dX42_heap_194 rfl ?_
    refine z_iand dX42_heap_195 ?_
    refine z_if_eq (tgt := 203) dX42_heap_196 rfl (fun h_ => ?_) (fun h_ => ?_)
    · have k := zit h_ k
      refine z_iconst (v := 0) dX42_heap_203 rfl ?_
      exact k
    · have k := zif h_ k
      refine z_iconst (v := 1) dX42_heap_199 rfl ?_
      refine z_goto (tgt := 204) dX42_heap_200 rfl ?_
      exact k
theorem sX42_heap_204 {E : zE} {d : Nat} {Q : zO → zM → Prop} (M : zM) (a0 : Nat) (a2 : Nat) (l5 : Int32) (l6 : Int32) (s0 : Int32) (s1 : Int32) (u2 : Option zP) (k : ∃ b1 m1 : Nat, u2 = some (b1, 104, m1) ∧ (16 ≤ b1 ∧ (vp_in s1 m1 ∧ (∃ b2 m2 : Nat, (gr M a0 8) = some (b2, 101, m2) ∧ (vp_in (l5 + l6) m2 ∧ (if ((gi (si M b1 (s1).toNatClampNeg (vp_nar .boolean s0)) b2 ((l5 + l6)).toNatClampNeg) &&& (2 : Int32)) = 0 then (∃ b3 m3 : Nat, (gr M a2 9) = some (b3, 104, m3) ∧ (16 ≤ b3 ∧ (vp_in l6 m3 ∧ (Z E YX42_heap d (si (si M b1 (s1).toNatClampNeg (vp_nar .boolean s0)) b3 (l6).toNatClampNeg (vp_nar .boolean (0 : Int32))) [(0, vr (some (a0, 6, 0))), (2, vr (some (a2, 7, 0))), (5, vi l5), (6, vi (l6 + (1 : Int32)))] 166 [] Q)))) else (∃ b3 m3 : Nat, (gr M a2 9) = some (b3, 104, m3) ∧ (16 ≤ b3 ∧ (vp_in l6 m3 ∧ (Z E YX42_heap d (si (si M b1 (s1).toNatClampNeg (vp_nar .boolean s0)) b3 (l6).toNatClampNeg (vp_nar .boolean (1 : Int32))) [(0, vr (some (a0, 6, 0))), (2, vr (some (a2, 7, 0))), (5, vi l5), (6, vi (l6 + (1 : Int32)))] 166 [] Q)))))))))) : Z E YX42_heap d M [(0, vr (some (a0, 6, 0))), (2, vr (some (a2, 7, 0))), (5, vi l5), (6, vi l6)] 204 [vi s0, vi s1, vr u2] Q := by
  obtain ⟨b1, m1, e1_, k⟩ := k
  refine Z.eqs (lv' := [(0, vr (some (a0, 6, 0))), (2, vr (some (a2, 7, 0))), (5, vi l5), (6, vi l6)]) (st' := [vi s0, vi s1, vr (some (b1, 104, m1))]) rfl (by rw [e1_] <;> rfl) ?_
  obtain ⟨g_, k⟩ := k
  obtain ⟨b_, k⟩ := k
  refine z_zast g_ dX42_heap_204 b_ ?_
  refine z_aload_n dX42_heap_205 rfl rfl ?_
  refine z_getr (r := (gr M a2 9)) dX42_heap_206 fsX42_135_7 rfl ?_
  refine z_iload dX42_heap_209 rfl ?_
  refine z_aload_n dX42_heap_211 rfl rfl ?_
  refine z_getr (r := (gr M a0 8)) dX42_heap_212 fsX42_34_6 rfl ?_
  refine z_iload dX42_heap_215 rfl ?_
  refine z_iload dX42_heap_217 rfl ?_
  refine z_iadd dX42_heap_219 ?_
  obtain ⟨b2, m2, e2_, k⟩ := k
  refine Z.eqs (lv' := [(0, vr (some (a0, 6, 0))), (2, vr (some (a2, 7, 0))), (5, vi l5), (6, vi l6)]) (st' := [vi (l5 + l6), vr (some (b2, 101, m2)), vi l6, vr (gr M a2 9)]) rfl (by rw [e2_] <;> rfl) ?_
  obtain ⟨b_, k⟩ := k
  refine z_bald dX42_heap_220 b_ ?_
  refine z_iconst (v := 2) dX42_heap_221 rfl ?_
  refine z_iand dX42_heap_222 ?_
  refine z_if_eq (tgt := 230) dX42_heap_223 rfl (fun h_ => ?_) (fun h_ => ?_)
  · have k := zit h_ k
    refine z_iconst (v := 0) dX42_heap_230 rfl ?_
    obtain ⟨b3, m3, e3_, k⟩ := k
    refine Z.eqs (lv' := [(0, vr (some (a0, 6, 0))), (2, vr (some (a2, 7, 0))), (5, vi l5), (6, vi l6)]) (st' := [vi (0 : Int32), vi l6, vr (some (b3, 104, m3))]) rfl (by rw [e3_] <;> rfl) ?_
    obtain ⟨g_, k⟩ := k
    obtain ⟨b_, k⟩ := k
    refine z_zast g_ dX42_heap_231 b_ ?_
    refine z_inc (v := (l6 + (1 : Int32))) dX42_heap_232 rfl rfl (by decide) (lv' := [(0, vr (some (a0, 6, 0))), (2, vr (some (a2, 7, 0))), (5, vi l5), (6, vi (l6 + (1 : Int32)))]) rfl ?_
    refine z_goto (tgt := 166) dX42_heap_235 rfl ?_
    exact k
  · have k := zif h_ k
    refine z_iconst (v := 1) dX42_heap_226 rfl ?_
    refine z_goto (tgt := 231) dX42_heap_227 rfl ?_
    obtain ⟨b3, m3, e3_, k⟩ := k
    refine Z.eqs (lv' := [(0, vr (some (a0, 6, 0))), (2, vr (some (a2, 7, 0))), (5, vi l5), (6, vi l6)]) (st' := [vi (1 : Int32), vi l6, vr (some (b3, 104, m3))]) rfl (by rw [e3_] <;> rfl) ?_
    obtain ⟨g_, k⟩ := k
    obtain ⟨b_, k⟩ := k
    refine z_zast g_ dX42_heap_231 b_ ?_
    refine z_inc (v := (l6 + (1 : Int32))) dX42_heap_232 rfl rfl (by decide) (lv' := [(0, vr (some (a0, 6, 0))), (2, vr (some (a2, 7, 0))), (5, vi l5), (6, vi (l6 + (1 : Int32)))]) rfl ?_
    refine z_goto (tgt := 166) dX42_heap_235 rfl ?_
    exact k
/-! ScriptTypes$Work.<init>(LScriptTypes;)V -/
theorem bX43_init_0 : zdec cX43_init 0 [(0, .aload_n 0, 1), (1, .invokespecial 3, 3), (4, .aload_n 0, 1), (5, .sipush 620, 3), (8, .newarray .long, 2), (10, .putfield 9, 3), (13, .aload_n 0, 1), (14, .sipush 620, 3), (17, .newarray .long, 2), (19, .putfield 15, 3), (22, .aload_n 0, 1), (23, .sipush 620, 3), (26, .newarray .long, 2), (28, .putfield 18, 3), (31, .aload_n 0, 1), (32, .aload_n 1, 1)] = true := by decide +kernel
theorem dX43_init_0 : decode cX43_init 0 = .ok (.aload_n 0, 1) := zdec_at bX43_init_0 0 rfl
theorem dX43_init_1 : decode cX43_init 1 = .ok (.invokespecial 3, 3) := zdec_at bX43_init_0 1 rfl
theorem dX43_init_4 : decode cX43_init 4 = .ok (.aload_n 0, 1) := zdec_at bX43_init_0 2 rfl
theorem dX43_init_5 : decode cX43_init 5 = .ok (.sipush 620, 3) := zdec_at bX43_init_0 3 rfl
theorem dX43_init_8 : decode cX43_init 8 = .ok (.newarray .long, 2) := zdec_at bX43_init_0 4 rfl
theorem dX43_init_10 : decode cX43_init 10 = .ok (.putfield 9, 3) := zdec_at bX43_init_0 5 rfl
theorem dX43_init_13 : decode cX43_init 13 = .ok (.aload_n 0, 1) := zdec_at bX43_init_0 6 rfl
theorem dX43_init_14 : decode cX43_init 14 = .ok (.sipush 620, 3) := zdec_at bX43_init_0 7 rfl
theorem dX43_init_17 : decode cX43_init 17 = .ok (.newarray .long, 2) := zdec_at bX43_init_0 8 rfl
theorem dX43_init_19 : decode cX43_init 19 = .ok (.putfield 15, 3) := zdec_at bX43_init_0 9 rfl
theorem dX43_init_22 : decode cX43_init 22 = .ok (.aload_n 0, 1) := zdec_at bX43_init_0 10 rfl
theorem dX43_init_23 : decode cX43_init 23 = .ok (.sipush 620, 3) := zdec_at bX43_init_0 11 rfl
theorem dX43_init_26 : decode cX43_init 26 = .ok (.newarray .long, 2) := zdec_at bX43_init_0 12 rfl
theorem dX43_init_28 : decode cX43_init 28 = .ok (.putfield 18, 3) := zdec_at bX43_init_0 13 rfl
theorem dX43_init_31 : decode cX43_init 31 = .ok (.aload_n 0, 1) := zdec_at bX43_init_0 14 rfl
theorem dX43_init_32 : decode cX43_init 32 = .ok (.aload_n 1, 1) := zdec_at bX43_init_0 15 rfl
theorem bX43_init_33 : zdec cX43_init 33 [(33, .putfield 21, 3), (36, .aload_n 0, 1), (37, .sipush 11648, 3), (40, .newarray .long, 2), (42, .putfield 25, 3), (45, .aload_n 0, 1), (46, .sipush 11648, 3), (49, .newarray .long, 2), (51, .putfield 28, 3), (54, .aload_n 0, 1), (55, .sipush 11648, 3), (58, .newarray .long, 2), (60, .putfield 31, 3), (63, .aload_n 0, 1), (64, .sipush 128, 3), (67, .newarray .long, 2)] = true := by decide +kernel
theorem dX43_init_33 : decode cX43_init 33 = .ok (.putfield 21, 3) := zdec_at bX43_init_33 0 rfl
theorem dX43_init_36 : decode cX43_init 36 = .ok (.aload_n 0, 1) := zdec_at bX43_init_33 1 rfl
theorem dX43_init_37 : decode cX43_init 37 = .ok (.sipush 11648, 3) := zdec_at bX43_init_33 2 rfl
theorem dX43_init_40 : decode cX43_init 40 = .ok (.newarray .long, 2) := zdec_at bX43_init_33 3 rfl
theorem dX43_init_42 : decode cX43_init 42 = .ok (.putfield 25, 3) := zdec_at bX43_init_33 4 rfl
theorem dX43_init_45 : decode cX43_init 45 = .ok (.aload_n 0, 1) := zdec_at bX43_init_33 5 rfl
theorem dX43_init_46 : decode cX43_init 46 = .ok (.sipush 11648, 3) := zdec_at bX43_init_33 6 rfl
theorem dX43_init_49 : decode cX43_init 49 = .ok (.newarray .long, 2) := zdec_at bX43_init_33 7 rfl
theorem dX43_init_51 : decode cX43_init 51 = .ok (.putfield 28, 3) := zdec_at bX43_init_33 8 rfl
theorem dX43_init_54 : decode cX43_init 54 = .ok (.aload_n 0, 1) := zdec_at bX43_init_33 9 rfl
theorem dX43_init_55 : decode cX43_init 55 = .ok (.sipush 11648, 3) := zdec_at bX43_init_33 10 rfl
theorem dX43_init_58 : decode cX43_init 58 = .ok (.newarray .long, 2) := zdec_at bX43_init_33 11 rfl
theorem dX43_init_60 : decode cX43_init 60 = .ok (.putfield 31, 3) := zdec_at bX43_init_33 12 rfl
theorem dX43_init_63 : decode cX43_init 63 = .ok (.aload_n 0, 1) := zdec_at bX43_init_33 13 rfl
theorem dX43_init_64 : decode cX43_init 64 = .ok (.sipush 128, 3) := zdec_at bX43_init_33 14 rfl
theorem dX43_init_67 : decode cX43_init 67 = .ok (.newarray .long, 2) := zdec_at bX43_init_33 15 rfl
theorem bX43_init_69 : zdec cX43_init 69 [(69, .putfield 34, 3), (72, .aload_n 0, 1), (73, .sipush 128, 3), (76, .newarray .long, 2), (78, .putfield 37, 3), (81, .aload_n 0, 1), (82, .sipush 128, 3), (85, .newarray .long, 2), (87, .putfield 40, 3), (90, .aload_n 0, 1), (91, .sipush 128, 3), (94, .newarray .long, 2), (96, .putfield 43, 3), (99, .aload_n 0, 1), (100, .sipush 128, 3), (103, .newarray .boolean, 2)] = true := by decide +kernel
theorem dX43_init_69 : decode cX43_init 69 = .ok (.putfield 34, 3) := zdec_at bX43_init_69 0 rfl
theorem dX43_init_72 : decode cX43_init 72 = .ok (.aload_n 0, 1) := zdec_at bX43_init_69 1 rfl
theorem dX43_init_73 : decode cX43_init 73 = .ok (.sipush 128, 3) := zdec_at bX43_init_69 2 rfl
theorem dX43_init_76 : decode cX43_init 76 = .ok (.newarray .long, 2) := zdec_at bX43_init_69 3 rfl
theorem dX43_init_78 : decode cX43_init 78 = .ok (.putfield 37, 3) := zdec_at bX43_init_69 4 rfl
theorem dX43_init_81 : decode cX43_init 81 = .ok (.aload_n 0, 1) := zdec_at bX43_init_69 5 rfl
theorem dX43_init_82 : decode cX43_init 82 = .ok (.sipush 128, 3) := zdec_at bX43_init_69 6 rfl
theorem dX43_init_85 : decode cX43_init 85 = .ok (.newarray .long, 2) := zdec_at bX43_init_69 7 rfl
theorem dX43_init_87 : decode cX43_init 87 = .ok (.putfield 40, 3) := zdec_at bX43_init_69 8 rfl
theorem dX43_init_90 : decode cX43_init 90 = .ok (.aload_n 0, 1) := zdec_at bX43_init_69 9 rfl
theorem dX43_init_91 : decode cX43_init 91 = .ok (.sipush 128, 3) := zdec_at bX43_init_69 10 rfl
theorem dX43_init_94 : decode cX43_init 94 = .ok (.newarray .long, 2) := zdec_at bX43_init_69 11 rfl
theorem dX43_init_96 : decode cX43_init 96 = .ok (.putfield 43, 3) := zdec_at bX43_init_69 12 rfl
theorem dX43_init_99 : decode cX43_init 99 = .ok (.aload_n 0, 1) := zdec_at bX43_init_69 13 rfl
theorem dX43_init_100 : decode cX43_init 100 = .ok (.sipush 128, 3) := zdec_at bX43_init_69 14 rfl
theorem dX43_init_103 : decode cX43_init 103 = .ok (.newarray .boolean, 2) := zdec_at bX43_init_69 15 rfl
theorem bX43_init_105 : zdec cX43_init 105 [(105, .putfield 46, 3), (108, .aload_n 0, 1), (109, .sipush 128, 3), (112, .newarray .boolean, 2), (114, .putfield 50, 3), (117, .return_, 1)] = true := by decide +kernel
theorem dX43_init_105 : decode cX43_init 105 = .ok (.putfield 46, 3) := zdec_at bX43_init_105 0 rfl
theorem dX43_init_108 : decode cX43_init 108 = .ok (.aload_n 0, 1) := zdec_at bX43_init_105 1 rfl
theorem dX43_init_109 : decode cX43_init 109 = .ok (.sipush 128, 3) := zdec_at bX43_init_105 2 rfl
theorem dX43_init_112 : decode cX43_init 112 = .ok (.newarray .boolean, 2) := zdec_at bX43_init_105 3 rfl
theorem dX43_init_114 : decode cX43_init 114 = .ok (.putfield 50, 3) := zdec_at bX43_init_105 4 rfl
theorem dX43_init_117 : decode cX43_init 117 = .ok (.return_, 1) := zdec_at bX43_init_105 5 rfl
theorem sX43_init_0 {E : zE} {d : Nat} {Q : zO → zM → Prop} (M : zM) (a0 : Nat) (r1 : Option zP) (k : Z E YX43_init (d + 1) (zn M 620) [(0, vr (some (a0, 7, 0))), (1, vr r1)] 10 [vr (some ((zsz M), 105, 620)), vr (some (a0, 7, 0))] Q) : Z E YX43_init (d + 1) M [(0, vr (some (a0, 7, 0))), (1, vr r1)] 0 [] Q := by
  refine z_aload_n dX43_init_0 rfl rfl ?_
  refine z_objInit dX43_init_1 oiX43_3 (by omega) (by decide) ?_
  refine z_aload_n dX43_init_4 rfl rfl ?_
  refine z_sipush (v := 620) dX43_init_5 rfl ?_
  refine z_newa (q := 5) (N := 620) dX43_init_8 rfl (by decide) q755 (by decide) (by decide) (by decide) ?_
  exact k
theorem sX43_init_10 {E : zE} {d : Nat} {Q : zO → zM → Prop} (M : zM) (a0 : Nat) (r1 : Option zP) (p0 : Nat) (k : 16 ≤ a0 ∧ (Z E YX43_init (d + 1) (zn (sr M a0 10 (some (p0, 105, 620))) 620) [(0, vr (some (a0, 7, 0))), (1, vr r1)] 19 [vr (some ((zsz M), 105, 620)), vr (some (a0, 7, 0))] Q)) : Z E YX43_init (d + 1) M [(0, vr (some (a0, 7, 0))), (1, vr r1)] 10 [vr (some (p0, 105, 620)), vr (some (a0, 7, 0))] Q := by
  obtain ⟨g_, k⟩ := k
  refine z_putr g_ dX43_init_10 (zfwN.f fwX43_9_7 rfl (fun q h => by rw [← Option.some.inj h]; rfl)) rfl ?_
  refine z_aload_n dX43_init_13 rfl rfl ?_
  refine z_sipush (v := 620) dX43_init_14 rfl ?_
  refine z_newa (q := 5) (N := 620) dX43_init_17 rfl (by decide) q755 (by decide) (by decide) (by decide) ?_
  exact k
theorem sX43_init_19 {E : zE} {d : Nat} {Q : zO → zM → Prop} (M : zM) (a0 : Nat) (r1 : Option zP) (p0 : Nat) (k : 16 ≤ a0 ∧ (Z E YX43_init (d + 1) (zn (sr M a0 11 (some (p0, 105, 620))) 620) [(0, vr (some (a0, 7, 0))), (1, vr r1)] 28 [vr (some ((zsz M), 105, 620)), vr (some (a0, 7, 0))] Q)) : Z E YX43_init (d + 1) M [(0, vr (some (a0, 7, 0))), (1, vr r1)] 19 [vr (some (p0, 105, 620)), vr (some (a0, 7, 0))] Q := by
  obtain ⟨g_, k⟩ := k
  refine z_putr g_ dX43_init_19 (zfwN.f fwX43_15_7 rfl (fun q h => by rw [← Option.some.inj h]; rfl)) rfl ?_
  refine z_aload_n dX43_init_22 rfl rfl ?_
  refine z_sipush (v := 620) dX43_init_23 rfl ?_
  refine z_newa (q := 5) (N := 620) dX43_init_26 rfl (by decide) q755 (by decide) (by decide) (by decide) ?_
  exact k
theorem sX43_init_28 {E : zE} {d : Nat} {Q : zO → zM → Prop} (M : zM) (a0 : Nat) (r1 : Option zP) (p0 : Nat) (k : 16 ≤ a0 ∧ (16 ≤ a0 ∧ (Z E YX43_init (d + 1) (zn (sr (sr M a0 12 (some (p0, 105, 620))) a0 0 r1) 11648) [(0, vr (some (a0, 7, 0)))] 42 [vr (some ((zsz M), 105, 11648)), vr (some (a0, 7, 0))] Q))) : Z E YX43_init (d + 1) M [(0, vr (some (a0, 7, 0))), (1, vr r1)] 28 [vr (some (p0, 105, 620)), vr (some (a0, 7, 0))] Q := by
  obtain ⟨g_, k⟩ := k
  refine z_putr g_ dX43_init_28 (zfwN.f fwX43_18_7 rfl (fun q h => by rw [← Option.some.inj h]; rfl)) rfl ?_
  refine z_aload_n dX43_init_31 rfl rfl ?_
  refine z_aload_n dX43_init_32 rfl rfl ?_
  obtain ⟨g_, k⟩ := k
  refine z_putr g_ dX43_init_33 (zfwN.f fwX43_21_7 rfl (fun q h => by rw [← Option.some.inj h]; rfl)) rfl ?_
  refine z_aload_n dX43_init_36 rfl rfl ?_
  refine z_sipush (v := 11648) dX43_init_37 rfl ?_
  refine z_newa (q := 5) (N := 11648) dX43_init_40 rfl (by decide) q755 (by decide) (by decide) (by decide) ?_
  refine Z.pick [0] rfl ?_
  exact k
theorem sX43_init_42 {E : zE} {d : Nat} {Q : zO → zM → Prop} (M : zM) (a0 : Nat) (p0 : Nat) (k : 16 ≤ a0 ∧ (Z E YX43_init (d + 1) (zn (sr M a0 1 (some (p0, 105, 11648))) 11648) [(0, vr (some (a0, 7, 0)))] 51 [vr (some ((zsz M), 105, 11648)), vr (some (a0, 7, 0))] Q)) : Z E YX43_init (d + 1) M [(0, vr (some (a0, 7, 0)))] 42 [vr (some (p0, 105, 11648)), vr (some (a0, 7, 0))] Q := by
  obtain ⟨g_, k⟩ := k
  refine z_putr g_ dX43_init_42 (zfwN.f fwX43_25_7 rfl (fun q h => by rw [← Option.some.inj h]; rfl)) rfl ?_
  refine z_aload_n dX43_init_45 rfl rfl ?_
  refine z_sipush (v := 11648) dX43_init_46 rfl ?_
  refine z_newa (q := 5) (N := 11648) dX43_init_49 rfl (by decide) q755 (by decide) (by decide) (by decide) ?_
  exact k
theorem sX43_init_51 {E : zE} {d : Nat} {Q : zO → zM → Prop} (M : zM) (a0 : Nat) (p0 : Nat) (k : 16 ≤ a0 ∧ (Z E YX43_init (d + 1) (zn (sr M a0 2 (some (p0, 105, 11648))) 11648) [(0, vr (some (a0, 7, 0)))] 60 [vr (some ((zsz M), 105, 11648)), vr (some (a0, 7, 0))] Q)) : Z E YX43_init (d + 1) M [(0, vr (some (a0, 7, 0)))] 51 [vr (some (p0, 105, 11648)), vr (some (a0, 7, 0))] Q := by
  obtain ⟨g_, k⟩ := k
  refine z_putr g_ dX43_init_51 (zfwN.f fwX43_28_7 rfl (fun q h => by rw [← Option.some.inj h]; rfl)) rfl ?_
  refine z_aload_n dX43_init_54 rfl rfl ?_
  refine z_sipush (v := 11648) dX43_init_55 rfl ?_
  refine z_newa (q := 5) (N := 11648) dX43_init_58 rfl (by decide) q755 (by decide) (by decide) (by decide) ?_
  exact k
theorem sX43_init_60 {E : zE} {d : Nat} {Q : zO → zM → Prop} (M : zM) (a0 : Nat) (p0 : Nat) (k : 16 ≤ a0 ∧ (Z E YX43_init (d + 1) (zn (sr M a0 3 (some (p0, 105, 11648))) 128) [(0, vr (some (a0, 7, 0)))] 69 [vr (some ((zsz M), 105, 128)), vr (some (a0, 7, 0))] Q)) : Z E YX43_init (d + 1) M [(0, vr (some (a0, 7, 0)))] 60 [vr (some (p0, 105, 11648)), vr (some (a0, 7, 0))] Q := by
  obtain ⟨g_, k⟩ := k
  refine z_putr g_ dX43_init_60 (zfwN.f fwX43_31_7 rfl (fun q h => by rw [← Option.some.inj h]; rfl)) rfl ?_
  refine z_aload_n dX43_init_63 rfl rfl ?_
  refine z_sipush (v := 128) dX43_init_64 rfl ?_
  refine z_newa (q := 5) (N := 128) dX43_init_67 rfl (by decide) q755 (by decide) (by decide) (by decide) ?_
  exact k
theorem sX43_init_69 {E : zE} {d : Nat} {Q : zO → zM → Prop} (M : zM) (a0 : Nat) (p0 : Nat) (k : 16 ≤ a0 ∧ (Z E YX43_init (d + 1) (zn (sr M a0 4 (some (p0, 105, 128))) 128) [(0, vr (some (a0, 7, 0)))] 78 [vr (some ((zsz M), 105, 128)), vr (some (a0, 7, 0))] Q)) : Z E YX43_init (d + 1) M [(0, vr (some (a0, 7, 0)))] 69 [vr (some (p0, 105, 128)), vr (some (a0, 7, 0))] Q := by
  obtain ⟨g_, k⟩ := k
  refine z_putr g_ dX43_init_69 (zfwN.f fwX43_34_7 rfl (fun q h => by rw [← Option.some.inj h]; rfl)) rfl ?_
  refine z_aload_n dX43_init_72 rfl rfl ?_
  refine z_sipush (v := 128) dX43_init_73 rfl ?_
  refine z_newa (q := 5) (N := 128) dX43_init_76 rfl (by decide) q755 (by decide) (by decide) (by decide) ?_
  exact k
theorem sX43_init_78 {E : zE} {d : Nat} {Q : zO → zM → Prop} (M : zM) (a0 : Nat) (p0 : Nat) (k : 16 ≤ a0 ∧ (Z E YX43_init (d + 1) (zn (sr M a0 5 (some (p0, 105, 128))) 128) [(0, vr (some (a0, 7, 0)))] 87 [vr (some ((zsz M), 105, 128)), vr (some (a0, 7, 0))] Q)) : Z E YX43_init (d + 1) M [(0, vr (some (a0, 7, 0)))] 78 [vr (some (p0, 105, 128)), vr (some (a0, 7, 0))] Q := by
  obtain ⟨g_, k⟩ := k
  refine z_putr g_ dX43_init_78 (zfwN.f fwX43_37_7 rfl (fun q h => by rw [← Option.some.inj h]; rfl)) rfl ?_
  refine z_aload_n dX43_init_81 rfl rfl ?_
  refine z_sipush (v := 128) dX43_init_82 rfl ?_
  refine z_newa (q := 5) (N := 128) dX43_init_85 rfl (by decide) q755 (by decide) (by decide) (by decide) ?_
  exact k
theorem sX43_init_87 {E : zE} {d : Nat} {Q : zO → zM → Prop} (M : zM) (a0 : Nat) (p0 : Nat) (k : 16 ≤ a0 ∧ (Z E YX43_init (d + 1) (zn (sr M a0 6 (some (p0, 105, 128))) 128) [(0, vr (some (a0, 7, 0)))] 96 [vr (some ((zsz M), 105, 128)), vr (some (a0, 7, 0))] Q)) : Z E YX43_init (d + 1) M [(0, vr (some (a0, 7, 0)))] 87 [vr (some (p0, 105, 128)), vr (some (a0, 7, 0))] Q := by
  obtain ⟨g_, k⟩ := k
  refine z_putr g_ dX43_init_87 (zfwN.f fwX43_40_7 rfl (fun q h => by rw [← Option.some.inj h]; rfl)) rfl ?_
  refine z_aload_n dX43_init_90 rfl rfl ?_
  refine z_sipush (v := 128) dX43_init_91 rfl ?_
  refine z_newa (q := 5) (N := 128) dX43_init_94 rfl (by decide) q755 (by decide) (by decide) (by decide) ?_
  exact k
theorem sX43_init_96 {E : zE} {d : Nat} {Q : zO → zM → Prop} (M : zM) (a0 : Nat) (p0 : Nat) (k : 16 ≤ a0 ∧ (Z E YX43_init (d + 1) (zn (sr M a0 7 (some (p0, 105, 128))) 128) [(0, vr (some (a0, 7, 0)))] 105 [vr (some ((zsz M), 104, 128)), vr (some (a0, 7, 0))] Q)) : Z E YX43_init (d + 1) M [(0, vr (some (a0, 7, 0)))] 96 [vr (some (p0, 105, 128)), vr (some (a0, 7, 0))] Q := by
  obtain ⟨g_, k⟩ := k
  refine z_putr g_ dX43_init_96 (zfwN.f fwX43_43_7 rfl (fun q h => by rw [← Option.some.inj h]; rfl)) rfl ?_
  refine z_aload_n dX43_init_99 rfl rfl ?_
  refine z_sipush (v := 128) dX43_init_100 rfl ?_
  refine z_newa (q := 4) (N := 128) dX43_init_103 rfl (by decide) q727 (by decide) (by decide) (by decide) ?_
  exact k
theorem sX43_init_105 {E : zE} {d : Nat} {Q : zO → zM → Prop} (M : zM) (a0 : Nat) (p0 : Nat) (k : 16 ≤ a0 ∧ (Z E YX43_init (d + 1) (zn (sr M a0 8 (some (p0, 104, 128))) 128) [] 114 [vr (some ((zsz M), 104, 128)), vr (some (a0, 7, 0))] Q)) : Z E YX43_init (d + 1) M [(0, vr (some (a0, 7, 0)))] 105 [vr (some (p0, 104, 128)), vr (some (a0, 7, 0))] Q := by
  obtain ⟨g_, k⟩ := k
  refine z_putr g_ dX43_init_105 (zfwN.f fwX43_46_7 rfl (fun q h => by rw [← Option.some.inj h]; rfl)) rfl ?_
  refine z_aload_n dX43_init_108 rfl rfl ?_
  refine z_sipush (v := 128) dX43_init_109 rfl ?_
  refine z_newa (q := 4) (N := 128) dX43_init_112 rfl (by decide) q727 (by decide) (by decide) (by decide) ?_
  refine Z.pick [] rfl ?_
  exact k
theorem sX43_init_114 {E : zE} {d : Nat} {Q : zO → zM → Prop} (M : zM) (p0 : Nat) (a0 : Nat) (k : 16 ≤ a0 ∧ (Q (.inl none) (sr M a0 9 (some (p0, 104, 128))))) : Z E YX43_init (d + 1) M [] 114 [vr (some (p0, 104, 128)), vr (some (a0, 7, 0))] Q := by
  obtain ⟨g_, k⟩ := k
  refine z_putr g_ dX43_init_114 (zfwN.f fwX43_50_7 rfl (fun q h => by rw [← Option.some.inj h]; rfl)) rfl ?_
  exact z_vret dX43_init_117 rfl k
/-! ScriptTypes$Work.renew(IIZ)V -/
theorem bX43_renew_0 : zdec cX43_renew 0 [(0, .aload_n 0, 1), (1, .getfield 46, 3), (4, .iload_n 1, 1), (5, .iconst 1, 1), (6, .bastore, 1), (7, .aload_n 0, 1), (8, .iload_n 1, 1), (9, .iconst 0, 1), (10, .invokevirtual 79, 3), (13, .istore 4, 2), (15, .iload 4, 2), (17, .aload_n 0, 1), (18, .iload_n 1, 1), (19, .aload_n 0, 1), (20, .getfield 21, 3), (23, .getfield 53, 3)] = true := by decide +kernel
theorem dX43_renew_0 : decode cX43_renew 0 = .ok (.aload_n 0, 1) := zdec_at bX43_renew_0 0 rfl
theorem dX43_renew_1 : decode cX43_renew 1 = .ok (.getfield 46, 3) := zdec_at bX43_renew_0 1 rfl
theorem dX43_renew_4 : decode cX43_renew 4 = .ok (.iload_n 1, 1) := zdec_at bX43_renew_0 2 rfl
theorem dX43_renew_5 : decode cX43_renew 5 = .ok (.iconst 1, 1) := zdec_at bX43_renew_0 3 rfl
theorem dX43_renew_6 : decode cX43_renew 6 = .ok (.bastore, 1) := zdec_at bX43_renew_0 4 rfl
theorem dX43_renew_7 : decode cX43_renew 7 = .ok (.aload_n 0, 1) := zdec_at bX43_renew_0 5 rfl
theorem dX43_renew_8 : decode cX43_renew 8 = .ok (.iload_n 1, 1) := zdec_at bX43_renew_0 6 rfl
theorem dX43_renew_9 : decode cX43_renew 9 = .ok (.iconst 0, 1) := zdec_at bX43_renew_0 7 rfl
theorem dX43_renew_10 : decode cX43_renew 10 = .ok (.invokevirtual 79, 3) := zdec_at bX43_renew_0 8 rfl
theorem dX43_renew_13 : decode cX43_renew 13 = .ok (.istore 4, 2) := zdec_at bX43_renew_0 9 rfl
theorem dX43_renew_15 : decode cX43_renew 15 = .ok (.iload 4, 2) := zdec_at bX43_renew_0 10 rfl
theorem dX43_renew_17 : decode cX43_renew 17 = .ok (.aload_n 0, 1) := zdec_at bX43_renew_0 11 rfl
theorem dX43_renew_18 : decode cX43_renew 18 = .ok (.iload_n 1, 1) := zdec_at bX43_renew_0 12 rfl
theorem dX43_renew_19 : decode cX43_renew 19 = .ok (.aload_n 0, 1) := zdec_at bX43_renew_0 13 rfl
theorem dX43_renew_20 : decode cX43_renew 20 = .ok (.getfield 21, 3) := zdec_at bX43_renew_0 14 rfl
theorem dX43_renew_23 : decode cX43_renew 23 = .ok (.getfield 53, 3) := zdec_at bX43_renew_0 15 rfl
theorem bX43_renew_26 : zdec cX43_renew 26 [(26, .invokevirtual 79, 3), (29, .if_icmp .gt 35, 3), (32, .aload_n 0, 1), (33, .getfield 25, 3), (36, .iload 4, 2), (38, .lconst 0, 1), (39, .lastore, 1), (40, .aload_n 0, 1), (41, .getfield 28, 3), (44, .iload 4, 2), (46, .lconst 0, 1), (47, .lastore, 1), (48, .aload_n 0, 1), (49, .getfield 31, 3), (52, .iload 4, 2), (54, .ldc2_w 83, 3)] = true := by decide +kernel
theorem dX43_renew_26 : decode cX43_renew 26 = .ok (.invokevirtual 79, 3) := zdec_at bX43_renew_26 0 rfl
theorem dX43_renew_29 : decode cX43_renew 29 = .ok (.if_icmp .gt 35, 3) := zdec_at bX43_renew_26 1 rfl
theorem dX43_renew_32 : decode cX43_renew 32 = .ok (.aload_n 0, 1) := zdec_at bX43_renew_26 2 rfl
theorem dX43_renew_33 : decode cX43_renew 33 = .ok (.getfield 25, 3) := zdec_at bX43_renew_26 3 rfl
theorem dX43_renew_36 : decode cX43_renew 36 = .ok (.iload 4, 2) := zdec_at bX43_renew_26 4 rfl
theorem dX43_renew_38 : decode cX43_renew 38 = .ok (.lconst 0, 1) := zdec_at bX43_renew_26 5 rfl
theorem dX43_renew_39 : decode cX43_renew 39 = .ok (.lastore, 1) := zdec_at bX43_renew_26 6 rfl
theorem dX43_renew_40 : decode cX43_renew 40 = .ok (.aload_n 0, 1) := zdec_at bX43_renew_26 7 rfl
theorem dX43_renew_41 : decode cX43_renew 41 = .ok (.getfield 28, 3) := zdec_at bX43_renew_26 8 rfl
theorem dX43_renew_44 : decode cX43_renew 44 = .ok (.iload 4, 2) := zdec_at bX43_renew_26 9 rfl
theorem dX43_renew_46 : decode cX43_renew 46 = .ok (.lconst 0, 1) := zdec_at bX43_renew_26 10 rfl
theorem dX43_renew_47 : decode cX43_renew 47 = .ok (.lastore, 1) := zdec_at bX43_renew_26 11 rfl
theorem dX43_renew_48 : decode cX43_renew 48 = .ok (.aload_n 0, 1) := zdec_at bX43_renew_26 12 rfl
theorem dX43_renew_49 : decode cX43_renew 49 = .ok (.getfield 31, 3) := zdec_at bX43_renew_26 13 rfl
theorem dX43_renew_52 : decode cX43_renew 52 = .ok (.iload 4, 2) := zdec_at bX43_renew_26 14 rfl
theorem dX43_renew_54 : decode cX43_renew 54 = .ok (.ldc2_w 83, 3) := zdec_at bX43_renew_26 15 rfl
theorem bX43_renew_57 : zdec cX43_renew 57 [(57, .lastore, 1), (58, .iinc 4 1, 3), (61, .goto (-46), 3), (64, .aload_n 0, 1), (65, .getfield 34, 3), (68, .iload_n 1, 1), (69, .iload_n 2, 1), (70, .ifCond .lt 15, 3), (73, .iload_n 2, 1), (74, .bipush 64, 2), (76, .if_icmp .ge 9, 3), (79, .lconst 1, 1), (80, .iload_n 2, 1), (81, .lshl, 1), (82, .goto 4, 3), (85, .lconst 0, 1)] = true := by decide +kernel
theorem dX43_renew_57 : decode cX43_renew 57 = .ok (.lastore, 1) := zdec_at bX43_renew_57 0 rfl
theorem dX43_renew_58 : decode cX43_renew 58 = .ok (.iinc 4 1, 3) := zdec_at bX43_renew_57 1 rfl
theorem dX43_renew_61 : decode cX43_renew 61 = .ok (.goto (-46), 3) := zdec_at bX43_renew_57 2 rfl
theorem dX43_renew_64 : decode cX43_renew 64 = .ok (.aload_n 0, 1) := zdec_at bX43_renew_57 3 rfl
theorem dX43_renew_65 : decode cX43_renew 65 = .ok (.getfield 34, 3) := zdec_at bX43_renew_57 4 rfl
theorem dX43_renew_68 : decode cX43_renew 68 = .ok (.iload_n 1, 1) := zdec_at bX43_renew_57 5 rfl
theorem dX43_renew_69 : decode cX43_renew 69 = .ok (.iload_n 2, 1) := zdec_at bX43_renew_57 6 rfl
theorem dX43_renew_70 : decode cX43_renew 70 = .ok (.ifCond .lt 15, 3) := zdec_at bX43_renew_57 7 rfl
theorem dX43_renew_73 : decode cX43_renew 73 = .ok (.iload_n 2, 1) := zdec_at bX43_renew_57 8 rfl
theorem dX43_renew_74 : decode cX43_renew 74 = .ok (.bipush 64, 2) := zdec_at bX43_renew_57 9 rfl
theorem dX43_renew_76 : decode cX43_renew 76 = .ok (.if_icmp .ge 9, 3) := zdec_at bX43_renew_57 10 rfl
theorem dX43_renew_79 : decode cX43_renew 79 = .ok (.lconst 1, 1) := zdec_at bX43_renew_57 11 rfl
theorem dX43_renew_80 : decode cX43_renew 80 = .ok (.iload_n 2, 1) := zdec_at bX43_renew_57 12 rfl
theorem dX43_renew_81 : decode cX43_renew 81 = .ok (.lshl, 1) := zdec_at bX43_renew_57 13 rfl
theorem dX43_renew_82 : decode cX43_renew 82 = .ok (.goto 4, 3) := zdec_at bX43_renew_57 14 rfl
theorem dX43_renew_85 : decode cX43_renew 85 = .ok (.lconst 0, 1) := zdec_at bX43_renew_57 15 rfl
theorem bX43_renew_86 : zdec cX43_renew 86 [(86, .lastore, 1), (87, .aload_n 0, 1), (88, .getfield 37, 3), (91, .iload_n 1, 1), (92, .iload_n 2, 1), (93, .bipush 64, 2), (95, .if_icmp .lt 12, 3), (98, .lconst 1, 1), (99, .iload_n 2, 1), (100, .bipush 64, 2), (102, .isub, 1), (103, .lshl, 1), (104, .goto 4, 3), (107, .lconst 0, 1), (108, .lastore, 1), (109, .aload_n 0, 1)] = true := by decide +kernel
theorem dX43_renew_86 : decode cX43_renew 86 = .ok (.lastore, 1) := zdec_at bX43_renew_86 0 rfl
theorem dX43_renew_87 : decode cX43_renew 87 = .ok (.aload_n 0, 1) := zdec_at bX43_renew_86 1 rfl
theorem dX43_renew_88 : decode cX43_renew 88 = .ok (.getfield 37, 3) := zdec_at bX43_renew_86 2 rfl
theorem dX43_renew_91 : decode cX43_renew 91 = .ok (.iload_n 1, 1) := zdec_at bX43_renew_86 3 rfl
theorem dX43_renew_92 : decode cX43_renew 92 = .ok (.iload_n 2, 1) := zdec_at bX43_renew_86 4 rfl
theorem dX43_renew_93 : decode cX43_renew 93 = .ok (.bipush 64, 2) := zdec_at bX43_renew_86 5 rfl
theorem dX43_renew_95 : decode cX43_renew 95 = .ok (.if_icmp .lt 12, 3) := zdec_at bX43_renew_86 6 rfl
theorem dX43_renew_98 : decode cX43_renew 98 = .ok (.lconst 1, 1) := zdec_at bX43_renew_86 7 rfl
theorem dX43_renew_99 : decode cX43_renew 99 = .ok (.iload_n 2, 1) := zdec_at bX43_renew_86 8 rfl
theorem dX43_renew_100 : decode cX43_renew 100 = .ok (.bipush 64, 2) := zdec_at bX43_renew_86 9 rfl
theorem dX43_renew_102 : decode cX43_renew 102 = .ok (.isub, 1) := zdec_at bX43_renew_86 10 rfl
theorem dX43_renew_103 : decode cX43_renew 103 = .ok (.lshl, 1) := zdec_at bX43_renew_86 11 rfl
theorem dX43_renew_104 : decode cX43_renew 104 = .ok (.goto 4, 3) := zdec_at bX43_renew_86 12 rfl
theorem dX43_renew_107 : decode cX43_renew 107 = .ok (.lconst 0, 1) := zdec_at bX43_renew_86 13 rfl
theorem dX43_renew_108 : decode cX43_renew 108 = .ok (.lastore, 1) := zdec_at bX43_renew_86 14 rfl
theorem dX43_renew_109 : decode cX43_renew 109 = .ok (.aload_n 0, 1) := zdec_at bX43_renew_86 15 rfl
theorem bX43_renew_110 : zdec cX43_renew 110 [(110, .getfield 50, 3), (113, .iload_n 1, 1), (114, .iload_n 3, 1), (115, .bastore, 1), (116, .aload_n 0, 1), (117, .getfield 40, 3), (120, .iload_n 1, 1), (121, .lconst 0, 1), (122, .lastore, 1), (123, .aload_n 0, 1), (124, .getfield 43, 3), (127, .iload_n 1, 1), (128, .lconst 0, 1), (129, .lastore, 1), (130, .return_, 1)] = true := by decide +kernel
theorem dX43_renew_110 : decode cX43_renew 110 = .ok (.getfield 50, 3) := zdec_at bX43_renew_110 0 rfl
theorem dX43_renew_113 : decode cX43_renew 113 = .ok (.iload_n 1, 1) := zdec_at bX43_renew_110 1 rfl
theorem dX43_renew_114 : decode cX43_renew 114 = .ok (.iload_n 3, 1) := zdec_at bX43_renew_110 2 rfl
theorem dX43_renew_115 : decode cX43_renew 115 = .ok (.bastore, 1) := zdec_at bX43_renew_110 3 rfl
theorem dX43_renew_116 : decode cX43_renew 116 = .ok (.aload_n 0, 1) := zdec_at bX43_renew_110 4 rfl
theorem dX43_renew_117 : decode cX43_renew 117 = .ok (.getfield 40, 3) := zdec_at bX43_renew_110 5 rfl
theorem dX43_renew_120 : decode cX43_renew 120 = .ok (.iload_n 1, 1) := zdec_at bX43_renew_110 6 rfl
theorem dX43_renew_121 : decode cX43_renew 121 = .ok (.lconst 0, 1) := zdec_at bX43_renew_110 7 rfl
theorem dX43_renew_122 : decode cX43_renew 122 = .ok (.lastore, 1) := zdec_at bX43_renew_110 8 rfl
theorem dX43_renew_123 : decode cX43_renew 123 = .ok (.aload_n 0, 1) := zdec_at bX43_renew_110 9 rfl
theorem dX43_renew_124 : decode cX43_renew 124 = .ok (.getfield 43, 3) := zdec_at bX43_renew_110 10 rfl
theorem dX43_renew_127 : decode cX43_renew 127 = .ok (.iload_n 1, 1) := zdec_at bX43_renew_110 11 rfl
theorem dX43_renew_128 : decode cX43_renew 128 = .ok (.lconst 0, 1) := zdec_at bX43_renew_110 12 rfl
theorem dX43_renew_129 : decode cX43_renew 129 = .ok (.lastore, 1) := zdec_at bX43_renew_110 13 rfl
theorem dX43_renew_130 : decode cX43_renew 130 = .ok (.return_, 1) := zdec_at bX43_renew_110 14 rfl
theorem sX43_renew_0 {E : zE} {d : Nat} {Q : zO → zM → Prop} (M : zM) (a0 : Nat) (l1 : Int32) (l2 : Int32) (l3 : Int32) (k : ∃ b1 m1 : Nat, (gr M a0 8) = some (b1, 104, m1) ∧ (16 ≤ b1 ∧ (vp_in l1 m1 ∧ (Z E YX43_cell d (si M b1 (l1).toNatClampNeg (vp_nar .boolean (1 : Int32))) (zargs 0 [vr (some (a0, 7, 0)), vi l1, vi (0 : Int32)]) 0 [] (zafter E YX43_renew (d + 1) [(0, vr (some (a0, 7, 0))), (1, vi l1), (2, vi l2), (3, vi l3)] 10 3 [] Q))))) : Z E YX43_renew (d + 1) M [(0, vr (some (a0, 7, 0))), (1, vi l1), (2, vi l2), (3, vi l3)] 0 [] Q := by
  refine z_aload_n dX43_renew_0 rfl rfl ?_
  refine z_getr (r := (gr M a0 8)) dX43_renew_1 fsX43_46_7 rfl ?_
  refine z_iload_n dX43_renew_4 rfl rfl ?_
  refine z_iconst (v := 1) dX43_renew_5 rfl ?_
  obtain ⟨b1, m1, e1_, k⟩ := k
  refine Z.eqs (lv' := [(0, vr (some (a0, 7, 0))), (1, vi l1), (2, vi l2), (3, vi l3)]) (st' := [vi (1 : Int32), vi l1, vr (some (b1, 104, m1))]) rfl (by rw [e1_] <;> rfl) ?_
  obtain ⟨g_, k⟩ := k
  obtain ⟨b_, k⟩ := k
  refine z_zast g_ dX43_renew_6 b_ ?_
  refine z_aload_n dX43_renew_7 rfl rfl ?_
  refine z_iload_n dX43_renew_8 rfl rfl ?_
  refine z_iconst (v := 0) dX43_renew_9 rfl ?_
  exact z_callV (as := [vi l1, vi (0 : Int32)]) (st := []) dX43_renew_10 vsX43_79_7 (Nat.le_refl _) (Nat.le_of_ble_eq_true rfl) (Nat.le_of_ble_eq_true rfl) rfl k
theorem sX43_renew_13 {E : zE} {d : Nat} {Q : zO → zM → Prop} (M : zM) (a0 : Nat) (l1 : Int32) (l2 : Int32) (l3 : Int32) (s0 : Int32) (k : Z E YX43_renew (d + 1) M [(0, vr (some (a0, 7, 0))), (1, vi l1), (2, vi l2), (3, vi l3), (4, vi s0)] 15 [] Q) : Z E YX43_renew (d + 1) M [(0, vr (some (a0, 7, 0))), (1, vi l1), (2, vi l2), (3, vi l3)] 13 [vi s0] Q := by
  refine z_ist dX43_renew_13 (by decide) (lv' := [(0, vr (some (a0, 7, 0))), (1, vi l1), (2, vi l2), (3, vi l3), (4, vi s0)]) rfl ?_
  exact k
theorem sX43_renew_15 {E : zE} {d : Nat} {Q : zO → zM → Prop} (M : zM) (a0 : Nat) (l1 : Int32) (l2 : Int32) (l3 : Int32) (l4 : Int32) (k : ∃ b1 : Nat, (gr M a0 0) = some (b1, 0, 0) ∧ (Z E YX43_cell d M (zargs 0 [vr (some (a0, 7, 0)), vi l1, vi (gi M b1 1)]) 0 [] (zafter E YX43_renew (d + 1) [(0, vr (some (a0, 7, 0))), (1, vi l1), (2, vi l2), (3, vi l3), (4, vi l4)] 26 3 [vi l4] Q))) : Z E YX43_renew (d + 1) M [(0, vr (some (a0, 7, 0))), (1, vi l1), (2, vi l2), (3, vi l3), (4, vi l4)] 15 [] Q := by
  refine z_iload dX43_renew_15 rfl ?_
  refine z_aload_n dX43_renew_17 rfl rfl ?_
  refine z_iload_n dX43_renew_18 rfl rfl ?_
  refine z_aload_n dX43_renew_19 rfl rfl ?_
  refine z_getr (r := (gr M a0 0)) dX43_renew_20 fsX43_21_7 rfl ?_
  obtain ⟨b1, e1_, k⟩ := k
  refine Z.eqs (lv' := [(0, vr (some (a0, 7, 0))), (1, vi l1), (2, vi l2), (3, vi l3), (4, vi l4)]) (st' := [vr (some (b1, 0, 0)), vi l1, vr (some (a0, 7, 0)), vi l4]) rfl (by rw [e1_] <;> rfl) ?_
  refine z_geti dX43_renew_23 fsX43_53_0 ?_
  exact z_callV (as := [vi l1, vi (gi M b1 1)]) (st := [vi l4]) dX43_renew_26 vsX43_79_7 (Nat.le_refl _) (Nat.le_of_ble_eq_true rfl) (Nat.le_of_ble_eq_true rfl) rfl k
theorem sX43_renew_29 {E : zE} {d : Nat} {Q : zO → zM → Prop} (M : zM) (a0 : Nat) (l1 : Int32) (l2 : Int32) (l3 : Int32) (l4 : Int32) (s0 : Int32) (s1 : Int32) (k : if s0 < s1 then (if l2 < 0 then (Z E YX43_renew (d + 1) M [(0, vr (some (a0, 7, 0))), (1, vi l1), (2, vi l2), (3, vi l3)] 86 [vl (0 : Int64), vi l1, vr (gr M a0 4)] Q) else (if (64 : Int32) ≤ l2 then (Z E YX43_renew (d + 1) M [(0, vr (some (a0, 7, 0))), (1, vi l1), (2, vi l2), (3, vi l3)] 86 [vl (0 : Int64), vi l1, vr (gr M a0 4)] Q) else (Z E YX43_renew (d + 1) M [(0, vr (some (a0, 7, 0))), (1, vi l1), (2, vi l2), (3, vi l3)] 86 [vl (zls (1 : Int64) l2), vi l1, vr (gr M a0 4)] Q))) else (∃ b1 m1 : Nat, (gr M a0 1) = some (b1, 105, m1) ∧ (16 ≤ b1 ∧ (vp_in l4 m1 ∧ (∃ b2 m2 : Nat, (gr M a0 2) = some (b2, 105, m2) ∧ (16 ≤ b2 ∧ (vp_in l4 m2 ∧ (∃ b3 m3 : Nat, (gr M a0 3) = some (b3, 105, m3) ∧ (16 ≤ b3 ∧ (vp_in l4 m3 ∧ (Z E YX43_renew (d + 1) (sl (sl (sl M b1 (l4).toNatClampNeg (0 : Int64)) b2 (l4).toNatClampNeg (0 : Int64)) b3 (l4).toNatClampNeg (512 : Int64)) [(0, vr (some (a0, 7, 0))), (1, vi l1), (2, vi l2), (3, vi l3), (4, vi (l4 + (1 : Int32)))] 15 [] Q))))))))))) : Z E YX43_renew (d + 1) M [(0, vr (some (a0, 7, 0))), (1, vi l1), (2, vi l2), (3, vi l3), (4, vi l4)] 29 [vi s0, vi s1] Q := by
  refine z_icmp_gt (tgt := 64) dX43_renew_29 rfl (fun h_ => ?_) (fun h_ => ?_)
  · have k := zit h_ k
    refine z_aload_n dX43_renew_64 rfl rfl ?_
    refine z_getr (r := (gr M a0 4)) dX43_renew_65 fsX43_34_7 rfl ?_
    refine z_iload_n dX43_renew_68 rfl rfl ?_
    refine z_iload_n dX43_renew_69 rfl rfl ?_
    refine z_if_lt (tgt := 85) dX43_renew_70 rfl (fun h_ => ?_) (fun h_ => ?_)
    · have k := zit h_ k
      refine z_lconst (v := 0) dX43_renew_85 rfl ?_
      refine Z.pick [0, 1, 2, 3] rfl ?_
      exact k
    · have k := zif h_ k
      refine z_iload_n dX43_renew_73 rfl rfl ?_
      refine z_bipush (v := 64) dX43_renew_74 rfl ?_
      refine z_icmp_ge (tgt := 85) dX43_renew_76 rfl (fun h_ => ?_) (fun h_ => ?_)
      · have k := zit h_ k
        refine z_lconst (v := 0) dX43_renew_85 rfl ?_
        refine Z.pick [0, 1, 2, 3] rfl ?_
        exact k
      · have k := zif h_ k
        refine z_lconst (v := 1) dX43_renew_79 rfl ?_
        refine z_iload_n dX43_renew_80 rfl rfl ?_
        refine z_lshl dX43_renew_81 ?_
        refine z_goto (tgt := 86) dX43_renew_82 rfl ?_
        refine Z.pick [0, 1, 2, 3] rfl ?_
        exact k
  · have k := zif h_ k
    refine z_aload_n dX43_renew_32 rfl rfl ?_
    refine z_getr (r := (gr M a0 1)) dX43_renew_33 fsX43_25_7 rfl ?_
    refine z_iload dX43_renew_36 rfl ?_
    refine z_lconst (v := 0) dX43_renew_38 rfl ?_
    obtain ⟨b1, m1, e1_, k⟩ := k
    refine Z.eqs (lv' := [(0, vr (some (a0, 7, 0))), (1, vi l1), (2, vi l2), (3, vi l3), (4, vi l4)]) (st' := [vl (0 : Int64), vi l4, vr (some (b1, 105, m1))]) rfl (by rw [e1_] <;> rfl) ?_
    obtain ⟨g_, k⟩ := k
    obtain ⟨b_, k⟩ := k
    refine z_last g_ dX43_renew_39 b_ ?_
    refine z_aload_n dX43_renew_40 rfl rfl ?_
    refine z_getr (r := (gr M a0 2)) dX43_renew_41 fsX43_28_7 rfl ?_
    refine z_iload dX43_renew_44 rfl ?_
    refine z_lconst (v := 0) dX43_renew_46 rfl ?_
    obtain ⟨b2, m2, e2_, k⟩ := k
    refine Z.eqs (lv' := [(0, vr (some (a0, 7, 0))), (1, vi l1), (2, vi l2), (3, vi l3), (4, vi l4)]) (st' := [vl (0 : Int64), vi l4, vr (some (b2, 105, m2))]) rfl (by rw [e2_] <;> rfl) ?_
    obtain ⟨g_, k⟩ := k
    obtain ⟨b_, k⟩ := k
    refine z_last g_ dX43_renew_47 b_ ?_
    refine z_aload_n dX43_renew_48 rfl rfl ?_
    refine z_getr (r := (gr M a0 3)) dX43_renew_49 fsX43_31_7 rfl ?_
    refine z_iload dX43_renew_52 rfl ?_
    refine z_ldc2 (v := 512) dX43_renew_54 q3107 ?_
    obtain ⟨b3, m3, e3_, k⟩ := k
    refine Z.eqs (lv' := [(0, vr (some (a0, 7, 0))), (1, vi l1), (2, vi l2), (3, vi l3), (4, vi l4)]) (st' := [vl (512 : Int64), vi l4, vr (some (b3, 105, m3))]) rfl (by rw [e3_] <;> rfl) ?_
    obtain ⟨g_, k⟩ := k
    obtain ⟨b_, k⟩ := k
    refine z_last g_ dX43_renew_57 b_ ?_
    refine z_inc (v := (l4 + (1 : Int32))) dX43_renew_58 rfl rfl (by decide) (lv' := [(0, vr (some (a0, 7, 0))), (1, vi l1), (2, vi l2), (3, vi l3), (4, vi (l4 + (1 : Int32)))]) rfl ?_
    refine z_goto (tgt := 15) dX43_renew_61 rfl ?_
    exact k
theorem sX43_renew_86 {E : zE} {d : Nat} {Q : zO → zM → Prop} (M : zM) (a0 : Nat) (l1 : Int32) (l2 : Int32) (l3 : Int32) (s0 : Int64) (s1 : Int32) (u2 : Option zP) (k : ∃ b1 m1 : Nat, u2 = some (b1, 105, m1) ∧ (16 ≤ b1 ∧ (vp_in s1 m1 ∧ (if l2 < (64 : Int32) then (Z E YX43_renew (d + 1) (sl M b1 (s1).toNatClampNeg s0) [(0, vr (some (a0, 7, 0))), (1, vi l1), (3, vi l3)] 108 [vl (0 : Int64), vi l1, vr (gr M a0 5)] Q) else (Z E YX43_renew (d + 1) (sl M b1 (s1).toNatClampNeg s0) [(0, vr (some (a0, 7, 0))), (1, vi l1), (3, vi l3)] 108 [vl (zls (1 : Int64) (l2 - (64 : Int32))), vi l1, vr (gr M a0 5)] Q))))) : Z E YX43_renew (d + 1) M [(0, vr (some (a0, 7, 0))), (1, vi l1), (2, vi l2), (3, vi l3)] 86 [vl s0, vi s1, vr u2] Q := by
  obtain ⟨b1, m1, e1_, k⟩ := k
  refine Z.eqs (lv' := [(0, vr (some (a0, 7, 0))), (1, vi l1), (2, vi l2), (3, vi l3)]) (st' := [vl s0, vi s1, vr (some (b1, 105, m1))]) rfl (by rw [e1_] <;> rfl) ?_
  obtain ⟨g_, k⟩ := k
  obtain ⟨b_, k⟩ := k
  refine z_last g_ dX43_renew_86 b_ ?_
  refine z_aload_n dX43_renew_87 rfl rfl ?_
  refine z_getr (r := (gr M a0 5)) dX43_renew_88 fsX43_37_7 rfl ?_
  refine z_iload_n dX43_renew_91 rfl rfl ?_
  refine z_iload_n dX43_renew_92 rfl rfl ?_
  refine z_bipush (v := 64) dX43_renew_93 rfl ?_
  refine z_icmp_lt (tgt := 107) dX43_renew_95 rfl (fun h_ => ?_) (fun h_ => ?_)
  · have k := zit h_ k
    refine z_lconst (v := 0) dX43_renew_107 rfl ?_
    refine Z.pick [0, 1, 3] rfl ?_
    exact k
  · have k := zif h_ k
    refine z_lconst (v := 1) dX43_renew_98 rfl ?_
    refine z_iload_n dX43_renew_99 rfl rfl ?_
    refine z_bipush (v := 64) dX43_renew_100 rfl ?_
    refine z_isub dX43_renew_102 ?_
    refine z_lshl dX43_renew_103 ?_
    refine z_goto (tgt := 108) dX43_renew_104 rfl ?_
    refine Z.pick [0, 1, 3] rfl ?_
    exact k
theorem sX43_renew_108 {E : zE} {d : Nat} {Q : zO → zM → Prop} (M : zM) (a0 : Nat) (l1 : Int32) (l3 : Int32) (s0 : Int64) (s1 : Int32) (u2 : Option zP) (k : ∃ b1 m1 : Nat, u2 = some (b1, 105, m1) ∧ (16 ≤ b1 ∧ (vp_in s1 m1 ∧ (∃ b2 m2 : Nat, (gr M a0 9) = some (b2, 104, m2) ∧ (16 ≤ b2 ∧ (vp_in l1 m2 ∧ (∃ b3 m3 : Nat, (gr M a0 6) = some (b3, 105, m3) ∧ (16 ≤ b3 ∧ (vp_in l1 m3 ∧ (∃ b4 m4 : Nat, (gr M a0 7) = some (b4, 105, m4) ∧ (16 ≤ b4 ∧ (vp_in l1 m4 ∧ (Q (.inl none) (sl (sl (si (sl M b1 (s1).toNatClampNeg s0) b2 (l1).toNatClampNeg (vp_nar .boolean l3)) b3 (l1).toNatClampNeg (0 : Int64)) b4 (l1).toNatClampNeg (0 : Int64))))))))))))))) : Z E YX43_renew (d + 1) M [(0, vr (some (a0, 7, 0))), (1, vi l1), (3, vi l3)] 108 [vl s0, vi s1, vr u2] Q := by
  obtain ⟨b1, m1, e1_, k⟩ := k
  refine Z.eqs (lv' := [(0, vr (some (a0, 7, 0))), (1, vi l1), (3, vi l3)]) (st' := [vl s0, vi s1, vr (some (b1, 105, m1))]) rfl (by rw [e1_] <;> rfl) ?_
  obtain ⟨g_, k⟩ := k
  obtain ⟨b_, k⟩ := k
  refine z_last g_ dX43_renew_108 b_ ?_
  refine z_aload_n dX43_renew_109 rfl rfl ?_
  refine z_getr (r := (gr M a0 9)) dX43_renew_110 fsX43_50_7 rfl ?_
  refine z_iload_n dX43_renew_113 rfl rfl ?_
  refine z_iload_n dX43_renew_114 rfl rfl ?_
  obtain ⟨b2, m2, e2_, k⟩ := k
  refine Z.eqs (lv' := [(0, vr (some (a0, 7, 0))), (1, vi l1), (3, vi l3)]) (st' := [vi l3, vi l1, vr (some (b2, 104, m2))]) rfl (by rw [e2_] <;> rfl) ?_
  obtain ⟨g_, k⟩ := k
  obtain ⟨b_, k⟩ := k
  refine z_zast g_ dX43_renew_115 b_ ?_
  refine z_aload_n dX43_renew_116 rfl rfl ?_
  refine z_getr (r := (gr M a0 6)) dX43_renew_117 fsX43_40_7 rfl ?_
  refine z_iload_n dX43_renew_120 rfl rfl ?_
  refine z_lconst (v := 0) dX43_renew_121 rfl ?_
  obtain ⟨b3, m3, e3_, k⟩ := k
  refine Z.eqs (lv' := [(0, vr (some (a0, 7, 0))), (1, vi l1), (3, vi l3)]) (st' := [vl (0 : Int64), vi l1, vr (some (b3, 105, m3))]) rfl (by rw [e3_] <;> rfl) ?_
  obtain ⟨g_, k⟩ := k
  obtain ⟨b_, k⟩ := k
  refine z_last g_ dX43_renew_122 b_ ?_
  refine z_aload_n dX43_renew_123 rfl rfl ?_
  refine z_getr (r := (gr M a0 7)) dX43_renew_124 fsX43_43_7 rfl ?_
  refine z_iload_n dX43_renew_127 rfl rfl ?_
  refine z_lconst (v := 0) dX43_renew_128 rfl ?_
  obtain ⟨b4, m4, e4_, k⟩ := k
  refine Z.eqs (lv' := [(0, vr (some (a0, 7, 0))), (1, vi l1), (3, vi l3)]) (st' := [vl (0 : Int64), vi l1, vr (some (b4, 105, m4))]) rfl (by rw [e4_] <;> rfl) ?_
  obtain ⟨g_, k⟩ := k
  obtain ⟨b_, k⟩ := k
  refine z_last g_ dX43_renew_129 b_ ?_
  exact z_vret dX43_renew_130 rfl k
/-! ScriptTypes$Work.cell(II)I -/
theorem bX43_cell_0 : zdec cX43_cell 0 [(0, .iload_n 1, 1), (1, .aload_n 0, 1), (2, .getfield 21, 3), (5, .getfield 53, 3), (8, .iconst 1, 1), (9, .iadd, 1), (10, .imul, 1), (11, .iload_n 2, 1), (12, .iadd, 1), (13, .ireturn, 1)] = true := by decide +kernel
theorem dX43_cell_0 : decode cX43_cell 0 = .ok (.iload_n 1, 1) := zdec_at bX43_cell_0 0 rfl
theorem dX43_cell_1 : decode cX43_cell 1 = .ok (.aload_n 0, 1) := zdec_at bX43_cell_0 1 rfl
theorem dX43_cell_2 : decode cX43_cell 2 = .ok (.getfield 21, 3) := zdec_at bX43_cell_0 2 rfl
theorem dX43_cell_5 : decode cX43_cell 5 = .ok (.getfield 53, 3) := zdec_at bX43_cell_0 3 rfl
theorem dX43_cell_8 : decode cX43_cell 8 = .ok (.iconst 1, 1) := zdec_at bX43_cell_0 4 rfl
theorem dX43_cell_9 : decode cX43_cell 9 = .ok (.iadd, 1) := zdec_at bX43_cell_0 5 rfl
theorem dX43_cell_10 : decode cX43_cell 10 = .ok (.imul, 1) := zdec_at bX43_cell_0 6 rfl
theorem dX43_cell_11 : decode cX43_cell 11 = .ok (.iload_n 2, 1) := zdec_at bX43_cell_0 7 rfl
theorem dX43_cell_12 : decode cX43_cell 12 = .ok (.iadd, 1) := zdec_at bX43_cell_0 8 rfl
theorem dX43_cell_13 : decode cX43_cell 13 = .ok (.ireturn, 1) := zdec_at bX43_cell_0 9 rfl
theorem sX43_cell_0 {E : zE} {d : Nat} {Q : zO → zM → Prop} (M : zM) (a0 : Nat) (l1 : Int32) (l2 : Int32) (k : ∃ b1 : Nat, (gr M a0 0) = some (b1, 0, 0) ∧ (Q (.inl (some (vi ((l1 * ((gi M b1 1) + (1 : Int32))) + l2)))) M)) : Z E YX43_cell d M [(0, vr (some (a0, 7, 0))), (1, vi l1), (2, vi l2)] 0 [] Q := by
  refine z_iload_n dX43_cell_0 rfl rfl ?_
  refine z_aload_n dX43_cell_1 rfl rfl ?_
  refine z_getr (r := (gr M a0 0)) dX43_cell_2 fsX43_21_7 rfl ?_
  obtain ⟨b1, e1_, k⟩ := k
  refine Z.eqs (lv' := [(0, vr (some (a0, 7, 0))), (1, vi l1), (2, vi l2)]) (st' := [vr (some (b1, 0, 0)), vi l1]) rfl (by rw [e1_] <;> rfl) ?_
  refine z_geti dX43_cell_5 fsX43_53_0 ?_
  refine z_iconst (v := 1) dX43_cell_8 rfl ?_
  refine z_iadd dX43_cell_9 ?_
  refine z_imul dX43_cell_10 ?_
  refine z_iload_n dX43_cell_11 rfl rfl ?_
  refine z_iadd dX43_cell_12 ?_
  exact z_iret dX43_cell_13 rfl rfl k
/-! ScriptTypes$Work.put(IIJJJ)V -/
theorem bX43_put_0 : zdec cX43_put 0 [(0, .aload_n 0, 1), (1, .iload_n 1, 1), (2, .iload_n 2, 1), (3, .invokevirtual 79, 3), (6, .istore 9, 2), (8, .aload_n 0, 1), (9, .getfield 25, 3), (12, .iload 9, 2), (14, .lload_n 3, 1), (15, .lastore, 1), (16, .aload_n 0, 1), (17, .getfield 28, 3), (20, .iload 9, 2), (22, .lload 5, 2), (24, .lastore, 1), (25, .aload_n 0, 1)] = true := by decide +kernel
theorem dX43_put_0 : decode cX43_put 0 = .ok (.aload_n 0, 1) := zdec_at bX43_put_0 0 rfl
theorem dX43_put_1 : decode cX43_put 1 = .ok (.iload_n 1, 1) := zdec_at bX43_put_0 1 rfl
theorem dX43_put_2 : decode cX43_put 2 = .ok (.iload_n 2, 1) := zdec_at bX43_put_0 2 rfl
theorem dX43_put_3 : decode cX43_put 3 = .ok (.invokevirtual 79, 3) := zdec_at bX43_put_0 3 rfl
theorem dX43_put_6 : decode cX43_put 6 = .ok (.istore 9, 2) := zdec_at bX43_put_0 4 rfl
theorem dX43_put_8 : decode cX43_put 8 = .ok (.aload_n 0, 1) := zdec_at bX43_put_0 5 rfl
theorem dX43_put_9 : decode cX43_put 9 = .ok (.getfield 25, 3) := zdec_at bX43_put_0 6 rfl
theorem dX43_put_12 : decode cX43_put 12 = .ok (.iload 9, 2) := zdec_at bX43_put_0 7 rfl
theorem dX43_put_14 : decode cX43_put 14 = .ok (.lload_n 3, 1) := zdec_at bX43_put_0 8 rfl
theorem dX43_put_15 : decode cX43_put 15 = .ok (.lastore, 1) := zdec_at bX43_put_0 9 rfl
theorem dX43_put_16 : decode cX43_put 16 = .ok (.aload_n 0, 1) := zdec_at bX43_put_0 10 rfl
theorem dX43_put_17 : decode cX43_put 17 = .ok (.getfield 28, 3) := zdec_at bX43_put_0 11 rfl
theorem dX43_put_20 : decode cX43_put 20 = .ok (.iload 9, 2) := zdec_at bX43_put_0 12 rfl
theorem dX43_put_22 : decode cX43_put 22 = .ok (.lload 5, 2) := zdec_at bX43_put_0 13 rfl
theorem dX43_put_24 : decode cX43_put 24 = .ok (.lastore, 1) := zdec_at bX43_put_0 14 rfl
theorem dX43_put_25 : decode cX43_put 25 = .ok (.aload_n 0, 1) := zdec_at bX43_put_0 15 rfl
theorem bX43_put_26 : zdec cX43_put 26 [(26, .getfield 31, 3), (29, .iload 9, 2), (31, .lload 7, 2), (33, .lastore, 1), (34, .return_, 1)] = true := by decide +kernel
theorem dX43_put_26 : decode cX43_put 26 = .ok (.getfield 31, 3) := zdec_at bX43_put_26 0 rfl
theorem dX43_put_29 : decode cX43_put 29 = .ok (.iload 9, 2) := zdec_at bX43_put_26 1 rfl
theorem dX43_put_31 : decode cX43_put 31 = .ok (.lload 7, 2) := zdec_at bX43_put_26 2 rfl
theorem dX43_put_33 : decode cX43_put 33 = .ok (.lastore, 1) := zdec_at bX43_put_26 3 rfl
theorem dX43_put_34 : decode cX43_put 34 = .ok (.return_, 1) := zdec_at bX43_put_26 4 rfl
theorem sX43_put_0 {E : zE} {d : Nat} {Q : zO → zM → Prop} (M : zM) (a0 : Nat) (l1 : Int32) (l2 : Int32) (l3 : Int64) (l5 : Int64) (l7 : Int64) (k : Z E YX43_cell d M (zargs 0 [vr (some (a0, 7, 0)), vi l1, vi l2]) 0 [] (zafter E YX43_put (d + 1) [(0, vr (some (a0, 7, 0))), (3, vl l3), (5, vl l5), (7, vl l7)] 3 3 [] Q)) : Z E YX43_put (d + 1) M [(0, vr (some (a0, 7, 0))), (1, vi l1), (2, vi l2), (3, vl l3), (5, vl l5), (7, vl l7)] 0 [] Q := by
  refine z_aload_n dX43_put_0 rfl rfl ?_
  refine z_iload_n dX43_put_1 rfl rfl ?_
  refine z_iload_n dX43_put_2 rfl rfl ?_
  refine Z.pick [0, 3, 4, 5] rfl ?_
  exact z_callV (as := [vi l1, vi l2]) (st := []) dX43_put_3 vsX43_79_7 (Nat.le_refl _) (Nat.le_of_ble_eq_true rfl) (Nat.le_of_ble_eq_true rfl) rfl k
theorem sX43_put_6 {E : zE} {d : Nat} {Q : zO → zM → Prop} (M : zM) (a0 : Nat) (l3 : Int64) (l5 : Int64) (l7 : Int64) (s0 : Int32) (k : ∃ b1 m1 : Nat, (gr M a0 1) = some (b1, 105, m1) ∧ (16 ≤ b1 ∧ (vp_in s0 m1 ∧ (∃ b2 m2 : Nat, (gr M a0 2) = some (b2, 105, m2) ∧ (16 ≤ b2 ∧ (vp_in s0 m2 ∧ (∃ b3 m3 : Nat, (gr M a0 3) = some (b3, 105, m3) ∧ (16 ≤ b3 ∧ (vp_in s0 m3 ∧ (Q (.inl none) (sl (sl (sl M b1 (s0).toNatClampNeg l3) b2 (s0).toNatClampNeg l5) b3 (s0).toNatClampNeg l7))))))))))) : Z E YX43_put (d + 1) M [(0, vr (some (a0, 7, 0))), (3, vl l3), (5, vl l5), (7, vl l7)] 6 [vi s0] Q := by
  refine z_ist dX43_put_6 (by decide) (lv' := [(0, vr (some (a0, 7, 0))), (3, vl l3), (5, vl l5), (7, vl l7), (9, vi s0)]) rfl ?_
  refine z_aload_n dX43_put_8 rfl rfl ?_
  refine z_getr (r := (gr M a0 1)) dX43_put_9 fsX43_25_7 rfl ?_
  refine z_iload dX43_put_12 rfl ?_
  refine z_lload_n dX43_put_14 rfl rfl ?_
  obtain ⟨b1, m1, e1_, k⟩ := k
  refine Z.eqs (lv' := [(0, vr (some (a0, 7, 0))), (3, vl l3), (5, vl l5), (7, vl l7), (9, vi s0)]) (st' := [vl l3, vi s0, vr (some (b1, 105, m1))]) rfl (by rw [e1_] <;> rfl) ?_
  obtain ⟨g_, k⟩ := k
  obtain ⟨b_, k⟩ := k
  refine z_last g_ dX43_put_15 b_ ?_
  refine z_aload_n dX43_put_16 rfl rfl ?_
  refine z_getr (r := (gr M a0 2)) dX43_put_17 fsX43_28_7 rfl ?_
  refine z_iload dX43_put_20 rfl ?_
  refine z_lload dX43_put_22 rfl ?_
  obtain ⟨b2, m2, e2_, k⟩ := k
  refine Z.eqs (lv' := [(0, vr (some (a0, 7, 0))), (3, vl l3), (5, vl l5), (7, vl l7), (9, vi s0)]) (st' := [vl l5, vi s0, vr (some (b2, 105, m2))]) rfl (by rw [e2_] <;> rfl) ?_
  obtain ⟨g_, k⟩ := k
  obtain ⟨b_, k⟩ := k
  refine z_last g_ dX43_put_24 b_ ?_
  refine z_aload_n dX43_put_25 rfl rfl ?_
  refine z_getr (r := (gr M a0 3)) dX43_put_26 fsX43_31_7 rfl ?_
  refine z_iload dX43_put_29 rfl ?_
  refine z_lload dX43_put_31 rfl ?_
  obtain ⟨b3, m3, e3_, k⟩ := k
  refine Z.eqs (lv' := [(0, vr (some (a0, 7, 0))), (3, vl l3), (5, vl l5), (7, vl l7), (9, vi s0)]) (st' := [vl l7, vi s0, vr (some (b3, 105, m3))]) rfl (by rw [e3_] <;> rfl) ?_
  obtain ⟨g_, k⟩ := k
  obtain ⟨b_, k⟩ := k
  refine z_last g_ dX43_put_33 b_ ?_
  exact z_vret dX43_put_34 rfl k
/-! ScriptTypes$Work.push(LScriptTypes$Bag;)V -/
theorem bX43_push_0 : zdec cX43_push 0 [(0, .aload_n 0, 1), (1, .aload_n 1, 1), (2, .getfield 60, 3), (5, .aload_n 1, 1), (6, .getfield 65, 3), (9, .aload_n 1, 1), (10, .getfield 67, 3), (13, .ldc2_w 69, 3), (16, .land, 1), (17, .invokevirtual 71, 3), (20, .return_, 1)] = true := by decide +kernel
theorem dX43_push_0 : decode cX43_push 0 = .ok (.aload_n 0, 1) := zdec_at bX43_push_0 0 rfl
theorem dX43_push_1 : decode cX43_push 1 = .ok (.aload_n 1, 1) := zdec_at bX43_push_0 1 rfl
theorem dX43_push_2 : decode cX43_push 2 = .ok (.getfield 60, 3) := zdec_at bX43_push_0 2 rfl
theorem dX43_push_5 : decode cX43_push 5 = .ok (.aload_n 1, 1) := zdec_at bX43_push_0 3 rfl
theorem dX43_push_6 : decode cX43_push 6 = .ok (.getfield 65, 3) := zdec_at bX43_push_0 4 rfl
theorem dX43_push_9 : decode cX43_push 9 = .ok (.aload_n 1, 1) := zdec_at bX43_push_0 5 rfl
theorem dX43_push_10 : decode cX43_push 10 = .ok (.getfield 67, 3) := zdec_at bX43_push_0 6 rfl
theorem dX43_push_13 : decode cX43_push 13 = .ok (.ldc2_w 69, 3) := zdec_at bX43_push_0 7 rfl
theorem dX43_push_16 : decode cX43_push 16 = .ok (.land, 1) := zdec_at bX43_push_0 8 rfl
theorem dX43_push_17 : decode cX43_push 17 = .ok (.invokevirtual 71, 3) := zdec_at bX43_push_0 9 rfl
theorem dX43_push_20 : decode cX43_push 20 = .ok (.return_, 1) := zdec_at bX43_push_0 10 rfl
theorem sX43_push_0 {E : zE} {d : Nat} {Q : zO → zM → Prop} (M : zM) (a0 : Nat) (r1 : Option zP) (k : ∃ b1 : Nat, r1 = some (b1, 4, 0) ∧ (Z E YX43_push_2 d M (zargs 0 [vr (some (a0, 7, 0)), vl (gl M b1 0), vl (gl M b1 1), vl ((gl M b1 2) &&& (-513 : Int64))]) 0 [] (zafter E YX43_push (d + 1) [] 17 3 [] Q))) : Z E YX43_push (d + 1) M [(0, vr (some (a0, 7, 0))), (1, vr r1)] 0 [] Q := by
  refine z_aload_n dX43_push_0 rfl rfl ?_
  refine z_aload_n dX43_push_1 rfl rfl ?_
  obtain ⟨b1, e1_, k⟩ := k
  refine Z.eqs (lv' := [(0, vr (some (a0, 7, 0))), (1, vr (some (b1, 4, 0)))]) (st' := [vr (some (b1, 4, 0)), vr (some (a0, 7, 0))]) (by rw [e1_] <;> rfl) (by rw [e1_] <;> rfl) ?_
  refine z_getl dX43_push_2 fsX43_60_4 ?_
  refine z_aload_n dX43_push_5 rfl rfl ?_
  refine z_getl dX43_push_6 fsX43_65_4 ?_
  refine z_aload_n dX43_push_9 rfl rfl ?_
  refine z_getl dX43_push_10 fsX43_67_4 ?_
  refine z_ldc2 (v := -513) dX43_push_13 q3173 ?_
  refine z_land dX43_push_16 ?_
  refine Z.pick [] rfl ?_
  exact z_callV (as := [vl (gl M b1 0), vl (gl M b1 1), vl ((gl M b1 2) &&& (-513 : Int64))]) (st := []) dX43_push_17 vsX43_71_7 (Nat.le_refl _) (Nat.le_of_ble_eq_true rfl) (Nat.le_of_ble_eq_true rfl) rfl k
theorem sX43_push_20 {E : zE} {d : Nat} {Q : zO → zM → Prop} (M : zM)  (k : Q (.inl none) M) : Z E YX43_push (d + 1) M [] 20 [] Q := by
  exact z_vret dX43_push_20 rfl k
/-! ScriptTypes$Work.push(JJJ)V -/
theorem bX43_push_2_0 : zdec cX43_push_2 0 [(0, .aload_n 0, 1), (1, .getfield 9, 3), (4, .aload_n 0, 1), (5, .getfield 57, 3), (8, .lload_n 1, 1), (9, .lastore, 1), (10, .aload_n 0, 1), (11, .getfield 15, 3), (14, .aload_n 0, 1), (15, .getfield 57, 3), (18, .lload_n 3, 1), (19, .lastore, 1), (20, .aload_n 0, 1), (21, .getfield 18, 3), (24, .aload_n 0, 1), (25, .dup, 1)] = true := by decide +kernel
theorem dX43_push_2_0 : decode cX43_push_2 0 = .ok (.aload_n 0, 1) := zdec_at bX43_push_2_0 0 rfl
theorem dX43_push_2_1 : decode cX43_push_2 1 = .ok (.getfield 9, 3) := zdec_at bX43_push_2_0 1 rfl
theorem dX43_push_2_4 : decode cX43_push_2 4 = .ok (.aload_n 0, 1) := zdec_at bX43_push_2_0 2 rfl
theorem dX43_push_2_5 : decode cX43_push_2 5 = .ok (.getfield 57, 3) := zdec_at bX43_push_2_0 3 rfl
theorem dX43_push_2_8 : decode cX43_push_2 8 = .ok (.lload_n 1, 1) := zdec_at bX43_push_2_0 4 rfl
theorem dX43_push_2_9 : decode cX43_push_2 9 = .ok (.lastore, 1) := zdec_at bX43_push_2_0 5 rfl
theorem dX43_push_2_10 : decode cX43_push_2 10 = .ok (.aload_n 0, 1) := zdec_at bX43_push_2_0 6 rfl
theorem dX43_push_2_11 : decode cX43_push_2 11 = .ok (.getfield 15, 3) := zdec_at bX43_push_2_0 7 rfl
theorem dX43_push_2_14 : decode cX43_push_2 14 = .ok (.aload_n 0, 1) := zdec_at bX43_push_2_0 8 rfl
theorem dX43_push_2_15 : decode cX43_push_2 15 = .ok (.getfield 57, 3) := zdec_at bX43_push_2_0 9 rfl
theorem dX43_push_2_18 : decode cX43_push_2 18 = .ok (.lload_n 3, 1) := zdec_at bX43_push_2_0 10 rfl
theorem dX43_push_2_19 : decode cX43_push_2 19 = .ok (.lastore, 1) := zdec_at bX43_push_2_0 11 rfl
theorem dX43_push_2_20 : decode cX43_push_2 20 = .ok (.aload_n 0, 1) := zdec_at bX43_push_2_0 12 rfl
theorem dX43_push_2_21 : decode cX43_push_2 21 = .ok (.getfield 18, 3) := zdec_at bX43_push_2_0 13 rfl
theorem dX43_push_2_24 : decode cX43_push_2 24 = .ok (.aload_n 0, 1) := zdec_at bX43_push_2_0 14 rfl
theorem dX43_push_2_25 : decode cX43_push_2 25 = .ok (.dup, 1) := zdec_at bX43_push_2_0 15 rfl
theorem bX43_push_2_26 : zdec cX43_push_2 26 [(26, .getfield 57, 3), (29, .dup_x1, 1), (30, .iconst 1, 1), (31, .iadd, 1), (32, .putfield 57, 3), (35, .lload 5, 2), (37, .lastore, 1), (38, .return_, 1)] = true := by decide +kernel
theorem dX43_push_2_26 : decode cX43_push_2 26 = .ok (.getfield 57, 3) := zdec_at bX43_push_2_26 0 rfl
theorem dX43_push_2_29 : decode cX43_push_2 29 = .ok (.dup_x1, 1) := zdec_at bX43_push_2_26 1 rfl
theorem dX43_push_2_30 : decode cX43_push_2 30 = .ok (.iconst 1, 1) := zdec_at bX43_push_2_26 2 rfl
theorem dX43_push_2_31 : decode cX43_push_2 31 = .ok (.iadd, 1) := zdec_at bX43_push_2_26 3 rfl
theorem dX43_push_2_32 : decode cX43_push_2 32 = .ok (.putfield 57, 3) := zdec_at bX43_push_2_26 4 rfl
theorem dX43_push_2_35 : decode cX43_push_2 35 = .ok (.lload 5, 2) := zdec_at bX43_push_2_26 5 rfl
theorem dX43_push_2_37 : decode cX43_push_2 37 = .ok (.lastore, 1) := zdec_at bX43_push_2_26 6 rfl
theorem dX43_push_2_38 : decode cX43_push_2 38 = .ok (.return_, 1) := zdec_at bX43_push_2_26 7 rfl
theorem sX43_push_2_0 {E : zE} {d : Nat} {Q : zO → zM → Prop} (M : zM) (a0 : Nat) (l1 : Int64) (l3 : Int64) (l5 : Int64) (k : ∃ b1 m1 : Nat, (gr M a0 10) = some (b1, 105, m1) ∧ (16 ≤ b1 ∧ (vp_in (gi M a0 13) m1 ∧ (∃ b2 m2 : Nat, (gr M a0 11) = some (b2, 105, m2) ∧ (16 ≤ b2 ∧ (vp_in (gi M a0 13) m2 ∧ (16 ≤ a0 ∧ (∃ b3 m3 : Nat, (gr M a0 12) = some (b3, 105, m3) ∧ (16 ≤ b3 ∧ (vp_in (gi M a0 13) m3 ∧ (Q (.inl none) (sl (si (sl (sl M b1 ((gi M a0 13)).toNatClampNeg l1) b2 ((gi M a0 13)).toNatClampNeg l3) a0 13 ((gi M a0 13) + (1 : Int32))) b3 ((gi M a0 13)).toNatClampNeg l5)))))))))))) : Z E YX43_push_2 d M [(0, vr (some (a0, 7, 0))), (1, vl l1), (3, vl l3), (5, vl l5)] 0 [] Q := by
  refine z_aload_n dX43_push_2_0 rfl rfl ?_
  refine z_getr (r := (gr M a0 10)) dX43_push_2_1 fsX43_9_7 rfl ?_
  refine z_aload_n dX43_push_2_4 rfl rfl ?_
  refine z_geti dX43_push_2_5 fsX43_57_7 ?_
  refine z_lload_n dX43_push_2_8 rfl rfl ?_
  obtain ⟨b1, m1, e1_, k⟩ := k
  refine Z.eqs (lv' := [(0, vr (some (a0, 7, 0))), (1, vl l1), (3, vl l3), (5, vl l5)]) (st' := [vl l1, vi (gi M a0 13), vr (some (b1, 105, m1))]) rfl (by rw [e1_] <;> rfl) ?_
  obtain ⟨g_, k⟩ := k
  obtain ⟨b_, k⟩ := k
  refine z_last g_ dX43_push_2_9 b_ ?_
  refine z_aload_n dX43_push_2_10 rfl rfl ?_
  refine z_getr (r := (gr M a0 11)) dX43_push_2_11 fsX43_15_7 rfl ?_
  refine z_aload_n dX43_push_2_14 rfl rfl ?_
  refine z_geti dX43_push_2_15 fsX43_57_7 ?_
  refine z_lload_n dX43_push_2_18 rfl rfl ?_
  obtain ⟨b2, m2, e2_, k⟩ := k
  refine Z.eqs (lv' := [(0, vr (some (a0, 7, 0))), (1, vl l1), (3, vl l3), (5, vl l5)]) (st' := [vl l3, vi (gi M a0 13), vr (some (b2, 105, m2))]) rfl (by rw [e2_] <;> rfl) ?_
  obtain ⟨g_, k⟩ := k
  obtain ⟨b_, k⟩ := k
  refine z_last g_ dX43_push_2_19 b_ ?_
  refine z_aload_n dX43_push_2_20 rfl rfl ?_
  refine z_getr (r := (gr M a0 12)) dX43_push_2_21 fsX43_18_7 rfl ?_
  refine z_aload_n dX43_push_2_24 rfl rfl ?_
  refine z_dup dX43_push_2_25 rfl ?_
  refine z_geti dX43_push_2_26 fsX43_57_7 ?_
  refine z_dup_x1 dX43_push_2_29 rfl rfl ?_
  refine z_iconst (v := 1) dX43_push_2_30 rfl ?_
  refine z_iadd dX43_push_2_31 ?_
  obtain ⟨g_, k⟩ := k
  refine z_puti g_ dX43_push_2_32 (zfwN.w fwX43_57_7) rfl ⟨rfl, rfl⟩ ?_
  refine z_lload dX43_push_2_35 rfl ?_
  obtain ⟨b3, m3, e3_, k⟩ := k
  refine Z.eqs (lv' := [(0, vr (some (a0, 7, 0))), (1, vl l1), (3, vl l3), (5, vl l5)]) (st' := [vl l5, vi (gi M a0 13), vr (some (b3, 105, m3))]) rfl (by rw [e3_] <;> rfl) ?_
  obtain ⟨g_, k⟩ := k
  obtain ⟨b_, k⟩ := k
  refine z_last g_ dX43_push_2_37 b_ ?_
  exact z_vret dX43_push_2_38 rfl k
/-! ScriptTypes$Work.at(ILScriptTypes$Bag;)LScriptTypes$Bag; -/
theorem bX43_at_0 : zdec cX43_at 0 [(0, .aload_n 2, 1), (1, .aload_n 0, 1), (2, .getfield 9, 3), (5, .iload_n 1, 1), (6, .laload, 1), (7, .putfield 60, 3), (10, .aload_n 2, 1), (11, .aload_n 0, 1), (12, .getfield 15, 3), (15, .iload_n 1, 1), (16, .laload, 1), (17, .putfield 65, 3), (20, .aload_n 2, 1), (21, .aload_n 0, 1), (22, .getfield 18, 3), (25, .iload_n 1, 1)] = true := by decide +kernel
theorem dX43_at_0 : decode cX43_at 0 = .ok (.aload_n 2, 1) := zdec_at bX43_at_0 0 rfl
theorem dX43_at_1 : decode cX43_at 1 = .ok (.aload_n 0, 1) := zdec_at bX43_at_0 1 rfl
theorem dX43_at_2 : decode cX43_at 2 = .ok (.getfield 9, 3) := zdec_at bX43_at_0 2 rfl
theorem dX43_at_5 : decode cX43_at 5 = .ok (.iload_n 1, 1) := zdec_at bX43_at_0 3 rfl
theorem dX43_at_6 : decode cX43_at 6 = .ok (.laload, 1) := zdec_at bX43_at_0 4 rfl
theorem dX43_at_7 : decode cX43_at 7 = .ok (.putfield 60, 3) := zdec_at bX43_at_0 5 rfl
theorem dX43_at_10 : decode cX43_at 10 = .ok (.aload_n 2, 1) := zdec_at bX43_at_0 6 rfl
theorem dX43_at_11 : decode cX43_at 11 = .ok (.aload_n 0, 1) := zdec_at bX43_at_0 7 rfl
theorem dX43_at_12 : decode cX43_at 12 = .ok (.getfield 15, 3) := zdec_at bX43_at_0 8 rfl
theorem dX43_at_15 : decode cX43_at 15 = .ok (.iload_n 1, 1) := zdec_at bX43_at_0 9 rfl
theorem dX43_at_16 : decode cX43_at 16 = .ok (.laload, 1) := zdec_at bX43_at_0 10 rfl
theorem dX43_at_17 : decode cX43_at 17 = .ok (.putfield 65, 3) := zdec_at bX43_at_0 11 rfl
theorem dX43_at_20 : decode cX43_at 20 = .ok (.aload_n 2, 1) := zdec_at bX43_at_0 12 rfl
theorem dX43_at_21 : decode cX43_at 21 = .ok (.aload_n 0, 1) := zdec_at bX43_at_0 13 rfl
theorem dX43_at_22 : decode cX43_at 22 = .ok (.getfield 18, 3) := zdec_at bX43_at_0 14 rfl
theorem dX43_at_25 : decode cX43_at 25 = .ok (.iload_n 1, 1) := zdec_at bX43_at_0 15 rfl
theorem bX43_at_26 : zdec cX43_at 26 [(26, .laload, 1), (27, .putfield 67, 3), (30, .aload_n 2, 1), (31, .areturn, 1)] = true := by decide +kernel
theorem dX43_at_26 : decode cX43_at 26 = .ok (.laload, 1) := zdec_at bX43_at_26 0 rfl
theorem dX43_at_27 : decode cX43_at 27 = .ok (.putfield 67, 3) := zdec_at bX43_at_26 1 rfl
theorem dX43_at_30 : decode cX43_at 30 = .ok (.aload_n 2, 1) := zdec_at bX43_at_26 2 rfl
theorem dX43_at_31 : decode cX43_at 31 = .ok (.areturn, 1) := zdec_at bX43_at_26 3 rfl
theorem sX43_at_0 {E : zE} {d : Nat} {Q : zO → zM → Prop} (M : zM) (a0 : Nat) (l1 : Int32) (r2 : Option zP) (k : ∃ b1 m1 : Nat, (gr M a0 10) = some (b1, 105, m1) ∧ (vp_in l1 m1 ∧ (∃ b2 : Nat, r2 = some (b2, 4, 0) ∧ (16 ≤ b2 ∧ (∃ b3 m3 : Nat, (gr M a0 11) = some (b3, 105, m3) ∧ (vp_in l1 m3 ∧ (16 ≤ b2 ∧ (∃ b4 m4 : Nat, (gr M a0 12) = some (b4, 105, m4) ∧ (vp_in l1 m4 ∧ (16 ≤ b2 ∧ (Q (.inl (some (vr (some (b2, 4, 0))))) (sl (sl (sl M b2 0 (gl M b1 (l1).toNatClampNeg)) b2 1 (gl (sl M b2 0 (gl M b1 (l1).toNatClampNeg)) b3 (l1).toNatClampNeg)) b2 2 (gl (sl (sl M b2 0 (gl M b1 (l1).toNatClampNeg)) b2 1 (gl (sl M b2 0 (gl M b1 (l1).toNatClampNeg)) b3 (l1).toNatClampNeg)) b4 (l1).toNatClampNeg))))))))))))) : Z E YX43_at d M [(0, vr (some (a0, 7, 0))), (1, vi l1), (2, vr r2)] 0 [] Q := by
  refine z_aload_n dX43_at_0 rfl rfl ?_
  refine z_aload_n dX43_at_1 rfl rfl ?_
  refine z_getr (r := (gr M a0 10)) dX43_at_2 fsX43_9_7 rfl ?_
  refine z_iload_n dX43_at_5 rfl rfl ?_
  obtain ⟨b1, m1, e1_, k⟩ := k
  refine Z.eqs (lv' := [(0, vr (some (a0, 7, 0))), (1, vi l1), (2, vr r2)]) (st' := [vi l1, vr (some (b1, 105, m1)), vr r2]) rfl (by rw [e1_] <;> rfl) ?_
  obtain ⟨b_, k⟩ := k
  refine z_lald dX43_at_6 b_ ?_
  obtain ⟨b2, e2_, k⟩ := k
  refine Z.eqs (lv' := [(0, vr (some (a0, 7, 0))), (1, vi l1), (2, vr (some (b2, 4, 0)))]) (st' := [vl (gl M b1 (l1).toNatClampNeg), vr (some (b2, 4, 0))]) (by rw [e2_] <;> rfl) (by rw [e2_] <;> rfl) ?_
  obtain ⟨g_, k⟩ := k
  refine z_putl g_ dX43_at_7 (zfwN.w fwX43_60_4) ?_
  refine z_aload_n dX43_at_10 rfl rfl ?_
  refine z_aload_n dX43_at_11 rfl rfl ?_
  refine z_getr (r := (gr M a0 11)) dX43_at_12 fsX43_15_7 rfl ?_
  refine z_iload_n dX43_at_15 rfl rfl ?_
  obtain ⟨b3, m3, e3_, k⟩ := k
  refine Z.eqs (lv' := [(0, vr (some (a0, 7, 0))), (1, vi l1), (2, vr (some (b2, 4, 0)))]) (st' := [vi l1, vr (some (b3, 105, m3)), vr (some (b2, 4, 0))]) rfl (by rw [e3_] <;> rfl) ?_
  obtain ⟨b_, k⟩ := k
  refine z_lald dX43_at_16 b_ ?_
  obtain ⟨g_, k⟩ := k
  refine z_putl g_ dX43_at_17 (zfwN.w fwX43_65_4) ?_
  refine z_aload_n dX43_at_20 rfl rfl ?_
  refine z_aload_n dX43_at_21 rfl rfl ?_
  refine z_getr (r := (gr M a0 12)) dX43_at_22 fsX43_18_7 rfl ?_
  refine z_iload_n dX43_at_25 rfl rfl ?_
  obtain ⟨b4, m4, e4_, k⟩ := k
  refine Z.eqs (lv' := [(0, vr (some (a0, 7, 0))), (1, vi l1), (2, vr (some (b2, 4, 0)))]) (st' := [vi l1, vr (some (b4, 105, m4)), vr (some (b2, 4, 0))]) rfl (by rw [e4_] <;> rfl) ?_
  obtain ⟨b_, k⟩ := k
  refine z_lald dX43_at_26 b_ ?_
  obtain ⟨g_, k⟩ := k
  refine z_putl g_ dX43_at_27 (zfwN.w fwX43_67_4) ?_
  refine z_aload_n dX43_at_30 rfl rfl ?_
  exact z_aret dX43_at_31 rfl rfl k
/-! ScriptTypes$Work.joinField(IILScriptTypes$Bag;)V -/
theorem bX43_joinField_0 : zdec cX43_joinField 0 [(0, .aload_n 0, 1), (1, .iload_n 1, 1), (2, .iload_n 2, 1), (3, .invokevirtual 79, 3), (6, .istore 4, 2), (8, .aload_n 0, 1), (9, .getfield 25, 3), (12, .iload 4, 2), (14, .dup2, 1), (15, .laload, 1), (16, .aload_n 3, 1), (17, .getfield 60, 3), (20, .lor, 1), (21, .lastore, 1), (22, .aload_n 0, 1), (23, .getfield 28, 3)] = true := by decide +kernel
theorem dX43_joinField_0 : decode cX43_joinField 0 = .ok (.aload_n 0, 1) := zdec_at bX43_joinField_0 0 rfl
theorem dX43_joinField_1 : decode cX43_joinField 1 = .ok (.iload_n 1, 1) := zdec_at bX43_joinField_0 1 rfl
theorem dX43_joinField_2 : decode cX43_joinField 2 = .ok (.iload_n 2, 1) := zdec_at bX43_joinField_0 2 rfl
theorem dX43_joinField_3 : decode cX43_joinField 3 = .ok (.invokevirtual 79, 3) := zdec_at bX43_joinField_0 3 rfl
theorem dX43_joinField_6 : decode cX43_joinField 6 = .ok (.istore 4, 2) := zdec_at bX43_joinField_0 4 rfl
theorem dX43_joinField_8 : decode cX43_joinField 8 = .ok (.aload_n 0, 1) := zdec_at bX43_joinField_0 5 rfl
theorem dX43_joinField_9 : decode cX43_joinField 9 = .ok (.getfield 25, 3) := zdec_at bX43_joinField_0 6 rfl
theorem dX43_joinField_12 : decode cX43_joinField 12 = .ok (.iload 4, 2) := zdec_at bX43_joinField_0 7 rfl
theorem dX43_joinField_14 : decode cX43_joinField 14 = .ok (.dup2, 1) := zdec_at bX43_joinField_0 8 rfl
theorem dX43_joinField_15 : decode cX43_joinField 15 = .ok (.laload, 1) := zdec_at bX43_joinField_0 9 rfl
theorem dX43_joinField_16 : decode cX43_joinField 16 = .ok (.aload_n 3, 1) := zdec_at bX43_joinField_0 10 rfl
theorem dX43_joinField_17 : decode cX43_joinField 17 = .ok (.getfield 60, 3) := zdec_at bX43_joinField_0 11 rfl
theorem dX43_joinField_20 : decode cX43_joinField 20 = .ok (.lor, 1) := zdec_at bX43_joinField_0 12 rfl
theorem dX43_joinField_21 : decode cX43_joinField 21 = .ok (.lastore, 1) := zdec_at bX43_joinField_0 13 rfl
theorem dX43_joinField_22 : decode cX43_joinField 22 = .ok (.aload_n 0, 1) := zdec_at bX43_joinField_0 14 rfl
theorem dX43_joinField_23 : decode cX43_joinField 23 = .ok (.getfield 28, 3) := zdec_at bX43_joinField_0 15 rfl
theorem bX43_joinField_26 : zdec cX43_joinField 26 [(26, .iload 4, 2), (28, .dup2, 1), (29, .laload, 1), (30, .aload_n 3, 1), (31, .getfield 65, 3), (34, .lor, 1), (35, .lastore, 1), (36, .aload_n 0, 1), (37, .getfield 31, 3), (40, .iload 4, 2), (42, .aload_n 0, 1), (43, .getfield 31, 3), (46, .iload 4, 2), (48, .laload, 1), (49, .aload_n 3, 1), (50, .getfield 67, 3)] = true := by decide +kernel
theorem dX43_joinField_26 : decode cX43_joinField 26 = .ok (.iload 4, 2) := zdec_at bX43_joinField_26 0 rfl
theorem dX43_joinField_28 : decode cX43_joinField 28 = .ok (.dup2, 1) := zdec_at bX43_joinField_26 1 rfl
theorem dX43_joinField_29 : decode cX43_joinField 29 = .ok (.laload, 1) := zdec_at bX43_joinField_26 2 rfl
theorem dX43_joinField_30 : decode cX43_joinField 30 = .ok (.aload_n 3, 1) := zdec_at bX43_joinField_26 3 rfl
theorem dX43_joinField_31 : decode cX43_joinField 31 = .ok (.getfield 65, 3) := zdec_at bX43_joinField_26 4 rfl
theorem dX43_joinField_34 : decode cX43_joinField 34 = .ok (.lor, 1) := zdec_at bX43_joinField_26 5 rfl
theorem dX43_joinField_35 : decode cX43_joinField 35 = .ok (.lastore, 1) := zdec_at bX43_joinField_26 6 rfl
theorem dX43_joinField_36 : decode cX43_joinField 36 = .ok (.aload_n 0, 1) := zdec_at bX43_joinField_26 7 rfl
theorem dX43_joinField_37 : decode cX43_joinField 37 = .ok (.getfield 31, 3) := zdec_at bX43_joinField_26 8 rfl
theorem dX43_joinField_40 : decode cX43_joinField 40 = .ok (.iload 4, 2) := zdec_at bX43_joinField_26 9 rfl
theorem dX43_joinField_42 : decode cX43_joinField 42 = .ok (.aload_n 0, 1) := zdec_at bX43_joinField_26 10 rfl
theorem dX43_joinField_43 : decode cX43_joinField 43 = .ok (.getfield 31, 3) := zdec_at bX43_joinField_26 11 rfl
theorem dX43_joinField_46 : decode cX43_joinField 46 = .ok (.iload 4, 2) := zdec_at bX43_joinField_26 12 rfl
theorem dX43_joinField_48 : decode cX43_joinField 48 = .ok (.laload, 1) := zdec_at bX43_joinField_26 13 rfl
theorem dX43_joinField_49 : decode cX43_joinField 49 = .ok (.aload_n 3, 1) := zdec_at bX43_joinField_26 14 rfl
theorem dX43_joinField_50 : decode cX43_joinField 50 = .ok (.getfield 67, 3) := zdec_at bX43_joinField_26 15 rfl
theorem bX43_joinField_53 : zdec cX43_joinField 53 [(53, .ldc2_w 69, 3), (56, .land, 1), (57, .invokestatic 85, 3), (60, .lastore, 1), (61, .return_, 1)] = true := by decide +kernel
theorem dX43_joinField_53 : decode cX43_joinField 53 = .ok (.ldc2_w 69, 3) := zdec_at bX43_joinField_53 0 rfl
theorem dX43_joinField_56 : decode cX43_joinField 56 = .ok (.land, 1) := zdec_at bX43_joinField_53 1 rfl
theorem dX43_joinField_57 : decode cX43_joinField 57 = .ok (.invokestatic 85, 3) := zdec_at bX43_joinField_53 2 rfl
theorem dX43_joinField_60 : decode cX43_joinField 60 = .ok (.lastore, 1) := zdec_at bX43_joinField_53 3 rfl
theorem dX43_joinField_61 : decode cX43_joinField 61 = .ok (.return_, 1) := zdec_at bX43_joinField_53 4 rfl
theorem sX43_joinField_0 {E : zE} {d : Nat} {Q : zO → zM → Prop} (M : zM) (a0 : Nat) (l1 : Int32) (l2 : Int32) (r3 : Option zP) (k : Z E YX43_cell d M (zargs 0 [vr (some (a0, 7, 0)), vi l1, vi l2]) 0 [] (zafter E YX43_joinField (d + 1) [(0, vr (some (a0, 7, 0))), (3, vr r3)] 3 3 [] Q)) : Z E YX43_joinField (d + 1) M [(0, vr (some (a0, 7, 0))), (1, vi l1), (2, vi l2), (3, vr r3)] 0 [] Q := by
  refine z_aload_n dX43_joinField_0 rfl rfl ?_
  refine z_iload_n dX43_joinField_1 rfl rfl ?_
  refine z_iload_n dX43_joinField_2 rfl rfl ?_
  refine Z.pick [0, 3] rfl ?_
  exact z_callV (as := [vi l1, vi l2]) (st := []) dX43_joinField_3 vsX43_79_7 (Nat.le_refl _) (Nat.le_of_ble_eq_true rfl) (Nat.le_of_ble_eq_true rfl) rfl k
theorem sX43_joinField_6 {E : zE} {d : Nat} {Q : zO → zM → Prop} (M : zM) (a0 : Nat) (r3 : Option zP) (s0 : Int32) (k : ∃ b1 m1 : Nat, (gr M a0 1) = some (b1, 105, m1) ∧ (vp_in s0 m1 ∧ (∃ b2 : Nat, r3 = some (b2, 4, 0) ∧ (16 ≤ b1 ∧ (vp_in s0 m1 ∧ (∃ b3 m3 : Nat, (gr M a0 2) = some (b3, 105, m3) ∧ (vp_in s0 m3 ∧ (16 ≤ b3 ∧ (vp_in s0 m3 ∧ (∃ b4 m4 : Nat, (gr M a0 3) = some (b4, 105, m4) ∧ (vp_in s0 m4 ∧ (Z E YX1_joined d (sl (sl M b1 (s0).toNatClampNeg ((gl M b1 (s0).toNatClampNeg) ||| (gl M b2 0))) b3 (s0).toNatClampNeg ((gl (sl M b1 (s0).toNatClampNeg ((gl M b1 (s0).toNatClampNeg) ||| (gl M b2 0))) b3 (s0).toNatClampNeg) ||| (gl (sl M b1 (s0).toNatClampNeg ((gl M b1 (s0).toNatClampNeg) ||| (gl M b2 0))) b2 1))) (zargs 0 [vl (gl (sl (sl M b1 (s0).toNatClampNeg ((gl M b1 (s0).toNatClampNeg) ||| (gl M b2 0))) b3 (s0).toNatClampNeg ((gl (sl M b1 (s0).toNatClampNeg ((gl M b1 (s0).toNatClampNeg) ||| (gl M b2 0))) b3 (s0).toNatClampNeg) ||| (gl (sl M b1 (s0).toNatClampNeg ((gl M b1 (s0).toNatClampNeg) ||| (gl M b2 0))) b2 1))) b4 (s0).toNatClampNeg), vl ((gl (sl (sl M b1 (s0).toNatClampNeg ((gl M b1 (s0).toNatClampNeg) ||| (gl M b2 0))) b3 (s0).toNatClampNeg ((gl (sl M b1 (s0).toNatClampNeg ((gl M b1 (s0).toNatClampNeg) ||| (gl M b2 0))) b3 (s0).toNatClampNeg) ||| (gl (sl M b1 (s0).toNatClampNeg ((gl M b1 (s0).toNatClampNeg) ||| (gl M b2 0))) b2 1))) b2 2) &&& (-513 : Int64))]) 0 [] (zafter E YX43_joinField (d + 1) [] 57 3 [vi s0, vr (some (b4, 105, m4))] Q))))))))))))) : Z E YX43_joinField (d + 1) M [(0, vr (some (a0, 7, 0))), (3, vr r3)] 6 [vi s0] Q := by
  refine z_ist dX43_joinField_6 (by decide) (lv' := [(0, vr (some (a0, 7, 0))), (3, vr r3), (4, vi s0)]) rfl ?_
  refine z_aload_n dX43_joinField_8 rfl rfl ?_
  refine z_getr (r := (gr M a0 1)) dX43_joinField_9 fsX43_25_7 rfl ?_
  refine z_iload dX43_joinField_12 rfl ?_
  refine z_dup2 dX43_joinField_14 rfl rfl ?_
  obtain ⟨b1, m1, e1_, k⟩ := k
  refine Z.eqs (lv' := [(0, vr (some (a0, 7, 0))), (3, vr r3), (4, vi s0)]) (st' := [vi s0, vr (some (b1, 105, m1)), vi s0, vr (some (b1, 105, m1))]) rfl (by rw [e1_] <;> rfl) ?_
  obtain ⟨b_, k⟩ := k
  refine z_lald dX43_joinField_15 b_ ?_
  refine z_aload_n dX43_joinField_16 rfl rfl ?_
  obtain ⟨b2, e2_, k⟩ := k
  refine Z.eqs (lv' := [(0, vr (some (a0, 7, 0))), (3, vr (some (b2, 4, 0))), (4, vi s0)]) (st' := [vr (some (b2, 4, 0)), vl (gl M b1 (s0).toNatClampNeg), vi s0, vr (some (b1, 105, m1))]) (by rw [e2_] <;> rfl) (by rw [e2_] <;> rfl) ?_
  refine z_getl dX43_joinField_17 fsX43_60_4 ?_
  refine z_lor dX43_joinField_20 ?_
  obtain ⟨g_, k⟩ := k
  obtain ⟨b_, k⟩ := k
  refine z_last g_ dX43_joinField_21 b_ ?_
  refine z_aload_n dX43_joinField_22 rfl rfl ?_
  refine z_getr (r := (gr M a0 2)) dX43_joinField_23 fsX43_28_7 rfl ?_
  refine z_iload dX43_joinField_26 rfl ?_
  refine z_dup2 dX43_joinField_28 rfl rfl ?_
  obtain ⟨b3, m3, e3_, k⟩ := k
  refine Z.eqs (lv' := [(0, vr (some (a0, 7, 0))), (3, vr (some (b2, 4, 0))), (4, vi s0)]) (st' := [vi s0, vr (some (b3, 105, m3)), vi s0, vr (some (b3, 105, m3))]) rfl (by rw [e3_] <;> rfl) ?_
  obtain ⟨b_, k⟩ := k
  refine z_lald dX43_joinField_29 b_ ?_
  refine z_aload_n dX43_joinField_30 rfl rfl ?_
  refine z_getl dX43_joinField_31 fsX43_65_4 ?_
  refine z_lor dX43_joinField_34 ?_
  obtain ⟨g_, k⟩ := k
  obtain ⟨b_, k⟩ := k
  refine z_last g_ dX43_joinField_35 b_ ?_
  refine z_aload_n dX43_joinField_36 rfl rfl ?_
  refine z_getr (r := (gr M a0 3)) dX43_joinField_37 fsX43_31_7 rfl ?_
  refine z_iload dX43_joinField_40 rfl ?_
  refine z_aload_n dX43_joinField_42 rfl rfl ?_
  refine z_getr (r := (gr M a0 3)) dX43_joinField_43 fsX43_31_7 rfl ?_
  refine z_iload dX43_joinField_46 rfl ?_
  obtain ⟨b4, m4, e4_, k⟩ := k
  refine Z.eqs (lv' := [(0, vr (some (a0, 7, 0))), (3, vr (some (b2, 4, 0))), (4, vi s0)]) (st' := [vi s0, vr (some (b4, 105, m4)), vi s0, vr (some (b4, 105, m4))]) rfl (by rw [e4_] <;> rfl) ?_
  obtain ⟨b_, k⟩ := k
  refine z_lald dX43_joinField_48 b_ ?_
  refine z_aload_n dX43_joinField_49 rfl rfl ?_
  refine z_getl dX43_joinField_50 fsX43_67_4 ?_
  refine z_ldc2 (v := -513) dX43_joinField_53 q3173 ?_
  refine z_land dX43_joinField_56 ?_
  refine Z.pick [] rfl ?_
  exact z_callS (as := [vl (gl (sl (sl M b1 (s0).toNatClampNeg ((gl M b1 (s0).toNatClampNeg) ||| (gl M b2 0))) b3 (s0).toNatClampNeg ((gl (sl M b1 (s0).toNatClampNeg ((gl M b1 (s0).toNatClampNeg) ||| (gl M b2 0))) b3 (s0).toNatClampNeg) ||| (gl (sl M b1 (s0).toNatClampNeg ((gl M b1 (s0).toNatClampNeg) ||| (gl M b2 0))) b2 1))) b4 (s0).toNatClampNeg), vl ((gl (sl (sl M b1 (s0).toNatClampNeg ((gl M b1 (s0).toNatClampNeg) ||| (gl M b2 0))) b3 (s0).toNatClampNeg ((gl (sl M b1 (s0).toNatClampNeg ((gl M b1 (s0).toNatClampNeg) ||| (gl M b2 0))) b3 (s0).toNatClampNeg) ||| (gl (sl M b1 (s0).toNatClampNeg ((gl M b1 (s0).toNatClampNeg) ||| (gl M b2 0))) b2 1))) b2 2) &&& (-513 : Int64))]) (st := [vi s0, vr (some (b4, 105, m4))]) dX43_joinField_57 ssX43_85 (Nat.le_refl _) (Nat.le_of_ble_eq_true rfl) (Nat.le_of_ble_eq_true rfl) rfl k
theorem sX43_joinField_60 {E : zE} {d : Nat} {Q : zO → zM → Prop} (M : zM) (s0 : Int64) (s1 : Int32) (p2 : Nat) (np2 : Nat) (k : 16 ≤ p2 ∧ (vp_in s1 np2 ∧ (Q (.inl none) (sl M p2 (s1).toNatClampNeg s0)))) : Z E YX43_joinField (d + 1) M [] 60 [vl s0, vi s1, vr (some (p2, 105, np2))] Q := by
  obtain ⟨g_, k⟩ := k
  obtain ⟨b_, k⟩ := k
  refine z_last g_ dX43_joinField_60 b_ ?_
  exact z_vret dX43_joinField_61 rfl k
/-! ScriptTypes$Work.make(II)V -/
theorem bX43_make_0 : zdec cX43_make 0 [(0, .aload_n 0, 1), (1, .aload_n 0, 1), (2, .getfield 25, 3), (5, .aload_n 0, 1), (6, .getfield 28, 3), (9, .iconst 0, 1), (10, .aload_n 0, 1), (11, .getfield 21, 3), (14, .getfield 103, 3), (17, .aload_n 0, 1), (18, .getfield 21, 3), (21, .getfield 53, 3), (24, .iconst 1, 1), (25, .iadd, 1), (26, .imul, 1), (27, .iload_n 1, 1)] = true := by decide +kernel
theorem dX43_make_0 : decode cX43_make 0 = .ok (.aload_n 0, 1) := zdec_at bX43_make_0 0 rfl
theorem dX43_make_1 : decode cX43_make 1 = .ok (.aload_n 0, 1) := zdec_at bX43_make_0 1 rfl
theorem dX43_make_2 : decode cX43_make 2 = .ok (.getfield 25, 3) := zdec_at bX43_make_0 2 rfl
theorem dX43_make_5 : decode cX43_make 5 = .ok (.aload_n 0, 1) := zdec_at bX43_make_0 3 rfl
theorem dX43_make_6 : decode cX43_make 6 = .ok (.getfield 28, 3) := zdec_at bX43_make_0 4 rfl
theorem dX43_make_9 : decode cX43_make 9 = .ok (.iconst 0, 1) := zdec_at bX43_make_0 5 rfl
theorem dX43_make_10 : decode cX43_make 10 = .ok (.aload_n 0, 1) := zdec_at bX43_make_0 6 rfl
theorem dX43_make_11 : decode cX43_make 11 = .ok (.getfield 21, 3) := zdec_at bX43_make_0 7 rfl
theorem dX43_make_14 : decode cX43_make 14 = .ok (.getfield 103, 3) := zdec_at bX43_make_0 8 rfl
theorem dX43_make_17 : decode cX43_make 17 = .ok (.aload_n 0, 1) := zdec_at bX43_make_0 9 rfl
theorem dX43_make_18 : decode cX43_make 18 = .ok (.getfield 21, 3) := zdec_at bX43_make_0 10 rfl
theorem dX43_make_21 : decode cX43_make 21 = .ok (.getfield 53, 3) := zdec_at bX43_make_0 11 rfl
theorem dX43_make_24 : decode cX43_make 24 = .ok (.iconst 1, 1) := zdec_at bX43_make_0 12 rfl
theorem dX43_make_25 : decode cX43_make 25 = .ok (.iadd, 1) := zdec_at bX43_make_0 13 rfl
theorem dX43_make_26 : decode cX43_make 26 = .ok (.imul, 1) := zdec_at bX43_make_0 14 rfl
theorem dX43_make_27 : decode cX43_make 27 = .ok (.iload_n 1, 1) := zdec_at bX43_make_0 15 rfl
theorem bX43_make_28 : zdec cX43_make 28 [(28, .invokevirtual 106, 3), (31, .aload_n 0, 1), (32, .aload_n 0, 1), (33, .getfield 34, 3), (36, .aload_n 0, 1), (37, .getfield 37, 3), (40, .iconst 0, 1), (41, .aload_n 0, 1), (42, .getfield 21, 3), (45, .getfield 103, 3), (48, .iload_n 1, 1), (49, .invokevirtual 106, 3), (52, .aload_n 0, 1), (53, .aload_n 0, 1), (54, .getfield 40, 3), (57, .aload_n 0, 1)] = true := by decide +kernel
theorem dX43_make_28 : decode cX43_make 28 = .ok (.invokevirtual 106, 3) := zdec_at bX43_make_28 0 rfl
theorem dX43_make_31 : decode cX43_make 31 = .ok (.aload_n 0, 1) := zdec_at bX43_make_28 1 rfl
theorem dX43_make_32 : decode cX43_make 32 = .ok (.aload_n 0, 1) := zdec_at bX43_make_28 2 rfl
theorem dX43_make_33 : decode cX43_make 33 = .ok (.getfield 34, 3) := zdec_at bX43_make_28 3 rfl
theorem dX43_make_36 : decode cX43_make 36 = .ok (.aload_n 0, 1) := zdec_at bX43_make_28 4 rfl
theorem dX43_make_37 : decode cX43_make 37 = .ok (.getfield 37, 3) := zdec_at bX43_make_28 5 rfl
theorem dX43_make_40 : decode cX43_make 40 = .ok (.iconst 0, 1) := zdec_at bX43_make_28 6 rfl
theorem dX43_make_41 : decode cX43_make 41 = .ok (.aload_n 0, 1) := zdec_at bX43_make_28 7 rfl
theorem dX43_make_42 : decode cX43_make 42 = .ok (.getfield 21, 3) := zdec_at bX43_make_28 8 rfl
theorem dX43_make_45 : decode cX43_make 45 = .ok (.getfield 103, 3) := zdec_at bX43_make_28 9 rfl
theorem dX43_make_48 : decode cX43_make 48 = .ok (.iload_n 1, 1) := zdec_at bX43_make_28 10 rfl
theorem dX43_make_49 : decode cX43_make 49 = .ok (.invokevirtual 106, 3) := zdec_at bX43_make_28 11 rfl
theorem dX43_make_52 : decode cX43_make 52 = .ok (.aload_n 0, 1) := zdec_at bX43_make_28 12 rfl
theorem dX43_make_53 : decode cX43_make 53 = .ok (.aload_n 0, 1) := zdec_at bX43_make_28 13 rfl
theorem dX43_make_54 : decode cX43_make 54 = .ok (.getfield 40, 3) := zdec_at bX43_make_28 14 rfl
theorem dX43_make_57 : decode cX43_make 57 = .ok (.aload_n 0, 1) := zdec_at bX43_make_28 15 rfl
theorem bX43_make_58 : zdec cX43_make 58 [(58, .getfield 43, 3), (61, .iconst 0, 1), (62, .aload_n 0, 1), (63, .getfield 21, 3), (66, .getfield 103, 3), (69, .iload_n 1, 1), (70, .invokevirtual 106, 3), (73, .aload_n 0, 1), (74, .aload_n 0, 1), (75, .getfield 9, 3), (78, .aload_n 0, 1), (79, .getfield 15, 3), (82, .iconst 0, 1), (83, .aload_n 0, 1), (84, .getfield 57, 3), (87, .iload_n 1, 1)] = true := by decide +kernel
theorem dX43_make_58 : decode cX43_make 58 = .ok (.getfield 43, 3) := zdec_at bX43_make_58 0 rfl
theorem dX43_make_61 : decode cX43_make 61 = .ok (.iconst 0, 1) := zdec_at bX43_make_58 1 rfl
theorem dX43_make_62 : decode cX43_make 62 = .ok (.aload_n 0, 1) := zdec_at bX43_make_58 2 rfl
theorem dX43_make_63 : decode cX43_make 63 = .ok (.getfield 21, 3) := zdec_at bX43_make_58 3 rfl
theorem dX43_make_66 : decode cX43_make 66 = .ok (.getfield 103, 3) := zdec_at bX43_make_58 4 rfl
theorem dX43_make_69 : decode cX43_make 69 = .ok (.iload_n 1, 1) := zdec_at bX43_make_58 5 rfl
theorem dX43_make_70 : decode cX43_make 70 = .ok (.invokevirtual 106, 3) := zdec_at bX43_make_58 6 rfl
theorem dX43_make_73 : decode cX43_make 73 = .ok (.aload_n 0, 1) := zdec_at bX43_make_58 7 rfl
theorem dX43_make_74 : decode cX43_make 74 = .ok (.aload_n 0, 1) := zdec_at bX43_make_58 8 rfl
theorem dX43_make_75 : decode cX43_make 75 = .ok (.getfield 9, 3) := zdec_at bX43_make_58 9 rfl
theorem dX43_make_78 : decode cX43_make 78 = .ok (.aload_n 0, 1) := zdec_at bX43_make_58 10 rfl
theorem dX43_make_79 : decode cX43_make 79 = .ok (.getfield 15, 3) := zdec_at bX43_make_58 11 rfl
theorem dX43_make_82 : decode cX43_make 82 = .ok (.iconst 0, 1) := zdec_at bX43_make_58 12 rfl
theorem dX43_make_83 : decode cX43_make 83 = .ok (.aload_n 0, 1) := zdec_at bX43_make_58 13 rfl
theorem dX43_make_84 : decode cX43_make 84 = .ok (.getfield 57, 3) := zdec_at bX43_make_58 14 rfl
theorem dX43_make_87 : decode cX43_make 87 = .ok (.iload_n 1, 1) := zdec_at bX43_make_58 15 rfl
theorem bX43_make_88 : zdec cX43_make 88 [(88, .invokevirtual 106, 3), (91, .aload_n 0, 1), (92, .getfield 110, 3), (95, .lstore_n 3, 1), (96, .aload_n 0, 1), (97, .getfield 113, 3), (100, .lstore 5, 2), (102, .aload_n 0, 1), (103, .aload_n 0, 1), (104, .lload_n 3, 1), (105, .aload_n 0, 1), (106, .getfield 116, 3), (109, .iload_n 1, 1), (110, .invokevirtual 95, 3), (113, .putfield 116, 3), (116, .aload_n 0, 1)] = true := by decide +kernel
theorem dX43_make_88 : decode cX43_make 88 = .ok (.invokevirtual 106, 3) := zdec_at bX43_make_88 0 rfl
theorem dX43_make_91 : decode cX43_make 91 = .ok (.aload_n 0, 1) := zdec_at bX43_make_88 1 rfl
theorem dX43_make_92 : decode cX43_make 92 = .ok (.getfield 110, 3) := zdec_at bX43_make_88 2 rfl
theorem dX43_make_95 : decode cX43_make 95 = .ok (.lstore_n 3, 1) := zdec_at bX43_make_88 3 rfl
theorem dX43_make_96 : decode cX43_make 96 = .ok (.aload_n 0, 1) := zdec_at bX43_make_88 4 rfl
theorem dX43_make_97 : decode cX43_make 97 = .ok (.getfield 113, 3) := zdec_at bX43_make_88 5 rfl
theorem dX43_make_100 : decode cX43_make 100 = .ok (.lstore 5, 2) := zdec_at bX43_make_88 6 rfl
theorem dX43_make_102 : decode cX43_make 102 = .ok (.aload_n 0, 1) := zdec_at bX43_make_88 7 rfl
theorem dX43_make_103 : decode cX43_make 103 = .ok (.aload_n 0, 1) := zdec_at bX43_make_88 8 rfl
theorem dX43_make_104 : decode cX43_make 104 = .ok (.lload_n 3, 1) := zdec_at bX43_make_88 9 rfl
theorem dX43_make_105 : decode cX43_make 105 = .ok (.aload_n 0, 1) := zdec_at bX43_make_88 10 rfl
theorem dX43_make_106 : decode cX43_make 106 = .ok (.getfield 116, 3) := zdec_at bX43_make_88 11 rfl
theorem dX43_make_109 : decode cX43_make 109 = .ok (.iload_n 1, 1) := zdec_at bX43_make_88 12 rfl
theorem dX43_make_110 : decode cX43_make 110 = .ok (.invokevirtual 95, 3) := zdec_at bX43_make_88 13 rfl
theorem dX43_make_113 : decode cX43_make 113 = .ok (.putfield 116, 3) := zdec_at bX43_make_88 14 rfl
theorem dX43_make_116 : decode cX43_make 116 = .ok (.aload_n 0, 1) := zdec_at bX43_make_88 15 rfl
theorem bX43_make_117 : zdec cX43_make 117 [(117, .aload_n 0, 1), (118, .lload_n 3, 1), (119, .iload_n 1, 1), (120, .invokevirtual 99, 3), (123, .putfield 110, 3), (126, .aload_n 0, 1), (127, .aload_n 0, 1), (128, .lload 5, 2), (130, .aload_n 0, 1), (131, .getfield 119, 3), (134, .iload_n 1, 1), (135, .invokevirtual 95, 3), (138, .putfield 119, 3), (141, .aload_n 0, 1), (142, .aload_n 0, 1), (143, .lload 5, 2)] = true := by decide +kernel
theorem dX43_make_117 : decode cX43_make 117 = .ok (.aload_n 0, 1) := zdec_at bX43_make_117 0 rfl
theorem dX43_make_118 : decode cX43_make 118 = .ok (.lload_n 3, 1) := zdec_at bX43_make_117 1 rfl
theorem dX43_make_119 : decode cX43_make 119 = .ok (.iload_n 1, 1) := zdec_at bX43_make_117 2 rfl
theorem dX43_make_120 : decode cX43_make 120 = .ok (.invokevirtual 99, 3) := zdec_at bX43_make_117 3 rfl
theorem dX43_make_123 : decode cX43_make 123 = .ok (.putfield 110, 3) := zdec_at bX43_make_117 4 rfl
theorem dX43_make_126 : decode cX43_make 126 = .ok (.aload_n 0, 1) := zdec_at bX43_make_117 5 rfl
theorem dX43_make_127 : decode cX43_make 127 = .ok (.aload_n 0, 1) := zdec_at bX43_make_117 6 rfl
theorem dX43_make_128 : decode cX43_make 128 = .ok (.lload 5, 2) := zdec_at bX43_make_117 7 rfl
theorem dX43_make_130 : decode cX43_make 130 = .ok (.aload_n 0, 1) := zdec_at bX43_make_117 8 rfl
theorem dX43_make_131 : decode cX43_make 131 = .ok (.getfield 119, 3) := zdec_at bX43_make_117 9 rfl
theorem dX43_make_134 : decode cX43_make 134 = .ok (.iload_n 1, 1) := zdec_at bX43_make_117 10 rfl
theorem dX43_make_135 : decode cX43_make 135 = .ok (.invokevirtual 95, 3) := zdec_at bX43_make_117 11 rfl
theorem dX43_make_138 : decode cX43_make 138 = .ok (.putfield 119, 3) := zdec_at bX43_make_117 12 rfl
theorem dX43_make_141 : decode cX43_make 141 = .ok (.aload_n 0, 1) := zdec_at bX43_make_117 13 rfl
theorem dX43_make_142 : decode cX43_make 142 = .ok (.aload_n 0, 1) := zdec_at bX43_make_117 14 rfl
theorem dX43_make_143 : decode cX43_make 143 = .ok (.lload 5, 2) := zdec_at bX43_make_117 15 rfl
theorem bX43_make_145 : zdec cX43_make 145 [(145, .iload_n 1, 1), (146, .invokevirtual 99, 3), (149, .putfield 113, 3), (152, .aload_n 0, 1), (153, .getfield 46, 3), (156, .iload_n 1, 1), (157, .baload, 1), (158, .ifCond .eq 194, 3), (161, .iload_n 1, 1), (162, .iconst 1, 1), (163, .iadd, 1), (164, .istore 7, 2), (166, .aload_n 0, 1), (167, .getfield 46, 3), (170, .iload 7, 2), (172, .iconst 1, 1)] = true := by decide +kernel
theorem dX43_make_145 : decode cX43_make 145 = .ok (.iload_n 1, 1) := zdec_at bX43_make_145 0 rfl
theorem dX43_make_146 : decode cX43_make 146 = .ok (.invokevirtual 99, 3) := zdec_at bX43_make_145 1 rfl
theorem dX43_make_149 : decode cX43_make 149 = .ok (.putfield 113, 3) := zdec_at bX43_make_145 2 rfl
theorem dX43_make_152 : decode cX43_make 152 = .ok (.aload_n 0, 1) := zdec_at bX43_make_145 3 rfl
theorem dX43_make_153 : decode cX43_make 153 = .ok (.getfield 46, 3) := zdec_at bX43_make_145 4 rfl
theorem dX43_make_156 : decode cX43_make 156 = .ok (.iload_n 1, 1) := zdec_at bX43_make_145 5 rfl
theorem dX43_make_157 : decode cX43_make 157 = .ok (.baload, 1) := zdec_at bX43_make_145 6 rfl
theorem dX43_make_158 : decode cX43_make 158 = .ok (.ifCond .eq 194, 3) := zdec_at bX43_make_145 7 rfl
theorem dX43_make_161 : decode cX43_make 161 = .ok (.iload_n 1, 1) := zdec_at bX43_make_145 8 rfl
theorem dX43_make_162 : decode cX43_make 162 = .ok (.iconst 1, 1) := zdec_at bX43_make_145 9 rfl
theorem dX43_make_163 : decode cX43_make 163 = .ok (.iadd, 1) := zdec_at bX43_make_145 10 rfl
theorem dX43_make_164 : decode cX43_make 164 = .ok (.istore 7, 2) := zdec_at bX43_make_145 11 rfl
theorem dX43_make_166 : decode cX43_make 166 = .ok (.aload_n 0, 1) := zdec_at bX43_make_145 12 rfl
theorem dX43_make_167 : decode cX43_make 167 = .ok (.getfield 46, 3) := zdec_at bX43_make_145 13 rfl
theorem dX43_make_170 : decode cX43_make 170 = .ok (.iload 7, 2) := zdec_at bX43_make_145 14 rfl
theorem dX43_make_172 : decode cX43_make 172 = .ok (.iconst 1, 1) := zdec_at bX43_make_145 15 rfl
theorem bX43_make_173 : zdec cX43_make 173 [(173, .bastore, 1), (174, .iconst 0, 1), (175, .istore 8, 2), (177, .iload 8, 2), (179, .aload_n 0, 1), (180, .getfield 21, 3), (183, .getfield 53, 3), (186, .if_icmp .gt 86, 3), (189, .aload_n 0, 1), (190, .iload 7, 2), (192, .iload 8, 2), (194, .invokevirtual 79, 3), (197, .istore 9, 2), (199, .aload_n 0, 1), (200, .iload_n 1, 1), (201, .iload 8, 2)] = true := by decide +kernel
theorem dX43_make_173 : decode cX43_make 173 = .ok (.bastore, 1) := zdec_at bX43_make_173 0 rfl
theorem dX43_make_174 : decode cX43_make 174 = .ok (.iconst 0, 1) := zdec_at bX43_make_173 1 rfl
theorem dX43_make_175 : decode cX43_make 175 = .ok (.istore 8, 2) := zdec_at bX43_make_173 2 rfl
theorem dX43_make_177 : decode cX43_make 177 = .ok (.iload 8, 2) := zdec_at bX43_make_173 3 rfl
theorem dX43_make_179 : decode cX43_make 179 = .ok (.aload_n 0, 1) := zdec_at bX43_make_173 4 rfl
theorem dX43_make_180 : decode cX43_make 180 = .ok (.getfield 21, 3) := zdec_at bX43_make_173 5 rfl
theorem dX43_make_183 : decode cX43_make 183 = .ok (.getfield 53, 3) := zdec_at bX43_make_173 6 rfl
theorem dX43_make_186 : decode cX43_make 186 = .ok (.if_icmp .gt 86, 3) := zdec_at bX43_make_173 7 rfl
theorem dX43_make_189 : decode cX43_make 189 = .ok (.aload_n 0, 1) := zdec_at bX43_make_173 8 rfl
theorem dX43_make_190 : decode cX43_make 190 = .ok (.iload 7, 2) := zdec_at bX43_make_173 9 rfl
theorem dX43_make_192 : decode cX43_make 192 = .ok (.iload 8, 2) := zdec_at bX43_make_173 10 rfl
theorem dX43_make_194 : decode cX43_make 194 = .ok (.invokevirtual 79, 3) := zdec_at bX43_make_173 11 rfl
theorem dX43_make_197 : decode cX43_make 197 = .ok (.istore 9, 2) := zdec_at bX43_make_173 12 rfl
theorem dX43_make_199 : decode cX43_make 199 = .ok (.aload_n 0, 1) := zdec_at bX43_make_173 13 rfl
theorem dX43_make_200 : decode cX43_make 200 = .ok (.iload_n 1, 1) := zdec_at bX43_make_173 14 rfl
theorem dX43_make_201 : decode cX43_make 201 = .ok (.iload 8, 2) := zdec_at bX43_make_173 15 rfl
theorem bX43_make_203 : zdec cX43_make 203 [(203, .invokevirtual 79, 3), (206, .istore 10, 2), (208, .aload_n 0, 1), (209, .getfield 25, 3), (212, .iload 9, 2), (214, .dup2, 1), (215, .laload, 1), (216, .aload_n 0, 1), (217, .getfield 25, 3), (220, .iload 10, 2), (222, .laload, 1), (223, .lor, 1), (224, .lastore, 1), (225, .aload_n 0, 1), (226, .getfield 28, 3), (229, .iload 9, 2)] = true := by decide +kernel
theorem dX43_make_203 : decode cX43_make 203 = .ok (.invokevirtual 79, 3) := zdec_at bX43_make_203 0 rfl
theorem dX43_make_206 : decode cX43_make 206 = .ok (.istore 10, 2) := zdec_at bX43_make_203 1 rfl
theorem dX43_make_208 : decode cX43_make 208 = .ok (.aload_n 0, 1) := zdec_at bX43_make_203 2 rfl
theorem dX43_make_209 : decode cX43_make 209 = .ok (.getfield 25, 3) := zdec_at bX43_make_203 3 rfl
theorem dX43_make_212 : decode cX43_make 212 = .ok (.iload 9, 2) := zdec_at bX43_make_203 4 rfl
theorem dX43_make_214 : decode cX43_make 214 = .ok (.dup2, 1) := zdec_at bX43_make_203 5 rfl
theorem dX43_make_215 : decode cX43_make 215 = .ok (.laload, 1) := zdec_at bX43_make_203 6 rfl
theorem dX43_make_216 : decode cX43_make 216 = .ok (.aload_n 0, 1) := zdec_at bX43_make_203 7 rfl
theorem dX43_make_217 : decode cX43_make 217 = .ok (.getfield 25, 3) := zdec_at bX43_make_203 8 rfl
theorem dX43_make_220 : decode cX43_make 220 = .ok (.iload 10, 2) := zdec_at bX43_make_203 9 rfl
theorem dX43_make_222 : decode cX43_make 222 = .ok (.laload, 1) := zdec_at bX43_make_203 10 rfl
theorem dX43_make_223 : decode cX43_make 223 = .ok (.lor, 1) := zdec_at bX43_make_203 11 rfl
theorem dX43_make_224 : decode cX43_make 224 = .ok (.lastore, 1) := zdec_at bX43_make_203 12 rfl
theorem dX43_make_225 : decode cX43_make 225 = .ok (.aload_n 0, 1) := zdec_at bX43_make_203 13 rfl
theorem dX43_make_226 : decode cX43_make 226 = .ok (.getfield 28, 3) := zdec_at bX43_make_203 14 rfl
theorem dX43_make_229 : decode cX43_make 229 = .ok (.iload 9, 2) := zdec_at bX43_make_203 15 rfl
theorem bX43_make_231 : zdec cX43_make 231 [(231, .dup2, 1), (232, .laload, 1), (233, .aload_n 0, 1), (234, .getfield 28, 3), (237, .iload 10, 2), (239, .laload, 1), (240, .lor, 1), (241, .lastore, 1), (242, .aload_n 0, 1), (243, .getfield 31, 3), (246, .iload 9, 2), (248, .aload_n 0, 1), (249, .getfield 31, 3), (252, .iload 9, 2), (254, .laload, 1), (255, .aload_n 0, 1)] = true := by decide +kernel
theorem dX43_make_231 : decode cX43_make 231 = .ok (.dup2, 1) := zdec_at bX43_make_231 0 rfl
theorem dX43_make_232 : decode cX43_make 232 = .ok (.laload, 1) := zdec_at bX43_make_231 1 rfl
theorem dX43_make_233 : decode cX43_make 233 = .ok (.aload_n 0, 1) := zdec_at bX43_make_231 2 rfl
theorem dX43_make_234 : decode cX43_make 234 = .ok (.getfield 28, 3) := zdec_at bX43_make_231 3 rfl
theorem dX43_make_237 : decode cX43_make 237 = .ok (.iload 10, 2) := zdec_at bX43_make_231 4 rfl
theorem dX43_make_239 : decode cX43_make 239 = .ok (.laload, 1) := zdec_at bX43_make_231 5 rfl
theorem dX43_make_240 : decode cX43_make 240 = .ok (.lor, 1) := zdec_at bX43_make_231 6 rfl
theorem dX43_make_241 : decode cX43_make 241 = .ok (.lastore, 1) := zdec_at bX43_make_231 7 rfl
theorem dX43_make_242 : decode cX43_make 242 = .ok (.aload_n 0, 1) := zdec_at bX43_make_231 8 rfl
theorem dX43_make_243 : decode cX43_make 243 = .ok (.getfield 31, 3) := zdec_at bX43_make_231 9 rfl
theorem dX43_make_246 : decode cX43_make 246 = .ok (.iload 9, 2) := zdec_at bX43_make_231 10 rfl
theorem dX43_make_248 : decode cX43_make 248 = .ok (.aload_n 0, 1) := zdec_at bX43_make_231 11 rfl
theorem dX43_make_249 : decode cX43_make 249 = .ok (.getfield 31, 3) := zdec_at bX43_make_231 12 rfl
theorem dX43_make_252 : decode cX43_make 252 = .ok (.iload 9, 2) := zdec_at bX43_make_231 13 rfl
theorem dX43_make_254 : decode cX43_make 254 = .ok (.laload, 1) := zdec_at bX43_make_231 14 rfl
theorem dX43_make_255 : decode cX43_make 255 = .ok (.aload_n 0, 1) := zdec_at bX43_make_231 15 rfl
theorem bX43_make_256 : zdec cX43_make 256 [(256, .getfield 31, 3), (259, .iload 10, 2), (261, .laload, 1), (262, .invokestatic 85, 3), (265, .lastore, 1), (266, .iinc 8 1, 3), (269, .goto (-92), 3), (272, .aload_n 0, 1), (273, .getfield 34, 3), (276, .iload 7, 2), (278, .dup2, 1), (279, .laload, 1), (280, .aload_n 0, 1), (281, .getfield 34, 3), (284, .iload_n 1, 1), (285, .laload, 1)] = true := by decide +kernel
theorem dX43_make_256 : decode cX43_make 256 = .ok (.getfield 31, 3) := zdec_at bX43_make_256 0 rfl
theorem dX43_make_259 : decode cX43_make 259 = .ok (.iload 10, 2) := zdec_at bX43_make_256 1 rfl
theorem dX43_make_261 : decode cX43_make 261 = .ok (.laload, 1) := zdec_at bX43_make_256 2 rfl
theorem dX43_make_262 : decode cX43_make 262 = .ok (.invokestatic 85, 3) := zdec_at bX43_make_256 3 rfl
theorem dX43_make_265 : decode cX43_make 265 = .ok (.lastore, 1) := zdec_at bX43_make_256 4 rfl
theorem dX43_make_266 : decode cX43_make 266 = .ok (.iinc 8 1, 3) := zdec_at bX43_make_256 5 rfl
theorem dX43_make_269 : decode cX43_make 269 = .ok (.goto (-92), 3) := zdec_at bX43_make_256 6 rfl
theorem dX43_make_272 : decode cX43_make 272 = .ok (.aload_n 0, 1) := zdec_at bX43_make_256 7 rfl
theorem dX43_make_273 : decode cX43_make 273 = .ok (.getfield 34, 3) := zdec_at bX43_make_256 8 rfl
theorem dX43_make_276 : decode cX43_make 276 = .ok (.iload 7, 2) := zdec_at bX43_make_256 9 rfl
theorem dX43_make_278 : decode cX43_make 278 = .ok (.dup2, 1) := zdec_at bX43_make_256 10 rfl
theorem dX43_make_279 : decode cX43_make 279 = .ok (.laload, 1) := zdec_at bX43_make_256 11 rfl
theorem dX43_make_280 : decode cX43_make 280 = .ok (.aload_n 0, 1) := zdec_at bX43_make_256 12 rfl
theorem dX43_make_281 : decode cX43_make 281 = .ok (.getfield 34, 3) := zdec_at bX43_make_256 13 rfl
theorem dX43_make_284 : decode cX43_make 284 = .ok (.iload_n 1, 1) := zdec_at bX43_make_256 14 rfl
theorem dX43_make_285 : decode cX43_make 285 = .ok (.laload, 1) := zdec_at bX43_make_256 15 rfl
theorem bX43_make_286 : zdec cX43_make 286 [(286, .lor, 1), (287, .lastore, 1), (288, .aload_n 0, 1), (289, .getfield 37, 3), (292, .iload 7, 2), (294, .dup2, 1), (295, .laload, 1), (296, .aload_n 0, 1), (297, .getfield 37, 3), (300, .iload_n 1, 1), (301, .laload, 1), (302, .lor, 1), (303, .lastore, 1), (304, .aload_n 0, 1), (305, .getfield 40, 3), (308, .iload 7, 2)] = true := by decide +kernel
theorem dX43_make_286 : decode cX43_make 286 = .ok (.lor, 1) := zdec_at bX43_make_286 0 rfl
theorem dX43_make_287 : decode cX43_make 287 = .ok (.lastore, 1) := zdec_at bX43_make_286 1 rfl
theorem dX43_make_288 : decode cX43_make 288 = .ok (.aload_n 0, 1) := zdec_at bX43_make_286 2 rfl
theorem dX43_make_289 : decode cX43_make 289 = .ok (.getfield 37, 3) := zdec_at bX43_make_286 3 rfl
theorem dX43_make_292 : decode cX43_make 292 = .ok (.iload 7, 2) := zdec_at bX43_make_286 4 rfl
theorem dX43_make_294 : decode cX43_make 294 = .ok (.dup2, 1) := zdec_at bX43_make_286 5 rfl
theorem dX43_make_295 : decode cX43_make 295 = .ok (.laload, 1) := zdec_at bX43_make_286 6 rfl
theorem dX43_make_296 : decode cX43_make 296 = .ok (.aload_n 0, 1) := zdec_at bX43_make_286 7 rfl
theorem dX43_make_297 : decode cX43_make 297 = .ok (.getfield 37, 3) := zdec_at bX43_make_286 8 rfl
theorem dX43_make_300 : decode cX43_make 300 = .ok (.iload_n 1, 1) := zdec_at bX43_make_286 9 rfl
theorem dX43_make_301 : decode cX43_make 301 = .ok (.laload, 1) := zdec_at bX43_make_286 10 rfl
theorem dX43_make_302 : decode cX43_make 302 = .ok (.lor, 1) := zdec_at bX43_make_286 11 rfl
theorem dX43_make_303 : decode cX43_make 303 = .ok (.lastore, 1) := zdec_at bX43_make_286 12 rfl
theorem dX43_make_304 : decode cX43_make 304 = .ok (.aload_n 0, 1) := zdec_at bX43_make_286 13 rfl
theorem dX43_make_305 : decode cX43_make 305 = .ok (.getfield 40, 3) := zdec_at bX43_make_286 14 rfl
theorem dX43_make_308 : decode cX43_make 308 = .ok (.iload 7, 2) := zdec_at bX43_make_286 15 rfl
theorem bX43_make_310 : zdec cX43_make 310 [(310, .dup2, 1), (311, .laload, 1), (312, .aload_n 0, 1), (313, .getfield 40, 3), (316, .iload_n 1, 1), (317, .laload, 1), (318, .lor, 1), (319, .lastore, 1), (320, .aload_n 0, 1), (321, .getfield 43, 3), (324, .iload 7, 2), (326, .dup2, 1), (327, .laload, 1), (328, .aload_n 0, 1), (329, .getfield 43, 3), (332, .iload_n 1, 1)] = true := by decide +kernel
theorem dX43_make_310 : decode cX43_make 310 = .ok (.dup2, 1) := zdec_at bX43_make_310 0 rfl
theorem dX43_make_311 : decode cX43_make 311 = .ok (.laload, 1) := zdec_at bX43_make_310 1 rfl
theorem dX43_make_312 : decode cX43_make 312 = .ok (.aload_n 0, 1) := zdec_at bX43_make_310 2 rfl
theorem dX43_make_313 : decode cX43_make 313 = .ok (.getfield 40, 3) := zdec_at bX43_make_310 3 rfl
theorem dX43_make_316 : decode cX43_make 316 = .ok (.iload_n 1, 1) := zdec_at bX43_make_310 4 rfl
theorem dX43_make_317 : decode cX43_make 317 = .ok (.laload, 1) := zdec_at bX43_make_310 5 rfl
theorem dX43_make_318 : decode cX43_make 318 = .ok (.lor, 1) := zdec_at bX43_make_310 6 rfl
theorem dX43_make_319 : decode cX43_make 319 = .ok (.lastore, 1) := zdec_at bX43_make_310 7 rfl
theorem dX43_make_320 : decode cX43_make 320 = .ok (.aload_n 0, 1) := zdec_at bX43_make_310 8 rfl
theorem dX43_make_321 : decode cX43_make 321 = .ok (.getfield 43, 3) := zdec_at bX43_make_310 9 rfl
theorem dX43_make_324 : decode cX43_make 324 = .ok (.iload 7, 2) := zdec_at bX43_make_310 10 rfl
theorem dX43_make_326 : decode cX43_make 326 = .ok (.dup2, 1) := zdec_at bX43_make_310 11 rfl
theorem dX43_make_327 : decode cX43_make 327 = .ok (.laload, 1) := zdec_at bX43_make_310 12 rfl
theorem dX43_make_328 : decode cX43_make 328 = .ok (.aload_n 0, 1) := zdec_at bX43_make_310 13 rfl
theorem dX43_make_329 : decode cX43_make 329 = .ok (.getfield 43, 3) := zdec_at bX43_make_310 14 rfl
theorem dX43_make_332 : decode cX43_make 332 = .ok (.iload_n 1, 1) := zdec_at bX43_make_310 15 rfl
theorem bX43_make_333 : zdec cX43_make 333 [(333, .laload, 1), (334, .lor, 1), (335, .lastore, 1), (336, .aload_n 0, 1), (337, .getfield 50, 3), (340, .iload 7, 2), (342, .dup2, 1), (343, .baload, 1), (344, .aload_n 0, 1), (345, .getfield 50, 3), (348, .iload_n 1, 1), (349, .baload, 1), (350, .ior, 1), (351, .bastore, 1), (352, .aload_n 0, 1), (353, .iload_n 1, 1)] = true := by decide +kernel
theorem dX43_make_333 : decode cX43_make 333 = .ok (.laload, 1) := zdec_at bX43_make_333 0 rfl
theorem dX43_make_334 : decode cX43_make 334 = .ok (.lor, 1) := zdec_at bX43_make_333 1 rfl
theorem dX43_make_335 : decode cX43_make 335 = .ok (.lastore, 1) := zdec_at bX43_make_333 2 rfl
theorem dX43_make_336 : decode cX43_make 336 = .ok (.aload_n 0, 1) := zdec_at bX43_make_333 3 rfl
theorem dX43_make_337 : decode cX43_make 337 = .ok (.getfield 50, 3) := zdec_at bX43_make_333 4 rfl
theorem dX43_make_340 : decode cX43_make 340 = .ok (.iload 7, 2) := zdec_at bX43_make_333 5 rfl
theorem dX43_make_342 : decode cX43_make 342 = .ok (.dup2, 1) := zdec_at bX43_make_333 6 rfl
theorem dX43_make_343 : decode cX43_make 343 = .ok (.baload, 1) := zdec_at bX43_make_333 7 rfl
theorem dX43_make_344 : decode cX43_make 344 = .ok (.aload_n 0, 1) := zdec_at bX43_make_333 8 rfl
theorem dX43_make_345 : decode cX43_make 345 = .ok (.getfield 50, 3) := zdec_at bX43_make_333 9 rfl
theorem dX43_make_348 : decode cX43_make 348 = .ok (.iload_n 1, 1) := zdec_at bX43_make_333 10 rfl
theorem dX43_make_349 : decode cX43_make 349 = .ok (.baload, 1) := zdec_at bX43_make_333 11 rfl
theorem dX43_make_350 : decode cX43_make 350 = .ok (.ior, 1) := zdec_at bX43_make_333 12 rfl
theorem dX43_make_351 : decode cX43_make 351 = .ok (.bastore, 1) := zdec_at bX43_make_333 13 rfl
theorem dX43_make_352 : decode cX43_make 352 = .ok (.aload_n 0, 1) := zdec_at bX43_make_333 14 rfl
theorem dX43_make_353 : decode cX43_make 353 = .ok (.iload_n 1, 1) := zdec_at bX43_make_333 15 rfl
theorem bX43_make_354 : zdec cX43_make 354 [(354, .iload_n 2, 1), (355, .iload_n 2, 1), (356, .iconst (-1), 1), (357, .if_icmp .ne 7, 3), (360, .iconst 1, 1), (361, .goto 4, 3), (364, .iconst 0, 1), (365, .invokevirtual 122, 3), (368, .return_, 1)] = true := by decide +kernel
theorem dX43_make_354 : decode cX43_make 354 = .ok (.iload_n 2, 1) := zdec_at bX43_make_354 0 rfl
theorem dX43_make_355 : decode cX43_make 355 = .ok (.iload_n 2, 1) := zdec_at bX43_make_354 1 rfl
theorem dX43_make_356 : decode cX43_make 356 = .ok (.iconst (-1), 1) := zdec_at bX43_make_354 2 rfl
theorem dX43_make_357 : decode cX43_make 357 = .ok (.if_icmp .ne 7, 3) := zdec_at bX43_make_354 3 rfl
theorem dX43_make_360 : decode cX43_make 360 = .ok (.iconst 1, 1) := zdec_at bX43_make_354 4 rfl
theorem dX43_make_361 : decode cX43_make 361 = .ok (.goto 4, 3) := zdec_at bX43_make_354 5 rfl
theorem dX43_make_364 : decode cX43_make 364 = .ok (.iconst 0, 1) := zdec_at bX43_make_354 6 rfl
theorem dX43_make_365 : decode cX43_make 365 = .ok (.invokevirtual 122, 3) := zdec_at bX43_make_354 7 rfl
theorem dX43_make_368 : decode cX43_make 368 = .ok (.return_, 1) := zdec_at bX43_make_354 8 rfl
theorem sX43_make_0 {E : zE} {d : Nat} {Q : zO → zM → Prop} (M : zM) (a0 : Nat) (l1 : Int32) (l2 : Int32) (k : ∃ b1 : Nat, (gr M a0 0) = some (b1, 0, 0) ∧ (∃ b2 : Nat, (gr M a0 0) = some (b2, 0, 0) ∧ (Z E YX43_renames d M (zargs 0 [vr (some (a0, 7, 0)), vr (gr M a0 1), vr (gr M a0 2), vi (0 : Int32), vi ((gi M b1 11) * ((gi M b2 1) + (1 : Int32))), vi l1]) 0 [] (zafter E YX43_make (d + 1) [(0, vr (some (a0, 7, 0))), (1, vi l1), (2, vi l2)] 28 3 [] Q)))) : Z E YX43_make (d + 1) M [(0, vr (some (a0, 7, 0))), (1, vi l1), (2, vi l2)] 0 [] Q := by
  refine z_aload_n dX43_make_0 rfl rfl ?_
  refine z_aload_n dX43_make_1 rfl rfl ?_
  refine z_getr (r := (gr M a0 1)) dX43_make_2 fsX43_25_7 rfl ?_
  refine z_aload_n dX43_make_5 rfl rfl ?_
  refine z_getr (r := (gr M a0 2)) dX43_make_6 fsX43_28_7 rfl ?_
  refine z_iconst (v := 0) dX43_make_9 rfl ?_
  refine z_aload_n dX43_make_10 rfl rfl ?_
  refine z_getr (r := (gr M a0 0)) dX43_make_11 fsX43_21_7 rfl ?_
  obtain ⟨b1, e1_, k⟩ := k
  refine Z.eqs (lv' := [(0, vr (some (a0, 7, 0))), (1, vi l1), (2, vi l2)]) (st' := [vr (some (b1, 0, 0)), vi (0 : Int32), vr (gr M a0 2), vr (gr M a0 1), vr (some (a0, 7, 0))]) rfl (by rw [e1_] <;> rfl) ?_
  refine z_geti dX43_make_14 fsX43_103_0 ?_
  refine z_aload_n dX43_make_17 rfl rfl ?_
  refine z_getr (r := (gr M a0 0)) dX43_make_18 fsX43_21_7 rfl ?_
  obtain ⟨b2, e2_, k⟩ := k
  refine Z.eqs (lv' := [(0, vr (some (a0, 7, 0))), (1, vi l1), (2, vi l2)]) (st' := [vr (some (b2, 0, 0)), vi (gi M b1 11), vi (0 : Int32), vr (gr M a0 2), vr (gr M a0 1), vr (some (a0, 7, 0))]) rfl (by rw [e2_] <;> rfl) ?_
  refine z_geti dX43_make_21 fsX43_53_0 ?_
  refine z_iconst (v := 1) dX43_make_24 rfl ?_
  refine z_iadd dX43_make_25 ?_
  refine z_imul dX43_make_26 ?_
  refine z_iload_n dX43_make_27 rfl rfl ?_
  exact z_callV (as := [vr (gr M a0 1), vr (gr M a0 2), vi (0 : Int32), vi ((gi M b1 11) * ((gi M b2 1) + (1 : Int32))), vi l1]) (st := []) dX43_make_28 vsX43_106_7 (Nat.le_refl _) (Nat.le_of_ble_eq_true rfl) (Nat.le_of_ble_eq_true rfl) rfl k
theorem sX43_make_31 {E : zE} {d : Nat} {Q : zO → zM → Prop} (M : zM) (a0 : Nat) (l1 : Int32) (l2 : Int32) (k : ∃ b1 : Nat, (gr M a0 0) = some (b1, 0, 0) ∧ (Z E YX43_renames d M (zargs 0 [vr (some (a0, 7, 0)), vr (gr M a0 4), vr (gr M a0 5), vi (0 : Int32), vi (gi M b1 11), vi l1]) 0 [] (zafter E YX43_make (d + 1) [(0, vr (some (a0, 7, 0))), (1, vi l1), (2, vi l2)] 49 3 [] Q))) : Z E YX43_make (d + 1) M [(0, vr (some (a0, 7, 0))), (1, vi l1), (2, vi l2)] 31 [] Q := by
  refine z_aload_n dX43_make_31 rfl rfl ?_
  refine z_aload_n dX43_make_32 rfl rfl ?_
  refine z_getr (r := (gr M a0 4)) dX43_make_33 fsX43_34_7 rfl ?_
  refine z_aload_n dX43_make_36 rfl rfl ?_
  refine z_getr (r := (gr M a0 5)) dX43_make_37 fsX43_37_7 rfl ?_
  refine z_iconst (v := 0) dX43_make_40 rfl ?_
  refine z_aload_n dX43_make_41 rfl rfl ?_
  refine z_getr (r := (gr M a0 0)) dX43_make_42 fsX43_21_7 rfl ?_
  obtain ⟨b1, e1_, k⟩ := k
  refine Z.eqs (lv' := [(0, vr (some (a0, 7, 0))), (1, vi l1), (2, vi l2)]) (st' := [vr (some (b1, 0, 0)), vi (0 : Int32), vr (gr M a0 5), vr (gr M a0 4), vr (some (a0, 7, 0))]) rfl (by rw [e1_] <;> rfl) ?_
  refine z_geti dX43_make_45 fsX43_103_0 ?_
  refine z_iload_n dX43_make_48 rfl rfl ?_
  exact z_callV (as := [vr (gr M a0 4), vr (gr M a0 5), vi (0 : Int32), vi (gi M b1 11), vi l1]) (st := []) dX43_make_49 vsX43_106_7 (Nat.le_refl _) (Nat.le_of_ble_eq_true rfl) (Nat.le_of_ble_eq_true rfl) rfl k
theorem sX43_make_52 {E : zE} {d : Nat} {Q : zO → zM → Prop} (M : zM) (a0 : Nat) (l1 : Int32) (l2 : Int32) (k : ∃ b1 : Nat, (gr M a0 0) = some (b1, 0, 0) ∧ (Z E YX43_renames d M (zargs 0 [vr (some (a0, 7, 0)), vr (gr M a0 6), vr (gr M a0 7), vi (0 : Int32), vi (gi M b1 11), vi l1]) 0 [] (zafter E YX43_make (d + 1) [(0, vr (some (a0, 7, 0))), (1, vi l1), (2, vi l2)] 70 3 [] Q))) : Z E YX43_make (d + 1) M [(0, vr (some (a0, 7, 0))), (1, vi l1), (2, vi l2)] 52 [] Q := by
  refine z_aload_n dX43_make_52 rfl rfl ?_
  refine z_aload_n dX43_make_53 rfl rfl ?_
  refine z_getr (r := (gr M a0 6)) dX43_make_54 fsX43_40_7 rfl ?_
  refine z_aload_n dX43_make_57 rfl rfl ?_
  refine z_getr (r := (gr M a0 7)) dX43_make_58 fsX43_43_7 rfl ?_
  refine z_iconst (v := 0) dX43_make_61 rfl ?_
  refine z_aload_n dX43_make_62 rfl rfl ?_
  refine z_getr (r := (gr M a0 0)) dX43_make_63 fsX43_21_7 rfl ?_
  obtain ⟨b1, e1_, k⟩ := k
  refine Z.eqs (lv' := [(0, vr (some (a0, 7, 0))), (1, vi l1), (2, vi l2)]) (st' := [vr (some (b1, 0, 0)), vi (0 : Int32), vr (gr M a0 7), vr (gr M a0 6), vr (some (a0, 7, 0))]) rfl (by rw [e1_] <;> rfl) ?_
  refine z_geti dX43_make_66 fsX43_103_0 ?_
  refine z_iload_n dX43_make_69 rfl rfl ?_
  exact z_callV (as := [vr (gr M a0 6), vr (gr M a0 7), vi (0 : Int32), vi (gi M b1 11), vi l1]) (st := []) dX43_make_70 vsX43_106_7 (Nat.le_refl _) (Nat.le_of_ble_eq_true rfl) (Nat.le_of_ble_eq_true rfl) rfl k
theorem sX43_make_73 {E : zE} {d : Nat} {Q : zO → zM → Prop} (M : zM) (a0 : Nat) (l1 : Int32) (l2 : Int32) (k : Z E YX43_renames d M (zargs 0 [vr (some (a0, 7, 0)), vr (gr M a0 10), vr (gr M a0 11), vi (0 : Int32), vi (gi M a0 13), vi l1]) 0 [] (zafter E YX43_make (d + 1) [(0, vr (some (a0, 7, 0))), (1, vi l1), (2, vi l2)] 88 3 [] Q)) : Z E YX43_make (d + 1) M [(0, vr (some (a0, 7, 0))), (1, vi l1), (2, vi l2)] 73 [] Q := by
  refine z_aload_n dX43_make_73 rfl rfl ?_
  refine z_aload_n dX43_make_74 rfl rfl ?_
  refine z_getr (r := (gr M a0 10)) dX43_make_75 fsX43_9_7 rfl ?_
  refine z_aload_n dX43_make_78 rfl rfl ?_
  refine z_getr (r := (gr M a0 11)) dX43_make_79 fsX43_15_7 rfl ?_
  refine z_iconst (v := 0) dX43_make_82 rfl ?_
  refine z_aload_n dX43_make_83 rfl rfl ?_
  refine z_geti dX43_make_84 fsX43_57_7 ?_
  refine z_iload_n dX43_make_87 rfl rfl ?_
  exact z_callV (as := [vr (gr M a0 10), vr (gr M a0 11), vi (0 : Int32), vi (gi M a0 13), vi l1]) (st := []) dX43_make_88 vsX43_106_7 (Nat.le_refl _) (Nat.le_of_ble_eq_true rfl) (Nat.le_of_ble_eq_true rfl) rfl k
theorem sX43_make_91 {E : zE} {d : Nat} {Q : zO → zM → Prop} (M : zM) (a0 : Nat) (l1 : Int32) (l2 : Int32) (k : Z E YX43_renamedHigh d M (zargs 0 [vr (some (a0, 7, 0)), vl (gl M a0 14), vl (gl M a0 15), vi l1]) 0 [] (zafter E YX43_make (d + 1) [(0, vr (some (a0, 7, 0))), (1, vi l1), (2, vi l2), (3, vl (gl M a0 14)), (5, vl (gl M a0 17))] 110 3 [vr (some (a0, 7, 0))] Q)) : Z E YX43_make (d + 1) M [(0, vr (some (a0, 7, 0))), (1, vi l1), (2, vi l2)] 91 [] Q := by
  refine z_aload_n dX43_make_91 rfl rfl ?_
  refine z_getl dX43_make_92 fsX43_110_7 ?_
  refine z_lst_n dX43_make_95 rfl (by decide) (lv' := [(0, vr (some (a0, 7, 0))), (1, vi l1), (2, vi l2), (3, vl (gl M a0 14))]) rfl ?_
  refine z_aload_n dX43_make_96 rfl rfl ?_
  refine z_getl dX43_make_97 fsX43_113_7 ?_
  refine z_lst dX43_make_100 (by decide) (lv' := [(0, vr (some (a0, 7, 0))), (1, vi l1), (2, vi l2), (3, vl (gl M a0 14)), (5, vl (gl M a0 17))]) rfl ?_
  refine z_aload_n dX43_make_102 rfl rfl ?_
  refine z_aload_n dX43_make_103 rfl rfl ?_
  refine z_lload_n dX43_make_104 rfl rfl ?_
  refine z_aload_n dX43_make_105 rfl rfl ?_
  refine z_getl dX43_make_106 fsX43_116_7 ?_
  refine z_iload_n dX43_make_109 rfl rfl ?_
  exact z_callV (as := [vl (gl M a0 14), vl (gl M a0 15), vi l1]) (st := [vr (some (a0, 7, 0))]) dX43_make_110 vsX43_95_7 (Nat.le_refl _) (Nat.le_of_ble_eq_true rfl) (Nat.le_of_ble_eq_true rfl) rfl k
theorem sX43_make_113 {E : zE} {d : Nat} {Q : zO → zM → Prop} (M : zM) (a0 : Nat) (l1 : Int32) (l2 : Int32) (l3 : Int64) (l5 : Int64) (s0 : Int64) (k : 16 ≤ a0 ∧ (Z E YX43_renamedLow d (sl M a0 15 s0) (zargs 0 [vr (some (a0, 7, 0)), vl l3, vi l1]) 0 [] (zafter E YX43_make (d + 1) [(0, vr (some (a0, 7, 0))), (1, vi l1), (2, vi l2), (5, vl l5)] 120 3 [vr (some (a0, 7, 0))] Q))) : Z E YX43_make (d + 1) M [(0, vr (some (a0, 7, 0))), (1, vi l1), (2, vi l2), (3, vl l3), (5, vl l5)] 113 [vl s0, vr (some (a0, 7, 0))] Q := by
  obtain ⟨g_, k⟩ := k
  refine z_putl g_ dX43_make_113 (zfwN.w fwX43_116_7) ?_
  refine z_aload_n dX43_make_116 rfl rfl ?_
  refine z_aload_n dX43_make_117 rfl rfl ?_
  refine z_lload_n dX43_make_118 rfl rfl ?_
  refine z_iload_n dX43_make_119 rfl rfl ?_
  refine Z.pick [0, 1, 2, 4] rfl ?_
  exact z_callV (as := [vl l3, vi l1]) (st := [vr (some (a0, 7, 0))]) dX43_make_120 vsX43_99_7 (Nat.le_refl _) (Nat.le_of_ble_eq_true rfl) (Nat.le_of_ble_eq_true rfl) rfl k
theorem sX43_make_123 {E : zE} {d : Nat} {Q : zO → zM → Prop} (M : zM) (a0 : Nat) (l1 : Int32) (l2 : Int32) (l5 : Int64) (s0 : Int64) (k : 16 ≤ a0 ∧ (Z E YX43_renamedHigh d (sl M a0 14 s0) (zargs 0 [vr (some (a0, 7, 0)), vl l5, vl (gl (sl M a0 14 s0) a0 18), vi l1]) 0 [] (zafter E YX43_make (d + 1) [(0, vr (some (a0, 7, 0))), (1, vi l1), (2, vi l2), (5, vl l5)] 135 3 [vr (some (a0, 7, 0))] Q))) : Z E YX43_make (d + 1) M [(0, vr (some (a0, 7, 0))), (1, vi l1), (2, vi l2), (5, vl l5)] 123 [vl s0, vr (some (a0, 7, 0))] Q := by
  obtain ⟨g_, k⟩ := k
  refine z_putl g_ dX43_make_123 (zfwN.w fwX43_110_7) ?_
  refine z_aload_n dX43_make_126 rfl rfl ?_
  refine z_aload_n dX43_make_127 rfl rfl ?_
  refine z_lload dX43_make_128 rfl ?_
  refine z_aload_n dX43_make_130 rfl rfl ?_
  refine z_getl dX43_make_131 fsX43_119_7 ?_
  refine z_iload_n dX43_make_134 rfl rfl ?_
  exact z_callV (as := [vl l5, vl (gl (sl M a0 14 s0) a0 18), vi l1]) (st := [vr (some (a0, 7, 0))]) dX43_make_135 vsX43_95_7 (Nat.le_refl _) (Nat.le_of_ble_eq_true rfl) (Nat.le_of_ble_eq_true rfl) rfl k
theorem sX43_make_138 {E : zE} {d : Nat} {Q : zO → zM → Prop} (M : zM) (a0 : Nat) (l1 : Int32) (l2 : Int32) (l5 : Int64) (s0 : Int64) (k : 16 ≤ a0 ∧ (Z E YX43_renamedLow d (sl M a0 18 s0) (zargs 0 [vr (some (a0, 7, 0)), vl l5, vi l1]) 0 [] (zafter E YX43_make (d + 1) [(0, vr (some (a0, 7, 0))), (1, vi l1), (2, vi l2)] 146 3 [vr (some (a0, 7, 0))] Q))) : Z E YX43_make (d + 1) M [(0, vr (some (a0, 7, 0))), (1, vi l1), (2, vi l2), (5, vl l5)] 138 [vl s0, vr (some (a0, 7, 0))] Q := by
  obtain ⟨g_, k⟩ := k
  refine z_putl g_ dX43_make_138 (zfwN.w fwX43_119_7) ?_
  refine z_aload_n dX43_make_141 rfl rfl ?_
  refine z_aload_n dX43_make_142 rfl rfl ?_
  refine z_lload dX43_make_143 rfl ?_
  refine z_iload_n dX43_make_145 rfl rfl ?_
  refine Z.pick [0, 1, 2] rfl ?_
  exact z_callV (as := [vl l5, vi l1]) (st := [vr (some (a0, 7, 0))]) dX43_make_146 vsX43_99_7 (Nat.le_refl _) (Nat.le_of_ble_eq_true rfl) (Nat.le_of_ble_eq_true rfl) rfl k
theorem sX43_make_149 {E : zE} {d : Nat} {Q : zO → zM → Prop} (M : zM) (a0 : Nat) (l1 : Int32) (l2 : Int32) (s0 : Int64) (k : 16 ≤ a0 ∧ (∃ b1 m1 : Nat, (gr M a0 8) = some (b1, 104, m1) ∧ (vp_in l1 m1 ∧ (if (gi M b1 (l1).toNatClampNeg) = 0 then (Z E YX43_make (d + 1) (sl M a0 17 s0) [(0, vr (some (a0, 7, 0))), (1, vi l1), (2, vi l2)] 352 [] Q) else (∃ b2 m2 : Nat, (gr M a0 8) = some (b2, 104, m2) ∧ (16 ≤ b2 ∧ (vp_in (l1 + (1 : Int32)) m2 ∧ (Z E YX43_make (d + 1) (si (sl M a0 17 s0) b2 ((l1 + (1 : Int32))).toNatClampNeg (vp_nar .boolean (1 : Int32))) [(0, vr (some (a0, 7, 0))), (1, vi l1), (2, vi l2), (7, vi (l1 + (1 : Int32))), (8, vi (0 : Int32))] 177 [] Q)))))))) : Z E YX43_make (d + 1) M [(0, vr (some (a0, 7, 0))), (1, vi l1), (2, vi l2)] 149 [vl s0, vr (some (a0, 7, 0))] Q := by
  obtain ⟨g_, k⟩ := k
  refine z_putl g_ dX43_make_149 (zfwN.w fwX43_113_7) ?_
  refine z_aload_n dX43_make_152 rfl rfl ?_
  refine z_getr (r := (gr M a0 8)) dX43_make_153 fsX43_46_7 rfl ?_
  refine z_iload_n dX43_make_156 rfl rfl ?_
  obtain ⟨b1, m1, e1_, k⟩ := k
  refine Z.eqs (lv' := [(0, vr (some (a0, 7, 0))), (1, vi l1), (2, vi l2)]) (st' := [vi l1, vr (some (b1, 104, m1))]) rfl (by rw [e1_] <;> rfl) ?_
  obtain ⟨b_, k⟩ := k
  refine z_zald dX43_make_157 b_ ?_
  refine z_if_eq (tgt := 352) dX43_make_158 rfl (fun h_ => ?_) (fun h_ => ?_)
  · have k := zit h_ k
    exact k
  · have k := zif h_ k
    refine z_iload_n dX43_make_161 rfl rfl ?_
    refine z_iconst (v := 1) dX43_make_162 rfl ?_
    refine z_iadd dX43_make_163 ?_
    refine z_ist dX43_make_164 (by decide) (lv' := [(0, vr (some (a0, 7, 0))), (1, vi l1), (2, vi l2), (7, vi (l1 + (1 : Int32)))]) rfl ?_
    refine z_aload_n dX43_make_166 rfl rfl ?_
    refine z_getr (r := (gr M a0 8)) dX43_make_167 fsX43_46_7 rfl ?_
    refine z_iload dX43_make_170 rfl ?_
    refine z_iconst (v := 1) dX43_make_172 rfl ?_
    obtain ⟨b2, m2, e2_, k⟩ := k
    refine Z.eqs (lv' := [(0, vr (some (a0, 7, 0))), (1, vi l1), (2, vi l2), (7, vi (l1 + (1 : Int32)))]) (st' := [vi (1 : Int32), vi (l1 + (1 : Int32)), vr (some (b2, 104, m2))]) rfl (by rw [e2_] <;> rfl) ?_
    obtain ⟨g_, k⟩ := k
    obtain ⟨b_, k⟩ := k
    refine z_zast g_ dX43_make_173 b_ ?_
    refine z_iconst (v := 0) dX43_make_174 rfl ?_
    refine z_ist dX43_make_175 (by decide) (lv' := [(0, vr (some (a0, 7, 0))), (1, vi l1), (2, vi l2), (7, vi (l1 + (1 : Int32))), (8, vi (0 : Int32))]) rfl ?_
    exact k
theorem sX43_make_177 {E : zE} {d : Nat} {Q : zO → zM → Prop} (M : zM) (a0 : Nat) (l1 : Int32) (l2 : Int32) (l7 : Int32) (l8 : Int32) (k : ∃ b1 : Nat, (gr M a0 0) = some (b1, 0, 0) ∧ (if (gi M b1 1) < l8 then (∃ b2 m2 : Nat, (gr M a0 4) = some (b2, 105, m2) ∧ (vp_in l7 m2 ∧ (∃ b3 m3 : Nat, (gr M a0 4) = some (b3, 105, m3) ∧ (vp_in l1 m3 ∧ (16 ≤ b2 ∧ (vp_in l7 m2 ∧ (∃ b4 m4 : Nat, (gr M a0 5) = some (b4, 105, m4) ∧ (vp_in l7 m4 ∧ (∃ b5 m5 : Nat, (gr M a0 5) = some (b5, 105, m5) ∧ (vp_in l1 m5 ∧ (16 ≤ b4 ∧ (vp_in l7 m4 ∧ (∃ b6 m6 : Nat, (gr M a0 6) = some (b6, 105, m6) ∧ (vp_in l7 m6 ∧ (∃ b7 m7 : Nat, (gr M a0 6) = some (b7, 105, m7) ∧ (vp_in l1 m7 ∧ (16 ≤ b6 ∧ (vp_in l7 m6 ∧ (∃ b8 m8 : Nat, (gr M a0 7) = some (b8, 105, m8) ∧ (vp_in l7 m8 ∧ (∃ b9 m9 : Nat, (gr M a0 7) = some (b9, 105, m9) ∧ (vp_in l1 m9 ∧ (16 ≤ b8 ∧ (vp_in l7 m8 ∧ (∃ b10 m10 : Nat, (gr M a0 9) = some (b10, 104, m10) ∧ (vp_in l7 m10 ∧ (∃ b11 m11 : Nat, (gr M a0 9) = some (b11, 104, m11) ∧ (vp_in l1 m11 ∧ (16 ≤ b10 ∧ (vp_in l7 m10 ∧ (Z E YX43_make (d + 1) (si (sl (sl (sl (sl M b2 (l7).toNatClampNeg ((gl M b2 (l7).toNatClampNeg) ||| (gl M b3 (l1).toNatClampNeg))) b4 (l7).toNatClampNeg ((gl (sl M b2 (l7).toNatClampNeg ((gl M b2 (l7).toNatClampNeg) ||| (gl M b3 (l1).toNatClampNeg))) b4 (l7).toNatClampNeg) ||| (gl (sl M b2 (l7).toNatClampNeg ((gl M b2 (l7).toNatClampNeg) ||| (gl M b3 (l1).toNatClampNeg))) b5 (l1).toNatClampNeg))) b6 (l7).toNatClampNeg ((gl (sl (sl M b2 (l7).toNatClampNeg ((gl M b2 (l7).toNatClampNeg) ||| (gl M b3 (l1).toNatClampNeg))) b4 (l7).toNatClampNeg ((gl (sl M b2 (l7).toNatClampNeg ((gl M b2 (l7).toNatClampNeg) ||| (gl M b3 (l1).toNatClampNeg))) b4 (l7).toNatClampNeg) ||| (gl (sl M b2 (l7).toNatClampNeg ((gl M b2 (l7).toNatClampNeg) ||| (gl M b3 (l1).toNatClampNeg))) b5 (l1).toNatClampNeg))) b6 (l7).toNatClampNeg) ||| (gl (sl (sl M b2 (l7).toNatClampNeg ((gl M b2 (l7).toNatClampNeg) ||| (gl M b3 (l1).toNatClampNeg))) b4 (l7).toNatClampNeg ((gl (sl M b2 (l7).toNatClampNeg ((gl M b2 (l7).toNatClampNeg) ||| (gl M b3 (l1).toNatClampNeg))) b4 (l7).toNatClampNeg) ||| (gl (sl M b2 (l7).toNatClampNeg ((gl M b2 (l7).toNatClampNeg) ||| (gl M b3 (l1).toNatClampNeg))) b5 (l1).toNatClampNeg))) b7 (l1).toNatClampNeg))) b8 (l7).toNatClampNeg ((gl (sl (sl (sl M b2 (l7).toNatClampNeg ((gl M b2 (l7).toNatClampNeg) ||| (gl M b3 (l1).toNatClampNeg))) b4 (l7).toNatClampNeg ((gl (sl M b2 (l7).toNatClampNeg ((gl M b2 (l7).toNatClampNeg) ||| (gl M b3 (l1).toNatClampNeg))) b4 (l7).toNatClampNeg) ||| (gl (sl M b2 (l7).toNatClampNeg ((gl M b2 (l7).toNatClampNeg) ||| (gl M b3 (l1).toNatClampNeg))) b5 (l1).toNatClampNeg))) b6 (l7).toNatClampNeg ((gl (sl (sl M b2 (l7).toNatClampNeg ((gl M b2 (l7).toNatClampNeg) ||| (gl M b3 (l1).toNatClampNeg))) b4 (l7).toNatClampNeg ((gl (sl M b2 (l7).toNatClampNeg ((gl M b2 (l7).toNatClampNeg) ||| (gl M b3 (l1).toNatClampNeg))) b4 (l7).toNatClampNeg) ||| (gl (sl M b2 (l7).toNatClampNeg ((gl M b2 (l7).toNatClampNeg) ||| (gl M b3 (l1).toNatClampNeg))) b5 (l1).toNatClampNeg))) b6 (l7).toNatClampNeg) ||| (gl (sl (sl M b2 (l7).toNatClampNeg ((gl M b2 (l7).toNatClampNeg) ||| (gl M b3 (l1).toNatClampNeg))) b4 (l7).toNatClampNeg ((gl (sl M b2 (l7).toNatClampNeg ((gl M b2 (l7).toNatClampNeg) ||| (gl M b3 (l1).toNatClampNeg))) b4 (l7).toNatClampNeg) ||| (gl (sl M b2 (l7).toNatClampNeg ((gl M b2 (l7).toNatClampNeg) ||| (gl M b3 (l1).toNatClampNeg))) b5 (l1).toNatClampNeg))) b7 (l1).toNatClampNeg))) b8 (l7).toNatClampNeg) ||| (gl (sl (sl (sl M b2 (l7).toNatClampNeg ((gl M b2 (l7).toNatClampNeg) ||| (gl M b3 (l1).toNatClampNeg))) b4 (l7).toNatClampNeg ((gl (sl M b2 (l7).toNatClampNeg ((gl M b2 (l7).toNatClampNeg) ||| (gl M b3 (l1).toNatClampNeg))) b4 (l7).toNatClampNeg) ||| (gl (sl M b2 (l7).toNatClampNeg ((gl M b2 (l7).toNatClampNeg) ||| (gl M b3 (l1).toNatClampNeg))) b5 (l1).toNatClampNeg))) b6 (l7).toNatClampNeg ((gl (sl (sl M b2 (l7).toNatClampNeg ((gl M b2 (l7).toNatClampNeg) ||| (gl M b3 (l1).toNatClampNeg))) b4 (l7).toNatClampNeg ((gl (sl M b2 (l7).toNatClampNeg ((gl M b2 (l7).toNatClampNeg) ||| (gl M b3 (l1).toNatClampNeg))) b4 (l7).toNatClampNeg) ||| (gl (sl M b2 (l7).toNatClampNeg ((gl M b2 (l7).toNatClampNeg) ||| (gl M b3 (l1).toNatClampNeg))) b5 (l1).toNatClampNeg))) b6 (l7).toNatClampNeg) ||| (gl (sl (sl M b2 (l7).toNatClampNeg ((gl M b2 (l7).toNatClampNeg) ||| (gl M b3 (l1).toNatClampNeg))) b4 (l7).toNatClampNeg ((gl (sl M b2 (l7).toNatClampNeg ((gl M b2 (l7).toNatClampNeg) ||| (gl M b3 (l1).toNatClampNeg))) b4 (l7).toNatClampNeg) ||| (gl (sl M b2 (l7).toNatClampNeg ((gl M b2 (l7).toNatClampNeg) ||| (gl M b3 (l1).toNatClampNeg))) b5 (l1).toNatClampNeg))) b7 (l1).toNatClampNeg))) b9 (l1).toNatClampNeg))) b10 (l7).toNatClampNeg (vp_nar .boolean ((gi M b10 (l7).toNatClampNeg) ||| (gi M b11 (l1).toNatClampNeg)))) [(0, vr (some (a0, 7, 0))), (1, vi l1), (2, vi l2)] 352 [] Q))))))))))))))))))))))))))))))) else (Z E YX43_cell d M (zargs 0 [vr (some (a0, 7, 0)), vi l7, vi l8]) 0 [] (zafter E YX43_make (d + 1) [(0, vr (some (a0, 7, 0))), (1, vi l1), (2, vi l2), (7, vi l7), (8, vi l8)] 194 3 [] Q)))) : Z E YX43_make (d + 1) M [(0, vr (some (a0, 7, 0))), (1, vi l1), (2, vi l2), (7, vi l7), (8, vi l8)] 177 [] Q := by
  refine z_iload dX43_make_177 rfl ?_
  refine z_aload_n dX43_make_179 rfl rfl ?_
  refine z_getr (r := (gr M a0 0)) dX43_make_180 fsX43_21_7 rfl ?_
  obtain ⟨b1, e1_, k⟩ := k
  refine Z.eqs (lv' := [(0, vr (some (a0, 7, 0))), (1, vi l1), (2, vi l2), (7, vi l7), (8, vi l8)]) (st' := [vr (some (b1, 0, 0)), vi l8]) rfl (by rw [e1_] <;> rfl) ?_
  refine z_geti dX43_make_183 fsX43_53_0 ?_
  refine z_icmp_gt (tgt := 272) dX43_make_186 rfl (fun h_ => ?_) (fun h_ => ?_)
  · have k := zit h_ k
    refine z_aload_n dX43_make_272 rfl rfl ?_
    refine z_getr (r := (gr M a0 4)) dX43_make_273 fsX43_34_7 rfl ?_
    refine z_iload dX43_make_276 rfl ?_
    refine z_dup2 dX43_make_278 rfl rfl ?_
    obtain ⟨b2, m2, e2_, k⟩ := k
    refine Z.eqs (lv' := [(0, vr (some (a0, 7, 0))), (1, vi l1), (2, vi l2), (7, vi l7), (8, vi l8)]) (st' := [vi l7, vr (some (b2, 105, m2)), vi l7, vr (some (b2, 105, m2))]) rfl (by rw [e2_] <;> rfl) ?_
    obtain ⟨b_, k⟩ := k
    refine z_lald dX43_make_279 b_ ?_
    refine z_aload_n dX43_make_280 rfl rfl ?_
    refine z_getr (r := (gr M a0 4)) dX43_make_281 fsX43_34_7 rfl ?_
    refine z_iload_n dX43_make_284 rfl rfl ?_
    obtain ⟨b3, m3, e3_, k⟩ := k
    refine Z.eqs (lv' := [(0, vr (some (a0, 7, 0))), (1, vi l1), (2, vi l2), (7, vi l7), (8, vi l8)]) (st' := [vi l1, vr (some (b3, 105, m3)), vl (gl M b2 (l7).toNatClampNeg), vi l7, vr (some (b2, 105, m2))]) rfl (by rw [e3_] <;> rfl) ?_
    obtain ⟨b_, k⟩ := k
    refine z_lald dX43_make_285 b_ ?_
    refine z_lor dX43_make_286 ?_
    obtain ⟨g_, k⟩ := k
    obtain ⟨b_, k⟩ := k
    refine z_last g_ dX43_make_287 b_ ?_
    refine z_aload_n dX43_make_288 rfl rfl ?_
    refine z_getr (r := (gr M a0 5)) dX43_make_289 fsX43_37_7 rfl ?_
    refine z_iload dX43_make_292 rfl ?_
    refine z_dup2 dX43_make_294 rfl rfl ?_
    obtain ⟨b4, m4, e4_, k⟩ := k
    refine Z.eqs (lv' := [(0, vr (some (a0, 7, 0))), (1, vi l1), (2, vi l2), (7, vi l7), (8, vi l8)]) (st' := [vi l7, vr (some (b4, 105, m4)), vi l7, vr (some (b4, 105, m4))]) rfl (by rw [e4_] <;> rfl) ?_
    obtain ⟨b_, k⟩ := k
    refine z_lald dX43_make_295 b_ ?_
    refine z_aload_n dX43_make_296 rfl rfl ?_
    refine z_getr (r := (gr M a0 5)) dX43_make_297 fsX43_37_7 rfl ?_
    refine z_iload_n dX43_make_300 rfl rfl ?_
    obtain ⟨b5, m5, e5_, k⟩ := k
    refine Z.eqs (lv' := [(0, vr (some (a0, 7, 0))), (1, vi l1), (2, vi l2), (7, vi l7), (8, vi l8)]) (st' := [vi l1, vr (some (b5, 105, m5)), vl (gl (sl M b2 (l7).toNatClampNeg ((gl M b2 (l7).toNatClampNeg) ||| (gl M b3 (l1).toNatClampNeg))) b4 (l7).toNatClampNeg), vi l7, vr (some (b4, 105, m4))]) rfl (by rw [e5_] <;> rfl) ?_
    obtain ⟨b_, k⟩ := k
    refine z_lald dX43_make_301 b_ ?_
    refine z_lor dX43_make_302 ?_
    obtain ⟨g_, k⟩ := k
    obtain ⟨b_, k⟩ := k
    refine z_last g_ dX43_make_303 b_ ?_
    refine z_aload_n dX43_make_304 rfl rfl ?_
    refine z_getr (r := (gr M a0 6)) dX43_make_305 fsX43_40_7 rfl ?_
    refine z_iload dX43_make_308 rfl ?_
    refine z_dup2 dX43_make_310 rfl rfl ?_
    obtain ⟨b6, m6, e6_, k⟩ := k
    refine Z.eqs (lv' := [(0, vr (some (a0, 7, 0))), (1, vi l1), (2, vi l2), (7, vi l7), (8, vi l8)]) (st' := [vi l7, vr (some (b6, 105, m6)), vi l7, vr (some (b6, 105, m6))]) rfl (by rw [e6_] <;> rfl) ?_
    obtain ⟨b_, k⟩ := k
    refine z_lald dX43_make_311 b_ ?_
    refine z_aload_n dX43_make_312 rfl rfl ?_
    refine z_getr (r := (gr M a0 6)) dX43_make_313 fsX43_40_7 rfl ?_
    refine z_iload_n dX43_make_316 rfl rfl ?_
    obtain ⟨b7, m7, e7_, k⟩ := k
    refine Z.eqs (lv' := [(0, vr (some (a0, 7, 0))), (1, vi l1), (2, vi l2), (7, vi l7), (8, vi l8)]) (st' := [vi l1, vr (some (b7, 105, m7)), vl (gl (sl (sl M b2 (l7).toNatClampNeg ((gl M b2 (l7).toNatClampNeg) ||| (gl M b3 (l1).toNatClampNeg))) b4 (l7).toNatClampNeg ((gl (sl M b2 (l7).toNatClampNeg ((gl M b2 (l7).toNatClampNeg) ||| (gl M b3 (l1).toNatClampNeg))) b4 (l7).toNatClampNeg) ||| (gl (sl M b2 (l7).toNatClampNeg ((gl M b2 (l7).toNatClampNeg) ||| (gl M b3 (l1).toNatClampNeg))) b5 (l1).toNatClampNeg))) b6 (l7).toNatClampNeg), vi l7, vr (some (b6, 105, m6))]) rfl (by rw [e7_] <;> rfl) ?_
    obtain ⟨b_, k⟩ := k
    refine z_lald dX43_make_317 b_ ?_
    refine z_lor dX43_make_318 ?_
    obtain ⟨g_, k⟩ := k
    obtain ⟨b_, k⟩ := k
    refine z_last g_ dX43_make_319 b_ ?_
    refine z_aload_n dX43_make_320 rfl rfl ?_
    refine z_getr (r := (gr M a0 7)) dX43_make_321 fsX43_43_7 rfl ?_
    refine z_iload dX43_make_324 rfl ?_
    refine z_dup2 dX43_make_326 rfl rfl ?_
    obtain ⟨b8, m8, e8_, k⟩ := k
    refine Z.eqs (lv' := [(0, vr (some (a0, 7, 0))), (1, vi l1), (2, vi l2), (7, vi l7), (8, vi l8)]) (st' := [vi l7, vr (some (b8, 105, m8)), vi l7, vr (some (b8, 105, m8))]) rfl (by rw [e8_] <;> rfl) ?_
    obtain ⟨b_, k⟩ := k
    refine z_lald dX43_make_327 b_ ?_
    refine z_aload_n dX43_make_328 rfl rfl ?_
    refine z_getr (r := (gr M a0 7)) dX43_make_329 fsX43_43_7 rfl ?_
    refine z_iload_n dX43_make_332 rfl rfl ?_
    obtain ⟨b9, m9, e9_, k⟩ := k
    refine Z.eqs (lv' := [(0, vr (some (a0, 7, 0))), (1, vi l1), (2, vi l2), (7, vi l7), (8, vi l8)]) (st' := [vi l1, vr (some (b9, 105, m9)), vl (gl (sl (sl (sl M b2 (l7).toNatClampNeg ((gl M b2 (l7).toNatClampNeg) ||| (gl M b3 (l1).toNatClampNeg))) b4 (l7).toNatClampNeg ((gl (sl M b2 (l7).toNatClampNeg ((gl M b2 (l7).toNatClampNeg) ||| (gl M b3 (l1).toNatClampNeg))) b4 (l7).toNatClampNeg) ||| (gl (sl M b2 (l7).toNatClampNeg ((gl M b2 (l7).toNatClampNeg) ||| (gl M b3 (l1).toNatClampNeg))) b5 (l1).toNatClampNeg))) b6 (l7).toNatClampNeg ((gl (sl (sl M b2 (l7).toNatClampNeg ((gl M b2 (l7).toNatClampNeg) ||| (gl M b3 (l1).toNatClampNeg))) b4 (l7).toNatClampNeg ((gl (sl M b2 (l7).toNatClampNeg ((gl M b2 (l7).toNatClampNeg) ||| (gl M b3 (l1).toNatClampNeg))) b4 (l7).toNatClampNeg) ||| (gl (sl M b2 (l7).toNatClampNeg ((gl M b2 (l7).toNatClampNeg) ||| (gl M b3 (l1).toNatClampNeg))) b5 (l1).toNatClampNeg))) b6 (l7).toNatClampNeg) ||| (gl (sl (sl M b2 (l7).toNatClampNeg ((gl M b2 (l7).toNatClampNeg) ||| (gl M b3 (l1).toNatClampNeg))) b4 (l7).toNatClampNeg ((gl (sl M b2 (l7).toNatClampNeg ((gl M b2 (l7).toNatClampNeg) ||| (gl M b3 (l1).toNatClampNeg))) b4 (l7).toNatClampNeg) ||| (gl (sl M b2 (l7).toNatClampNeg ((gl M b2 (l7).toNatClampNeg) ||| (gl M b3 (l1).toNatClampNeg))) b5 (l1).toNatClampNeg))) b7 (l1).toNatClampNeg))) b8 (l7).toNatClampNeg), vi l7, vr (some (b8, 105, m8))]) rfl (by rw [e9_] <;> rfl) ?_
    obtain ⟨b_, k⟩ := k
    refine z_lald dX43_make_333 b_ ?_
    refine z_lor dX43_make_334 ?_
    obtain ⟨g_, k⟩ := k
    obtain ⟨b_, k⟩ := k
    refine z_last g_ dX43_make_335 b_ ?_
    refine z_aload_n dX43_make_336 rfl rfl ?_
    refine z_getr (r := (gr M a0 9)) dX43_make_337 fsX43_50_7 rfl ?_
    refine z_iload dX43_make_340 rfl ?_
    refine z_dup2 dX43_make_342 rfl rfl ?_
    obtain ⟨b10, m10, e10_, k⟩ := k
    refine Z.eqs (lv' := [(0, vr (some (a0, 7, 0))), (1, vi l1), (2, vi l2), (7, vi l7), (8, vi l8)]) (st' := [vi l7, vr (some (b10, 104, m10)), vi l7, vr (some (b10, 104, m10))]) rfl (by rw [e10_] <;> rfl) ?_
    obtain ⟨b_, k⟩ := k
    refine z_zald dX43_make_343 b_ ?_
    refine z_aload_n dX43_make_344 rfl rfl ?_
    refine z_getr (r := (gr M a0 9)) dX43_make_345 fsX43_50_7 rfl ?_
    refine z_iload_n dX43_make_348 rfl rfl ?_
    obtain ⟨b11, m11, e11_, k⟩ := k
    refine Z.eqs (lv' := [(0, vr (some (a0, 7, 0))), (1, vi l1), (2, vi l2), (7, vi l7), (8, vi l8)]) (st' := [vi l1, vr (some (b11, 104, m11)), vi (gi M b10 (l7).toNatClampNeg), vi l7, vr (some (b10, 104, m10))]) rfl (by rw [e11_] <;> rfl) ?_
    obtain ⟨b_, k⟩ := k
    refine z_zald dX43_make_349 b_ ?_
    refine z_ior dX43_make_350 ?_
    obtain ⟨g_, k⟩ := k
    obtain ⟨b_, k⟩ := k
    refine z_zast g_ dX43_make_351 b_ ?_
    refine Z.pick [0, 1, 2] rfl ?_
    exact k
  · have k := zif h_ k
    refine z_aload_n dX43_make_189 rfl rfl ?_
    refine z_iload dX43_make_190 rfl ?_
    refine z_iload dX43_make_192 rfl ?_
    exact z_callV (as := [vi l7, vi l8]) (st := []) dX43_make_194 vsX43_79_7 (Nat.le_refl _) (Nat.le_of_ble_eq_true rfl) (Nat.le_of_ble_eq_true rfl) rfl k
theorem sX43_make_197 {E : zE} {d : Nat} {Q : zO → zM → Prop} (M : zM) (a0 : Nat) (l1 : Int32) (l2 : Int32) (l7 : Int32) (l8 : Int32) (s0 : Int32) (k : Z E YX43_cell d M (zargs 0 [vr (some (a0, 7, 0)), vi l1, vi l8]) 0 [] (zafter E YX43_make (d + 1) [(0, vr (some (a0, 7, 0))), (1, vi l1), (2, vi l2), (7, vi l7), (8, vi l8), (9, vi s0)] 203 3 [] Q)) : Z E YX43_make (d + 1) M [(0, vr (some (a0, 7, 0))), (1, vi l1), (2, vi l2), (7, vi l7), (8, vi l8)] 197 [vi s0] Q := by
  refine z_ist dX43_make_197 (by decide) (lv' := [(0, vr (some (a0, 7, 0))), (1, vi l1), (2, vi l2), (7, vi l7), (8, vi l8), (9, vi s0)]) rfl ?_
  refine z_aload_n dX43_make_199 rfl rfl ?_
  refine z_iload_n dX43_make_200 rfl rfl ?_
  refine z_iload dX43_make_201 rfl ?_
  exact z_callV (as := [vi l1, vi l8]) (st := []) dX43_make_203 vsX43_79_7 (Nat.le_refl _) (Nat.le_of_ble_eq_true rfl) (Nat.le_of_ble_eq_true rfl) rfl k
theorem sX43_make_206 {E : zE} {d : Nat} {Q : zO → zM → Prop} (M : zM) (a0 : Nat) (l1 : Int32) (l2 : Int32) (l7 : Int32) (l8 : Int32) (l9 : Int32) (s0 : Int32) (k : ∃ b1 m1 : Nat, (gr M a0 1) = some (b1, 105, m1) ∧ (vp_in l9 m1 ∧ (∃ b2 m2 : Nat, (gr M a0 1) = some (b2, 105, m2) ∧ (vp_in s0 m2 ∧ (16 ≤ b1 ∧ (vp_in l9 m1 ∧ (∃ b3 m3 : Nat, (gr M a0 2) = some (b3, 105, m3) ∧ (vp_in l9 m3 ∧ (∃ b4 m4 : Nat, (gr M a0 2) = some (b4, 105, m4) ∧ (vp_in s0 m4 ∧ (16 ≤ b3 ∧ (vp_in l9 m3 ∧ (∃ b5 m5 : Nat, (gr M a0 3) = some (b5, 105, m5) ∧ (vp_in l9 m5 ∧ (∃ b6 m6 : Nat, (gr M a0 3) = some (b6, 105, m6) ∧ (vp_in s0 m6 ∧ (Z E YX1_joined d (sl (sl M b1 (l9).toNatClampNeg ((gl M b1 (l9).toNatClampNeg) ||| (gl M b2 (s0).toNatClampNeg))) b3 (l9).toNatClampNeg ((gl (sl M b1 (l9).toNatClampNeg ((gl M b1 (l9).toNatClampNeg) ||| (gl M b2 (s0).toNatClampNeg))) b3 (l9).toNatClampNeg) ||| (gl (sl M b1 (l9).toNatClampNeg ((gl M b1 (l9).toNatClampNeg) ||| (gl M b2 (s0).toNatClampNeg))) b4 (s0).toNatClampNeg))) (zargs 0 [vl (gl (sl (sl M b1 (l9).toNatClampNeg ((gl M b1 (l9).toNatClampNeg) ||| (gl M b2 (s0).toNatClampNeg))) b3 (l9).toNatClampNeg ((gl (sl M b1 (l9).toNatClampNeg ((gl M b1 (l9).toNatClampNeg) ||| (gl M b2 (s0).toNatClampNeg))) b3 (l9).toNatClampNeg) ||| (gl (sl M b1 (l9).toNatClampNeg ((gl M b1 (l9).toNatClampNeg) ||| (gl M b2 (s0).toNatClampNeg))) b4 (s0).toNatClampNeg))) b5 (l9).toNatClampNeg), vl (gl (sl (sl M b1 (l9).toNatClampNeg ((gl M b1 (l9).toNatClampNeg) ||| (gl M b2 (s0).toNatClampNeg))) b3 (l9).toNatClampNeg ((gl (sl M b1 (l9).toNatClampNeg ((gl M b1 (l9).toNatClampNeg) ||| (gl M b2 (s0).toNatClampNeg))) b3 (l9).toNatClampNeg) ||| (gl (sl M b1 (l9).toNatClampNeg ((gl M b1 (l9).toNatClampNeg) ||| (gl M b2 (s0).toNatClampNeg))) b4 (s0).toNatClampNeg))) b6 (s0).toNatClampNeg)]) 0 [] (zafter E YX43_make (d + 1) [(0, vr (some (a0, 7, 0))), (1, vi l1), (2, vi l2), (7, vi l7), (8, vi l8)] 262 3 [vi l9, vr (some (b5, 105, m5))] Q)))))))))))))))))) : Z E YX43_make (d + 1) M [(0, vr (some (a0, 7, 0))), (1, vi l1), (2, vi l2), (7, vi l7), (8, vi l8), (9, vi l9)] 206 [vi s0] Q := by
  refine z_ist dX43_make_206 (by decide) (lv' := [(0, vr (some (a0, 7, 0))), (1, vi l1), (2, vi l2), (7, vi l7), (8, vi l8), (9, vi l9), (10, vi s0)]) rfl ?_
  refine z_aload_n dX43_make_208 rfl rfl ?_
  refine z_getr (r := (gr M a0 1)) dX43_make_209 fsX43_25_7 rfl ?_
  refine z_iload dX43_make_212 rfl ?_
  refine z_dup2 dX43_make_214 rfl rfl ?_
  obtain ⟨b1, m1, e1_, k⟩ := k
  refine Z.eqs (lv' := [(0, vr (some (a0, 7, 0))), (1, vi l1), (2, vi l2), (7, vi l7), (8, vi l8), (9, vi l9), (10, vi s0)]) (st' := [vi l9, vr (some (b1, 105, m1)), vi l9, vr (some (b1, 105, m1))]) rfl (by rw [e1_] <;> rfl) ?_
  obtain ⟨b_, k⟩ := k
  refine z_lald dX43_make_215 b_ ?_
  refine z_aload_n dX43_make_216 rfl rfl ?_
  refine z_getr (r := (gr M a0 1)) dX43_make_217 fsX43_25_7 rfl ?_
  refine z_iload dX43_make_220 rfl ?_
  obtain ⟨b2, m2, e2_, k⟩ := k
  refine Z.eqs (lv' := [(0, vr (some (a0, 7, 0))), (1, vi l1), (2, vi l2), (7, vi l7), (8, vi l8), (9, vi l9), (10, vi s0)]) (st' := [vi s0, vr (some (b2, 105, m2)), vl (gl M b1 (l9).toNatClampNeg), vi l9, vr (some (b1, 105, m1))]) rfl (by rw [e2_] <;> rfl) ?_
  obtain ⟨b_, k⟩ := k
  refine z_lald dX43_make_222 b_ ?_
  refine z_lor dX43_make_223 ?_
  obtain ⟨g_, k⟩ := k
  obtain ⟨b_, k⟩ := k
  refine z_last g_ dX43_make_224 b_ ?_
  refine z_aload_n dX43_make_225 rfl rfl ?_
  refine z_getr (r := (gr M a0 2)) dX43_make_226 fsX43_28_7 rfl ?_
  refine z_iload dX43_make_229 rfl ?_
  refine z_dup2 dX43_make_231 rfl rfl ?_
  obtain ⟨b3, m3, e3_, k⟩ := k
  refine Z.eqs (lv' := [(0, vr (some (a0, 7, 0))), (1, vi l1), (2, vi l2), (7, vi l7), (8, vi l8), (9, vi l9), (10, vi s0)]) (st' := [vi l9, vr (some (b3, 105, m3)), vi l9, vr (some (b3, 105, m3))]) rfl (by rw [e3_] <;> rfl) ?_
  obtain ⟨b_, k⟩ := k
  refine z_lald dX43_make_232 b_ ?_
  refine z_aload_n dX43_make_233 rfl rfl ?_
  refine z_getr (r := (gr M a0 2)) dX43_make_234 fsX43_28_7 rfl ?_
  refine z_iload dX43_make_237 rfl ?_
  obtain ⟨b4, m4, e4_, k⟩ := k
  refine Z.eqs (lv' := [(0, vr (some (a0, 7, 0))), (1, vi l1), (2, vi l2), (7, vi l7), (8, vi l8), (9, vi l9), (10, vi s0)]) (st' := [vi s0, vr (some (b4, 105, m4)), vl (gl (sl M b1 (l9).toNatClampNeg ((gl M b1 (l9).toNatClampNeg) ||| (gl M b2 (s0).toNatClampNeg))) b3 (l9).toNatClampNeg), vi l9, vr (some (b3, 105, m3))]) rfl (by rw [e4_] <;> rfl) ?_
  obtain ⟨b_, k⟩ := k
  refine z_lald dX43_make_239 b_ ?_
  refine z_lor dX43_make_240 ?_
  obtain ⟨g_, k⟩ := k
  obtain ⟨b_, k⟩ := k
  refine z_last g_ dX43_make_241 b_ ?_
  refine z_aload_n dX43_make_242 rfl rfl ?_
  refine z_getr (r := (gr M a0 3)) dX43_make_243 fsX43_31_7 rfl ?_
  refine z_iload dX43_make_246 rfl ?_
  refine z_aload_n dX43_make_248 rfl rfl ?_
  refine z_getr (r := (gr M a0 3)) dX43_make_249 fsX43_31_7 rfl ?_
  refine z_iload dX43_make_252 rfl ?_
  obtain ⟨b5, m5, e5_, k⟩ := k
  refine Z.eqs (lv' := [(0, vr (some (a0, 7, 0))), (1, vi l1), (2, vi l2), (7, vi l7), (8, vi l8), (9, vi l9), (10, vi s0)]) (st' := [vi l9, vr (some (b5, 105, m5)), vi l9, vr (some (b5, 105, m5))]) rfl (by rw [e5_] <;> rfl) ?_
  obtain ⟨b_, k⟩ := k
  refine z_lald dX43_make_254 b_ ?_
  refine z_aload_n dX43_make_255 rfl rfl ?_
  refine z_getr (r := (gr M a0 3)) dX43_make_256 fsX43_31_7 rfl ?_
  refine z_iload dX43_make_259 rfl ?_
  obtain ⟨b6, m6, e6_, k⟩ := k
  refine Z.eqs (lv' := [(0, vr (some (a0, 7, 0))), (1, vi l1), (2, vi l2), (7, vi l7), (8, vi l8), (9, vi l9), (10, vi s0)]) (st' := [vi s0, vr (some (b6, 105, m6)), vl (gl (sl (sl M b1 (l9).toNatClampNeg ((gl M b1 (l9).toNatClampNeg) ||| (gl M b2 (s0).toNatClampNeg))) b3 (l9).toNatClampNeg ((gl (sl M b1 (l9).toNatClampNeg ((gl M b1 (l9).toNatClampNeg) ||| (gl M b2 (s0).toNatClampNeg))) b3 (l9).toNatClampNeg) ||| (gl (sl M b1 (l9).toNatClampNeg ((gl M b1 (l9).toNatClampNeg) ||| (gl M b2 (s0).toNatClampNeg))) b4 (s0).toNatClampNeg))) b5 (l9).toNatClampNeg), vi l9, vr (some (b5, 105, m5))]) rfl (by rw [e6_] <;> rfl) ?_
  obtain ⟨b_, k⟩ := k
  refine z_lald dX43_make_261 b_ ?_
  refine Z.pick [0, 1, 2, 3, 4] rfl ?_
  exact z_callS (as := [vl (gl (sl (sl M b1 (l9).toNatClampNeg ((gl M b1 (l9).toNatClampNeg) ||| (gl M b2 (s0).toNatClampNeg))) b3 (l9).toNatClampNeg ((gl (sl M b1 (l9).toNatClampNeg ((gl M b1 (l9).toNatClampNeg) ||| (gl M b2 (s0).toNatClampNeg))) b3 (l9).toNatClampNeg) ||| (gl (sl M b1 (l9).toNatClampNeg ((gl M b1 (l9).toNatClampNeg) ||| (gl M b2 (s0).toNatClampNeg))) b4 (s0).toNatClampNeg))) b5 (l9).toNatClampNeg), vl (gl (sl (sl M b1 (l9).toNatClampNeg ((gl M b1 (l9).toNatClampNeg) ||| (gl M b2 (s0).toNatClampNeg))) b3 (l9).toNatClampNeg ((gl (sl M b1 (l9).toNatClampNeg ((gl M b1 (l9).toNatClampNeg) ||| (gl M b2 (s0).toNatClampNeg))) b3 (l9).toNatClampNeg) ||| (gl (sl M b1 (l9).toNatClampNeg ((gl M b1 (l9).toNatClampNeg) ||| (gl M b2 (s0).toNatClampNeg))) b4 (s0).toNatClampNeg))) b6 (s0).toNatClampNeg)]) (st := [vi l9, vr (some (b5, 105, m5))]) dX43_make_262 ssX43_85 (Nat.le_refl _) (Nat.le_of_ble_eq_true rfl) (Nat.le_of_ble_eq_true rfl) rfl k
theorem sX43_make_265 {E : zE} {d : Nat} {Q : zO → zM → Prop} (M : zM) (a0 : Nat) (l1 : Int32) (l2 : Int32) (l7 : Int32) (l8 : Int32) (s0 : Int64) (s1 : Int32) (p2 : Nat) (np2 : Nat) (k : 16 ≤ p2 ∧ (vp_in s1 np2 ∧ (Z E YX43_make (d + 1) (sl M p2 (s1).toNatClampNeg s0) [(0, vr (some (a0, 7, 0))), (1, vi l1), (2, vi l2), (7, vi l7), (8, vi (l8 + (1 : Int32)))] 177 [] Q))) : Z E YX43_make (d + 1) M [(0, vr (some (a0, 7, 0))), (1, vi l1), (2, vi l2), (7, vi l7), (8, vi l8)] 265 [vl s0, vi s1, vr (some (p2, 105, np2))] Q := by
  obtain ⟨g_, k⟩ := k
  obtain ⟨b_, k⟩ := k
  refine z_last g_ dX43_make_265 b_ ?_
  refine z_inc (v := (l8 + (1 : Int32))) dX43_make_266 rfl rfl (by decide) (lv' := [(0, vr (some (a0, 7, 0))), (1, vi l1), (2, vi l2), (7, vi l7), (8, vi (l8 + (1 : Int32)))]) rfl ?_
  refine z_goto (tgt := 177) dX43_make_269 rfl ?_
  exact k
theorem sX43_make_352 {E : zE} {d : Nat} {Q : zO → zM → Prop} (M : zM) (a0 : Nat) (l1 : Int32) (l2 : Int32) (k : if l2 = (-1 : Int32) then (Z E YX43_renew d M (zargs 0 [vr (some (a0, 7, 0)), vi l1, vi l2, vi (1 : Int32)]) 0 [] (zafter E YX43_make (d + 1) [] 365 3 [] Q)) else (Z E YX43_renew d M (zargs 0 [vr (some (a0, 7, 0)), vi l1, vi l2, vi (0 : Int32)]) 0 [] (zafter E YX43_make (d + 1) [] 365 3 [] Q))) : Z E YX43_make (d + 1) M [(0, vr (some (a0, 7, 0))), (1, vi l1), (2, vi l2)] 352 [] Q := by
  refine z_aload_n dX43_make_352 rfl rfl ?_
  refine z_iload_n dX43_make_353 rfl rfl ?_
  refine z_iload_n dX43_make_354 rfl rfl ?_
  refine z_iload_n dX43_make_355 rfl rfl ?_
  refine z_iconst (v := -1) dX43_make_356 rfl ?_
  refine z_icmp_ne (tgt := 364) dX43_make_357 rfl (fun h_ => ?_) (fun h_ => ?_)
  · have k := zif h_ k
    refine z_iconst (v := 0) dX43_make_364 rfl ?_
    refine Z.pick [] rfl ?_
    exact z_callV (as := [vi l1, vi l2, vi (0 : Int32)]) (st := []) dX43_make_365 vsX43_122_7 (Nat.le_refl _) (Nat.le_of_ble_eq_true rfl) (Nat.le_of_ble_eq_true rfl) rfl k
  · have k := zit h_ k
    refine z_iconst (v := 1) dX43_make_360 rfl ?_
    refine z_goto (tgt := 365) dX43_make_361 rfl ?_
    refine Z.pick [] rfl ?_
    exact z_callV (as := [vi l1, vi l2, vi (1 : Int32)]) (st := []) dX43_make_365 vsX43_122_7 (Nat.le_refl _) (Nat.le_of_ble_eq_true rfl) (Nat.le_of_ble_eq_true rfl) rfl k
theorem sX43_make_368 {E : zE} {d : Nat} {Q : zO → zM → Prop} (M : zM)  (k : Q (.inl none) M) : Z E YX43_make (d + 1) M [] 368 [] Q := by
  exact z_vret dX43_make_368 rfl k
