/-! ScriptTypesModel.indexOf(I)I -/
theorem bX8_indexOf_0 : zdec cX8_indexOf 0 [(0, .aload_n 0, 1), (1, .getfield 20, 3), (4, .iload_n 1, 1), (5, .iaload, 1), (6, .istore_n 2, 1), (7, .iload_n 2, 1), (8, .iconst 1, 1), (9, .if_icmp .lt 8, 3), (12, .iload_n 2, 1), (13, .iconst 2, 1), (14, .if_icmp .le 5, 3), (17, .iconst (-1), 1), (18, .ireturn, 1), (19, .aload_n 0, 1), (20, .getfield 16, 3), (23, .bipush 60, 2)] = true := by decide +kernel
theorem dX8_indexOf_0 : decode cX8_indexOf 0 = .ok (.aload_n 0, 1) := zdec_at bX8_indexOf_0 0 rfl
theorem dX8_indexOf_1 : decode cX8_indexOf 1 = .ok (.getfield 20, 3) := zdec_at bX8_indexOf_0 1 rfl
theorem dX8_indexOf_4 : decode cX8_indexOf 4 = .ok (.iload_n 1, 1) := zdec_at bX8_indexOf_0 2 rfl
theorem dX8_indexOf_5 : decode cX8_indexOf 5 = .ok (.iaload, 1) := zdec_at bX8_indexOf_0 3 rfl
theorem dX8_indexOf_6 : decode cX8_indexOf 6 = .ok (.istore_n 2, 1) := zdec_at bX8_indexOf_0 4 rfl
theorem dX8_indexOf_7 : decode cX8_indexOf 7 = .ok (.iload_n 2, 1) := zdec_at bX8_indexOf_0 5 rfl
theorem dX8_indexOf_8 : decode cX8_indexOf 8 = .ok (.iconst 1, 1) := zdec_at bX8_indexOf_0 6 rfl
theorem dX8_indexOf_9 : decode cX8_indexOf 9 = .ok (.if_icmp .lt 8, 3) := zdec_at bX8_indexOf_0 7 rfl
theorem dX8_indexOf_12 : decode cX8_indexOf 12 = .ok (.iload_n 2, 1) := zdec_at bX8_indexOf_0 8 rfl
theorem dX8_indexOf_13 : decode cX8_indexOf 13 = .ok (.iconst 2, 1) := zdec_at bX8_indexOf_0 9 rfl
theorem dX8_indexOf_14 : decode cX8_indexOf 14 = .ok (.if_icmp .le 5, 3) := zdec_at bX8_indexOf_0 10 rfl
theorem dX8_indexOf_17 : decode cX8_indexOf 17 = .ok (.iconst (-1), 1) := zdec_at bX8_indexOf_0 11 rfl
theorem dX8_indexOf_18 : decode cX8_indexOf 18 = .ok (.ireturn, 1) := zdec_at bX8_indexOf_0 12 rfl
theorem dX8_indexOf_19 : decode cX8_indexOf 19 = .ok (.aload_n 0, 1) := zdec_at bX8_indexOf_0 13 rfl
theorem dX8_indexOf_20 : decode cX8_indexOf 20 = .ok (.getfield 16, 3) := zdec_at bX8_indexOf_0 14 rfl
theorem dX8_indexOf_23 : decode cX8_indexOf 23 = .ok (.bipush 60, 2) := zdec_at bX8_indexOf_0 15 rfl
theorem bX8_indexOf_25 : zdec cX8_indexOf 25 [(25, .iload_n 1, 1), (26, .imul, 1), (27, .caload, 1), (28, .istore_n 3, 1), (29, .iload_n 2, 1), (30, .iconst 2, 1), (31, .if_icmp .ne 17, 3), (34, .aload_n 0, 1), (35, .getfield 16, 3), (38, .bipush 60, 2), (40, .iload_n 1, 1), (41, .imul, 1), (42, .iconst 1, 1), (43, .iadd, 1), (44, .caload, 1), (45, .goto 5, 3)] = true := by decide +kernel
theorem dX8_indexOf_25 : decode cX8_indexOf 25 = .ok (.iload_n 1, 1) := zdec_at bX8_indexOf_25 0 rfl
theorem dX8_indexOf_26 : decode cX8_indexOf 26 = .ok (.imul, 1) := zdec_at bX8_indexOf_25 1 rfl
theorem dX8_indexOf_27 : decode cX8_indexOf 27 = .ok (.caload, 1) := zdec_at bX8_indexOf_25 2 rfl
theorem dX8_indexOf_28 : decode cX8_indexOf 28 = .ok (.istore_n 3, 1) := zdec_at bX8_indexOf_25 3 rfl
theorem dX8_indexOf_29 : decode cX8_indexOf 29 = .ok (.iload_n 2, 1) := zdec_at bX8_indexOf_25 4 rfl
theorem dX8_indexOf_30 : decode cX8_indexOf 30 = .ok (.iconst 2, 1) := zdec_at bX8_indexOf_25 5 rfl
theorem dX8_indexOf_31 : decode cX8_indexOf 31 = .ok (.if_icmp .ne 17, 3) := zdec_at bX8_indexOf_25 6 rfl
theorem dX8_indexOf_34 : decode cX8_indexOf 34 = .ok (.aload_n 0, 1) := zdec_at bX8_indexOf_25 7 rfl
theorem dX8_indexOf_35 : decode cX8_indexOf 35 = .ok (.getfield 16, 3) := zdec_at bX8_indexOf_25 8 rfl
theorem dX8_indexOf_38 : decode cX8_indexOf 38 = .ok (.bipush 60, 2) := zdec_at bX8_indexOf_25 9 rfl
theorem dX8_indexOf_40 : decode cX8_indexOf 40 = .ok (.iload_n 1, 1) := zdec_at bX8_indexOf_25 10 rfl
theorem dX8_indexOf_41 : decode cX8_indexOf 41 = .ok (.imul, 1) := zdec_at bX8_indexOf_25 11 rfl
theorem dX8_indexOf_42 : decode cX8_indexOf 42 = .ok (.iconst 1, 1) := zdec_at bX8_indexOf_25 12 rfl
theorem dX8_indexOf_43 : decode cX8_indexOf 43 = .ok (.iadd, 1) := zdec_at bX8_indexOf_25 13 rfl
theorem dX8_indexOf_44 : decode cX8_indexOf 44 = .ok (.caload, 1) := zdec_at bX8_indexOf_25 14 rfl
theorem dX8_indexOf_45 : decode cX8_indexOf 45 = .ok (.goto 5, 3) := zdec_at bX8_indexOf_25 15 rfl
theorem bX8_indexOf_48 : zdec cX8_indexOf 48 [(48, .bipush 48, 2), (50, .istore 4, 2), (52, .iload_n 3, 1), (53, .invokestatic 341, 3), (56, .ifCond .eq 22, 3), (59, .iload 4, 2), (61, .invokestatic 341, 3), (64, .ifCond .eq 14, 3), (67, .iload_n 2, 1), (68, .iconst 2, 1), (69, .if_icmp .ne 11, 3), (72, .iload_n 3, 1), (73, .bipush 48, 2), (75, .if_icmp .ne 5, 3), (78, .iconst (-1), 1), (79, .ireturn, 1)] = true := by decide +kernel
theorem dX8_indexOf_48 : decode cX8_indexOf 48 = .ok (.bipush 48, 2) := zdec_at bX8_indexOf_48 0 rfl
theorem dX8_indexOf_50 : decode cX8_indexOf 50 = .ok (.istore 4, 2) := zdec_at bX8_indexOf_48 1 rfl
theorem dX8_indexOf_52 : decode cX8_indexOf 52 = .ok (.iload_n 3, 1) := zdec_at bX8_indexOf_48 2 rfl
theorem dX8_indexOf_53 : decode cX8_indexOf 53 = .ok (.invokestatic 341, 3) := zdec_at bX8_indexOf_48 3 rfl
theorem dX8_indexOf_56 : decode cX8_indexOf 56 = .ok (.ifCond .eq 22, 3) := zdec_at bX8_indexOf_48 4 rfl
theorem dX8_indexOf_59 : decode cX8_indexOf 59 = .ok (.iload 4, 2) := zdec_at bX8_indexOf_48 5 rfl
theorem dX8_indexOf_61 : decode cX8_indexOf 61 = .ok (.invokestatic 341, 3) := zdec_at bX8_indexOf_48 6 rfl
theorem dX8_indexOf_64 : decode cX8_indexOf 64 = .ok (.ifCond .eq 14, 3) := zdec_at bX8_indexOf_48 7 rfl
theorem dX8_indexOf_67 : decode cX8_indexOf 67 = .ok (.iload_n 2, 1) := zdec_at bX8_indexOf_48 8 rfl
theorem dX8_indexOf_68 : decode cX8_indexOf 68 = .ok (.iconst 2, 1) := zdec_at bX8_indexOf_48 9 rfl
theorem dX8_indexOf_69 : decode cX8_indexOf 69 = .ok (.if_icmp .ne 11, 3) := zdec_at bX8_indexOf_48 10 rfl
theorem dX8_indexOf_72 : decode cX8_indexOf 72 = .ok (.iload_n 3, 1) := zdec_at bX8_indexOf_48 11 rfl
theorem dX8_indexOf_73 : decode cX8_indexOf 73 = .ok (.bipush 48, 2) := zdec_at bX8_indexOf_48 12 rfl
theorem dX8_indexOf_75 : decode cX8_indexOf 75 = .ok (.if_icmp .ne 5, 3) := zdec_at bX8_indexOf_48 13 rfl
theorem dX8_indexOf_78 : decode cX8_indexOf 78 = .ok (.iconst (-1), 1) := zdec_at bX8_indexOf_48 14 rfl
theorem dX8_indexOf_79 : decode cX8_indexOf 79 = .ok (.ireturn, 1) := zdec_at bX8_indexOf_48 15 rfl
theorem bX8_indexOf_80 : zdec cX8_indexOf 80 [(80, .iload_n 2, 1), (81, .iconst 1, 1), (82, .if_icmp .ne 10, 3), (85, .iload_n 3, 1), (86, .bipush 48, 2), (88, .isub, 1), (89, .goto 16, 3), (92, .bipush 10, 2), (94, .iload_n 3, 1), (95, .bipush 48, 2), (97, .isub, 1), (98, .imul, 1), (99, .iload 4, 2), (101, .iadd, 1), (102, .bipush 48, 2), (104, .isub, 1)] = true := by decide +kernel
theorem dX8_indexOf_80 : decode cX8_indexOf 80 = .ok (.iload_n 2, 1) := zdec_at bX8_indexOf_80 0 rfl
theorem dX8_indexOf_81 : decode cX8_indexOf 81 = .ok (.iconst 1, 1) := zdec_at bX8_indexOf_80 1 rfl
theorem dX8_indexOf_82 : decode cX8_indexOf 82 = .ok (.if_icmp .ne 10, 3) := zdec_at bX8_indexOf_80 2 rfl
theorem dX8_indexOf_85 : decode cX8_indexOf 85 = .ok (.iload_n 3, 1) := zdec_at bX8_indexOf_80 3 rfl
theorem dX8_indexOf_86 : decode cX8_indexOf 86 = .ok (.bipush 48, 2) := zdec_at bX8_indexOf_80 4 rfl
theorem dX8_indexOf_88 : decode cX8_indexOf 88 = .ok (.isub, 1) := zdec_at bX8_indexOf_80 5 rfl
theorem dX8_indexOf_89 : decode cX8_indexOf 89 = .ok (.goto 16, 3) := zdec_at bX8_indexOf_80 6 rfl
theorem dX8_indexOf_92 : decode cX8_indexOf 92 = .ok (.bipush 10, 2) := zdec_at bX8_indexOf_80 7 rfl
theorem dX8_indexOf_94 : decode cX8_indexOf 94 = .ok (.iload_n 3, 1) := zdec_at bX8_indexOf_80 8 rfl
theorem dX8_indexOf_95 : decode cX8_indexOf 95 = .ok (.bipush 48, 2) := zdec_at bX8_indexOf_80 9 rfl
theorem dX8_indexOf_97 : decode cX8_indexOf 97 = .ok (.isub, 1) := zdec_at bX8_indexOf_80 10 rfl
theorem dX8_indexOf_98 : decode cX8_indexOf 98 = .ok (.imul, 1) := zdec_at bX8_indexOf_80 11 rfl
theorem dX8_indexOf_99 : decode cX8_indexOf 99 = .ok (.iload 4, 2) := zdec_at bX8_indexOf_80 12 rfl
theorem dX8_indexOf_101 : decode cX8_indexOf 101 = .ok (.iadd, 1) := zdec_at bX8_indexOf_80 13 rfl
theorem dX8_indexOf_102 : decode cX8_indexOf 102 = .ok (.bipush 48, 2) := zdec_at bX8_indexOf_80 14 rfl
theorem dX8_indexOf_104 : decode cX8_indexOf 104 = .ok (.isub, 1) := zdec_at bX8_indexOf_80 15 rfl
theorem bX8_indexOf_105 : zdec cX8_indexOf 105 [(105, .ireturn, 1)] = true := by decide +kernel
theorem dX8_indexOf_105 : decode cX8_indexOf 105 = .ok (.ireturn, 1) := zdec_at bX8_indexOf_105 0 rfl
theorem sX8_indexOf_0 {E : zE} {d : Nat} {Q : zO → zM → Prop} (M : zM) (l1 : Int32) (k : vp_in l1 400 ∧ (if (gi M 101 (l1).toNatClampNeg) < (1 : Int32) then (Q (.inl (some (vi (-1 : Int32)))) M) else (if (gi M 101 (l1).toNatClampNeg) ≤ (2 : Int32) then (vp_in ((60 : Int32) * l1) 24000 ∧ (if (gi M 101 (l1).toNatClampNeg) = (2 : Int32) then (vp_in (((60 : Int32) * l1) + (1 : Int32)) 24000 ∧ (Zm E YX8_isDigit d M (zargs 0 [vi (gi M 100 (((60 : Int32) * l1)).toNatClampNeg)]) 0 [] (zma E YX8_indexOf (d + 1) [(2, vi (gi M 101 (l1).toNatClampNeg)), (3, vi (gi M 100 (((60 : Int32) * l1)).toNatClampNeg)), (4, vi (gi M 100 ((((60 : Int32) * l1) + (1 : Int32))).toNatClampNeg))] 53 3 [] Q))) else (Zm E YX8_isDigit d M (zargs 0 [vi (gi M 100 (((60 : Int32) * l1)).toNatClampNeg)]) 0 [] (zma E YX8_indexOf (d + 1) [(2, vi (gi M 101 (l1).toNatClampNeg)), (3, vi (gi M 100 (((60 : Int32) * l1)).toNatClampNeg)), (4, vi (48 : Int32))] 53 3 [] Q)))) else (Q (.inl (some (vi (-1 : Int32)))) M)))) : Zm E YX8_indexOf (d + 1) M [(0, vr (some (97, 1, 0))), (1, vi l1)] 0 [] Q := by
  refine Zm.l (fun _ _ k_ => z_aload_n dX8_indexOf_0 rfl rfl k_) ?_
  refine zm_getr 3 dX8_indexOf_1 fsX8_20_1 rfl ?_
  refine Zm.l (fun _ _ k_ => z_iload_n dX8_indexOf_4 rfl rfl k_) ?_
  obtain ⟨b_, k⟩ := k
  refine zm_iald dX8_indexOf_5 b_ (by decide) (by decide) ?_
  refine Zm.l (fun _ _ k_ => z_ist_n dX8_indexOf_6 rfl (by decide) (lv' := [(0, vr (some (97, 1, 0))), (1, vi l1), (2, vi (gi M 101 (l1).toNatClampNeg))]) rfl k_) ?_
  refine Zm.l (fun _ _ k_ => z_iload_n dX8_indexOf_7 rfl rfl k_) ?_
  refine Zm.l (fun _ _ k_ => z_iconst (v := 1) dX8_indexOf_8 rfl k_) ?_
  refine Zm.br (fun _ _ k1_ k2_ => z_icmp_lt (tgt := 17) dX8_indexOf_9 rfl k1_ k2_) (fun h_ => ?_) (fun h_ => ?_)
  · have k := zit h_ k
    refine Zm.l (fun _ _ k_ => z_iconst (v := -1) dX8_indexOf_17 rfl k_) ?_
    exact zm_iret dX8_indexOf_18 rfl rfl k
  · have k := zif h_ k
    refine Zm.l (fun _ _ k_ => z_iload_n dX8_indexOf_12 rfl rfl k_) ?_
    refine Zm.l (fun _ _ k_ => z_iconst (v := 2) dX8_indexOf_13 rfl k_) ?_
    refine Zm.br (fun _ _ k1_ k2_ => z_icmp_le (tgt := 19) dX8_indexOf_14 rfl k1_ k2_) (fun h_ => ?_) (fun h_ => ?_)
    · have k := zit h_ k
      refine Zm.l (fun _ _ k_ => z_aload_n dX8_indexOf_19 rfl rfl k_) ?_
      refine zm_getr 2 dX8_indexOf_20 fsX8_16_1 rfl ?_
      refine Zm.l (fun _ _ k_ => z_bipush (v := 60) dX8_indexOf_23 rfl k_) ?_
      refine Zm.l (fun _ _ k_ => z_iload_n dX8_indexOf_25 rfl rfl k_) ?_
      refine Zm.l (fun _ _ k_ => z_imul dX8_indexOf_26 k_) ?_
      obtain ⟨b_, k⟩ := k
      refine zm_cald dX8_indexOf_27 b_ (by decide) (by decide) ?_
      refine Zm.l (fun _ _ k_ => z_ist_n dX8_indexOf_28 rfl (by decide) (lv' := [(0, vr (some (97, 1, 0))), (1, vi l1), (2, vi (gi M 101 (l1).toNatClampNeg)), (3, vi (gi M 100 (((60 : Int32) * l1)).toNatClampNeg))]) rfl k_) ?_
      refine Zm.l (fun _ _ k_ => z_iload_n dX8_indexOf_29 rfl rfl k_) ?_
      refine Zm.l (fun _ _ k_ => z_iconst (v := 2) dX8_indexOf_30 rfl k_) ?_
      refine Zm.brn (fun _ _ k1_ k2_ => z_icmp_ne (tgt := 48) dX8_indexOf_31 rfl k1_ k2_) (fun h_ => ?_) (fun h_ => ?_)
      · have k := zif h_ k
        refine Zm.l (fun _ _ k_ => z_bipush (v := 48) dX8_indexOf_48 rfl k_) ?_
        refine Zm.l (fun _ _ k_ => z_ist dX8_indexOf_50 (by decide) (lv' := [(0, vr (some (97, 1, 0))), (1, vi l1), (2, vi (gi M 101 (l1).toNatClampNeg)), (3, vi (gi M 100 (((60 : Int32) * l1)).toNatClampNeg)), (4, vi (48 : Int32))]) rfl k_) ?_
        refine Zm.l (fun _ _ k_ => z_iload_n dX8_indexOf_52 rfl rfl k_) ?_
        refine Zm.pick [2, 3, 4] rfl ?_
        exact zm_callS (as := [vi (gi M 100 (((60 : Int32) * l1)).toNatClampNeg)]) (st := []) dX8_indexOf_53 ssX8_341 (Nat.le_refl _) (Nat.le_of_ble_eq_true rfl) (Nat.le_of_ble_eq_true rfl) rfl k
      · have k := zit h_ k
        refine Zm.l (fun _ _ k_ => z_aload_n dX8_indexOf_34 rfl rfl k_) ?_
        refine zm_getr 2 dX8_indexOf_35 fsX8_16_1 rfl ?_
        refine Zm.l (fun _ _ k_ => z_bipush (v := 60) dX8_indexOf_38 rfl k_) ?_
        refine Zm.l (fun _ _ k_ => z_iload_n dX8_indexOf_40 rfl rfl k_) ?_
        refine Zm.l (fun _ _ k_ => z_imul dX8_indexOf_41 k_) ?_
        refine Zm.l (fun _ _ k_ => z_iconst (v := 1) dX8_indexOf_42 rfl k_) ?_
        refine Zm.l (fun _ _ k_ => z_iadd dX8_indexOf_43 k_) ?_
        obtain ⟨b_, k⟩ := k
        refine zm_cald dX8_indexOf_44 b_ (by decide) (by decide) ?_
        refine Zm.l (fun _ _ k_ => z_goto (tgt := 50) dX8_indexOf_45 rfl k_) ?_
        refine Zm.l (fun _ _ k_ => z_ist dX8_indexOf_50 (by decide) (lv' := [(0, vr (some (97, 1, 0))), (1, vi l1), (2, vi (gi M 101 (l1).toNatClampNeg)), (3, vi (gi M 100 (((60 : Int32) * l1)).toNatClampNeg)), (4, vi (gi M 100 ((((60 : Int32) * l1) + (1 : Int32))).toNatClampNeg))]) rfl k_) ?_
        refine Zm.l (fun _ _ k_ => z_iload_n dX8_indexOf_52 rfl rfl k_) ?_
        refine Zm.pick [2, 3, 4] rfl ?_
        exact zm_callS (as := [vi (gi M 100 (((60 : Int32) * l1)).toNatClampNeg)]) (st := []) dX8_indexOf_53 ssX8_341 (Nat.le_refl _) (Nat.le_of_ble_eq_true rfl) (Nat.le_of_ble_eq_true rfl) rfl k
    · have k := zif h_ k
      refine Zm.l (fun _ _ k_ => z_iconst (v := -1) dX8_indexOf_17 rfl k_) ?_
      exact zm_iret dX8_indexOf_18 rfl rfl k
theorem sX8_indexOf_56 {E : zE} {d : Nat} {Q : zO → zM → Prop} (M : zM) (l2 : Int32) (l3 : Int32) (l4 : Int32) (s0 : Int32) (k : if s0 = 0 then (Q (.inl (some (vi (-1 : Int32)))) M) else (Zm E YX8_isDigit d M (zargs 0 [vi l4]) 0 [] (zma E YX8_indexOf (d + 1) [(2, vi l2), (3, vi l3), (4, vi l4)] 61 3 [] Q))) : Zm E YX8_indexOf (d + 1) M [(2, vi l2), (3, vi l3), (4, vi l4)] 56 [vi s0] Q := by
  refine Zm.br (fun _ _ k1_ k2_ => z_if_eq (tgt := 78) dX8_indexOf_56 rfl k1_ k2_) (fun h_ => ?_) (fun h_ => ?_)
  · have k := zit h_ k
    refine Zm.l (fun _ _ k_ => z_iconst (v := -1) dX8_indexOf_78 rfl k_) ?_
    exact zm_iret dX8_indexOf_79 rfl rfl k
  · have k := zif h_ k
    refine Zm.l (fun _ _ k_ => z_iload dX8_indexOf_59 rfl k_) ?_
    exact zm_callS (as := [vi l4]) (st := []) dX8_indexOf_61 ssX8_341 (Nat.le_refl _) (Nat.le_of_ble_eq_true rfl) (Nat.le_of_ble_eq_true rfl) rfl k
theorem sX8_indexOf_64 {E : zE} {d : Nat} {Q : zO → zM → Prop} (M : zM) (l2 : Int32) (l3 : Int32) (l4 : Int32) (s0 : Int32) (k : if s0 = 0 then (Q (.inl (some (vi (-1 : Int32)))) M) else (if l2 = (2 : Int32) then (if l3 = (48 : Int32) then (Q (.inl (some (vi (-1 : Int32)))) M) else (Zm E YX8_indexOf (d + 1) M [(2, vi l2), (3, vi l3), (4, vi l4)] 80 [] Q)) else (Zm E YX8_indexOf (d + 1) M [(2, vi l2), (3, vi l3), (4, vi l4)] 80 [] Q))) : Zm E YX8_indexOf (d + 1) M [(2, vi l2), (3, vi l3), (4, vi l4)] 64 [vi s0] Q := by
  refine Zm.br (fun _ _ k1_ k2_ => z_if_eq (tgt := 78) dX8_indexOf_64 rfl k1_ k2_) (fun h_ => ?_) (fun h_ => ?_)
  · have k := zit h_ k
    refine Zm.l (fun _ _ k_ => z_iconst (v := -1) dX8_indexOf_78 rfl k_) ?_
    exact zm_iret dX8_indexOf_79 rfl rfl k
  · have k := zif h_ k
    refine Zm.l (fun _ _ k_ => z_iload_n dX8_indexOf_67 rfl rfl k_) ?_
    refine Zm.l (fun _ _ k_ => z_iconst (v := 2) dX8_indexOf_68 rfl k_) ?_
    refine Zm.brn (fun _ _ k1_ k2_ => z_icmp_ne (tgt := 80) dX8_indexOf_69 rfl k1_ k2_) (fun h_ => ?_) (fun h_ => ?_)
    · have k := zif h_ k
      exact k
    · have k := zit h_ k
      refine Zm.l (fun _ _ k_ => z_iload_n dX8_indexOf_72 rfl rfl k_) ?_
      refine Zm.l (fun _ _ k_ => z_bipush (v := 48) dX8_indexOf_73 rfl k_) ?_
      refine Zm.brn (fun _ _ k1_ k2_ => z_icmp_ne (tgt := 80) dX8_indexOf_75 rfl k1_ k2_) (fun h_ => ?_) (fun h_ => ?_)
      · have k := zif h_ k
        exact k
      · have k := zit h_ k
        refine Zm.l (fun _ _ k_ => z_iconst (v := -1) dX8_indexOf_78 rfl k_) ?_
        exact zm_iret dX8_indexOf_79 rfl rfl k
theorem sX8_indexOf_80 {E : zE} {d : Nat} {Q : zO → zM → Prop} (M : zM) (l2 : Int32) (l3 : Int32) (l4 : Int32) (k : if l2 = (1 : Int32) then (Q (.inl (some (vi (l3 - (48 : Int32))))) M) else (Q (.inl (some (vi ((((10 : Int32) * (l3 - (48 : Int32))) + l4) - (48 : Int32))))) M)) : Zm E YX8_indexOf (d + 1) M [(2, vi l2), (3, vi l3), (4, vi l4)] 80 [] Q := by
  refine Zm.l (fun _ _ k_ => z_iload_n dX8_indexOf_80 rfl rfl k_) ?_
  refine Zm.l (fun _ _ k_ => z_iconst (v := 1) dX8_indexOf_81 rfl k_) ?_
  refine Zm.brn (fun _ _ k1_ k2_ => z_icmp_ne (tgt := 92) dX8_indexOf_82 rfl k1_ k2_) (fun h_ => ?_) (fun h_ => ?_)
  · have k := zif h_ k
    refine Zm.l (fun _ _ k_ => z_bipush (v := 10) dX8_indexOf_92 rfl k_) ?_
    refine Zm.l (fun _ _ k_ => z_iload_n dX8_indexOf_94 rfl rfl k_) ?_
    refine Zm.l (fun _ _ k_ => z_bipush (v := 48) dX8_indexOf_95 rfl k_) ?_
    refine Zm.l (fun _ _ k_ => z_isub dX8_indexOf_97 k_) ?_
    refine Zm.l (fun _ _ k_ => z_imul dX8_indexOf_98 k_) ?_
    refine Zm.l (fun _ _ k_ => z_iload dX8_indexOf_99 rfl k_) ?_
    refine Zm.l (fun _ _ k_ => z_iadd dX8_indexOf_101 k_) ?_
    refine Zm.l (fun _ _ k_ => z_bipush (v := 48) dX8_indexOf_102 rfl k_) ?_
    refine Zm.l (fun _ _ k_ => z_isub dX8_indexOf_104 k_) ?_
    exact zm_iret dX8_indexOf_105 rfl rfl k
  · have k := zit h_ k
    refine Zm.l (fun _ _ k_ => z_iload_n dX8_indexOf_85 rfl rfl k_) ?_
    refine Zm.l (fun _ _ k_ => z_bipush (v := 48) dX8_indexOf_86 rfl k_) ?_
    refine Zm.l (fun _ _ k_ => z_isub dX8_indexOf_88 k_) ?_
    refine Zm.l (fun _ _ k_ => z_goto (tgt := 105) dX8_indexOf_89 rfl k_) ?_
    exact zm_iret dX8_indexOf_105 rfl rfl k
/-! ScriptTypesModel.lengthOf(I)I -/
theorem bX8_lengthOf_0 : zdec cX8_lengthOf 0 [(0, .aload_n 0, 1), (1, .getfield 161, 3), (4, .aload_n 0, 1), (5, .iload_n 1, 1), (6, .iconst 0, 1), (7, .invokevirtual 846, 3), (10, .iaload, 1), (11, .ireturn, 1)] = true := by decide +kernel
theorem dX8_lengthOf_0 : decode cX8_lengthOf 0 = .ok (.aload_n 0, 1) := zdec_at bX8_lengthOf_0 0 rfl
theorem dX8_lengthOf_1 : decode cX8_lengthOf 1 = .ok (.getfield 161, 3) := zdec_at bX8_lengthOf_0 1 rfl
theorem dX8_lengthOf_4 : decode cX8_lengthOf 4 = .ok (.aload_n 0, 1) := zdec_at bX8_lengthOf_0 2 rfl
theorem dX8_lengthOf_5 : decode cX8_lengthOf 5 = .ok (.iload_n 1, 1) := zdec_at bX8_lengthOf_0 3 rfl
theorem dX8_lengthOf_6 : decode cX8_lengthOf 6 = .ok (.iconst 0, 1) := zdec_at bX8_lengthOf_0 4 rfl
theorem dX8_lengthOf_7 : decode cX8_lengthOf 7 = .ok (.invokevirtual 846, 3) := zdec_at bX8_lengthOf_0 5 rfl
theorem dX8_lengthOf_10 : decode cX8_lengthOf 10 = .ok (.iaload, 1) := zdec_at bX8_lengthOf_0 6 rfl
theorem dX8_lengthOf_11 : decode cX8_lengthOf 11 = .ok (.ireturn, 1) := zdec_at bX8_lengthOf_0 7 rfl
theorem sX8_lengthOf_0 {E : zE} {d : Nat} {Q : zO → zM → Prop} (M : zM) (l1 : Int32) (k : Zm E YX8_findProperty d M (zargs 0 [vr (some (97, 1, 0)), vi l1, vi (0 : Int32)]) 0 [] (zma E YX8_lengthOf (d + 1) [] 7 3 [vr (some (147, 100, 3000))] Q)) : Zm E YX8_lengthOf (d + 1) M [(0, vr (some (97, 1, 0))), (1, vi l1)] 0 [] Q := by
  refine Zm.l (fun _ _ k_ => z_aload_n dX8_lengthOf_0 rfl rfl k_) ?_
  refine zm_getr 44 dX8_lengthOf_1 fsX8_161_1 rfl ?_
  refine Zm.l (fun _ _ k_ => z_aload_n dX8_lengthOf_4 rfl rfl k_) ?_
  refine Zm.l (fun _ _ k_ => z_iload_n dX8_lengthOf_5 rfl rfl k_) ?_
  refine Zm.l (fun _ _ k_ => z_iconst (v := 0) dX8_lengthOf_6 rfl k_) ?_
  refine Zm.pick [] rfl ?_
  exact zm_callV (as := [vi l1, vi (0 : Int32)]) (st := [vr (some (147, 100, 3000))]) dX8_lengthOf_7 vsX8_846_1 (Nat.le_refl _) (Nat.le_of_ble_eq_true rfl) (Nat.le_of_ble_eq_true rfl) rfl k
theorem sX8_lengthOf_10 {E : zE} {d : Nat} {Q : zO → zM → Prop} (M : zM) (s0 : Int32) (k : vp_in s0 3000 ∧ (Q (.inl (some (vi (gi M 147 (s0).toNatClampNeg)))) M)) : Zm E YX8_lengthOf (d + 1) M [] 10 [vi s0, vr (some (147, 100, 3000))] Q := by
  obtain ⟨b_, k⟩ := k
  refine zm_iald dX8_lengthOf_10 b_ (by decide) (by decide) ?_
  exact zm_iret dX8_lengthOf_11 rfl rfl k
/-! ScriptTypesModel.delete()V -/
theorem bX8_delete_0 : zdec cX8_delete 0 [(0, .aload_n 0, 1), (1, .iconst 1, 1), (2, .invokevirtual 910, 3), (5, .istore_n 1, 1), (6, .aload_n 0, 1), (7, .iconst 1, 1), (8, .invokevirtual 913, 3), (11, .istore_n 2, 1), (12, .aload_n 0, 1), (13, .aload_n 0, 1), (14, .iconst 0, 1), (15, .invokevirtual 910, 3), (18, .aload_n 0, 1), (19, .iconst 0, 1), (20, .invokevirtual 913, 3), (23, .invokevirtual 969, 3)] = true := by decide +kernel
theorem dX8_delete_0 : decode cX8_delete 0 = .ok (.aload_n 0, 1) := zdec_at bX8_delete_0 0 rfl
theorem dX8_delete_1 : decode cX8_delete 1 = .ok (.iconst 1, 1) := zdec_at bX8_delete_0 1 rfl
theorem dX8_delete_2 : decode cX8_delete 2 = .ok (.invokevirtual 910, 3) := zdec_at bX8_delete_0 2 rfl
theorem dX8_delete_5 : decode cX8_delete 5 = .ok (.istore_n 1, 1) := zdec_at bX8_delete_0 3 rfl
theorem dX8_delete_6 : decode cX8_delete 6 = .ok (.aload_n 0, 1) := zdec_at bX8_delete_0 4 rfl
theorem dX8_delete_7 : decode cX8_delete 7 = .ok (.iconst 1, 1) := zdec_at bX8_delete_0 5 rfl
theorem dX8_delete_8 : decode cX8_delete 8 = .ok (.invokevirtual 913, 3) := zdec_at bX8_delete_0 6 rfl
theorem dX8_delete_11 : decode cX8_delete 11 = .ok (.istore_n 2, 1) := zdec_at bX8_delete_0 7 rfl
theorem dX8_delete_12 : decode cX8_delete 12 = .ok (.aload_n 0, 1) := zdec_at bX8_delete_0 8 rfl
theorem dX8_delete_13 : decode cX8_delete 13 = .ok (.aload_n 0, 1) := zdec_at bX8_delete_0 9 rfl
theorem dX8_delete_14 : decode cX8_delete 14 = .ok (.iconst 0, 1) := zdec_at bX8_delete_0 10 rfl
theorem dX8_delete_15 : decode cX8_delete 15 = .ok (.invokevirtual 910, 3) := zdec_at bX8_delete_0 11 rfl
theorem dX8_delete_18 : decode cX8_delete 18 = .ok (.aload_n 0, 1) := zdec_at bX8_delete_0 12 rfl
theorem dX8_delete_19 : decode cX8_delete 19 = .ok (.iconst 0, 1) := zdec_at bX8_delete_0 13 rfl
theorem dX8_delete_20 : decode cX8_delete 20 = .ok (.invokevirtual 913, 3) := zdec_at bX8_delete_0 14 rfl
theorem dX8_delete_23 : decode cX8_delete 23 = .ok (.invokevirtual 969, 3) := zdec_at bX8_delete_0 15 rfl
theorem bX8_delete_26 : zdec cX8_delete 26 [(26, .istore_n 3, 1), (27, .aload_n 0, 1), (28, .getfield 794, 3), (31, .ifCond .eq 4, 3), (34, .return_, 1), (35, .iload_n 1, 1), (36, .iconst 1, 1), (37, .if_icmp .gt 10, 3), (40, .aload_n 0, 1), (41, .bipush 6, 2), (43, .invokevirtual 966, 3), (46, .return_, 1), (47, .iload_n 1, 1), (48, .bipush 7, 2), (50, .if_icmp .ne 21, 3), (53, .aload_n 0, 1)] = true := by decide +kernel
theorem dX8_delete_26 : decode cX8_delete 26 = .ok (.istore_n 3, 1) := zdec_at bX8_delete_26 0 rfl
theorem dX8_delete_27 : decode cX8_delete 27 = .ok (.aload_n 0, 1) := zdec_at bX8_delete_26 1 rfl
theorem dX8_delete_28 : decode cX8_delete 28 = .ok (.getfield 794, 3) := zdec_at bX8_delete_26 2 rfl
theorem dX8_delete_31 : decode cX8_delete 31 = .ok (.ifCond .eq 4, 3) := zdec_at bX8_delete_26 3 rfl
theorem dX8_delete_34 : decode cX8_delete 34 = .ok (.return_, 1) := zdec_at bX8_delete_26 4 rfl
theorem dX8_delete_35 : decode cX8_delete 35 = .ok (.iload_n 1, 1) := zdec_at bX8_delete_26 5 rfl
theorem dX8_delete_36 : decode cX8_delete 36 = .ok (.iconst 1, 1) := zdec_at bX8_delete_26 6 rfl
theorem dX8_delete_37 : decode cX8_delete 37 = .ok (.if_icmp .gt 10, 3) := zdec_at bX8_delete_26 7 rfl
theorem dX8_delete_40 : decode cX8_delete 40 = .ok (.aload_n 0, 1) := zdec_at bX8_delete_26 8 rfl
theorem dX8_delete_41 : decode cX8_delete 41 = .ok (.bipush 6, 2) := zdec_at bX8_delete_26 9 rfl
theorem dX8_delete_43 : decode cX8_delete 43 = .ok (.invokevirtual 966, 3) := zdec_at bX8_delete_26 10 rfl
theorem dX8_delete_46 : decode cX8_delete 46 = .ok (.return_, 1) := zdec_at bX8_delete_26 11 rfl
theorem dX8_delete_47 : decode cX8_delete 47 = .ok (.iload_n 1, 1) := zdec_at bX8_delete_26 12 rfl
theorem dX8_delete_48 : decode cX8_delete 48 = .ok (.bipush 7, 2) := zdec_at bX8_delete_26 13 rfl
theorem dX8_delete_50 : decode cX8_delete 50 = .ok (.if_icmp .ne 21, 3) := zdec_at bX8_delete_26 14 rfl
theorem dX8_delete_53 : decode cX8_delete 53 = .ok (.aload_n 0, 1) := zdec_at bX8_delete_26 15 rfl
theorem bX8_delete_54 : zdec cX8_delete 54 [(54, .getfield 143, 3), (57, .iload_n 2, 1), (58, .iaload, 1), (59, .iconst 2, 1), (60, .if_icmp .ne 11, 3), (63, .iload_n 3, 1), (64, .ifCond .ne 7, 3), (67, .iconst 1, 1), (68, .goto 4, 3), (71, .iconst 0, 1), (72, .istore 4, 2), (74, .iload_n 1, 1), (75, .bipush 7, 2), (77, .if_icmp .ne 14, 3), (80, .iload 4, 2), (82, .ifCond .ne 9, 3)] = true := by decide +kernel
theorem dX8_delete_54 : decode cX8_delete 54 = .ok (.getfield 143, 3) := zdec_at bX8_delete_54 0 rfl
theorem dX8_delete_57 : decode cX8_delete 57 = .ok (.iload_n 2, 1) := zdec_at bX8_delete_54 1 rfl
theorem dX8_delete_58 : decode cX8_delete 58 = .ok (.iaload, 1) := zdec_at bX8_delete_54 2 rfl
theorem dX8_delete_59 : decode cX8_delete 59 = .ok (.iconst 2, 1) := zdec_at bX8_delete_54 3 rfl
theorem dX8_delete_60 : decode cX8_delete 60 = .ok (.if_icmp .ne 11, 3) := zdec_at bX8_delete_54 4 rfl
theorem dX8_delete_63 : decode cX8_delete 63 = .ok (.iload_n 3, 1) := zdec_at bX8_delete_54 5 rfl
theorem dX8_delete_64 : decode cX8_delete 64 = .ok (.ifCond .ne 7, 3) := zdec_at bX8_delete_54 6 rfl
theorem dX8_delete_67 : decode cX8_delete 67 = .ok (.iconst 1, 1) := zdec_at bX8_delete_54 7 rfl
theorem dX8_delete_68 : decode cX8_delete 68 = .ok (.goto 4, 3) := zdec_at bX8_delete_54 8 rfl
theorem dX8_delete_71 : decode cX8_delete 71 = .ok (.iconst 0, 1) := zdec_at bX8_delete_54 9 rfl
theorem dX8_delete_72 : decode cX8_delete 72 = .ok (.istore 4, 2) := zdec_at bX8_delete_54 10 rfl
theorem dX8_delete_74 : decode cX8_delete 74 = .ok (.iload_n 1, 1) := zdec_at bX8_delete_54 11 rfl
theorem dX8_delete_75 : decode cX8_delete 75 = .ok (.bipush 7, 2) := zdec_at bX8_delete_54 12 rfl
theorem dX8_delete_77 : decode cX8_delete 77 = .ok (.if_icmp .ne 14, 3) := zdec_at bX8_delete_54 13 rfl
theorem dX8_delete_80 : decode cX8_delete 80 = .ok (.iload 4, 2) := zdec_at bX8_delete_54 14 rfl
theorem dX8_delete_82 : decode cX8_delete 82 = .ok (.ifCond .ne 9, 3) := zdec_at bX8_delete_54 15 rfl
theorem bX8_delete_85 : zdec cX8_delete 85 [(85, .aload_n 0, 1), (86, .iload_n 2, 1), (87, .iload_n 3, 1), (88, .invokevirtual 981, 3), (91, .aload_n 0, 1), (92, .iload 4, 2), (94, .ifCond .ne 7, 3), (97, .iconst 1, 1), (98, .goto 4, 3), (101, .iconst 0, 1), (102, .invokevirtual 827, 3), (105, .aload_n 0, 1), (106, .iconst 2, 1), (107, .invokevirtual 904, 3), (110, .return_, 1)] = true := by decide +kernel
theorem dX8_delete_85 : decode cX8_delete 85 = .ok (.aload_n 0, 1) := zdec_at bX8_delete_85 0 rfl
theorem dX8_delete_86 : decode cX8_delete 86 = .ok (.iload_n 2, 1) := zdec_at bX8_delete_85 1 rfl
theorem dX8_delete_87 : decode cX8_delete 87 = .ok (.iload_n 3, 1) := zdec_at bX8_delete_85 2 rfl
theorem dX8_delete_88 : decode cX8_delete 88 = .ok (.invokevirtual 981, 3) := zdec_at bX8_delete_85 3 rfl
theorem dX8_delete_91 : decode cX8_delete 91 = .ok (.aload_n 0, 1) := zdec_at bX8_delete_85 4 rfl
theorem dX8_delete_92 : decode cX8_delete 92 = .ok (.iload 4, 2) := zdec_at bX8_delete_85 5 rfl
theorem dX8_delete_94 : decode cX8_delete 94 = .ok (.ifCond .ne 7, 3) := zdec_at bX8_delete_85 6 rfl
theorem dX8_delete_97 : decode cX8_delete 97 = .ok (.iconst 1, 1) := zdec_at bX8_delete_85 7 rfl
theorem dX8_delete_98 : decode cX8_delete 98 = .ok (.goto 4, 3) := zdec_at bX8_delete_85 8 rfl
theorem dX8_delete_101 : decode cX8_delete 101 = .ok (.iconst 0, 1) := zdec_at bX8_delete_85 9 rfl
theorem dX8_delete_102 : decode cX8_delete 102 = .ok (.invokevirtual 827, 3) := zdec_at bX8_delete_85 10 rfl
theorem dX8_delete_105 : decode cX8_delete 105 = .ok (.aload_n 0, 1) := zdec_at bX8_delete_85 11 rfl
theorem dX8_delete_106 : decode cX8_delete 106 = .ok (.iconst 2, 1) := zdec_at bX8_delete_85 12 rfl
theorem dX8_delete_107 : decode cX8_delete 107 = .ok (.invokevirtual 904, 3) := zdec_at bX8_delete_85 13 rfl
theorem dX8_delete_110 : decode cX8_delete 110 = .ok (.return_, 1) := zdec_at bX8_delete_85 14 rfl
theorem sX8_delete_0 {E : zE} {d : Nat} {Q : zO → zM → Prop} (M : zM)  (k : Zm E YX8_sortAt d M (zargs 0 [vr (some (97, 1, 0)), vi (1 : Int32)]) 0 [] (zma E YX8_delete (d + 1) [(0, vr (some (97, 1, 0)))] 2 3 [] Q)) : Zm E YX8_delete (d + 1) M [(0, vr (some (97, 1, 0)))] 0 [] Q := by
  refine Zm.l (fun _ _ k_ => z_aload_n dX8_delete_0 rfl rfl k_) ?_
  refine Zm.l (fun _ _ k_ => z_iconst (v := 1) dX8_delete_1 rfl k_) ?_
  exact zm_callV (as := [vi (1 : Int32)]) (st := []) dX8_delete_2 vsX8_910_1 (Nat.le_refl _) (Nat.le_of_ble_eq_true rfl) (Nat.le_of_ble_eq_true rfl) rfl k
theorem sX8_delete_5 {E : zE} {d : Nat} {Q : zO → zM → Prop} (M : zM) (s0 : Int32) (k : Zm E YX8_valueAt d M (zargs 0 [vr (some (97, 1, 0)), vi (1 : Int32)]) 0 [] (zma E YX8_delete (d + 1) [(0, vr (some (97, 1, 0))), (1, vi s0)] 8 3 [] Q)) : Zm E YX8_delete (d + 1) M [(0, vr (some (97, 1, 0)))] 5 [vi s0] Q := by
  refine Zm.l (fun _ _ k_ => z_ist_n dX8_delete_5 rfl (by decide) (lv' := [(0, vr (some (97, 1, 0))), (1, vi s0)]) rfl k_) ?_
  refine Zm.l (fun _ _ k_ => z_aload_n dX8_delete_6 rfl rfl k_) ?_
  refine Zm.l (fun _ _ k_ => z_iconst (v := 1) dX8_delete_7 rfl k_) ?_
  exact zm_callV (as := [vi (1 : Int32)]) (st := []) dX8_delete_8 vsX8_913_1 (Nat.le_refl _) (Nat.le_of_ble_eq_true rfl) (Nat.le_of_ble_eq_true rfl) rfl k
theorem sX8_delete_11 {E : zE} {d : Nat} {Q : zO → zM → Prop} (M : zM) (l1 : Int32) (s0 : Int32) (k : Zm E YX8_sortAt d M (zargs 0 [vr (some (97, 1, 0)), vi (0 : Int32)]) 0 [] (zma E YX8_delete (d + 1) [(0, vr (some (97, 1, 0))), (1, vi l1), (2, vi s0)] 15 3 [vr (some (97, 1, 0))] Q)) : Zm E YX8_delete (d + 1) M [(0, vr (some (97, 1, 0))), (1, vi l1)] 11 [vi s0] Q := by
  refine Zm.l (fun _ _ k_ => z_ist_n dX8_delete_11 rfl (by decide) (lv' := [(0, vr (some (97, 1, 0))), (1, vi l1), (2, vi s0)]) rfl k_) ?_
  refine Zm.l (fun _ _ k_ => z_aload_n dX8_delete_12 rfl rfl k_) ?_
  refine Zm.l (fun _ _ k_ => z_aload_n dX8_delete_13 rfl rfl k_) ?_
  refine Zm.l (fun _ _ k_ => z_iconst (v := 0) dX8_delete_14 rfl k_) ?_
  exact zm_callV (as := [vi (0 : Int32)]) (st := [vr (some (97, 1, 0))]) dX8_delete_15 vsX8_910_1 (Nat.le_refl _) (Nat.le_of_ble_eq_true rfl) (Nat.le_of_ble_eq_true rfl) rfl k
theorem sX8_delete_18 {E : zE} {d : Nat} {Q : zO → zM → Prop} (M : zM) (l1 : Int32) (l2 : Int32) (s0 : Int32) (k : Zm E YX8_valueAt d M (zargs 0 [vr (some (97, 1, 0)), vi (0 : Int32)]) 0 [] (zma E YX8_delete (d + 1) [(0, vr (some (97, 1, 0))), (1, vi l1), (2, vi l2)] 20 3 [vi s0, vr (some (97, 1, 0))] Q)) : Zm E YX8_delete (d + 1) M [(0, vr (some (97, 1, 0))), (1, vi l1), (2, vi l2)] 18 [vi s0, vr (some (97, 1, 0))] Q := by
  refine Zm.l (fun _ _ k_ => z_aload_n dX8_delete_18 rfl rfl k_) ?_
  refine Zm.l (fun _ _ k_ => z_iconst (v := 0) dX8_delete_19 rfl k_) ?_
  exact zm_callV (as := [vi (0 : Int32)]) (st := [vi s0, vr (some (97, 1, 0))]) dX8_delete_20 vsX8_913_1 (Nat.le_refl _) (Nat.le_of_ble_eq_true rfl) (Nat.le_of_ble_eq_true rfl) rfl k
theorem sX8_delete_23 {E : zE} {d : Nat} {Q : zO → zM → Prop} (M : zM) (l1 : Int32) (l2 : Int32) (s0 : Int32) (s1 : Int32) (k : Zm E YX8_textOf d M (zargs 0 [vr (some (97, 1, 0)), vi s1, vi s0]) 0 [] (zma E YX8_delete (d + 1) [(0, vr (some (97, 1, 0))), (1, vi l1), (2, vi l2)] 23 3 [] Q)) : Zm E YX8_delete (d + 1) M [(0, vr (some (97, 1, 0))), (1, vi l1), (2, vi l2)] 23 [vi s0, vi s1, vr (some (97, 1, 0))] Q := by
  exact zm_callV (as := [vi s1, vi s0]) (st := []) dX8_delete_23 vsX8_969_1 (Nat.le_refl _) (Nat.le_of_ble_eq_true rfl) (Nat.le_of_ble_eq_true rfl) rfl k
theorem sX8_delete_26 {E : zE} {d : Nat} {Q : zO → zM → Prop} (M : zM) (l1 : Int32) (l2 : Int32) (s0 : Int32) (k : if (gi M 97 75) = 0 then (if (1 : Int32) < l1 then (if l1 = (7 : Int32) then (vp_in l2 300 ∧ (if (gi M 141 (l2).toNatClampNeg) = (2 : Int32) then (if s0 = 0 then (Zm E YX8_delete (d + 1) M [(0, vr (some (97, 1, 0))), (1, vi l1), (2, vi l2), (3, vi s0)] 72 [vi (1 : Int32)] Q) else (Zm E YX8_delete (d + 1) M [(0, vr (some (97, 1, 0))), (1, vi l1), (2, vi l2), (3, vi s0)] 72 [vi (0 : Int32)] Q)) else (Zm E YX8_delete (d + 1) M [(0, vr (some (97, 1, 0))), (1, vi l1), (2, vi l2), (3, vi s0)] 72 [vi (0 : Int32)] Q))) else (Zm E YX8_delete (d + 1) M [(0, vr (some (97, 1, 0))), (1, vi l1), (2, vi l2), (3, vi s0)] 72 [vi (0 : Int32)] Q)) else (Zm E YX8_error d M (zargs 0 [vr (some (97, 1, 0)), vi (6 : Int32)]) 0 [] (zma E YX8_delete (d + 1) [] 43 3 [] Q))) else (Q (.inl none) M)) : Zm E YX8_delete (d + 1) M [(0, vr (some (97, 1, 0))), (1, vi l1), (2, vi l2)] 26 [vi s0] Q := by
  refine Zm.l (fun _ _ k_ => z_ist_n dX8_delete_26 rfl (by decide) (lv' := [(0, vr (some (97, 1, 0))), (1, vi l1), (2, vi l2), (3, vi s0)]) rfl k_) ?_
  refine Zm.l (fun _ _ k_ => z_aload_n dX8_delete_27 rfl rfl k_) ?_
  refine zm_geti dX8_delete_28 fsX8_794_1 (by decide) (by decide) ?_
  refine Zm.br (fun _ _ k1_ k2_ => z_if_eq (tgt := 35) dX8_delete_31 rfl k1_ k2_) (fun h_ => ?_) (fun h_ => ?_)
  · have k := zit h_ k
    refine Zm.l (fun _ _ k_ => z_iload_n dX8_delete_35 rfl rfl k_) ?_
    refine Zm.l (fun _ _ k_ => z_iconst (v := 1) dX8_delete_36 rfl k_) ?_
    refine Zm.br (fun _ _ k1_ k2_ => z_icmp_gt (tgt := 47) dX8_delete_37 rfl k1_ k2_) (fun h_ => ?_) (fun h_ => ?_)
    · have k := zit h_ k
      refine Zm.l (fun _ _ k_ => z_iload_n dX8_delete_47 rfl rfl k_) ?_
      refine Zm.l (fun _ _ k_ => z_bipush (v := 7) dX8_delete_48 rfl k_) ?_
      refine Zm.brn (fun _ _ k1_ k2_ => z_icmp_ne (tgt := 71) dX8_delete_50 rfl k1_ k2_) (fun h_ => ?_) (fun h_ => ?_)
      · have k := zif h_ k
        refine Zm.l (fun _ _ k_ => z_iconst (v := 0) dX8_delete_71 rfl k_) ?_
        exact k
      · have k := zit h_ k
        refine Zm.l (fun _ _ k_ => z_aload_n dX8_delete_53 rfl rfl k_) ?_
        refine zm_getr 38 dX8_delete_54 fsX8_143_1 rfl ?_
        refine Zm.l (fun _ _ k_ => z_iload_n dX8_delete_57 rfl rfl k_) ?_
        obtain ⟨b_, k⟩ := k
        refine zm_iald dX8_delete_58 b_ (by decide) (by decide) ?_
        refine Zm.l (fun _ _ k_ => z_iconst (v := 2) dX8_delete_59 rfl k_) ?_
        refine Zm.brn (fun _ _ k1_ k2_ => z_icmp_ne (tgt := 71) dX8_delete_60 rfl k1_ k2_) (fun h_ => ?_) (fun h_ => ?_)
        · have k := zif h_ k
          refine Zm.l (fun _ _ k_ => z_iconst (v := 0) dX8_delete_71 rfl k_) ?_
          exact k
        · have k := zit h_ k
          refine Zm.l (fun _ _ k_ => z_iload_n dX8_delete_63 rfl rfl k_) ?_
          refine Zm.brn (fun _ _ k1_ k2_ => z_if_ne (tgt := 71) dX8_delete_64 rfl k1_ k2_) (fun h_ => ?_) (fun h_ => ?_)
          · have k := zif h_ k
            refine Zm.l (fun _ _ k_ => z_iconst (v := 0) dX8_delete_71 rfl k_) ?_
            exact k
          · have k := zit h_ k
            refine Zm.l (fun _ _ k_ => z_iconst (v := 1) dX8_delete_67 rfl k_) ?_
            refine Zm.l (fun _ _ k_ => z_goto (tgt := 72) dX8_delete_68 rfl k_) ?_
            exact k
    · have k := zif h_ k
      refine Zm.l (fun _ _ k_ => z_aload_n dX8_delete_40 rfl rfl k_) ?_
      refine Zm.l (fun _ _ k_ => z_bipush (v := 6) dX8_delete_41 rfl k_) ?_
      refine Zm.pick [] rfl ?_
      exact zm_callV (as := [vi (6 : Int32)]) (st := []) dX8_delete_43 vsX8_966_1 (Nat.le_refl _) (Nat.le_of_ble_eq_true rfl) (Nat.le_of_ble_eq_true rfl) rfl k
  · have k := zif h_ k
    exact zm_vret dX8_delete_34 rfl k
theorem sX8_delete_46 {E : zE} {d : Nat} {Q : zO → zM → Prop} (M : zM)  (k : Q (.inl none) M) : Zm E YX8_delete (d + 1) M [] 46 [] Q := by
  exact zm_vret dX8_delete_46 rfl k
theorem sX8_delete_72 {E : zE} {d : Nat} {Q : zO → zM → Prop} (M : zM) (l1 : Int32) (l2 : Int32) (l3 : Int32) (s0 : Int32) (k : if l1 = (7 : Int32) then (if s0 = 0 then (Zm E YX8_remove d M (zargs 0 [vr (some (97, 1, 0)), vi l2, vi l3]) 0 [] (zma E YX8_delete (d + 1) [(0, vr (some (97, 1, 0))), (4, vi s0)] 88 3 [] Q)) else (Zm E YX8_delete (d + 1) M [(0, vr (some (97, 1, 0))), (4, vi s0)] 91 [] Q)) else (Zm E YX8_delete (d + 1) M [(0, vr (some (97, 1, 0))), (4, vi s0)] 91 [] Q)) : Zm E YX8_delete (d + 1) M [(0, vr (some (97, 1, 0))), (1, vi l1), (2, vi l2), (3, vi l3)] 72 [vi s0] Q := by
  refine Zm.l (fun _ _ k_ => z_ist dX8_delete_72 (by decide) (lv' := [(0, vr (some (97, 1, 0))), (1, vi l1), (2, vi l2), (3, vi l3), (4, vi s0)]) rfl k_) ?_
  refine Zm.l (fun _ _ k_ => z_iload_n dX8_delete_74 rfl rfl k_) ?_
  refine Zm.l (fun _ _ k_ => z_bipush (v := 7) dX8_delete_75 rfl k_) ?_
  refine Zm.brn (fun _ _ k1_ k2_ => z_icmp_ne (tgt := 91) dX8_delete_77 rfl k1_ k2_) (fun h_ => ?_) (fun h_ => ?_)
  · have k := zif h_ k
    refine Zm.pick [0, 4] rfl ?_
    exact k
  · have k := zit h_ k
    refine Zm.l (fun _ _ k_ => z_iload dX8_delete_80 rfl k_) ?_
    refine Zm.brn (fun _ _ k1_ k2_ => z_if_ne (tgt := 91) dX8_delete_82 rfl k1_ k2_) (fun h_ => ?_) (fun h_ => ?_)
    · have k := zif h_ k
      refine Zm.pick [0, 4] rfl ?_
      exact k
    · have k := zit h_ k
      refine Zm.l (fun _ _ k_ => z_aload_n dX8_delete_85 rfl rfl k_) ?_
      refine Zm.l (fun _ _ k_ => z_iload_n dX8_delete_86 rfl rfl k_) ?_
      refine Zm.l (fun _ _ k_ => z_iload_n dX8_delete_87 rfl rfl k_) ?_
      refine Zm.pick [0, 4] rfl ?_
      exact zm_callV (as := [vi l2, vi l3]) (st := []) dX8_delete_88 vsX8_981_1 (Nat.le_refl _) (Nat.le_of_ble_eq_true rfl) (Nat.le_of_ble_eq_true rfl) rfl k
theorem sX8_delete_91 {E : zE} {d : Nat} {Q : zO → zM → Prop} (M : zM) (l4 : Int32) (k : if l4 = 0 then (Zm E YX8_truth d M (zargs 0 [vr (some (97, 1, 0)), vi (1 : Int32)]) 0 [] (zma E YX8_delete (d + 1) [(0, vr (some (97, 1, 0)))] 102 3 [] Q)) else (Zm E YX8_truth d M (zargs 0 [vr (some (97, 1, 0)), vi (0 : Int32)]) 0 [] (zma E YX8_delete (d + 1) [(0, vr (some (97, 1, 0)))] 102 3 [] Q))) : Zm E YX8_delete (d + 1) M [(0, vr (some (97, 1, 0))), (4, vi l4)] 91 [] Q := by
  refine Zm.l (fun _ _ k_ => z_aload_n dX8_delete_91 rfl rfl k_) ?_
  refine Zm.l (fun _ _ k_ => z_iload dX8_delete_92 rfl k_) ?_
  refine Zm.brn (fun _ _ k1_ k2_ => z_if_ne (tgt := 101) dX8_delete_94 rfl k1_ k2_) (fun h_ => ?_) (fun h_ => ?_)
  · have k := zif h_ k
    refine Zm.l (fun _ _ k_ => z_iconst (v := 0) dX8_delete_101 rfl k_) ?_
    refine Zm.pick [0] rfl ?_
    exact zm_callV (as := [vi (0 : Int32)]) (st := []) dX8_delete_102 vsX8_827_1 (Nat.le_refl _) (Nat.le_of_ble_eq_true rfl) (Nat.le_of_ble_eq_true rfl) rfl k
  · have k := zit h_ k
    refine Zm.l (fun _ _ k_ => z_iconst (v := 1) dX8_delete_97 rfl k_) ?_
    refine Zm.l (fun _ _ k_ => z_goto (tgt := 102) dX8_delete_98 rfl k_) ?_
    refine Zm.pick [0] rfl ?_
    exact zm_callV (as := [vi (1 : Int32)]) (st := []) dX8_delete_102 vsX8_827_1 (Nat.le_refl _) (Nat.le_of_ble_eq_true rfl) (Nat.le_of_ble_eq_true rfl) rfl k
theorem sX8_delete_105 {E : zE} {d : Nat} {Q : zO → zM → Prop} (M : zM)  (k : Zm E YX8_gives d M (zargs 0 [vr (some (97, 1, 0)), vi (2 : Int32)]) 0 [] (zma E YX8_delete (d + 1) [] 107 3 [] Q)) : Zm E YX8_delete (d + 1) M [(0, vr (some (97, 1, 0)))] 105 [] Q := by
  refine Zm.l (fun _ _ k_ => z_aload_n dX8_delete_105 rfl rfl k_) ?_
  refine Zm.l (fun _ _ k_ => z_iconst (v := 2) dX8_delete_106 rfl k_) ?_
  refine Zm.pick [] rfl ?_
  exact zm_callV (as := [vi (2 : Int32)]) (st := []) dX8_delete_107 vsX8_904_1 (Nat.le_refl _) (Nat.le_of_ble_eq_true rfl) (Nat.le_of_ble_eq_true rfl) rfl k
theorem sX8_delete_110 {E : zE} {d : Nat} {Q : zO → zM → Prop} (M : zM)  (k : Q (.inl none) M) : Zm E YX8_delete (d + 1) M [] 110 [] Q := by
  exact zm_vret dX8_delete_110 rfl k
/-! ScriptTypesModel.remove(II)V -/
theorem bX8_remove_0 : zdec cX8_remove 0 [(0, .aload_n 0, 1), (1, .iload_n 1, 1), (2, .iload_n 2, 1), (3, .invokevirtual 846, 3), (6, .istore_n 3, 1), (7, .iload_n 3, 1), (8, .iconst (-1), 1), (9, .if_icmp .ne 4, 3), (12, .return_, 1), (13, .iconst (-1), 1), (14, .istore 4, 2), (16, .aload_n 0, 1), (17, .getfield 149, 3), (20, .iload_n 1, 1), (21, .iaload, 1), (22, .istore 5, 2)] = true := by decide +kernel
theorem dX8_remove_0 : decode cX8_remove 0 = .ok (.aload_n 0, 1) := zdec_at bX8_remove_0 0 rfl
theorem dX8_remove_1 : decode cX8_remove 1 = .ok (.iload_n 1, 1) := zdec_at bX8_remove_0 1 rfl
theorem dX8_remove_2 : decode cX8_remove 2 = .ok (.iload_n 2, 1) := zdec_at bX8_remove_0 2 rfl
theorem dX8_remove_3 : decode cX8_remove 3 = .ok (.invokevirtual 846, 3) := zdec_at bX8_remove_0 3 rfl
theorem dX8_remove_6 : decode cX8_remove 6 = .ok (.istore_n 3, 1) := zdec_at bX8_remove_0 4 rfl
theorem dX8_remove_7 : decode cX8_remove 7 = .ok (.iload_n 3, 1) := zdec_at bX8_remove_0 5 rfl
theorem dX8_remove_8 : decode cX8_remove 8 = .ok (.iconst (-1), 1) := zdec_at bX8_remove_0 6 rfl
theorem dX8_remove_9 : decode cX8_remove 9 = .ok (.if_icmp .ne 4, 3) := zdec_at bX8_remove_0 7 rfl
theorem dX8_remove_12 : decode cX8_remove 12 = .ok (.return_, 1) := zdec_at bX8_remove_0 8 rfl
theorem dX8_remove_13 : decode cX8_remove 13 = .ok (.iconst (-1), 1) := zdec_at bX8_remove_0 9 rfl
theorem dX8_remove_14 : decode cX8_remove 14 = .ok (.istore 4, 2) := zdec_at bX8_remove_0 10 rfl
theorem dX8_remove_16 : decode cX8_remove 16 = .ok (.aload_n 0, 1) := zdec_at bX8_remove_0 11 rfl
theorem dX8_remove_17 : decode cX8_remove 17 = .ok (.getfield 149, 3) := zdec_at bX8_remove_0 12 rfl
theorem dX8_remove_20 : decode cX8_remove 20 = .ok (.iload_n 1, 1) := zdec_at bX8_remove_0 13 rfl
theorem dX8_remove_21 : decode cX8_remove 21 = .ok (.iaload, 1) := zdec_at bX8_remove_0 14 rfl
theorem dX8_remove_22 : decode cX8_remove 22 = .ok (.istore 5, 2) := zdec_at bX8_remove_0 15 rfl
theorem bX8_remove_24 : zdec cX8_remove 24 [(24, .iload 5, 2), (26, .iload_n 3, 1), (27, .if_icmp .eq 19, 3), (30, .iload 5, 2), (32, .istore 4, 2), (34, .aload_n 0, 1), (35, .getfield 167, 3), (38, .iload 5, 2), (40, .iaload, 1), (41, .istore 5, 2), (43, .goto (-19), 3), (46, .iload 4, 2), (48, .iconst (-1), 1), (49, .if_icmp .ne 18, 3), (52, .aload_n 0, 1), (53, .getfield 149, 3)] = true := by decide +kernel
theorem dX8_remove_24 : decode cX8_remove 24 = .ok (.iload 5, 2) := zdec_at bX8_remove_24 0 rfl
theorem dX8_remove_26 : decode cX8_remove 26 = .ok (.iload_n 3, 1) := zdec_at bX8_remove_24 1 rfl
theorem dX8_remove_27 : decode cX8_remove 27 = .ok (.if_icmp .eq 19, 3) := zdec_at bX8_remove_24 2 rfl
theorem dX8_remove_30 : decode cX8_remove 30 = .ok (.iload 5, 2) := zdec_at bX8_remove_24 3 rfl
theorem dX8_remove_32 : decode cX8_remove 32 = .ok (.istore 4, 2) := zdec_at bX8_remove_24 4 rfl
theorem dX8_remove_34 : decode cX8_remove 34 = .ok (.aload_n 0, 1) := zdec_at bX8_remove_24 5 rfl
theorem dX8_remove_35 : decode cX8_remove 35 = .ok (.getfield 167, 3) := zdec_at bX8_remove_24 6 rfl
theorem dX8_remove_38 : decode cX8_remove 38 = .ok (.iload 5, 2) := zdec_at bX8_remove_24 7 rfl
theorem dX8_remove_40 : decode cX8_remove 40 = .ok (.iaload, 1) := zdec_at bX8_remove_24 8 rfl
theorem dX8_remove_41 : decode cX8_remove 41 = .ok (.istore 5, 2) := zdec_at bX8_remove_24 9 rfl
theorem dX8_remove_43 : decode cX8_remove 43 = .ok (.goto (-19), 3) := zdec_at bX8_remove_24 10 rfl
theorem dX8_remove_46 : decode cX8_remove 46 = .ok (.iload 4, 2) := zdec_at bX8_remove_24 11 rfl
theorem dX8_remove_48 : decode cX8_remove 48 = .ok (.iconst (-1), 1) := zdec_at bX8_remove_24 12 rfl
theorem dX8_remove_49 : decode cX8_remove 49 = .ok (.if_icmp .ne 18, 3) := zdec_at bX8_remove_24 13 rfl
theorem dX8_remove_52 : decode cX8_remove 52 = .ok (.aload_n 0, 1) := zdec_at bX8_remove_24 14 rfl
theorem dX8_remove_53 : decode cX8_remove 53 = .ok (.getfield 149, 3) := zdec_at bX8_remove_24 15 rfl
theorem bX8_remove_56 : zdec cX8_remove 56 [(56, .iload_n 1, 1), (57, .aload_n 0, 1), (58, .getfield 167, 3), (61, .iload_n 3, 1), (62, .iaload, 1), (63, .iastore, 1), (64, .goto 16, 3), (67, .aload_n 0, 1), (68, .getfield 167, 3), (71, .iload 4, 2), (73, .aload_n 0, 1), (74, .getfield 167, 3), (77, .iload_n 3, 1), (78, .iaload, 1), (79, .iastore, 1), (80, .aload_n 0, 1)] = true := by decide +kernel
theorem dX8_remove_56 : decode cX8_remove 56 = .ok (.iload_n 1, 1) := zdec_at bX8_remove_56 0 rfl
theorem dX8_remove_57 : decode cX8_remove 57 = .ok (.aload_n 0, 1) := zdec_at bX8_remove_56 1 rfl
theorem dX8_remove_58 : decode cX8_remove 58 = .ok (.getfield 167, 3) := zdec_at bX8_remove_56 2 rfl
theorem dX8_remove_61 : decode cX8_remove 61 = .ok (.iload_n 3, 1) := zdec_at bX8_remove_56 3 rfl
theorem dX8_remove_62 : decode cX8_remove 62 = .ok (.iaload, 1) := zdec_at bX8_remove_56 4 rfl
theorem dX8_remove_63 : decode cX8_remove 63 = .ok (.iastore, 1) := zdec_at bX8_remove_56 5 rfl
theorem dX8_remove_64 : decode cX8_remove 64 = .ok (.goto 16, 3) := zdec_at bX8_remove_56 6 rfl
theorem dX8_remove_67 : decode cX8_remove 67 = .ok (.aload_n 0, 1) := zdec_at bX8_remove_56 7 rfl
theorem dX8_remove_68 : decode cX8_remove 68 = .ok (.getfield 167, 3) := zdec_at bX8_remove_56 8 rfl
theorem dX8_remove_71 : decode cX8_remove 71 = .ok (.iload 4, 2) := zdec_at bX8_remove_56 9 rfl
theorem dX8_remove_73 : decode cX8_remove 73 = .ok (.aload_n 0, 1) := zdec_at bX8_remove_56 10 rfl
theorem dX8_remove_74 : decode cX8_remove 74 = .ok (.getfield 167, 3) := zdec_at bX8_remove_56 11 rfl
theorem dX8_remove_77 : decode cX8_remove 77 = .ok (.iload_n 3, 1) := zdec_at bX8_remove_56 12 rfl
theorem dX8_remove_78 : decode cX8_remove 78 = .ok (.iaload, 1) := zdec_at bX8_remove_56 13 rfl
theorem dX8_remove_79 : decode cX8_remove 79 = .ok (.iastore, 1) := zdec_at bX8_remove_56 14 rfl
theorem dX8_remove_80 : decode cX8_remove 80 = .ok (.aload_n 0, 1) := zdec_at bX8_remove_56 15 rfl
theorem bX8_remove_81 : zdec cX8_remove 81 [(81, .getfield 152, 3), (84, .iload_n 1, 1), (85, .iaload, 1), (86, .iload_n 3, 1), (87, .if_icmp .ne 11, 3), (90, .aload_n 0, 1), (91, .getfield 152, 3), (94, .iload_n 1, 1), (95, .iload 4, 2), (97, .iastore, 1), (98, .aload_n 0, 1), (99, .getfield 167, 3), (102, .iload_n 3, 1), (103, .aload_n 0, 1), (104, .getfield 852, 3), (107, .iastore, 1)] = true := by decide +kernel
theorem dX8_remove_81 : decode cX8_remove 81 = .ok (.getfield 152, 3) := zdec_at bX8_remove_81 0 rfl
theorem dX8_remove_84 : decode cX8_remove 84 = .ok (.iload_n 1, 1) := zdec_at bX8_remove_81 1 rfl
theorem dX8_remove_85 : decode cX8_remove 85 = .ok (.iaload, 1) := zdec_at bX8_remove_81 2 rfl
theorem dX8_remove_86 : decode cX8_remove 86 = .ok (.iload_n 3, 1) := zdec_at bX8_remove_81 3 rfl
theorem dX8_remove_87 : decode cX8_remove 87 = .ok (.if_icmp .ne 11, 3) := zdec_at bX8_remove_81 4 rfl
theorem dX8_remove_90 : decode cX8_remove 90 = .ok (.aload_n 0, 1) := zdec_at bX8_remove_81 5 rfl
theorem dX8_remove_91 : decode cX8_remove 91 = .ok (.getfield 152, 3) := zdec_at bX8_remove_81 6 rfl
theorem dX8_remove_94 : decode cX8_remove 94 = .ok (.iload_n 1, 1) := zdec_at bX8_remove_81 7 rfl
theorem dX8_remove_95 : decode cX8_remove 95 = .ok (.iload 4, 2) := zdec_at bX8_remove_81 8 rfl
theorem dX8_remove_97 : decode cX8_remove 97 = .ok (.iastore, 1) := zdec_at bX8_remove_81 9 rfl
theorem dX8_remove_98 : decode cX8_remove 98 = .ok (.aload_n 0, 1) := zdec_at bX8_remove_81 10 rfl
theorem dX8_remove_99 : decode cX8_remove 99 = .ok (.getfield 167, 3) := zdec_at bX8_remove_81 11 rfl
theorem dX8_remove_102 : decode cX8_remove 102 = .ok (.iload_n 3, 1) := zdec_at bX8_remove_81 12 rfl
theorem dX8_remove_103 : decode cX8_remove 103 = .ok (.aload_n 0, 1) := zdec_at bX8_remove_81 13 rfl
theorem dX8_remove_104 : decode cX8_remove 104 = .ok (.getfield 852, 3) := zdec_at bX8_remove_81 14 rfl
theorem dX8_remove_107 : decode cX8_remove 107 = .ok (.iastore, 1) := zdec_at bX8_remove_81 15 rfl
theorem bX8_remove_108 : zdec cX8_remove 108 [(108, .aload_n 0, 1), (109, .iload_n 3, 1), (110, .putfield 852, 3), (113, .aload_n 0, 1), (114, .dup, 1), (115, .getfield 849, 3), (118, .iconst 1, 1), (119, .isub, 1), (120, .putfield 849, 3), (123, .return_, 1)] = true := by decide +kernel
theorem dX8_remove_108 : decode cX8_remove 108 = .ok (.aload_n 0, 1) := zdec_at bX8_remove_108 0 rfl
theorem dX8_remove_109 : decode cX8_remove 109 = .ok (.iload_n 3, 1) := zdec_at bX8_remove_108 1 rfl
theorem dX8_remove_110 : decode cX8_remove 110 = .ok (.putfield 852, 3) := zdec_at bX8_remove_108 2 rfl
theorem dX8_remove_113 : decode cX8_remove 113 = .ok (.aload_n 0, 1) := zdec_at bX8_remove_108 3 rfl
theorem dX8_remove_114 : decode cX8_remove 114 = .ok (.dup, 1) := zdec_at bX8_remove_108 4 rfl
theorem dX8_remove_115 : decode cX8_remove 115 = .ok (.getfield 849, 3) := zdec_at bX8_remove_108 5 rfl
theorem dX8_remove_118 : decode cX8_remove 118 = .ok (.iconst 1, 1) := zdec_at bX8_remove_108 6 rfl
theorem dX8_remove_119 : decode cX8_remove 119 = .ok (.isub, 1) := zdec_at bX8_remove_108 7 rfl
theorem dX8_remove_120 : decode cX8_remove 120 = .ok (.putfield 849, 3) := zdec_at bX8_remove_108 8 rfl
theorem dX8_remove_123 : decode cX8_remove 123 = .ok (.return_, 1) := zdec_at bX8_remove_108 9 rfl
theorem sX8_remove_0 {E : zE} {d : Nat} {Q : zO → zM → Prop} (M : zM) (l1 : Int32) (l2 : Int32) (k : Zm E YX8_findProperty d M (zargs 0 [vr (some (97, 1, 0)), vi l1, vi l2]) 0 [] (zma E YX8_remove (d + 1) [(0, vr (some (97, 1, 0))), (1, vi l1)] 3 3 [] Q)) : Zm E YX8_remove (d + 1) M [(0, vr (some (97, 1, 0))), (1, vi l1), (2, vi l2)] 0 [] Q := by
  refine Zm.l (fun _ _ k_ => z_aload_n dX8_remove_0 rfl rfl k_) ?_
  refine Zm.l (fun _ _ k_ => z_iload_n dX8_remove_1 rfl rfl k_) ?_
  refine Zm.l (fun _ _ k_ => z_iload_n dX8_remove_2 rfl rfl k_) ?_
  refine Zm.pick [0, 1] rfl ?_
  exact zm_callV (as := [vi l1, vi l2]) (st := []) dX8_remove_3 vsX8_846_1 (Nat.le_refl _) (Nat.le_of_ble_eq_true rfl) (Nat.le_of_ble_eq_true rfl) rfl k
theorem sX8_remove_6 {E : zE} {d : Nat} {Q : zO → zM → Prop} (M : zM) (l1 : Int32) (s0 : Int32) (k : if s0 = (-1 : Int32) then (Q (.inl none) M) else (vp_in l1 300 ∧ (Zm E YX8_remove (d + 1) M [(0, vr (some (97, 1, 0))), (1, vi l1), (3, vi s0), (4, vi (-1 : Int32)), (5, vi (gi M 143 (l1).toNatClampNeg))] 24 [] Q))) : Zm E YX8_remove (d + 1) M [(0, vr (some (97, 1, 0))), (1, vi l1)] 6 [vi s0] Q := by
  refine Zm.l (fun _ _ k_ => z_ist_n dX8_remove_6 rfl (by decide) (lv' := [(0, vr (some (97, 1, 0))), (1, vi l1), (3, vi s0)]) rfl k_) ?_
  refine Zm.l (fun _ _ k_ => z_iload_n dX8_remove_7 rfl rfl k_) ?_
  refine Zm.l (fun _ _ k_ => z_iconst (v := -1) dX8_remove_8 rfl k_) ?_
  refine Zm.brn (fun _ _ k1_ k2_ => z_icmp_ne (tgt := 13) dX8_remove_9 rfl k1_ k2_) (fun h_ => ?_) (fun h_ => ?_)
  · have k := zif h_ k
    refine Zm.l (fun _ _ k_ => z_iconst (v := -1) dX8_remove_13 rfl k_) ?_
    refine Zm.l (fun _ _ k_ => z_ist dX8_remove_14 (by decide) (lv' := [(0, vr (some (97, 1, 0))), (1, vi l1), (3, vi s0), (4, vi (-1 : Int32))]) rfl k_) ?_
    refine Zm.l (fun _ _ k_ => z_aload_n dX8_remove_16 rfl rfl k_) ?_
    refine zm_getr 40 dX8_remove_17 fsX8_149_1 rfl ?_
    refine Zm.l (fun _ _ k_ => z_iload_n dX8_remove_20 rfl rfl k_) ?_
    obtain ⟨b_, k⟩ := k
    refine zm_iald dX8_remove_21 b_ (by decide) (by decide) ?_
    refine Zm.l (fun _ _ k_ => z_ist dX8_remove_22 (by decide) (lv' := [(0, vr (some (97, 1, 0))), (1, vi l1), (3, vi s0), (4, vi (-1 : Int32)), (5, vi (gi M 143 (l1).toNatClampNeg))]) rfl k_) ?_
    exact k
  · have k := zit h_ k
    exact zm_vret dX8_remove_12 rfl k
theorem sX8_remove_24 {E : zE} {d : Nat} {Q : zO → zM → Prop} (M : zM) (l1 : Int32) (l3 : Int32) (l4 : Int32) (l5 : Int32) (k : if l5 = l3 then (if l4 = (-1 : Int32) then (vp_in l3 3000 ∧ (vp_in l1 300 ∧ (Zm E YX8_remove (d + 1) (si M 143 (l1).toNatClampNeg (gi M 149 (l3).toNatClampNeg)) [(0, vr (some (97, 1, 0))), (1, vi l1), (3, vi l3), (4, vi l4)] 80 [] Q))) else (vp_in l3 3000 ∧ (vp_in l4 3000 ∧ (Zm E YX8_remove (d + 1) (si M 149 (l4).toNatClampNeg (gi M 149 (l3).toNatClampNeg)) [(0, vr (some (97, 1, 0))), (1, vi l1), (3, vi l3), (4, vi l4)] 80 [] Q)))) else (vp_in l5 3000 ∧ (Zm E YX8_remove (d + 1) M [(0, vr (some (97, 1, 0))), (1, vi l1), (3, vi l3), (4, vi l5), (5, vi (gi M 149 (l5).toNatClampNeg))] 24 [] Q))) : Zm E YX8_remove (d + 1) M [(0, vr (some (97, 1, 0))), (1, vi l1), (3, vi l3), (4, vi l4), (5, vi l5)] 24 [] Q := by
  refine Zm.l (fun _ _ k_ => z_iload dX8_remove_24 rfl k_) ?_
  refine Zm.l (fun _ _ k_ => z_iload_n dX8_remove_26 rfl rfl k_) ?_
  refine Zm.br (fun _ _ k1_ k2_ => z_icmp_eq (tgt := 46) dX8_remove_27 rfl k1_ k2_) (fun h_ => ?_) (fun h_ => ?_)
  · have k := zit h_ k
    refine Zm.l (fun _ _ k_ => z_iload dX8_remove_46 rfl k_) ?_
    refine Zm.l (fun _ _ k_ => z_iconst (v := -1) dX8_remove_48 rfl k_) ?_
    refine Zm.brn (fun _ _ k1_ k2_ => z_icmp_ne (tgt := 67) dX8_remove_49 rfl k1_ k2_) (fun h_ => ?_) (fun h_ => ?_)
    · have k := zif h_ k
      refine Zm.l (fun _ _ k_ => z_aload_n dX8_remove_67 rfl rfl k_) ?_
      refine zm_getr 46 dX8_remove_68 fsX8_167_1 rfl ?_
      refine Zm.l (fun _ _ k_ => z_iload dX8_remove_71 rfl k_) ?_
      refine Zm.l (fun _ _ k_ => z_aload_n dX8_remove_73 rfl rfl k_) ?_
      refine zm_getr 46 dX8_remove_74 fsX8_167_1 rfl ?_
      refine Zm.l (fun _ _ k_ => z_iload_n dX8_remove_77 rfl rfl k_) ?_
      obtain ⟨b_, k⟩ := k
      refine zm_iald dX8_remove_78 b_ (by decide) (by decide) ?_
      obtain ⟨b_, k⟩ := k
      refine zm_iast dX8_remove_79 b_ (by decide) (by decide) ?_
      refine Zm.pick [0, 1, 2, 3] rfl ?_
      exact k
    · have k := zit h_ k
      refine Zm.l (fun _ _ k_ => z_aload_n dX8_remove_52 rfl rfl k_) ?_
      refine zm_getr 40 dX8_remove_53 fsX8_149_1 rfl ?_
      refine Zm.l (fun _ _ k_ => z_iload_n dX8_remove_56 rfl rfl k_) ?_
      refine Zm.l (fun _ _ k_ => z_aload_n dX8_remove_57 rfl rfl k_) ?_
      refine zm_getr 46 dX8_remove_58 fsX8_167_1 rfl ?_
      refine Zm.l (fun _ _ k_ => z_iload_n dX8_remove_61 rfl rfl k_) ?_
      obtain ⟨b_, k⟩ := k
      refine zm_iald dX8_remove_62 b_ (by decide) (by decide) ?_
      obtain ⟨b_, k⟩ := k
      refine zm_iast dX8_remove_63 b_ (by decide) (by decide) ?_
      refine Zm.l (fun _ _ k_ => z_goto (tgt := 80) dX8_remove_64 rfl k_) ?_
      refine Zm.pick [0, 1, 2, 3] rfl ?_
      exact k
  · have k := zif h_ k
    refine Zm.l (fun _ _ k_ => z_iload dX8_remove_30 rfl k_) ?_
    refine Zm.l (fun _ _ k_ => z_ist dX8_remove_32 (by decide) (lv' := [(0, vr (some (97, 1, 0))), (1, vi l1), (3, vi l3), (4, vi l5), (5, vi l5)]) rfl k_) ?_
    refine Zm.l (fun _ _ k_ => z_aload_n dX8_remove_34 rfl rfl k_) ?_
    refine zm_getr 46 dX8_remove_35 fsX8_167_1 rfl ?_
    refine Zm.l (fun _ _ k_ => z_iload dX8_remove_38 rfl k_) ?_
    obtain ⟨b_, k⟩ := k
    refine zm_iald dX8_remove_40 b_ (by decide) (by decide) ?_
    refine Zm.l (fun _ _ k_ => z_ist dX8_remove_41 (by decide) (lv' := [(0, vr (some (97, 1, 0))), (1, vi l1), (3, vi l3), (4, vi l5), (5, vi (gi M 149 (l5).toNatClampNeg))]) rfl k_) ?_
    refine Zm.l (fun _ _ k_ => z_goto (tgt := 24) dX8_remove_43 rfl k_) ?_
    exact k
theorem sX8_remove_80 {E : zE} {d : Nat} {Q : zO → zM → Prop} (M : zM) (l1 : Int32) (l3 : Int32) (l4 : Int32) (k : vp_in l1 300 ∧ (if (gi M 144 (l1).toNatClampNeg) = l3 then (vp_in l1 300 ∧ (Zm E YX8_remove (d + 1) (si M 144 (l1).toNatClampNeg l4) [(0, vr (some (97, 1, 0))), (3, vi l3)] 98 [] Q)) else (Zm E YX8_remove (d + 1) M [(0, vr (some (97, 1, 0))), (3, vi l3)] 98 [] Q))) : Zm E YX8_remove (d + 1) M [(0, vr (some (97, 1, 0))), (1, vi l1), (3, vi l3), (4, vi l4)] 80 [] Q := by
  refine Zm.l (fun _ _ k_ => z_aload_n dX8_remove_80 rfl rfl k_) ?_
  refine zm_getr 41 dX8_remove_81 fsX8_152_1 rfl ?_
  refine Zm.l (fun _ _ k_ => z_iload_n dX8_remove_84 rfl rfl k_) ?_
  obtain ⟨b_, k⟩ := k
  refine zm_iald dX8_remove_85 b_ (by decide) (by decide) ?_
  refine Zm.l (fun _ _ k_ => z_iload_n dX8_remove_86 rfl rfl k_) ?_
  refine Zm.brn (fun _ _ k1_ k2_ => z_icmp_ne (tgt := 98) dX8_remove_87 rfl k1_ k2_) (fun h_ => ?_) (fun h_ => ?_)
  · have k := zif h_ k
    refine Zm.pick [0, 2] rfl ?_
    exact k
  · have k := zit h_ k
    refine Zm.l (fun _ _ k_ => z_aload_n dX8_remove_90 rfl rfl k_) ?_
    refine zm_getr 41 dX8_remove_91 fsX8_152_1 rfl ?_
    refine Zm.l (fun _ _ k_ => z_iload_n dX8_remove_94 rfl rfl k_) ?_
    refine Zm.l (fun _ _ k_ => z_iload dX8_remove_95 rfl k_) ?_
    obtain ⟨b_, k⟩ := k
    refine zm_iast dX8_remove_97 b_ (by decide) (by decide) ?_
    refine Zm.pick [0, 2] rfl ?_
    exact k
theorem sX8_remove_98 {E : zE} {d : Nat} {Q : zO → zM → Prop} (M : zM) (l3 : Int32) (k : vp_in l3 3000 ∧ (Q (.inl none) (si (si (si M 149 (l3).toNatClampNeg (gi M 97 85)) 97 85 l3) 97 84 ((gi M 97 84) - (1 : Int32))))) : Zm E YX8_remove (d + 1) M [(0, vr (some (97, 1, 0))), (3, vi l3)] 98 [] Q := by
  refine Zm.l (fun _ _ k_ => z_aload_n dX8_remove_98 rfl rfl k_) ?_
  refine zm_getr 46 dX8_remove_99 fsX8_167_1 rfl ?_
  refine Zm.l (fun _ _ k_ => z_iload_n dX8_remove_102 rfl rfl k_) ?_
  refine Zm.l (fun _ _ k_ => z_aload_n dX8_remove_103 rfl rfl k_) ?_
  refine zm_geti dX8_remove_104 fsX8_852_1 (by decide) (by decide) ?_
  obtain ⟨b_, k⟩ := k
  refine zm_iast dX8_remove_107 b_ (by decide) (by decide) ?_
  refine Zm.l (fun _ _ k_ => z_aload_n dX8_remove_108 rfl rfl k_) ?_
  refine Zm.l (fun _ _ k_ => z_iload_n dX8_remove_109 rfl rfl k_) ?_
  refine zm_puti (by decide) (by decide) dX8_remove_110 (zfwN.w fwX8_852_1) rfl ⟨rfl, rfl⟩ ?_
  refine Zm.l (fun _ _ k_ => z_aload_n dX8_remove_113 rfl rfl k_) ?_
  refine Zm.l (fun _ _ k_ => z_dup dX8_remove_114 rfl k_) ?_
  refine zm_geti dX8_remove_115 fsX8_849_1 (by decide) (by decide) ?_
  refine Zm.l (fun _ _ k_ => z_iconst (v := 1) dX8_remove_118 rfl k_) ?_
  refine Zm.l (fun _ _ k_ => z_isub dX8_remove_119 k_) ?_
  refine zm_puti (by decide) (by decide) dX8_remove_120 (zfwN.w fwX8_849_1) rfl ⟨rfl, rfl⟩ ?_
  exact zm_vret dX8_remove_123 rfl k
/-! ScriptTypesModel.truth(Z)V -/
theorem bX8_truth_0 : zdec cX8_truth 0 [(0, .aload_n 0, 1), (1, .iload_n 1, 1), (2, .ifCond .eq 7, 3), (5, .iconst 2, 1), (6, .goto 4, 3), (9, .iconst 3, 1), (10, .iconst 0, 1), (11, .invokevirtual 822, 3), (14, .return_, 1)] = true := by decide +kernel
theorem dX8_truth_0 : decode cX8_truth 0 = .ok (.aload_n 0, 1) := zdec_at bX8_truth_0 0 rfl
theorem dX8_truth_1 : decode cX8_truth 1 = .ok (.iload_n 1, 1) := zdec_at bX8_truth_0 1 rfl
theorem dX8_truth_2 : decode cX8_truth 2 = .ok (.ifCond .eq 7, 3) := zdec_at bX8_truth_0 2 rfl
theorem dX8_truth_5 : decode cX8_truth 5 = .ok (.iconst 2, 1) := zdec_at bX8_truth_0 3 rfl
theorem dX8_truth_6 : decode cX8_truth 6 = .ok (.goto 4, 3) := zdec_at bX8_truth_0 4 rfl
theorem dX8_truth_9 : decode cX8_truth 9 = .ok (.iconst 3, 1) := zdec_at bX8_truth_0 5 rfl
theorem dX8_truth_10 : decode cX8_truth 10 = .ok (.iconst 0, 1) := zdec_at bX8_truth_0 6 rfl
theorem dX8_truth_11 : decode cX8_truth 11 = .ok (.invokevirtual 822, 3) := zdec_at bX8_truth_0 7 rfl
theorem dX8_truth_14 : decode cX8_truth 14 = .ok (.return_, 1) := zdec_at bX8_truth_0 8 rfl
theorem sX8_truth_0 {E : zE} {d : Nat} {Q : zO → zM → Prop} (M : zM) (l1 : Int32) (k : if l1 = 0 then (Zm E YX8_give_2 d M (zargs 0 [vr (some (97, 1, 0)), vi (3 : Int32), vi (0 : Int32)]) 0 [] (zma E YX8_truth (d + 1) [] 11 3 [] Q)) else (Zm E YX8_give_2 d M (zargs 0 [vr (some (97, 1, 0)), vi (2 : Int32), vi (0 : Int32)]) 0 [] (zma E YX8_truth (d + 1) [] 11 3 [] Q))) : Zm E YX8_truth (d + 1) M [(0, vr (some (97, 1, 0))), (1, vi l1)] 0 [] Q := by
  refine Zm.l (fun _ _ k_ => z_aload_n dX8_truth_0 rfl rfl k_) ?_
  refine Zm.l (fun _ _ k_ => z_iload_n dX8_truth_1 rfl rfl k_) ?_
  refine Zm.br (fun _ _ k1_ k2_ => z_if_eq (tgt := 9) dX8_truth_2 rfl k1_ k2_) (fun h_ => ?_) (fun h_ => ?_)
  · have k := zit h_ k
    refine Zm.l (fun _ _ k_ => z_iconst (v := 3) dX8_truth_9 rfl k_) ?_
    refine Zm.l (fun _ _ k_ => z_iconst (v := 0) dX8_truth_10 rfl k_) ?_
    refine Zm.pick [] rfl ?_
    exact zm_callV (as := [vi (3 : Int32), vi (0 : Int32)]) (st := []) dX8_truth_11 vsX8_822_1 (Nat.le_refl _) (Nat.le_of_ble_eq_true rfl) (Nat.le_of_ble_eq_true rfl) rfl k
  · have k := zif h_ k
    refine Zm.l (fun _ _ k_ => z_iconst (v := 2) dX8_truth_5 rfl k_) ?_
    refine Zm.l (fun _ _ k_ => z_goto (tgt := 10) dX8_truth_6 rfl k_) ?_
    refine Zm.l (fun _ _ k_ => z_iconst (v := 0) dX8_truth_10 rfl k_) ?_
    refine Zm.pick [] rfl ?_
    exact zm_callV (as := [vi (2 : Int32), vi (0 : Int32)]) (st := []) dX8_truth_11 vsX8_822_1 (Nat.le_refl _) (Nat.le_of_ble_eq_true rfl) (Nat.le_of_ble_eq_true rfl) rfl k
theorem sX8_truth_14 {E : zE} {d : Nat} {Q : zO → zM → Prop} (M : zM)  (k : Q (.inl none) M) : Zm E YX8_truth (d + 1) M [] 14 [] Q := by
  exact zm_vret dX8_truth_14 rfl k
/-! ScriptTypesModel.unaryOf(III)V -/
theorem bX8_unaryOf_0 : zdec cX8_unaryOf 0 [(0, .iload_n 1, 1), (1, .iconst 3, 1), (2, .if_icmp .ne 22, 3), (5, .aload_n 0, 1), (6, .aload_n 0, 1), (7, .iload_n 2, 1), (8, .iload_n 3, 1), (9, .invokevirtual 824, 3), (12, .ifCond .ne 7, 3), (15, .iconst 1, 1), (16, .goto 4, 3), (19, .iconst 0, 1), (20, .invokevirtual 827, 3), (23, .return_, 1), (24, .aload_n 0, 1), (25, .iload_n 2, 1)] = true := by decide +kernel
theorem dX8_unaryOf_0 : decode cX8_unaryOf 0 = .ok (.iload_n 1, 1) := zdec_at bX8_unaryOf_0 0 rfl
theorem dX8_unaryOf_1 : decode cX8_unaryOf 1 = .ok (.iconst 3, 1) := zdec_at bX8_unaryOf_0 1 rfl
theorem dX8_unaryOf_2 : decode cX8_unaryOf 2 = .ok (.if_icmp .ne 22, 3) := zdec_at bX8_unaryOf_0 2 rfl
theorem dX8_unaryOf_5 : decode cX8_unaryOf 5 = .ok (.aload_n 0, 1) := zdec_at bX8_unaryOf_0 3 rfl
theorem dX8_unaryOf_6 : decode cX8_unaryOf 6 = .ok (.aload_n 0, 1) := zdec_at bX8_unaryOf_0 4 rfl
theorem dX8_unaryOf_7 : decode cX8_unaryOf 7 = .ok (.iload_n 2, 1) := zdec_at bX8_unaryOf_0 5 rfl
theorem dX8_unaryOf_8 : decode cX8_unaryOf 8 = .ok (.iload_n 3, 1) := zdec_at bX8_unaryOf_0 6 rfl
theorem dX8_unaryOf_9 : decode cX8_unaryOf 9 = .ok (.invokevirtual 824, 3) := zdec_at bX8_unaryOf_0 7 rfl
theorem dX8_unaryOf_12 : decode cX8_unaryOf 12 = .ok (.ifCond .ne 7, 3) := zdec_at bX8_unaryOf_0 8 rfl
theorem dX8_unaryOf_15 : decode cX8_unaryOf 15 = .ok (.iconst 1, 1) := zdec_at bX8_unaryOf_0 9 rfl
theorem dX8_unaryOf_16 : decode cX8_unaryOf 16 = .ok (.goto 4, 3) := zdec_at bX8_unaryOf_0 10 rfl
theorem dX8_unaryOf_19 : decode cX8_unaryOf 19 = .ok (.iconst 0, 1) := zdec_at bX8_unaryOf_0 11 rfl
theorem dX8_unaryOf_20 : decode cX8_unaryOf 20 = .ok (.invokevirtual 827, 3) := zdec_at bX8_unaryOf_0 12 rfl
theorem dX8_unaryOf_23 : decode cX8_unaryOf 23 = .ok (.return_, 1) := zdec_at bX8_unaryOf_0 13 rfl
theorem dX8_unaryOf_24 : decode cX8_unaryOf 24 = .ok (.aload_n 0, 1) := zdec_at bX8_unaryOf_0 14 rfl
theorem dX8_unaryOf_25 : decode cX8_unaryOf 25 = .ok (.iload_n 2, 1) := zdec_at bX8_unaryOf_0 15 rfl
theorem bX8_unaryOf_26 : zdec cX8_unaryOf 26 [(26, .iload_n 3, 1), (27, .invokevirtual 816, 3), (30, .istore 4, 2), (32, .iload_n 1, 1), (33, .iconst 2, 1), (34, .if_icmp .ne 26, 3), (37, .aload_n 0, 1), (38, .iconst 5, 1), (39, .aload_n 0, 1), (40, .getfield 806, 3), (43, .ifCond .eq 8, 3), (46, .iload 4, 2), (48, .goto 4, 3), (51, .iconst 0, 1), (52, .iconst (-1), 1), (53, .ixor, 1)] = true := by decide +kernel
theorem dX8_unaryOf_26 : decode cX8_unaryOf 26 = .ok (.iload_n 3, 1) := zdec_at bX8_unaryOf_26 0 rfl
theorem dX8_unaryOf_27 : decode cX8_unaryOf 27 = .ok (.invokevirtual 816, 3) := zdec_at bX8_unaryOf_26 1 rfl
theorem dX8_unaryOf_30 : decode cX8_unaryOf 30 = .ok (.istore 4, 2) := zdec_at bX8_unaryOf_26 2 rfl
theorem dX8_unaryOf_32 : decode cX8_unaryOf 32 = .ok (.iload_n 1, 1) := zdec_at bX8_unaryOf_26 3 rfl
theorem dX8_unaryOf_33 : decode cX8_unaryOf 33 = .ok (.iconst 2, 1) := zdec_at bX8_unaryOf_26 4 rfl
theorem dX8_unaryOf_34 : decode cX8_unaryOf 34 = .ok (.if_icmp .ne 26, 3) := zdec_at bX8_unaryOf_26 5 rfl
theorem dX8_unaryOf_37 : decode cX8_unaryOf 37 = .ok (.aload_n 0, 1) := zdec_at bX8_unaryOf_26 6 rfl
theorem dX8_unaryOf_38 : decode cX8_unaryOf 38 = .ok (.iconst 5, 1) := zdec_at bX8_unaryOf_26 7 rfl
theorem dX8_unaryOf_39 : decode cX8_unaryOf 39 = .ok (.aload_n 0, 1) := zdec_at bX8_unaryOf_26 8 rfl
theorem dX8_unaryOf_40 : decode cX8_unaryOf 40 = .ok (.getfield 806, 3) := zdec_at bX8_unaryOf_26 9 rfl
theorem dX8_unaryOf_43 : decode cX8_unaryOf 43 = .ok (.ifCond .eq 8, 3) := zdec_at bX8_unaryOf_26 10 rfl
theorem dX8_unaryOf_46 : decode cX8_unaryOf 46 = .ok (.iload 4, 2) := zdec_at bX8_unaryOf_26 11 rfl
theorem dX8_unaryOf_48 : decode cX8_unaryOf 48 = .ok (.goto 4, 3) := zdec_at bX8_unaryOf_26 12 rfl
theorem dX8_unaryOf_51 : decode cX8_unaryOf 51 = .ok (.iconst 0, 1) := zdec_at bX8_unaryOf_26 13 rfl
theorem dX8_unaryOf_52 : decode cX8_unaryOf 52 = .ok (.iconst (-1), 1) := zdec_at bX8_unaryOf_26 14 rfl
theorem dX8_unaryOf_53 : decode cX8_unaryOf 53 = .ok (.ixor, 1) := zdec_at bX8_unaryOf_26 15 rfl
theorem bX8_unaryOf_54 : zdec cX8_unaryOf 54 [(54, .invokevirtual 822, 3), (57, .goto 36, 3), (60, .aload_n 0, 1), (61, .getfield 806, 3), (64, .ifCond .eq 23, 3), (67, .aload_n 0, 1), (68, .iconst 5, 1), (69, .iload_n 1, 1), (70, .ifCond .ne 8, 3), (73, .iload 4, 2), (75, .goto 6, 3), (78, .iload 4, 2), (80, .ineg, 1), (81, .invokevirtual 822, 3), (84, .goto 9, 3), (87, .aload_n 0, 1)] = true := by decide +kernel
theorem dX8_unaryOf_54 : decode cX8_unaryOf 54 = .ok (.invokevirtual 822, 3) := zdec_at bX8_unaryOf_54 0 rfl
theorem dX8_unaryOf_57 : decode cX8_unaryOf 57 = .ok (.goto 36, 3) := zdec_at bX8_unaryOf_54 1 rfl
theorem dX8_unaryOf_60 : decode cX8_unaryOf 60 = .ok (.aload_n 0, 1) := zdec_at bX8_unaryOf_54 2 rfl
theorem dX8_unaryOf_61 : decode cX8_unaryOf 61 = .ok (.getfield 806, 3) := zdec_at bX8_unaryOf_54 3 rfl
theorem dX8_unaryOf_64 : decode cX8_unaryOf 64 = .ok (.ifCond .eq 23, 3) := zdec_at bX8_unaryOf_54 4 rfl
theorem dX8_unaryOf_67 : decode cX8_unaryOf 67 = .ok (.aload_n 0, 1) := zdec_at bX8_unaryOf_54 5 rfl
theorem dX8_unaryOf_68 : decode cX8_unaryOf 68 = .ok (.iconst 5, 1) := zdec_at bX8_unaryOf_54 6 rfl
theorem dX8_unaryOf_69 : decode cX8_unaryOf 69 = .ok (.iload_n 1, 1) := zdec_at bX8_unaryOf_54 7 rfl
theorem dX8_unaryOf_70 : decode cX8_unaryOf 70 = .ok (.ifCond .ne 8, 3) := zdec_at bX8_unaryOf_54 8 rfl
theorem dX8_unaryOf_73 : decode cX8_unaryOf 73 = .ok (.iload 4, 2) := zdec_at bX8_unaryOf_54 9 rfl
theorem dX8_unaryOf_75 : decode cX8_unaryOf 75 = .ok (.goto 6, 3) := zdec_at bX8_unaryOf_54 10 rfl
theorem dX8_unaryOf_78 : decode cX8_unaryOf 78 = .ok (.iload 4, 2) := zdec_at bX8_unaryOf_54 11 rfl
theorem dX8_unaryOf_80 : decode cX8_unaryOf 80 = .ok (.ineg, 1) := zdec_at bX8_unaryOf_54 12 rfl
theorem dX8_unaryOf_81 : decode cX8_unaryOf 81 = .ok (.invokevirtual 822, 3) := zdec_at bX8_unaryOf_54 13 rfl
theorem dX8_unaryOf_84 : decode cX8_unaryOf 84 = .ok (.goto 9, 3) := zdec_at bX8_unaryOf_54 14 rfl
theorem dX8_unaryOf_87 : decode cX8_unaryOf 87 = .ok (.aload_n 0, 1) := zdec_at bX8_unaryOf_54 15 rfl
theorem bX8_unaryOf_88 : zdec cX8_unaryOf 88 [(88, .iconst 4, 1), (89, .iconst 0, 1), (90, .invokevirtual 822, 3), (93, .return_, 1)] = true := by decide +kernel
theorem dX8_unaryOf_88 : decode cX8_unaryOf 88 = .ok (.iconst 4, 1) := zdec_at bX8_unaryOf_88 0 rfl
theorem dX8_unaryOf_89 : decode cX8_unaryOf 89 = .ok (.iconst 0, 1) := zdec_at bX8_unaryOf_88 1 rfl
theorem dX8_unaryOf_90 : decode cX8_unaryOf 90 = .ok (.invokevirtual 822, 3) := zdec_at bX8_unaryOf_88 2 rfl
theorem dX8_unaryOf_93 : decode cX8_unaryOf 93 = .ok (.return_, 1) := zdec_at bX8_unaryOf_88 3 rfl
theorem sX8_unaryOf_0 {E : zE} {d : Nat} {Q : zO → zM → Prop} (M : zM) (l1 : Int32) (l2 : Int32) (l3 : Int32) (k : if l1 = (3 : Int32) then (Zm E YX8_isTrue d M (zargs 0 [vr (some (97, 1, 0)), vi l2, vi l3]) 0 [] (zma E YX8_unaryOf (d + 1) [] 9 3 [vr (some (97, 1, 0))] Q)) else (Zm E YX8_numberOf d M (zargs 0 [vr (some (97, 1, 0)), vi l2, vi l3]) 0 [] (zma E YX8_unaryOf (d + 1) [(0, vr (some (97, 1, 0))), (1, vi l1)] 27 3 [] Q))) : Zm E YX8_unaryOf (d + 1) M [(0, vr (some (97, 1, 0))), (1, vi l1), (2, vi l2), (3, vi l3)] 0 [] Q := by
  refine Zm.l (fun _ _ k_ => z_iload_n dX8_unaryOf_0 rfl rfl k_) ?_
  refine Zm.l (fun _ _ k_ => z_iconst (v := 3) dX8_unaryOf_1 rfl k_) ?_
  refine Zm.brn (fun _ _ k1_ k2_ => z_icmp_ne (tgt := 24) dX8_unaryOf_2 rfl k1_ k2_) (fun h_ => ?_) (fun h_ => ?_)
  · have k := zif h_ k
    refine Zm.l (fun _ _ k_ => z_aload_n dX8_unaryOf_24 rfl rfl k_) ?_
    refine Zm.l (fun _ _ k_ => z_iload_n dX8_unaryOf_25 rfl rfl k_) ?_
    refine Zm.l (fun _ _ k_ => z_iload_n dX8_unaryOf_26 rfl rfl k_) ?_
    refine Zm.pick [0, 1] rfl ?_
    exact zm_callV (as := [vi l2, vi l3]) (st := []) dX8_unaryOf_27 vsX8_816_1 (Nat.le_refl _) (Nat.le_of_ble_eq_true rfl) (Nat.le_of_ble_eq_true rfl) rfl k
  · have k := zit h_ k
    refine Zm.l (fun _ _ k_ => z_aload_n dX8_unaryOf_5 rfl rfl k_) ?_
    refine Zm.l (fun _ _ k_ => z_aload_n dX8_unaryOf_6 rfl rfl k_) ?_
    refine Zm.l (fun _ _ k_ => z_iload_n dX8_unaryOf_7 rfl rfl k_) ?_
    refine Zm.l (fun _ _ k_ => z_iload_n dX8_unaryOf_8 rfl rfl k_) ?_
    refine Zm.pick [] rfl ?_
    exact zm_callV (as := [vi l2, vi l3]) (st := [vr (some (97, 1, 0))]) dX8_unaryOf_9 vsX8_824_1 (Nat.le_refl _) (Nat.le_of_ble_eq_true rfl) (Nat.le_of_ble_eq_true rfl) rfl k
theorem sX8_unaryOf_12 {E : zE} {d : Nat} {Q : zO → zM → Prop} (M : zM) (s0 : Int32) (k : if s0 = 0 then (Zm E YX8_truth d M (zargs 0 [vr (some (97, 1, 0)), vi (1 : Int32)]) 0 [] (zma E YX8_unaryOf (d + 1) [] 20 3 [] Q)) else (Zm E YX8_truth d M (zargs 0 [vr (some (97, 1, 0)), vi (0 : Int32)]) 0 [] (zma E YX8_unaryOf (d + 1) [] 20 3 [] Q))) : Zm E YX8_unaryOf (d + 1) M [] 12 [vi s0, vr (some (97, 1, 0))] Q := by
  refine Zm.brn (fun _ _ k1_ k2_ => z_if_ne (tgt := 19) dX8_unaryOf_12 rfl k1_ k2_) (fun h_ => ?_) (fun h_ => ?_)
  · have k := zif h_ k
    refine Zm.l (fun _ _ k_ => z_iconst (v := 0) dX8_unaryOf_19 rfl k_) ?_
    exact zm_callV (as := [vi (0 : Int32)]) (st := []) dX8_unaryOf_20 vsX8_827_1 (Nat.le_refl _) (Nat.le_of_ble_eq_true rfl) (Nat.le_of_ble_eq_true rfl) rfl k
  · have k := zit h_ k
    refine Zm.l (fun _ _ k_ => z_iconst (v := 1) dX8_unaryOf_15 rfl k_) ?_
    refine Zm.l (fun _ _ k_ => z_goto (tgt := 20) dX8_unaryOf_16 rfl k_) ?_
    exact zm_callV (as := [vi (1 : Int32)]) (st := []) dX8_unaryOf_20 vsX8_827_1 (Nat.le_refl _) (Nat.le_of_ble_eq_true rfl) (Nat.le_of_ble_eq_true rfl) rfl k
theorem sX8_unaryOf_23 {E : zE} {d : Nat} {Q : zO → zM → Prop} (M : zM)  (k : Q (.inl none) M) : Zm E YX8_unaryOf (d + 1) M [] 23 [] Q := by
  exact zm_vret dX8_unaryOf_23 rfl k
theorem sX8_unaryOf_30 {E : zE} {d : Nat} {Q : zO → zM → Prop} (M : zM) (l1 : Int32) (s0 : Int32) (k : if l1 = (2 : Int32) then (if (gi M 97 113) = 0 then (Zm E YX8_give_2 d M (zargs 0 [vr (some (97, 1, 0)), vi (5 : Int32), vi ((0 : Int32) ^^^ (-1 : Int32))]) 0 [] (zma E YX8_unaryOf (d + 1) [] 54 3 [] Q)) else (Zm E YX8_give_2 d M (zargs 0 [vr (some (97, 1, 0)), vi (5 : Int32), vi (s0 ^^^ (-1 : Int32))]) 0 [] (zma E YX8_unaryOf (d + 1) [] 54 3 [] Q))) else (if (gi M 97 113) = 0 then (Zm E YX8_give_2 d M (zargs 0 [vr (some (97, 1, 0)), vi (4 : Int32), vi (0 : Int32)]) 0 [] (zma E YX8_unaryOf (d + 1) [] 90 3 [] Q)) else (if l1 = 0 then (Zm E YX8_give_2 d M (zargs 0 [vr (some (97, 1, 0)), vi (5 : Int32), vi s0]) 0 [] (zma E YX8_unaryOf (d + 1) [] 81 3 [] Q)) else (Zm E YX8_give_2 d M (zargs 0 [vr (some (97, 1, 0)), vi (5 : Int32), vi (-s0)]) 0 [] (zma E YX8_unaryOf (d + 1) [] 81 3 [] Q))))) : Zm E YX8_unaryOf (d + 1) M [(0, vr (some (97, 1, 0))), (1, vi l1)] 30 [vi s0] Q := by
  refine Zm.l (fun _ _ k_ => z_ist dX8_unaryOf_30 (by decide) (lv' := [(0, vr (some (97, 1, 0))), (1, vi l1), (4, vi s0)]) rfl k_) ?_
  refine Zm.l (fun _ _ k_ => z_iload_n dX8_unaryOf_32 rfl rfl k_) ?_
  refine Zm.l (fun _ _ k_ => z_iconst (v := 2) dX8_unaryOf_33 rfl k_) ?_
  refine Zm.brn (fun _ _ k1_ k2_ => z_icmp_ne (tgt := 60) dX8_unaryOf_34 rfl k1_ k2_) (fun h_ => ?_) (fun h_ => ?_)
  · have k := zif h_ k
    refine Zm.l (fun _ _ k_ => z_aload_n dX8_unaryOf_60 rfl rfl k_) ?_
    refine zm_geti dX8_unaryOf_61 fsX8_806_1 (by decide) (by decide) ?_
    refine Zm.br (fun _ _ k1_ k2_ => z_if_eq (tgt := 87) dX8_unaryOf_64 rfl k1_ k2_) (fun h_ => ?_) (fun h_ => ?_)
    · have k := zit h_ k
      refine Zm.l (fun _ _ k_ => z_aload_n dX8_unaryOf_87 rfl rfl k_) ?_
      refine Zm.l (fun _ _ k_ => z_iconst (v := 4) dX8_unaryOf_88 rfl k_) ?_
      refine Zm.l (fun _ _ k_ => z_iconst (v := 0) dX8_unaryOf_89 rfl k_) ?_
      refine Zm.pick [] rfl ?_
      exact zm_callV (as := [vi (4 : Int32), vi (0 : Int32)]) (st := []) dX8_unaryOf_90 vsX8_822_1 (Nat.le_refl _) (Nat.le_of_ble_eq_true rfl) (Nat.le_of_ble_eq_true rfl) rfl k
    · have k := zif h_ k
      refine Zm.l (fun _ _ k_ => z_aload_n dX8_unaryOf_67 rfl rfl k_) ?_
      refine Zm.l (fun _ _ k_ => z_iconst (v := 5) dX8_unaryOf_68 rfl k_) ?_
      refine Zm.l (fun _ _ k_ => z_iload_n dX8_unaryOf_69 rfl rfl k_) ?_
      refine Zm.brn (fun _ _ k1_ k2_ => z_if_ne (tgt := 78) dX8_unaryOf_70 rfl k1_ k2_) (fun h_ => ?_) (fun h_ => ?_)
      · have k := zif h_ k
        refine Zm.l (fun _ _ k_ => z_iload dX8_unaryOf_78 rfl k_) ?_
        refine Zm.l (fun _ _ k_ => z_ineg dX8_unaryOf_80 k_) ?_
        refine Zm.pick [] rfl ?_
        exact zm_callV (as := [vi (5 : Int32), vi (-s0)]) (st := []) dX8_unaryOf_81 vsX8_822_1 (Nat.le_refl _) (Nat.le_of_ble_eq_true rfl) (Nat.le_of_ble_eq_true rfl) rfl k
      · have k := zit h_ k
        refine Zm.l (fun _ _ k_ => z_iload dX8_unaryOf_73 rfl k_) ?_
        refine Zm.l (fun _ _ k_ => z_goto (tgt := 81) dX8_unaryOf_75 rfl k_) ?_
        refine Zm.pick [] rfl ?_
        exact zm_callV (as := [vi (5 : Int32), vi s0]) (st := []) dX8_unaryOf_81 vsX8_822_1 (Nat.le_refl _) (Nat.le_of_ble_eq_true rfl) (Nat.le_of_ble_eq_true rfl) rfl k
  · have k := zit h_ k
    refine Zm.l (fun _ _ k_ => z_aload_n dX8_unaryOf_37 rfl rfl k_) ?_
    refine Zm.l (fun _ _ k_ => z_iconst (v := 5) dX8_unaryOf_38 rfl k_) ?_
    refine Zm.l (fun _ _ k_ => z_aload_n dX8_unaryOf_39 rfl rfl k_) ?_
    refine zm_geti dX8_unaryOf_40 fsX8_806_1 (by decide) (by decide) ?_
    refine Zm.br (fun _ _ k1_ k2_ => z_if_eq (tgt := 51) dX8_unaryOf_43 rfl k1_ k2_) (fun h_ => ?_) (fun h_ => ?_)
    · have k := zit h_ k
      refine Zm.l (fun _ _ k_ => z_iconst (v := 0) dX8_unaryOf_51 rfl k_) ?_
      refine Zm.l (fun _ _ k_ => z_iconst (v := -1) dX8_unaryOf_52 rfl k_) ?_
      refine Zm.l (fun _ _ k_ => z_ixor dX8_unaryOf_53 k_) ?_
      refine Zm.pick [] rfl ?_
      exact zm_callV (as := [vi (5 : Int32), vi ((0 : Int32) ^^^ (-1 : Int32))]) (st := []) dX8_unaryOf_54 vsX8_822_1 (Nat.le_refl _) (Nat.le_of_ble_eq_true rfl) (Nat.le_of_ble_eq_true rfl) rfl k
    · have k := zif h_ k
      refine Zm.l (fun _ _ k_ => z_iload dX8_unaryOf_46 rfl k_) ?_
      refine Zm.l (fun _ _ k_ => z_goto (tgt := 52) dX8_unaryOf_48 rfl k_) ?_
      refine Zm.l (fun _ _ k_ => z_iconst (v := -1) dX8_unaryOf_52 rfl k_) ?_
      refine Zm.l (fun _ _ k_ => z_ixor dX8_unaryOf_53 k_) ?_
      refine Zm.pick [] rfl ?_
      exact zm_callV (as := [vi (5 : Int32), vi (s0 ^^^ (-1 : Int32))]) (st := []) dX8_unaryOf_54 vsX8_822_1 (Nat.le_refl _) (Nat.le_of_ble_eq_true rfl) (Nat.le_of_ble_eq_true rfl) rfl k
theorem sX8_unaryOf_57 {E : zE} {d : Nat} {Q : zO → zM → Prop} (M : zM)  (k : Zm E YX8_unaryOf (d + 1) M [] 93 [] Q) : Zm E YX8_unaryOf (d + 1) M [] 57 [] Q := by
  refine Zm.l (fun _ _ k_ => z_goto (tgt := 93) dX8_unaryOf_57 rfl k_) ?_
  exact k
theorem sX8_unaryOf_84 {E : zE} {d : Nat} {Q : zO → zM → Prop} (M : zM)  (k : Zm E YX8_unaryOf (d + 1) M [] 93 [] Q) : Zm E YX8_unaryOf (d + 1) M [] 84 [] Q := by
  refine Zm.l (fun _ _ k_ => z_goto (tgt := 93) dX8_unaryOf_84 rfl k_) ?_
  exact k
theorem sX8_unaryOf_93 {E : zE} {d : Nat} {Q : zO → zM → Prop} (M : zM)  (k : Q (.inl none) M) : Zm E YX8_unaryOf (d + 1) M [] 93 [] Q := by
  exact zm_vret dX8_unaryOf_93 rfl k
/-! ScriptTypesModel.isTrue(II)Z -/
theorem bX8_isTrue_0 : zdec cX8_isTrue 0 [(0, .iload_n 1, 1), (1, .iconst 5, 1), (2, .if_icmp .ne 13, 3), (5, .iload_n 2, 1), (6, .ifCond .eq 7, 3), (9, .iconst 1, 1), (10, .goto 4, 3), (13, .iconst 0, 1), (14, .ireturn, 1), (15, .iload_n 1, 1), (16, .bipush 6, 2), (18, .if_icmp .ne 18, 3), (21, .aload_n 0, 1), (22, .getfield 20, 3), (25, .iload_n 2, 1), (26, .iaload, 1)] = true := by decide +kernel
theorem dX8_isTrue_0 : decode cX8_isTrue 0 = .ok (.iload_n 1, 1) := zdec_at bX8_isTrue_0 0 rfl
theorem dX8_isTrue_1 : decode cX8_isTrue 1 = .ok (.iconst 5, 1) := zdec_at bX8_isTrue_0 1 rfl
theorem dX8_isTrue_2 : decode cX8_isTrue 2 = .ok (.if_icmp .ne 13, 3) := zdec_at bX8_isTrue_0 2 rfl
theorem dX8_isTrue_5 : decode cX8_isTrue 5 = .ok (.iload_n 2, 1) := zdec_at bX8_isTrue_0 3 rfl
theorem dX8_isTrue_6 : decode cX8_isTrue 6 = .ok (.ifCond .eq 7, 3) := zdec_at bX8_isTrue_0 4 rfl
theorem dX8_isTrue_9 : decode cX8_isTrue 9 = .ok (.iconst 1, 1) := zdec_at bX8_isTrue_0 5 rfl
theorem dX8_isTrue_10 : decode cX8_isTrue 10 = .ok (.goto 4, 3) := zdec_at bX8_isTrue_0 6 rfl
theorem dX8_isTrue_13 : decode cX8_isTrue 13 = .ok (.iconst 0, 1) := zdec_at bX8_isTrue_0 7 rfl
theorem dX8_isTrue_14 : decode cX8_isTrue 14 = .ok (.ireturn, 1) := zdec_at bX8_isTrue_0 8 rfl
theorem dX8_isTrue_15 : decode cX8_isTrue 15 = .ok (.iload_n 1, 1) := zdec_at bX8_isTrue_0 9 rfl
theorem dX8_isTrue_16 : decode cX8_isTrue 16 = .ok (.bipush 6, 2) := zdec_at bX8_isTrue_0 10 rfl
theorem dX8_isTrue_18 : decode cX8_isTrue 18 = .ok (.if_icmp .ne 18, 3) := zdec_at bX8_isTrue_0 11 rfl
theorem dX8_isTrue_21 : decode cX8_isTrue 21 = .ok (.aload_n 0, 1) := zdec_at bX8_isTrue_0 12 rfl
theorem dX8_isTrue_22 : decode cX8_isTrue 22 = .ok (.getfield 20, 3) := zdec_at bX8_isTrue_0 13 rfl
theorem dX8_isTrue_25 : decode cX8_isTrue 25 = .ok (.iload_n 2, 1) := zdec_at bX8_isTrue_0 14 rfl
theorem dX8_isTrue_26 : decode cX8_isTrue 26 = .ok (.iaload, 1) := zdec_at bX8_isTrue_0 15 rfl
theorem bX8_isTrue_27 : zdec cX8_isTrue 27 [(27, .ifCond .le 7, 3), (30, .iconst 1, 1), (31, .goto 4, 3), (34, .iconst 0, 1), (35, .ireturn, 1), (36, .iload_n 1, 1), (37, .iconst 2, 1), (38, .if_icmp .eq 9, 3), (41, .iload_n 1, 1), (42, .bipush 7, 2), (44, .if_icmp .ne 7, 3), (47, .iconst 1, 1), (48, .goto 4, 3), (51, .iconst 0, 1), (52, .ireturn, 1)] = true := by decide +kernel
theorem dX8_isTrue_27 : decode cX8_isTrue 27 = .ok (.ifCond .le 7, 3) := zdec_at bX8_isTrue_27 0 rfl
theorem dX8_isTrue_30 : decode cX8_isTrue 30 = .ok (.iconst 1, 1) := zdec_at bX8_isTrue_27 1 rfl
theorem dX8_isTrue_31 : decode cX8_isTrue 31 = .ok (.goto 4, 3) := zdec_at bX8_isTrue_27 2 rfl
theorem dX8_isTrue_34 : decode cX8_isTrue 34 = .ok (.iconst 0, 1) := zdec_at bX8_isTrue_27 3 rfl
theorem dX8_isTrue_35 : decode cX8_isTrue 35 = .ok (.ireturn, 1) := zdec_at bX8_isTrue_27 4 rfl
theorem dX8_isTrue_36 : decode cX8_isTrue 36 = .ok (.iload_n 1, 1) := zdec_at bX8_isTrue_27 5 rfl
theorem dX8_isTrue_37 : decode cX8_isTrue 37 = .ok (.iconst 2, 1) := zdec_at bX8_isTrue_27 6 rfl
theorem dX8_isTrue_38 : decode cX8_isTrue 38 = .ok (.if_icmp .eq 9, 3) := zdec_at bX8_isTrue_27 7 rfl
theorem dX8_isTrue_41 : decode cX8_isTrue 41 = .ok (.iload_n 1, 1) := zdec_at bX8_isTrue_27 8 rfl
theorem dX8_isTrue_42 : decode cX8_isTrue 42 = .ok (.bipush 7, 2) := zdec_at bX8_isTrue_27 9 rfl
theorem dX8_isTrue_44 : decode cX8_isTrue 44 = .ok (.if_icmp .ne 7, 3) := zdec_at bX8_isTrue_27 10 rfl
theorem dX8_isTrue_47 : decode cX8_isTrue 47 = .ok (.iconst 1, 1) := zdec_at bX8_isTrue_27 11 rfl
theorem dX8_isTrue_48 : decode cX8_isTrue 48 = .ok (.goto 4, 3) := zdec_at bX8_isTrue_27 12 rfl
theorem dX8_isTrue_51 : decode cX8_isTrue 51 = .ok (.iconst 0, 1) := zdec_at bX8_isTrue_27 13 rfl
theorem dX8_isTrue_52 : decode cX8_isTrue 52 = .ok (.ireturn, 1) := zdec_at bX8_isTrue_27 14 rfl
theorem sX8_isTrue_0 {E : zE} {d : Nat} {Q : zO → zM → Prop} (M : zM) (l1 : Int32) (l2 : Int32) (k : if l1 = (5 : Int32) then (if l2 = 0 then (Q (.inl (some (vi (0 : Int32)))) M) else (Q (.inl (some (vi (1 : Int32)))) M)) else (if l1 = (6 : Int32) then (vp_in l2 400 ∧ (if (gi M 101 (l2).toNatClampNeg) ≤ 0 then (Q (.inl (some (vi (0 : Int32)))) M) else (Q (.inl (some (vi (1 : Int32)))) M))) else (if l1 = (2 : Int32) then (Q (.inl (some (vi (1 : Int32)))) M) else (if l1 = (7 : Int32) then (Q (.inl (some (vi (1 : Int32)))) M) else (Q (.inl (some (vi (0 : Int32)))) M))))) : Zm E YX8_isTrue d M [(0, vr (some (97, 1, 0))), (1, vi l1), (2, vi l2)] 0 [] Q := by
  refine Zm.l (fun _ _ k_ => z_iload_n dX8_isTrue_0 rfl rfl k_) ?_
  refine Zm.l (fun _ _ k_ => z_iconst (v := 5) dX8_isTrue_1 rfl k_) ?_
  refine Zm.brn (fun _ _ k1_ k2_ => z_icmp_ne (tgt := 15) dX8_isTrue_2 rfl k1_ k2_) (fun h_ => ?_) (fun h_ => ?_)
  · have k := zif h_ k
    refine Zm.l (fun _ _ k_ => z_iload_n dX8_isTrue_15 rfl rfl k_) ?_
    refine Zm.l (fun _ _ k_ => z_bipush (v := 6) dX8_isTrue_16 rfl k_) ?_
    refine Zm.brn (fun _ _ k1_ k2_ => z_icmp_ne (tgt := 36) dX8_isTrue_18 rfl k1_ k2_) (fun h_ => ?_) (fun h_ => ?_)
    · have k := zif h_ k
      refine Zm.l (fun _ _ k_ => z_iload_n dX8_isTrue_36 rfl rfl k_) ?_
      refine Zm.l (fun _ _ k_ => z_iconst (v := 2) dX8_isTrue_37 rfl k_) ?_
      refine Zm.br (fun _ _ k1_ k2_ => z_icmp_eq (tgt := 47) dX8_isTrue_38 rfl k1_ k2_) (fun h_ => ?_) (fun h_ => ?_)
      · have k := zit h_ k
        refine Zm.l (fun _ _ k_ => z_iconst (v := 1) dX8_isTrue_47 rfl k_) ?_
        refine Zm.l (fun _ _ k_ => z_goto (tgt := 52) dX8_isTrue_48 rfl k_) ?_
        exact zm_iret dX8_isTrue_52 rfl (by decide) k
      · have k := zif h_ k
        refine Zm.l (fun _ _ k_ => z_iload_n dX8_isTrue_41 rfl rfl k_) ?_
        refine Zm.l (fun _ _ k_ => z_bipush (v := 7) dX8_isTrue_42 rfl k_) ?_
        refine Zm.brn (fun _ _ k1_ k2_ => z_icmp_ne (tgt := 51) dX8_isTrue_44 rfl k1_ k2_) (fun h_ => ?_) (fun h_ => ?_)
        · have k := zif h_ k
          refine Zm.l (fun _ _ k_ => z_iconst (v := 0) dX8_isTrue_51 rfl k_) ?_
          exact zm_iret dX8_isTrue_52 rfl (by decide) k
        · have k := zit h_ k
          refine Zm.l (fun _ _ k_ => z_iconst (v := 1) dX8_isTrue_47 rfl k_) ?_
          refine Zm.l (fun _ _ k_ => z_goto (tgt := 52) dX8_isTrue_48 rfl k_) ?_
          exact zm_iret dX8_isTrue_52 rfl (by decide) k
    · have k := zit h_ k
      refine Zm.l (fun _ _ k_ => z_aload_n dX8_isTrue_21 rfl rfl k_) ?_
      refine zm_getr 3 dX8_isTrue_22 fsX8_20_1 rfl ?_
      refine Zm.l (fun _ _ k_ => z_iload_n dX8_isTrue_25 rfl rfl k_) ?_
      obtain ⟨b_, k⟩ := k
      refine zm_iald dX8_isTrue_26 b_ (by decide) (by decide) ?_
      refine Zm.br (fun _ _ k1_ k2_ => z_if_le (tgt := 34) dX8_isTrue_27 rfl k1_ k2_) (fun h_ => ?_) (fun h_ => ?_)
      · have k := zit h_ k
        refine Zm.l (fun _ _ k_ => z_iconst (v := 0) dX8_isTrue_34 rfl k_) ?_
        exact zm_iret dX8_isTrue_35 rfl (by decide) k
      · have k := zif h_ k
        refine Zm.l (fun _ _ k_ => z_iconst (v := 1) dX8_isTrue_30 rfl k_) ?_
        refine Zm.l (fun _ _ k_ => z_goto (tgt := 35) dX8_isTrue_31 rfl k_) ?_
        exact zm_iret dX8_isTrue_35 rfl (by decide) k
  · have k := zit h_ k
    refine Zm.l (fun _ _ k_ => z_iload_n dX8_isTrue_5 rfl rfl k_) ?_
    refine Zm.br (fun _ _ k1_ k2_ => z_if_eq (tgt := 13) dX8_isTrue_6 rfl k1_ k2_) (fun h_ => ?_) (fun h_ => ?_)
    · have k := zit h_ k
      refine Zm.l (fun _ _ k_ => z_iconst (v := 0) dX8_isTrue_13 rfl k_) ?_
      exact zm_iret dX8_isTrue_14 rfl (by decide) k
    · have k := zif h_ k
      refine Zm.l (fun _ _ k_ => z_iconst (v := 1) dX8_isTrue_9 rfl k_) ?_
      refine Zm.l (fun _ _ k_ => z_goto (tgt := 14) dX8_isTrue_10 rfl k_) ?_
      exact zm_iret dX8_isTrue_14 rfl (by decide) k
/-! ScriptTypesModel.numberOf(II)I -/
theorem bX8_numberOf_0 : zdec cX8_numberOf 0 [(0, .aload_n 0, 1), (1, .iload_n 1, 1), (2, .ifCond .eq 18, 3), (5, .iload_n 1, 1), (6, .iconst 4, 1), (7, .if_icmp .eq 13, 3), (10, .iload_n 1, 1), (11, .bipush 7, 2), (13, .if_icmp .ge 7, 3), (16, .iconst 1, 1), (17, .goto 4, 3), (20, .iconst 0, 1), (21, .putfield 806, 3), (24, .iload_n 1, 1), (25, .iconst 5, 1), (26, .if_icmp .ne 5, 3)] = true := by decide +kernel
theorem dX8_numberOf_0 : decode cX8_numberOf 0 = .ok (.aload_n 0, 1) := zdec_at bX8_numberOf_0 0 rfl
theorem dX8_numberOf_1 : decode cX8_numberOf 1 = .ok (.iload_n 1, 1) := zdec_at bX8_numberOf_0 1 rfl
theorem dX8_numberOf_2 : decode cX8_numberOf 2 = .ok (.ifCond .eq 18, 3) := zdec_at bX8_numberOf_0 2 rfl
theorem dX8_numberOf_5 : decode cX8_numberOf 5 = .ok (.iload_n 1, 1) := zdec_at bX8_numberOf_0 3 rfl
theorem dX8_numberOf_6 : decode cX8_numberOf 6 = .ok (.iconst 4, 1) := zdec_at bX8_numberOf_0 4 rfl
theorem dX8_numberOf_7 : decode cX8_numberOf 7 = .ok (.if_icmp .eq 13, 3) := zdec_at bX8_numberOf_0 5 rfl
theorem dX8_numberOf_10 : decode cX8_numberOf 10 = .ok (.iload_n 1, 1) := zdec_at bX8_numberOf_0 6 rfl
theorem dX8_numberOf_11 : decode cX8_numberOf 11 = .ok (.bipush 7, 2) := zdec_at bX8_numberOf_0 7 rfl
theorem dX8_numberOf_13 : decode cX8_numberOf 13 = .ok (.if_icmp .ge 7, 3) := zdec_at bX8_numberOf_0 8 rfl
theorem dX8_numberOf_16 : decode cX8_numberOf 16 = .ok (.iconst 1, 1) := zdec_at bX8_numberOf_0 9 rfl
theorem dX8_numberOf_17 : decode cX8_numberOf 17 = .ok (.goto 4, 3) := zdec_at bX8_numberOf_0 10 rfl
theorem dX8_numberOf_20 : decode cX8_numberOf 20 = .ok (.iconst 0, 1) := zdec_at bX8_numberOf_0 11 rfl
theorem dX8_numberOf_21 : decode cX8_numberOf 21 = .ok (.putfield 806, 3) := zdec_at bX8_numberOf_0 12 rfl
theorem dX8_numberOf_24 : decode cX8_numberOf 24 = .ok (.iload_n 1, 1) := zdec_at bX8_numberOf_0 13 rfl
theorem dX8_numberOf_25 : decode cX8_numberOf 25 = .ok (.iconst 5, 1) := zdec_at bX8_numberOf_0 14 rfl
theorem dX8_numberOf_26 : decode cX8_numberOf 26 = .ok (.if_icmp .ne 5, 3) := zdec_at bX8_numberOf_0 15 rfl
theorem bX8_numberOf_29 : zdec cX8_numberOf 29 [(29, .iload_n 2, 1), (30, .ireturn, 1), (31, .iload_n 1, 1), (32, .bipush 6, 2), (34, .if_icmp .ne 9, 3), (37, .aload_n 0, 1), (38, .iload_n 2, 1), (39, .invokevirtual 809, 3), (42, .ireturn, 1), (43, .iload_n 1, 1), (44, .iconst 2, 1), (45, .if_icmp .ne 7, 3), (48, .iconst 1, 1), (49, .goto 4, 3), (52, .iconst 0, 1), (53, .ireturn, 1)] = true := by decide +kernel
theorem dX8_numberOf_29 : decode cX8_numberOf 29 = .ok (.iload_n 2, 1) := zdec_at bX8_numberOf_29 0 rfl
theorem dX8_numberOf_30 : decode cX8_numberOf 30 = .ok (.ireturn, 1) := zdec_at bX8_numberOf_29 1 rfl
theorem dX8_numberOf_31 : decode cX8_numberOf 31 = .ok (.iload_n 1, 1) := zdec_at bX8_numberOf_29 2 rfl
theorem dX8_numberOf_32 : decode cX8_numberOf 32 = .ok (.bipush 6, 2) := zdec_at bX8_numberOf_29 3 rfl
theorem dX8_numberOf_34 : decode cX8_numberOf 34 = .ok (.if_icmp .ne 9, 3) := zdec_at bX8_numberOf_29 4 rfl
theorem dX8_numberOf_37 : decode cX8_numberOf 37 = .ok (.aload_n 0, 1) := zdec_at bX8_numberOf_29 5 rfl
theorem dX8_numberOf_38 : decode cX8_numberOf 38 = .ok (.iload_n 2, 1) := zdec_at bX8_numberOf_29 6 rfl
theorem dX8_numberOf_39 : decode cX8_numberOf 39 = .ok (.invokevirtual 809, 3) := zdec_at bX8_numberOf_29 7 rfl
theorem dX8_numberOf_42 : decode cX8_numberOf 42 = .ok (.ireturn, 1) := zdec_at bX8_numberOf_29 8 rfl
theorem dX8_numberOf_43 : decode cX8_numberOf 43 = .ok (.iload_n 1, 1) := zdec_at bX8_numberOf_29 9 rfl
theorem dX8_numberOf_44 : decode cX8_numberOf 44 = .ok (.iconst 2, 1) := zdec_at bX8_numberOf_29 10 rfl
theorem dX8_numberOf_45 : decode cX8_numberOf 45 = .ok (.if_icmp .ne 7, 3) := zdec_at bX8_numberOf_29 11 rfl
theorem dX8_numberOf_48 : decode cX8_numberOf 48 = .ok (.iconst 1, 1) := zdec_at bX8_numberOf_29 12 rfl
theorem dX8_numberOf_49 : decode cX8_numberOf 49 = .ok (.goto 4, 3) := zdec_at bX8_numberOf_29 13 rfl
theorem dX8_numberOf_52 : decode cX8_numberOf 52 = .ok (.iconst 0, 1) := zdec_at bX8_numberOf_29 14 rfl
theorem dX8_numberOf_53 : decode cX8_numberOf 53 = .ok (.ireturn, 1) := zdec_at bX8_numberOf_29 15 rfl
theorem sX8_numberOf_0 {E : zE} {d : Nat} {Q : zO → zM → Prop} (M : zM) (l1 : Int32) (l2 : Int32) (k : if l1 = 0 then (Zm E YX8_numberOf (d + 1) M [(0, vr (some (97, 1, 0))), (1, vi l1), (2, vi l2)] 21 [vi (0 : Int32), vr (some (97, 1, 0))] Q) else (if l1 = (4 : Int32) then (Zm E YX8_numberOf (d + 1) M [(0, vr (some (97, 1, 0))), (1, vi l1), (2, vi l2)] 21 [vi (0 : Int32), vr (some (97, 1, 0))] Q) else (if (7 : Int32) ≤ l1 then (Zm E YX8_numberOf (d + 1) M [(0, vr (some (97, 1, 0))), (1, vi l1), (2, vi l2)] 21 [vi (0 : Int32), vr (some (97, 1, 0))] Q) else (Zm E YX8_numberOf (d + 1) M [(0, vr (some (97, 1, 0))), (1, vi l1), (2, vi l2)] 21 [vi (1 : Int32), vr (some (97, 1, 0))] Q)))) : Zm E YX8_numberOf (d + 1) M [(0, vr (some (97, 1, 0))), (1, vi l1), (2, vi l2)] 0 [] Q := by
  refine Zm.l (fun _ _ k_ => z_aload_n dX8_numberOf_0 rfl rfl k_) ?_
  refine Zm.l (fun _ _ k_ => z_iload_n dX8_numberOf_1 rfl rfl k_) ?_
  refine Zm.br (fun _ _ k1_ k2_ => z_if_eq (tgt := 20) dX8_numberOf_2 rfl k1_ k2_) (fun h_ => ?_) (fun h_ => ?_)
  · have k := zit h_ k
    refine Zm.l (fun _ _ k_ => z_iconst (v := 0) dX8_numberOf_20 rfl k_) ?_
    exact k
  · have k := zif h_ k
    refine Zm.l (fun _ _ k_ => z_iload_n dX8_numberOf_5 rfl rfl k_) ?_
    refine Zm.l (fun _ _ k_ => z_iconst (v := 4) dX8_numberOf_6 rfl k_) ?_
    refine Zm.br (fun _ _ k1_ k2_ => z_icmp_eq (tgt := 20) dX8_numberOf_7 rfl k1_ k2_) (fun h_ => ?_) (fun h_ => ?_)
    · have k := zit h_ k
      refine Zm.l (fun _ _ k_ => z_iconst (v := 0) dX8_numberOf_20 rfl k_) ?_
      exact k
    · have k := zif h_ k
      refine Zm.l (fun _ _ k_ => z_iload_n dX8_numberOf_10 rfl rfl k_) ?_
      refine Zm.l (fun _ _ k_ => z_bipush (v := 7) dX8_numberOf_11 rfl k_) ?_
      refine Zm.br (fun _ _ k1_ k2_ => z_icmp_ge (tgt := 20) dX8_numberOf_13 rfl k1_ k2_) (fun h_ => ?_) (fun h_ => ?_)
      · have k := zit h_ k
        refine Zm.l (fun _ _ k_ => z_iconst (v := 0) dX8_numberOf_20 rfl k_) ?_
        exact k
      · have k := zif h_ k
        refine Zm.l (fun _ _ k_ => z_iconst (v := 1) dX8_numberOf_16 rfl k_) ?_
        refine Zm.l (fun _ _ k_ => z_goto (tgt := 21) dX8_numberOf_17 rfl k_) ?_
        exact k
theorem sX8_numberOf_21 {E : zE} {d : Nat} {Q : zO → zM → Prop} (M : zM) (l1 : Int32) (l2 : Int32) (s0 : Int32) (k : zfit .boolean s0 ∧ (if l1 = (5 : Int32) then (Q (.inl (some (vi l2))) (si M 97 113 s0)) else (if l1 = (6 : Int32) then (Zm E YX8_numberOfString d (si M 97 113 s0) (zargs 0 [vr (some (97, 1, 0)), vi l2]) 0 [] (zma E YX8_numberOf (d + 1) [] 39 3 [] Q)) else (if l1 = (2 : Int32) then (Q (.inl (some (vi (1 : Int32)))) (si M 97 113 s0)) else (Q (.inl (some (vi (0 : Int32)))) (si M 97 113 s0)))))) : Zm E YX8_numberOf (d + 1) M [(0, vr (some (97, 1, 0))), (1, vi l1), (2, vi l2)] 21 [vi s0, vr (some (97, 1, 0))] Q := by
  obtain ⟨b_, k⟩ := k
  refine zm_puti (by decide) (by decide) dX8_numberOf_21 (zfwN.w fwX8_806_1) rfl b_ ?_
  refine Zm.l (fun _ _ k_ => z_iload_n dX8_numberOf_24 rfl rfl k_) ?_
  refine Zm.l (fun _ _ k_ => z_iconst (v := 5) dX8_numberOf_25 rfl k_) ?_
  refine Zm.brn (fun _ _ k1_ k2_ => z_icmp_ne (tgt := 31) dX8_numberOf_26 rfl k1_ k2_) (fun h_ => ?_) (fun h_ => ?_)
  · have k := zif h_ k
    refine Zm.l (fun _ _ k_ => z_iload_n dX8_numberOf_31 rfl rfl k_) ?_
    refine Zm.l (fun _ _ k_ => z_bipush (v := 6) dX8_numberOf_32 rfl k_) ?_
    refine Zm.brn (fun _ _ k1_ k2_ => z_icmp_ne (tgt := 43) dX8_numberOf_34 rfl k1_ k2_) (fun h_ => ?_) (fun h_ => ?_)
    · have k := zif h_ k
      refine Zm.l (fun _ _ k_ => z_iload_n dX8_numberOf_43 rfl rfl k_) ?_
      refine Zm.l (fun _ _ k_ => z_iconst (v := 2) dX8_numberOf_44 rfl k_) ?_
      refine Zm.brn (fun _ _ k1_ k2_ => z_icmp_ne (tgt := 52) dX8_numberOf_45 rfl k1_ k2_) (fun h_ => ?_) (fun h_ => ?_)
      · have k := zif h_ k
        refine Zm.l (fun _ _ k_ => z_iconst (v := 0) dX8_numberOf_52 rfl k_) ?_
        exact zm_iret dX8_numberOf_53 rfl rfl k
      · have k := zit h_ k
        refine Zm.l (fun _ _ k_ => z_iconst (v := 1) dX8_numberOf_48 rfl k_) ?_
        refine Zm.l (fun _ _ k_ => z_goto (tgt := 53) dX8_numberOf_49 rfl k_) ?_
        exact zm_iret dX8_numberOf_53 rfl rfl k
    · have k := zit h_ k
      refine Zm.l (fun _ _ k_ => z_aload_n dX8_numberOf_37 rfl rfl k_) ?_
      refine Zm.l (fun _ _ k_ => z_iload_n dX8_numberOf_38 rfl rfl k_) ?_
      refine Zm.pick [] rfl ?_
      exact zm_callV (as := [vi l2]) (st := []) dX8_numberOf_39 vsX8_809_1 (Nat.le_refl _) (Nat.le_of_ble_eq_true rfl) (Nat.le_of_ble_eq_true rfl) rfl k
  · have k := zit h_ k
    refine Zm.l (fun _ _ k_ => z_iload_n dX8_numberOf_29 rfl rfl k_) ?_
    exact zm_iret dX8_numberOf_30 rfl rfl k
theorem sX8_numberOf_42 {E : zE} {d : Nat} {Q : zO → zM → Prop} (M : zM) (s0 : Int32) (k : Q (.inl (some (vi s0))) M) : Zm E YX8_numberOf (d + 1) M [] 42 [vi s0] Q := by
  exact zm_iret dX8_numberOf_42 rfl rfl k
/-! ScriptTypesModel.numberOfString(I)I -/
theorem bX8_numberOfString_0 : zdec cX8_numberOfString 0 [(0, .aload_n 0, 1), (1, .getfield 20, 3), (4, .iload_n 1, 1), (5, .iaload, 1), (6, .istore_n 2, 1), (7, .iload_n 2, 1), (8, .ifCond .le 21, 3), (11, .aload_n 0, 1), (12, .getfield 16, 3), (15, .bipush 60, 2), (17, .iload_n 1, 1), (18, .imul, 1), (19, .caload, 1), (20, .bipush 45, 2), (22, .if_icmp .ne 7, 3), (25, .iconst 1, 1)] = true := by decide +kernel
theorem dX8_numberOfString_0 : decode cX8_numberOfString 0 = .ok (.aload_n 0, 1) := zdec_at bX8_numberOfString_0 0 rfl
theorem dX8_numberOfString_1 : decode cX8_numberOfString 1 = .ok (.getfield 20, 3) := zdec_at bX8_numberOfString_0 1 rfl
theorem dX8_numberOfString_4 : decode cX8_numberOfString 4 = .ok (.iload_n 1, 1) := zdec_at bX8_numberOfString_0 2 rfl
theorem dX8_numberOfString_5 : decode cX8_numberOfString 5 = .ok (.iaload, 1) := zdec_at bX8_numberOfString_0 3 rfl
theorem dX8_numberOfString_6 : decode cX8_numberOfString 6 = .ok (.istore_n 2, 1) := zdec_at bX8_numberOfString_0 4 rfl
theorem dX8_numberOfString_7 : decode cX8_numberOfString 7 = .ok (.iload_n 2, 1) := zdec_at bX8_numberOfString_0 5 rfl
theorem dX8_numberOfString_8 : decode cX8_numberOfString 8 = .ok (.ifCond .le 21, 3) := zdec_at bX8_numberOfString_0 6 rfl
theorem dX8_numberOfString_11 : decode cX8_numberOfString 11 = .ok (.aload_n 0, 1) := zdec_at bX8_numberOfString_0 7 rfl
theorem dX8_numberOfString_12 : decode cX8_numberOfString 12 = .ok (.getfield 16, 3) := zdec_at bX8_numberOfString_0 8 rfl
theorem dX8_numberOfString_15 : decode cX8_numberOfString 15 = .ok (.bipush 60, 2) := zdec_at bX8_numberOfString_0 9 rfl
theorem dX8_numberOfString_17 : decode cX8_numberOfString 17 = .ok (.iload_n 1, 1) := zdec_at bX8_numberOfString_0 10 rfl
theorem dX8_numberOfString_18 : decode cX8_numberOfString 18 = .ok (.imul, 1) := zdec_at bX8_numberOfString_0 11 rfl
theorem dX8_numberOfString_19 : decode cX8_numberOfString 19 = .ok (.caload, 1) := zdec_at bX8_numberOfString_0 12 rfl
theorem dX8_numberOfString_20 : decode cX8_numberOfString 20 = .ok (.bipush 45, 2) := zdec_at bX8_numberOfString_0 13 rfl
theorem dX8_numberOfString_22 : decode cX8_numberOfString 22 = .ok (.if_icmp .ne 7, 3) := zdec_at bX8_numberOfString_0 14 rfl
theorem dX8_numberOfString_25 : decode cX8_numberOfString 25 = .ok (.iconst 1, 1) := zdec_at bX8_numberOfString_0 15 rfl
theorem bX8_numberOfString_26 : zdec cX8_numberOfString 26 [(26, .goto 4, 3), (29, .iconst 0, 1), (30, .istore_n 3, 1), (31, .iload_n 2, 1), (32, .iload_n 3, 1), (33, .isub, 1), (34, .iconst 1, 1), (35, .if_icmp .lt 15, 3), (38, .iload_n 2, 1), (39, .iload_n 3, 1), (40, .isub, 1), (41, .bipush 10, 2), (43, .if_icmp .gt 7, 3), (46, .iconst 1, 1), (47, .goto 4, 3), (50, .iconst 0, 1)] = true := by decide +kernel
theorem dX8_numberOfString_26 : decode cX8_numberOfString 26 = .ok (.goto 4, 3) := zdec_at bX8_numberOfString_26 0 rfl
theorem dX8_numberOfString_29 : decode cX8_numberOfString 29 = .ok (.iconst 0, 1) := zdec_at bX8_numberOfString_26 1 rfl
theorem dX8_numberOfString_30 : decode cX8_numberOfString 30 = .ok (.istore_n 3, 1) := zdec_at bX8_numberOfString_26 2 rfl
theorem dX8_numberOfString_31 : decode cX8_numberOfString 31 = .ok (.iload_n 2, 1) := zdec_at bX8_numberOfString_26 3 rfl
theorem dX8_numberOfString_32 : decode cX8_numberOfString 32 = .ok (.iload_n 3, 1) := zdec_at bX8_numberOfString_26 4 rfl
theorem dX8_numberOfString_33 : decode cX8_numberOfString 33 = .ok (.isub, 1) := zdec_at bX8_numberOfString_26 5 rfl
theorem dX8_numberOfString_34 : decode cX8_numberOfString 34 = .ok (.iconst 1, 1) := zdec_at bX8_numberOfString_26 6 rfl
theorem dX8_numberOfString_35 : decode cX8_numberOfString 35 = .ok (.if_icmp .lt 15, 3) := zdec_at bX8_numberOfString_26 7 rfl
theorem dX8_numberOfString_38 : decode cX8_numberOfString 38 = .ok (.iload_n 2, 1) := zdec_at bX8_numberOfString_26 8 rfl
theorem dX8_numberOfString_39 : decode cX8_numberOfString 39 = .ok (.iload_n 3, 1) := zdec_at bX8_numberOfString_26 9 rfl
theorem dX8_numberOfString_40 : decode cX8_numberOfString 40 = .ok (.isub, 1) := zdec_at bX8_numberOfString_26 10 rfl
theorem dX8_numberOfString_41 : decode cX8_numberOfString 41 = .ok (.bipush 10, 2) := zdec_at bX8_numberOfString_26 11 rfl
theorem dX8_numberOfString_43 : decode cX8_numberOfString 43 = .ok (.if_icmp .gt 7, 3) := zdec_at bX8_numberOfString_26 12 rfl
theorem dX8_numberOfString_46 : decode cX8_numberOfString 46 = .ok (.iconst 1, 1) := zdec_at bX8_numberOfString_26 13 rfl
theorem dX8_numberOfString_47 : decode cX8_numberOfString 47 = .ok (.goto 4, 3) := zdec_at bX8_numberOfString_26 14 rfl
theorem dX8_numberOfString_50 : decode cX8_numberOfString 50 = .ok (.iconst 0, 1) := zdec_at bX8_numberOfString_26 15 rfl
theorem bX8_numberOfString_51 : zdec cX8_numberOfString 51 [(51, .istore 4, 2), (53, .lconst 0, 1), (54, .lstore 5, 2), (56, .iload_n 3, 1), (57, .istore 7, 2), (59, .iload 7, 2), (61, .iload_n 2, 1), (62, .if_icmp .ge 57, 3), (65, .iload 4, 2), (67, .ifCond .eq 52, 3), (70, .aload_n 0, 1), (71, .getfield 16, 3), (74, .bipush 60, 2), (76, .iload_n 1, 1), (77, .imul, 1), (78, .iload 7, 2)] = true := by decide +kernel
theorem dX8_numberOfString_51 : decode cX8_numberOfString 51 = .ok (.istore 4, 2) := zdec_at bX8_numberOfString_51 0 rfl
theorem dX8_numberOfString_53 : decode cX8_numberOfString 53 = .ok (.lconst 0, 1) := zdec_at bX8_numberOfString_51 1 rfl
theorem dX8_numberOfString_54 : decode cX8_numberOfString 54 = .ok (.lstore 5, 2) := zdec_at bX8_numberOfString_51 2 rfl
theorem dX8_numberOfString_56 : decode cX8_numberOfString 56 = .ok (.iload_n 3, 1) := zdec_at bX8_numberOfString_51 3 rfl
theorem dX8_numberOfString_57 : decode cX8_numberOfString 57 = .ok (.istore 7, 2) := zdec_at bX8_numberOfString_51 4 rfl
theorem dX8_numberOfString_59 : decode cX8_numberOfString 59 = .ok (.iload 7, 2) := zdec_at bX8_numberOfString_51 5 rfl
theorem dX8_numberOfString_61 : decode cX8_numberOfString 61 = .ok (.iload_n 2, 1) := zdec_at bX8_numberOfString_51 6 rfl
theorem dX8_numberOfString_62 : decode cX8_numberOfString 62 = .ok (.if_icmp .ge 57, 3) := zdec_at bX8_numberOfString_51 7 rfl
theorem dX8_numberOfString_65 : decode cX8_numberOfString 65 = .ok (.iload 4, 2) := zdec_at bX8_numberOfString_51 8 rfl
theorem dX8_numberOfString_67 : decode cX8_numberOfString 67 = .ok (.ifCond .eq 52, 3) := zdec_at bX8_numberOfString_51 9 rfl
theorem dX8_numberOfString_70 : decode cX8_numberOfString 70 = .ok (.aload_n 0, 1) := zdec_at bX8_numberOfString_51 10 rfl
theorem dX8_numberOfString_71 : decode cX8_numberOfString 71 = .ok (.getfield 16, 3) := zdec_at bX8_numberOfString_51 11 rfl
theorem dX8_numberOfString_74 : decode cX8_numberOfString 74 = .ok (.bipush 60, 2) := zdec_at bX8_numberOfString_51 12 rfl
theorem dX8_numberOfString_76 : decode cX8_numberOfString 76 = .ok (.iload_n 1, 1) := zdec_at bX8_numberOfString_51 13 rfl
theorem dX8_numberOfString_77 : decode cX8_numberOfString 77 = .ok (.imul, 1) := zdec_at bX8_numberOfString_51 14 rfl
theorem dX8_numberOfString_78 : decode cX8_numberOfString 78 = .ok (.iload 7, 2) := zdec_at bX8_numberOfString_51 15 rfl
theorem bX8_numberOfString_80 : zdec cX8_numberOfString 80 [(80, .iadd, 1), (81, .caload, 1), (82, .invokestatic 341, 3), (85, .istore 4, 2), (87, .ldc2_w 381, 3), (90, .lload 5, 2), (92, .lmul, 1), (93, .aload_n 0, 1), (94, .getfield 16, 3), (97, .bipush 60, 2), (99, .iload_n 1, 1), (100, .imul, 1), (101, .iload 7, 2), (103, .iadd, 1), (104, .caload, 1), (105, .i2l, 1)] = true := by decide +kernel
theorem dX8_numberOfString_80 : decode cX8_numberOfString 80 = .ok (.iadd, 1) := zdec_at bX8_numberOfString_80 0 rfl
theorem dX8_numberOfString_81 : decode cX8_numberOfString 81 = .ok (.caload, 1) := zdec_at bX8_numberOfString_80 1 rfl
theorem dX8_numberOfString_82 : decode cX8_numberOfString 82 = .ok (.invokestatic 341, 3) := zdec_at bX8_numberOfString_80 2 rfl
theorem dX8_numberOfString_85 : decode cX8_numberOfString 85 = .ok (.istore 4, 2) := zdec_at bX8_numberOfString_80 3 rfl
theorem dX8_numberOfString_87 : decode cX8_numberOfString 87 = .ok (.ldc2_w 381, 3) := zdec_at bX8_numberOfString_80 4 rfl
theorem dX8_numberOfString_90 : decode cX8_numberOfString 90 = .ok (.lload 5, 2) := zdec_at bX8_numberOfString_80 5 rfl
theorem dX8_numberOfString_92 : decode cX8_numberOfString 92 = .ok (.lmul, 1) := zdec_at bX8_numberOfString_80 6 rfl
theorem dX8_numberOfString_93 : decode cX8_numberOfString 93 = .ok (.aload_n 0, 1) := zdec_at bX8_numberOfString_80 7 rfl
theorem dX8_numberOfString_94 : decode cX8_numberOfString 94 = .ok (.getfield 16, 3) := zdec_at bX8_numberOfString_80 8 rfl
theorem dX8_numberOfString_97 : decode cX8_numberOfString 97 = .ok (.bipush 60, 2) := zdec_at bX8_numberOfString_80 9 rfl
theorem dX8_numberOfString_99 : decode cX8_numberOfString 99 = .ok (.iload_n 1, 1) := zdec_at bX8_numberOfString_80 10 rfl
theorem dX8_numberOfString_100 : decode cX8_numberOfString 100 = .ok (.imul, 1) := zdec_at bX8_numberOfString_80 11 rfl
theorem dX8_numberOfString_101 : decode cX8_numberOfString 101 = .ok (.iload 7, 2) := zdec_at bX8_numberOfString_80 12 rfl
theorem dX8_numberOfString_103 : decode cX8_numberOfString 103 = .ok (.iadd, 1) := zdec_at bX8_numberOfString_80 13 rfl
theorem dX8_numberOfString_104 : decode cX8_numberOfString 104 = .ok (.caload, 1) := zdec_at bX8_numberOfString_80 14 rfl
theorem dX8_numberOfString_105 : decode cX8_numberOfString 105 = .ok (.i2l, 1) := zdec_at bX8_numberOfString_80 15 rfl
theorem bX8_numberOfString_106 : zdec cX8_numberOfString 106 [(106, .ladd, 1), (107, .ldc2_w 383, 3), (110, .lsub, 1), (111, .lstore 5, 2), (113, .iinc 7 1, 3), (116, .goto (-57), 3), (119, .iload_n 3, 1), (120, .iconst 1, 1), (121, .if_icmp .ne 9, 3), (124, .lload 5, 2), (126, .lneg, 1), (127, .goto 5, 3), (130, .lload 5, 2), (132, .lstore 5, 2), (134, .aload_n 0, 1), (135, .iload_n 2, 1)] = true := by decide +kernel
theorem dX8_numberOfString_106 : decode cX8_numberOfString 106 = .ok (.ladd, 1) := zdec_at bX8_numberOfString_106 0 rfl
theorem dX8_numberOfString_107 : decode cX8_numberOfString 107 = .ok (.ldc2_w 383, 3) := zdec_at bX8_numberOfString_106 1 rfl
theorem dX8_numberOfString_110 : decode cX8_numberOfString 110 = .ok (.lsub, 1) := zdec_at bX8_numberOfString_106 2 rfl
theorem dX8_numberOfString_111 : decode cX8_numberOfString 111 = .ok (.lstore 5, 2) := zdec_at bX8_numberOfString_106 3 rfl
theorem dX8_numberOfString_113 : decode cX8_numberOfString 113 = .ok (.iinc 7 1, 3) := zdec_at bX8_numberOfString_106 4 rfl
theorem dX8_numberOfString_116 : decode cX8_numberOfString 116 = .ok (.goto (-57), 3) := zdec_at bX8_numberOfString_106 5 rfl
theorem dX8_numberOfString_119 : decode cX8_numberOfString 119 = .ok (.iload_n 3, 1) := zdec_at bX8_numberOfString_106 6 rfl
theorem dX8_numberOfString_120 : decode cX8_numberOfString 120 = .ok (.iconst 1, 1) := zdec_at bX8_numberOfString_106 7 rfl
theorem dX8_numberOfString_121 : decode cX8_numberOfString 121 = .ok (.if_icmp .ne 9, 3) := zdec_at bX8_numberOfString_106 8 rfl
theorem dX8_numberOfString_124 : decode cX8_numberOfString 124 = .ok (.lload 5, 2) := zdec_at bX8_numberOfString_106 9 rfl
theorem dX8_numberOfString_126 : decode cX8_numberOfString 126 = .ok (.lneg, 1) := zdec_at bX8_numberOfString_106 10 rfl
theorem dX8_numberOfString_127 : decode cX8_numberOfString 127 = .ok (.goto 5, 3) := zdec_at bX8_numberOfString_106 11 rfl
theorem dX8_numberOfString_130 : decode cX8_numberOfString 130 = .ok (.lload 5, 2) := zdec_at bX8_numberOfString_106 12 rfl
theorem dX8_numberOfString_132 : decode cX8_numberOfString 132 = .ok (.lstore 5, 2) := zdec_at bX8_numberOfString_106 13 rfl
theorem dX8_numberOfString_134 : decode cX8_numberOfString 134 = .ok (.aload_n 0, 1) := zdec_at bX8_numberOfString_106 14 rfl
theorem dX8_numberOfString_135 : decode cX8_numberOfString 135 = .ok (.iload_n 2, 1) := zdec_at bX8_numberOfString_106 15 rfl
theorem bX8_numberOfString_136 : zdec cX8_numberOfString 136 [(136, .ifCond .eq 18, 3), (139, .iload 4, 2), (141, .ifCond .eq 17, 3), (144, .lload 5, 2), (146, .lload 5, 2), (148, .l2i, 1), (149, .i2l, 1), (150, .lcmp, 1), (151, .ifCond .ne 7, 3), (154, .iconst 1, 1), (155, .goto 4, 3), (158, .iconst 0, 1), (159, .putfield 806, 3), (162, .aload_n 0, 1), (163, .getfield 806, 3), (166, .ifCond .eq 9, 3)] = true := by decide +kernel
theorem dX8_numberOfString_136 : decode cX8_numberOfString 136 = .ok (.ifCond .eq 18, 3) := zdec_at bX8_numberOfString_136 0 rfl
theorem dX8_numberOfString_139 : decode cX8_numberOfString 139 = .ok (.iload 4, 2) := zdec_at bX8_numberOfString_136 1 rfl
theorem dX8_numberOfString_141 : decode cX8_numberOfString 141 = .ok (.ifCond .eq 17, 3) := zdec_at bX8_numberOfString_136 2 rfl
theorem dX8_numberOfString_144 : decode cX8_numberOfString 144 = .ok (.lload 5, 2) := zdec_at bX8_numberOfString_136 3 rfl
theorem dX8_numberOfString_146 : decode cX8_numberOfString 146 = .ok (.lload 5, 2) := zdec_at bX8_numberOfString_136 4 rfl
theorem dX8_numberOfString_148 : decode cX8_numberOfString 148 = .ok (.l2i, 1) := zdec_at bX8_numberOfString_136 5 rfl
theorem dX8_numberOfString_149 : decode cX8_numberOfString 149 = .ok (.i2l, 1) := zdec_at bX8_numberOfString_136 6 rfl
theorem dX8_numberOfString_150 : decode cX8_numberOfString 150 = .ok (.lcmp, 1) := zdec_at bX8_numberOfString_136 7 rfl
theorem dX8_numberOfString_151 : decode cX8_numberOfString 151 = .ok (.ifCond .ne 7, 3) := zdec_at bX8_numberOfString_136 8 rfl
theorem dX8_numberOfString_154 : decode cX8_numberOfString 154 = .ok (.iconst 1, 1) := zdec_at bX8_numberOfString_136 9 rfl
theorem dX8_numberOfString_155 : decode cX8_numberOfString 155 = .ok (.goto 4, 3) := zdec_at bX8_numberOfString_136 10 rfl
theorem dX8_numberOfString_158 : decode cX8_numberOfString 158 = .ok (.iconst 0, 1) := zdec_at bX8_numberOfString_136 11 rfl
theorem dX8_numberOfString_159 : decode cX8_numberOfString 159 = .ok (.putfield 806, 3) := zdec_at bX8_numberOfString_136 12 rfl
theorem dX8_numberOfString_162 : decode cX8_numberOfString 162 = .ok (.aload_n 0, 1) := zdec_at bX8_numberOfString_136 13 rfl
theorem dX8_numberOfString_163 : decode cX8_numberOfString 163 = .ok (.getfield 806, 3) := zdec_at bX8_numberOfString_136 14 rfl
theorem dX8_numberOfString_166 : decode cX8_numberOfString 166 = .ok (.ifCond .eq 9, 3) := zdec_at bX8_numberOfString_136 15 rfl
theorem bX8_numberOfString_169 : zdec cX8_numberOfString 169 [(169, .lload 5, 2), (171, .l2i, 1), (172, .goto 4, 3), (175, .iconst 0, 1), (176, .ireturn, 1)] = true := by decide +kernel
theorem dX8_numberOfString_169 : decode cX8_numberOfString 169 = .ok (.lload 5, 2) := zdec_at bX8_numberOfString_169 0 rfl
theorem dX8_numberOfString_171 : decode cX8_numberOfString 171 = .ok (.l2i, 1) := zdec_at bX8_numberOfString_169 1 rfl
theorem dX8_numberOfString_172 : decode cX8_numberOfString 172 = .ok (.goto 4, 3) := zdec_at bX8_numberOfString_169 2 rfl
theorem dX8_numberOfString_175 : decode cX8_numberOfString 175 = .ok (.iconst 0, 1) := zdec_at bX8_numberOfString_169 3 rfl
theorem dX8_numberOfString_176 : decode cX8_numberOfString 176 = .ok (.ireturn, 1) := zdec_at bX8_numberOfString_169 4 rfl
theorem sX8_numberOfString_0 {E : zE} {d : Nat} {Q : zO → zM → Prop} (M : zM) (l1 : Int32) (k : vp_in l1 400 ∧ (if (gi M 101 (l1).toNatClampNeg) ≤ 0 then (Zm E YX8_numberOfString (d + 1) M [(0, vr (some (97, 1, 0))), (1, vi l1), (2, vi (gi M 101 (l1).toNatClampNeg))] 30 [vi (0 : Int32)] Q) else (vp_in ((60 : Int32) * l1) 24000 ∧ (if (gi M 100 (((60 : Int32) * l1)).toNatClampNeg) = (45 : Int32) then (Zm E YX8_numberOfString (d + 1) M [(0, vr (some (97, 1, 0))), (1, vi l1), (2, vi (gi M 101 (l1).toNatClampNeg))] 30 [vi (1 : Int32)] Q) else (Zm E YX8_numberOfString (d + 1) M [(0, vr (some (97, 1, 0))), (1, vi l1), (2, vi (gi M 101 (l1).toNatClampNeg))] 30 [vi (0 : Int32)] Q))))) : Zm E YX8_numberOfString (d + 1) M [(0, vr (some (97, 1, 0))), (1, vi l1)] 0 [] Q := by
  refine Zm.l (fun _ _ k_ => z_aload_n dX8_numberOfString_0 rfl rfl k_) ?_
  refine zm_getr 3 dX8_numberOfString_1 fsX8_20_1 rfl ?_
  refine Zm.l (fun _ _ k_ => z_iload_n dX8_numberOfString_4 rfl rfl k_) ?_
  obtain ⟨b_, k⟩ := k
  refine zm_iald dX8_numberOfString_5 b_ (by decide) (by decide) ?_
  refine Zm.l (fun _ _ k_ => z_ist_n dX8_numberOfString_6 rfl (by decide) (lv' := [(0, vr (some (97, 1, 0))), (1, vi l1), (2, vi (gi M 101 (l1).toNatClampNeg))]) rfl k_) ?_
  refine Zm.l (fun _ _ k_ => z_iload_n dX8_numberOfString_7 rfl rfl k_) ?_
  refine Zm.br (fun _ _ k1_ k2_ => z_if_le (tgt := 29) dX8_numberOfString_8 rfl k1_ k2_) (fun h_ => ?_) (fun h_ => ?_)
  · have k := zit h_ k
    refine Zm.l (fun _ _ k_ => z_iconst (v := 0) dX8_numberOfString_29 rfl k_) ?_
    exact k
  · have k := zif h_ k
    refine Zm.l (fun _ _ k_ => z_aload_n dX8_numberOfString_11 rfl rfl k_) ?_
    refine zm_getr 2 dX8_numberOfString_12 fsX8_16_1 rfl ?_
    refine Zm.l (fun _ _ k_ => z_bipush (v := 60) dX8_numberOfString_15 rfl k_) ?_
    refine Zm.l (fun _ _ k_ => z_iload_n dX8_numberOfString_17 rfl rfl k_) ?_
    refine Zm.l (fun _ _ k_ => z_imul dX8_numberOfString_18 k_) ?_
    obtain ⟨b_, k⟩ := k
    refine zm_cald dX8_numberOfString_19 b_ (by decide) (by decide) ?_
    refine Zm.l (fun _ _ k_ => z_bipush (v := 45) dX8_numberOfString_20 rfl k_) ?_
    refine Zm.brn (fun _ _ k1_ k2_ => z_icmp_ne (tgt := 29) dX8_numberOfString_22 rfl k1_ k2_) (fun h_ => ?_) (fun h_ => ?_)
    · have k := zif h_ k
      refine Zm.l (fun _ _ k_ => z_iconst (v := 0) dX8_numberOfString_29 rfl k_) ?_
      exact k
    · have k := zit h_ k
      refine Zm.l (fun _ _ k_ => z_iconst (v := 1) dX8_numberOfString_25 rfl k_) ?_
      refine Zm.l (fun _ _ k_ => z_goto (tgt := 30) dX8_numberOfString_26 rfl k_) ?_
      exact k
theorem sX8_numberOfString_30 {E : zE} {d : Nat} {Q : zO → zM → Prop} (M : zM) (l1 : Int32) (l2 : Int32) (s0 : Int32) (k : if (l2 - s0) < (1 : Int32) then (Zm E YX8_numberOfString (d + 1) M [(0, vr (some (97, 1, 0))), (1, vi l1), (2, vi l2), (3, vi s0), (4, vi (0 : Int32)), (5, vl (0 : Int64)), (7, vi s0)] 59 [] Q) else (if (10 : Int32) < (l2 - s0) then (Zm E YX8_numberOfString (d + 1) M [(0, vr (some (97, 1, 0))), (1, vi l1), (2, vi l2), (3, vi s0), (4, vi (0 : Int32)), (5, vl (0 : Int64)), (7, vi s0)] 59 [] Q) else (Zm E YX8_numberOfString (d + 1) M [(0, vr (some (97, 1, 0))), (1, vi l1), (2, vi l2), (3, vi s0), (4, vi (1 : Int32)), (5, vl (0 : Int64)), (7, vi s0)] 59 [] Q))) : Zm E YX8_numberOfString (d + 1) M [(0, vr (some (97, 1, 0))), (1, vi l1), (2, vi l2)] 30 [vi s0] Q := by
  refine Zm.l (fun _ _ k_ => z_ist_n dX8_numberOfString_30 rfl (by decide) (lv' := [(0, vr (some (97, 1, 0))), (1, vi l1), (2, vi l2), (3, vi s0)]) rfl k_) ?_
  refine Zm.l (fun _ _ k_ => z_iload_n dX8_numberOfString_31 rfl rfl k_) ?_
  refine Zm.l (fun _ _ k_ => z_iload_n dX8_numberOfString_32 rfl rfl k_) ?_
  refine Zm.l (fun _ _ k_ => z_isub dX8_numberOfString_33 k_) ?_
  refine Zm.l (fun _ _ k_ => z_iconst (v := 1) dX8_numberOfString_34 rfl k_) ?_
  refine Zm.br (fun _ _ k1_ k2_ => z_icmp_lt (tgt := 50) dX8_numberOfString_35 rfl k1_ k2_) (fun h_ => ?_) (fun h_ => ?_)
  · have k := zit h_ k
    refine Zm.l (fun _ _ k_ => z_iconst (v := 0) dX8_numberOfString_50 rfl k_) ?_
    refine Zm.l (fun _ _ k_ => z_ist dX8_numberOfString_51 (by decide) (lv' := [(0, vr (some (97, 1, 0))), (1, vi l1), (2, vi l2), (3, vi s0), (4, vi (0 : Int32))]) rfl k_) ?_
    refine Zm.l (fun _ _ k_ => z_lconst (v := 0) dX8_numberOfString_53 rfl k_) ?_
    refine Zm.l (fun _ _ k_ => z_lst dX8_numberOfString_54 (by decide) (lv' := [(0, vr (some (97, 1, 0))), (1, vi l1), (2, vi l2), (3, vi s0), (4, vi (0 : Int32)), (5, vl (0 : Int64))]) rfl k_) ?_
    refine Zm.l (fun _ _ k_ => z_iload_n dX8_numberOfString_56 rfl rfl k_) ?_
    refine Zm.l (fun _ _ k_ => z_ist dX8_numberOfString_57 (by decide) (lv' := [(0, vr (some (97, 1, 0))), (1, vi l1), (2, vi l2), (3, vi s0), (4, vi (0 : Int32)), (5, vl (0 : Int64)), (7, vi s0)]) rfl k_) ?_
    exact k
  · have k := zif h_ k
    refine Zm.l (fun _ _ k_ => z_iload_n dX8_numberOfString_38 rfl rfl k_) ?_
    refine Zm.l (fun _ _ k_ => z_iload_n dX8_numberOfString_39 rfl rfl k_) ?_
    refine Zm.l (fun _ _ k_ => z_isub dX8_numberOfString_40 k_) ?_
    refine Zm.l (fun _ _ k_ => z_bipush (v := 10) dX8_numberOfString_41 rfl k_) ?_
    refine Zm.br (fun _ _ k1_ k2_ => z_icmp_gt (tgt := 50) dX8_numberOfString_43 rfl k1_ k2_) (fun h_ => ?_) (fun h_ => ?_)
    · have k := zit h_ k
      refine Zm.l (fun _ _ k_ => z_iconst (v := 0) dX8_numberOfString_50 rfl k_) ?_
      refine Zm.l (fun _ _ k_ => z_ist dX8_numberOfString_51 (by decide) (lv' := [(0, vr (some (97, 1, 0))), (1, vi l1), (2, vi l2), (3, vi s0), (4, vi (0 : Int32))]) rfl k_) ?_
      refine Zm.l (fun _ _ k_ => z_lconst (v := 0) dX8_numberOfString_53 rfl k_) ?_
      refine Zm.l (fun _ _ k_ => z_lst dX8_numberOfString_54 (by decide) (lv' := [(0, vr (some (97, 1, 0))), (1, vi l1), (2, vi l2), (3, vi s0), (4, vi (0 : Int32)), (5, vl (0 : Int64))]) rfl k_) ?_
      refine Zm.l (fun _ _ k_ => z_iload_n dX8_numberOfString_56 rfl rfl k_) ?_
      refine Zm.l (fun _ _ k_ => z_ist dX8_numberOfString_57 (by decide) (lv' := [(0, vr (some (97, 1, 0))), (1, vi l1), (2, vi l2), (3, vi s0), (4, vi (0 : Int32)), (5, vl (0 : Int64)), (7, vi s0)]) rfl k_) ?_
      exact k
    · have k := zif h_ k
      refine Zm.l (fun _ _ k_ => z_iconst (v := 1) dX8_numberOfString_46 rfl k_) ?_
      refine Zm.l (fun _ _ k_ => z_goto (tgt := 51) dX8_numberOfString_47 rfl k_) ?_
      refine Zm.l (fun _ _ k_ => z_ist dX8_numberOfString_51 (by decide) (lv' := [(0, vr (some (97, 1, 0))), (1, vi l1), (2, vi l2), (3, vi s0), (4, vi (1 : Int32))]) rfl k_) ?_
      refine Zm.l (fun _ _ k_ => z_lconst (v := 0) dX8_numberOfString_53 rfl k_) ?_
      refine Zm.l (fun _ _ k_ => z_lst dX8_numberOfString_54 (by decide) (lv' := [(0, vr (some (97, 1, 0))), (1, vi l1), (2, vi l2), (3, vi s0), (4, vi (1 : Int32)), (5, vl (0 : Int64))]) rfl k_) ?_
      refine Zm.l (fun _ _ k_ => z_iload_n dX8_numberOfString_56 rfl rfl k_) ?_
      refine Zm.l (fun _ _ k_ => z_ist dX8_numberOfString_57 (by decide) (lv' := [(0, vr (some (97, 1, 0))), (1, vi l1), (2, vi l2), (3, vi s0), (4, vi (1 : Int32)), (5, vl (0 : Int64)), (7, vi s0)]) rfl k_) ?_
      exact k
theorem sX8_numberOfString_59 {E : zE} {d : Nat} {Q : zO → zM → Prop} (M : zM) (l1 : Int32) (l2 : Int32) (l3 : Int32) (l4 : Int32) (l5 : Int64) (l7 : Int32) (k : if l2 ≤ l7 then (if l3 = (1 : Int32) then (Zm E YX8_numberOfString (d + 1) M [(0, vr (some (97, 1, 0))), (2, vi l2), (4, vi l4)] 132 [vl (-l5)] Q) else (Zm E YX8_numberOfString (d + 1) M [(0, vr (some (97, 1, 0))), (2, vi l2), (4, vi l4)] 132 [vl l5] Q)) else (if l4 = 0 then (if l3 = (1 : Int32) then (Zm E YX8_numberOfString (d + 1) M [(0, vr (some (97, 1, 0))), (2, vi l2), (4, vi l4)] 132 [vl (-l5)] Q) else (Zm E YX8_numberOfString (d + 1) M [(0, vr (some (97, 1, 0))), (2, vi l2), (4, vi l4)] 132 [vl l5] Q)) else (vp_in (((60 : Int32) * l1) + l7) 24000 ∧ (Zm E YX8_isDigit d M (zargs 0 [vi (gi M 100 ((((60 : Int32) * l1) + l7)).toNatClampNeg)]) 0 [] (zma E YX8_numberOfString (d + 1) [(0, vr (some (97, 1, 0))), (1, vi l1), (2, vi l2), (3, vi l3), (5, vl l5), (7, vi l7)] 82 3 [] Q))))) : Zm E YX8_numberOfString (d + 1) M [(0, vr (some (97, 1, 0))), (1, vi l1), (2, vi l2), (3, vi l3), (4, vi l4), (5, vl l5), (7, vi l7)] 59 [] Q := by
  refine Zm.l (fun _ _ k_ => z_iload dX8_numberOfString_59 rfl k_) ?_
  refine Zm.l (fun _ _ k_ => z_iload_n dX8_numberOfString_61 rfl rfl k_) ?_
  refine Zm.br (fun _ _ k1_ k2_ => z_icmp_ge (tgt := 119) dX8_numberOfString_62 rfl k1_ k2_) (fun h_ => ?_) (fun h_ => ?_)
  · have k := zit h_ k
    refine Zm.l (fun _ _ k_ => z_iload_n dX8_numberOfString_119 rfl rfl k_) ?_
    refine Zm.l (fun _ _ k_ => z_iconst (v := 1) dX8_numberOfString_120 rfl k_) ?_
    refine Zm.brn (fun _ _ k1_ k2_ => z_icmp_ne (tgt := 130) dX8_numberOfString_121 rfl k1_ k2_) (fun h_ => ?_) (fun h_ => ?_)
    · have k := zif h_ k
      refine Zm.l (fun _ _ k_ => z_lload dX8_numberOfString_130 rfl k_) ?_
      refine Zm.pick [0, 2, 4] rfl ?_
      exact k
    · have k := zit h_ k
      refine Zm.l (fun _ _ k_ => z_lload dX8_numberOfString_124 rfl k_) ?_
      refine Zm.l (fun _ _ k_ => z_lneg dX8_numberOfString_126 k_) ?_
      refine Zm.l (fun _ _ k_ => z_goto (tgt := 132) dX8_numberOfString_127 rfl k_) ?_
      refine Zm.pick [0, 2, 4] rfl ?_
      exact k
  · have k := zif h_ k
    refine Zm.l (fun _ _ k_ => z_iload dX8_numberOfString_65 rfl k_) ?_
    refine Zm.br (fun _ _ k1_ k2_ => z_if_eq (tgt := 119) dX8_numberOfString_67 rfl k1_ k2_) (fun h_ => ?_) (fun h_ => ?_)
    · have k := zit h_ k
      refine Zm.l (fun _ _ k_ => z_iload_n dX8_numberOfString_119 rfl rfl k_) ?_
      refine Zm.l (fun _ _ k_ => z_iconst (v := 1) dX8_numberOfString_120 rfl k_) ?_
      refine Zm.brn (fun _ _ k1_ k2_ => z_icmp_ne (tgt := 130) dX8_numberOfString_121 rfl k1_ k2_) (fun h_ => ?_) (fun h_ => ?_)
      · have k := zif h_ k
        refine Zm.l (fun _ _ k_ => z_lload dX8_numberOfString_130 rfl k_) ?_
        refine Zm.pick [0, 2, 4] rfl ?_
        exact k
      · have k := zit h_ k
        refine Zm.l (fun _ _ k_ => z_lload dX8_numberOfString_124 rfl k_) ?_
        refine Zm.l (fun _ _ k_ => z_lneg dX8_numberOfString_126 k_) ?_
        refine Zm.l (fun _ _ k_ => z_goto (tgt := 132) dX8_numberOfString_127 rfl k_) ?_
        refine Zm.pick [0, 2, 4] rfl ?_
        exact k
    · have k := zif h_ k
      refine Zm.l (fun _ _ k_ => z_aload_n dX8_numberOfString_70 rfl rfl k_) ?_
      refine zm_getr 2 dX8_numberOfString_71 fsX8_16_1 rfl ?_
      refine Zm.l (fun _ _ k_ => z_bipush (v := 60) dX8_numberOfString_74 rfl k_) ?_
      refine Zm.l (fun _ _ k_ => z_iload_n dX8_numberOfString_76 rfl rfl k_) ?_
      refine Zm.l (fun _ _ k_ => z_imul dX8_numberOfString_77 k_) ?_
      refine Zm.l (fun _ _ k_ => z_iload dX8_numberOfString_78 rfl k_) ?_
      refine Zm.l (fun _ _ k_ => z_iadd dX8_numberOfString_80 k_) ?_
      obtain ⟨b_, k⟩ := k
      refine zm_cald dX8_numberOfString_81 b_ (by decide) (by decide) ?_
      refine Zm.pick [0, 1, 2, 3, 5, 6] rfl ?_
      exact zm_callS (as := [vi (gi M 100 ((((60 : Int32) * l1) + l7)).toNatClampNeg)]) (st := []) dX8_numberOfString_82 ssX8_341 (Nat.le_refl _) (Nat.le_of_ble_eq_true rfl) (Nat.le_of_ble_eq_true rfl) rfl k
theorem sX8_numberOfString_85 {E : zE} {d : Nat} {Q : zO → zM → Prop} (M : zM) (l1 : Int32) (l2 : Int32) (l3 : Int32) (l5 : Int64) (l7 : Int32) (s0 : Int32) (k : vp_in (((60 : Int32) * l1) + l7) 24000 ∧ (Zm E YX8_numberOfString (d + 1) M [(0, vr (some (97, 1, 0))), (1, vi l1), (2, vi l2), (3, vi l3), (4, vi s0), (5, vl ((((10 : Int64) * l5) + ((gi M 100 ((((60 : Int32) * l1) + l7)).toNatClampNeg)).toInt64) - (48 : Int64))), (7, vi (l7 + (1 : Int32)))] 59 [] Q)) : Zm E YX8_numberOfString (d + 1) M [(0, vr (some (97, 1, 0))), (1, vi l1), (2, vi l2), (3, vi l3), (5, vl l5), (7, vi l7)] 85 [vi s0] Q := by
  refine Zm.l (fun _ _ k_ => z_ist dX8_numberOfString_85 (by decide) (lv' := [(0, vr (some (97, 1, 0))), (1, vi l1), (2, vi l2), (3, vi l3), (4, vi s0), (5, vl l5), (7, vi l7)]) rfl k_) ?_
  refine Zm.l (fun _ _ k_ => z_ldc2 (v := 10) dX8_numberOfString_87 q4030 k_) ?_
  refine Zm.l (fun _ _ k_ => z_lload dX8_numberOfString_90 rfl k_) ?_
  refine Zm.l (fun _ _ k_ => z_lmul dX8_numberOfString_92 k_) ?_
  refine Zm.l (fun _ _ k_ => z_aload_n dX8_numberOfString_93 rfl rfl k_) ?_
  refine zm_getr 2 dX8_numberOfString_94 fsX8_16_1 rfl ?_
  refine Zm.l (fun _ _ k_ => z_bipush (v := 60) dX8_numberOfString_97 rfl k_) ?_
  refine Zm.l (fun _ _ k_ => z_iload_n dX8_numberOfString_99 rfl rfl k_) ?_
  refine Zm.l (fun _ _ k_ => z_imul dX8_numberOfString_100 k_) ?_
  refine Zm.l (fun _ _ k_ => z_iload dX8_numberOfString_101 rfl k_) ?_
  refine Zm.l (fun _ _ k_ => z_iadd dX8_numberOfString_103 k_) ?_
  obtain ⟨b_, k⟩ := k
  refine zm_cald dX8_numberOfString_104 b_ (by decide) (by decide) ?_
  refine Zm.l (fun _ _ k_ => z_i2l dX8_numberOfString_105 k_) ?_
  refine Zm.l (fun _ _ k_ => z_ladd dX8_numberOfString_106 k_) ?_
  refine Zm.l (fun _ _ k_ => z_ldc2 (v := 48) dX8_numberOfString_107 q4031 k_) ?_
  refine Zm.l (fun _ _ k_ => z_lsub dX8_numberOfString_110 k_) ?_
  refine Zm.l (fun _ _ k_ => z_lst dX8_numberOfString_111 (by decide) (lv' := [(0, vr (some (97, 1, 0))), (1, vi l1), (2, vi l2), (3, vi l3), (4, vi s0), (5, vl ((((10 : Int64) * l5) + ((gi M 100 ((((60 : Int32) * l1) + l7)).toNatClampNeg)).toInt64) - (48 : Int64))), (7, vi l7)]) rfl k_) ?_
  refine Zm.l (fun _ _ k_ => z_inc (v := (l7 + (1 : Int32))) dX8_numberOfString_113 rfl rfl (by decide) (lv' := [(0, vr (some (97, 1, 0))), (1, vi l1), (2, vi l2), (3, vi l3), (4, vi s0), (5, vl ((((10 : Int64) * l5) + ((gi M 100 ((((60 : Int32) * l1) + l7)).toNatClampNeg)).toInt64) - (48 : Int64))), (7, vi (l7 + (1 : Int32)))]) rfl k_) ?_
  refine Zm.l (fun _ _ k_ => z_goto (tgt := 59) dX8_numberOfString_116 rfl k_) ?_
  exact k
theorem sX8_numberOfString_132 {E : zE} {d : Nat} {Q : zO → zM → Prop} (M : zM) (l2 : Int32) (l4 : Int32) (s0 : Int64) (k : if l2 = 0 then (Zm E YX8_numberOfString (d + 1) M [(0, vr (some (97, 1, 0))), (5, vl s0)] 159 [vi (1 : Int32), vr (some (97, 1, 0))] Q) else (if l4 = 0 then (Zm E YX8_numberOfString (d + 1) M [(0, vr (some (97, 1, 0))), (5, vl s0)] 159 [vi (0 : Int32), vr (some (97, 1, 0))] Q) else (if (lg_cmp s0 ((s0).toInt32).toInt64) = 0 then (Zm E YX8_numberOfString (d + 1) M [(0, vr (some (97, 1, 0))), (5, vl s0)] 159 [vi (1 : Int32), vr (some (97, 1, 0))] Q) else (Zm E YX8_numberOfString (d + 1) M [(0, vr (some (97, 1, 0))), (5, vl s0)] 159 [vi (0 : Int32), vr (some (97, 1, 0))] Q)))) : Zm E YX8_numberOfString (d + 1) M [(0, vr (some (97, 1, 0))), (2, vi l2), (4, vi l4)] 132 [vl s0] Q := by
  refine Zm.l (fun _ _ k_ => z_lst dX8_numberOfString_132 (by decide) (lv' := [(0, vr (some (97, 1, 0))), (2, vi l2), (4, vi l4), (5, vl s0)]) rfl k_) ?_
  refine Zm.l (fun _ _ k_ => z_aload_n dX8_numberOfString_134 rfl rfl k_) ?_
  refine Zm.l (fun _ _ k_ => z_iload_n dX8_numberOfString_135 rfl rfl k_) ?_
  refine Zm.br (fun _ _ k1_ k2_ => z_if_eq (tgt := 154) dX8_numberOfString_136 rfl k1_ k2_) (fun h_ => ?_) (fun h_ => ?_)
  · have k := zit h_ k
    refine Zm.l (fun _ _ k_ => z_iconst (v := 1) dX8_numberOfString_154 rfl k_) ?_
    refine Zm.l (fun _ _ k_ => z_goto (tgt := 159) dX8_numberOfString_155 rfl k_) ?_
    refine Zm.pick [0, 3] rfl ?_
    exact k
  · have k := zif h_ k
    refine Zm.l (fun _ _ k_ => z_iload dX8_numberOfString_139 rfl k_) ?_
    refine Zm.br (fun _ _ k1_ k2_ => z_if_eq (tgt := 158) dX8_numberOfString_141 rfl k1_ k2_) (fun h_ => ?_) (fun h_ => ?_)
    · have k := zit h_ k
      refine Zm.l (fun _ _ k_ => z_iconst (v := 0) dX8_numberOfString_158 rfl k_) ?_
      refine Zm.pick [0, 3] rfl ?_
      exact k
    · have k := zif h_ k
      refine Zm.l (fun _ _ k_ => z_lload dX8_numberOfString_144 rfl k_) ?_
      refine Zm.l (fun _ _ k_ => z_lload dX8_numberOfString_146 rfl k_) ?_
      refine Zm.l (fun _ _ k_ => z_l2i dX8_numberOfString_148 k_) ?_
      refine Zm.l (fun _ _ k_ => z_i2l dX8_numberOfString_149 k_) ?_
      refine Zm.l (fun _ _ k_ => z_lcmp dX8_numberOfString_150 k_) ?_
      refine Zm.brn (fun _ _ k1_ k2_ => z_if_ne (tgt := 158) dX8_numberOfString_151 rfl k1_ k2_) (fun h_ => ?_) (fun h_ => ?_)
      · have k := zif h_ k
        refine Zm.l (fun _ _ k_ => z_iconst (v := 0) dX8_numberOfString_158 rfl k_) ?_
        refine Zm.pick [0, 3] rfl ?_
        exact k
      · have k := zit h_ k
        refine Zm.l (fun _ _ k_ => z_iconst (v := 1) dX8_numberOfString_154 rfl k_) ?_
        refine Zm.l (fun _ _ k_ => z_goto (tgt := 159) dX8_numberOfString_155 rfl k_) ?_
        refine Zm.pick [0, 3] rfl ?_
        exact k
theorem sX8_numberOfString_159 {E : zE} {d : Nat} {Q : zO → zM → Prop} (M : zM) (l5 : Int64) (s0 : Int32) (k : zfit .boolean s0 ∧ (if s0 = 0 then (Q (.inl (some (vi (0 : Int32)))) (si M 97 113 s0)) else (Q (.inl (some (vi (l5).toInt32))) (si M 97 113 s0)))) : Zm E YX8_numberOfString (d + 1) M [(0, vr (some (97, 1, 0))), (5, vl l5)] 159 [vi s0, vr (some (97, 1, 0))] Q := by
  obtain ⟨b_, k⟩ := k
  refine zm_puti (by decide) (by decide) dX8_numberOfString_159 (zfwN.w fwX8_806_1) rfl b_ ?_
  refine Zm.l (fun _ _ k_ => z_aload_n dX8_numberOfString_162 rfl rfl k_) ?_
  refine zm_geti dX8_numberOfString_163 fsX8_806_1 (by decide) (by decide) ?_
  refine Zm.br (fun _ _ k1_ k2_ => z_if_eq (tgt := 175) dX8_numberOfString_166 rfl k1_ k2_) (fun h_ => ?_) (fun h_ => ?_)
  · have k := zit h_ k
    refine Zm.l (fun _ _ k_ => z_iconst (v := 0) dX8_numberOfString_175 rfl k_) ?_
    exact zm_iret dX8_numberOfString_176 rfl rfl k
  · have k := zif h_ k
    refine Zm.l (fun _ _ k_ => z_lload dX8_numberOfString_169 rfl k_) ?_
    refine Zm.l (fun _ _ k_ => z_l2i dX8_numberOfString_171 k_) ?_
    refine Zm.l (fun _ _ k_ => z_goto (tgt := 176) dX8_numberOfString_172 rfl k_) ?_
    exact zm_iret dX8_numberOfString_176 rfl rfl k
/-! ScriptTypesModel.binary(I)V -/
theorem bX8_binary_2_0 : zdec cX8_binary_2 0 [(0, .aload_n 0, 1), (1, .iconst 1, 1), (2, .invokevirtual 910, 3), (5, .istore_n 2, 1), (6, .aload_n 0, 1), (7, .iconst 1, 1), (8, .invokevirtual 913, 3), (11, .istore_n 3, 1), (12, .aload_n 0, 1), (13, .iconst 0, 1), (14, .invokevirtual 910, 3), (17, .istore 4, 2), (19, .aload_n 0, 1), (20, .iconst 0, 1), (21, .invokevirtual 913, 3), (24, .istore 5, 2)] = true := by decide +kernel
theorem dX8_binary_2_0 : decode cX8_binary_2 0 = .ok (.aload_n 0, 1) := zdec_at bX8_binary_2_0 0 rfl
theorem dX8_binary_2_1 : decode cX8_binary_2 1 = .ok (.iconst 1, 1) := zdec_at bX8_binary_2_0 1 rfl
theorem dX8_binary_2_2 : decode cX8_binary_2 2 = .ok (.invokevirtual 910, 3) := zdec_at bX8_binary_2_0 2 rfl
theorem dX8_binary_2_5 : decode cX8_binary_2 5 = .ok (.istore_n 2, 1) := zdec_at bX8_binary_2_0 3 rfl
theorem dX8_binary_2_6 : decode cX8_binary_2 6 = .ok (.aload_n 0, 1) := zdec_at bX8_binary_2_0 4 rfl
theorem dX8_binary_2_7 : decode cX8_binary_2 7 = .ok (.iconst 1, 1) := zdec_at bX8_binary_2_0 5 rfl
theorem dX8_binary_2_8 : decode cX8_binary_2 8 = .ok (.invokevirtual 913, 3) := zdec_at bX8_binary_2_0 6 rfl
theorem dX8_binary_2_11 : decode cX8_binary_2 11 = .ok (.istore_n 3, 1) := zdec_at bX8_binary_2_0 7 rfl
theorem dX8_binary_2_12 : decode cX8_binary_2 12 = .ok (.aload_n 0, 1) := zdec_at bX8_binary_2_0 8 rfl
theorem dX8_binary_2_13 : decode cX8_binary_2 13 = .ok (.iconst 0, 1) := zdec_at bX8_binary_2_0 9 rfl
theorem dX8_binary_2_14 : decode cX8_binary_2 14 = .ok (.invokevirtual 910, 3) := zdec_at bX8_binary_2_0 10 rfl
theorem dX8_binary_2_17 : decode cX8_binary_2 17 = .ok (.istore 4, 2) := zdec_at bX8_binary_2_0 11 rfl
theorem dX8_binary_2_19 : decode cX8_binary_2 19 = .ok (.aload_n 0, 1) := zdec_at bX8_binary_2_0 12 rfl
theorem dX8_binary_2_20 : decode cX8_binary_2 20 = .ok (.iconst 0, 1) := zdec_at bX8_binary_2_0 13 rfl
theorem dX8_binary_2_21 : decode cX8_binary_2 21 = .ok (.invokevirtual 913, 3) := zdec_at bX8_binary_2_0 14 rfl
theorem dX8_binary_2_24 : decode cX8_binary_2 24 = .ok (.istore 5, 2) := zdec_at bX8_binary_2_0 15 rfl
theorem bX8_binary_2_26 : zdec cX8_binary_2 26 [(26, .iload_n 1, 1), (27, .bipush 19, 2), (29, .if_icmp .ne 14, 3), (32, .aload_n 0, 1), (33, .iload_n 2, 1), (34, .iload_n 3, 1), (35, .iload 4, 2), (37, .iload 5, 2), (39, .invokevirtual 984, 3), (42, .return_, 1), (43, .iload_n 1, 1), (44, .bipush 20, 2), (46, .if_icmp .ne 14, 3), (49, .aload_n 0, 1), (50, .iload_n 2, 1), (51, .iload_n 3, 1)] = true := by decide +kernel
theorem dX8_binary_2_26 : decode cX8_binary_2 26 = .ok (.iload_n 1, 1) := zdec_at bX8_binary_2_26 0 rfl
theorem dX8_binary_2_27 : decode cX8_binary_2 27 = .ok (.bipush 19, 2) := zdec_at bX8_binary_2_26 1 rfl
theorem dX8_binary_2_29 : decode cX8_binary_2 29 = .ok (.if_icmp .ne 14, 3) := zdec_at bX8_binary_2_26 2 rfl
theorem dX8_binary_2_32 : decode cX8_binary_2 32 = .ok (.aload_n 0, 1) := zdec_at bX8_binary_2_26 3 rfl
theorem dX8_binary_2_33 : decode cX8_binary_2 33 = .ok (.iload_n 2, 1) := zdec_at bX8_binary_2_26 4 rfl
theorem dX8_binary_2_34 : decode cX8_binary_2 34 = .ok (.iload_n 3, 1) := zdec_at bX8_binary_2_26 5 rfl
theorem dX8_binary_2_35 : decode cX8_binary_2 35 = .ok (.iload 4, 2) := zdec_at bX8_binary_2_26 6 rfl
theorem dX8_binary_2_37 : decode cX8_binary_2 37 = .ok (.iload 5, 2) := zdec_at bX8_binary_2_26 7 rfl
theorem dX8_binary_2_39 : decode cX8_binary_2 39 = .ok (.invokevirtual 984, 3) := zdec_at bX8_binary_2_26 8 rfl
theorem dX8_binary_2_42 : decode cX8_binary_2 42 = .ok (.return_, 1) := zdec_at bX8_binary_2_26 9 rfl
theorem dX8_binary_2_43 : decode cX8_binary_2 43 = .ok (.iload_n 1, 1) := zdec_at bX8_binary_2_26 10 rfl
theorem dX8_binary_2_44 : decode cX8_binary_2 44 = .ok (.bipush 20, 2) := zdec_at bX8_binary_2_26 11 rfl
theorem dX8_binary_2_46 : decode cX8_binary_2 46 = .ok (.if_icmp .ne 14, 3) := zdec_at bX8_binary_2_26 12 rfl
theorem dX8_binary_2_49 : decode cX8_binary_2 49 = .ok (.aload_n 0, 1) := zdec_at bX8_binary_2_26 13 rfl
theorem dX8_binary_2_50 : decode cX8_binary_2 50 = .ok (.iload_n 2, 1) := zdec_at bX8_binary_2_26 14 rfl
theorem dX8_binary_2_51 : decode cX8_binary_2 51 = .ok (.iload_n 3, 1) := zdec_at bX8_binary_2_26 15 rfl
theorem bX8_binary_2_52 : zdec cX8_binary_2 52 [(52, .iload 4, 2), (54, .iload 5, 2), (56, .invokevirtual 987, 3), (59, .return_, 1), (60, .aload_n 0, 1), (61, .iload_n 1, 1), (62, .iload_n 2, 1), (63, .iload_n 3, 1), (64, .iload 4, 2), (66, .iload 5, 2), (68, .invokevirtual 990, 3), (71, .aload_n 0, 1), (72, .iload_n 1, 1), (73, .iload_n 2, 1), (74, .iload 4, 2), (76, .invokevirtual 830, 3)] = true := by decide +kernel
theorem dX8_binary_2_52 : decode cX8_binary_2 52 = .ok (.iload 4, 2) := zdec_at bX8_binary_2_52 0 rfl
theorem dX8_binary_2_54 : decode cX8_binary_2 54 = .ok (.iload 5, 2) := zdec_at bX8_binary_2_52 1 rfl
theorem dX8_binary_2_56 : decode cX8_binary_2 56 = .ok (.invokevirtual 987, 3) := zdec_at bX8_binary_2_52 2 rfl
theorem dX8_binary_2_59 : decode cX8_binary_2 59 = .ok (.return_, 1) := zdec_at bX8_binary_2_52 3 rfl
theorem dX8_binary_2_60 : decode cX8_binary_2 60 = .ok (.aload_n 0, 1) := zdec_at bX8_binary_2_52 4 rfl
theorem dX8_binary_2_61 : decode cX8_binary_2 61 = .ok (.iload_n 1, 1) := zdec_at bX8_binary_2_52 5 rfl
theorem dX8_binary_2_62 : decode cX8_binary_2 62 = .ok (.iload_n 2, 1) := zdec_at bX8_binary_2_52 6 rfl
theorem dX8_binary_2_63 : decode cX8_binary_2 63 = .ok (.iload_n 3, 1) := zdec_at bX8_binary_2_52 7 rfl
theorem dX8_binary_2_64 : decode cX8_binary_2 64 = .ok (.iload 4, 2) := zdec_at bX8_binary_2_52 8 rfl
theorem dX8_binary_2_66 : decode cX8_binary_2 66 = .ok (.iload 5, 2) := zdec_at bX8_binary_2_52 9 rfl
theorem dX8_binary_2_68 : decode cX8_binary_2 68 = .ok (.invokevirtual 990, 3) := zdec_at bX8_binary_2_52 10 rfl
theorem dX8_binary_2_71 : decode cX8_binary_2 71 = .ok (.aload_n 0, 1) := zdec_at bX8_binary_2_52 11 rfl
theorem dX8_binary_2_72 : decode cX8_binary_2 72 = .ok (.iload_n 1, 1) := zdec_at bX8_binary_2_52 12 rfl
theorem dX8_binary_2_73 : decode cX8_binary_2 73 = .ok (.iload_n 2, 1) := zdec_at bX8_binary_2_52 13 rfl
theorem dX8_binary_2_74 : decode cX8_binary_2 74 = .ok (.iload 4, 2) := zdec_at bX8_binary_2_52 14 rfl
theorem dX8_binary_2_76 : decode cX8_binary_2 76 = .ok (.invokevirtual 830, 3) := zdec_at bX8_binary_2_52 15 rfl
theorem bX8_binary_2_79 : zdec cX8_binary_2 79 [(79, .ifCond .eq 13, 3), (82, .aload_n 0, 1), (83, .bipush 6, 2), (85, .aload_n 0, 1), (86, .invokevirtual 803, 3), (89, .invokevirtual 822, 3), (92, .aload_n 0, 1), (93, .iconst 2, 1), (94, .invokevirtual 904, 3), (97, .return_, 1)] = true := by decide +kernel
theorem dX8_binary_2_79 : decode cX8_binary_2 79 = .ok (.ifCond .eq 13, 3) := zdec_at bX8_binary_2_79 0 rfl
theorem dX8_binary_2_82 : decode cX8_binary_2 82 = .ok (.aload_n 0, 1) := zdec_at bX8_binary_2_79 1 rfl
theorem dX8_binary_2_83 : decode cX8_binary_2 83 = .ok (.bipush 6, 2) := zdec_at bX8_binary_2_79 2 rfl
theorem dX8_binary_2_85 : decode cX8_binary_2 85 = .ok (.aload_n 0, 1) := zdec_at bX8_binary_2_79 3 rfl
theorem dX8_binary_2_86 : decode cX8_binary_2 86 = .ok (.invokevirtual 803, 3) := zdec_at bX8_binary_2_79 4 rfl
theorem dX8_binary_2_89 : decode cX8_binary_2 89 = .ok (.invokevirtual 822, 3) := zdec_at bX8_binary_2_79 5 rfl
theorem dX8_binary_2_92 : decode cX8_binary_2 92 = .ok (.aload_n 0, 1) := zdec_at bX8_binary_2_79 6 rfl
theorem dX8_binary_2_93 : decode cX8_binary_2 93 = .ok (.iconst 2, 1) := zdec_at bX8_binary_2_79 7 rfl
theorem dX8_binary_2_94 : decode cX8_binary_2 94 = .ok (.invokevirtual 904, 3) := zdec_at bX8_binary_2_79 8 rfl
theorem dX8_binary_2_97 : decode cX8_binary_2 97 = .ok (.return_, 1) := zdec_at bX8_binary_2_79 9 rfl
theorem sX8_binary_2_0 {E : zE} {d : Nat} {Q : zO → zM → Prop} (M : zM) (l1 : Int32) (k : Zm E YX8_sortAt d M (zargs 0 [vr (some (97, 1, 0)), vi (1 : Int32)]) 0 [] (zma E YX8_binary_2 (d + 1) [(0, vr (some (97, 1, 0))), (1, vi l1)] 2 3 [] Q)) : Zm E YX8_binary_2 (d + 1) M [(0, vr (some (97, 1, 0))), (1, vi l1)] 0 [] Q := by
  refine Zm.l (fun _ _ k_ => z_aload_n dX8_binary_2_0 rfl rfl k_) ?_
  refine Zm.l (fun _ _ k_ => z_iconst (v := 1) dX8_binary_2_1 rfl k_) ?_
  exact zm_callV (as := [vi (1 : Int32)]) (st := []) dX8_binary_2_2 vsX8_910_1 (Nat.le_refl _) (Nat.le_of_ble_eq_true rfl) (Nat.le_of_ble_eq_true rfl) rfl k
theorem sX8_binary_2_5 {E : zE} {d : Nat} {Q : zO → zM → Prop} (M : zM) (l1 : Int32) (s0 : Int32) (k : Zm E YX8_valueAt d M (zargs 0 [vr (some (97, 1, 0)), vi (1 : Int32)]) 0 [] (zma E YX8_binary_2 (d + 1) [(0, vr (some (97, 1, 0))), (1, vi l1), (2, vi s0)] 8 3 [] Q)) : Zm E YX8_binary_2 (d + 1) M [(0, vr (some (97, 1, 0))), (1, vi l1)] 5 [vi s0] Q := by
  refine Zm.l (fun _ _ k_ => z_ist_n dX8_binary_2_5 rfl (by decide) (lv' := [(0, vr (some (97, 1, 0))), (1, vi l1), (2, vi s0)]) rfl k_) ?_
  refine Zm.l (fun _ _ k_ => z_aload_n dX8_binary_2_6 rfl rfl k_) ?_
  refine Zm.l (fun _ _ k_ => z_iconst (v := 1) dX8_binary_2_7 rfl k_) ?_
  exact zm_callV (as := [vi (1 : Int32)]) (st := []) dX8_binary_2_8 vsX8_913_1 (Nat.le_refl _) (Nat.le_of_ble_eq_true rfl) (Nat.le_of_ble_eq_true rfl) rfl k
theorem sX8_binary_2_11 {E : zE} {d : Nat} {Q : zO → zM → Prop} (M : zM) (l1 : Int32) (l2 : Int32) (s0 : Int32) (k : Zm E YX8_sortAt d M (zargs 0 [vr (some (97, 1, 0)), vi (0 : Int32)]) 0 [] (zma E YX8_binary_2 (d + 1) [(0, vr (some (97, 1, 0))), (1, vi l1), (2, vi l2), (3, vi s0)] 14 3 [] Q)) : Zm E YX8_binary_2 (d + 1) M [(0, vr (some (97, 1, 0))), (1, vi l1), (2, vi l2)] 11 [vi s0] Q := by
  refine Zm.l (fun _ _ k_ => z_ist_n dX8_binary_2_11 rfl (by decide) (lv' := [(0, vr (some (97, 1, 0))), (1, vi l1), (2, vi l2), (3, vi s0)]) rfl k_) ?_
  refine Zm.l (fun _ _ k_ => z_aload_n dX8_binary_2_12 rfl rfl k_) ?_
  refine Zm.l (fun _ _ k_ => z_iconst (v := 0) dX8_binary_2_13 rfl k_) ?_
  exact zm_callV (as := [vi (0 : Int32)]) (st := []) dX8_binary_2_14 vsX8_910_1 (Nat.le_refl _) (Nat.le_of_ble_eq_true rfl) (Nat.le_of_ble_eq_true rfl) rfl k
theorem sX8_binary_2_17 {E : zE} {d : Nat} {Q : zO → zM → Prop} (M : zM) (l1 : Int32) (l2 : Int32) (l3 : Int32) (s0 : Int32) (k : Zm E YX8_valueAt d M (zargs 0 [vr (some (97, 1, 0)), vi (0 : Int32)]) 0 [] (zma E YX8_binary_2 (d + 1) [(0, vr (some (97, 1, 0))), (1, vi l1), (2, vi l2), (3, vi l3), (4, vi s0)] 21 3 [] Q)) : Zm E YX8_binary_2 (d + 1) M [(0, vr (some (97, 1, 0))), (1, vi l1), (2, vi l2), (3, vi l3)] 17 [vi s0] Q := by
  refine Zm.l (fun _ _ k_ => z_ist dX8_binary_2_17 (by decide) (lv' := [(0, vr (some (97, 1, 0))), (1, vi l1), (2, vi l2), (3, vi l3), (4, vi s0)]) rfl k_) ?_
  refine Zm.l (fun _ _ k_ => z_aload_n dX8_binary_2_19 rfl rfl k_) ?_
  refine Zm.l (fun _ _ k_ => z_iconst (v := 0) dX8_binary_2_20 rfl k_) ?_
  exact zm_callV (as := [vi (0 : Int32)]) (st := []) dX8_binary_2_21 vsX8_913_1 (Nat.le_refl _) (Nat.le_of_ble_eq_true rfl) (Nat.le_of_ble_eq_true rfl) rfl k
theorem sX8_binary_2_24 {E : zE} {d : Nat} {Q : zO → zM → Prop} (M : zM) (l1 : Int32) (l2 : Int32) (l3 : Int32) (l4 : Int32) (s0 : Int32) (k : if l1 = (19 : Int32) then (Zm E YX8_within d M (zargs 0 [vr (some (97, 1, 0)), vi l2, vi l3, vi l4, vi s0]) 0 [] (zma E YX8_binary_2 (d + 1) [] 39 3 [] Q)) else (if l1 = (20 : Int32) then (Zm E YX8_isMadeBy d M (zargs 0 [vr (some (97, 1, 0)), vi l2, vi l3, vi l4, vi s0]) 0 [] (zma E YX8_binary_2 (d + 1) [] 56 3 [] Q)) else (Zm E YX8_binaryOf_2 d M (zargs 0 [vr (some (97, 1, 0)), vi l1, vi l2, vi l3, vi l4, vi s0]) 0 [] (zma E YX8_binary_2 (d + 1) [(0, vr (some (97, 1, 0))), (1, vi l1), (2, vi l2), (4, vi l4)] 68 3 [] Q)))) : Zm E YX8_binary_2 (d + 1) M [(0, vr (some (97, 1, 0))), (1, vi l1), (2, vi l2), (3, vi l3), (4, vi l4)] 24 [vi s0] Q := by
  refine Zm.l (fun _ _ k_ => z_ist dX8_binary_2_24 (by decide) (lv' := [(0, vr (some (97, 1, 0))), (1, vi l1), (2, vi l2), (3, vi l3), (4, vi l4), (5, vi s0)]) rfl k_) ?_
  refine Zm.l (fun _ _ k_ => z_iload_n dX8_binary_2_26 rfl rfl k_) ?_
  refine Zm.l (fun _ _ k_ => z_bipush (v := 19) dX8_binary_2_27 rfl k_) ?_
  refine Zm.brn (fun _ _ k1_ k2_ => z_icmp_ne (tgt := 43) dX8_binary_2_29 rfl k1_ k2_) (fun h_ => ?_) (fun h_ => ?_)
  · have k := zif h_ k
    refine Zm.l (fun _ _ k_ => z_iload_n dX8_binary_2_43 rfl rfl k_) ?_
    refine Zm.l (fun _ _ k_ => z_bipush (v := 20) dX8_binary_2_44 rfl k_) ?_
    refine Zm.brn (fun _ _ k1_ k2_ => z_icmp_ne (tgt := 60) dX8_binary_2_46 rfl k1_ k2_) (fun h_ => ?_) (fun h_ => ?_)
    · have k := zif h_ k
      refine Zm.l (fun _ _ k_ => z_aload_n dX8_binary_2_60 rfl rfl k_) ?_
      refine Zm.l (fun _ _ k_ => z_iload_n dX8_binary_2_61 rfl rfl k_) ?_
      refine Zm.l (fun _ _ k_ => z_iload_n dX8_binary_2_62 rfl rfl k_) ?_
      refine Zm.l (fun _ _ k_ => z_iload_n dX8_binary_2_63 rfl rfl k_) ?_
      refine Zm.l (fun _ _ k_ => z_iload dX8_binary_2_64 rfl k_) ?_
      refine Zm.l (fun _ _ k_ => z_iload dX8_binary_2_66 rfl k_) ?_
      refine Zm.pick [0, 1, 2, 4] rfl ?_
      exact zm_callV (as := [vi l1, vi l2, vi l3, vi l4, vi s0]) (st := []) dX8_binary_2_68 vsX8_990_1 (Nat.le_refl _) (Nat.le_of_ble_eq_true rfl) (Nat.le_of_ble_eq_true rfl) rfl k
    · have k := zit h_ k
      refine Zm.l (fun _ _ k_ => z_aload_n dX8_binary_2_49 rfl rfl k_) ?_
      refine Zm.l (fun _ _ k_ => z_iload_n dX8_binary_2_50 rfl rfl k_) ?_
      refine Zm.l (fun _ _ k_ => z_iload_n dX8_binary_2_51 rfl rfl k_) ?_
      refine Zm.l (fun _ _ k_ => z_iload dX8_binary_2_52 rfl k_) ?_
      refine Zm.l (fun _ _ k_ => z_iload dX8_binary_2_54 rfl k_) ?_
      refine Zm.pick [] rfl ?_
      exact zm_callV (as := [vi l2, vi l3, vi l4, vi s0]) (st := []) dX8_binary_2_56 vsX8_987_1 (Nat.le_refl _) (Nat.le_of_ble_eq_true rfl) (Nat.le_of_ble_eq_true rfl) rfl k
  · have k := zit h_ k
    refine Zm.l (fun _ _ k_ => z_aload_n dX8_binary_2_32 rfl rfl k_) ?_
    refine Zm.l (fun _ _ k_ => z_iload_n dX8_binary_2_33 rfl rfl k_) ?_
    refine Zm.l (fun _ _ k_ => z_iload_n dX8_binary_2_34 rfl rfl k_) ?_
    refine Zm.l (fun _ _ k_ => z_iload dX8_binary_2_35 rfl k_) ?_
    refine Zm.l (fun _ _ k_ => z_iload dX8_binary_2_37 rfl k_) ?_
    refine Zm.pick [] rfl ?_
    exact zm_callV (as := [vi l2, vi l3, vi l4, vi s0]) (st := []) dX8_binary_2_39 vsX8_984_1 (Nat.le_refl _) (Nat.le_of_ble_eq_true rfl) (Nat.le_of_ble_eq_true rfl) rfl k
theorem sX8_binary_2_42 {E : zE} {d : Nat} {Q : zO → zM → Prop} (M : zM)  (k : Q (.inl none) M) : Zm E YX8_binary_2 (d + 1) M [] 42 [] Q := by
  exact zm_vret dX8_binary_2_42 rfl k
theorem sX8_binary_2_59 {E : zE} {d : Nat} {Q : zO → zM → Prop} (M : zM)  (k : Q (.inl none) M) : Zm E YX8_binary_2 (d + 1) M [] 59 [] Q := by
  exact zm_vret dX8_binary_2_59 rfl k
theorem sX8_binary_2_71 {E : zE} {d : Nat} {Q : zO → zM → Prop} (M : zM) (l1 : Int32) (l2 : Int32) (l4 : Int32) (k : Zm E YX8_joinsTexts d M (zargs 0 [vr (some (97, 1, 0)), vi l1, vi l2, vi l4]) 0 [] (zma E YX8_binary_2 (d + 1) [(0, vr (some (97, 1, 0)))] 76 3 [] Q)) : Zm E YX8_binary_2 (d + 1) M [(0, vr (some (97, 1, 0))), (1, vi l1), (2, vi l2), (4, vi l4)] 71 [] Q := by
  refine Zm.l (fun _ _ k_ => z_aload_n dX8_binary_2_71 rfl rfl k_) ?_
  refine Zm.l (fun _ _ k_ => z_iload_n dX8_binary_2_72 rfl rfl k_) ?_
  refine Zm.l (fun _ _ k_ => z_iload_n dX8_binary_2_73 rfl rfl k_) ?_
  refine Zm.l (fun _ _ k_ => z_iload dX8_binary_2_74 rfl k_) ?_
  refine Zm.pick [0] rfl ?_
  exact zm_callV (as := [vi l1, vi l2, vi l4]) (st := []) dX8_binary_2_76 vsX8_830_1 (Nat.le_refl _) (Nat.le_of_ble_eq_true rfl) (Nat.le_of_ble_eq_true rfl) rfl k
theorem sX8_binary_2_79 {E : zE} {d : Nat} {Q : zO → zM → Prop} (M : zM) (s0 : Int32) (k : if s0 = 0 then (Zm E YX8_binary_2 (d + 1) M [(0, vr (some (97, 1, 0)))] 92 [] Q) else (Zm E YX8_made d M (zargs 0 [vr (some (97, 1, 0))]) 0 [] (zma E YX8_binary_2 (d + 1) [(0, vr (some (97, 1, 0)))] 86 3 [vi (6 : Int32), vr (some (97, 1, 0))] Q))) : Zm E YX8_binary_2 (d + 1) M [(0, vr (some (97, 1, 0)))] 79 [vi s0] Q := by
  refine Zm.br (fun _ _ k1_ k2_ => z_if_eq (tgt := 92) dX8_binary_2_79 rfl k1_ k2_) (fun h_ => ?_) (fun h_ => ?_)
  · have k := zit h_ k
    exact k
  · have k := zif h_ k
    refine Zm.l (fun _ _ k_ => z_aload_n dX8_binary_2_82 rfl rfl k_) ?_
    refine Zm.l (fun _ _ k_ => z_bipush (v := 6) dX8_binary_2_83 rfl k_) ?_
    refine Zm.l (fun _ _ k_ => z_aload_n dX8_binary_2_85 rfl rfl k_) ?_
    exact zm_callV (as := []) (st := [vi (6 : Int32), vr (some (97, 1, 0))]) dX8_binary_2_86 vsX8_803_1 (Nat.le_refl _) (Nat.le_of_ble_eq_true rfl) (Nat.le_of_ble_eq_true rfl) rfl k
theorem sX8_binary_2_89 {E : zE} {d : Nat} {Q : zO → zM → Prop} (M : zM) (s0 : Int32) (s1 : Int32) (k : Zm E YX8_give_2 d M (zargs 0 [vr (some (97, 1, 0)), vi s1, vi s0]) 0 [] (zma E YX8_binary_2 (d + 1) [(0, vr (some (97, 1, 0)))] 89 3 [] Q)) : Zm E YX8_binary_2 (d + 1) M [(0, vr (some (97, 1, 0)))] 89 [vi s0, vi s1, vr (some (97, 1, 0))] Q := by
  exact zm_callV (as := [vi s1, vi s0]) (st := []) dX8_binary_2_89 vsX8_822_1 (Nat.le_refl _) (Nat.le_of_ble_eq_true rfl) (Nat.le_of_ble_eq_true rfl) rfl k
theorem sX8_binary_2_92 {E : zE} {d : Nat} {Q : zO → zM → Prop} (M : zM)  (k : Zm E YX8_gives d M (zargs 0 [vr (some (97, 1, 0)), vi (2 : Int32)]) 0 [] (zma E YX8_binary_2 (d + 1) [] 94 3 [] Q)) : Zm E YX8_binary_2 (d + 1) M [(0, vr (some (97, 1, 0)))] 92 [] Q := by
  refine Zm.l (fun _ _ k_ => z_aload_n dX8_binary_2_92 rfl rfl k_) ?_
  refine Zm.l (fun _ _ k_ => z_iconst (v := 2) dX8_binary_2_93 rfl k_) ?_
  refine Zm.pick [] rfl ?_
  exact zm_callV (as := [vi (2 : Int32)]) (st := []) dX8_binary_2_94 vsX8_904_1 (Nat.le_refl _) (Nat.le_of_ble_eq_true rfl) (Nat.le_of_ble_eq_true rfl) rfl k
theorem sX8_binary_2_97 {E : zE} {d : Nat} {Q : zO → zM → Prop} (M : zM)  (k : Q (.inl none) M) : Zm E YX8_binary_2 (d + 1) M [] 97 [] Q := by
  exact zm_vret dX8_binary_2_97 rfl k
/-! ScriptTypesModel.within(IIII)V -/
theorem bX8_within_0 : zdec cX8_within 0 [(0, .aload_n 0, 1), (1, .iload_n 1, 1), (2, .iload_n 2, 1), (3, .invokevirtual 969, 3), (6, .istore 5, 2), (8, .aload_n 0, 1), (9, .getfield 794, 3), (12, .ifCond .eq 4, 3), (15, .return_, 1), (16, .iload_n 3, 1), (17, .bipush 7, 2), (19, .if_icmp .eq 10, 3), (22, .aload_n 0, 1), (23, .bipush 6, 2), (25, .invokevirtual 966, 3), (28, .return_, 1)] = true := by decide +kernel
theorem dX8_within_0 : decode cX8_within 0 = .ok (.aload_n 0, 1) := zdec_at bX8_within_0 0 rfl
theorem dX8_within_1 : decode cX8_within 1 = .ok (.iload_n 1, 1) := zdec_at bX8_within_0 1 rfl
theorem dX8_within_2 : decode cX8_within 2 = .ok (.iload_n 2, 1) := zdec_at bX8_within_0 2 rfl
theorem dX8_within_3 : decode cX8_within 3 = .ok (.invokevirtual 969, 3) := zdec_at bX8_within_0 3 rfl
theorem dX8_within_6 : decode cX8_within 6 = .ok (.istore 5, 2) := zdec_at bX8_within_0 4 rfl
theorem dX8_within_8 : decode cX8_within 8 = .ok (.aload_n 0, 1) := zdec_at bX8_within_0 5 rfl
theorem dX8_within_9 : decode cX8_within 9 = .ok (.getfield 794, 3) := zdec_at bX8_within_0 6 rfl
theorem dX8_within_12 : decode cX8_within 12 = .ok (.ifCond .eq 4, 3) := zdec_at bX8_within_0 7 rfl
theorem dX8_within_15 : decode cX8_within 15 = .ok (.return_, 1) := zdec_at bX8_within_0 8 rfl
theorem dX8_within_16 : decode cX8_within 16 = .ok (.iload_n 3, 1) := zdec_at bX8_within_0 9 rfl
theorem dX8_within_17 : decode cX8_within 17 = .ok (.bipush 7, 2) := zdec_at bX8_within_0 10 rfl
theorem dX8_within_19 : decode cX8_within 19 = .ok (.if_icmp .eq 10, 3) := zdec_at bX8_within_0 11 rfl
theorem dX8_within_22 : decode cX8_within 22 = .ok (.aload_n 0, 1) := zdec_at bX8_within_0 12 rfl
theorem dX8_within_23 : decode cX8_within 23 = .ok (.bipush 6, 2) := zdec_at bX8_within_0 13 rfl
theorem dX8_within_25 : decode cX8_within 25 = .ok (.invokevirtual 966, 3) := zdec_at bX8_within_0 14 rfl
theorem dX8_within_28 : decode cX8_within 28 = .ok (.return_, 1) := zdec_at bX8_within_0 15 rfl
theorem bX8_within_29 : zdec cX8_within 29 [(29, .aload_n 0, 1), (30, .iload 4, 2), (32, .iload 5, 2), (34, .invokevirtual 972, 3), (37, .istore 6, 2), (39, .aload_n 0, 1), (40, .iload 6, 2), (42, .invokevirtual 827, 3), (45, .aload_n 0, 1), (46, .iconst 2, 1), (47, .invokevirtual 904, 3), (50, .return_, 1)] = true := by decide +kernel
theorem dX8_within_29 : decode cX8_within 29 = .ok (.aload_n 0, 1) := zdec_at bX8_within_29 0 rfl
theorem dX8_within_30 : decode cX8_within 30 = .ok (.iload 4, 2) := zdec_at bX8_within_29 1 rfl
theorem dX8_within_32 : decode cX8_within 32 = .ok (.iload 5, 2) := zdec_at bX8_within_29 2 rfl
theorem dX8_within_34 : decode cX8_within 34 = .ok (.invokevirtual 972, 3) := zdec_at bX8_within_29 3 rfl
theorem dX8_within_37 : decode cX8_within 37 = .ok (.istore 6, 2) := zdec_at bX8_within_29 4 rfl
theorem dX8_within_39 : decode cX8_within 39 = .ok (.aload_n 0, 1) := zdec_at bX8_within_29 5 rfl
theorem dX8_within_40 : decode cX8_within 40 = .ok (.iload 6, 2) := zdec_at bX8_within_29 6 rfl
theorem dX8_within_42 : decode cX8_within 42 = .ok (.invokevirtual 827, 3) := zdec_at bX8_within_29 7 rfl
theorem dX8_within_45 : decode cX8_within 45 = .ok (.aload_n 0, 1) := zdec_at bX8_within_29 8 rfl
theorem dX8_within_46 : decode cX8_within 46 = .ok (.iconst 2, 1) := zdec_at bX8_within_29 9 rfl
theorem dX8_within_47 : decode cX8_within 47 = .ok (.invokevirtual 904, 3) := zdec_at bX8_within_29 10 rfl
theorem dX8_within_50 : decode cX8_within 50 = .ok (.return_, 1) := zdec_at bX8_within_29 11 rfl
theorem sX8_within_0 {E : zE} {d : Nat} {Q : zO → zM → Prop} (M : zM) (l1 : Int32) (l2 : Int32) (l3 : Int32) (l4 : Int32) (k : Zm E YX8_textOf d M (zargs 0 [vr (some (97, 1, 0)), vi l1, vi l2]) 0 [] (zma E YX8_within (d + 1) [(0, vr (some (97, 1, 0))), (3, vi l3), (4, vi l4)] 3 3 [] Q)) : Zm E YX8_within (d + 1) M [(0, vr (some (97, 1, 0))), (1, vi l1), (2, vi l2), (3, vi l3), (4, vi l4)] 0 [] Q := by
  refine Zm.l (fun _ _ k_ => z_aload_n dX8_within_0 rfl rfl k_) ?_
  refine Zm.l (fun _ _ k_ => z_iload_n dX8_within_1 rfl rfl k_) ?_
  refine Zm.l (fun _ _ k_ => z_iload_n dX8_within_2 rfl rfl k_) ?_
  refine Zm.pick [0, 3, 4] rfl ?_
  exact zm_callV (as := [vi l1, vi l2]) (st := []) dX8_within_3 vsX8_969_1 (Nat.le_refl _) (Nat.le_of_ble_eq_true rfl) (Nat.le_of_ble_eq_true rfl) rfl k
theorem sX8_within_6 {E : zE} {d : Nat} {Q : zO → zM → Prop} (M : zM) (l3 : Int32) (l4 : Int32) (s0 : Int32) (k : if (gi M 97 75) = 0 then (if l3 = (7 : Int32) then (Zm E YX8_read_2 d M (zargs 0 [vr (some (97, 1, 0)), vi l4, vi s0]) 0 [] (zma E YX8_within (d + 1) [(0, vr (some (97, 1, 0)))] 34 3 [] Q)) else (Zm E YX8_error d M (zargs 0 [vr (some (97, 1, 0)), vi (6 : Int32)]) 0 [] (zma E YX8_within (d + 1) [] 25 3 [] Q))) else (Q (.inl none) M)) : Zm E YX8_within (d + 1) M [(0, vr (some (97, 1, 0))), (3, vi l3), (4, vi l4)] 6 [vi s0] Q := by
  refine Zm.l (fun _ _ k_ => z_ist dX8_within_6 (by decide) (lv' := [(0, vr (some (97, 1, 0))), (3, vi l3), (4, vi l4), (5, vi s0)]) rfl k_) ?_
  refine Zm.l (fun _ _ k_ => z_aload_n dX8_within_8 rfl rfl k_) ?_
  refine zm_geti dX8_within_9 fsX8_794_1 (by decide) (by decide) ?_
  refine Zm.br (fun _ _ k1_ k2_ => z_if_eq (tgt := 16) dX8_within_12 rfl k1_ k2_) (fun h_ => ?_) (fun h_ => ?_)
  · have k := zit h_ k
    refine Zm.l (fun _ _ k_ => z_iload_n dX8_within_16 rfl rfl k_) ?_
    refine Zm.l (fun _ _ k_ => z_bipush (v := 7) dX8_within_17 rfl k_) ?_
    refine Zm.br (fun _ _ k1_ k2_ => z_icmp_eq (tgt := 29) dX8_within_19 rfl k1_ k2_) (fun h_ => ?_) (fun h_ => ?_)
    · have k := zit h_ k
      refine Zm.l (fun _ _ k_ => z_aload_n dX8_within_29 rfl rfl k_) ?_
      refine Zm.l (fun _ _ k_ => z_iload dX8_within_30 rfl k_) ?_
      refine Zm.l (fun _ _ k_ => z_iload dX8_within_32 rfl k_) ?_
      refine Zm.pick [0] rfl ?_
      exact zm_callV (as := [vi l4, vi s0]) (st := []) dX8_within_34 vsX8_972_1 (Nat.le_refl _) (Nat.le_of_ble_eq_true rfl) (Nat.le_of_ble_eq_true rfl) rfl k
    · have k := zif h_ k
      refine Zm.l (fun _ _ k_ => z_aload_n dX8_within_22 rfl rfl k_) ?_
      refine Zm.l (fun _ _ k_ => z_bipush (v := 6) dX8_within_23 rfl k_) ?_
      refine Zm.pick [] rfl ?_
      exact zm_callV (as := [vi (6 : Int32)]) (st := []) dX8_within_25 vsX8_966_1 (Nat.le_refl _) (Nat.le_of_ble_eq_true rfl) (Nat.le_of_ble_eq_true rfl) rfl k
  · have k := zif h_ k
    exact zm_vret dX8_within_15 rfl k
theorem sX8_within_28 {E : zE} {d : Nat} {Q : zO → zM → Prop} (M : zM)  (k : Q (.inl none) M) : Zm E YX8_within (d + 1) M [] 28 [] Q := by
  exact zm_vret dX8_within_28 rfl k
theorem sX8_within_37 {E : zE} {d : Nat} {Q : zO → zM → Prop} (M : zM) (s0 : Int32) (k : Zm E YX8_truth d M (zargs 0 [vr (some (97, 1, 0)), vi s0]) 0 [] (zma E YX8_within (d + 1) [(0, vr (some (97, 1, 0)))] 42 3 [] Q)) : Zm E YX8_within (d + 1) M [(0, vr (some (97, 1, 0)))] 37 [vi s0] Q := by
  refine Zm.l (fun _ _ k_ => z_ist dX8_within_37 (by decide) (lv' := [(0, vr (some (97, 1, 0))), (6, vi s0)]) rfl k_) ?_
  refine Zm.l (fun _ _ k_ => z_aload_n dX8_within_39 rfl rfl k_) ?_
  refine Zm.l (fun _ _ k_ => z_iload dX8_within_40 rfl k_) ?_
  refine Zm.pick [0] rfl ?_
  exact zm_callV (as := [vi s0]) (st := []) dX8_within_42 vsX8_827_1 (Nat.le_refl _) (Nat.le_of_ble_eq_true rfl) (Nat.le_of_ble_eq_true rfl) rfl k
theorem sX8_within_45 {E : zE} {d : Nat} {Q : zO → zM → Prop} (M : zM)  (k : Zm E YX8_gives d M (zargs 0 [vr (some (97, 1, 0)), vi (2 : Int32)]) 0 [] (zma E YX8_within (d + 1) [] 47 3 [] Q)) : Zm E YX8_within (d + 1) M [(0, vr (some (97, 1, 0)))] 45 [] Q := by
  refine Zm.l (fun _ _ k_ => z_aload_n dX8_within_45 rfl rfl k_) ?_
  refine Zm.l (fun _ _ k_ => z_iconst (v := 2) dX8_within_46 rfl k_) ?_
  refine Zm.pick [] rfl ?_
  exact zm_callV (as := [vi (2 : Int32)]) (st := []) dX8_within_47 vsX8_904_1 (Nat.le_refl _) (Nat.le_of_ble_eq_true rfl) (Nat.le_of_ble_eq_true rfl) rfl k
theorem sX8_within_50 {E : zE} {d : Nat} {Q : zO → zM → Prop} (M : zM)  (k : Q (.inl none) M) : Zm E YX8_within (d + 1) M [] 50 [] Q := by
  exact zm_vret dX8_within_50 rfl k
/-! ScriptTypesModel.isMadeBy(IIII)V -/
theorem bX8_isMadeBy_0 : zdec cX8_isMadeBy 0 [(0, .aload_n 0, 1), (1, .iload_n 3, 1), (2, .iload 4, 2), (4, .invokevirtual 992, 3), (7, .istore 5, 2), (9, .iload 5, 2), (11, .ifCond .eq 28, 3), (14, .aload_n 0, 1), (15, .iload 4, 2), (17, .iconst 1, 1), (18, .invokevirtual 972, 3), (21, .istore 6, 2), (23, .aload_n 0, 1), (24, .getfield 788, 3), (27, .bipush 7, 2), (29, .if_icmp .ne 7, 3)] = true := by decide +kernel
theorem dX8_isMadeBy_0 : decode cX8_isMadeBy 0 = .ok (.aload_n 0, 1) := zdec_at bX8_isMadeBy_0 0 rfl
theorem dX8_isMadeBy_1 : decode cX8_isMadeBy 1 = .ok (.iload_n 3, 1) := zdec_at bX8_isMadeBy_0 1 rfl
theorem dX8_isMadeBy_2 : decode cX8_isMadeBy 2 = .ok (.iload 4, 2) := zdec_at bX8_isMadeBy_0 2 rfl
theorem dX8_isMadeBy_4 : decode cX8_isMadeBy 4 = .ok (.invokevirtual 992, 3) := zdec_at bX8_isMadeBy_0 3 rfl
theorem dX8_isMadeBy_7 : decode cX8_isMadeBy 7 = .ok (.istore 5, 2) := zdec_at bX8_isMadeBy_0 4 rfl
theorem dX8_isMadeBy_9 : decode cX8_isMadeBy 9 = .ok (.iload 5, 2) := zdec_at bX8_isMadeBy_0 5 rfl
theorem dX8_isMadeBy_11 : decode cX8_isMadeBy 11 = .ok (.ifCond .eq 28, 3) := zdec_at bX8_isMadeBy_0 6 rfl
theorem dX8_isMadeBy_14 : decode cX8_isMadeBy 14 = .ok (.aload_n 0, 1) := zdec_at bX8_isMadeBy_0 7 rfl
theorem dX8_isMadeBy_15 : decode cX8_isMadeBy 15 = .ok (.iload 4, 2) := zdec_at bX8_isMadeBy_0 8 rfl
theorem dX8_isMadeBy_17 : decode cX8_isMadeBy 17 = .ok (.iconst 1, 1) := zdec_at bX8_isMadeBy_0 9 rfl
theorem dX8_isMadeBy_18 : decode cX8_isMadeBy 18 = .ok (.invokevirtual 972, 3) := zdec_at bX8_isMadeBy_0 10 rfl
theorem dX8_isMadeBy_21 : decode cX8_isMadeBy 21 = .ok (.istore 6, 2) := zdec_at bX8_isMadeBy_0 11 rfl
theorem dX8_isMadeBy_23 : decode cX8_isMadeBy 23 = .ok (.aload_n 0, 1) := zdec_at bX8_isMadeBy_0 12 rfl
theorem dX8_isMadeBy_24 : decode cX8_isMadeBy 24 = .ok (.getfield 788, 3) := zdec_at bX8_isMadeBy_0 13 rfl
theorem dX8_isMadeBy_27 : decode cX8_isMadeBy 27 = .ok (.bipush 7, 2) := zdec_at bX8_isMadeBy_0 14 rfl
theorem dX8_isMadeBy_29 : decode cX8_isMadeBy 29 = .ok (.if_icmp .ne 7, 3) := zdec_at bX8_isMadeBy_0 15 rfl
theorem bX8_isMadeBy_32 : zdec cX8_isMadeBy 32 [(32, .iconst 1, 1), (33, .goto 4, 3), (36, .iconst 0, 1), (37, .istore 5, 2), (39, .iload 5, 2), (41, .ifCond .ne 10, 3), (44, .aload_n 0, 1), (45, .bipush 6, 2), (47, .invokevirtual 966, 3), (50, .return_, 1), (51, .aload_n 0, 1), (52, .getfield 791, 3), (55, .istore 6, 2), (57, .iconst 0, 1), (58, .istore 7, 2), (60, .iload_n 1, 1)] = true := by decide +kernel
theorem dX8_isMadeBy_32 : decode cX8_isMadeBy 32 = .ok (.iconst 1, 1) := zdec_at bX8_isMadeBy_32 0 rfl
theorem dX8_isMadeBy_33 : decode cX8_isMadeBy 33 = .ok (.goto 4, 3) := zdec_at bX8_isMadeBy_32 1 rfl
theorem dX8_isMadeBy_36 : decode cX8_isMadeBy 36 = .ok (.iconst 0, 1) := zdec_at bX8_isMadeBy_32 2 rfl
theorem dX8_isMadeBy_37 : decode cX8_isMadeBy 37 = .ok (.istore 5, 2) := zdec_at bX8_isMadeBy_32 3 rfl
theorem dX8_isMadeBy_39 : decode cX8_isMadeBy 39 = .ok (.iload 5, 2) := zdec_at bX8_isMadeBy_32 4 rfl
theorem dX8_isMadeBy_41 : decode cX8_isMadeBy 41 = .ok (.ifCond .ne 10, 3) := zdec_at bX8_isMadeBy_32 5 rfl
theorem dX8_isMadeBy_44 : decode cX8_isMadeBy 44 = .ok (.aload_n 0, 1) := zdec_at bX8_isMadeBy_32 6 rfl
theorem dX8_isMadeBy_45 : decode cX8_isMadeBy 45 = .ok (.bipush 6, 2) := zdec_at bX8_isMadeBy_32 7 rfl
theorem dX8_isMadeBy_47 : decode cX8_isMadeBy 47 = .ok (.invokevirtual 966, 3) := zdec_at bX8_isMadeBy_32 8 rfl
theorem dX8_isMadeBy_50 : decode cX8_isMadeBy 50 = .ok (.return_, 1) := zdec_at bX8_isMadeBy_32 9 rfl
theorem dX8_isMadeBy_51 : decode cX8_isMadeBy 51 = .ok (.aload_n 0, 1) := zdec_at bX8_isMadeBy_32 10 rfl
theorem dX8_isMadeBy_52 : decode cX8_isMadeBy 52 = .ok (.getfield 791, 3) := zdec_at bX8_isMadeBy_32 11 rfl
theorem dX8_isMadeBy_55 : decode cX8_isMadeBy 55 = .ok (.istore 6, 2) := zdec_at bX8_isMadeBy_32 12 rfl
theorem dX8_isMadeBy_57 : decode cX8_isMadeBy 57 = .ok (.iconst 0, 1) := zdec_at bX8_isMadeBy_32 13 rfl
theorem dX8_isMadeBy_58 : decode cX8_isMadeBy 58 = .ok (.istore 7, 2) := zdec_at bX8_isMadeBy_32 14 rfl
theorem dX8_isMadeBy_60 : decode cX8_isMadeBy 60 = .ok (.iload_n 1, 1) := zdec_at bX8_isMadeBy_32 15 rfl
theorem bX8_isMadeBy_61 : zdec cX8_isMadeBy 61 [(61, .bipush 7, 2), (63, .if_icmp .ne 12, 3), (66, .aload_n 0, 1), (67, .getfield 137, 3), (70, .iload_n 2, 1), (71, .iaload, 1), (72, .goto 4, 3), (75, .iconst (-1), 1), (76, .istore 8, 2), (78, .iload 8, 2), (80, .iconst (-1), 1), (81, .if_icmp .eq 34, 3), (84, .iload 7, 2), (86, .ifCond .ne 10, 3), (89, .iload 8, 2), (91, .iload 6, 2)] = true := by decide +kernel
theorem dX8_isMadeBy_61 : decode cX8_isMadeBy 61 = .ok (.bipush 7, 2) := zdec_at bX8_isMadeBy_61 0 rfl
theorem dX8_isMadeBy_63 : decode cX8_isMadeBy 63 = .ok (.if_icmp .ne 12, 3) := zdec_at bX8_isMadeBy_61 1 rfl
theorem dX8_isMadeBy_66 : decode cX8_isMadeBy 66 = .ok (.aload_n 0, 1) := zdec_at bX8_isMadeBy_61 2 rfl
theorem dX8_isMadeBy_67 : decode cX8_isMadeBy 67 = .ok (.getfield 137, 3) := zdec_at bX8_isMadeBy_61 3 rfl
theorem dX8_isMadeBy_70 : decode cX8_isMadeBy 70 = .ok (.iload_n 2, 1) := zdec_at bX8_isMadeBy_61 4 rfl
theorem dX8_isMadeBy_71 : decode cX8_isMadeBy 71 = .ok (.iaload, 1) := zdec_at bX8_isMadeBy_61 5 rfl
theorem dX8_isMadeBy_72 : decode cX8_isMadeBy 72 = .ok (.goto 4, 3) := zdec_at bX8_isMadeBy_61 6 rfl
theorem dX8_isMadeBy_75 : decode cX8_isMadeBy 75 = .ok (.iconst (-1), 1) := zdec_at bX8_isMadeBy_61 7 rfl
theorem dX8_isMadeBy_76 : decode cX8_isMadeBy 76 = .ok (.istore 8, 2) := zdec_at bX8_isMadeBy_61 8 rfl
theorem dX8_isMadeBy_78 : decode cX8_isMadeBy 78 = .ok (.iload 8, 2) := zdec_at bX8_isMadeBy_61 9 rfl
theorem dX8_isMadeBy_80 : decode cX8_isMadeBy 80 = .ok (.iconst (-1), 1) := zdec_at bX8_isMadeBy_61 10 rfl
theorem dX8_isMadeBy_81 : decode cX8_isMadeBy 81 = .ok (.if_icmp .eq 34, 3) := zdec_at bX8_isMadeBy_61 11 rfl
theorem dX8_isMadeBy_84 : decode cX8_isMadeBy 84 = .ok (.iload 7, 2) := zdec_at bX8_isMadeBy_61 12 rfl
theorem dX8_isMadeBy_86 : decode cX8_isMadeBy 86 = .ok (.ifCond .ne 10, 3) := zdec_at bX8_isMadeBy_61 13 rfl
theorem dX8_isMadeBy_89 : decode cX8_isMadeBy 89 = .ok (.iload 8, 2) := zdec_at bX8_isMadeBy_61 14 rfl
theorem dX8_isMadeBy_91 : decode cX8_isMadeBy 91 = .ok (.iload 6, 2) := zdec_at bX8_isMadeBy_61 15 rfl
theorem bX8_isMadeBy_93 : zdec cX8_isMadeBy 93 [(93, .if_icmp .ne 7, 3), (96, .iconst 1, 1), (97, .goto 4, 3), (100, .iconst 0, 1), (101, .istore 7, 2), (103, .aload_n 0, 1), (104, .getfield 137, 3), (107, .iload 8, 2), (109, .iaload, 1), (110, .istore 8, 2), (112, .goto (-34), 3), (115, .aload_n 0, 1), (116, .iload 7, 2), (118, .invokevirtual 827, 3), (121, .aload_n 0, 1), (122, .iconst 2, 1)] = true := by decide +kernel
theorem dX8_isMadeBy_93 : decode cX8_isMadeBy 93 = .ok (.if_icmp .ne 7, 3) := zdec_at bX8_isMadeBy_93 0 rfl
theorem dX8_isMadeBy_96 : decode cX8_isMadeBy 96 = .ok (.iconst 1, 1) := zdec_at bX8_isMadeBy_93 1 rfl
theorem dX8_isMadeBy_97 : decode cX8_isMadeBy 97 = .ok (.goto 4, 3) := zdec_at bX8_isMadeBy_93 2 rfl
theorem dX8_isMadeBy_100 : decode cX8_isMadeBy 100 = .ok (.iconst 0, 1) := zdec_at bX8_isMadeBy_93 3 rfl
theorem dX8_isMadeBy_101 : decode cX8_isMadeBy 101 = .ok (.istore 7, 2) := zdec_at bX8_isMadeBy_93 4 rfl
theorem dX8_isMadeBy_103 : decode cX8_isMadeBy 103 = .ok (.aload_n 0, 1) := zdec_at bX8_isMadeBy_93 5 rfl
theorem dX8_isMadeBy_104 : decode cX8_isMadeBy 104 = .ok (.getfield 137, 3) := zdec_at bX8_isMadeBy_93 6 rfl
theorem dX8_isMadeBy_107 : decode cX8_isMadeBy 107 = .ok (.iload 8, 2) := zdec_at bX8_isMadeBy_93 7 rfl
theorem dX8_isMadeBy_109 : decode cX8_isMadeBy 109 = .ok (.iaload, 1) := zdec_at bX8_isMadeBy_93 8 rfl
theorem dX8_isMadeBy_110 : decode cX8_isMadeBy 110 = .ok (.istore 8, 2) := zdec_at bX8_isMadeBy_93 9 rfl
theorem dX8_isMadeBy_112 : decode cX8_isMadeBy 112 = .ok (.goto (-34), 3) := zdec_at bX8_isMadeBy_93 10 rfl
theorem dX8_isMadeBy_115 : decode cX8_isMadeBy 115 = .ok (.aload_n 0, 1) := zdec_at bX8_isMadeBy_93 11 rfl
theorem dX8_isMadeBy_116 : decode cX8_isMadeBy 116 = .ok (.iload 7, 2) := zdec_at bX8_isMadeBy_93 12 rfl
theorem dX8_isMadeBy_118 : decode cX8_isMadeBy 118 = .ok (.invokevirtual 827, 3) := zdec_at bX8_isMadeBy_93 13 rfl
theorem dX8_isMadeBy_121 : decode cX8_isMadeBy 121 = .ok (.aload_n 0, 1) := zdec_at bX8_isMadeBy_93 14 rfl
theorem dX8_isMadeBy_122 : decode cX8_isMadeBy 122 = .ok (.iconst 2, 1) := zdec_at bX8_isMadeBy_93 15 rfl
theorem bX8_isMadeBy_123 : zdec cX8_isMadeBy 123 [(123, .invokevirtual 904, 3), (126, .return_, 1)] = true := by decide +kernel
theorem dX8_isMadeBy_123 : decode cX8_isMadeBy 123 = .ok (.invokevirtual 904, 3) := zdec_at bX8_isMadeBy_123 0 rfl
theorem dX8_isMadeBy_126 : decode cX8_isMadeBy 126 = .ok (.return_, 1) := zdec_at bX8_isMadeBy_123 1 rfl
theorem sX8_isMadeBy_0 {E : zE} {d : Nat} {Q : zO → zM → Prop} (M : zM) (l1 : Int32) (l2 : Int32) (l3 : Int32) (l4 : Int32) (k : Zm E YX8_isFunction d M (zargs 0 [vr (some (97, 1, 0)), vi l3, vi l4]) 0 [] (zma E YX8_isMadeBy (d + 1) [(0, vr (some (97, 1, 0))), (1, vi l1), (2, vi l2), (4, vi l4)] 4 3 [] Q)) : Zm E YX8_isMadeBy (d + 1) M [(0, vr (some (97, 1, 0))), (1, vi l1), (2, vi l2), (3, vi l3), (4, vi l4)] 0 [] Q := by
  refine Zm.l (fun _ _ k_ => z_aload_n dX8_isMadeBy_0 rfl rfl k_) ?_
  refine Zm.l (fun _ _ k_ => z_iload_n dX8_isMadeBy_1 rfl rfl k_) ?_
  refine Zm.l (fun _ _ k_ => z_iload dX8_isMadeBy_2 rfl k_) ?_
  refine Zm.pick [0, 1, 2, 4] rfl ?_
  exact zm_callV (as := [vi l3, vi l4]) (st := []) dX8_isMadeBy_4 vsX8_992_1 (Nat.le_refl _) (Nat.le_of_ble_eq_true rfl) (Nat.le_of_ble_eq_true rfl) rfl k
theorem sX8_isMadeBy_7 {E : zE} {d : Nat} {Q : zO → zM → Prop} (M : zM) (l1 : Int32) (l2 : Int32) (l4 : Int32) (s0 : Int32) (k : if s0 = 0 then (Zm E YX8_isMadeBy (d + 1) M [(0, vr (some (97, 1, 0))), (1, vi l1), (2, vi l2), (5, vi s0)] 39 [] Q) else (Zm E YX8_read_2 d M (zargs 0 [vr (some (97, 1, 0)), vi l4, vi (1 : Int32)]) 0 [] (zma E YX8_isMadeBy (d + 1) [(0, vr (some (97, 1, 0))), (1, vi l1), (2, vi l2)] 18 3 [] Q))) : Zm E YX8_isMadeBy (d + 1) M [(0, vr (some (97, 1, 0))), (1, vi l1), (2, vi l2), (4, vi l4)] 7 [vi s0] Q := by
  refine Zm.l (fun _ _ k_ => z_ist dX8_isMadeBy_7 (by decide) (lv' := [(0, vr (some (97, 1, 0))), (1, vi l1), (2, vi l2), (4, vi l4), (5, vi s0)]) rfl k_) ?_
  refine Zm.l (fun _ _ k_ => z_iload dX8_isMadeBy_9 rfl k_) ?_
  refine Zm.br (fun _ _ k1_ k2_ => z_if_eq (tgt := 39) dX8_isMadeBy_11 rfl k1_ k2_) (fun h_ => ?_) (fun h_ => ?_)
  · have k := zit h_ k
    refine Zm.pick [0, 1, 2, 4] rfl ?_
    exact k
  · have k := zif h_ k
    refine Zm.l (fun _ _ k_ => z_aload_n dX8_isMadeBy_14 rfl rfl k_) ?_
    refine Zm.l (fun _ _ k_ => z_iload dX8_isMadeBy_15 rfl k_) ?_
    refine Zm.l (fun _ _ k_ => z_iconst (v := 1) dX8_isMadeBy_17 rfl k_) ?_
    refine Zm.pick [0, 1, 2] rfl ?_
    exact zm_callV (as := [vi l4, vi (1 : Int32)]) (st := []) dX8_isMadeBy_18 vsX8_972_1 (Nat.le_refl _) (Nat.le_of_ble_eq_true rfl) (Nat.le_of_ble_eq_true rfl) rfl k
theorem sX8_isMadeBy_21 {E : zE} {d : Nat} {Q : zO → zM → Prop} (M : zM) (l1 : Int32) (l2 : Int32) (s0 : Int32) (k : if (gi M 97 111) = (7 : Int32) then (Zm E YX8_isMadeBy (d + 1) M [(0, vr (some (97, 1, 0))), (1, vi l1), (2, vi l2), (5, vi (1 : Int32))] 39 [] Q) else (Zm E YX8_isMadeBy (d + 1) M [(0, vr (some (97, 1, 0))), (1, vi l1), (2, vi l2), (5, vi (0 : Int32))] 39 [] Q)) : Zm E YX8_isMadeBy (d + 1) M [(0, vr (some (97, 1, 0))), (1, vi l1), (2, vi l2)] 21 [vi s0] Q := by
  refine Zm.l (fun _ _ k_ => z_ist dX8_isMadeBy_21 (by decide) (lv' := [(0, vr (some (97, 1, 0))), (1, vi l1), (2, vi l2), (6, vi s0)]) rfl k_) ?_
  refine Zm.l (fun _ _ k_ => z_aload_n dX8_isMadeBy_23 rfl rfl k_) ?_
  refine zm_geti dX8_isMadeBy_24 fsX8_788_1 (by decide) (by decide) ?_
  refine Zm.l (fun _ _ k_ => z_bipush (v := 7) dX8_isMadeBy_27 rfl k_) ?_
  refine Zm.brn (fun _ _ k1_ k2_ => z_icmp_ne (tgt := 36) dX8_isMadeBy_29 rfl k1_ k2_) (fun h_ => ?_) (fun h_ => ?_)
  · have k := zif h_ k
    refine Zm.l (fun _ _ k_ => z_iconst (v := 0) dX8_isMadeBy_36 rfl k_) ?_
    refine Zm.l (fun _ _ k_ => z_ist dX8_isMadeBy_37 (by decide) (lv' := [(0, vr (some (97, 1, 0))), (1, vi l1), (2, vi l2), (5, vi (0 : Int32)), (6, vi s0)]) rfl k_) ?_
    refine Zm.pick [0, 1, 2, 3] rfl ?_
    exact k
  · have k := zit h_ k
    refine Zm.l (fun _ _ k_ => z_iconst (v := 1) dX8_isMadeBy_32 rfl k_) ?_
    refine Zm.l (fun _ _ k_ => z_goto (tgt := 37) dX8_isMadeBy_33 rfl k_) ?_
    refine Zm.l (fun _ _ k_ => z_ist dX8_isMadeBy_37 (by decide) (lv' := [(0, vr (some (97, 1, 0))), (1, vi l1), (2, vi l2), (5, vi (1 : Int32)), (6, vi s0)]) rfl k_) ?_
    refine Zm.pick [0, 1, 2, 3] rfl ?_
    exact k
theorem sX8_isMadeBy_39 {E : zE} {d : Nat} {Q : zO → zM → Prop} (M : zM) (l1 : Int32) (l2 : Int32) (l5 : Int32) (k : if l5 = 0 then (Zm E YX8_error d M (zargs 0 [vr (some (97, 1, 0)), vi (6 : Int32)]) 0 [] (zma E YX8_isMadeBy (d + 1) [] 47 3 [] Q)) else (if l1 = (7 : Int32) then (vp_in l2 300 ∧ (Zm E YX8_isMadeBy (d + 1) M [(0, vr (some (97, 1, 0))), (6, vi (gi M 97 112)), (7, vi (0 : Int32)), (8, vi (gi M 139 (l2).toNatClampNeg))] 78 [] Q)) else (Zm E YX8_isMadeBy (d + 1) M [(0, vr (some (97, 1, 0))), (6, vi (gi M 97 112)), (7, vi (0 : Int32)), (8, vi (-1 : Int32))] 78 [] Q))) : Zm E YX8_isMadeBy (d + 1) M [(0, vr (some (97, 1, 0))), (1, vi l1), (2, vi l2), (5, vi l5)] 39 [] Q := by
  refine Zm.l (fun _ _ k_ => z_iload dX8_isMadeBy_39 rfl k_) ?_
  refine Zm.brn (fun _ _ k1_ k2_ => z_if_ne (tgt := 51) dX8_isMadeBy_41 rfl k1_ k2_) (fun h_ => ?_) (fun h_ => ?_)
  · have k := zif h_ k
    refine Zm.l (fun _ _ k_ => z_aload_n dX8_isMadeBy_51 rfl rfl k_) ?_
    refine zm_geti dX8_isMadeBy_52 fsX8_791_1 (by decide) (by decide) ?_
    refine Zm.l (fun _ _ k_ => z_ist dX8_isMadeBy_55 (by decide) (lv' := [(0, vr (some (97, 1, 0))), (1, vi l1), (2, vi l2), (5, vi l5), (6, vi (gi M 97 112))]) rfl k_) ?_
    refine Zm.l (fun _ _ k_ => z_iconst (v := 0) dX8_isMadeBy_57 rfl k_) ?_
    refine Zm.l (fun _ _ k_ => z_ist dX8_isMadeBy_58 (by decide) (lv' := [(0, vr (some (97, 1, 0))), (1, vi l1), (2, vi l2), (5, vi l5), (6, vi (gi M 97 112)), (7, vi (0 : Int32))]) rfl k_) ?_
    refine Zm.l (fun _ _ k_ => z_iload_n dX8_isMadeBy_60 rfl rfl k_) ?_
    refine Zm.l (fun _ _ k_ => z_bipush (v := 7) dX8_isMadeBy_61 rfl k_) ?_
    refine Zm.brn (fun _ _ k1_ k2_ => z_icmp_ne (tgt := 75) dX8_isMadeBy_63 rfl k1_ k2_) (fun h_ => ?_) (fun h_ => ?_)
    · have k := zif h_ k
      refine Zm.l (fun _ _ k_ => z_iconst (v := -1) dX8_isMadeBy_75 rfl k_) ?_
      refine Zm.l (fun _ _ k_ => z_ist dX8_isMadeBy_76 (by decide) (lv' := [(0, vr (some (97, 1, 0))), (1, vi l1), (2, vi l2), (5, vi l5), (6, vi (gi M 97 112)), (7, vi (0 : Int32)), (8, vi (-1 : Int32))]) rfl k_) ?_
      refine Zm.pick [0, 4, 5, 6] rfl ?_
      exact k
    · have k := zit h_ k
      refine Zm.l (fun _ _ k_ => z_aload_n dX8_isMadeBy_66 rfl rfl k_) ?_
      refine zm_getr 36 dX8_isMadeBy_67 fsX8_137_1 rfl ?_
      refine Zm.l (fun _ _ k_ => z_iload_n dX8_isMadeBy_70 rfl rfl k_) ?_
      obtain ⟨b_, k⟩ := k
      refine zm_iald dX8_isMadeBy_71 b_ (by decide) (by decide) ?_
      refine Zm.l (fun _ _ k_ => z_goto (tgt := 76) dX8_isMadeBy_72 rfl k_) ?_
      refine Zm.l (fun _ _ k_ => z_ist dX8_isMadeBy_76 (by decide) (lv' := [(0, vr (some (97, 1, 0))), (1, vi l1), (2, vi l2), (5, vi l5), (6, vi (gi M 97 112)), (7, vi (0 : Int32)), (8, vi (gi M 139 (l2).toNatClampNeg))]) rfl k_) ?_
      refine Zm.pick [0, 4, 5, 6] rfl ?_
      exact k
  · have k := zit h_ k
    refine Zm.l (fun _ _ k_ => z_aload_n dX8_isMadeBy_44 rfl rfl k_) ?_
    refine Zm.l (fun _ _ k_ => z_bipush (v := 6) dX8_isMadeBy_45 rfl k_) ?_
    refine Zm.pick [] rfl ?_
    exact zm_callV (as := [vi (6 : Int32)]) (st := []) dX8_isMadeBy_47 vsX8_966_1 (Nat.le_refl _) (Nat.le_of_ble_eq_true rfl) (Nat.le_of_ble_eq_true rfl) rfl k
theorem sX8_isMadeBy_50 {E : zE} {d : Nat} {Q : zO → zM → Prop} (M : zM)  (k : Q (.inl none) M) : Zm E YX8_isMadeBy (d + 1) M [] 50 [] Q := by
  exact zm_vret dX8_isMadeBy_50 rfl k
theorem sX8_isMadeBy_78 {E : zE} {d : Nat} {Q : zO → zM → Prop} (M : zM) (l6 : Int32) (l7 : Int32) (l8 : Int32) (k : if l8 = (-1 : Int32) then (Zm E YX8_truth d M (zargs 0 [vr (some (97, 1, 0)), vi l7]) 0 [] (zma E YX8_isMadeBy (d + 1) [(0, vr (some (97, 1, 0)))] 118 3 [] Q)) else (if l7 = 0 then (if l8 = l6 then (Zm E YX8_isMadeBy (d + 1) M [(0, vr (some (97, 1, 0))), (6, vi l6), (8, vi l8)] 96 [] Q) else (vp_in l8 300 ∧ (Zm E YX8_isMadeBy (d + 1) M [(0, vr (some (97, 1, 0))), (6, vi l6), (7, vi (0 : Int32)), (8, vi (gi M 139 (l8).toNatClampNeg))] 78 [] Q))) else (Zm E YX8_isMadeBy (d + 1) M [(0, vr (some (97, 1, 0))), (6, vi l6), (8, vi l8)] 96 [] Q))) : Zm E YX8_isMadeBy (d + 1) M [(0, vr (some (97, 1, 0))), (6, vi l6), (7, vi l7), (8, vi l8)] 78 [] Q := by
  refine Zm.l (fun _ _ k_ => z_iload dX8_isMadeBy_78 rfl k_) ?_
  refine Zm.l (fun _ _ k_ => z_iconst (v := -1) dX8_isMadeBy_80 rfl k_) ?_
  refine Zm.br (fun _ _ k1_ k2_ => z_icmp_eq (tgt := 115) dX8_isMadeBy_81 rfl k1_ k2_) (fun h_ => ?_) (fun h_ => ?_)
  · have k := zit h_ k
    refine Zm.l (fun _ _ k_ => z_aload_n dX8_isMadeBy_115 rfl rfl k_) ?_
    refine Zm.l (fun _ _ k_ => z_iload dX8_isMadeBy_116 rfl k_) ?_
    refine Zm.pick [0] rfl ?_
    exact zm_callV (as := [vi l7]) (st := []) dX8_isMadeBy_118 vsX8_827_1 (Nat.le_refl _) (Nat.le_of_ble_eq_true rfl) (Nat.le_of_ble_eq_true rfl) rfl k
  · have k := zif h_ k
    refine Zm.l (fun _ _ k_ => z_iload dX8_isMadeBy_84 rfl k_) ?_
    refine Zm.brn (fun _ _ k1_ k2_ => z_if_ne (tgt := 96) dX8_isMadeBy_86 rfl k1_ k2_) (fun h_ => ?_) (fun h_ => ?_)
    · have k := zif h_ k
      refine Zm.pick [0, 1, 3] rfl ?_
      exact k
    · have k := zit h_ k
      refine Zm.l (fun _ _ k_ => z_iload dX8_isMadeBy_89 rfl k_) ?_
      refine Zm.l (fun _ _ k_ => z_iload dX8_isMadeBy_91 rfl k_) ?_
      refine Zm.brn (fun _ _ k1_ k2_ => z_icmp_ne (tgt := 100) dX8_isMadeBy_93 rfl k1_ k2_) (fun h_ => ?_) (fun h_ => ?_)
      · have k := zif h_ k
        refine Zm.l (fun _ _ k_ => z_iconst (v := 0) dX8_isMadeBy_100 rfl k_) ?_
        refine Zm.l (fun _ _ k_ => z_ist dX8_isMadeBy_101 (by decide) (lv' := [(0, vr (some (97, 1, 0))), (6, vi l6), (7, vi (0 : Int32)), (8, vi l8)]) rfl k_) ?_
        refine Zm.l (fun _ _ k_ => z_aload_n dX8_isMadeBy_103 rfl rfl k_) ?_
        refine zm_getr 36 dX8_isMadeBy_104 fsX8_137_1 rfl ?_
        refine Zm.l (fun _ _ k_ => z_iload dX8_isMadeBy_107 rfl k_) ?_
        obtain ⟨b_, k⟩ := k
        refine zm_iald dX8_isMadeBy_109 b_ (by decide) (by decide) ?_
        refine Zm.l (fun _ _ k_ => z_ist dX8_isMadeBy_110 (by decide) (lv' := [(0, vr (some (97, 1, 0))), (6, vi l6), (7, vi (0 : Int32)), (8, vi (gi M 139 (l8).toNatClampNeg))]) rfl k_) ?_
        refine Zm.l (fun _ _ k_ => z_goto (tgt := 78) dX8_isMadeBy_112 rfl k_) ?_
        exact k
      · have k := zit h_ k
        refine Zm.pick [0, 1, 3] rfl ?_
        exact k
theorem sX8_isMadeBy_96 {E : zE} {d : Nat} {Q : zO → zM → Prop} (M : zM) (l6 : Int32) (l8 : Int32) (k : vp_in l8 300 ∧ (Zm E YX8_isMadeBy (d + 1) M [(0, vr (some (97, 1, 0))), (6, vi l6), (7, vi (1 : Int32)), (8, vi (gi M 139 (l8).toNatClampNeg))] 78 [] Q)) : Zm E YX8_isMadeBy (d + 1) M [(0, vr (some (97, 1, 0))), (6, vi l6), (8, vi l8)] 96 [] Q := by
  refine Zm.l (fun _ _ k_ => z_iconst (v := 1) dX8_isMadeBy_96 rfl k_) ?_
  refine Zm.l (fun _ _ k_ => z_goto (tgt := 101) dX8_isMadeBy_97 rfl k_) ?_
  refine Zm.l (fun _ _ k_ => z_ist dX8_isMadeBy_101 (by decide) (lv' := [(0, vr (some (97, 1, 0))), (6, vi l6), (7, vi (1 : Int32)), (8, vi l8)]) rfl k_) ?_
  refine Zm.l (fun _ _ k_ => z_aload_n dX8_isMadeBy_103 rfl rfl k_) ?_
  refine zm_getr 36 dX8_isMadeBy_104 fsX8_137_1 rfl ?_
  refine Zm.l (fun _ _ k_ => z_iload dX8_isMadeBy_107 rfl k_) ?_
  obtain ⟨b_, k⟩ := k
  refine zm_iald dX8_isMadeBy_109 b_ (by decide) (by decide) ?_
  refine Zm.l (fun _ _ k_ => z_ist dX8_isMadeBy_110 (by decide) (lv' := [(0, vr (some (97, 1, 0))), (6, vi l6), (7, vi (1 : Int32)), (8, vi (gi M 139 (l8).toNatClampNeg))]) rfl k_) ?_
  refine Zm.l (fun _ _ k_ => z_goto (tgt := 78) dX8_isMadeBy_112 rfl k_) ?_
  exact k
theorem sX8_isMadeBy_121 {E : zE} {d : Nat} {Q : zO → zM → Prop} (M : zM)  (k : Zm E YX8_gives d M (zargs 0 [vr (some (97, 1, 0)), vi (2 : Int32)]) 0 [] (zma E YX8_isMadeBy (d + 1) [] 123 3 [] Q)) : Zm E YX8_isMadeBy (d + 1) M [(0, vr (some (97, 1, 0)))] 121 [] Q := by
  refine Zm.l (fun _ _ k_ => z_aload_n dX8_isMadeBy_121 rfl rfl k_) ?_
  refine Zm.l (fun _ _ k_ => z_iconst (v := 2) dX8_isMadeBy_122 rfl k_) ?_
  refine Zm.pick [] rfl ?_
  exact zm_callV (as := [vi (2 : Int32)]) (st := []) dX8_isMadeBy_123 vsX8_904_1 (Nat.le_refl _) (Nat.le_of_ble_eq_true rfl) (Nat.le_of_ble_eq_true rfl) rfl k
theorem sX8_isMadeBy_126 {E : zE} {d : Nat} {Q : zO → zM → Prop} (M : zM)  (k : Q (.inl none) M) : Zm E YX8_isMadeBy (d + 1) M [] 126 [] Q := by
  exact zm_vret dX8_isMadeBy_126 rfl k
/-! ScriptTypesModel.isFunction(II)Z -/
theorem bX8_isFunction_0 : zdec cX8_isFunction 0 [(0, .iload_n 1, 1), (1, .bipush 7, 2), (3, .if_icmp .ne 17, 3), (6, .aload_n 0, 1), (7, .getfield 143, 3), (10, .iload_n 2, 1), (11, .iaload, 1), (12, .iconst 1, 1), (13, .if_icmp .ne 7, 3), (16, .iconst 1, 1), (17, .goto 4, 3), (20, .iconst 0, 1), (21, .ireturn, 1)] = true := by decide +kernel
theorem dX8_isFunction_0 : decode cX8_isFunction 0 = .ok (.iload_n 1, 1) := zdec_at bX8_isFunction_0 0 rfl
theorem dX8_isFunction_1 : decode cX8_isFunction 1 = .ok (.bipush 7, 2) := zdec_at bX8_isFunction_0 1 rfl
theorem dX8_isFunction_3 : decode cX8_isFunction 3 = .ok (.if_icmp .ne 17, 3) := zdec_at bX8_isFunction_0 2 rfl
theorem dX8_isFunction_6 : decode cX8_isFunction 6 = .ok (.aload_n 0, 1) := zdec_at bX8_isFunction_0 3 rfl
theorem dX8_isFunction_7 : decode cX8_isFunction 7 = .ok (.getfield 143, 3) := zdec_at bX8_isFunction_0 4 rfl
theorem dX8_isFunction_10 : decode cX8_isFunction 10 = .ok (.iload_n 2, 1) := zdec_at bX8_isFunction_0 5 rfl
theorem dX8_isFunction_11 : decode cX8_isFunction 11 = .ok (.iaload, 1) := zdec_at bX8_isFunction_0 6 rfl
theorem dX8_isFunction_12 : decode cX8_isFunction 12 = .ok (.iconst 1, 1) := zdec_at bX8_isFunction_0 7 rfl
theorem dX8_isFunction_13 : decode cX8_isFunction 13 = .ok (.if_icmp .ne 7, 3) := zdec_at bX8_isFunction_0 8 rfl
theorem dX8_isFunction_16 : decode cX8_isFunction 16 = .ok (.iconst 1, 1) := zdec_at bX8_isFunction_0 9 rfl
theorem dX8_isFunction_17 : decode cX8_isFunction 17 = .ok (.goto 4, 3) := zdec_at bX8_isFunction_0 10 rfl
theorem dX8_isFunction_20 : decode cX8_isFunction 20 = .ok (.iconst 0, 1) := zdec_at bX8_isFunction_0 11 rfl
theorem dX8_isFunction_21 : decode cX8_isFunction 21 = .ok (.ireturn, 1) := zdec_at bX8_isFunction_0 12 rfl
theorem sX8_isFunction_0 {E : zE} {d : Nat} {Q : zO → zM → Prop} (M : zM) (l1 : Int32) (l2 : Int32) (k : if l1 = (7 : Int32) then (vp_in l2 300 ∧ (if (gi M 141 (l2).toNatClampNeg) = (1 : Int32) then (Q (.inl (some (vi (1 : Int32)))) M) else (Q (.inl (some (vi (0 : Int32)))) M))) else (Q (.inl (some (vi (0 : Int32)))) M)) : Zm E YX8_isFunction d M [(0, vr (some (97, 1, 0))), (1, vi l1), (2, vi l2)] 0 [] Q := by
  refine Zm.l (fun _ _ k_ => z_iload_n dX8_isFunction_0 rfl rfl k_) ?_
  refine Zm.l (fun _ _ k_ => z_bipush (v := 7) dX8_isFunction_1 rfl k_) ?_
  refine Zm.brn (fun _ _ k1_ k2_ => z_icmp_ne (tgt := 20) dX8_isFunction_3 rfl k1_ k2_) (fun h_ => ?_) (fun h_ => ?_)
  · have k := zif h_ k
    refine Zm.l (fun _ _ k_ => z_iconst (v := 0) dX8_isFunction_20 rfl k_) ?_
    exact zm_iret dX8_isFunction_21 rfl (by decide) k
  · have k := zit h_ k
    refine Zm.l (fun _ _ k_ => z_aload_n dX8_isFunction_6 rfl rfl k_) ?_
    refine zm_getr 38 dX8_isFunction_7 fsX8_143_1 rfl ?_
    refine Zm.l (fun _ _ k_ => z_iload_n dX8_isFunction_10 rfl rfl k_) ?_
    obtain ⟨b_, k⟩ := k
    refine zm_iald dX8_isFunction_11 b_ (by decide) (by decide) ?_
    refine Zm.l (fun _ _ k_ => z_iconst (v := 1) dX8_isFunction_12 rfl k_) ?_
    refine Zm.brn (fun _ _ k1_ k2_ => z_icmp_ne (tgt := 20) dX8_isFunction_13 rfl k1_ k2_) (fun h_ => ?_) (fun h_ => ?_)
    · have k := zif h_ k
      refine Zm.l (fun _ _ k_ => z_iconst (v := 0) dX8_isFunction_20 rfl k_) ?_
      exact zm_iret dX8_isFunction_21 rfl (by decide) k
    · have k := zit h_ k
      refine Zm.l (fun _ _ k_ => z_iconst (v := 1) dX8_isFunction_16 rfl k_) ?_
      refine Zm.l (fun _ _ k_ => z_goto (tgt := 21) dX8_isFunction_17 rfl k_) ?_
      exact zm_iret dX8_isFunction_21 rfl (by decide) k
/-! ScriptTypesModel.binaryOf(IIIII)V -/
theorem bX8_binaryOf_2_0 : zdec cX8_binaryOf_2 0 [(0, .aload_n 0, 1), (1, .iload_n 1, 1), (2, .iload_n 2, 1), (3, .iload 4, 2), (5, .invokevirtual 830, 3), (8, .ifCond .eq 23, 3), (11, .aload_n 0, 1), (12, .iconst 0, 1), (13, .putfield 299, 3), (16, .aload_n 0, 1), (17, .iload_n 2, 1), (18, .iload_n 3, 1), (19, .invokevirtual 800, 3), (22, .aload_n 0, 1), (23, .iload 4, 2), (25, .iload 5, 2)] = true := by decide +kernel
theorem dX8_binaryOf_2_0 : decode cX8_binaryOf_2 0 = .ok (.aload_n 0, 1) := zdec_at bX8_binaryOf_2_0 0 rfl
theorem dX8_binaryOf_2_1 : decode cX8_binaryOf_2 1 = .ok (.iload_n 1, 1) := zdec_at bX8_binaryOf_2_0 1 rfl
theorem dX8_binaryOf_2_2 : decode cX8_binaryOf_2 2 = .ok (.iload_n 2, 1) := zdec_at bX8_binaryOf_2_0 2 rfl
theorem dX8_binaryOf_2_3 : decode cX8_binaryOf_2 3 = .ok (.iload 4, 2) := zdec_at bX8_binaryOf_2_0 3 rfl
theorem dX8_binaryOf_2_5 : decode cX8_binaryOf_2 5 = .ok (.invokevirtual 830, 3) := zdec_at bX8_binaryOf_2_0 4 rfl
theorem dX8_binaryOf_2_8 : decode cX8_binaryOf_2 8 = .ok (.ifCond .eq 23, 3) := zdec_at bX8_binaryOf_2_0 5 rfl
theorem dX8_binaryOf_2_11 : decode cX8_binaryOf_2 11 = .ok (.aload_n 0, 1) := zdec_at bX8_binaryOf_2_0 6 rfl
theorem dX8_binaryOf_2_12 : decode cX8_binaryOf_2 12 = .ok (.iconst 0, 1) := zdec_at bX8_binaryOf_2_0 7 rfl
theorem dX8_binaryOf_2_13 : decode cX8_binaryOf_2 13 = .ok (.putfield 299, 3) := zdec_at bX8_binaryOf_2_0 8 rfl
theorem dX8_binaryOf_2_16 : decode cX8_binaryOf_2 16 = .ok (.aload_n 0, 1) := zdec_at bX8_binaryOf_2_0 9 rfl
theorem dX8_binaryOf_2_17 : decode cX8_binaryOf_2 17 = .ok (.iload_n 2, 1) := zdec_at bX8_binaryOf_2_0 10 rfl
theorem dX8_binaryOf_2_18 : decode cX8_binaryOf_2 18 = .ok (.iload_n 3, 1) := zdec_at bX8_binaryOf_2_0 11 rfl
theorem dX8_binaryOf_2_19 : decode cX8_binaryOf_2 19 = .ok (.invokevirtual 800, 3) := zdec_at bX8_binaryOf_2_0 12 rfl
theorem dX8_binaryOf_2_22 : decode cX8_binaryOf_2 22 = .ok (.aload_n 0, 1) := zdec_at bX8_binaryOf_2_0 13 rfl
theorem dX8_binaryOf_2_23 : decode cX8_binaryOf_2 23 = .ok (.iload 4, 2) := zdec_at bX8_binaryOf_2_0 14 rfl
theorem dX8_binaryOf_2_25 : decode cX8_binaryOf_2 25 = .ok (.iload 5, 2) := zdec_at bX8_binaryOf_2_0 15 rfl
theorem bX8_binaryOf_2_27 : zdec cX8_binaryOf_2 27 [(27, .invokevirtual 800, 3), (30, .return_, 1), (31, .iload_n 1, 1), (32, .bipush 11, 2), (34, .if_icmp .lt 102, 3), (37, .iload_n 1, 1), (38, .bipush 13, 2), (40, .if_icmp .ge 39, 3), (43, .aload_n 0, 1), (44, .aload_n 0, 1), (45, .iload_n 2, 1), (46, .iload_n 3, 1), (47, .iload 4, 2), (49, .iload 5, 2), (51, .invokevirtual 834, 3), (54, .iload_n 1, 1)] = true := by decide +kernel
theorem dX8_binaryOf_2_27 : decode cX8_binaryOf_2 27 = .ok (.invokevirtual 800, 3) := zdec_at bX8_binaryOf_2_27 0 rfl
theorem dX8_binaryOf_2_30 : decode cX8_binaryOf_2 30 = .ok (.return_, 1) := zdec_at bX8_binaryOf_2_27 1 rfl
theorem dX8_binaryOf_2_31 : decode cX8_binaryOf_2 31 = .ok (.iload_n 1, 1) := zdec_at bX8_binaryOf_2_27 2 rfl
theorem dX8_binaryOf_2_32 : decode cX8_binaryOf_2 32 = .ok (.bipush 11, 2) := zdec_at bX8_binaryOf_2_27 3 rfl
theorem dX8_binaryOf_2_34 : decode cX8_binaryOf_2 34 = .ok (.if_icmp .lt 102, 3) := zdec_at bX8_binaryOf_2_27 4 rfl
theorem dX8_binaryOf_2_37 : decode cX8_binaryOf_2 37 = .ok (.iload_n 1, 1) := zdec_at bX8_binaryOf_2_27 5 rfl
theorem dX8_binaryOf_2_38 : decode cX8_binaryOf_2 38 = .ok (.bipush 13, 2) := zdec_at bX8_binaryOf_2_27 6 rfl
theorem dX8_binaryOf_2_40 : decode cX8_binaryOf_2 40 = .ok (.if_icmp .ge 39, 3) := zdec_at bX8_binaryOf_2_27 7 rfl
theorem dX8_binaryOf_2_43 : decode cX8_binaryOf_2 43 = .ok (.aload_n 0, 1) := zdec_at bX8_binaryOf_2_27 8 rfl
theorem dX8_binaryOf_2_44 : decode cX8_binaryOf_2 44 = .ok (.aload_n 0, 1) := zdec_at bX8_binaryOf_2_27 9 rfl
theorem dX8_binaryOf_2_45 : decode cX8_binaryOf_2 45 = .ok (.iload_n 2, 1) := zdec_at bX8_binaryOf_2_27 10 rfl
theorem dX8_binaryOf_2_46 : decode cX8_binaryOf_2 46 = .ok (.iload_n 3, 1) := zdec_at bX8_binaryOf_2_27 11 rfl
theorem dX8_binaryOf_2_47 : decode cX8_binaryOf_2 47 = .ok (.iload 4, 2) := zdec_at bX8_binaryOf_2_27 12 rfl
theorem dX8_binaryOf_2_49 : decode cX8_binaryOf_2 49 = .ok (.iload 5, 2) := zdec_at bX8_binaryOf_2_27 13 rfl
theorem dX8_binaryOf_2_51 : decode cX8_binaryOf_2 51 = .ok (.invokevirtual 834, 3) := zdec_at bX8_binaryOf_2_27 14 rfl
theorem dX8_binaryOf_2_54 : decode cX8_binaryOf_2 54 = .ok (.iload_n 1, 1) := zdec_at bX8_binaryOf_2_27 15 rfl
theorem bX8_binaryOf_2_55 : zdec cX8_binaryOf_2 55 [(55, .bipush 11, 2), (57, .if_icmp .ne 7, 3), (60, .iconst 1, 1), (61, .goto 4, 3), (64, .iconst 0, 1), (65, .if_icmp .ne 7, 3), (68, .iconst 1, 1), (69, .goto 4, 3), (72, .iconst 0, 1), (73, .invokevirtual 827, 3), (76, .goto 59, 3), (79, .iload_n 1, 1), (80, .bipush 15, 2), (82, .if_icmp .ge 38, 3), (85, .aload_n 0, 1), (86, .iload_n 2, 1)] = true := by decide +kernel
theorem dX8_binaryOf_2_55 : decode cX8_binaryOf_2 55 = .ok (.bipush 11, 2) := zdec_at bX8_binaryOf_2_55 0 rfl
theorem dX8_binaryOf_2_57 : decode cX8_binaryOf_2 57 = .ok (.if_icmp .ne 7, 3) := zdec_at bX8_binaryOf_2_55 1 rfl
theorem dX8_binaryOf_2_60 : decode cX8_binaryOf_2 60 = .ok (.iconst 1, 1) := zdec_at bX8_binaryOf_2_55 2 rfl
theorem dX8_binaryOf_2_61 : decode cX8_binaryOf_2 61 = .ok (.goto 4, 3) := zdec_at bX8_binaryOf_2_55 3 rfl
theorem dX8_binaryOf_2_64 : decode cX8_binaryOf_2 64 = .ok (.iconst 0, 1) := zdec_at bX8_binaryOf_2_55 4 rfl
theorem dX8_binaryOf_2_65 : decode cX8_binaryOf_2 65 = .ok (.if_icmp .ne 7, 3) := zdec_at bX8_binaryOf_2_55 5 rfl
theorem dX8_binaryOf_2_68 : decode cX8_binaryOf_2 68 = .ok (.iconst 1, 1) := zdec_at bX8_binaryOf_2_55 6 rfl
theorem dX8_binaryOf_2_69 : decode cX8_binaryOf_2 69 = .ok (.goto 4, 3) := zdec_at bX8_binaryOf_2_55 7 rfl
theorem dX8_binaryOf_2_72 : decode cX8_binaryOf_2 72 = .ok (.iconst 0, 1) := zdec_at bX8_binaryOf_2_55 8 rfl
theorem dX8_binaryOf_2_73 : decode cX8_binaryOf_2 73 = .ok (.invokevirtual 827, 3) := zdec_at bX8_binaryOf_2_55 9 rfl
theorem dX8_binaryOf_2_76 : decode cX8_binaryOf_2 76 = .ok (.goto 59, 3) := zdec_at bX8_binaryOf_2_55 10 rfl
theorem dX8_binaryOf_2_79 : decode cX8_binaryOf_2 79 = .ok (.iload_n 1, 1) := zdec_at bX8_binaryOf_2_55 11 rfl
theorem dX8_binaryOf_2_80 : decode cX8_binaryOf_2 80 = .ok (.bipush 15, 2) := zdec_at bX8_binaryOf_2_55 12 rfl
theorem dX8_binaryOf_2_82 : decode cX8_binaryOf_2 82 = .ok (.if_icmp .ge 38, 3) := zdec_at bX8_binaryOf_2_55 13 rfl
theorem dX8_binaryOf_2_85 : decode cX8_binaryOf_2 85 = .ok (.aload_n 0, 1) := zdec_at bX8_binaryOf_2_55 14 rfl
theorem dX8_binaryOf_2_86 : decode cX8_binaryOf_2 86 = .ok (.iload_n 2, 1) := zdec_at bX8_binaryOf_2_55 15 rfl
theorem bX8_binaryOf_2_87 : zdec cX8_binaryOf_2 87 [(87, .iload_n 3, 1), (88, .iload 4, 2), (90, .iload 5, 2), (92, .invokestatic 812, 3), (95, .iload_n 1, 1), (96, .bipush 13, 2), (98, .if_icmp .ne 7, 3), (101, .iconst 1, 1), (102, .goto 4, 3), (105, .iconst 0, 1), (106, .if_icmp .ne 7, 3), (109, .iconst 1, 1), (110, .goto 4, 3), (113, .iconst 0, 1), (114, .invokevirtual 827, 3), (117, .goto 18, 3)] = true := by decide +kernel
theorem dX8_binaryOf_2_87 : decode cX8_binaryOf_2 87 = .ok (.iload_n 3, 1) := zdec_at bX8_binaryOf_2_87 0 rfl
theorem dX8_binaryOf_2_88 : decode cX8_binaryOf_2 88 = .ok (.iload 4, 2) := zdec_at bX8_binaryOf_2_87 1 rfl
theorem dX8_binaryOf_2_90 : decode cX8_binaryOf_2 90 = .ok (.iload 5, 2) := zdec_at bX8_binaryOf_2_87 2 rfl
theorem dX8_binaryOf_2_92 : decode cX8_binaryOf_2 92 = .ok (.invokestatic 812, 3) := zdec_at bX8_binaryOf_2_87 3 rfl
theorem dX8_binaryOf_2_95 : decode cX8_binaryOf_2 95 = .ok (.iload_n 1, 1) := zdec_at bX8_binaryOf_2_87 4 rfl
theorem dX8_binaryOf_2_96 : decode cX8_binaryOf_2 96 = .ok (.bipush 13, 2) := zdec_at bX8_binaryOf_2_87 5 rfl
theorem dX8_binaryOf_2_98 : decode cX8_binaryOf_2 98 = .ok (.if_icmp .ne 7, 3) := zdec_at bX8_binaryOf_2_87 6 rfl
theorem dX8_binaryOf_2_101 : decode cX8_binaryOf_2 101 = .ok (.iconst 1, 1) := zdec_at bX8_binaryOf_2_87 7 rfl
theorem dX8_binaryOf_2_102 : decode cX8_binaryOf_2 102 = .ok (.goto 4, 3) := zdec_at bX8_binaryOf_2_87 8 rfl
theorem dX8_binaryOf_2_105 : decode cX8_binaryOf_2 105 = .ok (.iconst 0, 1) := zdec_at bX8_binaryOf_2_87 9 rfl
theorem dX8_binaryOf_2_106 : decode cX8_binaryOf_2 106 = .ok (.if_icmp .ne 7, 3) := zdec_at bX8_binaryOf_2_87 10 rfl
theorem dX8_binaryOf_2_109 : decode cX8_binaryOf_2 109 = .ok (.iconst 1, 1) := zdec_at bX8_binaryOf_2_87 11 rfl
theorem dX8_binaryOf_2_110 : decode cX8_binaryOf_2 110 = .ok (.goto 4, 3) := zdec_at bX8_binaryOf_2_87 12 rfl
theorem dX8_binaryOf_2_113 : decode cX8_binaryOf_2 113 = .ok (.iconst 0, 1) := zdec_at bX8_binaryOf_2_87 13 rfl
theorem dX8_binaryOf_2_114 : decode cX8_binaryOf_2 114 = .ok (.invokevirtual 827, 3) := zdec_at bX8_binaryOf_2_87 14 rfl
theorem dX8_binaryOf_2_117 : decode cX8_binaryOf_2 117 = .ok (.goto 18, 3) := zdec_at bX8_binaryOf_2_87 15 rfl
theorem bX8_binaryOf_2_120 : zdec cX8_binaryOf_2 120 [(120, .aload_n 0, 1), (121, .aload_n 0, 1), (122, .iload_n 1, 1), (123, .iload_n 2, 1), (124, .iload_n 3, 1), (125, .iload 4, 2), (127, .iload 5, 2), (129, .invokevirtual 837, 3), (132, .invokevirtual 827, 3), (135, .return_, 1), (136, .aload_n 0, 1), (137, .iload_n 2, 1), (138, .iload_n 3, 1), (139, .invokevirtual 816, 3), (142, .istore 6, 2), (144, .aload_n 0, 1)] = true := by decide +kernel
theorem dX8_binaryOf_2_120 : decode cX8_binaryOf_2 120 = .ok (.aload_n 0, 1) := zdec_at bX8_binaryOf_2_120 0 rfl
theorem dX8_binaryOf_2_121 : decode cX8_binaryOf_2 121 = .ok (.aload_n 0, 1) := zdec_at bX8_binaryOf_2_120 1 rfl
theorem dX8_binaryOf_2_122 : decode cX8_binaryOf_2 122 = .ok (.iload_n 1, 1) := zdec_at bX8_binaryOf_2_120 2 rfl
theorem dX8_binaryOf_2_123 : decode cX8_binaryOf_2 123 = .ok (.iload_n 2, 1) := zdec_at bX8_binaryOf_2_120 3 rfl
theorem dX8_binaryOf_2_124 : decode cX8_binaryOf_2 124 = .ok (.iload_n 3, 1) := zdec_at bX8_binaryOf_2_120 4 rfl
theorem dX8_binaryOf_2_125 : decode cX8_binaryOf_2 125 = .ok (.iload 4, 2) := zdec_at bX8_binaryOf_2_120 5 rfl
theorem dX8_binaryOf_2_127 : decode cX8_binaryOf_2 127 = .ok (.iload 5, 2) := zdec_at bX8_binaryOf_2_120 6 rfl
theorem dX8_binaryOf_2_129 : decode cX8_binaryOf_2 129 = .ok (.invokevirtual 837, 3) := zdec_at bX8_binaryOf_2_120 7 rfl
theorem dX8_binaryOf_2_132 : decode cX8_binaryOf_2 132 = .ok (.invokevirtual 827, 3) := zdec_at bX8_binaryOf_2_120 8 rfl
theorem dX8_binaryOf_2_135 : decode cX8_binaryOf_2 135 = .ok (.return_, 1) := zdec_at bX8_binaryOf_2_120 9 rfl
theorem dX8_binaryOf_2_136 : decode cX8_binaryOf_2 136 = .ok (.aload_n 0, 1) := zdec_at bX8_binaryOf_2_120 10 rfl
theorem dX8_binaryOf_2_137 : decode cX8_binaryOf_2 137 = .ok (.iload_n 2, 1) := zdec_at bX8_binaryOf_2_120 11 rfl
theorem dX8_binaryOf_2_138 : decode cX8_binaryOf_2 138 = .ok (.iload_n 3, 1) := zdec_at bX8_binaryOf_2_120 12 rfl
theorem dX8_binaryOf_2_139 : decode cX8_binaryOf_2 139 = .ok (.invokevirtual 816, 3) := zdec_at bX8_binaryOf_2_120 13 rfl
theorem dX8_binaryOf_2_142 : decode cX8_binaryOf_2 142 = .ok (.istore 6, 2) := zdec_at bX8_binaryOf_2_120 14 rfl
theorem dX8_binaryOf_2_144 : decode cX8_binaryOf_2 144 = .ok (.aload_n 0, 1) := zdec_at bX8_binaryOf_2_120 15 rfl
theorem bX8_binaryOf_2_145 : zdec cX8_binaryOf_2 145 [(145, .getfield 806, 3), (148, .istore 7, 2), (150, .aload_n 0, 1), (151, .iload 4, 2), (153, .iload 5, 2), (155, .invokevirtual 816, 3), (158, .istore 8, 2), (160, .iload 7, 2), (162, .ifCond .eq 14, 3), (165, .aload_n 0, 1), (166, .getfield 806, 3), (169, .ifCond .eq 7, 3), (172, .iconst 1, 1), (173, .goto 4, 3), (176, .iconst 0, 1), (177, .istore 9, 2)] = true := by decide +kernel
theorem dX8_binaryOf_2_145 : decode cX8_binaryOf_2 145 = .ok (.getfield 806, 3) := zdec_at bX8_binaryOf_2_145 0 rfl
theorem dX8_binaryOf_2_148 : decode cX8_binaryOf_2 148 = .ok (.istore 7, 2) := zdec_at bX8_binaryOf_2_145 1 rfl
theorem dX8_binaryOf_2_150 : decode cX8_binaryOf_2 150 = .ok (.aload_n 0, 1) := zdec_at bX8_binaryOf_2_145 2 rfl
theorem dX8_binaryOf_2_151 : decode cX8_binaryOf_2 151 = .ok (.iload 4, 2) := zdec_at bX8_binaryOf_2_145 3 rfl
theorem dX8_binaryOf_2_153 : decode cX8_binaryOf_2 153 = .ok (.iload 5, 2) := zdec_at bX8_binaryOf_2_145 4 rfl
theorem dX8_binaryOf_2_155 : decode cX8_binaryOf_2 155 = .ok (.invokevirtual 816, 3) := zdec_at bX8_binaryOf_2_145 5 rfl
theorem dX8_binaryOf_2_158 : decode cX8_binaryOf_2 158 = .ok (.istore 8, 2) := zdec_at bX8_binaryOf_2_145 6 rfl
theorem dX8_binaryOf_2_160 : decode cX8_binaryOf_2 160 = .ok (.iload 7, 2) := zdec_at bX8_binaryOf_2_145 7 rfl
theorem dX8_binaryOf_2_162 : decode cX8_binaryOf_2 162 = .ok (.ifCond .eq 14, 3) := zdec_at bX8_binaryOf_2_145 8 rfl
theorem dX8_binaryOf_2_165 : decode cX8_binaryOf_2 165 = .ok (.aload_n 0, 1) := zdec_at bX8_binaryOf_2_145 9 rfl
theorem dX8_binaryOf_2_166 : decode cX8_binaryOf_2 166 = .ok (.getfield 806, 3) := zdec_at bX8_binaryOf_2_145 10 rfl
theorem dX8_binaryOf_2_169 : decode cX8_binaryOf_2 169 = .ok (.ifCond .eq 7, 3) := zdec_at bX8_binaryOf_2_145 11 rfl
theorem dX8_binaryOf_2_172 : decode cX8_binaryOf_2 172 = .ok (.iconst 1, 1) := zdec_at bX8_binaryOf_2_145 12 rfl
theorem dX8_binaryOf_2_173 : decode cX8_binaryOf_2 173 = .ok (.goto 4, 3) := zdec_at bX8_binaryOf_2_145 13 rfl
theorem dX8_binaryOf_2_176 : decode cX8_binaryOf_2 176 = .ok (.iconst 0, 1) := zdec_at bX8_binaryOf_2_145 14 rfl
theorem dX8_binaryOf_2_177 : decode cX8_binaryOf_2 177 = .ok (.istore 9, 2) := zdec_at bX8_binaryOf_2_145 15 rfl
theorem bX8_binaryOf_2_179 : zdec cX8_binaryOf_2 179 [(179, .iload_n 1, 1), (180, .iconst 5, 1), (181, .if_icmp .lt 39, 3), (184, .aload_n 0, 1), (185, .iconst 5, 1), (186, .iload_n 1, 1), (187, .iload 7, 2), (189, .ifCond .eq 8, 3), (192, .iload 6, 2), (194, .goto 4, 3), (197, .iconst 0, 1), (198, .aload_n 0, 1), (199, .getfield 806, 3), (202, .ifCond .eq 8, 3), (205, .iload 8, 2), (207, .goto 4, 3)] = true := by decide +kernel
theorem dX8_binaryOf_2_179 : decode cX8_binaryOf_2 179 = .ok (.iload_n 1, 1) := zdec_at bX8_binaryOf_2_179 0 rfl
theorem dX8_binaryOf_2_180 : decode cX8_binaryOf_2 180 = .ok (.iconst 5, 1) := zdec_at bX8_binaryOf_2_179 1 rfl
theorem dX8_binaryOf_2_181 : decode cX8_binaryOf_2 181 = .ok (.if_icmp .lt 39, 3) := zdec_at bX8_binaryOf_2_179 2 rfl
theorem dX8_binaryOf_2_184 : decode cX8_binaryOf_2 184 = .ok (.aload_n 0, 1) := zdec_at bX8_binaryOf_2_179 3 rfl
theorem dX8_binaryOf_2_185 : decode cX8_binaryOf_2 185 = .ok (.iconst 5, 1) := zdec_at bX8_binaryOf_2_179 4 rfl
theorem dX8_binaryOf_2_186 : decode cX8_binaryOf_2 186 = .ok (.iload_n 1, 1) := zdec_at bX8_binaryOf_2_179 5 rfl
theorem dX8_binaryOf_2_187 : decode cX8_binaryOf_2 187 = .ok (.iload 7, 2) := zdec_at bX8_binaryOf_2_179 6 rfl
theorem dX8_binaryOf_2_189 : decode cX8_binaryOf_2 189 = .ok (.ifCond .eq 8, 3) := zdec_at bX8_binaryOf_2_179 7 rfl
theorem dX8_binaryOf_2_192 : decode cX8_binaryOf_2 192 = .ok (.iload 6, 2) := zdec_at bX8_binaryOf_2_179 8 rfl
theorem dX8_binaryOf_2_194 : decode cX8_binaryOf_2 194 = .ok (.goto 4, 3) := zdec_at bX8_binaryOf_2_179 9 rfl
theorem dX8_binaryOf_2_197 : decode cX8_binaryOf_2 197 = .ok (.iconst 0, 1) := zdec_at bX8_binaryOf_2_179 10 rfl
theorem dX8_binaryOf_2_198 : decode cX8_binaryOf_2 198 = .ok (.aload_n 0, 1) := zdec_at bX8_binaryOf_2_179 11 rfl
theorem dX8_binaryOf_2_199 : decode cX8_binaryOf_2 199 = .ok (.getfield 806, 3) := zdec_at bX8_binaryOf_2_179 12 rfl
theorem dX8_binaryOf_2_202 : decode cX8_binaryOf_2 202 = .ok (.ifCond .eq 8, 3) := zdec_at bX8_binaryOf_2_179 13 rfl
theorem dX8_binaryOf_2_205 : decode cX8_binaryOf_2 205 = .ok (.iload 8, 2) := zdec_at bX8_binaryOf_2_179 14 rfl
theorem dX8_binaryOf_2_207 : decode cX8_binaryOf_2 207 = .ok (.goto 4, 3) := zdec_at bX8_binaryOf_2_179 15 rfl
theorem bX8_binaryOf_2_210 : zdec cX8_binaryOf_2 210 [(210, .iconst 0, 1), (211, .invokestatic 841, 3), (214, .invokevirtual 822, 3), (217, .goto 88, 3), (220, .iload 9, 2), (222, .ifCond .eq 13, 3), (225, .iload_n 1, 1), (226, .iconst 2, 1), (227, .if_icmp .le 17, 3), (230, .iload 8, 2), (232, .ifCond .ne 12, 3), (235, .aload_n 0, 1), (236, .iconst 4, 1), (237, .iconst 0, 1), (238, .invokevirtual 822, 3), (241, .goto 64, 3)] = true := by decide +kernel
theorem dX8_binaryOf_2_210 : decode cX8_binaryOf_2 210 = .ok (.iconst 0, 1) := zdec_at bX8_binaryOf_2_210 0 rfl
theorem dX8_binaryOf_2_211 : decode cX8_binaryOf_2 211 = .ok (.invokestatic 841, 3) := zdec_at bX8_binaryOf_2_210 1 rfl
theorem dX8_binaryOf_2_214 : decode cX8_binaryOf_2 214 = .ok (.invokevirtual 822, 3) := zdec_at bX8_binaryOf_2_210 2 rfl
theorem dX8_binaryOf_2_217 : decode cX8_binaryOf_2 217 = .ok (.goto 88, 3) := zdec_at bX8_binaryOf_2_210 3 rfl
theorem dX8_binaryOf_2_220 : decode cX8_binaryOf_2 220 = .ok (.iload 9, 2) := zdec_at bX8_binaryOf_2_210 4 rfl
theorem dX8_binaryOf_2_222 : decode cX8_binaryOf_2 222 = .ok (.ifCond .eq 13, 3) := zdec_at bX8_binaryOf_2_210 5 rfl
theorem dX8_binaryOf_2_225 : decode cX8_binaryOf_2 225 = .ok (.iload_n 1, 1) := zdec_at bX8_binaryOf_2_210 6 rfl
theorem dX8_binaryOf_2_226 : decode cX8_binaryOf_2 226 = .ok (.iconst 2, 1) := zdec_at bX8_binaryOf_2_210 7 rfl
theorem dX8_binaryOf_2_227 : decode cX8_binaryOf_2 227 = .ok (.if_icmp .le 17, 3) := zdec_at bX8_binaryOf_2_210 8 rfl
theorem dX8_binaryOf_2_230 : decode cX8_binaryOf_2 230 = .ok (.iload 8, 2) := zdec_at bX8_binaryOf_2_210 9 rfl
theorem dX8_binaryOf_2_232 : decode cX8_binaryOf_2 232 = .ok (.ifCond .ne 12, 3) := zdec_at bX8_binaryOf_2_210 10 rfl
theorem dX8_binaryOf_2_235 : decode cX8_binaryOf_2 235 = .ok (.aload_n 0, 1) := zdec_at bX8_binaryOf_2_210 11 rfl
theorem dX8_binaryOf_2_236 : decode cX8_binaryOf_2 236 = .ok (.iconst 4, 1) := zdec_at bX8_binaryOf_2_210 12 rfl
theorem dX8_binaryOf_2_237 : decode cX8_binaryOf_2 237 = .ok (.iconst 0, 1) := zdec_at bX8_binaryOf_2_210 13 rfl
theorem dX8_binaryOf_2_238 : decode cX8_binaryOf_2 238 = .ok (.invokevirtual 822, 3) := zdec_at bX8_binaryOf_2_210 14 rfl
theorem dX8_binaryOf_2_241 : decode cX8_binaryOf_2 241 = .ok (.goto 64, 3) := zdec_at bX8_binaryOf_2_210 15 rfl
theorem bX8_binaryOf_2_244 : zdec cX8_binaryOf_2 244 [(244, .aload_n 0, 1), (245, .iconst 5, 1), (246, .iload_n 1, 1), (247, .ifCond .ne 11, 3), (250, .iload 6, 2), (252, .iload 8, 2), (254, .iadd, 1), (255, .goto 47, 3), (258, .iload_n 1, 1), (259, .iconst 1, 1), (260, .if_icmp .ne 11, 3), (263, .iload 6, 2), (265, .iload 8, 2), (267, .isub, 1), (268, .goto 34, 3), (271, .iload_n 1, 1)] = true := by decide +kernel
theorem dX8_binaryOf_2_244 : decode cX8_binaryOf_2 244 = .ok (.aload_n 0, 1) := zdec_at bX8_binaryOf_2_244 0 rfl
theorem dX8_binaryOf_2_245 : decode cX8_binaryOf_2 245 = .ok (.iconst 5, 1) := zdec_at bX8_binaryOf_2_244 1 rfl
theorem dX8_binaryOf_2_246 : decode cX8_binaryOf_2 246 = .ok (.iload_n 1, 1) := zdec_at bX8_binaryOf_2_244 2 rfl
theorem dX8_binaryOf_2_247 : decode cX8_binaryOf_2 247 = .ok (.ifCond .ne 11, 3) := zdec_at bX8_binaryOf_2_244 3 rfl
theorem dX8_binaryOf_2_250 : decode cX8_binaryOf_2 250 = .ok (.iload 6, 2) := zdec_at bX8_binaryOf_2_244 4 rfl
theorem dX8_binaryOf_2_252 : decode cX8_binaryOf_2 252 = .ok (.iload 8, 2) := zdec_at bX8_binaryOf_2_244 5 rfl
theorem dX8_binaryOf_2_254 : decode cX8_binaryOf_2 254 = .ok (.iadd, 1) := zdec_at bX8_binaryOf_2_244 6 rfl
theorem dX8_binaryOf_2_255 : decode cX8_binaryOf_2 255 = .ok (.goto 47, 3) := zdec_at bX8_binaryOf_2_244 7 rfl
theorem dX8_binaryOf_2_258 : decode cX8_binaryOf_2 258 = .ok (.iload_n 1, 1) := zdec_at bX8_binaryOf_2_244 8 rfl
theorem dX8_binaryOf_2_259 : decode cX8_binaryOf_2 259 = .ok (.iconst 1, 1) := zdec_at bX8_binaryOf_2_244 9 rfl
theorem dX8_binaryOf_2_260 : decode cX8_binaryOf_2 260 = .ok (.if_icmp .ne 11, 3) := zdec_at bX8_binaryOf_2_244 10 rfl
theorem dX8_binaryOf_2_263 : decode cX8_binaryOf_2 263 = .ok (.iload 6, 2) := zdec_at bX8_binaryOf_2_244 11 rfl
theorem dX8_binaryOf_2_265 : decode cX8_binaryOf_2 265 = .ok (.iload 8, 2) := zdec_at bX8_binaryOf_2_244 12 rfl
theorem dX8_binaryOf_2_267 : decode cX8_binaryOf_2 267 = .ok (.isub, 1) := zdec_at bX8_binaryOf_2_244 13 rfl
theorem dX8_binaryOf_2_268 : decode cX8_binaryOf_2 268 = .ok (.goto 34, 3) := zdec_at bX8_binaryOf_2_244 14 rfl
theorem dX8_binaryOf_2_271 : decode cX8_binaryOf_2 271 = .ok (.iload_n 1, 1) := zdec_at bX8_binaryOf_2_244 15 rfl
theorem bX8_binaryOf_2_272 : zdec cX8_binaryOf_2 272 [(272, .iconst 2, 1), (273, .if_icmp .ne 11, 3), (276, .iload 6, 2), (278, .iload 8, 2), (280, .imul, 1), (281, .goto 21, 3), (284, .iload_n 1, 1), (285, .iconst 3, 1), (286, .if_icmp .ne 11, 3), (289, .iload 6, 2), (291, .iload 8, 2), (293, .idiv, 1), (294, .goto 8, 3), (297, .iload 6, 2), (299, .iload 8, 2), (301, .irem, 1)] = true := by decide +kernel
theorem dX8_binaryOf_2_272 : decode cX8_binaryOf_2 272 = .ok (.iconst 2, 1) := zdec_at bX8_binaryOf_2_272 0 rfl
theorem dX8_binaryOf_2_273 : decode cX8_binaryOf_2 273 = .ok (.if_icmp .ne 11, 3) := zdec_at bX8_binaryOf_2_272 1 rfl
theorem dX8_binaryOf_2_276 : decode cX8_binaryOf_2 276 = .ok (.iload 6, 2) := zdec_at bX8_binaryOf_2_272 2 rfl
theorem dX8_binaryOf_2_278 : decode cX8_binaryOf_2 278 = .ok (.iload 8, 2) := zdec_at bX8_binaryOf_2_272 3 rfl
theorem dX8_binaryOf_2_280 : decode cX8_binaryOf_2 280 = .ok (.imul, 1) := zdec_at bX8_binaryOf_2_272 4 rfl
theorem dX8_binaryOf_2_281 : decode cX8_binaryOf_2 281 = .ok (.goto 21, 3) := zdec_at bX8_binaryOf_2_272 5 rfl
theorem dX8_binaryOf_2_284 : decode cX8_binaryOf_2 284 = .ok (.iload_n 1, 1) := zdec_at bX8_binaryOf_2_272 6 rfl
theorem dX8_binaryOf_2_285 : decode cX8_binaryOf_2 285 = .ok (.iconst 3, 1) := zdec_at bX8_binaryOf_2_272 7 rfl
theorem dX8_binaryOf_2_286 : decode cX8_binaryOf_2 286 = .ok (.if_icmp .ne 11, 3) := zdec_at bX8_binaryOf_2_272 8 rfl
theorem dX8_binaryOf_2_289 : decode cX8_binaryOf_2 289 = .ok (.iload 6, 2) := zdec_at bX8_binaryOf_2_272 9 rfl
theorem dX8_binaryOf_2_291 : decode cX8_binaryOf_2 291 = .ok (.iload 8, 2) := zdec_at bX8_binaryOf_2_272 10 rfl
theorem dX8_binaryOf_2_293 : decode cX8_binaryOf_2 293 = .ok (.idiv, 1) := zdec_at bX8_binaryOf_2_272 11 rfl
theorem dX8_binaryOf_2_294 : decode cX8_binaryOf_2 294 = .ok (.goto 8, 3) := zdec_at bX8_binaryOf_2_272 12 rfl
theorem dX8_binaryOf_2_297 : decode cX8_binaryOf_2 297 = .ok (.iload 6, 2) := zdec_at bX8_binaryOf_2_272 13 rfl
theorem dX8_binaryOf_2_299 : decode cX8_binaryOf_2 299 = .ok (.iload 8, 2) := zdec_at bX8_binaryOf_2_272 14 rfl
theorem dX8_binaryOf_2_301 : decode cX8_binaryOf_2 301 = .ok (.irem, 1) := zdec_at bX8_binaryOf_2_272 15 rfl
theorem bX8_binaryOf_2_302 : zdec cX8_binaryOf_2 302 [(302, .invokevirtual 822, 3), (305, .return_, 1)] = true := by decide +kernel
theorem dX8_binaryOf_2_302 : decode cX8_binaryOf_2 302 = .ok (.invokevirtual 822, 3) := zdec_at bX8_binaryOf_2_302 0 rfl
theorem dX8_binaryOf_2_305 : decode cX8_binaryOf_2 305 = .ok (.return_, 1) := zdec_at bX8_binaryOf_2_302 1 rfl
theorem sX8_binaryOf_2_0 {E : zE} {d : Nat} {Q : zO → zM → Prop} (M : zM) (l1 : Int32) (l2 : Int32) (l3 : Int32) (l4 : Int32) (l5 : Int32) (k : Zm E YX8_joinsTexts d M (zargs 0 [vr (some (97, 1, 0)), vi l1, vi l2, vi l4]) 0 [] (zma E YX8_binaryOf_2 (d + 1) [(0, vr (some (97, 1, 0))), (1, vi l1), (2, vi l2), (3, vi l3), (4, vi l4), (5, vi l5)] 5 3 [] Q)) : Zm E YX8_binaryOf_2 (d + 1) M [(0, vr (some (97, 1, 0))), (1, vi l1), (2, vi l2), (3, vi l3), (4, vi l4), (5, vi l5)] 0 [] Q := by
  refine Zm.l (fun _ _ k_ => z_aload_n dX8_binaryOf_2_0 rfl rfl k_) ?_
  refine Zm.l (fun _ _ k_ => z_iload_n dX8_binaryOf_2_1 rfl rfl k_) ?_
  refine Zm.l (fun _ _ k_ => z_iload_n dX8_binaryOf_2_2 rfl rfl k_) ?_
  refine Zm.l (fun _ _ k_ => z_iload dX8_binaryOf_2_3 rfl k_) ?_
  exact zm_callV (as := [vi l1, vi l2, vi l4]) (st := []) dX8_binaryOf_2_5 vsX8_830_1 (Nat.le_refl _) (Nat.le_of_ble_eq_true rfl) (Nat.le_of_ble_eq_true rfl) rfl k
theorem sX8_binaryOf_2_8 {E : zE} {d : Nat} {Q : zO → zM → Prop} (M : zM) (l1 : Int32) (l2 : Int32) (l3 : Int32) (l4 : Int32) (l5 : Int32) (s0 : Int32) (k : if s0 = 0 then (if l1 < (11 : Int32) then (Zm E YX8_numberOf d M (zargs 0 [vr (some (97, 1, 0)), vi l2, vi l3]) 0 [] (zma E YX8_binaryOf_2 (d + 1) [(0, vr (some (97, 1, 0))), (1, vi l1), (4, vi l4), (5, vi l5)] 139 3 [] Q)) else (if (13 : Int32) ≤ l1 then (if (15 : Int32) ≤ l1 then (Zm E YX8_compares d M (zargs 0 [vr (some (97, 1, 0)), vi l1, vi l2, vi l3, vi l4, vi l5]) 0 [] (zma E YX8_binaryOf_2 (d + 1) [] 129 3 [vr (some (97, 1, 0))] Q)) else (Zm E YX8_isSame d M (zargs 0 [vi l2, vi l3, vi l4, vi l5]) 0 [] (zma E YX8_binaryOf_2 (d + 1) [(1, vi l1)] 92 3 [vr (some (97, 1, 0))] Q))) else (Zm E YX8_isEqual d M (zargs 0 [vr (some (97, 1, 0)), vi l2, vi l3, vi l4, vi l5]) 0 [] (zma E YX8_binaryOf_2 (d + 1) [(1, vi l1)] 51 3 [vr (some (97, 1, 0))] Q)))) else (Zm E YX8_putText d (si M 97 11 (0 : Int32)) (zargs 0 [vr (some (97, 1, 0)), vi l2, vi l3]) 0 [] (zma E YX8_binaryOf_2 (d + 1) [(0, vr (some (97, 1, 0))), (4, vi l4), (5, vi l5)] 19 3 [] Q))) : Zm E YX8_binaryOf_2 (d + 1) M [(0, vr (some (97, 1, 0))), (1, vi l1), (2, vi l2), (3, vi l3), (4, vi l4), (5, vi l5)] 8 [vi s0] Q := by
  refine Zm.br (fun _ _ k1_ k2_ => z_if_eq (tgt := 31) dX8_binaryOf_2_8 rfl k1_ k2_) (fun h_ => ?_) (fun h_ => ?_)
  · have k := zit h_ k
    refine Zm.l (fun _ _ k_ => z_iload_n dX8_binaryOf_2_31 rfl rfl k_) ?_
    refine Zm.l (fun _ _ k_ => z_bipush (v := 11) dX8_binaryOf_2_32 rfl k_) ?_
    refine Zm.br (fun _ _ k1_ k2_ => z_icmp_lt (tgt := 136) dX8_binaryOf_2_34 rfl k1_ k2_) (fun h_ => ?_) (fun h_ => ?_)
    · have k := zit h_ k
      refine Zm.l (fun _ _ k_ => z_aload_n dX8_binaryOf_2_136 rfl rfl k_) ?_
      refine Zm.l (fun _ _ k_ => z_iload_n dX8_binaryOf_2_137 rfl rfl k_) ?_
      refine Zm.l (fun _ _ k_ => z_iload_n dX8_binaryOf_2_138 rfl rfl k_) ?_
      refine Zm.pick [0, 1, 4, 5] rfl ?_
      exact zm_callV (as := [vi l2, vi l3]) (st := []) dX8_binaryOf_2_139 vsX8_816_1 (Nat.le_refl _) (Nat.le_of_ble_eq_true rfl) (Nat.le_of_ble_eq_true rfl) rfl k
    · have k := zif h_ k
      refine Zm.l (fun _ _ k_ => z_iload_n dX8_binaryOf_2_37 rfl rfl k_) ?_
      refine Zm.l (fun _ _ k_ => z_bipush (v := 13) dX8_binaryOf_2_38 rfl k_) ?_
      refine Zm.br (fun _ _ k1_ k2_ => z_icmp_ge (tgt := 79) dX8_binaryOf_2_40 rfl k1_ k2_) (fun h_ => ?_) (fun h_ => ?_)
      · have k := zit h_ k
        refine Zm.l (fun _ _ k_ => z_iload_n dX8_binaryOf_2_79 rfl rfl k_) ?_
        refine Zm.l (fun _ _ k_ => z_bipush (v := 15) dX8_binaryOf_2_80 rfl k_) ?_
        refine Zm.br (fun _ _ k1_ k2_ => z_icmp_ge (tgt := 120) dX8_binaryOf_2_82 rfl k1_ k2_) (fun h_ => ?_) (fun h_ => ?_)
        · have k := zit h_ k
          refine Zm.l (fun _ _ k_ => z_aload_n dX8_binaryOf_2_120 rfl rfl k_) ?_
          refine Zm.l (fun _ _ k_ => z_aload_n dX8_binaryOf_2_121 rfl rfl k_) ?_
          refine Zm.l (fun _ _ k_ => z_iload_n dX8_binaryOf_2_122 rfl rfl k_) ?_
          refine Zm.l (fun _ _ k_ => z_iload_n dX8_binaryOf_2_123 rfl rfl k_) ?_
          refine Zm.l (fun _ _ k_ => z_iload_n dX8_binaryOf_2_124 rfl rfl k_) ?_
          refine Zm.l (fun _ _ k_ => z_iload dX8_binaryOf_2_125 rfl k_) ?_
          refine Zm.l (fun _ _ k_ => z_iload dX8_binaryOf_2_127 rfl k_) ?_
          refine Zm.pick [] rfl ?_
          exact zm_callV (as := [vi l1, vi l2, vi l3, vi l4, vi l5]) (st := [vr (some (97, 1, 0))]) dX8_binaryOf_2_129 vsX8_837_1 (Nat.le_refl _) (Nat.le_of_ble_eq_true rfl) (Nat.le_of_ble_eq_true rfl) rfl k
        · have k := zif h_ k
          refine Zm.l (fun _ _ k_ => z_aload_n dX8_binaryOf_2_85 rfl rfl k_) ?_
          refine Zm.l (fun _ _ k_ => z_iload_n dX8_binaryOf_2_86 rfl rfl k_) ?_
          refine Zm.l (fun _ _ k_ => z_iload_n dX8_binaryOf_2_87 rfl rfl k_) ?_
          refine Zm.l (fun _ _ k_ => z_iload dX8_binaryOf_2_88 rfl k_) ?_
          refine Zm.l (fun _ _ k_ => z_iload dX8_binaryOf_2_90 rfl k_) ?_
          refine Zm.pick [1] rfl ?_
          exact zm_callS (as := [vi l2, vi l3, vi l4, vi l5]) (st := [vr (some (97, 1, 0))]) dX8_binaryOf_2_92 ssX8_812 (Nat.le_refl _) (Nat.le_of_ble_eq_true rfl) (Nat.le_of_ble_eq_true rfl) rfl k
      · have k := zif h_ k
        refine Zm.l (fun _ _ k_ => z_aload_n dX8_binaryOf_2_43 rfl rfl k_) ?_
        refine Zm.l (fun _ _ k_ => z_aload_n dX8_binaryOf_2_44 rfl rfl k_) ?_
        refine Zm.l (fun _ _ k_ => z_iload_n dX8_binaryOf_2_45 rfl rfl k_) ?_
        refine Zm.l (fun _ _ k_ => z_iload_n dX8_binaryOf_2_46 rfl rfl k_) ?_
        refine Zm.l (fun _ _ k_ => z_iload dX8_binaryOf_2_47 rfl k_) ?_
        refine Zm.l (fun _ _ k_ => z_iload dX8_binaryOf_2_49 rfl k_) ?_
        refine Zm.pick [1] rfl ?_
        exact zm_callV (as := [vi l2, vi l3, vi l4, vi l5]) (st := [vr (some (97, 1, 0))]) dX8_binaryOf_2_51 vsX8_834_1 (Nat.le_refl _) (Nat.le_of_ble_eq_true rfl) (Nat.le_of_ble_eq_true rfl) rfl k
  · have k := zif h_ k
    refine Zm.l (fun _ _ k_ => z_aload_n dX8_binaryOf_2_11 rfl rfl k_) ?_
    refine Zm.l (fun _ _ k_ => z_iconst (v := 0) dX8_binaryOf_2_12 rfl k_) ?_
    refine zm_puti (by decide) (by decide) dX8_binaryOf_2_13 (zfwN.w fwX8_299_1) rfl ⟨rfl, rfl⟩ ?_
    refine Zm.l (fun _ _ k_ => z_aload_n dX8_binaryOf_2_16 rfl rfl k_) ?_
    refine Zm.l (fun _ _ k_ => z_iload_n dX8_binaryOf_2_17 rfl rfl k_) ?_
    refine Zm.l (fun _ _ k_ => z_iload_n dX8_binaryOf_2_18 rfl rfl k_) ?_
    refine Zm.pick [0, 4, 5] rfl ?_
    exact zm_callV (as := [vi l2, vi l3]) (st := []) dX8_binaryOf_2_19 vsX8_800_1 (Nat.le_refl _) (Nat.le_of_ble_eq_true rfl) (Nat.le_of_ble_eq_true rfl) rfl k
theorem sX8_binaryOf_2_22 {E : zE} {d : Nat} {Q : zO → zM → Prop} (M : zM) (l4 : Int32) (l5 : Int32) (k : Zm E YX8_putText d M (zargs 0 [vr (some (97, 1, 0)), vi l4, vi l5]) 0 [] (zma E YX8_binaryOf_2 (d + 1) [] 27 3 [] Q)) : Zm E YX8_binaryOf_2 (d + 1) M [(0, vr (some (97, 1, 0))), (4, vi l4), (5, vi l5)] 22 [] Q := by
  refine Zm.l (fun _ _ k_ => z_aload_n dX8_binaryOf_2_22 rfl rfl k_) ?_
  refine Zm.l (fun _ _ k_ => z_iload dX8_binaryOf_2_23 rfl k_) ?_
  refine Zm.l (fun _ _ k_ => z_iload dX8_binaryOf_2_25 rfl k_) ?_
  refine Zm.pick [] rfl ?_
  exact zm_callV (as := [vi l4, vi l5]) (st := []) dX8_binaryOf_2_27 vsX8_800_1 (Nat.le_refl _) (Nat.le_of_ble_eq_true rfl) (Nat.le_of_ble_eq_true rfl) rfl k
theorem sX8_binaryOf_2_30 {E : zE} {d : Nat} {Q : zO → zM → Prop} (M : zM)  (k : Q (.inl none) M) : Zm E YX8_binaryOf_2 (d + 1) M [] 30 [] Q := by
  exact zm_vret dX8_binaryOf_2_30 rfl k
theorem sX8_binaryOf_2_54 {E : zE} {d : Nat} {Q : zO → zM → Prop} (M : zM) (l1 : Int32) (s0 : Int32) (k : if l1 = (11 : Int32) then (if s0 = (1 : Int32) then (Zm E YX8_truth d M (zargs 0 [vr (some (97, 1, 0)), vi (1 : Int32)]) 0 [] (zma E YX8_binaryOf_2 (d + 1) [] 73 3 [] Q)) else (Zm E YX8_truth d M (zargs 0 [vr (some (97, 1, 0)), vi (0 : Int32)]) 0 [] (zma E YX8_binaryOf_2 (d + 1) [] 73 3 [] Q))) else (if s0 = (0 : Int32) then (Zm E YX8_truth d M (zargs 0 [vr (some (97, 1, 0)), vi (1 : Int32)]) 0 [] (zma E YX8_binaryOf_2 (d + 1) [] 73 3 [] Q)) else (Zm E YX8_truth d M (zargs 0 [vr (some (97, 1, 0)), vi (0 : Int32)]) 0 [] (zma E YX8_binaryOf_2 (d + 1) [] 73 3 [] Q)))) : Zm E YX8_binaryOf_2 (d + 1) M [(1, vi l1)] 54 [vi s0, vr (some (97, 1, 0))] Q := by
  refine Zm.l (fun _ _ k_ => z_iload_n dX8_binaryOf_2_54 rfl rfl k_) ?_
  refine Zm.l (fun _ _ k_ => z_bipush (v := 11) dX8_binaryOf_2_55 rfl k_) ?_
  refine Zm.brn (fun _ _ k1_ k2_ => z_icmp_ne (tgt := 64) dX8_binaryOf_2_57 rfl k1_ k2_) (fun h_ => ?_) (fun h_ => ?_)
  · have k := zif h_ k
    refine Zm.l (fun _ _ k_ => z_iconst (v := 0) dX8_binaryOf_2_64 rfl k_) ?_
    refine Zm.brn (fun _ _ k1_ k2_ => z_icmp_ne (tgt := 72) dX8_binaryOf_2_65 rfl k1_ k2_) (fun h_ => ?_) (fun h_ => ?_)
    · have k := zif h_ k
      refine Zm.l (fun _ _ k_ => z_iconst (v := 0) dX8_binaryOf_2_72 rfl k_) ?_
      refine Zm.pick [] rfl ?_
      exact zm_callV (as := [vi (0 : Int32)]) (st := []) dX8_binaryOf_2_73 vsX8_827_1 (Nat.le_refl _) (Nat.le_of_ble_eq_true rfl) (Nat.le_of_ble_eq_true rfl) rfl k
    · have k := zit h_ k
      refine Zm.l (fun _ _ k_ => z_iconst (v := 1) dX8_binaryOf_2_68 rfl k_) ?_
      refine Zm.l (fun _ _ k_ => z_goto (tgt := 73) dX8_binaryOf_2_69 rfl k_) ?_
      refine Zm.pick [] rfl ?_
      exact zm_callV (as := [vi (1 : Int32)]) (st := []) dX8_binaryOf_2_73 vsX8_827_1 (Nat.le_refl _) (Nat.le_of_ble_eq_true rfl) (Nat.le_of_ble_eq_true rfl) rfl k
  · have k := zit h_ k
    refine Zm.l (fun _ _ k_ => z_iconst (v := 1) dX8_binaryOf_2_60 rfl k_) ?_
    refine Zm.l (fun _ _ k_ => z_goto (tgt := 65) dX8_binaryOf_2_61 rfl k_) ?_
    refine Zm.brn (fun _ _ k1_ k2_ => z_icmp_ne (tgt := 72) dX8_binaryOf_2_65 rfl k1_ k2_) (fun h_ => ?_) (fun h_ => ?_)
    · have k := zif h_ k
      refine Zm.l (fun _ _ k_ => z_iconst (v := 0) dX8_binaryOf_2_72 rfl k_) ?_
      refine Zm.pick [] rfl ?_
      exact zm_callV (as := [vi (0 : Int32)]) (st := []) dX8_binaryOf_2_73 vsX8_827_1 (Nat.le_refl _) (Nat.le_of_ble_eq_true rfl) (Nat.le_of_ble_eq_true rfl) rfl k
    · have k := zit h_ k
      refine Zm.l (fun _ _ k_ => z_iconst (v := 1) dX8_binaryOf_2_68 rfl k_) ?_
      refine Zm.l (fun _ _ k_ => z_goto (tgt := 73) dX8_binaryOf_2_69 rfl k_) ?_
      refine Zm.pick [] rfl ?_
      exact zm_callV (as := [vi (1 : Int32)]) (st := []) dX8_binaryOf_2_73 vsX8_827_1 (Nat.le_refl _) (Nat.le_of_ble_eq_true rfl) (Nat.le_of_ble_eq_true rfl) rfl k
theorem sX8_binaryOf_2_76 {E : zE} {d : Nat} {Q : zO → zM → Prop} (M : zM)  (k : Zm E YX8_binaryOf_2 (d + 1) M [] 135 [] Q) : Zm E YX8_binaryOf_2 (d + 1) M [] 76 [] Q := by
  refine Zm.l (fun _ _ k_ => z_goto (tgt := 135) dX8_binaryOf_2_76 rfl k_) ?_
  exact k
theorem sX8_binaryOf_2_95 {E : zE} {d : Nat} {Q : zO → zM → Prop} (M : zM) (l1 : Int32) (s0 : Int32) (k : if l1 = (13 : Int32) then (if s0 = (1 : Int32) then (Zm E YX8_truth d M (zargs 0 [vr (some (97, 1, 0)), vi (1 : Int32)]) 0 [] (zma E YX8_binaryOf_2 (d + 1) [] 114 3 [] Q)) else (Zm E YX8_truth d M (zargs 0 [vr (some (97, 1, 0)), vi (0 : Int32)]) 0 [] (zma E YX8_binaryOf_2 (d + 1) [] 114 3 [] Q))) else (if s0 = (0 : Int32) then (Zm E YX8_truth d M (zargs 0 [vr (some (97, 1, 0)), vi (1 : Int32)]) 0 [] (zma E YX8_binaryOf_2 (d + 1) [] 114 3 [] Q)) else (Zm E YX8_truth d M (zargs 0 [vr (some (97, 1, 0)), vi (0 : Int32)]) 0 [] (zma E YX8_binaryOf_2 (d + 1) [] 114 3 [] Q)))) : Zm E YX8_binaryOf_2 (d + 1) M [(1, vi l1)] 95 [vi s0, vr (some (97, 1, 0))] Q := by
  refine Zm.l (fun _ _ k_ => z_iload_n dX8_binaryOf_2_95 rfl rfl k_) ?_
  refine Zm.l (fun _ _ k_ => z_bipush (v := 13) dX8_binaryOf_2_96 rfl k_) ?_
  refine Zm.brn (fun _ _ k1_ k2_ => z_icmp_ne (tgt := 105) dX8_binaryOf_2_98 rfl k1_ k2_) (fun h_ => ?_) (fun h_ => ?_)
  · have k := zif h_ k
    refine Zm.l (fun _ _ k_ => z_iconst (v := 0) dX8_binaryOf_2_105 rfl k_) ?_
    refine Zm.brn (fun _ _ k1_ k2_ => z_icmp_ne (tgt := 113) dX8_binaryOf_2_106 rfl k1_ k2_) (fun h_ => ?_) (fun h_ => ?_)
    · have k := zif h_ k
      refine Zm.l (fun _ _ k_ => z_iconst (v := 0) dX8_binaryOf_2_113 rfl k_) ?_
      refine Zm.pick [] rfl ?_
      exact zm_callV (as := [vi (0 : Int32)]) (st := []) dX8_binaryOf_2_114 vsX8_827_1 (Nat.le_refl _) (Nat.le_of_ble_eq_true rfl) (Nat.le_of_ble_eq_true rfl) rfl k
    · have k := zit h_ k
      refine Zm.l (fun _ _ k_ => z_iconst (v := 1) dX8_binaryOf_2_109 rfl k_) ?_
      refine Zm.l (fun _ _ k_ => z_goto (tgt := 114) dX8_binaryOf_2_110 rfl k_) ?_
      refine Zm.pick [] rfl ?_
      exact zm_callV (as := [vi (1 : Int32)]) (st := []) dX8_binaryOf_2_114 vsX8_827_1 (Nat.le_refl _) (Nat.le_of_ble_eq_true rfl) (Nat.le_of_ble_eq_true rfl) rfl k
  · have k := zit h_ k
    refine Zm.l (fun _ _ k_ => z_iconst (v := 1) dX8_binaryOf_2_101 rfl k_) ?_
    refine Zm.l (fun _ _ k_ => z_goto (tgt := 106) dX8_binaryOf_2_102 rfl k_) ?_
    refine Zm.brn (fun _ _ k1_ k2_ => z_icmp_ne (tgt := 113) dX8_binaryOf_2_106 rfl k1_ k2_) (fun h_ => ?_) (fun h_ => ?_)
    · have k := zif h_ k
      refine Zm.l (fun _ _ k_ => z_iconst (v := 0) dX8_binaryOf_2_113 rfl k_) ?_
      refine Zm.pick [] rfl ?_
      exact zm_callV (as := [vi (0 : Int32)]) (st := []) dX8_binaryOf_2_114 vsX8_827_1 (Nat.le_refl _) (Nat.le_of_ble_eq_true rfl) (Nat.le_of_ble_eq_true rfl) rfl k
    · have k := zit h_ k
      refine Zm.l (fun _ _ k_ => z_iconst (v := 1) dX8_binaryOf_2_109 rfl k_) ?_
      refine Zm.l (fun _ _ k_ => z_goto (tgt := 114) dX8_binaryOf_2_110 rfl k_) ?_
      refine Zm.pick [] rfl ?_
      exact zm_callV (as := [vi (1 : Int32)]) (st := []) dX8_binaryOf_2_114 vsX8_827_1 (Nat.le_refl _) (Nat.le_of_ble_eq_true rfl) (Nat.le_of_ble_eq_true rfl) rfl k
theorem sX8_binaryOf_2_117 {E : zE} {d : Nat} {Q : zO → zM → Prop} (M : zM)  (k : Zm E YX8_binaryOf_2 (d + 1) M [] 135 [] Q) : Zm E YX8_binaryOf_2 (d + 1) M [] 117 [] Q := by
  refine Zm.l (fun _ _ k_ => z_goto (tgt := 135) dX8_binaryOf_2_117 rfl k_) ?_
  exact k
theorem sX8_binaryOf_2_132 {E : zE} {d : Nat} {Q : zO → zM → Prop} (M : zM) (s0 : Int32) (k : Zm E YX8_truth d M (zargs 0 [vr (some (97, 1, 0)), vi s0]) 0 [] (zma E YX8_binaryOf_2 (d + 1) [] 132 3 [] Q)) : Zm E YX8_binaryOf_2 (d + 1) M [] 132 [vi s0, vr (some (97, 1, 0))] Q := by
  exact zm_callV (as := [vi s0]) (st := []) dX8_binaryOf_2_132 vsX8_827_1 (Nat.le_refl _) (Nat.le_of_ble_eq_true rfl) (Nat.le_of_ble_eq_true rfl) rfl k
theorem sX8_binaryOf_2_135 {E : zE} {d : Nat} {Q : zO → zM → Prop} (M : zM)  (k : Q (.inl none) M) : Zm E YX8_binaryOf_2 (d + 1) M [] 135 [] Q := by
  exact zm_vret dX8_binaryOf_2_135 rfl k
theorem sX8_binaryOf_2_142 {E : zE} {d : Nat} {Q : zO → zM → Prop} (M : zM) (l1 : Int32) (l4 : Int32) (l5 : Int32) (s0 : Int32) (k : Zm E YX8_numberOf d M (zargs 0 [vr (some (97, 1, 0)), vi l4, vi l5]) 0 [] (zma E YX8_binaryOf_2 (d + 1) [(0, vr (some (97, 1, 0))), (1, vi l1), (6, vi s0), (7, vi (gi M 97 113))] 155 3 [] Q)) : Zm E YX8_binaryOf_2 (d + 1) M [(0, vr (some (97, 1, 0))), (1, vi l1), (4, vi l4), (5, vi l5)] 142 [vi s0] Q := by
  refine Zm.l (fun _ _ k_ => z_ist dX8_binaryOf_2_142 (by decide) (lv' := [(0, vr (some (97, 1, 0))), (1, vi l1), (4, vi l4), (5, vi l5), (6, vi s0)]) rfl k_) ?_
  refine Zm.l (fun _ _ k_ => z_aload_n dX8_binaryOf_2_144 rfl rfl k_) ?_
  refine zm_geti dX8_binaryOf_2_145 fsX8_806_1 (by decide) (by decide) ?_
  refine Zm.l (fun _ _ k_ => z_ist dX8_binaryOf_2_148 (by decide) (lv' := [(0, vr (some (97, 1, 0))), (1, vi l1), (4, vi l4), (5, vi l5), (6, vi s0), (7, vi (gi M 97 113))]) rfl k_) ?_
  refine Zm.l (fun _ _ k_ => z_aload_n dX8_binaryOf_2_150 rfl rfl k_) ?_
  refine Zm.l (fun _ _ k_ => z_iload dX8_binaryOf_2_151 rfl k_) ?_
  refine Zm.l (fun _ _ k_ => z_iload dX8_binaryOf_2_153 rfl k_) ?_
  refine Zm.pick [0, 1, 4, 5] rfl ?_
  exact zm_callV (as := [vi l4, vi l5]) (st := []) dX8_binaryOf_2_155 vsX8_816_1 (Nat.le_refl _) (Nat.le_of_ble_eq_true rfl) (Nat.le_of_ble_eq_true rfl) rfl k
theorem sX8_binaryOf_2_158 {E : zE} {d : Nat} {Q : zO → zM → Prop} (M : zM) (l1 : Int32) (l6 : Int32) (l7 : Int32) (s0 : Int32) (k : if l7 = 0 then (Zm E YX8_binaryOf_2 (d + 1) M [(0, vr (some (97, 1, 0))), (1, vi l1), (6, vi l6), (7, vi l7), (8, vi s0)] 177 [vi (0 : Int32)] Q) else (if (gi M 97 113) = 0 then (Zm E YX8_binaryOf_2 (d + 1) M [(0, vr (some (97, 1, 0))), (1, vi l1), (6, vi l6), (7, vi l7), (8, vi s0)] 177 [vi (0 : Int32)] Q) else (Zm E YX8_binaryOf_2 (d + 1) M [(0, vr (some (97, 1, 0))), (1, vi l1), (6, vi l6), (7, vi l7), (8, vi s0)] 177 [vi (1 : Int32)] Q))) : Zm E YX8_binaryOf_2 (d + 1) M [(0, vr (some (97, 1, 0))), (1, vi l1), (6, vi l6), (7, vi l7)] 158 [vi s0] Q := by
  refine Zm.l (fun _ _ k_ => z_ist dX8_binaryOf_2_158 (by decide) (lv' := [(0, vr (some (97, 1, 0))), (1, vi l1), (6, vi l6), (7, vi l7), (8, vi s0)]) rfl k_) ?_
  refine Zm.l (fun _ _ k_ => z_iload dX8_binaryOf_2_160 rfl k_) ?_
  refine Zm.br (fun _ _ k1_ k2_ => z_if_eq (tgt := 176) dX8_binaryOf_2_162 rfl k1_ k2_) (fun h_ => ?_) (fun h_ => ?_)
  · have k := zit h_ k
    refine Zm.l (fun _ _ k_ => z_iconst (v := 0) dX8_binaryOf_2_176 rfl k_) ?_
    exact k
  · have k := zif h_ k
    refine Zm.l (fun _ _ k_ => z_aload_n dX8_binaryOf_2_165 rfl rfl k_) ?_
    refine zm_geti dX8_binaryOf_2_166 fsX8_806_1 (by decide) (by decide) ?_
    refine Zm.br (fun _ _ k1_ k2_ => z_if_eq (tgt := 176) dX8_binaryOf_2_169 rfl k1_ k2_) (fun h_ => ?_) (fun h_ => ?_)
    · have k := zit h_ k
      refine Zm.l (fun _ _ k_ => z_iconst (v := 0) dX8_binaryOf_2_176 rfl k_) ?_
      exact k
    · have k := zif h_ k
      refine Zm.l (fun _ _ k_ => z_iconst (v := 1) dX8_binaryOf_2_172 rfl k_) ?_
      refine Zm.l (fun _ _ k_ => z_goto (tgt := 177) dX8_binaryOf_2_173 rfl k_) ?_
      exact k
theorem sX8_binaryOf_2_177 {E : zE} {d : Nat} {Q : zO → zM → Prop} (M : zM) (l1 : Int32) (l6 : Int32) (l7 : Int32) (l8 : Int32) (s0 : Int32) (k : if l1 < (5 : Int32) then (if s0 = 0 then (Zm E YX8_give_2 d M (zargs 0 [vr (some (97, 1, 0)), vi (4 : Int32), vi (0 : Int32)]) 0 [] (zma E YX8_binaryOf_2 (d + 1) [] 238 3 [] Q)) else (if l1 ≤ (2 : Int32) then (Zm E YX8_binaryOf_2 (d + 1) M [(0, vr (some (97, 1, 0))), (1, vi l1), (6, vi l6), (8, vi l8)] 244 [] Q) else (if l8 = 0 then (Zm E YX8_give_2 d M (zargs 0 [vr (some (97, 1, 0)), vi (4 : Int32), vi (0 : Int32)]) 0 [] (zma E YX8_binaryOf_2 (d + 1) [] 238 3 [] Q)) else (Zm E YX8_binaryOf_2 (d + 1) M [(0, vr (some (97, 1, 0))), (1, vi l1), (6, vi l6), (8, vi l8)] 244 [] Q)))) else (if l7 = 0 then (Zm E YX8_binaryOf_2 (d + 1) M [(0, vr (some (97, 1, 0))), (8, vi l8)] 198 [vi (0 : Int32), vi l1, vi (5 : Int32), vr (some (97, 1, 0))] Q) else (Zm E YX8_binaryOf_2 (d + 1) M [(0, vr (some (97, 1, 0))), (8, vi l8)] 198 [vi l6, vi l1, vi (5 : Int32), vr (some (97, 1, 0))] Q))) : Zm E YX8_binaryOf_2 (d + 1) M [(0, vr (some (97, 1, 0))), (1, vi l1), (6, vi l6), (7, vi l7), (8, vi l8)] 177 [vi s0] Q := by
  refine Zm.l (fun _ _ k_ => z_ist dX8_binaryOf_2_177 (by decide) (lv' := [(0, vr (some (97, 1, 0))), (1, vi l1), (6, vi l6), (7, vi l7), (8, vi l8), (9, vi s0)]) rfl k_) ?_
  refine Zm.l (fun _ _ k_ => z_iload_n dX8_binaryOf_2_179 rfl rfl k_) ?_
  refine Zm.l (fun _ _ k_ => z_iconst (v := 5) dX8_binaryOf_2_180 rfl k_) ?_
  refine Zm.br (fun _ _ k1_ k2_ => z_icmp_lt (tgt := 220) dX8_binaryOf_2_181 rfl k1_ k2_) (fun h_ => ?_) (fun h_ => ?_)
  · have k := zit h_ k
    refine Zm.l (fun _ _ k_ => z_iload dX8_binaryOf_2_220 rfl k_) ?_
    refine Zm.br (fun _ _ k1_ k2_ => z_if_eq (tgt := 235) dX8_binaryOf_2_222 rfl k1_ k2_) (fun h_ => ?_) (fun h_ => ?_)
    · have k := zit h_ k
      refine Zm.l (fun _ _ k_ => z_aload_n dX8_binaryOf_2_235 rfl rfl k_) ?_
      refine Zm.l (fun _ _ k_ => z_iconst (v := 4) dX8_binaryOf_2_236 rfl k_) ?_
      refine Zm.l (fun _ _ k_ => z_iconst (v := 0) dX8_binaryOf_2_237 rfl k_) ?_
      refine Zm.pick [] rfl ?_
      exact zm_callV (as := [vi (4 : Int32), vi (0 : Int32)]) (st := []) dX8_binaryOf_2_238 vsX8_822_1 (Nat.le_refl _) (Nat.le_of_ble_eq_true rfl) (Nat.le_of_ble_eq_true rfl) rfl k
    · have k := zif h_ k
      refine Zm.l (fun _ _ k_ => z_iload_n dX8_binaryOf_2_225 rfl rfl k_) ?_
      refine Zm.l (fun _ _ k_ => z_iconst (v := 2) dX8_binaryOf_2_226 rfl k_) ?_
      refine Zm.br (fun _ _ k1_ k2_ => z_icmp_le (tgt := 244) dX8_binaryOf_2_227 rfl k1_ k2_) (fun h_ => ?_) (fun h_ => ?_)
      · have k := zit h_ k
        refine Zm.pick [0, 1, 2, 4] rfl ?_
        exact k
      · have k := zif h_ k
        refine Zm.l (fun _ _ k_ => z_iload dX8_binaryOf_2_230 rfl k_) ?_
        refine Zm.brn (fun _ _ k1_ k2_ => z_if_ne (tgt := 244) dX8_binaryOf_2_232 rfl k1_ k2_) (fun h_ => ?_) (fun h_ => ?_)
        · have k := zif h_ k
          refine Zm.pick [0, 1, 2, 4] rfl ?_
          exact k
        · have k := zit h_ k
          refine Zm.l (fun _ _ k_ => z_aload_n dX8_binaryOf_2_235 rfl rfl k_) ?_
          refine Zm.l (fun _ _ k_ => z_iconst (v := 4) dX8_binaryOf_2_236 rfl k_) ?_
          refine Zm.l (fun _ _ k_ => z_iconst (v := 0) dX8_binaryOf_2_237 rfl k_) ?_
          refine Zm.pick [] rfl ?_
          exact zm_callV (as := [vi (4 : Int32), vi (0 : Int32)]) (st := []) dX8_binaryOf_2_238 vsX8_822_1 (Nat.le_refl _) (Nat.le_of_ble_eq_true rfl) (Nat.le_of_ble_eq_true rfl) rfl k
  · have k := zif h_ k
    refine Zm.l (fun _ _ k_ => z_aload_n dX8_binaryOf_2_184 rfl rfl k_) ?_
    refine Zm.l (fun _ _ k_ => z_iconst (v := 5) dX8_binaryOf_2_185 rfl k_) ?_
    refine Zm.l (fun _ _ k_ => z_iload_n dX8_binaryOf_2_186 rfl rfl k_) ?_
    refine Zm.l (fun _ _ k_ => z_iload dX8_binaryOf_2_187 rfl k_) ?_
    refine Zm.br (fun _ _ k1_ k2_ => z_if_eq (tgt := 197) dX8_binaryOf_2_189 rfl k1_ k2_) (fun h_ => ?_) (fun h_ => ?_)
    · have k := zit h_ k
      refine Zm.l (fun _ _ k_ => z_iconst (v := 0) dX8_binaryOf_2_197 rfl k_) ?_
      refine Zm.pick [0, 4] rfl ?_
      exact k
    · have k := zif h_ k
      refine Zm.l (fun _ _ k_ => z_iload dX8_binaryOf_2_192 rfl k_) ?_
      refine Zm.l (fun _ _ k_ => z_goto (tgt := 198) dX8_binaryOf_2_194 rfl k_) ?_
      refine Zm.pick [0, 4] rfl ?_
      exact k
theorem sX8_binaryOf_2_198 {E : zE} {d : Nat} {Q : zO → zM → Prop} (M : zM) (l8 : Int32) (s0 : Int32) (s1 : Int32) (s2 : Int32) (k : if (gi M 97 113) = 0 then (Zm E YX8_bits d M (zargs 0 [vi s1, vi s0, vi (0 : Int32)]) 0 [] (zma E YX8_binaryOf_2 (d + 1) [] 211 3 [vi s2, vr (some (97, 1, 0))] Q)) else (Zm E YX8_bits d M (zargs 0 [vi s1, vi s0, vi l8]) 0 [] (zma E YX8_binaryOf_2 (d + 1) [] 211 3 [vi s2, vr (some (97, 1, 0))] Q))) : Zm E YX8_binaryOf_2 (d + 1) M [(0, vr (some (97, 1, 0))), (8, vi l8)] 198 [vi s0, vi s1, vi s2, vr (some (97, 1, 0))] Q := by
  refine Zm.l (fun _ _ k_ => z_aload_n dX8_binaryOf_2_198 rfl rfl k_) ?_
  refine zm_geti dX8_binaryOf_2_199 fsX8_806_1 (by decide) (by decide) ?_
  refine Zm.br (fun _ _ k1_ k2_ => z_if_eq (tgt := 210) dX8_binaryOf_2_202 rfl k1_ k2_) (fun h_ => ?_) (fun h_ => ?_)
  · have k := zit h_ k
    refine Zm.l (fun _ _ k_ => z_iconst (v := 0) dX8_binaryOf_2_210 rfl k_) ?_
    refine Zm.pick [] rfl ?_
    exact zm_callS (as := [vi s1, vi s0, vi (0 : Int32)]) (st := [vi s2, vr (some (97, 1, 0))]) dX8_binaryOf_2_211 ssX8_841 (Nat.le_refl _) (Nat.le_of_ble_eq_true rfl) (Nat.le_of_ble_eq_true rfl) rfl k
  · have k := zif h_ k
    refine Zm.l (fun _ _ k_ => z_iload dX8_binaryOf_2_205 rfl k_) ?_
    refine Zm.l (fun _ _ k_ => z_goto (tgt := 211) dX8_binaryOf_2_207 rfl k_) ?_
    refine Zm.pick [] rfl ?_
    exact zm_callS (as := [vi s1, vi s0, vi l8]) (st := [vi s2, vr (some (97, 1, 0))]) dX8_binaryOf_2_211 ssX8_841 (Nat.le_refl _) (Nat.le_of_ble_eq_true rfl) (Nat.le_of_ble_eq_true rfl) rfl k
theorem sX8_binaryOf_2_214 {E : zE} {d : Nat} {Q : zO → zM → Prop} (M : zM) (s0 : Int32) (s1 : Int32) (k : Zm E YX8_give_2 d M (zargs 0 [vr (some (97, 1, 0)), vi s1, vi s0]) 0 [] (zma E YX8_binaryOf_2 (d + 1) [] 214 3 [] Q)) : Zm E YX8_binaryOf_2 (d + 1) M [] 214 [vi s0, vi s1, vr (some (97, 1, 0))] Q := by
  exact zm_callV (as := [vi s1, vi s0]) (st := []) dX8_binaryOf_2_214 vsX8_822_1 (Nat.le_refl _) (Nat.le_of_ble_eq_true rfl) (Nat.le_of_ble_eq_true rfl) rfl k
theorem sX8_binaryOf_2_217 {E : zE} {d : Nat} {Q : zO → zM → Prop} (M : zM)  (k : Zm E YX8_binaryOf_2 (d + 1) M [] 305 [] Q) : Zm E YX8_binaryOf_2 (d + 1) M [] 217 [] Q := by
  refine Zm.l (fun _ _ k_ => z_goto (tgt := 305) dX8_binaryOf_2_217 rfl k_) ?_
  exact k
theorem sX8_binaryOf_2_241 {E : zE} {d : Nat} {Q : zO → zM → Prop} (M : zM)  (k : Zm E YX8_binaryOf_2 (d + 1) M [] 305 [] Q) : Zm E YX8_binaryOf_2 (d + 1) M [] 241 [] Q := by
  refine Zm.l (fun _ _ k_ => z_goto (tgt := 305) dX8_binaryOf_2_241 rfl k_) ?_
  exact k
theorem sX8_binaryOf_2_244 {E : zE} {d : Nat} {Q : zO → zM → Prop} (M : zM) (l1 : Int32) (l6 : Int32) (l8 : Int32) (k : if l1 = 0 then (Zm E YX8_give_2 d M (zargs 0 [vr (some (97, 1, 0)), vi (5 : Int32), vi (l6 + l8)]) 0 [] (zma E YX8_binaryOf_2 (d + 1) [] 302 3 [] Q)) else (if l1 = (1 : Int32) then (Zm E YX8_give_2 d M (zargs 0 [vr (some (97, 1, 0)), vi (5 : Int32), vi (l6 - l8)]) 0 [] (zma E YX8_binaryOf_2 (d + 1) [] 302 3 [] Q)) else (if l1 = (2 : Int32) then (Zm E YX8_give_2 d M (zargs 0 [vr (some (97, 1, 0)), vi (5 : Int32), vi (l6 * l8)]) 0 [] (zma E YX8_binaryOf_2 (d + 1) [] 302 3 [] Q)) else (if l1 = (3 : Int32) then ((¬ l8 = 0) ∧ (Zm E YX8_give_2 d M (zargs 0 [vr (some (97, 1, 0)), vi (5 : Int32), vi (l6 / l8)]) 0 [] (zma E YX8_binaryOf_2 (d + 1) [] 302 3 [] Q))) else ((¬ l8 = 0) ∧ (Zm E YX8_give_2 d M (zargs 0 [vr (some (97, 1, 0)), vi (5 : Int32), vi (l6 - l6 / l8 * l8)]) 0 [] (zma E YX8_binaryOf_2 (d + 1) [] 302 3 [] Q))))))) : Zm E YX8_binaryOf_2 (d + 1) M [(0, vr (some (97, 1, 0))), (1, vi l1), (6, vi l6), (8, vi l8)] 244 [] Q := by
  refine Zm.l (fun _ _ k_ => z_aload_n dX8_binaryOf_2_244 rfl rfl k_) ?_
  refine Zm.l (fun _ _ k_ => z_iconst (v := 5) dX8_binaryOf_2_245 rfl k_) ?_
  refine Zm.l (fun _ _ k_ => z_iload_n dX8_binaryOf_2_246 rfl rfl k_) ?_
  refine Zm.brn (fun _ _ k1_ k2_ => z_if_ne (tgt := 258) dX8_binaryOf_2_247 rfl k1_ k2_) (fun h_ => ?_) (fun h_ => ?_)
  · have k := zif h_ k
    refine Zm.l (fun _ _ k_ => z_iload_n dX8_binaryOf_2_258 rfl rfl k_) ?_
    refine Zm.l (fun _ _ k_ => z_iconst (v := 1) dX8_binaryOf_2_259 rfl k_) ?_
    refine Zm.brn (fun _ _ k1_ k2_ => z_icmp_ne (tgt := 271) dX8_binaryOf_2_260 rfl k1_ k2_) (fun h_ => ?_) (fun h_ => ?_)
    · have k := zif h_ k
      refine Zm.l (fun _ _ k_ => z_iload_n dX8_binaryOf_2_271 rfl rfl k_) ?_
      refine Zm.l (fun _ _ k_ => z_iconst (v := 2) dX8_binaryOf_2_272 rfl k_) ?_
      refine Zm.brn (fun _ _ k1_ k2_ => z_icmp_ne (tgt := 284) dX8_binaryOf_2_273 rfl k1_ k2_) (fun h_ => ?_) (fun h_ => ?_)
      · have k := zif h_ k
        refine Zm.l (fun _ _ k_ => z_iload_n dX8_binaryOf_2_284 rfl rfl k_) ?_
        refine Zm.l (fun _ _ k_ => z_iconst (v := 3) dX8_binaryOf_2_285 rfl k_) ?_
        refine Zm.brn (fun _ _ k1_ k2_ => z_icmp_ne (tgt := 297) dX8_binaryOf_2_286 rfl k1_ k2_) (fun h_ => ?_) (fun h_ => ?_)
        · have k := zif h_ k
          refine Zm.l (fun _ _ k_ => z_iload dX8_binaryOf_2_297 rfl k_) ?_
          refine Zm.l (fun _ _ k_ => z_iload dX8_binaryOf_2_299 rfl k_) ?_
          obtain ⟨b_, k⟩ := k
          refine Zm.l (fun _ _ k_ => z_irem dX8_binaryOf_2_301 b_ k_) ?_
          refine Zm.pick [] rfl ?_
          exact zm_callV (as := [vi (5 : Int32), vi (l6 - l6 / l8 * l8)]) (st := []) dX8_binaryOf_2_302 vsX8_822_1 (Nat.le_refl _) (Nat.le_of_ble_eq_true rfl) (Nat.le_of_ble_eq_true rfl) rfl k
        · have k := zit h_ k
          refine Zm.l (fun _ _ k_ => z_iload dX8_binaryOf_2_289 rfl k_) ?_
          refine Zm.l (fun _ _ k_ => z_iload dX8_binaryOf_2_291 rfl k_) ?_
          obtain ⟨b_, k⟩ := k
          refine Zm.l (fun _ _ k_ => z_idiv dX8_binaryOf_2_293 b_ k_) ?_
          refine Zm.l (fun _ _ k_ => z_goto (tgt := 302) dX8_binaryOf_2_294 rfl k_) ?_
          refine Zm.pick [] rfl ?_
          exact zm_callV (as := [vi (5 : Int32), vi (l6 / l8)]) (st := []) dX8_binaryOf_2_302 vsX8_822_1 (Nat.le_refl _) (Nat.le_of_ble_eq_true rfl) (Nat.le_of_ble_eq_true rfl) rfl k
      · have k := zit h_ k
        refine Zm.l (fun _ _ k_ => z_iload dX8_binaryOf_2_276 rfl k_) ?_
        refine Zm.l (fun _ _ k_ => z_iload dX8_binaryOf_2_278 rfl k_) ?_
        refine Zm.l (fun _ _ k_ => z_imul dX8_binaryOf_2_280 k_) ?_
        refine Zm.l (fun _ _ k_ => z_goto (tgt := 302) dX8_binaryOf_2_281 rfl k_) ?_
        refine Zm.pick [] rfl ?_
        exact zm_callV (as := [vi (5 : Int32), vi (l6 * l8)]) (st := []) dX8_binaryOf_2_302 vsX8_822_1 (Nat.le_refl _) (Nat.le_of_ble_eq_true rfl) (Nat.le_of_ble_eq_true rfl) rfl k
    · have k := zit h_ k
      refine Zm.l (fun _ _ k_ => z_iload dX8_binaryOf_2_263 rfl k_) ?_
      refine Zm.l (fun _ _ k_ => z_iload dX8_binaryOf_2_265 rfl k_) ?_
      refine Zm.l (fun _ _ k_ => z_isub dX8_binaryOf_2_267 k_) ?_
      refine Zm.l (fun _ _ k_ => z_goto (tgt := 302) dX8_binaryOf_2_268 rfl k_) ?_
      refine Zm.pick [] rfl ?_
      exact zm_callV (as := [vi (5 : Int32), vi (l6 - l8)]) (st := []) dX8_binaryOf_2_302 vsX8_822_1 (Nat.le_refl _) (Nat.le_of_ble_eq_true rfl) (Nat.le_of_ble_eq_true rfl) rfl k
  · have k := zit h_ k
    refine Zm.l (fun _ _ k_ => z_iload dX8_binaryOf_2_250 rfl k_) ?_
    refine Zm.l (fun _ _ k_ => z_iload dX8_binaryOf_2_252 rfl k_) ?_
    refine Zm.l (fun _ _ k_ => z_iadd dX8_binaryOf_2_254 k_) ?_
    refine Zm.l (fun _ _ k_ => z_goto (tgt := 302) dX8_binaryOf_2_255 rfl k_) ?_
    refine Zm.pick [] rfl ?_
    exact zm_callV (as := [vi (5 : Int32), vi (l6 + l8)]) (st := []) dX8_binaryOf_2_302 vsX8_822_1 (Nat.le_refl _) (Nat.le_of_ble_eq_true rfl) (Nat.le_of_ble_eq_true rfl) rfl k
theorem sX8_binaryOf_2_305 {E : zE} {d : Nat} {Q : zO → zM → Prop} (M : zM)  (k : Q (.inl none) M) : Zm E YX8_binaryOf_2 (d + 1) M [] 305 [] Q := by
  exact zm_vret dX8_binaryOf_2_305 rfl k
/-! ScriptTypesModel.joinsTexts(III)Z -/
theorem bX8_joinsTexts_0 : zdec cX8_joinsTexts 0 [(0, .iload_n 1, 1), (1, .ifCond .ne 19, 3), (4, .iload_n 2, 1), (5, .bipush 6, 2), (7, .if_icmp .ge 9, 3), (10, .iload_n 3, 1), (11, .bipush 6, 2), (13, .if_icmp .lt 7, 3), (16, .iconst 1, 1), (17, .goto 4, 3), (20, .iconst 0, 1), (21, .ireturn, 1)] = true := by decide +kernel
theorem dX8_joinsTexts_0 : decode cX8_joinsTexts 0 = .ok (.iload_n 1, 1) := zdec_at bX8_joinsTexts_0 0 rfl
theorem dX8_joinsTexts_1 : decode cX8_joinsTexts 1 = .ok (.ifCond .ne 19, 3) := zdec_at bX8_joinsTexts_0 1 rfl
theorem dX8_joinsTexts_4 : decode cX8_joinsTexts 4 = .ok (.iload_n 2, 1) := zdec_at bX8_joinsTexts_0 2 rfl
theorem dX8_joinsTexts_5 : decode cX8_joinsTexts 5 = .ok (.bipush 6, 2) := zdec_at bX8_joinsTexts_0 3 rfl
theorem dX8_joinsTexts_7 : decode cX8_joinsTexts 7 = .ok (.if_icmp .ge 9, 3) := zdec_at bX8_joinsTexts_0 4 rfl
theorem dX8_joinsTexts_10 : decode cX8_joinsTexts 10 = .ok (.iload_n 3, 1) := zdec_at bX8_joinsTexts_0 5 rfl
theorem dX8_joinsTexts_11 : decode cX8_joinsTexts 11 = .ok (.bipush 6, 2) := zdec_at bX8_joinsTexts_0 6 rfl
theorem dX8_joinsTexts_13 : decode cX8_joinsTexts 13 = .ok (.if_icmp .lt 7, 3) := zdec_at bX8_joinsTexts_0 7 rfl
theorem dX8_joinsTexts_16 : decode cX8_joinsTexts 16 = .ok (.iconst 1, 1) := zdec_at bX8_joinsTexts_0 8 rfl
theorem dX8_joinsTexts_17 : decode cX8_joinsTexts 17 = .ok (.goto 4, 3) := zdec_at bX8_joinsTexts_0 9 rfl
theorem dX8_joinsTexts_20 : decode cX8_joinsTexts 20 = .ok (.iconst 0, 1) := zdec_at bX8_joinsTexts_0 10 rfl
theorem dX8_joinsTexts_21 : decode cX8_joinsTexts 21 = .ok (.ireturn, 1) := zdec_at bX8_joinsTexts_0 11 rfl
theorem sX8_joinsTexts_0 {E : zE} {d : Nat} {Q : zO → zM → Prop} (M : zM) (l1 : Int32) (l2 : Int32) (l3 : Int32) (k : if l1 = 0 then (if (6 : Int32) ≤ l2 then (Q (.inl (some (vi (1 : Int32)))) M) else (if l3 < (6 : Int32) then (Q (.inl (some (vi (0 : Int32)))) M) else (Q (.inl (some (vi (1 : Int32)))) M))) else (Q (.inl (some (vi (0 : Int32)))) M)) : Zm E YX8_joinsTexts d M [(0, vr (some (97, 1, 0))), (1, vi l1), (2, vi l2), (3, vi l3)] 0 [] Q := by
  refine Zm.l (fun _ _ k_ => z_iload_n dX8_joinsTexts_0 rfl rfl k_) ?_
  refine Zm.brn (fun _ _ k1_ k2_ => z_if_ne (tgt := 20) dX8_joinsTexts_1 rfl k1_ k2_) (fun h_ => ?_) (fun h_ => ?_)
  · have k := zif h_ k
    refine Zm.l (fun _ _ k_ => z_iconst (v := 0) dX8_joinsTexts_20 rfl k_) ?_
    exact zm_iret dX8_joinsTexts_21 rfl (by decide) k
  · have k := zit h_ k
    refine Zm.l (fun _ _ k_ => z_iload_n dX8_joinsTexts_4 rfl rfl k_) ?_
    refine Zm.l (fun _ _ k_ => z_bipush (v := 6) dX8_joinsTexts_5 rfl k_) ?_
    refine Zm.br (fun _ _ k1_ k2_ => z_icmp_ge (tgt := 16) dX8_joinsTexts_7 rfl k1_ k2_) (fun h_ => ?_) (fun h_ => ?_)
    · have k := zit h_ k
      refine Zm.l (fun _ _ k_ => z_iconst (v := 1) dX8_joinsTexts_16 rfl k_) ?_
      refine Zm.l (fun _ _ k_ => z_goto (tgt := 21) dX8_joinsTexts_17 rfl k_) ?_
      exact zm_iret dX8_joinsTexts_21 rfl (by decide) k
    · have k := zif h_ k
      refine Zm.l (fun _ _ k_ => z_iload_n dX8_joinsTexts_10 rfl rfl k_) ?_
      refine Zm.l (fun _ _ k_ => z_bipush (v := 6) dX8_joinsTexts_11 rfl k_) ?_
      refine Zm.br (fun _ _ k1_ k2_ => z_icmp_lt (tgt := 20) dX8_joinsTexts_13 rfl k1_ k2_) (fun h_ => ?_) (fun h_ => ?_)
      · have k := zit h_ k
        refine Zm.l (fun _ _ k_ => z_iconst (v := 0) dX8_joinsTexts_20 rfl k_) ?_
        exact zm_iret dX8_joinsTexts_21 rfl (by decide) k
      · have k := zif h_ k
        refine Zm.l (fun _ _ k_ => z_iconst (v := 1) dX8_joinsTexts_16 rfl k_) ?_
        refine Zm.l (fun _ _ k_ => z_goto (tgt := 21) dX8_joinsTexts_17 rfl k_) ?_
        exact zm_iret dX8_joinsTexts_21 rfl (by decide) k
/-! ScriptTypesModel.isEqual(IIII)Z -/
theorem bX8_isEqual_0 : zdec cX8_isEqual 0 [(0, .iload_n 1, 1), (1, .iconst 1, 1), (2, .if_icmp .le 8, 3), (5, .iload_n 3, 1), (6, .iconst 1, 1), (7, .if_icmp .gt 19, 3), (10, .iload_n 1, 1), (11, .iconst 1, 1), (12, .if_icmp .gt 12, 3), (15, .iload_n 3, 1), (16, .iconst 1, 1), (17, .if_icmp .gt 7, 3), (20, .iconst 1, 1), (21, .goto 4, 3), (24, .iconst 0, 1), (25, .ireturn, 1)] = true := by decide +kernel
theorem dX8_isEqual_0 : decode cX8_isEqual 0 = .ok (.iload_n 1, 1) := zdec_at bX8_isEqual_0 0 rfl
theorem dX8_isEqual_1 : decode cX8_isEqual 1 = .ok (.iconst 1, 1) := zdec_at bX8_isEqual_0 1 rfl
theorem dX8_isEqual_2 : decode cX8_isEqual 2 = .ok (.if_icmp .le 8, 3) := zdec_at bX8_isEqual_0 2 rfl
theorem dX8_isEqual_5 : decode cX8_isEqual 5 = .ok (.iload_n 3, 1) := zdec_at bX8_isEqual_0 3 rfl
theorem dX8_isEqual_6 : decode cX8_isEqual 6 = .ok (.iconst 1, 1) := zdec_at bX8_isEqual_0 4 rfl
theorem dX8_isEqual_7 : decode cX8_isEqual 7 = .ok (.if_icmp .gt 19, 3) := zdec_at bX8_isEqual_0 5 rfl
theorem dX8_isEqual_10 : decode cX8_isEqual 10 = .ok (.iload_n 1, 1) := zdec_at bX8_isEqual_0 6 rfl
theorem dX8_isEqual_11 : decode cX8_isEqual 11 = .ok (.iconst 1, 1) := zdec_at bX8_isEqual_0 7 rfl
theorem dX8_isEqual_12 : decode cX8_isEqual 12 = .ok (.if_icmp .gt 12, 3) := zdec_at bX8_isEqual_0 8 rfl
theorem dX8_isEqual_15 : decode cX8_isEqual 15 = .ok (.iload_n 3, 1) := zdec_at bX8_isEqual_0 9 rfl
theorem dX8_isEqual_16 : decode cX8_isEqual 16 = .ok (.iconst 1, 1) := zdec_at bX8_isEqual_0 10 rfl
theorem dX8_isEqual_17 : decode cX8_isEqual 17 = .ok (.if_icmp .gt 7, 3) := zdec_at bX8_isEqual_0 11 rfl
theorem dX8_isEqual_20 : decode cX8_isEqual 20 = .ok (.iconst 1, 1) := zdec_at bX8_isEqual_0 12 rfl
theorem dX8_isEqual_21 : decode cX8_isEqual 21 = .ok (.goto 4, 3) := zdec_at bX8_isEqual_0 13 rfl
theorem dX8_isEqual_24 : decode cX8_isEqual 24 = .ok (.iconst 0, 1) := zdec_at bX8_isEqual_0 14 rfl
theorem dX8_isEqual_25 : decode cX8_isEqual 25 = .ok (.ireturn, 1) := zdec_at bX8_isEqual_0 15 rfl
theorem bX8_isEqual_26 : zdec cX8_isEqual 26 [(26, .iload_n 1, 1), (27, .bipush 7, 2), (29, .if_icmp .eq 21, 3), (32, .iload_n 3, 1), (33, .bipush 7, 2), (35, .if_icmp .eq 15, 3), (38, .iload_n 1, 1), (39, .bipush 6, 2), (41, .if_icmp .ne 18, 3), (44, .iload_n 3, 1), (45, .bipush 6, 2), (47, .if_icmp .ne 12, 3), (50, .iload_n 1, 1), (51, .iload_n 2, 1), (52, .iload_n 3, 1), (53, .iload 4, 2)] = true := by decide +kernel
theorem dX8_isEqual_26 : decode cX8_isEqual 26 = .ok (.iload_n 1, 1) := zdec_at bX8_isEqual_26 0 rfl
theorem dX8_isEqual_27 : decode cX8_isEqual 27 = .ok (.bipush 7, 2) := zdec_at bX8_isEqual_26 1 rfl
theorem dX8_isEqual_29 : decode cX8_isEqual 29 = .ok (.if_icmp .eq 21, 3) := zdec_at bX8_isEqual_26 2 rfl
theorem dX8_isEqual_32 : decode cX8_isEqual 32 = .ok (.iload_n 3, 1) := zdec_at bX8_isEqual_26 3 rfl
theorem dX8_isEqual_33 : decode cX8_isEqual 33 = .ok (.bipush 7, 2) := zdec_at bX8_isEqual_26 4 rfl
theorem dX8_isEqual_35 : decode cX8_isEqual 35 = .ok (.if_icmp .eq 15, 3) := zdec_at bX8_isEqual_26 5 rfl
theorem dX8_isEqual_38 : decode cX8_isEqual 38 = .ok (.iload_n 1, 1) := zdec_at bX8_isEqual_26 6 rfl
theorem dX8_isEqual_39 : decode cX8_isEqual 39 = .ok (.bipush 6, 2) := zdec_at bX8_isEqual_26 7 rfl
theorem dX8_isEqual_41 : decode cX8_isEqual 41 = .ok (.if_icmp .ne 18, 3) := zdec_at bX8_isEqual_26 8 rfl
theorem dX8_isEqual_44 : decode cX8_isEqual 44 = .ok (.iload_n 3, 1) := zdec_at bX8_isEqual_26 9 rfl
theorem dX8_isEqual_45 : decode cX8_isEqual 45 = .ok (.bipush 6, 2) := zdec_at bX8_isEqual_26 10 rfl
theorem dX8_isEqual_47 : decode cX8_isEqual 47 = .ok (.if_icmp .ne 12, 3) := zdec_at bX8_isEqual_26 11 rfl
theorem dX8_isEqual_50 : decode cX8_isEqual 50 = .ok (.iload_n 1, 1) := zdec_at bX8_isEqual_26 12 rfl
theorem dX8_isEqual_51 : decode cX8_isEqual 51 = .ok (.iload_n 2, 1) := zdec_at bX8_isEqual_26 13 rfl
theorem dX8_isEqual_52 : decode cX8_isEqual 52 = .ok (.iload_n 3, 1) := zdec_at bX8_isEqual_26 14 rfl
theorem dX8_isEqual_53 : decode cX8_isEqual 53 = .ok (.iload 4, 2) := zdec_at bX8_isEqual_26 15 rfl
theorem bX8_isEqual_55 : zdec cX8_isEqual 55 [(55, .invokestatic 812, 3), (58, .ireturn, 1), (59, .aload_n 0, 1), (60, .iload_n 1, 1), (61, .iload_n 2, 1), (62, .invokevirtual 816, 3), (65, .istore 5, 2), (67, .aload_n 0, 1), (68, .getfield 806, 3), (71, .istore 6, 2), (73, .aload_n 0, 1), (74, .iload_n 3, 1), (75, .iload 4, 2), (77, .invokevirtual 816, 3), (80, .istore 7, 2), (82, .iload 6, 2)] = true := by decide +kernel
theorem dX8_isEqual_55 : decode cX8_isEqual 55 = .ok (.invokestatic 812, 3) := zdec_at bX8_isEqual_55 0 rfl
theorem dX8_isEqual_58 : decode cX8_isEqual 58 = .ok (.ireturn, 1) := zdec_at bX8_isEqual_55 1 rfl
theorem dX8_isEqual_59 : decode cX8_isEqual 59 = .ok (.aload_n 0, 1) := zdec_at bX8_isEqual_55 2 rfl
theorem dX8_isEqual_60 : decode cX8_isEqual 60 = .ok (.iload_n 1, 1) := zdec_at bX8_isEqual_55 3 rfl
theorem dX8_isEqual_61 : decode cX8_isEqual 61 = .ok (.iload_n 2, 1) := zdec_at bX8_isEqual_55 4 rfl
theorem dX8_isEqual_62 : decode cX8_isEqual 62 = .ok (.invokevirtual 816, 3) := zdec_at bX8_isEqual_55 5 rfl
theorem dX8_isEqual_65 : decode cX8_isEqual 65 = .ok (.istore 5, 2) := zdec_at bX8_isEqual_55 6 rfl
theorem dX8_isEqual_67 : decode cX8_isEqual 67 = .ok (.aload_n 0, 1) := zdec_at bX8_isEqual_55 7 rfl
theorem dX8_isEqual_68 : decode cX8_isEqual 68 = .ok (.getfield 806, 3) := zdec_at bX8_isEqual_55 8 rfl
theorem dX8_isEqual_71 : decode cX8_isEqual 71 = .ok (.istore 6, 2) := zdec_at bX8_isEqual_55 9 rfl
theorem dX8_isEqual_73 : decode cX8_isEqual 73 = .ok (.aload_n 0, 1) := zdec_at bX8_isEqual_55 10 rfl
theorem dX8_isEqual_74 : decode cX8_isEqual 74 = .ok (.iload_n 3, 1) := zdec_at bX8_isEqual_55 11 rfl
theorem dX8_isEqual_75 : decode cX8_isEqual 75 = .ok (.iload 4, 2) := zdec_at bX8_isEqual_55 12 rfl
theorem dX8_isEqual_77 : decode cX8_isEqual 77 = .ok (.invokevirtual 816, 3) := zdec_at bX8_isEqual_55 13 rfl
theorem dX8_isEqual_80 : decode cX8_isEqual 80 = .ok (.istore 7, 2) := zdec_at bX8_isEqual_55 14 rfl
theorem dX8_isEqual_82 : decode cX8_isEqual 82 = .ok (.iload 6, 2) := zdec_at bX8_isEqual_55 15 rfl
theorem bX8_isEqual_84 : zdec cX8_isEqual 84 [(84, .ifCond .eq 21, 3), (87, .aload_n 0, 1), (88, .getfield 806, 3), (91, .ifCond .eq 14, 3), (94, .iload 5, 2), (96, .iload 7, 2), (98, .if_icmp .ne 7, 3), (101, .iconst 1, 1), (102, .goto 4, 3), (105, .iconst 0, 1), (106, .ireturn, 1)] = true := by decide +kernel
theorem dX8_isEqual_84 : decode cX8_isEqual 84 = .ok (.ifCond .eq 21, 3) := zdec_at bX8_isEqual_84 0 rfl
theorem dX8_isEqual_87 : decode cX8_isEqual 87 = .ok (.aload_n 0, 1) := zdec_at bX8_isEqual_84 1 rfl
theorem dX8_isEqual_88 : decode cX8_isEqual 88 = .ok (.getfield 806, 3) := zdec_at bX8_isEqual_84 2 rfl
theorem dX8_isEqual_91 : decode cX8_isEqual 91 = .ok (.ifCond .eq 14, 3) := zdec_at bX8_isEqual_84 3 rfl
theorem dX8_isEqual_94 : decode cX8_isEqual 94 = .ok (.iload 5, 2) := zdec_at bX8_isEqual_84 4 rfl
theorem dX8_isEqual_96 : decode cX8_isEqual 96 = .ok (.iload 7, 2) := zdec_at bX8_isEqual_84 5 rfl
theorem dX8_isEqual_98 : decode cX8_isEqual 98 = .ok (.if_icmp .ne 7, 3) := zdec_at bX8_isEqual_84 6 rfl
theorem dX8_isEqual_101 : decode cX8_isEqual 101 = .ok (.iconst 1, 1) := zdec_at bX8_isEqual_84 7 rfl
theorem dX8_isEqual_102 : decode cX8_isEqual 102 = .ok (.goto 4, 3) := zdec_at bX8_isEqual_84 8 rfl
theorem dX8_isEqual_105 : decode cX8_isEqual 105 = .ok (.iconst 0, 1) := zdec_at bX8_isEqual_84 9 rfl
theorem dX8_isEqual_106 : decode cX8_isEqual 106 = .ok (.ireturn, 1) := zdec_at bX8_isEqual_84 10 rfl
theorem sX8_isEqual_0 {E : zE} {d : Nat} {Q : zO → zM → Prop} (M : zM) (l1 : Int32) (l2 : Int32) (l3 : Int32) (l4 : Int32) (k : if l1 ≤ (1 : Int32) then (Zm E YX8_isEqual (d + 1) M [(1, vi l1), (3, vi l3)] 10 [] Q) else (if (1 : Int32) < l3 then (if l1 = (7 : Int32) then (Zm E YX8_isSame d M (zargs 0 [vi l1, vi l2, vi l3, vi l4]) 0 [] (zma E YX8_isEqual (d + 1) [] 55 3 [] Q)) else (if l3 = (7 : Int32) then (Zm E YX8_isSame d M (zargs 0 [vi l1, vi l2, vi l3, vi l4]) 0 [] (zma E YX8_isEqual (d + 1) [] 55 3 [] Q)) else (if l1 = (6 : Int32) then (if l3 = (6 : Int32) then (Zm E YX8_isSame d M (zargs 0 [vi l1, vi l2, vi l3, vi l4]) 0 [] (zma E YX8_isEqual (d + 1) [] 55 3 [] Q)) else (Zm E YX8_numberOf d M (zargs 0 [vr (some (97, 1, 0)), vi l1, vi l2]) 0 [] (zma E YX8_isEqual (d + 1) [(0, vr (some (97, 1, 0))), (3, vi l3), (4, vi l4)] 62 3 [] Q))) else (Zm E YX8_numberOf d M (zargs 0 [vr (some (97, 1, 0)), vi l1, vi l2]) 0 [] (zma E YX8_isEqual (d + 1) [(0, vr (some (97, 1, 0))), (3, vi l3), (4, vi l4)] 62 3 [] Q))))) else (Zm E YX8_isEqual (d + 1) M [(1, vi l1), (3, vi l3)] 10 [] Q))) : Zm E YX8_isEqual (d + 1) M [(0, vr (some (97, 1, 0))), (1, vi l1), (2, vi l2), (3, vi l3), (4, vi l4)] 0 [] Q := by
  refine Zm.l (fun _ _ k_ => z_iload_n dX8_isEqual_0 rfl rfl k_) ?_
  refine Zm.l (fun _ _ k_ => z_iconst (v := 1) dX8_isEqual_1 rfl k_) ?_
  refine Zm.br (fun _ _ k1_ k2_ => z_icmp_le (tgt := 10) dX8_isEqual_2 rfl k1_ k2_) (fun h_ => ?_) (fun h_ => ?_)
  · have k := zit h_ k
    refine Zm.pick [1, 3] rfl ?_
    exact k
  · have k := zif h_ k
    refine Zm.l (fun _ _ k_ => z_iload_n dX8_isEqual_5 rfl rfl k_) ?_
    refine Zm.l (fun _ _ k_ => z_iconst (v := 1) dX8_isEqual_6 rfl k_) ?_
    refine Zm.br (fun _ _ k1_ k2_ => z_icmp_gt (tgt := 26) dX8_isEqual_7 rfl k1_ k2_) (fun h_ => ?_) (fun h_ => ?_)
    · have k := zit h_ k
      refine Zm.l (fun _ _ k_ => z_iload_n dX8_isEqual_26 rfl rfl k_) ?_
      refine Zm.l (fun _ _ k_ => z_bipush (v := 7) dX8_isEqual_27 rfl k_) ?_
      refine Zm.br (fun _ _ k1_ k2_ => z_icmp_eq (tgt := 50) dX8_isEqual_29 rfl k1_ k2_) (fun h_ => ?_) (fun h_ => ?_)
      · have k := zit h_ k
        refine Zm.l (fun _ _ k_ => z_iload_n dX8_isEqual_50 rfl rfl k_) ?_
        refine Zm.l (fun _ _ k_ => z_iload_n dX8_isEqual_51 rfl rfl k_) ?_
        refine Zm.l (fun _ _ k_ => z_iload_n dX8_isEqual_52 rfl rfl k_) ?_
        refine Zm.l (fun _ _ k_ => z_iload dX8_isEqual_53 rfl k_) ?_
        refine Zm.pick [] rfl ?_
        exact zm_callS (as := [vi l1, vi l2, vi l3, vi l4]) (st := []) dX8_isEqual_55 ssX8_812 (Nat.le_refl _) (Nat.le_of_ble_eq_true rfl) (Nat.le_of_ble_eq_true rfl) rfl k
      · have k := zif h_ k
        refine Zm.l (fun _ _ k_ => z_iload_n dX8_isEqual_32 rfl rfl k_) ?_
        refine Zm.l (fun _ _ k_ => z_bipush (v := 7) dX8_isEqual_33 rfl k_) ?_
        refine Zm.br (fun _ _ k1_ k2_ => z_icmp_eq (tgt := 50) dX8_isEqual_35 rfl k1_ k2_) (fun h_ => ?_) (fun h_ => ?_)
        · have k := zit h_ k
          refine Zm.l (fun _ _ k_ => z_iload_n dX8_isEqual_50 rfl rfl k_) ?_
          refine Zm.l (fun _ _ k_ => z_iload_n dX8_isEqual_51 rfl rfl k_) ?_
          refine Zm.l (fun _ _ k_ => z_iload_n dX8_isEqual_52 rfl rfl k_) ?_
          refine Zm.l (fun _ _ k_ => z_iload dX8_isEqual_53 rfl k_) ?_
          refine Zm.pick [] rfl ?_
          exact zm_callS (as := [vi l1, vi l2, vi l3, vi l4]) (st := []) dX8_isEqual_55 ssX8_812 (Nat.le_refl _) (Nat.le_of_ble_eq_true rfl) (Nat.le_of_ble_eq_true rfl) rfl k
        · have k := zif h_ k
          refine Zm.l (fun _ _ k_ => z_iload_n dX8_isEqual_38 rfl rfl k_) ?_
          refine Zm.l (fun _ _ k_ => z_bipush (v := 6) dX8_isEqual_39 rfl k_) ?_
          refine Zm.brn (fun _ _ k1_ k2_ => z_icmp_ne (tgt := 59) dX8_isEqual_41 rfl k1_ k2_) (fun h_ => ?_) (fun h_ => ?_)
          · have k := zif h_ k
            refine Zm.l (fun _ _ k_ => z_aload_n dX8_isEqual_59 rfl rfl k_) ?_
            refine Zm.l (fun _ _ k_ => z_iload_n dX8_isEqual_60 rfl rfl k_) ?_
            refine Zm.l (fun _ _ k_ => z_iload_n dX8_isEqual_61 rfl rfl k_) ?_
            refine Zm.pick [0, 3, 4] rfl ?_
            exact zm_callV (as := [vi l1, vi l2]) (st := []) dX8_isEqual_62 vsX8_816_1 (Nat.le_refl _) (Nat.le_of_ble_eq_true rfl) (Nat.le_of_ble_eq_true rfl) rfl k
          · have k := zit h_ k
            refine Zm.l (fun _ _ k_ => z_iload_n dX8_isEqual_44 rfl rfl k_) ?_
            refine Zm.l (fun _ _ k_ => z_bipush (v := 6) dX8_isEqual_45 rfl k_) ?_
            refine Zm.brn (fun _ _ k1_ k2_ => z_icmp_ne (tgt := 59) dX8_isEqual_47 rfl k1_ k2_) (fun h_ => ?_) (fun h_ => ?_)
            · have k := zif h_ k
              refine Zm.l (fun _ _ k_ => z_aload_n dX8_isEqual_59 rfl rfl k_) ?_
              refine Zm.l (fun _ _ k_ => z_iload_n dX8_isEqual_60 rfl rfl k_) ?_
              refine Zm.l (fun _ _ k_ => z_iload_n dX8_isEqual_61 rfl rfl k_) ?_
              refine Zm.pick [0, 3, 4] rfl ?_
              exact zm_callV (as := [vi l1, vi l2]) (st := []) dX8_isEqual_62 vsX8_816_1 (Nat.le_refl _) (Nat.le_of_ble_eq_true rfl) (Nat.le_of_ble_eq_true rfl) rfl k
            · have k := zit h_ k
              refine Zm.l (fun _ _ k_ => z_iload_n dX8_isEqual_50 rfl rfl k_) ?_
              refine Zm.l (fun _ _ k_ => z_iload_n dX8_isEqual_51 rfl rfl k_) ?_
              refine Zm.l (fun _ _ k_ => z_iload_n dX8_isEqual_52 rfl rfl k_) ?_
              refine Zm.l (fun _ _ k_ => z_iload dX8_isEqual_53 rfl k_) ?_
              refine Zm.pick [] rfl ?_
              exact zm_callS (as := [vi l1, vi l2, vi l3, vi l4]) (st := []) dX8_isEqual_55 ssX8_812 (Nat.le_refl _) (Nat.le_of_ble_eq_true rfl) (Nat.le_of_ble_eq_true rfl) rfl k
    · have k := zif h_ k
      refine Zm.pick [1, 3] rfl ?_
      exact k
theorem sX8_isEqual_10 {E : zE} {d : Nat} {Q : zO → zM → Prop} (M : zM) (l1 : Int32) (l3 : Int32) (k : if (1 : Int32) < l1 then (Q (.inl (some (vi (0 : Int32)))) M) else (if (1 : Int32) < l3 then (Q (.inl (some (vi (0 : Int32)))) M) else (Q (.inl (some (vi (1 : Int32)))) M))) : Zm E YX8_isEqual (d + 1) M [(1, vi l1), (3, vi l3)] 10 [] Q := by
  refine Zm.l (fun _ _ k_ => z_iload_n dX8_isEqual_10 rfl rfl k_) ?_
  refine Zm.l (fun _ _ k_ => z_iconst (v := 1) dX8_isEqual_11 rfl k_) ?_
  refine Zm.br (fun _ _ k1_ k2_ => z_icmp_gt (tgt := 24) dX8_isEqual_12 rfl k1_ k2_) (fun h_ => ?_) (fun h_ => ?_)
  · have k := zit h_ k
    refine Zm.l (fun _ _ k_ => z_iconst (v := 0) dX8_isEqual_24 rfl k_) ?_
    exact zm_iret dX8_isEqual_25 rfl (by decide) k
  · have k := zif h_ k
    refine Zm.l (fun _ _ k_ => z_iload_n dX8_isEqual_15 rfl rfl k_) ?_
    refine Zm.l (fun _ _ k_ => z_iconst (v := 1) dX8_isEqual_16 rfl k_) ?_
    refine Zm.br (fun _ _ k1_ k2_ => z_icmp_gt (tgt := 24) dX8_isEqual_17 rfl k1_ k2_) (fun h_ => ?_) (fun h_ => ?_)
    · have k := zit h_ k
      refine Zm.l (fun _ _ k_ => z_iconst (v := 0) dX8_isEqual_24 rfl k_) ?_
      exact zm_iret dX8_isEqual_25 rfl (by decide) k
    · have k := zif h_ k
      refine Zm.l (fun _ _ k_ => z_iconst (v := 1) dX8_isEqual_20 rfl k_) ?_
      refine Zm.l (fun _ _ k_ => z_goto (tgt := 25) dX8_isEqual_21 rfl k_) ?_
      exact zm_iret dX8_isEqual_25 rfl (by decide) k
theorem sX8_isEqual_58 {E : zE} {d : Nat} {Q : zO → zM → Prop} (M : zM) (s0 : Int32) (k : (narrow .boolean (.int s0) = .int s0) ∧ Q (.inl (some (vi s0))) M) : Zm E YX8_isEqual (d + 1) M [] 58 [vi s0] Q := by
  exact zm_iret dX8_isEqual_58 rfl k.1 k.2
theorem sX8_isEqual_65 {E : zE} {d : Nat} {Q : zO → zM → Prop} (M : zM) (l3 : Int32) (l4 : Int32) (s0 : Int32) (k : Zm E YX8_numberOf d M (zargs 0 [vr (some (97, 1, 0)), vi l3, vi l4]) 0 [] (zma E YX8_isEqual (d + 1) [(0, vr (some (97, 1, 0))), (5, vi s0), (6, vi (gi M 97 113))] 77 3 [] Q)) : Zm E YX8_isEqual (d + 1) M [(0, vr (some (97, 1, 0))), (3, vi l3), (4, vi l4)] 65 [vi s0] Q := by
  refine Zm.l (fun _ _ k_ => z_ist dX8_isEqual_65 (by decide) (lv' := [(0, vr (some (97, 1, 0))), (3, vi l3), (4, vi l4), (5, vi s0)]) rfl k_) ?_
  refine Zm.l (fun _ _ k_ => z_aload_n dX8_isEqual_67 rfl rfl k_) ?_
  refine zm_geti dX8_isEqual_68 fsX8_806_1 (by decide) (by decide) ?_
  refine Zm.l (fun _ _ k_ => z_ist dX8_isEqual_71 (by decide) (lv' := [(0, vr (some (97, 1, 0))), (3, vi l3), (4, vi l4), (5, vi s0), (6, vi (gi M 97 113))]) rfl k_) ?_
  refine Zm.l (fun _ _ k_ => z_aload_n dX8_isEqual_73 rfl rfl k_) ?_
  refine Zm.l (fun _ _ k_ => z_iload_n dX8_isEqual_74 rfl rfl k_) ?_
  refine Zm.l (fun _ _ k_ => z_iload dX8_isEqual_75 rfl k_) ?_
  refine Zm.pick [0, 3, 4] rfl ?_
  exact zm_callV (as := [vi l3, vi l4]) (st := []) dX8_isEqual_77 vsX8_816_1 (Nat.le_refl _) (Nat.le_of_ble_eq_true rfl) (Nat.le_of_ble_eq_true rfl) rfl k
theorem sX8_isEqual_80 {E : zE} {d : Nat} {Q : zO → zM → Prop} (M : zM) (l5 : Int32) (l6 : Int32) (s0 : Int32) (k : if l6 = 0 then (Q (.inl (some (vi (0 : Int32)))) M) else (if (gi M 97 113) = 0 then (Q (.inl (some (vi (0 : Int32)))) M) else (if l5 = s0 then (Q (.inl (some (vi (1 : Int32)))) M) else (Q (.inl (some (vi (0 : Int32)))) M)))) : Zm E YX8_isEqual (d + 1) M [(0, vr (some (97, 1, 0))), (5, vi l5), (6, vi l6)] 80 [vi s0] Q := by
  refine Zm.l (fun _ _ k_ => z_ist dX8_isEqual_80 (by decide) (lv' := [(0, vr (some (97, 1, 0))), (5, vi l5), (6, vi l6), (7, vi s0)]) rfl k_) ?_
  refine Zm.l (fun _ _ k_ => z_iload dX8_isEqual_82 rfl k_) ?_
  refine Zm.br (fun _ _ k1_ k2_ => z_if_eq (tgt := 105) dX8_isEqual_84 rfl k1_ k2_) (fun h_ => ?_) (fun h_ => ?_)
  · have k := zit h_ k
    refine Zm.l (fun _ _ k_ => z_iconst (v := 0) dX8_isEqual_105 rfl k_) ?_
    exact zm_iret dX8_isEqual_106 rfl (by decide) k
  · have k := zif h_ k
    refine Zm.l (fun _ _ k_ => z_aload_n dX8_isEqual_87 rfl rfl k_) ?_
    refine zm_geti dX8_isEqual_88 fsX8_806_1 (by decide) (by decide) ?_
    refine Zm.br (fun _ _ k1_ k2_ => z_if_eq (tgt := 105) dX8_isEqual_91 rfl k1_ k2_) (fun h_ => ?_) (fun h_ => ?_)
    · have k := zit h_ k
      refine Zm.l (fun _ _ k_ => z_iconst (v := 0) dX8_isEqual_105 rfl k_) ?_
      exact zm_iret dX8_isEqual_106 rfl (by decide) k
    · have k := zif h_ k
      refine Zm.l (fun _ _ k_ => z_iload dX8_isEqual_94 rfl k_) ?_
      refine Zm.l (fun _ _ k_ => z_iload dX8_isEqual_96 rfl k_) ?_
      refine Zm.brn (fun _ _ k1_ k2_ => z_icmp_ne (tgt := 105) dX8_isEqual_98 rfl k1_ k2_) (fun h_ => ?_) (fun h_ => ?_)
      · have k := zif h_ k
        refine Zm.l (fun _ _ k_ => z_iconst (v := 0) dX8_isEqual_105 rfl k_) ?_
        exact zm_iret dX8_isEqual_106 rfl (by decide) k
      · have k := zit h_ k
        refine Zm.l (fun _ _ k_ => z_iconst (v := 1) dX8_isEqual_101 rfl k_) ?_
        refine Zm.l (fun _ _ k_ => z_goto (tgt := 106) dX8_isEqual_102 rfl k_) ?_
        exact zm_iret dX8_isEqual_106 rfl (by decide) k
/-! ScriptTypesModel.isSame(IIII)Z -/
theorem bX8_isSame_0 : zdec cX8_isSame 0 [(0, .iload_n 0, 1), (1, .iload_n 2, 1), (2, .if_icmp .ne 22, 3), (5, .iload_n 0, 1), (6, .iconst 4, 1), (7, .if_icmp .eq 17, 3), (10, .iload_n 0, 1), (11, .iconst 5, 1), (12, .if_icmp .lt 8, 3), (15, .iload_n 1, 1), (16, .iload_n 3, 1), (17, .if_icmp .ne 7, 3), (20, .iconst 1, 1), (21, .goto 4, 3), (24, .iconst 0, 1), (25, .ireturn, 1)] = true := by decide +kernel
theorem dX8_isSame_0 : decode cX8_isSame 0 = .ok (.iload_n 0, 1) := zdec_at bX8_isSame_0 0 rfl
theorem dX8_isSame_1 : decode cX8_isSame 1 = .ok (.iload_n 2, 1) := zdec_at bX8_isSame_0 1 rfl
theorem dX8_isSame_2 : decode cX8_isSame 2 = .ok (.if_icmp .ne 22, 3) := zdec_at bX8_isSame_0 2 rfl
theorem dX8_isSame_5 : decode cX8_isSame 5 = .ok (.iload_n 0, 1) := zdec_at bX8_isSame_0 3 rfl
theorem dX8_isSame_6 : decode cX8_isSame 6 = .ok (.iconst 4, 1) := zdec_at bX8_isSame_0 4 rfl
theorem dX8_isSame_7 : decode cX8_isSame 7 = .ok (.if_icmp .eq 17, 3) := zdec_at bX8_isSame_0 5 rfl
theorem dX8_isSame_10 : decode cX8_isSame 10 = .ok (.iload_n 0, 1) := zdec_at bX8_isSame_0 6 rfl
theorem dX8_isSame_11 : decode cX8_isSame 11 = .ok (.iconst 5, 1) := zdec_at bX8_isSame_0 7 rfl
theorem dX8_isSame_12 : decode cX8_isSame 12 = .ok (.if_icmp .lt 8, 3) := zdec_at bX8_isSame_0 8 rfl
theorem dX8_isSame_15 : decode cX8_isSame 15 = .ok (.iload_n 1, 1) := zdec_at bX8_isSame_0 9 rfl
theorem dX8_isSame_16 : decode cX8_isSame 16 = .ok (.iload_n 3, 1) := zdec_at bX8_isSame_0 10 rfl
theorem dX8_isSame_17 : decode cX8_isSame 17 = .ok (.if_icmp .ne 7, 3) := zdec_at bX8_isSame_0 11 rfl
theorem dX8_isSame_20 : decode cX8_isSame 20 = .ok (.iconst 1, 1) := zdec_at bX8_isSame_0 12 rfl
theorem dX8_isSame_21 : decode cX8_isSame 21 = .ok (.goto 4, 3) := zdec_at bX8_isSame_0 13 rfl
theorem dX8_isSame_24 : decode cX8_isSame 24 = .ok (.iconst 0, 1) := zdec_at bX8_isSame_0 14 rfl
theorem dX8_isSame_25 : decode cX8_isSame 25 = .ok (.ireturn, 1) := zdec_at bX8_isSame_0 15 rfl
theorem sX8_isSame_0 {E : zE} {d : Nat} {Q : zO → zM → Prop} (M : zM) (l0 : Int32) (l1 : Int32) (l2 : Int32) (l3 : Int32) (k : if l0 = l2 then (if l0 = (4 : Int32) then (Q (.inl (some (vi (0 : Int32)))) M) else (if l0 < (5 : Int32) then (Q (.inl (some (vi (1 : Int32)))) M) else (if l1 = l3 then (Q (.inl (some (vi (1 : Int32)))) M) else (Q (.inl (some (vi (0 : Int32)))) M)))) else (Q (.inl (some (vi (0 : Int32)))) M)) : Zm E YX8_isSame d M [(0, vi l0), (1, vi l1), (2, vi l2), (3, vi l3)] 0 [] Q := by
  refine Zm.l (fun _ _ k_ => z_iload_n dX8_isSame_0 rfl rfl k_) ?_
  refine Zm.l (fun _ _ k_ => z_iload_n dX8_isSame_1 rfl rfl k_) ?_
  refine Zm.brn (fun _ _ k1_ k2_ => z_icmp_ne (tgt := 24) dX8_isSame_2 rfl k1_ k2_) (fun h_ => ?_) (fun h_ => ?_)
  · have k := zif h_ k
    refine Zm.l (fun _ _ k_ => z_iconst (v := 0) dX8_isSame_24 rfl k_) ?_
    exact zm_iret dX8_isSame_25 rfl (by decide) k
  · have k := zit h_ k
    refine Zm.l (fun _ _ k_ => z_iload_n dX8_isSame_5 rfl rfl k_) ?_
    refine Zm.l (fun _ _ k_ => z_iconst (v := 4) dX8_isSame_6 rfl k_) ?_
    refine Zm.br (fun _ _ k1_ k2_ => z_icmp_eq (tgt := 24) dX8_isSame_7 rfl k1_ k2_) (fun h_ => ?_) (fun h_ => ?_)
    · have k := zit h_ k
      refine Zm.l (fun _ _ k_ => z_iconst (v := 0) dX8_isSame_24 rfl k_) ?_
      exact zm_iret dX8_isSame_25 rfl (by decide) k
    · have k := zif h_ k
      refine Zm.l (fun _ _ k_ => z_iload_n dX8_isSame_10 rfl rfl k_) ?_
      refine Zm.l (fun _ _ k_ => z_iconst (v := 5) dX8_isSame_11 rfl k_) ?_
      refine Zm.br (fun _ _ k1_ k2_ => z_icmp_lt (tgt := 20) dX8_isSame_12 rfl k1_ k2_) (fun h_ => ?_) (fun h_ => ?_)
      · have k := zit h_ k
        refine Zm.l (fun _ _ k_ => z_iconst (v := 1) dX8_isSame_20 rfl k_) ?_
        refine Zm.l (fun _ _ k_ => z_goto (tgt := 25) dX8_isSame_21 rfl k_) ?_
        exact zm_iret dX8_isSame_25 rfl (by decide) k
      · have k := zif h_ k
        refine Zm.l (fun _ _ k_ => z_iload_n dX8_isSame_15 rfl rfl k_) ?_
        refine Zm.l (fun _ _ k_ => z_iload_n dX8_isSame_16 rfl rfl k_) ?_
        refine Zm.brn (fun _ _ k1_ k2_ => z_icmp_ne (tgt := 24) dX8_isSame_17 rfl k1_ k2_) (fun h_ => ?_) (fun h_ => ?_)
        · have k := zif h_ k
          refine Zm.l (fun _ _ k_ => z_iconst (v := 0) dX8_isSame_24 rfl k_) ?_
          exact zm_iret dX8_isSame_25 rfl (by decide) k
        · have k := zit h_ k
          refine Zm.l (fun _ _ k_ => z_iconst (v := 1) dX8_isSame_20 rfl k_) ?_
          refine Zm.l (fun _ _ k_ => z_goto (tgt := 25) dX8_isSame_21 rfl k_) ?_
          exact zm_iret dX8_isSame_25 rfl (by decide) k
/-! ScriptTypesModel.compares(IIIII)Z -/
theorem bX8_compares_0 : zdec cX8_compares 0 [(0, .lconst 0, 1), (1, .lstore 6, 2), (3, .iload_n 2, 1), (4, .bipush 6, 2), (6, .if_icmp .ne 23, 3), (9, .iload 4, 2), (11, .bipush 6, 2), (13, .if_icmp .ne 16, 3), (16, .aload_n 0, 1), (17, .iload_n 3, 1), (18, .iload 5, 2), (20, .invokevirtual 819, 3), (23, .i2l, 1), (24, .lstore 6, 2), (26, .goto 46, 3), (29, .aload_n 0, 1)] = true := by decide +kernel
theorem dX8_compares_0 : decode cX8_compares 0 = .ok (.lconst 0, 1) := zdec_at bX8_compares_0 0 rfl
theorem dX8_compares_1 : decode cX8_compares 1 = .ok (.lstore 6, 2) := zdec_at bX8_compares_0 1 rfl
theorem dX8_compares_3 : decode cX8_compares 3 = .ok (.iload_n 2, 1) := zdec_at bX8_compares_0 2 rfl
theorem dX8_compares_4 : decode cX8_compares 4 = .ok (.bipush 6, 2) := zdec_at bX8_compares_0 3 rfl
theorem dX8_compares_6 : decode cX8_compares 6 = .ok (.if_icmp .ne 23, 3) := zdec_at bX8_compares_0 4 rfl
theorem dX8_compares_9 : decode cX8_compares 9 = .ok (.iload 4, 2) := zdec_at bX8_compares_0 5 rfl
theorem dX8_compares_11 : decode cX8_compares 11 = .ok (.bipush 6, 2) := zdec_at bX8_compares_0 6 rfl
theorem dX8_compares_13 : decode cX8_compares 13 = .ok (.if_icmp .ne 16, 3) := zdec_at bX8_compares_0 7 rfl
theorem dX8_compares_16 : decode cX8_compares 16 = .ok (.aload_n 0, 1) := zdec_at bX8_compares_0 8 rfl
theorem dX8_compares_17 : decode cX8_compares 17 = .ok (.iload_n 3, 1) := zdec_at bX8_compares_0 9 rfl
theorem dX8_compares_18 : decode cX8_compares 18 = .ok (.iload 5, 2) := zdec_at bX8_compares_0 10 rfl
theorem dX8_compares_20 : decode cX8_compares 20 = .ok (.invokevirtual 819, 3) := zdec_at bX8_compares_0 11 rfl
theorem dX8_compares_23 : decode cX8_compares 23 = .ok (.i2l, 1) := zdec_at bX8_compares_0 12 rfl
theorem dX8_compares_24 : decode cX8_compares 24 = .ok (.lstore 6, 2) := zdec_at bX8_compares_0 13 rfl
theorem dX8_compares_26 : decode cX8_compares 26 = .ok (.goto 46, 3) := zdec_at bX8_compares_0 14 rfl
theorem dX8_compares_29 : decode cX8_compares 29 = .ok (.aload_n 0, 1) := zdec_at bX8_compares_0 15 rfl
theorem bX8_compares_30 : zdec cX8_compares 30 [(30, .iload_n 2, 1), (31, .iload_n 3, 1), (32, .invokevirtual 816, 3), (35, .i2l, 1), (36, .lstore 8, 2), (38, .aload_n 0, 1), (39, .getfield 806, 3), (42, .istore 10, 2), (44, .lload 8, 2), (46, .aload_n 0, 1), (47, .iload 4, 2), (49, .iload 5, 2), (51, .invokevirtual 816, 3), (54, .i2l, 1), (55, .lsub, 1), (56, .lstore 6, 2)] = true := by decide +kernel
theorem dX8_compares_30 : decode cX8_compares 30 = .ok (.iload_n 2, 1) := zdec_at bX8_compares_30 0 rfl
theorem dX8_compares_31 : decode cX8_compares 31 = .ok (.iload_n 3, 1) := zdec_at bX8_compares_30 1 rfl
theorem dX8_compares_32 : decode cX8_compares 32 = .ok (.invokevirtual 816, 3) := zdec_at bX8_compares_30 2 rfl
theorem dX8_compares_35 : decode cX8_compares 35 = .ok (.i2l, 1) := zdec_at bX8_compares_30 3 rfl
theorem dX8_compares_36 : decode cX8_compares 36 = .ok (.lstore 8, 2) := zdec_at bX8_compares_30 4 rfl
theorem dX8_compares_38 : decode cX8_compares 38 = .ok (.aload_n 0, 1) := zdec_at bX8_compares_30 5 rfl
theorem dX8_compares_39 : decode cX8_compares 39 = .ok (.getfield 806, 3) := zdec_at bX8_compares_30 6 rfl
theorem dX8_compares_42 : decode cX8_compares 42 = .ok (.istore 10, 2) := zdec_at bX8_compares_30 7 rfl
theorem dX8_compares_44 : decode cX8_compares 44 = .ok (.lload 8, 2) := zdec_at bX8_compares_30 8 rfl
theorem dX8_compares_46 : decode cX8_compares 46 = .ok (.aload_n 0, 1) := zdec_at bX8_compares_30 9 rfl
theorem dX8_compares_47 : decode cX8_compares 47 = .ok (.iload 4, 2) := zdec_at bX8_compares_30 10 rfl
theorem dX8_compares_49 : decode cX8_compares 49 = .ok (.iload 5, 2) := zdec_at bX8_compares_30 11 rfl
theorem dX8_compares_51 : decode cX8_compares 51 = .ok (.invokevirtual 816, 3) := zdec_at bX8_compares_30 12 rfl
theorem dX8_compares_54 : decode cX8_compares 54 = .ok (.i2l, 1) := zdec_at bX8_compares_30 13 rfl
theorem dX8_compares_55 : decode cX8_compares 55 = .ok (.lsub, 1) := zdec_at bX8_compares_30 14 rfl
theorem dX8_compares_56 : decode cX8_compares 56 = .ok (.lstore 6, 2) := zdec_at bX8_compares_30 15 rfl
theorem bX8_compares_58 : zdec cX8_compares 58 [(58, .iload 10, 2), (60, .ifCond .eq 10, 3), (63, .aload_n 0, 1), (64, .getfield 806, 3), (67, .ifCond .ne 5, 3), (70, .iconst 0, 1), (71, .ireturn, 1), (72, .iload_n 1, 1), (73, .bipush 15, 2), (75, .if_icmp .ne 18, 3), (78, .lload 6, 2), (80, .lconst 0, 1), (81, .lcmp, 1), (82, .ifCond .ge 7, 3), (85, .iconst 1, 1), (86, .goto 61, 3)] = true := by decide +kernel
theorem dX8_compares_58 : decode cX8_compares 58 = .ok (.iload 10, 2) := zdec_at bX8_compares_58 0 rfl
theorem dX8_compares_60 : decode cX8_compares 60 = .ok (.ifCond .eq 10, 3) := zdec_at bX8_compares_58 1 rfl
theorem dX8_compares_63 : decode cX8_compares 63 = .ok (.aload_n 0, 1) := zdec_at bX8_compares_58 2 rfl
theorem dX8_compares_64 : decode cX8_compares 64 = .ok (.getfield 806, 3) := zdec_at bX8_compares_58 3 rfl
theorem dX8_compares_67 : decode cX8_compares 67 = .ok (.ifCond .ne 5, 3) := zdec_at bX8_compares_58 4 rfl
theorem dX8_compares_70 : decode cX8_compares 70 = .ok (.iconst 0, 1) := zdec_at bX8_compares_58 5 rfl
theorem dX8_compares_71 : decode cX8_compares 71 = .ok (.ireturn, 1) := zdec_at bX8_compares_58 6 rfl
theorem dX8_compares_72 : decode cX8_compares 72 = .ok (.iload_n 1, 1) := zdec_at bX8_compares_58 7 rfl
theorem dX8_compares_73 : decode cX8_compares 73 = .ok (.bipush 15, 2) := zdec_at bX8_compares_58 8 rfl
theorem dX8_compares_75 : decode cX8_compares 75 = .ok (.if_icmp .ne 18, 3) := zdec_at bX8_compares_58 9 rfl
theorem dX8_compares_78 : decode cX8_compares 78 = .ok (.lload 6, 2) := zdec_at bX8_compares_58 10 rfl
theorem dX8_compares_80 : decode cX8_compares 80 = .ok (.lconst 0, 1) := zdec_at bX8_compares_58 11 rfl
theorem dX8_compares_81 : decode cX8_compares 81 = .ok (.lcmp, 1) := zdec_at bX8_compares_58 12 rfl
theorem dX8_compares_82 : decode cX8_compares 82 = .ok (.ifCond .ge 7, 3) := zdec_at bX8_compares_58 13 rfl
theorem dX8_compares_85 : decode cX8_compares 85 = .ok (.iconst 1, 1) := zdec_at bX8_compares_58 14 rfl
theorem dX8_compares_86 : decode cX8_compares 86 = .ok (.goto 61, 3) := zdec_at bX8_compares_58 15 rfl
theorem bX8_compares_89 : zdec cX8_compares 89 [(89, .iconst 0, 1), (90, .goto 57, 3), (93, .iload_n 1, 1), (94, .bipush 16, 2), (96, .if_icmp .ne 18, 3), (99, .lload 6, 2), (101, .lconst 0, 1), (102, .lcmp, 1), (103, .ifCond .le 7, 3), (106, .iconst 1, 1), (107, .goto 40, 3), (110, .iconst 0, 1), (111, .goto 36, 3), (114, .iload_n 1, 1), (115, .bipush 17, 2), (117, .if_icmp .ne 18, 3)] = true := by decide +kernel
theorem dX8_compares_89 : decode cX8_compares 89 = .ok (.iconst 0, 1) := zdec_at bX8_compares_89 0 rfl
theorem dX8_compares_90 : decode cX8_compares 90 = .ok (.goto 57, 3) := zdec_at bX8_compares_89 1 rfl
theorem dX8_compares_93 : decode cX8_compares 93 = .ok (.iload_n 1, 1) := zdec_at bX8_compares_89 2 rfl
theorem dX8_compares_94 : decode cX8_compares 94 = .ok (.bipush 16, 2) := zdec_at bX8_compares_89 3 rfl
theorem dX8_compares_96 : decode cX8_compares 96 = .ok (.if_icmp .ne 18, 3) := zdec_at bX8_compares_89 4 rfl
theorem dX8_compares_99 : decode cX8_compares 99 = .ok (.lload 6, 2) := zdec_at bX8_compares_89 5 rfl
theorem dX8_compares_101 : decode cX8_compares 101 = .ok (.lconst 0, 1) := zdec_at bX8_compares_89 6 rfl
theorem dX8_compares_102 : decode cX8_compares 102 = .ok (.lcmp, 1) := zdec_at bX8_compares_89 7 rfl
theorem dX8_compares_103 : decode cX8_compares 103 = .ok (.ifCond .le 7, 3) := zdec_at bX8_compares_89 8 rfl
theorem dX8_compares_106 : decode cX8_compares 106 = .ok (.iconst 1, 1) := zdec_at bX8_compares_89 9 rfl
theorem dX8_compares_107 : decode cX8_compares 107 = .ok (.goto 40, 3) := zdec_at bX8_compares_89 10 rfl
theorem dX8_compares_110 : decode cX8_compares 110 = .ok (.iconst 0, 1) := zdec_at bX8_compares_89 11 rfl
theorem dX8_compares_111 : decode cX8_compares 111 = .ok (.goto 36, 3) := zdec_at bX8_compares_89 12 rfl
theorem dX8_compares_114 : decode cX8_compares 114 = .ok (.iload_n 1, 1) := zdec_at bX8_compares_89 13 rfl
theorem dX8_compares_115 : decode cX8_compares 115 = .ok (.bipush 17, 2) := zdec_at bX8_compares_89 14 rfl
theorem dX8_compares_117 : decode cX8_compares 117 = .ok (.if_icmp .ne 18, 3) := zdec_at bX8_compares_89 15 rfl
theorem bX8_compares_120 : zdec cX8_compares 120 [(120, .lload 6, 2), (122, .lconst 0, 1), (123, .lcmp, 1), (124, .ifCond .gt 7, 3), (127, .iconst 1, 1), (128, .goto 19, 3), (131, .iconst 0, 1), (132, .goto 15, 3), (135, .lload 6, 2), (137, .lconst 0, 1), (138, .lcmp, 1), (139, .ifCond .lt 7, 3), (142, .iconst 1, 1), (143, .goto 4, 3), (146, .iconst 0, 1), (147, .ireturn, 1)] = true := by decide +kernel
theorem dX8_compares_120 : decode cX8_compares 120 = .ok (.lload 6, 2) := zdec_at bX8_compares_120 0 rfl
theorem dX8_compares_122 : decode cX8_compares 122 = .ok (.lconst 0, 1) := zdec_at bX8_compares_120 1 rfl
theorem dX8_compares_123 : decode cX8_compares 123 = .ok (.lcmp, 1) := zdec_at bX8_compares_120 2 rfl
theorem dX8_compares_124 : decode cX8_compares 124 = .ok (.ifCond .gt 7, 3) := zdec_at bX8_compares_120 3 rfl
theorem dX8_compares_127 : decode cX8_compares 127 = .ok (.iconst 1, 1) := zdec_at bX8_compares_120 4 rfl
theorem dX8_compares_128 : decode cX8_compares 128 = .ok (.goto 19, 3) := zdec_at bX8_compares_120 5 rfl
theorem dX8_compares_131 : decode cX8_compares 131 = .ok (.iconst 0, 1) := zdec_at bX8_compares_120 6 rfl
theorem dX8_compares_132 : decode cX8_compares 132 = .ok (.goto 15, 3) := zdec_at bX8_compares_120 7 rfl
theorem dX8_compares_135 : decode cX8_compares 135 = .ok (.lload 6, 2) := zdec_at bX8_compares_120 8 rfl
theorem dX8_compares_137 : decode cX8_compares 137 = .ok (.lconst 0, 1) := zdec_at bX8_compares_120 9 rfl
theorem dX8_compares_138 : decode cX8_compares 138 = .ok (.lcmp, 1) := zdec_at bX8_compares_120 10 rfl
theorem dX8_compares_139 : decode cX8_compares 139 = .ok (.ifCond .lt 7, 3) := zdec_at bX8_compares_120 11 rfl
theorem dX8_compares_142 : decode cX8_compares 142 = .ok (.iconst 1, 1) := zdec_at bX8_compares_120 12 rfl
theorem dX8_compares_143 : decode cX8_compares 143 = .ok (.goto 4, 3) := zdec_at bX8_compares_120 13 rfl
theorem dX8_compares_146 : decode cX8_compares 146 = .ok (.iconst 0, 1) := zdec_at bX8_compares_120 14 rfl
theorem dX8_compares_147 : decode cX8_compares 147 = .ok (.ireturn, 1) := zdec_at bX8_compares_120 15 rfl
theorem sX8_compares_0 {E : zE} {d : Nat} {Q : zO → zM → Prop} (M : zM) (l1 : Int32) (l2 : Int32) (l3 : Int32) (l4 : Int32) (l5 : Int32) (k : if l2 = (6 : Int32) then (if l4 = (6 : Int32) then (Zm E YX8_orderOf d M (zargs 0 [vr (some (97, 1, 0)), vi l3, vi l5]) 0 [] (zma E YX8_compares (d + 1) [(1, vi l1)] 20 3 [] Q)) else (Zm E YX8_numberOf d M (zargs 0 [vr (some (97, 1, 0)), vi l2, vi l3]) 0 [] (zma E YX8_compares (d + 1) [(0, vr (some (97, 1, 0))), (1, vi l1), (4, vi l4), (5, vi l5)] 32 3 [] Q))) else (Zm E YX8_numberOf d M (zargs 0 [vr (some (97, 1, 0)), vi l2, vi l3]) 0 [] (zma E YX8_compares (d + 1) [(0, vr (some (97, 1, 0))), (1, vi l1), (4, vi l4), (5, vi l5)] 32 3 [] Q))) : Zm E YX8_compares (d + 1) M [(0, vr (some (97, 1, 0))), (1, vi l1), (2, vi l2), (3, vi l3), (4, vi l4), (5, vi l5)] 0 [] Q := by
  refine Zm.l (fun _ _ k_ => z_lconst (v := 0) dX8_compares_0 rfl k_) ?_
  refine Zm.l (fun _ _ k_ => z_lst dX8_compares_1 (by decide) (lv' := [(0, vr (some (97, 1, 0))), (1, vi l1), (2, vi l2), (3, vi l3), (4, vi l4), (5, vi l5), (6, vl (0 : Int64))]) rfl k_) ?_
  refine Zm.l (fun _ _ k_ => z_iload_n dX8_compares_3 rfl rfl k_) ?_
  refine Zm.l (fun _ _ k_ => z_bipush (v := 6) dX8_compares_4 rfl k_) ?_
  refine Zm.brn (fun _ _ k1_ k2_ => z_icmp_ne (tgt := 29) dX8_compares_6 rfl k1_ k2_) (fun h_ => ?_) (fun h_ => ?_)
  · have k := zif h_ k
    refine Zm.l (fun _ _ k_ => z_aload_n dX8_compares_29 rfl rfl k_) ?_
    refine Zm.l (fun _ _ k_ => z_iload_n dX8_compares_30 rfl rfl k_) ?_
    refine Zm.l (fun _ _ k_ => z_iload_n dX8_compares_31 rfl rfl k_) ?_
    refine Zm.pick [0, 1, 4, 5] rfl ?_
    exact zm_callV (as := [vi l2, vi l3]) (st := []) dX8_compares_32 vsX8_816_1 (Nat.le_refl _) (Nat.le_of_ble_eq_true rfl) (Nat.le_of_ble_eq_true rfl) rfl k
  · have k := zit h_ k
    refine Zm.l (fun _ _ k_ => z_iload dX8_compares_9 rfl k_) ?_
    refine Zm.l (fun _ _ k_ => z_bipush (v := 6) dX8_compares_11 rfl k_) ?_
    refine Zm.brn (fun _ _ k1_ k2_ => z_icmp_ne (tgt := 29) dX8_compares_13 rfl k1_ k2_) (fun h_ => ?_) (fun h_ => ?_)
    · have k := zif h_ k
      refine Zm.l (fun _ _ k_ => z_aload_n dX8_compares_29 rfl rfl k_) ?_
      refine Zm.l (fun _ _ k_ => z_iload_n dX8_compares_30 rfl rfl k_) ?_
      refine Zm.l (fun _ _ k_ => z_iload_n dX8_compares_31 rfl rfl k_) ?_
      refine Zm.pick [0, 1, 4, 5] rfl ?_
      exact zm_callV (as := [vi l2, vi l3]) (st := []) dX8_compares_32 vsX8_816_1 (Nat.le_refl _) (Nat.le_of_ble_eq_true rfl) (Nat.le_of_ble_eq_true rfl) rfl k
    · have k := zit h_ k
      refine Zm.l (fun _ _ k_ => z_aload_n dX8_compares_16 rfl rfl k_) ?_
      refine Zm.l (fun _ _ k_ => z_iload_n dX8_compares_17 rfl rfl k_) ?_
      refine Zm.l (fun _ _ k_ => z_iload dX8_compares_18 rfl k_) ?_
      refine Zm.pick [1] rfl ?_
      exact zm_callV (as := [vi l3, vi l5]) (st := []) dX8_compares_20 vsX8_819_1 (Nat.le_refl _) (Nat.le_of_ble_eq_true rfl) (Nat.le_of_ble_eq_true rfl) rfl k
theorem sX8_compares_23 {E : zE} {d : Nat} {Q : zO → zM → Prop} (M : zM) (l1 : Int32) (s0 : Int32) (k : Zm E YX8_compares (d + 1) M [(1, vi l1), (6, vl (s0).toInt64)] 72 [] Q) : Zm E YX8_compares (d + 1) M [(1, vi l1)] 23 [vi s0] Q := by
  refine Zm.l (fun _ _ k_ => z_i2l dX8_compares_23 k_) ?_
  refine Zm.l (fun _ _ k_ => z_lst dX8_compares_24 (by decide) (lv' := [(1, vi l1), (6, vl (s0).toInt64)]) rfl k_) ?_
  refine Zm.l (fun _ _ k_ => z_goto (tgt := 72) dX8_compares_26 rfl k_) ?_
  exact k
theorem sX8_compares_35 {E : zE} {d : Nat} {Q : zO → zM → Prop} (M : zM) (l1 : Int32) (l4 : Int32) (l5 : Int32) (s0 : Int32) (k : Zm E YX8_numberOf d M (zargs 0 [vr (some (97, 1, 0)), vi l4, vi l5]) 0 [] (zma E YX8_compares (d + 1) [(0, vr (some (97, 1, 0))), (1, vi l1), (10, vi (gi M 97 113))] 51 3 [vl (s0).toInt64] Q)) : Zm E YX8_compares (d + 1) M [(0, vr (some (97, 1, 0))), (1, vi l1), (4, vi l4), (5, vi l5)] 35 [vi s0] Q := by
  refine Zm.l (fun _ _ k_ => z_i2l dX8_compares_35 k_) ?_
  refine Zm.l (fun _ _ k_ => z_lst dX8_compares_36 (by decide) (lv' := [(0, vr (some (97, 1, 0))), (1, vi l1), (4, vi l4), (5, vi l5), (8, vl (s0).toInt64)]) rfl k_) ?_
  refine Zm.l (fun _ _ k_ => z_aload_n dX8_compares_38 rfl rfl k_) ?_
  refine zm_geti dX8_compares_39 fsX8_806_1 (by decide) (by decide) ?_
  refine Zm.l (fun _ _ k_ => z_ist dX8_compares_42 (by decide) (lv' := [(0, vr (some (97, 1, 0))), (1, vi l1), (4, vi l4), (5, vi l5), (8, vl (s0).toInt64), (10, vi (gi M 97 113))]) rfl k_) ?_
  refine Zm.l (fun _ _ k_ => z_lload dX8_compares_44 rfl k_) ?_
  refine Zm.l (fun _ _ k_ => z_aload_n dX8_compares_46 rfl rfl k_) ?_
  refine Zm.l (fun _ _ k_ => z_iload dX8_compares_47 rfl k_) ?_
  refine Zm.l (fun _ _ k_ => z_iload dX8_compares_49 rfl k_) ?_
  refine Zm.pick [0, 1, 5] rfl ?_
  exact zm_callV (as := [vi l4, vi l5]) (st := [vl (s0).toInt64]) dX8_compares_51 vsX8_816_1 (Nat.le_refl _) (Nat.le_of_ble_eq_true rfl) (Nat.le_of_ble_eq_true rfl) rfl k
theorem sX8_compares_54 {E : zE} {d : Nat} {Q : zO → zM → Prop} (M : zM) (l1 : Int32) (l10 : Int32) (s0 : Int32) (s1 : Int64) (k : if l10 = 0 then (Q (.inl (some (vi (0 : Int32)))) M) else (if (gi M 97 113) = 0 then (Q (.inl (some (vi (0 : Int32)))) M) else (Zm E YX8_compares (d + 1) M [(1, vi l1), (6, vl (s1 - (s0).toInt64))] 72 [] Q))) : Zm E YX8_compares (d + 1) M [(0, vr (some (97, 1, 0))), (1, vi l1), (10, vi l10)] 54 [vi s0, vl s1] Q := by
  refine Zm.l (fun _ _ k_ => z_i2l dX8_compares_54 k_) ?_
  refine Zm.l (fun _ _ k_ => z_lsub dX8_compares_55 k_) ?_
  refine Zm.l (fun _ _ k_ => z_lst dX8_compares_56 (by decide) (lv' := [(0, vr (some (97, 1, 0))), (1, vi l1), (6, vl (s1 - (s0).toInt64)), (10, vi l10)]) rfl k_) ?_
  refine Zm.l (fun _ _ k_ => z_iload dX8_compares_58 rfl k_) ?_
  refine Zm.br (fun _ _ k1_ k2_ => z_if_eq (tgt := 70) dX8_compares_60 rfl k1_ k2_) (fun h_ => ?_) (fun h_ => ?_)
  · have k := zit h_ k
    refine Zm.l (fun _ _ k_ => z_iconst (v := 0) dX8_compares_70 rfl k_) ?_
    exact zm_iret dX8_compares_71 rfl (by decide) k
  · have k := zif h_ k
    refine Zm.l (fun _ _ k_ => z_aload_n dX8_compares_63 rfl rfl k_) ?_
    refine zm_geti dX8_compares_64 fsX8_806_1 (by decide) (by decide) ?_
    refine Zm.brn (fun _ _ k1_ k2_ => z_if_ne (tgt := 72) dX8_compares_67 rfl k1_ k2_) (fun h_ => ?_) (fun h_ => ?_)
    · have k := zif h_ k
      refine Zm.pick [1, 2] rfl ?_
      exact k
    · have k := zit h_ k
      refine Zm.l (fun _ _ k_ => z_iconst (v := 0) dX8_compares_70 rfl k_) ?_
      exact zm_iret dX8_compares_71 rfl (by decide) k
theorem sX8_compares_72 {E : zE} {d : Nat} {Q : zO → zM → Prop} (M : zM) (l1 : Int32) (l6 : Int64) (k : if l1 = (15 : Int32) then (if 0 ≤ (lg_cmp l6 (0 : Int64)) then (Q (.inl (some (vi (0 : Int32)))) M) else (Q (.inl (some (vi (1 : Int32)))) M)) else (if l1 = (16 : Int32) then (if (lg_cmp l6 (0 : Int64)) ≤ 0 then (Q (.inl (some (vi (0 : Int32)))) M) else (Q (.inl (some (vi (1 : Int32)))) M)) else (if l1 = (17 : Int32) then (if 0 < (lg_cmp l6 (0 : Int64)) then (Q (.inl (some (vi (0 : Int32)))) M) else (Q (.inl (some (vi (1 : Int32)))) M)) else (if (lg_cmp l6 (0 : Int64)) < 0 then (Q (.inl (some (vi (0 : Int32)))) M) else (Q (.inl (some (vi (1 : Int32)))) M))))) : Zm E YX8_compares (d + 1) M [(1, vi l1), (6, vl l6)] 72 [] Q := by
  refine Zm.l (fun _ _ k_ => z_iload_n dX8_compares_72 rfl rfl k_) ?_
  refine Zm.l (fun _ _ k_ => z_bipush (v := 15) dX8_compares_73 rfl k_) ?_
  refine Zm.brn (fun _ _ k1_ k2_ => z_icmp_ne (tgt := 93) dX8_compares_75 rfl k1_ k2_) (fun h_ => ?_) (fun h_ => ?_)
  · have k := zif h_ k
    refine Zm.l (fun _ _ k_ => z_iload_n dX8_compares_93 rfl rfl k_) ?_
    refine Zm.l (fun _ _ k_ => z_bipush (v := 16) dX8_compares_94 rfl k_) ?_
    refine Zm.brn (fun _ _ k1_ k2_ => z_icmp_ne (tgt := 114) dX8_compares_96 rfl k1_ k2_) (fun h_ => ?_) (fun h_ => ?_)
    · have k := zif h_ k
      refine Zm.l (fun _ _ k_ => z_iload_n dX8_compares_114 rfl rfl k_) ?_
      refine Zm.l (fun _ _ k_ => z_bipush (v := 17) dX8_compares_115 rfl k_) ?_
      refine Zm.brn (fun _ _ k1_ k2_ => z_icmp_ne (tgt := 135) dX8_compares_117 rfl k1_ k2_) (fun h_ => ?_) (fun h_ => ?_)
      · have k := zif h_ k
        refine Zm.l (fun _ _ k_ => z_lload dX8_compares_135 rfl k_) ?_
        refine Zm.l (fun _ _ k_ => z_lconst (v := 0) dX8_compares_137 rfl k_) ?_
        refine Zm.l (fun _ _ k_ => z_lcmp dX8_compares_138 k_) ?_
        refine Zm.br (fun _ _ k1_ k2_ => z_if_lt (tgt := 146) dX8_compares_139 rfl k1_ k2_) (fun h_ => ?_) (fun h_ => ?_)
        · have k := zit h_ k
          refine Zm.l (fun _ _ k_ => z_iconst (v := 0) dX8_compares_146 rfl k_) ?_
          exact zm_iret dX8_compares_147 rfl (by decide) k
        · have k := zif h_ k
          refine Zm.l (fun _ _ k_ => z_iconst (v := 1) dX8_compares_142 rfl k_) ?_
          refine Zm.l (fun _ _ k_ => z_goto (tgt := 147) dX8_compares_143 rfl k_) ?_
          exact zm_iret dX8_compares_147 rfl (by decide) k
      · have k := zit h_ k
        refine Zm.l (fun _ _ k_ => z_lload dX8_compares_120 rfl k_) ?_
        refine Zm.l (fun _ _ k_ => z_lconst (v := 0) dX8_compares_122 rfl k_) ?_
        refine Zm.l (fun _ _ k_ => z_lcmp dX8_compares_123 k_) ?_
        refine Zm.br (fun _ _ k1_ k2_ => z_if_gt (tgt := 131) dX8_compares_124 rfl k1_ k2_) (fun h_ => ?_) (fun h_ => ?_)
        · have k := zit h_ k
          refine Zm.l (fun _ _ k_ => z_iconst (v := 0) dX8_compares_131 rfl k_) ?_
          refine Zm.l (fun _ _ k_ => z_goto (tgt := 147) dX8_compares_132 rfl k_) ?_
          exact zm_iret dX8_compares_147 rfl (by decide) k
        · have k := zif h_ k
          refine Zm.l (fun _ _ k_ => z_iconst (v := 1) dX8_compares_127 rfl k_) ?_
          refine Zm.l (fun _ _ k_ => z_goto (tgt := 147) dX8_compares_128 rfl k_) ?_
          exact zm_iret dX8_compares_147 rfl (by decide) k
    · have k := zit h_ k
      refine Zm.l (fun _ _ k_ => z_lload dX8_compares_99 rfl k_) ?_
      refine Zm.l (fun _ _ k_ => z_lconst (v := 0) dX8_compares_101 rfl k_) ?_
      refine Zm.l (fun _ _ k_ => z_lcmp dX8_compares_102 k_) ?_
      refine Zm.br (fun _ _ k1_ k2_ => z_if_le (tgt := 110) dX8_compares_103 rfl k1_ k2_) (fun h_ => ?_) (fun h_ => ?_)
      · have k := zit h_ k
        refine Zm.l (fun _ _ k_ => z_iconst (v := 0) dX8_compares_110 rfl k_) ?_
        refine Zm.l (fun _ _ k_ => z_goto (tgt := 147) dX8_compares_111 rfl k_) ?_
        exact zm_iret dX8_compares_147 rfl (by decide) k
      · have k := zif h_ k
        refine Zm.l (fun _ _ k_ => z_iconst (v := 1) dX8_compares_106 rfl k_) ?_
        refine Zm.l (fun _ _ k_ => z_goto (tgt := 147) dX8_compares_107 rfl k_) ?_
        exact zm_iret dX8_compares_147 rfl (by decide) k
  · have k := zit h_ k
    refine Zm.l (fun _ _ k_ => z_lload dX8_compares_78 rfl k_) ?_
    refine Zm.l (fun _ _ k_ => z_lconst (v := 0) dX8_compares_80 rfl k_) ?_
    refine Zm.l (fun _ _ k_ => z_lcmp dX8_compares_81 k_) ?_
    refine Zm.br (fun _ _ k1_ k2_ => z_if_ge (tgt := 89) dX8_compares_82 rfl k1_ k2_) (fun h_ => ?_) (fun h_ => ?_)
    · have k := zit h_ k
      refine Zm.l (fun _ _ k_ => z_iconst (v := 0) dX8_compares_89 rfl k_) ?_
      refine Zm.l (fun _ _ k_ => z_goto (tgt := 147) dX8_compares_90 rfl k_) ?_
      exact zm_iret dX8_compares_147 rfl (by decide) k
    · have k := zif h_ k
      refine Zm.l (fun _ _ k_ => z_iconst (v := 1) dX8_compares_85 rfl k_) ?_
      refine Zm.l (fun _ _ k_ => z_goto (tgt := 147) dX8_compares_86 rfl k_) ?_
      exact zm_iret dX8_compares_147 rfl (by decide) k
/-! ScriptTypesModel.orderOf(II)I -/
theorem bX8_orderOf_0 : zdec cX8_orderOf 0 [(0, .iconst 0, 1), (1, .istore_n 3, 1), (2, .iload_n 3, 1), (3, .aload_n 0, 1), (4, .getfield 20, 3), (7, .iload_n 1, 1), (8, .iaload, 1), (9, .if_icmp .ge 44, 3), (12, .iload_n 3, 1), (13, .aload_n 0, 1), (14, .getfield 20, 3), (17, .iload_n 2, 1), (18, .iaload, 1), (19, .if_icmp .ge 34, 3), (22, .aload_n 0, 1), (23, .getfield 16, 3)] = true := by decide +kernel
theorem dX8_orderOf_0 : decode cX8_orderOf 0 = .ok (.iconst 0, 1) := zdec_at bX8_orderOf_0 0 rfl
theorem dX8_orderOf_1 : decode cX8_orderOf 1 = .ok (.istore_n 3, 1) := zdec_at bX8_orderOf_0 1 rfl
theorem dX8_orderOf_2 : decode cX8_orderOf 2 = .ok (.iload_n 3, 1) := zdec_at bX8_orderOf_0 2 rfl
theorem dX8_orderOf_3 : decode cX8_orderOf 3 = .ok (.aload_n 0, 1) := zdec_at bX8_orderOf_0 3 rfl
theorem dX8_orderOf_4 : decode cX8_orderOf 4 = .ok (.getfield 20, 3) := zdec_at bX8_orderOf_0 4 rfl
theorem dX8_orderOf_7 : decode cX8_orderOf 7 = .ok (.iload_n 1, 1) := zdec_at bX8_orderOf_0 5 rfl
theorem dX8_orderOf_8 : decode cX8_orderOf 8 = .ok (.iaload, 1) := zdec_at bX8_orderOf_0 6 rfl
theorem dX8_orderOf_9 : decode cX8_orderOf 9 = .ok (.if_icmp .ge 44, 3) := zdec_at bX8_orderOf_0 7 rfl
theorem dX8_orderOf_12 : decode cX8_orderOf 12 = .ok (.iload_n 3, 1) := zdec_at bX8_orderOf_0 8 rfl
theorem dX8_orderOf_13 : decode cX8_orderOf 13 = .ok (.aload_n 0, 1) := zdec_at bX8_orderOf_0 9 rfl
theorem dX8_orderOf_14 : decode cX8_orderOf 14 = .ok (.getfield 20, 3) := zdec_at bX8_orderOf_0 10 rfl
theorem dX8_orderOf_17 : decode cX8_orderOf 17 = .ok (.iload_n 2, 1) := zdec_at bX8_orderOf_0 11 rfl
theorem dX8_orderOf_18 : decode cX8_orderOf 18 = .ok (.iaload, 1) := zdec_at bX8_orderOf_0 12 rfl
theorem dX8_orderOf_19 : decode cX8_orderOf 19 = .ok (.if_icmp .ge 34, 3) := zdec_at bX8_orderOf_0 13 rfl
theorem dX8_orderOf_22 : decode cX8_orderOf 22 = .ok (.aload_n 0, 1) := zdec_at bX8_orderOf_0 14 rfl
theorem dX8_orderOf_23 : decode cX8_orderOf 23 = .ok (.getfield 16, 3) := zdec_at bX8_orderOf_0 15 rfl
theorem bX8_orderOf_26 : zdec cX8_orderOf 26 [(26, .bipush 60, 2), (28, .iload_n 1, 1), (29, .imul, 1), (30, .iload_n 3, 1), (31, .iadd, 1), (32, .caload, 1), (33, .aload_n 0, 1), (34, .getfield 16, 3), (37, .bipush 60, 2), (39, .iload_n 2, 1), (40, .imul, 1), (41, .iload_n 3, 1), (42, .iadd, 1), (43, .caload, 1), (44, .if_icmp .ne 9, 3), (47, .iinc 3 1, 3)] = true := by decide +kernel
theorem dX8_orderOf_26 : decode cX8_orderOf 26 = .ok (.bipush 60, 2) := zdec_at bX8_orderOf_26 0 rfl
theorem dX8_orderOf_28 : decode cX8_orderOf 28 = .ok (.iload_n 1, 1) := zdec_at bX8_orderOf_26 1 rfl
theorem dX8_orderOf_29 : decode cX8_orderOf 29 = .ok (.imul, 1) := zdec_at bX8_orderOf_26 2 rfl
theorem dX8_orderOf_30 : decode cX8_orderOf 30 = .ok (.iload_n 3, 1) := zdec_at bX8_orderOf_26 3 rfl
theorem dX8_orderOf_31 : decode cX8_orderOf 31 = .ok (.iadd, 1) := zdec_at bX8_orderOf_26 4 rfl
theorem dX8_orderOf_32 : decode cX8_orderOf 32 = .ok (.caload, 1) := zdec_at bX8_orderOf_26 5 rfl
theorem dX8_orderOf_33 : decode cX8_orderOf 33 = .ok (.aload_n 0, 1) := zdec_at bX8_orderOf_26 6 rfl
theorem dX8_orderOf_34 : decode cX8_orderOf 34 = .ok (.getfield 16, 3) := zdec_at bX8_orderOf_26 7 rfl
theorem dX8_orderOf_37 : decode cX8_orderOf 37 = .ok (.bipush 60, 2) := zdec_at bX8_orderOf_26 8 rfl
theorem dX8_orderOf_39 : decode cX8_orderOf 39 = .ok (.iload_n 2, 1) := zdec_at bX8_orderOf_26 9 rfl
theorem dX8_orderOf_40 : decode cX8_orderOf 40 = .ok (.imul, 1) := zdec_at bX8_orderOf_26 10 rfl
theorem dX8_orderOf_41 : decode cX8_orderOf 41 = .ok (.iload_n 3, 1) := zdec_at bX8_orderOf_26 11 rfl
theorem dX8_orderOf_42 : decode cX8_orderOf 42 = .ok (.iadd, 1) := zdec_at bX8_orderOf_26 12 rfl
theorem dX8_orderOf_43 : decode cX8_orderOf 43 = .ok (.caload, 1) := zdec_at bX8_orderOf_26 13 rfl
theorem dX8_orderOf_44 : decode cX8_orderOf 44 = .ok (.if_icmp .ne 9, 3) := zdec_at bX8_orderOf_26 14 rfl
theorem dX8_orderOf_47 : decode cX8_orderOf 47 = .ok (.iinc 3 1, 3) := zdec_at bX8_orderOf_26 15 rfl
theorem bX8_orderOf_50 : zdec cX8_orderOf 50 [(50, .goto (-48), 3), (53, .iload_n 3, 1), (54, .aload_n 0, 1), (55, .getfield 20, 3), (58, .iload_n 1, 1), (59, .iaload, 1), (60, .if_icmp .eq 13, 3), (63, .iload_n 3, 1), (64, .aload_n 0, 1), (65, .getfield 20, 3), (68, .iload_n 2, 1), (69, .iaload, 1), (70, .if_icmp .ne 17, 3), (73, .aload_n 0, 1), (74, .getfield 20, 3), (77, .iload_n 1, 1)] = true := by decide +kernel
theorem dX8_orderOf_50 : decode cX8_orderOf 50 = .ok (.goto (-48), 3) := zdec_at bX8_orderOf_50 0 rfl
theorem dX8_orderOf_53 : decode cX8_orderOf 53 = .ok (.iload_n 3, 1) := zdec_at bX8_orderOf_50 1 rfl
theorem dX8_orderOf_54 : decode cX8_orderOf 54 = .ok (.aload_n 0, 1) := zdec_at bX8_orderOf_50 2 rfl
theorem dX8_orderOf_55 : decode cX8_orderOf 55 = .ok (.getfield 20, 3) := zdec_at bX8_orderOf_50 3 rfl
theorem dX8_orderOf_58 : decode cX8_orderOf 58 = .ok (.iload_n 1, 1) := zdec_at bX8_orderOf_50 4 rfl
theorem dX8_orderOf_59 : decode cX8_orderOf 59 = .ok (.iaload, 1) := zdec_at bX8_orderOf_50 5 rfl
theorem dX8_orderOf_60 : decode cX8_orderOf 60 = .ok (.if_icmp .eq 13, 3) := zdec_at bX8_orderOf_50 6 rfl
theorem dX8_orderOf_63 : decode cX8_orderOf 63 = .ok (.iload_n 3, 1) := zdec_at bX8_orderOf_50 7 rfl
theorem dX8_orderOf_64 : decode cX8_orderOf 64 = .ok (.aload_n 0, 1) := zdec_at bX8_orderOf_50 8 rfl
theorem dX8_orderOf_65 : decode cX8_orderOf 65 = .ok (.getfield 20, 3) := zdec_at bX8_orderOf_50 9 rfl
theorem dX8_orderOf_68 : decode cX8_orderOf 68 = .ok (.iload_n 2, 1) := zdec_at bX8_orderOf_50 10 rfl
theorem dX8_orderOf_69 : decode cX8_orderOf 69 = .ok (.iaload, 1) := zdec_at bX8_orderOf_50 11 rfl
theorem dX8_orderOf_70 : decode cX8_orderOf 70 = .ok (.if_icmp .ne 17, 3) := zdec_at bX8_orderOf_50 12 rfl
theorem dX8_orderOf_73 : decode cX8_orderOf 73 = .ok (.aload_n 0, 1) := zdec_at bX8_orderOf_50 13 rfl
theorem dX8_orderOf_74 : decode cX8_orderOf 74 = .ok (.getfield 20, 3) := zdec_at bX8_orderOf_50 14 rfl
theorem dX8_orderOf_77 : decode cX8_orderOf 77 = .ok (.iload_n 1, 1) := zdec_at bX8_orderOf_50 15 rfl
theorem bX8_orderOf_78 : zdec cX8_orderOf 78 [(78, .iaload, 1), (79, .aload_n 0, 1), (80, .getfield 20, 3), (83, .iload_n 2, 1), (84, .iaload, 1), (85, .isub, 1), (86, .ireturn, 1), (87, .aload_n 0, 1), (88, .getfield 16, 3), (91, .bipush 60, 2), (93, .iload_n 1, 1), (94, .imul, 1), (95, .iload_n 3, 1), (96, .iadd, 1), (97, .caload, 1), (98, .aload_n 0, 1)] = true := by decide +kernel
theorem dX8_orderOf_78 : decode cX8_orderOf 78 = .ok (.iaload, 1) := zdec_at bX8_orderOf_78 0 rfl
theorem dX8_orderOf_79 : decode cX8_orderOf 79 = .ok (.aload_n 0, 1) := zdec_at bX8_orderOf_78 1 rfl
theorem dX8_orderOf_80 : decode cX8_orderOf 80 = .ok (.getfield 20, 3) := zdec_at bX8_orderOf_78 2 rfl
theorem dX8_orderOf_83 : decode cX8_orderOf 83 = .ok (.iload_n 2, 1) := zdec_at bX8_orderOf_78 3 rfl
theorem dX8_orderOf_84 : decode cX8_orderOf 84 = .ok (.iaload, 1) := zdec_at bX8_orderOf_78 4 rfl
theorem dX8_orderOf_85 : decode cX8_orderOf 85 = .ok (.isub, 1) := zdec_at bX8_orderOf_78 5 rfl
theorem dX8_orderOf_86 : decode cX8_orderOf 86 = .ok (.ireturn, 1) := zdec_at bX8_orderOf_78 6 rfl
theorem dX8_orderOf_87 : decode cX8_orderOf 87 = .ok (.aload_n 0, 1) := zdec_at bX8_orderOf_78 7 rfl
theorem dX8_orderOf_88 : decode cX8_orderOf 88 = .ok (.getfield 16, 3) := zdec_at bX8_orderOf_78 8 rfl
theorem dX8_orderOf_91 : decode cX8_orderOf 91 = .ok (.bipush 60, 2) := zdec_at bX8_orderOf_78 9 rfl
theorem dX8_orderOf_93 : decode cX8_orderOf 93 = .ok (.iload_n 1, 1) := zdec_at bX8_orderOf_78 10 rfl
theorem dX8_orderOf_94 : decode cX8_orderOf 94 = .ok (.imul, 1) := zdec_at bX8_orderOf_78 11 rfl
theorem dX8_orderOf_95 : decode cX8_orderOf 95 = .ok (.iload_n 3, 1) := zdec_at bX8_orderOf_78 12 rfl
theorem dX8_orderOf_96 : decode cX8_orderOf 96 = .ok (.iadd, 1) := zdec_at bX8_orderOf_78 13 rfl
theorem dX8_orderOf_97 : decode cX8_orderOf 97 = .ok (.caload, 1) := zdec_at bX8_orderOf_78 14 rfl
theorem dX8_orderOf_98 : decode cX8_orderOf 98 = .ok (.aload_n 0, 1) := zdec_at bX8_orderOf_78 15 rfl
theorem bX8_orderOf_99 : zdec cX8_orderOf 99 [(99, .getfield 16, 3), (102, .bipush 60, 2), (104, .iload_n 2, 1), (105, .imul, 1), (106, .iload_n 3, 1), (107, .iadd, 1), (108, .caload, 1), (109, .isub, 1), (110, .ireturn, 1)] = true := by decide +kernel
theorem dX8_orderOf_99 : decode cX8_orderOf 99 = .ok (.getfield 16, 3) := zdec_at bX8_orderOf_99 0 rfl
theorem dX8_orderOf_102 : decode cX8_orderOf 102 = .ok (.bipush 60, 2) := zdec_at bX8_orderOf_99 1 rfl
theorem dX8_orderOf_104 : decode cX8_orderOf 104 = .ok (.iload_n 2, 1) := zdec_at bX8_orderOf_99 2 rfl
theorem dX8_orderOf_105 : decode cX8_orderOf 105 = .ok (.imul, 1) := zdec_at bX8_orderOf_99 3 rfl
theorem dX8_orderOf_106 : decode cX8_orderOf 106 = .ok (.iload_n 3, 1) := zdec_at bX8_orderOf_99 4 rfl
theorem dX8_orderOf_107 : decode cX8_orderOf 107 = .ok (.iadd, 1) := zdec_at bX8_orderOf_99 5 rfl
theorem dX8_orderOf_108 : decode cX8_orderOf 108 = .ok (.caload, 1) := zdec_at bX8_orderOf_99 6 rfl
theorem dX8_orderOf_109 : decode cX8_orderOf 109 = .ok (.isub, 1) := zdec_at bX8_orderOf_99 7 rfl
theorem dX8_orderOf_110 : decode cX8_orderOf 110 = .ok (.ireturn, 1) := zdec_at bX8_orderOf_99 8 rfl
theorem sX8_orderOf_0 {E : zE} {d : Nat} {Q : zO → zM → Prop} (M : zM) (l1 : Int32) (l2 : Int32) (k : Zm E YX8_orderOf d M [(0, vr (some (97, 1, 0))), (1, vi l1), (2, vi l2), (3, vi (0 : Int32))] 2 [] Q) : Zm E YX8_orderOf d M [(0, vr (some (97, 1, 0))), (1, vi l1), (2, vi l2)] 0 [] Q := by
  refine Zm.l (fun _ _ k_ => z_iconst (v := 0) dX8_orderOf_0 rfl k_) ?_
  refine Zm.l (fun _ _ k_ => z_ist_n dX8_orderOf_1 rfl (by decide) (lv' := [(0, vr (some (97, 1, 0))), (1, vi l1), (2, vi l2), (3, vi (0 : Int32))]) rfl k_) ?_
  exact k
theorem sX8_orderOf_2 {E : zE} {d : Nat} {Q : zO → zM → Prop} (M : zM) (l1 : Int32) (l2 : Int32) (l3 : Int32) (k : vp_in l1 400 ∧ (if (gi M 101 (l1).toNatClampNeg) ≤ l3 then (Zm E YX8_orderOf d M [(0, vr (some (97, 1, 0))), (1, vi l1), (2, vi l2), (3, vi l3)] 53 [] Q) else (vp_in l2 400 ∧ (if (gi M 101 (l2).toNatClampNeg) ≤ l3 then (Zm E YX8_orderOf d M [(0, vr (some (97, 1, 0))), (1, vi l1), (2, vi l2), (3, vi l3)] 53 [] Q) else (vp_in (((60 : Int32) * l1) + l3) 24000 ∧ (vp_in (((60 : Int32) * l2) + l3) 24000 ∧ (if (gi M 100 ((((60 : Int32) * l1) + l3)).toNatClampNeg) = (gi M 100 ((((60 : Int32) * l2) + l3)).toNatClampNeg) then (Zm E YX8_orderOf d M [(0, vr (some (97, 1, 0))), (1, vi l1), (2, vi l2), (3, vi (l3 + (1 : Int32)))] 2 [] Q) else (Zm E YX8_orderOf d M [(0, vr (some (97, 1, 0))), (1, vi l1), (2, vi l2), (3, vi l3)] 53 [] Q)))))))) : Zm E YX8_orderOf d M [(0, vr (some (97, 1, 0))), (1, vi l1), (2, vi l2), (3, vi l3)] 2 [] Q := by
  refine Zm.l (fun _ _ k_ => z_iload_n dX8_orderOf_2 rfl rfl k_) ?_
  refine Zm.l (fun _ _ k_ => z_aload_n dX8_orderOf_3 rfl rfl k_) ?_
  refine zm_getr 3 dX8_orderOf_4 fsX8_20_1 rfl ?_
  refine Zm.l (fun _ _ k_ => z_iload_n dX8_orderOf_7 rfl rfl k_) ?_
  obtain ⟨b_, k⟩ := k
  refine zm_iald dX8_orderOf_8 b_ (by decide) (by decide) ?_
  refine Zm.br (fun _ _ k1_ k2_ => z_icmp_ge (tgt := 53) dX8_orderOf_9 rfl k1_ k2_) (fun h_ => ?_) (fun h_ => ?_)
  · have k := zit h_ k
    exact k
  · have k := zif h_ k
    refine Zm.l (fun _ _ k_ => z_iload_n dX8_orderOf_12 rfl rfl k_) ?_
    refine Zm.l (fun _ _ k_ => z_aload_n dX8_orderOf_13 rfl rfl k_) ?_
    refine zm_getr 3 dX8_orderOf_14 fsX8_20_1 rfl ?_
    refine Zm.l (fun _ _ k_ => z_iload_n dX8_orderOf_17 rfl rfl k_) ?_
    obtain ⟨b_, k⟩ := k
    refine zm_iald dX8_orderOf_18 b_ (by decide) (by decide) ?_
    refine Zm.br (fun _ _ k1_ k2_ => z_icmp_ge (tgt := 53) dX8_orderOf_19 rfl k1_ k2_) (fun h_ => ?_) (fun h_ => ?_)
    · have k := zit h_ k
      exact k
    · have k := zif h_ k
      refine Zm.l (fun _ _ k_ => z_aload_n dX8_orderOf_22 rfl rfl k_) ?_
      refine zm_getr 2 dX8_orderOf_23 fsX8_16_1 rfl ?_
      refine Zm.l (fun _ _ k_ => z_bipush (v := 60) dX8_orderOf_26 rfl k_) ?_
      refine Zm.l (fun _ _ k_ => z_iload_n dX8_orderOf_28 rfl rfl k_) ?_
      refine Zm.l (fun _ _ k_ => z_imul dX8_orderOf_29 k_) ?_
      refine Zm.l (fun _ _ k_ => z_iload_n dX8_orderOf_30 rfl rfl k_) ?_
      refine Zm.l (fun _ _ k_ => z_iadd dX8_orderOf_31 k_) ?_
      obtain ⟨b_, k⟩ := k
      refine zm_cald dX8_orderOf_32 b_ (by decide) (by decide) ?_
      refine Zm.l (fun _ _ k_ => z_aload_n dX8_orderOf_33 rfl rfl k_) ?_
      refine zm_getr 2 dX8_orderOf_34 fsX8_16_1 rfl ?_
      refine Zm.l (fun _ _ k_ => z_bipush (v := 60) dX8_orderOf_37 rfl k_) ?_
      refine Zm.l (fun _ _ k_ => z_iload_n dX8_orderOf_39 rfl rfl k_) ?_
      refine Zm.l (fun _ _ k_ => z_imul dX8_orderOf_40 k_) ?_
      refine Zm.l (fun _ _ k_ => z_iload_n dX8_orderOf_41 rfl rfl k_) ?_
      refine Zm.l (fun _ _ k_ => z_iadd dX8_orderOf_42 k_) ?_
      obtain ⟨b_, k⟩ := k
      refine zm_cald dX8_orderOf_43 b_ (by decide) (by decide) ?_
      refine Zm.brn (fun _ _ k1_ k2_ => z_icmp_ne (tgt := 53) dX8_orderOf_44 rfl k1_ k2_) (fun h_ => ?_) (fun h_ => ?_)
      · have k := zif h_ k
        exact k
      · have k := zit h_ k
        refine Zm.l (fun _ _ k_ => z_inc (v := (l3 + (1 : Int32))) dX8_orderOf_47 rfl rfl (by decide) (lv' := [(0, vr (some (97, 1, 0))), (1, vi l1), (2, vi l2), (3, vi (l3 + (1 : Int32)))]) rfl k_) ?_
        refine Zm.l (fun _ _ k_ => z_goto (tgt := 2) dX8_orderOf_50 rfl k_) ?_
        exact k
theorem sX8_orderOf_53 {E : zE} {d : Nat} {Q : zO → zM → Prop} (M : zM) (l1 : Int32) (l2 : Int32) (l3 : Int32) (k : vp_in l1 400 ∧ (if l3 = (gi M 101 (l1).toNatClampNeg) then (Zm E YX8_orderOf d M [(0, vr (some (97, 1, 0))), (1, vi l1), (2, vi l2)] 73 [] Q) else (vp_in l2 400 ∧ (if l3 = (gi M 101 (l2).toNatClampNeg) then (Zm E YX8_orderOf d M [(0, vr (some (97, 1, 0))), (1, vi l1), (2, vi l2)] 73 [] Q) else (vp_in (((60 : Int32) * l1) + l3) 24000 ∧ (vp_in (((60 : Int32) * l2) + l3) 24000 ∧ (Q (.inl (some (vi ((gi M 100 ((((60 : Int32) * l1) + l3)).toNatClampNeg) - (gi M 100 ((((60 : Int32) * l2) + l3)).toNatClampNeg))))) M))))))) : Zm E YX8_orderOf d M [(0, vr (some (97, 1, 0))), (1, vi l1), (2, vi l2), (3, vi l3)] 53 [] Q := by
  refine Zm.l (fun _ _ k_ => z_iload_n dX8_orderOf_53 rfl rfl k_) ?_
  refine Zm.l (fun _ _ k_ => z_aload_n dX8_orderOf_54 rfl rfl k_) ?_
  refine zm_getr 3 dX8_orderOf_55 fsX8_20_1 rfl ?_
  refine Zm.l (fun _ _ k_ => z_iload_n dX8_orderOf_58 rfl rfl k_) ?_
  obtain ⟨b_, k⟩ := k
  refine zm_iald dX8_orderOf_59 b_ (by decide) (by decide) ?_
  refine Zm.br (fun _ _ k1_ k2_ => z_icmp_eq (tgt := 73) dX8_orderOf_60 rfl k1_ k2_) (fun h_ => ?_) (fun h_ => ?_)
  · have k := zit h_ k
    refine Zm.pick [0, 1, 2] rfl ?_
    exact k
  · have k := zif h_ k
    refine Zm.l (fun _ _ k_ => z_iload_n dX8_orderOf_63 rfl rfl k_) ?_
    refine Zm.l (fun _ _ k_ => z_aload_n dX8_orderOf_64 rfl rfl k_) ?_
    refine zm_getr 3 dX8_orderOf_65 fsX8_20_1 rfl ?_
    refine Zm.l (fun _ _ k_ => z_iload_n dX8_orderOf_68 rfl rfl k_) ?_
    obtain ⟨b_, k⟩ := k
    refine zm_iald dX8_orderOf_69 b_ (by decide) (by decide) ?_
    refine Zm.brn (fun _ _ k1_ k2_ => z_icmp_ne (tgt := 87) dX8_orderOf_70 rfl k1_ k2_) (fun h_ => ?_) (fun h_ => ?_)
    · have k := zif h_ k
      refine Zm.l (fun _ _ k_ => z_aload_n dX8_orderOf_87 rfl rfl k_) ?_
      refine zm_getr 2 dX8_orderOf_88 fsX8_16_1 rfl ?_
      refine Zm.l (fun _ _ k_ => z_bipush (v := 60) dX8_orderOf_91 rfl k_) ?_
      refine Zm.l (fun _ _ k_ => z_iload_n dX8_orderOf_93 rfl rfl k_) ?_
      refine Zm.l (fun _ _ k_ => z_imul dX8_orderOf_94 k_) ?_
      refine Zm.l (fun _ _ k_ => z_iload_n dX8_orderOf_95 rfl rfl k_) ?_
      refine Zm.l (fun _ _ k_ => z_iadd dX8_orderOf_96 k_) ?_
      obtain ⟨b_, k⟩ := k
      refine zm_cald dX8_orderOf_97 b_ (by decide) (by decide) ?_
      refine Zm.l (fun _ _ k_ => z_aload_n dX8_orderOf_98 rfl rfl k_) ?_
      refine zm_getr 2 dX8_orderOf_99 fsX8_16_1 rfl ?_
      refine Zm.l (fun _ _ k_ => z_bipush (v := 60) dX8_orderOf_102 rfl k_) ?_
      refine Zm.l (fun _ _ k_ => z_iload_n dX8_orderOf_104 rfl rfl k_) ?_
      refine Zm.l (fun _ _ k_ => z_imul dX8_orderOf_105 k_) ?_
      refine Zm.l (fun _ _ k_ => z_iload_n dX8_orderOf_106 rfl rfl k_) ?_
      refine Zm.l (fun _ _ k_ => z_iadd dX8_orderOf_107 k_) ?_
      obtain ⟨b_, k⟩ := k
      refine zm_cald dX8_orderOf_108 b_ (by decide) (by decide) ?_
      refine Zm.l (fun _ _ k_ => z_isub dX8_orderOf_109 k_) ?_
      exact zm_iret dX8_orderOf_110 rfl rfl k
    · have k := zit h_ k
      refine Zm.pick [0, 1, 2] rfl ?_
      exact k
theorem sX8_orderOf_73 {E : zE} {d : Nat} {Q : zO → zM → Prop} (M : zM) (l1 : Int32) (l2 : Int32) (k : vp_in l1 400 ∧ (vp_in l2 400 ∧ (Q (.inl (some (vi ((gi M 101 (l1).toNatClampNeg) - (gi M 101 (l2).toNatClampNeg))))) M))) : Zm E YX8_orderOf d M [(0, vr (some (97, 1, 0))), (1, vi l1), (2, vi l2)] 73 [] Q := by
  refine Zm.l (fun _ _ k_ => z_aload_n dX8_orderOf_73 rfl rfl k_) ?_
  refine zm_getr 3 dX8_orderOf_74 fsX8_20_1 rfl ?_
  refine Zm.l (fun _ _ k_ => z_iload_n dX8_orderOf_77 rfl rfl k_) ?_
  obtain ⟨b_, k⟩ := k
  refine zm_iald dX8_orderOf_78 b_ (by decide) (by decide) ?_
  refine Zm.l (fun _ _ k_ => z_aload_n dX8_orderOf_79 rfl rfl k_) ?_
  refine zm_getr 3 dX8_orderOf_80 fsX8_20_1 rfl ?_
  refine Zm.l (fun _ _ k_ => z_iload_n dX8_orderOf_83 rfl rfl k_) ?_
  obtain ⟨b_, k⟩ := k
  refine zm_iald dX8_orderOf_84 b_ (by decide) (by decide) ?_
  refine Zm.l (fun _ _ k_ => z_isub dX8_orderOf_85 k_) ?_
  exact zm_iret dX8_orderOf_86 rfl rfl k
/-! ScriptTypesModel.bits(III)I -/
theorem bX8_bits_0 : zdec cX8_bits 0 [(0, .iload_n 0, 1)] = true := by decide +kernel
theorem dX8_bits_0 : decode cX8_bits 0 = .ok (.iload_n 0, 1) := zdec_at bX8_bits_0 0 rfl
theorem dX8_bits_1 : decode cX8_bits 1 = .ok (.tableswitch 55 5 9 #[35, 39, 43, 47, 51], 35) := by decide +kernel
theorem bX8_bits_36 : zdec cX8_bits 36 [(36, .iload_n 1, 1), (37, .iload_n 2, 1), (38, .ishl, 1), (39, .ireturn, 1), (40, .iload_n 1, 1), (41, .iload_n 2, 1), (42, .ishr, 1), (43, .ireturn, 1), (44, .iload_n 1, 1), (45, .iload_n 2, 1), (46, .iushr, 1), (47, .ireturn, 1), (48, .iload_n 1, 1), (49, .iload_n 2, 1), (50, .iand, 1), (51, .ireturn, 1)] = true := by decide +kernel
theorem dX8_bits_36 : decode cX8_bits 36 = .ok (.iload_n 1, 1) := zdec_at bX8_bits_36 0 rfl
theorem dX8_bits_37 : decode cX8_bits 37 = .ok (.iload_n 2, 1) := zdec_at bX8_bits_36 1 rfl
theorem dX8_bits_38 : decode cX8_bits 38 = .ok (.ishl, 1) := zdec_at bX8_bits_36 2 rfl
theorem dX8_bits_39 : decode cX8_bits 39 = .ok (.ireturn, 1) := zdec_at bX8_bits_36 3 rfl
theorem dX8_bits_40 : decode cX8_bits 40 = .ok (.iload_n 1, 1) := zdec_at bX8_bits_36 4 rfl
theorem dX8_bits_41 : decode cX8_bits 41 = .ok (.iload_n 2, 1) := zdec_at bX8_bits_36 5 rfl
theorem dX8_bits_42 : decode cX8_bits 42 = .ok (.ishr, 1) := zdec_at bX8_bits_36 6 rfl
theorem dX8_bits_43 : decode cX8_bits 43 = .ok (.ireturn, 1) := zdec_at bX8_bits_36 7 rfl
theorem dX8_bits_44 : decode cX8_bits 44 = .ok (.iload_n 1, 1) := zdec_at bX8_bits_36 8 rfl
theorem dX8_bits_45 : decode cX8_bits 45 = .ok (.iload_n 2, 1) := zdec_at bX8_bits_36 9 rfl
theorem dX8_bits_46 : decode cX8_bits 46 = .ok (.iushr, 1) := zdec_at bX8_bits_36 10 rfl
theorem dX8_bits_47 : decode cX8_bits 47 = .ok (.ireturn, 1) := zdec_at bX8_bits_36 11 rfl
theorem dX8_bits_48 : decode cX8_bits 48 = .ok (.iload_n 1, 1) := zdec_at bX8_bits_36 12 rfl
theorem dX8_bits_49 : decode cX8_bits 49 = .ok (.iload_n 2, 1) := zdec_at bX8_bits_36 13 rfl
theorem dX8_bits_50 : decode cX8_bits 50 = .ok (.iand, 1) := zdec_at bX8_bits_36 14 rfl
theorem dX8_bits_51 : decode cX8_bits 51 = .ok (.ireturn, 1) := zdec_at bX8_bits_36 15 rfl
theorem bX8_bits_52 : zdec cX8_bits 52 [(52, .iload_n 1, 1), (53, .iload_n 2, 1), (54, .ior, 1), (55, .ireturn, 1), (56, .iload_n 1, 1), (57, .iload_n 2, 1), (58, .ixor, 1), (59, .ireturn, 1)] = true := by decide +kernel
theorem dX8_bits_52 : decode cX8_bits 52 = .ok (.iload_n 1, 1) := zdec_at bX8_bits_52 0 rfl
theorem dX8_bits_53 : decode cX8_bits 53 = .ok (.iload_n 2, 1) := zdec_at bX8_bits_52 1 rfl
theorem dX8_bits_54 : decode cX8_bits 54 = .ok (.ior, 1) := zdec_at bX8_bits_52 2 rfl
theorem dX8_bits_55 : decode cX8_bits 55 = .ok (.ireturn, 1) := zdec_at bX8_bits_52 3 rfl
theorem dX8_bits_56 : decode cX8_bits 56 = .ok (.iload_n 1, 1) := zdec_at bX8_bits_52 4 rfl
theorem dX8_bits_57 : decode cX8_bits 57 = .ok (.iload_n 2, 1) := zdec_at bX8_bits_52 5 rfl
theorem dX8_bits_58 : decode cX8_bits 58 = .ok (.ixor, 1) := zdec_at bX8_bits_52 6 rfl
theorem dX8_bits_59 : decode cX8_bits 59 = .ok (.ireturn, 1) := zdec_at bX8_bits_52 7 rfl
theorem sX8_bits_0 {E : zE} {d : Nat} {Q : zO → zM → Prop} (M : zM) (l0 : Int32) (l1 : Int32) (l2 : Int32) (k : if l0 = 5 then (Q (.inl (some (vi (l1 <<< (l2 &&& 31))))) M) else (if l0 = 6 then (Q (.inl (some (vi (l1 >>> (l2 &&& 31))))) M) else (if l0 = 7 then (Q (.inl (some (vi (zus l1 l2)))) M) else (if l0 = 8 then (Q (.inl (some (vi (l1 &&& l2)))) M) else (if l0 = 9 then (Q (.inl (some (vi (l1 ||| l2)))) M) else (Q (.inl (some (vi (l1 ^^^ l2)))) M)))))) : Zm E YX8_bits d M [(0, vi l0), (1, vi l1), (2, vi l2)] 0 [] Q := by
  refine Zm.l (fun _ _ k_ => z_iload_n dX8_bits_0 rfl rfl k_) ?_
  by_cases h0_ : l0 = 5
  · have k := zit h0_ k
    refine Zm.l (fun _ _ k_ => z_tableIn (off := 35) (tgt := 36) dX8_bits_1 (by rw [h0_]; decide) (by rw [h0_]; decide) (by rw [h0_]; rfl) rfl k_) ?_
    refine Zm.l (fun _ _ k_ => z_iload_n dX8_bits_36 rfl rfl k_) ?_
    refine Zm.l (fun _ _ k_ => z_iload_n dX8_bits_37 rfl rfl k_) ?_
    refine Zm.l (fun _ _ k_ => z_ishl dX8_bits_38 k_) ?_
    exact zm_iret dX8_bits_39 rfl rfl k
  · have k := zif h0_ k
    by_cases h1_ : l0 = 6
    · have k := zit h1_ k
      refine Zm.l (fun _ _ k_ => z_tableIn (off := 39) (tgt := 40) dX8_bits_1 (by rw [h1_]; decide) (by rw [h1_]; decide) (by rw [h1_]; rfl) rfl k_) ?_
      refine Zm.l (fun _ _ k_ => z_iload_n dX8_bits_40 rfl rfl k_) ?_
      refine Zm.l (fun _ _ k_ => z_iload_n dX8_bits_41 rfl rfl k_) ?_
      refine Zm.l (fun _ _ k_ => z_ishr dX8_bits_42 k_) ?_
      exact zm_iret dX8_bits_43 rfl rfl k
    · have k := zif h1_ k
      by_cases h2_ : l0 = 7
      · have k := zit h2_ k
        refine Zm.l (fun _ _ k_ => z_tableIn (off := 43) (tgt := 44) dX8_bits_1 (by rw [h2_]; decide) (by rw [h2_]; decide) (by rw [h2_]; rfl) rfl k_) ?_
        refine Zm.l (fun _ _ k_ => z_iload_n dX8_bits_44 rfl rfl k_) ?_
        refine Zm.l (fun _ _ k_ => z_iload_n dX8_bits_45 rfl rfl k_) ?_
        refine Zm.l (fun _ _ k_ => z_iushr dX8_bits_46 k_) ?_
        exact zm_iret dX8_bits_47 rfl rfl k
      · have k := zif h2_ k
        by_cases h3_ : l0 = 8
        · have k := zit h3_ k
          refine Zm.l (fun _ _ k_ => z_tableIn (off := 47) (tgt := 48) dX8_bits_1 (by rw [h3_]; decide) (by rw [h3_]; decide) (by rw [h3_]; rfl) rfl k_) ?_
          refine Zm.l (fun _ _ k_ => z_iload_n dX8_bits_48 rfl rfl k_) ?_
          refine Zm.l (fun _ _ k_ => z_iload_n dX8_bits_49 rfl rfl k_) ?_
          refine Zm.l (fun _ _ k_ => z_iand dX8_bits_50 k_) ?_
          exact zm_iret dX8_bits_51 rfl rfl k
        · have k := zif h3_ k
          by_cases h4_ : l0 = 9
          · have k := zit h4_ k
            refine Zm.l (fun _ _ k_ => z_tableIn (off := 51) (tgt := 52) dX8_bits_1 (by rw [h4_]; decide) (by rw [h4_]; decide) (by rw [h4_]; rfl) rfl k_) ?_
            refine Zm.l (fun _ _ k_ => z_iload_n dX8_bits_52 rfl rfl k_) ?_
            refine Zm.l (fun _ _ k_ => z_iload_n dX8_bits_53 rfl rfl k_) ?_
            refine Zm.l (fun _ _ k_ => z_ior dX8_bits_54 k_) ?_
            exact zm_iret dX8_bits_55 rfl rfl k
          · have k := zif h4_ k
            refine Zm.l (fun _ _ k_ => z_tout (tgt := 56) [5, 6, 7, 8, 9] (by decide) dX8_bits_1 (zall_1 h0_ (zall_1 h1_ (zall_1 h2_ (zall_1 h3_ (zall_1 h4_ zall_0))))) rfl k_) ?_
            refine Zm.l (fun _ _ k_ => z_iload_n dX8_bits_56 rfl rfl k_) ?_
            refine Zm.l (fun _ _ k_ => z_iload_n dX8_bits_57 rfl rfl k_) ?_
            refine Zm.l (fun _ _ k_ => z_ixor dX8_bits_58 k_) ?_
            exact zm_iret dX8_bits_59 rfl rfl k
/-! ScriptTypesModel.call(I)V -/
theorem bX8_call_0 : zdec cX8_call 0 [(0, .aload_n 0, 1), (1, .invokevirtual 879, 3), (4, .iload_n 1, 1), (5, .isub, 1), (6, .iconst 2, 1), (7, .isub, 1), (8, .istore_n 2, 1), (9, .aload_n 0, 1), (10, .iload_n 2, 1), (11, .iconst 2, 1), (12, .iadd, 1), (13, .putfield 998, 3), (16, .aload_n 0, 1), (17, .iload_n 1, 1), (18, .putfield 995, 3), (21, .aload_n 0, 1)] = true := by decide +kernel
theorem dX8_call_0 : decode cX8_call 0 = .ok (.aload_n 0, 1) := zdec_at bX8_call_0 0 rfl
theorem dX8_call_1 : decode cX8_call 1 = .ok (.invokevirtual 879, 3) := zdec_at bX8_call_0 1 rfl
theorem dX8_call_4 : decode cX8_call 4 = .ok (.iload_n 1, 1) := zdec_at bX8_call_0 2 rfl
theorem dX8_call_5 : decode cX8_call 5 = .ok (.isub, 1) := zdec_at bX8_call_0 3 rfl
theorem dX8_call_6 : decode cX8_call 6 = .ok (.iconst 2, 1) := zdec_at bX8_call_0 4 rfl
theorem dX8_call_7 : decode cX8_call 7 = .ok (.isub, 1) := zdec_at bX8_call_0 5 rfl
theorem dX8_call_8 : decode cX8_call 8 = .ok (.istore_n 2, 1) := zdec_at bX8_call_0 6 rfl
theorem dX8_call_9 : decode cX8_call 9 = .ok (.aload_n 0, 1) := zdec_at bX8_call_0 7 rfl
theorem dX8_call_10 : decode cX8_call 10 = .ok (.iload_n 2, 1) := zdec_at bX8_call_0 8 rfl
theorem dX8_call_11 : decode cX8_call 11 = .ok (.iconst 2, 1) := zdec_at bX8_call_0 9 rfl
theorem dX8_call_12 : decode cX8_call 12 = .ok (.iadd, 1) := zdec_at bX8_call_0 10 rfl
theorem dX8_call_13 : decode cX8_call 13 = .ok (.putfield 998, 3) := zdec_at bX8_call_0 11 rfl
theorem dX8_call_16 : decode cX8_call 16 = .ok (.aload_n 0, 1) := zdec_at bX8_call_0 12 rfl
theorem dX8_call_17 : decode cX8_call 17 = .ok (.iload_n 1, 1) := zdec_at bX8_call_0 13 rfl
theorem dX8_call_18 : decode cX8_call 18 = .ok (.putfield 995, 3) := zdec_at bX8_call_0 14 rfl
theorem dX8_call_21 : decode cX8_call 21 = .ok (.aload_n 0, 1) := zdec_at bX8_call_0 15 rfl
theorem bX8_call_22 : zdec cX8_call 22 [(22, .aload_n 0, 1), (23, .getfield 200, 3), (26, .iload_n 2, 1), (27, .iconst 1, 1), (28, .iadd, 1), (29, .iaload, 1), (30, .aload_n 0, 1), (31, .getfield 203, 3), (34, .iload_n 2, 1), (35, .iconst 1, 1), (36, .iadd, 1), (37, .iaload, 1), (38, .aload_n 0, 1), (39, .getfield 200, 3), (42, .iload_n 2, 1), (43, .iaload, 1)] = true := by decide +kernel
theorem dX8_call_22 : decode cX8_call 22 = .ok (.aload_n 0, 1) := zdec_at bX8_call_22 0 rfl
theorem dX8_call_23 : decode cX8_call 23 = .ok (.getfield 200, 3) := zdec_at bX8_call_22 1 rfl
theorem dX8_call_26 : decode cX8_call 26 = .ok (.iload_n 2, 1) := zdec_at bX8_call_22 2 rfl
theorem dX8_call_27 : decode cX8_call 27 = .ok (.iconst 1, 1) := zdec_at bX8_call_22 3 rfl
theorem dX8_call_28 : decode cX8_call 28 = .ok (.iadd, 1) := zdec_at bX8_call_22 4 rfl
theorem dX8_call_29 : decode cX8_call 29 = .ok (.iaload, 1) := zdec_at bX8_call_22 5 rfl
theorem dX8_call_30 : decode cX8_call 30 = .ok (.aload_n 0, 1) := zdec_at bX8_call_22 6 rfl
theorem dX8_call_31 : decode cX8_call 31 = .ok (.getfield 203, 3) := zdec_at bX8_call_22 7 rfl
theorem dX8_call_34 : decode cX8_call 34 = .ok (.iload_n 2, 1) := zdec_at bX8_call_22 8 rfl
theorem dX8_call_35 : decode cX8_call 35 = .ok (.iconst 1, 1) := zdec_at bX8_call_22 9 rfl
theorem dX8_call_36 : decode cX8_call 36 = .ok (.iadd, 1) := zdec_at bX8_call_22 10 rfl
theorem dX8_call_37 : decode cX8_call 37 = .ok (.iaload, 1) := zdec_at bX8_call_22 11 rfl
theorem dX8_call_38 : decode cX8_call 38 = .ok (.aload_n 0, 1) := zdec_at bX8_call_22 12 rfl
theorem dX8_call_39 : decode cX8_call 39 = .ok (.getfield 200, 3) := zdec_at bX8_call_22 13 rfl
theorem dX8_call_42 : decode cX8_call 42 = .ok (.iload_n 2, 1) := zdec_at bX8_call_22 14 rfl
theorem dX8_call_43 : decode cX8_call 43 = .ok (.iaload, 1) := zdec_at bX8_call_22 15 rfl
theorem bX8_call_44 : zdec cX8_call 44 [(44, .aload_n 0, 1), (45, .getfield 203, 3), (48, .iload_n 2, 1), (49, .iaload, 1), (50, .iload_n 1, 1), (51, .iconst 2, 1), (52, .iadd, 1), (53, .iconst (-1), 1), (54, .invokevirtual 1001, 3), (57, .return_, 1)] = true := by decide +kernel
theorem dX8_call_44 : decode cX8_call 44 = .ok (.aload_n 0, 1) := zdec_at bX8_call_44 0 rfl
theorem dX8_call_45 : decode cX8_call 45 = .ok (.getfield 203, 3) := zdec_at bX8_call_44 1 rfl
theorem dX8_call_48 : decode cX8_call 48 = .ok (.iload_n 2, 1) := zdec_at bX8_call_44 2 rfl
theorem dX8_call_49 : decode cX8_call 49 = .ok (.iaload, 1) := zdec_at bX8_call_44 3 rfl
theorem dX8_call_50 : decode cX8_call 50 = .ok (.iload_n 1, 1) := zdec_at bX8_call_44 4 rfl
theorem dX8_call_51 : decode cX8_call 51 = .ok (.iconst 2, 1) := zdec_at bX8_call_44 5 rfl
theorem dX8_call_52 : decode cX8_call 52 = .ok (.iadd, 1) := zdec_at bX8_call_44 6 rfl
theorem dX8_call_53 : decode cX8_call 53 = .ok (.iconst (-1), 1) := zdec_at bX8_call_44 7 rfl
theorem dX8_call_54 : decode cX8_call 54 = .ok (.invokevirtual 1001, 3) := zdec_at bX8_call_44 8 rfl
theorem dX8_call_57 : decode cX8_call 57 = .ok (.return_, 1) := zdec_at bX8_call_44 9 rfl
theorem sX8_call_0 {E : zE} {d : Nat} {Q : zO → zM → Prop} (M : zM) (l1 : Int32) (k : Zm E YX8_top d M (zargs 0 [vr (some (97, 1, 0))]) 0 [] (zma E YX8_call (d + 1) [(0, vr (some (97, 1, 0))), (1, vi l1)] 1 3 [] Q)) : Zm E YX8_call (d + 1) M [(0, vr (some (97, 1, 0))), (1, vi l1)] 0 [] Q := by
  refine Zm.l (fun _ _ k_ => z_aload_n dX8_call_0 rfl rfl k_) ?_
  exact zm_callV (as := []) (st := []) dX8_call_1 vsX8_879_1 (Nat.le_refl _) (Nat.le_of_ble_eq_true rfl) (Nat.le_of_ble_eq_true rfl) rfl k
theorem sX8_call_4 {E : zE} {d : Nat} {Q : zO → zM → Prop} (M : zM) (l1 : Int32) (s0 : Int32) (k : vp_in (((s0 - l1) - (2 : Int32)) + (1 : Int32)) 9600 ∧ (vp_in (((s0 - l1) - (2 : Int32)) + (1 : Int32)) 9600 ∧ (vp_in ((s0 - l1) - (2 : Int32)) 9600 ∧ (vp_in ((s0 - l1) - (2 : Int32)) 9600 ∧ (Zm E YX8_callOf d (si (si M 97 114 (((s0 - l1) - (2 : Int32)) + (2 : Int32))) 97 115 l1) (zargs 0 [vr (some (97, 1, 0)), vi (gi M 160 ((((s0 - l1) - (2 : Int32)) + (1 : Int32))).toNatClampNeg), vi (gi M 161 ((((s0 - l1) - (2 : Int32)) + (1 : Int32))).toNatClampNeg), vi (gi M 160 (((s0 - l1) - (2 : Int32))).toNatClampNeg), vi (gi M 161 (((s0 - l1) - (2 : Int32))).toNatClampNeg), vi (l1 + (2 : Int32)), vi (-1 : Int32)]) 0 [] (zma E YX8_call (d + 1) [] 54 3 [] Q)))))) : Zm E YX8_call (d + 1) M [(0, vr (some (97, 1, 0))), (1, vi l1)] 4 [vi s0] Q := by
  refine Zm.l (fun _ _ k_ => z_iload_n dX8_call_4 rfl rfl k_) ?_
  refine Zm.l (fun _ _ k_ => z_isub dX8_call_5 k_) ?_
  refine Zm.l (fun _ _ k_ => z_iconst (v := 2) dX8_call_6 rfl k_) ?_
  refine Zm.l (fun _ _ k_ => z_isub dX8_call_7 k_) ?_
  refine Zm.l (fun _ _ k_ => z_ist_n dX8_call_8 rfl (by decide) (lv' := [(0, vr (some (97, 1, 0))), (1, vi l1), (2, vi ((s0 - l1) - (2 : Int32)))]) rfl k_) ?_
  refine Zm.l (fun _ _ k_ => z_aload_n dX8_call_9 rfl rfl k_) ?_
  refine Zm.l (fun _ _ k_ => z_iload_n dX8_call_10 rfl rfl k_) ?_
  refine Zm.l (fun _ _ k_ => z_iconst (v := 2) dX8_call_11 rfl k_) ?_
  refine Zm.l (fun _ _ k_ => z_iadd dX8_call_12 k_) ?_
  refine zm_puti (by decide) (by decide) dX8_call_13 (zfwN.w fwX8_998_1) rfl ⟨rfl, rfl⟩ ?_
  refine Zm.l (fun _ _ k_ => z_aload_n dX8_call_16 rfl rfl k_) ?_
  refine Zm.l (fun _ _ k_ => z_iload_n dX8_call_17 rfl rfl k_) ?_
  refine zm_puti (by decide) (by decide) dX8_call_18 (zfwN.w fwX8_995_1) rfl ⟨rfl, rfl⟩ ?_
  refine Zm.l (fun _ _ k_ => z_aload_n dX8_call_21 rfl rfl k_) ?_
  refine Zm.l (fun _ _ k_ => z_aload_n dX8_call_22 rfl rfl k_) ?_
  refine zm_getr 57 dX8_call_23 fsX8_200_1 rfl ?_
  refine Zm.l (fun _ _ k_ => z_iload_n dX8_call_26 rfl rfl k_) ?_
  refine Zm.l (fun _ _ k_ => z_iconst (v := 1) dX8_call_27 rfl k_) ?_
  refine Zm.l (fun _ _ k_ => z_iadd dX8_call_28 k_) ?_
  obtain ⟨b_, k⟩ := k
  refine zm_iald dX8_call_29 b_ (by decide) (by decide) ?_
  refine Zm.l (fun _ _ k_ => z_aload_n dX8_call_30 rfl rfl k_) ?_
  refine zm_getr 58 dX8_call_31 fsX8_203_1 rfl ?_
  refine Zm.l (fun _ _ k_ => z_iload_n dX8_call_34 rfl rfl k_) ?_
  refine Zm.l (fun _ _ k_ => z_iconst (v := 1) dX8_call_35 rfl k_) ?_
  refine Zm.l (fun _ _ k_ => z_iadd dX8_call_36 k_) ?_
  obtain ⟨b_, k⟩ := k
  refine zm_iald dX8_call_37 b_ (by decide) (by decide) ?_
  refine Zm.l (fun _ _ k_ => z_aload_n dX8_call_38 rfl rfl k_) ?_
  refine zm_getr 57 dX8_call_39 fsX8_200_1 rfl ?_
  refine Zm.l (fun _ _ k_ => z_iload_n dX8_call_42 rfl rfl k_) ?_
  obtain ⟨b_, k⟩ := k
  refine zm_iald dX8_call_43 b_ (by decide) (by decide) ?_
  refine Zm.l (fun _ _ k_ => z_aload_n dX8_call_44 rfl rfl k_) ?_
  refine zm_getr 58 dX8_call_45 fsX8_203_1 rfl ?_
  refine Zm.l (fun _ _ k_ => z_iload_n dX8_call_48 rfl rfl k_) ?_
  obtain ⟨b_, k⟩ := k
  refine zm_iald dX8_call_49 b_ (by decide) (by decide) ?_
  refine Zm.l (fun _ _ k_ => z_iload_n dX8_call_50 rfl rfl k_) ?_
  refine Zm.l (fun _ _ k_ => z_iconst (v := 2) dX8_call_51 rfl k_) ?_
  refine Zm.l (fun _ _ k_ => z_iadd dX8_call_52 k_) ?_
  refine Zm.l (fun _ _ k_ => z_iconst (v := -1) dX8_call_53 rfl k_) ?_
  refine Zm.pick [] rfl ?_
  exact zm_callV (as := [vi (gi M 160 ((((s0 - l1) - (2 : Int32)) + (1 : Int32))).toNatClampNeg), vi (gi M 161 ((((s0 - l1) - (2 : Int32)) + (1 : Int32))).toNatClampNeg), vi (gi M 160 (((s0 - l1) - (2 : Int32))).toNatClampNeg), vi (gi M 161 (((s0 - l1) - (2 : Int32))).toNatClampNeg), vi (l1 + (2 : Int32)), vi (-1 : Int32)]) (st := []) dX8_call_54 vsX8_1001_1 (Nat.le_refl _) (Nat.le_of_ble_eq_true rfl) (Nat.le_of_ble_eq_true rfl) rfl k
theorem sX8_call_57 {E : zE} {d : Nat} {Q : zO → zM → Prop} (M : zM)  (k : Q (.inl none) M) : Zm E YX8_call (d + 1) M [] 57 [] Q := by
  exact zm_vret dX8_call_57 rfl k
/-! ScriptTypesModel.callOf(IIIIII)V -/
theorem bX8_callOf_0 : zdec cX8_callOf 0 [(0, .aload_n 0, 1), (1, .iload_n 1, 1), (2, .iload_n 2, 1), (3, .invokevirtual 992, 3), (6, .ifCond .ne 12, 3), (9, .aload_n 0, 1), (10, .bipush 6, 2), (12, .invokevirtual 966, 3), (15, .goto 85, 3), (18, .iload_n 2, 1), (19, .bipush 9, 2), (21, .if_icmp .lt 49, 3), (24, .iload_n 2, 1), (25, .bipush 23, 2), (27, .if_icmp .ge 43, 3), (30, .aload_n 0, 1)] = true := by decide +kernel
theorem dX8_callOf_0 : decode cX8_callOf 0 = .ok (.aload_n 0, 1) := zdec_at bX8_callOf_0 0 rfl
theorem dX8_callOf_1 : decode cX8_callOf 1 = .ok (.iload_n 1, 1) := zdec_at bX8_callOf_0 1 rfl
theorem dX8_callOf_2 : decode cX8_callOf 2 = .ok (.iload_n 2, 1) := zdec_at bX8_callOf_0 2 rfl
theorem dX8_callOf_3 : decode cX8_callOf 3 = .ok (.invokevirtual 992, 3) := zdec_at bX8_callOf_0 3 rfl
theorem dX8_callOf_6 : decode cX8_callOf 6 = .ok (.ifCond .ne 12, 3) := zdec_at bX8_callOf_0 4 rfl
theorem dX8_callOf_9 : decode cX8_callOf 9 = .ok (.aload_n 0, 1) := zdec_at bX8_callOf_0 5 rfl
theorem dX8_callOf_10 : decode cX8_callOf 10 = .ok (.bipush 6, 2) := zdec_at bX8_callOf_0 6 rfl
theorem dX8_callOf_12 : decode cX8_callOf 12 = .ok (.invokevirtual 966, 3) := zdec_at bX8_callOf_0 7 rfl
theorem dX8_callOf_15 : decode cX8_callOf 15 = .ok (.goto 85, 3) := zdec_at bX8_callOf_0 8 rfl
theorem dX8_callOf_18 : decode cX8_callOf 18 = .ok (.iload_n 2, 1) := zdec_at bX8_callOf_0 9 rfl
theorem dX8_callOf_19 : decode cX8_callOf 19 = .ok (.bipush 9, 2) := zdec_at bX8_callOf_0 10 rfl
theorem dX8_callOf_21 : decode cX8_callOf 21 = .ok (.if_icmp .lt 49, 3) := zdec_at bX8_callOf_0 11 rfl
theorem dX8_callOf_24 : decode cX8_callOf 24 = .ok (.iload_n 2, 1) := zdec_at bX8_callOf_0 12 rfl
theorem dX8_callOf_25 : decode cX8_callOf 25 = .ok (.bipush 23, 2) := zdec_at bX8_callOf_0 13 rfl
theorem dX8_callOf_27 : decode cX8_callOf 27 = .ok (.if_icmp .ge 43, 3) := zdec_at bX8_callOf_0 14 rfl
theorem dX8_callOf_30 : decode cX8_callOf 30 = .ok (.aload_n 0, 1) := zdec_at bX8_callOf_0 15 rfl
theorem bX8_callOf_31 : zdec cX8_callOf 31 [(31, .getfield 146, 3), (34, .iload_n 2, 1), (35, .iaload, 1), (36, .ifCond .ne 34, 3), (39, .iload_n 2, 1), (40, .bipush 20, 2), (42, .if_icmp .ne 15, 3), (45, .aload_n 0, 1), (46, .iload_n 3, 1), (47, .iload 4, 2), (49, .iload 5, 2), (51, .invokevirtual 1005, 3), (54, .goto 46, 3), (57, .aload_n 0, 1), (58, .iload_n 2, 1), (59, .iload_n 3, 1)] = true := by decide +kernel
theorem dX8_callOf_31 : decode cX8_callOf 31 = .ok (.getfield 146, 3) := zdec_at bX8_callOf_31 0 rfl
theorem dX8_callOf_34 : decode cX8_callOf 34 = .ok (.iload_n 2, 1) := zdec_at bX8_callOf_31 1 rfl
theorem dX8_callOf_35 : decode cX8_callOf 35 = .ok (.iaload, 1) := zdec_at bX8_callOf_31 2 rfl
theorem dX8_callOf_36 : decode cX8_callOf 36 = .ok (.ifCond .ne 34, 3) := zdec_at bX8_callOf_31 3 rfl
theorem dX8_callOf_39 : decode cX8_callOf 39 = .ok (.iload_n 2, 1) := zdec_at bX8_callOf_31 4 rfl
theorem dX8_callOf_40 : decode cX8_callOf 40 = .ok (.bipush 20, 2) := zdec_at bX8_callOf_31 5 rfl
theorem dX8_callOf_42 : decode cX8_callOf 42 = .ok (.if_icmp .ne 15, 3) := zdec_at bX8_callOf_31 6 rfl
theorem dX8_callOf_45 : decode cX8_callOf 45 = .ok (.aload_n 0, 1) := zdec_at bX8_callOf_31 7 rfl
theorem dX8_callOf_46 : decode cX8_callOf 46 = .ok (.iload_n 3, 1) := zdec_at bX8_callOf_31 8 rfl
theorem dX8_callOf_47 : decode cX8_callOf 47 = .ok (.iload 4, 2) := zdec_at bX8_callOf_31 9 rfl
theorem dX8_callOf_49 : decode cX8_callOf 49 = .ok (.iload 5, 2) := zdec_at bX8_callOf_31 10 rfl
theorem dX8_callOf_51 : decode cX8_callOf 51 = .ok (.invokevirtual 1005, 3) := zdec_at bX8_callOf_31 11 rfl
theorem dX8_callOf_54 : decode cX8_callOf 54 = .ok (.goto 46, 3) := zdec_at bX8_callOf_31 12 rfl
theorem dX8_callOf_57 : decode cX8_callOf 57 = .ok (.aload_n 0, 1) := zdec_at bX8_callOf_31 13 rfl
theorem dX8_callOf_58 : decode cX8_callOf 58 = .ok (.iload_n 2, 1) := zdec_at bX8_callOf_31 14 rfl
theorem dX8_callOf_59 : decode cX8_callOf 59 = .ok (.iload_n 3, 1) := zdec_at bX8_callOf_31 15 rfl
theorem bX8_callOf_60 : zdec cX8_callOf 60 [(60, .iload 4, 2), (62, .iload 5, 2), (64, .invokevirtual 1008, 3), (67, .goto 33, 3), (70, .aload_n 0, 1), (71, .getfield 872, 3), (74, .bipush 24, 2), (76, .if_icmp .ne 12, 3), (79, .aload_n 0, 1), (80, .bipush 8, 2), (82, .invokevirtual 966, 3), (85, .goto 15, 3), (88, .aload_n 0, 1), (89, .iload_n 2, 1), (90, .iload_n 3, 1), (91, .iload 4, 2)] = true := by decide +kernel
theorem dX8_callOf_60 : decode cX8_callOf 60 = .ok (.iload 4, 2) := zdec_at bX8_callOf_60 0 rfl
theorem dX8_callOf_62 : decode cX8_callOf 62 = .ok (.iload 5, 2) := zdec_at bX8_callOf_60 1 rfl
theorem dX8_callOf_64 : decode cX8_callOf 64 = .ok (.invokevirtual 1008, 3) := zdec_at bX8_callOf_60 2 rfl
theorem dX8_callOf_67 : decode cX8_callOf 67 = .ok (.goto 33, 3) := zdec_at bX8_callOf_60 3 rfl
theorem dX8_callOf_70 : decode cX8_callOf 70 = .ok (.aload_n 0, 1) := zdec_at bX8_callOf_60 4 rfl
theorem dX8_callOf_71 : decode cX8_callOf 71 = .ok (.getfield 872, 3) := zdec_at bX8_callOf_60 5 rfl
theorem dX8_callOf_74 : decode cX8_callOf 74 = .ok (.bipush 24, 2) := zdec_at bX8_callOf_60 6 rfl
theorem dX8_callOf_76 : decode cX8_callOf 76 = .ok (.if_icmp .ne 12, 3) := zdec_at bX8_callOf_60 7 rfl
theorem dX8_callOf_79 : decode cX8_callOf 79 = .ok (.aload_n 0, 1) := zdec_at bX8_callOf_60 8 rfl
theorem dX8_callOf_80 : decode cX8_callOf 80 = .ok (.bipush 8, 2) := zdec_at bX8_callOf_60 9 rfl
theorem dX8_callOf_82 : decode cX8_callOf 82 = .ok (.invokevirtual 966, 3) := zdec_at bX8_callOf_60 10 rfl
theorem dX8_callOf_85 : decode cX8_callOf 85 = .ok (.goto 15, 3) := zdec_at bX8_callOf_60 11 rfl
theorem dX8_callOf_88 : decode cX8_callOf 88 = .ok (.aload_n 0, 1) := zdec_at bX8_callOf_60 12 rfl
theorem dX8_callOf_89 : decode cX8_callOf 89 = .ok (.iload_n 2, 1) := zdec_at bX8_callOf_60 13 rfl
theorem dX8_callOf_90 : decode cX8_callOf 90 = .ok (.iload_n 3, 1) := zdec_at bX8_callOf_60 14 rfl
theorem dX8_callOf_91 : decode cX8_callOf 91 = .ok (.iload 4, 2) := zdec_at bX8_callOf_60 15 rfl
theorem bX8_callOf_93 : zdec cX8_callOf 93 [(93, .iload 5, 2), (95, .iload 6, 2), (97, .invokevirtual 1011, 3), (100, .return_, 1)] = true := by decide +kernel
theorem dX8_callOf_93 : decode cX8_callOf 93 = .ok (.iload 5, 2) := zdec_at bX8_callOf_93 0 rfl
theorem dX8_callOf_95 : decode cX8_callOf 95 = .ok (.iload 6, 2) := zdec_at bX8_callOf_93 1 rfl
theorem dX8_callOf_97 : decode cX8_callOf 97 = .ok (.invokevirtual 1011, 3) := zdec_at bX8_callOf_93 2 rfl
theorem dX8_callOf_100 : decode cX8_callOf 100 = .ok (.return_, 1) := zdec_at bX8_callOf_93 3 rfl
theorem sX8_callOf_0 {E : zE} {d : Nat} {Q : zO → zM → Prop} (M : zM) (l1 : Int32) (l2 : Int32) (l3 : Int32) (l4 : Int32) (l5 : Int32) (l6 : Int32) (k : Zm E YX8_isFunction d M (zargs 0 [vr (some (97, 1, 0)), vi l1, vi l2]) 0 [] (zma E YX8_callOf (d + 1) [(0, vr (some (97, 1, 0))), (2, vi l2), (3, vi l3), (4, vi l4), (5, vi l5), (6, vi l6)] 3 3 [] Q)) : Zm E YX8_callOf (d + 1) M [(0, vr (some (97, 1, 0))), (1, vi l1), (2, vi l2), (3, vi l3), (4, vi l4), (5, vi l5), (6, vi l6)] 0 [] Q := by
  refine Zm.l (fun _ _ k_ => z_aload_n dX8_callOf_0 rfl rfl k_) ?_
  refine Zm.l (fun _ _ k_ => z_iload_n dX8_callOf_1 rfl rfl k_) ?_
  refine Zm.l (fun _ _ k_ => z_iload_n dX8_callOf_2 rfl rfl k_) ?_
  refine Zm.pick [0, 2, 3, 4, 5, 6] rfl ?_
  exact zm_callV (as := [vi l1, vi l2]) (st := []) dX8_callOf_3 vsX8_992_1 (Nat.le_refl _) (Nat.le_of_ble_eq_true rfl) (Nat.le_of_ble_eq_true rfl) rfl k
theorem sX8_callOf_6 {E : zE} {d : Nat} {Q : zO → zM → Prop} (M : zM) (l2 : Int32) (l3 : Int32) (l4 : Int32) (l5 : Int32) (l6 : Int32) (s0 : Int32) (k : if s0 = 0 then (Zm E YX8_error d M (zargs 0 [vr (some (97, 1, 0)), vi (6 : Int32)]) 0 [] (zma E YX8_callOf (d + 1) [] 12 3 [] Q)) else (if l2 < (9 : Int32) then (Zm E YX8_callOf (d + 1) M [(0, vr (some (97, 1, 0))), (2, vi l2), (3, vi l3), (4, vi l4), (5, vi l5), (6, vi l6)] 70 [] Q) else (if (23 : Int32) ≤ l2 then (Zm E YX8_callOf (d + 1) M [(0, vr (some (97, 1, 0))), (2, vi l2), (3, vi l3), (4, vi l4), (5, vi l5), (6, vi l6)] 70 [] Q) else (vp_in l2 300 ∧ (if (gi M 142 (l2).toNatClampNeg) = 0 then (if l2 = (20 : Int32) then (Zm E YX8_callAgain d M (zargs 0 [vr (some (97, 1, 0)), vi l3, vi l4, vi l5]) 0 [] (zma E YX8_callOf (d + 1) [] 51 3 [] Q)) else (Zm E YX8_nativeOf d M (zargs 0 [vr (some (97, 1, 0)), vi l2, vi l3, vi l4, vi l5]) 0 [] (zma E YX8_callOf (d + 1) [] 64 3 [] Q))) else (Zm E YX8_callOf (d + 1) M [(0, vr (some (97, 1, 0))), (2, vi l2), (3, vi l3), (4, vi l4), (5, vi l5), (6, vi l6)] 70 [] Q)))))) : Zm E YX8_callOf (d + 1) M [(0, vr (some (97, 1, 0))), (2, vi l2), (3, vi l3), (4, vi l4), (5, vi l5), (6, vi l6)] 6 [vi s0] Q := by
  refine Zm.brn (fun _ _ k1_ k2_ => z_if_ne (tgt := 18) dX8_callOf_6 rfl k1_ k2_) (fun h_ => ?_) (fun h_ => ?_)
  · have k := zif h_ k
    refine Zm.l (fun _ _ k_ => z_iload_n dX8_callOf_18 rfl rfl k_) ?_
    refine Zm.l (fun _ _ k_ => z_bipush (v := 9) dX8_callOf_19 rfl k_) ?_
    refine Zm.br (fun _ _ k1_ k2_ => z_icmp_lt (tgt := 70) dX8_callOf_21 rfl k1_ k2_) (fun h_ => ?_) (fun h_ => ?_)
    · have k := zit h_ k
      exact k
    · have k := zif h_ k
      refine Zm.l (fun _ _ k_ => z_iload_n dX8_callOf_24 rfl rfl k_) ?_
      refine Zm.l (fun _ _ k_ => z_bipush (v := 23) dX8_callOf_25 rfl k_) ?_
      refine Zm.br (fun _ _ k1_ k2_ => z_icmp_ge (tgt := 70) dX8_callOf_27 rfl k1_ k2_) (fun h_ => ?_) (fun h_ => ?_)
      · have k := zit h_ k
        exact k
      · have k := zif h_ k
        refine Zm.l (fun _ _ k_ => z_aload_n dX8_callOf_30 rfl rfl k_) ?_
        refine zm_getr 39 dX8_callOf_31 fsX8_146_1 rfl ?_
        refine Zm.l (fun _ _ k_ => z_iload_n dX8_callOf_34 rfl rfl k_) ?_
        obtain ⟨b_, k⟩ := k
        refine zm_iald dX8_callOf_35 b_ (by decide) (by decide) ?_
        refine Zm.brn (fun _ _ k1_ k2_ => z_if_ne (tgt := 70) dX8_callOf_36 rfl k1_ k2_) (fun h_ => ?_) (fun h_ => ?_)
        · have k := zif h_ k
          exact k
        · have k := zit h_ k
          refine Zm.l (fun _ _ k_ => z_iload_n dX8_callOf_39 rfl rfl k_) ?_
          refine Zm.l (fun _ _ k_ => z_bipush (v := 20) dX8_callOf_40 rfl k_) ?_
          refine Zm.brn (fun _ _ k1_ k2_ => z_icmp_ne (tgt := 57) dX8_callOf_42 rfl k1_ k2_) (fun h_ => ?_) (fun h_ => ?_)
          · have k := zif h_ k
            refine Zm.l (fun _ _ k_ => z_aload_n dX8_callOf_57 rfl rfl k_) ?_
            refine Zm.l (fun _ _ k_ => z_iload_n dX8_callOf_58 rfl rfl k_) ?_
            refine Zm.l (fun _ _ k_ => z_iload_n dX8_callOf_59 rfl rfl k_) ?_
            refine Zm.l (fun _ _ k_ => z_iload dX8_callOf_60 rfl k_) ?_
            refine Zm.l (fun _ _ k_ => z_iload dX8_callOf_62 rfl k_) ?_
            refine Zm.pick [] rfl ?_
            exact zm_callV (as := [vi l2, vi l3, vi l4, vi l5]) (st := []) dX8_callOf_64 vsX8_1008_1 (Nat.le_refl _) (Nat.le_of_ble_eq_true rfl) (Nat.le_of_ble_eq_true rfl) rfl k
          · have k := zit h_ k
            refine Zm.l (fun _ _ k_ => z_aload_n dX8_callOf_45 rfl rfl k_) ?_
            refine Zm.l (fun _ _ k_ => z_iload_n dX8_callOf_46 rfl rfl k_) ?_
            refine Zm.l (fun _ _ k_ => z_iload dX8_callOf_47 rfl k_) ?_
            refine Zm.l (fun _ _ k_ => z_iload dX8_callOf_49 rfl k_) ?_
            refine Zm.pick [] rfl ?_
            exact zm_callV (as := [vi l3, vi l4, vi l5]) (st := []) dX8_callOf_51 vsX8_1005_1 (Nat.le_refl _) (Nat.le_of_ble_eq_true rfl) (Nat.le_of_ble_eq_true rfl) rfl k
  · have k := zit h_ k
    refine Zm.l (fun _ _ k_ => z_aload_n dX8_callOf_9 rfl rfl k_) ?_
    refine Zm.l (fun _ _ k_ => z_bipush (v := 6) dX8_callOf_10 rfl k_) ?_
    refine Zm.pick [] rfl ?_
    exact zm_callV (as := [vi (6 : Int32)]) (st := []) dX8_callOf_12 vsX8_966_1 (Nat.le_refl _) (Nat.le_of_ble_eq_true rfl) (Nat.le_of_ble_eq_true rfl) rfl k
theorem sX8_callOf_15 {E : zE} {d : Nat} {Q : zO → zM → Prop} (M : zM)  (k : Zm E YX8_callOf (d + 1) M [] 100 [] Q) : Zm E YX8_callOf (d + 1) M [] 15 [] Q := by
  refine Zm.l (fun _ _ k_ => z_goto (tgt := 100) dX8_callOf_15 rfl k_) ?_
  exact k
theorem sX8_callOf_54 {E : zE} {d : Nat} {Q : zO → zM → Prop} (M : zM)  (k : Zm E YX8_callOf (d + 1) M [] 100 [] Q) : Zm E YX8_callOf (d + 1) M [] 54 [] Q := by
  refine Zm.l (fun _ _ k_ => z_goto (tgt := 100) dX8_callOf_54 rfl k_) ?_
  exact k
theorem sX8_callOf_67 {E : zE} {d : Nat} {Q : zO → zM → Prop} (M : zM)  (k : Zm E YX8_callOf (d + 1) M [] 100 [] Q) : Zm E YX8_callOf (d + 1) M [] 67 [] Q := by
  refine Zm.l (fun _ _ k_ => z_goto (tgt := 100) dX8_callOf_67 rfl k_) ?_
  exact k
theorem sX8_callOf_70 {E : zE} {d : Nat} {Q : zO → zM → Prop} (M : zM) (l2 : Int32) (l3 : Int32) (l4 : Int32) (l5 : Int32) (l6 : Int32) (k : if (gi M 97 92) = (24 : Int32) then (Zm E YX8_error d M (zargs 0 [vr (some (97, 1, 0)), vi (8 : Int32)]) 0 [] (zma E YX8_callOf (d + 1) [] 82 3 [] Q)) else (Zm E YX8_enter d M (zargs 0 [vr (some (97, 1, 0)), vi l2, vi l3, vi l4, vi l5, vi l6]) 0 [] (zma E YX8_callOf (d + 1) [] 97 3 [] Q))) : Zm E YX8_callOf (d + 1) M [(0, vr (some (97, 1, 0))), (2, vi l2), (3, vi l3), (4, vi l4), (5, vi l5), (6, vi l6)] 70 [] Q := by
  refine Zm.l (fun _ _ k_ => z_aload_n dX8_callOf_70 rfl rfl k_) ?_
  refine zm_geti dX8_callOf_71 fsX8_872_1 (by decide) (by decide) ?_
  refine Zm.l (fun _ _ k_ => z_bipush (v := 24) dX8_callOf_74 rfl k_) ?_
  refine Zm.brn (fun _ _ k1_ k2_ => z_icmp_ne (tgt := 88) dX8_callOf_76 rfl k1_ k2_) (fun h_ => ?_) (fun h_ => ?_)
  · have k := zif h_ k
    refine Zm.l (fun _ _ k_ => z_aload_n dX8_callOf_88 rfl rfl k_) ?_
    refine Zm.l (fun _ _ k_ => z_iload_n dX8_callOf_89 rfl rfl k_) ?_
    refine Zm.l (fun _ _ k_ => z_iload_n dX8_callOf_90 rfl rfl k_) ?_
    refine Zm.l (fun _ _ k_ => z_iload dX8_callOf_91 rfl k_) ?_
    refine Zm.l (fun _ _ k_ => z_iload dX8_callOf_93 rfl k_) ?_
    refine Zm.l (fun _ _ k_ => z_iload dX8_callOf_95 rfl k_) ?_
    refine Zm.pick [] rfl ?_
    exact zm_callV (as := [vi l2, vi l3, vi l4, vi l5, vi l6]) (st := []) dX8_callOf_97 vsX8_1011_1 (Nat.le_refl _) (Nat.le_of_ble_eq_true rfl) (Nat.le_of_ble_eq_true rfl) rfl k
  · have k := zit h_ k
    refine Zm.l (fun _ _ k_ => z_aload_n dX8_callOf_79 rfl rfl k_) ?_
    refine Zm.l (fun _ _ k_ => z_bipush (v := 8) dX8_callOf_80 rfl k_) ?_
    refine Zm.pick [] rfl ?_
    exact zm_callV (as := [vi (8 : Int32)]) (st := []) dX8_callOf_82 vsX8_966_1 (Nat.le_refl _) (Nat.le_of_ble_eq_true rfl) (Nat.le_of_ble_eq_true rfl) rfl k
theorem sX8_callOf_85 {E : zE} {d : Nat} {Q : zO → zM → Prop} (M : zM)  (k : Zm E YX8_callOf (d + 1) M [] 100 [] Q) : Zm E YX8_callOf (d + 1) M [] 85 [] Q := by
  refine Zm.l (fun _ _ k_ => z_goto (tgt := 100) dX8_callOf_85 rfl k_) ?_
  exact k
theorem sX8_callOf_100 {E : zE} {d : Nat} {Q : zO → zM → Prop} (M : zM)  (k : Q (.inl none) M) : Zm E YX8_callOf (d + 1) M [] 100 [] Q := by
  exact zm_vret dX8_callOf_100 rfl k
/-! ScriptTypesModel.callAgain(III)V -/
theorem bX8_callAgain_0 : zdec cX8_callAgain 0 [(0, .aload_n 0, 1), (1, .iconst 0, 1), (2, .invokevirtual 1014, 3), (5, .istore 4, 2), (7, .aload_n 0, 1), (8, .iconst 0, 1), (9, .invokevirtual 1017, 3), (12, .istore 5, 2), (14, .aload_n 0, 1), (15, .getfield 995, 3), (18, .ifCond .le 23, 3), (21, .aload_n 0, 1), (22, .dup, 1), (23, .getfield 998, 3), (26, .iconst 1, 1), (27, .iadd, 1)] = true := by decide +kernel
theorem dX8_callAgain_0 : decode cX8_callAgain 0 = .ok (.aload_n 0, 1) := zdec_at bX8_callAgain_0 0 rfl
theorem dX8_callAgain_1 : decode cX8_callAgain 1 = .ok (.iconst 0, 1) := zdec_at bX8_callAgain_0 1 rfl
theorem dX8_callAgain_2 : decode cX8_callAgain 2 = .ok (.invokevirtual 1014, 3) := zdec_at bX8_callAgain_0 2 rfl
theorem dX8_callAgain_5 : decode cX8_callAgain 5 = .ok (.istore 4, 2) := zdec_at bX8_callAgain_0 3 rfl
theorem dX8_callAgain_7 : decode cX8_callAgain 7 = .ok (.aload_n 0, 1) := zdec_at bX8_callAgain_0 4 rfl
theorem dX8_callAgain_8 : decode cX8_callAgain 8 = .ok (.iconst 0, 1) := zdec_at bX8_callAgain_0 5 rfl
theorem dX8_callAgain_9 : decode cX8_callAgain 9 = .ok (.invokevirtual 1017, 3) := zdec_at bX8_callAgain_0 6 rfl
theorem dX8_callAgain_12 : decode cX8_callAgain 12 = .ok (.istore 5, 2) := zdec_at bX8_callAgain_0 7 rfl
theorem dX8_callAgain_14 : decode cX8_callAgain 14 = .ok (.aload_n 0, 1) := zdec_at bX8_callAgain_0 8 rfl
theorem dX8_callAgain_15 : decode cX8_callAgain 15 = .ok (.getfield 995, 3) := zdec_at bX8_callAgain_0 9 rfl
theorem dX8_callAgain_18 : decode cX8_callAgain 18 = .ok (.ifCond .le 23, 3) := zdec_at bX8_callAgain_0 10 rfl
theorem dX8_callAgain_21 : decode cX8_callAgain 21 = .ok (.aload_n 0, 1) := zdec_at bX8_callAgain_0 11 rfl
theorem dX8_callAgain_22 : decode cX8_callAgain 22 = .ok (.dup, 1) := zdec_at bX8_callAgain_0 12 rfl
theorem dX8_callAgain_23 : decode cX8_callAgain 23 = .ok (.getfield 998, 3) := zdec_at bX8_callAgain_0 13 rfl
theorem dX8_callAgain_26 : decode cX8_callAgain 26 = .ok (.iconst 1, 1) := zdec_at bX8_callAgain_0 14 rfl
theorem dX8_callAgain_27 : decode cX8_callAgain 27 = .ok (.iadd, 1) := zdec_at bX8_callAgain_0 15 rfl
theorem bX8_callAgain_28 : zdec cX8_callAgain 28 [(28, .putfield 998, 3), (31, .aload_n 0, 1), (32, .dup, 1), (33, .getfield 995, 3), (36, .iconst 1, 1), (37, .isub, 1), (38, .putfield 995, 3), (41, .aload_n 0, 1), (42, .iload_n 1, 1), (43, .iload_n 2, 1), (44, .iload 4, 2), (46, .iload 5, 2), (48, .iload_n 3, 1), (49, .iconst (-1), 1), (50, .invokevirtual 1001, 3), (53, .return_, 1)] = true := by decide +kernel
theorem dX8_callAgain_28 : decode cX8_callAgain 28 = .ok (.putfield 998, 3) := zdec_at bX8_callAgain_28 0 rfl
theorem dX8_callAgain_31 : decode cX8_callAgain 31 = .ok (.aload_n 0, 1) := zdec_at bX8_callAgain_28 1 rfl
theorem dX8_callAgain_32 : decode cX8_callAgain 32 = .ok (.dup, 1) := zdec_at bX8_callAgain_28 2 rfl
theorem dX8_callAgain_33 : decode cX8_callAgain 33 = .ok (.getfield 995, 3) := zdec_at bX8_callAgain_28 3 rfl
theorem dX8_callAgain_36 : decode cX8_callAgain 36 = .ok (.iconst 1, 1) := zdec_at bX8_callAgain_28 4 rfl
theorem dX8_callAgain_37 : decode cX8_callAgain 37 = .ok (.isub, 1) := zdec_at bX8_callAgain_28 5 rfl
theorem dX8_callAgain_38 : decode cX8_callAgain 38 = .ok (.putfield 995, 3) := zdec_at bX8_callAgain_28 6 rfl
theorem dX8_callAgain_41 : decode cX8_callAgain 41 = .ok (.aload_n 0, 1) := zdec_at bX8_callAgain_28 7 rfl
theorem dX8_callAgain_42 : decode cX8_callAgain 42 = .ok (.iload_n 1, 1) := zdec_at bX8_callAgain_28 8 rfl
theorem dX8_callAgain_43 : decode cX8_callAgain 43 = .ok (.iload_n 2, 1) := zdec_at bX8_callAgain_28 9 rfl
theorem dX8_callAgain_44 : decode cX8_callAgain 44 = .ok (.iload 4, 2) := zdec_at bX8_callAgain_28 10 rfl
theorem dX8_callAgain_46 : decode cX8_callAgain 46 = .ok (.iload 5, 2) := zdec_at bX8_callAgain_28 11 rfl
theorem dX8_callAgain_48 : decode cX8_callAgain 48 = .ok (.iload_n 3, 1) := zdec_at bX8_callAgain_28 12 rfl
theorem dX8_callAgain_49 : decode cX8_callAgain 49 = .ok (.iconst (-1), 1) := zdec_at bX8_callAgain_28 13 rfl
theorem dX8_callAgain_50 : decode cX8_callAgain 50 = .ok (.invokevirtual 1001, 3) := zdec_at bX8_callAgain_28 14 rfl
theorem dX8_callAgain_53 : decode cX8_callAgain 53 = .ok (.return_, 1) := zdec_at bX8_callAgain_28 15 rfl
theorem sX8_callAgain_0 {E : zE} {d : Nat} {Q : zO → zM → Prop} (M : zM) (l1 : Int32) (l2 : Int32) (l3 : Int32) (k : Zm E YX8_argumentSort d M (zargs 0 [vr (some (97, 1, 0)), vi (0 : Int32)]) 0 [] (zma E YX8_callAgain (d + 1) [(0, vr (some (97, 1, 0))), (1, vi l1), (2, vi l2), (3, vi l3)] 2 3 [] Q)) : Zm E YX8_callAgain (d + 1) M [(0, vr (some (97, 1, 0))), (1, vi l1), (2, vi l2), (3, vi l3)] 0 [] Q := by
  refine Zm.l (fun _ _ k_ => z_aload_n dX8_callAgain_0 rfl rfl k_) ?_
  refine Zm.l (fun _ _ k_ => z_iconst (v := 0) dX8_callAgain_1 rfl k_) ?_
  exact zm_callV (as := [vi (0 : Int32)]) (st := []) dX8_callAgain_2 vsX8_1014_1 (Nat.le_refl _) (Nat.le_of_ble_eq_true rfl) (Nat.le_of_ble_eq_true rfl) rfl k
theorem sX8_callAgain_5 {E : zE} {d : Nat} {Q : zO → zM → Prop} (M : zM) (l1 : Int32) (l2 : Int32) (l3 : Int32) (s0 : Int32) (k : Zm E YX8_argument d M (zargs 0 [vr (some (97, 1, 0)), vi (0 : Int32)]) 0 [] (zma E YX8_callAgain (d + 1) [(0, vr (some (97, 1, 0))), (1, vi l1), (2, vi l2), (3, vi l3), (4, vi s0)] 9 3 [] Q)) : Zm E YX8_callAgain (d + 1) M [(0, vr (some (97, 1, 0))), (1, vi l1), (2, vi l2), (3, vi l3)] 5 [vi s0] Q := by
  refine Zm.l (fun _ _ k_ => z_ist dX8_callAgain_5 (by decide) (lv' := [(0, vr (some (97, 1, 0))), (1, vi l1), (2, vi l2), (3, vi l3), (4, vi s0)]) rfl k_) ?_
  refine Zm.l (fun _ _ k_ => z_aload_n dX8_callAgain_7 rfl rfl k_) ?_
  refine Zm.l (fun _ _ k_ => z_iconst (v := 0) dX8_callAgain_8 rfl k_) ?_
  exact zm_callV (as := [vi (0 : Int32)]) (st := []) dX8_callAgain_9 vsX8_1017_1 (Nat.le_refl _) (Nat.le_of_ble_eq_true rfl) (Nat.le_of_ble_eq_true rfl) rfl k
theorem sX8_callAgain_12 {E : zE} {d : Nat} {Q : zO → zM → Prop} (M : zM) (l1 : Int32) (l2 : Int32) (l3 : Int32) (l4 : Int32) (s0 : Int32) (k : if (gi M 97 115) ≤ 0 then (Zm E YX8_callAgain (d + 1) M [(0, vr (some (97, 1, 0))), (1, vi l1), (2, vi l2), (3, vi l3), (4, vi l4), (5, vi s0)] 41 [] Q) else (Zm E YX8_callAgain (d + 1) (si (si M 97 114 ((gi M 97 114) + (1 : Int32))) 97 115 ((gi M 97 115) - (1 : Int32))) [(0, vr (some (97, 1, 0))), (1, vi l1), (2, vi l2), (3, vi l3), (4, vi l4), (5, vi s0)] 41 [] Q)) : Zm E YX8_callAgain (d + 1) M [(0, vr (some (97, 1, 0))), (1, vi l1), (2, vi l2), (3, vi l3), (4, vi l4)] 12 [vi s0] Q := by
  refine Zm.l (fun _ _ k_ => z_ist dX8_callAgain_12 (by decide) (lv' := [(0, vr (some (97, 1, 0))), (1, vi l1), (2, vi l2), (3, vi l3), (4, vi l4), (5, vi s0)]) rfl k_) ?_
  refine Zm.l (fun _ _ k_ => z_aload_n dX8_callAgain_14 rfl rfl k_) ?_
  refine zm_geti dX8_callAgain_15 fsX8_995_1 (by decide) (by decide) ?_
  refine Zm.br (fun _ _ k1_ k2_ => z_if_le (tgt := 41) dX8_callAgain_18 rfl k1_ k2_) (fun h_ => ?_) (fun h_ => ?_)
  · have k := zit h_ k
    exact k
  · have k := zif h_ k
    refine Zm.l (fun _ _ k_ => z_aload_n dX8_callAgain_21 rfl rfl k_) ?_
    refine Zm.l (fun _ _ k_ => z_dup dX8_callAgain_22 rfl k_) ?_
    refine zm_geti dX8_callAgain_23 fsX8_998_1 (by decide) (by decide) ?_
    refine Zm.l (fun _ _ k_ => z_iconst (v := 1) dX8_callAgain_26 rfl k_) ?_
    refine Zm.l (fun _ _ k_ => z_iadd dX8_callAgain_27 k_) ?_
    refine zm_puti (by decide) (by decide) dX8_callAgain_28 (zfwN.w fwX8_998_1) rfl ⟨rfl, rfl⟩ ?_
    refine Zm.l (fun _ _ k_ => z_aload_n dX8_callAgain_31 rfl rfl k_) ?_
    refine Zm.l (fun _ _ k_ => z_dup dX8_callAgain_32 rfl k_) ?_
    refine zm_geti dX8_callAgain_33 fsX8_995_1 (by decide) (by decide) ?_
    refine Zm.l (fun _ _ k_ => z_iconst (v := 1) dX8_callAgain_36 rfl k_) ?_
    refine Zm.l (fun _ _ k_ => z_isub dX8_callAgain_37 k_) ?_
    refine zm_puti (by decide) (by decide) dX8_callAgain_38 (zfwN.w fwX8_995_1) rfl ⟨rfl, rfl⟩ ?_
    exact k
theorem sX8_callAgain_41 {E : zE} {d : Nat} {Q : zO → zM → Prop} (M : zM) (l1 : Int32) (l2 : Int32) (l3 : Int32) (l4 : Int32) (l5 : Int32) (k : Zm E YX8_callOf d M (zargs 0 [vr (some (97, 1, 0)), vi l1, vi l2, vi l4, vi l5, vi l3, vi (-1 : Int32)]) 0 [] (zma E YX8_callAgain (d + 1) [] 50 3 [] Q)) : Zm E YX8_callAgain (d + 1) M [(0, vr (some (97, 1, 0))), (1, vi l1), (2, vi l2), (3, vi l3), (4, vi l4), (5, vi l5)] 41 [] Q := by
  refine Zm.l (fun _ _ k_ => z_aload_n dX8_callAgain_41 rfl rfl k_) ?_
  refine Zm.l (fun _ _ k_ => z_iload_n dX8_callAgain_42 rfl rfl k_) ?_
  refine Zm.l (fun _ _ k_ => z_iload_n dX8_callAgain_43 rfl rfl k_) ?_
  refine Zm.l (fun _ _ k_ => z_iload dX8_callAgain_44 rfl k_) ?_
  refine Zm.l (fun _ _ k_ => z_iload dX8_callAgain_46 rfl k_) ?_
  refine Zm.l (fun _ _ k_ => z_iload_n dX8_callAgain_48 rfl rfl k_) ?_
  refine Zm.l (fun _ _ k_ => z_iconst (v := -1) dX8_callAgain_49 rfl k_) ?_
  refine Zm.pick [] rfl ?_
  exact zm_callV (as := [vi l1, vi l2, vi l4, vi l5, vi l3, vi (-1 : Int32)]) (st := []) dX8_callAgain_50 vsX8_1001_1 (Nat.le_refl _) (Nat.le_of_ble_eq_true rfl) (Nat.le_of_ble_eq_true rfl) rfl k
theorem sX8_callAgain_53 {E : zE} {d : Nat} {Q : zO → zM → Prop} (M : zM)  (k : Q (.inl none) M) : Zm E YX8_callAgain (d + 1) M [] 53 [] Q := by
  exact zm_vret dX8_callAgain_53 rfl k
/-! ScriptTypesModel.argumentSort(I)I -/
theorem bX8_argumentSort_0 : zdec cX8_argumentSort 0 [(0, .iload_n 1, 1), (1, .aload_n 0, 1), (2, .getfield 995, 3), (5, .if_icmp .ge 17, 3), (8, .aload_n 0, 1), (9, .getfield 200, 3), (12, .aload_n 0, 1), (13, .getfield 998, 3), (16, .iload_n 1, 1), (17, .iadd, 1), (18, .iaload, 1), (19, .goto 4, 3), (22, .iconst 0, 1), (23, .ireturn, 1)] = true := by decide +kernel
theorem dX8_argumentSort_0 : decode cX8_argumentSort 0 = .ok (.iload_n 1, 1) := zdec_at bX8_argumentSort_0 0 rfl
theorem dX8_argumentSort_1 : decode cX8_argumentSort 1 = .ok (.aload_n 0, 1) := zdec_at bX8_argumentSort_0 1 rfl
theorem dX8_argumentSort_2 : decode cX8_argumentSort 2 = .ok (.getfield 995, 3) := zdec_at bX8_argumentSort_0 2 rfl
theorem dX8_argumentSort_5 : decode cX8_argumentSort 5 = .ok (.if_icmp .ge 17, 3) := zdec_at bX8_argumentSort_0 3 rfl
theorem dX8_argumentSort_8 : decode cX8_argumentSort 8 = .ok (.aload_n 0, 1) := zdec_at bX8_argumentSort_0 4 rfl
theorem dX8_argumentSort_9 : decode cX8_argumentSort 9 = .ok (.getfield 200, 3) := zdec_at bX8_argumentSort_0 5 rfl
theorem dX8_argumentSort_12 : decode cX8_argumentSort 12 = .ok (.aload_n 0, 1) := zdec_at bX8_argumentSort_0 6 rfl
theorem dX8_argumentSort_13 : decode cX8_argumentSort 13 = .ok (.getfield 998, 3) := zdec_at bX8_argumentSort_0 7 rfl
theorem dX8_argumentSort_16 : decode cX8_argumentSort 16 = .ok (.iload_n 1, 1) := zdec_at bX8_argumentSort_0 8 rfl
theorem dX8_argumentSort_17 : decode cX8_argumentSort 17 = .ok (.iadd, 1) := zdec_at bX8_argumentSort_0 9 rfl
theorem dX8_argumentSort_18 : decode cX8_argumentSort 18 = .ok (.iaload, 1) := zdec_at bX8_argumentSort_0 10 rfl
theorem dX8_argumentSort_19 : decode cX8_argumentSort 19 = .ok (.goto 4, 3) := zdec_at bX8_argumentSort_0 11 rfl
theorem dX8_argumentSort_22 : decode cX8_argumentSort 22 = .ok (.iconst 0, 1) := zdec_at bX8_argumentSort_0 12 rfl
theorem dX8_argumentSort_23 : decode cX8_argumentSort 23 = .ok (.ireturn, 1) := zdec_at bX8_argumentSort_0 13 rfl
theorem sX8_argumentSort_0 {E : zE} {d : Nat} {Q : zO → zM → Prop} (M : zM) (l1 : Int32) (k : if (gi M 97 115) ≤ l1 then (Q (.inl (some (vi (0 : Int32)))) M) else (vp_in ((gi M 97 114) + l1) 9600 ∧ (Q (.inl (some (vi (gi M 160 (((gi M 97 114) + l1)).toNatClampNeg)))) M))) : Zm E YX8_argumentSort d M [(0, vr (some (97, 1, 0))), (1, vi l1)] 0 [] Q := by
  refine Zm.l (fun _ _ k_ => z_iload_n dX8_argumentSort_0 rfl rfl k_) ?_
  refine Zm.l (fun _ _ k_ => z_aload_n dX8_argumentSort_1 rfl rfl k_) ?_
  refine zm_geti dX8_argumentSort_2 fsX8_995_1 (by decide) (by decide) ?_
  refine Zm.br (fun _ _ k1_ k2_ => z_icmp_ge (tgt := 22) dX8_argumentSort_5 rfl k1_ k2_) (fun h_ => ?_) (fun h_ => ?_)
  · have k := zit h_ k
    refine Zm.l (fun _ _ k_ => z_iconst (v := 0) dX8_argumentSort_22 rfl k_) ?_
    exact zm_iret dX8_argumentSort_23 rfl rfl k
  · have k := zif h_ k
    refine Zm.l (fun _ _ k_ => z_aload_n dX8_argumentSort_8 rfl rfl k_) ?_
    refine zm_getr 57 dX8_argumentSort_9 fsX8_200_1 rfl ?_
    refine Zm.l (fun _ _ k_ => z_aload_n dX8_argumentSort_12 rfl rfl k_) ?_
    refine zm_geti dX8_argumentSort_13 fsX8_998_1 (by decide) (by decide) ?_
    refine Zm.l (fun _ _ k_ => z_iload_n dX8_argumentSort_16 rfl rfl k_) ?_
    refine Zm.l (fun _ _ k_ => z_iadd dX8_argumentSort_17 k_) ?_
    obtain ⟨b_, k⟩ := k
    refine zm_iald dX8_argumentSort_18 b_ (by decide) (by decide) ?_
    refine Zm.l (fun _ _ k_ => z_goto (tgt := 23) dX8_argumentSort_19 rfl k_) ?_
    exact zm_iret dX8_argumentSort_23 rfl rfl k
/-! ScriptTypesModel.argument(I)I -/
theorem bX8_argument_0 : zdec cX8_argument 0 [(0, .iload_n 1, 1), (1, .aload_n 0, 1), (2, .getfield 995, 3), (5, .if_icmp .ge 17, 3), (8, .aload_n 0, 1), (9, .getfield 203, 3), (12, .aload_n 0, 1), (13, .getfield 998, 3), (16, .iload_n 1, 1), (17, .iadd, 1), (18, .iaload, 1), (19, .goto 4, 3), (22, .iconst 0, 1), (23, .ireturn, 1)] = true := by decide +kernel
theorem dX8_argument_0 : decode cX8_argument 0 = .ok (.iload_n 1, 1) := zdec_at bX8_argument_0 0 rfl
theorem dX8_argument_1 : decode cX8_argument 1 = .ok (.aload_n 0, 1) := zdec_at bX8_argument_0 1 rfl
theorem dX8_argument_2 : decode cX8_argument 2 = .ok (.getfield 995, 3) := zdec_at bX8_argument_0 2 rfl
theorem dX8_argument_5 : decode cX8_argument 5 = .ok (.if_icmp .ge 17, 3) := zdec_at bX8_argument_0 3 rfl
theorem dX8_argument_8 : decode cX8_argument 8 = .ok (.aload_n 0, 1) := zdec_at bX8_argument_0 4 rfl
theorem dX8_argument_9 : decode cX8_argument 9 = .ok (.getfield 203, 3) := zdec_at bX8_argument_0 5 rfl
theorem dX8_argument_12 : decode cX8_argument 12 = .ok (.aload_n 0, 1) := zdec_at bX8_argument_0 6 rfl
theorem dX8_argument_13 : decode cX8_argument 13 = .ok (.getfield 998, 3) := zdec_at bX8_argument_0 7 rfl
theorem dX8_argument_16 : decode cX8_argument 16 = .ok (.iload_n 1, 1) := zdec_at bX8_argument_0 8 rfl
theorem dX8_argument_17 : decode cX8_argument 17 = .ok (.iadd, 1) := zdec_at bX8_argument_0 9 rfl
theorem dX8_argument_18 : decode cX8_argument 18 = .ok (.iaload, 1) := zdec_at bX8_argument_0 10 rfl
theorem dX8_argument_19 : decode cX8_argument 19 = .ok (.goto 4, 3) := zdec_at bX8_argument_0 11 rfl
theorem dX8_argument_22 : decode cX8_argument 22 = .ok (.iconst 0, 1) := zdec_at bX8_argument_0 12 rfl
theorem dX8_argument_23 : decode cX8_argument 23 = .ok (.ireturn, 1) := zdec_at bX8_argument_0 13 rfl
theorem sX8_argument_0 {E : zE} {d : Nat} {Q : zO → zM → Prop} (M : zM) (l1 : Int32) (k : if (gi M 97 115) ≤ l1 then (Q (.inl (some (vi (0 : Int32)))) M) else (vp_in ((gi M 97 114) + l1) 9600 ∧ (Q (.inl (some (vi (gi M 161 (((gi M 97 114) + l1)).toNatClampNeg)))) M))) : Zm E YX8_argument d M [(0, vr (some (97, 1, 0))), (1, vi l1)] 0 [] Q := by
  refine Zm.l (fun _ _ k_ => z_iload_n dX8_argument_0 rfl rfl k_) ?_
  refine Zm.l (fun _ _ k_ => z_aload_n dX8_argument_1 rfl rfl k_) ?_
  refine zm_geti dX8_argument_2 fsX8_995_1 (by decide) (by decide) ?_
  refine Zm.br (fun _ _ k1_ k2_ => z_icmp_ge (tgt := 22) dX8_argument_5 rfl k1_ k2_) (fun h_ => ?_) (fun h_ => ?_)
  · have k := zit h_ k
    refine Zm.l (fun _ _ k_ => z_iconst (v := 0) dX8_argument_22 rfl k_) ?_
    exact zm_iret dX8_argument_23 rfl rfl k
  · have k := zif h_ k
    refine Zm.l (fun _ _ k_ => z_aload_n dX8_argument_8 rfl rfl k_) ?_
    refine zm_getr 58 dX8_argument_9 fsX8_203_1 rfl ?_
    refine Zm.l (fun _ _ k_ => z_aload_n dX8_argument_12 rfl rfl k_) ?_
    refine zm_geti dX8_argument_13 fsX8_998_1 (by decide) (by decide) ?_
    refine Zm.l (fun _ _ k_ => z_iload_n dX8_argument_16 rfl rfl k_) ?_
    refine Zm.l (fun _ _ k_ => z_iadd dX8_argument_17 k_) ?_
    obtain ⟨b_, k⟩ := k
    refine zm_iald dX8_argument_18 b_ (by decide) (by decide) ?_
    refine Zm.l (fun _ _ k_ => z_goto (tgt := 23) dX8_argument_19 rfl k_) ?_
    exact zm_iret dX8_argument_23 rfl rfl k
/-! ScriptTypesModel.nativeOf(IIII)V -/
theorem bX8_nativeOf_0 : zdec cX8_nativeOf 0 [(0, .aload_n 0, 1), (1, .iconst 0, 1), (2, .invokevirtual 1014, 3), (5, .istore 5, 2), (7, .aload_n 0, 1), (8, .iconst 0, 1), (9, .invokevirtual 1017, 3), (12, .istore 6, 2), (14, .iload_n 1, 1)] = true := by decide +kernel
theorem dX8_nativeOf_0 : decode cX8_nativeOf 0 = .ok (.aload_n 0, 1) := zdec_at bX8_nativeOf_0 0 rfl
theorem dX8_nativeOf_1 : decode cX8_nativeOf 1 = .ok (.iconst 0, 1) := zdec_at bX8_nativeOf_0 1 rfl
theorem dX8_nativeOf_2 : decode cX8_nativeOf 2 = .ok (.invokevirtual 1014, 3) := zdec_at bX8_nativeOf_0 2 rfl
theorem dX8_nativeOf_5 : decode cX8_nativeOf 5 = .ok (.istore 5, 2) := zdec_at bX8_nativeOf_0 3 rfl
theorem dX8_nativeOf_7 : decode cX8_nativeOf 7 = .ok (.aload_n 0, 1) := zdec_at bX8_nativeOf_0 4 rfl
theorem dX8_nativeOf_8 : decode cX8_nativeOf 8 = .ok (.iconst 0, 1) := zdec_at bX8_nativeOf_0 5 rfl
theorem dX8_nativeOf_9 : decode cX8_nativeOf 9 = .ok (.invokevirtual 1017, 3) := zdec_at bX8_nativeOf_0 6 rfl
theorem dX8_nativeOf_12 : decode cX8_nativeOf 12 = .ok (.istore 6, 2) := zdec_at bX8_nativeOf_0 7 rfl
theorem dX8_nativeOf_14 : decode cX8_nativeOf 14 = .ok (.iload_n 1, 1) := zdec_at bX8_nativeOf_0 8 rfl
theorem dX8_nativeOf_15 : decode cX8_nativeOf 15 = .ok (.tableswitch 230 9 22 #[69, 125, 142, 157, 186, 230, 230, 230, 230, 215, 215, 230, 215, 215], 69) := by decide +kernel
theorem bX8_nativeOf_84 : zdec cX8_nativeOf 84 [(84, .aload_n 0, 1), (85, .iload 5, 2), (87, .iload 6, 2), (89, .invokevirtual 969, 3), (92, .istore 7, 2), (94, .aload_n 0, 1), (95, .getfield 794, 3), (98, .ifCond .ne 33, 3), (101, .aload_n 0, 1), (102, .getfield 864, 3), (105, .bipush 100, 2), (107, .if_icmp .ge 24, 3), (110, .aload_n 0, 1), (111, .getfield 212, 3), (114, .aload_n 0, 1), (115, .getfield 864, 3)] = true := by decide +kernel
theorem dX8_nativeOf_84 : decode cX8_nativeOf 84 = .ok (.aload_n 0, 1) := zdec_at bX8_nativeOf_84 0 rfl
theorem dX8_nativeOf_85 : decode cX8_nativeOf 85 = .ok (.iload 5, 2) := zdec_at bX8_nativeOf_84 1 rfl
theorem dX8_nativeOf_87 : decode cX8_nativeOf 87 = .ok (.iload 6, 2) := zdec_at bX8_nativeOf_84 2 rfl
theorem dX8_nativeOf_89 : decode cX8_nativeOf 89 = .ok (.invokevirtual 969, 3) := zdec_at bX8_nativeOf_84 3 rfl
theorem dX8_nativeOf_92 : decode cX8_nativeOf 92 = .ok (.istore 7, 2) := zdec_at bX8_nativeOf_84 4 rfl
theorem dX8_nativeOf_94 : decode cX8_nativeOf 94 = .ok (.aload_n 0, 1) := zdec_at bX8_nativeOf_84 5 rfl
theorem dX8_nativeOf_95 : decode cX8_nativeOf 95 = .ok (.getfield 794, 3) := zdec_at bX8_nativeOf_84 6 rfl
theorem dX8_nativeOf_98 : decode cX8_nativeOf 98 = .ok (.ifCond .ne 33, 3) := zdec_at bX8_nativeOf_84 7 rfl
theorem dX8_nativeOf_101 : decode cX8_nativeOf 101 = .ok (.aload_n 0, 1) := zdec_at bX8_nativeOf_84 8 rfl
theorem dX8_nativeOf_102 : decode cX8_nativeOf 102 = .ok (.getfield 864, 3) := zdec_at bX8_nativeOf_84 9 rfl
theorem dX8_nativeOf_105 : decode cX8_nativeOf 105 = .ok (.bipush 100, 2) := zdec_at bX8_nativeOf_84 10 rfl
theorem dX8_nativeOf_107 : decode cX8_nativeOf 107 = .ok (.if_icmp .ge 24, 3) := zdec_at bX8_nativeOf_84 11 rfl
theorem dX8_nativeOf_110 : decode cX8_nativeOf 110 = .ok (.aload_n 0, 1) := zdec_at bX8_nativeOf_84 12 rfl
theorem dX8_nativeOf_111 : decode cX8_nativeOf 111 = .ok (.getfield 212, 3) := zdec_at bX8_nativeOf_84 13 rfl
theorem dX8_nativeOf_114 : decode cX8_nativeOf 114 = .ok (.aload_n 0, 1) := zdec_at bX8_nativeOf_84 14 rfl
theorem dX8_nativeOf_115 : decode cX8_nativeOf 115 = .ok (.getfield 864, 3) := zdec_at bX8_nativeOf_84 15 rfl
theorem bX8_nativeOf_118 : zdec cX8_nativeOf 118 [(118, .iload 7, 2), (120, .iastore, 1), (121, .aload_n 0, 1), (122, .dup, 1), (123, .getfield 864, 3), (126, .iconst 1, 1), (127, .iadd, 1), (128, .putfield 864, 3), (131, .aload_n 0, 1), (132, .iconst 0, 1), (133, .iconst 0, 1), (134, .invokevirtual 822, 3), (137, .goto 173, 3), (140, .aload_n 0, 1), (141, .bipush 7, 2), (143, .aload_n 0, 1)] = true := by decide +kernel
theorem dX8_nativeOf_118 : decode cX8_nativeOf 118 = .ok (.iload 7, 2) := zdec_at bX8_nativeOf_118 0 rfl
theorem dX8_nativeOf_120 : decode cX8_nativeOf 120 = .ok (.iastore, 1) := zdec_at bX8_nativeOf_118 1 rfl
theorem dX8_nativeOf_121 : decode cX8_nativeOf 121 = .ok (.aload_n 0, 1) := zdec_at bX8_nativeOf_118 2 rfl
theorem dX8_nativeOf_122 : decode cX8_nativeOf 122 = .ok (.dup, 1) := zdec_at bX8_nativeOf_118 3 rfl
theorem dX8_nativeOf_123 : decode cX8_nativeOf 123 = .ok (.getfield 864, 3) := zdec_at bX8_nativeOf_118 4 rfl
theorem dX8_nativeOf_126 : decode cX8_nativeOf 126 = .ok (.iconst 1, 1) := zdec_at bX8_nativeOf_118 5 rfl
theorem dX8_nativeOf_127 : decode cX8_nativeOf 127 = .ok (.iadd, 1) := zdec_at bX8_nativeOf_118 6 rfl
theorem dX8_nativeOf_128 : decode cX8_nativeOf 128 = .ok (.putfield 864, 3) := zdec_at bX8_nativeOf_118 7 rfl
theorem dX8_nativeOf_131 : decode cX8_nativeOf 131 = .ok (.aload_n 0, 1) := zdec_at bX8_nativeOf_118 8 rfl
theorem dX8_nativeOf_132 : decode cX8_nativeOf 132 = .ok (.iconst 0, 1) := zdec_at bX8_nativeOf_118 9 rfl
theorem dX8_nativeOf_133 : decode cX8_nativeOf 133 = .ok (.iconst 0, 1) := zdec_at bX8_nativeOf_118 10 rfl
theorem dX8_nativeOf_134 : decode cX8_nativeOf 134 = .ok (.invokevirtual 822, 3) := zdec_at bX8_nativeOf_118 11 rfl
theorem dX8_nativeOf_137 : decode cX8_nativeOf 137 = .ok (.goto 173, 3) := zdec_at bX8_nativeOf_118 12 rfl
theorem dX8_nativeOf_140 : decode cX8_nativeOf 140 = .ok (.aload_n 0, 1) := zdec_at bX8_nativeOf_118 13 rfl
theorem dX8_nativeOf_141 : decode cX8_nativeOf 141 = .ok (.bipush 7, 2) := zdec_at bX8_nativeOf_118 14 rfl
theorem dX8_nativeOf_143 : decode cX8_nativeOf 143 = .ok (.aload_n 0, 1) := zdec_at bX8_nativeOf_118 15 rfl
theorem bX8_nativeOf_144 : zdec cX8_nativeOf 144 [(144, .iconst 1, 1), (145, .bipush 23, 2), (147, .iconst 0, 1), (148, .invokevirtual 858, 3), (151, .invokevirtual 822, 3), (154, .goto 156, 3), (157, .aload_n 0, 1), (158, .bipush 7, 2), (160, .aload_n 0, 1), (161, .bipush 24, 2), (163, .invokevirtual 923, 3), (166, .invokevirtual 822, 3), (169, .goto 141, 3), (172, .aload_n 0, 1), (173, .bipush 6, 2), (175, .aload_n 0, 1)] = true := by decide +kernel
theorem dX8_nativeOf_144 : decode cX8_nativeOf 144 = .ok (.iconst 1, 1) := zdec_at bX8_nativeOf_144 0 rfl
theorem dX8_nativeOf_145 : decode cX8_nativeOf 145 = .ok (.bipush 23, 2) := zdec_at bX8_nativeOf_144 1 rfl
theorem dX8_nativeOf_147 : decode cX8_nativeOf 147 = .ok (.iconst 0, 1) := zdec_at bX8_nativeOf_144 2 rfl
theorem dX8_nativeOf_148 : decode cX8_nativeOf 148 = .ok (.invokevirtual 858, 3) := zdec_at bX8_nativeOf_144 3 rfl
theorem dX8_nativeOf_151 : decode cX8_nativeOf 151 = .ok (.invokevirtual 822, 3) := zdec_at bX8_nativeOf_144 4 rfl
theorem dX8_nativeOf_154 : decode cX8_nativeOf 154 = .ok (.goto 156, 3) := zdec_at bX8_nativeOf_144 5 rfl
theorem dX8_nativeOf_157 : decode cX8_nativeOf 157 = .ok (.aload_n 0, 1) := zdec_at bX8_nativeOf_144 6 rfl
theorem dX8_nativeOf_158 : decode cX8_nativeOf 158 = .ok (.bipush 7, 2) := zdec_at bX8_nativeOf_144 7 rfl
theorem dX8_nativeOf_160 : decode cX8_nativeOf 160 = .ok (.aload_n 0, 1) := zdec_at bX8_nativeOf_144 8 rfl
theorem dX8_nativeOf_161 : decode cX8_nativeOf 161 = .ok (.bipush 24, 2) := zdec_at bX8_nativeOf_144 9 rfl
theorem dX8_nativeOf_163 : decode cX8_nativeOf 163 = .ok (.invokevirtual 923, 3) := zdec_at bX8_nativeOf_144 10 rfl
theorem dX8_nativeOf_166 : decode cX8_nativeOf 166 = .ok (.invokevirtual 822, 3) := zdec_at bX8_nativeOf_144 11 rfl
theorem dX8_nativeOf_169 : decode cX8_nativeOf 169 = .ok (.goto 141, 3) := zdec_at bX8_nativeOf_144 12 rfl
theorem dX8_nativeOf_172 : decode cX8_nativeOf 172 = .ok (.aload_n 0, 1) := zdec_at bX8_nativeOf_144 13 rfl
theorem dX8_nativeOf_173 : decode cX8_nativeOf 173 = .ok (.bipush 6, 2) := zdec_at bX8_nativeOf_144 14 rfl
theorem dX8_nativeOf_175 : decode cX8_nativeOf 175 = .ok (.aload_n 0, 1) := zdec_at bX8_nativeOf_144 15 rfl
theorem bX8_nativeOf_176 : zdec cX8_nativeOf 176 [(176, .getfield 995, 3), (179, .ifCond .ne 8, 3), (182, .bipush 30, 2), (184, .goto 11, 3), (187, .aload_n 0, 1), (188, .iload 5, 2), (190, .iload 6, 2), (192, .invokevirtual 969, 3), (195, .invokevirtual 822, 3), (198, .goto 112, 3), (201, .aload_n 0, 1), (202, .iload 5, 2), (204, .iload 6, 2), (206, .invokevirtual 816, 3), (209, .istore 7, 2), (211, .aload_n 0, 1)] = true := by decide +kernel
theorem dX8_nativeOf_176 : decode cX8_nativeOf 176 = .ok (.getfield 995, 3) := zdec_at bX8_nativeOf_176 0 rfl
theorem dX8_nativeOf_179 : decode cX8_nativeOf 179 = .ok (.ifCond .ne 8, 3) := zdec_at bX8_nativeOf_176 1 rfl
theorem dX8_nativeOf_182 : decode cX8_nativeOf 182 = .ok (.bipush 30, 2) := zdec_at bX8_nativeOf_176 2 rfl
theorem dX8_nativeOf_184 : decode cX8_nativeOf 184 = .ok (.goto 11, 3) := zdec_at bX8_nativeOf_176 3 rfl
theorem dX8_nativeOf_187 : decode cX8_nativeOf 187 = .ok (.aload_n 0, 1) := zdec_at bX8_nativeOf_176 4 rfl
theorem dX8_nativeOf_188 : decode cX8_nativeOf 188 = .ok (.iload 5, 2) := zdec_at bX8_nativeOf_176 5 rfl
theorem dX8_nativeOf_190 : decode cX8_nativeOf 190 = .ok (.iload 6, 2) := zdec_at bX8_nativeOf_176 6 rfl
theorem dX8_nativeOf_192 : decode cX8_nativeOf 192 = .ok (.invokevirtual 969, 3) := zdec_at bX8_nativeOf_176 7 rfl
theorem dX8_nativeOf_195 : decode cX8_nativeOf 195 = .ok (.invokevirtual 822, 3) := zdec_at bX8_nativeOf_176 8 rfl
theorem dX8_nativeOf_198 : decode cX8_nativeOf 198 = .ok (.goto 112, 3) := zdec_at bX8_nativeOf_176 9 rfl
theorem dX8_nativeOf_201 : decode cX8_nativeOf 201 = .ok (.aload_n 0, 1) := zdec_at bX8_nativeOf_176 10 rfl
theorem dX8_nativeOf_202 : decode cX8_nativeOf 202 = .ok (.iload 5, 2) := zdec_at bX8_nativeOf_176 11 rfl
theorem dX8_nativeOf_204 : decode cX8_nativeOf 204 = .ok (.iload 6, 2) := zdec_at bX8_nativeOf_176 12 rfl
theorem dX8_nativeOf_206 : decode cX8_nativeOf 206 = .ok (.invokevirtual 816, 3) := zdec_at bX8_nativeOf_176 13 rfl
theorem dX8_nativeOf_209 : decode cX8_nativeOf 209 = .ok (.istore 7, 2) := zdec_at bX8_nativeOf_176 14 rfl
theorem dX8_nativeOf_211 : decode cX8_nativeOf 211 = .ok (.aload_n 0, 1) := zdec_at bX8_nativeOf_176 15 rfl
theorem bX8_nativeOf_212 : zdec cX8_nativeOf 212 [(212, .aload_n 0, 1), (213, .getfield 806, 3), (216, .ifCond .ne 7, 3), (219, .iconst 1, 1), (220, .goto 4, 3), (223, .iconst 0, 1), (224, .invokevirtual 827, 3), (227, .goto 83, 3), (230, .aload_n 0, 1), (231, .iload_n 1, 1), (232, .iload_n 2, 1), (233, .iload_n 3, 1), (234, .iload 5, 2), (236, .iload 6, 2), (238, .invokevirtual 1020, 3), (241, .ifCond .ne 69, 3)] = true := by decide +kernel
theorem dX8_nativeOf_212 : decode cX8_nativeOf 212 = .ok (.aload_n 0, 1) := zdec_at bX8_nativeOf_212 0 rfl
theorem dX8_nativeOf_213 : decode cX8_nativeOf 213 = .ok (.getfield 806, 3) := zdec_at bX8_nativeOf_212 1 rfl
theorem dX8_nativeOf_216 : decode cX8_nativeOf 216 = .ok (.ifCond .ne 7, 3) := zdec_at bX8_nativeOf_212 2 rfl
theorem dX8_nativeOf_219 : decode cX8_nativeOf 219 = .ok (.iconst 1, 1) := zdec_at bX8_nativeOf_212 3 rfl
theorem dX8_nativeOf_220 : decode cX8_nativeOf 220 = .ok (.goto 4, 3) := zdec_at bX8_nativeOf_212 4 rfl
theorem dX8_nativeOf_223 : decode cX8_nativeOf 223 = .ok (.iconst 0, 1) := zdec_at bX8_nativeOf_212 5 rfl
theorem dX8_nativeOf_224 : decode cX8_nativeOf 224 = .ok (.invokevirtual 827, 3) := zdec_at bX8_nativeOf_212 6 rfl
theorem dX8_nativeOf_227 : decode cX8_nativeOf 227 = .ok (.goto 83, 3) := zdec_at bX8_nativeOf_212 7 rfl
theorem dX8_nativeOf_230 : decode cX8_nativeOf 230 = .ok (.aload_n 0, 1) := zdec_at bX8_nativeOf_212 8 rfl
theorem dX8_nativeOf_231 : decode cX8_nativeOf 231 = .ok (.iload_n 1, 1) := zdec_at bX8_nativeOf_212 9 rfl
theorem dX8_nativeOf_232 : decode cX8_nativeOf 232 = .ok (.iload_n 2, 1) := zdec_at bX8_nativeOf_212 10 rfl
theorem dX8_nativeOf_233 : decode cX8_nativeOf 233 = .ok (.iload_n 3, 1) := zdec_at bX8_nativeOf_212 11 rfl
theorem dX8_nativeOf_234 : decode cX8_nativeOf 234 = .ok (.iload 5, 2) := zdec_at bX8_nativeOf_212 12 rfl
theorem dX8_nativeOf_236 : decode cX8_nativeOf 236 = .ok (.iload 6, 2) := zdec_at bX8_nativeOf_212 13 rfl
theorem dX8_nativeOf_238 : decode cX8_nativeOf 238 = .ok (.invokevirtual 1020, 3) := zdec_at bX8_nativeOf_212 14 rfl
theorem dX8_nativeOf_241 : decode cX8_nativeOf 241 = .ok (.ifCond .ne 69, 3) := zdec_at bX8_nativeOf_212 15 rfl
theorem bX8_nativeOf_244 : zdec cX8_nativeOf 244 [(244, .return_, 1), (245, .aload_n 0, 1), (246, .iload_n 1, 1), (247, .bipush 9, 2), (249, .isub, 1), (250, .iload_n 1, 1), (251, .bipush 11, 2), (253, .iadd, 1), (254, .iconst 0, 1), (255, .invokevirtual 858, 3), (258, .istore 7, 2), (260, .aload_n 0, 1), (261, .getfield 794, 3), (264, .ifCond .ne 38, 3), (267, .aload_n 0, 1), (268, .getfield 995, 3)] = true := by decide +kernel
theorem dX8_nativeOf_244 : decode cX8_nativeOf 244 = .ok (.return_, 1) := zdec_at bX8_nativeOf_244 0 rfl
theorem dX8_nativeOf_245 : decode cX8_nativeOf 245 = .ok (.aload_n 0, 1) := zdec_at bX8_nativeOf_244 1 rfl
theorem dX8_nativeOf_246 : decode cX8_nativeOf 246 = .ok (.iload_n 1, 1) := zdec_at bX8_nativeOf_244 2 rfl
theorem dX8_nativeOf_247 : decode cX8_nativeOf 247 = .ok (.bipush 9, 2) := zdec_at bX8_nativeOf_244 3 rfl
theorem dX8_nativeOf_249 : decode cX8_nativeOf 249 = .ok (.isub, 1) := zdec_at bX8_nativeOf_244 4 rfl
theorem dX8_nativeOf_250 : decode cX8_nativeOf 250 = .ok (.iload_n 1, 1) := zdec_at bX8_nativeOf_244 5 rfl
theorem dX8_nativeOf_251 : decode cX8_nativeOf 251 = .ok (.bipush 11, 2) := zdec_at bX8_nativeOf_244 6 rfl
theorem dX8_nativeOf_253 : decode cX8_nativeOf 253 = .ok (.iadd, 1) := zdec_at bX8_nativeOf_244 7 rfl
theorem dX8_nativeOf_254 : decode cX8_nativeOf 254 = .ok (.iconst 0, 1) := zdec_at bX8_nativeOf_244 8 rfl
theorem dX8_nativeOf_255 : decode cX8_nativeOf 255 = .ok (.invokevirtual 858, 3) := zdec_at bX8_nativeOf_244 9 rfl
theorem dX8_nativeOf_258 : decode cX8_nativeOf 258 = .ok (.istore 7, 2) := zdec_at bX8_nativeOf_244 10 rfl
theorem dX8_nativeOf_260 : decode cX8_nativeOf 260 = .ok (.aload_n 0, 1) := zdec_at bX8_nativeOf_244 11 rfl
theorem dX8_nativeOf_261 : decode cX8_nativeOf 261 = .ok (.getfield 794, 3) := zdec_at bX8_nativeOf_244 12 rfl
theorem dX8_nativeOf_264 : decode cX8_nativeOf 264 = .ok (.ifCond .ne 38, 3) := zdec_at bX8_nativeOf_244 13 rfl
theorem dX8_nativeOf_267 : decode cX8_nativeOf 267 = .ok (.aload_n 0, 1) := zdec_at bX8_nativeOf_244 14 rfl
theorem dX8_nativeOf_268 : decode cX8_nativeOf 268 = .ok (.getfield 995, 3) := zdec_at bX8_nativeOf_244 15 rfl
theorem bX8_nativeOf_271 : zdec cX8_nativeOf 271 [(271, .ifCond .le 31, 3), (274, .aload_n 0, 1), (275, .iload 5, 2), (277, .iload 6, 2), (279, .invokevirtual 969, 3), (282, .istore 8, 2), (284, .aload_n 0, 1), (285, .getfield 794, 3), (288, .ifCond .ne 14, 3), (291, .aload_n 0, 1), (292, .iload 7, 2), (294, .iconst 3, 1), (295, .bipush 6, 2), (297, .iload 8, 2), (299, .invokevirtual 870, 3), (302, .aload_n 0, 1)] = true := by decide +kernel
theorem dX8_nativeOf_271 : decode cX8_nativeOf 271 = .ok (.ifCond .le 31, 3) := zdec_at bX8_nativeOf_271 0 rfl
theorem dX8_nativeOf_274 : decode cX8_nativeOf 274 = .ok (.aload_n 0, 1) := zdec_at bX8_nativeOf_271 1 rfl
theorem dX8_nativeOf_275 : decode cX8_nativeOf 275 = .ok (.iload 5, 2) := zdec_at bX8_nativeOf_271 2 rfl
theorem dX8_nativeOf_277 : decode cX8_nativeOf 277 = .ok (.iload 6, 2) := zdec_at bX8_nativeOf_271 3 rfl
theorem dX8_nativeOf_279 : decode cX8_nativeOf 279 = .ok (.invokevirtual 969, 3) := zdec_at bX8_nativeOf_271 4 rfl
theorem dX8_nativeOf_282 : decode cX8_nativeOf 282 = .ok (.istore 8, 2) := zdec_at bX8_nativeOf_271 5 rfl
theorem dX8_nativeOf_284 : decode cX8_nativeOf 284 = .ok (.aload_n 0, 1) := zdec_at bX8_nativeOf_271 6 rfl
theorem dX8_nativeOf_285 : decode cX8_nativeOf 285 = .ok (.getfield 794, 3) := zdec_at bX8_nativeOf_271 7 rfl
theorem dX8_nativeOf_288 : decode cX8_nativeOf 288 = .ok (.ifCond .ne 14, 3) := zdec_at bX8_nativeOf_271 8 rfl
theorem dX8_nativeOf_291 : decode cX8_nativeOf 291 = .ok (.aload_n 0, 1) := zdec_at bX8_nativeOf_271 9 rfl
theorem dX8_nativeOf_292 : decode cX8_nativeOf 292 = .ok (.iload 7, 2) := zdec_at bX8_nativeOf_271 10 rfl
theorem dX8_nativeOf_294 : decode cX8_nativeOf 294 = .ok (.iconst 3, 1) := zdec_at bX8_nativeOf_271 11 rfl
theorem dX8_nativeOf_295 : decode cX8_nativeOf 295 = .ok (.bipush 6, 2) := zdec_at bX8_nativeOf_271 12 rfl
theorem dX8_nativeOf_297 : decode cX8_nativeOf 297 = .ok (.iload 8, 2) := zdec_at bX8_nativeOf_271 13 rfl
theorem dX8_nativeOf_299 : decode cX8_nativeOf 299 = .ok (.invokevirtual 870, 3) := zdec_at bX8_nativeOf_271 14 rfl
theorem dX8_nativeOf_302 : decode cX8_nativeOf 302 = .ok (.aload_n 0, 1) := zdec_at bX8_nativeOf_271 15 rfl
theorem bX8_nativeOf_303 : zdec cX8_nativeOf 303 [(303, .bipush 7, 2), (305, .iload 7, 2), (307, .invokevirtual 822, 3), (310, .aload_n 0, 1), (311, .iload 4, 2), (313, .invokevirtual 904, 3), (316, .return_, 1)] = true := by decide +kernel
theorem dX8_nativeOf_303 : decode cX8_nativeOf 303 = .ok (.bipush 7, 2) := zdec_at bX8_nativeOf_303 0 rfl
theorem dX8_nativeOf_305 : decode cX8_nativeOf 305 = .ok (.iload 7, 2) := zdec_at bX8_nativeOf_303 1 rfl
theorem dX8_nativeOf_307 : decode cX8_nativeOf 307 = .ok (.invokevirtual 822, 3) := zdec_at bX8_nativeOf_303 2 rfl
theorem dX8_nativeOf_310 : decode cX8_nativeOf 310 = .ok (.aload_n 0, 1) := zdec_at bX8_nativeOf_303 3 rfl
theorem dX8_nativeOf_311 : decode cX8_nativeOf 311 = .ok (.iload 4, 2) := zdec_at bX8_nativeOf_303 4 rfl
theorem dX8_nativeOf_313 : decode cX8_nativeOf 313 = .ok (.invokevirtual 904, 3) := zdec_at bX8_nativeOf_303 5 rfl
theorem dX8_nativeOf_316 : decode cX8_nativeOf 316 = .ok (.return_, 1) := zdec_at bX8_nativeOf_303 6 rfl
theorem sX8_nativeOf_0 {E : zE} {d : Nat} {Q : zO → zM → Prop} (M : zM) (l1 : Int32) (l2 : Int32) (l3 : Int32) (l4 : Int32) (k : Zm E YX8_argumentSort d M (zargs 0 [vr (some (97, 1, 0)), vi (0 : Int32)]) 0 [] (zma E YX8_nativeOf (d + 1) [(0, vr (some (97, 1, 0))), (1, vi l1), (2, vi l2), (3, vi l3), (4, vi l4)] 2 3 [] Q)) : Zm E YX8_nativeOf (d + 1) M [(0, vr (some (97, 1, 0))), (1, vi l1), (2, vi l2), (3, vi l3), (4, vi l4)] 0 [] Q := by
  refine Zm.l (fun _ _ k_ => z_aload_n dX8_nativeOf_0 rfl rfl k_) ?_
  refine Zm.l (fun _ _ k_ => z_iconst (v := 0) dX8_nativeOf_1 rfl k_) ?_
  exact zm_callV (as := [vi (0 : Int32)]) (st := []) dX8_nativeOf_2 vsX8_1014_1 (Nat.le_refl _) (Nat.le_of_ble_eq_true rfl) (Nat.le_of_ble_eq_true rfl) rfl k
theorem sX8_nativeOf_5 {E : zE} {d : Nat} {Q : zO → zM → Prop} (M : zM) (l1 : Int32) (l2 : Int32) (l3 : Int32) (l4 : Int32) (s0 : Int32) (k : Zm E YX8_argument d M (zargs 0 [vr (some (97, 1, 0)), vi (0 : Int32)]) 0 [] (zma E YX8_nativeOf (d + 1) [(0, vr (some (97, 1, 0))), (1, vi l1), (2, vi l2), (3, vi l3), (4, vi l4), (5, vi s0)] 9 3 [] Q)) : Zm E YX8_nativeOf (d + 1) M [(0, vr (some (97, 1, 0))), (1, vi l1), (2, vi l2), (3, vi l3), (4, vi l4)] 5 [vi s0] Q := by
  refine Zm.l (fun _ _ k_ => z_ist dX8_nativeOf_5 (by decide) (lv' := [(0, vr (some (97, 1, 0))), (1, vi l1), (2, vi l2), (3, vi l3), (4, vi l4), (5, vi s0)]) rfl k_) ?_
  refine Zm.l (fun _ _ k_ => z_aload_n dX8_nativeOf_7 rfl rfl k_) ?_
  refine Zm.l (fun _ _ k_ => z_iconst (v := 0) dX8_nativeOf_8 rfl k_) ?_
  exact zm_callV (as := [vi (0 : Int32)]) (st := []) dX8_nativeOf_9 vsX8_1017_1 (Nat.le_refl _) (Nat.le_of_ble_eq_true rfl) (Nat.le_of_ble_eq_true rfl) rfl k
theorem sX8_nativeOf_12 {E : zE} {d : Nat} {Q : zO → zM → Prop} (M : zM) (l1 : Int32) (l2 : Int32) (l3 : Int32) (l4 : Int32) (l5 : Int32) (s0 : Int32) (k : if l1 = 9 then (Zm E YX8_textOf d M (zargs 0 [vr (some (97, 1, 0)), vi l5, vi s0]) 0 [] (zma E YX8_nativeOf (d + 1) [(0, vr (some (97, 1, 0))), (4, vi l4)] 89 3 [] Q)) else (if l1 = 10 then (Zm E YX8_newObject d M (zargs 0 [vr (some (97, 1, 0)), vi (1 : Int32), vi (23 : Int32), vi (0 : Int32)]) 0 [] (zma E YX8_nativeOf (d + 1) [(0, vr (some (97, 1, 0))), (4, vi l4)] 148 3 [vi (7 : Int32), vr (some (97, 1, 0))] Q)) else (if l1 = 11 then (Zm E YX8_newArray d M (zargs 0 [vr (some (97, 1, 0)), vi (24 : Int32)]) 0 [] (zma E YX8_nativeOf (d + 1) [(0, vr (some (97, 1, 0))), (4, vi l4)] 163 3 [vi (7 : Int32), vr (some (97, 1, 0))] Q)) else (if l1 = 12 then (if (gi M 97 115) = 0 then (Zm E YX8_nativeOf (d + 1) M [(0, vr (some (97, 1, 0))), (4, vi l4)] 195 [vi (30 : Int32), vi (6 : Int32), vr (some (97, 1, 0))] Q) else (Zm E YX8_textOf d M (zargs 0 [vr (some (97, 1, 0)), vi l5, vi s0]) 0 [] (zma E YX8_nativeOf (d + 1) [(0, vr (some (97, 1, 0))), (4, vi l4)] 192 3 [vi (6 : Int32), vr (some (97, 1, 0))] Q))) else (if l1 = 13 then (Zm E YX8_numberOf d M (zargs 0 [vr (some (97, 1, 0)), vi l5, vi s0]) 0 [] (zma E YX8_nativeOf (d + 1) [(0, vr (some (97, 1, 0))), (4, vi l4)] 206 3 [] Q)) else (if l1 = 14 then (Zm E YX8_newObject d M (zargs 0 [vr (some (97, 1, 0)), vi (l1 - (9 : Int32)), vi (l1 + (11 : Int32)), vi (0 : Int32)]) 0 [] (zma E YX8_nativeOf (d + 1) [(0, vr (some (97, 1, 0))), (4, vi l4), (5, vi l5), (6, vi s0)] 255 3 [] Q)) else (if l1 = 15 then (Zm E YX8_newObject d M (zargs 0 [vr (some (97, 1, 0)), vi (l1 - (9 : Int32)), vi (l1 + (11 : Int32)), vi (0 : Int32)]) 0 [] (zma E YX8_nativeOf (d + 1) [(0, vr (some (97, 1, 0))), (4, vi l4), (5, vi l5), (6, vi s0)] 255 3 [] Q)) else (if l1 = 16 then (Zm E YX8_newObject d M (zargs 0 [vr (some (97, 1, 0)), vi (l1 - (9 : Int32)), vi (l1 + (11 : Int32)), vi (0 : Int32)]) 0 [] (zma E YX8_nativeOf (d + 1) [(0, vr (some (97, 1, 0))), (4, vi l4), (5, vi l5), (6, vi s0)] 255 3 [] Q)) else (if l1 = 17 then (Zm E YX8_newObject d M (zargs 0 [vr (some (97, 1, 0)), vi (l1 - (9 : Int32)), vi (l1 + (11 : Int32)), vi (0 : Int32)]) 0 [] (zma E YX8_nativeOf (d + 1) [(0, vr (some (97, 1, 0))), (4, vi l4), (5, vi l5), (6, vi s0)] 255 3 [] Q)) else (if l1 = 18 then (Zm E YX8_nativeWith d M (zargs 0 [vr (some (97, 1, 0)), vi l1, vi l2, vi l3, vi l5, vi s0]) 0 [] (zma E YX8_nativeOf (d + 1) [(0, vr (some (97, 1, 0))), (4, vi l4)] 238 3 [] Q)) else (if l1 = 19 then (Zm E YX8_nativeWith d M (zargs 0 [vr (some (97, 1, 0)), vi l1, vi l2, vi l3, vi l5, vi s0]) 0 [] (zma E YX8_nativeOf (d + 1) [(0, vr (some (97, 1, 0))), (4, vi l4)] 238 3 [] Q)) else (if l1 = 20 then (Zm E YX8_newObject d M (zargs 0 [vr (some (97, 1, 0)), vi (l1 - (9 : Int32)), vi (l1 + (11 : Int32)), vi (0 : Int32)]) 0 [] (zma E YX8_nativeOf (d + 1) [(0, vr (some (97, 1, 0))), (4, vi l4), (5, vi l5), (6, vi s0)] 255 3 [] Q)) else (if l1 = 21 then (Zm E YX8_nativeWith d M (zargs 0 [vr (some (97, 1, 0)), vi l1, vi l2, vi l3, vi l5, vi s0]) 0 [] (zma E YX8_nativeOf (d + 1) [(0, vr (some (97, 1, 0))), (4, vi l4)] 238 3 [] Q)) else (if l1 = 22 then (Zm E YX8_nativeWith d M (zargs 0 [vr (some (97, 1, 0)), vi l1, vi l2, vi l3, vi l5, vi s0]) 0 [] (zma E YX8_nativeOf (d + 1) [(0, vr (some (97, 1, 0))), (4, vi l4)] 238 3 [] Q)) else (Zm E YX8_newObject d M (zargs 0 [vr (some (97, 1, 0)), vi (l1 - (9 : Int32)), vi (l1 + (11 : Int32)), vi (0 : Int32)]) 0 [] (zma E YX8_nativeOf (d + 1) [(0, vr (some (97, 1, 0))), (4, vi l4), (5, vi l5), (6, vi s0)] 255 3 [] Q)))))))))))))))) : Zm E YX8_nativeOf (d + 1) M [(0, vr (some (97, 1, 0))), (1, vi l1), (2, vi l2), (3, vi l3), (4, vi l4), (5, vi l5)] 12 [vi s0] Q := by
  refine Zm.l (fun _ _ k_ => z_ist dX8_nativeOf_12 (by decide) (lv' := [(0, vr (some (97, 1, 0))), (1, vi l1), (2, vi l2), (3, vi l3), (4, vi l4), (5, vi l5), (6, vi s0)]) rfl k_) ?_
  refine Zm.l (fun _ _ k_ => z_iload_n dX8_nativeOf_14 rfl rfl k_) ?_
  by_cases h0_ : l1 = 9
  · have k := zit h0_ k
    refine Zm.l (fun _ _ k_ => z_tableIn (off := 69) (tgt := 84) dX8_nativeOf_15 (by rw [h0_]; decide) (by rw [h0_]; decide) (by rw [h0_]; rfl) rfl k_) ?_
    refine Zm.l (fun _ _ k_ => z_aload_n dX8_nativeOf_84 rfl rfl k_) ?_
    refine Zm.l (fun _ _ k_ => z_iload dX8_nativeOf_85 rfl k_) ?_
    refine Zm.l (fun _ _ k_ => z_iload dX8_nativeOf_87 rfl k_) ?_
    refine Zm.pick [0, 4] rfl ?_
    exact zm_callV (as := [vi l5, vi s0]) (st := []) dX8_nativeOf_89 vsX8_969_1 (Nat.le_refl _) (Nat.le_of_ble_eq_true rfl) (Nat.le_of_ble_eq_true rfl) rfl k
  · have k := zif h0_ k
    by_cases h1_ : l1 = 10
    · have k := zit h1_ k
      refine Zm.l (fun _ _ k_ => z_tableIn (off := 125) (tgt := 140) dX8_nativeOf_15 (by rw [h1_]; decide) (by rw [h1_]; decide) (by rw [h1_]; rfl) rfl k_) ?_
      refine Zm.l (fun _ _ k_ => z_aload_n dX8_nativeOf_140 rfl rfl k_) ?_
      refine Zm.l (fun _ _ k_ => z_bipush (v := 7) dX8_nativeOf_141 rfl k_) ?_
      refine Zm.l (fun _ _ k_ => z_aload_n dX8_nativeOf_143 rfl rfl k_) ?_
      refine Zm.l (fun _ _ k_ => z_iconst (v := 1) dX8_nativeOf_144 rfl k_) ?_
      refine Zm.l (fun _ _ k_ => z_bipush (v := 23) dX8_nativeOf_145 rfl k_) ?_
      refine Zm.l (fun _ _ k_ => z_iconst (v := 0) dX8_nativeOf_147 rfl k_) ?_
      refine Zm.pick [0, 4] rfl ?_
      exact zm_callV (as := [vi (1 : Int32), vi (23 : Int32), vi (0 : Int32)]) (st := [vi (7 : Int32), vr (some (97, 1, 0))]) dX8_nativeOf_148 vsX8_858_1 (Nat.le_refl _) (Nat.le_of_ble_eq_true rfl) (Nat.le_of_ble_eq_true rfl) rfl k
    · have k := zif h1_ k
      by_cases h2_ : l1 = 11
      · have k := zit h2_ k
        refine Zm.l (fun _ _ k_ => z_tableIn (off := 142) (tgt := 157) dX8_nativeOf_15 (by rw [h2_]; decide) (by rw [h2_]; decide) (by rw [h2_]; rfl) rfl k_) ?_
        refine Zm.l (fun _ _ k_ => z_aload_n dX8_nativeOf_157 rfl rfl k_) ?_
        refine Zm.l (fun _ _ k_ => z_bipush (v := 7) dX8_nativeOf_158 rfl k_) ?_
        refine Zm.l (fun _ _ k_ => z_aload_n dX8_nativeOf_160 rfl rfl k_) ?_
        refine Zm.l (fun _ _ k_ => z_bipush (v := 24) dX8_nativeOf_161 rfl k_) ?_
        refine Zm.pick [0, 4] rfl ?_
        exact zm_callV (as := [vi (24 : Int32)]) (st := [vi (7 : Int32), vr (some (97, 1, 0))]) dX8_nativeOf_163 vsX8_923_1 (Nat.le_refl _) (Nat.le_of_ble_eq_true rfl) (Nat.le_of_ble_eq_true rfl) rfl k
      · have k := zif h2_ k
        by_cases h3_ : l1 = 12
        · have k := zit h3_ k
          refine Zm.l (fun _ _ k_ => z_tableIn (off := 157) (tgt := 172) dX8_nativeOf_15 (by rw [h3_]; decide) (by rw [h3_]; decide) (by rw [h3_]; rfl) rfl k_) ?_
          refine Zm.l (fun _ _ k_ => z_aload_n dX8_nativeOf_172 rfl rfl k_) ?_
          refine Zm.l (fun _ _ k_ => z_bipush (v := 6) dX8_nativeOf_173 rfl k_) ?_
          refine Zm.l (fun _ _ k_ => z_aload_n dX8_nativeOf_175 rfl rfl k_) ?_
          refine zm_geti dX8_nativeOf_176 fsX8_995_1 (by decide) (by decide) ?_
          refine Zm.brn (fun _ _ k1_ k2_ => z_if_ne (tgt := 187) dX8_nativeOf_179 rfl k1_ k2_) (fun h_ => ?_) (fun h_ => ?_)
          · have k := zif h_ k
            refine Zm.l (fun _ _ k_ => z_aload_n dX8_nativeOf_187 rfl rfl k_) ?_
            refine Zm.l (fun _ _ k_ => z_iload dX8_nativeOf_188 rfl k_) ?_
            refine Zm.l (fun _ _ k_ => z_iload dX8_nativeOf_190 rfl k_) ?_
            refine Zm.pick [0, 4] rfl ?_
            exact zm_callV (as := [vi l5, vi s0]) (st := [vi (6 : Int32), vr (some (97, 1, 0))]) dX8_nativeOf_192 vsX8_969_1 (Nat.le_refl _) (Nat.le_of_ble_eq_true rfl) (Nat.le_of_ble_eq_true rfl) rfl k
          · have k := zit h_ k
            refine Zm.l (fun _ _ k_ => z_bipush (v := 30) dX8_nativeOf_182 rfl k_) ?_
            refine Zm.l (fun _ _ k_ => z_goto (tgt := 195) dX8_nativeOf_184 rfl k_) ?_
            refine Zm.pick [0, 4] rfl ?_
            exact k
        · have k := zif h3_ k
          by_cases h4_ : l1 = 13
          · have k := zit h4_ k
            refine Zm.l (fun _ _ k_ => z_tableIn (off := 186) (tgt := 201) dX8_nativeOf_15 (by rw [h4_]; decide) (by rw [h4_]; decide) (by rw [h4_]; rfl) rfl k_) ?_
            refine Zm.l (fun _ _ k_ => z_aload_n dX8_nativeOf_201 rfl rfl k_) ?_
            refine Zm.l (fun _ _ k_ => z_iload dX8_nativeOf_202 rfl k_) ?_
            refine Zm.l (fun _ _ k_ => z_iload dX8_nativeOf_204 rfl k_) ?_
            refine Zm.pick [0, 4] rfl ?_
            exact zm_callV (as := [vi l5, vi s0]) (st := []) dX8_nativeOf_206 vsX8_816_1 (Nat.le_refl _) (Nat.le_of_ble_eq_true rfl) (Nat.le_of_ble_eq_true rfl) rfl k
          · have k := zif h4_ k
            by_cases h5_ : l1 = 14
            · have k := zit h5_ k
              refine Zm.l (fun _ _ k_ => z_tableIn (off := 230) (tgt := 245) dX8_nativeOf_15 (by rw [h5_]; decide) (by rw [h5_]; decide) (by rw [h5_]; rfl) rfl k_) ?_
              refine Zm.l (fun _ _ k_ => z_aload_n dX8_nativeOf_245 rfl rfl k_) ?_
              refine Zm.l (fun _ _ k_ => z_iload_n dX8_nativeOf_246 rfl rfl k_) ?_
              refine Zm.l (fun _ _ k_ => z_bipush (v := 9) dX8_nativeOf_247 rfl k_) ?_
              refine Zm.l (fun _ _ k_ => z_isub dX8_nativeOf_249 k_) ?_
              refine Zm.l (fun _ _ k_ => z_iload_n dX8_nativeOf_250 rfl rfl k_) ?_
              refine Zm.l (fun _ _ k_ => z_bipush (v := 11) dX8_nativeOf_251 rfl k_) ?_
              refine Zm.l (fun _ _ k_ => z_iadd dX8_nativeOf_253 k_) ?_
              refine Zm.l (fun _ _ k_ => z_iconst (v := 0) dX8_nativeOf_254 rfl k_) ?_
              refine Zm.pick [0, 4, 5, 6] rfl ?_
              exact zm_callV (as := [vi (l1 - (9 : Int32)), vi (l1 + (11 : Int32)), vi (0 : Int32)]) (st := []) dX8_nativeOf_255 vsX8_858_1 (Nat.le_refl _) (Nat.le_of_ble_eq_true rfl) (Nat.le_of_ble_eq_true rfl) rfl k
            · have k := zif h5_ k
              by_cases h6_ : l1 = 15
              · have k := zit h6_ k
                refine Zm.l (fun _ _ k_ => z_tableIn (off := 230) (tgt := 245) dX8_nativeOf_15 (by rw [h6_]; decide) (by rw [h6_]; decide) (by rw [h6_]; rfl) rfl k_) ?_
                refine Zm.l (fun _ _ k_ => z_aload_n dX8_nativeOf_245 rfl rfl k_) ?_
                refine Zm.l (fun _ _ k_ => z_iload_n dX8_nativeOf_246 rfl rfl k_) ?_
                refine Zm.l (fun _ _ k_ => z_bipush (v := 9) dX8_nativeOf_247 rfl k_) ?_
                refine Zm.l (fun _ _ k_ => z_isub dX8_nativeOf_249 k_) ?_
                refine Zm.l (fun _ _ k_ => z_iload_n dX8_nativeOf_250 rfl rfl k_) ?_
                refine Zm.l (fun _ _ k_ => z_bipush (v := 11) dX8_nativeOf_251 rfl k_) ?_
                refine Zm.l (fun _ _ k_ => z_iadd dX8_nativeOf_253 k_) ?_
                refine Zm.l (fun _ _ k_ => z_iconst (v := 0) dX8_nativeOf_254 rfl k_) ?_
                refine Zm.pick [0, 4, 5, 6] rfl ?_
                exact zm_callV (as := [vi (l1 - (9 : Int32)), vi (l1 + (11 : Int32)), vi (0 : Int32)]) (st := []) dX8_nativeOf_255 vsX8_858_1 (Nat.le_refl _) (Nat.le_of_ble_eq_true rfl) (Nat.le_of_ble_eq_true rfl) rfl k
              · have k := zif h6_ k
                by_cases h7_ : l1 = 16
                · have k := zit h7_ k
                  refine Zm.l (fun _ _ k_ => z_tableIn (off := 230) (tgt := 245) dX8_nativeOf_15 (by rw [h7_]; decide) (by rw [h7_]; decide) (by rw [h7_]; rfl) rfl k_) ?_
                  refine Zm.l (fun _ _ k_ => z_aload_n dX8_nativeOf_245 rfl rfl k_) ?_
                  refine Zm.l (fun _ _ k_ => z_iload_n dX8_nativeOf_246 rfl rfl k_) ?_
                  refine Zm.l (fun _ _ k_ => z_bipush (v := 9) dX8_nativeOf_247 rfl k_) ?_
                  refine Zm.l (fun _ _ k_ => z_isub dX8_nativeOf_249 k_) ?_
                  refine Zm.l (fun _ _ k_ => z_iload_n dX8_nativeOf_250 rfl rfl k_) ?_
                  refine Zm.l (fun _ _ k_ => z_bipush (v := 11) dX8_nativeOf_251 rfl k_) ?_
                  refine Zm.l (fun _ _ k_ => z_iadd dX8_nativeOf_253 k_) ?_
                  refine Zm.l (fun _ _ k_ => z_iconst (v := 0) dX8_nativeOf_254 rfl k_) ?_
                  refine Zm.pick [0, 4, 5, 6] rfl ?_
                  exact zm_callV (as := [vi (l1 - (9 : Int32)), vi (l1 + (11 : Int32)), vi (0 : Int32)]) (st := []) dX8_nativeOf_255 vsX8_858_1 (Nat.le_refl _) (Nat.le_of_ble_eq_true rfl) (Nat.le_of_ble_eq_true rfl) rfl k
                · have k := zif h7_ k
                  by_cases h8_ : l1 = 17
                  · have k := zit h8_ k
                    refine Zm.l (fun _ _ k_ => z_tableIn (off := 230) (tgt := 245) dX8_nativeOf_15 (by rw [h8_]; decide) (by rw [h8_]; decide) (by rw [h8_]; rfl) rfl k_) ?_
                    refine Zm.l (fun _ _ k_ => z_aload_n dX8_nativeOf_245 rfl rfl k_) ?_
                    refine Zm.l (fun _ _ k_ => z_iload_n dX8_nativeOf_246 rfl rfl k_) ?_
                    refine Zm.l (fun _ _ k_ => z_bipush (v := 9) dX8_nativeOf_247 rfl k_) ?_
                    refine Zm.l (fun _ _ k_ => z_isub dX8_nativeOf_249 k_) ?_
                    refine Zm.l (fun _ _ k_ => z_iload_n dX8_nativeOf_250 rfl rfl k_) ?_
                    refine Zm.l (fun _ _ k_ => z_bipush (v := 11) dX8_nativeOf_251 rfl k_) ?_
                    refine Zm.l (fun _ _ k_ => z_iadd dX8_nativeOf_253 k_) ?_
                    refine Zm.l (fun _ _ k_ => z_iconst (v := 0) dX8_nativeOf_254 rfl k_) ?_
                    refine Zm.pick [0, 4, 5, 6] rfl ?_
                    exact zm_callV (as := [vi (l1 - (9 : Int32)), vi (l1 + (11 : Int32)), vi (0 : Int32)]) (st := []) dX8_nativeOf_255 vsX8_858_1 (Nat.le_refl _) (Nat.le_of_ble_eq_true rfl) (Nat.le_of_ble_eq_true rfl) rfl k
                  · have k := zif h8_ k
                    by_cases h9_ : l1 = 18
                    · have k := zit h9_ k
                      refine Zm.l (fun _ _ k_ => z_tableIn (off := 215) (tgt := 230) dX8_nativeOf_15 (by rw [h9_]; decide) (by rw [h9_]; decide) (by rw [h9_]; rfl) rfl k_) ?_
                      refine Zm.l (fun _ _ k_ => z_aload_n dX8_nativeOf_230 rfl rfl k_) ?_
                      refine Zm.l (fun _ _ k_ => z_iload_n dX8_nativeOf_231 rfl rfl k_) ?_
                      refine Zm.l (fun _ _ k_ => z_iload_n dX8_nativeOf_232 rfl rfl k_) ?_
                      refine Zm.l (fun _ _ k_ => z_iload_n dX8_nativeOf_233 rfl rfl k_) ?_
                      refine Zm.l (fun _ _ k_ => z_iload dX8_nativeOf_234 rfl k_) ?_
                      refine Zm.l (fun _ _ k_ => z_iload dX8_nativeOf_236 rfl k_) ?_
                      refine Zm.pick [0, 4] rfl ?_
                      exact zm_callV (as := [vi l1, vi l2, vi l3, vi l5, vi s0]) (st := []) dX8_nativeOf_238 vsX8_1020_1 (Nat.le_refl _) (Nat.le_of_ble_eq_true rfl) (Nat.le_of_ble_eq_true rfl) rfl k
                    · have k := zif h9_ k
                      by_cases h10_ : l1 = 19
                      · have k := zit h10_ k
                        refine Zm.l (fun _ _ k_ => z_tableIn (off := 215) (tgt := 230) dX8_nativeOf_15 (by rw [h10_]; decide) (by rw [h10_]; decide) (by rw [h10_]; rfl) rfl k_) ?_
                        refine Zm.l (fun _ _ k_ => z_aload_n dX8_nativeOf_230 rfl rfl k_) ?_
                        refine Zm.l (fun _ _ k_ => z_iload_n dX8_nativeOf_231 rfl rfl k_) ?_
                        refine Zm.l (fun _ _ k_ => z_iload_n dX8_nativeOf_232 rfl rfl k_) ?_
                        refine Zm.l (fun _ _ k_ => z_iload_n dX8_nativeOf_233 rfl rfl k_) ?_
                        refine Zm.l (fun _ _ k_ => z_iload dX8_nativeOf_234 rfl k_) ?_
                        refine Zm.l (fun _ _ k_ => z_iload dX8_nativeOf_236 rfl k_) ?_
                        refine Zm.pick [0, 4] rfl ?_
                        exact zm_callV (as := [vi l1, vi l2, vi l3, vi l5, vi s0]) (st := []) dX8_nativeOf_238 vsX8_1020_1 (Nat.le_refl _) (Nat.le_of_ble_eq_true rfl) (Nat.le_of_ble_eq_true rfl) rfl k
                      · have k := zif h10_ k
                        by_cases h11_ : l1 = 20
                        · have k := zit h11_ k
                          refine Zm.l (fun _ _ k_ => z_tableIn (off := 230) (tgt := 245) dX8_nativeOf_15 (by rw [h11_]; decide) (by rw [h11_]; decide) (by rw [h11_]; rfl) rfl k_) ?_
                          refine Zm.l (fun _ _ k_ => z_aload_n dX8_nativeOf_245 rfl rfl k_) ?_
                          refine Zm.l (fun _ _ k_ => z_iload_n dX8_nativeOf_246 rfl rfl k_) ?_
                          refine Zm.l (fun _ _ k_ => z_bipush (v := 9) dX8_nativeOf_247 rfl k_) ?_
                          refine Zm.l (fun _ _ k_ => z_isub dX8_nativeOf_249 k_) ?_
                          refine Zm.l (fun _ _ k_ => z_iload_n dX8_nativeOf_250 rfl rfl k_) ?_
                          refine Zm.l (fun _ _ k_ => z_bipush (v := 11) dX8_nativeOf_251 rfl k_) ?_
                          refine Zm.l (fun _ _ k_ => z_iadd dX8_nativeOf_253 k_) ?_
                          refine Zm.l (fun _ _ k_ => z_iconst (v := 0) dX8_nativeOf_254 rfl k_) ?_
                          refine Zm.pick [0, 4, 5, 6] rfl ?_
                          exact zm_callV (as := [vi (l1 - (9 : Int32)), vi (l1 + (11 : Int32)), vi (0 : Int32)]) (st := []) dX8_nativeOf_255 vsX8_858_1 (Nat.le_refl _) (Nat.le_of_ble_eq_true rfl) (Nat.le_of_ble_eq_true rfl) rfl k
                        · have k := zif h11_ k
                          by_cases h12_ : l1 = 21
                          · have k := zit h12_ k
                            refine Zm.l (fun _ _ k_ => z_tableIn (off := 215) (tgt := 230) dX8_nativeOf_15 (by rw [h12_]; decide) (by rw [h12_]; decide) (by rw [h12_]; rfl) rfl k_) ?_
                            refine Zm.l (fun _ _ k_ => z_aload_n dX8_nativeOf_230 rfl rfl k_) ?_
                            refine Zm.l (fun _ _ k_ => z_iload_n dX8_nativeOf_231 rfl rfl k_) ?_
                            refine Zm.l (fun _ _ k_ => z_iload_n dX8_nativeOf_232 rfl rfl k_) ?_
                            refine Zm.l (fun _ _ k_ => z_iload_n dX8_nativeOf_233 rfl rfl k_) ?_
                            refine Zm.l (fun _ _ k_ => z_iload dX8_nativeOf_234 rfl k_) ?_
                            refine Zm.l (fun _ _ k_ => z_iload dX8_nativeOf_236 rfl k_) ?_
                            refine Zm.pick [0, 4] rfl ?_
                            exact zm_callV (as := [vi l1, vi l2, vi l3, vi l5, vi s0]) (st := []) dX8_nativeOf_238 vsX8_1020_1 (Nat.le_refl _) (Nat.le_of_ble_eq_true rfl) (Nat.le_of_ble_eq_true rfl) rfl k
                          · have k := zif h12_ k
                            by_cases h13_ : l1 = 22
                            · have k := zit h13_ k
                              refine Zm.l (fun _ _ k_ => z_tableIn (off := 215) (tgt := 230) dX8_nativeOf_15 (by rw [h13_]; decide) (by rw [h13_]; decide) (by rw [h13_]; rfl) rfl k_) ?_
                              refine Zm.l (fun _ _ k_ => z_aload_n dX8_nativeOf_230 rfl rfl k_) ?_
                              refine Zm.l (fun _ _ k_ => z_iload_n dX8_nativeOf_231 rfl rfl k_) ?_
                              refine Zm.l (fun _ _ k_ => z_iload_n dX8_nativeOf_232 rfl rfl k_) ?_
                              refine Zm.l (fun _ _ k_ => z_iload_n dX8_nativeOf_233 rfl rfl k_) ?_
                              refine Zm.l (fun _ _ k_ => z_iload dX8_nativeOf_234 rfl k_) ?_
                              refine Zm.l (fun _ _ k_ => z_iload dX8_nativeOf_236 rfl k_) ?_
                              refine Zm.pick [0, 4] rfl ?_
                              exact zm_callV (as := [vi l1, vi l2, vi l3, vi l5, vi s0]) (st := []) dX8_nativeOf_238 vsX8_1020_1 (Nat.le_refl _) (Nat.le_of_ble_eq_true rfl) (Nat.le_of_ble_eq_true rfl) rfl k
                            · have k := zif h13_ k
                              refine Zm.l (fun _ _ k_ => z_tout (tgt := 245) [9, 10, 11, 12, 13, 14, 15, 16, 17, 18, 19, 20, 21, 22] (by decide) dX8_nativeOf_15 (zall_1 h0_ (zall_1 h1_ (zall_1 h2_ (zall_1 h3_ (zall_1 h4_ (zall_1 h5_ (zall_1 h6_ (zall_1 h7_ (zall_1 h8_ (zall_1 h9_ (zall_1 h10_ (zall_1 h11_ (zall_1 h12_ (zall_1 h13_ zall_0)))))))))))))) rfl k_) ?_
                              refine Zm.l (fun _ _ k_ => z_aload_n dX8_nativeOf_245 rfl rfl k_) ?_
                              refine Zm.l (fun _ _ k_ => z_iload_n dX8_nativeOf_246 rfl rfl k_) ?_
                              refine Zm.l (fun _ _ k_ => z_bipush (v := 9) dX8_nativeOf_247 rfl k_) ?_
                              refine Zm.l (fun _ _ k_ => z_isub dX8_nativeOf_249 k_) ?_
                              refine Zm.l (fun _ _ k_ => z_iload_n dX8_nativeOf_250 rfl rfl k_) ?_
                              refine Zm.l (fun _ _ k_ => z_bipush (v := 11) dX8_nativeOf_251 rfl k_) ?_
                              refine Zm.l (fun _ _ k_ => z_iadd dX8_nativeOf_253 k_) ?_
                              refine Zm.l (fun _ _ k_ => z_iconst (v := 0) dX8_nativeOf_254 rfl k_) ?_
                              refine Zm.pick [0, 4, 5, 6] rfl ?_
                              exact zm_callV (as := [vi (l1 - (9 : Int32)), vi (l1 + (11 : Int32)), vi (0 : Int32)]) (st := []) dX8_nativeOf_255 vsX8_858_1 (Nat.le_refl _) (Nat.le_of_ble_eq_true rfl) (Nat.le_of_ble_eq_true rfl) rfl k
theorem sX8_nativeOf_92 {E : zE} {d : Nat} {Q : zO → zM → Prop} (M : zM) (l4 : Int32) (s0 : Int32) (k : if (gi M 97 75) = 0 then (if (100 : Int32) ≤ (gi M 97 107) then (Zm E YX8_give_2 d M (zargs 0 [vr (some (97, 1, 0)), vi (0 : Int32), vi (0 : Int32)]) 0 [] (zma E YX8_nativeOf (d + 1) [(0, vr (some (97, 1, 0))), (4, vi l4)] 134 3 [] Q)) else (vp_in (gi M 97 107) 100 ∧ (Zm E YX8_give_2 d (si (si M 164 ((gi M 97 107)).toNatClampNeg s0) 97 107 ((gi M 97 107) + (1 : Int32))) (zargs 0 [vr (some (97, 1, 0)), vi (0 : Int32), vi (0 : Int32)]) 0 [] (zma E YX8_nativeOf (d + 1) [(0, vr (some (97, 1, 0))), (4, vi l4)] 134 3 [] Q)))) else (Zm E YX8_give_2 d M (zargs 0 [vr (some (97, 1, 0)), vi (0 : Int32), vi (0 : Int32)]) 0 [] (zma E YX8_nativeOf (d + 1) [(0, vr (some (97, 1, 0))), (4, vi l4)] 134 3 [] Q))) : Zm E YX8_nativeOf (d + 1) M [(0, vr (some (97, 1, 0))), (4, vi l4)] 92 [vi s0] Q := by
  refine Zm.l (fun _ _ k_ => z_ist dX8_nativeOf_92 (by decide) (lv' := [(0, vr (some (97, 1, 0))), (4, vi l4), (7, vi s0)]) rfl k_) ?_
  refine Zm.l (fun _ _ k_ => z_aload_n dX8_nativeOf_94 rfl rfl k_) ?_
  refine zm_geti dX8_nativeOf_95 fsX8_794_1 (by decide) (by decide) ?_
  refine Zm.brn (fun _ _ k1_ k2_ => z_if_ne (tgt := 131) dX8_nativeOf_98 rfl k1_ k2_) (fun h_ => ?_) (fun h_ => ?_)
  · have k := zif h_ k
    refine Zm.l (fun _ _ k_ => z_aload_n dX8_nativeOf_131 rfl rfl k_) ?_
    refine Zm.l (fun _ _ k_ => z_iconst (v := 0) dX8_nativeOf_132 rfl k_) ?_
    refine Zm.l (fun _ _ k_ => z_iconst (v := 0) dX8_nativeOf_133 rfl k_) ?_
    refine Zm.pick [0, 1] rfl ?_
    exact zm_callV (as := [vi (0 : Int32), vi (0 : Int32)]) (st := []) dX8_nativeOf_134 vsX8_822_1 (Nat.le_refl _) (Nat.le_of_ble_eq_true rfl) (Nat.le_of_ble_eq_true rfl) rfl k
  · have k := zit h_ k
    refine Zm.l (fun _ _ k_ => z_aload_n dX8_nativeOf_101 rfl rfl k_) ?_
    refine zm_geti dX8_nativeOf_102 fsX8_864_1 (by decide) (by decide) ?_
    refine Zm.l (fun _ _ k_ => z_bipush (v := 100) dX8_nativeOf_105 rfl k_) ?_
    refine Zm.br (fun _ _ k1_ k2_ => z_icmp_ge (tgt := 131) dX8_nativeOf_107 rfl k1_ k2_) (fun h_ => ?_) (fun h_ => ?_)
    · have k := zit h_ k
      refine Zm.l (fun _ _ k_ => z_aload_n dX8_nativeOf_131 rfl rfl k_) ?_
      refine Zm.l (fun _ _ k_ => z_iconst (v := 0) dX8_nativeOf_132 rfl k_) ?_
      refine Zm.l (fun _ _ k_ => z_iconst (v := 0) dX8_nativeOf_133 rfl k_) ?_
      refine Zm.pick [0, 1] rfl ?_
      exact zm_callV (as := [vi (0 : Int32), vi (0 : Int32)]) (st := []) dX8_nativeOf_134 vsX8_822_1 (Nat.le_refl _) (Nat.le_of_ble_eq_true rfl) (Nat.le_of_ble_eq_true rfl) rfl k
    · have k := zif h_ k
      refine Zm.l (fun _ _ k_ => z_aload_n dX8_nativeOf_110 rfl rfl k_) ?_
      refine zm_getr 61 dX8_nativeOf_111 fsX8_212_1 rfl ?_
      refine Zm.l (fun _ _ k_ => z_aload_n dX8_nativeOf_114 rfl rfl k_) ?_
      refine zm_geti dX8_nativeOf_115 fsX8_864_1 (by decide) (by decide) ?_
      refine Zm.l (fun _ _ k_ => z_iload dX8_nativeOf_118 rfl k_) ?_
      obtain ⟨b_, k⟩ := k
      refine zm_iast dX8_nativeOf_120 b_ (by decide) (by decide) ?_
      refine Zm.l (fun _ _ k_ => z_aload_n dX8_nativeOf_121 rfl rfl k_) ?_
      refine Zm.l (fun _ _ k_ => z_dup dX8_nativeOf_122 rfl k_) ?_
      refine zm_geti dX8_nativeOf_123 fsX8_864_1 (by decide) (by decide) ?_
      refine Zm.l (fun _ _ k_ => z_iconst (v := 1) dX8_nativeOf_126 rfl k_) ?_
      refine Zm.l (fun _ _ k_ => z_iadd dX8_nativeOf_127 k_) ?_
      refine zm_puti (by decide) (by decide) dX8_nativeOf_128 (zfwN.w fwX8_864_1) rfl ⟨rfl, rfl⟩ ?_
      refine Zm.l (fun _ _ k_ => z_aload_n dX8_nativeOf_131 rfl rfl k_) ?_
      refine Zm.l (fun _ _ k_ => z_iconst (v := 0) dX8_nativeOf_132 rfl k_) ?_
      refine Zm.l (fun _ _ k_ => z_iconst (v := 0) dX8_nativeOf_133 rfl k_) ?_
      refine Zm.pick [0, 1] rfl ?_
      exact zm_callV (as := [vi (0 : Int32), vi (0 : Int32)]) (st := []) dX8_nativeOf_134 vsX8_822_1 (Nat.le_refl _) (Nat.le_of_ble_eq_true rfl) (Nat.le_of_ble_eq_true rfl) rfl k
theorem sX8_nativeOf_137 {E : zE} {d : Nat} {Q : zO → zM → Prop} (M : zM) (l4 : Int32) (k : Zm E YX8_nativeOf (d + 1) M [(0, vr (some (97, 1, 0))), (4, vi l4)] 310 [] Q) : Zm E YX8_nativeOf (d + 1) M [(0, vr (some (97, 1, 0))), (4, vi l4)] 137 [] Q := by
  refine Zm.l (fun _ _ k_ => z_goto (tgt := 310) dX8_nativeOf_137 rfl k_) ?_
  exact k
theorem sX8_nativeOf_151 {E : zE} {d : Nat} {Q : zO → zM → Prop} (M : zM) (l4 : Int32) (s0 : Int32) (s1 : Int32) (k : Zm E YX8_give_2 d M (zargs 0 [vr (some (97, 1, 0)), vi s1, vi s0]) 0 [] (zma E YX8_nativeOf (d + 1) [(0, vr (some (97, 1, 0))), (4, vi l4)] 151 3 [] Q)) : Zm E YX8_nativeOf (d + 1) M [(0, vr (some (97, 1, 0))), (4, vi l4)] 151 [vi s0, vi s1, vr (some (97, 1, 0))] Q := by
  exact zm_callV (as := [vi s1, vi s0]) (st := []) dX8_nativeOf_151 vsX8_822_1 (Nat.le_refl _) (Nat.le_of_ble_eq_true rfl) (Nat.le_of_ble_eq_true rfl) rfl k
theorem sX8_nativeOf_154 {E : zE} {d : Nat} {Q : zO → zM → Prop} (M : zM) (l4 : Int32) (k : Zm E YX8_nativeOf (d + 1) M [(0, vr (some (97, 1, 0))), (4, vi l4)] 310 [] Q) : Zm E YX8_nativeOf (d + 1) M [(0, vr (some (97, 1, 0))), (4, vi l4)] 154 [] Q := by
  refine Zm.l (fun _ _ k_ => z_goto (tgt := 310) dX8_nativeOf_154 rfl k_) ?_
  exact k
theorem sX8_nativeOf_166 {E : zE} {d : Nat} {Q : zO → zM → Prop} (M : zM) (l4 : Int32) (s0 : Int32) (s1 : Int32) (k : Zm E YX8_give_2 d M (zargs 0 [vr (some (97, 1, 0)), vi s1, vi s0]) 0 [] (zma E YX8_nativeOf (d + 1) [(0, vr (some (97, 1, 0))), (4, vi l4)] 166 3 [] Q)) : Zm E YX8_nativeOf (d + 1) M [(0, vr (some (97, 1, 0))), (4, vi l4)] 166 [vi s0, vi s1, vr (some (97, 1, 0))] Q := by
  exact zm_callV (as := [vi s1, vi s0]) (st := []) dX8_nativeOf_166 vsX8_822_1 (Nat.le_refl _) (Nat.le_of_ble_eq_true rfl) (Nat.le_of_ble_eq_true rfl) rfl k
theorem sX8_nativeOf_169 {E : zE} {d : Nat} {Q : zO → zM → Prop} (M : zM) (l4 : Int32) (k : Zm E YX8_nativeOf (d + 1) M [(0, vr (some (97, 1, 0))), (4, vi l4)] 310 [] Q) : Zm E YX8_nativeOf (d + 1) M [(0, vr (some (97, 1, 0))), (4, vi l4)] 169 [] Q := by
  refine Zm.l (fun _ _ k_ => z_goto (tgt := 310) dX8_nativeOf_169 rfl k_) ?_
  exact k
theorem sX8_nativeOf_195 {E : zE} {d : Nat} {Q : zO → zM → Prop} (M : zM) (l4 : Int32) (s0 : Int32) (s1 : Int32) (k : Zm E YX8_give_2 d M (zargs 0 [vr (some (97, 1, 0)), vi s1, vi s0]) 0 [] (zma E YX8_nativeOf (d + 1) [(0, vr (some (97, 1, 0))), (4, vi l4)] 195 3 [] Q)) : Zm E YX8_nativeOf (d + 1) M [(0, vr (some (97, 1, 0))), (4, vi l4)] 195 [vi s0, vi s1, vr (some (97, 1, 0))] Q := by
  exact zm_callV (as := [vi s1, vi s0]) (st := []) dX8_nativeOf_195 vsX8_822_1 (Nat.le_refl _) (Nat.le_of_ble_eq_true rfl) (Nat.le_of_ble_eq_true rfl) rfl k
theorem sX8_nativeOf_198 {E : zE} {d : Nat} {Q : zO → zM → Prop} (M : zM) (l4 : Int32) (k : Zm E YX8_nativeOf (d + 1) M [(0, vr (some (97, 1, 0))), (4, vi l4)] 310 [] Q) : Zm E YX8_nativeOf (d + 1) M [(0, vr (some (97, 1, 0))), (4, vi l4)] 198 [] Q := by
  refine Zm.l (fun _ _ k_ => z_goto (tgt := 310) dX8_nativeOf_198 rfl k_) ?_
  exact k
theorem sX8_nativeOf_209 {E : zE} {d : Nat} {Q : zO → zM → Prop} (M : zM) (l4 : Int32) (s0 : Int32) (k : if (gi M 97 113) = 0 then (Zm E YX8_truth d M (zargs 0 [vr (some (97, 1, 0)), vi (1 : Int32)]) 0 [] (zma E YX8_nativeOf (d + 1) [(0, vr (some (97, 1, 0))), (4, vi l4)] 224 3 [] Q)) else (Zm E YX8_truth d M (zargs 0 [vr (some (97, 1, 0)), vi (0 : Int32)]) 0 [] (zma E YX8_nativeOf (d + 1) [(0, vr (some (97, 1, 0))), (4, vi l4)] 224 3 [] Q))) : Zm E YX8_nativeOf (d + 1) M [(0, vr (some (97, 1, 0))), (4, vi l4)] 209 [vi s0] Q := by
  refine Zm.l (fun _ _ k_ => z_ist dX8_nativeOf_209 (by decide) (lv' := [(0, vr (some (97, 1, 0))), (4, vi l4), (7, vi s0)]) rfl k_) ?_
  refine Zm.l (fun _ _ k_ => z_aload_n dX8_nativeOf_211 rfl rfl k_) ?_
  refine Zm.l (fun _ _ k_ => z_aload_n dX8_nativeOf_212 rfl rfl k_) ?_
  refine zm_geti dX8_nativeOf_213 fsX8_806_1 (by decide) (by decide) ?_
  refine Zm.brn (fun _ _ k1_ k2_ => z_if_ne (tgt := 223) dX8_nativeOf_216 rfl k1_ k2_) (fun h_ => ?_) (fun h_ => ?_)
  · have k := zif h_ k
    refine Zm.l (fun _ _ k_ => z_iconst (v := 0) dX8_nativeOf_223 rfl k_) ?_
    refine Zm.pick [0, 1] rfl ?_
    exact zm_callV (as := [vi (0 : Int32)]) (st := []) dX8_nativeOf_224 vsX8_827_1 (Nat.le_refl _) (Nat.le_of_ble_eq_true rfl) (Nat.le_of_ble_eq_true rfl) rfl k
  · have k := zit h_ k
    refine Zm.l (fun _ _ k_ => z_iconst (v := 1) dX8_nativeOf_219 rfl k_) ?_
    refine Zm.l (fun _ _ k_ => z_goto (tgt := 224) dX8_nativeOf_220 rfl k_) ?_
    refine Zm.pick [0, 1] rfl ?_
    exact zm_callV (as := [vi (1 : Int32)]) (st := []) dX8_nativeOf_224 vsX8_827_1 (Nat.le_refl _) (Nat.le_of_ble_eq_true rfl) (Nat.le_of_ble_eq_true rfl) rfl k
theorem sX8_nativeOf_227 {E : zE} {d : Nat} {Q : zO → zM → Prop} (M : zM) (l4 : Int32) (k : Zm E YX8_nativeOf (d + 1) M [(0, vr (some (97, 1, 0))), (4, vi l4)] 310 [] Q) : Zm E YX8_nativeOf (d + 1) M [(0, vr (some (97, 1, 0))), (4, vi l4)] 227 [] Q := by
  refine Zm.l (fun _ _ k_ => z_goto (tgt := 310) dX8_nativeOf_227 rfl k_) ?_
  exact k
theorem sX8_nativeOf_241 {E : zE} {d : Nat} {Q : zO → zM → Prop} (M : zM) (l4 : Int32) (s0 : Int32) (k : if s0 = 0 then (Q (.inl none) M) else (Zm E YX8_nativeOf (d + 1) M [(0, vr (some (97, 1, 0))), (4, vi l4)] 310 [] Q)) : Zm E YX8_nativeOf (d + 1) M [(0, vr (some (97, 1, 0))), (4, vi l4)] 241 [vi s0] Q := by
  refine Zm.brn (fun _ _ k1_ k2_ => z_if_ne (tgt := 310) dX8_nativeOf_241 rfl k1_ k2_) (fun h_ => ?_) (fun h_ => ?_)
  · have k := zif h_ k
    exact k
  · have k := zit h_ k
    exact zm_vret dX8_nativeOf_244 rfl k
theorem sX8_nativeOf_258 {E : zE} {d : Nat} {Q : zO → zM → Prop} (M : zM) (l4 : Int32) (l5 : Int32) (l6 : Int32) (s0 : Int32) (k : if (gi M 97 75) = 0 then (if (gi M 97 115) ≤ 0 then (Zm E YX8_nativeOf (d + 1) M [(0, vr (some (97, 1, 0))), (4, vi l4), (7, vi s0)] 302 [] Q) else (Zm E YX8_textOf d M (zargs 0 [vr (some (97, 1, 0)), vi l5, vi l6]) 0 [] (zma E YX8_nativeOf (d + 1) [(0, vr (some (97, 1, 0))), (4, vi l4), (7, vi s0)] 279 3 [] Q))) else (Zm E YX8_nativeOf (d + 1) M [(0, vr (some (97, 1, 0))), (4, vi l4), (7, vi s0)] 302 [] Q)) : Zm E YX8_nativeOf (d + 1) M [(0, vr (some (97, 1, 0))), (4, vi l4), (5, vi l5), (6, vi l6)] 258 [vi s0] Q := by
  refine Zm.l (fun _ _ k_ => z_ist dX8_nativeOf_258 (by decide) (lv' := [(0, vr (some (97, 1, 0))), (4, vi l4), (5, vi l5), (6, vi l6), (7, vi s0)]) rfl k_) ?_
  refine Zm.l (fun _ _ k_ => z_aload_n dX8_nativeOf_260 rfl rfl k_) ?_
  refine zm_geti dX8_nativeOf_261 fsX8_794_1 (by decide) (by decide) ?_
  refine Zm.brn (fun _ _ k1_ k2_ => z_if_ne (tgt := 302) dX8_nativeOf_264 rfl k1_ k2_) (fun h_ => ?_) (fun h_ => ?_)
  · have k := zif h_ k
    refine Zm.pick [0, 1, 4] rfl ?_
    exact k
  · have k := zit h_ k
    refine Zm.l (fun _ _ k_ => z_aload_n dX8_nativeOf_267 rfl rfl k_) ?_
    refine zm_geti dX8_nativeOf_268 fsX8_995_1 (by decide) (by decide) ?_
    refine Zm.br (fun _ _ k1_ k2_ => z_if_le (tgt := 302) dX8_nativeOf_271 rfl k1_ k2_) (fun h_ => ?_) (fun h_ => ?_)
    · have k := zit h_ k
      refine Zm.pick [0, 1, 4] rfl ?_
      exact k
    · have k := zif h_ k
      refine Zm.l (fun _ _ k_ => z_aload_n dX8_nativeOf_274 rfl rfl k_) ?_
      refine Zm.l (fun _ _ k_ => z_iload dX8_nativeOf_275 rfl k_) ?_
      refine Zm.l (fun _ _ k_ => z_iload dX8_nativeOf_277 rfl k_) ?_
      refine Zm.pick [0, 1, 4] rfl ?_
      exact zm_callV (as := [vi l5, vi l6]) (st := []) dX8_nativeOf_279 vsX8_969_1 (Nat.le_refl _) (Nat.le_of_ble_eq_true rfl) (Nat.le_of_ble_eq_true rfl) rfl k
theorem sX8_nativeOf_282 {E : zE} {d : Nat} {Q : zO → zM → Prop} (M : zM) (l4 : Int32) (l7 : Int32) (s0 : Int32) (k : if (gi M 97 75) = 0 then (Zm E YX8_set_2 d M (zargs 0 [vr (some (97, 1, 0)), vi l7, vi (3 : Int32), vi (6 : Int32), vi s0]) 0 [] (zma E YX8_nativeOf (d + 1) [(0, vr (some (97, 1, 0))), (4, vi l4), (7, vi l7)] 299 3 [] Q)) else (Zm E YX8_nativeOf (d + 1) M [(0, vr (some (97, 1, 0))), (4, vi l4), (7, vi l7)] 302 [] Q)) : Zm E YX8_nativeOf (d + 1) M [(0, vr (some (97, 1, 0))), (4, vi l4), (7, vi l7)] 282 [vi s0] Q := by
  refine Zm.l (fun _ _ k_ => z_ist dX8_nativeOf_282 (by decide) (lv' := [(0, vr (some (97, 1, 0))), (4, vi l4), (7, vi l7), (8, vi s0)]) rfl k_) ?_
  refine Zm.l (fun _ _ k_ => z_aload_n dX8_nativeOf_284 rfl rfl k_) ?_
  refine zm_geti dX8_nativeOf_285 fsX8_794_1 (by decide) (by decide) ?_
  refine Zm.brn (fun _ _ k1_ k2_ => z_if_ne (tgt := 302) dX8_nativeOf_288 rfl k1_ k2_) (fun h_ => ?_) (fun h_ => ?_)
  · have k := zif h_ k
    refine Zm.pick [0, 1, 2] rfl ?_
    exact k
  · have k := zit h_ k
    refine Zm.l (fun _ _ k_ => z_aload_n dX8_nativeOf_291 rfl rfl k_) ?_
    refine Zm.l (fun _ _ k_ => z_iload dX8_nativeOf_292 rfl k_) ?_
    refine Zm.l (fun _ _ k_ => z_iconst (v := 3) dX8_nativeOf_294 rfl k_) ?_
    refine Zm.l (fun _ _ k_ => z_bipush (v := 6) dX8_nativeOf_295 rfl k_) ?_
    refine Zm.l (fun _ _ k_ => z_iload dX8_nativeOf_297 rfl k_) ?_
    refine Zm.pick [0, 1, 2] rfl ?_
    exact zm_callV (as := [vi l7, vi (3 : Int32), vi (6 : Int32), vi s0]) (st := []) dX8_nativeOf_299 vsX8_870_1 (Nat.le_refl _) (Nat.le_of_ble_eq_true rfl) (Nat.le_of_ble_eq_true rfl) rfl k
theorem sX8_nativeOf_302 {E : zE} {d : Nat} {Q : zO → zM → Prop} (M : zM) (l4 : Int32) (l7 : Int32) (k : Zm E YX8_give_2 d M (zargs 0 [vr (some (97, 1, 0)), vi (7 : Int32), vi l7]) 0 [] (zma E YX8_nativeOf (d + 1) [(0, vr (some (97, 1, 0))), (4, vi l4)] 307 3 [] Q)) : Zm E YX8_nativeOf (d + 1) M [(0, vr (some (97, 1, 0))), (4, vi l4), (7, vi l7)] 302 [] Q := by
  refine Zm.l (fun _ _ k_ => z_aload_n dX8_nativeOf_302 rfl rfl k_) ?_
  refine Zm.l (fun _ _ k_ => z_bipush (v := 7) dX8_nativeOf_303 rfl k_) ?_
  refine Zm.l (fun _ _ k_ => z_iload dX8_nativeOf_305 rfl k_) ?_
  refine Zm.pick [0, 1] rfl ?_
  exact zm_callV (as := [vi (7 : Int32), vi l7]) (st := []) dX8_nativeOf_307 vsX8_822_1 (Nat.le_refl _) (Nat.le_of_ble_eq_true rfl) (Nat.le_of_ble_eq_true rfl) rfl k
theorem sX8_nativeOf_310 {E : zE} {d : Nat} {Q : zO → zM → Prop} (M : zM) (l4 : Int32) (k : Zm E YX8_gives d M (zargs 0 [vr (some (97, 1, 0)), vi l4]) 0 [] (zma E YX8_nativeOf (d + 1) [] 313 3 [] Q)) : Zm E YX8_nativeOf (d + 1) M [(0, vr (some (97, 1, 0))), (4, vi l4)] 310 [] Q := by
  refine Zm.l (fun _ _ k_ => z_aload_n dX8_nativeOf_310 rfl rfl k_) ?_
  refine Zm.l (fun _ _ k_ => z_iload dX8_nativeOf_311 rfl k_) ?_
  refine Zm.pick [] rfl ?_
  exact zm_callV (as := [vi l4]) (st := []) dX8_nativeOf_313 vsX8_904_1 (Nat.le_refl _) (Nat.le_of_ble_eq_true rfl) (Nat.le_of_ble_eq_true rfl) rfl k
theorem sX8_nativeOf_316 {E : zE} {d : Nat} {Q : zO → zM → Prop} (M : zM)  (k : Q (.inl none) M) : Zm E YX8_nativeOf (d + 1) M [] 316 [] Q := by
  exact zm_vret dX8_nativeOf_316 rfl k
/-! ScriptTypesModel.nativeWith(IIIII)Z -/
theorem bX8_nativeWith_0 : zdec cX8_nativeWith 0 [(0, .iload_n 1, 1), (1, .bipush 22, 2), (3, .if_icmp .ne 17, 3), (6, .iload_n 2, 1), (7, .bipush 6, 2), (9, .if_icmp .ne 7, 3), (12, .iconst 1, 1), (13, .goto 34, 3), (16, .iconst 0, 1), (17, .goto 30, 3), (20, .iload_n 2, 1), (21, .bipush 7, 2), (23, .if_icmp .ne 23, 3), (26, .iload_n 1, 1), (27, .bipush 21, 2), (29, .if_icmp .eq 13, 3)] = true := by decide +kernel
theorem dX8_nativeWith_0 : decode cX8_nativeWith 0 = .ok (.iload_n 1, 1) := zdec_at bX8_nativeWith_0 0 rfl
theorem dX8_nativeWith_1 : decode cX8_nativeWith 1 = .ok (.bipush 22, 2) := zdec_at bX8_nativeWith_0 1 rfl
theorem dX8_nativeWith_3 : decode cX8_nativeWith 3 = .ok (.if_icmp .ne 17, 3) := zdec_at bX8_nativeWith_0 2 rfl
theorem dX8_nativeWith_6 : decode cX8_nativeWith 6 = .ok (.iload_n 2, 1) := zdec_at bX8_nativeWith_0 3 rfl
theorem dX8_nativeWith_7 : decode cX8_nativeWith 7 = .ok (.bipush 6, 2) := zdec_at bX8_nativeWith_0 4 rfl
theorem dX8_nativeWith_9 : decode cX8_nativeWith 9 = .ok (.if_icmp .ne 7, 3) := zdec_at bX8_nativeWith_0 5 rfl
theorem dX8_nativeWith_12 : decode cX8_nativeWith 12 = .ok (.iconst 1, 1) := zdec_at bX8_nativeWith_0 6 rfl
theorem dX8_nativeWith_13 : decode cX8_nativeWith 13 = .ok (.goto 34, 3) := zdec_at bX8_nativeWith_0 7 rfl
theorem dX8_nativeWith_16 : decode cX8_nativeWith 16 = .ok (.iconst 0, 1) := zdec_at bX8_nativeWith_0 8 rfl
theorem dX8_nativeWith_17 : decode cX8_nativeWith 17 = .ok (.goto 30, 3) := zdec_at bX8_nativeWith_0 9 rfl
theorem dX8_nativeWith_20 : decode cX8_nativeWith 20 = .ok (.iload_n 2, 1) := zdec_at bX8_nativeWith_0 10 rfl
theorem dX8_nativeWith_21 : decode cX8_nativeWith 21 = .ok (.bipush 7, 2) := zdec_at bX8_nativeWith_0 11 rfl
theorem dX8_nativeWith_23 : decode cX8_nativeWith 23 = .ok (.if_icmp .ne 23, 3) := zdec_at bX8_nativeWith_0 12 rfl
theorem dX8_nativeWith_26 : decode cX8_nativeWith 26 = .ok (.iload_n 1, 1) := zdec_at bX8_nativeWith_0 13 rfl
theorem dX8_nativeWith_27 : decode cX8_nativeWith 27 = .ok (.bipush 21, 2) := zdec_at bX8_nativeWith_0 14 rfl
theorem dX8_nativeWith_29 : decode cX8_nativeWith 29 = .ok (.if_icmp .eq 13, 3) := zdec_at bX8_nativeWith_0 15 rfl
theorem bX8_nativeWith_32 : zdec cX8_nativeWith 32 [(32, .aload_n 0, 1), (33, .getfield 143, 3), (36, .iload_n 3, 1), (37, .iaload, 1), (38, .iconst 2, 1), (39, .if_icmp .ne 7, 3), (42, .iconst 1, 1), (43, .goto 4, 3), (46, .iconst 0, 1), (47, .istore 6, 2), (49, .iload 6, 2), (51, .ifCond .ne 11, 3), (54, .aload_n 0, 1), (55, .bipush 6, 2), (57, .invokevirtual 966, 3), (60, .iconst 0, 1)] = true := by decide +kernel
theorem dX8_nativeWith_32 : decode cX8_nativeWith 32 = .ok (.aload_n 0, 1) := zdec_at bX8_nativeWith_32 0 rfl
theorem dX8_nativeWith_33 : decode cX8_nativeWith 33 = .ok (.getfield 143, 3) := zdec_at bX8_nativeWith_32 1 rfl
theorem dX8_nativeWith_36 : decode cX8_nativeWith 36 = .ok (.iload_n 3, 1) := zdec_at bX8_nativeWith_32 2 rfl
theorem dX8_nativeWith_37 : decode cX8_nativeWith 37 = .ok (.iaload, 1) := zdec_at bX8_nativeWith_32 3 rfl
theorem dX8_nativeWith_38 : decode cX8_nativeWith 38 = .ok (.iconst 2, 1) := zdec_at bX8_nativeWith_32 4 rfl
theorem dX8_nativeWith_39 : decode cX8_nativeWith 39 = .ok (.if_icmp .ne 7, 3) := zdec_at bX8_nativeWith_32 5 rfl
theorem dX8_nativeWith_42 : decode cX8_nativeWith 42 = .ok (.iconst 1, 1) := zdec_at bX8_nativeWith_32 6 rfl
theorem dX8_nativeWith_43 : decode cX8_nativeWith 43 = .ok (.goto 4, 3) := zdec_at bX8_nativeWith_32 7 rfl
theorem dX8_nativeWith_46 : decode cX8_nativeWith 46 = .ok (.iconst 0, 1) := zdec_at bX8_nativeWith_32 8 rfl
theorem dX8_nativeWith_47 : decode cX8_nativeWith 47 = .ok (.istore 6, 2) := zdec_at bX8_nativeWith_32 9 rfl
theorem dX8_nativeWith_49 : decode cX8_nativeWith 49 = .ok (.iload 6, 2) := zdec_at bX8_nativeWith_32 10 rfl
theorem dX8_nativeWith_51 : decode cX8_nativeWith 51 = .ok (.ifCond .ne 11, 3) := zdec_at bX8_nativeWith_32 11 rfl
theorem dX8_nativeWith_54 : decode cX8_nativeWith 54 = .ok (.aload_n 0, 1) := zdec_at bX8_nativeWith_32 12 rfl
theorem dX8_nativeWith_55 : decode cX8_nativeWith 55 = .ok (.bipush 6, 2) := zdec_at bX8_nativeWith_32 13 rfl
theorem dX8_nativeWith_57 : decode cX8_nativeWith 57 = .ok (.invokevirtual 966, 3) := zdec_at bX8_nativeWith_32 14 rfl
theorem dX8_nativeWith_60 : decode cX8_nativeWith 60 = .ok (.iconst 0, 1) := zdec_at bX8_nativeWith_32 15 rfl
theorem bX8_nativeWith_61 : zdec cX8_nativeWith 61 [(61, .ireturn, 1), (62, .iload_n 1, 1), (63, .bipush 18, 2), (65, .if_icmp .ne 15, 3), (68, .aload_n 0, 1), (69, .iload_n 3, 1), (70, .iload 4, 2), (72, .iload 5, 2), (74, .invokevirtual 1023, 3), (77, .goto 44, 3), (80, .iload_n 1, 1), (81, .bipush 19, 2), (83, .if_icmp .ne 11, 3), (86, .aload_n 0, 1), (87, .iload_n 3, 1), (88, .invokevirtual 1026, 3)] = true := by decide +kernel
theorem dX8_nativeWith_61 : decode cX8_nativeWith 61 = .ok (.ireturn, 1) := zdec_at bX8_nativeWith_61 0 rfl
theorem dX8_nativeWith_62 : decode cX8_nativeWith 62 = .ok (.iload_n 1, 1) := zdec_at bX8_nativeWith_61 1 rfl
theorem dX8_nativeWith_63 : decode cX8_nativeWith 63 = .ok (.bipush 18, 2) := zdec_at bX8_nativeWith_61 2 rfl
theorem dX8_nativeWith_65 : decode cX8_nativeWith 65 = .ok (.if_icmp .ne 15, 3) := zdec_at bX8_nativeWith_61 3 rfl
theorem dX8_nativeWith_68 : decode cX8_nativeWith 68 = .ok (.aload_n 0, 1) := zdec_at bX8_nativeWith_61 4 rfl
theorem dX8_nativeWith_69 : decode cX8_nativeWith 69 = .ok (.iload_n 3, 1) := zdec_at bX8_nativeWith_61 5 rfl
theorem dX8_nativeWith_70 : decode cX8_nativeWith 70 = .ok (.iload 4, 2) := zdec_at bX8_nativeWith_61 6 rfl
theorem dX8_nativeWith_72 : decode cX8_nativeWith 72 = .ok (.iload 5, 2) := zdec_at bX8_nativeWith_61 7 rfl
theorem dX8_nativeWith_74 : decode cX8_nativeWith 74 = .ok (.invokevirtual 1023, 3) := zdec_at bX8_nativeWith_61 8 rfl
theorem dX8_nativeWith_77 : decode cX8_nativeWith 77 = .ok (.goto 44, 3) := zdec_at bX8_nativeWith_61 9 rfl
theorem dX8_nativeWith_80 : decode cX8_nativeWith 80 = .ok (.iload_n 1, 1) := zdec_at bX8_nativeWith_61 10 rfl
theorem dX8_nativeWith_81 : decode cX8_nativeWith 81 = .ok (.bipush 19, 2) := zdec_at bX8_nativeWith_61 11 rfl
theorem dX8_nativeWith_83 : decode cX8_nativeWith 83 = .ok (.if_icmp .ne 11, 3) := zdec_at bX8_nativeWith_61 12 rfl
theorem dX8_nativeWith_86 : decode cX8_nativeWith 86 = .ok (.aload_n 0, 1) := zdec_at bX8_nativeWith_61 13 rfl
theorem dX8_nativeWith_87 : decode cX8_nativeWith 87 = .ok (.iload_n 3, 1) := zdec_at bX8_nativeWith_61 14 rfl
theorem dX8_nativeWith_88 : decode cX8_nativeWith 88 = .ok (.invokevirtual 1026, 3) := zdec_at bX8_nativeWith_61 15 rfl
theorem bX8_nativeWith_91 : zdec cX8_nativeWith 91 [(91, .goto 30, 3), (94, .iload_n 1, 1), (95, .bipush 21, 2), (97, .if_icmp .ne 15, 3), (100, .aload_n 0, 1), (101, .iload_n 3, 1), (102, .iload 4, 2), (104, .iload 5, 2), (106, .invokevirtual 1029, 3), (109, .goto 12, 3), (112, .aload_n 0, 1), (113, .iload_n 3, 1), (114, .iload 4, 2), (116, .iload 5, 2), (118, .invokevirtual 1032, 3), (121, .iconst 1, 1)] = true := by decide +kernel
theorem dX8_nativeWith_91 : decode cX8_nativeWith 91 = .ok (.goto 30, 3) := zdec_at bX8_nativeWith_91 0 rfl
theorem dX8_nativeWith_94 : decode cX8_nativeWith 94 = .ok (.iload_n 1, 1) := zdec_at bX8_nativeWith_91 1 rfl
theorem dX8_nativeWith_95 : decode cX8_nativeWith 95 = .ok (.bipush 21, 2) := zdec_at bX8_nativeWith_91 2 rfl
theorem dX8_nativeWith_97 : decode cX8_nativeWith 97 = .ok (.if_icmp .ne 15, 3) := zdec_at bX8_nativeWith_91 3 rfl
theorem dX8_nativeWith_100 : decode cX8_nativeWith 100 = .ok (.aload_n 0, 1) := zdec_at bX8_nativeWith_91 4 rfl
theorem dX8_nativeWith_101 : decode cX8_nativeWith 101 = .ok (.iload_n 3, 1) := zdec_at bX8_nativeWith_91 5 rfl
theorem dX8_nativeWith_102 : decode cX8_nativeWith 102 = .ok (.iload 4, 2) := zdec_at bX8_nativeWith_91 6 rfl
theorem dX8_nativeWith_104 : decode cX8_nativeWith 104 = .ok (.iload 5, 2) := zdec_at bX8_nativeWith_91 7 rfl
theorem dX8_nativeWith_106 : decode cX8_nativeWith 106 = .ok (.invokevirtual 1029, 3) := zdec_at bX8_nativeWith_91 8 rfl
theorem dX8_nativeWith_109 : decode cX8_nativeWith 109 = .ok (.goto 12, 3) := zdec_at bX8_nativeWith_91 9 rfl
theorem dX8_nativeWith_112 : decode cX8_nativeWith 112 = .ok (.aload_n 0, 1) := zdec_at bX8_nativeWith_91 10 rfl
theorem dX8_nativeWith_113 : decode cX8_nativeWith 113 = .ok (.iload_n 3, 1) := zdec_at bX8_nativeWith_91 11 rfl
theorem dX8_nativeWith_114 : decode cX8_nativeWith 114 = .ok (.iload 4, 2) := zdec_at bX8_nativeWith_91 12 rfl
theorem dX8_nativeWith_116 : decode cX8_nativeWith 116 = .ok (.iload 5, 2) := zdec_at bX8_nativeWith_91 13 rfl
theorem dX8_nativeWith_118 : decode cX8_nativeWith 118 = .ok (.invokevirtual 1032, 3) := zdec_at bX8_nativeWith_91 14 rfl
theorem dX8_nativeWith_121 : decode cX8_nativeWith 121 = .ok (.iconst 1, 1) := zdec_at bX8_nativeWith_91 15 rfl
theorem bX8_nativeWith_122 : zdec cX8_nativeWith 122 [(122, .ireturn, 1)] = true := by decide +kernel
theorem dX8_nativeWith_122 : decode cX8_nativeWith 122 = .ok (.ireturn, 1) := zdec_at bX8_nativeWith_122 0 rfl
theorem sX8_nativeWith_0 {E : zE} {d : Nat} {Q : zO → zM → Prop} (M : zM) (l1 : Int32) (l2 : Int32) (l3 : Int32) (l4 : Int32) (l5 : Int32) (k : if l1 = (22 : Int32) then (if l2 = (6 : Int32) then (Zm E YX8_nativeWith (d + 1) M [(0, vr (some (97, 1, 0))), (1, vi l1), (3, vi l3), (4, vi l4), (5, vi l5)] 47 [vi (1 : Int32)] Q) else (Zm E YX8_nativeWith (d + 1) M [(0, vr (some (97, 1, 0))), (1, vi l1), (3, vi l3), (4, vi l4), (5, vi l5)] 47 [vi (0 : Int32)] Q)) else (if l2 = (7 : Int32) then (if l1 = (21 : Int32) then (Zm E YX8_nativeWith (d + 1) M [(0, vr (some (97, 1, 0))), (1, vi l1), (3, vi l3), (4, vi l4), (5, vi l5)] 47 [vi (1 : Int32)] Q) else (vp_in l3 300 ∧ (if (gi M 141 (l3).toNatClampNeg) = (2 : Int32) then (Zm E YX8_nativeWith (d + 1) M [(0, vr (some (97, 1, 0))), (1, vi l1), (3, vi l3), (4, vi l4), (5, vi l5)] 47 [vi (1 : Int32)] Q) else (Zm E YX8_nativeWith (d + 1) M [(0, vr (some (97, 1, 0))), (1, vi l1), (3, vi l3), (4, vi l4), (5, vi l5)] 47 [vi (0 : Int32)] Q)))) else (Zm E YX8_nativeWith (d + 1) M [(0, vr (some (97, 1, 0))), (1, vi l1), (3, vi l3), (4, vi l4), (5, vi l5)] 47 [vi (0 : Int32)] Q))) : Zm E YX8_nativeWith (d + 1) M [(0, vr (some (97, 1, 0))), (1, vi l1), (2, vi l2), (3, vi l3), (4, vi l4), (5, vi l5)] 0 [] Q := by
  refine Zm.l (fun _ _ k_ => z_iload_n dX8_nativeWith_0 rfl rfl k_) ?_
  refine Zm.l (fun _ _ k_ => z_bipush (v := 22) dX8_nativeWith_1 rfl k_) ?_
  refine Zm.brn (fun _ _ k1_ k2_ => z_icmp_ne (tgt := 20) dX8_nativeWith_3 rfl k1_ k2_) (fun h_ => ?_) (fun h_ => ?_)
  · have k := zif h_ k
    refine Zm.l (fun _ _ k_ => z_iload_n dX8_nativeWith_20 rfl rfl k_) ?_
    refine Zm.l (fun _ _ k_ => z_bipush (v := 7) dX8_nativeWith_21 rfl k_) ?_
    refine Zm.brn (fun _ _ k1_ k2_ => z_icmp_ne (tgt := 46) dX8_nativeWith_23 rfl k1_ k2_) (fun h_ => ?_) (fun h_ => ?_)
    · have k := zif h_ k
      refine Zm.l (fun _ _ k_ => z_iconst (v := 0) dX8_nativeWith_46 rfl k_) ?_
      refine Zm.pick [0, 1, 3, 4, 5] rfl ?_
      exact k
    · have k := zit h_ k
      refine Zm.l (fun _ _ k_ => z_iload_n dX8_nativeWith_26 rfl rfl k_) ?_
      refine Zm.l (fun _ _ k_ => z_bipush (v := 21) dX8_nativeWith_27 rfl k_) ?_
      refine Zm.br (fun _ _ k1_ k2_ => z_icmp_eq (tgt := 42) dX8_nativeWith_29 rfl k1_ k2_) (fun h_ => ?_) (fun h_ => ?_)
      · have k := zit h_ k
        refine Zm.l (fun _ _ k_ => z_iconst (v := 1) dX8_nativeWith_42 rfl k_) ?_
        refine Zm.l (fun _ _ k_ => z_goto (tgt := 47) dX8_nativeWith_43 rfl k_) ?_
        refine Zm.pick [0, 1, 3, 4, 5] rfl ?_
        exact k
      · have k := zif h_ k
        refine Zm.l (fun _ _ k_ => z_aload_n dX8_nativeWith_32 rfl rfl k_) ?_
        refine zm_getr 38 dX8_nativeWith_33 fsX8_143_1 rfl ?_
        refine Zm.l (fun _ _ k_ => z_iload_n dX8_nativeWith_36 rfl rfl k_) ?_
        obtain ⟨b_, k⟩ := k
        refine zm_iald dX8_nativeWith_37 b_ (by decide) (by decide) ?_
        refine Zm.l (fun _ _ k_ => z_iconst (v := 2) dX8_nativeWith_38 rfl k_) ?_
        refine Zm.brn (fun _ _ k1_ k2_ => z_icmp_ne (tgt := 46) dX8_nativeWith_39 rfl k1_ k2_) (fun h_ => ?_) (fun h_ => ?_)
        · have k := zif h_ k
          refine Zm.l (fun _ _ k_ => z_iconst (v := 0) dX8_nativeWith_46 rfl k_) ?_
          refine Zm.pick [0, 1, 3, 4, 5] rfl ?_
          exact k
        · have k := zit h_ k
          refine Zm.l (fun _ _ k_ => z_iconst (v := 1) dX8_nativeWith_42 rfl k_) ?_
          refine Zm.l (fun _ _ k_ => z_goto (tgt := 47) dX8_nativeWith_43 rfl k_) ?_
          refine Zm.pick [0, 1, 3, 4, 5] rfl ?_
          exact k
  · have k := zit h_ k
    refine Zm.l (fun _ _ k_ => z_iload_n dX8_nativeWith_6 rfl rfl k_) ?_
    refine Zm.l (fun _ _ k_ => z_bipush (v := 6) dX8_nativeWith_7 rfl k_) ?_
    refine Zm.brn (fun _ _ k1_ k2_ => z_icmp_ne (tgt := 16) dX8_nativeWith_9 rfl k1_ k2_) (fun h_ => ?_) (fun h_ => ?_)
    · have k := zif h_ k
      refine Zm.l (fun _ _ k_ => z_iconst (v := 0) dX8_nativeWith_16 rfl k_) ?_
      refine Zm.l (fun _ _ k_ => z_goto (tgt := 47) dX8_nativeWith_17 rfl k_) ?_
      refine Zm.pick [0, 1, 3, 4, 5] rfl ?_
      exact k
    · have k := zit h_ k
      refine Zm.l (fun _ _ k_ => z_iconst (v := 1) dX8_nativeWith_12 rfl k_) ?_
      refine Zm.l (fun _ _ k_ => z_goto (tgt := 47) dX8_nativeWith_13 rfl k_) ?_
      refine Zm.pick [0, 1, 3, 4, 5] rfl ?_
      exact k
theorem sX8_nativeWith_47 {E : zE} {d : Nat} {Q : zO → zM → Prop} (M : zM) (l1 : Int32) (l3 : Int32) (l4 : Int32) (l5 : Int32) (s0 : Int32) (k : if s0 = 0 then (Zm E YX8_error d M (zargs 0 [vr (some (97, 1, 0)), vi (6 : Int32)]) 0 [] (zma E YX8_nativeWith (d + 1) [] 57 3 [] Q)) else (if l1 = (18 : Int32) then (Zm E YX8_pushInto d M (zargs 0 [vr (some (97, 1, 0)), vi l3, vi l4, vi l5]) 0 [] (zma E YX8_nativeWith (d + 1) [] 74 3 [] Q)) else (if l1 = (19 : Int32) then (Zm E YX8_pop d M (zargs 0 [vr (some (97, 1, 0)), vi l3]) 0 [] (zma E YX8_nativeWith (d + 1) [] 88 3 [] Q)) else (if l1 = (21 : Int32) then (Zm E YX8_hasOwn d M (zargs 0 [vr (some (97, 1, 0)), vi l3, vi l4, vi l5]) 0 [] (zma E YX8_nativeWith (d + 1) [] 106 3 [] Q)) else (Zm E YX8_charAt d M (zargs 0 [vr (some (97, 1, 0)), vi l3, vi l4, vi l5]) 0 [] (zma E YX8_nativeWith (d + 1) [] 118 3 [] Q)))))) : Zm E YX8_nativeWith (d + 1) M [(0, vr (some (97, 1, 0))), (1, vi l1), (3, vi l3), (4, vi l4), (5, vi l5)] 47 [vi s0] Q := by
  refine Zm.l (fun _ _ k_ => z_ist dX8_nativeWith_47 (by decide) (lv' := [(0, vr (some (97, 1, 0))), (1, vi l1), (3, vi l3), (4, vi l4), (5, vi l5), (6, vi s0)]) rfl k_) ?_
  refine Zm.l (fun _ _ k_ => z_iload dX8_nativeWith_49 rfl k_) ?_
  refine Zm.brn (fun _ _ k1_ k2_ => z_if_ne (tgt := 62) dX8_nativeWith_51 rfl k1_ k2_) (fun h_ => ?_) (fun h_ => ?_)
  · have k := zif h_ k
    refine Zm.l (fun _ _ k_ => z_iload_n dX8_nativeWith_62 rfl rfl k_) ?_
    refine Zm.l (fun _ _ k_ => z_bipush (v := 18) dX8_nativeWith_63 rfl k_) ?_
    refine Zm.brn (fun _ _ k1_ k2_ => z_icmp_ne (tgt := 80) dX8_nativeWith_65 rfl k1_ k2_) (fun h_ => ?_) (fun h_ => ?_)
    · have k := zif h_ k
      refine Zm.l (fun _ _ k_ => z_iload_n dX8_nativeWith_80 rfl rfl k_) ?_
      refine Zm.l (fun _ _ k_ => z_bipush (v := 19) dX8_nativeWith_81 rfl k_) ?_
      refine Zm.brn (fun _ _ k1_ k2_ => z_icmp_ne (tgt := 94) dX8_nativeWith_83 rfl k1_ k2_) (fun h_ => ?_) (fun h_ => ?_)
      · have k := zif h_ k
        refine Zm.l (fun _ _ k_ => z_iload_n dX8_nativeWith_94 rfl rfl k_) ?_
        refine Zm.l (fun _ _ k_ => z_bipush (v := 21) dX8_nativeWith_95 rfl k_) ?_
        refine Zm.brn (fun _ _ k1_ k2_ => z_icmp_ne (tgt := 112) dX8_nativeWith_97 rfl k1_ k2_) (fun h_ => ?_) (fun h_ => ?_)
        · have k := zif h_ k
          refine Zm.l (fun _ _ k_ => z_aload_n dX8_nativeWith_112 rfl rfl k_) ?_
          refine Zm.l (fun _ _ k_ => z_iload_n dX8_nativeWith_113 rfl rfl k_) ?_
          refine Zm.l (fun _ _ k_ => z_iload dX8_nativeWith_114 rfl k_) ?_
          refine Zm.l (fun _ _ k_ => z_iload dX8_nativeWith_116 rfl k_) ?_
          refine Zm.pick [] rfl ?_
          exact zm_callV (as := [vi l3, vi l4, vi l5]) (st := []) dX8_nativeWith_118 vsX8_1032_1 (Nat.le_refl _) (Nat.le_of_ble_eq_true rfl) (Nat.le_of_ble_eq_true rfl) rfl k
        · have k := zit h_ k
          refine Zm.l (fun _ _ k_ => z_aload_n dX8_nativeWith_100 rfl rfl k_) ?_
          refine Zm.l (fun _ _ k_ => z_iload_n dX8_nativeWith_101 rfl rfl k_) ?_
          refine Zm.l (fun _ _ k_ => z_iload dX8_nativeWith_102 rfl k_) ?_
          refine Zm.l (fun _ _ k_ => z_iload dX8_nativeWith_104 rfl k_) ?_
          refine Zm.pick [] rfl ?_
          exact zm_callV (as := [vi l3, vi l4, vi l5]) (st := []) dX8_nativeWith_106 vsX8_1029_1 (Nat.le_refl _) (Nat.le_of_ble_eq_true rfl) (Nat.le_of_ble_eq_true rfl) rfl k
      · have k := zit h_ k
        refine Zm.l (fun _ _ k_ => z_aload_n dX8_nativeWith_86 rfl rfl k_) ?_
        refine Zm.l (fun _ _ k_ => z_iload_n dX8_nativeWith_87 rfl rfl k_) ?_
        refine Zm.pick [] rfl ?_
        exact zm_callV (as := [vi l3]) (st := []) dX8_nativeWith_88 vsX8_1026_1 (Nat.le_refl _) (Nat.le_of_ble_eq_true rfl) (Nat.le_of_ble_eq_true rfl) rfl k
    · have k := zit h_ k
      refine Zm.l (fun _ _ k_ => z_aload_n dX8_nativeWith_68 rfl rfl k_) ?_
      refine Zm.l (fun _ _ k_ => z_iload_n dX8_nativeWith_69 rfl rfl k_) ?_
      refine Zm.l (fun _ _ k_ => z_iload dX8_nativeWith_70 rfl k_) ?_
      refine Zm.l (fun _ _ k_ => z_iload dX8_nativeWith_72 rfl k_) ?_
      refine Zm.pick [] rfl ?_
      exact zm_callV (as := [vi l3, vi l4, vi l5]) (st := []) dX8_nativeWith_74 vsX8_1023_1 (Nat.le_refl _) (Nat.le_of_ble_eq_true rfl) (Nat.le_of_ble_eq_true rfl) rfl k
  · have k := zit h_ k
    refine Zm.l (fun _ _ k_ => z_aload_n dX8_nativeWith_54 rfl rfl k_) ?_
    refine Zm.l (fun _ _ k_ => z_bipush (v := 6) dX8_nativeWith_55 rfl k_) ?_
    refine Zm.pick [] rfl ?_
    exact zm_callV (as := [vi (6 : Int32)]) (st := []) dX8_nativeWith_57 vsX8_966_1 (Nat.le_refl _) (Nat.le_of_ble_eq_true rfl) (Nat.le_of_ble_eq_true rfl) rfl k
theorem sX8_nativeWith_60 {E : zE} {d : Nat} {Q : zO → zM → Prop} (M : zM)  (k : Q (.inl (some (vi (0 : Int32)))) M) : Zm E YX8_nativeWith (d + 1) M [] 60 [] Q := by
  refine Zm.l (fun _ _ k_ => z_iconst (v := 0) dX8_nativeWith_60 rfl k_) ?_
  exact zm_iret dX8_nativeWith_61 rfl (by decide) k
theorem sX8_nativeWith_77 {E : zE} {d : Nat} {Q : zO → zM → Prop} (M : zM)  (k : Zm E YX8_nativeWith (d + 1) M [] 121 [] Q) : Zm E YX8_nativeWith (d + 1) M [] 77 [] Q := by
  refine Zm.l (fun _ _ k_ => z_goto (tgt := 121) dX8_nativeWith_77 rfl k_) ?_
  exact k
theorem sX8_nativeWith_91 {E : zE} {d : Nat} {Q : zO → zM → Prop} (M : zM)  (k : Zm E YX8_nativeWith (d + 1) M [] 121 [] Q) : Zm E YX8_nativeWith (d + 1) M [] 91 [] Q := by
  refine Zm.l (fun _ _ k_ => z_goto (tgt := 121) dX8_nativeWith_91 rfl k_) ?_
  exact k
theorem sX8_nativeWith_109 {E : zE} {d : Nat} {Q : zO → zM → Prop} (M : zM)  (k : Zm E YX8_nativeWith (d + 1) M [] 121 [] Q) : Zm E YX8_nativeWith (d + 1) M [] 109 [] Q := by
  refine Zm.l (fun _ _ k_ => z_goto (tgt := 121) dX8_nativeWith_109 rfl k_) ?_
  exact k
theorem sX8_nativeWith_121 {E : zE} {d : Nat} {Q : zO → zM → Prop} (M : zM)  (k : Q (.inl (some (vi (1 : Int32)))) M) : Zm E YX8_nativeWith (d + 1) M [] 121 [] Q := by
  refine Zm.l (fun _ _ k_ => z_iconst (v := 1) dX8_nativeWith_121 rfl k_) ?_
  exact zm_iret dX8_nativeWith_122 rfl (by decide) k
/-! ScriptTypesModel.pushInto(III)V -/
theorem bX8_pushInto_0 : zdec cX8_pushInto 0 [(0, .aload_n 0, 1), (1, .iload_n 1, 1), (2, .invokevirtual 978, 3), (5, .istore 4, 2), (7, .aload_n 0, 1), (8, .iconst 5, 1), (9, .iload 4, 2), (11, .invokevirtual 969, 3), (14, .istore 5, 2), (16, .aload_n 0, 1), (17, .getfield 794, 3), (20, .ifCond .eq 4, 3), (23, .return_, 1), (24, .aload_n 0, 1), (25, .iload_n 1, 1), (26, .iload 5, 2)] = true := by decide +kernel
theorem dX8_pushInto_0 : decode cX8_pushInto 0 = .ok (.aload_n 0, 1) := zdec_at bX8_pushInto_0 0 rfl
theorem dX8_pushInto_1 : decode cX8_pushInto 1 = .ok (.iload_n 1, 1) := zdec_at bX8_pushInto_0 1 rfl
theorem dX8_pushInto_2 : decode cX8_pushInto 2 = .ok (.invokevirtual 978, 3) := zdec_at bX8_pushInto_0 2 rfl
theorem dX8_pushInto_5 : decode cX8_pushInto 5 = .ok (.istore 4, 2) := zdec_at bX8_pushInto_0 3 rfl
theorem dX8_pushInto_7 : decode cX8_pushInto 7 = .ok (.aload_n 0, 1) := zdec_at bX8_pushInto_0 4 rfl
theorem dX8_pushInto_8 : decode cX8_pushInto 8 = .ok (.iconst 5, 1) := zdec_at bX8_pushInto_0 5 rfl
theorem dX8_pushInto_9 : decode cX8_pushInto 9 = .ok (.iload 4, 2) := zdec_at bX8_pushInto_0 6 rfl
theorem dX8_pushInto_11 : decode cX8_pushInto 11 = .ok (.invokevirtual 969, 3) := zdec_at bX8_pushInto_0 7 rfl
theorem dX8_pushInto_14 : decode cX8_pushInto 14 = .ok (.istore 5, 2) := zdec_at bX8_pushInto_0 8 rfl
theorem dX8_pushInto_16 : decode cX8_pushInto 16 = .ok (.aload_n 0, 1) := zdec_at bX8_pushInto_0 9 rfl
theorem dX8_pushInto_17 : decode cX8_pushInto 17 = .ok (.getfield 794, 3) := zdec_at bX8_pushInto_0 10 rfl
theorem dX8_pushInto_20 : decode cX8_pushInto 20 = .ok (.ifCond .eq 4, 3) := zdec_at bX8_pushInto_0 11 rfl
theorem dX8_pushInto_23 : decode cX8_pushInto 23 = .ok (.return_, 1) := zdec_at bX8_pushInto_0 12 rfl
theorem dX8_pushInto_24 : decode cX8_pushInto 24 = .ok (.aload_n 0, 1) := zdec_at bX8_pushInto_0 13 rfl
theorem dX8_pushInto_25 : decode cX8_pushInto 25 = .ok (.iload_n 1, 1) := zdec_at bX8_pushInto_0 14 rfl
theorem dX8_pushInto_26 : decode cX8_pushInto 26 = .ok (.iload 5, 2) := zdec_at bX8_pushInto_0 15 rfl
theorem bX8_pushInto_28 : zdec cX8_pushInto 28 [(28, .iload_n 2, 1), (29, .iload_n 3, 1), (30, .invokevirtual 870, 3), (33, .aload_n 0, 1), (34, .getfield 794, 3), (37, .ifCond .eq 4, 3), (40, .return_, 1), (41, .iload 4, 2), (43, .bipush 100, 2), (45, .if_icmp .ne 8, 3), (48, .iload 4, 2), (50, .goto 7, 3), (53, .iload 4, 2), (55, .iconst 1, 1), (56, .iadd, 1), (57, .istore 4, 2)] = true := by decide +kernel
theorem dX8_pushInto_28 : decode cX8_pushInto 28 = .ok (.iload_n 2, 1) := zdec_at bX8_pushInto_28 0 rfl
theorem dX8_pushInto_29 : decode cX8_pushInto 29 = .ok (.iload_n 3, 1) := zdec_at bX8_pushInto_28 1 rfl
theorem dX8_pushInto_30 : decode cX8_pushInto 30 = .ok (.invokevirtual 870, 3) := zdec_at bX8_pushInto_28 2 rfl
theorem dX8_pushInto_33 : decode cX8_pushInto 33 = .ok (.aload_n 0, 1) := zdec_at bX8_pushInto_28 3 rfl
theorem dX8_pushInto_34 : decode cX8_pushInto 34 = .ok (.getfield 794, 3) := zdec_at bX8_pushInto_28 4 rfl
theorem dX8_pushInto_37 : decode cX8_pushInto 37 = .ok (.ifCond .eq 4, 3) := zdec_at bX8_pushInto_28 5 rfl
theorem dX8_pushInto_40 : decode cX8_pushInto 40 = .ok (.return_, 1) := zdec_at bX8_pushInto_28 6 rfl
theorem dX8_pushInto_41 : decode cX8_pushInto 41 = .ok (.iload 4, 2) := zdec_at bX8_pushInto_28 7 rfl
theorem dX8_pushInto_43 : decode cX8_pushInto 43 = .ok (.bipush 100, 2) := zdec_at bX8_pushInto_28 8 rfl
theorem dX8_pushInto_45 : decode cX8_pushInto 45 = .ok (.if_icmp .ne 8, 3) := zdec_at bX8_pushInto_28 9 rfl
theorem dX8_pushInto_48 : decode cX8_pushInto 48 = .ok (.iload 4, 2) := zdec_at bX8_pushInto_28 10 rfl
theorem dX8_pushInto_50 : decode cX8_pushInto 50 = .ok (.goto 7, 3) := zdec_at bX8_pushInto_28 11 rfl
theorem dX8_pushInto_53 : decode cX8_pushInto 53 = .ok (.iload 4, 2) := zdec_at bX8_pushInto_28 12 rfl
theorem dX8_pushInto_55 : decode cX8_pushInto 55 = .ok (.iconst 1, 1) := zdec_at bX8_pushInto_28 13 rfl
theorem dX8_pushInto_56 : decode cX8_pushInto 56 = .ok (.iadd, 1) := zdec_at bX8_pushInto_28 14 rfl
theorem dX8_pushInto_57 : decode cX8_pushInto 57 = .ok (.istore 4, 2) := zdec_at bX8_pushInto_28 15 rfl
theorem bX8_pushInto_59 : zdec cX8_pushInto 59 [(59, .aload_n 0, 1), (60, .iload_n 1, 1), (61, .iconst 0, 1), (62, .iconst 5, 1), (63, .iload 4, 2), (65, .invokevirtual 870, 3), (68, .aload_n 0, 1), (69, .iconst 5, 1), (70, .iload 4, 2), (72, .invokevirtual 822, 3), (75, .return_, 1)] = true := by decide +kernel
theorem dX8_pushInto_59 : decode cX8_pushInto 59 = .ok (.aload_n 0, 1) := zdec_at bX8_pushInto_59 0 rfl
theorem dX8_pushInto_60 : decode cX8_pushInto 60 = .ok (.iload_n 1, 1) := zdec_at bX8_pushInto_59 1 rfl
theorem dX8_pushInto_61 : decode cX8_pushInto 61 = .ok (.iconst 0, 1) := zdec_at bX8_pushInto_59 2 rfl
theorem dX8_pushInto_62 : decode cX8_pushInto 62 = .ok (.iconst 5, 1) := zdec_at bX8_pushInto_59 3 rfl
theorem dX8_pushInto_63 : decode cX8_pushInto 63 = .ok (.iload 4, 2) := zdec_at bX8_pushInto_59 4 rfl
theorem dX8_pushInto_65 : decode cX8_pushInto 65 = .ok (.invokevirtual 870, 3) := zdec_at bX8_pushInto_59 5 rfl
theorem dX8_pushInto_68 : decode cX8_pushInto 68 = .ok (.aload_n 0, 1) := zdec_at bX8_pushInto_59 6 rfl
theorem dX8_pushInto_69 : decode cX8_pushInto 69 = .ok (.iconst 5, 1) := zdec_at bX8_pushInto_59 7 rfl
theorem dX8_pushInto_70 : decode cX8_pushInto 70 = .ok (.iload 4, 2) := zdec_at bX8_pushInto_59 8 rfl
theorem dX8_pushInto_72 : decode cX8_pushInto 72 = .ok (.invokevirtual 822, 3) := zdec_at bX8_pushInto_59 9 rfl
theorem dX8_pushInto_75 : decode cX8_pushInto 75 = .ok (.return_, 1) := zdec_at bX8_pushInto_59 10 rfl
theorem sX8_pushInto_0 {E : zE} {d : Nat} {Q : zO → zM → Prop} (M : zM) (l1 : Int32) (l2 : Int32) (l3 : Int32) (k : Zm E YX8_lengthOf d M (zargs 0 [vr (some (97, 1, 0)), vi l1]) 0 [] (zma E YX8_pushInto (d + 1) [(0, vr (some (97, 1, 0))), (1, vi l1), (2, vi l2), (3, vi l3)] 2 3 [] Q)) : Zm E YX8_pushInto (d + 1) M [(0, vr (some (97, 1, 0))), (1, vi l1), (2, vi l2), (3, vi l3)] 0 [] Q := by
  refine Zm.l (fun _ _ k_ => z_aload_n dX8_pushInto_0 rfl rfl k_) ?_
  refine Zm.l (fun _ _ k_ => z_iload_n dX8_pushInto_1 rfl rfl k_) ?_
  exact zm_callV (as := [vi l1]) (st := []) dX8_pushInto_2 vsX8_978_1 (Nat.le_refl _) (Nat.le_of_ble_eq_true rfl) (Nat.le_of_ble_eq_true rfl) rfl k
theorem sX8_pushInto_5 {E : zE} {d : Nat} {Q : zO → zM → Prop} (M : zM) (l1 : Int32) (l2 : Int32) (l3 : Int32) (s0 : Int32) (k : Zm E YX8_textOf d M (zargs 0 [vr (some (97, 1, 0)), vi (5 : Int32), vi s0]) 0 [] (zma E YX8_pushInto (d + 1) [(0, vr (some (97, 1, 0))), (1, vi l1), (2, vi l2), (3, vi l3), (4, vi s0)] 11 3 [] Q)) : Zm E YX8_pushInto (d + 1) M [(0, vr (some (97, 1, 0))), (1, vi l1), (2, vi l2), (3, vi l3)] 5 [vi s0] Q := by
  refine Zm.l (fun _ _ k_ => z_ist dX8_pushInto_5 (by decide) (lv' := [(0, vr (some (97, 1, 0))), (1, vi l1), (2, vi l2), (3, vi l3), (4, vi s0)]) rfl k_) ?_
  refine Zm.l (fun _ _ k_ => z_aload_n dX8_pushInto_7 rfl rfl k_) ?_
  refine Zm.l (fun _ _ k_ => z_iconst (v := 5) dX8_pushInto_8 rfl k_) ?_
  refine Zm.l (fun _ _ k_ => z_iload dX8_pushInto_9 rfl k_) ?_
  exact zm_callV (as := [vi (5 : Int32), vi s0]) (st := []) dX8_pushInto_11 vsX8_969_1 (Nat.le_refl _) (Nat.le_of_ble_eq_true rfl) (Nat.le_of_ble_eq_true rfl) rfl k
theorem sX8_pushInto_14 {E : zE} {d : Nat} {Q : zO → zM → Prop} (M : zM) (l1 : Int32) (l2 : Int32) (l3 : Int32) (l4 : Int32) (s0 : Int32) (k : if (gi M 97 75) = 0 then (Zm E YX8_set_2 d M (zargs 0 [vr (some (97, 1, 0)), vi l1, vi s0, vi l2, vi l3]) 0 [] (zma E YX8_pushInto (d + 1) [(0, vr (some (97, 1, 0))), (1, vi l1), (4, vi l4)] 30 3 [] Q)) else (Q (.inl none) M)) : Zm E YX8_pushInto (d + 1) M [(0, vr (some (97, 1, 0))), (1, vi l1), (2, vi l2), (3, vi l3), (4, vi l4)] 14 [vi s0] Q := by
  refine Zm.l (fun _ _ k_ => z_ist dX8_pushInto_14 (by decide) (lv' := [(0, vr (some (97, 1, 0))), (1, vi l1), (2, vi l2), (3, vi l3), (4, vi l4), (5, vi s0)]) rfl k_) ?_
  refine Zm.l (fun _ _ k_ => z_aload_n dX8_pushInto_16 rfl rfl k_) ?_
  refine zm_geti dX8_pushInto_17 fsX8_794_1 (by decide) (by decide) ?_
  refine Zm.br (fun _ _ k1_ k2_ => z_if_eq (tgt := 24) dX8_pushInto_20 rfl k1_ k2_) (fun h_ => ?_) (fun h_ => ?_)
  · have k := zit h_ k
    refine Zm.l (fun _ _ k_ => z_aload_n dX8_pushInto_24 rfl rfl k_) ?_
    refine Zm.l (fun _ _ k_ => z_iload_n dX8_pushInto_25 rfl rfl k_) ?_
    refine Zm.l (fun _ _ k_ => z_iload dX8_pushInto_26 rfl k_) ?_
    refine Zm.l (fun _ _ k_ => z_iload_n dX8_pushInto_28 rfl rfl k_) ?_
    refine Zm.l (fun _ _ k_ => z_iload_n dX8_pushInto_29 rfl rfl k_) ?_
    refine Zm.pick [0, 1, 4] rfl ?_
    exact zm_callV (as := [vi l1, vi s0, vi l2, vi l3]) (st := []) dX8_pushInto_30 vsX8_870_1 (Nat.le_refl _) (Nat.le_of_ble_eq_true rfl) (Nat.le_of_ble_eq_true rfl) rfl k
  · have k := zif h_ k
    exact zm_vret dX8_pushInto_23 rfl k
theorem sX8_pushInto_33 {E : zE} {d : Nat} {Q : zO → zM → Prop} (M : zM) (l1 : Int32) (l4 : Int32) (k : if (gi M 97 75) = 0 then (if l4 = (100 : Int32) then (Zm E YX8_set_2 d M (zargs 0 [vr (some (97, 1, 0)), vi l1, vi (0 : Int32), vi (5 : Int32), vi l4]) 0 [] (zma E YX8_pushInto (d + 1) [(0, vr (some (97, 1, 0))), (4, vi l4)] 65 3 [] Q)) else (Zm E YX8_set_2 d M (zargs 0 [vr (some (97, 1, 0)), vi l1, vi (0 : Int32), vi (5 : Int32), vi (l4 + (1 : Int32))]) 0 [] (zma E YX8_pushInto (d + 1) [(0, vr (some (97, 1, 0))), (4, vi (l4 + (1 : Int32)))] 65 3 [] Q))) else (Q (.inl none) M)) : Zm E YX8_pushInto (d + 1) M [(0, vr (some (97, 1, 0))), (1, vi l1), (4, vi l4)] 33 [] Q := by
  refine Zm.l (fun _ _ k_ => z_aload_n dX8_pushInto_33 rfl rfl k_) ?_
  refine zm_geti dX8_pushInto_34 fsX8_794_1 (by decide) (by decide) ?_
  refine Zm.br (fun _ _ k1_ k2_ => z_if_eq (tgt := 41) dX8_pushInto_37 rfl k1_ k2_) (fun h_ => ?_) (fun h_ => ?_)
  · have k := zit h_ k
    refine Zm.l (fun _ _ k_ => z_iload dX8_pushInto_41 rfl k_) ?_
    refine Zm.l (fun _ _ k_ => z_bipush (v := 100) dX8_pushInto_43 rfl k_) ?_
    refine Zm.brn (fun _ _ k1_ k2_ => z_icmp_ne (tgt := 53) dX8_pushInto_45 rfl k1_ k2_) (fun h_ => ?_) (fun h_ => ?_)
    · have k := zif h_ k
      refine Zm.l (fun _ _ k_ => z_iload dX8_pushInto_53 rfl k_) ?_
      refine Zm.l (fun _ _ k_ => z_iconst (v := 1) dX8_pushInto_55 rfl k_) ?_
      refine Zm.l (fun _ _ k_ => z_iadd dX8_pushInto_56 k_) ?_
      refine Zm.l (fun _ _ k_ => z_ist dX8_pushInto_57 (by decide) (lv' := [(0, vr (some (97, 1, 0))), (1, vi l1), (4, vi (l4 + (1 : Int32)))]) rfl k_) ?_
      refine Zm.l (fun _ _ k_ => z_aload_n dX8_pushInto_59 rfl rfl k_) ?_
      refine Zm.l (fun _ _ k_ => z_iload_n dX8_pushInto_60 rfl rfl k_) ?_
      refine Zm.l (fun _ _ k_ => z_iconst (v := 0) dX8_pushInto_61 rfl k_) ?_
      refine Zm.l (fun _ _ k_ => z_iconst (v := 5) dX8_pushInto_62 rfl k_) ?_
      refine Zm.l (fun _ _ k_ => z_iload dX8_pushInto_63 rfl k_) ?_
      refine Zm.pick [0, 2] rfl ?_
      exact zm_callV (as := [vi l1, vi (0 : Int32), vi (5 : Int32), vi (l4 + (1 : Int32))]) (st := []) dX8_pushInto_65 vsX8_870_1 (Nat.le_refl _) (Nat.le_of_ble_eq_true rfl) (Nat.le_of_ble_eq_true rfl) rfl k
    · have k := zit h_ k
      refine Zm.l (fun _ _ k_ => z_iload dX8_pushInto_48 rfl k_) ?_
      refine Zm.l (fun _ _ k_ => z_goto (tgt := 57) dX8_pushInto_50 rfl k_) ?_
      refine Zm.l (fun _ _ k_ => z_ist dX8_pushInto_57 (by decide) (lv' := [(0, vr (some (97, 1, 0))), (1, vi l1), (4, vi l4)]) rfl k_) ?_
      refine Zm.l (fun _ _ k_ => z_aload_n dX8_pushInto_59 rfl rfl k_) ?_
      refine Zm.l (fun _ _ k_ => z_iload_n dX8_pushInto_60 rfl rfl k_) ?_
      refine Zm.l (fun _ _ k_ => z_iconst (v := 0) dX8_pushInto_61 rfl k_) ?_
      refine Zm.l (fun _ _ k_ => z_iconst (v := 5) dX8_pushInto_62 rfl k_) ?_
      refine Zm.l (fun _ _ k_ => z_iload dX8_pushInto_63 rfl k_) ?_
      refine Zm.pick [0, 2] rfl ?_
      exact zm_callV (as := [vi l1, vi (0 : Int32), vi (5 : Int32), vi l4]) (st := []) dX8_pushInto_65 vsX8_870_1 (Nat.le_refl _) (Nat.le_of_ble_eq_true rfl) (Nat.le_of_ble_eq_true rfl) rfl k
  · have k := zif h_ k
    exact zm_vret dX8_pushInto_40 rfl k
theorem sX8_pushInto_68 {E : zE} {d : Nat} {Q : zO → zM → Prop} (M : zM) (l4 : Int32) (k : Zm E YX8_give_2 d M (zargs 0 [vr (some (97, 1, 0)), vi (5 : Int32), vi l4]) 0 [] (zma E YX8_pushInto (d + 1) [] 72 3 [] Q)) : Zm E YX8_pushInto (d + 1) M [(0, vr (some (97, 1, 0))), (4, vi l4)] 68 [] Q := by
  refine Zm.l (fun _ _ k_ => z_aload_n dX8_pushInto_68 rfl rfl k_) ?_
  refine Zm.l (fun _ _ k_ => z_iconst (v := 5) dX8_pushInto_69 rfl k_) ?_
  refine Zm.l (fun _ _ k_ => z_iload dX8_pushInto_70 rfl k_) ?_
  refine Zm.pick [] rfl ?_
  exact zm_callV (as := [vi (5 : Int32), vi l4]) (st := []) dX8_pushInto_72 vsX8_822_1 (Nat.le_refl _) (Nat.le_of_ble_eq_true rfl) (Nat.le_of_ble_eq_true rfl) rfl k
theorem sX8_pushInto_75 {E : zE} {d : Nat} {Q : zO → zM → Prop} (M : zM)  (k : Q (.inl none) M) : Zm E YX8_pushInto (d + 1) M [] 75 [] Q := by
  exact zm_vret dX8_pushInto_75 rfl k
/-! ScriptTypesModel.pop(I)V -/
theorem bX8_pop_0 : zdec cX8_pop 0 [(0, .aload_n 0, 1), (1, .iload_n 1, 1), (2, .invokevirtual 978, 3), (5, .istore_n 2, 1), (6, .aload_n 0, 1), (7, .iconst 0, 1), (8, .iconst 0, 1), (9, .invokevirtual 822, 3), (12, .iload_n 2, 1), (13, .ifCond .ne 4, 3), (16, .return_, 1), (17, .aload_n 0, 1), (18, .iconst 5, 1), (19, .iload_n 2, 1), (20, .iconst 1, 1), (21, .isub, 1)] = true := by decide +kernel
theorem dX8_pop_0 : decode cX8_pop 0 = .ok (.aload_n 0, 1) := zdec_at bX8_pop_0 0 rfl
theorem dX8_pop_1 : decode cX8_pop 1 = .ok (.iload_n 1, 1) := zdec_at bX8_pop_0 1 rfl
theorem dX8_pop_2 : decode cX8_pop 2 = .ok (.invokevirtual 978, 3) := zdec_at bX8_pop_0 2 rfl
theorem dX8_pop_5 : decode cX8_pop 5 = .ok (.istore_n 2, 1) := zdec_at bX8_pop_0 3 rfl
theorem dX8_pop_6 : decode cX8_pop 6 = .ok (.aload_n 0, 1) := zdec_at bX8_pop_0 4 rfl
theorem dX8_pop_7 : decode cX8_pop 7 = .ok (.iconst 0, 1) := zdec_at bX8_pop_0 5 rfl
theorem dX8_pop_8 : decode cX8_pop 8 = .ok (.iconst 0, 1) := zdec_at bX8_pop_0 6 rfl
theorem dX8_pop_9 : decode cX8_pop 9 = .ok (.invokevirtual 822, 3) := zdec_at bX8_pop_0 7 rfl
theorem dX8_pop_12 : decode cX8_pop 12 = .ok (.iload_n 2, 1) := zdec_at bX8_pop_0 8 rfl
theorem dX8_pop_13 : decode cX8_pop 13 = .ok (.ifCond .ne 4, 3) := zdec_at bX8_pop_0 9 rfl
theorem dX8_pop_16 : decode cX8_pop 16 = .ok (.return_, 1) := zdec_at bX8_pop_0 10 rfl
theorem dX8_pop_17 : decode cX8_pop 17 = .ok (.aload_n 0, 1) := zdec_at bX8_pop_0 11 rfl
theorem dX8_pop_18 : decode cX8_pop 18 = .ok (.iconst 5, 1) := zdec_at bX8_pop_0 12 rfl
theorem dX8_pop_19 : decode cX8_pop 19 = .ok (.iload_n 2, 1) := zdec_at bX8_pop_0 13 rfl
theorem dX8_pop_20 : decode cX8_pop 20 = .ok (.iconst 1, 1) := zdec_at bX8_pop_0 14 rfl
theorem dX8_pop_21 : decode cX8_pop 21 = .ok (.isub, 1) := zdec_at bX8_pop_0 15 rfl
theorem bX8_pop_22 : zdec cX8_pop 22 [(22, .invokevirtual 969, 3), (25, .istore_n 3, 1), (26, .aload_n 0, 1), (27, .getfield 794, 3), (30, .ifCond .eq 4, 3), (33, .return_, 1), (34, .aload_n 0, 1), (35, .iload_n 1, 1), (36, .iload_n 3, 1), (37, .invokevirtual 846, 3), (40, .istore 4, 2), (42, .iload 4, 2), (44, .iconst (-1), 1), (45, .if_icmp .eq 21, 3), (48, .aload_n 0, 1), (49, .aload_n 0, 1)] = true := by decide +kernel
theorem dX8_pop_22 : decode cX8_pop 22 = .ok (.invokevirtual 969, 3) := zdec_at bX8_pop_22 0 rfl
theorem dX8_pop_25 : decode cX8_pop 25 = .ok (.istore_n 3, 1) := zdec_at bX8_pop_22 1 rfl
theorem dX8_pop_26 : decode cX8_pop 26 = .ok (.aload_n 0, 1) := zdec_at bX8_pop_22 2 rfl
theorem dX8_pop_27 : decode cX8_pop 27 = .ok (.getfield 794, 3) := zdec_at bX8_pop_22 3 rfl
theorem dX8_pop_30 : decode cX8_pop 30 = .ok (.ifCond .eq 4, 3) := zdec_at bX8_pop_22 4 rfl
theorem dX8_pop_33 : decode cX8_pop 33 = .ok (.return_, 1) := zdec_at bX8_pop_22 5 rfl
theorem dX8_pop_34 : decode cX8_pop 34 = .ok (.aload_n 0, 1) := zdec_at bX8_pop_22 6 rfl
theorem dX8_pop_35 : decode cX8_pop 35 = .ok (.iload_n 1, 1) := zdec_at bX8_pop_22 7 rfl
theorem dX8_pop_36 : decode cX8_pop 36 = .ok (.iload_n 3, 1) := zdec_at bX8_pop_22 8 rfl
theorem dX8_pop_37 : decode cX8_pop 37 = .ok (.invokevirtual 846, 3) := zdec_at bX8_pop_22 9 rfl
theorem dX8_pop_40 : decode cX8_pop 40 = .ok (.istore 4, 2) := zdec_at bX8_pop_22 10 rfl
theorem dX8_pop_42 : decode cX8_pop 42 = .ok (.iload 4, 2) := zdec_at bX8_pop_22 11 rfl
theorem dX8_pop_44 : decode cX8_pop 44 = .ok (.iconst (-1), 1) := zdec_at bX8_pop_22 12 rfl
theorem dX8_pop_45 : decode cX8_pop 45 = .ok (.if_icmp .eq 21, 3) := zdec_at bX8_pop_22 13 rfl
theorem dX8_pop_48 : decode cX8_pop 48 = .ok (.aload_n 0, 1) := zdec_at bX8_pop_22 14 rfl
theorem dX8_pop_49 : decode cX8_pop 49 = .ok (.aload_n 0, 1) := zdec_at bX8_pop_22 15 rfl
theorem bX8_pop_50 : zdec cX8_pop 50 [(50, .getfield 158, 3), (53, .iload 4, 2), (55, .iaload, 1), (56, .aload_n 0, 1), (57, .getfield 161, 3), (60, .iload 4, 2), (62, .iaload, 1), (63, .invokevirtual 822, 3), (66, .aload_n 0, 1), (67, .iload_n 1, 1), (68, .iload_n 3, 1), (69, .invokevirtual 981, 3), (72, .aload_n 0, 1), (73, .iload_n 1, 1), (74, .iconst 0, 1), (75, .iconst 5, 1)] = true := by decide +kernel
theorem dX8_pop_50 : decode cX8_pop 50 = .ok (.getfield 158, 3) := zdec_at bX8_pop_50 0 rfl
theorem dX8_pop_53 : decode cX8_pop 53 = .ok (.iload 4, 2) := zdec_at bX8_pop_50 1 rfl
theorem dX8_pop_55 : decode cX8_pop 55 = .ok (.iaload, 1) := zdec_at bX8_pop_50 2 rfl
theorem dX8_pop_56 : decode cX8_pop 56 = .ok (.aload_n 0, 1) := zdec_at bX8_pop_50 3 rfl
theorem dX8_pop_57 : decode cX8_pop 57 = .ok (.getfield 161, 3) := zdec_at bX8_pop_50 4 rfl
theorem dX8_pop_60 : decode cX8_pop 60 = .ok (.iload 4, 2) := zdec_at bX8_pop_50 5 rfl
theorem dX8_pop_62 : decode cX8_pop 62 = .ok (.iaload, 1) := zdec_at bX8_pop_50 6 rfl
theorem dX8_pop_63 : decode cX8_pop 63 = .ok (.invokevirtual 822, 3) := zdec_at bX8_pop_50 7 rfl
theorem dX8_pop_66 : decode cX8_pop 66 = .ok (.aload_n 0, 1) := zdec_at bX8_pop_50 8 rfl
theorem dX8_pop_67 : decode cX8_pop 67 = .ok (.iload_n 1, 1) := zdec_at bX8_pop_50 9 rfl
theorem dX8_pop_68 : decode cX8_pop 68 = .ok (.iload_n 3, 1) := zdec_at bX8_pop_50 10 rfl
theorem dX8_pop_69 : decode cX8_pop 69 = .ok (.invokevirtual 981, 3) := zdec_at bX8_pop_50 11 rfl
theorem dX8_pop_72 : decode cX8_pop 72 = .ok (.aload_n 0, 1) := zdec_at bX8_pop_50 12 rfl
theorem dX8_pop_73 : decode cX8_pop 73 = .ok (.iload_n 1, 1) := zdec_at bX8_pop_50 13 rfl
theorem dX8_pop_74 : decode cX8_pop 74 = .ok (.iconst 0, 1) := zdec_at bX8_pop_50 14 rfl
theorem dX8_pop_75 : decode cX8_pop 75 = .ok (.iconst 5, 1) := zdec_at bX8_pop_50 15 rfl
theorem bX8_pop_76 : zdec cX8_pop 76 [(76, .iload_n 2, 1), (77, .iconst 1, 1), (78, .isub, 1), (79, .invokevirtual 870, 3), (82, .return_, 1)] = true := by decide +kernel
theorem dX8_pop_76 : decode cX8_pop 76 = .ok (.iload_n 2, 1) := zdec_at bX8_pop_76 0 rfl
theorem dX8_pop_77 : decode cX8_pop 77 = .ok (.iconst 1, 1) := zdec_at bX8_pop_76 1 rfl
theorem dX8_pop_78 : decode cX8_pop 78 = .ok (.isub, 1) := zdec_at bX8_pop_76 2 rfl
theorem dX8_pop_79 : decode cX8_pop 79 = .ok (.invokevirtual 870, 3) := zdec_at bX8_pop_76 3 rfl
theorem dX8_pop_82 : decode cX8_pop 82 = .ok (.return_, 1) := zdec_at bX8_pop_76 4 rfl
theorem sX8_pop_0 {E : zE} {d : Nat} {Q : zO → zM → Prop} (M : zM) (l1 : Int32) (k : Zm E YX8_lengthOf d M (zargs 0 [vr (some (97, 1, 0)), vi l1]) 0 [] (zma E YX8_pop (d + 1) [(0, vr (some (97, 1, 0))), (1, vi l1)] 2 3 [] Q)) : Zm E YX8_pop (d + 1) M [(0, vr (some (97, 1, 0))), (1, vi l1)] 0 [] Q := by
  refine Zm.l (fun _ _ k_ => z_aload_n dX8_pop_0 rfl rfl k_) ?_
  refine Zm.l (fun _ _ k_ => z_iload_n dX8_pop_1 rfl rfl k_) ?_
  exact zm_callV (as := [vi l1]) (st := []) dX8_pop_2 vsX8_978_1 (Nat.le_refl _) (Nat.le_of_ble_eq_true rfl) (Nat.le_of_ble_eq_true rfl) rfl k
theorem sX8_pop_5 {E : zE} {d : Nat} {Q : zO → zM → Prop} (M : zM) (l1 : Int32) (s0 : Int32) (k : Zm E YX8_give_2 d M (zargs 0 [vr (some (97, 1, 0)), vi (0 : Int32), vi (0 : Int32)]) 0 [] (zma E YX8_pop (d + 1) [(0, vr (some (97, 1, 0))), (1, vi l1), (2, vi s0)] 9 3 [] Q)) : Zm E YX8_pop (d + 1) M [(0, vr (some (97, 1, 0))), (1, vi l1)] 5 [vi s0] Q := by
  refine Zm.l (fun _ _ k_ => z_ist_n dX8_pop_5 rfl (by decide) (lv' := [(0, vr (some (97, 1, 0))), (1, vi l1), (2, vi s0)]) rfl k_) ?_
  refine Zm.l (fun _ _ k_ => z_aload_n dX8_pop_6 rfl rfl k_) ?_
  refine Zm.l (fun _ _ k_ => z_iconst (v := 0) dX8_pop_7 rfl k_) ?_
  refine Zm.l (fun _ _ k_ => z_iconst (v := 0) dX8_pop_8 rfl k_) ?_
  exact zm_callV (as := [vi (0 : Int32), vi (0 : Int32)]) (st := []) dX8_pop_9 vsX8_822_1 (Nat.le_refl _) (Nat.le_of_ble_eq_true rfl) (Nat.le_of_ble_eq_true rfl) rfl k
theorem sX8_pop_12 {E : zE} {d : Nat} {Q : zO → zM → Prop} (M : zM) (l1 : Int32) (l2 : Int32) (k : if l2 = 0 then (Q (.inl none) M) else (Zm E YX8_textOf d M (zargs 0 [vr (some (97, 1, 0)), vi (5 : Int32), vi (l2 - (1 : Int32))]) 0 [] (zma E YX8_pop (d + 1) [(0, vr (some (97, 1, 0))), (1, vi l1), (2, vi l2)] 22 3 [] Q))) : Zm E YX8_pop (d + 1) M [(0, vr (some (97, 1, 0))), (1, vi l1), (2, vi l2)] 12 [] Q := by
  refine Zm.l (fun _ _ k_ => z_iload_n dX8_pop_12 rfl rfl k_) ?_
  refine Zm.brn (fun _ _ k1_ k2_ => z_if_ne (tgt := 17) dX8_pop_13 rfl k1_ k2_) (fun h_ => ?_) (fun h_ => ?_)
  · have k := zif h_ k
    refine Zm.l (fun _ _ k_ => z_aload_n dX8_pop_17 rfl rfl k_) ?_
    refine Zm.l (fun _ _ k_ => z_iconst (v := 5) dX8_pop_18 rfl k_) ?_
    refine Zm.l (fun _ _ k_ => z_iload_n dX8_pop_19 rfl rfl k_) ?_
    refine Zm.l (fun _ _ k_ => z_iconst (v := 1) dX8_pop_20 rfl k_) ?_
    refine Zm.l (fun _ _ k_ => z_isub dX8_pop_21 k_) ?_
    exact zm_callV (as := [vi (5 : Int32), vi (l2 - (1 : Int32))]) (st := []) dX8_pop_22 vsX8_969_1 (Nat.le_refl _) (Nat.le_of_ble_eq_true rfl) (Nat.le_of_ble_eq_true rfl) rfl k
  · have k := zit h_ k
    exact zm_vret dX8_pop_16 rfl k
theorem sX8_pop_25 {E : zE} {d : Nat} {Q : zO → zM → Prop} (M : zM) (l1 : Int32) (l2 : Int32) (s0 : Int32) (k : if (gi M 97 75) = 0 then (Zm E YX8_findProperty d M (zargs 0 [vr (some (97, 1, 0)), vi l1, vi s0]) 0 [] (zma E YX8_pop (d + 1) [(0, vr (some (97, 1, 0))), (1, vi l1), (2, vi l2), (3, vi s0)] 37 3 [] Q)) else (Q (.inl none) M)) : Zm E YX8_pop (d + 1) M [(0, vr (some (97, 1, 0))), (1, vi l1), (2, vi l2)] 25 [vi s0] Q := by
  refine Zm.l (fun _ _ k_ => z_ist_n dX8_pop_25 rfl (by decide) (lv' := [(0, vr (some (97, 1, 0))), (1, vi l1), (2, vi l2), (3, vi s0)]) rfl k_) ?_
  refine Zm.l (fun _ _ k_ => z_aload_n dX8_pop_26 rfl rfl k_) ?_
  refine zm_geti dX8_pop_27 fsX8_794_1 (by decide) (by decide) ?_
  refine Zm.br (fun _ _ k1_ k2_ => z_if_eq (tgt := 34) dX8_pop_30 rfl k1_ k2_) (fun h_ => ?_) (fun h_ => ?_)
  · have k := zit h_ k
    refine Zm.l (fun _ _ k_ => z_aload_n dX8_pop_34 rfl rfl k_) ?_
    refine Zm.l (fun _ _ k_ => z_iload_n dX8_pop_35 rfl rfl k_) ?_
    refine Zm.l (fun _ _ k_ => z_iload_n dX8_pop_36 rfl rfl k_) ?_
    exact zm_callV (as := [vi l1, vi s0]) (st := []) dX8_pop_37 vsX8_846_1 (Nat.le_refl _) (Nat.le_of_ble_eq_true rfl) (Nat.le_of_ble_eq_true rfl) rfl k
  · have k := zif h_ k
    exact zm_vret dX8_pop_33 rfl k
theorem sX8_pop_40 {E : zE} {d : Nat} {Q : zO → zM → Prop} (M : zM) (l1 : Int32) (l2 : Int32) (l3 : Int32) (s0 : Int32) (k : if s0 = (-1 : Int32) then (Zm E YX8_pop (d + 1) M [(0, vr (some (97, 1, 0))), (1, vi l1), (2, vi l2), (3, vi l3)] 66 [] Q) else (vp_in s0 3000 ∧ (vp_in s0 3000 ∧ (Zm E YX8_give_2 d M (zargs 0 [vr (some (97, 1, 0)), vi (gi M 146 (s0).toNatClampNeg), vi (gi M 147 (s0).toNatClampNeg)]) 0 [] (zma E YX8_pop (d + 1) [(0, vr (some (97, 1, 0))), (1, vi l1), (2, vi l2), (3, vi l3)] 63 3 [] Q))))) : Zm E YX8_pop (d + 1) M [(0, vr (some (97, 1, 0))), (1, vi l1), (2, vi l2), (3, vi l3)] 40 [vi s0] Q := by
  refine Zm.l (fun _ _ k_ => z_ist dX8_pop_40 (by decide) (lv' := [(0, vr (some (97, 1, 0))), (1, vi l1), (2, vi l2), (3, vi l3), (4, vi s0)]) rfl k_) ?_
  refine Zm.l (fun _ _ k_ => z_iload dX8_pop_42 rfl k_) ?_
  refine Zm.l (fun _ _ k_ => z_iconst (v := -1) dX8_pop_44 rfl k_) ?_
  refine Zm.br (fun _ _ k1_ k2_ => z_icmp_eq (tgt := 66) dX8_pop_45 rfl k1_ k2_) (fun h_ => ?_) (fun h_ => ?_)
  · have k := zit h_ k
    refine Zm.pick [0, 1, 2, 3] rfl ?_
    exact k
  · have k := zif h_ k
    refine Zm.l (fun _ _ k_ => z_aload_n dX8_pop_48 rfl rfl k_) ?_
    refine Zm.l (fun _ _ k_ => z_aload_n dX8_pop_49 rfl rfl k_) ?_
    refine zm_getr 43 dX8_pop_50 fsX8_158_1 rfl ?_
    refine Zm.l (fun _ _ k_ => z_iload dX8_pop_53 rfl k_) ?_
    obtain ⟨b_, k⟩ := k
    refine zm_iald dX8_pop_55 b_ (by decide) (by decide) ?_
    refine Zm.l (fun _ _ k_ => z_aload_n dX8_pop_56 rfl rfl k_) ?_
    refine zm_getr 44 dX8_pop_57 fsX8_161_1 rfl ?_
    refine Zm.l (fun _ _ k_ => z_iload dX8_pop_60 rfl k_) ?_
    obtain ⟨b_, k⟩ := k
    refine zm_iald dX8_pop_62 b_ (by decide) (by decide) ?_
    refine Zm.pick [0, 1, 2, 3] rfl ?_
    exact zm_callV (as := [vi (gi M 146 (s0).toNatClampNeg), vi (gi M 147 (s0).toNatClampNeg)]) (st := []) dX8_pop_63 vsX8_822_1 (Nat.le_refl _) (Nat.le_of_ble_eq_true rfl) (Nat.le_of_ble_eq_true rfl) rfl k
theorem sX8_pop_66 {E : zE} {d : Nat} {Q : zO → zM → Prop} (M : zM) (l1 : Int32) (l2 : Int32) (l3 : Int32) (k : Zm E YX8_remove d M (zargs 0 [vr (some (97, 1, 0)), vi l1, vi l3]) 0 [] (zma E YX8_pop (d + 1) [(0, vr (some (97, 1, 0))), (1, vi l1), (2, vi l2)] 69 3 [] Q)) : Zm E YX8_pop (d + 1) M [(0, vr (some (97, 1, 0))), (1, vi l1), (2, vi l2), (3, vi l3)] 66 [] Q := by
  refine Zm.l (fun _ _ k_ => z_aload_n dX8_pop_66 rfl rfl k_) ?_
  refine Zm.l (fun _ _ k_ => z_iload_n dX8_pop_67 rfl rfl k_) ?_
  refine Zm.l (fun _ _ k_ => z_iload_n dX8_pop_68 rfl rfl k_) ?_
  refine Zm.pick [0, 1, 2] rfl ?_
  exact zm_callV (as := [vi l1, vi l3]) (st := []) dX8_pop_69 vsX8_981_1 (Nat.le_refl _) (Nat.le_of_ble_eq_true rfl) (Nat.le_of_ble_eq_true rfl) rfl k
theorem sX8_pop_72 {E : zE} {d : Nat} {Q : zO → zM → Prop} (M : zM) (l1 : Int32) (l2 : Int32) (k : Zm E YX8_set_2 d M (zargs 0 [vr (some (97, 1, 0)), vi l1, vi (0 : Int32), vi (5 : Int32), vi (l2 - (1 : Int32))]) 0 [] (zma E YX8_pop (d + 1) [] 79 3 [] Q)) : Zm E YX8_pop (d + 1) M [(0, vr (some (97, 1, 0))), (1, vi l1), (2, vi l2)] 72 [] Q := by
  refine Zm.l (fun _ _ k_ => z_aload_n dX8_pop_72 rfl rfl k_) ?_
  refine Zm.l (fun _ _ k_ => z_iload_n dX8_pop_73 rfl rfl k_) ?_
  refine Zm.l (fun _ _ k_ => z_iconst (v := 0) dX8_pop_74 rfl k_) ?_
  refine Zm.l (fun _ _ k_ => z_iconst (v := 5) dX8_pop_75 rfl k_) ?_
  refine Zm.l (fun _ _ k_ => z_iload_n dX8_pop_76 rfl rfl k_) ?_
  refine Zm.l (fun _ _ k_ => z_iconst (v := 1) dX8_pop_77 rfl k_) ?_
  refine Zm.l (fun _ _ k_ => z_isub dX8_pop_78 k_) ?_
  refine Zm.pick [] rfl ?_
  exact zm_callV (as := [vi l1, vi (0 : Int32), vi (5 : Int32), vi (l2 - (1 : Int32))]) (st := []) dX8_pop_79 vsX8_870_1 (Nat.le_refl _) (Nat.le_of_ble_eq_true rfl) (Nat.le_of_ble_eq_true rfl) rfl k
theorem sX8_pop_82 {E : zE} {d : Nat} {Q : zO → zM → Prop} (M : zM)  (k : Q (.inl none) M) : Zm E YX8_pop (d + 1) M [] 82 [] Q := by
  exact zm_vret dX8_pop_82 rfl k
/-! ScriptTypesModel.hasOwn(III)V -/
theorem bX8_hasOwn_0 : zdec cX8_hasOwn 0 [(0, .aload_n 0, 1), (1, .iload_n 2, 1), (2, .iload_n 3, 1), (3, .invokevirtual 969, 3), (6, .istore 4, 2), (8, .aload_n 0, 1), (9, .getfield 794, 3), (12, .ifCond .ne 23, 3), (15, .aload_n 0, 1), (16, .aload_n 0, 1), (17, .iload_n 1, 1), (18, .iload 4, 2), (20, .invokevirtual 846, 3), (23, .iconst (-1), 1), (24, .if_icmp .eq 7, 3), (27, .iconst 1, 1)] = true := by decide +kernel
theorem dX8_hasOwn_0 : decode cX8_hasOwn 0 = .ok (.aload_n 0, 1) := zdec_at bX8_hasOwn_0 0 rfl
theorem dX8_hasOwn_1 : decode cX8_hasOwn 1 = .ok (.iload_n 2, 1) := zdec_at bX8_hasOwn_0 1 rfl
theorem dX8_hasOwn_2 : decode cX8_hasOwn 2 = .ok (.iload_n 3, 1) := zdec_at bX8_hasOwn_0 2 rfl
theorem dX8_hasOwn_3 : decode cX8_hasOwn 3 = .ok (.invokevirtual 969, 3) := zdec_at bX8_hasOwn_0 3 rfl
theorem dX8_hasOwn_6 : decode cX8_hasOwn 6 = .ok (.istore 4, 2) := zdec_at bX8_hasOwn_0 4 rfl
theorem dX8_hasOwn_8 : decode cX8_hasOwn 8 = .ok (.aload_n 0, 1) := zdec_at bX8_hasOwn_0 5 rfl
theorem dX8_hasOwn_9 : decode cX8_hasOwn 9 = .ok (.getfield 794, 3) := zdec_at bX8_hasOwn_0 6 rfl
theorem dX8_hasOwn_12 : decode cX8_hasOwn 12 = .ok (.ifCond .ne 23, 3) := zdec_at bX8_hasOwn_0 7 rfl
theorem dX8_hasOwn_15 : decode cX8_hasOwn 15 = .ok (.aload_n 0, 1) := zdec_at bX8_hasOwn_0 8 rfl
theorem dX8_hasOwn_16 : decode cX8_hasOwn 16 = .ok (.aload_n 0, 1) := zdec_at bX8_hasOwn_0 9 rfl
theorem dX8_hasOwn_17 : decode cX8_hasOwn 17 = .ok (.iload_n 1, 1) := zdec_at bX8_hasOwn_0 10 rfl
theorem dX8_hasOwn_18 : decode cX8_hasOwn 18 = .ok (.iload 4, 2) := zdec_at bX8_hasOwn_0 11 rfl
theorem dX8_hasOwn_20 : decode cX8_hasOwn 20 = .ok (.invokevirtual 846, 3) := zdec_at bX8_hasOwn_0 12 rfl
theorem dX8_hasOwn_23 : decode cX8_hasOwn 23 = .ok (.iconst (-1), 1) := zdec_at bX8_hasOwn_0 13 rfl
theorem dX8_hasOwn_24 : decode cX8_hasOwn 24 = .ok (.if_icmp .eq 7, 3) := zdec_at bX8_hasOwn_0 14 rfl
theorem dX8_hasOwn_27 : decode cX8_hasOwn 27 = .ok (.iconst 1, 1) := zdec_at bX8_hasOwn_0 15 rfl
theorem bX8_hasOwn_28 : zdec cX8_hasOwn 28 [(28, .goto 4, 3), (31, .iconst 0, 1), (32, .invokevirtual 827, 3), (35, .return_, 1)] = true := by decide +kernel
theorem dX8_hasOwn_28 : decode cX8_hasOwn 28 = .ok (.goto 4, 3) := zdec_at bX8_hasOwn_28 0 rfl
theorem dX8_hasOwn_31 : decode cX8_hasOwn 31 = .ok (.iconst 0, 1) := zdec_at bX8_hasOwn_28 1 rfl
theorem dX8_hasOwn_32 : decode cX8_hasOwn 32 = .ok (.invokevirtual 827, 3) := zdec_at bX8_hasOwn_28 2 rfl
theorem dX8_hasOwn_35 : decode cX8_hasOwn 35 = .ok (.return_, 1) := zdec_at bX8_hasOwn_28 3 rfl
theorem sX8_hasOwn_0 {E : zE} {d : Nat} {Q : zO → zM → Prop} (M : zM) (l1 : Int32) (l2 : Int32) (l3 : Int32) (k : Zm E YX8_textOf d M (zargs 0 [vr (some (97, 1, 0)), vi l2, vi l3]) 0 [] (zma E YX8_hasOwn (d + 1) [(0, vr (some (97, 1, 0))), (1, vi l1)] 3 3 [] Q)) : Zm E YX8_hasOwn (d + 1) M [(0, vr (some (97, 1, 0))), (1, vi l1), (2, vi l2), (3, vi l3)] 0 [] Q := by
  refine Zm.l (fun _ _ k_ => z_aload_n dX8_hasOwn_0 rfl rfl k_) ?_
  refine Zm.l (fun _ _ k_ => z_iload_n dX8_hasOwn_1 rfl rfl k_) ?_
  refine Zm.l (fun _ _ k_ => z_iload_n dX8_hasOwn_2 rfl rfl k_) ?_
  refine Zm.pick [0, 1] rfl ?_
  exact zm_callV (as := [vi l2, vi l3]) (st := []) dX8_hasOwn_3 vsX8_969_1 (Nat.le_refl _) (Nat.le_of_ble_eq_true rfl) (Nat.le_of_ble_eq_true rfl) rfl k
theorem sX8_hasOwn_6 {E : zE} {d : Nat} {Q : zO → zM → Prop} (M : zM) (l1 : Int32) (s0 : Int32) (k : if (gi M 97 75) = 0 then (Zm E YX8_findProperty d M (zargs 0 [vr (some (97, 1, 0)), vi l1, vi s0]) 0 [] (zma E YX8_hasOwn (d + 1) [] 20 3 [vr (some (97, 1, 0))] Q)) else (Zm E YX8_hasOwn (d + 1) M [] 35 [] Q)) : Zm E YX8_hasOwn (d + 1) M [(0, vr (some (97, 1, 0))), (1, vi l1)] 6 [vi s0] Q := by
  refine Zm.l (fun _ _ k_ => z_ist dX8_hasOwn_6 (by decide) (lv' := [(0, vr (some (97, 1, 0))), (1, vi l1), (4, vi s0)]) rfl k_) ?_
  refine Zm.l (fun _ _ k_ => z_aload_n dX8_hasOwn_8 rfl rfl k_) ?_
  refine zm_geti dX8_hasOwn_9 fsX8_794_1 (by decide) (by decide) ?_
  refine Zm.brn (fun _ _ k1_ k2_ => z_if_ne (tgt := 35) dX8_hasOwn_12 rfl k1_ k2_) (fun h_ => ?_) (fun h_ => ?_)
  · have k := zif h_ k
    refine Zm.pick [] rfl ?_
    exact k
  · have k := zit h_ k
    refine Zm.l (fun _ _ k_ => z_aload_n dX8_hasOwn_15 rfl rfl k_) ?_
    refine Zm.l (fun _ _ k_ => z_aload_n dX8_hasOwn_16 rfl rfl k_) ?_
    refine Zm.l (fun _ _ k_ => z_iload_n dX8_hasOwn_17 rfl rfl k_) ?_
    refine Zm.l (fun _ _ k_ => z_iload dX8_hasOwn_18 rfl k_) ?_
    refine Zm.pick [] rfl ?_
    exact zm_callV (as := [vi l1, vi s0]) (st := [vr (some (97, 1, 0))]) dX8_hasOwn_20 vsX8_846_1 (Nat.le_refl _) (Nat.le_of_ble_eq_true rfl) (Nat.le_of_ble_eq_true rfl) rfl k
theorem sX8_hasOwn_23 {E : zE} {d : Nat} {Q : zO → zM → Prop} (M : zM) (s0 : Int32) (k : if s0 = (-1 : Int32) then (Zm E YX8_truth d M (zargs 0 [vr (some (97, 1, 0)), vi (0 : Int32)]) 0 [] (zma E YX8_hasOwn (d + 1) [] 32 3 [] Q)) else (Zm E YX8_truth d M (zargs 0 [vr (some (97, 1, 0)), vi (1 : Int32)]) 0 [] (zma E YX8_hasOwn (d + 1) [] 32 3 [] Q))) : Zm E YX8_hasOwn (d + 1) M [] 23 [vi s0, vr (some (97, 1, 0))] Q := by
  refine Zm.l (fun _ _ k_ => z_iconst (v := -1) dX8_hasOwn_23 rfl k_) ?_
  refine Zm.br (fun _ _ k1_ k2_ => z_icmp_eq (tgt := 31) dX8_hasOwn_24 rfl k1_ k2_) (fun h_ => ?_) (fun h_ => ?_)
  · have k := zit h_ k
    refine Zm.l (fun _ _ k_ => z_iconst (v := 0) dX8_hasOwn_31 rfl k_) ?_
    exact zm_callV (as := [vi (0 : Int32)]) (st := []) dX8_hasOwn_32 vsX8_827_1 (Nat.le_refl _) (Nat.le_of_ble_eq_true rfl) (Nat.le_of_ble_eq_true rfl) rfl k
  · have k := zif h_ k
    refine Zm.l (fun _ _ k_ => z_iconst (v := 1) dX8_hasOwn_27 rfl k_) ?_
    refine Zm.l (fun _ _ k_ => z_goto (tgt := 32) dX8_hasOwn_28 rfl k_) ?_
    exact zm_callV (as := [vi (1 : Int32)]) (st := []) dX8_hasOwn_32 vsX8_827_1 (Nat.le_refl _) (Nat.le_of_ble_eq_true rfl) (Nat.le_of_ble_eq_true rfl) rfl k
theorem sX8_hasOwn_35 {E : zE} {d : Nat} {Q : zO → zM → Prop} (M : zM)  (k : Q (.inl none) M) : Zm E YX8_hasOwn (d + 1) M [] 35 [] Q := by
  exact zm_vret dX8_hasOwn_35 rfl k
/-! ScriptTypesModel.charAt(III)V -/
theorem bX8_charAt_0 : zdec cX8_charAt 0 [(0, .aload_n 0, 1), (1, .iload_n 2, 1), (2, .iload_n 3, 1), (3, .invokevirtual 816, 3), (6, .istore 4, 2), (8, .aload_n 0, 1), (9, .iconst 0, 1), (10, .putfield 299, 3), (13, .aload_n 0, 1), (14, .getfield 806, 3), (17, .ifCond .eq 8, 3), (20, .iload 4, 2), (22, .goto 4, 3), (25, .iconst 0, 1), (26, .istore 4, 2), (28, .iload 4, 2)] = true := by decide +kernel
theorem dX8_charAt_0 : decode cX8_charAt 0 = .ok (.aload_n 0, 1) := zdec_at bX8_charAt_0 0 rfl
theorem dX8_charAt_1 : decode cX8_charAt 1 = .ok (.iload_n 2, 1) := zdec_at bX8_charAt_0 1 rfl
theorem dX8_charAt_2 : decode cX8_charAt 2 = .ok (.iload_n 3, 1) := zdec_at bX8_charAt_0 2 rfl
theorem dX8_charAt_3 : decode cX8_charAt 3 = .ok (.invokevirtual 816, 3) := zdec_at bX8_charAt_0 3 rfl
theorem dX8_charAt_6 : decode cX8_charAt 6 = .ok (.istore 4, 2) := zdec_at bX8_charAt_0 4 rfl
theorem dX8_charAt_8 : decode cX8_charAt 8 = .ok (.aload_n 0, 1) := zdec_at bX8_charAt_0 5 rfl
theorem dX8_charAt_9 : decode cX8_charAt 9 = .ok (.iconst 0, 1) := zdec_at bX8_charAt_0 6 rfl
theorem dX8_charAt_10 : decode cX8_charAt 10 = .ok (.putfield 299, 3) := zdec_at bX8_charAt_0 7 rfl
theorem dX8_charAt_13 : decode cX8_charAt 13 = .ok (.aload_n 0, 1) := zdec_at bX8_charAt_0 8 rfl
theorem dX8_charAt_14 : decode cX8_charAt 14 = .ok (.getfield 806, 3) := zdec_at bX8_charAt_0 9 rfl
theorem dX8_charAt_17 : decode cX8_charAt 17 = .ok (.ifCond .eq 8, 3) := zdec_at bX8_charAt_0 10 rfl
theorem dX8_charAt_20 : decode cX8_charAt 20 = .ok (.iload 4, 2) := zdec_at bX8_charAt_0 11 rfl
theorem dX8_charAt_22 : decode cX8_charAt 22 = .ok (.goto 4, 3) := zdec_at bX8_charAt_0 12 rfl
theorem dX8_charAt_25 : decode cX8_charAt 25 = .ok (.iconst 0, 1) := zdec_at bX8_charAt_0 13 rfl
theorem dX8_charAt_26 : decode cX8_charAt 26 = .ok (.istore 4, 2) := zdec_at bX8_charAt_0 14 rfl
theorem dX8_charAt_28 : decode cX8_charAt 28 = .ok (.iload 4, 2) := zdec_at bX8_charAt_0 15 rfl
theorem bX8_charAt_30 : zdec cX8_charAt 30 [(30, .iconst 0, 1), (31, .aload_n 0, 1), (32, .getfield 20, 3), (35, .iload_n 1, 1), (36, .iaload, 1), (37, .iconst 1, 1), (38, .isub, 1), (39, .invokestatic 899, 3), (42, .ifCond .eq 19, 3), (45, .aload_n 0, 1), (46, .aload_n 0, 1), (47, .getfield 16, 3), (50, .bipush 60, 2), (52, .iload_n 1, 1), (53, .imul, 1), (54, .iload 4, 2)] = true := by decide +kernel
theorem dX8_charAt_30 : decode cX8_charAt 30 = .ok (.iconst 0, 1) := zdec_at bX8_charAt_30 0 rfl
theorem dX8_charAt_31 : decode cX8_charAt 31 = .ok (.aload_n 0, 1) := zdec_at bX8_charAt_30 1 rfl
theorem dX8_charAt_32 : decode cX8_charAt 32 = .ok (.getfield 20, 3) := zdec_at bX8_charAt_30 2 rfl
theorem dX8_charAt_35 : decode cX8_charAt 35 = .ok (.iload_n 1, 1) := zdec_at bX8_charAt_30 3 rfl
theorem dX8_charAt_36 : decode cX8_charAt 36 = .ok (.iaload, 1) := zdec_at bX8_charAt_30 4 rfl
theorem dX8_charAt_37 : decode cX8_charAt 37 = .ok (.iconst 1, 1) := zdec_at bX8_charAt_30 5 rfl
theorem dX8_charAt_38 : decode cX8_charAt 38 = .ok (.isub, 1) := zdec_at bX8_charAt_30 6 rfl
theorem dX8_charAt_39 : decode cX8_charAt 39 = .ok (.invokestatic 899, 3) := zdec_at bX8_charAt_30 7 rfl
theorem dX8_charAt_42 : decode cX8_charAt 42 = .ok (.ifCond .eq 19, 3) := zdec_at bX8_charAt_30 8 rfl
theorem dX8_charAt_45 : decode cX8_charAt 45 = .ok (.aload_n 0, 1) := zdec_at bX8_charAt_30 9 rfl
theorem dX8_charAt_46 : decode cX8_charAt 46 = .ok (.aload_n 0, 1) := zdec_at bX8_charAt_30 10 rfl
theorem dX8_charAt_47 : decode cX8_charAt 47 = .ok (.getfield 16, 3) := zdec_at bX8_charAt_30 11 rfl
theorem dX8_charAt_50 : decode cX8_charAt 50 = .ok (.bipush 60, 2) := zdec_at bX8_charAt_30 12 rfl
theorem dX8_charAt_52 : decode cX8_charAt 52 = .ok (.iload_n 1, 1) := zdec_at bX8_charAt_30 13 rfl
theorem dX8_charAt_53 : decode cX8_charAt 53 = .ok (.imul, 1) := zdec_at bX8_charAt_30 14 rfl
theorem dX8_charAt_54 : decode cX8_charAt 54 = .ok (.iload 4, 2) := zdec_at bX8_charAt_30 15 rfl
theorem bX8_charAt_56 : zdec cX8_charAt 56 [(56, .iadd, 1), (57, .caload, 1), (58, .invokevirtual 324, 3), (61, .aload_n 0, 1), (62, .bipush 6, 2), (64, .aload_n 0, 1), (65, .invokevirtual 803, 3), (68, .invokevirtual 822, 3), (71, .return_, 1)] = true := by decide +kernel
theorem dX8_charAt_56 : decode cX8_charAt 56 = .ok (.iadd, 1) := zdec_at bX8_charAt_56 0 rfl
theorem dX8_charAt_57 : decode cX8_charAt 57 = .ok (.caload, 1) := zdec_at bX8_charAt_56 1 rfl
theorem dX8_charAt_58 : decode cX8_charAt 58 = .ok (.invokevirtual 324, 3) := zdec_at bX8_charAt_56 2 rfl
theorem dX8_charAt_61 : decode cX8_charAt 61 = .ok (.aload_n 0, 1) := zdec_at bX8_charAt_56 3 rfl
theorem dX8_charAt_62 : decode cX8_charAt 62 = .ok (.bipush 6, 2) := zdec_at bX8_charAt_56 4 rfl
theorem dX8_charAt_64 : decode cX8_charAt 64 = .ok (.aload_n 0, 1) := zdec_at bX8_charAt_56 5 rfl
theorem dX8_charAt_65 : decode cX8_charAt 65 = .ok (.invokevirtual 803, 3) := zdec_at bX8_charAt_56 6 rfl
theorem dX8_charAt_68 : decode cX8_charAt 68 = .ok (.invokevirtual 822, 3) := zdec_at bX8_charAt_56 7 rfl
theorem dX8_charAt_71 : decode cX8_charAt 71 = .ok (.return_, 1) := zdec_at bX8_charAt_56 8 rfl
theorem sX8_charAt_0 {E : zE} {d : Nat} {Q : zO → zM → Prop} (M : zM) (l1 : Int32) (l2 : Int32) (l3 : Int32) (k : Zm E YX8_numberOf d M (zargs 0 [vr (some (97, 1, 0)), vi l2, vi l3]) 0 [] (zma E YX8_charAt (d + 1) [(0, vr (some (97, 1, 0))), (1, vi l1)] 3 3 [] Q)) : Zm E YX8_charAt (d + 1) M [(0, vr (some (97, 1, 0))), (1, vi l1), (2, vi l2), (3, vi l3)] 0 [] Q := by
  refine Zm.l (fun _ _ k_ => z_aload_n dX8_charAt_0 rfl rfl k_) ?_
  refine Zm.l (fun _ _ k_ => z_iload_n dX8_charAt_1 rfl rfl k_) ?_
  refine Zm.l (fun _ _ k_ => z_iload_n dX8_charAt_2 rfl rfl k_) ?_
  refine Zm.pick [0, 1] rfl ?_
  exact zm_callV (as := [vi l2, vi l3]) (st := []) dX8_charAt_3 vsX8_816_1 (Nat.le_refl _) (Nat.le_of_ble_eq_true rfl) (Nat.le_of_ble_eq_true rfl) rfl k
theorem sX8_charAt_6 {E : zE} {d : Nat} {Q : zO → zM → Prop} (M : zM) (l1 : Int32) (s0 : Int32) (k : if (gi M 97 113) = 0 then (Zm E YX8_charAt (d + 1) (si M 97 11 (0 : Int32)) [(0, vr (some (97, 1, 0))), (1, vi l1)] 26 [vi (0 : Int32)] Q) else (Zm E YX8_charAt (d + 1) (si M 97 11 (0 : Int32)) [(0, vr (some (97, 1, 0))), (1, vi l1)] 26 [vi s0] Q)) : Zm E YX8_charAt (d + 1) M [(0, vr (some (97, 1, 0))), (1, vi l1)] 6 [vi s0] Q := by
  refine Zm.l (fun _ _ k_ => z_ist dX8_charAt_6 (by decide) (lv' := [(0, vr (some (97, 1, 0))), (1, vi l1), (4, vi s0)]) rfl k_) ?_
  refine Zm.l (fun _ _ k_ => z_aload_n dX8_charAt_8 rfl rfl k_) ?_
  refine Zm.l (fun _ _ k_ => z_iconst (v := 0) dX8_charAt_9 rfl k_) ?_
  refine zm_puti (by decide) (by decide) dX8_charAt_10 (zfwN.w fwX8_299_1) rfl ⟨rfl, rfl⟩ ?_
  refine Zm.l (fun _ _ k_ => z_aload_n dX8_charAt_13 rfl rfl k_) ?_
  refine zm_geti dX8_charAt_14 fsX8_806_1 (by decide) (by decide) ?_
  refine Zm.br (fun _ _ k1_ k2_ => z_if_eq (tgt := 25) dX8_charAt_17 rfl k1_ k2_) (fun h_ => ?_) (fun h_ => ?_)
  · have k := zit h_ k
    refine Zm.l (fun _ _ k_ => z_iconst (v := 0) dX8_charAt_25 rfl k_) ?_
    refine Zm.pick [0, 1] rfl ?_
    exact k
  · have k := zif h_ k
    refine Zm.l (fun _ _ k_ => z_iload dX8_charAt_20 rfl k_) ?_
    refine Zm.l (fun _ _ k_ => z_goto (tgt := 26) dX8_charAt_22 rfl k_) ?_
    refine Zm.pick [0, 1] rfl ?_
    exact k
theorem sX8_charAt_26 {E : zE} {d : Nat} {Q : zO → zM → Prop} (M : zM) (l1 : Int32) (s0 : Int32) (k : vp_in l1 400 ∧ (Zm E YX8_in d M (zargs 0 [vi s0, vi (0 : Int32), vi ((gi M 101 (l1).toNatClampNeg) - (1 : Int32))]) 0 [] (zma E YX8_charAt (d + 1) [(0, vr (some (97, 1, 0))), (1, vi l1), (4, vi s0)] 39 3 [] Q))) : Zm E YX8_charAt (d + 1) M [(0, vr (some (97, 1, 0))), (1, vi l1)] 26 [vi s0] Q := by
  refine Zm.l (fun _ _ k_ => z_ist dX8_charAt_26 (by decide) (lv' := [(0, vr (some (97, 1, 0))), (1, vi l1), (4, vi s0)]) rfl k_) ?_
  refine Zm.l (fun _ _ k_ => z_iload dX8_charAt_28 rfl k_) ?_
  refine Zm.l (fun _ _ k_ => z_iconst (v := 0) dX8_charAt_30 rfl k_) ?_
  refine Zm.l (fun _ _ k_ => z_aload_n dX8_charAt_31 rfl rfl k_) ?_
  refine zm_getr 3 dX8_charAt_32 fsX8_20_1 rfl ?_
  refine Zm.l (fun _ _ k_ => z_iload_n dX8_charAt_35 rfl rfl k_) ?_
  obtain ⟨b_, k⟩ := k
  refine zm_iald dX8_charAt_36 b_ (by decide) (by decide) ?_
  refine Zm.l (fun _ _ k_ => z_iconst (v := 1) dX8_charAt_37 rfl k_) ?_
  refine Zm.l (fun _ _ k_ => z_isub dX8_charAt_38 k_) ?_
  exact zm_callS (as := [vi s0, vi (0 : Int32), vi ((gi M 101 (l1).toNatClampNeg) - (1 : Int32))]) (st := []) dX8_charAt_39 ssX8_899 (Nat.le_refl _) (Nat.le_of_ble_eq_true rfl) (Nat.le_of_ble_eq_true rfl) rfl k
theorem sX8_charAt_42 {E : zE} {d : Nat} {Q : zO → zM → Prop} (M : zM) (l1 : Int32) (l4 : Int32) (s0 : Int32) (k : if s0 = 0 then (Zm E YX8_charAt (d + 1) M [(0, vr (some (97, 1, 0)))] 61 [] Q) else (vp_in (((60 : Int32) * l1) + l4) 24000 ∧ (Zm E YX8_put d M (zargs 0 [vr (some (97, 1, 0)), vi (gi M 100 ((((60 : Int32) * l1) + l4)).toNatClampNeg)]) 0 [] (zma E YX8_charAt (d + 1) [(0, vr (some (97, 1, 0)))] 58 3 [] Q)))) : Zm E YX8_charAt (d + 1) M [(0, vr (some (97, 1, 0))), (1, vi l1), (4, vi l4)] 42 [vi s0] Q := by
  refine Zm.br (fun _ _ k1_ k2_ => z_if_eq (tgt := 61) dX8_charAt_42 rfl k1_ k2_) (fun h_ => ?_) (fun h_ => ?_)
  · have k := zit h_ k
    refine Zm.pick [0] rfl ?_
    exact k
  · have k := zif h_ k
    refine Zm.l (fun _ _ k_ => z_aload_n dX8_charAt_45 rfl rfl k_) ?_
    refine Zm.l (fun _ _ k_ => z_aload_n dX8_charAt_46 rfl rfl k_) ?_
    refine zm_getr 2 dX8_charAt_47 fsX8_16_1 rfl ?_
    refine Zm.l (fun _ _ k_ => z_bipush (v := 60) dX8_charAt_50 rfl k_) ?_
    refine Zm.l (fun _ _ k_ => z_iload_n dX8_charAt_52 rfl rfl k_) ?_
    refine Zm.l (fun _ _ k_ => z_imul dX8_charAt_53 k_) ?_
    refine Zm.l (fun _ _ k_ => z_iload dX8_charAt_54 rfl k_) ?_
    refine Zm.l (fun _ _ k_ => z_iadd dX8_charAt_56 k_) ?_
    obtain ⟨b_, k⟩ := k
    refine zm_cald dX8_charAt_57 b_ (by decide) (by decide) ?_
    refine Zm.pick [0] rfl ?_
    exact zm_callV (as := [vi (gi M 100 ((((60 : Int32) * l1) + l4)).toNatClampNeg)]) (st := []) dX8_charAt_58 vsX8_324_1 (Nat.le_refl _) (Nat.le_of_ble_eq_true rfl) (Nat.le_of_ble_eq_true rfl) rfl k
theorem sX8_charAt_61 {E : zE} {d : Nat} {Q : zO → zM → Prop} (M : zM)  (k : Zm E YX8_made d M (zargs 0 [vr (some (97, 1, 0))]) 0 [] (zma E YX8_charAt (d + 1) [] 65 3 [vi (6 : Int32), vr (some (97, 1, 0))] Q)) : Zm E YX8_charAt (d + 1) M [(0, vr (some (97, 1, 0)))] 61 [] Q := by
  refine Zm.l (fun _ _ k_ => z_aload_n dX8_charAt_61 rfl rfl k_) ?_
  refine Zm.l (fun _ _ k_ => z_bipush (v := 6) dX8_charAt_62 rfl k_) ?_
  refine Zm.l (fun _ _ k_ => z_aload_n dX8_charAt_64 rfl rfl k_) ?_
  refine Zm.pick [] rfl ?_
  exact zm_callV (as := []) (st := [vi (6 : Int32), vr (some (97, 1, 0))]) dX8_charAt_65 vsX8_803_1 (Nat.le_refl _) (Nat.le_of_ble_eq_true rfl) (Nat.le_of_ble_eq_true rfl) rfl k
theorem sX8_charAt_68 {E : zE} {d : Nat} {Q : zO → zM → Prop} (M : zM) (s0 : Int32) (s1 : Int32) (k : Zm E YX8_give_2 d M (zargs 0 [vr (some (97, 1, 0)), vi s1, vi s0]) 0 [] (zma E YX8_charAt (d + 1) [] 68 3 [] Q)) : Zm E YX8_charAt (d + 1) M [] 68 [vi s0, vi s1, vr (some (97, 1, 0))] Q := by
  exact zm_callV (as := [vi s1, vi s0]) (st := []) dX8_charAt_68 vsX8_822_1 (Nat.le_refl _) (Nat.le_of_ble_eq_true rfl) (Nat.le_of_ble_eq_true rfl) rfl k
theorem sX8_charAt_71 {E : zE} {d : Nat} {Q : zO → zM → Prop} (M : zM)  (k : Q (.inl none) M) : Zm E YX8_charAt (d + 1) M [] 71 [] Q := by
  exact zm_vret dX8_charAt_71 rfl k
/-! ScriptTypesModel.enter(IIIII)V -/
theorem bX8_enter_0 : zdec cX8_enter 0 [(0, .aload_n 0, 1), (1, .getfield 146, 3), (4, .iload_n 1, 1), (5, .iaload, 1), (6, .istore 6, 2), (8, .aload_n 0, 1), (9, .iconst (-1), 1), (10, .bipush 29, 2), (12, .bipush 6, 2), (14, .iload 6, 2), (16, .iconst 1, 1), (17, .isub, 1), (18, .imul, 1), (19, .iadd, 1), (20, .iconst 3, 1), (21, .invokevirtual 858, 3)] = true := by decide +kernel
theorem dX8_enter_0 : decode cX8_enter 0 = .ok (.aload_n 0, 1) := zdec_at bX8_enter_0 0 rfl
theorem dX8_enter_1 : decode cX8_enter 1 = .ok (.getfield 146, 3) := zdec_at bX8_enter_0 1 rfl
theorem dX8_enter_4 : decode cX8_enter 4 = .ok (.iload_n 1, 1) := zdec_at bX8_enter_0 2 rfl
theorem dX8_enter_5 : decode cX8_enter 5 = .ok (.iaload, 1) := zdec_at bX8_enter_0 3 rfl
theorem dX8_enter_6 : decode cX8_enter 6 = .ok (.istore 6, 2) := zdec_at bX8_enter_0 4 rfl
theorem dX8_enter_8 : decode cX8_enter 8 = .ok (.aload_n 0, 1) := zdec_at bX8_enter_0 5 rfl
theorem dX8_enter_9 : decode cX8_enter 9 = .ok (.iconst (-1), 1) := zdec_at bX8_enter_0 6 rfl
theorem dX8_enter_10 : decode cX8_enter 10 = .ok (.bipush 29, 2) := zdec_at bX8_enter_0 7 rfl
theorem dX8_enter_12 : decode cX8_enter 12 = .ok (.bipush 6, 2) := zdec_at bX8_enter_0 8 rfl
theorem dX8_enter_14 : decode cX8_enter 14 = .ok (.iload 6, 2) := zdec_at bX8_enter_0 9 rfl
theorem dX8_enter_16 : decode cX8_enter 16 = .ok (.iconst 1, 1) := zdec_at bX8_enter_0 10 rfl
theorem dX8_enter_17 : decode cX8_enter 17 = .ok (.isub, 1) := zdec_at bX8_enter_0 11 rfl
theorem dX8_enter_18 : decode cX8_enter 18 = .ok (.imul, 1) := zdec_at bX8_enter_0 12 rfl
theorem dX8_enter_19 : decode cX8_enter 19 = .ok (.iadd, 1) := zdec_at bX8_enter_0 13 rfl
theorem dX8_enter_20 : decode cX8_enter 20 = .ok (.iconst 3, 1) := zdec_at bX8_enter_0 14 rfl
theorem dX8_enter_21 : decode cX8_enter 21 = .ok (.invokevirtual 858, 3) := zdec_at bX8_enter_0 15 rfl
theorem bX8_enter_24 : zdec cX8_enter 24 [(24, .istore 7, 2), (26, .aload_n 0, 1), (27, .getfield 794, 3), (30, .ifCond .eq 4, 3), (33, .return_, 1), (34, .aload_n 0, 1), (35, .getfield 140, 3), (38, .iload 7, 2), (40, .aload_n 0, 1), (41, .getfield 140, 3), (44, .iload_n 1, 1), (45, .iaload, 1), (46, .iastore, 1), (47, .iconst 0, 1), (48, .istore 8, 2), (50, .iload 8, 2)] = true := by decide +kernel
theorem dX8_enter_24 : decode cX8_enter 24 = .ok (.istore 7, 2) := zdec_at bX8_enter_24 0 rfl
theorem dX8_enter_26 : decode cX8_enter 26 = .ok (.aload_n 0, 1) := zdec_at bX8_enter_24 1 rfl
theorem dX8_enter_27 : decode cX8_enter 27 = .ok (.getfield 794, 3) := zdec_at bX8_enter_24 2 rfl
theorem dX8_enter_30 : decode cX8_enter 30 = .ok (.ifCond .eq 4, 3) := zdec_at bX8_enter_24 3 rfl
theorem dX8_enter_33 : decode cX8_enter 33 = .ok (.return_, 1) := zdec_at bX8_enter_24 4 rfl
theorem dX8_enter_34 : decode cX8_enter 34 = .ok (.aload_n 0, 1) := zdec_at bX8_enter_24 5 rfl
theorem dX8_enter_35 : decode cX8_enter 35 = .ok (.getfield 140, 3) := zdec_at bX8_enter_24 6 rfl
theorem dX8_enter_38 : decode cX8_enter 38 = .ok (.iload 7, 2) := zdec_at bX8_enter_24 7 rfl
theorem dX8_enter_40 : decode cX8_enter 40 = .ok (.aload_n 0, 1) := zdec_at bX8_enter_24 8 rfl
theorem dX8_enter_41 : decode cX8_enter 41 = .ok (.getfield 140, 3) := zdec_at bX8_enter_24 9 rfl
theorem dX8_enter_44 : decode cX8_enter 44 = .ok (.iload_n 1, 1) := zdec_at bX8_enter_24 10 rfl
theorem dX8_enter_45 : decode cX8_enter 45 = .ok (.iaload, 1) := zdec_at bX8_enter_24 11 rfl
theorem dX8_enter_46 : decode cX8_enter 46 = .ok (.iastore, 1) := zdec_at bX8_enter_24 12 rfl
theorem dX8_enter_47 : decode cX8_enter 47 = .ok (.iconst 0, 1) := zdec_at bX8_enter_24 13 rfl
theorem dX8_enter_48 : decode cX8_enter 48 = .ok (.istore 8, 2) := zdec_at bX8_enter_24 14 rfl
theorem dX8_enter_50 : decode cX8_enter 50 = .ok (.iload 8, 2) := zdec_at bX8_enter_24 15 rfl
theorem bX8_enter_52 : zdec cX8_enter 52 [(52, .aload_n 0, 1), (53, .getfield 110, 3), (56, .iload 6, 2), (58, .iaload, 1), (59, .if_icmp .ge 146, 3), (62, .aload_n 0, 1), (63, .getfield 107, 3), (66, .bipush 100, 2), (68, .iload 6, 2), (70, .imul, 1), (71, .iload 8, 2), (73, .iadd, 1), (74, .iaload, 1), (75, .istore 9, 2), (77, .iload 8, 2), (79, .aload_n 0, 1)] = true := by decide +kernel
theorem dX8_enter_52 : decode cX8_enter 52 = .ok (.aload_n 0, 1) := zdec_at bX8_enter_52 0 rfl
theorem dX8_enter_53 : decode cX8_enter 53 = .ok (.getfield 110, 3) := zdec_at bX8_enter_52 1 rfl
theorem dX8_enter_56 : decode cX8_enter 56 = .ok (.iload 6, 2) := zdec_at bX8_enter_52 2 rfl
theorem dX8_enter_58 : decode cX8_enter 58 = .ok (.iaload, 1) := zdec_at bX8_enter_52 3 rfl
theorem dX8_enter_59 : decode cX8_enter 59 = .ok (.if_icmp .ge 146, 3) := zdec_at bX8_enter_52 4 rfl
theorem dX8_enter_62 : decode cX8_enter 62 = .ok (.aload_n 0, 1) := zdec_at bX8_enter_52 5 rfl
theorem dX8_enter_63 : decode cX8_enter 63 = .ok (.getfield 107, 3) := zdec_at bX8_enter_52 6 rfl
theorem dX8_enter_66 : decode cX8_enter 66 = .ok (.bipush 100, 2) := zdec_at bX8_enter_52 7 rfl
theorem dX8_enter_68 : decode cX8_enter 68 = .ok (.iload 6, 2) := zdec_at bX8_enter_52 8 rfl
theorem dX8_enter_70 : decode cX8_enter 70 = .ok (.imul, 1) := zdec_at bX8_enter_52 9 rfl
theorem dX8_enter_71 : decode cX8_enter 71 = .ok (.iload 8, 2) := zdec_at bX8_enter_52 10 rfl
theorem dX8_enter_73 : decode cX8_enter 73 = .ok (.iadd, 1) := zdec_at bX8_enter_52 11 rfl
theorem dX8_enter_74 : decode cX8_enter 74 = .ok (.iaload, 1) := zdec_at bX8_enter_52 12 rfl
theorem dX8_enter_75 : decode cX8_enter 75 = .ok (.istore 9, 2) := zdec_at bX8_enter_52 13 rfl
theorem dX8_enter_77 : decode cX8_enter 77 = .ok (.iload 8, 2) := zdec_at bX8_enter_52 14 rfl
theorem dX8_enter_79 : decode cX8_enter 79 = .ok (.aload_n 0, 1) := zdec_at bX8_enter_52 15 rfl
theorem bX8_enter_80 : zdec cX8_enter 80 [(80, .getfield 71, 3), (83, .iload 6, 2), (85, .iaload, 1), (86, .if_icmp .ge 7, 3), (89, .iconst 1, 1), (90, .goto 4, 3), (93, .iconst 0, 1), (94, .istore 10, 2), (96, .iload 10, 2), (98, .ifCond .ne 29, 3), (101, .aload_n 0, 1), (102, .getfield 65, 3), (105, .iload 6, 2), (107, .baload, 1), (108, .ifCond .ne 19, 3), (111, .iload 9, 2)] = true := by decide +kernel
theorem dX8_enter_80 : decode cX8_enter 80 = .ok (.getfield 71, 3) := zdec_at bX8_enter_80 0 rfl
theorem dX8_enter_83 : decode cX8_enter 83 = .ok (.iload 6, 2) := zdec_at bX8_enter_80 1 rfl
theorem dX8_enter_85 : decode cX8_enter 85 = .ok (.iaload, 1) := zdec_at bX8_enter_80 2 rfl
theorem dX8_enter_86 : decode cX8_enter 86 = .ok (.if_icmp .ge 7, 3) := zdec_at bX8_enter_80 3 rfl
theorem dX8_enter_89 : decode cX8_enter 89 = .ok (.iconst 1, 1) := zdec_at bX8_enter_80 4 rfl
theorem dX8_enter_90 : decode cX8_enter 90 = .ok (.goto 4, 3) := zdec_at bX8_enter_80 5 rfl
theorem dX8_enter_93 : decode cX8_enter 93 = .ok (.iconst 0, 1) := zdec_at bX8_enter_80 6 rfl
theorem dX8_enter_94 : decode cX8_enter 94 = .ok (.istore 10, 2) := zdec_at bX8_enter_80 7 rfl
theorem dX8_enter_96 : decode cX8_enter 96 = .ok (.iload 10, 2) := zdec_at bX8_enter_80 8 rfl
theorem dX8_enter_98 : decode cX8_enter 98 = .ok (.ifCond .ne 29, 3) := zdec_at bX8_enter_80 9 rfl
theorem dX8_enter_101 : decode cX8_enter 101 = .ok (.aload_n 0, 1) := zdec_at bX8_enter_80 10 rfl
theorem dX8_enter_102 : decode cX8_enter 102 = .ok (.getfield 65, 3) := zdec_at bX8_enter_80 11 rfl
theorem dX8_enter_105 : decode cX8_enter 105 = .ok (.iload 6, 2) := zdec_at bX8_enter_80 12 rfl
theorem dX8_enter_107 : decode cX8_enter 107 = .ok (.baload, 1) := zdec_at bX8_enter_80 13 rfl
theorem dX8_enter_108 : decode cX8_enter 108 = .ok (.ifCond .ne 19, 3) := zdec_at bX8_enter_80 14 rfl
theorem dX8_enter_111 : decode cX8_enter 111 = .ok (.iload 9, 2) := zdec_at bX8_enter_80 15 rfl
theorem bX8_enter_113 : zdec cX8_enter 113 [(113, .aload_n 0, 1), (114, .getfield 62, 3), (117, .iload 6, 2), (119, .iaload, 1), (120, .if_icmp .ne 7, 3), (123, .iconst 1, 1), (124, .goto 4, 3), (127, .iconst 0, 1), (128, .istore 11, 2), (130, .iload 10, 2), (132, .ifCond .eq 12, 3), (135, .aload_n 0, 1), (136, .iload 8, 2), (138, .invokevirtual 1014, 3), (141, .goto 14, 3), (144, .iload 11, 2)] = true := by decide +kernel
theorem dX8_enter_113 : decode cX8_enter 113 = .ok (.aload_n 0, 1) := zdec_at bX8_enter_113 0 rfl
theorem dX8_enter_114 : decode cX8_enter 114 = .ok (.getfield 62, 3) := zdec_at bX8_enter_113 1 rfl
theorem dX8_enter_117 : decode cX8_enter 117 = .ok (.iload 6, 2) := zdec_at bX8_enter_113 2 rfl
theorem dX8_enter_119 : decode cX8_enter 119 = .ok (.iaload, 1) := zdec_at bX8_enter_113 3 rfl
theorem dX8_enter_120 : decode cX8_enter 120 = .ok (.if_icmp .ne 7, 3) := zdec_at bX8_enter_113 4 rfl
theorem dX8_enter_123 : decode cX8_enter 123 = .ok (.iconst 1, 1) := zdec_at bX8_enter_113 5 rfl
theorem dX8_enter_124 : decode cX8_enter 124 = .ok (.goto 4, 3) := zdec_at bX8_enter_113 6 rfl
theorem dX8_enter_127 : decode cX8_enter 127 = .ok (.iconst 0, 1) := zdec_at bX8_enter_113 7 rfl
theorem dX8_enter_128 : decode cX8_enter 128 = .ok (.istore 11, 2) := zdec_at bX8_enter_113 8 rfl
theorem dX8_enter_130 : decode cX8_enter 130 = .ok (.iload 10, 2) := zdec_at bX8_enter_113 9 rfl
theorem dX8_enter_132 : decode cX8_enter 132 = .ok (.ifCond .eq 12, 3) := zdec_at bX8_enter_113 10 rfl
theorem dX8_enter_135 : decode cX8_enter 135 = .ok (.aload_n 0, 1) := zdec_at bX8_enter_113 11 rfl
theorem dX8_enter_136 : decode cX8_enter 136 = .ok (.iload 8, 2) := zdec_at bX8_enter_113 12 rfl
theorem dX8_enter_138 : decode cX8_enter 138 = .ok (.invokevirtual 1014, 3) := zdec_at bX8_enter_113 13 rfl
theorem dX8_enter_141 : decode cX8_enter 141 = .ok (.goto 14, 3) := zdec_at bX8_enter_113 14 rfl
theorem dX8_enter_144 : decode cX8_enter 144 = .ok (.iload 11, 2) := zdec_at bX8_enter_113 15 rfl
theorem bX8_enter_146 : zdec cX8_enter 146 [(146, .ifCond .eq 8, 3), (149, .bipush 7, 2), (151, .goto 4, 3), (154, .iconst 0, 1), (155, .istore 12, 2), (157, .aload_n 0, 1), (158, .iload 7, 2), (160, .iload 9, 2), (162, .iload 12, 2), (164, .iload 10, 2), (166, .ifCond .eq 12, 3), (169, .aload_n 0, 1), (170, .iload 8, 2), (172, .invokevirtual 1017, 3), (175, .goto 13, 3), (178, .iload 11, 2)] = true := by decide +kernel
theorem dX8_enter_146 : decode cX8_enter 146 = .ok (.ifCond .eq 8, 3) := zdec_at bX8_enter_146 0 rfl
theorem dX8_enter_149 : decode cX8_enter 149 = .ok (.bipush 7, 2) := zdec_at bX8_enter_146 1 rfl
theorem dX8_enter_151 : decode cX8_enter 151 = .ok (.goto 4, 3) := zdec_at bX8_enter_146 2 rfl
theorem dX8_enter_154 : decode cX8_enter 154 = .ok (.iconst 0, 1) := zdec_at bX8_enter_146 3 rfl
theorem dX8_enter_155 : decode cX8_enter 155 = .ok (.istore 12, 2) := zdec_at bX8_enter_146 4 rfl
theorem dX8_enter_157 : decode cX8_enter 157 = .ok (.aload_n 0, 1) := zdec_at bX8_enter_146 5 rfl
theorem dX8_enter_158 : decode cX8_enter 158 = .ok (.iload 7, 2) := zdec_at bX8_enter_146 6 rfl
theorem dX8_enter_160 : decode cX8_enter 160 = .ok (.iload 9, 2) := zdec_at bX8_enter_146 7 rfl
theorem dX8_enter_162 : decode cX8_enter 162 = .ok (.iload 12, 2) := zdec_at bX8_enter_146 8 rfl
theorem dX8_enter_164 : decode cX8_enter 164 = .ok (.iload 10, 2) := zdec_at bX8_enter_146 9 rfl
theorem dX8_enter_166 : decode cX8_enter 166 = .ok (.ifCond .eq 12, 3) := zdec_at bX8_enter_146 10 rfl
theorem dX8_enter_169 : decode cX8_enter 169 = .ok (.aload_n 0, 1) := zdec_at bX8_enter_146 11 rfl
theorem dX8_enter_170 : decode cX8_enter 170 = .ok (.iload 8, 2) := zdec_at bX8_enter_146 12 rfl
theorem dX8_enter_172 : decode cX8_enter 172 = .ok (.invokevirtual 1017, 3) := zdec_at bX8_enter_146 13 rfl
theorem dX8_enter_175 : decode cX8_enter 175 = .ok (.goto 13, 3) := zdec_at bX8_enter_146 14 rfl
theorem dX8_enter_178 : decode cX8_enter 178 = .ok (.iload 11, 2) := zdec_at bX8_enter_146 15 rfl
theorem bX8_enter_180 : zdec cX8_enter 180 [(180, .ifCond .eq 7, 3), (183, .iload_n 1, 1), (184, .goto 4, 3), (187, .iconst 0, 1), (188, .invokevirtual 870, 3), (191, .aload_n 0, 1), (192, .getfield 794, 3), (195, .ifCond .eq 4, 3), (198, .return_, 1), (199, .iinc 8 1, 3), (202, .goto (-152), 3), (205, .aload_n 0, 1), (206, .iload 4, 2), (208, .invokevirtual 882, 3), (211, .aload_n 0, 1), (212, .invokevirtual 888, 3)] = true := by decide +kernel
theorem dX8_enter_180 : decode cX8_enter 180 = .ok (.ifCond .eq 7, 3) := zdec_at bX8_enter_180 0 rfl
theorem dX8_enter_183 : decode cX8_enter 183 = .ok (.iload_n 1, 1) := zdec_at bX8_enter_180 1 rfl
theorem dX8_enter_184 : decode cX8_enter 184 = .ok (.goto 4, 3) := zdec_at bX8_enter_180 2 rfl
theorem dX8_enter_187 : decode cX8_enter 187 = .ok (.iconst 0, 1) := zdec_at bX8_enter_180 3 rfl
theorem dX8_enter_188 : decode cX8_enter 188 = .ok (.invokevirtual 870, 3) := zdec_at bX8_enter_180 4 rfl
theorem dX8_enter_191 : decode cX8_enter 191 = .ok (.aload_n 0, 1) := zdec_at bX8_enter_180 5 rfl
theorem dX8_enter_192 : decode cX8_enter 192 = .ok (.getfield 794, 3) := zdec_at bX8_enter_180 6 rfl
theorem dX8_enter_195 : decode cX8_enter 195 = .ok (.ifCond .eq 4, 3) := zdec_at bX8_enter_180 7 rfl
theorem dX8_enter_198 : decode cX8_enter 198 = .ok (.return_, 1) := zdec_at bX8_enter_180 8 rfl
theorem dX8_enter_199 : decode cX8_enter 199 = .ok (.iinc 8 1, 3) := zdec_at bX8_enter_180 9 rfl
theorem dX8_enter_202 : decode cX8_enter 202 = .ok (.goto (-152), 3) := zdec_at bX8_enter_180 10 rfl
theorem dX8_enter_205 : decode cX8_enter 205 = .ok (.aload_n 0, 1) := zdec_at bX8_enter_180 11 rfl
theorem dX8_enter_206 : decode cX8_enter 206 = .ok (.iload 4, 2) := zdec_at bX8_enter_180 12 rfl
theorem dX8_enter_208 : decode cX8_enter 208 = .ok (.invokevirtual 882, 3) := zdec_at bX8_enter_180 13 rfl
theorem dX8_enter_211 : decode cX8_enter 211 = .ok (.aload_n 0, 1) := zdec_at bX8_enter_180 14 rfl
theorem dX8_enter_212 : decode cX8_enter 212 = .ok (.invokevirtual 888, 3) := zdec_at bX8_enter_180 15 rfl
theorem bX8_enter_215 : zdec cX8_enter 215 [(215, .aload_n 0, 1), (216, .iload 6, 2), (218, .iload 7, 2), (220, .iload_n 2, 1), (221, .iload_n 3, 1), (222, .iload 5, 2), (224, .invokevirtual 875, 3), (227, .return_, 1)] = true := by decide +kernel
theorem dX8_enter_215 : decode cX8_enter 215 = .ok (.aload_n 0, 1) := zdec_at bX8_enter_215 0 rfl
theorem dX8_enter_216 : decode cX8_enter 216 = .ok (.iload 6, 2) := zdec_at bX8_enter_215 1 rfl
theorem dX8_enter_218 : decode cX8_enter 218 = .ok (.iload 7, 2) := zdec_at bX8_enter_215 2 rfl
theorem dX8_enter_220 : decode cX8_enter 220 = .ok (.iload_n 2, 1) := zdec_at bX8_enter_215 3 rfl
theorem dX8_enter_221 : decode cX8_enter 221 = .ok (.iload_n 3, 1) := zdec_at bX8_enter_215 4 rfl
theorem dX8_enter_222 : decode cX8_enter 222 = .ok (.iload 5, 2) := zdec_at bX8_enter_215 5 rfl
theorem dX8_enter_224 : decode cX8_enter 224 = .ok (.invokevirtual 875, 3) := zdec_at bX8_enter_215 6 rfl
theorem dX8_enter_227 : decode cX8_enter 227 = .ok (.return_, 1) := zdec_at bX8_enter_215 7 rfl
theorem sX8_enter_0 {E : zE} {d : Nat} {Q : zO → zM → Prop} (M : zM) (l1 : Int32) (l2 : Int32) (l3 : Int32) (l4 : Int32) (l5 : Int32) (k : vp_in l1 300 ∧ (Zm E YX8_newObject d M (zargs 0 [vr (some (97, 1, 0)), vi (-1 : Int32), vi ((29 : Int32) + ((6 : Int32) * ((gi M 142 (l1).toNatClampNeg) - (1 : Int32)))), vi (3 : Int32)]) 0 [] (zma E YX8_enter (d + 1) [(0, vr (some (97, 1, 0))), (1, vi l1), (2, vi l2), (3, vi l3), (4, vi l4), (5, vi l5), (6, vi (gi M 142 (l1).toNatClampNeg))] 21 3 [] Q))) : Zm E YX8_enter (d + 1) M [(0, vr (some (97, 1, 0))), (1, vi l1), (2, vi l2), (3, vi l3), (4, vi l4), (5, vi l5)] 0 [] Q := by
  refine Zm.l (fun _ _ k_ => z_aload_n dX8_enter_0 rfl rfl k_) ?_
  refine zm_getr 39 dX8_enter_1 fsX8_146_1 rfl ?_
  refine Zm.l (fun _ _ k_ => z_iload_n dX8_enter_4 rfl rfl k_) ?_
  obtain ⟨b_, k⟩ := k
  refine zm_iald dX8_enter_5 b_ (by decide) (by decide) ?_
  refine Zm.l (fun _ _ k_ => z_ist dX8_enter_6 (by decide) (lv' := [(0, vr (some (97, 1, 0))), (1, vi l1), (2, vi l2), (3, vi l3), (4, vi l4), (5, vi l5), (6, vi (gi M 142 (l1).toNatClampNeg))]) rfl k_) ?_
  refine Zm.l (fun _ _ k_ => z_aload_n dX8_enter_8 rfl rfl k_) ?_
  refine Zm.l (fun _ _ k_ => z_iconst (v := -1) dX8_enter_9 rfl k_) ?_
  refine Zm.l (fun _ _ k_ => z_bipush (v := 29) dX8_enter_10 rfl k_) ?_
  refine Zm.l (fun _ _ k_ => z_bipush (v := 6) dX8_enter_12 rfl k_) ?_
  refine Zm.l (fun _ _ k_ => z_iload dX8_enter_14 rfl k_) ?_
  refine Zm.l (fun _ _ k_ => z_iconst (v := 1) dX8_enter_16 rfl k_) ?_
  refine Zm.l (fun _ _ k_ => z_isub dX8_enter_17 k_) ?_
  refine Zm.l (fun _ _ k_ => z_imul dX8_enter_18 k_) ?_
  refine Zm.l (fun _ _ k_ => z_iadd dX8_enter_19 k_) ?_
  refine Zm.l (fun _ _ k_ => z_iconst (v := 3) dX8_enter_20 rfl k_) ?_
  exact zm_callV (as := [vi (-1 : Int32), vi ((29 : Int32) + ((6 : Int32) * ((gi M 142 (l1).toNatClampNeg) - (1 : Int32)))), vi (3 : Int32)]) (st := []) dX8_enter_21 vsX8_858_1 (Nat.le_refl _) (Nat.le_of_ble_eq_true rfl) (Nat.le_of_ble_eq_true rfl) rfl k
theorem sX8_enter_24 {E : zE} {d : Nat} {Q : zO → zM → Prop} (M : zM) (l1 : Int32) (l2 : Int32) (l3 : Int32) (l4 : Int32) (l5 : Int32) (l6 : Int32) (s0 : Int32) (k : if (gi M 97 75) = 0 then (vp_in l1 300 ∧ (vp_in s0 300 ∧ (Zm E YX8_enter (d + 1) (si M 140 (s0).toNatClampNeg (gi M 140 (l1).toNatClampNeg)) [(0, vr (some (97, 1, 0))), (1, vi l1), (2, vi l2), (3, vi l3), (4, vi l4), (5, vi l5), (6, vi l6), (7, vi s0), (8, vi (0 : Int32))] 50 [] Q))) else (Q (.inl none) M)) : Zm E YX8_enter (d + 1) M [(0, vr (some (97, 1, 0))), (1, vi l1), (2, vi l2), (3, vi l3), (4, vi l4), (5, vi l5), (6, vi l6)] 24 [vi s0] Q := by
  refine Zm.l (fun _ _ k_ => z_ist dX8_enter_24 (by decide) (lv' := [(0, vr (some (97, 1, 0))), (1, vi l1), (2, vi l2), (3, vi l3), (4, vi l4), (5, vi l5), (6, vi l6), (7, vi s0)]) rfl k_) ?_
  refine Zm.l (fun _ _ k_ => z_aload_n dX8_enter_26 rfl rfl k_) ?_
  refine zm_geti dX8_enter_27 fsX8_794_1 (by decide) (by decide) ?_
  refine Zm.br (fun _ _ k1_ k2_ => z_if_eq (tgt := 34) dX8_enter_30 rfl k1_ k2_) (fun h_ => ?_) (fun h_ => ?_)
  · have k := zit h_ k
    refine Zm.l (fun _ _ k_ => z_aload_n dX8_enter_34 rfl rfl k_) ?_
    refine zm_getr 37 dX8_enter_35 fsX8_140_1 rfl ?_
    refine Zm.l (fun _ _ k_ => z_iload dX8_enter_38 rfl k_) ?_
    refine Zm.l (fun _ _ k_ => z_aload_n dX8_enter_40 rfl rfl k_) ?_
    refine zm_getr 37 dX8_enter_41 fsX8_140_1 rfl ?_
    refine Zm.l (fun _ _ k_ => z_iload_n dX8_enter_44 rfl rfl k_) ?_
    obtain ⟨b_, k⟩ := k
    refine zm_iald dX8_enter_45 b_ (by decide) (by decide) ?_
    obtain ⟨b_, k⟩ := k
    refine zm_iast dX8_enter_46 b_ (by decide) (by decide) ?_
    refine Zm.l (fun _ _ k_ => z_iconst (v := 0) dX8_enter_47 rfl k_) ?_
    refine Zm.l (fun _ _ k_ => z_ist dX8_enter_48 (by decide) (lv' := [(0, vr (some (97, 1, 0))), (1, vi l1), (2, vi l2), (3, vi l3), (4, vi l4), (5, vi l5), (6, vi l6), (7, vi s0), (8, vi (0 : Int32))]) rfl k_) ?_
    exact k
  · have k := zif h_ k
    exact zm_vret dX8_enter_33 rfl k
theorem sX8_enter_50 {E : zE} {d : Nat} {Q : zO → zM → Prop} (M : zM) (l1 : Int32) (l2 : Int32) (l3 : Int32) (l4 : Int32) (l5 : Int32) (l6 : Int32) (l7 : Int32) (l8 : Int32) (k : vp_in l6 12 ∧ (if (gi M 130 (l6).toNatClampNeg) ≤ l8 then (Zm E YX8_drop d M (zargs 0 [vr (some (97, 1, 0)), vi l4]) 0 [] (zma E YX8_enter (d + 1) [(0, vr (some (97, 1, 0))), (2, vi l2), (3, vi l3), (5, vi l5), (6, vi l6), (7, vi l7)] 208 3 [] Q)) else (vp_in (((100 : Int32) * l6) + l8) 1200 ∧ (vp_in l6 12 ∧ (if (gi M 117 (l6).toNatClampNeg) ≤ l8 then (Zm E YX8_enter (d + 1) M [(0, vr (some (97, 1, 0))), (1, vi l1), (2, vi l2), (3, vi l3), (4, vi l4), (5, vi l5), (6, vi l6), (7, vi l7), (8, vi l8), (9, vi (gi M 129 ((((100 : Int32) * l6) + l8)).toNatClampNeg))] 94 [vi (0 : Int32)] Q) else (Zm E YX8_enter (d + 1) M [(0, vr (some (97, 1, 0))), (1, vi l1), (2, vi l2), (3, vi l3), (4, vi l4), (5, vi l5), (6, vi l6), (7, vi l7), (8, vi l8), (9, vi (gi M 129 ((((100 : Int32) * l6) + l8)).toNatClampNeg))] 94 [vi (1 : Int32)] Q)))))) : Zm E YX8_enter (d + 1) M [(0, vr (some (97, 1, 0))), (1, vi l1), (2, vi l2), (3, vi l3), (4, vi l4), (5, vi l5), (6, vi l6), (7, vi l7), (8, vi l8)] 50 [] Q := by
  refine Zm.l (fun _ _ k_ => z_iload dX8_enter_50 rfl k_) ?_
  refine Zm.l (fun _ _ k_ => z_aload_n dX8_enter_52 rfl rfl k_) ?_
  refine zm_getr 32 dX8_enter_53 fsX8_110_1 rfl ?_
  refine Zm.l (fun _ _ k_ => z_iload dX8_enter_56 rfl k_) ?_
  obtain ⟨b_, k⟩ := k
  refine zm_iald dX8_enter_58 b_ (by decide) (by decide) ?_
  refine Zm.br (fun _ _ k1_ k2_ => z_icmp_ge (tgt := 205) dX8_enter_59 rfl k1_ k2_) (fun h_ => ?_) (fun h_ => ?_)
  · have k := zit h_ k
    refine Zm.l (fun _ _ k_ => z_aload_n dX8_enter_205 rfl rfl k_) ?_
    refine Zm.l (fun _ _ k_ => z_iload dX8_enter_206 rfl k_) ?_
    refine Zm.pick [0, 2, 3, 5, 6, 7] rfl ?_
    exact zm_callV (as := [vi l4]) (st := []) dX8_enter_208 vsX8_882_1 (Nat.le_refl _) (Nat.le_of_ble_eq_true rfl) (Nat.le_of_ble_eq_true rfl) rfl k
  · have k := zif h_ k
    refine Zm.l (fun _ _ k_ => z_aload_n dX8_enter_62 rfl rfl k_) ?_
    refine zm_getr 31 dX8_enter_63 fsX8_107_1 rfl ?_
    refine Zm.l (fun _ _ k_ => z_bipush (v := 100) dX8_enter_66 rfl k_) ?_
    refine Zm.l (fun _ _ k_ => z_iload dX8_enter_68 rfl k_) ?_
    refine Zm.l (fun _ _ k_ => z_imul dX8_enter_70 k_) ?_
    refine Zm.l (fun _ _ k_ => z_iload dX8_enter_71 rfl k_) ?_
    refine Zm.l (fun _ _ k_ => z_iadd dX8_enter_73 k_) ?_
    obtain ⟨b_, k⟩ := k
    refine zm_iald dX8_enter_74 b_ (by decide) (by decide) ?_
    refine Zm.l (fun _ _ k_ => z_ist dX8_enter_75 (by decide) (lv' := [(0, vr (some (97, 1, 0))), (1, vi l1), (2, vi l2), (3, vi l3), (4, vi l4), (5, vi l5), (6, vi l6), (7, vi l7), (8, vi l8), (9, vi (gi M 129 ((((100 : Int32) * l6) + l8)).toNatClampNeg))]) rfl k_) ?_
    refine Zm.l (fun _ _ k_ => z_iload dX8_enter_77 rfl k_) ?_
    refine Zm.l (fun _ _ k_ => z_aload_n dX8_enter_79 rfl rfl k_) ?_
    refine zm_getr 19 dX8_enter_80 fsX8_71_1 rfl ?_
    refine Zm.l (fun _ _ k_ => z_iload dX8_enter_83 rfl k_) ?_
    obtain ⟨b_, k⟩ := k
    refine zm_iald dX8_enter_85 b_ (by decide) (by decide) ?_
    refine Zm.br (fun _ _ k1_ k2_ => z_icmp_ge (tgt := 93) dX8_enter_86 rfl k1_ k2_) (fun h_ => ?_) (fun h_ => ?_)
    · have k := zit h_ k
      refine Zm.l (fun _ _ k_ => z_iconst (v := 0) dX8_enter_93 rfl k_) ?_
      exact k
    · have k := zif h_ k
      refine Zm.l (fun _ _ k_ => z_iconst (v := 1) dX8_enter_89 rfl k_) ?_
      refine Zm.l (fun _ _ k_ => z_goto (tgt := 94) dX8_enter_90 rfl k_) ?_
      exact k
theorem sX8_enter_94 {E : zE} {d : Nat} {Q : zO → zM → Prop} (M : zM) (l1 : Int32) (l2 : Int32) (l3 : Int32) (l4 : Int32) (l5 : Int32) (l6 : Int32) (l7 : Int32) (l8 : Int32) (l9 : Int32) (s0 : Int32) (k : if s0 = 0 then (vp_in l6 12 ∧ (if (gi M 115 (l6).toNatClampNeg) = 0 then (vp_in l6 12 ∧ (if l9 = (gi M 114 (l6).toNatClampNeg) then (Zm E YX8_enter (d + 1) M [(0, vr (some (97, 1, 0))), (1, vi l1), (2, vi l2), (3, vi l3), (4, vi l4), (5, vi l5), (6, vi l6), (7, vi l7), (8, vi l8), (9, vi l9), (10, vi s0)] 128 [vi (1 : Int32)] Q) else (Zm E YX8_enter (d + 1) M [(0, vr (some (97, 1, 0))), (1, vi l1), (2, vi l2), (3, vi l3), (4, vi l4), (5, vi l5), (6, vi l6), (7, vi l7), (8, vi l8), (9, vi l9), (10, vi s0)] 128 [vi (0 : Int32)] Q))) else (Zm E YX8_enter (d + 1) M [(0, vr (some (97, 1, 0))), (1, vi l1), (2, vi l2), (3, vi l3), (4, vi l4), (5, vi l5), (6, vi l6), (7, vi l7), (8, vi l8), (9, vi l9), (10, vi s0)] 128 [vi (0 : Int32)] Q))) else (Zm E YX8_enter (d + 1) M [(0, vr (some (97, 1, 0))), (1, vi l1), (2, vi l2), (3, vi l3), (4, vi l4), (5, vi l5), (6, vi l6), (7, vi l7), (8, vi l8), (9, vi l9), (10, vi s0)] 128 [vi (0 : Int32)] Q)) : Zm E YX8_enter (d + 1) M [(0, vr (some (97, 1, 0))), (1, vi l1), (2, vi l2), (3, vi l3), (4, vi l4), (5, vi l5), (6, vi l6), (7, vi l7), (8, vi l8), (9, vi l9)] 94 [vi s0] Q := by
  refine Zm.l (fun _ _ k_ => z_ist dX8_enter_94 (by decide) (lv' := [(0, vr (some (97, 1, 0))), (1, vi l1), (2, vi l2), (3, vi l3), (4, vi l4), (5, vi l5), (6, vi l6), (7, vi l7), (8, vi l8), (9, vi l9), (10, vi s0)]) rfl k_) ?_
  refine Zm.l (fun _ _ k_ => z_iload dX8_enter_96 rfl k_) ?_
  refine Zm.brn (fun _ _ k1_ k2_ => z_if_ne (tgt := 127) dX8_enter_98 rfl k1_ k2_) (fun h_ => ?_) (fun h_ => ?_)
  · have k := zif h_ k
    refine Zm.l (fun _ _ k_ => z_iconst (v := 0) dX8_enter_127 rfl k_) ?_
    exact k
  · have k := zit h_ k
    refine Zm.l (fun _ _ k_ => z_aload_n dX8_enter_101 rfl rfl k_) ?_
    refine zm_getr 17 dX8_enter_102 fsX8_65_1 rfl ?_
    refine Zm.l (fun _ _ k_ => z_iload dX8_enter_105 rfl k_) ?_
    obtain ⟨b_, k⟩ := k
    refine zm_zald dX8_enter_107 b_ (by decide) (by decide) ?_
    refine Zm.brn (fun _ _ k1_ k2_ => z_if_ne (tgt := 127) dX8_enter_108 rfl k1_ k2_) (fun h_ => ?_) (fun h_ => ?_)
    · have k := zif h_ k
      refine Zm.l (fun _ _ k_ => z_iconst (v := 0) dX8_enter_127 rfl k_) ?_
      exact k
    · have k := zit h_ k
      refine Zm.l (fun _ _ k_ => z_iload dX8_enter_111 rfl k_) ?_
      refine Zm.l (fun _ _ k_ => z_aload_n dX8_enter_113 rfl rfl k_) ?_
      refine zm_getr 16 dX8_enter_114 fsX8_62_1 rfl ?_
      refine Zm.l (fun _ _ k_ => z_iload dX8_enter_117 rfl k_) ?_
      obtain ⟨b_, k⟩ := k
      refine zm_iald dX8_enter_119 b_ (by decide) (by decide) ?_
      refine Zm.brn (fun _ _ k1_ k2_ => z_icmp_ne (tgt := 127) dX8_enter_120 rfl k1_ k2_) (fun h_ => ?_) (fun h_ => ?_)
      · have k := zif h_ k
        refine Zm.l (fun _ _ k_ => z_iconst (v := 0) dX8_enter_127 rfl k_) ?_
        exact k
      · have k := zit h_ k
        refine Zm.l (fun _ _ k_ => z_iconst (v := 1) dX8_enter_123 rfl k_) ?_
        refine Zm.l (fun _ _ k_ => z_goto (tgt := 128) dX8_enter_124 rfl k_) ?_
        exact k
theorem sX8_enter_128 {E : zE} {d : Nat} {Q : zO → zM → Prop} (M : zM) (l1 : Int32) (l2 : Int32) (l3 : Int32) (l4 : Int32) (l5 : Int32) (l6 : Int32) (l7 : Int32) (l8 : Int32) (l9 : Int32) (l10 : Int32) (s0 : Int32) (k : if l10 = 0 then (if s0 = 0 then (Zm E YX8_enter (d + 1) M [(0, vr (some (97, 1, 0))), (1, vi l1), (2, vi l2), (3, vi l3), (4, vi l4), (5, vi l5), (6, vi l6), (7, vi l7), (8, vi l8), (9, vi l9), (10, vi l10), (11, vi s0)] 155 [vi (0 : Int32)] Q) else (Zm E YX8_enter (d + 1) M [(0, vr (some (97, 1, 0))), (1, vi l1), (2, vi l2), (3, vi l3), (4, vi l4), (5, vi l5), (6, vi l6), (7, vi l7), (8, vi l8), (9, vi l9), (10, vi l10), (11, vi s0)] 155 [vi (7 : Int32)] Q)) else (Zm E YX8_argumentSort d M (zargs 0 [vr (some (97, 1, 0)), vi l8]) 0 [] (zma E YX8_enter (d + 1) [(0, vr (some (97, 1, 0))), (1, vi l1), (2, vi l2), (3, vi l3), (4, vi l4), (5, vi l5), (6, vi l6), (7, vi l7), (8, vi l8), (9, vi l9), (10, vi l10), (11, vi s0)] 138 3 [] Q))) : Zm E YX8_enter (d + 1) M [(0, vr (some (97, 1, 0))), (1, vi l1), (2, vi l2), (3, vi l3), (4, vi l4), (5, vi l5), (6, vi l6), (7, vi l7), (8, vi l8), (9, vi l9), (10, vi l10)] 128 [vi s0] Q := by
  refine Zm.l (fun _ _ k_ => z_ist dX8_enter_128 (by decide) (lv' := [(0, vr (some (97, 1, 0))), (1, vi l1), (2, vi l2), (3, vi l3), (4, vi l4), (5, vi l5), (6, vi l6), (7, vi l7), (8, vi l8), (9, vi l9), (10, vi l10), (11, vi s0)]) rfl k_) ?_
  refine Zm.l (fun _ _ k_ => z_iload dX8_enter_130 rfl k_) ?_
  refine Zm.br (fun _ _ k1_ k2_ => z_if_eq (tgt := 144) dX8_enter_132 rfl k1_ k2_) (fun h_ => ?_) (fun h_ => ?_)
  · have k := zit h_ k
    refine Zm.l (fun _ _ k_ => z_iload dX8_enter_144 rfl k_) ?_
    refine Zm.br (fun _ _ k1_ k2_ => z_if_eq (tgt := 154) dX8_enter_146 rfl k1_ k2_) (fun h_ => ?_) (fun h_ => ?_)
    · have k := zit h_ k
      refine Zm.l (fun _ _ k_ => z_iconst (v := 0) dX8_enter_154 rfl k_) ?_
      exact k
    · have k := zif h_ k
      refine Zm.l (fun _ _ k_ => z_bipush (v := 7) dX8_enter_149 rfl k_) ?_
      refine Zm.l (fun _ _ k_ => z_goto (tgt := 155) dX8_enter_151 rfl k_) ?_
      exact k
  · have k := zif h_ k
    refine Zm.l (fun _ _ k_ => z_aload_n dX8_enter_135 rfl rfl k_) ?_
    refine Zm.l (fun _ _ k_ => z_iload dX8_enter_136 rfl k_) ?_
    exact zm_callV (as := [vi l8]) (st := []) dX8_enter_138 vsX8_1014_1 (Nat.le_refl _) (Nat.le_of_ble_eq_true rfl) (Nat.le_of_ble_eq_true rfl) rfl k
theorem sX8_enter_141 {E : zE} {d : Nat} {Q : zO → zM → Prop} (M : zM) (l1 : Int32) (l2 : Int32) (l3 : Int32) (l4 : Int32) (l5 : Int32) (l6 : Int32) (l7 : Int32) (l8 : Int32) (l9 : Int32) (l10 : Int32) (l11 : Int32) (s0 : Int32) (k : Zm E YX8_enter (d + 1) M [(0, vr (some (97, 1, 0))), (1, vi l1), (2, vi l2), (3, vi l3), (4, vi l4), (5, vi l5), (6, vi l6), (7, vi l7), (8, vi l8), (9, vi l9), (10, vi l10), (11, vi l11)] 155 [vi s0] Q) : Zm E YX8_enter (d + 1) M [(0, vr (some (97, 1, 0))), (1, vi l1), (2, vi l2), (3, vi l3), (4, vi l4), (5, vi l5), (6, vi l6), (7, vi l7), (8, vi l8), (9, vi l9), (10, vi l10), (11, vi l11)] 141 [vi s0] Q := by
  refine Zm.l (fun _ _ k_ => z_goto (tgt := 155) dX8_enter_141 rfl k_) ?_
  exact k
theorem sX8_enter_155 {E : zE} {d : Nat} {Q : zO → zM → Prop} (M : zM) (l1 : Int32) (l2 : Int32) (l3 : Int32) (l4 : Int32) (l5 : Int32) (l6 : Int32) (l7 : Int32) (l8 : Int32) (l9 : Int32) (l10 : Int32) (l11 : Int32) (s0 : Int32) (k : if l10 = 0 then (if l11 = 0 then (Zm E YX8_set_2 d M (zargs 0 [vr (some (97, 1, 0)), vi l7, vi l9, vi s0, vi (0 : Int32)]) 0 [] (zma E YX8_enter (d + 1) [(0, vr (some (97, 1, 0))), (1, vi l1), (2, vi l2), (3, vi l3), (4, vi l4), (5, vi l5), (6, vi l6), (7, vi l7), (8, vi l8)] 188 3 [] Q)) else (Zm E YX8_set_2 d M (zargs 0 [vr (some (97, 1, 0)), vi l7, vi l9, vi s0, vi l1]) 0 [] (zma E YX8_enter (d + 1) [(0, vr (some (97, 1, 0))), (1, vi l1), (2, vi l2), (3, vi l3), (4, vi l4), (5, vi l5), (6, vi l6), (7, vi l7), (8, vi l8)] 188 3 [] Q))) else (Zm E YX8_argument d M (zargs 0 [vr (some (97, 1, 0)), vi l8]) 0 [] (zma E YX8_enter (d + 1) [(0, vr (some (97, 1, 0))), (1, vi l1), (2, vi l2), (3, vi l3), (4, vi l4), (5, vi l5), (6, vi l6), (7, vi l7), (8, vi l8)] 172 3 [vi s0, vi l9, vi l7, vr (some (97, 1, 0))] Q))) : Zm E YX8_enter (d + 1) M [(0, vr (some (97, 1, 0))), (1, vi l1), (2, vi l2), (3, vi l3), (4, vi l4), (5, vi l5), (6, vi l6), (7, vi l7), (8, vi l8), (9, vi l9), (10, vi l10), (11, vi l11)] 155 [vi s0] Q := by
  refine Zm.l (fun _ _ k_ => z_ist dX8_enter_155 (by decide) (lv' := [(0, vr (some (97, 1, 0))), (1, vi l1), (2, vi l2), (3, vi l3), (4, vi l4), (5, vi l5), (6, vi l6), (7, vi l7), (8, vi l8), (9, vi l9), (10, vi l10), (11, vi l11), (12, vi s0)]) rfl k_) ?_
  refine Zm.l (fun _ _ k_ => z_aload_n dX8_enter_157 rfl rfl k_) ?_
  refine Zm.l (fun _ _ k_ => z_iload dX8_enter_158 rfl k_) ?_
  refine Zm.l (fun _ _ k_ => z_iload dX8_enter_160 rfl k_) ?_
  refine Zm.l (fun _ _ k_ => z_iload dX8_enter_162 rfl k_) ?_
  refine Zm.l (fun _ _ k_ => z_iload dX8_enter_164 rfl k_) ?_
  refine Zm.br (fun _ _ k1_ k2_ => z_if_eq (tgt := 178) dX8_enter_166 rfl k1_ k2_) (fun h_ => ?_) (fun h_ => ?_)
  · have k := zit h_ k
    refine Zm.l (fun _ _ k_ => z_iload dX8_enter_178 rfl k_) ?_
    refine Zm.br (fun _ _ k1_ k2_ => z_if_eq (tgt := 187) dX8_enter_180 rfl k1_ k2_) (fun h_ => ?_) (fun h_ => ?_)
    · have k := zit h_ k
      refine Zm.l (fun _ _ k_ => z_iconst (v := 0) dX8_enter_187 rfl k_) ?_
      refine Zm.pick [0, 1, 2, 3, 4, 5, 6, 7, 8] rfl ?_
      exact zm_callV (as := [vi l7, vi l9, vi s0, vi (0 : Int32)]) (st := []) dX8_enter_188 vsX8_870_1 (Nat.le_refl _) (Nat.le_of_ble_eq_true rfl) (Nat.le_of_ble_eq_true rfl) rfl k
    · have k := zif h_ k
      refine Zm.l (fun _ _ k_ => z_iload_n dX8_enter_183 rfl rfl k_) ?_
      refine Zm.l (fun _ _ k_ => z_goto (tgt := 188) dX8_enter_184 rfl k_) ?_
      refine Zm.pick [0, 1, 2, 3, 4, 5, 6, 7, 8] rfl ?_
      exact zm_callV (as := [vi l7, vi l9, vi s0, vi l1]) (st := []) dX8_enter_188 vsX8_870_1 (Nat.le_refl _) (Nat.le_of_ble_eq_true rfl) (Nat.le_of_ble_eq_true rfl) rfl k
  · have k := zif h_ k
    refine Zm.l (fun _ _ k_ => z_aload_n dX8_enter_169 rfl rfl k_) ?_
    refine Zm.l (fun _ _ k_ => z_iload dX8_enter_170 rfl k_) ?_
    refine Zm.pick [0, 1, 2, 3, 4, 5, 6, 7, 8] rfl ?_
    exact zm_callV (as := [vi l8]) (st := [vi s0, vi l9, vi l7, vr (some (97, 1, 0))]) dX8_enter_172 vsX8_1017_1 (Nat.le_refl _) (Nat.le_of_ble_eq_true rfl) (Nat.le_of_ble_eq_true rfl) rfl k
theorem sX8_enter_175 {E : zE} {d : Nat} {Q : zO → zM → Prop} (M : zM) (l1 : Int32) (l2 : Int32) (l3 : Int32) (l4 : Int32) (l5 : Int32) (l6 : Int32) (l7 : Int32) (l8 : Int32) (s0 : Int32) (s1 : Int32) (s2 : Int32) (s3 : Int32) (k : Zm E YX8_set_2 d M (zargs 0 [vr (some (97, 1, 0)), vi s3, vi s2, vi s1, vi s0]) 0 [] (zma E YX8_enter (d + 1) [(0, vr (some (97, 1, 0))), (1, vi l1), (2, vi l2), (3, vi l3), (4, vi l4), (5, vi l5), (6, vi l6), (7, vi l7), (8, vi l8)] 188 3 [] Q)) : Zm E YX8_enter (d + 1) M [(0, vr (some (97, 1, 0))), (1, vi l1), (2, vi l2), (3, vi l3), (4, vi l4), (5, vi l5), (6, vi l6), (7, vi l7), (8, vi l8)] 175 [vi s0, vi s1, vi s2, vi s3, vr (some (97, 1, 0))] Q := by
  refine Zm.l (fun _ _ k_ => z_goto (tgt := 188) dX8_enter_175 rfl k_) ?_
  exact zm_callV (as := [vi s3, vi s2, vi s1, vi s0]) (st := []) dX8_enter_188 vsX8_870_1 (Nat.le_refl _) (Nat.le_of_ble_eq_true rfl) (Nat.le_of_ble_eq_true rfl) rfl k
theorem sX8_enter_191 {E : zE} {d : Nat} {Q : zO → zM → Prop} (M : zM) (l1 : Int32) (l2 : Int32) (l3 : Int32) (l4 : Int32) (l5 : Int32) (l6 : Int32) (l7 : Int32) (l8 : Int32) (k : if (gi M 97 75) = 0 then (Zm E YX8_enter (d + 1) M [(0, vr (some (97, 1, 0))), (1, vi l1), (2, vi l2), (3, vi l3), (4, vi l4), (5, vi l5), (6, vi l6), (7, vi l7), (8, vi (l8 + (1 : Int32)))] 50 [] Q) else (Q (.inl none) M)) : Zm E YX8_enter (d + 1) M [(0, vr (some (97, 1, 0))), (1, vi l1), (2, vi l2), (3, vi l3), (4, vi l4), (5, vi l5), (6, vi l6), (7, vi l7), (8, vi l8)] 191 [] Q := by
  refine Zm.l (fun _ _ k_ => z_aload_n dX8_enter_191 rfl rfl k_) ?_
  refine zm_geti dX8_enter_192 fsX8_794_1 (by decide) (by decide) ?_
  refine Zm.br (fun _ _ k1_ k2_ => z_if_eq (tgt := 199) dX8_enter_195 rfl k1_ k2_) (fun h_ => ?_) (fun h_ => ?_)
  · have k := zit h_ k
    refine Zm.l (fun _ _ k_ => z_inc (v := (l8 + (1 : Int32))) dX8_enter_199 rfl rfl (by decide) (lv' := [(0, vr (some (97, 1, 0))), (1, vi l1), (2, vi l2), (3, vi l3), (4, vi l4), (5, vi l5), (6, vi l6), (7, vi l7), (8, vi (l8 + (1 : Int32)))]) rfl k_) ?_
    refine Zm.l (fun _ _ k_ => z_goto (tgt := 50) dX8_enter_202 rfl k_) ?_
    exact k
  · have k := zif h_ k
    exact zm_vret dX8_enter_198 rfl k
theorem sX8_enter_211 {E : zE} {d : Nat} {Q : zO → zM → Prop} (M : zM) (l2 : Int32) (l3 : Int32) (l5 : Int32) (l6 : Int32) (l7 : Int32) (k : Zm E YX8_goOn d M (zargs 0 [vr (some (97, 1, 0))]) 0 [] (zma E YX8_enter (d + 1) [(0, vr (some (97, 1, 0))), (2, vi l2), (3, vi l3), (5, vi l5), (6, vi l6), (7, vi l7)] 212 3 [] Q)) : Zm E YX8_enter (d + 1) M [(0, vr (some (97, 1, 0))), (2, vi l2), (3, vi l3), (5, vi l5), (6, vi l6), (7, vi l7)] 211 [] Q := by
  refine Zm.l (fun _ _ k_ => z_aload_n dX8_enter_211 rfl rfl k_) ?_
  exact zm_callV (as := []) (st := []) dX8_enter_212 vsX8_888_1 (Nat.le_refl _) (Nat.le_of_ble_eq_true rfl) (Nat.le_of_ble_eq_true rfl) rfl k
theorem sX8_enter_215 {E : zE} {d : Nat} {Q : zO → zM → Prop} (M : zM) (l2 : Int32) (l3 : Int32) (l5 : Int32) (l6 : Int32) (l7 : Int32) (k : Zm E YX8_enterFrame d M (zargs 0 [vr (some (97, 1, 0)), vi l6, vi l7, vi l2, vi l3, vi l5]) 0 [] (zma E YX8_enter (d + 1) [] 224 3 [] Q)) : Zm E YX8_enter (d + 1) M [(0, vr (some (97, 1, 0))), (2, vi l2), (3, vi l3), (5, vi l5), (6, vi l6), (7, vi l7)] 215 [] Q := by
  refine Zm.l (fun _ _ k_ => z_aload_n dX8_enter_215 rfl rfl k_) ?_
  refine Zm.l (fun _ _ k_ => z_iload dX8_enter_216 rfl k_) ?_
  refine Zm.l (fun _ _ k_ => z_iload dX8_enter_218 rfl k_) ?_
  refine Zm.l (fun _ _ k_ => z_iload_n dX8_enter_220 rfl rfl k_) ?_
  refine Zm.l (fun _ _ k_ => z_iload_n dX8_enter_221 rfl rfl k_) ?_
  refine Zm.l (fun _ _ k_ => z_iload dX8_enter_222 rfl k_) ?_
  refine Zm.pick [] rfl ?_
  exact zm_callV (as := [vi l6, vi l7, vi l2, vi l3, vi l5]) (st := []) dX8_enter_224 vsX8_875_1 (Nat.le_refl _) (Nat.le_of_ble_eq_true rfl) (Nat.le_of_ble_eq_true rfl) rfl k
theorem sX8_enter_227 {E : zE} {d : Nat} {Q : zO → zM → Prop} (M : zM)  (k : Q (.inl none) M) : Zm E YX8_enter (d + 1) M [] 227 [] Q := by
  exact zm_vret dX8_enter_227 rfl k
/-! ScriptTypesModel.makeNew(II)V -/
theorem bX8_makeNew_0 : zdec cX8_makeNew 0 [(0, .aload_n 0, 1), (1, .invokevirtual 879, 3), (4, .iload_n 1, 1), (5, .isub, 1), (6, .iconst 1, 1), (7, .isub, 1), (8, .istore_n 3, 1), (9, .aload_n 0, 1), (10, .getfield 200, 3), (13, .iload_n 3, 1), (14, .iaload, 1), (15, .istore 4, 2), (17, .aload_n 0, 1), (18, .getfield 203, 3), (21, .iload_n 3, 1), (22, .iaload, 1)] = true := by decide +kernel
theorem dX8_makeNew_0 : decode cX8_makeNew 0 = .ok (.aload_n 0, 1) := zdec_at bX8_makeNew_0 0 rfl
theorem dX8_makeNew_1 : decode cX8_makeNew 1 = .ok (.invokevirtual 879, 3) := zdec_at bX8_makeNew_0 1 rfl
theorem dX8_makeNew_4 : decode cX8_makeNew 4 = .ok (.iload_n 1, 1) := zdec_at bX8_makeNew_0 2 rfl
theorem dX8_makeNew_5 : decode cX8_makeNew 5 = .ok (.isub, 1) := zdec_at bX8_makeNew_0 3 rfl
theorem dX8_makeNew_6 : decode cX8_makeNew 6 = .ok (.iconst 1, 1) := zdec_at bX8_makeNew_0 4 rfl
theorem dX8_makeNew_7 : decode cX8_makeNew 7 = .ok (.isub, 1) := zdec_at bX8_makeNew_0 5 rfl
theorem dX8_makeNew_8 : decode cX8_makeNew 8 = .ok (.istore_n 3, 1) := zdec_at bX8_makeNew_0 6 rfl
theorem dX8_makeNew_9 : decode cX8_makeNew 9 = .ok (.aload_n 0, 1) := zdec_at bX8_makeNew_0 7 rfl
theorem dX8_makeNew_10 : decode cX8_makeNew 10 = .ok (.getfield 200, 3) := zdec_at bX8_makeNew_0 8 rfl
theorem dX8_makeNew_13 : decode cX8_makeNew 13 = .ok (.iload_n 3, 1) := zdec_at bX8_makeNew_0 9 rfl
theorem dX8_makeNew_14 : decode cX8_makeNew 14 = .ok (.iaload, 1) := zdec_at bX8_makeNew_0 10 rfl
theorem dX8_makeNew_15 : decode cX8_makeNew 15 = .ok (.istore 4, 2) := zdec_at bX8_makeNew_0 11 rfl
theorem dX8_makeNew_17 : decode cX8_makeNew 17 = .ok (.aload_n 0, 1) := zdec_at bX8_makeNew_0 12 rfl
theorem dX8_makeNew_18 : decode cX8_makeNew 18 = .ok (.getfield 203, 3) := zdec_at bX8_makeNew_0 13 rfl
theorem dX8_makeNew_21 : decode cX8_makeNew 21 = .ok (.iload_n 3, 1) := zdec_at bX8_makeNew_0 14 rfl
theorem dX8_makeNew_22 : decode cX8_makeNew 22 = .ok (.iaload, 1) := zdec_at bX8_makeNew_0 15 rfl
theorem bX8_makeNew_23 : zdec cX8_makeNew 23 [(23, .istore 5, 2), (25, .aload_n 0, 1), (26, .iload_n 3, 1), (27, .iconst 1, 1), (28, .iadd, 1), (29, .putfield 998, 3), (32, .aload_n 0, 1), (33, .iload_n 1, 1), (34, .putfield 995, 3), (37, .aload_n 0, 1), (38, .iload 4, 2), (40, .iload 5, 2), (42, .invokevirtual 992, 3), (45, .ifCond .eq 38, 3), (48, .aload_n 0, 1), (49, .getfield 146, 3)] = true := by decide +kernel
theorem dX8_makeNew_23 : decode cX8_makeNew 23 = .ok (.istore 5, 2) := zdec_at bX8_makeNew_23 0 rfl
theorem dX8_makeNew_25 : decode cX8_makeNew 25 = .ok (.aload_n 0, 1) := zdec_at bX8_makeNew_23 1 rfl
theorem dX8_makeNew_26 : decode cX8_makeNew 26 = .ok (.iload_n 3, 1) := zdec_at bX8_makeNew_23 2 rfl
theorem dX8_makeNew_27 : decode cX8_makeNew 27 = .ok (.iconst 1, 1) := zdec_at bX8_makeNew_23 3 rfl
theorem dX8_makeNew_28 : decode cX8_makeNew 28 = .ok (.iadd, 1) := zdec_at bX8_makeNew_23 4 rfl
theorem dX8_makeNew_29 : decode cX8_makeNew 29 = .ok (.putfield 998, 3) := zdec_at bX8_makeNew_23 5 rfl
theorem dX8_makeNew_32 : decode cX8_makeNew 32 = .ok (.aload_n 0, 1) := zdec_at bX8_makeNew_23 6 rfl
theorem dX8_makeNew_33 : decode cX8_makeNew 33 = .ok (.iload_n 1, 1) := zdec_at bX8_makeNew_23 7 rfl
theorem dX8_makeNew_34 : decode cX8_makeNew 34 = .ok (.putfield 995, 3) := zdec_at bX8_makeNew_23 8 rfl
theorem dX8_makeNew_37 : decode cX8_makeNew 37 = .ok (.aload_n 0, 1) := zdec_at bX8_makeNew_23 9 rfl
theorem dX8_makeNew_38 : decode cX8_makeNew 38 = .ok (.iload 4, 2) := zdec_at bX8_makeNew_23 10 rfl
theorem dX8_makeNew_40 : decode cX8_makeNew 40 = .ok (.iload 5, 2) := zdec_at bX8_makeNew_23 11 rfl
theorem dX8_makeNew_42 : decode cX8_makeNew 42 = .ok (.invokevirtual 992, 3) := zdec_at bX8_makeNew_23 12 rfl
theorem dX8_makeNew_45 : decode cX8_makeNew 45 = .ok (.ifCond .eq 38, 3) := zdec_at bX8_makeNew_23 13 rfl
theorem dX8_makeNew_48 : decode cX8_makeNew 48 = .ok (.aload_n 0, 1) := zdec_at bX8_makeNew_23 14 rfl
theorem dX8_makeNew_49 : decode cX8_makeNew 49 = .ok (.getfield 146, 3) := zdec_at bX8_makeNew_23 15 rfl
theorem bX8_makeNew_52 : zdec cX8_makeNew 52 [(52, .iload 5, 2), (54, .iaload, 1), (55, .ifCond .gt 24, 3), (58, .iload 5, 2), (60, .bipush 10, 2), (62, .if_icmp .lt 21, 3), (65, .iload 5, 2), (67, .bipush 17, 2), (69, .if_icmp .gt 14, 3), (72, .iload 5, 2), (74, .bipush 13, 2), (76, .if_icmp .eq 7, 3), (79, .iconst 1, 1), (80, .goto 4, 3), (83, .iconst 0, 1), (84, .istore 6, 2)] = true := by decide +kernel
theorem dX8_makeNew_52 : decode cX8_makeNew 52 = .ok (.iload 5, 2) := zdec_at bX8_makeNew_52 0 rfl
theorem dX8_makeNew_54 : decode cX8_makeNew 54 = .ok (.iaload, 1) := zdec_at bX8_makeNew_52 1 rfl
theorem dX8_makeNew_55 : decode cX8_makeNew 55 = .ok (.ifCond .gt 24, 3) := zdec_at bX8_makeNew_52 2 rfl
theorem dX8_makeNew_58 : decode cX8_makeNew 58 = .ok (.iload 5, 2) := zdec_at bX8_makeNew_52 3 rfl
theorem dX8_makeNew_60 : decode cX8_makeNew 60 = .ok (.bipush 10, 2) := zdec_at bX8_makeNew_52 4 rfl
theorem dX8_makeNew_62 : decode cX8_makeNew 62 = .ok (.if_icmp .lt 21, 3) := zdec_at bX8_makeNew_52 5 rfl
theorem dX8_makeNew_65 : decode cX8_makeNew 65 = .ok (.iload 5, 2) := zdec_at bX8_makeNew_52 6 rfl
theorem dX8_makeNew_67 : decode cX8_makeNew 67 = .ok (.bipush 17, 2) := zdec_at bX8_makeNew_52 7 rfl
theorem dX8_makeNew_69 : decode cX8_makeNew 69 = .ok (.if_icmp .gt 14, 3) := zdec_at bX8_makeNew_52 8 rfl
theorem dX8_makeNew_72 : decode cX8_makeNew 72 = .ok (.iload 5, 2) := zdec_at bX8_makeNew_52 9 rfl
theorem dX8_makeNew_74 : decode cX8_makeNew 74 = .ok (.bipush 13, 2) := zdec_at bX8_makeNew_52 10 rfl
theorem dX8_makeNew_76 : decode cX8_makeNew 76 = .ok (.if_icmp .eq 7, 3) := zdec_at bX8_makeNew_52 11 rfl
theorem dX8_makeNew_79 : decode cX8_makeNew 79 = .ok (.iconst 1, 1) := zdec_at bX8_makeNew_52 12 rfl
theorem dX8_makeNew_80 : decode cX8_makeNew 80 = .ok (.goto 4, 3) := zdec_at bX8_makeNew_52 13 rfl
theorem dX8_makeNew_83 : decode cX8_makeNew 83 = .ok (.iconst 0, 1) := zdec_at bX8_makeNew_52 14 rfl
theorem dX8_makeNew_84 : decode cX8_makeNew 84 = .ok (.istore 6, 2) := zdec_at bX8_makeNew_52 15 rfl
theorem bX8_makeNew_86 : zdec cX8_makeNew 86 [(86, .iload 6, 2), (88, .ifCond .ne 10, 3), (91, .aload_n 0, 1), (92, .bipush 6, 2), (94, .invokevirtual 966, 3), (97, .return_, 1), (98, .aload_n 0, 1), (99, .getfield 146, 3), (102, .iload 5, 2), (104, .iaload, 1), (105, .ifCond .ne 15, 3), (108, .aload_n 0, 1), (109, .iload 5, 2), (111, .iconst 0, 1), (112, .iconst 0, 1), (113, .iload_n 1, 1)] = true := by decide +kernel
theorem dX8_makeNew_86 : decode cX8_makeNew 86 = .ok (.iload 6, 2) := zdec_at bX8_makeNew_86 0 rfl
theorem dX8_makeNew_88 : decode cX8_makeNew 88 = .ok (.ifCond .ne 10, 3) := zdec_at bX8_makeNew_86 1 rfl
theorem dX8_makeNew_91 : decode cX8_makeNew 91 = .ok (.aload_n 0, 1) := zdec_at bX8_makeNew_86 2 rfl
theorem dX8_makeNew_92 : decode cX8_makeNew 92 = .ok (.bipush 6, 2) := zdec_at bX8_makeNew_86 3 rfl
theorem dX8_makeNew_94 : decode cX8_makeNew 94 = .ok (.invokevirtual 966, 3) := zdec_at bX8_makeNew_86 4 rfl
theorem dX8_makeNew_97 : decode cX8_makeNew 97 = .ok (.return_, 1) := zdec_at bX8_makeNew_86 5 rfl
theorem dX8_makeNew_98 : decode cX8_makeNew 98 = .ok (.aload_n 0, 1) := zdec_at bX8_makeNew_86 6 rfl
theorem dX8_makeNew_99 : decode cX8_makeNew 99 = .ok (.getfield 146, 3) := zdec_at bX8_makeNew_86 7 rfl
theorem dX8_makeNew_102 : decode cX8_makeNew 102 = .ok (.iload 5, 2) := zdec_at bX8_makeNew_86 8 rfl
theorem dX8_makeNew_104 : decode cX8_makeNew 104 = .ok (.iaload, 1) := zdec_at bX8_makeNew_86 9 rfl
theorem dX8_makeNew_105 : decode cX8_makeNew 105 = .ok (.ifCond .ne 15, 3) := zdec_at bX8_makeNew_86 10 rfl
theorem dX8_makeNew_108 : decode cX8_makeNew 108 = .ok (.aload_n 0, 1) := zdec_at bX8_makeNew_86 11 rfl
theorem dX8_makeNew_109 : decode cX8_makeNew 109 = .ok (.iload 5, 2) := zdec_at bX8_makeNew_86 12 rfl
theorem dX8_makeNew_111 : decode cX8_makeNew 111 = .ok (.iconst 0, 1) := zdec_at bX8_makeNew_86 13 rfl
theorem dX8_makeNew_112 : decode cX8_makeNew 112 = .ok (.iconst 0, 1) := zdec_at bX8_makeNew_86 14 rfl
theorem dX8_makeNew_113 : decode cX8_makeNew 113 = .ok (.iload_n 1, 1) := zdec_at bX8_makeNew_86 15 rfl
theorem bX8_makeNew_114 : zdec cX8_makeNew 114 [(114, .iconst 1, 1), (115, .iadd, 1), (116, .invokevirtual 1008, 3), (119, .return_, 1), (120, .aload_n 0, 1), (121, .iload 5, 2), (123, .iconst 1, 1), (124, .invokevirtual 972, 3), (127, .istore 7, 2), (129, .aload_n 0, 1), (130, .aload_n 0, 1), (131, .getfield 788, 3), (134, .bipush 7, 2), (136, .if_icmp .ne 10, 3), (139, .aload_n 0, 1), (140, .getfield 791, 3)] = true := by decide +kernel
theorem dX8_makeNew_114 : decode cX8_makeNew 114 = .ok (.iconst 1, 1) := zdec_at bX8_makeNew_114 0 rfl
theorem dX8_makeNew_115 : decode cX8_makeNew 115 = .ok (.iadd, 1) := zdec_at bX8_makeNew_114 1 rfl
theorem dX8_makeNew_116 : decode cX8_makeNew 116 = .ok (.invokevirtual 1008, 3) := zdec_at bX8_makeNew_114 2 rfl
theorem dX8_makeNew_119 : decode cX8_makeNew 119 = .ok (.return_, 1) := zdec_at bX8_makeNew_114 3 rfl
theorem dX8_makeNew_120 : decode cX8_makeNew 120 = .ok (.aload_n 0, 1) := zdec_at bX8_makeNew_114 4 rfl
theorem dX8_makeNew_121 : decode cX8_makeNew 121 = .ok (.iload 5, 2) := zdec_at bX8_makeNew_114 5 rfl
theorem dX8_makeNew_123 : decode cX8_makeNew 123 = .ok (.iconst 1, 1) := zdec_at bX8_makeNew_114 6 rfl
theorem dX8_makeNew_124 : decode cX8_makeNew 124 = .ok (.invokevirtual 972, 3) := zdec_at bX8_makeNew_114 7 rfl
theorem dX8_makeNew_127 : decode cX8_makeNew 127 = .ok (.istore 7, 2) := zdec_at bX8_makeNew_114 8 rfl
theorem dX8_makeNew_129 : decode cX8_makeNew 129 = .ok (.aload_n 0, 1) := zdec_at bX8_makeNew_114 9 rfl
theorem dX8_makeNew_130 : decode cX8_makeNew 130 = .ok (.aload_n 0, 1) := zdec_at bX8_makeNew_114 10 rfl
theorem dX8_makeNew_131 : decode cX8_makeNew 131 = .ok (.getfield 788, 3) := zdec_at bX8_makeNew_114 11 rfl
theorem dX8_makeNew_134 : decode cX8_makeNew 134 = .ok (.bipush 7, 2) := zdec_at bX8_makeNew_114 12 rfl
theorem dX8_makeNew_136 : decode cX8_makeNew 136 = .ok (.if_icmp .ne 10, 3) := zdec_at bX8_makeNew_114 13 rfl
theorem dX8_makeNew_139 : decode cX8_makeNew 139 = .ok (.aload_n 0, 1) := zdec_at bX8_makeNew_114 14 rfl
theorem dX8_makeNew_140 : decode cX8_makeNew 140 = .ok (.getfield 791, 3) := zdec_at bX8_makeNew_114 15 rfl
theorem bX8_makeNew_143 : zdec cX8_makeNew 143 [(143, .goto 4, 3), (146, .iconst 1, 1), (147, .aload_n 0, 1), (148, .iload_n 2, 1), (149, .invokevirtual 920, 3), (152, .iconst 0, 1), (153, .invokevirtual 858, 3), (156, .istore 8, 2), (158, .aload_n 0, 1), (159, .getfield 794, 3), (162, .ifCond .ne 20, 3), (165, .aload_n 0, 1), (166, .bipush 7, 2), (168, .iload 5, 2), (170, .bipush 7, 2), (172, .iload 8, 2)] = true := by decide +kernel
theorem dX8_makeNew_143 : decode cX8_makeNew 143 = .ok (.goto 4, 3) := zdec_at bX8_makeNew_143 0 rfl
theorem dX8_makeNew_146 : decode cX8_makeNew 146 = .ok (.iconst 1, 1) := zdec_at bX8_makeNew_143 1 rfl
theorem dX8_makeNew_147 : decode cX8_makeNew 147 = .ok (.aload_n 0, 1) := zdec_at bX8_makeNew_143 2 rfl
theorem dX8_makeNew_148 : decode cX8_makeNew 148 = .ok (.iload_n 2, 1) := zdec_at bX8_makeNew_143 3 rfl
theorem dX8_makeNew_149 : decode cX8_makeNew 149 = .ok (.invokevirtual 920, 3) := zdec_at bX8_makeNew_143 4 rfl
theorem dX8_makeNew_152 : decode cX8_makeNew 152 = .ok (.iconst 0, 1) := zdec_at bX8_makeNew_143 5 rfl
theorem dX8_makeNew_153 : decode cX8_makeNew 153 = .ok (.invokevirtual 858, 3) := zdec_at bX8_makeNew_143 6 rfl
theorem dX8_makeNew_156 : decode cX8_makeNew 156 = .ok (.istore 8, 2) := zdec_at bX8_makeNew_143 7 rfl
theorem dX8_makeNew_158 : decode cX8_makeNew 158 = .ok (.aload_n 0, 1) := zdec_at bX8_makeNew_143 8 rfl
theorem dX8_makeNew_159 : decode cX8_makeNew 159 = .ok (.getfield 794, 3) := zdec_at bX8_makeNew_143 9 rfl
theorem dX8_makeNew_162 : decode cX8_makeNew 162 = .ok (.ifCond .ne 20, 3) := zdec_at bX8_makeNew_143 10 rfl
theorem dX8_makeNew_165 : decode cX8_makeNew 165 = .ok (.aload_n 0, 1) := zdec_at bX8_makeNew_143 11 rfl
theorem dX8_makeNew_166 : decode cX8_makeNew 166 = .ok (.bipush 7, 2) := zdec_at bX8_makeNew_143 12 rfl
theorem dX8_makeNew_168 : decode cX8_makeNew 168 = .ok (.iload 5, 2) := zdec_at bX8_makeNew_143 13 rfl
theorem dX8_makeNew_170 : decode cX8_makeNew 170 = .ok (.bipush 7, 2) := zdec_at bX8_makeNew_143 14 rfl
theorem dX8_makeNew_172 : decode cX8_makeNew 172 = .ok (.iload 8, 2) := zdec_at bX8_makeNew_143 15 rfl
theorem bX8_makeNew_174 : zdec cX8_makeNew 174 [(174, .iload_n 1, 1), (175, .iconst 1, 1), (176, .iadd, 1), (177, .iload 8, 2), (179, .invokevirtual 1001, 3), (182, .return_, 1)] = true := by decide +kernel
theorem dX8_makeNew_174 : decode cX8_makeNew 174 = .ok (.iload_n 1, 1) := zdec_at bX8_makeNew_174 0 rfl
theorem dX8_makeNew_175 : decode cX8_makeNew 175 = .ok (.iconst 1, 1) := zdec_at bX8_makeNew_174 1 rfl
theorem dX8_makeNew_176 : decode cX8_makeNew 176 = .ok (.iadd, 1) := zdec_at bX8_makeNew_174 2 rfl
theorem dX8_makeNew_177 : decode cX8_makeNew 177 = .ok (.iload 8, 2) := zdec_at bX8_makeNew_174 3 rfl
theorem dX8_makeNew_179 : decode cX8_makeNew 179 = .ok (.invokevirtual 1001, 3) := zdec_at bX8_makeNew_174 4 rfl
theorem dX8_makeNew_182 : decode cX8_makeNew 182 = .ok (.return_, 1) := zdec_at bX8_makeNew_174 5 rfl
theorem sX8_makeNew_0 {E : zE} {d : Nat} {Q : zO → zM → Prop} (M : zM) (l1 : Int32) (l2 : Int32) (k : Zm E YX8_top d M (zargs 0 [vr (some (97, 1, 0))]) 0 [] (zma E YX8_makeNew (d + 1) [(0, vr (some (97, 1, 0))), (1, vi l1), (2, vi l2)] 1 3 [] Q)) : Zm E YX8_makeNew (d + 1) M [(0, vr (some (97, 1, 0))), (1, vi l1), (2, vi l2)] 0 [] Q := by
  refine Zm.l (fun _ _ k_ => z_aload_n dX8_makeNew_0 rfl rfl k_) ?_
  exact zm_callV (as := []) (st := []) dX8_makeNew_1 vsX8_879_1 (Nat.le_refl _) (Nat.le_of_ble_eq_true rfl) (Nat.le_of_ble_eq_true rfl) rfl k
theorem sX8_makeNew_4 {E : zE} {d : Nat} {Q : zO → zM → Prop} (M : zM) (l1 : Int32) (l2 : Int32) (s0 : Int32) (k : vp_in ((s0 - l1) - (1 : Int32)) 9600 ∧ (vp_in ((s0 - l1) - (1 : Int32)) 9600 ∧ (Zm E YX8_isFunction d (si (si M 97 114 (((s0 - l1) - (1 : Int32)) + (1 : Int32))) 97 115 l1) (zargs 0 [vr (some (97, 1, 0)), vi (gi M 160 (((s0 - l1) - (1 : Int32))).toNatClampNeg), vi (gi M 161 (((s0 - l1) - (1 : Int32))).toNatClampNeg)]) 0 [] (zma E YX8_makeNew (d + 1) [(0, vr (some (97, 1, 0))), (1, vi l1), (2, vi l2), (5, vi (gi M 161 (((s0 - l1) - (1 : Int32))).toNatClampNeg))] 42 3 [] Q)))) : Zm E YX8_makeNew (d + 1) M [(0, vr (some (97, 1, 0))), (1, vi l1), (2, vi l2)] 4 [vi s0] Q := by
  refine Zm.l (fun _ _ k_ => z_iload_n dX8_makeNew_4 rfl rfl k_) ?_
  refine Zm.l (fun _ _ k_ => z_isub dX8_makeNew_5 k_) ?_
  refine Zm.l (fun _ _ k_ => z_iconst (v := 1) dX8_makeNew_6 rfl k_) ?_
  refine Zm.l (fun _ _ k_ => z_isub dX8_makeNew_7 k_) ?_
  refine Zm.l (fun _ _ k_ => z_ist_n dX8_makeNew_8 rfl (by decide) (lv' := [(0, vr (some (97, 1, 0))), (1, vi l1), (2, vi l2), (3, vi ((s0 - l1) - (1 : Int32)))]) rfl k_) ?_
  refine Zm.l (fun _ _ k_ => z_aload_n dX8_makeNew_9 rfl rfl k_) ?_
  refine zm_getr 57 dX8_makeNew_10 fsX8_200_1 rfl ?_
  refine Zm.l (fun _ _ k_ => z_iload_n dX8_makeNew_13 rfl rfl k_) ?_
  obtain ⟨b_, k⟩ := k
  refine zm_iald dX8_makeNew_14 b_ (by decide) (by decide) ?_
  refine Zm.l (fun _ _ k_ => z_ist dX8_makeNew_15 (by decide) (lv' := [(0, vr (some (97, 1, 0))), (1, vi l1), (2, vi l2), (3, vi ((s0 - l1) - (1 : Int32))), (4, vi (gi M 160 (((s0 - l1) - (1 : Int32))).toNatClampNeg))]) rfl k_) ?_
  refine Zm.l (fun _ _ k_ => z_aload_n dX8_makeNew_17 rfl rfl k_) ?_
  refine zm_getr 58 dX8_makeNew_18 fsX8_203_1 rfl ?_
  refine Zm.l (fun _ _ k_ => z_iload_n dX8_makeNew_21 rfl rfl k_) ?_
  obtain ⟨b_, k⟩ := k
  refine zm_iald dX8_makeNew_22 b_ (by decide) (by decide) ?_
  refine Zm.l (fun _ _ k_ => z_ist dX8_makeNew_23 (by decide) (lv' := [(0, vr (some (97, 1, 0))), (1, vi l1), (2, vi l2), (3, vi ((s0 - l1) - (1 : Int32))), (4, vi (gi M 160 (((s0 - l1) - (1 : Int32))).toNatClampNeg)), (5, vi (gi M 161 (((s0 - l1) - (1 : Int32))).toNatClampNeg))]) rfl k_) ?_
  refine Zm.l (fun _ _ k_ => z_aload_n dX8_makeNew_25 rfl rfl k_) ?_
  refine Zm.l (fun _ _ k_ => z_iload_n dX8_makeNew_26 rfl rfl k_) ?_
  refine Zm.l (fun _ _ k_ => z_iconst (v := 1) dX8_makeNew_27 rfl k_) ?_
  refine Zm.l (fun _ _ k_ => z_iadd dX8_makeNew_28 k_) ?_
  refine zm_puti (by decide) (by decide) dX8_makeNew_29 (zfwN.w fwX8_998_1) rfl ⟨rfl, rfl⟩ ?_
  refine Zm.l (fun _ _ k_ => z_aload_n dX8_makeNew_32 rfl rfl k_) ?_
  refine Zm.l (fun _ _ k_ => z_iload_n dX8_makeNew_33 rfl rfl k_) ?_
  refine zm_puti (by decide) (by decide) dX8_makeNew_34 (zfwN.w fwX8_995_1) rfl ⟨rfl, rfl⟩ ?_
  refine Zm.l (fun _ _ k_ => z_aload_n dX8_makeNew_37 rfl rfl k_) ?_
  refine Zm.l (fun _ _ k_ => z_iload dX8_makeNew_38 rfl k_) ?_
  refine Zm.l (fun _ _ k_ => z_iload dX8_makeNew_40 rfl k_) ?_
  refine Zm.pick [0, 1, 2, 5] rfl ?_
  exact zm_callV (as := [vi (gi M 160 (((s0 - l1) - (1 : Int32))).toNatClampNeg), vi (gi M 161 (((s0 - l1) - (1 : Int32))).toNatClampNeg)]) (st := []) dX8_makeNew_42 vsX8_992_1 (Nat.le_refl _) (Nat.le_of_ble_eq_true rfl) (Nat.le_of_ble_eq_true rfl) rfl k
theorem sX8_makeNew_45 {E : zE} {d : Nat} {Q : zO → zM → Prop} (M : zM) (l1 : Int32) (l2 : Int32) (l5 : Int32) (s0 : Int32) (k : if s0 = 0 then (Zm E YX8_makeNew (d + 1) M [(0, vr (some (97, 1, 0))), (1, vi l1), (2, vi l2), (5, vi l5)] 84 [vi (0 : Int32)] Q) else (vp_in l5 300 ∧ (if 0 < (gi M 142 (l5).toNatClampNeg) then (Zm E YX8_makeNew (d + 1) M [(0, vr (some (97, 1, 0))), (1, vi l1), (2, vi l2), (5, vi l5)] 84 [vi (1 : Int32)] Q) else (if l5 < (10 : Int32) then (Zm E YX8_makeNew (d + 1) M [(0, vr (some (97, 1, 0))), (1, vi l1), (2, vi l2), (5, vi l5)] 84 [vi (0 : Int32)] Q) else (if (17 : Int32) < l5 then (Zm E YX8_makeNew (d + 1) M [(0, vr (some (97, 1, 0))), (1, vi l1), (2, vi l2), (5, vi l5)] 84 [vi (0 : Int32)] Q) else (if l5 = (13 : Int32) then (Zm E YX8_makeNew (d + 1) M [(0, vr (some (97, 1, 0))), (1, vi l1), (2, vi l2), (5, vi l5)] 84 [vi (0 : Int32)] Q) else (Zm E YX8_makeNew (d + 1) M [(0, vr (some (97, 1, 0))), (1, vi l1), (2, vi l2), (5, vi l5)] 84 [vi (1 : Int32)] Q))))))) : Zm E YX8_makeNew (d + 1) M [(0, vr (some (97, 1, 0))), (1, vi l1), (2, vi l2), (5, vi l5)] 45 [vi s0] Q := by
  refine Zm.br (fun _ _ k1_ k2_ => z_if_eq (tgt := 83) dX8_makeNew_45 rfl k1_ k2_) (fun h_ => ?_) (fun h_ => ?_)
  · have k := zit h_ k
    refine Zm.l (fun _ _ k_ => z_iconst (v := 0) dX8_makeNew_83 rfl k_) ?_
    exact k
  · have k := zif h_ k
    refine Zm.l (fun _ _ k_ => z_aload_n dX8_makeNew_48 rfl rfl k_) ?_
    refine zm_getr 39 dX8_makeNew_49 fsX8_146_1 rfl ?_
    refine Zm.l (fun _ _ k_ => z_iload dX8_makeNew_52 rfl k_) ?_
    obtain ⟨b_, k⟩ := k
    refine zm_iald dX8_makeNew_54 b_ (by decide) (by decide) ?_
    refine Zm.br (fun _ _ k1_ k2_ => z_if_gt (tgt := 79) dX8_makeNew_55 rfl k1_ k2_) (fun h_ => ?_) (fun h_ => ?_)
    · have k := zit h_ k
      refine Zm.l (fun _ _ k_ => z_iconst (v := 1) dX8_makeNew_79 rfl k_) ?_
      refine Zm.l (fun _ _ k_ => z_goto (tgt := 84) dX8_makeNew_80 rfl k_) ?_
      exact k
    · have k := zif h_ k
      refine Zm.l (fun _ _ k_ => z_iload dX8_makeNew_58 rfl k_) ?_
      refine Zm.l (fun _ _ k_ => z_bipush (v := 10) dX8_makeNew_60 rfl k_) ?_
      refine Zm.br (fun _ _ k1_ k2_ => z_icmp_lt (tgt := 83) dX8_makeNew_62 rfl k1_ k2_) (fun h_ => ?_) (fun h_ => ?_)
      · have k := zit h_ k
        refine Zm.l (fun _ _ k_ => z_iconst (v := 0) dX8_makeNew_83 rfl k_) ?_
        exact k
      · have k := zif h_ k
        refine Zm.l (fun _ _ k_ => z_iload dX8_makeNew_65 rfl k_) ?_
        refine Zm.l (fun _ _ k_ => z_bipush (v := 17) dX8_makeNew_67 rfl k_) ?_
        refine Zm.br (fun _ _ k1_ k2_ => z_icmp_gt (tgt := 83) dX8_makeNew_69 rfl k1_ k2_) (fun h_ => ?_) (fun h_ => ?_)
        · have k := zit h_ k
          refine Zm.l (fun _ _ k_ => z_iconst (v := 0) dX8_makeNew_83 rfl k_) ?_
          exact k
        · have k := zif h_ k
          refine Zm.l (fun _ _ k_ => z_iload dX8_makeNew_72 rfl k_) ?_
          refine Zm.l (fun _ _ k_ => z_bipush (v := 13) dX8_makeNew_74 rfl k_) ?_
          refine Zm.br (fun _ _ k1_ k2_ => z_icmp_eq (tgt := 83) dX8_makeNew_76 rfl k1_ k2_) (fun h_ => ?_) (fun h_ => ?_)
          · have k := zit h_ k
            refine Zm.l (fun _ _ k_ => z_iconst (v := 0) dX8_makeNew_83 rfl k_) ?_
            exact k
          · have k := zif h_ k
            refine Zm.l (fun _ _ k_ => z_iconst (v := 1) dX8_makeNew_79 rfl k_) ?_
            refine Zm.l (fun _ _ k_ => z_goto (tgt := 84) dX8_makeNew_80 rfl k_) ?_
            exact k
theorem sX8_makeNew_84 {E : zE} {d : Nat} {Q : zO → zM → Prop} (M : zM) (l1 : Int32) (l2 : Int32) (l5 : Int32) (s0 : Int32) (k : if s0 = 0 then (Zm E YX8_error d M (zargs 0 [vr (some (97, 1, 0)), vi (6 : Int32)]) 0 [] (zma E YX8_makeNew (d + 1) [] 94 3 [] Q)) else (vp_in l5 300 ∧ (if (gi M 142 (l5).toNatClampNeg) = 0 then (Zm E YX8_nativeOf d M (zargs 0 [vr (some (97, 1, 0)), vi l5, vi (0 : Int32), vi (0 : Int32), vi (l1 + (1 : Int32))]) 0 [] (zma E YX8_makeNew (d + 1) [] 116 3 [] Q)) else (Zm E YX8_read_2 d M (zargs 0 [vr (some (97, 1, 0)), vi l5, vi (1 : Int32)]) 0 [] (zma E YX8_makeNew (d + 1) [(0, vr (some (97, 1, 0))), (1, vi l1), (2, vi l2), (5, vi l5)] 124 3 [] Q))))) : Zm E YX8_makeNew (d + 1) M [(0, vr (some (97, 1, 0))), (1, vi l1), (2, vi l2), (5, vi l5)] 84 [vi s0] Q := by
  refine Zm.l (fun _ _ k_ => z_ist dX8_makeNew_84 (by decide) (lv' := [(0, vr (some (97, 1, 0))), (1, vi l1), (2, vi l2), (5, vi l5), (6, vi s0)]) rfl k_) ?_
  refine Zm.l (fun _ _ k_ => z_iload dX8_makeNew_86 rfl k_) ?_
  refine Zm.brn (fun _ _ k1_ k2_ => z_if_ne (tgt := 98) dX8_makeNew_88 rfl k1_ k2_) (fun h_ => ?_) (fun h_ => ?_)
  · have k := zif h_ k
    refine Zm.l (fun _ _ k_ => z_aload_n dX8_makeNew_98 rfl rfl k_) ?_
    refine zm_getr 39 dX8_makeNew_99 fsX8_146_1 rfl ?_
    refine Zm.l (fun _ _ k_ => z_iload dX8_makeNew_102 rfl k_) ?_
    obtain ⟨b_, k⟩ := k
    refine zm_iald dX8_makeNew_104 b_ (by decide) (by decide) ?_
    refine Zm.brn (fun _ _ k1_ k2_ => z_if_ne (tgt := 120) dX8_makeNew_105 rfl k1_ k2_) (fun h_ => ?_) (fun h_ => ?_)
    · have k := zif h_ k
      refine Zm.l (fun _ _ k_ => z_aload_n dX8_makeNew_120 rfl rfl k_) ?_
      refine Zm.l (fun _ _ k_ => z_iload dX8_makeNew_121 rfl k_) ?_
      refine Zm.l (fun _ _ k_ => z_iconst (v := 1) dX8_makeNew_123 rfl k_) ?_
      refine Zm.pick [0, 1, 2, 3] rfl ?_
      exact zm_callV (as := [vi l5, vi (1 : Int32)]) (st := []) dX8_makeNew_124 vsX8_972_1 (Nat.le_refl _) (Nat.le_of_ble_eq_true rfl) (Nat.le_of_ble_eq_true rfl) rfl k
    · have k := zit h_ k
      refine Zm.l (fun _ _ k_ => z_aload_n dX8_makeNew_108 rfl rfl k_) ?_
      refine Zm.l (fun _ _ k_ => z_iload dX8_makeNew_109 rfl k_) ?_
      refine Zm.l (fun _ _ k_ => z_iconst (v := 0) dX8_makeNew_111 rfl k_) ?_
      refine Zm.l (fun _ _ k_ => z_iconst (v := 0) dX8_makeNew_112 rfl k_) ?_
      refine Zm.l (fun _ _ k_ => z_iload_n dX8_makeNew_113 rfl rfl k_) ?_
      refine Zm.l (fun _ _ k_ => z_iconst (v := 1) dX8_makeNew_114 rfl k_) ?_
      refine Zm.l (fun _ _ k_ => z_iadd dX8_makeNew_115 k_) ?_
      refine Zm.pick [] rfl ?_
      exact zm_callV (as := [vi l5, vi (0 : Int32), vi (0 : Int32), vi (l1 + (1 : Int32))]) (st := []) dX8_makeNew_116 vsX8_1008_1 (Nat.le_refl _) (Nat.le_of_ble_eq_true rfl) (Nat.le_of_ble_eq_true rfl) rfl k
  · have k := zit h_ k
    refine Zm.l (fun _ _ k_ => z_aload_n dX8_makeNew_91 rfl rfl k_) ?_
    refine Zm.l (fun _ _ k_ => z_bipush (v := 6) dX8_makeNew_92 rfl k_) ?_
    refine Zm.pick [] rfl ?_
    exact zm_callV (as := [vi (6 : Int32)]) (st := []) dX8_makeNew_94 vsX8_966_1 (Nat.le_refl _) (Nat.le_of_ble_eq_true rfl) (Nat.le_of_ble_eq_true rfl) rfl k
theorem sX8_makeNew_97 {E : zE} {d : Nat} {Q : zO → zM → Prop} (M : zM)  (k : Q (.inl none) M) : Zm E YX8_makeNew (d + 1) M [] 97 [] Q := by
  exact zm_vret dX8_makeNew_97 rfl k
theorem sX8_makeNew_119 {E : zE} {d : Nat} {Q : zO → zM → Prop} (M : zM)  (k : Q (.inl none) M) : Zm E YX8_makeNew (d + 1) M [] 119 [] Q := by
  exact zm_vret dX8_makeNew_119 rfl k
theorem sX8_makeNew_127 {E : zE} {d : Nat} {Q : zO → zM → Prop} (M : zM) (l1 : Int32) (l2 : Int32) (l5 : Int32) (s0 : Int32) (k : if (gi M 97 111) = (7 : Int32) then (Zm E YX8_siteLabel d M (zargs 0 [vr (some (97, 1, 0)), vi l2]) 0 [] (zma E YX8_makeNew (d + 1) [(0, vr (some (97, 1, 0))), (1, vi l1), (5, vi l5)] 149 3 [vi (gi M 97 112), vr (some (97, 1, 0))] Q)) else (Zm E YX8_siteLabel d M (zargs 0 [vr (some (97, 1, 0)), vi l2]) 0 [] (zma E YX8_makeNew (d + 1) [(0, vr (some (97, 1, 0))), (1, vi l1), (5, vi l5)] 149 3 [vi (1 : Int32), vr (some (97, 1, 0))] Q))) : Zm E YX8_makeNew (d + 1) M [(0, vr (some (97, 1, 0))), (1, vi l1), (2, vi l2), (5, vi l5)] 127 [vi s0] Q := by
  refine Zm.l (fun _ _ k_ => z_ist dX8_makeNew_127 (by decide) (lv' := [(0, vr (some (97, 1, 0))), (1, vi l1), (2, vi l2), (5, vi l5), (7, vi s0)]) rfl k_) ?_
  refine Zm.l (fun _ _ k_ => z_aload_n dX8_makeNew_129 rfl rfl k_) ?_
  refine Zm.l (fun _ _ k_ => z_aload_n dX8_makeNew_130 rfl rfl k_) ?_
  refine zm_geti dX8_makeNew_131 fsX8_788_1 (by decide) (by decide) ?_
  refine Zm.l (fun _ _ k_ => z_bipush (v := 7) dX8_makeNew_134 rfl k_) ?_
  refine Zm.brn (fun _ _ k1_ k2_ => z_icmp_ne (tgt := 146) dX8_makeNew_136 rfl k1_ k2_) (fun h_ => ?_) (fun h_ => ?_)
  · have k := zif h_ k
    refine Zm.l (fun _ _ k_ => z_iconst (v := 1) dX8_makeNew_146 rfl k_) ?_
    refine Zm.l (fun _ _ k_ => z_aload_n dX8_makeNew_147 rfl rfl k_) ?_
    refine Zm.l (fun _ _ k_ => z_iload_n dX8_makeNew_148 rfl rfl k_) ?_
    refine Zm.pick [0, 1, 3] rfl ?_
    exact zm_callV (as := [vi l2]) (st := [vi (1 : Int32), vr (some (97, 1, 0))]) dX8_makeNew_149 vsX8_920_1 (Nat.le_refl _) (Nat.le_of_ble_eq_true rfl) (Nat.le_of_ble_eq_true rfl) rfl k
  · have k := zit h_ k
    refine Zm.l (fun _ _ k_ => z_aload_n dX8_makeNew_139 rfl rfl k_) ?_
    refine zm_geti dX8_makeNew_140 fsX8_791_1 (by decide) (by decide) ?_
    refine Zm.l (fun _ _ k_ => z_goto (tgt := 147) dX8_makeNew_143 rfl k_) ?_
    refine Zm.l (fun _ _ k_ => z_aload_n dX8_makeNew_147 rfl rfl k_) ?_
    refine Zm.l (fun _ _ k_ => z_iload_n dX8_makeNew_148 rfl rfl k_) ?_
    refine Zm.pick [0, 1, 3] rfl ?_
    exact zm_callV (as := [vi l2]) (st := [vi (gi M 97 112), vr (some (97, 1, 0))]) dX8_makeNew_149 vsX8_920_1 (Nat.le_refl _) (Nat.le_of_ble_eq_true rfl) (Nat.le_of_ble_eq_true rfl) rfl k
theorem sX8_makeNew_152 {E : zE} {d : Nat} {Q : zO → zM → Prop} (M : zM) (l1 : Int32) (l5 : Int32) (s0 : Int32) (s1 : Int32) (k : Zm E YX8_newObject d M (zargs 0 [vr (some (97, 1, 0)), vi s1, vi s0, vi (0 : Int32)]) 0 [] (zma E YX8_makeNew (d + 1) [(0, vr (some (97, 1, 0))), (1, vi l1), (5, vi l5)] 153 3 [] Q)) : Zm E YX8_makeNew (d + 1) M [(0, vr (some (97, 1, 0))), (1, vi l1), (5, vi l5)] 152 [vi s0, vi s1, vr (some (97, 1, 0))] Q := by
  refine Zm.l (fun _ _ k_ => z_iconst (v := 0) dX8_makeNew_152 rfl k_) ?_
  exact zm_callV (as := [vi s1, vi s0, vi (0 : Int32)]) (st := []) dX8_makeNew_153 vsX8_858_1 (Nat.le_refl _) (Nat.le_of_ble_eq_true rfl) (Nat.le_of_ble_eq_true rfl) rfl k
theorem sX8_makeNew_156 {E : zE} {d : Nat} {Q : zO → zM → Prop} (M : zM) (l1 : Int32) (l5 : Int32) (s0 : Int32) (k : if (gi M 97 75) = 0 then (Zm E YX8_callOf d M (zargs 0 [vr (some (97, 1, 0)), vi (7 : Int32), vi l5, vi (7 : Int32), vi s0, vi (l1 + (1 : Int32)), vi s0]) 0 [] (zma E YX8_makeNew (d + 1) [] 179 3 [] Q)) else (Zm E YX8_makeNew (d + 1) M [] 182 [] Q)) : Zm E YX8_makeNew (d + 1) M [(0, vr (some (97, 1, 0))), (1, vi l1), (5, vi l5)] 156 [vi s0] Q := by
  refine Zm.l (fun _ _ k_ => z_ist dX8_makeNew_156 (by decide) (lv' := [(0, vr (some (97, 1, 0))), (1, vi l1), (5, vi l5), (8, vi s0)]) rfl k_) ?_
  refine Zm.l (fun _ _ k_ => z_aload_n dX8_makeNew_158 rfl rfl k_) ?_
  refine zm_geti dX8_makeNew_159 fsX8_794_1 (by decide) (by decide) ?_
  refine Zm.brn (fun _ _ k1_ k2_ => z_if_ne (tgt := 182) dX8_makeNew_162 rfl k1_ k2_) (fun h_ => ?_) (fun h_ => ?_)
  · have k := zif h_ k
    refine Zm.pick [] rfl ?_
    exact k
  · have k := zit h_ k
    refine Zm.l (fun _ _ k_ => z_aload_n dX8_makeNew_165 rfl rfl k_) ?_
    refine Zm.l (fun _ _ k_ => z_bipush (v := 7) dX8_makeNew_166 rfl k_) ?_
    refine Zm.l (fun _ _ k_ => z_iload dX8_makeNew_168 rfl k_) ?_
    refine Zm.l (fun _ _ k_ => z_bipush (v := 7) dX8_makeNew_170 rfl k_) ?_
    refine Zm.l (fun _ _ k_ => z_iload dX8_makeNew_172 rfl k_) ?_
    refine Zm.l (fun _ _ k_ => z_iload_n dX8_makeNew_174 rfl rfl k_) ?_
    refine Zm.l (fun _ _ k_ => z_iconst (v := 1) dX8_makeNew_175 rfl k_) ?_
    refine Zm.l (fun _ _ k_ => z_iadd dX8_makeNew_176 k_) ?_
    refine Zm.l (fun _ _ k_ => z_iload dX8_makeNew_177 rfl k_) ?_
    refine Zm.pick [] rfl ?_
    exact zm_callV (as := [vi (7 : Int32), vi l5, vi (7 : Int32), vi s0, vi (l1 + (1 : Int32)), vi s0]) (st := []) dX8_makeNew_179 vsX8_1001_1 (Nat.le_refl _) (Nat.le_of_ble_eq_true rfl) (Nat.le_of_ble_eq_true rfl) rfl k
theorem sX8_makeNew_182 {E : zE} {d : Nat} {Q : zO → zM → Prop} (M : zM)  (k : Q (.inl none) M) : Zm E YX8_makeNew (d + 1) M [] 182 [] Q := by
  exact zm_vret dX8_makeNew_182 rfl k
/-! ScriptTypesModel.stepOther(II)V -/
theorem bX8_stepOther_0 : zdec cX8_stepOther 0 [(0, .iload_n 1, 1), (1, .bipush 21, 2), (3, .if_icmp .eq 15, 3), (6, .iload_n 1, 1), (7, .bipush 27, 2), (9, .if_icmp .eq 9, 3), (12, .iload_n 1, 1), (13, .bipush 28, 2), (15, .if_icmp .ne 7, 3), (18, .iconst 0, 1), (19, .goto 8, 3), (22, .aload_n 0, 1), (23, .iconst 0, 1), (24, .invokevirtual 910, 3), (27, .istore_n 3, 1), (28, .iload_n 1, 1)] = true := by decide +kernel
theorem dX8_stepOther_0 : decode cX8_stepOther 0 = .ok (.iload_n 1, 1) := zdec_at bX8_stepOther_0 0 rfl
theorem dX8_stepOther_1 : decode cX8_stepOther 1 = .ok (.bipush 21, 2) := zdec_at bX8_stepOther_0 1 rfl
theorem dX8_stepOther_3 : decode cX8_stepOther 3 = .ok (.if_icmp .eq 15, 3) := zdec_at bX8_stepOther_0 2 rfl
theorem dX8_stepOther_6 : decode cX8_stepOther 6 = .ok (.iload_n 1, 1) := zdec_at bX8_stepOther_0 3 rfl
theorem dX8_stepOther_7 : decode cX8_stepOther 7 = .ok (.bipush 27, 2) := zdec_at bX8_stepOther_0 4 rfl
theorem dX8_stepOther_9 : decode cX8_stepOther 9 = .ok (.if_icmp .eq 9, 3) := zdec_at bX8_stepOther_0 5 rfl
theorem dX8_stepOther_12 : decode cX8_stepOther 12 = .ok (.iload_n 1, 1) := zdec_at bX8_stepOther_0 6 rfl
theorem dX8_stepOther_13 : decode cX8_stepOther 13 = .ok (.bipush 28, 2) := zdec_at bX8_stepOther_0 7 rfl
theorem dX8_stepOther_15 : decode cX8_stepOther 15 = .ok (.if_icmp .ne 7, 3) := zdec_at bX8_stepOther_0 8 rfl
theorem dX8_stepOther_18 : decode cX8_stepOther 18 = .ok (.iconst 0, 1) := zdec_at bX8_stepOther_0 9 rfl
theorem dX8_stepOther_19 : decode cX8_stepOther 19 = .ok (.goto 8, 3) := zdec_at bX8_stepOther_0 10 rfl
theorem dX8_stepOther_22 : decode cX8_stepOther 22 = .ok (.aload_n 0, 1) := zdec_at bX8_stepOther_0 11 rfl
theorem dX8_stepOther_23 : decode cX8_stepOther 23 = .ok (.iconst 0, 1) := zdec_at bX8_stepOther_0 12 rfl
theorem dX8_stepOther_24 : decode cX8_stepOther 24 = .ok (.invokevirtual 910, 3) := zdec_at bX8_stepOther_0 13 rfl
theorem dX8_stepOther_27 : decode cX8_stepOther 27 = .ok (.istore_n 3, 1) := zdec_at bX8_stepOther_0 14 rfl
theorem dX8_stepOther_28 : decode cX8_stepOther 28 = .ok (.iload_n 1, 1) := zdec_at bX8_stepOther_0 15 rfl
theorem bX8_stepOther_29 : zdec cX8_stepOther 29 [(29, .bipush 21, 2), (31, .if_icmp .eq 15, 3), (34, .iload_n 1, 1), (35, .bipush 27, 2), (37, .if_icmp .eq 9, 3), (40, .iload_n 1, 1), (41, .bipush 28, 2), (43, .if_icmp .ne 7, 3), (46, .iconst 0, 1), (47, .goto 8, 3), (50, .aload_n 0, 1), (51, .iconst 0, 1), (52, .invokevirtual 913, 3), (55, .istore 4, 2), (57, .aload_n 0, 1), (58, .getfield 872, 3)] = true := by decide +kernel
theorem dX8_stepOther_29 : decode cX8_stepOther 29 = .ok (.bipush 21, 2) := zdec_at bX8_stepOther_29 0 rfl
theorem dX8_stepOther_31 : decode cX8_stepOther 31 = .ok (.if_icmp .eq 15, 3) := zdec_at bX8_stepOther_29 1 rfl
theorem dX8_stepOther_34 : decode cX8_stepOther 34 = .ok (.iload_n 1, 1) := zdec_at bX8_stepOther_29 2 rfl
theorem dX8_stepOther_35 : decode cX8_stepOther 35 = .ok (.bipush 27, 2) := zdec_at bX8_stepOther_29 3 rfl
theorem dX8_stepOther_37 : decode cX8_stepOther 37 = .ok (.if_icmp .eq 9, 3) := zdec_at bX8_stepOther_29 4 rfl
theorem dX8_stepOther_40 : decode cX8_stepOther 40 = .ok (.iload_n 1, 1) := zdec_at bX8_stepOther_29 5 rfl
theorem dX8_stepOther_41 : decode cX8_stepOther 41 = .ok (.bipush 28, 2) := zdec_at bX8_stepOther_29 6 rfl
theorem dX8_stepOther_43 : decode cX8_stepOther 43 = .ok (.if_icmp .ne 7, 3) := zdec_at bX8_stepOther_29 7 rfl
theorem dX8_stepOther_46 : decode cX8_stepOther 46 = .ok (.iconst 0, 1) := zdec_at bX8_stepOther_29 8 rfl
theorem dX8_stepOther_47 : decode cX8_stepOther 47 = .ok (.goto 8, 3) := zdec_at bX8_stepOther_29 9 rfl
theorem dX8_stepOther_50 : decode cX8_stepOther 50 = .ok (.aload_n 0, 1) := zdec_at bX8_stepOther_29 10 rfl
theorem dX8_stepOther_51 : decode cX8_stepOther 51 = .ok (.iconst 0, 1) := zdec_at bX8_stepOther_29 11 rfl
theorem dX8_stepOther_52 : decode cX8_stepOther 52 = .ok (.invokevirtual 913, 3) := zdec_at bX8_stepOther_29 12 rfl
theorem dX8_stepOther_55 : decode cX8_stepOther 55 = .ok (.istore 4, 2) := zdec_at bX8_stepOther_29 13 rfl
theorem dX8_stepOther_57 : decode cX8_stepOther 57 = .ok (.aload_n 0, 1) := zdec_at bX8_stepOther_29 14 rfl
theorem dX8_stepOther_58 : decode cX8_stepOther 58 = .ok (.getfield 872, 3) := zdec_at bX8_stepOther_29 15 rfl
theorem bX8_stepOther_61 : zdec cX8_stepOther 61 [(61, .iconst 1, 1), (62, .isub, 1), (63, .istore 5, 2), (65, .iload_n 1, 1)] = true := by decide +kernel
theorem dX8_stepOther_61 : decode cX8_stepOther 61 = .ok (.iconst 1, 1) := zdec_at bX8_stepOther_61 0 rfl
theorem dX8_stepOther_62 : decode cX8_stepOther 62 = .ok (.isub, 1) := zdec_at bX8_stepOther_61 1 rfl
theorem dX8_stepOther_63 : decode cX8_stepOther 63 = .ok (.istore 5, 2) := zdec_at bX8_stepOther_61 2 rfl
theorem dX8_stepOther_65 : decode cX8_stepOther 65 = .ok (.iload_n 1, 1) := zdec_at bX8_stepOther_61 3 rfl
theorem dX8_stepOther_66 : decode cX8_stepOther 66 = .ok (.tableswitch 388 17 29 #[66, 78, 92, 128, 142, 153, 191, 191, 235, 245, 255, 317, 335], 66) := by decide +kernel
theorem bX8_stepOther_132 : zdec cX8_stepOther 132 [(132, .aload_n 0, 1), (133, .iconst 1, 1), (134, .invokevirtual 882, 3), (137, .aload_n 0, 1), (138, .invokevirtual 888, 3), (141, .goto 318, 3), (144, .aload_n 0, 1), (145, .iload_n 3, 1), (146, .iload 4, 2), (148, .invokevirtual 885, 3), (151, .aload_n 0, 1), (152, .invokevirtual 888, 3), (155, .goto 304, 3), (158, .aload_n 0, 1), (159, .iconst 1, 1), (160, .invokevirtual 910, 3)] = true := by decide +kernel
theorem dX8_stepOther_132 : decode cX8_stepOther 132 = .ok (.aload_n 0, 1) := zdec_at bX8_stepOther_132 0 rfl
theorem dX8_stepOther_133 : decode cX8_stepOther 133 = .ok (.iconst 1, 1) := zdec_at bX8_stepOther_132 1 rfl
theorem dX8_stepOther_134 : decode cX8_stepOther 134 = .ok (.invokevirtual 882, 3) := zdec_at bX8_stepOther_132 2 rfl
theorem dX8_stepOther_137 : decode cX8_stepOther 137 = .ok (.aload_n 0, 1) := zdec_at bX8_stepOther_132 3 rfl
theorem dX8_stepOther_138 : decode cX8_stepOther 138 = .ok (.invokevirtual 888, 3) := zdec_at bX8_stepOther_132 4 rfl
theorem dX8_stepOther_141 : decode cX8_stepOther 141 = .ok (.goto 318, 3) := zdec_at bX8_stepOther_132 5 rfl
theorem dX8_stepOther_144 : decode cX8_stepOther 144 = .ok (.aload_n 0, 1) := zdec_at bX8_stepOther_132 6 rfl
theorem dX8_stepOther_145 : decode cX8_stepOther 145 = .ok (.iload_n 3, 1) := zdec_at bX8_stepOther_132 7 rfl
theorem dX8_stepOther_146 : decode cX8_stepOther 146 = .ok (.iload 4, 2) := zdec_at bX8_stepOther_132 8 rfl
theorem dX8_stepOther_148 : decode cX8_stepOther 148 = .ok (.invokevirtual 885, 3) := zdec_at bX8_stepOther_132 9 rfl
theorem dX8_stepOther_151 : decode cX8_stepOther 151 = .ok (.aload_n 0, 1) := zdec_at bX8_stepOther_132 10 rfl
theorem dX8_stepOther_152 : decode cX8_stepOther 152 = .ok (.invokevirtual 888, 3) := zdec_at bX8_stepOther_132 11 rfl
theorem dX8_stepOther_155 : decode cX8_stepOther 155 = .ok (.goto 304, 3) := zdec_at bX8_stepOther_132 12 rfl
theorem dX8_stepOther_158 : decode cX8_stepOther 158 = .ok (.aload_n 0, 1) := zdec_at bX8_stepOther_132 13 rfl
theorem dX8_stepOther_159 : decode cX8_stepOther 159 = .ok (.iconst 1, 1) := zdec_at bX8_stepOther_132 14 rfl
theorem dX8_stepOther_160 : decode cX8_stepOther 160 = .ok (.invokevirtual 910, 3) := zdec_at bX8_stepOther_132 15 rfl
theorem bX8_stepOther_163 : zdec cX8_stepOther 163 [(163, .istore 6, 2), (165, .aload_n 0, 1), (166, .iconst 1, 1), (167, .invokevirtual 913, 3), (170, .istore 7, 2), (172, .aload_n 0, 1), (173, .iload 6, 2), (175, .iload 7, 2), (177, .invokevirtual 885, 3), (180, .aload_n 0, 1), (181, .iload_n 3, 1), (182, .iload 4, 2), (184, .invokevirtual 885, 3), (187, .aload_n 0, 1), (188, .invokevirtual 888, 3), (191, .goto 268, 3)] = true := by decide +kernel
theorem dX8_stepOther_163 : decode cX8_stepOther 163 = .ok (.istore 6, 2) := zdec_at bX8_stepOther_163 0 rfl
theorem dX8_stepOther_165 : decode cX8_stepOther 165 = .ok (.aload_n 0, 1) := zdec_at bX8_stepOther_163 1 rfl
theorem dX8_stepOther_166 : decode cX8_stepOther 166 = .ok (.iconst 1, 1) := zdec_at bX8_stepOther_163 2 rfl
theorem dX8_stepOther_167 : decode cX8_stepOther 167 = .ok (.invokevirtual 913, 3) := zdec_at bX8_stepOther_163 3 rfl
theorem dX8_stepOther_170 : decode cX8_stepOther 170 = .ok (.istore 7, 2) := zdec_at bX8_stepOther_163 4 rfl
theorem dX8_stepOther_172 : decode cX8_stepOther 172 = .ok (.aload_n 0, 1) := zdec_at bX8_stepOther_163 5 rfl
theorem dX8_stepOther_173 : decode cX8_stepOther 173 = .ok (.iload 6, 2) := zdec_at bX8_stepOther_163 6 rfl
theorem dX8_stepOther_175 : decode cX8_stepOther 175 = .ok (.iload 7, 2) := zdec_at bX8_stepOther_163 7 rfl
theorem dX8_stepOther_177 : decode cX8_stepOther 177 = .ok (.invokevirtual 885, 3) := zdec_at bX8_stepOther_163 8 rfl
theorem dX8_stepOther_180 : decode cX8_stepOther 180 = .ok (.aload_n 0, 1) := zdec_at bX8_stepOther_163 9 rfl
theorem dX8_stepOther_181 : decode cX8_stepOther 181 = .ok (.iload_n 3, 1) := zdec_at bX8_stepOther_163 10 rfl
theorem dX8_stepOther_182 : decode cX8_stepOther 182 = .ok (.iload 4, 2) := zdec_at bX8_stepOther_163 11 rfl
theorem dX8_stepOther_184 : decode cX8_stepOther 184 = .ok (.invokevirtual 885, 3) := zdec_at bX8_stepOther_163 12 rfl
theorem dX8_stepOther_187 : decode cX8_stepOther 187 = .ok (.aload_n 0, 1) := zdec_at bX8_stepOther_163 13 rfl
theorem dX8_stepOther_188 : decode cX8_stepOther 188 = .ok (.invokevirtual 888, 3) := zdec_at bX8_stepOther_163 14 rfl
theorem dX8_stepOther_191 : decode cX8_stepOther 191 = .ok (.goto 268, 3) := zdec_at bX8_stepOther_163 15 rfl
theorem bX8_stepOther_194 : zdec cX8_stepOther 194 [(194, .aload_n 0, 1), (195, .iload_n 3, 1), (196, .iload 4, 2), (198, .invokevirtual 954, 3), (201, .aload_n 0, 1), (202, .invokevirtual 888, 3), (205, .goto 254, 3), (208, .aload_n 0, 1), (209, .getfield 182, 3), (212, .iload 5, 2), (214, .iload_n 2, 1), (215, .iastore, 1), (216, .goto 243, 3), (219, .aload_n 0, 1), (220, .iconst 1, 1), (221, .invokevirtual 882, 3)] = true := by decide +kernel
theorem dX8_stepOther_194 : decode cX8_stepOther 194 = .ok (.aload_n 0, 1) := zdec_at bX8_stepOther_194 0 rfl
theorem dX8_stepOther_195 : decode cX8_stepOther 195 = .ok (.iload_n 3, 1) := zdec_at bX8_stepOther_194 1 rfl
theorem dX8_stepOther_196 : decode cX8_stepOther 196 = .ok (.iload 4, 2) := zdec_at bX8_stepOther_194 2 rfl
theorem dX8_stepOther_198 : decode cX8_stepOther 198 = .ok (.invokevirtual 954, 3) := zdec_at bX8_stepOther_194 3 rfl
theorem dX8_stepOther_201 : decode cX8_stepOther 201 = .ok (.aload_n 0, 1) := zdec_at bX8_stepOther_194 4 rfl
theorem dX8_stepOther_202 : decode cX8_stepOther 202 = .ok (.invokevirtual 888, 3) := zdec_at bX8_stepOther_194 5 rfl
theorem dX8_stepOther_205 : decode cX8_stepOther 205 = .ok (.goto 254, 3) := zdec_at bX8_stepOther_194 6 rfl
theorem dX8_stepOther_208 : decode cX8_stepOther 208 = .ok (.aload_n 0, 1) := zdec_at bX8_stepOther_194 7 rfl
theorem dX8_stepOther_209 : decode cX8_stepOther 209 = .ok (.getfield 182, 3) := zdec_at bX8_stepOther_194 8 rfl
theorem dX8_stepOther_212 : decode cX8_stepOther 212 = .ok (.iload 5, 2) := zdec_at bX8_stepOther_194 9 rfl
theorem dX8_stepOther_214 : decode cX8_stepOther 214 = .ok (.iload_n 2, 1) := zdec_at bX8_stepOther_194 10 rfl
theorem dX8_stepOther_215 : decode cX8_stepOther 215 = .ok (.iastore, 1) := zdec_at bX8_stepOther_194 11 rfl
theorem dX8_stepOther_216 : decode cX8_stepOther 216 = .ok (.goto 243, 3) := zdec_at bX8_stepOther_194 12 rfl
theorem dX8_stepOther_219 : decode cX8_stepOther 219 = .ok (.aload_n 0, 1) := zdec_at bX8_stepOther_194 13 rfl
theorem dX8_stepOther_220 : decode cX8_stepOther 220 = .ok (.iconst 1, 1) := zdec_at bX8_stepOther_194 14 rfl
theorem dX8_stepOther_221 : decode cX8_stepOther 221 = .ok (.invokevirtual 882, 3) := zdec_at bX8_stepOther_194 15 rfl
theorem bX8_stepOther_224 : zdec cX8_stepOther 224 [(224, .aload_n 0, 1), (225, .getfield 182, 3), (228, .iload 5, 2), (230, .aload_n 0, 1), (231, .iload_n 3, 1), (232, .iload 4, 2), (234, .invokevirtual 824, 3), (237, .ifCond .eq 15, 3), (240, .aload_n 0, 1), (241, .getfield 182, 3), (244, .iload 5, 2), (246, .iaload, 1), (247, .iconst 1, 1), (248, .iadd, 1), (249, .goto 4, 3), (252, .iload_n 2, 1)] = true := by decide +kernel
theorem dX8_stepOther_224 : decode cX8_stepOther 224 = .ok (.aload_n 0, 1) := zdec_at bX8_stepOther_224 0 rfl
theorem dX8_stepOther_225 : decode cX8_stepOther 225 = .ok (.getfield 182, 3) := zdec_at bX8_stepOther_224 1 rfl
theorem dX8_stepOther_228 : decode cX8_stepOther 228 = .ok (.iload 5, 2) := zdec_at bX8_stepOther_224 2 rfl
theorem dX8_stepOther_230 : decode cX8_stepOther 230 = .ok (.aload_n 0, 1) := zdec_at bX8_stepOther_224 3 rfl
theorem dX8_stepOther_231 : decode cX8_stepOther 231 = .ok (.iload_n 3, 1) := zdec_at bX8_stepOther_224 4 rfl
theorem dX8_stepOther_232 : decode cX8_stepOther 232 = .ok (.iload 4, 2) := zdec_at bX8_stepOther_224 5 rfl
theorem dX8_stepOther_234 : decode cX8_stepOther 234 = .ok (.invokevirtual 824, 3) := zdec_at bX8_stepOther_224 6 rfl
theorem dX8_stepOther_237 : decode cX8_stepOther 237 = .ok (.ifCond .eq 15, 3) := zdec_at bX8_stepOther_224 7 rfl
theorem dX8_stepOther_240 : decode cX8_stepOther 240 = .ok (.aload_n 0, 1) := zdec_at bX8_stepOther_224 8 rfl
theorem dX8_stepOther_241 : decode cX8_stepOther 241 = .ok (.getfield 182, 3) := zdec_at bX8_stepOther_224 9 rfl
theorem dX8_stepOther_244 : decode cX8_stepOther 244 = .ok (.iload 5, 2) := zdec_at bX8_stepOther_224 10 rfl
theorem dX8_stepOther_246 : decode cX8_stepOther 246 = .ok (.iaload, 1) := zdec_at bX8_stepOther_224 11 rfl
theorem dX8_stepOther_247 : decode cX8_stepOther 247 = .ok (.iconst 1, 1) := zdec_at bX8_stepOther_224 12 rfl
theorem dX8_stepOther_248 : decode cX8_stepOther 248 = .ok (.iadd, 1) := zdec_at bX8_stepOther_224 13 rfl
theorem dX8_stepOther_249 : decode cX8_stepOther 249 = .ok (.goto 4, 3) := zdec_at bX8_stepOther_224 14 rfl
theorem dX8_stepOther_252 : decode cX8_stepOther 252 = .ok (.iload_n 2, 1) := zdec_at bX8_stepOther_224 15 rfl
theorem bX8_stepOther_253 : zdec cX8_stepOther 253 [(253, .iastore, 1), (254, .goto 205, 3), (257, .aload_n 0, 1), (258, .iload_n 3, 1), (259, .iload 4, 2), (261, .invokevirtual 824, 3), (264, .iload_n 1, 1), (265, .bipush 23, 2), (267, .if_icmp .ne 7, 3), (270, .iconst 1, 1), (271, .goto 4, 3), (274, .iconst 0, 1), (275, .if_icmp .ne 15, 3), (278, .aload_n 0, 1), (279, .iconst 1, 1), (280, .invokevirtual 882, 3)] = true := by decide +kernel
theorem dX8_stepOther_253 : decode cX8_stepOther 253 = .ok (.iastore, 1) := zdec_at bX8_stepOther_253 0 rfl
theorem dX8_stepOther_254 : decode cX8_stepOther 254 = .ok (.goto 205, 3) := zdec_at bX8_stepOther_253 1 rfl
theorem dX8_stepOther_257 : decode cX8_stepOther 257 = .ok (.aload_n 0, 1) := zdec_at bX8_stepOther_253 2 rfl
theorem dX8_stepOther_258 : decode cX8_stepOther 258 = .ok (.iload_n 3, 1) := zdec_at bX8_stepOther_253 3 rfl
theorem dX8_stepOther_259 : decode cX8_stepOther 259 = .ok (.iload 4, 2) := zdec_at bX8_stepOther_253 4 rfl
theorem dX8_stepOther_261 : decode cX8_stepOther 261 = .ok (.invokevirtual 824, 3) := zdec_at bX8_stepOther_253 5 rfl
theorem dX8_stepOther_264 : decode cX8_stepOther 264 = .ok (.iload_n 1, 1) := zdec_at bX8_stepOther_253 6 rfl
theorem dX8_stepOther_265 : decode cX8_stepOther 265 = .ok (.bipush 23, 2) := zdec_at bX8_stepOther_253 7 rfl
theorem dX8_stepOther_267 : decode cX8_stepOther 267 = .ok (.if_icmp .ne 7, 3) := zdec_at bX8_stepOther_253 8 rfl
theorem dX8_stepOther_270 : decode cX8_stepOther 270 = .ok (.iconst 1, 1) := zdec_at bX8_stepOther_253 9 rfl
theorem dX8_stepOther_271 : decode cX8_stepOther 271 = .ok (.goto 4, 3) := zdec_at bX8_stepOther_253 10 rfl
theorem dX8_stepOther_274 : decode cX8_stepOther 274 = .ok (.iconst 0, 1) := zdec_at bX8_stepOther_253 11 rfl
theorem dX8_stepOther_275 : decode cX8_stepOther 275 = .ok (.if_icmp .ne 15, 3) := zdec_at bX8_stepOther_253 12 rfl
theorem dX8_stepOther_278 : decode cX8_stepOther 278 = .ok (.aload_n 0, 1) := zdec_at bX8_stepOther_253 13 rfl
theorem dX8_stepOther_279 : decode cX8_stepOther 279 = .ok (.iconst 1, 1) := zdec_at bX8_stepOther_253 14 rfl
theorem dX8_stepOther_280 : decode cX8_stepOther 280 = .ok (.invokevirtual 882, 3) := zdec_at bX8_stepOther_253 15 rfl
theorem bX8_stepOther_283 : zdec cX8_stepOther 283 [(283, .aload_n 0, 1), (284, .invokevirtual 888, 3), (287, .goto 172, 3), (290, .aload_n 0, 1), (291, .getfield 182, 3), (294, .iload 5, 2), (296, .iload_n 2, 1), (297, .iastore, 1), (298, .goto 161, 3), (301, .aload_n 0, 1), (302, .iload_n 3, 1), (303, .iload 4, 2), (305, .invokevirtual 957, 3), (308, .goto 151, 3), (311, .aload_n 0, 1), (312, .iload_n 3, 1)] = true := by decide +kernel
theorem dX8_stepOther_283 : decode cX8_stepOther 283 = .ok (.aload_n 0, 1) := zdec_at bX8_stepOther_283 0 rfl
theorem dX8_stepOther_284 : decode cX8_stepOther 284 = .ok (.invokevirtual 888, 3) := zdec_at bX8_stepOther_283 1 rfl
theorem dX8_stepOther_287 : decode cX8_stepOther 287 = .ok (.goto 172, 3) := zdec_at bX8_stepOther_283 2 rfl
theorem dX8_stepOther_290 : decode cX8_stepOther 290 = .ok (.aload_n 0, 1) := zdec_at bX8_stepOther_283 3 rfl
theorem dX8_stepOther_291 : decode cX8_stepOther 291 = .ok (.getfield 182, 3) := zdec_at bX8_stepOther_283 4 rfl
theorem dX8_stepOther_294 : decode cX8_stepOther 294 = .ok (.iload 5, 2) := zdec_at bX8_stepOther_283 5 rfl
theorem dX8_stepOther_296 : decode cX8_stepOther 296 = .ok (.iload_n 2, 1) := zdec_at bX8_stepOther_283 6 rfl
theorem dX8_stepOther_297 : decode cX8_stepOther 297 = .ok (.iastore, 1) := zdec_at bX8_stepOther_283 7 rfl
theorem dX8_stepOther_298 : decode cX8_stepOther 298 = .ok (.goto 161, 3) := zdec_at bX8_stepOther_283 8 rfl
theorem dX8_stepOther_301 : decode cX8_stepOther 301 = .ok (.aload_n 0, 1) := zdec_at bX8_stepOther_283 9 rfl
theorem dX8_stepOther_302 : decode cX8_stepOther 302 = .ok (.iload_n 3, 1) := zdec_at bX8_stepOther_283 10 rfl
theorem dX8_stepOther_303 : decode cX8_stepOther 303 = .ok (.iload 4, 2) := zdec_at bX8_stepOther_283 11 rfl
theorem dX8_stepOther_305 : decode cX8_stepOther 305 = .ok (.invokevirtual 957, 3) := zdec_at bX8_stepOther_283 12 rfl
theorem dX8_stepOther_308 : decode cX8_stepOther 308 = .ok (.goto 151, 3) := zdec_at bX8_stepOther_283 13 rfl
theorem dX8_stepOther_311 : decode cX8_stepOther 311 = .ok (.aload_n 0, 1) := zdec_at bX8_stepOther_283 14 rfl
theorem dX8_stepOther_312 : decode cX8_stepOther 312 = .ok (.iload_n 3, 1) := zdec_at bX8_stepOther_283 15 rfl
theorem bX8_stepOther_313 : zdec cX8_stepOther 313 [(313, .iload 4, 2), (315, .invokevirtual 897, 3), (318, .goto 141, 3), (321, .aload_n 0, 1), (322, .getfield 194, 3), (325, .bipush 40, 2), (327, .iload 5, 2), (329, .imul, 1), (330, .aload_n 0, 1), (331, .getfield 191, 3), (334, .iload 5, 2), (336, .iaload, 1), (337, .iadd, 1), (338, .iload_n 2, 1), (339, .iastore, 1), (340, .aload_n 0, 1)] = true := by decide +kernel
theorem dX8_stepOther_313 : decode cX8_stepOther 313 = .ok (.iload 4, 2) := zdec_at bX8_stepOther_313 0 rfl
theorem dX8_stepOther_315 : decode cX8_stepOther 315 = .ok (.invokevirtual 897, 3) := zdec_at bX8_stepOther_313 1 rfl
theorem dX8_stepOther_318 : decode cX8_stepOther 318 = .ok (.goto 141, 3) := zdec_at bX8_stepOther_313 2 rfl
theorem dX8_stepOther_321 : decode cX8_stepOther 321 = .ok (.aload_n 0, 1) := zdec_at bX8_stepOther_313 3 rfl
theorem dX8_stepOther_322 : decode cX8_stepOther 322 = .ok (.getfield 194, 3) := zdec_at bX8_stepOther_313 4 rfl
theorem dX8_stepOther_325 : decode cX8_stepOther 325 = .ok (.bipush 40, 2) := zdec_at bX8_stepOther_313 5 rfl
theorem dX8_stepOther_327 : decode cX8_stepOther 327 = .ok (.iload 5, 2) := zdec_at bX8_stepOther_313 6 rfl
theorem dX8_stepOther_329 : decode cX8_stepOther 329 = .ok (.imul, 1) := zdec_at bX8_stepOther_313 7 rfl
theorem dX8_stepOther_330 : decode cX8_stepOther 330 = .ok (.aload_n 0, 1) := zdec_at bX8_stepOther_313 8 rfl
theorem dX8_stepOther_331 : decode cX8_stepOther 331 = .ok (.getfield 191, 3) := zdec_at bX8_stepOther_313 9 rfl
theorem dX8_stepOther_334 : decode cX8_stepOther 334 = .ok (.iload 5, 2) := zdec_at bX8_stepOther_313 10 rfl
theorem dX8_stepOther_336 : decode cX8_stepOther 336 = .ok (.iaload, 1) := zdec_at bX8_stepOther_313 11 rfl
theorem dX8_stepOther_337 : decode cX8_stepOther 337 = .ok (.iadd, 1) := zdec_at bX8_stepOther_313 12 rfl
theorem dX8_stepOther_338 : decode cX8_stepOther 338 = .ok (.iload_n 2, 1) := zdec_at bX8_stepOther_313 13 rfl
theorem dX8_stepOther_339 : decode cX8_stepOther 339 = .ok (.iastore, 1) := zdec_at bX8_stepOther_313 14 rfl
theorem dX8_stepOther_340 : decode cX8_stepOther 340 = .ok (.aload_n 0, 1) := zdec_at bX8_stepOther_313 15 rfl
theorem bX8_stepOther_341 : zdec cX8_stepOther 341 [(341, .getfield 197, 3), (344, .bipush 40, 2), (346, .iload 5, 2), (348, .imul, 1), (349, .aload_n 0, 1), (350, .getfield 191, 3), (353, .iload 5, 2), (355, .iaload, 1), (356, .iadd, 1), (357, .aload_n 0, 1), (358, .getfield 185, 3), (361, .iload 5, 2), (363, .iaload, 1), (364, .iastore, 1), (365, .aload_n 0, 1), (366, .getfield 191, 3)] = true := by decide +kernel
theorem dX8_stepOther_341 : decode cX8_stepOther 341 = .ok (.getfield 197, 3) := zdec_at bX8_stepOther_341 0 rfl
theorem dX8_stepOther_344 : decode cX8_stepOther 344 = .ok (.bipush 40, 2) := zdec_at bX8_stepOther_341 1 rfl
theorem dX8_stepOther_346 : decode cX8_stepOther 346 = .ok (.iload 5, 2) := zdec_at bX8_stepOther_341 2 rfl
theorem dX8_stepOther_348 : decode cX8_stepOther 348 = .ok (.imul, 1) := zdec_at bX8_stepOther_341 3 rfl
theorem dX8_stepOther_349 : decode cX8_stepOther 349 = .ok (.aload_n 0, 1) := zdec_at bX8_stepOther_341 4 rfl
theorem dX8_stepOther_350 : decode cX8_stepOther 350 = .ok (.getfield 191, 3) := zdec_at bX8_stepOther_341 5 rfl
theorem dX8_stepOther_353 : decode cX8_stepOther 353 = .ok (.iload 5, 2) := zdec_at bX8_stepOther_341 6 rfl
theorem dX8_stepOther_355 : decode cX8_stepOther 355 = .ok (.iaload, 1) := zdec_at bX8_stepOther_341 7 rfl
theorem dX8_stepOther_356 : decode cX8_stepOther 356 = .ok (.iadd, 1) := zdec_at bX8_stepOther_341 8 rfl
theorem dX8_stepOther_357 : decode cX8_stepOther 357 = .ok (.aload_n 0, 1) := zdec_at bX8_stepOther_341 9 rfl
theorem dX8_stepOther_358 : decode cX8_stepOther 358 = .ok (.getfield 185, 3) := zdec_at bX8_stepOther_341 10 rfl
theorem dX8_stepOther_361 : decode cX8_stepOther 361 = .ok (.iload 5, 2) := zdec_at bX8_stepOther_341 11 rfl
theorem dX8_stepOther_363 : decode cX8_stepOther 363 = .ok (.iaload, 1) := zdec_at bX8_stepOther_341 12 rfl
theorem dX8_stepOther_364 : decode cX8_stepOther 364 = .ok (.iastore, 1) := zdec_at bX8_stepOther_341 13 rfl
theorem dX8_stepOther_365 : decode cX8_stepOther 365 = .ok (.aload_n 0, 1) := zdec_at bX8_stepOther_341 14 rfl
theorem dX8_stepOther_366 : decode cX8_stepOther 366 = .ok (.getfield 191, 3) := zdec_at bX8_stepOther_341 15 rfl
theorem bX8_stepOther_369 : zdec cX8_stepOther 369 [(369, .iload 5, 2), (371, .dup2, 1), (372, .iaload, 1), (373, .iconst 1, 1), (374, .iadd, 1), (375, .iastore, 1), (376, .aload_n 0, 1), (377, .invokevirtual 888, 3), (380, .goto 79, 3), (383, .aload_n 0, 1), (384, .getfield 191, 3), (387, .iload 5, 2), (389, .dup2, 1), (390, .iaload, 1), (391, .iconst 1, 1), (392, .isub, 1)] = true := by decide +kernel
theorem dX8_stepOther_369 : decode cX8_stepOther 369 = .ok (.iload 5, 2) := zdec_at bX8_stepOther_369 0 rfl
theorem dX8_stepOther_371 : decode cX8_stepOther 371 = .ok (.dup2, 1) := zdec_at bX8_stepOther_369 1 rfl
theorem dX8_stepOther_372 : decode cX8_stepOther 372 = .ok (.iaload, 1) := zdec_at bX8_stepOther_369 2 rfl
theorem dX8_stepOther_373 : decode cX8_stepOther 373 = .ok (.iconst 1, 1) := zdec_at bX8_stepOther_369 3 rfl
theorem dX8_stepOther_374 : decode cX8_stepOther 374 = .ok (.iadd, 1) := zdec_at bX8_stepOther_369 4 rfl
theorem dX8_stepOther_375 : decode cX8_stepOther 375 = .ok (.iastore, 1) := zdec_at bX8_stepOther_369 5 rfl
theorem dX8_stepOther_376 : decode cX8_stepOther 376 = .ok (.aload_n 0, 1) := zdec_at bX8_stepOther_369 6 rfl
theorem dX8_stepOther_377 : decode cX8_stepOther 377 = .ok (.invokevirtual 888, 3) := zdec_at bX8_stepOther_369 7 rfl
theorem dX8_stepOther_380 : decode cX8_stepOther 380 = .ok (.goto 79, 3) := zdec_at bX8_stepOther_369 8 rfl
theorem dX8_stepOther_383 : decode cX8_stepOther 383 = .ok (.aload_n 0, 1) := zdec_at bX8_stepOther_369 9 rfl
theorem dX8_stepOther_384 : decode cX8_stepOther 384 = .ok (.getfield 191, 3) := zdec_at bX8_stepOther_369 10 rfl
theorem dX8_stepOther_387 : decode cX8_stepOther 387 = .ok (.iload 5, 2) := zdec_at bX8_stepOther_369 11 rfl
theorem dX8_stepOther_389 : decode cX8_stepOther 389 = .ok (.dup2, 1) := zdec_at bX8_stepOther_369 12 rfl
theorem dX8_stepOther_390 : decode cX8_stepOther 390 = .ok (.iaload, 1) := zdec_at bX8_stepOther_369 13 rfl
theorem dX8_stepOther_391 : decode cX8_stepOther 391 = .ok (.iconst 1, 1) := zdec_at bX8_stepOther_369 14 rfl
theorem dX8_stepOther_392 : decode cX8_stepOther 392 = .ok (.isub, 1) := zdec_at bX8_stepOther_369 15 rfl
theorem bX8_stepOther_393 : zdec cX8_stepOther 393 [(393, .iastore, 1), (394, .aload_n 0, 1), (395, .invokevirtual 888, 3), (398, .goto 61, 3), (401, .aload_n 0, 1), (402, .iconst 1, 1), (403, .invokevirtual 882, 3), (406, .aload_n 0, 1), (407, .getfield 206, 3), (410, .aload_n 0, 1), (411, .invokevirtual 879, 3), (414, .iconst 0, 1), (415, .iastore, 1), (416, .aload_n 0, 1), (417, .getfield 209, 3), (420, .aload_n 0, 1)] = true := by decide +kernel
theorem dX8_stepOther_393 : decode cX8_stepOther 393 = .ok (.iastore, 1) := zdec_at bX8_stepOther_393 0 rfl
theorem dX8_stepOther_394 : decode cX8_stepOther 394 = .ok (.aload_n 0, 1) := zdec_at bX8_stepOther_393 1 rfl
theorem dX8_stepOther_395 : decode cX8_stepOther 395 = .ok (.invokevirtual 888, 3) := zdec_at bX8_stepOther_393 2 rfl
theorem dX8_stepOther_398 : decode cX8_stepOther 398 = .ok (.goto 61, 3) := zdec_at bX8_stepOther_393 3 rfl
theorem dX8_stepOther_401 : decode cX8_stepOther 401 = .ok (.aload_n 0, 1) := zdec_at bX8_stepOther_393 4 rfl
theorem dX8_stepOther_402 : decode cX8_stepOther 402 = .ok (.iconst 1, 1) := zdec_at bX8_stepOther_393 5 rfl
theorem dX8_stepOther_403 : decode cX8_stepOther 403 = .ok (.invokevirtual 882, 3) := zdec_at bX8_stepOther_393 6 rfl
theorem dX8_stepOther_406 : decode cX8_stepOther 406 = .ok (.aload_n 0, 1) := zdec_at bX8_stepOther_393 7 rfl
theorem dX8_stepOther_407 : decode cX8_stepOther 407 = .ok (.getfield 206, 3) := zdec_at bX8_stepOther_393 8 rfl
theorem dX8_stepOther_410 : decode cX8_stepOther 410 = .ok (.aload_n 0, 1) := zdec_at bX8_stepOther_393 9 rfl
theorem dX8_stepOther_411 : decode cX8_stepOther 411 = .ok (.invokevirtual 879, 3) := zdec_at bX8_stepOther_393 10 rfl
theorem dX8_stepOther_414 : decode cX8_stepOther 414 = .ok (.iconst 0, 1) := zdec_at bX8_stepOther_393 11 rfl
theorem dX8_stepOther_415 : decode cX8_stepOther 415 = .ok (.iastore, 1) := zdec_at bX8_stepOther_393 12 rfl
theorem dX8_stepOther_416 : decode cX8_stepOther 416 = .ok (.aload_n 0, 1) := zdec_at bX8_stepOther_393 13 rfl
theorem dX8_stepOther_417 : decode cX8_stepOther 417 = .ok (.getfield 209, 3) := zdec_at bX8_stepOther_393 14 rfl
theorem dX8_stepOther_420 : decode cX8_stepOther 420 = .ok (.aload_n 0, 1) := zdec_at bX8_stepOther_393 15 rfl
theorem bX8_stepOther_421 : zdec cX8_stepOther 421 [(421, .invokevirtual 879, 3), (424, .aload_n 0, 1), (425, .getfield 855, 3), (428, .iastore, 1), (429, .aload_n 0, 1), (430, .bipush 8, 2), (432, .iload_n 3, 1), (433, .bipush 7, 2), (435, .if_icmp .ne 8, 3), (438, .iload 4, 2), (440, .goto 4, 3), (443, .iconst (-1), 1), (444, .invokevirtual 885, 3), (447, .aload_n 0, 1), (448, .invokevirtual 888, 3), (451, .goto 8, 3)] = true := by decide +kernel
theorem dX8_stepOther_421 : decode cX8_stepOther 421 = .ok (.invokevirtual 879, 3) := zdec_at bX8_stepOther_421 0 rfl
theorem dX8_stepOther_424 : decode cX8_stepOther 424 = .ok (.aload_n 0, 1) := zdec_at bX8_stepOther_421 1 rfl
theorem dX8_stepOther_425 : decode cX8_stepOther 425 = .ok (.getfield 855, 3) := zdec_at bX8_stepOther_421 2 rfl
theorem dX8_stepOther_428 : decode cX8_stepOther 428 = .ok (.iastore, 1) := zdec_at bX8_stepOther_421 3 rfl
theorem dX8_stepOther_429 : decode cX8_stepOther 429 = .ok (.aload_n 0, 1) := zdec_at bX8_stepOther_421 4 rfl
theorem dX8_stepOther_430 : decode cX8_stepOther 430 = .ok (.bipush 8, 2) := zdec_at bX8_stepOther_421 5 rfl
theorem dX8_stepOther_432 : decode cX8_stepOther 432 = .ok (.iload_n 3, 1) := zdec_at bX8_stepOther_421 6 rfl
theorem dX8_stepOther_433 : decode cX8_stepOther 433 = .ok (.bipush 7, 2) := zdec_at bX8_stepOther_421 7 rfl
theorem dX8_stepOther_435 : decode cX8_stepOther 435 = .ok (.if_icmp .ne 8, 3) := zdec_at bX8_stepOther_421 8 rfl
theorem dX8_stepOther_438 : decode cX8_stepOther 438 = .ok (.iload 4, 2) := zdec_at bX8_stepOther_421 9 rfl
theorem dX8_stepOther_440 : decode cX8_stepOther 440 = .ok (.goto 4, 3) := zdec_at bX8_stepOther_421 10 rfl
theorem dX8_stepOther_443 : decode cX8_stepOther 443 = .ok (.iconst (-1), 1) := zdec_at bX8_stepOther_421 11 rfl
theorem dX8_stepOther_444 : decode cX8_stepOther 444 = .ok (.invokevirtual 885, 3) := zdec_at bX8_stepOther_421 12 rfl
theorem dX8_stepOther_447 : decode cX8_stepOther 447 = .ok (.aload_n 0, 1) := zdec_at bX8_stepOther_421 13 rfl
theorem dX8_stepOther_448 : decode cX8_stepOther 448 = .ok (.invokevirtual 888, 3) := zdec_at bX8_stepOther_421 14 rfl
theorem dX8_stepOther_451 : decode cX8_stepOther 451 = .ok (.goto 8, 3) := zdec_at bX8_stepOther_421 15 rfl
theorem bX8_stepOther_454 : zdec cX8_stepOther 454 [(454, .aload_n 0, 1), (455, .iload_n 2, 1), (456, .invokevirtual 960, 3), (459, .return_, 1)] = true := by decide +kernel
theorem dX8_stepOther_454 : decode cX8_stepOther 454 = .ok (.aload_n 0, 1) := zdec_at bX8_stepOther_454 0 rfl
theorem dX8_stepOther_455 : decode cX8_stepOther 455 = .ok (.iload_n 2, 1) := zdec_at bX8_stepOther_454 1 rfl
theorem dX8_stepOther_456 : decode cX8_stepOther 456 = .ok (.invokevirtual 960, 3) := zdec_at bX8_stepOther_454 2 rfl
theorem dX8_stepOther_459 : decode cX8_stepOther 459 = .ok (.return_, 1) := zdec_at bX8_stepOther_454 3 rfl
theorem sX8_stepOther_0 {E : zE} {d : Nat} {Q : zO → zM → Prop} (M : zM) (l1 : Int32) (l2 : Int32) (k : if l1 = (21 : Int32) then (Zm E YX8_stepOther (d + 1) M [(0, vr (some (97, 1, 0))), (1, vi l1), (2, vi l2)] 27 [vi (0 : Int32)] Q) else (if l1 = (27 : Int32) then (Zm E YX8_stepOther (d + 1) M [(0, vr (some (97, 1, 0))), (1, vi l1), (2, vi l2)] 27 [vi (0 : Int32)] Q) else (if l1 = (28 : Int32) then (Zm E YX8_stepOther (d + 1) M [(0, vr (some (97, 1, 0))), (1, vi l1), (2, vi l2)] 27 [vi (0 : Int32)] Q) else (Zm E YX8_sortAt d M (zargs 0 [vr (some (97, 1, 0)), vi (0 : Int32)]) 0 [] (zma E YX8_stepOther (d + 1) [(0, vr (some (97, 1, 0))), (1, vi l1), (2, vi l2)] 24 3 [] Q))))) : Zm E YX8_stepOther (d + 1) M [(0, vr (some (97, 1, 0))), (1, vi l1), (2, vi l2)] 0 [] Q := by
  refine Zm.l (fun _ _ k_ => z_iload_n dX8_stepOther_0 rfl rfl k_) ?_
  refine Zm.l (fun _ _ k_ => z_bipush (v := 21) dX8_stepOther_1 rfl k_) ?_
  refine Zm.br (fun _ _ k1_ k2_ => z_icmp_eq (tgt := 18) dX8_stepOther_3 rfl k1_ k2_) (fun h_ => ?_) (fun h_ => ?_)
  · have k := zit h_ k
    refine Zm.l (fun _ _ k_ => z_iconst (v := 0) dX8_stepOther_18 rfl k_) ?_
    refine Zm.l (fun _ _ k_ => z_goto (tgt := 27) dX8_stepOther_19 rfl k_) ?_
    exact k
  · have k := zif h_ k
    refine Zm.l (fun _ _ k_ => z_iload_n dX8_stepOther_6 rfl rfl k_) ?_
    refine Zm.l (fun _ _ k_ => z_bipush (v := 27) dX8_stepOther_7 rfl k_) ?_
    refine Zm.br (fun _ _ k1_ k2_ => z_icmp_eq (tgt := 18) dX8_stepOther_9 rfl k1_ k2_) (fun h_ => ?_) (fun h_ => ?_)
    · have k := zit h_ k
      refine Zm.l (fun _ _ k_ => z_iconst (v := 0) dX8_stepOther_18 rfl k_) ?_
      refine Zm.l (fun _ _ k_ => z_goto (tgt := 27) dX8_stepOther_19 rfl k_) ?_
      exact k
    · have k := zif h_ k
      refine Zm.l (fun _ _ k_ => z_iload_n dX8_stepOther_12 rfl rfl k_) ?_
      refine Zm.l (fun _ _ k_ => z_bipush (v := 28) dX8_stepOther_13 rfl k_) ?_
      refine Zm.brn (fun _ _ k1_ k2_ => z_icmp_ne (tgt := 22) dX8_stepOther_15 rfl k1_ k2_) (fun h_ => ?_) (fun h_ => ?_)
      · have k := zif h_ k
        refine Zm.l (fun _ _ k_ => z_aload_n dX8_stepOther_22 rfl rfl k_) ?_
        refine Zm.l (fun _ _ k_ => z_iconst (v := 0) dX8_stepOther_23 rfl k_) ?_
        exact zm_callV (as := [vi (0 : Int32)]) (st := []) dX8_stepOther_24 vsX8_910_1 (Nat.le_refl _) (Nat.le_of_ble_eq_true rfl) (Nat.le_of_ble_eq_true rfl) rfl k
      · have k := zit h_ k
        refine Zm.l (fun _ _ k_ => z_iconst (v := 0) dX8_stepOther_18 rfl k_) ?_
        refine Zm.l (fun _ _ k_ => z_goto (tgt := 27) dX8_stepOther_19 rfl k_) ?_
        exact k
theorem sX8_stepOther_27 {E : zE} {d : Nat} {Q : zO → zM → Prop} (M : zM) (l1 : Int32) (l2 : Int32) (s0 : Int32) (k : if l1 = (21 : Int32) then (Zm E YX8_stepOther (d + 1) M [(0, vr (some (97, 1, 0))), (1, vi l1), (2, vi l2), (3, vi s0)] 55 [vi (0 : Int32)] Q) else (if l1 = (27 : Int32) then (Zm E YX8_stepOther (d + 1) M [(0, vr (some (97, 1, 0))), (1, vi l1), (2, vi l2), (3, vi s0)] 55 [vi (0 : Int32)] Q) else (if l1 = (28 : Int32) then (Zm E YX8_stepOther (d + 1) M [(0, vr (some (97, 1, 0))), (1, vi l1), (2, vi l2), (3, vi s0)] 55 [vi (0 : Int32)] Q) else (Zm E YX8_valueAt d M (zargs 0 [vr (some (97, 1, 0)), vi (0 : Int32)]) 0 [] (zma E YX8_stepOther (d + 1) [(0, vr (some (97, 1, 0))), (1, vi l1), (2, vi l2), (3, vi s0)] 52 3 [] Q))))) : Zm E YX8_stepOther (d + 1) M [(0, vr (some (97, 1, 0))), (1, vi l1), (2, vi l2)] 27 [vi s0] Q := by
  refine Zm.l (fun _ _ k_ => z_ist_n dX8_stepOther_27 rfl (by decide) (lv' := [(0, vr (some (97, 1, 0))), (1, vi l1), (2, vi l2), (3, vi s0)]) rfl k_) ?_
  refine Zm.l (fun _ _ k_ => z_iload_n dX8_stepOther_28 rfl rfl k_) ?_
  refine Zm.l (fun _ _ k_ => z_bipush (v := 21) dX8_stepOther_29 rfl k_) ?_
  refine Zm.br (fun _ _ k1_ k2_ => z_icmp_eq (tgt := 46) dX8_stepOther_31 rfl k1_ k2_) (fun h_ => ?_) (fun h_ => ?_)
  · have k := zit h_ k
    refine Zm.l (fun _ _ k_ => z_iconst (v := 0) dX8_stepOther_46 rfl k_) ?_
    refine Zm.l (fun _ _ k_ => z_goto (tgt := 55) dX8_stepOther_47 rfl k_) ?_
    exact k
  · have k := zif h_ k
    refine Zm.l (fun _ _ k_ => z_iload_n dX8_stepOther_34 rfl rfl k_) ?_
    refine Zm.l (fun _ _ k_ => z_bipush (v := 27) dX8_stepOther_35 rfl k_) ?_
    refine Zm.br (fun _ _ k1_ k2_ => z_icmp_eq (tgt := 46) dX8_stepOther_37 rfl k1_ k2_) (fun h_ => ?_) (fun h_ => ?_)
    · have k := zit h_ k
      refine Zm.l (fun _ _ k_ => z_iconst (v := 0) dX8_stepOther_46 rfl k_) ?_
      refine Zm.l (fun _ _ k_ => z_goto (tgt := 55) dX8_stepOther_47 rfl k_) ?_
      exact k
    · have k := zif h_ k
      refine Zm.l (fun _ _ k_ => z_iload_n dX8_stepOther_40 rfl rfl k_) ?_
      refine Zm.l (fun _ _ k_ => z_bipush (v := 28) dX8_stepOther_41 rfl k_) ?_
      refine Zm.brn (fun _ _ k1_ k2_ => z_icmp_ne (tgt := 50) dX8_stepOther_43 rfl k1_ k2_) (fun h_ => ?_) (fun h_ => ?_)
      · have k := zif h_ k
        refine Zm.l (fun _ _ k_ => z_aload_n dX8_stepOther_50 rfl rfl k_) ?_
        refine Zm.l (fun _ _ k_ => z_iconst (v := 0) dX8_stepOther_51 rfl k_) ?_
        exact zm_callV (as := [vi (0 : Int32)]) (st := []) dX8_stepOther_52 vsX8_913_1 (Nat.le_refl _) (Nat.le_of_ble_eq_true rfl) (Nat.le_of_ble_eq_true rfl) rfl k
      · have k := zit h_ k
        refine Zm.l (fun _ _ k_ => z_iconst (v := 0) dX8_stepOther_46 rfl k_) ?_
        refine Zm.l (fun _ _ k_ => z_goto (tgt := 55) dX8_stepOther_47 rfl k_) ?_
        exact k
theorem sX8_stepOther_55 {E : zE} {d : Nat} {Q : zO → zM → Prop} (M : zM) (l1 : Int32) (l2 : Int32) (l3 : Int32) (s0 : Int32) (k : if l1 = 17 then (Zm E YX8_drop d M (zargs 0 [vr (some (97, 1, 0)), vi (1 : Int32)]) 0 [] (zma E YX8_stepOther (d + 1) [(0, vr (some (97, 1, 0)))] 134 3 [] Q)) else (if l1 = 18 then (Zm E YX8_push d M (zargs 0 [vr (some (97, 1, 0)), vi l3, vi s0]) 0 [] (zma E YX8_stepOther (d + 1) [(0, vr (some (97, 1, 0)))] 148 3 [] Q)) else (if l1 = 19 then (Zm E YX8_sortAt d M (zargs 0 [vr (some (97, 1, 0)), vi (1 : Int32)]) 0 [] (zma E YX8_stepOther (d + 1) [(0, vr (some (97, 1, 0))), (3, vi l3), (4, vi s0)] 160 3 [] Q)) else (if l1 = 20 then (Zm E YX8_under d M (zargs 0 [vr (some (97, 1, 0)), vi l3, vi s0]) 0 [] (zma E YX8_stepOther (d + 1) [(0, vr (some (97, 1, 0)))] 198 3 [] Q)) else (if l1 = 21 then (vp_in ((gi M 97 92) - (1 : Int32)) 24 ∧ (Zm E YX8_stepOther (d + 1) (si M 154 (((gi M 97 92) - (1 : Int32))).toNatClampNeg l2) [] 459 [] Q)) else (if l1 = 22 then (Zm E YX8_drop d M (zargs 0 [vr (some (97, 1, 0)), vi (1 : Int32)]) 0 [] (zma E YX8_stepOther (d + 1) [(0, vr (some (97, 1, 0))), (2, vi l2), (3, vi l3), (4, vi s0), (5, vi ((gi M 97 92) - (1 : Int32)))] 221 3 [] Q)) else (if l1 = 23 then (Zm E YX8_isTrue d M (zargs 0 [vr (some (97, 1, 0)), vi l3, vi s0]) 0 [] (zma E YX8_stepOther (d + 1) [(0, vr (some (97, 1, 0))), (1, vi l1), (2, vi l2), (5, vi ((gi M 97 92) - (1 : Int32)))] 261 3 [] Q)) else (if l1 = 24 then (Zm E YX8_isTrue d M (zargs 0 [vr (some (97, 1, 0)), vi l3, vi s0]) 0 [] (zma E YX8_stepOther (d + 1) [(0, vr (some (97, 1, 0))), (1, vi l1), (2, vi l2), (5, vi ((gi M 97 92) - (1 : Int32)))] 261 3 [] Q)) else (if l1 = 25 then (Zm E YX8_goBack d M (zargs 0 [vr (some (97, 1, 0)), vi l3, vi s0]) 0 [] (zma E YX8_stepOther (d + 1) [] 305 3 [] Q)) else (if l1 = 26 then (Zm E YX8_toss_2 d M (zargs 0 [vr (some (97, 1, 0)), vi l3, vi s0]) 0 [] (zma E YX8_stepOther (d + 1) [] 315 3 [] Q)) else (if l1 = 27 then (vp_in ((gi M 97 92) - (1 : Int32)) 24 ∧ (vp_in (((40 : Int32) * ((gi M 97 92) - (1 : Int32))) + (gi M 157 (((gi M 97 92) - (1 : Int32))).toNatClampNeg)) 960 ∧ (vp_in ((gi M 97 92) - (1 : Int32)) 24 ∧ (vp_in ((gi M 97 92) - (1 : Int32)) 24 ∧ (vp_in (((40 : Int32) * ((gi M 97 92) - (1 : Int32))) + (gi M 157 (((gi M 97 92) - (1 : Int32))).toNatClampNeg)) 960 ∧ (vp_in ((gi M 97 92) - (1 : Int32)) 24 ∧ (vp_in ((gi M 97 92) - (1 : Int32)) 24 ∧ (Zm E YX8_goOn d (si (si (si M 158 ((((40 : Int32) * ((gi M 97 92) - (1 : Int32))) + (gi M 157 (((gi M 97 92) - (1 : Int32))).toNatClampNeg))).toNatClampNeg l2) 159 ((((40 : Int32) * ((gi M 97 92) - (1 : Int32))) + (gi M 157 (((gi M 97 92) - (1 : Int32))).toNatClampNeg))).toNatClampNeg (gi M 155 (((gi M 97 92) - (1 : Int32))).toNatClampNeg)) 157 (((gi M 97 92) - (1 : Int32))).toNatClampNeg ((gi M 157 (((gi M 97 92) - (1 : Int32))).toNatClampNeg) + (1 : Int32))) (zargs 0 [vr (some (97, 1, 0))]) 0 [] (zma E YX8_stepOther (d + 1) [] 377 3 [] Q))))))))) else (if l1 = 28 then (vp_in ((gi M 97 92) - (1 : Int32)) 24 ∧ (vp_in ((gi M 97 92) - (1 : Int32)) 24 ∧ (Zm E YX8_goOn d (si M 157 (((gi M 97 92) - (1 : Int32))).toNatClampNeg ((gi M 157 (((gi M 97 92) - (1 : Int32))).toNatClampNeg) - (1 : Int32))) (zargs 0 [vr (some (97, 1, 0))]) 0 [] (zma E YX8_stepOther (d + 1) [] 395 3 [] Q)))) else (if l1 = 29 then (Zm E YX8_drop d M (zargs 0 [vr (some (97, 1, 0)), vi (1 : Int32)]) 0 [] (zma E YX8_stepOther (d + 1) [(0, vr (some (97, 1, 0))), (3, vi l3), (4, vi s0)] 403 3 [] Q)) else (Zm E YX8_goNext d M (zargs 0 [vr (some (97, 1, 0)), vi l2]) 0 [] (zma E YX8_stepOther (d + 1) [] 456 3 [] Q))))))))))))))) : Zm E YX8_stepOther (d + 1) M [(0, vr (some (97, 1, 0))), (1, vi l1), (2, vi l2), (3, vi l3)] 55 [vi s0] Q := by
  refine Zm.l (fun _ _ k_ => z_ist dX8_stepOther_55 (by decide) (lv' := [(0, vr (some (97, 1, 0))), (1, vi l1), (2, vi l2), (3, vi l3), (4, vi s0)]) rfl k_) ?_
  refine Zm.l (fun _ _ k_ => z_aload_n dX8_stepOther_57 rfl rfl k_) ?_
  refine zm_geti dX8_stepOther_58 fsX8_872_1 (by decide) (by decide) ?_
  refine Zm.l (fun _ _ k_ => z_iconst (v := 1) dX8_stepOther_61 rfl k_) ?_
  refine Zm.l (fun _ _ k_ => z_isub dX8_stepOther_62 k_) ?_
  refine Zm.l (fun _ _ k_ => z_ist dX8_stepOther_63 (by decide) (lv' := [(0, vr (some (97, 1, 0))), (1, vi l1), (2, vi l2), (3, vi l3), (4, vi s0), (5, vi ((gi M 97 92) - (1 : Int32)))]) rfl k_) ?_
  refine Zm.l (fun _ _ k_ => z_iload_n dX8_stepOther_65 rfl rfl k_) ?_
  by_cases h0_ : l1 = 17
  · have k := zit h0_ k
    refine Zm.l (fun _ _ k_ => z_tableIn (off := 66) (tgt := 132) dX8_stepOther_66 (by rw [h0_]; decide) (by rw [h0_]; decide) (by rw [h0_]; rfl) rfl k_) ?_
    refine Zm.l (fun _ _ k_ => z_aload_n dX8_stepOther_132 rfl rfl k_) ?_
    refine Zm.l (fun _ _ k_ => z_iconst (v := 1) dX8_stepOther_133 rfl k_) ?_
    refine Zm.pick [0] rfl ?_
    exact zm_callV (as := [vi (1 : Int32)]) (st := []) dX8_stepOther_134 vsX8_882_1 (Nat.le_refl _) (Nat.le_of_ble_eq_true rfl) (Nat.le_of_ble_eq_true rfl) rfl k
  · have k := zif h0_ k
    by_cases h1_ : l1 = 18
    · have k := zit h1_ k
      refine Zm.l (fun _ _ k_ => z_tableIn (off := 78) (tgt := 144) dX8_stepOther_66 (by rw [h1_]; decide) (by rw [h1_]; decide) (by rw [h1_]; rfl) rfl k_) ?_
      refine Zm.l (fun _ _ k_ => z_aload_n dX8_stepOther_144 rfl rfl k_) ?_
      refine Zm.l (fun _ _ k_ => z_iload_n dX8_stepOther_145 rfl rfl k_) ?_
      refine Zm.l (fun _ _ k_ => z_iload dX8_stepOther_146 rfl k_) ?_
      refine Zm.pick [0] rfl ?_
      exact zm_callV (as := [vi l3, vi s0]) (st := []) dX8_stepOther_148 vsX8_885_1 (Nat.le_refl _) (Nat.le_of_ble_eq_true rfl) (Nat.le_of_ble_eq_true rfl) rfl k
    · have k := zif h1_ k
      by_cases h2_ : l1 = 19
      · have k := zit h2_ k
        refine Zm.l (fun _ _ k_ => z_tableIn (off := 92) (tgt := 158) dX8_stepOther_66 (by rw [h2_]; decide) (by rw [h2_]; decide) (by rw [h2_]; rfl) rfl k_) ?_
        refine Zm.l (fun _ _ k_ => z_aload_n dX8_stepOther_158 rfl rfl k_) ?_
        refine Zm.l (fun _ _ k_ => z_iconst (v := 1) dX8_stepOther_159 rfl k_) ?_
        refine Zm.pick [0, 3, 4] rfl ?_
        exact zm_callV (as := [vi (1 : Int32)]) (st := []) dX8_stepOther_160 vsX8_910_1 (Nat.le_refl _) (Nat.le_of_ble_eq_true rfl) (Nat.le_of_ble_eq_true rfl) rfl k
      · have k := zif h2_ k
        by_cases h3_ : l1 = 20
        · have k := zit h3_ k
          refine Zm.l (fun _ _ k_ => z_tableIn (off := 128) (tgt := 194) dX8_stepOther_66 (by rw [h3_]; decide) (by rw [h3_]; decide) (by rw [h3_]; rfl) rfl k_) ?_
          refine Zm.l (fun _ _ k_ => z_aload_n dX8_stepOther_194 rfl rfl k_) ?_
          refine Zm.l (fun _ _ k_ => z_iload_n dX8_stepOther_195 rfl rfl k_) ?_
          refine Zm.l (fun _ _ k_ => z_iload dX8_stepOther_196 rfl k_) ?_
          refine Zm.pick [0] rfl ?_
          exact zm_callV (as := [vi l3, vi s0]) (st := []) dX8_stepOther_198 vsX8_954_1 (Nat.le_refl _) (Nat.le_of_ble_eq_true rfl) (Nat.le_of_ble_eq_true rfl) rfl k
        · have k := zif h3_ k
          by_cases h4_ : l1 = 21
          · have k := zit h4_ k
            refine Zm.l (fun _ _ k_ => z_tableIn (off := 142) (tgt := 208) dX8_stepOther_66 (by rw [h4_]; decide) (by rw [h4_]; decide) (by rw [h4_]; rfl) rfl k_) ?_
            refine Zm.l (fun _ _ k_ => z_aload_n dX8_stepOther_208 rfl rfl k_) ?_
            refine zm_getr 51 dX8_stepOther_209 fsX8_182_1 rfl ?_
            refine Zm.l (fun _ _ k_ => z_iload dX8_stepOther_212 rfl k_) ?_
            refine Zm.l (fun _ _ k_ => z_iload_n dX8_stepOther_214 rfl rfl k_) ?_
            obtain ⟨b_, k⟩ := k
            refine zm_iast dX8_stepOther_215 b_ (by decide) (by decide) ?_
            refine Zm.l (fun _ _ k_ => z_goto (tgt := 459) dX8_stepOther_216 rfl k_) ?_
            refine Zm.pick [] rfl ?_
            exact k
          · have k := zif h4_ k
            by_cases h5_ : l1 = 22
            · have k := zit h5_ k
              refine Zm.l (fun _ _ k_ => z_tableIn (off := 153) (tgt := 219) dX8_stepOther_66 (by rw [h5_]; decide) (by rw [h5_]; decide) (by rw [h5_]; rfl) rfl k_) ?_
              refine Zm.l (fun _ _ k_ => z_aload_n dX8_stepOther_219 rfl rfl k_) ?_
              refine Zm.l (fun _ _ k_ => z_iconst (v := 1) dX8_stepOther_220 rfl k_) ?_
              refine Zm.pick [0, 2, 3, 4, 5] rfl ?_
              exact zm_callV (as := [vi (1 : Int32)]) (st := []) dX8_stepOther_221 vsX8_882_1 (Nat.le_refl _) (Nat.le_of_ble_eq_true rfl) (Nat.le_of_ble_eq_true rfl) rfl k
            · have k := zif h5_ k
              by_cases h6_ : l1 = 23
              · have k := zit h6_ k
                refine Zm.l (fun _ _ k_ => z_tableIn (off := 191) (tgt := 257) dX8_stepOther_66 (by rw [h6_]; decide) (by rw [h6_]; decide) (by rw [h6_]; rfl) rfl k_) ?_
                refine Zm.l (fun _ _ k_ => z_aload_n dX8_stepOther_257 rfl rfl k_) ?_
                refine Zm.l (fun _ _ k_ => z_iload_n dX8_stepOther_258 rfl rfl k_) ?_
                refine Zm.l (fun _ _ k_ => z_iload dX8_stepOther_259 rfl k_) ?_
                refine Zm.pick [0, 1, 2, 5] rfl ?_
                exact zm_callV (as := [vi l3, vi s0]) (st := []) dX8_stepOther_261 vsX8_824_1 (Nat.le_refl _) (Nat.le_of_ble_eq_true rfl) (Nat.le_of_ble_eq_true rfl) rfl k
              · have k := zif h6_ k
                by_cases h7_ : l1 = 24
                · have k := zit h7_ k
                  refine Zm.l (fun _ _ k_ => z_tableIn (off := 191) (tgt := 257) dX8_stepOther_66 (by rw [h7_]; decide) (by rw [h7_]; decide) (by rw [h7_]; rfl) rfl k_) ?_
                  refine Zm.l (fun _ _ k_ => z_aload_n dX8_stepOther_257 rfl rfl k_) ?_
                  refine Zm.l (fun _ _ k_ => z_iload_n dX8_stepOther_258 rfl rfl k_) ?_
                  refine Zm.l (fun _ _ k_ => z_iload dX8_stepOther_259 rfl k_) ?_
                  refine Zm.pick [0, 1, 2, 5] rfl ?_
                  exact zm_callV (as := [vi l3, vi s0]) (st := []) dX8_stepOther_261 vsX8_824_1 (Nat.le_refl _) (Nat.le_of_ble_eq_true rfl) (Nat.le_of_ble_eq_true rfl) rfl k
                · have k := zif h7_ k
                  by_cases h8_ : l1 = 25
                  · have k := zit h8_ k
                    refine Zm.l (fun _ _ k_ => z_tableIn (off := 235) (tgt := 301) dX8_stepOther_66 (by rw [h8_]; decide) (by rw [h8_]; decide) (by rw [h8_]; rfl) rfl k_) ?_
                    refine Zm.l (fun _ _ k_ => z_aload_n dX8_stepOther_301 rfl rfl k_) ?_
                    refine Zm.l (fun _ _ k_ => z_iload_n dX8_stepOther_302 rfl rfl k_) ?_
                    refine Zm.l (fun _ _ k_ => z_iload dX8_stepOther_303 rfl k_) ?_
                    refine Zm.pick [] rfl ?_
                    exact zm_callV (as := [vi l3, vi s0]) (st := []) dX8_stepOther_305 vsX8_957_1 (Nat.le_refl _) (Nat.le_of_ble_eq_true rfl) (Nat.le_of_ble_eq_true rfl) rfl k
                  · have k := zif h8_ k
                    by_cases h9_ : l1 = 26
                    · have k := zit h9_ k
                      refine Zm.l (fun _ _ k_ => z_tableIn (off := 245) (tgt := 311) dX8_stepOther_66 (by rw [h9_]; decide) (by rw [h9_]; decide) (by rw [h9_]; rfl) rfl k_) ?_
                      refine Zm.l (fun _ _ k_ => z_aload_n dX8_stepOther_311 rfl rfl k_) ?_
                      refine Zm.l (fun _ _ k_ => z_iload_n dX8_stepOther_312 rfl rfl k_) ?_
                      refine Zm.l (fun _ _ k_ => z_iload dX8_stepOther_313 rfl k_) ?_
                      refine Zm.pick [] rfl ?_
                      exact zm_callV (as := [vi l3, vi s0]) (st := []) dX8_stepOther_315 vsX8_897_1 (Nat.le_refl _) (Nat.le_of_ble_eq_true rfl) (Nat.le_of_ble_eq_true rfl) rfl k
                    · have k := zif h9_ k
                      by_cases h10_ : l1 = 27
                      · have k := zit h10_ k
                        refine Zm.l (fun _ _ k_ => z_tableIn (off := 255) (tgt := 321) dX8_stepOther_66 (by rw [h10_]; decide) (by rw [h10_]; decide) (by rw [h10_]; rfl) rfl k_) ?_
                        refine Zm.l (fun _ _ k_ => z_aload_n dX8_stepOther_321 rfl rfl k_) ?_
                        refine zm_getr 55 dX8_stepOther_322 fsX8_194_1 rfl ?_
                        refine Zm.l (fun _ _ k_ => z_bipush (v := 40) dX8_stepOther_325 rfl k_) ?_
                        refine Zm.l (fun _ _ k_ => z_iload dX8_stepOther_327 rfl k_) ?_
                        refine Zm.l (fun _ _ k_ => z_imul dX8_stepOther_329 k_) ?_
                        refine Zm.l (fun _ _ k_ => z_aload_n dX8_stepOther_330 rfl rfl k_) ?_
                        refine zm_getr 54 dX8_stepOther_331 fsX8_191_1 rfl ?_
                        refine Zm.l (fun _ _ k_ => z_iload dX8_stepOther_334 rfl k_) ?_
                        obtain ⟨b_, k⟩ := k
                        refine zm_iald dX8_stepOther_336 b_ (by decide) (by decide) ?_
                        refine Zm.l (fun _ _ k_ => z_iadd dX8_stepOther_337 k_) ?_
                        refine Zm.l (fun _ _ k_ => z_iload_n dX8_stepOther_338 rfl rfl k_) ?_
                        obtain ⟨b_, k⟩ := k
                        refine zm_iast dX8_stepOther_339 b_ (by decide) (by decide) ?_
                        refine Zm.l (fun _ _ k_ => z_aload_n dX8_stepOther_340 rfl rfl k_) ?_
                        refine zm_getr 56 dX8_stepOther_341 fsX8_197_1 rfl ?_
                        refine Zm.l (fun _ _ k_ => z_bipush (v := 40) dX8_stepOther_344 rfl k_) ?_
                        refine Zm.l (fun _ _ k_ => z_iload dX8_stepOther_346 rfl k_) ?_
                        refine Zm.l (fun _ _ k_ => z_imul dX8_stepOther_348 k_) ?_
                        refine Zm.l (fun _ _ k_ => z_aload_n dX8_stepOther_349 rfl rfl k_) ?_
                        refine zm_getr 54 dX8_stepOther_350 fsX8_191_1 rfl ?_
                        refine Zm.l (fun _ _ k_ => z_iload dX8_stepOther_353 rfl k_) ?_
                        obtain ⟨b_, k⟩ := k
                        refine zm_iald dX8_stepOther_355 b_ (by decide) (by decide) ?_
                        refine Zm.l (fun _ _ k_ => z_iadd dX8_stepOther_356 k_) ?_
                        refine Zm.l (fun _ _ k_ => z_aload_n dX8_stepOther_357 rfl rfl k_) ?_
                        refine zm_getr 52 dX8_stepOther_358 fsX8_185_1 rfl ?_
                        refine Zm.l (fun _ _ k_ => z_iload dX8_stepOther_361 rfl k_) ?_
                        obtain ⟨b_, k⟩ := k
                        refine zm_iald dX8_stepOther_363 b_ (by decide) (by decide) ?_
                        obtain ⟨b_, k⟩ := k
                        refine zm_iast dX8_stepOther_364 b_ (by decide) (by decide) ?_
                        refine Zm.l (fun _ _ k_ => z_aload_n dX8_stepOther_365 rfl rfl k_) ?_
                        refine zm_getr 54 dX8_stepOther_366 fsX8_191_1 rfl ?_
                        refine Zm.l (fun _ _ k_ => z_iload dX8_stepOther_369 rfl k_) ?_
                        refine Zm.l (fun _ _ k_ => z_dup2 dX8_stepOther_371 rfl rfl k_) ?_
                        obtain ⟨b_, k⟩ := k
                        refine zm_iald dX8_stepOther_372 b_ (by decide) (by decide) ?_
                        refine Zm.l (fun _ _ k_ => z_iconst (v := 1) dX8_stepOther_373 rfl k_) ?_
                        refine Zm.l (fun _ _ k_ => z_iadd dX8_stepOther_374 k_) ?_
                        obtain ⟨b_, k⟩ := k
                        refine zm_iast dX8_stepOther_375 b_ (by decide) (by decide) ?_
                        refine Zm.l (fun _ _ k_ => z_aload_n dX8_stepOther_376 rfl rfl k_) ?_
                        refine Zm.pick [] rfl ?_
                        exact zm_callV (as := []) (st := []) dX8_stepOther_377 vsX8_888_1 (Nat.le_refl _) (Nat.le_of_ble_eq_true rfl) (Nat.le_of_ble_eq_true rfl) rfl k
                      · have k := zif h10_ k
                        by_cases h11_ : l1 = 28
                        · have k := zit h11_ k
                          refine Zm.l (fun _ _ k_ => z_tableIn (off := 317) (tgt := 383) dX8_stepOther_66 (by rw [h11_]; decide) (by rw [h11_]; decide) (by rw [h11_]; rfl) rfl k_) ?_
                          refine Zm.l (fun _ _ k_ => z_aload_n dX8_stepOther_383 rfl rfl k_) ?_
                          refine zm_getr 54 dX8_stepOther_384 fsX8_191_1 rfl ?_
                          refine Zm.l (fun _ _ k_ => z_iload dX8_stepOther_387 rfl k_) ?_
                          refine Zm.l (fun _ _ k_ => z_dup2 dX8_stepOther_389 rfl rfl k_) ?_
                          obtain ⟨b_, k⟩ := k
                          refine zm_iald dX8_stepOther_390 b_ (by decide) (by decide) ?_
                          refine Zm.l (fun _ _ k_ => z_iconst (v := 1) dX8_stepOther_391 rfl k_) ?_
                          refine Zm.l (fun _ _ k_ => z_isub dX8_stepOther_392 k_) ?_
                          obtain ⟨b_, k⟩ := k
                          refine zm_iast dX8_stepOther_393 b_ (by decide) (by decide) ?_
                          refine Zm.l (fun _ _ k_ => z_aload_n dX8_stepOther_394 rfl rfl k_) ?_
                          refine Zm.pick [] rfl ?_
                          exact zm_callV (as := []) (st := []) dX8_stepOther_395 vsX8_888_1 (Nat.le_refl _) (Nat.le_of_ble_eq_true rfl) (Nat.le_of_ble_eq_true rfl) rfl k
                        · have k := zif h11_ k
                          by_cases h12_ : l1 = 29
                          · have k := zit h12_ k
                            refine Zm.l (fun _ _ k_ => z_tableIn (off := 335) (tgt := 401) dX8_stepOther_66 (by rw [h12_]; decide) (by rw [h12_]; decide) (by rw [h12_]; rfl) rfl k_) ?_
                            refine Zm.l (fun _ _ k_ => z_aload_n dX8_stepOther_401 rfl rfl k_) ?_
                            refine Zm.l (fun _ _ k_ => z_iconst (v := 1) dX8_stepOther_402 rfl k_) ?_
                            refine Zm.pick [0, 3, 4] rfl ?_
                            exact zm_callV (as := [vi (1 : Int32)]) (st := []) dX8_stepOther_403 vsX8_882_1 (Nat.le_refl _) (Nat.le_of_ble_eq_true rfl) (Nat.le_of_ble_eq_true rfl) rfl k
                          · have k := zif h12_ k
                            refine Zm.l (fun _ _ k_ => z_tout (tgt := 454) [17, 18, 19, 20, 21, 22, 23, 24, 25, 26, 27, 28, 29] (by decide) dX8_stepOther_66 (zall_1 h0_ (zall_1 h1_ (zall_1 h2_ (zall_1 h3_ (zall_1 h4_ (zall_1 h5_ (zall_1 h6_ (zall_1 h7_ (zall_1 h8_ (zall_1 h9_ (zall_1 h10_ (zall_1 h11_ (zall_1 h12_ zall_0))))))))))))) rfl k_) ?_
                            refine Zm.l (fun _ _ k_ => z_aload_n dX8_stepOther_454 rfl rfl k_) ?_
                            refine Zm.l (fun _ _ k_ => z_iload_n dX8_stepOther_455 rfl rfl k_) ?_
                            refine Zm.pick [] rfl ?_
                            exact zm_callV (as := [vi l2]) (st := []) dX8_stepOther_456 vsX8_960_1 (Nat.le_refl _) (Nat.le_of_ble_eq_true rfl) (Nat.le_of_ble_eq_true rfl) rfl k
theorem sX8_stepOther_137 {E : zE} {d : Nat} {Q : zO → zM → Prop} (M : zM)  (k : Zm E YX8_goOn d M (zargs 0 [vr (some (97, 1, 0))]) 0 [] (zma E YX8_stepOther (d + 1) [] 138 3 [] Q)) : Zm E YX8_stepOther (d + 1) M [(0, vr (some (97, 1, 0)))] 137 [] Q := by
  refine Zm.l (fun _ _ k_ => z_aload_n dX8_stepOther_137 rfl rfl k_) ?_
  refine Zm.pick [] rfl ?_
  exact zm_callV (as := []) (st := []) dX8_stepOther_138 vsX8_888_1 (Nat.le_refl _) (Nat.le_of_ble_eq_true rfl) (Nat.le_of_ble_eq_true rfl) rfl k
theorem sX8_stepOther_141 {E : zE} {d : Nat} {Q : zO → zM → Prop} (M : zM)  (k : Zm E YX8_stepOther (d + 1) M [] 459 [] Q) : Zm E YX8_stepOther (d + 1) M [] 141 [] Q := by
  refine Zm.l (fun _ _ k_ => z_goto (tgt := 459) dX8_stepOther_141 rfl k_) ?_
  exact k
theorem sX8_stepOther_151 {E : zE} {d : Nat} {Q : zO → zM → Prop} (M : zM)  (k : Zm E YX8_goOn d M (zargs 0 [vr (some (97, 1, 0))]) 0 [] (zma E YX8_stepOther (d + 1) [] 152 3 [] Q)) : Zm E YX8_stepOther (d + 1) M [(0, vr (some (97, 1, 0)))] 151 [] Q := by
  refine Zm.l (fun _ _ k_ => z_aload_n dX8_stepOther_151 rfl rfl k_) ?_
  refine Zm.pick [] rfl ?_
  exact zm_callV (as := []) (st := []) dX8_stepOther_152 vsX8_888_1 (Nat.le_refl _) (Nat.le_of_ble_eq_true rfl) (Nat.le_of_ble_eq_true rfl) rfl k
theorem sX8_stepOther_155 {E : zE} {d : Nat} {Q : zO → zM → Prop} (M : zM)  (k : Zm E YX8_stepOther (d + 1) M [] 459 [] Q) : Zm E YX8_stepOther (d + 1) M [] 155 [] Q := by
  refine Zm.l (fun _ _ k_ => z_goto (tgt := 459) dX8_stepOther_155 rfl k_) ?_
  exact k
theorem sX8_stepOther_163 {E : zE} {d : Nat} {Q : zO → zM → Prop} (M : zM) (l3 : Int32) (l4 : Int32) (s0 : Int32) (k : Zm E YX8_valueAt d M (zargs 0 [vr (some (97, 1, 0)), vi (1 : Int32)]) 0 [] (zma E YX8_stepOther (d + 1) [(0, vr (some (97, 1, 0))), (3, vi l3), (4, vi l4), (6, vi s0)] 167 3 [] Q)) : Zm E YX8_stepOther (d + 1) M [(0, vr (some (97, 1, 0))), (3, vi l3), (4, vi l4)] 163 [vi s0] Q := by
  refine Zm.l (fun _ _ k_ => z_ist dX8_stepOther_163 (by decide) (lv' := [(0, vr (some (97, 1, 0))), (3, vi l3), (4, vi l4), (6, vi s0)]) rfl k_) ?_
  refine Zm.l (fun _ _ k_ => z_aload_n dX8_stepOther_165 rfl rfl k_) ?_
  refine Zm.l (fun _ _ k_ => z_iconst (v := 1) dX8_stepOther_166 rfl k_) ?_
  exact zm_callV (as := [vi (1 : Int32)]) (st := []) dX8_stepOther_167 vsX8_913_1 (Nat.le_refl _) (Nat.le_of_ble_eq_true rfl) (Nat.le_of_ble_eq_true rfl) rfl k
theorem sX8_stepOther_170 {E : zE} {d : Nat} {Q : zO → zM → Prop} (M : zM) (l3 : Int32) (l4 : Int32) (l6 : Int32) (s0 : Int32) (k : Zm E YX8_push d M (zargs 0 [vr (some (97, 1, 0)), vi l6, vi s0]) 0 [] (zma E YX8_stepOther (d + 1) [(0, vr (some (97, 1, 0))), (3, vi l3), (4, vi l4)] 177 3 [] Q)) : Zm E YX8_stepOther (d + 1) M [(0, vr (some (97, 1, 0))), (3, vi l3), (4, vi l4), (6, vi l6)] 170 [vi s0] Q := by
  refine Zm.l (fun _ _ k_ => z_ist dX8_stepOther_170 (by decide) (lv' := [(0, vr (some (97, 1, 0))), (3, vi l3), (4, vi l4), (6, vi l6), (7, vi s0)]) rfl k_) ?_
  refine Zm.l (fun _ _ k_ => z_aload_n dX8_stepOther_172 rfl rfl k_) ?_
  refine Zm.l (fun _ _ k_ => z_iload dX8_stepOther_173 rfl k_) ?_
  refine Zm.l (fun _ _ k_ => z_iload dX8_stepOther_175 rfl k_) ?_
  refine Zm.pick [0, 1, 2] rfl ?_
  exact zm_callV (as := [vi l6, vi s0]) (st := []) dX8_stepOther_177 vsX8_885_1 (Nat.le_refl _) (Nat.le_of_ble_eq_true rfl) (Nat.le_of_ble_eq_true rfl) rfl k
theorem sX8_stepOther_180 {E : zE} {d : Nat} {Q : zO → zM → Prop} (M : zM) (l3 : Int32) (l4 : Int32) (k : Zm E YX8_push d M (zargs 0 [vr (some (97, 1, 0)), vi l3, vi l4]) 0 [] (zma E YX8_stepOther (d + 1) [(0, vr (some (97, 1, 0)))] 184 3 [] Q)) : Zm E YX8_stepOther (d + 1) M [(0, vr (some (97, 1, 0))), (3, vi l3), (4, vi l4)] 180 [] Q := by
  refine Zm.l (fun _ _ k_ => z_aload_n dX8_stepOther_180 rfl rfl k_) ?_
  refine Zm.l (fun _ _ k_ => z_iload_n dX8_stepOther_181 rfl rfl k_) ?_
  refine Zm.l (fun _ _ k_ => z_iload dX8_stepOther_182 rfl k_) ?_
  refine Zm.pick [0] rfl ?_
  exact zm_callV (as := [vi l3, vi l4]) (st := []) dX8_stepOther_184 vsX8_885_1 (Nat.le_refl _) (Nat.le_of_ble_eq_true rfl) (Nat.le_of_ble_eq_true rfl) rfl k
theorem sX8_stepOther_187 {E : zE} {d : Nat} {Q : zO → zM → Prop} (M : zM)  (k : Zm E YX8_goOn d M (zargs 0 [vr (some (97, 1, 0))]) 0 [] (zma E YX8_stepOther (d + 1) [] 188 3 [] Q)) : Zm E YX8_stepOther (d + 1) M [(0, vr (some (97, 1, 0)))] 187 [] Q := by
  refine Zm.l (fun _ _ k_ => z_aload_n dX8_stepOther_187 rfl rfl k_) ?_
  refine Zm.pick [] rfl ?_
  exact zm_callV (as := []) (st := []) dX8_stepOther_188 vsX8_888_1 (Nat.le_refl _) (Nat.le_of_ble_eq_true rfl) (Nat.le_of_ble_eq_true rfl) rfl k
theorem sX8_stepOther_191 {E : zE} {d : Nat} {Q : zO → zM → Prop} (M : zM)  (k : Zm E YX8_stepOther (d + 1) M [] 459 [] Q) : Zm E YX8_stepOther (d + 1) M [] 191 [] Q := by
  refine Zm.l (fun _ _ k_ => z_goto (tgt := 459) dX8_stepOther_191 rfl k_) ?_
  exact k
theorem sX8_stepOther_201 {E : zE} {d : Nat} {Q : zO → zM → Prop} (M : zM)  (k : Zm E YX8_goOn d M (zargs 0 [vr (some (97, 1, 0))]) 0 [] (zma E YX8_stepOther (d + 1) [] 202 3 [] Q)) : Zm E YX8_stepOther (d + 1) M [(0, vr (some (97, 1, 0)))] 201 [] Q := by
  refine Zm.l (fun _ _ k_ => z_aload_n dX8_stepOther_201 rfl rfl k_) ?_
  refine Zm.pick [] rfl ?_
  exact zm_callV (as := []) (st := []) dX8_stepOther_202 vsX8_888_1 (Nat.le_refl _) (Nat.le_of_ble_eq_true rfl) (Nat.le_of_ble_eq_true rfl) rfl k
theorem sX8_stepOther_205 {E : zE} {d : Nat} {Q : zO → zM → Prop} (M : zM)  (k : Zm E YX8_stepOther (d + 1) M [] 459 [] Q) : Zm E YX8_stepOther (d + 1) M [] 205 [] Q := by
  refine Zm.l (fun _ _ k_ => z_goto (tgt := 459) dX8_stepOther_205 rfl k_) ?_
  exact k
theorem sX8_stepOther_224 {E : zE} {d : Nat} {Q : zO → zM → Prop} (M : zM) (l2 : Int32) (l3 : Int32) (l4 : Int32) (l5 : Int32) (k : Zm E YX8_isTrue d M (zargs 0 [vr (some (97, 1, 0)), vi l3, vi l4]) 0 [] (zma E YX8_stepOther (d + 1) [(0, vr (some (97, 1, 0))), (2, vi l2), (5, vi l5)] 234 3 [vi l5, vr (some (154, 100, 24))] Q)) : Zm E YX8_stepOther (d + 1) M [(0, vr (some (97, 1, 0))), (2, vi l2), (3, vi l3), (4, vi l4), (5, vi l5)] 224 [] Q := by
  refine Zm.l (fun _ _ k_ => z_aload_n dX8_stepOther_224 rfl rfl k_) ?_
  refine zm_getr 51 dX8_stepOther_225 fsX8_182_1 rfl ?_
  refine Zm.l (fun _ _ k_ => z_iload dX8_stepOther_228 rfl k_) ?_
  refine Zm.l (fun _ _ k_ => z_aload_n dX8_stepOther_230 rfl rfl k_) ?_
  refine Zm.l (fun _ _ k_ => z_iload_n dX8_stepOther_231 rfl rfl k_) ?_
  refine Zm.l (fun _ _ k_ => z_iload dX8_stepOther_232 rfl k_) ?_
  refine Zm.pick [0, 1, 4] rfl ?_
  exact zm_callV (as := [vi l3, vi l4]) (st := [vi l5, vr (some (154, 100, 24))]) dX8_stepOther_234 vsX8_824_1 (Nat.le_refl _) (Nat.le_of_ble_eq_true rfl) (Nat.le_of_ble_eq_true rfl) rfl k
theorem sX8_stepOther_237 {E : zE} {d : Nat} {Q : zO → zM → Prop} (M : zM) (l2 : Int32) (l5 : Int32) (s0 : Int32) (s1 : Int32) (k : if s0 = 0 then (vp_in s1 24 ∧ (Zm E YX8_stepOther (d + 1) (si M 154 (s1).toNatClampNeg l2) [] 459 [] Q)) else (vp_in l5 24 ∧ (vp_in s1 24 ∧ (Zm E YX8_stepOther (d + 1) (si M 154 (s1).toNatClampNeg ((gi M 154 (l5).toNatClampNeg) + (1 : Int32))) [] 459 [] Q)))) : Zm E YX8_stepOther (d + 1) M [(0, vr (some (97, 1, 0))), (2, vi l2), (5, vi l5)] 237 [vi s0, vi s1, vr (some (154, 100, 24))] Q := by
  refine Zm.br (fun _ _ k1_ k2_ => z_if_eq (tgt := 252) dX8_stepOther_237 rfl k1_ k2_) (fun h_ => ?_) (fun h_ => ?_)
  · have k := zit h_ k
    refine Zm.l (fun _ _ k_ => z_iload_n dX8_stepOther_252 rfl rfl k_) ?_
    obtain ⟨b_, k⟩ := k
    refine zm_iast dX8_stepOther_253 b_ (by decide) (by decide) ?_
    refine Zm.l (fun _ _ k_ => z_goto (tgt := 459) dX8_stepOther_254 rfl k_) ?_
    refine Zm.pick [] rfl ?_
    exact k
  · have k := zif h_ k
    refine Zm.l (fun _ _ k_ => z_aload_n dX8_stepOther_240 rfl rfl k_) ?_
    refine zm_getr 51 dX8_stepOther_241 fsX8_182_1 rfl ?_
    refine Zm.l (fun _ _ k_ => z_iload dX8_stepOther_244 rfl k_) ?_
    obtain ⟨b_, k⟩ := k
    refine zm_iald dX8_stepOther_246 b_ (by decide) (by decide) ?_
    refine Zm.l (fun _ _ k_ => z_iconst (v := 1) dX8_stepOther_247 rfl k_) ?_
    refine Zm.l (fun _ _ k_ => z_iadd dX8_stepOther_248 k_) ?_
    refine Zm.l (fun _ _ k_ => z_goto (tgt := 253) dX8_stepOther_249 rfl k_) ?_
    obtain ⟨b_, k⟩ := k
    refine zm_iast dX8_stepOther_253 b_ (by decide) (by decide) ?_
    refine Zm.l (fun _ _ k_ => z_goto (tgt := 459) dX8_stepOther_254 rfl k_) ?_
    refine Zm.pick [] rfl ?_
    exact k
theorem sX8_stepOther_264 {E : zE} {d : Nat} {Q : zO → zM → Prop} (M : zM) (l1 : Int32) (l2 : Int32) (l5 : Int32) (s0 : Int32) (k : if l1 = (23 : Int32) then (Zm E YX8_stepOther (d + 1) M [(0, vr (some (97, 1, 0))), (2, vi l2), (5, vi l5)] 275 [vi (1 : Int32), vi s0] Q) else (Zm E YX8_stepOther (d + 1) M [(0, vr (some (97, 1, 0))), (2, vi l2), (5, vi l5)] 275 [vi (0 : Int32), vi s0] Q)) : Zm E YX8_stepOther (d + 1) M [(0, vr (some (97, 1, 0))), (1, vi l1), (2, vi l2), (5, vi l5)] 264 [vi s0] Q := by
  refine Zm.l (fun _ _ k_ => z_iload_n dX8_stepOther_264 rfl rfl k_) ?_
  refine Zm.l (fun _ _ k_ => z_bipush (v := 23) dX8_stepOther_265 rfl k_) ?_
  refine Zm.brn (fun _ _ k1_ k2_ => z_icmp_ne (tgt := 274) dX8_stepOther_267 rfl k1_ k2_) (fun h_ => ?_) (fun h_ => ?_)
  · have k := zif h_ k
    refine Zm.l (fun _ _ k_ => z_iconst (v := 0) dX8_stepOther_274 rfl k_) ?_
    refine Zm.pick [0, 2, 3] rfl ?_
    exact k
  · have k := zit h_ k
    refine Zm.l (fun _ _ k_ => z_iconst (v := 1) dX8_stepOther_270 rfl k_) ?_
    refine Zm.l (fun _ _ k_ => z_goto (tgt := 275) dX8_stepOther_271 rfl k_) ?_
    refine Zm.pick [0, 2, 3] rfl ?_
    exact k
theorem sX8_stepOther_275 {E : zE} {d : Nat} {Q : zO → zM → Prop} (M : zM) (l2 : Int32) (l5 : Int32) (s0 : Int32) (s1 : Int32) (k : if s1 = s0 then (Zm E YX8_drop d M (zargs 0 [vr (some (97, 1, 0)), vi (1 : Int32)]) 0 [] (zma E YX8_stepOther (d + 1) [(0, vr (some (97, 1, 0)))] 280 3 [] Q)) else (vp_in l5 24 ∧ (Zm E YX8_stepOther (d + 1) (si M 154 (l5).toNatClampNeg l2) [] 459 [] Q))) : Zm E YX8_stepOther (d + 1) M [(0, vr (some (97, 1, 0))), (2, vi l2), (5, vi l5)] 275 [vi s0, vi s1] Q := by
  refine Zm.brn (fun _ _ k1_ k2_ => z_icmp_ne (tgt := 290) dX8_stepOther_275 rfl k1_ k2_) (fun h_ => ?_) (fun h_ => ?_)
  · have k := zif h_ k
    refine Zm.l (fun _ _ k_ => z_aload_n dX8_stepOther_290 rfl rfl k_) ?_
    refine zm_getr 51 dX8_stepOther_291 fsX8_182_1 rfl ?_
    refine Zm.l (fun _ _ k_ => z_iload dX8_stepOther_294 rfl k_) ?_
    refine Zm.l (fun _ _ k_ => z_iload_n dX8_stepOther_296 rfl rfl k_) ?_
    obtain ⟨b_, k⟩ := k
    refine zm_iast dX8_stepOther_297 b_ (by decide) (by decide) ?_
    refine Zm.l (fun _ _ k_ => z_goto (tgt := 459) dX8_stepOther_298 rfl k_) ?_
    refine Zm.pick [] rfl ?_
    exact k
  · have k := zit h_ k
    refine Zm.l (fun _ _ k_ => z_aload_n dX8_stepOther_278 rfl rfl k_) ?_
    refine Zm.l (fun _ _ k_ => z_iconst (v := 1) dX8_stepOther_279 rfl k_) ?_
    refine Zm.pick [0] rfl ?_
    exact zm_callV (as := [vi (1 : Int32)]) (st := []) dX8_stepOther_280 vsX8_882_1 (Nat.le_refl _) (Nat.le_of_ble_eq_true rfl) (Nat.le_of_ble_eq_true rfl) rfl k
theorem sX8_stepOther_283 {E : zE} {d : Nat} {Q : zO → zM → Prop} (M : zM)  (k : Zm E YX8_goOn d M (zargs 0 [vr (some (97, 1, 0))]) 0 [] (zma E YX8_stepOther (d + 1) [] 284 3 [] Q)) : Zm E YX8_stepOther (d + 1) M [(0, vr (some (97, 1, 0)))] 283 [] Q := by
  refine Zm.l (fun _ _ k_ => z_aload_n dX8_stepOther_283 rfl rfl k_) ?_
  refine Zm.pick [] rfl ?_
  exact zm_callV (as := []) (st := []) dX8_stepOther_284 vsX8_888_1 (Nat.le_refl _) (Nat.le_of_ble_eq_true rfl) (Nat.le_of_ble_eq_true rfl) rfl k
theorem sX8_stepOther_287 {E : zE} {d : Nat} {Q : zO → zM → Prop} (M : zM)  (k : Zm E YX8_stepOther (d + 1) M [] 459 [] Q) : Zm E YX8_stepOther (d + 1) M [] 287 [] Q := by
  refine Zm.l (fun _ _ k_ => z_goto (tgt := 459) dX8_stepOther_287 rfl k_) ?_
  exact k
theorem sX8_stepOther_308 {E : zE} {d : Nat} {Q : zO → zM → Prop} (M : zM)  (k : Zm E YX8_stepOther (d + 1) M [] 459 [] Q) : Zm E YX8_stepOther (d + 1) M [] 308 [] Q := by
  refine Zm.l (fun _ _ k_ => z_goto (tgt := 459) dX8_stepOther_308 rfl k_) ?_
  exact k
theorem sX8_stepOther_318 {E : zE} {d : Nat} {Q : zO → zM → Prop} (M : zM)  (k : Zm E YX8_stepOther (d + 1) M [] 459 [] Q) : Zm E YX8_stepOther (d + 1) M [] 318 [] Q := by
  refine Zm.l (fun _ _ k_ => z_goto (tgt := 459) dX8_stepOther_318 rfl k_) ?_
  exact k
theorem sX8_stepOther_380 {E : zE} {d : Nat} {Q : zO → zM → Prop} (M : zM)  (k : Zm E YX8_stepOther (d + 1) M [] 459 [] Q) : Zm E YX8_stepOther (d + 1) M [] 380 [] Q := by
  refine Zm.l (fun _ _ k_ => z_goto (tgt := 459) dX8_stepOther_380 rfl k_) ?_
  exact k
theorem sX8_stepOther_398 {E : zE} {d : Nat} {Q : zO → zM → Prop} (M : zM)  (k : Zm E YX8_stepOther (d + 1) M [] 459 [] Q) : Zm E YX8_stepOther (d + 1) M [] 398 [] Q := by
  refine Zm.l (fun _ _ k_ => z_goto (tgt := 459) dX8_stepOther_398 rfl k_) ?_
  exact k
theorem sX8_stepOther_406 {E : zE} {d : Nat} {Q : zO → zM → Prop} (M : zM) (l3 : Int32) (l4 : Int32) (k : Zm E YX8_top d M (zargs 0 [vr (some (97, 1, 0))]) 0 [] (zma E YX8_stepOther (d + 1) [(0, vr (some (97, 1, 0))), (3, vi l3), (4, vi l4)] 411 3 [vr (some (162, 100, 9600))] Q)) : Zm E YX8_stepOther (d + 1) M [(0, vr (some (97, 1, 0))), (3, vi l3), (4, vi l4)] 406 [] Q := by
  refine Zm.l (fun _ _ k_ => z_aload_n dX8_stepOther_406 rfl rfl k_) ?_
  refine zm_getr 59 dX8_stepOther_407 fsX8_206_1 rfl ?_
  refine Zm.l (fun _ _ k_ => z_aload_n dX8_stepOther_410 rfl rfl k_) ?_
  exact zm_callV (as := []) (st := [vr (some (162, 100, 9600))]) dX8_stepOther_411 vsX8_879_1 (Nat.le_refl _) (Nat.le_of_ble_eq_true rfl) (Nat.le_of_ble_eq_true rfl) rfl k
theorem sX8_stepOther_414 {E : zE} {d : Nat} {Q : zO → zM → Prop} (M : zM) (l3 : Int32) (l4 : Int32) (s0 : Int32) (k : vp_in s0 9600 ∧ (Zm E YX8_top d (si M 162 (s0).toNatClampNeg (0 : Int32)) (zargs 0 [vr (some (97, 1, 0))]) 0 [] (zma E YX8_stepOther (d + 1) [(0, vr (some (97, 1, 0))), (3, vi l3), (4, vi l4)] 421 3 [vr (some (163, 100, 9600))] Q))) : Zm E YX8_stepOther (d + 1) M [(0, vr (some (97, 1, 0))), (3, vi l3), (4, vi l4)] 414 [vi s0, vr (some (162, 100, 9600))] Q := by
  refine Zm.l (fun _ _ k_ => z_iconst (v := 0) dX8_stepOther_414 rfl k_) ?_
  obtain ⟨b_, k⟩ := k
  refine zm_iast dX8_stepOther_415 b_ (by decide) (by decide) ?_
  refine Zm.l (fun _ _ k_ => z_aload_n dX8_stepOther_416 rfl rfl k_) ?_
  refine zm_getr 60 dX8_stepOther_417 fsX8_209_1 rfl ?_
  refine Zm.l (fun _ _ k_ => z_aload_n dX8_stepOther_420 rfl rfl k_) ?_
  exact zm_callV (as := []) (st := [vr (some (163, 100, 9600))]) dX8_stepOther_421 vsX8_879_1 (Nat.le_refl _) (Nat.le_of_ble_eq_true rfl) (Nat.le_of_ble_eq_true rfl) rfl k
theorem sX8_stepOther_424 {E : zE} {d : Nat} {Q : zO → zM → Prop} (M : zM) (l3 : Int32) (l4 : Int32) (s0 : Int32) (k : vp_in s0 9600 ∧ (if l3 = (7 : Int32) then (Zm E YX8_push d (si M 163 (s0).toNatClampNeg (gi M 97 86)) (zargs 0 [vr (some (97, 1, 0)), vi (8 : Int32), vi l4]) 0 [] (zma E YX8_stepOther (d + 1) [(0, vr (some (97, 1, 0)))] 444 3 [] Q)) else (Zm E YX8_push d (si M 163 (s0).toNatClampNeg (gi M 97 86)) (zargs 0 [vr (some (97, 1, 0)), vi (8 : Int32), vi (-1 : Int32)]) 0 [] (zma E YX8_stepOther (d + 1) [(0, vr (some (97, 1, 0)))] 444 3 [] Q)))) : Zm E YX8_stepOther (d + 1) M [(0, vr (some (97, 1, 0))), (3, vi l3), (4, vi l4)] 424 [vi s0, vr (some (163, 100, 9600))] Q := by
  refine Zm.l (fun _ _ k_ => z_aload_n dX8_stepOther_424 rfl rfl k_) ?_
  refine zm_geti dX8_stepOther_425 fsX8_855_1 (by decide) (by decide) ?_
  obtain ⟨b_, k⟩ := k
  refine zm_iast dX8_stepOther_428 b_ (by decide) (by decide) ?_
  refine Zm.l (fun _ _ k_ => z_aload_n dX8_stepOther_429 rfl rfl k_) ?_
  refine Zm.l (fun _ _ k_ => z_bipush (v := 8) dX8_stepOther_430 rfl k_) ?_
  refine Zm.l (fun _ _ k_ => z_iload_n dX8_stepOther_432 rfl rfl k_) ?_
  refine Zm.l (fun _ _ k_ => z_bipush (v := 7) dX8_stepOther_433 rfl k_) ?_
  refine Zm.brn (fun _ _ k1_ k2_ => z_icmp_ne (tgt := 443) dX8_stepOther_435 rfl k1_ k2_) (fun h_ => ?_) (fun h_ => ?_)
  · have k := zif h_ k
    refine Zm.l (fun _ _ k_ => z_iconst (v := -1) dX8_stepOther_443 rfl k_) ?_
    refine Zm.pick [0] rfl ?_
    exact zm_callV (as := [vi (8 : Int32), vi (-1 : Int32)]) (st := []) dX8_stepOther_444 vsX8_885_1 (Nat.le_refl _) (Nat.le_of_ble_eq_true rfl) (Nat.le_of_ble_eq_true rfl) rfl k
  · have k := zit h_ k
    refine Zm.l (fun _ _ k_ => z_iload dX8_stepOther_438 rfl k_) ?_
    refine Zm.l (fun _ _ k_ => z_goto (tgt := 444) dX8_stepOther_440 rfl k_) ?_
    refine Zm.pick [0] rfl ?_
    exact zm_callV (as := [vi (8 : Int32), vi l4]) (st := []) dX8_stepOther_444 vsX8_885_1 (Nat.le_refl _) (Nat.le_of_ble_eq_true rfl) (Nat.le_of_ble_eq_true rfl) rfl k
theorem sX8_stepOther_447 {E : zE} {d : Nat} {Q : zO → zM → Prop} (M : zM)  (k : Zm E YX8_goOn d M (zargs 0 [vr (some (97, 1, 0))]) 0 [] (zma E YX8_stepOther (d + 1) [] 448 3 [] Q)) : Zm E YX8_stepOther (d + 1) M [(0, vr (some (97, 1, 0)))] 447 [] Q := by
  refine Zm.l (fun _ _ k_ => z_aload_n dX8_stepOther_447 rfl rfl k_) ?_
  refine Zm.pick [] rfl ?_
  exact zm_callV (as := []) (st := []) dX8_stepOther_448 vsX8_888_1 (Nat.le_refl _) (Nat.le_of_ble_eq_true rfl) (Nat.le_of_ble_eq_true rfl) rfl k
theorem sX8_stepOther_451 {E : zE} {d : Nat} {Q : zO → zM → Prop} (M : zM)  (k : Zm E YX8_stepOther (d + 1) M [] 459 [] Q) : Zm E YX8_stepOther (d + 1) M [] 451 [] Q := by
  refine Zm.l (fun _ _ k_ => z_goto (tgt := 459) dX8_stepOther_451 rfl k_) ?_
  exact k
theorem sX8_stepOther_459 {E : zE} {d : Nat} {Q : zO → zM → Prop} (M : zM)  (k : Q (.inl none) M) : Zm E YX8_stepOther (d + 1) M [] 459 [] Q := by
  exact zm_vret dX8_stepOther_459 rfl k
