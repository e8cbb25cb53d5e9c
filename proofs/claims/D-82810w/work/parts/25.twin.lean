/-! ScriptTypesModel.under(II)V -/
theorem bX8_under_0 : zdec cX8_under 0 [(0, .aload_n 0, 1), (1, .invokevirtual 879, 3), (4, .istore_n 3, 1), (5, .iconst 0, 1), (6, .istore 4, 2), (8, .iload 4, 2), (10, .iconst 2, 1), (11, .if_icmp .ge 53, 3), (14, .aload_n 0, 1), (15, .getfield 200, 3), (18, .iload_n 3, 1), (19, .iconst 1, 1), (20, .isub, 1), (21, .iload 4, 2), (23, .isub, 1), (24, .aload_n 0, 1)] = true := by decide +kernel
theorem dX8_under_0 : decode cX8_under 0 = .ok (.aload_n 0, 1) := zdec_at bX8_under_0 0 rfl
theorem dX8_under_1 : decode cX8_under 1 = .ok (.invokevirtual 879, 3) := zdec_at bX8_under_0 1 rfl
theorem dX8_under_4 : decode cX8_under 4 = .ok (.istore_n 3, 1) := zdec_at bX8_under_0 2 rfl
theorem dX8_under_5 : decode cX8_under 5 = .ok (.iconst 0, 1) := zdec_at bX8_under_0 3 rfl
theorem dX8_under_6 : decode cX8_under 6 = .ok (.istore 4, 2) := zdec_at bX8_under_0 4 rfl
theorem dX8_under_8 : decode cX8_under 8 = .ok (.iload 4, 2) := zdec_at bX8_under_0 5 rfl
theorem dX8_under_10 : decode cX8_under 10 = .ok (.iconst 2, 1) := zdec_at bX8_under_0 6 rfl
theorem dX8_under_11 : decode cX8_under 11 = .ok (.if_icmp .ge 53, 3) := zdec_at bX8_under_0 7 rfl
theorem dX8_under_14 : decode cX8_under 14 = .ok (.aload_n 0, 1) := zdec_at bX8_under_0 8 rfl
theorem dX8_under_15 : decode cX8_under 15 = .ok (.getfield 200, 3) := zdec_at bX8_under_0 9 rfl
theorem dX8_under_18 : decode cX8_under 18 = .ok (.iload_n 3, 1) := zdec_at bX8_under_0 10 rfl
theorem dX8_under_19 : decode cX8_under 19 = .ok (.iconst 1, 1) := zdec_at bX8_under_0 11 rfl
theorem dX8_under_20 : decode cX8_under 20 = .ok (.isub, 1) := zdec_at bX8_under_0 12 rfl
theorem dX8_under_21 : decode cX8_under 21 = .ok (.iload 4, 2) := zdec_at bX8_under_0 13 rfl
theorem dX8_under_23 : decode cX8_under 23 = .ok (.isub, 1) := zdec_at bX8_under_0 14 rfl
theorem dX8_under_24 : decode cX8_under 24 = .ok (.aload_n 0, 1) := zdec_at bX8_under_0 15 rfl
theorem bX8_under_25 : zdec cX8_under 25 [(25, .getfield 200, 3), (28, .iload_n 3, 1), (29, .iconst 2, 1), (30, .isub, 1), (31, .iload 4, 2), (33, .isub, 1), (34, .iaload, 1), (35, .iastore, 1), (36, .aload_n 0, 1), (37, .getfield 203, 3), (40, .iload_n 3, 1), (41, .iconst 1, 1), (42, .isub, 1), (43, .iload 4, 2), (45, .isub, 1), (46, .aload_n 0, 1)] = true := by decide +kernel
theorem dX8_under_25 : decode cX8_under 25 = .ok (.getfield 200, 3) := zdec_at bX8_under_25 0 rfl
theorem dX8_under_28 : decode cX8_under 28 = .ok (.iload_n 3, 1) := zdec_at bX8_under_25 1 rfl
theorem dX8_under_29 : decode cX8_under 29 = .ok (.iconst 2, 1) := zdec_at bX8_under_25 2 rfl
theorem dX8_under_30 : decode cX8_under 30 = .ok (.isub, 1) := zdec_at bX8_under_25 3 rfl
theorem dX8_under_31 : decode cX8_under 31 = .ok (.iload 4, 2) := zdec_at bX8_under_25 4 rfl
theorem dX8_under_33 : decode cX8_under 33 = .ok (.isub, 1) := zdec_at bX8_under_25 5 rfl
theorem dX8_under_34 : decode cX8_under 34 = .ok (.iaload, 1) := zdec_at bX8_under_25 6 rfl
theorem dX8_under_35 : decode cX8_under 35 = .ok (.iastore, 1) := zdec_at bX8_under_25 7 rfl
theorem dX8_under_36 : decode cX8_under 36 = .ok (.aload_n 0, 1) := zdec_at bX8_under_25 8 rfl
theorem dX8_under_37 : decode cX8_under 37 = .ok (.getfield 203, 3) := zdec_at bX8_under_25 9 rfl
theorem dX8_under_40 : decode cX8_under 40 = .ok (.iload_n 3, 1) := zdec_at bX8_under_25 10 rfl
theorem dX8_under_41 : decode cX8_under 41 = .ok (.iconst 1, 1) := zdec_at bX8_under_25 11 rfl
theorem dX8_under_42 : decode cX8_under 42 = .ok (.isub, 1) := zdec_at bX8_under_25 12 rfl
theorem dX8_under_43 : decode cX8_under 43 = .ok (.iload 4, 2) := zdec_at bX8_under_25 13 rfl
theorem dX8_under_45 : decode cX8_under 45 = .ok (.isub, 1) := zdec_at bX8_under_25 14 rfl
theorem dX8_under_46 : decode cX8_under 46 = .ok (.aload_n 0, 1) := zdec_at bX8_under_25 15 rfl
theorem bX8_under_47 : zdec cX8_under 47 [(47, .getfield 203, 3), (50, .iload_n 3, 1), (51, .iconst 2, 1), (52, .isub, 1), (53, .iload 4, 2), (55, .isub, 1), (56, .iaload, 1), (57, .iastore, 1), (58, .iinc 4 1, 3), (61, .goto (-53), 3), (64, .aload_n 0, 1), (65, .getfield 200, 3), (68, .iload_n 3, 1), (69, .iconst 3, 1), (70, .isub, 1), (71, .iload_n 1, 1)] = true := by decide +kernel
theorem dX8_under_47 : decode cX8_under 47 = .ok (.getfield 203, 3) := zdec_at bX8_under_47 0 rfl
theorem dX8_under_50 : decode cX8_under 50 = .ok (.iload_n 3, 1) := zdec_at bX8_under_47 1 rfl
theorem dX8_under_51 : decode cX8_under 51 = .ok (.iconst 2, 1) := zdec_at bX8_under_47 2 rfl
theorem dX8_under_52 : decode cX8_under 52 = .ok (.isub, 1) := zdec_at bX8_under_47 3 rfl
theorem dX8_under_53 : decode cX8_under 53 = .ok (.iload 4, 2) := zdec_at bX8_under_47 4 rfl
theorem dX8_under_55 : decode cX8_under 55 = .ok (.isub, 1) := zdec_at bX8_under_47 5 rfl
theorem dX8_under_56 : decode cX8_under 56 = .ok (.iaload, 1) := zdec_at bX8_under_47 6 rfl
theorem dX8_under_57 : decode cX8_under 57 = .ok (.iastore, 1) := zdec_at bX8_under_47 7 rfl
theorem dX8_under_58 : decode cX8_under 58 = .ok (.iinc 4 1, 3) := zdec_at bX8_under_47 8 rfl
theorem dX8_under_61 : decode cX8_under 61 = .ok (.goto (-53), 3) := zdec_at bX8_under_47 9 rfl
theorem dX8_under_64 : decode cX8_under 64 = .ok (.aload_n 0, 1) := zdec_at bX8_under_47 10 rfl
theorem dX8_under_65 : decode cX8_under 65 = .ok (.getfield 200, 3) := zdec_at bX8_under_47 11 rfl
theorem dX8_under_68 : decode cX8_under 68 = .ok (.iload_n 3, 1) := zdec_at bX8_under_47 12 rfl
theorem dX8_under_69 : decode cX8_under 69 = .ok (.iconst 3, 1) := zdec_at bX8_under_47 13 rfl
theorem dX8_under_70 : decode cX8_under 70 = .ok (.isub, 1) := zdec_at bX8_under_47 14 rfl
theorem dX8_under_71 : decode cX8_under 71 = .ok (.iload_n 1, 1) := zdec_at bX8_under_47 15 rfl
theorem bX8_under_72 : zdec cX8_under 72 [(72, .iastore, 1), (73, .aload_n 0, 1), (74, .getfield 203, 3), (77, .iload_n 3, 1), (78, .iconst 3, 1), (79, .isub, 1), (80, .iload_n 2, 1), (81, .iastore, 1), (82, .aload_n 0, 1), (83, .iload_n 1, 1), (84, .iload_n 2, 1), (85, .invokevirtual 885, 3), (88, .return_, 1)] = true := by decide +kernel
theorem dX8_under_72 : decode cX8_under 72 = .ok (.iastore, 1) := zdec_at bX8_under_72 0 rfl
theorem dX8_under_73 : decode cX8_under 73 = .ok (.aload_n 0, 1) := zdec_at bX8_under_72 1 rfl
theorem dX8_under_74 : decode cX8_under 74 = .ok (.getfield 203, 3) := zdec_at bX8_under_72 2 rfl
theorem dX8_under_77 : decode cX8_under 77 = .ok (.iload_n 3, 1) := zdec_at bX8_under_72 3 rfl
theorem dX8_under_78 : decode cX8_under 78 = .ok (.iconst 3, 1) := zdec_at bX8_under_72 4 rfl
theorem dX8_under_79 : decode cX8_under 79 = .ok (.isub, 1) := zdec_at bX8_under_72 5 rfl
theorem dX8_under_80 : decode cX8_under 80 = .ok (.iload_n 2, 1) := zdec_at bX8_under_72 6 rfl
theorem dX8_under_81 : decode cX8_under 81 = .ok (.iastore, 1) := zdec_at bX8_under_72 7 rfl
theorem dX8_under_82 : decode cX8_under 82 = .ok (.aload_n 0, 1) := zdec_at bX8_under_72 8 rfl
theorem dX8_under_83 : decode cX8_under 83 = .ok (.iload_n 1, 1) := zdec_at bX8_under_72 9 rfl
theorem dX8_under_84 : decode cX8_under 84 = .ok (.iload_n 2, 1) := zdec_at bX8_under_72 10 rfl
theorem dX8_under_85 : decode cX8_under 85 = .ok (.invokevirtual 885, 3) := zdec_at bX8_under_72 11 rfl
theorem dX8_under_88 : decode cX8_under 88 = .ok (.return_, 1) := zdec_at bX8_under_72 12 rfl
theorem sX8_under_0 {E : zE} {d : Nat} {Q : zO → zM → Prop} (M : zM) (l1 : Int32) (l2 : Int32) (k : Zm E YX8_top d M (zargs 0 [vr (some (97, 1, 0))]) 0 [] (zma E YX8_under (d + 1) [(0, vr (some (97, 1, 0))), (1, vi l1), (2, vi l2)] 1 3 [] Q)) : Zm E YX8_under (d + 1) M [(0, vr (some (97, 1, 0))), (1, vi l1), (2, vi l2)] 0 [] Q := by
  refine Zm.l (fun _ _ k_ => z_aload_n dX8_under_0 rfl rfl k_) ?_
  exact zm_callV (as := []) (st := []) dX8_under_1 vsX8_879_1 (Nat.le_refl _) (Nat.le_of_ble_eq_true rfl) (Nat.le_of_ble_eq_true rfl) rfl k
theorem sX8_under_4 {E : zE} {d : Nat} {Q : zO → zM → Prop} (M : zM) (l1 : Int32) (l2 : Int32) (s0 : Int32) (k : Zm E YX8_under (d + 1) M [(0, vr (some (97, 1, 0))), (1, vi l1), (2, vi l2), (3, vi s0), (4, vi (0 : Int32))] 8 [] Q) : Zm E YX8_under (d + 1) M [(0, vr (some (97, 1, 0))), (1, vi l1), (2, vi l2)] 4 [vi s0] Q := by
  refine Zm.l (fun _ _ k_ => z_ist_n dX8_under_4 rfl (by decide) (lv' := [(0, vr (some (97, 1, 0))), (1, vi l1), (2, vi l2), (3, vi s0)]) rfl k_) ?_
  refine Zm.l (fun _ _ k_ => z_iconst (v := 0) dX8_under_5 rfl k_) ?_
  refine Zm.l (fun _ _ k_ => z_ist dX8_under_6 (by decide) (lv' := [(0, vr (some (97, 1, 0))), (1, vi l1), (2, vi l2), (3, vi s0), (4, vi (0 : Int32))]) rfl k_) ?_
  exact k
theorem sX8_under_8 {E : zE} {d : Nat} {Q : zO → zM → Prop} (M : zM) (l1 : Int32) (l2 : Int32) (l3 : Int32) (l4 : Int32) (k : if (2 : Int32) ≤ l4 then (vp_in (l3 - (3 : Int32)) 9600 ∧ (vp_in (l3 - (3 : Int32)) 9600 ∧ (Zm E YX8_push d (si (si M 160 ((l3 - (3 : Int32))).toNatClampNeg l1) 161 ((l3 - (3 : Int32))).toNatClampNeg l2) (zargs 0 [vr (some (97, 1, 0)), vi l1, vi l2]) 0 [] (zma E YX8_under (d + 1) [] 85 3 [] Q)))) else (vp_in ((l3 - (2 : Int32)) - l4) 9600 ∧ (vp_in ((l3 - (1 : Int32)) - l4) 9600 ∧ (vp_in ((l3 - (2 : Int32)) - l4) 9600 ∧ (vp_in ((l3 - (1 : Int32)) - l4) 9600 ∧ (Zm E YX8_under (d + 1) (si (si M 160 (((l3 - (1 : Int32)) - l4)).toNatClampNeg (gi M 160 (((l3 - (2 : Int32)) - l4)).toNatClampNeg)) 161 (((l3 - (1 : Int32)) - l4)).toNatClampNeg (gi M 161 (((l3 - (2 : Int32)) - l4)).toNatClampNeg)) [(0, vr (some (97, 1, 0))), (1, vi l1), (2, vi l2), (3, vi l3), (4, vi (l4 + (1 : Int32)))] 8 [] Q)))))) : Zm E YX8_under (d + 1) M [(0, vr (some (97, 1, 0))), (1, vi l1), (2, vi l2), (3, vi l3), (4, vi l4)] 8 [] Q := by
  refine Zm.l (fun _ _ k_ => z_iload dX8_under_8 rfl k_) ?_
  refine Zm.l (fun _ _ k_ => z_iconst (v := 2) dX8_under_10 rfl k_) ?_
  refine Zm.br (fun _ _ k1_ k2_ => z_icmp_ge (tgt := 64) dX8_under_11 rfl k1_ k2_) (fun h_ => ?_) (fun h_ => ?_)
  · have k := zit h_ k
    refine Zm.l (fun _ _ k_ => z_aload_n dX8_under_64 rfl rfl k_) ?_
    refine zm_getr 57 dX8_under_65 fsX8_200_1 rfl ?_
    refine Zm.l (fun _ _ k_ => z_iload_n dX8_under_68 rfl rfl k_) ?_
    refine Zm.l (fun _ _ k_ => z_iconst (v := 3) dX8_under_69 rfl k_) ?_
    refine Zm.l (fun _ _ k_ => z_isub dX8_under_70 k_) ?_
    refine Zm.l (fun _ _ k_ => z_iload_n dX8_under_71 rfl rfl k_) ?_
    obtain ⟨b_, k⟩ := k
    refine zm_iast dX8_under_72 b_ (by decide) (by decide) ?_
    refine Zm.l (fun _ _ k_ => z_aload_n dX8_under_73 rfl rfl k_) ?_
    refine zm_getr 58 dX8_under_74 fsX8_203_1 rfl ?_
    refine Zm.l (fun _ _ k_ => z_iload_n dX8_under_77 rfl rfl k_) ?_
    refine Zm.l (fun _ _ k_ => z_iconst (v := 3) dX8_under_78 rfl k_) ?_
    refine Zm.l (fun _ _ k_ => z_isub dX8_under_79 k_) ?_
    refine Zm.l (fun _ _ k_ => z_iload_n dX8_under_80 rfl rfl k_) ?_
    obtain ⟨b_, k⟩ := k
    refine zm_iast dX8_under_81 b_ (by decide) (by decide) ?_
    refine Zm.l (fun _ _ k_ => z_aload_n dX8_under_82 rfl rfl k_) ?_
    refine Zm.l (fun _ _ k_ => z_iload_n dX8_under_83 rfl rfl k_) ?_
    refine Zm.l (fun _ _ k_ => z_iload_n dX8_under_84 rfl rfl k_) ?_
    refine Zm.pick [] rfl ?_
    exact zm_callV (as := [vi l1, vi l2]) (st := []) dX8_under_85 vsX8_885_1 (Nat.le_refl _) (Nat.le_of_ble_eq_true rfl) (Nat.le_of_ble_eq_true rfl) rfl k
  · have k := zif h_ k
    refine Zm.l (fun _ _ k_ => z_aload_n dX8_under_14 rfl rfl k_) ?_
    refine zm_getr 57 dX8_under_15 fsX8_200_1 rfl ?_
    refine Zm.l (fun _ _ k_ => z_iload_n dX8_under_18 rfl rfl k_) ?_
    refine Zm.l (fun _ _ k_ => z_iconst (v := 1) dX8_under_19 rfl k_) ?_
    refine Zm.l (fun _ _ k_ => z_isub dX8_under_20 k_) ?_
    refine Zm.l (fun _ _ k_ => z_iload dX8_under_21 rfl k_) ?_
    refine Zm.l (fun _ _ k_ => z_isub dX8_under_23 k_) ?_
    refine Zm.l (fun _ _ k_ => z_aload_n dX8_under_24 rfl rfl k_) ?_
    refine zm_getr 57 dX8_under_25 fsX8_200_1 rfl ?_
    refine Zm.l (fun _ _ k_ => z_iload_n dX8_under_28 rfl rfl k_) ?_
    refine Zm.l (fun _ _ k_ => z_iconst (v := 2) dX8_under_29 rfl k_) ?_
    refine Zm.l (fun _ _ k_ => z_isub dX8_under_30 k_) ?_
    refine Zm.l (fun _ _ k_ => z_iload dX8_under_31 rfl k_) ?_
    refine Zm.l (fun _ _ k_ => z_isub dX8_under_33 k_) ?_
    obtain ⟨b_, k⟩ := k
    refine zm_iald dX8_under_34 b_ (by decide) (by decide) ?_
    obtain ⟨b_, k⟩ := k
    refine zm_iast dX8_under_35 b_ (by decide) (by decide) ?_
    refine Zm.l (fun _ _ k_ => z_aload_n dX8_under_36 rfl rfl k_) ?_
    refine zm_getr 58 dX8_under_37 fsX8_203_1 rfl ?_
    refine Zm.l (fun _ _ k_ => z_iload_n dX8_under_40 rfl rfl k_) ?_
    refine Zm.l (fun _ _ k_ => z_iconst (v := 1) dX8_under_41 rfl k_) ?_
    refine Zm.l (fun _ _ k_ => z_isub dX8_under_42 k_) ?_
    refine Zm.l (fun _ _ k_ => z_iload dX8_under_43 rfl k_) ?_
    refine Zm.l (fun _ _ k_ => z_isub dX8_under_45 k_) ?_
    refine Zm.l (fun _ _ k_ => z_aload_n dX8_under_46 rfl rfl k_) ?_
    refine zm_getr 58 dX8_under_47 fsX8_203_1 rfl ?_
    refine Zm.l (fun _ _ k_ => z_iload_n dX8_under_50 rfl rfl k_) ?_
    refine Zm.l (fun _ _ k_ => z_iconst (v := 2) dX8_under_51 rfl k_) ?_
    refine Zm.l (fun _ _ k_ => z_isub dX8_under_52 k_) ?_
    refine Zm.l (fun _ _ k_ => z_iload dX8_under_53 rfl k_) ?_
    refine Zm.l (fun _ _ k_ => z_isub dX8_under_55 k_) ?_
    obtain ⟨b_, k⟩ := k
    refine zm_iald dX8_under_56 b_ (by decide) (by decide) ?_
    obtain ⟨b_, k⟩ := k
    refine zm_iast dX8_under_57 b_ (by decide) (by decide) ?_
    refine Zm.l (fun _ _ k_ => z_inc (v := (l4 + (1 : Int32))) dX8_under_58 rfl rfl (by decide) (lv' := [(0, vr (some (97, 1, 0))), (1, vi l1), (2, vi l2), (3, vi l3), (4, vi (l4 + (1 : Int32)))]) rfl k_) ?_
    refine Zm.l (fun _ _ k_ => z_goto (tgt := 8) dX8_under_61 rfl k_) ?_
    exact k
theorem sX8_under_88 {E : zE} {d : Nat} {Q : zO → zM → Prop} (M : zM)  (k : Q (.inl none) M) : Zm E YX8_under (d + 1) M [] 88 [] Q := by
  exact zm_vret dX8_under_88 rfl k
/-! ScriptTypesModel.goBack(II)V -/
theorem bX8_goBack_0 : zdec cX8_goBack 0 [(0, .aload_n 0, 1), (1, .getfield 188, 3), (4, .aload_n 0, 1), (5, .getfield 872, 3), (8, .iconst 1, 1), (9, .isub, 1), (10, .iaload, 1), (11, .istore_n 3, 1), (12, .aload_n 0, 1), (13, .dup, 1), (14, .getfield 872, 3), (17, .iconst 1, 1), (18, .isub, 1), (19, .putfield 872, 3), (22, .aload_n 0, 1), (23, .getfield 872, 3)] = true := by decide +kernel
theorem dX8_goBack_0 : decode cX8_goBack 0 = .ok (.aload_n 0, 1) := zdec_at bX8_goBack_0 0 rfl
theorem dX8_goBack_1 : decode cX8_goBack 1 = .ok (.getfield 188, 3) := zdec_at bX8_goBack_0 1 rfl
theorem dX8_goBack_4 : decode cX8_goBack 4 = .ok (.aload_n 0, 1) := zdec_at bX8_goBack_0 2 rfl
theorem dX8_goBack_5 : decode cX8_goBack 5 = .ok (.getfield 872, 3) := zdec_at bX8_goBack_0 3 rfl
theorem dX8_goBack_8 : decode cX8_goBack 8 = .ok (.iconst 1, 1) := zdec_at bX8_goBack_0 4 rfl
theorem dX8_goBack_9 : decode cX8_goBack 9 = .ok (.isub, 1) := zdec_at bX8_goBack_0 5 rfl
theorem dX8_goBack_10 : decode cX8_goBack 10 = .ok (.iaload, 1) := zdec_at bX8_goBack_0 6 rfl
theorem dX8_goBack_11 : decode cX8_goBack 11 = .ok (.istore_n 3, 1) := zdec_at bX8_goBack_0 7 rfl
theorem dX8_goBack_12 : decode cX8_goBack 12 = .ok (.aload_n 0, 1) := zdec_at bX8_goBack_0 8 rfl
theorem dX8_goBack_13 : decode cX8_goBack 13 = .ok (.dup, 1) := zdec_at bX8_goBack_0 9 rfl
theorem dX8_goBack_14 : decode cX8_goBack 14 = .ok (.getfield 872, 3) := zdec_at bX8_goBack_0 10 rfl
theorem dX8_goBack_17 : decode cX8_goBack 17 = .ok (.iconst 1, 1) := zdec_at bX8_goBack_0 11 rfl
theorem dX8_goBack_18 : decode cX8_goBack 18 = .ok (.isub, 1) := zdec_at bX8_goBack_0 12 rfl
theorem dX8_goBack_19 : decode cX8_goBack 19 = .ok (.putfield 872, 3) := zdec_at bX8_goBack_0 13 rfl
theorem dX8_goBack_22 : decode cX8_goBack 22 = .ok (.aload_n 0, 1) := zdec_at bX8_goBack_0 14 rfl
theorem dX8_goBack_23 : decode cX8_goBack 23 = .ok (.getfield 872, 3) := zdec_at bX8_goBack_0 15 rfl
theorem bX8_goBack_26 : zdec cX8_goBack 26 [(26, .ifCond .ne 9, 3), (29, .aload_n 0, 1), (30, .iconst 2, 1), (31, .putfield 773, 3), (34, .return_, 1), (35, .iload_n 3, 1), (36, .iconst (-1), 1), (37, .if_icmp .eq 19, 3), (40, .iload_n 1, 1), (41, .bipush 7, 2), (43, .if_icmp .eq 13, 3), (46, .aload_n 0, 1), (47, .bipush 7, 2), (49, .iload_n 3, 1), (50, .invokevirtual 885, 3), (53, .goto 9, 3)] = true := by decide +kernel
theorem dX8_goBack_26 : decode cX8_goBack 26 = .ok (.ifCond .ne 9, 3) := zdec_at bX8_goBack_26 0 rfl
theorem dX8_goBack_29 : decode cX8_goBack 29 = .ok (.aload_n 0, 1) := zdec_at bX8_goBack_26 1 rfl
theorem dX8_goBack_30 : decode cX8_goBack 30 = .ok (.iconst 2, 1) := zdec_at bX8_goBack_26 2 rfl
theorem dX8_goBack_31 : decode cX8_goBack 31 = .ok (.putfield 773, 3) := zdec_at bX8_goBack_26 3 rfl
theorem dX8_goBack_34 : decode cX8_goBack 34 = .ok (.return_, 1) := zdec_at bX8_goBack_26 4 rfl
theorem dX8_goBack_35 : decode cX8_goBack 35 = .ok (.iload_n 3, 1) := zdec_at bX8_goBack_26 5 rfl
theorem dX8_goBack_36 : decode cX8_goBack 36 = .ok (.iconst (-1), 1) := zdec_at bX8_goBack_26 6 rfl
theorem dX8_goBack_37 : decode cX8_goBack 37 = .ok (.if_icmp .eq 19, 3) := zdec_at bX8_goBack_26 7 rfl
theorem dX8_goBack_40 : decode cX8_goBack 40 = .ok (.iload_n 1, 1) := zdec_at bX8_goBack_26 8 rfl
theorem dX8_goBack_41 : decode cX8_goBack 41 = .ok (.bipush 7, 2) := zdec_at bX8_goBack_26 9 rfl
theorem dX8_goBack_43 : decode cX8_goBack 43 = .ok (.if_icmp .eq 13, 3) := zdec_at bX8_goBack_26 10 rfl
theorem dX8_goBack_46 : decode cX8_goBack 46 = .ok (.aload_n 0, 1) := zdec_at bX8_goBack_26 11 rfl
theorem dX8_goBack_47 : decode cX8_goBack 47 = .ok (.bipush 7, 2) := zdec_at bX8_goBack_26 12 rfl
theorem dX8_goBack_49 : decode cX8_goBack 49 = .ok (.iload_n 3, 1) := zdec_at bX8_goBack_26 13 rfl
theorem dX8_goBack_50 : decode cX8_goBack 50 = .ok (.invokevirtual 885, 3) := zdec_at bX8_goBack_26 14 rfl
theorem dX8_goBack_53 : decode cX8_goBack 53 = .ok (.goto 9, 3) := zdec_at bX8_goBack_26 15 rfl
theorem bX8_goBack_56 : zdec cX8_goBack 56 [(56, .aload_n 0, 1), (57, .iload_n 1, 1), (58, .iload_n 2, 1), (59, .invokevirtual 885, 3), (62, .return_, 1)] = true := by decide +kernel
theorem dX8_goBack_56 : decode cX8_goBack 56 = .ok (.aload_n 0, 1) := zdec_at bX8_goBack_56 0 rfl
theorem dX8_goBack_57 : decode cX8_goBack 57 = .ok (.iload_n 1, 1) := zdec_at bX8_goBack_56 1 rfl
theorem dX8_goBack_58 : decode cX8_goBack 58 = .ok (.iload_n 2, 1) := zdec_at bX8_goBack_56 2 rfl
theorem dX8_goBack_59 : decode cX8_goBack 59 = .ok (.invokevirtual 885, 3) := zdec_at bX8_goBack_56 3 rfl
theorem dX8_goBack_62 : decode cX8_goBack 62 = .ok (.return_, 1) := zdec_at bX8_goBack_56 4 rfl
theorem sX8_goBack_0 {E : zE} {d : Nat} {Q : zO → zM → Prop} (M : zM) (l1 : Int32) (l2 : Int32) (k : vp_in ((gi M 97 92) - (1 : Int32)) 24 ∧ (if ((gi M 97 92) - (1 : Int32)) = 0 then (Q (.inl none) (si (si M 97 92 ((gi M 97 92) - (1 : Int32))) 97 73 (2 : Int32))) else (if (gi M 156 (((gi M 97 92) - (1 : Int32))).toNatClampNeg) = (-1 : Int32) then (Zm E YX8_push d (si M 97 92 ((gi M 97 92) - (1 : Int32))) (zargs 0 [vr (some (97, 1, 0)), vi l1, vi l2]) 0 [] (zma E YX8_goBack (d + 1) [] 59 3 [] Q)) else (if l1 = (7 : Int32) then (Zm E YX8_push d (si M 97 92 ((gi M 97 92) - (1 : Int32))) (zargs 0 [vr (some (97, 1, 0)), vi l1, vi l2]) 0 [] (zma E YX8_goBack (d + 1) [] 59 3 [] Q)) else (Zm E YX8_push d (si M 97 92 ((gi M 97 92) - (1 : Int32))) (zargs 0 [vr (some (97, 1, 0)), vi (7 : Int32), vi (gi M 156 (((gi M 97 92) - (1 : Int32))).toNatClampNeg)]) 0 [] (zma E YX8_goBack (d + 1) [] 50 3 [] Q)))))) : Zm E YX8_goBack (d + 1) M [(0, vr (some (97, 1, 0))), (1, vi l1), (2, vi l2)] 0 [] Q := by
  refine Zm.l (fun _ _ k_ => z_aload_n dX8_goBack_0 rfl rfl k_) ?_
  refine zm_getr 53 dX8_goBack_1 fsX8_188_1 rfl ?_
  refine Zm.l (fun _ _ k_ => z_aload_n dX8_goBack_4 rfl rfl k_) ?_
  refine zm_geti dX8_goBack_5 fsX8_872_1 (by decide) (by decide) ?_
  refine Zm.l (fun _ _ k_ => z_iconst (v := 1) dX8_goBack_8 rfl k_) ?_
  refine Zm.l (fun _ _ k_ => z_isub dX8_goBack_9 k_) ?_
  obtain ⟨b_, k⟩ := k
  refine zm_iald dX8_goBack_10 b_ (by decide) (by decide) ?_
  refine Zm.l (fun _ _ k_ => z_ist_n dX8_goBack_11 rfl (by decide) (lv' := [(0, vr (some (97, 1, 0))), (1, vi l1), (2, vi l2), (3, vi (gi M 156 (((gi M 97 92) - (1 : Int32))).toNatClampNeg))]) rfl k_) ?_
  refine Zm.l (fun _ _ k_ => z_aload_n dX8_goBack_12 rfl rfl k_) ?_
  refine Zm.l (fun _ _ k_ => z_dup dX8_goBack_13 rfl k_) ?_
  refine zm_geti dX8_goBack_14 fsX8_872_1 (by decide) (by decide) ?_
  refine Zm.l (fun _ _ k_ => z_iconst (v := 1) dX8_goBack_17 rfl k_) ?_
  refine Zm.l (fun _ _ k_ => z_isub dX8_goBack_18 k_) ?_
  refine zm_puti (by decide) (by decide) dX8_goBack_19 (zfwN.w fwX8_872_1) rfl ⟨rfl, rfl⟩ ?_
  refine Zm.l (fun _ _ k_ => z_aload_n dX8_goBack_22 rfl rfl k_) ?_
  refine zm_geti dX8_goBack_23 fsX8_872_1 (by decide) (by decide) ?_
  refine Zm.brn (fun _ _ k1_ k2_ => z_if_ne (tgt := 35) dX8_goBack_26 rfl k1_ k2_) (fun h_ => ?_) (fun h_ => ?_)
  · have k := zif h_ k
    refine Zm.l (fun _ _ k_ => z_iload_n dX8_goBack_35 rfl rfl k_) ?_
    refine Zm.l (fun _ _ k_ => z_iconst (v := -1) dX8_goBack_36 rfl k_) ?_
    refine Zm.br (fun _ _ k1_ k2_ => z_icmp_eq (tgt := 56) dX8_goBack_37 rfl k1_ k2_) (fun h_ => ?_) (fun h_ => ?_)
    · have k := zit h_ k
      refine Zm.l (fun _ _ k_ => z_aload_n dX8_goBack_56 rfl rfl k_) ?_
      refine Zm.l (fun _ _ k_ => z_iload_n dX8_goBack_57 rfl rfl k_) ?_
      refine Zm.l (fun _ _ k_ => z_iload_n dX8_goBack_58 rfl rfl k_) ?_
      refine Zm.pick [] rfl ?_
      exact zm_callV (as := [vi l1, vi l2]) (st := []) dX8_goBack_59 vsX8_885_1 (Nat.le_refl _) (Nat.le_of_ble_eq_true rfl) (Nat.le_of_ble_eq_true rfl) rfl k
    · have k := zif h_ k
      refine Zm.l (fun _ _ k_ => z_iload_n dX8_goBack_40 rfl rfl k_) ?_
      refine Zm.l (fun _ _ k_ => z_bipush (v := 7) dX8_goBack_41 rfl k_) ?_
      refine Zm.br (fun _ _ k1_ k2_ => z_icmp_eq (tgt := 56) dX8_goBack_43 rfl k1_ k2_) (fun h_ => ?_) (fun h_ => ?_)
      · have k := zit h_ k
        refine Zm.l (fun _ _ k_ => z_aload_n dX8_goBack_56 rfl rfl k_) ?_
        refine Zm.l (fun _ _ k_ => z_iload_n dX8_goBack_57 rfl rfl k_) ?_
        refine Zm.l (fun _ _ k_ => z_iload_n dX8_goBack_58 rfl rfl k_) ?_
        refine Zm.pick [] rfl ?_
        exact zm_callV (as := [vi l1, vi l2]) (st := []) dX8_goBack_59 vsX8_885_1 (Nat.le_refl _) (Nat.le_of_ble_eq_true rfl) (Nat.le_of_ble_eq_true rfl) rfl k
      · have k := zif h_ k
        refine Zm.l (fun _ _ k_ => z_aload_n dX8_goBack_46 rfl rfl k_) ?_
        refine Zm.l (fun _ _ k_ => z_bipush (v := 7) dX8_goBack_47 rfl k_) ?_
        refine Zm.l (fun _ _ k_ => z_iload_n dX8_goBack_49 rfl rfl k_) ?_
        refine Zm.pick [] rfl ?_
        exact zm_callV (as := [vi (7 : Int32), vi (gi M 156 (((gi M 97 92) - (1 : Int32))).toNatClampNeg)]) (st := []) dX8_goBack_50 vsX8_885_1 (Nat.le_refl _) (Nat.le_of_ble_eq_true rfl) (Nat.le_of_ble_eq_true rfl) rfl k
  · have k := zit h_ k
    refine Zm.l (fun _ _ k_ => z_aload_n dX8_goBack_29 rfl rfl k_) ?_
    refine Zm.l (fun _ _ k_ => z_iconst (v := 2) dX8_goBack_30 rfl k_) ?_
    refine zm_puti (by decide) (by decide) dX8_goBack_31 (zfwN.w fwX8_773_1) rfl ⟨rfl, rfl⟩ ?_
    exact zm_vret dX8_goBack_34 rfl k
theorem sX8_goBack_53 {E : zE} {d : Nat} {Q : zO → zM → Prop} (M : zM)  (k : Zm E YX8_goBack (d + 1) M [] 62 [] Q) : Zm E YX8_goBack (d + 1) M [] 53 [] Q := by
  refine Zm.l (fun _ _ k_ => z_goto (tgt := 62) dX8_goBack_53 rfl k_) ?_
  exact k
theorem sX8_goBack_62 {E : zE} {d : Nat} {Q : zO → zM → Prop} (M : zM)  (k : Q (.inl none) M) : Zm E YX8_goBack (d + 1) M [] 62 [] Q := by
  exact zm_vret dX8_goBack_62 rfl k
/-! ScriptTypesModel.goNext(I)V -/
theorem bX8_goNext_0 : zdec cX8_goNext 0 [(0, .aload_n 0, 1), (1, .aload_n 0, 1), (2, .invokevirtual 879, 3), (5, .iconst 1, 1), (6, .isub, 1), (7, .invokevirtual 963, 3), (10, .istore_n 2, 1), (11, .iload_n 2, 1), (12, .iconst (-1), 1), (13, .if_icmp .ne 21, 3), (16, .aload_n 0, 1), (17, .iconst 1, 1), (18, .invokevirtual 882, 3), (21, .aload_n 0, 1), (22, .getfield 182, 3), (25, .aload_n 0, 1)] = true := by decide +kernel
theorem dX8_goNext_0 : decode cX8_goNext 0 = .ok (.aload_n 0, 1) := zdec_at bX8_goNext_0 0 rfl
theorem dX8_goNext_1 : decode cX8_goNext 1 = .ok (.aload_n 0, 1) := zdec_at bX8_goNext_0 1 rfl
theorem dX8_goNext_2 : decode cX8_goNext 2 = .ok (.invokevirtual 879, 3) := zdec_at bX8_goNext_0 2 rfl
theorem dX8_goNext_5 : decode cX8_goNext 5 = .ok (.iconst 1, 1) := zdec_at bX8_goNext_0 3 rfl
theorem dX8_goNext_6 : decode cX8_goNext 6 = .ok (.isub, 1) := zdec_at bX8_goNext_0 4 rfl
theorem dX8_goNext_7 : decode cX8_goNext 7 = .ok (.invokevirtual 963, 3) := zdec_at bX8_goNext_0 5 rfl
theorem dX8_goNext_10 : decode cX8_goNext 10 = .ok (.istore_n 2, 1) := zdec_at bX8_goNext_0 6 rfl
theorem dX8_goNext_11 : decode cX8_goNext 11 = .ok (.iload_n 2, 1) := zdec_at bX8_goNext_0 7 rfl
theorem dX8_goNext_12 : decode cX8_goNext 12 = .ok (.iconst (-1), 1) := zdec_at bX8_goNext_0 8 rfl
theorem dX8_goNext_13 : decode cX8_goNext 13 = .ok (.if_icmp .ne 21, 3) := zdec_at bX8_goNext_0 9 rfl
theorem dX8_goNext_16 : decode cX8_goNext 16 = .ok (.aload_n 0, 1) := zdec_at bX8_goNext_0 10 rfl
theorem dX8_goNext_17 : decode cX8_goNext 17 = .ok (.iconst 1, 1) := zdec_at bX8_goNext_0 11 rfl
theorem dX8_goNext_18 : decode cX8_goNext 18 = .ok (.invokevirtual 882, 3) := zdec_at bX8_goNext_0 12 rfl
theorem dX8_goNext_21 : decode cX8_goNext 21 = .ok (.aload_n 0, 1) := zdec_at bX8_goNext_0 13 rfl
theorem dX8_goNext_22 : decode cX8_goNext 22 = .ok (.getfield 182, 3) := zdec_at bX8_goNext_0 14 rfl
theorem dX8_goNext_25 : decode cX8_goNext 25 = .ok (.aload_n 0, 1) := zdec_at bX8_goNext_0 15 rfl
theorem bX8_goNext_26 : zdec cX8_goNext 26 [(26, .getfield 872, 3), (29, .iconst 1, 1), (30, .isub, 1), (31, .iload_n 1, 1), (32, .iastore, 1), (33, .return_, 1), (34, .aload_n 0, 1), (35, .getfield 206, 3), (38, .aload_n 0, 1), (39, .invokevirtual 879, 3), (42, .iconst 1, 1), (43, .isub, 1), (44, .aload_n 0, 1), (45, .getfield 164, 3), (48, .iload_n 2, 1), (49, .iaload, 1)] = true := by decide +kernel
theorem dX8_goNext_26 : decode cX8_goNext 26 = .ok (.getfield 872, 3) := zdec_at bX8_goNext_26 0 rfl
theorem dX8_goNext_29 : decode cX8_goNext 29 = .ok (.iconst 1, 1) := zdec_at bX8_goNext_26 1 rfl
theorem dX8_goNext_30 : decode cX8_goNext 30 = .ok (.isub, 1) := zdec_at bX8_goNext_26 2 rfl
theorem dX8_goNext_31 : decode cX8_goNext 31 = .ok (.iload_n 1, 1) := zdec_at bX8_goNext_26 3 rfl
theorem dX8_goNext_32 : decode cX8_goNext 32 = .ok (.iastore, 1) := zdec_at bX8_goNext_26 4 rfl
theorem dX8_goNext_33 : decode cX8_goNext 33 = .ok (.return_, 1) := zdec_at bX8_goNext_26 5 rfl
theorem dX8_goNext_34 : decode cX8_goNext 34 = .ok (.aload_n 0, 1) := zdec_at bX8_goNext_26 6 rfl
theorem dX8_goNext_35 : decode cX8_goNext 35 = .ok (.getfield 206, 3) := zdec_at bX8_goNext_26 7 rfl
theorem dX8_goNext_38 : decode cX8_goNext 38 = .ok (.aload_n 0, 1) := zdec_at bX8_goNext_26 8 rfl
theorem dX8_goNext_39 : decode cX8_goNext 39 = .ok (.invokevirtual 879, 3) := zdec_at bX8_goNext_26 9 rfl
theorem dX8_goNext_42 : decode cX8_goNext 42 = .ok (.iconst 1, 1) := zdec_at bX8_goNext_26 10 rfl
theorem dX8_goNext_43 : decode cX8_goNext 43 = .ok (.isub, 1) := zdec_at bX8_goNext_26 11 rfl
theorem dX8_goNext_44 : decode cX8_goNext 44 = .ok (.aload_n 0, 1) := zdec_at bX8_goNext_26 12 rfl
theorem dX8_goNext_45 : decode cX8_goNext 45 = .ok (.getfield 164, 3) := zdec_at bX8_goNext_26 13 rfl
theorem dX8_goNext_48 : decode cX8_goNext 48 = .ok (.iload_n 2, 1) := zdec_at bX8_goNext_26 14 rfl
theorem dX8_goNext_49 : decode cX8_goNext 49 = .ok (.iaload, 1) := zdec_at bX8_goNext_26 15 rfl
theorem bX8_goNext_50 : zdec cX8_goNext 50 [(50, .iastore, 1), (51, .aload_n 0, 1), (52, .bipush 6, 2), (54, .aload_n 0, 1), (55, .getfield 155, 3), (58, .iload_n 2, 1), (59, .iaload, 1), (60, .invokevirtual 885, 3), (63, .aload_n 0, 1), (64, .invokevirtual 888, 3), (67, .return_, 1)] = true := by decide +kernel
theorem dX8_goNext_50 : decode cX8_goNext 50 = .ok (.iastore, 1) := zdec_at bX8_goNext_50 0 rfl
theorem dX8_goNext_51 : decode cX8_goNext 51 = .ok (.aload_n 0, 1) := zdec_at bX8_goNext_50 1 rfl
theorem dX8_goNext_52 : decode cX8_goNext 52 = .ok (.bipush 6, 2) := zdec_at bX8_goNext_50 2 rfl
theorem dX8_goNext_54 : decode cX8_goNext 54 = .ok (.aload_n 0, 1) := zdec_at bX8_goNext_50 3 rfl
theorem dX8_goNext_55 : decode cX8_goNext 55 = .ok (.getfield 155, 3) := zdec_at bX8_goNext_50 4 rfl
theorem dX8_goNext_58 : decode cX8_goNext 58 = .ok (.iload_n 2, 1) := zdec_at bX8_goNext_50 5 rfl
theorem dX8_goNext_59 : decode cX8_goNext 59 = .ok (.iaload, 1) := zdec_at bX8_goNext_50 6 rfl
theorem dX8_goNext_60 : decode cX8_goNext 60 = .ok (.invokevirtual 885, 3) := zdec_at bX8_goNext_50 7 rfl
theorem dX8_goNext_63 : decode cX8_goNext 63 = .ok (.aload_n 0, 1) := zdec_at bX8_goNext_50 8 rfl
theorem dX8_goNext_64 : decode cX8_goNext 64 = .ok (.invokevirtual 888, 3) := zdec_at bX8_goNext_50 9 rfl
theorem dX8_goNext_67 : decode cX8_goNext 67 = .ok (.return_, 1) := zdec_at bX8_goNext_50 10 rfl
theorem sX8_goNext_0 {E : zE} {d : Nat} {Q : zO → zM → Prop} (M : zM) (l1 : Int32) (k : Zm E YX8_top d M (zargs 0 [vr (some (97, 1, 0))]) 0 [] (zma E YX8_goNext (d + 1) [(0, vr (some (97, 1, 0))), (1, vi l1)] 2 3 [vr (some (97, 1, 0))] Q)) : Zm E YX8_goNext (d + 1) M [(0, vr (some (97, 1, 0))), (1, vi l1)] 0 [] Q := by
  refine Zm.l (fun _ _ k_ => z_aload_n dX8_goNext_0 rfl rfl k_) ?_
  refine Zm.l (fun _ _ k_ => z_aload_n dX8_goNext_1 rfl rfl k_) ?_
  exact zm_callV (as := []) (st := [vr (some (97, 1, 0))]) dX8_goNext_2 vsX8_879_1 (Nat.le_refl _) (Nat.le_of_ble_eq_true rfl) (Nat.le_of_ble_eq_true rfl) rfl k
theorem sX8_goNext_5 {E : zE} {d : Nat} {Q : zO → zM → Prop} (M : zM) (l1 : Int32) (s0 : Int32) (k : Zm E YX8_nextOf d M (zargs 0 [vr (some (97, 1, 0)), vi (s0 - (1 : Int32))]) 0 [] (zma E YX8_goNext (d + 1) [(0, vr (some (97, 1, 0))), (1, vi l1)] 7 3 [] Q)) : Zm E YX8_goNext (d + 1) M [(0, vr (some (97, 1, 0))), (1, vi l1)] 5 [vi s0, vr (some (97, 1, 0))] Q := by
  refine Zm.l (fun _ _ k_ => z_iconst (v := 1) dX8_goNext_5 rfl k_) ?_
  refine Zm.l (fun _ _ k_ => z_isub dX8_goNext_6 k_) ?_
  exact zm_callV (as := [vi (s0 - (1 : Int32))]) (st := []) dX8_goNext_7 vsX8_963_1 (Nat.le_refl _) (Nat.le_of_ble_eq_true rfl) (Nat.le_of_ble_eq_true rfl) rfl k
theorem sX8_goNext_10 {E : zE} {d : Nat} {Q : zO → zM → Prop} (M : zM) (l1 : Int32) (s0 : Int32) (k : if s0 = (-1 : Int32) then (Zm E YX8_drop d M (zargs 0 [vr (some (97, 1, 0)), vi (1 : Int32)]) 0 [] (zma E YX8_goNext (d + 1) [(0, vr (some (97, 1, 0))), (1, vi l1)] 18 3 [] Q)) else (Zm E YX8_top d M (zargs 0 [vr (some (97, 1, 0))]) 0 [] (zma E YX8_goNext (d + 1) [(0, vr (some (97, 1, 0))), (2, vi s0)] 39 3 [vr (some (162, 100, 9600))] Q))) : Zm E YX8_goNext (d + 1) M [(0, vr (some (97, 1, 0))), (1, vi l1)] 10 [vi s0] Q := by
  refine Zm.l (fun _ _ k_ => z_ist_n dX8_goNext_10 rfl (by decide) (lv' := [(0, vr (some (97, 1, 0))), (1, vi l1), (2, vi s0)]) rfl k_) ?_
  refine Zm.l (fun _ _ k_ => z_iload_n dX8_goNext_11 rfl rfl k_) ?_
  refine Zm.l (fun _ _ k_ => z_iconst (v := -1) dX8_goNext_12 rfl k_) ?_
  refine Zm.brn (fun _ _ k1_ k2_ => z_icmp_ne (tgt := 34) dX8_goNext_13 rfl k1_ k2_) (fun h_ => ?_) (fun h_ => ?_)
  · have k := zif h_ k
    refine Zm.l (fun _ _ k_ => z_aload_n dX8_goNext_34 rfl rfl k_) ?_
    refine zm_getr 59 dX8_goNext_35 fsX8_206_1 rfl ?_
    refine Zm.l (fun _ _ k_ => z_aload_n dX8_goNext_38 rfl rfl k_) ?_
    refine Zm.pick [0, 2] rfl ?_
    exact zm_callV (as := []) (st := [vr (some (162, 100, 9600))]) dX8_goNext_39 vsX8_879_1 (Nat.le_refl _) (Nat.le_of_ble_eq_true rfl) (Nat.le_of_ble_eq_true rfl) rfl k
  · have k := zit h_ k
    refine Zm.l (fun _ _ k_ => z_aload_n dX8_goNext_16 rfl rfl k_) ?_
    refine Zm.l (fun _ _ k_ => z_iconst (v := 1) dX8_goNext_17 rfl k_) ?_
    refine Zm.pick [0, 1] rfl ?_
    exact zm_callV (as := [vi (1 : Int32)]) (st := []) dX8_goNext_18 vsX8_882_1 (Nat.le_refl _) (Nat.le_of_ble_eq_true rfl) (Nat.le_of_ble_eq_true rfl) rfl k
theorem sX8_goNext_21 {E : zE} {d : Nat} {Q : zO → zM → Prop} (M : zM) (l1 : Int32) (k : vp_in ((gi M 97 92) - (1 : Int32)) 24 ∧ (Q (.inl none) (si M 154 (((gi M 97 92) - (1 : Int32))).toNatClampNeg l1))) : Zm E YX8_goNext (d + 1) M [(0, vr (some (97, 1, 0))), (1, vi l1)] 21 [] Q := by
  refine Zm.l (fun _ _ k_ => z_aload_n dX8_goNext_21 rfl rfl k_) ?_
  refine zm_getr 51 dX8_goNext_22 fsX8_182_1 rfl ?_
  refine Zm.l (fun _ _ k_ => z_aload_n dX8_goNext_25 rfl rfl k_) ?_
  refine zm_geti dX8_goNext_26 fsX8_872_1 (by decide) (by decide) ?_
  refine Zm.l (fun _ _ k_ => z_iconst (v := 1) dX8_goNext_29 rfl k_) ?_
  refine Zm.l (fun _ _ k_ => z_isub dX8_goNext_30 k_) ?_
  refine Zm.l (fun _ _ k_ => z_iload_n dX8_goNext_31 rfl rfl k_) ?_
  obtain ⟨b_, k⟩ := k
  refine zm_iast dX8_goNext_32 b_ (by decide) (by decide) ?_
  exact zm_vret dX8_goNext_33 rfl k
theorem sX8_goNext_42 {E : zE} {d : Nat} {Q : zO → zM → Prop} (M : zM) (l2 : Int32) (s0 : Int32) (k : vp_in l2 3000 ∧ (vp_in (s0 - (1 : Int32)) 9600 ∧ (vp_in l2 3000 ∧ (Zm E YX8_push d (si M 162 ((s0 - (1 : Int32))).toNatClampNeg (gi M 148 (l2).toNatClampNeg)) (zargs 0 [vr (some (97, 1, 0)), vi (6 : Int32), vi (gi M 145 (l2).toNatClampNeg)]) 0 [] (zma E YX8_goNext (d + 1) [(0, vr (some (97, 1, 0)))] 60 3 [] Q))))) : Zm E YX8_goNext (d + 1) M [(0, vr (some (97, 1, 0))), (2, vi l2)] 42 [vi s0, vr (some (162, 100, 9600))] Q := by
  refine Zm.l (fun _ _ k_ => z_iconst (v := 1) dX8_goNext_42 rfl k_) ?_
  refine Zm.l (fun _ _ k_ => z_isub dX8_goNext_43 k_) ?_
  refine Zm.l (fun _ _ k_ => z_aload_n dX8_goNext_44 rfl rfl k_) ?_
  refine zm_getr 45 dX8_goNext_45 fsX8_164_1 rfl ?_
  refine Zm.l (fun _ _ k_ => z_iload_n dX8_goNext_48 rfl rfl k_) ?_
  obtain ⟨b_, k⟩ := k
  refine zm_iald dX8_goNext_49 b_ (by decide) (by decide) ?_
  obtain ⟨b_, k⟩ := k
  refine zm_iast dX8_goNext_50 b_ (by decide) (by decide) ?_
  refine Zm.l (fun _ _ k_ => z_aload_n dX8_goNext_51 rfl rfl k_) ?_
  refine Zm.l (fun _ _ k_ => z_bipush (v := 6) dX8_goNext_52 rfl k_) ?_
  refine Zm.l (fun _ _ k_ => z_aload_n dX8_goNext_54 rfl rfl k_) ?_
  refine zm_getr 42 dX8_goNext_55 fsX8_155_1 rfl ?_
  refine Zm.l (fun _ _ k_ => z_iload_n dX8_goNext_58 rfl rfl k_) ?_
  obtain ⟨b_, k⟩ := k
  refine zm_iald dX8_goNext_59 b_ (by decide) (by decide) ?_
  refine Zm.pick [0] rfl ?_
  exact zm_callV (as := [vi (6 : Int32), vi (gi M 145 (l2).toNatClampNeg)]) (st := []) dX8_goNext_60 vsX8_885_1 (Nat.le_refl _) (Nat.le_of_ble_eq_true rfl) (Nat.le_of_ble_eq_true rfl) rfl k
theorem sX8_goNext_63 {E : zE} {d : Nat} {Q : zO → zM → Prop} (M : zM)  (k : Zm E YX8_goOn d M (zargs 0 [vr (some (97, 1, 0))]) 0 [] (zma E YX8_goNext (d + 1) [] 64 3 [] Q)) : Zm E YX8_goNext (d + 1) M [(0, vr (some (97, 1, 0)))] 63 [] Q := by
  refine Zm.l (fun _ _ k_ => z_aload_n dX8_goNext_63 rfl rfl k_) ?_
  refine Zm.pick [] rfl ?_
  exact zm_callV (as := []) (st := []) dX8_goNext_64 vsX8_888_1 (Nat.le_refl _) (Nat.le_of_ble_eq_true rfl) (Nat.le_of_ble_eq_true rfl) rfl k
theorem sX8_goNext_67 {E : zE} {d : Nat} {Q : zO → zM → Prop} (M : zM)  (k : Q (.inl none) M) : Zm E YX8_goNext (d + 1) M [] 67 [] Q := by
  exact zm_vret dX8_goNext_67 rfl k
/-! ScriptTypesModel.nextOf(I)I -/
theorem bX8_nextOf_0 : zdec cX8_nextOf 0 [(0, .aload_n 0, 1), (1, .getfield 203, 3), (4, .iload_n 1, 1), (5, .iaload, 1), (6, .istore_n 2, 1), (7, .iload_n 2, 1), (8, .iconst (-1), 1), (9, .if_icmp .ne 5, 3), (12, .iconst (-1), 1), (13, .ireturn, 1), (14, .aload_n 0, 1), (15, .getfield 149, 3), (18, .iload_n 2, 1), (19, .iaload, 1), (20, .istore_n 3, 1), (21, .iload_n 3, 1)] = true := by decide +kernel
theorem dX8_nextOf_0 : decode cX8_nextOf 0 = .ok (.aload_n 0, 1) := zdec_at bX8_nextOf_0 0 rfl
theorem dX8_nextOf_1 : decode cX8_nextOf 1 = .ok (.getfield 203, 3) := zdec_at bX8_nextOf_0 1 rfl
theorem dX8_nextOf_4 : decode cX8_nextOf 4 = .ok (.iload_n 1, 1) := zdec_at bX8_nextOf_0 2 rfl
theorem dX8_nextOf_5 : decode cX8_nextOf 5 = .ok (.iaload, 1) := zdec_at bX8_nextOf_0 3 rfl
theorem dX8_nextOf_6 : decode cX8_nextOf 6 = .ok (.istore_n 2, 1) := zdec_at bX8_nextOf_0 4 rfl
theorem dX8_nextOf_7 : decode cX8_nextOf 7 = .ok (.iload_n 2, 1) := zdec_at bX8_nextOf_0 5 rfl
theorem dX8_nextOf_8 : decode cX8_nextOf 8 = .ok (.iconst (-1), 1) := zdec_at bX8_nextOf_0 6 rfl
theorem dX8_nextOf_9 : decode cX8_nextOf 9 = .ok (.if_icmp .ne 5, 3) := zdec_at bX8_nextOf_0 7 rfl
theorem dX8_nextOf_12 : decode cX8_nextOf 12 = .ok (.iconst (-1), 1) := zdec_at bX8_nextOf_0 8 rfl
theorem dX8_nextOf_13 : decode cX8_nextOf 13 = .ok (.ireturn, 1) := zdec_at bX8_nextOf_0 9 rfl
theorem dX8_nextOf_14 : decode cX8_nextOf 14 = .ok (.aload_n 0, 1) := zdec_at bX8_nextOf_0 10 rfl
theorem dX8_nextOf_15 : decode cX8_nextOf 15 = .ok (.getfield 149, 3) := zdec_at bX8_nextOf_0 11 rfl
theorem dX8_nextOf_18 : decode cX8_nextOf 18 = .ok (.iload_n 2, 1) := zdec_at bX8_nextOf_0 12 rfl
theorem dX8_nextOf_19 : decode cX8_nextOf 19 = .ok (.iaload, 1) := zdec_at bX8_nextOf_0 13 rfl
theorem dX8_nextOf_20 : decode cX8_nextOf 20 = .ok (.istore_n 3, 1) := zdec_at bX8_nextOf_0 14 rfl
theorem dX8_nextOf_21 : decode cX8_nextOf 21 = .ok (.iload_n 3, 1) := zdec_at bX8_nextOf_0 15 rfl
theorem bX8_nextOf_22 : zdec cX8_nextOf 22 [(22, .iconst (-1), 1), (23, .if_icmp .eq 47, 3), (26, .aload_n 0, 1), (27, .getfield 164, 3), (30, .iload_n 3, 1), (31, .iaload, 1), (32, .aload_n 0, 1), (33, .getfield 206, 3), (36, .iload_n 1, 1), (37, .iaload, 1), (38, .if_icmp .le 22, 3), (41, .aload_n 0, 1), (42, .getfield 143, 3), (45, .iload_n 2, 1), (46, .iaload, 1), (47, .iconst 2, 1)] = true := by decide +kernel
theorem dX8_nextOf_22 : decode cX8_nextOf 22 = .ok (.iconst (-1), 1) := zdec_at bX8_nextOf_22 0 rfl
theorem dX8_nextOf_23 : decode cX8_nextOf 23 = .ok (.if_icmp .eq 47, 3) := zdec_at bX8_nextOf_22 1 rfl
theorem dX8_nextOf_26 : decode cX8_nextOf 26 = .ok (.aload_n 0, 1) := zdec_at bX8_nextOf_22 2 rfl
theorem dX8_nextOf_27 : decode cX8_nextOf 27 = .ok (.getfield 164, 3) := zdec_at bX8_nextOf_22 3 rfl
theorem dX8_nextOf_30 : decode cX8_nextOf 30 = .ok (.iload_n 3, 1) := zdec_at bX8_nextOf_22 4 rfl
theorem dX8_nextOf_31 : decode cX8_nextOf 31 = .ok (.iaload, 1) := zdec_at bX8_nextOf_22 5 rfl
theorem dX8_nextOf_32 : decode cX8_nextOf 32 = .ok (.aload_n 0, 1) := zdec_at bX8_nextOf_22 6 rfl
theorem dX8_nextOf_33 : decode cX8_nextOf 33 = .ok (.getfield 206, 3) := zdec_at bX8_nextOf_22 7 rfl
theorem dX8_nextOf_36 : decode cX8_nextOf 36 = .ok (.iload_n 1, 1) := zdec_at bX8_nextOf_22 8 rfl
theorem dX8_nextOf_37 : decode cX8_nextOf 37 = .ok (.iaload, 1) := zdec_at bX8_nextOf_22 9 rfl
theorem dX8_nextOf_38 : decode cX8_nextOf 38 = .ok (.if_icmp .le 22, 3) := zdec_at bX8_nextOf_22 10 rfl
theorem dX8_nextOf_41 : decode cX8_nextOf 41 = .ok (.aload_n 0, 1) := zdec_at bX8_nextOf_22 11 rfl
theorem dX8_nextOf_42 : decode cX8_nextOf 42 = .ok (.getfield 143, 3) := zdec_at bX8_nextOf_22 12 rfl
theorem dX8_nextOf_45 : decode cX8_nextOf 45 = .ok (.iload_n 2, 1) := zdec_at bX8_nextOf_22 13 rfl
theorem dX8_nextOf_46 : decode cX8_nextOf 46 = .ok (.iaload, 1) := zdec_at bX8_nextOf_22 14 rfl
theorem dX8_nextOf_47 : decode cX8_nextOf 47 = .ok (.iconst 2, 1) := zdec_at bX8_nextOf_22 15 rfl
theorem bX8_nextOf_48 : zdec cX8_nextOf 48 [(48, .if_icmp .ne 22, 3), (51, .aload_n 0, 1), (52, .getfield 155, 3), (55, .iload_n 3, 1), (56, .iaload, 1), (57, .ifCond .ne 13, 3), (60, .aload_n 0, 1), (61, .getfield 167, 3), (64, .iload_n 3, 1), (65, .iaload, 1), (66, .istore_n 3, 1), (67, .goto (-46), 3), (70, .iload_n 3, 1), (71, .iconst (-1), 1), (72, .if_icmp .eq 22, 3), (75, .aload_n 0, 1)] = true := by decide +kernel
theorem dX8_nextOf_48 : decode cX8_nextOf 48 = .ok (.if_icmp .ne 22, 3) := zdec_at bX8_nextOf_48 0 rfl
theorem dX8_nextOf_51 : decode cX8_nextOf 51 = .ok (.aload_n 0, 1) := zdec_at bX8_nextOf_48 1 rfl
theorem dX8_nextOf_52 : decode cX8_nextOf 52 = .ok (.getfield 155, 3) := zdec_at bX8_nextOf_48 2 rfl
theorem dX8_nextOf_55 : decode cX8_nextOf 55 = .ok (.iload_n 3, 1) := zdec_at bX8_nextOf_48 3 rfl
theorem dX8_nextOf_56 : decode cX8_nextOf 56 = .ok (.iaload, 1) := zdec_at bX8_nextOf_48 4 rfl
theorem dX8_nextOf_57 : decode cX8_nextOf 57 = .ok (.ifCond .ne 13, 3) := zdec_at bX8_nextOf_48 5 rfl
theorem dX8_nextOf_60 : decode cX8_nextOf 60 = .ok (.aload_n 0, 1) := zdec_at bX8_nextOf_48 6 rfl
theorem dX8_nextOf_61 : decode cX8_nextOf 61 = .ok (.getfield 167, 3) := zdec_at bX8_nextOf_48 7 rfl
theorem dX8_nextOf_64 : decode cX8_nextOf 64 = .ok (.iload_n 3, 1) := zdec_at bX8_nextOf_48 8 rfl
theorem dX8_nextOf_65 : decode cX8_nextOf 65 = .ok (.iaload, 1) := zdec_at bX8_nextOf_48 9 rfl
theorem dX8_nextOf_66 : decode cX8_nextOf 66 = .ok (.istore_n 3, 1) := zdec_at bX8_nextOf_48 10 rfl
theorem dX8_nextOf_67 : decode cX8_nextOf 67 = .ok (.goto (-46), 3) := zdec_at bX8_nextOf_48 11 rfl
theorem dX8_nextOf_70 : decode cX8_nextOf 70 = .ok (.iload_n 3, 1) := zdec_at bX8_nextOf_48 12 rfl
theorem dX8_nextOf_71 : decode cX8_nextOf 71 = .ok (.iconst (-1), 1) := zdec_at bX8_nextOf_48 13 rfl
theorem dX8_nextOf_72 : decode cX8_nextOf 72 = .ok (.if_icmp .eq 22, 3) := zdec_at bX8_nextOf_48 14 rfl
theorem dX8_nextOf_75 : decode cX8_nextOf 75 = .ok (.aload_n 0, 1) := zdec_at bX8_nextOf_48 15 rfl
theorem bX8_nextOf_76 : zdec cX8_nextOf 76 [(76, .getfield 164, 3), (79, .iload_n 3, 1), (80, .iaload, 1), (81, .aload_n 0, 1), (82, .getfield 209, 3), (85, .iload_n 1, 1), (86, .iaload, 1), (87, .if_icmp .gt 7, 3), (90, .iload_n 3, 1), (91, .goto 4, 3), (94, .iconst (-1), 1), (95, .ireturn, 1)] = true := by decide +kernel
theorem dX8_nextOf_76 : decode cX8_nextOf 76 = .ok (.getfield 164, 3) := zdec_at bX8_nextOf_76 0 rfl
theorem dX8_nextOf_79 : decode cX8_nextOf 79 = .ok (.iload_n 3, 1) := zdec_at bX8_nextOf_76 1 rfl
theorem dX8_nextOf_80 : decode cX8_nextOf 80 = .ok (.iaload, 1) := zdec_at bX8_nextOf_76 2 rfl
theorem dX8_nextOf_81 : decode cX8_nextOf 81 = .ok (.aload_n 0, 1) := zdec_at bX8_nextOf_76 3 rfl
theorem dX8_nextOf_82 : decode cX8_nextOf 82 = .ok (.getfield 209, 3) := zdec_at bX8_nextOf_76 4 rfl
theorem dX8_nextOf_85 : decode cX8_nextOf 85 = .ok (.iload_n 1, 1) := zdec_at bX8_nextOf_76 5 rfl
theorem dX8_nextOf_86 : decode cX8_nextOf 86 = .ok (.iaload, 1) := zdec_at bX8_nextOf_76 6 rfl
theorem dX8_nextOf_87 : decode cX8_nextOf 87 = .ok (.if_icmp .gt 7, 3) := zdec_at bX8_nextOf_76 7 rfl
theorem dX8_nextOf_90 : decode cX8_nextOf 90 = .ok (.iload_n 3, 1) := zdec_at bX8_nextOf_76 8 rfl
theorem dX8_nextOf_91 : decode cX8_nextOf 91 = .ok (.goto 4, 3) := zdec_at bX8_nextOf_76 9 rfl
theorem dX8_nextOf_94 : decode cX8_nextOf 94 = .ok (.iconst (-1), 1) := zdec_at bX8_nextOf_76 10 rfl
theorem dX8_nextOf_95 : decode cX8_nextOf 95 = .ok (.ireturn, 1) := zdec_at bX8_nextOf_76 11 rfl
theorem sX8_nextOf_0 {E : zE} {d : Nat} {Q : zO → zM → Prop} (M : zM) (l1 : Int32) (k : vp_in l1 9600 ∧ (if (gi M 161 (l1).toNatClampNeg) = (-1 : Int32) then (Q (.inl (some (vi (-1 : Int32)))) M) else (vp_in (gi M 161 (l1).toNatClampNeg) 300 ∧ (Zm E YX8_nextOf d M [(0, vr (some (97, 1, 0))), (1, vi l1), (2, vi (gi M 161 (l1).toNatClampNeg)), (3, vi (gi M 143 ((gi M 161 (l1).toNatClampNeg)).toNatClampNeg))] 21 [] Q)))) : Zm E YX8_nextOf d M [(0, vr (some (97, 1, 0))), (1, vi l1)] 0 [] Q := by
  refine Zm.l (fun _ _ k_ => z_aload_n dX8_nextOf_0 rfl rfl k_) ?_
  refine zm_getr 58 dX8_nextOf_1 fsX8_203_1 rfl ?_
  refine Zm.l (fun _ _ k_ => z_iload_n dX8_nextOf_4 rfl rfl k_) ?_
  obtain ⟨b_, k⟩ := k
  refine zm_iald dX8_nextOf_5 b_ (by decide) (by decide) ?_
  refine Zm.l (fun _ _ k_ => z_ist_n dX8_nextOf_6 rfl (by decide) (lv' := [(0, vr (some (97, 1, 0))), (1, vi l1), (2, vi (gi M 161 (l1).toNatClampNeg))]) rfl k_) ?_
  refine Zm.l (fun _ _ k_ => z_iload_n dX8_nextOf_7 rfl rfl k_) ?_
  refine Zm.l (fun _ _ k_ => z_iconst (v := -1) dX8_nextOf_8 rfl k_) ?_
  refine Zm.brn (fun _ _ k1_ k2_ => z_icmp_ne (tgt := 14) dX8_nextOf_9 rfl k1_ k2_) (fun h_ => ?_) (fun h_ => ?_)
  · have k := zif h_ k
    refine Zm.l (fun _ _ k_ => z_aload_n dX8_nextOf_14 rfl rfl k_) ?_
    refine zm_getr 40 dX8_nextOf_15 fsX8_149_1 rfl ?_
    refine Zm.l (fun _ _ k_ => z_iload_n dX8_nextOf_18 rfl rfl k_) ?_
    obtain ⟨b_, k⟩ := k
    refine zm_iald dX8_nextOf_19 b_ (by decide) (by decide) ?_
    refine Zm.l (fun _ _ k_ => z_ist_n dX8_nextOf_20 rfl (by decide) (lv' := [(0, vr (some (97, 1, 0))), (1, vi l1), (2, vi (gi M 161 (l1).toNatClampNeg)), (3, vi (gi M 143 ((gi M 161 (l1).toNatClampNeg)).toNatClampNeg))]) rfl k_) ?_
    exact k
  · have k := zit h_ k
    refine Zm.l (fun _ _ k_ => z_iconst (v := -1) dX8_nextOf_12 rfl k_) ?_
    exact zm_iret dX8_nextOf_13 rfl rfl k
theorem sX8_nextOf_21 {E : zE} {d : Nat} {Q : zO → zM → Prop} (M : zM) (l1 : Int32) (l2 : Int32) (l3 : Int32) (k : if l3 = (-1 : Int32) then (Zm E YX8_nextOf d M [(0, vr (some (97, 1, 0))), (1, vi l1), (3, vi l3)] 70 [] Q) else (vp_in l3 3000 ∧ (vp_in l1 9600 ∧ (if (gi M 148 (l3).toNatClampNeg) ≤ (gi M 162 (l1).toNatClampNeg) then (vp_in l3 3000 ∧ (Zm E YX8_nextOf d M [(0, vr (some (97, 1, 0))), (1, vi l1), (2, vi l2), (3, vi (gi M 149 (l3).toNatClampNeg))] 21 [] Q)) else (vp_in l2 300 ∧ (if (gi M 141 (l2).toNatClampNeg) = (2 : Int32) then (vp_in l3 3000 ∧ (if (gi M 145 (l3).toNatClampNeg) = 0 then (vp_in l3 3000 ∧ (Zm E YX8_nextOf d M [(0, vr (some (97, 1, 0))), (1, vi l1), (2, vi l2), (3, vi (gi M 149 (l3).toNatClampNeg))] 21 [] Q)) else (Zm E YX8_nextOf d M [(0, vr (some (97, 1, 0))), (1, vi l1), (3, vi l3)] 70 [] Q))) else (Zm E YX8_nextOf d M [(0, vr (some (97, 1, 0))), (1, vi l1), (3, vi l3)] 70 [] Q))))))) : Zm E YX8_nextOf d M [(0, vr (some (97, 1, 0))), (1, vi l1), (2, vi l2), (3, vi l3)] 21 [] Q := by
  refine Zm.l (fun _ _ k_ => z_iload_n dX8_nextOf_21 rfl rfl k_) ?_
  refine Zm.l (fun _ _ k_ => z_iconst (v := -1) dX8_nextOf_22 rfl k_) ?_
  refine Zm.br (fun _ _ k1_ k2_ => z_icmp_eq (tgt := 70) dX8_nextOf_23 rfl k1_ k2_) (fun h_ => ?_) (fun h_ => ?_)
  · have k := zit h_ k
    refine Zm.pick [0, 1, 3] rfl ?_
    exact k
  · have k := zif h_ k
    refine Zm.l (fun _ _ k_ => z_aload_n dX8_nextOf_26 rfl rfl k_) ?_
    refine zm_getr 45 dX8_nextOf_27 fsX8_164_1 rfl ?_
    refine Zm.l (fun _ _ k_ => z_iload_n dX8_nextOf_30 rfl rfl k_) ?_
    obtain ⟨b_, k⟩ := k
    refine zm_iald dX8_nextOf_31 b_ (by decide) (by decide) ?_
    refine Zm.l (fun _ _ k_ => z_aload_n dX8_nextOf_32 rfl rfl k_) ?_
    refine zm_getr 59 dX8_nextOf_33 fsX8_206_1 rfl ?_
    refine Zm.l (fun _ _ k_ => z_iload_n dX8_nextOf_36 rfl rfl k_) ?_
    obtain ⟨b_, k⟩ := k
    refine zm_iald dX8_nextOf_37 b_ (by decide) (by decide) ?_
    refine Zm.br (fun _ _ k1_ k2_ => z_icmp_le (tgt := 60) dX8_nextOf_38 rfl k1_ k2_) (fun h_ => ?_) (fun h_ => ?_)
    · have k := zit h_ k
      refine Zm.l (fun _ _ k_ => z_aload_n dX8_nextOf_60 rfl rfl k_) ?_
      refine zm_getr 46 dX8_nextOf_61 fsX8_167_1 rfl ?_
      refine Zm.l (fun _ _ k_ => z_iload_n dX8_nextOf_64 rfl rfl k_) ?_
      obtain ⟨b_, k⟩ := k
      refine zm_iald dX8_nextOf_65 b_ (by decide) (by decide) ?_
      refine Zm.l (fun _ _ k_ => z_ist_n dX8_nextOf_66 rfl (by decide) (lv' := [(0, vr (some (97, 1, 0))), (1, vi l1), (2, vi l2), (3, vi (gi M 149 (l3).toNatClampNeg))]) rfl k_) ?_
      refine Zm.l (fun _ _ k_ => z_goto (tgt := 21) dX8_nextOf_67 rfl k_) ?_
      exact k
    · have k := zif h_ k
      refine Zm.l (fun _ _ k_ => z_aload_n dX8_nextOf_41 rfl rfl k_) ?_
      refine zm_getr 38 dX8_nextOf_42 fsX8_143_1 rfl ?_
      refine Zm.l (fun _ _ k_ => z_iload_n dX8_nextOf_45 rfl rfl k_) ?_
      obtain ⟨b_, k⟩ := k
      refine zm_iald dX8_nextOf_46 b_ (by decide) (by decide) ?_
      refine Zm.l (fun _ _ k_ => z_iconst (v := 2) dX8_nextOf_47 rfl k_) ?_
      refine Zm.brn (fun _ _ k1_ k2_ => z_icmp_ne (tgt := 70) dX8_nextOf_48 rfl k1_ k2_) (fun h_ => ?_) (fun h_ => ?_)
      · have k := zif h_ k
        refine Zm.pick [0, 1, 3] rfl ?_
        exact k
      · have k := zit h_ k
        refine Zm.l (fun _ _ k_ => z_aload_n dX8_nextOf_51 rfl rfl k_) ?_
        refine zm_getr 42 dX8_nextOf_52 fsX8_155_1 rfl ?_
        refine Zm.l (fun _ _ k_ => z_iload_n dX8_nextOf_55 rfl rfl k_) ?_
        obtain ⟨b_, k⟩ := k
        refine zm_iald dX8_nextOf_56 b_ (by decide) (by decide) ?_
        refine Zm.brn (fun _ _ k1_ k2_ => z_if_ne (tgt := 70) dX8_nextOf_57 rfl k1_ k2_) (fun h_ => ?_) (fun h_ => ?_)
        · have k := zif h_ k
          refine Zm.pick [0, 1, 3] rfl ?_
          exact k
        · have k := zit h_ k
          refine Zm.l (fun _ _ k_ => z_aload_n dX8_nextOf_60 rfl rfl k_) ?_
          refine zm_getr 46 dX8_nextOf_61 fsX8_167_1 rfl ?_
          refine Zm.l (fun _ _ k_ => z_iload_n dX8_nextOf_64 rfl rfl k_) ?_
          obtain ⟨b_, k⟩ := k
          refine zm_iald dX8_nextOf_65 b_ (by decide) (by decide) ?_
          refine Zm.l (fun _ _ k_ => z_ist_n dX8_nextOf_66 rfl (by decide) (lv' := [(0, vr (some (97, 1, 0))), (1, vi l1), (2, vi l2), (3, vi (gi M 149 (l3).toNatClampNeg))]) rfl k_) ?_
          refine Zm.l (fun _ _ k_ => z_goto (tgt := 21) dX8_nextOf_67 rfl k_) ?_
          exact k
theorem sX8_nextOf_70 {E : zE} {d : Nat} {Q : zO → zM → Prop} (M : zM) (l1 : Int32) (l3 : Int32) (k : if l3 = (-1 : Int32) then (Q (.inl (some (vi (-1 : Int32)))) M) else (vp_in l3 3000 ∧ (vp_in l1 9600 ∧ (if (gi M 163 (l1).toNatClampNeg) < (gi M 148 (l3).toNatClampNeg) then (Q (.inl (some (vi (-1 : Int32)))) M) else (Q (.inl (some (vi l3))) M))))) : Zm E YX8_nextOf d M [(0, vr (some (97, 1, 0))), (1, vi l1), (3, vi l3)] 70 [] Q := by
  refine Zm.l (fun _ _ k_ => z_iload_n dX8_nextOf_70 rfl rfl k_) ?_
  refine Zm.l (fun _ _ k_ => z_iconst (v := -1) dX8_nextOf_71 rfl k_) ?_
  refine Zm.br (fun _ _ k1_ k2_ => z_icmp_eq (tgt := 94) dX8_nextOf_72 rfl k1_ k2_) (fun h_ => ?_) (fun h_ => ?_)
  · have k := zit h_ k
    refine Zm.l (fun _ _ k_ => z_iconst (v := -1) dX8_nextOf_94 rfl k_) ?_
    exact zm_iret dX8_nextOf_95 rfl rfl k
  · have k := zif h_ k
    refine Zm.l (fun _ _ k_ => z_aload_n dX8_nextOf_75 rfl rfl k_) ?_
    refine zm_getr 45 dX8_nextOf_76 fsX8_164_1 rfl ?_
    refine Zm.l (fun _ _ k_ => z_iload_n dX8_nextOf_79 rfl rfl k_) ?_
    obtain ⟨b_, k⟩ := k
    refine zm_iald dX8_nextOf_80 b_ (by decide) (by decide) ?_
    refine Zm.l (fun _ _ k_ => z_aload_n dX8_nextOf_81 rfl rfl k_) ?_
    refine zm_getr 60 dX8_nextOf_82 fsX8_209_1 rfl ?_
    refine Zm.l (fun _ _ k_ => z_iload_n dX8_nextOf_85 rfl rfl k_) ?_
    obtain ⟨b_, k⟩ := k
    refine zm_iald dX8_nextOf_86 b_ (by decide) (by decide) ?_
    refine Zm.br (fun _ _ k1_ k2_ => z_icmp_gt (tgt := 94) dX8_nextOf_87 rfl k1_ k2_) (fun h_ => ?_) (fun h_ => ?_)
    · have k := zit h_ k
      refine Zm.l (fun _ _ k_ => z_iconst (v := -1) dX8_nextOf_94 rfl k_) ?_
      exact zm_iret dX8_nextOf_95 rfl rfl k
    · have k := zif h_ k
      refine Zm.l (fun _ _ k_ => z_iload_n dX8_nextOf_90 rfl rfl k_) ?_
      refine Zm.l (fun _ _ k_ => z_goto (tgt := 95) dX8_nextOf_91 rfl k_) ?_
      exact zm_iret dX8_nextOf_95 rfl rfl k
/-! ScriptTypesModel.count(I)I -/
theorem bX8_count_0 : zdec cX8_count 0 [(0, .aload_n 0, 1), (1, .iconst 0, 1), (2, .putfield 289, 3), (5, .aload_n 0, 1), (6, .getfield 773, 3), (9, .ifCond .le 7, 3), (12, .iconst 1, 1), (13, .goto 4, 3), (16, .iconst 0, 1), (17, .istore_n 2, 1), (18, .iload_n 1, 1)] = true := by decide +kernel
theorem dX8_count_0 : decode cX8_count 0 = .ok (.aload_n 0, 1) := zdec_at bX8_count_0 0 rfl
theorem dX8_count_1 : decode cX8_count 1 = .ok (.iconst 0, 1) := zdec_at bX8_count_0 1 rfl
theorem dX8_count_2 : decode cX8_count 2 = .ok (.putfield 289, 3) := zdec_at bX8_count_0 2 rfl
theorem dX8_count_5 : decode cX8_count 5 = .ok (.aload_n 0, 1) := zdec_at bX8_count_0 3 rfl
theorem dX8_count_6 : decode cX8_count 6 = .ok (.getfield 773, 3) := zdec_at bX8_count_0 4 rfl
theorem dX8_count_9 : decode cX8_count 9 = .ok (.ifCond .le 7, 3) := zdec_at bX8_count_0 5 rfl
theorem dX8_count_12 : decode cX8_count 12 = .ok (.iconst 1, 1) := zdec_at bX8_count_0 6 rfl
theorem dX8_count_13 : decode cX8_count 13 = .ok (.goto 4, 3) := zdec_at bX8_count_0 7 rfl
theorem dX8_count_16 : decode cX8_count 16 = .ok (.iconst 0, 1) := zdec_at bX8_count_0 8 rfl
theorem dX8_count_17 : decode cX8_count 17 = .ok (.istore_n 2, 1) := zdec_at bX8_count_0 9 rfl
theorem dX8_count_18 : decode cX8_count 18 = .ok (.iload_n 1, 1) := zdec_at bX8_count_0 10 rfl
theorem dX8_count_19 : decode cX8_count 19 = .ok (.tableswitch 236 0 12 #[65, 81, 97, 113, 129, 145, 150, 155, 168, 181, 194, 207, 220], 65) := by decide +kernel
theorem bX8_count_84 : zdec cX8_count 84 [(84, .aload_n 0, 1), (85, .getfield 770, 3), (88, .ifCond .eq 10, 3), (91, .aload_n 0, 1), (92, .getfield 606, 3), (95, .goto 4, 3), (98, .iconst 0, 1), (99, .ireturn, 1), (100, .aload_n 0, 1), (101, .getfield 770, 3), (104, .ifCond .eq 10, 3), (107, .aload_n 0, 1), (108, .getfield 527, 3), (111, .goto 4, 3), (114, .iconst 0, 1), (115, .ireturn, 1)] = true := by decide +kernel
theorem dX8_count_84 : decode cX8_count 84 = .ok (.aload_n 0, 1) := zdec_at bX8_count_84 0 rfl
theorem dX8_count_85 : decode cX8_count 85 = .ok (.getfield 770, 3) := zdec_at bX8_count_84 1 rfl
theorem dX8_count_88 : decode cX8_count 88 = .ok (.ifCond .eq 10, 3) := zdec_at bX8_count_84 2 rfl
theorem dX8_count_91 : decode cX8_count 91 = .ok (.aload_n 0, 1) := zdec_at bX8_count_84 3 rfl
theorem dX8_count_92 : decode cX8_count 92 = .ok (.getfield 606, 3) := zdec_at bX8_count_84 4 rfl
theorem dX8_count_95 : decode cX8_count 95 = .ok (.goto 4, 3) := zdec_at bX8_count_84 5 rfl
theorem dX8_count_98 : decode cX8_count 98 = .ok (.iconst 0, 1) := zdec_at bX8_count_84 6 rfl
theorem dX8_count_99 : decode cX8_count 99 = .ok (.ireturn, 1) := zdec_at bX8_count_84 7 rfl
theorem dX8_count_100 : decode cX8_count 100 = .ok (.aload_n 0, 1) := zdec_at bX8_count_84 8 rfl
theorem dX8_count_101 : decode cX8_count 101 = .ok (.getfield 770, 3) := zdec_at bX8_count_84 9 rfl
theorem dX8_count_104 : decode cX8_count 104 = .ok (.ifCond .eq 10, 3) := zdec_at bX8_count_84 10 rfl
theorem dX8_count_107 : decode cX8_count 107 = .ok (.aload_n 0, 1) := zdec_at bX8_count_84 11 rfl
theorem dX8_count_108 : decode cX8_count 108 = .ok (.getfield 527, 3) := zdec_at bX8_count_84 12 rfl
theorem dX8_count_111 : decode cX8_count 111 = .ok (.goto 4, 3) := zdec_at bX8_count_84 13 rfl
theorem dX8_count_114 : decode cX8_count 114 = .ok (.iconst 0, 1) := zdec_at bX8_count_84 14 rfl
theorem dX8_count_115 : decode cX8_count 115 = .ok (.ireturn, 1) := zdec_at bX8_count_84 15 rfl
theorem bX8_count_116 : zdec cX8_count 116 [(116, .aload_n 0, 1), (117, .getfield 770, 3), (120, .ifCond .eq 10, 3), (123, .aload_n 0, 1), (124, .getfield 762, 3), (127, .goto 4, 3), (130, .iconst 0, 1), (131, .ireturn, 1), (132, .aload_n 0, 1), (133, .getfield 770, 3), (136, .ifCond .eq 10, 3), (139, .aload_n 0, 1), (140, .getfield 765, 3), (143, .goto 4, 3), (146, .iconst 0, 1), (147, .ireturn, 1)] = true := by decide +kernel
theorem dX8_count_116 : decode cX8_count 116 = .ok (.aload_n 0, 1) := zdec_at bX8_count_116 0 rfl
theorem dX8_count_117 : decode cX8_count 117 = .ok (.getfield 770, 3) := zdec_at bX8_count_116 1 rfl
theorem dX8_count_120 : decode cX8_count 120 = .ok (.ifCond .eq 10, 3) := zdec_at bX8_count_116 2 rfl
theorem dX8_count_123 : decode cX8_count 123 = .ok (.aload_n 0, 1) := zdec_at bX8_count_116 3 rfl
theorem dX8_count_124 : decode cX8_count 124 = .ok (.getfield 762, 3) := zdec_at bX8_count_116 4 rfl
theorem dX8_count_127 : decode cX8_count 127 = .ok (.goto 4, 3) := zdec_at bX8_count_116 5 rfl
theorem dX8_count_130 : decode cX8_count 130 = .ok (.iconst 0, 1) := zdec_at bX8_count_116 6 rfl
theorem dX8_count_131 : decode cX8_count 131 = .ok (.ireturn, 1) := zdec_at bX8_count_116 7 rfl
theorem dX8_count_132 : decode cX8_count 132 = .ok (.aload_n 0, 1) := zdec_at bX8_count_116 8 rfl
theorem dX8_count_133 : decode cX8_count 133 = .ok (.getfield 770, 3) := zdec_at bX8_count_116 9 rfl
theorem dX8_count_136 : decode cX8_count 136 = .ok (.ifCond .eq 10, 3) := zdec_at bX8_count_116 10 rfl
theorem dX8_count_139 : decode cX8_count 139 = .ok (.aload_n 0, 1) := zdec_at bX8_count_116 11 rfl
theorem dX8_count_140 : decode cX8_count 140 = .ok (.getfield 765, 3) := zdec_at bX8_count_116 12 rfl
theorem dX8_count_143 : decode cX8_count 143 = .ok (.goto 4, 3) := zdec_at bX8_count_116 13 rfl
theorem dX8_count_146 : decode cX8_count 146 = .ok (.iconst 0, 1) := zdec_at bX8_count_116 14 rfl
theorem dX8_count_147 : decode cX8_count 147 = .ok (.ireturn, 1) := zdec_at bX8_count_116 15 rfl
theorem bX8_count_148 : zdec cX8_count 148 [(148, .aload_n 0, 1), (149, .getfield 770, 3), (152, .ifCond .eq 10, 3), (155, .aload_n 0, 1), (156, .getfield 689, 3), (159, .goto 4, 3), (162, .iconst 0, 1), (163, .ireturn, 1), (164, .aload_n 0, 1), (165, .getfield 293, 3), (168, .ireturn, 1), (169, .aload_n 0, 1), (170, .getfield 773, 3), (173, .ireturn, 1), (174, .iload_n 2, 1), (175, .ifCond .eq 10, 3)] = true := by decide +kernel
theorem dX8_count_148 : decode cX8_count 148 = .ok (.aload_n 0, 1) := zdec_at bX8_count_148 0 rfl
theorem dX8_count_149 : decode cX8_count 149 = .ok (.getfield 770, 3) := zdec_at bX8_count_148 1 rfl
theorem dX8_count_152 : decode cX8_count 152 = .ok (.ifCond .eq 10, 3) := zdec_at bX8_count_148 2 rfl
theorem dX8_count_155 : decode cX8_count 155 = .ok (.aload_n 0, 1) := zdec_at bX8_count_148 3 rfl
theorem dX8_count_156 : decode cX8_count 156 = .ok (.getfield 689, 3) := zdec_at bX8_count_148 4 rfl
theorem dX8_count_159 : decode cX8_count 159 = .ok (.goto 4, 3) := zdec_at bX8_count_148 5 rfl
theorem dX8_count_162 : decode cX8_count 162 = .ok (.iconst 0, 1) := zdec_at bX8_count_148 6 rfl
theorem dX8_count_163 : decode cX8_count 163 = .ok (.ireturn, 1) := zdec_at bX8_count_148 7 rfl
theorem dX8_count_164 : decode cX8_count 164 = .ok (.aload_n 0, 1) := zdec_at bX8_count_148 8 rfl
theorem dX8_count_165 : decode cX8_count 165 = .ok (.getfield 293, 3) := zdec_at bX8_count_148 9 rfl
theorem dX8_count_168 : decode cX8_count 168 = .ok (.ireturn, 1) := zdec_at bX8_count_148 10 rfl
theorem dX8_count_169 : decode cX8_count 169 = .ok (.aload_n 0, 1) := zdec_at bX8_count_148 11 rfl
theorem dX8_count_170 : decode cX8_count 170 = .ok (.getfield 773, 3) := zdec_at bX8_count_148 12 rfl
theorem dX8_count_173 : decode cX8_count 173 = .ok (.ireturn, 1) := zdec_at bX8_count_148 13 rfl
theorem dX8_count_174 : decode cX8_count 174 = .ok (.iload_n 2, 1) := zdec_at bX8_count_148 14 rfl
theorem dX8_count_175 : decode cX8_count 175 = .ok (.ifCond .eq 10, 3) := zdec_at bX8_count_148 15 rfl
theorem bX8_count_178 : zdec cX8_count 178 [(178, .aload_n 0, 1), (179, .getfield 861, 3), (182, .goto 4, 3), (185, .iconst 0, 1), (186, .ireturn, 1), (187, .iload_n 2, 1), (188, .ifCond .eq 10, 3), (191, .aload_n 0, 1), (192, .getfield 843, 3), (195, .goto 4, 3), (198, .iconst 0, 1), (199, .ireturn, 1), (200, .iload_n 2, 1), (201, .ifCond .eq 10, 3), (204, .aload_n 0, 1), (205, .getfield 296, 3)] = true := by decide +kernel
theorem dX8_count_178 : decode cX8_count 178 = .ok (.aload_n 0, 1) := zdec_at bX8_count_178 0 rfl
theorem dX8_count_179 : decode cX8_count 179 = .ok (.getfield 861, 3) := zdec_at bX8_count_178 1 rfl
theorem dX8_count_182 : decode cX8_count 182 = .ok (.goto 4, 3) := zdec_at bX8_count_178 2 rfl
theorem dX8_count_185 : decode cX8_count 185 = .ok (.iconst 0, 1) := zdec_at bX8_count_178 3 rfl
theorem dX8_count_186 : decode cX8_count 186 = .ok (.ireturn, 1) := zdec_at bX8_count_178 4 rfl
theorem dX8_count_187 : decode cX8_count 187 = .ok (.iload_n 2, 1) := zdec_at bX8_count_178 5 rfl
theorem dX8_count_188 : decode cX8_count 188 = .ok (.ifCond .eq 10, 3) := zdec_at bX8_count_178 6 rfl
theorem dX8_count_191 : decode cX8_count 191 = .ok (.aload_n 0, 1) := zdec_at bX8_count_178 7 rfl
theorem dX8_count_192 : decode cX8_count 192 = .ok (.getfield 843, 3) := zdec_at bX8_count_178 8 rfl
theorem dX8_count_195 : decode cX8_count 195 = .ok (.goto 4, 3) := zdec_at bX8_count_178 9 rfl
theorem dX8_count_198 : decode cX8_count 198 = .ok (.iconst 0, 1) := zdec_at bX8_count_178 10 rfl
theorem dX8_count_199 : decode cX8_count 199 = .ok (.ireturn, 1) := zdec_at bX8_count_178 11 rfl
theorem dX8_count_200 : decode cX8_count 200 = .ok (.iload_n 2, 1) := zdec_at bX8_count_178 12 rfl
theorem dX8_count_201 : decode cX8_count 201 = .ok (.ifCond .eq 10, 3) := zdec_at bX8_count_178 13 rfl
theorem dX8_count_204 : decode cX8_count 204 = .ok (.aload_n 0, 1) := zdec_at bX8_count_178 14 rfl
theorem dX8_count_205 : decode cX8_count 205 = .ok (.getfield 296, 3) := zdec_at bX8_count_178 15 rfl
theorem bX8_count_208 : zdec cX8_count 208 [(208, .goto 4, 3), (211, .iconst 0, 1), (212, .ireturn, 1), (213, .iload_n 2, 1), (214, .ifCond .eq 10, 3), (217, .aload_n 0, 1), (218, .getfield 864, 3), (221, .goto 4, 3), (224, .iconst 0, 1), (225, .ireturn, 1), (226, .iload_n 2, 1), (227, .ifCond .eq 10, 3), (230, .aload_n 0, 1), (231, .getfield 872, 3), (234, .goto 4, 3), (237, .iconst 0, 1)] = true := by decide +kernel
theorem dX8_count_208 : decode cX8_count 208 = .ok (.goto 4, 3) := zdec_at bX8_count_208 0 rfl
theorem dX8_count_211 : decode cX8_count 211 = .ok (.iconst 0, 1) := zdec_at bX8_count_208 1 rfl
theorem dX8_count_212 : decode cX8_count 212 = .ok (.ireturn, 1) := zdec_at bX8_count_208 2 rfl
theorem dX8_count_213 : decode cX8_count 213 = .ok (.iload_n 2, 1) := zdec_at bX8_count_208 3 rfl
theorem dX8_count_214 : decode cX8_count 214 = .ok (.ifCond .eq 10, 3) := zdec_at bX8_count_208 4 rfl
theorem dX8_count_217 : decode cX8_count 217 = .ok (.aload_n 0, 1) := zdec_at bX8_count_208 5 rfl
theorem dX8_count_218 : decode cX8_count 218 = .ok (.getfield 864, 3) := zdec_at bX8_count_208 6 rfl
theorem dX8_count_221 : decode cX8_count 221 = .ok (.goto 4, 3) := zdec_at bX8_count_208 7 rfl
theorem dX8_count_224 : decode cX8_count 224 = .ok (.iconst 0, 1) := zdec_at bX8_count_208 8 rfl
theorem dX8_count_225 : decode cX8_count 225 = .ok (.ireturn, 1) := zdec_at bX8_count_208 9 rfl
theorem dX8_count_226 : decode cX8_count 226 = .ok (.iload_n 2, 1) := zdec_at bX8_count_208 10 rfl
theorem dX8_count_227 : decode cX8_count 227 = .ok (.ifCond .eq 10, 3) := zdec_at bX8_count_208 11 rfl
theorem dX8_count_230 : decode cX8_count 230 = .ok (.aload_n 0, 1) := zdec_at bX8_count_208 12 rfl
theorem dX8_count_231 : decode cX8_count 231 = .ok (.getfield 872, 3) := zdec_at bX8_count_208 13 rfl
theorem dX8_count_234 : decode cX8_count 234 = .ok (.goto 4, 3) := zdec_at bX8_count_208 14 rfl
theorem dX8_count_237 : decode cX8_count 237 = .ok (.iconst 0, 1) := zdec_at bX8_count_208 15 rfl
theorem bX8_count_238 : zdec cX8_count 238 [(238, .ireturn, 1), (239, .aload_n 0, 1), (240, .getfield 776, 3), (243, .ifCond .eq 10, 3), (246, .aload_n 0, 1), (247, .getfield 1034, 3), (250, .goto 4, 3), (253, .iconst (-1), 1), (254, .ireturn, 1), (255, .iconst (-1), 1), (256, .ireturn, 1)] = true := by decide +kernel
theorem dX8_count_238 : decode cX8_count 238 = .ok (.ireturn, 1) := zdec_at bX8_count_238 0 rfl
theorem dX8_count_239 : decode cX8_count 239 = .ok (.aload_n 0, 1) := zdec_at bX8_count_238 1 rfl
theorem dX8_count_240 : decode cX8_count 240 = .ok (.getfield 776, 3) := zdec_at bX8_count_238 2 rfl
theorem dX8_count_243 : decode cX8_count 243 = .ok (.ifCond .eq 10, 3) := zdec_at bX8_count_238 3 rfl
theorem dX8_count_246 : decode cX8_count 246 = .ok (.aload_n 0, 1) := zdec_at bX8_count_238 4 rfl
theorem dX8_count_247 : decode cX8_count 247 = .ok (.getfield 1034, 3) := zdec_at bX8_count_238 5 rfl
theorem dX8_count_250 : decode cX8_count 250 = .ok (.goto 4, 3) := zdec_at bX8_count_238 6 rfl
theorem dX8_count_253 : decode cX8_count 253 = .ok (.iconst (-1), 1) := zdec_at bX8_count_238 7 rfl
theorem dX8_count_254 : decode cX8_count 254 = .ok (.ireturn, 1) := zdec_at bX8_count_238 8 rfl
theorem dX8_count_255 : decode cX8_count 255 = .ok (.iconst (-1), 1) := zdec_at bX8_count_238 9 rfl
theorem dX8_count_256 : decode cX8_count 256 = .ok (.ireturn, 1) := zdec_at bX8_count_238 10 rfl
theorem sX8_count_0 {E : zE} {d : Nat} {Q : zO → zM → Prop} (M : zM) (l1 : Int32) (k : if (gi M 97 73) ≤ 0 then (Zm E YX8_count d (si M 97 0 (0 : Int32)) [(0, vr (some (97, 1, 0))), (1, vi l1)] 17 [vi (0 : Int32)] Q) else (Zm E YX8_count d (si M 97 0 (0 : Int32)) [(0, vr (some (97, 1, 0))), (1, vi l1)] 17 [vi (1 : Int32)] Q)) : Zm E YX8_count d M [(0, vr (some (97, 1, 0))), (1, vi l1)] 0 [] Q := by
  refine Zm.l (fun _ _ k_ => z_aload_n dX8_count_0 rfl rfl k_) ?_
  refine Zm.l (fun _ _ k_ => z_iconst (v := 0) dX8_count_1 rfl k_) ?_
  refine zm_puti (by decide) (by decide) dX8_count_2 (zfwN.w fwX8_289_1) rfl ⟨rfl, rfl⟩ ?_
  refine Zm.l (fun _ _ k_ => z_aload_n dX8_count_5 rfl rfl k_) ?_
  refine zm_geti dX8_count_6 fsX8_773_1 (by decide) (by decide) ?_
  refine Zm.br (fun _ _ k1_ k2_ => z_if_le (tgt := 16) dX8_count_9 rfl k1_ k2_) (fun h_ => ?_) (fun h_ => ?_)
  · have k := zit h_ k
    refine Zm.l (fun _ _ k_ => z_iconst (v := 0) dX8_count_16 rfl k_) ?_
    exact k
  · have k := zif h_ k
    refine Zm.l (fun _ _ k_ => z_iconst (v := 1) dX8_count_12 rfl k_) ?_
    refine Zm.l (fun _ _ k_ => z_goto (tgt := 17) dX8_count_13 rfl k_) ?_
    exact k
theorem sX8_count_17 {E : zE} {d : Nat} {Q : zO → zM → Prop} (M : zM) (l1 : Int32) (s0 : Int32) (k : if l1 = 0 then (if (gi M 97 72) = 0 then (Q (.inl (some (vi (0 : Int32)))) M) else (Q (.inl (some (vi (gi M 97 46)))) M)) else (if l1 = 1 then (if (gi M 97 72) = 0 then (Q (.inl (some (vi (0 : Int32)))) M) else (Q (.inl (some (vi (gi M 97 32)))) M)) else (if l1 = 2 then (if (gi M 97 72) = 0 then (Q (.inl (some (vi (0 : Int32)))) M) else (Q (.inl (some (vi (gi M 97 8)))) M)) else (if l1 = 3 then (if (gi M 97 72) = 0 then (Q (.inl (some (vi (0 : Int32)))) M) else (Q (.inl (some (vi (gi M 97 71)))) M)) else (if l1 = 4 then (if (gi M 97 72) = 0 then (Q (.inl (some (vi (0 : Int32)))) M) else (Q (.inl (some (vi (gi M 97 55)))) M)) else (if l1 = 5 then (Q (.inl (some (vi (gi M 97 2)))) M) else (if l1 = 6 then (Q (.inl (some (vi (gi M 97 73)))) M) else (if l1 = 7 then (if s0 = 0 then (Q (.inl (some (vi (0 : Int32)))) M) else (Q (.inl (some (vi (gi M 97 74)))) M)) else (if l1 = 8 then (if s0 = 0 then (Q (.inl (some (vi (0 : Int32)))) M) else (Q (.inl (some (vi (gi M 97 76)))) M)) else (if l1 = 9 then (if s0 = 0 then (Q (.inl (some (vi (0 : Int32)))) M) else (Q (.inl (some (vi (gi M 97 7)))) M)) else (if l1 = 10 then (if s0 = 0 then (Q (.inl (some (vi (0 : Int32)))) M) else (Q (.inl (some (vi (gi M 97 107)))) M)) else (if l1 = 11 then (if s0 = 0 then (Q (.inl (some (vi (0 : Int32)))) M) else (Q (.inl (some (vi (gi M 97 92)))) M)) else (if l1 = 12 then (if (gi M 97 119) = 0 then (Q (.inl (some (vi (-1 : Int32)))) M) else (Q (.inl (some (vi (gi M 97 120)))) M)) else (Q (.inl (some (vi (-1 : Int32)))) M)))))))))))))) : Zm E YX8_count d M [(0, vr (some (97, 1, 0))), (1, vi l1)] 17 [vi s0] Q := by
  refine Zm.l (fun _ _ k_ => z_ist_n dX8_count_17 rfl (by decide) (lv' := [(0, vr (some (97, 1, 0))), (1, vi l1), (2, vi s0)]) rfl k_) ?_
  refine Zm.l (fun _ _ k_ => z_iload_n dX8_count_18 rfl rfl k_) ?_
  by_cases h0_ : l1 = 0
  · have k := zit h0_ k
    refine Zm.l (fun _ _ k_ => z_tableIn (off := 65) (tgt := 84) dX8_count_19 (by rw [h0_]; decide) (by rw [h0_]; decide) (by rw [h0_]; rfl) rfl k_) ?_
    refine Zm.l (fun _ _ k_ => z_aload_n dX8_count_84 rfl rfl k_) ?_
    refine zm_geti dX8_count_85 fsX8_770_1 (by decide) (by decide) ?_
    refine Zm.br (fun _ _ k1_ k2_ => z_if_eq (tgt := 98) dX8_count_88 rfl k1_ k2_) (fun h_ => ?_) (fun h_ => ?_)
    · have k := zit h_ k
      refine Zm.l (fun _ _ k_ => z_iconst (v := 0) dX8_count_98 rfl k_) ?_
      exact zm_iret dX8_count_99 rfl rfl k
    · have k := zif h_ k
      refine Zm.l (fun _ _ k_ => z_aload_n dX8_count_91 rfl rfl k_) ?_
      refine zm_geti dX8_count_92 fsX8_606_1 (by decide) (by decide) ?_
      refine Zm.l (fun _ _ k_ => z_goto (tgt := 99) dX8_count_95 rfl k_) ?_
      exact zm_iret dX8_count_99 rfl rfl k
  · have k := zif h0_ k
    by_cases h1_ : l1 = 1
    · have k := zit h1_ k
      refine Zm.l (fun _ _ k_ => z_tableIn (off := 81) (tgt := 100) dX8_count_19 (by rw [h1_]; decide) (by rw [h1_]; decide) (by rw [h1_]; rfl) rfl k_) ?_
      refine Zm.l (fun _ _ k_ => z_aload_n dX8_count_100 rfl rfl k_) ?_
      refine zm_geti dX8_count_101 fsX8_770_1 (by decide) (by decide) ?_
      refine Zm.br (fun _ _ k1_ k2_ => z_if_eq (tgt := 114) dX8_count_104 rfl k1_ k2_) (fun h_ => ?_) (fun h_ => ?_)
      · have k := zit h_ k
        refine Zm.l (fun _ _ k_ => z_iconst (v := 0) dX8_count_114 rfl k_) ?_
        exact zm_iret dX8_count_115 rfl rfl k
      · have k := zif h_ k
        refine Zm.l (fun _ _ k_ => z_aload_n dX8_count_107 rfl rfl k_) ?_
        refine zm_geti dX8_count_108 fsX8_527_1 (by decide) (by decide) ?_
        refine Zm.l (fun _ _ k_ => z_goto (tgt := 115) dX8_count_111 rfl k_) ?_
        exact zm_iret dX8_count_115 rfl rfl k
    · have k := zif h1_ k
      by_cases h2_ : l1 = 2
      · have k := zit h2_ k
        refine Zm.l (fun _ _ k_ => z_tableIn (off := 97) (tgt := 116) dX8_count_19 (by rw [h2_]; decide) (by rw [h2_]; decide) (by rw [h2_]; rfl) rfl k_) ?_
        refine Zm.l (fun _ _ k_ => z_aload_n dX8_count_116 rfl rfl k_) ?_
        refine zm_geti dX8_count_117 fsX8_770_1 (by decide) (by decide) ?_
        refine Zm.br (fun _ _ k1_ k2_ => z_if_eq (tgt := 130) dX8_count_120 rfl k1_ k2_) (fun h_ => ?_) (fun h_ => ?_)
        · have k := zit h_ k
          refine Zm.l (fun _ _ k_ => z_iconst (v := 0) dX8_count_130 rfl k_) ?_
          exact zm_iret dX8_count_131 rfl rfl k
        · have k := zif h_ k
          refine Zm.l (fun _ _ k_ => z_aload_n dX8_count_123 rfl rfl k_) ?_
          refine zm_geti dX8_count_124 fsX8_762_1 (by decide) (by decide) ?_
          refine Zm.l (fun _ _ k_ => z_goto (tgt := 131) dX8_count_127 rfl k_) ?_
          exact zm_iret dX8_count_131 rfl rfl k
      · have k := zif h2_ k
        by_cases h3_ : l1 = 3
        · have k := zit h3_ k
          refine Zm.l (fun _ _ k_ => z_tableIn (off := 113) (tgt := 132) dX8_count_19 (by rw [h3_]; decide) (by rw [h3_]; decide) (by rw [h3_]; rfl) rfl k_) ?_
          refine Zm.l (fun _ _ k_ => z_aload_n dX8_count_132 rfl rfl k_) ?_
          refine zm_geti dX8_count_133 fsX8_770_1 (by decide) (by decide) ?_
          refine Zm.br (fun _ _ k1_ k2_ => z_if_eq (tgt := 146) dX8_count_136 rfl k1_ k2_) (fun h_ => ?_) (fun h_ => ?_)
          · have k := zit h_ k
            refine Zm.l (fun _ _ k_ => z_iconst (v := 0) dX8_count_146 rfl k_) ?_
            exact zm_iret dX8_count_147 rfl rfl k
          · have k := zif h_ k
            refine Zm.l (fun _ _ k_ => z_aload_n dX8_count_139 rfl rfl k_) ?_
            refine zm_geti dX8_count_140 fsX8_765_1 (by decide) (by decide) ?_
            refine Zm.l (fun _ _ k_ => z_goto (tgt := 147) dX8_count_143 rfl k_) ?_
            exact zm_iret dX8_count_147 rfl rfl k
        · have k := zif h3_ k
          by_cases h4_ : l1 = 4
          · have k := zit h4_ k
            refine Zm.l (fun _ _ k_ => z_tableIn (off := 129) (tgt := 148) dX8_count_19 (by rw [h4_]; decide) (by rw [h4_]; decide) (by rw [h4_]; rfl) rfl k_) ?_
            refine Zm.l (fun _ _ k_ => z_aload_n dX8_count_148 rfl rfl k_) ?_
            refine zm_geti dX8_count_149 fsX8_770_1 (by decide) (by decide) ?_
            refine Zm.br (fun _ _ k1_ k2_ => z_if_eq (tgt := 162) dX8_count_152 rfl k1_ k2_) (fun h_ => ?_) (fun h_ => ?_)
            · have k := zit h_ k
              refine Zm.l (fun _ _ k_ => z_iconst (v := 0) dX8_count_162 rfl k_) ?_
              exact zm_iret dX8_count_163 rfl rfl k
            · have k := zif h_ k
              refine Zm.l (fun _ _ k_ => z_aload_n dX8_count_155 rfl rfl k_) ?_
              refine zm_geti dX8_count_156 fsX8_689_1 (by decide) (by decide) ?_
              refine Zm.l (fun _ _ k_ => z_goto (tgt := 163) dX8_count_159 rfl k_) ?_
              exact zm_iret dX8_count_163 rfl rfl k
          · have k := zif h4_ k
            by_cases h5_ : l1 = 5
            · have k := zit h5_ k
              refine Zm.l (fun _ _ k_ => z_tableIn (off := 145) (tgt := 164) dX8_count_19 (by rw [h5_]; decide) (by rw [h5_]; decide) (by rw [h5_]; rfl) rfl k_) ?_
              refine Zm.l (fun _ _ k_ => z_aload_n dX8_count_164 rfl rfl k_) ?_
              refine zm_geti dX8_count_165 fsX8_293_1 (by decide) (by decide) ?_
              exact zm_iret dX8_count_168 rfl rfl k
            · have k := zif h5_ k
              by_cases h6_ : l1 = 6
              · have k := zit h6_ k
                refine Zm.l (fun _ _ k_ => z_tableIn (off := 150) (tgt := 169) dX8_count_19 (by rw [h6_]; decide) (by rw [h6_]; decide) (by rw [h6_]; rfl) rfl k_) ?_
                refine Zm.l (fun _ _ k_ => z_aload_n dX8_count_169 rfl rfl k_) ?_
                refine zm_geti dX8_count_170 fsX8_773_1 (by decide) (by decide) ?_
                exact zm_iret dX8_count_173 rfl rfl k
              · have k := zif h6_ k
                by_cases h7_ : l1 = 7
                · have k := zit h7_ k
                  refine Zm.l (fun _ _ k_ => z_tableIn (off := 155) (tgt := 174) dX8_count_19 (by rw [h7_]; decide) (by rw [h7_]; decide) (by rw [h7_]; rfl) rfl k_) ?_
                  refine Zm.l (fun _ _ k_ => z_iload_n dX8_count_174 rfl rfl k_) ?_
                  refine Zm.br (fun _ _ k1_ k2_ => z_if_eq (tgt := 185) dX8_count_175 rfl k1_ k2_) (fun h_ => ?_) (fun h_ => ?_)
                  · have k := zit h_ k
                    refine Zm.l (fun _ _ k_ => z_iconst (v := 0) dX8_count_185 rfl k_) ?_
                    exact zm_iret dX8_count_186 rfl rfl k
                  · have k := zif h_ k
                    refine Zm.l (fun _ _ k_ => z_aload_n dX8_count_178 rfl rfl k_) ?_
                    refine zm_geti dX8_count_179 fsX8_861_1 (by decide) (by decide) ?_
                    refine Zm.l (fun _ _ k_ => z_goto (tgt := 186) dX8_count_182 rfl k_) ?_
                    exact zm_iret dX8_count_186 rfl rfl k
                · have k := zif h7_ k
                  by_cases h8_ : l1 = 8
                  · have k := zit h8_ k
                    refine Zm.l (fun _ _ k_ => z_tableIn (off := 168) (tgt := 187) dX8_count_19 (by rw [h8_]; decide) (by rw [h8_]; decide) (by rw [h8_]; rfl) rfl k_) ?_
                    refine Zm.l (fun _ _ k_ => z_iload_n dX8_count_187 rfl rfl k_) ?_
                    refine Zm.br (fun _ _ k1_ k2_ => z_if_eq (tgt := 198) dX8_count_188 rfl k1_ k2_) (fun h_ => ?_) (fun h_ => ?_)
                    · have k := zit h_ k
                      refine Zm.l (fun _ _ k_ => z_iconst (v := 0) dX8_count_198 rfl k_) ?_
                      exact zm_iret dX8_count_199 rfl rfl k
                    · have k := zif h_ k
                      refine Zm.l (fun _ _ k_ => z_aload_n dX8_count_191 rfl rfl k_) ?_
                      refine zm_geti dX8_count_192 fsX8_843_1 (by decide) (by decide) ?_
                      refine Zm.l (fun _ _ k_ => z_goto (tgt := 199) dX8_count_195 rfl k_) ?_
                      exact zm_iret dX8_count_199 rfl rfl k
                  · have k := zif h8_ k
                    by_cases h9_ : l1 = 9
                    · have k := zit h9_ k
                      refine Zm.l (fun _ _ k_ => z_tableIn (off := 181) (tgt := 200) dX8_count_19 (by rw [h9_]; decide) (by rw [h9_]; decide) (by rw [h9_]; rfl) rfl k_) ?_
                      refine Zm.l (fun _ _ k_ => z_iload_n dX8_count_200 rfl rfl k_) ?_
                      refine Zm.br (fun _ _ k1_ k2_ => z_if_eq (tgt := 211) dX8_count_201 rfl k1_ k2_) (fun h_ => ?_) (fun h_ => ?_)
                      · have k := zit h_ k
                        refine Zm.l (fun _ _ k_ => z_iconst (v := 0) dX8_count_211 rfl k_) ?_
                        exact zm_iret dX8_count_212 rfl rfl k
                      · have k := zif h_ k
                        refine Zm.l (fun _ _ k_ => z_aload_n dX8_count_204 rfl rfl k_) ?_
                        refine zm_geti dX8_count_205 fsX8_296_1 (by decide) (by decide) ?_
                        refine Zm.l (fun _ _ k_ => z_goto (tgt := 212) dX8_count_208 rfl k_) ?_
                        exact zm_iret dX8_count_212 rfl rfl k
                    · have k := zif h9_ k
                      by_cases h10_ : l1 = 10
                      · have k := zit h10_ k
                        refine Zm.l (fun _ _ k_ => z_tableIn (off := 194) (tgt := 213) dX8_count_19 (by rw [h10_]; decide) (by rw [h10_]; decide) (by rw [h10_]; rfl) rfl k_) ?_
                        refine Zm.l (fun _ _ k_ => z_iload_n dX8_count_213 rfl rfl k_) ?_
                        refine Zm.br (fun _ _ k1_ k2_ => z_if_eq (tgt := 224) dX8_count_214 rfl k1_ k2_) (fun h_ => ?_) (fun h_ => ?_)
                        · have k := zit h_ k
                          refine Zm.l (fun _ _ k_ => z_iconst (v := 0) dX8_count_224 rfl k_) ?_
                          exact zm_iret dX8_count_225 rfl rfl k
                        · have k := zif h_ k
                          refine Zm.l (fun _ _ k_ => z_aload_n dX8_count_217 rfl rfl k_) ?_
                          refine zm_geti dX8_count_218 fsX8_864_1 (by decide) (by decide) ?_
                          refine Zm.l (fun _ _ k_ => z_goto (tgt := 225) dX8_count_221 rfl k_) ?_
                          exact zm_iret dX8_count_225 rfl rfl k
                      · have k := zif h10_ k
                        by_cases h11_ : l1 = 11
                        · have k := zit h11_ k
                          refine Zm.l (fun _ _ k_ => z_tableIn (off := 207) (tgt := 226) dX8_count_19 (by rw [h11_]; decide) (by rw [h11_]; decide) (by rw [h11_]; rfl) rfl k_) ?_
                          refine Zm.l (fun _ _ k_ => z_iload_n dX8_count_226 rfl rfl k_) ?_
                          refine Zm.br (fun _ _ k1_ k2_ => z_if_eq (tgt := 237) dX8_count_227 rfl k1_ k2_) (fun h_ => ?_) (fun h_ => ?_)
                          · have k := zit h_ k
                            refine Zm.l (fun _ _ k_ => z_iconst (v := 0) dX8_count_237 rfl k_) ?_
                            exact zm_iret dX8_count_238 rfl rfl k
                          · have k := zif h_ k
                            refine Zm.l (fun _ _ k_ => z_aload_n dX8_count_230 rfl rfl k_) ?_
                            refine zm_geti dX8_count_231 fsX8_872_1 (by decide) (by decide) ?_
                            refine Zm.l (fun _ _ k_ => z_goto (tgt := 238) dX8_count_234 rfl k_) ?_
                            exact zm_iret dX8_count_238 rfl rfl k
                        · have k := zif h11_ k
                          by_cases h12_ : l1 = 12
                          · have k := zit h12_ k
                            refine Zm.l (fun _ _ k_ => z_tableIn (off := 220) (tgt := 239) dX8_count_19 (by rw [h12_]; decide) (by rw [h12_]; decide) (by rw [h12_]; rfl) rfl k_) ?_
                            refine Zm.l (fun _ _ k_ => z_aload_n dX8_count_239 rfl rfl k_) ?_
                            refine zm_geti dX8_count_240 fsX8_776_1 (by decide) (by decide) ?_
                            refine Zm.br (fun _ _ k1_ k2_ => z_if_eq (tgt := 253) dX8_count_243 rfl k1_ k2_) (fun h_ => ?_) (fun h_ => ?_)
                            · have k := zit h_ k
                              refine Zm.l (fun _ _ k_ => z_iconst (v := -1) dX8_count_253 rfl k_) ?_
                              exact zm_iret dX8_count_254 rfl rfl k
                            · have k := zif h_ k
                              refine Zm.l (fun _ _ k_ => z_aload_n dX8_count_246 rfl rfl k_) ?_
                              refine zm_geti dX8_count_247 fsX8_1034_1 (by decide) (by decide) ?_
                              refine Zm.l (fun _ _ k_ => z_goto (tgt := 254) dX8_count_250 rfl k_) ?_
                              exact zm_iret dX8_count_254 rfl rfl k
                          · have k := zif h12_ k
                            refine Zm.l (fun _ _ k_ => z_tout (tgt := 255) [0, 1, 2, 3, 4, 5, 6, 7, 8, 9, 10, 11, 12] (by decide) dX8_count_19 (zall_1 h0_ (zall_1 h1_ (zall_1 h2_ (zall_1 h3_ (zall_1 h4_ (zall_1 h5_ (zall_1 h6_ (zall_1 h7_ (zall_1 h8_ (zall_1 h9_ (zall_1 h10_ (zall_1 h11_ (zall_1 h12_ zall_0))))))))))))) rfl k_) ?_
                            refine Zm.l (fun _ _ k_ => z_iconst (v := -1) dX8_count_255 rfl k_) ?_
                            exact zm_iret dX8_count_256 rfl rfl k
/-! ScriptTypesModel.letter(II)I -/
theorem bX8_letter_0 : zdec cX8_letter 0 [(0, .aload_n 0, 1), (1, .iconst 0, 1), (2, .putfield 289, 3), (5, .aload_n 0, 1), (6, .getfield 770, 3), (9, .ifCond .eq 47, 3), (12, .iload_n 1, 1), (13, .iconst 0, 1), (14, .aload_n 0, 1), (15, .getfield 296, 3), (18, .iconst 1, 1), (19, .isub, 1), (20, .invokestatic 899, 3), (23, .ifCond .eq 33, 3), (26, .iload_n 2, 1), (27, .iconst 0, 1)] = true := by decide +kernel
theorem dX8_letter_0 : decode cX8_letter 0 = .ok (.aload_n 0, 1) := zdec_at bX8_letter_0 0 rfl
theorem dX8_letter_1 : decode cX8_letter 1 = .ok (.iconst 0, 1) := zdec_at bX8_letter_0 1 rfl
theorem dX8_letter_2 : decode cX8_letter 2 = .ok (.putfield 289, 3) := zdec_at bX8_letter_0 2 rfl
theorem dX8_letter_5 : decode cX8_letter 5 = .ok (.aload_n 0, 1) := zdec_at bX8_letter_0 3 rfl
theorem dX8_letter_6 : decode cX8_letter 6 = .ok (.getfield 770, 3) := zdec_at bX8_letter_0 4 rfl
theorem dX8_letter_9 : decode cX8_letter 9 = .ok (.ifCond .eq 47, 3) := zdec_at bX8_letter_0 5 rfl
theorem dX8_letter_12 : decode cX8_letter 12 = .ok (.iload_n 1, 1) := zdec_at bX8_letter_0 6 rfl
theorem dX8_letter_13 : decode cX8_letter 13 = .ok (.iconst 0, 1) := zdec_at bX8_letter_0 7 rfl
theorem dX8_letter_14 : decode cX8_letter 14 = .ok (.aload_n 0, 1) := zdec_at bX8_letter_0 8 rfl
theorem dX8_letter_15 : decode cX8_letter 15 = .ok (.getfield 296, 3) := zdec_at bX8_letter_0 9 rfl
theorem dX8_letter_18 : decode cX8_letter 18 = .ok (.iconst 1, 1) := zdec_at bX8_letter_0 10 rfl
theorem dX8_letter_19 : decode cX8_letter 19 = .ok (.isub, 1) := zdec_at bX8_letter_0 11 rfl
theorem dX8_letter_20 : decode cX8_letter 20 = .ok (.invokestatic 899, 3) := zdec_at bX8_letter_0 12 rfl
theorem dX8_letter_23 : decode cX8_letter 23 = .ok (.ifCond .eq 33, 3) := zdec_at bX8_letter_0 13 rfl
theorem dX8_letter_26 : decode cX8_letter 26 = .ok (.iload_n 2, 1) := zdec_at bX8_letter_0 14 rfl
theorem dX8_letter_27 : decode cX8_letter 27 = .ok (.iconst 0, 1) := zdec_at bX8_letter_0 15 rfl
theorem bX8_letter_28 : zdec cX8_letter 28 [(28, .aload_n 0, 1), (29, .getfield 20, 3), (32, .iload_n 1, 1), (33, .iaload, 1), (34, .iconst 1, 1), (35, .isub, 1), (36, .invokestatic 899, 3), (39, .ifCond .eq 17, 3), (42, .aload_n 0, 1), (43, .getfield 16, 3), (46, .bipush 60, 2), (48, .iload_n 1, 1), (49, .imul, 1), (50, .iload_n 2, 1), (51, .iadd, 1), (52, .caload, 1)] = true := by decide +kernel
theorem dX8_letter_28 : decode cX8_letter 28 = .ok (.aload_n 0, 1) := zdec_at bX8_letter_28 0 rfl
theorem dX8_letter_29 : decode cX8_letter 29 = .ok (.getfield 20, 3) := zdec_at bX8_letter_28 1 rfl
theorem dX8_letter_32 : decode cX8_letter 32 = .ok (.iload_n 1, 1) := zdec_at bX8_letter_28 2 rfl
theorem dX8_letter_33 : decode cX8_letter 33 = .ok (.iaload, 1) := zdec_at bX8_letter_28 3 rfl
theorem dX8_letter_34 : decode cX8_letter 34 = .ok (.iconst 1, 1) := zdec_at bX8_letter_28 4 rfl
theorem dX8_letter_35 : decode cX8_letter 35 = .ok (.isub, 1) := zdec_at bX8_letter_28 5 rfl
theorem dX8_letter_36 : decode cX8_letter 36 = .ok (.invokestatic 899, 3) := zdec_at bX8_letter_28 6 rfl
theorem dX8_letter_39 : decode cX8_letter 39 = .ok (.ifCond .eq 17, 3) := zdec_at bX8_letter_28 7 rfl
theorem dX8_letter_42 : decode cX8_letter 42 = .ok (.aload_n 0, 1) := zdec_at bX8_letter_28 8 rfl
theorem dX8_letter_43 : decode cX8_letter 43 = .ok (.getfield 16, 3) := zdec_at bX8_letter_28 9 rfl
theorem dX8_letter_46 : decode cX8_letter 46 = .ok (.bipush 60, 2) := zdec_at bX8_letter_28 10 rfl
theorem dX8_letter_48 : decode cX8_letter 48 = .ok (.iload_n 1, 1) := zdec_at bX8_letter_28 11 rfl
theorem dX8_letter_49 : decode cX8_letter 49 = .ok (.imul, 1) := zdec_at bX8_letter_28 12 rfl
theorem dX8_letter_50 : decode cX8_letter 50 = .ok (.iload_n 2, 1) := zdec_at bX8_letter_28 13 rfl
theorem dX8_letter_51 : decode cX8_letter 51 = .ok (.iadd, 1) := zdec_at bX8_letter_28 14 rfl
theorem dX8_letter_52 : decode cX8_letter 52 = .ok (.caload, 1) := zdec_at bX8_letter_28 15 rfl
theorem bX8_letter_53 : zdec cX8_letter 53 [(53, .goto 4, 3), (56, .iconst (-1), 1), (57, .ireturn, 1)] = true := by decide +kernel
theorem dX8_letter_53 : decode cX8_letter 53 = .ok (.goto 4, 3) := zdec_at bX8_letter_53 0 rfl
theorem dX8_letter_56 : decode cX8_letter 56 = .ok (.iconst (-1), 1) := zdec_at bX8_letter_53 1 rfl
theorem dX8_letter_57 : decode cX8_letter 57 = .ok (.ireturn, 1) := zdec_at bX8_letter_53 2 rfl
theorem sX8_letter_0 {E : zE} {d : Nat} {Q : zO → zM → Prop} (M : zM) (l1 : Int32) (l2 : Int32) (k : if (gi M 97 72) = 0 then (Q (.inl (some (vi (-1 : Int32)))) (si M 97 0 (0 : Int32))) else (Zm E YX8_in d (si M 97 0 (0 : Int32)) (zargs 0 [vi l1, vi (0 : Int32), vi ((gi M 97 7) - (1 : Int32))]) 0 [] (zma E YX8_letter (d + 1) [(0, vr (some (97, 1, 0))), (1, vi l1), (2, vi l2)] 20 3 [] Q))) : Zm E YX8_letter (d + 1) M [(0, vr (some (97, 1, 0))), (1, vi l1), (2, vi l2)] 0 [] Q := by
  refine Zm.l (fun _ _ k_ => z_aload_n dX8_letter_0 rfl rfl k_) ?_
  refine Zm.l (fun _ _ k_ => z_iconst (v := 0) dX8_letter_1 rfl k_) ?_
  refine zm_puti (by decide) (by decide) dX8_letter_2 (zfwN.w fwX8_289_1) rfl ⟨rfl, rfl⟩ ?_
  refine Zm.l (fun _ _ k_ => z_aload_n dX8_letter_5 rfl rfl k_) ?_
  refine zm_geti dX8_letter_6 fsX8_770_1 (by decide) (by decide) ?_
  refine Zm.br (fun _ _ k1_ k2_ => z_if_eq (tgt := 56) dX8_letter_9 rfl k1_ k2_) (fun h_ => ?_) (fun h_ => ?_)
  · have k := zit h_ k
    refine Zm.l (fun _ _ k_ => z_iconst (v := -1) dX8_letter_56 rfl k_) ?_
    exact zm_iret dX8_letter_57 rfl rfl k
  · have k := zif h_ k
    refine Zm.l (fun _ _ k_ => z_iload_n dX8_letter_12 rfl rfl k_) ?_
    refine Zm.l (fun _ _ k_ => z_iconst (v := 0) dX8_letter_13 rfl k_) ?_
    refine Zm.l (fun _ _ k_ => z_aload_n dX8_letter_14 rfl rfl k_) ?_
    refine zm_geti dX8_letter_15 fsX8_296_1 (by decide) (by decide) ?_
    refine Zm.l (fun _ _ k_ => z_iconst (v := 1) dX8_letter_18 rfl k_) ?_
    refine Zm.l (fun _ _ k_ => z_isub dX8_letter_19 k_) ?_
    exact zm_callS (as := [vi l1, vi (0 : Int32), vi ((gi M 97 7) - (1 : Int32))]) (st := []) dX8_letter_20 ssX8_899 (Nat.le_refl _) (Nat.le_of_ble_eq_true rfl) (Nat.le_of_ble_eq_true rfl) rfl k
theorem sX8_letter_23 {E : zE} {d : Nat} {Q : zO → zM → Prop} (M : zM) (l1 : Int32) (l2 : Int32) (s0 : Int32) (k : if s0 = 0 then (Q (.inl (some (vi (-1 : Int32)))) M) else (vp_in l1 400 ∧ (Zm E YX8_in d M (zargs 0 [vi l2, vi (0 : Int32), vi ((gi M 101 (l1).toNatClampNeg) - (1 : Int32))]) 0 [] (zma E YX8_letter (d + 1) [(0, vr (some (97, 1, 0))), (1, vi l1), (2, vi l2)] 36 3 [] Q)))) : Zm E YX8_letter (d + 1) M [(0, vr (some (97, 1, 0))), (1, vi l1), (2, vi l2)] 23 [vi s0] Q := by
  refine Zm.br (fun _ _ k1_ k2_ => z_if_eq (tgt := 56) dX8_letter_23 rfl k1_ k2_) (fun h_ => ?_) (fun h_ => ?_)
  · have k := zit h_ k
    refine Zm.l (fun _ _ k_ => z_iconst (v := -1) dX8_letter_56 rfl k_) ?_
    exact zm_iret dX8_letter_57 rfl rfl k
  · have k := zif h_ k
    refine Zm.l (fun _ _ k_ => z_iload_n dX8_letter_26 rfl rfl k_) ?_
    refine Zm.l (fun _ _ k_ => z_iconst (v := 0) dX8_letter_27 rfl k_) ?_
    refine Zm.l (fun _ _ k_ => z_aload_n dX8_letter_28 rfl rfl k_) ?_
    refine zm_getr 3 dX8_letter_29 fsX8_20_1 rfl ?_
    refine Zm.l (fun _ _ k_ => z_iload_n dX8_letter_32 rfl rfl k_) ?_
    obtain ⟨b_, k⟩ := k
    refine zm_iald dX8_letter_33 b_ (by decide) (by decide) ?_
    refine Zm.l (fun _ _ k_ => z_iconst (v := 1) dX8_letter_34 rfl k_) ?_
    refine Zm.l (fun _ _ k_ => z_isub dX8_letter_35 k_) ?_
    exact zm_callS (as := [vi l2, vi (0 : Int32), vi ((gi M 101 (l1).toNatClampNeg) - (1 : Int32))]) (st := []) dX8_letter_36 ssX8_899 (Nat.le_refl _) (Nat.le_of_ble_eq_true rfl) (Nat.le_of_ble_eq_true rfl) rfl k
theorem sX8_letter_39 {E : zE} {d : Nat} {Q : zO → zM → Prop} (M : zM) (l1 : Int32) (l2 : Int32) (s0 : Int32) (k : if s0 = 0 then (Q (.inl (some (vi (-1 : Int32)))) M) else (vp_in (((60 : Int32) * l1) + l2) 24000 ∧ (Q (.inl (some (vi (gi M 100 ((((60 : Int32) * l1) + l2)).toNatClampNeg)))) M))) : Zm E YX8_letter (d + 1) M [(0, vr (some (97, 1, 0))), (1, vi l1), (2, vi l2)] 39 [vi s0] Q := by
  refine Zm.br (fun _ _ k1_ k2_ => z_if_eq (tgt := 56) dX8_letter_39 rfl k1_ k2_) (fun h_ => ?_) (fun h_ => ?_)
  · have k := zit h_ k
    refine Zm.l (fun _ _ k_ => z_iconst (v := -1) dX8_letter_56 rfl k_) ?_
    exact zm_iret dX8_letter_57 rfl rfl k
  · have k := zif h_ k
    refine Zm.l (fun _ _ k_ => z_aload_n dX8_letter_42 rfl rfl k_) ?_
    refine zm_getr 2 dX8_letter_43 fsX8_16_1 rfl ?_
    refine Zm.l (fun _ _ k_ => z_bipush (v := 60) dX8_letter_46 rfl k_) ?_
    refine Zm.l (fun _ _ k_ => z_iload_n dX8_letter_48 rfl rfl k_) ?_
    refine Zm.l (fun _ _ k_ => z_imul dX8_letter_49 k_) ?_
    refine Zm.l (fun _ _ k_ => z_iload_n dX8_letter_50 rfl rfl k_) ?_
    refine Zm.l (fun _ _ k_ => z_iadd dX8_letter_51 k_) ?_
    obtain ⟨b_, k⟩ := k
    refine zm_cald dX8_letter_52 b_ (by decide) (by decide) ?_
    refine Zm.l (fun _ _ k_ => z_goto (tgt := 57) dX8_letter_53 rfl k_) ?_
    exact zm_iret dX8_letter_57 rfl rfl k
/-! ScriptTypesModel.instruction(II)I -/
theorem bX8_instruction_0 : zdec cX8_instruction 0 [(0, .aload_n 0, 1), (1, .iconst 0, 1), (2, .putfield 289, 3), (5, .aload_n 0, 1), (6, .getfield 770, 3), (9, .ifCond .eq 26, 3), (12, .iload_n 1, 1), (13, .iconst 0, 1), (14, .aload_n 0, 1), (15, .getfield 606, 3), (18, .iconst 1, 1), (19, .isub, 1), (20, .invokestatic 899, 3), (23, .ifCond .eq 12, 3), (26, .iload_n 2, 1), (27, .iconst 0, 1)] = true := by decide +kernel
theorem dX8_instruction_0 : decode cX8_instruction 0 = .ok (.aload_n 0, 1) := zdec_at bX8_instruction_0 0 rfl
theorem dX8_instruction_1 : decode cX8_instruction 1 = .ok (.iconst 0, 1) := zdec_at bX8_instruction_0 1 rfl
theorem dX8_instruction_2 : decode cX8_instruction 2 = .ok (.putfield 289, 3) := zdec_at bX8_instruction_0 2 rfl
theorem dX8_instruction_5 : decode cX8_instruction 5 = .ok (.aload_n 0, 1) := zdec_at bX8_instruction_0 3 rfl
theorem dX8_instruction_6 : decode cX8_instruction 6 = .ok (.getfield 770, 3) := zdec_at bX8_instruction_0 4 rfl
theorem dX8_instruction_9 : decode cX8_instruction 9 = .ok (.ifCond .eq 26, 3) := zdec_at bX8_instruction_0 5 rfl
theorem dX8_instruction_12 : decode cX8_instruction 12 = .ok (.iload_n 1, 1) := zdec_at bX8_instruction_0 6 rfl
theorem dX8_instruction_13 : decode cX8_instruction 13 = .ok (.iconst 0, 1) := zdec_at bX8_instruction_0 7 rfl
theorem dX8_instruction_14 : decode cX8_instruction 14 = .ok (.aload_n 0, 1) := zdec_at bX8_instruction_0 8 rfl
theorem dX8_instruction_15 : decode cX8_instruction 15 = .ok (.getfield 606, 3) := zdec_at bX8_instruction_0 9 rfl
theorem dX8_instruction_18 : decode cX8_instruction 18 = .ok (.iconst 1, 1) := zdec_at bX8_instruction_0 10 rfl
theorem dX8_instruction_19 : decode cX8_instruction 19 = .ok (.isub, 1) := zdec_at bX8_instruction_0 11 rfl
theorem dX8_instruction_20 : decode cX8_instruction 20 = .ok (.invokestatic 899, 3) := zdec_at bX8_instruction_0 12 rfl
theorem dX8_instruction_23 : decode cX8_instruction 23 = .ok (.ifCond .eq 12, 3) := zdec_at bX8_instruction_0 13 rfl
theorem dX8_instruction_26 : decode cX8_instruction 26 = .ok (.iload_n 2, 1) := zdec_at bX8_instruction_0 14 rfl
theorem dX8_instruction_27 : decode cX8_instruction 27 = .ok (.iconst 0, 1) := zdec_at bX8_instruction_0 15 rfl
theorem bX8_instruction_28 : zdec cX8_instruction 28 [(28, .iconst 3, 1), (29, .invokestatic 899, 3), (32, .ifCond .ne 5, 3), (35, .iconst (-1), 1), (36, .ireturn, 1), (37, .iload_n 2, 1), (38, .ifCond .ne 12, 3), (41, .aload_n 0, 1), (42, .getfield 89, 3), (45, .iload_n 1, 1), (46, .iaload, 1), (47, .goto 37, 3), (50, .iload_n 2, 1), (51, .iconst 1, 1), (52, .if_icmp .ne 12, 3), (55, .aload_n 0, 1)] = true := by decide +kernel
theorem dX8_instruction_28 : decode cX8_instruction 28 = .ok (.iconst 3, 1) := zdec_at bX8_instruction_28 0 rfl
theorem dX8_instruction_29 : decode cX8_instruction 29 = .ok (.invokestatic 899, 3) := zdec_at bX8_instruction_28 1 rfl
theorem dX8_instruction_32 : decode cX8_instruction 32 = .ok (.ifCond .ne 5, 3) := zdec_at bX8_instruction_28 2 rfl
theorem dX8_instruction_35 : decode cX8_instruction 35 = .ok (.iconst (-1), 1) := zdec_at bX8_instruction_28 3 rfl
theorem dX8_instruction_36 : decode cX8_instruction 36 = .ok (.ireturn, 1) := zdec_at bX8_instruction_28 4 rfl
theorem dX8_instruction_37 : decode cX8_instruction 37 = .ok (.iload_n 2, 1) := zdec_at bX8_instruction_28 5 rfl
theorem dX8_instruction_38 : decode cX8_instruction 38 = .ok (.ifCond .ne 12, 3) := zdec_at bX8_instruction_28 6 rfl
theorem dX8_instruction_41 : decode cX8_instruction 41 = .ok (.aload_n 0, 1) := zdec_at bX8_instruction_28 7 rfl
theorem dX8_instruction_42 : decode cX8_instruction 42 = .ok (.getfield 89, 3) := zdec_at bX8_instruction_28 8 rfl
theorem dX8_instruction_45 : decode cX8_instruction 45 = .ok (.iload_n 1, 1) := zdec_at bX8_instruction_28 9 rfl
theorem dX8_instruction_46 : decode cX8_instruction 46 = .ok (.iaload, 1) := zdec_at bX8_instruction_28 10 rfl
theorem dX8_instruction_47 : decode cX8_instruction 47 = .ok (.goto 37, 3) := zdec_at bX8_instruction_28 11 rfl
theorem dX8_instruction_50 : decode cX8_instruction 50 = .ok (.iload_n 2, 1) := zdec_at bX8_instruction_28 12 rfl
theorem dX8_instruction_51 : decode cX8_instruction 51 = .ok (.iconst 1, 1) := zdec_at bX8_instruction_28 13 rfl
theorem dX8_instruction_52 : decode cX8_instruction 52 = .ok (.if_icmp .ne 12, 3) := zdec_at bX8_instruction_28 14 rfl
theorem dX8_instruction_55 : decode cX8_instruction 55 = .ok (.aload_n 0, 1) := zdec_at bX8_instruction_28 15 rfl
theorem bX8_instruction_56 : zdec cX8_instruction 56 [(56, .getfield 92, 3), (59, .iload_n 1, 1), (60, .iaload, 1), (61, .goto 23, 3), (64, .iload_n 2, 1), (65, .iconst 2, 1), (66, .if_icmp .ne 12, 3), (69, .aload_n 0, 1), (70, .getfield 95, 3), (73, .iload_n 1, 1), (74, .iaload, 1), (75, .goto 9, 3), (78, .aload_n 0, 1), (79, .getfield 98, 3), (82, .iload_n 1, 1), (83, .iaload, 1)] = true := by decide +kernel
theorem dX8_instruction_56 : decode cX8_instruction 56 = .ok (.getfield 92, 3) := zdec_at bX8_instruction_56 0 rfl
theorem dX8_instruction_59 : decode cX8_instruction 59 = .ok (.iload_n 1, 1) := zdec_at bX8_instruction_56 1 rfl
theorem dX8_instruction_60 : decode cX8_instruction 60 = .ok (.iaload, 1) := zdec_at bX8_instruction_56 2 rfl
theorem dX8_instruction_61 : decode cX8_instruction 61 = .ok (.goto 23, 3) := zdec_at bX8_instruction_56 3 rfl
theorem dX8_instruction_64 : decode cX8_instruction 64 = .ok (.iload_n 2, 1) := zdec_at bX8_instruction_56 4 rfl
theorem dX8_instruction_65 : decode cX8_instruction 65 = .ok (.iconst 2, 1) := zdec_at bX8_instruction_56 5 rfl
theorem dX8_instruction_66 : decode cX8_instruction 66 = .ok (.if_icmp .ne 12, 3) := zdec_at bX8_instruction_56 6 rfl
theorem dX8_instruction_69 : decode cX8_instruction 69 = .ok (.aload_n 0, 1) := zdec_at bX8_instruction_56 7 rfl
theorem dX8_instruction_70 : decode cX8_instruction 70 = .ok (.getfield 95, 3) := zdec_at bX8_instruction_56 8 rfl
theorem dX8_instruction_73 : decode cX8_instruction 73 = .ok (.iload_n 1, 1) := zdec_at bX8_instruction_56 9 rfl
theorem dX8_instruction_74 : decode cX8_instruction 74 = .ok (.iaload, 1) := zdec_at bX8_instruction_56 10 rfl
theorem dX8_instruction_75 : decode cX8_instruction 75 = .ok (.goto 9, 3) := zdec_at bX8_instruction_56 11 rfl
theorem dX8_instruction_78 : decode cX8_instruction 78 = .ok (.aload_n 0, 1) := zdec_at bX8_instruction_56 12 rfl
theorem dX8_instruction_79 : decode cX8_instruction 79 = .ok (.getfield 98, 3) := zdec_at bX8_instruction_56 13 rfl
theorem dX8_instruction_82 : decode cX8_instruction 82 = .ok (.iload_n 1, 1) := zdec_at bX8_instruction_56 14 rfl
theorem dX8_instruction_83 : decode cX8_instruction 83 = .ok (.iaload, 1) := zdec_at bX8_instruction_56 15 rfl
theorem bX8_instruction_84 : zdec cX8_instruction 84 [(84, .ireturn, 1)] = true := by decide +kernel
theorem dX8_instruction_84 : decode cX8_instruction 84 = .ok (.ireturn, 1) := zdec_at bX8_instruction_84 0 rfl
theorem sX8_instruction_0 {E : zE} {d : Nat} {Q : zO → zM → Prop} (M : zM) (l1 : Int32) (l2 : Int32) (k : if (gi M 97 72) = 0 then (Q (.inl (some (vi (-1 : Int32)))) (si M 97 0 (0 : Int32))) else (Zm E YX8_in d (si M 97 0 (0 : Int32)) (zargs 0 [vi l1, vi (0 : Int32), vi ((gi M 97 46) - (1 : Int32))]) 0 [] (zma E YX8_instruction (d + 1) [(0, vr (some (97, 1, 0))), (1, vi l1), (2, vi l2)] 20 3 [] Q))) : Zm E YX8_instruction (d + 1) M [(0, vr (some (97, 1, 0))), (1, vi l1), (2, vi l2)] 0 [] Q := by
  refine Zm.l (fun _ _ k_ => z_aload_n dX8_instruction_0 rfl rfl k_) ?_
  refine Zm.l (fun _ _ k_ => z_iconst (v := 0) dX8_instruction_1 rfl k_) ?_
  refine zm_puti (by decide) (by decide) dX8_instruction_2 (zfwN.w fwX8_289_1) rfl ⟨rfl, rfl⟩ ?_
  refine Zm.l (fun _ _ k_ => z_aload_n dX8_instruction_5 rfl rfl k_) ?_
  refine zm_geti dX8_instruction_6 fsX8_770_1 (by decide) (by decide) ?_
  refine Zm.br (fun _ _ k1_ k2_ => z_if_eq (tgt := 35) dX8_instruction_9 rfl k1_ k2_) (fun h_ => ?_) (fun h_ => ?_)
  · have k := zit h_ k
    refine Zm.l (fun _ _ k_ => z_iconst (v := -1) dX8_instruction_35 rfl k_) ?_
    exact zm_iret dX8_instruction_36 rfl rfl k
  · have k := zif h_ k
    refine Zm.l (fun _ _ k_ => z_iload_n dX8_instruction_12 rfl rfl k_) ?_
    refine Zm.l (fun _ _ k_ => z_iconst (v := 0) dX8_instruction_13 rfl k_) ?_
    refine Zm.l (fun _ _ k_ => z_aload_n dX8_instruction_14 rfl rfl k_) ?_
    refine zm_geti dX8_instruction_15 fsX8_606_1 (by decide) (by decide) ?_
    refine Zm.l (fun _ _ k_ => z_iconst (v := 1) dX8_instruction_18 rfl k_) ?_
    refine Zm.l (fun _ _ k_ => z_isub dX8_instruction_19 k_) ?_
    exact zm_callS (as := [vi l1, vi (0 : Int32), vi ((gi M 97 46) - (1 : Int32))]) (st := []) dX8_instruction_20 ssX8_899 (Nat.le_refl _) (Nat.le_of_ble_eq_true rfl) (Nat.le_of_ble_eq_true rfl) rfl k
theorem sX8_instruction_23 {E : zE} {d : Nat} {Q : zO → zM → Prop} (M : zM) (l1 : Int32) (l2 : Int32) (s0 : Int32) (k : if s0 = 0 then (Q (.inl (some (vi (-1 : Int32)))) M) else (Zm E YX8_in d M (zargs 0 [vi l2, vi (0 : Int32), vi (3 : Int32)]) 0 [] (zma E YX8_instruction (d + 1) [(0, vr (some (97, 1, 0))), (1, vi l1), (2, vi l2)] 29 3 [] Q))) : Zm E YX8_instruction (d + 1) M [(0, vr (some (97, 1, 0))), (1, vi l1), (2, vi l2)] 23 [vi s0] Q := by
  refine Zm.br (fun _ _ k1_ k2_ => z_if_eq (tgt := 35) dX8_instruction_23 rfl k1_ k2_) (fun h_ => ?_) (fun h_ => ?_)
  · have k := zit h_ k
    refine Zm.l (fun _ _ k_ => z_iconst (v := -1) dX8_instruction_35 rfl k_) ?_
    exact zm_iret dX8_instruction_36 rfl rfl k
  · have k := zif h_ k
    refine Zm.l (fun _ _ k_ => z_iload_n dX8_instruction_26 rfl rfl k_) ?_
    refine Zm.l (fun _ _ k_ => z_iconst (v := 0) dX8_instruction_27 rfl k_) ?_
    refine Zm.l (fun _ _ k_ => z_iconst (v := 3) dX8_instruction_28 rfl k_) ?_
    exact zm_callS (as := [vi l2, vi (0 : Int32), vi (3 : Int32)]) (st := []) dX8_instruction_29 ssX8_899 (Nat.le_refl _) (Nat.le_of_ble_eq_true rfl) (Nat.le_of_ble_eq_true rfl) rfl k
theorem sX8_instruction_32 {E : zE} {d : Nat} {Q : zO → zM → Prop} (M : zM) (l1 : Int32) (l2 : Int32) (s0 : Int32) (k : if s0 = 0 then (Q (.inl (some (vi (-1 : Int32)))) M) else (if l2 = 0 then (vp_in l1 600 ∧ (Q (.inl (some (vi (gi M 123 (l1).toNatClampNeg)))) M)) else (if l2 = (1 : Int32) then (vp_in l1 600 ∧ (Q (.inl (some (vi (gi M 124 (l1).toNatClampNeg)))) M)) else (if l2 = (2 : Int32) then (vp_in l1 600 ∧ (Q (.inl (some (vi (gi M 125 (l1).toNatClampNeg)))) M)) else (vp_in l1 600 ∧ (Q (.inl (some (vi (gi M 126 (l1).toNatClampNeg)))) M)))))) : Zm E YX8_instruction (d + 1) M [(0, vr (some (97, 1, 0))), (1, vi l1), (2, vi l2)] 32 [vi s0] Q := by
  refine Zm.brn (fun _ _ k1_ k2_ => z_if_ne (tgt := 37) dX8_instruction_32 rfl k1_ k2_) (fun h_ => ?_) (fun h_ => ?_)
  · have k := zif h_ k
    refine Zm.l (fun _ _ k_ => z_iload_n dX8_instruction_37 rfl rfl k_) ?_
    refine Zm.brn (fun _ _ k1_ k2_ => z_if_ne (tgt := 50) dX8_instruction_38 rfl k1_ k2_) (fun h_ => ?_) (fun h_ => ?_)
    · have k := zif h_ k
      refine Zm.l (fun _ _ k_ => z_iload_n dX8_instruction_50 rfl rfl k_) ?_
      refine Zm.l (fun _ _ k_ => z_iconst (v := 1) dX8_instruction_51 rfl k_) ?_
      refine Zm.brn (fun _ _ k1_ k2_ => z_icmp_ne (tgt := 64) dX8_instruction_52 rfl k1_ k2_) (fun h_ => ?_) (fun h_ => ?_)
      · have k := zif h_ k
        refine Zm.l (fun _ _ k_ => z_iload_n dX8_instruction_64 rfl rfl k_) ?_
        refine Zm.l (fun _ _ k_ => z_iconst (v := 2) dX8_instruction_65 rfl k_) ?_
        refine Zm.brn (fun _ _ k1_ k2_ => z_icmp_ne (tgt := 78) dX8_instruction_66 rfl k1_ k2_) (fun h_ => ?_) (fun h_ => ?_)
        · have k := zif h_ k
          refine Zm.l (fun _ _ k_ => z_aload_n dX8_instruction_78 rfl rfl k_) ?_
          refine zm_getr 28 dX8_instruction_79 fsX8_98_1 rfl ?_
          refine Zm.l (fun _ _ k_ => z_iload_n dX8_instruction_82 rfl rfl k_) ?_
          obtain ⟨b_, k⟩ := k
          refine zm_iald dX8_instruction_83 b_ (by decide) (by decide) ?_
          exact zm_iret dX8_instruction_84 rfl rfl k
        · have k := zit h_ k
          refine Zm.l (fun _ _ k_ => z_aload_n dX8_instruction_69 rfl rfl k_) ?_
          refine zm_getr 27 dX8_instruction_70 fsX8_95_1 rfl ?_
          refine Zm.l (fun _ _ k_ => z_iload_n dX8_instruction_73 rfl rfl k_) ?_
          obtain ⟨b_, k⟩ := k
          refine zm_iald dX8_instruction_74 b_ (by decide) (by decide) ?_
          refine Zm.l (fun _ _ k_ => z_goto (tgt := 84) dX8_instruction_75 rfl k_) ?_
          exact zm_iret dX8_instruction_84 rfl rfl k
      · have k := zit h_ k
        refine Zm.l (fun _ _ k_ => z_aload_n dX8_instruction_55 rfl rfl k_) ?_
        refine zm_getr 26 dX8_instruction_56 fsX8_92_1 rfl ?_
        refine Zm.l (fun _ _ k_ => z_iload_n dX8_instruction_59 rfl rfl k_) ?_
        obtain ⟨b_, k⟩ := k
        refine zm_iald dX8_instruction_60 b_ (by decide) (by decide) ?_
        refine Zm.l (fun _ _ k_ => z_goto (tgt := 84) dX8_instruction_61 rfl k_) ?_
        exact zm_iret dX8_instruction_84 rfl rfl k
    · have k := zit h_ k
      refine Zm.l (fun _ _ k_ => z_aload_n dX8_instruction_41 rfl rfl k_) ?_
      refine zm_getr 25 dX8_instruction_42 fsX8_89_1 rfl ?_
      refine Zm.l (fun _ _ k_ => z_iload_n dX8_instruction_45 rfl rfl k_) ?_
      obtain ⟨b_, k⟩ := k
      refine zm_iald dX8_instruction_46 b_ (by decide) (by decide) ?_
      refine Zm.l (fun _ _ k_ => z_goto (tgt := 84) dX8_instruction_47 rfl k_) ?_
      exact zm_iret dX8_instruction_84 rfl rfl k
  · have k := zit h_ k
    refine Zm.l (fun _ _ k_ => z_iconst (v := -1) dX8_instruction_35 rfl k_) ?_
    exact zm_iret dX8_instruction_36 rfl rfl k
/-! ScriptTypesModel.frame(II)I -/
theorem bX8_frame_0 : zdec cX8_frame 0 [(0, .aload_n 0, 1), (1, .iconst 0, 1), (2, .putfield 289, 3), (5, .aload_n 0, 1), (6, .getfield 773, 3), (9, .ifCond .eq 17, 3), (12, .iload_n 1, 1), (13, .iconst 0, 1), (14, .aload_n 0, 1), (15, .getfield 872, 3), (18, .iconst 1, 1), (19, .isub, 1), (20, .invokestatic 899, 3), (23, .ifCond .ne 5, 3), (26, .iconst (-1), 1), (27, .ireturn, 1)] = true := by decide +kernel
theorem dX8_frame_0 : decode cX8_frame 0 = .ok (.aload_n 0, 1) := zdec_at bX8_frame_0 0 rfl
theorem dX8_frame_1 : decode cX8_frame 1 = .ok (.iconst 0, 1) := zdec_at bX8_frame_0 1 rfl
theorem dX8_frame_2 : decode cX8_frame 2 = .ok (.putfield 289, 3) := zdec_at bX8_frame_0 2 rfl
theorem dX8_frame_5 : decode cX8_frame 5 = .ok (.aload_n 0, 1) := zdec_at bX8_frame_0 3 rfl
theorem dX8_frame_6 : decode cX8_frame 6 = .ok (.getfield 773, 3) := zdec_at bX8_frame_0 4 rfl
theorem dX8_frame_9 : decode cX8_frame 9 = .ok (.ifCond .eq 17, 3) := zdec_at bX8_frame_0 5 rfl
theorem dX8_frame_12 : decode cX8_frame 12 = .ok (.iload_n 1, 1) := zdec_at bX8_frame_0 6 rfl
theorem dX8_frame_13 : decode cX8_frame 13 = .ok (.iconst 0, 1) := zdec_at bX8_frame_0 7 rfl
theorem dX8_frame_14 : decode cX8_frame 14 = .ok (.aload_n 0, 1) := zdec_at bX8_frame_0 8 rfl
theorem dX8_frame_15 : decode cX8_frame 15 = .ok (.getfield 872, 3) := zdec_at bX8_frame_0 9 rfl
theorem dX8_frame_18 : decode cX8_frame 18 = .ok (.iconst 1, 1) := zdec_at bX8_frame_0 10 rfl
theorem dX8_frame_19 : decode cX8_frame 19 = .ok (.isub, 1) := zdec_at bX8_frame_0 11 rfl
theorem dX8_frame_20 : decode cX8_frame 20 = .ok (.invokestatic 899, 3) := zdec_at bX8_frame_0 12 rfl
theorem dX8_frame_23 : decode cX8_frame 23 = .ok (.ifCond .ne 5, 3) := zdec_at bX8_frame_0 13 rfl
theorem dX8_frame_26 : decode cX8_frame 26 = .ok (.iconst (-1), 1) := zdec_at bX8_frame_0 14 rfl
theorem dX8_frame_27 : decode cX8_frame 27 = .ok (.ireturn, 1) := zdec_at bX8_frame_0 15 rfl
theorem bX8_frame_28 : zdec cX8_frame 28 [(28, .aload_n 0, 1), (29, .getfield 872, 3), (32, .iconst 1, 1), (33, .isub, 1), (34, .iload_n 1, 1), (35, .isub, 1), (36, .istore_n 3, 1), (37, .iload_n 2, 1)] = true := by decide +kernel
theorem dX8_frame_28 : decode cX8_frame 28 = .ok (.aload_n 0, 1) := zdec_at bX8_frame_28 0 rfl
theorem dX8_frame_29 : decode cX8_frame 29 = .ok (.getfield 872, 3) := zdec_at bX8_frame_28 1 rfl
theorem dX8_frame_32 : decode cX8_frame 32 = .ok (.iconst 1, 1) := zdec_at bX8_frame_28 2 rfl
theorem dX8_frame_33 : decode cX8_frame 33 = .ok (.isub, 1) := zdec_at bX8_frame_28 3 rfl
theorem dX8_frame_34 : decode cX8_frame 34 = .ok (.iload_n 1, 1) := zdec_at bX8_frame_28 4 rfl
theorem dX8_frame_35 : decode cX8_frame 35 = .ok (.isub, 1) := zdec_at bX8_frame_28 5 rfl
theorem dX8_frame_36 : decode cX8_frame 36 = .ok (.istore_n 3, 1) := zdec_at bX8_frame_28 6 rfl
theorem dX8_frame_37 : decode cX8_frame 37 = .ok (.iload_n 2, 1) := zdec_at bX8_frame_28 7 rfl
theorem dX8_frame_38 : decode cX8_frame 38 = .ok (.tableswitch 69 0 4 #[34, 41, 48, 55, 62], 34) := by decide +kernel
theorem bX8_frame_72 : zdec cX8_frame 72 [(72, .aload_n 0, 1), (73, .getfield 170, 3), (76, .iload_n 3, 1), (77, .iaload, 1), (78, .ireturn, 1), (79, .aload_n 0, 1), (80, .getfield 182, 3), (83, .iload_n 3, 1), (84, .iaload, 1), (85, .ireturn, 1), (86, .aload_n 0, 1), (87, .getfield 185, 3), (90, .iload_n 3, 1), (91, .iaload, 1), (92, .ireturn, 1), (93, .aload_n 0, 1)] = true := by decide +kernel
theorem dX8_frame_72 : decode cX8_frame 72 = .ok (.aload_n 0, 1) := zdec_at bX8_frame_72 0 rfl
theorem dX8_frame_73 : decode cX8_frame 73 = .ok (.getfield 170, 3) := zdec_at bX8_frame_72 1 rfl
theorem dX8_frame_76 : decode cX8_frame 76 = .ok (.iload_n 3, 1) := zdec_at bX8_frame_72 2 rfl
theorem dX8_frame_77 : decode cX8_frame 77 = .ok (.iaload, 1) := zdec_at bX8_frame_72 3 rfl
theorem dX8_frame_78 : decode cX8_frame 78 = .ok (.ireturn, 1) := zdec_at bX8_frame_72 4 rfl
theorem dX8_frame_79 : decode cX8_frame 79 = .ok (.aload_n 0, 1) := zdec_at bX8_frame_72 5 rfl
theorem dX8_frame_80 : decode cX8_frame 80 = .ok (.getfield 182, 3) := zdec_at bX8_frame_72 6 rfl
theorem dX8_frame_83 : decode cX8_frame 83 = .ok (.iload_n 3, 1) := zdec_at bX8_frame_72 7 rfl
theorem dX8_frame_84 : decode cX8_frame 84 = .ok (.iaload, 1) := zdec_at bX8_frame_72 8 rfl
theorem dX8_frame_85 : decode cX8_frame 85 = .ok (.ireturn, 1) := zdec_at bX8_frame_72 9 rfl
theorem dX8_frame_86 : decode cX8_frame 86 = .ok (.aload_n 0, 1) := zdec_at bX8_frame_72 10 rfl
theorem dX8_frame_87 : decode cX8_frame 87 = .ok (.getfield 185, 3) := zdec_at bX8_frame_72 11 rfl
theorem dX8_frame_90 : decode cX8_frame 90 = .ok (.iload_n 3, 1) := zdec_at bX8_frame_72 12 rfl
theorem dX8_frame_91 : decode cX8_frame 91 = .ok (.iaload, 1) := zdec_at bX8_frame_72 13 rfl
theorem dX8_frame_92 : decode cX8_frame 92 = .ok (.ireturn, 1) := zdec_at bX8_frame_72 14 rfl
theorem dX8_frame_93 : decode cX8_frame 93 = .ok (.aload_n 0, 1) := zdec_at bX8_frame_72 15 rfl
theorem bX8_frame_94 : zdec cX8_frame 94 [(94, .getfield 173, 3), (97, .iload_n 3, 1), (98, .iaload, 1), (99, .ireturn, 1), (100, .aload_n 0, 1), (101, .getfield 191, 3), (104, .iload_n 3, 1), (105, .iaload, 1), (106, .ireturn, 1), (107, .iconst (-1), 1), (108, .ireturn, 1)] = true := by decide +kernel
theorem dX8_frame_94 : decode cX8_frame 94 = .ok (.getfield 173, 3) := zdec_at bX8_frame_94 0 rfl
theorem dX8_frame_97 : decode cX8_frame 97 = .ok (.iload_n 3, 1) := zdec_at bX8_frame_94 1 rfl
theorem dX8_frame_98 : decode cX8_frame 98 = .ok (.iaload, 1) := zdec_at bX8_frame_94 2 rfl
theorem dX8_frame_99 : decode cX8_frame 99 = .ok (.ireturn, 1) := zdec_at bX8_frame_94 3 rfl
theorem dX8_frame_100 : decode cX8_frame 100 = .ok (.aload_n 0, 1) := zdec_at bX8_frame_94 4 rfl
theorem dX8_frame_101 : decode cX8_frame 101 = .ok (.getfield 191, 3) := zdec_at bX8_frame_94 5 rfl
theorem dX8_frame_104 : decode cX8_frame 104 = .ok (.iload_n 3, 1) := zdec_at bX8_frame_94 6 rfl
theorem dX8_frame_105 : decode cX8_frame 105 = .ok (.iaload, 1) := zdec_at bX8_frame_94 7 rfl
theorem dX8_frame_106 : decode cX8_frame 106 = .ok (.ireturn, 1) := zdec_at bX8_frame_94 8 rfl
theorem dX8_frame_107 : decode cX8_frame 107 = .ok (.iconst (-1), 1) := zdec_at bX8_frame_94 9 rfl
theorem dX8_frame_108 : decode cX8_frame 108 = .ok (.ireturn, 1) := zdec_at bX8_frame_94 10 rfl
theorem sX8_frame_0 {E : zE} {d : Nat} {Q : zO → zM → Prop} (M : zM) (l1 : Int32) (l2 : Int32) (k : if (gi M 97 73) = 0 then (Q (.inl (some (vi (-1 : Int32)))) (si M 97 0 (0 : Int32))) else (Zm E YX8_in d (si M 97 0 (0 : Int32)) (zargs 0 [vi l1, vi (0 : Int32), vi ((gi M 97 92) - (1 : Int32))]) 0 [] (zma E YX8_frame (d + 1) [(0, vr (some (97, 1, 0))), (1, vi l1), (2, vi l2)] 20 3 [] Q))) : Zm E YX8_frame (d + 1) M [(0, vr (some (97, 1, 0))), (1, vi l1), (2, vi l2)] 0 [] Q := by
  refine Zm.l (fun _ _ k_ => z_aload_n dX8_frame_0 rfl rfl k_) ?_
  refine Zm.l (fun _ _ k_ => z_iconst (v := 0) dX8_frame_1 rfl k_) ?_
  refine zm_puti (by decide) (by decide) dX8_frame_2 (zfwN.w fwX8_289_1) rfl ⟨rfl, rfl⟩ ?_
  refine Zm.l (fun _ _ k_ => z_aload_n dX8_frame_5 rfl rfl k_) ?_
  refine zm_geti dX8_frame_6 fsX8_773_1 (by decide) (by decide) ?_
  refine Zm.br (fun _ _ k1_ k2_ => z_if_eq (tgt := 26) dX8_frame_9 rfl k1_ k2_) (fun h_ => ?_) (fun h_ => ?_)
  · have k := zit h_ k
    refine Zm.l (fun _ _ k_ => z_iconst (v := -1) dX8_frame_26 rfl k_) ?_
    exact zm_iret dX8_frame_27 rfl rfl k
  · have k := zif h_ k
    refine Zm.l (fun _ _ k_ => z_iload_n dX8_frame_12 rfl rfl k_) ?_
    refine Zm.l (fun _ _ k_ => z_iconst (v := 0) dX8_frame_13 rfl k_) ?_
    refine Zm.l (fun _ _ k_ => z_aload_n dX8_frame_14 rfl rfl k_) ?_
    refine zm_geti dX8_frame_15 fsX8_872_1 (by decide) (by decide) ?_
    refine Zm.l (fun _ _ k_ => z_iconst (v := 1) dX8_frame_18 rfl k_) ?_
    refine Zm.l (fun _ _ k_ => z_isub dX8_frame_19 k_) ?_
    exact zm_callS (as := [vi l1, vi (0 : Int32), vi ((gi M 97 92) - (1 : Int32))]) (st := []) dX8_frame_20 ssX8_899 (Nat.le_refl _) (Nat.le_of_ble_eq_true rfl) (Nat.le_of_ble_eq_true rfl) rfl k
theorem sX8_frame_23 {E : zE} {d : Nat} {Q : zO → zM → Prop} (M : zM) (l1 : Int32) (l2 : Int32) (s0 : Int32) (k : if s0 = 0 then (Q (.inl (some (vi (-1 : Int32)))) M) else (if l2 = 0 then (vp_in (((gi M 97 92) - (1 : Int32)) - l1) 24 ∧ (Q (.inl (some (vi (gi M 150 ((((gi M 97 92) - (1 : Int32)) - l1)).toNatClampNeg)))) M)) else (if l2 = 1 then (vp_in (((gi M 97 92) - (1 : Int32)) - l1) 24 ∧ (Q (.inl (some (vi (gi M 154 ((((gi M 97 92) - (1 : Int32)) - l1)).toNatClampNeg)))) M)) else (if l2 = 2 then (vp_in (((gi M 97 92) - (1 : Int32)) - l1) 24 ∧ (Q (.inl (some (vi (gi M 155 ((((gi M 97 92) - (1 : Int32)) - l1)).toNatClampNeg)))) M)) else (if l2 = 3 then (vp_in (((gi M 97 92) - (1 : Int32)) - l1) 24 ∧ (Q (.inl (some (vi (gi M 151 ((((gi M 97 92) - (1 : Int32)) - l1)).toNatClampNeg)))) M)) else (if l2 = 4 then (vp_in (((gi M 97 92) - (1 : Int32)) - l1) 24 ∧ (Q (.inl (some (vi (gi M 157 ((((gi M 97 92) - (1 : Int32)) - l1)).toNatClampNeg)))) M)) else (Q (.inl (some (vi (-1 : Int32)))) M))))))) : Zm E YX8_frame (d + 1) M [(0, vr (some (97, 1, 0))), (1, vi l1), (2, vi l2)] 23 [vi s0] Q := by
  refine Zm.brn (fun _ _ k1_ k2_ => z_if_ne (tgt := 28) dX8_frame_23 rfl k1_ k2_) (fun h_ => ?_) (fun h_ => ?_)
  · have k := zif h_ k
    refine Zm.l (fun _ _ k_ => z_aload_n dX8_frame_28 rfl rfl k_) ?_
    refine zm_geti dX8_frame_29 fsX8_872_1 (by decide) (by decide) ?_
    refine Zm.l (fun _ _ k_ => z_iconst (v := 1) dX8_frame_32 rfl k_) ?_
    refine Zm.l (fun _ _ k_ => z_isub dX8_frame_33 k_) ?_
    refine Zm.l (fun _ _ k_ => z_iload_n dX8_frame_34 rfl rfl k_) ?_
    refine Zm.l (fun _ _ k_ => z_isub dX8_frame_35 k_) ?_
    refine Zm.l (fun _ _ k_ => z_ist_n dX8_frame_36 rfl (by decide) (lv' := [(0, vr (some (97, 1, 0))), (1, vi l1), (2, vi l2), (3, vi (((gi M 97 92) - (1 : Int32)) - l1))]) rfl k_) ?_
    refine Zm.l (fun _ _ k_ => z_iload_n dX8_frame_37 rfl rfl k_) ?_
    by_cases h0_ : l2 = 0
    · have k := zit h0_ k
      refine Zm.l (fun _ _ k_ => z_tableIn (off := 34) (tgt := 72) dX8_frame_38 (by rw [h0_]; decide) (by rw [h0_]; decide) (by rw [h0_]; rfl) rfl k_) ?_
      refine Zm.l (fun _ _ k_ => z_aload_n dX8_frame_72 rfl rfl k_) ?_
      refine zm_getr 47 dX8_frame_73 fsX8_170_1 rfl ?_
      refine Zm.l (fun _ _ k_ => z_iload_n dX8_frame_76 rfl rfl k_) ?_
      obtain ⟨b_, k⟩ := k
      refine zm_iald dX8_frame_77 b_ (by decide) (by decide) ?_
      exact zm_iret dX8_frame_78 rfl rfl k
    · have k := zif h0_ k
      by_cases h1_ : l2 = 1
      · have k := zit h1_ k
        refine Zm.l (fun _ _ k_ => z_tableIn (off := 41) (tgt := 79) dX8_frame_38 (by rw [h1_]; decide) (by rw [h1_]; decide) (by rw [h1_]; rfl) rfl k_) ?_
        refine Zm.l (fun _ _ k_ => z_aload_n dX8_frame_79 rfl rfl k_) ?_
        refine zm_getr 51 dX8_frame_80 fsX8_182_1 rfl ?_
        refine Zm.l (fun _ _ k_ => z_iload_n dX8_frame_83 rfl rfl k_) ?_
        obtain ⟨b_, k⟩ := k
        refine zm_iald dX8_frame_84 b_ (by decide) (by decide) ?_
        exact zm_iret dX8_frame_85 rfl rfl k
      · have k := zif h1_ k
        by_cases h2_ : l2 = 2
        · have k := zit h2_ k
          refine Zm.l (fun _ _ k_ => z_tableIn (off := 48) (tgt := 86) dX8_frame_38 (by rw [h2_]; decide) (by rw [h2_]; decide) (by rw [h2_]; rfl) rfl k_) ?_
          refine Zm.l (fun _ _ k_ => z_aload_n dX8_frame_86 rfl rfl k_) ?_
          refine zm_getr 52 dX8_frame_87 fsX8_185_1 rfl ?_
          refine Zm.l (fun _ _ k_ => z_iload_n dX8_frame_90 rfl rfl k_) ?_
          obtain ⟨b_, k⟩ := k
          refine zm_iald dX8_frame_91 b_ (by decide) (by decide) ?_
          exact zm_iret dX8_frame_92 rfl rfl k
        · have k := zif h2_ k
          by_cases h3_ : l2 = 3
          · have k := zit h3_ k
            refine Zm.l (fun _ _ k_ => z_tableIn (off := 55) (tgt := 93) dX8_frame_38 (by rw [h3_]; decide) (by rw [h3_]; decide) (by rw [h3_]; rfl) rfl k_) ?_
            refine Zm.l (fun _ _ k_ => z_aload_n dX8_frame_93 rfl rfl k_) ?_
            refine zm_getr 48 dX8_frame_94 fsX8_173_1 rfl ?_
            refine Zm.l (fun _ _ k_ => z_iload_n dX8_frame_97 rfl rfl k_) ?_
            obtain ⟨b_, k⟩ := k
            refine zm_iald dX8_frame_98 b_ (by decide) (by decide) ?_
            exact zm_iret dX8_frame_99 rfl rfl k
          · have k := zif h3_ k
            by_cases h4_ : l2 = 4
            · have k := zit h4_ k
              refine Zm.l (fun _ _ k_ => z_tableIn (off := 62) (tgt := 100) dX8_frame_38 (by rw [h4_]; decide) (by rw [h4_]; decide) (by rw [h4_]; rfl) rfl k_) ?_
              refine Zm.l (fun _ _ k_ => z_aload_n dX8_frame_100 rfl rfl k_) ?_
              refine zm_getr 54 dX8_frame_101 fsX8_191_1 rfl ?_
              refine Zm.l (fun _ _ k_ => z_iload_n dX8_frame_104 rfl rfl k_) ?_
              obtain ⟨b_, k⟩ := k
              refine zm_iald dX8_frame_105 b_ (by decide) (by decide) ?_
              exact zm_iret dX8_frame_106 rfl rfl k
            · have k := zif h4_ k
              refine Zm.l (fun _ _ k_ => z_tout (tgt := 107) [0, 1, 2, 3, 4] (by decide) dX8_frame_38 (zall_1 h0_ (zall_1 h1_ (zall_1 h2_ (zall_1 h3_ (zall_1 h4_ zall_0))))) rfl k_) ?_
              refine Zm.l (fun _ _ k_ => z_iconst (v := -1) dX8_frame_107 rfl k_) ?_
              exact zm_iret dX8_frame_108 rfl rfl k
  · have k := zit h_ k
    refine Zm.l (fun _ _ k_ => z_iconst (v := -1) dX8_frame_26 rfl k_) ?_
    exact zm_iret dX8_frame_27 rfl rfl k
/-! ScriptTypesModel.value(III)I -/
theorem bX8_value_2_0 : zdec cX8_value_2 0 [(0, .aload_n 0, 1), (1, .iconst 0, 1), (2, .putfield 289, 3), (5, .aload_n 0, 1), (6, .getfield 773, 3), (9, .ifCond .eq 17, 3), (12, .iload_n 1, 1), (13, .iconst 0, 1), (14, .aload_n 0, 1), (15, .getfield 872, 3), (18, .iconst 1, 1), (19, .isub, 1), (20, .invokestatic 899, 3), (23, .ifCond .ne 5, 3), (26, .iconst (-1), 1), (27, .ireturn, 1)] = true := by decide +kernel
theorem dX8_value_2_0 : decode cX8_value_2 0 = .ok (.aload_n 0, 1) := zdec_at bX8_value_2_0 0 rfl
theorem dX8_value_2_1 : decode cX8_value_2 1 = .ok (.iconst 0, 1) := zdec_at bX8_value_2_0 1 rfl
theorem dX8_value_2_2 : decode cX8_value_2 2 = .ok (.putfield 289, 3) := zdec_at bX8_value_2_0 2 rfl
theorem dX8_value_2_5 : decode cX8_value_2 5 = .ok (.aload_n 0, 1) := zdec_at bX8_value_2_0 3 rfl
theorem dX8_value_2_6 : decode cX8_value_2 6 = .ok (.getfield 773, 3) := zdec_at bX8_value_2_0 4 rfl
theorem dX8_value_2_9 : decode cX8_value_2 9 = .ok (.ifCond .eq 17, 3) := zdec_at bX8_value_2_0 5 rfl
theorem dX8_value_2_12 : decode cX8_value_2 12 = .ok (.iload_n 1, 1) := zdec_at bX8_value_2_0 6 rfl
theorem dX8_value_2_13 : decode cX8_value_2 13 = .ok (.iconst 0, 1) := zdec_at bX8_value_2_0 7 rfl
theorem dX8_value_2_14 : decode cX8_value_2 14 = .ok (.aload_n 0, 1) := zdec_at bX8_value_2_0 8 rfl
theorem dX8_value_2_15 : decode cX8_value_2 15 = .ok (.getfield 872, 3) := zdec_at bX8_value_2_0 9 rfl
theorem dX8_value_2_18 : decode cX8_value_2 18 = .ok (.iconst 1, 1) := zdec_at bX8_value_2_0 10 rfl
theorem dX8_value_2_19 : decode cX8_value_2 19 = .ok (.isub, 1) := zdec_at bX8_value_2_0 11 rfl
theorem dX8_value_2_20 : decode cX8_value_2 20 = .ok (.invokestatic 899, 3) := zdec_at bX8_value_2_0 12 rfl
theorem dX8_value_2_23 : decode cX8_value_2 23 = .ok (.ifCond .ne 5, 3) := zdec_at bX8_value_2_0 13 rfl
theorem dX8_value_2_26 : decode cX8_value_2 26 = .ok (.iconst (-1), 1) := zdec_at bX8_value_2_0 14 rfl
theorem dX8_value_2_27 : decode cX8_value_2 27 = .ok (.ireturn, 1) := zdec_at bX8_value_2_0 15 rfl
theorem bX8_value_2_28 : zdec cX8_value_2 28 [(28, .aload_n 0, 1), (29, .getfield 872, 3), (32, .iconst 1, 1), (33, .isub, 1), (34, .iload_n 1, 1), (35, .isub, 1), (36, .istore 4, 2), (38, .iload_n 2, 1), (39, .iconst (-1), 1), (40, .if_icmp .ne 23, 3), (43, .aload_n 0, 1), (44, .aload_n 0, 1), (45, .getfield 176, 3), (48, .iload 4, 2), (50, .iaload, 1), (51, .aload_n 0, 1)] = true := by decide +kernel
theorem dX8_value_2_28 : decode cX8_value_2 28 = .ok (.aload_n 0, 1) := zdec_at bX8_value_2_28 0 rfl
theorem dX8_value_2_29 : decode cX8_value_2 29 = .ok (.getfield 872, 3) := zdec_at bX8_value_2_28 1 rfl
theorem dX8_value_2_32 : decode cX8_value_2 32 = .ok (.iconst 1, 1) := zdec_at bX8_value_2_28 2 rfl
theorem dX8_value_2_33 : decode cX8_value_2 33 = .ok (.isub, 1) := zdec_at bX8_value_2_28 3 rfl
theorem dX8_value_2_34 : decode cX8_value_2 34 = .ok (.iload_n 1, 1) := zdec_at bX8_value_2_28 4 rfl
theorem dX8_value_2_35 : decode cX8_value_2 35 = .ok (.isub, 1) := zdec_at bX8_value_2_28 5 rfl
theorem dX8_value_2_36 : decode cX8_value_2 36 = .ok (.istore 4, 2) := zdec_at bX8_value_2_28 6 rfl
theorem dX8_value_2_38 : decode cX8_value_2 38 = .ok (.iload_n 2, 1) := zdec_at bX8_value_2_28 7 rfl
theorem dX8_value_2_39 : decode cX8_value_2 39 = .ok (.iconst (-1), 1) := zdec_at bX8_value_2_28 8 rfl
theorem dX8_value_2_40 : decode cX8_value_2 40 = .ok (.if_icmp .ne 23, 3) := zdec_at bX8_value_2_28 9 rfl
theorem dX8_value_2_43 : decode cX8_value_2 43 = .ok (.aload_n 0, 1) := zdec_at bX8_value_2_28 10 rfl
theorem dX8_value_2_44 : decode cX8_value_2 44 = .ok (.aload_n 0, 1) := zdec_at bX8_value_2_28 11 rfl
theorem dX8_value_2_45 : decode cX8_value_2 45 = .ok (.getfield 176, 3) := zdec_at bX8_value_2_28 12 rfl
theorem dX8_value_2_48 : decode cX8_value_2 48 = .ok (.iload 4, 2) := zdec_at bX8_value_2_28 13 rfl
theorem dX8_value_2_50 : decode cX8_value_2 50 = .ok (.iaload, 1) := zdec_at bX8_value_2_28 14 rfl
theorem dX8_value_2_51 : decode cX8_value_2 51 = .ok (.aload_n 0, 1) := zdec_at bX8_value_2_28 15 rfl
theorem bX8_value_2_52 : zdec cX8_value_2 52 [(52, .getfield 179, 3), (55, .iload 4, 2), (57, .iaload, 1), (58, .iload_n 3, 1), (59, .invokevirtual 1037, 3), (62, .ireturn, 1), (63, .iload_n 2, 1), (64, .iconst 0, 1), (65, .aload_n 0, 1), (66, .getfield 185, 3), (69, .iload 4, 2), (71, .iaload, 1), (72, .iconst 1, 1), (73, .isub, 1), (74, .invokestatic 899, 3), (77, .ifCond .ne 5, 3)] = true := by decide +kernel
theorem dX8_value_2_52 : decode cX8_value_2 52 = .ok (.getfield 179, 3) := zdec_at bX8_value_2_52 0 rfl
theorem dX8_value_2_55 : decode cX8_value_2 55 = .ok (.iload 4, 2) := zdec_at bX8_value_2_52 1 rfl
theorem dX8_value_2_57 : decode cX8_value_2 57 = .ok (.iaload, 1) := zdec_at bX8_value_2_52 2 rfl
theorem dX8_value_2_58 : decode cX8_value_2 58 = .ok (.iload_n 3, 1) := zdec_at bX8_value_2_52 3 rfl
theorem dX8_value_2_59 : decode cX8_value_2 59 = .ok (.invokevirtual 1037, 3) := zdec_at bX8_value_2_52 4 rfl
theorem dX8_value_2_62 : decode cX8_value_2 62 = .ok (.ireturn, 1) := zdec_at bX8_value_2_52 5 rfl
theorem dX8_value_2_63 : decode cX8_value_2 63 = .ok (.iload_n 2, 1) := zdec_at bX8_value_2_52 6 rfl
theorem dX8_value_2_64 : decode cX8_value_2 64 = .ok (.iconst 0, 1) := zdec_at bX8_value_2_52 7 rfl
theorem dX8_value_2_65 : decode cX8_value_2 65 = .ok (.aload_n 0, 1) := zdec_at bX8_value_2_52 8 rfl
theorem dX8_value_2_66 : decode cX8_value_2 66 = .ok (.getfield 185, 3) := zdec_at bX8_value_2_52 9 rfl
theorem dX8_value_2_69 : decode cX8_value_2 69 = .ok (.iload 4, 2) := zdec_at bX8_value_2_52 10 rfl
theorem dX8_value_2_71 : decode cX8_value_2 71 = .ok (.iaload, 1) := zdec_at bX8_value_2_52 11 rfl
theorem dX8_value_2_72 : decode cX8_value_2 72 = .ok (.iconst 1, 1) := zdec_at bX8_value_2_52 12 rfl
theorem dX8_value_2_73 : decode cX8_value_2 73 = .ok (.isub, 1) := zdec_at bX8_value_2_52 13 rfl
theorem dX8_value_2_74 : decode cX8_value_2 74 = .ok (.invokestatic 899, 3) := zdec_at bX8_value_2_52 14 rfl
theorem dX8_value_2_77 : decode cX8_value_2 77 = .ok (.ifCond .ne 5, 3) := zdec_at bX8_value_2_52 15 rfl
theorem bX8_value_2_80 : zdec cX8_value_2 80 [(80, .iconst (-1), 1), (81, .ireturn, 1), (82, .sipush 400, 3), (85, .iload 4, 2), (87, .imul, 1), (88, .iload_n 2, 1), (89, .iadd, 1), (90, .istore 5, 2), (92, .aload_n 0, 1), (93, .getfield 200, 3), (96, .iload 5, 2), (98, .iaload, 1), (99, .bipush 8, 2), (101, .if_icmp .ne 15, 3), (104, .iload_n 3, 1), (105, .iconst 1, 1)] = true := by decide +kernel
theorem dX8_value_2_80 : decode cX8_value_2 80 = .ok (.iconst (-1), 1) := zdec_at bX8_value_2_80 0 rfl
theorem dX8_value_2_81 : decode cX8_value_2 81 = .ok (.ireturn, 1) := zdec_at bX8_value_2_80 1 rfl
theorem dX8_value_2_82 : decode cX8_value_2 82 = .ok (.sipush 400, 3) := zdec_at bX8_value_2_80 2 rfl
theorem dX8_value_2_85 : decode cX8_value_2 85 = .ok (.iload 4, 2) := zdec_at bX8_value_2_80 3 rfl
theorem dX8_value_2_87 : decode cX8_value_2 87 = .ok (.imul, 1) := zdec_at bX8_value_2_80 4 rfl
theorem dX8_value_2_88 : decode cX8_value_2 88 = .ok (.iload_n 2, 1) := zdec_at bX8_value_2_80 5 rfl
theorem dX8_value_2_89 : decode cX8_value_2 89 = .ok (.iadd, 1) := zdec_at bX8_value_2_80 6 rfl
theorem dX8_value_2_90 : decode cX8_value_2 90 = .ok (.istore 5, 2) := zdec_at bX8_value_2_80 7 rfl
theorem dX8_value_2_92 : decode cX8_value_2 92 = .ok (.aload_n 0, 1) := zdec_at bX8_value_2_80 8 rfl
theorem dX8_value_2_93 : decode cX8_value_2 93 = .ok (.getfield 200, 3) := zdec_at bX8_value_2_80 9 rfl
theorem dX8_value_2_96 : decode cX8_value_2 96 = .ok (.iload 5, 2) := zdec_at bX8_value_2_80 10 rfl
theorem dX8_value_2_98 : decode cX8_value_2 98 = .ok (.iaload, 1) := zdec_at bX8_value_2_80 11 rfl
theorem dX8_value_2_99 : decode cX8_value_2 99 = .ok (.bipush 8, 2) := zdec_at bX8_value_2_80 12 rfl
theorem dX8_value_2_101 : decode cX8_value_2 101 = .ok (.if_icmp .ne 15, 3) := zdec_at bX8_value_2_80 13 rfl
theorem dX8_value_2_104 : decode cX8_value_2 104 = .ok (.iload_n 3, 1) := zdec_at bX8_value_2_80 14 rfl
theorem dX8_value_2_105 : decode cX8_value_2 105 = .ok (.iconst 1, 1) := zdec_at bX8_value_2_80 15 rfl
theorem bX8_value_2_106 : zdec cX8_value_2 106 [(106, .if_icmp .ne 10, 3), (109, .aload_n 0, 1), (110, .iload 5, 2), (112, .invokevirtual 1040, 3), (115, .ireturn, 1), (116, .aload_n 0, 1), (117, .aload_n 0, 1), (118, .getfield 200, 3), (121, .iload 5, 2), (123, .iaload, 1), (124, .aload_n 0, 1), (125, .getfield 203, 3), (128, .iload 5, 2), (130, .iaload, 1), (131, .iload_n 3, 1), (132, .invokevirtual 1037, 3)] = true := by decide +kernel
theorem dX8_value_2_106 : decode cX8_value_2 106 = .ok (.if_icmp .ne 10, 3) := zdec_at bX8_value_2_106 0 rfl
theorem dX8_value_2_109 : decode cX8_value_2 109 = .ok (.aload_n 0, 1) := zdec_at bX8_value_2_106 1 rfl
theorem dX8_value_2_110 : decode cX8_value_2 110 = .ok (.iload 5, 2) := zdec_at bX8_value_2_106 2 rfl
theorem dX8_value_2_112 : decode cX8_value_2 112 = .ok (.invokevirtual 1040, 3) := zdec_at bX8_value_2_106 3 rfl
theorem dX8_value_2_115 : decode cX8_value_2 115 = .ok (.ireturn, 1) := zdec_at bX8_value_2_106 4 rfl
theorem dX8_value_2_116 : decode cX8_value_2 116 = .ok (.aload_n 0, 1) := zdec_at bX8_value_2_106 5 rfl
theorem dX8_value_2_117 : decode cX8_value_2 117 = .ok (.aload_n 0, 1) := zdec_at bX8_value_2_106 6 rfl
theorem dX8_value_2_118 : decode cX8_value_2 118 = .ok (.getfield 200, 3) := zdec_at bX8_value_2_106 7 rfl
theorem dX8_value_2_121 : decode cX8_value_2 121 = .ok (.iload 5, 2) := zdec_at bX8_value_2_106 8 rfl
theorem dX8_value_2_123 : decode cX8_value_2 123 = .ok (.iaload, 1) := zdec_at bX8_value_2_106 9 rfl
theorem dX8_value_2_124 : decode cX8_value_2 124 = .ok (.aload_n 0, 1) := zdec_at bX8_value_2_106 10 rfl
theorem dX8_value_2_125 : decode cX8_value_2 125 = .ok (.getfield 203, 3) := zdec_at bX8_value_2_106 11 rfl
theorem dX8_value_2_128 : decode cX8_value_2 128 = .ok (.iload 5, 2) := zdec_at bX8_value_2_106 12 rfl
theorem dX8_value_2_130 : decode cX8_value_2 130 = .ok (.iaload, 1) := zdec_at bX8_value_2_106 13 rfl
theorem dX8_value_2_131 : decode cX8_value_2 131 = .ok (.iload_n 3, 1) := zdec_at bX8_value_2_106 14 rfl
theorem dX8_value_2_132 : decode cX8_value_2 132 = .ok (.invokevirtual 1037, 3) := zdec_at bX8_value_2_106 15 rfl
theorem bX8_value_2_135 : zdec cX8_value_2 135 [(135, .ireturn, 1)] = true := by decide +kernel
theorem dX8_value_2_135 : decode cX8_value_2 135 = .ok (.ireturn, 1) := zdec_at bX8_value_2_135 0 rfl
theorem sX8_value_2_0 {E : zE} {d : Nat} {Q : zO → zM → Prop} (M : zM) (l1 : Int32) (l2 : Int32) (l3 : Int32) (k : if (gi M 97 73) = 0 then (Q (.inl (some (vi (-1 : Int32)))) (si M 97 0 (0 : Int32))) else (Zm E YX8_in d (si M 97 0 (0 : Int32)) (zargs 0 [vi l1, vi (0 : Int32), vi ((gi M 97 92) - (1 : Int32))]) 0 [] (zma E YX8_value_2 (d + 1) [(0, vr (some (97, 1, 0))), (1, vi l1), (2, vi l2), (3, vi l3)] 20 3 [] Q))) : Zm E YX8_value_2 (d + 1) M [(0, vr (some (97, 1, 0))), (1, vi l1), (2, vi l2), (3, vi l3)] 0 [] Q := by
  refine Zm.l (fun _ _ k_ => z_aload_n dX8_value_2_0 rfl rfl k_) ?_
  refine Zm.l (fun _ _ k_ => z_iconst (v := 0) dX8_value_2_1 rfl k_) ?_
  refine zm_puti (by decide) (by decide) dX8_value_2_2 (zfwN.w fwX8_289_1) rfl ⟨rfl, rfl⟩ ?_
  refine Zm.l (fun _ _ k_ => z_aload_n dX8_value_2_5 rfl rfl k_) ?_
  refine zm_geti dX8_value_2_6 fsX8_773_1 (by decide) (by decide) ?_
  refine Zm.br (fun _ _ k1_ k2_ => z_if_eq (tgt := 26) dX8_value_2_9 rfl k1_ k2_) (fun h_ => ?_) (fun h_ => ?_)
  · have k := zit h_ k
    refine Zm.l (fun _ _ k_ => z_iconst (v := -1) dX8_value_2_26 rfl k_) ?_
    exact zm_iret dX8_value_2_27 rfl rfl k
  · have k := zif h_ k
    refine Zm.l (fun _ _ k_ => z_iload_n dX8_value_2_12 rfl rfl k_) ?_
    refine Zm.l (fun _ _ k_ => z_iconst (v := 0) dX8_value_2_13 rfl k_) ?_
    refine Zm.l (fun _ _ k_ => z_aload_n dX8_value_2_14 rfl rfl k_) ?_
    refine zm_geti dX8_value_2_15 fsX8_872_1 (by decide) (by decide) ?_
    refine Zm.l (fun _ _ k_ => z_iconst (v := 1) dX8_value_2_18 rfl k_) ?_
    refine Zm.l (fun _ _ k_ => z_isub dX8_value_2_19 k_) ?_
    exact zm_callS (as := [vi l1, vi (0 : Int32), vi ((gi M 97 92) - (1 : Int32))]) (st := []) dX8_value_2_20 ssX8_899 (Nat.le_refl _) (Nat.le_of_ble_eq_true rfl) (Nat.le_of_ble_eq_true rfl) rfl k
theorem sX8_value_2_23 {E : zE} {d : Nat} {Q : zO → zM → Prop} (M : zM) (l1 : Int32) (l2 : Int32) (l3 : Int32) (s0 : Int32) (k : if s0 = 0 then (Q (.inl (some (vi (-1 : Int32)))) M) else (if l2 = (-1 : Int32) then (vp_in (((gi M 97 92) - (1 : Int32)) - l1) 24 ∧ (vp_in (((gi M 97 92) - (1 : Int32)) - l1) 24 ∧ (Zm E YX8_told d M (zargs 0 [vr (some (97, 1, 0)), vi (gi M 152 ((((gi M 97 92) - (1 : Int32)) - l1)).toNatClampNeg), vi (gi M 153 ((((gi M 97 92) - (1 : Int32)) - l1)).toNatClampNeg), vi l3]) 0 [] (zma E YX8_value_2 (d + 1) [] 59 3 [] Q)))) else (vp_in (((gi M 97 92) - (1 : Int32)) - l1) 24 ∧ (Zm E YX8_in d M (zargs 0 [vi l2, vi (0 : Int32), vi ((gi M 155 ((((gi M 97 92) - (1 : Int32)) - l1)).toNatClampNeg) - (1 : Int32))]) 0 [] (zma E YX8_value_2 (d + 1) [(0, vr (some (97, 1, 0))), (2, vi l2), (3, vi l3), (4, vi (((gi M 97 92) - (1 : Int32)) - l1))] 74 3 [] Q))))) : Zm E YX8_value_2 (d + 1) M [(0, vr (some (97, 1, 0))), (1, vi l1), (2, vi l2), (3, vi l3)] 23 [vi s0] Q := by
  refine Zm.brn (fun _ _ k1_ k2_ => z_if_ne (tgt := 28) dX8_value_2_23 rfl k1_ k2_) (fun h_ => ?_) (fun h_ => ?_)
  · have k := zif h_ k
    refine Zm.l (fun _ _ k_ => z_aload_n dX8_value_2_28 rfl rfl k_) ?_
    refine zm_geti dX8_value_2_29 fsX8_872_1 (by decide) (by decide) ?_
    refine Zm.l (fun _ _ k_ => z_iconst (v := 1) dX8_value_2_32 rfl k_) ?_
    refine Zm.l (fun _ _ k_ => z_isub dX8_value_2_33 k_) ?_
    refine Zm.l (fun _ _ k_ => z_iload_n dX8_value_2_34 rfl rfl k_) ?_
    refine Zm.l (fun _ _ k_ => z_isub dX8_value_2_35 k_) ?_
    refine Zm.l (fun _ _ k_ => z_ist dX8_value_2_36 (by decide) (lv' := [(0, vr (some (97, 1, 0))), (1, vi l1), (2, vi l2), (3, vi l3), (4, vi (((gi M 97 92) - (1 : Int32)) - l1))]) rfl k_) ?_
    refine Zm.l (fun _ _ k_ => z_iload_n dX8_value_2_38 rfl rfl k_) ?_
    refine Zm.l (fun _ _ k_ => z_iconst (v := -1) dX8_value_2_39 rfl k_) ?_
    refine Zm.brn (fun _ _ k1_ k2_ => z_icmp_ne (tgt := 63) dX8_value_2_40 rfl k1_ k2_) (fun h_ => ?_) (fun h_ => ?_)
    · have k := zif h_ k
      refine Zm.l (fun _ _ k_ => z_iload_n dX8_value_2_63 rfl rfl k_) ?_
      refine Zm.l (fun _ _ k_ => z_iconst (v := 0) dX8_value_2_64 rfl k_) ?_
      refine Zm.l (fun _ _ k_ => z_aload_n dX8_value_2_65 rfl rfl k_) ?_
      refine zm_getr 52 dX8_value_2_66 fsX8_185_1 rfl ?_
      refine Zm.l (fun _ _ k_ => z_iload dX8_value_2_69 rfl k_) ?_
      obtain ⟨b_, k⟩ := k
      refine zm_iald dX8_value_2_71 b_ (by decide) (by decide) ?_
      refine Zm.l (fun _ _ k_ => z_iconst (v := 1) dX8_value_2_72 rfl k_) ?_
      refine Zm.l (fun _ _ k_ => z_isub dX8_value_2_73 k_) ?_
      refine Zm.pick [0, 2, 3, 4] rfl ?_
      exact zm_callS (as := [vi l2, vi (0 : Int32), vi ((gi M 155 ((((gi M 97 92) - (1 : Int32)) - l1)).toNatClampNeg) - (1 : Int32))]) (st := []) dX8_value_2_74 ssX8_899 (Nat.le_refl _) (Nat.le_of_ble_eq_true rfl) (Nat.le_of_ble_eq_true rfl) rfl k
    · have k := zit h_ k
      refine Zm.l (fun _ _ k_ => z_aload_n dX8_value_2_43 rfl rfl k_) ?_
      refine Zm.l (fun _ _ k_ => z_aload_n dX8_value_2_44 rfl rfl k_) ?_
      refine zm_getr 49 dX8_value_2_45 fsX8_176_1 rfl ?_
      refine Zm.l (fun _ _ k_ => z_iload dX8_value_2_48 rfl k_) ?_
      obtain ⟨b_, k⟩ := k
      refine zm_iald dX8_value_2_50 b_ (by decide) (by decide) ?_
      refine Zm.l (fun _ _ k_ => z_aload_n dX8_value_2_51 rfl rfl k_) ?_
      refine zm_getr 50 dX8_value_2_52 fsX8_179_1 rfl ?_
      refine Zm.l (fun _ _ k_ => z_iload dX8_value_2_55 rfl k_) ?_
      obtain ⟨b_, k⟩ := k
      refine zm_iald dX8_value_2_57 b_ (by decide) (by decide) ?_
      refine Zm.l (fun _ _ k_ => z_iload_n dX8_value_2_58 rfl rfl k_) ?_
      refine Zm.pick [] rfl ?_
      exact zm_callV (as := [vi (gi M 152 ((((gi M 97 92) - (1 : Int32)) - l1)).toNatClampNeg), vi (gi M 153 ((((gi M 97 92) - (1 : Int32)) - l1)).toNatClampNeg), vi l3]) (st := []) dX8_value_2_59 vsX8_1037_1 (Nat.le_refl _) (Nat.le_of_ble_eq_true rfl) (Nat.le_of_ble_eq_true rfl) rfl k
  · have k := zit h_ k
    refine Zm.l (fun _ _ k_ => z_iconst (v := -1) dX8_value_2_26 rfl k_) ?_
    exact zm_iret dX8_value_2_27 rfl rfl k
theorem sX8_value_2_62 {E : zE} {d : Nat} {Q : zO → zM → Prop} (M : zM) (s0 : Int32) (k : Q (.inl (some (vi s0))) M) : Zm E YX8_value_2 (d + 1) M [] 62 [vi s0] Q := by
  exact zm_iret dX8_value_2_62 rfl rfl k
theorem sX8_value_2_77 {E : zE} {d : Nat} {Q : zO → zM → Prop} (M : zM) (l2 : Int32) (l3 : Int32) (l4 : Int32) (s0 : Int32) (k : if s0 = 0 then (Q (.inl (some (vi (-1 : Int32)))) M) else (vp_in (((400 : Int32) * l4) + l2) 9600 ∧ (if (gi M 160 ((((400 : Int32) * l4) + l2)).toNatClampNeg) = (8 : Int32) then (if l3 = (1 : Int32) then (Zm E YX8_leftOf d M (zargs 0 [vr (some (97, 1, 0)), vi (((400 : Int32) * l4) + l2)]) 0 [] (zma E YX8_value_2 (d + 1) [] 112 3 [] Q)) else (Zm E YX8_value_2 (d + 1) M [(0, vr (some (97, 1, 0))), (3, vi l3), (5, vi (((400 : Int32) * l4) + l2))] 116 [] Q)) else (Zm E YX8_value_2 (d + 1) M [(0, vr (some (97, 1, 0))), (3, vi l3), (5, vi (((400 : Int32) * l4) + l2))] 116 [] Q)))) : Zm E YX8_value_2 (d + 1) M [(0, vr (some (97, 1, 0))), (2, vi l2), (3, vi l3), (4, vi l4)] 77 [vi s0] Q := by
  refine Zm.brn (fun _ _ k1_ k2_ => z_if_ne (tgt := 82) dX8_value_2_77 rfl k1_ k2_) (fun h_ => ?_) (fun h_ => ?_)
  · have k := zif h_ k
    refine Zm.l (fun _ _ k_ => z_sipush (v := 400) dX8_value_2_82 rfl k_) ?_
    refine Zm.l (fun _ _ k_ => z_iload dX8_value_2_85 rfl k_) ?_
    refine Zm.l (fun _ _ k_ => z_imul dX8_value_2_87 k_) ?_
    refine Zm.l (fun _ _ k_ => z_iload_n dX8_value_2_88 rfl rfl k_) ?_
    refine Zm.l (fun _ _ k_ => z_iadd dX8_value_2_89 k_) ?_
    refine Zm.l (fun _ _ k_ => z_ist dX8_value_2_90 (by decide) (lv' := [(0, vr (some (97, 1, 0))), (2, vi l2), (3, vi l3), (4, vi l4), (5, vi (((400 : Int32) * l4) + l2))]) rfl k_) ?_
    refine Zm.l (fun _ _ k_ => z_aload_n dX8_value_2_92 rfl rfl k_) ?_
    refine zm_getr 57 dX8_value_2_93 fsX8_200_1 rfl ?_
    refine Zm.l (fun _ _ k_ => z_iload dX8_value_2_96 rfl k_) ?_
    obtain ⟨b_, k⟩ := k
    refine zm_iald dX8_value_2_98 b_ (by decide) (by decide) ?_
    refine Zm.l (fun _ _ k_ => z_bipush (v := 8) dX8_value_2_99 rfl k_) ?_
    refine Zm.brn (fun _ _ k1_ k2_ => z_icmp_ne (tgt := 116) dX8_value_2_101 rfl k1_ k2_) (fun h_ => ?_) (fun h_ => ?_)
    · have k := zif h_ k
      refine Zm.pick [0, 2, 4] rfl ?_
      exact k
    · have k := zit h_ k
      refine Zm.l (fun _ _ k_ => z_iload_n dX8_value_2_104 rfl rfl k_) ?_
      refine Zm.l (fun _ _ k_ => z_iconst (v := 1) dX8_value_2_105 rfl k_) ?_
      refine Zm.brn (fun _ _ k1_ k2_ => z_icmp_ne (tgt := 116) dX8_value_2_106 rfl k1_ k2_) (fun h_ => ?_) (fun h_ => ?_)
      · have k := zif h_ k
        refine Zm.pick [0, 2, 4] rfl ?_
        exact k
      · have k := zit h_ k
        refine Zm.l (fun _ _ k_ => z_aload_n dX8_value_2_109 rfl rfl k_) ?_
        refine Zm.l (fun _ _ k_ => z_iload dX8_value_2_110 rfl k_) ?_
        refine Zm.pick [] rfl ?_
        exact zm_callV (as := [vi (((400 : Int32) * l4) + l2)]) (st := []) dX8_value_2_112 vsX8_1040_1 (Nat.le_refl _) (Nat.le_of_ble_eq_true rfl) (Nat.le_of_ble_eq_true rfl) rfl k
  · have k := zit h_ k
    refine Zm.l (fun _ _ k_ => z_iconst (v := -1) dX8_value_2_80 rfl k_) ?_
    exact zm_iret dX8_value_2_81 rfl rfl k
theorem sX8_value_2_115 {E : zE} {d : Nat} {Q : zO → zM → Prop} (M : zM) (s0 : Int32) (k : Q (.inl (some (vi s0))) M) : Zm E YX8_value_2 (d + 1) M [] 115 [vi s0] Q := by
  exact zm_iret dX8_value_2_115 rfl rfl k
theorem sX8_value_2_116 {E : zE} {d : Nat} {Q : zO → zM → Prop} (M : zM) (l3 : Int32) (l5 : Int32) (k : vp_in l5 9600 ∧ (vp_in l5 9600 ∧ (Zm E YX8_told d M (zargs 0 [vr (some (97, 1, 0)), vi (gi M 160 (l5).toNatClampNeg), vi (gi M 161 (l5).toNatClampNeg), vi l3]) 0 [] (zma E YX8_value_2 (d + 1) [] 132 3 [] Q)))) : Zm E YX8_value_2 (d + 1) M [(0, vr (some (97, 1, 0))), (3, vi l3), (5, vi l5)] 116 [] Q := by
  refine Zm.l (fun _ _ k_ => z_aload_n dX8_value_2_116 rfl rfl k_) ?_
  refine Zm.l (fun _ _ k_ => z_aload_n dX8_value_2_117 rfl rfl k_) ?_
  refine zm_getr 57 dX8_value_2_118 fsX8_200_1 rfl ?_
  refine Zm.l (fun _ _ k_ => z_iload dX8_value_2_121 rfl k_) ?_
  obtain ⟨b_, k⟩ := k
  refine zm_iald dX8_value_2_123 b_ (by decide) (by decide) ?_
  refine Zm.l (fun _ _ k_ => z_aload_n dX8_value_2_124 rfl rfl k_) ?_
  refine zm_getr 58 dX8_value_2_125 fsX8_203_1 rfl ?_
  refine Zm.l (fun _ _ k_ => z_iload dX8_value_2_128 rfl k_) ?_
  obtain ⟨b_, k⟩ := k
  refine zm_iald dX8_value_2_130 b_ (by decide) (by decide) ?_
  refine Zm.l (fun _ _ k_ => z_iload_n dX8_value_2_131 rfl rfl k_) ?_
  refine Zm.pick [] rfl ?_
  exact zm_callV (as := [vi (gi M 160 (l5).toNatClampNeg), vi (gi M 161 (l5).toNatClampNeg), vi l3]) (st := []) dX8_value_2_132 vsX8_1037_1 (Nat.le_refl _) (Nat.le_of_ble_eq_true rfl) (Nat.le_of_ble_eq_true rfl) rfl k
theorem sX8_value_2_135 {E : zE} {d : Nat} {Q : zO → zM → Prop} (M : zM) (s0 : Int32) (k : Q (.inl (some (vi s0))) M) : Zm E YX8_value_2 (d + 1) M [] 135 [vi s0] Q := by
  exact zm_iret dX8_value_2_135 rfl rfl k
/-! ScriptTypesModel.told(III)I -/
theorem bX8_told_0 : zdec cX8_told 0 [(0, .iload_n 3, 1), (1, .ifCond .ne 5, 3), (4, .iload_n 1, 1), (5, .ireturn, 1), (6, .iload_n 3, 1), (7, .iconst 1, 1), (8, .if_icmp .eq 5, 3), (11, .iconst (-1), 1), (12, .ireturn, 1), (13, .iload_n 1, 1), (14, .iconst 5, 1), (15, .if_icmp .lt 13, 3), (18, .iload_n 1, 1), (19, .bipush 7, 2), (21, .if_icmp .gt 7, 3), (24, .iload_n 2, 1)] = true := by decide +kernel
theorem dX8_told_0 : decode cX8_told 0 = .ok (.iload_n 3, 1) := zdec_at bX8_told_0 0 rfl
theorem dX8_told_1 : decode cX8_told 1 = .ok (.ifCond .ne 5, 3) := zdec_at bX8_told_0 1 rfl
theorem dX8_told_4 : decode cX8_told 4 = .ok (.iload_n 1, 1) := zdec_at bX8_told_0 2 rfl
theorem dX8_told_5 : decode cX8_told 5 = .ok (.ireturn, 1) := zdec_at bX8_told_0 3 rfl
theorem dX8_told_6 : decode cX8_told 6 = .ok (.iload_n 3, 1) := zdec_at bX8_told_0 4 rfl
theorem dX8_told_7 : decode cX8_told 7 = .ok (.iconst 1, 1) := zdec_at bX8_told_0 5 rfl
theorem dX8_told_8 : decode cX8_told 8 = .ok (.if_icmp .eq 5, 3) := zdec_at bX8_told_0 6 rfl
theorem dX8_told_11 : decode cX8_told 11 = .ok (.iconst (-1), 1) := zdec_at bX8_told_0 7 rfl
theorem dX8_told_12 : decode cX8_told 12 = .ok (.ireturn, 1) := zdec_at bX8_told_0 8 rfl
theorem dX8_told_13 : decode cX8_told 13 = .ok (.iload_n 1, 1) := zdec_at bX8_told_0 9 rfl
theorem dX8_told_14 : decode cX8_told 14 = .ok (.iconst 5, 1) := zdec_at bX8_told_0 10 rfl
theorem dX8_told_15 : decode cX8_told 15 = .ok (.if_icmp .lt 13, 3) := zdec_at bX8_told_0 11 rfl
theorem dX8_told_18 : decode cX8_told 18 = .ok (.iload_n 1, 1) := zdec_at bX8_told_0 12 rfl
theorem dX8_told_19 : decode cX8_told 19 = .ok (.bipush 7, 2) := zdec_at bX8_told_0 13 rfl
theorem dX8_told_21 : decode cX8_told 21 = .ok (.if_icmp .gt 7, 3) := zdec_at bX8_told_0 14 rfl
theorem dX8_told_24 : decode cX8_told 24 = .ok (.iload_n 2, 1) := zdec_at bX8_told_0 15 rfl
theorem bX8_told_25 : zdec cX8_told 25 [(25, .goto 4, 3), (28, .iconst 0, 1), (29, .ireturn, 1)] = true := by decide +kernel
theorem dX8_told_25 : decode cX8_told 25 = .ok (.goto 4, 3) := zdec_at bX8_told_25 0 rfl
theorem dX8_told_28 : decode cX8_told 28 = .ok (.iconst 0, 1) := zdec_at bX8_told_25 1 rfl
theorem dX8_told_29 : decode cX8_told 29 = .ok (.ireturn, 1) := zdec_at bX8_told_25 2 rfl
theorem sX8_told_0 {E : zE} {d : Nat} {Q : zO → zM → Prop} (M : zM) (l1 : Int32) (l2 : Int32) (l3 : Int32) (k : if l3 = 0 then (Q (.inl (some (vi l1))) M) else (if l3 = (1 : Int32) then (if l1 < (5 : Int32) then (Q (.inl (some (vi (0 : Int32)))) M) else (if (7 : Int32) < l1 then (Q (.inl (some (vi (0 : Int32)))) M) else (Q (.inl (some (vi l2))) M))) else (Q (.inl (some (vi (-1 : Int32)))) M))) : Zm E YX8_told d M [(0, vr (some (97, 1, 0))), (1, vi l1), (2, vi l2), (3, vi l3)] 0 [] Q := by
  refine Zm.l (fun _ _ k_ => z_iload_n dX8_told_0 rfl rfl k_) ?_
  refine Zm.brn (fun _ _ k1_ k2_ => z_if_ne (tgt := 6) dX8_told_1 rfl k1_ k2_) (fun h_ => ?_) (fun h_ => ?_)
  · have k := zif h_ k
    refine Zm.l (fun _ _ k_ => z_iload_n dX8_told_6 rfl rfl k_) ?_
    refine Zm.l (fun _ _ k_ => z_iconst (v := 1) dX8_told_7 rfl k_) ?_
    refine Zm.br (fun _ _ k1_ k2_ => z_icmp_eq (tgt := 13) dX8_told_8 rfl k1_ k2_) (fun h_ => ?_) (fun h_ => ?_)
    · have k := zit h_ k
      refine Zm.l (fun _ _ k_ => z_iload_n dX8_told_13 rfl rfl k_) ?_
      refine Zm.l (fun _ _ k_ => z_iconst (v := 5) dX8_told_14 rfl k_) ?_
      refine Zm.br (fun _ _ k1_ k2_ => z_icmp_lt (tgt := 28) dX8_told_15 rfl k1_ k2_) (fun h_ => ?_) (fun h_ => ?_)
      · have k := zit h_ k
        refine Zm.l (fun _ _ k_ => z_iconst (v := 0) dX8_told_28 rfl k_) ?_
        exact zm_iret dX8_told_29 rfl rfl k
      · have k := zif h_ k
        refine Zm.l (fun _ _ k_ => z_iload_n dX8_told_18 rfl rfl k_) ?_
        refine Zm.l (fun _ _ k_ => z_bipush (v := 7) dX8_told_19 rfl k_) ?_
        refine Zm.br (fun _ _ k1_ k2_ => z_icmp_gt (tgt := 28) dX8_told_21 rfl k1_ k2_) (fun h_ => ?_) (fun h_ => ?_)
        · have k := zit h_ k
          refine Zm.l (fun _ _ k_ => z_iconst (v := 0) dX8_told_28 rfl k_) ?_
          exact zm_iret dX8_told_29 rfl rfl k
        · have k := zif h_ k
          refine Zm.l (fun _ _ k_ => z_iload_n dX8_told_24 rfl rfl k_) ?_
          refine Zm.l (fun _ _ k_ => z_goto (tgt := 29) dX8_told_25 rfl k_) ?_
          exact zm_iret dX8_told_29 rfl rfl k
    · have k := zif h_ k
      refine Zm.l (fun _ _ k_ => z_iconst (v := -1) dX8_told_11 rfl k_) ?_
      exact zm_iret dX8_told_12 rfl rfl k
  · have k := zit h_ k
    refine Zm.l (fun _ _ k_ => z_iload_n dX8_told_4 rfl rfl k_) ?_
    exact zm_iret dX8_told_5 rfl rfl k
/-! ScriptTypesModel.leftOf(I)I -/
theorem bX8_leftOf_0 : zdec cX8_leftOf 0 [(0, .aload_n 0, 1), (1, .getfield 203, 3), (4, .iload_n 1, 1), (5, .iaload, 1), (6, .istore_n 2, 1), (7, .iconst 0, 1), (8, .istore_n 3, 1), (9, .iload_n 2, 1), (10, .iconst (-1), 1), (11, .if_icmp .ne 7, 3), (14, .iconst (-1), 1), (15, .goto 9, 3), (18, .aload_n 0, 1), (19, .getfield 149, 3), (22, .iload_n 2, 1), (23, .iaload, 1)] = true := by decide +kernel
theorem dX8_leftOf_0 : decode cX8_leftOf 0 = .ok (.aload_n 0, 1) := zdec_at bX8_leftOf_0 0 rfl
theorem dX8_leftOf_1 : decode cX8_leftOf 1 = .ok (.getfield 203, 3) := zdec_at bX8_leftOf_0 1 rfl
theorem dX8_leftOf_4 : decode cX8_leftOf 4 = .ok (.iload_n 1, 1) := zdec_at bX8_leftOf_0 2 rfl
theorem dX8_leftOf_5 : decode cX8_leftOf 5 = .ok (.iaload, 1) := zdec_at bX8_leftOf_0 3 rfl
theorem dX8_leftOf_6 : decode cX8_leftOf 6 = .ok (.istore_n 2, 1) := zdec_at bX8_leftOf_0 4 rfl
theorem dX8_leftOf_7 : decode cX8_leftOf 7 = .ok (.iconst 0, 1) := zdec_at bX8_leftOf_0 5 rfl
theorem dX8_leftOf_8 : decode cX8_leftOf 8 = .ok (.istore_n 3, 1) := zdec_at bX8_leftOf_0 6 rfl
theorem dX8_leftOf_9 : decode cX8_leftOf 9 = .ok (.iload_n 2, 1) := zdec_at bX8_leftOf_0 7 rfl
theorem dX8_leftOf_10 : decode cX8_leftOf 10 = .ok (.iconst (-1), 1) := zdec_at bX8_leftOf_0 8 rfl
theorem dX8_leftOf_11 : decode cX8_leftOf 11 = .ok (.if_icmp .ne 7, 3) := zdec_at bX8_leftOf_0 9 rfl
theorem dX8_leftOf_14 : decode cX8_leftOf 14 = .ok (.iconst (-1), 1) := zdec_at bX8_leftOf_0 10 rfl
theorem dX8_leftOf_15 : decode cX8_leftOf 15 = .ok (.goto 9, 3) := zdec_at bX8_leftOf_0 11 rfl
theorem dX8_leftOf_18 : decode cX8_leftOf 18 = .ok (.aload_n 0, 1) := zdec_at bX8_leftOf_0 12 rfl
theorem dX8_leftOf_19 : decode cX8_leftOf 19 = .ok (.getfield 149, 3) := zdec_at bX8_leftOf_0 13 rfl
theorem dX8_leftOf_22 : decode cX8_leftOf 22 = .ok (.iload_n 2, 1) := zdec_at bX8_leftOf_0 14 rfl
theorem dX8_leftOf_23 : decode cX8_leftOf 23 = .ok (.iaload, 1) := zdec_at bX8_leftOf_0 15 rfl
theorem bX8_leftOf_24 : zdec cX8_leftOf 24 [(24, .istore 4, 2), (26, .iload 4, 2), (28, .iconst (-1), 1), (29, .if_icmp .eq 87, 3), (32, .aload_n 0, 1), (33, .getfield 164, 3), (36, .iload 4, 2), (38, .iaload, 1), (39, .aload_n 0, 1), (40, .getfield 206, 3), (43, .iload_n 1, 1), (44, .iaload, 1), (45, .if_icmp .le 43, 3), (48, .aload_n 0, 1), (49, .getfield 164, 3), (52, .iload 4, 2)] = true := by decide +kernel
theorem dX8_leftOf_24 : decode cX8_leftOf 24 = .ok (.istore 4, 2) := zdec_at bX8_leftOf_24 0 rfl
theorem dX8_leftOf_26 : decode cX8_leftOf 26 = .ok (.iload 4, 2) := zdec_at bX8_leftOf_24 1 rfl
theorem dX8_leftOf_28 : decode cX8_leftOf 28 = .ok (.iconst (-1), 1) := zdec_at bX8_leftOf_24 2 rfl
theorem dX8_leftOf_29 : decode cX8_leftOf 29 = .ok (.if_icmp .eq 87, 3) := zdec_at bX8_leftOf_24 3 rfl
theorem dX8_leftOf_32 : decode cX8_leftOf 32 = .ok (.aload_n 0, 1) := zdec_at bX8_leftOf_24 4 rfl
theorem dX8_leftOf_33 : decode cX8_leftOf 33 = .ok (.getfield 164, 3) := zdec_at bX8_leftOf_24 5 rfl
theorem dX8_leftOf_36 : decode cX8_leftOf 36 = .ok (.iload 4, 2) := zdec_at bX8_leftOf_24 6 rfl
theorem dX8_leftOf_38 : decode cX8_leftOf 38 = .ok (.iaload, 1) := zdec_at bX8_leftOf_24 7 rfl
theorem dX8_leftOf_39 : decode cX8_leftOf 39 = .ok (.aload_n 0, 1) := zdec_at bX8_leftOf_24 8 rfl
theorem dX8_leftOf_40 : decode cX8_leftOf 40 = .ok (.getfield 206, 3) := zdec_at bX8_leftOf_24 9 rfl
theorem dX8_leftOf_43 : decode cX8_leftOf 43 = .ok (.iload_n 1, 1) := zdec_at bX8_leftOf_24 10 rfl
theorem dX8_leftOf_44 : decode cX8_leftOf 44 = .ok (.iaload, 1) := zdec_at bX8_leftOf_24 11 rfl
theorem dX8_leftOf_45 : decode cX8_leftOf 45 = .ok (.if_icmp .le 43, 3) := zdec_at bX8_leftOf_24 12 rfl
theorem dX8_leftOf_48 : decode cX8_leftOf 48 = .ok (.aload_n 0, 1) := zdec_at bX8_leftOf_24 13 rfl
theorem dX8_leftOf_49 : decode cX8_leftOf 49 = .ok (.getfield 164, 3) := zdec_at bX8_leftOf_24 14 rfl
theorem dX8_leftOf_52 : decode cX8_leftOf 52 = .ok (.iload 4, 2) := zdec_at bX8_leftOf_24 15 rfl
theorem bX8_leftOf_54 : zdec cX8_leftOf 54 [(54, .iaload, 1), (55, .aload_n 0, 1), (56, .getfield 209, 3), (59, .iload_n 1, 1), (60, .iaload, 1), (61, .if_icmp .gt 27, 3), (64, .aload_n 0, 1), (65, .getfield 143, 3), (68, .iload_n 2, 1), (69, .iaload, 1), (70, .iconst 2, 1), (71, .if_icmp .ne 13, 3), (74, .aload_n 0, 1), (75, .getfield 155, 3), (78, .iload 4, 2), (80, .iaload, 1)] = true := by decide +kernel
theorem dX8_leftOf_54 : decode cX8_leftOf 54 = .ok (.iaload, 1) := zdec_at bX8_leftOf_54 0 rfl
theorem dX8_leftOf_55 : decode cX8_leftOf 55 = .ok (.aload_n 0, 1) := zdec_at bX8_leftOf_54 1 rfl
theorem dX8_leftOf_56 : decode cX8_leftOf 56 = .ok (.getfield 209, 3) := zdec_at bX8_leftOf_54 2 rfl
theorem dX8_leftOf_59 : decode cX8_leftOf 59 = .ok (.iload_n 1, 1) := zdec_at bX8_leftOf_54 3 rfl
theorem dX8_leftOf_60 : decode cX8_leftOf 60 = .ok (.iaload, 1) := zdec_at bX8_leftOf_54 4 rfl
theorem dX8_leftOf_61 : decode cX8_leftOf 61 = .ok (.if_icmp .gt 27, 3) := zdec_at bX8_leftOf_54 5 rfl
theorem dX8_leftOf_64 : decode cX8_leftOf 64 = .ok (.aload_n 0, 1) := zdec_at bX8_leftOf_54 6 rfl
theorem dX8_leftOf_65 : decode cX8_leftOf 65 = .ok (.getfield 143, 3) := zdec_at bX8_leftOf_54 7 rfl
theorem dX8_leftOf_68 : decode cX8_leftOf 68 = .ok (.iload_n 2, 1) := zdec_at bX8_leftOf_54 8 rfl
theorem dX8_leftOf_69 : decode cX8_leftOf 69 = .ok (.iaload, 1) := zdec_at bX8_leftOf_54 9 rfl
theorem dX8_leftOf_70 : decode cX8_leftOf 70 = .ok (.iconst 2, 1) := zdec_at bX8_leftOf_54 10 rfl
theorem dX8_leftOf_71 : decode cX8_leftOf 71 = .ok (.if_icmp .ne 13, 3) := zdec_at bX8_leftOf_54 11 rfl
theorem dX8_leftOf_74 : decode cX8_leftOf 74 = .ok (.aload_n 0, 1) := zdec_at bX8_leftOf_54 12 rfl
theorem dX8_leftOf_75 : decode cX8_leftOf 75 = .ok (.getfield 155, 3) := zdec_at bX8_leftOf_54 13 rfl
theorem dX8_leftOf_78 : decode cX8_leftOf 78 = .ok (.iload 4, 2) := zdec_at bX8_leftOf_54 14 rfl
theorem dX8_leftOf_80 : decode cX8_leftOf 80 = .ok (.iaload, 1) := zdec_at bX8_leftOf_54 15 rfl
theorem bX8_leftOf_81 : zdec cX8_leftOf 81 [(81, .ifCond .eq 7, 3), (84, .iconst 1, 1), (85, .goto 4, 3), (88, .iconst 0, 1), (89, .istore 5, 2), (91, .iload_n 3, 1), (92, .iload 5, 2), (94, .ifCond .eq 7, 3), (97, .iconst 1, 1), (98, .goto 4, 3), (101, .iconst 0, 1), (102, .iadd, 1), (103, .istore_n 3, 1), (104, .aload_n 0, 1), (105, .getfield 167, 3), (108, .iload 4, 2)] = true := by decide +kernel
theorem dX8_leftOf_81 : decode cX8_leftOf 81 = .ok (.ifCond .eq 7, 3) := zdec_at bX8_leftOf_81 0 rfl
theorem dX8_leftOf_84 : decode cX8_leftOf 84 = .ok (.iconst 1, 1) := zdec_at bX8_leftOf_81 1 rfl
theorem dX8_leftOf_85 : decode cX8_leftOf 85 = .ok (.goto 4, 3) := zdec_at bX8_leftOf_81 2 rfl
theorem dX8_leftOf_88 : decode cX8_leftOf 88 = .ok (.iconst 0, 1) := zdec_at bX8_leftOf_81 3 rfl
theorem dX8_leftOf_89 : decode cX8_leftOf 89 = .ok (.istore 5, 2) := zdec_at bX8_leftOf_81 4 rfl
theorem dX8_leftOf_91 : decode cX8_leftOf 91 = .ok (.iload_n 3, 1) := zdec_at bX8_leftOf_81 5 rfl
theorem dX8_leftOf_92 : decode cX8_leftOf 92 = .ok (.iload 5, 2) := zdec_at bX8_leftOf_81 6 rfl
theorem dX8_leftOf_94 : decode cX8_leftOf 94 = .ok (.ifCond .eq 7, 3) := zdec_at bX8_leftOf_81 7 rfl
theorem dX8_leftOf_97 : decode cX8_leftOf 97 = .ok (.iconst 1, 1) := zdec_at bX8_leftOf_81 8 rfl
theorem dX8_leftOf_98 : decode cX8_leftOf 98 = .ok (.goto 4, 3) := zdec_at bX8_leftOf_81 9 rfl
theorem dX8_leftOf_101 : decode cX8_leftOf 101 = .ok (.iconst 0, 1) := zdec_at bX8_leftOf_81 10 rfl
theorem dX8_leftOf_102 : decode cX8_leftOf 102 = .ok (.iadd, 1) := zdec_at bX8_leftOf_81 11 rfl
theorem dX8_leftOf_103 : decode cX8_leftOf 103 = .ok (.istore_n 3, 1) := zdec_at bX8_leftOf_81 12 rfl
theorem dX8_leftOf_104 : decode cX8_leftOf 104 = .ok (.aload_n 0, 1) := zdec_at bX8_leftOf_81 13 rfl
theorem dX8_leftOf_105 : decode cX8_leftOf 105 = .ok (.getfield 167, 3) := zdec_at bX8_leftOf_81 14 rfl
theorem dX8_leftOf_108 : decode cX8_leftOf 108 = .ok (.iload 4, 2) := zdec_at bX8_leftOf_81 15 rfl
theorem bX8_leftOf_110 : zdec cX8_leftOf 110 [(110, .iaload, 1), (111, .istore 4, 2), (113, .goto (-87), 3), (116, .iload_n 3, 1), (117, .ireturn, 1)] = true := by decide +kernel
theorem dX8_leftOf_110 : decode cX8_leftOf 110 = .ok (.iaload, 1) := zdec_at bX8_leftOf_110 0 rfl
theorem dX8_leftOf_111 : decode cX8_leftOf 111 = .ok (.istore 4, 2) := zdec_at bX8_leftOf_110 1 rfl
theorem dX8_leftOf_113 : decode cX8_leftOf 113 = .ok (.goto (-87), 3) := zdec_at bX8_leftOf_110 2 rfl
theorem dX8_leftOf_116 : decode cX8_leftOf 116 = .ok (.iload_n 3, 1) := zdec_at bX8_leftOf_110 3 rfl
theorem dX8_leftOf_117 : decode cX8_leftOf 117 = .ok (.ireturn, 1) := zdec_at bX8_leftOf_110 4 rfl
theorem sX8_leftOf_0 {E : zE} {d : Nat} {Q : zO → zM → Prop} (M : zM) (l1 : Int32) (k : vp_in l1 9600 ∧ (if (gi M 161 (l1).toNatClampNeg) = (-1 : Int32) then (Zm E YX8_leftOf d M [(0, vr (some (97, 1, 0))), (1, vi l1), (2, vi (gi M 161 (l1).toNatClampNeg)), (3, vi (0 : Int32)), (4, vi (-1 : Int32))] 26 [] Q) else (vp_in (gi M 161 (l1).toNatClampNeg) 300 ∧ (Zm E YX8_leftOf d M [(0, vr (some (97, 1, 0))), (1, vi l1), (2, vi (gi M 161 (l1).toNatClampNeg)), (3, vi (0 : Int32)), (4, vi (gi M 143 ((gi M 161 (l1).toNatClampNeg)).toNatClampNeg))] 26 [] Q)))) : Zm E YX8_leftOf d M [(0, vr (some (97, 1, 0))), (1, vi l1)] 0 [] Q := by
  refine Zm.l (fun _ _ k_ => z_aload_n dX8_leftOf_0 rfl rfl k_) ?_
  refine zm_getr 58 dX8_leftOf_1 fsX8_203_1 rfl ?_
  refine Zm.l (fun _ _ k_ => z_iload_n dX8_leftOf_4 rfl rfl k_) ?_
  obtain ⟨b_, k⟩ := k
  refine zm_iald dX8_leftOf_5 b_ (by decide) (by decide) ?_
  refine Zm.l (fun _ _ k_ => z_ist_n dX8_leftOf_6 rfl (by decide) (lv' := [(0, vr (some (97, 1, 0))), (1, vi l1), (2, vi (gi M 161 (l1).toNatClampNeg))]) rfl k_) ?_
  refine Zm.l (fun _ _ k_ => z_iconst (v := 0) dX8_leftOf_7 rfl k_) ?_
  refine Zm.l (fun _ _ k_ => z_ist_n dX8_leftOf_8 rfl (by decide) (lv' := [(0, vr (some (97, 1, 0))), (1, vi l1), (2, vi (gi M 161 (l1).toNatClampNeg)), (3, vi (0 : Int32))]) rfl k_) ?_
  refine Zm.l (fun _ _ k_ => z_iload_n dX8_leftOf_9 rfl rfl k_) ?_
  refine Zm.l (fun _ _ k_ => z_iconst (v := -1) dX8_leftOf_10 rfl k_) ?_
  refine Zm.brn (fun _ _ k1_ k2_ => z_icmp_ne (tgt := 18) dX8_leftOf_11 rfl k1_ k2_) (fun h_ => ?_) (fun h_ => ?_)
  · have k := zif h_ k
    refine Zm.l (fun _ _ k_ => z_aload_n dX8_leftOf_18 rfl rfl k_) ?_
    refine zm_getr 40 dX8_leftOf_19 fsX8_149_1 rfl ?_
    refine Zm.l (fun _ _ k_ => z_iload_n dX8_leftOf_22 rfl rfl k_) ?_
    obtain ⟨b_, k⟩ := k
    refine zm_iald dX8_leftOf_23 b_ (by decide) (by decide) ?_
    refine Zm.l (fun _ _ k_ => z_ist dX8_leftOf_24 (by decide) (lv' := [(0, vr (some (97, 1, 0))), (1, vi l1), (2, vi (gi M 161 (l1).toNatClampNeg)), (3, vi (0 : Int32)), (4, vi (gi M 143 ((gi M 161 (l1).toNatClampNeg)).toNatClampNeg))]) rfl k_) ?_
    exact k
  · have k := zit h_ k
    refine Zm.l (fun _ _ k_ => z_iconst (v := -1) dX8_leftOf_14 rfl k_) ?_
    refine Zm.l (fun _ _ k_ => z_goto (tgt := 24) dX8_leftOf_15 rfl k_) ?_
    refine Zm.l (fun _ _ k_ => z_ist dX8_leftOf_24 (by decide) (lv' := [(0, vr (some (97, 1, 0))), (1, vi l1), (2, vi (gi M 161 (l1).toNatClampNeg)), (3, vi (0 : Int32)), (4, vi (-1 : Int32))]) rfl k_) ?_
    exact k
theorem sX8_leftOf_26 {E : zE} {d : Nat} {Q : zO → zM → Prop} (M : zM) (l1 : Int32) (l2 : Int32) (l3 : Int32) (l4 : Int32) (k : if l4 = (-1 : Int32) then (Q (.inl (some (vi l3))) M) else (vp_in l4 3000 ∧ (vp_in l1 9600 ∧ (if (gi M 148 (l4).toNatClampNeg) ≤ (gi M 162 (l1).toNatClampNeg) then (Zm E YX8_leftOf d M [(0, vr (some (97, 1, 0))), (1, vi l1), (2, vi l2), (3, vi l3), (4, vi l4)] 88 [] Q) else (vp_in l4 3000 ∧ (vp_in l1 9600 ∧ (if (gi M 163 (l1).toNatClampNeg) < (gi M 148 (l4).toNatClampNeg) then (Zm E YX8_leftOf d M [(0, vr (some (97, 1, 0))), (1, vi l1), (2, vi l2), (3, vi l3), (4, vi l4)] 88 [] Q) else (vp_in l2 300 ∧ (if (gi M 141 (l2).toNatClampNeg) = (2 : Int32) then (vp_in l4 3000 ∧ (if (gi M 145 (l4).toNatClampNeg) = 0 then (Zm E YX8_leftOf d M [(0, vr (some (97, 1, 0))), (1, vi l1), (2, vi l2), (3, vi l3), (4, vi l4)] 88 [] Q) else (Zm E YX8_leftOf d M [(0, vr (some (97, 1, 0))), (1, vi l1), (2, vi l2), (3, vi l3), (4, vi l4)] 84 [] Q))) else (Zm E YX8_leftOf d M [(0, vr (some (97, 1, 0))), (1, vi l1), (2, vi l2), (3, vi l3), (4, vi l4)] 84 [] Q)))))))))) : Zm E YX8_leftOf d M [(0, vr (some (97, 1, 0))), (1, vi l1), (2, vi l2), (3, vi l3), (4, vi l4)] 26 [] Q := by
  refine Zm.l (fun _ _ k_ => z_iload dX8_leftOf_26 rfl k_) ?_
  refine Zm.l (fun _ _ k_ => z_iconst (v := -1) dX8_leftOf_28 rfl k_) ?_
  refine Zm.br (fun _ _ k1_ k2_ => z_icmp_eq (tgt := 116) dX8_leftOf_29 rfl k1_ k2_) (fun h_ => ?_) (fun h_ => ?_)
  · have k := zit h_ k
    refine Zm.l (fun _ _ k_ => z_iload_n dX8_leftOf_116 rfl rfl k_) ?_
    exact zm_iret dX8_leftOf_117 rfl rfl k
  · have k := zif h_ k
    refine Zm.l (fun _ _ k_ => z_aload_n dX8_leftOf_32 rfl rfl k_) ?_
    refine zm_getr 45 dX8_leftOf_33 fsX8_164_1 rfl ?_
    refine Zm.l (fun _ _ k_ => z_iload dX8_leftOf_36 rfl k_) ?_
    obtain ⟨b_, k⟩ := k
    refine zm_iald dX8_leftOf_38 b_ (by decide) (by decide) ?_
    refine Zm.l (fun _ _ k_ => z_aload_n dX8_leftOf_39 rfl rfl k_) ?_
    refine zm_getr 59 dX8_leftOf_40 fsX8_206_1 rfl ?_
    refine Zm.l (fun _ _ k_ => z_iload_n dX8_leftOf_43 rfl rfl k_) ?_
    obtain ⟨b_, k⟩ := k
    refine zm_iald dX8_leftOf_44 b_ (by decide) (by decide) ?_
    refine Zm.br (fun _ _ k1_ k2_ => z_icmp_le (tgt := 88) dX8_leftOf_45 rfl k1_ k2_) (fun h_ => ?_) (fun h_ => ?_)
    · have k := zit h_ k
      exact k
    · have k := zif h_ k
      refine Zm.l (fun _ _ k_ => z_aload_n dX8_leftOf_48 rfl rfl k_) ?_
      refine zm_getr 45 dX8_leftOf_49 fsX8_164_1 rfl ?_
      refine Zm.l (fun _ _ k_ => z_iload dX8_leftOf_52 rfl k_) ?_
      obtain ⟨b_, k⟩ := k
      refine zm_iald dX8_leftOf_54 b_ (by decide) (by decide) ?_
      refine Zm.l (fun _ _ k_ => z_aload_n dX8_leftOf_55 rfl rfl k_) ?_
      refine zm_getr 60 dX8_leftOf_56 fsX8_209_1 rfl ?_
      refine Zm.l (fun _ _ k_ => z_iload_n dX8_leftOf_59 rfl rfl k_) ?_
      obtain ⟨b_, k⟩ := k
      refine zm_iald dX8_leftOf_60 b_ (by decide) (by decide) ?_
      refine Zm.br (fun _ _ k1_ k2_ => z_icmp_gt (tgt := 88) dX8_leftOf_61 rfl k1_ k2_) (fun h_ => ?_) (fun h_ => ?_)
      · have k := zit h_ k
        exact k
      · have k := zif h_ k
        refine Zm.l (fun _ _ k_ => z_aload_n dX8_leftOf_64 rfl rfl k_) ?_
        refine zm_getr 38 dX8_leftOf_65 fsX8_143_1 rfl ?_
        refine Zm.l (fun _ _ k_ => z_iload_n dX8_leftOf_68 rfl rfl k_) ?_
        obtain ⟨b_, k⟩ := k
        refine zm_iald dX8_leftOf_69 b_ (by decide) (by decide) ?_
        refine Zm.l (fun _ _ k_ => z_iconst (v := 2) dX8_leftOf_70 rfl k_) ?_
        refine Zm.brn (fun _ _ k1_ k2_ => z_icmp_ne (tgt := 84) dX8_leftOf_71 rfl k1_ k2_) (fun h_ => ?_) (fun h_ => ?_)
        · have k := zif h_ k
          exact k
        · have k := zit h_ k
          refine Zm.l (fun _ _ k_ => z_aload_n dX8_leftOf_74 rfl rfl k_) ?_
          refine zm_getr 42 dX8_leftOf_75 fsX8_155_1 rfl ?_
          refine Zm.l (fun _ _ k_ => z_iload dX8_leftOf_78 rfl k_) ?_
          obtain ⟨b_, k⟩ := k
          refine zm_iald dX8_leftOf_80 b_ (by decide) (by decide) ?_
          refine Zm.br (fun _ _ k1_ k2_ => z_if_eq (tgt := 88) dX8_leftOf_81 rfl k1_ k2_) (fun h_ => ?_) (fun h_ => ?_)
          · have k := zit h_ k
            exact k
          · have k := zif h_ k
            exact k
theorem sX8_leftOf_84 {E : zE} {d : Nat} {Q : zO → zM → Prop} (M : zM) (l1 : Int32) (l2 : Int32) (l3 : Int32) (l4 : Int32) (k : if (1 : Int32) = 0 then (Zm E YX8_leftOf d M [(0, vr (some (97, 1, 0))), (1, vi l1), (2, vi l2), (4, vi l4)] 102 [vi (0 : Int32), vi l3] Q) else (Zm E YX8_leftOf d M [(0, vr (some (97, 1, 0))), (1, vi l1), (2, vi l2), (4, vi l4)] 102 [vi (1 : Int32), vi l3] Q)) : Zm E YX8_leftOf d M [(0, vr (some (97, 1, 0))), (1, vi l1), (2, vi l2), (3, vi l3), (4, vi l4)] 84 [] Q := by
  refine Zm.l (fun _ _ k_ => z_iconst (v := 1) dX8_leftOf_84 rfl k_) ?_
  refine Zm.l (fun _ _ k_ => z_goto (tgt := 89) dX8_leftOf_85 rfl k_) ?_
  refine Zm.l (fun _ _ k_ => z_ist dX8_leftOf_89 (by decide) (lv' := [(0, vr (some (97, 1, 0))), (1, vi l1), (2, vi l2), (3, vi l3), (4, vi l4), (5, vi (1 : Int32))]) rfl k_) ?_
  refine Zm.l (fun _ _ k_ => z_iload_n dX8_leftOf_91 rfl rfl k_) ?_
  refine Zm.l (fun _ _ k_ => z_iload dX8_leftOf_92 rfl k_) ?_
  refine Zm.br (fun _ _ k1_ k2_ => z_if_eq (tgt := 101) dX8_leftOf_94 rfl k1_ k2_) (fun h_ => ?_) (fun h_ => ?_)
  · have k := zit h_ k
    refine Zm.l (fun _ _ k_ => z_iconst (v := 0) dX8_leftOf_101 rfl k_) ?_
    refine Zm.pick [0, 1, 2, 4] rfl ?_
    exact k
  · have k := zif h_ k
    refine Zm.l (fun _ _ k_ => z_iconst (v := 1) dX8_leftOf_97 rfl k_) ?_
    refine Zm.l (fun _ _ k_ => z_goto (tgt := 102) dX8_leftOf_98 rfl k_) ?_
    refine Zm.pick [0, 1, 2, 4] rfl ?_
    exact k
theorem sX8_leftOf_88 {E : zE} {d : Nat} {Q : zO → zM → Prop} (M : zM) (l1 : Int32) (l2 : Int32) (l3 : Int32) (l4 : Int32) (k : if (0 : Int32) = 0 then (Zm E YX8_leftOf d M [(0, vr (some (97, 1, 0))), (1, vi l1), (2, vi l2), (4, vi l4)] 102 [vi (0 : Int32), vi l3] Q) else (Zm E YX8_leftOf d M [(0, vr (some (97, 1, 0))), (1, vi l1), (2, vi l2), (4, vi l4)] 102 [vi (1 : Int32), vi l3] Q)) : Zm E YX8_leftOf d M [(0, vr (some (97, 1, 0))), (1, vi l1), (2, vi l2), (3, vi l3), (4, vi l4)] 88 [] Q := by
  refine Zm.l (fun _ _ k_ => z_iconst (v := 0) dX8_leftOf_88 rfl k_) ?_
  refine Zm.l (fun _ _ k_ => z_ist dX8_leftOf_89 (by decide) (lv' := [(0, vr (some (97, 1, 0))), (1, vi l1), (2, vi l2), (3, vi l3), (4, vi l4), (5, vi (0 : Int32))]) rfl k_) ?_
  refine Zm.l (fun _ _ k_ => z_iload_n dX8_leftOf_91 rfl rfl k_) ?_
  refine Zm.l (fun _ _ k_ => z_iload dX8_leftOf_92 rfl k_) ?_
  refine Zm.br (fun _ _ k1_ k2_ => z_if_eq (tgt := 101) dX8_leftOf_94 rfl k1_ k2_) (fun h_ => ?_) (fun h_ => ?_)
  · have k := zit h_ k
    refine Zm.l (fun _ _ k_ => z_iconst (v := 0) dX8_leftOf_101 rfl k_) ?_
    refine Zm.pick [0, 1, 2, 4] rfl ?_
    exact k
  · have k := zif h_ k
    refine Zm.l (fun _ _ k_ => z_iconst (v := 1) dX8_leftOf_97 rfl k_) ?_
    refine Zm.l (fun _ _ k_ => z_goto (tgt := 102) dX8_leftOf_98 rfl k_) ?_
    refine Zm.pick [0, 1, 2, 4] rfl ?_
    exact k
theorem sX8_leftOf_102 {E : zE} {d : Nat} {Q : zO → zM → Prop} (M : zM) (l1 : Int32) (l2 : Int32) (l4 : Int32) (s0 : Int32) (s1 : Int32) (k : vp_in l4 3000 ∧ (Zm E YX8_leftOf d M [(0, vr (some (97, 1, 0))), (1, vi l1), (2, vi l2), (3, vi (s1 + s0)), (4, vi (gi M 149 (l4).toNatClampNeg))] 26 [] Q)) : Zm E YX8_leftOf d M [(0, vr (some (97, 1, 0))), (1, vi l1), (2, vi l2), (4, vi l4)] 102 [vi s0, vi s1] Q := by
  refine Zm.l (fun _ _ k_ => z_iadd dX8_leftOf_102 k_) ?_
  refine Zm.l (fun _ _ k_ => z_ist_n dX8_leftOf_103 rfl (by decide) (lv' := [(0, vr (some (97, 1, 0))), (1, vi l1), (2, vi l2), (3, vi (s1 + s0)), (4, vi l4)]) rfl k_) ?_
  refine Zm.l (fun _ _ k_ => z_aload_n dX8_leftOf_104 rfl rfl k_) ?_
  refine zm_getr 46 dX8_leftOf_105 fsX8_167_1 rfl ?_
  refine Zm.l (fun _ _ k_ => z_iload dX8_leftOf_108 rfl k_) ?_
  obtain ⟨b_, k⟩ := k
  refine zm_iald dX8_leftOf_110 b_ (by decide) (by decide) ?_
  refine Zm.l (fun _ _ k_ => z_ist dX8_leftOf_111 (by decide) (lv' := [(0, vr (some (97, 1, 0))), (1, vi l1), (2, vi l2), (3, vi (s1 + s0)), (4, vi (gi M 149 (l4).toNatClampNeg))]) rfl k_) ?_
  refine Zm.l (fun _ _ k_ => z_goto (tgt := 26) dX8_leftOf_113 rfl k_) ?_
  exact k
/-! ScriptTypesModel.object(II)I -/
theorem bX8_object_2_0 : zdec cX8_object_2 0 [(0, .aload_n 0, 1), (1, .iconst 0, 1), (2, .putfield 289, 3), (5, .aload_n 0, 1), (6, .getfield 773, 3), (9, .ifCond .eq 17, 3), (12, .iload_n 1, 1), (13, .iconst 0, 1), (14, .aload_n 0, 1), (15, .getfield 843, 3), (18, .iconst 1, 1), (19, .isub, 1), (20, .invokestatic 899, 3), (23, .ifCond .ne 5, 3), (26, .iconst (-1), 1), (27, .ireturn, 1)] = true := by decide +kernel
theorem dX8_object_2_0 : decode cX8_object_2 0 = .ok (.aload_n 0, 1) := zdec_at bX8_object_2_0 0 rfl
theorem dX8_object_2_1 : decode cX8_object_2 1 = .ok (.iconst 0, 1) := zdec_at bX8_object_2_0 1 rfl
theorem dX8_object_2_2 : decode cX8_object_2 2 = .ok (.putfield 289, 3) := zdec_at bX8_object_2_0 2 rfl
theorem dX8_object_2_5 : decode cX8_object_2 5 = .ok (.aload_n 0, 1) := zdec_at bX8_object_2_0 3 rfl
theorem dX8_object_2_6 : decode cX8_object_2 6 = .ok (.getfield 773, 3) := zdec_at bX8_object_2_0 4 rfl
theorem dX8_object_2_9 : decode cX8_object_2 9 = .ok (.ifCond .eq 17, 3) := zdec_at bX8_object_2_0 5 rfl
theorem dX8_object_2_12 : decode cX8_object_2 12 = .ok (.iload_n 1, 1) := zdec_at bX8_object_2_0 6 rfl
theorem dX8_object_2_13 : decode cX8_object_2 13 = .ok (.iconst 0, 1) := zdec_at bX8_object_2_0 7 rfl
theorem dX8_object_2_14 : decode cX8_object_2 14 = .ok (.aload_n 0, 1) := zdec_at bX8_object_2_0 8 rfl
theorem dX8_object_2_15 : decode cX8_object_2 15 = .ok (.getfield 843, 3) := zdec_at bX8_object_2_0 9 rfl
theorem dX8_object_2_18 : decode cX8_object_2 18 = .ok (.iconst 1, 1) := zdec_at bX8_object_2_0 10 rfl
theorem dX8_object_2_19 : decode cX8_object_2 19 = .ok (.isub, 1) := zdec_at bX8_object_2_0 11 rfl
theorem dX8_object_2_20 : decode cX8_object_2 20 = .ok (.invokestatic 899, 3) := zdec_at bX8_object_2_0 12 rfl
theorem dX8_object_2_23 : decode cX8_object_2 23 = .ok (.ifCond .ne 5, 3) := zdec_at bX8_object_2_0 13 rfl
theorem dX8_object_2_26 : decode cX8_object_2 26 = .ok (.iconst (-1), 1) := zdec_at bX8_object_2_0 14 rfl
theorem dX8_object_2_27 : decode cX8_object_2 27 = .ok (.ireturn, 1) := zdec_at bX8_object_2_0 15 rfl
theorem bX8_object_2_28 : zdec cX8_object_2 28 [(28, .iload_n 2, 1)] = true := by decide +kernel
theorem dX8_object_2_28 : decode cX8_object_2 28 = .ok (.iload_n 2, 1) := zdec_at bX8_object_2_28 0 rfl
theorem dX8_object_2_29 : decode cX8_object_2 29 = .ok (.tableswitch 96 0 4 #[35, 42, 49, 56, 89], 35) := by decide +kernel
theorem bX8_object_2_64 : zdec cX8_object_2 64 [(64, .aload_n 0, 1), (65, .getfield 134, 3), (68, .iload_n 1, 1), (69, .iaload, 1), (70, .ireturn, 1), (71, .aload_n 0, 1), (72, .getfield 137, 3), (75, .iload_n 1, 1), (76, .iaload, 1), (77, .ireturn, 1), (78, .aload_n 0, 1), (79, .getfield 140, 3), (82, .iload_n 1, 1), (83, .iaload, 1), (84, .ireturn, 1), (85, .iconst 0, 1)] = true := by decide +kernel
theorem dX8_object_2_64 : decode cX8_object_2 64 = .ok (.aload_n 0, 1) := zdec_at bX8_object_2_64 0 rfl
theorem dX8_object_2_65 : decode cX8_object_2 65 = .ok (.getfield 134, 3) := zdec_at bX8_object_2_64 1 rfl
theorem dX8_object_2_68 : decode cX8_object_2 68 = .ok (.iload_n 1, 1) := zdec_at bX8_object_2_64 2 rfl
theorem dX8_object_2_69 : decode cX8_object_2 69 = .ok (.iaload, 1) := zdec_at bX8_object_2_64 3 rfl
theorem dX8_object_2_70 : decode cX8_object_2 70 = .ok (.ireturn, 1) := zdec_at bX8_object_2_64 4 rfl
theorem dX8_object_2_71 : decode cX8_object_2 71 = .ok (.aload_n 0, 1) := zdec_at bX8_object_2_64 5 rfl
theorem dX8_object_2_72 : decode cX8_object_2 72 = .ok (.getfield 137, 3) := zdec_at bX8_object_2_64 6 rfl
theorem dX8_object_2_75 : decode cX8_object_2 75 = .ok (.iload_n 1, 1) := zdec_at bX8_object_2_64 7 rfl
theorem dX8_object_2_76 : decode cX8_object_2 76 = .ok (.iaload, 1) := zdec_at bX8_object_2_64 8 rfl
theorem dX8_object_2_77 : decode cX8_object_2 77 = .ok (.ireturn, 1) := zdec_at bX8_object_2_64 9 rfl
theorem dX8_object_2_78 : decode cX8_object_2 78 = .ok (.aload_n 0, 1) := zdec_at bX8_object_2_64 10 rfl
theorem dX8_object_2_79 : decode cX8_object_2 79 = .ok (.getfield 140, 3) := zdec_at bX8_object_2_64 11 rfl
theorem dX8_object_2_82 : decode cX8_object_2 82 = .ok (.iload_n 1, 1) := zdec_at bX8_object_2_64 12 rfl
theorem dX8_object_2_83 : decode cX8_object_2 83 = .ok (.iaload, 1) := zdec_at bX8_object_2_64 13 rfl
theorem dX8_object_2_84 : decode cX8_object_2 84 = .ok (.ireturn, 1) := zdec_at bX8_object_2_64 14 rfl
theorem dX8_object_2_85 : decode cX8_object_2 85 = .ok (.iconst 0, 1) := zdec_at bX8_object_2_64 15 rfl
theorem bX8_object_2_86 : zdec cX8_object_2 86 [(86, .istore_n 3, 1), (87, .aload_n 0, 1), (88, .getfield 149, 3), (91, .iload_n 1, 1), (92, .iaload, 1), (93, .istore 4, 2), (95, .iload 4, 2), (97, .iconst (-1), 1), (98, .if_icmp .eq 18, 3), (101, .iinc 3 1, 3), (104, .aload_n 0, 1), (105, .getfield 167, 3), (108, .iload 4, 2), (110, .iaload, 1), (111, .istore 4, 2), (113, .goto (-18), 3)] = true := by decide +kernel
theorem dX8_object_2_86 : decode cX8_object_2 86 = .ok (.istore_n 3, 1) := zdec_at bX8_object_2_86 0 rfl
theorem dX8_object_2_87 : decode cX8_object_2 87 = .ok (.aload_n 0, 1) := zdec_at bX8_object_2_86 1 rfl
theorem dX8_object_2_88 : decode cX8_object_2 88 = .ok (.getfield 149, 3) := zdec_at bX8_object_2_86 2 rfl
theorem dX8_object_2_91 : decode cX8_object_2 91 = .ok (.iload_n 1, 1) := zdec_at bX8_object_2_86 3 rfl
theorem dX8_object_2_92 : decode cX8_object_2 92 = .ok (.iaload, 1) := zdec_at bX8_object_2_86 4 rfl
theorem dX8_object_2_93 : decode cX8_object_2 93 = .ok (.istore 4, 2) := zdec_at bX8_object_2_86 5 rfl
theorem dX8_object_2_95 : decode cX8_object_2 95 = .ok (.iload 4, 2) := zdec_at bX8_object_2_86 6 rfl
theorem dX8_object_2_97 : decode cX8_object_2 97 = .ok (.iconst (-1), 1) := zdec_at bX8_object_2_86 7 rfl
theorem dX8_object_2_98 : decode cX8_object_2 98 = .ok (.if_icmp .eq 18, 3) := zdec_at bX8_object_2_86 8 rfl
theorem dX8_object_2_101 : decode cX8_object_2 101 = .ok (.iinc 3 1, 3) := zdec_at bX8_object_2_86 9 rfl
theorem dX8_object_2_104 : decode cX8_object_2 104 = .ok (.aload_n 0, 1) := zdec_at bX8_object_2_86 10 rfl
theorem dX8_object_2_105 : decode cX8_object_2 105 = .ok (.getfield 167, 3) := zdec_at bX8_object_2_86 11 rfl
theorem dX8_object_2_108 : decode cX8_object_2 108 = .ok (.iload 4, 2) := zdec_at bX8_object_2_86 12 rfl
theorem dX8_object_2_110 : decode cX8_object_2 110 = .ok (.iaload, 1) := zdec_at bX8_object_2_86 13 rfl
theorem dX8_object_2_111 : decode cX8_object_2 111 = .ok (.istore 4, 2) := zdec_at bX8_object_2_86 14 rfl
theorem dX8_object_2_113 : decode cX8_object_2 113 = .ok (.goto (-18), 3) := zdec_at bX8_object_2_86 15 rfl
theorem bX8_object_2_116 : zdec cX8_object_2 116 [(116, .iload_n 3, 1), (117, .ireturn, 1), (118, .aload_n 0, 1), (119, .getfield 143, 3), (122, .iload_n 1, 1), (123, .iaload, 1), (124, .ireturn, 1), (125, .iconst (-1), 1), (126, .ireturn, 1)] = true := by decide +kernel
theorem dX8_object_2_116 : decode cX8_object_2 116 = .ok (.iload_n 3, 1) := zdec_at bX8_object_2_116 0 rfl
theorem dX8_object_2_117 : decode cX8_object_2 117 = .ok (.ireturn, 1) := zdec_at bX8_object_2_116 1 rfl
theorem dX8_object_2_118 : decode cX8_object_2 118 = .ok (.aload_n 0, 1) := zdec_at bX8_object_2_116 2 rfl
theorem dX8_object_2_119 : decode cX8_object_2 119 = .ok (.getfield 143, 3) := zdec_at bX8_object_2_116 3 rfl
theorem dX8_object_2_122 : decode cX8_object_2 122 = .ok (.iload_n 1, 1) := zdec_at bX8_object_2_116 4 rfl
theorem dX8_object_2_123 : decode cX8_object_2 123 = .ok (.iaload, 1) := zdec_at bX8_object_2_116 5 rfl
theorem dX8_object_2_124 : decode cX8_object_2 124 = .ok (.ireturn, 1) := zdec_at bX8_object_2_116 6 rfl
theorem dX8_object_2_125 : decode cX8_object_2 125 = .ok (.iconst (-1), 1) := zdec_at bX8_object_2_116 7 rfl
theorem dX8_object_2_126 : decode cX8_object_2 126 = .ok (.ireturn, 1) := zdec_at bX8_object_2_116 8 rfl
theorem sX8_object_2_0 {E : zE} {d : Nat} {Q : zO → zM → Prop} (M : zM) (l1 : Int32) (l2 : Int32) (k : if (gi M 97 73) = 0 then (Q (.inl (some (vi (-1 : Int32)))) (si M 97 0 (0 : Int32))) else (Zm E YX8_in d (si M 97 0 (0 : Int32)) (zargs 0 [vi l1, vi (0 : Int32), vi ((gi M 97 76) - (1 : Int32))]) 0 [] (zma E YX8_object_2 (d + 1) [(0, vr (some (97, 1, 0))), (1, vi l1), (2, vi l2)] 20 3 [] Q))) : Zm E YX8_object_2 (d + 1) M [(0, vr (some (97, 1, 0))), (1, vi l1), (2, vi l2)] 0 [] Q := by
  refine Zm.l (fun _ _ k_ => z_aload_n dX8_object_2_0 rfl rfl k_) ?_
  refine Zm.l (fun _ _ k_ => z_iconst (v := 0) dX8_object_2_1 rfl k_) ?_
  refine zm_puti (by decide) (by decide) dX8_object_2_2 (zfwN.w fwX8_289_1) rfl ⟨rfl, rfl⟩ ?_
  refine Zm.l (fun _ _ k_ => z_aload_n dX8_object_2_5 rfl rfl k_) ?_
  refine zm_geti dX8_object_2_6 fsX8_773_1 (by decide) (by decide) ?_
  refine Zm.br (fun _ _ k1_ k2_ => z_if_eq (tgt := 26) dX8_object_2_9 rfl k1_ k2_) (fun h_ => ?_) (fun h_ => ?_)
  · have k := zit h_ k
    refine Zm.l (fun _ _ k_ => z_iconst (v := -1) dX8_object_2_26 rfl k_) ?_
    exact zm_iret dX8_object_2_27 rfl rfl k
  · have k := zif h_ k
    refine Zm.l (fun _ _ k_ => z_iload_n dX8_object_2_12 rfl rfl k_) ?_
    refine Zm.l (fun _ _ k_ => z_iconst (v := 0) dX8_object_2_13 rfl k_) ?_
    refine Zm.l (fun _ _ k_ => z_aload_n dX8_object_2_14 rfl rfl k_) ?_
    refine zm_geti dX8_object_2_15 fsX8_843_1 (by decide) (by decide) ?_
    refine Zm.l (fun _ _ k_ => z_iconst (v := 1) dX8_object_2_18 rfl k_) ?_
    refine Zm.l (fun _ _ k_ => z_isub dX8_object_2_19 k_) ?_
    exact zm_callS (as := [vi l1, vi (0 : Int32), vi ((gi M 97 76) - (1 : Int32))]) (st := []) dX8_object_2_20 ssX8_899 (Nat.le_refl _) (Nat.le_of_ble_eq_true rfl) (Nat.le_of_ble_eq_true rfl) rfl k
theorem sX8_object_2_23 {E : zE} {d : Nat} {Q : zO → zM → Prop} (M : zM) (l1 : Int32) (l2 : Int32) (s0 : Int32) (k : if s0 = 0 then (Q (.inl (some (vi (-1 : Int32)))) M) else (if l2 = 0 then (vp_in l1 300 ∧ (Q (.inl (some (vi (gi M 138 (l1).toNatClampNeg)))) M)) else (if l2 = 1 then (vp_in l1 300 ∧ (Q (.inl (some (vi (gi M 139 (l1).toNatClampNeg)))) M)) else (if l2 = 2 then (vp_in l1 300 ∧ (Q (.inl (some (vi (gi M 140 (l1).toNatClampNeg)))) M)) else (if l2 = 3 then (vp_in l1 300 ∧ (Zm E YX8_object_2 (d + 1) M [(0, vr (some (97, 1, 0))), (3, vi (0 : Int32)), (4, vi (gi M 143 (l1).toNatClampNeg))] 95 [] Q)) else (if l2 = 4 then (vp_in l1 300 ∧ (Q (.inl (some (vi (gi M 141 (l1).toNatClampNeg)))) M)) else (Q (.inl (some (vi (-1 : Int32)))) M))))))) : Zm E YX8_object_2 (d + 1) M [(0, vr (some (97, 1, 0))), (1, vi l1), (2, vi l2)] 23 [vi s0] Q := by
  refine Zm.brn (fun _ _ k1_ k2_ => z_if_ne (tgt := 28) dX8_object_2_23 rfl k1_ k2_) (fun h_ => ?_) (fun h_ => ?_)
  · have k := zif h_ k
    refine Zm.l (fun _ _ k_ => z_iload_n dX8_object_2_28 rfl rfl k_) ?_
    by_cases h0_ : l2 = 0
    · have k := zit h0_ k
      refine Zm.l (fun _ _ k_ => z_tableIn (off := 35) (tgt := 64) dX8_object_2_29 (by rw [h0_]; decide) (by rw [h0_]; decide) (by rw [h0_]; rfl) rfl k_) ?_
      refine Zm.l (fun _ _ k_ => z_aload_n dX8_object_2_64 rfl rfl k_) ?_
      refine zm_getr 35 dX8_object_2_65 fsX8_134_1 rfl ?_
      refine Zm.l (fun _ _ k_ => z_iload_n dX8_object_2_68 rfl rfl k_) ?_
      obtain ⟨b_, k⟩ := k
      refine zm_iald dX8_object_2_69 b_ (by decide) (by decide) ?_
      exact zm_iret dX8_object_2_70 rfl rfl k
    · have k := zif h0_ k
      by_cases h1_ : l2 = 1
      · have k := zit h1_ k
        refine Zm.l (fun _ _ k_ => z_tableIn (off := 42) (tgt := 71) dX8_object_2_29 (by rw [h1_]; decide) (by rw [h1_]; decide) (by rw [h1_]; rfl) rfl k_) ?_
        refine Zm.l (fun _ _ k_ => z_aload_n dX8_object_2_71 rfl rfl k_) ?_
        refine zm_getr 36 dX8_object_2_72 fsX8_137_1 rfl ?_
        refine Zm.l (fun _ _ k_ => z_iload_n dX8_object_2_75 rfl rfl k_) ?_
        obtain ⟨b_, k⟩ := k
        refine zm_iald dX8_object_2_76 b_ (by decide) (by decide) ?_
        exact zm_iret dX8_object_2_77 rfl rfl k
      · have k := zif h1_ k
        by_cases h2_ : l2 = 2
        · have k := zit h2_ k
          refine Zm.l (fun _ _ k_ => z_tableIn (off := 49) (tgt := 78) dX8_object_2_29 (by rw [h2_]; decide) (by rw [h2_]; decide) (by rw [h2_]; rfl) rfl k_) ?_
          refine Zm.l (fun _ _ k_ => z_aload_n dX8_object_2_78 rfl rfl k_) ?_
          refine zm_getr 37 dX8_object_2_79 fsX8_140_1 rfl ?_
          refine Zm.l (fun _ _ k_ => z_iload_n dX8_object_2_82 rfl rfl k_) ?_
          obtain ⟨b_, k⟩ := k
          refine zm_iald dX8_object_2_83 b_ (by decide) (by decide) ?_
          exact zm_iret dX8_object_2_84 rfl rfl k
        · have k := zif h2_ k
          by_cases h3_ : l2 = 3
          · have k := zit h3_ k
            refine Zm.l (fun _ _ k_ => z_tableIn (off := 56) (tgt := 85) dX8_object_2_29 (by rw [h3_]; decide) (by rw [h3_]; decide) (by rw [h3_]; rfl) rfl k_) ?_
            refine Zm.l (fun _ _ k_ => z_iconst (v := 0) dX8_object_2_85 rfl k_) ?_
            refine Zm.l (fun _ _ k_ => z_ist_n dX8_object_2_86 rfl (by decide) (lv' := [(0, vr (some (97, 1, 0))), (1, vi l1), (2, vi l2), (3, vi (0 : Int32))]) rfl k_) ?_
            refine Zm.l (fun _ _ k_ => z_aload_n dX8_object_2_87 rfl rfl k_) ?_
            refine zm_getr 40 dX8_object_2_88 fsX8_149_1 rfl ?_
            refine Zm.l (fun _ _ k_ => z_iload_n dX8_object_2_91 rfl rfl k_) ?_
            obtain ⟨b_, k⟩ := k
            refine zm_iald dX8_object_2_92 b_ (by decide) (by decide) ?_
            refine Zm.l (fun _ _ k_ => z_ist dX8_object_2_93 (by decide) (lv' := [(0, vr (some (97, 1, 0))), (1, vi l1), (2, vi l2), (3, vi (0 : Int32)), (4, vi (gi M 143 (l1).toNatClampNeg))]) rfl k_) ?_
            refine Zm.pick [0, 3, 4] rfl ?_
            exact k
          · have k := zif h3_ k
            by_cases h4_ : l2 = 4
            · have k := zit h4_ k
              refine Zm.l (fun _ _ k_ => z_tableIn (off := 89) (tgt := 118) dX8_object_2_29 (by rw [h4_]; decide) (by rw [h4_]; decide) (by rw [h4_]; rfl) rfl k_) ?_
              refine Zm.l (fun _ _ k_ => z_aload_n dX8_object_2_118 rfl rfl k_) ?_
              refine zm_getr 38 dX8_object_2_119 fsX8_143_1 rfl ?_
              refine Zm.l (fun _ _ k_ => z_iload_n dX8_object_2_122 rfl rfl k_) ?_
              obtain ⟨b_, k⟩ := k
              refine zm_iald dX8_object_2_123 b_ (by decide) (by decide) ?_
              exact zm_iret dX8_object_2_124 rfl rfl k
            · have k := zif h4_ k
              refine Zm.l (fun _ _ k_ => z_tout (tgt := 125) [0, 1, 2, 3, 4] (by decide) dX8_object_2_29 (zall_1 h0_ (zall_1 h1_ (zall_1 h2_ (zall_1 h3_ (zall_1 h4_ zall_0))))) rfl k_) ?_
              refine Zm.l (fun _ _ k_ => z_iconst (v := -1) dX8_object_2_125 rfl k_) ?_
              exact zm_iret dX8_object_2_126 rfl rfl k
  · have k := zit h_ k
    refine Zm.l (fun _ _ k_ => z_iconst (v := -1) dX8_object_2_26 rfl k_) ?_
    exact zm_iret dX8_object_2_27 rfl rfl k
theorem sX8_object_2_95 {E : zE} {d : Nat} {Q : zO → zM → Prop} (M : zM) (l3 : Int32) (l4 : Int32) (k : if l4 = (-1 : Int32) then (Q (.inl (some (vi l3))) M) else (vp_in l4 3000 ∧ (Zm E YX8_object_2 (d + 1) M [(0, vr (some (97, 1, 0))), (3, vi (l3 + (1 : Int32))), (4, vi (gi M 149 (l4).toNatClampNeg))] 95 [] Q))) : Zm E YX8_object_2 (d + 1) M [(0, vr (some (97, 1, 0))), (3, vi l3), (4, vi l4)] 95 [] Q := by
  refine Zm.l (fun _ _ k_ => z_iload dX8_object_2_95 rfl k_) ?_
  refine Zm.l (fun _ _ k_ => z_iconst (v := -1) dX8_object_2_97 rfl k_) ?_
  refine Zm.br (fun _ _ k1_ k2_ => z_icmp_eq (tgt := 116) dX8_object_2_98 rfl k1_ k2_) (fun h_ => ?_) (fun h_ => ?_)
  · have k := zit h_ k
    refine Zm.l (fun _ _ k_ => z_iload_n dX8_object_2_116 rfl rfl k_) ?_
    exact zm_iret dX8_object_2_117 rfl rfl k
  · have k := zif h_ k
    refine Zm.l (fun _ _ k_ => z_inc (v := (l3 + (1 : Int32))) dX8_object_2_101 rfl rfl (by decide) (lv' := [(0, vr (some (97, 1, 0))), (3, vi (l3 + (1 : Int32))), (4, vi l4)]) rfl k_) ?_
    refine Zm.l (fun _ _ k_ => z_aload_n dX8_object_2_104 rfl rfl k_) ?_
    refine zm_getr 46 dX8_object_2_105 fsX8_167_1 rfl ?_
    refine Zm.l (fun _ _ k_ => z_iload dX8_object_2_108 rfl k_) ?_
    obtain ⟨b_, k⟩ := k
    refine zm_iald dX8_object_2_110 b_ (by decide) (by decide) ?_
    refine Zm.l (fun _ _ k_ => z_ist dX8_object_2_111 (by decide) (lv' := [(0, vr (some (97, 1, 0))), (3, vi (l3 + (1 : Int32))), (4, vi (gi M 149 (l4).toNatClampNeg))]) rfl k_) ?_
    refine Zm.l (fun _ _ k_ => z_goto (tgt := 95) dX8_object_2_113 rfl k_) ?_
    exact k
/-! ScriptTypesModel.property(III)I -/
theorem bX8_property_0 : zdec cX8_property 0 [(0, .aload_n 0, 1), (1, .iconst 0, 1), (2, .putfield 289, 3), (5, .aload_n 0, 1), (6, .getfield 773, 3), (9, .ifCond .eq 21, 3), (12, .iload_n 1, 1), (13, .iconst 0, 1), (14, .aload_n 0, 1), (15, .getfield 843, 3), (18, .iconst 1, 1), (19, .isub, 1), (20, .invokestatic 899, 3), (23, .ifCond .eq 7, 3), (26, .iload_n 2, 1), (27, .ifCond .ge 5, 3)] = true := by decide +kernel
theorem dX8_property_0 : decode cX8_property 0 = .ok (.aload_n 0, 1) := zdec_at bX8_property_0 0 rfl
theorem dX8_property_1 : decode cX8_property 1 = .ok (.iconst 0, 1) := zdec_at bX8_property_0 1 rfl
theorem dX8_property_2 : decode cX8_property 2 = .ok (.putfield 289, 3) := zdec_at bX8_property_0 2 rfl
theorem dX8_property_5 : decode cX8_property 5 = .ok (.aload_n 0, 1) := zdec_at bX8_property_0 3 rfl
theorem dX8_property_6 : decode cX8_property 6 = .ok (.getfield 773, 3) := zdec_at bX8_property_0 4 rfl
theorem dX8_property_9 : decode cX8_property 9 = .ok (.ifCond .eq 21, 3) := zdec_at bX8_property_0 5 rfl
theorem dX8_property_12 : decode cX8_property 12 = .ok (.iload_n 1, 1) := zdec_at bX8_property_0 6 rfl
theorem dX8_property_13 : decode cX8_property 13 = .ok (.iconst 0, 1) := zdec_at bX8_property_0 7 rfl
theorem dX8_property_14 : decode cX8_property 14 = .ok (.aload_n 0, 1) := zdec_at bX8_property_0 8 rfl
theorem dX8_property_15 : decode cX8_property 15 = .ok (.getfield 843, 3) := zdec_at bX8_property_0 9 rfl
theorem dX8_property_18 : decode cX8_property 18 = .ok (.iconst 1, 1) := zdec_at bX8_property_0 10 rfl
theorem dX8_property_19 : decode cX8_property 19 = .ok (.isub, 1) := zdec_at bX8_property_0 11 rfl
theorem dX8_property_20 : decode cX8_property 20 = .ok (.invokestatic 899, 3) := zdec_at bX8_property_0 12 rfl
theorem dX8_property_23 : decode cX8_property 23 = .ok (.ifCond .eq 7, 3) := zdec_at bX8_property_0 13 rfl
theorem dX8_property_26 : decode cX8_property 26 = .ok (.iload_n 2, 1) := zdec_at bX8_property_0 14 rfl
theorem dX8_property_27 : decode cX8_property 27 = .ok (.ifCond .ge 5, 3) := zdec_at bX8_property_0 15 rfl
theorem bX8_property_30 : zdec cX8_property 30 [(30, .iconst (-1), 1), (31, .ireturn, 1), (32, .aload_n 0, 1), (33, .getfield 149, 3), (36, .iload_n 1, 1), (37, .iaload, 1), (38, .istore 4, 2), (40, .iconst 0, 1), (41, .istore 5, 2), (43, .iload 5, 2), (45, .iload_n 2, 1), (46, .if_icmp .ge 24, 3), (49, .iload 4, 2), (51, .iconst (-1), 1), (52, .if_icmp .eq 18, 3), (55, .aload_n 0, 1)] = true := by decide +kernel
theorem dX8_property_30 : decode cX8_property 30 = .ok (.iconst (-1), 1) := zdec_at bX8_property_30 0 rfl
theorem dX8_property_31 : decode cX8_property 31 = .ok (.ireturn, 1) := zdec_at bX8_property_30 1 rfl
theorem dX8_property_32 : decode cX8_property 32 = .ok (.aload_n 0, 1) := zdec_at bX8_property_30 2 rfl
theorem dX8_property_33 : decode cX8_property 33 = .ok (.getfield 149, 3) := zdec_at bX8_property_30 3 rfl
theorem dX8_property_36 : decode cX8_property 36 = .ok (.iload_n 1, 1) := zdec_at bX8_property_30 4 rfl
theorem dX8_property_37 : decode cX8_property 37 = .ok (.iaload, 1) := zdec_at bX8_property_30 5 rfl
theorem dX8_property_38 : decode cX8_property 38 = .ok (.istore 4, 2) := zdec_at bX8_property_30 6 rfl
theorem dX8_property_40 : decode cX8_property 40 = .ok (.iconst 0, 1) := zdec_at bX8_property_30 7 rfl
theorem dX8_property_41 : decode cX8_property 41 = .ok (.istore 5, 2) := zdec_at bX8_property_30 8 rfl
theorem dX8_property_43 : decode cX8_property 43 = .ok (.iload 5, 2) := zdec_at bX8_property_30 9 rfl
theorem dX8_property_45 : decode cX8_property 45 = .ok (.iload_n 2, 1) := zdec_at bX8_property_30 10 rfl
theorem dX8_property_46 : decode cX8_property 46 = .ok (.if_icmp .ge 24, 3) := zdec_at bX8_property_30 11 rfl
theorem dX8_property_49 : decode cX8_property 49 = .ok (.iload 4, 2) := zdec_at bX8_property_30 12 rfl
theorem dX8_property_51 : decode cX8_property 51 = .ok (.iconst (-1), 1) := zdec_at bX8_property_30 13 rfl
theorem dX8_property_52 : decode cX8_property 52 = .ok (.if_icmp .eq 18, 3) := zdec_at bX8_property_30 14 rfl
theorem dX8_property_55 : decode cX8_property 55 = .ok (.aload_n 0, 1) := zdec_at bX8_property_30 15 rfl
theorem bX8_property_56 : zdec cX8_property 56 [(56, .getfield 167, 3), (59, .iload 4, 2), (61, .iaload, 1), (62, .istore 4, 2), (64, .iinc 5 1, 3), (67, .goto (-24), 3), (70, .iload 4, 2), (72, .iconst (-1), 1), (73, .if_icmp .ne 5, 3), (76, .iconst (-1), 1), (77, .ireturn, 1), (78, .iload_n 3, 1), (79, .ifCond .ne 13, 3), (82, .aload_n 0, 1), (83, .getfield 155, 3), (86, .iload 4, 2)] = true := by decide +kernel
theorem dX8_property_56 : decode cX8_property 56 = .ok (.getfield 167, 3) := zdec_at bX8_property_56 0 rfl
theorem dX8_property_59 : decode cX8_property 59 = .ok (.iload 4, 2) := zdec_at bX8_property_56 1 rfl
theorem dX8_property_61 : decode cX8_property 61 = .ok (.iaload, 1) := zdec_at bX8_property_56 2 rfl
theorem dX8_property_62 : decode cX8_property 62 = .ok (.istore 4, 2) := zdec_at bX8_property_56 3 rfl
theorem dX8_property_64 : decode cX8_property 64 = .ok (.iinc 5 1, 3) := zdec_at bX8_property_56 4 rfl
theorem dX8_property_67 : decode cX8_property 67 = .ok (.goto (-24), 3) := zdec_at bX8_property_56 5 rfl
theorem dX8_property_70 : decode cX8_property 70 = .ok (.iload 4, 2) := zdec_at bX8_property_56 6 rfl
theorem dX8_property_72 : decode cX8_property 72 = .ok (.iconst (-1), 1) := zdec_at bX8_property_56 7 rfl
theorem dX8_property_73 : decode cX8_property 73 = .ok (.if_icmp .ne 5, 3) := zdec_at bX8_property_56 8 rfl
theorem dX8_property_76 : decode cX8_property 76 = .ok (.iconst (-1), 1) := zdec_at bX8_property_56 9 rfl
theorem dX8_property_77 : decode cX8_property 77 = .ok (.ireturn, 1) := zdec_at bX8_property_56 10 rfl
theorem dX8_property_78 : decode cX8_property 78 = .ok (.iload_n 3, 1) := zdec_at bX8_property_56 11 rfl
theorem dX8_property_79 : decode cX8_property 79 = .ok (.ifCond .ne 13, 3) := zdec_at bX8_property_56 12 rfl
theorem dX8_property_82 : decode cX8_property 82 = .ok (.aload_n 0, 1) := zdec_at bX8_property_56 13 rfl
theorem dX8_property_83 : decode cX8_property 83 = .ok (.getfield 155, 3) := zdec_at bX8_property_56 14 rfl
theorem dX8_property_86 : decode cX8_property 86 = .ok (.iload 4, 2) := zdec_at bX8_property_56 15 rfl
theorem bX8_property_88 : zdec cX8_property 88 [(88, .iaload, 1), (89, .goto 40, 3), (92, .aload_n 0, 1), (93, .aload_n 0, 1), (94, .getfield 158, 3), (97, .iload 4, 2), (99, .iaload, 1), (100, .aload_n 0, 1), (101, .getfield 161, 3), (104, .iload 4, 2), (106, .iaload, 1), (107, .iload_n 3, 1), (108, .iconst 1, 1), (109, .if_icmp .ne 7, 3), (112, .iconst 0, 1), (113, .goto 13, 3)] = true := by decide +kernel
theorem dX8_property_88 : decode cX8_property 88 = .ok (.iaload, 1) := zdec_at bX8_property_88 0 rfl
theorem dX8_property_89 : decode cX8_property 89 = .ok (.goto 40, 3) := zdec_at bX8_property_88 1 rfl
theorem dX8_property_92 : decode cX8_property 92 = .ok (.aload_n 0, 1) := zdec_at bX8_property_88 2 rfl
theorem dX8_property_93 : decode cX8_property 93 = .ok (.aload_n 0, 1) := zdec_at bX8_property_88 3 rfl
theorem dX8_property_94 : decode cX8_property 94 = .ok (.getfield 158, 3) := zdec_at bX8_property_88 4 rfl
theorem dX8_property_97 : decode cX8_property 97 = .ok (.iload 4, 2) := zdec_at bX8_property_88 5 rfl
theorem dX8_property_99 : decode cX8_property 99 = .ok (.iaload, 1) := zdec_at bX8_property_88 6 rfl
theorem dX8_property_100 : decode cX8_property 100 = .ok (.aload_n 0, 1) := zdec_at bX8_property_88 7 rfl
theorem dX8_property_101 : decode cX8_property 101 = .ok (.getfield 161, 3) := zdec_at bX8_property_88 8 rfl
theorem dX8_property_104 : decode cX8_property 104 = .ok (.iload 4, 2) := zdec_at bX8_property_88 9 rfl
theorem dX8_property_106 : decode cX8_property 106 = .ok (.iaload, 1) := zdec_at bX8_property_88 10 rfl
theorem dX8_property_107 : decode cX8_property 107 = .ok (.iload_n 3, 1) := zdec_at bX8_property_88 11 rfl
theorem dX8_property_108 : decode cX8_property 108 = .ok (.iconst 1, 1) := zdec_at bX8_property_88 12 rfl
theorem dX8_property_109 : decode cX8_property 109 = .ok (.if_icmp .ne 7, 3) := zdec_at bX8_property_88 13 rfl
theorem dX8_property_112 : decode cX8_property 112 = .ok (.iconst 0, 1) := zdec_at bX8_property_88 14 rfl
theorem dX8_property_113 : decode cX8_property 113 = .ok (.goto 13, 3) := zdec_at bX8_property_88 15 rfl
theorem bX8_property_116 : zdec cX8_property 116 [(116, .iload_n 3, 1), (117, .iconst 2, 1), (118, .if_icmp .ne 7, 3), (121, .iconst 1, 1), (122, .goto 4, 3), (125, .iconst (-1), 1), (126, .invokevirtual 1037, 3), (129, .ireturn, 1)] = true := by decide +kernel
theorem dX8_property_116 : decode cX8_property 116 = .ok (.iload_n 3, 1) := zdec_at bX8_property_116 0 rfl
theorem dX8_property_117 : decode cX8_property 117 = .ok (.iconst 2, 1) := zdec_at bX8_property_116 1 rfl
theorem dX8_property_118 : decode cX8_property 118 = .ok (.if_icmp .ne 7, 3) := zdec_at bX8_property_116 2 rfl
theorem dX8_property_121 : decode cX8_property 121 = .ok (.iconst 1, 1) := zdec_at bX8_property_116 3 rfl
theorem dX8_property_122 : decode cX8_property 122 = .ok (.goto 4, 3) := zdec_at bX8_property_116 4 rfl
theorem dX8_property_125 : decode cX8_property 125 = .ok (.iconst (-1), 1) := zdec_at bX8_property_116 5 rfl
theorem dX8_property_126 : decode cX8_property 126 = .ok (.invokevirtual 1037, 3) := zdec_at bX8_property_116 6 rfl
theorem dX8_property_129 : decode cX8_property 129 = .ok (.ireturn, 1) := zdec_at bX8_property_116 7 rfl
theorem sX8_property_0 {E : zE} {d : Nat} {Q : zO → zM → Prop} (M : zM) (l1 : Int32) (l2 : Int32) (l3 : Int32) (k : if (gi M 97 73) = 0 then (Q (.inl (some (vi (-1 : Int32)))) (si M 97 0 (0 : Int32))) else (Zm E YX8_in d (si M 97 0 (0 : Int32)) (zargs 0 [vi l1, vi (0 : Int32), vi ((gi M 97 76) - (1 : Int32))]) 0 [] (zma E YX8_property (d + 1) [(0, vr (some (97, 1, 0))), (1, vi l1), (2, vi l2), (3, vi l3)] 20 3 [] Q))) : Zm E YX8_property (d + 1) M [(0, vr (some (97, 1, 0))), (1, vi l1), (2, vi l2), (3, vi l3)] 0 [] Q := by
  refine Zm.l (fun _ _ k_ => z_aload_n dX8_property_0 rfl rfl k_) ?_
  refine Zm.l (fun _ _ k_ => z_iconst (v := 0) dX8_property_1 rfl k_) ?_
  refine zm_puti (by decide) (by decide) dX8_property_2 (zfwN.w fwX8_289_1) rfl ⟨rfl, rfl⟩ ?_
  refine Zm.l (fun _ _ k_ => z_aload_n dX8_property_5 rfl rfl k_) ?_
  refine zm_geti dX8_property_6 fsX8_773_1 (by decide) (by decide) ?_
  refine Zm.br (fun _ _ k1_ k2_ => z_if_eq (tgt := 30) dX8_property_9 rfl k1_ k2_) (fun h_ => ?_) (fun h_ => ?_)
  · have k := zit h_ k
    refine Zm.l (fun _ _ k_ => z_iconst (v := -1) dX8_property_30 rfl k_) ?_
    exact zm_iret dX8_property_31 rfl rfl k
  · have k := zif h_ k
    refine Zm.l (fun _ _ k_ => z_iload_n dX8_property_12 rfl rfl k_) ?_
    refine Zm.l (fun _ _ k_ => z_iconst (v := 0) dX8_property_13 rfl k_) ?_
    refine Zm.l (fun _ _ k_ => z_aload_n dX8_property_14 rfl rfl k_) ?_
    refine zm_geti dX8_property_15 fsX8_843_1 (by decide) (by decide) ?_
    refine Zm.l (fun _ _ k_ => z_iconst (v := 1) dX8_property_18 rfl k_) ?_
    refine Zm.l (fun _ _ k_ => z_isub dX8_property_19 k_) ?_
    exact zm_callS (as := [vi l1, vi (0 : Int32), vi ((gi M 97 76) - (1 : Int32))]) (st := []) dX8_property_20 ssX8_899 (Nat.le_refl _) (Nat.le_of_ble_eq_true rfl) (Nat.le_of_ble_eq_true rfl) rfl k
theorem sX8_property_23 {E : zE} {d : Nat} {Q : zO → zM → Prop} (M : zM) (l1 : Int32) (l2 : Int32) (l3 : Int32) (s0 : Int32) (k : if s0 = 0 then (Q (.inl (some (vi (-1 : Int32)))) M) else (if 0 ≤ l2 then (vp_in l1 300 ∧ (Zm E YX8_property (d + 1) M [(0, vr (some (97, 1, 0))), (2, vi l2), (3, vi l3), (4, vi (gi M 143 (l1).toNatClampNeg)), (5, vi (0 : Int32))] 43 [] Q)) else (Q (.inl (some (vi (-1 : Int32)))) M))) : Zm E YX8_property (d + 1) M [(0, vr (some (97, 1, 0))), (1, vi l1), (2, vi l2), (3, vi l3)] 23 [vi s0] Q := by
  refine Zm.br (fun _ _ k1_ k2_ => z_if_eq (tgt := 30) dX8_property_23 rfl k1_ k2_) (fun h_ => ?_) (fun h_ => ?_)
  · have k := zit h_ k
    refine Zm.l (fun _ _ k_ => z_iconst (v := -1) dX8_property_30 rfl k_) ?_
    exact zm_iret dX8_property_31 rfl rfl k
  · have k := zif h_ k
    refine Zm.l (fun _ _ k_ => z_iload_n dX8_property_26 rfl rfl k_) ?_
    refine Zm.br (fun _ _ k1_ k2_ => z_if_ge (tgt := 32) dX8_property_27 rfl k1_ k2_) (fun h_ => ?_) (fun h_ => ?_)
    · have k := zit h_ k
      refine Zm.l (fun _ _ k_ => z_aload_n dX8_property_32 rfl rfl k_) ?_
      refine zm_getr 40 dX8_property_33 fsX8_149_1 rfl ?_
      refine Zm.l (fun _ _ k_ => z_iload_n dX8_property_36 rfl rfl k_) ?_
      obtain ⟨b_, k⟩ := k
      refine zm_iald dX8_property_37 b_ (by decide) (by decide) ?_
      refine Zm.l (fun _ _ k_ => z_ist dX8_property_38 (by decide) (lv' := [(0, vr (some (97, 1, 0))), (1, vi l1), (2, vi l2), (3, vi l3), (4, vi (gi M 143 (l1).toNatClampNeg))]) rfl k_) ?_
      refine Zm.l (fun _ _ k_ => z_iconst (v := 0) dX8_property_40 rfl k_) ?_
      refine Zm.l (fun _ _ k_ => z_ist dX8_property_41 (by decide) (lv' := [(0, vr (some (97, 1, 0))), (1, vi l1), (2, vi l2), (3, vi l3), (4, vi (gi M 143 (l1).toNatClampNeg)), (5, vi (0 : Int32))]) rfl k_) ?_
      refine Zm.pick [0, 2, 3, 4, 5] rfl ?_
      exact k
    · have k := zif h_ k
      refine Zm.l (fun _ _ k_ => z_iconst (v := -1) dX8_property_30 rfl k_) ?_
      exact zm_iret dX8_property_31 rfl rfl k
theorem sX8_property_43 {E : zE} {d : Nat} {Q : zO → zM → Prop} (M : zM) (l2 : Int32) (l3 : Int32) (l4 : Int32) (l5 : Int32) (k : if l2 ≤ l5 then (Zm E YX8_property (d + 1) M [(0, vr (some (97, 1, 0))), (3, vi l3), (4, vi l4)] 70 [] Q) else (if l4 = (-1 : Int32) then (Zm E YX8_property (d + 1) M [(0, vr (some (97, 1, 0))), (3, vi l3), (4, vi l4)] 70 [] Q) else (vp_in l4 3000 ∧ (Zm E YX8_property (d + 1) M [(0, vr (some (97, 1, 0))), (2, vi l2), (3, vi l3), (4, vi (gi M 149 (l4).toNatClampNeg)), (5, vi (l5 + (1 : Int32)))] 43 [] Q)))) : Zm E YX8_property (d + 1) M [(0, vr (some (97, 1, 0))), (2, vi l2), (3, vi l3), (4, vi l4), (5, vi l5)] 43 [] Q := by
  refine Zm.l (fun _ _ k_ => z_iload dX8_property_43 rfl k_) ?_
  refine Zm.l (fun _ _ k_ => z_iload_n dX8_property_45 rfl rfl k_) ?_
  refine Zm.br (fun _ _ k1_ k2_ => z_icmp_ge (tgt := 70) dX8_property_46 rfl k1_ k2_) (fun h_ => ?_) (fun h_ => ?_)
  · have k := zit h_ k
    refine Zm.pick [0, 2, 3] rfl ?_
    exact k
  · have k := zif h_ k
    refine Zm.l (fun _ _ k_ => z_iload dX8_property_49 rfl k_) ?_
    refine Zm.l (fun _ _ k_ => z_iconst (v := -1) dX8_property_51 rfl k_) ?_
    refine Zm.br (fun _ _ k1_ k2_ => z_icmp_eq (tgt := 70) dX8_property_52 rfl k1_ k2_) (fun h_ => ?_) (fun h_ => ?_)
    · have k := zit h_ k
      refine Zm.pick [0, 2, 3] rfl ?_
      exact k
    · have k := zif h_ k
      refine Zm.l (fun _ _ k_ => z_aload_n dX8_property_55 rfl rfl k_) ?_
      refine zm_getr 46 dX8_property_56 fsX8_167_1 rfl ?_
      refine Zm.l (fun _ _ k_ => z_iload dX8_property_59 rfl k_) ?_
      obtain ⟨b_, k⟩ := k
      refine zm_iald dX8_property_61 b_ (by decide) (by decide) ?_
      refine Zm.l (fun _ _ k_ => z_ist dX8_property_62 (by decide) (lv' := [(0, vr (some (97, 1, 0))), (2, vi l2), (3, vi l3), (4, vi (gi M 149 (l4).toNatClampNeg)), (5, vi l5)]) rfl k_) ?_
      refine Zm.l (fun _ _ k_ => z_inc (v := (l5 + (1 : Int32))) dX8_property_64 rfl rfl (by decide) (lv' := [(0, vr (some (97, 1, 0))), (2, vi l2), (3, vi l3), (4, vi (gi M 149 (l4).toNatClampNeg)), (5, vi (l5 + (1 : Int32)))]) rfl k_) ?_
      refine Zm.l (fun _ _ k_ => z_goto (tgt := 43) dX8_property_67 rfl k_) ?_
      exact k
theorem sX8_property_70 {E : zE} {d : Nat} {Q : zO → zM → Prop} (M : zM) (l3 : Int32) (l4 : Int32) (k : if l4 = (-1 : Int32) then (Q (.inl (some (vi (-1 : Int32)))) M) else (if l3 = 0 then (vp_in l4 3000 ∧ (Zm E YX8_property (d + 1) M [] 129 [vi (gi M 145 (l4).toNatClampNeg)] Q)) else (vp_in l4 3000 ∧ (vp_in l4 3000 ∧ (if l3 = (1 : Int32) then (Zm E YX8_told d M (zargs 0 [vr (some (97, 1, 0)), vi (gi M 146 (l4).toNatClampNeg), vi (gi M 147 (l4).toNatClampNeg), vi (0 : Int32)]) 0 [] (zma E YX8_property (d + 1) [] 126 3 [] Q)) else (if l3 = (2 : Int32) then (Zm E YX8_told d M (zargs 0 [vr (some (97, 1, 0)), vi (gi M 146 (l4).toNatClampNeg), vi (gi M 147 (l4).toNatClampNeg), vi (1 : Int32)]) 0 [] (zma E YX8_property (d + 1) [] 126 3 [] Q)) else (Zm E YX8_told d M (zargs 0 [vr (some (97, 1, 0)), vi (gi M 146 (l4).toNatClampNeg), vi (gi M 147 (l4).toNatClampNeg), vi (-1 : Int32)]) 0 [] (zma E YX8_property (d + 1) [] 126 3 [] Q)))))))) : Zm E YX8_property (d + 1) M [(0, vr (some (97, 1, 0))), (3, vi l3), (4, vi l4)] 70 [] Q := by
  refine Zm.l (fun _ _ k_ => z_iload dX8_property_70 rfl k_) ?_
  refine Zm.l (fun _ _ k_ => z_iconst (v := -1) dX8_property_72 rfl k_) ?_
  refine Zm.brn (fun _ _ k1_ k2_ => z_icmp_ne (tgt := 78) dX8_property_73 rfl k1_ k2_) (fun h_ => ?_) (fun h_ => ?_)
  · have k := zif h_ k
    refine Zm.l (fun _ _ k_ => z_iload_n dX8_property_78 rfl rfl k_) ?_
    refine Zm.brn (fun _ _ k1_ k2_ => z_if_ne (tgt := 92) dX8_property_79 rfl k1_ k2_) (fun h_ => ?_) (fun h_ => ?_)
    · have k := zif h_ k
      refine Zm.l (fun _ _ k_ => z_aload_n dX8_property_92 rfl rfl k_) ?_
      refine Zm.l (fun _ _ k_ => z_aload_n dX8_property_93 rfl rfl k_) ?_
      refine zm_getr 43 dX8_property_94 fsX8_158_1 rfl ?_
      refine Zm.l (fun _ _ k_ => z_iload dX8_property_97 rfl k_) ?_
      obtain ⟨b_, k⟩ := k
      refine zm_iald dX8_property_99 b_ (by decide) (by decide) ?_
      refine Zm.l (fun _ _ k_ => z_aload_n dX8_property_100 rfl rfl k_) ?_
      refine zm_getr 44 dX8_property_101 fsX8_161_1 rfl ?_
      refine Zm.l (fun _ _ k_ => z_iload dX8_property_104 rfl k_) ?_
      obtain ⟨b_, k⟩ := k
      refine zm_iald dX8_property_106 b_ (by decide) (by decide) ?_
      refine Zm.l (fun _ _ k_ => z_iload_n dX8_property_107 rfl rfl k_) ?_
      refine Zm.l (fun _ _ k_ => z_iconst (v := 1) dX8_property_108 rfl k_) ?_
      refine Zm.brn (fun _ _ k1_ k2_ => z_icmp_ne (tgt := 116) dX8_property_109 rfl k1_ k2_) (fun h_ => ?_) (fun h_ => ?_)
      · have k := zif h_ k
        refine Zm.l (fun _ _ k_ => z_iload_n dX8_property_116 rfl rfl k_) ?_
        refine Zm.l (fun _ _ k_ => z_iconst (v := 2) dX8_property_117 rfl k_) ?_
        refine Zm.brn (fun _ _ k1_ k2_ => z_icmp_ne (tgt := 125) dX8_property_118 rfl k1_ k2_) (fun h_ => ?_) (fun h_ => ?_)
        · have k := zif h_ k
          refine Zm.l (fun _ _ k_ => z_iconst (v := -1) dX8_property_125 rfl k_) ?_
          refine Zm.pick [] rfl ?_
          exact zm_callV (as := [vi (gi M 146 (l4).toNatClampNeg), vi (gi M 147 (l4).toNatClampNeg), vi (-1 : Int32)]) (st := []) dX8_property_126 vsX8_1037_1 (Nat.le_refl _) (Nat.le_of_ble_eq_true rfl) (Nat.le_of_ble_eq_true rfl) rfl k
        · have k := zit h_ k
          refine Zm.l (fun _ _ k_ => z_iconst (v := 1) dX8_property_121 rfl k_) ?_
          refine Zm.l (fun _ _ k_ => z_goto (tgt := 126) dX8_property_122 rfl k_) ?_
          refine Zm.pick [] rfl ?_
          exact zm_callV (as := [vi (gi M 146 (l4).toNatClampNeg), vi (gi M 147 (l4).toNatClampNeg), vi (1 : Int32)]) (st := []) dX8_property_126 vsX8_1037_1 (Nat.le_refl _) (Nat.le_of_ble_eq_true rfl) (Nat.le_of_ble_eq_true rfl) rfl k
      · have k := zit h_ k
        refine Zm.l (fun _ _ k_ => z_iconst (v := 0) dX8_property_112 rfl k_) ?_
        refine Zm.l (fun _ _ k_ => z_goto (tgt := 126) dX8_property_113 rfl k_) ?_
        refine Zm.pick [] rfl ?_
        exact zm_callV (as := [vi (gi M 146 (l4).toNatClampNeg), vi (gi M 147 (l4).toNatClampNeg), vi (0 : Int32)]) (st := []) dX8_property_126 vsX8_1037_1 (Nat.le_refl _) (Nat.le_of_ble_eq_true rfl) (Nat.le_of_ble_eq_true rfl) rfl k
    · have k := zit h_ k
      refine Zm.l (fun _ _ k_ => z_aload_n dX8_property_82 rfl rfl k_) ?_
      refine zm_getr 42 dX8_property_83 fsX8_155_1 rfl ?_
      refine Zm.l (fun _ _ k_ => z_iload dX8_property_86 rfl k_) ?_
      obtain ⟨b_, k⟩ := k
      refine zm_iald dX8_property_88 b_ (by decide) (by decide) ?_
      refine Zm.l (fun _ _ k_ => z_goto (tgt := 129) dX8_property_89 rfl k_) ?_
      refine Zm.pick [] rfl ?_
      exact k
  · have k := zit h_ k
    refine Zm.l (fun _ _ k_ => z_iconst (v := -1) dX8_property_76 rfl k_) ?_
    exact zm_iret dX8_property_77 rfl rfl k
theorem sX8_property_129 {E : zE} {d : Nat} {Q : zO → zM → Prop} (M : zM) (s0 : Int32) (k : Q (.inl (some (vi s0))) M) : Zm E YX8_property (d + 1) M [] 129 [vi s0] Q := by
  exact zm_iret dX8_property_129 rfl rfl k
/-! ScriptTypesModel.printed(II)I -/
theorem bX8_printed_0 : zdec cX8_printed 0 [(0, .aload_n 0, 1), (1, .iconst 0, 1), (2, .putfield 289, 3), (5, .aload_n 0, 1), (6, .getfield 773, 3), (9, .ifCond .eq 17, 3), (12, .iload_n 1, 1), (13, .iconst 0, 1), (14, .aload_n 0, 1), (15, .getfield 864, 3), (18, .iconst 1, 1), (19, .isub, 1), (20, .invokestatic 899, 3), (23, .ifCond .ne 5, 3), (26, .iconst (-1), 1), (27, .ireturn, 1)] = true := by decide +kernel
theorem dX8_printed_0 : decode cX8_printed 0 = .ok (.aload_n 0, 1) := zdec_at bX8_printed_0 0 rfl
theorem dX8_printed_1 : decode cX8_printed 1 = .ok (.iconst 0, 1) := zdec_at bX8_printed_0 1 rfl
theorem dX8_printed_2 : decode cX8_printed 2 = .ok (.putfield 289, 3) := zdec_at bX8_printed_0 2 rfl
theorem dX8_printed_5 : decode cX8_printed 5 = .ok (.aload_n 0, 1) := zdec_at bX8_printed_0 3 rfl
theorem dX8_printed_6 : decode cX8_printed 6 = .ok (.getfield 773, 3) := zdec_at bX8_printed_0 4 rfl
theorem dX8_printed_9 : decode cX8_printed 9 = .ok (.ifCond .eq 17, 3) := zdec_at bX8_printed_0 5 rfl
theorem dX8_printed_12 : decode cX8_printed 12 = .ok (.iload_n 1, 1) := zdec_at bX8_printed_0 6 rfl
theorem dX8_printed_13 : decode cX8_printed 13 = .ok (.iconst 0, 1) := zdec_at bX8_printed_0 7 rfl
theorem dX8_printed_14 : decode cX8_printed 14 = .ok (.aload_n 0, 1) := zdec_at bX8_printed_0 8 rfl
theorem dX8_printed_15 : decode cX8_printed 15 = .ok (.getfield 864, 3) := zdec_at bX8_printed_0 9 rfl
theorem dX8_printed_18 : decode cX8_printed 18 = .ok (.iconst 1, 1) := zdec_at bX8_printed_0 10 rfl
theorem dX8_printed_19 : decode cX8_printed 19 = .ok (.isub, 1) := zdec_at bX8_printed_0 11 rfl
theorem dX8_printed_20 : decode cX8_printed 20 = .ok (.invokestatic 899, 3) := zdec_at bX8_printed_0 12 rfl
theorem dX8_printed_23 : decode cX8_printed 23 = .ok (.ifCond .ne 5, 3) := zdec_at bX8_printed_0 13 rfl
theorem dX8_printed_26 : decode cX8_printed 26 = .ok (.iconst (-1), 1) := zdec_at bX8_printed_0 14 rfl
theorem dX8_printed_27 : decode cX8_printed 27 = .ok (.ireturn, 1) := zdec_at bX8_printed_0 15 rfl
theorem bX8_printed_28 : zdec cX8_printed 28 [(28, .aload_n 0, 1), (29, .getfield 212, 3), (32, .iload_n 1, 1), (33, .iaload, 1), (34, .istore_n 3, 1), (35, .iload_n 2, 1), (36, .iconst (-1), 1), (37, .if_icmp .ne 5, 3), (40, .iload_n 3, 1), (41, .ireturn, 1), (42, .iload_n 2, 1), (43, .iconst 0, 1), (44, .aload_n 0, 1), (45, .getfield 20, 3), (48, .iload_n 3, 1), (49, .iaload, 1)] = true := by decide +kernel
theorem dX8_printed_28 : decode cX8_printed 28 = .ok (.aload_n 0, 1) := zdec_at bX8_printed_28 0 rfl
theorem dX8_printed_29 : decode cX8_printed 29 = .ok (.getfield 212, 3) := zdec_at bX8_printed_28 1 rfl
theorem dX8_printed_32 : decode cX8_printed 32 = .ok (.iload_n 1, 1) := zdec_at bX8_printed_28 2 rfl
theorem dX8_printed_33 : decode cX8_printed 33 = .ok (.iaload, 1) := zdec_at bX8_printed_28 3 rfl
theorem dX8_printed_34 : decode cX8_printed 34 = .ok (.istore_n 3, 1) := zdec_at bX8_printed_28 4 rfl
theorem dX8_printed_35 : decode cX8_printed 35 = .ok (.iload_n 2, 1) := zdec_at bX8_printed_28 5 rfl
theorem dX8_printed_36 : decode cX8_printed 36 = .ok (.iconst (-1), 1) := zdec_at bX8_printed_28 6 rfl
theorem dX8_printed_37 : decode cX8_printed 37 = .ok (.if_icmp .ne 5, 3) := zdec_at bX8_printed_28 7 rfl
theorem dX8_printed_40 : decode cX8_printed 40 = .ok (.iload_n 3, 1) := zdec_at bX8_printed_28 8 rfl
theorem dX8_printed_41 : decode cX8_printed 41 = .ok (.ireturn, 1) := zdec_at bX8_printed_28 9 rfl
theorem dX8_printed_42 : decode cX8_printed 42 = .ok (.iload_n 2, 1) := zdec_at bX8_printed_28 10 rfl
theorem dX8_printed_43 : decode cX8_printed 43 = .ok (.iconst 0, 1) := zdec_at bX8_printed_28 11 rfl
theorem dX8_printed_44 : decode cX8_printed 44 = .ok (.aload_n 0, 1) := zdec_at bX8_printed_28 12 rfl
theorem dX8_printed_45 : decode cX8_printed 45 = .ok (.getfield 20, 3) := zdec_at bX8_printed_28 13 rfl
theorem dX8_printed_48 : decode cX8_printed 48 = .ok (.iload_n 3, 1) := zdec_at bX8_printed_28 14 rfl
theorem dX8_printed_49 : decode cX8_printed 49 = .ok (.iaload, 1) := zdec_at bX8_printed_28 15 rfl
theorem bX8_printed_50 : zdec cX8_printed 50 [(50, .iconst 1, 1), (51, .isub, 1), (52, .invokestatic 899, 3), (55, .ifCond .eq 17, 3), (58, .aload_n 0, 1), (59, .getfield 16, 3), (62, .bipush 60, 2), (64, .iload_n 3, 1), (65, .imul, 1), (66, .iload_n 2, 1), (67, .iadd, 1), (68, .caload, 1), (69, .goto 4, 3), (72, .iconst (-1), 1), (73, .ireturn, 1)] = true := by decide +kernel
theorem dX8_printed_50 : decode cX8_printed 50 = .ok (.iconst 1, 1) := zdec_at bX8_printed_50 0 rfl
theorem dX8_printed_51 : decode cX8_printed 51 = .ok (.isub, 1) := zdec_at bX8_printed_50 1 rfl
theorem dX8_printed_52 : decode cX8_printed 52 = .ok (.invokestatic 899, 3) := zdec_at bX8_printed_50 2 rfl
theorem dX8_printed_55 : decode cX8_printed 55 = .ok (.ifCond .eq 17, 3) := zdec_at bX8_printed_50 3 rfl
theorem dX8_printed_58 : decode cX8_printed 58 = .ok (.aload_n 0, 1) := zdec_at bX8_printed_50 4 rfl
theorem dX8_printed_59 : decode cX8_printed 59 = .ok (.getfield 16, 3) := zdec_at bX8_printed_50 5 rfl
theorem dX8_printed_62 : decode cX8_printed 62 = .ok (.bipush 60, 2) := zdec_at bX8_printed_50 6 rfl
theorem dX8_printed_64 : decode cX8_printed 64 = .ok (.iload_n 3, 1) := zdec_at bX8_printed_50 7 rfl
theorem dX8_printed_65 : decode cX8_printed 65 = .ok (.imul, 1) := zdec_at bX8_printed_50 8 rfl
theorem dX8_printed_66 : decode cX8_printed 66 = .ok (.iload_n 2, 1) := zdec_at bX8_printed_50 9 rfl
theorem dX8_printed_67 : decode cX8_printed 67 = .ok (.iadd, 1) := zdec_at bX8_printed_50 10 rfl
theorem dX8_printed_68 : decode cX8_printed 68 = .ok (.caload, 1) := zdec_at bX8_printed_50 11 rfl
theorem dX8_printed_69 : decode cX8_printed 69 = .ok (.goto 4, 3) := zdec_at bX8_printed_50 12 rfl
theorem dX8_printed_72 : decode cX8_printed 72 = .ok (.iconst (-1), 1) := zdec_at bX8_printed_50 13 rfl
theorem dX8_printed_73 : decode cX8_printed 73 = .ok (.ireturn, 1) := zdec_at bX8_printed_50 14 rfl
theorem sX8_printed_0 {E : zE} {d : Nat} {Q : zO → zM → Prop} (M : zM) (l1 : Int32) (l2 : Int32) (k : if (gi M 97 73) = 0 then (Q (.inl (some (vi (-1 : Int32)))) (si M 97 0 (0 : Int32))) else (Zm E YX8_in d (si M 97 0 (0 : Int32)) (zargs 0 [vi l1, vi (0 : Int32), vi ((gi M 97 107) - (1 : Int32))]) 0 [] (zma E YX8_printed (d + 1) [(0, vr (some (97, 1, 0))), (1, vi l1), (2, vi l2)] 20 3 [] Q))) : Zm E YX8_printed (d + 1) M [(0, vr (some (97, 1, 0))), (1, vi l1), (2, vi l2)] 0 [] Q := by
  refine Zm.l (fun _ _ k_ => z_aload_n dX8_printed_0 rfl rfl k_) ?_
  refine Zm.l (fun _ _ k_ => z_iconst (v := 0) dX8_printed_1 rfl k_) ?_
  refine zm_puti (by decide) (by decide) dX8_printed_2 (zfwN.w fwX8_289_1) rfl ⟨rfl, rfl⟩ ?_
  refine Zm.l (fun _ _ k_ => z_aload_n dX8_printed_5 rfl rfl k_) ?_
  refine zm_geti dX8_printed_6 fsX8_773_1 (by decide) (by decide) ?_
  refine Zm.br (fun _ _ k1_ k2_ => z_if_eq (tgt := 26) dX8_printed_9 rfl k1_ k2_) (fun h_ => ?_) (fun h_ => ?_)
  · have k := zit h_ k
    refine Zm.l (fun _ _ k_ => z_iconst (v := -1) dX8_printed_26 rfl k_) ?_
    exact zm_iret dX8_printed_27 rfl rfl k
  · have k := zif h_ k
    refine Zm.l (fun _ _ k_ => z_iload_n dX8_printed_12 rfl rfl k_) ?_
    refine Zm.l (fun _ _ k_ => z_iconst (v := 0) dX8_printed_13 rfl k_) ?_
    refine Zm.l (fun _ _ k_ => z_aload_n dX8_printed_14 rfl rfl k_) ?_
    refine zm_geti dX8_printed_15 fsX8_864_1 (by decide) (by decide) ?_
    refine Zm.l (fun _ _ k_ => z_iconst (v := 1) dX8_printed_18 rfl k_) ?_
    refine Zm.l (fun _ _ k_ => z_isub dX8_printed_19 k_) ?_
    exact zm_callS (as := [vi l1, vi (0 : Int32), vi ((gi M 97 107) - (1 : Int32))]) (st := []) dX8_printed_20 ssX8_899 (Nat.le_refl _) (Nat.le_of_ble_eq_true rfl) (Nat.le_of_ble_eq_true rfl) rfl k
theorem sX8_printed_23 {E : zE} {d : Nat} {Q : zO → zM → Prop} (M : zM) (l1 : Int32) (l2 : Int32) (s0 : Int32) (k : if s0 = 0 then (Q (.inl (some (vi (-1 : Int32)))) M) else (vp_in l1 100 ∧ (if l2 = (-1 : Int32) then (Q (.inl (some (vi (gi M 164 (l1).toNatClampNeg)))) M) else (vp_in (gi M 164 (l1).toNatClampNeg) 400 ∧ (Zm E YX8_in d M (zargs 0 [vi l2, vi (0 : Int32), vi ((gi M 101 ((gi M 164 (l1).toNatClampNeg)).toNatClampNeg) - (1 : Int32))]) 0 [] (zma E YX8_printed (d + 1) [(0, vr (some (97, 1, 0))), (2, vi l2), (3, vi (gi M 164 (l1).toNatClampNeg))] 52 3 [] Q)))))) : Zm E YX8_printed (d + 1) M [(0, vr (some (97, 1, 0))), (1, vi l1), (2, vi l2)] 23 [vi s0] Q := by
  refine Zm.brn (fun _ _ k1_ k2_ => z_if_ne (tgt := 28) dX8_printed_23 rfl k1_ k2_) (fun h_ => ?_) (fun h_ => ?_)
  · have k := zif h_ k
    refine Zm.l (fun _ _ k_ => z_aload_n dX8_printed_28 rfl rfl k_) ?_
    refine zm_getr 61 dX8_printed_29 fsX8_212_1 rfl ?_
    refine Zm.l (fun _ _ k_ => z_iload_n dX8_printed_32 rfl rfl k_) ?_
    obtain ⟨b_, k⟩ := k
    refine zm_iald dX8_printed_33 b_ (by decide) (by decide) ?_
    refine Zm.l (fun _ _ k_ => z_ist_n dX8_printed_34 rfl (by decide) (lv' := [(0, vr (some (97, 1, 0))), (1, vi l1), (2, vi l2), (3, vi (gi M 164 (l1).toNatClampNeg))]) rfl k_) ?_
    refine Zm.l (fun _ _ k_ => z_iload_n dX8_printed_35 rfl rfl k_) ?_
    refine Zm.l (fun _ _ k_ => z_iconst (v := -1) dX8_printed_36 rfl k_) ?_
    refine Zm.brn (fun _ _ k1_ k2_ => z_icmp_ne (tgt := 42) dX8_printed_37 rfl k1_ k2_) (fun h_ => ?_) (fun h_ => ?_)
    · have k := zif h_ k
      refine Zm.l (fun _ _ k_ => z_iload_n dX8_printed_42 rfl rfl k_) ?_
      refine Zm.l (fun _ _ k_ => z_iconst (v := 0) dX8_printed_43 rfl k_) ?_
      refine Zm.l (fun _ _ k_ => z_aload_n dX8_printed_44 rfl rfl k_) ?_
      refine zm_getr 3 dX8_printed_45 fsX8_20_1 rfl ?_
      refine Zm.l (fun _ _ k_ => z_iload_n dX8_printed_48 rfl rfl k_) ?_
      obtain ⟨b_, k⟩ := k
      refine zm_iald dX8_printed_49 b_ (by decide) (by decide) ?_
      refine Zm.l (fun _ _ k_ => z_iconst (v := 1) dX8_printed_50 rfl k_) ?_
      refine Zm.l (fun _ _ k_ => z_isub dX8_printed_51 k_) ?_
      refine Zm.pick [0, 2, 3] rfl ?_
      exact zm_callS (as := [vi l2, vi (0 : Int32), vi ((gi M 101 ((gi M 164 (l1).toNatClampNeg)).toNatClampNeg) - (1 : Int32))]) (st := []) dX8_printed_52 ssX8_899 (Nat.le_refl _) (Nat.le_of_ble_eq_true rfl) (Nat.le_of_ble_eq_true rfl) rfl k
    · have k := zit h_ k
      refine Zm.l (fun _ _ k_ => z_iload_n dX8_printed_40 rfl rfl k_) ?_
      exact zm_iret dX8_printed_41 rfl rfl k
  · have k := zit h_ k
    refine Zm.l (fun _ _ k_ => z_iconst (v := -1) dX8_printed_26 rfl k_) ?_
    exact zm_iret dX8_printed_27 rfl rfl k
theorem sX8_printed_55 {E : zE} {d : Nat} {Q : zO → zM → Prop} (M : zM) (l2 : Int32) (l3 : Int32) (s0 : Int32) (k : if s0 = 0 then (Q (.inl (some (vi (-1 : Int32)))) M) else (vp_in (((60 : Int32) * l3) + l2) 24000 ∧ (Q (.inl (some (vi (gi M 100 ((((60 : Int32) * l3) + l2)).toNatClampNeg)))) M))) : Zm E YX8_printed (d + 1) M [(0, vr (some (97, 1, 0))), (2, vi l2), (3, vi l3)] 55 [vi s0] Q := by
  refine Zm.br (fun _ _ k1_ k2_ => z_if_eq (tgt := 72) dX8_printed_55 rfl k1_ k2_) (fun h_ => ?_) (fun h_ => ?_)
  · have k := zit h_ k
    refine Zm.l (fun _ _ k_ => z_iconst (v := -1) dX8_printed_72 rfl k_) ?_
    exact zm_iret dX8_printed_73 rfl rfl k
  · have k := zif h_ k
    refine Zm.l (fun _ _ k_ => z_aload_n dX8_printed_58 rfl rfl k_) ?_
    refine zm_getr 2 dX8_printed_59 fsX8_16_1 rfl ?_
    refine Zm.l (fun _ _ k_ => z_bipush (v := 60) dX8_printed_62 rfl k_) ?_
    refine Zm.l (fun _ _ k_ => z_iload_n dX8_printed_64 rfl rfl k_) ?_
    refine Zm.l (fun _ _ k_ => z_imul dX8_printed_65 k_) ?_
    refine Zm.l (fun _ _ k_ => z_iload_n dX8_printed_66 rfl rfl k_) ?_
    refine Zm.l (fun _ _ k_ => z_iadd dX8_printed_67 k_) ?_
    obtain ⟨b_, k⟩ := k
    refine zm_cald dX8_printed_68 b_ (by decide) (by decide) ?_
    refine Zm.l (fun _ _ k_ => z_goto (tgt := 73) dX8_printed_69 rfl k_) ?_
    exact zm_iret dX8_printed_73 rfl rfl k
/-! ScriptTypesModel.uncaught(I)I -/
theorem bX8_uncaught_0 : zdec cX8_uncaught 0 [(0, .aload_n 0, 1), (1, .iconst 0, 1), (2, .putfield 289, 3), (5, .aload_n 0, 1), (6, .getfield 773, 3), (9, .iconst 3, 1), (10, .if_icmp .ne 19, 3), (13, .aload_n 0, 1), (14, .aload_n 0, 1), (15, .getfield 891, 3), (18, .aload_n 0, 1), (19, .getfield 894, 3), (22, .iload_n 1, 1), (23, .invokevirtual 1037, 3), (26, .goto 4, 3), (29, .iconst (-1), 1)] = true := by decide +kernel
theorem dX8_uncaught_0 : decode cX8_uncaught 0 = .ok (.aload_n 0, 1) := zdec_at bX8_uncaught_0 0 rfl
theorem dX8_uncaught_1 : decode cX8_uncaught 1 = .ok (.iconst 0, 1) := zdec_at bX8_uncaught_0 1 rfl
theorem dX8_uncaught_2 : decode cX8_uncaught 2 = .ok (.putfield 289, 3) := zdec_at bX8_uncaught_0 2 rfl
theorem dX8_uncaught_5 : decode cX8_uncaught 5 = .ok (.aload_n 0, 1) := zdec_at bX8_uncaught_0 3 rfl
theorem dX8_uncaught_6 : decode cX8_uncaught 6 = .ok (.getfield 773, 3) := zdec_at bX8_uncaught_0 4 rfl
theorem dX8_uncaught_9 : decode cX8_uncaught 9 = .ok (.iconst 3, 1) := zdec_at bX8_uncaught_0 5 rfl
theorem dX8_uncaught_10 : decode cX8_uncaught 10 = .ok (.if_icmp .ne 19, 3) := zdec_at bX8_uncaught_0 6 rfl
theorem dX8_uncaught_13 : decode cX8_uncaught 13 = .ok (.aload_n 0, 1) := zdec_at bX8_uncaught_0 7 rfl
theorem dX8_uncaught_14 : decode cX8_uncaught 14 = .ok (.aload_n 0, 1) := zdec_at bX8_uncaught_0 8 rfl
theorem dX8_uncaught_15 : decode cX8_uncaught 15 = .ok (.getfield 891, 3) := zdec_at bX8_uncaught_0 9 rfl
theorem dX8_uncaught_18 : decode cX8_uncaught 18 = .ok (.aload_n 0, 1) := zdec_at bX8_uncaught_0 10 rfl
theorem dX8_uncaught_19 : decode cX8_uncaught 19 = .ok (.getfield 894, 3) := zdec_at bX8_uncaught_0 11 rfl
theorem dX8_uncaught_22 : decode cX8_uncaught 22 = .ok (.iload_n 1, 1) := zdec_at bX8_uncaught_0 12 rfl
theorem dX8_uncaught_23 : decode cX8_uncaught 23 = .ok (.invokevirtual 1037, 3) := zdec_at bX8_uncaught_0 13 rfl
theorem dX8_uncaught_26 : decode cX8_uncaught 26 = .ok (.goto 4, 3) := zdec_at bX8_uncaught_0 14 rfl
theorem dX8_uncaught_29 : decode cX8_uncaught 29 = .ok (.iconst (-1), 1) := zdec_at bX8_uncaught_0 15 rfl
theorem bX8_uncaught_30 : zdec cX8_uncaught 30 [(30, .ireturn, 1)] = true := by decide +kernel
theorem dX8_uncaught_30 : decode cX8_uncaught 30 = .ok (.ireturn, 1) := zdec_at bX8_uncaught_30 0 rfl
theorem sX8_uncaught_0 {E : zE} {d : Nat} {Q : zO → zM → Prop} (M : zM) (l1 : Int32) (k : if (gi M 97 73) = (3 : Int32) then (Zm E YX8_told d (si M 97 0 (0 : Int32)) (zargs 0 [vr (some (97, 1, 0)), vi (gi M 97 109), vi (gi M 97 110), vi l1]) 0 [] (zma E YX8_uncaught (d + 1) [] 23 3 [] Q)) else (Q (.inl (some (vi (-1 : Int32)))) (si M 97 0 (0 : Int32)))) : Zm E YX8_uncaught (d + 1) M [(0, vr (some (97, 1, 0))), (1, vi l1)] 0 [] Q := by
  refine Zm.l (fun _ _ k_ => z_aload_n dX8_uncaught_0 rfl rfl k_) ?_
  refine Zm.l (fun _ _ k_ => z_iconst (v := 0) dX8_uncaught_1 rfl k_) ?_
  refine zm_puti (by decide) (by decide) dX8_uncaught_2 (zfwN.w fwX8_289_1) rfl ⟨rfl, rfl⟩ ?_
  refine Zm.l (fun _ _ k_ => z_aload_n dX8_uncaught_5 rfl rfl k_) ?_
  refine zm_geti dX8_uncaught_6 fsX8_773_1 (by decide) (by decide) ?_
  refine Zm.l (fun _ _ k_ => z_iconst (v := 3) dX8_uncaught_9 rfl k_) ?_
  refine Zm.brn (fun _ _ k1_ k2_ => z_icmp_ne (tgt := 29) dX8_uncaught_10 rfl k1_ k2_) (fun h_ => ?_) (fun h_ => ?_)
  · have k := zif h_ k
    refine Zm.l (fun _ _ k_ => z_iconst (v := -1) dX8_uncaught_29 rfl k_) ?_
    exact zm_iret dX8_uncaught_30 rfl rfl k
  · have k := zit h_ k
    refine Zm.l (fun _ _ k_ => z_aload_n dX8_uncaught_13 rfl rfl k_) ?_
    refine Zm.l (fun _ _ k_ => z_aload_n dX8_uncaught_14 rfl rfl k_) ?_
    refine zm_geti dX8_uncaught_15 fsX8_891_1 (by decide) (by decide) ?_
    refine Zm.l (fun _ _ k_ => z_aload_n dX8_uncaught_18 rfl rfl k_) ?_
    refine zm_geti dX8_uncaught_19 fsX8_894_1 (by decide) (by decide) ?_
    refine Zm.l (fun _ _ k_ => z_iload_n dX8_uncaught_22 rfl rfl k_) ?_
    refine Zm.pick [] rfl ?_
    exact zm_callV (as := [vi (gi M 97 109), vi (gi M 97 110), vi l1]) (st := []) dX8_uncaught_23 vsX8_1037_1 (Nat.le_refl _) (Nat.le_of_ble_eq_true rfl) (Nat.le_of_ble_eq_true rfl) rfl k
theorem sX8_uncaught_26 {E : zE} {d : Nat} {Q : zO → zM → Prop} (M : zM) (s0 : Int32) (k : Q (.inl (some (vi s0))) M) : Zm E YX8_uncaught (d + 1) M [] 26 [vi s0] Q := by
  refine Zm.l (fun _ _ k_ => z_goto (tgt := 30) dX8_uncaught_26 rfl k_) ?_
  exact zm_iret dX8_uncaught_30 rfl rfl k
/-! ScriptTypesModel.solve()I -/
theorem bX8_solve_0 : zdec cX8_solve 0 [(0, .aload_n 0, 1), (1, .aload_n 0, 1), (2, .getfield 770, 3), (5, .ifCond .eq 7, 3), (8, .iconst 0, 1), (9, .goto 4, 3), (12, .iconst 1, 1), (13, .putfield 289, 3), (16, .aload_n 0, 1), (17, .getfield 289, 3), (20, .ifCond .le 5, 3), (23, .iconst 0, 1), (24, .ireturn, 1), (25, .aload_n 0, 1), (26, .getfield 776, 3), (29, .ifCond .eq 8, 3)] = true := by decide +kernel
theorem dX8_solve_0 : decode cX8_solve 0 = .ok (.aload_n 0, 1) := zdec_at bX8_solve_0 0 rfl
theorem dX8_solve_1 : decode cX8_solve 1 = .ok (.aload_n 0, 1) := zdec_at bX8_solve_0 1 rfl
theorem dX8_solve_2 : decode cX8_solve 2 = .ok (.getfield 770, 3) := zdec_at bX8_solve_0 2 rfl
theorem dX8_solve_5 : decode cX8_solve 5 = .ok (.ifCond .eq 7, 3) := zdec_at bX8_solve_0 3 rfl
theorem dX8_solve_8 : decode cX8_solve 8 = .ok (.iconst 0, 1) := zdec_at bX8_solve_0 4 rfl
theorem dX8_solve_9 : decode cX8_solve 9 = .ok (.goto 4, 3) := zdec_at bX8_solve_0 5 rfl
theorem dX8_solve_12 : decode cX8_solve 12 = .ok (.iconst 1, 1) := zdec_at bX8_solve_0 6 rfl
theorem dX8_solve_13 : decode cX8_solve 13 = .ok (.putfield 289, 3) := zdec_at bX8_solve_0 7 rfl
theorem dX8_solve_16 : decode cX8_solve 16 = .ok (.aload_n 0, 1) := zdec_at bX8_solve_0 8 rfl
theorem dX8_solve_17 : decode cX8_solve 17 = .ok (.getfield 289, 3) := zdec_at bX8_solve_0 9 rfl
theorem dX8_solve_20 : decode cX8_solve 20 = .ok (.ifCond .le 5, 3) := zdec_at bX8_solve_0 10 rfl
theorem dX8_solve_23 : decode cX8_solve 23 = .ok (.iconst 0, 1) := zdec_at bX8_solve_0 11 rfl
theorem dX8_solve_24 : decode cX8_solve 24 = .ok (.ireturn, 1) := zdec_at bX8_solve_0 12 rfl
theorem dX8_solve_25 : decode cX8_solve 25 = .ok (.aload_n 0, 1) := zdec_at bX8_solve_0 13 rfl
theorem dX8_solve_26 : decode cX8_solve 26 = .ok (.getfield 776, 3) := zdec_at bX8_solve_0 14 rfl
theorem dX8_solve_29 : decode cX8_solve 29 = .ok (.ifCond .eq 8, 3) := zdec_at bX8_solve_0 15 rfl
theorem bX8_solve_32 : zdec cX8_solve 32 [(32, .aload_n 0, 1), (33, .getfield 1034, 3), (36, .ireturn, 1), (37, .aload_n 0, 1), (38, .invokevirtual 1373, 3), (41, .aload_n 0, 1), (42, .aload_n 0, 1), (43, .getfield 606, 3), (46, .iconst 2, 1), (47, .aload_n 0, 1), (48, .getfield 527, 3), (51, .imul, 1), (52, .iadd, 1), (53, .putfield 1376, 3), (56, .iconst 0, 1), (57, .istore_n 1, 1)] = true := by decide +kernel
theorem dX8_solve_32 : decode cX8_solve 32 = .ok (.aload_n 0, 1) := zdec_at bX8_solve_32 0 rfl
theorem dX8_solve_33 : decode cX8_solve 33 = .ok (.getfield 1034, 3) := zdec_at bX8_solve_32 1 rfl
theorem dX8_solve_36 : decode cX8_solve 36 = .ok (.ireturn, 1) := zdec_at bX8_solve_32 2 rfl
theorem dX8_solve_37 : decode cX8_solve 37 = .ok (.aload_n 0, 1) := zdec_at bX8_solve_32 3 rfl
theorem dX8_solve_38 : decode cX8_solve 38 = .ok (.invokevirtual 1373, 3) := zdec_at bX8_solve_32 4 rfl
theorem dX8_solve_41 : decode cX8_solve 41 = .ok (.aload_n 0, 1) := zdec_at bX8_solve_32 5 rfl
theorem dX8_solve_42 : decode cX8_solve 42 = .ok (.aload_n 0, 1) := zdec_at bX8_solve_32 6 rfl
theorem dX8_solve_43 : decode cX8_solve 43 = .ok (.getfield 606, 3) := zdec_at bX8_solve_32 7 rfl
theorem dX8_solve_46 : decode cX8_solve 46 = .ok (.iconst 2, 1) := zdec_at bX8_solve_32 8 rfl
theorem dX8_solve_47 : decode cX8_solve 47 = .ok (.aload_n 0, 1) := zdec_at bX8_solve_32 9 rfl
theorem dX8_solve_48 : decode cX8_solve 48 = .ok (.getfield 527, 3) := zdec_at bX8_solve_32 10 rfl
theorem dX8_solve_51 : decode cX8_solve 51 = .ok (.imul, 1) := zdec_at bX8_solve_32 11 rfl
theorem dX8_solve_52 : decode cX8_solve 52 = .ok (.iadd, 1) := zdec_at bX8_solve_32 12 rfl
theorem dX8_solve_53 : decode cX8_solve 53 = .ok (.putfield 1376, 3) := zdec_at bX8_solve_32 13 rfl
theorem dX8_solve_56 : decode cX8_solve 56 = .ok (.iconst 0, 1) := zdec_at bX8_solve_32 14 rfl
theorem dX8_solve_57 : decode cX8_solve 57 = .ok (.istore_n 1, 1) := zdec_at bX8_solve_32 15 rfl
theorem bX8_solve_58 : zdec cX8_solve 58 [(58, .iload_n 1, 1), (59, .aload_n 0, 1), (60, .getfield 1376, 3), (63, .if_icmp .ge 23, 3), (66, .aload_n 0, 1), (67, .getfield 226, 3), (70, .iload_n 1, 1), (71, .iconst 0, 1), (72, .bastore, 1), (73, .aload_n 0, 1), (74, .getfield 229, 3), (77, .iload_n 1, 1), (78, .iconst 0, 1), (79, .bastore, 1), (80, .iinc 1 1, 3), (83, .goto (-25), 3)] = true := by decide +kernel
theorem dX8_solve_58 : decode cX8_solve 58 = .ok (.iload_n 1, 1) := zdec_at bX8_solve_58 0 rfl
theorem dX8_solve_59 : decode cX8_solve 59 = .ok (.aload_n 0, 1) := zdec_at bX8_solve_58 1 rfl
theorem dX8_solve_60 : decode cX8_solve 60 = .ok (.getfield 1376, 3) := zdec_at bX8_solve_58 2 rfl
theorem dX8_solve_63 : decode cX8_solve 63 = .ok (.if_icmp .ge 23, 3) := zdec_at bX8_solve_58 3 rfl
theorem dX8_solve_66 : decode cX8_solve 66 = .ok (.aload_n 0, 1) := zdec_at bX8_solve_58 4 rfl
theorem dX8_solve_67 : decode cX8_solve 67 = .ok (.getfield 226, 3) := zdec_at bX8_solve_58 5 rfl
theorem dX8_solve_70 : decode cX8_solve 70 = .ok (.iload_n 1, 1) := zdec_at bX8_solve_58 6 rfl
theorem dX8_solve_71 : decode cX8_solve 71 = .ok (.iconst 0, 1) := zdec_at bX8_solve_58 7 rfl
theorem dX8_solve_72 : decode cX8_solve 72 = .ok (.bastore, 1) := zdec_at bX8_solve_58 8 rfl
theorem dX8_solve_73 : decode cX8_solve 73 = .ok (.aload_n 0, 1) := zdec_at bX8_solve_58 9 rfl
theorem dX8_solve_74 : decode cX8_solve 74 = .ok (.getfield 229, 3) := zdec_at bX8_solve_58 10 rfl
theorem dX8_solve_77 : decode cX8_solve 77 = .ok (.iload_n 1, 1) := zdec_at bX8_solve_58 11 rfl
theorem dX8_solve_78 : decode cX8_solve 78 = .ok (.iconst 0, 1) := zdec_at bX8_solve_58 12 rfl
theorem dX8_solve_79 : decode cX8_solve 79 = .ok (.bastore, 1) := zdec_at bX8_solve_58 13 rfl
theorem dX8_solve_80 : decode cX8_solve 80 = .ok (.iinc 1 1, 3) := zdec_at bX8_solve_58 14 rfl
theorem dX8_solve_83 : decode cX8_solve 83 = .ok (.goto (-25), 3) := zdec_at bX8_solve_58 15 rfl
theorem bX8_solve_86 : zdec cX8_solve 86 [(86, .aload_n 0, 1), (87, .ldc_w 1379, 3), (90, .putfield 1107, 3), (93, .aload_n 0, 1), (94, .getfield 238, 3), (97, .sipush 639, 3), (100, .ldc_w 1380, 3), (103, .iastore, 1), (104, .aload_n 0, 1), (105, .invokevirtual 1381, 3), (108, .aload_n 0, 1), (109, .iconst 0, 1), (110, .invokevirtual 1191, 3), (113, .iconst 1, 1), (114, .istore_n 1, 1), (115, .iload_n 1, 1)] = true := by decide +kernel
theorem dX8_solve_86 : decode cX8_solve 86 = .ok (.aload_n 0, 1) := zdec_at bX8_solve_86 0 rfl
theorem dX8_solve_87 : decode cX8_solve 87 = .ok (.ldc_w 1379, 3) := zdec_at bX8_solve_86 1 rfl
theorem dX8_solve_90 : decode cX8_solve 90 = .ok (.putfield 1107, 3) := zdec_at bX8_solve_86 2 rfl
theorem dX8_solve_93 : decode cX8_solve 93 = .ok (.aload_n 0, 1) := zdec_at bX8_solve_86 3 rfl
theorem dX8_solve_94 : decode cX8_solve 94 = .ok (.getfield 238, 3) := zdec_at bX8_solve_86 4 rfl
theorem dX8_solve_97 : decode cX8_solve 97 = .ok (.sipush 639, 3) := zdec_at bX8_solve_86 5 rfl
theorem dX8_solve_100 : decode cX8_solve 100 = .ok (.ldc_w 1380, 3) := zdec_at bX8_solve_86 6 rfl
theorem dX8_solve_103 : decode cX8_solve 103 = .ok (.iastore, 1) := zdec_at bX8_solve_86 7 rfl
theorem dX8_solve_104 : decode cX8_solve 104 = .ok (.aload_n 0, 1) := zdec_at bX8_solve_86 8 rfl
theorem dX8_solve_105 : decode cX8_solve 105 = .ok (.invokevirtual 1381, 3) := zdec_at bX8_solve_86 9 rfl
theorem dX8_solve_108 : decode cX8_solve 108 = .ok (.aload_n 0, 1) := zdec_at bX8_solve_86 10 rfl
theorem dX8_solve_109 : decode cX8_solve 109 = .ok (.iconst 0, 1) := zdec_at bX8_solve_86 11 rfl
theorem dX8_solve_110 : decode cX8_solve 110 = .ok (.invokevirtual 1191, 3) := zdec_at bX8_solve_86 12 rfl
theorem dX8_solve_113 : decode cX8_solve 113 = .ok (.iconst 1, 1) := zdec_at bX8_solve_86 13 rfl
theorem dX8_solve_114 : decode cX8_solve 114 = .ok (.istore_n 1, 1) := zdec_at bX8_solve_86 14 rfl
theorem dX8_solve_115 : decode cX8_solve 115 = .ok (.iload_n 1, 1) := zdec_at bX8_solve_86 15 rfl
theorem bX8_solve_116 : zdec cX8_solve 116 [(116, .ifCond .eq 50, 3), (119, .iconst 0, 1), (120, .istore_n 1, 1), (121, .iconst 0, 1), (122, .istore_n 2, 1), (123, .iload_n 2, 1), (124, .aload_n 0, 1), (125, .getfield 606, 3), (128, .if_icmp .ge 35, 3), (131, .aload_n 0, 1), (132, .getfield 229, 3), (135, .iload_n 2, 1), (136, .baload, 1), (137, .ifCond .ne 6, 3), (140, .goto 17, 3), (143, .aload_n 0, 1)] = true := by decide +kernel
theorem dX8_solve_116 : decode cX8_solve 116 = .ok (.ifCond .eq 50, 3) := zdec_at bX8_solve_116 0 rfl
theorem dX8_solve_119 : decode cX8_solve 119 = .ok (.iconst 0, 1) := zdec_at bX8_solve_116 1 rfl
theorem dX8_solve_120 : decode cX8_solve 120 = .ok (.istore_n 1, 1) := zdec_at bX8_solve_116 2 rfl
theorem dX8_solve_121 : decode cX8_solve 121 = .ok (.iconst 0, 1) := zdec_at bX8_solve_116 3 rfl
theorem dX8_solve_122 : decode cX8_solve 122 = .ok (.istore_n 2, 1) := zdec_at bX8_solve_116 4 rfl
theorem dX8_solve_123 : decode cX8_solve 123 = .ok (.iload_n 2, 1) := zdec_at bX8_solve_116 5 rfl
theorem dX8_solve_124 : decode cX8_solve 124 = .ok (.aload_n 0, 1) := zdec_at bX8_solve_116 6 rfl
theorem dX8_solve_125 : decode cX8_solve 125 = .ok (.getfield 606, 3) := zdec_at bX8_solve_116 7 rfl
theorem dX8_solve_128 : decode cX8_solve 128 = .ok (.if_icmp .ge 35, 3) := zdec_at bX8_solve_116 8 rfl
theorem dX8_solve_131 : decode cX8_solve 131 = .ok (.aload_n 0, 1) := zdec_at bX8_solve_116 9 rfl
theorem dX8_solve_132 : decode cX8_solve 132 = .ok (.getfield 229, 3) := zdec_at bX8_solve_116 10 rfl
theorem dX8_solve_135 : decode cX8_solve 135 = .ok (.iload_n 2, 1) := zdec_at bX8_solve_116 11 rfl
theorem dX8_solve_136 : decode cX8_solve 136 = .ok (.baload, 1) := zdec_at bX8_solve_116 12 rfl
theorem dX8_solve_137 : decode cX8_solve 137 = .ok (.ifCond .ne 6, 3) := zdec_at bX8_solve_116 13 rfl
theorem dX8_solve_140 : decode cX8_solve 140 = .ok (.goto 17, 3) := zdec_at bX8_solve_116 14 rfl
theorem dX8_solve_143 : decode cX8_solve 143 = .ok (.aload_n 0, 1) := zdec_at bX8_solve_116 15 rfl
theorem bX8_solve_144 : zdec cX8_solve 144 [(144, .getfield 229, 3), (147, .iload_n 2, 1), (148, .iconst 0, 1), (149, .bastore, 1), (150, .iconst 1, 1), (151, .istore_n 1, 1), (152, .aload_n 0, 1), (153, .iload_n 2, 1), (154, .invokevirtual 1384, 3), (157, .iinc 2 1, 3), (160, .goto (-37), 3), (163, .goto (-48), 3), (166, .aload_n 0, 1), (167, .iconst 0, 1), (168, .putfield 1034, 3), (171, .iconst 0, 1)] = true := by decide +kernel
theorem dX8_solve_144 : decode cX8_solve 144 = .ok (.getfield 229, 3) := zdec_at bX8_solve_144 0 rfl
theorem dX8_solve_147 : decode cX8_solve 147 = .ok (.iload_n 2, 1) := zdec_at bX8_solve_144 1 rfl
theorem dX8_solve_148 : decode cX8_solve 148 = .ok (.iconst 0, 1) := zdec_at bX8_solve_144 2 rfl
theorem dX8_solve_149 : decode cX8_solve 149 = .ok (.bastore, 1) := zdec_at bX8_solve_144 3 rfl
theorem dX8_solve_150 : decode cX8_solve 150 = .ok (.iconst 1, 1) := zdec_at bX8_solve_144 4 rfl
theorem dX8_solve_151 : decode cX8_solve 151 = .ok (.istore_n 1, 1) := zdec_at bX8_solve_144 5 rfl
theorem dX8_solve_152 : decode cX8_solve 152 = .ok (.aload_n 0, 1) := zdec_at bX8_solve_144 6 rfl
theorem dX8_solve_153 : decode cX8_solve 153 = .ok (.iload_n 2, 1) := zdec_at bX8_solve_144 7 rfl
theorem dX8_solve_154 : decode cX8_solve 154 = .ok (.invokevirtual 1384, 3) := zdec_at bX8_solve_144 8 rfl
theorem dX8_solve_157 : decode cX8_solve 157 = .ok (.iinc 2 1, 3) := zdec_at bX8_solve_144 9 rfl
theorem dX8_solve_160 : decode cX8_solve 160 = .ok (.goto (-37), 3) := zdec_at bX8_solve_144 10 rfl
theorem dX8_solve_163 : decode cX8_solve 163 = .ok (.goto (-48), 3) := zdec_at bX8_solve_144 11 rfl
theorem dX8_solve_166 : decode cX8_solve 166 = .ok (.aload_n 0, 1) := zdec_at bX8_solve_144 12 rfl
theorem dX8_solve_167 : decode cX8_solve 167 = .ok (.iconst 0, 1) := zdec_at bX8_solve_144 13 rfl
theorem dX8_solve_168 : decode cX8_solve 168 = .ok (.putfield 1034, 3) := zdec_at bX8_solve_144 14 rfl
theorem dX8_solve_171 : decode cX8_solve 171 = .ok (.iconst 0, 1) := zdec_at bX8_solve_144 15 rfl
theorem bX8_solve_172 : zdec cX8_solve 172 [(172, .istore_n 2, 1), (173, .iload_n 2, 1), (174, .aload_n 0, 1), (175, .getfield 606, 3), (178, .if_icmp .ge 32, 3), (181, .aload_n 0, 1), (182, .dup, 1), (183, .getfield 1034, 3), (186, .aload_n 0, 1), (187, .getfield 226, 3), (190, .iload_n 2, 1), (191, .baload, 1), (192, .ifCond .eq 7, 3), (195, .iconst 1, 1), (196, .goto 4, 3), (199, .iconst 0, 1)] = true := by decide +kernel
theorem dX8_solve_172 : decode cX8_solve 172 = .ok (.istore_n 2, 1) := zdec_at bX8_solve_172 0 rfl
theorem dX8_solve_173 : decode cX8_solve 173 = .ok (.iload_n 2, 1) := zdec_at bX8_solve_172 1 rfl
theorem dX8_solve_174 : decode cX8_solve 174 = .ok (.aload_n 0, 1) := zdec_at bX8_solve_172 2 rfl
theorem dX8_solve_175 : decode cX8_solve 175 = .ok (.getfield 606, 3) := zdec_at bX8_solve_172 3 rfl
theorem dX8_solve_178 : decode cX8_solve 178 = .ok (.if_icmp .ge 32, 3) := zdec_at bX8_solve_172 4 rfl
theorem dX8_solve_181 : decode cX8_solve 181 = .ok (.aload_n 0, 1) := zdec_at bX8_solve_172 5 rfl
theorem dX8_solve_182 : decode cX8_solve 182 = .ok (.dup, 1) := zdec_at bX8_solve_172 6 rfl
theorem dX8_solve_183 : decode cX8_solve 183 = .ok (.getfield 1034, 3) := zdec_at bX8_solve_172 7 rfl
theorem dX8_solve_186 : decode cX8_solve 186 = .ok (.aload_n 0, 1) := zdec_at bX8_solve_172 8 rfl
theorem dX8_solve_187 : decode cX8_solve 187 = .ok (.getfield 226, 3) := zdec_at bX8_solve_172 9 rfl
theorem dX8_solve_190 : decode cX8_solve 190 = .ok (.iload_n 2, 1) := zdec_at bX8_solve_172 10 rfl
theorem dX8_solve_191 : decode cX8_solve 191 = .ok (.baload, 1) := zdec_at bX8_solve_172 11 rfl
theorem dX8_solve_192 : decode cX8_solve 192 = .ok (.ifCond .eq 7, 3) := zdec_at bX8_solve_172 12 rfl
theorem dX8_solve_195 : decode cX8_solve 195 = .ok (.iconst 1, 1) := zdec_at bX8_solve_172 13 rfl
theorem dX8_solve_196 : decode cX8_solve 196 = .ok (.goto 4, 3) := zdec_at bX8_solve_172 14 rfl
theorem dX8_solve_199 : decode cX8_solve 199 = .ok (.iconst 0, 1) := zdec_at bX8_solve_172 15 rfl
theorem bX8_solve_200 : zdec cX8_solve 200 [(200, .iadd, 1), (201, .putfield 1034, 3), (204, .iinc 2 1, 3), (207, .goto (-34), 3), (210, .aload_n 0, 1), (211, .iconst 1, 1), (212, .putfield 776, 3), (215, .aload_n 0, 1), (216, .getfield 1034, 3), (219, .ireturn, 1)] = true := by decide +kernel
theorem dX8_solve_200 : decode cX8_solve 200 = .ok (.iadd, 1) := zdec_at bX8_solve_200 0 rfl
theorem dX8_solve_201 : decode cX8_solve 201 = .ok (.putfield 1034, 3) := zdec_at bX8_solve_200 1 rfl
theorem dX8_solve_204 : decode cX8_solve 204 = .ok (.iinc 2 1, 3) := zdec_at bX8_solve_200 2 rfl
theorem dX8_solve_207 : decode cX8_solve 207 = .ok (.goto (-34), 3) := zdec_at bX8_solve_200 3 rfl
theorem dX8_solve_210 : decode cX8_solve 210 = .ok (.aload_n 0, 1) := zdec_at bX8_solve_200 4 rfl
theorem dX8_solve_211 : decode cX8_solve 211 = .ok (.iconst 1, 1) := zdec_at bX8_solve_200 5 rfl
theorem dX8_solve_212 : decode cX8_solve 212 = .ok (.putfield 776, 3) := zdec_at bX8_solve_200 6 rfl
theorem dX8_solve_215 : decode cX8_solve 215 = .ok (.aload_n 0, 1) := zdec_at bX8_solve_200 7 rfl
theorem dX8_solve_216 : decode cX8_solve 216 = .ok (.getfield 1034, 3) := zdec_at bX8_solve_200 8 rfl
theorem dX8_solve_219 : decode cX8_solve 219 = .ok (.ireturn, 1) := zdec_at bX8_solve_200 9 rfl
theorem sX8_solve_0 {E : zE} {d : Nat} {Q : zO → zM → Prop} (M : zM)  (k : if (gi M 97 72) = 0 then (Zm E YX8_solve (d + 1) M [(0, vr (some (97, 1, 0)))] 13 [vi (1 : Int32), vr (some (97, 1, 0))] Q) else (Zm E YX8_solve (d + 1) M [(0, vr (some (97, 1, 0)))] 13 [vi (0 : Int32), vr (some (97, 1, 0))] Q)) : Zm E YX8_solve (d + 1) M [(0, vr (some (97, 1, 0)))] 0 [] Q := by
  refine Zm.l (fun _ _ k_ => z_aload_n dX8_solve_0 rfl rfl k_) ?_
  refine Zm.l (fun _ _ k_ => z_aload_n dX8_solve_1 rfl rfl k_) ?_
  refine zm_geti dX8_solve_2 fsX8_770_1 (by decide) (by decide) ?_
  refine Zm.br (fun _ _ k1_ k2_ => z_if_eq (tgt := 12) dX8_solve_5 rfl k1_ k2_) (fun h_ => ?_) (fun h_ => ?_)
  · have k := zit h_ k
    refine Zm.l (fun _ _ k_ => z_iconst (v := 1) dX8_solve_12 rfl k_) ?_
    exact k
  · have k := zif h_ k
    refine Zm.l (fun _ _ k_ => z_iconst (v := 0) dX8_solve_8 rfl k_) ?_
    refine Zm.l (fun _ _ k_ => z_goto (tgt := 13) dX8_solve_9 rfl k_) ?_
    exact k
theorem sX8_solve_13 {E : zE} {d : Nat} {Q : zO → zM → Prop} (M : zM) (s0 : Int32) (k : if s0 ≤ 0 then (if (gi M 97 119) = 0 then (Zm E YX8_findSorts d (si M 97 0 s0) (zargs 0 [vr (some (97, 1, 0))]) 0 [] (zma E YX8_solve (d + 1) [(0, vr (some (97, 1, 0)))] 38 3 [] Q)) else (Q (.inl (some (vi (gi M 97 120)))) (si M 97 0 s0))) else (Q (.inl (some (vi (0 : Int32)))) (si M 97 0 s0))) : Zm E YX8_solve (d + 1) M [(0, vr (some (97, 1, 0)))] 13 [vi s0, vr (some (97, 1, 0))] Q := by
  refine zm_puti (by decide) (by decide) dX8_solve_13 (zfwN.w fwX8_289_1) rfl ⟨rfl, rfl⟩ ?_
  refine Zm.l (fun _ _ k_ => z_aload_n dX8_solve_16 rfl rfl k_) ?_
  refine zm_geti dX8_solve_17 fsX8_289_1 (by decide) (by decide) ?_
  refine Zm.br (fun _ _ k1_ k2_ => z_if_le (tgt := 25) dX8_solve_20 rfl k1_ k2_) (fun h_ => ?_) (fun h_ => ?_)
  · have k := zit h_ k
    refine Zm.l (fun _ _ k_ => z_aload_n dX8_solve_25 rfl rfl k_) ?_
    refine zm_geti dX8_solve_26 fsX8_776_1 (by decide) (by decide) ?_
    refine Zm.br (fun _ _ k1_ k2_ => z_if_eq (tgt := 37) dX8_solve_29 rfl k1_ k2_) (fun h_ => ?_) (fun h_ => ?_)
    · have k := zit h_ k
      refine Zm.l (fun _ _ k_ => z_aload_n dX8_solve_37 rfl rfl k_) ?_
      exact zm_callV (as := []) (st := []) dX8_solve_38 vsX8_1373_1 (Nat.le_refl _) (Nat.le_of_ble_eq_true rfl) (Nat.le_of_ble_eq_true rfl) rfl k
    · have k := zif h_ k
      refine Zm.l (fun _ _ k_ => z_aload_n dX8_solve_32 rfl rfl k_) ?_
      refine zm_geti dX8_solve_33 fsX8_1034_1 (by decide) (by decide) ?_
      exact zm_iret dX8_solve_36 rfl rfl k
  · have k := zif h_ k
    refine Zm.l (fun _ _ k_ => z_iconst (v := 0) dX8_solve_23 rfl k_) ?_
    exact zm_iret dX8_solve_24 rfl rfl k
theorem sX8_solve_41 {E : zE} {d : Nat} {Q : zO → zM → Prop} (M : zM)  (k : Zm E YX8_solve (d + 1) (si M 97 121 ((gi M 97 46) + ((2 : Int32) * (gi M 97 32)))) [(0, vr (some (97, 1, 0))), (1, vi (0 : Int32))] 58 [] Q) : Zm E YX8_solve (d + 1) M [(0, vr (some (97, 1, 0)))] 41 [] Q := by
  refine Zm.l (fun _ _ k_ => z_aload_n dX8_solve_41 rfl rfl k_) ?_
  refine Zm.l (fun _ _ k_ => z_aload_n dX8_solve_42 rfl rfl k_) ?_
  refine zm_geti dX8_solve_43 fsX8_606_1 (by decide) (by decide) ?_
  refine Zm.l (fun _ _ k_ => z_iconst (v := 2) dX8_solve_46 rfl k_) ?_
  refine Zm.l (fun _ _ k_ => z_aload_n dX8_solve_47 rfl rfl k_) ?_
  refine zm_geti dX8_solve_48 fsX8_527_1 (by decide) (by decide) ?_
  refine Zm.l (fun _ _ k_ => z_imul dX8_solve_51 k_) ?_
  refine Zm.l (fun _ _ k_ => z_iadd dX8_solve_52 k_) ?_
  refine zm_puti (by decide) (by decide) dX8_solve_53 (zfwN.w fwX8_1376_1) rfl ⟨rfl, rfl⟩ ?_
  refine Zm.l (fun _ _ k_ => z_iconst (v := 0) dX8_solve_56 rfl k_) ?_
  refine Zm.l (fun _ _ k_ => z_ist_n dX8_solve_57 rfl (by decide) (lv' := [(0, vr (some (97, 1, 0))), (1, vi (0 : Int32))]) rfl k_) ?_
  exact k
theorem sX8_solve_58 {E : zE} {d : Nat} {Q : zO → zM → Prop} (M : zM) (l1 : Int32) (k : if (gi M 97 121) ≤ l1 then (vp_in (639 : Int32) 640 ∧ (Zm E YX8_beginWork d (si (si M 97 127 (465000 : Int32)) 172 ((639 : Int32)).toNatClampNeg (647340 : Int32)) (zargs 0 [vr (some (97, 1, 0))]) 0 [] (zma E YX8_solve (d + 1) [(0, vr (some (97, 1, 0)))] 105 3 [] Q))) else (vp_in l1 640 ∧ (vp_in l1 640 ∧ (Zm E YX8_solve (d + 1) (si (si M 168 (l1).toNatClampNeg (vp_nar .boolean (0 : Int32))) 169 (l1).toNatClampNeg (vp_nar .boolean (0 : Int32))) [(0, vr (some (97, 1, 0))), (1, vi (l1 + (1 : Int32)))] 58 [] Q)))) : Zm E YX8_solve (d + 1) M [(0, vr (some (97, 1, 0))), (1, vi l1)] 58 [] Q := by
  refine Zm.l (fun _ _ k_ => z_iload_n dX8_solve_58 rfl rfl k_) ?_
  refine Zm.l (fun _ _ k_ => z_aload_n dX8_solve_59 rfl rfl k_) ?_
  refine zm_geti dX8_solve_60 fsX8_1376_1 (by decide) (by decide) ?_
  refine Zm.br (fun _ _ k1_ k2_ => z_icmp_ge (tgt := 86) dX8_solve_63 rfl k1_ k2_) (fun h_ => ?_) (fun h_ => ?_)
  · have k := zit h_ k
    refine Zm.l (fun _ _ k_ => z_aload_n dX8_solve_86 rfl rfl k_) ?_
    refine Zm.l (fun _ _ k_ => z_ldcw (v := 465000) dX8_solve_87 q4772 k_) ?_
    refine zm_puti (by decide) (by decide) dX8_solve_90 (zfwN.w fwX8_1107_1) rfl ⟨rfl, rfl⟩ ?_
    refine Zm.l (fun _ _ k_ => z_aload_n dX8_solve_93 rfl rfl k_) ?_
    refine zm_getr 69 dX8_solve_94 fsX8_238_1 rfl ?_
    refine Zm.l (fun _ _ k_ => z_sipush (v := 639) dX8_solve_97 rfl k_) ?_
    refine Zm.l (fun _ _ k_ => z_ldcw (v := 647340) dX8_solve_100 q4773 k_) ?_
    obtain ⟨b_, k⟩ := k
    refine zm_iast dX8_solve_103 b_ (by decide) (by decide) ?_
    refine Zm.l (fun _ _ k_ => z_aload_n dX8_solve_104 rfl rfl k_) ?_
    refine Zm.pick [0] rfl ?_
    exact zm_callV (as := []) (st := []) dX8_solve_105 vsX8_1381_1 (Nat.le_refl _) (Nat.le_of_ble_eq_true rfl) (Nat.le_of_ble_eq_true rfl) rfl k
  · have k := zif h_ k
    refine Zm.l (fun _ _ k_ => z_aload_n dX8_solve_66 rfl rfl k_) ?_
    refine zm_getr 65 dX8_solve_67 fsX8_226_1 rfl ?_
    refine Zm.l (fun _ _ k_ => z_iload_n dX8_solve_70 rfl rfl k_) ?_
    refine Zm.l (fun _ _ k_ => z_iconst (v := 0) dX8_solve_71 rfl k_) ?_
    obtain ⟨b_, k⟩ := k
    refine zm_zast dX8_solve_72 b_ (by decide) (by decide) ?_
    refine Zm.l (fun _ _ k_ => z_aload_n dX8_solve_73 rfl rfl k_) ?_
    refine zm_getr 66 dX8_solve_74 fsX8_229_1 rfl ?_
    refine Zm.l (fun _ _ k_ => z_iload_n dX8_solve_77 rfl rfl k_) ?_
    refine Zm.l (fun _ _ k_ => z_iconst (v := 0) dX8_solve_78 rfl k_) ?_
    obtain ⟨b_, k⟩ := k
    refine zm_zast dX8_solve_79 b_ (by decide) (by decide) ?_
    refine Zm.l (fun _ _ k_ => z_inc (v := (l1 + (1 : Int32))) dX8_solve_80 rfl rfl (by decide) (lv' := [(0, vr (some (97, 1, 0))), (1, vi (l1 + (1 : Int32)))]) rfl k_) ?_
    refine Zm.l (fun _ _ k_ => z_goto (tgt := 58) dX8_solve_83 rfl k_) ?_
    exact k
theorem sX8_solve_108 {E : zE} {d : Nat} {Q : zO → zM → Prop} (M : zM)  (k : Zm E YX8_flow d M (zargs 0 [vr (some (97, 1, 0)), vi (0 : Int32)]) 0 [] (zma E YX8_solve (d + 1) [(0, vr (some (97, 1, 0)))] 110 3 [] Q)) : Zm E YX8_solve (d + 1) M [(0, vr (some (97, 1, 0)))] 108 [] Q := by
  refine Zm.l (fun _ _ k_ => z_aload_n dX8_solve_108 rfl rfl k_) ?_
  refine Zm.l (fun _ _ k_ => z_iconst (v := 0) dX8_solve_109 rfl k_) ?_
  exact zm_callV (as := [vi (0 : Int32)]) (st := []) dX8_solve_110 vsX8_1191_1 (Nat.le_refl _) (Nat.le_of_ble_eq_true rfl) (Nat.le_of_ble_eq_true rfl) rfl k
theorem sX8_solve_113 {E : zE} {d : Nat} {Q : zO → zM → Prop} (M : zM)  (k : Zm E YX8_solve (d + 1) M [(0, vr (some (97, 1, 0))), (1, vi (1 : Int32))] 115 [] Q) : Zm E YX8_solve (d + 1) M [(0, vr (some (97, 1, 0)))] 113 [] Q := by
  refine Zm.l (fun _ _ k_ => z_iconst (v := 1) dX8_solve_113 rfl k_) ?_
  refine Zm.l (fun _ _ k_ => z_ist_n dX8_solve_114 rfl (by decide) (lv' := [(0, vr (some (97, 1, 0))), (1, vi (1 : Int32))]) rfl k_) ?_
  exact k
theorem sX8_solve_115 {E : zE} {d : Nat} {Q : zO → zM → Prop} (M : zM) (l1 : Int32) (k : if l1 = 0 then (Zm E YX8_solve (d + 1) (si M 97 120 (0 : Int32)) [(0, vr (some (97, 1, 0))), (2, vi (0 : Int32))] 173 [] Q) else (Zm E YX8_solve (d + 1) M [(0, vr (some (97, 1, 0))), (1, vi (0 : Int32)), (2, vi (0 : Int32))] 123 [] Q)) : Zm E YX8_solve (d + 1) M [(0, vr (some (97, 1, 0))), (1, vi l1)] 115 [] Q := by
  refine Zm.l (fun _ _ k_ => z_iload_n dX8_solve_115 rfl rfl k_) ?_
  refine Zm.br (fun _ _ k1_ k2_ => z_if_eq (tgt := 166) dX8_solve_116 rfl k1_ k2_) (fun h_ => ?_) (fun h_ => ?_)
  · have k := zit h_ k
    refine Zm.l (fun _ _ k_ => z_aload_n dX8_solve_166 rfl rfl k_) ?_
    refine Zm.l (fun _ _ k_ => z_iconst (v := 0) dX8_solve_167 rfl k_) ?_
    refine zm_puti (by decide) (by decide) dX8_solve_168 (zfwN.w fwX8_1034_1) rfl ⟨rfl, rfl⟩ ?_
    refine Zm.l (fun _ _ k_ => z_iconst (v := 0) dX8_solve_171 rfl k_) ?_
    refine Zm.l (fun _ _ k_ => z_ist_n dX8_solve_172 rfl (by decide) (lv' := [(0, vr (some (97, 1, 0))), (1, vi l1), (2, vi (0 : Int32))]) rfl k_) ?_
    refine Zm.pick [0, 2] rfl ?_
    exact k
  · have k := zif h_ k
    refine Zm.l (fun _ _ k_ => z_iconst (v := 0) dX8_solve_119 rfl k_) ?_
    refine Zm.l (fun _ _ k_ => z_ist_n dX8_solve_120 rfl (by decide) (lv' := [(0, vr (some (97, 1, 0))), (1, vi (0 : Int32))]) rfl k_) ?_
    refine Zm.l (fun _ _ k_ => z_iconst (v := 0) dX8_solve_121 rfl k_) ?_
    refine Zm.l (fun _ _ k_ => z_ist_n dX8_solve_122 rfl (by decide) (lv' := [(0, vr (some (97, 1, 0))), (1, vi (0 : Int32)), (2, vi (0 : Int32))]) rfl k_) ?_
    exact k
theorem sX8_solve_123 {E : zE} {d : Nat} {Q : zO → zM → Prop} (M : zM) (l1 : Int32) (l2 : Int32) (k : if (gi M 97 46) ≤ l2 then (Zm E YX8_solve (d + 1) M [(0, vr (some (97, 1, 0))), (1, vi l1)] 115 [] Q) else (vp_in l2 640 ∧ (if (gi M 169 (l2).toNatClampNeg) = 0 then (Zm E YX8_solve (d + 1) M [(0, vr (some (97, 1, 0))), (1, vi l1), (2, vi l2)] 157 [] Q) else (vp_in l2 640 ∧ (Zm E YX8_ways d (si M 169 (l2).toNatClampNeg (vp_nar .boolean (0 : Int32))) (zargs 0 [vr (some (97, 1, 0)), vi l2]) 0 [] (zma E YX8_solve (d + 1) [(0, vr (some (97, 1, 0))), (1, vi (1 : Int32)), (2, vi l2)] 154 3 [] Q)))))) : Zm E YX8_solve (d + 1) M [(0, vr (some (97, 1, 0))), (1, vi l1), (2, vi l2)] 123 [] Q := by
  refine Zm.l (fun _ _ k_ => z_iload_n dX8_solve_123 rfl rfl k_) ?_
  refine Zm.l (fun _ _ k_ => z_aload_n dX8_solve_124 rfl rfl k_) ?_
  refine zm_geti dX8_solve_125 fsX8_606_1 (by decide) (by decide) ?_
  refine Zm.br (fun _ _ k1_ k2_ => z_icmp_ge (tgt := 163) dX8_solve_128 rfl k1_ k2_) (fun h_ => ?_) (fun h_ => ?_)
  · have k := zit h_ k
    refine Zm.l (fun _ _ k_ => z_goto (tgt := 115) dX8_solve_163 rfl k_) ?_
    refine Zm.pick [0, 1] rfl ?_
    exact k
  · have k := zif h_ k
    refine Zm.l (fun _ _ k_ => z_aload_n dX8_solve_131 rfl rfl k_) ?_
    refine zm_getr 66 dX8_solve_132 fsX8_229_1 rfl ?_
    refine Zm.l (fun _ _ k_ => z_iload_n dX8_solve_135 rfl rfl k_) ?_
    obtain ⟨b_, k⟩ := k
    refine zm_zald dX8_solve_136 b_ (by decide) (by decide) ?_
    refine Zm.brn (fun _ _ k1_ k2_ => z_if_ne (tgt := 143) dX8_solve_137 rfl k1_ k2_) (fun h_ => ?_) (fun h_ => ?_)
    · have k := zif h_ k
      refine Zm.l (fun _ _ k_ => z_aload_n dX8_solve_143 rfl rfl k_) ?_
      refine zm_getr 66 dX8_solve_144 fsX8_229_1 rfl ?_
      refine Zm.l (fun _ _ k_ => z_iload_n dX8_solve_147 rfl rfl k_) ?_
      refine Zm.l (fun _ _ k_ => z_iconst (v := 0) dX8_solve_148 rfl k_) ?_
      obtain ⟨b_, k⟩ := k
      refine zm_zast dX8_solve_149 b_ (by decide) (by decide) ?_
      refine Zm.l (fun _ _ k_ => z_iconst (v := 1) dX8_solve_150 rfl k_) ?_
      refine Zm.l (fun _ _ k_ => z_ist_n dX8_solve_151 rfl (by decide) (lv' := [(0, vr (some (97, 1, 0))), (1, vi (1 : Int32)), (2, vi l2)]) rfl k_) ?_
      refine Zm.l (fun _ _ k_ => z_aload_n dX8_solve_152 rfl rfl k_) ?_
      refine Zm.l (fun _ _ k_ => z_iload_n dX8_solve_153 rfl rfl k_) ?_
      exact zm_callV (as := [vi l2]) (st := []) dX8_solve_154 vsX8_1384_1 (Nat.le_refl _) (Nat.le_of_ble_eq_true rfl) (Nat.le_of_ble_eq_true rfl) rfl k
    · have k := zit h_ k
      refine Zm.l (fun _ _ k_ => z_goto (tgt := 157) dX8_solve_140 rfl k_) ?_
      exact k
theorem sX8_solve_157 {E : zE} {d : Nat} {Q : zO → zM → Prop} (M : zM) (l1 : Int32) (l2 : Int32) (k : Zm E YX8_solve (d + 1) M [(0, vr (some (97, 1, 0))), (1, vi l1), (2, vi (l2 + (1 : Int32)))] 123 [] Q) : Zm E YX8_solve (d + 1) M [(0, vr (some (97, 1, 0))), (1, vi l1), (2, vi l2)] 157 [] Q := by
  refine Zm.l (fun _ _ k_ => z_inc (v := (l2 + (1 : Int32))) dX8_solve_157 rfl rfl (by decide) (lv' := [(0, vr (some (97, 1, 0))), (1, vi l1), (2, vi (l2 + (1 : Int32)))]) rfl k_) ?_
  refine Zm.l (fun _ _ k_ => z_goto (tgt := 123) dX8_solve_160 rfl k_) ?_
  exact k
theorem sX8_solve_173 {E : zE} {d : Nat} {Q : zO → zM → Prop} (M : zM) (l2 : Int32) (k : if (gi M 97 46) ≤ l2 then (Q (.inl (some (vi (gi M 97 120)))) (si M 97 119 (1 : Int32))) else (vp_in l2 640 ∧ (if (gi M 168 (l2).toNatClampNeg) = 0 then (Zm E YX8_solve (d + 1) (si M 97 120 ((gi M 97 120) + (0 : Int32))) [(0, vr (some (97, 1, 0))), (2, vi (l2 + (1 : Int32)))] 173 [] Q) else (Zm E YX8_solve (d + 1) (si M 97 120 ((gi M 97 120) + (1 : Int32))) [(0, vr (some (97, 1, 0))), (2, vi (l2 + (1 : Int32)))] 173 [] Q)))) : Zm E YX8_solve (d + 1) M [(0, vr (some (97, 1, 0))), (2, vi l2)] 173 [] Q := by
  refine Zm.l (fun _ _ k_ => z_iload_n dX8_solve_173 rfl rfl k_) ?_
  refine Zm.l (fun _ _ k_ => z_aload_n dX8_solve_174 rfl rfl k_) ?_
  refine zm_geti dX8_solve_175 fsX8_606_1 (by decide) (by decide) ?_
  refine Zm.br (fun _ _ k1_ k2_ => z_icmp_ge (tgt := 210) dX8_solve_178 rfl k1_ k2_) (fun h_ => ?_) (fun h_ => ?_)
  · have k := zit h_ k
    refine Zm.l (fun _ _ k_ => z_aload_n dX8_solve_210 rfl rfl k_) ?_
    refine Zm.l (fun _ _ k_ => z_iconst (v := 1) dX8_solve_211 rfl k_) ?_
    refine zm_puti (by decide) (by decide) dX8_solve_212 (zfwN.w fwX8_776_1) rfl ⟨by decide, by decide⟩ ?_
    refine Zm.l (fun _ _ k_ => z_aload_n dX8_solve_215 rfl rfl k_) ?_
    refine zm_geti dX8_solve_216 fsX8_1034_1 (by decide) (by decide) ?_
    exact zm_iret dX8_solve_219 rfl rfl k
  · have k := zif h_ k
    refine Zm.l (fun _ _ k_ => z_aload_n dX8_solve_181 rfl rfl k_) ?_
    refine Zm.l (fun _ _ k_ => z_dup dX8_solve_182 rfl k_) ?_
    refine zm_geti dX8_solve_183 fsX8_1034_1 (by decide) (by decide) ?_
    refine Zm.l (fun _ _ k_ => z_aload_n dX8_solve_186 rfl rfl k_) ?_
    refine zm_getr 65 dX8_solve_187 fsX8_226_1 rfl ?_
    refine Zm.l (fun _ _ k_ => z_iload_n dX8_solve_190 rfl rfl k_) ?_
    obtain ⟨b_, k⟩ := k
    refine zm_zald dX8_solve_191 b_ (by decide) (by decide) ?_
    refine Zm.br (fun _ _ k1_ k2_ => z_if_eq (tgt := 199) dX8_solve_192 rfl k1_ k2_) (fun h_ => ?_) (fun h_ => ?_)
    · have k := zit h_ k
      refine Zm.l (fun _ _ k_ => z_iconst (v := 0) dX8_solve_199 rfl k_) ?_
      refine Zm.l (fun _ _ k_ => z_iadd dX8_solve_200 k_) ?_
      refine zm_puti (by decide) (by decide) dX8_solve_201 (zfwN.w fwX8_1034_1) rfl ⟨rfl, rfl⟩ ?_
      refine Zm.l (fun _ _ k_ => z_inc (v := (l2 + (1 : Int32))) dX8_solve_204 rfl rfl (by decide) (lv' := [(0, vr (some (97, 1, 0))), (2, vi (l2 + (1 : Int32)))]) rfl k_) ?_
      refine Zm.l (fun _ _ k_ => z_goto (tgt := 173) dX8_solve_207 rfl k_) ?_
      exact k
    · have k := zif h_ k
      refine Zm.l (fun _ _ k_ => z_iconst (v := 1) dX8_solve_195 rfl k_) ?_
      refine Zm.l (fun _ _ k_ => z_goto (tgt := 200) dX8_solve_196 rfl k_) ?_
      refine Zm.l (fun _ _ k_ => z_iadd dX8_solve_200 k_) ?_
      refine zm_puti (by decide) (by decide) dX8_solve_201 (zfwN.w fwX8_1034_1) rfl ⟨rfl, rfl⟩ ?_
      refine Zm.l (fun _ _ k_ => z_inc (v := (l2 + (1 : Int32))) dX8_solve_204 rfl rfl (by decide) (lv' := [(0, vr (some (97, 1, 0))), (2, vi (l2 + (1 : Int32)))]) rfl k_) ?_
      refine Zm.l (fun _ _ k_ => z_goto (tgt := 173) dX8_solve_207 rfl k_) ?_
      exact k
/-! ScriptTypesModel.findSorts()V -/
theorem bX8_findSorts_0 : zdec cX8_findSorts 0 [(0, .iconst 0, 1), (1, .istore_n 1, 1), (2, .iload_n 1, 1), (3, .aload_n 0, 1), (4, .getfield 762, 3), (7, .if_icmp .ge 174, 3), (10, .aload_n 0, 1), (11, .getfield 277, 3), (14, .iload_n 1, 1), (15, .aload_n 0, 1), (16, .iload_n 1, 1), (17, .invokevirtual 975, 3), (20, .iconst (-1), 1), (21, .if_icmp .eq 7, 3), (24, .iconst 1, 1), (25, .goto 4, 3)] = true := by decide +kernel
theorem dX8_findSorts_0 : decode cX8_findSorts 0 = .ok (.iconst 0, 1) := zdec_at bX8_findSorts_0 0 rfl
theorem dX8_findSorts_1 : decode cX8_findSorts 1 = .ok (.istore_n 1, 1) := zdec_at bX8_findSorts_0 1 rfl
theorem dX8_findSorts_2 : decode cX8_findSorts 2 = .ok (.iload_n 1, 1) := zdec_at bX8_findSorts_0 2 rfl
theorem dX8_findSorts_3 : decode cX8_findSorts 3 = .ok (.aload_n 0, 1) := zdec_at bX8_findSorts_0 3 rfl
theorem dX8_findSorts_4 : decode cX8_findSorts 4 = .ok (.getfield 762, 3) := zdec_at bX8_findSorts_0 4 rfl
theorem dX8_findSorts_7 : decode cX8_findSorts 7 = .ok (.if_icmp .ge 174, 3) := zdec_at bX8_findSorts_0 5 rfl
theorem dX8_findSorts_10 : decode cX8_findSorts 10 = .ok (.aload_n 0, 1) := zdec_at bX8_findSorts_0 6 rfl
theorem dX8_findSorts_11 : decode cX8_findSorts 11 = .ok (.getfield 277, 3) := zdec_at bX8_findSorts_0 7 rfl
theorem dX8_findSorts_14 : decode cX8_findSorts 14 = .ok (.iload_n 1, 1) := zdec_at bX8_findSorts_0 8 rfl
theorem dX8_findSorts_15 : decode cX8_findSorts 15 = .ok (.aload_n 0, 1) := zdec_at bX8_findSorts_0 9 rfl
theorem dX8_findSorts_16 : decode cX8_findSorts 16 = .ok (.iload_n 1, 1) := zdec_at bX8_findSorts_0 10 rfl
theorem dX8_findSorts_17 : decode cX8_findSorts 17 = .ok (.invokevirtual 975, 3) := zdec_at bX8_findSorts_0 11 rfl
theorem dX8_findSorts_20 : decode cX8_findSorts 20 = .ok (.iconst (-1), 1) := zdec_at bX8_findSorts_0 12 rfl
theorem dX8_findSorts_21 : decode cX8_findSorts 21 = .ok (.if_icmp .eq 7, 3) := zdec_at bX8_findSorts_0 13 rfl
theorem dX8_findSorts_24 : decode cX8_findSorts 24 = .ok (.iconst 1, 1) := zdec_at bX8_findSorts_0 14 rfl
theorem dX8_findSorts_25 : decode cX8_findSorts 25 = .ok (.goto 4, 3) := zdec_at bX8_findSorts_0 15 rfl
theorem bX8_findSorts_28 : zdec cX8_findSorts 28 [(28, .iconst 0, 1), (29, .bastore, 1), (30, .aload_n 0, 1), (31, .getfield 280, 3), (34, .iload_n 1, 1), (35, .aload_n 0, 1), (36, .getfield 20, 3), (39, .iload_n 1, 1), (40, .iaload, 1), (41, .iconst 3, 1), (42, .if_icmp .ne 53, 3), (45, .aload_n 0, 1), (46, .getfield 16, 3), (49, .bipush 60, 2), (51, .iload_n 1, 1), (52, .imul, 1)] = true := by decide +kernel
theorem dX8_findSorts_28 : decode cX8_findSorts 28 = .ok (.iconst 0, 1) := zdec_at bX8_findSorts_28 0 rfl
theorem dX8_findSorts_29 : decode cX8_findSorts 29 = .ok (.bastore, 1) := zdec_at bX8_findSorts_28 1 rfl
theorem dX8_findSorts_30 : decode cX8_findSorts 30 = .ok (.aload_n 0, 1) := zdec_at bX8_findSorts_28 2 rfl
theorem dX8_findSorts_31 : decode cX8_findSorts 31 = .ok (.getfield 280, 3) := zdec_at bX8_findSorts_28 3 rfl
theorem dX8_findSorts_34 : decode cX8_findSorts 34 = .ok (.iload_n 1, 1) := zdec_at bX8_findSorts_28 4 rfl
theorem dX8_findSorts_35 : decode cX8_findSorts 35 = .ok (.aload_n 0, 1) := zdec_at bX8_findSorts_28 5 rfl
theorem dX8_findSorts_36 : decode cX8_findSorts 36 = .ok (.getfield 20, 3) := zdec_at bX8_findSorts_28 6 rfl
theorem dX8_findSorts_39 : decode cX8_findSorts 39 = .ok (.iload_n 1, 1) := zdec_at bX8_findSorts_28 7 rfl
theorem dX8_findSorts_40 : decode cX8_findSorts 40 = .ok (.iaload, 1) := zdec_at bX8_findSorts_28 8 rfl
theorem dX8_findSorts_41 : decode cX8_findSorts 41 = .ok (.iconst 3, 1) := zdec_at bX8_findSorts_28 9 rfl
theorem dX8_findSorts_42 : decode cX8_findSorts 42 = .ok (.if_icmp .ne 53, 3) := zdec_at bX8_findSorts_28 10 rfl
theorem dX8_findSorts_45 : decode cX8_findSorts 45 = .ok (.aload_n 0, 1) := zdec_at bX8_findSorts_28 11 rfl
theorem dX8_findSorts_46 : decode cX8_findSorts 46 = .ok (.getfield 16, 3) := zdec_at bX8_findSorts_28 12 rfl
theorem dX8_findSorts_49 : decode cX8_findSorts 49 = .ok (.bipush 60, 2) := zdec_at bX8_findSorts_28 13 rfl
theorem dX8_findSorts_51 : decode cX8_findSorts 51 = .ok (.iload_n 1, 1) := zdec_at bX8_findSorts_28 14 rfl
theorem dX8_findSorts_52 : decode cX8_findSorts 52 = .ok (.imul, 1) := zdec_at bX8_findSorts_28 15 rfl
theorem bX8_findSorts_53 : zdec cX8_findSorts 53 [(53, .caload, 1), (54, .bipush 49, 2), (56, .if_icmp .ne 39, 3), (59, .aload_n 0, 1), (60, .getfield 16, 3), (63, .bipush 60, 2), (65, .iload_n 1, 1), (66, .imul, 1), (67, .iconst 1, 1), (68, .iadd, 1), (69, .caload, 1), (70, .bipush 48, 2), (72, .if_icmp .ne 23, 3), (75, .aload_n 0, 1), (76, .getfield 16, 3), (79, .bipush 60, 2)] = true := by decide +kernel
theorem dX8_findSorts_53 : decode cX8_findSorts 53 = .ok (.caload, 1) := zdec_at bX8_findSorts_53 0 rfl
theorem dX8_findSorts_54 : decode cX8_findSorts 54 = .ok (.bipush 49, 2) := zdec_at bX8_findSorts_53 1 rfl
theorem dX8_findSorts_56 : decode cX8_findSorts 56 = .ok (.if_icmp .ne 39, 3) := zdec_at bX8_findSorts_53 2 rfl
theorem dX8_findSorts_59 : decode cX8_findSorts 59 = .ok (.aload_n 0, 1) := zdec_at bX8_findSorts_53 3 rfl
theorem dX8_findSorts_60 : decode cX8_findSorts 60 = .ok (.getfield 16, 3) := zdec_at bX8_findSorts_53 4 rfl
theorem dX8_findSorts_63 : decode cX8_findSorts 63 = .ok (.bipush 60, 2) := zdec_at bX8_findSorts_53 5 rfl
theorem dX8_findSorts_65 : decode cX8_findSorts 65 = .ok (.iload_n 1, 1) := zdec_at bX8_findSorts_53 6 rfl
theorem dX8_findSorts_66 : decode cX8_findSorts 66 = .ok (.imul, 1) := zdec_at bX8_findSorts_53 7 rfl
theorem dX8_findSorts_67 : decode cX8_findSorts 67 = .ok (.iconst 1, 1) := zdec_at bX8_findSorts_53 8 rfl
theorem dX8_findSorts_68 : decode cX8_findSorts 68 = .ok (.iadd, 1) := zdec_at bX8_findSorts_53 9 rfl
theorem dX8_findSorts_69 : decode cX8_findSorts 69 = .ok (.caload, 1) := zdec_at bX8_findSorts_53 10 rfl
theorem dX8_findSorts_70 : decode cX8_findSorts 70 = .ok (.bipush 48, 2) := zdec_at bX8_findSorts_53 11 rfl
theorem dX8_findSorts_72 : decode cX8_findSorts 72 = .ok (.if_icmp .ne 23, 3) := zdec_at bX8_findSorts_53 12 rfl
theorem dX8_findSorts_75 : decode cX8_findSorts 75 = .ok (.aload_n 0, 1) := zdec_at bX8_findSorts_53 13 rfl
theorem dX8_findSorts_76 : decode cX8_findSorts 76 = .ok (.getfield 16, 3) := zdec_at bX8_findSorts_53 14 rfl
theorem dX8_findSorts_79 : decode cX8_findSorts 79 = .ok (.bipush 60, 2) := zdec_at bX8_findSorts_53 15 rfl
theorem bX8_findSorts_81 : zdec cX8_findSorts 81 [(81, .iload_n 1, 1), (82, .imul, 1), (83, .iconst 2, 1), (84, .iadd, 1), (85, .caload, 1), (86, .bipush 48, 2), (88, .if_icmp .ne 7, 3), (91, .iconst 1, 1), (92, .goto 4, 3), (95, .iconst 0, 1), (96, .bastore, 1), (97, .aload_n 0, 1), (98, .getfield 20, 3), (101, .iload_n 1, 1), (102, .iaload, 1), (103, .ifCond .le 11, 3)] = true := by decide +kernel
theorem dX8_findSorts_81 : decode cX8_findSorts 81 = .ok (.iload_n 1, 1) := zdec_at bX8_findSorts_81 0 rfl
theorem dX8_findSorts_82 : decode cX8_findSorts 82 = .ok (.imul, 1) := zdec_at bX8_findSorts_81 1 rfl
theorem dX8_findSorts_83 : decode cX8_findSorts 83 = .ok (.iconst 2, 1) := zdec_at bX8_findSorts_81 2 rfl
theorem dX8_findSorts_84 : decode cX8_findSorts 84 = .ok (.iadd, 1) := zdec_at bX8_findSorts_81 3 rfl
theorem dX8_findSorts_85 : decode cX8_findSorts 85 = .ok (.caload, 1) := zdec_at bX8_findSorts_81 4 rfl
theorem dX8_findSorts_86 : decode cX8_findSorts 86 = .ok (.bipush 48, 2) := zdec_at bX8_findSorts_81 5 rfl
theorem dX8_findSorts_88 : decode cX8_findSorts 88 = .ok (.if_icmp .ne 7, 3) := zdec_at bX8_findSorts_81 6 rfl
theorem dX8_findSorts_91 : decode cX8_findSorts 91 = .ok (.iconst 1, 1) := zdec_at bX8_findSorts_81 7 rfl
theorem dX8_findSorts_92 : decode cX8_findSorts 92 = .ok (.goto 4, 3) := zdec_at bX8_findSorts_81 8 rfl
theorem dX8_findSorts_95 : decode cX8_findSorts 95 = .ok (.iconst 0, 1) := zdec_at bX8_findSorts_81 9 rfl
theorem dX8_findSorts_96 : decode cX8_findSorts 96 = .ok (.bastore, 1) := zdec_at bX8_findSorts_81 10 rfl
theorem dX8_findSorts_97 : decode cX8_findSorts 97 = .ok (.aload_n 0, 1) := zdec_at bX8_findSorts_81 11 rfl
theorem dX8_findSorts_98 : decode cX8_findSorts 98 = .ok (.getfield 20, 3) := zdec_at bX8_findSorts_81 12 rfl
theorem dX8_findSorts_101 : decode cX8_findSorts 101 = .ok (.iload_n 1, 1) := zdec_at bX8_findSorts_81 13 rfl
theorem dX8_findSorts_102 : decode cX8_findSorts 102 = .ok (.iaload, 1) := zdec_at bX8_findSorts_81 14 rfl
theorem dX8_findSorts_103 : decode cX8_findSorts 103 = .ok (.ifCond .le 11, 3) := zdec_at bX8_findSorts_81 15 rfl
theorem bX8_findSorts_106 : zdec cX8_findSorts 106 [(106, .aload_n 0, 1), (107, .iload_n 1, 1), (108, .invokevirtual 809, 3), (111, .goto 4, 3), (114, .iconst 0, 1), (115, .istore_n 2, 1), (116, .aload_n 0, 1), (117, .getfield 20, 3), (120, .iload_n 1, 1), (121, .iaload, 1), (122, .ifCond .le 14, 3), (125, .aload_n 0, 1), (126, .getfield 806, 3), (129, .ifCond .eq 7, 3), (132, .iconst 1, 1), (133, .goto 4, 3)] = true := by decide +kernel
theorem dX8_findSorts_106 : decode cX8_findSorts 106 = .ok (.aload_n 0, 1) := zdec_at bX8_findSorts_106 0 rfl
theorem dX8_findSorts_107 : decode cX8_findSorts 107 = .ok (.iload_n 1, 1) := zdec_at bX8_findSorts_106 1 rfl
theorem dX8_findSorts_108 : decode cX8_findSorts 108 = .ok (.invokevirtual 809, 3) := zdec_at bX8_findSorts_106 2 rfl
theorem dX8_findSorts_111 : decode cX8_findSorts 111 = .ok (.goto 4, 3) := zdec_at bX8_findSorts_106 3 rfl
theorem dX8_findSorts_114 : decode cX8_findSorts 114 = .ok (.iconst 0, 1) := zdec_at bX8_findSorts_106 4 rfl
theorem dX8_findSorts_115 : decode cX8_findSorts 115 = .ok (.istore_n 2, 1) := zdec_at bX8_findSorts_106 5 rfl
theorem dX8_findSorts_116 : decode cX8_findSorts 116 = .ok (.aload_n 0, 1) := zdec_at bX8_findSorts_106 6 rfl
theorem dX8_findSorts_117 : decode cX8_findSorts 117 = .ok (.getfield 20, 3) := zdec_at bX8_findSorts_106 7 rfl
theorem dX8_findSorts_120 : decode cX8_findSorts 120 = .ok (.iload_n 1, 1) := zdec_at bX8_findSorts_106 8 rfl
theorem dX8_findSorts_121 : decode cX8_findSorts 121 = .ok (.iaload, 1) := zdec_at bX8_findSorts_106 9 rfl
theorem dX8_findSorts_122 : decode cX8_findSorts 122 = .ok (.ifCond .le 14, 3) := zdec_at bX8_findSorts_106 10 rfl
theorem dX8_findSorts_125 : decode cX8_findSorts 125 = .ok (.aload_n 0, 1) := zdec_at bX8_findSorts_106 11 rfl
theorem dX8_findSorts_126 : decode cX8_findSorts 126 = .ok (.getfield 806, 3) := zdec_at bX8_findSorts_106 12 rfl
theorem dX8_findSorts_129 : decode cX8_findSorts 129 = .ok (.ifCond .eq 7, 3) := zdec_at bX8_findSorts_106 13 rfl
theorem dX8_findSorts_132 : decode cX8_findSorts 132 = .ok (.iconst 1, 1) := zdec_at bX8_findSorts_106 14 rfl
theorem dX8_findSorts_133 : decode cX8_findSorts 133 = .ok (.goto 4, 3) := zdec_at bX8_findSorts_106 15 rfl
theorem bX8_findSorts_136 : zdec cX8_findSorts 136 [(136, .iconst 0, 1), (137, .istore_n 3, 1), (138, .aload_n 0, 1), (139, .iconst 0, 1), (140, .putfield 299, 3), (143, .iload_n 3, 1), (144, .ifCond .eq 8, 3), (147, .aload_n 0, 1), (148, .iload_n 2, 1), (149, .invokevirtual 410, 3), (152, .aload_n 0, 1), (153, .getfield 274, 3), (156, .iload_n 1, 1), (157, .iload_n 3, 1), (158, .ifCond .eq 15, 3), (161, .aload_n 0, 1)] = true := by decide +kernel
theorem dX8_findSorts_136 : decode cX8_findSorts 136 = .ok (.iconst 0, 1) := zdec_at bX8_findSorts_136 0 rfl
theorem dX8_findSorts_137 : decode cX8_findSorts 137 = .ok (.istore_n 3, 1) := zdec_at bX8_findSorts_136 1 rfl
theorem dX8_findSorts_138 : decode cX8_findSorts 138 = .ok (.aload_n 0, 1) := zdec_at bX8_findSorts_136 2 rfl
theorem dX8_findSorts_139 : decode cX8_findSorts 139 = .ok (.iconst 0, 1) := zdec_at bX8_findSorts_136 3 rfl
theorem dX8_findSorts_140 : decode cX8_findSorts 140 = .ok (.putfield 299, 3) := zdec_at bX8_findSorts_136 4 rfl
theorem dX8_findSorts_143 : decode cX8_findSorts 143 = .ok (.iload_n 3, 1) := zdec_at bX8_findSorts_136 5 rfl
theorem dX8_findSorts_144 : decode cX8_findSorts 144 = .ok (.ifCond .eq 8, 3) := zdec_at bX8_findSorts_136 6 rfl
theorem dX8_findSorts_147 : decode cX8_findSorts 147 = .ok (.aload_n 0, 1) := zdec_at bX8_findSorts_136 7 rfl
theorem dX8_findSorts_148 : decode cX8_findSorts 148 = .ok (.iload_n 2, 1) := zdec_at bX8_findSorts_136 8 rfl
theorem dX8_findSorts_149 : decode cX8_findSorts 149 = .ok (.invokevirtual 410, 3) := zdec_at bX8_findSorts_136 9 rfl
theorem dX8_findSorts_152 : decode cX8_findSorts 152 = .ok (.aload_n 0, 1) := zdec_at bX8_findSorts_136 10 rfl
theorem dX8_findSorts_153 : decode cX8_findSorts 153 = .ok (.getfield 274, 3) := zdec_at bX8_findSorts_136 11 rfl
theorem dX8_findSorts_156 : decode cX8_findSorts 156 = .ok (.iload_n 1, 1) := zdec_at bX8_findSorts_136 12 rfl
theorem dX8_findSorts_157 : decode cX8_findSorts 157 = .ok (.iload_n 3, 1) := zdec_at bX8_findSorts_136 13 rfl
theorem dX8_findSorts_158 : decode cX8_findSorts 158 = .ok (.ifCond .eq 15, 3) := zdec_at bX8_findSorts_136 14 rfl
theorem dX8_findSorts_161 : decode cX8_findSorts 161 = .ok (.aload_n 0, 1) := zdec_at bX8_findSorts_136 15 rfl
theorem bX8_findSorts_162 : zdec cX8_findSorts 162 [(162, .invokevirtual 302, 3), (165, .iload_n 1, 1), (166, .if_icmp .ne 7, 3), (169, .iconst 1, 1), (170, .goto 4, 3), (173, .iconst 0, 1), (174, .bastore, 1), (175, .iinc 1 1, 3), (178, .goto (-176), 3), (181, .iconst 0, 1), (182, .istore_n 1, 1), (183, .iload_n 1, 1), (184, .aload_n 0, 1), (185, .getfield 606, 3), (188, .if_icmp .ge 81, 3), (191, .aload_n 0, 1)] = true := by decide +kernel
theorem dX8_findSorts_162 : decode cX8_findSorts 162 = .ok (.invokevirtual 302, 3) := zdec_at bX8_findSorts_162 0 rfl
theorem dX8_findSorts_165 : decode cX8_findSorts 165 = .ok (.iload_n 1, 1) := zdec_at bX8_findSorts_162 1 rfl
theorem dX8_findSorts_166 : decode cX8_findSorts 166 = .ok (.if_icmp .ne 7, 3) := zdec_at bX8_findSorts_162 2 rfl
theorem dX8_findSorts_169 : decode cX8_findSorts 169 = .ok (.iconst 1, 1) := zdec_at bX8_findSorts_162 3 rfl
theorem dX8_findSorts_170 : decode cX8_findSorts 170 = .ok (.goto 4, 3) := zdec_at bX8_findSorts_162 4 rfl
theorem dX8_findSorts_173 : decode cX8_findSorts 173 = .ok (.iconst 0, 1) := zdec_at bX8_findSorts_162 5 rfl
theorem dX8_findSorts_174 : decode cX8_findSorts 174 = .ok (.bastore, 1) := zdec_at bX8_findSorts_162 6 rfl
theorem dX8_findSorts_175 : decode cX8_findSorts 175 = .ok (.iinc 1 1, 3) := zdec_at bX8_findSorts_162 7 rfl
theorem dX8_findSorts_178 : decode cX8_findSorts 178 = .ok (.goto (-176), 3) := zdec_at bX8_findSorts_162 8 rfl
theorem dX8_findSorts_181 : decode cX8_findSorts 181 = .ok (.iconst 0, 1) := zdec_at bX8_findSorts_162 9 rfl
theorem dX8_findSorts_182 : decode cX8_findSorts 182 = .ok (.istore_n 1, 1) := zdec_at bX8_findSorts_162 10 rfl
theorem dX8_findSorts_183 : decode cX8_findSorts 183 = .ok (.iload_n 1, 1) := zdec_at bX8_findSorts_162 11 rfl
theorem dX8_findSorts_184 : decode cX8_findSorts 184 = .ok (.aload_n 0, 1) := zdec_at bX8_findSorts_162 12 rfl
theorem dX8_findSorts_185 : decode cX8_findSorts 185 = .ok (.getfield 606, 3) := zdec_at bX8_findSorts_162 13 rfl
theorem dX8_findSorts_188 : decode cX8_findSorts 188 = .ok (.if_icmp .ge 81, 3) := zdec_at bX8_findSorts_162 14 rfl
theorem dX8_findSorts_191 : decode cX8_findSorts 191 = .ok (.aload_n 0, 1) := zdec_at bX8_findSorts_162 15 rfl
theorem bX8_findSorts_192 : zdec cX8_findSorts 192 [(192, .getfield 89, 3), (195, .iload_n 1, 1), (196, .iaload, 1), (197, .bipush 8, 2), (199, .if_icmp .eq 14, 3), (202, .aload_n 0, 1), (203, .getfield 89, 3), (206, .iload_n 1, 1), (207, .iaload, 1), (208, .bipush 7, 2), (210, .if_icmp .ne 30, 3), (213, .aload_n 0, 1), (214, .getfield 283, 3), (217, .aload_n 0, 1), (218, .getfield 92, 3), (221, .iload_n 1, 1)] = true := by decide +kernel
theorem dX8_findSorts_192 : decode cX8_findSorts 192 = .ok (.getfield 89, 3) := zdec_at bX8_findSorts_192 0 rfl
theorem dX8_findSorts_195 : decode cX8_findSorts 195 = .ok (.iload_n 1, 1) := zdec_at bX8_findSorts_192 1 rfl
theorem dX8_findSorts_196 : decode cX8_findSorts 196 = .ok (.iaload, 1) := zdec_at bX8_findSorts_192 2 rfl
theorem dX8_findSorts_197 : decode cX8_findSorts 197 = .ok (.bipush 8, 2) := zdec_at bX8_findSorts_192 3 rfl
theorem dX8_findSorts_199 : decode cX8_findSorts 199 = .ok (.if_icmp .eq 14, 3) := zdec_at bX8_findSorts_192 4 rfl
theorem dX8_findSorts_202 : decode cX8_findSorts 202 = .ok (.aload_n 0, 1) := zdec_at bX8_findSorts_192 5 rfl
theorem dX8_findSorts_203 : decode cX8_findSorts 203 = .ok (.getfield 89, 3) := zdec_at bX8_findSorts_192 6 rfl
theorem dX8_findSorts_206 : decode cX8_findSorts 206 = .ok (.iload_n 1, 1) := zdec_at bX8_findSorts_192 7 rfl
theorem dX8_findSorts_207 : decode cX8_findSorts 207 = .ok (.iaload, 1) := zdec_at bX8_findSorts_192 8 rfl
theorem dX8_findSorts_208 : decode cX8_findSorts 208 = .ok (.bipush 7, 2) := zdec_at bX8_findSorts_192 9 rfl
theorem dX8_findSorts_210 : decode cX8_findSorts 210 = .ok (.if_icmp .ne 30, 3) := zdec_at bX8_findSorts_192 10 rfl
theorem dX8_findSorts_213 : decode cX8_findSorts 213 = .ok (.aload_n 0, 1) := zdec_at bX8_findSorts_192 11 rfl
theorem dX8_findSorts_214 : decode cX8_findSorts 214 = .ok (.getfield 283, 3) := zdec_at bX8_findSorts_192 12 rfl
theorem dX8_findSorts_217 : decode cX8_findSorts 217 = .ok (.aload_n 0, 1) := zdec_at bX8_findSorts_192 13 rfl
theorem dX8_findSorts_218 : decode cX8_findSorts 218 = .ok (.getfield 92, 3) := zdec_at bX8_findSorts_192 14 rfl
theorem dX8_findSorts_221 : decode cX8_findSorts 221 = .ok (.iload_n 1, 1) := zdec_at bX8_findSorts_192 15 rfl
theorem bX8_findSorts_222 : zdec cX8_findSorts 222 [(222, .iaload, 1), (223, .aload_n 0, 1), (224, .getfield 89, 3), (227, .iload_n 1, 1), (228, .iaload, 1), (229, .bipush 8, 2), (231, .if_icmp .ne 7, 3), (234, .iconst 1, 1), (235, .goto 4, 3), (238, .iconst 0, 1), (239, .bastore, 1), (240, .aload_n 0, 1), (241, .getfield 89, 3), (244, .iload_n 1, 1), (245, .iaload, 1), (246, .bipush 16, 2)] = true := by decide +kernel
theorem dX8_findSorts_222 : decode cX8_findSorts 222 = .ok (.iaload, 1) := zdec_at bX8_findSorts_222 0 rfl
theorem dX8_findSorts_223 : decode cX8_findSorts 223 = .ok (.aload_n 0, 1) := zdec_at bX8_findSorts_222 1 rfl
theorem dX8_findSorts_224 : decode cX8_findSorts 224 = .ok (.getfield 89, 3) := zdec_at bX8_findSorts_222 2 rfl
theorem dX8_findSorts_227 : decode cX8_findSorts 227 = .ok (.iload_n 1, 1) := zdec_at bX8_findSorts_222 3 rfl
theorem dX8_findSorts_228 : decode cX8_findSorts 228 = .ok (.iaload, 1) := zdec_at bX8_findSorts_222 4 rfl
theorem dX8_findSorts_229 : decode cX8_findSorts 229 = .ok (.bipush 8, 2) := zdec_at bX8_findSorts_222 5 rfl
theorem dX8_findSorts_231 : decode cX8_findSorts 231 = .ok (.if_icmp .ne 7, 3) := zdec_at bX8_findSorts_222 6 rfl
theorem dX8_findSorts_234 : decode cX8_findSorts 234 = .ok (.iconst 1, 1) := zdec_at bX8_findSorts_222 7 rfl
theorem dX8_findSorts_235 : decode cX8_findSorts 235 = .ok (.goto 4, 3) := zdec_at bX8_findSorts_222 8 rfl
theorem dX8_findSorts_238 : decode cX8_findSorts 238 = .ok (.iconst 0, 1) := zdec_at bX8_findSorts_222 9 rfl
theorem dX8_findSorts_239 : decode cX8_findSorts 239 = .ok (.bastore, 1) := zdec_at bX8_findSorts_222 10 rfl
theorem dX8_findSorts_240 : decode cX8_findSorts 240 = .ok (.aload_n 0, 1) := zdec_at bX8_findSorts_222 11 rfl
theorem dX8_findSorts_241 : decode cX8_findSorts 241 = .ok (.getfield 89, 3) := zdec_at bX8_findSorts_222 12 rfl
theorem dX8_findSorts_244 : decode cX8_findSorts 244 = .ok (.iload_n 1, 1) := zdec_at bX8_findSorts_222 13 rfl
theorem dX8_findSorts_245 : decode cX8_findSorts 245 = .ok (.iaload, 1) := zdec_at bX8_findSorts_222 14 rfl
theorem dX8_findSorts_246 : decode cX8_findSorts 246 = .ok (.bipush 16, 2) := zdec_at bX8_findSorts_222 15 rfl
theorem bX8_findSorts_248 : zdec cX8_findSorts 248 [(248, .if_icmp .ne 15, 3), (251, .aload_n 0, 1), (252, .getfield 283, 3), (255, .aload_n 0, 1), (256, .getfield 95, 3), (259, .iload_n 1, 1), (260, .iaload, 1), (261, .iconst 0, 1), (262, .bastore, 1), (263, .iinc 1 1, 3), (266, .goto (-83), 3), (269, .return_, 1)] = true := by decide +kernel
theorem dX8_findSorts_248 : decode cX8_findSorts 248 = .ok (.if_icmp .ne 15, 3) := zdec_at bX8_findSorts_248 0 rfl
theorem dX8_findSorts_251 : decode cX8_findSorts 251 = .ok (.aload_n 0, 1) := zdec_at bX8_findSorts_248 1 rfl
theorem dX8_findSorts_252 : decode cX8_findSorts 252 = .ok (.getfield 283, 3) := zdec_at bX8_findSorts_248 2 rfl
theorem dX8_findSorts_255 : decode cX8_findSorts 255 = .ok (.aload_n 0, 1) := zdec_at bX8_findSorts_248 3 rfl
theorem dX8_findSorts_256 : decode cX8_findSorts 256 = .ok (.getfield 95, 3) := zdec_at bX8_findSorts_248 4 rfl
theorem dX8_findSorts_259 : decode cX8_findSorts 259 = .ok (.iload_n 1, 1) := zdec_at bX8_findSorts_248 5 rfl
theorem dX8_findSorts_260 : decode cX8_findSorts 260 = .ok (.iaload, 1) := zdec_at bX8_findSorts_248 6 rfl
theorem dX8_findSorts_261 : decode cX8_findSorts 261 = .ok (.iconst 0, 1) := zdec_at bX8_findSorts_248 7 rfl
theorem dX8_findSorts_262 : decode cX8_findSorts 262 = .ok (.bastore, 1) := zdec_at bX8_findSorts_248 8 rfl
theorem dX8_findSorts_263 : decode cX8_findSorts 263 = .ok (.iinc 1 1, 3) := zdec_at bX8_findSorts_248 9 rfl
theorem dX8_findSorts_266 : decode cX8_findSorts 266 = .ok (.goto (-83), 3) := zdec_at bX8_findSorts_248 10 rfl
theorem dX8_findSorts_269 : decode cX8_findSorts 269 = .ok (.return_, 1) := zdec_at bX8_findSorts_248 11 rfl
theorem sX8_findSorts_0 {E : zE} {d : Nat} {Q : zO → zM → Prop} (M : zM)  (k : Zm E YX8_findSorts (d + 1) M [(0, vr (some (97, 1, 0))), (1, vi (0 : Int32))] 2 [] Q) : Zm E YX8_findSorts (d + 1) M [(0, vr (some (97, 1, 0)))] 0 [] Q := by
  refine Zm.l (fun _ _ k_ => z_iconst (v := 0) dX8_findSorts_0 rfl k_) ?_
  refine Zm.l (fun _ _ k_ => z_ist_n dX8_findSorts_1 rfl (by decide) (lv' := [(0, vr (some (97, 1, 0))), (1, vi (0 : Int32))]) rfl k_) ?_
  exact k
theorem sX8_findSorts_2 {E : zE} {d : Nat} {Q : zO → zM → Prop} (M : zM) (l1 : Int32) (k : if (gi M 97 8) ≤ l1 then (Zm E YX8_findSorts (d + 1) M [(0, vr (some (97, 1, 0))), (1, vi (0 : Int32))] 183 [] Q) else (Zm E YX8_indexOf d M (zargs 0 [vr (some (97, 1, 0)), vi l1]) 0 [] (zma E YX8_findSorts (d + 1) [(0, vr (some (97, 1, 0))), (1, vi l1)] 17 3 [vi l1, vr (some (185, 104, 90))] Q))) : Zm E YX8_findSorts (d + 1) M [(0, vr (some (97, 1, 0))), (1, vi l1)] 2 [] Q := by
  refine Zm.l (fun _ _ k_ => z_iload_n dX8_findSorts_2 rfl rfl k_) ?_
  refine Zm.l (fun _ _ k_ => z_aload_n dX8_findSorts_3 rfl rfl k_) ?_
  refine zm_geti dX8_findSorts_4 fsX8_762_1 (by decide) (by decide) ?_
  refine Zm.br (fun _ _ k1_ k2_ => z_icmp_ge (tgt := 181) dX8_findSorts_7 rfl k1_ k2_) (fun h_ => ?_) (fun h_ => ?_)
  · have k := zit h_ k
    refine Zm.l (fun _ _ k_ => z_iconst (v := 0) dX8_findSorts_181 rfl k_) ?_
    refine Zm.l (fun _ _ k_ => z_ist_n dX8_findSorts_182 rfl (by decide) (lv' := [(0, vr (some (97, 1, 0))), (1, vi (0 : Int32))]) rfl k_) ?_
    exact k
  · have k := zif h_ k
    refine Zm.l (fun _ _ k_ => z_aload_n dX8_findSorts_10 rfl rfl k_) ?_
    refine zm_getr 82 dX8_findSorts_11 fsX8_277_1 rfl ?_
    refine Zm.l (fun _ _ k_ => z_iload_n dX8_findSorts_14 rfl rfl k_) ?_
    refine Zm.l (fun _ _ k_ => z_aload_n dX8_findSorts_15 rfl rfl k_) ?_
    refine Zm.l (fun _ _ k_ => z_iload_n dX8_findSorts_16 rfl rfl k_) ?_
    exact zm_callV (as := [vi l1]) (st := [vi l1, vr (some (185, 104, 90))]) dX8_findSorts_17 vsX8_975_1 (Nat.le_refl _) (Nat.le_of_ble_eq_true rfl) (Nat.le_of_ble_eq_true rfl) rfl k
theorem sX8_findSorts_20 {E : zE} {d : Nat} {Q : zO → zM → Prop} (M : zM) (l1 : Int32) (s0 : Int32) (s1 : Int32) (k : if s0 = (-1 : Int32) then (Zm E YX8_findSorts (d + 1) M [(0, vr (some (97, 1, 0))), (1, vi l1)] 29 [vi (0 : Int32), vi s1, vr (some (185, 104, 90))] Q) else (Zm E YX8_findSorts (d + 1) M [(0, vr (some (97, 1, 0))), (1, vi l1)] 29 [vi (1 : Int32), vi s1, vr (some (185, 104, 90))] Q)) : Zm E YX8_findSorts (d + 1) M [(0, vr (some (97, 1, 0))), (1, vi l1)] 20 [vi s0, vi s1, vr (some (185, 104, 90))] Q := by
  refine Zm.l (fun _ _ k_ => z_iconst (v := -1) dX8_findSorts_20 rfl k_) ?_
  refine Zm.br (fun _ _ k1_ k2_ => z_icmp_eq (tgt := 28) dX8_findSorts_21 rfl k1_ k2_) (fun h_ => ?_) (fun h_ => ?_)
  · have k := zit h_ k
    refine Zm.l (fun _ _ k_ => z_iconst (v := 0) dX8_findSorts_28 rfl k_) ?_
    exact k
  · have k := zif h_ k
    refine Zm.l (fun _ _ k_ => z_iconst (v := 1) dX8_findSorts_24 rfl k_) ?_
    refine Zm.l (fun _ _ k_ => z_goto (tgt := 29) dX8_findSorts_25 rfl k_) ?_
    exact k
theorem sX8_findSorts_29 {E : zE} {d : Nat} {Q : zO → zM → Prop} (M : zM) (l1 : Int32) (s0 : Int32) (s1 : Int32) (k : vp_in s1 90 ∧ (vp_in l1 400 ∧ (if (gi M 101 (l1).toNatClampNeg) = (3 : Int32) then (vp_in ((60 : Int32) * l1) 24000 ∧ (if (gi M 100 (((60 : Int32) * l1)).toNatClampNeg) = (49 : Int32) then (vp_in (((60 : Int32) * l1) + (1 : Int32)) 24000 ∧ (if (gi M 100 ((((60 : Int32) * l1) + (1 : Int32))).toNatClampNeg) = (48 : Int32) then (vp_in (((60 : Int32) * l1) + (2 : Int32)) 24000 ∧ (if (gi M 100 ((((60 : Int32) * l1) + (2 : Int32))).toNatClampNeg) = (48 : Int32) then (Zm E YX8_findSorts (d + 1) (si M 185 (s1).toNatClampNeg (vp_nar .boolean s0)) [(0, vr (some (97, 1, 0))), (1, vi l1)] 96 [vi (1 : Int32), vi l1, vr (some (186, 104, 90))] Q) else (Zm E YX8_findSorts (d + 1) (si M 185 (s1).toNatClampNeg (vp_nar .boolean s0)) [(0, vr (some (97, 1, 0))), (1, vi l1)] 96 [vi (0 : Int32), vi l1, vr (some (186, 104, 90))] Q))) else (Zm E YX8_findSorts (d + 1) (si M 185 (s1).toNatClampNeg (vp_nar .boolean s0)) [(0, vr (some (97, 1, 0))), (1, vi l1)] 96 [vi (0 : Int32), vi l1, vr (some (186, 104, 90))] Q))) else (Zm E YX8_findSorts (d + 1) (si M 185 (s1).toNatClampNeg (vp_nar .boolean s0)) [(0, vr (some (97, 1, 0))), (1, vi l1)] 96 [vi (0 : Int32), vi l1, vr (some (186, 104, 90))] Q))) else (Zm E YX8_findSorts (d + 1) (si M 185 (s1).toNatClampNeg (vp_nar .boolean s0)) [(0, vr (some (97, 1, 0))), (1, vi l1)] 96 [vi (0 : Int32), vi l1, vr (some (186, 104, 90))] Q)))) : Zm E YX8_findSorts (d + 1) M [(0, vr (some (97, 1, 0))), (1, vi l1)] 29 [vi s0, vi s1, vr (some (185, 104, 90))] Q := by
  obtain ⟨b_, k⟩ := k
  refine zm_zast dX8_findSorts_29 b_ (by decide) (by decide) ?_
  refine Zm.l (fun _ _ k_ => z_aload_n dX8_findSorts_30 rfl rfl k_) ?_
  refine zm_getr 83 dX8_findSorts_31 fsX8_280_1 rfl ?_
  refine Zm.l (fun _ _ k_ => z_iload_n dX8_findSorts_34 rfl rfl k_) ?_
  refine Zm.l (fun _ _ k_ => z_aload_n dX8_findSorts_35 rfl rfl k_) ?_
  refine zm_getr 3 dX8_findSorts_36 fsX8_20_1 rfl ?_
  refine Zm.l (fun _ _ k_ => z_iload_n dX8_findSorts_39 rfl rfl k_) ?_
  obtain ⟨b_, k⟩ := k
  refine zm_iald dX8_findSorts_40 b_ (by decide) (by decide) ?_
  refine Zm.l (fun _ _ k_ => z_iconst (v := 3) dX8_findSorts_41 rfl k_) ?_
  refine Zm.brn (fun _ _ k1_ k2_ => z_icmp_ne (tgt := 95) dX8_findSorts_42 rfl k1_ k2_) (fun h_ => ?_) (fun h_ => ?_)
  · have k := zif h_ k
    refine Zm.l (fun _ _ k_ => z_iconst (v := 0) dX8_findSorts_95 rfl k_) ?_
    exact k
  · have k := zit h_ k
    refine Zm.l (fun _ _ k_ => z_aload_n dX8_findSorts_45 rfl rfl k_) ?_
    refine zm_getr 2 dX8_findSorts_46 fsX8_16_1 rfl ?_
    refine Zm.l (fun _ _ k_ => z_bipush (v := 60) dX8_findSorts_49 rfl k_) ?_
    refine Zm.l (fun _ _ k_ => z_iload_n dX8_findSorts_51 rfl rfl k_) ?_
    refine Zm.l (fun _ _ k_ => z_imul dX8_findSorts_52 k_) ?_
    obtain ⟨b_, k⟩ := k
    refine zm_cald dX8_findSorts_53 b_ (by decide) (by decide) ?_
    refine Zm.l (fun _ _ k_ => z_bipush (v := 49) dX8_findSorts_54 rfl k_) ?_
    refine Zm.brn (fun _ _ k1_ k2_ => z_icmp_ne (tgt := 95) dX8_findSorts_56 rfl k1_ k2_) (fun h_ => ?_) (fun h_ => ?_)
    · have k := zif h_ k
      refine Zm.l (fun _ _ k_ => z_iconst (v := 0) dX8_findSorts_95 rfl k_) ?_
      exact k
    · have k := zit h_ k
      refine Zm.l (fun _ _ k_ => z_aload_n dX8_findSorts_59 rfl rfl k_) ?_
      refine zm_getr 2 dX8_findSorts_60 fsX8_16_1 rfl ?_
      refine Zm.l (fun _ _ k_ => z_bipush (v := 60) dX8_findSorts_63 rfl k_) ?_
      refine Zm.l (fun _ _ k_ => z_iload_n dX8_findSorts_65 rfl rfl k_) ?_
      refine Zm.l (fun _ _ k_ => z_imul dX8_findSorts_66 k_) ?_
      refine Zm.l (fun _ _ k_ => z_iconst (v := 1) dX8_findSorts_67 rfl k_) ?_
      refine Zm.l (fun _ _ k_ => z_iadd dX8_findSorts_68 k_) ?_
      obtain ⟨b_, k⟩ := k
      refine zm_cald dX8_findSorts_69 b_ (by decide) (by decide) ?_
      refine Zm.l (fun _ _ k_ => z_bipush (v := 48) dX8_findSorts_70 rfl k_) ?_
      refine Zm.brn (fun _ _ k1_ k2_ => z_icmp_ne (tgt := 95) dX8_findSorts_72 rfl k1_ k2_) (fun h_ => ?_) (fun h_ => ?_)
      · have k := zif h_ k
        refine Zm.l (fun _ _ k_ => z_iconst (v := 0) dX8_findSorts_95 rfl k_) ?_
        exact k
      · have k := zit h_ k
        refine Zm.l (fun _ _ k_ => z_aload_n dX8_findSorts_75 rfl rfl k_) ?_
        refine zm_getr 2 dX8_findSorts_76 fsX8_16_1 rfl ?_
        refine Zm.l (fun _ _ k_ => z_bipush (v := 60) dX8_findSorts_79 rfl k_) ?_
        refine Zm.l (fun _ _ k_ => z_iload_n dX8_findSorts_81 rfl rfl k_) ?_
        refine Zm.l (fun _ _ k_ => z_imul dX8_findSorts_82 k_) ?_
        refine Zm.l (fun _ _ k_ => z_iconst (v := 2) dX8_findSorts_83 rfl k_) ?_
        refine Zm.l (fun _ _ k_ => z_iadd dX8_findSorts_84 k_) ?_
        obtain ⟨b_, k⟩ := k
        refine zm_cald dX8_findSorts_85 b_ (by decide) (by decide) ?_
        refine Zm.l (fun _ _ k_ => z_bipush (v := 48) dX8_findSorts_86 rfl k_) ?_
        refine Zm.brn (fun _ _ k1_ k2_ => z_icmp_ne (tgt := 95) dX8_findSorts_88 rfl k1_ k2_) (fun h_ => ?_) (fun h_ => ?_)
        · have k := zif h_ k
          refine Zm.l (fun _ _ k_ => z_iconst (v := 0) dX8_findSorts_95 rfl k_) ?_
          exact k
        · have k := zit h_ k
          refine Zm.l (fun _ _ k_ => z_iconst (v := 1) dX8_findSorts_91 rfl k_) ?_
          refine Zm.l (fun _ _ k_ => z_goto (tgt := 96) dX8_findSorts_92 rfl k_) ?_
          exact k
theorem sX8_findSorts_96 {E : zE} {d : Nat} {Q : zO → zM → Prop} (M : zM) (l1 : Int32) (s0 : Int32) (s1 : Int32) (k : vp_in s1 90 ∧ (vp_in l1 400 ∧ (if (gi M 101 (l1).toNatClampNeg) ≤ 0 then (Zm E YX8_findSorts (d + 1) (si M 186 (s1).toNatClampNeg (vp_nar .boolean s0)) [(0, vr (some (97, 1, 0))), (1, vi l1)] 115 [vi (0 : Int32)] Q) else (Zm E YX8_numberOfString d (si M 186 (s1).toNatClampNeg (vp_nar .boolean s0)) (zargs 0 [vr (some (97, 1, 0)), vi l1]) 0 [] (zma E YX8_findSorts (d + 1) [(0, vr (some (97, 1, 0))), (1, vi l1)] 108 3 [] Q))))) : Zm E YX8_findSorts (d + 1) M [(0, vr (some (97, 1, 0))), (1, vi l1)] 96 [vi s0, vi s1, vr (some (186, 104, 90))] Q := by
  obtain ⟨b_, k⟩ := k
  refine zm_zast dX8_findSorts_96 b_ (by decide) (by decide) ?_
  refine Zm.l (fun _ _ k_ => z_aload_n dX8_findSorts_97 rfl rfl k_) ?_
  refine zm_getr 3 dX8_findSorts_98 fsX8_20_1 rfl ?_
  refine Zm.l (fun _ _ k_ => z_iload_n dX8_findSorts_101 rfl rfl k_) ?_
  obtain ⟨b_, k⟩ := k
  refine zm_iald dX8_findSorts_102 b_ (by decide) (by decide) ?_
  refine Zm.br (fun _ _ k1_ k2_ => z_if_le (tgt := 114) dX8_findSorts_103 rfl k1_ k2_) (fun h_ => ?_) (fun h_ => ?_)
  · have k := zit h_ k
    refine Zm.l (fun _ _ k_ => z_iconst (v := 0) dX8_findSorts_114 rfl k_) ?_
    exact k
  · have k := zif h_ k
    refine Zm.l (fun _ _ k_ => z_aload_n dX8_findSorts_106 rfl rfl k_) ?_
    refine Zm.l (fun _ _ k_ => z_iload_n dX8_findSorts_107 rfl rfl k_) ?_
    exact zm_callV (as := [vi l1]) (st := []) dX8_findSorts_108 vsX8_809_1 (Nat.le_refl _) (Nat.le_of_ble_eq_true rfl) (Nat.le_of_ble_eq_true rfl) rfl k
theorem sX8_findSorts_111 {E : zE} {d : Nat} {Q : zO → zM → Prop} (M : zM) (l1 : Int32) (s0 : Int32) (k : Zm E YX8_findSorts (d + 1) M [(0, vr (some (97, 1, 0))), (1, vi l1)] 115 [vi s0] Q) : Zm E YX8_findSorts (d + 1) M [(0, vr (some (97, 1, 0))), (1, vi l1)] 111 [vi s0] Q := by
  refine Zm.l (fun _ _ k_ => z_goto (tgt := 115) dX8_findSorts_111 rfl k_) ?_
  exact k
theorem sX8_findSorts_115 {E : zE} {d : Nat} {Q : zO → zM → Prop} (M : zM) (l1 : Int32) (s0 : Int32) (k : vp_in l1 400 ∧ (if (gi M 101 (l1).toNatClampNeg) ≤ 0 then (Zm E YX8_findSorts (d + 1) M [(0, vr (some (97, 1, 0))), (1, vi l1), (2, vi s0)] 137 [vi (0 : Int32)] Q) else (if (gi M 97 113) = 0 then (Zm E YX8_findSorts (d + 1) M [(0, vr (some (97, 1, 0))), (1, vi l1), (2, vi s0)] 137 [vi (0 : Int32)] Q) else (Zm E YX8_findSorts (d + 1) M [(0, vr (some (97, 1, 0))), (1, vi l1), (2, vi s0)] 137 [vi (1 : Int32)] Q)))) : Zm E YX8_findSorts (d + 1) M [(0, vr (some (97, 1, 0))), (1, vi l1)] 115 [vi s0] Q := by
  refine Zm.l (fun _ _ k_ => z_ist_n dX8_findSorts_115 rfl (by decide) (lv' := [(0, vr (some (97, 1, 0))), (1, vi l1), (2, vi s0)]) rfl k_) ?_
  refine Zm.l (fun _ _ k_ => z_aload_n dX8_findSorts_116 rfl rfl k_) ?_
  refine zm_getr 3 dX8_findSorts_117 fsX8_20_1 rfl ?_
  refine Zm.l (fun _ _ k_ => z_iload_n dX8_findSorts_120 rfl rfl k_) ?_
  obtain ⟨b_, k⟩ := k
  refine zm_iald dX8_findSorts_121 b_ (by decide) (by decide) ?_
  refine Zm.br (fun _ _ k1_ k2_ => z_if_le (tgt := 136) dX8_findSorts_122 rfl k1_ k2_) (fun h_ => ?_) (fun h_ => ?_)
  · have k := zit h_ k
    refine Zm.l (fun _ _ k_ => z_iconst (v := 0) dX8_findSorts_136 rfl k_) ?_
    exact k
  · have k := zif h_ k
    refine Zm.l (fun _ _ k_ => z_aload_n dX8_findSorts_125 rfl rfl k_) ?_
    refine zm_geti dX8_findSorts_126 fsX8_806_1 (by decide) (by decide) ?_
    refine Zm.br (fun _ _ k1_ k2_ => z_if_eq (tgt := 136) dX8_findSorts_129 rfl k1_ k2_) (fun h_ => ?_) (fun h_ => ?_)
    · have k := zit h_ k
      refine Zm.l (fun _ _ k_ => z_iconst (v := 0) dX8_findSorts_136 rfl k_) ?_
      exact k
    · have k := zif h_ k
      refine Zm.l (fun _ _ k_ => z_iconst (v := 1) dX8_findSorts_132 rfl k_) ?_
      refine Zm.l (fun _ _ k_ => z_goto (tgt := 137) dX8_findSorts_133 rfl k_) ?_
      exact k
theorem sX8_findSorts_137 {E : zE} {d : Nat} {Q : zO → zM → Prop} (M : zM) (l1 : Int32) (l2 : Int32) (s0 : Int32) (k : if s0 = 0 then (Zm E YX8_findSorts (d + 1) (si M 97 11 (0 : Int32)) [(0, vr (some (97, 1, 0))), (1, vi l1), (3, vi s0)] 152 [] Q) else (Zm E YX8_putNumber d (si M 97 11 (0 : Int32)) (zargs 0 [vr (some (97, 1, 0)), vi l2]) 0 [] (zma E YX8_findSorts (d + 1) [(0, vr (some (97, 1, 0))), (1, vi l1), (3, vi s0)] 149 3 [] Q))) : Zm E YX8_findSorts (d + 1) M [(0, vr (some (97, 1, 0))), (1, vi l1), (2, vi l2)] 137 [vi s0] Q := by
  refine Zm.l (fun _ _ k_ => z_ist_n dX8_findSorts_137 rfl (by decide) (lv' := [(0, vr (some (97, 1, 0))), (1, vi l1), (2, vi l2), (3, vi s0)]) rfl k_) ?_
  refine Zm.l (fun _ _ k_ => z_aload_n dX8_findSorts_138 rfl rfl k_) ?_
  refine Zm.l (fun _ _ k_ => z_iconst (v := 0) dX8_findSorts_139 rfl k_) ?_
  refine zm_puti (by decide) (by decide) dX8_findSorts_140 (zfwN.w fwX8_299_1) rfl ⟨rfl, rfl⟩ ?_
  refine Zm.l (fun _ _ k_ => z_iload_n dX8_findSorts_143 rfl rfl k_) ?_
  refine Zm.br (fun _ _ k1_ k2_ => z_if_eq (tgt := 152) dX8_findSorts_144 rfl k1_ k2_) (fun h_ => ?_) (fun h_ => ?_)
  · have k := zit h_ k
    refine Zm.pick [0, 1, 3] rfl ?_
    exact k
  · have k := zif h_ k
    refine Zm.l (fun _ _ k_ => z_aload_n dX8_findSorts_147 rfl rfl k_) ?_
    refine Zm.l (fun _ _ k_ => z_iload_n dX8_findSorts_148 rfl rfl k_) ?_
    refine Zm.pick [0, 1, 3] rfl ?_
    exact zm_callV (as := [vi l2]) (st := []) dX8_findSorts_149 vsX8_410_1 (Nat.le_refl _) (Nat.le_of_ble_eq_true rfl) (Nat.le_of_ble_eq_true rfl) rfl k
theorem sX8_findSorts_152 {E : zE} {d : Nat} {Q : zO → zM → Prop} (M : zM) (l1 : Int32) (l3 : Int32) (k : if l3 = 0 then (vp_in l1 90 ∧ (Zm E YX8_findSorts (d + 1) (si M 184 (l1).toNatClampNeg (vp_nar .boolean (0 : Int32))) [(0, vr (some (97, 1, 0))), (1, vi (l1 + (1 : Int32)))] 2 [] Q)) else (Zm E YX8_findText d M (zargs 0 [vr (some (97, 1, 0))]) 0 [] (zma E YX8_findSorts (d + 1) [(0, vr (some (97, 1, 0))), (1, vi l1)] 162 3 [vi l1, vr (some (184, 104, 90))] Q))) : Zm E YX8_findSorts (d + 1) M [(0, vr (some (97, 1, 0))), (1, vi l1), (3, vi l3)] 152 [] Q := by
  refine Zm.l (fun _ _ k_ => z_aload_n dX8_findSorts_152 rfl rfl k_) ?_
  refine zm_getr 81 dX8_findSorts_153 fsX8_274_1 rfl ?_
  refine Zm.l (fun _ _ k_ => z_iload_n dX8_findSorts_156 rfl rfl k_) ?_
  refine Zm.l (fun _ _ k_ => z_iload_n dX8_findSorts_157 rfl rfl k_) ?_
  refine Zm.br (fun _ _ k1_ k2_ => z_if_eq (tgt := 173) dX8_findSorts_158 rfl k1_ k2_) (fun h_ => ?_) (fun h_ => ?_)
  · have k := zit h_ k
    refine Zm.l (fun _ _ k_ => z_iconst (v := 0) dX8_findSorts_173 rfl k_) ?_
    obtain ⟨b_, k⟩ := k
    refine zm_zast dX8_findSorts_174 b_ (by decide) (by decide) ?_
    refine Zm.l (fun _ _ k_ => z_inc (v := (l1 + (1 : Int32))) dX8_findSorts_175 rfl rfl (by decide) (lv' := [(0, vr (some (97, 1, 0))), (1, vi (l1 + (1 : Int32))), (3, vi l3)]) rfl k_) ?_
    refine Zm.l (fun _ _ k_ => z_goto (tgt := 2) dX8_findSorts_178 rfl k_) ?_
    refine Zm.pick [0, 1] rfl ?_
    exact k
  · have k := zif h_ k
    refine Zm.l (fun _ _ k_ => z_aload_n dX8_findSorts_161 rfl rfl k_) ?_
    refine Zm.pick [0, 1] rfl ?_
    exact zm_callV (as := []) (st := [vi l1, vr (some (184, 104, 90))]) dX8_findSorts_162 vsX8_302_1 (Nat.le_refl _) (Nat.le_of_ble_eq_true rfl) (Nat.le_of_ble_eq_true rfl) rfl k
theorem sX8_findSorts_165 {E : zE} {d : Nat} {Q : zO → zM → Prop} (M : zM) (l1 : Int32) (s0 : Int32) (s1 : Int32) (k : if s0 = l1 then (vp_in s1 90 ∧ (Zm E YX8_findSorts (d + 1) (si M 184 (s1).toNatClampNeg (vp_nar .boolean (1 : Int32))) [(0, vr (some (97, 1, 0))), (1, vi (l1 + (1 : Int32)))] 2 [] Q)) else (vp_in s1 90 ∧ (Zm E YX8_findSorts (d + 1) (si M 184 (s1).toNatClampNeg (vp_nar .boolean (0 : Int32))) [(0, vr (some (97, 1, 0))), (1, vi (l1 + (1 : Int32)))] 2 [] Q))) : Zm E YX8_findSorts (d + 1) M [(0, vr (some (97, 1, 0))), (1, vi l1)] 165 [vi s0, vi s1, vr (some (184, 104, 90))] Q := by
  refine Zm.l (fun _ _ k_ => z_iload_n dX8_findSorts_165 rfl rfl k_) ?_
  refine Zm.brn (fun _ _ k1_ k2_ => z_icmp_ne (tgt := 173) dX8_findSorts_166 rfl k1_ k2_) (fun h_ => ?_) (fun h_ => ?_)
  · have k := zif h_ k
    refine Zm.l (fun _ _ k_ => z_iconst (v := 0) dX8_findSorts_173 rfl k_) ?_
    obtain ⟨b_, k⟩ := k
    refine zm_zast dX8_findSorts_174 b_ (by decide) (by decide) ?_
    refine Zm.l (fun _ _ k_ => z_inc (v := (l1 + (1 : Int32))) dX8_findSorts_175 rfl rfl (by decide) (lv' := [(0, vr (some (97, 1, 0))), (1, vi (l1 + (1 : Int32)))]) rfl k_) ?_
    refine Zm.l (fun _ _ k_ => z_goto (tgt := 2) dX8_findSorts_178 rfl k_) ?_
    exact k
  · have k := zit h_ k
    refine Zm.l (fun _ _ k_ => z_iconst (v := 1) dX8_findSorts_169 rfl k_) ?_
    refine Zm.l (fun _ _ k_ => z_goto (tgt := 174) dX8_findSorts_170 rfl k_) ?_
    obtain ⟨b_, k⟩ := k
    refine zm_zast dX8_findSorts_174 b_ (by decide) (by decide) ?_
    refine Zm.l (fun _ _ k_ => z_inc (v := (l1 + (1 : Int32))) dX8_findSorts_175 rfl rfl (by decide) (lv' := [(0, vr (some (97, 1, 0))), (1, vi (l1 + (1 : Int32)))]) rfl k_) ?_
    refine Zm.l (fun _ _ k_ => z_goto (tgt := 2) dX8_findSorts_178 rfl k_) ?_
    exact k
theorem sX8_findSorts_183 {E : zE} {d : Nat} {Q : zO → zM → Prop} (M : zM) (l1 : Int32) (k : if (gi M 97 46) ≤ l1 then (Q (.inl none) M) else (vp_in l1 600 ∧ (if (gi M 123 (l1).toNatClampNeg) = (8 : Int32) then (Zm E YX8_findSorts (d + 1) M [(0, vr (some (97, 1, 0))), (1, vi l1)] 213 [] Q) else (vp_in l1 600 ∧ (if (gi M 123 (l1).toNatClampNeg) = (7 : Int32) then (Zm E YX8_findSorts (d + 1) M [(0, vr (some (97, 1, 0))), (1, vi l1)] 213 [] Q) else (Zm E YX8_findSorts (d + 1) M [(0, vr (some (97, 1, 0))), (1, vi l1)] 240 [] Q)))))) : Zm E YX8_findSorts (d + 1) M [(0, vr (some (97, 1, 0))), (1, vi l1)] 183 [] Q := by
  refine Zm.l (fun _ _ k_ => z_iload_n dX8_findSorts_183 rfl rfl k_) ?_
  refine Zm.l (fun _ _ k_ => z_aload_n dX8_findSorts_184 rfl rfl k_) ?_
  refine zm_geti dX8_findSorts_185 fsX8_606_1 (by decide) (by decide) ?_
  refine Zm.br (fun _ _ k1_ k2_ => z_icmp_ge (tgt := 269) dX8_findSorts_188 rfl k1_ k2_) (fun h_ => ?_) (fun h_ => ?_)
  · have k := zit h_ k
    exact zm_vret dX8_findSorts_269 rfl k
  · have k := zif h_ k
    refine Zm.l (fun _ _ k_ => z_aload_n dX8_findSorts_191 rfl rfl k_) ?_
    refine zm_getr 25 dX8_findSorts_192 fsX8_89_1 rfl ?_
    refine Zm.l (fun _ _ k_ => z_iload_n dX8_findSorts_195 rfl rfl k_) ?_
    obtain ⟨b_, k⟩ := k
    refine zm_iald dX8_findSorts_196 b_ (by decide) (by decide) ?_
    refine Zm.l (fun _ _ k_ => z_bipush (v := 8) dX8_findSorts_197 rfl k_) ?_
    refine Zm.br (fun _ _ k1_ k2_ => z_icmp_eq (tgt := 213) dX8_findSorts_199 rfl k1_ k2_) (fun h_ => ?_) (fun h_ => ?_)
    · have k := zit h_ k
      exact k
    · have k := zif h_ k
      refine Zm.l (fun _ _ k_ => z_aload_n dX8_findSorts_202 rfl rfl k_) ?_
      refine zm_getr 25 dX8_findSorts_203 fsX8_89_1 rfl ?_
      refine Zm.l (fun _ _ k_ => z_iload_n dX8_findSorts_206 rfl rfl k_) ?_
      obtain ⟨b_, k⟩ := k
      refine zm_iald dX8_findSorts_207 b_ (by decide) (by decide) ?_
      refine Zm.l (fun _ _ k_ => z_bipush (v := 7) dX8_findSorts_208 rfl k_) ?_
      refine Zm.brn (fun _ _ k1_ k2_ => z_icmp_ne (tgt := 240) dX8_findSorts_210 rfl k1_ k2_) (fun h_ => ?_) (fun h_ => ?_)
      · have k := zif h_ k
        exact k
      · have k := zit h_ k
        exact k
theorem sX8_findSorts_213 {E : zE} {d : Nat} {Q : zO → zM → Prop} (M : zM) (l1 : Int32) (k : vp_in l1 600 ∧ (vp_in l1 600 ∧ (if (gi M 123 (l1).toNatClampNeg) = (8 : Int32) then (vp_in (gi M 124 (l1).toNatClampNeg) 20 ∧ (Zm E YX8_findSorts (d + 1) (si M 187 ((gi M 124 (l1).toNatClampNeg)).toNatClampNeg (vp_nar .boolean (1 : Int32))) [(0, vr (some (97, 1, 0))), (1, vi l1)] 240 [] Q)) else (vp_in (gi M 124 (l1).toNatClampNeg) 20 ∧ (Zm E YX8_findSorts (d + 1) (si M 187 ((gi M 124 (l1).toNatClampNeg)).toNatClampNeg (vp_nar .boolean (0 : Int32))) [(0, vr (some (97, 1, 0))), (1, vi l1)] 240 [] Q))))) : Zm E YX8_findSorts (d + 1) M [(0, vr (some (97, 1, 0))), (1, vi l1)] 213 [] Q := by
  refine Zm.l (fun _ _ k_ => z_aload_n dX8_findSorts_213 rfl rfl k_) ?_
  refine zm_getr 84 dX8_findSorts_214 fsX8_283_1 rfl ?_
  refine Zm.l (fun _ _ k_ => z_aload_n dX8_findSorts_217 rfl rfl k_) ?_
  refine zm_getr 26 dX8_findSorts_218 fsX8_92_1 rfl ?_
  refine Zm.l (fun _ _ k_ => z_iload_n dX8_findSorts_221 rfl rfl k_) ?_
  obtain ⟨b_, k⟩ := k
  refine zm_iald dX8_findSorts_222 b_ (by decide) (by decide) ?_
  refine Zm.l (fun _ _ k_ => z_aload_n dX8_findSorts_223 rfl rfl k_) ?_
  refine zm_getr 25 dX8_findSorts_224 fsX8_89_1 rfl ?_
  refine Zm.l (fun _ _ k_ => z_iload_n dX8_findSorts_227 rfl rfl k_) ?_
  obtain ⟨b_, k⟩ := k
  refine zm_iald dX8_findSorts_228 b_ (by decide) (by decide) ?_
  refine Zm.l (fun _ _ k_ => z_bipush (v := 8) dX8_findSorts_229 rfl k_) ?_
  refine Zm.brn (fun _ _ k1_ k2_ => z_icmp_ne (tgt := 238) dX8_findSorts_231 rfl k1_ k2_) (fun h_ => ?_) (fun h_ => ?_)
  · have k := zif h_ k
    refine Zm.l (fun _ _ k_ => z_iconst (v := 0) dX8_findSorts_238 rfl k_) ?_
    obtain ⟨b_, k⟩ := k
    refine zm_zast dX8_findSorts_239 b_ (by decide) (by decide) ?_
    exact k
  · have k := zit h_ k
    refine Zm.l (fun _ _ k_ => z_iconst (v := 1) dX8_findSorts_234 rfl k_) ?_
    refine Zm.l (fun _ _ k_ => z_goto (tgt := 239) dX8_findSorts_235 rfl k_) ?_
    obtain ⟨b_, k⟩ := k
    refine zm_zast dX8_findSorts_239 b_ (by decide) (by decide) ?_
    exact k
theorem sX8_findSorts_240 {E : zE} {d : Nat} {Q : zO → zM → Prop} (M : zM) (l1 : Int32) (k : vp_in l1 600 ∧ (if (gi M 123 (l1).toNatClampNeg) = (16 : Int32) then (vp_in l1 600 ∧ (vp_in (gi M 125 (l1).toNatClampNeg) 20 ∧ (Zm E YX8_findSorts (d + 1) (si M 187 ((gi M 125 (l1).toNatClampNeg)).toNatClampNeg (vp_nar .boolean (0 : Int32))) [(0, vr (some (97, 1, 0))), (1, vi (l1 + (1 : Int32)))] 183 [] Q))) else (Zm E YX8_findSorts (d + 1) M [(0, vr (some (97, 1, 0))), (1, vi (l1 + (1 : Int32)))] 183 [] Q))) : Zm E YX8_findSorts (d + 1) M [(0, vr (some (97, 1, 0))), (1, vi l1)] 240 [] Q := by
  refine Zm.l (fun _ _ k_ => z_aload_n dX8_findSorts_240 rfl rfl k_) ?_
  refine zm_getr 25 dX8_findSorts_241 fsX8_89_1 rfl ?_
  refine Zm.l (fun _ _ k_ => z_iload_n dX8_findSorts_244 rfl rfl k_) ?_
  obtain ⟨b_, k⟩ := k
  refine zm_iald dX8_findSorts_245 b_ (by decide) (by decide) ?_
  refine Zm.l (fun _ _ k_ => z_bipush (v := 16) dX8_findSorts_246 rfl k_) ?_
  refine Zm.brn (fun _ _ k1_ k2_ => z_icmp_ne (tgt := 263) dX8_findSorts_248 rfl k1_ k2_) (fun h_ => ?_) (fun h_ => ?_)
  · have k := zif h_ k
    refine Zm.l (fun _ _ k_ => z_inc (v := (l1 + (1 : Int32))) dX8_findSorts_263 rfl rfl (by decide) (lv' := [(0, vr (some (97, 1, 0))), (1, vi (l1 + (1 : Int32)))]) rfl k_) ?_
    refine Zm.l (fun _ _ k_ => z_goto (tgt := 183) dX8_findSorts_266 rfl k_) ?_
    exact k
  · have k := zit h_ k
    refine Zm.l (fun _ _ k_ => z_aload_n dX8_findSorts_251 rfl rfl k_) ?_
    refine zm_getr 84 dX8_findSorts_252 fsX8_283_1 rfl ?_
    refine Zm.l (fun _ _ k_ => z_aload_n dX8_findSorts_255 rfl rfl k_) ?_
    refine zm_getr 27 dX8_findSorts_256 fsX8_95_1 rfl ?_
    refine Zm.l (fun _ _ k_ => z_iload_n dX8_findSorts_259 rfl rfl k_) ?_
    obtain ⟨b_, k⟩ := k
    refine zm_iald dX8_findSorts_260 b_ (by decide) (by decide) ?_
    refine Zm.l (fun _ _ k_ => z_iconst (v := 0) dX8_findSorts_261 rfl k_) ?_
    obtain ⟨b_, k⟩ := k
    refine zm_zast dX8_findSorts_262 b_ (by decide) (by decide) ?_
    refine Zm.l (fun _ _ k_ => z_inc (v := (l1 + (1 : Int32))) dX8_findSorts_263 rfl rfl (by decide) (lv' := [(0, vr (some (97, 1, 0))), (1, vi (l1 + (1 : Int32)))]) rfl k_) ?_
    refine Zm.l (fun _ _ k_ => z_goto (tgt := 183) dX8_findSorts_266 rfl k_) ?_
    exact k
/-! ScriptTypesModel.beginWork()V -/
theorem bX8_beginWork_0 : zdec cX8_beginWork 0 [(0, .aload_n 0, 1), (1, .sipush 639, 3), (4, .invokevirtual 1104, 3), (7, .aload_n 0, 1), (8, .getfield 235, 3), (11, .sipush 639, 3), (14, .iconst 0, 1), (15, .iastore, 1), (16, .aload_n 0, 1), (17, .getfield 247, 3), (20, .sipush 639, 3), (23, .iconst 0, 1), (24, .iastore, 1), (25, .iconst 0, 1), (26, .istore_n 1, 1), (27, .iload_n 1, 1)] = true := by decide +kernel
theorem dX8_beginWork_0 : decode cX8_beginWork 0 = .ok (.aload_n 0, 1) := zdec_at bX8_beginWork_0 0 rfl
theorem dX8_beginWork_1 : decode cX8_beginWork 1 = .ok (.sipush 639, 3) := zdec_at bX8_beginWork_0 1 rfl
theorem dX8_beginWork_4 : decode cX8_beginWork 4 = .ok (.invokevirtual 1104, 3) := zdec_at bX8_beginWork_0 2 rfl
theorem dX8_beginWork_7 : decode cX8_beginWork 7 = .ok (.aload_n 0, 1) := zdec_at bX8_beginWork_0 3 rfl
theorem dX8_beginWork_8 : decode cX8_beginWork 8 = .ok (.getfield 235, 3) := zdec_at bX8_beginWork_0 4 rfl
theorem dX8_beginWork_11 : decode cX8_beginWork 11 = .ok (.sipush 639, 3) := zdec_at bX8_beginWork_0 5 rfl
theorem dX8_beginWork_14 : decode cX8_beginWork 14 = .ok (.iconst 0, 1) := zdec_at bX8_beginWork_0 6 rfl
theorem dX8_beginWork_15 : decode cX8_beginWork 15 = .ok (.iastore, 1) := zdec_at bX8_beginWork_0 7 rfl
theorem dX8_beginWork_16 : decode cX8_beginWork 16 = .ok (.aload_n 0, 1) := zdec_at bX8_beginWork_0 8 rfl
theorem dX8_beginWork_17 : decode cX8_beginWork 17 = .ok (.getfield 247, 3) := zdec_at bX8_beginWork_0 9 rfl
theorem dX8_beginWork_20 : decode cX8_beginWork 20 = .ok (.sipush 639, 3) := zdec_at bX8_beginWork_0 10 rfl
theorem dX8_beginWork_23 : decode cX8_beginWork 23 = .ok (.iconst 0, 1) := zdec_at bX8_beginWork_0 11 rfl
theorem dX8_beginWork_24 : decode cX8_beginWork 24 = .ok (.iastore, 1) := zdec_at bX8_beginWork_0 12 rfl
theorem dX8_beginWork_25 : decode cX8_beginWork 25 = .ok (.iconst 0, 1) := zdec_at bX8_beginWork_0 13 rfl
theorem dX8_beginWork_26 : decode cX8_beginWork 26 = .ok (.istore_n 1, 1) := zdec_at bX8_beginWork_0 14 rfl
theorem dX8_beginWork_27 : decode cX8_beginWork 27 = .ok (.iload_n 1, 1) := zdec_at bX8_beginWork_0 15 rfl
theorem bX8_beginWork_28 : zdec cX8_beginWork 28 [(28, .bipush 23, 2), (30, .if_icmp .ge 44, 3), (33, .aload_n 0, 1), (34, .iload_n 1, 1), (35, .iload_n 1, 1), (36, .iconst 1, 1), (37, .if_icmp .ne 7, 3), (40, .iconst (-1), 1), (41, .goto 24, 3), (44, .iload_n 1, 1), (45, .bipush 6, 2), (47, .if_icmp .ge 7, 3), (50, .iconst 1, 1), (51, .goto 14, 3), (54, .iload_n 1, 1), (55, .bipush 9, 2)] = true := by decide +kernel
theorem dX8_beginWork_28 : decode cX8_beginWork 28 = .ok (.bipush 23, 2) := zdec_at bX8_beginWork_28 0 rfl
theorem dX8_beginWork_30 : decode cX8_beginWork 30 = .ok (.if_icmp .ge 44, 3) := zdec_at bX8_beginWork_28 1 rfl
theorem dX8_beginWork_33 : decode cX8_beginWork 33 = .ok (.aload_n 0, 1) := zdec_at bX8_beginWork_28 2 rfl
theorem dX8_beginWork_34 : decode cX8_beginWork 34 = .ok (.iload_n 1, 1) := zdec_at bX8_beginWork_28 3 rfl
theorem dX8_beginWork_35 : decode cX8_beginWork 35 = .ok (.iload_n 1, 1) := zdec_at bX8_beginWork_28 4 rfl
theorem dX8_beginWork_36 : decode cX8_beginWork 36 = .ok (.iconst 1, 1) := zdec_at bX8_beginWork_28 5 rfl
theorem dX8_beginWork_37 : decode cX8_beginWork 37 = .ok (.if_icmp .ne 7, 3) := zdec_at bX8_beginWork_28 6 rfl
theorem dX8_beginWork_40 : decode cX8_beginWork 40 = .ok (.iconst (-1), 1) := zdec_at bX8_beginWork_28 7 rfl
theorem dX8_beginWork_41 : decode cX8_beginWork 41 = .ok (.goto 24, 3) := zdec_at bX8_beginWork_28 8 rfl
theorem dX8_beginWork_44 : decode cX8_beginWork 44 = .ok (.iload_n 1, 1) := zdec_at bX8_beginWork_28 9 rfl
theorem dX8_beginWork_45 : decode cX8_beginWork 45 = .ok (.bipush 6, 2) := zdec_at bX8_beginWork_28 10 rfl
theorem dX8_beginWork_47 : decode cX8_beginWork 47 = .ok (.if_icmp .ge 7, 3) := zdec_at bX8_beginWork_28 11 rfl
theorem dX8_beginWork_50 : decode cX8_beginWork 50 = .ok (.iconst 1, 1) := zdec_at bX8_beginWork_28 12 rfl
theorem dX8_beginWork_51 : decode cX8_beginWork 51 = .ok (.goto 14, 3) := zdec_at bX8_beginWork_28 13 rfl
theorem dX8_beginWork_54 : decode cX8_beginWork 54 = .ok (.iload_n 1, 1) := zdec_at bX8_beginWork_28 14 rfl
theorem dX8_beginWork_55 : decode cX8_beginWork 55 = .ok (.bipush 9, 2) := zdec_at bX8_beginWork_28 15 rfl
theorem bX8_beginWork_57 : zdec cX8_beginWork 57 [(57, .if_icmp .ge 7, 3), (60, .iconst 5, 1), (61, .goto 4, 3), (64, .iconst 2, 1), (65, .invokevirtual 1182, 3), (68, .iinc 1 1, 3), (71, .goto (-44), 3), (74, .iconst 0, 1), (75, .istore_n 1, 1), (76, .iload_n 1, 1), (77, .bipush 9, 2), (79, .if_icmp .ge 21, 3), (82, .aload_n 0, 1), (83, .iconst 0, 1), (84, .iconst 5, 1), (85, .iload_n 1, 1)] = true := by decide +kernel
theorem dX8_beginWork_57 : decode cX8_beginWork 57 = .ok (.if_icmp .ge 7, 3) := zdec_at bX8_beginWork_57 0 rfl
theorem dX8_beginWork_60 : decode cX8_beginWork 60 = .ok (.iconst 5, 1) := zdec_at bX8_beginWork_57 1 rfl
theorem dX8_beginWork_61 : decode cX8_beginWork 61 = .ok (.goto 4, 3) := zdec_at bX8_beginWork_57 2 rfl
theorem dX8_beginWork_64 : decode cX8_beginWork 64 = .ok (.iconst 2, 1) := zdec_at bX8_beginWork_57 3 rfl
theorem dX8_beginWork_65 : decode cX8_beginWork 65 = .ok (.invokevirtual 1182, 3) := zdec_at bX8_beginWork_57 4 rfl
theorem dX8_beginWork_68 : decode cX8_beginWork 68 = .ok (.iinc 1 1, 3) := zdec_at bX8_beginWork_57 5 rfl
theorem dX8_beginWork_71 : decode cX8_beginWork 71 = .ok (.goto (-44), 3) := zdec_at bX8_beginWork_57 6 rfl
theorem dX8_beginWork_74 : decode cX8_beginWork 74 = .ok (.iconst 0, 1) := zdec_at bX8_beginWork_57 7 rfl
theorem dX8_beginWork_75 : decode cX8_beginWork 75 = .ok (.istore_n 1, 1) := zdec_at bX8_beginWork_57 8 rfl
theorem dX8_beginWork_76 : decode cX8_beginWork 76 = .ok (.iload_n 1, 1) := zdec_at bX8_beginWork_57 9 rfl
theorem dX8_beginWork_77 : decode cX8_beginWork 77 = .ok (.bipush 9, 2) := zdec_at bX8_beginWork_57 10 rfl
theorem dX8_beginWork_79 : decode cX8_beginWork 79 = .ok (.if_icmp .ge 21, 3) := zdec_at bX8_beginWork_57 11 rfl
theorem dX8_beginWork_82 : decode cX8_beginWork 82 = .ok (.aload_n 0, 1) := zdec_at bX8_beginWork_57 12 rfl
theorem dX8_beginWork_83 : decode cX8_beginWork 83 = .ok (.iconst 0, 1) := zdec_at bX8_beginWork_57 13 rfl
theorem dX8_beginWork_84 : decode cX8_beginWork 84 = .ok (.iconst 5, 1) := zdec_at bX8_beginWork_57 14 rfl
theorem dX8_beginWork_85 : decode cX8_beginWork 85 = .ok (.iload_n 1, 1) := zdec_at bX8_beginWork_57 15 rfl
theorem bX8_beginWork_86 : zdec cX8_beginWork 86 [(86, .iadd, 1), (87, .bipush 9, 2), (89, .iload_n 1, 1), (90, .iadd, 1), (91, .invokevirtual 1370, 3), (94, .iinc 1 1, 3), (97, .goto (-21), 3), (100, .aload_n 0, 1), (101, .iconst 1, 1), (102, .iconst 2, 1), (103, .bipush 10, 2), (105, .invokevirtual 1370, 3), (108, .aload_n 0, 1), (109, .iconst 1, 1), (110, .bipush 17, 2), (112, .bipush 21, 2)] = true := by decide +kernel
theorem dX8_beginWork_86 : decode cX8_beginWork 86 = .ok (.iadd, 1) := zdec_at bX8_beginWork_86 0 rfl
theorem dX8_beginWork_87 : decode cX8_beginWork 87 = .ok (.bipush 9, 2) := zdec_at bX8_beginWork_86 1 rfl
theorem dX8_beginWork_89 : decode cX8_beginWork 89 = .ok (.iload_n 1, 1) := zdec_at bX8_beginWork_86 2 rfl
theorem dX8_beginWork_90 : decode cX8_beginWork 90 = .ok (.iadd, 1) := zdec_at bX8_beginWork_86 3 rfl
theorem dX8_beginWork_91 : decode cX8_beginWork 91 = .ok (.invokevirtual 1370, 3) := zdec_at bX8_beginWork_86 4 rfl
theorem dX8_beginWork_94 : decode cX8_beginWork 94 = .ok (.iinc 1 1, 3) := zdec_at bX8_beginWork_86 5 rfl
theorem dX8_beginWork_97 : decode cX8_beginWork 97 = .ok (.goto (-21), 3) := zdec_at bX8_beginWork_86 6 rfl
theorem dX8_beginWork_100 : decode cX8_beginWork 100 = .ok (.aload_n 0, 1) := zdec_at bX8_beginWork_86 7 rfl
theorem dX8_beginWork_101 : decode cX8_beginWork 101 = .ok (.iconst 1, 1) := zdec_at bX8_beginWork_86 8 rfl
theorem dX8_beginWork_102 : decode cX8_beginWork 102 = .ok (.iconst 2, 1) := zdec_at bX8_beginWork_86 9 rfl
theorem dX8_beginWork_103 : decode cX8_beginWork 103 = .ok (.bipush 10, 2) := zdec_at bX8_beginWork_86 10 rfl
theorem dX8_beginWork_105 : decode cX8_beginWork 105 = .ok (.invokevirtual 1370, 3) := zdec_at bX8_beginWork_86 11 rfl
theorem dX8_beginWork_108 : decode cX8_beginWork 108 = .ok (.aload_n 0, 1) := zdec_at bX8_beginWork_86 12 rfl
theorem dX8_beginWork_109 : decode cX8_beginWork 109 = .ok (.iconst 1, 1) := zdec_at bX8_beginWork_86 13 rfl
theorem dX8_beginWork_110 : decode cX8_beginWork 110 = .ok (.bipush 17, 2) := zdec_at bX8_beginWork_86 14 rfl
theorem dX8_beginWork_112 : decode cX8_beginWork 112 = .ok (.bipush 21, 2) := zdec_at bX8_beginWork_86 15 rfl
theorem bX8_beginWork_114 : zdec cX8_beginWork 114 [(114, .invokevirtual 1370, 3), (117, .aload_n 0, 1), (118, .iconst 2, 1), (119, .bipush 16, 2), (121, .bipush 20, 2), (123, .invokevirtual 1370, 3), (126, .aload_n 0, 1), (127, .iconst 3, 1), (128, .iconst 2, 1), (129, .bipush 11, 2), (131, .invokevirtual 1370, 3), (134, .aload_n 0, 1), (135, .iconst 3, 1), (136, .bipush 14, 2), (138, .bipush 18, 2), (140, .invokevirtual 1370, 3)] = true := by decide +kernel
theorem dX8_beginWork_114 : decode cX8_beginWork 114 = .ok (.invokevirtual 1370, 3) := zdec_at bX8_beginWork_114 0 rfl
theorem dX8_beginWork_117 : decode cX8_beginWork 117 = .ok (.aload_n 0, 1) := zdec_at bX8_beginWork_114 1 rfl
theorem dX8_beginWork_118 : decode cX8_beginWork 118 = .ok (.iconst 2, 1) := zdec_at bX8_beginWork_114 2 rfl
theorem dX8_beginWork_119 : decode cX8_beginWork 119 = .ok (.bipush 16, 2) := zdec_at bX8_beginWork_114 3 rfl
theorem dX8_beginWork_121 : decode cX8_beginWork 121 = .ok (.bipush 20, 2) := zdec_at bX8_beginWork_114 4 rfl
theorem dX8_beginWork_123 : decode cX8_beginWork 123 = .ok (.invokevirtual 1370, 3) := zdec_at bX8_beginWork_114 5 rfl
theorem dX8_beginWork_126 : decode cX8_beginWork 126 = .ok (.aload_n 0, 1) := zdec_at bX8_beginWork_114 6 rfl
theorem dX8_beginWork_127 : decode cX8_beginWork 127 = .ok (.iconst 3, 1) := zdec_at bX8_beginWork_114 7 rfl
theorem dX8_beginWork_128 : decode cX8_beginWork 128 = .ok (.iconst 2, 1) := zdec_at bX8_beginWork_114 8 rfl
theorem dX8_beginWork_129 : decode cX8_beginWork 129 = .ok (.bipush 11, 2) := zdec_at bX8_beginWork_114 9 rfl
theorem dX8_beginWork_131 : decode cX8_beginWork 131 = .ok (.invokevirtual 1370, 3) := zdec_at bX8_beginWork_114 10 rfl
theorem dX8_beginWork_134 : decode cX8_beginWork 134 = .ok (.aload_n 0, 1) := zdec_at bX8_beginWork_114 11 rfl
theorem dX8_beginWork_135 : decode cX8_beginWork 135 = .ok (.iconst 3, 1) := zdec_at bX8_beginWork_114 12 rfl
theorem dX8_beginWork_136 : decode cX8_beginWork 136 = .ok (.bipush 14, 2) := zdec_at bX8_beginWork_114 13 rfl
theorem dX8_beginWork_138 : decode cX8_beginWork 138 = .ok (.bipush 18, 2) := zdec_at bX8_beginWork_114 14 rfl
theorem dX8_beginWork_140 : decode cX8_beginWork 140 = .ok (.invokevirtual 1370, 3) := zdec_at bX8_beginWork_114 15 rfl
theorem bX8_beginWork_143 : zdec cX8_beginWork 143 [(143, .aload_n 0, 1), (144, .iconst 3, 1), (145, .bipush 15, 2), (147, .bipush 19, 2), (149, .invokevirtual 1370, 3), (152, .aload_n 0, 1), (153, .iconst 4, 1), (154, .iconst 2, 1), (155, .bipush 12, 2), (157, .invokevirtual 1370, 3), (160, .aload_n 0, 1), (161, .iconst 4, 1), (162, .bipush 18, 2), (164, .bipush 22, 2), (166, .invokevirtual 1370, 3), (169, .iconst 0, 1)] = true := by decide +kernel
theorem dX8_beginWork_143 : decode cX8_beginWork 143 = .ok (.aload_n 0, 1) := zdec_at bX8_beginWork_143 0 rfl
theorem dX8_beginWork_144 : decode cX8_beginWork 144 = .ok (.iconst 3, 1) := zdec_at bX8_beginWork_143 1 rfl
theorem dX8_beginWork_145 : decode cX8_beginWork 145 = .ok (.bipush 15, 2) := zdec_at bX8_beginWork_143 2 rfl
theorem dX8_beginWork_147 : decode cX8_beginWork 147 = .ok (.bipush 19, 2) := zdec_at bX8_beginWork_143 3 rfl
theorem dX8_beginWork_149 : decode cX8_beginWork 149 = .ok (.invokevirtual 1370, 3) := zdec_at bX8_beginWork_143 4 rfl
theorem dX8_beginWork_152 : decode cX8_beginWork 152 = .ok (.aload_n 0, 1) := zdec_at bX8_beginWork_143 5 rfl
theorem dX8_beginWork_153 : decode cX8_beginWork 153 = .ok (.iconst 4, 1) := zdec_at bX8_beginWork_143 6 rfl
theorem dX8_beginWork_154 : decode cX8_beginWork 154 = .ok (.iconst 2, 1) := zdec_at bX8_beginWork_143 7 rfl
theorem dX8_beginWork_155 : decode cX8_beginWork 155 = .ok (.bipush 12, 2) := zdec_at bX8_beginWork_143 8 rfl
theorem dX8_beginWork_157 : decode cX8_beginWork 157 = .ok (.invokevirtual 1370, 3) := zdec_at bX8_beginWork_143 9 rfl
theorem dX8_beginWork_160 : decode cX8_beginWork 160 = .ok (.aload_n 0, 1) := zdec_at bX8_beginWork_143 10 rfl
theorem dX8_beginWork_161 : decode cX8_beginWork 161 = .ok (.iconst 4, 1) := zdec_at bX8_beginWork_143 11 rfl
theorem dX8_beginWork_162 : decode cX8_beginWork 162 = .ok (.bipush 18, 2) := zdec_at bX8_beginWork_143 12 rfl
theorem dX8_beginWork_164 : decode cX8_beginWork 164 = .ok (.bipush 22, 2) := zdec_at bX8_beginWork_143 13 rfl
theorem dX8_beginWork_166 : decode cX8_beginWork 166 = .ok (.invokevirtual 1370, 3) := zdec_at bX8_beginWork_143 14 rfl
theorem dX8_beginWork_169 : decode cX8_beginWork 169 = .ok (.iconst 0, 1) := zdec_at bX8_beginWork_143 15 rfl
theorem bX8_beginWork_170 : zdec cX8_beginWork 170 [(170, .istore_n 1, 1), (171, .iload_n 1, 1), (172, .iconst 4, 1), (173, .if_icmp .ge 49, 3), (176, .aload_n 0, 1), (177, .iconst 5, 1), (178, .iload_n 1, 1), (179, .iadd, 1), (180, .iconst 2, 1), (181, .bipush 14, 2), (183, .iload_n 1, 1), (184, .iadd, 1), (185, .invokevirtual 1370, 3), (188, .aload_n 0, 1), (189, .aload_n 0, 1), (190, .iconst 5, 1)] = true := by decide +kernel
theorem dX8_beginWork_170 : decode cX8_beginWork 170 = .ok (.istore_n 1, 1) := zdec_at bX8_beginWork_170 0 rfl
theorem dX8_beginWork_171 : decode cX8_beginWork 171 = .ok (.iload_n 1, 1) := zdec_at bX8_beginWork_170 1 rfl
theorem dX8_beginWork_172 : decode cX8_beginWork 172 = .ok (.iconst 4, 1) := zdec_at bX8_beginWork_170 2 rfl
theorem dX8_beginWork_173 : decode cX8_beginWork 173 = .ok (.if_icmp .ge 49, 3) := zdec_at bX8_beginWork_170 3 rfl
theorem dX8_beginWork_176 : decode cX8_beginWork 176 = .ok (.aload_n 0, 1) := zdec_at bX8_beginWork_170 4 rfl
theorem dX8_beginWork_177 : decode cX8_beginWork 177 = .ok (.iconst 5, 1) := zdec_at bX8_beginWork_170 5 rfl
theorem dX8_beginWork_178 : decode cX8_beginWork 178 = .ok (.iload_n 1, 1) := zdec_at bX8_beginWork_170 6 rfl
theorem dX8_beginWork_179 : decode cX8_beginWork 179 = .ok (.iadd, 1) := zdec_at bX8_beginWork_170 7 rfl
theorem dX8_beginWork_180 : decode cX8_beginWork 180 = .ok (.iconst 2, 1) := zdec_at bX8_beginWork_170 8 rfl
theorem dX8_beginWork_181 : decode cX8_beginWork 181 = .ok (.bipush 14, 2) := zdec_at bX8_beginWork_170 9 rfl
theorem dX8_beginWork_183 : decode cX8_beginWork 183 = .ok (.iload_n 1, 1) := zdec_at bX8_beginWork_170 10 rfl
theorem dX8_beginWork_184 : decode cX8_beginWork 184 = .ok (.iadd, 1) := zdec_at bX8_beginWork_170 11 rfl
theorem dX8_beginWork_185 : decode cX8_beginWork 185 = .ok (.invokevirtual 1370, 3) := zdec_at bX8_beginWork_170 12 rfl
theorem dX8_beginWork_188 : decode cX8_beginWork 188 = .ok (.aload_n 0, 1) := zdec_at bX8_beginWork_170 13 rfl
theorem dX8_beginWork_189 : decode cX8_beginWork 189 = .ok (.aload_n 0, 1) := zdec_at bX8_beginWork_170 14 rfl
theorem dX8_beginWork_190 : decode cX8_beginWork 190 = .ok (.iconst 5, 1) := zdec_at bX8_beginWork_170 15 rfl
theorem bX8_beginWork_191 : zdec cX8_beginWork 191 [(191, .iload_n 1, 1), (192, .iadd, 1), (193, .iconst 4, 1), (194, .invokevirtual 1244, 3), (197, .bipush 10, 2), (199, .iload_n 1, 1), (200, .iadd, 1), (201, .invokevirtual 1078, 3), (204, .aload_n 0, 1), (205, .bipush 14, 2), (207, .iload_n 1, 1), (208, .iadd, 1), (209, .iconst 1, 1), (210, .iconst 5, 1), (211, .iload_n 1, 1), (212, .iadd, 1)] = true := by decide +kernel
theorem dX8_beginWork_191 : decode cX8_beginWork 191 = .ok (.iload_n 1, 1) := zdec_at bX8_beginWork_191 0 rfl
theorem dX8_beginWork_192 : decode cX8_beginWork 192 = .ok (.iadd, 1) := zdec_at bX8_beginWork_191 1 rfl
theorem dX8_beginWork_193 : decode cX8_beginWork 193 = .ok (.iconst 4, 1) := zdec_at bX8_beginWork_191 2 rfl
theorem dX8_beginWork_194 : decode cX8_beginWork 194 = .ok (.invokevirtual 1244, 3) := zdec_at bX8_beginWork_191 3 rfl
theorem dX8_beginWork_197 : decode cX8_beginWork 197 = .ok (.bipush 10, 2) := zdec_at bX8_beginWork_191 4 rfl
theorem dX8_beginWork_199 : decode cX8_beginWork 199 = .ok (.iload_n 1, 1) := zdec_at bX8_beginWork_191 5 rfl
theorem dX8_beginWork_200 : decode cX8_beginWork 200 = .ok (.iadd, 1) := zdec_at bX8_beginWork_191 6 rfl
theorem dX8_beginWork_201 : decode cX8_beginWork 201 = .ok (.invokevirtual 1078, 3) := zdec_at bX8_beginWork_191 7 rfl
theorem dX8_beginWork_204 : decode cX8_beginWork 204 = .ok (.aload_n 0, 1) := zdec_at bX8_beginWork_191 8 rfl
theorem dX8_beginWork_205 : decode cX8_beginWork 205 = .ok (.bipush 14, 2) := zdec_at bX8_beginWork_191 9 rfl
theorem dX8_beginWork_207 : decode cX8_beginWork 207 = .ok (.iload_n 1, 1) := zdec_at bX8_beginWork_191 10 rfl
theorem dX8_beginWork_208 : decode cX8_beginWork 208 = .ok (.iadd, 1) := zdec_at bX8_beginWork_191 11 rfl
theorem dX8_beginWork_209 : decode cX8_beginWork 209 = .ok (.iconst 1, 1) := zdec_at bX8_beginWork_191 12 rfl
theorem dX8_beginWork_210 : decode cX8_beginWork 210 = .ok (.iconst 5, 1) := zdec_at bX8_beginWork_191 13 rfl
theorem dX8_beginWork_211 : decode cX8_beginWork 211 = .ok (.iload_n 1, 1) := zdec_at bX8_beginWork_191 14 rfl
theorem dX8_beginWork_212 : decode cX8_beginWork 212 = .ok (.iadd, 1) := zdec_at bX8_beginWork_191 15 rfl
theorem bX8_beginWork_213 : zdec cX8_beginWork 213 [(213, .invokevirtual 1370, 3), (216, .iinc 1 1, 3), (219, .goto (-48), 3), (222, .aload_n 0, 1), (223, .bipush 10, 2), (225, .iconst 1, 1), (226, .iconst 1, 1), (227, .invokevirtual 1370, 3), (230, .aload_n 0, 1), (231, .bipush 11, 2), (233, .iconst 1, 1), (234, .iconst 3, 1), (235, .invokevirtual 1370, 3), (238, .aload_n 0, 1), (239, .bipush 12, 2), (241, .iconst 1, 1)] = true := by decide +kernel
theorem dX8_beginWork_213 : decode cX8_beginWork 213 = .ok (.invokevirtual 1370, 3) := zdec_at bX8_beginWork_213 0 rfl
theorem dX8_beginWork_216 : decode cX8_beginWork 216 = .ok (.iinc 1 1, 3) := zdec_at bX8_beginWork_213 1 rfl
theorem dX8_beginWork_219 : decode cX8_beginWork 219 = .ok (.goto (-48), 3) := zdec_at bX8_beginWork_213 2 rfl
theorem dX8_beginWork_222 : decode cX8_beginWork 222 = .ok (.aload_n 0, 1) := zdec_at bX8_beginWork_213 3 rfl
theorem dX8_beginWork_223 : decode cX8_beginWork 223 = .ok (.bipush 10, 2) := zdec_at bX8_beginWork_213 4 rfl
theorem dX8_beginWork_225 : decode cX8_beginWork 225 = .ok (.iconst 1, 1) := zdec_at bX8_beginWork_213 5 rfl
theorem dX8_beginWork_226 : decode cX8_beginWork 226 = .ok (.iconst 1, 1) := zdec_at bX8_beginWork_213 6 rfl
theorem dX8_beginWork_227 : decode cX8_beginWork 227 = .ok (.invokevirtual 1370, 3) := zdec_at bX8_beginWork_213 7 rfl
theorem dX8_beginWork_230 : decode cX8_beginWork 230 = .ok (.aload_n 0, 1) := zdec_at bX8_beginWork_213 8 rfl
theorem dX8_beginWork_231 : decode cX8_beginWork 231 = .ok (.bipush 11, 2) := zdec_at bX8_beginWork_213 9 rfl
theorem dX8_beginWork_233 : decode cX8_beginWork 233 = .ok (.iconst 1, 1) := zdec_at bX8_beginWork_213 10 rfl
theorem dX8_beginWork_234 : decode cX8_beginWork 234 = .ok (.iconst 3, 1) := zdec_at bX8_beginWork_213 11 rfl
theorem dX8_beginWork_235 : decode cX8_beginWork 235 = .ok (.invokevirtual 1370, 3) := zdec_at bX8_beginWork_213 12 rfl
theorem dX8_beginWork_238 : decode cX8_beginWork 238 = .ok (.aload_n 0, 1) := zdec_at bX8_beginWork_213 13 rfl
theorem dX8_beginWork_239 : decode cX8_beginWork 239 = .ok (.bipush 12, 2) := zdec_at bX8_beginWork_213 14 rfl
theorem dX8_beginWork_241 : decode cX8_beginWork 241 = .ok (.iconst 1, 1) := zdec_at bX8_beginWork_213 15 rfl
theorem bX8_beginWork_242 : zdec cX8_beginWork 242 [(242, .iconst 4, 1), (243, .invokevirtual 1370, 3), (246, .aload_n 0, 1), (247, .aload_n 0, 1), (248, .sipush 639, 3), (251, .invokevirtual 1098, 3), (254, .iconst 1, 1), (255, .invokevirtual 1072, 3), (258, .return_, 1)] = true := by decide +kernel
theorem dX8_beginWork_242 : decode cX8_beginWork 242 = .ok (.iconst 4, 1) := zdec_at bX8_beginWork_242 0 rfl
theorem dX8_beginWork_243 : decode cX8_beginWork 243 = .ok (.invokevirtual 1370, 3) := zdec_at bX8_beginWork_242 1 rfl
theorem dX8_beginWork_246 : decode cX8_beginWork 246 = .ok (.aload_n 0, 1) := zdec_at bX8_beginWork_242 2 rfl
theorem dX8_beginWork_247 : decode cX8_beginWork 247 = .ok (.aload_n 0, 1) := zdec_at bX8_beginWork_242 3 rfl
theorem dX8_beginWork_248 : decode cX8_beginWork 248 = .ok (.sipush 639, 3) := zdec_at bX8_beginWork_242 4 rfl
theorem dX8_beginWork_251 : decode cX8_beginWork 251 = .ok (.invokevirtual 1098, 3) := zdec_at bX8_beginWork_242 5 rfl
theorem dX8_beginWork_254 : decode cX8_beginWork 254 = .ok (.iconst 1, 1) := zdec_at bX8_beginWork_242 6 rfl
theorem dX8_beginWork_255 : decode cX8_beginWork 255 = .ok (.invokevirtual 1072, 3) := zdec_at bX8_beginWork_242 7 rfl
theorem dX8_beginWork_258 : decode cX8_beginWork 258 = .ok (.return_, 1) := zdec_at bX8_beginWork_242 8 rfl
theorem sX8_beginWork_0 {E : zE} {d : Nat} {Q : zO → zM → Prop} (M : zM)  (k : Zm E YX8_clearState d M (zargs 0 [vr (some (97, 1, 0)), vi (639 : Int32)]) 0 [] (zma E YX8_beginWork (d + 1) [(0, vr (some (97, 1, 0)))] 4 3 [] Q)) : Zm E YX8_beginWork (d + 1) M [(0, vr (some (97, 1, 0)))] 0 [] Q := by
  refine Zm.l (fun _ _ k_ => z_aload_n dX8_beginWork_0 rfl rfl k_) ?_
  refine Zm.l (fun _ _ k_ => z_sipush (v := 639) dX8_beginWork_1 rfl k_) ?_
  exact zm_callV (as := [vi (639 : Int32)]) (st := []) dX8_beginWork_4 vsX8_1104_1 (Nat.le_refl _) (Nat.le_of_ble_eq_true rfl) (Nat.le_of_ble_eq_true rfl) rfl k
theorem sX8_beginWork_7 {E : zE} {d : Nat} {Q : zO → zM → Prop} (M : zM)  (k : vp_in (639 : Int32) 640 ∧ (vp_in (639 : Int32) 640 ∧ (Zm E YX8_beginWork (d + 1) (si (si M 171 ((639 : Int32)).toNatClampNeg (0 : Int32)) 175 ((639 : Int32)).toNatClampNeg (0 : Int32)) [(0, vr (some (97, 1, 0))), (1, vi (0 : Int32))] 27 [] Q))) : Zm E YX8_beginWork (d + 1) M [(0, vr (some (97, 1, 0)))] 7 [] Q := by
  refine Zm.l (fun _ _ k_ => z_aload_n dX8_beginWork_7 rfl rfl k_) ?_
  refine zm_getr 68 dX8_beginWork_8 fsX8_235_1 rfl ?_
  refine Zm.l (fun _ _ k_ => z_sipush (v := 639) dX8_beginWork_11 rfl k_) ?_
  refine Zm.l (fun _ _ k_ => z_iconst (v := 0) dX8_beginWork_14 rfl k_) ?_
  obtain ⟨b_, k⟩ := k
  refine zm_iast dX8_beginWork_15 b_ (by decide) (by decide) ?_
  refine Zm.l (fun _ _ k_ => z_aload_n dX8_beginWork_16 rfl rfl k_) ?_
  refine zm_getr 72 dX8_beginWork_17 fsX8_247_1 rfl ?_
  refine Zm.l (fun _ _ k_ => z_sipush (v := 639) dX8_beginWork_20 rfl k_) ?_
  refine Zm.l (fun _ _ k_ => z_iconst (v := 0) dX8_beginWork_23 rfl k_) ?_
  obtain ⟨b_, k⟩ := k
  refine zm_iast dX8_beginWork_24 b_ (by decide) (by decide) ?_
  refine Zm.l (fun _ _ k_ => z_iconst (v := 0) dX8_beginWork_25 rfl k_) ?_
  refine Zm.l (fun _ _ k_ => z_ist_n dX8_beginWork_26 rfl (by decide) (lv' := [(0, vr (some (97, 1, 0))), (1, vi (0 : Int32))]) rfl k_) ?_
  exact k
theorem sX8_beginWork_27 {E : zE} {d : Nat} {Q : zO → zM → Prop} (M : zM) (l1 : Int32) (k : if (23 : Int32) ≤ l1 then (Zm E YX8_beginWork (d + 1) M [(0, vr (some (97, 1, 0))), (1, vi (0 : Int32))] 76 [] Q) else (if l1 = (1 : Int32) then (Zm E YX8_newLabel d M (zargs 0 [vr (some (97, 1, 0)), vi l1, vi (-1 : Int32)]) 0 [] (zma E YX8_beginWork (d + 1) [(0, vr (some (97, 1, 0))), (1, vi l1)] 65 3 [] Q)) else (if (6 : Int32) ≤ l1 then (if (9 : Int32) ≤ l1 then (Zm E YX8_newLabel d M (zargs 0 [vr (some (97, 1, 0)), vi l1, vi (2 : Int32)]) 0 [] (zma E YX8_beginWork (d + 1) [(0, vr (some (97, 1, 0))), (1, vi l1)] 65 3 [] Q)) else (Zm E YX8_newLabel d M (zargs 0 [vr (some (97, 1, 0)), vi l1, vi (5 : Int32)]) 0 [] (zma E YX8_beginWork (d + 1) [(0, vr (some (97, 1, 0))), (1, vi l1)] 65 3 [] Q))) else (Zm E YX8_newLabel d M (zargs 0 [vr (some (97, 1, 0)), vi l1, vi (1 : Int32)]) 0 [] (zma E YX8_beginWork (d + 1) [(0, vr (some (97, 1, 0))), (1, vi l1)] 65 3 [] Q))))) : Zm E YX8_beginWork (d + 1) M [(0, vr (some (97, 1, 0))), (1, vi l1)] 27 [] Q := by
  refine Zm.l (fun _ _ k_ => z_iload_n dX8_beginWork_27 rfl rfl k_) ?_
  refine Zm.l (fun _ _ k_ => z_bipush (v := 23) dX8_beginWork_28 rfl k_) ?_
  refine Zm.br (fun _ _ k1_ k2_ => z_icmp_ge (tgt := 74) dX8_beginWork_30 rfl k1_ k2_) (fun h_ => ?_) (fun h_ => ?_)
  · have k := zit h_ k
    refine Zm.l (fun _ _ k_ => z_iconst (v := 0) dX8_beginWork_74 rfl k_) ?_
    refine Zm.l (fun _ _ k_ => z_ist_n dX8_beginWork_75 rfl (by decide) (lv' := [(0, vr (some (97, 1, 0))), (1, vi (0 : Int32))]) rfl k_) ?_
    exact k
  · have k := zif h_ k
    refine Zm.l (fun _ _ k_ => z_aload_n dX8_beginWork_33 rfl rfl k_) ?_
    refine Zm.l (fun _ _ k_ => z_iload_n dX8_beginWork_34 rfl rfl k_) ?_
    refine Zm.l (fun _ _ k_ => z_iload_n dX8_beginWork_35 rfl rfl k_) ?_
    refine Zm.l (fun _ _ k_ => z_iconst (v := 1) dX8_beginWork_36 rfl k_) ?_
    refine Zm.brn (fun _ _ k1_ k2_ => z_icmp_ne (tgt := 44) dX8_beginWork_37 rfl k1_ k2_) (fun h_ => ?_) (fun h_ => ?_)
    · have k := zif h_ k
      refine Zm.l (fun _ _ k_ => z_iload_n dX8_beginWork_44 rfl rfl k_) ?_
      refine Zm.l (fun _ _ k_ => z_bipush (v := 6) dX8_beginWork_45 rfl k_) ?_
      refine Zm.br (fun _ _ k1_ k2_ => z_icmp_ge (tgt := 54) dX8_beginWork_47 rfl k1_ k2_) (fun h_ => ?_) (fun h_ => ?_)
      · have k := zit h_ k
        refine Zm.l (fun _ _ k_ => z_iload_n dX8_beginWork_54 rfl rfl k_) ?_
        refine Zm.l (fun _ _ k_ => z_bipush (v := 9) dX8_beginWork_55 rfl k_) ?_
        refine Zm.br (fun _ _ k1_ k2_ => z_icmp_ge (tgt := 64) dX8_beginWork_57 rfl k1_ k2_) (fun h_ => ?_) (fun h_ => ?_)
        · have k := zit h_ k
          refine Zm.l (fun _ _ k_ => z_iconst (v := 2) dX8_beginWork_64 rfl k_) ?_
          exact zm_callV (as := [vi l1, vi (2 : Int32)]) (st := []) dX8_beginWork_65 vsX8_1182_1 (Nat.le_refl _) (Nat.le_of_ble_eq_true rfl) (Nat.le_of_ble_eq_true rfl) rfl k
        · have k := zif h_ k
          refine Zm.l (fun _ _ k_ => z_iconst (v := 5) dX8_beginWork_60 rfl k_) ?_
          refine Zm.l (fun _ _ k_ => z_goto (tgt := 65) dX8_beginWork_61 rfl k_) ?_
          exact zm_callV (as := [vi l1, vi (5 : Int32)]) (st := []) dX8_beginWork_65 vsX8_1182_1 (Nat.le_refl _) (Nat.le_of_ble_eq_true rfl) (Nat.le_of_ble_eq_true rfl) rfl k
      · have k := zif h_ k
        refine Zm.l (fun _ _ k_ => z_iconst (v := 1) dX8_beginWork_50 rfl k_) ?_
        refine Zm.l (fun _ _ k_ => z_goto (tgt := 65) dX8_beginWork_51 rfl k_) ?_
        exact zm_callV (as := [vi l1, vi (1 : Int32)]) (st := []) dX8_beginWork_65 vsX8_1182_1 (Nat.le_refl _) (Nat.le_of_ble_eq_true rfl) (Nat.le_of_ble_eq_true rfl) rfl k
    · have k := zit h_ k
      refine Zm.l (fun _ _ k_ => z_iconst (v := -1) dX8_beginWork_40 rfl k_) ?_
      refine Zm.l (fun _ _ k_ => z_goto (tgt := 65) dX8_beginWork_41 rfl k_) ?_
      exact zm_callV (as := [vi l1, vi (-1 : Int32)]) (st := []) dX8_beginWork_65 vsX8_1182_1 (Nat.le_refl _) (Nat.le_of_ble_eq_true rfl) (Nat.le_of_ble_eq_true rfl) rfl k
theorem sX8_beginWork_68 {E : zE} {d : Nat} {Q : zO → zM → Prop} (M : zM) (l1 : Int32) (k : Zm E YX8_beginWork (d + 1) M [(0, vr (some (97, 1, 0))), (1, vi (l1 + (1 : Int32)))] 27 [] Q) : Zm E YX8_beginWork (d + 1) M [(0, vr (some (97, 1, 0))), (1, vi l1)] 68 [] Q := by
  refine Zm.l (fun _ _ k_ => z_inc (v := (l1 + (1 : Int32))) dX8_beginWork_68 rfl rfl (by decide) (lv' := [(0, vr (some (97, 1, 0))), (1, vi (l1 + (1 : Int32)))]) rfl k_) ?_
  refine Zm.l (fun _ _ k_ => z_goto (tgt := 27) dX8_beginWork_71 rfl k_) ?_
  exact k
theorem sX8_beginWork_76 {E : zE} {d : Nat} {Q : zO → zM → Prop} (M : zM) (l1 : Int32) (k : if (9 : Int32) ≤ l1 then (Zm E YX8_hasField d M (zargs 0 [vr (some (97, 1, 0)), vi (1 : Int32), vi (2 : Int32), vi (10 : Int32)]) 0 [] (zma E YX8_beginWork (d + 1) [(0, vr (some (97, 1, 0)))] 105 3 [] Q)) else (Zm E YX8_hasField d M (zargs 0 [vr (some (97, 1, 0)), vi (0 : Int32), vi ((5 : Int32) + l1), vi ((9 : Int32) + l1)]) 0 [] (zma E YX8_beginWork (d + 1) [(0, vr (some (97, 1, 0))), (1, vi l1)] 91 3 [] Q))) : Zm E YX8_beginWork (d + 1) M [(0, vr (some (97, 1, 0))), (1, vi l1)] 76 [] Q := by
  refine Zm.l (fun _ _ k_ => z_iload_n dX8_beginWork_76 rfl rfl k_) ?_
  refine Zm.l (fun _ _ k_ => z_bipush (v := 9) dX8_beginWork_77 rfl k_) ?_
  refine Zm.br (fun _ _ k1_ k2_ => z_icmp_ge (tgt := 100) dX8_beginWork_79 rfl k1_ k2_) (fun h_ => ?_) (fun h_ => ?_)
  · have k := zit h_ k
    refine Zm.l (fun _ _ k_ => z_aload_n dX8_beginWork_100 rfl rfl k_) ?_
    refine Zm.l (fun _ _ k_ => z_iconst (v := 1) dX8_beginWork_101 rfl k_) ?_
    refine Zm.l (fun _ _ k_ => z_iconst (v := 2) dX8_beginWork_102 rfl k_) ?_
    refine Zm.l (fun _ _ k_ => z_bipush (v := 10) dX8_beginWork_103 rfl k_) ?_
    refine Zm.pick [0] rfl ?_
    exact zm_callV (as := [vi (1 : Int32), vi (2 : Int32), vi (10 : Int32)]) (st := []) dX8_beginWork_105 vsX8_1370_1 (Nat.le_refl _) (Nat.le_of_ble_eq_true rfl) (Nat.le_of_ble_eq_true rfl) rfl k
  · have k := zif h_ k
    refine Zm.l (fun _ _ k_ => z_aload_n dX8_beginWork_82 rfl rfl k_) ?_
    refine Zm.l (fun _ _ k_ => z_iconst (v := 0) dX8_beginWork_83 rfl k_) ?_
    refine Zm.l (fun _ _ k_ => z_iconst (v := 5) dX8_beginWork_84 rfl k_) ?_
    refine Zm.l (fun _ _ k_ => z_iload_n dX8_beginWork_85 rfl rfl k_) ?_
    refine Zm.l (fun _ _ k_ => z_iadd dX8_beginWork_86 k_) ?_
    refine Zm.l (fun _ _ k_ => z_bipush (v := 9) dX8_beginWork_87 rfl k_) ?_
    refine Zm.l (fun _ _ k_ => z_iload_n dX8_beginWork_89 rfl rfl k_) ?_
    refine Zm.l (fun _ _ k_ => z_iadd dX8_beginWork_90 k_) ?_
    exact zm_callV (as := [vi (0 : Int32), vi ((5 : Int32) + l1), vi ((9 : Int32) + l1)]) (st := []) dX8_beginWork_91 vsX8_1370_1 (Nat.le_refl _) (Nat.le_of_ble_eq_true rfl) (Nat.le_of_ble_eq_true rfl) rfl k
theorem sX8_beginWork_94 {E : zE} {d : Nat} {Q : zO → zM → Prop} (M : zM) (l1 : Int32) (k : Zm E YX8_beginWork (d + 1) M [(0, vr (some (97, 1, 0))), (1, vi (l1 + (1 : Int32)))] 76 [] Q) : Zm E YX8_beginWork (d + 1) M [(0, vr (some (97, 1, 0))), (1, vi l1)] 94 [] Q := by
  refine Zm.l (fun _ _ k_ => z_inc (v := (l1 + (1 : Int32))) dX8_beginWork_94 rfl rfl (by decide) (lv' := [(0, vr (some (97, 1, 0))), (1, vi (l1 + (1 : Int32)))]) rfl k_) ?_
  refine Zm.l (fun _ _ k_ => z_goto (tgt := 76) dX8_beginWork_97 rfl k_) ?_
  exact k
theorem sX8_beginWork_108 {E : zE} {d : Nat} {Q : zO → zM → Prop} (M : zM)  (k : Zm E YX8_hasField d M (zargs 0 [vr (some (97, 1, 0)), vi (1 : Int32), vi (17 : Int32), vi (21 : Int32)]) 0 [] (zma E YX8_beginWork (d + 1) [(0, vr (some (97, 1, 0)))] 114 3 [] Q)) : Zm E YX8_beginWork (d + 1) M [(0, vr (some (97, 1, 0)))] 108 [] Q := by
  refine Zm.l (fun _ _ k_ => z_aload_n dX8_beginWork_108 rfl rfl k_) ?_
  refine Zm.l (fun _ _ k_ => z_iconst (v := 1) dX8_beginWork_109 rfl k_) ?_
  refine Zm.l (fun _ _ k_ => z_bipush (v := 17) dX8_beginWork_110 rfl k_) ?_
  refine Zm.l (fun _ _ k_ => z_bipush (v := 21) dX8_beginWork_112 rfl k_) ?_
  exact zm_callV (as := [vi (1 : Int32), vi (17 : Int32), vi (21 : Int32)]) (st := []) dX8_beginWork_114 vsX8_1370_1 (Nat.le_refl _) (Nat.le_of_ble_eq_true rfl) (Nat.le_of_ble_eq_true rfl) rfl k
theorem sX8_beginWork_117 {E : zE} {d : Nat} {Q : zO → zM → Prop} (M : zM)  (k : Zm E YX8_hasField d M (zargs 0 [vr (some (97, 1, 0)), vi (2 : Int32), vi (16 : Int32), vi (20 : Int32)]) 0 [] (zma E YX8_beginWork (d + 1) [(0, vr (some (97, 1, 0)))] 123 3 [] Q)) : Zm E YX8_beginWork (d + 1) M [(0, vr (some (97, 1, 0)))] 117 [] Q := by
  refine Zm.l (fun _ _ k_ => z_aload_n dX8_beginWork_117 rfl rfl k_) ?_
  refine Zm.l (fun _ _ k_ => z_iconst (v := 2) dX8_beginWork_118 rfl k_) ?_
  refine Zm.l (fun _ _ k_ => z_bipush (v := 16) dX8_beginWork_119 rfl k_) ?_
  refine Zm.l (fun _ _ k_ => z_bipush (v := 20) dX8_beginWork_121 rfl k_) ?_
  exact zm_callV (as := [vi (2 : Int32), vi (16 : Int32), vi (20 : Int32)]) (st := []) dX8_beginWork_123 vsX8_1370_1 (Nat.le_refl _) (Nat.le_of_ble_eq_true rfl) (Nat.le_of_ble_eq_true rfl) rfl k
theorem sX8_beginWork_126 {E : zE} {d : Nat} {Q : zO → zM → Prop} (M : zM)  (k : Zm E YX8_hasField d M (zargs 0 [vr (some (97, 1, 0)), vi (3 : Int32), vi (2 : Int32), vi (11 : Int32)]) 0 [] (zma E YX8_beginWork (d + 1) [(0, vr (some (97, 1, 0)))] 131 3 [] Q)) : Zm E YX8_beginWork (d + 1) M [(0, vr (some (97, 1, 0)))] 126 [] Q := by
  refine Zm.l (fun _ _ k_ => z_aload_n dX8_beginWork_126 rfl rfl k_) ?_
  refine Zm.l (fun _ _ k_ => z_iconst (v := 3) dX8_beginWork_127 rfl k_) ?_
  refine Zm.l (fun _ _ k_ => z_iconst (v := 2) dX8_beginWork_128 rfl k_) ?_
  refine Zm.l (fun _ _ k_ => z_bipush (v := 11) dX8_beginWork_129 rfl k_) ?_
  exact zm_callV (as := [vi (3 : Int32), vi (2 : Int32), vi (11 : Int32)]) (st := []) dX8_beginWork_131 vsX8_1370_1 (Nat.le_refl _) (Nat.le_of_ble_eq_true rfl) (Nat.le_of_ble_eq_true rfl) rfl k
theorem sX8_beginWork_134 {E : zE} {d : Nat} {Q : zO → zM → Prop} (M : zM)  (k : Zm E YX8_hasField d M (zargs 0 [vr (some (97, 1, 0)), vi (3 : Int32), vi (14 : Int32), vi (18 : Int32)]) 0 [] (zma E YX8_beginWork (d + 1) [(0, vr (some (97, 1, 0)))] 140 3 [] Q)) : Zm E YX8_beginWork (d + 1) M [(0, vr (some (97, 1, 0)))] 134 [] Q := by
  refine Zm.l (fun _ _ k_ => z_aload_n dX8_beginWork_134 rfl rfl k_) ?_
  refine Zm.l (fun _ _ k_ => z_iconst (v := 3) dX8_beginWork_135 rfl k_) ?_
  refine Zm.l (fun _ _ k_ => z_bipush (v := 14) dX8_beginWork_136 rfl k_) ?_
  refine Zm.l (fun _ _ k_ => z_bipush (v := 18) dX8_beginWork_138 rfl k_) ?_
  exact zm_callV (as := [vi (3 : Int32), vi (14 : Int32), vi (18 : Int32)]) (st := []) dX8_beginWork_140 vsX8_1370_1 (Nat.le_refl _) (Nat.le_of_ble_eq_true rfl) (Nat.le_of_ble_eq_true rfl) rfl k
theorem sX8_beginWork_143 {E : zE} {d : Nat} {Q : zO → zM → Prop} (M : zM)  (k : Zm E YX8_hasField d M (zargs 0 [vr (some (97, 1, 0)), vi (3 : Int32), vi (15 : Int32), vi (19 : Int32)]) 0 [] (zma E YX8_beginWork (d + 1) [(0, vr (some (97, 1, 0)))] 149 3 [] Q)) : Zm E YX8_beginWork (d + 1) M [(0, vr (some (97, 1, 0)))] 143 [] Q := by
  refine Zm.l (fun _ _ k_ => z_aload_n dX8_beginWork_143 rfl rfl k_) ?_
  refine Zm.l (fun _ _ k_ => z_iconst (v := 3) dX8_beginWork_144 rfl k_) ?_
  refine Zm.l (fun _ _ k_ => z_bipush (v := 15) dX8_beginWork_145 rfl k_) ?_
  refine Zm.l (fun _ _ k_ => z_bipush (v := 19) dX8_beginWork_147 rfl k_) ?_
  exact zm_callV (as := [vi (3 : Int32), vi (15 : Int32), vi (19 : Int32)]) (st := []) dX8_beginWork_149 vsX8_1370_1 (Nat.le_refl _) (Nat.le_of_ble_eq_true rfl) (Nat.le_of_ble_eq_true rfl) rfl k
theorem sX8_beginWork_152 {E : zE} {d : Nat} {Q : zO → zM → Prop} (M : zM)  (k : Zm E YX8_hasField d M (zargs 0 [vr (some (97, 1, 0)), vi (4 : Int32), vi (2 : Int32), vi (12 : Int32)]) 0 [] (zma E YX8_beginWork (d + 1) [(0, vr (some (97, 1, 0)))] 157 3 [] Q)) : Zm E YX8_beginWork (d + 1) M [(0, vr (some (97, 1, 0)))] 152 [] Q := by
  refine Zm.l (fun _ _ k_ => z_aload_n dX8_beginWork_152 rfl rfl k_) ?_
  refine Zm.l (fun _ _ k_ => z_iconst (v := 4) dX8_beginWork_153 rfl k_) ?_
  refine Zm.l (fun _ _ k_ => z_iconst (v := 2) dX8_beginWork_154 rfl k_) ?_
  refine Zm.l (fun _ _ k_ => z_bipush (v := 12) dX8_beginWork_155 rfl k_) ?_
  exact zm_callV (as := [vi (4 : Int32), vi (2 : Int32), vi (12 : Int32)]) (st := []) dX8_beginWork_157 vsX8_1370_1 (Nat.le_refl _) (Nat.le_of_ble_eq_true rfl) (Nat.le_of_ble_eq_true rfl) rfl k
theorem sX8_beginWork_160 {E : zE} {d : Nat} {Q : zO → zM → Prop} (M : zM)  (k : Zm E YX8_hasField d M (zargs 0 [vr (some (97, 1, 0)), vi (4 : Int32), vi (18 : Int32), vi (22 : Int32)]) 0 [] (zma E YX8_beginWork (d + 1) [(0, vr (some (97, 1, 0)))] 166 3 [] Q)) : Zm E YX8_beginWork (d + 1) M [(0, vr (some (97, 1, 0)))] 160 [] Q := by
  refine Zm.l (fun _ _ k_ => z_aload_n dX8_beginWork_160 rfl rfl k_) ?_
  refine Zm.l (fun _ _ k_ => z_iconst (v := 4) dX8_beginWork_161 rfl k_) ?_
  refine Zm.l (fun _ _ k_ => z_bipush (v := 18) dX8_beginWork_162 rfl k_) ?_
  refine Zm.l (fun _ _ k_ => z_bipush (v := 22) dX8_beginWork_164 rfl k_) ?_
  exact zm_callV (as := [vi (4 : Int32), vi (18 : Int32), vi (22 : Int32)]) (st := []) dX8_beginWork_166 vsX8_1370_1 (Nat.le_refl _) (Nat.le_of_ble_eq_true rfl) (Nat.le_of_ble_eq_true rfl) rfl k
theorem sX8_beginWork_169 {E : zE} {d : Nat} {Q : zO → zM → Prop} (M : zM)  (k : Zm E YX8_beginWork (d + 1) M [(0, vr (some (97, 1, 0))), (1, vi (0 : Int32))] 171 [] Q) : Zm E YX8_beginWork (d + 1) M [(0, vr (some (97, 1, 0)))] 169 [] Q := by
  refine Zm.l (fun _ _ k_ => z_iconst (v := 0) dX8_beginWork_169 rfl k_) ?_
  refine Zm.l (fun _ _ k_ => z_ist_n dX8_beginWork_170 rfl (by decide) (lv' := [(0, vr (some (97, 1, 0))), (1, vi (0 : Int32))]) rfl k_) ?_
  exact k
theorem sX8_beginWork_171 {E : zE} {d : Nat} {Q : zO → zM → Prop} (M : zM) (l1 : Int32) (k : if (4 : Int32) ≤ l1 then (Zm E YX8_hasField d M (zargs 0 [vr (some (97, 1, 0)), vi (10 : Int32), vi (1 : Int32), vi (1 : Int32)]) 0 [] (zma E YX8_beginWork (d + 1) [(0, vr (some (97, 1, 0)))] 227 3 [] Q)) else (Zm E YX8_hasField d M (zargs 0 [vr (some (97, 1, 0)), vi ((5 : Int32) + l1), vi (2 : Int32), vi ((14 : Int32) + l1)]) 0 [] (zma E YX8_beginWork (d + 1) [(0, vr (some (97, 1, 0))), (1, vi l1)] 185 3 [] Q))) : Zm E YX8_beginWork (d + 1) M [(0, vr (some (97, 1, 0))), (1, vi l1)] 171 [] Q := by
  refine Zm.l (fun _ _ k_ => z_iload_n dX8_beginWork_171 rfl rfl k_) ?_
  refine Zm.l (fun _ _ k_ => z_iconst (v := 4) dX8_beginWork_172 rfl k_) ?_
  refine Zm.br (fun _ _ k1_ k2_ => z_icmp_ge (tgt := 222) dX8_beginWork_173 rfl k1_ k2_) (fun h_ => ?_) (fun h_ => ?_)
  · have k := zit h_ k
    refine Zm.l (fun _ _ k_ => z_aload_n dX8_beginWork_222 rfl rfl k_) ?_
    refine Zm.l (fun _ _ k_ => z_bipush (v := 10) dX8_beginWork_223 rfl k_) ?_
    refine Zm.l (fun _ _ k_ => z_iconst (v := 1) dX8_beginWork_225 rfl k_) ?_
    refine Zm.l (fun _ _ k_ => z_iconst (v := 1) dX8_beginWork_226 rfl k_) ?_
    refine Zm.pick [0] rfl ?_
    exact zm_callV (as := [vi (10 : Int32), vi (1 : Int32), vi (1 : Int32)]) (st := []) dX8_beginWork_227 vsX8_1370_1 (Nat.le_refl _) (Nat.le_of_ble_eq_true rfl) (Nat.le_of_ble_eq_true rfl) rfl k
  · have k := zif h_ k
    refine Zm.l (fun _ _ k_ => z_aload_n dX8_beginWork_176 rfl rfl k_) ?_
    refine Zm.l (fun _ _ k_ => z_iconst (v := 5) dX8_beginWork_177 rfl k_) ?_
    refine Zm.l (fun _ _ k_ => z_iload_n dX8_beginWork_178 rfl rfl k_) ?_
    refine Zm.l (fun _ _ k_ => z_iadd dX8_beginWork_179 k_) ?_
    refine Zm.l (fun _ _ k_ => z_iconst (v := 2) dX8_beginWork_180 rfl k_) ?_
    refine Zm.l (fun _ _ k_ => z_bipush (v := 14) dX8_beginWork_181 rfl k_) ?_
    refine Zm.l (fun _ _ k_ => z_iload_n dX8_beginWork_183 rfl rfl k_) ?_
    refine Zm.l (fun _ _ k_ => z_iadd dX8_beginWork_184 k_) ?_
    exact zm_callV (as := [vi ((5 : Int32) + l1), vi (2 : Int32), vi ((14 : Int32) + l1)]) (st := []) dX8_beginWork_185 vsX8_1370_1 (Nat.le_refl _) (Nat.le_of_ble_eq_true rfl) (Nat.le_of_ble_eq_true rfl) rfl k
theorem sX8_beginWork_188 {E : zE} {d : Nat} {Q : zO → zM → Prop} (M : zM) (l1 : Int32) (k : Zm E YX8_fresh_2 d M (zargs 0 [vr (some (97, 1, 0)), vi ((5 : Int32) + l1), vi (4 : Int32)]) 0 [] (zma E YX8_beginWork (d + 1) [(0, vr (some (97, 1, 0))), (1, vi l1)] 194 3 [vr (some (97, 1, 0))] Q)) : Zm E YX8_beginWork (d + 1) M [(0, vr (some (97, 1, 0))), (1, vi l1)] 188 [] Q := by
  refine Zm.l (fun _ _ k_ => z_aload_n dX8_beginWork_188 rfl rfl k_) ?_
  refine Zm.l (fun _ _ k_ => z_aload_n dX8_beginWork_189 rfl rfl k_) ?_
  refine Zm.l (fun _ _ k_ => z_iconst (v := 5) dX8_beginWork_190 rfl k_) ?_
  refine Zm.l (fun _ _ k_ => z_iload_n dX8_beginWork_191 rfl rfl k_) ?_
  refine Zm.l (fun _ _ k_ => z_iadd dX8_beginWork_192 k_) ?_
  refine Zm.l (fun _ _ k_ => z_iconst (v := 4) dX8_beginWork_193 rfl k_) ?_
  exact zm_callV (as := [vi ((5 : Int32) + l1), vi (4 : Int32)]) (st := [vr (some (97, 1, 0))]) dX8_beginWork_194 vsX8_1244_1 (Nat.le_refl _) (Nat.le_of_ble_eq_true rfl) (Nat.le_of_ble_eq_true rfl) rfl k
theorem sX8_beginWork_197 {E : zE} {d : Nat} {Q : zO → zM → Prop} (M : zM) (l1 : Int32) (s0 : Int32) (k : Zm E YX8_addString d M (zargs 0 [vr (some (97, 1, 0)), vi s0, vi ((10 : Int32) + l1)]) 0 [] (zma E YX8_beginWork (d + 1) [(0, vr (some (97, 1, 0))), (1, vi l1)] 201 3 [] Q)) : Zm E YX8_beginWork (d + 1) M [(0, vr (some (97, 1, 0))), (1, vi l1)] 197 [vi s0, vr (some (97, 1, 0))] Q := by
  refine Zm.l (fun _ _ k_ => z_bipush (v := 10) dX8_beginWork_197 rfl k_) ?_
  refine Zm.l (fun _ _ k_ => z_iload_n dX8_beginWork_199 rfl rfl k_) ?_
  refine Zm.l (fun _ _ k_ => z_iadd dX8_beginWork_200 k_) ?_
  exact zm_callV (as := [vi s0, vi ((10 : Int32) + l1)]) (st := []) dX8_beginWork_201 vsX8_1078_1 (Nat.le_refl _) (Nat.le_of_ble_eq_true rfl) (Nat.le_of_ble_eq_true rfl) rfl k
theorem sX8_beginWork_204 {E : zE} {d : Nat} {Q : zO → zM → Prop} (M : zM) (l1 : Int32) (k : Zm E YX8_hasField d M (zargs 0 [vr (some (97, 1, 0)), vi ((14 : Int32) + l1), vi (1 : Int32), vi ((5 : Int32) + l1)]) 0 [] (zma E YX8_beginWork (d + 1) [(0, vr (some (97, 1, 0))), (1, vi l1)] 213 3 [] Q)) : Zm E YX8_beginWork (d + 1) M [(0, vr (some (97, 1, 0))), (1, vi l1)] 204 [] Q := by
  refine Zm.l (fun _ _ k_ => z_aload_n dX8_beginWork_204 rfl rfl k_) ?_
  refine Zm.l (fun _ _ k_ => z_bipush (v := 14) dX8_beginWork_205 rfl k_) ?_
  refine Zm.l (fun _ _ k_ => z_iload_n dX8_beginWork_207 rfl rfl k_) ?_
  refine Zm.l (fun _ _ k_ => z_iadd dX8_beginWork_208 k_) ?_
  refine Zm.l (fun _ _ k_ => z_iconst (v := 1) dX8_beginWork_209 rfl k_) ?_
  refine Zm.l (fun _ _ k_ => z_iconst (v := 5) dX8_beginWork_210 rfl k_) ?_
  refine Zm.l (fun _ _ k_ => z_iload_n dX8_beginWork_211 rfl rfl k_) ?_
  refine Zm.l (fun _ _ k_ => z_iadd dX8_beginWork_212 k_) ?_
  exact zm_callV (as := [vi ((14 : Int32) + l1), vi (1 : Int32), vi ((5 : Int32) + l1)]) (st := []) dX8_beginWork_213 vsX8_1370_1 (Nat.le_refl _) (Nat.le_of_ble_eq_true rfl) (Nat.le_of_ble_eq_true rfl) rfl k
theorem sX8_beginWork_216 {E : zE} {d : Nat} {Q : zO → zM → Prop} (M : zM) (l1 : Int32) (k : Zm E YX8_beginWork (d + 1) M [(0, vr (some (97, 1, 0))), (1, vi (l1 + (1 : Int32)))] 171 [] Q) : Zm E YX8_beginWork (d + 1) M [(0, vr (some (97, 1, 0))), (1, vi l1)] 216 [] Q := by
  refine Zm.l (fun _ _ k_ => z_inc (v := (l1 + (1 : Int32))) dX8_beginWork_216 rfl rfl (by decide) (lv' := [(0, vr (some (97, 1, 0))), (1, vi (l1 + (1 : Int32)))]) rfl k_) ?_
  refine Zm.l (fun _ _ k_ => z_goto (tgt := 171) dX8_beginWork_219 rfl k_) ?_
  exact k
theorem sX8_beginWork_230 {E : zE} {d : Nat} {Q : zO → zM → Prop} (M : zM)  (k : Zm E YX8_hasField d M (zargs 0 [vr (some (97, 1, 0)), vi (11 : Int32), vi (1 : Int32), vi (3 : Int32)]) 0 [] (zma E YX8_beginWork (d + 1) [(0, vr (some (97, 1, 0)))] 235 3 [] Q)) : Zm E YX8_beginWork (d + 1) M [(0, vr (some (97, 1, 0)))] 230 [] Q := by
  refine Zm.l (fun _ _ k_ => z_aload_n dX8_beginWork_230 rfl rfl k_) ?_
  refine Zm.l (fun _ _ k_ => z_bipush (v := 11) dX8_beginWork_231 rfl k_) ?_
  refine Zm.l (fun _ _ k_ => z_iconst (v := 1) dX8_beginWork_233 rfl k_) ?_
  refine Zm.l (fun _ _ k_ => z_iconst (v := 3) dX8_beginWork_234 rfl k_) ?_
  exact zm_callV (as := [vi (11 : Int32), vi (1 : Int32), vi (3 : Int32)]) (st := []) dX8_beginWork_235 vsX8_1370_1 (Nat.le_refl _) (Nat.le_of_ble_eq_true rfl) (Nat.le_of_ble_eq_true rfl) rfl k
theorem sX8_beginWork_238 {E : zE} {d : Nat} {Q : zO → zM → Prop} (M : zM)  (k : Zm E YX8_hasField d M (zargs 0 [vr (some (97, 1, 0)), vi (12 : Int32), vi (1 : Int32), vi (4 : Int32)]) 0 [] (zma E YX8_beginWork (d + 1) [(0, vr (some (97, 1, 0)))] 243 3 [] Q)) : Zm E YX8_beginWork (d + 1) M [(0, vr (some (97, 1, 0)))] 238 [] Q := by
  refine Zm.l (fun _ _ k_ => z_aload_n dX8_beginWork_238 rfl rfl k_) ?_
  refine Zm.l (fun _ _ k_ => z_bipush (v := 12) dX8_beginWork_239 rfl k_) ?_
  refine Zm.l (fun _ _ k_ => z_iconst (v := 1) dX8_beginWork_241 rfl k_) ?_
  refine Zm.l (fun _ _ k_ => z_iconst (v := 4) dX8_beginWork_242 rfl k_) ?_
  exact zm_callV (as := [vi (12 : Int32), vi (1 : Int32), vi (4 : Int32)]) (st := []) dX8_beginWork_243 vsX8_1370_1 (Nat.le_refl _) (Nat.le_of_ble_eq_true rfl) (Nat.le_of_ble_eq_true rfl) rfl k
theorem sX8_beginWork_246 {E : zE} {d : Nat} {Q : zO → zM → Prop} (M : zM)  (k : Zm E YX8_thisAt d M (zargs 0 [vr (some (97, 1, 0)), vi (639 : Int32)]) 0 [] (zma E YX8_beginWork (d + 1) [] 251 3 [vr (some (97, 1, 0))] Q)) : Zm E YX8_beginWork (d + 1) M [(0, vr (some (97, 1, 0)))] 246 [] Q := by
  refine Zm.l (fun _ _ k_ => z_aload_n dX8_beginWork_246 rfl rfl k_) ?_
  refine Zm.l (fun _ _ k_ => z_aload_n dX8_beginWork_247 rfl rfl k_) ?_
  refine Zm.l (fun _ _ k_ => z_sipush (v := 639) dX8_beginWork_248 rfl k_) ?_
  refine Zm.pick [] rfl ?_
  exact zm_callV (as := [vi (639 : Int32)]) (st := [vr (some (97, 1, 0))]) dX8_beginWork_251 vsX8_1098_1 (Nat.le_refl _) (Nat.le_of_ble_eq_true rfl) (Nat.le_of_ble_eq_true rfl) rfl k
theorem sX8_beginWork_254 {E : zE} {d : Nat} {Q : zO → zM → Prop} (M : zM) (s0 : Int32) (k : Zm E YX8_addSort d M (zargs 0 [vr (some (97, 1, 0)), vi s0, vi (1 : Int32)]) 0 [] (zma E YX8_beginWork (d + 1) [] 255 3 [] Q)) : Zm E YX8_beginWork (d + 1) M [] 254 [vi s0, vr (some (97, 1, 0))] Q := by
  refine Zm.l (fun _ _ k_ => z_iconst (v := 1) dX8_beginWork_254 rfl k_) ?_
  exact zm_callV (as := [vi s0, vi (1 : Int32)]) (st := []) dX8_beginWork_255 vsX8_1072_1 (Nat.le_refl _) (Nat.le_of_ble_eq_true rfl) (Nat.le_of_ble_eq_true rfl) rfl k
theorem sX8_beginWork_258 {E : zE} {d : Nat} {Q : zO → zM → Prop} (M : zM)  (k : Q (.inl none) M) : Zm E YX8_beginWork (d + 1) M [] 258 [] Q := by
  exact zm_vret dX8_beginWork_258 rfl k
/-! ScriptTypesModel.clearState(I)V -/
theorem bX8_clearState_0 : zdec cX8_clearState 0 [(0, .aload_n 0, 1), (1, .iload_n 1, 1), (2, .invokevirtual 1085, 3), (5, .istore_n 2, 1), (6, .iconst 0, 1), (7, .istore_n 3, 1), (8, .iload_n 3, 1), (9, .aload_n 0, 1), (10, .getfield 765, 3), (13, .aload_n 0, 1), (14, .getfield 762, 3), (17, .iconst 1, 1), (18, .iadd, 1), (19, .imul, 1), (20, .if_icmp .ge 16, 3), (23, .aload_n 0, 1)] = true := by decide +kernel
theorem dX8_clearState_0 : decode cX8_clearState 0 = .ok (.aload_n 0, 1) := zdec_at bX8_clearState_0 0 rfl
theorem dX8_clearState_1 : decode cX8_clearState 1 = .ok (.iload_n 1, 1) := zdec_at bX8_clearState_0 1 rfl
theorem dX8_clearState_2 : decode cX8_clearState 2 = .ok (.invokevirtual 1085, 3) := zdec_at bX8_clearState_0 2 rfl
theorem dX8_clearState_5 : decode cX8_clearState 5 = .ok (.istore_n 2, 1) := zdec_at bX8_clearState_0 3 rfl
theorem dX8_clearState_6 : decode cX8_clearState 6 = .ok (.iconst 0, 1) := zdec_at bX8_clearState_0 4 rfl
theorem dX8_clearState_7 : decode cX8_clearState 7 = .ok (.istore_n 3, 1) := zdec_at bX8_clearState_0 5 rfl
theorem dX8_clearState_8 : decode cX8_clearState 8 = .ok (.iload_n 3, 1) := zdec_at bX8_clearState_0 6 rfl
theorem dX8_clearState_9 : decode cX8_clearState 9 = .ok (.aload_n 0, 1) := zdec_at bX8_clearState_0 7 rfl
theorem dX8_clearState_10 : decode cX8_clearState 10 = .ok (.getfield 765, 3) := zdec_at bX8_clearState_0 8 rfl
theorem dX8_clearState_13 : decode cX8_clearState 13 = .ok (.aload_n 0, 1) := zdec_at bX8_clearState_0 9 rfl
theorem dX8_clearState_14 : decode cX8_clearState 14 = .ok (.getfield 762, 3) := zdec_at bX8_clearState_0 10 rfl
theorem dX8_clearState_17 : decode cX8_clearState 17 = .ok (.iconst 1, 1) := zdec_at bX8_clearState_0 11 rfl
theorem dX8_clearState_18 : decode cX8_clearState 18 = .ok (.iadd, 1) := zdec_at bX8_clearState_0 12 rfl
theorem dX8_clearState_19 : decode cX8_clearState 19 = .ok (.imul, 1) := zdec_at bX8_clearState_0 13 rfl
theorem dX8_clearState_20 : decode cX8_clearState 20 = .ok (.if_icmp .ge 16, 3) := zdec_at bX8_clearState_0 14 rfl
theorem dX8_clearState_23 : decode cX8_clearState 23 = .ok (.aload_n 0, 1) := zdec_at bX8_clearState_0 15 rfl
theorem bX8_clearState_24 : zdec cX8_clearState 24 [(24, .iload_n 2, 1), (25, .iload_n 3, 1), (26, .iadd, 1), (27, .invokevirtual 1066, 3), (30, .iinc 3 1, 3), (33, .goto (-25), 3), (36, .iconst 0, 1), (37, .istore_n 3, 1), (38, .iload_n 3, 1), (39, .aload_n 0, 1), (40, .getfield 765, 3), (43, .if_icmp .ge 65, 3), (46, .aload_n 0, 1), (47, .iload_n 1, 1), (48, .iload_n 3, 1), (49, .invokevirtual 1101, 3)] = true := by decide +kernel
theorem dX8_clearState_24 : decode cX8_clearState 24 = .ok (.iload_n 2, 1) := zdec_at bX8_clearState_24 0 rfl
theorem dX8_clearState_25 : decode cX8_clearState 25 = .ok (.iload_n 3, 1) := zdec_at bX8_clearState_24 1 rfl
theorem dX8_clearState_26 : decode cX8_clearState 26 = .ok (.iadd, 1) := zdec_at bX8_clearState_24 2 rfl
theorem dX8_clearState_27 : decode cX8_clearState 27 = .ok (.invokevirtual 1066, 3) := zdec_at bX8_clearState_24 3 rfl
theorem dX8_clearState_30 : decode cX8_clearState 30 = .ok (.iinc 3 1, 3) := zdec_at bX8_clearState_24 4 rfl
theorem dX8_clearState_33 : decode cX8_clearState 33 = .ok (.goto (-25), 3) := zdec_at bX8_clearState_24 5 rfl
theorem dX8_clearState_36 : decode cX8_clearState 36 = .ok (.iconst 0, 1) := zdec_at bX8_clearState_24 6 rfl
theorem dX8_clearState_37 : decode cX8_clearState 37 = .ok (.istore_n 3, 1) := zdec_at bX8_clearState_24 7 rfl
theorem dX8_clearState_38 : decode cX8_clearState 38 = .ok (.iload_n 3, 1) := zdec_at bX8_clearState_24 8 rfl
theorem dX8_clearState_39 : decode cX8_clearState 39 = .ok (.aload_n 0, 1) := zdec_at bX8_clearState_24 9 rfl
theorem dX8_clearState_40 : decode cX8_clearState 40 = .ok (.getfield 765, 3) := zdec_at bX8_clearState_24 10 rfl
theorem dX8_clearState_43 : decode cX8_clearState 43 = .ok (.if_icmp .ge 65, 3) := zdec_at bX8_clearState_24 11 rfl
theorem dX8_clearState_46 : decode cX8_clearState 46 = .ok (.aload_n 0, 1) := zdec_at bX8_clearState_24 12 rfl
theorem dX8_clearState_47 : decode cX8_clearState 47 = .ok (.iload_n 1, 1) := zdec_at bX8_clearState_24 13 rfl
theorem dX8_clearState_48 : decode cX8_clearState 48 = .ok (.iload_n 3, 1) := zdec_at bX8_clearState_24 14 rfl
theorem dX8_clearState_49 : decode cX8_clearState 49 = .ok (.invokevirtual 1101, 3) := zdec_at bX8_clearState_24 15 rfl
theorem bX8_clearState_52 : zdec cX8_clearState 52 [(52, .istore 4, 2), (54, .aload_n 0, 1), (55, .getfield 256, 3), (58, .iload 4, 2), (60, .iconst 0, 1), (61, .bastore, 1), (62, .aload_n 0, 1), (63, .getfield 259, 3), (66, .iload 4, 2), (68, .iconst 0, 1), (69, .bastore, 1), (70, .aload_n 0, 1), (71, .getfield 262, 3), (74, .iload 4, 2), (76, .lconst 0, 1), (77, .lastore, 1)] = true := by decide +kernel
theorem dX8_clearState_52 : decode cX8_clearState 52 = .ok (.istore 4, 2) := zdec_at bX8_clearState_52 0 rfl
theorem dX8_clearState_54 : decode cX8_clearState 54 = .ok (.aload_n 0, 1) := zdec_at bX8_clearState_52 1 rfl
theorem dX8_clearState_55 : decode cX8_clearState 55 = .ok (.getfield 256, 3) := zdec_at bX8_clearState_52 2 rfl
theorem dX8_clearState_58 : decode cX8_clearState 58 = .ok (.iload 4, 2) := zdec_at bX8_clearState_52 3 rfl
theorem dX8_clearState_60 : decode cX8_clearState 60 = .ok (.iconst 0, 1) := zdec_at bX8_clearState_52 4 rfl
theorem dX8_clearState_61 : decode cX8_clearState 61 = .ok (.bastore, 1) := zdec_at bX8_clearState_52 5 rfl
theorem dX8_clearState_62 : decode cX8_clearState 62 = .ok (.aload_n 0, 1) := zdec_at bX8_clearState_52 6 rfl
theorem dX8_clearState_63 : decode cX8_clearState 63 = .ok (.getfield 259, 3) := zdec_at bX8_clearState_52 7 rfl
theorem dX8_clearState_66 : decode cX8_clearState 66 = .ok (.iload 4, 2) := zdec_at bX8_clearState_52 8 rfl
theorem dX8_clearState_68 : decode cX8_clearState 68 = .ok (.iconst 0, 1) := zdec_at bX8_clearState_52 9 rfl
theorem dX8_clearState_69 : decode cX8_clearState 69 = .ok (.bastore, 1) := zdec_at bX8_clearState_52 10 rfl
theorem dX8_clearState_70 : decode cX8_clearState 70 = .ok (.aload_n 0, 1) := zdec_at bX8_clearState_52 11 rfl
theorem dX8_clearState_71 : decode cX8_clearState 71 = .ok (.getfield 262, 3) := zdec_at bX8_clearState_52 12 rfl
theorem dX8_clearState_74 : decode cX8_clearState 74 = .ok (.iload 4, 2) := zdec_at bX8_clearState_52 13 rfl
theorem dX8_clearState_76 : decode cX8_clearState 76 = .ok (.lconst 0, 1) := zdec_at bX8_clearState_52 14 rfl
theorem dX8_clearState_77 : decode cX8_clearState 77 = .ok (.lastore, 1) := zdec_at bX8_clearState_52 15 rfl
theorem bX8_clearState_78 : zdec cX8_clearState 78 [(78, .aload_n 0, 1), (79, .getfield 265, 3), (82, .iload 4, 2), (84, .lconst 0, 1), (85, .lastore, 1), (86, .aload_n 0, 1), (87, .getfield 268, 3), (90, .iload 4, 2), (92, .lconst 0, 1), (93, .lastore, 1), (94, .aload_n 0, 1), (95, .getfield 271, 3), (98, .iload 4, 2), (100, .lconst 0, 1), (101, .lastore, 1), (102, .iinc 3 1, 3)] = true := by decide +kernel
theorem dX8_clearState_78 : decode cX8_clearState 78 = .ok (.aload_n 0, 1) := zdec_at bX8_clearState_78 0 rfl
theorem dX8_clearState_79 : decode cX8_clearState 79 = .ok (.getfield 265, 3) := zdec_at bX8_clearState_78 1 rfl
theorem dX8_clearState_82 : decode cX8_clearState 82 = .ok (.iload 4, 2) := zdec_at bX8_clearState_78 2 rfl
theorem dX8_clearState_84 : decode cX8_clearState 84 = .ok (.lconst 0, 1) := zdec_at bX8_clearState_78 3 rfl
theorem dX8_clearState_85 : decode cX8_clearState 85 = .ok (.lastore, 1) := zdec_at bX8_clearState_78 4 rfl
theorem dX8_clearState_86 : decode cX8_clearState 86 = .ok (.aload_n 0, 1) := zdec_at bX8_clearState_78 5 rfl
theorem dX8_clearState_87 : decode cX8_clearState 87 = .ok (.getfield 268, 3) := zdec_at bX8_clearState_78 6 rfl
theorem dX8_clearState_90 : decode cX8_clearState 90 = .ok (.iload 4, 2) := zdec_at bX8_clearState_78 7 rfl
theorem dX8_clearState_92 : decode cX8_clearState 92 = .ok (.lconst 0, 1) := zdec_at bX8_clearState_78 8 rfl
theorem dX8_clearState_93 : decode cX8_clearState 93 = .ok (.lastore, 1) := zdec_at bX8_clearState_78 9 rfl
theorem dX8_clearState_94 : decode cX8_clearState 94 = .ok (.aload_n 0, 1) := zdec_at bX8_clearState_78 10 rfl
theorem dX8_clearState_95 : decode cX8_clearState 95 = .ok (.getfield 271, 3) := zdec_at bX8_clearState_78 11 rfl
theorem dX8_clearState_98 : decode cX8_clearState 98 = .ok (.iload 4, 2) := zdec_at bX8_clearState_78 12 rfl
theorem dX8_clearState_100 : decode cX8_clearState 100 = .ok (.lconst 0, 1) := zdec_at bX8_clearState_78 13 rfl
theorem dX8_clearState_101 : decode cX8_clearState 101 = .ok (.lastore, 1) := zdec_at bX8_clearState_78 14 rfl
theorem dX8_clearState_102 : decode cX8_clearState 102 = .ok (.iinc 3 1, 3) := zdec_at bX8_clearState_78 15 rfl
theorem bX8_clearState_105 : zdec cX8_clearState 105 [(105, .goto (-67), 3), (108, .aload_n 0, 1), (109, .aload_n 0, 1), (110, .iload_n 1, 1), (111, .invokevirtual 1098, 3), (114, .invokevirtual 1066, 3), (117, .aload_n 0, 1), (118, .getfield 241, 3), (121, .iload_n 1, 1), (122, .lconst 0, 1), (123, .lastore, 1), (124, .aload_n 0, 1), (125, .getfield 244, 3), (128, .iload_n 1, 1), (129, .lconst 0, 1), (130, .lastore, 1)] = true := by decide +kernel
theorem dX8_clearState_105 : decode cX8_clearState 105 = .ok (.goto (-67), 3) := zdec_at bX8_clearState_105 0 rfl
theorem dX8_clearState_108 : decode cX8_clearState 108 = .ok (.aload_n 0, 1) := zdec_at bX8_clearState_105 1 rfl
theorem dX8_clearState_109 : decode cX8_clearState 109 = .ok (.aload_n 0, 1) := zdec_at bX8_clearState_105 2 rfl
theorem dX8_clearState_110 : decode cX8_clearState 110 = .ok (.iload_n 1, 1) := zdec_at bX8_clearState_105 3 rfl
theorem dX8_clearState_111 : decode cX8_clearState 111 = .ok (.invokevirtual 1098, 3) := zdec_at bX8_clearState_105 4 rfl
theorem dX8_clearState_114 : decode cX8_clearState 114 = .ok (.invokevirtual 1066, 3) := zdec_at bX8_clearState_105 5 rfl
theorem dX8_clearState_117 : decode cX8_clearState 117 = .ok (.aload_n 0, 1) := zdec_at bX8_clearState_105 6 rfl
theorem dX8_clearState_118 : decode cX8_clearState 118 = .ok (.getfield 241, 3) := zdec_at bX8_clearState_105 7 rfl
theorem dX8_clearState_121 : decode cX8_clearState 121 = .ok (.iload_n 1, 1) := zdec_at bX8_clearState_105 8 rfl
theorem dX8_clearState_122 : decode cX8_clearState 122 = .ok (.lconst 0, 1) := zdec_at bX8_clearState_105 9 rfl
theorem dX8_clearState_123 : decode cX8_clearState 123 = .ok (.lastore, 1) := zdec_at bX8_clearState_105 10 rfl
theorem dX8_clearState_124 : decode cX8_clearState 124 = .ok (.aload_n 0, 1) := zdec_at bX8_clearState_105 11 rfl
theorem dX8_clearState_125 : decode cX8_clearState 125 = .ok (.getfield 244, 3) := zdec_at bX8_clearState_105 12 rfl
theorem dX8_clearState_128 : decode cX8_clearState 128 = .ok (.iload_n 1, 1) := zdec_at bX8_clearState_105 13 rfl
theorem dX8_clearState_129 : decode cX8_clearState 129 = .ok (.lconst 0, 1) := zdec_at bX8_clearState_105 14 rfl
theorem dX8_clearState_130 : decode cX8_clearState 130 = .ok (.lastore, 1) := zdec_at bX8_clearState_105 15 rfl
theorem bX8_clearState_131 : zdec cX8_clearState 131 [(131, .return_, 1)] = true := by decide +kernel
theorem dX8_clearState_131 : decode cX8_clearState 131 = .ok (.return_, 1) := zdec_at bX8_clearState_131 0 rfl
theorem sX8_clearState_0 {E : zE} {d : Nat} {Q : zO → zM → Prop} (M : zM) (l1 : Int32) (k : Zm E YX8_fieldsAt d M (zargs 0 [vr (some (97, 1, 0)), vi l1]) 0 [] (zma E YX8_clearState (d + 1) [(0, vr (some (97, 1, 0))), (1, vi l1)] 2 3 [] Q)) : Zm E YX8_clearState (d + 1) M [(0, vr (some (97, 1, 0))), (1, vi l1)] 0 [] Q := by
  refine Zm.l (fun _ _ k_ => z_aload_n dX8_clearState_0 rfl rfl k_) ?_
  refine Zm.l (fun _ _ k_ => z_iload_n dX8_clearState_1 rfl rfl k_) ?_
  exact zm_callV (as := [vi l1]) (st := []) dX8_clearState_2 vsX8_1085_1 (Nat.le_refl _) (Nat.le_of_ble_eq_true rfl) (Nat.le_of_ble_eq_true rfl) rfl k
theorem sX8_clearState_5 {E : zE} {d : Nat} {Q : zO → zM → Prop} (M : zM) (l1 : Int32) (s0 : Int32) (k : Zm E YX8_clearState (d + 1) M [(0, vr (some (97, 1, 0))), (1, vi l1), (2, vi s0), (3, vi (0 : Int32))] 8 [] Q) : Zm E YX8_clearState (d + 1) M [(0, vr (some (97, 1, 0))), (1, vi l1)] 5 [vi s0] Q := by
  refine Zm.l (fun _ _ k_ => z_ist_n dX8_clearState_5 rfl (by decide) (lv' := [(0, vr (some (97, 1, 0))), (1, vi l1), (2, vi s0)]) rfl k_) ?_
  refine Zm.l (fun _ _ k_ => z_iconst (v := 0) dX8_clearState_6 rfl k_) ?_
  refine Zm.l (fun _ _ k_ => z_ist_n dX8_clearState_7 rfl (by decide) (lv' := [(0, vr (some (97, 1, 0))), (1, vi l1), (2, vi s0), (3, vi (0 : Int32))]) rfl k_) ?_
  exact k
theorem sX8_clearState_8 {E : zE} {d : Nat} {Q : zO → zM → Prop} (M : zM) (l1 : Int32) (l2 : Int32) (l3 : Int32) (k : if ((gi M 97 71) * ((gi M 97 8) + (1 : Int32))) ≤ l3 then (Zm E YX8_clearState (d + 1) M [(0, vr (some (97, 1, 0))), (1, vi l1), (3, vi (0 : Int32))] 38 [] Q) else (Zm E YX8_empty d M (zargs 0 [vr (some (97, 1, 0)), vi (l2 + l3)]) 0 [] (zma E YX8_clearState (d + 1) [(0, vr (some (97, 1, 0))), (1, vi l1), (2, vi l2), (3, vi l3)] 27 3 [] Q))) : Zm E YX8_clearState (d + 1) M [(0, vr (some (97, 1, 0))), (1, vi l1), (2, vi l2), (3, vi l3)] 8 [] Q := by
  refine Zm.l (fun _ _ k_ => z_iload_n dX8_clearState_8 rfl rfl k_) ?_
  refine Zm.l (fun _ _ k_ => z_aload_n dX8_clearState_9 rfl rfl k_) ?_
  refine zm_geti dX8_clearState_10 fsX8_765_1 (by decide) (by decide) ?_
  refine Zm.l (fun _ _ k_ => z_aload_n dX8_clearState_13 rfl rfl k_) ?_
  refine zm_geti dX8_clearState_14 fsX8_762_1 (by decide) (by decide) ?_
  refine Zm.l (fun _ _ k_ => z_iconst (v := 1) dX8_clearState_17 rfl k_) ?_
  refine Zm.l (fun _ _ k_ => z_iadd dX8_clearState_18 k_) ?_
  refine Zm.l (fun _ _ k_ => z_imul dX8_clearState_19 k_) ?_
  refine Zm.br (fun _ _ k1_ k2_ => z_icmp_ge (tgt := 36) dX8_clearState_20 rfl k1_ k2_) (fun h_ => ?_) (fun h_ => ?_)
  · have k := zit h_ k
    refine Zm.l (fun _ _ k_ => z_iconst (v := 0) dX8_clearState_36 rfl k_) ?_
    refine Zm.l (fun _ _ k_ => z_ist_n dX8_clearState_37 rfl (by decide) (lv' := [(0, vr (some (97, 1, 0))), (1, vi l1), (2, vi l2), (3, vi (0 : Int32))]) rfl k_) ?_
    refine Zm.pick [0, 1, 3] rfl ?_
    exact k
  · have k := zif h_ k
    refine Zm.l (fun _ _ k_ => z_aload_n dX8_clearState_23 rfl rfl k_) ?_
    refine Zm.l (fun _ _ k_ => z_iload_n dX8_clearState_24 rfl rfl k_) ?_
    refine Zm.l (fun _ _ k_ => z_iload_n dX8_clearState_25 rfl rfl k_) ?_
    refine Zm.l (fun _ _ k_ => z_iadd dX8_clearState_26 k_) ?_
    exact zm_callV (as := [vi (l2 + l3)]) (st := []) dX8_clearState_27 vsX8_1066_1 (Nat.le_refl _) (Nat.le_of_ble_eq_true rfl) (Nat.le_of_ble_eq_true rfl) rfl k
theorem sX8_clearState_30 {E : zE} {d : Nat} {Q : zO → zM → Prop} (M : zM) (l1 : Int32) (l2 : Int32) (l3 : Int32) (k : Zm E YX8_clearState (d + 1) M [(0, vr (some (97, 1, 0))), (1, vi l1), (2, vi l2), (3, vi (l3 + (1 : Int32)))] 8 [] Q) : Zm E YX8_clearState (d + 1) M [(0, vr (some (97, 1, 0))), (1, vi l1), (2, vi l2), (3, vi l3)] 30 [] Q := by
  refine Zm.l (fun _ _ k_ => z_inc (v := (l3 + (1 : Int32))) dX8_clearState_30 rfl rfl (by decide) (lv' := [(0, vr (some (97, 1, 0))), (1, vi l1), (2, vi l2), (3, vi (l3 + (1 : Int32)))]) rfl k_) ?_
  refine Zm.l (fun _ _ k_ => z_goto (tgt := 8) dX8_clearState_33 rfl k_) ?_
  exact k
theorem sX8_clearState_38 {E : zE} {d : Nat} {Q : zO → zM → Prop} (M : zM) (l1 : Int32) (l3 : Int32) (k : if (gi M 97 71) ≤ l3 then (Zm E YX8_thisAt d M (zargs 0 [vr (some (97, 1, 0)), vi l1]) 0 [] (zma E YX8_clearState (d + 1) [(0, vr (some (97, 1, 0))), (1, vi l1)] 111 3 [vr (some (97, 1, 0))] Q)) else (Zm E YX8_of d M (zargs 0 [vr (some (97, 1, 0)), vi l1, vi l3]) 0 [] (zma E YX8_clearState (d + 1) [(0, vr (some (97, 1, 0))), (1, vi l1), (3, vi l3)] 49 3 [] Q))) : Zm E YX8_clearState (d + 1) M [(0, vr (some (97, 1, 0))), (1, vi l1), (3, vi l3)] 38 [] Q := by
  refine Zm.l (fun _ _ k_ => z_iload_n dX8_clearState_38 rfl rfl k_) ?_
  refine Zm.l (fun _ _ k_ => z_aload_n dX8_clearState_39 rfl rfl k_) ?_
  refine zm_geti dX8_clearState_40 fsX8_765_1 (by decide) (by decide) ?_
  refine Zm.br (fun _ _ k1_ k2_ => z_icmp_ge (tgt := 108) dX8_clearState_43 rfl k1_ k2_) (fun h_ => ?_) (fun h_ => ?_)
  · have k := zit h_ k
    refine Zm.l (fun _ _ k_ => z_aload_n dX8_clearState_108 rfl rfl k_) ?_
    refine Zm.l (fun _ _ k_ => z_aload_n dX8_clearState_109 rfl rfl k_) ?_
    refine Zm.l (fun _ _ k_ => z_iload_n dX8_clearState_110 rfl rfl k_) ?_
    refine Zm.pick [0, 1] rfl ?_
    exact zm_callV (as := [vi l1]) (st := [vr (some (97, 1, 0))]) dX8_clearState_111 vsX8_1098_1 (Nat.le_refl _) (Nat.le_of_ble_eq_true rfl) (Nat.le_of_ble_eq_true rfl) rfl k
  · have k := zif h_ k
    refine Zm.l (fun _ _ k_ => z_aload_n dX8_clearState_46 rfl rfl k_) ?_
    refine Zm.l (fun _ _ k_ => z_iload_n dX8_clearState_47 rfl rfl k_) ?_
    refine Zm.l (fun _ _ k_ => z_iload_n dX8_clearState_48 rfl rfl k_) ?_
    exact zm_callV (as := [vi l1, vi l3]) (st := []) dX8_clearState_49 vsX8_1101_1 (Nat.le_refl _) (Nat.le_of_ble_eq_true rfl) (Nat.le_of_ble_eq_true rfl) rfl k
theorem sX8_clearState_52 {E : zE} {d : Nat} {Q : zO → zM → Prop} (M : zM) (l1 : Int32) (l3 : Int32) (s0 : Int32) (k : vp_in s0 15128 ∧ (vp_in s0 15128 ∧ (vp_in s0 15128 ∧ (vp_in s0 15128 ∧ (vp_in s0 15128 ∧ (vp_in s0 15128 ∧ (Zm E YX8_clearState (d + 1) (sl (sl (sl (sl (si (si M 178 (s0).toNatClampNeg (vp_nar .boolean (0 : Int32))) 179 (s0).toNatClampNeg (vp_nar .boolean (0 : Int32))) 180 (s0).toNatClampNeg (0 : Int64)) 181 (s0).toNatClampNeg (0 : Int64)) 182 (s0).toNatClampNeg (0 : Int64)) 183 (s0).toNatClampNeg (0 : Int64)) [(0, vr (some (97, 1, 0))), (1, vi l1), (3, vi (l3 + (1 : Int32)))] 38 [] Q))))))) : Zm E YX8_clearState (d + 1) M [(0, vr (some (97, 1, 0))), (1, vi l1), (3, vi l3)] 52 [vi s0] Q := by
  refine Zm.l (fun _ _ k_ => z_ist dX8_clearState_52 (by decide) (lv' := [(0, vr (some (97, 1, 0))), (1, vi l1), (3, vi l3), (4, vi s0)]) rfl k_) ?_
  refine Zm.l (fun _ _ k_ => z_aload_n dX8_clearState_54 rfl rfl k_) ?_
  refine zm_getr 75 dX8_clearState_55 fsX8_256_1 rfl ?_
  refine Zm.l (fun _ _ k_ => z_iload dX8_clearState_58 rfl k_) ?_
  refine Zm.l (fun _ _ k_ => z_iconst (v := 0) dX8_clearState_60 rfl k_) ?_
  obtain ⟨b_, k⟩ := k
  refine zm_zast dX8_clearState_61 b_ (by decide) (by decide) ?_
  refine Zm.l (fun _ _ k_ => z_aload_n dX8_clearState_62 rfl rfl k_) ?_
  refine zm_getr 76 dX8_clearState_63 fsX8_259_1 rfl ?_
  refine Zm.l (fun _ _ k_ => z_iload dX8_clearState_66 rfl k_) ?_
  refine Zm.l (fun _ _ k_ => z_iconst (v := 0) dX8_clearState_68 rfl k_) ?_
  obtain ⟨b_, k⟩ := k
  refine zm_zast dX8_clearState_69 b_ (by decide) (by decide) ?_
  refine Zm.l (fun _ _ k_ => z_aload_n dX8_clearState_70 rfl rfl k_) ?_
  refine zm_getr 77 dX8_clearState_71 fsX8_262_1 rfl ?_
  refine Zm.l (fun _ _ k_ => z_iload dX8_clearState_74 rfl k_) ?_
  refine Zm.l (fun _ _ k_ => z_lconst (v := 0) dX8_clearState_76 rfl k_) ?_
  obtain ⟨b_, k⟩ := k
  refine zm_last dX8_clearState_77 b_ (by decide) (by decide) ?_
  refine Zm.l (fun _ _ k_ => z_aload_n dX8_clearState_78 rfl rfl k_) ?_
  refine zm_getr 78 dX8_clearState_79 fsX8_265_1 rfl ?_
  refine Zm.l (fun _ _ k_ => z_iload dX8_clearState_82 rfl k_) ?_
  refine Zm.l (fun _ _ k_ => z_lconst (v := 0) dX8_clearState_84 rfl k_) ?_
  obtain ⟨b_, k⟩ := k
  refine zm_last dX8_clearState_85 b_ (by decide) (by decide) ?_
  refine Zm.l (fun _ _ k_ => z_aload_n dX8_clearState_86 rfl rfl k_) ?_
  refine zm_getr 79 dX8_clearState_87 fsX8_268_1 rfl ?_
  refine Zm.l (fun _ _ k_ => z_iload dX8_clearState_90 rfl k_) ?_
  refine Zm.l (fun _ _ k_ => z_lconst (v := 0) dX8_clearState_92 rfl k_) ?_
  obtain ⟨b_, k⟩ := k
  refine zm_last dX8_clearState_93 b_ (by decide) (by decide) ?_
  refine Zm.l (fun _ _ k_ => z_aload_n dX8_clearState_94 rfl rfl k_) ?_
  refine zm_getr 80 dX8_clearState_95 fsX8_271_1 rfl ?_
  refine Zm.l (fun _ _ k_ => z_iload dX8_clearState_98 rfl k_) ?_
  refine Zm.l (fun _ _ k_ => z_lconst (v := 0) dX8_clearState_100 rfl k_) ?_
  obtain ⟨b_, k⟩ := k
  refine zm_last dX8_clearState_101 b_ (by decide) (by decide) ?_
  refine Zm.l (fun _ _ k_ => z_inc (v := (l3 + (1 : Int32))) dX8_clearState_102 rfl rfl (by decide) (lv' := [(0, vr (some (97, 1, 0))), (1, vi l1), (3, vi (l3 + (1 : Int32))), (4, vi s0)]) rfl k_) ?_
  refine Zm.l (fun _ _ k_ => z_goto (tgt := 38) dX8_clearState_105 rfl k_) ?_
  refine Zm.pick [0, 1, 2] rfl ?_
  exact k
theorem sX8_clearState_114 {E : zE} {d : Nat} {Q : zO → zM → Prop} (M : zM) (l1 : Int32) (s0 : Int32) (k : Zm E YX8_empty d M (zargs 0 [vr (some (97, 1, 0)), vi s0]) 0 [] (zma E YX8_clearState (d + 1) [(0, vr (some (97, 1, 0))), (1, vi l1)] 114 3 [] Q)) : Zm E YX8_clearState (d + 1) M [(0, vr (some (97, 1, 0))), (1, vi l1)] 114 [vi s0, vr (some (97, 1, 0))] Q := by
  exact zm_callV (as := [vi s0]) (st := []) dX8_clearState_114 vsX8_1066_1 (Nat.le_refl _) (Nat.le_of_ble_eq_true rfl) (Nat.le_of_ble_eq_true rfl) rfl k
theorem sX8_clearState_117 {E : zE} {d : Nat} {Q : zO → zM → Prop} (M : zM) (l1 : Int32) (k : vp_in l1 640 ∧ (vp_in l1 640 ∧ (Q (.inl none) (sl (sl M 173 (l1).toNatClampNeg (0 : Int64)) 174 (l1).toNatClampNeg (0 : Int64))))) : Zm E YX8_clearState (d + 1) M [(0, vr (some (97, 1, 0))), (1, vi l1)] 117 [] Q := by
  refine Zm.l (fun _ _ k_ => z_aload_n dX8_clearState_117 rfl rfl k_) ?_
  refine zm_getr 70 dX8_clearState_118 fsX8_241_1 rfl ?_
  refine Zm.l (fun _ _ k_ => z_iload_n dX8_clearState_121 rfl rfl k_) ?_
  refine Zm.l (fun _ _ k_ => z_lconst (v := 0) dX8_clearState_122 rfl k_) ?_
  obtain ⟨b_, k⟩ := k
  refine zm_last dX8_clearState_123 b_ (by decide) (by decide) ?_
  refine Zm.l (fun _ _ k_ => z_aload_n dX8_clearState_124 rfl rfl k_) ?_
  refine zm_getr 71 dX8_clearState_125 fsX8_244_1 rfl ?_
  refine Zm.l (fun _ _ k_ => z_iload_n dX8_clearState_128 rfl rfl k_) ?_
  refine Zm.l (fun _ _ k_ => z_lconst (v := 0) dX8_clearState_129 rfl k_) ?_
  obtain ⟨b_, k⟩ := k
  refine zm_last dX8_clearState_130 b_ (by decide) (by decide) ?_
  exact zm_vret dX8_clearState_131 rfl k
/-! ScriptTypesModel.fieldsAt(I)I -/
theorem bX8_fieldsAt_0 : zdec cX8_fieldsAt 0 [(0, .iload_n 1, 1), (1, .sipush 639, 3), (4, .if_icmp .ne 9, 3), (7, .ldc_w 1084, 3), (10, .goto 16, 3), (13, .iload_n 1, 1), (14, .aload_n 0, 1), (15, .getfield 765, 3), (18, .imul, 1), (19, .aload_n 0, 1), (20, .getfield 762, 3), (23, .iconst 1, 1), (24, .iadd, 1), (25, .imul, 1), (26, .ireturn, 1)] = true := by decide +kernel
theorem dX8_fieldsAt_0 : decode cX8_fieldsAt 0 = .ok (.iload_n 1, 1) := zdec_at bX8_fieldsAt_0 0 rfl
theorem dX8_fieldsAt_1 : decode cX8_fieldsAt 1 = .ok (.sipush 639, 3) := zdec_at bX8_fieldsAt_0 1 rfl
theorem dX8_fieldsAt_4 : decode cX8_fieldsAt 4 = .ok (.if_icmp .ne 9, 3) := zdec_at bX8_fieldsAt_0 2 rfl
theorem dX8_fieldsAt_7 : decode cX8_fieldsAt 7 = .ok (.ldc_w 1084, 3) := zdec_at bX8_fieldsAt_0 3 rfl
theorem dX8_fieldsAt_10 : decode cX8_fieldsAt 10 = .ok (.goto 16, 3) := zdec_at bX8_fieldsAt_0 4 rfl
theorem dX8_fieldsAt_13 : decode cX8_fieldsAt 13 = .ok (.iload_n 1, 1) := zdec_at bX8_fieldsAt_0 5 rfl
theorem dX8_fieldsAt_14 : decode cX8_fieldsAt 14 = .ok (.aload_n 0, 1) := zdec_at bX8_fieldsAt_0 6 rfl
theorem dX8_fieldsAt_15 : decode cX8_fieldsAt 15 = .ok (.getfield 765, 3) := zdec_at bX8_fieldsAt_0 7 rfl
theorem dX8_fieldsAt_18 : decode cX8_fieldsAt 18 = .ok (.imul, 1) := zdec_at bX8_fieldsAt_0 8 rfl
theorem dX8_fieldsAt_19 : decode cX8_fieldsAt 19 = .ok (.aload_n 0, 1) := zdec_at bX8_fieldsAt_0 9 rfl
theorem dX8_fieldsAt_20 : decode cX8_fieldsAt 20 = .ok (.getfield 762, 3) := zdec_at bX8_fieldsAt_0 10 rfl
theorem dX8_fieldsAt_23 : decode cX8_fieldsAt 23 = .ok (.iconst 1, 1) := zdec_at bX8_fieldsAt_0 11 rfl
theorem dX8_fieldsAt_24 : decode cX8_fieldsAt 24 = .ok (.iadd, 1) := zdec_at bX8_fieldsAt_0 12 rfl
theorem dX8_fieldsAt_25 : decode cX8_fieldsAt 25 = .ok (.imul, 1) := zdec_at bX8_fieldsAt_0 13 rfl
theorem dX8_fieldsAt_26 : decode cX8_fieldsAt 26 = .ok (.ireturn, 1) := zdec_at bX8_fieldsAt_0 14 rfl
theorem sX8_fieldsAt_0 {E : zE} {d : Nat} {Q : zO → zM → Prop} (M : zM) (l1 : Int32) (k : if l1 = (639 : Int32) then (Q (.inl (some (vi (635640 : Int32)))) M) else (Q (.inl (some (vi ((l1 * (gi M 97 71)) * ((gi M 97 8) + (1 : Int32)))))) M)) : Zm E YX8_fieldsAt d M [(0, vr (some (97, 1, 0))), (1, vi l1)] 0 [] Q := by
  refine Zm.l (fun _ _ k_ => z_iload_n dX8_fieldsAt_0 rfl rfl k_) ?_
  refine Zm.l (fun _ _ k_ => z_sipush (v := 639) dX8_fieldsAt_1 rfl k_) ?_
  refine Zm.brn (fun _ _ k1_ k2_ => z_icmp_ne (tgt := 13) dX8_fieldsAt_4 rfl k1_ k2_) (fun h_ => ?_) (fun h_ => ?_)
  · have k := zif h_ k
    refine Zm.l (fun _ _ k_ => z_iload_n dX8_fieldsAt_13 rfl rfl k_) ?_
    refine Zm.l (fun _ _ k_ => z_aload_n dX8_fieldsAt_14 rfl rfl k_) ?_
    refine zm_geti dX8_fieldsAt_15 fsX8_765_1 (by decide) (by decide) ?_
    refine Zm.l (fun _ _ k_ => z_imul dX8_fieldsAt_18 k_) ?_
    refine Zm.l (fun _ _ k_ => z_aload_n dX8_fieldsAt_19 rfl rfl k_) ?_
    refine zm_geti dX8_fieldsAt_20 fsX8_762_1 (by decide) (by decide) ?_
    refine Zm.l (fun _ _ k_ => z_iconst (v := 1) dX8_fieldsAt_23 rfl k_) ?_
    refine Zm.l (fun _ _ k_ => z_iadd dX8_fieldsAt_24 k_) ?_
    refine Zm.l (fun _ _ k_ => z_imul dX8_fieldsAt_25 k_) ?_
    exact zm_iret dX8_fieldsAt_26 rfl rfl k
  · have k := zit h_ k
    refine Zm.l (fun _ _ k_ => z_ldcw (v := 635640) dX8_fieldsAt_7 q4786 k_) ?_
    refine Zm.l (fun _ _ k_ => z_goto (tgt := 26) dX8_fieldsAt_10 rfl k_) ?_
    exact zm_iret dX8_fieldsAt_26 rfl rfl k
/-! ScriptTypesModel.empty(I)V -/
theorem bX8_empty_0 : zdec cX8_empty 0 [(0, .aload_n 0, 1), (1, .getfield 216, 3), (4, .iload_n 1, 1), (5, .lconst 0, 1), (6, .lastore, 1), (7, .aload_n 0, 1), (8, .getfield 220, 3), (11, .iload_n 1, 1), (12, .lconst 0, 1), (13, .lastore, 1), (14, .aload_n 0, 1), (15, .getfield 223, 3), (18, .iload_n 1, 1), (19, .lconst 0, 1), (20, .lastore, 1), (21, .return_, 1)] = true := by decide +kernel
theorem dX8_empty_0 : decode cX8_empty 0 = .ok (.aload_n 0, 1) := zdec_at bX8_empty_0 0 rfl
theorem dX8_empty_1 : decode cX8_empty 1 = .ok (.getfield 216, 3) := zdec_at bX8_empty_0 1 rfl
theorem dX8_empty_4 : decode cX8_empty 4 = .ok (.iload_n 1, 1) := zdec_at bX8_empty_0 2 rfl
theorem dX8_empty_5 : decode cX8_empty 5 = .ok (.lconst 0, 1) := zdec_at bX8_empty_0 3 rfl
theorem dX8_empty_6 : decode cX8_empty 6 = .ok (.lastore, 1) := zdec_at bX8_empty_0 4 rfl
theorem dX8_empty_7 : decode cX8_empty 7 = .ok (.aload_n 0, 1) := zdec_at bX8_empty_0 5 rfl
theorem dX8_empty_8 : decode cX8_empty 8 = .ok (.getfield 220, 3) := zdec_at bX8_empty_0 6 rfl
theorem dX8_empty_11 : decode cX8_empty 11 = .ok (.iload_n 1, 1) := zdec_at bX8_empty_0 7 rfl
theorem dX8_empty_12 : decode cX8_empty 12 = .ok (.lconst 0, 1) := zdec_at bX8_empty_0 8 rfl
theorem dX8_empty_13 : decode cX8_empty 13 = .ok (.lastore, 1) := zdec_at bX8_empty_0 9 rfl
theorem dX8_empty_14 : decode cX8_empty 14 = .ok (.aload_n 0, 1) := zdec_at bX8_empty_0 10 rfl
theorem dX8_empty_15 : decode cX8_empty 15 = .ok (.getfield 223, 3) := zdec_at bX8_empty_0 11 rfl
theorem dX8_empty_18 : decode cX8_empty 18 = .ok (.iload_n 1, 1) := zdec_at bX8_empty_0 12 rfl
theorem dX8_empty_19 : decode cX8_empty 19 = .ok (.lconst 0, 1) := zdec_at bX8_empty_0 13 rfl
theorem dX8_empty_20 : decode cX8_empty 20 = .ok (.lastore, 1) := zdec_at bX8_empty_0 14 rfl
theorem dX8_empty_21 : decode cX8_empty 21 = .ok (.return_, 1) := zdec_at bX8_empty_0 15 rfl
theorem sX8_empty_0 {E : zE} {d : Nat} {Q : zO → zM → Prop} (M : zM) (l1 : Int32) (k : vp_in l1 647800 ∧ (vp_in l1 647800 ∧ (vp_in l1 647800 ∧ (Q (.inl none) (sl (sl (sl M 165 (l1).toNatClampNeg (0 : Int64)) 166 (l1).toNatClampNeg (0 : Int64)) 167 (l1).toNatClampNeg (0 : Int64)))))) : Zm E YX8_empty d M [(0, vr (some (97, 1, 0))), (1, vi l1)] 0 [] Q := by
  refine Zm.l (fun _ _ k_ => z_aload_n dX8_empty_0 rfl rfl k_) ?_
  refine zm_getr 62 dX8_empty_1 fsX8_216_1 rfl ?_
  refine Zm.l (fun _ _ k_ => z_iload_n dX8_empty_4 rfl rfl k_) ?_
  refine Zm.l (fun _ _ k_ => z_lconst (v := 0) dX8_empty_5 rfl k_) ?_
  obtain ⟨b_, k⟩ := k
  refine zm_last dX8_empty_6 b_ (by decide) (by decide) ?_
  refine Zm.l (fun _ _ k_ => z_aload_n dX8_empty_7 rfl rfl k_) ?_
  refine zm_getr 63 dX8_empty_8 fsX8_220_1 rfl ?_
  refine Zm.l (fun _ _ k_ => z_iload_n dX8_empty_11 rfl rfl k_) ?_
  refine Zm.l (fun _ _ k_ => z_lconst (v := 0) dX8_empty_12 rfl k_) ?_
  obtain ⟨b_, k⟩ := k
  refine zm_last dX8_empty_13 b_ (by decide) (by decide) ?_
  refine Zm.l (fun _ _ k_ => z_aload_n dX8_empty_14 rfl rfl k_) ?_
  refine zm_getr 64 dX8_empty_15 fsX8_223_1 rfl ?_
  refine Zm.l (fun _ _ k_ => z_iload_n dX8_empty_18 rfl rfl k_) ?_
  refine Zm.l (fun _ _ k_ => z_lconst (v := 0) dX8_empty_19 rfl k_) ?_
  obtain ⟨b_, k⟩ := k
  refine zm_last dX8_empty_20 b_ (by decide) (by decide) ?_
  exact zm_vret dX8_empty_21 rfl k
/-! ScriptTypesModel.of(II)I -/
theorem bX8_of_0 : zdec cX8_of 0 [(0, .aload_n 0, 1), (1, .iload_n 1, 1), (2, .invokevirtual 1088, 3), (5, .iload_n 2, 1), (6, .iadd, 1), (7, .ireturn, 1)] = true := by decide +kernel
theorem dX8_of_0 : decode cX8_of 0 = .ok (.aload_n 0, 1) := zdec_at bX8_of_0 0 rfl
theorem dX8_of_1 : decode cX8_of 1 = .ok (.iload_n 1, 1) := zdec_at bX8_of_0 1 rfl
theorem dX8_of_2 : decode cX8_of 2 = .ok (.invokevirtual 1088, 3) := zdec_at bX8_of_0 2 rfl
theorem dX8_of_5 : decode cX8_of 5 = .ok (.iload_n 2, 1) := zdec_at bX8_of_0 3 rfl
theorem dX8_of_6 : decode cX8_of 6 = .ok (.iadd, 1) := zdec_at bX8_of_0 4 rfl
theorem dX8_of_7 : decode cX8_of 7 = .ok (.ireturn, 1) := zdec_at bX8_of_0 5 rfl
theorem sX8_of_0 {E : zE} {d : Nat} {Q : zO → zM → Prop} (M : zM) (l1 : Int32) (l2 : Int32) (k : Zm E YX8_labelsAt d M (zargs 0 [vr (some (97, 1, 0)), vi l1]) 0 [] (zma E YX8_of (d + 1) [(2, vi l2)] 2 3 [] Q)) : Zm E YX8_of (d + 1) M [(0, vr (some (97, 1, 0))), (1, vi l1), (2, vi l2)] 0 [] Q := by
  refine Zm.l (fun _ _ k_ => z_aload_n dX8_of_0 rfl rfl k_) ?_
  refine Zm.l (fun _ _ k_ => z_iload_n dX8_of_1 rfl rfl k_) ?_
  refine Zm.pick [2] rfl ?_
  exact zm_callV (as := [vi l1]) (st := []) dX8_of_2 vsX8_1088_1 (Nat.le_refl _) (Nat.le_of_ble_eq_true rfl) (Nat.le_of_ble_eq_true rfl) rfl k
theorem sX8_of_5 {E : zE} {d : Nat} {Q : zO → zM → Prop} (M : zM) (l2 : Int32) (s0 : Int32) (k : Q (.inl (some (vi (s0 + l2)))) M) : Zm E YX8_of (d + 1) M [(2, vi l2)] 5 [vi s0] Q := by
  refine Zm.l (fun _ _ k_ => z_iload_n dX8_of_5 rfl rfl k_) ?_
  refine Zm.l (fun _ _ k_ => z_iadd dX8_of_6 k_) ?_
  exact zm_iret dX8_of_7 rfl rfl k
/-! ScriptTypesModel.labelsAt(I)I -/
theorem bX8_labelsAt_0 : zdec cX8_labelsAt 0 [(0, .iload_n 1, 1), (1, .sipush 639, 3), (4, .if_icmp .ne 9, 3), (7, .sipush 15000, 3), (10, .goto 9, 3), (13, .iload_n 1, 1), (14, .aload_n 0, 1), (15, .getfield 765, 3), (18, .imul, 1), (19, .ireturn, 1)] = true := by decide +kernel
theorem dX8_labelsAt_0 : decode cX8_labelsAt 0 = .ok (.iload_n 1, 1) := zdec_at bX8_labelsAt_0 0 rfl
theorem dX8_labelsAt_1 : decode cX8_labelsAt 1 = .ok (.sipush 639, 3) := zdec_at bX8_labelsAt_0 1 rfl
theorem dX8_labelsAt_4 : decode cX8_labelsAt 4 = .ok (.if_icmp .ne 9, 3) := zdec_at bX8_labelsAt_0 2 rfl
theorem dX8_labelsAt_7 : decode cX8_labelsAt 7 = .ok (.sipush 15000, 3) := zdec_at bX8_labelsAt_0 3 rfl
theorem dX8_labelsAt_10 : decode cX8_labelsAt 10 = .ok (.goto 9, 3) := zdec_at bX8_labelsAt_0 4 rfl
theorem dX8_labelsAt_13 : decode cX8_labelsAt 13 = .ok (.iload_n 1, 1) := zdec_at bX8_labelsAt_0 5 rfl
theorem dX8_labelsAt_14 : decode cX8_labelsAt 14 = .ok (.aload_n 0, 1) := zdec_at bX8_labelsAt_0 6 rfl
theorem dX8_labelsAt_15 : decode cX8_labelsAt 15 = .ok (.getfield 765, 3) := zdec_at bX8_labelsAt_0 7 rfl
theorem dX8_labelsAt_18 : decode cX8_labelsAt 18 = .ok (.imul, 1) := zdec_at bX8_labelsAt_0 8 rfl
theorem dX8_labelsAt_19 : decode cX8_labelsAt 19 = .ok (.ireturn, 1) := zdec_at bX8_labelsAt_0 9 rfl
theorem sX8_labelsAt_0 {E : zE} {d : Nat} {Q : zO → zM → Prop} (M : zM) (l1 : Int32) (k : if l1 = (639 : Int32) then (Q (.inl (some (vi (15000 : Int32)))) M) else (Q (.inl (some (vi (l1 * (gi M 97 71))))) M)) : Zm E YX8_labelsAt d M [(0, vr (some (97, 1, 0))), (1, vi l1)] 0 [] Q := by
  refine Zm.l (fun _ _ k_ => z_iload_n dX8_labelsAt_0 rfl rfl k_) ?_
  refine Zm.l (fun _ _ k_ => z_sipush (v := 639) dX8_labelsAt_1 rfl k_) ?_
  refine Zm.brn (fun _ _ k1_ k2_ => z_icmp_ne (tgt := 13) dX8_labelsAt_4 rfl k1_ k2_) (fun h_ => ?_) (fun h_ => ?_)
  · have k := zif h_ k
    refine Zm.l (fun _ _ k_ => z_iload_n dX8_labelsAt_13 rfl rfl k_) ?_
    refine Zm.l (fun _ _ k_ => z_aload_n dX8_labelsAt_14 rfl rfl k_) ?_
    refine zm_geti dX8_labelsAt_15 fsX8_765_1 (by decide) (by decide) ?_
    refine Zm.l (fun _ _ k_ => z_imul dX8_labelsAt_18 k_) ?_
    exact zm_iret dX8_labelsAt_19 rfl rfl k
  · have k := zit h_ k
    refine Zm.l (fun _ _ k_ => z_sipush (v := 15000) dX8_labelsAt_7 rfl k_) ?_
    refine Zm.l (fun _ _ k_ => z_goto (tgt := 19) dX8_labelsAt_10 rfl k_) ?_
    exact zm_iret dX8_labelsAt_19 rfl rfl k
/-! ScriptTypesModel.thisAt(I)I -/
theorem bX8_thisAt_0 : zdec cX8_thisAt 0 [(0, .ldc_w 1091, 3), (3, .iload_n 1, 1), (4, .iadd, 1), (5, .ireturn, 1)] = true := by decide +kernel
theorem dX8_thisAt_0 : decode cX8_thisAt 0 = .ok (.ldc_w 1091, 3) := zdec_at bX8_thisAt_0 0 rfl
theorem dX8_thisAt_3 : decode cX8_thisAt 3 = .ok (.iload_n 1, 1) := zdec_at bX8_thisAt_0 1 rfl
theorem dX8_thisAt_4 : decode cX8_thisAt 4 = .ok (.iadd, 1) := zdec_at bX8_thisAt_0 2 rfl
theorem dX8_thisAt_5 : decode cX8_thisAt 5 = .ok (.ireturn, 1) := zdec_at bX8_thisAt_0 3 rfl
theorem sX8_thisAt_0 {E : zE} {d : Nat} {Q : zO → zM → Prop} (M : zM) (l1 : Int32) (k : Q (.inl (some (vi ((635000 : Int32) + l1)))) M) : Zm E YX8_thisAt d M [(0, vr (some (97, 1, 0))), (1, vi l1)] 0 [] Q := by
  refine Zm.l (fun _ _ k_ => z_ldcw (v := 635000) dX8_thisAt_0 q4803 k_) ?_
  refine Zm.l (fun _ _ k_ => z_iload_n dX8_thisAt_3 rfl rfl k_) ?_
  refine Zm.l (fun _ _ k_ => z_iadd dX8_thisAt_4 k_) ?_
  exact zm_iret dX8_thisAt_5 rfl rfl k
/-! ScriptTypesModel.newLabel(II)V -/
theorem bX8_newLabel_0 : zdec cX8_newLabel 0 [(0, .aload_n 0, 1), (1, .sipush 639, 3), (4, .iload_n 1, 1), (5, .invokevirtual 1101, 3), (8, .istore_n 3, 1), (9, .aload_n 0, 1), (10, .getfield 256, 3), (13, .iload_n 3, 1), (14, .iconst 1, 1), (15, .bastore, 1), (16, .aload_n 0, 1), (17, .getfield 259, 3), (20, .iload_n 3, 1), (21, .iload_n 2, 1), (22, .iconst (-1), 1), (23, .if_icmp .ne 7, 3)] = true := by decide +kernel
theorem dX8_newLabel_0 : decode cX8_newLabel 0 = .ok (.aload_n 0, 1) := zdec_at bX8_newLabel_0 0 rfl
theorem dX8_newLabel_1 : decode cX8_newLabel 1 = .ok (.sipush 639, 3) := zdec_at bX8_newLabel_0 1 rfl
theorem dX8_newLabel_4 : decode cX8_newLabel 4 = .ok (.iload_n 1, 1) := zdec_at bX8_newLabel_0 2 rfl
theorem dX8_newLabel_5 : decode cX8_newLabel 5 = .ok (.invokevirtual 1101, 3) := zdec_at bX8_newLabel_0 3 rfl
theorem dX8_newLabel_8 : decode cX8_newLabel 8 = .ok (.istore_n 3, 1) := zdec_at bX8_newLabel_0 4 rfl
theorem dX8_newLabel_9 : decode cX8_newLabel 9 = .ok (.aload_n 0, 1) := zdec_at bX8_newLabel_0 5 rfl
theorem dX8_newLabel_10 : decode cX8_newLabel 10 = .ok (.getfield 256, 3) := zdec_at bX8_newLabel_0 6 rfl
theorem dX8_newLabel_13 : decode cX8_newLabel 13 = .ok (.iload_n 3, 1) := zdec_at bX8_newLabel_0 7 rfl
theorem dX8_newLabel_14 : decode cX8_newLabel 14 = .ok (.iconst 1, 1) := zdec_at bX8_newLabel_0 8 rfl
theorem dX8_newLabel_15 : decode cX8_newLabel 15 = .ok (.bastore, 1) := zdec_at bX8_newLabel_0 9 rfl
theorem dX8_newLabel_16 : decode cX8_newLabel 16 = .ok (.aload_n 0, 1) := zdec_at bX8_newLabel_0 10 rfl
theorem dX8_newLabel_17 : decode cX8_newLabel 17 = .ok (.getfield 259, 3) := zdec_at bX8_newLabel_0 11 rfl
theorem dX8_newLabel_20 : decode cX8_newLabel 20 = .ok (.iload_n 3, 1) := zdec_at bX8_newLabel_0 12 rfl
theorem dX8_newLabel_21 : decode cX8_newLabel 21 = .ok (.iload_n 2, 1) := zdec_at bX8_newLabel_0 13 rfl
theorem dX8_newLabel_22 : decode cX8_newLabel 22 = .ok (.iconst (-1), 1) := zdec_at bX8_newLabel_0 14 rfl
theorem dX8_newLabel_23 : decode cX8_newLabel 23 = .ok (.if_icmp .ne 7, 3) := zdec_at bX8_newLabel_0 15 rfl
theorem bX8_newLabel_26 : zdec cX8_newLabel 26 [(26, .iconst 1, 1), (27, .goto 4, 3), (30, .iconst 0, 1), (31, .bastore, 1), (32, .aload_n 0, 1), (33, .getfield 262, 3), (36, .iload_n 3, 1), (37, .iload_n 2, 1), (38, .iconst (-1), 1), (39, .if_icmp .ne 7, 3), (42, .lconst 0, 1), (43, .goto 6, 3), (46, .lconst 1, 1), (47, .iload_n 2, 1), (48, .lshl, 1), (49, .lastore, 1)] = true := by decide +kernel
theorem dX8_newLabel_26 : decode cX8_newLabel 26 = .ok (.iconst 1, 1) := zdec_at bX8_newLabel_26 0 rfl
theorem dX8_newLabel_27 : decode cX8_newLabel 27 = .ok (.goto 4, 3) := zdec_at bX8_newLabel_26 1 rfl
theorem dX8_newLabel_30 : decode cX8_newLabel 30 = .ok (.iconst 0, 1) := zdec_at bX8_newLabel_26 2 rfl
theorem dX8_newLabel_31 : decode cX8_newLabel 31 = .ok (.bastore, 1) := zdec_at bX8_newLabel_26 3 rfl
theorem dX8_newLabel_32 : decode cX8_newLabel 32 = .ok (.aload_n 0, 1) := zdec_at bX8_newLabel_26 4 rfl
theorem dX8_newLabel_33 : decode cX8_newLabel 33 = .ok (.getfield 262, 3) := zdec_at bX8_newLabel_26 5 rfl
theorem dX8_newLabel_36 : decode cX8_newLabel 36 = .ok (.iload_n 3, 1) := zdec_at bX8_newLabel_26 6 rfl
theorem dX8_newLabel_37 : decode cX8_newLabel 37 = .ok (.iload_n 2, 1) := zdec_at bX8_newLabel_26 7 rfl
theorem dX8_newLabel_38 : decode cX8_newLabel 38 = .ok (.iconst (-1), 1) := zdec_at bX8_newLabel_26 8 rfl
theorem dX8_newLabel_39 : decode cX8_newLabel 39 = .ok (.if_icmp .ne 7, 3) := zdec_at bX8_newLabel_26 9 rfl
theorem dX8_newLabel_42 : decode cX8_newLabel 42 = .ok (.lconst 0, 1) := zdec_at bX8_newLabel_26 10 rfl
theorem dX8_newLabel_43 : decode cX8_newLabel 43 = .ok (.goto 6, 3) := zdec_at bX8_newLabel_26 11 rfl
theorem dX8_newLabel_46 : decode cX8_newLabel 46 = .ok (.lconst 1, 1) := zdec_at bX8_newLabel_26 12 rfl
theorem dX8_newLabel_47 : decode cX8_newLabel 47 = .ok (.iload_n 2, 1) := zdec_at bX8_newLabel_26 13 rfl
theorem dX8_newLabel_48 : decode cX8_newLabel 48 = .ok (.lshl, 1) := zdec_at bX8_newLabel_26 14 rfl
theorem dX8_newLabel_49 : decode cX8_newLabel 49 = .ok (.lastore, 1) := zdec_at bX8_newLabel_26 15 rfl
theorem bX8_newLabel_50 : zdec cX8_newLabel 50 [(50, .aload_n 0, 1), (51, .getfield 265, 3), (54, .iload_n 3, 1), (55, .lconst 0, 1), (56, .lastore, 1), (57, .aload_n 0, 1), (58, .getfield 268, 3), (61, .iload_n 3, 1), (62, .lconst 0, 1), (63, .lastore, 1), (64, .aload_n 0, 1), (65, .getfield 271, 3), (68, .iload_n 3, 1), (69, .lconst 0, 1), (70, .lastore, 1), (71, .iconst 0, 1)] = true := by decide +kernel
theorem dX8_newLabel_50 : decode cX8_newLabel 50 = .ok (.aload_n 0, 1) := zdec_at bX8_newLabel_50 0 rfl
theorem dX8_newLabel_51 : decode cX8_newLabel 51 = .ok (.getfield 265, 3) := zdec_at bX8_newLabel_50 1 rfl
theorem dX8_newLabel_54 : decode cX8_newLabel 54 = .ok (.iload_n 3, 1) := zdec_at bX8_newLabel_50 2 rfl
theorem dX8_newLabel_55 : decode cX8_newLabel 55 = .ok (.lconst 0, 1) := zdec_at bX8_newLabel_50 3 rfl
theorem dX8_newLabel_56 : decode cX8_newLabel 56 = .ok (.lastore, 1) := zdec_at bX8_newLabel_50 4 rfl
theorem dX8_newLabel_57 : decode cX8_newLabel 57 = .ok (.aload_n 0, 1) := zdec_at bX8_newLabel_50 5 rfl
theorem dX8_newLabel_58 : decode cX8_newLabel 58 = .ok (.getfield 268, 3) := zdec_at bX8_newLabel_50 6 rfl
theorem dX8_newLabel_61 : decode cX8_newLabel 61 = .ok (.iload_n 3, 1) := zdec_at bX8_newLabel_50 7 rfl
theorem dX8_newLabel_62 : decode cX8_newLabel 62 = .ok (.lconst 0, 1) := zdec_at bX8_newLabel_50 8 rfl
theorem dX8_newLabel_63 : decode cX8_newLabel 63 = .ok (.lastore, 1) := zdec_at bX8_newLabel_50 9 rfl
theorem dX8_newLabel_64 : decode cX8_newLabel 64 = .ok (.aload_n 0, 1) := zdec_at bX8_newLabel_50 10 rfl
theorem dX8_newLabel_65 : decode cX8_newLabel 65 = .ok (.getfield 271, 3) := zdec_at bX8_newLabel_50 11 rfl
theorem dX8_newLabel_68 : decode cX8_newLabel 68 = .ok (.iload_n 3, 1) := zdec_at bX8_newLabel_50 12 rfl
theorem dX8_newLabel_69 : decode cX8_newLabel 69 = .ok (.lconst 0, 1) := zdec_at bX8_newLabel_50 13 rfl
theorem dX8_newLabel_70 : decode cX8_newLabel 70 = .ok (.lastore, 1) := zdec_at bX8_newLabel_50 14 rfl
theorem dX8_newLabel_71 : decode cX8_newLabel 71 = .ok (.iconst 0, 1) := zdec_at bX8_newLabel_50 15 rfl
theorem bX8_newLabel_72 : zdec cX8_newLabel 72 [(72, .istore 4, 2), (74, .iload 4, 2), (76, .aload_n 0, 1), (77, .getfield 762, 3), (80, .if_icmp .gt 42, 3), (83, .aload_n 0, 1), (84, .aload_n 0, 1), (85, .sipush 639, 3), (88, .iload_n 1, 1), (89, .iload 4, 2), (91, .invokevirtual 1163, 3), (94, .invokevirtual 1066, 3), (97, .aload_n 0, 1), (98, .aload_n 0, 1), (99, .sipush 639, 3), (102, .iload_n 1, 1)] = true := by decide +kernel
theorem dX8_newLabel_72 : decode cX8_newLabel 72 = .ok (.istore 4, 2) := zdec_at bX8_newLabel_72 0 rfl
theorem dX8_newLabel_74 : decode cX8_newLabel 74 = .ok (.iload 4, 2) := zdec_at bX8_newLabel_72 1 rfl
theorem dX8_newLabel_76 : decode cX8_newLabel 76 = .ok (.aload_n 0, 1) := zdec_at bX8_newLabel_72 2 rfl
theorem dX8_newLabel_77 : decode cX8_newLabel 77 = .ok (.getfield 762, 3) := zdec_at bX8_newLabel_72 3 rfl
theorem dX8_newLabel_80 : decode cX8_newLabel 80 = .ok (.if_icmp .gt 42, 3) := zdec_at bX8_newLabel_72 4 rfl
theorem dX8_newLabel_83 : decode cX8_newLabel 83 = .ok (.aload_n 0, 1) := zdec_at bX8_newLabel_72 5 rfl
theorem dX8_newLabel_84 : decode cX8_newLabel 84 = .ok (.aload_n 0, 1) := zdec_at bX8_newLabel_72 6 rfl
theorem dX8_newLabel_85 : decode cX8_newLabel 85 = .ok (.sipush 639, 3) := zdec_at bX8_newLabel_72 7 rfl
theorem dX8_newLabel_88 : decode cX8_newLabel 88 = .ok (.iload_n 1, 1) := zdec_at bX8_newLabel_72 8 rfl
theorem dX8_newLabel_89 : decode cX8_newLabel 89 = .ok (.iload 4, 2) := zdec_at bX8_newLabel_72 9 rfl
theorem dX8_newLabel_91 : decode cX8_newLabel 91 = .ok (.invokevirtual 1163, 3) := zdec_at bX8_newLabel_72 10 rfl
theorem dX8_newLabel_94 : decode cX8_newLabel 94 = .ok (.invokevirtual 1066, 3) := zdec_at bX8_newLabel_72 11 rfl
theorem dX8_newLabel_97 : decode cX8_newLabel 97 = .ok (.aload_n 0, 1) := zdec_at bX8_newLabel_72 12 rfl
theorem dX8_newLabel_98 : decode cX8_newLabel 98 = .ok (.aload_n 0, 1) := zdec_at bX8_newLabel_72 13 rfl
theorem dX8_newLabel_99 : decode cX8_newLabel 99 = .ok (.sipush 639, 3) := zdec_at bX8_newLabel_72 14 rfl
theorem dX8_newLabel_102 : decode cX8_newLabel 102 = .ok (.iload_n 1, 1) := zdec_at bX8_newLabel_72 15 rfl
theorem bX8_newLabel_103 : zdec cX8_newLabel 103 [(103, .iload 4, 2), (105, .invokevirtual 1163, 3), (108, .sipush 512, 3), (111, .iconst 0, 1), (112, .iconst 0, 1), (113, .invokevirtual 1056, 3), (116, .iinc 4 1, 3), (119, .goto (-45), 3), (122, .return_, 1)] = true := by decide +kernel
theorem dX8_newLabel_103 : decode cX8_newLabel 103 = .ok (.iload 4, 2) := zdec_at bX8_newLabel_103 0 rfl
theorem dX8_newLabel_105 : decode cX8_newLabel 105 = .ok (.invokevirtual 1163, 3) := zdec_at bX8_newLabel_103 1 rfl
theorem dX8_newLabel_108 : decode cX8_newLabel 108 = .ok (.sipush 512, 3) := zdec_at bX8_newLabel_103 2 rfl
theorem dX8_newLabel_111 : decode cX8_newLabel 111 = .ok (.iconst 0, 1) := zdec_at bX8_newLabel_103 3 rfl
theorem dX8_newLabel_112 : decode cX8_newLabel 112 = .ok (.iconst 0, 1) := zdec_at bX8_newLabel_103 4 rfl
theorem dX8_newLabel_113 : decode cX8_newLabel 113 = .ok (.invokevirtual 1056, 3) := zdec_at bX8_newLabel_103 5 rfl
theorem dX8_newLabel_116 : decode cX8_newLabel 116 = .ok (.iinc 4 1, 3) := zdec_at bX8_newLabel_103 6 rfl
theorem dX8_newLabel_119 : decode cX8_newLabel 119 = .ok (.goto (-45), 3) := zdec_at bX8_newLabel_103 7 rfl
theorem dX8_newLabel_122 : decode cX8_newLabel 122 = .ok (.return_, 1) := zdec_at bX8_newLabel_103 8 rfl
theorem sX8_newLabel_0 {E : zE} {d : Nat} {Q : zO → zM → Prop} (M : zM) (l1 : Int32) (l2 : Int32) (k : Zm E YX8_of d M (zargs 0 [vr (some (97, 1, 0)), vi (639 : Int32), vi l1]) 0 [] (zma E YX8_newLabel (d + 1) [(0, vr (some (97, 1, 0))), (1, vi l1), (2, vi l2)] 5 3 [] Q)) : Zm E YX8_newLabel (d + 1) M [(0, vr (some (97, 1, 0))), (1, vi l1), (2, vi l2)] 0 [] Q := by
  refine Zm.l (fun _ _ k_ => z_aload_n dX8_newLabel_0 rfl rfl k_) ?_
  refine Zm.l (fun _ _ k_ => z_sipush (v := 639) dX8_newLabel_1 rfl k_) ?_
  refine Zm.l (fun _ _ k_ => z_iload_n dX8_newLabel_4 rfl rfl k_) ?_
  exact zm_callV (as := [vi (639 : Int32), vi l1]) (st := []) dX8_newLabel_5 vsX8_1101_1 (Nat.le_refl _) (Nat.le_of_ble_eq_true rfl) (Nat.le_of_ble_eq_true rfl) rfl k
theorem sX8_newLabel_8 {E : zE} {d : Nat} {Q : zO → zM → Prop} (M : zM) (l1 : Int32) (l2 : Int32) (s0 : Int32) (k : vp_in s0 15128 ∧ (if l2 = (-1 : Int32) then (Zm E YX8_newLabel (d + 1) (si M 178 (s0).toNatClampNeg (vp_nar .boolean (1 : Int32))) [(0, vr (some (97, 1, 0))), (1, vi l1), (2, vi l2), (3, vi s0)] 31 [vi (1 : Int32), vi s0, vr (some (179, 104, 15128))] Q) else (Zm E YX8_newLabel (d + 1) (si M 178 (s0).toNatClampNeg (vp_nar .boolean (1 : Int32))) [(0, vr (some (97, 1, 0))), (1, vi l1), (2, vi l2), (3, vi s0)] 31 [vi (0 : Int32), vi s0, vr (some (179, 104, 15128))] Q))) : Zm E YX8_newLabel (d + 1) M [(0, vr (some (97, 1, 0))), (1, vi l1), (2, vi l2)] 8 [vi s0] Q := by
  refine Zm.l (fun _ _ k_ => z_ist_n dX8_newLabel_8 rfl (by decide) (lv' := [(0, vr (some (97, 1, 0))), (1, vi l1), (2, vi l2), (3, vi s0)]) rfl k_) ?_
  refine Zm.l (fun _ _ k_ => z_aload_n dX8_newLabel_9 rfl rfl k_) ?_
  refine zm_getr 75 dX8_newLabel_10 fsX8_256_1 rfl ?_
  refine Zm.l (fun _ _ k_ => z_iload_n dX8_newLabel_13 rfl rfl k_) ?_
  refine Zm.l (fun _ _ k_ => z_iconst (v := 1) dX8_newLabel_14 rfl k_) ?_
  obtain ⟨b_, k⟩ := k
  refine zm_zast dX8_newLabel_15 b_ (by decide) (by decide) ?_
  refine Zm.l (fun _ _ k_ => z_aload_n dX8_newLabel_16 rfl rfl k_) ?_
  refine zm_getr 76 dX8_newLabel_17 fsX8_259_1 rfl ?_
  refine Zm.l (fun _ _ k_ => z_iload_n dX8_newLabel_20 rfl rfl k_) ?_
  refine Zm.l (fun _ _ k_ => z_iload_n dX8_newLabel_21 rfl rfl k_) ?_
  refine Zm.l (fun _ _ k_ => z_iconst (v := -1) dX8_newLabel_22 rfl k_) ?_
  refine Zm.brn (fun _ _ k1_ k2_ => z_icmp_ne (tgt := 30) dX8_newLabel_23 rfl k1_ k2_) (fun h_ => ?_) (fun h_ => ?_)
  · have k := zif h_ k
    refine Zm.l (fun _ _ k_ => z_iconst (v := 0) dX8_newLabel_30 rfl k_) ?_
    exact k
  · have k := zit h_ k
    refine Zm.l (fun _ _ k_ => z_iconst (v := 1) dX8_newLabel_26 rfl k_) ?_
    refine Zm.l (fun _ _ k_ => z_goto (tgt := 31) dX8_newLabel_27 rfl k_) ?_
    exact k
theorem sX8_newLabel_31 {E : zE} {d : Nat} {Q : zO → zM → Prop} (M : zM) (l1 : Int32) (l2 : Int32) (l3 : Int32) (s0 : Int32) (s1 : Int32) (k : vp_in s1 15128 ∧ (if l2 = (-1 : Int32) then (Zm E YX8_newLabel (d + 1) (si M 179 (s1).toNatClampNeg (vp_nar .boolean s0)) [(0, vr (some (97, 1, 0))), (1, vi l1), (3, vi l3)] 49 [vl (0 : Int64), vi l3, vr (some (180, 105, 15128))] Q) else (Zm E YX8_newLabel (d + 1) (si M 179 (s1).toNatClampNeg (vp_nar .boolean s0)) [(0, vr (some (97, 1, 0))), (1, vi l1), (3, vi l3)] 49 [vl (zls (1 : Int64) l2), vi l3, vr (some (180, 105, 15128))] Q))) : Zm E YX8_newLabel (d + 1) M [(0, vr (some (97, 1, 0))), (1, vi l1), (2, vi l2), (3, vi l3)] 31 [vi s0, vi s1, vr (some (179, 104, 15128))] Q := by
  obtain ⟨b_, k⟩ := k
  refine zm_zast dX8_newLabel_31 b_ (by decide) (by decide) ?_
  refine Zm.l (fun _ _ k_ => z_aload_n dX8_newLabel_32 rfl rfl k_) ?_
  refine zm_getr 77 dX8_newLabel_33 fsX8_262_1 rfl ?_
  refine Zm.l (fun _ _ k_ => z_iload_n dX8_newLabel_36 rfl rfl k_) ?_
  refine Zm.l (fun _ _ k_ => z_iload_n dX8_newLabel_37 rfl rfl k_) ?_
  refine Zm.l (fun _ _ k_ => z_iconst (v := -1) dX8_newLabel_38 rfl k_) ?_
  refine Zm.brn (fun _ _ k1_ k2_ => z_icmp_ne (tgt := 46) dX8_newLabel_39 rfl k1_ k2_) (fun h_ => ?_) (fun h_ => ?_)
  · have k := zif h_ k
    refine Zm.l (fun _ _ k_ => z_lconst (v := 1) dX8_newLabel_46 rfl k_) ?_
    refine Zm.l (fun _ _ k_ => z_iload_n dX8_newLabel_47 rfl rfl k_) ?_
    refine Zm.l (fun _ _ k_ => z_lshl dX8_newLabel_48 k_) ?_
    refine Zm.pick [0, 1, 3] rfl ?_
    exact k
  · have k := zit h_ k
    refine Zm.l (fun _ _ k_ => z_lconst (v := 0) dX8_newLabel_42 rfl k_) ?_
    refine Zm.l (fun _ _ k_ => z_goto (tgt := 49) dX8_newLabel_43 rfl k_) ?_
    refine Zm.pick [0, 1, 3] rfl ?_
    exact k
theorem sX8_newLabel_49 {E : zE} {d : Nat} {Q : zO → zM → Prop} (M : zM) (l1 : Int32) (l3 : Int32) (s0 : Int64) (s1 : Int32) (k : vp_in s1 15128 ∧ (vp_in l3 15128 ∧ (vp_in l3 15128 ∧ (vp_in l3 15128 ∧ (Zm E YX8_newLabel (d + 1) (sl (sl (sl (sl M 180 (s1).toNatClampNeg s0) 181 (l3).toNatClampNeg (0 : Int64)) 182 (l3).toNatClampNeg (0 : Int64)) 183 (l3).toNatClampNeg (0 : Int64)) [(0, vr (some (97, 1, 0))), (1, vi l1), (4, vi (0 : Int32))] 74 [] Q))))) : Zm E YX8_newLabel (d + 1) M [(0, vr (some (97, 1, 0))), (1, vi l1), (3, vi l3)] 49 [vl s0, vi s1, vr (some (180, 105, 15128))] Q := by
  obtain ⟨b_, k⟩ := k
  refine zm_last dX8_newLabel_49 b_ (by decide) (by decide) ?_
  refine Zm.l (fun _ _ k_ => z_aload_n dX8_newLabel_50 rfl rfl k_) ?_
  refine zm_getr 78 dX8_newLabel_51 fsX8_265_1 rfl ?_
  refine Zm.l (fun _ _ k_ => z_iload_n dX8_newLabel_54 rfl rfl k_) ?_
  refine Zm.l (fun _ _ k_ => z_lconst (v := 0) dX8_newLabel_55 rfl k_) ?_
  obtain ⟨b_, k⟩ := k
  refine zm_last dX8_newLabel_56 b_ (by decide) (by decide) ?_
  refine Zm.l (fun _ _ k_ => z_aload_n dX8_newLabel_57 rfl rfl k_) ?_
  refine zm_getr 79 dX8_newLabel_58 fsX8_268_1 rfl ?_
  refine Zm.l (fun _ _ k_ => z_iload_n dX8_newLabel_61 rfl rfl k_) ?_
  refine Zm.l (fun _ _ k_ => z_lconst (v := 0) dX8_newLabel_62 rfl k_) ?_
  obtain ⟨b_, k⟩ := k
  refine zm_last dX8_newLabel_63 b_ (by decide) (by decide) ?_
  refine Zm.l (fun _ _ k_ => z_aload_n dX8_newLabel_64 rfl rfl k_) ?_
  refine zm_getr 80 dX8_newLabel_65 fsX8_271_1 rfl ?_
  refine Zm.l (fun _ _ k_ => z_iload_n dX8_newLabel_68 rfl rfl k_) ?_
  refine Zm.l (fun _ _ k_ => z_lconst (v := 0) dX8_newLabel_69 rfl k_) ?_
  obtain ⟨b_, k⟩ := k
  refine zm_last dX8_newLabel_70 b_ (by decide) (by decide) ?_
  refine Zm.l (fun _ _ k_ => z_iconst (v := 0) dX8_newLabel_71 rfl k_) ?_
  refine Zm.l (fun _ _ k_ => z_ist dX8_newLabel_72 (by decide) (lv' := [(0, vr (some (97, 1, 0))), (1, vi l1), (3, vi l3), (4, vi (0 : Int32))]) rfl k_) ?_
  refine Zm.pick [0, 1, 3] rfl ?_
  exact k
theorem sX8_newLabel_74 {E : zE} {d : Nat} {Q : zO → zM → Prop} (M : zM) (l1 : Int32) (l4 : Int32) (k : if (gi M 97 8) < l4 then (Q (.inl none) M) else (Zm E YX8_field d M (zargs 0 [vr (some (97, 1, 0)), vi (639 : Int32), vi l1, vi l4]) 0 [] (zma E YX8_newLabel (d + 1) [(0, vr (some (97, 1, 0))), (1, vi l1), (4, vi l4)] 91 3 [vr (some (97, 1, 0))] Q))) : Zm E YX8_newLabel (d + 1) M [(0, vr (some (97, 1, 0))), (1, vi l1), (4, vi l4)] 74 [] Q := by
  refine Zm.l (fun _ _ k_ => z_iload dX8_newLabel_74 rfl k_) ?_
  refine Zm.l (fun _ _ k_ => z_aload_n dX8_newLabel_76 rfl rfl k_) ?_
  refine zm_geti dX8_newLabel_77 fsX8_762_1 (by decide) (by decide) ?_
  refine Zm.br (fun _ _ k1_ k2_ => z_icmp_gt (tgt := 122) dX8_newLabel_80 rfl k1_ k2_) (fun h_ => ?_) (fun h_ => ?_)
  · have k := zit h_ k
    exact zm_vret dX8_newLabel_122 rfl k
  · have k := zif h_ k
    refine Zm.l (fun _ _ k_ => z_aload_n dX8_newLabel_83 rfl rfl k_) ?_
    refine Zm.l (fun _ _ k_ => z_aload_n dX8_newLabel_84 rfl rfl k_) ?_
    refine Zm.l (fun _ _ k_ => z_sipush (v := 639) dX8_newLabel_85 rfl k_) ?_
    refine Zm.l (fun _ _ k_ => z_iload_n dX8_newLabel_88 rfl rfl k_) ?_
    refine Zm.l (fun _ _ k_ => z_iload dX8_newLabel_89 rfl k_) ?_
    exact zm_callV (as := [vi (639 : Int32), vi l1, vi l4]) (st := [vr (some (97, 1, 0))]) dX8_newLabel_91 vsX8_1163_1 (Nat.le_refl _) (Nat.le_of_ble_eq_true rfl) (Nat.le_of_ble_eq_true rfl) rfl k
theorem sX8_newLabel_94 {E : zE} {d : Nat} {Q : zO → zM → Prop} (M : zM) (l1 : Int32) (l4 : Int32) (s0 : Int32) (k : Zm E YX8_empty d M (zargs 0 [vr (some (97, 1, 0)), vi s0]) 0 [] (zma E YX8_newLabel (d + 1) [(0, vr (some (97, 1, 0))), (1, vi l1), (4, vi l4)] 94 3 [] Q)) : Zm E YX8_newLabel (d + 1) M [(0, vr (some (97, 1, 0))), (1, vi l1), (4, vi l4)] 94 [vi s0, vr (some (97, 1, 0))] Q := by
  exact zm_callV (as := [vi s0]) (st := []) dX8_newLabel_94 vsX8_1066_1 (Nat.le_refl _) (Nat.le_of_ble_eq_true rfl) (Nat.le_of_ble_eq_true rfl) rfl k
theorem sX8_newLabel_97 {E : zE} {d : Nat} {Q : zO → zM → Prop} (M : zM) (l1 : Int32) (l4 : Int32) (k : Zm E YX8_field d M (zargs 0 [vr (some (97, 1, 0)), vi (639 : Int32), vi l1, vi l4]) 0 [] (zma E YX8_newLabel (d + 1) [(0, vr (some (97, 1, 0))), (1, vi l1), (4, vi l4)] 105 3 [vr (some (97, 1, 0))] Q)) : Zm E YX8_newLabel (d + 1) M [(0, vr (some (97, 1, 0))), (1, vi l1), (4, vi l4)] 97 [] Q := by
  refine Zm.l (fun _ _ k_ => z_aload_n dX8_newLabel_97 rfl rfl k_) ?_
  refine Zm.l (fun _ _ k_ => z_aload_n dX8_newLabel_98 rfl rfl k_) ?_
  refine Zm.l (fun _ _ k_ => z_sipush (v := 639) dX8_newLabel_99 rfl k_) ?_
  refine Zm.l (fun _ _ k_ => z_iload_n dX8_newLabel_102 rfl rfl k_) ?_
  refine Zm.l (fun _ _ k_ => z_iload dX8_newLabel_103 rfl k_) ?_
  exact zm_callV (as := [vi (639 : Int32), vi l1, vi l4]) (st := [vr (some (97, 1, 0))]) dX8_newLabel_105 vsX8_1163_1 (Nat.le_refl _) (Nat.le_of_ble_eq_true rfl) (Nat.le_of_ble_eq_true rfl) rfl k
theorem sX8_newLabel_108 {E : zE} {d : Nat} {Q : zO → zM → Prop} (M : zM) (l1 : Int32) (l4 : Int32) (s0 : Int32) (k : Zm E YX8_write d M (zargs 0 [vr (some (97, 1, 0)), vi s0, vi (512 : Int32), vi (0 : Int32), vi (0 : Int32)]) 0 [] (zma E YX8_newLabel (d + 1) [(0, vr (some (97, 1, 0))), (1, vi l1), (4, vi l4)] 113 3 [] Q)) : Zm E YX8_newLabel (d + 1) M [(0, vr (some (97, 1, 0))), (1, vi l1), (4, vi l4)] 108 [vi s0, vr (some (97, 1, 0))] Q := by
  refine Zm.l (fun _ _ k_ => z_sipush (v := 512) dX8_newLabel_108 rfl k_) ?_
  refine Zm.l (fun _ _ k_ => z_iconst (v := 0) dX8_newLabel_111 rfl k_) ?_
  refine Zm.l (fun _ _ k_ => z_iconst (v := 0) dX8_newLabel_112 rfl k_) ?_
  exact zm_callV (as := [vi s0, vi (512 : Int32), vi (0 : Int32), vi (0 : Int32)]) (st := []) dX8_newLabel_113 vsX8_1056_1 (Nat.le_refl _) (Nat.le_of_ble_eq_true rfl) (Nat.le_of_ble_eq_true rfl) rfl k
theorem sX8_newLabel_116 {E : zE} {d : Nat} {Q : zO → zM → Prop} (M : zM) (l1 : Int32) (l4 : Int32) (k : Zm E YX8_newLabel (d + 1) M [(0, vr (some (97, 1, 0))), (1, vi l1), (4, vi (l4 + (1 : Int32)))] 74 [] Q) : Zm E YX8_newLabel (d + 1) M [(0, vr (some (97, 1, 0))), (1, vi l1), (4, vi l4)] 116 [] Q := by
  refine Zm.l (fun _ _ k_ => z_inc (v := (l4 + (1 : Int32))) dX8_newLabel_116 rfl rfl (by decide) (lv' := [(0, vr (some (97, 1, 0))), (1, vi l1), (4, vi (l4 + (1 : Int32)))]) rfl k_) ?_
  refine Zm.l (fun _ _ k_ => z_goto (tgt := 74) dX8_newLabel_119 rfl k_) ?_
  exact k
/-! ScriptTypesModel.field(III)I -/
theorem bX8_field_0 : zdec cX8_field 0 [(0, .aload_n 0, 1), (1, .iload_n 1, 1), (2, .invokevirtual 1085, 3), (5, .iload_n 2, 1), (6, .aload_n 0, 1), (7, .getfield 762, 3), (10, .iconst 1, 1), (11, .iadd, 1), (12, .imul, 1), (13, .iadd, 1), (14, .iload_n 3, 1), (15, .iadd, 1), (16, .ireturn, 1)] = true := by decide +kernel
theorem dX8_field_0 : decode cX8_field 0 = .ok (.aload_n 0, 1) := zdec_at bX8_field_0 0 rfl
theorem dX8_field_1 : decode cX8_field 1 = .ok (.iload_n 1, 1) := zdec_at bX8_field_0 1 rfl
theorem dX8_field_2 : decode cX8_field 2 = .ok (.invokevirtual 1085, 3) := zdec_at bX8_field_0 2 rfl
theorem dX8_field_5 : decode cX8_field 5 = .ok (.iload_n 2, 1) := zdec_at bX8_field_0 3 rfl
theorem dX8_field_6 : decode cX8_field 6 = .ok (.aload_n 0, 1) := zdec_at bX8_field_0 4 rfl
theorem dX8_field_7 : decode cX8_field 7 = .ok (.getfield 762, 3) := zdec_at bX8_field_0 5 rfl
theorem dX8_field_10 : decode cX8_field 10 = .ok (.iconst 1, 1) := zdec_at bX8_field_0 6 rfl
theorem dX8_field_11 : decode cX8_field 11 = .ok (.iadd, 1) := zdec_at bX8_field_0 7 rfl
theorem dX8_field_12 : decode cX8_field 12 = .ok (.imul, 1) := zdec_at bX8_field_0 8 rfl
theorem dX8_field_13 : decode cX8_field 13 = .ok (.iadd, 1) := zdec_at bX8_field_0 9 rfl
theorem dX8_field_14 : decode cX8_field 14 = .ok (.iload_n 3, 1) := zdec_at bX8_field_0 10 rfl
theorem dX8_field_15 : decode cX8_field 15 = .ok (.iadd, 1) := zdec_at bX8_field_0 11 rfl
theorem dX8_field_16 : decode cX8_field 16 = .ok (.ireturn, 1) := zdec_at bX8_field_0 12 rfl
theorem sX8_field_0 {E : zE} {d : Nat} {Q : zO → zM → Prop} (M : zM) (l1 : Int32) (l2 : Int32) (l3 : Int32) (k : Zm E YX8_fieldsAt d M (zargs 0 [vr (some (97, 1, 0)), vi l1]) 0 [] (zma E YX8_field (d + 1) [(0, vr (some (97, 1, 0))), (2, vi l2), (3, vi l3)] 2 3 [] Q)) : Zm E YX8_field (d + 1) M [(0, vr (some (97, 1, 0))), (1, vi l1), (2, vi l2), (3, vi l3)] 0 [] Q := by
  refine Zm.l (fun _ _ k_ => z_aload_n dX8_field_0 rfl rfl k_) ?_
  refine Zm.l (fun _ _ k_ => z_iload_n dX8_field_1 rfl rfl k_) ?_
  refine Zm.pick [0, 2, 3] rfl ?_
  exact zm_callV (as := [vi l1]) (st := []) dX8_field_2 vsX8_1085_1 (Nat.le_refl _) (Nat.le_of_ble_eq_true rfl) (Nat.le_of_ble_eq_true rfl) rfl k
theorem sX8_field_5 {E : zE} {d : Nat} {Q : zO → zM → Prop} (M : zM) (l2 : Int32) (l3 : Int32) (s0 : Int32) (k : Q (.inl (some (vi ((s0 + (l2 * ((gi M 97 8) + (1 : Int32)))) + l3)))) M) : Zm E YX8_field (d + 1) M [(0, vr (some (97, 1, 0))), (2, vi l2), (3, vi l3)] 5 [vi s0] Q := by
  refine Zm.l (fun _ _ k_ => z_iload_n dX8_field_5 rfl rfl k_) ?_
  refine Zm.l (fun _ _ k_ => z_aload_n dX8_field_6 rfl rfl k_) ?_
  refine zm_geti dX8_field_7 fsX8_762_1 (by decide) (by decide) ?_
  refine Zm.l (fun _ _ k_ => z_iconst (v := 1) dX8_field_10 rfl k_) ?_
  refine Zm.l (fun _ _ k_ => z_iadd dX8_field_11 k_) ?_
  refine Zm.l (fun _ _ k_ => z_imul dX8_field_12 k_) ?_
  refine Zm.l (fun _ _ k_ => z_iadd dX8_field_13 k_) ?_
  refine Zm.l (fun _ _ k_ => z_iload_n dX8_field_14 rfl rfl k_) ?_
  refine Zm.l (fun _ _ k_ => z_iadd dX8_field_15 k_) ?_
  exact zm_iret dX8_field_16 rfl rfl k
/-! ScriptTypesModel.write(IIII)V -/
theorem bX8_write_0 : zdec cX8_write 0 [(0, .aload_n 0, 1), (1, .getfield 216, 3), (4, .iload_n 1, 1), (5, .iload 4, 2), (7, .i2l, 1), (8, .bipush 32, 2), (10, .lshl, 1), (11, .iload_n 3, 1), (12, .i2l, 1), (13, .bipush 10, 2), (15, .lshl, 1), (16, .lor, 1), (17, .iload_n 2, 1), (18, .i2l, 1), (19, .lor, 1), (20, .lastore, 1)] = true := by decide +kernel
theorem dX8_write_0 : decode cX8_write 0 = .ok (.aload_n 0, 1) := zdec_at bX8_write_0 0 rfl
theorem dX8_write_1 : decode cX8_write 1 = .ok (.getfield 216, 3) := zdec_at bX8_write_0 1 rfl
theorem dX8_write_4 : decode cX8_write 4 = .ok (.iload_n 1, 1) := zdec_at bX8_write_0 2 rfl
theorem dX8_write_5 : decode cX8_write 5 = .ok (.iload 4, 2) := zdec_at bX8_write_0 3 rfl
theorem dX8_write_7 : decode cX8_write 7 = .ok (.i2l, 1) := zdec_at bX8_write_0 4 rfl
theorem dX8_write_8 : decode cX8_write 8 = .ok (.bipush 32, 2) := zdec_at bX8_write_0 5 rfl
theorem dX8_write_10 : decode cX8_write 10 = .ok (.lshl, 1) := zdec_at bX8_write_0 6 rfl
theorem dX8_write_11 : decode cX8_write 11 = .ok (.iload_n 3, 1) := zdec_at bX8_write_0 7 rfl
theorem dX8_write_12 : decode cX8_write 12 = .ok (.i2l, 1) := zdec_at bX8_write_0 8 rfl
theorem dX8_write_13 : decode cX8_write 13 = .ok (.bipush 10, 2) := zdec_at bX8_write_0 9 rfl
theorem dX8_write_15 : decode cX8_write 15 = .ok (.lshl, 1) := zdec_at bX8_write_0 10 rfl
theorem dX8_write_16 : decode cX8_write 16 = .ok (.lor, 1) := zdec_at bX8_write_0 11 rfl
theorem dX8_write_17 : decode cX8_write 17 = .ok (.iload_n 2, 1) := zdec_at bX8_write_0 12 rfl
theorem dX8_write_18 : decode cX8_write 18 = .ok (.i2l, 1) := zdec_at bX8_write_0 13 rfl
theorem dX8_write_19 : decode cX8_write 19 = .ok (.lor, 1) := zdec_at bX8_write_0 14 rfl
theorem dX8_write_20 : decode cX8_write 20 = .ok (.lastore, 1) := zdec_at bX8_write_0 15 rfl
theorem bX8_write_21 : zdec cX8_write 21 [(21, .return_, 1)] = true := by decide +kernel
theorem dX8_write_21 : decode cX8_write 21 = .ok (.return_, 1) := zdec_at bX8_write_21 0 rfl
theorem sX8_write_0 {E : zE} {d : Nat} {Q : zO → zM → Prop} (M : zM) (l1 : Int32) (l2 : Int32) (l3 : Int32) (l4 : Int32) (k : vp_in l1 647800 ∧ (Q (.inl none) (sl M 165 (l1).toNatClampNeg (((zls (l4).toInt64 (32 : Int32)) ||| (zls (l3).toInt64 (10 : Int32))) ||| (l2).toInt64)))) : Zm E YX8_write d M [(0, vr (some (97, 1, 0))), (1, vi l1), (2, vi l2), (3, vi l3), (4, vi l4)] 0 [] Q := by
  refine Zm.l (fun _ _ k_ => z_aload_n dX8_write_0 rfl rfl k_) ?_
  refine zm_getr 62 dX8_write_1 fsX8_216_1 rfl ?_
  refine Zm.l (fun _ _ k_ => z_iload_n dX8_write_4 rfl rfl k_) ?_
  refine Zm.l (fun _ _ k_ => z_iload dX8_write_5 rfl k_) ?_
  refine Zm.l (fun _ _ k_ => z_i2l dX8_write_7 k_) ?_
  refine Zm.l (fun _ _ k_ => z_bipush (v := 32) dX8_write_8 rfl k_) ?_
  refine Zm.l (fun _ _ k_ => z_lshl dX8_write_10 k_) ?_
  refine Zm.l (fun _ _ k_ => z_iload_n dX8_write_11 rfl rfl k_) ?_
  refine Zm.l (fun _ _ k_ => z_i2l dX8_write_12 k_) ?_
  refine Zm.l (fun _ _ k_ => z_bipush (v := 10) dX8_write_13 rfl k_) ?_
  refine Zm.l (fun _ _ k_ => z_lshl dX8_write_15 k_) ?_
  refine Zm.l (fun _ _ k_ => z_lor dX8_write_16 k_) ?_
  refine Zm.l (fun _ _ k_ => z_iload_n dX8_write_17 rfl rfl k_) ?_
  refine Zm.l (fun _ _ k_ => z_i2l dX8_write_18 k_) ?_
  refine Zm.l (fun _ _ k_ => z_lor dX8_write_19 k_) ?_
  obtain ⟨b_, k⟩ := k
  refine zm_last dX8_write_20 b_ (by decide) (by decide) ?_
  exact zm_vret dX8_write_21 rfl k
/-! ScriptTypesModel.hasField(III)V -/
theorem bX8_hasField_0 : zdec cX8_hasField 0 [(0, .aload_n 0, 1), (1, .aload_n 0, 1), (2, .iload_n 1, 1), (3, .iload_n 2, 1), (4, .invokevirtual 1244, 3), (7, .iload_n 3, 1), (8, .invokevirtual 1081, 3), (11, .return_, 1)] = true := by decide +kernel
theorem dX8_hasField_0 : decode cX8_hasField 0 = .ok (.aload_n 0, 1) := zdec_at bX8_hasField_0 0 rfl
theorem dX8_hasField_1 : decode cX8_hasField 1 = .ok (.aload_n 0, 1) := zdec_at bX8_hasField_0 1 rfl
theorem dX8_hasField_2 : decode cX8_hasField 2 = .ok (.iload_n 1, 1) := zdec_at bX8_hasField_0 2 rfl
theorem dX8_hasField_3 : decode cX8_hasField 3 = .ok (.iload_n 2, 1) := zdec_at bX8_hasField_0 3 rfl
theorem dX8_hasField_4 : decode cX8_hasField 4 = .ok (.invokevirtual 1244, 3) := zdec_at bX8_hasField_0 4 rfl
theorem dX8_hasField_7 : decode cX8_hasField 7 = .ok (.iload_n 3, 1) := zdec_at bX8_hasField_0 5 rfl
theorem dX8_hasField_8 : decode cX8_hasField 8 = .ok (.invokevirtual 1081, 3) := zdec_at bX8_hasField_0 6 rfl
theorem dX8_hasField_11 : decode cX8_hasField 11 = .ok (.return_, 1) := zdec_at bX8_hasField_0 7 rfl
theorem sX8_hasField_0 {E : zE} {d : Nat} {Q : zO → zM → Prop} (M : zM) (l1 : Int32) (l2 : Int32) (l3 : Int32) (k : Zm E YX8_fresh_2 d M (zargs 0 [vr (some (97, 1, 0)), vi l1, vi l2]) 0 [] (zma E YX8_hasField (d + 1) [(3, vi l3)] 4 3 [vr (some (97, 1, 0))] Q)) : Zm E YX8_hasField (d + 1) M [(0, vr (some (97, 1, 0))), (1, vi l1), (2, vi l2), (3, vi l3)] 0 [] Q := by
  refine Zm.l (fun _ _ k_ => z_aload_n dX8_hasField_0 rfl rfl k_) ?_
  refine Zm.l (fun _ _ k_ => z_aload_n dX8_hasField_1 rfl rfl k_) ?_
  refine Zm.l (fun _ _ k_ => z_iload_n dX8_hasField_2 rfl rfl k_) ?_
  refine Zm.l (fun _ _ k_ => z_iload_n dX8_hasField_3 rfl rfl k_) ?_
  refine Zm.pick [3] rfl ?_
  exact zm_callV (as := [vi l1, vi l2]) (st := [vr (some (97, 1, 0))]) dX8_hasField_4 vsX8_1244_1 (Nat.le_refl _) (Nat.le_of_ble_eq_true rfl) (Nat.le_of_ble_eq_true rfl) rfl k
theorem sX8_hasField_7 {E : zE} {d : Nat} {Q : zO → zM → Prop} (M : zM) (l3 : Int32) (s0 : Int32) (k : Zm E YX8_addLabel d M (zargs 0 [vr (some (97, 1, 0)), vi s0, vi l3]) 0 [] (zma E YX8_hasField (d + 1) [] 8 3 [] Q)) : Zm E YX8_hasField (d + 1) M [(3, vi l3)] 7 [vi s0, vr (some (97, 1, 0))] Q := by
  refine Zm.l (fun _ _ k_ => z_iload_n dX8_hasField_7 rfl rfl k_) ?_
  refine Zm.pick [] rfl ?_
  exact zm_callV (as := [vi s0, vi l3]) (st := []) dX8_hasField_8 vsX8_1081_1 (Nat.le_refl _) (Nat.le_of_ble_eq_true rfl) (Nat.le_of_ble_eq_true rfl) rfl k
theorem sX8_hasField_11 {E : zE} {d : Nat} {Q : zO → zM → Prop} (M : zM)  (k : Q (.inl none) M) : Zm E YX8_hasField (d + 1) M [] 11 [] Q := by
  exact zm_vret dX8_hasField_11 rfl k
/-! ScriptTypesModel.fresh(II)I -/
theorem bX8_fresh_2_0 : zdec cX8_fresh_2 0 [(0, .aload_n 0, 1), (1, .sipush 639, 3), (4, .iload_n 1, 1), (5, .iload_n 2, 1), (6, .invokevirtual 1163, 3), (9, .istore_n 3, 1), (10, .aload_n 0, 1), (11, .iload_n 3, 1), (12, .invokevirtual 1066, 3), (15, .iload_n 3, 1), (16, .ireturn, 1)] = true := by decide +kernel
theorem dX8_fresh_2_0 : decode cX8_fresh_2 0 = .ok (.aload_n 0, 1) := zdec_at bX8_fresh_2_0 0 rfl
theorem dX8_fresh_2_1 : decode cX8_fresh_2 1 = .ok (.sipush 639, 3) := zdec_at bX8_fresh_2_0 1 rfl
theorem dX8_fresh_2_4 : decode cX8_fresh_2 4 = .ok (.iload_n 1, 1) := zdec_at bX8_fresh_2_0 2 rfl
theorem dX8_fresh_2_5 : decode cX8_fresh_2 5 = .ok (.iload_n 2, 1) := zdec_at bX8_fresh_2_0 3 rfl
theorem dX8_fresh_2_6 : decode cX8_fresh_2 6 = .ok (.invokevirtual 1163, 3) := zdec_at bX8_fresh_2_0 4 rfl
theorem dX8_fresh_2_9 : decode cX8_fresh_2 9 = .ok (.istore_n 3, 1) := zdec_at bX8_fresh_2_0 5 rfl
theorem dX8_fresh_2_10 : decode cX8_fresh_2 10 = .ok (.aload_n 0, 1) := zdec_at bX8_fresh_2_0 6 rfl
theorem dX8_fresh_2_11 : decode cX8_fresh_2 11 = .ok (.iload_n 3, 1) := zdec_at bX8_fresh_2_0 7 rfl
theorem dX8_fresh_2_12 : decode cX8_fresh_2 12 = .ok (.invokevirtual 1066, 3) := zdec_at bX8_fresh_2_0 8 rfl
theorem dX8_fresh_2_15 : decode cX8_fresh_2 15 = .ok (.iload_n 3, 1) := zdec_at bX8_fresh_2_0 9 rfl
theorem dX8_fresh_2_16 : decode cX8_fresh_2 16 = .ok (.ireturn, 1) := zdec_at bX8_fresh_2_0 10 rfl
theorem sX8_fresh_2_0 {E : zE} {d : Nat} {Q : zO → zM → Prop} (M : zM) (l1 : Int32) (l2 : Int32) (k : Zm E YX8_field d M (zargs 0 [vr (some (97, 1, 0)), vi (639 : Int32), vi l1, vi l2]) 0 [] (zma E YX8_fresh_2 (d + 1) [(0, vr (some (97, 1, 0)))] 6 3 [] Q)) : Zm E YX8_fresh_2 (d + 1) M [(0, vr (some (97, 1, 0))), (1, vi l1), (2, vi l2)] 0 [] Q := by
  refine Zm.l (fun _ _ k_ => z_aload_n dX8_fresh_2_0 rfl rfl k_) ?_
  refine Zm.l (fun _ _ k_ => z_sipush (v := 639) dX8_fresh_2_1 rfl k_) ?_
  refine Zm.l (fun _ _ k_ => z_iload_n dX8_fresh_2_4 rfl rfl k_) ?_
  refine Zm.l (fun _ _ k_ => z_iload_n dX8_fresh_2_5 rfl rfl k_) ?_
  refine Zm.pick [0] rfl ?_
  exact zm_callV (as := [vi (639 : Int32), vi l1, vi l2]) (st := []) dX8_fresh_2_6 vsX8_1163_1 (Nat.le_refl _) (Nat.le_of_ble_eq_true rfl) (Nat.le_of_ble_eq_true rfl) rfl k
theorem sX8_fresh_2_9 {E : zE} {d : Nat} {Q : zO → zM → Prop} (M : zM) (s0 : Int32) (k : Zm E YX8_empty d M (zargs 0 [vr (some (97, 1, 0)), vi s0]) 0 [] (zma E YX8_fresh_2 (d + 1) [(3, vi s0)] 12 3 [] Q)) : Zm E YX8_fresh_2 (d + 1) M [(0, vr (some (97, 1, 0)))] 9 [vi s0] Q := by
  refine Zm.l (fun _ _ k_ => z_ist_n dX8_fresh_2_9 rfl (by decide) (lv' := [(0, vr (some (97, 1, 0))), (3, vi s0)]) rfl k_) ?_
  refine Zm.l (fun _ _ k_ => z_aload_n dX8_fresh_2_10 rfl rfl k_) ?_
  refine Zm.l (fun _ _ k_ => z_iload_n dX8_fresh_2_11 rfl rfl k_) ?_
  refine Zm.pick [1] rfl ?_
  exact zm_callV (as := [vi s0]) (st := []) dX8_fresh_2_12 vsX8_1066_1 (Nat.le_refl _) (Nat.le_of_ble_eq_true rfl) (Nat.le_of_ble_eq_true rfl) rfl k
theorem sX8_fresh_2_15 {E : zE} {d : Nat} {Q : zO → zM → Prop} (M : zM) (l3 : Int32) (k : Q (.inl (some (vi l3))) M) : Zm E YX8_fresh_2 (d + 1) M [(3, vi l3)] 15 [] Q := by
  refine Zm.l (fun _ _ k_ => z_iload_n dX8_fresh_2_15 rfl rfl k_) ?_
  exact zm_iret dX8_fresh_2_16 rfl rfl k
/-! ScriptTypesModel.addLabel(II)V -/
theorem bX8_addLabel_0 : zdec cX8_addLabel 0 [(0, .iload_n 2, 1), (1, .bipush 64, 2), (3, .if_icmp .ge 22, 3), (6, .aload_n 0, 1), (7, .getfield 220, 3), (10, .iload_n 1, 1), (11, .aload_n 0, 1), (12, .getfield 220, 3), (15, .iload_n 1, 1), (16, .laload, 1), (17, .lconst 1, 1), (18, .iload_n 2, 1), (19, .lshl, 1), (20, .lor, 1), (21, .lastore, 1), (22, .goto 22, 3)] = true := by decide +kernel
theorem dX8_addLabel_0 : decode cX8_addLabel 0 = .ok (.iload_n 2, 1) := zdec_at bX8_addLabel_0 0 rfl
theorem dX8_addLabel_1 : decode cX8_addLabel 1 = .ok (.bipush 64, 2) := zdec_at bX8_addLabel_0 1 rfl
theorem dX8_addLabel_3 : decode cX8_addLabel 3 = .ok (.if_icmp .ge 22, 3) := zdec_at bX8_addLabel_0 2 rfl
theorem dX8_addLabel_6 : decode cX8_addLabel 6 = .ok (.aload_n 0, 1) := zdec_at bX8_addLabel_0 3 rfl
theorem dX8_addLabel_7 : decode cX8_addLabel 7 = .ok (.getfield 220, 3) := zdec_at bX8_addLabel_0 4 rfl
theorem dX8_addLabel_10 : decode cX8_addLabel 10 = .ok (.iload_n 1, 1) := zdec_at bX8_addLabel_0 5 rfl
theorem dX8_addLabel_11 : decode cX8_addLabel 11 = .ok (.aload_n 0, 1) := zdec_at bX8_addLabel_0 6 rfl
theorem dX8_addLabel_12 : decode cX8_addLabel 12 = .ok (.getfield 220, 3) := zdec_at bX8_addLabel_0 7 rfl
theorem dX8_addLabel_15 : decode cX8_addLabel 15 = .ok (.iload_n 1, 1) := zdec_at bX8_addLabel_0 8 rfl
theorem dX8_addLabel_16 : decode cX8_addLabel 16 = .ok (.laload, 1) := zdec_at bX8_addLabel_0 9 rfl
theorem dX8_addLabel_17 : decode cX8_addLabel 17 = .ok (.lconst 1, 1) := zdec_at bX8_addLabel_0 10 rfl
theorem dX8_addLabel_18 : decode cX8_addLabel 18 = .ok (.iload_n 2, 1) := zdec_at bX8_addLabel_0 11 rfl
theorem dX8_addLabel_19 : decode cX8_addLabel 19 = .ok (.lshl, 1) := zdec_at bX8_addLabel_0 12 rfl
theorem dX8_addLabel_20 : decode cX8_addLabel 20 = .ok (.lor, 1) := zdec_at bX8_addLabel_0 13 rfl
theorem dX8_addLabel_21 : decode cX8_addLabel 21 = .ok (.lastore, 1) := zdec_at bX8_addLabel_0 14 rfl
theorem dX8_addLabel_22 : decode cX8_addLabel 22 = .ok (.goto 22, 3) := zdec_at bX8_addLabel_0 15 rfl
theorem bX8_addLabel_25 : zdec cX8_addLabel 25 [(25, .aload_n 0, 1), (26, .getfield 223, 3), (29, .iload_n 1, 1), (30, .aload_n 0, 1), (31, .getfield 223, 3), (34, .iload_n 1, 1), (35, .laload, 1), (36, .lconst 1, 1), (37, .iload_n 2, 1), (38, .bipush 64, 2), (40, .isub, 1), (41, .lshl, 1), (42, .lor, 1), (43, .lastore, 1), (44, .return_, 1)] = true := by decide +kernel
theorem dX8_addLabel_25 : decode cX8_addLabel 25 = .ok (.aload_n 0, 1) := zdec_at bX8_addLabel_25 0 rfl
theorem dX8_addLabel_26 : decode cX8_addLabel 26 = .ok (.getfield 223, 3) := zdec_at bX8_addLabel_25 1 rfl
theorem dX8_addLabel_29 : decode cX8_addLabel 29 = .ok (.iload_n 1, 1) := zdec_at bX8_addLabel_25 2 rfl
theorem dX8_addLabel_30 : decode cX8_addLabel 30 = .ok (.aload_n 0, 1) := zdec_at bX8_addLabel_25 3 rfl
theorem dX8_addLabel_31 : decode cX8_addLabel 31 = .ok (.getfield 223, 3) := zdec_at bX8_addLabel_25 4 rfl
theorem dX8_addLabel_34 : decode cX8_addLabel 34 = .ok (.iload_n 1, 1) := zdec_at bX8_addLabel_25 5 rfl
theorem dX8_addLabel_35 : decode cX8_addLabel 35 = .ok (.laload, 1) := zdec_at bX8_addLabel_25 6 rfl
theorem dX8_addLabel_36 : decode cX8_addLabel 36 = .ok (.lconst 1, 1) := zdec_at bX8_addLabel_25 7 rfl
theorem dX8_addLabel_37 : decode cX8_addLabel 37 = .ok (.iload_n 2, 1) := zdec_at bX8_addLabel_25 8 rfl
theorem dX8_addLabel_38 : decode cX8_addLabel 38 = .ok (.bipush 64, 2) := zdec_at bX8_addLabel_25 9 rfl
theorem dX8_addLabel_40 : decode cX8_addLabel 40 = .ok (.isub, 1) := zdec_at bX8_addLabel_25 10 rfl
theorem dX8_addLabel_41 : decode cX8_addLabel 41 = .ok (.lshl, 1) := zdec_at bX8_addLabel_25 11 rfl
theorem dX8_addLabel_42 : decode cX8_addLabel 42 = .ok (.lor, 1) := zdec_at bX8_addLabel_25 12 rfl
theorem dX8_addLabel_43 : decode cX8_addLabel 43 = .ok (.lastore, 1) := zdec_at bX8_addLabel_25 13 rfl
theorem dX8_addLabel_44 : decode cX8_addLabel 44 = .ok (.return_, 1) := zdec_at bX8_addLabel_25 14 rfl
theorem sX8_addLabel_0 {E : zE} {d : Nat} {Q : zO → zM → Prop} (M : zM) (l1 : Int32) (l2 : Int32) (k : if (64 : Int32) ≤ l2 then (vp_in l1 647800 ∧ (vp_in l1 647800 ∧ (Q (.inl none) (sl M 167 (l1).toNatClampNeg ((gl M 167 (l1).toNatClampNeg) ||| (zls (1 : Int64) (l2 - (64 : Int32)))))))) else (vp_in l1 647800 ∧ (vp_in l1 647800 ∧ (Q (.inl none) (sl M 166 (l1).toNatClampNeg ((gl M 166 (l1).toNatClampNeg) ||| (zls (1 : Int64) l2))))))) : Zm E YX8_addLabel d M [(0, vr (some (97, 1, 0))), (1, vi l1), (2, vi l2)] 0 [] Q := by
  refine Zm.l (fun _ _ k_ => z_iload_n dX8_addLabel_0 rfl rfl k_) ?_
  refine Zm.l (fun _ _ k_ => z_bipush (v := 64) dX8_addLabel_1 rfl k_) ?_
  refine Zm.br (fun _ _ k1_ k2_ => z_icmp_ge (tgt := 25) dX8_addLabel_3 rfl k1_ k2_) (fun h_ => ?_) (fun h_ => ?_)
  · have k := zit h_ k
    refine Zm.l (fun _ _ k_ => z_aload_n dX8_addLabel_25 rfl rfl k_) ?_
    refine zm_getr 64 dX8_addLabel_26 fsX8_223_1 rfl ?_
    refine Zm.l (fun _ _ k_ => z_iload_n dX8_addLabel_29 rfl rfl k_) ?_
    refine Zm.l (fun _ _ k_ => z_aload_n dX8_addLabel_30 rfl rfl k_) ?_
    refine zm_getr 64 dX8_addLabel_31 fsX8_223_1 rfl ?_
    refine Zm.l (fun _ _ k_ => z_iload_n dX8_addLabel_34 rfl rfl k_) ?_
    obtain ⟨b_, k⟩ := k
    refine zm_lald dX8_addLabel_35 b_ (by decide) (by decide) ?_
    refine Zm.l (fun _ _ k_ => z_lconst (v := 1) dX8_addLabel_36 rfl k_) ?_
    refine Zm.l (fun _ _ k_ => z_iload_n dX8_addLabel_37 rfl rfl k_) ?_
    refine Zm.l (fun _ _ k_ => z_bipush (v := 64) dX8_addLabel_38 rfl k_) ?_
    refine Zm.l (fun _ _ k_ => z_isub dX8_addLabel_40 k_) ?_
    refine Zm.l (fun _ _ k_ => z_lshl dX8_addLabel_41 k_) ?_
    refine Zm.l (fun _ _ k_ => z_lor dX8_addLabel_42 k_) ?_
    obtain ⟨b_, k⟩ := k
    refine zm_last dX8_addLabel_43 b_ (by decide) (by decide) ?_
    exact zm_vret dX8_addLabel_44 rfl k
  · have k := zif h_ k
    refine Zm.l (fun _ _ k_ => z_aload_n dX8_addLabel_6 rfl rfl k_) ?_
    refine zm_getr 63 dX8_addLabel_7 fsX8_220_1 rfl ?_
    refine Zm.l (fun _ _ k_ => z_iload_n dX8_addLabel_10 rfl rfl k_) ?_
    refine Zm.l (fun _ _ k_ => z_aload_n dX8_addLabel_11 rfl rfl k_) ?_
    refine zm_getr 63 dX8_addLabel_12 fsX8_220_1 rfl ?_
    refine Zm.l (fun _ _ k_ => z_iload_n dX8_addLabel_15 rfl rfl k_) ?_
    obtain ⟨b_, k⟩ := k
    refine zm_lald dX8_addLabel_16 b_ (by decide) (by decide) ?_
    refine Zm.l (fun _ _ k_ => z_lconst (v := 1) dX8_addLabel_17 rfl k_) ?_
    refine Zm.l (fun _ _ k_ => z_iload_n dX8_addLabel_18 rfl rfl k_) ?_
    refine Zm.l (fun _ _ k_ => z_lshl dX8_addLabel_19 k_) ?_
    refine Zm.l (fun _ _ k_ => z_lor dX8_addLabel_20 k_) ?_
    obtain ⟨b_, k⟩ := k
    refine zm_last dX8_addLabel_21 b_ (by decide) (by decide) ?_
    refine Zm.l (fun _ _ k_ => z_goto (tgt := 44) dX8_addLabel_22 rfl k_) ?_
    exact zm_vret dX8_addLabel_44 rfl k
/-! ScriptTypesModel.addString(II)V -/
theorem bX8_addString_0 : zdec cX8_addString 0 [(0, .ldc_w 1065, 3), (3, .istore_n 3, 1), (4, .aload_n 0, 1), (5, .iload_n 3, 1), (6, .invokevirtual 1066, 3), (9, .aload_n 0, 1), (10, .iload_n 3, 1), (11, .iload_n 2, 1), (12, .iconst (-1), 1), (13, .if_icmp .ne 9, 3), (16, .sipush 256, 3), (19, .goto 6, 3), (22, .sipush 128, 3), (25, .iload_n 2, 1), (26, .iconst (-1), 1), (27, .if_icmp .ne 7, 3)] = true := by decide +kernel
theorem dX8_addString_0 : decode cX8_addString 0 = .ok (.ldc_w 1065, 3) := zdec_at bX8_addString_0 0 rfl
theorem dX8_addString_3 : decode cX8_addString 3 = .ok (.istore_n 3, 1) := zdec_at bX8_addString_0 1 rfl
theorem dX8_addString_4 : decode cX8_addString 4 = .ok (.aload_n 0, 1) := zdec_at bX8_addString_0 2 rfl
theorem dX8_addString_5 : decode cX8_addString 5 = .ok (.iload_n 3, 1) := zdec_at bX8_addString_0 3 rfl
theorem dX8_addString_6 : decode cX8_addString 6 = .ok (.invokevirtual 1066, 3) := zdec_at bX8_addString_0 4 rfl
theorem dX8_addString_9 : decode cX8_addString 9 = .ok (.aload_n 0, 1) := zdec_at bX8_addString_0 5 rfl
theorem dX8_addString_10 : decode cX8_addString 10 = .ok (.iload_n 3, 1) := zdec_at bX8_addString_0 6 rfl
theorem dX8_addString_11 : decode cX8_addString 11 = .ok (.iload_n 2, 1) := zdec_at bX8_addString_0 7 rfl
theorem dX8_addString_12 : decode cX8_addString 12 = .ok (.iconst (-1), 1) := zdec_at bX8_addString_0 8 rfl
theorem dX8_addString_13 : decode cX8_addString 13 = .ok (.if_icmp .ne 9, 3) := zdec_at bX8_addString_0 9 rfl
theorem dX8_addString_16 : decode cX8_addString 16 = .ok (.sipush 256, 3) := zdec_at bX8_addString_0 10 rfl
theorem dX8_addString_19 : decode cX8_addString 19 = .ok (.goto 6, 3) := zdec_at bX8_addString_0 11 rfl
theorem dX8_addString_22 : decode cX8_addString 22 = .ok (.sipush 128, 3) := zdec_at bX8_addString_0 12 rfl
theorem dX8_addString_25 : decode cX8_addString 25 = .ok (.iload_n 2, 1) := zdec_at bX8_addString_0 13 rfl
theorem dX8_addString_26 : decode cX8_addString 26 = .ok (.iconst (-1), 1) := zdec_at bX8_addString_0 14 rfl
theorem dX8_addString_27 : decode cX8_addString 27 = .ok (.if_icmp .ne 7, 3) := zdec_at bX8_addString_0 15 rfl
theorem bX8_addString_30 : zdec cX8_addString 30 [(30, .iconst 0, 1), (31, .goto 4, 3), (34, .iload_n 2, 1), (35, .iconst 0, 1), (36, .invokevirtual 1056, 3), (39, .aload_n 0, 1), (40, .iload_n 3, 1), (41, .iload_n 1, 1), (42, .invokevirtual 1069, 3), (45, .istore 4, 2), (47, .return_, 1)] = true := by decide +kernel
theorem dX8_addString_30 : decode cX8_addString 30 = .ok (.iconst 0, 1) := zdec_at bX8_addString_30 0 rfl
theorem dX8_addString_31 : decode cX8_addString 31 = .ok (.goto 4, 3) := zdec_at bX8_addString_30 1 rfl
theorem dX8_addString_34 : decode cX8_addString 34 = .ok (.iload_n 2, 1) := zdec_at bX8_addString_30 2 rfl
theorem dX8_addString_35 : decode cX8_addString 35 = .ok (.iconst 0, 1) := zdec_at bX8_addString_30 3 rfl
theorem dX8_addString_36 : decode cX8_addString 36 = .ok (.invokevirtual 1056, 3) := zdec_at bX8_addString_30 4 rfl
theorem dX8_addString_39 : decode cX8_addString 39 = .ok (.aload_n 0, 1) := zdec_at bX8_addString_30 5 rfl
theorem dX8_addString_40 : decode cX8_addString 40 = .ok (.iload_n 3, 1) := zdec_at bX8_addString_30 6 rfl
theorem dX8_addString_41 : decode cX8_addString 41 = .ok (.iload_n 1, 1) := zdec_at bX8_addString_30 7 rfl
theorem dX8_addString_42 : decode cX8_addString 42 = .ok (.invokevirtual 1069, 3) := zdec_at bX8_addString_30 8 rfl
theorem dX8_addString_45 : decode cX8_addString 45 = .ok (.istore 4, 2) := zdec_at bX8_addString_30 9 rfl
theorem dX8_addString_47 : decode cX8_addString 47 = .ok (.return_, 1) := zdec_at bX8_addString_30 10 rfl
theorem sX8_addString_0 {E : zE} {d : Nat} {Q : zO → zM → Prop} (M : zM) (l1 : Int32) (l2 : Int32) (k : Zm E YX8_empty d M (zargs 0 [vr (some (97, 1, 0)), vi (647790 : Int32)]) 0 [] (zma E YX8_addString (d + 1) [(0, vr (some (97, 1, 0))), (1, vi l1), (2, vi l2), (3, vi (647790 : Int32))] 6 3 [] Q)) : Zm E YX8_addString (d + 1) M [(0, vr (some (97, 1, 0))), (1, vi l1), (2, vi l2)] 0 [] Q := by
  refine Zm.l (fun _ _ k_ => z_ldcw (v := 647790) dX8_addString_0 q4832 k_) ?_
  refine Zm.l (fun _ _ k_ => z_ist_n dX8_addString_3 rfl (by decide) (lv' := [(0, vr (some (97, 1, 0))), (1, vi l1), (2, vi l2), (3, vi (647790 : Int32))]) rfl k_) ?_
  refine Zm.l (fun _ _ k_ => z_aload_n dX8_addString_4 rfl rfl k_) ?_
  refine Zm.l (fun _ _ k_ => z_iload_n dX8_addString_5 rfl rfl k_) ?_
  exact zm_callV (as := [vi (647790 : Int32)]) (st := []) dX8_addString_6 vsX8_1066_1 (Nat.le_refl _) (Nat.le_of_ble_eq_true rfl) (Nat.le_of_ble_eq_true rfl) rfl k
theorem sX8_addString_9 {E : zE} {d : Nat} {Q : zO → zM → Prop} (M : zM) (l1 : Int32) (l2 : Int32) (l3 : Int32) (k : if l2 = (-1 : Int32) then (Zm E YX8_addString (d + 1) M [(0, vr (some (97, 1, 0))), (1, vi l1), (2, vi l2), (3, vi l3)] 25 [vi (256 : Int32), vi l3, vr (some (97, 1, 0))] Q) else (Zm E YX8_addString (d + 1) M [(0, vr (some (97, 1, 0))), (1, vi l1), (2, vi l2), (3, vi l3)] 25 [vi (128 : Int32), vi l3, vr (some (97, 1, 0))] Q)) : Zm E YX8_addString (d + 1) M [(0, vr (some (97, 1, 0))), (1, vi l1), (2, vi l2), (3, vi l3)] 9 [] Q := by
  refine Zm.l (fun _ _ k_ => z_aload_n dX8_addString_9 rfl rfl k_) ?_
  refine Zm.l (fun _ _ k_ => z_iload_n dX8_addString_10 rfl rfl k_) ?_
  refine Zm.l (fun _ _ k_ => z_iload_n dX8_addString_11 rfl rfl k_) ?_
  refine Zm.l (fun _ _ k_ => z_iconst (v := -1) dX8_addString_12 rfl k_) ?_
  refine Zm.brn (fun _ _ k1_ k2_ => z_icmp_ne (tgt := 22) dX8_addString_13 rfl k1_ k2_) (fun h_ => ?_) (fun h_ => ?_)
  · have k := zif h_ k
    refine Zm.l (fun _ _ k_ => z_sipush (v := 128) dX8_addString_22 rfl k_) ?_
    exact k
  · have k := zit h_ k
    refine Zm.l (fun _ _ k_ => z_sipush (v := 256) dX8_addString_16 rfl k_) ?_
    refine Zm.l (fun _ _ k_ => z_goto (tgt := 25) dX8_addString_19 rfl k_) ?_
    exact k
theorem sX8_addString_25 {E : zE} {d : Nat} {Q : zO → zM → Prop} (M : zM) (l1 : Int32) (l2 : Int32) (l3 : Int32) (s0 : Int32) (s1 : Int32) (k : if l2 = (-1 : Int32) then (Zm E YX8_write d M (zargs 0 [vr (some (97, 1, 0)), vi s1, vi s0, vi (0 : Int32), vi (0 : Int32)]) 0 [] (zma E YX8_addString (d + 1) [(0, vr (some (97, 1, 0))), (1, vi l1), (3, vi l3)] 36 3 [] Q)) else (Zm E YX8_write d M (zargs 0 [vr (some (97, 1, 0)), vi s1, vi s0, vi l2, vi (0 : Int32)]) 0 [] (zma E YX8_addString (d + 1) [(0, vr (some (97, 1, 0))), (1, vi l1), (3, vi l3)] 36 3 [] Q))) : Zm E YX8_addString (d + 1) M [(0, vr (some (97, 1, 0))), (1, vi l1), (2, vi l2), (3, vi l3)] 25 [vi s0, vi s1, vr (some (97, 1, 0))] Q := by
  refine Zm.l (fun _ _ k_ => z_iload_n dX8_addString_25 rfl rfl k_) ?_
  refine Zm.l (fun _ _ k_ => z_iconst (v := -1) dX8_addString_26 rfl k_) ?_
  refine Zm.brn (fun _ _ k1_ k2_ => z_icmp_ne (tgt := 34) dX8_addString_27 rfl k1_ k2_) (fun h_ => ?_) (fun h_ => ?_)
  · have k := zif h_ k
    refine Zm.l (fun _ _ k_ => z_iload_n dX8_addString_34 rfl rfl k_) ?_
    refine Zm.l (fun _ _ k_ => z_iconst (v := 0) dX8_addString_35 rfl k_) ?_
    refine Zm.pick [0, 1, 3] rfl ?_
    exact zm_callV (as := [vi s1, vi s0, vi l2, vi (0 : Int32)]) (st := []) dX8_addString_36 vsX8_1056_1 (Nat.le_refl _) (Nat.le_of_ble_eq_true rfl) (Nat.le_of_ble_eq_true rfl) rfl k
  · have k := zit h_ k
    refine Zm.l (fun _ _ k_ => z_iconst (v := 0) dX8_addString_30 rfl k_) ?_
    refine Zm.l (fun _ _ k_ => z_goto (tgt := 35) dX8_addString_31 rfl k_) ?_
    refine Zm.l (fun _ _ k_ => z_iconst (v := 0) dX8_addString_35 rfl k_) ?_
    refine Zm.pick [0, 1, 3] rfl ?_
    exact zm_callV (as := [vi s1, vi s0, vi (0 : Int32), vi (0 : Int32)]) (st := []) dX8_addString_36 vsX8_1056_1 (Nat.le_refl _) (Nat.le_of_ble_eq_true rfl) (Nat.le_of_ble_eq_true rfl) rfl k
theorem sX8_addString_39 {E : zE} {d : Nat} {Q : zO → zM → Prop} (M : zM) (l1 : Int32) (l3 : Int32) (k : Zm E YX8_join d M (zargs 0 [vr (some (97, 1, 0)), vi l3, vi l1]) 0 [] (zma E YX8_addString (d + 1) [] 42 3 [] Q)) : Zm E YX8_addString (d + 1) M [(0, vr (some (97, 1, 0))), (1, vi l1), (3, vi l3)] 39 [] Q := by
  refine Zm.l (fun _ _ k_ => z_aload_n dX8_addString_39 rfl rfl k_) ?_
  refine Zm.l (fun _ _ k_ => z_iload_n dX8_addString_40 rfl rfl k_) ?_
  refine Zm.l (fun _ _ k_ => z_iload_n dX8_addString_41 rfl rfl k_) ?_
  refine Zm.pick [] rfl ?_
  exact zm_callV (as := [vi l3, vi l1]) (st := []) dX8_addString_42 vsX8_1069_1 (Nat.le_refl _) (Nat.le_of_ble_eq_true rfl) (Nat.le_of_ble_eq_true rfl) rfl k
theorem sX8_addString_45 {E : zE} {d : Nat} {Q : zO → zM → Prop} (M : zM) (s0 : Int32) (k : Q (.inl none) M) : Zm E YX8_addString (d + 1) M [] 45 [vi s0] Q := by
  refine Zm.l (fun _ _ k_ => z_ist dX8_addString_45 (by decide) (lv' := [(4, vi s0)]) rfl k_) ?_
  exact zm_vret dX8_addString_47 rfl k
/-! ScriptTypesModel.join(II)Z -/
theorem bX8_join_0 : zdec cX8_join 0 [(0, .aload_n 0, 1), (1, .iload_n 2, 1), (2, .invokevirtual 1047, 3), (5, .istore_n 3, 1), (6, .aload_n 0, 1), (7, .iload_n 1, 1), (8, .invokevirtual 1047, 3), (11, .istore 4, 2), (13, .iload_n 3, 1), (14, .iload 4, 2), (16, .ior, 1), (17, .istore 5, 2), (19, .iload_n 3, 1), (20, .iload 4, 2), (22, .iand, 1), (23, .bipush 32, 2)] = true := by decide +kernel
theorem dX8_join_0 : decode cX8_join 0 = .ok (.aload_n 0, 1) := zdec_at bX8_join_0 0 rfl
theorem dX8_join_1 : decode cX8_join 1 = .ok (.iload_n 2, 1) := zdec_at bX8_join_0 1 rfl
theorem dX8_join_2 : decode cX8_join 2 = .ok (.invokevirtual 1047, 3) := zdec_at bX8_join_0 2 rfl
theorem dX8_join_5 : decode cX8_join 5 = .ok (.istore_n 3, 1) := zdec_at bX8_join_0 3 rfl
theorem dX8_join_6 : decode cX8_join 6 = .ok (.aload_n 0, 1) := zdec_at bX8_join_0 4 rfl
theorem dX8_join_7 : decode cX8_join 7 = .ok (.iload_n 1, 1) := zdec_at bX8_join_0 5 rfl
theorem dX8_join_8 : decode cX8_join 8 = .ok (.invokevirtual 1047, 3) := zdec_at bX8_join_0 6 rfl
theorem dX8_join_11 : decode cX8_join 11 = .ok (.istore 4, 2) := zdec_at bX8_join_0 7 rfl
theorem dX8_join_13 : decode cX8_join 13 = .ok (.iload_n 3, 1) := zdec_at bX8_join_0 8 rfl
theorem dX8_join_14 : decode cX8_join 14 = .ok (.iload 4, 2) := zdec_at bX8_join_0 9 rfl
theorem dX8_join_16 : decode cX8_join 16 = .ok (.ior, 1) := zdec_at bX8_join_0 10 rfl
theorem dX8_join_17 : decode cX8_join 17 = .ok (.istore 5, 2) := zdec_at bX8_join_0 11 rfl
theorem dX8_join_19 : decode cX8_join 19 = .ok (.iload_n 3, 1) := zdec_at bX8_join_0 12 rfl
theorem dX8_join_20 : decode cX8_join 20 = .ok (.iload 4, 2) := zdec_at bX8_join_0 13 rfl
theorem dX8_join_22 : decode cX8_join 22 = .ok (.iand, 1) := zdec_at bX8_join_0 14 rfl
theorem dX8_join_23 : decode cX8_join 23 = .ok (.bipush 32, 2) := zdec_at bX8_join_0 15 rfl
theorem bX8_join_25 : zdec cX8_join 25 [(25, .iand, 1), (26, .ifCond .eq 23, 3), (29, .aload_n 0, 1), (30, .iload_n 2, 1), (31, .invokevirtual 1050, 3), (34, .aload_n 0, 1), (35, .iload_n 1, 1), (36, .invokevirtual 1050, 3), (39, .if_icmp .eq 10, 3), (42, .iload 5, 2), (44, .bipush 64, 2), (46, .ior, 1), (47, .istore 5, 2), (49, .iload_n 3, 1), (50, .iload 4, 2), (52, .iand, 1)] = true := by decide +kernel
theorem dX8_join_25 : decode cX8_join 25 = .ok (.iand, 1) := zdec_at bX8_join_25 0 rfl
theorem dX8_join_26 : decode cX8_join 26 = .ok (.ifCond .eq 23, 3) := zdec_at bX8_join_25 1 rfl
theorem dX8_join_29 : decode cX8_join 29 = .ok (.aload_n 0, 1) := zdec_at bX8_join_25 2 rfl
theorem dX8_join_30 : decode cX8_join 30 = .ok (.iload_n 2, 1) := zdec_at bX8_join_25 3 rfl
theorem dX8_join_31 : decode cX8_join 31 = .ok (.invokevirtual 1050, 3) := zdec_at bX8_join_25 4 rfl
theorem dX8_join_34 : decode cX8_join 34 = .ok (.aload_n 0, 1) := zdec_at bX8_join_25 5 rfl
theorem dX8_join_35 : decode cX8_join 35 = .ok (.iload_n 1, 1) := zdec_at bX8_join_25 6 rfl
theorem dX8_join_36 : decode cX8_join 36 = .ok (.invokevirtual 1050, 3) := zdec_at bX8_join_25 7 rfl
theorem dX8_join_39 : decode cX8_join 39 = .ok (.if_icmp .eq 10, 3) := zdec_at bX8_join_25 8 rfl
theorem dX8_join_42 : decode cX8_join 42 = .ok (.iload 5, 2) := zdec_at bX8_join_25 9 rfl
theorem dX8_join_44 : decode cX8_join 44 = .ok (.bipush 64, 2) := zdec_at bX8_join_25 10 rfl
theorem dX8_join_46 : decode cX8_join 46 = .ok (.ior, 1) := zdec_at bX8_join_25 11 rfl
theorem dX8_join_47 : decode cX8_join 47 = .ok (.istore 5, 2) := zdec_at bX8_join_25 12 rfl
theorem dX8_join_49 : decode cX8_join 49 = .ok (.iload_n 3, 1) := zdec_at bX8_join_25 13 rfl
theorem dX8_join_50 : decode cX8_join 50 = .ok (.iload 4, 2) := zdec_at bX8_join_25 14 rfl
theorem dX8_join_52 : decode cX8_join 52 = .ok (.iand, 1) := zdec_at bX8_join_25 15 rfl
theorem bX8_join_53 : zdec cX8_join 53 [(53, .sipush 128, 3), (56, .iand, 1), (57, .ifCond .eq 24, 3), (60, .aload_n 0, 1), (61, .iload_n 2, 1), (62, .invokevirtual 1053, 3), (65, .aload_n 0, 1), (66, .iload_n 1, 1), (67, .invokevirtual 1053, 3), (70, .if_icmp .eq 11, 3), (73, .iload 5, 2), (75, .sipush 256, 3), (78, .ior, 1), (79, .istore 5, 2), (81, .iload 5, 2), (83, .bipush 64, 2)] = true := by decide +kernel
theorem dX8_join_53 : decode cX8_join 53 = .ok (.sipush 128, 3) := zdec_at bX8_join_53 0 rfl
theorem dX8_join_56 : decode cX8_join 56 = .ok (.iand, 1) := zdec_at bX8_join_53 1 rfl
theorem dX8_join_57 : decode cX8_join 57 = .ok (.ifCond .eq 24, 3) := zdec_at bX8_join_53 2 rfl
theorem dX8_join_60 : decode cX8_join 60 = .ok (.aload_n 0, 1) := zdec_at bX8_join_53 3 rfl
theorem dX8_join_61 : decode cX8_join 61 = .ok (.iload_n 2, 1) := zdec_at bX8_join_53 4 rfl
theorem dX8_join_62 : decode cX8_join 62 = .ok (.invokevirtual 1053, 3) := zdec_at bX8_join_53 5 rfl
theorem dX8_join_65 : decode cX8_join 65 = .ok (.aload_n 0, 1) := zdec_at bX8_join_53 6 rfl
theorem dX8_join_66 : decode cX8_join 66 = .ok (.iload_n 1, 1) := zdec_at bX8_join_53 7 rfl
theorem dX8_join_67 : decode cX8_join 67 = .ok (.invokevirtual 1053, 3) := zdec_at bX8_join_53 8 rfl
theorem dX8_join_70 : decode cX8_join 70 = .ok (.if_icmp .eq 11, 3) := zdec_at bX8_join_53 9 rfl
theorem dX8_join_73 : decode cX8_join 73 = .ok (.iload 5, 2) := zdec_at bX8_join_53 10 rfl
theorem dX8_join_75 : decode cX8_join 75 = .ok (.sipush 256, 3) := zdec_at bX8_join_53 11 rfl
theorem dX8_join_78 : decode cX8_join 78 = .ok (.ior, 1) := zdec_at bX8_join_53 12 rfl
theorem dX8_join_79 : decode cX8_join 79 = .ok (.istore 5, 2) := zdec_at bX8_join_53 13 rfl
theorem dX8_join_81 : decode cX8_join 81 = .ok (.iload 5, 2) := zdec_at bX8_join_53 14 rfl
theorem dX8_join_83 : decode cX8_join 83 = .ok (.bipush 64, 2) := zdec_at bX8_join_53 15 rfl
theorem bX8_join_85 : zdec cX8_join 85 [(85, .iand, 1), (86, .ifCond .eq 10, 3), (89, .iload 5, 2), (91, .bipush (-33), 2), (93, .iand, 1), (94, .istore 5, 2), (96, .iload 5, 2), (98, .sipush 256, 3), (101, .iand, 1), (102, .ifCond .eq 11, 3), (105, .iload 5, 2), (107, .sipush (-129), 3), (110, .iand, 1), (111, .istore 5, 2), (113, .iload 5, 2), (115, .bipush 32, 2)] = true := by decide +kernel
theorem dX8_join_85 : decode cX8_join 85 = .ok (.iand, 1) := zdec_at bX8_join_85 0 rfl
theorem dX8_join_86 : decode cX8_join 86 = .ok (.ifCond .eq 10, 3) := zdec_at bX8_join_85 1 rfl
theorem dX8_join_89 : decode cX8_join 89 = .ok (.iload 5, 2) := zdec_at bX8_join_85 2 rfl
theorem dX8_join_91 : decode cX8_join 91 = .ok (.bipush (-33), 2) := zdec_at bX8_join_85 3 rfl
theorem dX8_join_93 : decode cX8_join 93 = .ok (.iand, 1) := zdec_at bX8_join_85 4 rfl
theorem dX8_join_94 : decode cX8_join 94 = .ok (.istore 5, 2) := zdec_at bX8_join_85 5 rfl
theorem dX8_join_96 : decode cX8_join 96 = .ok (.iload 5, 2) := zdec_at bX8_join_85 6 rfl
theorem dX8_join_98 : decode cX8_join 98 = .ok (.sipush 256, 3) := zdec_at bX8_join_85 7 rfl
theorem dX8_join_101 : decode cX8_join 101 = .ok (.iand, 1) := zdec_at bX8_join_85 8 rfl
theorem dX8_join_102 : decode cX8_join 102 = .ok (.ifCond .eq 11, 3) := zdec_at bX8_join_85 9 rfl
theorem dX8_join_105 : decode cX8_join 105 = .ok (.iload 5, 2) := zdec_at bX8_join_85 10 rfl
theorem dX8_join_107 : decode cX8_join 107 = .ok (.sipush (-129), 3) := zdec_at bX8_join_85 11 rfl
theorem dX8_join_110 : decode cX8_join 110 = .ok (.iand, 1) := zdec_at bX8_join_85 12 rfl
theorem dX8_join_111 : decode cX8_join 111 = .ok (.istore 5, 2) := zdec_at bX8_join_85 13 rfl
theorem dX8_join_113 : decode cX8_join 113 = .ok (.iload 5, 2) := zdec_at bX8_join_85 14 rfl
theorem dX8_join_115 : decode cX8_join 115 = .ok (.bipush 32, 2) := zdec_at bX8_join_85 15 rfl
theorem bX8_join_117 : zdec cX8_join 117 [(117, .iand, 1), (118, .ifCond .ne 7, 3), (121, .iconst 0, 1), (122, .goto 23, 3), (125, .iload_n 3, 1), (126, .bipush 32, 2), (128, .iand, 1), (129, .ifCond .eq 11, 3), (132, .aload_n 0, 1), (133, .iload_n 2, 1), (134, .invokevirtual 1050, 3), (137, .goto 8, 3), (140, .aload_n 0, 1), (141, .iload_n 1, 1), (142, .invokevirtual 1050, 3), (145, .istore 6, 2)] = true := by decide +kernel
theorem dX8_join_117 : decode cX8_join 117 = .ok (.iand, 1) := zdec_at bX8_join_117 0 rfl
theorem dX8_join_118 : decode cX8_join 118 = .ok (.ifCond .ne 7, 3) := zdec_at bX8_join_117 1 rfl
theorem dX8_join_121 : decode cX8_join 121 = .ok (.iconst 0, 1) := zdec_at bX8_join_117 2 rfl
theorem dX8_join_122 : decode cX8_join 122 = .ok (.goto 23, 3) := zdec_at bX8_join_117 3 rfl
theorem dX8_join_125 : decode cX8_join 125 = .ok (.iload_n 3, 1) := zdec_at bX8_join_117 4 rfl
theorem dX8_join_126 : decode cX8_join 126 = .ok (.bipush 32, 2) := zdec_at bX8_join_117 5 rfl
theorem dX8_join_128 : decode cX8_join 128 = .ok (.iand, 1) := zdec_at bX8_join_117 6 rfl
theorem dX8_join_129 : decode cX8_join 129 = .ok (.ifCond .eq 11, 3) := zdec_at bX8_join_117 7 rfl
theorem dX8_join_132 : decode cX8_join 132 = .ok (.aload_n 0, 1) := zdec_at bX8_join_117 8 rfl
theorem dX8_join_133 : decode cX8_join 133 = .ok (.iload_n 2, 1) := zdec_at bX8_join_117 9 rfl
theorem dX8_join_134 : decode cX8_join 134 = .ok (.invokevirtual 1050, 3) := zdec_at bX8_join_117 10 rfl
theorem dX8_join_137 : decode cX8_join 137 = .ok (.goto 8, 3) := zdec_at bX8_join_117 11 rfl
theorem dX8_join_140 : decode cX8_join 140 = .ok (.aload_n 0, 1) := zdec_at bX8_join_117 12 rfl
theorem dX8_join_141 : decode cX8_join 141 = .ok (.iload_n 1, 1) := zdec_at bX8_join_117 13 rfl
theorem dX8_join_142 : decode cX8_join 142 = .ok (.invokevirtual 1050, 3) := zdec_at bX8_join_117 14 rfl
theorem dX8_join_145 : decode cX8_join 145 = .ok (.istore 6, 2) := zdec_at bX8_join_117 15 rfl
theorem bX8_join_147 : zdec cX8_join 147 [(147, .iload 5, 2), (149, .sipush 128, 3), (152, .iand, 1), (153, .ifCond .ne 7, 3), (156, .iconst 0, 1), (157, .goto 24, 3), (160, .iload_n 3, 1), (161, .sipush 128, 3), (164, .iand, 1), (165, .ifCond .eq 11, 3), (168, .aload_n 0, 1), (169, .iload_n 2, 1), (170, .invokevirtual 1053, 3), (173, .goto 8, 3), (176, .aload_n 0, 1), (177, .iload_n 1, 1)] = true := by decide +kernel
theorem dX8_join_147 : decode cX8_join 147 = .ok (.iload 5, 2) := zdec_at bX8_join_147 0 rfl
theorem dX8_join_149 : decode cX8_join 149 = .ok (.sipush 128, 3) := zdec_at bX8_join_147 1 rfl
theorem dX8_join_152 : decode cX8_join 152 = .ok (.iand, 1) := zdec_at bX8_join_147 2 rfl
theorem dX8_join_153 : decode cX8_join 153 = .ok (.ifCond .ne 7, 3) := zdec_at bX8_join_147 3 rfl
theorem dX8_join_156 : decode cX8_join 156 = .ok (.iconst 0, 1) := zdec_at bX8_join_147 4 rfl
theorem dX8_join_157 : decode cX8_join 157 = .ok (.goto 24, 3) := zdec_at bX8_join_147 5 rfl
theorem dX8_join_160 : decode cX8_join 160 = .ok (.iload_n 3, 1) := zdec_at bX8_join_147 6 rfl
theorem dX8_join_161 : decode cX8_join 161 = .ok (.sipush 128, 3) := zdec_at bX8_join_147 7 rfl
theorem dX8_join_164 : decode cX8_join 164 = .ok (.iand, 1) := zdec_at bX8_join_147 8 rfl
theorem dX8_join_165 : decode cX8_join 165 = .ok (.ifCond .eq 11, 3) := zdec_at bX8_join_147 9 rfl
theorem dX8_join_168 : decode cX8_join 168 = .ok (.aload_n 0, 1) := zdec_at bX8_join_147 10 rfl
theorem dX8_join_169 : decode cX8_join 169 = .ok (.iload_n 2, 1) := zdec_at bX8_join_147 11 rfl
theorem dX8_join_170 : decode cX8_join 170 = .ok (.invokevirtual 1053, 3) := zdec_at bX8_join_147 12 rfl
theorem dX8_join_173 : decode cX8_join 173 = .ok (.goto 8, 3) := zdec_at bX8_join_147 13 rfl
theorem dX8_join_176 : decode cX8_join 176 = .ok (.aload_n 0, 1) := zdec_at bX8_join_147 14 rfl
theorem dX8_join_177 : decode cX8_join 177 = .ok (.iload_n 1, 1) := zdec_at bX8_join_147 15 rfl
theorem bX8_join_178 : zdec cX8_join 178 [(178, .invokevirtual 1053, 3), (181, .istore 7, 2), (183, .aload_n 0, 1), (184, .getfield 220, 3), (187, .iload_n 2, 1), (188, .laload, 1), (189, .aload_n 0, 1), (190, .getfield 220, 3), (193, .iload_n 1, 1), (194, .laload, 1), (195, .lor, 1), (196, .lstore 8, 2), (198, .aload_n 0, 1), (199, .getfield 223, 3), (202, .iload_n 2, 1), (203, .laload, 1)] = true := by decide +kernel
theorem dX8_join_178 : decode cX8_join 178 = .ok (.invokevirtual 1053, 3) := zdec_at bX8_join_178 0 rfl
theorem dX8_join_181 : decode cX8_join 181 = .ok (.istore 7, 2) := zdec_at bX8_join_178 1 rfl
theorem dX8_join_183 : decode cX8_join 183 = .ok (.aload_n 0, 1) := zdec_at bX8_join_178 2 rfl
theorem dX8_join_184 : decode cX8_join 184 = .ok (.getfield 220, 3) := zdec_at bX8_join_178 3 rfl
theorem dX8_join_187 : decode cX8_join 187 = .ok (.iload_n 2, 1) := zdec_at bX8_join_178 4 rfl
theorem dX8_join_188 : decode cX8_join 188 = .ok (.laload, 1) := zdec_at bX8_join_178 5 rfl
theorem dX8_join_189 : decode cX8_join 189 = .ok (.aload_n 0, 1) := zdec_at bX8_join_178 6 rfl
theorem dX8_join_190 : decode cX8_join 190 = .ok (.getfield 220, 3) := zdec_at bX8_join_178 7 rfl
theorem dX8_join_193 : decode cX8_join 193 = .ok (.iload_n 1, 1) := zdec_at bX8_join_178 8 rfl
theorem dX8_join_194 : decode cX8_join 194 = .ok (.laload, 1) := zdec_at bX8_join_178 9 rfl
theorem dX8_join_195 : decode cX8_join 195 = .ok (.lor, 1) := zdec_at bX8_join_178 10 rfl
theorem dX8_join_196 : decode cX8_join 196 = .ok (.lstore 8, 2) := zdec_at bX8_join_178 11 rfl
theorem dX8_join_198 : decode cX8_join 198 = .ok (.aload_n 0, 1) := zdec_at bX8_join_178 12 rfl
theorem dX8_join_199 : decode cX8_join 199 = .ok (.getfield 223, 3) := zdec_at bX8_join_178 13 rfl
theorem dX8_join_202 : decode cX8_join 202 = .ok (.iload_n 2, 1) := zdec_at bX8_join_178 14 rfl
theorem dX8_join_203 : decode cX8_join 203 = .ok (.laload, 1) := zdec_at bX8_join_178 15 rfl
theorem bX8_join_204 : zdec cX8_join 204 [(204, .aload_n 0, 1), (205, .getfield 223, 3), (208, .iload_n 1, 1), (209, .laload, 1), (210, .lor, 1), (211, .lstore 10, 2), (213, .iload 5, 2), (215, .iload_n 3, 1), (216, .if_icmp .ne 27, 3), (219, .lload 8, 2), (221, .aload_n 0, 1), (222, .getfield 220, 3), (225, .iload_n 2, 1), (226, .laload, 1), (227, .lcmp, 1), (228, .ifCond .ne 15, 3)] = true := by decide +kernel
theorem dX8_join_204 : decode cX8_join 204 = .ok (.aload_n 0, 1) := zdec_at bX8_join_204 0 rfl
theorem dX8_join_205 : decode cX8_join 205 = .ok (.getfield 223, 3) := zdec_at bX8_join_204 1 rfl
theorem dX8_join_208 : decode cX8_join 208 = .ok (.iload_n 1, 1) := zdec_at bX8_join_204 2 rfl
theorem dX8_join_209 : decode cX8_join 209 = .ok (.laload, 1) := zdec_at bX8_join_204 3 rfl
theorem dX8_join_210 : decode cX8_join 210 = .ok (.lor, 1) := zdec_at bX8_join_204 4 rfl
theorem dX8_join_211 : decode cX8_join 211 = .ok (.lstore 10, 2) := zdec_at bX8_join_204 5 rfl
theorem dX8_join_213 : decode cX8_join 213 = .ok (.iload 5, 2) := zdec_at bX8_join_204 6 rfl
theorem dX8_join_215 : decode cX8_join 215 = .ok (.iload_n 3, 1) := zdec_at bX8_join_204 7 rfl
theorem dX8_join_216 : decode cX8_join 216 = .ok (.if_icmp .ne 27, 3) := zdec_at bX8_join_204 8 rfl
theorem dX8_join_219 : decode cX8_join 219 = .ok (.lload 8, 2) := zdec_at bX8_join_204 9 rfl
theorem dX8_join_221 : decode cX8_join 221 = .ok (.aload_n 0, 1) := zdec_at bX8_join_204 10 rfl
theorem dX8_join_222 : decode cX8_join 222 = .ok (.getfield 220, 3) := zdec_at bX8_join_204 11 rfl
theorem dX8_join_225 : decode cX8_join 225 = .ok (.iload_n 2, 1) := zdec_at bX8_join_204 12 rfl
theorem dX8_join_226 : decode cX8_join 226 = .ok (.laload, 1) := zdec_at bX8_join_204 13 rfl
theorem dX8_join_227 : decode cX8_join 227 = .ok (.lcmp, 1) := zdec_at bX8_join_204 14 rfl
theorem dX8_join_228 : decode cX8_join 228 = .ok (.ifCond .ne 15, 3) := zdec_at bX8_join_204 15 rfl
theorem bX8_join_231 : zdec cX8_join 231 [(231, .lload 10, 2), (233, .aload_n 0, 1), (234, .getfield 223, 3), (237, .iload_n 2, 1), (238, .laload, 1), (239, .lcmp, 1), (240, .ifCond .eq 7, 3), (243, .iconst 1, 1), (244, .goto 4, 3), (247, .iconst 0, 1), (248, .istore 12, 2), (250, .aload_n 0, 1), (251, .iload_n 2, 1), (252, .iload 5, 2), (254, .iload 7, 2), (256, .iload 6, 2)] = true := by decide +kernel
theorem dX8_join_231 : decode cX8_join 231 = .ok (.lload 10, 2) := zdec_at bX8_join_231 0 rfl
theorem dX8_join_233 : decode cX8_join 233 = .ok (.aload_n 0, 1) := zdec_at bX8_join_231 1 rfl
theorem dX8_join_234 : decode cX8_join 234 = .ok (.getfield 223, 3) := zdec_at bX8_join_231 2 rfl
theorem dX8_join_237 : decode cX8_join 237 = .ok (.iload_n 2, 1) := zdec_at bX8_join_231 3 rfl
theorem dX8_join_238 : decode cX8_join 238 = .ok (.laload, 1) := zdec_at bX8_join_231 4 rfl
theorem dX8_join_239 : decode cX8_join 239 = .ok (.lcmp, 1) := zdec_at bX8_join_231 5 rfl
theorem dX8_join_240 : decode cX8_join 240 = .ok (.ifCond .eq 7, 3) := zdec_at bX8_join_231 6 rfl
theorem dX8_join_243 : decode cX8_join 243 = .ok (.iconst 1, 1) := zdec_at bX8_join_231 7 rfl
theorem dX8_join_244 : decode cX8_join 244 = .ok (.goto 4, 3) := zdec_at bX8_join_231 8 rfl
theorem dX8_join_247 : decode cX8_join 247 = .ok (.iconst 0, 1) := zdec_at bX8_join_231 9 rfl
theorem dX8_join_248 : decode cX8_join 248 = .ok (.istore 12, 2) := zdec_at bX8_join_231 10 rfl
theorem dX8_join_250 : decode cX8_join 250 = .ok (.aload_n 0, 1) := zdec_at bX8_join_231 11 rfl
theorem dX8_join_251 : decode cX8_join 251 = .ok (.iload_n 2, 1) := zdec_at bX8_join_231 12 rfl
theorem dX8_join_252 : decode cX8_join 252 = .ok (.iload 5, 2) := zdec_at bX8_join_231 13 rfl
theorem dX8_join_254 : decode cX8_join 254 = .ok (.iload 7, 2) := zdec_at bX8_join_231 14 rfl
theorem dX8_join_256 : decode cX8_join 256 = .ok (.iload 6, 2) := zdec_at bX8_join_231 15 rfl
theorem bX8_join_258 : zdec cX8_join 258 [(258, .invokevirtual 1056, 3), (261, .aload_n 0, 1), (262, .getfield 220, 3), (265, .iload_n 2, 1), (266, .lload 8, 2), (268, .lastore, 1), (269, .aload_n 0, 1), (270, .getfield 223, 3), (273, .iload_n 2, 1), (274, .lload 10, 2), (276, .lastore, 1), (277, .iload 12, 2), (279, .ireturn, 1)] = true := by decide +kernel
theorem dX8_join_258 : decode cX8_join 258 = .ok (.invokevirtual 1056, 3) := zdec_at bX8_join_258 0 rfl
theorem dX8_join_261 : decode cX8_join 261 = .ok (.aload_n 0, 1) := zdec_at bX8_join_258 1 rfl
theorem dX8_join_262 : decode cX8_join 262 = .ok (.getfield 220, 3) := zdec_at bX8_join_258 2 rfl
theorem dX8_join_265 : decode cX8_join 265 = .ok (.iload_n 2, 1) := zdec_at bX8_join_258 3 rfl
theorem dX8_join_266 : decode cX8_join 266 = .ok (.lload 8, 2) := zdec_at bX8_join_258 4 rfl
theorem dX8_join_268 : decode cX8_join 268 = .ok (.lastore, 1) := zdec_at bX8_join_258 5 rfl
theorem dX8_join_269 : decode cX8_join 269 = .ok (.aload_n 0, 1) := zdec_at bX8_join_258 6 rfl
theorem dX8_join_270 : decode cX8_join 270 = .ok (.getfield 223, 3) := zdec_at bX8_join_258 7 rfl
theorem dX8_join_273 : decode cX8_join 273 = .ok (.iload_n 2, 1) := zdec_at bX8_join_258 8 rfl
theorem dX8_join_274 : decode cX8_join 274 = .ok (.lload 10, 2) := zdec_at bX8_join_258 9 rfl
theorem dX8_join_276 : decode cX8_join 276 = .ok (.lastore, 1) := zdec_at bX8_join_258 10 rfl
theorem dX8_join_277 : decode cX8_join 277 = .ok (.iload 12, 2) := zdec_at bX8_join_258 11 rfl
theorem dX8_join_279 : decode cX8_join 279 = .ok (.ireturn, 1) := zdec_at bX8_join_258 12 rfl
theorem sX8_join_0 {E : zE} {d : Nat} {Q : zO → zM → Prop} (M : zM) (l1 : Int32) (l2 : Int32) (k : Zm E YX8_has d M (zargs 0 [vr (some (97, 1, 0)), vi l2]) 0 [] (zma E YX8_join (d + 1) [(0, vr (some (97, 1, 0))), (1, vi l1), (2, vi l2)] 2 3 [] Q)) : Zm E YX8_join (d + 1) M [(0, vr (some (97, 1, 0))), (1, vi l1), (2, vi l2)] 0 [] Q := by
  refine Zm.l (fun _ _ k_ => z_aload_n dX8_join_0 rfl rfl k_) ?_
  refine Zm.l (fun _ _ k_ => z_iload_n dX8_join_1 rfl rfl k_) ?_
  exact zm_callV (as := [vi l2]) (st := []) dX8_join_2 vsX8_1047_1 (Nat.le_refl _) (Nat.le_of_ble_eq_true rfl) (Nat.le_of_ble_eq_true rfl) rfl k
theorem sX8_join_5 {E : zE} {d : Nat} {Q : zO → zM → Prop} (M : zM) (l1 : Int32) (l2 : Int32) (s0 : Int32) (k : Zm E YX8_has d M (zargs 0 [vr (some (97, 1, 0)), vi l1]) 0 [] (zma E YX8_join (d + 1) [(0, vr (some (97, 1, 0))), (1, vi l1), (2, vi l2), (3, vi s0)] 8 3 [] Q)) : Zm E YX8_join (d + 1) M [(0, vr (some (97, 1, 0))), (1, vi l1), (2, vi l2)] 5 [vi s0] Q := by
  refine Zm.l (fun _ _ k_ => z_ist_n dX8_join_5 rfl (by decide) (lv' := [(0, vr (some (97, 1, 0))), (1, vi l1), (2, vi l2), (3, vi s0)]) rfl k_) ?_
  refine Zm.l (fun _ _ k_ => z_aload_n dX8_join_6 rfl rfl k_) ?_
  refine Zm.l (fun _ _ k_ => z_iload_n dX8_join_7 rfl rfl k_) ?_
  exact zm_callV (as := [vi l1]) (st := []) dX8_join_8 vsX8_1047_1 (Nat.le_refl _) (Nat.le_of_ble_eq_true rfl) (Nat.le_of_ble_eq_true rfl) rfl k
theorem sX8_join_11 {E : zE} {d : Nat} {Q : zO → zM → Prop} (M : zM) (l1 : Int32) (l2 : Int32) (l3 : Int32) (s0 : Int32) (k : if ((l3 &&& s0) &&& (32 : Int32)) = 0 then (Zm E YX8_join (d + 1) M [(0, vr (some (97, 1, 0))), (1, vi l1), (2, vi l2), (3, vi l3), (4, vi s0), (5, vi (l3 ||| s0))] 49 [] Q) else (Zm E YX8_number d M (zargs 0 [vr (some (97, 1, 0)), vi l2]) 0 [] (zma E YX8_join (d + 1) [(0, vr (some (97, 1, 0))), (1, vi l1), (2, vi l2), (3, vi l3), (4, vi s0), (5, vi (l3 ||| s0))] 31 3 [] Q))) : Zm E YX8_join (d + 1) M [(0, vr (some (97, 1, 0))), (1, vi l1), (2, vi l2), (3, vi l3)] 11 [vi s0] Q := by
  refine Zm.l (fun _ _ k_ => z_ist dX8_join_11 (by decide) (lv' := [(0, vr (some (97, 1, 0))), (1, vi l1), (2, vi l2), (3, vi l3), (4, vi s0)]) rfl k_) ?_
  refine Zm.l (fun _ _ k_ => z_iload_n dX8_join_13 rfl rfl k_) ?_
  refine Zm.l (fun _ _ k_ => z_iload dX8_join_14 rfl k_) ?_
  refine Zm.l (fun _ _ k_ => z_ior dX8_join_16 k_) ?_
  refine Zm.l (fun _ _ k_ => z_ist dX8_join_17 (by decide) (lv' := [(0, vr (some (97, 1, 0))), (1, vi l1), (2, vi l2), (3, vi l3), (4, vi s0), (5, vi (l3 ||| s0))]) rfl k_) ?_
  refine Zm.l (fun _ _ k_ => z_iload_n dX8_join_19 rfl rfl k_) ?_
  refine Zm.l (fun _ _ k_ => z_iload dX8_join_20 rfl k_) ?_
  refine Zm.l (fun _ _ k_ => z_iand dX8_join_22 k_) ?_
  refine Zm.l (fun _ _ k_ => z_bipush (v := 32) dX8_join_23 rfl k_) ?_
  refine Zm.l (fun _ _ k_ => z_iand dX8_join_25 k_) ?_
  refine Zm.br (fun _ _ k1_ k2_ => z_if_eq (tgt := 49) dX8_join_26 rfl k1_ k2_) (fun h_ => ?_) (fun h_ => ?_)
  · have k := zit h_ k
    exact k
  · have k := zif h_ k
    refine Zm.l (fun _ _ k_ => z_aload_n dX8_join_29 rfl rfl k_) ?_
    refine Zm.l (fun _ _ k_ => z_iload_n dX8_join_30 rfl rfl k_) ?_
    exact zm_callV (as := [vi l2]) (st := []) dX8_join_31 vsX8_1050_1 (Nat.le_refl _) (Nat.le_of_ble_eq_true rfl) (Nat.le_of_ble_eq_true rfl) rfl k
theorem sX8_join_34 {E : zE} {d : Nat} {Q : zO → zM → Prop} (M : zM) (l1 : Int32) (l2 : Int32) (l3 : Int32) (l4 : Int32) (l5 : Int32) (s0 : Int32) (k : Zm E YX8_number d M (zargs 0 [vr (some (97, 1, 0)), vi l1]) 0 [] (zma E YX8_join (d + 1) [(0, vr (some (97, 1, 0))), (1, vi l1), (2, vi l2), (3, vi l3), (4, vi l4), (5, vi l5)] 36 3 [vi s0] Q)) : Zm E YX8_join (d + 1) M [(0, vr (some (97, 1, 0))), (1, vi l1), (2, vi l2), (3, vi l3), (4, vi l4), (5, vi l5)] 34 [vi s0] Q := by
  refine Zm.l (fun _ _ k_ => z_aload_n dX8_join_34 rfl rfl k_) ?_
  refine Zm.l (fun _ _ k_ => z_iload_n dX8_join_35 rfl rfl k_) ?_
  exact zm_callV (as := [vi l1]) (st := [vi s0]) dX8_join_36 vsX8_1050_1 (Nat.le_refl _) (Nat.le_of_ble_eq_true rfl) (Nat.le_of_ble_eq_true rfl) rfl k
theorem sX8_join_39 {E : zE} {d : Nat} {Q : zO → zM → Prop} (M : zM) (l1 : Int32) (l2 : Int32) (l3 : Int32) (l4 : Int32) (l5 : Int32) (s0 : Int32) (s1 : Int32) (k : if s1 = s0 then (Zm E YX8_join (d + 1) M [(0, vr (some (97, 1, 0))), (1, vi l1), (2, vi l2), (3, vi l3), (4, vi l4), (5, vi l5)] 49 [] Q) else (Zm E YX8_join (d + 1) M [(0, vr (some (97, 1, 0))), (1, vi l1), (2, vi l2), (3, vi l3), (4, vi l4), (5, vi (l5 ||| (64 : Int32)))] 49 [] Q)) : Zm E YX8_join (d + 1) M [(0, vr (some (97, 1, 0))), (1, vi l1), (2, vi l2), (3, vi l3), (4, vi l4), (5, vi l5)] 39 [vi s0, vi s1] Q := by
  refine Zm.br (fun _ _ k1_ k2_ => z_icmp_eq (tgt := 49) dX8_join_39 rfl k1_ k2_) (fun h_ => ?_) (fun h_ => ?_)
  · have k := zit h_ k
    exact k
  · have k := zif h_ k
    refine Zm.l (fun _ _ k_ => z_iload dX8_join_42 rfl k_) ?_
    refine Zm.l (fun _ _ k_ => z_bipush (v := 64) dX8_join_44 rfl k_) ?_
    refine Zm.l (fun _ _ k_ => z_ior dX8_join_46 k_) ?_
    refine Zm.l (fun _ _ k_ => z_ist dX8_join_47 (by decide) (lv' := [(0, vr (some (97, 1, 0))), (1, vi l1), (2, vi l2), (3, vi l3), (4, vi l4), (5, vi (l5 ||| (64 : Int32)))]) rfl k_) ?_
    exact k
theorem sX8_join_49 {E : zE} {d : Nat} {Q : zO → zM → Prop} (M : zM) (l1 : Int32) (l2 : Int32) (l3 : Int32) (l4 : Int32) (l5 : Int32) (k : if ((l3 &&& l4) &&& (128 : Int32)) = 0 then (Zm E YX8_join (d + 1) M [(0, vr (some (97, 1, 0))), (1, vi l1), (2, vi l2), (3, vi l3), (5, vi l5)] 81 [] Q) else (Zm E YX8_name d M (zargs 0 [vr (some (97, 1, 0)), vi l2]) 0 [] (zma E YX8_join (d + 1) [(0, vr (some (97, 1, 0))), (1, vi l1), (2, vi l2), (3, vi l3), (5, vi l5)] 62 3 [] Q))) : Zm E YX8_join (d + 1) M [(0, vr (some (97, 1, 0))), (1, vi l1), (2, vi l2), (3, vi l3), (4, vi l4), (5, vi l5)] 49 [] Q := by
  refine Zm.l (fun _ _ k_ => z_iload_n dX8_join_49 rfl rfl k_) ?_
  refine Zm.l (fun _ _ k_ => z_iload dX8_join_50 rfl k_) ?_
  refine Zm.l (fun _ _ k_ => z_iand dX8_join_52 k_) ?_
  refine Zm.l (fun _ _ k_ => z_sipush (v := 128) dX8_join_53 rfl k_) ?_
  refine Zm.l (fun _ _ k_ => z_iand dX8_join_56 k_) ?_
  refine Zm.br (fun _ _ k1_ k2_ => z_if_eq (tgt := 81) dX8_join_57 rfl k1_ k2_) (fun h_ => ?_) (fun h_ => ?_)
  · have k := zit h_ k
    refine Zm.pick [0, 1, 2, 3, 5] rfl ?_
    exact k
  · have k := zif h_ k
    refine Zm.l (fun _ _ k_ => z_aload_n dX8_join_60 rfl rfl k_) ?_
    refine Zm.l (fun _ _ k_ => z_iload_n dX8_join_61 rfl rfl k_) ?_
    refine Zm.pick [0, 1, 2, 3, 5] rfl ?_
    exact zm_callV (as := [vi l2]) (st := []) dX8_join_62 vsX8_1053_1 (Nat.le_refl _) (Nat.le_of_ble_eq_true rfl) (Nat.le_of_ble_eq_true rfl) rfl k
theorem sX8_join_65 {E : zE} {d : Nat} {Q : zO → zM → Prop} (M : zM) (l1 : Int32) (l2 : Int32) (l3 : Int32) (l5 : Int32) (s0 : Int32) (k : Zm E YX8_name d M (zargs 0 [vr (some (97, 1, 0)), vi l1]) 0 [] (zma E YX8_join (d + 1) [(0, vr (some (97, 1, 0))), (1, vi l1), (2, vi l2), (3, vi l3), (5, vi l5)] 67 3 [vi s0] Q)) : Zm E YX8_join (d + 1) M [(0, vr (some (97, 1, 0))), (1, vi l1), (2, vi l2), (3, vi l3), (5, vi l5)] 65 [vi s0] Q := by
  refine Zm.l (fun _ _ k_ => z_aload_n dX8_join_65 rfl rfl k_) ?_
  refine Zm.l (fun _ _ k_ => z_iload_n dX8_join_66 rfl rfl k_) ?_
  exact zm_callV (as := [vi l1]) (st := [vi s0]) dX8_join_67 vsX8_1053_1 (Nat.le_refl _) (Nat.le_of_ble_eq_true rfl) (Nat.le_of_ble_eq_true rfl) rfl k
theorem sX8_join_70 {E : zE} {d : Nat} {Q : zO → zM → Prop} (M : zM) (l1 : Int32) (l2 : Int32) (l3 : Int32) (l5 : Int32) (s0 : Int32) (s1 : Int32) (k : if s1 = s0 then (Zm E YX8_join (d + 1) M [(0, vr (some (97, 1, 0))), (1, vi l1), (2, vi l2), (3, vi l3), (5, vi l5)] 81 [] Q) else (Zm E YX8_join (d + 1) M [(0, vr (some (97, 1, 0))), (1, vi l1), (2, vi l2), (3, vi l3), (5, vi (l5 ||| (256 : Int32)))] 81 [] Q)) : Zm E YX8_join (d + 1) M [(0, vr (some (97, 1, 0))), (1, vi l1), (2, vi l2), (3, vi l3), (5, vi l5)] 70 [vi s0, vi s1] Q := by
  refine Zm.br (fun _ _ k1_ k2_ => z_icmp_eq (tgt := 81) dX8_join_70 rfl k1_ k2_) (fun h_ => ?_) (fun h_ => ?_)
  · have k := zit h_ k
    exact k
  · have k := zif h_ k
    refine Zm.l (fun _ _ k_ => z_iload dX8_join_73 rfl k_) ?_
    refine Zm.l (fun _ _ k_ => z_sipush (v := 256) dX8_join_75 rfl k_) ?_
    refine Zm.l (fun _ _ k_ => z_ior dX8_join_78 k_) ?_
    refine Zm.l (fun _ _ k_ => z_ist dX8_join_79 (by decide) (lv' := [(0, vr (some (97, 1, 0))), (1, vi l1), (2, vi l2), (3, vi l3), (5, vi (l5 ||| (256 : Int32)))]) rfl k_) ?_
    exact k
theorem sX8_join_81 {E : zE} {d : Nat} {Q : zO → zM → Prop} (M : zM) (l1 : Int32) (l2 : Int32) (l3 : Int32) (l5 : Int32) (k : if (l5 &&& (64 : Int32)) = 0 then (Zm E YX8_join (d + 1) M [(0, vr (some (97, 1, 0))), (1, vi l1), (2, vi l2), (3, vi l3), (5, vi l5)] 96 [] Q) else (Zm E YX8_join (d + 1) M [(0, vr (some (97, 1, 0))), (1, vi l1), (2, vi l2), (3, vi l3), (5, vi (l5 &&& (-33 : Int32)))] 96 [] Q)) : Zm E YX8_join (d + 1) M [(0, vr (some (97, 1, 0))), (1, vi l1), (2, vi l2), (3, vi l3), (5, vi l5)] 81 [] Q := by
  refine Zm.l (fun _ _ k_ => z_iload dX8_join_81 rfl k_) ?_
  refine Zm.l (fun _ _ k_ => z_bipush (v := 64) dX8_join_83 rfl k_) ?_
  refine Zm.l (fun _ _ k_ => z_iand dX8_join_85 k_) ?_
  refine Zm.br (fun _ _ k1_ k2_ => z_if_eq (tgt := 96) dX8_join_86 rfl k1_ k2_) (fun h_ => ?_) (fun h_ => ?_)
  · have k := zit h_ k
    exact k
  · have k := zif h_ k
    refine Zm.l (fun _ _ k_ => z_iload dX8_join_89 rfl k_) ?_
    refine Zm.l (fun _ _ k_ => z_bipush (v := -33) dX8_join_91 rfl k_) ?_
    refine Zm.l (fun _ _ k_ => z_iand dX8_join_93 k_) ?_
    refine Zm.l (fun _ _ k_ => z_ist dX8_join_94 (by decide) (lv' := [(0, vr (some (97, 1, 0))), (1, vi l1), (2, vi l2), (3, vi l3), (5, vi (l5 &&& (-33 : Int32)))]) rfl k_) ?_
    exact k
theorem sX8_join_96 {E : zE} {d : Nat} {Q : zO → zM → Prop} (M : zM) (l1 : Int32) (l2 : Int32) (l3 : Int32) (l5 : Int32) (k : if (l5 &&& (256 : Int32)) = 0 then (Zm E YX8_join (d + 1) M [(0, vr (some (97, 1, 0))), (1, vi l1), (2, vi l2), (3, vi l3), (5, vi l5)] 113 [] Q) else (Zm E YX8_join (d + 1) M [(0, vr (some (97, 1, 0))), (1, vi l1), (2, vi l2), (3, vi l3), (5, vi (l5 &&& (-129 : Int32)))] 113 [] Q)) : Zm E YX8_join (d + 1) M [(0, vr (some (97, 1, 0))), (1, vi l1), (2, vi l2), (3, vi l3), (5, vi l5)] 96 [] Q := by
  refine Zm.l (fun _ _ k_ => z_iload dX8_join_96 rfl k_) ?_
  refine Zm.l (fun _ _ k_ => z_sipush (v := 256) dX8_join_98 rfl k_) ?_
  refine Zm.l (fun _ _ k_ => z_iand dX8_join_101 k_) ?_
  refine Zm.br (fun _ _ k1_ k2_ => z_if_eq (tgt := 113) dX8_join_102 rfl k1_ k2_) (fun h_ => ?_) (fun h_ => ?_)
  · have k := zit h_ k
    exact k
  · have k := zif h_ k
    refine Zm.l (fun _ _ k_ => z_iload dX8_join_105 rfl k_) ?_
    refine Zm.l (fun _ _ k_ => z_sipush (v := -129) dX8_join_107 rfl k_) ?_
    refine Zm.l (fun _ _ k_ => z_iand dX8_join_110 k_) ?_
    refine Zm.l (fun _ _ k_ => z_ist dX8_join_111 (by decide) (lv' := [(0, vr (some (97, 1, 0))), (1, vi l1), (2, vi l2), (3, vi l3), (5, vi (l5 &&& (-129 : Int32)))]) rfl k_) ?_
    exact k
theorem sX8_join_113 {E : zE} {d : Nat} {Q : zO → zM → Prop} (M : zM) (l1 : Int32) (l2 : Int32) (l3 : Int32) (l5 : Int32) (k : if (l5 &&& (32 : Int32)) = 0 then (Zm E YX8_join (d + 1) M [(0, vr (some (97, 1, 0))), (1, vi l1), (2, vi l2), (3, vi l3), (5, vi l5)] 145 [vi (0 : Int32)] Q) else (if (l3 &&& (32 : Int32)) = 0 then (Zm E YX8_number d M (zargs 0 [vr (some (97, 1, 0)), vi l1]) 0 [] (zma E YX8_join (d + 1) [(0, vr (some (97, 1, 0))), (1, vi l1), (2, vi l2), (3, vi l3), (5, vi l5)] 142 3 [] Q)) else (Zm E YX8_number d M (zargs 0 [vr (some (97, 1, 0)), vi l2]) 0 [] (zma E YX8_join (d + 1) [(0, vr (some (97, 1, 0))), (1, vi l1), (2, vi l2), (3, vi l3), (5, vi l5)] 134 3 [] Q)))) : Zm E YX8_join (d + 1) M [(0, vr (some (97, 1, 0))), (1, vi l1), (2, vi l2), (3, vi l3), (5, vi l5)] 113 [] Q := by
  refine Zm.l (fun _ _ k_ => z_iload dX8_join_113 rfl k_) ?_
  refine Zm.l (fun _ _ k_ => z_bipush (v := 32) dX8_join_115 rfl k_) ?_
  refine Zm.l (fun _ _ k_ => z_iand dX8_join_117 k_) ?_
  refine Zm.brn (fun _ _ k1_ k2_ => z_if_ne (tgt := 125) dX8_join_118 rfl k1_ k2_) (fun h_ => ?_) (fun h_ => ?_)
  · have k := zif h_ k
    refine Zm.l (fun _ _ k_ => z_iload_n dX8_join_125 rfl rfl k_) ?_
    refine Zm.l (fun _ _ k_ => z_bipush (v := 32) dX8_join_126 rfl k_) ?_
    refine Zm.l (fun _ _ k_ => z_iand dX8_join_128 k_) ?_
    refine Zm.br (fun _ _ k1_ k2_ => z_if_eq (tgt := 140) dX8_join_129 rfl k1_ k2_) (fun h_ => ?_) (fun h_ => ?_)
    · have k := zit h_ k
      refine Zm.l (fun _ _ k_ => z_aload_n dX8_join_140 rfl rfl k_) ?_
      refine Zm.l (fun _ _ k_ => z_iload_n dX8_join_141 rfl rfl k_) ?_
      exact zm_callV (as := [vi l1]) (st := []) dX8_join_142 vsX8_1050_1 (Nat.le_refl _) (Nat.le_of_ble_eq_true rfl) (Nat.le_of_ble_eq_true rfl) rfl k
    · have k := zif h_ k
      refine Zm.l (fun _ _ k_ => z_aload_n dX8_join_132 rfl rfl k_) ?_
      refine Zm.l (fun _ _ k_ => z_iload_n dX8_join_133 rfl rfl k_) ?_
      exact zm_callV (as := [vi l2]) (st := []) dX8_join_134 vsX8_1050_1 (Nat.le_refl _) (Nat.le_of_ble_eq_true rfl) (Nat.le_of_ble_eq_true rfl) rfl k
  · have k := zit h_ k
    refine Zm.l (fun _ _ k_ => z_iconst (v := 0) dX8_join_121 rfl k_) ?_
    refine Zm.l (fun _ _ k_ => z_goto (tgt := 145) dX8_join_122 rfl k_) ?_
    exact k
theorem sX8_join_137 {E : zE} {d : Nat} {Q : zO → zM → Prop} (M : zM) (l1 : Int32) (l2 : Int32) (l3 : Int32) (l5 : Int32) (s0 : Int32) (k : Zm E YX8_join (d + 1) M [(0, vr (some (97, 1, 0))), (1, vi l1), (2, vi l2), (3, vi l3), (5, vi l5)] 145 [vi s0] Q) : Zm E YX8_join (d + 1) M [(0, vr (some (97, 1, 0))), (1, vi l1), (2, vi l2), (3, vi l3), (5, vi l5)] 137 [vi s0] Q := by
  refine Zm.l (fun _ _ k_ => z_goto (tgt := 145) dX8_join_137 rfl k_) ?_
  exact k
theorem sX8_join_145 {E : zE} {d : Nat} {Q : zO → zM → Prop} (M : zM) (l1 : Int32) (l2 : Int32) (l3 : Int32) (l5 : Int32) (s0 : Int32) (k : if (l5 &&& (128 : Int32)) = 0 then (Zm E YX8_join (d + 1) M [(0, vr (some (97, 1, 0))), (1, vi l1), (2, vi l2), (3, vi l3), (5, vi l5), (6, vi s0)] 181 [vi (0 : Int32)] Q) else (if (l3 &&& (128 : Int32)) = 0 then (Zm E YX8_name d M (zargs 0 [vr (some (97, 1, 0)), vi l1]) 0 [] (zma E YX8_join (d + 1) [(0, vr (some (97, 1, 0))), (1, vi l1), (2, vi l2), (3, vi l3), (5, vi l5), (6, vi s0)] 178 3 [] Q)) else (Zm E YX8_name d M (zargs 0 [vr (some (97, 1, 0)), vi l2]) 0 [] (zma E YX8_join (d + 1) [(0, vr (some (97, 1, 0))), (1, vi l1), (2, vi l2), (3, vi l3), (5, vi l5), (6, vi s0)] 170 3 [] Q)))) : Zm E YX8_join (d + 1) M [(0, vr (some (97, 1, 0))), (1, vi l1), (2, vi l2), (3, vi l3), (5, vi l5)] 145 [vi s0] Q := by
  refine Zm.l (fun _ _ k_ => z_ist dX8_join_145 (by decide) (lv' := [(0, vr (some (97, 1, 0))), (1, vi l1), (2, vi l2), (3, vi l3), (5, vi l5), (6, vi s0)]) rfl k_) ?_
  refine Zm.l (fun _ _ k_ => z_iload dX8_join_147 rfl k_) ?_
  refine Zm.l (fun _ _ k_ => z_sipush (v := 128) dX8_join_149 rfl k_) ?_
  refine Zm.l (fun _ _ k_ => z_iand dX8_join_152 k_) ?_
  refine Zm.brn (fun _ _ k1_ k2_ => z_if_ne (tgt := 160) dX8_join_153 rfl k1_ k2_) (fun h_ => ?_) (fun h_ => ?_)
  · have k := zif h_ k
    refine Zm.l (fun _ _ k_ => z_iload_n dX8_join_160 rfl rfl k_) ?_
    refine Zm.l (fun _ _ k_ => z_sipush (v := 128) dX8_join_161 rfl k_) ?_
    refine Zm.l (fun _ _ k_ => z_iand dX8_join_164 k_) ?_
    refine Zm.br (fun _ _ k1_ k2_ => z_if_eq (tgt := 176) dX8_join_165 rfl k1_ k2_) (fun h_ => ?_) (fun h_ => ?_)
    · have k := zit h_ k
      refine Zm.l (fun _ _ k_ => z_aload_n dX8_join_176 rfl rfl k_) ?_
      refine Zm.l (fun _ _ k_ => z_iload_n dX8_join_177 rfl rfl k_) ?_
      exact zm_callV (as := [vi l1]) (st := []) dX8_join_178 vsX8_1053_1 (Nat.le_refl _) (Nat.le_of_ble_eq_true rfl) (Nat.le_of_ble_eq_true rfl) rfl k
    · have k := zif h_ k
      refine Zm.l (fun _ _ k_ => z_aload_n dX8_join_168 rfl rfl k_) ?_
      refine Zm.l (fun _ _ k_ => z_iload_n dX8_join_169 rfl rfl k_) ?_
      exact zm_callV (as := [vi l2]) (st := []) dX8_join_170 vsX8_1053_1 (Nat.le_refl _) (Nat.le_of_ble_eq_true rfl) (Nat.le_of_ble_eq_true rfl) rfl k
  · have k := zit h_ k
    refine Zm.l (fun _ _ k_ => z_iconst (v := 0) dX8_join_156 rfl k_) ?_
    refine Zm.l (fun _ _ k_ => z_goto (tgt := 181) dX8_join_157 rfl k_) ?_
    exact k
theorem sX8_join_173 {E : zE} {d : Nat} {Q : zO → zM → Prop} (M : zM) (l1 : Int32) (l2 : Int32) (l3 : Int32) (l5 : Int32) (l6 : Int32) (s0 : Int32) (k : Zm E YX8_join (d + 1) M [(0, vr (some (97, 1, 0))), (1, vi l1), (2, vi l2), (3, vi l3), (5, vi l5), (6, vi l6)] 181 [vi s0] Q) : Zm E YX8_join (d + 1) M [(0, vr (some (97, 1, 0))), (1, vi l1), (2, vi l2), (3, vi l3), (5, vi l5), (6, vi l6)] 173 [vi s0] Q := by
  refine Zm.l (fun _ _ k_ => z_goto (tgt := 181) dX8_join_173 rfl k_) ?_
  exact k
theorem sX8_join_181 {E : zE} {d : Nat} {Q : zO → zM → Prop} (M : zM) (l1 : Int32) (l2 : Int32) (l3 : Int32) (l5 : Int32) (l6 : Int32) (s0 : Int32) (k : vp_in l2 647800 ∧ (vp_in l1 647800 ∧ (vp_in l2 647800 ∧ (vp_in l1 647800 ∧ (if l5 = l3 then (vp_in l2 647800 ∧ (if (lg_cmp ((gl M 166 (l2).toNatClampNeg) ||| (gl M 166 (l1).toNatClampNeg)) (gl M 166 (l2).toNatClampNeg)) = 0 then (vp_in l2 647800 ∧ (if (lg_cmp ((gl M 167 (l2).toNatClampNeg) ||| (gl M 167 (l1).toNatClampNeg)) (gl M 167 (l2).toNatClampNeg)) = 0 then (Zm E YX8_write d M (zargs 0 [vr (some (97, 1, 0)), vi l2, vi l5, vi s0, vi l6]) 0 [] (zma E YX8_join (d + 1) [(0, vr (some (97, 1, 0))), (2, vi l2), (8, vl ((gl M 166 (l2).toNatClampNeg) ||| (gl M 166 (l1).toNatClampNeg))), (10, vl ((gl M 167 (l2).toNatClampNeg) ||| (gl M 167 (l1).toNatClampNeg))), (12, vi (0 : Int32))] 258 3 [] Q)) else (Zm E YX8_join (d + 1) M [(0, vr (some (97, 1, 0))), (2, vi l2), (5, vi l5), (6, vi l6), (7, vi s0), (8, vl ((gl M 166 (l2).toNatClampNeg) ||| (gl M 166 (l1).toNatClampNeg))), (10, vl ((gl M 167 (l2).toNatClampNeg) ||| (gl M 167 (l1).toNatClampNeg)))] 243 [] Q))) else (Zm E YX8_join (d + 1) M [(0, vr (some (97, 1, 0))), (2, vi l2), (5, vi l5), (6, vi l6), (7, vi s0), (8, vl ((gl M 166 (l2).toNatClampNeg) ||| (gl M 166 (l1).toNatClampNeg))), (10, vl ((gl M 167 (l2).toNatClampNeg) ||| (gl M 167 (l1).toNatClampNeg)))] 243 [] Q))) else (Zm E YX8_join (d + 1) M [(0, vr (some (97, 1, 0))), (2, vi l2), (5, vi l5), (6, vi l6), (7, vi s0), (8, vl ((gl M 166 (l2).toNatClampNeg) ||| (gl M 166 (l1).toNatClampNeg))), (10, vl ((gl M 167 (l2).toNatClampNeg) ||| (gl M 167 (l1).toNatClampNeg)))] 243 [] Q)))))) : Zm E YX8_join (d + 1) M [(0, vr (some (97, 1, 0))), (1, vi l1), (2, vi l2), (3, vi l3), (5, vi l5), (6, vi l6)] 181 [vi s0] Q := by
  refine Zm.l (fun _ _ k_ => z_ist dX8_join_181 (by decide) (lv' := [(0, vr (some (97, 1, 0))), (1, vi l1), (2, vi l2), (3, vi l3), (5, vi l5), (6, vi l6), (7, vi s0)]) rfl k_) ?_
  refine Zm.l (fun _ _ k_ => z_aload_n dX8_join_183 rfl rfl k_) ?_
  refine zm_getr 63 dX8_join_184 fsX8_220_1 rfl ?_
  refine Zm.l (fun _ _ k_ => z_iload_n dX8_join_187 rfl rfl k_) ?_
  obtain ⟨b_, k⟩ := k
  refine zm_lald dX8_join_188 b_ (by decide) (by decide) ?_
  refine Zm.l (fun _ _ k_ => z_aload_n dX8_join_189 rfl rfl k_) ?_
  refine zm_getr 63 dX8_join_190 fsX8_220_1 rfl ?_
  refine Zm.l (fun _ _ k_ => z_iload_n dX8_join_193 rfl rfl k_) ?_
  obtain ⟨b_, k⟩ := k
  refine zm_lald dX8_join_194 b_ (by decide) (by decide) ?_
  refine Zm.l (fun _ _ k_ => z_lor dX8_join_195 k_) ?_
  refine Zm.l (fun _ _ k_ => z_lst dX8_join_196 (by decide) (lv' := [(0, vr (some (97, 1, 0))), (1, vi l1), (2, vi l2), (3, vi l3), (5, vi l5), (6, vi l6), (7, vi s0), (8, vl ((gl M 166 (l2).toNatClampNeg) ||| (gl M 166 (l1).toNatClampNeg)))]) rfl k_) ?_
  refine Zm.l (fun _ _ k_ => z_aload_n dX8_join_198 rfl rfl k_) ?_
  refine zm_getr 64 dX8_join_199 fsX8_223_1 rfl ?_
  refine Zm.l (fun _ _ k_ => z_iload_n dX8_join_202 rfl rfl k_) ?_
  obtain ⟨b_, k⟩ := k
  refine zm_lald dX8_join_203 b_ (by decide) (by decide) ?_
  refine Zm.l (fun _ _ k_ => z_aload_n dX8_join_204 rfl rfl k_) ?_
  refine zm_getr 64 dX8_join_205 fsX8_223_1 rfl ?_
  refine Zm.l (fun _ _ k_ => z_iload_n dX8_join_208 rfl rfl k_) ?_
  obtain ⟨b_, k⟩ := k
  refine zm_lald dX8_join_209 b_ (by decide) (by decide) ?_
  refine Zm.l (fun _ _ k_ => z_lor dX8_join_210 k_) ?_
  refine Zm.l (fun _ _ k_ => z_lst dX8_join_211 (by decide) (lv' := [(0, vr (some (97, 1, 0))), (1, vi l1), (2, vi l2), (3, vi l3), (5, vi l5), (6, vi l6), (7, vi s0), (8, vl ((gl M 166 (l2).toNatClampNeg) ||| (gl M 166 (l1).toNatClampNeg))), (10, vl ((gl M 167 (l2).toNatClampNeg) ||| (gl M 167 (l1).toNatClampNeg)))]) rfl k_) ?_
  refine Zm.l (fun _ _ k_ => z_iload dX8_join_213 rfl k_) ?_
  refine Zm.l (fun _ _ k_ => z_iload_n dX8_join_215 rfl rfl k_) ?_
  refine Zm.brn (fun _ _ k1_ k2_ => z_icmp_ne (tgt := 243) dX8_join_216 rfl k1_ k2_) (fun h_ => ?_) (fun h_ => ?_)
  · have k := zif h_ k
    refine Zm.pick [0, 2, 4, 5, 6, 7, 8] rfl ?_
    exact k
  · have k := zit h_ k
    refine Zm.l (fun _ _ k_ => z_lload dX8_join_219 rfl k_) ?_
    refine Zm.l (fun _ _ k_ => z_aload_n dX8_join_221 rfl rfl k_) ?_
    refine zm_getr 63 dX8_join_222 fsX8_220_1 rfl ?_
    refine Zm.l (fun _ _ k_ => z_iload_n dX8_join_225 rfl rfl k_) ?_
    obtain ⟨b_, k⟩ := k
    refine zm_lald dX8_join_226 b_ (by decide) (by decide) ?_
    refine Zm.l (fun _ _ k_ => z_lcmp dX8_join_227 k_) ?_
    refine Zm.brn (fun _ _ k1_ k2_ => z_if_ne (tgt := 243) dX8_join_228 rfl k1_ k2_) (fun h_ => ?_) (fun h_ => ?_)
    · have k := zif h_ k
      refine Zm.pick [0, 2, 4, 5, 6, 7, 8] rfl ?_
      exact k
    · have k := zit h_ k
      refine Zm.l (fun _ _ k_ => z_lload dX8_join_231 rfl k_) ?_
      refine Zm.l (fun _ _ k_ => z_aload_n dX8_join_233 rfl rfl k_) ?_
      refine zm_getr 64 dX8_join_234 fsX8_223_1 rfl ?_
      refine Zm.l (fun _ _ k_ => z_iload_n dX8_join_237 rfl rfl k_) ?_
      obtain ⟨b_, k⟩ := k
      refine zm_lald dX8_join_238 b_ (by decide) (by decide) ?_
      refine Zm.l (fun _ _ k_ => z_lcmp dX8_join_239 k_) ?_
      refine Zm.br (fun _ _ k1_ k2_ => z_if_eq (tgt := 247) dX8_join_240 rfl k1_ k2_) (fun h_ => ?_) (fun h_ => ?_)
      · have k := zit h_ k
        refine Zm.l (fun _ _ k_ => z_iconst (v := 0) dX8_join_247 rfl k_) ?_
        refine Zm.l (fun _ _ k_ => z_ist dX8_join_248 (by decide) (lv' := [(0, vr (some (97, 1, 0))), (1, vi l1), (2, vi l2), (3, vi l3), (5, vi l5), (6, vi l6), (7, vi s0), (8, vl ((gl M 166 (l2).toNatClampNeg) ||| (gl M 166 (l1).toNatClampNeg))), (10, vl ((gl M 167 (l2).toNatClampNeg) ||| (gl M 167 (l1).toNatClampNeg))), (12, vi (0 : Int32))]) rfl k_) ?_
        refine Zm.l (fun _ _ k_ => z_aload_n dX8_join_250 rfl rfl k_) ?_
        refine Zm.l (fun _ _ k_ => z_iload_n dX8_join_251 rfl rfl k_) ?_
        refine Zm.l (fun _ _ k_ => z_iload dX8_join_252 rfl k_) ?_
        refine Zm.l (fun _ _ k_ => z_iload dX8_join_254 rfl k_) ?_
        refine Zm.l (fun _ _ k_ => z_iload dX8_join_256 rfl k_) ?_
        refine Zm.pick [0, 2, 7, 8, 9] rfl ?_
        exact zm_callV (as := [vi l2, vi l5, vi s0, vi l6]) (st := []) dX8_join_258 vsX8_1056_1 (Nat.le_refl _) (Nat.le_of_ble_eq_true rfl) (Nat.le_of_ble_eq_true rfl) rfl k
      · have k := zif h_ k
        refine Zm.pick [0, 2, 4, 5, 6, 7, 8] rfl ?_
        exact k
theorem sX8_join_243 {E : zE} {d : Nat} {Q : zO → zM → Prop} (M : zM) (l2 : Int32) (l5 : Int32) (l6 : Int32) (l7 : Int32) (l8 : Int64) (l10 : Int64) (k : Zm E YX8_write d M (zargs 0 [vr (some (97, 1, 0)), vi l2, vi l5, vi l7, vi l6]) 0 [] (zma E YX8_join (d + 1) [(0, vr (some (97, 1, 0))), (2, vi l2), (8, vl l8), (10, vl l10), (12, vi (1 : Int32))] 258 3 [] Q)) : Zm E YX8_join (d + 1) M [(0, vr (some (97, 1, 0))), (2, vi l2), (5, vi l5), (6, vi l6), (7, vi l7), (8, vl l8), (10, vl l10)] 243 [] Q := by
  refine Zm.l (fun _ _ k_ => z_iconst (v := 1) dX8_join_243 rfl k_) ?_
  refine Zm.l (fun _ _ k_ => z_goto (tgt := 248) dX8_join_244 rfl k_) ?_
  refine Zm.l (fun _ _ k_ => z_ist dX8_join_248 (by decide) (lv' := [(0, vr (some (97, 1, 0))), (2, vi l2), (5, vi l5), (6, vi l6), (7, vi l7), (8, vl l8), (10, vl l10), (12, vi (1 : Int32))]) rfl k_) ?_
  refine Zm.l (fun _ _ k_ => z_aload_n dX8_join_250 rfl rfl k_) ?_
  refine Zm.l (fun _ _ k_ => z_iload_n dX8_join_251 rfl rfl k_) ?_
  refine Zm.l (fun _ _ k_ => z_iload dX8_join_252 rfl k_) ?_
  refine Zm.l (fun _ _ k_ => z_iload dX8_join_254 rfl k_) ?_
  refine Zm.l (fun _ _ k_ => z_iload dX8_join_256 rfl k_) ?_
  refine Zm.pick [0, 1, 5, 6, 7] rfl ?_
  exact zm_callV (as := [vi l2, vi l5, vi l7, vi l6]) (st := []) dX8_join_258 vsX8_1056_1 (Nat.le_refl _) (Nat.le_of_ble_eq_true rfl) (Nat.le_of_ble_eq_true rfl) rfl k
theorem sX8_join_261 {E : zE} {d : Nat} {Q : zO → zM → Prop} (M : zM) (l2 : Int32) (l8 : Int64) (l10 : Int64) (l12 : Int32) (k : vp_in l2 647800 ∧ (vp_in l2 647800 ∧ ((narrow .boolean (.int l12) = .int l12) ∧ Q (.inl (some (vi l12))) (sl (sl M 166 (l2).toNatClampNeg l8) 167 (l2).toNatClampNeg l10)))) : Zm E YX8_join (d + 1) M [(0, vr (some (97, 1, 0))), (2, vi l2), (8, vl l8), (10, vl l10), (12, vi l12)] 261 [] Q := by
  refine Zm.l (fun _ _ k_ => z_aload_n dX8_join_261 rfl rfl k_) ?_
  refine zm_getr 63 dX8_join_262 fsX8_220_1 rfl ?_
  refine Zm.l (fun _ _ k_ => z_iload_n dX8_join_265 rfl rfl k_) ?_
  refine Zm.l (fun _ _ k_ => z_lload dX8_join_266 rfl k_) ?_
  obtain ⟨b_, k⟩ := k
  refine zm_last dX8_join_268 b_ (by decide) (by decide) ?_
  refine Zm.l (fun _ _ k_ => z_aload_n dX8_join_269 rfl rfl k_) ?_
  refine zm_getr 64 dX8_join_270 fsX8_223_1 rfl ?_
  refine Zm.l (fun _ _ k_ => z_iload_n dX8_join_273 rfl rfl k_) ?_
  refine Zm.l (fun _ _ k_ => z_lload dX8_join_274 rfl k_) ?_
  obtain ⟨b_, k⟩ := k
  refine zm_last dX8_join_276 b_ (by decide) (by decide) ?_
  refine Zm.l (fun _ _ k_ => z_iload dX8_join_277 rfl k_) ?_
  exact zm_iret dX8_join_279 rfl k.1 k.2
/-! ScriptTypesModel.has(I)I -/
theorem bX8_has_0 : zdec cX8_has 0 [(0, .aload_n 0, 1), (1, .getfield 216, 3), (4, .iload_n 1, 1), (5, .laload, 1), (6, .ldc2_w 1043, 3), (9, .land, 1), (10, .l2i, 1), (11, .ireturn, 1)] = true := by decide +kernel
theorem dX8_has_0 : decode cX8_has 0 = .ok (.aload_n 0, 1) := zdec_at bX8_has_0 0 rfl
theorem dX8_has_1 : decode cX8_has 1 = .ok (.getfield 216, 3) := zdec_at bX8_has_0 1 rfl
theorem dX8_has_4 : decode cX8_has 4 = .ok (.iload_n 1, 1) := zdec_at bX8_has_0 2 rfl
theorem dX8_has_5 : decode cX8_has 5 = .ok (.laload, 1) := zdec_at bX8_has_0 3 rfl
theorem dX8_has_6 : decode cX8_has 6 = .ok (.ldc2_w 1043, 3) := zdec_at bX8_has_0 4 rfl
theorem dX8_has_9 : decode cX8_has 9 = .ok (.land, 1) := zdec_at bX8_has_0 5 rfl
theorem dX8_has_10 : decode cX8_has 10 = .ok (.l2i, 1) := zdec_at bX8_has_0 6 rfl
theorem dX8_has_11 : decode cX8_has 11 = .ok (.ireturn, 1) := zdec_at bX8_has_0 7 rfl
theorem sX8_has_0 {E : zE} {d : Nat} {Q : zO → zM → Prop} (M : zM) (l1 : Int32) (k : vp_in l1 647800 ∧ (Q (.inl (some (vi (((gl M 165 (l1).toNatClampNeg) &&& (1023 : Int64))).toInt32))) M)) : Zm E YX8_has d M [(0, vr (some (97, 1, 0))), (1, vi l1)] 0 [] Q := by
  refine Zm.l (fun _ _ k_ => z_aload_n dX8_has_0 rfl rfl k_) ?_
  refine zm_getr 62 dX8_has_1 fsX8_216_1 rfl ?_
  refine Zm.l (fun _ _ k_ => z_iload_n dX8_has_4 rfl rfl k_) ?_
  obtain ⟨b_, k⟩ := k
  refine zm_lald dX8_has_5 b_ (by decide) (by decide) ?_
  refine Zm.l (fun _ _ k_ => z_ldc2 (v := 1023) dX8_has_6 q4841 k_) ?_
  refine Zm.l (fun _ _ k_ => z_land dX8_has_9 k_) ?_
  refine Zm.l (fun _ _ k_ => z_l2i dX8_has_10 k_) ?_
  exact zm_iret dX8_has_11 rfl rfl k
/-! ScriptTypesModel.number(I)I -/
theorem bX8_number_0 : zdec cX8_number 0 [(0, .aload_n 0, 1), (1, .getfield 216, 3), (4, .iload_n 1, 1), (5, .laload, 1), (6, .bipush 32, 2), (8, .lshr, 1), (9, .l2i, 1), (10, .ireturn, 1)] = true := by decide +kernel
theorem dX8_number_0 : decode cX8_number 0 = .ok (.aload_n 0, 1) := zdec_at bX8_number_0 0 rfl
theorem dX8_number_1 : decode cX8_number 1 = .ok (.getfield 216, 3) := zdec_at bX8_number_0 1 rfl
theorem dX8_number_4 : decode cX8_number 4 = .ok (.iload_n 1, 1) := zdec_at bX8_number_0 2 rfl
theorem dX8_number_5 : decode cX8_number 5 = .ok (.laload, 1) := zdec_at bX8_number_0 3 rfl
theorem dX8_number_6 : decode cX8_number 6 = .ok (.bipush 32, 2) := zdec_at bX8_number_0 4 rfl
theorem dX8_number_8 : decode cX8_number 8 = .ok (.lshr, 1) := zdec_at bX8_number_0 5 rfl
theorem dX8_number_9 : decode cX8_number 9 = .ok (.l2i, 1) := zdec_at bX8_number_0 6 rfl
theorem dX8_number_10 : decode cX8_number 10 = .ok (.ireturn, 1) := zdec_at bX8_number_0 7 rfl
theorem sX8_number_0 {E : zE} {d : Nat} {Q : zO → zM → Prop} (M : zM) (l1 : Int32) (k : vp_in l1 647800 ∧ (Q (.inl (some (vi ((zlr (gl M 165 (l1).toNatClampNeg) (32 : Int32))).toInt32))) M)) : Zm E YX8_number d M [(0, vr (some (97, 1, 0))), (1, vi l1)] 0 [] Q := by
  refine Zm.l (fun _ _ k_ => z_aload_n dX8_number_0 rfl rfl k_) ?_
  refine zm_getr 62 dX8_number_1 fsX8_216_1 rfl ?_
  refine Zm.l (fun _ _ k_ => z_iload_n dX8_number_4 rfl rfl k_) ?_
  obtain ⟨b_, k⟩ := k
  refine zm_lald dX8_number_5 b_ (by decide) (by decide) ?_
  refine Zm.l (fun _ _ k_ => z_bipush (v := 32) dX8_number_6 rfl k_) ?_
  refine Zm.l (fun _ _ k_ => z_lshr dX8_number_8 k_) ?_
  refine Zm.l (fun _ _ k_ => z_l2i dX8_number_9 k_) ?_
  exact zm_iret dX8_number_10 rfl rfl k
/-! ScriptTypesModel.name(I)I -/
theorem bX8_name_0 : zdec cX8_name 0 [(0, .aload_n 0, 1), (1, .getfield 216, 3), (4, .iload_n 1, 1), (5, .laload, 1), (6, .bipush 10, 2), (8, .lshr, 1), (9, .ldc2_w 1045, 3), (12, .land, 1), (13, .l2i, 1), (14, .ireturn, 1)] = true := by decide +kernel
theorem dX8_name_0 : decode cX8_name 0 = .ok (.aload_n 0, 1) := zdec_at bX8_name_0 0 rfl
theorem dX8_name_1 : decode cX8_name 1 = .ok (.getfield 216, 3) := zdec_at bX8_name_0 1 rfl
theorem dX8_name_4 : decode cX8_name 4 = .ok (.iload_n 1, 1) := zdec_at bX8_name_0 2 rfl
theorem dX8_name_5 : decode cX8_name 5 = .ok (.laload, 1) := zdec_at bX8_name_0 3 rfl
theorem dX8_name_6 : decode cX8_name 6 = .ok (.bipush 10, 2) := zdec_at bX8_name_0 4 rfl
theorem dX8_name_8 : decode cX8_name 8 = .ok (.lshr, 1) := zdec_at bX8_name_0 5 rfl
theorem dX8_name_9 : decode cX8_name 9 = .ok (.ldc2_w 1045, 3) := zdec_at bX8_name_0 6 rfl
theorem dX8_name_12 : decode cX8_name 12 = .ok (.land, 1) := zdec_at bX8_name_0 7 rfl
theorem dX8_name_13 : decode cX8_name 13 = .ok (.l2i, 1) := zdec_at bX8_name_0 8 rfl
theorem dX8_name_14 : decode cX8_name 14 = .ok (.ireturn, 1) := zdec_at bX8_name_0 9 rfl
theorem sX8_name_0 {E : zE} {d : Nat} {Q : zO → zM → Prop} (M : zM) (l1 : Int32) (k : vp_in l1 647800 ∧ (Q (.inl (some (vi (((zlr (gl M 165 (l1).toNatClampNeg) (10 : Int32)) &&& (127 : Int64))).toInt32))) M)) : Zm E YX8_name d M [(0, vr (some (97, 1, 0))), (1, vi l1)] 0 [] Q := by
  refine Zm.l (fun _ _ k_ => z_aload_n dX8_name_0 rfl rfl k_) ?_
  refine zm_getr 62 dX8_name_1 fsX8_216_1 rfl ?_
  refine Zm.l (fun _ _ k_ => z_iload_n dX8_name_4 rfl rfl k_) ?_
  obtain ⟨b_, k⟩ := k
  refine zm_lald dX8_name_5 b_ (by decide) (by decide) ?_
  refine Zm.l (fun _ _ k_ => z_bipush (v := 10) dX8_name_6 rfl k_) ?_
  refine Zm.l (fun _ _ k_ => z_lshr dX8_name_8 k_) ?_
  refine Zm.l (fun _ _ k_ => z_ldc2 (v := 127) dX8_name_9 q4850 k_) ?_
  refine Zm.l (fun _ _ k_ => z_land dX8_name_12 k_) ?_
  refine Zm.l (fun _ _ k_ => z_l2i dX8_name_13 k_) ?_
  exact zm_iret dX8_name_14 rfl rfl k
/-! ScriptTypesModel.addSort(II)V -/
theorem bX8_addSort_0 : zdec cX8_addSort 0 [(0, .ldc_w 1065, 3), (3, .istore_n 3, 1), (4, .aload_n 0, 1), (5, .iload_n 3, 1), (6, .invokevirtual 1066, 3), (9, .aload_n 0, 1), (10, .iload_n 3, 1), (11, .iload_n 2, 1), (12, .iconst 0, 1), (13, .iconst 0, 1), (14, .invokevirtual 1056, 3), (17, .aload_n 0, 1), (18, .iload_n 3, 1), (19, .iload_n 1, 1), (20, .invokevirtual 1069, 3), (23, .istore 4, 2)] = true := by decide +kernel
theorem dX8_addSort_0 : decode cX8_addSort 0 = .ok (.ldc_w 1065, 3) := zdec_at bX8_addSort_0 0 rfl
theorem dX8_addSort_3 : decode cX8_addSort 3 = .ok (.istore_n 3, 1) := zdec_at bX8_addSort_0 1 rfl
theorem dX8_addSort_4 : decode cX8_addSort 4 = .ok (.aload_n 0, 1) := zdec_at bX8_addSort_0 2 rfl
theorem dX8_addSort_5 : decode cX8_addSort 5 = .ok (.iload_n 3, 1) := zdec_at bX8_addSort_0 3 rfl
theorem dX8_addSort_6 : decode cX8_addSort 6 = .ok (.invokevirtual 1066, 3) := zdec_at bX8_addSort_0 4 rfl
theorem dX8_addSort_9 : decode cX8_addSort 9 = .ok (.aload_n 0, 1) := zdec_at bX8_addSort_0 5 rfl
theorem dX8_addSort_10 : decode cX8_addSort 10 = .ok (.iload_n 3, 1) := zdec_at bX8_addSort_0 6 rfl
theorem dX8_addSort_11 : decode cX8_addSort 11 = .ok (.iload_n 2, 1) := zdec_at bX8_addSort_0 7 rfl
theorem dX8_addSort_12 : decode cX8_addSort 12 = .ok (.iconst 0, 1) := zdec_at bX8_addSort_0 8 rfl
theorem dX8_addSort_13 : decode cX8_addSort 13 = .ok (.iconst 0, 1) := zdec_at bX8_addSort_0 9 rfl
theorem dX8_addSort_14 : decode cX8_addSort 14 = .ok (.invokevirtual 1056, 3) := zdec_at bX8_addSort_0 10 rfl
theorem dX8_addSort_17 : decode cX8_addSort 17 = .ok (.aload_n 0, 1) := zdec_at bX8_addSort_0 11 rfl
theorem dX8_addSort_18 : decode cX8_addSort 18 = .ok (.iload_n 3, 1) := zdec_at bX8_addSort_0 12 rfl
theorem dX8_addSort_19 : decode cX8_addSort 19 = .ok (.iload_n 1, 1) := zdec_at bX8_addSort_0 13 rfl
theorem dX8_addSort_20 : decode cX8_addSort 20 = .ok (.invokevirtual 1069, 3) := zdec_at bX8_addSort_0 14 rfl
theorem dX8_addSort_23 : decode cX8_addSort 23 = .ok (.istore 4, 2) := zdec_at bX8_addSort_0 15 rfl
theorem bX8_addSort_25 : zdec cX8_addSort 25 [(25, .return_, 1)] = true := by decide +kernel
theorem dX8_addSort_25 : decode cX8_addSort 25 = .ok (.return_, 1) := zdec_at bX8_addSort_25 0 rfl
theorem sX8_addSort_0 {E : zE} {d : Nat} {Q : zO → zM → Prop} (M : zM) (l1 : Int32) (l2 : Int32) (k : Zm E YX8_empty d M (zargs 0 [vr (some (97, 1, 0)), vi (647790 : Int32)]) 0 [] (zma E YX8_addSort (d + 1) [(0, vr (some (97, 1, 0))), (1, vi l1), (2, vi l2), (3, vi (647790 : Int32))] 6 3 [] Q)) : Zm E YX8_addSort (d + 1) M [(0, vr (some (97, 1, 0))), (1, vi l1), (2, vi l2)] 0 [] Q := by
  refine Zm.l (fun _ _ k_ => z_ldcw (v := 647790) dX8_addSort_0 q4832 k_) ?_
  refine Zm.l (fun _ _ k_ => z_ist_n dX8_addSort_3 rfl (by decide) (lv' := [(0, vr (some (97, 1, 0))), (1, vi l1), (2, vi l2), (3, vi (647790 : Int32))]) rfl k_) ?_
  refine Zm.l (fun _ _ k_ => z_aload_n dX8_addSort_4 rfl rfl k_) ?_
  refine Zm.l (fun _ _ k_ => z_iload_n dX8_addSort_5 rfl rfl k_) ?_
  exact zm_callV (as := [vi (647790 : Int32)]) (st := []) dX8_addSort_6 vsX8_1066_1 (Nat.le_refl _) (Nat.le_of_ble_eq_true rfl) (Nat.le_of_ble_eq_true rfl) rfl k
theorem sX8_addSort_9 {E : zE} {d : Nat} {Q : zO → zM → Prop} (M : zM) (l1 : Int32) (l2 : Int32) (l3 : Int32) (k : Zm E YX8_write d M (zargs 0 [vr (some (97, 1, 0)), vi l3, vi l2, vi (0 : Int32), vi (0 : Int32)]) 0 [] (zma E YX8_addSort (d + 1) [(0, vr (some (97, 1, 0))), (1, vi l1), (3, vi l3)] 14 3 [] Q)) : Zm E YX8_addSort (d + 1) M [(0, vr (some (97, 1, 0))), (1, vi l1), (2, vi l2), (3, vi l3)] 9 [] Q := by
  refine Zm.l (fun _ _ k_ => z_aload_n dX8_addSort_9 rfl rfl k_) ?_
  refine Zm.l (fun _ _ k_ => z_iload_n dX8_addSort_10 rfl rfl k_) ?_
  refine Zm.l (fun _ _ k_ => z_iload_n dX8_addSort_11 rfl rfl k_) ?_
  refine Zm.l (fun _ _ k_ => z_iconst (v := 0) dX8_addSort_12 rfl k_) ?_
  refine Zm.l (fun _ _ k_ => z_iconst (v := 0) dX8_addSort_13 rfl k_) ?_
  refine Zm.pick [0, 1, 3] rfl ?_
  exact zm_callV (as := [vi l3, vi l2, vi (0 : Int32), vi (0 : Int32)]) (st := []) dX8_addSort_14 vsX8_1056_1 (Nat.le_refl _) (Nat.le_of_ble_eq_true rfl) (Nat.le_of_ble_eq_true rfl) rfl k
theorem sX8_addSort_17 {E : zE} {d : Nat} {Q : zO → zM → Prop} (M : zM) (l1 : Int32) (l3 : Int32) (k : Zm E YX8_join d M (zargs 0 [vr (some (97, 1, 0)), vi l3, vi l1]) 0 [] (zma E YX8_addSort (d + 1) [] 20 3 [] Q)) : Zm E YX8_addSort (d + 1) M [(0, vr (some (97, 1, 0))), (1, vi l1), (3, vi l3)] 17 [] Q := by
  refine Zm.l (fun _ _ k_ => z_aload_n dX8_addSort_17 rfl rfl k_) ?_
  refine Zm.l (fun _ _ k_ => z_iload_n dX8_addSort_18 rfl rfl k_) ?_
  refine Zm.l (fun _ _ k_ => z_iload_n dX8_addSort_19 rfl rfl k_) ?_
  refine Zm.pick [] rfl ?_
  exact zm_callV (as := [vi l3, vi l1]) (st := []) dX8_addSort_20 vsX8_1069_1 (Nat.le_refl _) (Nat.le_of_ble_eq_true rfl) (Nat.le_of_ble_eq_true rfl) rfl k
theorem sX8_addSort_23 {E : zE} {d : Nat} {Q : zO → zM → Prop} (M : zM) (s0 : Int32) (k : Q (.inl none) M) : Zm E YX8_addSort (d + 1) M [] 23 [vi s0] Q := by
  refine Zm.l (fun _ _ k_ => z_ist dX8_addSort_23 (by decide) (lv' := [(4, vi s0)]) rfl k_) ?_
  exact zm_vret dX8_addSort_25 rfl k
/-! ScriptTypesModel.flow(I)V -/
theorem bX8_flow_0 : zdec cX8_flow 0 [(0, .aload_n 0, 1), (1, .getfield 226, 3), (4, .iload_n 1, 1), (5, .baload, 1), (6, .ifCond .ne 7, 3), (9, .iconst 1, 1), (10, .goto 4, 3), (13, .iconst 0, 1), (14, .istore_n 2, 1), (15, .iload_n 2, 1), (16, .ifCond .eq 158, 3), (19, .aload_n 0, 1), (20, .getfield 226, 3), (23, .iload_n 1, 1), (24, .iconst 1, 1), (25, .bastore, 1)] = true := by decide +kernel
theorem dX8_flow_0 : decode cX8_flow 0 = .ok (.aload_n 0, 1) := zdec_at bX8_flow_0 0 rfl
theorem dX8_flow_1 : decode cX8_flow 1 = .ok (.getfield 226, 3) := zdec_at bX8_flow_0 1 rfl
theorem dX8_flow_4 : decode cX8_flow 4 = .ok (.iload_n 1, 1) := zdec_at bX8_flow_0 2 rfl
theorem dX8_flow_5 : decode cX8_flow 5 = .ok (.baload, 1) := zdec_at bX8_flow_0 3 rfl
theorem dX8_flow_6 : decode cX8_flow 6 = .ok (.ifCond .ne 7, 3) := zdec_at bX8_flow_0 4 rfl
theorem dX8_flow_9 : decode cX8_flow 9 = .ok (.iconst 1, 1) := zdec_at bX8_flow_0 5 rfl
theorem dX8_flow_10 : decode cX8_flow 10 = .ok (.goto 4, 3) := zdec_at bX8_flow_0 6 rfl
theorem dX8_flow_13 : decode cX8_flow 13 = .ok (.iconst 0, 1) := zdec_at bX8_flow_0 7 rfl
theorem dX8_flow_14 : decode cX8_flow 14 = .ok (.istore_n 2, 1) := zdec_at bX8_flow_0 8 rfl
theorem dX8_flow_15 : decode cX8_flow 15 = .ok (.iload_n 2, 1) := zdec_at bX8_flow_0 9 rfl
theorem dX8_flow_16 : decode cX8_flow 16 = .ok (.ifCond .eq 158, 3) := zdec_at bX8_flow_0 10 rfl
theorem dX8_flow_19 : decode cX8_flow 19 = .ok (.aload_n 0, 1) := zdec_at bX8_flow_0 11 rfl
theorem dX8_flow_20 : decode cX8_flow 20 = .ok (.getfield 226, 3) := zdec_at bX8_flow_0 12 rfl
theorem dX8_flow_23 : decode cX8_flow 23 = .ok (.iload_n 1, 1) := zdec_at bX8_flow_0 13 rfl
theorem dX8_flow_24 : decode cX8_flow 24 = .ok (.iconst 1, 1) := zdec_at bX8_flow_0 14 rfl
theorem dX8_flow_25 : decode cX8_flow 25 = .ok (.bastore, 1) := zdec_at bX8_flow_0 15 rfl
theorem bX8_flow_26 : zdec cX8_flow 26 [(26, .aload_n 0, 1), (27, .iload_n 1, 1), (28, .invokevirtual 1104, 3), (31, .aload_n 0, 1), (32, .getfield 235, 3), (35, .iload_n 1, 1), (36, .aload_n 0, 1), (37, .getfield 235, 3), (40, .sipush 639, 3), (43, .iaload, 1), (44, .iastore, 1), (45, .aload_n 0, 1), (46, .getfield 238, 3), (49, .iload_n 1, 1), (50, .aload_n 0, 1), (51, .getfield 1107, 3)] = true := by decide +kernel
theorem dX8_flow_26 : decode cX8_flow 26 = .ok (.aload_n 0, 1) := zdec_at bX8_flow_26 0 rfl
theorem dX8_flow_27 : decode cX8_flow 27 = .ok (.iload_n 1, 1) := zdec_at bX8_flow_26 1 rfl
theorem dX8_flow_28 : decode cX8_flow 28 = .ok (.invokevirtual 1104, 3) := zdec_at bX8_flow_26 2 rfl
theorem dX8_flow_31 : decode cX8_flow 31 = .ok (.aload_n 0, 1) := zdec_at bX8_flow_26 3 rfl
theorem dX8_flow_32 : decode cX8_flow 32 = .ok (.getfield 235, 3) := zdec_at bX8_flow_26 4 rfl
theorem dX8_flow_35 : decode cX8_flow 35 = .ok (.iload_n 1, 1) := zdec_at bX8_flow_26 5 rfl
theorem dX8_flow_36 : decode cX8_flow 36 = .ok (.aload_n 0, 1) := zdec_at bX8_flow_26 6 rfl
theorem dX8_flow_37 : decode cX8_flow 37 = .ok (.getfield 235, 3) := zdec_at bX8_flow_26 7 rfl
theorem dX8_flow_40 : decode cX8_flow 40 = .ok (.sipush 639, 3) := zdec_at bX8_flow_26 8 rfl
theorem dX8_flow_43 : decode cX8_flow 43 = .ok (.iaload, 1) := zdec_at bX8_flow_26 9 rfl
theorem dX8_flow_44 : decode cX8_flow 44 = .ok (.iastore, 1) := zdec_at bX8_flow_26 10 rfl
theorem dX8_flow_45 : decode cX8_flow 45 = .ok (.aload_n 0, 1) := zdec_at bX8_flow_26 11 rfl
theorem dX8_flow_46 : decode cX8_flow 46 = .ok (.getfield 238, 3) := zdec_at bX8_flow_26 12 rfl
theorem dX8_flow_49 : decode cX8_flow 49 = .ok (.iload_n 1, 1) := zdec_at bX8_flow_26 13 rfl
theorem dX8_flow_50 : decode cX8_flow 50 = .ok (.aload_n 0, 1) := zdec_at bX8_flow_26 14 rfl
theorem dX8_flow_51 : decode cX8_flow 51 = .ok (.getfield 1107, 3) := zdec_at bX8_flow_26 15 rfl
theorem bX8_flow_54 : zdec cX8_flow 54 [(54, .iastore, 1), (55, .aload_n 0, 1), (56, .dup, 1), (57, .getfield 1107, 3), (60, .aload_n 0, 1), (61, .getfield 235, 3), (64, .iload_n 1, 1), (65, .iaload, 1), (66, .iadd, 1), (67, .putfield 1107, 3), (70, .iconst 0, 1), (71, .istore_n 3, 1), (72, .iload_n 3, 1), (73, .aload_n 0, 1), (74, .getfield 235, 3), (77, .iload_n 1, 1)] = true := by decide +kernel
theorem dX8_flow_54 : decode cX8_flow 54 = .ok (.iastore, 1) := zdec_at bX8_flow_54 0 rfl
theorem dX8_flow_55 : decode cX8_flow 55 = .ok (.aload_n 0, 1) := zdec_at bX8_flow_54 1 rfl
theorem dX8_flow_56 : decode cX8_flow 56 = .ok (.dup, 1) := zdec_at bX8_flow_54 2 rfl
theorem dX8_flow_57 : decode cX8_flow 57 = .ok (.getfield 1107, 3) := zdec_at bX8_flow_54 3 rfl
theorem dX8_flow_60 : decode cX8_flow 60 = .ok (.aload_n 0, 1) := zdec_at bX8_flow_54 4 rfl
theorem dX8_flow_61 : decode cX8_flow 61 = .ok (.getfield 235, 3) := zdec_at bX8_flow_54 5 rfl
theorem dX8_flow_64 : decode cX8_flow 64 = .ok (.iload_n 1, 1) := zdec_at bX8_flow_54 6 rfl
theorem dX8_flow_65 : decode cX8_flow 65 = .ok (.iaload, 1) := zdec_at bX8_flow_54 7 rfl
theorem dX8_flow_66 : decode cX8_flow 66 = .ok (.iadd, 1) := zdec_at bX8_flow_54 8 rfl
theorem dX8_flow_67 : decode cX8_flow 67 = .ok (.putfield 1107, 3) := zdec_at bX8_flow_54 9 rfl
theorem dX8_flow_70 : decode cX8_flow 70 = .ok (.iconst 0, 1) := zdec_at bX8_flow_54 10 rfl
theorem dX8_flow_71 : decode cX8_flow 71 = .ok (.istore_n 3, 1) := zdec_at bX8_flow_54 11 rfl
theorem dX8_flow_72 : decode cX8_flow 72 = .ok (.iload_n 3, 1) := zdec_at bX8_flow_54 12 rfl
theorem dX8_flow_73 : decode cX8_flow 73 = .ok (.aload_n 0, 1) := zdec_at bX8_flow_54 13 rfl
theorem dX8_flow_74 : decode cX8_flow 74 = .ok (.getfield 235, 3) := zdec_at bX8_flow_54 14 rfl
theorem dX8_flow_77 : decode cX8_flow 77 = .ok (.iload_n 1, 1) := zdec_at bX8_flow_54 15 rfl
theorem bX8_flow_78 : zdec cX8_flow 78 [(78, .iaload, 1), (79, .if_icmp .ge 21, 3), (82, .aload_n 0, 1), (83, .aload_n 0, 1), (84, .getfield 238, 3), (87, .iload_n 1, 1), (88, .iaload, 1), (89, .iload_n 3, 1), (90, .iadd, 1), (91, .invokevirtual 1066, 3), (94, .iinc 3 1, 3), (97, .goto (-25), 3), (100, .aload_n 0, 1), (101, .getfield 247, 3), (104, .iload_n 1, 1), (105, .aload_n 0, 1)] = true := by decide +kernel
theorem dX8_flow_78 : decode cX8_flow 78 = .ok (.iaload, 1) := zdec_at bX8_flow_78 0 rfl
theorem dX8_flow_79 : decode cX8_flow 79 = .ok (.if_icmp .ge 21, 3) := zdec_at bX8_flow_78 1 rfl
theorem dX8_flow_82 : decode cX8_flow 82 = .ok (.aload_n 0, 1) := zdec_at bX8_flow_78 2 rfl
theorem dX8_flow_83 : decode cX8_flow 83 = .ok (.aload_n 0, 1) := zdec_at bX8_flow_78 3 rfl
theorem dX8_flow_84 : decode cX8_flow 84 = .ok (.getfield 238, 3) := zdec_at bX8_flow_78 4 rfl
theorem dX8_flow_87 : decode cX8_flow 87 = .ok (.iload_n 1, 1) := zdec_at bX8_flow_78 5 rfl
theorem dX8_flow_88 : decode cX8_flow 88 = .ok (.iaload, 1) := zdec_at bX8_flow_78 6 rfl
theorem dX8_flow_89 : decode cX8_flow 89 = .ok (.iload_n 3, 1) := zdec_at bX8_flow_78 7 rfl
theorem dX8_flow_90 : decode cX8_flow 90 = .ok (.iadd, 1) := zdec_at bX8_flow_78 8 rfl
theorem dX8_flow_91 : decode cX8_flow 91 = .ok (.invokevirtual 1066, 3) := zdec_at bX8_flow_78 9 rfl
theorem dX8_flow_94 : decode cX8_flow 94 = .ok (.iinc 3 1, 3) := zdec_at bX8_flow_78 10 rfl
theorem dX8_flow_97 : decode cX8_flow 97 = .ok (.goto (-25), 3) := zdec_at bX8_flow_78 11 rfl
theorem dX8_flow_100 : decode cX8_flow 100 = .ok (.aload_n 0, 1) := zdec_at bX8_flow_78 12 rfl
theorem dX8_flow_101 : decode cX8_flow 101 = .ok (.getfield 247, 3) := zdec_at bX8_flow_78 13 rfl
theorem dX8_flow_104 : decode cX8_flow 104 = .ok (.iload_n 1, 1) := zdec_at bX8_flow_78 14 rfl
theorem dX8_flow_105 : decode cX8_flow 105 = .ok (.aload_n 0, 1) := zdec_at bX8_flow_78 15 rfl
theorem bX8_flow_106 : zdec cX8_flow 106 [(106, .getfield 247, 3), (109, .sipush 639, 3), (112, .iaload, 1), (113, .iastore, 1), (114, .iconst 0, 1), (115, .istore_n 3, 1), (116, .iload_n 3, 1), (117, .aload_n 0, 1), (118, .getfield 247, 3), (121, .iload_n 1, 1), (122, .iaload, 1), (123, .if_icmp .ge 51, 3), (126, .aload_n 0, 1), (127, .getfield 250, 3), (130, .bipush 40, 2), (132, .iload_n 1, 1)] = true := by decide +kernel
theorem dX8_flow_106 : decode cX8_flow 106 = .ok (.getfield 247, 3) := zdec_at bX8_flow_106 0 rfl
theorem dX8_flow_109 : decode cX8_flow 109 = .ok (.sipush 639, 3) := zdec_at bX8_flow_106 1 rfl
theorem dX8_flow_112 : decode cX8_flow 112 = .ok (.iaload, 1) := zdec_at bX8_flow_106 2 rfl
theorem dX8_flow_113 : decode cX8_flow 113 = .ok (.iastore, 1) := zdec_at bX8_flow_106 3 rfl
theorem dX8_flow_114 : decode cX8_flow 114 = .ok (.iconst 0, 1) := zdec_at bX8_flow_106 4 rfl
theorem dX8_flow_115 : decode cX8_flow 115 = .ok (.istore_n 3, 1) := zdec_at bX8_flow_106 5 rfl
theorem dX8_flow_116 : decode cX8_flow 116 = .ok (.iload_n 3, 1) := zdec_at bX8_flow_106 6 rfl
theorem dX8_flow_117 : decode cX8_flow 117 = .ok (.aload_n 0, 1) := zdec_at bX8_flow_106 7 rfl
theorem dX8_flow_118 : decode cX8_flow 118 = .ok (.getfield 247, 3) := zdec_at bX8_flow_106 8 rfl
theorem dX8_flow_121 : decode cX8_flow 121 = .ok (.iload_n 1, 1) := zdec_at bX8_flow_106 9 rfl
theorem dX8_flow_122 : decode cX8_flow 122 = .ok (.iaload, 1) := zdec_at bX8_flow_106 10 rfl
theorem dX8_flow_123 : decode cX8_flow 123 = .ok (.if_icmp .ge 51, 3) := zdec_at bX8_flow_106 11 rfl
theorem dX8_flow_126 : decode cX8_flow 126 = .ok (.aload_n 0, 1) := zdec_at bX8_flow_106 12 rfl
theorem dX8_flow_127 : decode cX8_flow 127 = .ok (.getfield 250, 3) := zdec_at bX8_flow_106 13 rfl
theorem dX8_flow_130 : decode cX8_flow 130 = .ok (.bipush 40, 2) := zdec_at bX8_flow_106 14 rfl
theorem dX8_flow_132 : decode cX8_flow 132 = .ok (.iload_n 1, 1) := zdec_at bX8_flow_106 15 rfl
theorem bX8_flow_133 : zdec cX8_flow 133 [(133, .imul, 1), (134, .iload_n 3, 1), (135, .iadd, 1), (136, .aload_n 0, 1), (137, .getfield 250, 3), (140, .sipush 25560, 3), (143, .iload_n 3, 1), (144, .iadd, 1), (145, .iaload, 1), (146, .iastore, 1), (147, .aload_n 0, 1), (148, .getfield 253, 3), (151, .bipush 40, 2), (153, .iload_n 1, 1), (154, .imul, 1), (155, .iload_n 3, 1)] = true := by decide +kernel
theorem dX8_flow_133 : decode cX8_flow 133 = .ok (.imul, 1) := zdec_at bX8_flow_133 0 rfl
theorem dX8_flow_134 : decode cX8_flow 134 = .ok (.iload_n 3, 1) := zdec_at bX8_flow_133 1 rfl
theorem dX8_flow_135 : decode cX8_flow 135 = .ok (.iadd, 1) := zdec_at bX8_flow_133 2 rfl
theorem dX8_flow_136 : decode cX8_flow 136 = .ok (.aload_n 0, 1) := zdec_at bX8_flow_133 3 rfl
theorem dX8_flow_137 : decode cX8_flow 137 = .ok (.getfield 250, 3) := zdec_at bX8_flow_133 4 rfl
theorem dX8_flow_140 : decode cX8_flow 140 = .ok (.sipush 25560, 3) := zdec_at bX8_flow_133 5 rfl
theorem dX8_flow_143 : decode cX8_flow 143 = .ok (.iload_n 3, 1) := zdec_at bX8_flow_133 6 rfl
theorem dX8_flow_144 : decode cX8_flow 144 = .ok (.iadd, 1) := zdec_at bX8_flow_133 7 rfl
theorem dX8_flow_145 : decode cX8_flow 145 = .ok (.iaload, 1) := zdec_at bX8_flow_133 8 rfl
theorem dX8_flow_146 : decode cX8_flow 146 = .ok (.iastore, 1) := zdec_at bX8_flow_133 9 rfl
theorem dX8_flow_147 : decode cX8_flow 147 = .ok (.aload_n 0, 1) := zdec_at bX8_flow_133 10 rfl
theorem dX8_flow_148 : decode cX8_flow 148 = .ok (.getfield 253, 3) := zdec_at bX8_flow_133 11 rfl
theorem dX8_flow_151 : decode cX8_flow 151 = .ok (.bipush 40, 2) := zdec_at bX8_flow_133 12 rfl
theorem dX8_flow_153 : decode cX8_flow 153 = .ok (.iload_n 1, 1) := zdec_at bX8_flow_133 13 rfl
theorem dX8_flow_154 : decode cX8_flow 154 = .ok (.imul, 1) := zdec_at bX8_flow_133 14 rfl
theorem dX8_flow_155 : decode cX8_flow 155 = .ok (.iload_n 3, 1) := zdec_at bX8_flow_133 15 rfl
theorem bX8_flow_156 : zdec cX8_flow 156 [(156, .iadd, 1), (157, .aload_n 0, 1), (158, .getfield 253, 3), (161, .sipush 25560, 3), (164, .iload_n 3, 1), (165, .iadd, 1), (166, .iaload, 1), (167, .iastore, 1), (168, .iinc 3 1, 3), (171, .goto (-55), 3), (174, .aload_n 0, 1), (175, .iload_n 1, 1), (176, .invokevirtual 1085, 3), (179, .istore_n 3, 1), (180, .iconst 0, 1), (181, .istore 4, 2)] = true := by decide +kernel
theorem dX8_flow_156 : decode cX8_flow 156 = .ok (.iadd, 1) := zdec_at bX8_flow_156 0 rfl
theorem dX8_flow_157 : decode cX8_flow 157 = .ok (.aload_n 0, 1) := zdec_at bX8_flow_156 1 rfl
theorem dX8_flow_158 : decode cX8_flow 158 = .ok (.getfield 253, 3) := zdec_at bX8_flow_156 2 rfl
theorem dX8_flow_161 : decode cX8_flow 161 = .ok (.sipush 25560, 3) := zdec_at bX8_flow_156 3 rfl
theorem dX8_flow_164 : decode cX8_flow 164 = .ok (.iload_n 3, 1) := zdec_at bX8_flow_156 4 rfl
theorem dX8_flow_165 : decode cX8_flow 165 = .ok (.iadd, 1) := zdec_at bX8_flow_156 5 rfl
theorem dX8_flow_166 : decode cX8_flow 166 = .ok (.iaload, 1) := zdec_at bX8_flow_156 6 rfl
theorem dX8_flow_167 : decode cX8_flow 167 = .ok (.iastore, 1) := zdec_at bX8_flow_156 7 rfl
theorem dX8_flow_168 : decode cX8_flow 168 = .ok (.iinc 3 1, 3) := zdec_at bX8_flow_156 8 rfl
theorem dX8_flow_171 : decode cX8_flow 171 = .ok (.goto (-55), 3) := zdec_at bX8_flow_156 9 rfl
theorem dX8_flow_174 : decode cX8_flow 174 = .ok (.aload_n 0, 1) := zdec_at bX8_flow_156 10 rfl
theorem dX8_flow_175 : decode cX8_flow 175 = .ok (.iload_n 1, 1) := zdec_at bX8_flow_156 11 rfl
theorem dX8_flow_176 : decode cX8_flow 176 = .ok (.invokevirtual 1085, 3) := zdec_at bX8_flow_156 12 rfl
theorem dX8_flow_179 : decode cX8_flow 179 = .ok (.istore_n 3, 1) := zdec_at bX8_flow_156 13 rfl
theorem dX8_flow_180 : decode cX8_flow 180 = .ok (.iconst 0, 1) := zdec_at bX8_flow_156 14 rfl
theorem dX8_flow_181 : decode cX8_flow 181 = .ok (.istore 4, 2) := zdec_at bX8_flow_156 15 rfl
theorem bX8_flow_183 : zdec cX8_flow 183 [(183, .iload 4, 2), (185, .aload_n 0, 1), (186, .getfield 765, 3), (189, .aload_n 0, 1), (190, .getfield 762, 3), (193, .iconst 1, 1), (194, .iadd, 1), (195, .imul, 1), (196, .if_icmp .ge 36, 3), (199, .aload_n 0, 1), (200, .ldc_w 1084, 3), (203, .iload 4, 2), (205, .iadd, 1), (206, .iload_n 3, 1), (207, .iload 4, 2), (209, .iadd, 1)] = true := by decide +kernel
theorem dX8_flow_183 : decode cX8_flow 183 = .ok (.iload 4, 2) := zdec_at bX8_flow_183 0 rfl
theorem dX8_flow_185 : decode cX8_flow 185 = .ok (.aload_n 0, 1) := zdec_at bX8_flow_183 1 rfl
theorem dX8_flow_186 : decode cX8_flow 186 = .ok (.getfield 765, 3) := zdec_at bX8_flow_183 2 rfl
theorem dX8_flow_189 : decode cX8_flow 189 = .ok (.aload_n 0, 1) := zdec_at bX8_flow_183 3 rfl
theorem dX8_flow_190 : decode cX8_flow 190 = .ok (.getfield 762, 3) := zdec_at bX8_flow_183 4 rfl
theorem dX8_flow_193 : decode cX8_flow 193 = .ok (.iconst 1, 1) := zdec_at bX8_flow_183 5 rfl
theorem dX8_flow_194 : decode cX8_flow 194 = .ok (.iadd, 1) := zdec_at bX8_flow_183 6 rfl
theorem dX8_flow_195 : decode cX8_flow 195 = .ok (.imul, 1) := zdec_at bX8_flow_183 7 rfl
theorem dX8_flow_196 : decode cX8_flow 196 = .ok (.if_icmp .ge 36, 3) := zdec_at bX8_flow_183 8 rfl
theorem dX8_flow_199 : decode cX8_flow 199 = .ok (.aload_n 0, 1) := zdec_at bX8_flow_183 9 rfl
theorem dX8_flow_200 : decode cX8_flow 200 = .ok (.ldc_w 1084, 3) := zdec_at bX8_flow_183 10 rfl
theorem dX8_flow_203 : decode cX8_flow 203 = .ok (.iload 4, 2) := zdec_at bX8_flow_183 11 rfl
theorem dX8_flow_205 : decode cX8_flow 205 = .ok (.iadd, 1) := zdec_at bX8_flow_183 12 rfl
theorem dX8_flow_206 : decode cX8_flow 206 = .ok (.iload_n 3, 1) := zdec_at bX8_flow_183 13 rfl
theorem dX8_flow_207 : decode cX8_flow 207 = .ok (.iload 4, 2) := zdec_at bX8_flow_183 14 rfl
theorem dX8_flow_209 : decode cX8_flow 209 = .ok (.iadd, 1) := zdec_at bX8_flow_183 15 rfl
theorem bX8_flow_210 : zdec cX8_flow 210 [(210, .invokevirtual 1069, 3), (213, .ifCond .ne 7, 3), (216, .iload_n 2, 1), (217, .ifCond .eq 7, 3), (220, .iconst 1, 1), (221, .goto 4, 3), (224, .iconst 0, 1), (225, .istore_n 2, 1), (226, .iinc 4 1, 3), (229, .goto (-46), 3), (232, .iconst 0, 1), (233, .istore 4, 2), (235, .iload 4, 2), (237, .aload_n 0, 1), (238, .getfield 235, 3), (241, .iload_n 1, 1)] = true := by decide +kernel
theorem dX8_flow_210 : decode cX8_flow 210 = .ok (.invokevirtual 1069, 3) := zdec_at bX8_flow_210 0 rfl
theorem dX8_flow_213 : decode cX8_flow 213 = .ok (.ifCond .ne 7, 3) := zdec_at bX8_flow_210 1 rfl
theorem dX8_flow_216 : decode cX8_flow 216 = .ok (.iload_n 2, 1) := zdec_at bX8_flow_210 2 rfl
theorem dX8_flow_217 : decode cX8_flow 217 = .ok (.ifCond .eq 7, 3) := zdec_at bX8_flow_210 3 rfl
theorem dX8_flow_220 : decode cX8_flow 220 = .ok (.iconst 1, 1) := zdec_at bX8_flow_210 4 rfl
theorem dX8_flow_221 : decode cX8_flow 221 = .ok (.goto 4, 3) := zdec_at bX8_flow_210 5 rfl
theorem dX8_flow_224 : decode cX8_flow 224 = .ok (.iconst 0, 1) := zdec_at bX8_flow_210 6 rfl
theorem dX8_flow_225 : decode cX8_flow 225 = .ok (.istore_n 2, 1) := zdec_at bX8_flow_210 7 rfl
theorem dX8_flow_226 : decode cX8_flow 226 = .ok (.iinc 4 1, 3) := zdec_at bX8_flow_210 8 rfl
theorem dX8_flow_229 : decode cX8_flow 229 = .ok (.goto (-46), 3) := zdec_at bX8_flow_210 9 rfl
theorem dX8_flow_232 : decode cX8_flow 232 = .ok (.iconst 0, 1) := zdec_at bX8_flow_210 10 rfl
theorem dX8_flow_233 : decode cX8_flow 233 = .ok (.istore 4, 2) := zdec_at bX8_flow_210 11 rfl
theorem dX8_flow_235 : decode cX8_flow 235 = .ok (.iload 4, 2) := zdec_at bX8_flow_210 12 rfl
theorem dX8_flow_237 : decode cX8_flow 237 = .ok (.aload_n 0, 1) := zdec_at bX8_flow_210 13 rfl
theorem dX8_flow_238 : decode cX8_flow 238 = .ok (.getfield 235, 3) := zdec_at bX8_flow_210 14 rfl
theorem dX8_flow_241 : decode cX8_flow 241 = .ok (.iload_n 1, 1) := zdec_at bX8_flow_210 15 rfl
theorem bX8_flow_242 : zdec cX8_flow 242 [(242, .iaload, 1), (243, .if_icmp .ge 46, 3), (246, .aload_n 0, 1), (247, .aload_n 0, 1), (248, .getfield 238, 3), (251, .sipush 639, 3), (254, .iaload, 1), (255, .iload 4, 2), (257, .iadd, 1), (258, .aload_n 0, 1), (259, .getfield 238, 3), (262, .iload_n 1, 1), (263, .iaload, 1), (264, .iload 4, 2), (266, .iadd, 1), (267, .invokevirtual 1069, 3)] = true := by decide +kernel
theorem dX8_flow_242 : decode cX8_flow 242 = .ok (.iaload, 1) := zdec_at bX8_flow_242 0 rfl
theorem dX8_flow_243 : decode cX8_flow 243 = .ok (.if_icmp .ge 46, 3) := zdec_at bX8_flow_242 1 rfl
theorem dX8_flow_246 : decode cX8_flow 246 = .ok (.aload_n 0, 1) := zdec_at bX8_flow_242 2 rfl
theorem dX8_flow_247 : decode cX8_flow 247 = .ok (.aload_n 0, 1) := zdec_at bX8_flow_242 3 rfl
theorem dX8_flow_248 : decode cX8_flow 248 = .ok (.getfield 238, 3) := zdec_at bX8_flow_242 4 rfl
theorem dX8_flow_251 : decode cX8_flow 251 = .ok (.sipush 639, 3) := zdec_at bX8_flow_242 5 rfl
theorem dX8_flow_254 : decode cX8_flow 254 = .ok (.iaload, 1) := zdec_at bX8_flow_242 6 rfl
theorem dX8_flow_255 : decode cX8_flow 255 = .ok (.iload 4, 2) := zdec_at bX8_flow_242 7 rfl
theorem dX8_flow_257 : decode cX8_flow 257 = .ok (.iadd, 1) := zdec_at bX8_flow_242 8 rfl
theorem dX8_flow_258 : decode cX8_flow 258 = .ok (.aload_n 0, 1) := zdec_at bX8_flow_242 9 rfl
theorem dX8_flow_259 : decode cX8_flow 259 = .ok (.getfield 238, 3) := zdec_at bX8_flow_242 10 rfl
theorem dX8_flow_262 : decode cX8_flow 262 = .ok (.iload_n 1, 1) := zdec_at bX8_flow_242 11 rfl
theorem dX8_flow_263 : decode cX8_flow 263 = .ok (.iaload, 1) := zdec_at bX8_flow_242 12 rfl
theorem dX8_flow_264 : decode cX8_flow 264 = .ok (.iload 4, 2) := zdec_at bX8_flow_242 13 rfl
theorem dX8_flow_266 : decode cX8_flow 266 = .ok (.iadd, 1) := zdec_at bX8_flow_242 14 rfl
theorem dX8_flow_267 : decode cX8_flow 267 = .ok (.invokevirtual 1069, 3) := zdec_at bX8_flow_242 15 rfl
theorem bX8_flow_270 : zdec cX8_flow 270 [(270, .ifCond .ne 7, 3), (273, .iload_n 2, 1), (274, .ifCond .eq 7, 3), (277, .iconst 1, 1), (278, .goto 4, 3), (281, .iconst 0, 1), (282, .istore_n 2, 1), (283, .iinc 4 1, 3), (286, .goto (-51), 3), (289, .aload_n 0, 1), (290, .aload_n 0, 1), (291, .sipush 639, 3), (294, .invokevirtual 1098, 3), (297, .aload_n 0, 1), (298, .iload_n 1, 1), (299, .invokevirtual 1098, 3)] = true := by decide +kernel
theorem dX8_flow_270 : decode cX8_flow 270 = .ok (.ifCond .ne 7, 3) := zdec_at bX8_flow_270 0 rfl
theorem dX8_flow_273 : decode cX8_flow 273 = .ok (.iload_n 2, 1) := zdec_at bX8_flow_270 1 rfl
theorem dX8_flow_274 : decode cX8_flow 274 = .ok (.ifCond .eq 7, 3) := zdec_at bX8_flow_270 2 rfl
theorem dX8_flow_277 : decode cX8_flow 277 = .ok (.iconst 1, 1) := zdec_at bX8_flow_270 3 rfl
theorem dX8_flow_278 : decode cX8_flow 278 = .ok (.goto 4, 3) := zdec_at bX8_flow_270 4 rfl
theorem dX8_flow_281 : decode cX8_flow 281 = .ok (.iconst 0, 1) := zdec_at bX8_flow_270 5 rfl
theorem dX8_flow_282 : decode cX8_flow 282 = .ok (.istore_n 2, 1) := zdec_at bX8_flow_270 6 rfl
theorem dX8_flow_283 : decode cX8_flow 283 = .ok (.iinc 4 1, 3) := zdec_at bX8_flow_270 7 rfl
theorem dX8_flow_286 : decode cX8_flow 286 = .ok (.goto (-51), 3) := zdec_at bX8_flow_270 8 rfl
theorem dX8_flow_289 : decode cX8_flow 289 = .ok (.aload_n 0, 1) := zdec_at bX8_flow_270 9 rfl
theorem dX8_flow_290 : decode cX8_flow 290 = .ok (.aload_n 0, 1) := zdec_at bX8_flow_270 10 rfl
theorem dX8_flow_291 : decode cX8_flow 291 = .ok (.sipush 639, 3) := zdec_at bX8_flow_270 11 rfl
theorem dX8_flow_294 : decode cX8_flow 294 = .ok (.invokevirtual 1098, 3) := zdec_at bX8_flow_270 12 rfl
theorem dX8_flow_297 : decode cX8_flow 297 = .ok (.aload_n 0, 1) := zdec_at bX8_flow_270 13 rfl
theorem dX8_flow_298 : decode cX8_flow 298 = .ok (.iload_n 1, 1) := zdec_at bX8_flow_270 14 rfl
theorem dX8_flow_299 : decode cX8_flow 299 = .ok (.invokevirtual 1098, 3) := zdec_at bX8_flow_270 15 rfl
theorem bX8_flow_302 : zdec cX8_flow 302 [(302, .invokevirtual 1069, 3), (305, .ifCond .ne 7, 3), (308, .iload_n 2, 1), (309, .ifCond .eq 7, 3), (312, .iconst 1, 1), (313, .goto 4, 3), (316, .iconst 0, 1), (317, .istore_n 2, 1), (318, .iload_n 2, 1), (319, .ifCond .ne 51, 3), (322, .aload_n 0, 1), (323, .getfield 241, 3), (326, .sipush 639, 3), (329, .laload, 1), (330, .aload_n 0, 1), (331, .getfield 241, 3)] = true := by decide +kernel
theorem dX8_flow_302 : decode cX8_flow 302 = .ok (.invokevirtual 1069, 3) := zdec_at bX8_flow_302 0 rfl
theorem dX8_flow_305 : decode cX8_flow 305 = .ok (.ifCond .ne 7, 3) := zdec_at bX8_flow_302 1 rfl
theorem dX8_flow_308 : decode cX8_flow 308 = .ok (.iload_n 2, 1) := zdec_at bX8_flow_302 2 rfl
theorem dX8_flow_309 : decode cX8_flow 309 = .ok (.ifCond .eq 7, 3) := zdec_at bX8_flow_302 3 rfl
theorem dX8_flow_312 : decode cX8_flow 312 = .ok (.iconst 1, 1) := zdec_at bX8_flow_302 4 rfl
theorem dX8_flow_313 : decode cX8_flow 313 = .ok (.goto 4, 3) := zdec_at bX8_flow_302 5 rfl
theorem dX8_flow_316 : decode cX8_flow 316 = .ok (.iconst 0, 1) := zdec_at bX8_flow_302 6 rfl
theorem dX8_flow_317 : decode cX8_flow 317 = .ok (.istore_n 2, 1) := zdec_at bX8_flow_302 7 rfl
theorem dX8_flow_318 : decode cX8_flow 318 = .ok (.iload_n 2, 1) := zdec_at bX8_flow_302 8 rfl
theorem dX8_flow_319 : decode cX8_flow 319 = .ok (.ifCond .ne 51, 3) := zdec_at bX8_flow_302 9 rfl
theorem dX8_flow_322 : decode cX8_flow 322 = .ok (.aload_n 0, 1) := zdec_at bX8_flow_302 10 rfl
theorem dX8_flow_323 : decode cX8_flow 323 = .ok (.getfield 241, 3) := zdec_at bX8_flow_302 11 rfl
theorem dX8_flow_326 : decode cX8_flow 326 = .ok (.sipush 639, 3) := zdec_at bX8_flow_302 12 rfl
theorem dX8_flow_329 : decode cX8_flow 329 = .ok (.laload, 1) := zdec_at bX8_flow_302 13 rfl
theorem dX8_flow_330 : decode cX8_flow 330 = .ok (.aload_n 0, 1) := zdec_at bX8_flow_302 14 rfl
theorem dX8_flow_331 : decode cX8_flow 331 = .ok (.getfield 241, 3) := zdec_at bX8_flow_302 15 rfl
theorem bX8_flow_334 : zdec cX8_flow 334 [(334, .iload_n 1, 1), (335, .laload, 1), (336, .ldc2_w 1110, 3), (339, .lxor, 1), (340, .land, 1), (341, .lconst 0, 1), (342, .lcmp, 1), (343, .ifCond .ne 27, 3), (346, .aload_n 0, 1), (347, .getfield 244, 3), (350, .sipush 639, 3), (353, .laload, 1), (354, .aload_n 0, 1), (355, .getfield 244, 3), (358, .iload_n 1, 1), (359, .laload, 1)] = true := by decide +kernel
theorem dX8_flow_334 : decode cX8_flow 334 = .ok (.iload_n 1, 1) := zdec_at bX8_flow_334 0 rfl
theorem dX8_flow_335 : decode cX8_flow 335 = .ok (.laload, 1) := zdec_at bX8_flow_334 1 rfl
theorem dX8_flow_336 : decode cX8_flow 336 = .ok (.ldc2_w 1110, 3) := zdec_at bX8_flow_334 2 rfl
theorem dX8_flow_339 : decode cX8_flow 339 = .ok (.lxor, 1) := zdec_at bX8_flow_334 3 rfl
theorem dX8_flow_340 : decode cX8_flow 340 = .ok (.land, 1) := zdec_at bX8_flow_334 4 rfl
theorem dX8_flow_341 : decode cX8_flow 341 = .ok (.lconst 0, 1) := zdec_at bX8_flow_334 5 rfl
theorem dX8_flow_342 : decode cX8_flow 342 = .ok (.lcmp, 1) := zdec_at bX8_flow_334 6 rfl
theorem dX8_flow_343 : decode cX8_flow 343 = .ok (.ifCond .ne 27, 3) := zdec_at bX8_flow_334 7 rfl
theorem dX8_flow_346 : decode cX8_flow 346 = .ok (.aload_n 0, 1) := zdec_at bX8_flow_334 8 rfl
theorem dX8_flow_347 : decode cX8_flow 347 = .ok (.getfield 244, 3) := zdec_at bX8_flow_334 9 rfl
theorem dX8_flow_350 : decode cX8_flow 350 = .ok (.sipush 639, 3) := zdec_at bX8_flow_334 10 rfl
theorem dX8_flow_353 : decode cX8_flow 353 = .ok (.laload, 1) := zdec_at bX8_flow_334 11 rfl
theorem dX8_flow_354 : decode cX8_flow 354 = .ok (.aload_n 0, 1) := zdec_at bX8_flow_334 12 rfl
theorem dX8_flow_355 : decode cX8_flow 355 = .ok (.getfield 244, 3) := zdec_at bX8_flow_334 13 rfl
theorem dX8_flow_358 : decode cX8_flow 358 = .ok (.iload_n 1, 1) := zdec_at bX8_flow_334 14 rfl
theorem dX8_flow_359 : decode cX8_flow 359 = .ok (.laload, 1) := zdec_at bX8_flow_334 15 rfl
theorem bX8_flow_360 : zdec cX8_flow 360 [(360, .ldc2_w 1110, 3), (363, .lxor, 1), (364, .land, 1), (365, .lconst 0, 1), (366, .lcmp, 1), (367, .ifCond .eq 7, 3), (370, .iconst 1, 1), (371, .goto 4, 3), (374, .iconst 0, 1), (375, .istore_n 2, 1), (376, .aload_n 0, 1), (377, .getfield 241, 3), (380, .iload_n 1, 1), (381, .aload_n 0, 1), (382, .getfield 241, 3), (385, .iload_n 1, 1)] = true := by decide +kernel
theorem dX8_flow_360 : decode cX8_flow 360 = .ok (.ldc2_w 1110, 3) := zdec_at bX8_flow_360 0 rfl
theorem dX8_flow_363 : decode cX8_flow 363 = .ok (.lxor, 1) := zdec_at bX8_flow_360 1 rfl
theorem dX8_flow_364 : decode cX8_flow 364 = .ok (.land, 1) := zdec_at bX8_flow_360 2 rfl
theorem dX8_flow_365 : decode cX8_flow 365 = .ok (.lconst 0, 1) := zdec_at bX8_flow_360 3 rfl
theorem dX8_flow_366 : decode cX8_flow 366 = .ok (.lcmp, 1) := zdec_at bX8_flow_360 4 rfl
theorem dX8_flow_367 : decode cX8_flow 367 = .ok (.ifCond .eq 7, 3) := zdec_at bX8_flow_360 5 rfl
theorem dX8_flow_370 : decode cX8_flow 370 = .ok (.iconst 1, 1) := zdec_at bX8_flow_360 6 rfl
theorem dX8_flow_371 : decode cX8_flow 371 = .ok (.goto 4, 3) := zdec_at bX8_flow_360 7 rfl
theorem dX8_flow_374 : decode cX8_flow 374 = .ok (.iconst 0, 1) := zdec_at bX8_flow_360 8 rfl
theorem dX8_flow_375 : decode cX8_flow 375 = .ok (.istore_n 2, 1) := zdec_at bX8_flow_360 9 rfl
theorem dX8_flow_376 : decode cX8_flow 376 = .ok (.aload_n 0, 1) := zdec_at bX8_flow_360 10 rfl
theorem dX8_flow_377 : decode cX8_flow 377 = .ok (.getfield 241, 3) := zdec_at bX8_flow_360 11 rfl
theorem dX8_flow_380 : decode cX8_flow 380 = .ok (.iload_n 1, 1) := zdec_at bX8_flow_360 12 rfl
theorem dX8_flow_381 : decode cX8_flow 381 = .ok (.aload_n 0, 1) := zdec_at bX8_flow_360 13 rfl
theorem dX8_flow_382 : decode cX8_flow 382 = .ok (.getfield 241, 3) := zdec_at bX8_flow_360 14 rfl
theorem dX8_flow_385 : decode cX8_flow 385 = .ok (.iload_n 1, 1) := zdec_at bX8_flow_360 15 rfl
theorem bX8_flow_386 : zdec cX8_flow 386 [(386, .laload, 1), (387, .aload_n 0, 1), (388, .getfield 241, 3), (391, .sipush 639, 3), (394, .laload, 1), (395, .lor, 1), (396, .lastore, 1), (397, .aload_n 0, 1), (398, .getfield 244, 3), (401, .iload_n 1, 1), (402, .aload_n 0, 1), (403, .getfield 244, 3), (406, .iload_n 1, 1), (407, .laload, 1), (408, .aload_n 0, 1), (409, .getfield 244, 3)] = true := by decide +kernel
theorem dX8_flow_386 : decode cX8_flow 386 = .ok (.laload, 1) := zdec_at bX8_flow_386 0 rfl
theorem dX8_flow_387 : decode cX8_flow 387 = .ok (.aload_n 0, 1) := zdec_at bX8_flow_386 1 rfl
theorem dX8_flow_388 : decode cX8_flow 388 = .ok (.getfield 241, 3) := zdec_at bX8_flow_386 2 rfl
theorem dX8_flow_391 : decode cX8_flow 391 = .ok (.sipush 639, 3) := zdec_at bX8_flow_386 3 rfl
theorem dX8_flow_394 : decode cX8_flow 394 = .ok (.laload, 1) := zdec_at bX8_flow_386 4 rfl
theorem dX8_flow_395 : decode cX8_flow 395 = .ok (.lor, 1) := zdec_at bX8_flow_386 5 rfl
theorem dX8_flow_396 : decode cX8_flow 396 = .ok (.lastore, 1) := zdec_at bX8_flow_386 6 rfl
theorem dX8_flow_397 : decode cX8_flow 397 = .ok (.aload_n 0, 1) := zdec_at bX8_flow_386 7 rfl
theorem dX8_flow_398 : decode cX8_flow 398 = .ok (.getfield 244, 3) := zdec_at bX8_flow_386 8 rfl
theorem dX8_flow_401 : decode cX8_flow 401 = .ok (.iload_n 1, 1) := zdec_at bX8_flow_386 9 rfl
theorem dX8_flow_402 : decode cX8_flow 402 = .ok (.aload_n 0, 1) := zdec_at bX8_flow_386 10 rfl
theorem dX8_flow_403 : decode cX8_flow 403 = .ok (.getfield 244, 3) := zdec_at bX8_flow_386 11 rfl
theorem dX8_flow_406 : decode cX8_flow 406 = .ok (.iload_n 1, 1) := zdec_at bX8_flow_386 12 rfl
theorem dX8_flow_407 : decode cX8_flow 407 = .ok (.laload, 1) := zdec_at bX8_flow_386 13 rfl
theorem dX8_flow_408 : decode cX8_flow 408 = .ok (.aload_n 0, 1) := zdec_at bX8_flow_386 14 rfl
theorem dX8_flow_409 : decode cX8_flow 409 = .ok (.getfield 244, 3) := zdec_at bX8_flow_386 15 rfl
theorem bX8_flow_412 : zdec cX8_flow 412 [(412, .sipush 639, 3), (415, .laload, 1), (416, .lor, 1), (417, .lastore, 1), (418, .iconst 0, 1), (419, .istore 4, 2), (421, .iload 4, 2), (423, .aload_n 0, 1), (424, .getfield 765, 3), (427, .if_icmp .ge 42, 3), (430, .aload_n 0, 1), (431, .aload_n 0, 1), (432, .sipush 639, 3), (435, .iload 4, 2), (437, .invokevirtual 1101, 3), (440, .aload_n 0, 1)] = true := by decide +kernel
theorem dX8_flow_412 : decode cX8_flow 412 = .ok (.sipush 639, 3) := zdec_at bX8_flow_412 0 rfl
theorem dX8_flow_415 : decode cX8_flow 415 = .ok (.laload, 1) := zdec_at bX8_flow_412 1 rfl
theorem dX8_flow_416 : decode cX8_flow 416 = .ok (.lor, 1) := zdec_at bX8_flow_412 2 rfl
theorem dX8_flow_417 : decode cX8_flow 417 = .ok (.lastore, 1) := zdec_at bX8_flow_412 3 rfl
theorem dX8_flow_418 : decode cX8_flow 418 = .ok (.iconst 0, 1) := zdec_at bX8_flow_412 4 rfl
theorem dX8_flow_419 : decode cX8_flow 419 = .ok (.istore 4, 2) := zdec_at bX8_flow_412 5 rfl
theorem dX8_flow_421 : decode cX8_flow 421 = .ok (.iload 4, 2) := zdec_at bX8_flow_412 6 rfl
theorem dX8_flow_423 : decode cX8_flow 423 = .ok (.aload_n 0, 1) := zdec_at bX8_flow_412 7 rfl
theorem dX8_flow_424 : decode cX8_flow 424 = .ok (.getfield 765, 3) := zdec_at bX8_flow_412 8 rfl
theorem dX8_flow_427 : decode cX8_flow 427 = .ok (.if_icmp .ge 42, 3) := zdec_at bX8_flow_412 9 rfl
theorem dX8_flow_430 : decode cX8_flow 430 = .ok (.aload_n 0, 1) := zdec_at bX8_flow_412 10 rfl
theorem dX8_flow_431 : decode cX8_flow 431 = .ok (.aload_n 0, 1) := zdec_at bX8_flow_412 11 rfl
theorem dX8_flow_432 : decode cX8_flow 432 = .ok (.sipush 639, 3) := zdec_at bX8_flow_412 12 rfl
theorem dX8_flow_435 : decode cX8_flow 435 = .ok (.iload 4, 2) := zdec_at bX8_flow_412 13 rfl
theorem dX8_flow_437 : decode cX8_flow 437 = .ok (.invokevirtual 1101, 3) := zdec_at bX8_flow_412 14 rfl
theorem dX8_flow_440 : decode cX8_flow 440 = .ok (.aload_n 0, 1) := zdec_at bX8_flow_412 15 rfl
theorem bX8_flow_441 : zdec cX8_flow 441 [(441, .iload_n 1, 1), (442, .iload 4, 2), (444, .invokevirtual 1101, 3), (447, .invokevirtual 1112, 3), (450, .ifCond .ne 7, 3), (453, .iload_n 2, 1), (454, .ifCond .eq 7, 3), (457, .iconst 1, 1), (458, .goto 4, 3), (461, .iconst 0, 1), (462, .istore_n 2, 1), (463, .iinc 4 1, 3), (466, .goto (-45), 3), (469, .iload_n 2, 1), (470, .ifCond .ne 4, 3), (473, .return_, 1)] = true := by decide +kernel
theorem dX8_flow_441 : decode cX8_flow 441 = .ok (.iload_n 1, 1) := zdec_at bX8_flow_441 0 rfl
theorem dX8_flow_442 : decode cX8_flow 442 = .ok (.iload 4, 2) := zdec_at bX8_flow_441 1 rfl
theorem dX8_flow_444 : decode cX8_flow 444 = .ok (.invokevirtual 1101, 3) := zdec_at bX8_flow_441 2 rfl
theorem dX8_flow_447 : decode cX8_flow 447 = .ok (.invokevirtual 1112, 3) := zdec_at bX8_flow_441 3 rfl
theorem dX8_flow_450 : decode cX8_flow 450 = .ok (.ifCond .ne 7, 3) := zdec_at bX8_flow_441 4 rfl
theorem dX8_flow_453 : decode cX8_flow 453 = .ok (.iload_n 2, 1) := zdec_at bX8_flow_441 5 rfl
theorem dX8_flow_454 : decode cX8_flow 454 = .ok (.ifCond .eq 7, 3) := zdec_at bX8_flow_441 6 rfl
theorem dX8_flow_457 : decode cX8_flow 457 = .ok (.iconst 1, 1) := zdec_at bX8_flow_441 7 rfl
theorem dX8_flow_458 : decode cX8_flow 458 = .ok (.goto 4, 3) := zdec_at bX8_flow_441 8 rfl
theorem dX8_flow_461 : decode cX8_flow 461 = .ok (.iconst 0, 1) := zdec_at bX8_flow_441 9 rfl
theorem dX8_flow_462 : decode cX8_flow 462 = .ok (.istore_n 2, 1) := zdec_at bX8_flow_441 10 rfl
theorem dX8_flow_463 : decode cX8_flow 463 = .ok (.iinc 4 1, 3) := zdec_at bX8_flow_441 11 rfl
theorem dX8_flow_466 : decode cX8_flow 466 = .ok (.goto (-45), 3) := zdec_at bX8_flow_441 12 rfl
theorem dX8_flow_469 : decode cX8_flow 469 = .ok (.iload_n 2, 1) := zdec_at bX8_flow_441 13 rfl
theorem dX8_flow_470 : decode cX8_flow 470 = .ok (.ifCond .ne 4, 3) := zdec_at bX8_flow_441 14 rfl
theorem dX8_flow_473 : decode cX8_flow 473 = .ok (.return_, 1) := zdec_at bX8_flow_441 15 rfl
theorem bX8_flow_474 : zdec cX8_flow 474 [(474, .iload_n 1, 1), (475, .aload_n 0, 1), (476, .getfield 606, 3), (479, .if_icmp .ge 13, 3), (482, .aload_n 0, 1), (483, .getfield 229, 3), (486, .iload_n 1, 1), (487, .iconst 1, 1), (488, .bastore, 1), (489, .goto 77, 3), (492, .iconst 0, 1), (493, .istore 4, 2), (495, .iload 4, 2), (497, .aload_n 0, 1), (498, .getfield 606, 3), (501, .if_icmp .ge 65, 3)] = true := by decide +kernel
theorem dX8_flow_474 : decode cX8_flow 474 = .ok (.iload_n 1, 1) := zdec_at bX8_flow_474 0 rfl
theorem dX8_flow_475 : decode cX8_flow 475 = .ok (.aload_n 0, 1) := zdec_at bX8_flow_474 1 rfl
theorem dX8_flow_476 : decode cX8_flow 476 = .ok (.getfield 606, 3) := zdec_at bX8_flow_474 2 rfl
theorem dX8_flow_479 : decode cX8_flow 479 = .ok (.if_icmp .ge 13, 3) := zdec_at bX8_flow_474 3 rfl
theorem dX8_flow_482 : decode cX8_flow 482 = .ok (.aload_n 0, 1) := zdec_at bX8_flow_474 4 rfl
theorem dX8_flow_483 : decode cX8_flow 483 = .ok (.getfield 229, 3) := zdec_at bX8_flow_474 5 rfl
theorem dX8_flow_486 : decode cX8_flow 486 = .ok (.iload_n 1, 1) := zdec_at bX8_flow_474 6 rfl
theorem dX8_flow_487 : decode cX8_flow 487 = .ok (.iconst 1, 1) := zdec_at bX8_flow_474 7 rfl
theorem dX8_flow_488 : decode cX8_flow 488 = .ok (.bastore, 1) := zdec_at bX8_flow_474 8 rfl
theorem dX8_flow_489 : decode cX8_flow 489 = .ok (.goto 77, 3) := zdec_at bX8_flow_474 9 rfl
theorem dX8_flow_492 : decode cX8_flow 492 = .ok (.iconst 0, 1) := zdec_at bX8_flow_474 10 rfl
theorem dX8_flow_493 : decode cX8_flow 493 = .ok (.istore 4, 2) := zdec_at bX8_flow_474 11 rfl
theorem dX8_flow_495 : decode cX8_flow 495 = .ok (.iload 4, 2) := zdec_at bX8_flow_474 12 rfl
theorem dX8_flow_497 : decode cX8_flow 497 = .ok (.aload_n 0, 1) := zdec_at bX8_flow_474 13 rfl
theorem dX8_flow_498 : decode cX8_flow 498 = .ok (.getfield 606, 3) := zdec_at bX8_flow_474 14 rfl
theorem dX8_flow_501 : decode cX8_flow 501 = .ok (.if_icmp .ge 65, 3) := zdec_at bX8_flow_474 15 rfl
theorem bX8_flow_504 : zdec cX8_flow 504 [(504, .aload_n 0, 1), (505, .getfield 229, 3), (508, .iload 4, 2), (510, .aload_n 0, 1), (511, .getfield 229, 3), (514, .iload 4, 2), (516, .baload, 1), (517, .ifCond .ne 37, 3), (520, .aload_n 0, 1), (521, .getfield 226, 3), (524, .iload 4, 2), (526, .baload, 1), (527, .ifCond .eq 31, 3), (530, .aload_n 0, 1), (531, .getfield 89, 3), (534, .iload 4, 2)] = true := by decide +kernel
theorem dX8_flow_504 : decode cX8_flow 504 = .ok (.aload_n 0, 1) := zdec_at bX8_flow_504 0 rfl
theorem dX8_flow_505 : decode cX8_flow 505 = .ok (.getfield 229, 3) := zdec_at bX8_flow_504 1 rfl
theorem dX8_flow_508 : decode cX8_flow 508 = .ok (.iload 4, 2) := zdec_at bX8_flow_504 2 rfl
theorem dX8_flow_510 : decode cX8_flow 510 = .ok (.aload_n 0, 1) := zdec_at bX8_flow_504 3 rfl
theorem dX8_flow_511 : decode cX8_flow 511 = .ok (.getfield 229, 3) := zdec_at bX8_flow_504 4 rfl
theorem dX8_flow_514 : decode cX8_flow 514 = .ok (.iload 4, 2) := zdec_at bX8_flow_504 5 rfl
theorem dX8_flow_516 : decode cX8_flow 516 = .ok (.baload, 1) := zdec_at bX8_flow_504 6 rfl
theorem dX8_flow_517 : decode cX8_flow 517 = .ok (.ifCond .ne 37, 3) := zdec_at bX8_flow_504 7 rfl
theorem dX8_flow_520 : decode cX8_flow 520 = .ok (.aload_n 0, 1) := zdec_at bX8_flow_504 8 rfl
theorem dX8_flow_521 : decode cX8_flow 521 = .ok (.getfield 226, 3) := zdec_at bX8_flow_504 9 rfl
theorem dX8_flow_524 : decode cX8_flow 524 = .ok (.iload 4, 2) := zdec_at bX8_flow_504 10 rfl
theorem dX8_flow_526 : decode cX8_flow 526 = .ok (.baload, 1) := zdec_at bX8_flow_504 11 rfl
theorem dX8_flow_527 : decode cX8_flow 527 = .ok (.ifCond .eq 31, 3) := zdec_at bX8_flow_504 12 rfl
theorem dX8_flow_530 : decode cX8_flow 530 = .ok (.aload_n 0, 1) := zdec_at bX8_flow_504 13 rfl
theorem dX8_flow_531 : decode cX8_flow 531 = .ok (.getfield 89, 3) := zdec_at bX8_flow_504 14 rfl
theorem dX8_flow_534 : decode cX8_flow 534 = .ok (.iload 4, 2) := zdec_at bX8_flow_504 15 rfl
theorem bX8_flow_536 : zdec cX8_flow 536 [(536, .iaload, 1), (537, .bipush 15, 2), (539, .if_icmp .eq 15, 3), (542, .aload_n 0, 1), (543, .getfield 89, 3), (546, .iload 4, 2), (548, .iaload, 1), (549, .bipush 16, 2), (551, .if_icmp .ne 7, 3), (554, .iconst 1, 1), (555, .goto 4, 3), (558, .iconst 0, 1), (559, .bastore, 1), (560, .iinc 4 1, 3), (563, .goto (-68), 3), (566, .return_, 1)] = true := by decide +kernel
theorem dX8_flow_536 : decode cX8_flow 536 = .ok (.iaload, 1) := zdec_at bX8_flow_536 0 rfl
theorem dX8_flow_537 : decode cX8_flow 537 = .ok (.bipush 15, 2) := zdec_at bX8_flow_536 1 rfl
theorem dX8_flow_539 : decode cX8_flow 539 = .ok (.if_icmp .eq 15, 3) := zdec_at bX8_flow_536 2 rfl
theorem dX8_flow_542 : decode cX8_flow 542 = .ok (.aload_n 0, 1) := zdec_at bX8_flow_536 3 rfl
theorem dX8_flow_543 : decode cX8_flow 543 = .ok (.getfield 89, 3) := zdec_at bX8_flow_536 4 rfl
theorem dX8_flow_546 : decode cX8_flow 546 = .ok (.iload 4, 2) := zdec_at bX8_flow_536 5 rfl
theorem dX8_flow_548 : decode cX8_flow 548 = .ok (.iaload, 1) := zdec_at bX8_flow_536 6 rfl
theorem dX8_flow_549 : decode cX8_flow 549 = .ok (.bipush 16, 2) := zdec_at bX8_flow_536 7 rfl
theorem dX8_flow_551 : decode cX8_flow 551 = .ok (.if_icmp .ne 7, 3) := zdec_at bX8_flow_536 8 rfl
theorem dX8_flow_554 : decode cX8_flow 554 = .ok (.iconst 1, 1) := zdec_at bX8_flow_536 9 rfl
theorem dX8_flow_555 : decode cX8_flow 555 = .ok (.goto 4, 3) := zdec_at bX8_flow_536 10 rfl
theorem dX8_flow_558 : decode cX8_flow 558 = .ok (.iconst 0, 1) := zdec_at bX8_flow_536 11 rfl
theorem dX8_flow_559 : decode cX8_flow 559 = .ok (.bastore, 1) := zdec_at bX8_flow_536 12 rfl
theorem dX8_flow_560 : decode cX8_flow 560 = .ok (.iinc 4 1, 3) := zdec_at bX8_flow_536 13 rfl
theorem dX8_flow_563 : decode cX8_flow 563 = .ok (.goto (-68), 3) := zdec_at bX8_flow_536 14 rfl
theorem dX8_flow_566 : decode cX8_flow 566 = .ok (.return_, 1) := zdec_at bX8_flow_536 15 rfl
theorem sX8_flow_0 {E : zE} {d : Nat} {Q : zO → zM → Prop} (M : zM) (l1 : Int32) (k : vp_in l1 640 ∧ (if (gi M 168 (l1).toNatClampNeg) = 0 then (Zm E YX8_flow (d + 1) M [(0, vr (some (97, 1, 0))), (1, vi l1)] 14 [vi (1 : Int32)] Q) else (Zm E YX8_flow (d + 1) M [(0, vr (some (97, 1, 0))), (1, vi l1)] 14 [vi (0 : Int32)] Q))) : Zm E YX8_flow (d + 1) M [(0, vr (some (97, 1, 0))), (1, vi l1)] 0 [] Q := by
  refine Zm.l (fun _ _ k_ => z_aload_n dX8_flow_0 rfl rfl k_) ?_
  refine zm_getr 65 dX8_flow_1 fsX8_226_1 rfl ?_
  refine Zm.l (fun _ _ k_ => z_iload_n dX8_flow_4 rfl rfl k_) ?_
  obtain ⟨b_, k⟩ := k
  refine zm_zald dX8_flow_5 b_ (by decide) (by decide) ?_
  refine Zm.brn (fun _ _ k1_ k2_ => z_if_ne (tgt := 13) dX8_flow_6 rfl k1_ k2_) (fun h_ => ?_) (fun h_ => ?_)
  · have k := zif h_ k
    refine Zm.l (fun _ _ k_ => z_iconst (v := 0) dX8_flow_13 rfl k_) ?_
    exact k
  · have k := zit h_ k
    refine Zm.l (fun _ _ k_ => z_iconst (v := 1) dX8_flow_9 rfl k_) ?_
    refine Zm.l (fun _ _ k_ => z_goto (tgt := 14) dX8_flow_10 rfl k_) ?_
    exact k
theorem sX8_flow_14 {E : zE} {d : Nat} {Q : zO → zM → Prop} (M : zM) (l1 : Int32) (s0 : Int32) (k : if s0 = 0 then (Zm E YX8_fieldsAt d M (zargs 0 [vr (some (97, 1, 0)), vi l1]) 0 [] (zma E YX8_flow (d + 1) [(0, vr (some (97, 1, 0))), (1, vi l1), (2, vi s0)] 176 3 [] Q)) else (vp_in l1 640 ∧ (Zm E YX8_clearState d (si M 168 (l1).toNatClampNeg (vp_nar .boolean (1 : Int32))) (zargs 0 [vr (some (97, 1, 0)), vi l1]) 0 [] (zma E YX8_flow (d + 1) [(0, vr (some (97, 1, 0))), (1, vi l1), (2, vi s0)] 28 3 [] Q)))) : Zm E YX8_flow (d + 1) M [(0, vr (some (97, 1, 0))), (1, vi l1)] 14 [vi s0] Q := by
  refine Zm.l (fun _ _ k_ => z_ist_n dX8_flow_14 rfl (by decide) (lv' := [(0, vr (some (97, 1, 0))), (1, vi l1), (2, vi s0)]) rfl k_) ?_
  refine Zm.l (fun _ _ k_ => z_iload_n dX8_flow_15 rfl rfl k_) ?_
  refine Zm.br (fun _ _ k1_ k2_ => z_if_eq (tgt := 174) dX8_flow_16 rfl k1_ k2_) (fun h_ => ?_) (fun h_ => ?_)
  · have k := zit h_ k
    refine Zm.l (fun _ _ k_ => z_aload_n dX8_flow_174 rfl rfl k_) ?_
    refine Zm.l (fun _ _ k_ => z_iload_n dX8_flow_175 rfl rfl k_) ?_
    exact zm_callV (as := [vi l1]) (st := []) dX8_flow_176 vsX8_1085_1 (Nat.le_refl _) (Nat.le_of_ble_eq_true rfl) (Nat.le_of_ble_eq_true rfl) rfl k
  · have k := zif h_ k
    refine Zm.l (fun _ _ k_ => z_aload_n dX8_flow_19 rfl rfl k_) ?_
    refine zm_getr 65 dX8_flow_20 fsX8_226_1 rfl ?_
    refine Zm.l (fun _ _ k_ => z_iload_n dX8_flow_23 rfl rfl k_) ?_
    refine Zm.l (fun _ _ k_ => z_iconst (v := 1) dX8_flow_24 rfl k_) ?_
    obtain ⟨b_, k⟩ := k
    refine zm_zast dX8_flow_25 b_ (by decide) (by decide) ?_
    refine Zm.l (fun _ _ k_ => z_aload_n dX8_flow_26 rfl rfl k_) ?_
    refine Zm.l (fun _ _ k_ => z_iload_n dX8_flow_27 rfl rfl k_) ?_
    exact zm_callV (as := [vi l1]) (st := []) dX8_flow_28 vsX8_1104_1 (Nat.le_refl _) (Nat.le_of_ble_eq_true rfl) (Nat.le_of_ble_eq_true rfl) rfl k
theorem sX8_flow_31 {E : zE} {d : Nat} {Q : zO → zM → Prop} (M : zM) (l1 : Int32) (l2 : Int32) (k : vp_in (639 : Int32) 640 ∧ (vp_in l1 640 ∧ (vp_in l1 640 ∧ (vp_in l1 640 ∧ (Zm E YX8_flow (d + 1) (si (si (si M 171 (l1).toNatClampNeg (gi M 171 ((639 : Int32)).toNatClampNeg)) 172 (l1).toNatClampNeg (gi M 97 127)) 97 127 ((gi M 97 127) + (gi (si M 171 (l1).toNatClampNeg (gi M 171 ((639 : Int32)).toNatClampNeg)) 171 (l1).toNatClampNeg))) [(0, vr (some (97, 1, 0))), (1, vi l1), (2, vi l2), (3, vi (0 : Int32))] 72 [] Q))))) : Zm E YX8_flow (d + 1) M [(0, vr (some (97, 1, 0))), (1, vi l1), (2, vi l2)] 31 [] Q := by
  refine Zm.l (fun _ _ k_ => z_aload_n dX8_flow_31 rfl rfl k_) ?_
  refine zm_getr 68 dX8_flow_32 fsX8_235_1 rfl ?_
  refine Zm.l (fun _ _ k_ => z_iload_n dX8_flow_35 rfl rfl k_) ?_
  refine Zm.l (fun _ _ k_ => z_aload_n dX8_flow_36 rfl rfl k_) ?_
  refine zm_getr 68 dX8_flow_37 fsX8_235_1 rfl ?_
  refine Zm.l (fun _ _ k_ => z_sipush (v := 639) dX8_flow_40 rfl k_) ?_
  obtain ⟨b_, k⟩ := k
  refine zm_iald dX8_flow_43 b_ (by decide) (by decide) ?_
  obtain ⟨b_, k⟩ := k
  refine zm_iast dX8_flow_44 b_ (by decide) (by decide) ?_
  refine Zm.l (fun _ _ k_ => z_aload_n dX8_flow_45 rfl rfl k_) ?_
  refine zm_getr 69 dX8_flow_46 fsX8_238_1 rfl ?_
  refine Zm.l (fun _ _ k_ => z_iload_n dX8_flow_49 rfl rfl k_) ?_
  refine Zm.l (fun _ _ k_ => z_aload_n dX8_flow_50 rfl rfl k_) ?_
  refine zm_geti dX8_flow_51 fsX8_1107_1 (by decide) (by decide) ?_
  obtain ⟨b_, k⟩ := k
  refine zm_iast dX8_flow_54 b_ (by decide) (by decide) ?_
  refine Zm.l (fun _ _ k_ => z_aload_n dX8_flow_55 rfl rfl k_) ?_
  refine Zm.l (fun _ _ k_ => z_dup dX8_flow_56 rfl k_) ?_
  refine zm_geti dX8_flow_57 fsX8_1107_1 (by decide) (by decide) ?_
  refine Zm.l (fun _ _ k_ => z_aload_n dX8_flow_60 rfl rfl k_) ?_
  refine zm_getr 68 dX8_flow_61 fsX8_235_1 rfl ?_
  refine Zm.l (fun _ _ k_ => z_iload_n dX8_flow_64 rfl rfl k_) ?_
  obtain ⟨b_, k⟩ := k
  refine zm_iald dX8_flow_65 b_ (by decide) (by decide) ?_
  refine Zm.l (fun _ _ k_ => z_iadd dX8_flow_66 k_) ?_
  refine zm_puti (by decide) (by decide) dX8_flow_67 (zfwN.w fwX8_1107_1) rfl ⟨rfl, rfl⟩ ?_
  refine Zm.l (fun _ _ k_ => z_iconst (v := 0) dX8_flow_70 rfl k_) ?_
  refine Zm.l (fun _ _ k_ => z_ist_n dX8_flow_71 rfl (by decide) (lv' := [(0, vr (some (97, 1, 0))), (1, vi l1), (2, vi l2), (3, vi (0 : Int32))]) rfl k_) ?_
  exact k
theorem sX8_flow_72 {E : zE} {d : Nat} {Q : zO → zM → Prop} (M : zM) (l1 : Int32) (l2 : Int32) (l3 : Int32) (k : vp_in l1 640 ∧ (if (gi M 171 (l1).toNatClampNeg) ≤ l3 then (vp_in (639 : Int32) 640 ∧ (vp_in l1 640 ∧ (Zm E YX8_flow (d + 1) (si M 175 (l1).toNatClampNeg (gi M 175 ((639 : Int32)).toNatClampNeg)) [(0, vr (some (97, 1, 0))), (1, vi l1), (2, vi l2), (3, vi (0 : Int32))] 116 [] Q))) else (vp_in l1 640 ∧ (Zm E YX8_empty d M (zargs 0 [vr (some (97, 1, 0)), vi ((gi M 172 (l1).toNatClampNeg) + l3)]) 0 [] (zma E YX8_flow (d + 1) [(0, vr (some (97, 1, 0))), (1, vi l1), (2, vi l2), (3, vi l3)] 91 3 [] Q))))) : Zm E YX8_flow (d + 1) M [(0, vr (some (97, 1, 0))), (1, vi l1), (2, vi l2), (3, vi l3)] 72 [] Q := by
  refine Zm.l (fun _ _ k_ => z_iload_n dX8_flow_72 rfl rfl k_) ?_
  refine Zm.l (fun _ _ k_ => z_aload_n dX8_flow_73 rfl rfl k_) ?_
  refine zm_getr 68 dX8_flow_74 fsX8_235_1 rfl ?_
  refine Zm.l (fun _ _ k_ => z_iload_n dX8_flow_77 rfl rfl k_) ?_
  obtain ⟨b_, k⟩ := k
  refine zm_iald dX8_flow_78 b_ (by decide) (by decide) ?_
  refine Zm.br (fun _ _ k1_ k2_ => z_icmp_ge (tgt := 100) dX8_flow_79 rfl k1_ k2_) (fun h_ => ?_) (fun h_ => ?_)
  · have k := zit h_ k
    refine Zm.l (fun _ _ k_ => z_aload_n dX8_flow_100 rfl rfl k_) ?_
    refine zm_getr 72 dX8_flow_101 fsX8_247_1 rfl ?_
    refine Zm.l (fun _ _ k_ => z_iload_n dX8_flow_104 rfl rfl k_) ?_
    refine Zm.l (fun _ _ k_ => z_aload_n dX8_flow_105 rfl rfl k_) ?_
    refine zm_getr 72 dX8_flow_106 fsX8_247_1 rfl ?_
    refine Zm.l (fun _ _ k_ => z_sipush (v := 639) dX8_flow_109 rfl k_) ?_
    obtain ⟨b_, k⟩ := k
    refine zm_iald dX8_flow_112 b_ (by decide) (by decide) ?_
    obtain ⟨b_, k⟩ := k
    refine zm_iast dX8_flow_113 b_ (by decide) (by decide) ?_
    refine Zm.l (fun _ _ k_ => z_iconst (v := 0) dX8_flow_114 rfl k_) ?_
    refine Zm.l (fun _ _ k_ => z_ist_n dX8_flow_115 rfl (by decide) (lv' := [(0, vr (some (97, 1, 0))), (1, vi l1), (2, vi l2), (3, vi (0 : Int32))]) rfl k_) ?_
    exact k
  · have k := zif h_ k
    refine Zm.l (fun _ _ k_ => z_aload_n dX8_flow_82 rfl rfl k_) ?_
    refine Zm.l (fun _ _ k_ => z_aload_n dX8_flow_83 rfl rfl k_) ?_
    refine zm_getr 69 dX8_flow_84 fsX8_238_1 rfl ?_
    refine Zm.l (fun _ _ k_ => z_iload_n dX8_flow_87 rfl rfl k_) ?_
    obtain ⟨b_, k⟩ := k
    refine zm_iald dX8_flow_88 b_ (by decide) (by decide) ?_
    refine Zm.l (fun _ _ k_ => z_iload_n dX8_flow_89 rfl rfl k_) ?_
    refine Zm.l (fun _ _ k_ => z_iadd dX8_flow_90 k_) ?_
    exact zm_callV (as := [vi ((gi M 172 (l1).toNatClampNeg) + l3)]) (st := []) dX8_flow_91 vsX8_1066_1 (Nat.le_refl _) (Nat.le_of_ble_eq_true rfl) (Nat.le_of_ble_eq_true rfl) rfl k
theorem sX8_flow_94 {E : zE} {d : Nat} {Q : zO → zM → Prop} (M : zM) (l1 : Int32) (l2 : Int32) (l3 : Int32) (k : Zm E YX8_flow (d + 1) M [(0, vr (some (97, 1, 0))), (1, vi l1), (2, vi l2), (3, vi (l3 + (1 : Int32)))] 72 [] Q) : Zm E YX8_flow (d + 1) M [(0, vr (some (97, 1, 0))), (1, vi l1), (2, vi l2), (3, vi l3)] 94 [] Q := by
  refine Zm.l (fun _ _ k_ => z_inc (v := (l3 + (1 : Int32))) dX8_flow_94 rfl rfl (by decide) (lv' := [(0, vr (some (97, 1, 0))), (1, vi l1), (2, vi l2), (3, vi (l3 + (1 : Int32)))]) rfl k_) ?_
  refine Zm.l (fun _ _ k_ => z_goto (tgt := 72) dX8_flow_97 rfl k_) ?_
  exact k
theorem sX8_flow_116 {E : zE} {d : Nat} {Q : zO → zM → Prop} (M : zM) (l1 : Int32) (l2 : Int32) (l3 : Int32) (k : vp_in l1 640 ∧ (if (gi M 175 (l1).toNatClampNeg) ≤ l3 then (Zm E YX8_fieldsAt d M (zargs 0 [vr (some (97, 1, 0)), vi l1]) 0 [] (zma E YX8_flow (d + 1) [(0, vr (some (97, 1, 0))), (1, vi l1), (2, vi l2)] 176 3 [] Q)) else (vp_in ((25560 : Int32) + l3) 25600 ∧ (vp_in (((40 : Int32) * l1) + l3) 25600 ∧ (vp_in ((25560 : Int32) + l3) 25600 ∧ (vp_in (((40 : Int32) * l1) + l3) 25600 ∧ (Zm E YX8_flow (d + 1) (si (si M 176 ((((40 : Int32) * l1) + l3)).toNatClampNeg (gi M 176 (((25560 : Int32) + l3)).toNatClampNeg)) 177 ((((40 : Int32) * l1) + l3)).toNatClampNeg (gi M 177 (((25560 : Int32) + l3)).toNatClampNeg)) [(0, vr (some (97, 1, 0))), (1, vi l1), (2, vi l2), (3, vi (l3 + (1 : Int32)))] 116 [] Q))))))) : Zm E YX8_flow (d + 1) M [(0, vr (some (97, 1, 0))), (1, vi l1), (2, vi l2), (3, vi l3)] 116 [] Q := by
  refine Zm.l (fun _ _ k_ => z_iload_n dX8_flow_116 rfl rfl k_) ?_
  refine Zm.l (fun _ _ k_ => z_aload_n dX8_flow_117 rfl rfl k_) ?_
  refine zm_getr 72 dX8_flow_118 fsX8_247_1 rfl ?_
  refine Zm.l (fun _ _ k_ => z_iload_n dX8_flow_121 rfl rfl k_) ?_
  obtain ⟨b_, k⟩ := k
  refine zm_iald dX8_flow_122 b_ (by decide) (by decide) ?_
  refine Zm.br (fun _ _ k1_ k2_ => z_icmp_ge (tgt := 174) dX8_flow_123 rfl k1_ k2_) (fun h_ => ?_) (fun h_ => ?_)
  · have k := zit h_ k
    refine Zm.l (fun _ _ k_ => z_aload_n dX8_flow_174 rfl rfl k_) ?_
    refine Zm.l (fun _ _ k_ => z_iload_n dX8_flow_175 rfl rfl k_) ?_
    refine Zm.pick [0, 1, 2] rfl ?_
    exact zm_callV (as := [vi l1]) (st := []) dX8_flow_176 vsX8_1085_1 (Nat.le_refl _) (Nat.le_of_ble_eq_true rfl) (Nat.le_of_ble_eq_true rfl) rfl k
  · have k := zif h_ k
    refine Zm.l (fun _ _ k_ => z_aload_n dX8_flow_126 rfl rfl k_) ?_
    refine zm_getr 73 dX8_flow_127 fsX8_250_1 rfl ?_
    refine Zm.l (fun _ _ k_ => z_bipush (v := 40) dX8_flow_130 rfl k_) ?_
    refine Zm.l (fun _ _ k_ => z_iload_n dX8_flow_132 rfl rfl k_) ?_
    refine Zm.l (fun _ _ k_ => z_imul dX8_flow_133 k_) ?_
    refine Zm.l (fun _ _ k_ => z_iload_n dX8_flow_134 rfl rfl k_) ?_
    refine Zm.l (fun _ _ k_ => z_iadd dX8_flow_135 k_) ?_
    refine Zm.l (fun _ _ k_ => z_aload_n dX8_flow_136 rfl rfl k_) ?_
    refine zm_getr 73 dX8_flow_137 fsX8_250_1 rfl ?_
    refine Zm.l (fun _ _ k_ => z_sipush (v := 25560) dX8_flow_140 rfl k_) ?_
    refine Zm.l (fun _ _ k_ => z_iload_n dX8_flow_143 rfl rfl k_) ?_
    refine Zm.l (fun _ _ k_ => z_iadd dX8_flow_144 k_) ?_
    obtain ⟨b_, k⟩ := k
    refine zm_iald dX8_flow_145 b_ (by decide) (by decide) ?_
    obtain ⟨b_, k⟩ := k
    refine zm_iast dX8_flow_146 b_ (by decide) (by decide) ?_
    refine Zm.l (fun _ _ k_ => z_aload_n dX8_flow_147 rfl rfl k_) ?_
    refine zm_getr 74 dX8_flow_148 fsX8_253_1 rfl ?_
    refine Zm.l (fun _ _ k_ => z_bipush (v := 40) dX8_flow_151 rfl k_) ?_
    refine Zm.l (fun _ _ k_ => z_iload_n dX8_flow_153 rfl rfl k_) ?_
    refine Zm.l (fun _ _ k_ => z_imul dX8_flow_154 k_) ?_
    refine Zm.l (fun _ _ k_ => z_iload_n dX8_flow_155 rfl rfl k_) ?_
    refine Zm.l (fun _ _ k_ => z_iadd dX8_flow_156 k_) ?_
    refine Zm.l (fun _ _ k_ => z_aload_n dX8_flow_157 rfl rfl k_) ?_
    refine zm_getr 74 dX8_flow_158 fsX8_253_1 rfl ?_
    refine Zm.l (fun _ _ k_ => z_sipush (v := 25560) dX8_flow_161 rfl k_) ?_
    refine Zm.l (fun _ _ k_ => z_iload_n dX8_flow_164 rfl rfl k_) ?_
    refine Zm.l (fun _ _ k_ => z_iadd dX8_flow_165 k_) ?_
    obtain ⟨b_, k⟩ := k
    refine zm_iald dX8_flow_166 b_ (by decide) (by decide) ?_
    obtain ⟨b_, k⟩ := k
    refine zm_iast dX8_flow_167 b_ (by decide) (by decide) ?_
    refine Zm.l (fun _ _ k_ => z_inc (v := (l3 + (1 : Int32))) dX8_flow_168 rfl rfl (by decide) (lv' := [(0, vr (some (97, 1, 0))), (1, vi l1), (2, vi l2), (3, vi (l3 + (1 : Int32)))]) rfl k_) ?_
    refine Zm.l (fun _ _ k_ => z_goto (tgt := 116) dX8_flow_171 rfl k_) ?_
    exact k
theorem sX8_flow_179 {E : zE} {d : Nat} {Q : zO → zM → Prop} (M : zM) (l1 : Int32) (l2 : Int32) (s0 : Int32) (k : Zm E YX8_flow (d + 1) M [(0, vr (some (97, 1, 0))), (1, vi l1), (2, vi l2), (3, vi s0), (4, vi (0 : Int32))] 183 [] Q) : Zm E YX8_flow (d + 1) M [(0, vr (some (97, 1, 0))), (1, vi l1), (2, vi l2)] 179 [vi s0] Q := by
  refine Zm.l (fun _ _ k_ => z_ist_n dX8_flow_179 rfl (by decide) (lv' := [(0, vr (some (97, 1, 0))), (1, vi l1), (2, vi l2), (3, vi s0)]) rfl k_) ?_
  refine Zm.l (fun _ _ k_ => z_iconst (v := 0) dX8_flow_180 rfl k_) ?_
  refine Zm.l (fun _ _ k_ => z_ist dX8_flow_181 (by decide) (lv' := [(0, vr (some (97, 1, 0))), (1, vi l1), (2, vi l2), (3, vi s0), (4, vi (0 : Int32))]) rfl k_) ?_
  exact k
theorem sX8_flow_183 {E : zE} {d : Nat} {Q : zO → zM → Prop} (M : zM) (l1 : Int32) (l2 : Int32) (l3 : Int32) (l4 : Int32) (k : if ((gi M 97 71) * ((gi M 97 8) + (1 : Int32))) ≤ l4 then (Zm E YX8_flow (d + 1) M [(0, vr (some (97, 1, 0))), (1, vi l1), (2, vi l2), (4, vi (0 : Int32))] 235 [] Q) else (Zm E YX8_join d M (zargs 0 [vr (some (97, 1, 0)), vi ((635640 : Int32) + l4), vi (l3 + l4)]) 0 [] (zma E YX8_flow (d + 1) [(0, vr (some (97, 1, 0))), (1, vi l1), (2, vi l2), (3, vi l3), (4, vi l4)] 210 3 [] Q))) : Zm E YX8_flow (d + 1) M [(0, vr (some (97, 1, 0))), (1, vi l1), (2, vi l2), (3, vi l3), (4, vi l4)] 183 [] Q := by
  refine Zm.l (fun _ _ k_ => z_iload dX8_flow_183 rfl k_) ?_
  refine Zm.l (fun _ _ k_ => z_aload_n dX8_flow_185 rfl rfl k_) ?_
  refine zm_geti dX8_flow_186 fsX8_765_1 (by decide) (by decide) ?_
  refine Zm.l (fun _ _ k_ => z_aload_n dX8_flow_189 rfl rfl k_) ?_
  refine zm_geti dX8_flow_190 fsX8_762_1 (by decide) (by decide) ?_
  refine Zm.l (fun _ _ k_ => z_iconst (v := 1) dX8_flow_193 rfl k_) ?_
  refine Zm.l (fun _ _ k_ => z_iadd dX8_flow_194 k_) ?_
  refine Zm.l (fun _ _ k_ => z_imul dX8_flow_195 k_) ?_
  refine Zm.br (fun _ _ k1_ k2_ => z_icmp_ge (tgt := 232) dX8_flow_196 rfl k1_ k2_) (fun h_ => ?_) (fun h_ => ?_)
  · have k := zit h_ k
    refine Zm.l (fun _ _ k_ => z_iconst (v := 0) dX8_flow_232 rfl k_) ?_
    refine Zm.l (fun _ _ k_ => z_ist dX8_flow_233 (by decide) (lv' := [(0, vr (some (97, 1, 0))), (1, vi l1), (2, vi l2), (3, vi l3), (4, vi (0 : Int32))]) rfl k_) ?_
    refine Zm.pick [0, 1, 2, 4] rfl ?_
    exact k
  · have k := zif h_ k
    refine Zm.l (fun _ _ k_ => z_aload_n dX8_flow_199 rfl rfl k_) ?_
    refine Zm.l (fun _ _ k_ => z_ldcw (v := 635640) dX8_flow_200 q4786 k_) ?_
    refine Zm.l (fun _ _ k_ => z_iload dX8_flow_203 rfl k_) ?_
    refine Zm.l (fun _ _ k_ => z_iadd dX8_flow_205 k_) ?_
    refine Zm.l (fun _ _ k_ => z_iload_n dX8_flow_206 rfl rfl k_) ?_
    refine Zm.l (fun _ _ k_ => z_iload dX8_flow_207 rfl k_) ?_
    refine Zm.l (fun _ _ k_ => z_iadd dX8_flow_209 k_) ?_
    exact zm_callV (as := [vi ((635640 : Int32) + l4), vi (l3 + l4)]) (st := []) dX8_flow_210 vsX8_1069_1 (Nat.le_refl _) (Nat.le_of_ble_eq_true rfl) (Nat.le_of_ble_eq_true rfl) rfl k
theorem sX8_flow_213 {E : zE} {d : Nat} {Q : zO → zM → Prop} (M : zM) (l1 : Int32) (l2 : Int32) (l3 : Int32) (l4 : Int32) (s0 : Int32) (k : if s0 = 0 then (if l2 = 0 then (Zm E YX8_flow (d + 1) M [(0, vr (some (97, 1, 0))), (1, vi l1), (2, vi (0 : Int32)), (3, vi l3), (4, vi (l4 + (1 : Int32)))] 183 [] Q) else (Zm E YX8_flow (d + 1) M [(0, vr (some (97, 1, 0))), (1, vi l1), (2, vi (1 : Int32)), (3, vi l3), (4, vi (l4 + (1 : Int32)))] 183 [] Q)) else (Zm E YX8_flow (d + 1) M [(0, vr (some (97, 1, 0))), (1, vi l1), (2, vi (1 : Int32)), (3, vi l3), (4, vi (l4 + (1 : Int32)))] 183 [] Q)) : Zm E YX8_flow (d + 1) M [(0, vr (some (97, 1, 0))), (1, vi l1), (2, vi l2), (3, vi l3), (4, vi l4)] 213 [vi s0] Q := by
  refine Zm.brn (fun _ _ k1_ k2_ => z_if_ne (tgt := 220) dX8_flow_213 rfl k1_ k2_) (fun h_ => ?_) (fun h_ => ?_)
  · have k := zif h_ k
    refine Zm.l (fun _ _ k_ => z_iconst (v := 1) dX8_flow_220 rfl k_) ?_
    refine Zm.l (fun _ _ k_ => z_goto (tgt := 225) dX8_flow_221 rfl k_) ?_
    refine Zm.l (fun _ _ k_ => z_ist_n dX8_flow_225 rfl (by decide) (lv' := [(0, vr (some (97, 1, 0))), (1, vi l1), (2, vi (1 : Int32)), (3, vi l3), (4, vi l4)]) rfl k_) ?_
    refine Zm.l (fun _ _ k_ => z_inc (v := (l4 + (1 : Int32))) dX8_flow_226 rfl rfl (by decide) (lv' := [(0, vr (some (97, 1, 0))), (1, vi l1), (2, vi (1 : Int32)), (3, vi l3), (4, vi (l4 + (1 : Int32)))]) rfl k_) ?_
    refine Zm.l (fun _ _ k_ => z_goto (tgt := 183) dX8_flow_229 rfl k_) ?_
    exact k
  · have k := zit h_ k
    refine Zm.l (fun _ _ k_ => z_iload_n dX8_flow_216 rfl rfl k_) ?_
    refine Zm.br (fun _ _ k1_ k2_ => z_if_eq (tgt := 224) dX8_flow_217 rfl k1_ k2_) (fun h_ => ?_) (fun h_ => ?_)
    · have k := zit h_ k
      refine Zm.l (fun _ _ k_ => z_iconst (v := 0) dX8_flow_224 rfl k_) ?_
      refine Zm.l (fun _ _ k_ => z_ist_n dX8_flow_225 rfl (by decide) (lv' := [(0, vr (some (97, 1, 0))), (1, vi l1), (2, vi (0 : Int32)), (3, vi l3), (4, vi l4)]) rfl k_) ?_
      refine Zm.l (fun _ _ k_ => z_inc (v := (l4 + (1 : Int32))) dX8_flow_226 rfl rfl (by decide) (lv' := [(0, vr (some (97, 1, 0))), (1, vi l1), (2, vi (0 : Int32)), (3, vi l3), (4, vi (l4 + (1 : Int32)))]) rfl k_) ?_
      refine Zm.l (fun _ _ k_ => z_goto (tgt := 183) dX8_flow_229 rfl k_) ?_
      exact k
    · have k := zif h_ k
      refine Zm.l (fun _ _ k_ => z_iconst (v := 1) dX8_flow_220 rfl k_) ?_
      refine Zm.l (fun _ _ k_ => z_goto (tgt := 225) dX8_flow_221 rfl k_) ?_
      refine Zm.l (fun _ _ k_ => z_ist_n dX8_flow_225 rfl (by decide) (lv' := [(0, vr (some (97, 1, 0))), (1, vi l1), (2, vi (1 : Int32)), (3, vi l3), (4, vi l4)]) rfl k_) ?_
      refine Zm.l (fun _ _ k_ => z_inc (v := (l4 + (1 : Int32))) dX8_flow_226 rfl rfl (by decide) (lv' := [(0, vr (some (97, 1, 0))), (1, vi l1), (2, vi (1 : Int32)), (3, vi l3), (4, vi (l4 + (1 : Int32)))]) rfl k_) ?_
      refine Zm.l (fun _ _ k_ => z_goto (tgt := 183) dX8_flow_229 rfl k_) ?_
      exact k
theorem sX8_flow_235 {E : zE} {d : Nat} {Q : zO → zM → Prop} (M : zM) (l1 : Int32) (l2 : Int32) (l4 : Int32) (k : vp_in l1 640 ∧ (if (gi M 171 (l1).toNatClampNeg) ≤ l4 then (Zm E YX8_thisAt d M (zargs 0 [vr (some (97, 1, 0)), vi (639 : Int32)]) 0 [] (zma E YX8_flow (d + 1) [(0, vr (some (97, 1, 0))), (1, vi l1), (2, vi l2)] 294 3 [vr (some (97, 1, 0))] Q)) else (vp_in (639 : Int32) 640 ∧ (vp_in l1 640 ∧ (Zm E YX8_join d M (zargs 0 [vr (some (97, 1, 0)), vi ((gi M 172 ((639 : Int32)).toNatClampNeg) + l4), vi ((gi M 172 (l1).toNatClampNeg) + l4)]) 0 [] (zma E YX8_flow (d + 1) [(0, vr (some (97, 1, 0))), (1, vi l1), (2, vi l2), (4, vi l4)] 267 3 [] Q)))))) : Zm E YX8_flow (d + 1) M [(0, vr (some (97, 1, 0))), (1, vi l1), (2, vi l2), (4, vi l4)] 235 [] Q := by
  refine Zm.l (fun _ _ k_ => z_iload dX8_flow_235 rfl k_) ?_
  refine Zm.l (fun _ _ k_ => z_aload_n dX8_flow_237 rfl rfl k_) ?_
  refine zm_getr 68 dX8_flow_238 fsX8_235_1 rfl ?_
  refine Zm.l (fun _ _ k_ => z_iload_n dX8_flow_241 rfl rfl k_) ?_
  obtain ⟨b_, k⟩ := k
  refine zm_iald dX8_flow_242 b_ (by decide) (by decide) ?_
  refine Zm.br (fun _ _ k1_ k2_ => z_icmp_ge (tgt := 289) dX8_flow_243 rfl k1_ k2_) (fun h_ => ?_) (fun h_ => ?_)
  · have k := zit h_ k
    refine Zm.l (fun _ _ k_ => z_aload_n dX8_flow_289 rfl rfl k_) ?_
    refine Zm.l (fun _ _ k_ => z_aload_n dX8_flow_290 rfl rfl k_) ?_
    refine Zm.l (fun _ _ k_ => z_sipush (v := 639) dX8_flow_291 rfl k_) ?_
    refine Zm.pick [0, 1, 2] rfl ?_
    exact zm_callV (as := [vi (639 : Int32)]) (st := [vr (some (97, 1, 0))]) dX8_flow_294 vsX8_1098_1 (Nat.le_refl _) (Nat.le_of_ble_eq_true rfl) (Nat.le_of_ble_eq_true rfl) rfl k
  · have k := zif h_ k
    refine Zm.l (fun _ _ k_ => z_aload_n dX8_flow_246 rfl rfl k_) ?_
    refine Zm.l (fun _ _ k_ => z_aload_n dX8_flow_247 rfl rfl k_) ?_
    refine zm_getr 69 dX8_flow_248 fsX8_238_1 rfl ?_
    refine Zm.l (fun _ _ k_ => z_sipush (v := 639) dX8_flow_251 rfl k_) ?_
    obtain ⟨b_, k⟩ := k
    refine zm_iald dX8_flow_254 b_ (by decide) (by decide) ?_
    refine Zm.l (fun _ _ k_ => z_iload dX8_flow_255 rfl k_) ?_
    refine Zm.l (fun _ _ k_ => z_iadd dX8_flow_257 k_) ?_
    refine Zm.l (fun _ _ k_ => z_aload_n dX8_flow_258 rfl rfl k_) ?_
    refine zm_getr 69 dX8_flow_259 fsX8_238_1 rfl ?_
    refine Zm.l (fun _ _ k_ => z_iload_n dX8_flow_262 rfl rfl k_) ?_
    obtain ⟨b_, k⟩ := k
    refine zm_iald dX8_flow_263 b_ (by decide) (by decide) ?_
    refine Zm.l (fun _ _ k_ => z_iload dX8_flow_264 rfl k_) ?_
    refine Zm.l (fun _ _ k_ => z_iadd dX8_flow_266 k_) ?_
    exact zm_callV (as := [vi ((gi M 172 ((639 : Int32)).toNatClampNeg) + l4), vi ((gi M 172 (l1).toNatClampNeg) + l4)]) (st := []) dX8_flow_267 vsX8_1069_1 (Nat.le_refl _) (Nat.le_of_ble_eq_true rfl) (Nat.le_of_ble_eq_true rfl) rfl k
theorem sX8_flow_270 {E : zE} {d : Nat} {Q : zO → zM → Prop} (M : zM) (l1 : Int32) (l2 : Int32) (l4 : Int32) (s0 : Int32) (k : if s0 = 0 then (if l2 = 0 then (Zm E YX8_flow (d + 1) M [(0, vr (some (97, 1, 0))), (1, vi l1), (2, vi (0 : Int32)), (4, vi (l4 + (1 : Int32)))] 235 [] Q) else (Zm E YX8_flow (d + 1) M [(0, vr (some (97, 1, 0))), (1, vi l1), (2, vi (1 : Int32)), (4, vi (l4 + (1 : Int32)))] 235 [] Q)) else (Zm E YX8_flow (d + 1) M [(0, vr (some (97, 1, 0))), (1, vi l1), (2, vi (1 : Int32)), (4, vi (l4 + (1 : Int32)))] 235 [] Q)) : Zm E YX8_flow (d + 1) M [(0, vr (some (97, 1, 0))), (1, vi l1), (2, vi l2), (4, vi l4)] 270 [vi s0] Q := by
  refine Zm.brn (fun _ _ k1_ k2_ => z_if_ne (tgt := 277) dX8_flow_270 rfl k1_ k2_) (fun h_ => ?_) (fun h_ => ?_)
  · have k := zif h_ k
    refine Zm.l (fun _ _ k_ => z_iconst (v := 1) dX8_flow_277 rfl k_) ?_
    refine Zm.l (fun _ _ k_ => z_goto (tgt := 282) dX8_flow_278 rfl k_) ?_
    refine Zm.l (fun _ _ k_ => z_ist_n dX8_flow_282 rfl (by decide) (lv' := [(0, vr (some (97, 1, 0))), (1, vi l1), (2, vi (1 : Int32)), (4, vi l4)]) rfl k_) ?_
    refine Zm.l (fun _ _ k_ => z_inc (v := (l4 + (1 : Int32))) dX8_flow_283 rfl rfl (by decide) (lv' := [(0, vr (some (97, 1, 0))), (1, vi l1), (2, vi (1 : Int32)), (4, vi (l4 + (1 : Int32)))]) rfl k_) ?_
    refine Zm.l (fun _ _ k_ => z_goto (tgt := 235) dX8_flow_286 rfl k_) ?_
    exact k
  · have k := zit h_ k
    refine Zm.l (fun _ _ k_ => z_iload_n dX8_flow_273 rfl rfl k_) ?_
    refine Zm.br (fun _ _ k1_ k2_ => z_if_eq (tgt := 281) dX8_flow_274 rfl k1_ k2_) (fun h_ => ?_) (fun h_ => ?_)
    · have k := zit h_ k
      refine Zm.l (fun _ _ k_ => z_iconst (v := 0) dX8_flow_281 rfl k_) ?_
      refine Zm.l (fun _ _ k_ => z_ist_n dX8_flow_282 rfl (by decide) (lv' := [(0, vr (some (97, 1, 0))), (1, vi l1), (2, vi (0 : Int32)), (4, vi l4)]) rfl k_) ?_
      refine Zm.l (fun _ _ k_ => z_inc (v := (l4 + (1 : Int32))) dX8_flow_283 rfl rfl (by decide) (lv' := [(0, vr (some (97, 1, 0))), (1, vi l1), (2, vi (0 : Int32)), (4, vi (l4 + (1 : Int32)))]) rfl k_) ?_
      refine Zm.l (fun _ _ k_ => z_goto (tgt := 235) dX8_flow_286 rfl k_) ?_
      exact k
    · have k := zif h_ k
      refine Zm.l (fun _ _ k_ => z_iconst (v := 1) dX8_flow_277 rfl k_) ?_
      refine Zm.l (fun _ _ k_ => z_goto (tgt := 282) dX8_flow_278 rfl k_) ?_
      refine Zm.l (fun _ _ k_ => z_ist_n dX8_flow_282 rfl (by decide) (lv' := [(0, vr (some (97, 1, 0))), (1, vi l1), (2, vi (1 : Int32)), (4, vi l4)]) rfl k_) ?_
      refine Zm.l (fun _ _ k_ => z_inc (v := (l4 + (1 : Int32))) dX8_flow_283 rfl rfl (by decide) (lv' := [(0, vr (some (97, 1, 0))), (1, vi l1), (2, vi (1 : Int32)), (4, vi (l4 + (1 : Int32)))]) rfl k_) ?_
      refine Zm.l (fun _ _ k_ => z_goto (tgt := 235) dX8_flow_286 rfl k_) ?_
      exact k
theorem sX8_flow_297 {E : zE} {d : Nat} {Q : zO → zM → Prop} (M : zM) (l1 : Int32) (l2 : Int32) (s0 : Int32) (k : Zm E YX8_thisAt d M (zargs 0 [vr (some (97, 1, 0)), vi l1]) 0 [] (zma E YX8_flow (d + 1) [(0, vr (some (97, 1, 0))), (1, vi l1), (2, vi l2)] 299 3 [vi s0, vr (some (97, 1, 0))] Q)) : Zm E YX8_flow (d + 1) M [(0, vr (some (97, 1, 0))), (1, vi l1), (2, vi l2)] 297 [vi s0, vr (some (97, 1, 0))] Q := by
  refine Zm.l (fun _ _ k_ => z_aload_n dX8_flow_297 rfl rfl k_) ?_
  refine Zm.l (fun _ _ k_ => z_iload_n dX8_flow_298 rfl rfl k_) ?_
  exact zm_callV (as := [vi l1]) (st := [vi s0, vr (some (97, 1, 0))]) dX8_flow_299 vsX8_1098_1 (Nat.le_refl _) (Nat.le_of_ble_eq_true rfl) (Nat.le_of_ble_eq_true rfl) rfl k
theorem sX8_flow_302 {E : zE} {d : Nat} {Q : zO → zM → Prop} (M : zM) (l1 : Int32) (l2 : Int32) (s0 : Int32) (s1 : Int32) (k : Zm E YX8_join d M (zargs 0 [vr (some (97, 1, 0)), vi s1, vi s0]) 0 [] (zma E YX8_flow (d + 1) [(0, vr (some (97, 1, 0))), (1, vi l1), (2, vi l2)] 302 3 [] Q)) : Zm E YX8_flow (d + 1) M [(0, vr (some (97, 1, 0))), (1, vi l1), (2, vi l2)] 302 [vi s0, vi s1, vr (some (97, 1, 0))] Q := by
  exact zm_callV (as := [vi s1, vi s0]) (st := []) dX8_flow_302 vsX8_1069_1 (Nat.le_refl _) (Nat.le_of_ble_eq_true rfl) (Nat.le_of_ble_eq_true rfl) rfl k
theorem sX8_flow_305 {E : zE} {d : Nat} {Q : zO → zM → Prop} (M : zM) (l1 : Int32) (l2 : Int32) (s0 : Int32) (k : if s0 = 0 then (if l2 = 0 then (Zm E YX8_flow (d + 1) M [(0, vr (some (97, 1, 0))), (1, vi l1)] 317 [vi (0 : Int32)] Q) else (Zm E YX8_flow (d + 1) M [(0, vr (some (97, 1, 0))), (1, vi l1)] 317 [vi (1 : Int32)] Q)) else (Zm E YX8_flow (d + 1) M [(0, vr (some (97, 1, 0))), (1, vi l1)] 317 [vi (1 : Int32)] Q)) : Zm E YX8_flow (d + 1) M [(0, vr (some (97, 1, 0))), (1, vi l1), (2, vi l2)] 305 [vi s0] Q := by
  refine Zm.brn (fun _ _ k1_ k2_ => z_if_ne (tgt := 312) dX8_flow_305 rfl k1_ k2_) (fun h_ => ?_) (fun h_ => ?_)
  · have k := zif h_ k
    refine Zm.l (fun _ _ k_ => z_iconst (v := 1) dX8_flow_312 rfl k_) ?_
    refine Zm.l (fun _ _ k_ => z_goto (tgt := 317) dX8_flow_313 rfl k_) ?_
    refine Zm.pick [0, 1] rfl ?_
    exact k
  · have k := zit h_ k
    refine Zm.l (fun _ _ k_ => z_iload_n dX8_flow_308 rfl rfl k_) ?_
    refine Zm.br (fun _ _ k1_ k2_ => z_if_eq (tgt := 316) dX8_flow_309 rfl k1_ k2_) (fun h_ => ?_) (fun h_ => ?_)
    · have k := zit h_ k
      refine Zm.l (fun _ _ k_ => z_iconst (v := 0) dX8_flow_316 rfl k_) ?_
      refine Zm.pick [0, 1] rfl ?_
      exact k
    · have k := zif h_ k
      refine Zm.l (fun _ _ k_ => z_iconst (v := 1) dX8_flow_312 rfl k_) ?_
      refine Zm.l (fun _ _ k_ => z_goto (tgt := 317) dX8_flow_313 rfl k_) ?_
      refine Zm.pick [0, 1] rfl ?_
      exact k
theorem sX8_flow_317 {E : zE} {d : Nat} {Q : zO → zM → Prop} (M : zM) (l1 : Int32) (s0 : Int32) (k : if s0 = 0 then (vp_in (639 : Int32) 640 ∧ (vp_in l1 640 ∧ (if (lg_cmp ((gl M 173 ((639 : Int32)).toNatClampNeg) &&& ((gl M 173 (l1).toNatClampNeg) ^^^ (-1 : Int64))) (0 : Int64)) = 0 then (vp_in (639 : Int32) 640 ∧ (vp_in l1 640 ∧ (if (lg_cmp ((gl M 174 ((639 : Int32)).toNatClampNeg) &&& ((gl M 174 (l1).toNatClampNeg) ^^^ (-1 : Int64))) (0 : Int64)) = 0 then (Zm E YX8_flow (d + 1) M [(0, vr (some (97, 1, 0))), (1, vi l1)] 375 [vi (0 : Int32)] Q) else (Zm E YX8_flow (d + 1) M [(0, vr (some (97, 1, 0))), (1, vi l1)] 375 [vi (1 : Int32)] Q)))) else (Zm E YX8_flow (d + 1) M [(0, vr (some (97, 1, 0))), (1, vi l1)] 375 [vi (1 : Int32)] Q)))) else (Zm E YX8_flow (d + 1) M [(0, vr (some (97, 1, 0))), (1, vi l1)] 375 [vi (1 : Int32)] Q)) : Zm E YX8_flow (d + 1) M [(0, vr (some (97, 1, 0))), (1, vi l1)] 317 [vi s0] Q := by
  refine Zm.l (fun _ _ k_ => z_ist_n dX8_flow_317 rfl (by decide) (lv' := [(0, vr (some (97, 1, 0))), (1, vi l1), (2, vi s0)]) rfl k_) ?_
  refine Zm.l (fun _ _ k_ => z_iload_n dX8_flow_318 rfl rfl k_) ?_
  refine Zm.brn (fun _ _ k1_ k2_ => z_if_ne (tgt := 370) dX8_flow_319 rfl k1_ k2_) (fun h_ => ?_) (fun h_ => ?_)
  · have k := zif h_ k
    refine Zm.l (fun _ _ k_ => z_iconst (v := 1) dX8_flow_370 rfl k_) ?_
    refine Zm.l (fun _ _ k_ => z_goto (tgt := 375) dX8_flow_371 rfl k_) ?_
    refine Zm.pick [0, 1] rfl ?_
    exact k
  · have k := zit h_ k
    refine Zm.l (fun _ _ k_ => z_aload_n dX8_flow_322 rfl rfl k_) ?_
    refine zm_getr 70 dX8_flow_323 fsX8_241_1 rfl ?_
    refine Zm.l (fun _ _ k_ => z_sipush (v := 639) dX8_flow_326 rfl k_) ?_
    obtain ⟨b_, k⟩ := k
    refine zm_lald dX8_flow_329 b_ (by decide) (by decide) ?_
    refine Zm.l (fun _ _ k_ => z_aload_n dX8_flow_330 rfl rfl k_) ?_
    refine zm_getr 70 dX8_flow_331 fsX8_241_1 rfl ?_
    refine Zm.l (fun _ _ k_ => z_iload_n dX8_flow_334 rfl rfl k_) ?_
    obtain ⟨b_, k⟩ := k
    refine zm_lald dX8_flow_335 b_ (by decide) (by decide) ?_
    refine Zm.l (fun _ _ k_ => z_ldc2 (v := -1) dX8_flow_336 q4859 k_) ?_
    refine Zm.l (fun _ _ k_ => z_lxor dX8_flow_339 k_) ?_
    refine Zm.l (fun _ _ k_ => z_land dX8_flow_340 k_) ?_
    refine Zm.l (fun _ _ k_ => z_lconst (v := 0) dX8_flow_341 rfl k_) ?_
    refine Zm.l (fun _ _ k_ => z_lcmp dX8_flow_342 k_) ?_
    refine Zm.brn (fun _ _ k1_ k2_ => z_if_ne (tgt := 370) dX8_flow_343 rfl k1_ k2_) (fun h_ => ?_) (fun h_ => ?_)
    · have k := zif h_ k
      refine Zm.l (fun _ _ k_ => z_iconst (v := 1) dX8_flow_370 rfl k_) ?_
      refine Zm.l (fun _ _ k_ => z_goto (tgt := 375) dX8_flow_371 rfl k_) ?_
      refine Zm.pick [0, 1] rfl ?_
      exact k
    · have k := zit h_ k
      refine Zm.l (fun _ _ k_ => z_aload_n dX8_flow_346 rfl rfl k_) ?_
      refine zm_getr 71 dX8_flow_347 fsX8_244_1 rfl ?_
      refine Zm.l (fun _ _ k_ => z_sipush (v := 639) dX8_flow_350 rfl k_) ?_
      obtain ⟨b_, k⟩ := k
      refine zm_lald dX8_flow_353 b_ (by decide) (by decide) ?_
      refine Zm.l (fun _ _ k_ => z_aload_n dX8_flow_354 rfl rfl k_) ?_
      refine zm_getr 71 dX8_flow_355 fsX8_244_1 rfl ?_
      refine Zm.l (fun _ _ k_ => z_iload_n dX8_flow_358 rfl rfl k_) ?_
      obtain ⟨b_, k⟩ := k
      refine zm_lald dX8_flow_359 b_ (by decide) (by decide) ?_
      refine Zm.l (fun _ _ k_ => z_ldc2 (v := -1) dX8_flow_360 q4859 k_) ?_
      refine Zm.l (fun _ _ k_ => z_lxor dX8_flow_363 k_) ?_
      refine Zm.l (fun _ _ k_ => z_land dX8_flow_364 k_) ?_
      refine Zm.l (fun _ _ k_ => z_lconst (v := 0) dX8_flow_365 rfl k_) ?_
      refine Zm.l (fun _ _ k_ => z_lcmp dX8_flow_366 k_) ?_
      refine Zm.br (fun _ _ k1_ k2_ => z_if_eq (tgt := 374) dX8_flow_367 rfl k1_ k2_) (fun h_ => ?_) (fun h_ => ?_)
      · have k := zit h_ k
        refine Zm.l (fun _ _ k_ => z_iconst (v := 0) dX8_flow_374 rfl k_) ?_
        refine Zm.pick [0, 1] rfl ?_
        exact k
      · have k := zif h_ k
        refine Zm.l (fun _ _ k_ => z_iconst (v := 1) dX8_flow_370 rfl k_) ?_
        refine Zm.l (fun _ _ k_ => z_goto (tgt := 375) dX8_flow_371 rfl k_) ?_
        refine Zm.pick [0, 1] rfl ?_
        exact k
theorem sX8_flow_375 {E : zE} {d : Nat} {Q : zO → zM → Prop} (M : zM) (l1 : Int32) (s0 : Int32) (k : vp_in l1 640 ∧ (vp_in (639 : Int32) 640 ∧ (vp_in l1 640 ∧ (vp_in l1 640 ∧ (vp_in (639 : Int32) 640 ∧ (vp_in l1 640 ∧ (Zm E YX8_flow (d + 1) (sl (sl M 173 (l1).toNatClampNeg ((gl M 173 (l1).toNatClampNeg) ||| (gl M 173 ((639 : Int32)).toNatClampNeg))) 174 (l1).toNatClampNeg ((gl M 174 (l1).toNatClampNeg) ||| (gl M 174 ((639 : Int32)).toNatClampNeg))) [(0, vr (some (97, 1, 0))), (1, vi l1), (2, vi s0), (4, vi (0 : Int32))] 421 [] Q))))))) : Zm E YX8_flow (d + 1) M [(0, vr (some (97, 1, 0))), (1, vi l1)] 375 [vi s0] Q := by
  refine Zm.l (fun _ _ k_ => z_ist_n dX8_flow_375 rfl (by decide) (lv' := [(0, vr (some (97, 1, 0))), (1, vi l1), (2, vi s0)]) rfl k_) ?_
  refine Zm.l (fun _ _ k_ => z_aload_n dX8_flow_376 rfl rfl k_) ?_
  refine zm_getr 70 dX8_flow_377 fsX8_241_1 rfl ?_
  refine Zm.l (fun _ _ k_ => z_iload_n dX8_flow_380 rfl rfl k_) ?_
  refine Zm.l (fun _ _ k_ => z_aload_n dX8_flow_381 rfl rfl k_) ?_
  refine zm_getr 70 dX8_flow_382 fsX8_241_1 rfl ?_
  refine Zm.l (fun _ _ k_ => z_iload_n dX8_flow_385 rfl rfl k_) ?_
  obtain ⟨b_, k⟩ := k
  refine zm_lald dX8_flow_386 b_ (by decide) (by decide) ?_
  refine Zm.l (fun _ _ k_ => z_aload_n dX8_flow_387 rfl rfl k_) ?_
  refine zm_getr 70 dX8_flow_388 fsX8_241_1 rfl ?_
  refine Zm.l (fun _ _ k_ => z_sipush (v := 639) dX8_flow_391 rfl k_) ?_
  obtain ⟨b_, k⟩ := k
  refine zm_lald dX8_flow_394 b_ (by decide) (by decide) ?_
  refine Zm.l (fun _ _ k_ => z_lor dX8_flow_395 k_) ?_
  obtain ⟨b_, k⟩ := k
  refine zm_last dX8_flow_396 b_ (by decide) (by decide) ?_
  refine Zm.l (fun _ _ k_ => z_aload_n dX8_flow_397 rfl rfl k_) ?_
  refine zm_getr 71 dX8_flow_398 fsX8_244_1 rfl ?_
  refine Zm.l (fun _ _ k_ => z_iload_n dX8_flow_401 rfl rfl k_) ?_
  refine Zm.l (fun _ _ k_ => z_aload_n dX8_flow_402 rfl rfl k_) ?_
  refine zm_getr 71 dX8_flow_403 fsX8_244_1 rfl ?_
  refine Zm.l (fun _ _ k_ => z_iload_n dX8_flow_406 rfl rfl k_) ?_
  obtain ⟨b_, k⟩ := k
  refine zm_lald dX8_flow_407 b_ (by decide) (by decide) ?_
  refine Zm.l (fun _ _ k_ => z_aload_n dX8_flow_408 rfl rfl k_) ?_
  refine zm_getr 71 dX8_flow_409 fsX8_244_1 rfl ?_
  refine Zm.l (fun _ _ k_ => z_sipush (v := 639) dX8_flow_412 rfl k_) ?_
  obtain ⟨b_, k⟩ := k
  refine zm_lald dX8_flow_415 b_ (by decide) (by decide) ?_
  refine Zm.l (fun _ _ k_ => z_lor dX8_flow_416 k_) ?_
  obtain ⟨b_, k⟩ := k
  refine zm_last dX8_flow_417 b_ (by decide) (by decide) ?_
  refine Zm.l (fun _ _ k_ => z_iconst (v := 0) dX8_flow_418 rfl k_) ?_
  refine Zm.l (fun _ _ k_ => z_ist dX8_flow_419 (by decide) (lv' := [(0, vr (some (97, 1, 0))), (1, vi l1), (2, vi s0), (4, vi (0 : Int32))]) rfl k_) ?_
  exact k
theorem sX8_flow_421 {E : zE} {d : Nat} {Q : zO → zM → Prop} (M : zM) (l1 : Int32) (l2 : Int32) (l4 : Int32) (k : if (gi M 97 71) ≤ l4 then (if l2 = 0 then (Q (.inl none) M) else (if (gi M 97 46) ≤ l1 then (Zm E YX8_flow (d + 1) M [(0, vr (some (97, 1, 0))), (4, vi (0 : Int32))] 495 [] Q) else (vp_in l1 640 ∧ (Q (.inl none) (si M 169 (l1).toNatClampNeg (vp_nar .boolean (1 : Int32))))))) else (Zm E YX8_of d M (zargs 0 [vr (some (97, 1, 0)), vi (639 : Int32), vi l4]) 0 [] (zma E YX8_flow (d + 1) [(0, vr (some (97, 1, 0))), (1, vi l1), (2, vi l2), (4, vi l4)] 437 3 [vr (some (97, 1, 0))] Q))) : Zm E YX8_flow (d + 1) M [(0, vr (some (97, 1, 0))), (1, vi l1), (2, vi l2), (4, vi l4)] 421 [] Q := by
  refine Zm.l (fun _ _ k_ => z_iload dX8_flow_421 rfl k_) ?_
  refine Zm.l (fun _ _ k_ => z_aload_n dX8_flow_423 rfl rfl k_) ?_
  refine zm_geti dX8_flow_424 fsX8_765_1 (by decide) (by decide) ?_
  refine Zm.br (fun _ _ k1_ k2_ => z_icmp_ge (tgt := 469) dX8_flow_427 rfl k1_ k2_) (fun h_ => ?_) (fun h_ => ?_)
  · have k := zit h_ k
    refine Zm.l (fun _ _ k_ => z_iload_n dX8_flow_469 rfl rfl k_) ?_
    refine Zm.brn (fun _ _ k1_ k2_ => z_if_ne (tgt := 474) dX8_flow_470 rfl k1_ k2_) (fun h_ => ?_) (fun h_ => ?_)
    · have k := zif h_ k
      refine Zm.l (fun _ _ k_ => z_iload_n dX8_flow_474 rfl rfl k_) ?_
      refine Zm.l (fun _ _ k_ => z_aload_n dX8_flow_475 rfl rfl k_) ?_
      refine zm_geti dX8_flow_476 fsX8_606_1 (by decide) (by decide) ?_
      refine Zm.br (fun _ _ k1_ k2_ => z_icmp_ge (tgt := 492) dX8_flow_479 rfl k1_ k2_) (fun h_ => ?_) (fun h_ => ?_)
      · have k := zit h_ k
        refine Zm.l (fun _ _ k_ => z_iconst (v := 0) dX8_flow_492 rfl k_) ?_
        refine Zm.l (fun _ _ k_ => z_ist dX8_flow_493 (by decide) (lv' := [(0, vr (some (97, 1, 0))), (1, vi l1), (2, vi l2), (4, vi (0 : Int32))]) rfl k_) ?_
        refine Zm.pick [0, 3] rfl ?_
        exact k
      · have k := zif h_ k
        refine Zm.l (fun _ _ k_ => z_aload_n dX8_flow_482 rfl rfl k_) ?_
        refine zm_getr 66 dX8_flow_483 fsX8_229_1 rfl ?_
        refine Zm.l (fun _ _ k_ => z_iload_n dX8_flow_486 rfl rfl k_) ?_
        refine Zm.l (fun _ _ k_ => z_iconst (v := 1) dX8_flow_487 rfl k_) ?_
        obtain ⟨b_, k⟩ := k
        refine zm_zast dX8_flow_488 b_ (by decide) (by decide) ?_
        refine Zm.l (fun _ _ k_ => z_goto (tgt := 566) dX8_flow_489 rfl k_) ?_
        exact zm_vret dX8_flow_566 rfl k
    · have k := zit h_ k
      exact zm_vret dX8_flow_473 rfl k
  · have k := zif h_ k
    refine Zm.l (fun _ _ k_ => z_aload_n dX8_flow_430 rfl rfl k_) ?_
    refine Zm.l (fun _ _ k_ => z_aload_n dX8_flow_431 rfl rfl k_) ?_
    refine Zm.l (fun _ _ k_ => z_sipush (v := 639) dX8_flow_432 rfl k_) ?_
    refine Zm.l (fun _ _ k_ => z_iload dX8_flow_435 rfl k_) ?_
    exact zm_callV (as := [vi (639 : Int32), vi l4]) (st := [vr (some (97, 1, 0))]) dX8_flow_437 vsX8_1101_1 (Nat.le_refl _) (Nat.le_of_ble_eq_true rfl) (Nat.le_of_ble_eq_true rfl) rfl k
theorem sX8_flow_440 {E : zE} {d : Nat} {Q : zO → zM → Prop} (M : zM) (l1 : Int32) (l2 : Int32) (l4 : Int32) (s0 : Int32) (k : Zm E YX8_of d M (zargs 0 [vr (some (97, 1, 0)), vi l1, vi l4]) 0 [] (zma E YX8_flow (d + 1) [(0, vr (some (97, 1, 0))), (1, vi l1), (2, vi l2), (4, vi l4)] 444 3 [vi s0, vr (some (97, 1, 0))] Q)) : Zm E YX8_flow (d + 1) M [(0, vr (some (97, 1, 0))), (1, vi l1), (2, vi l2), (4, vi l4)] 440 [vi s0, vr (some (97, 1, 0))] Q := by
  refine Zm.l (fun _ _ k_ => z_aload_n dX8_flow_440 rfl rfl k_) ?_
  refine Zm.l (fun _ _ k_ => z_iload_n dX8_flow_441 rfl rfl k_) ?_
  refine Zm.l (fun _ _ k_ => z_iload dX8_flow_442 rfl k_) ?_
  exact zm_callV (as := [vi l1, vi l4]) (st := [vi s0, vr (some (97, 1, 0))]) dX8_flow_444 vsX8_1101_1 (Nat.le_refl _) (Nat.le_of_ble_eq_true rfl) (Nat.le_of_ble_eq_true rfl) rfl k
theorem sX8_flow_447 {E : zE} {d : Nat} {Q : zO → zM → Prop} (M : zM) (l1 : Int32) (l2 : Int32) (l4 : Int32) (s0 : Int32) (s1 : Int32) (k : Zm E YX8_joinLabel d M (zargs 0 [vr (some (97, 1, 0)), vi s1, vi s0]) 0 [] (zma E YX8_flow (d + 1) [(0, vr (some (97, 1, 0))), (1, vi l1), (2, vi l2), (4, vi l4)] 447 3 [] Q)) : Zm E YX8_flow (d + 1) M [(0, vr (some (97, 1, 0))), (1, vi l1), (2, vi l2), (4, vi l4)] 447 [vi s0, vi s1, vr (some (97, 1, 0))] Q := by
  exact zm_callV (as := [vi s1, vi s0]) (st := []) dX8_flow_447 vsX8_1112_1 (Nat.le_refl _) (Nat.le_of_ble_eq_true rfl) (Nat.le_of_ble_eq_true rfl) rfl k
theorem sX8_flow_450 {E : zE} {d : Nat} {Q : zO → zM → Prop} (M : zM) (l1 : Int32) (l2 : Int32) (l4 : Int32) (s0 : Int32) (k : if s0 = 0 then (if l2 = 0 then (Zm E YX8_flow (d + 1) M [(0, vr (some (97, 1, 0))), (1, vi l1), (2, vi (0 : Int32)), (4, vi (l4 + (1 : Int32)))] 421 [] Q) else (Zm E YX8_flow (d + 1) M [(0, vr (some (97, 1, 0))), (1, vi l1), (2, vi (1 : Int32)), (4, vi (l4 + (1 : Int32)))] 421 [] Q)) else (Zm E YX8_flow (d + 1) M [(0, vr (some (97, 1, 0))), (1, vi l1), (2, vi (1 : Int32)), (4, vi (l4 + (1 : Int32)))] 421 [] Q)) : Zm E YX8_flow (d + 1) M [(0, vr (some (97, 1, 0))), (1, vi l1), (2, vi l2), (4, vi l4)] 450 [vi s0] Q := by
  refine Zm.brn (fun _ _ k1_ k2_ => z_if_ne (tgt := 457) dX8_flow_450 rfl k1_ k2_) (fun h_ => ?_) (fun h_ => ?_)
  · have k := zif h_ k
    refine Zm.l (fun _ _ k_ => z_iconst (v := 1) dX8_flow_457 rfl k_) ?_
    refine Zm.l (fun _ _ k_ => z_goto (tgt := 462) dX8_flow_458 rfl k_) ?_
    refine Zm.l (fun _ _ k_ => z_ist_n dX8_flow_462 rfl (by decide) (lv' := [(0, vr (some (97, 1, 0))), (1, vi l1), (2, vi (1 : Int32)), (4, vi l4)]) rfl k_) ?_
    refine Zm.l (fun _ _ k_ => z_inc (v := (l4 + (1 : Int32))) dX8_flow_463 rfl rfl (by decide) (lv' := [(0, vr (some (97, 1, 0))), (1, vi l1), (2, vi (1 : Int32)), (4, vi (l4 + (1 : Int32)))]) rfl k_) ?_
    refine Zm.l (fun _ _ k_ => z_goto (tgt := 421) dX8_flow_466 rfl k_) ?_
    exact k
  · have k := zit h_ k
    refine Zm.l (fun _ _ k_ => z_iload_n dX8_flow_453 rfl rfl k_) ?_
    refine Zm.br (fun _ _ k1_ k2_ => z_if_eq (tgt := 461) dX8_flow_454 rfl k1_ k2_) (fun h_ => ?_) (fun h_ => ?_)
    · have k := zit h_ k
      refine Zm.l (fun _ _ k_ => z_iconst (v := 0) dX8_flow_461 rfl k_) ?_
      refine Zm.l (fun _ _ k_ => z_ist_n dX8_flow_462 rfl (by decide) (lv' := [(0, vr (some (97, 1, 0))), (1, vi l1), (2, vi (0 : Int32)), (4, vi l4)]) rfl k_) ?_
      refine Zm.l (fun _ _ k_ => z_inc (v := (l4 + (1 : Int32))) dX8_flow_463 rfl rfl (by decide) (lv' := [(0, vr (some (97, 1, 0))), (1, vi l1), (2, vi (0 : Int32)), (4, vi (l4 + (1 : Int32)))]) rfl k_) ?_
      refine Zm.l (fun _ _ k_ => z_goto (tgt := 421) dX8_flow_466 rfl k_) ?_
      exact k
    · have k := zif h_ k
      refine Zm.l (fun _ _ k_ => z_iconst (v := 1) dX8_flow_457 rfl k_) ?_
      refine Zm.l (fun _ _ k_ => z_goto (tgt := 462) dX8_flow_458 rfl k_) ?_
      refine Zm.l (fun _ _ k_ => z_ist_n dX8_flow_462 rfl (by decide) (lv' := [(0, vr (some (97, 1, 0))), (1, vi l1), (2, vi (1 : Int32)), (4, vi l4)]) rfl k_) ?_
      refine Zm.l (fun _ _ k_ => z_inc (v := (l4 + (1 : Int32))) dX8_flow_463 rfl rfl (by decide) (lv' := [(0, vr (some (97, 1, 0))), (1, vi l1), (2, vi (1 : Int32)), (4, vi (l4 + (1 : Int32)))]) rfl k_) ?_
      refine Zm.l (fun _ _ k_ => z_goto (tgt := 421) dX8_flow_466 rfl k_) ?_
      exact k
theorem sX8_flow_495 {E : zE} {d : Nat} {Q : zO → zM → Prop} (M : zM) (l4 : Int32) (k : if (gi M 97 46) ≤ l4 then (Q (.inl none) M) else (vp_in l4 640 ∧ (if (gi M 169 (l4).toNatClampNeg) = 0 then (vp_in l4 640 ∧ (if (gi M 168 (l4).toNatClampNeg) = 0 then (vp_in l4 640 ∧ (Zm E YX8_flow (d + 1) (si M 169 (l4).toNatClampNeg (vp_nar .boolean (0 : Int32))) [(0, vr (some (97, 1, 0))), (4, vi (l4 + (1 : Int32)))] 495 [] Q)) else (vp_in l4 600 ∧ (if (gi M 123 (l4).toNatClampNeg) = (15 : Int32) then (vp_in l4 640 ∧ (Zm E YX8_flow (d + 1) (si M 169 (l4).toNatClampNeg (vp_nar .boolean (1 : Int32))) [(0, vr (some (97, 1, 0))), (4, vi (l4 + (1 : Int32)))] 495 [] Q)) else (vp_in l4 600 ∧ (if (gi M 123 (l4).toNatClampNeg) = (16 : Int32) then (vp_in l4 640 ∧ (Zm E YX8_flow (d + 1) (si M 169 (l4).toNatClampNeg (vp_nar .boolean (1 : Int32))) [(0, vr (some (97, 1, 0))), (4, vi (l4 + (1 : Int32)))] 495 [] Q)) else (vp_in l4 640 ∧ (Zm E YX8_flow (d + 1) (si M 169 (l4).toNatClampNeg (vp_nar .boolean (0 : Int32))) [(0, vr (some (97, 1, 0))), (4, vi (l4 + (1 : Int32)))] 495 [] Q)))))))) else (vp_in l4 640 ∧ (Zm E YX8_flow (d + 1) (si M 169 (l4).toNatClampNeg (vp_nar .boolean (1 : Int32))) [(0, vr (some (97, 1, 0))), (4, vi (l4 + (1 : Int32)))] 495 [] Q))))) : Zm E YX8_flow (d + 1) M [(0, vr (some (97, 1, 0))), (4, vi l4)] 495 [] Q := by
  refine Zm.l (fun _ _ k_ => z_iload dX8_flow_495 rfl k_) ?_
  refine Zm.l (fun _ _ k_ => z_aload_n dX8_flow_497 rfl rfl k_) ?_
  refine zm_geti dX8_flow_498 fsX8_606_1 (by decide) (by decide) ?_
  refine Zm.br (fun _ _ k1_ k2_ => z_icmp_ge (tgt := 566) dX8_flow_501 rfl k1_ k2_) (fun h_ => ?_) (fun h_ => ?_)
  · have k := zit h_ k
    exact zm_vret dX8_flow_566 rfl k
  · have k := zif h_ k
    refine Zm.l (fun _ _ k_ => z_aload_n dX8_flow_504 rfl rfl k_) ?_
    refine zm_getr 66 dX8_flow_505 fsX8_229_1 rfl ?_
    refine Zm.l (fun _ _ k_ => z_iload dX8_flow_508 rfl k_) ?_
    refine Zm.l (fun _ _ k_ => z_aload_n dX8_flow_510 rfl rfl k_) ?_
    refine zm_getr 66 dX8_flow_511 fsX8_229_1 rfl ?_
    refine Zm.l (fun _ _ k_ => z_iload dX8_flow_514 rfl k_) ?_
    obtain ⟨b_, k⟩ := k
    refine zm_zald dX8_flow_516 b_ (by decide) (by decide) ?_
    refine Zm.brn (fun _ _ k1_ k2_ => z_if_ne (tgt := 554) dX8_flow_517 rfl k1_ k2_) (fun h_ => ?_) (fun h_ => ?_)
    · have k := zif h_ k
      refine Zm.l (fun _ _ k_ => z_iconst (v := 1) dX8_flow_554 rfl k_) ?_
      refine Zm.l (fun _ _ k_ => z_goto (tgt := 559) dX8_flow_555 rfl k_) ?_
      obtain ⟨b_, k⟩ := k
      refine zm_zast dX8_flow_559 b_ (by decide) (by decide) ?_
      refine Zm.l (fun _ _ k_ => z_inc (v := (l4 + (1 : Int32))) dX8_flow_560 rfl rfl (by decide) (lv' := [(0, vr (some (97, 1, 0))), (4, vi (l4 + (1 : Int32)))]) rfl k_) ?_
      refine Zm.l (fun _ _ k_ => z_goto (tgt := 495) dX8_flow_563 rfl k_) ?_
      exact k
    · have k := zit h_ k
      refine Zm.l (fun _ _ k_ => z_aload_n dX8_flow_520 rfl rfl k_) ?_
      refine zm_getr 65 dX8_flow_521 fsX8_226_1 rfl ?_
      refine Zm.l (fun _ _ k_ => z_iload dX8_flow_524 rfl k_) ?_
      obtain ⟨b_, k⟩ := k
      refine zm_zald dX8_flow_526 b_ (by decide) (by decide) ?_
      refine Zm.br (fun _ _ k1_ k2_ => z_if_eq (tgt := 558) dX8_flow_527 rfl k1_ k2_) (fun h_ => ?_) (fun h_ => ?_)
      · have k := zit h_ k
        refine Zm.l (fun _ _ k_ => z_iconst (v := 0) dX8_flow_558 rfl k_) ?_
        obtain ⟨b_, k⟩ := k
        refine zm_zast dX8_flow_559 b_ (by decide) (by decide) ?_
        refine Zm.l (fun _ _ k_ => z_inc (v := (l4 + (1 : Int32))) dX8_flow_560 rfl rfl (by decide) (lv' := [(0, vr (some (97, 1, 0))), (4, vi (l4 + (1 : Int32)))]) rfl k_) ?_
        refine Zm.l (fun _ _ k_ => z_goto (tgt := 495) dX8_flow_563 rfl k_) ?_
        exact k
      · have k := zif h_ k
        refine Zm.l (fun _ _ k_ => z_aload_n dX8_flow_530 rfl rfl k_) ?_
        refine zm_getr 25 dX8_flow_531 fsX8_89_1 rfl ?_
        refine Zm.l (fun _ _ k_ => z_iload dX8_flow_534 rfl k_) ?_
        obtain ⟨b_, k⟩ := k
        refine zm_iald dX8_flow_536 b_ (by decide) (by decide) ?_
        refine Zm.l (fun _ _ k_ => z_bipush (v := 15) dX8_flow_537 rfl k_) ?_
        refine Zm.br (fun _ _ k1_ k2_ => z_icmp_eq (tgt := 554) dX8_flow_539 rfl k1_ k2_) (fun h_ => ?_) (fun h_ => ?_)
        · have k := zit h_ k
          refine Zm.l (fun _ _ k_ => z_iconst (v := 1) dX8_flow_554 rfl k_) ?_
          refine Zm.l (fun _ _ k_ => z_goto (tgt := 559) dX8_flow_555 rfl k_) ?_
          obtain ⟨b_, k⟩ := k
          refine zm_zast dX8_flow_559 b_ (by decide) (by decide) ?_
          refine Zm.l (fun _ _ k_ => z_inc (v := (l4 + (1 : Int32))) dX8_flow_560 rfl rfl (by decide) (lv' := [(0, vr (some (97, 1, 0))), (4, vi (l4 + (1 : Int32)))]) rfl k_) ?_
          refine Zm.l (fun _ _ k_ => z_goto (tgt := 495) dX8_flow_563 rfl k_) ?_
          exact k
        · have k := zif h_ k
          refine Zm.l (fun _ _ k_ => z_aload_n dX8_flow_542 rfl rfl k_) ?_
          refine zm_getr 25 dX8_flow_543 fsX8_89_1 rfl ?_
          refine Zm.l (fun _ _ k_ => z_iload dX8_flow_546 rfl k_) ?_
          obtain ⟨b_, k⟩ := k
          refine zm_iald dX8_flow_548 b_ (by decide) (by decide) ?_
          refine Zm.l (fun _ _ k_ => z_bipush (v := 16) dX8_flow_549 rfl k_) ?_
          refine Zm.brn (fun _ _ k1_ k2_ => z_icmp_ne (tgt := 558) dX8_flow_551 rfl k1_ k2_) (fun h_ => ?_) (fun h_ => ?_)
          · have k := zif h_ k
            refine Zm.l (fun _ _ k_ => z_iconst (v := 0) dX8_flow_558 rfl k_) ?_
            obtain ⟨b_, k⟩ := k
            refine zm_zast dX8_flow_559 b_ (by decide) (by decide) ?_
            refine Zm.l (fun _ _ k_ => z_inc (v := (l4 + (1 : Int32))) dX8_flow_560 rfl rfl (by decide) (lv' := [(0, vr (some (97, 1, 0))), (4, vi (l4 + (1 : Int32)))]) rfl k_) ?_
            refine Zm.l (fun _ _ k_ => z_goto (tgt := 495) dX8_flow_563 rfl k_) ?_
            exact k
          · have k := zit h_ k
            refine Zm.l (fun _ _ k_ => z_iconst (v := 1) dX8_flow_554 rfl k_) ?_
            refine Zm.l (fun _ _ k_ => z_goto (tgt := 559) dX8_flow_555 rfl k_) ?_
            obtain ⟨b_, k⟩ := k
            refine zm_zast dX8_flow_559 b_ (by decide) (by decide) ?_
            refine Zm.l (fun _ _ k_ => z_inc (v := (l4 + (1 : Int32))) dX8_flow_560 rfl rfl (by decide) (lv' := [(0, vr (some (97, 1, 0))), (4, vi (l4 + (1 : Int32)))]) rfl k_) ?_
            refine Zm.l (fun _ _ k_ => z_goto (tgt := 495) dX8_flow_563 rfl k_) ?_
            exact k
