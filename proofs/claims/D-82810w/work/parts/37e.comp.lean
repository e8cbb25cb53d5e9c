/-! ScriptTypes.onlyOf(LScriptTypes$Bag;I)V -/
theorem bX1_onlyOf_0 : zdec cX1_onlyOf 0 [(0, .iload_n 1, 1), (1, .aload_n 0, 1), (2, .getfield 916, 3), (5, .aload_n 0, 1), (6, .getfield 918, 3), (9, .invokestatic 827, 3), (12, .istore_n 2, 1), (13, .iload_n 1, 1), (14, .iconst 1, 1), (15, .iadd, 1), (16, .aload_n 0, 1), (17, .getfield 916, 3), (20, .aload_n 0, 1), (21, .getfield 918, 3), (24, .invokestatic 827, 3), (27, .istore_n 3, 1)] = true := by decide +kernel
theorem dX1_onlyOf_0 : decode cX1_onlyOf 0 = .ok (.iload_n 1, 1) := zdec_at bX1_onlyOf_0 0 rfl
theorem dX1_onlyOf_1 : decode cX1_onlyOf 1 = .ok (.aload_n 0, 1) := zdec_at bX1_onlyOf_0 1 rfl
theorem dX1_onlyOf_2 : decode cX1_onlyOf 2 = .ok (.getfield 916, 3) := zdec_at bX1_onlyOf_0 2 rfl
theorem dX1_onlyOf_5 : decode cX1_onlyOf 5 = .ok (.aload_n 0, 1) := zdec_at bX1_onlyOf_0 3 rfl
theorem dX1_onlyOf_6 : decode cX1_onlyOf 6 = .ok (.getfield 918, 3) := zdec_at bX1_onlyOf_0 4 rfl
theorem dX1_onlyOf_9 : decode cX1_onlyOf 9 = .ok (.invokestatic 827, 3) := zdec_at bX1_onlyOf_0 5 rfl
theorem dX1_onlyOf_12 : decode cX1_onlyOf 12 = .ok (.istore_n 2, 1) := zdec_at bX1_onlyOf_0 6 rfl
theorem dX1_onlyOf_13 : decode cX1_onlyOf 13 = .ok (.iload_n 1, 1) := zdec_at bX1_onlyOf_0 7 rfl
theorem dX1_onlyOf_14 : decode cX1_onlyOf 14 = .ok (.iconst 1, 1) := zdec_at bX1_onlyOf_0 8 rfl
theorem dX1_onlyOf_15 : decode cX1_onlyOf 15 = .ok (.iadd, 1) := zdec_at bX1_onlyOf_0 9 rfl
theorem dX1_onlyOf_16 : decode cX1_onlyOf 16 = .ok (.aload_n 0, 1) := zdec_at bX1_onlyOf_0 10 rfl
theorem dX1_onlyOf_17 : decode cX1_onlyOf 17 = .ok (.getfield 916, 3) := zdec_at bX1_onlyOf_0 11 rfl
theorem dX1_onlyOf_20 : decode cX1_onlyOf 20 = .ok (.aload_n 0, 1) := zdec_at bX1_onlyOf_0 12 rfl
theorem dX1_onlyOf_21 : decode cX1_onlyOf 21 = .ok (.getfield 918, 3) := zdec_at bX1_onlyOf_0 13 rfl
theorem dX1_onlyOf_24 : decode cX1_onlyOf 24 = .ok (.invokestatic 827, 3) := zdec_at bX1_onlyOf_0 14 rfl
theorem dX1_onlyOf_27 : decode cX1_onlyOf 27 = .ok (.istore_n 3, 1) := zdec_at bX1_onlyOf_0 15 rfl
theorem bX1_onlyOf_28 : zdec cX1_onlyOf 28 [(28, .aload_n 0, 1), (29, .invokevirtual 796, 3), (32, .pop, 1), (33, .iload_n 2, 1), (34, .ifCond .eq 9, 3), (37, .aload_n 0, 1), (38, .iload_n 1, 1), (39, .invokevirtual 800, 3), (42, .pop, 1), (43, .iload_n 3, 1), (44, .ifCond .eq 11, 3), (47, .aload_n 0, 1), (48, .iload_n 1, 1), (49, .iconst 1, 1), (50, .iadd, 1), (51, .invokevirtual 800, 3)] = true := by decide +kernel
theorem dX1_onlyOf_28 : decode cX1_onlyOf 28 = .ok (.aload_n 0, 1) := zdec_at bX1_onlyOf_28 0 rfl
theorem dX1_onlyOf_29 : decode cX1_onlyOf 29 = .ok (.invokevirtual 796, 3) := zdec_at bX1_onlyOf_28 1 rfl
theorem dX1_onlyOf_32 : decode cX1_onlyOf 32 = .ok (.pop, 1) := zdec_at bX1_onlyOf_28 2 rfl
theorem dX1_onlyOf_33 : decode cX1_onlyOf 33 = .ok (.iload_n 2, 1) := zdec_at bX1_onlyOf_28 3 rfl
theorem dX1_onlyOf_34 : decode cX1_onlyOf 34 = .ok (.ifCond .eq 9, 3) := zdec_at bX1_onlyOf_28 4 rfl
theorem dX1_onlyOf_37 : decode cX1_onlyOf 37 = .ok (.aload_n 0, 1) := zdec_at bX1_onlyOf_28 5 rfl
theorem dX1_onlyOf_38 : decode cX1_onlyOf 38 = .ok (.iload_n 1, 1) := zdec_at bX1_onlyOf_28 6 rfl
theorem dX1_onlyOf_39 : decode cX1_onlyOf 39 = .ok (.invokevirtual 800, 3) := zdec_at bX1_onlyOf_28 7 rfl
theorem dX1_onlyOf_42 : decode cX1_onlyOf 42 = .ok (.pop, 1) := zdec_at bX1_onlyOf_28 8 rfl
theorem dX1_onlyOf_43 : decode cX1_onlyOf 43 = .ok (.iload_n 3, 1) := zdec_at bX1_onlyOf_28 9 rfl
theorem dX1_onlyOf_44 : decode cX1_onlyOf 44 = .ok (.ifCond .eq 11, 3) := zdec_at bX1_onlyOf_28 10 rfl
theorem dX1_onlyOf_47 : decode cX1_onlyOf 47 = .ok (.aload_n 0, 1) := zdec_at bX1_onlyOf_28 11 rfl
theorem dX1_onlyOf_48 : decode cX1_onlyOf 48 = .ok (.iload_n 1, 1) := zdec_at bX1_onlyOf_28 12 rfl
theorem dX1_onlyOf_49 : decode cX1_onlyOf 49 = .ok (.iconst 1, 1) := zdec_at bX1_onlyOf_28 13 rfl
theorem dX1_onlyOf_50 : decode cX1_onlyOf 50 = .ok (.iadd, 1) := zdec_at bX1_onlyOf_28 14 rfl
theorem dX1_onlyOf_51 : decode cX1_onlyOf 51 = .ok (.invokevirtual 800, 3) := zdec_at bX1_onlyOf_28 15 rfl
theorem bX1_onlyOf_54 : zdec cX1_onlyOf 54 [(54, .pop, 1), (55, .return_, 1)] = true := by decide +kernel
theorem dX1_onlyOf_54 : decode cX1_onlyOf 54 = .ok (.pop, 1) := zdec_at bX1_onlyOf_54 0 rfl
theorem dX1_onlyOf_55 : decode cX1_onlyOf 55 = .ok (.return_, 1) := zdec_at bX1_onlyOf_54 1 rfl
theorem sX1_onlyOf_0 {E : zE} {d : Nat} {Q : zO → zM → Prop} (M : zM) (r0 : Option zP) (l1 : Int32) (hw : cw M) (k : ∃ b1 : Nat, r0 = some (b1, 4, 0) ∧ (Z E YX1_in d M (zargs 0 [vi l1, vl (gl M b1 0), vl (gl M b1 1)]) 0 [] (zafter E YX1_onlyOf (d + 1) [(0, vr (some (b1, 4, 0))), (1, vi l1)] 9 3 [] Q))) : Z E YX1_onlyOf (d + 1) M [(0, vr r0), (1, vi l1)] 0 [] Q := by
  refine z_iload_n dX1_onlyOf_0 rfl rfl ?_
  refine z_aload_n dX1_onlyOf_1 rfl rfl ?_
  obtain ⟨b1, e1_, k⟩ := k
  refine Z.eqs (lv' := [(0, vr (some (b1, 4, 0))), (1, vi l1)]) (st' := [vr (some (b1, 4, 0)), vi l1]) (by rw [e1_] <;> rfl) (by rw [e1_] <;> rfl) ?_
  refine z_getl dX1_onlyOf_2 fsX1_916_4 ?_
  refine z_aload_n dX1_onlyOf_5 rfl rfl ?_
  refine z_getl dX1_onlyOf_6 fsX1_918_4 ?_
  exact z_callS (as := [vi l1, vl (gl M b1 0), vl (gl M b1 1)]) (st := []) dX1_onlyOf_9 ssX1_827 (Nat.le_refl _) (Nat.le_of_ble_eq_true rfl) (Nat.le_of_ble_eq_true rfl) rfl k
theorem sX1_onlyOf_12 {E : zE} {d : Nat} {Q : zO → zM → Prop} (M : zM) (a0 : Nat) (l1 : Int32) (s0 : Int32) (hw : cw M) (k : Z E YX1_in d M (zargs 0 [vi (l1 + (1 : Int32)), vl (gl M a0 0), vl (gl M a0 1)]) 0 [] (zafter E YX1_onlyOf (d + 1) [(0, vr (some (a0, 4, 0))), (1, vi l1), (2, vi s0)] 24 3 [] Q)) : Z E YX1_onlyOf (d + 1) M [(0, vr (some (a0, 4, 0))), (1, vi l1)] 12 [vi s0] Q := by
  refine z_ist_n dX1_onlyOf_12 rfl (by decide) (lv' := [(0, vr (some (a0, 4, 0))), (1, vi l1), (2, vi s0)]) rfl ?_
  refine z_iload_n dX1_onlyOf_13 rfl rfl ?_
  refine z_iconst (v := 1) dX1_onlyOf_14 rfl ?_
  refine z_iadd dX1_onlyOf_15 ?_
  refine z_aload_n dX1_onlyOf_16 rfl rfl ?_
  refine z_getl dX1_onlyOf_17 fsX1_916_4 ?_
  refine z_aload_n dX1_onlyOf_20 rfl rfl ?_
  refine z_getl dX1_onlyOf_21 fsX1_918_4 ?_
  exact z_callS (as := [vi (l1 + (1 : Int32)), vl (gl M a0 0), vl (gl M a0 1)]) (st := []) dX1_onlyOf_24 ssX1_827 (Nat.le_refl _) (Nat.le_of_ble_eq_true rfl) (Nat.le_of_ble_eq_true rfl) rfl k
theorem sX1_onlyOf_27 {E : zE} {d : Nat} {Q : zO → zM → Prop} (M : zM) (a0 : Nat) (l1 : Int32) (l2 : Int32) (s0 : Int32) (hw : cw M) (k : Z E YX6_empty d M (zargs 0 [vr (some (a0, 4, 0))]) 0 [] (zafter E YX1_onlyOf (d + 1) [(0, vr (some (a0, 4, 0))), (1, vi l1), (2, vi l2), (3, vi s0)] 29 3 [] Q)) : Z E YX1_onlyOf (d + 1) M [(0, vr (some (a0, 4, 0))), (1, vi l1), (2, vi l2)] 27 [vi s0] Q := by
  refine z_ist_n dX1_onlyOf_27 rfl (by decide) (lv' := [(0, vr (some (a0, 4, 0))), (1, vi l1), (2, vi l2), (3, vi s0)]) rfl ?_
  refine z_aload_n dX1_onlyOf_28 rfl rfl ?_
  exact z_callV (as := []) (st := []) dX1_onlyOf_29 vsX1_796_4 (Nat.le_refl _) (Nat.le_of_ble_eq_true rfl) (Nat.le_of_ble_eq_true rfl) rfl k
theorem sX1_onlyOf_32 {E : zE} {d : Nat} {Q : zO → zM → Prop} (M : zM) (a0 : Nat) (l1 : Int32) (l2 : Int32) (l3 : Int32) (u0 : Option zP) (hw : cw M) (k : if l2 = 0 then (Z E YX1_onlyOf (d + 1) M [(0, vr (some (a0, 4, 0))), (1, vi l1), (3, vi l3)] 43 [] Q) else (Z E YX6_add d M (zargs 0 [vr (some (a0, 4, 0)), vi l1]) 0 [] (zafter E YX1_onlyOf (d + 1) [(0, vr (some (a0, 4, 0))), (1, vi l1), (3, vi l3)] 39 3 [] Q))) : Z E YX1_onlyOf (d + 1) M [(0, vr (some (a0, 4, 0))), (1, vi l1), (2, vi l2), (3, vi l3)] 32 [vr u0] Q := by
  refine z_pop dX1_onlyOf_32 rfl ?_
  refine z_iload_n dX1_onlyOf_33 rfl rfl ?_
  refine z_if_eq (tgt := 43) dX1_onlyOf_34 rfl (fun h_ => ?_) (fun h_ => ?_)
  · have k := zit h_ k
    refine Z.pick [0, 1, 3] rfl ?_
    exact k
  · have k := zif h_ k
    refine z_aload_n dX1_onlyOf_37 rfl rfl ?_
    refine z_iload_n dX1_onlyOf_38 rfl rfl ?_
    refine Z.pick [0, 1, 3] rfl ?_
    exact z_callV (as := [vi l1]) (st := []) dX1_onlyOf_39 vsX1_800_4 (Nat.le_refl _) (Nat.le_of_ble_eq_true rfl) (Nat.le_of_ble_eq_true rfl) rfl k
theorem sX1_onlyOf_42 {E : zE} {d : Nat} {Q : zO → zM → Prop} (M : zM) (a0 : Nat) (l1 : Int32) (l3 : Int32) (u0 : Option zP) (hw : cw M) (k : Z E YX1_onlyOf (d + 1) M [(0, vr (some (a0, 4, 0))), (1, vi l1), (3, vi l3)] 43 [] Q) : Z E YX1_onlyOf (d + 1) M [(0, vr (some (a0, 4, 0))), (1, vi l1), (3, vi l3)] 42 [vr u0] Q := by
  refine z_pop dX1_onlyOf_42 rfl ?_
  exact k
theorem sX1_onlyOf_43 {E : zE} {d : Nat} {Q : zO → zM → Prop} (M : zM) (a0 : Nat) (l1 : Int32) (l3 : Int32) (hw : cw M) (k : if l3 = 0 then (Q (.inl none) M) else (Z E YX6_add d M (zargs 0 [vr (some (a0, 4, 0)), vi (l1 + (1 : Int32))]) 0 [] (zafter E YX1_onlyOf (d + 1) [] 51 3 [] Q))) : Z E YX1_onlyOf (d + 1) M [(0, vr (some (a0, 4, 0))), (1, vi l1), (3, vi l3)] 43 [] Q := by
  refine z_iload_n dX1_onlyOf_43 rfl rfl ?_
  refine z_if_eq (tgt := 55) dX1_onlyOf_44 rfl (fun h_ => ?_) (fun h_ => ?_)
  · have k := zit h_ k
    exact z_vret dX1_onlyOf_55 rfl k
  · have k := zif h_ k
    refine z_aload_n dX1_onlyOf_47 rfl rfl ?_
    refine z_iload_n dX1_onlyOf_48 rfl rfl ?_
    refine z_iconst (v := 1) dX1_onlyOf_49 rfl ?_
    refine z_iadd dX1_onlyOf_50 ?_
    refine Z.pick [] rfl ?_
    exact z_callV (as := [vi (l1 + (1 : Int32))]) (st := []) dX1_onlyOf_51 vsX1_800_4 (Nat.le_refl _) (Nat.le_of_ble_eq_true rfl) (Nat.le_of_ble_eq_true rfl) rfl k
theorem sX1_onlyOf_54 {E : zE} {d : Nat} {Q : zO → zM → Prop} (M : zM) (u0 : Option zP) (hw : cw M) (k : Q (.inl none) M) : Z E YX1_onlyOf (d + 1) M [] 54 [vr u0] Q := by
  refine z_pop dX1_onlyOf_54 rfl ?_
  exact z_vret dX1_onlyOf_55 rfl k
/-! ScriptTypes.comesBack(II)V -/
theorem bX1_comesBack_0 : zdec cX1_comesBack 0 [(0, .aload_n 0, 1), (1, .getfield 674, 3), (4, .getfield 719, 3), (7, .iload_n 1, 1), (8, .iaload, 1), (9, .iconst (-1), 1), (10, .if_icmp .eq 131, 3), (13, .aload_n 0, 1), (14, .getfield 674, 3), (17, .iload_n 1, 1), (18, .aload_n 0, 1), (19, .getfield 684, 3), (22, .invokevirtual 1069, 3), (25, .aload_n 0, 1), (26, .invokevirtual 1072, 3), (29, .aload_n 0, 1)] = true := by decide +kernel
theorem dX1_comesBack_0 : decode cX1_comesBack 0 = .ok (.aload_n 0, 1) := zdec_at bX1_comesBack_0 0 rfl
theorem dX1_comesBack_1 : decode cX1_comesBack 1 = .ok (.getfield 674, 3) := zdec_at bX1_comesBack_0 1 rfl
theorem dX1_comesBack_4 : decode cX1_comesBack 4 = .ok (.getfield 719, 3) := zdec_at bX1_comesBack_0 2 rfl
theorem dX1_comesBack_7 : decode cX1_comesBack 7 = .ok (.iload_n 1, 1) := zdec_at bX1_comesBack_0 3 rfl
theorem dX1_comesBack_8 : decode cX1_comesBack 8 = .ok (.iaload, 1) := zdec_at bX1_comesBack_0 4 rfl
theorem dX1_comesBack_9 : decode cX1_comesBack 9 = .ok (.iconst (-1), 1) := zdec_at bX1_comesBack_0 5 rfl
theorem dX1_comesBack_10 : decode cX1_comesBack 10 = .ok (.if_icmp .eq 131, 3) := zdec_at bX1_comesBack_0 6 rfl
theorem dX1_comesBack_13 : decode cX1_comesBack 13 = .ok (.aload_n 0, 1) := zdec_at bX1_comesBack_0 7 rfl
theorem dX1_comesBack_14 : decode cX1_comesBack 14 = .ok (.getfield 674, 3) := zdec_at bX1_comesBack_0 8 rfl
theorem dX1_comesBack_17 : decode cX1_comesBack 17 = .ok (.iload_n 1, 1) := zdec_at bX1_comesBack_0 9 rfl
theorem dX1_comesBack_18 : decode cX1_comesBack 18 = .ok (.aload_n 0, 1) := zdec_at bX1_comesBack_0 10 rfl
theorem dX1_comesBack_19 : decode cX1_comesBack 19 = .ok (.getfield 684, 3) := zdec_at bX1_comesBack_0 11 rfl
theorem dX1_comesBack_22 : decode cX1_comesBack 22 = .ok (.invokevirtual 1069, 3) := zdec_at bX1_comesBack_0 12 rfl
theorem dX1_comesBack_25 : decode cX1_comesBack 25 = .ok (.aload_n 0, 1) := zdec_at bX1_comesBack_0 13 rfl
theorem dX1_comesBack_26 : decode cX1_comesBack 26 = .ok (.invokevirtual 1072, 3) := zdec_at bX1_comesBack_0 14 rfl
theorem dX1_comesBack_29 : decode cX1_comesBack 29 = .ok (.aload_n 0, 1) := zdec_at bX1_comesBack_0 15 rfl
theorem bX1_comesBack_30 : zdec cX1_comesBack 30 [(30, .getfield 674, 3), (33, .getfield 1075, 3), (36, .iload_n 1, 1), (37, .iaload, 1), (38, .istore_n 3, 1), (39, .aload_n 0, 1), (40, .getfield 216, 3), (43, .aload_n 0, 1), (44, .getfield 674, 3), (47, .getfield 1078, 3), (50, .iload_n 3, 1), (51, .laload, 1), (52, .invokevirtual 892, 3), (55, .aload_n 0, 1), (56, .getfield 674, 3), (59, .getfield 1079, 3)] = true := by decide +kernel
theorem dX1_comesBack_30 : decode cX1_comesBack 30 = .ok (.getfield 674, 3) := zdec_at bX1_comesBack_30 0 rfl
theorem dX1_comesBack_33 : decode cX1_comesBack 33 = .ok (.getfield 1075, 3) := zdec_at bX1_comesBack_30 1 rfl
theorem dX1_comesBack_36 : decode cX1_comesBack 36 = .ok (.iload_n 1, 1) := zdec_at bX1_comesBack_30 2 rfl
theorem dX1_comesBack_37 : decode cX1_comesBack 37 = .ok (.iaload, 1) := zdec_at bX1_comesBack_30 3 rfl
theorem dX1_comesBack_38 : decode cX1_comesBack 38 = .ok (.istore_n 3, 1) := zdec_at bX1_comesBack_30 4 rfl
theorem dX1_comesBack_39 : decode cX1_comesBack 39 = .ok (.aload_n 0, 1) := zdec_at bX1_comesBack_30 5 rfl
theorem dX1_comesBack_40 : decode cX1_comesBack 40 = .ok (.getfield 216, 3) := zdec_at bX1_comesBack_30 6 rfl
theorem dX1_comesBack_43 : decode cX1_comesBack 43 = .ok (.aload_n 0, 1) := zdec_at bX1_comesBack_30 7 rfl
theorem dX1_comesBack_44 : decode cX1_comesBack 44 = .ok (.getfield 674, 3) := zdec_at bX1_comesBack_30 8 rfl
theorem dX1_comesBack_47 : decode cX1_comesBack 47 = .ok (.getfield 1078, 3) := zdec_at bX1_comesBack_30 9 rfl
theorem dX1_comesBack_50 : decode cX1_comesBack 50 = .ok (.iload_n 3, 1) := zdec_at bX1_comesBack_30 10 rfl
theorem dX1_comesBack_51 : decode cX1_comesBack 51 = .ok (.laload, 1) := zdec_at bX1_comesBack_30 11 rfl
theorem dX1_comesBack_52 : decode cX1_comesBack 52 = .ok (.invokevirtual 892, 3) := zdec_at bX1_comesBack_30 12 rfl
theorem dX1_comesBack_55 : decode cX1_comesBack 55 = .ok (.aload_n 0, 1) := zdec_at bX1_comesBack_30 13 rfl
theorem dX1_comesBack_56 : decode cX1_comesBack 56 = .ok (.getfield 674, 3) := zdec_at bX1_comesBack_30 14 rfl
theorem dX1_comesBack_59 : decode cX1_comesBack 59 = .ok (.getfield 1079, 3) := zdec_at bX1_comesBack_30 15 rfl
theorem bX1_comesBack_62 : zdec cX1_comesBack 62 [(62, .iload_n 3, 1), (63, .laload, 1), (64, .aload_n 0, 1), (65, .getfield 674, 3), (68, .getfield 1080, 3), (71, .iload_n 3, 1), (72, .laload, 1), (73, .lconst 0, 1), (74, .invokevirtual 871, 3), (77, .pop, 1), (78, .iload_n 2, 1), (79, .iconst (-1), 1), (80, .if_icmp .eq 42, 3), (83, .aload_n 0, 1), (84, .getfield 216, 3), (87, .getfield 920, 3)] = true := by decide +kernel
theorem dX1_comesBack_62 : decode cX1_comesBack 62 = .ok (.iload_n 3, 1) := zdec_at bX1_comesBack_62 0 rfl
theorem dX1_comesBack_63 : decode cX1_comesBack 63 = .ok (.laload, 1) := zdec_at bX1_comesBack_62 1 rfl
theorem dX1_comesBack_64 : decode cX1_comesBack 64 = .ok (.aload_n 0, 1) := zdec_at bX1_comesBack_62 2 rfl
theorem dX1_comesBack_65 : decode cX1_comesBack 65 = .ok (.getfield 674, 3) := zdec_at bX1_comesBack_62 3 rfl
theorem dX1_comesBack_68 : decode cX1_comesBack 68 = .ok (.getfield 1080, 3) := zdec_at bX1_comesBack_62 4 rfl
theorem dX1_comesBack_71 : decode cX1_comesBack 71 = .ok (.iload_n 3, 1) := zdec_at bX1_comesBack_62 5 rfl
theorem dX1_comesBack_72 : decode cX1_comesBack 72 = .ok (.laload, 1) := zdec_at bX1_comesBack_62 6 rfl
theorem dX1_comesBack_73 : decode cX1_comesBack 73 = .ok (.lconst 0, 1) := zdec_at bX1_comesBack_62 7 rfl
theorem dX1_comesBack_74 : decode cX1_comesBack 74 = .ok (.invokevirtual 871, 3) := zdec_at bX1_comesBack_62 8 rfl
theorem dX1_comesBack_77 : decode cX1_comesBack 77 = .ok (.pop, 1) := zdec_at bX1_comesBack_62 9 rfl
theorem dX1_comesBack_78 : decode cX1_comesBack 78 = .ok (.iload_n 2, 1) := zdec_at bX1_comesBack_62 10 rfl
theorem dX1_comesBack_79 : decode cX1_comesBack 79 = .ok (.iconst (-1), 1) := zdec_at bX1_comesBack_62 11 rfl
theorem dX1_comesBack_80 : decode cX1_comesBack 80 = .ok (.if_icmp .eq 42, 3) := zdec_at bX1_comesBack_62 12 rfl
theorem dX1_comesBack_83 : decode cX1_comesBack 83 = .ok (.aload_n 0, 1) := zdec_at bX1_comesBack_62 13 rfl
theorem dX1_comesBack_84 : decode cX1_comesBack 84 = .ok (.getfield 216, 3) := zdec_at bX1_comesBack_62 14 rfl
theorem dX1_comesBack_87 : decode cX1_comesBack 87 = .ok (.getfield 920, 3) := zdec_at bX1_comesBack_62 15 rfl
theorem bX1_comesBack_90 : zdec cX1_comesBack 90 [(90, .ldc2_w 875, 3), (93, .land, 1), (94, .lconst 0, 1), (95, .lcmp, 1), (96, .ifCond .eq 26, 3), (99, .aload_n 0, 1), (100, .getfield 216, 3), (103, .lconst 0, 1), (104, .putfield 920, 3), (107, .aload_n 0, 1), (108, .getfield 216, 3), (111, .iload_n 2, 1), (112, .invokevirtual 800, 3), (115, .iload_n 2, 1), (116, .iconst 1, 1), (117, .iadd, 1)] = true := by decide +kernel
theorem dX1_comesBack_90 : decode cX1_comesBack 90 = .ok (.ldc2_w 875, 3) := zdec_at bX1_comesBack_90 0 rfl
theorem dX1_comesBack_93 : decode cX1_comesBack 93 = .ok (.land, 1) := zdec_at bX1_comesBack_90 1 rfl
theorem dX1_comesBack_94 : decode cX1_comesBack 94 = .ok (.lconst 0, 1) := zdec_at bX1_comesBack_90 2 rfl
theorem dX1_comesBack_95 : decode cX1_comesBack 95 = .ok (.lcmp, 1) := zdec_at bX1_comesBack_90 3 rfl
theorem dX1_comesBack_96 : decode cX1_comesBack 96 = .ok (.ifCond .eq 26, 3) := zdec_at bX1_comesBack_90 4 rfl
theorem dX1_comesBack_99 : decode cX1_comesBack 99 = .ok (.aload_n 0, 1) := zdec_at bX1_comesBack_90 5 rfl
theorem dX1_comesBack_100 : decode cX1_comesBack 100 = .ok (.getfield 216, 3) := zdec_at bX1_comesBack_90 6 rfl
theorem dX1_comesBack_103 : decode cX1_comesBack 103 = .ok (.lconst 0, 1) := zdec_at bX1_comesBack_90 7 rfl
theorem dX1_comesBack_104 : decode cX1_comesBack 104 = .ok (.putfield 920, 3) := zdec_at bX1_comesBack_90 8 rfl
theorem dX1_comesBack_107 : decode cX1_comesBack 107 = .ok (.aload_n 0, 1) := zdec_at bX1_comesBack_90 9 rfl
theorem dX1_comesBack_108 : decode cX1_comesBack 108 = .ok (.getfield 216, 3) := zdec_at bX1_comesBack_90 10 rfl
theorem dX1_comesBack_111 : decode cX1_comesBack 111 = .ok (.iload_n 2, 1) := zdec_at bX1_comesBack_90 11 rfl
theorem dX1_comesBack_112 : decode cX1_comesBack 112 = .ok (.invokevirtual 800, 3) := zdec_at bX1_comesBack_90 12 rfl
theorem dX1_comesBack_115 : decode cX1_comesBack 115 = .ok (.iload_n 2, 1) := zdec_at bX1_comesBack_90 13 rfl
theorem dX1_comesBack_116 : decode cX1_comesBack 116 = .ok (.iconst 1, 1) := zdec_at bX1_comesBack_90 14 rfl
theorem dX1_comesBack_117 : decode cX1_comesBack 117 = .ok (.iadd, 1) := zdec_at bX1_comesBack_90 15 rfl
theorem bX1_comesBack_118 : zdec cX1_comesBack 118 [(118, .invokevirtual 800, 3), (121, .pop, 1), (122, .aload_n 0, 1), (123, .aload_n 0, 1), (124, .getfield 216, 3), (127, .invokevirtual 895, 3), (130, .aload_n 0, 1), (131, .getfield 684, 3), (134, .aload_n 0, 1), (135, .getfield 688, 3), (138, .invokevirtual 1059, 3), (141, .aload_n 0, 1), (142, .getfield 674, 3), (145, .getfield 719, 3), (148, .iload_n 1, 1), (149, .iconst 1, 1)] = true := by decide +kernel
theorem dX1_comesBack_118 : decode cX1_comesBack 118 = .ok (.invokevirtual 800, 3) := zdec_at bX1_comesBack_118 0 rfl
theorem dX1_comesBack_121 : decode cX1_comesBack 121 = .ok (.pop, 1) := zdec_at bX1_comesBack_118 1 rfl
theorem dX1_comesBack_122 : decode cX1_comesBack 122 = .ok (.aload_n 0, 1) := zdec_at bX1_comesBack_118 2 rfl
theorem dX1_comesBack_123 : decode cX1_comesBack 123 = .ok (.aload_n 0, 1) := zdec_at bX1_comesBack_118 3 rfl
theorem dX1_comesBack_124 : decode cX1_comesBack 124 = .ok (.getfield 216, 3) := zdec_at bX1_comesBack_118 4 rfl
theorem dX1_comesBack_127 : decode cX1_comesBack 127 = .ok (.invokevirtual 895, 3) := zdec_at bX1_comesBack_118 5 rfl
theorem dX1_comesBack_130 : decode cX1_comesBack 130 = .ok (.aload_n 0, 1) := zdec_at bX1_comesBack_118 6 rfl
theorem dX1_comesBack_131 : decode cX1_comesBack 131 = .ok (.getfield 684, 3) := zdec_at bX1_comesBack_118 7 rfl
theorem dX1_comesBack_134 : decode cX1_comesBack 134 = .ok (.aload_n 0, 1) := zdec_at bX1_comesBack_118 8 rfl
theorem dX1_comesBack_135 : decode cX1_comesBack 135 = .ok (.getfield 688, 3) := zdec_at bX1_comesBack_118 9 rfl
theorem dX1_comesBack_138 : decode cX1_comesBack 138 = .ok (.invokevirtual 1059, 3) := zdec_at bX1_comesBack_118 10 rfl
theorem dX1_comesBack_141 : decode cX1_comesBack 141 = .ok (.aload_n 0, 1) := zdec_at bX1_comesBack_118 11 rfl
theorem dX1_comesBack_142 : decode cX1_comesBack 142 = .ok (.getfield 674, 3) := zdec_at bX1_comesBack_118 12 rfl
theorem dX1_comesBack_145 : decode cX1_comesBack 145 = .ok (.getfield 719, 3) := zdec_at bX1_comesBack_118 13 rfl
theorem dX1_comesBack_148 : decode cX1_comesBack 148 = .ok (.iload_n 1, 1) := zdec_at bX1_comesBack_118 14 rfl
theorem dX1_comesBack_149 : decode cX1_comesBack 149 = .ok (.iconst 1, 1) := zdec_at bX1_comesBack_118 15 rfl
theorem bX1_comesBack_150 : zdec cX1_comesBack 150 [(150, .iadd, 1), (151, .iaload, 1), (152, .iconst (-1), 1), (153, .if_icmp .eq 95, 3), (156, .aload_n 0, 1), (157, .getfield 674, 3), (160, .iload_n 1, 1), (161, .iconst 1, 1), (162, .iadd, 1), (163, .aload_n 0, 1), (164, .getfield 684, 3), (167, .invokevirtual 1069, 3), (170, .aload_n 0, 1), (171, .invokevirtual 1072, 3), (174, .aload_n 0, 1), (175, .getfield 674, 3)] = true := by decide +kernel
theorem dX1_comesBack_150 : decode cX1_comesBack 150 = .ok (.iadd, 1) := zdec_at bX1_comesBack_150 0 rfl
theorem dX1_comesBack_151 : decode cX1_comesBack 151 = .ok (.iaload, 1) := zdec_at bX1_comesBack_150 1 rfl
theorem dX1_comesBack_152 : decode cX1_comesBack 152 = .ok (.iconst (-1), 1) := zdec_at bX1_comesBack_150 2 rfl
theorem dX1_comesBack_153 : decode cX1_comesBack 153 = .ok (.if_icmp .eq 95, 3) := zdec_at bX1_comesBack_150 3 rfl
theorem dX1_comesBack_156 : decode cX1_comesBack 156 = .ok (.aload_n 0, 1) := zdec_at bX1_comesBack_150 4 rfl
theorem dX1_comesBack_157 : decode cX1_comesBack 157 = .ok (.getfield 674, 3) := zdec_at bX1_comesBack_150 5 rfl
theorem dX1_comesBack_160 : decode cX1_comesBack 160 = .ok (.iload_n 1, 1) := zdec_at bX1_comesBack_150 6 rfl
theorem dX1_comesBack_161 : decode cX1_comesBack 161 = .ok (.iconst 1, 1) := zdec_at bX1_comesBack_150 7 rfl
theorem dX1_comesBack_162 : decode cX1_comesBack 162 = .ok (.iadd, 1) := zdec_at bX1_comesBack_150 8 rfl
theorem dX1_comesBack_163 : decode cX1_comesBack 163 = .ok (.aload_n 0, 1) := zdec_at bX1_comesBack_150 9 rfl
theorem dX1_comesBack_164 : decode cX1_comesBack 164 = .ok (.getfield 684, 3) := zdec_at bX1_comesBack_150 10 rfl
theorem dX1_comesBack_167 : decode cX1_comesBack 167 = .ok (.invokevirtual 1069, 3) := zdec_at bX1_comesBack_150 11 rfl
theorem dX1_comesBack_170 : decode cX1_comesBack 170 = .ok (.aload_n 0, 1) := zdec_at bX1_comesBack_150 12 rfl
theorem dX1_comesBack_171 : decode cX1_comesBack 171 = .ok (.invokevirtual 1072, 3) := zdec_at bX1_comesBack_150 13 rfl
theorem dX1_comesBack_174 : decode cX1_comesBack 174 = .ok (.aload_n 0, 1) := zdec_at bX1_comesBack_150 14 rfl
theorem dX1_comesBack_175 : decode cX1_comesBack 175 = .ok (.getfield 674, 3) := zdec_at bX1_comesBack_150 15 rfl
theorem bX1_comesBack_178 : zdec cX1_comesBack 178 [(178, .getfield 1075, 3), (181, .iload_n 1, 1), (182, .iconst 1, 1), (183, .iadd, 1), (184, .iaload, 1), (185, .istore_n 3, 1), (186, .aload_n 0, 1), (187, .getfield 216, 3), (190, .aload_n 0, 1), (191, .getfield 674, 3), (194, .getfield 1078, 3), (197, .iload_n 3, 1), (198, .laload, 1), (199, .invokevirtual 892, 3), (202, .aload_n 0, 1), (203, .getfield 674, 3)] = true := by decide +kernel
theorem dX1_comesBack_178 : decode cX1_comesBack 178 = .ok (.getfield 1075, 3) := zdec_at bX1_comesBack_178 0 rfl
theorem dX1_comesBack_181 : decode cX1_comesBack 181 = .ok (.iload_n 1, 1) := zdec_at bX1_comesBack_178 1 rfl
theorem dX1_comesBack_182 : decode cX1_comesBack 182 = .ok (.iconst 1, 1) := zdec_at bX1_comesBack_178 2 rfl
theorem dX1_comesBack_183 : decode cX1_comesBack 183 = .ok (.iadd, 1) := zdec_at bX1_comesBack_178 3 rfl
theorem dX1_comesBack_184 : decode cX1_comesBack 184 = .ok (.iaload, 1) := zdec_at bX1_comesBack_178 4 rfl
theorem dX1_comesBack_185 : decode cX1_comesBack 185 = .ok (.istore_n 3, 1) := zdec_at bX1_comesBack_178 5 rfl
theorem dX1_comesBack_186 : decode cX1_comesBack 186 = .ok (.aload_n 0, 1) := zdec_at bX1_comesBack_178 6 rfl
theorem dX1_comesBack_187 : decode cX1_comesBack 187 = .ok (.getfield 216, 3) := zdec_at bX1_comesBack_178 7 rfl
theorem dX1_comesBack_190 : decode cX1_comesBack 190 = .ok (.aload_n 0, 1) := zdec_at bX1_comesBack_178 8 rfl
theorem dX1_comesBack_191 : decode cX1_comesBack 191 = .ok (.getfield 674, 3) := zdec_at bX1_comesBack_178 9 rfl
theorem dX1_comesBack_194 : decode cX1_comesBack 194 = .ok (.getfield 1078, 3) := zdec_at bX1_comesBack_178 10 rfl
theorem dX1_comesBack_197 : decode cX1_comesBack 197 = .ok (.iload_n 3, 1) := zdec_at bX1_comesBack_178 11 rfl
theorem dX1_comesBack_198 : decode cX1_comesBack 198 = .ok (.laload, 1) := zdec_at bX1_comesBack_178 12 rfl
theorem dX1_comesBack_199 : decode cX1_comesBack 199 = .ok (.invokevirtual 892, 3) := zdec_at bX1_comesBack_178 13 rfl
theorem dX1_comesBack_202 : decode cX1_comesBack 202 = .ok (.aload_n 0, 1) := zdec_at bX1_comesBack_178 14 rfl
theorem dX1_comesBack_203 : decode cX1_comesBack 203 = .ok (.getfield 674, 3) := zdec_at bX1_comesBack_178 15 rfl
theorem bX1_comesBack_206 : zdec cX1_comesBack 206 [(206, .getfield 1079, 3), (209, .iload_n 3, 1), (210, .laload, 1), (211, .aload_n 0, 1), (212, .getfield 674, 3), (215, .getfield 1080, 3), (218, .iload_n 3, 1), (219, .laload, 1), (220, .lconst 0, 1), (221, .invokevirtual 871, 3), (224, .pop, 1), (225, .aload_n 0, 1), (226, .aload_n 0, 1), (227, .getfield 684, 3), (230, .aload_n 0, 1), (231, .getfield 216, 3)] = true := by decide +kernel
theorem dX1_comesBack_206 : decode cX1_comesBack 206 = .ok (.getfield 1079, 3) := zdec_at bX1_comesBack_206 0 rfl
theorem dX1_comesBack_209 : decode cX1_comesBack 209 = .ok (.iload_n 3, 1) := zdec_at bX1_comesBack_206 1 rfl
theorem dX1_comesBack_210 : decode cX1_comesBack 210 = .ok (.laload, 1) := zdec_at bX1_comesBack_206 2 rfl
theorem dX1_comesBack_211 : decode cX1_comesBack 211 = .ok (.aload_n 0, 1) := zdec_at bX1_comesBack_206 3 rfl
theorem dX1_comesBack_212 : decode cX1_comesBack 212 = .ok (.getfield 674, 3) := zdec_at bX1_comesBack_206 4 rfl
theorem dX1_comesBack_215 : decode cX1_comesBack 215 = .ok (.getfield 1080, 3) := zdec_at bX1_comesBack_206 5 rfl
theorem dX1_comesBack_218 : decode cX1_comesBack 218 = .ok (.iload_n 3, 1) := zdec_at bX1_comesBack_206 6 rfl
theorem dX1_comesBack_219 : decode cX1_comesBack 219 = .ok (.laload, 1) := zdec_at bX1_comesBack_206 7 rfl
theorem dX1_comesBack_220 : decode cX1_comesBack 220 = .ok (.lconst 0, 1) := zdec_at bX1_comesBack_206 8 rfl
theorem dX1_comesBack_221 : decode cX1_comesBack 221 = .ok (.invokevirtual 871, 3) := zdec_at bX1_comesBack_206 9 rfl
theorem dX1_comesBack_224 : decode cX1_comesBack 224 = .ok (.pop, 1) := zdec_at bX1_comesBack_206 10 rfl
theorem dX1_comesBack_225 : decode cX1_comesBack 225 = .ok (.aload_n 0, 1) := zdec_at bX1_comesBack_206 11 rfl
theorem dX1_comesBack_226 : decode cX1_comesBack 226 = .ok (.aload_n 0, 1) := zdec_at bX1_comesBack_206 12 rfl
theorem dX1_comesBack_227 : decode cX1_comesBack 227 = .ok (.getfield 684, 3) := zdec_at bX1_comesBack_206 13 rfl
theorem dX1_comesBack_230 : decode cX1_comesBack 230 = .ok (.aload_n 0, 1) := zdec_at bX1_comesBack_206 14 rfl
theorem dX1_comesBack_231 : decode cX1_comesBack 231 = .ok (.getfield 216, 3) := zdec_at bX1_comesBack_206 15 rfl
theorem bX1_comesBack_234 : zdec cX1_comesBack 234 [(234, .invokevirtual 803, 3), (237, .aload_n 0, 1), (238, .getfield 684, 3), (241, .aload_n 0, 1), (242, .getfield 688, 3), (245, .invokevirtual 1059, 3), (248, .return_, 1)] = true := by decide +kernel
theorem dX1_comesBack_234 : decode cX1_comesBack 234 = .ok (.invokevirtual 803, 3) := zdec_at bX1_comesBack_234 0 rfl
theorem dX1_comesBack_237 : decode cX1_comesBack 237 = .ok (.aload_n 0, 1) := zdec_at bX1_comesBack_234 1 rfl
theorem dX1_comesBack_238 : decode cX1_comesBack 238 = .ok (.getfield 684, 3) := zdec_at bX1_comesBack_234 2 rfl
theorem dX1_comesBack_241 : decode cX1_comesBack 241 = .ok (.aload_n 0, 1) := zdec_at bX1_comesBack_234 3 rfl
theorem dX1_comesBack_242 : decode cX1_comesBack 242 = .ok (.getfield 688, 3) := zdec_at bX1_comesBack_234 4 rfl
theorem dX1_comesBack_245 : decode cX1_comesBack 245 = .ok (.invokevirtual 1059, 3) := zdec_at bX1_comesBack_234 5 rfl
theorem dX1_comesBack_248 : decode cX1_comesBack 248 = .ok (.return_, 1) := zdec_at bX1_comesBack_234 6 rfl
theorem sX1_comesBack_0 {E : zE} {d : Nat} {Q : zO → zM → Prop} (M : zM) (l1 : Int32) (l2 : Int32) (hw : cw M) (k : ∃ b1 : Nat, (gr M 16 59) = some (b1, 6, 0) ∧ (∃ b2 m2 : Nat, (gr M b1 9) = some (b2, 100, m2) ∧ (vp_in l1 m2 ∧ (if (gi M b2 (l1).toNatClampNeg) = (-1 : Int32) then (Z E YX1_comesBack (d + 1) M [(0, vr (some (16, 0, 0))), (1, vi l1)] 141 [] Q) else (∃ b3 : Nat, (gr M 16 59) = some (b3, 6, 0) ∧ (Z E YX42_heap d M (zargs 0 [vr (some (b3, 6, 0)), vi l1, vr (gr M 16 60)]) 0 [] (zafter E YX1_comesBack (d + 1) [(0, vr (some (16, 0, 0))), (1, vi l1), (2, vi l2)] 22 3 [] Q))))))) : Z E YX1_comesBack (d + 1) M [(0, vr (some (16, 0, 0))), (1, vi l1), (2, vi l2)] 0 [] Q := by
  refine z_aload_n dX1_comesBack_0 rfl rfl ?_
  refine z_getr (r := (gr M 16 59)) dX1_comesBack_1 fsX1_674_0 rfl ?_
  obtain ⟨b1, e1_, k⟩ := k
  refine Z.eqs (lv' := [(0, vr (some (16, 0, 0))), (1, vi l1), (2, vi l2)]) (st' := [vr (some (b1, 6, 0))]) rfl (by rw [e1_] <;> rfl) ?_
  refine z_getr (r := (gr M b1 9)) dX1_comesBack_4 fsX1_719_6 rfl ?_
  refine z_iload_n dX1_comesBack_7 rfl rfl ?_
  obtain ⟨b2, m2, e2_, k⟩ := k
  refine Z.eqs (lv' := [(0, vr (some (16, 0, 0))), (1, vi l1), (2, vi l2)]) (st' := [vi l1, vr (some (b2, 100, m2))]) rfl (by rw [e2_] <;> rfl) ?_
  obtain ⟨b_, k⟩ := k
  refine z_iald dX1_comesBack_8 b_ ?_
  refine z_iconst (v := -1) dX1_comesBack_9 rfl ?_
  refine z_icmp_eq (tgt := 141) dX1_comesBack_10 rfl (fun h_ => ?_) (fun h_ => ?_)
  · have k := zit h_ k
    refine Z.pick [0, 1] rfl ?_
    exact k
  · have k := zif h_ k
    refine z_aload_n dX1_comesBack_13 rfl rfl ?_
    refine z_getr (r := (gr M 16 59)) dX1_comesBack_14 fsX1_674_0 rfl ?_
    refine z_iload_n dX1_comesBack_17 rfl rfl ?_
    refine z_aload_n dX1_comesBack_18 rfl rfl ?_
    refine z_getr (r := (gr M 16 60)) dX1_comesBack_19 fsX1_684_0 rfl ?_
    obtain ⟨b3, e3_, k⟩ := k
    refine Z.eqs (lv' := [(0, vr (some (16, 0, 0))), (1, vi l1), (2, vi l2)]) (st' := [vr (gr M 16 60), vi l1, vr (some (b3, 6, 0))]) rfl (by rw [e3_] <;> rfl) ?_
    exact z_callV (as := [vi l1, vr (gr M 16 60)]) (st := []) dX1_comesBack_22 vsX1_1069_6 (Nat.le_refl _) (Nat.le_of_ble_eq_true rfl) (Nat.le_of_ble_eq_true rfl) rfl k
theorem sX1_comesBack_25 {E : zE} {d : Nat} {Q : zO → zM → Prop} (M : zM) (l1 : Int32) (l2 : Int32) (hw : cw M) (k : Z E YX1_ages d M (zargs 0 [vr (some (16, 0, 0))]) 0 [] (zafter E YX1_comesBack (d + 1) [(0, vr (some (16, 0, 0))), (1, vi l1), (2, vi l2)] 26 3 [] Q)) : Z E YX1_comesBack (d + 1) M [(0, vr (some (16, 0, 0))), (1, vi l1), (2, vi l2)] 25 [] Q := by
  refine z_aload_n dX1_comesBack_25 rfl rfl ?_
  exact z_callV (as := []) (st := []) dX1_comesBack_26 vsX1_1072_0 (Nat.le_refl _) (Nat.le_of_ble_eq_true rfl) (Nat.le_of_ble_eq_true rfl) rfl k
theorem sX1_comesBack_29 {E : zE} {d : Nat} {Q : zO → zM → Prop} (M : zM) (l1 : Int32) (l2 : Int32) (hw : cw M) (k : ∃ b1 : Nat, (gr M 16 59) = some (b1, 6, 0) ∧ (∃ b2 m2 : Nat, (gr M b1 10) = some (b2, 100, m2) ∧ (vp_in l1 m2 ∧ (∃ b3 : Nat, (gr M 16 59) = some (b3, 6, 0) ∧ (∃ b4 m4 : Nat, (gr M b3 18) = some (b4, 105, m4) ∧ (vp_in (gi M b2 (l1).toNatClampNeg) m4 ∧ (Z E YX6_of d M (zargs 0 [vr (some (74, 4, 0)), vl (gl M b4 ((gi M b2 (l1).toNatClampNeg)).toNatClampNeg)]) 0 [] (zafter E YX1_comesBack (d + 1) [(0, vr (some (16, 0, 0))), (1, vi l1), (2, vi l2), (3, vi (gi M b2 (l1).toNatClampNeg))] 52 3 [] Q)))))))) : Z E YX1_comesBack (d + 1) M [(0, vr (some (16, 0, 0))), (1, vi l1), (2, vi l2)] 29 [] Q := by
  refine z_aload_n dX1_comesBack_29 rfl rfl ?_
  refine z_getr (r := (gr M 16 59)) dX1_comesBack_30 fsX1_674_0 rfl ?_
  obtain ⟨b1, e1_, k⟩ := k
  refine Z.eqs (lv' := [(0, vr (some (16, 0, 0))), (1, vi l1), (2, vi l2)]) (st' := [vr (some (b1, 6, 0))]) rfl (by rw [e1_] <;> rfl) ?_
  refine z_getr (r := (gr M b1 10)) dX1_comesBack_33 fsX1_1075_6 rfl ?_
  refine z_iload_n dX1_comesBack_36 rfl rfl ?_
  obtain ⟨b2, m2, e2_, k⟩ := k
  refine Z.eqs (lv' := [(0, vr (some (16, 0, 0))), (1, vi l1), (2, vi l2)]) (st' := [vi l1, vr (some (b2, 100, m2))]) rfl (by rw [e2_] <;> rfl) ?_
  obtain ⟨b_, k⟩ := k
  refine z_iald dX1_comesBack_37 b_ ?_
  refine z_ist_n dX1_comesBack_38 rfl (by decide) (lv' := [(0, vr (some (16, 0, 0))), (1, vi l1), (2, vi l2), (3, vi (gi M b2 (l1).toNatClampNeg))]) rfl ?_
  refine z_aload_n dX1_comesBack_39 rfl rfl ?_
  refine z_getr dX1_comesBack_40 fsX1_216_0 (show gr M 16 81 = some (74, 4, 0) from cw_at hw 42 rfl) ?_
  refine z_aload_n dX1_comesBack_43 rfl rfl ?_
  refine z_getr (r := (gr M 16 59)) dX1_comesBack_44 fsX1_674_0 rfl ?_
  obtain ⟨b3, e3_, k⟩ := k
  refine Z.eqs (lv' := [(0, vr (some (16, 0, 0))), (1, vi l1), (2, vi l2), (3, vi (gi M b2 (l1).toNatClampNeg))]) (st' := [vr (some (b3, 6, 0)), vr (some (74, 4, 0))]) rfl (by rw [e3_] <;> rfl) ?_
  refine z_getr (r := (gr M b3 18)) dX1_comesBack_47 fsX1_1078_6 rfl ?_
  refine z_iload_n dX1_comesBack_50 rfl rfl ?_
  obtain ⟨b4, m4, e4_, k⟩ := k
  refine Z.eqs (lv' := [(0, vr (some (16, 0, 0))), (1, vi l1), (2, vi l2), (3, vi (gi M b2 (l1).toNatClampNeg))]) (st' := [vi (gi M b2 (l1).toNatClampNeg), vr (some (b4, 105, m4)), vr (some (74, 4, 0))]) rfl (by rw [e4_] <;> rfl) ?_
  obtain ⟨b_, k⟩ := k
  refine z_lald dX1_comesBack_51 b_ ?_
  exact z_callV (as := [vl (gl M b4 ((gi M b2 (l1).toNatClampNeg)).toNatClampNeg)]) (st := []) dX1_comesBack_52 vsX1_892_4 (Nat.le_refl _) (Nat.le_of_ble_eq_true rfl) (Nat.le_of_ble_eq_true rfl) rfl k
theorem sX1_comesBack_55 {E : zE} {d : Nat} {Q : zO → zM → Prop} (M : zM) (l1 : Int32) (l2 : Int32) (l3 : Int32) (u0 : Option zP) (hw : cw M) (k : ∃ b1 : Nat, (gr M 16 59) = some (b1, 6, 0) ∧ (∃ b2 m2 : Nat, (gr M b1 16) = some (b2, 105, m2) ∧ (vp_in l3 m2 ∧ (∃ b3 : Nat, (gr M 16 59) = some (b3, 6, 0) ∧ (∃ b4 m4 : Nat, (gr M b3 17) = some (b4, 105, m4) ∧ (vp_in l3 m4 ∧ (∃ b5 : Nat, u0 = some (b5, 4, 0) ∧ (Z E YX6_join3 d M (zargs 0 [vr (some (b5, 4, 0)), vl (gl M b2 (l3).toNatClampNeg), vl (gl M b4 (l3).toNatClampNeg), vl (0 : Int64)]) 0 [] (zafter E YX1_comesBack (d + 1) [(0, vr (some (16, 0, 0))), (1, vi l1), (2, vi l2)] 74 3 [] Q))))))))) : Z E YX1_comesBack (d + 1) M [(0, vr (some (16, 0, 0))), (1, vi l1), (2, vi l2), (3, vi l3)] 55 [vr u0] Q := by
  refine z_aload_n dX1_comesBack_55 rfl rfl ?_
  refine z_getr (r := (gr M 16 59)) dX1_comesBack_56 fsX1_674_0 rfl ?_
  obtain ⟨b1, e1_, k⟩ := k
  refine Z.eqs (lv' := [(0, vr (some (16, 0, 0))), (1, vi l1), (2, vi l2), (3, vi l3)]) (st' := [vr (some (b1, 6, 0)), vr u0]) rfl (by rw [e1_] <;> rfl) ?_
  refine z_getr (r := (gr M b1 16)) dX1_comesBack_59 fsX1_1079_6 rfl ?_
  refine z_iload_n dX1_comesBack_62 rfl rfl ?_
  obtain ⟨b2, m2, e2_, k⟩ := k
  refine Z.eqs (lv' := [(0, vr (some (16, 0, 0))), (1, vi l1), (2, vi l2), (3, vi l3)]) (st' := [vi l3, vr (some (b2, 105, m2)), vr u0]) rfl (by rw [e2_] <;> rfl) ?_
  obtain ⟨b_, k⟩ := k
  refine z_lald dX1_comesBack_63 b_ ?_
  refine z_aload_n dX1_comesBack_64 rfl rfl ?_
  refine z_getr (r := (gr M 16 59)) dX1_comesBack_65 fsX1_674_0 rfl ?_
  obtain ⟨b3, e3_, k⟩ := k
  refine Z.eqs (lv' := [(0, vr (some (16, 0, 0))), (1, vi l1), (2, vi l2), (3, vi l3)]) (st' := [vr (some (b3, 6, 0)), vl (gl M b2 (l3).toNatClampNeg), vr u0]) rfl (by rw [e3_] <;> rfl) ?_
  refine z_getr (r := (gr M b3 17)) dX1_comesBack_68 fsX1_1080_6 rfl ?_
  refine z_iload_n dX1_comesBack_71 rfl rfl ?_
  obtain ⟨b4, m4, e4_, k⟩ := k
  refine Z.eqs (lv' := [(0, vr (some (16, 0, 0))), (1, vi l1), (2, vi l2), (3, vi l3)]) (st' := [vi l3, vr (some (b4, 105, m4)), vl (gl M b2 (l3).toNatClampNeg), vr u0]) rfl (by rw [e4_] <;> rfl) ?_
  obtain ⟨b_, k⟩ := k
  refine z_lald dX1_comesBack_72 b_ ?_
  refine z_lconst (v := 0) dX1_comesBack_73 rfl ?_
  obtain ⟨b5, e5_, k⟩ := k
  refine Z.eqs (lv' := [(0, vr (some (16, 0, 0))), (1, vi l1), (2, vi l2), (3, vi l3)]) (st' := [vl (0 : Int64), vl (gl M b4 (l3).toNatClampNeg), vl (gl M b2 (l3).toNatClampNeg), vr (some (b5, 4, 0))]) rfl (by rw [e5_] <;> rfl) ?_
  refine Z.pick [0, 1, 2] rfl ?_
  exact z_callV (as := [vl (gl M b2 (l3).toNatClampNeg), vl (gl M b4 (l3).toNatClampNeg), vl (0 : Int64)]) (st := []) dX1_comesBack_74 vsX1_871_4 (Nat.le_refl _) (Nat.le_of_ble_eq_true rfl) (Nat.le_of_ble_eq_true rfl) rfl k
theorem sX1_comesBack_77 {E : zE} {d : Nat} {Q : zO → zM → Prop} (M : zM) (l1 : Int32) (l2 : Int32) (u0 : Option zP) (hw : cw M) (k : if l2 = (-1 : Int32) then (Z E YX1_nextWith d M (zargs 0 [vr (some (16, 0, 0)), vr (some (74, 4, 0))]) 0 [] (zafter E YX1_comesBack (d + 1) [(0, vr (some (16, 0, 0))), (1, vi l1)] 127 3 [] Q)) else (if (lg_cmp ((gl M 74 2) &&& (511 : Int64)) (0 : Int64)) = 0 then (Z E YX1_nextWith d M (zargs 0 [vr (some (16, 0, 0)), vr (some (74, 4, 0))]) 0 [] (zafter E YX1_comesBack (d + 1) [(0, vr (some (16, 0, 0))), (1, vi l1)] 127 3 [] Q)) else (Z E YX6_add d (sl M 74 2 (0 : Int64)) (zargs 0 [vr (some (74, 4, 0)), vi l2]) 0 [] (zafter E YX1_comesBack (d + 1) [(0, vr (some (16, 0, 0))), (1, vi l1), (2, vi l2)] 112 3 [] Q)))) : Z E YX1_comesBack (d + 1) M [(0, vr (some (16, 0, 0))), (1, vi l1), (2, vi l2)] 77 [vr u0] Q := by
  refine z_pop dX1_comesBack_77 rfl ?_
  refine z_iload_n dX1_comesBack_78 rfl rfl ?_
  refine z_iconst (v := -1) dX1_comesBack_79 rfl ?_
  refine z_icmp_eq (tgt := 122) dX1_comesBack_80 rfl (fun h_ => ?_) (fun h_ => ?_)
  · have k := zit h_ k
    refine z_aload_n dX1_comesBack_122 rfl rfl ?_
    refine z_aload_n dX1_comesBack_123 rfl rfl ?_
    refine z_getr dX1_comesBack_124 fsX1_216_0 (show gr M 16 81 = some (74, 4, 0) from cw_at hw 42 rfl) ?_
    refine Z.pick [0, 1] rfl ?_
    exact z_callV (as := [vr (some (74, 4, 0))]) (st := []) dX1_comesBack_127 vsX1_895_0 (Nat.le_refl _) (Nat.le_of_ble_eq_true rfl) (Nat.le_of_ble_eq_true rfl) rfl k
  · have k := zif h_ k
    refine z_aload_n dX1_comesBack_83 rfl rfl ?_
    refine z_getr dX1_comesBack_84 fsX1_216_0 (show gr M 16 81 = some (74, 4, 0) from cw_at hw 42 rfl) ?_
    refine z_getl dX1_comesBack_87 fsX1_920_4 ?_
    refine z_ldc2 (v := 511) dX1_comesBack_90 q3350 ?_
    refine z_land dX1_comesBack_93 ?_
    refine z_lconst (v := 0) dX1_comesBack_94 rfl ?_
    refine z_lcmp dX1_comesBack_95 ?_
    refine z_if_eq (tgt := 122) dX1_comesBack_96 rfl (fun h_ => ?_) (fun h_ => ?_)
    · have k := zit h_ k
      refine z_aload_n dX1_comesBack_122 rfl rfl ?_
      refine z_aload_n dX1_comesBack_123 rfl rfl ?_
      refine z_getr dX1_comesBack_124 fsX1_216_0 (show gr M 16 81 = some (74, 4, 0) from cw_at hw 42 rfl) ?_
      refine Z.pick [0, 1] rfl ?_
      exact z_callV (as := [vr (some (74, 4, 0))]) (st := []) dX1_comesBack_127 vsX1_895_0 (Nat.le_refl _) (Nat.le_of_ble_eq_true rfl) (Nat.le_of_ble_eq_true rfl) rfl k
    · have k := zif h_ k
      refine z_aload_n dX1_comesBack_99 rfl rfl ?_
      refine z_getr dX1_comesBack_100 fsX1_216_0 (show gr M 16 81 = some (74, 4, 0) from cw_at hw 42 rfl) ?_
      refine z_lconst (v := 0) dX1_comesBack_103 rfl ?_
      refine z_putl (by decide) dX1_comesBack_104 (zfwN.w fwX1_920_4) ?_
      refine z_aload_n dX1_comesBack_107 rfl rfl ?_
      refine z_getr dX1_comesBack_108 fsX1_216_0 (show gr M 16 81 = some (74, 4, 0) from cw_at hw 42 rfl) ?_
      refine z_iload_n dX1_comesBack_111 rfl rfl ?_
      exact z_callV (as := [vi l2]) (st := []) dX1_comesBack_112 vsX1_800_4 (Nat.le_refl _) (Nat.le_of_ble_eq_true rfl) (Nat.le_of_ble_eq_true rfl) rfl k
theorem sX1_comesBack_115 {E : zE} {d : Nat} {Q : zO → zM → Prop} (M : zM) (l1 : Int32) (l2 : Int32) (u0 : Option zP) (hw : cw M) (k : ∃ b1 : Nat, u0 = some (b1, 4, 0) ∧ (Z E YX6_add d M (zargs 0 [vr (some (b1, 4, 0)), vi (l2 + (1 : Int32))]) 0 [] (zafter E YX1_comesBack (d + 1) [(0, vr (some (16, 0, 0))), (1, vi l1)] 118 3 [] Q))) : Z E YX1_comesBack (d + 1) M [(0, vr (some (16, 0, 0))), (1, vi l1), (2, vi l2)] 115 [vr u0] Q := by
  refine z_iload_n dX1_comesBack_115 rfl rfl ?_
  refine z_iconst (v := 1) dX1_comesBack_116 rfl ?_
  refine z_iadd dX1_comesBack_117 ?_
  obtain ⟨b1, e1_, k⟩ := k
  refine Z.eqs (lv' := [(0, vr (some (16, 0, 0))), (1, vi l1), (2, vi l2)]) (st' := [vi (l2 + (1 : Int32)), vr (some (b1, 4, 0))]) rfl (by rw [e1_] <;> rfl) ?_
  refine Z.pick [0, 1] rfl ?_
  exact z_callV (as := [vi (l2 + (1 : Int32))]) (st := []) dX1_comesBack_118 vsX1_800_4 (Nat.le_refl _) (Nat.le_of_ble_eq_true rfl) (Nat.le_of_ble_eq_true rfl) rfl k
theorem sX1_comesBack_121 {E : zE} {d : Nat} {Q : zO → zM → Prop} (M : zM) (l1 : Int32) (u0 : Option zP) (hw : cw M) (k : Z E YX1_nextWith d M (zargs 0 [vr (some (16, 0, 0)), vr (some (74, 4, 0))]) 0 [] (zafter E YX1_comesBack (d + 1) [(0, vr (some (16, 0, 0))), (1, vi l1)] 127 3 [] Q)) : Z E YX1_comesBack (d + 1) M [(0, vr (some (16, 0, 0))), (1, vi l1)] 121 [vr u0] Q := by
  refine z_pop dX1_comesBack_121 rfl ?_
  refine z_aload_n dX1_comesBack_122 rfl rfl ?_
  refine z_aload_n dX1_comesBack_123 rfl rfl ?_
  refine z_getr dX1_comesBack_124 fsX1_216_0 (show gr M 16 81 = some (74, 4, 0) from cw_at hw 42 rfl) ?_
  exact z_callV (as := [vr (some (74, 4, 0))]) (st := []) dX1_comesBack_127 vsX1_895_0 (Nat.le_refl _) (Nat.le_of_ble_eq_true rfl) (Nat.le_of_ble_eq_true rfl) rfl k
theorem sX1_comesBack_130 {E : zE} {d : Nat} {Q : zO → zM → Prop} (M : zM) (l1 : Int32) (hw : cw M) (k : ∃ b1 : Nat, (gr M 16 60) = some (b1, 7, 0) ∧ (Z E YX43_copy d M (zargs 0 [vr (some (b1, 7, 0)), vr (gr M 16 61)]) 0 [] (zafter E YX1_comesBack (d + 1) [(0, vr (some (16, 0, 0))), (1, vi l1)] 138 3 [] Q))) : Z E YX1_comesBack (d + 1) M [(0, vr (some (16, 0, 0))), (1, vi l1)] 130 [] Q := by
  refine z_aload_n dX1_comesBack_130 rfl rfl ?_
  refine z_getr (r := (gr M 16 60)) dX1_comesBack_131 fsX1_684_0 rfl ?_
  refine z_aload_n dX1_comesBack_134 rfl rfl ?_
  refine z_getr (r := (gr M 16 61)) dX1_comesBack_135 fsX1_688_0 rfl ?_
  obtain ⟨b1, e1_, k⟩ := k
  refine Z.eqs (lv' := [(0, vr (some (16, 0, 0))), (1, vi l1)]) (st' := [vr (gr M 16 61), vr (some (b1, 7, 0))]) rfl (by rw [e1_] <;> rfl) ?_
  exact z_callV (as := [vr (gr M 16 61)]) (st := []) dX1_comesBack_138 vsX1_1059_7 (Nat.le_refl _) (Nat.le_of_ble_eq_true rfl) (Nat.le_of_ble_eq_true rfl) rfl k
theorem sX1_comesBack_141 {E : zE} {d : Nat} {Q : zO → zM → Prop} (M : zM) (l1 : Int32) (hw : cw M) (k : ∃ b1 : Nat, (gr M 16 59) = some (b1, 6, 0) ∧ (∃ b2 m2 : Nat, (gr M b1 9) = some (b2, 100, m2) ∧ (vp_in (l1 + (1 : Int32)) m2 ∧ (if (gi M b2 ((l1 + (1 : Int32))).toNatClampNeg) = (-1 : Int32) then (Z E YX1_comesBack (d + 1) M [] 248 [] Q) else (∃ b3 : Nat, (gr M 16 59) = some (b3, 6, 0) ∧ (Z E YX42_heap d M (zargs 0 [vr (some (b3, 6, 0)), vi (l1 + (1 : Int32)), vr (gr M 16 60)]) 0 [] (zafter E YX1_comesBack (d + 1) [(0, vr (some (16, 0, 0))), (1, vi l1)] 167 3 [] Q))))))) : Z E YX1_comesBack (d + 1) M [(0, vr (some (16, 0, 0))), (1, vi l1)] 141 [] Q := by
  refine z_aload_n dX1_comesBack_141 rfl rfl ?_
  refine z_getr (r := (gr M 16 59)) dX1_comesBack_142 fsX1_674_0 rfl ?_
  obtain ⟨b1, e1_, k⟩ := k
  refine Z.eqs (lv' := [(0, vr (some (16, 0, 0))), (1, vi l1)]) (st' := [vr (some (b1, 6, 0))]) rfl (by rw [e1_] <;> rfl) ?_
  refine z_getr (r := (gr M b1 9)) dX1_comesBack_145 fsX1_719_6 rfl ?_
  refine z_iload_n dX1_comesBack_148 rfl rfl ?_
  refine z_iconst (v := 1) dX1_comesBack_149 rfl ?_
  refine z_iadd dX1_comesBack_150 ?_
  obtain ⟨b2, m2, e2_, k⟩ := k
  refine Z.eqs (lv' := [(0, vr (some (16, 0, 0))), (1, vi l1)]) (st' := [vi (l1 + (1 : Int32)), vr (some (b2, 100, m2))]) rfl (by rw [e2_] <;> rfl) ?_
  obtain ⟨b_, k⟩ := k
  refine z_iald dX1_comesBack_151 b_ ?_
  refine z_iconst (v := -1) dX1_comesBack_152 rfl ?_
  refine z_icmp_eq (tgt := 248) dX1_comesBack_153 rfl (fun h_ => ?_) (fun h_ => ?_)
  · have k := zit h_ k
    refine Z.pick [] rfl ?_
    exact k
  · have k := zif h_ k
    refine z_aload_n dX1_comesBack_156 rfl rfl ?_
    refine z_getr (r := (gr M 16 59)) dX1_comesBack_157 fsX1_674_0 rfl ?_
    refine z_iload_n dX1_comesBack_160 rfl rfl ?_
    refine z_iconst (v := 1) dX1_comesBack_161 rfl ?_
    refine z_iadd dX1_comesBack_162 ?_
    refine z_aload_n dX1_comesBack_163 rfl rfl ?_
    refine z_getr (r := (gr M 16 60)) dX1_comesBack_164 fsX1_684_0 rfl ?_
    obtain ⟨b3, e3_, k⟩ := k
    refine Z.eqs (lv' := [(0, vr (some (16, 0, 0))), (1, vi l1)]) (st' := [vr (gr M 16 60), vi (l1 + (1 : Int32)), vr (some (b3, 6, 0))]) rfl (by rw [e3_] <;> rfl) ?_
    exact z_callV (as := [vi (l1 + (1 : Int32)), vr (gr M 16 60)]) (st := []) dX1_comesBack_167 vsX1_1069_6 (Nat.le_refl _) (Nat.le_of_ble_eq_true rfl) (Nat.le_of_ble_eq_true rfl) rfl k
theorem sX1_comesBack_170 {E : zE} {d : Nat} {Q : zO → zM → Prop} (M : zM) (l1 : Int32) (hw : cw M) (k : Z E YX1_ages d M (zargs 0 [vr (some (16, 0, 0))]) 0 [] (zafter E YX1_comesBack (d + 1) [(0, vr (some (16, 0, 0))), (1, vi l1)] 171 3 [] Q)) : Z E YX1_comesBack (d + 1) M [(0, vr (some (16, 0, 0))), (1, vi l1)] 170 [] Q := by
  refine z_aload_n dX1_comesBack_170 rfl rfl ?_
  exact z_callV (as := []) (st := []) dX1_comesBack_171 vsX1_1072_0 (Nat.le_refl _) (Nat.le_of_ble_eq_true rfl) (Nat.le_of_ble_eq_true rfl) rfl k
theorem sX1_comesBack_174 {E : zE} {d : Nat} {Q : zO → zM → Prop} (M : zM) (l1 : Int32) (hw : cw M) (k : ∃ b1 : Nat, (gr M 16 59) = some (b1, 6, 0) ∧ (∃ b2 m2 : Nat, (gr M b1 10) = some (b2, 100, m2) ∧ (vp_in (l1 + (1 : Int32)) m2 ∧ (∃ b3 : Nat, (gr M 16 59) = some (b3, 6, 0) ∧ (∃ b4 m4 : Nat, (gr M b3 18) = some (b4, 105, m4) ∧ (vp_in (gi M b2 ((l1 + (1 : Int32))).toNatClampNeg) m4 ∧ (Z E YX6_of d M (zargs 0 [vr (some (74, 4, 0)), vl (gl M b4 ((gi M b2 ((l1 + (1 : Int32))).toNatClampNeg)).toNatClampNeg)]) 0 [] (zafter E YX1_comesBack (d + 1) [(0, vr (some (16, 0, 0))), (3, vi (gi M b2 ((l1 + (1 : Int32))).toNatClampNeg))] 199 3 [] Q)))))))) : Z E YX1_comesBack (d + 1) M [(0, vr (some (16, 0, 0))), (1, vi l1)] 174 [] Q := by
  refine z_aload_n dX1_comesBack_174 rfl rfl ?_
  refine z_getr (r := (gr M 16 59)) dX1_comesBack_175 fsX1_674_0 rfl ?_
  obtain ⟨b1, e1_, k⟩ := k
  refine Z.eqs (lv' := [(0, vr (some (16, 0, 0))), (1, vi l1)]) (st' := [vr (some (b1, 6, 0))]) rfl (by rw [e1_] <;> rfl) ?_
  refine z_getr (r := (gr M b1 10)) dX1_comesBack_178 fsX1_1075_6 rfl ?_
  refine z_iload_n dX1_comesBack_181 rfl rfl ?_
  refine z_iconst (v := 1) dX1_comesBack_182 rfl ?_
  refine z_iadd dX1_comesBack_183 ?_
  obtain ⟨b2, m2, e2_, k⟩ := k
  refine Z.eqs (lv' := [(0, vr (some (16, 0, 0))), (1, vi l1)]) (st' := [vi (l1 + (1 : Int32)), vr (some (b2, 100, m2))]) rfl (by rw [e2_] <;> rfl) ?_
  obtain ⟨b_, k⟩ := k
  refine z_iald dX1_comesBack_184 b_ ?_
  refine z_ist_n dX1_comesBack_185 rfl (by decide) (lv' := [(0, vr (some (16, 0, 0))), (1, vi l1), (3, vi (gi M b2 ((l1 + (1 : Int32))).toNatClampNeg))]) rfl ?_
  refine z_aload_n dX1_comesBack_186 rfl rfl ?_
  refine z_getr dX1_comesBack_187 fsX1_216_0 (show gr M 16 81 = some (74, 4, 0) from cw_at hw 42 rfl) ?_
  refine z_aload_n dX1_comesBack_190 rfl rfl ?_
  refine z_getr (r := (gr M 16 59)) dX1_comesBack_191 fsX1_674_0 rfl ?_
  obtain ⟨b3, e3_, k⟩ := k
  refine Z.eqs (lv' := [(0, vr (some (16, 0, 0))), (1, vi l1), (3, vi (gi M b2 ((l1 + (1 : Int32))).toNatClampNeg))]) (st' := [vr (some (b3, 6, 0)), vr (some (74, 4, 0))]) rfl (by rw [e3_] <;> rfl) ?_
  refine z_getr (r := (gr M b3 18)) dX1_comesBack_194 fsX1_1078_6 rfl ?_
  refine z_iload_n dX1_comesBack_197 rfl rfl ?_
  obtain ⟨b4, m4, e4_, k⟩ := k
  refine Z.eqs (lv' := [(0, vr (some (16, 0, 0))), (1, vi l1), (3, vi (gi M b2 ((l1 + (1 : Int32))).toNatClampNeg))]) (st' := [vi (gi M b2 ((l1 + (1 : Int32))).toNatClampNeg), vr (some (b4, 105, m4)), vr (some (74, 4, 0))]) rfl (by rw [e4_] <;> rfl) ?_
  obtain ⟨b_, k⟩ := k
  refine z_lald dX1_comesBack_198 b_ ?_
  refine Z.pick [0, 2] rfl ?_
  exact z_callV (as := [vl (gl M b4 ((gi M b2 ((l1 + (1 : Int32))).toNatClampNeg)).toNatClampNeg)]) (st := []) dX1_comesBack_199 vsX1_892_4 (Nat.le_refl _) (Nat.le_of_ble_eq_true rfl) (Nat.le_of_ble_eq_true rfl) rfl k
theorem sX1_comesBack_202 {E : zE} {d : Nat} {Q : zO → zM → Prop} (M : zM) (l3 : Int32) (u0 : Option zP) (hw : cw M) (k : ∃ b1 : Nat, (gr M 16 59) = some (b1, 6, 0) ∧ (∃ b2 m2 : Nat, (gr M b1 16) = some (b2, 105, m2) ∧ (vp_in l3 m2 ∧ (∃ b3 : Nat, (gr M 16 59) = some (b3, 6, 0) ∧ (∃ b4 m4 : Nat, (gr M b3 17) = some (b4, 105, m4) ∧ (vp_in l3 m4 ∧ (∃ b5 : Nat, u0 = some (b5, 4, 0) ∧ (Z E YX6_join3 d M (zargs 0 [vr (some (b5, 4, 0)), vl (gl M b2 (l3).toNatClampNeg), vl (gl M b4 (l3).toNatClampNeg), vl (0 : Int64)]) 0 [] (zafter E YX1_comesBack (d + 1) [(0, vr (some (16, 0, 0)))] 221 3 [] Q))))))))) : Z E YX1_comesBack (d + 1) M [(0, vr (some (16, 0, 0))), (3, vi l3)] 202 [vr u0] Q := by
  refine z_aload_n dX1_comesBack_202 rfl rfl ?_
  refine z_getr (r := (gr M 16 59)) dX1_comesBack_203 fsX1_674_0 rfl ?_
  obtain ⟨b1, e1_, k⟩ := k
  refine Z.eqs (lv' := [(0, vr (some (16, 0, 0))), (3, vi l3)]) (st' := [vr (some (b1, 6, 0)), vr u0]) rfl (by rw [e1_] <;> rfl) ?_
  refine z_getr (r := (gr M b1 16)) dX1_comesBack_206 fsX1_1079_6 rfl ?_
  refine z_iload_n dX1_comesBack_209 rfl rfl ?_
  obtain ⟨b2, m2, e2_, k⟩ := k
  refine Z.eqs (lv' := [(0, vr (some (16, 0, 0))), (3, vi l3)]) (st' := [vi l3, vr (some (b2, 105, m2)), vr u0]) rfl (by rw [e2_] <;> rfl) ?_
  obtain ⟨b_, k⟩ := k
  refine z_lald dX1_comesBack_210 b_ ?_
  refine z_aload_n dX1_comesBack_211 rfl rfl ?_
  refine z_getr (r := (gr M 16 59)) dX1_comesBack_212 fsX1_674_0 rfl ?_
  obtain ⟨b3, e3_, k⟩ := k
  refine Z.eqs (lv' := [(0, vr (some (16, 0, 0))), (3, vi l3)]) (st' := [vr (some (b3, 6, 0)), vl (gl M b2 (l3).toNatClampNeg), vr u0]) rfl (by rw [e3_] <;> rfl) ?_
  refine z_getr (r := (gr M b3 17)) dX1_comesBack_215 fsX1_1080_6 rfl ?_
  refine z_iload_n dX1_comesBack_218 rfl rfl ?_
  obtain ⟨b4, m4, e4_, k⟩ := k
  refine Z.eqs (lv' := [(0, vr (some (16, 0, 0))), (3, vi l3)]) (st' := [vi l3, vr (some (b4, 105, m4)), vl (gl M b2 (l3).toNatClampNeg), vr u0]) rfl (by rw [e4_] <;> rfl) ?_
  obtain ⟨b_, k⟩ := k
  refine z_lald dX1_comesBack_219 b_ ?_
  refine z_lconst (v := 0) dX1_comesBack_220 rfl ?_
  obtain ⟨b5, e5_, k⟩ := k
  refine Z.eqs (lv' := [(0, vr (some (16, 0, 0))), (3, vi l3)]) (st' := [vl (0 : Int64), vl (gl M b4 (l3).toNatClampNeg), vl (gl M b2 (l3).toNatClampNeg), vr (some (b5, 4, 0))]) rfl (by rw [e5_] <;> rfl) ?_
  refine Z.pick [0] rfl ?_
  exact z_callV (as := [vl (gl M b2 (l3).toNatClampNeg), vl (gl M b4 (l3).toNatClampNeg), vl (0 : Int64)]) (st := []) dX1_comesBack_221 vsX1_871_4 (Nat.le_refl _) (Nat.le_of_ble_eq_true rfl) (Nat.le_of_ble_eq_true rfl) rfl k
theorem sX1_comesBack_224 {E : zE} {d : Nat} {Q : zO → zM → Prop} (M : zM) (u0 : Option zP) (hw : cw M) (k : Z E YX1_throwsTo d M (zargs 0 [vr (some (16, 0, 0)), vr (gr M 16 60), vr (some (74, 4, 0))]) 0 [] (zafter E YX1_comesBack (d + 1) [(0, vr (some (16, 0, 0)))] 234 3 [] Q)) : Z E YX1_comesBack (d + 1) M [(0, vr (some (16, 0, 0)))] 224 [vr u0] Q := by
  refine z_pop dX1_comesBack_224 rfl ?_
  refine z_aload_n dX1_comesBack_225 rfl rfl ?_
  refine z_aload_n dX1_comesBack_226 rfl rfl ?_
  refine z_getr (r := (gr M 16 60)) dX1_comesBack_227 fsX1_684_0 rfl ?_
  refine z_aload_n dX1_comesBack_230 rfl rfl ?_
  refine z_getr dX1_comesBack_231 fsX1_216_0 (show gr M 16 81 = some (74, 4, 0) from cw_at hw 42 rfl) ?_
  exact z_callV (as := [vr (gr M 16 60), vr (some (74, 4, 0))]) (st := []) dX1_comesBack_234 vsX1_803_0 (Nat.le_refl _) (Nat.le_of_ble_eq_true rfl) (Nat.le_of_ble_eq_true rfl) rfl k
theorem sX1_comesBack_237 {E : zE} {d : Nat} {Q : zO → zM → Prop} (M : zM)  (hw : cw M) (k : ∃ b1 : Nat, (gr M 16 60) = some (b1, 7, 0) ∧ (Z E YX43_copy d M (zargs 0 [vr (some (b1, 7, 0)), vr (gr M 16 61)]) 0 [] (zafter E YX1_comesBack (d + 1) [] 245 3 [] Q))) : Z E YX1_comesBack (d + 1) M [(0, vr (some (16, 0, 0)))] 237 [] Q := by
  refine z_aload_n dX1_comesBack_237 rfl rfl ?_
  refine z_getr (r := (gr M 16 60)) dX1_comesBack_238 fsX1_684_0 rfl ?_
  refine z_aload_n dX1_comesBack_241 rfl rfl ?_
  refine z_getr (r := (gr M 16 61)) dX1_comesBack_242 fsX1_688_0 rfl ?_
  obtain ⟨b1, e1_, k⟩ := k
  refine Z.eqs (lv' := [(0, vr (some (16, 0, 0)))]) (st' := [vr (gr M 16 61), vr (some (b1, 7, 0))]) rfl (by rw [e1_] <;> rfl) ?_
  refine Z.pick [] rfl ?_
  exact z_callV (as := [vr (gr M 16 61)]) (st := []) dX1_comesBack_245 vsX1_1059_7 (Nat.le_refl _) (Nat.le_of_ble_eq_true rfl) (Nat.le_of_ble_eq_true rfl) rfl k
theorem sX1_comesBack_248 {E : zE} {d : Nat} {Q : zO → zM → Prop} (M : zM)  (hw : cw M) (k : Q (.inl none) M) : Z E YX1_comesBack (d + 1) M [] 248 [] Q := by
  exact z_vret dX1_comesBack_248 rfl k
/-! ScriptTypes.ages()V -/
theorem bX1_ages_0 : zdec cX1_ages 0 [(0, .iconst 0, 1), (1, .istore_n 1, 1), (2, .iload_n 1, 1), (3, .aload_n 0, 1), (4, .getfield 684, 3), (7, .getfield 726, 3), (10, .if_icmp .ge 54, 3), (13, .aload_n 0, 1), (14, .getfield 684, 3), (17, .getfield 779, 3), (20, .iload_n 1, 1), (21, .laload, 1), (22, .lstore_n 2, 1), (23, .aload_n 0, 1), (24, .getfield 684, 3), (27, .getfield 782, 3)] = true := by decide +kernel
theorem dX1_ages_0 : decode cX1_ages 0 = .ok (.iconst 0, 1) := zdec_at bX1_ages_0 0 rfl
theorem dX1_ages_1 : decode cX1_ages 1 = .ok (.istore_n 1, 1) := zdec_at bX1_ages_0 1 rfl
theorem dX1_ages_2 : decode cX1_ages 2 = .ok (.iload_n 1, 1) := zdec_at bX1_ages_0 2 rfl
theorem dX1_ages_3 : decode cX1_ages 3 = .ok (.aload_n 0, 1) := zdec_at bX1_ages_0 3 rfl
theorem dX1_ages_4 : decode cX1_ages 4 = .ok (.getfield 684, 3) := zdec_at bX1_ages_0 4 rfl
theorem dX1_ages_7 : decode cX1_ages 7 = .ok (.getfield 726, 3) := zdec_at bX1_ages_0 5 rfl
theorem dX1_ages_10 : decode cX1_ages 10 = .ok (.if_icmp .ge 54, 3) := zdec_at bX1_ages_0 6 rfl
theorem dX1_ages_13 : decode cX1_ages 13 = .ok (.aload_n 0, 1) := zdec_at bX1_ages_0 7 rfl
theorem dX1_ages_14 : decode cX1_ages 14 = .ok (.getfield 684, 3) := zdec_at bX1_ages_0 8 rfl
theorem dX1_ages_17 : decode cX1_ages 17 = .ok (.getfield 779, 3) := zdec_at bX1_ages_0 9 rfl
theorem dX1_ages_20 : decode cX1_ages 20 = .ok (.iload_n 1, 1) := zdec_at bX1_ages_0 10 rfl
theorem dX1_ages_21 : decode cX1_ages 21 = .ok (.laload, 1) := zdec_at bX1_ages_0 11 rfl
theorem dX1_ages_22 : decode cX1_ages 22 = .ok (.lstore_n 2, 1) := zdec_at bX1_ages_0 12 rfl
theorem dX1_ages_23 : decode cX1_ages 23 = .ok (.aload_n 0, 1) := zdec_at bX1_ages_0 13 rfl
theorem dX1_ages_24 : decode cX1_ages 24 = .ok (.getfield 684, 3) := zdec_at bX1_ages_0 14 rfl
theorem dX1_ages_27 : decode cX1_ages 27 = .ok (.getfield 782, 3) := zdec_at bX1_ages_0 15 rfl
theorem bX1_ages_30 : zdec cX1_ages 30 [(30, .iload_n 1, 1), (31, .lload_n 2, 1), (32, .aload_n 0, 1), (33, .getfield 684, 3), (36, .getfield 782, 3), (39, .iload_n 1, 1), (40, .laload, 1), (41, .invokestatic 1081, 3), (44, .lastore, 1), (45, .aload_n 0, 1), (46, .getfield 684, 3), (49, .getfield 779, 3), (52, .iload_n 1, 1), (53, .lload_n 2, 1), (54, .invokestatic 1085, 3), (57, .lastore, 1)] = true := by decide +kernel
theorem dX1_ages_30 : decode cX1_ages 30 = .ok (.iload_n 1, 1) := zdec_at bX1_ages_30 0 rfl
theorem dX1_ages_31 : decode cX1_ages 31 = .ok (.lload_n 2, 1) := zdec_at bX1_ages_30 1 rfl
theorem dX1_ages_32 : decode cX1_ages 32 = .ok (.aload_n 0, 1) := zdec_at bX1_ages_30 2 rfl
theorem dX1_ages_33 : decode cX1_ages 33 = .ok (.getfield 684, 3) := zdec_at bX1_ages_30 3 rfl
theorem dX1_ages_36 : decode cX1_ages 36 = .ok (.getfield 782, 3) := zdec_at bX1_ages_30 4 rfl
theorem dX1_ages_39 : decode cX1_ages 39 = .ok (.iload_n 1, 1) := zdec_at bX1_ages_30 5 rfl
theorem dX1_ages_40 : decode cX1_ages 40 = .ok (.laload, 1) := zdec_at bX1_ages_30 6 rfl
theorem dX1_ages_41 : decode cX1_ages 41 = .ok (.invokestatic 1081, 3) := zdec_at bX1_ages_30 7 rfl
theorem dX1_ages_44 : decode cX1_ages 44 = .ok (.lastore, 1) := zdec_at bX1_ages_30 8 rfl
theorem dX1_ages_45 : decode cX1_ages 45 = .ok (.aload_n 0, 1) := zdec_at bX1_ages_30 9 rfl
theorem dX1_ages_46 : decode cX1_ages 46 = .ok (.getfield 684, 3) := zdec_at bX1_ages_30 10 rfl
theorem dX1_ages_49 : decode cX1_ages 49 = .ok (.getfield 779, 3) := zdec_at bX1_ages_30 11 rfl
theorem dX1_ages_52 : decode cX1_ages 52 = .ok (.iload_n 1, 1) := zdec_at bX1_ages_30 12 rfl
theorem dX1_ages_53 : decode cX1_ages 53 = .ok (.lload_n 2, 1) := zdec_at bX1_ages_30 13 rfl
theorem dX1_ages_54 : decode cX1_ages 54 = .ok (.invokestatic 1085, 3) := zdec_at bX1_ages_30 14 rfl
theorem dX1_ages_57 : decode cX1_ages 57 = .ok (.lastore, 1) := zdec_at bX1_ages_30 15 rfl
theorem bX1_ages_58 : zdec cX1_ages 58 [(58, .iinc 1 1, 3), (61, .goto (-59), 3), (64, .aload_n 0, 1), (65, .getfield 684, 3), (68, .getfield 745, 3), (71, .lstore_n 1, 1), (72, .aload_n 0, 1), (73, .getfield 684, 3), (76, .getfield 754, 3), (79, .lstore_n 3, 1), (80, .aload_n 0, 1), (81, .getfield 684, 3), (84, .lload_n 1, 1), (85, .aload_n 0, 1), (86, .getfield 684, 3), (89, .getfield 748, 3)] = true := by decide +kernel
theorem dX1_ages_58 : decode cX1_ages 58 = .ok (.iinc 1 1, 3) := zdec_at bX1_ages_58 0 rfl
theorem dX1_ages_61 : decode cX1_ages 61 = .ok (.goto (-59), 3) := zdec_at bX1_ages_58 1 rfl
theorem dX1_ages_64 : decode cX1_ages 64 = .ok (.aload_n 0, 1) := zdec_at bX1_ages_58 2 rfl
theorem dX1_ages_65 : decode cX1_ages 65 = .ok (.getfield 684, 3) := zdec_at bX1_ages_58 3 rfl
theorem dX1_ages_68 : decode cX1_ages 68 = .ok (.getfield 745, 3) := zdec_at bX1_ages_58 4 rfl
theorem dX1_ages_71 : decode cX1_ages 71 = .ok (.lstore_n 1, 1) := zdec_at bX1_ages_58 5 rfl
theorem dX1_ages_72 : decode cX1_ages 72 = .ok (.aload_n 0, 1) := zdec_at bX1_ages_58 6 rfl
theorem dX1_ages_73 : decode cX1_ages 73 = .ok (.getfield 684, 3) := zdec_at bX1_ages_58 7 rfl
theorem dX1_ages_76 : decode cX1_ages 76 = .ok (.getfield 754, 3) := zdec_at bX1_ages_58 8 rfl
theorem dX1_ages_79 : decode cX1_ages 79 = .ok (.lstore_n 3, 1) := zdec_at bX1_ages_58 9 rfl
theorem dX1_ages_80 : decode cX1_ages 80 = .ok (.aload_n 0, 1) := zdec_at bX1_ages_58 10 rfl
theorem dX1_ages_81 : decode cX1_ages 81 = .ok (.getfield 684, 3) := zdec_at bX1_ages_58 11 rfl
theorem dX1_ages_84 : decode cX1_ages 84 = .ok (.lload_n 1, 1) := zdec_at bX1_ages_58 12 rfl
theorem dX1_ages_85 : decode cX1_ages 85 = .ok (.aload_n 0, 1) := zdec_at bX1_ages_58 13 rfl
theorem dX1_ages_86 : decode cX1_ages 86 = .ok (.getfield 684, 3) := zdec_at bX1_ages_58 14 rfl
theorem dX1_ages_89 : decode cX1_ages 89 = .ok (.getfield 748, 3) := zdec_at bX1_ages_58 15 rfl
theorem bX1_ages_92 : zdec cX1_ages 92 [(92, .invokestatic 1081, 3), (95, .putfield 748, 3), (98, .aload_n 0, 1), (99, .getfield 684, 3), (102, .lload_n 1, 1), (103, .invokestatic 1085, 3), (106, .putfield 745, 3), (109, .aload_n 0, 1), (110, .getfield 684, 3), (113, .lload_n 3, 1), (114, .aload_n 0, 1), (115, .getfield 684, 3), (118, .getfield 757, 3), (121, .invokestatic 1081, 3), (124, .putfield 757, 3), (127, .aload_n 0, 1)] = true := by decide +kernel
theorem dX1_ages_92 : decode cX1_ages 92 = .ok (.invokestatic 1081, 3) := zdec_at bX1_ages_92 0 rfl
theorem dX1_ages_95 : decode cX1_ages 95 = .ok (.putfield 748, 3) := zdec_at bX1_ages_92 1 rfl
theorem dX1_ages_98 : decode cX1_ages 98 = .ok (.aload_n 0, 1) := zdec_at bX1_ages_92 2 rfl
theorem dX1_ages_99 : decode cX1_ages 99 = .ok (.getfield 684, 3) := zdec_at bX1_ages_92 3 rfl
theorem dX1_ages_102 : decode cX1_ages 102 = .ok (.lload_n 1, 1) := zdec_at bX1_ages_92 4 rfl
theorem dX1_ages_103 : decode cX1_ages 103 = .ok (.invokestatic 1085, 3) := zdec_at bX1_ages_92 5 rfl
theorem dX1_ages_106 : decode cX1_ages 106 = .ok (.putfield 745, 3) := zdec_at bX1_ages_92 6 rfl
theorem dX1_ages_109 : decode cX1_ages 109 = .ok (.aload_n 0, 1) := zdec_at bX1_ages_92 7 rfl
theorem dX1_ages_110 : decode cX1_ages 110 = .ok (.getfield 684, 3) := zdec_at bX1_ages_92 8 rfl
theorem dX1_ages_113 : decode cX1_ages 113 = .ok (.lload_n 3, 1) := zdec_at bX1_ages_92 9 rfl
theorem dX1_ages_114 : decode cX1_ages 114 = .ok (.aload_n 0, 1) := zdec_at bX1_ages_92 10 rfl
theorem dX1_ages_115 : decode cX1_ages 115 = .ok (.getfield 684, 3) := zdec_at bX1_ages_92 11 rfl
theorem dX1_ages_118 : decode cX1_ages 118 = .ok (.getfield 757, 3) := zdec_at bX1_ages_92 12 rfl
theorem dX1_ages_121 : decode cX1_ages 121 = .ok (.invokestatic 1081, 3) := zdec_at bX1_ages_92 13 rfl
theorem dX1_ages_124 : decode cX1_ages 124 = .ok (.putfield 757, 3) := zdec_at bX1_ages_92 14 rfl
theorem dX1_ages_127 : decode cX1_ages 127 = .ok (.aload_n 0, 1) := zdec_at bX1_ages_92 15 rfl
theorem bX1_ages_128 : zdec cX1_ages 128 [(128, .getfield 684, 3), (131, .lload_n 3, 1), (132, .invokestatic 1085, 3), (135, .putfield 754, 3), (138, .return_, 1)] = true := by decide +kernel
theorem dX1_ages_128 : decode cX1_ages 128 = .ok (.getfield 684, 3) := zdec_at bX1_ages_128 0 rfl
theorem dX1_ages_131 : decode cX1_ages 131 = .ok (.lload_n 3, 1) := zdec_at bX1_ages_128 1 rfl
theorem dX1_ages_132 : decode cX1_ages 132 = .ok (.invokestatic 1085, 3) := zdec_at bX1_ages_128 2 rfl
theorem dX1_ages_135 : decode cX1_ages 135 = .ok (.putfield 754, 3) := zdec_at bX1_ages_128 3 rfl
theorem dX1_ages_138 : decode cX1_ages 138 = .ok (.return_, 1) := zdec_at bX1_ages_128 4 rfl
theorem sX1_ages_0 {E : zE} {d : Nat} {Q : zO → zM → Prop} (M : zM)  (hw : cw M) (k : Z E YX1_ages (d + 1) M [(0, vr (some (16, 0, 0))), (1, vi (0 : Int32))] 2 [] Q) : Z E YX1_ages (d + 1) M [(0, vr (some (16, 0, 0)))] 0 [] Q := by
  refine z_iconst (v := 0) dX1_ages_0 rfl ?_
  refine z_ist_n dX1_ages_1 rfl (by decide) (lv' := [(0, vr (some (16, 0, 0))), (1, vi (0 : Int32))]) rfl ?_
  exact k
theorem sX1_ages_2 {E : zE} {d : Nat} {Q : zO → zM → Prop} (M : zM) (l1 : Int32) (hw : cw M) (k : ∃ b1 : Nat, (gr M 16 60) = some (b1, 7, 0) ∧ (if (gi M b1 13) ≤ l1 then (∃ b2 : Nat, (gr M 16 60) = some (b2, 7, 0) ∧ (∃ b3 : Nat, (gr M 16 60) = some (b3, 7, 0) ∧ (∃ b4 : Nat, (gr M 16 60) = some (b4, 7, 0) ∧ (Z E YX1_agedHigh d M (zargs 0 [vl (gl M b2 14), vl (gl M b4 15)]) 0 [] (zafter E YX1_ages (d + 1) [(0, vr (some (16, 0, 0))), (1, vl (gl M b2 14)), (3, vl (gl M b3 17))] 92 3 [vr (some (b4, 7, 0))] Q))))) else (∃ b2 : Nat, (gr M 16 60) = some (b2, 7, 0) ∧ (∃ b3 m3 : Nat, (gr M b2 10) = some (b3, 105, m3) ∧ (vp_in l1 m3 ∧ (∃ b4 : Nat, (gr M 16 60) = some (b4, 7, 0) ∧ (∃ b5 : Nat, (gr M 16 60) = some (b5, 7, 0) ∧ (∃ b6 m6 : Nat, (gr M b5 11) = some (b6, 105, m6) ∧ (vp_in l1 m6 ∧ (Z E YX1_agedHigh d M (zargs 0 [vl (gl M b3 (l1).toNatClampNeg), vl (gl M b6 (l1).toNatClampNeg)]) 0 [] (zafter E YX1_ages (d + 1) [(0, vr (some (16, 0, 0))), (1, vi l1), (2, vl (gl M b3 (l1).toNatClampNeg))] 41 3 [vi l1, vr (gr M b4 11)] Q))))))))))) : Z E YX1_ages (d + 1) M [(0, vr (some (16, 0, 0))), (1, vi l1)] 2 [] Q := by
  refine z_iload_n dX1_ages_2 rfl rfl ?_
  refine z_aload_n dX1_ages_3 rfl rfl ?_
  refine z_getr (r := (gr M 16 60)) dX1_ages_4 fsX1_684_0 rfl ?_
  obtain ⟨b1, e1_, k⟩ := k
  refine Z.eqs (lv' := [(0, vr (some (16, 0, 0))), (1, vi l1)]) (st' := [vr (some (b1, 7, 0)), vi l1]) rfl (by rw [e1_] <;> rfl) ?_
  refine z_geti dX1_ages_7 fsX1_726_7 ?_
  refine z_icmp_ge (tgt := 64) dX1_ages_10 rfl (fun h_ => ?_) (fun h_ => ?_)
  · have k := zit h_ k
    refine z_aload_n dX1_ages_64 rfl rfl ?_
    refine z_getr (r := (gr M 16 60)) dX1_ages_65 fsX1_684_0 rfl ?_
    obtain ⟨b2, e2_, k⟩ := k
    refine Z.eqs (lv' := [(0, vr (some (16, 0, 0))), (1, vi l1)]) (st' := [vr (some (b2, 7, 0))]) rfl (by rw [e2_] <;> rfl) ?_
    refine z_getl dX1_ages_68 fsX1_745_7 ?_
    refine z_lst_n dX1_ages_71 rfl (by decide) (lv' := [(0, vr (some (16, 0, 0))), (1, vl (gl M b2 14))]) rfl ?_
    refine z_aload_n dX1_ages_72 rfl rfl ?_
    refine z_getr (r := (gr M 16 60)) dX1_ages_73 fsX1_684_0 rfl ?_
    obtain ⟨b3, e3_, k⟩ := k
    refine Z.eqs (lv' := [(0, vr (some (16, 0, 0))), (1, vl (gl M b2 14))]) (st' := [vr (some (b3, 7, 0))]) rfl (by rw [e3_] <;> rfl) ?_
    refine z_getl dX1_ages_76 fsX1_754_7 ?_
    refine z_lst_n dX1_ages_79 rfl (by decide) (lv' := [(0, vr (some (16, 0, 0))), (1, vl (gl M b2 14)), (3, vl (gl M b3 17))]) rfl ?_
    refine z_aload_n dX1_ages_80 rfl rfl ?_
    refine z_getr (r := (gr M 16 60)) dX1_ages_81 fsX1_684_0 rfl ?_
    refine z_lload_n dX1_ages_84 rfl rfl ?_
    refine z_aload_n dX1_ages_85 rfl rfl ?_
    refine z_getr (r := (gr M 16 60)) dX1_ages_86 fsX1_684_0 rfl ?_
    obtain ⟨b4, e4_, k⟩ := k
    refine Z.eqs (lv' := [(0, vr (some (16, 0, 0))), (1, vl (gl M b2 14)), (3, vl (gl M b3 17))]) (st' := [vr (some (b4, 7, 0)), vl (gl M b2 14), vr (some (b4, 7, 0))]) rfl (by rw [e4_] <;> rfl) ?_
    refine z_getl dX1_ages_89 fsX1_748_7 ?_
    exact z_callS (as := [vl (gl M b2 14), vl (gl M b4 15)]) (st := [vr (some (b4, 7, 0))]) dX1_ages_92 ssX1_1081 (Nat.le_refl _) (Nat.le_of_ble_eq_true rfl) (Nat.le_of_ble_eq_true rfl) rfl k
  · have k := zif h_ k
    refine z_aload_n dX1_ages_13 rfl rfl ?_
    refine z_getr (r := (gr M 16 60)) dX1_ages_14 fsX1_684_0 rfl ?_
    obtain ⟨b2, e2_, k⟩ := k
    refine Z.eqs (lv' := [(0, vr (some (16, 0, 0))), (1, vi l1)]) (st' := [vr (some (b2, 7, 0))]) rfl (by rw [e2_] <;> rfl) ?_
    refine z_getr (r := (gr M b2 10)) dX1_ages_17 fsX1_779_7 rfl ?_
    refine z_iload_n dX1_ages_20 rfl rfl ?_
    obtain ⟨b3, m3, e3_, k⟩ := k
    refine Z.eqs (lv' := [(0, vr (some (16, 0, 0))), (1, vi l1)]) (st' := [vi l1, vr (some (b3, 105, m3))]) rfl (by rw [e3_] <;> rfl) ?_
    obtain ⟨b_, k⟩ := k
    refine z_lald dX1_ages_21 b_ ?_
    refine z_lst_n dX1_ages_22 rfl (by decide) (lv' := [(0, vr (some (16, 0, 0))), (1, vi l1), (2, vl (gl M b3 (l1).toNatClampNeg))]) rfl ?_
    refine z_aload_n dX1_ages_23 rfl rfl ?_
    refine z_getr (r := (gr M 16 60)) dX1_ages_24 fsX1_684_0 rfl ?_
    obtain ⟨b4, e4_, k⟩ := k
    refine Z.eqs (lv' := [(0, vr (some (16, 0, 0))), (1, vi l1), (2, vl (gl M b3 (l1).toNatClampNeg))]) (st' := [vr (some (b4, 7, 0))]) rfl (by rw [e4_] <;> rfl) ?_
    refine z_getr (r := (gr M b4 11)) dX1_ages_27 fsX1_782_7 rfl ?_
    refine z_iload_n dX1_ages_30 rfl rfl ?_
    refine z_lload_n dX1_ages_31 rfl rfl ?_
    refine z_aload_n dX1_ages_32 rfl rfl ?_
    refine z_getr (r := (gr M 16 60)) dX1_ages_33 fsX1_684_0 rfl ?_
    obtain ⟨b5, e5_, k⟩ := k
    refine Z.eqs (lv' := [(0, vr (some (16, 0, 0))), (1, vi l1), (2, vl (gl M b3 (l1).toNatClampNeg))]) (st' := [vr (some (b5, 7, 0)), vl (gl M b3 (l1).toNatClampNeg), vi l1, vr (gr M b4 11)]) rfl (by rw [e5_] <;> rfl) ?_
    refine z_getr (r := (gr M b5 11)) dX1_ages_36 fsX1_782_7 rfl ?_
    refine z_iload_n dX1_ages_39 rfl rfl ?_
    obtain ⟨b6, m6, e6_, k⟩ := k
    refine Z.eqs (lv' := [(0, vr (some (16, 0, 0))), (1, vi l1), (2, vl (gl M b3 (l1).toNatClampNeg))]) (st' := [vi l1, vr (some (b6, 105, m6)), vl (gl M b3 (l1).toNatClampNeg), vi l1, vr (gr M b4 11)]) rfl (by rw [e6_] <;> rfl) ?_
    obtain ⟨b_, k⟩ := k
    refine z_lald dX1_ages_40 b_ ?_
    exact z_callS (as := [vl (gl M b3 (l1).toNatClampNeg), vl (gl M b6 (l1).toNatClampNeg)]) (st := [vi l1, vr (gr M b4 11)]) dX1_ages_41 ssX1_1081 (Nat.le_refl _) (Nat.le_of_ble_eq_true rfl) (Nat.le_of_ble_eq_true rfl) rfl k
theorem sX1_ages_44 {E : zE} {d : Nat} {Q : zO → zM → Prop} (M : zM) (l1 : Int32) (l2 : Int64) (s0 : Int64) (s1 : Int32) (p2 : Nat) (np2 : Nat) (hw : cw M) (k : 16 ≤ p2 ∧ (vp_in s1 np2 ∧ (∃ b1 : Nat, (gr M 16 60) = some (b1, 7, 0) ∧ (Z E YX1_agedLow d (sl M p2 (s1).toNatClampNeg s0) (zargs 0 [vl l2]) 0 [] (zafter E YX1_ages (d + 1) [(0, vr (some (16, 0, 0))), (1, vi l1)] 54 3 [vi l1, vr (gr M b1 10)] Q))))) : Z E YX1_ages (d + 1) M [(0, vr (some (16, 0, 0))), (1, vi l1), (2, vl l2)] 44 [vl s0, vi s1, vr (some (p2, 105, np2))] Q := by
  obtain ⟨g_, k⟩ := k
  obtain ⟨b_, k⟩ := k
  refine z_last g_ dX1_ages_44 b_ ?_
  refine z_aload_n dX1_ages_45 rfl rfl ?_
  refine z_getr (r := (gr M 16 60)) dX1_ages_46 fsX1_684_0 rfl ?_
  obtain ⟨b1, e1_, k⟩ := k
  refine Z.eqs (lv' := [(0, vr (some (16, 0, 0))), (1, vi l1), (2, vl l2)]) (st' := [vr (some (b1, 7, 0))]) rfl (by rw [e1_] <;> rfl) ?_
  refine z_getr (r := (gr M b1 10)) dX1_ages_49 fsX1_779_7 rfl ?_
  refine z_iload_n dX1_ages_52 rfl rfl ?_
  refine z_lload_n dX1_ages_53 rfl rfl ?_
  refine Z.pick [0, 1] rfl ?_
  exact z_callS (as := [vl l2]) (st := [vi l1, vr (gr M b1 10)]) dX1_ages_54 ssX1_1085 (Nat.le_refl _) (Nat.le_of_ble_eq_true rfl) (Nat.le_of_ble_eq_true rfl) rfl k
theorem sX1_ages_57 {E : zE} {d : Nat} {Q : zO → zM → Prop} (M : zM) (l1 : Int32) (s0 : Int64) (s1 : Int32) (u2 : Option zP) (hw : cw M) (k : ∃ b1 m1 : Nat, u2 = some (b1, 105, m1) ∧ (16 ≤ b1 ∧ (vp_in s1 m1 ∧ (Z E YX1_ages (d + 1) (sl M b1 (s1).toNatClampNeg s0) [(0, vr (some (16, 0, 0))), (1, vi (l1 + (1 : Int32)))] 2 [] Q)))) : Z E YX1_ages (d + 1) M [(0, vr (some (16, 0, 0))), (1, vi l1)] 57 [vl s0, vi s1, vr u2] Q := by
  obtain ⟨b1, m1, e1_, k⟩ := k
  refine Z.eqs (lv' := [(0, vr (some (16, 0, 0))), (1, vi l1)]) (st' := [vl s0, vi s1, vr (some (b1, 105, m1))]) rfl (by rw [e1_] <;> rfl) ?_
  obtain ⟨g_, k⟩ := k
  obtain ⟨b_, k⟩ := k
  refine z_last g_ dX1_ages_57 b_ ?_
  refine z_inc (v := (l1 + (1 : Int32))) dX1_ages_58 rfl rfl (by decide) (lv' := [(0, vr (some (16, 0, 0))), (1, vi (l1 + (1 : Int32)))]) rfl ?_
  refine z_goto (tgt := 2) dX1_ages_61 rfl ?_
  exact k
theorem sX1_ages_95 {E : zE} {d : Nat} {Q : zO → zM → Prop} (M : zM) (l1 : Int64) (l3 : Int64) (s0 : Int64) (p1 : Nat) (hw : cw M) (k : 16 ≤ p1 ∧ (Z E YX1_agedLow d (sl M p1 15 s0) (zargs 0 [vl l1]) 0 [] (zafter E YX1_ages (d + 1) [(0, vr (some (16, 0, 0))), (3, vl l3)] 103 3 [vr (gr M 16 60)] Q))) : Z E YX1_ages (d + 1) M [(0, vr (some (16, 0, 0))), (1, vl l1), (3, vl l3)] 95 [vl s0, vr (some (p1, 7, 0))] Q := by
  obtain ⟨g_, k⟩ := k
  refine z_putl g_ dX1_ages_95 (zfwN.w fwX1_748_7) ?_
  refine z_aload_n dX1_ages_98 rfl rfl ?_
  refine z_getr (r := (gr M 16 60)) dX1_ages_99 fsX1_684_0 rfl ?_
  refine z_lload_n dX1_ages_102 rfl rfl ?_
  refine Z.pick [0, 2] rfl ?_
  exact z_callS (as := [vl l1]) (st := [vr (gr M 16 60)]) dX1_ages_103 ssX1_1085 (Nat.le_refl _) (Nat.le_of_ble_eq_true rfl) (Nat.le_of_ble_eq_true rfl) rfl k
theorem sX1_ages_106 {E : zE} {d : Nat} {Q : zO → zM → Prop} (M : zM) (l3 : Int64) (s0 : Int64) (u1 : Option zP) (hw : cw M) (k : ∃ b1 : Nat, u1 = some (b1, 7, 0) ∧ (16 ≤ b1 ∧ (∃ b2 : Nat, (gr M 16 60) = some (b2, 7, 0) ∧ (Z E YX1_agedHigh d (sl M b1 14 s0) (zargs 0 [vl l3, vl (gl (sl M b1 14 s0) b2 18)]) 0 [] (zafter E YX1_ages (d + 1) [(0, vr (some (16, 0, 0))), (3, vl l3)] 121 3 [vr (some (b2, 7, 0))] Q))))) : Z E YX1_ages (d + 1) M [(0, vr (some (16, 0, 0))), (3, vl l3)] 106 [vl s0, vr u1] Q := by
  obtain ⟨b1, e1_, k⟩ := k
  refine Z.eqs (lv' := [(0, vr (some (16, 0, 0))), (3, vl l3)]) (st' := [vl s0, vr (some (b1, 7, 0))]) rfl (by rw [e1_] <;> rfl) ?_
  obtain ⟨g_, k⟩ := k
  refine z_putl g_ dX1_ages_106 (zfwN.w fwX1_745_7) ?_
  refine z_aload_n dX1_ages_109 rfl rfl ?_
  refine z_getr (r := (gr M 16 60)) dX1_ages_110 fsX1_684_0 rfl ?_
  refine z_lload_n dX1_ages_113 rfl rfl ?_
  refine z_aload_n dX1_ages_114 rfl rfl ?_
  refine z_getr (r := (gr M 16 60)) dX1_ages_115 fsX1_684_0 rfl ?_
  obtain ⟨b2, e2_, k⟩ := k
  refine Z.eqs (lv' := [(0, vr (some (16, 0, 0))), (3, vl l3)]) (st' := [vr (some (b2, 7, 0)), vl l3, vr (some (b2, 7, 0))]) rfl (by rw [e2_] <;> rfl) ?_
  refine z_getl dX1_ages_118 fsX1_757_7 ?_
  exact z_callS (as := [vl l3, vl (gl (sl M b1 14 s0) b2 18)]) (st := [vr (some (b2, 7, 0))]) dX1_ages_121 ssX1_1081 (Nat.le_refl _) (Nat.le_of_ble_eq_true rfl) (Nat.le_of_ble_eq_true rfl) rfl k
theorem sX1_ages_124 {E : zE} {d : Nat} {Q : zO → zM → Prop} (M : zM) (l3 : Int64) (s0 : Int64) (p1 : Nat) (hw : cw M) (k : 16 ≤ p1 ∧ (Z E YX1_agedLow d (sl M p1 18 s0) (zargs 0 [vl l3]) 0 [] (zafter E YX1_ages (d + 1) [] 132 3 [vr (gr M 16 60)] Q))) : Z E YX1_ages (d + 1) M [(0, vr (some (16, 0, 0))), (3, vl l3)] 124 [vl s0, vr (some (p1, 7, 0))] Q := by
  obtain ⟨g_, k⟩ := k
  refine z_putl g_ dX1_ages_124 (zfwN.w fwX1_757_7) ?_
  refine z_aload_n dX1_ages_127 rfl rfl ?_
  refine z_getr (r := (gr M 16 60)) dX1_ages_128 fsX1_684_0 rfl ?_
  refine z_lload_n dX1_ages_131 rfl rfl ?_
  refine Z.pick [] rfl ?_
  exact z_callS (as := [vl l3]) (st := [vr (gr M 16 60)]) dX1_ages_132 ssX1_1085 (Nat.le_refl _) (Nat.le_of_ble_eq_true rfl) (Nat.le_of_ble_eq_true rfl) rfl k
theorem sX1_ages_135 {E : zE} {d : Nat} {Q : zO → zM → Prop} (M : zM) (s0 : Int64) (u1 : Option zP) (hw : cw M) (k : ∃ b1 : Nat, u1 = some (b1, 7, 0) ∧ (16 ≤ b1 ∧ (Q (.inl none) (sl M b1 17 s0)))) : Z E YX1_ages (d + 1) M [] 135 [vl s0, vr u1] Q := by
  obtain ⟨b1, e1_, k⟩ := k
  refine Z.eqs (lv' := []) (st' := [vl s0, vr (some (b1, 7, 0))]) rfl (by rw [e1_] <;> rfl) ?_
  obtain ⟨g_, k⟩ := k
  refine z_putl g_ dX1_ages_135 (zfwN.w fwX1_754_7) ?_
  exact z_vret dX1_ages_138 rfl k
/-! ScriptTypes.agedHigh(JJ)J -/
theorem bX1_agedHigh_0 : zdec cX1_agedHigh 0 [(0, .lload_n 2, 1), (1, .lload_n 2, 1), (2, .ldc2_w 635, 3), (5, .land, 1), (6, .iconst 1, 1), (7, .lshl, 1), (8, .lor, 1), (9, .lload_n 0, 1), (10, .bipush 63, 2), (12, .lushr, 1), (13, .lor, 1), (14, .lreturn, 1)] = true := by decide +kernel
theorem dX1_agedHigh_0 : decode cX1_agedHigh 0 = .ok (.lload_n 2, 1) := zdec_at bX1_agedHigh_0 0 rfl
theorem dX1_agedHigh_1 : decode cX1_agedHigh 1 = .ok (.lload_n 2, 1) := zdec_at bX1_agedHigh_0 1 rfl
theorem dX1_agedHigh_2 : decode cX1_agedHigh 2 = .ok (.ldc2_w 635, 3) := zdec_at bX1_agedHigh_0 2 rfl
theorem dX1_agedHigh_5 : decode cX1_agedHigh 5 = .ok (.land, 1) := zdec_at bX1_agedHigh_0 3 rfl
theorem dX1_agedHigh_6 : decode cX1_agedHigh 6 = .ok (.iconst 1, 1) := zdec_at bX1_agedHigh_0 4 rfl
theorem dX1_agedHigh_7 : decode cX1_agedHigh 7 = .ok (.lshl, 1) := zdec_at bX1_agedHigh_0 5 rfl
theorem dX1_agedHigh_8 : decode cX1_agedHigh 8 = .ok (.lor, 1) := zdec_at bX1_agedHigh_0 6 rfl
theorem dX1_agedHigh_9 : decode cX1_agedHigh 9 = .ok (.lload_n 0, 1) := zdec_at bX1_agedHigh_0 7 rfl
theorem dX1_agedHigh_10 : decode cX1_agedHigh 10 = .ok (.bipush 63, 2) := zdec_at bX1_agedHigh_0 8 rfl
theorem dX1_agedHigh_12 : decode cX1_agedHigh 12 = .ok (.lushr, 1) := zdec_at bX1_agedHigh_0 9 rfl
theorem dX1_agedHigh_13 : decode cX1_agedHigh 13 = .ok (.lor, 1) := zdec_at bX1_agedHigh_0 10 rfl
theorem dX1_agedHigh_14 : decode cX1_agedHigh 14 = .ok (.lreturn, 1) := zdec_at bX1_agedHigh_0 11 rfl
theorem sX1_agedHigh_0 {E : zE} {d : Nat} {Q : zO → zM → Prop} (M : zM) (l0 : Int64) (l2 : Int64) (hw : cw M) (k : ∀ x1_ : Int64, x1_ = (zlu l0 (63 : Int32)) → (Q (.inl (some (vl ((l2 ||| (zls (l2 &&& (-6148914691236517206 : Int64)) (1 : Int32))) ||| x1_)))) M)) : Z E YX1_agedHigh d M [(0, vl l0), (2, vl l2)] 0 [] Q := by
  refine z_lload_n dX1_agedHigh_0 rfl rfl ?_
  refine z_lload_n dX1_agedHigh_1 rfl rfl ?_
  refine z_ldc2 (v := -6148914691236517206) dX1_agedHigh_2 q3474 ?_
  refine z_land dX1_agedHigh_5 ?_
  refine z_iconst (v := 1) dX1_agedHigh_6 rfl ?_
  refine z_lshl dX1_agedHigh_7 ?_
  refine z_lor dX1_agedHigh_8 ?_
  refine z_lload_n dX1_agedHigh_9 rfl rfl ?_
  refine z_bipush (v := 63) dX1_agedHigh_10 rfl ?_
  refine z_lushr dX1_agedHigh_12 ?_
  generalize hx1_ : zlu l0 (63 : Int32) = x1_
  have k := k x1_ hx1_.symm
  refine z_lor dX1_agedHigh_13 ?_
  exact z_lret dX1_agedHigh_14 rfl k
/-! ScriptTypes.agedLow(J)J -/
theorem bX1_agedLow_0 : zdec cX1_agedLow 0 [(0, .lload_n 0, 1), (1, .lload_n 0, 1), (2, .ldc2_w 635, 3), (5, .land, 1), (6, .ldc2_w 637, 3), (9, .land, 1), (10, .iconst 1, 1), (11, .lshl, 1), (12, .lor, 1), (13, .lreturn, 1)] = true := by decide +kernel
theorem dX1_agedLow_0 : decode cX1_agedLow 0 = .ok (.lload_n 0, 1) := zdec_at bX1_agedLow_0 0 rfl
theorem dX1_agedLow_1 : decode cX1_agedLow 1 = .ok (.lload_n 0, 1) := zdec_at bX1_agedLow_0 1 rfl
theorem dX1_agedLow_2 : decode cX1_agedLow 2 = .ok (.ldc2_w 635, 3) := zdec_at bX1_agedLow_0 2 rfl
theorem dX1_agedLow_5 : decode cX1_agedLow 5 = .ok (.land, 1) := zdec_at bX1_agedLow_0 3 rfl
theorem dX1_agedLow_6 : decode cX1_agedLow 6 = .ok (.ldc2_w 637, 3) := zdec_at bX1_agedLow_0 4 rfl
theorem dX1_agedLow_9 : decode cX1_agedLow 9 = .ok (.land, 1) := zdec_at bX1_agedLow_0 5 rfl
theorem dX1_agedLow_10 : decode cX1_agedLow 10 = .ok (.iconst 1, 1) := zdec_at bX1_agedLow_0 6 rfl
theorem dX1_agedLow_11 : decode cX1_agedLow 11 = .ok (.lshl, 1) := zdec_at bX1_agedLow_0 7 rfl
theorem dX1_agedLow_12 : decode cX1_agedLow 12 = .ok (.lor, 1) := zdec_at bX1_agedLow_0 8 rfl
theorem dX1_agedLow_13 : decode cX1_agedLow 13 = .ok (.lreturn, 1) := zdec_at bX1_agedLow_0 9 rfl
theorem sX1_agedLow_0 {E : zE} {d : Nat} {Q : zO → zM → Prop} (M : zM) (l0 : Int64) (hw : cw M) (k : Q (.inl (some (vl (l0 ||| (zls ((l0 &&& (-6148914691236517206 : Int64)) &&& (-536870912 : Int64)) (1 : Int32)))))) M) : Z E YX1_agedLow d M [(0, vl l0)] 0 [] Q := by
  refine z_lload_n dX1_agedLow_0 rfl rfl ?_
  refine z_lload_n dX1_agedLow_1 rfl rfl ?_
  refine z_ldc2 (v := -6148914691236517206) dX1_agedLow_2 q3474 ?_
  refine z_land dX1_agedLow_5 ?_
  refine z_ldc2 (v := -536870912) dX1_agedLow_6 q3478 ?_
  refine z_land dX1_agedLow_9 ?_
  refine z_iconst (v := 1) dX1_agedLow_10 rfl ?_
  refine z_lshl dX1_agedLow_11 ?_
  refine z_lor dX1_agedLow_12 ?_
  exact z_lret dX1_agedLow_13 rfl k
/-! ScriptTypes.makes(II)V -/
theorem bX1_makes_0 : zdec cX1_makes 0 [(0, .aload_n 0, 1), (1, .iload_n 1, 1), (2, .invokevirtual 1039, 3), (5, .aload_n 0, 1), (6, .getfield 684, 3), (9, .dup, 1), (10, .getfield 726, 3), (13, .iload_n 1, 1), (14, .isub, 1), (15, .putfield 726, 3), (18, .aload_n 0, 1), (19, .getfield 684, 3), (22, .aload_n 0, 1), (23, .getfield 222, 3), (26, .invokevirtual 937, 3), (29, .pop, 1)] = true := by decide +kernel
theorem dX1_makes_0 : decode cX1_makes 0 = .ok (.aload_n 0, 1) := zdec_at bX1_makes_0 0 rfl
theorem dX1_makes_1 : decode cX1_makes 1 = .ok (.iload_n 1, 1) := zdec_at bX1_makes_0 1 rfl
theorem dX1_makes_2 : decode cX1_makes 2 = .ok (.invokevirtual 1039, 3) := zdec_at bX1_makes_0 2 rfl
theorem dX1_makes_5 : decode cX1_makes 5 = .ok (.aload_n 0, 1) := zdec_at bX1_makes_0 3 rfl
theorem dX1_makes_6 : decode cX1_makes 6 = .ok (.getfield 684, 3) := zdec_at bX1_makes_0 4 rfl
theorem dX1_makes_9 : decode cX1_makes 9 = .ok (.dup, 1) := zdec_at bX1_makes_0 5 rfl
theorem dX1_makes_10 : decode cX1_makes 10 = .ok (.getfield 726, 3) := zdec_at bX1_makes_0 6 rfl
theorem dX1_makes_13 : decode cX1_makes 13 = .ok (.iload_n 1, 1) := zdec_at bX1_makes_0 7 rfl
theorem dX1_makes_14 : decode cX1_makes 14 = .ok (.isub, 1) := zdec_at bX1_makes_0 8 rfl
theorem dX1_makes_15 : decode cX1_makes 15 = .ok (.putfield 726, 3) := zdec_at bX1_makes_0 9 rfl
theorem dX1_makes_18 : decode cX1_makes 18 = .ok (.aload_n 0, 1) := zdec_at bX1_makes_0 10 rfl
theorem dX1_makes_19 : decode cX1_makes 19 = .ok (.getfield 684, 3) := zdec_at bX1_makes_0 11 rfl
theorem dX1_makes_22 : decode cX1_makes 22 = .ok (.aload_n 0, 1) := zdec_at bX1_makes_0 12 rfl
theorem dX1_makes_23 : decode cX1_makes 23 = .ok (.getfield 222, 3) := zdec_at bX1_makes_0 13 rfl
theorem dX1_makes_26 : decode cX1_makes 26 = .ok (.invokevirtual 937, 3) := zdec_at bX1_makes_0 14 rfl
theorem dX1_makes_29 : decode cX1_makes 29 = .ok (.pop, 1) := zdec_at bX1_makes_0 15 rfl
theorem bX1_makes_30 : zdec cX1_makes 30 [(30, .aload_n 0, 1), (31, .aload_n 0, 1), (32, .getfield 684, 3), (35, .getfield 726, 3), (38, .putfield 1042, 3), (41, .ldc2_w 1057, 3), (44, .lstore_n 3, 1), (45, .aload_n 0, 1), (46, .getfield 222, 3), (49, .lload_n 3, 1), (50, .aload_n 0, 1), (51, .getfield 658, 3), (54, .lor, 1), (55, .aload_n 0, 1), (56, .getfield 661, 3), (59, .invokevirtual 1028, 3)] = true := by decide +kernel
theorem dX1_makes_30 : decode cX1_makes 30 = .ok (.aload_n 0, 1) := zdec_at bX1_makes_30 0 rfl
theorem dX1_makes_31 : decode cX1_makes 31 = .ok (.aload_n 0, 1) := zdec_at bX1_makes_30 1 rfl
theorem dX1_makes_32 : decode cX1_makes 32 = .ok (.getfield 684, 3) := zdec_at bX1_makes_30 2 rfl
theorem dX1_makes_35 : decode cX1_makes 35 = .ok (.getfield 726, 3) := zdec_at bX1_makes_30 3 rfl
theorem dX1_makes_38 : decode cX1_makes 38 = .ok (.putfield 1042, 3) := zdec_at bX1_makes_30 4 rfl
theorem dX1_makes_41 : decode cX1_makes 41 = .ok (.ldc2_w 1057, 3) := zdec_at bX1_makes_30 5 rfl
theorem dX1_makes_44 : decode cX1_makes 44 = .ok (.lstore_n 3, 1) := zdec_at bX1_makes_30 6 rfl
theorem dX1_makes_45 : decode cX1_makes 45 = .ok (.aload_n 0, 1) := zdec_at bX1_makes_30 7 rfl
theorem dX1_makes_46 : decode cX1_makes 46 = .ok (.getfield 222, 3) := zdec_at bX1_makes_30 8 rfl
theorem dX1_makes_49 : decode cX1_makes 49 = .ok (.lload_n 3, 1) := zdec_at bX1_makes_30 9 rfl
theorem dX1_makes_50 : decode cX1_makes 50 = .ok (.aload_n 0, 1) := zdec_at bX1_makes_30 10 rfl
theorem dX1_makes_51 : decode cX1_makes 51 = .ok (.getfield 658, 3) := zdec_at bX1_makes_30 11 rfl
theorem dX1_makes_54 : decode cX1_makes 54 = .ok (.lor, 1) := zdec_at bX1_makes_30 12 rfl
theorem dX1_makes_55 : decode cX1_makes 55 = .ok (.aload_n 0, 1) := zdec_at bX1_makes_30 13 rfl
theorem dX1_makes_56 : decode cX1_makes 56 = .ok (.getfield 661, 3) := zdec_at bX1_makes_30 14 rfl
theorem dX1_makes_59 : decode cX1_makes 59 = .ok (.invokevirtual 1028, 3) := zdec_at bX1_makes_30 15 rfl
theorem bX1_makes_62 : zdec cX1_makes 62 [(62, .ifCond .ne 12, 3), (65, .aload_n 0, 1), (66, .aload_n 0, 1), (67, .getfield 684, 3), (70, .iconst 0, 1), (71, .invokevirtual 960, 3), (74, .aload_n 0, 1), (75, .getfield 225, 3), (78, .lconst 1, 1), (79, .invokevirtual 892, 3), (82, .pop, 1), (83, .bipush 10, 2), (85, .istore 5, 2), (87, .iload 5, 2), (89, .bipush 18, 2), (91, .if_icmp .ge 50, 3)] = true := by decide +kernel
theorem dX1_makes_62 : decode cX1_makes 62 = .ok (.ifCond .ne 12, 3) := zdec_at bX1_makes_62 0 rfl
theorem dX1_makes_65 : decode cX1_makes 65 = .ok (.aload_n 0, 1) := zdec_at bX1_makes_62 1 rfl
theorem dX1_makes_66 : decode cX1_makes 66 = .ok (.aload_n 0, 1) := zdec_at bX1_makes_62 2 rfl
theorem dX1_makes_67 : decode cX1_makes 67 = .ok (.getfield 684, 3) := zdec_at bX1_makes_62 3 rfl
theorem dX1_makes_70 : decode cX1_makes 70 = .ok (.iconst 0, 1) := zdec_at bX1_makes_62 4 rfl
theorem dX1_makes_71 : decode cX1_makes 71 = .ok (.invokevirtual 960, 3) := zdec_at bX1_makes_62 5 rfl
theorem dX1_makes_74 : decode cX1_makes 74 = .ok (.aload_n 0, 1) := zdec_at bX1_makes_62 6 rfl
theorem dX1_makes_75 : decode cX1_makes 75 = .ok (.getfield 225, 3) := zdec_at bX1_makes_62 7 rfl
theorem dX1_makes_78 : decode cX1_makes 78 = .ok (.lconst 1, 1) := zdec_at bX1_makes_62 8 rfl
theorem dX1_makes_79 : decode cX1_makes 79 = .ok (.invokevirtual 892, 3) := zdec_at bX1_makes_62 9 rfl
theorem dX1_makes_82 : decode cX1_makes 82 = .ok (.pop, 1) := zdec_at bX1_makes_62 10 rfl
theorem dX1_makes_83 : decode cX1_makes 83 = .ok (.bipush 10, 2) := zdec_at bX1_makes_62 11 rfl
theorem dX1_makes_85 : decode cX1_makes 85 = .ok (.istore 5, 2) := zdec_at bX1_makes_62 12 rfl
theorem dX1_makes_87 : decode cX1_makes 87 = .ok (.iload 5, 2) := zdec_at bX1_makes_62 13 rfl
theorem dX1_makes_89 : decode cX1_makes 89 = .ok (.bipush 18, 2) := zdec_at bX1_makes_62 14 rfl
theorem dX1_makes_91 : decode cX1_makes 91 = .ok (.if_icmp .ge 50, 3) := zdec_at bX1_makes_62 15 rfl
theorem bX1_makes_94 : zdec cX1_makes 94 [(94, .lload_n 3, 1), (95, .iload 5, 2), (97, .lshr, 1), (98, .lconst 1, 1), (99, .land, 1), (100, .lconst 0, 1), (101, .lcmp, 1), (102, .ifCond .eq 33, 3), (105, .iload 5, 2), (107, .aload_n 0, 1), (108, .getfield 222, 3), (111, .getfield 916, 3), (114, .aload_n 0, 1), (115, .getfield 222, 3), (118, .getfield 918, 3), (121, .invokestatic 827, 3)] = true := by decide +kernel
theorem dX1_makes_94 : decode cX1_makes 94 = .ok (.lload_n 3, 1) := zdec_at bX1_makes_94 0 rfl
theorem dX1_makes_95 : decode cX1_makes 95 = .ok (.iload 5, 2) := zdec_at bX1_makes_94 1 rfl
theorem dX1_makes_97 : decode cX1_makes 97 = .ok (.lshr, 1) := zdec_at bX1_makes_94 2 rfl
theorem dX1_makes_98 : decode cX1_makes 98 = .ok (.lconst 1, 1) := zdec_at bX1_makes_94 3 rfl
theorem dX1_makes_99 : decode cX1_makes 99 = .ok (.land, 1) := zdec_at bX1_makes_94 4 rfl
theorem dX1_makes_100 : decode cX1_makes 100 = .ok (.lconst 0, 1) := zdec_at bX1_makes_94 5 rfl
theorem dX1_makes_101 : decode cX1_makes 101 = .ok (.lcmp, 1) := zdec_at bX1_makes_94 6 rfl
theorem dX1_makes_102 : decode cX1_makes 102 = .ok (.ifCond .eq 33, 3) := zdec_at bX1_makes_94 7 rfl
theorem dX1_makes_105 : decode cX1_makes 105 = .ok (.iload 5, 2) := zdec_at bX1_makes_94 8 rfl
theorem dX1_makes_107 : decode cX1_makes 107 = .ok (.aload_n 0, 1) := zdec_at bX1_makes_94 9 rfl
theorem dX1_makes_108 : decode cX1_makes 108 = .ok (.getfield 222, 3) := zdec_at bX1_makes_94 10 rfl
theorem dX1_makes_111 : decode cX1_makes 111 = .ok (.getfield 916, 3) := zdec_at bX1_makes_94 11 rfl
theorem dX1_makes_114 : decode cX1_makes 114 = .ok (.aload_n 0, 1) := zdec_at bX1_makes_94 12 rfl
theorem dX1_makes_115 : decode cX1_makes 115 = .ok (.getfield 222, 3) := zdec_at bX1_makes_94 13 rfl
theorem dX1_makes_118 : decode cX1_makes 118 = .ok (.getfield 918, 3) := zdec_at bX1_makes_94 14 rfl
theorem dX1_makes_121 : decode cX1_makes 121 = .ok (.invokestatic 827, 3) := zdec_at bX1_makes_94 15 rfl
theorem bX1_makes_124 : zdec cX1_makes 124 [(124, .ifCond .eq 11, 3), (127, .aload_n 0, 1), (128, .iload 5, 2), (130, .iconst 0, 1), (131, .iload_n 1, 1), (132, .invokevirtual 1045, 3), (135, .iinc 5 1, 3), (138, .goto (-51), 3), (141, .aload_n 0, 1), (142, .getfield 222, 3), (145, .aload_n 0, 1), (146, .getfield 658, 3), (149, .aload_n 0, 1), (150, .getfield 661, 3), (153, .invokevirtual 1000, 3), (156, .ifCond .ne 4, 3)] = true := by decide +kernel
theorem dX1_makes_124 : decode cX1_makes 124 = .ok (.ifCond .eq 11, 3) := zdec_at bX1_makes_124 0 rfl
theorem dX1_makes_127 : decode cX1_makes 127 = .ok (.aload_n 0, 1) := zdec_at bX1_makes_124 1 rfl
theorem dX1_makes_128 : decode cX1_makes 128 = .ok (.iload 5, 2) := zdec_at bX1_makes_124 2 rfl
theorem dX1_makes_130 : decode cX1_makes 130 = .ok (.iconst 0, 1) := zdec_at bX1_makes_124 3 rfl
theorem dX1_makes_131 : decode cX1_makes 131 = .ok (.iload_n 1, 1) := zdec_at bX1_makes_124 4 rfl
theorem dX1_makes_132 : decode cX1_makes 132 = .ok (.invokevirtual 1045, 3) := zdec_at bX1_makes_124 5 rfl
theorem dX1_makes_135 : decode cX1_makes 135 = .ok (.iinc 5 1, 3) := zdec_at bX1_makes_124 6 rfl
theorem dX1_makes_138 : decode cX1_makes 138 = .ok (.goto (-51), 3) := zdec_at bX1_makes_124 7 rfl
theorem dX1_makes_141 : decode cX1_makes 141 = .ok (.aload_n 0, 1) := zdec_at bX1_makes_124 8 rfl
theorem dX1_makes_142 : decode cX1_makes 142 = .ok (.getfield 222, 3) := zdec_at bX1_makes_124 9 rfl
theorem dX1_makes_145 : decode cX1_makes 145 = .ok (.aload_n 0, 1) := zdec_at bX1_makes_124 10 rfl
theorem dX1_makes_146 : decode cX1_makes 146 = .ok (.getfield 658, 3) := zdec_at bX1_makes_124 11 rfl
theorem dX1_makes_149 : decode cX1_makes 149 = .ok (.aload_n 0, 1) := zdec_at bX1_makes_124 12 rfl
theorem dX1_makes_150 : decode cX1_makes 150 = .ok (.getfield 661, 3) := zdec_at bX1_makes_124 13 rfl
theorem dX1_makes_153 : decode cX1_makes 153 = .ok (.invokevirtual 1000, 3) := zdec_at bX1_makes_124 14 rfl
theorem dX1_makes_156 : decode cX1_makes 156 = .ok (.ifCond .ne 4, 3) := zdec_at bX1_makes_124 15 rfl
theorem bX1_makes_159 : zdec cX1_makes 159 [(159, .return_, 1), (160, .aload_n 0, 1), (161, .iload_n 2, 1), (162, .invokevirtual 486, 3), (165, .istore 5, 2), (167, .aload_n 0, 1), (168, .getfield 684, 3), (171, .aload_n 0, 1), (172, .getfield 222, 3), (175, .invokevirtual 767, 3), (178, .iconst 0, 1), (179, .istore 6, 2), (181, .iload 6, 2), (183, .iload_n 1, 1), (184, .if_icmp .ge 23, 3), (187, .aload_n 0, 1)] = true := by decide +kernel
theorem dX1_makes_159 : decode cX1_makes 159 = .ok (.return_, 1) := zdec_at bX1_makes_159 0 rfl
theorem dX1_makes_160 : decode cX1_makes 160 = .ok (.aload_n 0, 1) := zdec_at bX1_makes_159 1 rfl
theorem dX1_makes_161 : decode cX1_makes 161 = .ok (.iload_n 2, 1) := zdec_at bX1_makes_159 2 rfl
theorem dX1_makes_162 : decode cX1_makes 162 = .ok (.invokevirtual 486, 3) := zdec_at bX1_makes_159 3 rfl
theorem dX1_makes_165 : decode cX1_makes 165 = .ok (.istore 5, 2) := zdec_at bX1_makes_159 4 rfl
theorem dX1_makes_167 : decode cX1_makes 167 = .ok (.aload_n 0, 1) := zdec_at bX1_makes_159 5 rfl
theorem dX1_makes_168 : decode cX1_makes 168 = .ok (.getfield 684, 3) := zdec_at bX1_makes_159 6 rfl
theorem dX1_makes_171 : decode cX1_makes 171 = .ok (.aload_n 0, 1) := zdec_at bX1_makes_159 7 rfl
theorem dX1_makes_172 : decode cX1_makes 172 = .ok (.getfield 222, 3) := zdec_at bX1_makes_159 8 rfl
theorem dX1_makes_175 : decode cX1_makes 175 = .ok (.invokevirtual 767, 3) := zdec_at bX1_makes_159 9 rfl
theorem dX1_makes_178 : decode cX1_makes 178 = .ok (.iconst 0, 1) := zdec_at bX1_makes_159 10 rfl
theorem dX1_makes_179 : decode cX1_makes 179 = .ok (.istore 6, 2) := zdec_at bX1_makes_159 11 rfl
theorem dX1_makes_181 : decode cX1_makes 181 = .ok (.iload 6, 2) := zdec_at bX1_makes_159 12 rfl
theorem dX1_makes_183 : decode cX1_makes 183 = .ok (.iload_n 1, 1) := zdec_at bX1_makes_159 13 rfl
theorem dX1_makes_184 : decode cX1_makes 184 = .ok (.if_icmp .ge 23, 3) := zdec_at bX1_makes_159 14 rfl
theorem dX1_makes_187 : decode cX1_makes 187 = .ok (.aload_n 0, 1) := zdec_at bX1_makes_159 15 rfl
theorem bX1_makes_188 : zdec cX1_makes 188 [(188, .getfield 684, 3), (191, .aload_n 0, 1), (192, .getfield 228, 3), (195, .iload 6, 2), (197, .aaload, 1), (198, .invokevirtual 767, 3), (201, .iinc 6 1, 3), (204, .goto (-23), 3), (207, .aload_n 0, 1), (208, .getfield 684, 3), (211, .iload 5, 2), (213, .iconst 1, 1), (214, .invokevirtual 922, 3), (217, .aload_n 0, 1), (218, .iload_n 1, 1), (219, .invokevirtual 1039, 3)] = true := by decide +kernel
theorem dX1_makes_188 : decode cX1_makes 188 = .ok (.getfield 684, 3) := zdec_at bX1_makes_188 0 rfl
theorem dX1_makes_191 : decode cX1_makes 191 = .ok (.aload_n 0, 1) := zdec_at bX1_makes_188 1 rfl
theorem dX1_makes_192 : decode cX1_makes 192 = .ok (.getfield 228, 3) := zdec_at bX1_makes_188 2 rfl
theorem dX1_makes_195 : decode cX1_makes 195 = .ok (.iload 6, 2) := zdec_at bX1_makes_188 3 rfl
theorem dX1_makes_197 : decode cX1_makes 197 = .ok (.aaload, 1) := zdec_at bX1_makes_188 4 rfl
theorem dX1_makes_198 : decode cX1_makes 198 = .ok (.invokevirtual 767, 3) := zdec_at bX1_makes_188 5 rfl
theorem dX1_makes_201 : decode cX1_makes 201 = .ok (.iinc 6 1, 3) := zdec_at bX1_makes_188 6 rfl
theorem dX1_makes_204 : decode cX1_makes 204 = .ok (.goto (-23), 3) := zdec_at bX1_makes_188 7 rfl
theorem dX1_makes_207 : decode cX1_makes 207 = .ok (.aload_n 0, 1) := zdec_at bX1_makes_188 8 rfl
theorem dX1_makes_208 : decode cX1_makes 208 = .ok (.getfield 684, 3) := zdec_at bX1_makes_188 9 rfl
theorem dX1_makes_211 : decode cX1_makes 211 = .ok (.iload 5, 2) := zdec_at bX1_makes_188 10 rfl
theorem dX1_makes_213 : decode cX1_makes 213 = .ok (.iconst 1, 1) := zdec_at bX1_makes_188 11 rfl
theorem dX1_makes_214 : decode cX1_makes 214 = .ok (.invokevirtual 922, 3) := zdec_at bX1_makes_188 12 rfl
theorem dX1_makes_217 : decode cX1_makes 217 = .ok (.aload_n 0, 1) := zdec_at bX1_makes_188 13 rfl
theorem dX1_makes_218 : decode cX1_makes 218 = .ok (.iload_n 1, 1) := zdec_at bX1_makes_188 14 rfl
theorem dX1_makes_219 : decode cX1_makes 219 = .ok (.invokevirtual 1039, 3) := zdec_at bX1_makes_188 15 rfl
theorem bX1_makes_222 : zdec cX1_makes 222 [(222, .aload_n 0, 1), (223, .getfield 684, 3), (226, .dup, 1), (227, .getfield 726, 3), (230, .iload_n 1, 1), (231, .isub, 1), (232, .putfield 726, 3), (235, .aload_n 0, 1), (236, .getfield 684, 3), (239, .aload_n 0, 1), (240, .getfield 222, 3), (243, .invokevirtual 937, 3), (246, .pop, 1), (247, .aload_n 0, 1), (248, .ldc2_w 1031, 3), (251, .putfield 818, 3)] = true := by decide +kernel
theorem dX1_makes_222 : decode cX1_makes 222 = .ok (.aload_n 0, 1) := zdec_at bX1_makes_222 0 rfl
theorem dX1_makes_223 : decode cX1_makes 223 = .ok (.getfield 684, 3) := zdec_at bX1_makes_222 1 rfl
theorem dX1_makes_226 : decode cX1_makes 226 = .ok (.dup, 1) := zdec_at bX1_makes_222 2 rfl
theorem dX1_makes_227 : decode cX1_makes 227 = .ok (.getfield 726, 3) := zdec_at bX1_makes_222 3 rfl
theorem dX1_makes_230 : decode cX1_makes 230 = .ok (.iload_n 1, 1) := zdec_at bX1_makes_222 4 rfl
theorem dX1_makes_231 : decode cX1_makes 231 = .ok (.isub, 1) := zdec_at bX1_makes_222 5 rfl
theorem dX1_makes_232 : decode cX1_makes 232 = .ok (.putfield 726, 3) := zdec_at bX1_makes_222 6 rfl
theorem dX1_makes_235 : decode cX1_makes 235 = .ok (.aload_n 0, 1) := zdec_at bX1_makes_222 7 rfl
theorem dX1_makes_236 : decode cX1_makes 236 = .ok (.getfield 684, 3) := zdec_at bX1_makes_222 8 rfl
theorem dX1_makes_239 : decode cX1_makes 239 = .ok (.aload_n 0, 1) := zdec_at bX1_makes_222 9 rfl
theorem dX1_makes_240 : decode cX1_makes 240 = .ok (.getfield 222, 3) := zdec_at bX1_makes_222 10 rfl
theorem dX1_makes_243 : decode cX1_makes 243 = .ok (.invokevirtual 937, 3) := zdec_at bX1_makes_222 11 rfl
theorem dX1_makes_246 : decode cX1_makes 246 = .ok (.pop, 1) := zdec_at bX1_makes_222 12 rfl
theorem dX1_makes_247 : decode cX1_makes 247 = .ok (.aload_n 0, 1) := zdec_at bX1_makes_222 13 rfl
theorem dX1_makes_248 : decode cX1_makes 248 = .ok (.ldc2_w 1031, 3) := zdec_at bX1_makes_222 14 rfl
theorem dX1_makes_251 : decode cX1_makes 251 = .ok (.putfield 818, 3) := zdec_at bX1_makes_222 15 rfl
theorem bX1_makes_254 : zdec cX1_makes 254 [(254, .aload_n 0, 1), (255, .lconst 0, 1), (256, .putfield 821, 3), (259, .aload_n 0, 1), (260, .iconst 0, 1), (261, .putfield 824, 3), (264, .aload_n 0, 1), (265, .aload_n 0, 1), (266, .getfield 222, 3), (269, .getfield 916, 3), (272, .aload_n 0, 1), (273, .getfield 658, 3), (276, .land, 1), (277, .aload_n 0, 1), (278, .getfield 222, 3), (281, .getfield 918, 3)] = true := by decide +kernel
theorem dX1_makes_254 : decode cX1_makes 254 = .ok (.aload_n 0, 1) := zdec_at bX1_makes_254 0 rfl
theorem dX1_makes_255 : decode cX1_makes 255 = .ok (.lconst 0, 1) := zdec_at bX1_makes_254 1 rfl
theorem dX1_makes_256 : decode cX1_makes 256 = .ok (.putfield 821, 3) := zdec_at bX1_makes_254 2 rfl
theorem dX1_makes_259 : decode cX1_makes 259 = .ok (.aload_n 0, 1) := zdec_at bX1_makes_254 3 rfl
theorem dX1_makes_260 : decode cX1_makes 260 = .ok (.iconst 0, 1) := zdec_at bX1_makes_254 4 rfl
theorem dX1_makes_261 : decode cX1_makes 261 = .ok (.putfield 824, 3) := zdec_at bX1_makes_254 5 rfl
theorem dX1_makes_264 : decode cX1_makes 264 = .ok (.aload_n 0, 1) := zdec_at bX1_makes_254 6 rfl
theorem dX1_makes_265 : decode cX1_makes 265 = .ok (.aload_n 0, 1) := zdec_at bX1_makes_254 7 rfl
theorem dX1_makes_266 : decode cX1_makes 266 = .ok (.getfield 222, 3) := zdec_at bX1_makes_254 8 rfl
theorem dX1_makes_269 : decode cX1_makes 269 = .ok (.getfield 916, 3) := zdec_at bX1_makes_254 9 rfl
theorem dX1_makes_272 : decode cX1_makes 272 = .ok (.aload_n 0, 1) := zdec_at bX1_makes_254 10 rfl
theorem dX1_makes_273 : decode cX1_makes 273 = .ok (.getfield 658, 3) := zdec_at bX1_makes_254 11 rfl
theorem dX1_makes_276 : decode cX1_makes 276 = .ok (.land, 1) := zdec_at bX1_makes_254 12 rfl
theorem dX1_makes_277 : decode cX1_makes 277 = .ok (.aload_n 0, 1) := zdec_at bX1_makes_254 13 rfl
theorem dX1_makes_278 : decode cX1_makes 278 = .ok (.getfield 222, 3) := zdec_at bX1_makes_254 14 rfl
theorem dX1_makes_281 : decode cX1_makes 281 = .ok (.getfield 918, 3) := zdec_at bX1_makes_254 15 rfl
theorem bX1_makes_284 : zdec cX1_makes 284 [(284, .aload_n 0, 1), (285, .getfield 661, 3), (288, .land, 1), (289, .aload_n 0, 1), (290, .getfield 219, 3), (293, .invokevirtual 796, 3), (296, .invokevirtual 1024, 3), (299, .aload_n 0, 1), (300, .getfield 684, 3), (303, .getfield 734, 3), (306, .iload 5, 2), (308, .aload_n 0, 1), (309, .getfield 219, 3), (312, .getfield 916, 3), (315, .aload_n 0, 1), (316, .getfield 850, 3)] = true := by decide +kernel
theorem dX1_makes_284 : decode cX1_makes 284 = .ok (.aload_n 0, 1) := zdec_at bX1_makes_284 0 rfl
theorem dX1_makes_285 : decode cX1_makes 285 = .ok (.getfield 661, 3) := zdec_at bX1_makes_284 1 rfl
theorem dX1_makes_288 : decode cX1_makes 288 = .ok (.land, 1) := zdec_at bX1_makes_284 2 rfl
theorem dX1_makes_289 : decode cX1_makes 289 = .ok (.aload_n 0, 1) := zdec_at bX1_makes_284 3 rfl
theorem dX1_makes_290 : decode cX1_makes 290 = .ok (.getfield 219, 3) := zdec_at bX1_makes_284 4 rfl
theorem dX1_makes_293 : decode cX1_makes 293 = .ok (.invokevirtual 796, 3) := zdec_at bX1_makes_284 5 rfl
theorem dX1_makes_296 : decode cX1_makes 296 = .ok (.invokevirtual 1024, 3) := zdec_at bX1_makes_284 6 rfl
theorem dX1_makes_299 : decode cX1_makes 299 = .ok (.aload_n 0, 1) := zdec_at bX1_makes_284 7 rfl
theorem dX1_makes_300 : decode cX1_makes 300 = .ok (.getfield 684, 3) := zdec_at bX1_makes_284 8 rfl
theorem dX1_makes_303 : decode cX1_makes 303 = .ok (.getfield 734, 3) := zdec_at bX1_makes_284 9 rfl
theorem dX1_makes_306 : decode cX1_makes 306 = .ok (.iload 5, 2) := zdec_at bX1_makes_284 10 rfl
theorem dX1_makes_308 : decode cX1_makes 308 = .ok (.aload_n 0, 1) := zdec_at bX1_makes_284 11 rfl
theorem dX1_makes_309 : decode cX1_makes 309 = .ok (.getfield 219, 3) := zdec_at bX1_makes_284 12 rfl
theorem dX1_makes_312 : decode cX1_makes 312 = .ok (.getfield 916, 3) := zdec_at bX1_makes_284 13 rfl
theorem dX1_makes_315 : decode cX1_makes 315 = .ok (.aload_n 0, 1) := zdec_at bX1_makes_284 14 rfl
theorem dX1_makes_316 : decode cX1_makes 316 = .ok (.getfield 850, 3) := zdec_at bX1_makes_284 15 rfl
theorem bX1_makes_319 : zdec cX1_makes 319 [(319, .ifCond .ne 19, 3), (322, .aload_n 0, 1), (323, .getfield 219, 3), (326, .getfield 920, 3), (329, .ldc2_w 875, 3), (332, .land, 1), (333, .lconst 0, 1), (334, .lcmp, 1), (335, .ifCond .eq 9, 3), (338, .ldc2_w 1031, 3), (341, .goto 4, 3), (344, .lconst 0, 1), (345, .lor, 1), (346, .lastore, 1), (347, .aload_n 0, 1), (348, .getfield 684, 3)] = true := by decide +kernel
theorem dX1_makes_319 : decode cX1_makes 319 = .ok (.ifCond .ne 19, 3) := zdec_at bX1_makes_319 0 rfl
theorem dX1_makes_322 : decode cX1_makes 322 = .ok (.aload_n 0, 1) := zdec_at bX1_makes_319 1 rfl
theorem dX1_makes_323 : decode cX1_makes 323 = .ok (.getfield 219, 3) := zdec_at bX1_makes_319 2 rfl
theorem dX1_makes_326 : decode cX1_makes 326 = .ok (.getfield 920, 3) := zdec_at bX1_makes_319 3 rfl
theorem dX1_makes_329 : decode cX1_makes 329 = .ok (.ldc2_w 875, 3) := zdec_at bX1_makes_319 4 rfl
theorem dX1_makes_332 : decode cX1_makes 332 = .ok (.land, 1) := zdec_at bX1_makes_319 5 rfl
theorem dX1_makes_333 : decode cX1_makes 333 = .ok (.lconst 0, 1) := zdec_at bX1_makes_319 6 rfl
theorem dX1_makes_334 : decode cX1_makes 334 = .ok (.lcmp, 1) := zdec_at bX1_makes_319 7 rfl
theorem dX1_makes_335 : decode cX1_makes 335 = .ok (.ifCond .eq 9, 3) := zdec_at bX1_makes_319 8 rfl
theorem dX1_makes_338 : decode cX1_makes 338 = .ok (.ldc2_w 1031, 3) := zdec_at bX1_makes_319 9 rfl
theorem dX1_makes_341 : decode cX1_makes 341 = .ok (.goto 4, 3) := zdec_at bX1_makes_319 10 rfl
theorem dX1_makes_344 : decode cX1_makes 344 = .ok (.lconst 0, 1) := zdec_at bX1_makes_319 11 rfl
theorem dX1_makes_345 : decode cX1_makes 345 = .ok (.lor, 1) := zdec_at bX1_makes_319 12 rfl
theorem dX1_makes_346 : decode cX1_makes 346 = .ok (.lastore, 1) := zdec_at bX1_makes_319 13 rfl
theorem dX1_makes_347 : decode cX1_makes 347 = .ok (.aload_n 0, 1) := zdec_at bX1_makes_319 14 rfl
theorem dX1_makes_348 : decode cX1_makes 348 = .ok (.getfield 684, 3) := zdec_at bX1_makes_319 15 rfl
theorem bX1_makes_351 : zdec cX1_makes 351 [(351, .getfield 880, 3), (354, .iload 5, 2), (356, .aload_n 0, 1), (357, .getfield 219, 3), (360, .getfield 918, 3), (363, .lastore, 1), (364, .aload_n 0, 1), (365, .getfield 225, 3), (368, .invokevirtual 796, 3), (371, .iload 5, 2), (373, .invokevirtual 800, 3), (376, .pop, 1), (377, .iconst 1, 1), (378, .istore 6, 2), (380, .iload 6, 2), (382, .aload_n 0, 1)] = true := by decide +kernel
theorem dX1_makes_351 : decode cX1_makes 351 = .ok (.getfield 880, 3) := zdec_at bX1_makes_351 0 rfl
theorem dX1_makes_354 : decode cX1_makes 354 = .ok (.iload 5, 2) := zdec_at bX1_makes_351 1 rfl
theorem dX1_makes_356 : decode cX1_makes 356 = .ok (.aload_n 0, 1) := zdec_at bX1_makes_351 2 rfl
theorem dX1_makes_357 : decode cX1_makes 357 = .ok (.getfield 219, 3) := zdec_at bX1_makes_351 3 rfl
theorem dX1_makes_360 : decode cX1_makes 360 = .ok (.getfield 918, 3) := zdec_at bX1_makes_351 4 rfl
theorem dX1_makes_363 : decode cX1_makes 363 = .ok (.lastore, 1) := zdec_at bX1_makes_351 5 rfl
theorem dX1_makes_364 : decode cX1_makes 364 = .ok (.aload_n 0, 1) := zdec_at bX1_makes_351 6 rfl
theorem dX1_makes_365 : decode cX1_makes 365 = .ok (.getfield 225, 3) := zdec_at bX1_makes_351 7 rfl
theorem dX1_makes_368 : decode cX1_makes 368 = .ok (.invokevirtual 796, 3) := zdec_at bX1_makes_351 8 rfl
theorem dX1_makes_371 : decode cX1_makes 371 = .ok (.iload 5, 2) := zdec_at bX1_makes_351 9 rfl
theorem dX1_makes_373 : decode cX1_makes 373 = .ok (.invokevirtual 800, 3) := zdec_at bX1_makes_351 10 rfl
theorem dX1_makes_376 : decode cX1_makes 376 = .ok (.pop, 1) := zdec_at bX1_makes_351 11 rfl
theorem dX1_makes_377 : decode cX1_makes 377 = .ok (.iconst 1, 1) := zdec_at bX1_makes_351 12 rfl
theorem dX1_makes_378 : decode cX1_makes 378 = .ok (.istore 6, 2) := zdec_at bX1_makes_351 13 rfl
theorem dX1_makes_380 : decode cX1_makes 380 = .ok (.iload 6, 2) := zdec_at bX1_makes_351 14 rfl
theorem dX1_makes_382 : decode cX1_makes 382 = .ok (.aload_n 0, 1) := zdec_at bX1_makes_351 15 rfl
theorem bX1_makes_383 : zdec cX1_makes 383 [(383, .getfield 82, 3), (386, .invokevirtual 291, 3), (389, .if_icmp .ge 28, 3), (392, .aload_n 0, 1), (393, .iload 6, 2), (395, .invokevirtual 1048, 3), (398, .ifCond .eq 13, 3), (401, .aload_n 0, 1), (402, .iload 6, 2), (404, .iconst 0, 1), (405, .iload_n 1, 1), (406, .iload 5, 2), (408, .invokevirtual 1051, 3), (411, .iinc 6 1, 3), (414, .goto (-34), 3), (417, .return_, 1)] = true := by decide +kernel
theorem dX1_makes_383 : decode cX1_makes 383 = .ok (.getfield 82, 3) := zdec_at bX1_makes_383 0 rfl
theorem dX1_makes_386 : decode cX1_makes 386 = .ok (.invokevirtual 291, 3) := zdec_at bX1_makes_383 1 rfl
theorem dX1_makes_389 : decode cX1_makes 389 = .ok (.if_icmp .ge 28, 3) := zdec_at bX1_makes_383 2 rfl
theorem dX1_makes_392 : decode cX1_makes 392 = .ok (.aload_n 0, 1) := zdec_at bX1_makes_383 3 rfl
theorem dX1_makes_393 : decode cX1_makes 393 = .ok (.iload 6, 2) := zdec_at bX1_makes_383 4 rfl
theorem dX1_makes_395 : decode cX1_makes 395 = .ok (.invokevirtual 1048, 3) := zdec_at bX1_makes_383 5 rfl
theorem dX1_makes_398 : decode cX1_makes 398 = .ok (.ifCond .eq 13, 3) := zdec_at bX1_makes_383 6 rfl
theorem dX1_makes_401 : decode cX1_makes 401 = .ok (.aload_n 0, 1) := zdec_at bX1_makes_383 7 rfl
theorem dX1_makes_402 : decode cX1_makes 402 = .ok (.iload 6, 2) := zdec_at bX1_makes_383 8 rfl
theorem dX1_makes_404 : decode cX1_makes 404 = .ok (.iconst 0, 1) := zdec_at bX1_makes_383 9 rfl
theorem dX1_makes_405 : decode cX1_makes 405 = .ok (.iload_n 1, 1) := zdec_at bX1_makes_383 10 rfl
theorem dX1_makes_406 : decode cX1_makes 406 = .ok (.iload 5, 2) := zdec_at bX1_makes_383 11 rfl
theorem dX1_makes_408 : decode cX1_makes 408 = .ok (.invokevirtual 1051, 3) := zdec_at bX1_makes_383 12 rfl
theorem dX1_makes_411 : decode cX1_makes 411 = .ok (.iinc 6 1, 3) := zdec_at bX1_makes_383 13 rfl
theorem dX1_makes_414 : decode cX1_makes 414 = .ok (.goto (-34), 3) := zdec_at bX1_makes_383 14 rfl
theorem dX1_makes_417 : decode cX1_makes 417 = .ok (.return_, 1) := zdec_at bX1_makes_383 15 rfl
theorem sX1_makes_0 {E : zE} {d : Nat} {Q : zO → zM → Prop} (M : zM) (l1 : Int32) (l2 : Int32) (hw : cw M) (k : Z E YX1_takesArguments d M (zargs 0 [vr (some (16, 0, 0)), vi l1]) 0 [] (zafter E YX1_makes (d + 1) [(0, vr (some (16, 0, 0))), (1, vi l1), (2, vi l2)] 2 3 [] Q)) : Z E YX1_makes (d + 1) M [(0, vr (some (16, 0, 0))), (1, vi l1), (2, vi l2)] 0 [] Q := by
  refine z_aload_n dX1_makes_0 rfl rfl ?_
  refine z_iload_n dX1_makes_1 rfl rfl ?_
  exact z_callV (as := [vi l1]) (st := []) dX1_makes_2 vsX1_1039_0 (Nat.le_refl _) (Nat.le_of_ble_eq_true rfl) (Nat.le_of_ble_eq_true rfl) rfl k
theorem sX1_makes_5 {E : zE} {d : Nat} {Q : zO → zM → Prop} (M : zM) (l1 : Int32) (l2 : Int32) (hw : cw M) (k : ∃ b1 : Nat, (gr M 16 60) = some (b1, 7, 0) ∧ (16 ≤ b1 ∧ (∃ b2 : Nat, (gr M 16 60) = some (b2, 7, 0) ∧ (Z E YX43_pop d (si M b1 13 ((gi M b1 13) - l1)) (zargs 0 [vr (some (b2, 7, 0)), vr (some (76, 4, 0))]) 0 [] (zafter E YX1_makes (d + 1) [(0, vr (some (16, 0, 0))), (1, vi l1), (2, vi l2)] 26 3 [] Q))))) : Z E YX1_makes (d + 1) M [(0, vr (some (16, 0, 0))), (1, vi l1), (2, vi l2)] 5 [] Q := by
  refine z_aload_n dX1_makes_5 rfl rfl ?_
  refine z_getr (r := (gr M 16 60)) dX1_makes_6 fsX1_684_0 rfl ?_
  refine z_dup dX1_makes_9 rfl ?_
  obtain ⟨b1, e1_, k⟩ := k
  refine Z.eqs (lv' := [(0, vr (some (16, 0, 0))), (1, vi l1), (2, vi l2)]) (st' := [vr (some (b1, 7, 0)), vr (some (b1, 7, 0))]) rfl (by rw [e1_] <;> rfl) ?_
  refine z_geti dX1_makes_10 fsX1_726_7 ?_
  refine z_iload_n dX1_makes_13 rfl rfl ?_
  refine z_isub dX1_makes_14 ?_
  obtain ⟨g_, k⟩ := k
  refine z_puti g_ dX1_makes_15 (zfwN.w fwX1_726_7) rfl ⟨rfl, rfl⟩ ?_
  refine z_aload_n dX1_makes_18 rfl rfl ?_
  refine z_getr (r := (gr M 16 60)) dX1_makes_19 fsX1_684_0 rfl ?_
  refine z_aload_n dX1_makes_22 rfl rfl ?_
  refine z_getr dX1_makes_23 fsX1_222_0 (show gr M 16 83 = some (76, 4, 0) from cw_at hw 44 rfl) ?_
  obtain ⟨b2, e2_, k⟩ := k
  refine Z.eqs (lv' := [(0, vr (some (16, 0, 0))), (1, vi l1), (2, vi l2)]) (st' := [vr (some (76, 4, 0)), vr (some (b2, 7, 0))]) rfl (by rw [e2_] <;> rfl) ?_
  exact z_callV (as := [vr (some (76, 4, 0))]) (st := []) dX1_makes_26 vsX1_937_7 (Nat.le_refl _) (Nat.le_of_ble_eq_true rfl) (Nat.le_of_ble_eq_true rfl) rfl k
theorem sX1_makes_29 {E : zE} {d : Nat} {Q : zO → zM → Prop} (M : zM) (l1 : Int32) (l2 : Int32) (u0 : Option zP) (hw : cw M) (k : ∃ b1 : Nat, (gr M 16 60) = some (b1, 7, 0) ∧ (Z E YX6_hasOnly d (si M 16 95 (gi M b1 13)) (zargs 0 [vr (some (76, 4, 0)), vl ((252928 : Int64) ||| (gl M 16 73)), vl (gl M 16 74)]) 0 [] (zafter E YX1_makes (d + 1) [(0, vr (some (16, 0, 0))), (1, vi l1), (2, vi l2), (3, vl (252928 : Int64))] 59 3 [] Q))) : Z E YX1_makes (d + 1) M [(0, vr (some (16, 0, 0))), (1, vi l1), (2, vi l2)] 29 [vr u0] Q := by
  refine z_pop dX1_makes_29 rfl ?_
  refine z_aload_n dX1_makes_30 rfl rfl ?_
  refine z_aload_n dX1_makes_31 rfl rfl ?_
  refine z_getr (r := (gr M 16 60)) dX1_makes_32 fsX1_684_0 rfl ?_
  obtain ⟨b1, e1_, k⟩ := k
  refine Z.eqs (lv' := [(0, vr (some (16, 0, 0))), (1, vi l1), (2, vi l2)]) (st' := [vr (some (b1, 7, 0)), vr (some (16, 0, 0))]) rfl (by rw [e1_] <;> rfl) ?_
  refine z_geti dX1_makes_35 fsX1_726_7 ?_
  refine z_puti (by decide) dX1_makes_38 (zfwN.w fwX1_1042_0) rfl ⟨rfl, rfl⟩ ?_
  refine z_ldc2 (v := 252928) dX1_makes_41 q3487 ?_
  refine z_lst_n dX1_makes_44 rfl (by decide) (lv' := [(0, vr (some (16, 0, 0))), (1, vi l1), (2, vi l2), (3, vl (252928 : Int64))]) rfl ?_
  refine z_aload_n dX1_makes_45 rfl rfl ?_
  refine z_getr dX1_makes_46 fsX1_222_0 (show gr M 16 83 = some (76, 4, 0) from cw_at hw 44 rfl) ?_
  refine z_lload_n dX1_makes_49 rfl rfl ?_
  refine z_aload_n dX1_makes_50 rfl rfl ?_
  refine z_getl dX1_makes_51 fsX1_658_0 ?_
  refine z_lor dX1_makes_54 ?_
  refine z_aload_n dX1_makes_55 rfl rfl ?_
  refine z_getl dX1_makes_56 fsX1_661_0 ?_
  exact z_callV (as := [vl ((252928 : Int64) ||| (gl M 16 73)), vl (gl M 16 74)]) (st := []) dX1_makes_59 vsX1_1028_4 (Nat.le_refl _) (Nat.le_of_ble_eq_true rfl) (Nat.le_of_ble_eq_true rfl) rfl k
theorem sX1_makes_62 {E : zE} {d : Nat} {Q : zO → zM → Prop} (M : zM) (l1 : Int32) (l2 : Int32) (l3 : Int64) (s0 : Int32) (hw : cw M) (k : if s0 = 0 then (Z E YX1_errs d M (zargs 0 [vr (some (16, 0, 0)), vr (gr M 16 60), vi (0 : Int32)]) 0 [] (zafter E YX1_makes (d + 1) [(0, vr (some (16, 0, 0))), (1, vi l1), (2, vi l2), (3, vl l3)] 71 3 [] Q)) else (Z E YX1_makes (d + 1) M [(0, vr (some (16, 0, 0))), (1, vi l1), (2, vi l2), (3, vl l3)] 74 [] Q)) : Z E YX1_makes (d + 1) M [(0, vr (some (16, 0, 0))), (1, vi l1), (2, vi l2), (3, vl l3)] 62 [vi s0] Q := by
  refine z_if_ne (tgt := 74) dX1_makes_62 rfl (fun h_ => ?_) (fun h_ => ?_)
  · have k := zif h_ k
    exact k
  · have k := zit h_ k
    refine z_aload_n dX1_makes_65 rfl rfl ?_
    refine z_aload_n dX1_makes_66 rfl rfl ?_
    refine z_getr (r := (gr M 16 60)) dX1_makes_67 fsX1_684_0 rfl ?_
    refine z_iconst (v := 0) dX1_makes_70 rfl ?_
    exact z_callV (as := [vr (gr M 16 60), vi (0 : Int32)]) (st := []) dX1_makes_71 vsX1_960_0 (Nat.le_refl _) (Nat.le_of_ble_eq_true rfl) (Nat.le_of_ble_eq_true rfl) rfl k
theorem sX1_makes_74 {E : zE} {d : Nat} {Q : zO → zM → Prop} (M : zM) (l1 : Int32) (l2 : Int32) (l3 : Int64) (hw : cw M) (k : Z E YX6_of d M (zargs 0 [vr (some (77, 4, 0)), vl (1 : Int64)]) 0 [] (zafter E YX1_makes (d + 1) [(0, vr (some (16, 0, 0))), (1, vi l1), (2, vi l2), (3, vl l3)] 79 3 [] Q)) : Z E YX1_makes (d + 1) M [(0, vr (some (16, 0, 0))), (1, vi l1), (2, vi l2), (3, vl l3)] 74 [] Q := by
  refine z_aload_n dX1_makes_74 rfl rfl ?_
  refine z_getr dX1_makes_75 fsX1_225_0 (show gr M 16 84 = some (77, 4, 0) from cw_at hw 45 rfl) ?_
  refine z_lconst (v := 1) dX1_makes_78 rfl ?_
  exact z_callV (as := [vl (1 : Int64)]) (st := []) dX1_makes_79 vsX1_892_4 (Nat.le_refl _) (Nat.le_of_ble_eq_true rfl) (Nat.le_of_ble_eq_true rfl) rfl k
theorem sX1_makes_82 {E : zE} {d : Nat} {Q : zO → zM → Prop} (M : zM) (l1 : Int32) (l2 : Int32) (l3 : Int64) (u0 : Option zP) (hw : cw M) (k : Z E YX1_makes (d + 1) M [(0, vr (some (16, 0, 0))), (1, vi l1), (2, vi l2), (3, vl l3), (5, vi (10 : Int32))] 87 [] Q) : Z E YX1_makes (d + 1) M [(0, vr (some (16, 0, 0))), (1, vi l1), (2, vi l2), (3, vl l3)] 82 [vr u0] Q := by
  refine z_pop dX1_makes_82 rfl ?_
  refine z_bipush (v := 10) dX1_makes_83 rfl ?_
  refine z_ist dX1_makes_85 (by decide) (lv' := [(0, vr (some (16, 0, 0))), (1, vi l1), (2, vi l2), (3, vl l3), (5, vi (10 : Int32))]) rfl ?_
  exact k
theorem sX1_makes_87 {E : zE} {d : Nat} {Q : zO → zM → Prop} (M : zM) (l1 : Int32) (l2 : Int32) (l3 : Int64) (l5 : Int32) (hw : cw M) (k : if (18 : Int32) ≤ l5 then (Z E YX6_meets d M (zargs 0 [vr (some (76, 4, 0)), vl (gl M 16 73), vl (gl M 16 74)]) 0 [] (zafter E YX1_makes (d + 1) [(0, vr (some (16, 0, 0))), (1, vi l1), (2, vi l2)] 153 3 [] Q)) else (if (lg_cmp ((zlr l3 l5) &&& (1 : Int64)) (0 : Int64)) = 0 then (Z E YX1_makes (d + 1) M [(0, vr (some (16, 0, 0))), (1, vi l1), (2, vi l2), (3, vl l3), (5, vi l5)] 135 [] Q) else (Z E YX1_in d M (zargs 0 [vi l5, vl (gl M 76 0), vl (gl M 76 1)]) 0 [] (zafter E YX1_makes (d + 1) [(0, vr (some (16, 0, 0))), (1, vi l1), (2, vi l2), (3, vl l3), (5, vi l5)] 121 3 [] Q)))) : Z E YX1_makes (d + 1) M [(0, vr (some (16, 0, 0))), (1, vi l1), (2, vi l2), (3, vl l3), (5, vi l5)] 87 [] Q := by
  refine z_iload dX1_makes_87 rfl ?_
  refine z_bipush (v := 18) dX1_makes_89 rfl ?_
  refine z_icmp_ge (tgt := 141) dX1_makes_91 rfl (fun h_ => ?_) (fun h_ => ?_)
  · have k := zit h_ k
    refine z_aload_n dX1_makes_141 rfl rfl ?_
    refine z_getr dX1_makes_142 fsX1_222_0 (show gr M 16 83 = some (76, 4, 0) from cw_at hw 44 rfl) ?_
    refine z_aload_n dX1_makes_145 rfl rfl ?_
    refine z_getl dX1_makes_146 fsX1_658_0 ?_
    refine z_aload_n dX1_makes_149 rfl rfl ?_
    refine z_getl dX1_makes_150 fsX1_661_0 ?_
    refine Z.pick [0, 1, 2] rfl ?_
    exact z_callV (as := [vl (gl M 16 73), vl (gl M 16 74)]) (st := []) dX1_makes_153 vsX1_1000_4 (Nat.le_refl _) (Nat.le_of_ble_eq_true rfl) (Nat.le_of_ble_eq_true rfl) rfl k
  · have k := zif h_ k
    refine z_lload_n dX1_makes_94 rfl rfl ?_
    refine z_iload dX1_makes_95 rfl ?_
    refine z_lshr dX1_makes_97 ?_
    refine z_lconst (v := 1) dX1_makes_98 rfl ?_
    refine z_land dX1_makes_99 ?_
    refine z_lconst (v := 0) dX1_makes_100 rfl ?_
    refine z_lcmp dX1_makes_101 ?_
    refine z_if_eq (tgt := 135) dX1_makes_102 rfl (fun h_ => ?_) (fun h_ => ?_)
    · have k := zit h_ k
      exact k
    · have k := zif h_ k
      refine z_iload dX1_makes_105 rfl ?_
      refine z_aload_n dX1_makes_107 rfl rfl ?_
      refine z_getr dX1_makes_108 fsX1_222_0 (show gr M 16 83 = some (76, 4, 0) from cw_at hw 44 rfl) ?_
      refine z_getl dX1_makes_111 fsX1_916_4 ?_
      refine z_aload_n dX1_makes_114 rfl rfl ?_
      refine z_getr dX1_makes_115 fsX1_222_0 (show gr M 16 83 = some (76, 4, 0) from cw_at hw 44 rfl) ?_
      refine z_getl dX1_makes_118 fsX1_918_4 ?_
      exact z_callS (as := [vi l5, vl (gl M 76 0), vl (gl M 76 1)]) (st := []) dX1_makes_121 ssX1_827 (Nat.le_refl _) (Nat.le_of_ble_eq_true rfl) (Nat.le_of_ble_eq_true rfl) rfl k
theorem sX1_makes_124 {E : zE} {d : Nat} {Q : zO → zM → Prop} (M : zM) (l1 : Int32) (l2 : Int32) (l3 : Int64) (l5 : Int32) (s0 : Int32) (hw : cw M) (k : if s0 = 0 then (Z E YX1_makes (d + 1) M [(0, vr (some (16, 0, 0))), (1, vi l1), (2, vi l2), (3, vl l3), (5, vi l5)] 135 [] Q) else (Z E YX1_alone d M (zargs 0 [vr (some (16, 0, 0)), vi l5, vi (0 : Int32), vi l1]) 0 [] (zafter E YX1_makes (d + 1) [(0, vr (some (16, 0, 0))), (1, vi l1), (2, vi l2), (3, vl l3), (5, vi l5)] 132 3 [] Q))) : Z E YX1_makes (d + 1) M [(0, vr (some (16, 0, 0))), (1, vi l1), (2, vi l2), (3, vl l3), (5, vi l5)] 124 [vi s0] Q := by
  refine z_if_eq (tgt := 135) dX1_makes_124 rfl (fun h_ => ?_) (fun h_ => ?_)
  · have k := zit h_ k
    exact k
  · have k := zif h_ k
    refine z_aload_n dX1_makes_127 rfl rfl ?_
    refine z_iload dX1_makes_128 rfl ?_
    refine z_iconst (v := 0) dX1_makes_130 rfl ?_
    refine z_iload_n dX1_makes_131 rfl rfl ?_
    exact z_callV (as := [vi l5, vi (0 : Int32), vi l1]) (st := []) dX1_makes_132 vsX1_1045_0 (Nat.le_refl _) (Nat.le_of_ble_eq_true rfl) (Nat.le_of_ble_eq_true rfl) rfl k
theorem sX1_makes_135 {E : zE} {d : Nat} {Q : zO → zM → Prop} (M : zM) (l1 : Int32) (l2 : Int32) (l3 : Int64) (l5 : Int32) (hw : cw M) (k : Z E YX1_makes (d + 1) M [(0, vr (some (16, 0, 0))), (1, vi l1), (2, vi l2), (3, vl l3), (5, vi (l5 + (1 : Int32)))] 87 [] Q) : Z E YX1_makes (d + 1) M [(0, vr (some (16, 0, 0))), (1, vi l1), (2, vi l2), (3, vl l3), (5, vi l5)] 135 [] Q := by
  refine z_inc (v := (l5 + (1 : Int32))) dX1_makes_135 rfl rfl (by decide) (lv' := [(0, vr (some (16, 0, 0))), (1, vi l1), (2, vi l2), (3, vl l3), (5, vi (l5 + (1 : Int32)))]) rfl ?_
  refine z_goto (tgt := 87) dX1_makes_138 rfl ?_
  exact k
theorem sX1_makes_156 {E : zE} {d : Nat} {Q : zO → zM → Prop} (M : zM) (l1 : Int32) (l2 : Int32) (s0 : Int32) (hw : cw M) (k : if s0 = 0 then (Q (.inl none) M) else (Z E YX1_sitePair d M (zargs 0 [vr (some (16, 0, 0)), vi l2]) 0 [] (zafter E YX1_makes (d + 1) [(0, vr (some (16, 0, 0))), (1, vi l1)] 162 3 [] Q))) : Z E YX1_makes (d + 1) M [(0, vr (some (16, 0, 0))), (1, vi l1), (2, vi l2)] 156 [vi s0] Q := by
  refine z_if_ne (tgt := 160) dX1_makes_156 rfl (fun h_ => ?_) (fun h_ => ?_)
  · have k := zif h_ k
    refine z_aload_n dX1_makes_160 rfl rfl ?_
    refine z_iload_n dX1_makes_161 rfl rfl ?_
    refine Z.pick [0, 1] rfl ?_
    exact z_callV (as := [vi l2]) (st := []) dX1_makes_162 vsX1_486_0 (Nat.le_refl _) (Nat.le_of_ble_eq_true rfl) (Nat.le_of_ble_eq_true rfl) rfl k
  · have k := zit h_ k
    exact z_vret dX1_makes_159 rfl k
theorem sX1_makes_165 {E : zE} {d : Nat} {Q : zO → zM → Prop} (M : zM) (l1 : Int32) (s0 : Int32) (hw : cw M) (k : ∃ b1 : Nat, (gr M 16 60) = some (b1, 7, 0) ∧ (Z E YX43_push d M (zargs 0 [vr (some (b1, 7, 0)), vr (some (76, 4, 0))]) 0 [] (zafter E YX1_makes (d + 1) [(0, vr (some (16, 0, 0))), (1, vi l1), (5, vi s0)] 175 3 [] Q))) : Z E YX1_makes (d + 1) M [(0, vr (some (16, 0, 0))), (1, vi l1)] 165 [vi s0] Q := by
  refine z_ist dX1_makes_165 (by decide) (lv' := [(0, vr (some (16, 0, 0))), (1, vi l1), (5, vi s0)]) rfl ?_
  refine z_aload_n dX1_makes_167 rfl rfl ?_
  refine z_getr (r := (gr M 16 60)) dX1_makes_168 fsX1_684_0 rfl ?_
  refine z_aload_n dX1_makes_171 rfl rfl ?_
  refine z_getr dX1_makes_172 fsX1_222_0 (show gr M 16 83 = some (76, 4, 0) from cw_at hw 44 rfl) ?_
  obtain ⟨b1, e1_, k⟩ := k
  refine Z.eqs (lv' := [(0, vr (some (16, 0, 0))), (1, vi l1), (5, vi s0)]) (st' := [vr (some (76, 4, 0)), vr (some (b1, 7, 0))]) rfl (by rw [e1_] <;> rfl) ?_
  exact z_callV (as := [vr (some (76, 4, 0))]) (st := []) dX1_makes_175 vsX1_767_7 (Nat.le_refl _) (Nat.le_of_ble_eq_true rfl) (Nat.le_of_ble_eq_true rfl) rfl k
theorem sX1_makes_178 {E : zE} {d : Nat} {Q : zO → zM → Prop} (M : zM) (l1 : Int32) (l5 : Int32) (hw : cw M) (k : Z E YX1_makes (d + 1) M [(0, vr (some (16, 0, 0))), (1, vi l1), (5, vi l5), (6, vi (0 : Int32))] 181 [] Q) : Z E YX1_makes (d + 1) M [(0, vr (some (16, 0, 0))), (1, vi l1), (5, vi l5)] 178 [] Q := by
  refine z_iconst (v := 0) dX1_makes_178 rfl ?_
  refine z_ist dX1_makes_179 (by decide) (lv' := [(0, vr (some (16, 0, 0))), (1, vi l1), (5, vi l5), (6, vi (0 : Int32))]) rfl ?_
  exact k
theorem sX1_makes_181 {E : zE} {d : Nat} {Q : zO → zM → Prop} (M : zM) (l1 : Int32) (l5 : Int32) (l6 : Int32) (hw : cw M) (k : if l1 ≤ l6 then (∃ b1 : Nat, (gr M 16 60) = some (b1, 7, 0) ∧ (Z E YX43_make d M (zargs 0 [vr (some (b1, 7, 0)), vi l5, vi (1 : Int32)]) 0 [] (zafter E YX1_makes (d + 1) [(0, vr (some (16, 0, 0))), (1, vi l1), (5, vi l5)] 214 3 [] Q))) else (vp_in l6 9 ∧ (∃ b1 : Nat, (gr M 16 60) = some (b1, 7, 0) ∧ (Z E YX43_push d M (zargs 0 [vr (some (b1, 7, 0)), vr (gr M 78 (l6).toNatClampNeg)]) 0 [] (zafter E YX1_makes (d + 1) [(0, vr (some (16, 0, 0))), (1, vi l1), (5, vi l5), (6, vi l6)] 198 3 [] Q))))) : Z E YX1_makes (d + 1) M [(0, vr (some (16, 0, 0))), (1, vi l1), (5, vi l5), (6, vi l6)] 181 [] Q := by
  refine z_iload dX1_makes_181 rfl ?_
  refine z_iload_n dX1_makes_183 rfl rfl ?_
  refine z_icmp_ge (tgt := 207) dX1_makes_184 rfl (fun h_ => ?_) (fun h_ => ?_)
  · have k := zit h_ k
    refine z_aload_n dX1_makes_207 rfl rfl ?_
    refine z_getr (r := (gr M 16 60)) dX1_makes_208 fsX1_684_0 rfl ?_
    refine z_iload dX1_makes_211 rfl ?_
    refine z_iconst (v := 1) dX1_makes_213 rfl ?_
    obtain ⟨b1, e1_, k⟩ := k
    refine Z.eqs (lv' := [(0, vr (some (16, 0, 0))), (1, vi l1), (5, vi l5), (6, vi l6)]) (st' := [vi (1 : Int32), vi l5, vr (some (b1, 7, 0))]) rfl (by rw [e1_] <;> rfl) ?_
    refine Z.pick [0, 1, 2] rfl ?_
    exact z_callV (as := [vi l5, vi (1 : Int32)]) (st := []) dX1_makes_214 vsX1_922_7 (Nat.le_refl _) (Nat.le_of_ble_eq_true rfl) (Nat.le_of_ble_eq_true rfl) rfl k
  · have k := zif h_ k
    refine z_aload_n dX1_makes_187 rfl rfl ?_
    refine z_getr (r := (gr M 16 60)) dX1_makes_188 fsX1_684_0 rfl ?_
    refine z_aload_n dX1_makes_191 rfl rfl ?_
    refine z_getr dX1_makes_192 fsX1_228_0 (show gr M 16 85 = some (78, 107, 9) from cw_at hw 46 rfl) ?_
    refine z_iload dX1_makes_195 rfl ?_
    obtain ⟨b_, k⟩ := k
    refine z_aald (r := (gr M 78 (l6).toNatClampNeg)) (q := 7) (Or.inr rfl) dX1_makes_197 b_ rfl ?_
    obtain ⟨b1, e1_, k⟩ := k
    refine Z.eqs (lv' := [(0, vr (some (16, 0, 0))), (1, vi l1), (5, vi l5), (6, vi l6)]) (st' := [vr (gr M 78 (l6).toNatClampNeg), vr (some (b1, 7, 0))]) rfl (by rw [e1_] <;> rfl) ?_
    exact z_callV (as := [vr (gr M 78 (l6).toNatClampNeg)]) (st := []) dX1_makes_198 vsX1_767_7 (Nat.le_refl _) (Nat.le_of_ble_eq_true rfl) (Nat.le_of_ble_eq_true rfl) rfl k
theorem sX1_makes_201 {E : zE} {d : Nat} {Q : zO → zM → Prop} (M : zM) (l1 : Int32) (l5 : Int32) (l6 : Int32) (hw : cw M) (k : Z E YX1_makes (d + 1) M [(0, vr (some (16, 0, 0))), (1, vi l1), (5, vi l5), (6, vi (l6 + (1 : Int32)))] 181 [] Q) : Z E YX1_makes (d + 1) M [(0, vr (some (16, 0, 0))), (1, vi l1), (5, vi l5), (6, vi l6)] 201 [] Q := by
  refine z_inc (v := (l6 + (1 : Int32))) dX1_makes_201 rfl rfl (by decide) (lv' := [(0, vr (some (16, 0, 0))), (1, vi l1), (5, vi l5), (6, vi (l6 + (1 : Int32)))]) rfl ?_
  refine z_goto (tgt := 181) dX1_makes_204 rfl ?_
  exact k
theorem sX1_makes_217 {E : zE} {d : Nat} {Q : zO → zM → Prop} (M : zM) (l1 : Int32) (l5 : Int32) (hw : cw M) (k : Z E YX1_takesArguments d M (zargs 0 [vr (some (16, 0, 0)), vi l1]) 0 [] (zafter E YX1_makes (d + 1) [(0, vr (some (16, 0, 0))), (1, vi l1), (5, vi l5)] 219 3 [] Q)) : Z E YX1_makes (d + 1) M [(0, vr (some (16, 0, 0))), (1, vi l1), (5, vi l5)] 217 [] Q := by
  refine z_aload_n dX1_makes_217 rfl rfl ?_
  refine z_iload_n dX1_makes_218 rfl rfl ?_
  exact z_callV (as := [vi l1]) (st := []) dX1_makes_219 vsX1_1039_0 (Nat.le_refl _) (Nat.le_of_ble_eq_true rfl) (Nat.le_of_ble_eq_true rfl) rfl k
theorem sX1_makes_222 {E : zE} {d : Nat} {Q : zO → zM → Prop} (M : zM) (l1 : Int32) (l5 : Int32) (hw : cw M) (k : ∃ b1 : Nat, (gr M 16 60) = some (b1, 7, 0) ∧ (16 ≤ b1 ∧ (∃ b2 : Nat, (gr M 16 60) = some (b2, 7, 0) ∧ (Z E YX43_pop d (si M b1 13 ((gi M b1 13) - l1)) (zargs 0 [vr (some (b2, 7, 0)), vr (some (76, 4, 0))]) 0 [] (zafter E YX1_makes (d + 1) [(0, vr (some (16, 0, 0))), (1, vi l1), (5, vi l5)] 243 3 [] Q))))) : Z E YX1_makes (d + 1) M [(0, vr (some (16, 0, 0))), (1, vi l1), (5, vi l5)] 222 [] Q := by
  refine z_aload_n dX1_makes_222 rfl rfl ?_
  refine z_getr (r := (gr M 16 60)) dX1_makes_223 fsX1_684_0 rfl ?_
  refine z_dup dX1_makes_226 rfl ?_
  obtain ⟨b1, e1_, k⟩ := k
  refine Z.eqs (lv' := [(0, vr (some (16, 0, 0))), (1, vi l1), (5, vi l5)]) (st' := [vr (some (b1, 7, 0)), vr (some (b1, 7, 0))]) rfl (by rw [e1_] <;> rfl) ?_
  refine z_geti dX1_makes_227 fsX1_726_7 ?_
  refine z_iload_n dX1_makes_230 rfl rfl ?_
  refine z_isub dX1_makes_231 ?_
  obtain ⟨g_, k⟩ := k
  refine z_puti g_ dX1_makes_232 (zfwN.w fwX1_726_7) rfl ⟨rfl, rfl⟩ ?_
  refine z_aload_n dX1_makes_235 rfl rfl ?_
  refine z_getr (r := (gr M 16 60)) dX1_makes_236 fsX1_684_0 rfl ?_
  refine z_aload_n dX1_makes_239 rfl rfl ?_
  refine z_getr dX1_makes_240 fsX1_222_0 (show gr M 16 83 = some (76, 4, 0) from cw_at hw 44 rfl) ?_
  obtain ⟨b2, e2_, k⟩ := k
  refine Z.eqs (lv' := [(0, vr (some (16, 0, 0))), (1, vi l1), (5, vi l5)]) (st' := [vr (some (76, 4, 0)), vr (some (b2, 7, 0))]) rfl (by rw [e2_] <;> rfl) ?_
  exact z_callV (as := [vr (some (76, 4, 0))]) (st := []) dX1_makes_243 vsX1_937_7 (Nat.le_refl _) (Nat.le_of_ble_eq_true rfl) (Nat.le_of_ble_eq_true rfl) rfl k
theorem sX1_makes_246 {E : zE} {d : Nat} {Q : zO → zM → Prop} (M : zM) (l1 : Int32) (l5 : Int32) (u0 : Option zP) (hw : cw M) (k : Z E YX6_empty d (si (sl (sl M 16 88 (2 : Int64)) 16 89 (0 : Int64)) 16 90 (0 : Int32)) (zargs 0 [vr (some (75, 4, 0))]) 0 [] (zafter E YX1_makes (d + 1) [(0, vr (some (16, 0, 0))), (1, vi l1), (5, vi l5)] 293 3 [vl ((gl M 76 1) &&& (gl M 16 74)), vl ((gl M 76 0) &&& (gl M 16 73)), vr (some (16, 0, 0))] Q)) : Z E YX1_makes (d + 1) M [(0, vr (some (16, 0, 0))), (1, vi l1), (5, vi l5)] 246 [vr u0] Q := by
  refine z_pop dX1_makes_246 rfl ?_
  refine z_aload_n dX1_makes_247 rfl rfl ?_
  refine z_ldc2 (v := 2) dX1_makes_248 q3402 ?_
  refine z_putl (by decide) dX1_makes_251 (zfwN.w fwX1_818_0) ?_
  refine z_aload_n dX1_makes_254 rfl rfl ?_
  refine z_lconst (v := 0) dX1_makes_255 rfl ?_
  refine z_putl (by decide) dX1_makes_256 (zfwN.w fwX1_821_0) ?_
  refine z_aload_n dX1_makes_259 rfl rfl ?_
  refine z_iconst (v := 0) dX1_makes_260 rfl ?_
  refine z_puti (by decide) dX1_makes_261 (zfwN.w fwX1_824_0) rfl ⟨by decide, by decide⟩ ?_
  refine z_aload_n dX1_makes_264 rfl rfl ?_
  refine z_aload_n dX1_makes_265 rfl rfl ?_
  refine z_getr dX1_makes_266 fsX1_222_0 (show gr M 16 83 = some (76, 4, 0) from cw_at hw 44 rfl) ?_
  refine z_getl dX1_makes_269 fsX1_916_4 ?_
  refine z_aload_n dX1_makes_272 rfl rfl ?_
  refine z_getl dX1_makes_273 fsX1_658_0 ?_
  refine z_land dX1_makes_276 ?_
  refine z_aload_n dX1_makes_277 rfl rfl ?_
  refine z_getr dX1_makes_278 fsX1_222_0 (show gr M 16 83 = some (76, 4, 0) from cw_at hw 44 rfl) ?_
  refine z_getl dX1_makes_281 fsX1_918_4 ?_
  refine z_aload_n dX1_makes_284 rfl rfl ?_
  refine z_getl dX1_makes_285 fsX1_661_0 ?_
  refine z_land dX1_makes_288 ?_
  refine z_aload_n dX1_makes_289 rfl rfl ?_
  refine z_getr dX1_makes_290 fsX1_219_0 (show gr M 16 82 = some (75, 4, 0) from cw_at hw 43 rfl) ?_
  exact z_callV (as := []) (st := [vl ((gl M 76 1) &&& (gl M 16 74)), vl ((gl M 76 0) &&& (gl M 16 73)), vr (some (16, 0, 0))]) dX1_makes_293 vsX1_796_4 (Nat.le_refl _) (Nat.le_of_ble_eq_true rfl) (Nat.le_of_ble_eq_true rfl) rfl k
theorem sX1_makes_296 {E : zE} {d : Nat} {Q : zO → zM → Prop} (M : zM) (l1 : Int32) (l5 : Int32) (u0 : Option zP) (s1 : Int64) (s2 : Int64) (hw : cw M) (k : Z E YX1_readAll d M (zargs 0 [vr (some (16, 0, 0)), vl s2, vl s1, vr u0]) 0 [] (zafter E YX1_makes (d + 1) [(0, vr (some (16, 0, 0))), (1, vi l1), (5, vi l5)] 296 3 [] Q)) : Z E YX1_makes (d + 1) M [(0, vr (some (16, 0, 0))), (1, vi l1), (5, vi l5)] 296 [vr u0, vl s1, vl s2, vr (some (16, 0, 0))] Q := by
  exact z_callV (as := [vl s2, vl s1, vr u0]) (st := []) dX1_makes_296 vsX1_1024_0 (Nat.le_refl _) (Nat.le_of_ble_eq_true rfl) (Nat.le_of_ble_eq_true rfl) rfl k
theorem sX1_makes_299 {E : zE} {d : Nat} {Q : zO → zM → Prop} (M : zM) (l1 : Int32) (l5 : Int32) (hw : cw M) (k : ∃ b1 : Nat, (gr M 16 60) = some (b1, 7, 0) ∧ (if (gi M 16 91) = 0 then (if (lg_cmp ((gl M 75 2) &&& (511 : Int64)) (0 : Int64)) = 0 then (Z E YX1_makes (d + 1) M [(0, vr (some (16, 0, 0))), (1, vi l1), (5, vi l5)] 345 [vl (0 : Int64), vl (gl M 75 0), vi l5, vr (gr M b1 4)] Q) else (Z E YX1_makes (d + 1) M [(0, vr (some (16, 0, 0))), (1, vi l1), (5, vi l5)] 345 [vl (2 : Int64), vl (gl M 75 0), vi l5, vr (gr M b1 4)] Q)) else (Z E YX1_makes (d + 1) M [(0, vr (some (16, 0, 0))), (1, vi l1), (5, vi l5)] 345 [vl (2 : Int64), vl (gl M 75 0), vi l5, vr (gr M b1 4)] Q))) : Z E YX1_makes (d + 1) M [(0, vr (some (16, 0, 0))), (1, vi l1), (5, vi l5)] 299 [] Q := by
  refine z_aload_n dX1_makes_299 rfl rfl ?_
  refine z_getr (r := (gr M 16 60)) dX1_makes_300 fsX1_684_0 rfl ?_
  obtain ⟨b1, e1_, k⟩ := k
  refine Z.eqs (lv' := [(0, vr (some (16, 0, 0))), (1, vi l1), (5, vi l5)]) (st' := [vr (some (b1, 7, 0))]) rfl (by rw [e1_] <;> rfl) ?_
  refine z_getr (r := (gr M b1 4)) dX1_makes_303 fsX1_734_7 rfl ?_
  refine z_iload dX1_makes_306 rfl ?_
  refine z_aload_n dX1_makes_308 rfl rfl ?_
  refine z_getr dX1_makes_309 fsX1_219_0 (show gr M 16 82 = some (75, 4, 0) from cw_at hw 43 rfl) ?_
  refine z_getl dX1_makes_312 fsX1_916_4 ?_
  refine z_aload_n dX1_makes_315 rfl rfl ?_
  refine z_geti dX1_makes_316 fsX1_850_0 ?_
  refine z_if_ne (tgt := 338) dX1_makes_319 rfl (fun h_ => ?_) (fun h_ => ?_)
  · have k := zif h_ k
    refine z_ldc2 (v := 2) dX1_makes_338 q3402 ?_
    refine z_goto (tgt := 345) dX1_makes_341 rfl ?_
    exact k
  · have k := zit h_ k
    refine z_aload_n dX1_makes_322 rfl rfl ?_
    refine z_getr dX1_makes_323 fsX1_219_0 (show gr M 16 82 = some (75, 4, 0) from cw_at hw 43 rfl) ?_
    refine z_getl dX1_makes_326 fsX1_920_4 ?_
    refine z_ldc2 (v := 511) dX1_makes_329 q3350 ?_
    refine z_land dX1_makes_332 ?_
    refine z_lconst (v := 0) dX1_makes_333 rfl ?_
    refine z_lcmp dX1_makes_334 ?_
    refine z_if_eq (tgt := 344) dX1_makes_335 rfl (fun h_ => ?_) (fun h_ => ?_)
    · have k := zit h_ k
      refine z_lconst (v := 0) dX1_makes_344 rfl ?_
      exact k
    · have k := zif h_ k
      refine z_ldc2 (v := 2) dX1_makes_338 q3402 ?_
      refine z_goto (tgt := 345) dX1_makes_341 rfl ?_
      exact k
theorem sX1_makes_345 {E : zE} {d : Nat} {Q : zO → zM → Prop} (M : zM) (l1 : Int32) (l5 : Int32) (s0 : Int64) (s1 : Int64) (s2 : Int32) (u3 : Option zP) (hw : cw M) (k : ∃ b1 m1 : Nat, u3 = some (b1, 105, m1) ∧ (16 ≤ b1 ∧ (vp_in s2 m1 ∧ (∃ b2 : Nat, (gr M 16 60) = some (b2, 7, 0) ∧ (∃ b3 m3 : Nat, (gr M b2 5) = some (b3, 105, m3) ∧ (16 ≤ b3 ∧ (vp_in l5 m3 ∧ (Z E YX6_empty d (sl (sl M b1 (s2).toNatClampNeg (s1 ||| s0)) b3 (l5).toNatClampNeg (gl (sl M b1 (s2).toNatClampNeg (s1 ||| s0)) 75 1)) (zargs 0 [vr (some (77, 4, 0))]) 0 [] (zafter E YX1_makes (d + 1) [(0, vr (some (16, 0, 0))), (1, vi l1), (5, vi l5)] 368 3 [] Q))))))))) : Z E YX1_makes (d + 1) M [(0, vr (some (16, 0, 0))), (1, vi l1), (5, vi l5)] 345 [vl s0, vl s1, vi s2, vr u3] Q := by
  refine z_lor dX1_makes_345 ?_
  obtain ⟨b1, m1, e1_, k⟩ := k
  refine Z.eqs (lv' := [(0, vr (some (16, 0, 0))), (1, vi l1), (5, vi l5)]) (st' := [vl (s1 ||| s0), vi s2, vr (some (b1, 105, m1))]) rfl (by rw [e1_] <;> rfl) ?_
  obtain ⟨g_, k⟩ := k
  obtain ⟨b_, k⟩ := k
  refine z_last g_ dX1_makes_346 b_ ?_
  refine z_aload_n dX1_makes_347 rfl rfl ?_
  refine z_getr (r := (gr M 16 60)) dX1_makes_348 fsX1_684_0 rfl ?_
  obtain ⟨b2, e2_, k⟩ := k
  refine Z.eqs (lv' := [(0, vr (some (16, 0, 0))), (1, vi l1), (5, vi l5)]) (st' := [vr (some (b2, 7, 0))]) rfl (by rw [e2_] <;> rfl) ?_
  refine z_getr (r := (gr M b2 5)) dX1_makes_351 fsX1_880_7 rfl ?_
  refine z_iload dX1_makes_354 rfl ?_
  refine z_aload_n dX1_makes_356 rfl rfl ?_
  refine z_getr dX1_makes_357 fsX1_219_0 (show gr M 16 82 = some (75, 4, 0) from cw_at hw 43 rfl) ?_
  refine z_getl dX1_makes_360 fsX1_918_4 ?_
  obtain ⟨b3, m3, e3_, k⟩ := k
  refine Z.eqs (lv' := [(0, vr (some (16, 0, 0))), (1, vi l1), (5, vi l5)]) (st' := [vl (gl (sl M b1 (s2).toNatClampNeg (s1 ||| s0)) 75 1), vi l5, vr (some (b3, 105, m3))]) rfl (by rw [e3_] <;> rfl) ?_
  obtain ⟨g_, k⟩ := k
  obtain ⟨b_, k⟩ := k
  refine z_last g_ dX1_makes_363 b_ ?_
  refine z_aload_n dX1_makes_364 rfl rfl ?_
  refine z_getr dX1_makes_365 fsX1_225_0 (show gr M 16 84 = some (77, 4, 0) from cw_at hw 45 rfl) ?_
  exact z_callV (as := []) (st := []) dX1_makes_368 vsX1_796_4 (Nat.le_refl _) (Nat.le_of_ble_eq_true rfl) (Nat.le_of_ble_eq_true rfl) rfl k
theorem sX1_makes_371 {E : zE} {d : Nat} {Q : zO → zM → Prop} (M : zM) (l1 : Int32) (l5 : Int32) (u0 : Option zP) (hw : cw M) (k : ∃ b1 : Nat, u0 = some (b1, 4, 0) ∧ (Z E YX6_add d M (zargs 0 [vr (some (b1, 4, 0)), vi l5]) 0 [] (zafter E YX1_makes (d + 1) [(0, vr (some (16, 0, 0))), (1, vi l1), (5, vi l5)] 373 3 [] Q))) : Z E YX1_makes (d + 1) M [(0, vr (some (16, 0, 0))), (1, vi l1), (5, vi l5)] 371 [vr u0] Q := by
  refine z_iload dX1_makes_371 rfl ?_
  obtain ⟨b1, e1_, k⟩ := k
  refine Z.eqs (lv' := [(0, vr (some (16, 0, 0))), (1, vi l1), (5, vi l5)]) (st' := [vi l5, vr (some (b1, 4, 0))]) rfl (by rw [e1_] <;> rfl) ?_
  exact z_callV (as := [vi l5]) (st := []) dX1_makes_373 vsX1_800_4 (Nat.le_refl _) (Nat.le_of_ble_eq_true rfl) (Nat.le_of_ble_eq_true rfl) rfl k
theorem sX1_makes_376 {E : zE} {d : Nat} {Q : zO → zM → Prop} (M : zM) (l1 : Int32) (l5 : Int32) (u0 : Option zP) (hw : cw M) (k : Z E YX1_makes (d + 1) M [(0, vr (some (16, 0, 0))), (1, vi l1), (5, vi l5), (6, vi (1 : Int32))] 380 [] Q) : Z E YX1_makes (d + 1) M [(0, vr (some (16, 0, 0))), (1, vi l1), (5, vi l5)] 376 [vr u0] Q := by
  refine z_pop dX1_makes_376 rfl ?_
  refine z_iconst (v := 1) dX1_makes_377 rfl ?_
  refine z_ist dX1_makes_378 (by decide) (lv' := [(0, vr (some (16, 0, 0))), (1, vi l1), (5, vi l5), (6, vi (1 : Int32))]) rfl ?_
  exact k
theorem sX1_makes_380 {E : zE} {d : Nat} {Q : zO → zM → Prop} (M : zM) (l1 : Int32) (l5 : Int32) (l6 : Int32) (hw : cw M) (k : ∃ b1 : Nat, (gr M 16 8) = some (b1, 11, 0) ∧ (Z E YJ2_size d M (zargs 0 [vr (some (b1, 11, 0))]) 0 [] (zafter E YX1_makes (d + 1) [(0, vr (some (16, 0, 0))), (1, vi l1), (5, vi l5), (6, vi l6)] 386 3 [vi l6] Q))) : Z E YX1_makes (d + 1) M [(0, vr (some (16, 0, 0))), (1, vi l1), (5, vi l5), (6, vi l6)] 380 [] Q := by
  refine z_iload dX1_makes_380 rfl ?_
  refine z_aload_n dX1_makes_382 rfl rfl ?_
  refine z_getr (r := (gr M 16 8)) dX1_makes_383 fsX1_82_0 rfl ?_
  obtain ⟨b1, e1_, k⟩ := k
  refine Z.eqs (lv' := [(0, vr (some (16, 0, 0))), (1, vi l1), (5, vi l5), (6, vi l6)]) (st' := [vr (some (b1, 11, 0)), vi l6]) rfl (by rw [e1_] <;> rfl) ?_
  exact z_callV (as := []) (st := [vi l6]) dX1_makes_386 vsX1_291_11 (Nat.le_refl _) (Nat.le_of_ble_eq_true rfl) (Nat.le_of_ble_eq_true rfl) rfl k
theorem sX1_makes_389 {E : zE} {d : Nat} {Q : zO → zM → Prop} (M : zM) (l1 : Int32) (l5 : Int32) (l6 : Int32) (s0 : Int32) (s1 : Int32) (hw : cw M) (k : if s0 ≤ s1 then (Q (.inl none) M) else (Z E YX1_isOf d M (zargs 0 [vr (some (16, 0, 0)), vi l6]) 0 [] (zafter E YX1_makes (d + 1) [(0, vr (some (16, 0, 0))), (1, vi l1), (5, vi l5), (6, vi l6)] 395 3 [] Q))) : Z E YX1_makes (d + 1) M [(0, vr (some (16, 0, 0))), (1, vi l1), (5, vi l5), (6, vi l6)] 389 [vi s0, vi s1] Q := by
  refine z_icmp_ge (tgt := 417) dX1_makes_389 rfl (fun h_ => ?_) (fun h_ => ?_)
  · have k := zit h_ k
    exact z_vret dX1_makes_417 rfl k
  · have k := zif h_ k
    refine z_aload_n dX1_makes_392 rfl rfl ?_
    refine z_iload dX1_makes_393 rfl ?_
    exact z_callV (as := [vi l6]) (st := []) dX1_makes_395 vsX1_1048_0 (Nat.le_refl _) (Nat.le_of_ble_eq_true rfl) (Nat.le_of_ble_eq_true rfl) rfl k
theorem sX1_makes_398 {E : zE} {d : Nat} {Q : zO → zM → Prop} (M : zM) (l1 : Int32) (l5 : Int32) (l6 : Int32) (s0 : Int32) (hw : cw M) (k : if s0 = 0 then (Z E YX1_makes (d + 1) M [(0, vr (some (16, 0, 0))), (1, vi l1), (5, vi l5), (6, vi l6)] 411 [] Q) else (Z E YX1_enters d M (zargs 0 [vr (some (16, 0, 0)), vi l6, vi (0 : Int32), vi l1, vi l5]) 0 [] (zafter E YX1_makes (d + 1) [(0, vr (some (16, 0, 0))), (1, vi l1), (5, vi l5), (6, vi l6)] 408 3 [] Q))) : Z E YX1_makes (d + 1) M [(0, vr (some (16, 0, 0))), (1, vi l1), (5, vi l5), (6, vi l6)] 398 [vi s0] Q := by
  refine z_if_eq (tgt := 411) dX1_makes_398 rfl (fun h_ => ?_) (fun h_ => ?_)
  · have k := zit h_ k
    exact k
  · have k := zif h_ k
    refine z_aload_n dX1_makes_401 rfl rfl ?_
    refine z_iload dX1_makes_402 rfl ?_
    refine z_iconst (v := 0) dX1_makes_404 rfl ?_
    refine z_iload_n dX1_makes_405 rfl rfl ?_
    refine z_iload dX1_makes_406 rfl ?_
    exact z_callV (as := [vi l6, vi (0 : Int32), vi l1, vi l5]) (st := []) dX1_makes_408 vsX1_1051_0 (Nat.le_refl _) (Nat.le_of_ble_eq_true rfl) (Nat.le_of_ble_eq_true rfl) rfl k
theorem sX1_makes_411 {E : zE} {d : Nat} {Q : zO → zM → Prop} (M : zM) (l1 : Int32) (l5 : Int32) (l6 : Int32) (hw : cw M) (k : Z E YX1_makes (d + 1) M [(0, vr (some (16, 0, 0))), (1, vi l1), (5, vi l5), (6, vi (l6 + (1 : Int32)))] 380 [] Q) : Z E YX1_makes (d + 1) M [(0, vr (some (16, 0, 0))), (1, vi l1), (5, vi l5), (6, vi l6)] 411 [] Q := by
  refine z_inc (v := (l6 + (1 : Int32))) dX1_makes_411 rfl rfl (by decide) (lv' := [(0, vr (some (16, 0, 0))), (1, vi l1), (5, vi l5), (6, vi (l6 + (1 : Int32)))]) rfl ?_
  refine z_goto (tgt := 380) dX1_makes_414 rfl ?_
  exact k
/-! ScriptTypes.stacks(I)V -/
theorem bX1_stacks_0 : zdec cX1_stacks 0 [(0, .aload_n 0, 1), (1, .getfield 684, 3), (4, .aload_n 0, 1), (5, .getfield 213, 3), (8, .invokevirtual 937, 3), (11, .pop, 1), (12, .iload_n 1, 1), (13, .bipush 17, 2), (15, .if_icmp .ne 4, 3), (18, .return_, 1), (19, .iload_n 1, 1), (20, .bipush 18, 2), (22, .if_icmp .ne 26, 3), (25, .aload_n 0, 1), (26, .getfield 684, 3), (29, .aload_n 0, 1)] = true := by decide +kernel
theorem dX1_stacks_0 : decode cX1_stacks 0 = .ok (.aload_n 0, 1) := zdec_at bX1_stacks_0 0 rfl
theorem dX1_stacks_1 : decode cX1_stacks 1 = .ok (.getfield 684, 3) := zdec_at bX1_stacks_0 1 rfl
theorem dX1_stacks_4 : decode cX1_stacks 4 = .ok (.aload_n 0, 1) := zdec_at bX1_stacks_0 2 rfl
theorem dX1_stacks_5 : decode cX1_stacks 5 = .ok (.getfield 213, 3) := zdec_at bX1_stacks_0 3 rfl
theorem dX1_stacks_8 : decode cX1_stacks 8 = .ok (.invokevirtual 937, 3) := zdec_at bX1_stacks_0 4 rfl
theorem dX1_stacks_11 : decode cX1_stacks 11 = .ok (.pop, 1) := zdec_at bX1_stacks_0 5 rfl
theorem dX1_stacks_12 : decode cX1_stacks 12 = .ok (.iload_n 1, 1) := zdec_at bX1_stacks_0 6 rfl
theorem dX1_stacks_13 : decode cX1_stacks 13 = .ok (.bipush 17, 2) := zdec_at bX1_stacks_0 7 rfl
theorem dX1_stacks_15 : decode cX1_stacks 15 = .ok (.if_icmp .ne 4, 3) := zdec_at bX1_stacks_0 8 rfl
theorem dX1_stacks_18 : decode cX1_stacks 18 = .ok (.return_, 1) := zdec_at bX1_stacks_0 9 rfl
theorem dX1_stacks_19 : decode cX1_stacks 19 = .ok (.iload_n 1, 1) := zdec_at bX1_stacks_0 10 rfl
theorem dX1_stacks_20 : decode cX1_stacks 20 = .ok (.bipush 18, 2) := zdec_at bX1_stacks_0 11 rfl
theorem dX1_stacks_22 : decode cX1_stacks 22 = .ok (.if_icmp .ne 26, 3) := zdec_at bX1_stacks_0 12 rfl
theorem dX1_stacks_25 : decode cX1_stacks 25 = .ok (.aload_n 0, 1) := zdec_at bX1_stacks_0 13 rfl
theorem dX1_stacks_26 : decode cX1_stacks 26 = .ok (.getfield 684, 3) := zdec_at bX1_stacks_0 14 rfl
theorem dX1_stacks_29 : decode cX1_stacks 29 = .ok (.aload_n 0, 1) := zdec_at bX1_stacks_0 15 rfl
theorem bX1_stacks_30 : zdec cX1_stacks 30 [(30, .getfield 213, 3), (33, .invokevirtual 767, 3), (36, .aload_n 0, 1), (37, .getfield 684, 3), (40, .aload_n 0, 1), (41, .getfield 213, 3), (44, .invokevirtual 767, 3), (47, .return_, 1), (48, .aload_n 0, 1), (49, .getfield 684, 3), (52, .aload_n 0, 1), (53, .getfield 210, 3), (56, .invokevirtual 937, 3), (59, .pop, 1), (60, .iload_n 1, 1), (61, .bipush 19, 2)] = true := by decide +kernel
theorem dX1_stacks_30 : decode cX1_stacks 30 = .ok (.getfield 213, 3) := zdec_at bX1_stacks_30 0 rfl
theorem dX1_stacks_33 : decode cX1_stacks 33 = .ok (.invokevirtual 767, 3) := zdec_at bX1_stacks_30 1 rfl
theorem dX1_stacks_36 : decode cX1_stacks 36 = .ok (.aload_n 0, 1) := zdec_at bX1_stacks_30 2 rfl
theorem dX1_stacks_37 : decode cX1_stacks 37 = .ok (.getfield 684, 3) := zdec_at bX1_stacks_30 3 rfl
theorem dX1_stacks_40 : decode cX1_stacks 40 = .ok (.aload_n 0, 1) := zdec_at bX1_stacks_30 4 rfl
theorem dX1_stacks_41 : decode cX1_stacks 41 = .ok (.getfield 213, 3) := zdec_at bX1_stacks_30 5 rfl
theorem dX1_stacks_44 : decode cX1_stacks 44 = .ok (.invokevirtual 767, 3) := zdec_at bX1_stacks_30 6 rfl
theorem dX1_stacks_47 : decode cX1_stacks 47 = .ok (.return_, 1) := zdec_at bX1_stacks_30 7 rfl
theorem dX1_stacks_48 : decode cX1_stacks 48 = .ok (.aload_n 0, 1) := zdec_at bX1_stacks_30 8 rfl
theorem dX1_stacks_49 : decode cX1_stacks 49 = .ok (.getfield 684, 3) := zdec_at bX1_stacks_30 9 rfl
theorem dX1_stacks_52 : decode cX1_stacks 52 = .ok (.aload_n 0, 1) := zdec_at bX1_stacks_30 10 rfl
theorem dX1_stacks_53 : decode cX1_stacks 53 = .ok (.getfield 210, 3) := zdec_at bX1_stacks_30 11 rfl
theorem dX1_stacks_56 : decode cX1_stacks 56 = .ok (.invokevirtual 937, 3) := zdec_at bX1_stacks_30 12 rfl
theorem dX1_stacks_59 : decode cX1_stacks 59 = .ok (.pop, 1) := zdec_at bX1_stacks_30 13 rfl
theorem dX1_stacks_60 : decode cX1_stacks 60 = .ok (.iload_n 1, 1) := zdec_at bX1_stacks_30 14 rfl
theorem dX1_stacks_61 : decode cX1_stacks 61 = .ok (.bipush 19, 2) := zdec_at bX1_stacks_30 15 rfl
theorem bX1_stacks_63 : zdec cX1_stacks 63 [(63, .if_icmp .ne 48, 3), (66, .aload_n 0, 1), (67, .getfield 684, 3), (70, .aload_n 0, 1), (71, .getfield 210, 3), (74, .invokevirtual 767, 3), (77, .aload_n 0, 1), (78, .getfield 684, 3), (81, .aload_n 0, 1), (82, .getfield 213, 3), (85, .invokevirtual 767, 3), (88, .aload_n 0, 1), (89, .getfield 684, 3), (92, .aload_n 0, 1), (93, .getfield 210, 3), (96, .invokevirtual 767, 3)] = true := by decide +kernel
theorem dX1_stacks_63 : decode cX1_stacks 63 = .ok (.if_icmp .ne 48, 3) := zdec_at bX1_stacks_63 0 rfl
theorem dX1_stacks_66 : decode cX1_stacks 66 = .ok (.aload_n 0, 1) := zdec_at bX1_stacks_63 1 rfl
theorem dX1_stacks_67 : decode cX1_stacks 67 = .ok (.getfield 684, 3) := zdec_at bX1_stacks_63 2 rfl
theorem dX1_stacks_70 : decode cX1_stacks 70 = .ok (.aload_n 0, 1) := zdec_at bX1_stacks_63 3 rfl
theorem dX1_stacks_71 : decode cX1_stacks 71 = .ok (.getfield 210, 3) := zdec_at bX1_stacks_63 4 rfl
theorem dX1_stacks_74 : decode cX1_stacks 74 = .ok (.invokevirtual 767, 3) := zdec_at bX1_stacks_63 5 rfl
theorem dX1_stacks_77 : decode cX1_stacks 77 = .ok (.aload_n 0, 1) := zdec_at bX1_stacks_63 6 rfl
theorem dX1_stacks_78 : decode cX1_stacks 78 = .ok (.getfield 684, 3) := zdec_at bX1_stacks_63 7 rfl
theorem dX1_stacks_81 : decode cX1_stacks 81 = .ok (.aload_n 0, 1) := zdec_at bX1_stacks_63 8 rfl
theorem dX1_stacks_82 : decode cX1_stacks 82 = .ok (.getfield 213, 3) := zdec_at bX1_stacks_63 9 rfl
theorem dX1_stacks_85 : decode cX1_stacks 85 = .ok (.invokevirtual 767, 3) := zdec_at bX1_stacks_63 10 rfl
theorem dX1_stacks_88 : decode cX1_stacks 88 = .ok (.aload_n 0, 1) := zdec_at bX1_stacks_63 11 rfl
theorem dX1_stacks_89 : decode cX1_stacks 89 = .ok (.getfield 684, 3) := zdec_at bX1_stacks_63 12 rfl
theorem dX1_stacks_92 : decode cX1_stacks 92 = .ok (.aload_n 0, 1) := zdec_at bX1_stacks_63 13 rfl
theorem dX1_stacks_93 : decode cX1_stacks 93 = .ok (.getfield 210, 3) := zdec_at bX1_stacks_63 14 rfl
theorem dX1_stacks_96 : decode cX1_stacks 96 = .ok (.invokevirtual 767, 3) := zdec_at bX1_stacks_63 15 rfl
theorem bX1_stacks_99 : zdec cX1_stacks 99 [(99, .aload_n 0, 1), (100, .getfield 684, 3), (103, .aload_n 0, 1), (104, .getfield 213, 3), (107, .invokevirtual 767, 3), (110, .return_, 1), (111, .aload_n 0, 1), (112, .getfield 684, 3), (115, .aload_n 0, 1), (116, .getfield 206, 3), (119, .invokevirtual 937, 3), (122, .pop, 1), (123, .aload_n 0, 1), (124, .getfield 684, 3), (127, .aload_n 0, 1), (128, .getfield 213, 3)] = true := by decide +kernel
theorem dX1_stacks_99 : decode cX1_stacks 99 = .ok (.aload_n 0, 1) := zdec_at bX1_stacks_99 0 rfl
theorem dX1_stacks_100 : decode cX1_stacks 100 = .ok (.getfield 684, 3) := zdec_at bX1_stacks_99 1 rfl
theorem dX1_stacks_103 : decode cX1_stacks 103 = .ok (.aload_n 0, 1) := zdec_at bX1_stacks_99 2 rfl
theorem dX1_stacks_104 : decode cX1_stacks 104 = .ok (.getfield 213, 3) := zdec_at bX1_stacks_99 3 rfl
theorem dX1_stacks_107 : decode cX1_stacks 107 = .ok (.invokevirtual 767, 3) := zdec_at bX1_stacks_99 4 rfl
theorem dX1_stacks_110 : decode cX1_stacks 110 = .ok (.return_, 1) := zdec_at bX1_stacks_99 5 rfl
theorem dX1_stacks_111 : decode cX1_stacks 111 = .ok (.aload_n 0, 1) := zdec_at bX1_stacks_99 6 rfl
theorem dX1_stacks_112 : decode cX1_stacks 112 = .ok (.getfield 684, 3) := zdec_at bX1_stacks_99 7 rfl
theorem dX1_stacks_115 : decode cX1_stacks 115 = .ok (.aload_n 0, 1) := zdec_at bX1_stacks_99 8 rfl
theorem dX1_stacks_116 : decode cX1_stacks 116 = .ok (.getfield 206, 3) := zdec_at bX1_stacks_99 9 rfl
theorem dX1_stacks_119 : decode cX1_stacks 119 = .ok (.invokevirtual 937, 3) := zdec_at bX1_stacks_99 10 rfl
theorem dX1_stacks_122 : decode cX1_stacks 122 = .ok (.pop, 1) := zdec_at bX1_stacks_99 11 rfl
theorem dX1_stacks_123 : decode cX1_stacks 123 = .ok (.aload_n 0, 1) := zdec_at bX1_stacks_99 12 rfl
theorem dX1_stacks_124 : decode cX1_stacks 124 = .ok (.getfield 684, 3) := zdec_at bX1_stacks_99 13 rfl
theorem dX1_stacks_127 : decode cX1_stacks 127 = .ok (.aload_n 0, 1) := zdec_at bX1_stacks_99 14 rfl
theorem dX1_stacks_128 : decode cX1_stacks 128 = .ok (.getfield 213, 3) := zdec_at bX1_stacks_99 15 rfl
theorem bX1_stacks_131 : zdec cX1_stacks 131 [(131, .invokevirtual 767, 3), (134, .aload_n 0, 1), (135, .getfield 684, 3), (138, .aload_n 0, 1), (139, .getfield 206, 3), (142, .invokevirtual 767, 3), (145, .aload_n 0, 1), (146, .getfield 684, 3), (149, .aload_n 0, 1), (150, .getfield 210, 3), (153, .invokevirtual 767, 3), (156, .aload_n 0, 1), (157, .getfield 684, 3), (160, .aload_n 0, 1), (161, .getfield 213, 3), (164, .invokevirtual 767, 3)] = true := by decide +kernel
theorem dX1_stacks_131 : decode cX1_stacks 131 = .ok (.invokevirtual 767, 3) := zdec_at bX1_stacks_131 0 rfl
theorem dX1_stacks_134 : decode cX1_stacks 134 = .ok (.aload_n 0, 1) := zdec_at bX1_stacks_131 1 rfl
theorem dX1_stacks_135 : decode cX1_stacks 135 = .ok (.getfield 684, 3) := zdec_at bX1_stacks_131 2 rfl
theorem dX1_stacks_138 : decode cX1_stacks 138 = .ok (.aload_n 0, 1) := zdec_at bX1_stacks_131 3 rfl
theorem dX1_stacks_139 : decode cX1_stacks 139 = .ok (.getfield 206, 3) := zdec_at bX1_stacks_131 4 rfl
theorem dX1_stacks_142 : decode cX1_stacks 142 = .ok (.invokevirtual 767, 3) := zdec_at bX1_stacks_131 5 rfl
theorem dX1_stacks_145 : decode cX1_stacks 145 = .ok (.aload_n 0, 1) := zdec_at bX1_stacks_131 6 rfl
theorem dX1_stacks_146 : decode cX1_stacks 146 = .ok (.getfield 684, 3) := zdec_at bX1_stacks_131 7 rfl
theorem dX1_stacks_149 : decode cX1_stacks 149 = .ok (.aload_n 0, 1) := zdec_at bX1_stacks_131 8 rfl
theorem dX1_stacks_150 : decode cX1_stacks 150 = .ok (.getfield 210, 3) := zdec_at bX1_stacks_131 9 rfl
theorem dX1_stacks_153 : decode cX1_stacks 153 = .ok (.invokevirtual 767, 3) := zdec_at bX1_stacks_131 10 rfl
theorem dX1_stacks_156 : decode cX1_stacks 156 = .ok (.aload_n 0, 1) := zdec_at bX1_stacks_131 11 rfl
theorem dX1_stacks_157 : decode cX1_stacks 157 = .ok (.getfield 684, 3) := zdec_at bX1_stacks_131 12 rfl
theorem dX1_stacks_160 : decode cX1_stacks 160 = .ok (.aload_n 0, 1) := zdec_at bX1_stacks_131 13 rfl
theorem dX1_stacks_161 : decode cX1_stacks 161 = .ok (.getfield 213, 3) := zdec_at bX1_stacks_131 14 rfl
theorem dX1_stacks_164 : decode cX1_stacks 164 = .ok (.invokevirtual 767, 3) := zdec_at bX1_stacks_131 15 rfl
theorem bX1_stacks_167 : zdec cX1_stacks 167 [(167, .return_, 1)] = true := by decide +kernel
theorem dX1_stacks_167 : decode cX1_stacks 167 = .ok (.return_, 1) := zdec_at bX1_stacks_167 0 rfl
theorem sX1_stacks_0 {E : zE} {d : Nat} {Q : zO → zM → Prop} (M : zM) (l1 : Int32) (hw : cw M) (k : ∃ b1 : Nat, (gr M 16 60) = some (b1, 7, 0) ∧ (Z E YX43_pop d M (zargs 0 [vr (some (b1, 7, 0)), vr (some (73, 4, 0))]) 0 [] (zafter E YX1_stacks (d + 1) [(0, vr (some (16, 0, 0))), (1, vi l1)] 8 3 [] Q))) : Z E YX1_stacks (d + 1) M [(0, vr (some (16, 0, 0))), (1, vi l1)] 0 [] Q := by
  refine z_aload_n dX1_stacks_0 rfl rfl ?_
  refine z_getr (r := (gr M 16 60)) dX1_stacks_1 fsX1_684_0 rfl ?_
  refine z_aload_n dX1_stacks_4 rfl rfl ?_
  refine z_getr dX1_stacks_5 fsX1_213_0 (show gr M 16 80 = some (73, 4, 0) from cw_at hw 41 rfl) ?_
  obtain ⟨b1, e1_, k⟩ := k
  refine Z.eqs (lv' := [(0, vr (some (16, 0, 0))), (1, vi l1)]) (st' := [vr (some (73, 4, 0)), vr (some (b1, 7, 0))]) rfl (by rw [e1_] <;> rfl) ?_
  exact z_callV (as := [vr (some (73, 4, 0))]) (st := []) dX1_stacks_8 vsX1_937_7 (Nat.le_refl _) (Nat.le_of_ble_eq_true rfl) (Nat.le_of_ble_eq_true rfl) rfl k
theorem sX1_stacks_11 {E : zE} {d : Nat} {Q : zO → zM → Prop} (M : zM) (l1 : Int32) (u0 : Option zP) (hw : cw M) (k : if l1 = (17 : Int32) then (Q (.inl none) M) else (if l1 = (18 : Int32) then (∃ b1 : Nat, (gr M 16 60) = some (b1, 7, 0) ∧ (Z E YX43_push d M (zargs 0 [vr (some (b1, 7, 0)), vr (some (73, 4, 0))]) 0 [] (zafter E YX1_stacks (d + 1) [(0, vr (some (16, 0, 0)))] 33 3 [] Q))) else (∃ b1 : Nat, (gr M 16 60) = some (b1, 7, 0) ∧ (Z E YX43_pop d M (zargs 0 [vr (some (b1, 7, 0)), vr (some (72, 4, 0))]) 0 [] (zafter E YX1_stacks (d + 1) [(0, vr (some (16, 0, 0))), (1, vi l1)] 56 3 [] Q))))) : Z E YX1_stacks (d + 1) M [(0, vr (some (16, 0, 0))), (1, vi l1)] 11 [vr u0] Q := by
  refine z_pop dX1_stacks_11 rfl ?_
  refine z_iload_n dX1_stacks_12 rfl rfl ?_
  refine z_bipush (v := 17) dX1_stacks_13 rfl ?_
  refine z_icmp_ne (tgt := 19) dX1_stacks_15 rfl (fun h_ => ?_) (fun h_ => ?_)
  · have k := zif h_ k
    refine z_iload_n dX1_stacks_19 rfl rfl ?_
    refine z_bipush (v := 18) dX1_stacks_20 rfl ?_
    refine z_icmp_ne (tgt := 48) dX1_stacks_22 rfl (fun h_ => ?_) (fun h_ => ?_)
    · have k := zif h_ k
      refine z_aload_n dX1_stacks_48 rfl rfl ?_
      refine z_getr (r := (gr M 16 60)) dX1_stacks_49 fsX1_684_0 rfl ?_
      refine z_aload_n dX1_stacks_52 rfl rfl ?_
      refine z_getr dX1_stacks_53 fsX1_210_0 (show gr M 16 79 = some (72, 4, 0) from cw_at hw 40 rfl) ?_
      obtain ⟨b1, e1_, k⟩ := k
      refine Z.eqs (lv' := [(0, vr (some (16, 0, 0))), (1, vi l1)]) (st' := [vr (some (72, 4, 0)), vr (some (b1, 7, 0))]) rfl (by rw [e1_] <;> rfl) ?_
      exact z_callV (as := [vr (some (72, 4, 0))]) (st := []) dX1_stacks_56 vsX1_937_7 (Nat.le_refl _) (Nat.le_of_ble_eq_true rfl) (Nat.le_of_ble_eq_true rfl) rfl k
    · have k := zit h_ k
      refine z_aload_n dX1_stacks_25 rfl rfl ?_
      refine z_getr (r := (gr M 16 60)) dX1_stacks_26 fsX1_684_0 rfl ?_
      refine z_aload_n dX1_stacks_29 rfl rfl ?_
      refine z_getr dX1_stacks_30 fsX1_213_0 (show gr M 16 80 = some (73, 4, 0) from cw_at hw 41 rfl) ?_
      obtain ⟨b1, e1_, k⟩ := k
      refine Z.eqs (lv' := [(0, vr (some (16, 0, 0))), (1, vi l1)]) (st' := [vr (some (73, 4, 0)), vr (some (b1, 7, 0))]) rfl (by rw [e1_] <;> rfl) ?_
      refine Z.pick [0] rfl ?_
      exact z_callV (as := [vr (some (73, 4, 0))]) (st := []) dX1_stacks_33 vsX1_767_7 (Nat.le_refl _) (Nat.le_of_ble_eq_true rfl) (Nat.le_of_ble_eq_true rfl) rfl k
  · have k := zit h_ k
    exact z_vret dX1_stacks_18 rfl k
theorem sX1_stacks_36 {E : zE} {d : Nat} {Q : zO → zM → Prop} (M : zM)  (hw : cw M) (k : ∃ b1 : Nat, (gr M 16 60) = some (b1, 7, 0) ∧ (Z E YX43_push d M (zargs 0 [vr (some (b1, 7, 0)), vr (some (73, 4, 0))]) 0 [] (zafter E YX1_stacks (d + 1) [] 44 3 [] Q))) : Z E YX1_stacks (d + 1) M [(0, vr (some (16, 0, 0)))] 36 [] Q := by
  refine z_aload_n dX1_stacks_36 rfl rfl ?_
  refine z_getr (r := (gr M 16 60)) dX1_stacks_37 fsX1_684_0 rfl ?_
  refine z_aload_n dX1_stacks_40 rfl rfl ?_
  refine z_getr dX1_stacks_41 fsX1_213_0 (show gr M 16 80 = some (73, 4, 0) from cw_at hw 41 rfl) ?_
  obtain ⟨b1, e1_, k⟩ := k
  refine Z.eqs (lv' := [(0, vr (some (16, 0, 0)))]) (st' := [vr (some (73, 4, 0)), vr (some (b1, 7, 0))]) rfl (by rw [e1_] <;> rfl) ?_
  refine Z.pick [] rfl ?_
  exact z_callV (as := [vr (some (73, 4, 0))]) (st := []) dX1_stacks_44 vsX1_767_7 (Nat.le_refl _) (Nat.le_of_ble_eq_true rfl) (Nat.le_of_ble_eq_true rfl) rfl k
theorem sX1_stacks_47 {E : zE} {d : Nat} {Q : zO → zM → Prop} (M : zM)  (hw : cw M) (k : Q (.inl none) M) : Z E YX1_stacks (d + 1) M [] 47 [] Q := by
  exact z_vret dX1_stacks_47 rfl k
theorem sX1_stacks_59 {E : zE} {d : Nat} {Q : zO → zM → Prop} (M : zM) (l1 : Int32) (u0 : Option zP) (hw : cw M) (k : if l1 = (19 : Int32) then (∃ b1 : Nat, (gr M 16 60) = some (b1, 7, 0) ∧ (Z E YX43_push d M (zargs 0 [vr (some (b1, 7, 0)), vr (some (72, 4, 0))]) 0 [] (zafter E YX1_stacks (d + 1) [(0, vr (some (16, 0, 0)))] 74 3 [] Q))) else (∃ b1 : Nat, (gr M 16 60) = some (b1, 7, 0) ∧ (Z E YX43_pop d M (zargs 0 [vr (some (b1, 7, 0)), vr (some (71, 4, 0))]) 0 [] (zafter E YX1_stacks (d + 1) [(0, vr (some (16, 0, 0)))] 119 3 [] Q)))) : Z E YX1_stacks (d + 1) M [(0, vr (some (16, 0, 0))), (1, vi l1)] 59 [vr u0] Q := by
  refine z_pop dX1_stacks_59 rfl ?_
  refine z_iload_n dX1_stacks_60 rfl rfl ?_
  refine z_bipush (v := 19) dX1_stacks_61 rfl ?_
  refine z_icmp_ne (tgt := 111) dX1_stacks_63 rfl (fun h_ => ?_) (fun h_ => ?_)
  · have k := zif h_ k
    refine z_aload_n dX1_stacks_111 rfl rfl ?_
    refine z_getr (r := (gr M 16 60)) dX1_stacks_112 fsX1_684_0 rfl ?_
    refine z_aload_n dX1_stacks_115 rfl rfl ?_
    refine z_getr dX1_stacks_116 fsX1_206_0 (show gr M 16 78 = some (71, 4, 0) from cw_at hw 39 rfl) ?_
    obtain ⟨b1, e1_, k⟩ := k
    refine Z.eqs (lv' := [(0, vr (some (16, 0, 0))), (1, vi l1)]) (st' := [vr (some (71, 4, 0)), vr (some (b1, 7, 0))]) rfl (by rw [e1_] <;> rfl) ?_
    refine Z.pick [0] rfl ?_
    exact z_callV (as := [vr (some (71, 4, 0))]) (st := []) dX1_stacks_119 vsX1_937_7 (Nat.le_refl _) (Nat.le_of_ble_eq_true rfl) (Nat.le_of_ble_eq_true rfl) rfl k
  · have k := zit h_ k
    refine z_aload_n dX1_stacks_66 rfl rfl ?_
    refine z_getr (r := (gr M 16 60)) dX1_stacks_67 fsX1_684_0 rfl ?_
    refine z_aload_n dX1_stacks_70 rfl rfl ?_
    refine z_getr dX1_stacks_71 fsX1_210_0 (show gr M 16 79 = some (72, 4, 0) from cw_at hw 40 rfl) ?_
    obtain ⟨b1, e1_, k⟩ := k
    refine Z.eqs (lv' := [(0, vr (some (16, 0, 0))), (1, vi l1)]) (st' := [vr (some (72, 4, 0)), vr (some (b1, 7, 0))]) rfl (by rw [e1_] <;> rfl) ?_
    refine Z.pick [0] rfl ?_
    exact z_callV (as := [vr (some (72, 4, 0))]) (st := []) dX1_stacks_74 vsX1_767_7 (Nat.le_refl _) (Nat.le_of_ble_eq_true rfl) (Nat.le_of_ble_eq_true rfl) rfl k
theorem sX1_stacks_77 {E : zE} {d : Nat} {Q : zO → zM → Prop} (M : zM)  (hw : cw M) (k : ∃ b1 : Nat, (gr M 16 60) = some (b1, 7, 0) ∧ (Z E YX43_push d M (zargs 0 [vr (some (b1, 7, 0)), vr (some (73, 4, 0))]) 0 [] (zafter E YX1_stacks (d + 1) [(0, vr (some (16, 0, 0)))] 85 3 [] Q))) : Z E YX1_stacks (d + 1) M [(0, vr (some (16, 0, 0)))] 77 [] Q := by
  refine z_aload_n dX1_stacks_77 rfl rfl ?_
  refine z_getr (r := (gr M 16 60)) dX1_stacks_78 fsX1_684_0 rfl ?_
  refine z_aload_n dX1_stacks_81 rfl rfl ?_
  refine z_getr dX1_stacks_82 fsX1_213_0 (show gr M 16 80 = some (73, 4, 0) from cw_at hw 41 rfl) ?_
  obtain ⟨b1, e1_, k⟩ := k
  refine Z.eqs (lv' := [(0, vr (some (16, 0, 0)))]) (st' := [vr (some (73, 4, 0)), vr (some (b1, 7, 0))]) rfl (by rw [e1_] <;> rfl) ?_
  exact z_callV (as := [vr (some (73, 4, 0))]) (st := []) dX1_stacks_85 vsX1_767_7 (Nat.le_refl _) (Nat.le_of_ble_eq_true rfl) (Nat.le_of_ble_eq_true rfl) rfl k
theorem sX1_stacks_88 {E : zE} {d : Nat} {Q : zO → zM → Prop} (M : zM)  (hw : cw M) (k : ∃ b1 : Nat, (gr M 16 60) = some (b1, 7, 0) ∧ (Z E YX43_push d M (zargs 0 [vr (some (b1, 7, 0)), vr (some (72, 4, 0))]) 0 [] (zafter E YX1_stacks (d + 1) [(0, vr (some (16, 0, 0)))] 96 3 [] Q))) : Z E YX1_stacks (d + 1) M [(0, vr (some (16, 0, 0)))] 88 [] Q := by
  refine z_aload_n dX1_stacks_88 rfl rfl ?_
  refine z_getr (r := (gr M 16 60)) dX1_stacks_89 fsX1_684_0 rfl ?_
  refine z_aload_n dX1_stacks_92 rfl rfl ?_
  refine z_getr dX1_stacks_93 fsX1_210_0 (show gr M 16 79 = some (72, 4, 0) from cw_at hw 40 rfl) ?_
  obtain ⟨b1, e1_, k⟩ := k
  refine Z.eqs (lv' := [(0, vr (some (16, 0, 0)))]) (st' := [vr (some (72, 4, 0)), vr (some (b1, 7, 0))]) rfl (by rw [e1_] <;> rfl) ?_
  exact z_callV (as := [vr (some (72, 4, 0))]) (st := []) dX1_stacks_96 vsX1_767_7 (Nat.le_refl _) (Nat.le_of_ble_eq_true rfl) (Nat.le_of_ble_eq_true rfl) rfl k
theorem sX1_stacks_99 {E : zE} {d : Nat} {Q : zO → zM → Prop} (M : zM)  (hw : cw M) (k : ∃ b1 : Nat, (gr M 16 60) = some (b1, 7, 0) ∧ (Z E YX43_push d M (zargs 0 [vr (some (b1, 7, 0)), vr (some (73, 4, 0))]) 0 [] (zafter E YX1_stacks (d + 1) [] 107 3 [] Q))) : Z E YX1_stacks (d + 1) M [(0, vr (some (16, 0, 0)))] 99 [] Q := by
  refine z_aload_n dX1_stacks_99 rfl rfl ?_
  refine z_getr (r := (gr M 16 60)) dX1_stacks_100 fsX1_684_0 rfl ?_
  refine z_aload_n dX1_stacks_103 rfl rfl ?_
  refine z_getr dX1_stacks_104 fsX1_213_0 (show gr M 16 80 = some (73, 4, 0) from cw_at hw 41 rfl) ?_
  obtain ⟨b1, e1_, k⟩ := k
  refine Z.eqs (lv' := [(0, vr (some (16, 0, 0)))]) (st' := [vr (some (73, 4, 0)), vr (some (b1, 7, 0))]) rfl (by rw [e1_] <;> rfl) ?_
  refine Z.pick [] rfl ?_
  exact z_callV (as := [vr (some (73, 4, 0))]) (st := []) dX1_stacks_107 vsX1_767_7 (Nat.le_refl _) (Nat.le_of_ble_eq_true rfl) (Nat.le_of_ble_eq_true rfl) rfl k
theorem sX1_stacks_110 {E : zE} {d : Nat} {Q : zO → zM → Prop} (M : zM)  (hw : cw M) (k : Q (.inl none) M) : Z E YX1_stacks (d + 1) M [] 110 [] Q := by
  exact z_vret dX1_stacks_110 rfl k
theorem sX1_stacks_122 {E : zE} {d : Nat} {Q : zO → zM → Prop} (M : zM) (u0 : Option zP) (hw : cw M) (k : ∃ b1 : Nat, (gr M 16 60) = some (b1, 7, 0) ∧ (Z E YX43_push d M (zargs 0 [vr (some (b1, 7, 0)), vr (some (73, 4, 0))]) 0 [] (zafter E YX1_stacks (d + 1) [(0, vr (some (16, 0, 0)))] 131 3 [] Q))) : Z E YX1_stacks (d + 1) M [(0, vr (some (16, 0, 0)))] 122 [vr u0] Q := by
  refine z_pop dX1_stacks_122 rfl ?_
  refine z_aload_n dX1_stacks_123 rfl rfl ?_
  refine z_getr (r := (gr M 16 60)) dX1_stacks_124 fsX1_684_0 rfl ?_
  refine z_aload_n dX1_stacks_127 rfl rfl ?_
  refine z_getr dX1_stacks_128 fsX1_213_0 (show gr M 16 80 = some (73, 4, 0) from cw_at hw 41 rfl) ?_
  obtain ⟨b1, e1_, k⟩ := k
  refine Z.eqs (lv' := [(0, vr (some (16, 0, 0)))]) (st' := [vr (some (73, 4, 0)), vr (some (b1, 7, 0))]) rfl (by rw [e1_] <;> rfl) ?_
  exact z_callV (as := [vr (some (73, 4, 0))]) (st := []) dX1_stacks_131 vsX1_767_7 (Nat.le_refl _) (Nat.le_of_ble_eq_true rfl) (Nat.le_of_ble_eq_true rfl) rfl k
theorem sX1_stacks_134 {E : zE} {d : Nat} {Q : zO → zM → Prop} (M : zM)  (hw : cw M) (k : ∃ b1 : Nat, (gr M 16 60) = some (b1, 7, 0) ∧ (Z E YX43_push d M (zargs 0 [vr (some (b1, 7, 0)), vr (some (71, 4, 0))]) 0 [] (zafter E YX1_stacks (d + 1) [(0, vr (some (16, 0, 0)))] 142 3 [] Q))) : Z E YX1_stacks (d + 1) M [(0, vr (some (16, 0, 0)))] 134 [] Q := by
  refine z_aload_n dX1_stacks_134 rfl rfl ?_
  refine z_getr (r := (gr M 16 60)) dX1_stacks_135 fsX1_684_0 rfl ?_
  refine z_aload_n dX1_stacks_138 rfl rfl ?_
  refine z_getr dX1_stacks_139 fsX1_206_0 (show gr M 16 78 = some (71, 4, 0) from cw_at hw 39 rfl) ?_
  obtain ⟨b1, e1_, k⟩ := k
  refine Z.eqs (lv' := [(0, vr (some (16, 0, 0)))]) (st' := [vr (some (71, 4, 0)), vr (some (b1, 7, 0))]) rfl (by rw [e1_] <;> rfl) ?_
  exact z_callV (as := [vr (some (71, 4, 0))]) (st := []) dX1_stacks_142 vsX1_767_7 (Nat.le_refl _) (Nat.le_of_ble_eq_true rfl) (Nat.le_of_ble_eq_true rfl) rfl k
theorem sX1_stacks_145 {E : zE} {d : Nat} {Q : zO → zM → Prop} (M : zM)  (hw : cw M) (k : ∃ b1 : Nat, (gr M 16 60) = some (b1, 7, 0) ∧ (Z E YX43_push d M (zargs 0 [vr (some (b1, 7, 0)), vr (some (72, 4, 0))]) 0 [] (zafter E YX1_stacks (d + 1) [(0, vr (some (16, 0, 0)))] 153 3 [] Q))) : Z E YX1_stacks (d + 1) M [(0, vr (some (16, 0, 0)))] 145 [] Q := by
  refine z_aload_n dX1_stacks_145 rfl rfl ?_
  refine z_getr (r := (gr M 16 60)) dX1_stacks_146 fsX1_684_0 rfl ?_
  refine z_aload_n dX1_stacks_149 rfl rfl ?_
  refine z_getr dX1_stacks_150 fsX1_210_0 (show gr M 16 79 = some (72, 4, 0) from cw_at hw 40 rfl) ?_
  obtain ⟨b1, e1_, k⟩ := k
  refine Z.eqs (lv' := [(0, vr (some (16, 0, 0)))]) (st' := [vr (some (72, 4, 0)), vr (some (b1, 7, 0))]) rfl (by rw [e1_] <;> rfl) ?_
  exact z_callV (as := [vr (some (72, 4, 0))]) (st := []) dX1_stacks_153 vsX1_767_7 (Nat.le_refl _) (Nat.le_of_ble_eq_true rfl) (Nat.le_of_ble_eq_true rfl) rfl k
theorem sX1_stacks_156 {E : zE} {d : Nat} {Q : zO → zM → Prop} (M : zM)  (hw : cw M) (k : ∃ b1 : Nat, (gr M 16 60) = some (b1, 7, 0) ∧ (Z E YX43_push d M (zargs 0 [vr (some (b1, 7, 0)), vr (some (73, 4, 0))]) 0 [] (zafter E YX1_stacks (d + 1) [] 164 3 [] Q))) : Z E YX1_stacks (d + 1) M [(0, vr (some (16, 0, 0)))] 156 [] Q := by
  refine z_aload_n dX1_stacks_156 rfl rfl ?_
  refine z_getr (r := (gr M 16 60)) dX1_stacks_157 fsX1_684_0 rfl ?_
  refine z_aload_n dX1_stacks_160 rfl rfl ?_
  refine z_getr dX1_stacks_161 fsX1_213_0 (show gr M 16 80 = some (73, 4, 0) from cw_at hw 41 rfl) ?_
  obtain ⟨b1, e1_, k⟩ := k
  refine Z.eqs (lv' := [(0, vr (some (16, 0, 0)))]) (st' := [vr (some (73, 4, 0)), vr (some (b1, 7, 0))]) rfl (by rw [e1_] <;> rfl) ?_
  refine Z.pick [] rfl ?_
  exact z_callV (as := [vr (some (73, 4, 0))]) (st := []) dX1_stacks_164 vsX1_767_7 (Nat.le_refl _) (Nat.le_of_ble_eq_true rfl) (Nat.le_of_ble_eq_true rfl) rfl k
theorem sX1_stacks_167 {E : zE} {d : Nat} {Q : zO → zM → Prop} (M : zM)  (hw : cw M) (k : Q (.inl none) M) : Z E YX1_stacks (d + 1) M [] 167 [] Q := by
  exact z_vret dX1_stacks_167 rfl k
