/-! ScriptTypesModel.each(Z)I -/
theorem bX8_each_0 : zdec cX8_each 0 [(0, .iload_n 1, 1), (1, .ifCond .eq 13, 3), (4, .aload_n 0, 1), (5, .dup, 1), (6, .getfield 392, 3), (9, .iconst 1, 1), (10, .iadd, 1), (11, .putfield 392, 3), (14, .aload_n 0, 1), (15, .invokevirtual 536, 3), (18, .istore_n 2, 1), (19, .iload_n 1, 1), (20, .ifCond .eq 9, 3), (23, .aload_n 0, 1), (24, .iload_n 2, 1), (25, .iconst 0, 1)] = true := by decide +kernel
theorem dX8_each_0 : decode cX8_each 0 = .ok (.iload_n 1, 1) := zdec_at bX8_each_0 0 rfl
theorem dX8_each_1 : decode cX8_each 1 = .ok (.ifCond .eq 13, 3) := zdec_at bX8_each_0 1 rfl
theorem dX8_each_4 : decode cX8_each 4 = .ok (.aload_n 0, 1) := zdec_at bX8_each_0 2 rfl
theorem dX8_each_5 : decode cX8_each 5 = .ok (.dup, 1) := zdec_at bX8_each_0 3 rfl
theorem dX8_each_6 : decode cX8_each 6 = .ok (.getfield 392, 3) := zdec_at bX8_each_0 4 rfl
theorem dX8_each_9 : decode cX8_each 9 = .ok (.iconst 1, 1) := zdec_at bX8_each_0 5 rfl
theorem dX8_each_10 : decode cX8_each 10 = .ok (.iadd, 1) := zdec_at bX8_each_0 6 rfl
theorem dX8_each_11 : decode cX8_each 11 = .ok (.putfield 392, 3) := zdec_at bX8_each_0 7 rfl
theorem dX8_each_14 : decode cX8_each 14 = .ok (.aload_n 0, 1) := zdec_at bX8_each_0 8 rfl
theorem dX8_each_15 : decode cX8_each 15 = .ok (.invokevirtual 536, 3) := zdec_at bX8_each_0 9 rfl
theorem dX8_each_18 : decode cX8_each 18 = .ok (.istore_n 2, 1) := zdec_at bX8_each_0 10 rfl
theorem dX8_each_19 : decode cX8_each 19 = .ok (.iload_n 1, 1) := zdec_at bX8_each_0 11 rfl
theorem dX8_each_20 : decode cX8_each 20 = .ok (.ifCond .eq 9, 3) := zdec_at bX8_each_0 12 rfl
theorem dX8_each_23 : decode cX8_each 23 = .ok (.aload_n 0, 1) := zdec_at bX8_each_0 13 rfl
theorem dX8_each_24 : decode cX8_each 24 = .ok (.iload_n 2, 1) := zdec_at bX8_each_0 14 rfl
theorem dX8_each_25 : decode cX8_each 25 = .ok (.iconst 0, 1) := zdec_at bX8_each_0 15 rfl
theorem bX8_each_26 : zdec cX8_each 26 [(26, .invokevirtual 539, 3), (29, .aload_n 0, 1), (30, .dup, 1), (31, .getfield 392, 3), (34, .iconst 1, 1), (35, .iadd, 1), (36, .putfield 392, 3), (39, .aload_n 0, 1), (40, .iconst 1, 1), (41, .invokevirtual 502, 3), (44, .istore_n 3, 1), (45, .aload_n 0, 1), (46, .bipush 27, 2), (48, .invokevirtual 473, 3), (51, .ifCond .ne 5, 3), (54, .iconst (-1), 1)] = true := by decide +kernel
theorem dX8_each_26 : decode cX8_each 26 = .ok (.invokevirtual 539, 3) := zdec_at bX8_each_26 0 rfl
theorem dX8_each_29 : decode cX8_each 29 = .ok (.aload_n 0, 1) := zdec_at bX8_each_26 1 rfl
theorem dX8_each_30 : decode cX8_each 30 = .ok (.dup, 1) := zdec_at bX8_each_26 2 rfl
theorem dX8_each_31 : decode cX8_each 31 = .ok (.getfield 392, 3) := zdec_at bX8_each_26 3 rfl
theorem dX8_each_34 : decode cX8_each 34 = .ok (.iconst 1, 1) := zdec_at bX8_each_26 4 rfl
theorem dX8_each_35 : decode cX8_each 35 = .ok (.iadd, 1) := zdec_at bX8_each_26 5 rfl
theorem dX8_each_36 : decode cX8_each 36 = .ok (.putfield 392, 3) := zdec_at bX8_each_26 6 rfl
theorem dX8_each_39 : decode cX8_each 39 = .ok (.aload_n 0, 1) := zdec_at bX8_each_26 7 rfl
theorem dX8_each_40 : decode cX8_each 40 = .ok (.iconst 1, 1) := zdec_at bX8_each_26 8 rfl
theorem dX8_each_41 : decode cX8_each 41 = .ok (.invokevirtual 502, 3) := zdec_at bX8_each_26 9 rfl
theorem dX8_each_44 : decode cX8_each 44 = .ok (.istore_n 3, 1) := zdec_at bX8_each_26 10 rfl
theorem dX8_each_45 : decode cX8_each 45 = .ok (.aload_n 0, 1) := zdec_at bX8_each_26 11 rfl
theorem dX8_each_46 : decode cX8_each 46 = .ok (.bipush 27, 2) := zdec_at bX8_each_26 12 rfl
theorem dX8_each_48 : decode cX8_each 48 = .ok (.invokevirtual 473, 3) := zdec_at bX8_each_26 13 rfl
theorem dX8_each_51 : decode cX8_each 51 = .ok (.ifCond .ne 5, 3) := zdec_at bX8_each_26 14 rfl
theorem dX8_each_54 : decode cX8_each 54 = .ok (.iconst (-1), 1) := zdec_at bX8_each_26 15 rfl
theorem bX8_each_55 : zdec cX8_each 55 [(55, .ireturn, 1), (56, .aload_n 0, 1), (57, .bipush 28, 2), (59, .iload_n 2, 1), (60, .iload_n 3, 1), (61, .aload_n 0, 1), (62, .invokevirtual 580, 3), (65, .invokevirtual 446, 3), (68, .ireturn, 1)] = true := by decide +kernel
theorem dX8_each_55 : decode cX8_each 55 = .ok (.ireturn, 1) := zdec_at bX8_each_55 0 rfl
theorem dX8_each_56 : decode cX8_each 56 = .ok (.aload_n 0, 1) := zdec_at bX8_each_55 1 rfl
theorem dX8_each_57 : decode cX8_each 57 = .ok (.bipush 28, 2) := zdec_at bX8_each_55 2 rfl
theorem dX8_each_59 : decode cX8_each 59 = .ok (.iload_n 2, 1) := zdec_at bX8_each_55 3 rfl
theorem dX8_each_60 : decode cX8_each 60 = .ok (.iload_n 3, 1) := zdec_at bX8_each_55 4 rfl
theorem dX8_each_61 : decode cX8_each 61 = .ok (.aload_n 0, 1) := zdec_at bX8_each_55 5 rfl
theorem dX8_each_62 : decode cX8_each 62 = .ok (.invokevirtual 580, 3) := zdec_at bX8_each_55 6 rfl
theorem dX8_each_65 : decode cX8_each 65 = .ok (.invokevirtual 446, 3) := zdec_at bX8_each_55 7 rfl
theorem dX8_each_68 : decode cX8_each 68 = .ok (.ireturn, 1) := zdec_at bX8_each_55 8 rfl
theorem sX8_each_0 {E : zE} {d : Nat} {Q : zO → zM → Prop} (M : zM) (l1 : Int32) (k : if l1 = 0 then (Zm E YX8_takeName d M (zargs 0 [vr (some (97, 1, 0))]) 0 [] (zma E YX8_each (d + 1) [(0, vr (some (97, 1, 0))), (1, vi l1)] 15 3 [] Q)) else (Zm E YX8_takeName d (si M 97 20 ((gi M 97 20) + (1 : Int32))) (zargs 0 [vr (some (97, 1, 0))]) 0 [] (zma E YX8_each (d + 1) [(0, vr (some (97, 1, 0))), (1, vi l1)] 15 3 [] Q))) : Zm E YX8_each (d + 1) M [(0, vr (some (97, 1, 0))), (1, vi l1)] 0 [] Q := by
  refine Zm.l (fun _ _ k_ => z_iload_n dX8_each_0 rfl rfl k_) ?_
  refine Zm.br (fun _ _ k1_ k2_ => z_if_eq (tgt := 14) dX8_each_1 rfl k1_ k2_) (fun h_ => ?_) (fun h_ => ?_)
  · have k := zit h_ k
    refine Zm.l (fun _ _ k_ => z_aload_n dX8_each_14 rfl rfl k_) ?_
    exact zm_callV (as := []) (st := []) dX8_each_15 vsX8_536_1 (Nat.le_refl _) (Nat.le_of_ble_eq_true rfl) (Nat.le_of_ble_eq_true rfl) rfl k
  · have k := zif h_ k
    refine Zm.l (fun _ _ k_ => z_aload_n dX8_each_4 rfl rfl k_) ?_
    refine Zm.l (fun _ _ k_ => z_dup dX8_each_5 rfl k_) ?_
    refine zm_geti dX8_each_6 fsX8_392_1 (by decide) (by decide) ?_
    refine Zm.l (fun _ _ k_ => z_iconst (v := 1) dX8_each_9 rfl k_) ?_
    refine Zm.l (fun _ _ k_ => z_iadd dX8_each_10 k_) ?_
    refine zm_puti (by decide) (by decide) dX8_each_11 (zfwN.w fwX8_392_1) rfl ⟨rfl, rfl⟩ ?_
    refine Zm.l (fun _ _ k_ => z_aload_n dX8_each_14 rfl rfl k_) ?_
    exact zm_callV (as := []) (st := []) dX8_each_15 vsX8_536_1 (Nat.le_refl _) (Nat.le_of_ble_eq_true rfl) (Nat.le_of_ble_eq_true rfl) rfl k
theorem sX8_each_18 {E : zE} {d : Nat} {Q : zO → zM → Prop} (M : zM) (l1 : Int32) (s0 : Int32) (k : if l1 = 0 then (Zm E YX8_each (d + 1) M [(0, vr (some (97, 1, 0))), (2, vi s0)] 29 [] Q) else (Zm E YX8_hold d M (zargs 0 [vr (some (97, 1, 0)), vi s0, vi (0 : Int32)]) 0 [] (zma E YX8_each (d + 1) [(0, vr (some (97, 1, 0))), (2, vi s0)] 26 3 [] Q))) : Zm E YX8_each (d + 1) M [(0, vr (some (97, 1, 0))), (1, vi l1)] 18 [vi s0] Q := by
  refine Zm.l (fun _ _ k_ => z_ist_n dX8_each_18 rfl (by decide) (lv' := [(0, vr (some (97, 1, 0))), (1, vi l1), (2, vi s0)]) rfl k_) ?_
  refine Zm.l (fun _ _ k_ => z_iload_n dX8_each_19 rfl rfl k_) ?_
  refine Zm.br (fun _ _ k1_ k2_ => z_if_eq (tgt := 29) dX8_each_20 rfl k1_ k2_) (fun h_ => ?_) (fun h_ => ?_)
  · have k := zit h_ k
    refine Zm.pick [0, 2] rfl ?_
    exact k
  · have k := zif h_ k
    refine Zm.l (fun _ _ k_ => z_aload_n dX8_each_23 rfl rfl k_) ?_
    refine Zm.l (fun _ _ k_ => z_iload_n dX8_each_24 rfl rfl k_) ?_
    refine Zm.l (fun _ _ k_ => z_iconst (v := 0) dX8_each_25 rfl k_) ?_
    refine Zm.pick [0, 2] rfl ?_
    exact zm_callV (as := [vi s0, vi (0 : Int32)]) (st := []) dX8_each_26 vsX8_539_1 (Nat.le_refl _) (Nat.le_of_ble_eq_true rfl) (Nat.le_of_ble_eq_true rfl) rfl k
theorem sX8_each_29 {E : zE} {d : Nat} {Q : zO → zM → Prop} (M : zM) (l2 : Int32) (k : Zm E YX8_expression d (si M 97 20 ((gi M 97 20) + (1 : Int32))) (zargs 0 [vr (some (97, 1, 0)), vi (1 : Int32)]) 0 [] (zma E YX8_each (d + 1) [(0, vr (some (97, 1, 0))), (2, vi l2)] 41 3 [] Q)) : Zm E YX8_each (d + 1) M [(0, vr (some (97, 1, 0))), (2, vi l2)] 29 [] Q := by
  refine Zm.l (fun _ _ k_ => z_aload_n dX8_each_29 rfl rfl k_) ?_
  refine Zm.l (fun _ _ k_ => z_dup dX8_each_30 rfl k_) ?_
  refine zm_geti dX8_each_31 fsX8_392_1 (by decide) (by decide) ?_
  refine Zm.l (fun _ _ k_ => z_iconst (v := 1) dX8_each_34 rfl k_) ?_
  refine Zm.l (fun _ _ k_ => z_iadd dX8_each_35 k_) ?_
  refine zm_puti (by decide) (by decide) dX8_each_36 (zfwN.w fwX8_392_1) rfl ⟨rfl, rfl⟩ ?_
  refine Zm.l (fun _ _ k_ => z_aload_n dX8_each_39 rfl rfl k_) ?_
  refine Zm.l (fun _ _ k_ => z_iconst (v := 1) dX8_each_40 rfl k_) ?_
  exact zm_callV (as := [vi (1 : Int32)]) (st := []) dX8_each_41 vsX8_502_1 (Nat.le_refl _) (Nat.le_of_ble_eq_true rfl) (Nat.le_of_ble_eq_true rfl) rfl k
theorem sX8_each_44 {E : zE} {d : Nat} {Q : zO → zM → Prop} (M : zM) (l2 : Int32) (s0 : Int32) (k : Zm E YX8_must d M (zargs 0 [vr (some (97, 1, 0)), vi (27 : Int32)]) 0 [] (zma E YX8_each (d + 1) [(0, vr (some (97, 1, 0))), (2, vi l2), (3, vi s0)] 48 3 [] Q)) : Zm E YX8_each (d + 1) M [(0, vr (some (97, 1, 0))), (2, vi l2)] 44 [vi s0] Q := by
  refine Zm.l (fun _ _ k_ => z_ist_n dX8_each_44 rfl (by decide) (lv' := [(0, vr (some (97, 1, 0))), (2, vi l2), (3, vi s0)]) rfl k_) ?_
  refine Zm.l (fun _ _ k_ => z_aload_n dX8_each_45 rfl rfl k_) ?_
  refine Zm.l (fun _ _ k_ => z_bipush (v := 27) dX8_each_46 rfl k_) ?_
  exact zm_callV (as := [vi (27 : Int32)]) (st := []) dX8_each_48 vsX8_473_1 (Nat.le_refl _) (Nat.le_of_ble_eq_true rfl) (Nat.le_of_ble_eq_true rfl) rfl k
theorem sX8_each_51 {E : zE} {d : Nat} {Q : zO → zM → Prop} (M : zM) (l2 : Int32) (l3 : Int32) (s0 : Int32) (k : if s0 = 0 then (Q (.inl (some (vi (-1 : Int32)))) M) else (Zm E YX8_looped d M (zargs 0 [vr (some (97, 1, 0))]) 0 [] (zma E YX8_each (d + 1) [] 62 3 [vi l3, vi l2, vi (28 : Int32), vr (some (97, 1, 0))] Q))) : Zm E YX8_each (d + 1) M [(0, vr (some (97, 1, 0))), (2, vi l2), (3, vi l3)] 51 [vi s0] Q := by
  refine Zm.brn (fun _ _ k1_ k2_ => z_if_ne (tgt := 56) dX8_each_51 rfl k1_ k2_) (fun h_ => ?_) (fun h_ => ?_)
  · have k := zif h_ k
    refine Zm.l (fun _ _ k_ => z_aload_n dX8_each_56 rfl rfl k_) ?_
    refine Zm.l (fun _ _ k_ => z_bipush (v := 28) dX8_each_57 rfl k_) ?_
    refine Zm.l (fun _ _ k_ => z_iload_n dX8_each_59 rfl rfl k_) ?_
    refine Zm.l (fun _ _ k_ => z_iload_n dX8_each_60 rfl rfl k_) ?_
    refine Zm.l (fun _ _ k_ => z_aload_n dX8_each_61 rfl rfl k_) ?_
    refine Zm.pick [] rfl ?_
    exact zm_callV (as := []) (st := [vi l3, vi l2, vi (28 : Int32), vr (some (97, 1, 0))]) dX8_each_62 vsX8_580_1 (Nat.le_refl _) (Nat.le_of_ble_eq_true rfl) (Nat.le_of_ble_eq_true rfl) rfl k
  · have k := zit h_ k
    refine Zm.l (fun _ _ k_ => z_iconst (v := -1) dX8_each_54 rfl k_) ?_
    exact zm_iret dX8_each_55 rfl rfl k
theorem sX8_each_65 {E : zE} {d : Nat} {Q : zO → zM → Prop} (M : zM) (s0 : Int32) (s1 : Int32) (s2 : Int32) (s3 : Int32) (k : Zm E YX8_node d M (zargs 0 [vr (some (97, 1, 0)), vi s3, vi s2, vi s1, vi s0]) 0 [] (zma E YX8_each (d + 1) [] 65 3 [] Q)) : Zm E YX8_each (d + 1) M [] 65 [vi s0, vi s1, vi s2, vi s3, vr (some (97, 1, 0))] Q := by
  exact zm_callV (as := [vi s3, vi s2, vi s1, vi s0]) (st := []) dX8_each_65 vsX8_446_1 (Nat.le_refl _) (Nat.le_of_ble_eq_true rfl) (Nat.le_of_ble_eq_true rfl) rfl k
theorem sX8_each_68 {E : zE} {d : Nat} {Q : zO → zM → Prop} (M : zM) (s0 : Int32) (k : Q (.inl (some (vi s0))) M) : Zm E YX8_each (d + 1) M [] 68 [vi s0] Q := by
  exact zm_iret dX8_each_68 rfl rfl k
/-! ScriptTypesModel.back()I -/
theorem bX8_back_2_0 : zdec cX8_back_2 0 [(0, .aload_n 0, 1), (1, .dup, 1), (2, .getfield 392, 3), (5, .iconst 1, 1), (6, .iadd, 1), (7, .putfield 392, 3), (10, .aload_n 0, 1), (11, .getfield 39, 3), (14, .aload_n 0, 1), (15, .getfield 392, 3), (18, .iaload, 1), (19, .aload_n 0, 1), (20, .getfield 39, 3), (23, .aload_n 0, 1), (24, .getfield 392, 3), (27, .iconst 1, 1)] = true := by decide +kernel
theorem dX8_back_2_0 : decode cX8_back_2 0 = .ok (.aload_n 0, 1) := zdec_at bX8_back_2_0 0 rfl
theorem dX8_back_2_1 : decode cX8_back_2 1 = .ok (.dup, 1) := zdec_at bX8_back_2_0 1 rfl
theorem dX8_back_2_2 : decode cX8_back_2 2 = .ok (.getfield 392, 3) := zdec_at bX8_back_2_0 2 rfl
theorem dX8_back_2_5 : decode cX8_back_2 5 = .ok (.iconst 1, 1) := zdec_at bX8_back_2_0 3 rfl
theorem dX8_back_2_6 : decode cX8_back_2 6 = .ok (.iadd, 1) := zdec_at bX8_back_2_0 4 rfl
theorem dX8_back_2_7 : decode cX8_back_2 7 = .ok (.putfield 392, 3) := zdec_at bX8_back_2_0 5 rfl
theorem dX8_back_2_10 : decode cX8_back_2 10 = .ok (.aload_n 0, 1) := zdec_at bX8_back_2_0 6 rfl
theorem dX8_back_2_11 : decode cX8_back_2 11 = .ok (.getfield 39, 3) := zdec_at bX8_back_2_0 7 rfl
theorem dX8_back_2_14 : decode cX8_back_2 14 = .ok (.aload_n 0, 1) := zdec_at bX8_back_2_0 8 rfl
theorem dX8_back_2_15 : decode cX8_back_2 15 = .ok (.getfield 392, 3) := zdec_at bX8_back_2_0 9 rfl
theorem dX8_back_2_18 : decode cX8_back_2 18 = .ok (.iaload, 1) := zdec_at bX8_back_2_0 10 rfl
theorem dX8_back_2_19 : decode cX8_back_2 19 = .ok (.aload_n 0, 1) := zdec_at bX8_back_2_0 11 rfl
theorem dX8_back_2_20 : decode cX8_back_2 20 = .ok (.getfield 39, 3) := zdec_at bX8_back_2_0 12 rfl
theorem dX8_back_2_23 : decode cX8_back_2 23 = .ok (.aload_n 0, 1) := zdec_at bX8_back_2_0 13 rfl
theorem dX8_back_2_24 : decode cX8_back_2 24 = .ok (.getfield 392, 3) := zdec_at bX8_back_2_0 14 rfl
theorem dX8_back_2_27 : decode cX8_back_2 27 = .ok (.iconst 1, 1) := zdec_at bX8_back_2_0 15 rfl
theorem bX8_back_2_28 : zdec cX8_back_2 28 [(28, .isub, 1), (29, .iaload, 1), (30, .if_icmp .ne 25, 3), (33, .aload_n 0, 1), (34, .bipush 31, 2), (36, .invokevirtual 398, 3), (39, .ifCond .ne 16, 3), (42, .aload_n 0, 1), (43, .bipush 25, 2), (45, .invokevirtual 398, 3), (48, .ifCond .ne 7, 3), (51, .iconst 1, 1), (52, .goto 4, 3), (55, .iconst 0, 1), (56, .istore_n 1, 1), (57, .aload_n 0, 1)] = true := by decide +kernel
theorem dX8_back_2_28 : decode cX8_back_2 28 = .ok (.isub, 1) := zdec_at bX8_back_2_28 0 rfl
theorem dX8_back_2_29 : decode cX8_back_2 29 = .ok (.iaload, 1) := zdec_at bX8_back_2_28 1 rfl
theorem dX8_back_2_30 : decode cX8_back_2 30 = .ok (.if_icmp .ne 25, 3) := zdec_at bX8_back_2_28 2 rfl
theorem dX8_back_2_33 : decode cX8_back_2 33 = .ok (.aload_n 0, 1) := zdec_at bX8_back_2_28 3 rfl
theorem dX8_back_2_34 : decode cX8_back_2 34 = .ok (.bipush 31, 2) := zdec_at bX8_back_2_28 4 rfl
theorem dX8_back_2_36 : decode cX8_back_2 36 = .ok (.invokevirtual 398, 3) := zdec_at bX8_back_2_28 5 rfl
theorem dX8_back_2_39 : decode cX8_back_2 39 = .ok (.ifCond .ne 16, 3) := zdec_at bX8_back_2_28 6 rfl
theorem dX8_back_2_42 : decode cX8_back_2 42 = .ok (.aload_n 0, 1) := zdec_at bX8_back_2_28 7 rfl
theorem dX8_back_2_43 : decode cX8_back_2 43 = .ok (.bipush 25, 2) := zdec_at bX8_back_2_28 8 rfl
theorem dX8_back_2_45 : decode cX8_back_2 45 = .ok (.invokevirtual 398, 3) := zdec_at bX8_back_2_28 9 rfl
theorem dX8_back_2_48 : decode cX8_back_2 48 = .ok (.ifCond .ne 7, 3) := zdec_at bX8_back_2_28 10 rfl
theorem dX8_back_2_51 : decode cX8_back_2 51 = .ok (.iconst 1, 1) := zdec_at bX8_back_2_28 11 rfl
theorem dX8_back_2_52 : decode cX8_back_2 52 = .ok (.goto 4, 3) := zdec_at bX8_back_2_28 12 rfl
theorem dX8_back_2_55 : decode cX8_back_2 55 = .ok (.iconst 0, 1) := zdec_at bX8_back_2_28 13 rfl
theorem dX8_back_2_56 : decode cX8_back_2 56 = .ok (.istore_n 1, 1) := zdec_at bX8_back_2_28 14 rfl
theorem dX8_back_2_57 : decode cX8_back_2 57 = .ok (.aload_n 0, 1) := zdec_at bX8_back_2_28 15 rfl
theorem bX8_back_2_58 : zdec cX8_back_2 58 [(58, .bipush 31, 2), (60, .iload_n 1, 1), (61, .ifCond .eq 11, 3), (64, .aload_n 0, 1), (65, .iconst 1, 1), (66, .invokevirtual 502, 3), (69, .goto 4, 3), (72, .iconst (-1), 1), (73, .iconst 0, 1), (74, .iconst 0, 1), (75, .invokevirtual 446, 3), (78, .istore_n 2, 1), (79, .aload_n 0, 1), (80, .invokevirtual 571, 3), (83, .iload_n 2, 1), (84, .ireturn, 1)] = true := by decide +kernel
theorem dX8_back_2_58 : decode cX8_back_2 58 = .ok (.bipush 31, 2) := zdec_at bX8_back_2_58 0 rfl
theorem dX8_back_2_60 : decode cX8_back_2 60 = .ok (.iload_n 1, 1) := zdec_at bX8_back_2_58 1 rfl
theorem dX8_back_2_61 : decode cX8_back_2 61 = .ok (.ifCond .eq 11, 3) := zdec_at bX8_back_2_58 2 rfl
theorem dX8_back_2_64 : decode cX8_back_2 64 = .ok (.aload_n 0, 1) := zdec_at bX8_back_2_58 3 rfl
theorem dX8_back_2_65 : decode cX8_back_2 65 = .ok (.iconst 1, 1) := zdec_at bX8_back_2_58 4 rfl
theorem dX8_back_2_66 : decode cX8_back_2 66 = .ok (.invokevirtual 502, 3) := zdec_at bX8_back_2_58 5 rfl
theorem dX8_back_2_69 : decode cX8_back_2 69 = .ok (.goto 4, 3) := zdec_at bX8_back_2_58 6 rfl
theorem dX8_back_2_72 : decode cX8_back_2 72 = .ok (.iconst (-1), 1) := zdec_at bX8_back_2_58 7 rfl
theorem dX8_back_2_73 : decode cX8_back_2 73 = .ok (.iconst 0, 1) := zdec_at bX8_back_2_58 8 rfl
theorem dX8_back_2_74 : decode cX8_back_2 74 = .ok (.iconst 0, 1) := zdec_at bX8_back_2_58 9 rfl
theorem dX8_back_2_75 : decode cX8_back_2 75 = .ok (.invokevirtual 446, 3) := zdec_at bX8_back_2_58 10 rfl
theorem dX8_back_2_78 : decode cX8_back_2 78 = .ok (.istore_n 2, 1) := zdec_at bX8_back_2_58 11 rfl
theorem dX8_back_2_79 : decode cX8_back_2 79 = .ok (.aload_n 0, 1) := zdec_at bX8_back_2_58 12 rfl
theorem dX8_back_2_80 : decode cX8_back_2 80 = .ok (.invokevirtual 571, 3) := zdec_at bX8_back_2_58 13 rfl
theorem dX8_back_2_83 : decode cX8_back_2 83 = .ok (.iload_n 2, 1) := zdec_at bX8_back_2_58 14 rfl
theorem dX8_back_2_84 : decode cX8_back_2 84 = .ok (.ireturn, 1) := zdec_at bX8_back_2_58 15 rfl
theorem sX8_back_2_0 {E : zE} {d : Nat} {Q : zO → zM → Prop} (M : zM)  (k : vp_in ((gi M 97 20) + (1 : Int32)) 4002 ∧ (vp_in (((gi M 97 20) + (1 : Int32)) - (1 : Int32)) 4002 ∧ (if (gi M 107 (((gi M 97 20) + (1 : Int32))).toNatClampNeg) = (gi M 107 ((((gi M 97 20) + (1 : Int32)) - (1 : Int32))).toNatClampNeg) then (Zm E YX8_isSign d (si M 97 20 ((gi M 97 20) + (1 : Int32))) (zargs 0 [vr (some (97, 1, 0)), vi (31 : Int32)]) 0 [] (zma E YX8_back_2 (d + 1) [(0, vr (some (97, 1, 0)))] 36 3 [] Q)) else (Zm E YX8_back_2 (d + 1) (si M 97 20 ((gi M 97 20) + (1 : Int32))) [(0, vr (some (97, 1, 0)))] 56 [vi (0 : Int32)] Q)))) : Zm E YX8_back_2 (d + 1) M [(0, vr (some (97, 1, 0)))] 0 [] Q := by
  refine Zm.l (fun _ _ k_ => z_aload_n dX8_back_2_0 rfl rfl k_) ?_
  refine Zm.l (fun _ _ k_ => z_dup dX8_back_2_1 rfl k_) ?_
  refine zm_geti dX8_back_2_2 fsX8_392_1 (by decide) (by decide) ?_
  refine Zm.l (fun _ _ k_ => z_iconst (v := 1) dX8_back_2_5 rfl k_) ?_
  refine Zm.l (fun _ _ k_ => z_iadd dX8_back_2_6 k_) ?_
  refine zm_puti (by decide) (by decide) dX8_back_2_7 (zfwN.w fwX8_392_1) rfl ⟨rfl, rfl⟩ ?_
  refine Zm.l (fun _ _ k_ => z_aload_n dX8_back_2_10 rfl rfl k_) ?_
  refine zm_getr 9 dX8_back_2_11 fsX8_39_1 rfl ?_
  refine Zm.l (fun _ _ k_ => z_aload_n dX8_back_2_14 rfl rfl k_) ?_
  refine zm_geti dX8_back_2_15 fsX8_392_1 (by decide) (by decide) ?_
  obtain ⟨b_, k⟩ := k
  refine zm_iald dX8_back_2_18 b_ (by decide) (by decide) ?_
  refine Zm.l (fun _ _ k_ => z_aload_n dX8_back_2_19 rfl rfl k_) ?_
  refine zm_getr 9 dX8_back_2_20 fsX8_39_1 rfl ?_
  refine Zm.l (fun _ _ k_ => z_aload_n dX8_back_2_23 rfl rfl k_) ?_
  refine zm_geti dX8_back_2_24 fsX8_392_1 (by decide) (by decide) ?_
  refine Zm.l (fun _ _ k_ => z_iconst (v := 1) dX8_back_2_27 rfl k_) ?_
  refine Zm.l (fun _ _ k_ => z_isub dX8_back_2_28 k_) ?_
  obtain ⟨b_, k⟩ := k
  refine zm_iald dX8_back_2_29 b_ (by decide) (by decide) ?_
  refine Zm.brn (fun _ _ k1_ k2_ => z_icmp_ne (tgt := 55) dX8_back_2_30 rfl k1_ k2_) (fun h_ => ?_) (fun h_ => ?_)
  · have k := zif h_ k
    refine Zm.l (fun _ _ k_ => z_iconst (v := 0) dX8_back_2_55 rfl k_) ?_
    exact k
  · have k := zit h_ k
    refine Zm.l (fun _ _ k_ => z_aload_n dX8_back_2_33 rfl rfl k_) ?_
    refine Zm.l (fun _ _ k_ => z_bipush (v := 31) dX8_back_2_34 rfl k_) ?_
    exact zm_callV (as := [vi (31 : Int32)]) (st := []) dX8_back_2_36 vsX8_398_1 (Nat.le_refl _) (Nat.le_of_ble_eq_true rfl) (Nat.le_of_ble_eq_true rfl) rfl k
theorem sX8_back_2_39 {E : zE} {d : Nat} {Q : zO → zM → Prop} (M : zM) (s0 : Int32) (k : if s0 = 0 then (Zm E YX8_isSign d M (zargs 0 [vr (some (97, 1, 0)), vi (25 : Int32)]) 0 [] (zma E YX8_back_2 (d + 1) [(0, vr (some (97, 1, 0)))] 45 3 [] Q)) else (Zm E YX8_back_2 (d + 1) M [(0, vr (some (97, 1, 0)))] 56 [vi (0 : Int32)] Q)) : Zm E YX8_back_2 (d + 1) M [(0, vr (some (97, 1, 0)))] 39 [vi s0] Q := by
  refine Zm.brn (fun _ _ k1_ k2_ => z_if_ne (tgt := 55) dX8_back_2_39 rfl k1_ k2_) (fun h_ => ?_) (fun h_ => ?_)
  · have k := zif h_ k
    refine Zm.l (fun _ _ k_ => z_iconst (v := 0) dX8_back_2_55 rfl k_) ?_
    exact k
  · have k := zit h_ k
    refine Zm.l (fun _ _ k_ => z_aload_n dX8_back_2_42 rfl rfl k_) ?_
    refine Zm.l (fun _ _ k_ => z_bipush (v := 25) dX8_back_2_43 rfl k_) ?_
    exact zm_callV (as := [vi (25 : Int32)]) (st := []) dX8_back_2_45 vsX8_398_1 (Nat.le_refl _) (Nat.le_of_ble_eq_true rfl) (Nat.le_of_ble_eq_true rfl) rfl k
theorem sX8_back_2_48 {E : zE} {d : Nat} {Q : zO → zM → Prop} (M : zM) (s0 : Int32) (k : if s0 = 0 then (Zm E YX8_back_2 (d + 1) M [(0, vr (some (97, 1, 0)))] 56 [vi (1 : Int32)] Q) else (Zm E YX8_back_2 (d + 1) M [(0, vr (some (97, 1, 0)))] 56 [vi (0 : Int32)] Q)) : Zm E YX8_back_2 (d + 1) M [(0, vr (some (97, 1, 0)))] 48 [vi s0] Q := by
  refine Zm.brn (fun _ _ k1_ k2_ => z_if_ne (tgt := 55) dX8_back_2_48 rfl k1_ k2_) (fun h_ => ?_) (fun h_ => ?_)
  · have k := zif h_ k
    refine Zm.l (fun _ _ k_ => z_iconst (v := 0) dX8_back_2_55 rfl k_) ?_
    exact k
  · have k := zit h_ k
    refine Zm.l (fun _ _ k_ => z_iconst (v := 1) dX8_back_2_51 rfl k_) ?_
    refine Zm.l (fun _ _ k_ => z_goto (tgt := 56) dX8_back_2_52 rfl k_) ?_
    exact k
theorem sX8_back_2_56 {E : zE} {d : Nat} {Q : zO → zM → Prop} (M : zM) (s0 : Int32) (k : if s0 = 0 then (Zm E YX8_node d M (zargs 0 [vr (some (97, 1, 0)), vi (31 : Int32), vi (-1 : Int32), vi (0 : Int32), vi (0 : Int32)]) 0 [] (zma E YX8_back_2 (d + 1) [(0, vr (some (97, 1, 0)))] 75 3 [] Q)) else (Zm E YX8_expression d M (zargs 0 [vr (some (97, 1, 0)), vi (1 : Int32)]) 0 [] (zma E YX8_back_2 (d + 1) [(0, vr (some (97, 1, 0)))] 66 3 [vi (31 : Int32), vr (some (97, 1, 0))] Q))) : Zm E YX8_back_2 (d + 1) M [(0, vr (some (97, 1, 0)))] 56 [vi s0] Q := by
  refine Zm.l (fun _ _ k_ => z_ist_n dX8_back_2_56 rfl (by decide) (lv' := [(0, vr (some (97, 1, 0))), (1, vi s0)]) rfl k_) ?_
  refine Zm.l (fun _ _ k_ => z_aload_n dX8_back_2_57 rfl rfl k_) ?_
  refine Zm.l (fun _ _ k_ => z_bipush (v := 31) dX8_back_2_58 rfl k_) ?_
  refine Zm.l (fun _ _ k_ => z_iload_n dX8_back_2_60 rfl rfl k_) ?_
  refine Zm.br (fun _ _ k1_ k2_ => z_if_eq (tgt := 72) dX8_back_2_61 rfl k1_ k2_) (fun h_ => ?_) (fun h_ => ?_)
  · have k := zit h_ k
    refine Zm.l (fun _ _ k_ => z_iconst (v := -1) dX8_back_2_72 rfl k_) ?_
    refine Zm.l (fun _ _ k_ => z_iconst (v := 0) dX8_back_2_73 rfl k_) ?_
    refine Zm.l (fun _ _ k_ => z_iconst (v := 0) dX8_back_2_74 rfl k_) ?_
    refine Zm.pick [0] rfl ?_
    exact zm_callV (as := [vi (31 : Int32), vi (-1 : Int32), vi (0 : Int32), vi (0 : Int32)]) (st := []) dX8_back_2_75 vsX8_446_1 (Nat.le_refl _) (Nat.le_of_ble_eq_true rfl) (Nat.le_of_ble_eq_true rfl) rfl k
  · have k := zif h_ k
    refine Zm.l (fun _ _ k_ => z_aload_n dX8_back_2_64 rfl rfl k_) ?_
    refine Zm.l (fun _ _ k_ => z_iconst (v := 1) dX8_back_2_65 rfl k_) ?_
    refine Zm.pick [0] rfl ?_
    exact zm_callV (as := [vi (1 : Int32)]) (st := [vi (31 : Int32), vr (some (97, 1, 0))]) dX8_back_2_66 vsX8_502_1 (Nat.le_refl _) (Nat.le_of_ble_eq_true rfl) (Nat.le_of_ble_eq_true rfl) rfl k
theorem sX8_back_2_69 {E : zE} {d : Nat} {Q : zO → zM → Prop} (M : zM) (s0 : Int32) (s1 : Int32) (k : Zm E YX8_node d M (zargs 0 [vr (some (97, 1, 0)), vi s1, vi s0, vi (0 : Int32), vi (0 : Int32)]) 0 [] (zma E YX8_back_2 (d + 1) [(0, vr (some (97, 1, 0)))] 75 3 [] Q)) : Zm E YX8_back_2 (d + 1) M [(0, vr (some (97, 1, 0)))] 69 [vi s0, vi s1, vr (some (97, 1, 0))] Q := by
  refine Zm.l (fun _ _ k_ => z_goto (tgt := 73) dX8_back_2_69 rfl k_) ?_
  refine Zm.l (fun _ _ k_ => z_iconst (v := 0) dX8_back_2_73 rfl k_) ?_
  refine Zm.l (fun _ _ k_ => z_iconst (v := 0) dX8_back_2_74 rfl k_) ?_
  exact zm_callV (as := [vi s1, vi s0, vi (0 : Int32), vi (0 : Int32)]) (st := []) dX8_back_2_75 vsX8_446_1 (Nat.le_refl _) (Nat.le_of_ble_eq_true rfl) (Nat.le_of_ble_eq_true rfl) rfl k
theorem sX8_back_2_78 {E : zE} {d : Nat} {Q : zO → zM → Prop} (M : zM) (s0 : Int32) (k : Zm E YX8_endOfStatement d M (zargs 0 [vr (some (97, 1, 0))]) 0 [] (zma E YX8_back_2 (d + 1) [(2, vi s0)] 80 3 [] Q)) : Zm E YX8_back_2 (d + 1) M [(0, vr (some (97, 1, 0)))] 78 [vi s0] Q := by
  refine Zm.l (fun _ _ k_ => z_ist_n dX8_back_2_78 rfl (by decide) (lv' := [(0, vr (some (97, 1, 0))), (2, vi s0)]) rfl k_) ?_
  refine Zm.l (fun _ _ k_ => z_aload_n dX8_back_2_79 rfl rfl k_) ?_
  refine Zm.pick [1] rfl ?_
  exact zm_callV (as := []) (st := []) dX8_back_2_80 vsX8_571_1 (Nat.le_refl _) (Nat.le_of_ble_eq_true rfl) (Nat.le_of_ble_eq_true rfl) rfl k
theorem sX8_back_2_83 {E : zE} {d : Nat} {Q : zO → zM → Prop} (M : zM) (l2 : Int32) (k : Q (.inl (some (vi l2))) M) : Zm E YX8_back_2 (d + 1) M [(2, vi l2)] 83 [] Q := by
  refine Zm.l (fun _ _ k_ => z_iload_n dX8_back_2_83 rfl rfl k_) ?_
  exact zm_iret dX8_back_2_84 rfl rfl k
/-! ScriptTypesModel.toss()I -/
theorem bX8_toss_0 : zdec cX8_toss 0 [(0, .aload_n 0, 1), (1, .dup, 1), (2, .getfield 392, 3), (5, .iconst 1, 1), (6, .iadd, 1), (7, .putfield 392, 3), (10, .aload_n 0, 1), (11, .getfield 39, 3), (14, .aload_n 0, 1), (15, .getfield 392, 3), (18, .iaload, 1), (19, .aload_n 0, 1), (20, .getfield 39, 3), (23, .aload_n 0, 1), (24, .getfield 392, 3), (27, .iconst 1, 1)] = true := by decide +kernel
theorem dX8_toss_0 : decode cX8_toss 0 = .ok (.aload_n 0, 1) := zdec_at bX8_toss_0 0 rfl
theorem dX8_toss_1 : decode cX8_toss 1 = .ok (.dup, 1) := zdec_at bX8_toss_0 1 rfl
theorem dX8_toss_2 : decode cX8_toss 2 = .ok (.getfield 392, 3) := zdec_at bX8_toss_0 2 rfl
theorem dX8_toss_5 : decode cX8_toss 5 = .ok (.iconst 1, 1) := zdec_at bX8_toss_0 3 rfl
theorem dX8_toss_6 : decode cX8_toss 6 = .ok (.iadd, 1) := zdec_at bX8_toss_0 4 rfl
theorem dX8_toss_7 : decode cX8_toss 7 = .ok (.putfield 392, 3) := zdec_at bX8_toss_0 5 rfl
theorem dX8_toss_10 : decode cX8_toss 10 = .ok (.aload_n 0, 1) := zdec_at bX8_toss_0 6 rfl
theorem dX8_toss_11 : decode cX8_toss 11 = .ok (.getfield 39, 3) := zdec_at bX8_toss_0 7 rfl
theorem dX8_toss_14 : decode cX8_toss 14 = .ok (.aload_n 0, 1) := zdec_at bX8_toss_0 8 rfl
theorem dX8_toss_15 : decode cX8_toss 15 = .ok (.getfield 392, 3) := zdec_at bX8_toss_0 9 rfl
theorem dX8_toss_18 : decode cX8_toss 18 = .ok (.iaload, 1) := zdec_at bX8_toss_0 10 rfl
theorem dX8_toss_19 : decode cX8_toss 19 = .ok (.aload_n 0, 1) := zdec_at bX8_toss_0 11 rfl
theorem dX8_toss_20 : decode cX8_toss 20 = .ok (.getfield 39, 3) := zdec_at bX8_toss_0 12 rfl
theorem dX8_toss_23 : decode cX8_toss 23 = .ok (.aload_n 0, 1) := zdec_at bX8_toss_0 13 rfl
theorem dX8_toss_24 : decode cX8_toss 24 = .ok (.getfield 392, 3) := zdec_at bX8_toss_0 14 rfl
theorem dX8_toss_27 : decode cX8_toss 27 = .ok (.iconst 1, 1) := zdec_at bX8_toss_0 15 rfl
theorem bX8_toss_28 : zdec cX8_toss 28 [(28, .isub, 1), (29, .iaload, 1), (30, .if_icmp .eq 9, 3), (33, .aload_n 0, 1), (34, .iconst 2, 1), (35, .invokevirtual 401, 3), (38, .pop, 1), (39, .aload_n 0, 1), (40, .bipush 32, 2), (42, .aload_n 0, 1), (43, .getfield 389, 3), (46, .ifCond .le 7, 3), (49, .iconst (-1), 1), (50, .goto 8, 3), (53, .aload_n 0, 1), (54, .iconst 1, 1)] = true := by decide +kernel
theorem dX8_toss_28 : decode cX8_toss 28 = .ok (.isub, 1) := zdec_at bX8_toss_28 0 rfl
theorem dX8_toss_29 : decode cX8_toss 29 = .ok (.iaload, 1) := zdec_at bX8_toss_28 1 rfl
theorem dX8_toss_30 : decode cX8_toss 30 = .ok (.if_icmp .eq 9, 3) := zdec_at bX8_toss_28 2 rfl
theorem dX8_toss_33 : decode cX8_toss 33 = .ok (.aload_n 0, 1) := zdec_at bX8_toss_28 3 rfl
theorem dX8_toss_34 : decode cX8_toss 34 = .ok (.iconst 2, 1) := zdec_at bX8_toss_28 4 rfl
theorem dX8_toss_35 : decode cX8_toss 35 = .ok (.invokevirtual 401, 3) := zdec_at bX8_toss_28 5 rfl
theorem dX8_toss_38 : decode cX8_toss 38 = .ok (.pop, 1) := zdec_at bX8_toss_28 6 rfl
theorem dX8_toss_39 : decode cX8_toss 39 = .ok (.aload_n 0, 1) := zdec_at bX8_toss_28 7 rfl
theorem dX8_toss_40 : decode cX8_toss 40 = .ok (.bipush 32, 2) := zdec_at bX8_toss_28 8 rfl
theorem dX8_toss_42 : decode cX8_toss 42 = .ok (.aload_n 0, 1) := zdec_at bX8_toss_28 9 rfl
theorem dX8_toss_43 : decode cX8_toss 43 = .ok (.getfield 389, 3) := zdec_at bX8_toss_28 10 rfl
theorem dX8_toss_46 : decode cX8_toss 46 = .ok (.ifCond .le 7, 3) := zdec_at bX8_toss_28 11 rfl
theorem dX8_toss_49 : decode cX8_toss 49 = .ok (.iconst (-1), 1) := zdec_at bX8_toss_28 12 rfl
theorem dX8_toss_50 : decode cX8_toss 50 = .ok (.goto 8, 3) := zdec_at bX8_toss_28 13 rfl
theorem dX8_toss_53 : decode cX8_toss 53 = .ok (.aload_n 0, 1) := zdec_at bX8_toss_28 14 rfl
theorem dX8_toss_54 : decode cX8_toss 54 = .ok (.iconst 1, 1) := zdec_at bX8_toss_28 15 rfl
theorem bX8_toss_55 : zdec cX8_toss 55 [(55, .invokevirtual 502, 3), (58, .iconst 0, 1), (59, .iconst 0, 1), (60, .invokevirtual 446, 3), (63, .istore_n 1, 1), (64, .aload_n 0, 1), (65, .invokevirtual 571, 3), (68, .iload_n 1, 1), (69, .ireturn, 1)] = true := by decide +kernel
theorem dX8_toss_55 : decode cX8_toss 55 = .ok (.invokevirtual 502, 3) := zdec_at bX8_toss_55 0 rfl
theorem dX8_toss_58 : decode cX8_toss 58 = .ok (.iconst 0, 1) := zdec_at bX8_toss_55 1 rfl
theorem dX8_toss_59 : decode cX8_toss 59 = .ok (.iconst 0, 1) := zdec_at bX8_toss_55 2 rfl
theorem dX8_toss_60 : decode cX8_toss 60 = .ok (.invokevirtual 446, 3) := zdec_at bX8_toss_55 3 rfl
theorem dX8_toss_63 : decode cX8_toss 63 = .ok (.istore_n 1, 1) := zdec_at bX8_toss_55 4 rfl
theorem dX8_toss_64 : decode cX8_toss 64 = .ok (.aload_n 0, 1) := zdec_at bX8_toss_55 5 rfl
theorem dX8_toss_65 : decode cX8_toss 65 = .ok (.invokevirtual 571, 3) := zdec_at bX8_toss_55 6 rfl
theorem dX8_toss_68 : decode cX8_toss 68 = .ok (.iload_n 1, 1) := zdec_at bX8_toss_55 7 rfl
theorem dX8_toss_69 : decode cX8_toss 69 = .ok (.ireturn, 1) := zdec_at bX8_toss_55 8 rfl
theorem sX8_toss_0 {E : zE} {d : Nat} {Q : zO → zM → Prop} (M : zM)  (k : vp_in ((gi M 97 20) + (1 : Int32)) 4002 ∧ (vp_in (((gi M 97 20) + (1 : Int32)) - (1 : Int32)) 4002 ∧ (if (gi M 107 (((gi M 97 20) + (1 : Int32))).toNatClampNeg) = (gi M 107 ((((gi M 97 20) + (1 : Int32)) - (1 : Int32))).toNatClampNeg) then (Zm E YX8_toss (d + 1) (si M 97 20 ((gi M 97 20) + (1 : Int32))) [(0, vr (some (97, 1, 0)))] 39 [] Q) else (Zm E YX8_fail d (si M 97 20 ((gi M 97 20) + (1 : Int32))) (zargs 0 [vr (some (97, 1, 0)), vi (2 : Int32)]) 0 [] (zma E YX8_toss (d + 1) [(0, vr (some (97, 1, 0)))] 35 3 [] Q))))) : Zm E YX8_toss (d + 1) M [(0, vr (some (97, 1, 0)))] 0 [] Q := by
  refine Zm.l (fun _ _ k_ => z_aload_n dX8_toss_0 rfl rfl k_) ?_
  refine Zm.l (fun _ _ k_ => z_dup dX8_toss_1 rfl k_) ?_
  refine zm_geti dX8_toss_2 fsX8_392_1 (by decide) (by decide) ?_
  refine Zm.l (fun _ _ k_ => z_iconst (v := 1) dX8_toss_5 rfl k_) ?_
  refine Zm.l (fun _ _ k_ => z_iadd dX8_toss_6 k_) ?_
  refine zm_puti (by decide) (by decide) dX8_toss_7 (zfwN.w fwX8_392_1) rfl ⟨rfl, rfl⟩ ?_
  refine Zm.l (fun _ _ k_ => z_aload_n dX8_toss_10 rfl rfl k_) ?_
  refine zm_getr 9 dX8_toss_11 fsX8_39_1 rfl ?_
  refine Zm.l (fun _ _ k_ => z_aload_n dX8_toss_14 rfl rfl k_) ?_
  refine zm_geti dX8_toss_15 fsX8_392_1 (by decide) (by decide) ?_
  obtain ⟨b_, k⟩ := k
  refine zm_iald dX8_toss_18 b_ (by decide) (by decide) ?_
  refine Zm.l (fun _ _ k_ => z_aload_n dX8_toss_19 rfl rfl k_) ?_
  refine zm_getr 9 dX8_toss_20 fsX8_39_1 rfl ?_
  refine Zm.l (fun _ _ k_ => z_aload_n dX8_toss_23 rfl rfl k_) ?_
  refine zm_geti dX8_toss_24 fsX8_392_1 (by decide) (by decide) ?_
  refine Zm.l (fun _ _ k_ => z_iconst (v := 1) dX8_toss_27 rfl k_) ?_
  refine Zm.l (fun _ _ k_ => z_isub dX8_toss_28 k_) ?_
  obtain ⟨b_, k⟩ := k
  refine zm_iald dX8_toss_29 b_ (by decide) (by decide) ?_
  refine Zm.br (fun _ _ k1_ k2_ => z_icmp_eq (tgt := 39) dX8_toss_30 rfl k1_ k2_) (fun h_ => ?_) (fun h_ => ?_)
  · have k := zit h_ k
    exact k
  · have k := zif h_ k
    refine Zm.l (fun _ _ k_ => z_aload_n dX8_toss_33 rfl rfl k_) ?_
    refine Zm.l (fun _ _ k_ => z_iconst (v := 2) dX8_toss_34 rfl k_) ?_
    exact zm_callV (as := [vi (2 : Int32)]) (st := []) dX8_toss_35 vsX8_401_1 (Nat.le_refl _) (Nat.le_of_ble_eq_true rfl) (Nat.le_of_ble_eq_true rfl) rfl k
theorem sX8_toss_38 {E : zE} {d : Nat} {Q : zO → zM → Prop} (M : zM) (s0 : Int32) (k : Zm E YX8_toss (d + 1) M [(0, vr (some (97, 1, 0)))] 39 [] Q) : Zm E YX8_toss (d + 1) M [(0, vr (some (97, 1, 0)))] 38 [vi s0] Q := by
  refine Zm.l (fun _ _ k_ => z_pop dX8_toss_38 rfl k_) ?_
  exact k
theorem sX8_toss_39 {E : zE} {d : Nat} {Q : zO → zM → Prop} (M : zM)  (k : if (gi M 97 21) ≤ 0 then (Zm E YX8_expression d M (zargs 0 [vr (some (97, 1, 0)), vi (1 : Int32)]) 0 [] (zma E YX8_toss (d + 1) [(0, vr (some (97, 1, 0)))] 55 3 [vi (32 : Int32), vr (some (97, 1, 0))] Q)) else (Zm E YX8_toss (d + 1) M [(0, vr (some (97, 1, 0)))] 58 [vi (-1 : Int32), vi (32 : Int32), vr (some (97, 1, 0))] Q)) : Zm E YX8_toss (d + 1) M [(0, vr (some (97, 1, 0)))] 39 [] Q := by
  refine Zm.l (fun _ _ k_ => z_aload_n dX8_toss_39 rfl rfl k_) ?_
  refine Zm.l (fun _ _ k_ => z_bipush (v := 32) dX8_toss_40 rfl k_) ?_
  refine Zm.l (fun _ _ k_ => z_aload_n dX8_toss_42 rfl rfl k_) ?_
  refine zm_geti dX8_toss_43 fsX8_389_1 (by decide) (by decide) ?_
  refine Zm.br (fun _ _ k1_ k2_ => z_if_le (tgt := 53) dX8_toss_46 rfl k1_ k2_) (fun h_ => ?_) (fun h_ => ?_)
  · have k := zit h_ k
    refine Zm.l (fun _ _ k_ => z_aload_n dX8_toss_53 rfl rfl k_) ?_
    refine Zm.l (fun _ _ k_ => z_iconst (v := 1) dX8_toss_54 rfl k_) ?_
    exact zm_callV (as := [vi (1 : Int32)]) (st := [vi (32 : Int32), vr (some (97, 1, 0))]) dX8_toss_55 vsX8_502_1 (Nat.le_refl _) (Nat.le_of_ble_eq_true rfl) (Nat.le_of_ble_eq_true rfl) rfl k
  · have k := zif h_ k
    refine Zm.l (fun _ _ k_ => z_iconst (v := -1) dX8_toss_49 rfl k_) ?_
    refine Zm.l (fun _ _ k_ => z_goto (tgt := 58) dX8_toss_50 rfl k_) ?_
    exact k
theorem sX8_toss_58 {E : zE} {d : Nat} {Q : zO → zM → Prop} (M : zM) (s0 : Int32) (s1 : Int32) (k : Zm E YX8_node d M (zargs 0 [vr (some (97, 1, 0)), vi s1, vi s0, vi (0 : Int32), vi (0 : Int32)]) 0 [] (zma E YX8_toss (d + 1) [(0, vr (some (97, 1, 0)))] 60 3 [] Q)) : Zm E YX8_toss (d + 1) M [(0, vr (some (97, 1, 0)))] 58 [vi s0, vi s1, vr (some (97, 1, 0))] Q := by
  refine Zm.l (fun _ _ k_ => z_iconst (v := 0) dX8_toss_58 rfl k_) ?_
  refine Zm.l (fun _ _ k_ => z_iconst (v := 0) dX8_toss_59 rfl k_) ?_
  exact zm_callV (as := [vi s1, vi s0, vi (0 : Int32), vi (0 : Int32)]) (st := []) dX8_toss_60 vsX8_446_1 (Nat.le_refl _) (Nat.le_of_ble_eq_true rfl) (Nat.le_of_ble_eq_true rfl) rfl k
theorem sX8_toss_63 {E : zE} {d : Nat} {Q : zO → zM → Prop} (M : zM) (s0 : Int32) (k : Zm E YX8_endOfStatement d M (zargs 0 [vr (some (97, 1, 0))]) 0 [] (zma E YX8_toss (d + 1) [(1, vi s0)] 65 3 [] Q)) : Zm E YX8_toss (d + 1) M [(0, vr (some (97, 1, 0)))] 63 [vi s0] Q := by
  refine Zm.l (fun _ _ k_ => z_ist_n dX8_toss_63 rfl (by decide) (lv' := [(0, vr (some (97, 1, 0))), (1, vi s0)]) rfl k_) ?_
  refine Zm.l (fun _ _ k_ => z_aload_n dX8_toss_64 rfl rfl k_) ?_
  refine Zm.pick [1] rfl ?_
  exact zm_callV (as := []) (st := []) dX8_toss_65 vsX8_571_1 (Nat.le_refl _) (Nat.le_of_ble_eq_true rfl) (Nat.le_of_ble_eq_true rfl) rfl k
theorem sX8_toss_68 {E : zE} {d : Nat} {Q : zO → zM → Prop} (M : zM) (l1 : Int32) (k : Q (.inl (some (vi l1))) M) : Zm E YX8_toss (d + 1) M [(1, vi l1)] 68 [] Q := by
  refine Zm.l (fun _ _ k_ => z_iload_n dX8_toss_68 rfl rfl k_) ?_
  exact zm_iret dX8_toss_69 rfl rfl k
/-! ScriptTypesModel.attempt()I -/
theorem bX8_attempt_0 : zdec cX8_attempt 0 [(0, .aload_n 0, 1), (1, .dup, 1), (2, .getfield 392, 3), (5, .iconst 1, 1), (6, .iadd, 1), (7, .putfield 392, 3), (10, .aload_n 0, 1), (11, .bipush 33, 2), (13, .iconst (-1), 1), (14, .iconst (-1), 1), (15, .iconst (-1), 1), (16, .invokevirtual 446, 3), (19, .istore_n 1, 1), (20, .aload_n 0, 1), (21, .invokevirtual 562, 3), (24, .istore_n 2, 1)] = true := by decide +kernel
theorem dX8_attempt_0 : decode cX8_attempt 0 = .ok (.aload_n 0, 1) := zdec_at bX8_attempt_0 0 rfl
theorem dX8_attempt_1 : decode cX8_attempt 1 = .ok (.dup, 1) := zdec_at bX8_attempt_0 1 rfl
theorem dX8_attempt_2 : decode cX8_attempt 2 = .ok (.getfield 392, 3) := zdec_at bX8_attempt_0 2 rfl
theorem dX8_attempt_5 : decode cX8_attempt 5 = .ok (.iconst 1, 1) := zdec_at bX8_attempt_0 3 rfl
theorem dX8_attempt_6 : decode cX8_attempt 6 = .ok (.iadd, 1) := zdec_at bX8_attempt_0 4 rfl
theorem dX8_attempt_7 : decode cX8_attempt 7 = .ok (.putfield 392, 3) := zdec_at bX8_attempt_0 5 rfl
theorem dX8_attempt_10 : decode cX8_attempt 10 = .ok (.aload_n 0, 1) := zdec_at bX8_attempt_0 6 rfl
theorem dX8_attempt_11 : decode cX8_attempt 11 = .ok (.bipush 33, 2) := zdec_at bX8_attempt_0 7 rfl
theorem dX8_attempt_13 : decode cX8_attempt 13 = .ok (.iconst (-1), 1) := zdec_at bX8_attempt_0 8 rfl
theorem dX8_attempt_14 : decode cX8_attempt 14 = .ok (.iconst (-1), 1) := zdec_at bX8_attempt_0 9 rfl
theorem dX8_attempt_15 : decode cX8_attempt 15 = .ok (.iconst (-1), 1) := zdec_at bX8_attempt_0 10 rfl
theorem dX8_attempt_16 : decode cX8_attempt 16 = .ok (.invokevirtual 446, 3) := zdec_at bX8_attempt_0 11 rfl
theorem dX8_attempt_19 : decode cX8_attempt 19 = .ok (.istore_n 1, 1) := zdec_at bX8_attempt_0 12 rfl
theorem dX8_attempt_20 : decode cX8_attempt 20 = .ok (.aload_n 0, 1) := zdec_at bX8_attempt_0 13 rfl
theorem dX8_attempt_21 : decode cX8_attempt 21 = .ok (.invokevirtual 562, 3) := zdec_at bX8_attempt_0 14 rfl
theorem dX8_attempt_24 : decode cX8_attempt 24 = .ok (.istore_n 2, 1) := zdec_at bX8_attempt_0 15 rfl
theorem bX8_attempt_25 : zdec cX8_attempt 25 [(25, .aload_n 0, 1), (26, .getfield 46, 3), (29, .iconst 5, 1), (30, .iload_n 1, 1), (31, .imul, 1), (32, .iload_n 2, 1), (33, .iastore, 1), (34, .iconst 0, 1), (35, .istore_n 3, 1), (36, .aload_n 0, 1), (37, .getfield 389, 3), (40, .ifCond .ne 80, 3), (43, .aload_n 0, 1), (44, .iconst 2, 1), (45, .invokevirtual 404, 3), (48, .ifCond .eq 72, 3)] = true := by decide +kernel
theorem dX8_attempt_25 : decode cX8_attempt 25 = .ok (.aload_n 0, 1) := zdec_at bX8_attempt_25 0 rfl
theorem dX8_attempt_26 : decode cX8_attempt 26 = .ok (.getfield 46, 3) := zdec_at bX8_attempt_25 1 rfl
theorem dX8_attempt_29 : decode cX8_attempt 29 = .ok (.iconst 5, 1) := zdec_at bX8_attempt_25 2 rfl
theorem dX8_attempt_30 : decode cX8_attempt 30 = .ok (.iload_n 1, 1) := zdec_at bX8_attempt_25 3 rfl
theorem dX8_attempt_31 : decode cX8_attempt 31 = .ok (.imul, 1) := zdec_at bX8_attempt_25 4 rfl
theorem dX8_attempt_32 : decode cX8_attempt 32 = .ok (.iload_n 2, 1) := zdec_at bX8_attempt_25 5 rfl
theorem dX8_attempt_33 : decode cX8_attempt 33 = .ok (.iastore, 1) := zdec_at bX8_attempt_25 6 rfl
theorem dX8_attempt_34 : decode cX8_attempt 34 = .ok (.iconst 0, 1) := zdec_at bX8_attempt_25 7 rfl
theorem dX8_attempt_35 : decode cX8_attempt 35 = .ok (.istore_n 3, 1) := zdec_at bX8_attempt_25 8 rfl
theorem dX8_attempt_36 : decode cX8_attempt 36 = .ok (.aload_n 0, 1) := zdec_at bX8_attempt_25 9 rfl
theorem dX8_attempt_37 : decode cX8_attempt 37 = .ok (.getfield 389, 3) := zdec_at bX8_attempt_25 10 rfl
theorem dX8_attempt_40 : decode cX8_attempt 40 = .ok (.ifCond .ne 80, 3) := zdec_at bX8_attempt_25 11 rfl
theorem dX8_attempt_43 : decode cX8_attempt 43 = .ok (.aload_n 0, 1) := zdec_at bX8_attempt_25 12 rfl
theorem dX8_attempt_44 : decode cX8_attempt 44 = .ok (.iconst 2, 1) := zdec_at bX8_attempt_25 13 rfl
theorem dX8_attempt_45 : decode cX8_attempt 45 = .ok (.invokevirtual 404, 3) := zdec_at bX8_attempt_25 14 rfl
theorem dX8_attempt_48 : decode cX8_attempt 48 = .ok (.ifCond .eq 72, 3) := zdec_at bX8_attempt_25 15 rfl
theorem bX8_attempt_51 : zdec cX8_attempt 51 [(51, .iconst 1, 1), (52, .istore_n 3, 1), (53, .aload_n 0, 1), (54, .dup, 1), (55, .getfield 392, 3), (58, .iconst 1, 1), (59, .iadd, 1), (60, .putfield 392, 3), (63, .aload_n 0, 1), (64, .bipush 26, 2), (66, .invokevirtual 473, 3), (69, .istore 4, 2), (71, .aload_n 0, 1), (72, .invokevirtual 536, 3), (75, .istore 5, 2), (77, .aload_n 0, 1)] = true := by decide +kernel
theorem dX8_attempt_51 : decode cX8_attempt 51 = .ok (.iconst 1, 1) := zdec_at bX8_attempt_51 0 rfl
theorem dX8_attempt_52 : decode cX8_attempt 52 = .ok (.istore_n 3, 1) := zdec_at bX8_attempt_51 1 rfl
theorem dX8_attempt_53 : decode cX8_attempt 53 = .ok (.aload_n 0, 1) := zdec_at bX8_attempt_51 2 rfl
theorem dX8_attempt_54 : decode cX8_attempt 54 = .ok (.dup, 1) := zdec_at bX8_attempt_51 3 rfl
theorem dX8_attempt_55 : decode cX8_attempt 55 = .ok (.getfield 392, 3) := zdec_at bX8_attempt_51 4 rfl
theorem dX8_attempt_58 : decode cX8_attempt 58 = .ok (.iconst 1, 1) := zdec_at bX8_attempt_51 5 rfl
theorem dX8_attempt_59 : decode cX8_attempt 59 = .ok (.iadd, 1) := zdec_at bX8_attempt_51 6 rfl
theorem dX8_attempt_60 : decode cX8_attempt 60 = .ok (.putfield 392, 3) := zdec_at bX8_attempt_51 7 rfl
theorem dX8_attempt_63 : decode cX8_attempt 63 = .ok (.aload_n 0, 1) := zdec_at bX8_attempt_51 8 rfl
theorem dX8_attempt_64 : decode cX8_attempt 64 = .ok (.bipush 26, 2) := zdec_at bX8_attempt_51 9 rfl
theorem dX8_attempt_66 : decode cX8_attempt 66 = .ok (.invokevirtual 473, 3) := zdec_at bX8_attempt_51 10 rfl
theorem dX8_attempt_69 : decode cX8_attempt 69 = .ok (.istore 4, 2) := zdec_at bX8_attempt_51 11 rfl
theorem dX8_attempt_71 : decode cX8_attempt 71 = .ok (.aload_n 0, 1) := zdec_at bX8_attempt_51 12 rfl
theorem dX8_attempt_72 : decode cX8_attempt 72 = .ok (.invokevirtual 536, 3) := zdec_at bX8_attempt_51 13 rfl
theorem dX8_attempt_75 : decode cX8_attempt 75 = .ok (.istore 5, 2) := zdec_at bX8_attempt_51 14 rfl
theorem dX8_attempt_77 : decode cX8_attempt 77 = .ok (.aload_n 0, 1) := zdec_at bX8_attempt_51 15 rfl
theorem bX8_attempt_78 : zdec cX8_attempt 78 [(78, .iload 5, 2), (80, .iconst 0, 1), (81, .invokevirtual 539, 3), (84, .aload_n 0, 1), (85, .bipush 27, 2), (87, .invokevirtual 473, 3), (90, .istore 6, 2), (92, .aload_n 0, 1), (93, .getfield 46, 3), (96, .iconst 5, 1), (97, .iload_n 1, 1), (98, .imul, 1), (99, .iconst 1, 1), (100, .iadd, 1), (101, .iload 5, 2), (103, .iastore, 1)] = true := by decide +kernel
theorem dX8_attempt_78 : decode cX8_attempt 78 = .ok (.iload 5, 2) := zdec_at bX8_attempt_78 0 rfl
theorem dX8_attempt_80 : decode cX8_attempt 80 = .ok (.iconst 0, 1) := zdec_at bX8_attempt_78 1 rfl
theorem dX8_attempt_81 : decode cX8_attempt 81 = .ok (.invokevirtual 539, 3) := zdec_at bX8_attempt_78 2 rfl
theorem dX8_attempt_84 : decode cX8_attempt 84 = .ok (.aload_n 0, 1) := zdec_at bX8_attempt_78 3 rfl
theorem dX8_attempt_85 : decode cX8_attempt 85 = .ok (.bipush 27, 2) := zdec_at bX8_attempt_78 4 rfl
theorem dX8_attempt_87 : decode cX8_attempt 87 = .ok (.invokevirtual 473, 3) := zdec_at bX8_attempt_78 5 rfl
theorem dX8_attempt_90 : decode cX8_attempt 90 = .ok (.istore 6, 2) := zdec_at bX8_attempt_78 6 rfl
theorem dX8_attempt_92 : decode cX8_attempt 92 = .ok (.aload_n 0, 1) := zdec_at bX8_attempt_78 7 rfl
theorem dX8_attempt_93 : decode cX8_attempt 93 = .ok (.getfield 46, 3) := zdec_at bX8_attempt_78 8 rfl
theorem dX8_attempt_96 : decode cX8_attempt 96 = .ok (.iconst 5, 1) := zdec_at bX8_attempt_78 9 rfl
theorem dX8_attempt_97 : decode cX8_attempt 97 = .ok (.iload_n 1, 1) := zdec_at bX8_attempt_78 10 rfl
theorem dX8_attempt_98 : decode cX8_attempt 98 = .ok (.imul, 1) := zdec_at bX8_attempt_78 11 rfl
theorem dX8_attempt_99 : decode cX8_attempt 99 = .ok (.iconst 1, 1) := zdec_at bX8_attempt_78 12 rfl
theorem dX8_attempt_100 : decode cX8_attempt 100 = .ok (.iadd, 1) := zdec_at bX8_attempt_78 13 rfl
theorem dX8_attempt_101 : decode cX8_attempt 101 = .ok (.iload 5, 2) := zdec_at bX8_attempt_78 14 rfl
theorem dX8_attempt_103 : decode cX8_attempt 103 = .ok (.iastore, 1) := zdec_at bX8_attempt_78 15 rfl
theorem bX8_attempt_104 : zdec cX8_attempt 104 [(104, .aload_n 0, 1), (105, .invokevirtual 562, 3), (108, .istore_n 2, 1), (109, .aload_n 0, 1), (110, .getfield 46, 3), (113, .iconst 5, 1), (114, .iload_n 1, 1), (115, .imul, 1), (116, .iconst 2, 1), (117, .iadd, 1), (118, .iload_n 2, 1), (119, .iastore, 1), (120, .aload_n 0, 1), (121, .getfield 389, 3), (124, .ifCond .ne 41, 3), (127, .aload_n 0, 1)] = true := by decide +kernel
theorem dX8_attempt_104 : decode cX8_attempt 104 = .ok (.aload_n 0, 1) := zdec_at bX8_attempt_104 0 rfl
theorem dX8_attempt_105 : decode cX8_attempt 105 = .ok (.invokevirtual 562, 3) := zdec_at bX8_attempt_104 1 rfl
theorem dX8_attempt_108 : decode cX8_attempt 108 = .ok (.istore_n 2, 1) := zdec_at bX8_attempt_104 2 rfl
theorem dX8_attempt_109 : decode cX8_attempt 109 = .ok (.aload_n 0, 1) := zdec_at bX8_attempt_104 3 rfl
theorem dX8_attempt_110 : decode cX8_attempt 110 = .ok (.getfield 46, 3) := zdec_at bX8_attempt_104 4 rfl
theorem dX8_attempt_113 : decode cX8_attempt 113 = .ok (.iconst 5, 1) := zdec_at bX8_attempt_104 5 rfl
theorem dX8_attempt_114 : decode cX8_attempt 114 = .ok (.iload_n 1, 1) := zdec_at bX8_attempt_104 6 rfl
theorem dX8_attempt_115 : decode cX8_attempt 115 = .ok (.imul, 1) := zdec_at bX8_attempt_104 7 rfl
theorem dX8_attempt_116 : decode cX8_attempt 116 = .ok (.iconst 2, 1) := zdec_at bX8_attempt_104 8 rfl
theorem dX8_attempt_117 : decode cX8_attempt 117 = .ok (.iadd, 1) := zdec_at bX8_attempt_104 9 rfl
theorem dX8_attempt_118 : decode cX8_attempt 118 = .ok (.iload_n 2, 1) := zdec_at bX8_attempt_104 10 rfl
theorem dX8_attempt_119 : decode cX8_attempt 119 = .ok (.iastore, 1) := zdec_at bX8_attempt_104 11 rfl
theorem dX8_attempt_120 : decode cX8_attempt 120 = .ok (.aload_n 0, 1) := zdec_at bX8_attempt_104 12 rfl
theorem dX8_attempt_121 : decode cX8_attempt 121 = .ok (.getfield 389, 3) := zdec_at bX8_attempt_104 13 rfl
theorem dX8_attempt_124 : decode cX8_attempt 124 = .ok (.ifCond .ne 41, 3) := zdec_at bX8_attempt_104 14 rfl
theorem dX8_attempt_127 : decode cX8_attempt 127 = .ok (.aload_n 0, 1) := zdec_at bX8_attempt_104 15 rfl
theorem bX8_attempt_128 : zdec cX8_attempt 128 [(128, .bipush 9, 2), (130, .invokevirtual 404, 3), (133, .ifCond .eq 32, 3), (136, .iinc 3 2, 3), (139, .aload_n 0, 1), (140, .dup, 1), (141, .getfield 392, 3), (144, .iconst 1, 1), (145, .iadd, 1), (146, .putfield 392, 3), (149, .aload_n 0, 1), (150, .invokevirtual 562, 3), (153, .istore_n 2, 1), (154, .aload_n 0, 1), (155, .getfield 46, 3), (158, .iconst 5, 1)] = true := by decide +kernel
theorem dX8_attempt_128 : decode cX8_attempt 128 = .ok (.bipush 9, 2) := zdec_at bX8_attempt_128 0 rfl
theorem dX8_attempt_130 : decode cX8_attempt 130 = .ok (.invokevirtual 404, 3) := zdec_at bX8_attempt_128 1 rfl
theorem dX8_attempt_133 : decode cX8_attempt 133 = .ok (.ifCond .eq 32, 3) := zdec_at bX8_attempt_128 2 rfl
theorem dX8_attempt_136 : decode cX8_attempt 136 = .ok (.iinc 3 2, 3) := zdec_at bX8_attempt_128 3 rfl
theorem dX8_attempt_139 : decode cX8_attempt 139 = .ok (.aload_n 0, 1) := zdec_at bX8_attempt_128 4 rfl
theorem dX8_attempt_140 : decode cX8_attempt 140 = .ok (.dup, 1) := zdec_at bX8_attempt_128 5 rfl
theorem dX8_attempt_141 : decode cX8_attempt 141 = .ok (.getfield 392, 3) := zdec_at bX8_attempt_128 6 rfl
theorem dX8_attempt_144 : decode cX8_attempt 144 = .ok (.iconst 1, 1) := zdec_at bX8_attempt_128 7 rfl
theorem dX8_attempt_145 : decode cX8_attempt 145 = .ok (.iadd, 1) := zdec_at bX8_attempt_128 8 rfl
theorem dX8_attempt_146 : decode cX8_attempt 146 = .ok (.putfield 392, 3) := zdec_at bX8_attempt_128 9 rfl
theorem dX8_attempt_149 : decode cX8_attempt 149 = .ok (.aload_n 0, 1) := zdec_at bX8_attempt_128 10 rfl
theorem dX8_attempt_150 : decode cX8_attempt 150 = .ok (.invokevirtual 562, 3) := zdec_at bX8_attempt_128 11 rfl
theorem dX8_attempt_153 : decode cX8_attempt 153 = .ok (.istore_n 2, 1) := zdec_at bX8_attempt_128 12 rfl
theorem dX8_attempt_154 : decode cX8_attempt 154 = .ok (.aload_n 0, 1) := zdec_at bX8_attempt_128 13 rfl
theorem dX8_attempt_155 : decode cX8_attempt 155 = .ok (.getfield 46, 3) := zdec_at bX8_attempt_128 14 rfl
theorem dX8_attempt_158 : decode cX8_attempt 158 = .ok (.iconst 5, 1) := zdec_at bX8_attempt_128 15 rfl
theorem bX8_attempt_159 : zdec cX8_attempt 159 [(159, .iload_n 1, 1), (160, .imul, 1), (161, .iconst 3, 1), (162, .iadd, 1), (163, .iload_n 2, 1), (164, .iastore, 1), (165, .iload_n 3, 1), (166, .ifCond .ne 9, 3), (169, .aload_n 0, 1), (170, .iconst 2, 1), (171, .invokevirtual 401, 3), (174, .pop, 1), (175, .aload_n 0, 1), (176, .getfield 46, 3), (179, .iconst 5, 1), (180, .iload_n 1, 1)] = true := by decide +kernel
theorem dX8_attempt_159 : decode cX8_attempt 159 = .ok (.iload_n 1, 1) := zdec_at bX8_attempt_159 0 rfl
theorem dX8_attempt_160 : decode cX8_attempt 160 = .ok (.imul, 1) := zdec_at bX8_attempt_159 1 rfl
theorem dX8_attempt_161 : decode cX8_attempt 161 = .ok (.iconst 3, 1) := zdec_at bX8_attempt_159 2 rfl
theorem dX8_attempt_162 : decode cX8_attempt 162 = .ok (.iadd, 1) := zdec_at bX8_attempt_159 3 rfl
theorem dX8_attempt_163 : decode cX8_attempt 163 = .ok (.iload_n 2, 1) := zdec_at bX8_attempt_159 4 rfl
theorem dX8_attempt_164 : decode cX8_attempt 164 = .ok (.iastore, 1) := zdec_at bX8_attempt_159 5 rfl
theorem dX8_attempt_165 : decode cX8_attempt 165 = .ok (.iload_n 3, 1) := zdec_at bX8_attempt_159 6 rfl
theorem dX8_attempt_166 : decode cX8_attempt 166 = .ok (.ifCond .ne 9, 3) := zdec_at bX8_attempt_159 7 rfl
theorem dX8_attempt_169 : decode cX8_attempt 169 = .ok (.aload_n 0, 1) := zdec_at bX8_attempt_159 8 rfl
theorem dX8_attempt_170 : decode cX8_attempt 170 = .ok (.iconst 2, 1) := zdec_at bX8_attempt_159 9 rfl
theorem dX8_attempt_171 : decode cX8_attempt 171 = .ok (.invokevirtual 401, 3) := zdec_at bX8_attempt_159 10 rfl
theorem dX8_attempt_174 : decode cX8_attempt 174 = .ok (.pop, 1) := zdec_at bX8_attempt_159 11 rfl
theorem dX8_attempt_175 : decode cX8_attempt 175 = .ok (.aload_n 0, 1) := zdec_at bX8_attempt_159 12 rfl
theorem dX8_attempt_176 : decode cX8_attempt 176 = .ok (.getfield 46, 3) := zdec_at bX8_attempt_159 13 rfl
theorem dX8_attempt_179 : decode cX8_attempt 179 = .ok (.iconst 5, 1) := zdec_at bX8_attempt_159 14 rfl
theorem dX8_attempt_180 : decode cX8_attempt 180 = .ok (.iload_n 1, 1) := zdec_at bX8_attempt_159 15 rfl
theorem bX8_attempt_181 : zdec cX8_attempt 181 [(181, .imul, 1), (182, .iconst 4, 1), (183, .iadd, 1), (184, .iload_n 3, 1), (185, .iastore, 1), (186, .iload_n 1, 1), (187, .ireturn, 1)] = true := by decide +kernel
theorem dX8_attempt_181 : decode cX8_attempt 181 = .ok (.imul, 1) := zdec_at bX8_attempt_181 0 rfl
theorem dX8_attempt_182 : decode cX8_attempt 182 = .ok (.iconst 4, 1) := zdec_at bX8_attempt_181 1 rfl
theorem dX8_attempt_183 : decode cX8_attempt 183 = .ok (.iadd, 1) := zdec_at bX8_attempt_181 2 rfl
theorem dX8_attempt_184 : decode cX8_attempt 184 = .ok (.iload_n 3, 1) := zdec_at bX8_attempt_181 3 rfl
theorem dX8_attempt_185 : decode cX8_attempt 185 = .ok (.iastore, 1) := zdec_at bX8_attempt_181 4 rfl
theorem dX8_attempt_186 : decode cX8_attempt 186 = .ok (.iload_n 1, 1) := zdec_at bX8_attempt_181 5 rfl
theorem dX8_attempt_187 : decode cX8_attempt 187 = .ok (.ireturn, 1) := zdec_at bX8_attempt_181 6 rfl
theorem sX8_attempt_0 {E : zE} {d : Nat} {Q : zO → zM → Prop} (M : zM)  (k : Zm E YX8_node d (si M 97 20 ((gi M 97 20) + (1 : Int32))) (zargs 0 [vr (some (97, 1, 0)), vi (33 : Int32), vi (-1 : Int32), vi (-1 : Int32), vi (-1 : Int32)]) 0 [] (zma E YX8_attempt (d + 1) [(0, vr (some (97, 1, 0)))] 16 3 [] Q)) : Zm E YX8_attempt (d + 1) M [(0, vr (some (97, 1, 0)))] 0 [] Q := by
  refine Zm.l (fun _ _ k_ => z_aload_n dX8_attempt_0 rfl rfl k_) ?_
  refine Zm.l (fun _ _ k_ => z_dup dX8_attempt_1 rfl k_) ?_
  refine zm_geti dX8_attempt_2 fsX8_392_1 (by decide) (by decide) ?_
  refine Zm.l (fun _ _ k_ => z_iconst (v := 1) dX8_attempt_5 rfl k_) ?_
  refine Zm.l (fun _ _ k_ => z_iadd dX8_attempt_6 k_) ?_
  refine zm_puti (by decide) (by decide) dX8_attempt_7 (zfwN.w fwX8_392_1) rfl ⟨rfl, rfl⟩ ?_
  refine Zm.l (fun _ _ k_ => z_aload_n dX8_attempt_10 rfl rfl k_) ?_
  refine Zm.l (fun _ _ k_ => z_bipush (v := 33) dX8_attempt_11 rfl k_) ?_
  refine Zm.l (fun _ _ k_ => z_iconst (v := -1) dX8_attempt_13 rfl k_) ?_
  refine Zm.l (fun _ _ k_ => z_iconst (v := -1) dX8_attempt_14 rfl k_) ?_
  refine Zm.l (fun _ _ k_ => z_iconst (v := -1) dX8_attempt_15 rfl k_) ?_
  exact zm_callV (as := [vi (33 : Int32), vi (-1 : Int32), vi (-1 : Int32), vi (-1 : Int32)]) (st := []) dX8_attempt_16 vsX8_446_1 (Nat.le_refl _) (Nat.le_of_ble_eq_true rfl) (Nat.le_of_ble_eq_true rfl) rfl k
theorem sX8_attempt_19 {E : zE} {d : Nat} {Q : zO → zM → Prop} (M : zM) (s0 : Int32) (k : Zm E YX8_block d M (zargs 0 [vr (some (97, 1, 0))]) 0 [] (zma E YX8_attempt (d + 1) [(0, vr (some (97, 1, 0))), (1, vi s0)] 21 3 [] Q)) : Zm E YX8_attempt (d + 1) M [(0, vr (some (97, 1, 0)))] 19 [vi s0] Q := by
  refine Zm.l (fun _ _ k_ => z_ist_n dX8_attempt_19 rfl (by decide) (lv' := [(0, vr (some (97, 1, 0))), (1, vi s0)]) rfl k_) ?_
  refine Zm.l (fun _ _ k_ => z_aload_n dX8_attempt_20 rfl rfl k_) ?_
  exact zm_callV (as := []) (st := []) dX8_attempt_21 vsX8_562_1 (Nat.le_refl _) (Nat.le_of_ble_eq_true rfl) (Nat.le_of_ble_eq_true rfl) rfl k
theorem sX8_attempt_24 {E : zE} {d : Nat} {Q : zO → zM → Prop} (M : zM) (l1 : Int32) (s0 : Int32) (k : vp_in ((5 : Int32) * l1) 60000 ∧ (if (gi M 97 21) = 0 then (Zm E YX8_isKeyword d (si M 109 (((5 : Int32) * l1)).toNatClampNeg s0) (zargs 0 [vr (some (97, 1, 0)), vi (2 : Int32)]) 0 [] (zma E YX8_attempt (d + 1) [(0, vr (some (97, 1, 0))), (1, vi l1), (3, vi (0 : Int32))] 45 3 [] Q)) else (Zm E YX8_attempt (d + 1) (si M 109 (((5 : Int32) * l1)).toNatClampNeg s0) [(0, vr (some (97, 1, 0))), (1, vi l1), (3, vi (0 : Int32))] 120 [] Q))) : Zm E YX8_attempt (d + 1) M [(0, vr (some (97, 1, 0))), (1, vi l1)] 24 [vi s0] Q := by
  refine Zm.l (fun _ _ k_ => z_ist_n dX8_attempt_24 rfl (by decide) (lv' := [(0, vr (some (97, 1, 0))), (1, vi l1), (2, vi s0)]) rfl k_) ?_
  refine Zm.l (fun _ _ k_ => z_aload_n dX8_attempt_25 rfl rfl k_) ?_
  refine zm_getr 11 dX8_attempt_26 fsX8_46_1 rfl ?_
  refine Zm.l (fun _ _ k_ => z_iconst (v := 5) dX8_attempt_29 rfl k_) ?_
  refine Zm.l (fun _ _ k_ => z_iload_n dX8_attempt_30 rfl rfl k_) ?_
  refine Zm.l (fun _ _ k_ => z_imul dX8_attempt_31 k_) ?_
  refine Zm.l (fun _ _ k_ => z_iload_n dX8_attempt_32 rfl rfl k_) ?_
  obtain ⟨b_, k⟩ := k
  refine zm_iast dX8_attempt_33 b_ (by decide) (by decide) ?_
  refine Zm.l (fun _ _ k_ => z_iconst (v := 0) dX8_attempt_34 rfl k_) ?_
  refine Zm.l (fun _ _ k_ => z_ist_n dX8_attempt_35 rfl (by decide) (lv' := [(0, vr (some (97, 1, 0))), (1, vi l1), (2, vi s0), (3, vi (0 : Int32))]) rfl k_) ?_
  refine Zm.l (fun _ _ k_ => z_aload_n dX8_attempt_36 rfl rfl k_) ?_
  refine zm_geti dX8_attempt_37 fsX8_389_1 (by decide) (by decide) ?_
  refine Zm.brn (fun _ _ k1_ k2_ => z_if_ne (tgt := 120) dX8_attempt_40 rfl k1_ k2_) (fun h_ => ?_) (fun h_ => ?_)
  · have k := zif h_ k
    refine Zm.pick [0, 1, 3] rfl ?_
    exact k
  · have k := zit h_ k
    refine Zm.l (fun _ _ k_ => z_aload_n dX8_attempt_43 rfl rfl k_) ?_
    refine Zm.l (fun _ _ k_ => z_iconst (v := 2) dX8_attempt_44 rfl k_) ?_
    refine Zm.pick [0, 1, 3] rfl ?_
    exact zm_callV (as := [vi (2 : Int32)]) (st := []) dX8_attempt_45 vsX8_404_1 (Nat.le_refl _) (Nat.le_of_ble_eq_true rfl) (Nat.le_of_ble_eq_true rfl) rfl k
theorem sX8_attempt_48 {E : zE} {d : Nat} {Q : zO → zM → Prop} (M : zM) (l1 : Int32) (l3 : Int32) (s0 : Int32) (k : if s0 = 0 then (Zm E YX8_attempt (d + 1) M [(0, vr (some (97, 1, 0))), (1, vi l1), (3, vi l3)] 120 [] Q) else (Zm E YX8_must d (si M 97 20 ((gi M 97 20) + (1 : Int32))) (zargs 0 [vr (some (97, 1, 0)), vi (26 : Int32)]) 0 [] (zma E YX8_attempt (d + 1) [(0, vr (some (97, 1, 0))), (1, vi l1), (3, vi (1 : Int32))] 66 3 [] Q))) : Zm E YX8_attempt (d + 1) M [(0, vr (some (97, 1, 0))), (1, vi l1), (3, vi l3)] 48 [vi s0] Q := by
  refine Zm.br (fun _ _ k1_ k2_ => z_if_eq (tgt := 120) dX8_attempt_48 rfl k1_ k2_) (fun h_ => ?_) (fun h_ => ?_)
  · have k := zit h_ k
    exact k
  · have k := zif h_ k
    refine Zm.l (fun _ _ k_ => z_iconst (v := 1) dX8_attempt_51 rfl k_) ?_
    refine Zm.l (fun _ _ k_ => z_ist_n dX8_attempt_52 rfl (by decide) (lv' := [(0, vr (some (97, 1, 0))), (1, vi l1), (3, vi (1 : Int32))]) rfl k_) ?_
    refine Zm.l (fun _ _ k_ => z_aload_n dX8_attempt_53 rfl rfl k_) ?_
    refine Zm.l (fun _ _ k_ => z_dup dX8_attempt_54 rfl k_) ?_
    refine zm_geti dX8_attempt_55 fsX8_392_1 (by decide) (by decide) ?_
    refine Zm.l (fun _ _ k_ => z_iconst (v := 1) dX8_attempt_58 rfl k_) ?_
    refine Zm.l (fun _ _ k_ => z_iadd dX8_attempt_59 k_) ?_
    refine zm_puti (by decide) (by decide) dX8_attempt_60 (zfwN.w fwX8_392_1) rfl ⟨rfl, rfl⟩ ?_
    refine Zm.l (fun _ _ k_ => z_aload_n dX8_attempt_63 rfl rfl k_) ?_
    refine Zm.l (fun _ _ k_ => z_bipush (v := 26) dX8_attempt_64 rfl k_) ?_
    exact zm_callV (as := [vi (26 : Int32)]) (st := []) dX8_attempt_66 vsX8_473_1 (Nat.le_refl _) (Nat.le_of_ble_eq_true rfl) (Nat.le_of_ble_eq_true rfl) rfl k
theorem sX8_attempt_69 {E : zE} {d : Nat} {Q : zO → zM → Prop} (M : zM) (l1 : Int32) (l3 : Int32) (s0 : Int32) (k : Zm E YX8_takeName d M (zargs 0 [vr (some (97, 1, 0))]) 0 [] (zma E YX8_attempt (d + 1) [(0, vr (some (97, 1, 0))), (1, vi l1), (3, vi l3)] 72 3 [] Q)) : Zm E YX8_attempt (d + 1) M [(0, vr (some (97, 1, 0))), (1, vi l1), (3, vi l3)] 69 [vi s0] Q := by
  refine Zm.l (fun _ _ k_ => z_ist dX8_attempt_69 (by decide) (lv' := [(0, vr (some (97, 1, 0))), (1, vi l1), (3, vi l3), (4, vi s0)]) rfl k_) ?_
  refine Zm.l (fun _ _ k_ => z_aload_n dX8_attempt_71 rfl rfl k_) ?_
  refine Zm.pick [0, 1, 2] rfl ?_
  exact zm_callV (as := []) (st := []) dX8_attempt_72 vsX8_536_1 (Nat.le_refl _) (Nat.le_of_ble_eq_true rfl) (Nat.le_of_ble_eq_true rfl) rfl k
theorem sX8_attempt_75 {E : zE} {d : Nat} {Q : zO → zM → Prop} (M : zM) (l1 : Int32) (l3 : Int32) (s0 : Int32) (k : Zm E YX8_hold d M (zargs 0 [vr (some (97, 1, 0)), vi s0, vi (0 : Int32)]) 0 [] (zma E YX8_attempt (d + 1) [(0, vr (some (97, 1, 0))), (1, vi l1), (3, vi l3), (5, vi s0)] 81 3 [] Q)) : Zm E YX8_attempt (d + 1) M [(0, vr (some (97, 1, 0))), (1, vi l1), (3, vi l3)] 75 [vi s0] Q := by
  refine Zm.l (fun _ _ k_ => z_ist dX8_attempt_75 (by decide) (lv' := [(0, vr (some (97, 1, 0))), (1, vi l1), (3, vi l3), (5, vi s0)]) rfl k_) ?_
  refine Zm.l (fun _ _ k_ => z_aload_n dX8_attempt_77 rfl rfl k_) ?_
  refine Zm.l (fun _ _ k_ => z_iload dX8_attempt_78 rfl k_) ?_
  refine Zm.l (fun _ _ k_ => z_iconst (v := 0) dX8_attempt_80 rfl k_) ?_
  exact zm_callV (as := [vi s0, vi (0 : Int32)]) (st := []) dX8_attempt_81 vsX8_539_1 (Nat.le_refl _) (Nat.le_of_ble_eq_true rfl) (Nat.le_of_ble_eq_true rfl) rfl k
theorem sX8_attempt_84 {E : zE} {d : Nat} {Q : zO → zM → Prop} (M : zM) (l1 : Int32) (l3 : Int32) (l5 : Int32) (k : Zm E YX8_must d M (zargs 0 [vr (some (97, 1, 0)), vi (27 : Int32)]) 0 [] (zma E YX8_attempt (d + 1) [(0, vr (some (97, 1, 0))), (1, vi l1), (3, vi l3), (5, vi l5)] 87 3 [] Q)) : Zm E YX8_attempt (d + 1) M [(0, vr (some (97, 1, 0))), (1, vi l1), (3, vi l3), (5, vi l5)] 84 [] Q := by
  refine Zm.l (fun _ _ k_ => z_aload_n dX8_attempt_84 rfl rfl k_) ?_
  refine Zm.l (fun _ _ k_ => z_bipush (v := 27) dX8_attempt_85 rfl k_) ?_
  exact zm_callV (as := [vi (27 : Int32)]) (st := []) dX8_attempt_87 vsX8_473_1 (Nat.le_refl _) (Nat.le_of_ble_eq_true rfl) (Nat.le_of_ble_eq_true rfl) rfl k
theorem sX8_attempt_90 {E : zE} {d : Nat} {Q : zO → zM → Prop} (M : zM) (l1 : Int32) (l3 : Int32) (l5 : Int32) (s0 : Int32) (k : vp_in (((5 : Int32) * l1) + (1 : Int32)) 60000 ∧ (Zm E YX8_block d (si M 109 ((((5 : Int32) * l1) + (1 : Int32))).toNatClampNeg l5) (zargs 0 [vr (some (97, 1, 0))]) 0 [] (zma E YX8_attempt (d + 1) [(0, vr (some (97, 1, 0))), (1, vi l1), (3, vi l3)] 105 3 [] Q))) : Zm E YX8_attempt (d + 1) M [(0, vr (some (97, 1, 0))), (1, vi l1), (3, vi l3), (5, vi l5)] 90 [vi s0] Q := by
  refine Zm.l (fun _ _ k_ => z_ist dX8_attempt_90 (by decide) (lv' := [(0, vr (some (97, 1, 0))), (1, vi l1), (3, vi l3), (5, vi l5), (6, vi s0)]) rfl k_) ?_
  refine Zm.l (fun _ _ k_ => z_aload_n dX8_attempt_92 rfl rfl k_) ?_
  refine zm_getr 11 dX8_attempt_93 fsX8_46_1 rfl ?_
  refine Zm.l (fun _ _ k_ => z_iconst (v := 5) dX8_attempt_96 rfl k_) ?_
  refine Zm.l (fun _ _ k_ => z_iload_n dX8_attempt_97 rfl rfl k_) ?_
  refine Zm.l (fun _ _ k_ => z_imul dX8_attempt_98 k_) ?_
  refine Zm.l (fun _ _ k_ => z_iconst (v := 1) dX8_attempt_99 rfl k_) ?_
  refine Zm.l (fun _ _ k_ => z_iadd dX8_attempt_100 k_) ?_
  refine Zm.l (fun _ _ k_ => z_iload dX8_attempt_101 rfl k_) ?_
  obtain ⟨b_, k⟩ := k
  refine zm_iast dX8_attempt_103 b_ (by decide) (by decide) ?_
  refine Zm.l (fun _ _ k_ => z_aload_n dX8_attempt_104 rfl rfl k_) ?_
  refine Zm.pick [0, 1, 2] rfl ?_
  exact zm_callV (as := []) (st := []) dX8_attempt_105 vsX8_562_1 (Nat.le_refl _) (Nat.le_of_ble_eq_true rfl) (Nat.le_of_ble_eq_true rfl) rfl k
theorem sX8_attempt_108 {E : zE} {d : Nat} {Q : zO → zM → Prop} (M : zM) (l1 : Int32) (l3 : Int32) (s0 : Int32) (k : vp_in (((5 : Int32) * l1) + (2 : Int32)) 60000 ∧ (Zm E YX8_attempt (d + 1) (si M 109 ((((5 : Int32) * l1) + (2 : Int32))).toNatClampNeg s0) [(0, vr (some (97, 1, 0))), (1, vi l1), (3, vi l3)] 120 [] Q)) : Zm E YX8_attempt (d + 1) M [(0, vr (some (97, 1, 0))), (1, vi l1), (3, vi l3)] 108 [vi s0] Q := by
  refine Zm.l (fun _ _ k_ => z_ist_n dX8_attempt_108 rfl (by decide) (lv' := [(0, vr (some (97, 1, 0))), (1, vi l1), (2, vi s0), (3, vi l3)]) rfl k_) ?_
  refine Zm.l (fun _ _ k_ => z_aload_n dX8_attempt_109 rfl rfl k_) ?_
  refine zm_getr 11 dX8_attempt_110 fsX8_46_1 rfl ?_
  refine Zm.l (fun _ _ k_ => z_iconst (v := 5) dX8_attempt_113 rfl k_) ?_
  refine Zm.l (fun _ _ k_ => z_iload_n dX8_attempt_114 rfl rfl k_) ?_
  refine Zm.l (fun _ _ k_ => z_imul dX8_attempt_115 k_) ?_
  refine Zm.l (fun _ _ k_ => z_iconst (v := 2) dX8_attempt_116 rfl k_) ?_
  refine Zm.l (fun _ _ k_ => z_iadd dX8_attempt_117 k_) ?_
  refine Zm.l (fun _ _ k_ => z_iload_n dX8_attempt_118 rfl rfl k_) ?_
  obtain ⟨b_, k⟩ := k
  refine zm_iast dX8_attempt_119 b_ (by decide) (by decide) ?_
  refine Zm.pick [0, 1, 3] rfl ?_
  exact k
theorem sX8_attempt_120 {E : zE} {d : Nat} {Q : zO → zM → Prop} (M : zM) (l1 : Int32) (l3 : Int32) (k : if (gi M 97 21) = 0 then (Zm E YX8_isKeyword d M (zargs 0 [vr (some (97, 1, 0)), vi (9 : Int32)]) 0 [] (zma E YX8_attempt (d + 1) [(0, vr (some (97, 1, 0))), (1, vi l1), (3, vi l3)] 130 3 [] Q)) else (if l3 = 0 then (Zm E YX8_fail d M (zargs 0 [vr (some (97, 1, 0)), vi (2 : Int32)]) 0 [] (zma E YX8_attempt (d + 1) [(0, vr (some (97, 1, 0))), (1, vi l1), (3, vi l3)] 171 3 [] Q)) else (Zm E YX8_attempt (d + 1) M [(0, vr (some (97, 1, 0))), (1, vi l1), (3, vi l3)] 175 [] Q))) : Zm E YX8_attempt (d + 1) M [(0, vr (some (97, 1, 0))), (1, vi l1), (3, vi l3)] 120 [] Q := by
  refine Zm.l (fun _ _ k_ => z_aload_n dX8_attempt_120 rfl rfl k_) ?_
  refine zm_geti dX8_attempt_121 fsX8_389_1 (by decide) (by decide) ?_
  refine Zm.brn (fun _ _ k1_ k2_ => z_if_ne (tgt := 165) dX8_attempt_124 rfl k1_ k2_) (fun h_ => ?_) (fun h_ => ?_)
  · have k := zif h_ k
    refine Zm.l (fun _ _ k_ => z_iload_n dX8_attempt_165 rfl rfl k_) ?_
    refine Zm.brn (fun _ _ k1_ k2_ => z_if_ne (tgt := 175) dX8_attempt_166 rfl k1_ k2_) (fun h_ => ?_) (fun h_ => ?_)
    · have k := zif h_ k
      exact k
    · have k := zit h_ k
      refine Zm.l (fun _ _ k_ => z_aload_n dX8_attempt_169 rfl rfl k_) ?_
      refine Zm.l (fun _ _ k_ => z_iconst (v := 2) dX8_attempt_170 rfl k_) ?_
      exact zm_callV (as := [vi (2 : Int32)]) (st := []) dX8_attempt_171 vsX8_401_1 (Nat.le_refl _) (Nat.le_of_ble_eq_true rfl) (Nat.le_of_ble_eq_true rfl) rfl k
  · have k := zit h_ k
    refine Zm.l (fun _ _ k_ => z_aload_n dX8_attempt_127 rfl rfl k_) ?_
    refine Zm.l (fun _ _ k_ => z_bipush (v := 9) dX8_attempt_128 rfl k_) ?_
    exact zm_callV (as := [vi (9 : Int32)]) (st := []) dX8_attempt_130 vsX8_404_1 (Nat.le_refl _) (Nat.le_of_ble_eq_true rfl) (Nat.le_of_ble_eq_true rfl) rfl k
theorem sX8_attempt_133 {E : zE} {d : Nat} {Q : zO → zM → Prop} (M : zM) (l1 : Int32) (l3 : Int32) (s0 : Int32) (k : if s0 = 0 then (if l3 = 0 then (Zm E YX8_fail d M (zargs 0 [vr (some (97, 1, 0)), vi (2 : Int32)]) 0 [] (zma E YX8_attempt (d + 1) [(0, vr (some (97, 1, 0))), (1, vi l1), (3, vi l3)] 171 3 [] Q)) else (Zm E YX8_attempt (d + 1) M [(0, vr (some (97, 1, 0))), (1, vi l1), (3, vi l3)] 175 [] Q)) else (Zm E YX8_block d (si M 97 20 ((gi M 97 20) + (1 : Int32))) (zargs 0 [vr (some (97, 1, 0))]) 0 [] (zma E YX8_attempt (d + 1) [(0, vr (some (97, 1, 0))), (1, vi l1), (3, vi (l3 + (2 : Int32)))] 150 3 [] Q))) : Zm E YX8_attempt (d + 1) M [(0, vr (some (97, 1, 0))), (1, vi l1), (3, vi l3)] 133 [vi s0] Q := by
  refine Zm.br (fun _ _ k1_ k2_ => z_if_eq (tgt := 165) dX8_attempt_133 rfl k1_ k2_) (fun h_ => ?_) (fun h_ => ?_)
  · have k := zit h_ k
    refine Zm.l (fun _ _ k_ => z_iload_n dX8_attempt_165 rfl rfl k_) ?_
    refine Zm.brn (fun _ _ k1_ k2_ => z_if_ne (tgt := 175) dX8_attempt_166 rfl k1_ k2_) (fun h_ => ?_) (fun h_ => ?_)
    · have k := zif h_ k
      exact k
    · have k := zit h_ k
      refine Zm.l (fun _ _ k_ => z_aload_n dX8_attempt_169 rfl rfl k_) ?_
      refine Zm.l (fun _ _ k_ => z_iconst (v := 2) dX8_attempt_170 rfl k_) ?_
      exact zm_callV (as := [vi (2 : Int32)]) (st := []) dX8_attempt_171 vsX8_401_1 (Nat.le_refl _) (Nat.le_of_ble_eq_true rfl) (Nat.le_of_ble_eq_true rfl) rfl k
  · have k := zif h_ k
    refine Zm.l (fun _ _ k_ => z_inc (v := (l3 + (2 : Int32))) dX8_attempt_136 rfl rfl (by decide) (lv' := [(0, vr (some (97, 1, 0))), (1, vi l1), (3, vi (l3 + (2 : Int32)))]) rfl k_) ?_
    refine Zm.l (fun _ _ k_ => z_aload_n dX8_attempt_139 rfl rfl k_) ?_
    refine Zm.l (fun _ _ k_ => z_dup dX8_attempt_140 rfl k_) ?_
    refine zm_geti dX8_attempt_141 fsX8_392_1 (by decide) (by decide) ?_
    refine Zm.l (fun _ _ k_ => z_iconst (v := 1) dX8_attempt_144 rfl k_) ?_
    refine Zm.l (fun _ _ k_ => z_iadd dX8_attempt_145 k_) ?_
    refine zm_puti (by decide) (by decide) dX8_attempt_146 (zfwN.w fwX8_392_1) rfl ⟨rfl, rfl⟩ ?_
    refine Zm.l (fun _ _ k_ => z_aload_n dX8_attempt_149 rfl rfl k_) ?_
    exact zm_callV (as := []) (st := []) dX8_attempt_150 vsX8_562_1 (Nat.le_refl _) (Nat.le_of_ble_eq_true rfl) (Nat.le_of_ble_eq_true rfl) rfl k
theorem sX8_attempt_153 {E : zE} {d : Nat} {Q : zO → zM → Prop} (M : zM) (l1 : Int32) (l3 : Int32) (s0 : Int32) (k : vp_in (((5 : Int32) * l1) + (3 : Int32)) 60000 ∧ (if l3 = 0 then (Zm E YX8_fail d (si M 109 ((((5 : Int32) * l1) + (3 : Int32))).toNatClampNeg s0) (zargs 0 [vr (some (97, 1, 0)), vi (2 : Int32)]) 0 [] (zma E YX8_attempt (d + 1) [(0, vr (some (97, 1, 0))), (1, vi l1), (3, vi l3)] 171 3 [] Q)) else (Zm E YX8_attempt (d + 1) (si M 109 ((((5 : Int32) * l1) + (3 : Int32))).toNatClampNeg s0) [(0, vr (some (97, 1, 0))), (1, vi l1), (3, vi l3)] 175 [] Q))) : Zm E YX8_attempt (d + 1) M [(0, vr (some (97, 1, 0))), (1, vi l1), (3, vi l3)] 153 [vi s0] Q := by
  refine Zm.l (fun _ _ k_ => z_ist_n dX8_attempt_153 rfl (by decide) (lv' := [(0, vr (some (97, 1, 0))), (1, vi l1), (2, vi s0), (3, vi l3)]) rfl k_) ?_
  refine Zm.l (fun _ _ k_ => z_aload_n dX8_attempt_154 rfl rfl k_) ?_
  refine zm_getr 11 dX8_attempt_155 fsX8_46_1 rfl ?_
  refine Zm.l (fun _ _ k_ => z_iconst (v := 5) dX8_attempt_158 rfl k_) ?_
  refine Zm.l (fun _ _ k_ => z_iload_n dX8_attempt_159 rfl rfl k_) ?_
  refine Zm.l (fun _ _ k_ => z_imul dX8_attempt_160 k_) ?_
  refine Zm.l (fun _ _ k_ => z_iconst (v := 3) dX8_attempt_161 rfl k_) ?_
  refine Zm.l (fun _ _ k_ => z_iadd dX8_attempt_162 k_) ?_
  refine Zm.l (fun _ _ k_ => z_iload_n dX8_attempt_163 rfl rfl k_) ?_
  obtain ⟨b_, k⟩ := k
  refine zm_iast dX8_attempt_164 b_ (by decide) (by decide) ?_
  refine Zm.l (fun _ _ k_ => z_iload_n dX8_attempt_165 rfl rfl k_) ?_
  refine Zm.brn (fun _ _ k1_ k2_ => z_if_ne (tgt := 175) dX8_attempt_166 rfl k1_ k2_) (fun h_ => ?_) (fun h_ => ?_)
  · have k := zif h_ k
    refine Zm.pick [0, 1, 3] rfl ?_
    exact k
  · have k := zit h_ k
    refine Zm.l (fun _ _ k_ => z_aload_n dX8_attempt_169 rfl rfl k_) ?_
    refine Zm.l (fun _ _ k_ => z_iconst (v := 2) dX8_attempt_170 rfl k_) ?_
    refine Zm.pick [0, 1, 3] rfl ?_
    exact zm_callV (as := [vi (2 : Int32)]) (st := []) dX8_attempt_171 vsX8_401_1 (Nat.le_refl _) (Nat.le_of_ble_eq_true rfl) (Nat.le_of_ble_eq_true rfl) rfl k
theorem sX8_attempt_174 {E : zE} {d : Nat} {Q : zO → zM → Prop} (M : zM) (l1 : Int32) (l3 : Int32) (s0 : Int32) (k : Zm E YX8_attempt (d + 1) M [(0, vr (some (97, 1, 0))), (1, vi l1), (3, vi l3)] 175 [] Q) : Zm E YX8_attempt (d + 1) M [(0, vr (some (97, 1, 0))), (1, vi l1), (3, vi l3)] 174 [vi s0] Q := by
  refine Zm.l (fun _ _ k_ => z_pop dX8_attempt_174 rfl k_) ?_
  exact k
theorem sX8_attempt_175 {E : zE} {d : Nat} {Q : zO → zM → Prop} (M : zM) (l1 : Int32) (l3 : Int32) (k : vp_in (((5 : Int32) * l1) + (4 : Int32)) 60000 ∧ (Q (.inl (some (vi l1))) (si M 109 ((((5 : Int32) * l1) + (4 : Int32))).toNatClampNeg l3))) : Zm E YX8_attempt (d + 1) M [(0, vr (some (97, 1, 0))), (1, vi l1), (3, vi l3)] 175 [] Q := by
  refine Zm.l (fun _ _ k_ => z_aload_n dX8_attempt_175 rfl rfl k_) ?_
  refine zm_getr 11 dX8_attempt_176 fsX8_46_1 rfl ?_
  refine Zm.l (fun _ _ k_ => z_iconst (v := 5) dX8_attempt_179 rfl k_) ?_
  refine Zm.l (fun _ _ k_ => z_iload_n dX8_attempt_180 rfl rfl k_) ?_
  refine Zm.l (fun _ _ k_ => z_imul dX8_attempt_181 k_) ?_
  refine Zm.l (fun _ _ k_ => z_iconst (v := 4) dX8_attempt_182 rfl k_) ?_
  refine Zm.l (fun _ _ k_ => z_iadd dX8_attempt_183 k_) ?_
  refine Zm.l (fun _ _ k_ => z_iload_n dX8_attempt_184 rfl rfl k_) ?_
  obtain ⟨b_, k⟩ := k
  refine zm_iast dX8_attempt_185 b_ (by decide) (by decide) ?_
  refine Zm.l (fun _ _ k_ => z_iload_n dX8_attempt_186 rfl rfl k_) ?_
  exact zm_iret dX8_attempt_187 rfl rfl k
/-! ScriptTypesModel.cases()I -/
theorem bX8_cases_0 : zdec cX8_cases 0 [(0, .aload_n 0, 1), (1, .dup, 1), (2, .getfield 392, 3), (5, .iconst 1, 1), (6, .iadd, 1), (7, .putfield 392, 3), (10, .aload_n 0, 1), (11, .invokevirtual 577, 3), (14, .istore_n 1, 1), (15, .aload_n 0, 1), (16, .bipush 34, 2), (18, .iload_n 1, 1), (19, .iconst (-1), 1), (20, .iconst 0, 1), (21, .invokevirtual 446, 3), (24, .istore_n 2, 1)] = true := by decide +kernel
theorem dX8_cases_0 : decode cX8_cases 0 = .ok (.aload_n 0, 1) := zdec_at bX8_cases_0 0 rfl
theorem dX8_cases_1 : decode cX8_cases 1 = .ok (.dup, 1) := zdec_at bX8_cases_0 1 rfl
theorem dX8_cases_2 : decode cX8_cases 2 = .ok (.getfield 392, 3) := zdec_at bX8_cases_0 2 rfl
theorem dX8_cases_5 : decode cX8_cases 5 = .ok (.iconst 1, 1) := zdec_at bX8_cases_0 3 rfl
theorem dX8_cases_6 : decode cX8_cases 6 = .ok (.iadd, 1) := zdec_at bX8_cases_0 4 rfl
theorem dX8_cases_7 : decode cX8_cases 7 = .ok (.putfield 392, 3) := zdec_at bX8_cases_0 5 rfl
theorem dX8_cases_10 : decode cX8_cases 10 = .ok (.aload_n 0, 1) := zdec_at bX8_cases_0 6 rfl
theorem dX8_cases_11 : decode cX8_cases 11 = .ok (.invokevirtual 577, 3) := zdec_at bX8_cases_0 7 rfl
theorem dX8_cases_14 : decode cX8_cases 14 = .ok (.istore_n 1, 1) := zdec_at bX8_cases_0 8 rfl
theorem dX8_cases_15 : decode cX8_cases 15 = .ok (.aload_n 0, 1) := zdec_at bX8_cases_0 9 rfl
theorem dX8_cases_16 : decode cX8_cases 16 = .ok (.bipush 34, 2) := zdec_at bX8_cases_0 10 rfl
theorem dX8_cases_18 : decode cX8_cases 18 = .ok (.iload_n 1, 1) := zdec_at bX8_cases_0 11 rfl
theorem dX8_cases_19 : decode cX8_cases 19 = .ok (.iconst (-1), 1) := zdec_at bX8_cases_0 12 rfl
theorem dX8_cases_20 : decode cX8_cases 20 = .ok (.iconst 0, 1) := zdec_at bX8_cases_0 13 rfl
theorem dX8_cases_21 : decode cX8_cases 21 = .ok (.invokevirtual 446, 3) := zdec_at bX8_cases_0 14 rfl
theorem dX8_cases_24 : decode cX8_cases 24 = .ok (.istore_n 2, 1) := zdec_at bX8_cases_0 15 rfl
theorem bX8_cases_25 : zdec cX8_cases 25 [(25, .aload_n 0, 1), (26, .bipush 24, 2), (28, .invokevirtual 473, 3), (31, .istore_n 3, 1), (32, .iconst 0, 1), (33, .istore 4, 2), (35, .aload_n 0, 1), (36, .invokevirtual 509, 3), (39, .aload_n 0, 1), (40, .dup, 1), (41, .getfield 533, 3), (44, .iconst 1, 1), (45, .iadd, 1), (46, .putfield 533, 3), (49, .aload_n 0, 1), (50, .getfield 389, 3)] = true := by decide +kernel
theorem dX8_cases_25 : decode cX8_cases 25 = .ok (.aload_n 0, 1) := zdec_at bX8_cases_25 0 rfl
theorem dX8_cases_26 : decode cX8_cases 26 = .ok (.bipush 24, 2) := zdec_at bX8_cases_25 1 rfl
theorem dX8_cases_28 : decode cX8_cases 28 = .ok (.invokevirtual 473, 3) := zdec_at bX8_cases_25 2 rfl
theorem dX8_cases_31 : decode cX8_cases 31 = .ok (.istore_n 3, 1) := zdec_at bX8_cases_25 3 rfl
theorem dX8_cases_32 : decode cX8_cases 32 = .ok (.iconst 0, 1) := zdec_at bX8_cases_25 4 rfl
theorem dX8_cases_33 : decode cX8_cases 33 = .ok (.istore 4, 2) := zdec_at bX8_cases_25 5 rfl
theorem dX8_cases_35 : decode cX8_cases 35 = .ok (.aload_n 0, 1) := zdec_at bX8_cases_25 6 rfl
theorem dX8_cases_36 : decode cX8_cases 36 = .ok (.invokevirtual 509, 3) := zdec_at bX8_cases_25 7 rfl
theorem dX8_cases_39 : decode cX8_cases 39 = .ok (.aload_n 0, 1) := zdec_at bX8_cases_25 8 rfl
theorem dX8_cases_40 : decode cX8_cases 40 = .ok (.dup, 1) := zdec_at bX8_cases_25 9 rfl
theorem dX8_cases_41 : decode cX8_cases 41 = .ok (.getfield 533, 3) := zdec_at bX8_cases_25 10 rfl
theorem dX8_cases_44 : decode cX8_cases 44 = .ok (.iconst 1, 1) := zdec_at bX8_cases_25 11 rfl
theorem dX8_cases_45 : decode cX8_cases 45 = .ok (.iadd, 1) := zdec_at bX8_cases_25 12 rfl
theorem dX8_cases_46 : decode cX8_cases 46 = .ok (.putfield 533, 3) := zdec_at bX8_cases_25 13 rfl
theorem dX8_cases_49 : decode cX8_cases 49 = .ok (.aload_n 0, 1) := zdec_at bX8_cases_25 14 rfl
theorem dX8_cases_50 : decode cX8_cases 50 = .ok (.getfield 389, 3) := zdec_at bX8_cases_25 15 rfl
theorem bX8_cases_53 : zdec cX8_cases 53 [(53, .ifCond .ne 183, 3), (56, .aload_n 0, 1), (57, .bipush 25, 2), (59, .invokevirtual 398, 3), (62, .ifCond .ne 174, 3), (65, .iconst (-1), 1), (66, .istore 5, 2), (68, .aload_n 0, 1), (69, .iconst 4, 1), (70, .invokevirtual 404, 3), (73, .istore 6, 2), (75, .iload 6, 2), (77, .ifCond .eq 14, 3), (80, .iload 4, 2), (82, .ifCond .eq 9, 3), (85, .aload_n 0, 1)] = true := by decide +kernel
theorem dX8_cases_53 : decode cX8_cases 53 = .ok (.ifCond .ne 183, 3) := zdec_at bX8_cases_53 0 rfl
theorem dX8_cases_56 : decode cX8_cases 56 = .ok (.aload_n 0, 1) := zdec_at bX8_cases_53 1 rfl
theorem dX8_cases_57 : decode cX8_cases 57 = .ok (.bipush 25, 2) := zdec_at bX8_cases_53 2 rfl
theorem dX8_cases_59 : decode cX8_cases 59 = .ok (.invokevirtual 398, 3) := zdec_at bX8_cases_53 3 rfl
theorem dX8_cases_62 : decode cX8_cases 62 = .ok (.ifCond .ne 174, 3) := zdec_at bX8_cases_53 4 rfl
theorem dX8_cases_65 : decode cX8_cases 65 = .ok (.iconst (-1), 1) := zdec_at bX8_cases_53 5 rfl
theorem dX8_cases_66 : decode cX8_cases 66 = .ok (.istore 5, 2) := zdec_at bX8_cases_53 6 rfl
theorem dX8_cases_68 : decode cX8_cases 68 = .ok (.aload_n 0, 1) := zdec_at bX8_cases_53 7 rfl
theorem dX8_cases_69 : decode cX8_cases 69 = .ok (.iconst 4, 1) := zdec_at bX8_cases_53 8 rfl
theorem dX8_cases_70 : decode cX8_cases 70 = .ok (.invokevirtual 404, 3) := zdec_at bX8_cases_53 9 rfl
theorem dX8_cases_73 : decode cX8_cases 73 = .ok (.istore 6, 2) := zdec_at bX8_cases_53 10 rfl
theorem dX8_cases_75 : decode cX8_cases 75 = .ok (.iload 6, 2) := zdec_at bX8_cases_53 11 rfl
theorem dX8_cases_77 : decode cX8_cases 77 = .ok (.ifCond .eq 14, 3) := zdec_at bX8_cases_53 12 rfl
theorem dX8_cases_80 : decode cX8_cases 80 = .ok (.iload 4, 2) := zdec_at bX8_cases_53 13 rfl
theorem dX8_cases_82 : decode cX8_cases 82 = .ok (.ifCond .eq 9, 3) := zdec_at bX8_cases_53 14 rfl
theorem dX8_cases_85 : decode cX8_cases 85 = .ok (.aload_n 0, 1) := zdec_at bX8_cases_53 15 rfl
theorem bX8_cases_86 : zdec cX8_cases 86 [(86, .iconst 3, 1), (87, .invokevirtual 401, 3), (90, .pop, 1), (91, .iload 4, 2), (93, .ifCond .ne 8, 3), (96, .iload 6, 2), (98, .ifCond .eq 7, 3), (101, .iconst 1, 1), (102, .goto 4, 3), (105, .iconst 0, 1), (106, .istore 4, 2), (108, .iload 6, 2), (110, .ifCond .eq 16, 3), (113, .aload_n 0, 1), (114, .dup, 1), (115, .getfield 392, 3)] = true := by decide +kernel
theorem dX8_cases_86 : decode cX8_cases 86 = .ok (.iconst 3, 1) := zdec_at bX8_cases_86 0 rfl
theorem dX8_cases_87 : decode cX8_cases 87 = .ok (.invokevirtual 401, 3) := zdec_at bX8_cases_86 1 rfl
theorem dX8_cases_90 : decode cX8_cases 90 = .ok (.pop, 1) := zdec_at bX8_cases_86 2 rfl
theorem dX8_cases_91 : decode cX8_cases 91 = .ok (.iload 4, 2) := zdec_at bX8_cases_86 3 rfl
theorem dX8_cases_93 : decode cX8_cases 93 = .ok (.ifCond .ne 8, 3) := zdec_at bX8_cases_86 4 rfl
theorem dX8_cases_96 : decode cX8_cases 96 = .ok (.iload 6, 2) := zdec_at bX8_cases_86 5 rfl
theorem dX8_cases_98 : decode cX8_cases 98 = .ok (.ifCond .eq 7, 3) := zdec_at bX8_cases_86 6 rfl
theorem dX8_cases_101 : decode cX8_cases 101 = .ok (.iconst 1, 1) := zdec_at bX8_cases_86 7 rfl
theorem dX8_cases_102 : decode cX8_cases 102 = .ok (.goto 4, 3) := zdec_at bX8_cases_86 8 rfl
theorem dX8_cases_105 : decode cX8_cases 105 = .ok (.iconst 0, 1) := zdec_at bX8_cases_86 9 rfl
theorem dX8_cases_106 : decode cX8_cases 106 = .ok (.istore 4, 2) := zdec_at bX8_cases_86 10 rfl
theorem dX8_cases_108 : decode cX8_cases 108 = .ok (.iload 6, 2) := zdec_at bX8_cases_86 11 rfl
theorem dX8_cases_110 : decode cX8_cases 110 = .ok (.ifCond .eq 16, 3) := zdec_at bX8_cases_86 12 rfl
theorem dX8_cases_113 : decode cX8_cases 113 = .ok (.aload_n 0, 1) := zdec_at bX8_cases_86 13 rfl
theorem dX8_cases_114 : decode cX8_cases 114 = .ok (.dup, 1) := zdec_at bX8_cases_86 14 rfl
theorem dX8_cases_115 : decode cX8_cases 115 = .ok (.getfield 392, 3) := zdec_at bX8_cases_86 15 rfl
theorem bX8_cases_118 : zdec cX8_cases 118 [(118, .iconst 1, 1), (119, .iadd, 1), (120, .putfield 392, 3), (123, .goto 18, 3), (126, .aload_n 0, 1), (127, .iconst 1, 1), (128, .invokevirtual 600, 3), (131, .ifCond .eq 10, 3), (134, .aload_n 0, 1), (135, .iconst 1, 1), (136, .invokevirtual 502, 3), (139, .istore 5, 2), (141, .aload_n 0, 1), (142, .bipush 46, 2), (144, .invokevirtual 473, 3), (147, .istore 7, 2)] = true := by decide +kernel
theorem dX8_cases_118 : decode cX8_cases 118 = .ok (.iconst 1, 1) := zdec_at bX8_cases_118 0 rfl
theorem dX8_cases_119 : decode cX8_cases 119 = .ok (.iadd, 1) := zdec_at bX8_cases_118 1 rfl
theorem dX8_cases_120 : decode cX8_cases 120 = .ok (.putfield 392, 3) := zdec_at bX8_cases_118 2 rfl
theorem dX8_cases_123 : decode cX8_cases 123 = .ok (.goto 18, 3) := zdec_at bX8_cases_118 3 rfl
theorem dX8_cases_126 : decode cX8_cases 126 = .ok (.aload_n 0, 1) := zdec_at bX8_cases_118 4 rfl
theorem dX8_cases_127 : decode cX8_cases 127 = .ok (.iconst 1, 1) := zdec_at bX8_cases_118 5 rfl
theorem dX8_cases_128 : decode cX8_cases 128 = .ok (.invokevirtual 600, 3) := zdec_at bX8_cases_118 6 rfl
theorem dX8_cases_131 : decode cX8_cases 131 = .ok (.ifCond .eq 10, 3) := zdec_at bX8_cases_118 7 rfl
theorem dX8_cases_134 : decode cX8_cases 134 = .ok (.aload_n 0, 1) := zdec_at bX8_cases_118 8 rfl
theorem dX8_cases_135 : decode cX8_cases 135 = .ok (.iconst 1, 1) := zdec_at bX8_cases_118 9 rfl
theorem dX8_cases_136 : decode cX8_cases 136 = .ok (.invokevirtual 502, 3) := zdec_at bX8_cases_118 10 rfl
theorem dX8_cases_139 : decode cX8_cases 139 = .ok (.istore 5, 2) := zdec_at bX8_cases_118 11 rfl
theorem dX8_cases_141 : decode cX8_cases 141 = .ok (.aload_n 0, 1) := zdec_at bX8_cases_118 12 rfl
theorem dX8_cases_142 : decode cX8_cases 142 = .ok (.bipush 46, 2) := zdec_at bX8_cases_118 13 rfl
theorem dX8_cases_144 : decode cX8_cases 144 = .ok (.invokevirtual 473, 3) := zdec_at bX8_cases_118 14 rfl
theorem dX8_cases_147 : decode cX8_cases 147 = .ok (.istore 7, 2) := zdec_at bX8_cases_118 15 rfl
theorem bX8_cases_149 : zdec cX8_cases 149 [(149, .aload_n 0, 1), (150, .bipush 35, 2), (152, .iload 5, 2), (154, .iconst (-1), 1), (155, .iconst 0, 1), (156, .invokevirtual 446, 3), (159, .istore 8, 2), (161, .aload_n 0, 1), (162, .invokevirtual 509, 3), (165, .aload_n 0, 1), (166, .getfield 389, 3), (169, .ifCond .ne 39, 3), (172, .aload_n 0, 1), (173, .bipush 25, 2), (175, .invokevirtual 398, 3), (178, .ifCond .ne 30, 3)] = true := by decide +kernel
theorem dX8_cases_149 : decode cX8_cases 149 = .ok (.aload_n 0, 1) := zdec_at bX8_cases_149 0 rfl
theorem dX8_cases_150 : decode cX8_cases 150 = .ok (.bipush 35, 2) := zdec_at bX8_cases_149 1 rfl
theorem dX8_cases_152 : decode cX8_cases 152 = .ok (.iload 5, 2) := zdec_at bX8_cases_149 2 rfl
theorem dX8_cases_154 : decode cX8_cases 154 = .ok (.iconst (-1), 1) := zdec_at bX8_cases_149 3 rfl
theorem dX8_cases_155 : decode cX8_cases 155 = .ok (.iconst 0, 1) := zdec_at bX8_cases_149 4 rfl
theorem dX8_cases_156 : decode cX8_cases 156 = .ok (.invokevirtual 446, 3) := zdec_at bX8_cases_149 5 rfl
theorem dX8_cases_159 : decode cX8_cases 159 = .ok (.istore 8, 2) := zdec_at bX8_cases_149 6 rfl
theorem dX8_cases_161 : decode cX8_cases 161 = .ok (.aload_n 0, 1) := zdec_at bX8_cases_149 7 rfl
theorem dX8_cases_162 : decode cX8_cases 162 = .ok (.invokevirtual 509, 3) := zdec_at bX8_cases_149 8 rfl
theorem dX8_cases_165 : decode cX8_cases 165 = .ok (.aload_n 0, 1) := zdec_at bX8_cases_149 9 rfl
theorem dX8_cases_166 : decode cX8_cases 166 = .ok (.getfield 389, 3) := zdec_at bX8_cases_149 10 rfl
theorem dX8_cases_169 : decode cX8_cases 169 = .ok (.ifCond .ne 39, 3) := zdec_at bX8_cases_149 11 rfl
theorem dX8_cases_172 : decode cX8_cases 172 = .ok (.aload_n 0, 1) := zdec_at bX8_cases_149 12 rfl
theorem dX8_cases_173 : decode cX8_cases 173 = .ok (.bipush 25, 2) := zdec_at bX8_cases_149 13 rfl
theorem dX8_cases_175 : decode cX8_cases 175 = .ok (.invokevirtual 398, 3) := zdec_at bX8_cases_149 14 rfl
theorem dX8_cases_178 : decode cX8_cases 178 = .ok (.ifCond .ne 30, 3) := zdec_at bX8_cases_149 15 rfl
theorem bX8_cases_181 : zdec cX8_cases 181 [(181, .aload_n 0, 1), (182, .iconst 1, 1), (183, .invokevirtual 404, 3), (186, .ifCond .ne 22, 3), (189, .aload_n 0, 1), (190, .iconst 4, 1), (191, .invokevirtual 404, 3), (194, .ifCond .ne 14, 3), (197, .aload_n 0, 1), (198, .aload_n 0, 1), (199, .invokevirtual 553, 3), (202, .invokevirtual 512, 3), (205, .goto (-40), 3), (208, .aload_n 0, 1), (209, .invokevirtual 515, 3), (212, .istore 9, 2)] = true := by decide +kernel
theorem dX8_cases_181 : decode cX8_cases 181 = .ok (.aload_n 0, 1) := zdec_at bX8_cases_181 0 rfl
theorem dX8_cases_182 : decode cX8_cases 182 = .ok (.iconst 1, 1) := zdec_at bX8_cases_181 1 rfl
theorem dX8_cases_183 : decode cX8_cases 183 = .ok (.invokevirtual 404, 3) := zdec_at bX8_cases_181 2 rfl
theorem dX8_cases_186 : decode cX8_cases 186 = .ok (.ifCond .ne 22, 3) := zdec_at bX8_cases_181 3 rfl
theorem dX8_cases_189 : decode cX8_cases 189 = .ok (.aload_n 0, 1) := zdec_at bX8_cases_181 4 rfl
theorem dX8_cases_190 : decode cX8_cases 190 = .ok (.iconst 4, 1) := zdec_at bX8_cases_181 5 rfl
theorem dX8_cases_191 : decode cX8_cases 191 = .ok (.invokevirtual 404, 3) := zdec_at bX8_cases_181 6 rfl
theorem dX8_cases_194 : decode cX8_cases 194 = .ok (.ifCond .ne 14, 3) := zdec_at bX8_cases_181 7 rfl
theorem dX8_cases_197 : decode cX8_cases 197 = .ok (.aload_n 0, 1) := zdec_at bX8_cases_181 8 rfl
theorem dX8_cases_198 : decode cX8_cases 198 = .ok (.aload_n 0, 1) := zdec_at bX8_cases_181 9 rfl
theorem dX8_cases_199 : decode cX8_cases 199 = .ok (.invokevirtual 553, 3) := zdec_at bX8_cases_181 10 rfl
theorem dX8_cases_202 : decode cX8_cases 202 = .ok (.invokevirtual 512, 3) := zdec_at bX8_cases_181 11 rfl
theorem dX8_cases_205 : decode cX8_cases 205 = .ok (.goto (-40), 3) := zdec_at bX8_cases_181 12 rfl
theorem dX8_cases_208 : decode cX8_cases 208 = .ok (.aload_n 0, 1) := zdec_at bX8_cases_181 13 rfl
theorem dX8_cases_209 : decode cX8_cases 209 = .ok (.invokevirtual 515, 3) := zdec_at bX8_cases_181 14 rfl
theorem dX8_cases_212 : decode cX8_cases 212 = .ok (.istore 9, 2) := zdec_at bX8_cases_181 15 rfl
theorem bX8_cases_214 : zdec cX8_cases 214 [(214, .aload_n 0, 1), (215, .getfield 46, 3), (218, .iconst 5, 1), (219, .iload 8, 2), (221, .imul, 1), (222, .iconst 1, 1), (223, .iadd, 1), (224, .iload 9, 2), (226, .iastore, 1), (227, .aload_n 0, 1), (228, .iload 8, 2), (230, .invokevirtual 512, 3), (233, .goto (-184), 3), (236, .aload_n 0, 1), (237, .dup, 1), (238, .getfield 533, 3)] = true := by decide +kernel
theorem dX8_cases_214 : decode cX8_cases 214 = .ok (.aload_n 0, 1) := zdec_at bX8_cases_214 0 rfl
theorem dX8_cases_215 : decode cX8_cases 215 = .ok (.getfield 46, 3) := zdec_at bX8_cases_214 1 rfl
theorem dX8_cases_218 : decode cX8_cases 218 = .ok (.iconst 5, 1) := zdec_at bX8_cases_214 2 rfl
theorem dX8_cases_219 : decode cX8_cases 219 = .ok (.iload 8, 2) := zdec_at bX8_cases_214 3 rfl
theorem dX8_cases_221 : decode cX8_cases 221 = .ok (.imul, 1) := zdec_at bX8_cases_214 4 rfl
theorem dX8_cases_222 : decode cX8_cases 222 = .ok (.iconst 1, 1) := zdec_at bX8_cases_214 5 rfl
theorem dX8_cases_223 : decode cX8_cases 223 = .ok (.iadd, 1) := zdec_at bX8_cases_214 6 rfl
theorem dX8_cases_224 : decode cX8_cases 224 = .ok (.iload 9, 2) := zdec_at bX8_cases_214 7 rfl
theorem dX8_cases_226 : decode cX8_cases 226 = .ok (.iastore, 1) := zdec_at bX8_cases_214 8 rfl
theorem dX8_cases_227 : decode cX8_cases 227 = .ok (.aload_n 0, 1) := zdec_at bX8_cases_214 9 rfl
theorem dX8_cases_228 : decode cX8_cases 228 = .ok (.iload 8, 2) := zdec_at bX8_cases_214 10 rfl
theorem dX8_cases_230 : decode cX8_cases 230 = .ok (.invokevirtual 512, 3) := zdec_at bX8_cases_214 11 rfl
theorem dX8_cases_233 : decode cX8_cases 233 = .ok (.goto (-184), 3) := zdec_at bX8_cases_214 12 rfl
theorem dX8_cases_236 : decode cX8_cases 236 = .ok (.aload_n 0, 1) := zdec_at bX8_cases_214 13 rfl
theorem dX8_cases_237 : decode cX8_cases 237 = .ok (.dup, 1) := zdec_at bX8_cases_214 14 rfl
theorem dX8_cases_238 : decode cX8_cases 238 = .ok (.getfield 533, 3) := zdec_at bX8_cases_214 15 rfl
theorem bX8_cases_241 : zdec cX8_cases 241 [(241, .iconst 1, 1), (242, .isub, 1), (243, .putfield 533, 3), (246, .aload_n 0, 1), (247, .invokevirtual 515, 3), (250, .istore 5, 2), (252, .aload_n 0, 1), (253, .getfield 46, 3), (256, .iconst 5, 1), (257, .iload_n 2, 1), (258, .imul, 1), (259, .iconst 1, 1), (260, .iadd, 1), (261, .iload 5, 2), (263, .iastore, 1), (264, .aload_n 0, 1)] = true := by decide +kernel
theorem dX8_cases_241 : decode cX8_cases 241 = .ok (.iconst 1, 1) := zdec_at bX8_cases_241 0 rfl
theorem dX8_cases_242 : decode cX8_cases 242 = .ok (.isub, 1) := zdec_at bX8_cases_241 1 rfl
theorem dX8_cases_243 : decode cX8_cases 243 = .ok (.putfield 533, 3) := zdec_at bX8_cases_241 2 rfl
theorem dX8_cases_246 : decode cX8_cases 246 = .ok (.aload_n 0, 1) := zdec_at bX8_cases_241 3 rfl
theorem dX8_cases_247 : decode cX8_cases 247 = .ok (.invokevirtual 515, 3) := zdec_at bX8_cases_241 4 rfl
theorem dX8_cases_250 : decode cX8_cases 250 = .ok (.istore 5, 2) := zdec_at bX8_cases_241 5 rfl
theorem dX8_cases_252 : decode cX8_cases 252 = .ok (.aload_n 0, 1) := zdec_at bX8_cases_241 6 rfl
theorem dX8_cases_253 : decode cX8_cases 253 = .ok (.getfield 46, 3) := zdec_at bX8_cases_241 7 rfl
theorem dX8_cases_256 : decode cX8_cases 256 = .ok (.iconst 5, 1) := zdec_at bX8_cases_241 8 rfl
theorem dX8_cases_257 : decode cX8_cases 257 = .ok (.iload_n 2, 1) := zdec_at bX8_cases_241 9 rfl
theorem dX8_cases_258 : decode cX8_cases 258 = .ok (.imul, 1) := zdec_at bX8_cases_241 10 rfl
theorem dX8_cases_259 : decode cX8_cases 259 = .ok (.iconst 1, 1) := zdec_at bX8_cases_241 11 rfl
theorem dX8_cases_260 : decode cX8_cases 260 = .ok (.iadd, 1) := zdec_at bX8_cases_241 12 rfl
theorem dX8_cases_261 : decode cX8_cases 261 = .ok (.iload 5, 2) := zdec_at bX8_cases_241 13 rfl
theorem dX8_cases_263 : decode cX8_cases 263 = .ok (.iastore, 1) := zdec_at bX8_cases_241 14 rfl
theorem dX8_cases_264 : decode cX8_cases 264 = .ok (.aload_n 0, 1) := zdec_at bX8_cases_241 15 rfl
theorem bX8_cases_265 : zdec cX8_cases 265 [(265, .bipush 25, 2), (267, .invokevirtual 473, 3), (270, .istore 6, 2), (272, .iload_n 2, 1), (273, .ireturn, 1)] = true := by decide +kernel
theorem dX8_cases_265 : decode cX8_cases 265 = .ok (.bipush 25, 2) := zdec_at bX8_cases_265 0 rfl
theorem dX8_cases_267 : decode cX8_cases 267 = .ok (.invokevirtual 473, 3) := zdec_at bX8_cases_265 1 rfl
theorem dX8_cases_270 : decode cX8_cases 270 = .ok (.istore 6, 2) := zdec_at bX8_cases_265 2 rfl
theorem dX8_cases_272 : decode cX8_cases 272 = .ok (.iload_n 2, 1) := zdec_at bX8_cases_265 3 rfl
theorem dX8_cases_273 : decode cX8_cases 273 = .ok (.ireturn, 1) := zdec_at bX8_cases_265 4 rfl
theorem sX8_cases_0 {E : zE} {d : Nat} {Q : zO → zM → Prop} (M : zM)  (k : Zm E YX8_condition d (si M 97 20 ((gi M 97 20) + (1 : Int32))) (zargs 0 [vr (some (97, 1, 0))]) 0 [] (zma E YX8_cases (d + 1) [(0, vr (some (97, 1, 0)))] 11 3 [] Q)) : Zm E YX8_cases (d + 1) M [(0, vr (some (97, 1, 0)))] 0 [] Q := by
  refine Zm.l (fun _ _ k_ => z_aload_n dX8_cases_0 rfl rfl k_) ?_
  refine Zm.l (fun _ _ k_ => z_dup dX8_cases_1 rfl k_) ?_
  refine zm_geti dX8_cases_2 fsX8_392_1 (by decide) (by decide) ?_
  refine Zm.l (fun _ _ k_ => z_iconst (v := 1) dX8_cases_5 rfl k_) ?_
  refine Zm.l (fun _ _ k_ => z_iadd dX8_cases_6 k_) ?_
  refine zm_puti (by decide) (by decide) dX8_cases_7 (zfwN.w fwX8_392_1) rfl ⟨rfl, rfl⟩ ?_
  refine Zm.l (fun _ _ k_ => z_aload_n dX8_cases_10 rfl rfl k_) ?_
  exact zm_callV (as := []) (st := []) dX8_cases_11 vsX8_577_1 (Nat.le_refl _) (Nat.le_of_ble_eq_true rfl) (Nat.le_of_ble_eq_true rfl) rfl k
theorem sX8_cases_14 {E : zE} {d : Nat} {Q : zO → zM → Prop} (M : zM) (s0 : Int32) (k : Zm E YX8_node d M (zargs 0 [vr (some (97, 1, 0)), vi (34 : Int32), vi s0, vi (-1 : Int32), vi (0 : Int32)]) 0 [] (zma E YX8_cases (d + 1) [(0, vr (some (97, 1, 0)))] 21 3 [] Q)) : Zm E YX8_cases (d + 1) M [(0, vr (some (97, 1, 0)))] 14 [vi s0] Q := by
  refine Zm.l (fun _ _ k_ => z_ist_n dX8_cases_14 rfl (by decide) (lv' := [(0, vr (some (97, 1, 0))), (1, vi s0)]) rfl k_) ?_
  refine Zm.l (fun _ _ k_ => z_aload_n dX8_cases_15 rfl rfl k_) ?_
  refine Zm.l (fun _ _ k_ => z_bipush (v := 34) dX8_cases_16 rfl k_) ?_
  refine Zm.l (fun _ _ k_ => z_iload_n dX8_cases_18 rfl rfl k_) ?_
  refine Zm.l (fun _ _ k_ => z_iconst (v := -1) dX8_cases_19 rfl k_) ?_
  refine Zm.l (fun _ _ k_ => z_iconst (v := 0) dX8_cases_20 rfl k_) ?_
  refine Zm.pick [0] rfl ?_
  exact zm_callV (as := [vi (34 : Int32), vi s0, vi (-1 : Int32), vi (0 : Int32)]) (st := []) dX8_cases_21 vsX8_446_1 (Nat.le_refl _) (Nat.le_of_ble_eq_true rfl) (Nat.le_of_ble_eq_true rfl) rfl k
theorem sX8_cases_24 {E : zE} {d : Nat} {Q : zO → zM → Prop} (M : zM) (s0 : Int32) (k : Zm E YX8_must d M (zargs 0 [vr (some (97, 1, 0)), vi (24 : Int32)]) 0 [] (zma E YX8_cases (d + 1) [(0, vr (some (97, 1, 0))), (2, vi s0)] 28 3 [] Q)) : Zm E YX8_cases (d + 1) M [(0, vr (some (97, 1, 0)))] 24 [vi s0] Q := by
  refine Zm.l (fun _ _ k_ => z_ist_n dX8_cases_24 rfl (by decide) (lv' := [(0, vr (some (97, 1, 0))), (2, vi s0)]) rfl k_) ?_
  refine Zm.l (fun _ _ k_ => z_aload_n dX8_cases_25 rfl rfl k_) ?_
  refine Zm.l (fun _ _ k_ => z_bipush (v := 24) dX8_cases_26 rfl k_) ?_
  exact zm_callV (as := [vi (24 : Int32)]) (st := []) dX8_cases_28 vsX8_473_1 (Nat.le_refl _) (Nat.le_of_ble_eq_true rfl) (Nat.le_of_ble_eq_true rfl) rfl k
theorem sX8_cases_31 {E : zE} {d : Nat} {Q : zO → zM → Prop} (M : zM) (l2 : Int32) (s0 : Int32) (k : Zm E YX8_beginList d M (zargs 0 [vr (some (97, 1, 0))]) 0 [] (zma E YX8_cases (d + 1) [(0, vr (some (97, 1, 0))), (2, vi l2), (4, vi (0 : Int32))] 36 3 [] Q)) : Zm E YX8_cases (d + 1) M [(0, vr (some (97, 1, 0))), (2, vi l2)] 31 [vi s0] Q := by
  refine Zm.l (fun _ _ k_ => z_ist_n dX8_cases_31 rfl (by decide) (lv' := [(0, vr (some (97, 1, 0))), (2, vi l2), (3, vi s0)]) rfl k_) ?_
  refine Zm.l (fun _ _ k_ => z_iconst (v := 0) dX8_cases_32 rfl k_) ?_
  refine Zm.l (fun _ _ k_ => z_ist dX8_cases_33 (by decide) (lv' := [(0, vr (some (97, 1, 0))), (2, vi l2), (3, vi s0), (4, vi (0 : Int32))]) rfl k_) ?_
  refine Zm.l (fun _ _ k_ => z_aload_n dX8_cases_35 rfl rfl k_) ?_
  refine Zm.pick [0, 1, 3] rfl ?_
  exact zm_callV (as := []) (st := []) dX8_cases_36 vsX8_509_1 (Nat.le_refl _) (Nat.le_of_ble_eq_true rfl) (Nat.le_of_ble_eq_true rfl) rfl k
theorem sX8_cases_39 {E : zE} {d : Nat} {Q : zO → zM → Prop} (M : zM) (l2 : Int32) (l4 : Int32) (k : Zm E YX8_cases (d + 1) (si M 97 45 ((gi M 97 45) + (1 : Int32))) [(0, vr (some (97, 1, 0))), (2, vi l2), (4, vi l4)] 49 [] Q) : Zm E YX8_cases (d + 1) M [(0, vr (some (97, 1, 0))), (2, vi l2), (4, vi l4)] 39 [] Q := by
  refine Zm.l (fun _ _ k_ => z_aload_n dX8_cases_39 rfl rfl k_) ?_
  refine Zm.l (fun _ _ k_ => z_dup dX8_cases_40 rfl k_) ?_
  refine zm_geti dX8_cases_41 fsX8_533_1 (by decide) (by decide) ?_
  refine Zm.l (fun _ _ k_ => z_iconst (v := 1) dX8_cases_44 rfl k_) ?_
  refine Zm.l (fun _ _ k_ => z_iadd dX8_cases_45 k_) ?_
  refine zm_puti (by decide) (by decide) dX8_cases_46 (zfwN.w fwX8_533_1) rfl ⟨rfl, rfl⟩ ?_
  exact k
theorem sX8_cases_49 {E : zE} {d : Nat} {Q : zO → zM → Prop} (M : zM) (l2 : Int32) (l4 : Int32) (k : if (gi M 97 21) = 0 then (Zm E YX8_isSign d M (zargs 0 [vr (some (97, 1, 0)), vi (25 : Int32)]) 0 [] (zma E YX8_cases (d + 1) [(0, vr (some (97, 1, 0))), (2, vi l2), (4, vi l4)] 59 3 [] Q)) else (Zm E YX8_cases (d + 1) M [(0, vr (some (97, 1, 0))), (2, vi l2)] 236 [] Q)) : Zm E YX8_cases (d + 1) M [(0, vr (some (97, 1, 0))), (2, vi l2), (4, vi l4)] 49 [] Q := by
  refine Zm.l (fun _ _ k_ => z_aload_n dX8_cases_49 rfl rfl k_) ?_
  refine zm_geti dX8_cases_50 fsX8_389_1 (by decide) (by decide) ?_
  refine Zm.brn (fun _ _ k1_ k2_ => z_if_ne (tgt := 236) dX8_cases_53 rfl k1_ k2_) (fun h_ => ?_) (fun h_ => ?_)
  · have k := zif h_ k
    refine Zm.pick [0, 1] rfl ?_
    exact k
  · have k := zit h_ k
    refine Zm.l (fun _ _ k_ => z_aload_n dX8_cases_56 rfl rfl k_) ?_
    refine Zm.l (fun _ _ k_ => z_bipush (v := 25) dX8_cases_57 rfl k_) ?_
    exact zm_callV (as := [vi (25 : Int32)]) (st := []) dX8_cases_59 vsX8_398_1 (Nat.le_refl _) (Nat.le_of_ble_eq_true rfl) (Nat.le_of_ble_eq_true rfl) rfl k
theorem sX8_cases_62 {E : zE} {d : Nat} {Q : zO → zM → Prop} (M : zM) (l2 : Int32) (l4 : Int32) (s0 : Int32) (k : if s0 = 0 then (Zm E YX8_isKeyword d M (zargs 0 [vr (some (97, 1, 0)), vi (4 : Int32)]) 0 [] (zma E YX8_cases (d + 1) [(0, vr (some (97, 1, 0))), (2, vi l2), (4, vi l4), (5, vi (-1 : Int32))] 70 3 [] Q)) else (Zm E YX8_cases (d + 1) M [(0, vr (some (97, 1, 0))), (2, vi l2)] 236 [] Q)) : Zm E YX8_cases (d + 1) M [(0, vr (some (97, 1, 0))), (2, vi l2), (4, vi l4)] 62 [vi s0] Q := by
  refine Zm.brn (fun _ _ k1_ k2_ => z_if_ne (tgt := 236) dX8_cases_62 rfl k1_ k2_) (fun h_ => ?_) (fun h_ => ?_)
  · have k := zif h_ k
    refine Zm.pick [0, 1] rfl ?_
    exact k
  · have k := zit h_ k
    refine Zm.l (fun _ _ k_ => z_iconst (v := -1) dX8_cases_65 rfl k_) ?_
    refine Zm.l (fun _ _ k_ => z_ist dX8_cases_66 (by decide) (lv' := [(0, vr (some (97, 1, 0))), (2, vi l2), (4, vi l4), (5, vi (-1 : Int32))]) rfl k_) ?_
    refine Zm.l (fun _ _ k_ => z_aload_n dX8_cases_68 rfl rfl k_) ?_
    refine Zm.l (fun _ _ k_ => z_iconst (v := 4) dX8_cases_69 rfl k_) ?_
    exact zm_callV (as := [vi (4 : Int32)]) (st := []) dX8_cases_70 vsX8_404_1 (Nat.le_refl _) (Nat.le_of_ble_eq_true rfl) (Nat.le_of_ble_eq_true rfl) rfl k
theorem sX8_cases_73 {E : zE} {d : Nat} {Q : zO → zM → Prop} (M : zM) (l2 : Int32) (l4 : Int32) (l5 : Int32) (s0 : Int32) (k : if s0 = 0 then (Zm E YX8_cases (d + 1) M [(0, vr (some (97, 1, 0))), (2, vi l2), (4, vi l4), (5, vi l5), (6, vi s0)] 91 [] Q) else (if l4 = 0 then (Zm E YX8_cases (d + 1) M [(0, vr (some (97, 1, 0))), (2, vi l2), (4, vi l4), (5, vi l5), (6, vi s0)] 91 [] Q) else (Zm E YX8_fail d M (zargs 0 [vr (some (97, 1, 0)), vi (3 : Int32)]) 0 [] (zma E YX8_cases (d + 1) [(0, vr (some (97, 1, 0))), (2, vi l2), (4, vi l4), (5, vi l5), (6, vi s0)] 87 3 [] Q)))) : Zm E YX8_cases (d + 1) M [(0, vr (some (97, 1, 0))), (2, vi l2), (4, vi l4), (5, vi l5)] 73 [vi s0] Q := by
  refine Zm.l (fun _ _ k_ => z_ist dX8_cases_73 (by decide) (lv' := [(0, vr (some (97, 1, 0))), (2, vi l2), (4, vi l4), (5, vi l5), (6, vi s0)]) rfl k_) ?_
  refine Zm.l (fun _ _ k_ => z_iload dX8_cases_75 rfl k_) ?_
  refine Zm.br (fun _ _ k1_ k2_ => z_if_eq (tgt := 91) dX8_cases_77 rfl k1_ k2_) (fun h_ => ?_) (fun h_ => ?_)
  · have k := zit h_ k
    exact k
  · have k := zif h_ k
    refine Zm.l (fun _ _ k_ => z_iload dX8_cases_80 rfl k_) ?_
    refine Zm.br (fun _ _ k1_ k2_ => z_if_eq (tgt := 91) dX8_cases_82 rfl k1_ k2_) (fun h_ => ?_) (fun h_ => ?_)
    · have k := zit h_ k
      exact k
    · have k := zif h_ k
      refine Zm.l (fun _ _ k_ => z_aload_n dX8_cases_85 rfl rfl k_) ?_
      refine Zm.l (fun _ _ k_ => z_iconst (v := 3) dX8_cases_86 rfl k_) ?_
      exact zm_callV (as := [vi (3 : Int32)]) (st := []) dX8_cases_87 vsX8_401_1 (Nat.le_refl _) (Nat.le_of_ble_eq_true rfl) (Nat.le_of_ble_eq_true rfl) rfl k
theorem sX8_cases_90 {E : zE} {d : Nat} {Q : zO → zM → Prop} (M : zM) (l2 : Int32) (l4 : Int32) (l5 : Int32) (l6 : Int32) (s0 : Int32) (k : Zm E YX8_cases (d + 1) M [(0, vr (some (97, 1, 0))), (2, vi l2), (4, vi l4), (5, vi l5), (6, vi l6)] 91 [] Q) : Zm E YX8_cases (d + 1) M [(0, vr (some (97, 1, 0))), (2, vi l2), (4, vi l4), (5, vi l5), (6, vi l6)] 90 [vi s0] Q := by
  refine Zm.l (fun _ _ k_ => z_pop dX8_cases_90 rfl k_) ?_
  exact k
theorem sX8_cases_91 {E : zE} {d : Nat} {Q : zO → zM → Prop} (M : zM) (l2 : Int32) (l4 : Int32) (l5 : Int32) (l6 : Int32) (k : if l4 = 0 then (if l6 = 0 then (Zm E YX8_cases (d + 1) M [(0, vr (some (97, 1, 0))), (2, vi l2), (5, vi l5), (6, vi l6)] 106 [vi (0 : Int32)] Q) else (Zm E YX8_cases (d + 1) M [(0, vr (some (97, 1, 0))), (2, vi l2), (5, vi l5), (6, vi l6)] 106 [vi (1 : Int32)] Q)) else (Zm E YX8_cases (d + 1) M [(0, vr (some (97, 1, 0))), (2, vi l2), (5, vi l5), (6, vi l6)] 106 [vi (1 : Int32)] Q)) : Zm E YX8_cases (d + 1) M [(0, vr (some (97, 1, 0))), (2, vi l2), (4, vi l4), (5, vi l5), (6, vi l6)] 91 [] Q := by
  refine Zm.l (fun _ _ k_ => z_iload dX8_cases_91 rfl k_) ?_
  refine Zm.brn (fun _ _ k1_ k2_ => z_if_ne (tgt := 101) dX8_cases_93 rfl k1_ k2_) (fun h_ => ?_) (fun h_ => ?_)
  · have k := zif h_ k
    refine Zm.l (fun _ _ k_ => z_iconst (v := 1) dX8_cases_101 rfl k_) ?_
    refine Zm.l (fun _ _ k_ => z_goto (tgt := 106) dX8_cases_102 rfl k_) ?_
    refine Zm.pick [0, 1, 3, 4] rfl ?_
    exact k
  · have k := zit h_ k
    refine Zm.l (fun _ _ k_ => z_iload dX8_cases_96 rfl k_) ?_
    refine Zm.br (fun _ _ k1_ k2_ => z_if_eq (tgt := 105) dX8_cases_98 rfl k1_ k2_) (fun h_ => ?_) (fun h_ => ?_)
    · have k := zit h_ k
      refine Zm.l (fun _ _ k_ => z_iconst (v := 0) dX8_cases_105 rfl k_) ?_
      refine Zm.pick [0, 1, 3, 4] rfl ?_
      exact k
    · have k := zif h_ k
      refine Zm.l (fun _ _ k_ => z_iconst (v := 1) dX8_cases_101 rfl k_) ?_
      refine Zm.l (fun _ _ k_ => z_goto (tgt := 106) dX8_cases_102 rfl k_) ?_
      refine Zm.pick [0, 1, 3, 4] rfl ?_
      exact k
theorem sX8_cases_106 {E : zE} {d : Nat} {Q : zO → zM → Prop} (M : zM) (l2 : Int32) (l5 : Int32) (l6 : Int32) (s0 : Int32) (k : if l6 = 0 then (Zm E YX8_mustWord d M (zargs 0 [vr (some (97, 1, 0)), vi (1 : Int32)]) 0 [] (zma E YX8_cases (d + 1) [(0, vr (some (97, 1, 0))), (2, vi l2), (4, vi s0), (5, vi l5)] 128 3 [] Q)) else (Zm E YX8_must d (si M 97 20 ((gi M 97 20) + (1 : Int32))) (zargs 0 [vr (some (97, 1, 0)), vi (46 : Int32)]) 0 [] (zma E YX8_cases (d + 1) [(0, vr (some (97, 1, 0))), (2, vi l2), (4, vi s0), (5, vi l5)] 144 3 [] Q))) : Zm E YX8_cases (d + 1) M [(0, vr (some (97, 1, 0))), (2, vi l2), (5, vi l5), (6, vi l6)] 106 [vi s0] Q := by
  refine Zm.l (fun _ _ k_ => z_ist dX8_cases_106 (by decide) (lv' := [(0, vr (some (97, 1, 0))), (2, vi l2), (4, vi s0), (5, vi l5), (6, vi l6)]) rfl k_) ?_
  refine Zm.l (fun _ _ k_ => z_iload dX8_cases_108 rfl k_) ?_
  refine Zm.br (fun _ _ k1_ k2_ => z_if_eq (tgt := 126) dX8_cases_110 rfl k1_ k2_) (fun h_ => ?_) (fun h_ => ?_)
  · have k := zit h_ k
    refine Zm.l (fun _ _ k_ => z_aload_n dX8_cases_126 rfl rfl k_) ?_
    refine Zm.l (fun _ _ k_ => z_iconst (v := 1) dX8_cases_127 rfl k_) ?_
    refine Zm.pick [0, 1, 2, 3] rfl ?_
    exact zm_callV (as := [vi (1 : Int32)]) (st := []) dX8_cases_128 vsX8_600_1 (Nat.le_refl _) (Nat.le_of_ble_eq_true rfl) (Nat.le_of_ble_eq_true rfl) rfl k
  · have k := zif h_ k
    refine Zm.l (fun _ _ k_ => z_aload_n dX8_cases_113 rfl rfl k_) ?_
    refine Zm.l (fun _ _ k_ => z_dup dX8_cases_114 rfl k_) ?_
    refine zm_geti dX8_cases_115 fsX8_392_1 (by decide) (by decide) ?_
    refine Zm.l (fun _ _ k_ => z_iconst (v := 1) dX8_cases_118 rfl k_) ?_
    refine Zm.l (fun _ _ k_ => z_iadd dX8_cases_119 k_) ?_
    refine zm_puti (by decide) (by decide) dX8_cases_120 (zfwN.w fwX8_392_1) rfl ⟨rfl, rfl⟩ ?_
    refine Zm.l (fun _ _ k_ => z_goto (tgt := 141) dX8_cases_123 rfl k_) ?_
    refine Zm.l (fun _ _ k_ => z_aload_n dX8_cases_141 rfl rfl k_) ?_
    refine Zm.l (fun _ _ k_ => z_bipush (v := 46) dX8_cases_142 rfl k_) ?_
    refine Zm.pick [0, 1, 2, 3] rfl ?_
    exact zm_callV (as := [vi (46 : Int32)]) (st := []) dX8_cases_144 vsX8_473_1 (Nat.le_refl _) (Nat.le_of_ble_eq_true rfl) (Nat.le_of_ble_eq_true rfl) rfl k
theorem sX8_cases_131 {E : zE} {d : Nat} {Q : zO → zM → Prop} (M : zM) (l2 : Int32) (l4 : Int32) (l5 : Int32) (s0 : Int32) (k : if s0 = 0 then (Zm E YX8_must d M (zargs 0 [vr (some (97, 1, 0)), vi (46 : Int32)]) 0 [] (zma E YX8_cases (d + 1) [(0, vr (some (97, 1, 0))), (2, vi l2), (4, vi l4), (5, vi l5)] 144 3 [] Q)) else (Zm E YX8_expression d M (zargs 0 [vr (some (97, 1, 0)), vi (1 : Int32)]) 0 [] (zma E YX8_cases (d + 1) [(0, vr (some (97, 1, 0))), (2, vi l2), (4, vi l4)] 136 3 [] Q))) : Zm E YX8_cases (d + 1) M [(0, vr (some (97, 1, 0))), (2, vi l2), (4, vi l4), (5, vi l5)] 131 [vi s0] Q := by
  refine Zm.br (fun _ _ k1_ k2_ => z_if_eq (tgt := 141) dX8_cases_131 rfl k1_ k2_) (fun h_ => ?_) (fun h_ => ?_)
  · have k := zit h_ k
    refine Zm.l (fun _ _ k_ => z_aload_n dX8_cases_141 rfl rfl k_) ?_
    refine Zm.l (fun _ _ k_ => z_bipush (v := 46) dX8_cases_142 rfl k_) ?_
    exact zm_callV (as := [vi (46 : Int32)]) (st := []) dX8_cases_144 vsX8_473_1 (Nat.le_refl _) (Nat.le_of_ble_eq_true rfl) (Nat.le_of_ble_eq_true rfl) rfl k
  · have k := zif h_ k
    refine Zm.l (fun _ _ k_ => z_aload_n dX8_cases_134 rfl rfl k_) ?_
    refine Zm.l (fun _ _ k_ => z_iconst (v := 1) dX8_cases_135 rfl k_) ?_
    refine Zm.pick [0, 1, 2] rfl ?_
    exact zm_callV (as := [vi (1 : Int32)]) (st := []) dX8_cases_136 vsX8_502_1 (Nat.le_refl _) (Nat.le_of_ble_eq_true rfl) (Nat.le_of_ble_eq_true rfl) rfl k
theorem sX8_cases_139 {E : zE} {d : Nat} {Q : zO → zM → Prop} (M : zM) (l2 : Int32) (l4 : Int32) (s0 : Int32) (k : Zm E YX8_must d M (zargs 0 [vr (some (97, 1, 0)), vi (46 : Int32)]) 0 [] (zma E YX8_cases (d + 1) [(0, vr (some (97, 1, 0))), (2, vi l2), (4, vi l4), (5, vi s0)] 144 3 [] Q)) : Zm E YX8_cases (d + 1) M [(0, vr (some (97, 1, 0))), (2, vi l2), (4, vi l4)] 139 [vi s0] Q := by
  refine Zm.l (fun _ _ k_ => z_ist dX8_cases_139 (by decide) (lv' := [(0, vr (some (97, 1, 0))), (2, vi l2), (4, vi l4), (5, vi s0)]) rfl k_) ?_
  refine Zm.l (fun _ _ k_ => z_aload_n dX8_cases_141 rfl rfl k_) ?_
  refine Zm.l (fun _ _ k_ => z_bipush (v := 46) dX8_cases_142 rfl k_) ?_
  exact zm_callV (as := [vi (46 : Int32)]) (st := []) dX8_cases_144 vsX8_473_1 (Nat.le_refl _) (Nat.le_of_ble_eq_true rfl) (Nat.le_of_ble_eq_true rfl) rfl k
theorem sX8_cases_147 {E : zE} {d : Nat} {Q : zO → zM → Prop} (M : zM) (l2 : Int32) (l4 : Int32) (l5 : Int32) (s0 : Int32) (k : Zm E YX8_node d M (zargs 0 [vr (some (97, 1, 0)), vi (35 : Int32), vi l5, vi (-1 : Int32), vi (0 : Int32)]) 0 [] (zma E YX8_cases (d + 1) [(0, vr (some (97, 1, 0))), (2, vi l2), (4, vi l4)] 156 3 [] Q)) : Zm E YX8_cases (d + 1) M [(0, vr (some (97, 1, 0))), (2, vi l2), (4, vi l4), (5, vi l5)] 147 [vi s0] Q := by
  refine Zm.l (fun _ _ k_ => z_ist dX8_cases_147 (by decide) (lv' := [(0, vr (some (97, 1, 0))), (2, vi l2), (4, vi l4), (5, vi l5), (7, vi s0)]) rfl k_) ?_
  refine Zm.l (fun _ _ k_ => z_aload_n dX8_cases_149 rfl rfl k_) ?_
  refine Zm.l (fun _ _ k_ => z_bipush (v := 35) dX8_cases_150 rfl k_) ?_
  refine Zm.l (fun _ _ k_ => z_iload dX8_cases_152 rfl k_) ?_
  refine Zm.l (fun _ _ k_ => z_iconst (v := -1) dX8_cases_154 rfl k_) ?_
  refine Zm.l (fun _ _ k_ => z_iconst (v := 0) dX8_cases_155 rfl k_) ?_
  refine Zm.pick [0, 1, 2] rfl ?_
  exact zm_callV (as := [vi (35 : Int32), vi l5, vi (-1 : Int32), vi (0 : Int32)]) (st := []) dX8_cases_156 vsX8_446_1 (Nat.le_refl _) (Nat.le_of_ble_eq_true rfl) (Nat.le_of_ble_eq_true rfl) rfl k
theorem sX8_cases_159 {E : zE} {d : Nat} {Q : zO → zM → Prop} (M : zM) (l2 : Int32) (l4 : Int32) (s0 : Int32) (k : Zm E YX8_beginList d M (zargs 0 [vr (some (97, 1, 0))]) 0 [] (zma E YX8_cases (d + 1) [(0, vr (some (97, 1, 0))), (2, vi l2), (4, vi l4), (8, vi s0)] 162 3 [] Q)) : Zm E YX8_cases (d + 1) M [(0, vr (some (97, 1, 0))), (2, vi l2), (4, vi l4)] 159 [vi s0] Q := by
  refine Zm.l (fun _ _ k_ => z_ist dX8_cases_159 (by decide) (lv' := [(0, vr (some (97, 1, 0))), (2, vi l2), (4, vi l4), (8, vi s0)]) rfl k_) ?_
  refine Zm.l (fun _ _ k_ => z_aload_n dX8_cases_161 rfl rfl k_) ?_
  exact zm_callV (as := []) (st := []) dX8_cases_162 vsX8_509_1 (Nat.le_refl _) (Nat.le_of_ble_eq_true rfl) (Nat.le_of_ble_eq_true rfl) rfl k
theorem sX8_cases_165 {E : zE} {d : Nat} {Q : zO → zM → Prop} (M : zM) (l2 : Int32) (l4 : Int32) (l8 : Int32) (k : if (gi M 97 21) = 0 then (Zm E YX8_isSign d M (zargs 0 [vr (some (97, 1, 0)), vi (25 : Int32)]) 0 [] (zma E YX8_cases (d + 1) [(0, vr (some (97, 1, 0))), (2, vi l2), (4, vi l4), (8, vi l8)] 175 3 [] Q)) else (Zm E YX8_ended d M (zargs 0 [vr (some (97, 1, 0))]) 0 [] (zma E YX8_cases (d + 1) [(0, vr (some (97, 1, 0))), (2, vi l2), (4, vi l4), (8, vi l8)] 209 3 [] Q))) : Zm E YX8_cases (d + 1) M [(0, vr (some (97, 1, 0))), (2, vi l2), (4, vi l4), (8, vi l8)] 165 [] Q := by
  refine Zm.l (fun _ _ k_ => z_aload_n dX8_cases_165 rfl rfl k_) ?_
  refine zm_geti dX8_cases_166 fsX8_389_1 (by decide) (by decide) ?_
  refine Zm.brn (fun _ _ k1_ k2_ => z_if_ne (tgt := 208) dX8_cases_169 rfl k1_ k2_) (fun h_ => ?_) (fun h_ => ?_)
  · have k := zif h_ k
    refine Zm.l (fun _ _ k_ => z_aload_n dX8_cases_208 rfl rfl k_) ?_
    exact zm_callV (as := []) (st := []) dX8_cases_209 vsX8_515_1 (Nat.le_refl _) (Nat.le_of_ble_eq_true rfl) (Nat.le_of_ble_eq_true rfl) rfl k
  · have k := zit h_ k
    refine Zm.l (fun _ _ k_ => z_aload_n dX8_cases_172 rfl rfl k_) ?_
    refine Zm.l (fun _ _ k_ => z_bipush (v := 25) dX8_cases_173 rfl k_) ?_
    exact zm_callV (as := [vi (25 : Int32)]) (st := []) dX8_cases_175 vsX8_398_1 (Nat.le_refl _) (Nat.le_of_ble_eq_true rfl) (Nat.le_of_ble_eq_true rfl) rfl k
theorem sX8_cases_178 {E : zE} {d : Nat} {Q : zO → zM → Prop} (M : zM) (l2 : Int32) (l4 : Int32) (l8 : Int32) (s0 : Int32) (k : if s0 = 0 then (Zm E YX8_isKeyword d M (zargs 0 [vr (some (97, 1, 0)), vi (1 : Int32)]) 0 [] (zma E YX8_cases (d + 1) [(0, vr (some (97, 1, 0))), (2, vi l2), (4, vi l4), (8, vi l8)] 183 3 [] Q)) else (Zm E YX8_ended d M (zargs 0 [vr (some (97, 1, 0))]) 0 [] (zma E YX8_cases (d + 1) [(0, vr (some (97, 1, 0))), (2, vi l2), (4, vi l4), (8, vi l8)] 209 3 [] Q))) : Zm E YX8_cases (d + 1) M [(0, vr (some (97, 1, 0))), (2, vi l2), (4, vi l4), (8, vi l8)] 178 [vi s0] Q := by
  refine Zm.brn (fun _ _ k1_ k2_ => z_if_ne (tgt := 208) dX8_cases_178 rfl k1_ k2_) (fun h_ => ?_) (fun h_ => ?_)
  · have k := zif h_ k
    refine Zm.l (fun _ _ k_ => z_aload_n dX8_cases_208 rfl rfl k_) ?_
    exact zm_callV (as := []) (st := []) dX8_cases_209 vsX8_515_1 (Nat.le_refl _) (Nat.le_of_ble_eq_true rfl) (Nat.le_of_ble_eq_true rfl) rfl k
  · have k := zit h_ k
    refine Zm.l (fun _ _ k_ => z_aload_n dX8_cases_181 rfl rfl k_) ?_
    refine Zm.l (fun _ _ k_ => z_iconst (v := 1) dX8_cases_182 rfl k_) ?_
    exact zm_callV (as := [vi (1 : Int32)]) (st := []) dX8_cases_183 vsX8_404_1 (Nat.le_refl _) (Nat.le_of_ble_eq_true rfl) (Nat.le_of_ble_eq_true rfl) rfl k
theorem sX8_cases_186 {E : zE} {d : Nat} {Q : zO → zM → Prop} (M : zM) (l2 : Int32) (l4 : Int32) (l8 : Int32) (s0 : Int32) (k : if s0 = 0 then (Zm E YX8_isKeyword d M (zargs 0 [vr (some (97, 1, 0)), vi (4 : Int32)]) 0 [] (zma E YX8_cases (d + 1) [(0, vr (some (97, 1, 0))), (2, vi l2), (4, vi l4), (8, vi l8)] 191 3 [] Q)) else (Zm E YX8_ended d M (zargs 0 [vr (some (97, 1, 0))]) 0 [] (zma E YX8_cases (d + 1) [(0, vr (some (97, 1, 0))), (2, vi l2), (4, vi l4), (8, vi l8)] 209 3 [] Q))) : Zm E YX8_cases (d + 1) M [(0, vr (some (97, 1, 0))), (2, vi l2), (4, vi l4), (8, vi l8)] 186 [vi s0] Q := by
  refine Zm.brn (fun _ _ k1_ k2_ => z_if_ne (tgt := 208) dX8_cases_186 rfl k1_ k2_) (fun h_ => ?_) (fun h_ => ?_)
  · have k := zif h_ k
    refine Zm.l (fun _ _ k_ => z_aload_n dX8_cases_208 rfl rfl k_) ?_
    exact zm_callV (as := []) (st := []) dX8_cases_209 vsX8_515_1 (Nat.le_refl _) (Nat.le_of_ble_eq_true rfl) (Nat.le_of_ble_eq_true rfl) rfl k
  · have k := zit h_ k
    refine Zm.l (fun _ _ k_ => z_aload_n dX8_cases_189 rfl rfl k_) ?_
    refine Zm.l (fun _ _ k_ => z_iconst (v := 4) dX8_cases_190 rfl k_) ?_
    exact zm_callV (as := [vi (4 : Int32)]) (st := []) dX8_cases_191 vsX8_404_1 (Nat.le_refl _) (Nat.le_of_ble_eq_true rfl) (Nat.le_of_ble_eq_true rfl) rfl k
theorem sX8_cases_194 {E : zE} {d : Nat} {Q : zO → zM → Prop} (M : zM) (l2 : Int32) (l4 : Int32) (l8 : Int32) (s0 : Int32) (k : if s0 = 0 then (Zm E YX8_statement d M (zargs 0 [vr (some (97, 1, 0))]) 0 [] (zma E YX8_cases (d + 1) [(0, vr (some (97, 1, 0))), (2, vi l2), (4, vi l4), (8, vi l8)] 199 3 [vr (some (97, 1, 0))] Q)) else (Zm E YX8_ended d M (zargs 0 [vr (some (97, 1, 0))]) 0 [] (zma E YX8_cases (d + 1) [(0, vr (some (97, 1, 0))), (2, vi l2), (4, vi l4), (8, vi l8)] 209 3 [] Q))) : Zm E YX8_cases (d + 1) M [(0, vr (some (97, 1, 0))), (2, vi l2), (4, vi l4), (8, vi l8)] 194 [vi s0] Q := by
  refine Zm.brn (fun _ _ k1_ k2_ => z_if_ne (tgt := 208) dX8_cases_194 rfl k1_ k2_) (fun h_ => ?_) (fun h_ => ?_)
  · have k := zif h_ k
    refine Zm.l (fun _ _ k_ => z_aload_n dX8_cases_208 rfl rfl k_) ?_
    exact zm_callV (as := []) (st := []) dX8_cases_209 vsX8_515_1 (Nat.le_refl _) (Nat.le_of_ble_eq_true rfl) (Nat.le_of_ble_eq_true rfl) rfl k
  · have k := zit h_ k
    refine Zm.l (fun _ _ k_ => z_aload_n dX8_cases_197 rfl rfl k_) ?_
    refine Zm.l (fun _ _ k_ => z_aload_n dX8_cases_198 rfl rfl k_) ?_
    exact zm_callV (as := []) (st := [vr (some (97, 1, 0))]) dX8_cases_199 vsX8_553_1 (Nat.le_refl _) (Nat.le_of_ble_eq_true rfl) (Nat.le_of_ble_eq_true rfl) rfl k
theorem sX8_cases_202 {E : zE} {d : Nat} {Q : zO → zM → Prop} (M : zM) (l2 : Int32) (l4 : Int32) (l8 : Int32) (s0 : Int32) (k : Zm E YX8_add d M (zargs 0 [vr (some (97, 1, 0)), vi s0]) 0 [] (zma E YX8_cases (d + 1) [(0, vr (some (97, 1, 0))), (2, vi l2), (4, vi l4), (8, vi l8)] 202 3 [] Q)) : Zm E YX8_cases (d + 1) M [(0, vr (some (97, 1, 0))), (2, vi l2), (4, vi l4), (8, vi l8)] 202 [vi s0, vr (some (97, 1, 0))] Q := by
  exact zm_callV (as := [vi s0]) (st := []) dX8_cases_202 vsX8_512_1 (Nat.le_refl _) (Nat.le_of_ble_eq_true rfl) (Nat.le_of_ble_eq_true rfl) rfl k
theorem sX8_cases_205 {E : zE} {d : Nat} {Q : zO → zM → Prop} (M : zM) (l2 : Int32) (l4 : Int32) (l8 : Int32) (k : Zm E YX8_cases (d + 1) M [(0, vr (some (97, 1, 0))), (2, vi l2), (4, vi l4), (8, vi l8)] 165 [] Q) : Zm E YX8_cases (d + 1) M [(0, vr (some (97, 1, 0))), (2, vi l2), (4, vi l4), (8, vi l8)] 205 [] Q := by
  refine Zm.l (fun _ _ k_ => z_goto (tgt := 165) dX8_cases_205 rfl k_) ?_
  exact k
theorem sX8_cases_212 {E : zE} {d : Nat} {Q : zO → zM → Prop} (M : zM) (l2 : Int32) (l4 : Int32) (l8 : Int32) (s0 : Int32) (k : vp_in (((5 : Int32) * l8) + (1 : Int32)) 60000 ∧ (Zm E YX8_add d (si M 109 ((((5 : Int32) * l8) + (1 : Int32))).toNatClampNeg s0) (zargs 0 [vr (some (97, 1, 0)), vi l8]) 0 [] (zma E YX8_cases (d + 1) [(0, vr (some (97, 1, 0))), (2, vi l2), (4, vi l4)] 230 3 [] Q))) : Zm E YX8_cases (d + 1) M [(0, vr (some (97, 1, 0))), (2, vi l2), (4, vi l4), (8, vi l8)] 212 [vi s0] Q := by
  refine Zm.l (fun _ _ k_ => z_ist dX8_cases_212 (by decide) (lv' := [(0, vr (some (97, 1, 0))), (2, vi l2), (4, vi l4), (8, vi l8), (9, vi s0)]) rfl k_) ?_
  refine Zm.l (fun _ _ k_ => z_aload_n dX8_cases_214 rfl rfl k_) ?_
  refine zm_getr 11 dX8_cases_215 fsX8_46_1 rfl ?_
  refine Zm.l (fun _ _ k_ => z_iconst (v := 5) dX8_cases_218 rfl k_) ?_
  refine Zm.l (fun _ _ k_ => z_iload dX8_cases_219 rfl k_) ?_
  refine Zm.l (fun _ _ k_ => z_imul dX8_cases_221 k_) ?_
  refine Zm.l (fun _ _ k_ => z_iconst (v := 1) dX8_cases_222 rfl k_) ?_
  refine Zm.l (fun _ _ k_ => z_iadd dX8_cases_223 k_) ?_
  refine Zm.l (fun _ _ k_ => z_iload dX8_cases_224 rfl k_) ?_
  obtain ⟨b_, k⟩ := k
  refine zm_iast dX8_cases_226 b_ (by decide) (by decide) ?_
  refine Zm.l (fun _ _ k_ => z_aload_n dX8_cases_227 rfl rfl k_) ?_
  refine Zm.l (fun _ _ k_ => z_iload dX8_cases_228 rfl k_) ?_
  refine Zm.pick [0, 1, 2] rfl ?_
  exact zm_callV (as := [vi l8]) (st := []) dX8_cases_230 vsX8_512_1 (Nat.le_refl _) (Nat.le_of_ble_eq_true rfl) (Nat.le_of_ble_eq_true rfl) rfl k
theorem sX8_cases_233 {E : zE} {d : Nat} {Q : zO → zM → Prop} (M : zM) (l2 : Int32) (l4 : Int32) (k : Zm E YX8_cases (d + 1) M [(0, vr (some (97, 1, 0))), (2, vi l2), (4, vi l4)] 49 [] Q) : Zm E YX8_cases (d + 1) M [(0, vr (some (97, 1, 0))), (2, vi l2), (4, vi l4)] 233 [] Q := by
  refine Zm.l (fun _ _ k_ => z_goto (tgt := 49) dX8_cases_233 rfl k_) ?_
  exact k
theorem sX8_cases_236 {E : zE} {d : Nat} {Q : zO → zM → Prop} (M : zM) (l2 : Int32) (k : Zm E YX8_ended d (si M 97 45 ((gi M 97 45) - (1 : Int32))) (zargs 0 [vr (some (97, 1, 0))]) 0 [] (zma E YX8_cases (d + 1) [(0, vr (some (97, 1, 0))), (2, vi l2)] 247 3 [] Q)) : Zm E YX8_cases (d + 1) M [(0, vr (some (97, 1, 0))), (2, vi l2)] 236 [] Q := by
  refine Zm.l (fun _ _ k_ => z_aload_n dX8_cases_236 rfl rfl k_) ?_
  refine Zm.l (fun _ _ k_ => z_dup dX8_cases_237 rfl k_) ?_
  refine zm_geti dX8_cases_238 fsX8_533_1 (by decide) (by decide) ?_
  refine Zm.l (fun _ _ k_ => z_iconst (v := 1) dX8_cases_241 rfl k_) ?_
  refine Zm.l (fun _ _ k_ => z_isub dX8_cases_242 k_) ?_
  refine zm_puti (by decide) (by decide) dX8_cases_243 (zfwN.w fwX8_533_1) rfl ⟨rfl, rfl⟩ ?_
  refine Zm.l (fun _ _ k_ => z_aload_n dX8_cases_246 rfl rfl k_) ?_
  exact zm_callV (as := []) (st := []) dX8_cases_247 vsX8_515_1 (Nat.le_refl _) (Nat.le_of_ble_eq_true rfl) (Nat.le_of_ble_eq_true rfl) rfl k
theorem sX8_cases_250 {E : zE} {d : Nat} {Q : zO → zM → Prop} (M : zM) (l2 : Int32) (s0 : Int32) (k : vp_in (((5 : Int32) * l2) + (1 : Int32)) 60000 ∧ (Zm E YX8_must d (si M 109 ((((5 : Int32) * l2) + (1 : Int32))).toNatClampNeg s0) (zargs 0 [vr (some (97, 1, 0)), vi (25 : Int32)]) 0 [] (zma E YX8_cases (d + 1) [(2, vi l2)] 267 3 [] Q))) : Zm E YX8_cases (d + 1) M [(0, vr (some (97, 1, 0))), (2, vi l2)] 250 [vi s0] Q := by
  refine Zm.l (fun _ _ k_ => z_ist dX8_cases_250 (by decide) (lv' := [(0, vr (some (97, 1, 0))), (2, vi l2), (5, vi s0)]) rfl k_) ?_
  refine Zm.l (fun _ _ k_ => z_aload_n dX8_cases_252 rfl rfl k_) ?_
  refine zm_getr 11 dX8_cases_253 fsX8_46_1 rfl ?_
  refine Zm.l (fun _ _ k_ => z_iconst (v := 5) dX8_cases_256 rfl k_) ?_
  refine Zm.l (fun _ _ k_ => z_iload_n dX8_cases_257 rfl rfl k_) ?_
  refine Zm.l (fun _ _ k_ => z_imul dX8_cases_258 k_) ?_
  refine Zm.l (fun _ _ k_ => z_iconst (v := 1) dX8_cases_259 rfl k_) ?_
  refine Zm.l (fun _ _ k_ => z_iadd dX8_cases_260 k_) ?_
  refine Zm.l (fun _ _ k_ => z_iload dX8_cases_261 rfl k_) ?_
  obtain ⟨b_, k⟩ := k
  refine zm_iast dX8_cases_263 b_ (by decide) (by decide) ?_
  refine Zm.l (fun _ _ k_ => z_aload_n dX8_cases_264 rfl rfl k_) ?_
  refine Zm.l (fun _ _ k_ => z_bipush (v := 25) dX8_cases_265 rfl k_) ?_
  refine Zm.pick [1] rfl ?_
  exact zm_callV (as := [vi (25 : Int32)]) (st := []) dX8_cases_267 vsX8_473_1 (Nat.le_refl _) (Nat.le_of_ble_eq_true rfl) (Nat.le_of_ble_eq_true rfl) rfl k
theorem sX8_cases_270 {E : zE} {d : Nat} {Q : zO → zM → Prop} (M : zM) (l2 : Int32) (s0 : Int32) (k : Q (.inl (some (vi l2))) M) : Zm E YX8_cases (d + 1) M [(2, vi l2)] 270 [vi s0] Q := by
  refine Zm.l (fun _ _ k_ => z_ist dX8_cases_270 (by decide) (lv' := [(2, vi l2), (6, vi s0)]) rfl k_) ?_
  refine Zm.l (fun _ _ k_ => z_iload_n dX8_cases_272 rfl rfl k_) ?_
  exact zm_iret dX8_cases_273 rfl rfl k
/-! ScriptTypesModel.compile()Z -/
theorem bX8_compile_0 : zdec cX8_compile 0 [(0, .aload_n 0, 1), (1, .getfield 527, 3), (4, .iconst 1, 1), (5, .isub, 1), (6, .bipush 10, 2), (8, .if_icmp .gt 10, 3), (11, .aload_n 0, 1), (12, .getfield 306, 3), (15, .ifCond .eq 5, 3), (18, .iconst 0, 1), (19, .ireturn, 1), (20, .iconst 1, 1), (21, .istore_n 1, 1), (22, .iconst 1, 1), (23, .istore_n 2, 1), (24, .iload_n 2, 1)] = true := by decide +kernel
theorem dX8_compile_0 : decode cX8_compile 0 = .ok (.aload_n 0, 1) := zdec_at bX8_compile_0 0 rfl
theorem dX8_compile_1 : decode cX8_compile 1 = .ok (.getfield 527, 3) := zdec_at bX8_compile_0 1 rfl
theorem dX8_compile_4 : decode cX8_compile 4 = .ok (.iconst 1, 1) := zdec_at bX8_compile_0 2 rfl
theorem dX8_compile_5 : decode cX8_compile 5 = .ok (.isub, 1) := zdec_at bX8_compile_0 3 rfl
theorem dX8_compile_6 : decode cX8_compile 6 = .ok (.bipush 10, 2) := zdec_at bX8_compile_0 4 rfl
theorem dX8_compile_8 : decode cX8_compile 8 = .ok (.if_icmp .gt 10, 3) := zdec_at bX8_compile_0 5 rfl
theorem dX8_compile_11 : decode cX8_compile 11 = .ok (.aload_n 0, 1) := zdec_at bX8_compile_0 6 rfl
theorem dX8_compile_12 : decode cX8_compile 12 = .ok (.getfield 306, 3) := zdec_at bX8_compile_0 7 rfl
theorem dX8_compile_15 : decode cX8_compile 15 = .ok (.ifCond .eq 5, 3) := zdec_at bX8_compile_0 8 rfl
theorem dX8_compile_18 : decode cX8_compile 18 = .ok (.iconst 0, 1) := zdec_at bX8_compile_0 9 rfl
theorem dX8_compile_19 : decode cX8_compile 19 = .ok (.ireturn, 1) := zdec_at bX8_compile_0 10 rfl
theorem dX8_compile_20 : decode cX8_compile 20 = .ok (.iconst 1, 1) := zdec_at bX8_compile_0 11 rfl
theorem dX8_compile_21 : decode cX8_compile 21 = .ok (.istore_n 1, 1) := zdec_at bX8_compile_0 12 rfl
theorem dX8_compile_22 : decode cX8_compile 22 = .ok (.iconst 1, 1) := zdec_at bX8_compile_0 13 rfl
theorem dX8_compile_23 : decode cX8_compile 23 = .ok (.istore_n 2, 1) := zdec_at bX8_compile_0 14 rfl
theorem dX8_compile_24 : decode cX8_compile 24 = .ok (.iload_n 2, 1) := zdec_at bX8_compile_0 15 rfl
theorem bX8_compile_25 : zdec cX8_compile 25 [(25, .aload_n 0, 1), (26, .getfield 527, 3), (29, .if_icmp .ge 35, 3), (32, .aload_n 0, 1), (33, .iload_n 2, 1), (34, .invokevirtual 753, 3), (37, .iload_n 1, 1), (38, .ifCond .eq 18, 3), (41, .aload_n 0, 1), (42, .getfield 110, 3), (45, .iload_n 2, 1), (46, .iaload, 1), (47, .bipush 12, 2), (49, .if_icmp .gt 7, 3), (52, .iconst 1, 1), (53, .goto 4, 3)] = true := by decide +kernel
theorem dX8_compile_25 : decode cX8_compile 25 = .ok (.aload_n 0, 1) := zdec_at bX8_compile_25 0 rfl
theorem dX8_compile_26 : decode cX8_compile 26 = .ok (.getfield 527, 3) := zdec_at bX8_compile_25 1 rfl
theorem dX8_compile_29 : decode cX8_compile 29 = .ok (.if_icmp .ge 35, 3) := zdec_at bX8_compile_25 2 rfl
theorem dX8_compile_32 : decode cX8_compile 32 = .ok (.aload_n 0, 1) := zdec_at bX8_compile_25 3 rfl
theorem dX8_compile_33 : decode cX8_compile 33 = .ok (.iload_n 2, 1) := zdec_at bX8_compile_25 4 rfl
theorem dX8_compile_34 : decode cX8_compile 34 = .ok (.invokevirtual 753, 3) := zdec_at bX8_compile_25 5 rfl
theorem dX8_compile_37 : decode cX8_compile 37 = .ok (.iload_n 1, 1) := zdec_at bX8_compile_25 6 rfl
theorem dX8_compile_38 : decode cX8_compile 38 = .ok (.ifCond .eq 18, 3) := zdec_at bX8_compile_25 7 rfl
theorem dX8_compile_41 : decode cX8_compile 41 = .ok (.aload_n 0, 1) := zdec_at bX8_compile_25 8 rfl
theorem dX8_compile_42 : decode cX8_compile 42 = .ok (.getfield 110, 3) := zdec_at bX8_compile_25 9 rfl
theorem dX8_compile_45 : decode cX8_compile 45 = .ok (.iload_n 2, 1) := zdec_at bX8_compile_25 10 rfl
theorem dX8_compile_46 : decode cX8_compile 46 = .ok (.iaload, 1) := zdec_at bX8_compile_25 11 rfl
theorem dX8_compile_47 : decode cX8_compile 47 = .ok (.bipush 12, 2) := zdec_at bX8_compile_25 12 rfl
theorem dX8_compile_49 : decode cX8_compile 49 = .ok (.if_icmp .gt 7, 3) := zdec_at bX8_compile_25 13 rfl
theorem dX8_compile_52 : decode cX8_compile 52 = .ok (.iconst 1, 1) := zdec_at bX8_compile_25 14 rfl
theorem dX8_compile_53 : decode cX8_compile 53 = .ok (.goto 4, 3) := zdec_at bX8_compile_25 15 rfl
theorem bX8_compile_56 : zdec cX8_compile 56 [(56, .iconst 0, 1), (57, .istore_n 1, 1), (58, .iinc 2 1, 3), (61, .goto (-37), 3), (64, .iload_n 1, 1), (65, .ifCond .ne 5, 3), (68, .iconst 0, 1), (69, .ireturn, 1), (70, .aload_n 0, 1), (71, .iconst 0, 1), (72, .putfield 606, 3), (75, .aload_n 0, 1), (76, .iconst 0, 1), (77, .putfield 609, 3), (80, .aload_n 0, 1), (81, .iconst 0, 1)] = true := by decide +kernel
theorem dX8_compile_56 : decode cX8_compile 56 = .ok (.iconst 0, 1) := zdec_at bX8_compile_56 0 rfl
theorem dX8_compile_57 : decode cX8_compile 57 = .ok (.istore_n 1, 1) := zdec_at bX8_compile_56 1 rfl
theorem dX8_compile_58 : decode cX8_compile 58 = .ok (.iinc 2 1, 3) := zdec_at bX8_compile_56 2 rfl
theorem dX8_compile_61 : decode cX8_compile 61 = .ok (.goto (-37), 3) := zdec_at bX8_compile_56 3 rfl
theorem dX8_compile_64 : decode cX8_compile 64 = .ok (.iload_n 1, 1) := zdec_at bX8_compile_56 4 rfl
theorem dX8_compile_65 : decode cX8_compile 65 = .ok (.ifCond .ne 5, 3) := zdec_at bX8_compile_56 5 rfl
theorem dX8_compile_68 : decode cX8_compile 68 = .ok (.iconst 0, 1) := zdec_at bX8_compile_56 6 rfl
theorem dX8_compile_69 : decode cX8_compile 69 = .ok (.ireturn, 1) := zdec_at bX8_compile_56 7 rfl
theorem dX8_compile_70 : decode cX8_compile 70 = .ok (.aload_n 0, 1) := zdec_at bX8_compile_56 8 rfl
theorem dX8_compile_71 : decode cX8_compile 71 = .ok (.iconst 0, 1) := zdec_at bX8_compile_56 9 rfl
theorem dX8_compile_72 : decode cX8_compile 72 = .ok (.putfield 606, 3) := zdec_at bX8_compile_56 10 rfl
theorem dX8_compile_75 : decode cX8_compile 75 = .ok (.aload_n 0, 1) := zdec_at bX8_compile_56 11 rfl
theorem dX8_compile_76 : decode cX8_compile 76 = .ok (.iconst 0, 1) := zdec_at bX8_compile_56 12 rfl
theorem dX8_compile_77 : decode cX8_compile 77 = .ok (.putfield 609, 3) := zdec_at bX8_compile_56 13 rfl
theorem dX8_compile_80 : decode cX8_compile 80 = .ok (.aload_n 0, 1) := zdec_at bX8_compile_56 14 rfl
theorem dX8_compile_81 : decode cX8_compile 81 = .ok (.iconst 0, 1) := zdec_at bX8_compile_56 15 rfl
theorem bX8_compile_82 : zdec cX8_compile 82 [(82, .putfield 741, 3), (85, .aload_n 0, 1), (86, .iconst 0, 1), (87, .putfield 707, 3), (90, .aload_n 0, 1), (91, .iconst 0, 1), (92, .putfield 650, 3), (95, .aload_n 0, 1), (96, .iconst 0, 1), (97, .putfield 619, 3), (100, .aload_n 0, 1), (101, .iconst 0, 1), (102, .putfield 637, 3), (105, .aload_n 0, 1), (106, .iconst 0, 1), (107, .putfield 689, 3)] = true := by decide +kernel
theorem dX8_compile_82 : decode cX8_compile 82 = .ok (.putfield 741, 3) := zdec_at bX8_compile_82 0 rfl
theorem dX8_compile_85 : decode cX8_compile 85 = .ok (.aload_n 0, 1) := zdec_at bX8_compile_82 1 rfl
theorem dX8_compile_86 : decode cX8_compile 86 = .ok (.iconst 0, 1) := zdec_at bX8_compile_82 2 rfl
theorem dX8_compile_87 : decode cX8_compile 87 = .ok (.putfield 707, 3) := zdec_at bX8_compile_82 3 rfl
theorem dX8_compile_90 : decode cX8_compile 90 = .ok (.aload_n 0, 1) := zdec_at bX8_compile_82 4 rfl
theorem dX8_compile_91 : decode cX8_compile 91 = .ok (.iconst 0, 1) := zdec_at bX8_compile_82 5 rfl
theorem dX8_compile_92 : decode cX8_compile 92 = .ok (.putfield 650, 3) := zdec_at bX8_compile_82 6 rfl
theorem dX8_compile_95 : decode cX8_compile 95 = .ok (.aload_n 0, 1) := zdec_at bX8_compile_82 7 rfl
theorem dX8_compile_96 : decode cX8_compile 96 = .ok (.iconst 0, 1) := zdec_at bX8_compile_82 8 rfl
theorem dX8_compile_97 : decode cX8_compile 97 = .ok (.putfield 619, 3) := zdec_at bX8_compile_82 9 rfl
theorem dX8_compile_100 : decode cX8_compile 100 = .ok (.aload_n 0, 1) := zdec_at bX8_compile_82 10 rfl
theorem dX8_compile_101 : decode cX8_compile 101 = .ok (.iconst 0, 1) := zdec_at bX8_compile_82 11 rfl
theorem dX8_compile_102 : decode cX8_compile 102 = .ok (.putfield 637, 3) := zdec_at bX8_compile_82 12 rfl
theorem dX8_compile_105 : decode cX8_compile 105 = .ok (.aload_n 0, 1) := zdec_at bX8_compile_82 13 rfl
theorem dX8_compile_106 : decode cX8_compile 106 = .ok (.iconst 0, 1) := zdec_at bX8_compile_82 14 rfl
theorem dX8_compile_107 : decode cX8_compile 107 = .ok (.putfield 689, 3) := zdec_at bX8_compile_82 15 rfl
theorem bX8_compile_110 : zdec cX8_compile 110 [(110, .iconst 0, 1), (111, .istore_n 2, 1), (112, .iload_n 2, 1), (113, .aload_n 0, 1), (114, .getfield 527, 3), (117, .if_icmp .ge 21, 3), (120, .aload_n 0, 1), (121, .getfield 609, 3), (124, .ifCond .ne 14, 3), (127, .aload_n 0, 1), (128, .iload_n 2, 1), (129, .invokevirtual 756, 3), (132, .iinc 2 1, 3), (135, .goto (-23), 3), (138, .aload_n 0, 1), (139, .getfield 609, 3)] = true := by decide +kernel
theorem dX8_compile_110 : decode cX8_compile 110 = .ok (.iconst 0, 1) := zdec_at bX8_compile_110 0 rfl
theorem dX8_compile_111 : decode cX8_compile 111 = .ok (.istore_n 2, 1) := zdec_at bX8_compile_110 1 rfl
theorem dX8_compile_112 : decode cX8_compile 112 = .ok (.iload_n 2, 1) := zdec_at bX8_compile_110 2 rfl
theorem dX8_compile_113 : decode cX8_compile 113 = .ok (.aload_n 0, 1) := zdec_at bX8_compile_110 3 rfl
theorem dX8_compile_114 : decode cX8_compile 114 = .ok (.getfield 527, 3) := zdec_at bX8_compile_110 4 rfl
theorem dX8_compile_117 : decode cX8_compile 117 = .ok (.if_icmp .ge 21, 3) := zdec_at bX8_compile_110 5 rfl
theorem dX8_compile_120 : decode cX8_compile 120 = .ok (.aload_n 0, 1) := zdec_at bX8_compile_110 6 rfl
theorem dX8_compile_121 : decode cX8_compile 121 = .ok (.getfield 609, 3) := zdec_at bX8_compile_110 7 rfl
theorem dX8_compile_124 : decode cX8_compile 124 = .ok (.ifCond .ne 14, 3) := zdec_at bX8_compile_110 8 rfl
theorem dX8_compile_127 : decode cX8_compile 127 = .ok (.aload_n 0, 1) := zdec_at bX8_compile_110 9 rfl
theorem dX8_compile_128 : decode cX8_compile 128 = .ok (.iload_n 2, 1) := zdec_at bX8_compile_110 10 rfl
theorem dX8_compile_129 : decode cX8_compile 129 = .ok (.invokevirtual 756, 3) := zdec_at bX8_compile_110 11 rfl
theorem dX8_compile_132 : decode cX8_compile 132 = .ok (.iinc 2 1, 3) := zdec_at bX8_compile_110 12 rfl
theorem dX8_compile_135 : decode cX8_compile 135 = .ok (.goto (-23), 3) := zdec_at bX8_compile_110 13 rfl
theorem dX8_compile_138 : decode cX8_compile 138 = .ok (.aload_n 0, 1) := zdec_at bX8_compile_110 14 rfl
theorem dX8_compile_139 : decode cX8_compile 139 = .ok (.getfield 609, 3) := zdec_at bX8_compile_110 15 rfl
theorem bX8_compile_142 : zdec cX8_compile 142 [(142, .ifCond .ne 12, 3), (145, .aload_n 0, 1), (146, .getfield 689, 3), (149, .bipush 19, 2), (151, .if_icmp .le 5, 3), (154, .iconst 0, 1), (155, .ireturn, 1), (156, .iconst 0, 1), (157, .istore_n 2, 1), (158, .iload_n 2, 1), (159, .aload_n 0, 1), (160, .getfield 606, 3), (163, .if_icmp .ge 38, 3), (166, .aload_n 0, 1), (167, .getfield 89, 3), (170, .iload_n 2, 1)] = true := by decide +kernel
theorem dX8_compile_142 : decode cX8_compile 142 = .ok (.ifCond .ne 12, 3) := zdec_at bX8_compile_142 0 rfl
theorem dX8_compile_145 : decode cX8_compile 145 = .ok (.aload_n 0, 1) := zdec_at bX8_compile_142 1 rfl
theorem dX8_compile_146 : decode cX8_compile 146 = .ok (.getfield 689, 3) := zdec_at bX8_compile_142 2 rfl
theorem dX8_compile_149 : decode cX8_compile 149 = .ok (.bipush 19, 2) := zdec_at bX8_compile_142 3 rfl
theorem dX8_compile_151 : decode cX8_compile 151 = .ok (.if_icmp .le 5, 3) := zdec_at bX8_compile_142 4 rfl
theorem dX8_compile_154 : decode cX8_compile 154 = .ok (.iconst 0, 1) := zdec_at bX8_compile_142 5 rfl
theorem dX8_compile_155 : decode cX8_compile 155 = .ok (.ireturn, 1) := zdec_at bX8_compile_142 6 rfl
theorem dX8_compile_156 : decode cX8_compile 156 = .ok (.iconst 0, 1) := zdec_at bX8_compile_142 7 rfl
theorem dX8_compile_157 : decode cX8_compile 157 = .ok (.istore_n 2, 1) := zdec_at bX8_compile_142 8 rfl
theorem dX8_compile_158 : decode cX8_compile 158 = .ok (.iload_n 2, 1) := zdec_at bX8_compile_142 9 rfl
theorem dX8_compile_159 : decode cX8_compile 159 = .ok (.aload_n 0, 1) := zdec_at bX8_compile_142 10 rfl
theorem dX8_compile_160 : decode cX8_compile 160 = .ok (.getfield 606, 3) := zdec_at bX8_compile_142 11 rfl
theorem dX8_compile_163 : decode cX8_compile 163 = .ok (.if_icmp .ge 38, 3) := zdec_at bX8_compile_142 12 rfl
theorem dX8_compile_166 : decode cX8_compile 166 = .ok (.aload_n 0, 1) := zdec_at bX8_compile_142 13 rfl
theorem dX8_compile_167 : decode cX8_compile 167 = .ok (.getfield 89, 3) := zdec_at bX8_compile_142 14 rfl
theorem dX8_compile_170 : decode cX8_compile 170 = .ok (.iload_n 2, 1) := zdec_at bX8_compile_142 15 rfl
theorem bX8_compile_171 : zdec cX8_compile 171 [(171, .iaload, 1), (172, .invokestatic 759, 3), (175, .ifCond .eq 20, 3), (178, .aload_n 0, 1), (179, .getfield 92, 3), (182, .iload_n 2, 1), (183, .aload_n 0, 1), (184, .getfield 104, 3), (187, .aload_n 0, 1), (188, .getfield 92, 3), (191, .iload_n 2, 1), (192, .iaload, 1), (193, .iaload, 1), (194, .iastore, 1), (195, .iinc 2 1, 3), (198, .goto (-40), 3)] = true := by decide +kernel
theorem dX8_compile_171 : decode cX8_compile 171 = .ok (.iaload, 1) := zdec_at bX8_compile_171 0 rfl
theorem dX8_compile_172 : decode cX8_compile 172 = .ok (.invokestatic 759, 3) := zdec_at bX8_compile_171 1 rfl
theorem dX8_compile_175 : decode cX8_compile 175 = .ok (.ifCond .eq 20, 3) := zdec_at bX8_compile_171 2 rfl
theorem dX8_compile_178 : decode cX8_compile 178 = .ok (.aload_n 0, 1) := zdec_at bX8_compile_171 3 rfl
theorem dX8_compile_179 : decode cX8_compile 179 = .ok (.getfield 92, 3) := zdec_at bX8_compile_171 4 rfl
theorem dX8_compile_182 : decode cX8_compile 182 = .ok (.iload_n 2, 1) := zdec_at bX8_compile_171 5 rfl
theorem dX8_compile_183 : decode cX8_compile 183 = .ok (.aload_n 0, 1) := zdec_at bX8_compile_171 6 rfl
theorem dX8_compile_184 : decode cX8_compile 184 = .ok (.getfield 104, 3) := zdec_at bX8_compile_171 7 rfl
theorem dX8_compile_187 : decode cX8_compile 187 = .ok (.aload_n 0, 1) := zdec_at bX8_compile_171 8 rfl
theorem dX8_compile_188 : decode cX8_compile 188 = .ok (.getfield 92, 3) := zdec_at bX8_compile_171 9 rfl
theorem dX8_compile_191 : decode cX8_compile 191 = .ok (.iload_n 2, 1) := zdec_at bX8_compile_171 10 rfl
theorem dX8_compile_192 : decode cX8_compile 192 = .ok (.iaload, 1) := zdec_at bX8_compile_171 11 rfl
theorem dX8_compile_193 : decode cX8_compile 193 = .ok (.iaload, 1) := zdec_at bX8_compile_171 12 rfl
theorem dX8_compile_194 : decode cX8_compile 194 = .ok (.iastore, 1) := zdec_at bX8_compile_171 13 rfl
theorem dX8_compile_195 : decode cX8_compile 195 = .ok (.iinc 2 1, 3) := zdec_at bX8_compile_171 14 rfl
theorem dX8_compile_198 : decode cX8_compile 198 = .ok (.goto (-40), 3) := zdec_at bX8_compile_171 15 rfl
theorem bX8_compile_201 : zdec cX8_compile 201 [(201, .aload_n 0, 1), (202, .aload_n 0, 1), (203, .getfield 296, 3), (206, .putfield 762, 3), (209, .aload_n 0, 1), (210, .bipush 29, 2), (212, .bipush 6, 2), (214, .aload_n 0, 1), (215, .getfield 527, 3), (218, .iconst 1, 1), (219, .isub, 1), (220, .imul, 1), (221, .iadd, 1), (222, .iconst 2, 1), (223, .aload_n 0, 1), (224, .getfield 689, 3)] = true := by decide +kernel
theorem dX8_compile_201 : decode cX8_compile 201 = .ok (.aload_n 0, 1) := zdec_at bX8_compile_201 0 rfl
theorem dX8_compile_202 : decode cX8_compile 202 = .ok (.aload_n 0, 1) := zdec_at bX8_compile_201 1 rfl
theorem dX8_compile_203 : decode cX8_compile 203 = .ok (.getfield 296, 3) := zdec_at bX8_compile_201 2 rfl
theorem dX8_compile_206 : decode cX8_compile 206 = .ok (.putfield 762, 3) := zdec_at bX8_compile_201 3 rfl
theorem dX8_compile_209 : decode cX8_compile 209 = .ok (.aload_n 0, 1) := zdec_at bX8_compile_201 4 rfl
theorem dX8_compile_210 : decode cX8_compile 210 = .ok (.bipush 29, 2) := zdec_at bX8_compile_201 5 rfl
theorem dX8_compile_212 : decode cX8_compile 212 = .ok (.bipush 6, 2) := zdec_at bX8_compile_201 6 rfl
theorem dX8_compile_214 : decode cX8_compile 214 = .ok (.aload_n 0, 1) := zdec_at bX8_compile_201 7 rfl
theorem dX8_compile_215 : decode cX8_compile 215 = .ok (.getfield 527, 3) := zdec_at bX8_compile_201 8 rfl
theorem dX8_compile_218 : decode cX8_compile 218 = .ok (.iconst 1, 1) := zdec_at bX8_compile_201 9 rfl
theorem dX8_compile_219 : decode cX8_compile 219 = .ok (.isub, 1) := zdec_at bX8_compile_201 10 rfl
theorem dX8_compile_220 : decode cX8_compile 220 = .ok (.imul, 1) := zdec_at bX8_compile_201 11 rfl
theorem dX8_compile_221 : decode cX8_compile 221 = .ok (.iadd, 1) := zdec_at bX8_compile_201 12 rfl
theorem dX8_compile_222 : decode cX8_compile 222 = .ok (.iconst 2, 1) := zdec_at bX8_compile_201 13 rfl
theorem dX8_compile_223 : decode cX8_compile 223 = .ok (.aload_n 0, 1) := zdec_at bX8_compile_201 14 rfl
theorem dX8_compile_224 : decode cX8_compile 224 = .ok (.getfield 689, 3) := zdec_at bX8_compile_201 15 rfl
theorem bX8_compile_227 : zdec cX8_compile 227 [(227, .imul, 1), (228, .iadd, 1), (229, .putfield 765, 3), (232, .aload_n 0, 1), (233, .getfield 606, 3), (236, .iconst 2, 1), (237, .aload_n 0, 1), (238, .getfield 527, 3), (241, .imul, 1), (242, .iadd, 1), (243, .i2l, 1), (244, .aload_n 0, 1), (245, .getfield 765, 3), (248, .i2l, 1), (249, .lmul, 1), (250, .aload_n 0, 1)] = true := by decide +kernel
theorem dX8_compile_227 : decode cX8_compile 227 = .ok (.imul, 1) := zdec_at bX8_compile_227 0 rfl
theorem dX8_compile_228 : decode cX8_compile 228 = .ok (.iadd, 1) := zdec_at bX8_compile_227 1 rfl
theorem dX8_compile_229 : decode cX8_compile 229 = .ok (.putfield 765, 3) := zdec_at bX8_compile_227 2 rfl
theorem dX8_compile_232 : decode cX8_compile 232 = .ok (.aload_n 0, 1) := zdec_at bX8_compile_227 3 rfl
theorem dX8_compile_233 : decode cX8_compile 233 = .ok (.getfield 606, 3) := zdec_at bX8_compile_227 4 rfl
theorem dX8_compile_236 : decode cX8_compile 236 = .ok (.iconst 2, 1) := zdec_at bX8_compile_227 5 rfl
theorem dX8_compile_237 : decode cX8_compile 237 = .ok (.aload_n 0, 1) := zdec_at bX8_compile_227 6 rfl
theorem dX8_compile_238 : decode cX8_compile 238 = .ok (.getfield 527, 3) := zdec_at bX8_compile_227 7 rfl
theorem dX8_compile_241 : decode cX8_compile 241 = .ok (.imul, 1) := zdec_at bX8_compile_227 8 rfl
theorem dX8_compile_242 : decode cX8_compile 242 = .ok (.iadd, 1) := zdec_at bX8_compile_227 9 rfl
theorem dX8_compile_243 : decode cX8_compile 243 = .ok (.i2l, 1) := zdec_at bX8_compile_227 10 rfl
theorem dX8_compile_244 : decode cX8_compile 244 = .ok (.aload_n 0, 1) := zdec_at bX8_compile_227 11 rfl
theorem dX8_compile_245 : decode cX8_compile 245 = .ok (.getfield 765, 3) := zdec_at bX8_compile_227 12 rfl
theorem dX8_compile_248 : decode cX8_compile 248 = .ok (.i2l, 1) := zdec_at bX8_compile_227 13 rfl
theorem dX8_compile_249 : decode cX8_compile 249 = .ok (.lmul, 1) := zdec_at bX8_compile_227 14 rfl
theorem dX8_compile_250 : decode cX8_compile 250 = .ok (.aload_n 0, 1) := zdec_at bX8_compile_227 15 rfl
theorem bX8_compile_251 : zdec cX8_compile 251 [(251, .getfield 762, 3), (254, .i2l, 1), (255, .lmul, 1), (256, .ldc2_w 768, 3), (259, .lcmp, 1), (260, .ifCond .gt 7, 3), (263, .iconst 1, 1), (264, .goto 4, 3), (267, .iconst 0, 1), (268, .ireturn, 1)] = true := by decide +kernel
theorem dX8_compile_251 : decode cX8_compile 251 = .ok (.getfield 762, 3) := zdec_at bX8_compile_251 0 rfl
theorem dX8_compile_254 : decode cX8_compile 254 = .ok (.i2l, 1) := zdec_at bX8_compile_251 1 rfl
theorem dX8_compile_255 : decode cX8_compile 255 = .ok (.lmul, 1) := zdec_at bX8_compile_251 2 rfl
theorem dX8_compile_256 : decode cX8_compile 256 = .ok (.ldc2_w 768, 3) := zdec_at bX8_compile_251 3 rfl
theorem dX8_compile_259 : decode cX8_compile 259 = .ok (.lcmp, 1) := zdec_at bX8_compile_251 4 rfl
theorem dX8_compile_260 : decode cX8_compile 260 = .ok (.ifCond .gt 7, 3) := zdec_at bX8_compile_251 5 rfl
theorem dX8_compile_263 : decode cX8_compile 263 = .ok (.iconst 1, 1) := zdec_at bX8_compile_251 6 rfl
theorem dX8_compile_264 : decode cX8_compile 264 = .ok (.goto 4, 3) := zdec_at bX8_compile_251 7 rfl
theorem dX8_compile_267 : decode cX8_compile 267 = .ok (.iconst 0, 1) := zdec_at bX8_compile_251 8 rfl
theorem dX8_compile_268 : decode cX8_compile 268 = .ok (.ireturn, 1) := zdec_at bX8_compile_251 9 rfl
theorem sX8_compile_0 {E : zE} {d : Nat} {Q : zO → zM → Prop} (M : zM)  (k : if (10 : Int32) < ((gi M 97 32) - (1 : Int32)) then (Q (.inl (some (vi (0 : Int32)))) M) else (if (gi M 97 9) = 0 then (Zm E YX8_compile (d + 1) M [(0, vr (some (97, 1, 0))), (1, vi (1 : Int32)), (2, vi (1 : Int32))] 24 [] Q) else (Q (.inl (some (vi (0 : Int32)))) M))) : Zm E YX8_compile (d + 1) M [(0, vr (some (97, 1, 0)))] 0 [] Q := by
  refine Zm.l (fun _ _ k_ => z_aload_n dX8_compile_0 rfl rfl k_) ?_
  refine zm_geti dX8_compile_1 fsX8_527_1 (by decide) (by decide) ?_
  refine Zm.l (fun _ _ k_ => z_iconst (v := 1) dX8_compile_4 rfl k_) ?_
  refine Zm.l (fun _ _ k_ => z_isub dX8_compile_5 k_) ?_
  refine Zm.l (fun _ _ k_ => z_bipush (v := 10) dX8_compile_6 rfl k_) ?_
  refine Zm.br (fun _ _ k1_ k2_ => z_icmp_gt (tgt := 18) dX8_compile_8 rfl k1_ k2_) (fun h_ => ?_) (fun h_ => ?_)
  · have k := zit h_ k
    refine Zm.l (fun _ _ k_ => z_iconst (v := 0) dX8_compile_18 rfl k_) ?_
    exact zm_iret dX8_compile_19 rfl (by decide) k
  · have k := zif h_ k
    refine Zm.l (fun _ _ k_ => z_aload_n dX8_compile_11 rfl rfl k_) ?_
    refine zm_geti dX8_compile_12 fsX8_306_1 (by decide) (by decide) ?_
    refine Zm.br (fun _ _ k1_ k2_ => z_if_eq (tgt := 20) dX8_compile_15 rfl k1_ k2_) (fun h_ => ?_) (fun h_ => ?_)
    · have k := zit h_ k
      refine Zm.l (fun _ _ k_ => z_iconst (v := 1) dX8_compile_20 rfl k_) ?_
      refine Zm.l (fun _ _ k_ => z_ist_n dX8_compile_21 rfl (by decide) (lv' := [(0, vr (some (97, 1, 0))), (1, vi (1 : Int32))]) rfl k_) ?_
      refine Zm.l (fun _ _ k_ => z_iconst (v := 1) dX8_compile_22 rfl k_) ?_
      refine Zm.l (fun _ _ k_ => z_ist_n dX8_compile_23 rfl (by decide) (lv' := [(0, vr (some (97, 1, 0))), (1, vi (1 : Int32)), (2, vi (1 : Int32))]) rfl k_) ?_
      exact k
    · have k := zif h_ k
      refine Zm.l (fun _ _ k_ => z_iconst (v := 0) dX8_compile_18 rfl k_) ?_
      exact zm_iret dX8_compile_19 rfl (by decide) k
theorem sX8_compile_24 {E : zE} {d : Nat} {Q : zO → zM → Prop} (M : zM) (l1 : Int32) (l2 : Int32) (k : if (gi M 97 32) ≤ l2 then (if l1 = 0 then (Q (.inl (some (vi (0 : Int32)))) M) else (Zm E YX8_compile (d + 1) (si (si (si (si (si (si (si (si M 97 46 (0 : Int32)) 97 47 (0 : Int32)) 97 70 (0 : Int32)) 97 68 (0 : Int32)) 97 66 (0 : Int32)) 97 53 (0 : Int32)) 97 59 (0 : Int32)) 97 55 (0 : Int32)) [(0, vr (some (97, 1, 0))), (2, vi (0 : Int32))] 112 [] Q)) else (Zm E YX8_findVariables d M (zargs 0 [vr (some (97, 1, 0)), vi l2]) 0 [] (zma E YX8_compile (d + 1) [(0, vr (some (97, 1, 0))), (1, vi l1), (2, vi l2)] 34 3 [] Q))) : Zm E YX8_compile (d + 1) M [(0, vr (some (97, 1, 0))), (1, vi l1), (2, vi l2)] 24 [] Q := by
  refine Zm.l (fun _ _ k_ => z_iload_n dX8_compile_24 rfl rfl k_) ?_
  refine Zm.l (fun _ _ k_ => z_aload_n dX8_compile_25 rfl rfl k_) ?_
  refine zm_geti dX8_compile_26 fsX8_527_1 (by decide) (by decide) ?_
  refine Zm.br (fun _ _ k1_ k2_ => z_icmp_ge (tgt := 64) dX8_compile_29 rfl k1_ k2_) (fun h_ => ?_) (fun h_ => ?_)
  · have k := zit h_ k
    refine Zm.l (fun _ _ k_ => z_iload_n dX8_compile_64 rfl rfl k_) ?_
    refine Zm.brn (fun _ _ k1_ k2_ => z_if_ne (tgt := 70) dX8_compile_65 rfl k1_ k2_) (fun h_ => ?_) (fun h_ => ?_)
    · have k := zif h_ k
      refine Zm.l (fun _ _ k_ => z_aload_n dX8_compile_70 rfl rfl k_) ?_
      refine Zm.l (fun _ _ k_ => z_iconst (v := 0) dX8_compile_71 rfl k_) ?_
      refine zm_puti (by decide) (by decide) dX8_compile_72 (zfwN.w fwX8_606_1) rfl ⟨rfl, rfl⟩ ?_
      refine Zm.l (fun _ _ k_ => z_aload_n dX8_compile_75 rfl rfl k_) ?_
      refine Zm.l (fun _ _ k_ => z_iconst (v := 0) dX8_compile_76 rfl k_) ?_
      refine zm_puti (by decide) (by decide) dX8_compile_77 (zfwN.w fwX8_609_1) rfl ⟨by decide, by decide⟩ ?_
      refine Zm.l (fun _ _ k_ => z_aload_n dX8_compile_80 rfl rfl k_) ?_
      refine Zm.l (fun _ _ k_ => z_iconst (v := 0) dX8_compile_81 rfl k_) ?_
      refine zm_puti (by decide) (by decide) dX8_compile_82 (zfwN.w fwX8_741_1) rfl ⟨rfl, rfl⟩ ?_
      refine Zm.l (fun _ _ k_ => z_aload_n dX8_compile_85 rfl rfl k_) ?_
      refine Zm.l (fun _ _ k_ => z_iconst (v := 0) dX8_compile_86 rfl k_) ?_
      refine zm_puti (by decide) (by decide) dX8_compile_87 (zfwN.w fwX8_707_1) rfl ⟨rfl, rfl⟩ ?_
      refine Zm.l (fun _ _ k_ => z_aload_n dX8_compile_90 rfl rfl k_) ?_
      refine Zm.l (fun _ _ k_ => z_iconst (v := 0) dX8_compile_91 rfl k_) ?_
      refine zm_puti (by decide) (by decide) dX8_compile_92 (zfwN.w fwX8_650_1) rfl ⟨rfl, rfl⟩ ?_
      refine Zm.l (fun _ _ k_ => z_aload_n dX8_compile_95 rfl rfl k_) ?_
      refine Zm.l (fun _ _ k_ => z_iconst (v := 0) dX8_compile_96 rfl k_) ?_
      refine zm_puti (by decide) (by decide) dX8_compile_97 (zfwN.w fwX8_619_1) rfl ⟨rfl, rfl⟩ ?_
      refine Zm.l (fun _ _ k_ => z_aload_n dX8_compile_100 rfl rfl k_) ?_
      refine Zm.l (fun _ _ k_ => z_iconst (v := 0) dX8_compile_101 rfl k_) ?_
      refine zm_puti (by decide) (by decide) dX8_compile_102 (zfwN.w fwX8_637_1) rfl ⟨rfl, rfl⟩ ?_
      refine Zm.l (fun _ _ k_ => z_aload_n dX8_compile_105 rfl rfl k_) ?_
      refine Zm.l (fun _ _ k_ => z_iconst (v := 0) dX8_compile_106 rfl k_) ?_
      refine zm_puti (by decide) (by decide) dX8_compile_107 (zfwN.w fwX8_689_1) rfl ⟨rfl, rfl⟩ ?_
      refine Zm.l (fun _ _ k_ => z_iconst (v := 0) dX8_compile_110 rfl k_) ?_
      refine Zm.l (fun _ _ k_ => z_ist_n dX8_compile_111 rfl (by decide) (lv' := [(0, vr (some (97, 1, 0))), (1, vi l1), (2, vi (0 : Int32))]) rfl k_) ?_
      refine Zm.pick [0, 2] rfl ?_
      exact k
    · have k := zit h_ k
      refine Zm.l (fun _ _ k_ => z_iconst (v := 0) dX8_compile_68 rfl k_) ?_
      exact zm_iret dX8_compile_69 rfl (by decide) k
  · have k := zif h_ k
    refine Zm.l (fun _ _ k_ => z_aload_n dX8_compile_32 rfl rfl k_) ?_
    refine Zm.l (fun _ _ k_ => z_iload_n dX8_compile_33 rfl rfl k_) ?_
    exact zm_callV (as := [vi l2]) (st := []) dX8_compile_34 vsX8_753_1 (Nat.le_refl _) (Nat.le_of_ble_eq_true rfl) (Nat.le_of_ble_eq_true rfl) rfl k
theorem sX8_compile_37 {E : zE} {d : Nat} {Q : zO → zM → Prop} (M : zM) (l1 : Int32) (l2 : Int32) (k : if l1 = 0 then (Zm E YX8_compile (d + 1) M [(0, vr (some (97, 1, 0))), (1, vi (0 : Int32)), (2, vi (l2 + (1 : Int32)))] 24 [] Q) else (vp_in l2 12 ∧ (if (12 : Int32) < (gi M 130 (l2).toNatClampNeg) then (Zm E YX8_compile (d + 1) M [(0, vr (some (97, 1, 0))), (1, vi (0 : Int32)), (2, vi (l2 + (1 : Int32)))] 24 [] Q) else (Zm E YX8_compile (d + 1) M [(0, vr (some (97, 1, 0))), (1, vi (1 : Int32)), (2, vi (l2 + (1 : Int32)))] 24 [] Q)))) : Zm E YX8_compile (d + 1) M [(0, vr (some (97, 1, 0))), (1, vi l1), (2, vi l2)] 37 [] Q := by
  refine Zm.l (fun _ _ k_ => z_iload_n dX8_compile_37 rfl rfl k_) ?_
  refine Zm.br (fun _ _ k1_ k2_ => z_if_eq (tgt := 56) dX8_compile_38 rfl k1_ k2_) (fun h_ => ?_) (fun h_ => ?_)
  · have k := zit h_ k
    refine Zm.l (fun _ _ k_ => z_iconst (v := 0) dX8_compile_56 rfl k_) ?_
    refine Zm.l (fun _ _ k_ => z_ist_n dX8_compile_57 rfl (by decide) (lv' := [(0, vr (some (97, 1, 0))), (1, vi (0 : Int32)), (2, vi l2)]) rfl k_) ?_
    refine Zm.l (fun _ _ k_ => z_inc (v := (l2 + (1 : Int32))) dX8_compile_58 rfl rfl (by decide) (lv' := [(0, vr (some (97, 1, 0))), (1, vi (0 : Int32)), (2, vi (l2 + (1 : Int32)))]) rfl k_) ?_
    refine Zm.l (fun _ _ k_ => z_goto (tgt := 24) dX8_compile_61 rfl k_) ?_
    exact k
  · have k := zif h_ k
    refine Zm.l (fun _ _ k_ => z_aload_n dX8_compile_41 rfl rfl k_) ?_
    refine zm_getr 32 dX8_compile_42 fsX8_110_1 rfl ?_
    refine Zm.l (fun _ _ k_ => z_iload_n dX8_compile_45 rfl rfl k_) ?_
    obtain ⟨b_, k⟩ := k
    refine zm_iald dX8_compile_46 b_ (by decide) (by decide) ?_
    refine Zm.l (fun _ _ k_ => z_bipush (v := 12) dX8_compile_47 rfl k_) ?_
    refine Zm.br (fun _ _ k1_ k2_ => z_icmp_gt (tgt := 56) dX8_compile_49 rfl k1_ k2_) (fun h_ => ?_) (fun h_ => ?_)
    · have k := zit h_ k
      refine Zm.l (fun _ _ k_ => z_iconst (v := 0) dX8_compile_56 rfl k_) ?_
      refine Zm.l (fun _ _ k_ => z_ist_n dX8_compile_57 rfl (by decide) (lv' := [(0, vr (some (97, 1, 0))), (1, vi (0 : Int32)), (2, vi l2)]) rfl k_) ?_
      refine Zm.l (fun _ _ k_ => z_inc (v := (l2 + (1 : Int32))) dX8_compile_58 rfl rfl (by decide) (lv' := [(0, vr (some (97, 1, 0))), (1, vi (0 : Int32)), (2, vi (l2 + (1 : Int32)))]) rfl k_) ?_
      refine Zm.l (fun _ _ k_ => z_goto (tgt := 24) dX8_compile_61 rfl k_) ?_
      exact k
    · have k := zif h_ k
      refine Zm.l (fun _ _ k_ => z_iconst (v := 1) dX8_compile_52 rfl k_) ?_
      refine Zm.l (fun _ _ k_ => z_goto (tgt := 57) dX8_compile_53 rfl k_) ?_
      refine Zm.l (fun _ _ k_ => z_ist_n dX8_compile_57 rfl (by decide) (lv' := [(0, vr (some (97, 1, 0))), (1, vi (1 : Int32)), (2, vi l2)]) rfl k_) ?_
      refine Zm.l (fun _ _ k_ => z_inc (v := (l2 + (1 : Int32))) dX8_compile_58 rfl rfl (by decide) (lv' := [(0, vr (some (97, 1, 0))), (1, vi (1 : Int32)), (2, vi (l2 + (1 : Int32)))]) rfl k_) ?_
      refine Zm.l (fun _ _ k_ => z_goto (tgt := 24) dX8_compile_61 rfl k_) ?_
      exact k
theorem sX8_compile_112 {E : zE} {d : Nat} {Q : zO → zM → Prop} (M : zM) (l2 : Int32) (k : if (gi M 97 32) ≤ l2 then (Zm E YX8_compile (d + 1) M [(0, vr (some (97, 1, 0)))] 138 [] Q) else (if (gi M 97 47) = 0 then (Zm E YX8_codeFunction d M (zargs 0 [vr (some (97, 1, 0)), vi l2]) 0 [] (zma E YX8_compile (d + 1) [(0, vr (some (97, 1, 0))), (2, vi l2)] 129 3 [] Q)) else (Zm E YX8_compile (d + 1) M [(0, vr (some (97, 1, 0)))] 138 [] Q))) : Zm E YX8_compile (d + 1) M [(0, vr (some (97, 1, 0))), (2, vi l2)] 112 [] Q := by
  refine Zm.l (fun _ _ k_ => z_iload_n dX8_compile_112 rfl rfl k_) ?_
  refine Zm.l (fun _ _ k_ => z_aload_n dX8_compile_113 rfl rfl k_) ?_
  refine zm_geti dX8_compile_114 fsX8_527_1 (by decide) (by decide) ?_
  refine Zm.br (fun _ _ k1_ k2_ => z_icmp_ge (tgt := 138) dX8_compile_117 rfl k1_ k2_) (fun h_ => ?_) (fun h_ => ?_)
  · have k := zit h_ k
    refine Zm.pick [0] rfl ?_
    exact k
  · have k := zif h_ k
    refine Zm.l (fun _ _ k_ => z_aload_n dX8_compile_120 rfl rfl k_) ?_
    refine zm_geti dX8_compile_121 fsX8_609_1 (by decide) (by decide) ?_
    refine Zm.brn (fun _ _ k1_ k2_ => z_if_ne (tgt := 138) dX8_compile_124 rfl k1_ k2_) (fun h_ => ?_) (fun h_ => ?_)
    · have k := zif h_ k
      refine Zm.pick [0] rfl ?_
      exact k
    · have k := zit h_ k
      refine Zm.l (fun _ _ k_ => z_aload_n dX8_compile_127 rfl rfl k_) ?_
      refine Zm.l (fun _ _ k_ => z_iload_n dX8_compile_128 rfl rfl k_) ?_
      exact zm_callV (as := [vi l2]) (st := []) dX8_compile_129 vsX8_756_1 (Nat.le_refl _) (Nat.le_of_ble_eq_true rfl) (Nat.le_of_ble_eq_true rfl) rfl k
theorem sX8_compile_132 {E : zE} {d : Nat} {Q : zO → zM → Prop} (M : zM) (l2 : Int32) (k : Zm E YX8_compile (d + 1) M [(0, vr (some (97, 1, 0))), (2, vi (l2 + (1 : Int32)))] 112 [] Q) : Zm E YX8_compile (d + 1) M [(0, vr (some (97, 1, 0))), (2, vi l2)] 132 [] Q := by
  refine Zm.l (fun _ _ k_ => z_inc (v := (l2 + (1 : Int32))) dX8_compile_132 rfl rfl (by decide) (lv' := [(0, vr (some (97, 1, 0))), (2, vi (l2 + (1 : Int32)))]) rfl k_) ?_
  refine Zm.l (fun _ _ k_ => z_goto (tgt := 112) dX8_compile_135 rfl k_) ?_
  exact k
theorem sX8_compile_138 {E : zE} {d : Nat} {Q : zO → zM → Prop} (M : zM)  (k : if (gi M 97 47) = 0 then (if (gi M 97 55) ≤ (19 : Int32) then (Zm E YX8_compile (d + 1) M [(0, vr (some (97, 1, 0))), (2, vi (0 : Int32))] 158 [] Q) else (Q (.inl (some (vi (0 : Int32)))) M)) else (Q (.inl (some (vi (0 : Int32)))) M)) : Zm E YX8_compile (d + 1) M [(0, vr (some (97, 1, 0)))] 138 [] Q := by
  refine Zm.l (fun _ _ k_ => z_aload_n dX8_compile_138 rfl rfl k_) ?_
  refine zm_geti dX8_compile_139 fsX8_609_1 (by decide) (by decide) ?_
  refine Zm.brn (fun _ _ k1_ k2_ => z_if_ne (tgt := 154) dX8_compile_142 rfl k1_ k2_) (fun h_ => ?_) (fun h_ => ?_)
  · have k := zif h_ k
    refine Zm.l (fun _ _ k_ => z_iconst (v := 0) dX8_compile_154 rfl k_) ?_
    exact zm_iret dX8_compile_155 rfl (by decide) k
  · have k := zit h_ k
    refine Zm.l (fun _ _ k_ => z_aload_n dX8_compile_145 rfl rfl k_) ?_
    refine zm_geti dX8_compile_146 fsX8_689_1 (by decide) (by decide) ?_
    refine Zm.l (fun _ _ k_ => z_bipush (v := 19) dX8_compile_149 rfl k_) ?_
    refine Zm.br (fun _ _ k1_ k2_ => z_icmp_le (tgt := 156) dX8_compile_151 rfl k1_ k2_) (fun h_ => ?_) (fun h_ => ?_)
    · have k := zit h_ k
      refine Zm.l (fun _ _ k_ => z_iconst (v := 0) dX8_compile_156 rfl k_) ?_
      refine Zm.l (fun _ _ k_ => z_ist_n dX8_compile_157 rfl (by decide) (lv' := [(0, vr (some (97, 1, 0))), (2, vi (0 : Int32))]) rfl k_) ?_
      exact k
    · have k := zif h_ k
      refine Zm.l (fun _ _ k_ => z_iconst (v := 0) dX8_compile_154 rfl k_) ?_
      exact zm_iret dX8_compile_155 rfl (by decide) k
theorem sX8_compile_158 {E : zE} {d : Nat} {Q : zO → zM → Prop} (M : zM) (l2 : Int32) (k : if (gi M 97 46) ≤ l2 then (if 0 < (lg_cmp (((((gi M 97 46) + ((2 : Int32) * (gi M 97 32)))).toInt64 * ((((29 : Int32) + ((6 : Int32) * ((gi M 97 32) - (1 : Int32)))) + ((2 : Int32) * (gi M 97 55)))).toInt64) * ((gi M 97 7)).toInt64) (450000 : Int64)) then (Q (.inl (some (vi (0 : Int32)))) (si (si M 97 8 (gi M 97 7)) 97 71 (((29 : Int32) + ((6 : Int32) * ((gi M 97 32) - (1 : Int32)))) + ((2 : Int32) * (gi M 97 55))))) else (Q (.inl (some (vi (1 : Int32)))) (si (si M 97 8 (gi M 97 7)) 97 71 (((29 : Int32) + ((6 : Int32) * ((gi M 97 32) - (1 : Int32)))) + ((2 : Int32) * (gi M 97 55)))))) else (vp_in l2 600 ∧ (Zm E YX8_isJump d M (zargs 0 [vi (gi M 123 (l2).toNatClampNeg)]) 0 [] (zma E YX8_compile (d + 1) [(0, vr (some (97, 1, 0))), (2, vi l2)] 172 3 [] Q)))) : Zm E YX8_compile (d + 1) M [(0, vr (some (97, 1, 0))), (2, vi l2)] 158 [] Q := by
  refine Zm.l (fun _ _ k_ => z_iload_n dX8_compile_158 rfl rfl k_) ?_
  refine Zm.l (fun _ _ k_ => z_aload_n dX8_compile_159 rfl rfl k_) ?_
  refine zm_geti dX8_compile_160 fsX8_606_1 (by decide) (by decide) ?_
  refine Zm.br (fun _ _ k1_ k2_ => z_icmp_ge (tgt := 201) dX8_compile_163 rfl k1_ k2_) (fun h_ => ?_) (fun h_ => ?_)
  · have k := zit h_ k
    refine Zm.l (fun _ _ k_ => z_aload_n dX8_compile_201 rfl rfl k_) ?_
    refine Zm.l (fun _ _ k_ => z_aload_n dX8_compile_202 rfl rfl k_) ?_
    refine zm_geti dX8_compile_203 fsX8_296_1 (by decide) (by decide) ?_
    refine zm_puti (by decide) (by decide) dX8_compile_206 (zfwN.w fwX8_762_1) rfl ⟨rfl, rfl⟩ ?_
    refine Zm.l (fun _ _ k_ => z_aload_n dX8_compile_209 rfl rfl k_) ?_
    refine Zm.l (fun _ _ k_ => z_bipush (v := 29) dX8_compile_210 rfl k_) ?_
    refine Zm.l (fun _ _ k_ => z_bipush (v := 6) dX8_compile_212 rfl k_) ?_
    refine Zm.l (fun _ _ k_ => z_aload_n dX8_compile_214 rfl rfl k_) ?_
    refine zm_geti dX8_compile_215 fsX8_527_1 (by decide) (by decide) ?_
    refine Zm.l (fun _ _ k_ => z_iconst (v := 1) dX8_compile_218 rfl k_) ?_
    refine Zm.l (fun _ _ k_ => z_isub dX8_compile_219 k_) ?_
    refine Zm.l (fun _ _ k_ => z_imul dX8_compile_220 k_) ?_
    refine Zm.l (fun _ _ k_ => z_iadd dX8_compile_221 k_) ?_
    refine Zm.l (fun _ _ k_ => z_iconst (v := 2) dX8_compile_222 rfl k_) ?_
    refine Zm.l (fun _ _ k_ => z_aload_n dX8_compile_223 rfl rfl k_) ?_
    refine zm_geti dX8_compile_224 fsX8_689_1 (by decide) (by decide) ?_
    refine Zm.l (fun _ _ k_ => z_imul dX8_compile_227 k_) ?_
    refine Zm.l (fun _ _ k_ => z_iadd dX8_compile_228 k_) ?_
    refine zm_puti (by decide) (by decide) dX8_compile_229 (zfwN.w fwX8_765_1) rfl ⟨rfl, rfl⟩ ?_
    refine Zm.l (fun _ _ k_ => z_aload_n dX8_compile_232 rfl rfl k_) ?_
    refine zm_geti dX8_compile_233 fsX8_606_1 (by decide) (by decide) ?_
    refine Zm.l (fun _ _ k_ => z_iconst (v := 2) dX8_compile_236 rfl k_) ?_
    refine Zm.l (fun _ _ k_ => z_aload_n dX8_compile_237 rfl rfl k_) ?_
    refine zm_geti dX8_compile_238 fsX8_527_1 (by decide) (by decide) ?_
    refine Zm.l (fun _ _ k_ => z_imul dX8_compile_241 k_) ?_
    refine Zm.l (fun _ _ k_ => z_iadd dX8_compile_242 k_) ?_
    refine Zm.l (fun _ _ k_ => z_i2l dX8_compile_243 k_) ?_
    refine Zm.l (fun _ _ k_ => z_aload_n dX8_compile_244 rfl rfl k_) ?_
    refine zm_geti dX8_compile_245 fsX8_765_1 (by decide) (by decide) ?_
    refine Zm.l (fun _ _ k_ => z_i2l dX8_compile_248 k_) ?_
    refine Zm.l (fun _ _ k_ => z_lmul dX8_compile_249 k_) ?_
    refine Zm.l (fun _ _ k_ => z_aload_n dX8_compile_250 rfl rfl k_) ?_
    refine zm_geti dX8_compile_251 fsX8_762_1 (by decide) (by decide) ?_
    refine Zm.l (fun _ _ k_ => z_i2l dX8_compile_254 k_) ?_
    refine Zm.l (fun _ _ k_ => z_lmul dX8_compile_255 k_) ?_
    refine Zm.l (fun _ _ k_ => z_ldc2 (v := 450000) dX8_compile_256 q4442 k_) ?_
    refine Zm.l (fun _ _ k_ => z_lcmp dX8_compile_259 k_) ?_
    refine Zm.br (fun _ _ k1_ k2_ => z_if_gt (tgt := 267) dX8_compile_260 rfl k1_ k2_) (fun h_ => ?_) (fun h_ => ?_)
    · have k := zit h_ k
      refine Zm.l (fun _ _ k_ => z_iconst (v := 0) dX8_compile_267 rfl k_) ?_
      exact zm_iret dX8_compile_268 rfl (by decide) k
    · have k := zif h_ k
      refine Zm.l (fun _ _ k_ => z_iconst (v := 1) dX8_compile_263 rfl k_) ?_
      refine Zm.l (fun _ _ k_ => z_goto (tgt := 268) dX8_compile_264 rfl k_) ?_
      exact zm_iret dX8_compile_268 rfl (by decide) k
  · have k := zif h_ k
    refine Zm.l (fun _ _ k_ => z_aload_n dX8_compile_166 rfl rfl k_) ?_
    refine zm_getr 25 dX8_compile_167 fsX8_89_1 rfl ?_
    refine Zm.l (fun _ _ k_ => z_iload_n dX8_compile_170 rfl rfl k_) ?_
    obtain ⟨b_, k⟩ := k
    refine zm_iald dX8_compile_171 b_ (by decide) (by decide) ?_
    exact zm_callS (as := [vi (gi M 123 (l2).toNatClampNeg)]) (st := []) dX8_compile_172 ssX8_759 (Nat.le_refl _) (Nat.le_of_ble_eq_true rfl) (Nat.le_of_ble_eq_true rfl) rfl k
theorem sX8_compile_175 {E : zE} {d : Nat} {Q : zO → zM → Prop} (M : zM) (l2 : Int32) (s0 : Int32) (k : if s0 = 0 then (Zm E YX8_compile (d + 1) M [(0, vr (some (97, 1, 0))), (2, vi (l2 + (1 : Int32)))] 158 [] Q) else (vp_in l2 600 ∧ (vp_in (gi M 124 (l2).toNatClampNeg) 8000 ∧ (vp_in l2 600 ∧ (Zm E YX8_compile (d + 1) (si M 124 (l2).toNatClampNeg (gi M 128 ((gi M 124 (l2).toNatClampNeg)).toNatClampNeg)) [(0, vr (some (97, 1, 0))), (2, vi (l2 + (1 : Int32)))] 158 [] Q))))) : Zm E YX8_compile (d + 1) M [(0, vr (some (97, 1, 0))), (2, vi l2)] 175 [vi s0] Q := by
  refine Zm.br (fun _ _ k1_ k2_ => z_if_eq (tgt := 195) dX8_compile_175 rfl k1_ k2_) (fun h_ => ?_) (fun h_ => ?_)
  · have k := zit h_ k
    refine Zm.l (fun _ _ k_ => z_inc (v := (l2 + (1 : Int32))) dX8_compile_195 rfl rfl (by decide) (lv' := [(0, vr (some (97, 1, 0))), (2, vi (l2 + (1 : Int32)))]) rfl k_) ?_
    refine Zm.l (fun _ _ k_ => z_goto (tgt := 158) dX8_compile_198 rfl k_) ?_
    exact k
  · have k := zif h_ k
    refine Zm.l (fun _ _ k_ => z_aload_n dX8_compile_178 rfl rfl k_) ?_
    refine zm_getr 26 dX8_compile_179 fsX8_92_1 rfl ?_
    refine Zm.l (fun _ _ k_ => z_iload_n dX8_compile_182 rfl rfl k_) ?_
    refine Zm.l (fun _ _ k_ => z_aload_n dX8_compile_183 rfl rfl k_) ?_
    refine zm_getr 30 dX8_compile_184 fsX8_104_1 rfl ?_
    refine Zm.l (fun _ _ k_ => z_aload_n dX8_compile_187 rfl rfl k_) ?_
    refine zm_getr 26 dX8_compile_188 fsX8_92_1 rfl ?_
    refine Zm.l (fun _ _ k_ => z_iload_n dX8_compile_191 rfl rfl k_) ?_
    obtain ⟨b_, k⟩ := k
    refine zm_iald dX8_compile_192 b_ (by decide) (by decide) ?_
    obtain ⟨b_, k⟩ := k
    refine zm_iald dX8_compile_193 b_ (by decide) (by decide) ?_
    obtain ⟨b_, k⟩ := k
    refine zm_iast dX8_compile_194 b_ (by decide) (by decide) ?_
    refine Zm.l (fun _ _ k_ => z_inc (v := (l2 + (1 : Int32))) dX8_compile_195 rfl rfl (by decide) (lv' := [(0, vr (some (97, 1, 0))), (2, vi (l2 + (1 : Int32)))]) rfl k_) ?_
    refine Zm.l (fun _ _ k_ => z_goto (tgt := 158) dX8_compile_198 rfl k_) ?_
    exact k
/-! ScriptTypesModel.findVariables(I)V -/
theorem bX8_findVariables_0 : zdec cX8_findVariables 0 [(0, .aload_n 0, 1), (1, .getfield 110, 3), (4, .iload_n 1, 1), (5, .iconst 0, 1), (6, .iastore, 1), (7, .iconst 0, 1), (8, .istore_n 2, 1), (9, .iload_n 2, 1), (10, .aload_n 0, 1), (11, .getfield 71, 3), (14, .iload_n 1, 1), (15, .iaload, 1), (16, .if_icmp .ge 25, 3), (19, .aload_n 0, 1), (20, .iload_n 1, 1), (21, .aload_n 0, 1)] = true := by decide +kernel
theorem dX8_findVariables_0 : decode cX8_findVariables 0 = .ok (.aload_n 0, 1) := zdec_at bX8_findVariables_0 0 rfl
theorem dX8_findVariables_1 : decode cX8_findVariables 1 = .ok (.getfield 110, 3) := zdec_at bX8_findVariables_0 1 rfl
theorem dX8_findVariables_4 : decode cX8_findVariables 4 = .ok (.iload_n 1, 1) := zdec_at bX8_findVariables_0 2 rfl
theorem dX8_findVariables_5 : decode cX8_findVariables 5 = .ok (.iconst 0, 1) := zdec_at bX8_findVariables_0 3 rfl
theorem dX8_findVariables_6 : decode cX8_findVariables 6 = .ok (.iastore, 1) := zdec_at bX8_findVariables_0 4 rfl
theorem dX8_findVariables_7 : decode cX8_findVariables 7 = .ok (.iconst 0, 1) := zdec_at bX8_findVariables_0 5 rfl
theorem dX8_findVariables_8 : decode cX8_findVariables 8 = .ok (.istore_n 2, 1) := zdec_at bX8_findVariables_0 6 rfl
theorem dX8_findVariables_9 : decode cX8_findVariables 9 = .ok (.iload_n 2, 1) := zdec_at bX8_findVariables_0 7 rfl
theorem dX8_findVariables_10 : decode cX8_findVariables 10 = .ok (.aload_n 0, 1) := zdec_at bX8_findVariables_0 8 rfl
theorem dX8_findVariables_11 : decode cX8_findVariables 11 = .ok (.getfield 71, 3) := zdec_at bX8_findVariables_0 9 rfl
theorem dX8_findVariables_14 : decode cX8_findVariables 14 = .ok (.iload_n 1, 1) := zdec_at bX8_findVariables_0 10 rfl
theorem dX8_findVariables_15 : decode cX8_findVariables 15 = .ok (.iaload, 1) := zdec_at bX8_findVariables_0 11 rfl
theorem dX8_findVariables_16 : decode cX8_findVariables 16 = .ok (.if_icmp .ge 25, 3) := zdec_at bX8_findVariables_0 12 rfl
theorem dX8_findVariables_19 : decode cX8_findVariables 19 = .ok (.aload_n 0, 1) := zdec_at bX8_findVariables_0 13 rfl
theorem dX8_findVariables_20 : decode cX8_findVariables 20 = .ok (.iload_n 1, 1) := zdec_at bX8_findVariables_0 14 rfl
theorem dX8_findVariables_21 : decode cX8_findVariables 21 = .ok (.aload_n 0, 1) := zdec_at bX8_findVariables_0 15 rfl
theorem bX8_findVariables_22 : zdec cX8_findVariables 22 [(22, .getfield 68, 3), (25, .bipush 8, 2), (27, .iload_n 1, 1), (28, .imul, 1), (29, .iload_n 2, 1), (30, .iadd, 1), (31, .iaload, 1), (32, .invokevirtual 750, 3), (35, .iinc 2 1, 3), (38, .goto (-29), 3), (41, .aload_n 0, 1), (42, .getfield 65, 3), (45, .iload_n 1, 1), (46, .baload, 1), (47, .ifCond .ne 24, 3), (50, .aload_n 0, 1)] = true := by decide +kernel
theorem dX8_findVariables_22 : decode cX8_findVariables 22 = .ok (.getfield 68, 3) := zdec_at bX8_findVariables_22 0 rfl
theorem dX8_findVariables_25 : decode cX8_findVariables 25 = .ok (.bipush 8, 2) := zdec_at bX8_findVariables_22 1 rfl
theorem dX8_findVariables_27 : decode cX8_findVariables 27 = .ok (.iload_n 1, 1) := zdec_at bX8_findVariables_22 2 rfl
theorem dX8_findVariables_28 : decode cX8_findVariables 28 = .ok (.imul, 1) := zdec_at bX8_findVariables_22 3 rfl
theorem dX8_findVariables_29 : decode cX8_findVariables 29 = .ok (.iload_n 2, 1) := zdec_at bX8_findVariables_22 4 rfl
theorem dX8_findVariables_30 : decode cX8_findVariables 30 = .ok (.iadd, 1) := zdec_at bX8_findVariables_22 5 rfl
theorem dX8_findVariables_31 : decode cX8_findVariables 31 = .ok (.iaload, 1) := zdec_at bX8_findVariables_22 6 rfl
theorem dX8_findVariables_32 : decode cX8_findVariables 32 = .ok (.invokevirtual 750, 3) := zdec_at bX8_findVariables_22 7 rfl
theorem dX8_findVariables_35 : decode cX8_findVariables 35 = .ok (.iinc 2 1, 3) := zdec_at bX8_findVariables_22 8 rfl
theorem dX8_findVariables_38 : decode cX8_findVariables 38 = .ok (.goto (-29), 3) := zdec_at bX8_findVariables_22 9 rfl
theorem dX8_findVariables_41 : decode cX8_findVariables 41 = .ok (.aload_n 0, 1) := zdec_at bX8_findVariables_22 10 rfl
theorem dX8_findVariables_42 : decode cX8_findVariables 42 = .ok (.getfield 65, 3) := zdec_at bX8_findVariables_22 11 rfl
theorem dX8_findVariables_45 : decode cX8_findVariables 45 = .ok (.iload_n 1, 1) := zdec_at bX8_findVariables_22 12 rfl
theorem dX8_findVariables_46 : decode cX8_findVariables 46 = .ok (.baload, 1) := zdec_at bX8_findVariables_22 13 rfl
theorem dX8_findVariables_47 : decode cX8_findVariables 47 = .ok (.ifCond .ne 24, 3) := zdec_at bX8_findVariables_22 14 rfl
theorem dX8_findVariables_50 : decode cX8_findVariables 50 = .ok (.aload_n 0, 1) := zdec_at bX8_findVariables_22 15 rfl
theorem bX8_findVariables_51 : zdec cX8_findVariables 51 [(51, .getfield 62, 3), (54, .iload_n 1, 1), (55, .iaload, 1), (56, .iconst (-1), 1), (57, .if_icmp .eq 14, 3), (60, .aload_n 0, 1), (61, .iload_n 1, 1), (62, .aload_n 0, 1), (63, .getfield 62, 3), (66, .iload_n 1, 1), (67, .iaload, 1), (68, .invokevirtual 750, 3), (71, .iconst 0, 1), (72, .istore_n 2, 1), (73, .iload_n 2, 1), (74, .aload_n 0, 1)] = true := by decide +kernel
theorem dX8_findVariables_51 : decode cX8_findVariables 51 = .ok (.getfield 62, 3) := zdec_at bX8_findVariables_51 0 rfl
theorem dX8_findVariables_54 : decode cX8_findVariables 54 = .ok (.iload_n 1, 1) := zdec_at bX8_findVariables_51 1 rfl
theorem dX8_findVariables_55 : decode cX8_findVariables 55 = .ok (.iaload, 1) := zdec_at bX8_findVariables_51 2 rfl
theorem dX8_findVariables_56 : decode cX8_findVariables 56 = .ok (.iconst (-1), 1) := zdec_at bX8_findVariables_51 3 rfl
theorem dX8_findVariables_57 : decode cX8_findVariables 57 = .ok (.if_icmp .eq 14, 3) := zdec_at bX8_findVariables_51 4 rfl
theorem dX8_findVariables_60 : decode cX8_findVariables 60 = .ok (.aload_n 0, 1) := zdec_at bX8_findVariables_51 5 rfl
theorem dX8_findVariables_61 : decode cX8_findVariables 61 = .ok (.iload_n 1, 1) := zdec_at bX8_findVariables_51 6 rfl
theorem dX8_findVariables_62 : decode cX8_findVariables 62 = .ok (.aload_n 0, 1) := zdec_at bX8_findVariables_51 7 rfl
theorem dX8_findVariables_63 : decode cX8_findVariables 63 = .ok (.getfield 62, 3) := zdec_at bX8_findVariables_51 8 rfl
theorem dX8_findVariables_66 : decode cX8_findVariables 66 = .ok (.iload_n 1, 1) := zdec_at bX8_findVariables_51 9 rfl
theorem dX8_findVariables_67 : decode cX8_findVariables 67 = .ok (.iaload, 1) := zdec_at bX8_findVariables_51 10 rfl
theorem dX8_findVariables_68 : decode cX8_findVariables 68 = .ok (.invokevirtual 750, 3) := zdec_at bX8_findVariables_51 11 rfl
theorem dX8_findVariables_71 : decode cX8_findVariables 71 = .ok (.iconst 0, 1) := zdec_at bX8_findVariables_51 12 rfl
theorem dX8_findVariables_72 : decode cX8_findVariables 72 = .ok (.istore_n 2, 1) := zdec_at bX8_findVariables_51 13 rfl
theorem dX8_findVariables_73 : decode cX8_findVariables 73 = .ok (.iload_n 2, 1) := zdec_at bX8_findVariables_51 14 rfl
theorem dX8_findVariables_74 : decode cX8_findVariables 74 = .ok (.aload_n 0, 1) := zdec_at bX8_findVariables_51 15 rfl
theorem bX8_findVariables_75 : zdec cX8_findVariables 75 [(75, .getfield 83, 3), (78, .iload_n 1, 1), (79, .iaload, 1), (80, .if_icmp .ge 25, 3), (83, .aload_n 0, 1), (84, .iload_n 1, 1), (85, .aload_n 0, 1), (86, .getfield 80, 3), (89, .bipush 100, 2), (91, .iload_n 1, 1), (92, .imul, 1), (93, .iload_n 2, 1), (94, .iadd, 1), (95, .iaload, 1), (96, .invokevirtual 750, 3), (99, .iinc 2 1, 3)] = true := by decide +kernel
theorem dX8_findVariables_75 : decode cX8_findVariables 75 = .ok (.getfield 83, 3) := zdec_at bX8_findVariables_75 0 rfl
theorem dX8_findVariables_78 : decode cX8_findVariables 78 = .ok (.iload_n 1, 1) := zdec_at bX8_findVariables_75 1 rfl
theorem dX8_findVariables_79 : decode cX8_findVariables 79 = .ok (.iaload, 1) := zdec_at bX8_findVariables_75 2 rfl
theorem dX8_findVariables_80 : decode cX8_findVariables 80 = .ok (.if_icmp .ge 25, 3) := zdec_at bX8_findVariables_75 3 rfl
theorem dX8_findVariables_83 : decode cX8_findVariables 83 = .ok (.aload_n 0, 1) := zdec_at bX8_findVariables_75 4 rfl
theorem dX8_findVariables_84 : decode cX8_findVariables 84 = .ok (.iload_n 1, 1) := zdec_at bX8_findVariables_75 5 rfl
theorem dX8_findVariables_85 : decode cX8_findVariables 85 = .ok (.aload_n 0, 1) := zdec_at bX8_findVariables_75 6 rfl
theorem dX8_findVariables_86 : decode cX8_findVariables 86 = .ok (.getfield 80, 3) := zdec_at bX8_findVariables_75 7 rfl
theorem dX8_findVariables_89 : decode cX8_findVariables 89 = .ok (.bipush 100, 2) := zdec_at bX8_findVariables_75 8 rfl
theorem dX8_findVariables_91 : decode cX8_findVariables 91 = .ok (.iload_n 1, 1) := zdec_at bX8_findVariables_75 9 rfl
theorem dX8_findVariables_92 : decode cX8_findVariables 92 = .ok (.imul, 1) := zdec_at bX8_findVariables_75 10 rfl
theorem dX8_findVariables_93 : decode cX8_findVariables 93 = .ok (.iload_n 2, 1) := zdec_at bX8_findVariables_75 11 rfl
theorem dX8_findVariables_94 : decode cX8_findVariables 94 = .ok (.iadd, 1) := zdec_at bX8_findVariables_75 12 rfl
theorem dX8_findVariables_95 : decode cX8_findVariables 95 = .ok (.iaload, 1) := zdec_at bX8_findVariables_75 13 rfl
theorem dX8_findVariables_96 : decode cX8_findVariables 96 = .ok (.invokevirtual 750, 3) := zdec_at bX8_findVariables_75 14 rfl
theorem dX8_findVariables_99 : decode cX8_findVariables 99 = .ok (.iinc 2 1, 3) := zdec_at bX8_findVariables_75 15 rfl
theorem bX8_findVariables_102 : zdec cX8_findVariables 102 [(102, .goto (-29), 3), (105, .return_, 1)] = true := by decide +kernel
theorem dX8_findVariables_102 : decode cX8_findVariables 102 = .ok (.goto (-29), 3) := zdec_at bX8_findVariables_102 0 rfl
theorem dX8_findVariables_105 : decode cX8_findVariables 105 = .ok (.return_, 1) := zdec_at bX8_findVariables_102 1 rfl
theorem sX8_findVariables_0 {E : zE} {d : Nat} {Q : zO → zM → Prop} (M : zM) (l1 : Int32) (k : vp_in l1 12 ∧ (Zm E YX8_findVariables (d + 1) (si M 130 (l1).toNatClampNeg (0 : Int32)) [(0, vr (some (97, 1, 0))), (1, vi l1), (2, vi (0 : Int32))] 9 [] Q)) : Zm E YX8_findVariables (d + 1) M [(0, vr (some (97, 1, 0))), (1, vi l1)] 0 [] Q := by
  refine Zm.l (fun _ _ k_ => z_aload_n dX8_findVariables_0 rfl rfl k_) ?_
  refine zm_getr 32 dX8_findVariables_1 fsX8_110_1 rfl ?_
  refine Zm.l (fun _ _ k_ => z_iload_n dX8_findVariables_4 rfl rfl k_) ?_
  refine Zm.l (fun _ _ k_ => z_iconst (v := 0) dX8_findVariables_5 rfl k_) ?_
  obtain ⟨b_, k⟩ := k
  refine zm_iast dX8_findVariables_6 b_ (by decide) (by decide) ?_
  refine Zm.l (fun _ _ k_ => z_iconst (v := 0) dX8_findVariables_7 rfl k_) ?_
  refine Zm.l (fun _ _ k_ => z_ist_n dX8_findVariables_8 rfl (by decide) (lv' := [(0, vr (some (97, 1, 0))), (1, vi l1), (2, vi (0 : Int32))]) rfl k_) ?_
  exact k
theorem sX8_findVariables_9 {E : zE} {d : Nat} {Q : zO → zM → Prop} (M : zM) (l1 : Int32) (l2 : Int32) (k : vp_in l1 12 ∧ (if (gi M 117 (l1).toNatClampNeg) ≤ l2 then (vp_in l1 12 ∧ (if (gi M 115 (l1).toNatClampNeg) = 0 then (vp_in l1 12 ∧ (if (gi M 114 (l1).toNatClampNeg) = (-1 : Int32) then (Zm E YX8_findVariables (d + 1) M [(0, vr (some (97, 1, 0))), (1, vi l1)] 71 [] Q) else (vp_in l1 12 ∧ (Zm E YX8_addVariable d M (zargs 0 [vr (some (97, 1, 0)), vi l1, vi (gi M 114 (l1).toNatClampNeg)]) 0 [] (zma E YX8_findVariables (d + 1) [(0, vr (some (97, 1, 0))), (1, vi l1)] 68 3 [] Q))))) else (Zm E YX8_findVariables (d + 1) M [(0, vr (some (97, 1, 0))), (1, vi l1)] 71 [] Q))) else (vp_in (((8 : Int32) * l1) + l2) 96 ∧ (Zm E YX8_addVariable d M (zargs 0 [vr (some (97, 1, 0)), vi l1, vi (gi M 116 ((((8 : Int32) * l1) + l2)).toNatClampNeg)]) 0 [] (zma E YX8_findVariables (d + 1) [(0, vr (some (97, 1, 0))), (1, vi l1), (2, vi l2)] 32 3 [] Q))))) : Zm E YX8_findVariables (d + 1) M [(0, vr (some (97, 1, 0))), (1, vi l1), (2, vi l2)] 9 [] Q := by
  refine Zm.l (fun _ _ k_ => z_iload_n dX8_findVariables_9 rfl rfl k_) ?_
  refine Zm.l (fun _ _ k_ => z_aload_n dX8_findVariables_10 rfl rfl k_) ?_
  refine zm_getr 19 dX8_findVariables_11 fsX8_71_1 rfl ?_
  refine Zm.l (fun _ _ k_ => z_iload_n dX8_findVariables_14 rfl rfl k_) ?_
  obtain ⟨b_, k⟩ := k
  refine zm_iald dX8_findVariables_15 b_ (by decide) (by decide) ?_
  refine Zm.br (fun _ _ k1_ k2_ => z_icmp_ge (tgt := 41) dX8_findVariables_16 rfl k1_ k2_) (fun h_ => ?_) (fun h_ => ?_)
  · have k := zit h_ k
    refine Zm.l (fun _ _ k_ => z_aload_n dX8_findVariables_41 rfl rfl k_) ?_
    refine zm_getr 17 dX8_findVariables_42 fsX8_65_1 rfl ?_
    refine Zm.l (fun _ _ k_ => z_iload_n dX8_findVariables_45 rfl rfl k_) ?_
    obtain ⟨b_, k⟩ := k
    refine zm_zald dX8_findVariables_46 b_ (by decide) (by decide) ?_
    refine Zm.brn (fun _ _ k1_ k2_ => z_if_ne (tgt := 71) dX8_findVariables_47 rfl k1_ k2_) (fun h_ => ?_) (fun h_ => ?_)
    · have k := zif h_ k
      refine Zm.pick [0, 1] rfl ?_
      exact k
    · have k := zit h_ k
      refine Zm.l (fun _ _ k_ => z_aload_n dX8_findVariables_50 rfl rfl k_) ?_
      refine zm_getr 16 dX8_findVariables_51 fsX8_62_1 rfl ?_
      refine Zm.l (fun _ _ k_ => z_iload_n dX8_findVariables_54 rfl rfl k_) ?_
      obtain ⟨b_, k⟩ := k
      refine zm_iald dX8_findVariables_55 b_ (by decide) (by decide) ?_
      refine Zm.l (fun _ _ k_ => z_iconst (v := -1) dX8_findVariables_56 rfl k_) ?_
      refine Zm.br (fun _ _ k1_ k2_ => z_icmp_eq (tgt := 71) dX8_findVariables_57 rfl k1_ k2_) (fun h_ => ?_) (fun h_ => ?_)
      · have k := zit h_ k
        refine Zm.pick [0, 1] rfl ?_
        exact k
      · have k := zif h_ k
        refine Zm.l (fun _ _ k_ => z_aload_n dX8_findVariables_60 rfl rfl k_) ?_
        refine Zm.l (fun _ _ k_ => z_iload_n dX8_findVariables_61 rfl rfl k_) ?_
        refine Zm.l (fun _ _ k_ => z_aload_n dX8_findVariables_62 rfl rfl k_) ?_
        refine zm_getr 16 dX8_findVariables_63 fsX8_62_1 rfl ?_
        refine Zm.l (fun _ _ k_ => z_iload_n dX8_findVariables_66 rfl rfl k_) ?_
        obtain ⟨b_, k⟩ := k
        refine zm_iald dX8_findVariables_67 b_ (by decide) (by decide) ?_
        refine Zm.pick [0, 1] rfl ?_
        exact zm_callV (as := [vi l1, vi (gi M 114 (l1).toNatClampNeg)]) (st := []) dX8_findVariables_68 vsX8_750_1 (Nat.le_refl _) (Nat.le_of_ble_eq_true rfl) (Nat.le_of_ble_eq_true rfl) rfl k
  · have k := zif h_ k
    refine Zm.l (fun _ _ k_ => z_aload_n dX8_findVariables_19 rfl rfl k_) ?_
    refine Zm.l (fun _ _ k_ => z_iload_n dX8_findVariables_20 rfl rfl k_) ?_
    refine Zm.l (fun _ _ k_ => z_aload_n dX8_findVariables_21 rfl rfl k_) ?_
    refine zm_getr 18 dX8_findVariables_22 fsX8_68_1 rfl ?_
    refine Zm.l (fun _ _ k_ => z_bipush (v := 8) dX8_findVariables_25 rfl k_) ?_
    refine Zm.l (fun _ _ k_ => z_iload_n dX8_findVariables_27 rfl rfl k_) ?_
    refine Zm.l (fun _ _ k_ => z_imul dX8_findVariables_28 k_) ?_
    refine Zm.l (fun _ _ k_ => z_iload_n dX8_findVariables_29 rfl rfl k_) ?_
    refine Zm.l (fun _ _ k_ => z_iadd dX8_findVariables_30 k_) ?_
    obtain ⟨b_, k⟩ := k
    refine zm_iald dX8_findVariables_31 b_ (by decide) (by decide) ?_
    exact zm_callV (as := [vi l1, vi (gi M 116 ((((8 : Int32) * l1) + l2)).toNatClampNeg)]) (st := []) dX8_findVariables_32 vsX8_750_1 (Nat.le_refl _) (Nat.le_of_ble_eq_true rfl) (Nat.le_of_ble_eq_true rfl) rfl k
theorem sX8_findVariables_35 {E : zE} {d : Nat} {Q : zO → zM → Prop} (M : zM) (l1 : Int32) (l2 : Int32) (k : Zm E YX8_findVariables (d + 1) M [(0, vr (some (97, 1, 0))), (1, vi l1), (2, vi (l2 + (1 : Int32)))] 9 [] Q) : Zm E YX8_findVariables (d + 1) M [(0, vr (some (97, 1, 0))), (1, vi l1), (2, vi l2)] 35 [] Q := by
  refine Zm.l (fun _ _ k_ => z_inc (v := (l2 + (1 : Int32))) dX8_findVariables_35 rfl rfl (by decide) (lv' := [(0, vr (some (97, 1, 0))), (1, vi l1), (2, vi (l2 + (1 : Int32)))]) rfl k_) ?_
  refine Zm.l (fun _ _ k_ => z_goto (tgt := 9) dX8_findVariables_38 rfl k_) ?_
  exact k
theorem sX8_findVariables_71 {E : zE} {d : Nat} {Q : zO → zM → Prop} (M : zM) (l1 : Int32) (k : Zm E YX8_findVariables (d + 1) M [(0, vr (some (97, 1, 0))), (1, vi l1), (2, vi (0 : Int32))] 73 [] Q) : Zm E YX8_findVariables (d + 1) M [(0, vr (some (97, 1, 0))), (1, vi l1)] 71 [] Q := by
  refine Zm.l (fun _ _ k_ => z_iconst (v := 0) dX8_findVariables_71 rfl k_) ?_
  refine Zm.l (fun _ _ k_ => z_ist_n dX8_findVariables_72 rfl (by decide) (lv' := [(0, vr (some (97, 1, 0))), (1, vi l1), (2, vi (0 : Int32))]) rfl k_) ?_
  exact k
theorem sX8_findVariables_73 {E : zE} {d : Nat} {Q : zO → zM → Prop} (M : zM) (l1 : Int32) (l2 : Int32) (k : vp_in l1 12 ∧ (if (gi M 121 (l1).toNatClampNeg) ≤ l2 then (Q (.inl none) M) else (vp_in (((100 : Int32) * l1) + l2) 1200 ∧ (Zm E YX8_addVariable d M (zargs 0 [vr (some (97, 1, 0)), vi l1, vi (gi M 120 ((((100 : Int32) * l1) + l2)).toNatClampNeg)]) 0 [] (zma E YX8_findVariables (d + 1) [(0, vr (some (97, 1, 0))), (1, vi l1), (2, vi l2)] 96 3 [] Q))))) : Zm E YX8_findVariables (d + 1) M [(0, vr (some (97, 1, 0))), (1, vi l1), (2, vi l2)] 73 [] Q := by
  refine Zm.l (fun _ _ k_ => z_iload_n dX8_findVariables_73 rfl rfl k_) ?_
  refine Zm.l (fun _ _ k_ => z_aload_n dX8_findVariables_74 rfl rfl k_) ?_
  refine zm_getr 23 dX8_findVariables_75 fsX8_83_1 rfl ?_
  refine Zm.l (fun _ _ k_ => z_iload_n dX8_findVariables_78 rfl rfl k_) ?_
  obtain ⟨b_, k⟩ := k
  refine zm_iald dX8_findVariables_79 b_ (by decide) (by decide) ?_
  refine Zm.br (fun _ _ k1_ k2_ => z_icmp_ge (tgt := 105) dX8_findVariables_80 rfl k1_ k2_) (fun h_ => ?_) (fun h_ => ?_)
  · have k := zit h_ k
    exact zm_vret dX8_findVariables_105 rfl k
  · have k := zif h_ k
    refine Zm.l (fun _ _ k_ => z_aload_n dX8_findVariables_83 rfl rfl k_) ?_
    refine Zm.l (fun _ _ k_ => z_iload_n dX8_findVariables_84 rfl rfl k_) ?_
    refine Zm.l (fun _ _ k_ => z_aload_n dX8_findVariables_85 rfl rfl k_) ?_
    refine zm_getr 22 dX8_findVariables_86 fsX8_80_1 rfl ?_
    refine Zm.l (fun _ _ k_ => z_bipush (v := 100) dX8_findVariables_89 rfl k_) ?_
    refine Zm.l (fun _ _ k_ => z_iload_n dX8_findVariables_91 rfl rfl k_) ?_
    refine Zm.l (fun _ _ k_ => z_imul dX8_findVariables_92 k_) ?_
    refine Zm.l (fun _ _ k_ => z_iload_n dX8_findVariables_93 rfl rfl k_) ?_
    refine Zm.l (fun _ _ k_ => z_iadd dX8_findVariables_94 k_) ?_
    obtain ⟨b_, k⟩ := k
    refine zm_iald dX8_findVariables_95 b_ (by decide) (by decide) ?_
    exact zm_callV (as := [vi l1, vi (gi M 120 ((((100 : Int32) * l1) + l2)).toNatClampNeg)]) (st := []) dX8_findVariables_96 vsX8_750_1 (Nat.le_refl _) (Nat.le_of_ble_eq_true rfl) (Nat.le_of_ble_eq_true rfl) rfl k
theorem sX8_findVariables_99 {E : zE} {d : Nat} {Q : zO → zM → Prop} (M : zM) (l1 : Int32) (l2 : Int32) (k : Zm E YX8_findVariables (d + 1) M [(0, vr (some (97, 1, 0))), (1, vi l1), (2, vi (l2 + (1 : Int32)))] 73 [] Q) : Zm E YX8_findVariables (d + 1) M [(0, vr (some (97, 1, 0))), (1, vi l1), (2, vi l2)] 99 [] Q := by
  refine Zm.l (fun _ _ k_ => z_inc (v := (l2 + (1 : Int32))) dX8_findVariables_99 rfl rfl (by decide) (lv' := [(0, vr (some (97, 1, 0))), (1, vi l1), (2, vi (l2 + (1 : Int32)))]) rfl k_) ?_
  refine Zm.l (fun _ _ k_ => z_goto (tgt := 73) dX8_findVariables_102 rfl k_) ?_
  exact k
/-! ScriptTypesModel.addVariable(II)V -/
theorem bX8_addVariable_0 : zdec cX8_addVariable 0 [(0, .aload_n 0, 1), (1, .iload_n 1, 1), (2, .iload_n 2, 1), (3, .invokevirtual 622, 3), (6, .ifCond .eq 4, 3), (9, .return_, 1), (10, .aload_n 0, 1), (11, .getfield 107, 3), (14, .bipush 100, 2), (16, .iload_n 1, 1), (17, .imul, 1), (18, .aload_n 0, 1), (19, .getfield 110, 3), (22, .iload_n 1, 1), (23, .iaload, 1), (24, .iadd, 1)] = true := by decide +kernel
theorem dX8_addVariable_0 : decode cX8_addVariable 0 = .ok (.aload_n 0, 1) := zdec_at bX8_addVariable_0 0 rfl
theorem dX8_addVariable_1 : decode cX8_addVariable 1 = .ok (.iload_n 1, 1) := zdec_at bX8_addVariable_0 1 rfl
theorem dX8_addVariable_2 : decode cX8_addVariable 2 = .ok (.iload_n 2, 1) := zdec_at bX8_addVariable_0 2 rfl
theorem dX8_addVariable_3 : decode cX8_addVariable 3 = .ok (.invokevirtual 622, 3) := zdec_at bX8_addVariable_0 3 rfl
theorem dX8_addVariable_6 : decode cX8_addVariable 6 = .ok (.ifCond .eq 4, 3) := zdec_at bX8_addVariable_0 4 rfl
theorem dX8_addVariable_9 : decode cX8_addVariable 9 = .ok (.return_, 1) := zdec_at bX8_addVariable_0 5 rfl
theorem dX8_addVariable_10 : decode cX8_addVariable 10 = .ok (.aload_n 0, 1) := zdec_at bX8_addVariable_0 6 rfl
theorem dX8_addVariable_11 : decode cX8_addVariable 11 = .ok (.getfield 107, 3) := zdec_at bX8_addVariable_0 7 rfl
theorem dX8_addVariable_14 : decode cX8_addVariable 14 = .ok (.bipush 100, 2) := zdec_at bX8_addVariable_0 8 rfl
theorem dX8_addVariable_16 : decode cX8_addVariable 16 = .ok (.iload_n 1, 1) := zdec_at bX8_addVariable_0 9 rfl
theorem dX8_addVariable_17 : decode cX8_addVariable 17 = .ok (.imul, 1) := zdec_at bX8_addVariable_0 10 rfl
theorem dX8_addVariable_18 : decode cX8_addVariable 18 = .ok (.aload_n 0, 1) := zdec_at bX8_addVariable_0 11 rfl
theorem dX8_addVariable_19 : decode cX8_addVariable 19 = .ok (.getfield 110, 3) := zdec_at bX8_addVariable_0 12 rfl
theorem dX8_addVariable_22 : decode cX8_addVariable 22 = .ok (.iload_n 1, 1) := zdec_at bX8_addVariable_0 13 rfl
theorem dX8_addVariable_23 : decode cX8_addVariable 23 = .ok (.iaload, 1) := zdec_at bX8_addVariable_0 14 rfl
theorem dX8_addVariable_24 : decode cX8_addVariable 24 = .ok (.iadd, 1) := zdec_at bX8_addVariable_0 15 rfl
theorem bX8_addVariable_25 : zdec cX8_addVariable 25 [(25, .iload_n 2, 1), (26, .iastore, 1), (27, .aload_n 0, 1), (28, .getfield 110, 3), (31, .iload_n 1, 1), (32, .dup2, 1), (33, .iaload, 1), (34, .iconst 1, 1), (35, .iadd, 1), (36, .iastore, 1), (37, .return_, 1)] = true := by decide +kernel
theorem dX8_addVariable_25 : decode cX8_addVariable 25 = .ok (.iload_n 2, 1) := zdec_at bX8_addVariable_25 0 rfl
theorem dX8_addVariable_26 : decode cX8_addVariable 26 = .ok (.iastore, 1) := zdec_at bX8_addVariable_25 1 rfl
theorem dX8_addVariable_27 : decode cX8_addVariable 27 = .ok (.aload_n 0, 1) := zdec_at bX8_addVariable_25 2 rfl
theorem dX8_addVariable_28 : decode cX8_addVariable 28 = .ok (.getfield 110, 3) := zdec_at bX8_addVariable_25 3 rfl
theorem dX8_addVariable_31 : decode cX8_addVariable 31 = .ok (.iload_n 1, 1) := zdec_at bX8_addVariable_25 4 rfl
theorem dX8_addVariable_32 : decode cX8_addVariable 32 = .ok (.dup2, 1) := zdec_at bX8_addVariable_25 5 rfl
theorem dX8_addVariable_33 : decode cX8_addVariable 33 = .ok (.iaload, 1) := zdec_at bX8_addVariable_25 6 rfl
theorem dX8_addVariable_34 : decode cX8_addVariable 34 = .ok (.iconst 1, 1) := zdec_at bX8_addVariable_25 7 rfl
theorem dX8_addVariable_35 : decode cX8_addVariable 35 = .ok (.iadd, 1) := zdec_at bX8_addVariable_25 8 rfl
theorem dX8_addVariable_36 : decode cX8_addVariable 36 = .ok (.iastore, 1) := zdec_at bX8_addVariable_25 9 rfl
theorem dX8_addVariable_37 : decode cX8_addVariable 37 = .ok (.return_, 1) := zdec_at bX8_addVariable_25 10 rfl
theorem sX8_addVariable_0 {E : zE} {d : Nat} {Q : zO → zM → Prop} (M : zM) (l1 : Int32) (l2 : Int32) (k : Zm E YX8_isVariable d M (zargs 0 [vr (some (97, 1, 0)), vi l1, vi l2]) 0 [] (zma E YX8_addVariable (d + 1) [(0, vr (some (97, 1, 0))), (1, vi l1), (2, vi l2)] 3 3 [] Q)) : Zm E YX8_addVariable (d + 1) M [(0, vr (some (97, 1, 0))), (1, vi l1), (2, vi l2)] 0 [] Q := by
  refine Zm.l (fun _ _ k_ => z_aload_n dX8_addVariable_0 rfl rfl k_) ?_
  refine Zm.l (fun _ _ k_ => z_iload_n dX8_addVariable_1 rfl rfl k_) ?_
  refine Zm.l (fun _ _ k_ => z_iload_n dX8_addVariable_2 rfl rfl k_) ?_
  exact zm_callV (as := [vi l1, vi l2]) (st := []) dX8_addVariable_3 vsX8_622_1 (Nat.le_refl _) (Nat.le_of_ble_eq_true rfl) (Nat.le_of_ble_eq_true rfl) rfl k
theorem sX8_addVariable_6 {E : zE} {d : Nat} {Q : zO → zM → Prop} (M : zM) (l1 : Int32) (l2 : Int32) (s0 : Int32) (k : if s0 = 0 then (vp_in l1 12 ∧ (vp_in (((100 : Int32) * l1) + (gi M 130 (l1).toNatClampNeg)) 1200 ∧ (vp_in l1 12 ∧ (vp_in l1 12 ∧ (Q (.inl none) (si (si M 129 ((((100 : Int32) * l1) + (gi M 130 (l1).toNatClampNeg))).toNatClampNeg l2) 130 (l1).toNatClampNeg ((gi M 130 (l1).toNatClampNeg) + (1 : Int32)))))))) else (Q (.inl none) M)) : Zm E YX8_addVariable (d + 1) M [(0, vr (some (97, 1, 0))), (1, vi l1), (2, vi l2)] 6 [vi s0] Q := by
  refine Zm.br (fun _ _ k1_ k2_ => z_if_eq (tgt := 10) dX8_addVariable_6 rfl k1_ k2_) (fun h_ => ?_) (fun h_ => ?_)
  · have k := zit h_ k
    refine Zm.l (fun _ _ k_ => z_aload_n dX8_addVariable_10 rfl rfl k_) ?_
    refine zm_getr 31 dX8_addVariable_11 fsX8_107_1 rfl ?_
    refine Zm.l (fun _ _ k_ => z_bipush (v := 100) dX8_addVariable_14 rfl k_) ?_
    refine Zm.l (fun _ _ k_ => z_iload_n dX8_addVariable_16 rfl rfl k_) ?_
    refine Zm.l (fun _ _ k_ => z_imul dX8_addVariable_17 k_) ?_
    refine Zm.l (fun _ _ k_ => z_aload_n dX8_addVariable_18 rfl rfl k_) ?_
    refine zm_getr 32 dX8_addVariable_19 fsX8_110_1 rfl ?_
    refine Zm.l (fun _ _ k_ => z_iload_n dX8_addVariable_22 rfl rfl k_) ?_
    obtain ⟨b_, k⟩ := k
    refine zm_iald dX8_addVariable_23 b_ (by decide) (by decide) ?_
    refine Zm.l (fun _ _ k_ => z_iadd dX8_addVariable_24 k_) ?_
    refine Zm.l (fun _ _ k_ => z_iload_n dX8_addVariable_25 rfl rfl k_) ?_
    obtain ⟨b_, k⟩ := k
    refine zm_iast dX8_addVariable_26 b_ (by decide) (by decide) ?_
    refine Zm.l (fun _ _ k_ => z_aload_n dX8_addVariable_27 rfl rfl k_) ?_
    refine zm_getr 32 dX8_addVariable_28 fsX8_110_1 rfl ?_
    refine Zm.l (fun _ _ k_ => z_iload_n dX8_addVariable_31 rfl rfl k_) ?_
    refine Zm.l (fun _ _ k_ => z_dup2 dX8_addVariable_32 rfl rfl k_) ?_
    obtain ⟨b_, k⟩ := k
    refine zm_iald dX8_addVariable_33 b_ (by decide) (by decide) ?_
    refine Zm.l (fun _ _ k_ => z_iconst (v := 1) dX8_addVariable_34 rfl k_) ?_
    refine Zm.l (fun _ _ k_ => z_iadd dX8_addVariable_35 k_) ?_
    obtain ⟨b_, k⟩ := k
    refine zm_iast dX8_addVariable_36 b_ (by decide) (by decide) ?_
    exact zm_vret dX8_addVariable_37 rfl k
  · have k := zif h_ k
    exact zm_vret dX8_addVariable_9 rfl k
/-! ScriptTypesModel.isVariable(II)Z -/
theorem bX8_isVariable_0 : zdec cX8_isVariable 0 [(0, .iconst 0, 1), (1, .istore_n 3, 1), (2, .iconst 0, 1), (3, .istore 4, 2), (5, .iload 4, 2), (7, .aload_n 0, 1), (8, .getfield 110, 3), (11, .iload_n 1, 1), (12, .iaload, 1), (13, .if_icmp .ge 35, 3), (16, .iload_n 3, 1), (17, .ifCond .ne 19, 3), (20, .aload_n 0, 1), (21, .getfield 107, 3), (24, .bipush 100, 2), (26, .iload_n 1, 1)] = true := by decide +kernel
theorem dX8_isVariable_0 : decode cX8_isVariable 0 = .ok (.iconst 0, 1) := zdec_at bX8_isVariable_0 0 rfl
theorem dX8_isVariable_1 : decode cX8_isVariable 1 = .ok (.istore_n 3, 1) := zdec_at bX8_isVariable_0 1 rfl
theorem dX8_isVariable_2 : decode cX8_isVariable 2 = .ok (.iconst 0, 1) := zdec_at bX8_isVariable_0 2 rfl
theorem dX8_isVariable_3 : decode cX8_isVariable 3 = .ok (.istore 4, 2) := zdec_at bX8_isVariable_0 3 rfl
theorem dX8_isVariable_5 : decode cX8_isVariable 5 = .ok (.iload 4, 2) := zdec_at bX8_isVariable_0 4 rfl
theorem dX8_isVariable_7 : decode cX8_isVariable 7 = .ok (.aload_n 0, 1) := zdec_at bX8_isVariable_0 5 rfl
theorem dX8_isVariable_8 : decode cX8_isVariable 8 = .ok (.getfield 110, 3) := zdec_at bX8_isVariable_0 6 rfl
theorem dX8_isVariable_11 : decode cX8_isVariable 11 = .ok (.iload_n 1, 1) := zdec_at bX8_isVariable_0 7 rfl
theorem dX8_isVariable_12 : decode cX8_isVariable 12 = .ok (.iaload, 1) := zdec_at bX8_isVariable_0 8 rfl
theorem dX8_isVariable_13 : decode cX8_isVariable 13 = .ok (.if_icmp .ge 35, 3) := zdec_at bX8_isVariable_0 9 rfl
theorem dX8_isVariable_16 : decode cX8_isVariable 16 = .ok (.iload_n 3, 1) := zdec_at bX8_isVariable_0 10 rfl
theorem dX8_isVariable_17 : decode cX8_isVariable 17 = .ok (.ifCond .ne 19, 3) := zdec_at bX8_isVariable_0 11 rfl
theorem dX8_isVariable_20 : decode cX8_isVariable 20 = .ok (.aload_n 0, 1) := zdec_at bX8_isVariable_0 12 rfl
theorem dX8_isVariable_21 : decode cX8_isVariable 21 = .ok (.getfield 107, 3) := zdec_at bX8_isVariable_0 13 rfl
theorem dX8_isVariable_24 : decode cX8_isVariable 24 = .ok (.bipush 100, 2) := zdec_at bX8_isVariable_0 14 rfl
theorem dX8_isVariable_26 : decode cX8_isVariable 26 = .ok (.iload_n 1, 1) := zdec_at bX8_isVariable_0 15 rfl
theorem bX8_isVariable_27 : zdec cX8_isVariable 27 [(27, .imul, 1), (28, .iload 4, 2), (30, .iadd, 1), (31, .iaload, 1), (32, .iload_n 2, 1), (33, .if_icmp .ne 7, 3), (36, .iconst 1, 1), (37, .goto 4, 3), (40, .iconst 0, 1), (41, .istore_n 3, 1), (42, .iinc 4 1, 3), (45, .goto (-40), 3), (48, .iload_n 3, 1), (49, .ireturn, 1)] = true := by decide +kernel
theorem dX8_isVariable_27 : decode cX8_isVariable 27 = .ok (.imul, 1) := zdec_at bX8_isVariable_27 0 rfl
theorem dX8_isVariable_28 : decode cX8_isVariable 28 = .ok (.iload 4, 2) := zdec_at bX8_isVariable_27 1 rfl
theorem dX8_isVariable_30 : decode cX8_isVariable 30 = .ok (.iadd, 1) := zdec_at bX8_isVariable_27 2 rfl
theorem dX8_isVariable_31 : decode cX8_isVariable 31 = .ok (.iaload, 1) := zdec_at bX8_isVariable_27 3 rfl
theorem dX8_isVariable_32 : decode cX8_isVariable 32 = .ok (.iload_n 2, 1) := zdec_at bX8_isVariable_27 4 rfl
theorem dX8_isVariable_33 : decode cX8_isVariable 33 = .ok (.if_icmp .ne 7, 3) := zdec_at bX8_isVariable_27 5 rfl
theorem dX8_isVariable_36 : decode cX8_isVariable 36 = .ok (.iconst 1, 1) := zdec_at bX8_isVariable_27 6 rfl
theorem dX8_isVariable_37 : decode cX8_isVariable 37 = .ok (.goto 4, 3) := zdec_at bX8_isVariable_27 7 rfl
theorem dX8_isVariable_40 : decode cX8_isVariable 40 = .ok (.iconst 0, 1) := zdec_at bX8_isVariable_27 8 rfl
theorem dX8_isVariable_41 : decode cX8_isVariable 41 = .ok (.istore_n 3, 1) := zdec_at bX8_isVariable_27 9 rfl
theorem dX8_isVariable_42 : decode cX8_isVariable 42 = .ok (.iinc 4 1, 3) := zdec_at bX8_isVariable_27 10 rfl
theorem dX8_isVariable_45 : decode cX8_isVariable 45 = .ok (.goto (-40), 3) := zdec_at bX8_isVariable_27 11 rfl
theorem dX8_isVariable_48 : decode cX8_isVariable 48 = .ok (.iload_n 3, 1) := zdec_at bX8_isVariable_27 12 rfl
theorem dX8_isVariable_49 : decode cX8_isVariable 49 = .ok (.ireturn, 1) := zdec_at bX8_isVariable_27 13 rfl
theorem sX8_isVariable_0 {E : zE} {d : Nat} {Q : zO → zM → Prop} (M : zM) (l1 : Int32) (l2 : Int32) (k : Zm E YX8_isVariable d M [(0, vr (some (97, 1, 0))), (1, vi l1), (2, vi l2), (3, vi (0 : Int32)), (4, vi (0 : Int32))] 5 [] Q) : Zm E YX8_isVariable d M [(0, vr (some (97, 1, 0))), (1, vi l1), (2, vi l2)] 0 [] Q := by
  refine Zm.l (fun _ _ k_ => z_iconst (v := 0) dX8_isVariable_0 rfl k_) ?_
  refine Zm.l (fun _ _ k_ => z_ist_n dX8_isVariable_1 rfl (by decide) (lv' := [(0, vr (some (97, 1, 0))), (1, vi l1), (2, vi l2), (3, vi (0 : Int32))]) rfl k_) ?_
  refine Zm.l (fun _ _ k_ => z_iconst (v := 0) dX8_isVariable_2 rfl k_) ?_
  refine Zm.l (fun _ _ k_ => z_ist dX8_isVariable_3 (by decide) (lv' := [(0, vr (some (97, 1, 0))), (1, vi l1), (2, vi l2), (3, vi (0 : Int32)), (4, vi (0 : Int32))]) rfl k_) ?_
  exact k
theorem sX8_isVariable_5 {E : zE} {d : Nat} {Q : zO → zM → Prop} (M : zM) (l1 : Int32) (l2 : Int32) (l3 : Int32) (l4 : Int32) (k : vp_in l1 12 ∧ (if (gi M 130 (l1).toNatClampNeg) ≤ l4 then ((narrow .boolean (.int l3) = .int l3) ∧ Q (.inl (some (vi l3))) M) else (if l3 = 0 then (vp_in (((100 : Int32) * l1) + l4) 1200 ∧ (if (gi M 129 ((((100 : Int32) * l1) + l4)).toNatClampNeg) = l2 then (Zm E YX8_isVariable d M [(0, vr (some (97, 1, 0))), (1, vi l1), (2, vi l2), (3, vi (1 : Int32)), (4, vi (l4 + (1 : Int32)))] 5 [] Q) else (Zm E YX8_isVariable d M [(0, vr (some (97, 1, 0))), (1, vi l1), (2, vi l2), (3, vi (0 : Int32)), (4, vi (l4 + (1 : Int32)))] 5 [] Q))) else (Zm E YX8_isVariable d M [(0, vr (some (97, 1, 0))), (1, vi l1), (2, vi l2), (3, vi (1 : Int32)), (4, vi (l4 + (1 : Int32)))] 5 [] Q)))) : Zm E YX8_isVariable d M [(0, vr (some (97, 1, 0))), (1, vi l1), (2, vi l2), (3, vi l3), (4, vi l4)] 5 [] Q := by
  refine Zm.l (fun _ _ k_ => z_iload dX8_isVariable_5 rfl k_) ?_
  refine Zm.l (fun _ _ k_ => z_aload_n dX8_isVariable_7 rfl rfl k_) ?_
  refine zm_getr 32 dX8_isVariable_8 fsX8_110_1 rfl ?_
  refine Zm.l (fun _ _ k_ => z_iload_n dX8_isVariable_11 rfl rfl k_) ?_
  obtain ⟨b_, k⟩ := k
  refine zm_iald dX8_isVariable_12 b_ (by decide) (by decide) ?_
  refine Zm.br (fun _ _ k1_ k2_ => z_icmp_ge (tgt := 48) dX8_isVariable_13 rfl k1_ k2_) (fun h_ => ?_) (fun h_ => ?_)
  · have k := zit h_ k
    refine Zm.l (fun _ _ k_ => z_iload_n dX8_isVariable_48 rfl rfl k_) ?_
    exact zm_iret dX8_isVariable_49 rfl k.1 k.2
  · have k := zif h_ k
    refine Zm.l (fun _ _ k_ => z_iload_n dX8_isVariable_16 rfl rfl k_) ?_
    refine Zm.brn (fun _ _ k1_ k2_ => z_if_ne (tgt := 36) dX8_isVariable_17 rfl k1_ k2_) (fun h_ => ?_) (fun h_ => ?_)
    · have k := zif h_ k
      refine Zm.l (fun _ _ k_ => z_iconst (v := 1) dX8_isVariable_36 rfl k_) ?_
      refine Zm.l (fun _ _ k_ => z_goto (tgt := 41) dX8_isVariable_37 rfl k_) ?_
      refine Zm.l (fun _ _ k_ => z_ist_n dX8_isVariable_41 rfl (by decide) (lv' := [(0, vr (some (97, 1, 0))), (1, vi l1), (2, vi l2), (3, vi (1 : Int32)), (4, vi l4)]) rfl k_) ?_
      refine Zm.l (fun _ _ k_ => z_inc (v := (l4 + (1 : Int32))) dX8_isVariable_42 rfl rfl (by decide) (lv' := [(0, vr (some (97, 1, 0))), (1, vi l1), (2, vi l2), (3, vi (1 : Int32)), (4, vi (l4 + (1 : Int32)))]) rfl k_) ?_
      refine Zm.l (fun _ _ k_ => z_goto (tgt := 5) dX8_isVariable_45 rfl k_) ?_
      exact k
    · have k := zit h_ k
      refine Zm.l (fun _ _ k_ => z_aload_n dX8_isVariable_20 rfl rfl k_) ?_
      refine zm_getr 31 dX8_isVariable_21 fsX8_107_1 rfl ?_
      refine Zm.l (fun _ _ k_ => z_bipush (v := 100) dX8_isVariable_24 rfl k_) ?_
      refine Zm.l (fun _ _ k_ => z_iload_n dX8_isVariable_26 rfl rfl k_) ?_
      refine Zm.l (fun _ _ k_ => z_imul dX8_isVariable_27 k_) ?_
      refine Zm.l (fun _ _ k_ => z_iload dX8_isVariable_28 rfl k_) ?_
      refine Zm.l (fun _ _ k_ => z_iadd dX8_isVariable_30 k_) ?_
      obtain ⟨b_, k⟩ := k
      refine zm_iald dX8_isVariable_31 b_ (by decide) (by decide) ?_
      refine Zm.l (fun _ _ k_ => z_iload_n dX8_isVariable_32 rfl rfl k_) ?_
      refine Zm.brn (fun _ _ k1_ k2_ => z_icmp_ne (tgt := 40) dX8_isVariable_33 rfl k1_ k2_) (fun h_ => ?_) (fun h_ => ?_)
      · have k := zif h_ k
        refine Zm.l (fun _ _ k_ => z_iconst (v := 0) dX8_isVariable_40 rfl k_) ?_
        refine Zm.l (fun _ _ k_ => z_ist_n dX8_isVariable_41 rfl (by decide) (lv' := [(0, vr (some (97, 1, 0))), (1, vi l1), (2, vi l2), (3, vi (0 : Int32)), (4, vi l4)]) rfl k_) ?_
        refine Zm.l (fun _ _ k_ => z_inc (v := (l4 + (1 : Int32))) dX8_isVariable_42 rfl rfl (by decide) (lv' := [(0, vr (some (97, 1, 0))), (1, vi l1), (2, vi l2), (3, vi (0 : Int32)), (4, vi (l4 + (1 : Int32)))]) rfl k_) ?_
        refine Zm.l (fun _ _ k_ => z_goto (tgt := 5) dX8_isVariable_45 rfl k_) ?_
        exact k
      · have k := zit h_ k
        refine Zm.l (fun _ _ k_ => z_iconst (v := 1) dX8_isVariable_36 rfl k_) ?_
        refine Zm.l (fun _ _ k_ => z_goto (tgt := 41) dX8_isVariable_37 rfl k_) ?_
        refine Zm.l (fun _ _ k_ => z_ist_n dX8_isVariable_41 rfl (by decide) (lv' := [(0, vr (some (97, 1, 0))), (1, vi l1), (2, vi l2), (3, vi (1 : Int32)), (4, vi l4)]) rfl k_) ?_
        refine Zm.l (fun _ _ k_ => z_inc (v := (l4 + (1 : Int32))) dX8_isVariable_42 rfl rfl (by decide) (lv' := [(0, vr (some (97, 1, 0))), (1, vi l1), (2, vi l2), (3, vi (1 : Int32)), (4, vi (l4 + (1 : Int32)))]) rfl k_) ?_
        refine Zm.l (fun _ _ k_ => z_goto (tgt := 5) dX8_isVariable_45 rfl k_) ?_
        exact k
/-! ScriptTypesModel.codeFunction(I)V -/
theorem bX8_codeFunction_0 : zdec cX8_codeFunction 0 [(0, .aload_n 0, 1), (1, .iload_n 1, 1), (2, .putfield 612, 3), (5, .aload_n 0, 1), (6, .iconst (-1), 1), (7, .putfield 634, 3), (10, .aload_n 0, 1), (11, .getfield 101, 3), (14, .iload_n 1, 1), (15, .aload_n 0, 1), (16, .getfield 606, 3), (19, .iastore, 1), (20, .iconst 0, 1), (21, .istore_n 2, 1), (22, .iload_n 1, 1), (23, .ifCond .ne 39, 3)] = true := by decide +kernel
theorem dX8_codeFunction_0 : decode cX8_codeFunction 0 = .ok (.aload_n 0, 1) := zdec_at bX8_codeFunction_0 0 rfl
theorem dX8_codeFunction_1 : decode cX8_codeFunction 1 = .ok (.iload_n 1, 1) := zdec_at bX8_codeFunction_0 1 rfl
theorem dX8_codeFunction_2 : decode cX8_codeFunction 2 = .ok (.putfield 612, 3) := zdec_at bX8_codeFunction_0 2 rfl
theorem dX8_codeFunction_5 : decode cX8_codeFunction 5 = .ok (.aload_n 0, 1) := zdec_at bX8_codeFunction_0 3 rfl
theorem dX8_codeFunction_6 : decode cX8_codeFunction 6 = .ok (.iconst (-1), 1) := zdec_at bX8_codeFunction_0 4 rfl
theorem dX8_codeFunction_7 : decode cX8_codeFunction 7 = .ok (.putfield 634, 3) := zdec_at bX8_codeFunction_0 5 rfl
theorem dX8_codeFunction_10 : decode cX8_codeFunction 10 = .ok (.aload_n 0, 1) := zdec_at bX8_codeFunction_0 6 rfl
theorem dX8_codeFunction_11 : decode cX8_codeFunction 11 = .ok (.getfield 101, 3) := zdec_at bX8_codeFunction_0 7 rfl
theorem dX8_codeFunction_14 : decode cX8_codeFunction 14 = .ok (.iload_n 1, 1) := zdec_at bX8_codeFunction_0 8 rfl
theorem dX8_codeFunction_15 : decode cX8_codeFunction 15 = .ok (.aload_n 0, 1) := zdec_at bX8_codeFunction_0 9 rfl
theorem dX8_codeFunction_16 : decode cX8_codeFunction 16 = .ok (.getfield 606, 3) := zdec_at bX8_codeFunction_0 10 rfl
theorem dX8_codeFunction_19 : decode cX8_codeFunction 19 = .ok (.iastore, 1) := zdec_at bX8_codeFunction_0 11 rfl
theorem dX8_codeFunction_20 : decode cX8_codeFunction 20 = .ok (.iconst 0, 1) := zdec_at bX8_codeFunction_0 12 rfl
theorem dX8_codeFunction_21 : decode cX8_codeFunction 21 = .ok (.istore_n 2, 1) := zdec_at bX8_codeFunction_0 13 rfl
theorem dX8_codeFunction_22 : decode cX8_codeFunction 22 = .ok (.iload_n 1, 1) := zdec_at bX8_codeFunction_0 14 rfl
theorem dX8_codeFunction_23 : decode cX8_codeFunction 23 = .ok (.ifCond .ne 39, 3) := zdec_at bX8_codeFunction_0 15 rfl
theorem bX8_codeFunction_26 : zdec cX8_codeFunction 26 [(26, .iload_n 2, 1), (27, .aload_n 0, 1), (28, .getfield 430, 3), (31, .if_icmp .ge 31, 3), (34, .aload_n 0, 1), (35, .iconst 0, 1), (36, .iconst 0, 1), (37, .invokevirtual 656, 3), (40, .aload_n 0, 1), (41, .aload_n 0, 1), (42, .getfield 86, 3), (45, .iload_n 2, 1), (46, .iaload, 1), (47, .invokevirtual 704, 3), (50, .aload_n 0, 1), (51, .bipush 17, 2)] = true := by decide +kernel
theorem dX8_codeFunction_26 : decode cX8_codeFunction 26 = .ok (.iload_n 2, 1) := zdec_at bX8_codeFunction_26 0 rfl
theorem dX8_codeFunction_27 : decode cX8_codeFunction 27 = .ok (.aload_n 0, 1) := zdec_at bX8_codeFunction_26 1 rfl
theorem dX8_codeFunction_28 : decode cX8_codeFunction 28 = .ok (.getfield 430, 3) := zdec_at bX8_codeFunction_26 2 rfl
theorem dX8_codeFunction_31 : decode cX8_codeFunction 31 = .ok (.if_icmp .ge 31, 3) := zdec_at bX8_codeFunction_26 3 rfl
theorem dX8_codeFunction_34 : decode cX8_codeFunction 34 = .ok (.aload_n 0, 1) := zdec_at bX8_codeFunction_26 4 rfl
theorem dX8_codeFunction_35 : decode cX8_codeFunction 35 = .ok (.iconst 0, 1) := zdec_at bX8_codeFunction_26 5 rfl
theorem dX8_codeFunction_36 : decode cX8_codeFunction 36 = .ok (.iconst 0, 1) := zdec_at bX8_codeFunction_26 6 rfl
theorem dX8_codeFunction_37 : decode cX8_codeFunction 37 = .ok (.invokevirtual 656, 3) := zdec_at bX8_codeFunction_26 7 rfl
theorem dX8_codeFunction_40 : decode cX8_codeFunction 40 = .ok (.aload_n 0, 1) := zdec_at bX8_codeFunction_26 8 rfl
theorem dX8_codeFunction_41 : decode cX8_codeFunction 41 = .ok (.aload_n 0, 1) := zdec_at bX8_codeFunction_26 9 rfl
theorem dX8_codeFunction_42 : decode cX8_codeFunction 42 = .ok (.getfield 86, 3) := zdec_at bX8_codeFunction_26 10 rfl
theorem dX8_codeFunction_45 : decode cX8_codeFunction 45 = .ok (.iload_n 2, 1) := zdec_at bX8_codeFunction_26 11 rfl
theorem dX8_codeFunction_46 : decode cX8_codeFunction 46 = .ok (.iaload, 1) := zdec_at bX8_codeFunction_26 12 rfl
theorem dX8_codeFunction_47 : decode cX8_codeFunction 47 = .ok (.invokevirtual 704, 3) := zdec_at bX8_codeFunction_26 13 rfl
theorem dX8_codeFunction_50 : decode cX8_codeFunction 50 = .ok (.aload_n 0, 1) := zdec_at bX8_codeFunction_26 14 rfl
theorem dX8_codeFunction_51 : decode cX8_codeFunction 51 = .ok (.bipush 17, 2) := zdec_at bX8_codeFunction_26 15 rfl
theorem bX8_codeFunction_53 : zdec cX8_codeFunction 53 [(53, .invokevirtual 666, 3), (56, .iinc 2 1, 3), (59, .goto (-37), 3), (62, .aload_n 0, 1), (63, .getfield 77, 3), (66, .iload_n 1, 1), (67, .iaload, 1), (68, .istore_n 2, 1), (69, .iload_n 2, 1), (70, .iconst (-1), 1), (71, .if_icmp .eq 61, 3), (74, .aload_n 0, 1), (75, .getfield 42, 3), (78, .iload_n 2, 1), (79, .iaload, 1), (80, .bipush 36, 2)] = true := by decide +kernel
theorem dX8_codeFunction_53 : decode cX8_codeFunction 53 = .ok (.invokevirtual 666, 3) := zdec_at bX8_codeFunction_53 0 rfl
theorem dX8_codeFunction_56 : decode cX8_codeFunction 56 = .ok (.iinc 2 1, 3) := zdec_at bX8_codeFunction_53 1 rfl
theorem dX8_codeFunction_59 : decode cX8_codeFunction 59 = .ok (.goto (-37), 3) := zdec_at bX8_codeFunction_53 2 rfl
theorem dX8_codeFunction_62 : decode cX8_codeFunction 62 = .ok (.aload_n 0, 1) := zdec_at bX8_codeFunction_53 3 rfl
theorem dX8_codeFunction_63 : decode cX8_codeFunction 63 = .ok (.getfield 77, 3) := zdec_at bX8_codeFunction_53 4 rfl
theorem dX8_codeFunction_66 : decode cX8_codeFunction 66 = .ok (.iload_n 1, 1) := zdec_at bX8_codeFunction_53 5 rfl
theorem dX8_codeFunction_67 : decode cX8_codeFunction 67 = .ok (.iaload, 1) := zdec_at bX8_codeFunction_53 6 rfl
theorem dX8_codeFunction_68 : decode cX8_codeFunction 68 = .ok (.istore_n 2, 1) := zdec_at bX8_codeFunction_53 7 rfl
theorem dX8_codeFunction_69 : decode cX8_codeFunction 69 = .ok (.iload_n 2, 1) := zdec_at bX8_codeFunction_53 8 rfl
theorem dX8_codeFunction_70 : decode cX8_codeFunction 70 = .ok (.iconst (-1), 1) := zdec_at bX8_codeFunction_53 9 rfl
theorem dX8_codeFunction_71 : decode cX8_codeFunction 71 = .ok (.if_icmp .eq 61, 3) := zdec_at bX8_codeFunction_53 10 rfl
theorem dX8_codeFunction_74 : decode cX8_codeFunction 74 = .ok (.aload_n 0, 1) := zdec_at bX8_codeFunction_53 11 rfl
theorem dX8_codeFunction_75 : decode cX8_codeFunction 75 = .ok (.getfield 42, 3) := zdec_at bX8_codeFunction_53 12 rfl
theorem dX8_codeFunction_78 : decode cX8_codeFunction 78 = .ok (.iload_n 2, 1) := zdec_at bX8_codeFunction_53 13 rfl
theorem dX8_codeFunction_79 : decode cX8_codeFunction 79 = .ok (.iaload, 1) := zdec_at bX8_codeFunction_53 14 rfl
theorem dX8_codeFunction_80 : decode cX8_codeFunction 80 = .ok (.bipush 36, 2) := zdec_at bX8_codeFunction_53 15 rfl
theorem bX8_codeFunction_82 : zdec cX8_codeFunction 82 [(82, .if_icmp .eq 6, 3), (85, .goto 37, 3), (88, .aload_n 0, 1), (89, .bipush 9, 2), (91, .aload_n 0, 1), (92, .iload_n 2, 1), (93, .iconst 0, 1), (94, .invokevirtual 644, 3), (97, .iconst 0, 1), (98, .invokevirtual 615, 3), (101, .aload_n 0, 1), (102, .aload_n 0, 1), (103, .getfield 62, 3), (106, .aload_n 0, 1), (107, .iload_n 2, 1), (108, .iconst 0, 1)] = true := by decide +kernel
theorem dX8_codeFunction_82 : decode cX8_codeFunction 82 = .ok (.if_icmp .eq 6, 3) := zdec_at bX8_codeFunction_82 0 rfl
theorem dX8_codeFunction_85 : decode cX8_codeFunction 85 = .ok (.goto 37, 3) := zdec_at bX8_codeFunction_82 1 rfl
theorem dX8_codeFunction_88 : decode cX8_codeFunction 88 = .ok (.aload_n 0, 1) := zdec_at bX8_codeFunction_82 2 rfl
theorem dX8_codeFunction_89 : decode cX8_codeFunction 89 = .ok (.bipush 9, 2) := zdec_at bX8_codeFunction_82 3 rfl
theorem dX8_codeFunction_91 : decode cX8_codeFunction 91 = .ok (.aload_n 0, 1) := zdec_at bX8_codeFunction_82 4 rfl
theorem dX8_codeFunction_92 : decode cX8_codeFunction 92 = .ok (.iload_n 2, 1) := zdec_at bX8_codeFunction_82 5 rfl
theorem dX8_codeFunction_93 : decode cX8_codeFunction 93 = .ok (.iconst 0, 1) := zdec_at bX8_codeFunction_82 6 rfl
theorem dX8_codeFunction_94 : decode cX8_codeFunction 94 = .ok (.invokevirtual 644, 3) := zdec_at bX8_codeFunction_82 7 rfl
theorem dX8_codeFunction_97 : decode cX8_codeFunction 97 = .ok (.iconst 0, 1) := zdec_at bX8_codeFunction_82 8 rfl
theorem dX8_codeFunction_98 : decode cX8_codeFunction 98 = .ok (.invokevirtual 615, 3) := zdec_at bX8_codeFunction_82 9 rfl
theorem dX8_codeFunction_101 : decode cX8_codeFunction 101 = .ok (.aload_n 0, 1) := zdec_at bX8_codeFunction_82 10 rfl
theorem dX8_codeFunction_102 : decode cX8_codeFunction 102 = .ok (.aload_n 0, 1) := zdec_at bX8_codeFunction_82 11 rfl
theorem dX8_codeFunction_103 : decode cX8_codeFunction 103 = .ok (.getfield 62, 3) := zdec_at bX8_codeFunction_82 12 rfl
theorem dX8_codeFunction_106 : decode cX8_codeFunction 106 = .ok (.aload_n 0, 1) := zdec_at bX8_codeFunction_82 13 rfl
theorem dX8_codeFunction_107 : decode cX8_codeFunction 107 = .ok (.iload_n 2, 1) := zdec_at bX8_codeFunction_82 14 rfl
theorem dX8_codeFunction_108 : decode cX8_codeFunction 108 = .ok (.iconst 0, 1) := zdec_at bX8_codeFunction_82 15 rfl
theorem bX8_codeFunction_109 : zdec cX8_codeFunction 109 [(109, .invokevirtual 644, 3), (112, .iaload, 1), (113, .invokevirtual 704, 3), (116, .aload_n 0, 1), (117, .bipush 17, 2), (119, .invokevirtual 666, 3), (122, .aload_n 0, 1), (123, .getfield 49, 3), (126, .iload_n 2, 1), (127, .iaload, 1), (128, .istore_n 2, 1), (129, .goto (-60), 3), (132, .aload_n 0, 1), (133, .aload_n 0, 1), (134, .getfield 77, 3), (137, .iload_n 1, 1)] = true := by decide +kernel
theorem dX8_codeFunction_109 : decode cX8_codeFunction 109 = .ok (.invokevirtual 644, 3) := zdec_at bX8_codeFunction_109 0 rfl
theorem dX8_codeFunction_112 : decode cX8_codeFunction 112 = .ok (.iaload, 1) := zdec_at bX8_codeFunction_109 1 rfl
theorem dX8_codeFunction_113 : decode cX8_codeFunction 113 = .ok (.invokevirtual 704, 3) := zdec_at bX8_codeFunction_109 2 rfl
theorem dX8_codeFunction_116 : decode cX8_codeFunction 116 = .ok (.aload_n 0, 1) := zdec_at bX8_codeFunction_109 3 rfl
theorem dX8_codeFunction_117 : decode cX8_codeFunction 117 = .ok (.bipush 17, 2) := zdec_at bX8_codeFunction_109 4 rfl
theorem dX8_codeFunction_119 : decode cX8_codeFunction 119 = .ok (.invokevirtual 666, 3) := zdec_at bX8_codeFunction_109 5 rfl
theorem dX8_codeFunction_122 : decode cX8_codeFunction 122 = .ok (.aload_n 0, 1) := zdec_at bX8_codeFunction_109 6 rfl
theorem dX8_codeFunction_123 : decode cX8_codeFunction 123 = .ok (.getfield 49, 3) := zdec_at bX8_codeFunction_109 7 rfl
theorem dX8_codeFunction_126 : decode cX8_codeFunction 126 = .ok (.iload_n 2, 1) := zdec_at bX8_codeFunction_109 8 rfl
theorem dX8_codeFunction_127 : decode cX8_codeFunction 127 = .ok (.iaload, 1) := zdec_at bX8_codeFunction_109 9 rfl
theorem dX8_codeFunction_128 : decode cX8_codeFunction 128 = .ok (.istore_n 2, 1) := zdec_at bX8_codeFunction_109 10 rfl
theorem dX8_codeFunction_129 : decode cX8_codeFunction 129 = .ok (.goto (-60), 3) := zdec_at bX8_codeFunction_109 11 rfl
theorem dX8_codeFunction_132 : decode cX8_codeFunction 132 = .ok (.aload_n 0, 1) := zdec_at bX8_codeFunction_109 12 rfl
theorem dX8_codeFunction_133 : decode cX8_codeFunction 133 = .ok (.aload_n 0, 1) := zdec_at bX8_codeFunction_109 13 rfl
theorem dX8_codeFunction_134 : decode cX8_codeFunction 134 = .ok (.getfield 77, 3) := zdec_at bX8_codeFunction_109 14 rfl
theorem dX8_codeFunction_137 : decode cX8_codeFunction 137 = .ok (.iload_n 1, 1) := zdec_at bX8_codeFunction_109 15 rfl
theorem bX8_codeFunction_138 : zdec cX8_codeFunction 138 [(138, .iaload, 1), (139, .invokevirtual 713, 3), (142, .aload_n 0, 1), (143, .iconst 0, 1), (144, .iconst 0, 1), (145, .invokevirtual 656, 3), (148, .aload_n 0, 1), (149, .bipush 25, 2), (151, .invokevirtual 666, 3), (154, .return_, 1)] = true := by decide +kernel
theorem dX8_codeFunction_138 : decode cX8_codeFunction 138 = .ok (.iaload, 1) := zdec_at bX8_codeFunction_138 0 rfl
theorem dX8_codeFunction_139 : decode cX8_codeFunction 139 = .ok (.invokevirtual 713, 3) := zdec_at bX8_codeFunction_138 1 rfl
theorem dX8_codeFunction_142 : decode cX8_codeFunction 142 = .ok (.aload_n 0, 1) := zdec_at bX8_codeFunction_138 2 rfl
theorem dX8_codeFunction_143 : decode cX8_codeFunction 143 = .ok (.iconst 0, 1) := zdec_at bX8_codeFunction_138 3 rfl
theorem dX8_codeFunction_144 : decode cX8_codeFunction 144 = .ok (.iconst 0, 1) := zdec_at bX8_codeFunction_138 4 rfl
theorem dX8_codeFunction_145 : decode cX8_codeFunction 145 = .ok (.invokevirtual 656, 3) := zdec_at bX8_codeFunction_138 5 rfl
theorem dX8_codeFunction_148 : decode cX8_codeFunction 148 = .ok (.aload_n 0, 1) := zdec_at bX8_codeFunction_138 6 rfl
theorem dX8_codeFunction_149 : decode cX8_codeFunction 149 = .ok (.bipush 25, 2) := zdec_at bX8_codeFunction_138 7 rfl
theorem dX8_codeFunction_151 : decode cX8_codeFunction 151 = .ok (.invokevirtual 666, 3) := zdec_at bX8_codeFunction_138 8 rfl
theorem dX8_codeFunction_154 : decode cX8_codeFunction 154 = .ok (.return_, 1) := zdec_at bX8_codeFunction_138 9 rfl
theorem sX8_codeFunction_0 {E : zE} {d : Nat} {Q : zO → zM → Prop} (M : zM) (l1 : Int32) (k : vp_in l1 12 ∧ (Zm E YX8_codeFunction (d + 1) (si (si (si M 97 56 l1) 97 60 (-1 : Int32)) 127 (l1).toNatClampNeg (gi M 97 46)) [(0, vr (some (97, 1, 0))), (1, vi l1), (2, vi (0 : Int32))] 22 [] Q)) : Zm E YX8_codeFunction (d + 1) M [(0, vr (some (97, 1, 0))), (1, vi l1)] 0 [] Q := by
  refine Zm.l (fun _ _ k_ => z_aload_n dX8_codeFunction_0 rfl rfl k_) ?_
  refine Zm.l (fun _ _ k_ => z_iload_n dX8_codeFunction_1 rfl rfl k_) ?_
  refine zm_puti (by decide) (by decide) dX8_codeFunction_2 (zfwN.w fwX8_612_1) rfl ⟨rfl, rfl⟩ ?_
  refine Zm.l (fun _ _ k_ => z_aload_n dX8_codeFunction_5 rfl rfl k_) ?_
  refine Zm.l (fun _ _ k_ => z_iconst (v := -1) dX8_codeFunction_6 rfl k_) ?_
  refine zm_puti (by decide) (by decide) dX8_codeFunction_7 (zfwN.w fwX8_634_1) rfl ⟨rfl, rfl⟩ ?_
  refine Zm.l (fun _ _ k_ => z_aload_n dX8_codeFunction_10 rfl rfl k_) ?_
  refine zm_getr 29 dX8_codeFunction_11 fsX8_101_1 rfl ?_
  refine Zm.l (fun _ _ k_ => z_iload_n dX8_codeFunction_14 rfl rfl k_) ?_
  refine Zm.l (fun _ _ k_ => z_aload_n dX8_codeFunction_15 rfl rfl k_) ?_
  refine zm_geti dX8_codeFunction_16 fsX8_606_1 (by decide) (by decide) ?_
  obtain ⟨b_, k⟩ := k
  refine zm_iast dX8_codeFunction_19 b_ (by decide) (by decide) ?_
  refine Zm.l (fun _ _ k_ => z_iconst (v := 0) dX8_codeFunction_20 rfl k_) ?_
  refine Zm.l (fun _ _ k_ => z_ist_n dX8_codeFunction_21 rfl (by decide) (lv' := [(0, vr (some (97, 1, 0))), (1, vi l1), (2, vi (0 : Int32))]) rfl k_) ?_
  exact k
theorem sX8_codeFunction_22 {E : zE} {d : Nat} {Q : zO → zM → Prop} (M : zM) (l1 : Int32) (l2 : Int32) (k : if l1 = 0 then (if (gi M 97 42) ≤ l2 then (vp_in l1 12 ∧ (Zm E YX8_codeFunction (d + 1) M [(0, vr (some (97, 1, 0))), (1, vi l1), (2, vi (gi M 119 (l1).toNatClampNeg))] 69 [] Q)) else (Zm E YX8_constant d M (zargs 0 [vr (some (97, 1, 0)), vi (0 : Int32), vi (0 : Int32)]) 0 [] (zma E YX8_codeFunction (d + 1) [(0, vr (some (97, 1, 0))), (1, vi l1), (2, vi l2)] 37 3 [] Q))) else (vp_in l1 12 ∧ (Zm E YX8_codeFunction (d + 1) M [(0, vr (some (97, 1, 0))), (1, vi l1), (2, vi (gi M 119 (l1).toNatClampNeg))] 69 [] Q))) : Zm E YX8_codeFunction (d + 1) M [(0, vr (some (97, 1, 0))), (1, vi l1), (2, vi l2)] 22 [] Q := by
  refine Zm.l (fun _ _ k_ => z_iload_n dX8_codeFunction_22 rfl rfl k_) ?_
  refine Zm.brn (fun _ _ k1_ k2_ => z_if_ne (tgt := 62) dX8_codeFunction_23 rfl k1_ k2_) (fun h_ => ?_) (fun h_ => ?_)
  · have k := zif h_ k
    refine Zm.l (fun _ _ k_ => z_aload_n dX8_codeFunction_62 rfl rfl k_) ?_
    refine zm_getr 21 dX8_codeFunction_63 fsX8_77_1 rfl ?_
    refine Zm.l (fun _ _ k_ => z_iload_n dX8_codeFunction_66 rfl rfl k_) ?_
    obtain ⟨b_, k⟩ := k
    refine zm_iald dX8_codeFunction_67 b_ (by decide) (by decide) ?_
    refine Zm.l (fun _ _ k_ => z_ist_n dX8_codeFunction_68 rfl (by decide) (lv' := [(0, vr (some (97, 1, 0))), (1, vi l1), (2, vi (gi M 119 (l1).toNatClampNeg))]) rfl k_) ?_
    exact k
  · have k := zit h_ k
    refine Zm.l (fun _ _ k_ => z_iload_n dX8_codeFunction_26 rfl rfl k_) ?_
    refine Zm.l (fun _ _ k_ => z_aload_n dX8_codeFunction_27 rfl rfl k_) ?_
    refine zm_geti dX8_codeFunction_28 fsX8_430_1 (by decide) (by decide) ?_
    refine Zm.br (fun _ _ k1_ k2_ => z_icmp_ge (tgt := 62) dX8_codeFunction_31 rfl k1_ k2_) (fun h_ => ?_) (fun h_ => ?_)
    · have k := zit h_ k
      refine Zm.l (fun _ _ k_ => z_aload_n dX8_codeFunction_62 rfl rfl k_) ?_
      refine zm_getr 21 dX8_codeFunction_63 fsX8_77_1 rfl ?_
      refine Zm.l (fun _ _ k_ => z_iload_n dX8_codeFunction_66 rfl rfl k_) ?_
      obtain ⟨b_, k⟩ := k
      refine zm_iald dX8_codeFunction_67 b_ (by decide) (by decide) ?_
      refine Zm.l (fun _ _ k_ => z_ist_n dX8_codeFunction_68 rfl (by decide) (lv' := [(0, vr (some (97, 1, 0))), (1, vi l1), (2, vi (gi M 119 (l1).toNatClampNeg))]) rfl k_) ?_
      exact k
    · have k := zif h_ k
      refine Zm.l (fun _ _ k_ => z_aload_n dX8_codeFunction_34 rfl rfl k_) ?_
      refine Zm.l (fun _ _ k_ => z_iconst (v := 0) dX8_codeFunction_35 rfl k_) ?_
      refine Zm.l (fun _ _ k_ => z_iconst (v := 0) dX8_codeFunction_36 rfl k_) ?_
      exact zm_callV (as := [vi (0 : Int32), vi (0 : Int32)]) (st := []) dX8_codeFunction_37 vsX8_656_1 (Nat.le_refl _) (Nat.le_of_ble_eq_true rfl) (Nat.le_of_ble_eq_true rfl) rfl k
theorem sX8_codeFunction_40 {E : zE} {d : Nat} {Q : zO → zM → Prop} (M : zM) (l1 : Int32) (l2 : Int32) (k : vp_in l2 100 ∧ (Zm E YX8_set d M (zargs 0 [vr (some (97, 1, 0)), vi (gi M 122 (l2).toNatClampNeg)]) 0 [] (zma E YX8_codeFunction (d + 1) [(0, vr (some (97, 1, 0))), (1, vi l1), (2, vi l2)] 47 3 [] Q))) : Zm E YX8_codeFunction (d + 1) M [(0, vr (some (97, 1, 0))), (1, vi l1), (2, vi l2)] 40 [] Q := by
  refine Zm.l (fun _ _ k_ => z_aload_n dX8_codeFunction_40 rfl rfl k_) ?_
  refine Zm.l (fun _ _ k_ => z_aload_n dX8_codeFunction_41 rfl rfl k_) ?_
  refine zm_getr 24 dX8_codeFunction_42 fsX8_86_1 rfl ?_
  refine Zm.l (fun _ _ k_ => z_iload_n dX8_codeFunction_45 rfl rfl k_) ?_
  obtain ⟨b_, k⟩ := k
  refine zm_iald dX8_codeFunction_46 b_ (by decide) (by decide) ?_
  exact zm_callV (as := [vi (gi M 122 (l2).toNatClampNeg)]) (st := []) dX8_codeFunction_47 vsX8_704_1 (Nat.le_refl _) (Nat.le_of_ble_eq_true rfl) (Nat.le_of_ble_eq_true rfl) rfl k
theorem sX8_codeFunction_50 {E : zE} {d : Nat} {Q : zO → zM → Prop} (M : zM) (l1 : Int32) (l2 : Int32) (k : Zm E YX8_emit_2 d M (zargs 0 [vr (some (97, 1, 0)), vi (17 : Int32)]) 0 [] (zma E YX8_codeFunction (d + 1) [(0, vr (some (97, 1, 0))), (1, vi l1), (2, vi l2)] 53 3 [] Q)) : Zm E YX8_codeFunction (d + 1) M [(0, vr (some (97, 1, 0))), (1, vi l1), (2, vi l2)] 50 [] Q := by
  refine Zm.l (fun _ _ k_ => z_aload_n dX8_codeFunction_50 rfl rfl k_) ?_
  refine Zm.l (fun _ _ k_ => z_bipush (v := 17) dX8_codeFunction_51 rfl k_) ?_
  exact zm_callV (as := [vi (17 : Int32)]) (st := []) dX8_codeFunction_53 vsX8_666_1 (Nat.le_refl _) (Nat.le_of_ble_eq_true rfl) (Nat.le_of_ble_eq_true rfl) rfl k
theorem sX8_codeFunction_56 {E : zE} {d : Nat} {Q : zO → zM → Prop} (M : zM) (l1 : Int32) (l2 : Int32) (k : Zm E YX8_codeFunction (d + 1) M [(0, vr (some (97, 1, 0))), (1, vi l1), (2, vi (l2 + (1 : Int32)))] 22 [] Q) : Zm E YX8_codeFunction (d + 1) M [(0, vr (some (97, 1, 0))), (1, vi l1), (2, vi l2)] 56 [] Q := by
  refine Zm.l (fun _ _ k_ => z_inc (v := (l2 + (1 : Int32))) dX8_codeFunction_56 rfl rfl (by decide) (lv' := [(0, vr (some (97, 1, 0))), (1, vi l1), (2, vi (l2 + (1 : Int32)))]) rfl k_) ?_
  refine Zm.l (fun _ _ k_ => z_goto (tgt := 22) dX8_codeFunction_59 rfl k_) ?_
  exact k
theorem sX8_codeFunction_69 {E : zE} {d : Nat} {Q : zO → zM → Prop} (M : zM) (l1 : Int32) (l2 : Int32) (k : if l2 = (-1 : Int32) then (vp_in l1 12 ∧ (Zm E YX8_codes d M (zargs 0 [vr (some (97, 1, 0)), vi (gi M 119 (l1).toNatClampNeg)]) 0 [] (zma E YX8_codeFunction (d + 1) [(0, vr (some (97, 1, 0)))] 139 3 [] Q))) else (vp_in l2 12000 ∧ (if (gi M 108 (l2).toNatClampNeg) = (36 : Int32) then (Zm E YX8_part d M (zargs 0 [vr (some (97, 1, 0)), vi l2, vi (0 : Int32)]) 0 [] (zma E YX8_codeFunction (d + 1) [(0, vr (some (97, 1, 0))), (1, vi l1), (2, vi l2)] 94 3 [vi (9 : Int32), vr (some (97, 1, 0))] Q)) else (Zm E YX8_codeFunction (d + 1) M [(0, vr (some (97, 1, 0))), (1, vi l1), (2, vi l2)] 122 [] Q)))) : Zm E YX8_codeFunction (d + 1) M [(0, vr (some (97, 1, 0))), (1, vi l1), (2, vi l2)] 69 [] Q := by
  refine Zm.l (fun _ _ k_ => z_iload_n dX8_codeFunction_69 rfl rfl k_) ?_
  refine Zm.l (fun _ _ k_ => z_iconst (v := -1) dX8_codeFunction_70 rfl k_) ?_
  refine Zm.br (fun _ _ k1_ k2_ => z_icmp_eq (tgt := 132) dX8_codeFunction_71 rfl k1_ k2_) (fun h_ => ?_) (fun h_ => ?_)
  · have k := zit h_ k
    refine Zm.l (fun _ _ k_ => z_aload_n dX8_codeFunction_132 rfl rfl k_) ?_
    refine Zm.l (fun _ _ k_ => z_aload_n dX8_codeFunction_133 rfl rfl k_) ?_
    refine zm_getr 21 dX8_codeFunction_134 fsX8_77_1 rfl ?_
    refine Zm.l (fun _ _ k_ => z_iload_n dX8_codeFunction_137 rfl rfl k_) ?_
    obtain ⟨b_, k⟩ := k
    refine zm_iald dX8_codeFunction_138 b_ (by decide) (by decide) ?_
    refine Zm.pick [0] rfl ?_
    exact zm_callV (as := [vi (gi M 119 (l1).toNatClampNeg)]) (st := []) dX8_codeFunction_139 vsX8_713_1 (Nat.le_refl _) (Nat.le_of_ble_eq_true rfl) (Nat.le_of_ble_eq_true rfl) rfl k
  · have k := zif h_ k
    refine Zm.l (fun _ _ k_ => z_aload_n dX8_codeFunction_74 rfl rfl k_) ?_
    refine zm_getr 10 dX8_codeFunction_75 fsX8_42_1 rfl ?_
    refine Zm.l (fun _ _ k_ => z_iload_n dX8_codeFunction_78 rfl rfl k_) ?_
    obtain ⟨b_, k⟩ := k
    refine zm_iald dX8_codeFunction_79 b_ (by decide) (by decide) ?_
    refine Zm.l (fun _ _ k_ => z_bipush (v := 36) dX8_codeFunction_80 rfl k_) ?_
    refine Zm.br (fun _ _ k1_ k2_ => z_icmp_eq (tgt := 88) dX8_codeFunction_82 rfl k1_ k2_) (fun h_ => ?_) (fun h_ => ?_)
    · have k := zit h_ k
      refine Zm.l (fun _ _ k_ => z_aload_n dX8_codeFunction_88 rfl rfl k_) ?_
      refine Zm.l (fun _ _ k_ => z_bipush (v := 9) dX8_codeFunction_89 rfl k_) ?_
      refine Zm.l (fun _ _ k_ => z_aload_n dX8_codeFunction_91 rfl rfl k_) ?_
      refine Zm.l (fun _ _ k_ => z_iload_n dX8_codeFunction_92 rfl rfl k_) ?_
      refine Zm.l (fun _ _ k_ => z_iconst (v := 0) dX8_codeFunction_93 rfl k_) ?_
      exact zm_callV (as := [vi l2, vi (0 : Int32)]) (st := [vi (9 : Int32), vr (some (97, 1, 0))]) dX8_codeFunction_94 vsX8_644_1 (Nat.le_refl _) (Nat.le_of_ble_eq_true rfl) (Nat.le_of_ble_eq_true rfl) rfl k
    · have k := zif h_ k
      refine Zm.l (fun _ _ k_ => z_goto (tgt := 122) dX8_codeFunction_85 rfl k_) ?_
      exact k
theorem sX8_codeFunction_97 {E : zE} {d : Nat} {Q : zO → zM → Prop} (M : zM) (l1 : Int32) (l2 : Int32) (s0 : Int32) (s1 : Int32) (k : Zm E YX8_emit d M (zargs 0 [vr (some (97, 1, 0)), vi s1, vi s0, vi (0 : Int32)]) 0 [] (zma E YX8_codeFunction (d + 1) [(0, vr (some (97, 1, 0))), (1, vi l1), (2, vi l2)] 98 3 [] Q)) : Zm E YX8_codeFunction (d + 1) M [(0, vr (some (97, 1, 0))), (1, vi l1), (2, vi l2)] 97 [vi s0, vi s1, vr (some (97, 1, 0))] Q := by
  refine Zm.l (fun _ _ k_ => z_iconst (v := 0) dX8_codeFunction_97 rfl k_) ?_
  exact zm_callV (as := [vi s1, vi s0, vi (0 : Int32)]) (st := []) dX8_codeFunction_98 vsX8_615_1 (Nat.le_refl _) (Nat.le_of_ble_eq_true rfl) (Nat.le_of_ble_eq_true rfl) rfl k
theorem sX8_codeFunction_101 {E : zE} {d : Nat} {Q : zO → zM → Prop} (M : zM) (l1 : Int32) (l2 : Int32) (k : Zm E YX8_part d M (zargs 0 [vr (some (97, 1, 0)), vi l2, vi (0 : Int32)]) 0 [] (zma E YX8_codeFunction (d + 1) [(0, vr (some (97, 1, 0))), (1, vi l1), (2, vi l2)] 109 3 [vr (some (114, 100, 12)), vr (some (97, 1, 0))] Q)) : Zm E YX8_codeFunction (d + 1) M [(0, vr (some (97, 1, 0))), (1, vi l1), (2, vi l2)] 101 [] Q := by
  refine Zm.l (fun _ _ k_ => z_aload_n dX8_codeFunction_101 rfl rfl k_) ?_
  refine Zm.l (fun _ _ k_ => z_aload_n dX8_codeFunction_102 rfl rfl k_) ?_
  refine zm_getr 16 dX8_codeFunction_103 fsX8_62_1 rfl ?_
  refine Zm.l (fun _ _ k_ => z_aload_n dX8_codeFunction_106 rfl rfl k_) ?_
  refine Zm.l (fun _ _ k_ => z_iload_n dX8_codeFunction_107 rfl rfl k_) ?_
  refine Zm.l (fun _ _ k_ => z_iconst (v := 0) dX8_codeFunction_108 rfl k_) ?_
  exact zm_callV (as := [vi l2, vi (0 : Int32)]) (st := [vr (some (114, 100, 12)), vr (some (97, 1, 0))]) dX8_codeFunction_109 vsX8_644_1 (Nat.le_refl _) (Nat.le_of_ble_eq_true rfl) (Nat.le_of_ble_eq_true rfl) rfl k
theorem sX8_codeFunction_112 {E : zE} {d : Nat} {Q : zO → zM → Prop} (M : zM) (l1 : Int32) (l2 : Int32) (s0 : Int32) (k : vp_in s0 12 ∧ (Zm E YX8_set d M (zargs 0 [vr (some (97, 1, 0)), vi (gi M 114 (s0).toNatClampNeg)]) 0 [] (zma E YX8_codeFunction (d + 1) [(0, vr (some (97, 1, 0))), (1, vi l1), (2, vi l2)] 113 3 [] Q))) : Zm E YX8_codeFunction (d + 1) M [(0, vr (some (97, 1, 0))), (1, vi l1), (2, vi l2)] 112 [vi s0, vr (some (114, 100, 12)), vr (some (97, 1, 0))] Q := by
  obtain ⟨b_, k⟩ := k
  refine zm_iald dX8_codeFunction_112 b_ (by decide) (by decide) ?_
  exact zm_callV (as := [vi (gi M 114 (s0).toNatClampNeg)]) (st := []) dX8_codeFunction_113 vsX8_704_1 (Nat.le_refl _) (Nat.le_of_ble_eq_true rfl) (Nat.le_of_ble_eq_true rfl) rfl k
theorem sX8_codeFunction_116 {E : zE} {d : Nat} {Q : zO → zM → Prop} (M : zM) (l1 : Int32) (l2 : Int32) (k : Zm E YX8_emit_2 d M (zargs 0 [vr (some (97, 1, 0)), vi (17 : Int32)]) 0 [] (zma E YX8_codeFunction (d + 1) [(0, vr (some (97, 1, 0))), (1, vi l1), (2, vi l2)] 119 3 [] Q)) : Zm E YX8_codeFunction (d + 1) M [(0, vr (some (97, 1, 0))), (1, vi l1), (2, vi l2)] 116 [] Q := by
  refine Zm.l (fun _ _ k_ => z_aload_n dX8_codeFunction_116 rfl rfl k_) ?_
  refine Zm.l (fun _ _ k_ => z_bipush (v := 17) dX8_codeFunction_117 rfl k_) ?_
  exact zm_callV (as := [vi (17 : Int32)]) (st := []) dX8_codeFunction_119 vsX8_666_1 (Nat.le_refl _) (Nat.le_of_ble_eq_true rfl) (Nat.le_of_ble_eq_true rfl) rfl k
theorem sX8_codeFunction_122 {E : zE} {d : Nat} {Q : zO → zM → Prop} (M : zM) (l1 : Int32) (l2 : Int32) (k : vp_in l2 12000 ∧ (Zm E YX8_codeFunction (d + 1) M [(0, vr (some (97, 1, 0))), (1, vi l1), (2, vi (gi M 110 (l2).toNatClampNeg))] 69 [] Q)) : Zm E YX8_codeFunction (d + 1) M [(0, vr (some (97, 1, 0))), (1, vi l1), (2, vi l2)] 122 [] Q := by
  refine Zm.l (fun _ _ k_ => z_aload_n dX8_codeFunction_122 rfl rfl k_) ?_
  refine zm_getr 12 dX8_codeFunction_123 fsX8_49_1 rfl ?_
  refine Zm.l (fun _ _ k_ => z_iload_n dX8_codeFunction_126 rfl rfl k_) ?_
  obtain ⟨b_, k⟩ := k
  refine zm_iald dX8_codeFunction_127 b_ (by decide) (by decide) ?_
  refine Zm.l (fun _ _ k_ => z_ist_n dX8_codeFunction_128 rfl (by decide) (lv' := [(0, vr (some (97, 1, 0))), (1, vi l1), (2, vi (gi M 110 (l2).toNatClampNeg))]) rfl k_) ?_
  refine Zm.l (fun _ _ k_ => z_goto (tgt := 69) dX8_codeFunction_129 rfl k_) ?_
  exact k
theorem sX8_codeFunction_142 {E : zE} {d : Nat} {Q : zO → zM → Prop} (M : zM)  (k : Zm E YX8_constant d M (zargs 0 [vr (some (97, 1, 0)), vi (0 : Int32), vi (0 : Int32)]) 0 [] (zma E YX8_codeFunction (d + 1) [(0, vr (some (97, 1, 0)))] 145 3 [] Q)) : Zm E YX8_codeFunction (d + 1) M [(0, vr (some (97, 1, 0)))] 142 [] Q := by
  refine Zm.l (fun _ _ k_ => z_aload_n dX8_codeFunction_142 rfl rfl k_) ?_
  refine Zm.l (fun _ _ k_ => z_iconst (v := 0) dX8_codeFunction_143 rfl k_) ?_
  refine Zm.l (fun _ _ k_ => z_iconst (v := 0) dX8_codeFunction_144 rfl k_) ?_
  exact zm_callV (as := [vi (0 : Int32), vi (0 : Int32)]) (st := []) dX8_codeFunction_145 vsX8_656_1 (Nat.le_refl _) (Nat.le_of_ble_eq_true rfl) (Nat.le_of_ble_eq_true rfl) rfl k
theorem sX8_codeFunction_148 {E : zE} {d : Nat} {Q : zO → zM → Prop} (M : zM)  (k : Zm E YX8_emit_2 d M (zargs 0 [vr (some (97, 1, 0)), vi (25 : Int32)]) 0 [] (zma E YX8_codeFunction (d + 1) [] 151 3 [] Q)) : Zm E YX8_codeFunction (d + 1) M [(0, vr (some (97, 1, 0)))] 148 [] Q := by
  refine Zm.l (fun _ _ k_ => z_aload_n dX8_codeFunction_148 rfl rfl k_) ?_
  refine Zm.l (fun _ _ k_ => z_bipush (v := 25) dX8_codeFunction_149 rfl k_) ?_
  refine Zm.pick [] rfl ?_
  exact zm_callV (as := [vi (25 : Int32)]) (st := []) dX8_codeFunction_151 vsX8_666_1 (Nat.le_refl _) (Nat.le_of_ble_eq_true rfl) (Nat.le_of_ble_eq_true rfl) rfl k
theorem sX8_codeFunction_154 {E : zE} {d : Nat} {Q : zO → zM → Prop} (M : zM)  (k : Q (.inl none) M) : Zm E YX8_codeFunction (d + 1) M [] 154 [] Q := by
  exact zm_vret dX8_codeFunction_154 rfl k
/-! ScriptTypesModel.constant(II)V -/
theorem bX8_constant_0 : zdec cX8_constant 0 [(0, .aload_n 0, 1), (1, .iconst 0, 1), (2, .iload_n 1, 1), (3, .iload_n 2, 1), (4, .invokevirtual 615, 3), (7, .return_, 1)] = true := by decide +kernel
theorem dX8_constant_0 : decode cX8_constant 0 = .ok (.aload_n 0, 1) := zdec_at bX8_constant_0 0 rfl
theorem dX8_constant_1 : decode cX8_constant 1 = .ok (.iconst 0, 1) := zdec_at bX8_constant_0 1 rfl
theorem dX8_constant_2 : decode cX8_constant 2 = .ok (.iload_n 1, 1) := zdec_at bX8_constant_0 2 rfl
theorem dX8_constant_3 : decode cX8_constant 3 = .ok (.iload_n 2, 1) := zdec_at bX8_constant_0 3 rfl
theorem dX8_constant_4 : decode cX8_constant 4 = .ok (.invokevirtual 615, 3) := zdec_at bX8_constant_0 4 rfl
theorem dX8_constant_7 : decode cX8_constant 7 = .ok (.return_, 1) := zdec_at bX8_constant_0 5 rfl
theorem sX8_constant_0 {E : zE} {d : Nat} {Q : zO → zM → Prop} (M : zM) (l1 : Int32) (l2 : Int32) (k : Zm E YX8_emit d M (zargs 0 [vr (some (97, 1, 0)), vi (0 : Int32), vi l1, vi l2]) 0 [] (zma E YX8_constant (d + 1) [] 4 3 [] Q)) : Zm E YX8_constant (d + 1) M [(0, vr (some (97, 1, 0))), (1, vi l1), (2, vi l2)] 0 [] Q := by
  refine Zm.l (fun _ _ k_ => z_aload_n dX8_constant_0 rfl rfl k_) ?_
  refine Zm.l (fun _ _ k_ => z_iconst (v := 0) dX8_constant_1 rfl k_) ?_
  refine Zm.l (fun _ _ k_ => z_iload_n dX8_constant_2 rfl rfl k_) ?_
  refine Zm.l (fun _ _ k_ => z_iload_n dX8_constant_3 rfl rfl k_) ?_
  refine Zm.pick [] rfl ?_
  exact zm_callV (as := [vi (0 : Int32), vi l1, vi l2]) (st := []) dX8_constant_4 vsX8_615_1 (Nat.le_refl _) (Nat.le_of_ble_eq_true rfl) (Nat.le_of_ble_eq_true rfl) rfl k
theorem sX8_constant_7 {E : zE} {d : Nat} {Q : zO → zM → Prop} (M : zM)  (k : Q (.inl none) M) : Zm E YX8_constant (d + 1) M [] 7 [] Q := by
  exact zm_vret dX8_constant_7 rfl k
/-! ScriptTypesModel.emit(III)V -/
theorem bX8_emit_0 : zdec cX8_emit 0 [(0, .aload_n 0, 1), (1, .getfield 606, 3), (4, .sipush 600, 3), (7, .if_icmp .ne 9, 3), (10, .aload_n 0, 1), (11, .iconst 1, 1), (12, .putfield 609, 3), (15, .return_, 1), (16, .aload_n 0, 1), (17, .getfield 89, 3), (20, .aload_n 0, 1), (21, .getfield 606, 3), (24, .iload_n 1, 1), (25, .iastore, 1), (26, .aload_n 0, 1), (27, .getfield 92, 3)] = true := by decide +kernel
theorem dX8_emit_0 : decode cX8_emit 0 = .ok (.aload_n 0, 1) := zdec_at bX8_emit_0 0 rfl
theorem dX8_emit_1 : decode cX8_emit 1 = .ok (.getfield 606, 3) := zdec_at bX8_emit_0 1 rfl
theorem dX8_emit_4 : decode cX8_emit 4 = .ok (.sipush 600, 3) := zdec_at bX8_emit_0 2 rfl
theorem dX8_emit_7 : decode cX8_emit 7 = .ok (.if_icmp .ne 9, 3) := zdec_at bX8_emit_0 3 rfl
theorem dX8_emit_10 : decode cX8_emit 10 = .ok (.aload_n 0, 1) := zdec_at bX8_emit_0 4 rfl
theorem dX8_emit_11 : decode cX8_emit 11 = .ok (.iconst 1, 1) := zdec_at bX8_emit_0 5 rfl
theorem dX8_emit_12 : decode cX8_emit 12 = .ok (.putfield 609, 3) := zdec_at bX8_emit_0 6 rfl
theorem dX8_emit_15 : decode cX8_emit 15 = .ok (.return_, 1) := zdec_at bX8_emit_0 7 rfl
theorem dX8_emit_16 : decode cX8_emit 16 = .ok (.aload_n 0, 1) := zdec_at bX8_emit_0 8 rfl
theorem dX8_emit_17 : decode cX8_emit 17 = .ok (.getfield 89, 3) := zdec_at bX8_emit_0 9 rfl
theorem dX8_emit_20 : decode cX8_emit 20 = .ok (.aload_n 0, 1) := zdec_at bX8_emit_0 10 rfl
theorem dX8_emit_21 : decode cX8_emit 21 = .ok (.getfield 606, 3) := zdec_at bX8_emit_0 11 rfl
theorem dX8_emit_24 : decode cX8_emit 24 = .ok (.iload_n 1, 1) := zdec_at bX8_emit_0 12 rfl
theorem dX8_emit_25 : decode cX8_emit 25 = .ok (.iastore, 1) := zdec_at bX8_emit_0 13 rfl
theorem dX8_emit_26 : decode cX8_emit 26 = .ok (.aload_n 0, 1) := zdec_at bX8_emit_0 14 rfl
theorem dX8_emit_27 : decode cX8_emit 27 = .ok (.getfield 92, 3) := zdec_at bX8_emit_0 15 rfl
theorem bX8_emit_30 : zdec cX8_emit 30 [(30, .aload_n 0, 1), (31, .getfield 606, 3), (34, .iload_n 2, 1), (35, .iastore, 1), (36, .aload_n 0, 1), (37, .getfield 95, 3), (40, .aload_n 0, 1), (41, .getfield 606, 3), (44, .iload_n 3, 1), (45, .iastore, 1), (46, .aload_n 0, 1), (47, .getfield 98, 3), (50, .aload_n 0, 1), (51, .getfield 606, 3), (54, .aload_n 0, 1), (55, .getfield 612, 3)] = true := by decide +kernel
theorem dX8_emit_30 : decode cX8_emit 30 = .ok (.aload_n 0, 1) := zdec_at bX8_emit_30 0 rfl
theorem dX8_emit_31 : decode cX8_emit 31 = .ok (.getfield 606, 3) := zdec_at bX8_emit_30 1 rfl
theorem dX8_emit_34 : decode cX8_emit 34 = .ok (.iload_n 2, 1) := zdec_at bX8_emit_30 2 rfl
theorem dX8_emit_35 : decode cX8_emit 35 = .ok (.iastore, 1) := zdec_at bX8_emit_30 3 rfl
theorem dX8_emit_36 : decode cX8_emit 36 = .ok (.aload_n 0, 1) := zdec_at bX8_emit_30 4 rfl
theorem dX8_emit_37 : decode cX8_emit 37 = .ok (.getfield 95, 3) := zdec_at bX8_emit_30 5 rfl
theorem dX8_emit_40 : decode cX8_emit 40 = .ok (.aload_n 0, 1) := zdec_at bX8_emit_30 6 rfl
theorem dX8_emit_41 : decode cX8_emit 41 = .ok (.getfield 606, 3) := zdec_at bX8_emit_30 7 rfl
theorem dX8_emit_44 : decode cX8_emit 44 = .ok (.iload_n 3, 1) := zdec_at bX8_emit_30 8 rfl
theorem dX8_emit_45 : decode cX8_emit 45 = .ok (.iastore, 1) := zdec_at bX8_emit_30 9 rfl
theorem dX8_emit_46 : decode cX8_emit 46 = .ok (.aload_n 0, 1) := zdec_at bX8_emit_30 10 rfl
theorem dX8_emit_47 : decode cX8_emit 47 = .ok (.getfield 98, 3) := zdec_at bX8_emit_30 11 rfl
theorem dX8_emit_50 : decode cX8_emit 50 = .ok (.aload_n 0, 1) := zdec_at bX8_emit_30 12 rfl
theorem dX8_emit_51 : decode cX8_emit 51 = .ok (.getfield 606, 3) := zdec_at bX8_emit_30 13 rfl
theorem dX8_emit_54 : decode cX8_emit 54 = .ok (.aload_n 0, 1) := zdec_at bX8_emit_30 14 rfl
theorem dX8_emit_55 : decode cX8_emit 55 = .ok (.getfield 612, 3) := zdec_at bX8_emit_30 15 rfl
theorem bX8_emit_58 : zdec cX8_emit 58 [(58, .iastore, 1), (59, .aload_n 0, 1), (60, .dup, 1), (61, .getfield 606, 3), (64, .iconst 1, 1), (65, .iadd, 1), (66, .putfield 606, 3), (69, .return_, 1)] = true := by decide +kernel
theorem dX8_emit_58 : decode cX8_emit 58 = .ok (.iastore, 1) := zdec_at bX8_emit_58 0 rfl
theorem dX8_emit_59 : decode cX8_emit 59 = .ok (.aload_n 0, 1) := zdec_at bX8_emit_58 1 rfl
theorem dX8_emit_60 : decode cX8_emit 60 = .ok (.dup, 1) := zdec_at bX8_emit_58 2 rfl
theorem dX8_emit_61 : decode cX8_emit 61 = .ok (.getfield 606, 3) := zdec_at bX8_emit_58 3 rfl
theorem dX8_emit_64 : decode cX8_emit 64 = .ok (.iconst 1, 1) := zdec_at bX8_emit_58 4 rfl
theorem dX8_emit_65 : decode cX8_emit 65 = .ok (.iadd, 1) := zdec_at bX8_emit_58 5 rfl
theorem dX8_emit_66 : decode cX8_emit 66 = .ok (.putfield 606, 3) := zdec_at bX8_emit_58 6 rfl
theorem dX8_emit_69 : decode cX8_emit 69 = .ok (.return_, 1) := zdec_at bX8_emit_58 7 rfl
theorem sX8_emit_0 {E : zE} {d : Nat} {Q : zO → zM → Prop} (M : zM) (l1 : Int32) (l2 : Int32) (l3 : Int32) (k : if (gi M 97 46) = (600 : Int32) then (Q (.inl none) (si M 97 47 (1 : Int32))) else (vp_in (gi M 97 46) 600 ∧ (vp_in (gi M 97 46) 600 ∧ (vp_in (gi M 97 46) 600 ∧ (vp_in (gi M 97 46) 600 ∧ (Q (.inl none) (si (si (si (si (si M 123 ((gi M 97 46)).toNatClampNeg l1) 124 ((gi M 97 46)).toNatClampNeg l2) 125 ((gi M 97 46)).toNatClampNeg l3) 126 ((gi M 97 46)).toNatClampNeg (gi M 97 56)) 97 46 ((gi M 97 46) + (1 : Int32))))))))) : Zm E YX8_emit d M [(0, vr (some (97, 1, 0))), (1, vi l1), (2, vi l2), (3, vi l3)] 0 [] Q := by
  refine Zm.l (fun _ _ k_ => z_aload_n dX8_emit_0 rfl rfl k_) ?_
  refine zm_geti dX8_emit_1 fsX8_606_1 (by decide) (by decide) ?_
  refine Zm.l (fun _ _ k_ => z_sipush (v := 600) dX8_emit_4 rfl k_) ?_
  refine Zm.brn (fun _ _ k1_ k2_ => z_icmp_ne (tgt := 16) dX8_emit_7 rfl k1_ k2_) (fun h_ => ?_) (fun h_ => ?_)
  · have k := zif h_ k
    refine Zm.l (fun _ _ k_ => z_aload_n dX8_emit_16 rfl rfl k_) ?_
    refine zm_getr 25 dX8_emit_17 fsX8_89_1 rfl ?_
    refine Zm.l (fun _ _ k_ => z_aload_n dX8_emit_20 rfl rfl k_) ?_
    refine zm_geti dX8_emit_21 fsX8_606_1 (by decide) (by decide) ?_
    refine Zm.l (fun _ _ k_ => z_iload_n dX8_emit_24 rfl rfl k_) ?_
    obtain ⟨b_, k⟩ := k
    refine zm_iast dX8_emit_25 b_ (by decide) (by decide) ?_
    refine Zm.l (fun _ _ k_ => z_aload_n dX8_emit_26 rfl rfl k_) ?_
    refine zm_getr 26 dX8_emit_27 fsX8_92_1 rfl ?_
    refine Zm.l (fun _ _ k_ => z_aload_n dX8_emit_30 rfl rfl k_) ?_
    refine zm_geti dX8_emit_31 fsX8_606_1 (by decide) (by decide) ?_
    refine Zm.l (fun _ _ k_ => z_iload_n dX8_emit_34 rfl rfl k_) ?_
    obtain ⟨b_, k⟩ := k
    refine zm_iast dX8_emit_35 b_ (by decide) (by decide) ?_
    refine Zm.l (fun _ _ k_ => z_aload_n dX8_emit_36 rfl rfl k_) ?_
    refine zm_getr 27 dX8_emit_37 fsX8_95_1 rfl ?_
    refine Zm.l (fun _ _ k_ => z_aload_n dX8_emit_40 rfl rfl k_) ?_
    refine zm_geti dX8_emit_41 fsX8_606_1 (by decide) (by decide) ?_
    refine Zm.l (fun _ _ k_ => z_iload_n dX8_emit_44 rfl rfl k_) ?_
    obtain ⟨b_, k⟩ := k
    refine zm_iast dX8_emit_45 b_ (by decide) (by decide) ?_
    refine Zm.l (fun _ _ k_ => z_aload_n dX8_emit_46 rfl rfl k_) ?_
    refine zm_getr 28 dX8_emit_47 fsX8_98_1 rfl ?_
    refine Zm.l (fun _ _ k_ => z_aload_n dX8_emit_50 rfl rfl k_) ?_
    refine zm_geti dX8_emit_51 fsX8_606_1 (by decide) (by decide) ?_
    refine Zm.l (fun _ _ k_ => z_aload_n dX8_emit_54 rfl rfl k_) ?_
    refine zm_geti dX8_emit_55 fsX8_612_1 (by decide) (by decide) ?_
    obtain ⟨b_, k⟩ := k
    refine zm_iast dX8_emit_58 b_ (by decide) (by decide) ?_
    refine Zm.l (fun _ _ k_ => z_aload_n dX8_emit_59 rfl rfl k_) ?_
    refine Zm.l (fun _ _ k_ => z_dup dX8_emit_60 rfl k_) ?_
    refine zm_geti dX8_emit_61 fsX8_606_1 (by decide) (by decide) ?_
    refine Zm.l (fun _ _ k_ => z_iconst (v := 1) dX8_emit_64 rfl k_) ?_
    refine Zm.l (fun _ _ k_ => z_iadd dX8_emit_65 k_) ?_
    refine zm_puti (by decide) (by decide) dX8_emit_66 (zfwN.w fwX8_606_1) rfl ⟨rfl, rfl⟩ ?_
    exact zm_vret dX8_emit_69 rfl k
  · have k := zit h_ k
    refine Zm.l (fun _ _ k_ => z_aload_n dX8_emit_10 rfl rfl k_) ?_
    refine Zm.l (fun _ _ k_ => z_iconst (v := 1) dX8_emit_11 rfl k_) ?_
    refine zm_puti (by decide) (by decide) dX8_emit_12 (zfwN.w fwX8_609_1) rfl ⟨by decide, by decide⟩ ?_
    exact zm_vret dX8_emit_15 rfl k
/-! ScriptTypesModel.set(I)V -/
theorem bX8_set_0 : zdec cX8_set 0 [(0, .aload_n 0, 1), (1, .iload_n 1, 1), (2, .iconst 2, 1), (3, .iconst 4, 1), (4, .invokevirtual 625, 3), (7, .return_, 1)] = true := by decide +kernel
theorem dX8_set_0 : decode cX8_set 0 = .ok (.aload_n 0, 1) := zdec_at bX8_set_0 0 rfl
theorem dX8_set_1 : decode cX8_set 1 = .ok (.iload_n 1, 1) := zdec_at bX8_set_0 1 rfl
theorem dX8_set_2 : decode cX8_set 2 = .ok (.iconst 2, 1) := zdec_at bX8_set_0 2 rfl
theorem dX8_set_3 : decode cX8_set 3 = .ok (.iconst 4, 1) := zdec_at bX8_set_0 3 rfl
theorem dX8_set_4 : decode cX8_set 4 = .ok (.invokevirtual 625, 3) := zdec_at bX8_set_0 4 rfl
theorem dX8_set_7 : decode cX8_set 7 = .ok (.return_, 1) := zdec_at bX8_set_0 5 rfl
theorem sX8_set_0 {E : zE} {d : Nat} {Q : zO → zM → Prop} (M : zM) (l1 : Int32) (k : Zm E YX8_named d M (zargs 0 [vr (some (97, 1, 0)), vi l1, vi (2 : Int32), vi (4 : Int32)]) 0 [] (zma E YX8_set (d + 1) [] 4 3 [] Q)) : Zm E YX8_set (d + 1) M [(0, vr (some (97, 1, 0))), (1, vi l1)] 0 [] Q := by
  refine Zm.l (fun _ _ k_ => z_aload_n dX8_set_0 rfl rfl k_) ?_
  refine Zm.l (fun _ _ k_ => z_iload_n dX8_set_1 rfl rfl k_) ?_
  refine Zm.l (fun _ _ k_ => z_iconst (v := 2) dX8_set_2 rfl k_) ?_
  refine Zm.l (fun _ _ k_ => z_iconst (v := 4) dX8_set_3 rfl k_) ?_
  refine Zm.pick [] rfl ?_
  exact zm_callV (as := [vi l1, vi (2 : Int32), vi (4 : Int32)]) (st := []) dX8_set_4 vsX8_625_1 (Nat.le_refl _) (Nat.le_of_ble_eq_true rfl) (Nat.le_of_ble_eq_true rfl) rfl k
theorem sX8_set_7 {E : zE} {d : Nat} {Q : zO → zM → Prop} (M : zM)  (k : Q (.inl none) M) : Zm E YX8_set (d + 1) M [] 7 [] Q := by
  exact zm_vret dX8_set_7 rfl k
/-! ScriptTypesModel.named(III)V -/
theorem bX8_named_0 : zdec cX8_named 0 [(0, .aload_n 0, 1), (1, .getfield 612, 3), (4, .istore 4, 2), (6, .iconst 0, 1), (7, .istore 5, 2), (9, .iload 4, 2), (11, .ifCond .le 28, 3), (14, .aload_n 0, 1), (15, .iload 4, 2), (17, .iload_n 1, 1), (18, .invokevirtual 622, 3), (21, .ifCond .ne 18, 3), (24, .aload_n 0, 1), (25, .getfield 74, 3), (28, .iload 4, 2), (30, .iaload, 1)] = true := by decide +kernel
theorem dX8_named_0 : decode cX8_named 0 = .ok (.aload_n 0, 1) := zdec_at bX8_named_0 0 rfl
theorem dX8_named_1 : decode cX8_named 1 = .ok (.getfield 612, 3) := zdec_at bX8_named_0 1 rfl
theorem dX8_named_4 : decode cX8_named 4 = .ok (.istore 4, 2) := zdec_at bX8_named_0 2 rfl
theorem dX8_named_6 : decode cX8_named 6 = .ok (.iconst 0, 1) := zdec_at bX8_named_0 3 rfl
theorem dX8_named_7 : decode cX8_named 7 = .ok (.istore 5, 2) := zdec_at bX8_named_0 4 rfl
theorem dX8_named_9 : decode cX8_named 9 = .ok (.iload 4, 2) := zdec_at bX8_named_0 5 rfl
theorem dX8_named_11 : decode cX8_named 11 = .ok (.ifCond .le 28, 3) := zdec_at bX8_named_0 6 rfl
theorem dX8_named_14 : decode cX8_named 14 = .ok (.aload_n 0, 1) := zdec_at bX8_named_0 7 rfl
theorem dX8_named_15 : decode cX8_named 15 = .ok (.iload 4, 2) := zdec_at bX8_named_0 8 rfl
theorem dX8_named_17 : decode cX8_named 17 = .ok (.iload_n 1, 1) := zdec_at bX8_named_0 9 rfl
theorem dX8_named_18 : decode cX8_named 18 = .ok (.invokevirtual 622, 3) := zdec_at bX8_named_0 10 rfl
theorem dX8_named_21 : decode cX8_named 21 = .ok (.ifCond .ne 18, 3) := zdec_at bX8_named_0 11 rfl
theorem dX8_named_24 : decode cX8_named 24 = .ok (.aload_n 0, 1) := zdec_at bX8_named_0 12 rfl
theorem dX8_named_25 : decode cX8_named 25 = .ok (.getfield 74, 3) := zdec_at bX8_named_0 13 rfl
theorem dX8_named_28 : decode cX8_named 28 = .ok (.iload 4, 2) := zdec_at bX8_named_0 14 rfl
theorem dX8_named_30 : decode cX8_named 30 = .ok (.iaload, 1) := zdec_at bX8_named_0 15 rfl
theorem bX8_named_31 : zdec cX8_named 31 [(31, .istore 4, 2), (33, .iinc 5 1, 3), (36, .goto (-27), 3), (39, .iload 4, 2), (41, .ifCond .le 14, 3), (44, .aload_n 0, 1), (45, .iload_n 2, 1), (46, .iload 5, 2), (48, .iload_n 1, 1), (49, .invokevirtual 615, 3), (52, .goto 10, 3), (55, .aload_n 0, 1), (56, .iload_n 3, 1), (57, .iconst 0, 1), (58, .iload_n 1, 1), (59, .invokevirtual 615, 3)] = true := by decide +kernel
theorem dX8_named_31 : decode cX8_named 31 = .ok (.istore 4, 2) := zdec_at bX8_named_31 0 rfl
theorem dX8_named_33 : decode cX8_named 33 = .ok (.iinc 5 1, 3) := zdec_at bX8_named_31 1 rfl
theorem dX8_named_36 : decode cX8_named 36 = .ok (.goto (-27), 3) := zdec_at bX8_named_31 2 rfl
theorem dX8_named_39 : decode cX8_named 39 = .ok (.iload 4, 2) := zdec_at bX8_named_31 3 rfl
theorem dX8_named_41 : decode cX8_named 41 = .ok (.ifCond .le 14, 3) := zdec_at bX8_named_31 4 rfl
theorem dX8_named_44 : decode cX8_named 44 = .ok (.aload_n 0, 1) := zdec_at bX8_named_31 5 rfl
theorem dX8_named_45 : decode cX8_named 45 = .ok (.iload_n 2, 1) := zdec_at bX8_named_31 6 rfl
theorem dX8_named_46 : decode cX8_named 46 = .ok (.iload 5, 2) := zdec_at bX8_named_31 7 rfl
theorem dX8_named_48 : decode cX8_named 48 = .ok (.iload_n 1, 1) := zdec_at bX8_named_31 8 rfl
theorem dX8_named_49 : decode cX8_named 49 = .ok (.invokevirtual 615, 3) := zdec_at bX8_named_31 9 rfl
theorem dX8_named_52 : decode cX8_named 52 = .ok (.goto 10, 3) := zdec_at bX8_named_31 10 rfl
theorem dX8_named_55 : decode cX8_named 55 = .ok (.aload_n 0, 1) := zdec_at bX8_named_31 11 rfl
theorem dX8_named_56 : decode cX8_named 56 = .ok (.iload_n 3, 1) := zdec_at bX8_named_31 12 rfl
theorem dX8_named_57 : decode cX8_named 57 = .ok (.iconst 0, 1) := zdec_at bX8_named_31 13 rfl
theorem dX8_named_58 : decode cX8_named 58 = .ok (.iload_n 1, 1) := zdec_at bX8_named_31 14 rfl
theorem dX8_named_59 : decode cX8_named 59 = .ok (.invokevirtual 615, 3) := zdec_at bX8_named_31 15 rfl
theorem bX8_named_62 : zdec cX8_named 62 [(62, .return_, 1)] = true := by decide +kernel
theorem dX8_named_62 : decode cX8_named 62 = .ok (.return_, 1) := zdec_at bX8_named_62 0 rfl
theorem sX8_named_0 {E : zE} {d : Nat} {Q : zO → zM → Prop} (M : zM) (l1 : Int32) (l2 : Int32) (l3 : Int32) (k : Zm E YX8_named (d + 1) M [(0, vr (some (97, 1, 0))), (1, vi l1), (2, vi l2), (3, vi l3), (4, vi (gi M 97 56)), (5, vi (0 : Int32))] 9 [] Q) : Zm E YX8_named (d + 1) M [(0, vr (some (97, 1, 0))), (1, vi l1), (2, vi l2), (3, vi l3)] 0 [] Q := by
  refine Zm.l (fun _ _ k_ => z_aload_n dX8_named_0 rfl rfl k_) ?_
  refine zm_geti dX8_named_1 fsX8_612_1 (by decide) (by decide) ?_
  refine Zm.l (fun _ _ k_ => z_ist dX8_named_4 (by decide) (lv' := [(0, vr (some (97, 1, 0))), (1, vi l1), (2, vi l2), (3, vi l3), (4, vi (gi M 97 56))]) rfl k_) ?_
  refine Zm.l (fun _ _ k_ => z_iconst (v := 0) dX8_named_6 rfl k_) ?_
  refine Zm.l (fun _ _ k_ => z_ist dX8_named_7 (by decide) (lv' := [(0, vr (some (97, 1, 0))), (1, vi l1), (2, vi l2), (3, vi l3), (4, vi (gi M 97 56)), (5, vi (0 : Int32))]) rfl k_) ?_
  exact k
theorem sX8_named_9 {E : zE} {d : Nat} {Q : zO → zM → Prop} (M : zM) (l1 : Int32) (l2 : Int32) (l3 : Int32) (l4 : Int32) (l5 : Int32) (k : if l4 ≤ 0 then (Zm E YX8_named (d + 1) M [(0, vr (some (97, 1, 0))), (1, vi l1), (2, vi l2), (3, vi l3), (4, vi l4), (5, vi l5)] 39 [] Q) else (Zm E YX8_isVariable d M (zargs 0 [vr (some (97, 1, 0)), vi l4, vi l1]) 0 [] (zma E YX8_named (d + 1) [(0, vr (some (97, 1, 0))), (1, vi l1), (2, vi l2), (3, vi l3), (4, vi l4), (5, vi l5)] 18 3 [] Q))) : Zm E YX8_named (d + 1) M [(0, vr (some (97, 1, 0))), (1, vi l1), (2, vi l2), (3, vi l3), (4, vi l4), (5, vi l5)] 9 [] Q := by
  refine Zm.l (fun _ _ k_ => z_iload dX8_named_9 rfl k_) ?_
  refine Zm.br (fun _ _ k1_ k2_ => z_if_le (tgt := 39) dX8_named_11 rfl k1_ k2_) (fun h_ => ?_) (fun h_ => ?_)
  · have k := zit h_ k
    exact k
  · have k := zif h_ k
    refine Zm.l (fun _ _ k_ => z_aload_n dX8_named_14 rfl rfl k_) ?_
    refine Zm.l (fun _ _ k_ => z_iload dX8_named_15 rfl k_) ?_
    refine Zm.l (fun _ _ k_ => z_iload_n dX8_named_17 rfl rfl k_) ?_
    exact zm_callV (as := [vi l4, vi l1]) (st := []) dX8_named_18 vsX8_622_1 (Nat.le_refl _) (Nat.le_of_ble_eq_true rfl) (Nat.le_of_ble_eq_true rfl) rfl k
theorem sX8_named_21 {E : zE} {d : Nat} {Q : zO → zM → Prop} (M : zM) (l1 : Int32) (l2 : Int32) (l3 : Int32) (l4 : Int32) (l5 : Int32) (s0 : Int32) (k : if s0 = 0 then (vp_in l4 12 ∧ (Zm E YX8_named (d + 1) M [(0, vr (some (97, 1, 0))), (1, vi l1), (2, vi l2), (3, vi l3), (4, vi (gi M 118 (l4).toNatClampNeg)), (5, vi (l5 + (1 : Int32)))] 9 [] Q)) else (Zm E YX8_named (d + 1) M [(0, vr (some (97, 1, 0))), (1, vi l1), (2, vi l2), (3, vi l3), (4, vi l4), (5, vi l5)] 39 [] Q)) : Zm E YX8_named (d + 1) M [(0, vr (some (97, 1, 0))), (1, vi l1), (2, vi l2), (3, vi l3), (4, vi l4), (5, vi l5)] 21 [vi s0] Q := by
  refine Zm.brn (fun _ _ k1_ k2_ => z_if_ne (tgt := 39) dX8_named_21 rfl k1_ k2_) (fun h_ => ?_) (fun h_ => ?_)
  · have k := zif h_ k
    exact k
  · have k := zit h_ k
    refine Zm.l (fun _ _ k_ => z_aload_n dX8_named_24 rfl rfl k_) ?_
    refine zm_getr 20 dX8_named_25 fsX8_74_1 rfl ?_
    refine Zm.l (fun _ _ k_ => z_iload dX8_named_28 rfl k_) ?_
    obtain ⟨b_, k⟩ := k
    refine zm_iald dX8_named_30 b_ (by decide) (by decide) ?_
    refine Zm.l (fun _ _ k_ => z_ist dX8_named_31 (by decide) (lv' := [(0, vr (some (97, 1, 0))), (1, vi l1), (2, vi l2), (3, vi l3), (4, vi (gi M 118 (l4).toNatClampNeg)), (5, vi l5)]) rfl k_) ?_
    refine Zm.l (fun _ _ k_ => z_inc (v := (l5 + (1 : Int32))) dX8_named_33 rfl rfl (by decide) (lv' := [(0, vr (some (97, 1, 0))), (1, vi l1), (2, vi l2), (3, vi l3), (4, vi (gi M 118 (l4).toNatClampNeg)), (5, vi (l5 + (1 : Int32)))]) rfl k_) ?_
    refine Zm.l (fun _ _ k_ => z_goto (tgt := 9) dX8_named_36 rfl k_) ?_
    exact k
theorem sX8_named_39 {E : zE} {d : Nat} {Q : zO → zM → Prop} (M : zM) (l1 : Int32) (l2 : Int32) (l3 : Int32) (l4 : Int32) (l5 : Int32) (k : if l4 ≤ 0 then (Zm E YX8_emit d M (zargs 0 [vr (some (97, 1, 0)), vi l3, vi (0 : Int32), vi l1]) 0 [] (zma E YX8_named (d + 1) [] 59 3 [] Q)) else (Zm E YX8_emit d M (zargs 0 [vr (some (97, 1, 0)), vi l2, vi l5, vi l1]) 0 [] (zma E YX8_named (d + 1) [] 49 3 [] Q))) : Zm E YX8_named (d + 1) M [(0, vr (some (97, 1, 0))), (1, vi l1), (2, vi l2), (3, vi l3), (4, vi l4), (5, vi l5)] 39 [] Q := by
  refine Zm.l (fun _ _ k_ => z_iload dX8_named_39 rfl k_) ?_
  refine Zm.br (fun _ _ k1_ k2_ => z_if_le (tgt := 55) dX8_named_41 rfl k1_ k2_) (fun h_ => ?_) (fun h_ => ?_)
  · have k := zit h_ k
    refine Zm.l (fun _ _ k_ => z_aload_n dX8_named_55 rfl rfl k_) ?_
    refine Zm.l (fun _ _ k_ => z_iload_n dX8_named_56 rfl rfl k_) ?_
    refine Zm.l (fun _ _ k_ => z_iconst (v := 0) dX8_named_57 rfl k_) ?_
    refine Zm.l (fun _ _ k_ => z_iload_n dX8_named_58 rfl rfl k_) ?_
    refine Zm.pick [] rfl ?_
    exact zm_callV (as := [vi l3, vi (0 : Int32), vi l1]) (st := []) dX8_named_59 vsX8_615_1 (Nat.le_refl _) (Nat.le_of_ble_eq_true rfl) (Nat.le_of_ble_eq_true rfl) rfl k
  · have k := zif h_ k
    refine Zm.l (fun _ _ k_ => z_aload_n dX8_named_44 rfl rfl k_) ?_
    refine Zm.l (fun _ _ k_ => z_iload_n dX8_named_45 rfl rfl k_) ?_
    refine Zm.l (fun _ _ k_ => z_iload dX8_named_46 rfl k_) ?_
    refine Zm.l (fun _ _ k_ => z_iload_n dX8_named_48 rfl rfl k_) ?_
    refine Zm.pick [] rfl ?_
    exact zm_callV (as := [vi l2, vi l5, vi l1]) (st := []) dX8_named_49 vsX8_615_1 (Nat.le_refl _) (Nat.le_of_ble_eq_true rfl) (Nat.le_of_ble_eq_true rfl) rfl k
theorem sX8_named_52 {E : zE} {d : Nat} {Q : zO → zM → Prop} (M : zM)  (k : Zm E YX8_named (d + 1) M [] 62 [] Q) : Zm E YX8_named (d + 1) M [] 52 [] Q := by
  refine Zm.l (fun _ _ k_ => z_goto (tgt := 62) dX8_named_52 rfl k_) ?_
  exact k
theorem sX8_named_62 {E : zE} {d : Nat} {Q : zO → zM → Prop} (M : zM)  (k : Q (.inl none) M) : Zm E YX8_named (d + 1) M [] 62 [] Q := by
  exact zm_vret dX8_named_62 rfl k
/-! ScriptTypesModel.emit(I)V -/
theorem bX8_emit_2_0 : zdec cX8_emit_2 0 [(0, .aload_n 0, 1), (1, .iload_n 1, 1), (2, .iconst 0, 1), (3, .iconst 0, 1), (4, .invokevirtual 615, 3), (7, .return_, 1)] = true := by decide +kernel
theorem dX8_emit_2_0 : decode cX8_emit_2 0 = .ok (.aload_n 0, 1) := zdec_at bX8_emit_2_0 0 rfl
theorem dX8_emit_2_1 : decode cX8_emit_2 1 = .ok (.iload_n 1, 1) := zdec_at bX8_emit_2_0 1 rfl
theorem dX8_emit_2_2 : decode cX8_emit_2 2 = .ok (.iconst 0, 1) := zdec_at bX8_emit_2_0 2 rfl
theorem dX8_emit_2_3 : decode cX8_emit_2 3 = .ok (.iconst 0, 1) := zdec_at bX8_emit_2_0 3 rfl
theorem dX8_emit_2_4 : decode cX8_emit_2 4 = .ok (.invokevirtual 615, 3) := zdec_at bX8_emit_2_0 4 rfl
theorem dX8_emit_2_7 : decode cX8_emit_2 7 = .ok (.return_, 1) := zdec_at bX8_emit_2_0 5 rfl
theorem sX8_emit_2_0 {E : zE} {d : Nat} {Q : zO → zM → Prop} (M : zM) (l1 : Int32) (k : Zm E YX8_emit d M (zargs 0 [vr (some (97, 1, 0)), vi l1, vi (0 : Int32), vi (0 : Int32)]) 0 [] (zma E YX8_emit_2 (d + 1) [] 4 3 [] Q)) : Zm E YX8_emit_2 (d + 1) M [(0, vr (some (97, 1, 0))), (1, vi l1)] 0 [] Q := by
  refine Zm.l (fun _ _ k_ => z_aload_n dX8_emit_2_0 rfl rfl k_) ?_
  refine Zm.l (fun _ _ k_ => z_iload_n dX8_emit_2_1 rfl rfl k_) ?_
  refine Zm.l (fun _ _ k_ => z_iconst (v := 0) dX8_emit_2_2 rfl k_) ?_
  refine Zm.l (fun _ _ k_ => z_iconst (v := 0) dX8_emit_2_3 rfl k_) ?_
  refine Zm.pick [] rfl ?_
  exact zm_callV (as := [vi l1, vi (0 : Int32), vi (0 : Int32)]) (st := []) dX8_emit_2_4 vsX8_615_1 (Nat.le_refl _) (Nat.le_of_ble_eq_true rfl) (Nat.le_of_ble_eq_true rfl) rfl k
theorem sX8_emit_2_7 {E : zE} {d : Nat} {Q : zO → zM → Prop} (M : zM)  (k : Q (.inl none) M) : Zm E YX8_emit_2 (d + 1) M [] 7 [] Q := by
  exact zm_vret dX8_emit_2_7 rfl k
/-! ScriptTypesModel.part(II)I -/
theorem bX8_part_0 : zdec cX8_part 0 [(0, .aload_n 0, 1), (1, .getfield 46, 3), (4, .iconst 5, 1), (5, .iload_n 1, 1), (6, .imul, 1), (7, .iload_n 2, 1), (8, .iadd, 1), (9, .iaload, 1), (10, .ireturn, 1)] = true := by decide +kernel
theorem dX8_part_0 : decode cX8_part 0 = .ok (.aload_n 0, 1) := zdec_at bX8_part_0 0 rfl
theorem dX8_part_1 : decode cX8_part 1 = .ok (.getfield 46, 3) := zdec_at bX8_part_0 1 rfl
theorem dX8_part_4 : decode cX8_part 4 = .ok (.iconst 5, 1) := zdec_at bX8_part_0 2 rfl
theorem dX8_part_5 : decode cX8_part 5 = .ok (.iload_n 1, 1) := zdec_at bX8_part_0 3 rfl
theorem dX8_part_6 : decode cX8_part 6 = .ok (.imul, 1) := zdec_at bX8_part_0 4 rfl
theorem dX8_part_7 : decode cX8_part 7 = .ok (.iload_n 2, 1) := zdec_at bX8_part_0 5 rfl
theorem dX8_part_8 : decode cX8_part 8 = .ok (.iadd, 1) := zdec_at bX8_part_0 6 rfl
theorem dX8_part_9 : decode cX8_part 9 = .ok (.iaload, 1) := zdec_at bX8_part_0 7 rfl
theorem dX8_part_10 : decode cX8_part 10 = .ok (.ireturn, 1) := zdec_at bX8_part_0 8 rfl
theorem sX8_part_0 {E : zE} {d : Nat} {Q : zO → zM → Prop} (M : zM) (l1 : Int32) (l2 : Int32) (k : vp_in (((5 : Int32) * l1) + l2) 60000 ∧ (Q (.inl (some (vi (gi M 109 ((((5 : Int32) * l1) + l2)).toNatClampNeg)))) M)) : Zm E YX8_part d M [(0, vr (some (97, 1, 0))), (1, vi l1), (2, vi l2)] 0 [] Q := by
  refine Zm.l (fun _ _ k_ => z_aload_n dX8_part_0 rfl rfl k_) ?_
  refine zm_getr 11 dX8_part_1 fsX8_46_1 rfl ?_
  refine Zm.l (fun _ _ k_ => z_iconst (v := 5) dX8_part_4 rfl k_) ?_
  refine Zm.l (fun _ _ k_ => z_iload_n dX8_part_5 rfl rfl k_) ?_
  refine Zm.l (fun _ _ k_ => z_imul dX8_part_6 k_) ?_
  refine Zm.l (fun _ _ k_ => z_iload_n dX8_part_7 rfl rfl k_) ?_
  refine Zm.l (fun _ _ k_ => z_iadd dX8_part_8 k_) ?_
  obtain ⟨b_, k⟩ := k
  refine zm_iald dX8_part_9 b_ (by decide) (by decide) ?_
  exact zm_iret dX8_part_10 rfl rfl k
/-! ScriptTypesModel.codes(I)V -/
theorem bX8_codes_0 : zdec cX8_codes 0 [(0, .aload_n 0, 1), (1, .getfield 707, 3), (4, .istore_n 2, 1), (5, .iload_n 1, 1), (6, .istore_n 3, 1), (7, .aload_n 0, 1), (8, .getfield 609, 3), (11, .ifCond .ne 105, 3), (14, .iload_n 3, 1), (15, .iconst (-1), 1), (16, .if_icmp .ne 11, 3), (19, .aload_n 0, 1), (20, .getfield 707, 3), (23, .iload_n 2, 1), (24, .if_icmp .le 92, 3), (27, .iload_n 3, 1)] = true := by decide +kernel
theorem dX8_codes_0 : decode cX8_codes 0 = .ok (.aload_n 0, 1) := zdec_at bX8_codes_0 0 rfl
theorem dX8_codes_1 : decode cX8_codes 1 = .ok (.getfield 707, 3) := zdec_at bX8_codes_0 1 rfl
theorem dX8_codes_4 : decode cX8_codes 4 = .ok (.istore_n 2, 1) := zdec_at bX8_codes_0 2 rfl
theorem dX8_codes_5 : decode cX8_codes 5 = .ok (.iload_n 1, 1) := zdec_at bX8_codes_0 3 rfl
theorem dX8_codes_6 : decode cX8_codes 6 = .ok (.istore_n 3, 1) := zdec_at bX8_codes_0 4 rfl
theorem dX8_codes_7 : decode cX8_codes 7 = .ok (.aload_n 0, 1) := zdec_at bX8_codes_0 5 rfl
theorem dX8_codes_8 : decode cX8_codes 8 = .ok (.getfield 609, 3) := zdec_at bX8_codes_0 6 rfl
theorem dX8_codes_11 : decode cX8_codes 11 = .ok (.ifCond .ne 105, 3) := zdec_at bX8_codes_0 7 rfl
theorem dX8_codes_14 : decode cX8_codes 14 = .ok (.iload_n 3, 1) := zdec_at bX8_codes_0 8 rfl
theorem dX8_codes_15 : decode cX8_codes 15 = .ok (.iconst (-1), 1) := zdec_at bX8_codes_0 9 rfl
theorem dX8_codes_16 : decode cX8_codes 16 = .ok (.if_icmp .ne 11, 3) := zdec_at bX8_codes_0 10 rfl
theorem dX8_codes_19 : decode cX8_codes 19 = .ok (.aload_n 0, 1) := zdec_at bX8_codes_0 11 rfl
theorem dX8_codes_20 : decode cX8_codes 20 = .ok (.getfield 707, 3) := zdec_at bX8_codes_0 12 rfl
theorem dX8_codes_23 : decode cX8_codes 23 = .ok (.iload_n 2, 1) := zdec_at bX8_codes_0 13 rfl
theorem dX8_codes_24 : decode cX8_codes 24 = .ok (.if_icmp .le 92, 3) := zdec_at bX8_codes_0 14 rfl
theorem dX8_codes_27 : decode cX8_codes 27 = .ok (.iload_n 3, 1) := zdec_at bX8_codes_0 15 rfl
theorem bX8_codes_28 : zdec cX8_codes 28 [(28, .iconst (-1), 1), (29, .if_icmp .ne 26, 3), (32, .aload_n 0, 1), (33, .dup, 1), (34, .getfield 707, 3), (37, .iconst 1, 1), (38, .isub, 1), (39, .putfield 707, 3), (42, .aload_n 0, 1), (43, .getfield 131, 3), (46, .aload_n 0, 1), (47, .getfield 707, 3), (50, .iaload, 1), (51, .istore_n 3, 1), (52, .goto (-45), 3), (55, .aload_n 0, 1)] = true := by decide +kernel
theorem dX8_codes_28 : decode cX8_codes 28 = .ok (.iconst (-1), 1) := zdec_at bX8_codes_28 0 rfl
theorem dX8_codes_29 : decode cX8_codes 29 = .ok (.if_icmp .ne 26, 3) := zdec_at bX8_codes_28 1 rfl
theorem dX8_codes_32 : decode cX8_codes 32 = .ok (.aload_n 0, 1) := zdec_at bX8_codes_28 2 rfl
theorem dX8_codes_33 : decode cX8_codes 33 = .ok (.dup, 1) := zdec_at bX8_codes_28 3 rfl
theorem dX8_codes_34 : decode cX8_codes 34 = .ok (.getfield 707, 3) := zdec_at bX8_codes_28 4 rfl
theorem dX8_codes_37 : decode cX8_codes 37 = .ok (.iconst 1, 1) := zdec_at bX8_codes_28 5 rfl
theorem dX8_codes_38 : decode cX8_codes 38 = .ok (.isub, 1) := zdec_at bX8_codes_28 6 rfl
theorem dX8_codes_39 : decode cX8_codes 39 = .ok (.putfield 707, 3) := zdec_at bX8_codes_28 7 rfl
theorem dX8_codes_42 : decode cX8_codes 42 = .ok (.aload_n 0, 1) := zdec_at bX8_codes_28 8 rfl
theorem dX8_codes_43 : decode cX8_codes 43 = .ok (.getfield 131, 3) := zdec_at bX8_codes_28 9 rfl
theorem dX8_codes_46 : decode cX8_codes 46 = .ok (.aload_n 0, 1) := zdec_at bX8_codes_28 10 rfl
theorem dX8_codes_47 : decode cX8_codes 47 = .ok (.getfield 707, 3) := zdec_at bX8_codes_28 11 rfl
theorem dX8_codes_50 : decode cX8_codes 50 = .ok (.iaload, 1) := zdec_at bX8_codes_28 12 rfl
theorem dX8_codes_51 : decode cX8_codes 51 = .ok (.istore_n 3, 1) := zdec_at bX8_codes_28 13 rfl
theorem dX8_codes_52 : decode cX8_codes 52 = .ok (.goto (-45), 3) := zdec_at bX8_codes_28 14 rfl
theorem dX8_codes_55 : decode cX8_codes 55 = .ok (.aload_n 0, 1) := zdec_at bX8_codes_28 15 rfl
theorem bX8_codes_56 : zdec cX8_codes 56 [(56, .getfield 42, 3), (59, .iload_n 3, 1), (60, .iaload, 1), (61, .bipush 20, 2), (63, .if_icmp .ne 38, 3), (66, .aload_n 0, 1), (67, .getfield 131, 3), (70, .aload_n 0, 1), (71, .getfield 707, 3), (74, .aload_n 0, 1), (75, .getfield 49, 3), (78, .iload_n 3, 1), (79, .iaload, 1), (80, .iastore, 1), (81, .aload_n 0, 1), (82, .dup, 1)] = true := by decide +kernel
theorem dX8_codes_56 : decode cX8_codes 56 = .ok (.getfield 42, 3) := zdec_at bX8_codes_56 0 rfl
theorem dX8_codes_59 : decode cX8_codes 59 = .ok (.iload_n 3, 1) := zdec_at bX8_codes_56 1 rfl
theorem dX8_codes_60 : decode cX8_codes 60 = .ok (.iaload, 1) := zdec_at bX8_codes_56 2 rfl
theorem dX8_codes_61 : decode cX8_codes 61 = .ok (.bipush 20, 2) := zdec_at bX8_codes_56 3 rfl
theorem dX8_codes_63 : decode cX8_codes 63 = .ok (.if_icmp .ne 38, 3) := zdec_at bX8_codes_56 4 rfl
theorem dX8_codes_66 : decode cX8_codes 66 = .ok (.aload_n 0, 1) := zdec_at bX8_codes_56 5 rfl
theorem dX8_codes_67 : decode cX8_codes 67 = .ok (.getfield 131, 3) := zdec_at bX8_codes_56 6 rfl
theorem dX8_codes_70 : decode cX8_codes 70 = .ok (.aload_n 0, 1) := zdec_at bX8_codes_56 7 rfl
theorem dX8_codes_71 : decode cX8_codes 71 = .ok (.getfield 707, 3) := zdec_at bX8_codes_56 8 rfl
theorem dX8_codes_74 : decode cX8_codes 74 = .ok (.aload_n 0, 1) := zdec_at bX8_codes_56 9 rfl
theorem dX8_codes_75 : decode cX8_codes 75 = .ok (.getfield 49, 3) := zdec_at bX8_codes_56 10 rfl
theorem dX8_codes_78 : decode cX8_codes 78 = .ok (.iload_n 3, 1) := zdec_at bX8_codes_56 11 rfl
theorem dX8_codes_79 : decode cX8_codes 79 = .ok (.iaload, 1) := zdec_at bX8_codes_56 12 rfl
theorem dX8_codes_80 : decode cX8_codes 80 = .ok (.iastore, 1) := zdec_at bX8_codes_56 13 rfl
theorem dX8_codes_81 : decode cX8_codes 81 = .ok (.aload_n 0, 1) := zdec_at bX8_codes_56 14 rfl
theorem dX8_codes_82 : decode cX8_codes 82 = .ok (.dup, 1) := zdec_at bX8_codes_56 15 rfl
theorem bX8_codes_83 : zdec cX8_codes 83 [(83, .getfield 707, 3), (86, .iconst 1, 1), (87, .iadd, 1), (88, .putfield 707, 3), (91, .aload_n 0, 1), (92, .iload_n 3, 1), (93, .iconst 0, 1), (94, .invokevirtual 644, 3), (97, .istore_n 3, 1), (98, .goto (-91), 3), (101, .aload_n 0, 1), (102, .iload_n 3, 1), (103, .invokevirtual 710, 3), (106, .aload_n 0, 1), (107, .getfield 49, 3), (110, .iload_n 3, 1)] = true := by decide +kernel
theorem dX8_codes_83 : decode cX8_codes 83 = .ok (.getfield 707, 3) := zdec_at bX8_codes_83 0 rfl
theorem dX8_codes_86 : decode cX8_codes 86 = .ok (.iconst 1, 1) := zdec_at bX8_codes_83 1 rfl
theorem dX8_codes_87 : decode cX8_codes 87 = .ok (.iadd, 1) := zdec_at bX8_codes_83 2 rfl
theorem dX8_codes_88 : decode cX8_codes 88 = .ok (.putfield 707, 3) := zdec_at bX8_codes_83 3 rfl
theorem dX8_codes_91 : decode cX8_codes 91 = .ok (.aload_n 0, 1) := zdec_at bX8_codes_83 4 rfl
theorem dX8_codes_92 : decode cX8_codes 92 = .ok (.iload_n 3, 1) := zdec_at bX8_codes_83 5 rfl
theorem dX8_codes_93 : decode cX8_codes 93 = .ok (.iconst 0, 1) := zdec_at bX8_codes_83 6 rfl
theorem dX8_codes_94 : decode cX8_codes 94 = .ok (.invokevirtual 644, 3) := zdec_at bX8_codes_83 7 rfl
theorem dX8_codes_97 : decode cX8_codes 97 = .ok (.istore_n 3, 1) := zdec_at bX8_codes_83 8 rfl
theorem dX8_codes_98 : decode cX8_codes 98 = .ok (.goto (-91), 3) := zdec_at bX8_codes_83 9 rfl
theorem dX8_codes_101 : decode cX8_codes 101 = .ok (.aload_n 0, 1) := zdec_at bX8_codes_83 10 rfl
theorem dX8_codes_102 : decode cX8_codes 102 = .ok (.iload_n 3, 1) := zdec_at bX8_codes_83 11 rfl
theorem dX8_codes_103 : decode cX8_codes 103 = .ok (.invokevirtual 710, 3) := zdec_at bX8_codes_83 12 rfl
theorem dX8_codes_106 : decode cX8_codes 106 = .ok (.aload_n 0, 1) := zdec_at bX8_codes_83 13 rfl
theorem dX8_codes_107 : decode cX8_codes 107 = .ok (.getfield 49, 3) := zdec_at bX8_codes_83 14 rfl
theorem dX8_codes_110 : decode cX8_codes 110 = .ok (.iload_n 3, 1) := zdec_at bX8_codes_83 15 rfl
theorem bX8_codes_111 : zdec cX8_codes 111 [(111, .iaload, 1), (112, .istore_n 3, 1), (113, .goto (-106), 3), (116, .aload_n 0, 1), (117, .iload_n 2, 1), (118, .putfield 707, 3), (121, .return_, 1)] = true := by decide +kernel
theorem dX8_codes_111 : decode cX8_codes 111 = .ok (.iaload, 1) := zdec_at bX8_codes_111 0 rfl
theorem dX8_codes_112 : decode cX8_codes 112 = .ok (.istore_n 3, 1) := zdec_at bX8_codes_111 1 rfl
theorem dX8_codes_113 : decode cX8_codes 113 = .ok (.goto (-106), 3) := zdec_at bX8_codes_111 2 rfl
theorem dX8_codes_116 : decode cX8_codes 116 = .ok (.aload_n 0, 1) := zdec_at bX8_codes_111 3 rfl
theorem dX8_codes_117 : decode cX8_codes 117 = .ok (.iload_n 2, 1) := zdec_at bX8_codes_111 4 rfl
theorem dX8_codes_118 : decode cX8_codes 118 = .ok (.putfield 707, 3) := zdec_at bX8_codes_111 5 rfl
theorem dX8_codes_121 : decode cX8_codes 121 = .ok (.return_, 1) := zdec_at bX8_codes_111 6 rfl
theorem sX8_codes_0 {E : zE} {d : Nat} {Q : zO → zM → Prop} (M : zM) (l1 : Int32) (k : Zm E YX8_codes (d + 1) M [(0, vr (some (97, 1, 0))), (2, vi (gi M 97 68)), (3, vi l1)] 7 [] Q) : Zm E YX8_codes (d + 1) M [(0, vr (some (97, 1, 0))), (1, vi l1)] 0 [] Q := by
  refine Zm.l (fun _ _ k_ => z_aload_n dX8_codes_0 rfl rfl k_) ?_
  refine zm_geti dX8_codes_1 fsX8_707_1 (by decide) (by decide) ?_
  refine Zm.l (fun _ _ k_ => z_ist_n dX8_codes_4 rfl (by decide) (lv' := [(0, vr (some (97, 1, 0))), (1, vi l1), (2, vi (gi M 97 68))]) rfl k_) ?_
  refine Zm.l (fun _ _ k_ => z_iload_n dX8_codes_5 rfl rfl k_) ?_
  refine Zm.l (fun _ _ k_ => z_ist_n dX8_codes_6 rfl (by decide) (lv' := [(0, vr (some (97, 1, 0))), (1, vi l1), (2, vi (gi M 97 68)), (3, vi l1)]) rfl k_) ?_
  refine Zm.pick [0, 2, 3] rfl ?_
  exact k
theorem sX8_codes_7 {E : zE} {d : Nat} {Q : zO → zM → Prop} (M : zM) (l2 : Int32) (l3 : Int32) (k : if (gi M 97 47) = 0 then (if l3 = (-1 : Int32) then (if (gi M 97 68) ≤ l2 then (Q (.inl none) (si M 97 68 l2)) else (Zm E YX8_codes (d + 1) M [(0, vr (some (97, 1, 0))), (2, vi l2), (3, vi l3)] 27 [] Q)) else (Zm E YX8_codes (d + 1) M [(0, vr (some (97, 1, 0))), (2, vi l2), (3, vi l3)] 27 [] Q)) else (Q (.inl none) (si M 97 68 l2))) : Zm E YX8_codes (d + 1) M [(0, vr (some (97, 1, 0))), (2, vi l2), (3, vi l3)] 7 [] Q := by
  refine Zm.l (fun _ _ k_ => z_aload_n dX8_codes_7 rfl rfl k_) ?_
  refine zm_geti dX8_codes_8 fsX8_609_1 (by decide) (by decide) ?_
  refine Zm.brn (fun _ _ k1_ k2_ => z_if_ne (tgt := 116) dX8_codes_11 rfl k1_ k2_) (fun h_ => ?_) (fun h_ => ?_)
  · have k := zif h_ k
    refine Zm.l (fun _ _ k_ => z_aload_n dX8_codes_116 rfl rfl k_) ?_
    refine Zm.l (fun _ _ k_ => z_iload_n dX8_codes_117 rfl rfl k_) ?_
    refine zm_puti (by decide) (by decide) dX8_codes_118 (zfwN.w fwX8_707_1) rfl ⟨rfl, rfl⟩ ?_
    exact zm_vret dX8_codes_121 rfl k
  · have k := zit h_ k
    refine Zm.l (fun _ _ k_ => z_iload_n dX8_codes_14 rfl rfl k_) ?_
    refine Zm.l (fun _ _ k_ => z_iconst (v := -1) dX8_codes_15 rfl k_) ?_
    refine Zm.brn (fun _ _ k1_ k2_ => z_icmp_ne (tgt := 27) dX8_codes_16 rfl k1_ k2_) (fun h_ => ?_) (fun h_ => ?_)
    · have k := zif h_ k
      exact k
    · have k := zit h_ k
      refine Zm.l (fun _ _ k_ => z_aload_n dX8_codes_19 rfl rfl k_) ?_
      refine zm_geti dX8_codes_20 fsX8_707_1 (by decide) (by decide) ?_
      refine Zm.l (fun _ _ k_ => z_iload_n dX8_codes_23 rfl rfl k_) ?_
      refine Zm.br (fun _ _ k1_ k2_ => z_icmp_le (tgt := 116) dX8_codes_24 rfl k1_ k2_) (fun h_ => ?_) (fun h_ => ?_)
      · have k := zit h_ k
        refine Zm.l (fun _ _ k_ => z_aload_n dX8_codes_116 rfl rfl k_) ?_
        refine Zm.l (fun _ _ k_ => z_iload_n dX8_codes_117 rfl rfl k_) ?_
        refine zm_puti (by decide) (by decide) dX8_codes_118 (zfwN.w fwX8_707_1) rfl ⟨rfl, rfl⟩ ?_
        exact zm_vret dX8_codes_121 rfl k
      · have k := zif h_ k
        exact k
theorem sX8_codes_27 {E : zE} {d : Nat} {Q : zO → zM → Prop} (M : zM) (l2 : Int32) (l3 : Int32) (k : if l3 = (-1 : Int32) then (vp_in ((gi M 97 68) - (1 : Int32)) 12000 ∧ (Zm E YX8_codes (d + 1) (si M 97 68 ((gi M 97 68) - (1 : Int32))) [(0, vr (some (97, 1, 0))), (2, vi l2), (3, vi (gi M 137 (((gi M 97 68) - (1 : Int32))).toNatClampNeg))] 7 [] Q)) else (vp_in l3 12000 ∧ (if (gi M 108 (l3).toNatClampNeg) = (20 : Int32) then (vp_in l3 12000 ∧ (vp_in (gi M 97 68) 12000 ∧ (Zm E YX8_part d (si (si M 137 ((gi M 97 68)).toNatClampNeg (gi M 110 (l3).toNatClampNeg)) 97 68 ((gi M 97 68) + (1 : Int32))) (zargs 0 [vr (some (97, 1, 0)), vi l3, vi (0 : Int32)]) 0 [] (zma E YX8_codes (d + 1) [(0, vr (some (97, 1, 0))), (2, vi l2)] 94 3 [] Q)))) else (Zm E YX8_code d M (zargs 0 [vr (some (97, 1, 0)), vi l3]) 0 [] (zma E YX8_codes (d + 1) [(0, vr (some (97, 1, 0))), (2, vi l2), (3, vi l3)] 103 3 [] Q))))) : Zm E YX8_codes (d + 1) M [(0, vr (some (97, 1, 0))), (2, vi l2), (3, vi l3)] 27 [] Q := by
  refine Zm.l (fun _ _ k_ => z_iload_n dX8_codes_27 rfl rfl k_) ?_
  refine Zm.l (fun _ _ k_ => z_iconst (v := -1) dX8_codes_28 rfl k_) ?_
  refine Zm.brn (fun _ _ k1_ k2_ => z_icmp_ne (tgt := 55) dX8_codes_29 rfl k1_ k2_) (fun h_ => ?_) (fun h_ => ?_)
  · have k := zif h_ k
    refine Zm.l (fun _ _ k_ => z_aload_n dX8_codes_55 rfl rfl k_) ?_
    refine zm_getr 10 dX8_codes_56 fsX8_42_1 rfl ?_
    refine Zm.l (fun _ _ k_ => z_iload_n dX8_codes_59 rfl rfl k_) ?_
    obtain ⟨b_, k⟩ := k
    refine zm_iald dX8_codes_60 b_ (by decide) (by decide) ?_
    refine Zm.l (fun _ _ k_ => z_bipush (v := 20) dX8_codes_61 rfl k_) ?_
    refine Zm.brn (fun _ _ k1_ k2_ => z_icmp_ne (tgt := 101) dX8_codes_63 rfl k1_ k2_) (fun h_ => ?_) (fun h_ => ?_)
    · have k := zif h_ k
      refine Zm.l (fun _ _ k_ => z_aload_n dX8_codes_101 rfl rfl k_) ?_
      refine Zm.l (fun _ _ k_ => z_iload_n dX8_codes_102 rfl rfl k_) ?_
      exact zm_callV (as := [vi l3]) (st := []) dX8_codes_103 vsX8_710_1 (Nat.le_refl _) (Nat.le_of_ble_eq_true rfl) (Nat.le_of_ble_eq_true rfl) rfl k
    · have k := zit h_ k
      refine Zm.l (fun _ _ k_ => z_aload_n dX8_codes_66 rfl rfl k_) ?_
      refine zm_getr 34 dX8_codes_67 fsX8_131_1 rfl ?_
      refine Zm.l (fun _ _ k_ => z_aload_n dX8_codes_70 rfl rfl k_) ?_
      refine zm_geti dX8_codes_71 fsX8_707_1 (by decide) (by decide) ?_
      refine Zm.l (fun _ _ k_ => z_aload_n dX8_codes_74 rfl rfl k_) ?_
      refine zm_getr 12 dX8_codes_75 fsX8_49_1 rfl ?_
      refine Zm.l (fun _ _ k_ => z_iload_n dX8_codes_78 rfl rfl k_) ?_
      obtain ⟨b_, k⟩ := k
      refine zm_iald dX8_codes_79 b_ (by decide) (by decide) ?_
      obtain ⟨b_, k⟩ := k
      refine zm_iast dX8_codes_80 b_ (by decide) (by decide) ?_
      refine Zm.l (fun _ _ k_ => z_aload_n dX8_codes_81 rfl rfl k_) ?_
      refine Zm.l (fun _ _ k_ => z_dup dX8_codes_82 rfl k_) ?_
      refine zm_geti dX8_codes_83 fsX8_707_1 (by decide) (by decide) ?_
      refine Zm.l (fun _ _ k_ => z_iconst (v := 1) dX8_codes_86 rfl k_) ?_
      refine Zm.l (fun _ _ k_ => z_iadd dX8_codes_87 k_) ?_
      refine zm_puti (by decide) (by decide) dX8_codes_88 (zfwN.w fwX8_707_1) rfl ⟨rfl, rfl⟩ ?_
      refine Zm.l (fun _ _ k_ => z_aload_n dX8_codes_91 rfl rfl k_) ?_
      refine Zm.l (fun _ _ k_ => z_iload_n dX8_codes_92 rfl rfl k_) ?_
      refine Zm.l (fun _ _ k_ => z_iconst (v := 0) dX8_codes_93 rfl k_) ?_
      refine Zm.pick [0, 1] rfl ?_
      exact zm_callV (as := [vi l3, vi (0 : Int32)]) (st := []) dX8_codes_94 vsX8_644_1 (Nat.le_refl _) (Nat.le_of_ble_eq_true rfl) (Nat.le_of_ble_eq_true rfl) rfl k
  · have k := zit h_ k
    refine Zm.l (fun _ _ k_ => z_aload_n dX8_codes_32 rfl rfl k_) ?_
    refine Zm.l (fun _ _ k_ => z_dup dX8_codes_33 rfl k_) ?_
    refine zm_geti dX8_codes_34 fsX8_707_1 (by decide) (by decide) ?_
    refine Zm.l (fun _ _ k_ => z_iconst (v := 1) dX8_codes_37 rfl k_) ?_
    refine Zm.l (fun _ _ k_ => z_isub dX8_codes_38 k_) ?_
    refine zm_puti (by decide) (by decide) dX8_codes_39 (zfwN.w fwX8_707_1) rfl ⟨rfl, rfl⟩ ?_
    refine Zm.l (fun _ _ k_ => z_aload_n dX8_codes_42 rfl rfl k_) ?_
    refine zm_getr 34 dX8_codes_43 fsX8_131_1 rfl ?_
    refine Zm.l (fun _ _ k_ => z_aload_n dX8_codes_46 rfl rfl k_) ?_
    refine zm_geti dX8_codes_47 fsX8_707_1 (by decide) (by decide) ?_
    obtain ⟨b_, k⟩ := k
    refine zm_iald dX8_codes_50 b_ (by decide) (by decide) ?_
    refine Zm.l (fun _ _ k_ => z_ist_n dX8_codes_51 rfl (by decide) (lv' := [(0, vr (some (97, 1, 0))), (2, vi l2), (3, vi (gi M 137 (((gi M 97 68) - (1 : Int32))).toNatClampNeg))]) rfl k_) ?_
    refine Zm.l (fun _ _ k_ => z_goto (tgt := 7) dX8_codes_52 rfl k_) ?_
    exact k
theorem sX8_codes_97 {E : zE} {d : Nat} {Q : zO → zM → Prop} (M : zM) (l2 : Int32) (s0 : Int32) (k : Zm E YX8_codes (d + 1) M [(0, vr (some (97, 1, 0))), (2, vi l2), (3, vi s0)] 7 [] Q) : Zm E YX8_codes (d + 1) M [(0, vr (some (97, 1, 0))), (2, vi l2)] 97 [vi s0] Q := by
  refine Zm.l (fun _ _ k_ => z_ist_n dX8_codes_97 rfl (by decide) (lv' := [(0, vr (some (97, 1, 0))), (2, vi l2), (3, vi s0)]) rfl k_) ?_
  refine Zm.l (fun _ _ k_ => z_goto (tgt := 7) dX8_codes_98 rfl k_) ?_
  exact k
theorem sX8_codes_106 {E : zE} {d : Nat} {Q : zO → zM → Prop} (M : zM) (l2 : Int32) (l3 : Int32) (k : vp_in l3 12000 ∧ (Zm E YX8_codes (d + 1) M [(0, vr (some (97, 1, 0))), (2, vi l2), (3, vi (gi M 110 (l3).toNatClampNeg))] 7 [] Q)) : Zm E YX8_codes (d + 1) M [(0, vr (some (97, 1, 0))), (2, vi l2), (3, vi l3)] 106 [] Q := by
  refine Zm.l (fun _ _ k_ => z_aload_n dX8_codes_106 rfl rfl k_) ?_
  refine zm_getr 12 dX8_codes_107 fsX8_49_1 rfl ?_
  refine Zm.l (fun _ _ k_ => z_iload_n dX8_codes_110 rfl rfl k_) ?_
  obtain ⟨b_, k⟩ := k
  refine zm_iald dX8_codes_111 b_ (by decide) (by decide) ?_
  refine Zm.l (fun _ _ k_ => z_ist_n dX8_codes_112 rfl (by decide) (lv' := [(0, vr (some (97, 1, 0))), (2, vi l2), (3, vi (gi M 110 (l3).toNatClampNeg))]) rfl k_) ?_
  refine Zm.l (fun _ _ k_ => z_goto (tgt := 7) dX8_codes_113 rfl k_) ?_
  exact k
/-! ScriptTypesModel.code(I)V -/
theorem bX8_code_0 : zdec cX8_code 0 [(0, .aload_n 0, 1), (1, .getfield 609, 3), (4, .ifCond .eq 4, 3), (7, .return_, 1), (8, .aload_n 0, 1), (9, .iload_n 1, 1), (10, .iconst 0, 1), (11, .invokevirtual 644, 3), (14, .istore_n 2, 1), (15, .aload_n 0, 1), (16, .iload_n 1, 1), (17, .iconst 1, 1), (18, .invokevirtual 644, 3), (21, .istore_n 3, 1), (22, .aload_n 0, 1), (23, .getfield 42, 3)] = true := by decide +kernel
theorem dX8_code_0 : decode cX8_code 0 = .ok (.aload_n 0, 1) := zdec_at bX8_code_0 0 rfl
theorem dX8_code_1 : decode cX8_code 1 = .ok (.getfield 609, 3) := zdec_at bX8_code_0 1 rfl
theorem dX8_code_4 : decode cX8_code 4 = .ok (.ifCond .eq 4, 3) := zdec_at bX8_code_0 2 rfl
theorem dX8_code_7 : decode cX8_code 7 = .ok (.return_, 1) := zdec_at bX8_code_0 3 rfl
theorem dX8_code_8 : decode cX8_code 8 = .ok (.aload_n 0, 1) := zdec_at bX8_code_0 4 rfl
theorem dX8_code_9 : decode cX8_code 9 = .ok (.iload_n 1, 1) := zdec_at bX8_code_0 5 rfl
theorem dX8_code_10 : decode cX8_code 10 = .ok (.iconst 0, 1) := zdec_at bX8_code_0 6 rfl
theorem dX8_code_11 : decode cX8_code 11 = .ok (.invokevirtual 644, 3) := zdec_at bX8_code_0 7 rfl
theorem dX8_code_14 : decode cX8_code 14 = .ok (.istore_n 2, 1) := zdec_at bX8_code_0 8 rfl
theorem dX8_code_15 : decode cX8_code 15 = .ok (.aload_n 0, 1) := zdec_at bX8_code_0 9 rfl
theorem dX8_code_16 : decode cX8_code 16 = .ok (.iload_n 1, 1) := zdec_at bX8_code_0 10 rfl
theorem dX8_code_17 : decode cX8_code 17 = .ok (.iconst 1, 1) := zdec_at bX8_code_0 11 rfl
theorem dX8_code_18 : decode cX8_code 18 = .ok (.invokevirtual 644, 3) := zdec_at bX8_code_0 12 rfl
theorem dX8_code_21 : decode cX8_code 21 = .ok (.istore_n 3, 1) := zdec_at bX8_code_0 13 rfl
theorem dX8_code_22 : decode cX8_code 22 = .ok (.aload_n 0, 1) := zdec_at bX8_code_0 14 rfl
theorem dX8_code_23 : decode cX8_code 23 = .ok (.getfield 42, 3) := zdec_at bX8_code_0 15 rfl
theorem bX8_code_26 : zdec cX8_code 26 [(26, .iload_n 1, 1), (27, .iaload, 1)] = true := by decide +kernel
theorem dX8_code_26 : decode cX8_code 26 = .ok (.iload_n 1, 1) := zdec_at bX8_code_26 0 rfl
theorem dX8_code_27 : decode cX8_code 27 = .ok (.iaload, 1) := zdec_at bX8_code_26 1 rfl
theorem dX8_code_28 : decode cX8_code 28 = .ok (.tableswitch 606 20 34 #[76, 84, 606, 92, 106, 187, 247, 319, 462, 544, 544, 567, 575, 589, 597], 76) := by decide +kernel
theorem bX8_code_104 : zdec cX8_code 104 [(104, .aload_n 0, 1), (105, .iload_n 2, 1), (106, .invokevirtual 713, 3), (109, .goto 525, 3), (112, .aload_n 0, 1), (113, .iload_n 2, 1), (114, .invokevirtual 716, 3), (117, .goto 517, 3), (120, .aload_n 0, 1), (121, .iload_n 2, 1), (122, .invokevirtual 668, 3), (125, .aload_n 0, 1), (126, .bipush 17, 2), (128, .invokevirtual 666, 3), (131, .goto 503, 3), (134, .aload_n 0, 1)] = true := by decide +kernel
theorem dX8_code_104 : decode cX8_code 104 = .ok (.aload_n 0, 1) := zdec_at bX8_code_104 0 rfl
theorem dX8_code_105 : decode cX8_code 105 = .ok (.iload_n 2, 1) := zdec_at bX8_code_104 1 rfl
theorem dX8_code_106 : decode cX8_code 106 = .ok (.invokevirtual 713, 3) := zdec_at bX8_code_104 2 rfl
theorem dX8_code_109 : decode cX8_code 109 = .ok (.goto 525, 3) := zdec_at bX8_code_104 3 rfl
theorem dX8_code_112 : decode cX8_code 112 = .ok (.aload_n 0, 1) := zdec_at bX8_code_104 4 rfl
theorem dX8_code_113 : decode cX8_code 113 = .ok (.iload_n 2, 1) := zdec_at bX8_code_104 5 rfl
theorem dX8_code_114 : decode cX8_code 114 = .ok (.invokevirtual 716, 3) := zdec_at bX8_code_104 6 rfl
theorem dX8_code_117 : decode cX8_code 117 = .ok (.goto 517, 3) := zdec_at bX8_code_104 7 rfl
theorem dX8_code_120 : decode cX8_code 120 = .ok (.aload_n 0, 1) := zdec_at bX8_code_104 8 rfl
theorem dX8_code_121 : decode cX8_code 121 = .ok (.iload_n 2, 1) := zdec_at bX8_code_104 9 rfl
theorem dX8_code_122 : decode cX8_code 122 = .ok (.invokevirtual 668, 3) := zdec_at bX8_code_104 10 rfl
theorem dX8_code_125 : decode cX8_code 125 = .ok (.aload_n 0, 1) := zdec_at bX8_code_104 11 rfl
theorem dX8_code_126 : decode cX8_code 126 = .ok (.bipush 17, 2) := zdec_at bX8_code_104 12 rfl
theorem dX8_code_128 : decode cX8_code 128 = .ok (.invokevirtual 666, 3) := zdec_at bX8_code_104 13 rfl
theorem dX8_code_131 : decode cX8_code 131 = .ok (.goto 503, 3) := zdec_at bX8_code_104 14 rfl
theorem dX8_code_134 : decode cX8_code 134 = .ok (.aload_n 0, 1) := zdec_at bX8_code_104 15 rfl
theorem bX8_code_135 : zdec cX8_code 135 [(135, .invokevirtual 674, 3), (138, .istore 4, 2), (140, .aload_n 0, 1), (141, .invokevirtual 674, 3), (144, .istore 5, 2), (146, .aload_n 0, 1), (147, .iload_n 1, 1), (148, .iconst 2, 1), (149, .invokevirtual 644, 3), (152, .istore 6, 2), (154, .aload_n 0, 1), (155, .iload_n 2, 1), (156, .invokevirtual 668, 3), (159, .aload_n 0, 1), (160, .bipush 22, 2), (162, .iload 4, 2)] = true := by decide +kernel
theorem dX8_code_135 : decode cX8_code 135 = .ok (.invokevirtual 674, 3) := zdec_at bX8_code_135 0 rfl
theorem dX8_code_138 : decode cX8_code 138 = .ok (.istore 4, 2) := zdec_at bX8_code_135 1 rfl
theorem dX8_code_140 : decode cX8_code 140 = .ok (.aload_n 0, 1) := zdec_at bX8_code_135 2 rfl
theorem dX8_code_141 : decode cX8_code 141 = .ok (.invokevirtual 674, 3) := zdec_at bX8_code_135 3 rfl
theorem dX8_code_144 : decode cX8_code 144 = .ok (.istore 5, 2) := zdec_at bX8_code_135 4 rfl
theorem dX8_code_146 : decode cX8_code 146 = .ok (.aload_n 0, 1) := zdec_at bX8_code_135 5 rfl
theorem dX8_code_147 : decode cX8_code 147 = .ok (.iload_n 1, 1) := zdec_at bX8_code_135 6 rfl
theorem dX8_code_148 : decode cX8_code 148 = .ok (.iconst 2, 1) := zdec_at bX8_code_135 7 rfl
theorem dX8_code_149 : decode cX8_code 149 = .ok (.invokevirtual 644, 3) := zdec_at bX8_code_135 8 rfl
theorem dX8_code_152 : decode cX8_code 152 = .ok (.istore 6, 2) := zdec_at bX8_code_135 9 rfl
theorem dX8_code_154 : decode cX8_code 154 = .ok (.aload_n 0, 1) := zdec_at bX8_code_135 10 rfl
theorem dX8_code_155 : decode cX8_code 155 = .ok (.iload_n 2, 1) := zdec_at bX8_code_135 11 rfl
theorem dX8_code_156 : decode cX8_code 156 = .ok (.invokevirtual 668, 3) := zdec_at bX8_code_135 12 rfl
theorem dX8_code_159 : decode cX8_code 159 = .ok (.aload_n 0, 1) := zdec_at bX8_code_135 13 rfl
theorem dX8_code_160 : decode cX8_code 160 = .ok (.bipush 22, 2) := zdec_at bX8_code_135 14 rfl
theorem dX8_code_162 : decode cX8_code 162 = .ok (.iload 4, 2) := zdec_at bX8_code_135 15 rfl
theorem bX8_code_164 : zdec cX8_code 164 [(164, .iconst 0, 1), (165, .invokevirtual 615, 3), (168, .aload_n 0, 1), (169, .iload_n 3, 1), (170, .invokevirtual 710, 3), (173, .iload 6, 2), (175, .iconst (-1), 1), (176, .if_icmp .eq 12, 3), (179, .aload_n 0, 1), (180, .bipush 21, 2), (182, .iload 5, 2), (184, .iconst 0, 1), (185, .invokevirtual 615, 3), (188, .aload_n 0, 1), (189, .iload 4, 2), (191, .invokevirtual 677, 3)] = true := by decide +kernel
theorem dX8_code_164 : decode cX8_code 164 = .ok (.iconst 0, 1) := zdec_at bX8_code_164 0 rfl
theorem dX8_code_165 : decode cX8_code 165 = .ok (.invokevirtual 615, 3) := zdec_at bX8_code_164 1 rfl
theorem dX8_code_168 : decode cX8_code 168 = .ok (.aload_n 0, 1) := zdec_at bX8_code_164 2 rfl
theorem dX8_code_169 : decode cX8_code 169 = .ok (.iload_n 3, 1) := zdec_at bX8_code_164 3 rfl
theorem dX8_code_170 : decode cX8_code 170 = .ok (.invokevirtual 710, 3) := zdec_at bX8_code_164 4 rfl
theorem dX8_code_173 : decode cX8_code 173 = .ok (.iload 6, 2) := zdec_at bX8_code_164 5 rfl
theorem dX8_code_175 : decode cX8_code 175 = .ok (.iconst (-1), 1) := zdec_at bX8_code_164 6 rfl
theorem dX8_code_176 : decode cX8_code 176 = .ok (.if_icmp .eq 12, 3) := zdec_at bX8_code_164 7 rfl
theorem dX8_code_179 : decode cX8_code 179 = .ok (.aload_n 0, 1) := zdec_at bX8_code_164 8 rfl
theorem dX8_code_180 : decode cX8_code 180 = .ok (.bipush 21, 2) := zdec_at bX8_code_164 9 rfl
theorem dX8_code_182 : decode cX8_code 182 = .ok (.iload 5, 2) := zdec_at bX8_code_164 10 rfl
theorem dX8_code_184 : decode cX8_code 184 = .ok (.iconst 0, 1) := zdec_at bX8_code_164 11 rfl
theorem dX8_code_185 : decode cX8_code 185 = .ok (.invokevirtual 615, 3) := zdec_at bX8_code_164 12 rfl
theorem dX8_code_188 : decode cX8_code 188 = .ok (.aload_n 0, 1) := zdec_at bX8_code_164 13 rfl
theorem dX8_code_189 : decode cX8_code 189 = .ok (.iload 4, 2) := zdec_at bX8_code_164 14 rfl
theorem dX8_code_191 : decode cX8_code 191 = .ok (.invokevirtual 677, 3) := zdec_at bX8_code_164 15 rfl
theorem bX8_code_194 : zdec cX8_code 194 [(194, .iload 6, 2), (196, .iconst (-1), 1), (197, .if_icmp .eq 9, 3), (200, .aload_n 0, 1), (201, .iload 6, 2), (203, .invokevirtual 710, 3), (206, .aload_n 0, 1), (207, .iload 5, 2), (209, .invokevirtual 677, 3), (212, .goto 422, 3), (215, .aload_n 0, 1), (216, .invokevirtual 674, 3), (219, .istore 4, 2), (221, .aload_n 0, 1), (222, .invokevirtual 674, 3), (225, .istore 5, 2)] = true := by decide +kernel
theorem dX8_code_194 : decode cX8_code 194 = .ok (.iload 6, 2) := zdec_at bX8_code_194 0 rfl
theorem dX8_code_196 : decode cX8_code 196 = .ok (.iconst (-1), 1) := zdec_at bX8_code_194 1 rfl
theorem dX8_code_197 : decode cX8_code 197 = .ok (.if_icmp .eq 9, 3) := zdec_at bX8_code_194 2 rfl
theorem dX8_code_200 : decode cX8_code 200 = .ok (.aload_n 0, 1) := zdec_at bX8_code_194 3 rfl
theorem dX8_code_201 : decode cX8_code 201 = .ok (.iload 6, 2) := zdec_at bX8_code_194 4 rfl
theorem dX8_code_203 : decode cX8_code 203 = .ok (.invokevirtual 710, 3) := zdec_at bX8_code_194 5 rfl
theorem dX8_code_206 : decode cX8_code 206 = .ok (.aload_n 0, 1) := zdec_at bX8_code_194 6 rfl
theorem dX8_code_207 : decode cX8_code 207 = .ok (.iload 5, 2) := zdec_at bX8_code_194 7 rfl
theorem dX8_code_209 : decode cX8_code 209 = .ok (.invokevirtual 677, 3) := zdec_at bX8_code_194 8 rfl
theorem dX8_code_212 : decode cX8_code 212 = .ok (.goto 422, 3) := zdec_at bX8_code_194 9 rfl
theorem dX8_code_215 : decode cX8_code 215 = .ok (.aload_n 0, 1) := zdec_at bX8_code_194 10 rfl
theorem dX8_code_216 : decode cX8_code 216 = .ok (.invokevirtual 674, 3) := zdec_at bX8_code_194 11 rfl
theorem dX8_code_219 : decode cX8_code 219 = .ok (.istore 4, 2) := zdec_at bX8_code_194 12 rfl
theorem dX8_code_221 : decode cX8_code 221 = .ok (.aload_n 0, 1) := zdec_at bX8_code_194 13 rfl
theorem dX8_code_222 : decode cX8_code 222 = .ok (.invokevirtual 674, 3) := zdec_at bX8_code_194 14 rfl
theorem dX8_code_225 : decode cX8_code 225 = .ok (.istore 5, 2) := zdec_at bX8_code_194 15 rfl
theorem bX8_code_227 : zdec cX8_code 227 [(227, .aload_n 0, 1), (228, .iload 4, 2), (230, .invokevirtual 677, 3), (233, .aload_n 0, 1), (234, .iload_n 2, 1), (235, .invokevirtual 668, 3), (238, .aload_n 0, 1), (239, .bipush 22, 2), (241, .iload 5, 2), (243, .iconst 0, 1), (244, .invokevirtual 615, 3), (247, .aload_n 0, 1), (248, .iconst 3, 1), (249, .iload_n 3, 1), (250, .iload 5, 2), (252, .iload 4, 2)] = true := by decide +kernel
theorem dX8_code_227 : decode cX8_code 227 = .ok (.aload_n 0, 1) := zdec_at bX8_code_227 0 rfl
theorem dX8_code_228 : decode cX8_code 228 = .ok (.iload 4, 2) := zdec_at bX8_code_227 1 rfl
theorem dX8_code_230 : decode cX8_code 230 = .ok (.invokevirtual 677, 3) := zdec_at bX8_code_227 2 rfl
theorem dX8_code_233 : decode cX8_code 233 = .ok (.aload_n 0, 1) := zdec_at bX8_code_227 3 rfl
theorem dX8_code_234 : decode cX8_code 234 = .ok (.iload_n 2, 1) := zdec_at bX8_code_227 4 rfl
theorem dX8_code_235 : decode cX8_code 235 = .ok (.invokevirtual 668, 3) := zdec_at bX8_code_227 5 rfl
theorem dX8_code_238 : decode cX8_code 238 = .ok (.aload_n 0, 1) := zdec_at bX8_code_227 6 rfl
theorem dX8_code_239 : decode cX8_code 239 = .ok (.bipush 22, 2) := zdec_at bX8_code_227 7 rfl
theorem dX8_code_241 : decode cX8_code 241 = .ok (.iload 5, 2) := zdec_at bX8_code_227 8 rfl
theorem dX8_code_243 : decode cX8_code 243 = .ok (.iconst 0, 1) := zdec_at bX8_code_227 9 rfl
theorem dX8_code_244 : decode cX8_code 244 = .ok (.invokevirtual 615, 3) := zdec_at bX8_code_227 10 rfl
theorem dX8_code_247 : decode cX8_code 247 = .ok (.aload_n 0, 1) := zdec_at bX8_code_227 11 rfl
theorem dX8_code_248 : decode cX8_code 248 = .ok (.iconst 3, 1) := zdec_at bX8_code_227 12 rfl
theorem dX8_code_249 : decode cX8_code 249 = .ok (.iload_n 3, 1) := zdec_at bX8_code_227 13 rfl
theorem dX8_code_250 : decode cX8_code 250 = .ok (.iload 5, 2) := zdec_at bX8_code_227 14 rfl
theorem dX8_code_252 : decode cX8_code 252 = .ok (.iload 4, 2) := zdec_at bX8_code_227 15 rfl
theorem bX8_code_254 : zdec cX8_code 254 [(254, .invokevirtual 719, 3), (257, .aload_n 0, 1), (258, .bipush 21, 2), (260, .iload 4, 2), (262, .iconst 0, 1), (263, .invokevirtual 615, 3), (266, .aload_n 0, 1), (267, .iload 5, 2), (269, .invokevirtual 677, 3), (272, .goto 362, 3), (275, .aload_n 0, 1), (276, .invokevirtual 674, 3), (279, .istore 4, 2), (281, .aload_n 0, 1), (282, .invokevirtual 674, 3), (285, .istore 5, 2)] = true := by decide +kernel
theorem dX8_code_254 : decode cX8_code 254 = .ok (.invokevirtual 719, 3) := zdec_at bX8_code_254 0 rfl
theorem dX8_code_257 : decode cX8_code 257 = .ok (.aload_n 0, 1) := zdec_at bX8_code_254 1 rfl
theorem dX8_code_258 : decode cX8_code 258 = .ok (.bipush 21, 2) := zdec_at bX8_code_254 2 rfl
theorem dX8_code_260 : decode cX8_code 260 = .ok (.iload 4, 2) := zdec_at bX8_code_254 3 rfl
theorem dX8_code_262 : decode cX8_code 262 = .ok (.iconst 0, 1) := zdec_at bX8_code_254 4 rfl
theorem dX8_code_263 : decode cX8_code 263 = .ok (.invokevirtual 615, 3) := zdec_at bX8_code_254 5 rfl
theorem dX8_code_266 : decode cX8_code 266 = .ok (.aload_n 0, 1) := zdec_at bX8_code_254 6 rfl
theorem dX8_code_267 : decode cX8_code 267 = .ok (.iload 5, 2) := zdec_at bX8_code_254 7 rfl
theorem dX8_code_269 : decode cX8_code 269 = .ok (.invokevirtual 677, 3) := zdec_at bX8_code_254 8 rfl
theorem dX8_code_272 : decode cX8_code 272 = .ok (.goto 362, 3) := zdec_at bX8_code_254 9 rfl
theorem dX8_code_275 : decode cX8_code 275 = .ok (.aload_n 0, 1) := zdec_at bX8_code_254 10 rfl
theorem dX8_code_276 : decode cX8_code 276 = .ok (.invokevirtual 674, 3) := zdec_at bX8_code_254 11 rfl
theorem dX8_code_279 : decode cX8_code 279 = .ok (.istore 4, 2) := zdec_at bX8_code_254 12 rfl
theorem dX8_code_281 : decode cX8_code 281 = .ok (.aload_n 0, 1) := zdec_at bX8_code_254 13 rfl
theorem dX8_code_282 : decode cX8_code 282 = .ok (.invokevirtual 674, 3) := zdec_at bX8_code_254 14 rfl
theorem dX8_code_285 : decode cX8_code 285 = .ok (.istore 5, 2) := zdec_at bX8_code_254 15 rfl
theorem bX8_code_287 : zdec cX8_code 287 [(287, .aload_n 0, 1), (288, .invokevirtual 674, 3), (291, .istore 6, 2), (293, .aload_n 0, 1), (294, .iload 4, 2), (296, .invokevirtual 677, 3), (299, .aload_n 0, 1), (300, .iconst 3, 1), (301, .iload_n 3, 1), (302, .iload 6, 2), (304, .iload 5, 2), (306, .invokevirtual 719, 3), (309, .aload_n 0, 1), (310, .iload 5, 2), (312, .invokevirtual 677, 3), (315, .aload_n 0, 1)] = true := by decide +kernel
theorem dX8_code_287 : decode cX8_code 287 = .ok (.aload_n 0, 1) := zdec_at bX8_code_287 0 rfl
theorem dX8_code_288 : decode cX8_code 288 = .ok (.invokevirtual 674, 3) := zdec_at bX8_code_287 1 rfl
theorem dX8_code_291 : decode cX8_code 291 = .ok (.istore 6, 2) := zdec_at bX8_code_287 2 rfl
theorem dX8_code_293 : decode cX8_code 293 = .ok (.aload_n 0, 1) := zdec_at bX8_code_287 3 rfl
theorem dX8_code_294 : decode cX8_code 294 = .ok (.iload 4, 2) := zdec_at bX8_code_287 4 rfl
theorem dX8_code_296 : decode cX8_code 296 = .ok (.invokevirtual 677, 3) := zdec_at bX8_code_287 5 rfl
theorem dX8_code_299 : decode cX8_code 299 = .ok (.aload_n 0, 1) := zdec_at bX8_code_287 6 rfl
theorem dX8_code_300 : decode cX8_code 300 = .ok (.iconst 3, 1) := zdec_at bX8_code_287 7 rfl
theorem dX8_code_301 : decode cX8_code 301 = .ok (.iload_n 3, 1) := zdec_at bX8_code_287 8 rfl
theorem dX8_code_302 : decode cX8_code 302 = .ok (.iload 6, 2) := zdec_at bX8_code_287 9 rfl
theorem dX8_code_304 : decode cX8_code 304 = .ok (.iload 5, 2) := zdec_at bX8_code_287 10 rfl
theorem dX8_code_306 : decode cX8_code 306 = .ok (.invokevirtual 719, 3) := zdec_at bX8_code_287 11 rfl
theorem dX8_code_309 : decode cX8_code 309 = .ok (.aload_n 0, 1) := zdec_at bX8_code_287 12 rfl
theorem dX8_code_310 : decode cX8_code 310 = .ok (.iload 5, 2) := zdec_at bX8_code_287 13 rfl
theorem dX8_code_312 : decode cX8_code 312 = .ok (.invokevirtual 677, 3) := zdec_at bX8_code_287 14 rfl
theorem dX8_code_315 : decode cX8_code 315 = .ok (.aload_n 0, 1) := zdec_at bX8_code_287 15 rfl
theorem bX8_code_316 : zdec cX8_code 316 [(316, .iload_n 2, 1), (317, .invokevirtual 668, 3), (320, .aload_n 0, 1), (321, .bipush 22, 2), (323, .iload 6, 2), (325, .iconst 0, 1), (326, .invokevirtual 615, 3), (329, .aload_n 0, 1), (330, .bipush 21, 2), (332, .iload 4, 2), (334, .iconst 0, 1), (335, .invokevirtual 615, 3), (338, .aload_n 0, 1), (339, .iload 6, 2), (341, .invokevirtual 677, 3), (344, .goto 290, 3)] = true := by decide +kernel
theorem dX8_code_316 : decode cX8_code 316 = .ok (.iload_n 2, 1) := zdec_at bX8_code_316 0 rfl
theorem dX8_code_317 : decode cX8_code 317 = .ok (.invokevirtual 668, 3) := zdec_at bX8_code_316 1 rfl
theorem dX8_code_320 : decode cX8_code 320 = .ok (.aload_n 0, 1) := zdec_at bX8_code_316 2 rfl
theorem dX8_code_321 : decode cX8_code 321 = .ok (.bipush 22, 2) := zdec_at bX8_code_316 3 rfl
theorem dX8_code_323 : decode cX8_code 323 = .ok (.iload 6, 2) := zdec_at bX8_code_316 4 rfl
theorem dX8_code_325 : decode cX8_code 325 = .ok (.iconst 0, 1) := zdec_at bX8_code_316 5 rfl
theorem dX8_code_326 : decode cX8_code 326 = .ok (.invokevirtual 615, 3) := zdec_at bX8_code_316 6 rfl
theorem dX8_code_329 : decode cX8_code 329 = .ok (.aload_n 0, 1) := zdec_at bX8_code_316 7 rfl
theorem dX8_code_330 : decode cX8_code 330 = .ok (.bipush 21, 2) := zdec_at bX8_code_316 8 rfl
theorem dX8_code_332 : decode cX8_code 332 = .ok (.iload 4, 2) := zdec_at bX8_code_316 9 rfl
theorem dX8_code_334 : decode cX8_code 334 = .ok (.iconst 0, 1) := zdec_at bX8_code_316 10 rfl
theorem dX8_code_335 : decode cX8_code 335 = .ok (.invokevirtual 615, 3) := zdec_at bX8_code_316 11 rfl
theorem dX8_code_338 : decode cX8_code 338 = .ok (.aload_n 0, 1) := zdec_at bX8_code_316 12 rfl
theorem dX8_code_339 : decode cX8_code 339 = .ok (.iload 6, 2) := zdec_at bX8_code_316 13 rfl
theorem dX8_code_341 : decode cX8_code 341 = .ok (.invokevirtual 677, 3) := zdec_at bX8_code_316 14 rfl
theorem dX8_code_344 : decode cX8_code 344 = .ok (.goto 290, 3) := zdec_at bX8_code_316 15 rfl
theorem bX8_code_347 : zdec cX8_code 347 [(347, .aload_n 0, 1), (348, .invokevirtual 674, 3), (351, .istore 4, 2), (353, .aload_n 0, 1), (354, .invokevirtual 674, 3), (357, .istore 5, 2), (359, .aload_n 0, 1), (360, .invokevirtual 674, 3), (363, .istore 6, 2), (365, .iload_n 2, 1), (366, .iconst (-1), 1), (367, .if_icmp .eq 8, 3), (370, .aload_n 0, 1), (371, .iload_n 2, 1), (372, .invokevirtual 710, 3), (375, .aload_n 0, 1)] = true := by decide +kernel
theorem dX8_code_347 : decode cX8_code 347 = .ok (.aload_n 0, 1) := zdec_at bX8_code_347 0 rfl
theorem dX8_code_348 : decode cX8_code 348 = .ok (.invokevirtual 674, 3) := zdec_at bX8_code_347 1 rfl
theorem dX8_code_351 : decode cX8_code 351 = .ok (.istore 4, 2) := zdec_at bX8_code_347 2 rfl
theorem dX8_code_353 : decode cX8_code 353 = .ok (.aload_n 0, 1) := zdec_at bX8_code_347 3 rfl
theorem dX8_code_354 : decode cX8_code 354 = .ok (.invokevirtual 674, 3) := zdec_at bX8_code_347 4 rfl
theorem dX8_code_357 : decode cX8_code 357 = .ok (.istore 5, 2) := zdec_at bX8_code_347 5 rfl
theorem dX8_code_359 : decode cX8_code 359 = .ok (.aload_n 0, 1) := zdec_at bX8_code_347 6 rfl
theorem dX8_code_360 : decode cX8_code 360 = .ok (.invokevirtual 674, 3) := zdec_at bX8_code_347 7 rfl
theorem dX8_code_363 : decode cX8_code 363 = .ok (.istore 6, 2) := zdec_at bX8_code_347 8 rfl
theorem dX8_code_365 : decode cX8_code 365 = .ok (.iload_n 2, 1) := zdec_at bX8_code_347 9 rfl
theorem dX8_code_366 : decode cX8_code 366 = .ok (.iconst (-1), 1) := zdec_at bX8_code_347 10 rfl
theorem dX8_code_367 : decode cX8_code 367 = .ok (.if_icmp .eq 8, 3) := zdec_at bX8_code_347 11 rfl
theorem dX8_code_370 : decode cX8_code 370 = .ok (.aload_n 0, 1) := zdec_at bX8_code_347 12 rfl
theorem dX8_code_371 : decode cX8_code 371 = .ok (.iload_n 2, 1) := zdec_at bX8_code_347 13 rfl
theorem dX8_code_372 : decode cX8_code 372 = .ok (.invokevirtual 710, 3) := zdec_at bX8_code_347 14 rfl
theorem dX8_code_375 : decode cX8_code 375 = .ok (.aload_n 0, 1) := zdec_at bX8_code_347 15 rfl
theorem bX8_code_376 : zdec cX8_code 376 [(376, .iload 4, 2), (378, .invokevirtual 677, 3), (381, .iload_n 3, 1), (382, .iconst (-1), 1), (383, .if_icmp .eq 17, 3), (386, .aload_n 0, 1), (387, .iload_n 3, 1), (388, .invokevirtual 668, 3), (391, .aload_n 0, 1), (392, .bipush 22, 2), (394, .iload 6, 2), (396, .iconst 0, 1), (397, .invokevirtual 615, 3), (400, .aload_n 0, 1), (401, .getfield 634, 3), (404, .istore 7, 2)] = true := by decide +kernel
theorem dX8_code_376 : decode cX8_code 376 = .ok (.iload 4, 2) := zdec_at bX8_code_376 0 rfl
theorem dX8_code_378 : decode cX8_code 378 = .ok (.invokevirtual 677, 3) := zdec_at bX8_code_376 1 rfl
theorem dX8_code_381 : decode cX8_code 381 = .ok (.iload_n 3, 1) := zdec_at bX8_code_376 2 rfl
theorem dX8_code_382 : decode cX8_code 382 = .ok (.iconst (-1), 1) := zdec_at bX8_code_376 3 rfl
theorem dX8_code_383 : decode cX8_code 383 = .ok (.if_icmp .eq 17, 3) := zdec_at bX8_code_376 4 rfl
theorem dX8_code_386 : decode cX8_code 386 = .ok (.aload_n 0, 1) := zdec_at bX8_code_376 5 rfl
theorem dX8_code_387 : decode cX8_code 387 = .ok (.iload_n 3, 1) := zdec_at bX8_code_376 6 rfl
theorem dX8_code_388 : decode cX8_code 388 = .ok (.invokevirtual 668, 3) := zdec_at bX8_code_376 7 rfl
theorem dX8_code_391 : decode cX8_code 391 = .ok (.aload_n 0, 1) := zdec_at bX8_code_376 8 rfl
theorem dX8_code_392 : decode cX8_code 392 = .ok (.bipush 22, 2) := zdec_at bX8_code_376 9 rfl
theorem dX8_code_394 : decode cX8_code 394 = .ok (.iload 6, 2) := zdec_at bX8_code_376 10 rfl
theorem dX8_code_396 : decode cX8_code 396 = .ok (.iconst 0, 1) := zdec_at bX8_code_376 11 rfl
theorem dX8_code_397 : decode cX8_code 397 = .ok (.invokevirtual 615, 3) := zdec_at bX8_code_376 12 rfl
theorem dX8_code_400 : decode cX8_code 400 = .ok (.aload_n 0, 1) := zdec_at bX8_code_376 13 rfl
theorem dX8_code_401 : decode cX8_code 401 = .ok (.getfield 634, 3) := zdec_at bX8_code_376 14 rfl
theorem dX8_code_404 : decode cX8_code 404 = .ok (.istore 7, 2) := zdec_at bX8_code_376 15 rfl
theorem bX8_code_406 : zdec cX8_code 406 [(406, .aload_n 0, 1), (407, .getfield 637, 3), (410, .istore 8, 2), (412, .aload_n 0, 1), (413, .iconst 3, 1), (414, .iconst (-1), 1), (415, .iload 6, 2), (417, .iload 5, 2), (419, .invokevirtual 723, 3), (422, .aload_n 0, 1), (423, .aload_n 0, 1), (424, .iload_n 1, 1), (425, .iconst 3, 1), (426, .invokevirtual 644, 3), (429, .invokevirtual 710, 3), (432, .aload_n 0, 1)] = true := by decide +kernel
theorem dX8_code_406 : decode cX8_code 406 = .ok (.aload_n 0, 1) := zdec_at bX8_code_406 0 rfl
theorem dX8_code_407 : decode cX8_code 407 = .ok (.getfield 637, 3) := zdec_at bX8_code_406 1 rfl
theorem dX8_code_410 : decode cX8_code 410 = .ok (.istore 8, 2) := zdec_at bX8_code_406 2 rfl
theorem dX8_code_412 : decode cX8_code 412 = .ok (.aload_n 0, 1) := zdec_at bX8_code_406 3 rfl
theorem dX8_code_413 : decode cX8_code 413 = .ok (.iconst 3, 1) := zdec_at bX8_code_406 4 rfl
theorem dX8_code_414 : decode cX8_code 414 = .ok (.iconst (-1), 1) := zdec_at bX8_code_406 5 rfl
theorem dX8_code_415 : decode cX8_code 415 = .ok (.iload 6, 2) := zdec_at bX8_code_406 6 rfl
theorem dX8_code_417 : decode cX8_code 417 = .ok (.iload 5, 2) := zdec_at bX8_code_406 7 rfl
theorem dX8_code_419 : decode cX8_code 419 = .ok (.invokevirtual 723, 3) := zdec_at bX8_code_406 8 rfl
theorem dX8_code_422 : decode cX8_code 422 = .ok (.aload_n 0, 1) := zdec_at bX8_code_406 9 rfl
theorem dX8_code_423 : decode cX8_code 423 = .ok (.aload_n 0, 1) := zdec_at bX8_code_406 10 rfl
theorem dX8_code_424 : decode cX8_code 424 = .ok (.iload_n 1, 1) := zdec_at bX8_code_406 11 rfl
theorem dX8_code_425 : decode cX8_code 425 = .ok (.iconst 3, 1) := zdec_at bX8_code_406 12 rfl
theorem dX8_code_426 : decode cX8_code 426 = .ok (.invokevirtual 644, 3) := zdec_at bX8_code_406 13 rfl
theorem dX8_code_429 : decode cX8_code 429 = .ok (.invokevirtual 710, 3) := zdec_at bX8_code_406 14 rfl
theorem dX8_code_432 : decode cX8_code 432 = .ok (.aload_n 0, 1) := zdec_at bX8_code_406 15 rfl
theorem bX8_code_433 : zdec cX8_code 433 [(433, .iload 7, 2), (435, .iload 8, 2), (437, .invokevirtual 726, 3), (440, .aload_n 0, 1), (441, .iload 5, 2), (443, .invokevirtual 677, 3), (446, .aload_n 0, 1), (447, .iload_n 1, 1), (448, .iconst 2, 1), (449, .invokevirtual 644, 3), (452, .iconst (-1), 1), (453, .if_icmp .eq 19, 3), (456, .aload_n 0, 1), (457, .aload_n 0, 1), (458, .iload_n 1, 1), (459, .iconst 2, 1)] = true := by decide +kernel
theorem dX8_code_433 : decode cX8_code 433 = .ok (.iload 7, 2) := zdec_at bX8_code_433 0 rfl
theorem dX8_code_435 : decode cX8_code 435 = .ok (.iload 8, 2) := zdec_at bX8_code_433 1 rfl
theorem dX8_code_437 : decode cX8_code 437 = .ok (.invokevirtual 726, 3) := zdec_at bX8_code_433 2 rfl
theorem dX8_code_440 : decode cX8_code 440 = .ok (.aload_n 0, 1) := zdec_at bX8_code_433 3 rfl
theorem dX8_code_441 : decode cX8_code 441 = .ok (.iload 5, 2) := zdec_at bX8_code_433 4 rfl
theorem dX8_code_443 : decode cX8_code 443 = .ok (.invokevirtual 677, 3) := zdec_at bX8_code_433 5 rfl
theorem dX8_code_446 : decode cX8_code 446 = .ok (.aload_n 0, 1) := zdec_at bX8_code_433 6 rfl
theorem dX8_code_447 : decode cX8_code 447 = .ok (.iload_n 1, 1) := zdec_at bX8_code_433 7 rfl
theorem dX8_code_448 : decode cX8_code 448 = .ok (.iconst 2, 1) := zdec_at bX8_code_433 8 rfl
theorem dX8_code_449 : decode cX8_code 449 = .ok (.invokevirtual 644, 3) := zdec_at bX8_code_433 9 rfl
theorem dX8_code_452 : decode cX8_code 452 = .ok (.iconst (-1), 1) := zdec_at bX8_code_433 10 rfl
theorem dX8_code_453 : decode cX8_code 453 = .ok (.if_icmp .eq 19, 3) := zdec_at bX8_code_433 11 rfl
theorem dX8_code_456 : decode cX8_code 456 = .ok (.aload_n 0, 1) := zdec_at bX8_code_433 12 rfl
theorem dX8_code_457 : decode cX8_code 457 = .ok (.aload_n 0, 1) := zdec_at bX8_code_433 13 rfl
theorem dX8_code_458 : decode cX8_code 458 = .ok (.iload_n 1, 1) := zdec_at bX8_code_433 14 rfl
theorem dX8_code_459 : decode cX8_code 459 = .ok (.iconst 2, 1) := zdec_at bX8_code_433 15 rfl
theorem bX8_code_460 : zdec cX8_code 460 [(460, .invokevirtual 644, 3), (463, .invokevirtual 668, 3), (466, .aload_n 0, 1), (467, .bipush 17, 2), (469, .invokevirtual 666, 3), (472, .aload_n 0, 1), (473, .bipush 21, 2), (475, .iload 4, 2), (477, .iconst 0, 1), (478, .invokevirtual 615, 3), (481, .aload_n 0, 1), (482, .iload 6, 2), (484, .invokevirtual 677, 3), (487, .goto 147, 3), (490, .aload_n 0, 1), (491, .invokevirtual 674, 3)] = true := by decide +kernel
theorem dX8_code_460 : decode cX8_code 460 = .ok (.invokevirtual 644, 3) := zdec_at bX8_code_460 0 rfl
theorem dX8_code_463 : decode cX8_code 463 = .ok (.invokevirtual 668, 3) := zdec_at bX8_code_460 1 rfl
theorem dX8_code_466 : decode cX8_code 466 = .ok (.aload_n 0, 1) := zdec_at bX8_code_460 2 rfl
theorem dX8_code_467 : decode cX8_code 467 = .ok (.bipush 17, 2) := zdec_at bX8_code_460 3 rfl
theorem dX8_code_469 : decode cX8_code 469 = .ok (.invokevirtual 666, 3) := zdec_at bX8_code_460 4 rfl
theorem dX8_code_472 : decode cX8_code 472 = .ok (.aload_n 0, 1) := zdec_at bX8_code_460 5 rfl
theorem dX8_code_473 : decode cX8_code 473 = .ok (.bipush 21, 2) := zdec_at bX8_code_460 6 rfl
theorem dX8_code_475 : decode cX8_code 475 = .ok (.iload 4, 2) := zdec_at bX8_code_460 7 rfl
theorem dX8_code_477 : decode cX8_code 477 = .ok (.iconst 0, 1) := zdec_at bX8_code_460 8 rfl
theorem dX8_code_478 : decode cX8_code 478 = .ok (.invokevirtual 615, 3) := zdec_at bX8_code_460 9 rfl
theorem dX8_code_481 : decode cX8_code 481 = .ok (.aload_n 0, 1) := zdec_at bX8_code_460 10 rfl
theorem dX8_code_482 : decode cX8_code 482 = .ok (.iload 6, 2) := zdec_at bX8_code_460 11 rfl
theorem dX8_code_484 : decode cX8_code 484 = .ok (.invokevirtual 677, 3) := zdec_at bX8_code_460 12 rfl
theorem dX8_code_487 : decode cX8_code 487 = .ok (.goto 147, 3) := zdec_at bX8_code_460 13 rfl
theorem dX8_code_490 : decode cX8_code 490 = .ok (.aload_n 0, 1) := zdec_at bX8_code_460 14 rfl
theorem dX8_code_491 : decode cX8_code 491 = .ok (.invokevirtual 674, 3) := zdec_at bX8_code_460 15 rfl
theorem bX8_code_494 : zdec cX8_code 494 [(494, .istore 4, 2), (496, .aload_n 0, 1), (497, .invokevirtual 674, 3), (500, .istore 5, 2), (502, .aload_n 0, 1), (503, .iload_n 3, 1), (504, .invokevirtual 668, 3), (507, .aload_n 0, 1), (508, .bipush 29, 2), (510, .invokevirtual 666, 3), (513, .aload_n 0, 1), (514, .iload 4, 2), (516, .invokevirtual 677, 3), (519, .aload_n 0, 1), (520, .bipush 30, 2), (522, .iload 5, 2)] = true := by decide +kernel
theorem dX8_code_494 : decode cX8_code 494 = .ok (.istore 4, 2) := zdec_at bX8_code_494 0 rfl
theorem dX8_code_496 : decode cX8_code 496 = .ok (.aload_n 0, 1) := zdec_at bX8_code_494 1 rfl
theorem dX8_code_497 : decode cX8_code 497 = .ok (.invokevirtual 674, 3) := zdec_at bX8_code_494 2 rfl
theorem dX8_code_500 : decode cX8_code 500 = .ok (.istore 5, 2) := zdec_at bX8_code_494 3 rfl
theorem dX8_code_502 : decode cX8_code 502 = .ok (.aload_n 0, 1) := zdec_at bX8_code_494 4 rfl
theorem dX8_code_503 : decode cX8_code 503 = .ok (.iload_n 3, 1) := zdec_at bX8_code_494 5 rfl
theorem dX8_code_504 : decode cX8_code 504 = .ok (.invokevirtual 668, 3) := zdec_at bX8_code_494 6 rfl
theorem dX8_code_507 : decode cX8_code 507 = .ok (.aload_n 0, 1) := zdec_at bX8_code_494 7 rfl
theorem dX8_code_508 : decode cX8_code 508 = .ok (.bipush 29, 2) := zdec_at bX8_code_494 8 rfl
theorem dX8_code_510 : decode cX8_code 510 = .ok (.invokevirtual 666, 3) := zdec_at bX8_code_494 9 rfl
theorem dX8_code_513 : decode cX8_code 513 = .ok (.aload_n 0, 1) := zdec_at bX8_code_494 10 rfl
theorem dX8_code_514 : decode cX8_code 514 = .ok (.iload 4, 2) := zdec_at bX8_code_494 11 rfl
theorem dX8_code_516 : decode cX8_code 516 = .ok (.invokevirtual 677, 3) := zdec_at bX8_code_494 12 rfl
theorem dX8_code_519 : decode cX8_code 519 = .ok (.aload_n 0, 1) := zdec_at bX8_code_494 13 rfl
theorem dX8_code_520 : decode cX8_code 520 = .ok (.bipush 30, 2) := zdec_at bX8_code_494 14 rfl
theorem dX8_code_522 : decode cX8_code 522 = .ok (.iload 5, 2) := zdec_at bX8_code_494 15 rfl
theorem bX8_code_524 : zdec cX8_code 524 [(524, .iconst 0, 1), (525, .invokevirtual 615, 3), (528, .aload_n 0, 1), (529, .iload_n 2, 1), (530, .invokevirtual 704, 3), (533, .aload_n 0, 1), (534, .bipush 17, 2), (536, .invokevirtual 666, 3), (539, .aload_n 0, 1), (540, .iconst 4, 1), (541, .aload_n 0, 1), (542, .iload_n 1, 1), (543, .iconst 2, 1), (544, .invokevirtual 644, 3), (547, .iload 5, 2), (549, .iload 4, 2)] = true := by decide +kernel
theorem dX8_code_524 : decode cX8_code 524 = .ok (.iconst 0, 1) := zdec_at bX8_code_524 0 rfl
theorem dX8_code_525 : decode cX8_code 525 = .ok (.invokevirtual 615, 3) := zdec_at bX8_code_524 1 rfl
theorem dX8_code_528 : decode cX8_code 528 = .ok (.aload_n 0, 1) := zdec_at bX8_code_524 2 rfl
theorem dX8_code_529 : decode cX8_code 529 = .ok (.iload_n 2, 1) := zdec_at bX8_code_524 3 rfl
theorem dX8_code_530 : decode cX8_code 530 = .ok (.invokevirtual 704, 3) := zdec_at bX8_code_524 4 rfl
theorem dX8_code_533 : decode cX8_code 533 = .ok (.aload_n 0, 1) := zdec_at bX8_code_524 5 rfl
theorem dX8_code_534 : decode cX8_code 534 = .ok (.bipush 17, 2) := zdec_at bX8_code_524 6 rfl
theorem dX8_code_536 : decode cX8_code 536 = .ok (.invokevirtual 666, 3) := zdec_at bX8_code_524 7 rfl
theorem dX8_code_539 : decode cX8_code 539 = .ok (.aload_n 0, 1) := zdec_at bX8_code_524 8 rfl
theorem dX8_code_540 : decode cX8_code 540 = .ok (.iconst 4, 1) := zdec_at bX8_code_524 9 rfl
theorem dX8_code_541 : decode cX8_code 541 = .ok (.aload_n 0, 1) := zdec_at bX8_code_524 10 rfl
theorem dX8_code_542 : decode cX8_code 542 = .ok (.iload_n 1, 1) := zdec_at bX8_code_524 11 rfl
theorem dX8_code_543 : decode cX8_code 543 = .ok (.iconst 2, 1) := zdec_at bX8_code_524 12 rfl
theorem dX8_code_544 : decode cX8_code 544 = .ok (.invokevirtual 644, 3) := zdec_at bX8_code_524 13 rfl
theorem dX8_code_547 : decode cX8_code 547 = .ok (.iload 5, 2) := zdec_at bX8_code_524 14 rfl
theorem dX8_code_549 : decode cX8_code 549 = .ok (.iload 4, 2) := zdec_at bX8_code_524 15 rfl
theorem bX8_code_551 : zdec cX8_code 551 [(551, .invokevirtual 719, 3), (554, .aload_n 0, 1), (555, .bipush 21, 2), (557, .iload 4, 2), (559, .iconst 0, 1), (560, .invokevirtual 615, 3), (563, .aload_n 0, 1), (564, .iload 5, 2), (566, .invokevirtual 677, 3), (569, .goto 65, 3), (572, .aload_n 0, 1), (573, .aload_n 0, 1), (574, .getfield 42, 3), (577, .iload_n 1, 1), (578, .iaload, 1), (579, .bipush 30, 2)] = true := by decide +kernel
theorem dX8_code_551 : decode cX8_code 551 = .ok (.invokevirtual 719, 3) := zdec_at bX8_code_551 0 rfl
theorem dX8_code_554 : decode cX8_code 554 = .ok (.aload_n 0, 1) := zdec_at bX8_code_551 1 rfl
theorem dX8_code_555 : decode cX8_code 555 = .ok (.bipush 21, 2) := zdec_at bX8_code_551 2 rfl
theorem dX8_code_557 : decode cX8_code 557 = .ok (.iload 4, 2) := zdec_at bX8_code_551 3 rfl
theorem dX8_code_559 : decode cX8_code 559 = .ok (.iconst 0, 1) := zdec_at bX8_code_551 4 rfl
theorem dX8_code_560 : decode cX8_code 560 = .ok (.invokevirtual 615, 3) := zdec_at bX8_code_551 5 rfl
theorem dX8_code_563 : decode cX8_code 563 = .ok (.aload_n 0, 1) := zdec_at bX8_code_551 6 rfl
theorem dX8_code_564 : decode cX8_code 564 = .ok (.iload 5, 2) := zdec_at bX8_code_551 7 rfl
theorem dX8_code_566 : decode cX8_code 566 = .ok (.invokevirtual 677, 3) := zdec_at bX8_code_551 8 rfl
theorem dX8_code_569 : decode cX8_code 569 = .ok (.goto 65, 3) := zdec_at bX8_code_551 9 rfl
theorem dX8_code_572 : decode cX8_code 572 = .ok (.aload_n 0, 1) := zdec_at bX8_code_551 10 rfl
theorem dX8_code_573 : decode cX8_code 573 = .ok (.aload_n 0, 1) := zdec_at bX8_code_551 11 rfl
theorem dX8_code_574 : decode cX8_code 574 = .ok (.getfield 42, 3) := zdec_at bX8_code_551 12 rfl
theorem dX8_code_577 : decode cX8_code 577 = .ok (.iload_n 1, 1) := zdec_at bX8_code_551 13 rfl
theorem dX8_code_578 : decode cX8_code 578 = .ok (.iaload, 1) := zdec_at bX8_code_551 14 rfl
theorem dX8_code_579 : decode cX8_code 579 = .ok (.bipush 30, 2) := zdec_at bX8_code_551 15 rfl
theorem bX8_code_581 : zdec cX8_code 581 [(581, .if_icmp .ne 7, 3), (584, .iconst 1, 1), (585, .goto 4, 3), (588, .iconst 0, 1), (589, .invokevirtual 729, 3), (592, .goto 42, 3), (595, .aload_n 0, 1), (596, .iload_n 2, 1), (597, .invokevirtual 732, 3), (600, .goto 34, 3), (603, .aload_n 0, 1), (604, .iload_n 2, 1), (605, .invokevirtual 668, 3), (608, .aload_n 0, 1), (609, .bipush 26, 2), (611, .invokevirtual 666, 3)] = true := by decide +kernel
theorem dX8_code_581 : decode cX8_code 581 = .ok (.if_icmp .ne 7, 3) := zdec_at bX8_code_581 0 rfl
theorem dX8_code_584 : decode cX8_code 584 = .ok (.iconst 1, 1) := zdec_at bX8_code_581 1 rfl
theorem dX8_code_585 : decode cX8_code 585 = .ok (.goto 4, 3) := zdec_at bX8_code_581 2 rfl
theorem dX8_code_588 : decode cX8_code 588 = .ok (.iconst 0, 1) := zdec_at bX8_code_581 3 rfl
theorem dX8_code_589 : decode cX8_code 589 = .ok (.invokevirtual 729, 3) := zdec_at bX8_code_581 4 rfl
theorem dX8_code_592 : decode cX8_code 592 = .ok (.goto 42, 3) := zdec_at bX8_code_581 5 rfl
theorem dX8_code_595 : decode cX8_code 595 = .ok (.aload_n 0, 1) := zdec_at bX8_code_581 6 rfl
theorem dX8_code_596 : decode cX8_code 596 = .ok (.iload_n 2, 1) := zdec_at bX8_code_581 7 rfl
theorem dX8_code_597 : decode cX8_code 597 = .ok (.invokevirtual 732, 3) := zdec_at bX8_code_581 8 rfl
theorem dX8_code_600 : decode cX8_code 600 = .ok (.goto 34, 3) := zdec_at bX8_code_581 9 rfl
theorem dX8_code_603 : decode cX8_code 603 = .ok (.aload_n 0, 1) := zdec_at bX8_code_581 10 rfl
theorem dX8_code_604 : decode cX8_code 604 = .ok (.iload_n 2, 1) := zdec_at bX8_code_581 11 rfl
theorem dX8_code_605 : decode cX8_code 605 = .ok (.invokevirtual 668, 3) := zdec_at bX8_code_581 12 rfl
theorem dX8_code_608 : decode cX8_code 608 = .ok (.aload_n 0, 1) := zdec_at bX8_code_581 13 rfl
theorem dX8_code_609 : decode cX8_code 609 = .ok (.bipush 26, 2) := zdec_at bX8_code_581 14 rfl
theorem dX8_code_611 : decode cX8_code 611 = .ok (.invokevirtual 666, 3) := zdec_at bX8_code_581 15 rfl
theorem bX8_code_614 : zdec cX8_code 614 [(614, .goto 20, 3), (617, .aload_n 0, 1), (618, .iload_n 1, 1), (619, .invokevirtual 735, 3), (622, .goto 12, 3), (625, .aload_n 0, 1), (626, .iload_n 2, 1), (627, .iload_n 3, 1), (628, .invokevirtual 738, 3), (631, .goto 3, 3), (634, .return_, 1)] = true := by decide +kernel
theorem dX8_code_614 : decode cX8_code 614 = .ok (.goto 20, 3) := zdec_at bX8_code_614 0 rfl
theorem dX8_code_617 : decode cX8_code 617 = .ok (.aload_n 0, 1) := zdec_at bX8_code_614 1 rfl
theorem dX8_code_618 : decode cX8_code 618 = .ok (.iload_n 1, 1) := zdec_at bX8_code_614 2 rfl
theorem dX8_code_619 : decode cX8_code 619 = .ok (.invokevirtual 735, 3) := zdec_at bX8_code_614 3 rfl
theorem dX8_code_622 : decode cX8_code 622 = .ok (.goto 12, 3) := zdec_at bX8_code_614 4 rfl
theorem dX8_code_625 : decode cX8_code 625 = .ok (.aload_n 0, 1) := zdec_at bX8_code_614 5 rfl
theorem dX8_code_626 : decode cX8_code 626 = .ok (.iload_n 2, 1) := zdec_at bX8_code_614 6 rfl
theorem dX8_code_627 : decode cX8_code 627 = .ok (.iload_n 3, 1) := zdec_at bX8_code_614 7 rfl
theorem dX8_code_628 : decode cX8_code 628 = .ok (.invokevirtual 738, 3) := zdec_at bX8_code_614 8 rfl
theorem dX8_code_631 : decode cX8_code 631 = .ok (.goto 3, 3) := zdec_at bX8_code_614 9 rfl
theorem dX8_code_634 : decode cX8_code 634 = .ok (.return_, 1) := zdec_at bX8_code_614 10 rfl
theorem sX8_code_0 {E : zE} {d : Nat} {Q : zO → zM → Prop} (M : zM) (l1 : Int32) (k : if (gi M 97 47) = 0 then (Zm E YX8_part d M (zargs 0 [vr (some (97, 1, 0)), vi l1, vi (0 : Int32)]) 0 [] (zma E YX8_code (d + 1) [(0, vr (some (97, 1, 0))), (1, vi l1)] 11 3 [] Q)) else (Q (.inl none) M)) : Zm E YX8_code (d + 1) M [(0, vr (some (97, 1, 0))), (1, vi l1)] 0 [] Q := by
  refine Zm.l (fun _ _ k_ => z_aload_n dX8_code_0 rfl rfl k_) ?_
  refine zm_geti dX8_code_1 fsX8_609_1 (by decide) (by decide) ?_
  refine Zm.br (fun _ _ k1_ k2_ => z_if_eq (tgt := 8) dX8_code_4 rfl k1_ k2_) (fun h_ => ?_) (fun h_ => ?_)
  · have k := zit h_ k
    refine Zm.l (fun _ _ k_ => z_aload_n dX8_code_8 rfl rfl k_) ?_
    refine Zm.l (fun _ _ k_ => z_iload_n dX8_code_9 rfl rfl k_) ?_
    refine Zm.l (fun _ _ k_ => z_iconst (v := 0) dX8_code_10 rfl k_) ?_
    exact zm_callV (as := [vi l1, vi (0 : Int32)]) (st := []) dX8_code_11 vsX8_644_1 (Nat.le_refl _) (Nat.le_of_ble_eq_true rfl) (Nat.le_of_ble_eq_true rfl) rfl k
  · have k := zif h_ k
    exact zm_vret dX8_code_7 rfl k
theorem sX8_code_14 {E : zE} {d : Nat} {Q : zO → zM → Prop} (M : zM) (l1 : Int32) (s0 : Int32) (k : Zm E YX8_part d M (zargs 0 [vr (some (97, 1, 0)), vi l1, vi (1 : Int32)]) 0 [] (zma E YX8_code (d + 1) [(0, vr (some (97, 1, 0))), (1, vi l1), (2, vi s0)] 18 3 [] Q)) : Zm E YX8_code (d + 1) M [(0, vr (some (97, 1, 0))), (1, vi l1)] 14 [vi s0] Q := by
  refine Zm.l (fun _ _ k_ => z_ist_n dX8_code_14 rfl (by decide) (lv' := [(0, vr (some (97, 1, 0))), (1, vi l1), (2, vi s0)]) rfl k_) ?_
  refine Zm.l (fun _ _ k_ => z_aload_n dX8_code_15 rfl rfl k_) ?_
  refine Zm.l (fun _ _ k_ => z_iload_n dX8_code_16 rfl rfl k_) ?_
  refine Zm.l (fun _ _ k_ => z_iconst (v := 1) dX8_code_17 rfl k_) ?_
  exact zm_callV (as := [vi l1, vi (1 : Int32)]) (st := []) dX8_code_18 vsX8_644_1 (Nat.le_refl _) (Nat.le_of_ble_eq_true rfl) (Nat.le_of_ble_eq_true rfl) rfl k
theorem sX8_code_21 {E : zE} {d : Nat} {Q : zO → zM → Prop} (M : zM) (l1 : Int32) (l2 : Int32) (s0 : Int32) (k : vp_in l1 12000 ∧ (if (gi M 108 (l1).toNatClampNeg) = 20 then (Zm E YX8_codes d M (zargs 0 [vr (some (97, 1, 0)), vi l2]) 0 [] (zma E YX8_code (d + 1) [] 106 3 [] Q)) else (if (gi M 108 (l1).toNatClampNeg) = 21 then (Zm E YX8_declare d M (zargs 0 [vr (some (97, 1, 0)), vi l2]) 0 [] (zma E YX8_code (d + 1) [] 114 3 [] Q)) else (if (gi M 108 (l1).toNatClampNeg) = 22 then (Q (.inl none) M) else (if (gi M 108 (l1).toNatClampNeg) = 23 then (Zm E YX8_value d M (zargs 0 [vr (some (97, 1, 0)), vi l2]) 0 [] (zma E YX8_code (d + 1) [(0, vr (some (97, 1, 0)))] 122 3 [] Q)) else (if (gi M 108 (l1).toNatClampNeg) = 24 then (Zm E YX8_mark d M (zargs 0 [vr (some (97, 1, 0))]) 0 [] (zma E YX8_code (d + 1) [(0, vr (some (97, 1, 0))), (1, vi l1), (2, vi l2), (3, vi s0)] 135 3 [] Q)) else (if (gi M 108 (l1).toNatClampNeg) = 25 then (Zm E YX8_mark d M (zargs 0 [vr (some (97, 1, 0))]) 0 [] (zma E YX8_code (d + 1) [(0, vr (some (97, 1, 0))), (2, vi l2), (3, vi s0)] 216 3 [] Q)) else (if (gi M 108 (l1).toNatClampNeg) = 26 then (Zm E YX8_mark d M (zargs 0 [vr (some (97, 1, 0))]) 0 [] (zma E YX8_code (d + 1) [(0, vr (some (97, 1, 0))), (2, vi l2), (3, vi s0)] 276 3 [] Q)) else (if (gi M 108 (l1).toNatClampNeg) = 27 then (Zm E YX8_mark d M (zargs 0 [vr (some (97, 1, 0))]) 0 [] (zma E YX8_code (d + 1) [(0, vr (some (97, 1, 0))), (1, vi l1), (2, vi l2), (3, vi s0)] 348 3 [] Q)) else (if (gi M 108 (l1).toNatClampNeg) = 28 then (Zm E YX8_mark d M (zargs 0 [vr (some (97, 1, 0))]) 0 [] (zma E YX8_code (d + 1) [(0, vr (some (97, 1, 0))), (1, vi l1), (2, vi l2), (3, vi s0)] 491 3 [] Q)) else (if (gi M 108 (l1).toNatClampNeg) = 29 then (vp_in l1 12000 ∧ (if (gi M 108 (l1).toNatClampNeg) = (30 : Int32) then (Zm E YX8_codeGo d M (zargs 0 [vr (some (97, 1, 0)), vi (1 : Int32)]) 0 [] (zma E YX8_code (d + 1) [] 589 3 [] Q)) else (Zm E YX8_codeGo d M (zargs 0 [vr (some (97, 1, 0)), vi (0 : Int32)]) 0 [] (zma E YX8_code (d + 1) [] 589 3 [] Q)))) else (if (gi M 108 (l1).toNatClampNeg) = 30 then (vp_in l1 12000 ∧ (if (gi M 108 (l1).toNatClampNeg) = (30 : Int32) then (Zm E YX8_codeGo d M (zargs 0 [vr (some (97, 1, 0)), vi (1 : Int32)]) 0 [] (zma E YX8_code (d + 1) [] 589 3 [] Q)) else (Zm E YX8_codeGo d M (zargs 0 [vr (some (97, 1, 0)), vi (0 : Int32)]) 0 [] (zma E YX8_code (d + 1) [] 589 3 [] Q)))) else (if (gi M 108 (l1).toNatClampNeg) = 31 then (Zm E YX8_codeBack d M (zargs 0 [vr (some (97, 1, 0)), vi l2]) 0 [] (zma E YX8_code (d + 1) [] 597 3 [] Q)) else (if (gi M 108 (l1).toNatClampNeg) = 32 then (Zm E YX8_value d M (zargs 0 [vr (some (97, 1, 0)), vi l2]) 0 [] (zma E YX8_code (d + 1) [(0, vr (some (97, 1, 0)))] 605 3 [] Q)) else (if (gi M 108 (l1).toNatClampNeg) = 33 then (Zm E YX8_codeAttempt d M (zargs 0 [vr (some (97, 1, 0)), vi l1]) 0 [] (zma E YX8_code (d + 1) [] 619 3 [] Q)) else (if (gi M 108 (l1).toNatClampNeg) = 34 then (Zm E YX8_codeCases d M (zargs 0 [vr (some (97, 1, 0)), vi l2, vi s0]) 0 [] (zma E YX8_code (d + 1) [] 628 3 [] Q)) else (Q (.inl none) M))))))))))))))))) : Zm E YX8_code (d + 1) M [(0, vr (some (97, 1, 0))), (1, vi l1), (2, vi l2)] 21 [vi s0] Q := by
  refine Zm.l (fun _ _ k_ => z_ist_n dX8_code_21 rfl (by decide) (lv' := [(0, vr (some (97, 1, 0))), (1, vi l1), (2, vi l2), (3, vi s0)]) rfl k_) ?_
  refine Zm.l (fun _ _ k_ => z_aload_n dX8_code_22 rfl rfl k_) ?_
  refine zm_getr 10 dX8_code_23 fsX8_42_1 rfl ?_
  refine Zm.l (fun _ _ k_ => z_iload_n dX8_code_26 rfl rfl k_) ?_
  obtain ⟨b_, k⟩ := k
  refine zm_iald dX8_code_27 b_ (by decide) (by decide) ?_
  by_cases h0_ : (gi M 108 (l1).toNatClampNeg) = 20
  · have k := zit h0_ k
    refine Zm.l (fun _ _ k_ => z_tableIn (off := 76) (tgt := 104) dX8_code_28 (by rw [h0_]; decide) (by rw [h0_]; decide) (by rw [h0_]; rfl) rfl k_) ?_
    refine Zm.l (fun _ _ k_ => z_aload_n dX8_code_104 rfl rfl k_) ?_
    refine Zm.l (fun _ _ k_ => z_iload_n dX8_code_105 rfl rfl k_) ?_
    refine Zm.pick [] rfl ?_
    exact zm_callV (as := [vi l2]) (st := []) dX8_code_106 vsX8_713_1 (Nat.le_refl _) (Nat.le_of_ble_eq_true rfl) (Nat.le_of_ble_eq_true rfl) rfl k
  · have k := zif h0_ k
    by_cases h1_ : (gi M 108 (l1).toNatClampNeg) = 21
    · have k := zit h1_ k
      refine Zm.l (fun _ _ k_ => z_tableIn (off := 84) (tgt := 112) dX8_code_28 (by rw [h1_]; decide) (by rw [h1_]; decide) (by rw [h1_]; rfl) rfl k_) ?_
      refine Zm.l (fun _ _ k_ => z_aload_n dX8_code_112 rfl rfl k_) ?_
      refine Zm.l (fun _ _ k_ => z_iload_n dX8_code_113 rfl rfl k_) ?_
      refine Zm.pick [] rfl ?_
      exact zm_callV (as := [vi l2]) (st := []) dX8_code_114 vsX8_716_1 (Nat.le_refl _) (Nat.le_of_ble_eq_true rfl) (Nat.le_of_ble_eq_true rfl) rfl k
    · have k := zif h1_ k
      by_cases h2_ : (gi M 108 (l1).toNatClampNeg) = 22
      · have k := zit h2_ k
        refine Zm.l (fun _ _ k_ => z_tableIn (off := 606) (tgt := 634) dX8_code_28 (by rw [h2_]; decide) (by rw [h2_]; decide) (by rw [h2_]; rfl) rfl k_) ?_
        exact zm_vret dX8_code_634 rfl k
      · have k := zif h2_ k
        by_cases h3_ : (gi M 108 (l1).toNatClampNeg) = 23
        · have k := zit h3_ k
          refine Zm.l (fun _ _ k_ => z_tableIn (off := 92) (tgt := 120) dX8_code_28 (by rw [h3_]; decide) (by rw [h3_]; decide) (by rw [h3_]; rfl) rfl k_) ?_
          refine Zm.l (fun _ _ k_ => z_aload_n dX8_code_120 rfl rfl k_) ?_
          refine Zm.l (fun _ _ k_ => z_iload_n dX8_code_121 rfl rfl k_) ?_
          refine Zm.pick [0] rfl ?_
          exact zm_callV (as := [vi l2]) (st := []) dX8_code_122 vsX8_668_1 (Nat.le_refl _) (Nat.le_of_ble_eq_true rfl) (Nat.le_of_ble_eq_true rfl) rfl k
        · have k := zif h3_ k
          by_cases h4_ : (gi M 108 (l1).toNatClampNeg) = 24
          · have k := zit h4_ k
            refine Zm.l (fun _ _ k_ => z_tableIn (off := 106) (tgt := 134) dX8_code_28 (by rw [h4_]; decide) (by rw [h4_]; decide) (by rw [h4_]; rfl) rfl k_) ?_
            refine Zm.l (fun _ _ k_ => z_aload_n dX8_code_134 rfl rfl k_) ?_
            exact zm_callV (as := []) (st := []) dX8_code_135 vsX8_674_1 (Nat.le_refl _) (Nat.le_of_ble_eq_true rfl) (Nat.le_of_ble_eq_true rfl) rfl k
          · have k := zif h4_ k
            by_cases h5_ : (gi M 108 (l1).toNatClampNeg) = 25
            · have k := zit h5_ k
              refine Zm.l (fun _ _ k_ => z_tableIn (off := 187) (tgt := 215) dX8_code_28 (by rw [h5_]; decide) (by rw [h5_]; decide) (by rw [h5_]; rfl) rfl k_) ?_
              refine Zm.l (fun _ _ k_ => z_aload_n dX8_code_215 rfl rfl k_) ?_
              refine Zm.pick [0, 2, 3] rfl ?_
              exact zm_callV (as := []) (st := []) dX8_code_216 vsX8_674_1 (Nat.le_refl _) (Nat.le_of_ble_eq_true rfl) (Nat.le_of_ble_eq_true rfl) rfl k
            · have k := zif h5_ k
              by_cases h6_ : (gi M 108 (l1).toNatClampNeg) = 26
              · have k := zit h6_ k
                refine Zm.l (fun _ _ k_ => z_tableIn (off := 247) (tgt := 275) dX8_code_28 (by rw [h6_]; decide) (by rw [h6_]; decide) (by rw [h6_]; rfl) rfl k_) ?_
                refine Zm.l (fun _ _ k_ => z_aload_n dX8_code_275 rfl rfl k_) ?_
                refine Zm.pick [0, 2, 3] rfl ?_
                exact zm_callV (as := []) (st := []) dX8_code_276 vsX8_674_1 (Nat.le_refl _) (Nat.le_of_ble_eq_true rfl) (Nat.le_of_ble_eq_true rfl) rfl k
              · have k := zif h6_ k
                by_cases h7_ : (gi M 108 (l1).toNatClampNeg) = 27
                · have k := zit h7_ k
                  refine Zm.l (fun _ _ k_ => z_tableIn (off := 319) (tgt := 347) dX8_code_28 (by rw [h7_]; decide) (by rw [h7_]; decide) (by rw [h7_]; rfl) rfl k_) ?_
                  refine Zm.l (fun _ _ k_ => z_aload_n dX8_code_347 rfl rfl k_) ?_
                  exact zm_callV (as := []) (st := []) dX8_code_348 vsX8_674_1 (Nat.le_refl _) (Nat.le_of_ble_eq_true rfl) (Nat.le_of_ble_eq_true rfl) rfl k
                · have k := zif h7_ k
                  by_cases h8_ : (gi M 108 (l1).toNatClampNeg) = 28
                  · have k := zit h8_ k
                    refine Zm.l (fun _ _ k_ => z_tableIn (off := 462) (tgt := 490) dX8_code_28 (by rw [h8_]; decide) (by rw [h8_]; decide) (by rw [h8_]; rfl) rfl k_) ?_
                    refine Zm.l (fun _ _ k_ => z_aload_n dX8_code_490 rfl rfl k_) ?_
                    exact zm_callV (as := []) (st := []) dX8_code_491 vsX8_674_1 (Nat.le_refl _) (Nat.le_of_ble_eq_true rfl) (Nat.le_of_ble_eq_true rfl) rfl k
                  · have k := zif h8_ k
                    by_cases h9_ : (gi M 108 (l1).toNatClampNeg) = 29
                    · have k := zit h9_ k
                      refine Zm.l (fun _ _ k_ => z_tableIn (off := 544) (tgt := 572) dX8_code_28 (by rw [h9_]; decide) (by rw [h9_]; decide) (by rw [h9_]; rfl) rfl k_) ?_
                      refine Zm.l (fun _ _ k_ => z_aload_n dX8_code_572 rfl rfl k_) ?_
                      refine Zm.l (fun _ _ k_ => z_aload_n dX8_code_573 rfl rfl k_) ?_
                      refine zm_getr 10 dX8_code_574 fsX8_42_1 rfl ?_
                      refine Zm.l (fun _ _ k_ => z_iload_n dX8_code_577 rfl rfl k_) ?_
                      obtain ⟨b_, k⟩ := k
                      refine zm_iald dX8_code_578 b_ (by decide) (by decide) ?_
                      refine Zm.l (fun _ _ k_ => z_bipush (v := 30) dX8_code_579 rfl k_) ?_
                      refine Zm.brn (fun _ _ k1_ k2_ => z_icmp_ne (tgt := 588) dX8_code_581 rfl k1_ k2_) (fun h_ => ?_) (fun h_ => ?_)
                      · have k := zif h_ k
                        refine Zm.l (fun _ _ k_ => z_iconst (v := 0) dX8_code_588 rfl k_) ?_
                        refine Zm.pick [] rfl ?_
                        exact zm_callV (as := [vi (0 : Int32)]) (st := []) dX8_code_589 vsX8_729_1 (Nat.le_refl _) (Nat.le_of_ble_eq_true rfl) (Nat.le_of_ble_eq_true rfl) rfl k
                      · have k := zit h_ k
                        refine Zm.l (fun _ _ k_ => z_iconst (v := 1) dX8_code_584 rfl k_) ?_
                        refine Zm.l (fun _ _ k_ => z_goto (tgt := 589) dX8_code_585 rfl k_) ?_
                        refine Zm.pick [] rfl ?_
                        exact zm_callV (as := [vi (1 : Int32)]) (st := []) dX8_code_589 vsX8_729_1 (Nat.le_refl _) (Nat.le_of_ble_eq_true rfl) (Nat.le_of_ble_eq_true rfl) rfl k
                    · have k := zif h9_ k
                      by_cases h10_ : (gi M 108 (l1).toNatClampNeg) = 30
                      · have k := zit h10_ k
                        refine Zm.l (fun _ _ k_ => z_tableIn (off := 544) (tgt := 572) dX8_code_28 (by rw [h10_]; decide) (by rw [h10_]; decide) (by rw [h10_]; rfl) rfl k_) ?_
                        refine Zm.l (fun _ _ k_ => z_aload_n dX8_code_572 rfl rfl k_) ?_
                        refine Zm.l (fun _ _ k_ => z_aload_n dX8_code_573 rfl rfl k_) ?_
                        refine zm_getr 10 dX8_code_574 fsX8_42_1 rfl ?_
                        refine Zm.l (fun _ _ k_ => z_iload_n dX8_code_577 rfl rfl k_) ?_
                        obtain ⟨b_, k⟩ := k
                        refine zm_iald dX8_code_578 b_ (by decide) (by decide) ?_
                        refine Zm.l (fun _ _ k_ => z_bipush (v := 30) dX8_code_579 rfl k_) ?_
                        refine Zm.brn (fun _ _ k1_ k2_ => z_icmp_ne (tgt := 588) dX8_code_581 rfl k1_ k2_) (fun h_ => ?_) (fun h_ => ?_)
                        · have k := zif h_ k
                          refine Zm.l (fun _ _ k_ => z_iconst (v := 0) dX8_code_588 rfl k_) ?_
                          refine Zm.pick [] rfl ?_
                          exact zm_callV (as := [vi (0 : Int32)]) (st := []) dX8_code_589 vsX8_729_1 (Nat.le_refl _) (Nat.le_of_ble_eq_true rfl) (Nat.le_of_ble_eq_true rfl) rfl k
                        · have k := zit h_ k
                          refine Zm.l (fun _ _ k_ => z_iconst (v := 1) dX8_code_584 rfl k_) ?_
                          refine Zm.l (fun _ _ k_ => z_goto (tgt := 589) dX8_code_585 rfl k_) ?_
                          refine Zm.pick [] rfl ?_
                          exact zm_callV (as := [vi (1 : Int32)]) (st := []) dX8_code_589 vsX8_729_1 (Nat.le_refl _) (Nat.le_of_ble_eq_true rfl) (Nat.le_of_ble_eq_true rfl) rfl k
                      · have k := zif h10_ k
                        by_cases h11_ : (gi M 108 (l1).toNatClampNeg) = 31
                        · have k := zit h11_ k
                          refine Zm.l (fun _ _ k_ => z_tableIn (off := 567) (tgt := 595) dX8_code_28 (by rw [h11_]; decide) (by rw [h11_]; decide) (by rw [h11_]; rfl) rfl k_) ?_
                          refine Zm.l (fun _ _ k_ => z_aload_n dX8_code_595 rfl rfl k_) ?_
                          refine Zm.l (fun _ _ k_ => z_iload_n dX8_code_596 rfl rfl k_) ?_
                          refine Zm.pick [] rfl ?_
                          exact zm_callV (as := [vi l2]) (st := []) dX8_code_597 vsX8_732_1 (Nat.le_refl _) (Nat.le_of_ble_eq_true rfl) (Nat.le_of_ble_eq_true rfl) rfl k
                        · have k := zif h11_ k
                          by_cases h12_ : (gi M 108 (l1).toNatClampNeg) = 32
                          · have k := zit h12_ k
                            refine Zm.l (fun _ _ k_ => z_tableIn (off := 575) (tgt := 603) dX8_code_28 (by rw [h12_]; decide) (by rw [h12_]; decide) (by rw [h12_]; rfl) rfl k_) ?_
                            refine Zm.l (fun _ _ k_ => z_aload_n dX8_code_603 rfl rfl k_) ?_
                            refine Zm.l (fun _ _ k_ => z_iload_n dX8_code_604 rfl rfl k_) ?_
                            refine Zm.pick [0] rfl ?_
                            exact zm_callV (as := [vi l2]) (st := []) dX8_code_605 vsX8_668_1 (Nat.le_refl _) (Nat.le_of_ble_eq_true rfl) (Nat.le_of_ble_eq_true rfl) rfl k
                          · have k := zif h12_ k
                            by_cases h13_ : (gi M 108 (l1).toNatClampNeg) = 33
                            · have k := zit h13_ k
                              refine Zm.l (fun _ _ k_ => z_tableIn (off := 589) (tgt := 617) dX8_code_28 (by rw [h13_]; decide) (by rw [h13_]; decide) (by rw [h13_]; rfl) rfl k_) ?_
                              refine Zm.l (fun _ _ k_ => z_aload_n dX8_code_617 rfl rfl k_) ?_
                              refine Zm.l (fun _ _ k_ => z_iload_n dX8_code_618 rfl rfl k_) ?_
                              refine Zm.pick [] rfl ?_
                              exact zm_callV (as := [vi l1]) (st := []) dX8_code_619 vsX8_735_1 (Nat.le_refl _) (Nat.le_of_ble_eq_true rfl) (Nat.le_of_ble_eq_true rfl) rfl k
                            · have k := zif h13_ k
                              by_cases h14_ : (gi M 108 (l1).toNatClampNeg) = 34
                              · have k := zit h14_ k
                                refine Zm.l (fun _ _ k_ => z_tableIn (off := 597) (tgt := 625) dX8_code_28 (by rw [h14_]; decide) (by rw [h14_]; decide) (by rw [h14_]; rfl) rfl k_) ?_
                                refine Zm.l (fun _ _ k_ => z_aload_n dX8_code_625 rfl rfl k_) ?_
                                refine Zm.l (fun _ _ k_ => z_iload_n dX8_code_626 rfl rfl k_) ?_
                                refine Zm.l (fun _ _ k_ => z_iload_n dX8_code_627 rfl rfl k_) ?_
                                refine Zm.pick [] rfl ?_
                                exact zm_callV (as := [vi l2, vi s0]) (st := []) dX8_code_628 vsX8_738_1 (Nat.le_refl _) (Nat.le_of_ble_eq_true rfl) (Nat.le_of_ble_eq_true rfl) rfl k
                              · have k := zif h14_ k
                                refine Zm.l (fun _ _ k_ => z_tout (tgt := 634) [20, 21, 22, 23, 24, 25, 26, 27, 28, 29, 30, 31, 32, 33, 34] (by decide) dX8_code_28 (zall_1 h0_ (zall_1 h1_ (zall_1 h2_ (zall_1 h3_ (zall_1 h4_ (zall_1 h5_ (zall_1 h6_ (zall_1 h7_ (zall_1 h8_ (zall_1 h9_ (zall_1 h10_ (zall_1 h11_ (zall_1 h12_ (zall_1 h13_ (zall_1 h14_ zall_0))))))))))))))) rfl k_) ?_
                                exact zm_vret dX8_code_634 rfl k
theorem sX8_code_109 {E : zE} {d : Nat} {Q : zO → zM → Prop} (M : zM)  (k : Q (.inl none) M) : Zm E YX8_code (d + 1) M [] 109 [] Q := by
  refine Zm.l (fun _ _ k_ => z_goto (tgt := 634) dX8_code_109 rfl k_) ?_
  exact zm_vret dX8_code_634 rfl k
theorem sX8_code_117 {E : zE} {d : Nat} {Q : zO → zM → Prop} (M : zM)  (k : Q (.inl none) M) : Zm E YX8_code (d + 1) M [] 117 [] Q := by
  refine Zm.l (fun _ _ k_ => z_goto (tgt := 634) dX8_code_117 rfl k_) ?_
  exact zm_vret dX8_code_634 rfl k
theorem sX8_code_125 {E : zE} {d : Nat} {Q : zO → zM → Prop} (M : zM)  (k : Zm E YX8_emit_2 d M (zargs 0 [vr (some (97, 1, 0)), vi (17 : Int32)]) 0 [] (zma E YX8_code (d + 1) [] 128 3 [] Q)) : Zm E YX8_code (d + 1) M [(0, vr (some (97, 1, 0)))] 125 [] Q := by
  refine Zm.l (fun _ _ k_ => z_aload_n dX8_code_125 rfl rfl k_) ?_
  refine Zm.l (fun _ _ k_ => z_bipush (v := 17) dX8_code_126 rfl k_) ?_
  refine Zm.pick [] rfl ?_
  exact zm_callV (as := [vi (17 : Int32)]) (st := []) dX8_code_128 vsX8_666_1 (Nat.le_refl _) (Nat.le_of_ble_eq_true rfl) (Nat.le_of_ble_eq_true rfl) rfl k
theorem sX8_code_131 {E : zE} {d : Nat} {Q : zO → zM → Prop} (M : zM)  (k : Q (.inl none) M) : Zm E YX8_code (d + 1) M [] 131 [] Q := by
  refine Zm.l (fun _ _ k_ => z_goto (tgt := 634) dX8_code_131 rfl k_) ?_
  exact zm_vret dX8_code_634 rfl k
theorem sX8_code_138 {E : zE} {d : Nat} {Q : zO → zM → Prop} (M : zM) (l1 : Int32) (l2 : Int32) (l3 : Int32) (s0 : Int32) (k : Zm E YX8_mark d M (zargs 0 [vr (some (97, 1, 0))]) 0 [] (zma E YX8_code (d + 1) [(0, vr (some (97, 1, 0))), (1, vi l1), (2, vi l2), (3, vi l3), (4, vi s0)] 141 3 [] Q)) : Zm E YX8_code (d + 1) M [(0, vr (some (97, 1, 0))), (1, vi l1), (2, vi l2), (3, vi l3)] 138 [vi s0] Q := by
  refine Zm.l (fun _ _ k_ => z_ist dX8_code_138 (by decide) (lv' := [(0, vr (some (97, 1, 0))), (1, vi l1), (2, vi l2), (3, vi l3), (4, vi s0)]) rfl k_) ?_
  refine Zm.l (fun _ _ k_ => z_aload_n dX8_code_140 rfl rfl k_) ?_
  exact zm_callV (as := []) (st := []) dX8_code_141 vsX8_674_1 (Nat.le_refl _) (Nat.le_of_ble_eq_true rfl) (Nat.le_of_ble_eq_true rfl) rfl k
theorem sX8_code_144 {E : zE} {d : Nat} {Q : zO → zM → Prop} (M : zM) (l1 : Int32) (l2 : Int32) (l3 : Int32) (l4 : Int32) (s0 : Int32) (k : Zm E YX8_part d M (zargs 0 [vr (some (97, 1, 0)), vi l1, vi (2 : Int32)]) 0 [] (zma E YX8_code (d + 1) [(0, vr (some (97, 1, 0))), (2, vi l2), (3, vi l3), (4, vi l4), (5, vi s0)] 149 3 [] Q)) : Zm E YX8_code (d + 1) M [(0, vr (some (97, 1, 0))), (1, vi l1), (2, vi l2), (3, vi l3), (4, vi l4)] 144 [vi s0] Q := by
  refine Zm.l (fun _ _ k_ => z_ist dX8_code_144 (by decide) (lv' := [(0, vr (some (97, 1, 0))), (1, vi l1), (2, vi l2), (3, vi l3), (4, vi l4), (5, vi s0)]) rfl k_) ?_
  refine Zm.l (fun _ _ k_ => z_aload_n dX8_code_146 rfl rfl k_) ?_
  refine Zm.l (fun _ _ k_ => z_iload_n dX8_code_147 rfl rfl k_) ?_
  refine Zm.l (fun _ _ k_ => z_iconst (v := 2) dX8_code_148 rfl k_) ?_
  refine Zm.pick [0, 2, 3, 4, 5] rfl ?_
  exact zm_callV (as := [vi l1, vi (2 : Int32)]) (st := []) dX8_code_149 vsX8_644_1 (Nat.le_refl _) (Nat.le_of_ble_eq_true rfl) (Nat.le_of_ble_eq_true rfl) rfl k
theorem sX8_code_152 {E : zE} {d : Nat} {Q : zO → zM → Prop} (M : zM) (l2 : Int32) (l3 : Int32) (l4 : Int32) (l5 : Int32) (s0 : Int32) (k : Zm E YX8_value d M (zargs 0 [vr (some (97, 1, 0)), vi l2]) 0 [] (zma E YX8_code (d + 1) [(0, vr (some (97, 1, 0))), (3, vi l3), (4, vi l4), (5, vi l5), (6, vi s0)] 156 3 [] Q)) : Zm E YX8_code (d + 1) M [(0, vr (some (97, 1, 0))), (2, vi l2), (3, vi l3), (4, vi l4), (5, vi l5)] 152 [vi s0] Q := by
  refine Zm.l (fun _ _ k_ => z_ist dX8_code_152 (by decide) (lv' := [(0, vr (some (97, 1, 0))), (2, vi l2), (3, vi l3), (4, vi l4), (5, vi l5), (6, vi s0)]) rfl k_) ?_
  refine Zm.l (fun _ _ k_ => z_aload_n dX8_code_154 rfl rfl k_) ?_
  refine Zm.l (fun _ _ k_ => z_iload_n dX8_code_155 rfl rfl k_) ?_
  refine Zm.pick [0, 2, 3, 4, 5] rfl ?_
  exact zm_callV (as := [vi l2]) (st := []) dX8_code_156 vsX8_668_1 (Nat.le_refl _) (Nat.le_of_ble_eq_true rfl) (Nat.le_of_ble_eq_true rfl) rfl k
theorem sX8_code_159 {E : zE} {d : Nat} {Q : zO → zM → Prop} (M : zM) (l3 : Int32) (l4 : Int32) (l5 : Int32) (l6 : Int32) (k : Zm E YX8_emit d M (zargs 0 [vr (some (97, 1, 0)), vi (22 : Int32), vi l4, vi (0 : Int32)]) 0 [] (zma E YX8_code (d + 1) [(0, vr (some (97, 1, 0))), (3, vi l3), (4, vi l4), (5, vi l5), (6, vi l6)] 165 3 [] Q)) : Zm E YX8_code (d + 1) M [(0, vr (some (97, 1, 0))), (3, vi l3), (4, vi l4), (5, vi l5), (6, vi l6)] 159 [] Q := by
  refine Zm.l (fun _ _ k_ => z_aload_n dX8_code_159 rfl rfl k_) ?_
  refine Zm.l (fun _ _ k_ => z_bipush (v := 22) dX8_code_160 rfl k_) ?_
  refine Zm.l (fun _ _ k_ => z_iload dX8_code_162 rfl k_) ?_
  refine Zm.l (fun _ _ k_ => z_iconst (v := 0) dX8_code_164 rfl k_) ?_
  exact zm_callV (as := [vi (22 : Int32), vi l4, vi (0 : Int32)]) (st := []) dX8_code_165 vsX8_615_1 (Nat.le_refl _) (Nat.le_of_ble_eq_true rfl) (Nat.le_of_ble_eq_true rfl) rfl k
theorem sX8_code_168 {E : zE} {d : Nat} {Q : zO → zM → Prop} (M : zM) (l3 : Int32) (l4 : Int32) (l5 : Int32) (l6 : Int32) (k : Zm E YX8_code d M (zargs 0 [vr (some (97, 1, 0)), vi l3]) 0 [] (zma E YX8_code (d + 1) [(0, vr (some (97, 1, 0))), (4, vi l4), (5, vi l5), (6, vi l6)] 170 3 [] Q)) : Zm E YX8_code (d + 1) M [(0, vr (some (97, 1, 0))), (3, vi l3), (4, vi l4), (5, vi l5), (6, vi l6)] 168 [] Q := by
  refine Zm.l (fun _ _ k_ => z_aload_n dX8_code_168 rfl rfl k_) ?_
  refine Zm.l (fun _ _ k_ => z_iload_n dX8_code_169 rfl rfl k_) ?_
  refine Zm.pick [0, 2, 3, 4] rfl ?_
  exact zm_callV (as := [vi l3]) (st := []) dX8_code_170 vsX8_710_1 (Nat.le_refl _) (Nat.le_of_ble_eq_true rfl) (Nat.le_of_ble_eq_true rfl) rfl k
theorem sX8_code_173 {E : zE} {d : Nat} {Q : zO → zM → Prop} (M : zM) (l4 : Int32) (l5 : Int32) (l6 : Int32) (k : if l6 = (-1 : Int32) then (Zm E YX8_code (d + 1) M [(0, vr (some (97, 1, 0))), (4, vi l4), (5, vi l5), (6, vi l6)] 188 [] Q) else (Zm E YX8_emit d M (zargs 0 [vr (some (97, 1, 0)), vi (21 : Int32), vi l5, vi (0 : Int32)]) 0 [] (zma E YX8_code (d + 1) [(0, vr (some (97, 1, 0))), (4, vi l4), (5, vi l5), (6, vi l6)] 185 3 [] Q))) : Zm E YX8_code (d + 1) M [(0, vr (some (97, 1, 0))), (4, vi l4), (5, vi l5), (6, vi l6)] 173 [] Q := by
  refine Zm.l (fun _ _ k_ => z_iload dX8_code_173 rfl k_) ?_
  refine Zm.l (fun _ _ k_ => z_iconst (v := -1) dX8_code_175 rfl k_) ?_
  refine Zm.br (fun _ _ k1_ k2_ => z_icmp_eq (tgt := 188) dX8_code_176 rfl k1_ k2_) (fun h_ => ?_) (fun h_ => ?_)
  · have k := zit h_ k
    exact k
  · have k := zif h_ k
    refine Zm.l (fun _ _ k_ => z_aload_n dX8_code_179 rfl rfl k_) ?_
    refine Zm.l (fun _ _ k_ => z_bipush (v := 21) dX8_code_180 rfl k_) ?_
    refine Zm.l (fun _ _ k_ => z_iload dX8_code_182 rfl k_) ?_
    refine Zm.l (fun _ _ k_ => z_iconst (v := 0) dX8_code_184 rfl k_) ?_
    exact zm_callV (as := [vi (21 : Int32), vi l5, vi (0 : Int32)]) (st := []) dX8_code_185 vsX8_615_1 (Nat.le_refl _) (Nat.le_of_ble_eq_true rfl) (Nat.le_of_ble_eq_true rfl) rfl k
theorem sX8_code_188 {E : zE} {d : Nat} {Q : zO → zM → Prop} (M : zM) (l4 : Int32) (l5 : Int32) (l6 : Int32) (k : Zm E YX8_here d M (zargs 0 [vr (some (97, 1, 0)), vi l4]) 0 [] (zma E YX8_code (d + 1) [(0, vr (some (97, 1, 0))), (5, vi l5), (6, vi l6)] 191 3 [] Q)) : Zm E YX8_code (d + 1) M [(0, vr (some (97, 1, 0))), (4, vi l4), (5, vi l5), (6, vi l6)] 188 [] Q := by
  refine Zm.l (fun _ _ k_ => z_aload_n dX8_code_188 rfl rfl k_) ?_
  refine Zm.l (fun _ _ k_ => z_iload dX8_code_189 rfl k_) ?_
  refine Zm.pick [0, 2, 3] rfl ?_
  exact zm_callV (as := [vi l4]) (st := []) dX8_code_191 vsX8_677_1 (Nat.le_refl _) (Nat.le_of_ble_eq_true rfl) (Nat.le_of_ble_eq_true rfl) rfl k
theorem sX8_code_194 {E : zE} {d : Nat} {Q : zO → zM → Prop} (M : zM) (l5 : Int32) (l6 : Int32) (k : if l6 = (-1 : Int32) then (Zm E YX8_code (d + 1) M [(0, vr (some (97, 1, 0))), (5, vi l5)] 206 [] Q) else (Zm E YX8_code d M (zargs 0 [vr (some (97, 1, 0)), vi l6]) 0 [] (zma E YX8_code (d + 1) [(0, vr (some (97, 1, 0))), (5, vi l5)] 203 3 [] Q))) : Zm E YX8_code (d + 1) M [(0, vr (some (97, 1, 0))), (5, vi l5), (6, vi l6)] 194 [] Q := by
  refine Zm.l (fun _ _ k_ => z_iload dX8_code_194 rfl k_) ?_
  refine Zm.l (fun _ _ k_ => z_iconst (v := -1) dX8_code_196 rfl k_) ?_
  refine Zm.br (fun _ _ k1_ k2_ => z_icmp_eq (tgt := 206) dX8_code_197 rfl k1_ k2_) (fun h_ => ?_) (fun h_ => ?_)
  · have k := zit h_ k
    refine Zm.pick [0, 1] rfl ?_
    exact k
  · have k := zif h_ k
    refine Zm.l (fun _ _ k_ => z_aload_n dX8_code_200 rfl rfl k_) ?_
    refine Zm.l (fun _ _ k_ => z_iload dX8_code_201 rfl k_) ?_
    refine Zm.pick [0, 1] rfl ?_
    exact zm_callV (as := [vi l6]) (st := []) dX8_code_203 vsX8_710_1 (Nat.le_refl _) (Nat.le_of_ble_eq_true rfl) (Nat.le_of_ble_eq_true rfl) rfl k
theorem sX8_code_206 {E : zE} {d : Nat} {Q : zO → zM → Prop} (M : zM) (l5 : Int32) (k : Zm E YX8_here d M (zargs 0 [vr (some (97, 1, 0)), vi l5]) 0 [] (zma E YX8_code (d + 1) [] 209 3 [] Q)) : Zm E YX8_code (d + 1) M [(0, vr (some (97, 1, 0))), (5, vi l5)] 206 [] Q := by
  refine Zm.l (fun _ _ k_ => z_aload_n dX8_code_206 rfl rfl k_) ?_
  refine Zm.l (fun _ _ k_ => z_iload dX8_code_207 rfl k_) ?_
  refine Zm.pick [] rfl ?_
  exact zm_callV (as := [vi l5]) (st := []) dX8_code_209 vsX8_677_1 (Nat.le_refl _) (Nat.le_of_ble_eq_true rfl) (Nat.le_of_ble_eq_true rfl) rfl k
theorem sX8_code_212 {E : zE} {d : Nat} {Q : zO → zM → Prop} (M : zM)  (k : Q (.inl none) M) : Zm E YX8_code (d + 1) M [] 212 [] Q := by
  refine Zm.l (fun _ _ k_ => z_goto (tgt := 634) dX8_code_212 rfl k_) ?_
  exact zm_vret dX8_code_634 rfl k
theorem sX8_code_219 {E : zE} {d : Nat} {Q : zO → zM → Prop} (M : zM) (l2 : Int32) (l3 : Int32) (s0 : Int32) (k : Zm E YX8_mark d M (zargs 0 [vr (some (97, 1, 0))]) 0 [] (zma E YX8_code (d + 1) [(0, vr (some (97, 1, 0))), (2, vi l2), (3, vi l3), (4, vi s0)] 222 3 [] Q)) : Zm E YX8_code (d + 1) M [(0, vr (some (97, 1, 0))), (2, vi l2), (3, vi l3)] 219 [vi s0] Q := by
  refine Zm.l (fun _ _ k_ => z_ist dX8_code_219 (by decide) (lv' := [(0, vr (some (97, 1, 0))), (2, vi l2), (3, vi l3), (4, vi s0)]) rfl k_) ?_
  refine Zm.l (fun _ _ k_ => z_aload_n dX8_code_221 rfl rfl k_) ?_
  exact zm_callV (as := []) (st := []) dX8_code_222 vsX8_674_1 (Nat.le_refl _) (Nat.le_of_ble_eq_true rfl) (Nat.le_of_ble_eq_true rfl) rfl k
theorem sX8_code_225 {E : zE} {d : Nat} {Q : zO → zM → Prop} (M : zM) (l2 : Int32) (l3 : Int32) (l4 : Int32) (s0 : Int32) (k : Zm E YX8_here d M (zargs 0 [vr (some (97, 1, 0)), vi l4]) 0 [] (zma E YX8_code (d + 1) [(0, vr (some (97, 1, 0))), (2, vi l2), (3, vi l3), (4, vi l4), (5, vi s0)] 230 3 [] Q)) : Zm E YX8_code (d + 1) M [(0, vr (some (97, 1, 0))), (2, vi l2), (3, vi l3), (4, vi l4)] 225 [vi s0] Q := by
  refine Zm.l (fun _ _ k_ => z_ist dX8_code_225 (by decide) (lv' := [(0, vr (some (97, 1, 0))), (2, vi l2), (3, vi l3), (4, vi l4), (5, vi s0)]) rfl k_) ?_
  refine Zm.l (fun _ _ k_ => z_aload_n dX8_code_227 rfl rfl k_) ?_
  refine Zm.l (fun _ _ k_ => z_iload dX8_code_228 rfl k_) ?_
  exact zm_callV (as := [vi l4]) (st := []) dX8_code_230 vsX8_677_1 (Nat.le_refl _) (Nat.le_of_ble_eq_true rfl) (Nat.le_of_ble_eq_true rfl) rfl k
theorem sX8_code_233 {E : zE} {d : Nat} {Q : zO → zM → Prop} (M : zM) (l2 : Int32) (l3 : Int32) (l4 : Int32) (l5 : Int32) (k : Zm E YX8_value d M (zargs 0 [vr (some (97, 1, 0)), vi l2]) 0 [] (zma E YX8_code (d + 1) [(0, vr (some (97, 1, 0))), (3, vi l3), (4, vi l4), (5, vi l5)] 235 3 [] Q)) : Zm E YX8_code (d + 1) M [(0, vr (some (97, 1, 0))), (2, vi l2), (3, vi l3), (4, vi l4), (5, vi l5)] 233 [] Q := by
  refine Zm.l (fun _ _ k_ => z_aload_n dX8_code_233 rfl rfl k_) ?_
  refine Zm.l (fun _ _ k_ => z_iload_n dX8_code_234 rfl rfl k_) ?_
  refine Zm.pick [0, 2, 3, 4] rfl ?_
  exact zm_callV (as := [vi l2]) (st := []) dX8_code_235 vsX8_668_1 (Nat.le_refl _) (Nat.le_of_ble_eq_true rfl) (Nat.le_of_ble_eq_true rfl) rfl k
theorem sX8_code_238 {E : zE} {d : Nat} {Q : zO → zM → Prop} (M : zM) (l3 : Int32) (l4 : Int32) (l5 : Int32) (k : Zm E YX8_emit d M (zargs 0 [vr (some (97, 1, 0)), vi (22 : Int32), vi l5, vi (0 : Int32)]) 0 [] (zma E YX8_code (d + 1) [(0, vr (some (97, 1, 0))), (3, vi l3), (4, vi l4), (5, vi l5)] 244 3 [] Q)) : Zm E YX8_code (d + 1) M [(0, vr (some (97, 1, 0))), (3, vi l3), (4, vi l4), (5, vi l5)] 238 [] Q := by
  refine Zm.l (fun _ _ k_ => z_aload_n dX8_code_238 rfl rfl k_) ?_
  refine Zm.l (fun _ _ k_ => z_bipush (v := 22) dX8_code_239 rfl k_) ?_
  refine Zm.l (fun _ _ k_ => z_iload dX8_code_241 rfl k_) ?_
  refine Zm.l (fun _ _ k_ => z_iconst (v := 0) dX8_code_243 rfl k_) ?_
  exact zm_callV (as := [vi (22 : Int32), vi l5, vi (0 : Int32)]) (st := []) dX8_code_244 vsX8_615_1 (Nat.le_refl _) (Nat.le_of_ble_eq_true rfl) (Nat.le_of_ble_eq_true rfl) rfl k
theorem sX8_code_247 {E : zE} {d : Nat} {Q : zO → zM → Prop} (M : zM) (l3 : Int32) (l4 : Int32) (l5 : Int32) (k : Zm E YX8_codeInside d M (zargs 0 [vr (some (97, 1, 0)), vi (3 : Int32), vi l3, vi l5, vi l4]) 0 [] (zma E YX8_code (d + 1) [(0, vr (some (97, 1, 0))), (4, vi l4), (5, vi l5)] 254 3 [] Q)) : Zm E YX8_code (d + 1) M [(0, vr (some (97, 1, 0))), (3, vi l3), (4, vi l4), (5, vi l5)] 247 [] Q := by
  refine Zm.l (fun _ _ k_ => z_aload_n dX8_code_247 rfl rfl k_) ?_
  refine Zm.l (fun _ _ k_ => z_iconst (v := 3) dX8_code_248 rfl k_) ?_
  refine Zm.l (fun _ _ k_ => z_iload_n dX8_code_249 rfl rfl k_) ?_
  refine Zm.l (fun _ _ k_ => z_iload dX8_code_250 rfl k_) ?_
  refine Zm.l (fun _ _ k_ => z_iload dX8_code_252 rfl k_) ?_
  refine Zm.pick [0, 2, 3] rfl ?_
  exact zm_callV (as := [vi (3 : Int32), vi l3, vi l5, vi l4]) (st := []) dX8_code_254 vsX8_719_1 (Nat.le_refl _) (Nat.le_of_ble_eq_true rfl) (Nat.le_of_ble_eq_true rfl) rfl k
theorem sX8_code_257 {E : zE} {d : Nat} {Q : zO → zM → Prop} (M : zM) (l4 : Int32) (l5 : Int32) (k : Zm E YX8_emit d M (zargs 0 [vr (some (97, 1, 0)), vi (21 : Int32), vi l4, vi (0 : Int32)]) 0 [] (zma E YX8_code (d + 1) [(0, vr (some (97, 1, 0))), (5, vi l5)] 263 3 [] Q)) : Zm E YX8_code (d + 1) M [(0, vr (some (97, 1, 0))), (4, vi l4), (5, vi l5)] 257 [] Q := by
  refine Zm.l (fun _ _ k_ => z_aload_n dX8_code_257 rfl rfl k_) ?_
  refine Zm.l (fun _ _ k_ => z_bipush (v := 21) dX8_code_258 rfl k_) ?_
  refine Zm.l (fun _ _ k_ => z_iload dX8_code_260 rfl k_) ?_
  refine Zm.l (fun _ _ k_ => z_iconst (v := 0) dX8_code_262 rfl k_) ?_
  refine Zm.pick [0, 2] rfl ?_
  exact zm_callV (as := [vi (21 : Int32), vi l4, vi (0 : Int32)]) (st := []) dX8_code_263 vsX8_615_1 (Nat.le_refl _) (Nat.le_of_ble_eq_true rfl) (Nat.le_of_ble_eq_true rfl) rfl k
theorem sX8_code_266 {E : zE} {d : Nat} {Q : zO → zM → Prop} (M : zM) (l5 : Int32) (k : Zm E YX8_here d M (zargs 0 [vr (some (97, 1, 0)), vi l5]) 0 [] (zma E YX8_code (d + 1) [] 269 3 [] Q)) : Zm E YX8_code (d + 1) M [(0, vr (some (97, 1, 0))), (5, vi l5)] 266 [] Q := by
  refine Zm.l (fun _ _ k_ => z_aload_n dX8_code_266 rfl rfl k_) ?_
  refine Zm.l (fun _ _ k_ => z_iload dX8_code_267 rfl k_) ?_
  refine Zm.pick [] rfl ?_
  exact zm_callV (as := [vi l5]) (st := []) dX8_code_269 vsX8_677_1 (Nat.le_refl _) (Nat.le_of_ble_eq_true rfl) (Nat.le_of_ble_eq_true rfl) rfl k
theorem sX8_code_272 {E : zE} {d : Nat} {Q : zO → zM → Prop} (M : zM)  (k : Q (.inl none) M) : Zm E YX8_code (d + 1) M [] 272 [] Q := by
  refine Zm.l (fun _ _ k_ => z_goto (tgt := 634) dX8_code_272 rfl k_) ?_
  exact zm_vret dX8_code_634 rfl k
theorem sX8_code_279 {E : zE} {d : Nat} {Q : zO → zM → Prop} (M : zM) (l2 : Int32) (l3 : Int32) (s0 : Int32) (k : Zm E YX8_mark d M (zargs 0 [vr (some (97, 1, 0))]) 0 [] (zma E YX8_code (d + 1) [(0, vr (some (97, 1, 0))), (2, vi l2), (3, vi l3), (4, vi s0)] 282 3 [] Q)) : Zm E YX8_code (d + 1) M [(0, vr (some (97, 1, 0))), (2, vi l2), (3, vi l3)] 279 [vi s0] Q := by
  refine Zm.l (fun _ _ k_ => z_ist dX8_code_279 (by decide) (lv' := [(0, vr (some (97, 1, 0))), (2, vi l2), (3, vi l3), (4, vi s0)]) rfl k_) ?_
  refine Zm.l (fun _ _ k_ => z_aload_n dX8_code_281 rfl rfl k_) ?_
  exact zm_callV (as := []) (st := []) dX8_code_282 vsX8_674_1 (Nat.le_refl _) (Nat.le_of_ble_eq_true rfl) (Nat.le_of_ble_eq_true rfl) rfl k
theorem sX8_code_285 {E : zE} {d : Nat} {Q : zO → zM → Prop} (M : zM) (l2 : Int32) (l3 : Int32) (l4 : Int32) (s0 : Int32) (k : Zm E YX8_mark d M (zargs 0 [vr (some (97, 1, 0))]) 0 [] (zma E YX8_code (d + 1) [(0, vr (some (97, 1, 0))), (2, vi l2), (3, vi l3), (4, vi l4), (5, vi s0)] 288 3 [] Q)) : Zm E YX8_code (d + 1) M [(0, vr (some (97, 1, 0))), (2, vi l2), (3, vi l3), (4, vi l4)] 285 [vi s0] Q := by
  refine Zm.l (fun _ _ k_ => z_ist dX8_code_285 (by decide) (lv' := [(0, vr (some (97, 1, 0))), (2, vi l2), (3, vi l3), (4, vi l4), (5, vi s0)]) rfl k_) ?_
  refine Zm.l (fun _ _ k_ => z_aload_n dX8_code_287 rfl rfl k_) ?_
  exact zm_callV (as := []) (st := []) dX8_code_288 vsX8_674_1 (Nat.le_refl _) (Nat.le_of_ble_eq_true rfl) (Nat.le_of_ble_eq_true rfl) rfl k
theorem sX8_code_291 {E : zE} {d : Nat} {Q : zO → zM → Prop} (M : zM) (l2 : Int32) (l3 : Int32) (l4 : Int32) (l5 : Int32) (s0 : Int32) (k : Zm E YX8_here d M (zargs 0 [vr (some (97, 1, 0)), vi l4]) 0 [] (zma E YX8_code (d + 1) [(0, vr (some (97, 1, 0))), (2, vi l2), (3, vi l3), (4, vi l4), (5, vi l5), (6, vi s0)] 296 3 [] Q)) : Zm E YX8_code (d + 1) M [(0, vr (some (97, 1, 0))), (2, vi l2), (3, vi l3), (4, vi l4), (5, vi l5)] 291 [vi s0] Q := by
  refine Zm.l (fun _ _ k_ => z_ist dX8_code_291 (by decide) (lv' := [(0, vr (some (97, 1, 0))), (2, vi l2), (3, vi l3), (4, vi l4), (5, vi l5), (6, vi s0)]) rfl k_) ?_
  refine Zm.l (fun _ _ k_ => z_aload_n dX8_code_293 rfl rfl k_) ?_
  refine Zm.l (fun _ _ k_ => z_iload dX8_code_294 rfl k_) ?_
  exact zm_callV (as := [vi l4]) (st := []) dX8_code_296 vsX8_677_1 (Nat.le_refl _) (Nat.le_of_ble_eq_true rfl) (Nat.le_of_ble_eq_true rfl) rfl k
theorem sX8_code_299 {E : zE} {d : Nat} {Q : zO → zM → Prop} (M : zM) (l2 : Int32) (l3 : Int32) (l4 : Int32) (l5 : Int32) (l6 : Int32) (k : Zm E YX8_codeInside d M (zargs 0 [vr (some (97, 1, 0)), vi (3 : Int32), vi l3, vi l6, vi l5]) 0 [] (zma E YX8_code (d + 1) [(0, vr (some (97, 1, 0))), (2, vi l2), (4, vi l4), (5, vi l5), (6, vi l6)] 306 3 [] Q)) : Zm E YX8_code (d + 1) M [(0, vr (some (97, 1, 0))), (2, vi l2), (3, vi l3), (4, vi l4), (5, vi l5), (6, vi l6)] 299 [] Q := by
  refine Zm.l (fun _ _ k_ => z_aload_n dX8_code_299 rfl rfl k_) ?_
  refine Zm.l (fun _ _ k_ => z_iconst (v := 3) dX8_code_300 rfl k_) ?_
  refine Zm.l (fun _ _ k_ => z_iload_n dX8_code_301 rfl rfl k_) ?_
  refine Zm.l (fun _ _ k_ => z_iload dX8_code_302 rfl k_) ?_
  refine Zm.l (fun _ _ k_ => z_iload dX8_code_304 rfl k_) ?_
  refine Zm.pick [0, 1, 3, 4, 5] rfl ?_
  exact zm_callV (as := [vi (3 : Int32), vi l3, vi l6, vi l5]) (st := []) dX8_code_306 vsX8_719_1 (Nat.le_refl _) (Nat.le_of_ble_eq_true rfl) (Nat.le_of_ble_eq_true rfl) rfl k
theorem sX8_code_309 {E : zE} {d : Nat} {Q : zO → zM → Prop} (M : zM) (l2 : Int32) (l4 : Int32) (l5 : Int32) (l6 : Int32) (k : Zm E YX8_here d M (zargs 0 [vr (some (97, 1, 0)), vi l5]) 0 [] (zma E YX8_code (d + 1) [(0, vr (some (97, 1, 0))), (2, vi l2), (4, vi l4), (6, vi l6)] 312 3 [] Q)) : Zm E YX8_code (d + 1) M [(0, vr (some (97, 1, 0))), (2, vi l2), (4, vi l4), (5, vi l5), (6, vi l6)] 309 [] Q := by
  refine Zm.l (fun _ _ k_ => z_aload_n dX8_code_309 rfl rfl k_) ?_
  refine Zm.l (fun _ _ k_ => z_iload dX8_code_310 rfl k_) ?_
  refine Zm.pick [0, 1, 2, 4] rfl ?_
  exact zm_callV (as := [vi l5]) (st := []) dX8_code_312 vsX8_677_1 (Nat.le_refl _) (Nat.le_of_ble_eq_true rfl) (Nat.le_of_ble_eq_true rfl) rfl k
theorem sX8_code_315 {E : zE} {d : Nat} {Q : zO → zM → Prop} (M : zM) (l2 : Int32) (l4 : Int32) (l6 : Int32) (k : Zm E YX8_value d M (zargs 0 [vr (some (97, 1, 0)), vi l2]) 0 [] (zma E YX8_code (d + 1) [(0, vr (some (97, 1, 0))), (4, vi l4), (6, vi l6)] 317 3 [] Q)) : Zm E YX8_code (d + 1) M [(0, vr (some (97, 1, 0))), (2, vi l2), (4, vi l4), (6, vi l6)] 315 [] Q := by
  refine Zm.l (fun _ _ k_ => z_aload_n dX8_code_315 rfl rfl k_) ?_
  refine Zm.l (fun _ _ k_ => z_iload_n dX8_code_316 rfl rfl k_) ?_
  refine Zm.pick [0, 2, 3] rfl ?_
  exact zm_callV (as := [vi l2]) (st := []) dX8_code_317 vsX8_668_1 (Nat.le_refl _) (Nat.le_of_ble_eq_true rfl) (Nat.le_of_ble_eq_true rfl) rfl k
theorem sX8_code_320 {E : zE} {d : Nat} {Q : zO → zM → Prop} (M : zM) (l4 : Int32) (l6 : Int32) (k : Zm E YX8_emit d M (zargs 0 [vr (some (97, 1, 0)), vi (22 : Int32), vi l6, vi (0 : Int32)]) 0 [] (zma E YX8_code (d + 1) [(0, vr (some (97, 1, 0))), (4, vi l4), (6, vi l6)] 326 3 [] Q)) : Zm E YX8_code (d + 1) M [(0, vr (some (97, 1, 0))), (4, vi l4), (6, vi l6)] 320 [] Q := by
  refine Zm.l (fun _ _ k_ => z_aload_n dX8_code_320 rfl rfl k_) ?_
  refine Zm.l (fun _ _ k_ => z_bipush (v := 22) dX8_code_321 rfl k_) ?_
  refine Zm.l (fun _ _ k_ => z_iload dX8_code_323 rfl k_) ?_
  refine Zm.l (fun _ _ k_ => z_iconst (v := 0) dX8_code_325 rfl k_) ?_
  exact zm_callV (as := [vi (22 : Int32), vi l6, vi (0 : Int32)]) (st := []) dX8_code_326 vsX8_615_1 (Nat.le_refl _) (Nat.le_of_ble_eq_true rfl) (Nat.le_of_ble_eq_true rfl) rfl k
theorem sX8_code_329 {E : zE} {d : Nat} {Q : zO → zM → Prop} (M : zM) (l4 : Int32) (l6 : Int32) (k : Zm E YX8_emit d M (zargs 0 [vr (some (97, 1, 0)), vi (21 : Int32), vi l4, vi (0 : Int32)]) 0 [] (zma E YX8_code (d + 1) [(0, vr (some (97, 1, 0))), (6, vi l6)] 335 3 [] Q)) : Zm E YX8_code (d + 1) M [(0, vr (some (97, 1, 0))), (4, vi l4), (6, vi l6)] 329 [] Q := by
  refine Zm.l (fun _ _ k_ => z_aload_n dX8_code_329 rfl rfl k_) ?_
  refine Zm.l (fun _ _ k_ => z_bipush (v := 21) dX8_code_330 rfl k_) ?_
  refine Zm.l (fun _ _ k_ => z_iload dX8_code_332 rfl k_) ?_
  refine Zm.l (fun _ _ k_ => z_iconst (v := 0) dX8_code_334 rfl k_) ?_
  refine Zm.pick [0, 2] rfl ?_
  exact zm_callV (as := [vi (21 : Int32), vi l4, vi (0 : Int32)]) (st := []) dX8_code_335 vsX8_615_1 (Nat.le_refl _) (Nat.le_of_ble_eq_true rfl) (Nat.le_of_ble_eq_true rfl) rfl k
theorem sX8_code_338 {E : zE} {d : Nat} {Q : zO → zM → Prop} (M : zM) (l6 : Int32) (k : Zm E YX8_here d M (zargs 0 [vr (some (97, 1, 0)), vi l6]) 0 [] (zma E YX8_code (d + 1) [] 341 3 [] Q)) : Zm E YX8_code (d + 1) M [(0, vr (some (97, 1, 0))), (6, vi l6)] 338 [] Q := by
  refine Zm.l (fun _ _ k_ => z_aload_n dX8_code_338 rfl rfl k_) ?_
  refine Zm.l (fun _ _ k_ => z_iload dX8_code_339 rfl k_) ?_
  refine Zm.pick [] rfl ?_
  exact zm_callV (as := [vi l6]) (st := []) dX8_code_341 vsX8_677_1 (Nat.le_refl _) (Nat.le_of_ble_eq_true rfl) (Nat.le_of_ble_eq_true rfl) rfl k
theorem sX8_code_344 {E : zE} {d : Nat} {Q : zO → zM → Prop} (M : zM)  (k : Q (.inl none) M) : Zm E YX8_code (d + 1) M [] 344 [] Q := by
  refine Zm.l (fun _ _ k_ => z_goto (tgt := 634) dX8_code_344 rfl k_) ?_
  exact zm_vret dX8_code_634 rfl k
theorem sX8_code_351 {E : zE} {d : Nat} {Q : zO → zM → Prop} (M : zM) (l1 : Int32) (l2 : Int32) (l3 : Int32) (s0 : Int32) (k : Zm E YX8_mark d M (zargs 0 [vr (some (97, 1, 0))]) 0 [] (zma E YX8_code (d + 1) [(0, vr (some (97, 1, 0))), (1, vi l1), (2, vi l2), (3, vi l3), (4, vi s0)] 354 3 [] Q)) : Zm E YX8_code (d + 1) M [(0, vr (some (97, 1, 0))), (1, vi l1), (2, vi l2), (3, vi l3)] 351 [vi s0] Q := by
  refine Zm.l (fun _ _ k_ => z_ist dX8_code_351 (by decide) (lv' := [(0, vr (some (97, 1, 0))), (1, vi l1), (2, vi l2), (3, vi l3), (4, vi s0)]) rfl k_) ?_
  refine Zm.l (fun _ _ k_ => z_aload_n dX8_code_353 rfl rfl k_) ?_
  exact zm_callV (as := []) (st := []) dX8_code_354 vsX8_674_1 (Nat.le_refl _) (Nat.le_of_ble_eq_true rfl) (Nat.le_of_ble_eq_true rfl) rfl k
theorem sX8_code_357 {E : zE} {d : Nat} {Q : zO → zM → Prop} (M : zM) (l1 : Int32) (l2 : Int32) (l3 : Int32) (l4 : Int32) (s0 : Int32) (k : Zm E YX8_mark d M (zargs 0 [vr (some (97, 1, 0))]) 0 [] (zma E YX8_code (d + 1) [(0, vr (some (97, 1, 0))), (1, vi l1), (2, vi l2), (3, vi l3), (4, vi l4), (5, vi s0)] 360 3 [] Q)) : Zm E YX8_code (d + 1) M [(0, vr (some (97, 1, 0))), (1, vi l1), (2, vi l2), (3, vi l3), (4, vi l4)] 357 [vi s0] Q := by
  refine Zm.l (fun _ _ k_ => z_ist dX8_code_357 (by decide) (lv' := [(0, vr (some (97, 1, 0))), (1, vi l1), (2, vi l2), (3, vi l3), (4, vi l4), (5, vi s0)]) rfl k_) ?_
  refine Zm.l (fun _ _ k_ => z_aload_n dX8_code_359 rfl rfl k_) ?_
  exact zm_callV (as := []) (st := []) dX8_code_360 vsX8_674_1 (Nat.le_refl _) (Nat.le_of_ble_eq_true rfl) (Nat.le_of_ble_eq_true rfl) rfl k
theorem sX8_code_363 {E : zE} {d : Nat} {Q : zO → zM → Prop} (M : zM) (l1 : Int32) (l2 : Int32) (l3 : Int32) (l4 : Int32) (l5 : Int32) (s0 : Int32) (k : if l2 = (-1 : Int32) then (Zm E YX8_code (d + 1) M [(0, vr (some (97, 1, 0))), (1, vi l1), (3, vi l3), (4, vi l4), (5, vi l5), (6, vi s0)] 375 [] Q) else (Zm E YX8_code d M (zargs 0 [vr (some (97, 1, 0)), vi l2]) 0 [] (zma E YX8_code (d + 1) [(0, vr (some (97, 1, 0))), (1, vi l1), (3, vi l3), (4, vi l4), (5, vi l5), (6, vi s0)] 372 3 [] Q))) : Zm E YX8_code (d + 1) M [(0, vr (some (97, 1, 0))), (1, vi l1), (2, vi l2), (3, vi l3), (4, vi l4), (5, vi l5)] 363 [vi s0] Q := by
  refine Zm.l (fun _ _ k_ => z_ist dX8_code_363 (by decide) (lv' := [(0, vr (some (97, 1, 0))), (1, vi l1), (2, vi l2), (3, vi l3), (4, vi l4), (5, vi l5), (6, vi s0)]) rfl k_) ?_
  refine Zm.l (fun _ _ k_ => z_iload_n dX8_code_365 rfl rfl k_) ?_
  refine Zm.l (fun _ _ k_ => z_iconst (v := -1) dX8_code_366 rfl k_) ?_
  refine Zm.br (fun _ _ k1_ k2_ => z_icmp_eq (tgt := 375) dX8_code_367 rfl k1_ k2_) (fun h_ => ?_) (fun h_ => ?_)
  · have k := zit h_ k
    refine Zm.pick [0, 1, 3, 4, 5, 6] rfl ?_
    exact k
  · have k := zif h_ k
    refine Zm.l (fun _ _ k_ => z_aload_n dX8_code_370 rfl rfl k_) ?_
    refine Zm.l (fun _ _ k_ => z_iload_n dX8_code_371 rfl rfl k_) ?_
    refine Zm.pick [0, 1, 3, 4, 5, 6] rfl ?_
    exact zm_callV (as := [vi l2]) (st := []) dX8_code_372 vsX8_710_1 (Nat.le_refl _) (Nat.le_of_ble_eq_true rfl) (Nat.le_of_ble_eq_true rfl) rfl k
theorem sX8_code_375 {E : zE} {d : Nat} {Q : zO → zM → Prop} (M : zM) (l1 : Int32) (l3 : Int32) (l4 : Int32) (l5 : Int32) (l6 : Int32) (k : Zm E YX8_here d M (zargs 0 [vr (some (97, 1, 0)), vi l4]) 0 [] (zma E YX8_code (d + 1) [(0, vr (some (97, 1, 0))), (1, vi l1), (3, vi l3), (4, vi l4), (5, vi l5), (6, vi l6)] 378 3 [] Q)) : Zm E YX8_code (d + 1) M [(0, vr (some (97, 1, 0))), (1, vi l1), (3, vi l3), (4, vi l4), (5, vi l5), (6, vi l6)] 375 [] Q := by
  refine Zm.l (fun _ _ k_ => z_aload_n dX8_code_375 rfl rfl k_) ?_
  refine Zm.l (fun _ _ k_ => z_iload dX8_code_376 rfl k_) ?_
  exact zm_callV (as := [vi l4]) (st := []) dX8_code_378 vsX8_677_1 (Nat.le_refl _) (Nat.le_of_ble_eq_true rfl) (Nat.le_of_ble_eq_true rfl) rfl k
theorem sX8_code_381 {E : zE} {d : Nat} {Q : zO → zM → Prop} (M : zM) (l1 : Int32) (l3 : Int32) (l4 : Int32) (l5 : Int32) (l6 : Int32) (k : if l3 = (-1 : Int32) then (Zm E YX8_code (d + 1) M [(0, vr (some (97, 1, 0))), (1, vi l1), (4, vi l4), (5, vi l5), (6, vi l6)] 400 [] Q) else (Zm E YX8_value d M (zargs 0 [vr (some (97, 1, 0)), vi l3]) 0 [] (zma E YX8_code (d + 1) [(0, vr (some (97, 1, 0))), (1, vi l1), (4, vi l4), (5, vi l5), (6, vi l6)] 388 3 [] Q))) : Zm E YX8_code (d + 1) M [(0, vr (some (97, 1, 0))), (1, vi l1), (3, vi l3), (4, vi l4), (5, vi l5), (6, vi l6)] 381 [] Q := by
  refine Zm.l (fun _ _ k_ => z_iload_n dX8_code_381 rfl rfl k_) ?_
  refine Zm.l (fun _ _ k_ => z_iconst (v := -1) dX8_code_382 rfl k_) ?_
  refine Zm.br (fun _ _ k1_ k2_ => z_icmp_eq (tgt := 400) dX8_code_383 rfl k1_ k2_) (fun h_ => ?_) (fun h_ => ?_)
  · have k := zit h_ k
    refine Zm.pick [0, 1, 3, 4, 5] rfl ?_
    exact k
  · have k := zif h_ k
    refine Zm.l (fun _ _ k_ => z_aload_n dX8_code_386 rfl rfl k_) ?_
    refine Zm.l (fun _ _ k_ => z_iload_n dX8_code_387 rfl rfl k_) ?_
    refine Zm.pick [0, 1, 3, 4, 5] rfl ?_
    exact zm_callV (as := [vi l3]) (st := []) dX8_code_388 vsX8_668_1 (Nat.le_refl _) (Nat.le_of_ble_eq_true rfl) (Nat.le_of_ble_eq_true rfl) rfl k
theorem sX8_code_391 {E : zE} {d : Nat} {Q : zO → zM → Prop} (M : zM) (l1 : Int32) (l4 : Int32) (l5 : Int32) (l6 : Int32) (k : Zm E YX8_emit d M (zargs 0 [vr (some (97, 1, 0)), vi (22 : Int32), vi l6, vi (0 : Int32)]) 0 [] (zma E YX8_code (d + 1) [(0, vr (some (97, 1, 0))), (1, vi l1), (4, vi l4), (5, vi l5), (6, vi l6)] 397 3 [] Q)) : Zm E YX8_code (d + 1) M [(0, vr (some (97, 1, 0))), (1, vi l1), (4, vi l4), (5, vi l5), (6, vi l6)] 391 [] Q := by
  refine Zm.l (fun _ _ k_ => z_aload_n dX8_code_391 rfl rfl k_) ?_
  refine Zm.l (fun _ _ k_ => z_bipush (v := 22) dX8_code_392 rfl k_) ?_
  refine Zm.l (fun _ _ k_ => z_iload dX8_code_394 rfl k_) ?_
  refine Zm.l (fun _ _ k_ => z_iconst (v := 0) dX8_code_396 rfl k_) ?_
  exact zm_callV (as := [vi (22 : Int32), vi l6, vi (0 : Int32)]) (st := []) dX8_code_397 vsX8_615_1 (Nat.le_refl _) (Nat.le_of_ble_eq_true rfl) (Nat.le_of_ble_eq_true rfl) rfl k
theorem sX8_code_400 {E : zE} {d : Nat} {Q : zO → zM → Prop} (M : zM) (l1 : Int32) (l4 : Int32) (l5 : Int32) (l6 : Int32) (k : Zm E YX8_wrapIn d M (zargs 0 [vr (some (97, 1, 0)), vi (3 : Int32), vi (-1 : Int32), vi l6, vi l5]) 0 [] (zma E YX8_code (d + 1) [(0, vr (some (97, 1, 0))), (1, vi l1), (4, vi l4), (5, vi l5), (6, vi l6), (7, vi (gi M 97 60)), (8, vi (gi M 97 59))] 419 3 [] Q)) : Zm E YX8_code (d + 1) M [(0, vr (some (97, 1, 0))), (1, vi l1), (4, vi l4), (5, vi l5), (6, vi l6)] 400 [] Q := by
  refine Zm.l (fun _ _ k_ => z_aload_n dX8_code_400 rfl rfl k_) ?_
  refine zm_geti dX8_code_401 fsX8_634_1 (by decide) (by decide) ?_
  refine Zm.l (fun _ _ k_ => z_ist dX8_code_404 (by decide) (lv' := [(0, vr (some (97, 1, 0))), (1, vi l1), (4, vi l4), (5, vi l5), (6, vi l6), (7, vi (gi M 97 60))]) rfl k_) ?_
  refine Zm.l (fun _ _ k_ => z_aload_n dX8_code_406 rfl rfl k_) ?_
  refine zm_geti dX8_code_407 fsX8_637_1 (by decide) (by decide) ?_
  refine Zm.l (fun _ _ k_ => z_ist dX8_code_410 (by decide) (lv' := [(0, vr (some (97, 1, 0))), (1, vi l1), (4, vi l4), (5, vi l5), (6, vi l6), (7, vi (gi M 97 60)), (8, vi (gi M 97 59))]) rfl k_) ?_
  refine Zm.l (fun _ _ k_ => z_aload_n dX8_code_412 rfl rfl k_) ?_
  refine Zm.l (fun _ _ k_ => z_iconst (v := 3) dX8_code_413 rfl k_) ?_
  refine Zm.l (fun _ _ k_ => z_iconst (v := -1) dX8_code_414 rfl k_) ?_
  refine Zm.l (fun _ _ k_ => z_iload dX8_code_415 rfl k_) ?_
  refine Zm.l (fun _ _ k_ => z_iload dX8_code_417 rfl k_) ?_
  exact zm_callV (as := [vi (3 : Int32), vi (-1 : Int32), vi l6, vi l5]) (st := []) dX8_code_419 vsX8_723_1 (Nat.le_refl _) (Nat.le_of_ble_eq_true rfl) (Nat.le_of_ble_eq_true rfl) rfl k
theorem sX8_code_422 {E : zE} {d : Nat} {Q : zO → zM → Prop} (M : zM) (l1 : Int32) (l4 : Int32) (l5 : Int32) (l6 : Int32) (l7 : Int32) (l8 : Int32) (k : Zm E YX8_part d M (zargs 0 [vr (some (97, 1, 0)), vi l1, vi (3 : Int32)]) 0 [] (zma E YX8_code (d + 1) [(0, vr (some (97, 1, 0))), (1, vi l1), (4, vi l4), (5, vi l5), (6, vi l6), (7, vi l7), (8, vi l8)] 426 3 [vr (some (97, 1, 0))] Q)) : Zm E YX8_code (d + 1) M [(0, vr (some (97, 1, 0))), (1, vi l1), (4, vi l4), (5, vi l5), (6, vi l6), (7, vi l7), (8, vi l8)] 422 [] Q := by
  refine Zm.l (fun _ _ k_ => z_aload_n dX8_code_422 rfl rfl k_) ?_
  refine Zm.l (fun _ _ k_ => z_aload_n dX8_code_423 rfl rfl k_) ?_
  refine Zm.l (fun _ _ k_ => z_iload_n dX8_code_424 rfl rfl k_) ?_
  refine Zm.l (fun _ _ k_ => z_iconst (v := 3) dX8_code_425 rfl k_) ?_
  exact zm_callV (as := [vi l1, vi (3 : Int32)]) (st := [vr (some (97, 1, 0))]) dX8_code_426 vsX8_644_1 (Nat.le_refl _) (Nat.le_of_ble_eq_true rfl) (Nat.le_of_ble_eq_true rfl) rfl k
theorem sX8_code_429 {E : zE} {d : Nat} {Q : zO → zM → Prop} (M : zM) (l1 : Int32) (l4 : Int32) (l5 : Int32) (l6 : Int32) (l7 : Int32) (l8 : Int32) (s0 : Int32) (k : Zm E YX8_code d M (zargs 0 [vr (some (97, 1, 0)), vi s0]) 0 [] (zma E YX8_code (d + 1) [(0, vr (some (97, 1, 0))), (1, vi l1), (4, vi l4), (5, vi l5), (6, vi l6), (7, vi l7), (8, vi l8)] 429 3 [] Q)) : Zm E YX8_code (d + 1) M [(0, vr (some (97, 1, 0))), (1, vi l1), (4, vi l4), (5, vi l5), (6, vi l6), (7, vi l7), (8, vi l8)] 429 [vi s0, vr (some (97, 1, 0))] Q := by
  exact zm_callV (as := [vi s0]) (st := []) dX8_code_429 vsX8_710_1 (Nat.le_refl _) (Nat.le_of_ble_eq_true rfl) (Nat.le_of_ble_eq_true rfl) rfl k
theorem sX8_code_432 {E : zE} {d : Nat} {Q : zO → zM → Prop} (M : zM) (l1 : Int32) (l4 : Int32) (l5 : Int32) (l6 : Int32) (l7 : Int32) (l8 : Int32) (k : Zm E YX8_unwrap d M (zargs 0 [vr (some (97, 1, 0)), vi l7, vi l8]) 0 [] (zma E YX8_code (d + 1) [(0, vr (some (97, 1, 0))), (1, vi l1), (4, vi l4), (5, vi l5), (6, vi l6)] 437 3 [] Q)) : Zm E YX8_code (d + 1) M [(0, vr (some (97, 1, 0))), (1, vi l1), (4, vi l4), (5, vi l5), (6, vi l6), (7, vi l7), (8, vi l8)] 432 [] Q := by
  refine Zm.l (fun _ _ k_ => z_aload_n dX8_code_432 rfl rfl k_) ?_
  refine Zm.l (fun _ _ k_ => z_iload dX8_code_433 rfl k_) ?_
  refine Zm.l (fun _ _ k_ => z_iload dX8_code_435 rfl k_) ?_
  refine Zm.pick [0, 1, 2, 3, 4] rfl ?_
  exact zm_callV (as := [vi l7, vi l8]) (st := []) dX8_code_437 vsX8_726_1 (Nat.le_refl _) (Nat.le_of_ble_eq_true rfl) (Nat.le_of_ble_eq_true rfl) rfl k
theorem sX8_code_440 {E : zE} {d : Nat} {Q : zO → zM → Prop} (M : zM) (l1 : Int32) (l4 : Int32) (l5 : Int32) (l6 : Int32) (k : Zm E YX8_here d M (zargs 0 [vr (some (97, 1, 0)), vi l5]) 0 [] (zma E YX8_code (d + 1) [(0, vr (some (97, 1, 0))), (1, vi l1), (4, vi l4), (6, vi l6)] 443 3 [] Q)) : Zm E YX8_code (d + 1) M [(0, vr (some (97, 1, 0))), (1, vi l1), (4, vi l4), (5, vi l5), (6, vi l6)] 440 [] Q := by
  refine Zm.l (fun _ _ k_ => z_aload_n dX8_code_440 rfl rfl k_) ?_
  refine Zm.l (fun _ _ k_ => z_iload dX8_code_441 rfl k_) ?_
  refine Zm.pick [0, 1, 2, 4] rfl ?_
  exact zm_callV (as := [vi l5]) (st := []) dX8_code_443 vsX8_677_1 (Nat.le_refl _) (Nat.le_of_ble_eq_true rfl) (Nat.le_of_ble_eq_true rfl) rfl k
theorem sX8_code_446 {E : zE} {d : Nat} {Q : zO → zM → Prop} (M : zM) (l1 : Int32) (l4 : Int32) (l6 : Int32) (k : Zm E YX8_part d M (zargs 0 [vr (some (97, 1, 0)), vi l1, vi (2 : Int32)]) 0 [] (zma E YX8_code (d + 1) [(0, vr (some (97, 1, 0))), (1, vi l1), (4, vi l4), (6, vi l6)] 449 3 [] Q)) : Zm E YX8_code (d + 1) M [(0, vr (some (97, 1, 0))), (1, vi l1), (4, vi l4), (6, vi l6)] 446 [] Q := by
  refine Zm.l (fun _ _ k_ => z_aload_n dX8_code_446 rfl rfl k_) ?_
  refine Zm.l (fun _ _ k_ => z_iload_n dX8_code_447 rfl rfl k_) ?_
  refine Zm.l (fun _ _ k_ => z_iconst (v := 2) dX8_code_448 rfl k_) ?_
  exact zm_callV (as := [vi l1, vi (2 : Int32)]) (st := []) dX8_code_449 vsX8_644_1 (Nat.le_refl _) (Nat.le_of_ble_eq_true rfl) (Nat.le_of_ble_eq_true rfl) rfl k
theorem sX8_code_452 {E : zE} {d : Nat} {Q : zO → zM → Prop} (M : zM) (l1 : Int32) (l4 : Int32) (l6 : Int32) (s0 : Int32) (k : if s0 = (-1 : Int32) then (Zm E YX8_code (d + 1) M [(0, vr (some (97, 1, 0))), (4, vi l4), (6, vi l6)] 472 [] Q) else (Zm E YX8_part d M (zargs 0 [vr (some (97, 1, 0)), vi l1, vi (2 : Int32)]) 0 [] (zma E YX8_code (d + 1) [(0, vr (some (97, 1, 0))), (4, vi l4), (6, vi l6)] 460 3 [vr (some (97, 1, 0))] Q))) : Zm E YX8_code (d + 1) M [(0, vr (some (97, 1, 0))), (1, vi l1), (4, vi l4), (6, vi l6)] 452 [vi s0] Q := by
  refine Zm.l (fun _ _ k_ => z_iconst (v := -1) dX8_code_452 rfl k_) ?_
  refine Zm.br (fun _ _ k1_ k2_ => z_icmp_eq (tgt := 472) dX8_code_453 rfl k1_ k2_) (fun h_ => ?_) (fun h_ => ?_)
  · have k := zit h_ k
    refine Zm.pick [0, 2, 3] rfl ?_
    exact k
  · have k := zif h_ k
    refine Zm.l (fun _ _ k_ => z_aload_n dX8_code_456 rfl rfl k_) ?_
    refine Zm.l (fun _ _ k_ => z_aload_n dX8_code_457 rfl rfl k_) ?_
    refine Zm.l (fun _ _ k_ => z_iload_n dX8_code_458 rfl rfl k_) ?_
    refine Zm.l (fun _ _ k_ => z_iconst (v := 2) dX8_code_459 rfl k_) ?_
    refine Zm.pick [0, 2, 3] rfl ?_
    exact zm_callV (as := [vi l1, vi (2 : Int32)]) (st := [vr (some (97, 1, 0))]) dX8_code_460 vsX8_644_1 (Nat.le_refl _) (Nat.le_of_ble_eq_true rfl) (Nat.le_of_ble_eq_true rfl) rfl k
theorem sX8_code_463 {E : zE} {d : Nat} {Q : zO → zM → Prop} (M : zM) (l4 : Int32) (l6 : Int32) (s0 : Int32) (k : Zm E YX8_value d M (zargs 0 [vr (some (97, 1, 0)), vi s0]) 0 [] (zma E YX8_code (d + 1) [(0, vr (some (97, 1, 0))), (4, vi l4), (6, vi l6)] 463 3 [] Q)) : Zm E YX8_code (d + 1) M [(0, vr (some (97, 1, 0))), (4, vi l4), (6, vi l6)] 463 [vi s0, vr (some (97, 1, 0))] Q := by
  exact zm_callV (as := [vi s0]) (st := []) dX8_code_463 vsX8_668_1 (Nat.le_refl _) (Nat.le_of_ble_eq_true rfl) (Nat.le_of_ble_eq_true rfl) rfl k
theorem sX8_code_466 {E : zE} {d : Nat} {Q : zO → zM → Prop} (M : zM) (l4 : Int32) (l6 : Int32) (k : Zm E YX8_emit_2 d M (zargs 0 [vr (some (97, 1, 0)), vi (17 : Int32)]) 0 [] (zma E YX8_code (d + 1) [(0, vr (some (97, 1, 0))), (4, vi l4), (6, vi l6)] 469 3 [] Q)) : Zm E YX8_code (d + 1) M [(0, vr (some (97, 1, 0))), (4, vi l4), (6, vi l6)] 466 [] Q := by
  refine Zm.l (fun _ _ k_ => z_aload_n dX8_code_466 rfl rfl k_) ?_
  refine Zm.l (fun _ _ k_ => z_bipush (v := 17) dX8_code_467 rfl k_) ?_
  exact zm_callV (as := [vi (17 : Int32)]) (st := []) dX8_code_469 vsX8_666_1 (Nat.le_refl _) (Nat.le_of_ble_eq_true rfl) (Nat.le_of_ble_eq_true rfl) rfl k
theorem sX8_code_472 {E : zE} {d : Nat} {Q : zO → zM → Prop} (M : zM) (l4 : Int32) (l6 : Int32) (k : Zm E YX8_emit d M (zargs 0 [vr (some (97, 1, 0)), vi (21 : Int32), vi l4, vi (0 : Int32)]) 0 [] (zma E YX8_code (d + 1) [(0, vr (some (97, 1, 0))), (6, vi l6)] 478 3 [] Q)) : Zm E YX8_code (d + 1) M [(0, vr (some (97, 1, 0))), (4, vi l4), (6, vi l6)] 472 [] Q := by
  refine Zm.l (fun _ _ k_ => z_aload_n dX8_code_472 rfl rfl k_) ?_
  refine Zm.l (fun _ _ k_ => z_bipush (v := 21) dX8_code_473 rfl k_) ?_
  refine Zm.l (fun _ _ k_ => z_iload dX8_code_475 rfl k_) ?_
  refine Zm.l (fun _ _ k_ => z_iconst (v := 0) dX8_code_477 rfl k_) ?_
  refine Zm.pick [0, 2] rfl ?_
  exact zm_callV (as := [vi (21 : Int32), vi l4, vi (0 : Int32)]) (st := []) dX8_code_478 vsX8_615_1 (Nat.le_refl _) (Nat.le_of_ble_eq_true rfl) (Nat.le_of_ble_eq_true rfl) rfl k
theorem sX8_code_481 {E : zE} {d : Nat} {Q : zO → zM → Prop} (M : zM) (l6 : Int32) (k : Zm E YX8_here d M (zargs 0 [vr (some (97, 1, 0)), vi l6]) 0 [] (zma E YX8_code (d + 1) [] 484 3 [] Q)) : Zm E YX8_code (d + 1) M [(0, vr (some (97, 1, 0))), (6, vi l6)] 481 [] Q := by
  refine Zm.l (fun _ _ k_ => z_aload_n dX8_code_481 rfl rfl k_) ?_
  refine Zm.l (fun _ _ k_ => z_iload dX8_code_482 rfl k_) ?_
  refine Zm.pick [] rfl ?_
  exact zm_callV (as := [vi l6]) (st := []) dX8_code_484 vsX8_677_1 (Nat.le_refl _) (Nat.le_of_ble_eq_true rfl) (Nat.le_of_ble_eq_true rfl) rfl k
theorem sX8_code_487 {E : zE} {d : Nat} {Q : zO → zM → Prop} (M : zM)  (k : Q (.inl none) M) : Zm E YX8_code (d + 1) M [] 487 [] Q := by
  refine Zm.l (fun _ _ k_ => z_goto (tgt := 634) dX8_code_487 rfl k_) ?_
  exact zm_vret dX8_code_634 rfl k
theorem sX8_code_494 {E : zE} {d : Nat} {Q : zO → zM → Prop} (M : zM) (l1 : Int32) (l2 : Int32) (l3 : Int32) (s0 : Int32) (k : Zm E YX8_mark d M (zargs 0 [vr (some (97, 1, 0))]) 0 [] (zma E YX8_code (d + 1) [(0, vr (some (97, 1, 0))), (1, vi l1), (2, vi l2), (3, vi l3), (4, vi s0)] 497 3 [] Q)) : Zm E YX8_code (d + 1) M [(0, vr (some (97, 1, 0))), (1, vi l1), (2, vi l2), (3, vi l3)] 494 [vi s0] Q := by
  refine Zm.l (fun _ _ k_ => z_ist dX8_code_494 (by decide) (lv' := [(0, vr (some (97, 1, 0))), (1, vi l1), (2, vi l2), (3, vi l3), (4, vi s0)]) rfl k_) ?_
  refine Zm.l (fun _ _ k_ => z_aload_n dX8_code_496 rfl rfl k_) ?_
  exact zm_callV (as := []) (st := []) dX8_code_497 vsX8_674_1 (Nat.le_refl _) (Nat.le_of_ble_eq_true rfl) (Nat.le_of_ble_eq_true rfl) rfl k
theorem sX8_code_500 {E : zE} {d : Nat} {Q : zO → zM → Prop} (M : zM) (l1 : Int32) (l2 : Int32) (l3 : Int32) (l4 : Int32) (s0 : Int32) (k : Zm E YX8_value d M (zargs 0 [vr (some (97, 1, 0)), vi l3]) 0 [] (zma E YX8_code (d + 1) [(0, vr (some (97, 1, 0))), (1, vi l1), (2, vi l2), (4, vi l4), (5, vi s0)] 504 3 [] Q)) : Zm E YX8_code (d + 1) M [(0, vr (some (97, 1, 0))), (1, vi l1), (2, vi l2), (3, vi l3), (4, vi l4)] 500 [vi s0] Q := by
  refine Zm.l (fun _ _ k_ => z_ist dX8_code_500 (by decide) (lv' := [(0, vr (some (97, 1, 0))), (1, vi l1), (2, vi l2), (3, vi l3), (4, vi l4), (5, vi s0)]) rfl k_) ?_
  refine Zm.l (fun _ _ k_ => z_aload_n dX8_code_502 rfl rfl k_) ?_
  refine Zm.l (fun _ _ k_ => z_iload_n dX8_code_503 rfl rfl k_) ?_
  refine Zm.pick [0, 1, 2, 4, 5] rfl ?_
  exact zm_callV (as := [vi l3]) (st := []) dX8_code_504 vsX8_668_1 (Nat.le_refl _) (Nat.le_of_ble_eq_true rfl) (Nat.le_of_ble_eq_true rfl) rfl k
theorem sX8_code_507 {E : zE} {d : Nat} {Q : zO → zM → Prop} (M : zM) (l1 : Int32) (l2 : Int32) (l4 : Int32) (l5 : Int32) (k : Zm E YX8_emit_2 d M (zargs 0 [vr (some (97, 1, 0)), vi (29 : Int32)]) 0 [] (zma E YX8_code (d + 1) [(0, vr (some (97, 1, 0))), (1, vi l1), (2, vi l2), (4, vi l4), (5, vi l5)] 510 3 [] Q)) : Zm E YX8_code (d + 1) M [(0, vr (some (97, 1, 0))), (1, vi l1), (2, vi l2), (4, vi l4), (5, vi l5)] 507 [] Q := by
  refine Zm.l (fun _ _ k_ => z_aload_n dX8_code_507 rfl rfl k_) ?_
  refine Zm.l (fun _ _ k_ => z_bipush (v := 29) dX8_code_508 rfl k_) ?_
  exact zm_callV (as := [vi (29 : Int32)]) (st := []) dX8_code_510 vsX8_666_1 (Nat.le_refl _) (Nat.le_of_ble_eq_true rfl) (Nat.le_of_ble_eq_true rfl) rfl k
theorem sX8_code_513 {E : zE} {d : Nat} {Q : zO → zM → Prop} (M : zM) (l1 : Int32) (l2 : Int32) (l4 : Int32) (l5 : Int32) (k : Zm E YX8_here d M (zargs 0 [vr (some (97, 1, 0)), vi l4]) 0 [] (zma E YX8_code (d + 1) [(0, vr (some (97, 1, 0))), (1, vi l1), (2, vi l2), (4, vi l4), (5, vi l5)] 516 3 [] Q)) : Zm E YX8_code (d + 1) M [(0, vr (some (97, 1, 0))), (1, vi l1), (2, vi l2), (4, vi l4), (5, vi l5)] 513 [] Q := by
  refine Zm.l (fun _ _ k_ => z_aload_n dX8_code_513 rfl rfl k_) ?_
  refine Zm.l (fun _ _ k_ => z_iload dX8_code_514 rfl k_) ?_
  exact zm_callV (as := [vi l4]) (st := []) dX8_code_516 vsX8_677_1 (Nat.le_refl _) (Nat.le_of_ble_eq_true rfl) (Nat.le_of_ble_eq_true rfl) rfl k
theorem sX8_code_519 {E : zE} {d : Nat} {Q : zO → zM → Prop} (M : zM) (l1 : Int32) (l2 : Int32) (l4 : Int32) (l5 : Int32) (k : Zm E YX8_emit d M (zargs 0 [vr (some (97, 1, 0)), vi (30 : Int32), vi l5, vi (0 : Int32)]) 0 [] (zma E YX8_code (d + 1) [(0, vr (some (97, 1, 0))), (1, vi l1), (2, vi l2), (4, vi l4), (5, vi l5)] 525 3 [] Q)) : Zm E YX8_code (d + 1) M [(0, vr (some (97, 1, 0))), (1, vi l1), (2, vi l2), (4, vi l4), (5, vi l5)] 519 [] Q := by
  refine Zm.l (fun _ _ k_ => z_aload_n dX8_code_519 rfl rfl k_) ?_
  refine Zm.l (fun _ _ k_ => z_bipush (v := 30) dX8_code_520 rfl k_) ?_
  refine Zm.l (fun _ _ k_ => z_iload dX8_code_522 rfl k_) ?_
  refine Zm.l (fun _ _ k_ => z_iconst (v := 0) dX8_code_524 rfl k_) ?_
  exact zm_callV (as := [vi (30 : Int32), vi l5, vi (0 : Int32)]) (st := []) dX8_code_525 vsX8_615_1 (Nat.le_refl _) (Nat.le_of_ble_eq_true rfl) (Nat.le_of_ble_eq_true rfl) rfl k
theorem sX8_code_528 {E : zE} {d : Nat} {Q : zO → zM → Prop} (M : zM) (l1 : Int32) (l2 : Int32) (l4 : Int32) (l5 : Int32) (k : Zm E YX8_set d M (zargs 0 [vr (some (97, 1, 0)), vi l2]) 0 [] (zma E YX8_code (d + 1) [(0, vr (some (97, 1, 0))), (1, vi l1), (4, vi l4), (5, vi l5)] 530 3 [] Q)) : Zm E YX8_code (d + 1) M [(0, vr (some (97, 1, 0))), (1, vi l1), (2, vi l2), (4, vi l4), (5, vi l5)] 528 [] Q := by
  refine Zm.l (fun _ _ k_ => z_aload_n dX8_code_528 rfl rfl k_) ?_
  refine Zm.l (fun _ _ k_ => z_iload_n dX8_code_529 rfl rfl k_) ?_
  refine Zm.pick [0, 1, 3, 4] rfl ?_
  exact zm_callV (as := [vi l2]) (st := []) dX8_code_530 vsX8_704_1 (Nat.le_refl _) (Nat.le_of_ble_eq_true rfl) (Nat.le_of_ble_eq_true rfl) rfl k
theorem sX8_code_533 {E : zE} {d : Nat} {Q : zO → zM → Prop} (M : zM) (l1 : Int32) (l4 : Int32) (l5 : Int32) (k : Zm E YX8_emit_2 d M (zargs 0 [vr (some (97, 1, 0)), vi (17 : Int32)]) 0 [] (zma E YX8_code (d + 1) [(0, vr (some (97, 1, 0))), (1, vi l1), (4, vi l4), (5, vi l5)] 536 3 [] Q)) : Zm E YX8_code (d + 1) M [(0, vr (some (97, 1, 0))), (1, vi l1), (4, vi l4), (5, vi l5)] 533 [] Q := by
  refine Zm.l (fun _ _ k_ => z_aload_n dX8_code_533 rfl rfl k_) ?_
  refine Zm.l (fun _ _ k_ => z_bipush (v := 17) dX8_code_534 rfl k_) ?_
  exact zm_callV (as := [vi (17 : Int32)]) (st := []) dX8_code_536 vsX8_666_1 (Nat.le_refl _) (Nat.le_of_ble_eq_true rfl) (Nat.le_of_ble_eq_true rfl) rfl k
theorem sX8_code_539 {E : zE} {d : Nat} {Q : zO → zM → Prop} (M : zM) (l1 : Int32) (l4 : Int32) (l5 : Int32) (k : Zm E YX8_part d M (zargs 0 [vr (some (97, 1, 0)), vi l1, vi (2 : Int32)]) 0 [] (zma E YX8_code (d + 1) [(0, vr (some (97, 1, 0))), (4, vi l4), (5, vi l5)] 544 3 [vi (4 : Int32), vr (some (97, 1, 0))] Q)) : Zm E YX8_code (d + 1) M [(0, vr (some (97, 1, 0))), (1, vi l1), (4, vi l4), (5, vi l5)] 539 [] Q := by
  refine Zm.l (fun _ _ k_ => z_aload_n dX8_code_539 rfl rfl k_) ?_
  refine Zm.l (fun _ _ k_ => z_iconst (v := 4) dX8_code_540 rfl k_) ?_
  refine Zm.l (fun _ _ k_ => z_aload_n dX8_code_541 rfl rfl k_) ?_
  refine Zm.l (fun _ _ k_ => z_iload_n dX8_code_542 rfl rfl k_) ?_
  refine Zm.l (fun _ _ k_ => z_iconst (v := 2) dX8_code_543 rfl k_) ?_
  refine Zm.pick [0, 2, 3] rfl ?_
  exact zm_callV (as := [vi l1, vi (2 : Int32)]) (st := [vi (4 : Int32), vr (some (97, 1, 0))]) dX8_code_544 vsX8_644_1 (Nat.le_refl _) (Nat.le_of_ble_eq_true rfl) (Nat.le_of_ble_eq_true rfl) rfl k
theorem sX8_code_547 {E : zE} {d : Nat} {Q : zO → zM → Prop} (M : zM) (l4 : Int32) (l5 : Int32) (s0 : Int32) (s1 : Int32) (k : Zm E YX8_codeInside d M (zargs 0 [vr (some (97, 1, 0)), vi s1, vi s0, vi l5, vi l4]) 0 [] (zma E YX8_code (d + 1) [(0, vr (some (97, 1, 0))), (4, vi l4), (5, vi l5)] 551 3 [] Q)) : Zm E YX8_code (d + 1) M [(0, vr (some (97, 1, 0))), (4, vi l4), (5, vi l5)] 547 [vi s0, vi s1, vr (some (97, 1, 0))] Q := by
  refine Zm.l (fun _ _ k_ => z_iload dX8_code_547 rfl k_) ?_
  refine Zm.l (fun _ _ k_ => z_iload dX8_code_549 rfl k_) ?_
  exact zm_callV (as := [vi s1, vi s0, vi l5, vi l4]) (st := []) dX8_code_551 vsX8_719_1 (Nat.le_refl _) (Nat.le_of_ble_eq_true rfl) (Nat.le_of_ble_eq_true rfl) rfl k
theorem sX8_code_554 {E : zE} {d : Nat} {Q : zO → zM → Prop} (M : zM) (l4 : Int32) (l5 : Int32) (k : Zm E YX8_emit d M (zargs 0 [vr (some (97, 1, 0)), vi (21 : Int32), vi l4, vi (0 : Int32)]) 0 [] (zma E YX8_code (d + 1) [(0, vr (some (97, 1, 0))), (5, vi l5)] 560 3 [] Q)) : Zm E YX8_code (d + 1) M [(0, vr (some (97, 1, 0))), (4, vi l4), (5, vi l5)] 554 [] Q := by
  refine Zm.l (fun _ _ k_ => z_aload_n dX8_code_554 rfl rfl k_) ?_
  refine Zm.l (fun _ _ k_ => z_bipush (v := 21) dX8_code_555 rfl k_) ?_
  refine Zm.l (fun _ _ k_ => z_iload dX8_code_557 rfl k_) ?_
  refine Zm.l (fun _ _ k_ => z_iconst (v := 0) dX8_code_559 rfl k_) ?_
  refine Zm.pick [0, 2] rfl ?_
  exact zm_callV (as := [vi (21 : Int32), vi l4, vi (0 : Int32)]) (st := []) dX8_code_560 vsX8_615_1 (Nat.le_refl _) (Nat.le_of_ble_eq_true rfl) (Nat.le_of_ble_eq_true rfl) rfl k
theorem sX8_code_563 {E : zE} {d : Nat} {Q : zO → zM → Prop} (M : zM) (l5 : Int32) (k : Zm E YX8_here d M (zargs 0 [vr (some (97, 1, 0)), vi l5]) 0 [] (zma E YX8_code (d + 1) [] 566 3 [] Q)) : Zm E YX8_code (d + 1) M [(0, vr (some (97, 1, 0))), (5, vi l5)] 563 [] Q := by
  refine Zm.l (fun _ _ k_ => z_aload_n dX8_code_563 rfl rfl k_) ?_
  refine Zm.l (fun _ _ k_ => z_iload dX8_code_564 rfl k_) ?_
  refine Zm.pick [] rfl ?_
  exact zm_callV (as := [vi l5]) (st := []) dX8_code_566 vsX8_677_1 (Nat.le_refl _) (Nat.le_of_ble_eq_true rfl) (Nat.le_of_ble_eq_true rfl) rfl k
theorem sX8_code_569 {E : zE} {d : Nat} {Q : zO → zM → Prop} (M : zM)  (k : Q (.inl none) M) : Zm E YX8_code (d + 1) M [] 569 [] Q := by
  refine Zm.l (fun _ _ k_ => z_goto (tgt := 634) dX8_code_569 rfl k_) ?_
  exact zm_vret dX8_code_634 rfl k
theorem sX8_code_592 {E : zE} {d : Nat} {Q : zO → zM → Prop} (M : zM)  (k : Q (.inl none) M) : Zm E YX8_code (d + 1) M [] 592 [] Q := by
  refine Zm.l (fun _ _ k_ => z_goto (tgt := 634) dX8_code_592 rfl k_) ?_
  exact zm_vret dX8_code_634 rfl k
theorem sX8_code_600 {E : zE} {d : Nat} {Q : zO → zM → Prop} (M : zM)  (k : Q (.inl none) M) : Zm E YX8_code (d + 1) M [] 600 [] Q := by
  refine Zm.l (fun _ _ k_ => z_goto (tgt := 634) dX8_code_600 rfl k_) ?_
  exact zm_vret dX8_code_634 rfl k
theorem sX8_code_608 {E : zE} {d : Nat} {Q : zO → zM → Prop} (M : zM)  (k : Zm E YX8_emit_2 d M (zargs 0 [vr (some (97, 1, 0)), vi (26 : Int32)]) 0 [] (zma E YX8_code (d + 1) [] 611 3 [] Q)) : Zm E YX8_code (d + 1) M [(0, vr (some (97, 1, 0)))] 608 [] Q := by
  refine Zm.l (fun _ _ k_ => z_aload_n dX8_code_608 rfl rfl k_) ?_
  refine Zm.l (fun _ _ k_ => z_bipush (v := 26) dX8_code_609 rfl k_) ?_
  refine Zm.pick [] rfl ?_
  exact zm_callV (as := [vi (26 : Int32)]) (st := []) dX8_code_611 vsX8_666_1 (Nat.le_refl _) (Nat.le_of_ble_eq_true rfl) (Nat.le_of_ble_eq_true rfl) rfl k
theorem sX8_code_614 {E : zE} {d : Nat} {Q : zO → zM → Prop} (M : zM)  (k : Q (.inl none) M) : Zm E YX8_code (d + 1) M [] 614 [] Q := by
  refine Zm.l (fun _ _ k_ => z_goto (tgt := 634) dX8_code_614 rfl k_) ?_
  exact zm_vret dX8_code_634 rfl k
theorem sX8_code_622 {E : zE} {d : Nat} {Q : zO → zM → Prop} (M : zM)  (k : Q (.inl none) M) : Zm E YX8_code (d + 1) M [] 622 [] Q := by
  refine Zm.l (fun _ _ k_ => z_goto (tgt := 634) dX8_code_622 rfl k_) ?_
  exact zm_vret dX8_code_634 rfl k
theorem sX8_code_631 {E : zE} {d : Nat} {Q : zO → zM → Prop} (M : zM)  (k : Q (.inl none) M) : Zm E YX8_code (d + 1) M [] 631 [] Q := by
  refine Zm.l (fun _ _ k_ => z_goto (tgt := 634) dX8_code_631 rfl k_) ?_
  exact zm_vret dX8_code_634 rfl k
/-! ScriptTypesModel.declare(I)V -/
theorem bX8_declare_0 : zdec cX8_declare 0 [(0, .iload_n 1, 1), (1, .istore_n 2, 1), (2, .iload_n 2, 1), (3, .iconst (-1), 1), (4, .if_icmp .eq 52, 3), (7, .aload_n 0, 1), (8, .iload_n 2, 1), (9, .iconst 0, 1), (10, .invokevirtual 644, 3), (13, .iconst (-1), 1), (14, .if_icmp .ne 6, 3), (17, .goto 29, 3), (20, .aload_n 0, 1), (21, .aload_n 0, 1), (22, .iload_n 2, 1), (23, .iconst 0, 1)] = true := by decide +kernel
theorem dX8_declare_0 : decode cX8_declare 0 = .ok (.iload_n 1, 1) := zdec_at bX8_declare_0 0 rfl
theorem dX8_declare_1 : decode cX8_declare 1 = .ok (.istore_n 2, 1) := zdec_at bX8_declare_0 1 rfl
theorem dX8_declare_2 : decode cX8_declare 2 = .ok (.iload_n 2, 1) := zdec_at bX8_declare_0 2 rfl
theorem dX8_declare_3 : decode cX8_declare 3 = .ok (.iconst (-1), 1) := zdec_at bX8_declare_0 3 rfl
theorem dX8_declare_4 : decode cX8_declare 4 = .ok (.if_icmp .eq 52, 3) := zdec_at bX8_declare_0 4 rfl
theorem dX8_declare_7 : decode cX8_declare 7 = .ok (.aload_n 0, 1) := zdec_at bX8_declare_0 5 rfl
theorem dX8_declare_8 : decode cX8_declare 8 = .ok (.iload_n 2, 1) := zdec_at bX8_declare_0 6 rfl
theorem dX8_declare_9 : decode cX8_declare 9 = .ok (.iconst 0, 1) := zdec_at bX8_declare_0 7 rfl
theorem dX8_declare_10 : decode cX8_declare 10 = .ok (.invokevirtual 644, 3) := zdec_at bX8_declare_0 8 rfl
theorem dX8_declare_13 : decode cX8_declare 13 = .ok (.iconst (-1), 1) := zdec_at bX8_declare_0 9 rfl
theorem dX8_declare_14 : decode cX8_declare 14 = .ok (.if_icmp .ne 6, 3) := zdec_at bX8_declare_0 10 rfl
theorem dX8_declare_17 : decode cX8_declare 17 = .ok (.goto 29, 3) := zdec_at bX8_declare_0 11 rfl
theorem dX8_declare_20 : decode cX8_declare 20 = .ok (.aload_n 0, 1) := zdec_at bX8_declare_0 12 rfl
theorem dX8_declare_21 : decode cX8_declare 21 = .ok (.aload_n 0, 1) := zdec_at bX8_declare_0 13 rfl
theorem dX8_declare_22 : decode cX8_declare 22 = .ok (.iload_n 2, 1) := zdec_at bX8_declare_0 14 rfl
theorem dX8_declare_23 : decode cX8_declare 23 = .ok (.iconst 0, 1) := zdec_at bX8_declare_0 15 rfl
theorem bX8_declare_24 : zdec cX8_declare 24 [(24, .invokevirtual 644, 3), (27, .invokevirtual 668, 3), (30, .aload_n 0, 1), (31, .aload_n 0, 1), (32, .iload_n 2, 1), (33, .iconst 1, 1), (34, .invokevirtual 644, 3), (37, .invokevirtual 704, 3), (40, .aload_n 0, 1), (41, .bipush 17, 2), (43, .invokevirtual 666, 3), (46, .aload_n 0, 1), (47, .getfield 49, 3), (50, .iload_n 2, 1), (51, .iaload, 1), (52, .istore_n 2, 1)] = true := by decide +kernel
theorem dX8_declare_24 : decode cX8_declare 24 = .ok (.invokevirtual 644, 3) := zdec_at bX8_declare_24 0 rfl
theorem dX8_declare_27 : decode cX8_declare 27 = .ok (.invokevirtual 668, 3) := zdec_at bX8_declare_24 1 rfl
theorem dX8_declare_30 : decode cX8_declare 30 = .ok (.aload_n 0, 1) := zdec_at bX8_declare_24 2 rfl
theorem dX8_declare_31 : decode cX8_declare 31 = .ok (.aload_n 0, 1) := zdec_at bX8_declare_24 3 rfl
theorem dX8_declare_32 : decode cX8_declare 32 = .ok (.iload_n 2, 1) := zdec_at bX8_declare_24 4 rfl
theorem dX8_declare_33 : decode cX8_declare 33 = .ok (.iconst 1, 1) := zdec_at bX8_declare_24 5 rfl
theorem dX8_declare_34 : decode cX8_declare 34 = .ok (.invokevirtual 644, 3) := zdec_at bX8_declare_24 6 rfl
theorem dX8_declare_37 : decode cX8_declare 37 = .ok (.invokevirtual 704, 3) := zdec_at bX8_declare_24 7 rfl
theorem dX8_declare_40 : decode cX8_declare 40 = .ok (.aload_n 0, 1) := zdec_at bX8_declare_24 8 rfl
theorem dX8_declare_41 : decode cX8_declare 41 = .ok (.bipush 17, 2) := zdec_at bX8_declare_24 9 rfl
theorem dX8_declare_43 : decode cX8_declare 43 = .ok (.invokevirtual 666, 3) := zdec_at bX8_declare_24 10 rfl
theorem dX8_declare_46 : decode cX8_declare 46 = .ok (.aload_n 0, 1) := zdec_at bX8_declare_24 11 rfl
theorem dX8_declare_47 : decode cX8_declare 47 = .ok (.getfield 49, 3) := zdec_at bX8_declare_24 12 rfl
theorem dX8_declare_50 : decode cX8_declare 50 = .ok (.iload_n 2, 1) := zdec_at bX8_declare_24 13 rfl
theorem dX8_declare_51 : decode cX8_declare 51 = .ok (.iaload, 1) := zdec_at bX8_declare_24 14 rfl
theorem dX8_declare_52 : decode cX8_declare 52 = .ok (.istore_n 2, 1) := zdec_at bX8_declare_24 15 rfl
theorem bX8_declare_53 : zdec cX8_declare 53 [(53, .goto (-51), 3), (56, .return_, 1)] = true := by decide +kernel
theorem dX8_declare_53 : decode cX8_declare 53 = .ok (.goto (-51), 3) := zdec_at bX8_declare_53 0 rfl
theorem dX8_declare_56 : decode cX8_declare 56 = .ok (.return_, 1) := zdec_at bX8_declare_53 1 rfl
theorem sX8_declare_0 {E : zE} {d : Nat} {Q : zO → zM → Prop} (M : zM) (l1 : Int32) (k : Zm E YX8_declare (d + 1) M [(0, vr (some (97, 1, 0))), (2, vi l1)] 2 [] Q) : Zm E YX8_declare (d + 1) M [(0, vr (some (97, 1, 0))), (1, vi l1)] 0 [] Q := by
  refine Zm.l (fun _ _ k_ => z_iload_n dX8_declare_0 rfl rfl k_) ?_
  refine Zm.l (fun _ _ k_ => z_ist_n dX8_declare_1 rfl (by decide) (lv' := [(0, vr (some (97, 1, 0))), (1, vi l1), (2, vi l1)]) rfl k_) ?_
  refine Zm.pick [0, 2] rfl ?_
  exact k
theorem sX8_declare_2 {E : zE} {d : Nat} {Q : zO → zM → Prop} (M : zM) (l2 : Int32) (k : if l2 = (-1 : Int32) then (Q (.inl none) M) else (Zm E YX8_part d M (zargs 0 [vr (some (97, 1, 0)), vi l2, vi (0 : Int32)]) 0 [] (zma E YX8_declare (d + 1) [(0, vr (some (97, 1, 0))), (2, vi l2)] 10 3 [] Q))) : Zm E YX8_declare (d + 1) M [(0, vr (some (97, 1, 0))), (2, vi l2)] 2 [] Q := by
  refine Zm.l (fun _ _ k_ => z_iload_n dX8_declare_2 rfl rfl k_) ?_
  refine Zm.l (fun _ _ k_ => z_iconst (v := -1) dX8_declare_3 rfl k_) ?_
  refine Zm.br (fun _ _ k1_ k2_ => z_icmp_eq (tgt := 56) dX8_declare_4 rfl k1_ k2_) (fun h_ => ?_) (fun h_ => ?_)
  · have k := zit h_ k
    exact zm_vret dX8_declare_56 rfl k
  · have k := zif h_ k
    refine Zm.l (fun _ _ k_ => z_aload_n dX8_declare_7 rfl rfl k_) ?_
    refine Zm.l (fun _ _ k_ => z_iload_n dX8_declare_8 rfl rfl k_) ?_
    refine Zm.l (fun _ _ k_ => z_iconst (v := 0) dX8_declare_9 rfl k_) ?_
    exact zm_callV (as := [vi l2, vi (0 : Int32)]) (st := []) dX8_declare_10 vsX8_644_1 (Nat.le_refl _) (Nat.le_of_ble_eq_true rfl) (Nat.le_of_ble_eq_true rfl) rfl k
theorem sX8_declare_13 {E : zE} {d : Nat} {Q : zO → zM → Prop} (M : zM) (l2 : Int32) (s0 : Int32) (k : if s0 = (-1 : Int32) then (Zm E YX8_declare (d + 1) M [(0, vr (some (97, 1, 0))), (2, vi l2)] 46 [] Q) else (Zm E YX8_part d M (zargs 0 [vr (some (97, 1, 0)), vi l2, vi (0 : Int32)]) 0 [] (zma E YX8_declare (d + 1) [(0, vr (some (97, 1, 0))), (2, vi l2)] 24 3 [vr (some (97, 1, 0))] Q))) : Zm E YX8_declare (d + 1) M [(0, vr (some (97, 1, 0))), (2, vi l2)] 13 [vi s0] Q := by
  refine Zm.l (fun _ _ k_ => z_iconst (v := -1) dX8_declare_13 rfl k_) ?_
  refine Zm.brn (fun _ _ k1_ k2_ => z_icmp_ne (tgt := 20) dX8_declare_14 rfl k1_ k2_) (fun h_ => ?_) (fun h_ => ?_)
  · have k := zif h_ k
    refine Zm.l (fun _ _ k_ => z_aload_n dX8_declare_20 rfl rfl k_) ?_
    refine Zm.l (fun _ _ k_ => z_aload_n dX8_declare_21 rfl rfl k_) ?_
    refine Zm.l (fun _ _ k_ => z_iload_n dX8_declare_22 rfl rfl k_) ?_
    refine Zm.l (fun _ _ k_ => z_iconst (v := 0) dX8_declare_23 rfl k_) ?_
    exact zm_callV (as := [vi l2, vi (0 : Int32)]) (st := [vr (some (97, 1, 0))]) dX8_declare_24 vsX8_644_1 (Nat.le_refl _) (Nat.le_of_ble_eq_true rfl) (Nat.le_of_ble_eq_true rfl) rfl k
  · have k := zit h_ k
    refine Zm.l (fun _ _ k_ => z_goto (tgt := 46) dX8_declare_17 rfl k_) ?_
    exact k
theorem sX8_declare_27 {E : zE} {d : Nat} {Q : zO → zM → Prop} (M : zM) (l2 : Int32) (s0 : Int32) (k : Zm E YX8_value d M (zargs 0 [vr (some (97, 1, 0)), vi s0]) 0 [] (zma E YX8_declare (d + 1) [(0, vr (some (97, 1, 0))), (2, vi l2)] 27 3 [] Q)) : Zm E YX8_declare (d + 1) M [(0, vr (some (97, 1, 0))), (2, vi l2)] 27 [vi s0, vr (some (97, 1, 0))] Q := by
  exact zm_callV (as := [vi s0]) (st := []) dX8_declare_27 vsX8_668_1 (Nat.le_refl _) (Nat.le_of_ble_eq_true rfl) (Nat.le_of_ble_eq_true rfl) rfl k
theorem sX8_declare_30 {E : zE} {d : Nat} {Q : zO → zM → Prop} (M : zM) (l2 : Int32) (k : Zm E YX8_part d M (zargs 0 [vr (some (97, 1, 0)), vi l2, vi (1 : Int32)]) 0 [] (zma E YX8_declare (d + 1) [(0, vr (some (97, 1, 0))), (2, vi l2)] 34 3 [vr (some (97, 1, 0))] Q)) : Zm E YX8_declare (d + 1) M [(0, vr (some (97, 1, 0))), (2, vi l2)] 30 [] Q := by
  refine Zm.l (fun _ _ k_ => z_aload_n dX8_declare_30 rfl rfl k_) ?_
  refine Zm.l (fun _ _ k_ => z_aload_n dX8_declare_31 rfl rfl k_) ?_
  refine Zm.l (fun _ _ k_ => z_iload_n dX8_declare_32 rfl rfl k_) ?_
  refine Zm.l (fun _ _ k_ => z_iconst (v := 1) dX8_declare_33 rfl k_) ?_
  exact zm_callV (as := [vi l2, vi (1 : Int32)]) (st := [vr (some (97, 1, 0))]) dX8_declare_34 vsX8_644_1 (Nat.le_refl _) (Nat.le_of_ble_eq_true rfl) (Nat.le_of_ble_eq_true rfl) rfl k
theorem sX8_declare_37 {E : zE} {d : Nat} {Q : zO → zM → Prop} (M : zM) (l2 : Int32) (s0 : Int32) (k : Zm E YX8_set d M (zargs 0 [vr (some (97, 1, 0)), vi s0]) 0 [] (zma E YX8_declare (d + 1) [(0, vr (some (97, 1, 0))), (2, vi l2)] 37 3 [] Q)) : Zm E YX8_declare (d + 1) M [(0, vr (some (97, 1, 0))), (2, vi l2)] 37 [vi s0, vr (some (97, 1, 0))] Q := by
  exact zm_callV (as := [vi s0]) (st := []) dX8_declare_37 vsX8_704_1 (Nat.le_refl _) (Nat.le_of_ble_eq_true rfl) (Nat.le_of_ble_eq_true rfl) rfl k
theorem sX8_declare_40 {E : zE} {d : Nat} {Q : zO → zM → Prop} (M : zM) (l2 : Int32) (k : Zm E YX8_emit_2 d M (zargs 0 [vr (some (97, 1, 0)), vi (17 : Int32)]) 0 [] (zma E YX8_declare (d + 1) [(0, vr (some (97, 1, 0))), (2, vi l2)] 43 3 [] Q)) : Zm E YX8_declare (d + 1) M [(0, vr (some (97, 1, 0))), (2, vi l2)] 40 [] Q := by
  refine Zm.l (fun _ _ k_ => z_aload_n dX8_declare_40 rfl rfl k_) ?_
  refine Zm.l (fun _ _ k_ => z_bipush (v := 17) dX8_declare_41 rfl k_) ?_
  exact zm_callV (as := [vi (17 : Int32)]) (st := []) dX8_declare_43 vsX8_666_1 (Nat.le_refl _) (Nat.le_of_ble_eq_true rfl) (Nat.le_of_ble_eq_true rfl) rfl k
theorem sX8_declare_46 {E : zE} {d : Nat} {Q : zO → zM → Prop} (M : zM) (l2 : Int32) (k : vp_in l2 12000 ∧ (Zm E YX8_declare (d + 1) M [(0, vr (some (97, 1, 0))), (2, vi (gi M 110 (l2).toNatClampNeg))] 2 [] Q)) : Zm E YX8_declare (d + 1) M [(0, vr (some (97, 1, 0))), (2, vi l2)] 46 [] Q := by
  refine Zm.l (fun _ _ k_ => z_aload_n dX8_declare_46 rfl rfl k_) ?_
  refine zm_getr 12 dX8_declare_47 fsX8_49_1 rfl ?_
  refine Zm.l (fun _ _ k_ => z_iload_n dX8_declare_50 rfl rfl k_) ?_
  obtain ⟨b_, k⟩ := k
  refine zm_iald dX8_declare_51 b_ (by decide) (by decide) ?_
  refine Zm.l (fun _ _ k_ => z_ist_n dX8_declare_52 rfl (by decide) (lv' := [(0, vr (some (97, 1, 0))), (2, vi (gi M 110 (l2).toNatClampNeg))]) rfl k_) ?_
  refine Zm.l (fun _ _ k_ => z_goto (tgt := 2) dX8_declare_53 rfl k_) ?_
  exact k
/-! ScriptTypesModel.value(I)V -/
theorem bX8_value_0 : zdec cX8_value 0 [(0, .aload_n 0, 1), (1, .getfield 650, 3), (4, .istore_n 2, 1), (5, .iload_n 1, 1), (6, .istore_n 3, 1), (7, .aload_n 0, 1), (8, .getfield 609, 3), (11, .ifCond .ne 66, 3), (14, .aload_n 0, 1), (15, .iload_n 3, 1), (16, .invokevirtual 653, 3), (19, .iconst (-1), 1), (20, .if_icmp .eq 57, 3), (23, .aload_n 0, 1), (24, .getfield 42, 3), (27, .iload_n 3, 1)] = true := by decide +kernel
theorem dX8_value_0 : decode cX8_value 0 = .ok (.aload_n 0, 1) := zdec_at bX8_value_0 0 rfl
theorem dX8_value_1 : decode cX8_value 1 = .ok (.getfield 650, 3) := zdec_at bX8_value_0 1 rfl
theorem dX8_value_4 : decode cX8_value 4 = .ok (.istore_n 2, 1) := zdec_at bX8_value_0 2 rfl
theorem dX8_value_5 : decode cX8_value 5 = .ok (.iload_n 1, 1) := zdec_at bX8_value_0 3 rfl
theorem dX8_value_6 : decode cX8_value 6 = .ok (.istore_n 3, 1) := zdec_at bX8_value_0 4 rfl
theorem dX8_value_7 : decode cX8_value 7 = .ok (.aload_n 0, 1) := zdec_at bX8_value_0 5 rfl
theorem dX8_value_8 : decode cX8_value 8 = .ok (.getfield 609, 3) := zdec_at bX8_value_0 6 rfl
theorem dX8_value_11 : decode cX8_value 11 = .ok (.ifCond .ne 66, 3) := zdec_at bX8_value_0 7 rfl
theorem dX8_value_14 : decode cX8_value 14 = .ok (.aload_n 0, 1) := zdec_at bX8_value_0 8 rfl
theorem dX8_value_15 : decode cX8_value 15 = .ok (.iload_n 3, 1) := zdec_at bX8_value_0 9 rfl
theorem dX8_value_16 : decode cX8_value 16 = .ok (.invokevirtual 653, 3) := zdec_at bX8_value_0 10 rfl
theorem dX8_value_19 : decode cX8_value 19 = .ok (.iconst (-1), 1) := zdec_at bX8_value_0 11 rfl
theorem dX8_value_20 : decode cX8_value 20 = .ok (.if_icmp .eq 57, 3) := zdec_at bX8_value_0 12 rfl
theorem dX8_value_23 : decode cX8_value 23 = .ok (.aload_n 0, 1) := zdec_at bX8_value_0 13 rfl
theorem dX8_value_24 : decode cX8_value 24 = .ok (.getfield 42, 3) := zdec_at bX8_value_0 14 rfl
theorem dX8_value_27 : decode cX8_value 27 = .ok (.iload_n 3, 1) := zdec_at bX8_value_0 15 rfl
theorem bX8_value_28 : zdec cX8_value 28 [(28, .iaload, 1), (29, .bipush 8, 2), (31, .if_icmp .ne 17, 3), (34, .aload_n 0, 1), (35, .iload_n 3, 1), (36, .invokevirtual 647, 3), (39, .ifCond .ne 9, 3), (42, .aload_n 0, 1), (43, .iconst 0, 1), (44, .iconst 0, 1), (45, .invokevirtual 656, 3), (48, .aload_n 0, 1), (49, .getfield 128, 3), (52, .aload_n 0, 1), (53, .getfield 650, 3), (56, .iload_n 3, 1)] = true := by decide +kernel
theorem dX8_value_28 : decode cX8_value 28 = .ok (.iaload, 1) := zdec_at bX8_value_28 0 rfl
theorem dX8_value_29 : decode cX8_value 29 = .ok (.bipush 8, 2) := zdec_at bX8_value_28 1 rfl
theorem dX8_value_31 : decode cX8_value 31 = .ok (.if_icmp .ne 17, 3) := zdec_at bX8_value_28 2 rfl
theorem dX8_value_34 : decode cX8_value 34 = .ok (.aload_n 0, 1) := zdec_at bX8_value_28 3 rfl
theorem dX8_value_35 : decode cX8_value 35 = .ok (.iload_n 3, 1) := zdec_at bX8_value_28 4 rfl
theorem dX8_value_36 : decode cX8_value 36 = .ok (.invokevirtual 647, 3) := zdec_at bX8_value_28 5 rfl
theorem dX8_value_39 : decode cX8_value 39 = .ok (.ifCond .ne 9, 3) := zdec_at bX8_value_28 6 rfl
theorem dX8_value_42 : decode cX8_value 42 = .ok (.aload_n 0, 1) := zdec_at bX8_value_28 7 rfl
theorem dX8_value_43 : decode cX8_value 43 = .ok (.iconst 0, 1) := zdec_at bX8_value_28 8 rfl
theorem dX8_value_44 : decode cX8_value 44 = .ok (.iconst 0, 1) := zdec_at bX8_value_28 9 rfl
theorem dX8_value_45 : decode cX8_value 45 = .ok (.invokevirtual 656, 3) := zdec_at bX8_value_28 10 rfl
theorem dX8_value_48 : decode cX8_value 48 = .ok (.aload_n 0, 1) := zdec_at bX8_value_28 11 rfl
theorem dX8_value_49 : decode cX8_value 49 = .ok (.getfield 128, 3) := zdec_at bX8_value_28 12 rfl
theorem dX8_value_52 : decode cX8_value 52 = .ok (.aload_n 0, 1) := zdec_at bX8_value_28 13 rfl
theorem dX8_value_53 : decode cX8_value 53 = .ok (.getfield 650, 3) := zdec_at bX8_value_28 14 rfl
theorem dX8_value_56 : decode cX8_value 56 = .ok (.iload_n 3, 1) := zdec_at bX8_value_28 15 rfl
theorem bX8_value_57 : zdec cX8_value 57 [(57, .iastore, 1), (58, .aload_n 0, 1), (59, .dup, 1), (60, .getfield 650, 3), (63, .iconst 1, 1), (64, .iadd, 1), (65, .putfield 650, 3), (68, .aload_n 0, 1), (69, .iload_n 3, 1), (70, .invokevirtual 653, 3), (73, .istore_n 3, 1), (74, .goto (-67), 3), (77, .aload_n 0, 1), (78, .iload_n 3, 1), (79, .invokevirtual 660, 3), (82, .aload_n 0, 1)] = true := by decide +kernel
theorem dX8_value_57 : decode cX8_value 57 = .ok (.iastore, 1) := zdec_at bX8_value_57 0 rfl
theorem dX8_value_58 : decode cX8_value 58 = .ok (.aload_n 0, 1) := zdec_at bX8_value_57 1 rfl
theorem dX8_value_59 : decode cX8_value 59 = .ok (.dup, 1) := zdec_at bX8_value_57 2 rfl
theorem dX8_value_60 : decode cX8_value 60 = .ok (.getfield 650, 3) := zdec_at bX8_value_57 3 rfl
theorem dX8_value_63 : decode cX8_value 63 = .ok (.iconst 1, 1) := zdec_at bX8_value_57 4 rfl
theorem dX8_value_64 : decode cX8_value 64 = .ok (.iadd, 1) := zdec_at bX8_value_57 5 rfl
theorem dX8_value_65 : decode cX8_value 65 = .ok (.putfield 650, 3) := zdec_at bX8_value_57 6 rfl
theorem dX8_value_68 : decode cX8_value 68 = .ok (.aload_n 0, 1) := zdec_at bX8_value_57 7 rfl
theorem dX8_value_69 : decode cX8_value 69 = .ok (.iload_n 3, 1) := zdec_at bX8_value_57 8 rfl
theorem dX8_value_70 : decode cX8_value 70 = .ok (.invokevirtual 653, 3) := zdec_at bX8_value_57 9 rfl
theorem dX8_value_73 : decode cX8_value 73 = .ok (.istore_n 3, 1) := zdec_at bX8_value_57 10 rfl
theorem dX8_value_74 : decode cX8_value 74 = .ok (.goto (-67), 3) := zdec_at bX8_value_57 11 rfl
theorem dX8_value_77 : decode cX8_value 77 = .ok (.aload_n 0, 1) := zdec_at bX8_value_57 12 rfl
theorem dX8_value_78 : decode cX8_value 78 = .ok (.iload_n 3, 1) := zdec_at bX8_value_57 13 rfl
theorem dX8_value_79 : decode cX8_value 79 = .ok (.invokevirtual 660, 3) := zdec_at bX8_value_57 14 rfl
theorem dX8_value_82 : decode cX8_value 82 = .ok (.aload_n 0, 1) := zdec_at bX8_value_57 15 rfl
theorem bX8_value_83 : zdec cX8_value 83 [(83, .getfield 650, 3), (86, .iload_n 2, 1), (87, .if_icmp .le 36, 3), (90, .aload_n 0, 1), (91, .dup, 1), (92, .getfield 650, 3), (95, .iconst 1, 1), (96, .isub, 1), (97, .putfield 650, 3), (100, .aload_n 0, 1), (101, .getfield 609, 3), (104, .ifCond .ne (-22), 3), (107, .aload_n 0, 1), (108, .aload_n 0, 1), (109, .getfield 128, 3), (112, .aload_n 0, 1)] = true := by decide +kernel
theorem dX8_value_83 : decode cX8_value 83 = .ok (.getfield 650, 3) := zdec_at bX8_value_83 0 rfl
theorem dX8_value_86 : decode cX8_value 86 = .ok (.iload_n 2, 1) := zdec_at bX8_value_83 1 rfl
theorem dX8_value_87 : decode cX8_value 87 = .ok (.if_icmp .le 36, 3) := zdec_at bX8_value_83 2 rfl
theorem dX8_value_90 : decode cX8_value 90 = .ok (.aload_n 0, 1) := zdec_at bX8_value_83 3 rfl
theorem dX8_value_91 : decode cX8_value 91 = .ok (.dup, 1) := zdec_at bX8_value_83 4 rfl
theorem dX8_value_92 : decode cX8_value 92 = .ok (.getfield 650, 3) := zdec_at bX8_value_83 5 rfl
theorem dX8_value_95 : decode cX8_value 95 = .ok (.iconst 1, 1) := zdec_at bX8_value_83 6 rfl
theorem dX8_value_96 : decode cX8_value 96 = .ok (.isub, 1) := zdec_at bX8_value_83 7 rfl
theorem dX8_value_97 : decode cX8_value 97 = .ok (.putfield 650, 3) := zdec_at bX8_value_83 8 rfl
theorem dX8_value_100 : decode cX8_value 100 = .ok (.aload_n 0, 1) := zdec_at bX8_value_83 9 rfl
theorem dX8_value_101 : decode cX8_value 101 = .ok (.getfield 609, 3) := zdec_at bX8_value_83 10 rfl
theorem dX8_value_104 : decode cX8_value 104 = .ok (.ifCond .ne (-22), 3) := zdec_at bX8_value_83 11 rfl
theorem dX8_value_107 : decode cX8_value 107 = .ok (.aload_n 0, 1) := zdec_at bX8_value_83 12 rfl
theorem dX8_value_108 : decode cX8_value 108 = .ok (.aload_n 0, 1) := zdec_at bX8_value_83 13 rfl
theorem dX8_value_109 : decode cX8_value 109 = .ok (.getfield 128, 3) := zdec_at bX8_value_83 14 rfl
theorem dX8_value_112 : decode cX8_value 112 = .ok (.aload_n 0, 1) := zdec_at bX8_value_83 15 rfl
theorem bX8_value_113 : zdec cX8_value 113 [(113, .getfield 650, 3), (116, .iaload, 1), (117, .invokevirtual 663, 3), (120, .goto (-38), 3), (123, .return_, 1)] = true := by decide +kernel
theorem dX8_value_113 : decode cX8_value 113 = .ok (.getfield 650, 3) := zdec_at bX8_value_113 0 rfl
theorem dX8_value_116 : decode cX8_value 116 = .ok (.iaload, 1) := zdec_at bX8_value_113 1 rfl
theorem dX8_value_117 : decode cX8_value 117 = .ok (.invokevirtual 663, 3) := zdec_at bX8_value_113 2 rfl
theorem dX8_value_120 : decode cX8_value 120 = .ok (.goto (-38), 3) := zdec_at bX8_value_113 3 rfl
theorem dX8_value_123 : decode cX8_value 123 = .ok (.return_, 1) := zdec_at bX8_value_113 4 rfl
theorem sX8_value_0 {E : zE} {d : Nat} {Q : zO → zM → Prop} (M : zM) (l1 : Int32) (k : Zm E YX8_value (d + 1) M [(0, vr (some (97, 1, 0))), (2, vi (gi M 97 66)), (3, vi l1)] 7 [] Q) : Zm E YX8_value (d + 1) M [(0, vr (some (97, 1, 0))), (1, vi l1)] 0 [] Q := by
  refine Zm.l (fun _ _ k_ => z_aload_n dX8_value_0 rfl rfl k_) ?_
  refine zm_geti dX8_value_1 fsX8_650_1 (by decide) (by decide) ?_
  refine Zm.l (fun _ _ k_ => z_ist_n dX8_value_4 rfl (by decide) (lv' := [(0, vr (some (97, 1, 0))), (1, vi l1), (2, vi (gi M 97 66))]) rfl k_) ?_
  refine Zm.l (fun _ _ k_ => z_iload_n dX8_value_5 rfl rfl k_) ?_
  refine Zm.l (fun _ _ k_ => z_ist_n dX8_value_6 rfl (by decide) (lv' := [(0, vr (some (97, 1, 0))), (1, vi l1), (2, vi (gi M 97 66)), (3, vi l1)]) rfl k_) ?_
  refine Zm.pick [0, 2, 3] rfl ?_
  exact k
theorem sX8_value_7 {E : zE} {d : Nat} {Q : zO → zM → Prop} (M : zM) (l2 : Int32) (l3 : Int32) (k : if (gi M 97 47) = 0 then (Zm E YX8_leftPart d M (zargs 0 [vr (some (97, 1, 0)), vi l3]) 0 [] (zma E YX8_value (d + 1) [(0, vr (some (97, 1, 0))), (2, vi l2), (3, vi l3)] 16 3 [] Q)) else (Zm E YX8_single d M (zargs 0 [vr (some (97, 1, 0)), vi l3]) 0 [] (zma E YX8_value (d + 1) [(0, vr (some (97, 1, 0))), (2, vi l2)] 79 3 [] Q))) : Zm E YX8_value (d + 1) M [(0, vr (some (97, 1, 0))), (2, vi l2), (3, vi l3)] 7 [] Q := by
  refine Zm.l (fun _ _ k_ => z_aload_n dX8_value_7 rfl rfl k_) ?_
  refine zm_geti dX8_value_8 fsX8_609_1 (by decide) (by decide) ?_
  refine Zm.brn (fun _ _ k1_ k2_ => z_if_ne (tgt := 77) dX8_value_11 rfl k1_ k2_) (fun h_ => ?_) (fun h_ => ?_)
  · have k := zif h_ k
    refine Zm.l (fun _ _ k_ => z_aload_n dX8_value_77 rfl rfl k_) ?_
    refine Zm.l (fun _ _ k_ => z_iload_n dX8_value_78 rfl rfl k_) ?_
    refine Zm.pick [0, 1] rfl ?_
    exact zm_callV (as := [vi l3]) (st := []) dX8_value_79 vsX8_660_1 (Nat.le_refl _) (Nat.le_of_ble_eq_true rfl) (Nat.le_of_ble_eq_true rfl) rfl k
  · have k := zit h_ k
    refine Zm.l (fun _ _ k_ => z_aload_n dX8_value_14 rfl rfl k_) ?_
    refine Zm.l (fun _ _ k_ => z_iload_n dX8_value_15 rfl rfl k_) ?_
    exact zm_callV (as := [vi l3]) (st := []) dX8_value_16 vsX8_653_1 (Nat.le_refl _) (Nat.le_of_ble_eq_true rfl) (Nat.le_of_ble_eq_true rfl) rfl k
theorem sX8_value_19 {E : zE} {d : Nat} {Q : zO → zM → Prop} (M : zM) (l2 : Int32) (l3 : Int32) (s0 : Int32) (k : if s0 = (-1 : Int32) then (Zm E YX8_single d M (zargs 0 [vr (some (97, 1, 0)), vi l3]) 0 [] (zma E YX8_value (d + 1) [(0, vr (some (97, 1, 0))), (2, vi l2)] 79 3 [] Q)) else (vp_in l3 12000 ∧ (if (gi M 108 (l3).toNatClampNeg) = (8 : Int32) then (Zm E YX8_isMemberCall d M (zargs 0 [vr (some (97, 1, 0)), vi l3]) 0 [] (zma E YX8_value (d + 1) [(0, vr (some (97, 1, 0))), (2, vi l2), (3, vi l3)] 36 3 [] Q)) else (Zm E YX8_value (d + 1) M [(0, vr (some (97, 1, 0))), (2, vi l2), (3, vi l3)] 48 [] Q)))) : Zm E YX8_value (d + 1) M [(0, vr (some (97, 1, 0))), (2, vi l2), (3, vi l3)] 19 [vi s0] Q := by
  refine Zm.l (fun _ _ k_ => z_iconst (v := -1) dX8_value_19 rfl k_) ?_
  refine Zm.br (fun _ _ k1_ k2_ => z_icmp_eq (tgt := 77) dX8_value_20 rfl k1_ k2_) (fun h_ => ?_) (fun h_ => ?_)
  · have k := zit h_ k
    refine Zm.l (fun _ _ k_ => z_aload_n dX8_value_77 rfl rfl k_) ?_
    refine Zm.l (fun _ _ k_ => z_iload_n dX8_value_78 rfl rfl k_) ?_
    refine Zm.pick [0, 1] rfl ?_
    exact zm_callV (as := [vi l3]) (st := []) dX8_value_79 vsX8_660_1 (Nat.le_refl _) (Nat.le_of_ble_eq_true rfl) (Nat.le_of_ble_eq_true rfl) rfl k
  · have k := zif h_ k
    refine Zm.l (fun _ _ k_ => z_aload_n dX8_value_23 rfl rfl k_) ?_
    refine zm_getr 10 dX8_value_24 fsX8_42_1 rfl ?_
    refine Zm.l (fun _ _ k_ => z_iload_n dX8_value_27 rfl rfl k_) ?_
    obtain ⟨b_, k⟩ := k
    refine zm_iald dX8_value_28 b_ (by decide) (by decide) ?_
    refine Zm.l (fun _ _ k_ => z_bipush (v := 8) dX8_value_29 rfl k_) ?_
    refine Zm.brn (fun _ _ k1_ k2_ => z_icmp_ne (tgt := 48) dX8_value_31 rfl k1_ k2_) (fun h_ => ?_) (fun h_ => ?_)
    · have k := zif h_ k
      exact k
    · have k := zit h_ k
      refine Zm.l (fun _ _ k_ => z_aload_n dX8_value_34 rfl rfl k_) ?_
      refine Zm.l (fun _ _ k_ => z_iload_n dX8_value_35 rfl rfl k_) ?_
      exact zm_callV (as := [vi l3]) (st := []) dX8_value_36 vsX8_647_1 (Nat.le_refl _) (Nat.le_of_ble_eq_true rfl) (Nat.le_of_ble_eq_true rfl) rfl k
theorem sX8_value_39 {E : zE} {d : Nat} {Q : zO → zM → Prop} (M : zM) (l2 : Int32) (l3 : Int32) (s0 : Int32) (k : if s0 = 0 then (Zm E YX8_constant d M (zargs 0 [vr (some (97, 1, 0)), vi (0 : Int32), vi (0 : Int32)]) 0 [] (zma E YX8_value (d + 1) [(0, vr (some (97, 1, 0))), (2, vi l2), (3, vi l3)] 45 3 [] Q)) else (Zm E YX8_value (d + 1) M [(0, vr (some (97, 1, 0))), (2, vi l2), (3, vi l3)] 48 [] Q)) : Zm E YX8_value (d + 1) M [(0, vr (some (97, 1, 0))), (2, vi l2), (3, vi l3)] 39 [vi s0] Q := by
  refine Zm.brn (fun _ _ k1_ k2_ => z_if_ne (tgt := 48) dX8_value_39 rfl k1_ k2_) (fun h_ => ?_) (fun h_ => ?_)
  · have k := zif h_ k
    exact k
  · have k := zit h_ k
    refine Zm.l (fun _ _ k_ => z_aload_n dX8_value_42 rfl rfl k_) ?_
    refine Zm.l (fun _ _ k_ => z_iconst (v := 0) dX8_value_43 rfl k_) ?_
    refine Zm.l (fun _ _ k_ => z_iconst (v := 0) dX8_value_44 rfl k_) ?_
    exact zm_callV (as := [vi (0 : Int32), vi (0 : Int32)]) (st := []) dX8_value_45 vsX8_656_1 (Nat.le_refl _) (Nat.le_of_ble_eq_true rfl) (Nat.le_of_ble_eq_true rfl) rfl k
theorem sX8_value_48 {E : zE} {d : Nat} {Q : zO → zM → Prop} (M : zM) (l2 : Int32) (l3 : Int32) (k : vp_in (gi M 97 66) 12000 ∧ (Zm E YX8_leftPart d (si (si M 136 ((gi M 97 66)).toNatClampNeg l3) 97 66 ((gi M 97 66) + (1 : Int32))) (zargs 0 [vr (some (97, 1, 0)), vi l3]) 0 [] (zma E YX8_value (d + 1) [(0, vr (some (97, 1, 0))), (2, vi l2)] 70 3 [] Q))) : Zm E YX8_value (d + 1) M [(0, vr (some (97, 1, 0))), (2, vi l2), (3, vi l3)] 48 [] Q := by
  refine Zm.l (fun _ _ k_ => z_aload_n dX8_value_48 rfl rfl k_) ?_
  refine zm_getr 33 dX8_value_49 fsX8_128_1 rfl ?_
  refine Zm.l (fun _ _ k_ => z_aload_n dX8_value_52 rfl rfl k_) ?_
  refine zm_geti dX8_value_53 fsX8_650_1 (by decide) (by decide) ?_
  refine Zm.l (fun _ _ k_ => z_iload_n dX8_value_56 rfl rfl k_) ?_
  obtain ⟨b_, k⟩ := k
  refine zm_iast dX8_value_57 b_ (by decide) (by decide) ?_
  refine Zm.l (fun _ _ k_ => z_aload_n dX8_value_58 rfl rfl k_) ?_
  refine Zm.l (fun _ _ k_ => z_dup dX8_value_59 rfl k_) ?_
  refine zm_geti dX8_value_60 fsX8_650_1 (by decide) (by decide) ?_
  refine Zm.l (fun _ _ k_ => z_iconst (v := 1) dX8_value_63 rfl k_) ?_
  refine Zm.l (fun _ _ k_ => z_iadd dX8_value_64 k_) ?_
  refine zm_puti (by decide) (by decide) dX8_value_65 (zfwN.w fwX8_650_1) rfl ⟨rfl, rfl⟩ ?_
  refine Zm.l (fun _ _ k_ => z_aload_n dX8_value_68 rfl rfl k_) ?_
  refine Zm.l (fun _ _ k_ => z_iload_n dX8_value_69 rfl rfl k_) ?_
  refine Zm.pick [0, 1] rfl ?_
  exact zm_callV (as := [vi l3]) (st := []) dX8_value_70 vsX8_653_1 (Nat.le_refl _) (Nat.le_of_ble_eq_true rfl) (Nat.le_of_ble_eq_true rfl) rfl k
theorem sX8_value_73 {E : zE} {d : Nat} {Q : zO → zM → Prop} (M : zM) (l2 : Int32) (s0 : Int32) (k : Zm E YX8_value (d + 1) M [(0, vr (some (97, 1, 0))), (2, vi l2), (3, vi s0)] 7 [] Q) : Zm E YX8_value (d + 1) M [(0, vr (some (97, 1, 0))), (2, vi l2)] 73 [vi s0] Q := by
  refine Zm.l (fun _ _ k_ => z_ist_n dX8_value_73 rfl (by decide) (lv' := [(0, vr (some (97, 1, 0))), (2, vi l2), (3, vi s0)]) rfl k_) ?_
  refine Zm.l (fun _ _ k_ => z_goto (tgt := 7) dX8_value_74 rfl k_) ?_
  exact k
theorem sX8_value_82 {E : zE} {d : Nat} {Q : zO → zM → Prop} (M : zM) (l2 : Int32) (k : if (gi M 97 66) ≤ l2 then (Q (.inl none) M) else (if (gi M 97 47) = 0 then (vp_in ((gi M 97 66) - (1 : Int32)) 12000 ∧ (Zm E YX8_behind d (si M 97 66 ((gi M 97 66) - (1 : Int32))) (zargs 0 [vr (some (97, 1, 0)), vi (gi M 136 (((gi M 97 66) - (1 : Int32))).toNatClampNeg)]) 0 [] (zma E YX8_value (d + 1) [(0, vr (some (97, 1, 0))), (2, vi l2)] 117 3 [] Q))) else (Zm E YX8_value (d + 1) (si M 97 66 ((gi M 97 66) - (1 : Int32))) [(0, vr (some (97, 1, 0))), (2, vi l2)] 82 [] Q))) : Zm E YX8_value (d + 1) M [(0, vr (some (97, 1, 0))), (2, vi l2)] 82 [] Q := by
  refine Zm.l (fun _ _ k_ => z_aload_n dX8_value_82 rfl rfl k_) ?_
  refine zm_geti dX8_value_83 fsX8_650_1 (by decide) (by decide) ?_
  refine Zm.l (fun _ _ k_ => z_iload_n dX8_value_86 rfl rfl k_) ?_
  refine Zm.br (fun _ _ k1_ k2_ => z_icmp_le (tgt := 123) dX8_value_87 rfl k1_ k2_) (fun h_ => ?_) (fun h_ => ?_)
  · have k := zit h_ k
    exact zm_vret dX8_value_123 rfl k
  · have k := zif h_ k
    refine Zm.l (fun _ _ k_ => z_aload_n dX8_value_90 rfl rfl k_) ?_
    refine Zm.l (fun _ _ k_ => z_dup dX8_value_91 rfl k_) ?_
    refine zm_geti dX8_value_92 fsX8_650_1 (by decide) (by decide) ?_
    refine Zm.l (fun _ _ k_ => z_iconst (v := 1) dX8_value_95 rfl k_) ?_
    refine Zm.l (fun _ _ k_ => z_isub dX8_value_96 k_) ?_
    refine zm_puti (by decide) (by decide) dX8_value_97 (zfwN.w fwX8_650_1) rfl ⟨rfl, rfl⟩ ?_
    refine Zm.l (fun _ _ k_ => z_aload_n dX8_value_100 rfl rfl k_) ?_
    refine zm_geti dX8_value_101 fsX8_609_1 (by decide) (by decide) ?_
    refine Zm.brn (fun _ _ k1_ k2_ => z_if_ne (tgt := 82) dX8_value_104 rfl k1_ k2_) (fun h_ => ?_) (fun h_ => ?_)
    · have k := zif h_ k
      exact k
    · have k := zit h_ k
      refine Zm.l (fun _ _ k_ => z_aload_n dX8_value_107 rfl rfl k_) ?_
      refine Zm.l (fun _ _ k_ => z_aload_n dX8_value_108 rfl rfl k_) ?_
      refine zm_getr 33 dX8_value_109 fsX8_128_1 rfl ?_
      refine Zm.l (fun _ _ k_ => z_aload_n dX8_value_112 rfl rfl k_) ?_
      refine zm_geti dX8_value_113 fsX8_650_1 (by decide) (by decide) ?_
      obtain ⟨b_, k⟩ := k
      refine zm_iald dX8_value_116 b_ (by decide) (by decide) ?_
      exact zm_callV (as := [vi (gi M 136 (((gi M 97 66) - (1 : Int32))).toNatClampNeg)]) (st := []) dX8_value_117 vsX8_663_1 (Nat.le_refl _) (Nat.le_of_ble_eq_true rfl) (Nat.le_of_ble_eq_true rfl) rfl k
theorem sX8_value_120 {E : zE} {d : Nat} {Q : zO → zM → Prop} (M : zM) (l2 : Int32) (k : Zm E YX8_value (d + 1) M [(0, vr (some (97, 1, 0))), (2, vi l2)] 82 [] Q) : Zm E YX8_value (d + 1) M [(0, vr (some (97, 1, 0))), (2, vi l2)] 120 [] Q := by
  refine Zm.l (fun _ _ k_ => z_goto (tgt := 82) dX8_value_120 rfl k_) ?_
  exact k
/-! ScriptTypesModel.leftPart(I)I -/
theorem bX8_leftPart_0 : zdec cX8_leftPart 0 [(0, .aload_n 0, 1), (1, .getfield 42, 3), (4, .iload_n 1, 1), (5, .iaload, 1)] = true := by decide +kernel
theorem dX8_leftPart_0 : decode cX8_leftPart 0 = .ok (.aload_n 0, 1) := zdec_at bX8_leftPart_0 0 rfl
theorem dX8_leftPart_1 : decode cX8_leftPart 1 = .ok (.getfield 42, 3) := zdec_at bX8_leftPart_0 1 rfl
theorem dX8_leftPart_4 : decode cX8_leftPart 4 = .ok (.iload_n 1, 1) := zdec_at bX8_leftPart_0 2 rfl
theorem dX8_leftPart_5 : decode cX8_leftPart 5 = .ok (.iaload, 1) := zdec_at bX8_leftPart_0 3 rfl
theorem dX8_leftPart_6 : decode cX8_leftPart 6 = .ok (.tableswitch 101 3 13 #[58, 101, 101, 101, 58, 72, 101, 101, 65, 58, 58], 58) := by decide +kernel
theorem bX8_leftPart_64 : zdec cX8_leftPart 64 [(64, .aload_n 0, 1), (65, .iload_n 1, 1), (66, .iconst 0, 1), (67, .invokevirtual 644, 3), (70, .ireturn, 1), (71, .aload_n 0, 1), (72, .iload_n 1, 1), (73, .iconst 1, 1), (74, .invokevirtual 644, 3), (77, .ireturn, 1), (78, .aload_n 0, 1), (79, .iload_n 1, 1), (80, .invokevirtual 647, 3), (83, .ifCond .eq 17, 3), (86, .aload_n 0, 1), (87, .aload_n 0, 1)] = true := by decide +kernel
theorem dX8_leftPart_64 : decode cX8_leftPart 64 = .ok (.aload_n 0, 1) := zdec_at bX8_leftPart_64 0 rfl
theorem dX8_leftPart_65 : decode cX8_leftPart 65 = .ok (.iload_n 1, 1) := zdec_at bX8_leftPart_64 1 rfl
theorem dX8_leftPart_66 : decode cX8_leftPart 66 = .ok (.iconst 0, 1) := zdec_at bX8_leftPart_64 2 rfl
theorem dX8_leftPart_67 : decode cX8_leftPart 67 = .ok (.invokevirtual 644, 3) := zdec_at bX8_leftPart_64 3 rfl
theorem dX8_leftPart_70 : decode cX8_leftPart 70 = .ok (.ireturn, 1) := zdec_at bX8_leftPart_64 4 rfl
theorem dX8_leftPart_71 : decode cX8_leftPart 71 = .ok (.aload_n 0, 1) := zdec_at bX8_leftPart_64 5 rfl
theorem dX8_leftPart_72 : decode cX8_leftPart 72 = .ok (.iload_n 1, 1) := zdec_at bX8_leftPart_64 6 rfl
theorem dX8_leftPart_73 : decode cX8_leftPart 73 = .ok (.iconst 1, 1) := zdec_at bX8_leftPart_64 7 rfl
theorem dX8_leftPart_74 : decode cX8_leftPart 74 = .ok (.invokevirtual 644, 3) := zdec_at bX8_leftPart_64 8 rfl
theorem dX8_leftPart_77 : decode cX8_leftPart 77 = .ok (.ireturn, 1) := zdec_at bX8_leftPart_64 9 rfl
theorem dX8_leftPart_78 : decode cX8_leftPart 78 = .ok (.aload_n 0, 1) := zdec_at bX8_leftPart_64 10 rfl
theorem dX8_leftPart_79 : decode cX8_leftPart 79 = .ok (.iload_n 1, 1) := zdec_at bX8_leftPart_64 11 rfl
theorem dX8_leftPart_80 : decode cX8_leftPart 80 = .ok (.invokevirtual 647, 3) := zdec_at bX8_leftPart_64 12 rfl
theorem dX8_leftPart_83 : decode cX8_leftPart 83 = .ok (.ifCond .eq 17, 3) := zdec_at bX8_leftPart_64 13 rfl
theorem dX8_leftPart_86 : decode cX8_leftPart 86 = .ok (.aload_n 0, 1) := zdec_at bX8_leftPart_64 14 rfl
theorem dX8_leftPart_87 : decode cX8_leftPart 87 = .ok (.aload_n 0, 1) := zdec_at bX8_leftPart_64 15 rfl
theorem bX8_leftPart_88 : zdec cX8_leftPart 88 [(88, .iload_n 1, 1), (89, .iconst 0, 1), (90, .invokevirtual 644, 3), (93, .iconst 0, 1), (94, .invokevirtual 644, 3), (97, .goto 9, 3), (100, .aload_n 0, 1), (101, .iload_n 1, 1), (102, .iconst 0, 1), (103, .invokevirtual 644, 3), (106, .ireturn, 1), (107, .iconst (-1), 1), (108, .ireturn, 1)] = true := by decide +kernel
theorem dX8_leftPart_88 : decode cX8_leftPart 88 = .ok (.iload_n 1, 1) := zdec_at bX8_leftPart_88 0 rfl
theorem dX8_leftPart_89 : decode cX8_leftPart 89 = .ok (.iconst 0, 1) := zdec_at bX8_leftPart_88 1 rfl
theorem dX8_leftPart_90 : decode cX8_leftPart 90 = .ok (.invokevirtual 644, 3) := zdec_at bX8_leftPart_88 2 rfl
theorem dX8_leftPart_93 : decode cX8_leftPart 93 = .ok (.iconst 0, 1) := zdec_at bX8_leftPart_88 3 rfl
theorem dX8_leftPart_94 : decode cX8_leftPart 94 = .ok (.invokevirtual 644, 3) := zdec_at bX8_leftPart_88 4 rfl
theorem dX8_leftPart_97 : decode cX8_leftPart 97 = .ok (.goto 9, 3) := zdec_at bX8_leftPart_88 5 rfl
theorem dX8_leftPart_100 : decode cX8_leftPart 100 = .ok (.aload_n 0, 1) := zdec_at bX8_leftPart_88 6 rfl
theorem dX8_leftPart_101 : decode cX8_leftPart 101 = .ok (.iload_n 1, 1) := zdec_at bX8_leftPart_88 7 rfl
theorem dX8_leftPart_102 : decode cX8_leftPart 102 = .ok (.iconst 0, 1) := zdec_at bX8_leftPart_88 8 rfl
theorem dX8_leftPart_103 : decode cX8_leftPart 103 = .ok (.invokevirtual 644, 3) := zdec_at bX8_leftPart_88 9 rfl
theorem dX8_leftPart_106 : decode cX8_leftPart 106 = .ok (.ireturn, 1) := zdec_at bX8_leftPart_88 10 rfl
theorem dX8_leftPart_107 : decode cX8_leftPart 107 = .ok (.iconst (-1), 1) := zdec_at bX8_leftPart_88 11 rfl
theorem dX8_leftPart_108 : decode cX8_leftPart 108 = .ok (.ireturn, 1) := zdec_at bX8_leftPart_88 12 rfl
theorem sX8_leftPart_0 {E : zE} {d : Nat} {Q : zO → zM → Prop} (M : zM) (l1 : Int32) (k : vp_in l1 12000 ∧ (if (gi M 108 (l1).toNatClampNeg) = 3 then (Zm E YX8_part d M (zargs 0 [vr (some (97, 1, 0)), vi l1, vi (0 : Int32)]) 0 [] (zma E YX8_leftPart (d + 1) [] 67 3 [] Q)) else (if (gi M 108 (l1).toNatClampNeg) = 4 then (Q (.inl (some (vi (-1 : Int32)))) M) else (if (gi M 108 (l1).toNatClampNeg) = 5 then (Q (.inl (some (vi (-1 : Int32)))) M) else (if (gi M 108 (l1).toNatClampNeg) = 6 then (Q (.inl (some (vi (-1 : Int32)))) M) else (if (gi M 108 (l1).toNatClampNeg) = 7 then (Zm E YX8_part d M (zargs 0 [vr (some (97, 1, 0)), vi l1, vi (0 : Int32)]) 0 [] (zma E YX8_leftPart (d + 1) [] 67 3 [] Q)) else (if (gi M 108 (l1).toNatClampNeg) = 8 then (Zm E YX8_isMemberCall d M (zargs 0 [vr (some (97, 1, 0)), vi l1]) 0 [] (zma E YX8_leftPart (d + 1) [(0, vr (some (97, 1, 0))), (1, vi l1)] 80 3 [] Q)) else (if (gi M 108 (l1).toNatClampNeg) = 9 then (Q (.inl (some (vi (-1 : Int32)))) M) else (if (gi M 108 (l1).toNatClampNeg) = 10 then (Q (.inl (some (vi (-1 : Int32)))) M) else (if (gi M 108 (l1).toNatClampNeg) = 11 then (Zm E YX8_part d M (zargs 0 [vr (some (97, 1, 0)), vi l1, vi (1 : Int32)]) 0 [] (zma E YX8_leftPart (d + 1) [] 74 3 [] Q)) else (if (gi M 108 (l1).toNatClampNeg) = 12 then (Zm E YX8_part d M (zargs 0 [vr (some (97, 1, 0)), vi l1, vi (0 : Int32)]) 0 [] (zma E YX8_leftPart (d + 1) [] 67 3 [] Q)) else (if (gi M 108 (l1).toNatClampNeg) = 13 then (Zm E YX8_part d M (zargs 0 [vr (some (97, 1, 0)), vi l1, vi (0 : Int32)]) 0 [] (zma E YX8_leftPart (d + 1) [] 67 3 [] Q)) else (Q (.inl (some (vi (-1 : Int32)))) M))))))))))))) : Zm E YX8_leftPart (d + 1) M [(0, vr (some (97, 1, 0))), (1, vi l1)] 0 [] Q := by
  refine Zm.l (fun _ _ k_ => z_aload_n dX8_leftPart_0 rfl rfl k_) ?_
  refine zm_getr 10 dX8_leftPart_1 fsX8_42_1 rfl ?_
  refine Zm.l (fun _ _ k_ => z_iload_n dX8_leftPart_4 rfl rfl k_) ?_
  obtain ⟨b_, k⟩ := k
  refine zm_iald dX8_leftPart_5 b_ (by decide) (by decide) ?_
  by_cases h0_ : (gi M 108 (l1).toNatClampNeg) = 3
  · have k := zit h0_ k
    refine Zm.l (fun _ _ k_ => z_tableIn (off := 58) (tgt := 64) dX8_leftPart_6 (by rw [h0_]; decide) (by rw [h0_]; decide) (by rw [h0_]; rfl) rfl k_) ?_
    refine Zm.l (fun _ _ k_ => z_aload_n dX8_leftPart_64 rfl rfl k_) ?_
    refine Zm.l (fun _ _ k_ => z_iload_n dX8_leftPart_65 rfl rfl k_) ?_
    refine Zm.l (fun _ _ k_ => z_iconst (v := 0) dX8_leftPart_66 rfl k_) ?_
    refine Zm.pick [] rfl ?_
    exact zm_callV (as := [vi l1, vi (0 : Int32)]) (st := []) dX8_leftPart_67 vsX8_644_1 (Nat.le_refl _) (Nat.le_of_ble_eq_true rfl) (Nat.le_of_ble_eq_true rfl) rfl k
  · have k := zif h0_ k
    by_cases h1_ : (gi M 108 (l1).toNatClampNeg) = 4
    · have k := zit h1_ k
      refine Zm.l (fun _ _ k_ => z_tableIn (off := 101) (tgt := 107) dX8_leftPart_6 (by rw [h1_]; decide) (by rw [h1_]; decide) (by rw [h1_]; rfl) rfl k_) ?_
      refine Zm.l (fun _ _ k_ => z_iconst (v := -1) dX8_leftPart_107 rfl k_) ?_
      exact zm_iret dX8_leftPart_108 rfl rfl k
    · have k := zif h1_ k
      by_cases h2_ : (gi M 108 (l1).toNatClampNeg) = 5
      · have k := zit h2_ k
        refine Zm.l (fun _ _ k_ => z_tableIn (off := 101) (tgt := 107) dX8_leftPart_6 (by rw [h2_]; decide) (by rw [h2_]; decide) (by rw [h2_]; rfl) rfl k_) ?_
        refine Zm.l (fun _ _ k_ => z_iconst (v := -1) dX8_leftPart_107 rfl k_) ?_
        exact zm_iret dX8_leftPart_108 rfl rfl k
      · have k := zif h2_ k
        by_cases h3_ : (gi M 108 (l1).toNatClampNeg) = 6
        · have k := zit h3_ k
          refine Zm.l (fun _ _ k_ => z_tableIn (off := 101) (tgt := 107) dX8_leftPart_6 (by rw [h3_]; decide) (by rw [h3_]; decide) (by rw [h3_]; rfl) rfl k_) ?_
          refine Zm.l (fun _ _ k_ => z_iconst (v := -1) dX8_leftPart_107 rfl k_) ?_
          exact zm_iret dX8_leftPart_108 rfl rfl k
        · have k := zif h3_ k
          by_cases h4_ : (gi M 108 (l1).toNatClampNeg) = 7
          · have k := zit h4_ k
            refine Zm.l (fun _ _ k_ => z_tableIn (off := 58) (tgt := 64) dX8_leftPart_6 (by rw [h4_]; decide) (by rw [h4_]; decide) (by rw [h4_]; rfl) rfl k_) ?_
            refine Zm.l (fun _ _ k_ => z_aload_n dX8_leftPart_64 rfl rfl k_) ?_
            refine Zm.l (fun _ _ k_ => z_iload_n dX8_leftPart_65 rfl rfl k_) ?_
            refine Zm.l (fun _ _ k_ => z_iconst (v := 0) dX8_leftPart_66 rfl k_) ?_
            refine Zm.pick [] rfl ?_
            exact zm_callV (as := [vi l1, vi (0 : Int32)]) (st := []) dX8_leftPart_67 vsX8_644_1 (Nat.le_refl _) (Nat.le_of_ble_eq_true rfl) (Nat.le_of_ble_eq_true rfl) rfl k
          · have k := zif h4_ k
            by_cases h5_ : (gi M 108 (l1).toNatClampNeg) = 8
            · have k := zit h5_ k
              refine Zm.l (fun _ _ k_ => z_tableIn (off := 72) (tgt := 78) dX8_leftPart_6 (by rw [h5_]; decide) (by rw [h5_]; decide) (by rw [h5_]; rfl) rfl k_) ?_
              refine Zm.l (fun _ _ k_ => z_aload_n dX8_leftPart_78 rfl rfl k_) ?_
              refine Zm.l (fun _ _ k_ => z_iload_n dX8_leftPart_79 rfl rfl k_) ?_
              exact zm_callV (as := [vi l1]) (st := []) dX8_leftPart_80 vsX8_647_1 (Nat.le_refl _) (Nat.le_of_ble_eq_true rfl) (Nat.le_of_ble_eq_true rfl) rfl k
            · have k := zif h5_ k
              by_cases h6_ : (gi M 108 (l1).toNatClampNeg) = 9
              · have k := zit h6_ k
                refine Zm.l (fun _ _ k_ => z_tableIn (off := 101) (tgt := 107) dX8_leftPart_6 (by rw [h6_]; decide) (by rw [h6_]; decide) (by rw [h6_]; rfl) rfl k_) ?_
                refine Zm.l (fun _ _ k_ => z_iconst (v := -1) dX8_leftPart_107 rfl k_) ?_
                exact zm_iret dX8_leftPart_108 rfl rfl k
              · have k := zif h6_ k
                by_cases h7_ : (gi M 108 (l1).toNatClampNeg) = 10
                · have k := zit h7_ k
                  refine Zm.l (fun _ _ k_ => z_tableIn (off := 101) (tgt := 107) dX8_leftPart_6 (by rw [h7_]; decide) (by rw [h7_]; decide) (by rw [h7_]; rfl) rfl k_) ?_
                  refine Zm.l (fun _ _ k_ => z_iconst (v := -1) dX8_leftPart_107 rfl k_) ?_
                  exact zm_iret dX8_leftPart_108 rfl rfl k
                · have k := zif h7_ k
                  by_cases h8_ : (gi M 108 (l1).toNatClampNeg) = 11
                  · have k := zit h8_ k
                    refine Zm.l (fun _ _ k_ => z_tableIn (off := 65) (tgt := 71) dX8_leftPart_6 (by rw [h8_]; decide) (by rw [h8_]; decide) (by rw [h8_]; rfl) rfl k_) ?_
                    refine Zm.l (fun _ _ k_ => z_aload_n dX8_leftPart_71 rfl rfl k_) ?_
                    refine Zm.l (fun _ _ k_ => z_iload_n dX8_leftPart_72 rfl rfl k_) ?_
                    refine Zm.l (fun _ _ k_ => z_iconst (v := 1) dX8_leftPart_73 rfl k_) ?_
                    refine Zm.pick [] rfl ?_
                    exact zm_callV (as := [vi l1, vi (1 : Int32)]) (st := []) dX8_leftPart_74 vsX8_644_1 (Nat.le_refl _) (Nat.le_of_ble_eq_true rfl) (Nat.le_of_ble_eq_true rfl) rfl k
                  · have k := zif h8_ k
                    by_cases h9_ : (gi M 108 (l1).toNatClampNeg) = 12
                    · have k := zit h9_ k
                      refine Zm.l (fun _ _ k_ => z_tableIn (off := 58) (tgt := 64) dX8_leftPart_6 (by rw [h9_]; decide) (by rw [h9_]; decide) (by rw [h9_]; rfl) rfl k_) ?_
                      refine Zm.l (fun _ _ k_ => z_aload_n dX8_leftPart_64 rfl rfl k_) ?_
                      refine Zm.l (fun _ _ k_ => z_iload_n dX8_leftPart_65 rfl rfl k_) ?_
                      refine Zm.l (fun _ _ k_ => z_iconst (v := 0) dX8_leftPart_66 rfl k_) ?_
                      refine Zm.pick [] rfl ?_
                      exact zm_callV (as := [vi l1, vi (0 : Int32)]) (st := []) dX8_leftPart_67 vsX8_644_1 (Nat.le_refl _) (Nat.le_of_ble_eq_true rfl) (Nat.le_of_ble_eq_true rfl) rfl k
                    · have k := zif h9_ k
                      by_cases h10_ : (gi M 108 (l1).toNatClampNeg) = 13
                      · have k := zit h10_ k
                        refine Zm.l (fun _ _ k_ => z_tableIn (off := 58) (tgt := 64) dX8_leftPart_6 (by rw [h10_]; decide) (by rw [h10_]; decide) (by rw [h10_]; rfl) rfl k_) ?_
                        refine Zm.l (fun _ _ k_ => z_aload_n dX8_leftPart_64 rfl rfl k_) ?_
                        refine Zm.l (fun _ _ k_ => z_iload_n dX8_leftPart_65 rfl rfl k_) ?_
                        refine Zm.l (fun _ _ k_ => z_iconst (v := 0) dX8_leftPart_66 rfl k_) ?_
                        refine Zm.pick [] rfl ?_
                        exact zm_callV (as := [vi l1, vi (0 : Int32)]) (st := []) dX8_leftPart_67 vsX8_644_1 (Nat.le_refl _) (Nat.le_of_ble_eq_true rfl) (Nat.le_of_ble_eq_true rfl) rfl k
                      · have k := zif h10_ k
                        refine Zm.l (fun _ _ k_ => z_tout (tgt := 107) [3, 4, 5, 6, 7, 8, 9, 10, 11, 12, 13] (by decide) dX8_leftPart_6 (zall_1 h0_ (zall_1 h1_ (zall_1 h2_ (zall_1 h3_ (zall_1 h4_ (zall_1 h5_ (zall_1 h6_ (zall_1 h7_ (zall_1 h8_ (zall_1 h9_ (zall_1 h10_ zall_0))))))))))) rfl k_) ?_
                        refine Zm.l (fun _ _ k_ => z_iconst (v := -1) dX8_leftPart_107 rfl k_) ?_
                        exact zm_iret dX8_leftPart_108 rfl rfl k
theorem sX8_leftPart_70 {E : zE} {d : Nat} {Q : zO → zM → Prop} (M : zM) (s0 : Int32) (k : Q (.inl (some (vi s0))) M) : Zm E YX8_leftPart (d + 1) M [] 70 [vi s0] Q := by
  exact zm_iret dX8_leftPart_70 rfl rfl k
theorem sX8_leftPart_77 {E : zE} {d : Nat} {Q : zO → zM → Prop} (M : zM) (s0 : Int32) (k : Q (.inl (some (vi s0))) M) : Zm E YX8_leftPart (d + 1) M [] 77 [vi s0] Q := by
  exact zm_iret dX8_leftPart_77 rfl rfl k
theorem sX8_leftPart_83 {E : zE} {d : Nat} {Q : zO → zM → Prop} (M : zM) (l1 : Int32) (s0 : Int32) (k : if s0 = 0 then (Zm E YX8_part d M (zargs 0 [vr (some (97, 1, 0)), vi l1, vi (0 : Int32)]) 0 [] (zma E YX8_leftPart (d + 1) [] 103 3 [] Q)) else (Zm E YX8_part d M (zargs 0 [vr (some (97, 1, 0)), vi l1, vi (0 : Int32)]) 0 [] (zma E YX8_leftPart (d + 1) [] 90 3 [vr (some (97, 1, 0))] Q))) : Zm E YX8_leftPart (d + 1) M [(0, vr (some (97, 1, 0))), (1, vi l1)] 83 [vi s0] Q := by
  refine Zm.br (fun _ _ k1_ k2_ => z_if_eq (tgt := 100) dX8_leftPart_83 rfl k1_ k2_) (fun h_ => ?_) (fun h_ => ?_)
  · have k := zit h_ k
    refine Zm.l (fun _ _ k_ => z_aload_n dX8_leftPart_100 rfl rfl k_) ?_
    refine Zm.l (fun _ _ k_ => z_iload_n dX8_leftPart_101 rfl rfl k_) ?_
    refine Zm.l (fun _ _ k_ => z_iconst (v := 0) dX8_leftPart_102 rfl k_) ?_
    refine Zm.pick [] rfl ?_
    exact zm_callV (as := [vi l1, vi (0 : Int32)]) (st := []) dX8_leftPart_103 vsX8_644_1 (Nat.le_refl _) (Nat.le_of_ble_eq_true rfl) (Nat.le_of_ble_eq_true rfl) rfl k
  · have k := zif h_ k
    refine Zm.l (fun _ _ k_ => z_aload_n dX8_leftPart_86 rfl rfl k_) ?_
    refine Zm.l (fun _ _ k_ => z_aload_n dX8_leftPart_87 rfl rfl k_) ?_
    refine Zm.l (fun _ _ k_ => z_iload_n dX8_leftPart_88 rfl rfl k_) ?_
    refine Zm.l (fun _ _ k_ => z_iconst (v := 0) dX8_leftPart_89 rfl k_) ?_
    refine Zm.pick [] rfl ?_
    exact zm_callV (as := [vi l1, vi (0 : Int32)]) (st := [vr (some (97, 1, 0))]) dX8_leftPart_90 vsX8_644_1 (Nat.le_refl _) (Nat.le_of_ble_eq_true rfl) (Nat.le_of_ble_eq_true rfl) rfl k
theorem sX8_leftPart_93 {E : zE} {d : Nat} {Q : zO → zM → Prop} (M : zM) (s0 : Int32) (k : Zm E YX8_part d M (zargs 0 [vr (some (97, 1, 0)), vi s0, vi (0 : Int32)]) 0 [] (zma E YX8_leftPart (d + 1) [] 94 3 [] Q)) : Zm E YX8_leftPart (d + 1) M [] 93 [vi s0, vr (some (97, 1, 0))] Q := by
  refine Zm.l (fun _ _ k_ => z_iconst (v := 0) dX8_leftPart_93 rfl k_) ?_
  exact zm_callV (as := [vi s0, vi (0 : Int32)]) (st := []) dX8_leftPart_94 vsX8_644_1 (Nat.le_refl _) (Nat.le_of_ble_eq_true rfl) (Nat.le_of_ble_eq_true rfl) rfl k
theorem sX8_leftPart_97 {E : zE} {d : Nat} {Q : zO → zM → Prop} (M : zM) (s0 : Int32) (k : Zm E YX8_leftPart (d + 1) M [] 106 [vi s0] Q) : Zm E YX8_leftPart (d + 1) M [] 97 [vi s0] Q := by
  refine Zm.l (fun _ _ k_ => z_goto (tgt := 106) dX8_leftPart_97 rfl k_) ?_
  exact k
theorem sX8_leftPart_106 {E : zE} {d : Nat} {Q : zO → zM → Prop} (M : zM) (s0 : Int32) (k : Q (.inl (some (vi s0))) M) : Zm E YX8_leftPart (d + 1) M [] 106 [vi s0] Q := by
  exact zm_iret dX8_leftPart_106 rfl rfl k
/-! ScriptTypesModel.isMemberCall(I)Z -/
theorem bX8_isMemberCall_0 : zdec cX8_isMemberCall 0 [(0, .aload_n 0, 1), (1, .iload_n 1, 1), (2, .iconst 0, 1), (3, .invokevirtual 644, 3), (6, .istore_n 2, 1), (7, .aload_n 0, 1), (8, .getfield 42, 3), (11, .iload_n 2, 1), (12, .iaload, 1), (13, .bipush 7, 2), (15, .if_icmp .ne 16, 3), (18, .aload_n 0, 1), (19, .getfield 52, 3), (22, .iload_n 2, 1), (23, .baload, 1), (24, .ifCond .ne 7, 3)] = true := by decide +kernel
theorem dX8_isMemberCall_0 : decode cX8_isMemberCall 0 = .ok (.aload_n 0, 1) := zdec_at bX8_isMemberCall_0 0 rfl
theorem dX8_isMemberCall_1 : decode cX8_isMemberCall 1 = .ok (.iload_n 1, 1) := zdec_at bX8_isMemberCall_0 1 rfl
theorem dX8_isMemberCall_2 : decode cX8_isMemberCall 2 = .ok (.iconst 0, 1) := zdec_at bX8_isMemberCall_0 2 rfl
theorem dX8_isMemberCall_3 : decode cX8_isMemberCall 3 = .ok (.invokevirtual 644, 3) := zdec_at bX8_isMemberCall_0 3 rfl
theorem dX8_isMemberCall_6 : decode cX8_isMemberCall 6 = .ok (.istore_n 2, 1) := zdec_at bX8_isMemberCall_0 4 rfl
theorem dX8_isMemberCall_7 : decode cX8_isMemberCall 7 = .ok (.aload_n 0, 1) := zdec_at bX8_isMemberCall_0 5 rfl
theorem dX8_isMemberCall_8 : decode cX8_isMemberCall 8 = .ok (.getfield 42, 3) := zdec_at bX8_isMemberCall_0 6 rfl
theorem dX8_isMemberCall_11 : decode cX8_isMemberCall 11 = .ok (.iload_n 2, 1) := zdec_at bX8_isMemberCall_0 7 rfl
theorem dX8_isMemberCall_12 : decode cX8_isMemberCall 12 = .ok (.iaload, 1) := zdec_at bX8_isMemberCall_0 8 rfl
theorem dX8_isMemberCall_13 : decode cX8_isMemberCall 13 = .ok (.bipush 7, 2) := zdec_at bX8_isMemberCall_0 9 rfl
theorem dX8_isMemberCall_15 : decode cX8_isMemberCall 15 = .ok (.if_icmp .ne 16, 3) := zdec_at bX8_isMemberCall_0 10 rfl
theorem dX8_isMemberCall_18 : decode cX8_isMemberCall 18 = .ok (.aload_n 0, 1) := zdec_at bX8_isMemberCall_0 11 rfl
theorem dX8_isMemberCall_19 : decode cX8_isMemberCall 19 = .ok (.getfield 52, 3) := zdec_at bX8_isMemberCall_0 12 rfl
theorem dX8_isMemberCall_22 : decode cX8_isMemberCall 22 = .ok (.iload_n 2, 1) := zdec_at bX8_isMemberCall_0 13 rfl
theorem dX8_isMemberCall_23 : decode cX8_isMemberCall 23 = .ok (.baload, 1) := zdec_at bX8_isMemberCall_0 14 rfl
theorem dX8_isMemberCall_24 : decode cX8_isMemberCall 24 = .ok (.ifCond .ne 7, 3) := zdec_at bX8_isMemberCall_0 15 rfl
theorem bX8_isMemberCall_27 : zdec cX8_isMemberCall 27 [(27, .iconst 1, 1), (28, .goto 4, 3), (31, .iconst 0, 1), (32, .ireturn, 1)] = true := by decide +kernel
theorem dX8_isMemberCall_27 : decode cX8_isMemberCall 27 = .ok (.iconst 1, 1) := zdec_at bX8_isMemberCall_27 0 rfl
theorem dX8_isMemberCall_28 : decode cX8_isMemberCall 28 = .ok (.goto 4, 3) := zdec_at bX8_isMemberCall_27 1 rfl
theorem dX8_isMemberCall_31 : decode cX8_isMemberCall 31 = .ok (.iconst 0, 1) := zdec_at bX8_isMemberCall_27 2 rfl
theorem dX8_isMemberCall_32 : decode cX8_isMemberCall 32 = .ok (.ireturn, 1) := zdec_at bX8_isMemberCall_27 3 rfl
theorem sX8_isMemberCall_0 {E : zE} {d : Nat} {Q : zO → zM → Prop} (M : zM) (l1 : Int32) (k : Zm E YX8_part d M (zargs 0 [vr (some (97, 1, 0)), vi l1, vi (0 : Int32)]) 0 [] (zma E YX8_isMemberCall (d + 1) [(0, vr (some (97, 1, 0)))] 3 3 [] Q)) : Zm E YX8_isMemberCall (d + 1) M [(0, vr (some (97, 1, 0))), (1, vi l1)] 0 [] Q := by
  refine Zm.l (fun _ _ k_ => z_aload_n dX8_isMemberCall_0 rfl rfl k_) ?_
  refine Zm.l (fun _ _ k_ => z_iload_n dX8_isMemberCall_1 rfl rfl k_) ?_
  refine Zm.l (fun _ _ k_ => z_iconst (v := 0) dX8_isMemberCall_2 rfl k_) ?_
  refine Zm.pick [0] rfl ?_
  exact zm_callV (as := [vi l1, vi (0 : Int32)]) (st := []) dX8_isMemberCall_3 vsX8_644_1 (Nat.le_refl _) (Nat.le_of_ble_eq_true rfl) (Nat.le_of_ble_eq_true rfl) rfl k
theorem sX8_isMemberCall_6 {E : zE} {d : Nat} {Q : zO → zM → Prop} (M : zM) (s0 : Int32) (k : vp_in s0 12000 ∧ (if (gi M 108 (s0).toNatClampNeg) = (7 : Int32) then (vp_in s0 12000 ∧ (if (gi M 111 (s0).toNatClampNeg) = 0 then (Q (.inl (some (vi (1 : Int32)))) M) else (Q (.inl (some (vi (0 : Int32)))) M))) else (Q (.inl (some (vi (0 : Int32)))) M))) : Zm E YX8_isMemberCall (d + 1) M [(0, vr (some (97, 1, 0)))] 6 [vi s0] Q := by
  refine Zm.l (fun _ _ k_ => z_ist_n dX8_isMemberCall_6 rfl (by decide) (lv' := [(0, vr (some (97, 1, 0))), (2, vi s0)]) rfl k_) ?_
  refine Zm.l (fun _ _ k_ => z_aload_n dX8_isMemberCall_7 rfl rfl k_) ?_
  refine zm_getr 10 dX8_isMemberCall_8 fsX8_42_1 rfl ?_
  refine Zm.l (fun _ _ k_ => z_iload_n dX8_isMemberCall_11 rfl rfl k_) ?_
  obtain ⟨b_, k⟩ := k
  refine zm_iald dX8_isMemberCall_12 b_ (by decide) (by decide) ?_
  refine Zm.l (fun _ _ k_ => z_bipush (v := 7) dX8_isMemberCall_13 rfl k_) ?_
  refine Zm.brn (fun _ _ k1_ k2_ => z_icmp_ne (tgt := 31) dX8_isMemberCall_15 rfl k1_ k2_) (fun h_ => ?_) (fun h_ => ?_)
  · have k := zif h_ k
    refine Zm.l (fun _ _ k_ => z_iconst (v := 0) dX8_isMemberCall_31 rfl k_) ?_
    exact zm_iret dX8_isMemberCall_32 rfl (by decide) k
  · have k := zit h_ k
    refine Zm.l (fun _ _ k_ => z_aload_n dX8_isMemberCall_18 rfl rfl k_) ?_
    refine zm_getr 13 dX8_isMemberCall_19 fsX8_52_1 rfl ?_
    refine Zm.l (fun _ _ k_ => z_iload_n dX8_isMemberCall_22 rfl rfl k_) ?_
    obtain ⟨b_, k⟩ := k
    refine zm_zald dX8_isMemberCall_23 b_ (by decide) (by decide) ?_
    refine Zm.brn (fun _ _ k1_ k2_ => z_if_ne (tgt := 31) dX8_isMemberCall_24 rfl k1_ k2_) (fun h_ => ?_) (fun h_ => ?_)
    · have k := zif h_ k
      refine Zm.l (fun _ _ k_ => z_iconst (v := 0) dX8_isMemberCall_31 rfl k_) ?_
      exact zm_iret dX8_isMemberCall_32 rfl (by decide) k
    · have k := zit h_ k
      refine Zm.l (fun _ _ k_ => z_iconst (v := 1) dX8_isMemberCall_27 rfl k_) ?_
      refine Zm.l (fun _ _ k_ => z_goto (tgt := 32) dX8_isMemberCall_28 rfl k_) ?_
      exact zm_iret dX8_isMemberCall_32 rfl (by decide) k
/-! ScriptTypesModel.single(I)V -/
theorem bX8_single_0 : zdec cX8_single 0 [(0, .aload_n 0, 1), (1, .getfield 609, 3), (4, .ifCond .eq 4, 3), (7, .return_, 1), (8, .aload_n 0, 1), (9, .iload_n 1, 1), (10, .iconst 0, 1), (11, .invokevirtual 644, 3), (14, .istore_n 2, 1), (15, .aload_n 0, 1), (16, .iload_n 1, 1), (17, .iconst 1, 1), (18, .invokevirtual 644, 3), (21, .istore_n 3, 1), (22, .aload_n 0, 1), (23, .getfield 42, 3)] = true := by decide +kernel
theorem dX8_single_0 : decode cX8_single 0 = .ok (.aload_n 0, 1) := zdec_at bX8_single_0 0 rfl
theorem dX8_single_1 : decode cX8_single 1 = .ok (.getfield 609, 3) := zdec_at bX8_single_0 1 rfl
theorem dX8_single_4 : decode cX8_single 4 = .ok (.ifCond .eq 4, 3) := zdec_at bX8_single_0 2 rfl
theorem dX8_single_7 : decode cX8_single 7 = .ok (.return_, 1) := zdec_at bX8_single_0 3 rfl
theorem dX8_single_8 : decode cX8_single 8 = .ok (.aload_n 0, 1) := zdec_at bX8_single_0 4 rfl
theorem dX8_single_9 : decode cX8_single 9 = .ok (.iload_n 1, 1) := zdec_at bX8_single_0 5 rfl
theorem dX8_single_10 : decode cX8_single 10 = .ok (.iconst 0, 1) := zdec_at bX8_single_0 6 rfl
theorem dX8_single_11 : decode cX8_single 11 = .ok (.invokevirtual 644, 3) := zdec_at bX8_single_0 7 rfl
theorem dX8_single_14 : decode cX8_single 14 = .ok (.istore_n 2, 1) := zdec_at bX8_single_0 8 rfl
theorem dX8_single_15 : decode cX8_single 15 = .ok (.aload_n 0, 1) := zdec_at bX8_single_0 9 rfl
theorem dX8_single_16 : decode cX8_single 16 = .ok (.iload_n 1, 1) := zdec_at bX8_single_0 10 rfl
theorem dX8_single_17 : decode cX8_single 17 = .ok (.iconst 1, 1) := zdec_at bX8_single_0 11 rfl
theorem dX8_single_18 : decode cX8_single 18 = .ok (.invokevirtual 644, 3) := zdec_at bX8_single_0 12 rfl
theorem dX8_single_21 : decode cX8_single 21 = .ok (.istore_n 3, 1) := zdec_at bX8_single_0 13 rfl
theorem dX8_single_22 : decode cX8_single 22 = .ok (.aload_n 0, 1) := zdec_at bX8_single_0 14 rfl
theorem dX8_single_23 : decode cX8_single 23 = .ok (.getfield 42, 3) := zdec_at bX8_single_0 15 rfl
theorem bX8_single_26 : zdec cX8_single 26 [(26, .iload_n 1, 1), (27, .iaload, 1)] = true := by decide +kernel
theorem dX8_single_26 : decode cX8_single 26 = .ok (.iload_n 1, 1) := zdec_at bX8_single_26 0 rfl
theorem dX8_single_27 : decode cX8_single 27 = .ok (.iaload, 1) := zdec_at bX8_single_26 1 rfl
theorem dX8_single_28 : decode cX8_single 28 = .ok (.tableswitch 272 0 16 #[84, 93, 102, 272, 110, 118, 126, 272, 272, 137, 174, 272, 272, 272, 183, 248, 263], 84) := by decide +kernel
theorem bX8_single_112 : zdec cX8_single 112 [(112, .aload_n 0, 1), (113, .iload_n 2, 1), (114, .iload_n 3, 1), (115, .invokevirtual 656, 3), (118, .goto 188, 3), (121, .aload_n 0, 1), (122, .bipush 6, 2), (124, .invokevirtual 666, 3), (127, .goto 179, 3), (130, .aload_n 0, 1), (131, .iload_n 2, 1), (132, .invokevirtual 680, 3), (135, .goto 171, 3), (138, .aload_n 0, 1), (139, .iload_n 2, 1), (140, .invokevirtual 683, 3)] = true := by decide +kernel
theorem dX8_single_112 : decode cX8_single 112 = .ok (.aload_n 0, 1) := zdec_at bX8_single_112 0 rfl
theorem dX8_single_113 : decode cX8_single 113 = .ok (.iload_n 2, 1) := zdec_at bX8_single_112 1 rfl
theorem dX8_single_114 : decode cX8_single 114 = .ok (.iload_n 3, 1) := zdec_at bX8_single_112 2 rfl
theorem dX8_single_115 : decode cX8_single 115 = .ok (.invokevirtual 656, 3) := zdec_at bX8_single_112 3 rfl
theorem dX8_single_118 : decode cX8_single 118 = .ok (.goto 188, 3) := zdec_at bX8_single_112 4 rfl
theorem dX8_single_121 : decode cX8_single 121 = .ok (.aload_n 0, 1) := zdec_at bX8_single_112 5 rfl
theorem dX8_single_122 : decode cX8_single 122 = .ok (.bipush 6, 2) := zdec_at bX8_single_112 6 rfl
theorem dX8_single_124 : decode cX8_single 124 = .ok (.invokevirtual 666, 3) := zdec_at bX8_single_112 7 rfl
theorem dX8_single_127 : decode cX8_single 127 = .ok (.goto 179, 3) := zdec_at bX8_single_112 8 rfl
theorem dX8_single_130 : decode cX8_single 130 = .ok (.aload_n 0, 1) := zdec_at bX8_single_112 9 rfl
theorem dX8_single_131 : decode cX8_single 131 = .ok (.iload_n 2, 1) := zdec_at bX8_single_112 10 rfl
theorem dX8_single_132 : decode cX8_single 132 = .ok (.invokevirtual 680, 3) := zdec_at bX8_single_112 11 rfl
theorem dX8_single_135 : decode cX8_single 135 = .ok (.goto 171, 3) := zdec_at bX8_single_112 12 rfl
theorem dX8_single_138 : decode cX8_single 138 = .ok (.aload_n 0, 1) := zdec_at bX8_single_112 13 rfl
theorem dX8_single_139 : decode cX8_single 139 = .ok (.iload_n 2, 1) := zdec_at bX8_single_112 14 rfl
theorem dX8_single_140 : decode cX8_single 140 = .ok (.invokevirtual 683, 3) := zdec_at bX8_single_112 15 rfl
theorem bX8_single_143 : zdec cX8_single 143 [(143, .goto 163, 3), (146, .aload_n 0, 1), (147, .iload_n 2, 1), (148, .invokevirtual 686, 3), (151, .goto 155, 3), (154, .aload_n 0, 1), (155, .bipush 9, 2), (157, .iload_n 2, 1), (158, .iconst 0, 1), (159, .invokevirtual 615, 3), (162, .goto 144, 3), (165, .aload_n 0, 1), (166, .iload_n 2, 1), (167, .invokevirtual 668, 3), (170, .aload_n 0, 1), (171, .iload_n 3, 1)] = true := by decide +kernel
theorem dX8_single_143 : decode cX8_single 143 = .ok (.goto 163, 3) := zdec_at bX8_single_143 0 rfl
theorem dX8_single_146 : decode cX8_single 146 = .ok (.aload_n 0, 1) := zdec_at bX8_single_143 1 rfl
theorem dX8_single_147 : decode cX8_single 147 = .ok (.iload_n 2, 1) := zdec_at bX8_single_143 2 rfl
theorem dX8_single_148 : decode cX8_single 148 = .ok (.invokevirtual 686, 3) := zdec_at bX8_single_143 3 rfl
theorem dX8_single_151 : decode cX8_single 151 = .ok (.goto 155, 3) := zdec_at bX8_single_143 4 rfl
theorem dX8_single_154 : decode cX8_single 154 = .ok (.aload_n 0, 1) := zdec_at bX8_single_143 5 rfl
theorem dX8_single_155 : decode cX8_single 155 = .ok (.bipush 9, 2) := zdec_at bX8_single_143 6 rfl
theorem dX8_single_157 : decode cX8_single 157 = .ok (.iload_n 2, 1) := zdec_at bX8_single_143 7 rfl
theorem dX8_single_158 : decode cX8_single 158 = .ok (.iconst 0, 1) := zdec_at bX8_single_143 8 rfl
theorem dX8_single_159 : decode cX8_single 159 = .ok (.invokevirtual 615, 3) := zdec_at bX8_single_143 9 rfl
theorem dX8_single_162 : decode cX8_single 162 = .ok (.goto 144, 3) := zdec_at bX8_single_143 10 rfl
theorem dX8_single_165 : decode cX8_single 165 = .ok (.aload_n 0, 1) := zdec_at bX8_single_143 11 rfl
theorem dX8_single_166 : decode cX8_single 166 = .ok (.iload_n 2, 1) := zdec_at bX8_single_143 12 rfl
theorem dX8_single_167 : decode cX8_single 167 = .ok (.invokevirtual 668, 3) := zdec_at bX8_single_143 13 rfl
theorem dX8_single_170 : decode cX8_single 170 = .ok (.aload_n 0, 1) := zdec_at bX8_single_143 14 rfl
theorem dX8_single_171 : decode cX8_single 171 = .ok (.iload_n 3, 1) := zdec_at bX8_single_143 15 rfl
theorem bX8_single_172 : zdec cX8_single 172 [(172, .invokevirtual 671, 3), (175, .istore 4, 2), (177, .aload_n 0, 1), (178, .bipush 16, 2), (180, .iload 4, 2), (182, .aload_n 0, 1), (183, .getfield 689, 3), (186, .invokevirtual 615, 3), (189, .aload_n 0, 1), (190, .dup, 1), (191, .getfield 689, 3), (194, .iconst 1, 1), (195, .iadd, 1), (196, .putfield 689, 3), (199, .goto 107, 3), (202, .aload_n 0, 1)] = true := by decide +kernel
theorem dX8_single_172 : decode cX8_single 172 = .ok (.invokevirtual 671, 3) := zdec_at bX8_single_172 0 rfl
theorem dX8_single_175 : decode cX8_single 175 = .ok (.istore 4, 2) := zdec_at bX8_single_172 1 rfl
theorem dX8_single_177 : decode cX8_single 177 = .ok (.aload_n 0, 1) := zdec_at bX8_single_172 2 rfl
theorem dX8_single_178 : decode cX8_single 178 = .ok (.bipush 16, 2) := zdec_at bX8_single_172 3 rfl
theorem dX8_single_180 : decode cX8_single 180 = .ok (.iload 4, 2) := zdec_at bX8_single_172 4 rfl
theorem dX8_single_182 : decode cX8_single 182 = .ok (.aload_n 0, 1) := zdec_at bX8_single_172 5 rfl
theorem dX8_single_183 : decode cX8_single 183 = .ok (.getfield 689, 3) := zdec_at bX8_single_172 6 rfl
theorem dX8_single_186 : decode cX8_single 186 = .ok (.invokevirtual 615, 3) := zdec_at bX8_single_172 7 rfl
theorem dX8_single_189 : decode cX8_single 189 = .ok (.aload_n 0, 1) := zdec_at bX8_single_172 8 rfl
theorem dX8_single_190 : decode cX8_single 190 = .ok (.dup, 1) := zdec_at bX8_single_172 9 rfl
theorem dX8_single_191 : decode cX8_single 191 = .ok (.getfield 689, 3) := zdec_at bX8_single_172 10 rfl
theorem dX8_single_194 : decode cX8_single 194 = .ok (.iconst 1, 1) := zdec_at bX8_single_172 11 rfl
theorem dX8_single_195 : decode cX8_single 195 = .ok (.iadd, 1) := zdec_at bX8_single_172 12 rfl
theorem dX8_single_196 : decode cX8_single 196 = .ok (.putfield 689, 3) := zdec_at bX8_single_172 13 rfl
theorem dX8_single_199 : decode cX8_single 199 = .ok (.goto 107, 3) := zdec_at bX8_single_172 14 rfl
theorem dX8_single_202 : decode cX8_single 202 = .ok (.aload_n 0, 1) := zdec_at bX8_single_172 15 rfl
theorem bX8_single_203 : zdec cX8_single 203 [(203, .iload_n 2, 1), (204, .iload_n 3, 1), (205, .invokevirtual 692, 3), (208, .goto 98, 3), (211, .aload_n 0, 1), (212, .invokevirtual 674, 3), (215, .istore 4, 2), (217, .aload_n 0, 1), (218, .invokevirtual 674, 3), (221, .istore 5, 2), (223, .aload_n 0, 1), (224, .iload_n 2, 1), (225, .invokevirtual 668, 3), (228, .aload_n 0, 1), (229, .bipush 22, 2), (231, .iload 4, 2)] = true := by decide +kernel
theorem dX8_single_203 : decode cX8_single 203 = .ok (.iload_n 2, 1) := zdec_at bX8_single_203 0 rfl
theorem dX8_single_204 : decode cX8_single 204 = .ok (.iload_n 3, 1) := zdec_at bX8_single_203 1 rfl
theorem dX8_single_205 : decode cX8_single 205 = .ok (.invokevirtual 692, 3) := zdec_at bX8_single_203 2 rfl
theorem dX8_single_208 : decode cX8_single 208 = .ok (.goto 98, 3) := zdec_at bX8_single_203 3 rfl
theorem dX8_single_211 : decode cX8_single 211 = .ok (.aload_n 0, 1) := zdec_at bX8_single_203 4 rfl
theorem dX8_single_212 : decode cX8_single 212 = .ok (.invokevirtual 674, 3) := zdec_at bX8_single_203 5 rfl
theorem dX8_single_215 : decode cX8_single 215 = .ok (.istore 4, 2) := zdec_at bX8_single_203 6 rfl
theorem dX8_single_217 : decode cX8_single 217 = .ok (.aload_n 0, 1) := zdec_at bX8_single_203 7 rfl
theorem dX8_single_218 : decode cX8_single 218 = .ok (.invokevirtual 674, 3) := zdec_at bX8_single_203 8 rfl
theorem dX8_single_221 : decode cX8_single 221 = .ok (.istore 5, 2) := zdec_at bX8_single_203 9 rfl
theorem dX8_single_223 : decode cX8_single 223 = .ok (.aload_n 0, 1) := zdec_at bX8_single_203 10 rfl
theorem dX8_single_224 : decode cX8_single 224 = .ok (.iload_n 2, 1) := zdec_at bX8_single_203 11 rfl
theorem dX8_single_225 : decode cX8_single 225 = .ok (.invokevirtual 668, 3) := zdec_at bX8_single_203 12 rfl
theorem dX8_single_228 : decode cX8_single 228 = .ok (.aload_n 0, 1) := zdec_at bX8_single_203 13 rfl
theorem dX8_single_229 : decode cX8_single 229 = .ok (.bipush 22, 2) := zdec_at bX8_single_203 14 rfl
theorem dX8_single_231 : decode cX8_single 231 = .ok (.iload 4, 2) := zdec_at bX8_single_203 15 rfl
theorem bX8_single_233 : zdec cX8_single 233 [(233, .iconst 0, 1), (234, .invokevirtual 615, 3), (237, .aload_n 0, 1), (238, .iload_n 3, 1), (239, .invokevirtual 668, 3), (242, .aload_n 0, 1), (243, .bipush 21, 2), (245, .iload 5, 2), (247, .iconst 0, 1), (248, .invokevirtual 615, 3), (251, .aload_n 0, 1), (252, .iload 4, 2), (254, .invokevirtual 677, 3), (257, .aload_n 0, 1), (258, .aload_n 0, 1), (259, .iload_n 1, 1)] = true := by decide +kernel
theorem dX8_single_233 : decode cX8_single 233 = .ok (.iconst 0, 1) := zdec_at bX8_single_233 0 rfl
theorem dX8_single_234 : decode cX8_single 234 = .ok (.invokevirtual 615, 3) := zdec_at bX8_single_233 1 rfl
theorem dX8_single_237 : decode cX8_single 237 = .ok (.aload_n 0, 1) := zdec_at bX8_single_233 2 rfl
theorem dX8_single_238 : decode cX8_single 238 = .ok (.iload_n 3, 1) := zdec_at bX8_single_233 3 rfl
theorem dX8_single_239 : decode cX8_single 239 = .ok (.invokevirtual 668, 3) := zdec_at bX8_single_233 4 rfl
theorem dX8_single_242 : decode cX8_single 242 = .ok (.aload_n 0, 1) := zdec_at bX8_single_233 5 rfl
theorem dX8_single_243 : decode cX8_single 243 = .ok (.bipush 21, 2) := zdec_at bX8_single_233 6 rfl
theorem dX8_single_245 : decode cX8_single 245 = .ok (.iload 5, 2) := zdec_at bX8_single_233 7 rfl
theorem dX8_single_247 : decode cX8_single 247 = .ok (.iconst 0, 1) := zdec_at bX8_single_233 8 rfl
theorem dX8_single_248 : decode cX8_single 248 = .ok (.invokevirtual 615, 3) := zdec_at bX8_single_233 9 rfl
theorem dX8_single_251 : decode cX8_single 251 = .ok (.aload_n 0, 1) := zdec_at bX8_single_233 10 rfl
theorem dX8_single_252 : decode cX8_single 252 = .ok (.iload 4, 2) := zdec_at bX8_single_233 11 rfl
theorem dX8_single_254 : decode cX8_single 254 = .ok (.invokevirtual 677, 3) := zdec_at bX8_single_233 12 rfl
theorem dX8_single_257 : decode cX8_single 257 = .ok (.aload_n 0, 1) := zdec_at bX8_single_233 13 rfl
theorem dX8_single_258 : decode cX8_single 258 = .ok (.aload_n 0, 1) := zdec_at bX8_single_233 14 rfl
theorem dX8_single_259 : decode cX8_single 259 = .ok (.iload_n 1, 1) := zdec_at bX8_single_233 15 rfl
theorem bX8_single_260 : zdec cX8_single 260 [(260, .iconst 2, 1), (261, .invokevirtual 644, 3), (264, .invokevirtual 668, 3), (267, .aload_n 0, 1), (268, .iload 5, 2), (270, .invokevirtual 677, 3), (273, .goto 33, 3), (276, .aload_n 0, 1), (277, .iload_n 2, 1), (278, .iload_n 3, 1), (279, .aload_n 0, 1), (280, .iload_n 1, 1), (281, .iconst 2, 1), (282, .invokevirtual 644, 3), (285, .invokevirtual 695, 3), (288, .goto 18, 3)] = true := by decide +kernel
theorem dX8_single_260 : decode cX8_single 260 = .ok (.iconst 2, 1) := zdec_at bX8_single_260 0 rfl
theorem dX8_single_261 : decode cX8_single 261 = .ok (.invokevirtual 644, 3) := zdec_at bX8_single_260 1 rfl
theorem dX8_single_264 : decode cX8_single 264 = .ok (.invokevirtual 668, 3) := zdec_at bX8_single_260 2 rfl
theorem dX8_single_267 : decode cX8_single 267 = .ok (.aload_n 0, 1) := zdec_at bX8_single_260 3 rfl
theorem dX8_single_268 : decode cX8_single 268 = .ok (.iload 5, 2) := zdec_at bX8_single_260 4 rfl
theorem dX8_single_270 : decode cX8_single 270 = .ok (.invokevirtual 677, 3) := zdec_at bX8_single_260 5 rfl
theorem dX8_single_273 : decode cX8_single 273 = .ok (.goto 33, 3) := zdec_at bX8_single_260 6 rfl
theorem dX8_single_276 : decode cX8_single 276 = .ok (.aload_n 0, 1) := zdec_at bX8_single_260 7 rfl
theorem dX8_single_277 : decode cX8_single 277 = .ok (.iload_n 2, 1) := zdec_at bX8_single_260 8 rfl
theorem dX8_single_278 : decode cX8_single 278 = .ok (.iload_n 3, 1) := zdec_at bX8_single_260 9 rfl
theorem dX8_single_279 : decode cX8_single 279 = .ok (.aload_n 0, 1) := zdec_at bX8_single_260 10 rfl
theorem dX8_single_280 : decode cX8_single 280 = .ok (.iload_n 1, 1) := zdec_at bX8_single_260 11 rfl
theorem dX8_single_281 : decode cX8_single 281 = .ok (.iconst 2, 1) := zdec_at bX8_single_260 12 rfl
theorem dX8_single_282 : decode cX8_single 282 = .ok (.invokevirtual 644, 3) := zdec_at bX8_single_260 13 rfl
theorem dX8_single_285 : decode cX8_single 285 = .ok (.invokevirtual 695, 3) := zdec_at bX8_single_260 14 rfl
theorem dX8_single_288 : decode cX8_single 288 = .ok (.goto 18, 3) := zdec_at bX8_single_260 15 rfl
theorem bX8_single_291 : zdec cX8_single 291 [(291, .aload_n 0, 1), (292, .iload_n 2, 1), (293, .iload_n 3, 1), (294, .invokevirtual 698, 3), (297, .goto 9, 3), (300, .aload_n 0, 1), (301, .iload_n 2, 1), (302, .iload_n 3, 1), (303, .invokevirtual 701, 3), (306, .return_, 1)] = true := by decide +kernel
theorem dX8_single_291 : decode cX8_single 291 = .ok (.aload_n 0, 1) := zdec_at bX8_single_291 0 rfl
theorem dX8_single_292 : decode cX8_single 292 = .ok (.iload_n 2, 1) := zdec_at bX8_single_291 1 rfl
theorem dX8_single_293 : decode cX8_single 293 = .ok (.iload_n 3, 1) := zdec_at bX8_single_291 2 rfl
theorem dX8_single_294 : decode cX8_single 294 = .ok (.invokevirtual 698, 3) := zdec_at bX8_single_291 3 rfl
theorem dX8_single_297 : decode cX8_single 297 = .ok (.goto 9, 3) := zdec_at bX8_single_291 4 rfl
theorem dX8_single_300 : decode cX8_single 300 = .ok (.aload_n 0, 1) := zdec_at bX8_single_291 5 rfl
theorem dX8_single_301 : decode cX8_single 301 = .ok (.iload_n 2, 1) := zdec_at bX8_single_291 6 rfl
theorem dX8_single_302 : decode cX8_single 302 = .ok (.iload_n 3, 1) := zdec_at bX8_single_291 7 rfl
theorem dX8_single_303 : decode cX8_single 303 = .ok (.invokevirtual 701, 3) := zdec_at bX8_single_291 8 rfl
theorem dX8_single_306 : decode cX8_single 306 = .ok (.return_, 1) := zdec_at bX8_single_291 9 rfl
theorem sX8_single_0 {E : zE} {d : Nat} {Q : zO → zM → Prop} (M : zM) (l1 : Int32) (k : if (gi M 97 47) = 0 then (Zm E YX8_part d M (zargs 0 [vr (some (97, 1, 0)), vi l1, vi (0 : Int32)]) 0 [] (zma E YX8_single (d + 1) [(0, vr (some (97, 1, 0))), (1, vi l1)] 11 3 [] Q)) else (Q (.inl none) M)) : Zm E YX8_single (d + 1) M [(0, vr (some (97, 1, 0))), (1, vi l1)] 0 [] Q := by
  refine Zm.l (fun _ _ k_ => z_aload_n dX8_single_0 rfl rfl k_) ?_
  refine zm_geti dX8_single_1 fsX8_609_1 (by decide) (by decide) ?_
  refine Zm.br (fun _ _ k1_ k2_ => z_if_eq (tgt := 8) dX8_single_4 rfl k1_ k2_) (fun h_ => ?_) (fun h_ => ?_)
  · have k := zit h_ k
    refine Zm.l (fun _ _ k_ => z_aload_n dX8_single_8 rfl rfl k_) ?_
    refine Zm.l (fun _ _ k_ => z_iload_n dX8_single_9 rfl rfl k_) ?_
    refine Zm.l (fun _ _ k_ => z_iconst (v := 0) dX8_single_10 rfl k_) ?_
    exact zm_callV (as := [vi l1, vi (0 : Int32)]) (st := []) dX8_single_11 vsX8_644_1 (Nat.le_refl _) (Nat.le_of_ble_eq_true rfl) (Nat.le_of_ble_eq_true rfl) rfl k
  · have k := zif h_ k
    exact zm_vret dX8_single_7 rfl k
theorem sX8_single_14 {E : zE} {d : Nat} {Q : zO → zM → Prop} (M : zM) (l1 : Int32) (s0 : Int32) (k : Zm E YX8_part d M (zargs 0 [vr (some (97, 1, 0)), vi l1, vi (1 : Int32)]) 0 [] (zma E YX8_single (d + 1) [(0, vr (some (97, 1, 0))), (1, vi l1), (2, vi s0)] 18 3 [] Q)) : Zm E YX8_single (d + 1) M [(0, vr (some (97, 1, 0))), (1, vi l1)] 14 [vi s0] Q := by
  refine Zm.l (fun _ _ k_ => z_ist_n dX8_single_14 rfl (by decide) (lv' := [(0, vr (some (97, 1, 0))), (1, vi l1), (2, vi s0)]) rfl k_) ?_
  refine Zm.l (fun _ _ k_ => z_aload_n dX8_single_15 rfl rfl k_) ?_
  refine Zm.l (fun _ _ k_ => z_iload_n dX8_single_16 rfl rfl k_) ?_
  refine Zm.l (fun _ _ k_ => z_iconst (v := 1) dX8_single_17 rfl k_) ?_
  exact zm_callV (as := [vi l1, vi (1 : Int32)]) (st := []) dX8_single_18 vsX8_644_1 (Nat.le_refl _) (Nat.le_of_ble_eq_true rfl) (Nat.le_of_ble_eq_true rfl) rfl k
theorem sX8_single_21 {E : zE} {d : Nat} {Q : zO → zM → Prop} (M : zM) (l1 : Int32) (l2 : Int32) (s0 : Int32) (k : vp_in l1 12000 ∧ (if (gi M 108 (l1).toNatClampNeg) = 0 then (Zm E YX8_constant d M (zargs 0 [vr (some (97, 1, 0)), vi l2, vi s0]) 0 [] (zma E YX8_single (d + 1) [] 115 3 [] Q)) else (if (gi M 108 (l1).toNatClampNeg) = 1 then (Zm E YX8_emit_2 d M (zargs 0 [vr (some (97, 1, 0)), vi (6 : Int32)]) 0 [] (zma E YX8_single (d + 1) [] 124 3 [] Q)) else (if (gi M 108 (l1).toNatClampNeg) = 2 then (Zm E YX8_get d M (zargs 0 [vr (some (97, 1, 0)), vi l2]) 0 [] (zma E YX8_single (d + 1) [] 132 3 [] Q)) else (if (gi M 108 (l1).toNatClampNeg) = 3 then (Zm E YX8_stepBehind d M (zargs 0 [vr (some (97, 1, 0)), vi l2, vi s0]) 0 [] (zma E YX8_single (d + 1) [] 303 3 [] Q)) else (if (gi M 108 (l1).toNatClampNeg) = 4 then (Zm E YX8_row d M (zargs 0 [vr (some (97, 1, 0)), vi l2]) 0 [] (zma E YX8_single (d + 1) [] 140 3 [] Q)) else (if (gi M 108 (l1).toNatClampNeg) = 5 then (Zm E YX8_object d M (zargs 0 [vr (some (97, 1, 0)), vi l2]) 0 [] (zma E YX8_single (d + 1) [] 148 3 [] Q)) else (if (gi M 108 (l1).toNatClampNeg) = 6 then (Zm E YX8_emit d M (zargs 0 [vr (some (97, 1, 0)), vi (9 : Int32), vi l2, vi (0 : Int32)]) 0 [] (zma E YX8_single (d + 1) [] 159 3 [] Q)) else (if (gi M 108 (l1).toNatClampNeg) = 7 then (Zm E YX8_stepBehind d M (zargs 0 [vr (some (97, 1, 0)), vi l2, vi s0]) 0 [] (zma E YX8_single (d + 1) [] 303 3 [] Q)) else (if (gi M 108 (l1).toNatClampNeg) = 8 then (Zm E YX8_stepBehind d M (zargs 0 [vr (some (97, 1, 0)), vi l2, vi s0]) 0 [] (zma E YX8_single (d + 1) [] 303 3 [] Q)) else (if (gi M 108 (l1).toNatClampNeg) = 9 then (Zm E YX8_value d M (zargs 0 [vr (some (97, 1, 0)), vi l2]) 0 [] (zma E YX8_single (d + 1) [(0, vr (some (97, 1, 0))), (3, vi s0)] 167 3 [] Q)) else (if (gi M 108 (l1).toNatClampNeg) = 10 then (Zm E YX8_unary d M (zargs 0 [vr (some (97, 1, 0)), vi l2, vi s0]) 0 [] (zma E YX8_single (d + 1) [] 205 3 [] Q)) else (if (gi M 108 (l1).toNatClampNeg) = 11 then (Zm E YX8_stepBehind d M (zargs 0 [vr (some (97, 1, 0)), vi l2, vi s0]) 0 [] (zma E YX8_single (d + 1) [] 303 3 [] Q)) else (if (gi M 108 (l1).toNatClampNeg) = 12 then (Zm E YX8_stepBehind d M (zargs 0 [vr (some (97, 1, 0)), vi l2, vi s0]) 0 [] (zma E YX8_single (d + 1) [] 303 3 [] Q)) else (if (gi M 108 (l1).toNatClampNeg) = 13 then (Zm E YX8_stepBehind d M (zargs 0 [vr (some (97, 1, 0)), vi l2, vi s0]) 0 [] (zma E YX8_single (d + 1) [] 303 3 [] Q)) else (if (gi M 108 (l1).toNatClampNeg) = 14 then (Zm E YX8_mark d M (zargs 0 [vr (some (97, 1, 0))]) 0 [] (zma E YX8_single (d + 1) [(0, vr (some (97, 1, 0))), (1, vi l1), (2, vi l2), (3, vi s0)] 212 3 [] Q)) else (if (gi M 108 (l1).toNatClampNeg) = 15 then (Zm E YX8_part d M (zargs 0 [vr (some (97, 1, 0)), vi l1, vi (2 : Int32)]) 0 [] (zma E YX8_single (d + 1) [] 282 3 [vi s0, vi l2, vr (some (97, 1, 0))] Q)) else (if (gi M 108 (l1).toNatClampNeg) = 16 then (Zm E YX8_step d M (zargs 0 [vr (some (97, 1, 0)), vi l2, vi s0]) 0 [] (zma E YX8_single (d + 1) [] 294 3 [] Q)) else (Zm E YX8_stepBehind d M (zargs 0 [vr (some (97, 1, 0)), vi l2, vi s0]) 0 [] (zma E YX8_single (d + 1) [] 303 3 [] Q)))))))))))))))))))) : Zm E YX8_single (d + 1) M [(0, vr (some (97, 1, 0))), (1, vi l1), (2, vi l2)] 21 [vi s0] Q := by
  refine Zm.l (fun _ _ k_ => z_ist_n dX8_single_21 rfl (by decide) (lv' := [(0, vr (some (97, 1, 0))), (1, vi l1), (2, vi l2), (3, vi s0)]) rfl k_) ?_
  refine Zm.l (fun _ _ k_ => z_aload_n dX8_single_22 rfl rfl k_) ?_
  refine zm_getr 10 dX8_single_23 fsX8_42_1 rfl ?_
  refine Zm.l (fun _ _ k_ => z_iload_n dX8_single_26 rfl rfl k_) ?_
  obtain ⟨b_, k⟩ := k
  refine zm_iald dX8_single_27 b_ (by decide) (by decide) ?_
  by_cases h0_ : (gi M 108 (l1).toNatClampNeg) = 0
  · have k := zit h0_ k
    refine Zm.l (fun _ _ k_ => z_tableIn (off := 84) (tgt := 112) dX8_single_28 (by rw [h0_]; decide) (by rw [h0_]; decide) (by rw [h0_]; rfl) rfl k_) ?_
    refine Zm.l (fun _ _ k_ => z_aload_n dX8_single_112 rfl rfl k_) ?_
    refine Zm.l (fun _ _ k_ => z_iload_n dX8_single_113 rfl rfl k_) ?_
    refine Zm.l (fun _ _ k_ => z_iload_n dX8_single_114 rfl rfl k_) ?_
    refine Zm.pick [] rfl ?_
    exact zm_callV (as := [vi l2, vi s0]) (st := []) dX8_single_115 vsX8_656_1 (Nat.le_refl _) (Nat.le_of_ble_eq_true rfl) (Nat.le_of_ble_eq_true rfl) rfl k
  · have k := zif h0_ k
    by_cases h1_ : (gi M 108 (l1).toNatClampNeg) = 1
    · have k := zit h1_ k
      refine Zm.l (fun _ _ k_ => z_tableIn (off := 93) (tgt := 121) dX8_single_28 (by rw [h1_]; decide) (by rw [h1_]; decide) (by rw [h1_]; rfl) rfl k_) ?_
      refine Zm.l (fun _ _ k_ => z_aload_n dX8_single_121 rfl rfl k_) ?_
      refine Zm.l (fun _ _ k_ => z_bipush (v := 6) dX8_single_122 rfl k_) ?_
      refine Zm.pick [] rfl ?_
      exact zm_callV (as := [vi (6 : Int32)]) (st := []) dX8_single_124 vsX8_666_1 (Nat.le_refl _) (Nat.le_of_ble_eq_true rfl) (Nat.le_of_ble_eq_true rfl) rfl k
    · have k := zif h1_ k
      by_cases h2_ : (gi M 108 (l1).toNatClampNeg) = 2
      · have k := zit h2_ k
        refine Zm.l (fun _ _ k_ => z_tableIn (off := 102) (tgt := 130) dX8_single_28 (by rw [h2_]; decide) (by rw [h2_]; decide) (by rw [h2_]; rfl) rfl k_) ?_
        refine Zm.l (fun _ _ k_ => z_aload_n dX8_single_130 rfl rfl k_) ?_
        refine Zm.l (fun _ _ k_ => z_iload_n dX8_single_131 rfl rfl k_) ?_
        refine Zm.pick [] rfl ?_
        exact zm_callV (as := [vi l2]) (st := []) dX8_single_132 vsX8_680_1 (Nat.le_refl _) (Nat.le_of_ble_eq_true rfl) (Nat.le_of_ble_eq_true rfl) rfl k
      · have k := zif h2_ k
        by_cases h3_ : (gi M 108 (l1).toNatClampNeg) = 3
        · have k := zit h3_ k
          refine Zm.l (fun _ _ k_ => z_tableIn (off := 272) (tgt := 300) dX8_single_28 (by rw [h3_]; decide) (by rw [h3_]; decide) (by rw [h3_]; rfl) rfl k_) ?_
          refine Zm.l (fun _ _ k_ => z_aload_n dX8_single_300 rfl rfl k_) ?_
          refine Zm.l (fun _ _ k_ => z_iload_n dX8_single_301 rfl rfl k_) ?_
          refine Zm.l (fun _ _ k_ => z_iload_n dX8_single_302 rfl rfl k_) ?_
          refine Zm.pick [] rfl ?_
          exact zm_callV (as := [vi l2, vi s0]) (st := []) dX8_single_303 vsX8_701_1 (Nat.le_refl _) (Nat.le_of_ble_eq_true rfl) (Nat.le_of_ble_eq_true rfl) rfl k
        · have k := zif h3_ k
          by_cases h4_ : (gi M 108 (l1).toNatClampNeg) = 4
          · have k := zit h4_ k
            refine Zm.l (fun _ _ k_ => z_tableIn (off := 110) (tgt := 138) dX8_single_28 (by rw [h4_]; decide) (by rw [h4_]; decide) (by rw [h4_]; rfl) rfl k_) ?_
            refine Zm.l (fun _ _ k_ => z_aload_n dX8_single_138 rfl rfl k_) ?_
            refine Zm.l (fun _ _ k_ => z_iload_n dX8_single_139 rfl rfl k_) ?_
            refine Zm.pick [] rfl ?_
            exact zm_callV (as := [vi l2]) (st := []) dX8_single_140 vsX8_683_1 (Nat.le_refl _) (Nat.le_of_ble_eq_true rfl) (Nat.le_of_ble_eq_true rfl) rfl k
          · have k := zif h4_ k
            by_cases h5_ : (gi M 108 (l1).toNatClampNeg) = 5
            · have k := zit h5_ k
              refine Zm.l (fun _ _ k_ => z_tableIn (off := 118) (tgt := 146) dX8_single_28 (by rw [h5_]; decide) (by rw [h5_]; decide) (by rw [h5_]; rfl) rfl k_) ?_
              refine Zm.l (fun _ _ k_ => z_aload_n dX8_single_146 rfl rfl k_) ?_
              refine Zm.l (fun _ _ k_ => z_iload_n dX8_single_147 rfl rfl k_) ?_
              refine Zm.pick [] rfl ?_
              exact zm_callV (as := [vi l2]) (st := []) dX8_single_148 vsX8_686_1 (Nat.le_refl _) (Nat.le_of_ble_eq_true rfl) (Nat.le_of_ble_eq_true rfl) rfl k
            · have k := zif h5_ k
              by_cases h6_ : (gi M 108 (l1).toNatClampNeg) = 6
              · have k := zit h6_ k
                refine Zm.l (fun _ _ k_ => z_tableIn (off := 126) (tgt := 154) dX8_single_28 (by rw [h6_]; decide) (by rw [h6_]; decide) (by rw [h6_]; rfl) rfl k_) ?_
                refine Zm.l (fun _ _ k_ => z_aload_n dX8_single_154 rfl rfl k_) ?_
                refine Zm.l (fun _ _ k_ => z_bipush (v := 9) dX8_single_155 rfl k_) ?_
                refine Zm.l (fun _ _ k_ => z_iload_n dX8_single_157 rfl rfl k_) ?_
                refine Zm.l (fun _ _ k_ => z_iconst (v := 0) dX8_single_158 rfl k_) ?_
                refine Zm.pick [] rfl ?_
                exact zm_callV (as := [vi (9 : Int32), vi l2, vi (0 : Int32)]) (st := []) dX8_single_159 vsX8_615_1 (Nat.le_refl _) (Nat.le_of_ble_eq_true rfl) (Nat.le_of_ble_eq_true rfl) rfl k
              · have k := zif h6_ k
                by_cases h7_ : (gi M 108 (l1).toNatClampNeg) = 7
                · have k := zit h7_ k
                  refine Zm.l (fun _ _ k_ => z_tableIn (off := 272) (tgt := 300) dX8_single_28 (by rw [h7_]; decide) (by rw [h7_]; decide) (by rw [h7_]; rfl) rfl k_) ?_
                  refine Zm.l (fun _ _ k_ => z_aload_n dX8_single_300 rfl rfl k_) ?_
                  refine Zm.l (fun _ _ k_ => z_iload_n dX8_single_301 rfl rfl k_) ?_
                  refine Zm.l (fun _ _ k_ => z_iload_n dX8_single_302 rfl rfl k_) ?_
                  refine Zm.pick [] rfl ?_
                  exact zm_callV (as := [vi l2, vi s0]) (st := []) dX8_single_303 vsX8_701_1 (Nat.le_refl _) (Nat.le_of_ble_eq_true rfl) (Nat.le_of_ble_eq_true rfl) rfl k
                · have k := zif h7_ k
                  by_cases h8_ : (gi M 108 (l1).toNatClampNeg) = 8
                  · have k := zit h8_ k
                    refine Zm.l (fun _ _ k_ => z_tableIn (off := 272) (tgt := 300) dX8_single_28 (by rw [h8_]; decide) (by rw [h8_]; decide) (by rw [h8_]; rfl) rfl k_) ?_
                    refine Zm.l (fun _ _ k_ => z_aload_n dX8_single_300 rfl rfl k_) ?_
                    refine Zm.l (fun _ _ k_ => z_iload_n dX8_single_301 rfl rfl k_) ?_
                    refine Zm.l (fun _ _ k_ => z_iload_n dX8_single_302 rfl rfl k_) ?_
                    refine Zm.pick [] rfl ?_
                    exact zm_callV (as := [vi l2, vi s0]) (st := []) dX8_single_303 vsX8_701_1 (Nat.le_refl _) (Nat.le_of_ble_eq_true rfl) (Nat.le_of_ble_eq_true rfl) rfl k
                  · have k := zif h8_ k
                    by_cases h9_ : (gi M 108 (l1).toNatClampNeg) = 9
                    · have k := zit h9_ k
                      refine Zm.l (fun _ _ k_ => z_tableIn (off := 137) (tgt := 165) dX8_single_28 (by rw [h9_]; decide) (by rw [h9_]; decide) (by rw [h9_]; rfl) rfl k_) ?_
                      refine Zm.l (fun _ _ k_ => z_aload_n dX8_single_165 rfl rfl k_) ?_
                      refine Zm.l (fun _ _ k_ => z_iload_n dX8_single_166 rfl rfl k_) ?_
                      refine Zm.pick [0, 3] rfl ?_
                      exact zm_callV (as := [vi l2]) (st := []) dX8_single_167 vsX8_668_1 (Nat.le_refl _) (Nat.le_of_ble_eq_true rfl) (Nat.le_of_ble_eq_true rfl) rfl k
                    · have k := zif h9_ k
                      by_cases h10_ : (gi M 108 (l1).toNatClampNeg) = 10
                      · have k := zit h10_ k
                        refine Zm.l (fun _ _ k_ => z_tableIn (off := 174) (tgt := 202) dX8_single_28 (by rw [h10_]; decide) (by rw [h10_]; decide) (by rw [h10_]; rfl) rfl k_) ?_
                        refine Zm.l (fun _ _ k_ => z_aload_n dX8_single_202 rfl rfl k_) ?_
                        refine Zm.l (fun _ _ k_ => z_iload_n dX8_single_203 rfl rfl k_) ?_
                        refine Zm.l (fun _ _ k_ => z_iload_n dX8_single_204 rfl rfl k_) ?_
                        refine Zm.pick [] rfl ?_
                        exact zm_callV (as := [vi l2, vi s0]) (st := []) dX8_single_205 vsX8_692_1 (Nat.le_refl _) (Nat.le_of_ble_eq_true rfl) (Nat.le_of_ble_eq_true rfl) rfl k
                      · have k := zif h10_ k
                        by_cases h11_ : (gi M 108 (l1).toNatClampNeg) = 11
                        · have k := zit h11_ k
                          refine Zm.l (fun _ _ k_ => z_tableIn (off := 272) (tgt := 300) dX8_single_28 (by rw [h11_]; decide) (by rw [h11_]; decide) (by rw [h11_]; rfl) rfl k_) ?_
                          refine Zm.l (fun _ _ k_ => z_aload_n dX8_single_300 rfl rfl k_) ?_
                          refine Zm.l (fun _ _ k_ => z_iload_n dX8_single_301 rfl rfl k_) ?_
                          refine Zm.l (fun _ _ k_ => z_iload_n dX8_single_302 rfl rfl k_) ?_
                          refine Zm.pick [] rfl ?_
                          exact zm_callV (as := [vi l2, vi s0]) (st := []) dX8_single_303 vsX8_701_1 (Nat.le_refl _) (Nat.le_of_ble_eq_true rfl) (Nat.le_of_ble_eq_true rfl) rfl k
                        · have k := zif h11_ k
                          by_cases h12_ : (gi M 108 (l1).toNatClampNeg) = 12
                          · have k := zit h12_ k
                            refine Zm.l (fun _ _ k_ => z_tableIn (off := 272) (tgt := 300) dX8_single_28 (by rw [h12_]; decide) (by rw [h12_]; decide) (by rw [h12_]; rfl) rfl k_) ?_
                            refine Zm.l (fun _ _ k_ => z_aload_n dX8_single_300 rfl rfl k_) ?_
                            refine Zm.l (fun _ _ k_ => z_iload_n dX8_single_301 rfl rfl k_) ?_
                            refine Zm.l (fun _ _ k_ => z_iload_n dX8_single_302 rfl rfl k_) ?_
                            refine Zm.pick [] rfl ?_
                            exact zm_callV (as := [vi l2, vi s0]) (st := []) dX8_single_303 vsX8_701_1 (Nat.le_refl _) (Nat.le_of_ble_eq_true rfl) (Nat.le_of_ble_eq_true rfl) rfl k
                          · have k := zif h12_ k
                            by_cases h13_ : (gi M 108 (l1).toNatClampNeg) = 13
                            · have k := zit h13_ k
                              refine Zm.l (fun _ _ k_ => z_tableIn (off := 272) (tgt := 300) dX8_single_28 (by rw [h13_]; decide) (by rw [h13_]; decide) (by rw [h13_]; rfl) rfl k_) ?_
                              refine Zm.l (fun _ _ k_ => z_aload_n dX8_single_300 rfl rfl k_) ?_
                              refine Zm.l (fun _ _ k_ => z_iload_n dX8_single_301 rfl rfl k_) ?_
                              refine Zm.l (fun _ _ k_ => z_iload_n dX8_single_302 rfl rfl k_) ?_
                              refine Zm.pick [] rfl ?_
                              exact zm_callV (as := [vi l2, vi s0]) (st := []) dX8_single_303 vsX8_701_1 (Nat.le_refl _) (Nat.le_of_ble_eq_true rfl) (Nat.le_of_ble_eq_true rfl) rfl k
                            · have k := zif h13_ k
                              by_cases h14_ : (gi M 108 (l1).toNatClampNeg) = 14
                              · have k := zit h14_ k
                                refine Zm.l (fun _ _ k_ => z_tableIn (off := 183) (tgt := 211) dX8_single_28 (by rw [h14_]; decide) (by rw [h14_]; decide) (by rw [h14_]; rfl) rfl k_) ?_
                                refine Zm.l (fun _ _ k_ => z_aload_n dX8_single_211 rfl rfl k_) ?_
                                exact zm_callV (as := []) (st := []) dX8_single_212 vsX8_674_1 (Nat.le_refl _) (Nat.le_of_ble_eq_true rfl) (Nat.le_of_ble_eq_true rfl) rfl k
                              · have k := zif h14_ k
                                by_cases h15_ : (gi M 108 (l1).toNatClampNeg) = 15
                                · have k := zit h15_ k
                                  refine Zm.l (fun _ _ k_ => z_tableIn (off := 248) (tgt := 276) dX8_single_28 (by rw [h15_]; decide) (by rw [h15_]; decide) (by rw [h15_]; rfl) rfl k_) ?_
                                  refine Zm.l (fun _ _ k_ => z_aload_n dX8_single_276 rfl rfl k_) ?_
                                  refine Zm.l (fun _ _ k_ => z_iload_n dX8_single_277 rfl rfl k_) ?_
                                  refine Zm.l (fun _ _ k_ => z_iload_n dX8_single_278 rfl rfl k_) ?_
                                  refine Zm.l (fun _ _ k_ => z_aload_n dX8_single_279 rfl rfl k_) ?_
                                  refine Zm.l (fun _ _ k_ => z_iload_n dX8_single_280 rfl rfl k_) ?_
                                  refine Zm.l (fun _ _ k_ => z_iconst (v := 2) dX8_single_281 rfl k_) ?_
                                  refine Zm.pick [] rfl ?_
                                  exact zm_callV (as := [vi l1, vi (2 : Int32)]) (st := [vi s0, vi l2, vr (some (97, 1, 0))]) dX8_single_282 vsX8_644_1 (Nat.le_refl _) (Nat.le_of_ble_eq_true rfl) (Nat.le_of_ble_eq_true rfl) rfl k
                                · have k := zif h15_ k
                                  by_cases h16_ : (gi M 108 (l1).toNatClampNeg) = 16
                                  · have k := zit h16_ k
                                    refine Zm.l (fun _ _ k_ => z_tableIn (off := 263) (tgt := 291) dX8_single_28 (by rw [h16_]; decide) (by rw [h16_]; decide) (by rw [h16_]; rfl) rfl k_) ?_
                                    refine Zm.l (fun _ _ k_ => z_aload_n dX8_single_291 rfl rfl k_) ?_
                                    refine Zm.l (fun _ _ k_ => z_iload_n dX8_single_292 rfl rfl k_) ?_
                                    refine Zm.l (fun _ _ k_ => z_iload_n dX8_single_293 rfl rfl k_) ?_
                                    refine Zm.pick [] rfl ?_
                                    exact zm_callV (as := [vi l2, vi s0]) (st := []) dX8_single_294 vsX8_698_1 (Nat.le_refl _) (Nat.le_of_ble_eq_true rfl) (Nat.le_of_ble_eq_true rfl) rfl k
                                  · have k := zif h16_ k
                                    refine Zm.l (fun _ _ k_ => z_tout (tgt := 300) [0, 1, 2, 3, 4, 5, 6, 7, 8, 9, 10, 11, 12, 13, 14, 15, 16] (by decide) dX8_single_28 (zall_1 h0_ (zall_1 h1_ (zall_1 h2_ (zall_1 h3_ (zall_1 h4_ (zall_1 h5_ (zall_1 h6_ (zall_1 h7_ (zall_1 h8_ (zall_1 h9_ (zall_1 h10_ (zall_1 h11_ (zall_1 h12_ (zall_1 h13_ (zall_1 h14_ (zall_1 h15_ (zall_1 h16_ zall_0))))))))))))))))) rfl k_) ?_
                                    refine Zm.l (fun _ _ k_ => z_aload_n dX8_single_300 rfl rfl k_) ?_
                                    refine Zm.l (fun _ _ k_ => z_iload_n dX8_single_301 rfl rfl k_) ?_
                                    refine Zm.l (fun _ _ k_ => z_iload_n dX8_single_302 rfl rfl k_) ?_
                                    refine Zm.pick [] rfl ?_
                                    exact zm_callV (as := [vi l2, vi s0]) (st := []) dX8_single_303 vsX8_701_1 (Nat.le_refl _) (Nat.le_of_ble_eq_true rfl) (Nat.le_of_ble_eq_true rfl) rfl k
theorem sX8_single_118 {E : zE} {d : Nat} {Q : zO → zM → Prop} (M : zM)  (k : Zm E YX8_single (d + 1) M [] 306 [] Q) : Zm E YX8_single (d + 1) M [] 118 [] Q := by
  refine Zm.l (fun _ _ k_ => z_goto (tgt := 306) dX8_single_118 rfl k_) ?_
  exact k
theorem sX8_single_127 {E : zE} {d : Nat} {Q : zO → zM → Prop} (M : zM)  (k : Zm E YX8_single (d + 1) M [] 306 [] Q) : Zm E YX8_single (d + 1) M [] 127 [] Q := by
  refine Zm.l (fun _ _ k_ => z_goto (tgt := 306) dX8_single_127 rfl k_) ?_
  exact k
theorem sX8_single_135 {E : zE} {d : Nat} {Q : zO → zM → Prop} (M : zM)  (k : Zm E YX8_single (d + 1) M [] 306 [] Q) : Zm E YX8_single (d + 1) M [] 135 [] Q := by
  refine Zm.l (fun _ _ k_ => z_goto (tgt := 306) dX8_single_135 rfl k_) ?_
  exact k
theorem sX8_single_143 {E : zE} {d : Nat} {Q : zO → zM → Prop} (M : zM)  (k : Zm E YX8_single (d + 1) M [] 306 [] Q) : Zm E YX8_single (d + 1) M [] 143 [] Q := by
  refine Zm.l (fun _ _ k_ => z_goto (tgt := 306) dX8_single_143 rfl k_) ?_
  exact k
theorem sX8_single_151 {E : zE} {d : Nat} {Q : zO → zM → Prop} (M : zM)  (k : Zm E YX8_single (d + 1) M [] 306 [] Q) : Zm E YX8_single (d + 1) M [] 151 [] Q := by
  refine Zm.l (fun _ _ k_ => z_goto (tgt := 306) dX8_single_151 rfl k_) ?_
  exact k
theorem sX8_single_162 {E : zE} {d : Nat} {Q : zO → zM → Prop} (M : zM)  (k : Zm E YX8_single (d + 1) M [] 306 [] Q) : Zm E YX8_single (d + 1) M [] 162 [] Q := by
  refine Zm.l (fun _ _ k_ => z_goto (tgt := 306) dX8_single_162 rfl k_) ?_
  exact k
theorem sX8_single_170 {E : zE} {d : Nat} {Q : zO → zM → Prop} (M : zM) (l3 : Int32) (k : Zm E YX8_values d M (zargs 0 [vr (some (97, 1, 0)), vi l3]) 0 [] (zma E YX8_single (d + 1) [(0, vr (some (97, 1, 0)))] 172 3 [] Q)) : Zm E YX8_single (d + 1) M [(0, vr (some (97, 1, 0))), (3, vi l3)] 170 [] Q := by
  refine Zm.l (fun _ _ k_ => z_aload_n dX8_single_170 rfl rfl k_) ?_
  refine Zm.l (fun _ _ k_ => z_iload_n dX8_single_171 rfl rfl k_) ?_
  refine Zm.pick [0] rfl ?_
  exact zm_callV (as := [vi l3]) (st := []) dX8_single_172 vsX8_671_1 (Nat.le_refl _) (Nat.le_of_ble_eq_true rfl) (Nat.le_of_ble_eq_true rfl) rfl k
theorem sX8_single_175 {E : zE} {d : Nat} {Q : zO → zM → Prop} (M : zM) (s0 : Int32) (k : Zm E YX8_emit d M (zargs 0 [vr (some (97, 1, 0)), vi (16 : Int32), vi s0, vi (gi M 97 55)]) 0 [] (zma E YX8_single (d + 1) [(0, vr (some (97, 1, 0)))] 186 3 [] Q)) : Zm E YX8_single (d + 1) M [(0, vr (some (97, 1, 0)))] 175 [vi s0] Q := by
  refine Zm.l (fun _ _ k_ => z_ist dX8_single_175 (by decide) (lv' := [(0, vr (some (97, 1, 0))), (4, vi s0)]) rfl k_) ?_
  refine Zm.l (fun _ _ k_ => z_aload_n dX8_single_177 rfl rfl k_) ?_
  refine Zm.l (fun _ _ k_ => z_bipush (v := 16) dX8_single_178 rfl k_) ?_
  refine Zm.l (fun _ _ k_ => z_iload dX8_single_180 rfl k_) ?_
  refine Zm.l (fun _ _ k_ => z_aload_n dX8_single_182 rfl rfl k_) ?_
  refine zm_geti dX8_single_183 fsX8_689_1 (by decide) (by decide) ?_
  refine Zm.pick [0] rfl ?_
  exact zm_callV (as := [vi (16 : Int32), vi s0, vi (gi M 97 55)]) (st := []) dX8_single_186 vsX8_615_1 (Nat.le_refl _) (Nat.le_of_ble_eq_true rfl) (Nat.le_of_ble_eq_true rfl) rfl k
theorem sX8_single_189 {E : zE} {d : Nat} {Q : zO → zM → Prop} (M : zM)  (k : Zm E YX8_single (d + 1) (si M 97 55 ((gi M 97 55) + (1 : Int32))) [] 306 [] Q) : Zm E YX8_single (d + 1) M [(0, vr (some (97, 1, 0)))] 189 [] Q := by
  refine Zm.l (fun _ _ k_ => z_aload_n dX8_single_189 rfl rfl k_) ?_
  refine Zm.l (fun _ _ k_ => z_dup dX8_single_190 rfl k_) ?_
  refine zm_geti dX8_single_191 fsX8_689_1 (by decide) (by decide) ?_
  refine Zm.l (fun _ _ k_ => z_iconst (v := 1) dX8_single_194 rfl k_) ?_
  refine Zm.l (fun _ _ k_ => z_iadd dX8_single_195 k_) ?_
  refine zm_puti (by decide) (by decide) dX8_single_196 (zfwN.w fwX8_689_1) rfl ⟨rfl, rfl⟩ ?_
  refine Zm.l (fun _ _ k_ => z_goto (tgt := 306) dX8_single_199 rfl k_) ?_
  refine Zm.pick [] rfl ?_
  exact k
theorem sX8_single_208 {E : zE} {d : Nat} {Q : zO → zM → Prop} (M : zM)  (k : Zm E YX8_single (d + 1) M [] 306 [] Q) : Zm E YX8_single (d + 1) M [] 208 [] Q := by
  refine Zm.l (fun _ _ k_ => z_goto (tgt := 306) dX8_single_208 rfl k_) ?_
  exact k
theorem sX8_single_215 {E : zE} {d : Nat} {Q : zO → zM → Prop} (M : zM) (l1 : Int32) (l2 : Int32) (l3 : Int32) (s0 : Int32) (k : Zm E YX8_mark d M (zargs 0 [vr (some (97, 1, 0))]) 0 [] (zma E YX8_single (d + 1) [(0, vr (some (97, 1, 0))), (1, vi l1), (2, vi l2), (3, vi l3), (4, vi s0)] 218 3 [] Q)) : Zm E YX8_single (d + 1) M [(0, vr (some (97, 1, 0))), (1, vi l1), (2, vi l2), (3, vi l3)] 215 [vi s0] Q := by
  refine Zm.l (fun _ _ k_ => z_ist dX8_single_215 (by decide) (lv' := [(0, vr (some (97, 1, 0))), (1, vi l1), (2, vi l2), (3, vi l3), (4, vi s0)]) rfl k_) ?_
  refine Zm.l (fun _ _ k_ => z_aload_n dX8_single_217 rfl rfl k_) ?_
  exact zm_callV (as := []) (st := []) dX8_single_218 vsX8_674_1 (Nat.le_refl _) (Nat.le_of_ble_eq_true rfl) (Nat.le_of_ble_eq_true rfl) rfl k
theorem sX8_single_221 {E : zE} {d : Nat} {Q : zO → zM → Prop} (M : zM) (l1 : Int32) (l2 : Int32) (l3 : Int32) (l4 : Int32) (s0 : Int32) (k : Zm E YX8_value d M (zargs 0 [vr (some (97, 1, 0)), vi l2]) 0 [] (zma E YX8_single (d + 1) [(0, vr (some (97, 1, 0))), (1, vi l1), (3, vi l3), (4, vi l4), (5, vi s0)] 225 3 [] Q)) : Zm E YX8_single (d + 1) M [(0, vr (some (97, 1, 0))), (1, vi l1), (2, vi l2), (3, vi l3), (4, vi l4)] 221 [vi s0] Q := by
  refine Zm.l (fun _ _ k_ => z_ist dX8_single_221 (by decide) (lv' := [(0, vr (some (97, 1, 0))), (1, vi l1), (2, vi l2), (3, vi l3), (4, vi l4), (5, vi s0)]) rfl k_) ?_
  refine Zm.l (fun _ _ k_ => z_aload_n dX8_single_223 rfl rfl k_) ?_
  refine Zm.l (fun _ _ k_ => z_iload_n dX8_single_224 rfl rfl k_) ?_
  refine Zm.pick [0, 1, 3, 4, 5] rfl ?_
  exact zm_callV (as := [vi l2]) (st := []) dX8_single_225 vsX8_668_1 (Nat.le_refl _) (Nat.le_of_ble_eq_true rfl) (Nat.le_of_ble_eq_true rfl) rfl k
theorem sX8_single_228 {E : zE} {d : Nat} {Q : zO → zM → Prop} (M : zM) (l1 : Int32) (l3 : Int32) (l4 : Int32) (l5 : Int32) (k : Zm E YX8_emit d M (zargs 0 [vr (some (97, 1, 0)), vi (22 : Int32), vi l4, vi (0 : Int32)]) 0 [] (zma E YX8_single (d + 1) [(0, vr (some (97, 1, 0))), (1, vi l1), (3, vi l3), (4, vi l4), (5, vi l5)] 234 3 [] Q)) : Zm E YX8_single (d + 1) M [(0, vr (some (97, 1, 0))), (1, vi l1), (3, vi l3), (4, vi l4), (5, vi l5)] 228 [] Q := by
  refine Zm.l (fun _ _ k_ => z_aload_n dX8_single_228 rfl rfl k_) ?_
  refine Zm.l (fun _ _ k_ => z_bipush (v := 22) dX8_single_229 rfl k_) ?_
  refine Zm.l (fun _ _ k_ => z_iload dX8_single_231 rfl k_) ?_
  refine Zm.l (fun _ _ k_ => z_iconst (v := 0) dX8_single_233 rfl k_) ?_
  exact zm_callV (as := [vi (22 : Int32), vi l4, vi (0 : Int32)]) (st := []) dX8_single_234 vsX8_615_1 (Nat.le_refl _) (Nat.le_of_ble_eq_true rfl) (Nat.le_of_ble_eq_true rfl) rfl k
theorem sX8_single_237 {E : zE} {d : Nat} {Q : zO → zM → Prop} (M : zM) (l1 : Int32) (l3 : Int32) (l4 : Int32) (l5 : Int32) (k : Zm E YX8_value d M (zargs 0 [vr (some (97, 1, 0)), vi l3]) 0 [] (zma E YX8_single (d + 1) [(0, vr (some (97, 1, 0))), (1, vi l1), (4, vi l4), (5, vi l5)] 239 3 [] Q)) : Zm E YX8_single (d + 1) M [(0, vr (some (97, 1, 0))), (1, vi l1), (3, vi l3), (4, vi l4), (5, vi l5)] 237 [] Q := by
  refine Zm.l (fun _ _ k_ => z_aload_n dX8_single_237 rfl rfl k_) ?_
  refine Zm.l (fun _ _ k_ => z_iload_n dX8_single_238 rfl rfl k_) ?_
  refine Zm.pick [0, 1, 3, 4] rfl ?_
  exact zm_callV (as := [vi l3]) (st := []) dX8_single_239 vsX8_668_1 (Nat.le_refl _) (Nat.le_of_ble_eq_true rfl) (Nat.le_of_ble_eq_true rfl) rfl k
theorem sX8_single_242 {E : zE} {d : Nat} {Q : zO → zM → Prop} (M : zM) (l1 : Int32) (l4 : Int32) (l5 : Int32) (k : Zm E YX8_emit d M (zargs 0 [vr (some (97, 1, 0)), vi (21 : Int32), vi l5, vi (0 : Int32)]) 0 [] (zma E YX8_single (d + 1) [(0, vr (some (97, 1, 0))), (1, vi l1), (4, vi l4), (5, vi l5)] 248 3 [] Q)) : Zm E YX8_single (d + 1) M [(0, vr (some (97, 1, 0))), (1, vi l1), (4, vi l4), (5, vi l5)] 242 [] Q := by
  refine Zm.l (fun _ _ k_ => z_aload_n dX8_single_242 rfl rfl k_) ?_
  refine Zm.l (fun _ _ k_ => z_bipush (v := 21) dX8_single_243 rfl k_) ?_
  refine Zm.l (fun _ _ k_ => z_iload dX8_single_245 rfl k_) ?_
  refine Zm.l (fun _ _ k_ => z_iconst (v := 0) dX8_single_247 rfl k_) ?_
  exact zm_callV (as := [vi (21 : Int32), vi l5, vi (0 : Int32)]) (st := []) dX8_single_248 vsX8_615_1 (Nat.le_refl _) (Nat.le_of_ble_eq_true rfl) (Nat.le_of_ble_eq_true rfl) rfl k
theorem sX8_single_251 {E : zE} {d : Nat} {Q : zO → zM → Prop} (M : zM) (l1 : Int32) (l4 : Int32) (l5 : Int32) (k : Zm E YX8_here d M (zargs 0 [vr (some (97, 1, 0)), vi l4]) 0 [] (zma E YX8_single (d + 1) [(0, vr (some (97, 1, 0))), (1, vi l1), (5, vi l5)] 254 3 [] Q)) : Zm E YX8_single (d + 1) M [(0, vr (some (97, 1, 0))), (1, vi l1), (4, vi l4), (5, vi l5)] 251 [] Q := by
  refine Zm.l (fun _ _ k_ => z_aload_n dX8_single_251 rfl rfl k_) ?_
  refine Zm.l (fun _ _ k_ => z_iload dX8_single_252 rfl k_) ?_
  refine Zm.pick [0, 1, 3] rfl ?_
  exact zm_callV (as := [vi l4]) (st := []) dX8_single_254 vsX8_677_1 (Nat.le_refl _) (Nat.le_of_ble_eq_true rfl) (Nat.le_of_ble_eq_true rfl) rfl k
theorem sX8_single_257 {E : zE} {d : Nat} {Q : zO → zM → Prop} (M : zM) (l1 : Int32) (l5 : Int32) (k : Zm E YX8_part d M (zargs 0 [vr (some (97, 1, 0)), vi l1, vi (2 : Int32)]) 0 [] (zma E YX8_single (d + 1) [(0, vr (some (97, 1, 0))), (5, vi l5)] 261 3 [vr (some (97, 1, 0))] Q)) : Zm E YX8_single (d + 1) M [(0, vr (some (97, 1, 0))), (1, vi l1), (5, vi l5)] 257 [] Q := by
  refine Zm.l (fun _ _ k_ => z_aload_n dX8_single_257 rfl rfl k_) ?_
  refine Zm.l (fun _ _ k_ => z_aload_n dX8_single_258 rfl rfl k_) ?_
  refine Zm.l (fun _ _ k_ => z_iload_n dX8_single_259 rfl rfl k_) ?_
  refine Zm.l (fun _ _ k_ => z_iconst (v := 2) dX8_single_260 rfl k_) ?_
  refine Zm.pick [0, 2] rfl ?_
  exact zm_callV (as := [vi l1, vi (2 : Int32)]) (st := [vr (some (97, 1, 0))]) dX8_single_261 vsX8_644_1 (Nat.le_refl _) (Nat.le_of_ble_eq_true rfl) (Nat.le_of_ble_eq_true rfl) rfl k
theorem sX8_single_264 {E : zE} {d : Nat} {Q : zO → zM → Prop} (M : zM) (l5 : Int32) (s0 : Int32) (k : Zm E YX8_value d M (zargs 0 [vr (some (97, 1, 0)), vi s0]) 0 [] (zma E YX8_single (d + 1) [(0, vr (some (97, 1, 0))), (5, vi l5)] 264 3 [] Q)) : Zm E YX8_single (d + 1) M [(0, vr (some (97, 1, 0))), (5, vi l5)] 264 [vi s0, vr (some (97, 1, 0))] Q := by
  exact zm_callV (as := [vi s0]) (st := []) dX8_single_264 vsX8_668_1 (Nat.le_refl _) (Nat.le_of_ble_eq_true rfl) (Nat.le_of_ble_eq_true rfl) rfl k
theorem sX8_single_267 {E : zE} {d : Nat} {Q : zO → zM → Prop} (M : zM) (l5 : Int32) (k : Zm E YX8_here d M (zargs 0 [vr (some (97, 1, 0)), vi l5]) 0 [] (zma E YX8_single (d + 1) [] 270 3 [] Q)) : Zm E YX8_single (d + 1) M [(0, vr (some (97, 1, 0))), (5, vi l5)] 267 [] Q := by
  refine Zm.l (fun _ _ k_ => z_aload_n dX8_single_267 rfl rfl k_) ?_
  refine Zm.l (fun _ _ k_ => z_iload dX8_single_268 rfl k_) ?_
  refine Zm.pick [] rfl ?_
  exact zm_callV (as := [vi l5]) (st := []) dX8_single_270 vsX8_677_1 (Nat.le_refl _) (Nat.le_of_ble_eq_true rfl) (Nat.le_of_ble_eq_true rfl) rfl k
theorem sX8_single_273 {E : zE} {d : Nat} {Q : zO → zM → Prop} (M : zM)  (k : Zm E YX8_single (d + 1) M [] 306 [] Q) : Zm E YX8_single (d + 1) M [] 273 [] Q := by
  refine Zm.l (fun _ _ k_ => z_goto (tgt := 306) dX8_single_273 rfl k_) ?_
  exact k
theorem sX8_single_285 {E : zE} {d : Nat} {Q : zO → zM → Prop} (M : zM) (s0 : Int32) (s1 : Int32) (s2 : Int32) (k : Zm E YX8_give d M (zargs 0 [vr (some (97, 1, 0)), vi s2, vi s1, vi s0]) 0 [] (zma E YX8_single (d + 1) [] 285 3 [] Q)) : Zm E YX8_single (d + 1) M [] 285 [vi s0, vi s1, vi s2, vr (some (97, 1, 0))] Q := by
  exact zm_callV (as := [vi s2, vi s1, vi s0]) (st := []) dX8_single_285 vsX8_695_1 (Nat.le_refl _) (Nat.le_of_ble_eq_true rfl) (Nat.le_of_ble_eq_true rfl) rfl k
theorem sX8_single_288 {E : zE} {d : Nat} {Q : zO → zM → Prop} (M : zM)  (k : Zm E YX8_single (d + 1) M [] 306 [] Q) : Zm E YX8_single (d + 1) M [] 288 [] Q := by
  refine Zm.l (fun _ _ k_ => z_goto (tgt := 306) dX8_single_288 rfl k_) ?_
  exact k
theorem sX8_single_297 {E : zE} {d : Nat} {Q : zO → zM → Prop} (M : zM)  (k : Zm E YX8_single (d + 1) M [] 306 [] Q) : Zm E YX8_single (d + 1) M [] 297 [] Q := by
  refine Zm.l (fun _ _ k_ => z_goto (tgt := 306) dX8_single_297 rfl k_) ?_
  exact k
theorem sX8_single_306 {E : zE} {d : Nat} {Q : zO → zM → Prop} (M : zM)  (k : Q (.inl none) M) : Zm E YX8_single (d + 1) M [] 306 [] Q := by
  exact zm_vret dX8_single_306 rfl k
/-! ScriptTypesModel.get(I)V -/
theorem bX8_get_0 : zdec cX8_get 0 [(0, .aload_n 0, 1), (1, .iload_n 1, 1), (2, .iconst 1, 1), (3, .iconst 3, 1), (4, .invokevirtual 625, 3), (7, .return_, 1)] = true := by decide +kernel
theorem dX8_get_0 : decode cX8_get 0 = .ok (.aload_n 0, 1) := zdec_at bX8_get_0 0 rfl
theorem dX8_get_1 : decode cX8_get 1 = .ok (.iload_n 1, 1) := zdec_at bX8_get_0 1 rfl
theorem dX8_get_2 : decode cX8_get 2 = .ok (.iconst 1, 1) := zdec_at bX8_get_0 2 rfl
theorem dX8_get_3 : decode cX8_get 3 = .ok (.iconst 3, 1) := zdec_at bX8_get_0 3 rfl
theorem dX8_get_4 : decode cX8_get 4 = .ok (.invokevirtual 625, 3) := zdec_at bX8_get_0 4 rfl
theorem dX8_get_7 : decode cX8_get 7 = .ok (.return_, 1) := zdec_at bX8_get_0 5 rfl
theorem sX8_get_0 {E : zE} {d : Nat} {Q : zO → zM → Prop} (M : zM) (l1 : Int32) (k : Zm E YX8_named d M (zargs 0 [vr (some (97, 1, 0)), vi l1, vi (1 : Int32), vi (3 : Int32)]) 0 [] (zma E YX8_get (d + 1) [] 4 3 [] Q)) : Zm E YX8_get (d + 1) M [(0, vr (some (97, 1, 0))), (1, vi l1)] 0 [] Q := by
  refine Zm.l (fun _ _ k_ => z_aload_n dX8_get_0 rfl rfl k_) ?_
  refine Zm.l (fun _ _ k_ => z_iload_n dX8_get_1 rfl rfl k_) ?_
  refine Zm.l (fun _ _ k_ => z_iconst (v := 1) dX8_get_2 rfl k_) ?_
  refine Zm.l (fun _ _ k_ => z_iconst (v := 3) dX8_get_3 rfl k_) ?_
  refine Zm.pick [] rfl ?_
  exact zm_callV (as := [vi l1, vi (1 : Int32), vi (3 : Int32)]) (st := []) dX8_get_4 vsX8_625_1 (Nat.le_refl _) (Nat.le_of_ble_eq_true rfl) (Nat.le_of_ble_eq_true rfl) rfl k
theorem sX8_get_7 {E : zE} {d : Nat} {Q : zO → zM → Prop} (M : zM)  (k : Q (.inl none) M) : Zm E YX8_get (d + 1) M [] 7 [] Q := by
  exact zm_vret dX8_get_7 rfl k
/-! ScriptTypesModel.row(I)V -/
theorem bX8_row_0 : zdec cX8_row 0 [(0, .aload_n 0, 1), (1, .bipush 8, 2), (3, .aload_n 0, 1), (4, .getfield 689, 3), (7, .iconst 0, 1), (8, .invokevirtual 615, 3), (11, .aload_n 0, 1), (12, .dup, 1), (13, .getfield 689, 3), (16, .iconst 1, 1), (17, .iadd, 1), (18, .putfield 689, 3), (21, .iconst 0, 1), (22, .istore_n 2, 1), (23, .iload_n 1, 1), (24, .istore_n 3, 1)] = true := by decide +kernel
theorem dX8_row_0 : decode cX8_row 0 = .ok (.aload_n 0, 1) := zdec_at bX8_row_0 0 rfl
theorem dX8_row_1 : decode cX8_row 1 = .ok (.bipush 8, 2) := zdec_at bX8_row_0 1 rfl
theorem dX8_row_3 : decode cX8_row 3 = .ok (.aload_n 0, 1) := zdec_at bX8_row_0 2 rfl
theorem dX8_row_4 : decode cX8_row 4 = .ok (.getfield 689, 3) := zdec_at bX8_row_0 3 rfl
theorem dX8_row_7 : decode cX8_row 7 = .ok (.iconst 0, 1) := zdec_at bX8_row_0 4 rfl
theorem dX8_row_8 : decode cX8_row 8 = .ok (.invokevirtual 615, 3) := zdec_at bX8_row_0 5 rfl
theorem dX8_row_11 : decode cX8_row 11 = .ok (.aload_n 0, 1) := zdec_at bX8_row_0 6 rfl
theorem dX8_row_12 : decode cX8_row 12 = .ok (.dup, 1) := zdec_at bX8_row_0 7 rfl
theorem dX8_row_13 : decode cX8_row 13 = .ok (.getfield 689, 3) := zdec_at bX8_row_0 8 rfl
theorem dX8_row_16 : decode cX8_row 16 = .ok (.iconst 1, 1) := zdec_at bX8_row_0 9 rfl
theorem dX8_row_17 : decode cX8_row 17 = .ok (.iadd, 1) := zdec_at bX8_row_0 10 rfl
theorem dX8_row_18 : decode cX8_row 18 = .ok (.putfield 689, 3) := zdec_at bX8_row_0 11 rfl
theorem dX8_row_21 : decode cX8_row 21 = .ok (.iconst 0, 1) := zdec_at bX8_row_0 12 rfl
theorem dX8_row_22 : decode cX8_row 22 = .ok (.istore_n 2, 1) := zdec_at bX8_row_0 13 rfl
theorem dX8_row_23 : decode cX8_row 23 = .ok (.iload_n 1, 1) := zdec_at bX8_row_0 14 rfl
theorem dX8_row_24 : decode cX8_row 24 = .ok (.istore_n 3, 1) := zdec_at bX8_row_0 15 rfl
theorem bX8_row_25 : zdec cX8_row 25 [(25, .iload_n 3, 1), (26, .iconst (-1), 1), (27, .if_icmp .eq 57, 3), (30, .aload_n 0, 1), (31, .getfield 609, 3), (34, .ifCond .ne 50, 3), (37, .aload_n 0, 1), (38, .bipush 18, 2), (40, .invokevirtual 666, 3), (43, .aload_n 0, 1), (44, .iconst 5, 1), (45, .iload_n 2, 1), (46, .invokevirtual 656, 3), (49, .aload_n 0, 1), (50, .aload_n 0, 1), (51, .iload_n 3, 1)] = true := by decide +kernel
theorem dX8_row_25 : decode cX8_row 25 = .ok (.iload_n 3, 1) := zdec_at bX8_row_25 0 rfl
theorem dX8_row_26 : decode cX8_row 26 = .ok (.iconst (-1), 1) := zdec_at bX8_row_25 1 rfl
theorem dX8_row_27 : decode cX8_row 27 = .ok (.if_icmp .eq 57, 3) := zdec_at bX8_row_25 2 rfl
theorem dX8_row_30 : decode cX8_row 30 = .ok (.aload_n 0, 1) := zdec_at bX8_row_25 3 rfl
theorem dX8_row_31 : decode cX8_row 31 = .ok (.getfield 609, 3) := zdec_at bX8_row_25 4 rfl
theorem dX8_row_34 : decode cX8_row 34 = .ok (.ifCond .ne 50, 3) := zdec_at bX8_row_25 5 rfl
theorem dX8_row_37 : decode cX8_row 37 = .ok (.aload_n 0, 1) := zdec_at bX8_row_25 6 rfl
theorem dX8_row_38 : decode cX8_row 38 = .ok (.bipush 18, 2) := zdec_at bX8_row_25 7 rfl
theorem dX8_row_40 : decode cX8_row 40 = .ok (.invokevirtual 666, 3) := zdec_at bX8_row_25 8 rfl
theorem dX8_row_43 : decode cX8_row 43 = .ok (.aload_n 0, 1) := zdec_at bX8_row_25 9 rfl
theorem dX8_row_44 : decode cX8_row 44 = .ok (.iconst 5, 1) := zdec_at bX8_row_25 10 rfl
theorem dX8_row_45 : decode cX8_row 45 = .ok (.iload_n 2, 1) := zdec_at bX8_row_25 11 rfl
theorem dX8_row_46 : decode cX8_row 46 = .ok (.invokevirtual 656, 3) := zdec_at bX8_row_25 12 rfl
theorem dX8_row_49 : decode cX8_row 49 = .ok (.aload_n 0, 1) := zdec_at bX8_row_25 13 rfl
theorem dX8_row_50 : decode cX8_row 50 = .ok (.aload_n 0, 1) := zdec_at bX8_row_25 14 rfl
theorem dX8_row_51 : decode cX8_row 51 = .ok (.iload_n 3, 1) := zdec_at bX8_row_25 15 rfl
theorem bX8_row_52 : zdec cX8_row 52 [(52, .iconst 0, 1), (53, .invokevirtual 644, 3), (56, .invokevirtual 668, 3), (59, .aload_n 0, 1), (60, .bipush 11, 2), (62, .invokevirtual 666, 3), (65, .aload_n 0, 1), (66, .bipush 17, 2), (68, .invokevirtual 666, 3), (71, .iinc 2 1, 3), (74, .aload_n 0, 1), (75, .getfield 49, 3), (78, .iload_n 3, 1), (79, .iaload, 1), (80, .istore_n 3, 1), (81, .goto (-56), 3)] = true := by decide +kernel
theorem dX8_row_52 : decode cX8_row 52 = .ok (.iconst 0, 1) := zdec_at bX8_row_52 0 rfl
theorem dX8_row_53 : decode cX8_row 53 = .ok (.invokevirtual 644, 3) := zdec_at bX8_row_52 1 rfl
theorem dX8_row_56 : decode cX8_row 56 = .ok (.invokevirtual 668, 3) := zdec_at bX8_row_52 2 rfl
theorem dX8_row_59 : decode cX8_row 59 = .ok (.aload_n 0, 1) := zdec_at bX8_row_52 3 rfl
theorem dX8_row_60 : decode cX8_row 60 = .ok (.bipush 11, 2) := zdec_at bX8_row_52 4 rfl
theorem dX8_row_62 : decode cX8_row 62 = .ok (.invokevirtual 666, 3) := zdec_at bX8_row_52 5 rfl
theorem dX8_row_65 : decode cX8_row 65 = .ok (.aload_n 0, 1) := zdec_at bX8_row_52 6 rfl
theorem dX8_row_66 : decode cX8_row 66 = .ok (.bipush 17, 2) := zdec_at bX8_row_52 7 rfl
theorem dX8_row_68 : decode cX8_row 68 = .ok (.invokevirtual 666, 3) := zdec_at bX8_row_52 8 rfl
theorem dX8_row_71 : decode cX8_row 71 = .ok (.iinc 2 1, 3) := zdec_at bX8_row_52 9 rfl
theorem dX8_row_74 : decode cX8_row 74 = .ok (.aload_n 0, 1) := zdec_at bX8_row_52 10 rfl
theorem dX8_row_75 : decode cX8_row 75 = .ok (.getfield 49, 3) := zdec_at bX8_row_52 11 rfl
theorem dX8_row_78 : decode cX8_row 78 = .ok (.iload_n 3, 1) := zdec_at bX8_row_52 12 rfl
theorem dX8_row_79 : decode cX8_row 79 = .ok (.iaload, 1) := zdec_at bX8_row_52 13 rfl
theorem dX8_row_80 : decode cX8_row 80 = .ok (.istore_n 3, 1) := zdec_at bX8_row_52 14 rfl
theorem dX8_row_81 : decode cX8_row 81 = .ok (.goto (-56), 3) := zdec_at bX8_row_52 15 rfl
theorem bX8_row_84 : zdec cX8_row 84 [(84, .return_, 1)] = true := by decide +kernel
theorem dX8_row_84 : decode cX8_row 84 = .ok (.return_, 1) := zdec_at bX8_row_84 0 rfl
theorem sX8_row_0 {E : zE} {d : Nat} {Q : zO → zM → Prop} (M : zM) (l1 : Int32) (k : Zm E YX8_emit d M (zargs 0 [vr (some (97, 1, 0)), vi (8 : Int32), vi (gi M 97 55), vi (0 : Int32)]) 0 [] (zma E YX8_row (d + 1) [(0, vr (some (97, 1, 0))), (1, vi l1)] 8 3 [] Q)) : Zm E YX8_row (d + 1) M [(0, vr (some (97, 1, 0))), (1, vi l1)] 0 [] Q := by
  refine Zm.l (fun _ _ k_ => z_aload_n dX8_row_0 rfl rfl k_) ?_
  refine Zm.l (fun _ _ k_ => z_bipush (v := 8) dX8_row_1 rfl k_) ?_
  refine Zm.l (fun _ _ k_ => z_aload_n dX8_row_3 rfl rfl k_) ?_
  refine zm_geti dX8_row_4 fsX8_689_1 (by decide) (by decide) ?_
  refine Zm.l (fun _ _ k_ => z_iconst (v := 0) dX8_row_7 rfl k_) ?_
  exact zm_callV (as := [vi (8 : Int32), vi (gi M 97 55), vi (0 : Int32)]) (st := []) dX8_row_8 vsX8_615_1 (Nat.le_refl _) (Nat.le_of_ble_eq_true rfl) (Nat.le_of_ble_eq_true rfl) rfl k
theorem sX8_row_11 {E : zE} {d : Nat} {Q : zO → zM → Prop} (M : zM) (l1 : Int32) (k : Zm E YX8_row (d + 1) (si M 97 55 ((gi M 97 55) + (1 : Int32))) [(0, vr (some (97, 1, 0))), (2, vi (0 : Int32)), (3, vi l1)] 25 [] Q) : Zm E YX8_row (d + 1) M [(0, vr (some (97, 1, 0))), (1, vi l1)] 11 [] Q := by
  refine Zm.l (fun _ _ k_ => z_aload_n dX8_row_11 rfl rfl k_) ?_
  refine Zm.l (fun _ _ k_ => z_dup dX8_row_12 rfl k_) ?_
  refine zm_geti dX8_row_13 fsX8_689_1 (by decide) (by decide) ?_
  refine Zm.l (fun _ _ k_ => z_iconst (v := 1) dX8_row_16 rfl k_) ?_
  refine Zm.l (fun _ _ k_ => z_iadd dX8_row_17 k_) ?_
  refine zm_puti (by decide) (by decide) dX8_row_18 (zfwN.w fwX8_689_1) rfl ⟨rfl, rfl⟩ ?_
  refine Zm.l (fun _ _ k_ => z_iconst (v := 0) dX8_row_21 rfl k_) ?_
  refine Zm.l (fun _ _ k_ => z_ist_n dX8_row_22 rfl (by decide) (lv' := [(0, vr (some (97, 1, 0))), (1, vi l1), (2, vi (0 : Int32))]) rfl k_) ?_
  refine Zm.l (fun _ _ k_ => z_iload_n dX8_row_23 rfl rfl k_) ?_
  refine Zm.l (fun _ _ k_ => z_ist_n dX8_row_24 rfl (by decide) (lv' := [(0, vr (some (97, 1, 0))), (1, vi l1), (2, vi (0 : Int32)), (3, vi l1)]) rfl k_) ?_
  refine Zm.pick [0, 2, 3] rfl ?_
  exact k
theorem sX8_row_25 {E : zE} {d : Nat} {Q : zO → zM → Prop} (M : zM) (l2 : Int32) (l3 : Int32) (k : if l3 = (-1 : Int32) then (Q (.inl none) M) else (if (gi M 97 47) = 0 then (Zm E YX8_emit_2 d M (zargs 0 [vr (some (97, 1, 0)), vi (18 : Int32)]) 0 [] (zma E YX8_row (d + 1) [(0, vr (some (97, 1, 0))), (2, vi l2), (3, vi l3)] 40 3 [] Q)) else (Q (.inl none) M))) : Zm E YX8_row (d + 1) M [(0, vr (some (97, 1, 0))), (2, vi l2), (3, vi l3)] 25 [] Q := by
  refine Zm.l (fun _ _ k_ => z_iload_n dX8_row_25 rfl rfl k_) ?_
  refine Zm.l (fun _ _ k_ => z_iconst (v := -1) dX8_row_26 rfl k_) ?_
  refine Zm.br (fun _ _ k1_ k2_ => z_icmp_eq (tgt := 84) dX8_row_27 rfl k1_ k2_) (fun h_ => ?_) (fun h_ => ?_)
  · have k := zit h_ k
    exact zm_vret dX8_row_84 rfl k
  · have k := zif h_ k
    refine Zm.l (fun _ _ k_ => z_aload_n dX8_row_30 rfl rfl k_) ?_
    refine zm_geti dX8_row_31 fsX8_609_1 (by decide) (by decide) ?_
    refine Zm.brn (fun _ _ k1_ k2_ => z_if_ne (tgt := 84) dX8_row_34 rfl k1_ k2_) (fun h_ => ?_) (fun h_ => ?_)
    · have k := zif h_ k
      exact zm_vret dX8_row_84 rfl k
    · have k := zit h_ k
      refine Zm.l (fun _ _ k_ => z_aload_n dX8_row_37 rfl rfl k_) ?_
      refine Zm.l (fun _ _ k_ => z_bipush (v := 18) dX8_row_38 rfl k_) ?_
      exact zm_callV (as := [vi (18 : Int32)]) (st := []) dX8_row_40 vsX8_666_1 (Nat.le_refl _) (Nat.le_of_ble_eq_true rfl) (Nat.le_of_ble_eq_true rfl) rfl k
theorem sX8_row_43 {E : zE} {d : Nat} {Q : zO → zM → Prop} (M : zM) (l2 : Int32) (l3 : Int32) (k : Zm E YX8_constant d M (zargs 0 [vr (some (97, 1, 0)), vi (5 : Int32), vi l2]) 0 [] (zma E YX8_row (d + 1) [(0, vr (some (97, 1, 0))), (2, vi l2), (3, vi l3)] 46 3 [] Q)) : Zm E YX8_row (d + 1) M [(0, vr (some (97, 1, 0))), (2, vi l2), (3, vi l3)] 43 [] Q := by
  refine Zm.l (fun _ _ k_ => z_aload_n dX8_row_43 rfl rfl k_) ?_
  refine Zm.l (fun _ _ k_ => z_iconst (v := 5) dX8_row_44 rfl k_) ?_
  refine Zm.l (fun _ _ k_ => z_iload_n dX8_row_45 rfl rfl k_) ?_
  exact zm_callV (as := [vi (5 : Int32), vi l2]) (st := []) dX8_row_46 vsX8_656_1 (Nat.le_refl _) (Nat.le_of_ble_eq_true rfl) (Nat.le_of_ble_eq_true rfl) rfl k
theorem sX8_row_49 {E : zE} {d : Nat} {Q : zO → zM → Prop} (M : zM) (l2 : Int32) (l3 : Int32) (k : Zm E YX8_part d M (zargs 0 [vr (some (97, 1, 0)), vi l3, vi (0 : Int32)]) 0 [] (zma E YX8_row (d + 1) [(0, vr (some (97, 1, 0))), (2, vi l2), (3, vi l3)] 53 3 [vr (some (97, 1, 0))] Q)) : Zm E YX8_row (d + 1) M [(0, vr (some (97, 1, 0))), (2, vi l2), (3, vi l3)] 49 [] Q := by
  refine Zm.l (fun _ _ k_ => z_aload_n dX8_row_49 rfl rfl k_) ?_
  refine Zm.l (fun _ _ k_ => z_aload_n dX8_row_50 rfl rfl k_) ?_
  refine Zm.l (fun _ _ k_ => z_iload_n dX8_row_51 rfl rfl k_) ?_
  refine Zm.l (fun _ _ k_ => z_iconst (v := 0) dX8_row_52 rfl k_) ?_
  exact zm_callV (as := [vi l3, vi (0 : Int32)]) (st := [vr (some (97, 1, 0))]) dX8_row_53 vsX8_644_1 (Nat.le_refl _) (Nat.le_of_ble_eq_true rfl) (Nat.le_of_ble_eq_true rfl) rfl k
theorem sX8_row_56 {E : zE} {d : Nat} {Q : zO → zM → Prop} (M : zM) (l2 : Int32) (l3 : Int32) (s0 : Int32) (k : Zm E YX8_value d M (zargs 0 [vr (some (97, 1, 0)), vi s0]) 0 [] (zma E YX8_row (d + 1) [(0, vr (some (97, 1, 0))), (2, vi l2), (3, vi l3)] 56 3 [] Q)) : Zm E YX8_row (d + 1) M [(0, vr (some (97, 1, 0))), (2, vi l2), (3, vi l3)] 56 [vi s0, vr (some (97, 1, 0))] Q := by
  exact zm_callV (as := [vi s0]) (st := []) dX8_row_56 vsX8_668_1 (Nat.le_refl _) (Nat.le_of_ble_eq_true rfl) (Nat.le_of_ble_eq_true rfl) rfl k
theorem sX8_row_59 {E : zE} {d : Nat} {Q : zO → zM → Prop} (M : zM) (l2 : Int32) (l3 : Int32) (k : Zm E YX8_emit_2 d M (zargs 0 [vr (some (97, 1, 0)), vi (11 : Int32)]) 0 [] (zma E YX8_row (d + 1) [(0, vr (some (97, 1, 0))), (2, vi l2), (3, vi l3)] 62 3 [] Q)) : Zm E YX8_row (d + 1) M [(0, vr (some (97, 1, 0))), (2, vi l2), (3, vi l3)] 59 [] Q := by
  refine Zm.l (fun _ _ k_ => z_aload_n dX8_row_59 rfl rfl k_) ?_
  refine Zm.l (fun _ _ k_ => z_bipush (v := 11) dX8_row_60 rfl k_) ?_
  exact zm_callV (as := [vi (11 : Int32)]) (st := []) dX8_row_62 vsX8_666_1 (Nat.le_refl _) (Nat.le_of_ble_eq_true rfl) (Nat.le_of_ble_eq_true rfl) rfl k
theorem sX8_row_65 {E : zE} {d : Nat} {Q : zO → zM → Prop} (M : zM) (l2 : Int32) (l3 : Int32) (k : Zm E YX8_emit_2 d M (zargs 0 [vr (some (97, 1, 0)), vi (17 : Int32)]) 0 [] (zma E YX8_row (d + 1) [(0, vr (some (97, 1, 0))), (2, vi l2), (3, vi l3)] 68 3 [] Q)) : Zm E YX8_row (d + 1) M [(0, vr (some (97, 1, 0))), (2, vi l2), (3, vi l3)] 65 [] Q := by
  refine Zm.l (fun _ _ k_ => z_aload_n dX8_row_65 rfl rfl k_) ?_
  refine Zm.l (fun _ _ k_ => z_bipush (v := 17) dX8_row_66 rfl k_) ?_
  exact zm_callV (as := [vi (17 : Int32)]) (st := []) dX8_row_68 vsX8_666_1 (Nat.le_refl _) (Nat.le_of_ble_eq_true rfl) (Nat.le_of_ble_eq_true rfl) rfl k
theorem sX8_row_71 {E : zE} {d : Nat} {Q : zO → zM → Prop} (M : zM) (l2 : Int32) (l3 : Int32) (k : vp_in l3 12000 ∧ (Zm E YX8_row (d + 1) M [(0, vr (some (97, 1, 0))), (2, vi (l2 + (1 : Int32))), (3, vi (gi M 110 (l3).toNatClampNeg))] 25 [] Q)) : Zm E YX8_row (d + 1) M [(0, vr (some (97, 1, 0))), (2, vi l2), (3, vi l3)] 71 [] Q := by
  refine Zm.l (fun _ _ k_ => z_inc (v := (l2 + (1 : Int32))) dX8_row_71 rfl rfl (by decide) (lv' := [(0, vr (some (97, 1, 0))), (2, vi (l2 + (1 : Int32))), (3, vi l3)]) rfl k_) ?_
  refine Zm.l (fun _ _ k_ => z_aload_n dX8_row_74 rfl rfl k_) ?_
  refine zm_getr 12 dX8_row_75 fsX8_49_1 rfl ?_
  refine Zm.l (fun _ _ k_ => z_iload_n dX8_row_78 rfl rfl k_) ?_
  obtain ⟨b_, k⟩ := k
  refine zm_iald dX8_row_79 b_ (by decide) (by decide) ?_
  refine Zm.l (fun _ _ k_ => z_ist_n dX8_row_80 rfl (by decide) (lv' := [(0, vr (some (97, 1, 0))), (2, vi (l2 + (1 : Int32))), (3, vi (gi M 110 (l3).toNatClampNeg))]) rfl k_) ?_
  refine Zm.l (fun _ _ k_ => z_goto (tgt := 25) dX8_row_81 rfl k_) ?_
  exact k
/-! ScriptTypesModel.object(I)V -/
theorem bX8_object_0 : zdec cX8_object 0 [(0, .aload_n 0, 1), (1, .bipush 7, 2), (3, .aload_n 0, 1), (4, .getfield 689, 3), (7, .iconst 0, 1), (8, .invokevirtual 615, 3), (11, .aload_n 0, 1), (12, .dup, 1), (13, .getfield 689, 3), (16, .iconst 1, 1), (17, .iadd, 1), (18, .putfield 689, 3), (21, .iload_n 1, 1), (22, .istore_n 2, 1), (23, .iload_n 2, 1), (24, .iconst (-1), 1)] = true := by decide +kernel
theorem dX8_object_0 : decode cX8_object 0 = .ok (.aload_n 0, 1) := zdec_at bX8_object_0 0 rfl
theorem dX8_object_1 : decode cX8_object 1 = .ok (.bipush 7, 2) := zdec_at bX8_object_0 1 rfl
theorem dX8_object_3 : decode cX8_object 3 = .ok (.aload_n 0, 1) := zdec_at bX8_object_0 2 rfl
theorem dX8_object_4 : decode cX8_object 4 = .ok (.getfield 689, 3) := zdec_at bX8_object_0 3 rfl
theorem dX8_object_7 : decode cX8_object 7 = .ok (.iconst 0, 1) := zdec_at bX8_object_0 4 rfl
theorem dX8_object_8 : decode cX8_object 8 = .ok (.invokevirtual 615, 3) := zdec_at bX8_object_0 5 rfl
theorem dX8_object_11 : decode cX8_object 11 = .ok (.aload_n 0, 1) := zdec_at bX8_object_0 6 rfl
theorem dX8_object_12 : decode cX8_object 12 = .ok (.dup, 1) := zdec_at bX8_object_0 7 rfl
theorem dX8_object_13 : decode cX8_object 13 = .ok (.getfield 689, 3) := zdec_at bX8_object_0 8 rfl
theorem dX8_object_16 : decode cX8_object 16 = .ok (.iconst 1, 1) := zdec_at bX8_object_0 9 rfl
theorem dX8_object_17 : decode cX8_object 17 = .ok (.iadd, 1) := zdec_at bX8_object_0 10 rfl
theorem dX8_object_18 : decode cX8_object 18 = .ok (.putfield 689, 3) := zdec_at bX8_object_0 11 rfl
theorem dX8_object_21 : decode cX8_object 21 = .ok (.iload_n 1, 1) := zdec_at bX8_object_0 12 rfl
theorem dX8_object_22 : decode cX8_object 22 = .ok (.istore_n 2, 1) := zdec_at bX8_object_0 13 rfl
theorem dX8_object_23 : decode cX8_object 23 = .ok (.iload_n 2, 1) := zdec_at bX8_object_0 14 rfl
theorem dX8_object_24 : decode cX8_object 24 = .ok (.iconst (-1), 1) := zdec_at bX8_object_0 15 rfl
theorem bX8_object_25 : zdec cX8_object 25 [(25, .if_icmp .eq 60, 3), (28, .aload_n 0, 1), (29, .getfield 609, 3), (32, .ifCond .ne 53, 3), (35, .aload_n 0, 1), (36, .bipush 18, 2), (38, .invokevirtual 666, 3), (41, .aload_n 0, 1), (42, .bipush 6, 2), (44, .aload_n 0, 1), (45, .iload_n 2, 1), (46, .iconst 1, 1), (47, .invokevirtual 644, 3), (50, .invokevirtual 656, 3), (53, .aload_n 0, 1), (54, .aload_n 0, 1)] = true := by decide +kernel
theorem dX8_object_25 : decode cX8_object 25 = .ok (.if_icmp .eq 60, 3) := zdec_at bX8_object_25 0 rfl
theorem dX8_object_28 : decode cX8_object 28 = .ok (.aload_n 0, 1) := zdec_at bX8_object_25 1 rfl
theorem dX8_object_29 : decode cX8_object 29 = .ok (.getfield 609, 3) := zdec_at bX8_object_25 2 rfl
theorem dX8_object_32 : decode cX8_object 32 = .ok (.ifCond .ne 53, 3) := zdec_at bX8_object_25 3 rfl
theorem dX8_object_35 : decode cX8_object 35 = .ok (.aload_n 0, 1) := zdec_at bX8_object_25 4 rfl
theorem dX8_object_36 : decode cX8_object 36 = .ok (.bipush 18, 2) := zdec_at bX8_object_25 5 rfl
theorem dX8_object_38 : decode cX8_object 38 = .ok (.invokevirtual 666, 3) := zdec_at bX8_object_25 6 rfl
theorem dX8_object_41 : decode cX8_object 41 = .ok (.aload_n 0, 1) := zdec_at bX8_object_25 7 rfl
theorem dX8_object_42 : decode cX8_object 42 = .ok (.bipush 6, 2) := zdec_at bX8_object_25 8 rfl
theorem dX8_object_44 : decode cX8_object 44 = .ok (.aload_n 0, 1) := zdec_at bX8_object_25 9 rfl
theorem dX8_object_45 : decode cX8_object 45 = .ok (.iload_n 2, 1) := zdec_at bX8_object_25 10 rfl
theorem dX8_object_46 : decode cX8_object 46 = .ok (.iconst 1, 1) := zdec_at bX8_object_25 11 rfl
theorem dX8_object_47 : decode cX8_object 47 = .ok (.invokevirtual 644, 3) := zdec_at bX8_object_25 12 rfl
theorem dX8_object_50 : decode cX8_object 50 = .ok (.invokevirtual 656, 3) := zdec_at bX8_object_25 13 rfl
theorem dX8_object_53 : decode cX8_object 53 = .ok (.aload_n 0, 1) := zdec_at bX8_object_25 14 rfl
theorem dX8_object_54 : decode cX8_object 54 = .ok (.aload_n 0, 1) := zdec_at bX8_object_25 15 rfl
theorem bX8_object_55 : zdec cX8_object 55 [(55, .iload_n 2, 1), (56, .iconst 0, 1), (57, .invokevirtual 644, 3), (60, .invokevirtual 668, 3), (63, .aload_n 0, 1), (64, .bipush 11, 2), (66, .invokevirtual 666, 3), (69, .aload_n 0, 1), (70, .bipush 17, 2), (72, .invokevirtual 666, 3), (75, .aload_n 0, 1), (76, .getfield 49, 3), (79, .iload_n 2, 1), (80, .iaload, 1), (81, .istore_n 2, 1), (82, .goto (-59), 3)] = true := by decide +kernel
theorem dX8_object_55 : decode cX8_object 55 = .ok (.iload_n 2, 1) := zdec_at bX8_object_55 0 rfl
theorem dX8_object_56 : decode cX8_object 56 = .ok (.iconst 0, 1) := zdec_at bX8_object_55 1 rfl
theorem dX8_object_57 : decode cX8_object 57 = .ok (.invokevirtual 644, 3) := zdec_at bX8_object_55 2 rfl
theorem dX8_object_60 : decode cX8_object 60 = .ok (.invokevirtual 668, 3) := zdec_at bX8_object_55 3 rfl
theorem dX8_object_63 : decode cX8_object 63 = .ok (.aload_n 0, 1) := zdec_at bX8_object_55 4 rfl
theorem dX8_object_64 : decode cX8_object 64 = .ok (.bipush 11, 2) := zdec_at bX8_object_55 5 rfl
theorem dX8_object_66 : decode cX8_object 66 = .ok (.invokevirtual 666, 3) := zdec_at bX8_object_55 6 rfl
theorem dX8_object_69 : decode cX8_object 69 = .ok (.aload_n 0, 1) := zdec_at bX8_object_55 7 rfl
theorem dX8_object_70 : decode cX8_object 70 = .ok (.bipush 17, 2) := zdec_at bX8_object_55 8 rfl
theorem dX8_object_72 : decode cX8_object 72 = .ok (.invokevirtual 666, 3) := zdec_at bX8_object_55 9 rfl
theorem dX8_object_75 : decode cX8_object 75 = .ok (.aload_n 0, 1) := zdec_at bX8_object_55 10 rfl
theorem dX8_object_76 : decode cX8_object 76 = .ok (.getfield 49, 3) := zdec_at bX8_object_55 11 rfl
theorem dX8_object_79 : decode cX8_object 79 = .ok (.iload_n 2, 1) := zdec_at bX8_object_55 12 rfl
theorem dX8_object_80 : decode cX8_object 80 = .ok (.iaload, 1) := zdec_at bX8_object_55 13 rfl
theorem dX8_object_81 : decode cX8_object 81 = .ok (.istore_n 2, 1) := zdec_at bX8_object_55 14 rfl
theorem dX8_object_82 : decode cX8_object 82 = .ok (.goto (-59), 3) := zdec_at bX8_object_55 15 rfl
theorem bX8_object_85 : zdec cX8_object 85 [(85, .return_, 1)] = true := by decide +kernel
theorem dX8_object_85 : decode cX8_object 85 = .ok (.return_, 1) := zdec_at bX8_object_85 0 rfl
theorem sX8_object_0 {E : zE} {d : Nat} {Q : zO → zM → Prop} (M : zM) (l1 : Int32) (k : Zm E YX8_emit d M (zargs 0 [vr (some (97, 1, 0)), vi (7 : Int32), vi (gi M 97 55), vi (0 : Int32)]) 0 [] (zma E YX8_object (d + 1) [(0, vr (some (97, 1, 0))), (1, vi l1)] 8 3 [] Q)) : Zm E YX8_object (d + 1) M [(0, vr (some (97, 1, 0))), (1, vi l1)] 0 [] Q := by
  refine Zm.l (fun _ _ k_ => z_aload_n dX8_object_0 rfl rfl k_) ?_
  refine Zm.l (fun _ _ k_ => z_bipush (v := 7) dX8_object_1 rfl k_) ?_
  refine Zm.l (fun _ _ k_ => z_aload_n dX8_object_3 rfl rfl k_) ?_
  refine zm_geti dX8_object_4 fsX8_689_1 (by decide) (by decide) ?_
  refine Zm.l (fun _ _ k_ => z_iconst (v := 0) dX8_object_7 rfl k_) ?_
  exact zm_callV (as := [vi (7 : Int32), vi (gi M 97 55), vi (0 : Int32)]) (st := []) dX8_object_8 vsX8_615_1 (Nat.le_refl _) (Nat.le_of_ble_eq_true rfl) (Nat.le_of_ble_eq_true rfl) rfl k
theorem sX8_object_11 {E : zE} {d : Nat} {Q : zO → zM → Prop} (M : zM) (l1 : Int32) (k : Zm E YX8_object (d + 1) (si M 97 55 ((gi M 97 55) + (1 : Int32))) [(0, vr (some (97, 1, 0))), (2, vi l1)] 23 [] Q) : Zm E YX8_object (d + 1) M [(0, vr (some (97, 1, 0))), (1, vi l1)] 11 [] Q := by
  refine Zm.l (fun _ _ k_ => z_aload_n dX8_object_11 rfl rfl k_) ?_
  refine Zm.l (fun _ _ k_ => z_dup dX8_object_12 rfl k_) ?_
  refine zm_geti dX8_object_13 fsX8_689_1 (by decide) (by decide) ?_
  refine Zm.l (fun _ _ k_ => z_iconst (v := 1) dX8_object_16 rfl k_) ?_
  refine Zm.l (fun _ _ k_ => z_iadd dX8_object_17 k_) ?_
  refine zm_puti (by decide) (by decide) dX8_object_18 (zfwN.w fwX8_689_1) rfl ⟨rfl, rfl⟩ ?_
  refine Zm.l (fun _ _ k_ => z_iload_n dX8_object_21 rfl rfl k_) ?_
  refine Zm.l (fun _ _ k_ => z_ist_n dX8_object_22 rfl (by decide) (lv' := [(0, vr (some (97, 1, 0))), (1, vi l1), (2, vi l1)]) rfl k_) ?_
  refine Zm.pick [0, 2] rfl ?_
  exact k
theorem sX8_object_23 {E : zE} {d : Nat} {Q : zO → zM → Prop} (M : zM) (l2 : Int32) (k : if l2 = (-1 : Int32) then (Q (.inl none) M) else (if (gi M 97 47) = 0 then (Zm E YX8_emit_2 d M (zargs 0 [vr (some (97, 1, 0)), vi (18 : Int32)]) 0 [] (zma E YX8_object (d + 1) [(0, vr (some (97, 1, 0))), (2, vi l2)] 38 3 [] Q)) else (Q (.inl none) M))) : Zm E YX8_object (d + 1) M [(0, vr (some (97, 1, 0))), (2, vi l2)] 23 [] Q := by
  refine Zm.l (fun _ _ k_ => z_iload_n dX8_object_23 rfl rfl k_) ?_
  refine Zm.l (fun _ _ k_ => z_iconst (v := -1) dX8_object_24 rfl k_) ?_
  refine Zm.br (fun _ _ k1_ k2_ => z_icmp_eq (tgt := 85) dX8_object_25 rfl k1_ k2_) (fun h_ => ?_) (fun h_ => ?_)
  · have k := zit h_ k
    exact zm_vret dX8_object_85 rfl k
  · have k := zif h_ k
    refine Zm.l (fun _ _ k_ => z_aload_n dX8_object_28 rfl rfl k_) ?_
    refine zm_geti dX8_object_29 fsX8_609_1 (by decide) (by decide) ?_
    refine Zm.brn (fun _ _ k1_ k2_ => z_if_ne (tgt := 85) dX8_object_32 rfl k1_ k2_) (fun h_ => ?_) (fun h_ => ?_)
    · have k := zif h_ k
      exact zm_vret dX8_object_85 rfl k
    · have k := zit h_ k
      refine Zm.l (fun _ _ k_ => z_aload_n dX8_object_35 rfl rfl k_) ?_
      refine Zm.l (fun _ _ k_ => z_bipush (v := 18) dX8_object_36 rfl k_) ?_
      exact zm_callV (as := [vi (18 : Int32)]) (st := []) dX8_object_38 vsX8_666_1 (Nat.le_refl _) (Nat.le_of_ble_eq_true rfl) (Nat.le_of_ble_eq_true rfl) rfl k
theorem sX8_object_41 {E : zE} {d : Nat} {Q : zO → zM → Prop} (M : zM) (l2 : Int32) (k : Zm E YX8_part d M (zargs 0 [vr (some (97, 1, 0)), vi l2, vi (1 : Int32)]) 0 [] (zma E YX8_object (d + 1) [(0, vr (some (97, 1, 0))), (2, vi l2)] 47 3 [vi (6 : Int32), vr (some (97, 1, 0))] Q)) : Zm E YX8_object (d + 1) M [(0, vr (some (97, 1, 0))), (2, vi l2)] 41 [] Q := by
  refine Zm.l (fun _ _ k_ => z_aload_n dX8_object_41 rfl rfl k_) ?_
  refine Zm.l (fun _ _ k_ => z_bipush (v := 6) dX8_object_42 rfl k_) ?_
  refine Zm.l (fun _ _ k_ => z_aload_n dX8_object_44 rfl rfl k_) ?_
  refine Zm.l (fun _ _ k_ => z_iload_n dX8_object_45 rfl rfl k_) ?_
  refine Zm.l (fun _ _ k_ => z_iconst (v := 1) dX8_object_46 rfl k_) ?_
  exact zm_callV (as := [vi l2, vi (1 : Int32)]) (st := [vi (6 : Int32), vr (some (97, 1, 0))]) dX8_object_47 vsX8_644_1 (Nat.le_refl _) (Nat.le_of_ble_eq_true rfl) (Nat.le_of_ble_eq_true rfl) rfl k
theorem sX8_object_50 {E : zE} {d : Nat} {Q : zO → zM → Prop} (M : zM) (l2 : Int32) (s0 : Int32) (s1 : Int32) (k : Zm E YX8_constant d M (zargs 0 [vr (some (97, 1, 0)), vi s1, vi s0]) 0 [] (zma E YX8_object (d + 1) [(0, vr (some (97, 1, 0))), (2, vi l2)] 50 3 [] Q)) : Zm E YX8_object (d + 1) M [(0, vr (some (97, 1, 0))), (2, vi l2)] 50 [vi s0, vi s1, vr (some (97, 1, 0))] Q := by
  exact zm_callV (as := [vi s1, vi s0]) (st := []) dX8_object_50 vsX8_656_1 (Nat.le_refl _) (Nat.le_of_ble_eq_true rfl) (Nat.le_of_ble_eq_true rfl) rfl k
theorem sX8_object_53 {E : zE} {d : Nat} {Q : zO → zM → Prop} (M : zM) (l2 : Int32) (k : Zm E YX8_part d M (zargs 0 [vr (some (97, 1, 0)), vi l2, vi (0 : Int32)]) 0 [] (zma E YX8_object (d + 1) [(0, vr (some (97, 1, 0))), (2, vi l2)] 57 3 [vr (some (97, 1, 0))] Q)) : Zm E YX8_object (d + 1) M [(0, vr (some (97, 1, 0))), (2, vi l2)] 53 [] Q := by
  refine Zm.l (fun _ _ k_ => z_aload_n dX8_object_53 rfl rfl k_) ?_
  refine Zm.l (fun _ _ k_ => z_aload_n dX8_object_54 rfl rfl k_) ?_
  refine Zm.l (fun _ _ k_ => z_iload_n dX8_object_55 rfl rfl k_) ?_
  refine Zm.l (fun _ _ k_ => z_iconst (v := 0) dX8_object_56 rfl k_) ?_
  exact zm_callV (as := [vi l2, vi (0 : Int32)]) (st := [vr (some (97, 1, 0))]) dX8_object_57 vsX8_644_1 (Nat.le_refl _) (Nat.le_of_ble_eq_true rfl) (Nat.le_of_ble_eq_true rfl) rfl k
theorem sX8_object_60 {E : zE} {d : Nat} {Q : zO → zM → Prop} (M : zM) (l2 : Int32) (s0 : Int32) (k : Zm E YX8_value d M (zargs 0 [vr (some (97, 1, 0)), vi s0]) 0 [] (zma E YX8_object (d + 1) [(0, vr (some (97, 1, 0))), (2, vi l2)] 60 3 [] Q)) : Zm E YX8_object (d + 1) M [(0, vr (some (97, 1, 0))), (2, vi l2)] 60 [vi s0, vr (some (97, 1, 0))] Q := by
  exact zm_callV (as := [vi s0]) (st := []) dX8_object_60 vsX8_668_1 (Nat.le_refl _) (Nat.le_of_ble_eq_true rfl) (Nat.le_of_ble_eq_true rfl) rfl k
theorem sX8_object_63 {E : zE} {d : Nat} {Q : zO → zM → Prop} (M : zM) (l2 : Int32) (k : Zm E YX8_emit_2 d M (zargs 0 [vr (some (97, 1, 0)), vi (11 : Int32)]) 0 [] (zma E YX8_object (d + 1) [(0, vr (some (97, 1, 0))), (2, vi l2)] 66 3 [] Q)) : Zm E YX8_object (d + 1) M [(0, vr (some (97, 1, 0))), (2, vi l2)] 63 [] Q := by
  refine Zm.l (fun _ _ k_ => z_aload_n dX8_object_63 rfl rfl k_) ?_
  refine Zm.l (fun _ _ k_ => z_bipush (v := 11) dX8_object_64 rfl k_) ?_
  exact zm_callV (as := [vi (11 : Int32)]) (st := []) dX8_object_66 vsX8_666_1 (Nat.le_refl _) (Nat.le_of_ble_eq_true rfl) (Nat.le_of_ble_eq_true rfl) rfl k
theorem sX8_object_69 {E : zE} {d : Nat} {Q : zO → zM → Prop} (M : zM) (l2 : Int32) (k : Zm E YX8_emit_2 d M (zargs 0 [vr (some (97, 1, 0)), vi (17 : Int32)]) 0 [] (zma E YX8_object (d + 1) [(0, vr (some (97, 1, 0))), (2, vi l2)] 72 3 [] Q)) : Zm E YX8_object (d + 1) M [(0, vr (some (97, 1, 0))), (2, vi l2)] 69 [] Q := by
  refine Zm.l (fun _ _ k_ => z_aload_n dX8_object_69 rfl rfl k_) ?_
  refine Zm.l (fun _ _ k_ => z_bipush (v := 17) dX8_object_70 rfl k_) ?_
  exact zm_callV (as := [vi (17 : Int32)]) (st := []) dX8_object_72 vsX8_666_1 (Nat.le_refl _) (Nat.le_of_ble_eq_true rfl) (Nat.le_of_ble_eq_true rfl) rfl k
theorem sX8_object_75 {E : zE} {d : Nat} {Q : zO → zM → Prop} (M : zM) (l2 : Int32) (k : vp_in l2 12000 ∧ (Zm E YX8_object (d + 1) M [(0, vr (some (97, 1, 0))), (2, vi (gi M 110 (l2).toNatClampNeg))] 23 [] Q)) : Zm E YX8_object (d + 1) M [(0, vr (some (97, 1, 0))), (2, vi l2)] 75 [] Q := by
  refine Zm.l (fun _ _ k_ => z_aload_n dX8_object_75 rfl rfl k_) ?_
  refine zm_getr 12 dX8_object_76 fsX8_49_1 rfl ?_
  refine Zm.l (fun _ _ k_ => z_iload_n dX8_object_79 rfl rfl k_) ?_
  obtain ⟨b_, k⟩ := k
  refine zm_iald dX8_object_80 b_ (by decide) (by decide) ?_
  refine Zm.l (fun _ _ k_ => z_ist_n dX8_object_81 rfl (by decide) (lv' := [(0, vr (some (97, 1, 0))), (2, vi (gi M 110 (l2).toNatClampNeg))]) rfl k_) ?_
  refine Zm.l (fun _ _ k_ => z_goto (tgt := 23) dX8_object_82 rfl k_) ?_
  exact k
/-! ScriptTypesModel.values(I)I -/
theorem bX8_values_0 : zdec cX8_values 0 [(0, .iconst 0, 1), (1, .istore_n 2, 1), (2, .iload_n 1, 1), (3, .istore_n 3, 1), (4, .iload_n 3, 1), (5, .iconst (-1), 1), (6, .if_icmp .eq 26, 3), (9, .aload_n 0, 1), (10, .aload_n 0, 1), (11, .iload_n 3, 1), (12, .iconst 0, 1), (13, .invokevirtual 644, 3), (16, .invokevirtual 668, 3), (19, .iinc 2 1, 3), (22, .aload_n 0, 1), (23, .getfield 49, 3)] = true := by decide +kernel
theorem dX8_values_0 : decode cX8_values 0 = .ok (.iconst 0, 1) := zdec_at bX8_values_0 0 rfl
theorem dX8_values_1 : decode cX8_values 1 = .ok (.istore_n 2, 1) := zdec_at bX8_values_0 1 rfl
theorem dX8_values_2 : decode cX8_values 2 = .ok (.iload_n 1, 1) := zdec_at bX8_values_0 2 rfl
theorem dX8_values_3 : decode cX8_values 3 = .ok (.istore_n 3, 1) := zdec_at bX8_values_0 3 rfl
theorem dX8_values_4 : decode cX8_values 4 = .ok (.iload_n 3, 1) := zdec_at bX8_values_0 4 rfl
theorem dX8_values_5 : decode cX8_values 5 = .ok (.iconst (-1), 1) := zdec_at bX8_values_0 5 rfl
theorem dX8_values_6 : decode cX8_values 6 = .ok (.if_icmp .eq 26, 3) := zdec_at bX8_values_0 6 rfl
theorem dX8_values_9 : decode cX8_values 9 = .ok (.aload_n 0, 1) := zdec_at bX8_values_0 7 rfl
theorem dX8_values_10 : decode cX8_values 10 = .ok (.aload_n 0, 1) := zdec_at bX8_values_0 8 rfl
theorem dX8_values_11 : decode cX8_values 11 = .ok (.iload_n 3, 1) := zdec_at bX8_values_0 9 rfl
theorem dX8_values_12 : decode cX8_values 12 = .ok (.iconst 0, 1) := zdec_at bX8_values_0 10 rfl
theorem dX8_values_13 : decode cX8_values 13 = .ok (.invokevirtual 644, 3) := zdec_at bX8_values_0 11 rfl
theorem dX8_values_16 : decode cX8_values 16 = .ok (.invokevirtual 668, 3) := zdec_at bX8_values_0 12 rfl
theorem dX8_values_19 : decode cX8_values 19 = .ok (.iinc 2 1, 3) := zdec_at bX8_values_0 13 rfl
theorem dX8_values_22 : decode cX8_values 22 = .ok (.aload_n 0, 1) := zdec_at bX8_values_0 14 rfl
theorem dX8_values_23 : decode cX8_values 23 = .ok (.getfield 49, 3) := zdec_at bX8_values_0 15 rfl
theorem bX8_values_26 : zdec cX8_values 26 [(26, .iload_n 3, 1), (27, .iaload, 1), (28, .istore_n 3, 1), (29, .goto (-25), 3), (32, .iload_n 2, 1), (33, .ireturn, 1)] = true := by decide +kernel
theorem dX8_values_26 : decode cX8_values 26 = .ok (.iload_n 3, 1) := zdec_at bX8_values_26 0 rfl
theorem dX8_values_27 : decode cX8_values 27 = .ok (.iaload, 1) := zdec_at bX8_values_26 1 rfl
theorem dX8_values_28 : decode cX8_values 28 = .ok (.istore_n 3, 1) := zdec_at bX8_values_26 2 rfl
theorem dX8_values_29 : decode cX8_values 29 = .ok (.goto (-25), 3) := zdec_at bX8_values_26 3 rfl
theorem dX8_values_32 : decode cX8_values 32 = .ok (.iload_n 2, 1) := zdec_at bX8_values_26 4 rfl
theorem dX8_values_33 : decode cX8_values 33 = .ok (.ireturn, 1) := zdec_at bX8_values_26 5 rfl
theorem sX8_values_0 {E : zE} {d : Nat} {Q : zO → zM → Prop} (M : zM) (l1 : Int32) (k : Zm E YX8_values (d + 1) M [(0, vr (some (97, 1, 0))), (2, vi (0 : Int32)), (3, vi l1)] 4 [] Q) : Zm E YX8_values (d + 1) M [(0, vr (some (97, 1, 0))), (1, vi l1)] 0 [] Q := by
  refine Zm.l (fun _ _ k_ => z_iconst (v := 0) dX8_values_0 rfl k_) ?_
  refine Zm.l (fun _ _ k_ => z_ist_n dX8_values_1 rfl (by decide) (lv' := [(0, vr (some (97, 1, 0))), (1, vi l1), (2, vi (0 : Int32))]) rfl k_) ?_
  refine Zm.l (fun _ _ k_ => z_iload_n dX8_values_2 rfl rfl k_) ?_
  refine Zm.l (fun _ _ k_ => z_ist_n dX8_values_3 rfl (by decide) (lv' := [(0, vr (some (97, 1, 0))), (1, vi l1), (2, vi (0 : Int32)), (3, vi l1)]) rfl k_) ?_
  refine Zm.pick [0, 2, 3] rfl ?_
  exact k
theorem sX8_values_4 {E : zE} {d : Nat} {Q : zO → zM → Prop} (M : zM) (l2 : Int32) (l3 : Int32) (k : if l3 = (-1 : Int32) then (Q (.inl (some (vi l2))) M) else (Zm E YX8_part d M (zargs 0 [vr (some (97, 1, 0)), vi l3, vi (0 : Int32)]) 0 [] (zma E YX8_values (d + 1) [(0, vr (some (97, 1, 0))), (2, vi l2), (3, vi l3)] 13 3 [vr (some (97, 1, 0))] Q))) : Zm E YX8_values (d + 1) M [(0, vr (some (97, 1, 0))), (2, vi l2), (3, vi l3)] 4 [] Q := by
  refine Zm.l (fun _ _ k_ => z_iload_n dX8_values_4 rfl rfl k_) ?_
  refine Zm.l (fun _ _ k_ => z_iconst (v := -1) dX8_values_5 rfl k_) ?_
  refine Zm.br (fun _ _ k1_ k2_ => z_icmp_eq (tgt := 32) dX8_values_6 rfl k1_ k2_) (fun h_ => ?_) (fun h_ => ?_)
  · have k := zit h_ k
    refine Zm.l (fun _ _ k_ => z_iload_n dX8_values_32 rfl rfl k_) ?_
    exact zm_iret dX8_values_33 rfl rfl k
  · have k := zif h_ k
    refine Zm.l (fun _ _ k_ => z_aload_n dX8_values_9 rfl rfl k_) ?_
    refine Zm.l (fun _ _ k_ => z_aload_n dX8_values_10 rfl rfl k_) ?_
    refine Zm.l (fun _ _ k_ => z_iload_n dX8_values_11 rfl rfl k_) ?_
    refine Zm.l (fun _ _ k_ => z_iconst (v := 0) dX8_values_12 rfl k_) ?_
    exact zm_callV (as := [vi l3, vi (0 : Int32)]) (st := [vr (some (97, 1, 0))]) dX8_values_13 vsX8_644_1 (Nat.le_refl _) (Nat.le_of_ble_eq_true rfl) (Nat.le_of_ble_eq_true rfl) rfl k
theorem sX8_values_16 {E : zE} {d : Nat} {Q : zO → zM → Prop} (M : zM) (l2 : Int32) (l3 : Int32) (s0 : Int32) (k : Zm E YX8_value d M (zargs 0 [vr (some (97, 1, 0)), vi s0]) 0 [] (zma E YX8_values (d + 1) [(0, vr (some (97, 1, 0))), (2, vi l2), (3, vi l3)] 16 3 [] Q)) : Zm E YX8_values (d + 1) M [(0, vr (some (97, 1, 0))), (2, vi l2), (3, vi l3)] 16 [vi s0, vr (some (97, 1, 0))] Q := by
  exact zm_callV (as := [vi s0]) (st := []) dX8_values_16 vsX8_668_1 (Nat.le_refl _) (Nat.le_of_ble_eq_true rfl) (Nat.le_of_ble_eq_true rfl) rfl k
theorem sX8_values_19 {E : zE} {d : Nat} {Q : zO → zM → Prop} (M : zM) (l2 : Int32) (l3 : Int32) (k : vp_in l3 12000 ∧ (Zm E YX8_values (d + 1) M [(0, vr (some (97, 1, 0))), (2, vi (l2 + (1 : Int32))), (3, vi (gi M 110 (l3).toNatClampNeg))] 4 [] Q)) : Zm E YX8_values (d + 1) M [(0, vr (some (97, 1, 0))), (2, vi l2), (3, vi l3)] 19 [] Q := by
  refine Zm.l (fun _ _ k_ => z_inc (v := (l2 + (1 : Int32))) dX8_values_19 rfl rfl (by decide) (lv' := [(0, vr (some (97, 1, 0))), (2, vi (l2 + (1 : Int32))), (3, vi l3)]) rfl k_) ?_
  refine Zm.l (fun _ _ k_ => z_aload_n dX8_values_22 rfl rfl k_) ?_
  refine zm_getr 12 dX8_values_23 fsX8_49_1 rfl ?_
  refine Zm.l (fun _ _ k_ => z_iload_n dX8_values_26 rfl rfl k_) ?_
  obtain ⟨b_, k⟩ := k
  refine zm_iald dX8_values_27 b_ (by decide) (by decide) ?_
  refine Zm.l (fun _ _ k_ => z_ist_n dX8_values_28 rfl (by decide) (lv' := [(0, vr (some (97, 1, 0))), (2, vi (l2 + (1 : Int32))), (3, vi (gi M 110 (l3).toNatClampNeg))]) rfl k_) ?_
  refine Zm.l (fun _ _ k_ => z_goto (tgt := 4) dX8_values_29 rfl k_) ?_
  exact k
/-! ScriptTypesModel.unary(II)V -/
theorem bX8_unary_0 : zdec cX8_unary 0 [(0, .iload_n 1, 1), (1, .bipush 6, 2), (3, .if_icmp .ne 32, 3), (6, .aload_n 0, 1), (7, .aload_n 0, 1), (8, .iload_n 2, 1), (9, .iconst 0, 1), (10, .invokevirtual 644, 3), (13, .invokevirtual 668, 3), (16, .aload_n 0, 1), (17, .aload_n 0, 1), (18, .iload_n 2, 1), (19, .iconst 1, 1), (20, .invokevirtual 644, 3), (23, .invokevirtual 668, 3), (26, .aload_n 0, 1)] = true := by decide +kernel
theorem dX8_unary_0 : decode cX8_unary 0 = .ok (.iload_n 1, 1) := zdec_at bX8_unary_0 0 rfl
theorem dX8_unary_1 : decode cX8_unary 1 = .ok (.bipush 6, 2) := zdec_at bX8_unary_0 1 rfl
theorem dX8_unary_3 : decode cX8_unary 3 = .ok (.if_icmp .ne 32, 3) := zdec_at bX8_unary_0 2 rfl
theorem dX8_unary_6 : decode cX8_unary 6 = .ok (.aload_n 0, 1) := zdec_at bX8_unary_0 3 rfl
theorem dX8_unary_7 : decode cX8_unary 7 = .ok (.aload_n 0, 1) := zdec_at bX8_unary_0 4 rfl
theorem dX8_unary_8 : decode cX8_unary 8 = .ok (.iload_n 2, 1) := zdec_at bX8_unary_0 5 rfl
theorem dX8_unary_9 : decode cX8_unary 9 = .ok (.iconst 0, 1) := zdec_at bX8_unary_0 6 rfl
theorem dX8_unary_10 : decode cX8_unary 10 = .ok (.invokevirtual 644, 3) := zdec_at bX8_unary_0 7 rfl
theorem dX8_unary_13 : decode cX8_unary 13 = .ok (.invokevirtual 668, 3) := zdec_at bX8_unary_0 8 rfl
theorem dX8_unary_16 : decode cX8_unary 16 = .ok (.aload_n 0, 1) := zdec_at bX8_unary_0 9 rfl
theorem dX8_unary_17 : decode cX8_unary 17 = .ok (.aload_n 0, 1) := zdec_at bX8_unary_0 10 rfl
theorem dX8_unary_18 : decode cX8_unary 18 = .ok (.iload_n 2, 1) := zdec_at bX8_unary_0 11 rfl
theorem dX8_unary_19 : decode cX8_unary 19 = .ok (.iconst 1, 1) := zdec_at bX8_unary_0 12 rfl
theorem dX8_unary_20 : decode cX8_unary 20 = .ok (.invokevirtual 644, 3) := zdec_at bX8_unary_0 13 rfl
theorem dX8_unary_23 : decode cX8_unary 23 = .ok (.invokevirtual 668, 3) := zdec_at bX8_unary_0 14 rfl
theorem dX8_unary_26 : decode cX8_unary 26 = .ok (.aload_n 0, 1) := zdec_at bX8_unary_0 15 rfl
theorem bX8_unary_27 : zdec cX8_unary 27 [(27, .bipush 12, 2), (29, .invokevirtual 666, 3), (32, .goto 98, 3), (35, .iload_n 1, 1), (36, .iconst 4, 1), (37, .if_icmp .ne 60, 3), (40, .aload_n 0, 1), (41, .getfield 42, 3), (44, .iload_n 2, 1), (45, .iaload, 1), (46, .iconst 2, 1), (47, .if_icmp .ne 50, 3), (50, .aload_n 0, 1), (51, .getfield 52, 3), (54, .iload_n 2, 1), (55, .baload, 1)] = true := by decide +kernel
theorem dX8_unary_27 : decode cX8_unary 27 = .ok (.bipush 12, 2) := zdec_at bX8_unary_27 0 rfl
theorem dX8_unary_29 : decode cX8_unary 29 = .ok (.invokevirtual 666, 3) := zdec_at bX8_unary_27 1 rfl
theorem dX8_unary_32 : decode cX8_unary 32 = .ok (.goto 98, 3) := zdec_at bX8_unary_27 2 rfl
theorem dX8_unary_35 : decode cX8_unary 35 = .ok (.iload_n 1, 1) := zdec_at bX8_unary_27 3 rfl
theorem dX8_unary_36 : decode cX8_unary 36 = .ok (.iconst 4, 1) := zdec_at bX8_unary_27 4 rfl
theorem dX8_unary_37 : decode cX8_unary 37 = .ok (.if_icmp .ne 60, 3) := zdec_at bX8_unary_27 5 rfl
theorem dX8_unary_40 : decode cX8_unary 40 = .ok (.aload_n 0, 1) := zdec_at bX8_unary_27 6 rfl
theorem dX8_unary_41 : decode cX8_unary 41 = .ok (.getfield 42, 3) := zdec_at bX8_unary_27 7 rfl
theorem dX8_unary_44 : decode cX8_unary 44 = .ok (.iload_n 2, 1) := zdec_at bX8_unary_27 8 rfl
theorem dX8_unary_45 : decode cX8_unary 45 = .ok (.iaload, 1) := zdec_at bX8_unary_27 9 rfl
theorem dX8_unary_46 : decode cX8_unary 46 = .ok (.iconst 2, 1) := zdec_at bX8_unary_27 10 rfl
theorem dX8_unary_47 : decode cX8_unary 47 = .ok (.if_icmp .ne 50, 3) := zdec_at bX8_unary_27 11 rfl
theorem dX8_unary_50 : decode cX8_unary 50 = .ok (.aload_n 0, 1) := zdec_at bX8_unary_27 12 rfl
theorem dX8_unary_51 : decode cX8_unary 51 = .ok (.getfield 52, 3) := zdec_at bX8_unary_27 13 rfl
theorem dX8_unary_54 : decode cX8_unary 54 = .ok (.iload_n 2, 1) := zdec_at bX8_unary_27 14 rfl
theorem dX8_unary_55 : decode cX8_unary 55 = .ok (.baload, 1) := zdec_at bX8_unary_27 15 rfl
theorem bX8_unary_56 : zdec cX8_unary 56 [(56, .ifCond .ne 41, 3), (59, .aload_n 0, 1), (60, .aload_n 0, 1), (61, .iload_n 2, 1), (62, .iconst 0, 1), (63, .invokevirtual 644, 3), (66, .iconst 1, 1), (67, .iconst 5, 1), (68, .invokevirtual 625, 3), (71, .aload_n 0, 1), (72, .getfield 89, 3), (75, .aload_n 0, 1), (76, .getfield 606, 3), (79, .iconst 1, 1), (80, .isub, 1), (81, .iaload, 1)] = true := by decide +kernel
theorem dX8_unary_56 : decode cX8_unary 56 = .ok (.ifCond .ne 41, 3) := zdec_at bX8_unary_56 0 rfl
theorem dX8_unary_59 : decode cX8_unary 59 = .ok (.aload_n 0, 1) := zdec_at bX8_unary_56 1 rfl
theorem dX8_unary_60 : decode cX8_unary 60 = .ok (.aload_n 0, 1) := zdec_at bX8_unary_56 2 rfl
theorem dX8_unary_61 : decode cX8_unary 61 = .ok (.iload_n 2, 1) := zdec_at bX8_unary_56 3 rfl
theorem dX8_unary_62 : decode cX8_unary 62 = .ok (.iconst 0, 1) := zdec_at bX8_unary_56 4 rfl
theorem dX8_unary_63 : decode cX8_unary 63 = .ok (.invokevirtual 644, 3) := zdec_at bX8_unary_56 5 rfl
theorem dX8_unary_66 : decode cX8_unary 66 = .ok (.iconst 1, 1) := zdec_at bX8_unary_56 6 rfl
theorem dX8_unary_67 : decode cX8_unary 67 = .ok (.iconst 5, 1) := zdec_at bX8_unary_56 7 rfl
theorem dX8_unary_68 : decode cX8_unary 68 = .ok (.invokevirtual 625, 3) := zdec_at bX8_unary_56 8 rfl
theorem dX8_unary_71 : decode cX8_unary 71 = .ok (.aload_n 0, 1) := zdec_at bX8_unary_56 9 rfl
theorem dX8_unary_72 : decode cX8_unary 72 = .ok (.getfield 89, 3) := zdec_at bX8_unary_56 10 rfl
theorem dX8_unary_75 : decode cX8_unary 75 = .ok (.aload_n 0, 1) := zdec_at bX8_unary_56 11 rfl
theorem dX8_unary_76 : decode cX8_unary 76 = .ok (.getfield 606, 3) := zdec_at bX8_unary_56 12 rfl
theorem dX8_unary_79 : decode cX8_unary 79 = .ok (.iconst 1, 1) := zdec_at bX8_unary_56 13 rfl
theorem dX8_unary_80 : decode cX8_unary 80 = .ok (.isub, 1) := zdec_at bX8_unary_56 14 rfl
theorem dX8_unary_81 : decode cX8_unary 81 = .ok (.iaload, 1) := zdec_at bX8_unary_56 15 rfl
theorem bX8_unary_82 : zdec cX8_unary 82 [(82, .iconst 1, 1), (83, .if_icmp .ne 47, 3), (86, .aload_n 0, 1), (87, .bipush 13, 2), (89, .iconst 4, 1), (90, .iconst 0, 1), (91, .invokevirtual 615, 3), (94, .goto 36, 3), (97, .aload_n 0, 1), (98, .iload_n 2, 1), (99, .invokevirtual 668, 3), (102, .iload_n 1, 1), (103, .iconst 5, 1), (104, .if_icmp .ge 14, 3), (107, .aload_n 0, 1), (108, .bipush 13, 2)] = true := by decide +kernel
theorem dX8_unary_82 : decode cX8_unary 82 = .ok (.iconst 1, 1) := zdec_at bX8_unary_82 0 rfl
theorem dX8_unary_83 : decode cX8_unary 83 = .ok (.if_icmp .ne 47, 3) := zdec_at bX8_unary_82 1 rfl
theorem dX8_unary_86 : decode cX8_unary 86 = .ok (.aload_n 0, 1) := zdec_at bX8_unary_82 2 rfl
theorem dX8_unary_87 : decode cX8_unary 87 = .ok (.bipush 13, 2) := zdec_at bX8_unary_82 3 rfl
theorem dX8_unary_89 : decode cX8_unary 89 = .ok (.iconst 4, 1) := zdec_at bX8_unary_82 4 rfl
theorem dX8_unary_90 : decode cX8_unary 90 = .ok (.iconst 0, 1) := zdec_at bX8_unary_82 5 rfl
theorem dX8_unary_91 : decode cX8_unary 91 = .ok (.invokevirtual 615, 3) := zdec_at bX8_unary_82 6 rfl
theorem dX8_unary_94 : decode cX8_unary 94 = .ok (.goto 36, 3) := zdec_at bX8_unary_82 7 rfl
theorem dX8_unary_97 : decode cX8_unary 97 = .ok (.aload_n 0, 1) := zdec_at bX8_unary_82 8 rfl
theorem dX8_unary_98 : decode cX8_unary 98 = .ok (.iload_n 2, 1) := zdec_at bX8_unary_82 9 rfl
theorem dX8_unary_99 : decode cX8_unary 99 = .ok (.invokevirtual 668, 3) := zdec_at bX8_unary_82 10 rfl
theorem dX8_unary_102 : decode cX8_unary 102 = .ok (.iload_n 1, 1) := zdec_at bX8_unary_82 11 rfl
theorem dX8_unary_103 : decode cX8_unary 103 = .ok (.iconst 5, 1) := zdec_at bX8_unary_82 12 rfl
theorem dX8_unary_104 : decode cX8_unary 104 = .ok (.if_icmp .ge 14, 3) := zdec_at bX8_unary_82 13 rfl
theorem dX8_unary_107 : decode cX8_unary 107 = .ok (.aload_n 0, 1) := zdec_at bX8_unary_82 14 rfl
theorem dX8_unary_108 : decode cX8_unary 108 = .ok (.bipush 13, 2) := zdec_at bX8_unary_82 15 rfl
theorem bX8_unary_110 : zdec cX8_unary 110 [(110, .iload_n 1, 1), (111, .iconst 0, 1), (112, .invokevirtual 615, 3), (115, .goto 15, 3), (118, .aload_n 0, 1), (119, .bipush 17, 2), (121, .invokevirtual 666, 3), (124, .aload_n 0, 1), (125, .iconst 0, 1), (126, .iconst 0, 1), (127, .invokevirtual 656, 3), (130, .return_, 1)] = true := by decide +kernel
theorem dX8_unary_110 : decode cX8_unary 110 = .ok (.iload_n 1, 1) := zdec_at bX8_unary_110 0 rfl
theorem dX8_unary_111 : decode cX8_unary 111 = .ok (.iconst 0, 1) := zdec_at bX8_unary_110 1 rfl
theorem dX8_unary_112 : decode cX8_unary 112 = .ok (.invokevirtual 615, 3) := zdec_at bX8_unary_110 2 rfl
theorem dX8_unary_115 : decode cX8_unary 115 = .ok (.goto 15, 3) := zdec_at bX8_unary_110 3 rfl
theorem dX8_unary_118 : decode cX8_unary 118 = .ok (.aload_n 0, 1) := zdec_at bX8_unary_110 4 rfl
theorem dX8_unary_119 : decode cX8_unary 119 = .ok (.bipush 17, 2) := zdec_at bX8_unary_110 5 rfl
theorem dX8_unary_121 : decode cX8_unary 121 = .ok (.invokevirtual 666, 3) := zdec_at bX8_unary_110 6 rfl
theorem dX8_unary_124 : decode cX8_unary 124 = .ok (.aload_n 0, 1) := zdec_at bX8_unary_110 7 rfl
theorem dX8_unary_125 : decode cX8_unary 125 = .ok (.iconst 0, 1) := zdec_at bX8_unary_110 8 rfl
theorem dX8_unary_126 : decode cX8_unary 126 = .ok (.iconst 0, 1) := zdec_at bX8_unary_110 9 rfl
theorem dX8_unary_127 : decode cX8_unary 127 = .ok (.invokevirtual 656, 3) := zdec_at bX8_unary_110 10 rfl
theorem dX8_unary_130 : decode cX8_unary 130 = .ok (.return_, 1) := zdec_at bX8_unary_110 11 rfl
theorem sX8_unary_0 {E : zE} {d : Nat} {Q : zO → zM → Prop} (M : zM) (l1 : Int32) (l2 : Int32) (k : if l1 = (6 : Int32) then (Zm E YX8_part d M (zargs 0 [vr (some (97, 1, 0)), vi l2, vi (0 : Int32)]) 0 [] (zma E YX8_unary (d + 1) [(0, vr (some (97, 1, 0))), (2, vi l2)] 10 3 [vr (some (97, 1, 0))] Q)) else (if l1 = (4 : Int32) then (vp_in l2 12000 ∧ (if (gi M 108 (l2).toNatClampNeg) = (2 : Int32) then (vp_in l2 12000 ∧ (if (gi M 111 (l2).toNatClampNeg) = 0 then (Zm E YX8_part d M (zargs 0 [vr (some (97, 1, 0)), vi l2, vi (0 : Int32)]) 0 [] (zma E YX8_unary (d + 1) [(0, vr (some (97, 1, 0)))] 63 3 [vr (some (97, 1, 0))] Q)) else (Zm E YX8_value d M (zargs 0 [vr (some (97, 1, 0)), vi l2]) 0 [] (zma E YX8_unary (d + 1) [(0, vr (some (97, 1, 0))), (1, vi l1)] 99 3 [] Q)))) else (Zm E YX8_value d M (zargs 0 [vr (some (97, 1, 0)), vi l2]) 0 [] (zma E YX8_unary (d + 1) [(0, vr (some (97, 1, 0))), (1, vi l1)] 99 3 [] Q)))) else (Zm E YX8_value d M (zargs 0 [vr (some (97, 1, 0)), vi l2]) 0 [] (zma E YX8_unary (d + 1) [(0, vr (some (97, 1, 0))), (1, vi l1)] 99 3 [] Q)))) : Zm E YX8_unary (d + 1) M [(0, vr (some (97, 1, 0))), (1, vi l1), (2, vi l2)] 0 [] Q := by
  refine Zm.l (fun _ _ k_ => z_iload_n dX8_unary_0 rfl rfl k_) ?_
  refine Zm.l (fun _ _ k_ => z_bipush (v := 6) dX8_unary_1 rfl k_) ?_
  refine Zm.brn (fun _ _ k1_ k2_ => z_icmp_ne (tgt := 35) dX8_unary_3 rfl k1_ k2_) (fun h_ => ?_) (fun h_ => ?_)
  · have k := zif h_ k
    refine Zm.l (fun _ _ k_ => z_iload_n dX8_unary_35 rfl rfl k_) ?_
    refine Zm.l (fun _ _ k_ => z_iconst (v := 4) dX8_unary_36 rfl k_) ?_
    refine Zm.brn (fun _ _ k1_ k2_ => z_icmp_ne (tgt := 97) dX8_unary_37 rfl k1_ k2_) (fun h_ => ?_) (fun h_ => ?_)
    · have k := zif h_ k
      refine Zm.l (fun _ _ k_ => z_aload_n dX8_unary_97 rfl rfl k_) ?_
      refine Zm.l (fun _ _ k_ => z_iload_n dX8_unary_98 rfl rfl k_) ?_
      refine Zm.pick [0, 1] rfl ?_
      exact zm_callV (as := [vi l2]) (st := []) dX8_unary_99 vsX8_668_1 (Nat.le_refl _) (Nat.le_of_ble_eq_true rfl) (Nat.le_of_ble_eq_true rfl) rfl k
    · have k := zit h_ k
      refine Zm.l (fun _ _ k_ => z_aload_n dX8_unary_40 rfl rfl k_) ?_
      refine zm_getr 10 dX8_unary_41 fsX8_42_1 rfl ?_
      refine Zm.l (fun _ _ k_ => z_iload_n dX8_unary_44 rfl rfl k_) ?_
      obtain ⟨b_, k⟩ := k
      refine zm_iald dX8_unary_45 b_ (by decide) (by decide) ?_
      refine Zm.l (fun _ _ k_ => z_iconst (v := 2) dX8_unary_46 rfl k_) ?_
      refine Zm.brn (fun _ _ k1_ k2_ => z_icmp_ne (tgt := 97) dX8_unary_47 rfl k1_ k2_) (fun h_ => ?_) (fun h_ => ?_)
      · have k := zif h_ k
        refine Zm.l (fun _ _ k_ => z_aload_n dX8_unary_97 rfl rfl k_) ?_
        refine Zm.l (fun _ _ k_ => z_iload_n dX8_unary_98 rfl rfl k_) ?_
        refine Zm.pick [0, 1] rfl ?_
        exact zm_callV (as := [vi l2]) (st := []) dX8_unary_99 vsX8_668_1 (Nat.le_refl _) (Nat.le_of_ble_eq_true rfl) (Nat.le_of_ble_eq_true rfl) rfl k
      · have k := zit h_ k
        refine Zm.l (fun _ _ k_ => z_aload_n dX8_unary_50 rfl rfl k_) ?_
        refine zm_getr 13 dX8_unary_51 fsX8_52_1 rfl ?_
        refine Zm.l (fun _ _ k_ => z_iload_n dX8_unary_54 rfl rfl k_) ?_
        obtain ⟨b_, k⟩ := k
        refine zm_zald dX8_unary_55 b_ (by decide) (by decide) ?_
        refine Zm.brn (fun _ _ k1_ k2_ => z_if_ne (tgt := 97) dX8_unary_56 rfl k1_ k2_) (fun h_ => ?_) (fun h_ => ?_)
        · have k := zif h_ k
          refine Zm.l (fun _ _ k_ => z_aload_n dX8_unary_97 rfl rfl k_) ?_
          refine Zm.l (fun _ _ k_ => z_iload_n dX8_unary_98 rfl rfl k_) ?_
          refine Zm.pick [0, 1] rfl ?_
          exact zm_callV (as := [vi l2]) (st := []) dX8_unary_99 vsX8_668_1 (Nat.le_refl _) (Nat.le_of_ble_eq_true rfl) (Nat.le_of_ble_eq_true rfl) rfl k
        · have k := zit h_ k
          refine Zm.l (fun _ _ k_ => z_aload_n dX8_unary_59 rfl rfl k_) ?_
          refine Zm.l (fun _ _ k_ => z_aload_n dX8_unary_60 rfl rfl k_) ?_
          refine Zm.l (fun _ _ k_ => z_iload_n dX8_unary_61 rfl rfl k_) ?_
          refine Zm.l (fun _ _ k_ => z_iconst (v := 0) dX8_unary_62 rfl k_) ?_
          refine Zm.pick [0] rfl ?_
          exact zm_callV (as := [vi l2, vi (0 : Int32)]) (st := [vr (some (97, 1, 0))]) dX8_unary_63 vsX8_644_1 (Nat.le_refl _) (Nat.le_of_ble_eq_true rfl) (Nat.le_of_ble_eq_true rfl) rfl k
  · have k := zit h_ k
    refine Zm.l (fun _ _ k_ => z_aload_n dX8_unary_6 rfl rfl k_) ?_
    refine Zm.l (fun _ _ k_ => z_aload_n dX8_unary_7 rfl rfl k_) ?_
    refine Zm.l (fun _ _ k_ => z_iload_n dX8_unary_8 rfl rfl k_) ?_
    refine Zm.l (fun _ _ k_ => z_iconst (v := 0) dX8_unary_9 rfl k_) ?_
    refine Zm.pick [0, 2] rfl ?_
    exact zm_callV (as := [vi l2, vi (0 : Int32)]) (st := [vr (some (97, 1, 0))]) dX8_unary_10 vsX8_644_1 (Nat.le_refl _) (Nat.le_of_ble_eq_true rfl) (Nat.le_of_ble_eq_true rfl) rfl k
theorem sX8_unary_13 {E : zE} {d : Nat} {Q : zO → zM → Prop} (M : zM) (l2 : Int32) (s0 : Int32) (k : Zm E YX8_value d M (zargs 0 [vr (some (97, 1, 0)), vi s0]) 0 [] (zma E YX8_unary (d + 1) [(0, vr (some (97, 1, 0))), (2, vi l2)] 13 3 [] Q)) : Zm E YX8_unary (d + 1) M [(0, vr (some (97, 1, 0))), (2, vi l2)] 13 [vi s0, vr (some (97, 1, 0))] Q := by
  exact zm_callV (as := [vi s0]) (st := []) dX8_unary_13 vsX8_668_1 (Nat.le_refl _) (Nat.le_of_ble_eq_true rfl) (Nat.le_of_ble_eq_true rfl) rfl k
theorem sX8_unary_16 {E : zE} {d : Nat} {Q : zO → zM → Prop} (M : zM) (l2 : Int32) (k : Zm E YX8_part d M (zargs 0 [vr (some (97, 1, 0)), vi l2, vi (1 : Int32)]) 0 [] (zma E YX8_unary (d + 1) [(0, vr (some (97, 1, 0)))] 20 3 [vr (some (97, 1, 0))] Q)) : Zm E YX8_unary (d + 1) M [(0, vr (some (97, 1, 0))), (2, vi l2)] 16 [] Q := by
  refine Zm.l (fun _ _ k_ => z_aload_n dX8_unary_16 rfl rfl k_) ?_
  refine Zm.l (fun _ _ k_ => z_aload_n dX8_unary_17 rfl rfl k_) ?_
  refine Zm.l (fun _ _ k_ => z_iload_n dX8_unary_18 rfl rfl k_) ?_
  refine Zm.l (fun _ _ k_ => z_iconst (v := 1) dX8_unary_19 rfl k_) ?_
  refine Zm.pick [0] rfl ?_
  exact zm_callV (as := [vi l2, vi (1 : Int32)]) (st := [vr (some (97, 1, 0))]) dX8_unary_20 vsX8_644_1 (Nat.le_refl _) (Nat.le_of_ble_eq_true rfl) (Nat.le_of_ble_eq_true rfl) rfl k
theorem sX8_unary_23 {E : zE} {d : Nat} {Q : zO → zM → Prop} (M : zM) (s0 : Int32) (k : Zm E YX8_value d M (zargs 0 [vr (some (97, 1, 0)), vi s0]) 0 [] (zma E YX8_unary (d + 1) [(0, vr (some (97, 1, 0)))] 23 3 [] Q)) : Zm E YX8_unary (d + 1) M [(0, vr (some (97, 1, 0)))] 23 [vi s0, vr (some (97, 1, 0))] Q := by
  exact zm_callV (as := [vi s0]) (st := []) dX8_unary_23 vsX8_668_1 (Nat.le_refl _) (Nat.le_of_ble_eq_true rfl) (Nat.le_of_ble_eq_true rfl) rfl k
theorem sX8_unary_26 {E : zE} {d : Nat} {Q : zO → zM → Prop} (M : zM)  (k : Zm E YX8_emit_2 d M (zargs 0 [vr (some (97, 1, 0)), vi (12 : Int32)]) 0 [] (zma E YX8_unary (d + 1) [] 29 3 [] Q)) : Zm E YX8_unary (d + 1) M [(0, vr (some (97, 1, 0)))] 26 [] Q := by
  refine Zm.l (fun _ _ k_ => z_aload_n dX8_unary_26 rfl rfl k_) ?_
  refine Zm.l (fun _ _ k_ => z_bipush (v := 12) dX8_unary_27 rfl k_) ?_
  refine Zm.pick [] rfl ?_
  exact zm_callV (as := [vi (12 : Int32)]) (st := []) dX8_unary_29 vsX8_666_1 (Nat.le_refl _) (Nat.le_of_ble_eq_true rfl) (Nat.le_of_ble_eq_true rfl) rfl k
theorem sX8_unary_32 {E : zE} {d : Nat} {Q : zO → zM → Prop} (M : zM)  (k : Zm E YX8_unary (d + 1) M [] 130 [] Q) : Zm E YX8_unary (d + 1) M [] 32 [] Q := by
  refine Zm.l (fun _ _ k_ => z_goto (tgt := 130) dX8_unary_32 rfl k_) ?_
  exact k
theorem sX8_unary_66 {E : zE} {d : Nat} {Q : zO → zM → Prop} (M : zM) (s0 : Int32) (k : Zm E YX8_named d M (zargs 0 [vr (some (97, 1, 0)), vi s0, vi (1 : Int32), vi (5 : Int32)]) 0 [] (zma E YX8_unary (d + 1) [(0, vr (some (97, 1, 0)))] 68 3 [] Q)) : Zm E YX8_unary (d + 1) M [(0, vr (some (97, 1, 0)))] 66 [vi s0, vr (some (97, 1, 0))] Q := by
  refine Zm.l (fun _ _ k_ => z_iconst (v := 1) dX8_unary_66 rfl k_) ?_
  refine Zm.l (fun _ _ k_ => z_iconst (v := 5) dX8_unary_67 rfl k_) ?_
  exact zm_callV (as := [vi s0, vi (1 : Int32), vi (5 : Int32)]) (st := []) dX8_unary_68 vsX8_625_1 (Nat.le_refl _) (Nat.le_of_ble_eq_true rfl) (Nat.le_of_ble_eq_true rfl) rfl k
theorem sX8_unary_71 {E : zE} {d : Nat} {Q : zO → zM → Prop} (M : zM)  (k : vp_in ((gi M 97 46) - (1 : Int32)) 600 ∧ (if (gi M 123 (((gi M 97 46) - (1 : Int32))).toNatClampNeg) = (1 : Int32) then (Zm E YX8_emit d M (zargs 0 [vr (some (97, 1, 0)), vi (13 : Int32), vi (4 : Int32), vi (0 : Int32)]) 0 [] (zma E YX8_unary (d + 1) [] 91 3 [] Q)) else (Zm E YX8_unary (d + 1) M [] 130 [] Q))) : Zm E YX8_unary (d + 1) M [(0, vr (some (97, 1, 0)))] 71 [] Q := by
  refine Zm.l (fun _ _ k_ => z_aload_n dX8_unary_71 rfl rfl k_) ?_
  refine zm_getr 25 dX8_unary_72 fsX8_89_1 rfl ?_
  refine Zm.l (fun _ _ k_ => z_aload_n dX8_unary_75 rfl rfl k_) ?_
  refine zm_geti dX8_unary_76 fsX8_606_1 (by decide) (by decide) ?_
  refine Zm.l (fun _ _ k_ => z_iconst (v := 1) dX8_unary_79 rfl k_) ?_
  refine Zm.l (fun _ _ k_ => z_isub dX8_unary_80 k_) ?_
  obtain ⟨b_, k⟩ := k
  refine zm_iald dX8_unary_81 b_ (by decide) (by decide) ?_
  refine Zm.l (fun _ _ k_ => z_iconst (v := 1) dX8_unary_82 rfl k_) ?_
  refine Zm.brn (fun _ _ k1_ k2_ => z_icmp_ne (tgt := 130) dX8_unary_83 rfl k1_ k2_) (fun h_ => ?_) (fun h_ => ?_)
  · have k := zif h_ k
    refine Zm.pick [] rfl ?_
    exact k
  · have k := zit h_ k
    refine Zm.l (fun _ _ k_ => z_aload_n dX8_unary_86 rfl rfl k_) ?_
    refine Zm.l (fun _ _ k_ => z_bipush (v := 13) dX8_unary_87 rfl k_) ?_
    refine Zm.l (fun _ _ k_ => z_iconst (v := 4) dX8_unary_89 rfl k_) ?_
    refine Zm.l (fun _ _ k_ => z_iconst (v := 0) dX8_unary_90 rfl k_) ?_
    refine Zm.pick [] rfl ?_
    exact zm_callV (as := [vi (13 : Int32), vi (4 : Int32), vi (0 : Int32)]) (st := []) dX8_unary_91 vsX8_615_1 (Nat.le_refl _) (Nat.le_of_ble_eq_true rfl) (Nat.le_of_ble_eq_true rfl) rfl k
theorem sX8_unary_94 {E : zE} {d : Nat} {Q : zO → zM → Prop} (M : zM)  (k : Zm E YX8_unary (d + 1) M [] 130 [] Q) : Zm E YX8_unary (d + 1) M [] 94 [] Q := by
  refine Zm.l (fun _ _ k_ => z_goto (tgt := 130) dX8_unary_94 rfl k_) ?_
  exact k
theorem sX8_unary_102 {E : zE} {d : Nat} {Q : zO → zM → Prop} (M : zM) (l1 : Int32) (k : if (5 : Int32) ≤ l1 then (Zm E YX8_emit_2 d M (zargs 0 [vr (some (97, 1, 0)), vi (17 : Int32)]) 0 [] (zma E YX8_unary (d + 1) [(0, vr (some (97, 1, 0)))] 121 3 [] Q)) else (Zm E YX8_emit d M (zargs 0 [vr (some (97, 1, 0)), vi (13 : Int32), vi l1, vi (0 : Int32)]) 0 [] (zma E YX8_unary (d + 1) [] 112 3 [] Q))) : Zm E YX8_unary (d + 1) M [(0, vr (some (97, 1, 0))), (1, vi l1)] 102 [] Q := by
  refine Zm.l (fun _ _ k_ => z_iload_n dX8_unary_102 rfl rfl k_) ?_
  refine Zm.l (fun _ _ k_ => z_iconst (v := 5) dX8_unary_103 rfl k_) ?_
  refine Zm.br (fun _ _ k1_ k2_ => z_icmp_ge (tgt := 118) dX8_unary_104 rfl k1_ k2_) (fun h_ => ?_) (fun h_ => ?_)
  · have k := zit h_ k
    refine Zm.l (fun _ _ k_ => z_aload_n dX8_unary_118 rfl rfl k_) ?_
    refine Zm.l (fun _ _ k_ => z_bipush (v := 17) dX8_unary_119 rfl k_) ?_
    refine Zm.pick [0] rfl ?_
    exact zm_callV (as := [vi (17 : Int32)]) (st := []) dX8_unary_121 vsX8_666_1 (Nat.le_refl _) (Nat.le_of_ble_eq_true rfl) (Nat.le_of_ble_eq_true rfl) rfl k
  · have k := zif h_ k
    refine Zm.l (fun _ _ k_ => z_aload_n dX8_unary_107 rfl rfl k_) ?_
    refine Zm.l (fun _ _ k_ => z_bipush (v := 13) dX8_unary_108 rfl k_) ?_
    refine Zm.l (fun _ _ k_ => z_iload_n dX8_unary_110 rfl rfl k_) ?_
    refine Zm.l (fun _ _ k_ => z_iconst (v := 0) dX8_unary_111 rfl k_) ?_
    refine Zm.pick [] rfl ?_
    exact zm_callV (as := [vi (13 : Int32), vi l1, vi (0 : Int32)]) (st := []) dX8_unary_112 vsX8_615_1 (Nat.le_refl _) (Nat.le_of_ble_eq_true rfl) (Nat.le_of_ble_eq_true rfl) rfl k
theorem sX8_unary_115 {E : zE} {d : Nat} {Q : zO → zM → Prop} (M : zM)  (k : Zm E YX8_unary (d + 1) M [] 130 [] Q) : Zm E YX8_unary (d + 1) M [] 115 [] Q := by
  refine Zm.l (fun _ _ k_ => z_goto (tgt := 130) dX8_unary_115 rfl k_) ?_
  exact k
theorem sX8_unary_124 {E : zE} {d : Nat} {Q : zO → zM → Prop} (M : zM)  (k : Zm E YX8_constant d M (zargs 0 [vr (some (97, 1, 0)), vi (0 : Int32), vi (0 : Int32)]) 0 [] (zma E YX8_unary (d + 1) [] 127 3 [] Q)) : Zm E YX8_unary (d + 1) M [(0, vr (some (97, 1, 0)))] 124 [] Q := by
  refine Zm.l (fun _ _ k_ => z_aload_n dX8_unary_124 rfl rfl k_) ?_
  refine Zm.l (fun _ _ k_ => z_iconst (v := 0) dX8_unary_125 rfl k_) ?_
  refine Zm.l (fun _ _ k_ => z_iconst (v := 0) dX8_unary_126 rfl k_) ?_
  refine Zm.pick [] rfl ?_
  exact zm_callV (as := [vi (0 : Int32), vi (0 : Int32)]) (st := []) dX8_unary_127 vsX8_656_1 (Nat.le_refl _) (Nat.le_of_ble_eq_true rfl) (Nat.le_of_ble_eq_true rfl) rfl k
theorem sX8_unary_130 {E : zE} {d : Nat} {Q : zO → zM → Prop} (M : zM)  (k : Q (.inl none) M) : Zm E YX8_unary (d + 1) M [] 130 [] Q := by
  exact zm_vret dX8_unary_130 rfl k
/-! ScriptTypesModel.mark()I -/
theorem bX8_mark_0 : zdec cX8_mark 0 [(0, .aload_n 0, 1), (1, .dup, 1), (2, .getfield 619, 3), (5, .iconst 1, 1), (6, .iadd, 1), (7, .putfield 619, 3), (10, .aload_n 0, 1), (11, .getfield 619, 3), (14, .iconst 1, 1), (15, .isub, 1), (16, .ireturn, 1)] = true := by decide +kernel
theorem dX8_mark_0 : decode cX8_mark 0 = .ok (.aload_n 0, 1) := zdec_at bX8_mark_0 0 rfl
theorem dX8_mark_1 : decode cX8_mark 1 = .ok (.dup, 1) := zdec_at bX8_mark_0 1 rfl
theorem dX8_mark_2 : decode cX8_mark 2 = .ok (.getfield 619, 3) := zdec_at bX8_mark_0 2 rfl
theorem dX8_mark_5 : decode cX8_mark 5 = .ok (.iconst 1, 1) := zdec_at bX8_mark_0 3 rfl
theorem dX8_mark_6 : decode cX8_mark 6 = .ok (.iadd, 1) := zdec_at bX8_mark_0 4 rfl
theorem dX8_mark_7 : decode cX8_mark 7 = .ok (.putfield 619, 3) := zdec_at bX8_mark_0 5 rfl
theorem dX8_mark_10 : decode cX8_mark 10 = .ok (.aload_n 0, 1) := zdec_at bX8_mark_0 6 rfl
theorem dX8_mark_11 : decode cX8_mark 11 = .ok (.getfield 619, 3) := zdec_at bX8_mark_0 7 rfl
theorem dX8_mark_14 : decode cX8_mark 14 = .ok (.iconst 1, 1) := zdec_at bX8_mark_0 8 rfl
theorem dX8_mark_15 : decode cX8_mark 15 = .ok (.isub, 1) := zdec_at bX8_mark_0 9 rfl
theorem dX8_mark_16 : decode cX8_mark 16 = .ok (.ireturn, 1) := zdec_at bX8_mark_0 10 rfl
theorem sX8_mark_0 {E : zE} {d : Nat} {Q : zO → zM → Prop} (M : zM)  (k : Q (.inl (some (vi (((gi M 97 53) + (1 : Int32)) - (1 : Int32))))) (si M 97 53 ((gi M 97 53) + (1 : Int32)))) : Zm E YX8_mark d M [(0, vr (some (97, 1, 0)))] 0 [] Q := by
  refine Zm.l (fun _ _ k_ => z_aload_n dX8_mark_0 rfl rfl k_) ?_
  refine Zm.l (fun _ _ k_ => z_dup dX8_mark_1 rfl k_) ?_
  refine zm_geti dX8_mark_2 fsX8_619_1 (by decide) (by decide) ?_
  refine Zm.l (fun _ _ k_ => z_iconst (v := 1) dX8_mark_5 rfl k_) ?_
  refine Zm.l (fun _ _ k_ => z_iadd dX8_mark_6 k_) ?_
  refine zm_puti (by decide) (by decide) dX8_mark_7 (zfwN.w fwX8_619_1) rfl ⟨rfl, rfl⟩ ?_
  refine Zm.l (fun _ _ k_ => z_aload_n dX8_mark_10 rfl rfl k_) ?_
  refine zm_geti dX8_mark_11 fsX8_619_1 (by decide) (by decide) ?_
  refine Zm.l (fun _ _ k_ => z_iconst (v := 1) dX8_mark_14 rfl k_) ?_
  refine Zm.l (fun _ _ k_ => z_isub dX8_mark_15 k_) ?_
  exact zm_iret dX8_mark_16 rfl rfl k
/-! ScriptTypesModel.here(I)V -/
theorem bX8_here_0 : zdec cX8_here 0 [(0, .aload_n 0, 1), (1, .getfield 104, 3), (4, .iload_n 1, 1), (5, .aload_n 0, 1), (6, .getfield 606, 3), (9, .iastore, 1), (10, .return_, 1)] = true := by decide +kernel
theorem dX8_here_0 : decode cX8_here 0 = .ok (.aload_n 0, 1) := zdec_at bX8_here_0 0 rfl
theorem dX8_here_1 : decode cX8_here 1 = .ok (.getfield 104, 3) := zdec_at bX8_here_0 1 rfl
theorem dX8_here_4 : decode cX8_here 4 = .ok (.iload_n 1, 1) := zdec_at bX8_here_0 2 rfl
theorem dX8_here_5 : decode cX8_here 5 = .ok (.aload_n 0, 1) := zdec_at bX8_here_0 3 rfl
theorem dX8_here_6 : decode cX8_here 6 = .ok (.getfield 606, 3) := zdec_at bX8_here_0 4 rfl
theorem dX8_here_9 : decode cX8_here 9 = .ok (.iastore, 1) := zdec_at bX8_here_0 5 rfl
theorem dX8_here_10 : decode cX8_here 10 = .ok (.return_, 1) := zdec_at bX8_here_0 6 rfl
theorem sX8_here_0 {E : zE} {d : Nat} {Q : zO → zM → Prop} (M : zM) (l1 : Int32) (k : vp_in l1 8000 ∧ (Q (.inl none) (si M 128 (l1).toNatClampNeg (gi M 97 46)))) : Zm E YX8_here d M [(0, vr (some (97, 1, 0))), (1, vi l1)] 0 [] Q := by
  refine Zm.l (fun _ _ k_ => z_aload_n dX8_here_0 rfl rfl k_) ?_
  refine zm_getr 30 dX8_here_1 fsX8_104_1 rfl ?_
  refine Zm.l (fun _ _ k_ => z_iload_n dX8_here_4 rfl rfl k_) ?_
  refine Zm.l (fun _ _ k_ => z_aload_n dX8_here_5 rfl rfl k_) ?_
  refine zm_geti dX8_here_6 fsX8_606_1 (by decide) (by decide) ?_
  obtain ⟨b_, k⟩ := k
  refine zm_iast dX8_here_9 b_ (by decide) (by decide) ?_
  exact zm_vret dX8_here_10 rfl k
/-! ScriptTypesModel.give(III)V -/
theorem bX8_give_0 : zdec cX8_give 0 [(0, .aload_n 0, 1), (1, .getfield 42, 3), (4, .iload_n 2, 1), (5, .iaload, 1), (6, .iconst 2, 1), (7, .if_icmp .ne 7, 3), (10, .iconst 1, 1), (11, .goto 4, 3), (14, .iconst 0, 1), (15, .istore 4, 2), (17, .iload 4, 2), (19, .ifCond .ne 23, 3), (22, .aload_n 0, 1), (23, .aload_n 0, 1), (24, .iload_n 2, 1), (25, .iconst 0, 1)] = true := by decide +kernel
theorem dX8_give_0 : decode cX8_give 0 = .ok (.aload_n 0, 1) := zdec_at bX8_give_0 0 rfl
theorem dX8_give_1 : decode cX8_give 1 = .ok (.getfield 42, 3) := zdec_at bX8_give_0 1 rfl
theorem dX8_give_4 : decode cX8_give 4 = .ok (.iload_n 2, 1) := zdec_at bX8_give_0 2 rfl
theorem dX8_give_5 : decode cX8_give 5 = .ok (.iaload, 1) := zdec_at bX8_give_0 3 rfl
theorem dX8_give_6 : decode cX8_give 6 = .ok (.iconst 2, 1) := zdec_at bX8_give_0 4 rfl
theorem dX8_give_7 : decode cX8_give 7 = .ok (.if_icmp .ne 7, 3) := zdec_at bX8_give_0 5 rfl
theorem dX8_give_10 : decode cX8_give 10 = .ok (.iconst 1, 1) := zdec_at bX8_give_0 6 rfl
theorem dX8_give_11 : decode cX8_give 11 = .ok (.goto 4, 3) := zdec_at bX8_give_0 7 rfl
theorem dX8_give_14 : decode cX8_give 14 = .ok (.iconst 0, 1) := zdec_at bX8_give_0 8 rfl
theorem dX8_give_15 : decode cX8_give 15 = .ok (.istore 4, 2) := zdec_at bX8_give_0 9 rfl
theorem dX8_give_17 : decode cX8_give 17 = .ok (.iload 4, 2) := zdec_at bX8_give_0 10 rfl
theorem dX8_give_19 : decode cX8_give 19 = .ok (.ifCond .ne 23, 3) := zdec_at bX8_give_0 11 rfl
theorem dX8_give_22 : decode cX8_give 22 = .ok (.aload_n 0, 1) := zdec_at bX8_give_0 12 rfl
theorem dX8_give_23 : decode cX8_give 23 = .ok (.aload_n 0, 1) := zdec_at bX8_give_0 13 rfl
theorem dX8_give_24 : decode cX8_give 24 = .ok (.iload_n 2, 1) := zdec_at bX8_give_0 14 rfl
theorem dX8_give_25 : decode cX8_give 25 = .ok (.iconst 0, 1) := zdec_at bX8_give_0 15 rfl
theorem bX8_give_26 : zdec cX8_give 26 [(26, .invokevirtual 644, 3), (29, .invokevirtual 668, 3), (32, .aload_n 0, 1), (33, .aload_n 0, 1), (34, .iload_n 2, 1), (35, .iconst 1, 1), (36, .invokevirtual 644, 3), (39, .invokevirtual 668, 3), (42, .iload_n 1, 1), (43, .iconst (-1), 1), (44, .if_icmp .eq 33, 3), (47, .iload 4, 2), (49, .ifCond .eq 16, 3), (52, .aload_n 0, 1), (53, .aload_n 0, 1), (54, .iload_n 2, 1)] = true := by decide +kernel
theorem dX8_give_26 : decode cX8_give 26 = .ok (.invokevirtual 644, 3) := zdec_at bX8_give_26 0 rfl
theorem dX8_give_29 : decode cX8_give 29 = .ok (.invokevirtual 668, 3) := zdec_at bX8_give_26 1 rfl
theorem dX8_give_32 : decode cX8_give 32 = .ok (.aload_n 0, 1) := zdec_at bX8_give_26 2 rfl
theorem dX8_give_33 : decode cX8_give 33 = .ok (.aload_n 0, 1) := zdec_at bX8_give_26 3 rfl
theorem dX8_give_34 : decode cX8_give 34 = .ok (.iload_n 2, 1) := zdec_at bX8_give_26 4 rfl
theorem dX8_give_35 : decode cX8_give 35 = .ok (.iconst 1, 1) := zdec_at bX8_give_26 5 rfl
theorem dX8_give_36 : decode cX8_give 36 = .ok (.invokevirtual 644, 3) := zdec_at bX8_give_26 6 rfl
theorem dX8_give_39 : decode cX8_give 39 = .ok (.invokevirtual 668, 3) := zdec_at bX8_give_26 7 rfl
theorem dX8_give_42 : decode cX8_give 42 = .ok (.iload_n 1, 1) := zdec_at bX8_give_26 8 rfl
theorem dX8_give_43 : decode cX8_give 43 = .ok (.iconst (-1), 1) := zdec_at bX8_give_26 9 rfl
theorem dX8_give_44 : decode cX8_give 44 = .ok (.if_icmp .eq 33, 3) := zdec_at bX8_give_26 10 rfl
theorem dX8_give_47 : decode cX8_give 47 = .ok (.iload 4, 2) := zdec_at bX8_give_26 11 rfl
theorem dX8_give_49 : decode cX8_give 49 = .ok (.ifCond .eq 16, 3) := zdec_at bX8_give_26 12 rfl
theorem dX8_give_52 : decode cX8_give 52 = .ok (.aload_n 0, 1) := zdec_at bX8_give_26 13 rfl
theorem dX8_give_53 : decode cX8_give 53 = .ok (.aload_n 0, 1) := zdec_at bX8_give_26 14 rfl
theorem dX8_give_54 : decode cX8_give 54 = .ok (.iload_n 2, 1) := zdec_at bX8_give_26 15 rfl
theorem bX8_give_55 : zdec cX8_give 55 [(55, .iconst 0, 1), (56, .invokevirtual 644, 3), (59, .invokevirtual 680, 3), (62, .goto 15, 3), (65, .aload_n 0, 1), (66, .bipush 19, 2), (68, .invokevirtual 666, 3), (71, .aload_n 0, 1), (72, .bipush 10, 2), (74, .invokevirtual 666, 3), (77, .aload_n 0, 1), (78, .iload_n 3, 1), (79, .invokevirtual 668, 3), (82, .iload_n 1, 1), (83, .iconst (-1), 1), (84, .if_icmp .eq 11, 3)] = true := by decide +kernel
theorem dX8_give_55 : decode cX8_give 55 = .ok (.iconst 0, 1) := zdec_at bX8_give_55 0 rfl
theorem dX8_give_56 : decode cX8_give 56 = .ok (.invokevirtual 644, 3) := zdec_at bX8_give_55 1 rfl
theorem dX8_give_59 : decode cX8_give 59 = .ok (.invokevirtual 680, 3) := zdec_at bX8_give_55 2 rfl
theorem dX8_give_62 : decode cX8_give 62 = .ok (.goto 15, 3) := zdec_at bX8_give_55 3 rfl
theorem dX8_give_65 : decode cX8_give 65 = .ok (.aload_n 0, 1) := zdec_at bX8_give_55 4 rfl
theorem dX8_give_66 : decode cX8_give 66 = .ok (.bipush 19, 2) := zdec_at bX8_give_55 5 rfl
theorem dX8_give_68 : decode cX8_give 68 = .ok (.invokevirtual 666, 3) := zdec_at bX8_give_55 6 rfl
theorem dX8_give_71 : decode cX8_give 71 = .ok (.aload_n 0, 1) := zdec_at bX8_give_55 7 rfl
theorem dX8_give_72 : decode cX8_give 72 = .ok (.bipush 10, 2) := zdec_at bX8_give_55 8 rfl
theorem dX8_give_74 : decode cX8_give 74 = .ok (.invokevirtual 666, 3) := zdec_at bX8_give_55 9 rfl
theorem dX8_give_77 : decode cX8_give 77 = .ok (.aload_n 0, 1) := zdec_at bX8_give_55 10 rfl
theorem dX8_give_78 : decode cX8_give 78 = .ok (.iload_n 3, 1) := zdec_at bX8_give_55 11 rfl
theorem dX8_give_79 : decode cX8_give 79 = .ok (.invokevirtual 668, 3) := zdec_at bX8_give_55 12 rfl
theorem dX8_give_82 : decode cX8_give 82 = .ok (.iload_n 1, 1) := zdec_at bX8_give_55 13 rfl
theorem dX8_give_83 : decode cX8_give 83 = .ok (.iconst (-1), 1) := zdec_at bX8_give_55 14 rfl
theorem dX8_give_84 : decode cX8_give 84 = .ok (.if_icmp .eq 11, 3) := zdec_at bX8_give_55 15 rfl
theorem bX8_give_87 : zdec cX8_give 87 [(87, .aload_n 0, 1), (88, .bipush 14, 2), (90, .iload_n 1, 1), (91, .iconst 0, 1), (92, .invokevirtual 615, 3), (95, .iload 4, 2), (97, .ifCond .eq 16, 3), (100, .aload_n 0, 1), (101, .aload_n 0, 1), (102, .iload_n 2, 1), (103, .iconst 0, 1), (104, .invokevirtual 644, 3), (107, .invokevirtual 704, 3), (110, .goto 9, 3), (113, .aload_n 0, 1), (114, .bipush 11, 2)] = true := by decide +kernel
theorem dX8_give_87 : decode cX8_give 87 = .ok (.aload_n 0, 1) := zdec_at bX8_give_87 0 rfl
theorem dX8_give_88 : decode cX8_give 88 = .ok (.bipush 14, 2) := zdec_at bX8_give_87 1 rfl
theorem dX8_give_90 : decode cX8_give 90 = .ok (.iload_n 1, 1) := zdec_at bX8_give_87 2 rfl
theorem dX8_give_91 : decode cX8_give 91 = .ok (.iconst 0, 1) := zdec_at bX8_give_87 3 rfl
theorem dX8_give_92 : decode cX8_give 92 = .ok (.invokevirtual 615, 3) := zdec_at bX8_give_87 4 rfl
theorem dX8_give_95 : decode cX8_give 95 = .ok (.iload 4, 2) := zdec_at bX8_give_87 5 rfl
theorem dX8_give_97 : decode cX8_give 97 = .ok (.ifCond .eq 16, 3) := zdec_at bX8_give_87 6 rfl
theorem dX8_give_100 : decode cX8_give 100 = .ok (.aload_n 0, 1) := zdec_at bX8_give_87 7 rfl
theorem dX8_give_101 : decode cX8_give 101 = .ok (.aload_n 0, 1) := zdec_at bX8_give_87 8 rfl
theorem dX8_give_102 : decode cX8_give 102 = .ok (.iload_n 2, 1) := zdec_at bX8_give_87 9 rfl
theorem dX8_give_103 : decode cX8_give 103 = .ok (.iconst 0, 1) := zdec_at bX8_give_87 10 rfl
theorem dX8_give_104 : decode cX8_give 104 = .ok (.invokevirtual 644, 3) := zdec_at bX8_give_87 11 rfl
theorem dX8_give_107 : decode cX8_give 107 = .ok (.invokevirtual 704, 3) := zdec_at bX8_give_87 12 rfl
theorem dX8_give_110 : decode cX8_give 110 = .ok (.goto 9, 3) := zdec_at bX8_give_87 13 rfl
theorem dX8_give_113 : decode cX8_give 113 = .ok (.aload_n 0, 1) := zdec_at bX8_give_87 14 rfl
theorem dX8_give_114 : decode cX8_give 114 = .ok (.bipush 11, 2) := zdec_at bX8_give_87 15 rfl
theorem bX8_give_116 : zdec cX8_give 116 [(116, .invokevirtual 666, 3), (119, .return_, 1)] = true := by decide +kernel
theorem dX8_give_116 : decode cX8_give 116 = .ok (.invokevirtual 666, 3) := zdec_at bX8_give_116 0 rfl
theorem dX8_give_119 : decode cX8_give 119 = .ok (.return_, 1) := zdec_at bX8_give_116 1 rfl
theorem sX8_give_0 {E : zE} {d : Nat} {Q : zO → zM → Prop} (M : zM) (l1 : Int32) (l2 : Int32) (l3 : Int32) (k : vp_in l2 12000 ∧ (if (gi M 108 (l2).toNatClampNeg) = (2 : Int32) then (Zm E YX8_give (d + 1) M [(0, vr (some (97, 1, 0))), (1, vi l1), (2, vi l2), (3, vi l3)] 15 [vi (1 : Int32)] Q) else (Zm E YX8_give (d + 1) M [(0, vr (some (97, 1, 0))), (1, vi l1), (2, vi l2), (3, vi l3)] 15 [vi (0 : Int32)] Q))) : Zm E YX8_give (d + 1) M [(0, vr (some (97, 1, 0))), (1, vi l1), (2, vi l2), (3, vi l3)] 0 [] Q := by
  refine Zm.l (fun _ _ k_ => z_aload_n dX8_give_0 rfl rfl k_) ?_
  refine zm_getr 10 dX8_give_1 fsX8_42_1 rfl ?_
  refine Zm.l (fun _ _ k_ => z_iload_n dX8_give_4 rfl rfl k_) ?_
  obtain ⟨b_, k⟩ := k
  refine zm_iald dX8_give_5 b_ (by decide) (by decide) ?_
  refine Zm.l (fun _ _ k_ => z_iconst (v := 2) dX8_give_6 rfl k_) ?_
  refine Zm.brn (fun _ _ k1_ k2_ => z_icmp_ne (tgt := 14) dX8_give_7 rfl k1_ k2_) (fun h_ => ?_) (fun h_ => ?_)
  · have k := zif h_ k
    refine Zm.l (fun _ _ k_ => z_iconst (v := 0) dX8_give_14 rfl k_) ?_
    exact k
  · have k := zit h_ k
    refine Zm.l (fun _ _ k_ => z_iconst (v := 1) dX8_give_10 rfl k_) ?_
    refine Zm.l (fun _ _ k_ => z_goto (tgt := 15) dX8_give_11 rfl k_) ?_
    exact k
theorem sX8_give_15 {E : zE} {d : Nat} {Q : zO → zM → Prop} (M : zM) (l1 : Int32) (l2 : Int32) (l3 : Int32) (s0 : Int32) (k : if s0 = 0 then (Zm E YX8_part d M (zargs 0 [vr (some (97, 1, 0)), vi l2, vi (0 : Int32)]) 0 [] (zma E YX8_give (d + 1) [(0, vr (some (97, 1, 0))), (1, vi l1), (2, vi l2), (3, vi l3), (4, vi s0)] 26 3 [vr (some (97, 1, 0))] Q)) else (Zm E YX8_give (d + 1) M [(0, vr (some (97, 1, 0))), (1, vi l1), (2, vi l2), (3, vi l3), (4, vi s0)] 42 [] Q)) : Zm E YX8_give (d + 1) M [(0, vr (some (97, 1, 0))), (1, vi l1), (2, vi l2), (3, vi l3)] 15 [vi s0] Q := by
  refine Zm.l (fun _ _ k_ => z_ist dX8_give_15 (by decide) (lv' := [(0, vr (some (97, 1, 0))), (1, vi l1), (2, vi l2), (3, vi l3), (4, vi s0)]) rfl k_) ?_
  refine Zm.l (fun _ _ k_ => z_iload dX8_give_17 rfl k_) ?_
  refine Zm.brn (fun _ _ k1_ k2_ => z_if_ne (tgt := 42) dX8_give_19 rfl k1_ k2_) (fun h_ => ?_) (fun h_ => ?_)
  · have k := zif h_ k
    exact k
  · have k := zit h_ k
    refine Zm.l (fun _ _ k_ => z_aload_n dX8_give_22 rfl rfl k_) ?_
    refine Zm.l (fun _ _ k_ => z_aload_n dX8_give_23 rfl rfl k_) ?_
    refine Zm.l (fun _ _ k_ => z_iload_n dX8_give_24 rfl rfl k_) ?_
    refine Zm.l (fun _ _ k_ => z_iconst (v := 0) dX8_give_25 rfl k_) ?_
    exact zm_callV (as := [vi l2, vi (0 : Int32)]) (st := [vr (some (97, 1, 0))]) dX8_give_26 vsX8_644_1 (Nat.le_refl _) (Nat.le_of_ble_eq_true rfl) (Nat.le_of_ble_eq_true rfl) rfl k
theorem sX8_give_29 {E : zE} {d : Nat} {Q : zO → zM → Prop} (M : zM) (l1 : Int32) (l2 : Int32) (l3 : Int32) (l4 : Int32) (s0 : Int32) (k : Zm E YX8_value d M (zargs 0 [vr (some (97, 1, 0)), vi s0]) 0 [] (zma E YX8_give (d + 1) [(0, vr (some (97, 1, 0))), (1, vi l1), (2, vi l2), (3, vi l3), (4, vi l4)] 29 3 [] Q)) : Zm E YX8_give (d + 1) M [(0, vr (some (97, 1, 0))), (1, vi l1), (2, vi l2), (3, vi l3), (4, vi l4)] 29 [vi s0, vr (some (97, 1, 0))] Q := by
  exact zm_callV (as := [vi s0]) (st := []) dX8_give_29 vsX8_668_1 (Nat.le_refl _) (Nat.le_of_ble_eq_true rfl) (Nat.le_of_ble_eq_true rfl) rfl k
theorem sX8_give_32 {E : zE} {d : Nat} {Q : zO → zM → Prop} (M : zM) (l1 : Int32) (l2 : Int32) (l3 : Int32) (l4 : Int32) (k : Zm E YX8_part d M (zargs 0 [vr (some (97, 1, 0)), vi l2, vi (1 : Int32)]) 0 [] (zma E YX8_give (d + 1) [(0, vr (some (97, 1, 0))), (1, vi l1), (2, vi l2), (3, vi l3), (4, vi l4)] 36 3 [vr (some (97, 1, 0))] Q)) : Zm E YX8_give (d + 1) M [(0, vr (some (97, 1, 0))), (1, vi l1), (2, vi l2), (3, vi l3), (4, vi l4)] 32 [] Q := by
  refine Zm.l (fun _ _ k_ => z_aload_n dX8_give_32 rfl rfl k_) ?_
  refine Zm.l (fun _ _ k_ => z_aload_n dX8_give_33 rfl rfl k_) ?_
  refine Zm.l (fun _ _ k_ => z_iload_n dX8_give_34 rfl rfl k_) ?_
  refine Zm.l (fun _ _ k_ => z_iconst (v := 1) dX8_give_35 rfl k_) ?_
  exact zm_callV (as := [vi l2, vi (1 : Int32)]) (st := [vr (some (97, 1, 0))]) dX8_give_36 vsX8_644_1 (Nat.le_refl _) (Nat.le_of_ble_eq_true rfl) (Nat.le_of_ble_eq_true rfl) rfl k
theorem sX8_give_39 {E : zE} {d : Nat} {Q : zO → zM → Prop} (M : zM) (l1 : Int32) (l2 : Int32) (l3 : Int32) (l4 : Int32) (s0 : Int32) (k : Zm E YX8_value d M (zargs 0 [vr (some (97, 1, 0)), vi s0]) 0 [] (zma E YX8_give (d + 1) [(0, vr (some (97, 1, 0))), (1, vi l1), (2, vi l2), (3, vi l3), (4, vi l4)] 39 3 [] Q)) : Zm E YX8_give (d + 1) M [(0, vr (some (97, 1, 0))), (1, vi l1), (2, vi l2), (3, vi l3), (4, vi l4)] 39 [vi s0, vr (some (97, 1, 0))] Q := by
  exact zm_callV (as := [vi s0]) (st := []) dX8_give_39 vsX8_668_1 (Nat.le_refl _) (Nat.le_of_ble_eq_true rfl) (Nat.le_of_ble_eq_true rfl) rfl k
theorem sX8_give_42 {E : zE} {d : Nat} {Q : zO → zM → Prop} (M : zM) (l1 : Int32) (l2 : Int32) (l3 : Int32) (l4 : Int32) (k : if l1 = (-1 : Int32) then (Zm E YX8_give (d + 1) M [(0, vr (some (97, 1, 0))), (1, vi l1), (2, vi l2), (3, vi l3), (4, vi l4)] 77 [] Q) else (if l4 = 0 then (Zm E YX8_emit_2 d M (zargs 0 [vr (some (97, 1, 0)), vi (19 : Int32)]) 0 [] (zma E YX8_give (d + 1) [(0, vr (some (97, 1, 0))), (1, vi l1), (2, vi l2), (3, vi l3), (4, vi l4)] 68 3 [] Q)) else (Zm E YX8_part d M (zargs 0 [vr (some (97, 1, 0)), vi l2, vi (0 : Int32)]) 0 [] (zma E YX8_give (d + 1) [(0, vr (some (97, 1, 0))), (1, vi l1), (2, vi l2), (3, vi l3), (4, vi l4)] 56 3 [vr (some (97, 1, 0))] Q)))) : Zm E YX8_give (d + 1) M [(0, vr (some (97, 1, 0))), (1, vi l1), (2, vi l2), (3, vi l3), (4, vi l4)] 42 [] Q := by
  refine Zm.l (fun _ _ k_ => z_iload_n dX8_give_42 rfl rfl k_) ?_
  refine Zm.l (fun _ _ k_ => z_iconst (v := -1) dX8_give_43 rfl k_) ?_
  refine Zm.br (fun _ _ k1_ k2_ => z_icmp_eq (tgt := 77) dX8_give_44 rfl k1_ k2_) (fun h_ => ?_) (fun h_ => ?_)
  · have k := zit h_ k
    exact k
  · have k := zif h_ k
    refine Zm.l (fun _ _ k_ => z_iload dX8_give_47 rfl k_) ?_
    refine Zm.br (fun _ _ k1_ k2_ => z_if_eq (tgt := 65) dX8_give_49 rfl k1_ k2_) (fun h_ => ?_) (fun h_ => ?_)
    · have k := zit h_ k
      refine Zm.l (fun _ _ k_ => z_aload_n dX8_give_65 rfl rfl k_) ?_
      refine Zm.l (fun _ _ k_ => z_bipush (v := 19) dX8_give_66 rfl k_) ?_
      exact zm_callV (as := [vi (19 : Int32)]) (st := []) dX8_give_68 vsX8_666_1 (Nat.le_refl _) (Nat.le_of_ble_eq_true rfl) (Nat.le_of_ble_eq_true rfl) rfl k
    · have k := zif h_ k
      refine Zm.l (fun _ _ k_ => z_aload_n dX8_give_52 rfl rfl k_) ?_
      refine Zm.l (fun _ _ k_ => z_aload_n dX8_give_53 rfl rfl k_) ?_
      refine Zm.l (fun _ _ k_ => z_iload_n dX8_give_54 rfl rfl k_) ?_
      refine Zm.l (fun _ _ k_ => z_iconst (v := 0) dX8_give_55 rfl k_) ?_
      exact zm_callV (as := [vi l2, vi (0 : Int32)]) (st := [vr (some (97, 1, 0))]) dX8_give_56 vsX8_644_1 (Nat.le_refl _) (Nat.le_of_ble_eq_true rfl) (Nat.le_of_ble_eq_true rfl) rfl k
theorem sX8_give_59 {E : zE} {d : Nat} {Q : zO → zM → Prop} (M : zM) (l1 : Int32) (l2 : Int32) (l3 : Int32) (l4 : Int32) (s0 : Int32) (k : Zm E YX8_get d M (zargs 0 [vr (some (97, 1, 0)), vi s0]) 0 [] (zma E YX8_give (d + 1) [(0, vr (some (97, 1, 0))), (1, vi l1), (2, vi l2), (3, vi l3), (4, vi l4)] 59 3 [] Q)) : Zm E YX8_give (d + 1) M [(0, vr (some (97, 1, 0))), (1, vi l1), (2, vi l2), (3, vi l3), (4, vi l4)] 59 [vi s0, vr (some (97, 1, 0))] Q := by
  exact zm_callV (as := [vi s0]) (st := []) dX8_give_59 vsX8_680_1 (Nat.le_refl _) (Nat.le_of_ble_eq_true rfl) (Nat.le_of_ble_eq_true rfl) rfl k
theorem sX8_give_62 {E : zE} {d : Nat} {Q : zO → zM → Prop} (M : zM) (l1 : Int32) (l2 : Int32) (l3 : Int32) (l4 : Int32) (k : Zm E YX8_give (d + 1) M [(0, vr (some (97, 1, 0))), (1, vi l1), (2, vi l2), (3, vi l3), (4, vi l4)] 77 [] Q) : Zm E YX8_give (d + 1) M [(0, vr (some (97, 1, 0))), (1, vi l1), (2, vi l2), (3, vi l3), (4, vi l4)] 62 [] Q := by
  refine Zm.l (fun _ _ k_ => z_goto (tgt := 77) dX8_give_62 rfl k_) ?_
  exact k
theorem sX8_give_71 {E : zE} {d : Nat} {Q : zO → zM → Prop} (M : zM) (l1 : Int32) (l2 : Int32) (l3 : Int32) (l4 : Int32) (k : Zm E YX8_emit_2 d M (zargs 0 [vr (some (97, 1, 0)), vi (10 : Int32)]) 0 [] (zma E YX8_give (d + 1) [(0, vr (some (97, 1, 0))), (1, vi l1), (2, vi l2), (3, vi l3), (4, vi l4)] 74 3 [] Q)) : Zm E YX8_give (d + 1) M [(0, vr (some (97, 1, 0))), (1, vi l1), (2, vi l2), (3, vi l3), (4, vi l4)] 71 [] Q := by
  refine Zm.l (fun _ _ k_ => z_aload_n dX8_give_71 rfl rfl k_) ?_
  refine Zm.l (fun _ _ k_ => z_bipush (v := 10) dX8_give_72 rfl k_) ?_
  exact zm_callV (as := [vi (10 : Int32)]) (st := []) dX8_give_74 vsX8_666_1 (Nat.le_refl _) (Nat.le_of_ble_eq_true rfl) (Nat.le_of_ble_eq_true rfl) rfl k
theorem sX8_give_77 {E : zE} {d : Nat} {Q : zO → zM → Prop} (M : zM) (l1 : Int32) (l2 : Int32) (l3 : Int32) (l4 : Int32) (k : Zm E YX8_value d M (zargs 0 [vr (some (97, 1, 0)), vi l3]) 0 [] (zma E YX8_give (d + 1) [(0, vr (some (97, 1, 0))), (1, vi l1), (2, vi l2), (4, vi l4)] 79 3 [] Q)) : Zm E YX8_give (d + 1) M [(0, vr (some (97, 1, 0))), (1, vi l1), (2, vi l2), (3, vi l3), (4, vi l4)] 77 [] Q := by
  refine Zm.l (fun _ _ k_ => z_aload_n dX8_give_77 rfl rfl k_) ?_
  refine Zm.l (fun _ _ k_ => z_iload_n dX8_give_78 rfl rfl k_) ?_
  refine Zm.pick [0, 1, 2, 4] rfl ?_
  exact zm_callV (as := [vi l3]) (st := []) dX8_give_79 vsX8_668_1 (Nat.le_refl _) (Nat.le_of_ble_eq_true rfl) (Nat.le_of_ble_eq_true rfl) rfl k
theorem sX8_give_82 {E : zE} {d : Nat} {Q : zO → zM → Prop} (M : zM) (l1 : Int32) (l2 : Int32) (l4 : Int32) (k : if l1 = (-1 : Int32) then (Zm E YX8_give (d + 1) M [(0, vr (some (97, 1, 0))), (2, vi l2), (4, vi l4)] 95 [] Q) else (Zm E YX8_emit d M (zargs 0 [vr (some (97, 1, 0)), vi (14 : Int32), vi l1, vi (0 : Int32)]) 0 [] (zma E YX8_give (d + 1) [(0, vr (some (97, 1, 0))), (2, vi l2), (4, vi l4)] 92 3 [] Q))) : Zm E YX8_give (d + 1) M [(0, vr (some (97, 1, 0))), (1, vi l1), (2, vi l2), (4, vi l4)] 82 [] Q := by
  refine Zm.l (fun _ _ k_ => z_iload_n dX8_give_82 rfl rfl k_) ?_
  refine Zm.l (fun _ _ k_ => z_iconst (v := -1) dX8_give_83 rfl k_) ?_
  refine Zm.br (fun _ _ k1_ k2_ => z_icmp_eq (tgt := 95) dX8_give_84 rfl k1_ k2_) (fun h_ => ?_) (fun h_ => ?_)
  · have k := zit h_ k
    refine Zm.pick [0, 2, 3] rfl ?_
    exact k
  · have k := zif h_ k
    refine Zm.l (fun _ _ k_ => z_aload_n dX8_give_87 rfl rfl k_) ?_
    refine Zm.l (fun _ _ k_ => z_bipush (v := 14) dX8_give_88 rfl k_) ?_
    refine Zm.l (fun _ _ k_ => z_iload_n dX8_give_90 rfl rfl k_) ?_
    refine Zm.l (fun _ _ k_ => z_iconst (v := 0) dX8_give_91 rfl k_) ?_
    refine Zm.pick [0, 2, 3] rfl ?_
    exact zm_callV (as := [vi (14 : Int32), vi l1, vi (0 : Int32)]) (st := []) dX8_give_92 vsX8_615_1 (Nat.le_refl _) (Nat.le_of_ble_eq_true rfl) (Nat.le_of_ble_eq_true rfl) rfl k
theorem sX8_give_95 {E : zE} {d : Nat} {Q : zO → zM → Prop} (M : zM) (l2 : Int32) (l4 : Int32) (k : if l4 = 0 then (Zm E YX8_emit_2 d M (zargs 0 [vr (some (97, 1, 0)), vi (11 : Int32)]) 0 [] (zma E YX8_give (d + 1) [] 116 3 [] Q)) else (Zm E YX8_part d M (zargs 0 [vr (some (97, 1, 0)), vi l2, vi (0 : Int32)]) 0 [] (zma E YX8_give (d + 1) [] 104 3 [vr (some (97, 1, 0))] Q))) : Zm E YX8_give (d + 1) M [(0, vr (some (97, 1, 0))), (2, vi l2), (4, vi l4)] 95 [] Q := by
  refine Zm.l (fun _ _ k_ => z_iload dX8_give_95 rfl k_) ?_
  refine Zm.br (fun _ _ k1_ k2_ => z_if_eq (tgt := 113) dX8_give_97 rfl k1_ k2_) (fun h_ => ?_) (fun h_ => ?_)
  · have k := zit h_ k
    refine Zm.l (fun _ _ k_ => z_aload_n dX8_give_113 rfl rfl k_) ?_
    refine Zm.l (fun _ _ k_ => z_bipush (v := 11) dX8_give_114 rfl k_) ?_
    refine Zm.pick [] rfl ?_
    exact zm_callV (as := [vi (11 : Int32)]) (st := []) dX8_give_116 vsX8_666_1 (Nat.le_refl _) (Nat.le_of_ble_eq_true rfl) (Nat.le_of_ble_eq_true rfl) rfl k
  · have k := zif h_ k
    refine Zm.l (fun _ _ k_ => z_aload_n dX8_give_100 rfl rfl k_) ?_
    refine Zm.l (fun _ _ k_ => z_aload_n dX8_give_101 rfl rfl k_) ?_
    refine Zm.l (fun _ _ k_ => z_iload_n dX8_give_102 rfl rfl k_) ?_
    refine Zm.l (fun _ _ k_ => z_iconst (v := 0) dX8_give_103 rfl k_) ?_
    refine Zm.pick [] rfl ?_
    exact zm_callV (as := [vi l2, vi (0 : Int32)]) (st := [vr (some (97, 1, 0))]) dX8_give_104 vsX8_644_1 (Nat.le_refl _) (Nat.le_of_ble_eq_true rfl) (Nat.le_of_ble_eq_true rfl) rfl k
theorem sX8_give_107 {E : zE} {d : Nat} {Q : zO → zM → Prop} (M : zM) (s0 : Int32) (k : Zm E YX8_set d M (zargs 0 [vr (some (97, 1, 0)), vi s0]) 0 [] (zma E YX8_give (d + 1) [] 107 3 [] Q)) : Zm E YX8_give (d + 1) M [] 107 [vi s0, vr (some (97, 1, 0))] Q := by
  exact zm_callV (as := [vi s0]) (st := []) dX8_give_107 vsX8_704_1 (Nat.le_refl _) (Nat.le_of_ble_eq_true rfl) (Nat.le_of_ble_eq_true rfl) rfl k
theorem sX8_give_110 {E : zE} {d : Nat} {Q : zO → zM → Prop} (M : zM)  (k : Zm E YX8_give (d + 1) M [] 119 [] Q) : Zm E YX8_give (d + 1) M [] 110 [] Q := by
  refine Zm.l (fun _ _ k_ => z_goto (tgt := 119) dX8_give_110 rfl k_) ?_
  exact k
theorem sX8_give_119 {E : zE} {d : Nat} {Q : zO → zM → Prop} (M : zM)  (k : Q (.inl none) M) : Zm E YX8_give (d + 1) M [] 119 [] Q := by
  exact zm_vret dX8_give_119 rfl k
/-! ScriptTypesModel.step(II)V -/
theorem bX8_step_0 : zdec cX8_step 0 [(0, .aload_n 0, 1), (1, .getfield 42, 3), (4, .iload_n 2, 1), (5, .iaload, 1), (6, .iconst 2, 1), (7, .if_icmp .ne 16, 3), (10, .aload_n 0, 1), (11, .aload_n 0, 1), (12, .iload_n 2, 1), (13, .iconst 0, 1), (14, .invokevirtual 644, 3), (17, .invokevirtual 680, 3), (20, .goto 35, 3), (23, .aload_n 0, 1), (24, .aload_n 0, 1), (25, .iload_n 2, 1)] = true := by decide +kernel
theorem dX8_step_0 : decode cX8_step 0 = .ok (.aload_n 0, 1) := zdec_at bX8_step_0 0 rfl
theorem dX8_step_1 : decode cX8_step 1 = .ok (.getfield 42, 3) := zdec_at bX8_step_0 1 rfl
theorem dX8_step_4 : decode cX8_step 4 = .ok (.iload_n 2, 1) := zdec_at bX8_step_0 2 rfl
theorem dX8_step_5 : decode cX8_step 5 = .ok (.iaload, 1) := zdec_at bX8_step_0 3 rfl
theorem dX8_step_6 : decode cX8_step 6 = .ok (.iconst 2, 1) := zdec_at bX8_step_0 4 rfl
theorem dX8_step_7 : decode cX8_step 7 = .ok (.if_icmp .ne 16, 3) := zdec_at bX8_step_0 5 rfl
theorem dX8_step_10 : decode cX8_step 10 = .ok (.aload_n 0, 1) := zdec_at bX8_step_0 6 rfl
theorem dX8_step_11 : decode cX8_step 11 = .ok (.aload_n 0, 1) := zdec_at bX8_step_0 7 rfl
theorem dX8_step_12 : decode cX8_step 12 = .ok (.iload_n 2, 1) := zdec_at bX8_step_0 8 rfl
theorem dX8_step_13 : decode cX8_step 13 = .ok (.iconst 0, 1) := zdec_at bX8_step_0 9 rfl
theorem dX8_step_14 : decode cX8_step 14 = .ok (.invokevirtual 644, 3) := zdec_at bX8_step_0 10 rfl
theorem dX8_step_17 : decode cX8_step 17 = .ok (.invokevirtual 680, 3) := zdec_at bX8_step_0 11 rfl
theorem dX8_step_20 : decode cX8_step 20 = .ok (.goto 35, 3) := zdec_at bX8_step_0 12 rfl
theorem dX8_step_23 : decode cX8_step 23 = .ok (.aload_n 0, 1) := zdec_at bX8_step_0 13 rfl
theorem dX8_step_24 : decode cX8_step 24 = .ok (.aload_n 0, 1) := zdec_at bX8_step_0 14 rfl
theorem dX8_step_25 : decode cX8_step 25 = .ok (.iload_n 2, 1) := zdec_at bX8_step_0 15 rfl
theorem bX8_step_26 : zdec cX8_step 26 [(26, .iconst 0, 1), (27, .invokevirtual 644, 3), (30, .invokevirtual 668, 3), (33, .aload_n 0, 1), (34, .aload_n 0, 1), (35, .iload_n 2, 1), (36, .iconst 1, 1), (37, .invokevirtual 644, 3), (40, .invokevirtual 668, 3), (43, .aload_n 0, 1), (44, .bipush 19, 2), (46, .invokevirtual 666, 3), (49, .aload_n 0, 1), (50, .bipush 10, 2), (52, .invokevirtual 666, 3), (55, .aload_n 0, 1)] = true := by decide +kernel
theorem dX8_step_26 : decode cX8_step 26 = .ok (.iconst 0, 1) := zdec_at bX8_step_26 0 rfl
theorem dX8_step_27 : decode cX8_step 27 = .ok (.invokevirtual 644, 3) := zdec_at bX8_step_26 1 rfl
theorem dX8_step_30 : decode cX8_step 30 = .ok (.invokevirtual 668, 3) := zdec_at bX8_step_26 2 rfl
theorem dX8_step_33 : decode cX8_step 33 = .ok (.aload_n 0, 1) := zdec_at bX8_step_26 3 rfl
theorem dX8_step_34 : decode cX8_step 34 = .ok (.aload_n 0, 1) := zdec_at bX8_step_26 4 rfl
theorem dX8_step_35 : decode cX8_step 35 = .ok (.iload_n 2, 1) := zdec_at bX8_step_26 5 rfl
theorem dX8_step_36 : decode cX8_step 36 = .ok (.iconst 1, 1) := zdec_at bX8_step_26 6 rfl
theorem dX8_step_37 : decode cX8_step 37 = .ok (.invokevirtual 644, 3) := zdec_at bX8_step_26 7 rfl
theorem dX8_step_40 : decode cX8_step 40 = .ok (.invokevirtual 668, 3) := zdec_at bX8_step_26 8 rfl
theorem dX8_step_43 : decode cX8_step 43 = .ok (.aload_n 0, 1) := zdec_at bX8_step_26 9 rfl
theorem dX8_step_44 : decode cX8_step 44 = .ok (.bipush 19, 2) := zdec_at bX8_step_26 10 rfl
theorem dX8_step_46 : decode cX8_step 46 = .ok (.invokevirtual 666, 3) := zdec_at bX8_step_26 11 rfl
theorem dX8_step_49 : decode cX8_step 49 = .ok (.aload_n 0, 1) := zdec_at bX8_step_26 12 rfl
theorem dX8_step_50 : decode cX8_step 50 = .ok (.bipush 10, 2) := zdec_at bX8_step_26 13 rfl
theorem dX8_step_52 : decode cX8_step 52 = .ok (.invokevirtual 666, 3) := zdec_at bX8_step_26 14 rfl
theorem dX8_step_55 : decode cX8_step 55 = .ok (.aload_n 0, 1) := zdec_at bX8_step_26 15 rfl
theorem bX8_step_56 : zdec cX8_step 56 [(56, .bipush 13, 2), (58, .iconst 0, 1), (59, .iconst 0, 1), (60, .invokevirtual 615, 3), (63, .aload_n 0, 1), (64, .iconst 5, 1), (65, .iconst 1, 1), (66, .invokevirtual 656, 3), (69, .aload_n 0, 1), (70, .bipush 14, 2), (72, .iload_n 1, 1), (73, .iconst 0, 1), (74, .invokevirtual 615, 3), (77, .aload_n 0, 1), (78, .getfield 42, 3), (81, .iload_n 2, 1)] = true := by decide +kernel
theorem dX8_step_56 : decode cX8_step 56 = .ok (.bipush 13, 2) := zdec_at bX8_step_56 0 rfl
theorem dX8_step_58 : decode cX8_step 58 = .ok (.iconst 0, 1) := zdec_at bX8_step_56 1 rfl
theorem dX8_step_59 : decode cX8_step 59 = .ok (.iconst 0, 1) := zdec_at bX8_step_56 2 rfl
theorem dX8_step_60 : decode cX8_step 60 = .ok (.invokevirtual 615, 3) := zdec_at bX8_step_56 3 rfl
theorem dX8_step_63 : decode cX8_step 63 = .ok (.aload_n 0, 1) := zdec_at bX8_step_56 4 rfl
theorem dX8_step_64 : decode cX8_step 64 = .ok (.iconst 5, 1) := zdec_at bX8_step_56 5 rfl
theorem dX8_step_65 : decode cX8_step 65 = .ok (.iconst 1, 1) := zdec_at bX8_step_56 6 rfl
theorem dX8_step_66 : decode cX8_step 66 = .ok (.invokevirtual 656, 3) := zdec_at bX8_step_56 7 rfl
theorem dX8_step_69 : decode cX8_step 69 = .ok (.aload_n 0, 1) := zdec_at bX8_step_56 8 rfl
theorem dX8_step_70 : decode cX8_step 70 = .ok (.bipush 14, 2) := zdec_at bX8_step_56 9 rfl
theorem dX8_step_72 : decode cX8_step 72 = .ok (.iload_n 1, 1) := zdec_at bX8_step_56 10 rfl
theorem dX8_step_73 : decode cX8_step 73 = .ok (.iconst 0, 1) := zdec_at bX8_step_56 11 rfl
theorem dX8_step_74 : decode cX8_step 74 = .ok (.invokevirtual 615, 3) := zdec_at bX8_step_56 12 rfl
theorem dX8_step_77 : decode cX8_step 77 = .ok (.aload_n 0, 1) := zdec_at bX8_step_56 13 rfl
theorem dX8_step_78 : decode cX8_step 78 = .ok (.getfield 42, 3) := zdec_at bX8_step_56 14 rfl
theorem dX8_step_81 : decode cX8_step 81 = .ok (.iload_n 2, 1) := zdec_at bX8_step_56 15 rfl
theorem bX8_step_82 : zdec cX8_step 82 [(82, .iaload, 1), (83, .iconst 2, 1), (84, .if_icmp .ne 16, 3), (87, .aload_n 0, 1), (88, .aload_n 0, 1), (89, .iload_n 2, 1), (90, .iconst 0, 1), (91, .invokevirtual 644, 3), (94, .invokevirtual 704, 3), (97, .goto 9, 3), (100, .aload_n 0, 1), (101, .bipush 11, 2), (103, .invokevirtual 666, 3), (106, .return_, 1)] = true := by decide +kernel
theorem dX8_step_82 : decode cX8_step 82 = .ok (.iaload, 1) := zdec_at bX8_step_82 0 rfl
theorem dX8_step_83 : decode cX8_step 83 = .ok (.iconst 2, 1) := zdec_at bX8_step_82 1 rfl
theorem dX8_step_84 : decode cX8_step 84 = .ok (.if_icmp .ne 16, 3) := zdec_at bX8_step_82 2 rfl
theorem dX8_step_87 : decode cX8_step 87 = .ok (.aload_n 0, 1) := zdec_at bX8_step_82 3 rfl
theorem dX8_step_88 : decode cX8_step 88 = .ok (.aload_n 0, 1) := zdec_at bX8_step_82 4 rfl
theorem dX8_step_89 : decode cX8_step 89 = .ok (.iload_n 2, 1) := zdec_at bX8_step_82 5 rfl
theorem dX8_step_90 : decode cX8_step 90 = .ok (.iconst 0, 1) := zdec_at bX8_step_82 6 rfl
theorem dX8_step_91 : decode cX8_step 91 = .ok (.invokevirtual 644, 3) := zdec_at bX8_step_82 7 rfl
theorem dX8_step_94 : decode cX8_step 94 = .ok (.invokevirtual 704, 3) := zdec_at bX8_step_82 8 rfl
theorem dX8_step_97 : decode cX8_step 97 = .ok (.goto 9, 3) := zdec_at bX8_step_82 9 rfl
theorem dX8_step_100 : decode cX8_step 100 = .ok (.aload_n 0, 1) := zdec_at bX8_step_82 10 rfl
theorem dX8_step_101 : decode cX8_step 101 = .ok (.bipush 11, 2) := zdec_at bX8_step_82 11 rfl
theorem dX8_step_103 : decode cX8_step 103 = .ok (.invokevirtual 666, 3) := zdec_at bX8_step_82 12 rfl
theorem dX8_step_106 : decode cX8_step 106 = .ok (.return_, 1) := zdec_at bX8_step_82 13 rfl
theorem sX8_step_0 {E : zE} {d : Nat} {Q : zO → zM → Prop} (M : zM) (l1 : Int32) (l2 : Int32) (k : vp_in l2 12000 ∧ (if (gi M 108 (l2).toNatClampNeg) = (2 : Int32) then (Zm E YX8_part d M (zargs 0 [vr (some (97, 1, 0)), vi l2, vi (0 : Int32)]) 0 [] (zma E YX8_step (d + 1) [(0, vr (some (97, 1, 0))), (1, vi l1), (2, vi l2)] 14 3 [vr (some (97, 1, 0))] Q)) else (Zm E YX8_part d M (zargs 0 [vr (some (97, 1, 0)), vi l2, vi (0 : Int32)]) 0 [] (zma E YX8_step (d + 1) [(0, vr (some (97, 1, 0))), (1, vi l1), (2, vi l2)] 27 3 [vr (some (97, 1, 0))] Q)))) : Zm E YX8_step (d + 1) M [(0, vr (some (97, 1, 0))), (1, vi l1), (2, vi l2)] 0 [] Q := by
  refine Zm.l (fun _ _ k_ => z_aload_n dX8_step_0 rfl rfl k_) ?_
  refine zm_getr 10 dX8_step_1 fsX8_42_1 rfl ?_
  refine Zm.l (fun _ _ k_ => z_iload_n dX8_step_4 rfl rfl k_) ?_
  obtain ⟨b_, k⟩ := k
  refine zm_iald dX8_step_5 b_ (by decide) (by decide) ?_
  refine Zm.l (fun _ _ k_ => z_iconst (v := 2) dX8_step_6 rfl k_) ?_
  refine Zm.brn (fun _ _ k1_ k2_ => z_icmp_ne (tgt := 23) dX8_step_7 rfl k1_ k2_) (fun h_ => ?_) (fun h_ => ?_)
  · have k := zif h_ k
    refine Zm.l (fun _ _ k_ => z_aload_n dX8_step_23 rfl rfl k_) ?_
    refine Zm.l (fun _ _ k_ => z_aload_n dX8_step_24 rfl rfl k_) ?_
    refine Zm.l (fun _ _ k_ => z_iload_n dX8_step_25 rfl rfl k_) ?_
    refine Zm.l (fun _ _ k_ => z_iconst (v := 0) dX8_step_26 rfl k_) ?_
    exact zm_callV (as := [vi l2, vi (0 : Int32)]) (st := [vr (some (97, 1, 0))]) dX8_step_27 vsX8_644_1 (Nat.le_refl _) (Nat.le_of_ble_eq_true rfl) (Nat.le_of_ble_eq_true rfl) rfl k
  · have k := zit h_ k
    refine Zm.l (fun _ _ k_ => z_aload_n dX8_step_10 rfl rfl k_) ?_
    refine Zm.l (fun _ _ k_ => z_aload_n dX8_step_11 rfl rfl k_) ?_
    refine Zm.l (fun _ _ k_ => z_iload_n dX8_step_12 rfl rfl k_) ?_
    refine Zm.l (fun _ _ k_ => z_iconst (v := 0) dX8_step_13 rfl k_) ?_
    exact zm_callV (as := [vi l2, vi (0 : Int32)]) (st := [vr (some (97, 1, 0))]) dX8_step_14 vsX8_644_1 (Nat.le_refl _) (Nat.le_of_ble_eq_true rfl) (Nat.le_of_ble_eq_true rfl) rfl k
theorem sX8_step_17 {E : zE} {d : Nat} {Q : zO → zM → Prop} (M : zM) (l1 : Int32) (l2 : Int32) (s0 : Int32) (k : Zm E YX8_get d M (zargs 0 [vr (some (97, 1, 0)), vi s0]) 0 [] (zma E YX8_step (d + 1) [(0, vr (some (97, 1, 0))), (1, vi l1), (2, vi l2)] 17 3 [] Q)) : Zm E YX8_step (d + 1) M [(0, vr (some (97, 1, 0))), (1, vi l1), (2, vi l2)] 17 [vi s0, vr (some (97, 1, 0))] Q := by
  exact zm_callV (as := [vi s0]) (st := []) dX8_step_17 vsX8_680_1 (Nat.le_refl _) (Nat.le_of_ble_eq_true rfl) (Nat.le_of_ble_eq_true rfl) rfl k
theorem sX8_step_20 {E : zE} {d : Nat} {Q : zO → zM → Prop} (M : zM) (l1 : Int32) (l2 : Int32) (k : Zm E YX8_step (d + 1) M [(0, vr (some (97, 1, 0))), (1, vi l1), (2, vi l2)] 55 [] Q) : Zm E YX8_step (d + 1) M [(0, vr (some (97, 1, 0))), (1, vi l1), (2, vi l2)] 20 [] Q := by
  refine Zm.l (fun _ _ k_ => z_goto (tgt := 55) dX8_step_20 rfl k_) ?_
  exact k
theorem sX8_step_30 {E : zE} {d : Nat} {Q : zO → zM → Prop} (M : zM) (l1 : Int32) (l2 : Int32) (s0 : Int32) (k : Zm E YX8_value d M (zargs 0 [vr (some (97, 1, 0)), vi s0]) 0 [] (zma E YX8_step (d + 1) [(0, vr (some (97, 1, 0))), (1, vi l1), (2, vi l2)] 30 3 [] Q)) : Zm E YX8_step (d + 1) M [(0, vr (some (97, 1, 0))), (1, vi l1), (2, vi l2)] 30 [vi s0, vr (some (97, 1, 0))] Q := by
  exact zm_callV (as := [vi s0]) (st := []) dX8_step_30 vsX8_668_1 (Nat.le_refl _) (Nat.le_of_ble_eq_true rfl) (Nat.le_of_ble_eq_true rfl) rfl k
theorem sX8_step_33 {E : zE} {d : Nat} {Q : zO → zM → Prop} (M : zM) (l1 : Int32) (l2 : Int32) (k : Zm E YX8_part d M (zargs 0 [vr (some (97, 1, 0)), vi l2, vi (1 : Int32)]) 0 [] (zma E YX8_step (d + 1) [(0, vr (some (97, 1, 0))), (1, vi l1), (2, vi l2)] 37 3 [vr (some (97, 1, 0))] Q)) : Zm E YX8_step (d + 1) M [(0, vr (some (97, 1, 0))), (1, vi l1), (2, vi l2)] 33 [] Q := by
  refine Zm.l (fun _ _ k_ => z_aload_n dX8_step_33 rfl rfl k_) ?_
  refine Zm.l (fun _ _ k_ => z_aload_n dX8_step_34 rfl rfl k_) ?_
  refine Zm.l (fun _ _ k_ => z_iload_n dX8_step_35 rfl rfl k_) ?_
  refine Zm.l (fun _ _ k_ => z_iconst (v := 1) dX8_step_36 rfl k_) ?_
  exact zm_callV (as := [vi l2, vi (1 : Int32)]) (st := [vr (some (97, 1, 0))]) dX8_step_37 vsX8_644_1 (Nat.le_refl _) (Nat.le_of_ble_eq_true rfl) (Nat.le_of_ble_eq_true rfl) rfl k
theorem sX8_step_40 {E : zE} {d : Nat} {Q : zO → zM → Prop} (M : zM) (l1 : Int32) (l2 : Int32) (s0 : Int32) (k : Zm E YX8_value d M (zargs 0 [vr (some (97, 1, 0)), vi s0]) 0 [] (zma E YX8_step (d + 1) [(0, vr (some (97, 1, 0))), (1, vi l1), (2, vi l2)] 40 3 [] Q)) : Zm E YX8_step (d + 1) M [(0, vr (some (97, 1, 0))), (1, vi l1), (2, vi l2)] 40 [vi s0, vr (some (97, 1, 0))] Q := by
  exact zm_callV (as := [vi s0]) (st := []) dX8_step_40 vsX8_668_1 (Nat.le_refl _) (Nat.le_of_ble_eq_true rfl) (Nat.le_of_ble_eq_true rfl) rfl k
theorem sX8_step_43 {E : zE} {d : Nat} {Q : zO → zM → Prop} (M : zM) (l1 : Int32) (l2 : Int32) (k : Zm E YX8_emit_2 d M (zargs 0 [vr (some (97, 1, 0)), vi (19 : Int32)]) 0 [] (zma E YX8_step (d + 1) [(0, vr (some (97, 1, 0))), (1, vi l1), (2, vi l2)] 46 3 [] Q)) : Zm E YX8_step (d + 1) M [(0, vr (some (97, 1, 0))), (1, vi l1), (2, vi l2)] 43 [] Q := by
  refine Zm.l (fun _ _ k_ => z_aload_n dX8_step_43 rfl rfl k_) ?_
  refine Zm.l (fun _ _ k_ => z_bipush (v := 19) dX8_step_44 rfl k_) ?_
  exact zm_callV (as := [vi (19 : Int32)]) (st := []) dX8_step_46 vsX8_666_1 (Nat.le_refl _) (Nat.le_of_ble_eq_true rfl) (Nat.le_of_ble_eq_true rfl) rfl k
theorem sX8_step_49 {E : zE} {d : Nat} {Q : zO → zM → Prop} (M : zM) (l1 : Int32) (l2 : Int32) (k : Zm E YX8_emit_2 d M (zargs 0 [vr (some (97, 1, 0)), vi (10 : Int32)]) 0 [] (zma E YX8_step (d + 1) [(0, vr (some (97, 1, 0))), (1, vi l1), (2, vi l2)] 52 3 [] Q)) : Zm E YX8_step (d + 1) M [(0, vr (some (97, 1, 0))), (1, vi l1), (2, vi l2)] 49 [] Q := by
  refine Zm.l (fun _ _ k_ => z_aload_n dX8_step_49 rfl rfl k_) ?_
  refine Zm.l (fun _ _ k_ => z_bipush (v := 10) dX8_step_50 rfl k_) ?_
  exact zm_callV (as := [vi (10 : Int32)]) (st := []) dX8_step_52 vsX8_666_1 (Nat.le_refl _) (Nat.le_of_ble_eq_true rfl) (Nat.le_of_ble_eq_true rfl) rfl k
theorem sX8_step_55 {E : zE} {d : Nat} {Q : zO → zM → Prop} (M : zM) (l1 : Int32) (l2 : Int32) (k : Zm E YX8_emit d M (zargs 0 [vr (some (97, 1, 0)), vi (13 : Int32), vi (0 : Int32), vi (0 : Int32)]) 0 [] (zma E YX8_step (d + 1) [(0, vr (some (97, 1, 0))), (1, vi l1), (2, vi l2)] 60 3 [] Q)) : Zm E YX8_step (d + 1) M [(0, vr (some (97, 1, 0))), (1, vi l1), (2, vi l2)] 55 [] Q := by
  refine Zm.l (fun _ _ k_ => z_aload_n dX8_step_55 rfl rfl k_) ?_
  refine Zm.l (fun _ _ k_ => z_bipush (v := 13) dX8_step_56 rfl k_) ?_
  refine Zm.l (fun _ _ k_ => z_iconst (v := 0) dX8_step_58 rfl k_) ?_
  refine Zm.l (fun _ _ k_ => z_iconst (v := 0) dX8_step_59 rfl k_) ?_
  exact zm_callV (as := [vi (13 : Int32), vi (0 : Int32), vi (0 : Int32)]) (st := []) dX8_step_60 vsX8_615_1 (Nat.le_refl _) (Nat.le_of_ble_eq_true rfl) (Nat.le_of_ble_eq_true rfl) rfl k
theorem sX8_step_63 {E : zE} {d : Nat} {Q : zO → zM → Prop} (M : zM) (l1 : Int32) (l2 : Int32) (k : Zm E YX8_constant d M (zargs 0 [vr (some (97, 1, 0)), vi (5 : Int32), vi (1 : Int32)]) 0 [] (zma E YX8_step (d + 1) [(0, vr (some (97, 1, 0))), (1, vi l1), (2, vi l2)] 66 3 [] Q)) : Zm E YX8_step (d + 1) M [(0, vr (some (97, 1, 0))), (1, vi l1), (2, vi l2)] 63 [] Q := by
  refine Zm.l (fun _ _ k_ => z_aload_n dX8_step_63 rfl rfl k_) ?_
  refine Zm.l (fun _ _ k_ => z_iconst (v := 5) dX8_step_64 rfl k_) ?_
  refine Zm.l (fun _ _ k_ => z_iconst (v := 1) dX8_step_65 rfl k_) ?_
  exact zm_callV (as := [vi (5 : Int32), vi (1 : Int32)]) (st := []) dX8_step_66 vsX8_656_1 (Nat.le_refl _) (Nat.le_of_ble_eq_true rfl) (Nat.le_of_ble_eq_true rfl) rfl k
theorem sX8_step_69 {E : zE} {d : Nat} {Q : zO → zM → Prop} (M : zM) (l1 : Int32) (l2 : Int32) (k : Zm E YX8_emit d M (zargs 0 [vr (some (97, 1, 0)), vi (14 : Int32), vi l1, vi (0 : Int32)]) 0 [] (zma E YX8_step (d + 1) [(0, vr (some (97, 1, 0))), (2, vi l2)] 74 3 [] Q)) : Zm E YX8_step (d + 1) M [(0, vr (some (97, 1, 0))), (1, vi l1), (2, vi l2)] 69 [] Q := by
  refine Zm.l (fun _ _ k_ => z_aload_n dX8_step_69 rfl rfl k_) ?_
  refine Zm.l (fun _ _ k_ => z_bipush (v := 14) dX8_step_70 rfl k_) ?_
  refine Zm.l (fun _ _ k_ => z_iload_n dX8_step_72 rfl rfl k_) ?_
  refine Zm.l (fun _ _ k_ => z_iconst (v := 0) dX8_step_73 rfl k_) ?_
  refine Zm.pick [0, 2] rfl ?_
  exact zm_callV (as := [vi (14 : Int32), vi l1, vi (0 : Int32)]) (st := []) dX8_step_74 vsX8_615_1 (Nat.le_refl _) (Nat.le_of_ble_eq_true rfl) (Nat.le_of_ble_eq_true rfl) rfl k
theorem sX8_step_77 {E : zE} {d : Nat} {Q : zO → zM → Prop} (M : zM) (l2 : Int32) (k : vp_in l2 12000 ∧ (if (gi M 108 (l2).toNatClampNeg) = (2 : Int32) then (Zm E YX8_part d M (zargs 0 [vr (some (97, 1, 0)), vi l2, vi (0 : Int32)]) 0 [] (zma E YX8_step (d + 1) [] 91 3 [vr (some (97, 1, 0))] Q)) else (Zm E YX8_emit_2 d M (zargs 0 [vr (some (97, 1, 0)), vi (11 : Int32)]) 0 [] (zma E YX8_step (d + 1) [] 103 3 [] Q)))) : Zm E YX8_step (d + 1) M [(0, vr (some (97, 1, 0))), (2, vi l2)] 77 [] Q := by
  refine Zm.l (fun _ _ k_ => z_aload_n dX8_step_77 rfl rfl k_) ?_
  refine zm_getr 10 dX8_step_78 fsX8_42_1 rfl ?_
  refine Zm.l (fun _ _ k_ => z_iload_n dX8_step_81 rfl rfl k_) ?_
  obtain ⟨b_, k⟩ := k
  refine zm_iald dX8_step_82 b_ (by decide) (by decide) ?_
  refine Zm.l (fun _ _ k_ => z_iconst (v := 2) dX8_step_83 rfl k_) ?_
  refine Zm.brn (fun _ _ k1_ k2_ => z_icmp_ne (tgt := 100) dX8_step_84 rfl k1_ k2_) (fun h_ => ?_) (fun h_ => ?_)
  · have k := zif h_ k
    refine Zm.l (fun _ _ k_ => z_aload_n dX8_step_100 rfl rfl k_) ?_
    refine Zm.l (fun _ _ k_ => z_bipush (v := 11) dX8_step_101 rfl k_) ?_
    refine Zm.pick [] rfl ?_
    exact zm_callV (as := [vi (11 : Int32)]) (st := []) dX8_step_103 vsX8_666_1 (Nat.le_refl _) (Nat.le_of_ble_eq_true rfl) (Nat.le_of_ble_eq_true rfl) rfl k
  · have k := zit h_ k
    refine Zm.l (fun _ _ k_ => z_aload_n dX8_step_87 rfl rfl k_) ?_
    refine Zm.l (fun _ _ k_ => z_aload_n dX8_step_88 rfl rfl k_) ?_
    refine Zm.l (fun _ _ k_ => z_iload_n dX8_step_89 rfl rfl k_) ?_
    refine Zm.l (fun _ _ k_ => z_iconst (v := 0) dX8_step_90 rfl k_) ?_
    refine Zm.pick [] rfl ?_
    exact zm_callV (as := [vi l2, vi (0 : Int32)]) (st := [vr (some (97, 1, 0))]) dX8_step_91 vsX8_644_1 (Nat.le_refl _) (Nat.le_of_ble_eq_true rfl) (Nat.le_of_ble_eq_true rfl) rfl k
theorem sX8_step_94 {E : zE} {d : Nat} {Q : zO → zM → Prop} (M : zM) (s0 : Int32) (k : Zm E YX8_set d M (zargs 0 [vr (some (97, 1, 0)), vi s0]) 0 [] (zma E YX8_step (d + 1) [] 94 3 [] Q)) : Zm E YX8_step (d + 1) M [] 94 [vi s0, vr (some (97, 1, 0))] Q := by
  exact zm_callV (as := [vi s0]) (st := []) dX8_step_94 vsX8_704_1 (Nat.le_refl _) (Nat.le_of_ble_eq_true rfl) (Nat.le_of_ble_eq_true rfl) rfl k
theorem sX8_step_97 {E : zE} {d : Nat} {Q : zO → zM → Prop} (M : zM)  (k : Zm E YX8_step (d + 1) M [] 106 [] Q) : Zm E YX8_step (d + 1) M [] 97 [] Q := by
  refine Zm.l (fun _ _ k_ => z_goto (tgt := 106) dX8_step_97 rfl k_) ?_
  exact k
theorem sX8_step_106 {E : zE} {d : Nat} {Q : zO → zM → Prop} (M : zM)  (k : Q (.inl none) M) : Zm E YX8_step (d + 1) M [] 106 [] Q := by
  exact zm_vret dX8_step_106 rfl k
/-! ScriptTypesModel.stepBehind(II)V -/
theorem bX8_stepBehind_0 : zdec cX8_stepBehind 0 [(0, .aload_n 0, 1), (1, .getfield 42, 3), (4, .iload_n 2, 1), (5, .iaload, 1), (6, .iconst 2, 1), (7, .if_icmp .ne 30, 3), (10, .aload_n 0, 1), (11, .aload_n 0, 1), (12, .iload_n 2, 1), (13, .iconst 0, 1), (14, .invokevirtual 644, 3), (17, .invokevirtual 680, 3), (20, .aload_n 0, 1), (21, .bipush 13, 2), (23, .iconst 0, 1), (24, .iconst 0, 1)] = true := by decide +kernel
theorem dX8_stepBehind_0 : decode cX8_stepBehind 0 = .ok (.aload_n 0, 1) := zdec_at bX8_stepBehind_0 0 rfl
theorem dX8_stepBehind_1 : decode cX8_stepBehind 1 = .ok (.getfield 42, 3) := zdec_at bX8_stepBehind_0 1 rfl
theorem dX8_stepBehind_4 : decode cX8_stepBehind 4 = .ok (.iload_n 2, 1) := zdec_at bX8_stepBehind_0 2 rfl
theorem dX8_stepBehind_5 : decode cX8_stepBehind 5 = .ok (.iaload, 1) := zdec_at bX8_stepBehind_0 3 rfl
theorem dX8_stepBehind_6 : decode cX8_stepBehind 6 = .ok (.iconst 2, 1) := zdec_at bX8_stepBehind_0 4 rfl
theorem dX8_stepBehind_7 : decode cX8_stepBehind 7 = .ok (.if_icmp .ne 30, 3) := zdec_at bX8_stepBehind_0 5 rfl
theorem dX8_stepBehind_10 : decode cX8_stepBehind 10 = .ok (.aload_n 0, 1) := zdec_at bX8_stepBehind_0 6 rfl
theorem dX8_stepBehind_11 : decode cX8_stepBehind 11 = .ok (.aload_n 0, 1) := zdec_at bX8_stepBehind_0 7 rfl
theorem dX8_stepBehind_12 : decode cX8_stepBehind 12 = .ok (.iload_n 2, 1) := zdec_at bX8_stepBehind_0 8 rfl
theorem dX8_stepBehind_13 : decode cX8_stepBehind 13 = .ok (.iconst 0, 1) := zdec_at bX8_stepBehind_0 9 rfl
theorem dX8_stepBehind_14 : decode cX8_stepBehind 14 = .ok (.invokevirtual 644, 3) := zdec_at bX8_stepBehind_0 10 rfl
theorem dX8_stepBehind_17 : decode cX8_stepBehind 17 = .ok (.invokevirtual 680, 3) := zdec_at bX8_stepBehind_0 11 rfl
theorem dX8_stepBehind_20 : decode cX8_stepBehind 20 = .ok (.aload_n 0, 1) := zdec_at bX8_stepBehind_0 12 rfl
theorem dX8_stepBehind_21 : decode cX8_stepBehind 21 = .ok (.bipush 13, 2) := zdec_at bX8_stepBehind_0 13 rfl
theorem dX8_stepBehind_23 : decode cX8_stepBehind 23 = .ok (.iconst 0, 1) := zdec_at bX8_stepBehind_0 14 rfl
theorem dX8_stepBehind_24 : decode cX8_stepBehind 24 = .ok (.iconst 0, 1) := zdec_at bX8_stepBehind_0 15 rfl
theorem bX8_stepBehind_25 : zdec cX8_stepBehind 25 [(25, .invokevirtual 615, 3), (28, .aload_n 0, 1), (29, .bipush 18, 2), (31, .invokevirtual 666, 3), (34, .goto 49, 3), (37, .aload_n 0, 1), (38, .aload_n 0, 1), (39, .iload_n 2, 1), (40, .iconst 0, 1), (41, .invokevirtual 644, 3), (44, .invokevirtual 668, 3), (47, .aload_n 0, 1), (48, .aload_n 0, 1), (49, .iload_n 2, 1), (50, .iconst 1, 1), (51, .invokevirtual 644, 3)] = true := by decide +kernel
theorem dX8_stepBehind_25 : decode cX8_stepBehind 25 = .ok (.invokevirtual 615, 3) := zdec_at bX8_stepBehind_25 0 rfl
theorem dX8_stepBehind_28 : decode cX8_stepBehind 28 = .ok (.aload_n 0, 1) := zdec_at bX8_stepBehind_25 1 rfl
theorem dX8_stepBehind_29 : decode cX8_stepBehind 29 = .ok (.bipush 18, 2) := zdec_at bX8_stepBehind_25 2 rfl
theorem dX8_stepBehind_31 : decode cX8_stepBehind 31 = .ok (.invokevirtual 666, 3) := zdec_at bX8_stepBehind_25 3 rfl
theorem dX8_stepBehind_34 : decode cX8_stepBehind 34 = .ok (.goto 49, 3) := zdec_at bX8_stepBehind_25 4 rfl
theorem dX8_stepBehind_37 : decode cX8_stepBehind 37 = .ok (.aload_n 0, 1) := zdec_at bX8_stepBehind_25 5 rfl
theorem dX8_stepBehind_38 : decode cX8_stepBehind 38 = .ok (.aload_n 0, 1) := zdec_at bX8_stepBehind_25 6 rfl
theorem dX8_stepBehind_39 : decode cX8_stepBehind 39 = .ok (.iload_n 2, 1) := zdec_at bX8_stepBehind_25 7 rfl
theorem dX8_stepBehind_40 : decode cX8_stepBehind 40 = .ok (.iconst 0, 1) := zdec_at bX8_stepBehind_25 8 rfl
theorem dX8_stepBehind_41 : decode cX8_stepBehind 41 = .ok (.invokevirtual 644, 3) := zdec_at bX8_stepBehind_25 9 rfl
theorem dX8_stepBehind_44 : decode cX8_stepBehind 44 = .ok (.invokevirtual 668, 3) := zdec_at bX8_stepBehind_25 10 rfl
theorem dX8_stepBehind_47 : decode cX8_stepBehind 47 = .ok (.aload_n 0, 1) := zdec_at bX8_stepBehind_25 11 rfl
theorem dX8_stepBehind_48 : decode cX8_stepBehind 48 = .ok (.aload_n 0, 1) := zdec_at bX8_stepBehind_25 12 rfl
theorem dX8_stepBehind_49 : decode cX8_stepBehind 49 = .ok (.iload_n 2, 1) := zdec_at bX8_stepBehind_25 13 rfl
theorem dX8_stepBehind_50 : decode cX8_stepBehind 50 = .ok (.iconst 1, 1) := zdec_at bX8_stepBehind_25 14 rfl
theorem dX8_stepBehind_51 : decode cX8_stepBehind 51 = .ok (.invokevirtual 644, 3) := zdec_at bX8_stepBehind_25 15 rfl
theorem bX8_stepBehind_54 : zdec cX8_stepBehind 54 [(54, .invokevirtual 668, 3), (57, .aload_n 0, 1), (58, .bipush 19, 2), (60, .invokevirtual 666, 3), (63, .aload_n 0, 1), (64, .bipush 10, 2), (66, .invokevirtual 666, 3), (69, .aload_n 0, 1), (70, .bipush 13, 2), (72, .iconst 0, 1), (73, .iconst 0, 1), (74, .invokevirtual 615, 3), (77, .aload_n 0, 1), (78, .bipush 20, 2), (80, .invokevirtual 666, 3), (83, .aload_n 0, 1)] = true := by decide +kernel
theorem dX8_stepBehind_54 : decode cX8_stepBehind 54 = .ok (.invokevirtual 668, 3) := zdec_at bX8_stepBehind_54 0 rfl
theorem dX8_stepBehind_57 : decode cX8_stepBehind 57 = .ok (.aload_n 0, 1) := zdec_at bX8_stepBehind_54 1 rfl
theorem dX8_stepBehind_58 : decode cX8_stepBehind 58 = .ok (.bipush 19, 2) := zdec_at bX8_stepBehind_54 2 rfl
theorem dX8_stepBehind_60 : decode cX8_stepBehind 60 = .ok (.invokevirtual 666, 3) := zdec_at bX8_stepBehind_54 3 rfl
theorem dX8_stepBehind_63 : decode cX8_stepBehind 63 = .ok (.aload_n 0, 1) := zdec_at bX8_stepBehind_54 4 rfl
theorem dX8_stepBehind_64 : decode cX8_stepBehind 64 = .ok (.bipush 10, 2) := zdec_at bX8_stepBehind_54 5 rfl
theorem dX8_stepBehind_66 : decode cX8_stepBehind 66 = .ok (.invokevirtual 666, 3) := zdec_at bX8_stepBehind_54 6 rfl
theorem dX8_stepBehind_69 : decode cX8_stepBehind 69 = .ok (.aload_n 0, 1) := zdec_at bX8_stepBehind_54 7 rfl
theorem dX8_stepBehind_70 : decode cX8_stepBehind 70 = .ok (.bipush 13, 2) := zdec_at bX8_stepBehind_54 8 rfl
theorem dX8_stepBehind_72 : decode cX8_stepBehind 72 = .ok (.iconst 0, 1) := zdec_at bX8_stepBehind_54 9 rfl
theorem dX8_stepBehind_73 : decode cX8_stepBehind 73 = .ok (.iconst 0, 1) := zdec_at bX8_stepBehind_54 10 rfl
theorem dX8_stepBehind_74 : decode cX8_stepBehind 74 = .ok (.invokevirtual 615, 3) := zdec_at bX8_stepBehind_54 11 rfl
theorem dX8_stepBehind_77 : decode cX8_stepBehind 77 = .ok (.aload_n 0, 1) := zdec_at bX8_stepBehind_54 12 rfl
theorem dX8_stepBehind_78 : decode cX8_stepBehind 78 = .ok (.bipush 20, 2) := zdec_at bX8_stepBehind_54 13 rfl
theorem dX8_stepBehind_80 : decode cX8_stepBehind 80 = .ok (.invokevirtual 666, 3) := zdec_at bX8_stepBehind_54 14 rfl
theorem dX8_stepBehind_83 : decode cX8_stepBehind 83 = .ok (.aload_n 0, 1) := zdec_at bX8_stepBehind_54 15 rfl
theorem bX8_stepBehind_84 : zdec cX8_stepBehind 84 [(84, .iconst 5, 1), (85, .iconst 1, 1), (86, .invokevirtual 656, 3), (89, .aload_n 0, 1), (90, .bipush 14, 2), (92, .iload_n 1, 1), (93, .iconst 0, 1), (94, .invokevirtual 615, 3), (97, .aload_n 0, 1), (98, .getfield 42, 3), (101, .iload_n 2, 1), (102, .iaload, 1), (103, .iconst 2, 1), (104, .if_icmp .ne 16, 3), (107, .aload_n 0, 1), (108, .aload_n 0, 1)] = true := by decide +kernel
theorem dX8_stepBehind_84 : decode cX8_stepBehind 84 = .ok (.iconst 5, 1) := zdec_at bX8_stepBehind_84 0 rfl
theorem dX8_stepBehind_85 : decode cX8_stepBehind 85 = .ok (.iconst 1, 1) := zdec_at bX8_stepBehind_84 1 rfl
theorem dX8_stepBehind_86 : decode cX8_stepBehind 86 = .ok (.invokevirtual 656, 3) := zdec_at bX8_stepBehind_84 2 rfl
theorem dX8_stepBehind_89 : decode cX8_stepBehind 89 = .ok (.aload_n 0, 1) := zdec_at bX8_stepBehind_84 3 rfl
theorem dX8_stepBehind_90 : decode cX8_stepBehind 90 = .ok (.bipush 14, 2) := zdec_at bX8_stepBehind_84 4 rfl
theorem dX8_stepBehind_92 : decode cX8_stepBehind 92 = .ok (.iload_n 1, 1) := zdec_at bX8_stepBehind_84 5 rfl
theorem dX8_stepBehind_93 : decode cX8_stepBehind 93 = .ok (.iconst 0, 1) := zdec_at bX8_stepBehind_84 6 rfl
theorem dX8_stepBehind_94 : decode cX8_stepBehind 94 = .ok (.invokevirtual 615, 3) := zdec_at bX8_stepBehind_84 7 rfl
theorem dX8_stepBehind_97 : decode cX8_stepBehind 97 = .ok (.aload_n 0, 1) := zdec_at bX8_stepBehind_84 8 rfl
theorem dX8_stepBehind_98 : decode cX8_stepBehind 98 = .ok (.getfield 42, 3) := zdec_at bX8_stepBehind_84 9 rfl
theorem dX8_stepBehind_101 : decode cX8_stepBehind 101 = .ok (.iload_n 2, 1) := zdec_at bX8_stepBehind_84 10 rfl
theorem dX8_stepBehind_102 : decode cX8_stepBehind 102 = .ok (.iaload, 1) := zdec_at bX8_stepBehind_84 11 rfl
theorem dX8_stepBehind_103 : decode cX8_stepBehind 103 = .ok (.iconst 2, 1) := zdec_at bX8_stepBehind_84 12 rfl
theorem dX8_stepBehind_104 : decode cX8_stepBehind 104 = .ok (.if_icmp .ne 16, 3) := zdec_at bX8_stepBehind_84 13 rfl
theorem dX8_stepBehind_107 : decode cX8_stepBehind 107 = .ok (.aload_n 0, 1) := zdec_at bX8_stepBehind_84 14 rfl
theorem dX8_stepBehind_108 : decode cX8_stepBehind 108 = .ok (.aload_n 0, 1) := zdec_at bX8_stepBehind_84 15 rfl
theorem bX8_stepBehind_109 : zdec cX8_stepBehind 109 [(109, .iload_n 2, 1), (110, .iconst 0, 1), (111, .invokevirtual 644, 3), (114, .invokevirtual 704, 3), (117, .goto 9, 3), (120, .aload_n 0, 1), (121, .bipush 11, 2), (123, .invokevirtual 666, 3), (126, .aload_n 0, 1), (127, .bipush 17, 2), (129, .invokevirtual 666, 3), (132, .return_, 1)] = true := by decide +kernel
theorem dX8_stepBehind_109 : decode cX8_stepBehind 109 = .ok (.iload_n 2, 1) := zdec_at bX8_stepBehind_109 0 rfl
theorem dX8_stepBehind_110 : decode cX8_stepBehind 110 = .ok (.iconst 0, 1) := zdec_at bX8_stepBehind_109 1 rfl
theorem dX8_stepBehind_111 : decode cX8_stepBehind 111 = .ok (.invokevirtual 644, 3) := zdec_at bX8_stepBehind_109 2 rfl
theorem dX8_stepBehind_114 : decode cX8_stepBehind 114 = .ok (.invokevirtual 704, 3) := zdec_at bX8_stepBehind_109 3 rfl
theorem dX8_stepBehind_117 : decode cX8_stepBehind 117 = .ok (.goto 9, 3) := zdec_at bX8_stepBehind_109 4 rfl
theorem dX8_stepBehind_120 : decode cX8_stepBehind 120 = .ok (.aload_n 0, 1) := zdec_at bX8_stepBehind_109 5 rfl
theorem dX8_stepBehind_121 : decode cX8_stepBehind 121 = .ok (.bipush 11, 2) := zdec_at bX8_stepBehind_109 6 rfl
theorem dX8_stepBehind_123 : decode cX8_stepBehind 123 = .ok (.invokevirtual 666, 3) := zdec_at bX8_stepBehind_109 7 rfl
theorem dX8_stepBehind_126 : decode cX8_stepBehind 126 = .ok (.aload_n 0, 1) := zdec_at bX8_stepBehind_109 8 rfl
theorem dX8_stepBehind_127 : decode cX8_stepBehind 127 = .ok (.bipush 17, 2) := zdec_at bX8_stepBehind_109 9 rfl
theorem dX8_stepBehind_129 : decode cX8_stepBehind 129 = .ok (.invokevirtual 666, 3) := zdec_at bX8_stepBehind_109 10 rfl
theorem dX8_stepBehind_132 : decode cX8_stepBehind 132 = .ok (.return_, 1) := zdec_at bX8_stepBehind_109 11 rfl
theorem sX8_stepBehind_0 {E : zE} {d : Nat} {Q : zO → zM → Prop} (M : zM) (l1 : Int32) (l2 : Int32) (k : vp_in l2 12000 ∧ (if (gi M 108 (l2).toNatClampNeg) = (2 : Int32) then (Zm E YX8_part d M (zargs 0 [vr (some (97, 1, 0)), vi l2, vi (0 : Int32)]) 0 [] (zma E YX8_stepBehind (d + 1) [(0, vr (some (97, 1, 0))), (1, vi l1), (2, vi l2)] 14 3 [vr (some (97, 1, 0))] Q)) else (Zm E YX8_part d M (zargs 0 [vr (some (97, 1, 0)), vi l2, vi (0 : Int32)]) 0 [] (zma E YX8_stepBehind (d + 1) [(0, vr (some (97, 1, 0))), (1, vi l1), (2, vi l2)] 41 3 [vr (some (97, 1, 0))] Q)))) : Zm E YX8_stepBehind (d + 1) M [(0, vr (some (97, 1, 0))), (1, vi l1), (2, vi l2)] 0 [] Q := by
  refine Zm.l (fun _ _ k_ => z_aload_n dX8_stepBehind_0 rfl rfl k_) ?_
  refine zm_getr 10 dX8_stepBehind_1 fsX8_42_1 rfl ?_
  refine Zm.l (fun _ _ k_ => z_iload_n dX8_stepBehind_4 rfl rfl k_) ?_
  obtain ⟨b_, k⟩ := k
  refine zm_iald dX8_stepBehind_5 b_ (by decide) (by decide) ?_
  refine Zm.l (fun _ _ k_ => z_iconst (v := 2) dX8_stepBehind_6 rfl k_) ?_
  refine Zm.brn (fun _ _ k1_ k2_ => z_icmp_ne (tgt := 37) dX8_stepBehind_7 rfl k1_ k2_) (fun h_ => ?_) (fun h_ => ?_)
  · have k := zif h_ k
    refine Zm.l (fun _ _ k_ => z_aload_n dX8_stepBehind_37 rfl rfl k_) ?_
    refine Zm.l (fun _ _ k_ => z_aload_n dX8_stepBehind_38 rfl rfl k_) ?_
    refine Zm.l (fun _ _ k_ => z_iload_n dX8_stepBehind_39 rfl rfl k_) ?_
    refine Zm.l (fun _ _ k_ => z_iconst (v := 0) dX8_stepBehind_40 rfl k_) ?_
    exact zm_callV (as := [vi l2, vi (0 : Int32)]) (st := [vr (some (97, 1, 0))]) dX8_stepBehind_41 vsX8_644_1 (Nat.le_refl _) (Nat.le_of_ble_eq_true rfl) (Nat.le_of_ble_eq_true rfl) rfl k
  · have k := zit h_ k
    refine Zm.l (fun _ _ k_ => z_aload_n dX8_stepBehind_10 rfl rfl k_) ?_
    refine Zm.l (fun _ _ k_ => z_aload_n dX8_stepBehind_11 rfl rfl k_) ?_
    refine Zm.l (fun _ _ k_ => z_iload_n dX8_stepBehind_12 rfl rfl k_) ?_
    refine Zm.l (fun _ _ k_ => z_iconst (v := 0) dX8_stepBehind_13 rfl k_) ?_
    exact zm_callV (as := [vi l2, vi (0 : Int32)]) (st := [vr (some (97, 1, 0))]) dX8_stepBehind_14 vsX8_644_1 (Nat.le_refl _) (Nat.le_of_ble_eq_true rfl) (Nat.le_of_ble_eq_true rfl) rfl k
theorem sX8_stepBehind_17 {E : zE} {d : Nat} {Q : zO → zM → Prop} (M : zM) (l1 : Int32) (l2 : Int32) (s0 : Int32) (k : Zm E YX8_get d M (zargs 0 [vr (some (97, 1, 0)), vi s0]) 0 [] (zma E YX8_stepBehind (d + 1) [(0, vr (some (97, 1, 0))), (1, vi l1), (2, vi l2)] 17 3 [] Q)) : Zm E YX8_stepBehind (d + 1) M [(0, vr (some (97, 1, 0))), (1, vi l1), (2, vi l2)] 17 [vi s0, vr (some (97, 1, 0))] Q := by
  exact zm_callV (as := [vi s0]) (st := []) dX8_stepBehind_17 vsX8_680_1 (Nat.le_refl _) (Nat.le_of_ble_eq_true rfl) (Nat.le_of_ble_eq_true rfl) rfl k
theorem sX8_stepBehind_20 {E : zE} {d : Nat} {Q : zO → zM → Prop} (M : zM) (l1 : Int32) (l2 : Int32) (k : Zm E YX8_emit d M (zargs 0 [vr (some (97, 1, 0)), vi (13 : Int32), vi (0 : Int32), vi (0 : Int32)]) 0 [] (zma E YX8_stepBehind (d + 1) [(0, vr (some (97, 1, 0))), (1, vi l1), (2, vi l2)] 25 3 [] Q)) : Zm E YX8_stepBehind (d + 1) M [(0, vr (some (97, 1, 0))), (1, vi l1), (2, vi l2)] 20 [] Q := by
  refine Zm.l (fun _ _ k_ => z_aload_n dX8_stepBehind_20 rfl rfl k_) ?_
  refine Zm.l (fun _ _ k_ => z_bipush (v := 13) dX8_stepBehind_21 rfl k_) ?_
  refine Zm.l (fun _ _ k_ => z_iconst (v := 0) dX8_stepBehind_23 rfl k_) ?_
  refine Zm.l (fun _ _ k_ => z_iconst (v := 0) dX8_stepBehind_24 rfl k_) ?_
  exact zm_callV (as := [vi (13 : Int32), vi (0 : Int32), vi (0 : Int32)]) (st := []) dX8_stepBehind_25 vsX8_615_1 (Nat.le_refl _) (Nat.le_of_ble_eq_true rfl) (Nat.le_of_ble_eq_true rfl) rfl k
theorem sX8_stepBehind_28 {E : zE} {d : Nat} {Q : zO → zM → Prop} (M : zM) (l1 : Int32) (l2 : Int32) (k : Zm E YX8_emit_2 d M (zargs 0 [vr (some (97, 1, 0)), vi (18 : Int32)]) 0 [] (zma E YX8_stepBehind (d + 1) [(0, vr (some (97, 1, 0))), (1, vi l1), (2, vi l2)] 31 3 [] Q)) : Zm E YX8_stepBehind (d + 1) M [(0, vr (some (97, 1, 0))), (1, vi l1), (2, vi l2)] 28 [] Q := by
  refine Zm.l (fun _ _ k_ => z_aload_n dX8_stepBehind_28 rfl rfl k_) ?_
  refine Zm.l (fun _ _ k_ => z_bipush (v := 18) dX8_stepBehind_29 rfl k_) ?_
  exact zm_callV (as := [vi (18 : Int32)]) (st := []) dX8_stepBehind_31 vsX8_666_1 (Nat.le_refl _) (Nat.le_of_ble_eq_true rfl) (Nat.le_of_ble_eq_true rfl) rfl k
theorem sX8_stepBehind_34 {E : zE} {d : Nat} {Q : zO → zM → Prop} (M : zM) (l1 : Int32) (l2 : Int32) (k : Zm E YX8_stepBehind (d + 1) M [(0, vr (some (97, 1, 0))), (1, vi l1), (2, vi l2)] 83 [] Q) : Zm E YX8_stepBehind (d + 1) M [(0, vr (some (97, 1, 0))), (1, vi l1), (2, vi l2)] 34 [] Q := by
  refine Zm.l (fun _ _ k_ => z_goto (tgt := 83) dX8_stepBehind_34 rfl k_) ?_
  exact k
theorem sX8_stepBehind_44 {E : zE} {d : Nat} {Q : zO → zM → Prop} (M : zM) (l1 : Int32) (l2 : Int32) (s0 : Int32) (k : Zm E YX8_value d M (zargs 0 [vr (some (97, 1, 0)), vi s0]) 0 [] (zma E YX8_stepBehind (d + 1) [(0, vr (some (97, 1, 0))), (1, vi l1), (2, vi l2)] 44 3 [] Q)) : Zm E YX8_stepBehind (d + 1) M [(0, vr (some (97, 1, 0))), (1, vi l1), (2, vi l2)] 44 [vi s0, vr (some (97, 1, 0))] Q := by
  exact zm_callV (as := [vi s0]) (st := []) dX8_stepBehind_44 vsX8_668_1 (Nat.le_refl _) (Nat.le_of_ble_eq_true rfl) (Nat.le_of_ble_eq_true rfl) rfl k
theorem sX8_stepBehind_47 {E : zE} {d : Nat} {Q : zO → zM → Prop} (M : zM) (l1 : Int32) (l2 : Int32) (k : Zm E YX8_part d M (zargs 0 [vr (some (97, 1, 0)), vi l2, vi (1 : Int32)]) 0 [] (zma E YX8_stepBehind (d + 1) [(0, vr (some (97, 1, 0))), (1, vi l1), (2, vi l2)] 51 3 [vr (some (97, 1, 0))] Q)) : Zm E YX8_stepBehind (d + 1) M [(0, vr (some (97, 1, 0))), (1, vi l1), (2, vi l2)] 47 [] Q := by
  refine Zm.l (fun _ _ k_ => z_aload_n dX8_stepBehind_47 rfl rfl k_) ?_
  refine Zm.l (fun _ _ k_ => z_aload_n dX8_stepBehind_48 rfl rfl k_) ?_
  refine Zm.l (fun _ _ k_ => z_iload_n dX8_stepBehind_49 rfl rfl k_) ?_
  refine Zm.l (fun _ _ k_ => z_iconst (v := 1) dX8_stepBehind_50 rfl k_) ?_
  exact zm_callV (as := [vi l2, vi (1 : Int32)]) (st := [vr (some (97, 1, 0))]) dX8_stepBehind_51 vsX8_644_1 (Nat.le_refl _) (Nat.le_of_ble_eq_true rfl) (Nat.le_of_ble_eq_true rfl) rfl k
theorem sX8_stepBehind_54 {E : zE} {d : Nat} {Q : zO → zM → Prop} (M : zM) (l1 : Int32) (l2 : Int32) (s0 : Int32) (k : Zm E YX8_value d M (zargs 0 [vr (some (97, 1, 0)), vi s0]) 0 [] (zma E YX8_stepBehind (d + 1) [(0, vr (some (97, 1, 0))), (1, vi l1), (2, vi l2)] 54 3 [] Q)) : Zm E YX8_stepBehind (d + 1) M [(0, vr (some (97, 1, 0))), (1, vi l1), (2, vi l2)] 54 [vi s0, vr (some (97, 1, 0))] Q := by
  exact zm_callV (as := [vi s0]) (st := []) dX8_stepBehind_54 vsX8_668_1 (Nat.le_refl _) (Nat.le_of_ble_eq_true rfl) (Nat.le_of_ble_eq_true rfl) rfl k
theorem sX8_stepBehind_57 {E : zE} {d : Nat} {Q : zO → zM → Prop} (M : zM) (l1 : Int32) (l2 : Int32) (k : Zm E YX8_emit_2 d M (zargs 0 [vr (some (97, 1, 0)), vi (19 : Int32)]) 0 [] (zma E YX8_stepBehind (d + 1) [(0, vr (some (97, 1, 0))), (1, vi l1), (2, vi l2)] 60 3 [] Q)) : Zm E YX8_stepBehind (d + 1) M [(0, vr (some (97, 1, 0))), (1, vi l1), (2, vi l2)] 57 [] Q := by
  refine Zm.l (fun _ _ k_ => z_aload_n dX8_stepBehind_57 rfl rfl k_) ?_
  refine Zm.l (fun _ _ k_ => z_bipush (v := 19) dX8_stepBehind_58 rfl k_) ?_
  exact zm_callV (as := [vi (19 : Int32)]) (st := []) dX8_stepBehind_60 vsX8_666_1 (Nat.le_refl _) (Nat.le_of_ble_eq_true rfl) (Nat.le_of_ble_eq_true rfl) rfl k
theorem sX8_stepBehind_63 {E : zE} {d : Nat} {Q : zO → zM → Prop} (M : zM) (l1 : Int32) (l2 : Int32) (k : Zm E YX8_emit_2 d M (zargs 0 [vr (some (97, 1, 0)), vi (10 : Int32)]) 0 [] (zma E YX8_stepBehind (d + 1) [(0, vr (some (97, 1, 0))), (1, vi l1), (2, vi l2)] 66 3 [] Q)) : Zm E YX8_stepBehind (d + 1) M [(0, vr (some (97, 1, 0))), (1, vi l1), (2, vi l2)] 63 [] Q := by
  refine Zm.l (fun _ _ k_ => z_aload_n dX8_stepBehind_63 rfl rfl k_) ?_
  refine Zm.l (fun _ _ k_ => z_bipush (v := 10) dX8_stepBehind_64 rfl k_) ?_
  exact zm_callV (as := [vi (10 : Int32)]) (st := []) dX8_stepBehind_66 vsX8_666_1 (Nat.le_refl _) (Nat.le_of_ble_eq_true rfl) (Nat.le_of_ble_eq_true rfl) rfl k
theorem sX8_stepBehind_69 {E : zE} {d : Nat} {Q : zO → zM → Prop} (M : zM) (l1 : Int32) (l2 : Int32) (k : Zm E YX8_emit d M (zargs 0 [vr (some (97, 1, 0)), vi (13 : Int32), vi (0 : Int32), vi (0 : Int32)]) 0 [] (zma E YX8_stepBehind (d + 1) [(0, vr (some (97, 1, 0))), (1, vi l1), (2, vi l2)] 74 3 [] Q)) : Zm E YX8_stepBehind (d + 1) M [(0, vr (some (97, 1, 0))), (1, vi l1), (2, vi l2)] 69 [] Q := by
  refine Zm.l (fun _ _ k_ => z_aload_n dX8_stepBehind_69 rfl rfl k_) ?_
  refine Zm.l (fun _ _ k_ => z_bipush (v := 13) dX8_stepBehind_70 rfl k_) ?_
  refine Zm.l (fun _ _ k_ => z_iconst (v := 0) dX8_stepBehind_72 rfl k_) ?_
  refine Zm.l (fun _ _ k_ => z_iconst (v := 0) dX8_stepBehind_73 rfl k_) ?_
  exact zm_callV (as := [vi (13 : Int32), vi (0 : Int32), vi (0 : Int32)]) (st := []) dX8_stepBehind_74 vsX8_615_1 (Nat.le_refl _) (Nat.le_of_ble_eq_true rfl) (Nat.le_of_ble_eq_true rfl) rfl k
theorem sX8_stepBehind_77 {E : zE} {d : Nat} {Q : zO → zM → Prop} (M : zM) (l1 : Int32) (l2 : Int32) (k : Zm E YX8_emit_2 d M (zargs 0 [vr (some (97, 1, 0)), vi (20 : Int32)]) 0 [] (zma E YX8_stepBehind (d + 1) [(0, vr (some (97, 1, 0))), (1, vi l1), (2, vi l2)] 80 3 [] Q)) : Zm E YX8_stepBehind (d + 1) M [(0, vr (some (97, 1, 0))), (1, vi l1), (2, vi l2)] 77 [] Q := by
  refine Zm.l (fun _ _ k_ => z_aload_n dX8_stepBehind_77 rfl rfl k_) ?_
  refine Zm.l (fun _ _ k_ => z_bipush (v := 20) dX8_stepBehind_78 rfl k_) ?_
  exact zm_callV (as := [vi (20 : Int32)]) (st := []) dX8_stepBehind_80 vsX8_666_1 (Nat.le_refl _) (Nat.le_of_ble_eq_true rfl) (Nat.le_of_ble_eq_true rfl) rfl k
theorem sX8_stepBehind_83 {E : zE} {d : Nat} {Q : zO → zM → Prop} (M : zM) (l1 : Int32) (l2 : Int32) (k : Zm E YX8_constant d M (zargs 0 [vr (some (97, 1, 0)), vi (5 : Int32), vi (1 : Int32)]) 0 [] (zma E YX8_stepBehind (d + 1) [(0, vr (some (97, 1, 0))), (1, vi l1), (2, vi l2)] 86 3 [] Q)) : Zm E YX8_stepBehind (d + 1) M [(0, vr (some (97, 1, 0))), (1, vi l1), (2, vi l2)] 83 [] Q := by
  refine Zm.l (fun _ _ k_ => z_aload_n dX8_stepBehind_83 rfl rfl k_) ?_
  refine Zm.l (fun _ _ k_ => z_iconst (v := 5) dX8_stepBehind_84 rfl k_) ?_
  refine Zm.l (fun _ _ k_ => z_iconst (v := 1) dX8_stepBehind_85 rfl k_) ?_
  exact zm_callV (as := [vi (5 : Int32), vi (1 : Int32)]) (st := []) dX8_stepBehind_86 vsX8_656_1 (Nat.le_refl _) (Nat.le_of_ble_eq_true rfl) (Nat.le_of_ble_eq_true rfl) rfl k
theorem sX8_stepBehind_89 {E : zE} {d : Nat} {Q : zO → zM → Prop} (M : zM) (l1 : Int32) (l2 : Int32) (k : Zm E YX8_emit d M (zargs 0 [vr (some (97, 1, 0)), vi (14 : Int32), vi l1, vi (0 : Int32)]) 0 [] (zma E YX8_stepBehind (d + 1) [(0, vr (some (97, 1, 0))), (2, vi l2)] 94 3 [] Q)) : Zm E YX8_stepBehind (d + 1) M [(0, vr (some (97, 1, 0))), (1, vi l1), (2, vi l2)] 89 [] Q := by
  refine Zm.l (fun _ _ k_ => z_aload_n dX8_stepBehind_89 rfl rfl k_) ?_
  refine Zm.l (fun _ _ k_ => z_bipush (v := 14) dX8_stepBehind_90 rfl k_) ?_
  refine Zm.l (fun _ _ k_ => z_iload_n dX8_stepBehind_92 rfl rfl k_) ?_
  refine Zm.l (fun _ _ k_ => z_iconst (v := 0) dX8_stepBehind_93 rfl k_) ?_
  refine Zm.pick [0, 2] rfl ?_
  exact zm_callV (as := [vi (14 : Int32), vi l1, vi (0 : Int32)]) (st := []) dX8_stepBehind_94 vsX8_615_1 (Nat.le_refl _) (Nat.le_of_ble_eq_true rfl) (Nat.le_of_ble_eq_true rfl) rfl k
theorem sX8_stepBehind_97 {E : zE} {d : Nat} {Q : zO → zM → Prop} (M : zM) (l2 : Int32) (k : vp_in l2 12000 ∧ (if (gi M 108 (l2).toNatClampNeg) = (2 : Int32) then (Zm E YX8_part d M (zargs 0 [vr (some (97, 1, 0)), vi l2, vi (0 : Int32)]) 0 [] (zma E YX8_stepBehind (d + 1) [(0, vr (some (97, 1, 0)))] 111 3 [vr (some (97, 1, 0))] Q)) else (Zm E YX8_emit_2 d M (zargs 0 [vr (some (97, 1, 0)), vi (11 : Int32)]) 0 [] (zma E YX8_stepBehind (d + 1) [(0, vr (some (97, 1, 0)))] 123 3 [] Q)))) : Zm E YX8_stepBehind (d + 1) M [(0, vr (some (97, 1, 0))), (2, vi l2)] 97 [] Q := by
  refine Zm.l (fun _ _ k_ => z_aload_n dX8_stepBehind_97 rfl rfl k_) ?_
  refine zm_getr 10 dX8_stepBehind_98 fsX8_42_1 rfl ?_
  refine Zm.l (fun _ _ k_ => z_iload_n dX8_stepBehind_101 rfl rfl k_) ?_
  obtain ⟨b_, k⟩ := k
  refine zm_iald dX8_stepBehind_102 b_ (by decide) (by decide) ?_
  refine Zm.l (fun _ _ k_ => z_iconst (v := 2) dX8_stepBehind_103 rfl k_) ?_
  refine Zm.brn (fun _ _ k1_ k2_ => z_icmp_ne (tgt := 120) dX8_stepBehind_104 rfl k1_ k2_) (fun h_ => ?_) (fun h_ => ?_)
  · have k := zif h_ k
    refine Zm.l (fun _ _ k_ => z_aload_n dX8_stepBehind_120 rfl rfl k_) ?_
    refine Zm.l (fun _ _ k_ => z_bipush (v := 11) dX8_stepBehind_121 rfl k_) ?_
    refine Zm.pick [0] rfl ?_
    exact zm_callV (as := [vi (11 : Int32)]) (st := []) dX8_stepBehind_123 vsX8_666_1 (Nat.le_refl _) (Nat.le_of_ble_eq_true rfl) (Nat.le_of_ble_eq_true rfl) rfl k
  · have k := zit h_ k
    refine Zm.l (fun _ _ k_ => z_aload_n dX8_stepBehind_107 rfl rfl k_) ?_
    refine Zm.l (fun _ _ k_ => z_aload_n dX8_stepBehind_108 rfl rfl k_) ?_
    refine Zm.l (fun _ _ k_ => z_iload_n dX8_stepBehind_109 rfl rfl k_) ?_
    refine Zm.l (fun _ _ k_ => z_iconst (v := 0) dX8_stepBehind_110 rfl k_) ?_
    refine Zm.pick [0] rfl ?_
    exact zm_callV (as := [vi l2, vi (0 : Int32)]) (st := [vr (some (97, 1, 0))]) dX8_stepBehind_111 vsX8_644_1 (Nat.le_refl _) (Nat.le_of_ble_eq_true rfl) (Nat.le_of_ble_eq_true rfl) rfl k
theorem sX8_stepBehind_114 {E : zE} {d : Nat} {Q : zO → zM → Prop} (M : zM) (s0 : Int32) (k : Zm E YX8_set d M (zargs 0 [vr (some (97, 1, 0)), vi s0]) 0 [] (zma E YX8_stepBehind (d + 1) [(0, vr (some (97, 1, 0)))] 114 3 [] Q)) : Zm E YX8_stepBehind (d + 1) M [(0, vr (some (97, 1, 0)))] 114 [vi s0, vr (some (97, 1, 0))] Q := by
  exact zm_callV (as := [vi s0]) (st := []) dX8_stepBehind_114 vsX8_704_1 (Nat.le_refl _) (Nat.le_of_ble_eq_true rfl) (Nat.le_of_ble_eq_true rfl) rfl k
theorem sX8_stepBehind_117 {E : zE} {d : Nat} {Q : zO → zM → Prop} (M : zM)  (k : Zm E YX8_stepBehind (d + 1) M [(0, vr (some (97, 1, 0)))] 126 [] Q) : Zm E YX8_stepBehind (d + 1) M [(0, vr (some (97, 1, 0)))] 117 [] Q := by
  refine Zm.l (fun _ _ k_ => z_goto (tgt := 126) dX8_stepBehind_117 rfl k_) ?_
  exact k
theorem sX8_stepBehind_126 {E : zE} {d : Nat} {Q : zO → zM → Prop} (M : zM)  (k : Zm E YX8_emit_2 d M (zargs 0 [vr (some (97, 1, 0)), vi (17 : Int32)]) 0 [] (zma E YX8_stepBehind (d + 1) [] 129 3 [] Q)) : Zm E YX8_stepBehind (d + 1) M [(0, vr (some (97, 1, 0)))] 126 [] Q := by
  refine Zm.l (fun _ _ k_ => z_aload_n dX8_stepBehind_126 rfl rfl k_) ?_
  refine Zm.l (fun _ _ k_ => z_bipush (v := 17) dX8_stepBehind_127 rfl k_) ?_
  refine Zm.pick [] rfl ?_
  exact zm_callV (as := [vi (17 : Int32)]) (st := []) dX8_stepBehind_129 vsX8_666_1 (Nat.le_refl _) (Nat.le_of_ble_eq_true rfl) (Nat.le_of_ble_eq_true rfl) rfl k
theorem sX8_stepBehind_132 {E : zE} {d : Nat} {Q : zO → zM → Prop} (M : zM)  (k : Q (.inl none) M) : Zm E YX8_stepBehind (d + 1) M [] 132 [] Q := by
  exact zm_vret dX8_stepBehind_132 rfl k
