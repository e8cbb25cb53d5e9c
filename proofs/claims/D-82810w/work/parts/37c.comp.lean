/-! ScriptTypes.next(I)V -/
theorem bX1_next_0 : zdec cX1_next 0 [(0, .aload_n 0, 1), (1, .iconst 1, 1), (2, .putfield 710, 3), (5, .aload_n 0, 1), (6, .iload_n 1, 1), (7, .aload_n 0, 1), (8, .getfield 684, 3), (11, .invokevirtual 703, 3), (14, .return_, 1)] = true := by decide +kernel
theorem dX1_next_0 : decode cX1_next 0 = .ok (.aload_n 0, 1) := zdec_at bX1_next_0 0 rfl
theorem dX1_next_1 : decode cX1_next 1 = .ok (.iconst 1, 1) := zdec_at bX1_next_0 1 rfl
theorem dX1_next_2 : decode cX1_next 2 = .ok (.putfield 710, 3) := zdec_at bX1_next_0 2 rfl
theorem dX1_next_5 : decode cX1_next 5 = .ok (.aload_n 0, 1) := zdec_at bX1_next_0 3 rfl
theorem dX1_next_6 : decode cX1_next 6 = .ok (.iload_n 1, 1) := zdec_at bX1_next_0 4 rfl
theorem dX1_next_7 : decode cX1_next 7 = .ok (.aload_n 0, 1) := zdec_at bX1_next_0 5 rfl
theorem dX1_next_8 : decode cX1_next 8 = .ok (.getfield 684, 3) := zdec_at bX1_next_0 6 rfl
theorem dX1_next_11 : decode cX1_next 11 = .ok (.invokevirtual 703, 3) := zdec_at bX1_next_0 7 rfl
theorem dX1_next_14 : decode cX1_next 14 = .ok (.return_, 1) := zdec_at bX1_next_0 8 rfl
theorem sX1_next_0 {E : zE} {d : Nat} {Q : zO → zM → Prop} (M : zM) (l1 : Int32) (hw : cw M) (k : Z E YX1_goes d (si M 16 77 (1 : Int32)) (zargs 0 [vr (some (16, 0, 0)), vi l1, vr (gr M 16 60)]) 0 [] (zafter E YX1_next (d + 1) [] 11 3 [] Q)) : Z E YX1_next (d + 1) M [(0, vr (some (16, 0, 0))), (1, vi l1)] 0 [] Q := by
  refine z_aload_n dX1_next_0 rfl rfl ?_
  refine z_iconst (v := 1) dX1_next_1 rfl ?_
  refine z_puti (by decide) dX1_next_2 (zfwN.w fwX1_710_0) rfl ⟨by decide, by decide⟩ ?_
  refine z_aload_n dX1_next_5 rfl rfl ?_
  refine z_iload_n dX1_next_6 rfl rfl ?_
  refine z_aload_n dX1_next_7 rfl rfl ?_
  refine z_getr (r := (gr M 16 60)) dX1_next_8 fsX1_684_0 rfl ?_
  refine Z.pick [] rfl ?_
  exact z_callV (as := [vi l1, vr (gr M 16 60)]) (st := []) dX1_next_11 vsX1_703_0 (Nat.le_refl _) (Nat.le_of_ble_eq_true rfl) (Nat.le_of_ble_eq_true rfl) rfl k
theorem sX1_next_14 {E : zE} {d : Nat} {Q : zO → zM → Prop} (M : zM)  (hw : cw M) (k : Q (.inl none) M) : Z E YX1_next (d + 1) M [] 14 [] Q := by
  exact z_vret dX1_next_14 rfl k
/-! ScriptTypes.load(II)V -/
theorem bX1_load_0 : zdec cX1_load 0 [(0, .aload_n 0, 1), (1, .iload_n 1, 1), (2, .invokevirtual 900, 3), (5, .aload_n 0, 1), (6, .getfield 206, 3), (9, .invokevirtual 796, 3), (12, .pop, 1), (13, .iconst 0, 1), (14, .istore_n 3, 1), (15, .iload_n 3, 1), (16, .aload_n 0, 1), (17, .getfield 313, 3), (20, .if_icmp .ge 77, 3), (23, .aload_n 0, 1), (24, .getfield 684, 3), (27, .iload_n 3, 1)] = true := by decide +kernel
theorem dX1_load_0 : decode cX1_load 0 = .ok (.aload_n 0, 1) := zdec_at bX1_load_0 0 rfl
theorem dX1_load_1 : decode cX1_load 1 = .ok (.iload_n 1, 1) := zdec_at bX1_load_0 1 rfl
theorem dX1_load_2 : decode cX1_load 2 = .ok (.invokevirtual 900, 3) := zdec_at bX1_load_0 2 rfl
theorem dX1_load_5 : decode cX1_load 5 = .ok (.aload_n 0, 1) := zdec_at bX1_load_0 3 rfl
theorem dX1_load_6 : decode cX1_load 6 = .ok (.getfield 206, 3) := zdec_at bX1_load_0 4 rfl
theorem dX1_load_9 : decode cX1_load 9 = .ok (.invokevirtual 796, 3) := zdec_at bX1_load_0 5 rfl
theorem dX1_load_12 : decode cX1_load 12 = .ok (.pop, 1) := zdec_at bX1_load_0 6 rfl
theorem dX1_load_13 : decode cX1_load 13 = .ok (.iconst 0, 1) := zdec_at bX1_load_0 7 rfl
theorem dX1_load_14 : decode cX1_load 14 = .ok (.istore_n 3, 1) := zdec_at bX1_load_0 8 rfl
theorem dX1_load_15 : decode cX1_load 15 = .ok (.iload_n 3, 1) := zdec_at bX1_load_0 9 rfl
theorem dX1_load_16 : decode cX1_load 16 = .ok (.aload_n 0, 1) := zdec_at bX1_load_0 10 rfl
theorem dX1_load_17 : decode cX1_load 17 = .ok (.getfield 313, 3) := zdec_at bX1_load_0 11 rfl
theorem dX1_load_20 : decode cX1_load 20 = .ok (.if_icmp .ge 77, 3) := zdec_at bX1_load_0 12 rfl
theorem dX1_load_23 : decode cX1_load 23 = .ok (.aload_n 0, 1) := zdec_at bX1_load_0 13 rfl
theorem dX1_load_24 : decode cX1_load 24 = .ok (.getfield 684, 3) := zdec_at bX1_load_0 14 rfl
theorem dX1_load_27 : decode cX1_load 27 = .ok (.iload_n 3, 1) := zdec_at bX1_load_0 15 rfl
theorem bX1_load_28 : zdec cX1_load 28 [(28, .iload_n 2, 1), (29, .invokevirtual 813, 3), (32, .istore 4, 2), (34, .iload_n 3, 1), (35, .aload_n 0, 1), (36, .getfield 906, 3), (39, .aload_n 0, 1), (40, .getfield 907, 3), (43, .invokestatic 827, 3), (46, .ifCond .eq 45, 3), (49, .aload_n 0, 1), (50, .getfield 206, 3), (53, .aload_n 0, 1), (54, .getfield 684, 3), (57, .getfield 863, 3), (60, .iload 4, 2)] = true := by decide +kernel
theorem dX1_load_28 : decode cX1_load 28 = .ok (.iload_n 2, 1) := zdec_at bX1_load_28 0 rfl
theorem dX1_load_29 : decode cX1_load 29 = .ok (.invokevirtual 813, 3) := zdec_at bX1_load_28 1 rfl
theorem dX1_load_32 : decode cX1_load 32 = .ok (.istore 4, 2) := zdec_at bX1_load_28 2 rfl
theorem dX1_load_34 : decode cX1_load 34 = .ok (.iload_n 3, 1) := zdec_at bX1_load_28 3 rfl
theorem dX1_load_35 : decode cX1_load 35 = .ok (.aload_n 0, 1) := zdec_at bX1_load_28 4 rfl
theorem dX1_load_36 : decode cX1_load 36 = .ok (.getfield 906, 3) := zdec_at bX1_load_28 5 rfl
theorem dX1_load_39 : decode cX1_load 39 = .ok (.aload_n 0, 1) := zdec_at bX1_load_28 6 rfl
theorem dX1_load_40 : decode cX1_load 40 = .ok (.getfield 907, 3) := zdec_at bX1_load_28 7 rfl
theorem dX1_load_43 : decode cX1_load 43 = .ok (.invokestatic 827, 3) := zdec_at bX1_load_28 8 rfl
theorem dX1_load_46 : decode cX1_load 46 = .ok (.ifCond .eq 45, 3) := zdec_at bX1_load_28 9 rfl
theorem dX1_load_49 : decode cX1_load 49 = .ok (.aload_n 0, 1) := zdec_at bX1_load_28 10 rfl
theorem dX1_load_50 : decode cX1_load 50 = .ok (.getfield 206, 3) := zdec_at bX1_load_28 11 rfl
theorem dX1_load_53 : decode cX1_load 53 = .ok (.aload_n 0, 1) := zdec_at bX1_load_28 12 rfl
theorem dX1_load_54 : decode cX1_load 54 = .ok (.getfield 684, 3) := zdec_at bX1_load_28 13 rfl
theorem dX1_load_57 : decode cX1_load 57 = .ok (.getfield 863, 3) := zdec_at bX1_load_28 14 rfl
theorem dX1_load_60 : decode cX1_load 60 = .ok (.iload 4, 2) := zdec_at bX1_load_28 15 rfl
theorem bX1_load_62 : zdec cX1_load 62 [(62, .laload, 1), (63, .aload_n 0, 1), (64, .getfield 684, 3), (67, .getfield 866, 3), (70, .iload 4, 2), (72, .laload, 1), (73, .aload_n 0, 1), (74, .getfield 684, 3), (77, .getfield 810, 3), (80, .iload 4, 2), (82, .laload, 1), (83, .ldc2_w 869, 3), (86, .land, 1), (87, .invokevirtual 871, 3), (90, .pop, 1), (91, .iinc 3 1, 3)] = true := by decide +kernel
theorem dX1_load_62 : decode cX1_load 62 = .ok (.laload, 1) := zdec_at bX1_load_62 0 rfl
theorem dX1_load_63 : decode cX1_load 63 = .ok (.aload_n 0, 1) := zdec_at bX1_load_62 1 rfl
theorem dX1_load_64 : decode cX1_load 64 = .ok (.getfield 684, 3) := zdec_at bX1_load_62 2 rfl
theorem dX1_load_67 : decode cX1_load 67 = .ok (.getfield 866, 3) := zdec_at bX1_load_62 3 rfl
theorem dX1_load_70 : decode cX1_load 70 = .ok (.iload 4, 2) := zdec_at bX1_load_62 4 rfl
theorem dX1_load_72 : decode cX1_load 72 = .ok (.laload, 1) := zdec_at bX1_load_62 5 rfl
theorem dX1_load_73 : decode cX1_load 73 = .ok (.aload_n 0, 1) := zdec_at bX1_load_62 6 rfl
theorem dX1_load_74 : decode cX1_load 74 = .ok (.getfield 684, 3) := zdec_at bX1_load_62 7 rfl
theorem dX1_load_77 : decode cX1_load 77 = .ok (.getfield 810, 3) := zdec_at bX1_load_62 8 rfl
theorem dX1_load_80 : decode cX1_load 80 = .ok (.iload 4, 2) := zdec_at bX1_load_62 9 rfl
theorem dX1_load_82 : decode cX1_load 82 = .ok (.laload, 1) := zdec_at bX1_load_62 10 rfl
theorem dX1_load_83 : decode cX1_load 83 = .ok (.ldc2_w 869, 3) := zdec_at bX1_load_62 11 rfl
theorem dX1_load_86 : decode cX1_load 86 = .ok (.land, 1) := zdec_at bX1_load_62 12 rfl
theorem dX1_load_87 : decode cX1_load 87 = .ok (.invokevirtual 871, 3) := zdec_at bX1_load_62 13 rfl
theorem dX1_load_90 : decode cX1_load 90 = .ok (.pop, 1) := zdec_at bX1_load_62 14 rfl
theorem dX1_load_91 : decode cX1_load 91 = .ok (.iinc 3 1, 3) := zdec_at bX1_load_62 15 rfl
theorem bX1_load_94 : zdec cX1_load 94 [(94, .goto (-79), 3), (97, .aload_n 0, 1), (98, .aload_n 0, 1), (99, .getfield 206, 3), (102, .invokevirtual 895, 3), (105, .return_, 1)] = true := by decide +kernel
theorem dX1_load_94 : decode cX1_load 94 = .ok (.goto (-79), 3) := zdec_at bX1_load_94 0 rfl
theorem dX1_load_97 : decode cX1_load 97 = .ok (.aload_n 0, 1) := zdec_at bX1_load_94 1 rfl
theorem dX1_load_98 : decode cX1_load 98 = .ok (.aload_n 0, 1) := zdec_at bX1_load_94 2 rfl
theorem dX1_load_99 : decode cX1_load 99 = .ok (.getfield 206, 3) := zdec_at bX1_load_94 3 rfl
theorem dX1_load_102 : decode cX1_load 102 = .ok (.invokevirtual 895, 3) := zdec_at bX1_load_94 4 rfl
theorem dX1_load_105 : decode cX1_load 105 = .ok (.return_, 1) := zdec_at bX1_load_94 5 rfl
theorem sX1_load_0 {E : zE} {d : Nat} {Q : zO → zM → Prop} (M : zM) (l1 : Int32) (l2 : Int32) (hw : cw M) (k : Z E YX1_scope d M (zargs 0 [vr (some (16, 0, 0)), vi l1]) 0 [] (zafter E YX1_load (d + 1) [(0, vr (some (16, 0, 0))), (2, vi l2)] 2 3 [] Q)) : Z E YX1_load (d + 1) M [(0, vr (some (16, 0, 0))), (1, vi l1), (2, vi l2)] 0 [] Q := by
  refine z_aload_n dX1_load_0 rfl rfl ?_
  refine z_iload_n dX1_load_1 rfl rfl ?_
  refine Z.pick [0, 2] rfl ?_
  exact z_callV (as := [vi l1]) (st := []) dX1_load_2 vsX1_900_0 (Nat.le_refl _) (Nat.le_of_ble_eq_true rfl) (Nat.le_of_ble_eq_true rfl) rfl k
theorem sX1_load_5 {E : zE} {d : Nat} {Q : zO → zM → Prop} (M : zM) (l2 : Int32) (hw : cw M) (k : Z E YX6_empty d M (zargs 0 [vr (some (71, 4, 0))]) 0 [] (zafter E YX1_load (d + 1) [(0, vr (some (16, 0, 0))), (2, vi l2)] 9 3 [] Q)) : Z E YX1_load (d + 1) M [(0, vr (some (16, 0, 0))), (2, vi l2)] 5 [] Q := by
  refine z_aload_n dX1_load_5 rfl rfl ?_
  refine z_getr dX1_load_6 fsX1_206_0 (show gr M 16 78 = some (71, 4, 0) from cw_at hw 39 rfl) ?_
  exact z_callV (as := []) (st := []) dX1_load_9 vsX1_796_4 (Nat.le_refl _) (Nat.le_of_ble_eq_true rfl) (Nat.le_of_ble_eq_true rfl) rfl k
theorem sX1_load_12 {E : zE} {d : Nat} {Q : zO → zM → Prop} (M : zM) (l2 : Int32) (u0 : Option zP) (hw : cw M) (k : Z E YX1_load (d + 1) M [(0, vr (some (16, 0, 0))), (2, vi l2), (3, vi (0 : Int32))] 15 [] Q) : Z E YX1_load (d + 1) M [(0, vr (some (16, 0, 0))), (2, vi l2)] 12 [vr u0] Q := by
  refine z_pop dX1_load_12 rfl ?_
  refine z_iconst (v := 0) dX1_load_13 rfl ?_
  refine z_ist_n dX1_load_14 rfl (by decide) (lv' := [(0, vr (some (16, 0, 0))), (2, vi l2), (3, vi (0 : Int32))]) rfl ?_
  exact k
theorem sX1_load_15 {E : zE} {d : Nat} {Q : zO → zM → Prop} (M : zM) (l2 : Int32) (l3 : Int32) (hw : cw M) (k : if (gi M 16 11) ≤ l3 then (Z E YX1_nextWith d M (zargs 0 [vr (some (16, 0, 0)), vr (some (71, 4, 0))]) 0 [] (zafter E YX1_load (d + 1) [] 102 3 [] Q)) else (∃ b1 : Nat, (gr M 16 60) = some (b1, 7, 0) ∧ (Z E YX43_cell d M (zargs 0 [vr (some (b1, 7, 0)), vi l3, vi l2]) 0 [] (zafter E YX1_load (d + 1) [(0, vr (some (16, 0, 0))), (2, vi l2), (3, vi l3)] 29 3 [] Q)))) : Z E YX1_load (d + 1) M [(0, vr (some (16, 0, 0))), (2, vi l2), (3, vi l3)] 15 [] Q := by
  refine z_iload_n dX1_load_15 rfl rfl ?_
  refine z_aload_n dX1_load_16 rfl rfl ?_
  refine z_geti dX1_load_17 fsX1_313_0 ?_
  refine z_icmp_ge (tgt := 97) dX1_load_20 rfl (fun h_ => ?_) (fun h_ => ?_)
  · have k := zit h_ k
    refine z_aload_n dX1_load_97 rfl rfl ?_
    refine z_aload_n dX1_load_98 rfl rfl ?_
    refine z_getr dX1_load_99 fsX1_206_0 (show gr M 16 78 = some (71, 4, 0) from cw_at hw 39 rfl) ?_
    refine Z.pick [] rfl ?_
    exact z_callV (as := [vr (some (71, 4, 0))]) (st := []) dX1_load_102 vsX1_895_0 (Nat.le_refl _) (Nat.le_of_ble_eq_true rfl) (Nat.le_of_ble_eq_true rfl) rfl k
  · have k := zif h_ k
    refine z_aload_n dX1_load_23 rfl rfl ?_
    refine z_getr (r := (gr M 16 60)) dX1_load_24 fsX1_684_0 rfl ?_
    refine z_iload_n dX1_load_27 rfl rfl ?_
    refine z_iload_n dX1_load_28 rfl rfl ?_
    obtain ⟨b1, e1_, k⟩ := k
    refine Z.eqs (lv' := [(0, vr (some (16, 0, 0))), (2, vi l2), (3, vi l3)]) (st' := [vi l2, vi l3, vr (some (b1, 7, 0))]) rfl (by rw [e1_] <;> rfl) ?_
    exact z_callV (as := [vi l3, vi l2]) (st := []) dX1_load_29 vsX1_813_7 (Nat.le_refl _) (Nat.le_of_ble_eq_true rfl) (Nat.le_of_ble_eq_true rfl) rfl k
theorem sX1_load_32 {E : zE} {d : Nat} {Q : zO → zM → Prop} (M : zM) (l2 : Int32) (l3 : Int32) (s0 : Int32) (hw : cw M) (k : Z E YX1_in d M (zargs 0 [vi l3, vl (gl M 16 93), vl (gl M 16 94)]) 0 [] (zafter E YX1_load (d + 1) [(0, vr (some (16, 0, 0))), (2, vi l2), (3, vi l3), (4, vi s0)] 43 3 [] Q)) : Z E YX1_load (d + 1) M [(0, vr (some (16, 0, 0))), (2, vi l2), (3, vi l3)] 32 [vi s0] Q := by
  refine z_ist dX1_load_32 (by decide) (lv' := [(0, vr (some (16, 0, 0))), (2, vi l2), (3, vi l3), (4, vi s0)]) rfl ?_
  refine z_iload_n dX1_load_34 rfl rfl ?_
  refine z_aload_n dX1_load_35 rfl rfl ?_
  refine z_getl dX1_load_36 fsX1_906_0 ?_
  refine z_aload_n dX1_load_39 rfl rfl ?_
  refine z_getl dX1_load_40 fsX1_907_0 ?_
  exact z_callS (as := [vi l3, vl (gl M 16 93), vl (gl M 16 94)]) (st := []) dX1_load_43 ssX1_827 (Nat.le_refl _) (Nat.le_of_ble_eq_true rfl) (Nat.le_of_ble_eq_true rfl) rfl k
theorem sX1_load_46 {E : zE} {d : Nat} {Q : zO → zM → Prop} (M : zM) (l2 : Int32) (l3 : Int32) (l4 : Int32) (s0 : Int32) (hw : cw M) (k : if s0 = 0 then (Z E YX1_load (d + 1) M [(0, vr (some (16, 0, 0))), (2, vi l2), (3, vi (l3 + (1 : Int32)))] 15 [] Q) else (∃ b1 : Nat, (gr M 16 60) = some (b1, 7, 0) ∧ (∃ b2 m2 : Nat, (gr M b1 1) = some (b2, 105, m2) ∧ (vp_in l4 m2 ∧ (∃ b3 : Nat, (gr M 16 60) = some (b3, 7, 0) ∧ (∃ b4 m4 : Nat, (gr M b3 2) = some (b4, 105, m4) ∧ (vp_in l4 m4 ∧ (∃ b5 : Nat, (gr M 16 60) = some (b5, 7, 0) ∧ (∃ b6 m6 : Nat, (gr M b5 3) = some (b6, 105, m6) ∧ (vp_in l4 m6 ∧ (Z E YX6_join3 d M (zargs 0 [vr (some (71, 4, 0)), vl (gl M b2 (l4).toNatClampNeg), vl (gl M b4 (l4).toNatClampNeg), vl ((gl M b6 (l4).toNatClampNeg) &&& (-513 : Int64))]) 0 [] (zafter E YX1_load (d + 1) [(0, vr (some (16, 0, 0))), (2, vi l2), (3, vi l3)] 87 3 [] Q)))))))))))) : Z E YX1_load (d + 1) M [(0, vr (some (16, 0, 0))), (2, vi l2), (3, vi l3), (4, vi l4)] 46 [vi s0] Q := by
  refine z_if_eq (tgt := 91) dX1_load_46 rfl (fun h_ => ?_) (fun h_ => ?_)
  · have k := zit h_ k
    refine z_inc (v := (l3 + (1 : Int32))) dX1_load_91 rfl rfl (by decide) (lv' := [(0, vr (some (16, 0, 0))), (2, vi l2), (3, vi (l3 + (1 : Int32))), (4, vi l4)]) rfl ?_
    refine z_goto (tgt := 15) dX1_load_94 rfl ?_
    refine Z.pick [0, 1, 2] rfl ?_
    exact k
  · have k := zif h_ k
    refine z_aload_n dX1_load_49 rfl rfl ?_
    refine z_getr dX1_load_50 fsX1_206_0 (show gr M 16 78 = some (71, 4, 0) from cw_at hw 39 rfl) ?_
    refine z_aload_n dX1_load_53 rfl rfl ?_
    refine z_getr (r := (gr M 16 60)) dX1_load_54 fsX1_684_0 rfl ?_
    obtain ⟨b1, e1_, k⟩ := k
    refine Z.eqs (lv' := [(0, vr (some (16, 0, 0))), (2, vi l2), (3, vi l3), (4, vi l4)]) (st' := [vr (some (b1, 7, 0)), vr (some (71, 4, 0))]) rfl (by rw [e1_] <;> rfl) ?_
    refine z_getr (r := (gr M b1 1)) dX1_load_57 fsX1_863_7 rfl ?_
    refine z_iload dX1_load_60 rfl ?_
    obtain ⟨b2, m2, e2_, k⟩ := k
    refine Z.eqs (lv' := [(0, vr (some (16, 0, 0))), (2, vi l2), (3, vi l3), (4, vi l4)]) (st' := [vi l4, vr (some (b2, 105, m2)), vr (some (71, 4, 0))]) rfl (by rw [e2_] <;> rfl) ?_
    obtain ⟨b_, k⟩ := k
    refine z_lald dX1_load_62 b_ ?_
    refine z_aload_n dX1_load_63 rfl rfl ?_
    refine z_getr (r := (gr M 16 60)) dX1_load_64 fsX1_684_0 rfl ?_
    obtain ⟨b3, e3_, k⟩ := k
    refine Z.eqs (lv' := [(0, vr (some (16, 0, 0))), (2, vi l2), (3, vi l3), (4, vi l4)]) (st' := [vr (some (b3, 7, 0)), vl (gl M b2 (l4).toNatClampNeg), vr (some (71, 4, 0))]) rfl (by rw [e3_] <;> rfl) ?_
    refine z_getr (r := (gr M b3 2)) dX1_load_67 fsX1_866_7 rfl ?_
    refine z_iload dX1_load_70 rfl ?_
    obtain ⟨b4, m4, e4_, k⟩ := k
    refine Z.eqs (lv' := [(0, vr (some (16, 0, 0))), (2, vi l2), (3, vi l3), (4, vi l4)]) (st' := [vi l4, vr (some (b4, 105, m4)), vl (gl M b2 (l4).toNatClampNeg), vr (some (71, 4, 0))]) rfl (by rw [e4_] <;> rfl) ?_
    obtain ⟨b_, k⟩ := k
    refine z_lald dX1_load_72 b_ ?_
    refine z_aload_n dX1_load_73 rfl rfl ?_
    refine z_getr (r := (gr M 16 60)) dX1_load_74 fsX1_684_0 rfl ?_
    obtain ⟨b5, e5_, k⟩ := k
    refine Z.eqs (lv' := [(0, vr (some (16, 0, 0))), (2, vi l2), (3, vi l3), (4, vi l4)]) (st' := [vr (some (b5, 7, 0)), vl (gl M b4 (l4).toNatClampNeg), vl (gl M b2 (l4).toNatClampNeg), vr (some (71, 4, 0))]) rfl (by rw [e5_] <;> rfl) ?_
    refine z_getr (r := (gr M b5 3)) dX1_load_77 fsX1_810_7 rfl ?_
    refine z_iload dX1_load_80 rfl ?_
    obtain ⟨b6, m6, e6_, k⟩ := k
    refine Z.eqs (lv' := [(0, vr (some (16, 0, 0))), (2, vi l2), (3, vi l3), (4, vi l4)]) (st' := [vi l4, vr (some (b6, 105, m6)), vl (gl M b4 (l4).toNatClampNeg), vl (gl M b2 (l4).toNatClampNeg), vr (some (71, 4, 0))]) rfl (by rw [e6_] <;> rfl) ?_
    obtain ⟨b_, k⟩ := k
    refine z_lald dX1_load_82 b_ ?_
    refine z_ldc2 (v := -513) dX1_load_83 q3198 ?_
    refine z_land dX1_load_86 ?_
    refine Z.pick [0, 1, 2] rfl ?_
    exact z_callV (as := [vl (gl M b2 (l4).toNatClampNeg), vl (gl M b4 (l4).toNatClampNeg), vl ((gl M b6 (l4).toNatClampNeg) &&& (-513 : Int64))]) (st := []) dX1_load_87 vsX1_871_4 (Nat.le_refl _) (Nat.le_of_ble_eq_true rfl) (Nat.le_of_ble_eq_true rfl) rfl k
theorem sX1_load_90 {E : zE} {d : Nat} {Q : zO → zM → Prop} (M : zM) (l2 : Int32) (l3 : Int32) (u0 : Option zP) (hw : cw M) (k : Z E YX1_load (d + 1) M [(0, vr (some (16, 0, 0))), (2, vi l2), (3, vi (l3 + (1 : Int32)))] 15 [] Q) : Z E YX1_load (d + 1) M [(0, vr (some (16, 0, 0))), (2, vi l2), (3, vi l3)] 90 [vr u0] Q := by
  refine z_pop dX1_load_90 rfl ?_
  refine z_inc (v := (l3 + (1 : Int32))) dX1_load_91 rfl rfl (by decide) (lv' := [(0, vr (some (16, 0, 0))), (2, vi l2), (3, vi (l3 + (1 : Int32)))]) rfl ?_
  refine z_goto (tgt := 15) dX1_load_94 rfl ?_
  exact k
theorem sX1_load_105 {E : zE} {d : Nat} {Q : zO → zM → Prop} (M : zM)  (hw : cw M) (k : Q (.inl none) M) : Z E YX1_load (d + 1) M [] 105 [] Q := by
  exact z_vret dX1_load_105 rfl k
/-! ScriptTypes.scope(I)V -/
theorem bX1_scope_0 : zdec cX1_scope 0 [(0, .aload_n 0, 1), (1, .aload_n 0, 1), (2, .getfield 684, 3), (5, .getfield 754, 3), (8, .putfield 906, 3), (11, .aload_n 0, 1), (12, .aload_n 0, 1), (13, .getfield 684, 3), (16, .getfield 757, 3), (19, .putfield 907, 3), (22, .iconst 0, 1), (23, .istore_n 2, 1), (24, .iload_n 2, 1), (25, .iload_n 1, 1), (26, .if_icmp .ge 90, 3), (29, .lconst 0, 1)] = true := by decide +kernel
theorem dX1_scope_0 : decode cX1_scope 0 = .ok (.aload_n 0, 1) := zdec_at bX1_scope_0 0 rfl
theorem dX1_scope_1 : decode cX1_scope 1 = .ok (.aload_n 0, 1) := zdec_at bX1_scope_0 1 rfl
theorem dX1_scope_2 : decode cX1_scope 2 = .ok (.getfield 684, 3) := zdec_at bX1_scope_0 2 rfl
theorem dX1_scope_5 : decode cX1_scope 5 = .ok (.getfield 754, 3) := zdec_at bX1_scope_0 3 rfl
theorem dX1_scope_8 : decode cX1_scope 8 = .ok (.putfield 906, 3) := zdec_at bX1_scope_0 4 rfl
theorem dX1_scope_11 : decode cX1_scope 11 = .ok (.aload_n 0, 1) := zdec_at bX1_scope_0 5 rfl
theorem dX1_scope_12 : decode cX1_scope 12 = .ok (.aload_n 0, 1) := zdec_at bX1_scope_0 6 rfl
theorem dX1_scope_13 : decode cX1_scope 13 = .ok (.getfield 684, 3) := zdec_at bX1_scope_0 7 rfl
theorem dX1_scope_16 : decode cX1_scope 16 = .ok (.getfield 757, 3) := zdec_at bX1_scope_0 8 rfl
theorem dX1_scope_19 : decode cX1_scope 19 = .ok (.putfield 907, 3) := zdec_at bX1_scope_0 9 rfl
theorem dX1_scope_22 : decode cX1_scope 22 = .ok (.iconst 0, 1) := zdec_at bX1_scope_0 10 rfl
theorem dX1_scope_23 : decode cX1_scope 23 = .ok (.istore_n 2, 1) := zdec_at bX1_scope_0 11 rfl
theorem dX1_scope_24 : decode cX1_scope 24 = .ok (.iload_n 2, 1) := zdec_at bX1_scope_0 12 rfl
theorem dX1_scope_25 : decode cX1_scope 25 = .ok (.iload_n 1, 1) := zdec_at bX1_scope_0 13 rfl
theorem dX1_scope_26 : decode cX1_scope 26 = .ok (.if_icmp .ge 90, 3) := zdec_at bX1_scope_0 14 rfl
theorem dX1_scope_29 : decode cX1_scope 29 = .ok (.lconst 0, 1) := zdec_at bX1_scope_0 15 rfl
theorem bX1_scope_30 : zdec cX1_scope 30 [(30, .lstore_n 3, 1), (31, .lconst 0, 1), (32, .lstore 5, 2), (34, .iconst 0, 1), (35, .istore 7, 2), (37, .iload 7, 2), (39, .aload_n 0, 1), (40, .getfield 313, 3), (43, .if_icmp .ge 56, 3), (46, .iload 7, 2), (48, .aload_n 0, 1), (49, .getfield 906, 3), (52, .aload_n 0, 1), (53, .getfield 907, 3), (56, .invokestatic 827, 3), (59, .ifCond .ne 6, 3)] = true := by decide +kernel
theorem dX1_scope_30 : decode cX1_scope 30 = .ok (.lstore_n 3, 1) := zdec_at bX1_scope_30 0 rfl
theorem dX1_scope_31 : decode cX1_scope 31 = .ok (.lconst 0, 1) := zdec_at bX1_scope_30 1 rfl
theorem dX1_scope_32 : decode cX1_scope 32 = .ok (.lstore 5, 2) := zdec_at bX1_scope_30 2 rfl
theorem dX1_scope_34 : decode cX1_scope 34 = .ok (.iconst 0, 1) := zdec_at bX1_scope_30 3 rfl
theorem dX1_scope_35 : decode cX1_scope 35 = .ok (.istore 7, 2) := zdec_at bX1_scope_30 4 rfl
theorem dX1_scope_37 : decode cX1_scope 37 = .ok (.iload 7, 2) := zdec_at bX1_scope_30 5 rfl
theorem dX1_scope_39 : decode cX1_scope 39 = .ok (.aload_n 0, 1) := zdec_at bX1_scope_30 6 rfl
theorem dX1_scope_40 : decode cX1_scope 40 = .ok (.getfield 313, 3) := zdec_at bX1_scope_30 7 rfl
theorem dX1_scope_43 : decode cX1_scope 43 = .ok (.if_icmp .ge 56, 3) := zdec_at bX1_scope_30 8 rfl
theorem dX1_scope_46 : decode cX1_scope 46 = .ok (.iload 7, 2) := zdec_at bX1_scope_30 9 rfl
theorem dX1_scope_48 : decode cX1_scope 48 = .ok (.aload_n 0, 1) := zdec_at bX1_scope_30 10 rfl
theorem dX1_scope_49 : decode cX1_scope 49 = .ok (.getfield 906, 3) := zdec_at bX1_scope_30 11 rfl
theorem dX1_scope_52 : decode cX1_scope 52 = .ok (.aload_n 0, 1) := zdec_at bX1_scope_30 12 rfl
theorem dX1_scope_53 : decode cX1_scope 53 = .ok (.getfield 907, 3) := zdec_at bX1_scope_30 13 rfl
theorem dX1_scope_56 : decode cX1_scope 56 = .ok (.invokestatic 827, 3) := zdec_at bX1_scope_30 14 rfl
theorem dX1_scope_59 : decode cX1_scope 59 = .ok (.ifCond .ne 6, 3) := zdec_at bX1_scope_30 15 rfl
theorem bX1_scope_62 : zdec cX1_scope 62 [(62, .goto 31, 3), (65, .lload_n 3, 1), (66, .aload_n 0, 1), (67, .getfield 684, 3), (70, .getfield 982, 3), (73, .iload 7, 2), (75, .laload, 1), (76, .lor, 1), (77, .lstore_n 3, 1), (78, .lload 5, 2), (80, .aload_n 0, 1), (81, .getfield 684, 3), (84, .getfield 985, 3), (87, .iload 7, 2), (89, .laload, 1), (90, .lor, 1)] = true := by decide +kernel
theorem dX1_scope_62 : decode cX1_scope 62 = .ok (.goto 31, 3) := zdec_at bX1_scope_62 0 rfl
theorem dX1_scope_65 : decode cX1_scope 65 = .ok (.lload_n 3, 1) := zdec_at bX1_scope_62 1 rfl
theorem dX1_scope_66 : decode cX1_scope 66 = .ok (.aload_n 0, 1) := zdec_at bX1_scope_62 2 rfl
theorem dX1_scope_67 : decode cX1_scope 67 = .ok (.getfield 684, 3) := zdec_at bX1_scope_62 3 rfl
theorem dX1_scope_70 : decode cX1_scope 70 = .ok (.getfield 982, 3) := zdec_at bX1_scope_62 4 rfl
theorem dX1_scope_73 : decode cX1_scope 73 = .ok (.iload 7, 2) := zdec_at bX1_scope_62 5 rfl
theorem dX1_scope_75 : decode cX1_scope 75 = .ok (.laload, 1) := zdec_at bX1_scope_62 6 rfl
theorem dX1_scope_76 : decode cX1_scope 76 = .ok (.lor, 1) := zdec_at bX1_scope_62 7 rfl
theorem dX1_scope_77 : decode cX1_scope 77 = .ok (.lstore_n 3, 1) := zdec_at bX1_scope_62 8 rfl
theorem dX1_scope_78 : decode cX1_scope 78 = .ok (.lload 5, 2) := zdec_at bX1_scope_62 9 rfl
theorem dX1_scope_80 : decode cX1_scope 80 = .ok (.aload_n 0, 1) := zdec_at bX1_scope_62 10 rfl
theorem dX1_scope_81 : decode cX1_scope 81 = .ok (.getfield 684, 3) := zdec_at bX1_scope_62 11 rfl
theorem dX1_scope_84 : decode cX1_scope 84 = .ok (.getfield 985, 3) := zdec_at bX1_scope_62 12 rfl
theorem dX1_scope_87 : decode cX1_scope 87 = .ok (.iload 7, 2) := zdec_at bX1_scope_62 13 rfl
theorem dX1_scope_89 : decode cX1_scope 89 = .ok (.laload, 1) := zdec_at bX1_scope_62 14 rfl
theorem dX1_scope_90 : decode cX1_scope 90 = .ok (.lor, 1) := zdec_at bX1_scope_62 15 rfl
theorem bX1_scope_91 : zdec cX1_scope 91 [(91, .lstore 5, 2), (93, .iinc 7 1, 3), (96, .goto (-59), 3), (99, .aload_n 0, 1), (100, .lload_n 3, 1), (101, .putfield 906, 3), (104, .aload_n 0, 1), (105, .lload 5, 2), (107, .putfield 907, 3), (110, .iinc 2 1, 3), (113, .goto (-89), 3), (116, .return_, 1)] = true := by decide +kernel
theorem dX1_scope_91 : decode cX1_scope 91 = .ok (.lstore 5, 2) := zdec_at bX1_scope_91 0 rfl
theorem dX1_scope_93 : decode cX1_scope 93 = .ok (.iinc 7 1, 3) := zdec_at bX1_scope_91 1 rfl
theorem dX1_scope_96 : decode cX1_scope 96 = .ok (.goto (-59), 3) := zdec_at bX1_scope_91 2 rfl
theorem dX1_scope_99 : decode cX1_scope 99 = .ok (.aload_n 0, 1) := zdec_at bX1_scope_91 3 rfl
theorem dX1_scope_100 : decode cX1_scope 100 = .ok (.lload_n 3, 1) := zdec_at bX1_scope_91 4 rfl
theorem dX1_scope_101 : decode cX1_scope 101 = .ok (.putfield 906, 3) := zdec_at bX1_scope_91 5 rfl
theorem dX1_scope_104 : decode cX1_scope 104 = .ok (.aload_n 0, 1) := zdec_at bX1_scope_91 6 rfl
theorem dX1_scope_105 : decode cX1_scope 105 = .ok (.lload 5, 2) := zdec_at bX1_scope_91 7 rfl
theorem dX1_scope_107 : decode cX1_scope 107 = .ok (.putfield 907, 3) := zdec_at bX1_scope_91 8 rfl
theorem dX1_scope_110 : decode cX1_scope 110 = .ok (.iinc 2 1, 3) := zdec_at bX1_scope_91 9 rfl
theorem dX1_scope_113 : decode cX1_scope 113 = .ok (.goto (-89), 3) := zdec_at bX1_scope_91 10 rfl
theorem dX1_scope_116 : decode cX1_scope 116 = .ok (.return_, 1) := zdec_at bX1_scope_91 11 rfl
theorem sX1_scope_0 {E : zE} {d : Nat} {Q : zO → zM → Prop} (M : zM) (l1 : Int32) (hw : cw M) (k : ∃ b1 : Nat, (gr M 16 60) = some (b1, 7, 0) ∧ (∃ b2 : Nat, (gr M 16 60) = some (b2, 7, 0) ∧ (Z E YX1_scope (d + 1) (sl (sl M 16 93 (gl M b1 17)) 16 94 (gl (sl M 16 93 (gl M b1 17)) b2 18)) [(0, vr (some (16, 0, 0))), (1, vi l1), (2, vi (0 : Int32))] 24 [] Q))) : Z E YX1_scope (d + 1) M [(0, vr (some (16, 0, 0))), (1, vi l1)] 0 [] Q := by
  refine z_aload_n dX1_scope_0 rfl rfl ?_
  refine z_aload_n dX1_scope_1 rfl rfl ?_
  refine z_getr (r := (gr M 16 60)) dX1_scope_2 fsX1_684_0 rfl ?_
  obtain ⟨b1, e1_, k⟩ := k
  refine Z.eqs (lv' := [(0, vr (some (16, 0, 0))), (1, vi l1)]) (st' := [vr (some (b1, 7, 0)), vr (some (16, 0, 0))]) rfl (by rw [e1_] <;> rfl) ?_
  refine z_getl dX1_scope_5 fsX1_754_7 ?_
  refine z_putl (by decide) dX1_scope_8 (zfwN.w fwX1_906_0) ?_
  refine z_aload_n dX1_scope_11 rfl rfl ?_
  refine z_aload_n dX1_scope_12 rfl rfl ?_
  refine z_getr (r := (gr M 16 60)) dX1_scope_13 fsX1_684_0 rfl ?_
  obtain ⟨b2, e2_, k⟩ := k
  refine Z.eqs (lv' := [(0, vr (some (16, 0, 0))), (1, vi l1)]) (st' := [vr (some (b2, 7, 0)), vr (some (16, 0, 0))]) rfl (by rw [e2_] <;> rfl) ?_
  refine z_getl dX1_scope_16 fsX1_757_7 ?_
  refine z_putl (by decide) dX1_scope_19 (zfwN.w fwX1_907_0) ?_
  refine z_iconst (v := 0) dX1_scope_22 rfl ?_
  refine z_ist_n dX1_scope_23 rfl (by decide) (lv' := [(0, vr (some (16, 0, 0))), (1, vi l1), (2, vi (0 : Int32))]) rfl ?_
  exact k
theorem sX1_scope_24 {E : zE} {d : Nat} {Q : zO → zM → Prop} (M : zM) (l1 : Int32) (l2 : Int32) (hw : cw M) (k : if l1 ≤ l2 then (Q (.inl none) M) else (Z E YX1_scope (d + 1) M [(0, vr (some (16, 0, 0))), (1, vi l1), (2, vi l2), (3, vl (0 : Int64)), (5, vl (0 : Int64)), (7, vi (0 : Int32))] 37 [] Q)) : Z E YX1_scope (d + 1) M [(0, vr (some (16, 0, 0))), (1, vi l1), (2, vi l2)] 24 [] Q := by
  refine z_iload_n dX1_scope_24 rfl rfl ?_
  refine z_iload_n dX1_scope_25 rfl rfl ?_
  refine z_icmp_ge (tgt := 116) dX1_scope_26 rfl (fun h_ => ?_) (fun h_ => ?_)
  · have k := zit h_ k
    exact z_vret dX1_scope_116 rfl k
  · have k := zif h_ k
    refine z_lconst (v := 0) dX1_scope_29 rfl ?_
    refine z_lst_n dX1_scope_30 rfl (by decide) (lv' := [(0, vr (some (16, 0, 0))), (1, vi l1), (2, vi l2), (3, vl (0 : Int64))]) rfl ?_
    refine z_lconst (v := 0) dX1_scope_31 rfl ?_
    refine z_lst dX1_scope_32 (by decide) (lv' := [(0, vr (some (16, 0, 0))), (1, vi l1), (2, vi l2), (3, vl (0 : Int64)), (5, vl (0 : Int64))]) rfl ?_
    refine z_iconst (v := 0) dX1_scope_34 rfl ?_
    refine z_ist dX1_scope_35 (by decide) (lv' := [(0, vr (some (16, 0, 0))), (1, vi l1), (2, vi l2), (3, vl (0 : Int64)), (5, vl (0 : Int64)), (7, vi (0 : Int32))]) rfl ?_
    exact k
theorem sX1_scope_37 {E : zE} {d : Nat} {Q : zO → zM → Prop} (M : zM) (l1 : Int32) (l2 : Int32) (l3 : Int64) (l5 : Int64) (l7 : Int32) (hw : cw M) (k : if (gi M 16 11) ≤ l7 then (Z E YX1_scope (d + 1) (sl (sl M 16 93 l3) 16 94 l5) [(0, vr (some (16, 0, 0))), (1, vi l1), (2, vi (l2 + (1 : Int32)))] 24 [] Q) else (Z E YX1_in d M (zargs 0 [vi l7, vl (gl M 16 93), vl (gl M 16 94)]) 0 [] (zafter E YX1_scope (d + 1) [(0, vr (some (16, 0, 0))), (1, vi l1), (2, vi l2), (3, vl l3), (5, vl l5), (7, vi l7)] 56 3 [] Q))) : Z E YX1_scope (d + 1) M [(0, vr (some (16, 0, 0))), (1, vi l1), (2, vi l2), (3, vl l3), (5, vl l5), (7, vi l7)] 37 [] Q := by
  refine z_iload dX1_scope_37 rfl ?_
  refine z_aload_n dX1_scope_39 rfl rfl ?_
  refine z_geti dX1_scope_40 fsX1_313_0 ?_
  refine z_icmp_ge (tgt := 99) dX1_scope_43 rfl (fun h_ => ?_) (fun h_ => ?_)
  · have k := zit h_ k
    refine z_aload_n dX1_scope_99 rfl rfl ?_
    refine z_lload_n dX1_scope_100 rfl rfl ?_
    refine z_putl (by decide) dX1_scope_101 (zfwN.w fwX1_906_0) ?_
    refine z_aload_n dX1_scope_104 rfl rfl ?_
    refine z_lload dX1_scope_105 rfl ?_
    refine z_putl (by decide) dX1_scope_107 (zfwN.w fwX1_907_0) ?_
    refine z_inc (v := (l2 + (1 : Int32))) dX1_scope_110 rfl rfl (by decide) (lv' := [(0, vr (some (16, 0, 0))), (1, vi l1), (2, vi (l2 + (1 : Int32))), (3, vl l3), (5, vl l5), (7, vi l7)]) rfl ?_
    refine z_goto (tgt := 24) dX1_scope_113 rfl ?_
    refine Z.pick [0, 1, 2] rfl ?_
    exact k
  · have k := zif h_ k
    refine z_iload dX1_scope_46 rfl ?_
    refine z_aload_n dX1_scope_48 rfl rfl ?_
    refine z_getl dX1_scope_49 fsX1_906_0 ?_
    refine z_aload_n dX1_scope_52 rfl rfl ?_
    refine z_getl dX1_scope_53 fsX1_907_0 ?_
    exact z_callS (as := [vi l7, vl (gl M 16 93), vl (gl M 16 94)]) (st := []) dX1_scope_56 ssX1_827 (Nat.le_refl _) (Nat.le_of_ble_eq_true rfl) (Nat.le_of_ble_eq_true rfl) rfl k
theorem sX1_scope_59 {E : zE} {d : Nat} {Q : zO → zM → Prop} (M : zM) (l1 : Int32) (l2 : Int32) (l3 : Int64) (l5 : Int64) (l7 : Int32) (s0 : Int32) (hw : cw M) (k : if s0 = 0 then (Z E YX1_scope (d + 1) M [(0, vr (some (16, 0, 0))), (1, vi l1), (2, vi l2), (3, vl l3), (5, vl l5), (7, vi (l7 + (1 : Int32)))] 37 [] Q) else (∃ b1 : Nat, (gr M 16 60) = some (b1, 7, 0) ∧ (∃ b2 m2 : Nat, (gr M b1 6) = some (b2, 105, m2) ∧ (vp_in l7 m2 ∧ (∃ b3 : Nat, (gr M 16 60) = some (b3, 7, 0) ∧ (∃ b4 m4 : Nat, (gr M b3 7) = some (b4, 105, m4) ∧ (vp_in l7 m4 ∧ (Z E YX1_scope (d + 1) M [(0, vr (some (16, 0, 0))), (1, vi l1), (2, vi l2), (3, vl (l3 ||| (gl M b2 (l7).toNatClampNeg))), (5, vl (l5 ||| (gl M b4 (l7).toNatClampNeg))), (7, vi (l7 + (1 : Int32)))] 37 [] Q)))))))) : Z E YX1_scope (d + 1) M [(0, vr (some (16, 0, 0))), (1, vi l1), (2, vi l2), (3, vl l3), (5, vl l5), (7, vi l7)] 59 [vi s0] Q := by
  refine z_if_ne (tgt := 65) dX1_scope_59 rfl (fun h_ => ?_) (fun h_ => ?_)
  · have k := zif h_ k
    refine z_lload_n dX1_scope_65 rfl rfl ?_
    refine z_aload_n dX1_scope_66 rfl rfl ?_
    refine z_getr (r := (gr M 16 60)) dX1_scope_67 fsX1_684_0 rfl ?_
    obtain ⟨b1, e1_, k⟩ := k
    refine Z.eqs (lv' := [(0, vr (some (16, 0, 0))), (1, vi l1), (2, vi l2), (3, vl l3), (5, vl l5), (7, vi l7)]) (st' := [vr (some (b1, 7, 0)), vl l3]) rfl (by rw [e1_] <;> rfl) ?_
    refine z_getr (r := (gr M b1 6)) dX1_scope_70 fsX1_982_7 rfl ?_
    refine z_iload dX1_scope_73 rfl ?_
    obtain ⟨b2, m2, e2_, k⟩ := k
    refine Z.eqs (lv' := [(0, vr (some (16, 0, 0))), (1, vi l1), (2, vi l2), (3, vl l3), (5, vl l5), (7, vi l7)]) (st' := [vi l7, vr (some (b2, 105, m2)), vl l3]) rfl (by rw [e2_] <;> rfl) ?_
    obtain ⟨b_, k⟩ := k
    refine z_lald dX1_scope_75 b_ ?_
    refine z_lor dX1_scope_76 ?_
    refine z_lst_n dX1_scope_77 rfl (by decide) (lv' := [(0, vr (some (16, 0, 0))), (1, vi l1), (2, vi l2), (3, vl (l3 ||| (gl M b2 (l7).toNatClampNeg))), (5, vl l5), (7, vi l7)]) rfl ?_
    refine z_lload dX1_scope_78 rfl ?_
    refine z_aload_n dX1_scope_80 rfl rfl ?_
    refine z_getr (r := (gr M 16 60)) dX1_scope_81 fsX1_684_0 rfl ?_
    obtain ⟨b3, e3_, k⟩ := k
    refine Z.eqs (lv' := [(0, vr (some (16, 0, 0))), (1, vi l1), (2, vi l2), (3, vl (l3 ||| (gl M b2 (l7).toNatClampNeg))), (5, vl l5), (7, vi l7)]) (st' := [vr (some (b3, 7, 0)), vl l5]) rfl (by rw [e3_] <;> rfl) ?_
    refine z_getr (r := (gr M b3 7)) dX1_scope_84 fsX1_985_7 rfl ?_
    refine z_iload dX1_scope_87 rfl ?_
    obtain ⟨b4, m4, e4_, k⟩ := k
    refine Z.eqs (lv' := [(0, vr (some (16, 0, 0))), (1, vi l1), (2, vi l2), (3, vl (l3 ||| (gl M b2 (l7).toNatClampNeg))), (5, vl l5), (7, vi l7)]) (st' := [vi l7, vr (some (b4, 105, m4)), vl l5]) rfl (by rw [e4_] <;> rfl) ?_
    obtain ⟨b_, k⟩ := k
    refine z_lald dX1_scope_89 b_ ?_
    refine z_lor dX1_scope_90 ?_
    refine z_lst dX1_scope_91 (by decide) (lv' := [(0, vr (some (16, 0, 0))), (1, vi l1), (2, vi l2), (3, vl (l3 ||| (gl M b2 (l7).toNatClampNeg))), (5, vl (l5 ||| (gl M b4 (l7).toNatClampNeg))), (7, vi l7)]) rfl ?_
    refine z_inc (v := (l7 + (1 : Int32))) dX1_scope_93 rfl rfl (by decide) (lv' := [(0, vr (some (16, 0, 0))), (1, vi l1), (2, vi l2), (3, vl (l3 ||| (gl M b2 (l7).toNatClampNeg))), (5, vl (l5 ||| (gl M b4 (l7).toNatClampNeg))), (7, vi (l7 + (1 : Int32)))]) rfl ?_
    refine z_goto (tgt := 37) dX1_scope_96 rfl ?_
    exact k
  · have k := zit h_ k
    refine z_goto (tgt := 93) dX1_scope_62 rfl ?_
    refine z_inc (v := (l7 + (1 : Int32))) dX1_scope_93 rfl rfl (by decide) (lv' := [(0, vr (some (16, 0, 0))), (1, vi l1), (2, vi l2), (3, vl l3), (5, vl l5), (7, vi (l7 + (1 : Int32)))]) rfl ?_
    refine z_goto (tgt := 37) dX1_scope_96 rfl ?_
    exact k
/-! ScriptTypes.in(IJJ)Z -/
theorem bX1_in_0 : zdec cX1_in 0 [(0, .iload_n 0, 1), (1, .bipush 64, 2), (3, .if_icmp .ge 9, 3), (6, .lload_n 1, 1), (7, .iload_n 0, 1), (8, .lshr, 1), (9, .goto 9, 3), (12, .lload_n 3, 1), (13, .iload_n 0, 1), (14, .bipush 64, 2), (16, .isub, 1), (17, .lshr, 1), (18, .bipush 63, 2), (20, .lshl, 1), (21, .lconst 0, 1), (22, .lcmp, 1)] = true := by decide +kernel
theorem dX1_in_0 : decode cX1_in 0 = .ok (.iload_n 0, 1) := zdec_at bX1_in_0 0 rfl
theorem dX1_in_1 : decode cX1_in 1 = .ok (.bipush 64, 2) := zdec_at bX1_in_0 1 rfl
theorem dX1_in_3 : decode cX1_in 3 = .ok (.if_icmp .ge 9, 3) := zdec_at bX1_in_0 2 rfl
theorem dX1_in_6 : decode cX1_in 6 = .ok (.lload_n 1, 1) := zdec_at bX1_in_0 3 rfl
theorem dX1_in_7 : decode cX1_in 7 = .ok (.iload_n 0, 1) := zdec_at bX1_in_0 4 rfl
theorem dX1_in_8 : decode cX1_in 8 = .ok (.lshr, 1) := zdec_at bX1_in_0 5 rfl
theorem dX1_in_9 : decode cX1_in 9 = .ok (.goto 9, 3) := zdec_at bX1_in_0 6 rfl
theorem dX1_in_12 : decode cX1_in 12 = .ok (.lload_n 3, 1) := zdec_at bX1_in_0 7 rfl
theorem dX1_in_13 : decode cX1_in 13 = .ok (.iload_n 0, 1) := zdec_at bX1_in_0 8 rfl
theorem dX1_in_14 : decode cX1_in 14 = .ok (.bipush 64, 2) := zdec_at bX1_in_0 9 rfl
theorem dX1_in_16 : decode cX1_in 16 = .ok (.isub, 1) := zdec_at bX1_in_0 10 rfl
theorem dX1_in_17 : decode cX1_in 17 = .ok (.lshr, 1) := zdec_at bX1_in_0 11 rfl
theorem dX1_in_18 : decode cX1_in 18 = .ok (.bipush 63, 2) := zdec_at bX1_in_0 12 rfl
theorem dX1_in_20 : decode cX1_in 20 = .ok (.lshl, 1) := zdec_at bX1_in_0 13 rfl
theorem dX1_in_21 : decode cX1_in 21 = .ok (.lconst 0, 1) := zdec_at bX1_in_0 14 rfl
theorem dX1_in_22 : decode cX1_in 22 = .ok (.lcmp, 1) := zdec_at bX1_in_0 15 rfl
theorem bX1_in_23 : zdec cX1_in 23 [(23, .ifCond .eq 7, 3), (26, .iconst 1, 1), (27, .goto 4, 3), (30, .iconst 0, 1), (31, .ireturn, 1)] = true := by decide +kernel
theorem dX1_in_23 : decode cX1_in 23 = .ok (.ifCond .eq 7, 3) := zdec_at bX1_in_23 0 rfl
theorem dX1_in_26 : decode cX1_in 26 = .ok (.iconst 1, 1) := zdec_at bX1_in_23 1 rfl
theorem dX1_in_27 : decode cX1_in 27 = .ok (.goto 4, 3) := zdec_at bX1_in_23 2 rfl
theorem dX1_in_30 : decode cX1_in 30 = .ok (.iconst 0, 1) := zdec_at bX1_in_23 3 rfl
theorem dX1_in_31 : decode cX1_in 31 = .ok (.ireturn, 1) := zdec_at bX1_in_23 4 rfl
theorem sX1_in_0 {E : zE} {d : Nat} {Q : zO → zM → Prop} (M : zM) (l0 : Int32) (l1 : Int64) (l3 : Int64) (hw : cw M) (k : if (64 : Int32) ≤ l0 then (Z E YX1_in d M [] 18 [vl (zlr l3 (l0 - (64 : Int32)))] Q) else (Z E YX1_in d M [] 18 [vl (zlr l1 l0)] Q)) : Z E YX1_in d M [(0, vi l0), (1, vl l1), (3, vl l3)] 0 [] Q := by
  refine z_iload_n dX1_in_0 rfl rfl ?_
  refine z_bipush (v := 64) dX1_in_1 rfl ?_
  refine z_icmp_ge (tgt := 12) dX1_in_3 rfl (fun h_ => ?_) (fun h_ => ?_)
  · have k := zit h_ k
    refine z_lload_n dX1_in_12 rfl rfl ?_
    refine z_iload_n dX1_in_13 rfl rfl ?_
    refine z_bipush (v := 64) dX1_in_14 rfl ?_
    refine z_isub dX1_in_16 ?_
    refine z_lshr dX1_in_17 ?_
    refine Z.pick [] rfl ?_
    exact k
  · have k := zif h_ k
    refine z_lload_n dX1_in_6 rfl rfl ?_
    refine z_iload_n dX1_in_7 rfl rfl ?_
    refine z_lshr dX1_in_8 ?_
    refine z_goto (tgt := 18) dX1_in_9 rfl ?_
    refine Z.pick [] rfl ?_
    exact k
theorem sX1_in_18 {E : zE} {d : Nat} {Q : zO → zM → Prop} (M : zM) (s0 : Int64) (hw : cw M) (k : ∀ x1_ : Int64, x1_ = (zls s0 (63 : Int32)) → (if (lg_cmp x1_ (0 : Int64)) = 0 then (Q (.inl (some (vi (0 : Int32)))) M) else (Q (.inl (some (vi (1 : Int32)))) M))) : Z E YX1_in d M [] 18 [vl s0] Q := by
  refine z_bipush (v := 63) dX1_in_18 rfl ?_
  refine z_lshl dX1_in_20 ?_
  generalize hx1_ : zls s0 (63 : Int32) = x1_
  have k := k x1_ hx1_.symm
  refine z_lconst (v := 0) dX1_in_21 rfl ?_
  refine z_lcmp dX1_in_22 ?_
  refine z_if_eq (tgt := 30) dX1_in_23 rfl (fun h_ => ?_) (fun h_ => ?_)
  · have k := zit h_ k
    refine z_iconst (v := 0) dX1_in_30 rfl ?_
    exact z_iret dX1_in_31 rfl (by decide) k
  · have k := zif h_ k
    refine z_iconst (v := 1) dX1_in_26 rfl ?_
    refine z_goto (tgt := 31) dX1_in_27 rfl ?_
    exact z_iret dX1_in_31 rfl (by decide) k
/-! ScriptTypes.key(I)V -/
theorem bX1_key_0 : zdec cX1_key 0 [(0, .iload_n 1, 1), (1, .bipush 64, 2), (3, .if_icmp .ge 18, 3), (6, .aload_n 0, 1), (7, .dup, 1), (8, .getfield 818, 3), (11, .lconst 1, 1), (12, .iload_n 1, 1), (13, .lshl, 1), (14, .lor, 1), (15, .putfield 818, 3), (18, .goto 18, 3), (21, .aload_n 0, 1), (22, .dup, 1), (23, .getfield 821, 3), (26, .lconst 1, 1)] = true := by decide +kernel
theorem dX1_key_0 : decode cX1_key 0 = .ok (.iload_n 1, 1) := zdec_at bX1_key_0 0 rfl
theorem dX1_key_1 : decode cX1_key 1 = .ok (.bipush 64, 2) := zdec_at bX1_key_0 1 rfl
theorem dX1_key_3 : decode cX1_key 3 = .ok (.if_icmp .ge 18, 3) := zdec_at bX1_key_0 2 rfl
theorem dX1_key_6 : decode cX1_key 6 = .ok (.aload_n 0, 1) := zdec_at bX1_key_0 3 rfl
theorem dX1_key_7 : decode cX1_key 7 = .ok (.dup, 1) := zdec_at bX1_key_0 4 rfl
theorem dX1_key_8 : decode cX1_key 8 = .ok (.getfield 818, 3) := zdec_at bX1_key_0 5 rfl
theorem dX1_key_11 : decode cX1_key 11 = .ok (.lconst 1, 1) := zdec_at bX1_key_0 6 rfl
theorem dX1_key_12 : decode cX1_key 12 = .ok (.iload_n 1, 1) := zdec_at bX1_key_0 7 rfl
theorem dX1_key_13 : decode cX1_key 13 = .ok (.lshl, 1) := zdec_at bX1_key_0 8 rfl
theorem dX1_key_14 : decode cX1_key 14 = .ok (.lor, 1) := zdec_at bX1_key_0 9 rfl
theorem dX1_key_15 : decode cX1_key 15 = .ok (.putfield 818, 3) := zdec_at bX1_key_0 10 rfl
theorem dX1_key_18 : decode cX1_key 18 = .ok (.goto 18, 3) := zdec_at bX1_key_0 11 rfl
theorem dX1_key_21 : decode cX1_key 21 = .ok (.aload_n 0, 1) := zdec_at bX1_key_0 12 rfl
theorem dX1_key_22 : decode cX1_key 22 = .ok (.dup, 1) := zdec_at bX1_key_0 13 rfl
theorem dX1_key_23 : decode cX1_key 23 = .ok (.getfield 821, 3) := zdec_at bX1_key_0 14 rfl
theorem dX1_key_26 : decode cX1_key 26 = .ok (.lconst 1, 1) := zdec_at bX1_key_0 15 rfl
theorem bX1_key_27 : zdec cX1_key 27 [(27, .iload_n 1, 1), (28, .bipush 64, 2), (30, .isub, 1), (31, .lshl, 1), (32, .lor, 1), (33, .putfield 821, 3), (36, .return_, 1)] = true := by decide +kernel
theorem dX1_key_27 : decode cX1_key 27 = .ok (.iload_n 1, 1) := zdec_at bX1_key_27 0 rfl
theorem dX1_key_28 : decode cX1_key 28 = .ok (.bipush 64, 2) := zdec_at bX1_key_27 1 rfl
theorem dX1_key_30 : decode cX1_key 30 = .ok (.isub, 1) := zdec_at bX1_key_27 2 rfl
theorem dX1_key_31 : decode cX1_key 31 = .ok (.lshl, 1) := zdec_at bX1_key_27 3 rfl
theorem dX1_key_32 : decode cX1_key 32 = .ok (.lor, 1) := zdec_at bX1_key_27 4 rfl
theorem dX1_key_33 : decode cX1_key 33 = .ok (.putfield 821, 3) := zdec_at bX1_key_27 5 rfl
theorem dX1_key_36 : decode cX1_key 36 = .ok (.return_, 1) := zdec_at bX1_key_27 6 rfl
theorem sX1_key_0 {E : zE} {d : Nat} {Q : zO → zM → Prop} (M : zM) (l1 : Int32) (hw : cw M) (k : if (64 : Int32) ≤ l1 then (Q (.inl none) (sl M 16 89 ((gl M 16 89) ||| (zls (1 : Int64) (l1 - (64 : Int32)))))) else (Q (.inl none) (sl M 16 88 ((gl M 16 88) ||| (zls (1 : Int64) l1))))) : Z E YX1_key d M [(0, vr (some (16, 0, 0))), (1, vi l1)] 0 [] Q := by
  refine z_iload_n dX1_key_0 rfl rfl ?_
  refine z_bipush (v := 64) dX1_key_1 rfl ?_
  refine z_icmp_ge (tgt := 21) dX1_key_3 rfl (fun h_ => ?_) (fun h_ => ?_)
  · have k := zit h_ k
    refine z_aload_n dX1_key_21 rfl rfl ?_
    refine z_dup dX1_key_22 rfl ?_
    refine z_getl dX1_key_23 fsX1_821_0 ?_
    refine z_lconst (v := 1) dX1_key_26 rfl ?_
    refine z_iload_n dX1_key_27 rfl rfl ?_
    refine z_bipush (v := 64) dX1_key_28 rfl ?_
    refine z_isub dX1_key_30 ?_
    refine z_lshl dX1_key_31 ?_
    refine z_lor dX1_key_32 ?_
    refine z_putl (by decide) dX1_key_33 (zfwN.w fwX1_821_0) ?_
    exact z_vret dX1_key_36 rfl k
  · have k := zif h_ k
    refine z_aload_n dX1_key_6 rfl rfl ?_
    refine z_dup dX1_key_7 rfl ?_
    refine z_getl dX1_key_8 fsX1_818_0 ?_
    refine z_lconst (v := 1) dX1_key_11 rfl ?_
    refine z_iload_n dX1_key_12 rfl rfl ?_
    refine z_lshl dX1_key_13 ?_
    refine z_lor dX1_key_14 ?_
    refine z_putl (by decide) dX1_key_15 (zfwN.w fwX1_818_0) ?_
    refine z_goto (tgt := 36) dX1_key_18 rfl ?_
    exact z_vret dX1_key_36 rfl k
/-! ScriptTypes.writes(JJZLScriptTypes$Bag;)V -/
theorem bX1_writes_0 : zdec cX1_writes 0 [(0, .iload 5, 2), (2, .ifCond .eq 11, 3), (5, .lload_n 1, 1), (6, .lload_n 3, 1), (7, .invokestatic 988, 3), (10, .goto 4, 3), (13, .iconst (-1), 1), (14, .istore 7, 2), (16, .aload_n 0, 1), (17, .invokevirtual 886, 3), (20, .istore 8, 2), (22, .iload 7, 2), (24, .iconst (-1), 1), (25, .if_icmp .eq 74, 3), (28, .iload 8, 2), (30, .iconst (-1), 1)] = true := by decide +kernel
theorem dX1_writes_0 : decode cX1_writes 0 = .ok (.iload 5, 2) := zdec_at bX1_writes_0 0 rfl
theorem dX1_writes_2 : decode cX1_writes 2 = .ok (.ifCond .eq 11, 3) := zdec_at bX1_writes_0 1 rfl
theorem dX1_writes_5 : decode cX1_writes 5 = .ok (.lload_n 1, 1) := zdec_at bX1_writes_0 2 rfl
theorem dX1_writes_6 : decode cX1_writes 6 = .ok (.lload_n 3, 1) := zdec_at bX1_writes_0 3 rfl
theorem dX1_writes_7 : decode cX1_writes 7 = .ok (.invokestatic 988, 3) := zdec_at bX1_writes_0 4 rfl
theorem dX1_writes_10 : decode cX1_writes 10 = .ok (.goto 4, 3) := zdec_at bX1_writes_0 5 rfl
theorem dX1_writes_13 : decode cX1_writes 13 = .ok (.iconst (-1), 1) := zdec_at bX1_writes_0 6 rfl
theorem dX1_writes_14 : decode cX1_writes 14 = .ok (.istore 7, 2) := zdec_at bX1_writes_0 7 rfl
theorem dX1_writes_16 : decode cX1_writes 16 = .ok (.aload_n 0, 1) := zdec_at bX1_writes_0 8 rfl
theorem dX1_writes_17 : decode cX1_writes 17 = .ok (.invokevirtual 886, 3) := zdec_at bX1_writes_0 9 rfl
theorem dX1_writes_20 : decode cX1_writes 20 = .ok (.istore 8, 2) := zdec_at bX1_writes_0 10 rfl
theorem dX1_writes_22 : decode cX1_writes 22 = .ok (.iload 7, 2) := zdec_at bX1_writes_0 11 rfl
theorem dX1_writes_24 : decode cX1_writes 24 = .ok (.iconst (-1), 1) := zdec_at bX1_writes_0 12 rfl
theorem dX1_writes_25 : decode cX1_writes 25 = .ok (.if_icmp .eq 74, 3) := zdec_at bX1_writes_0 13 rfl
theorem dX1_writes_28 : decode cX1_writes 28 = .ok (.iload 8, 2) := zdec_at bX1_writes_0 14 rfl
theorem dX1_writes_30 : decode cX1_writes 30 = .ok (.iconst (-1), 1) := zdec_at bX1_writes_0 15 rfl
theorem bX1_writes_31 : zdec cX1_writes 31 [(31, .if_icmp .eq 68, 3), (34, .aload_n 0, 1), (35, .getfield 684, 3), (38, .getfield 731, 3), (41, .iload 7, 2), (43, .baload, 1), (44, .ifCond .eq 55, 3), (47, .iload 8, 2), (49, .ifCond .ne 19, 3), (52, .iload 7, 2), (54, .aload_n 0, 1), (55, .getfield 652, 3), (58, .aload_n 0, 1), (59, .getfield 655, 3), (62, .invokestatic 827, 3), (65, .ifCond .ne 33, 3)] = true := by decide +kernel
theorem dX1_writes_31 : decode cX1_writes 31 = .ok (.if_icmp .eq 68, 3) := zdec_at bX1_writes_31 0 rfl
theorem dX1_writes_34 : decode cX1_writes 34 = .ok (.aload_n 0, 1) := zdec_at bX1_writes_31 1 rfl
theorem dX1_writes_35 : decode cX1_writes 35 = .ok (.getfield 684, 3) := zdec_at bX1_writes_31 2 rfl
theorem dX1_writes_38 : decode cX1_writes 38 = .ok (.getfield 731, 3) := zdec_at bX1_writes_31 3 rfl
theorem dX1_writes_41 : decode cX1_writes 41 = .ok (.iload 7, 2) := zdec_at bX1_writes_31 4 rfl
theorem dX1_writes_43 : decode cX1_writes 43 = .ok (.baload, 1) := zdec_at bX1_writes_31 5 rfl
theorem dX1_writes_44 : decode cX1_writes 44 = .ok (.ifCond .eq 55, 3) := zdec_at bX1_writes_31 6 rfl
theorem dX1_writes_47 : decode cX1_writes 47 = .ok (.iload 8, 2) := zdec_at bX1_writes_31 7 rfl
theorem dX1_writes_49 : decode cX1_writes 49 = .ok (.ifCond .ne 19, 3) := zdec_at bX1_writes_31 8 rfl
theorem dX1_writes_52 : decode cX1_writes 52 = .ok (.iload 7, 2) := zdec_at bX1_writes_31 9 rfl
theorem dX1_writes_54 : decode cX1_writes 54 = .ok (.aload_n 0, 1) := zdec_at bX1_writes_31 10 rfl
theorem dX1_writes_55 : decode cX1_writes 55 = .ok (.getfield 652, 3) := zdec_at bX1_writes_31 11 rfl
theorem dX1_writes_58 : decode cX1_writes 58 = .ok (.aload_n 0, 1) := zdec_at bX1_writes_31 12 rfl
theorem dX1_writes_59 : decode cX1_writes 59 = .ok (.getfield 655, 3) := zdec_at bX1_writes_31 13 rfl
theorem dX1_writes_62 : decode cX1_writes 62 = .ok (.invokestatic 827, 3) := zdec_at bX1_writes_31 14 rfl
theorem dX1_writes_65 : decode cX1_writes 65 = .ok (.ifCond .ne 33, 3) := zdec_at bX1_writes_31 15 rfl
theorem bX1_writes_68 : zdec cX1_writes 68 [(68, .aload_n 0, 1), (69, .getfield 684, 3), (72, .iload 7, 2), (74, .iload 8, 2), (76, .aload 6, 2), (78, .getfield 916, 3), (81, .aload 6, 2), (83, .getfield 918, 3), (86, .aload 6, 2), (88, .getfield 920, 3), (91, .ldc2_w 869, 3), (94, .land, 1), (95, .invokevirtual 722, 3), (98, .return_, 1), (99, .iconst 0, 1), (100, .istore 9, 2)] = true := by decide +kernel
theorem dX1_writes_68 : decode cX1_writes 68 = .ok (.aload_n 0, 1) := zdec_at bX1_writes_68 0 rfl
theorem dX1_writes_69 : decode cX1_writes 69 = .ok (.getfield 684, 3) := zdec_at bX1_writes_68 1 rfl
theorem dX1_writes_72 : decode cX1_writes 72 = .ok (.iload 7, 2) := zdec_at bX1_writes_68 2 rfl
theorem dX1_writes_74 : decode cX1_writes 74 = .ok (.iload 8, 2) := zdec_at bX1_writes_68 3 rfl
theorem dX1_writes_76 : decode cX1_writes 76 = .ok (.aload 6, 2) := zdec_at bX1_writes_68 4 rfl
theorem dX1_writes_78 : decode cX1_writes 78 = .ok (.getfield 916, 3) := zdec_at bX1_writes_68 5 rfl
theorem dX1_writes_81 : decode cX1_writes 81 = .ok (.aload 6, 2) := zdec_at bX1_writes_68 6 rfl
theorem dX1_writes_83 : decode cX1_writes 83 = .ok (.getfield 918, 3) := zdec_at bX1_writes_68 7 rfl
theorem dX1_writes_86 : decode cX1_writes 86 = .ok (.aload 6, 2) := zdec_at bX1_writes_68 8 rfl
theorem dX1_writes_88 : decode cX1_writes 88 = .ok (.getfield 920, 3) := zdec_at bX1_writes_68 9 rfl
theorem dX1_writes_91 : decode cX1_writes 91 = .ok (.ldc2_w 869, 3) := zdec_at bX1_writes_68 10 rfl
theorem dX1_writes_94 : decode cX1_writes 94 = .ok (.land, 1) := zdec_at bX1_writes_68 11 rfl
theorem dX1_writes_95 : decode cX1_writes 95 = .ok (.invokevirtual 722, 3) := zdec_at bX1_writes_68 12 rfl
theorem dX1_writes_98 : decode cX1_writes 98 = .ok (.return_, 1) := zdec_at bX1_writes_68 13 rfl
theorem dX1_writes_99 : decode cX1_writes 99 = .ok (.iconst 0, 1) := zdec_at bX1_writes_68 14 rfl
theorem dX1_writes_100 : decode cX1_writes 100 = .ok (.istore 9, 2) := zdec_at bX1_writes_68 15 rfl
theorem bX1_writes_102 : zdec cX1_writes 102 [(102, .iload 9, 2), (104, .aload_n 0, 1), (105, .getfield 313, 3), (108, .if_icmp .ge 100, 3), (111, .iload 9, 2), (113, .lload_n 1, 1), (114, .lload_n 3, 1), (115, .invokestatic 827, 3), (118, .ifCond .eq 84, 3), (121, .aload_n 0, 1), (122, .getfield 684, 3), (125, .getfield 731, 3), (128, .iload 9, 2), (130, .baload, 1), (131, .ifCond .ne 6, 3), (134, .goto 68, 3)] = true := by decide +kernel
theorem dX1_writes_102 : decode cX1_writes 102 = .ok (.iload 9, 2) := zdec_at bX1_writes_102 0 rfl
theorem dX1_writes_104 : decode cX1_writes 104 = .ok (.aload_n 0, 1) := zdec_at bX1_writes_102 1 rfl
theorem dX1_writes_105 : decode cX1_writes 105 = .ok (.getfield 313, 3) := zdec_at bX1_writes_102 2 rfl
theorem dX1_writes_108 : decode cX1_writes 108 = .ok (.if_icmp .ge 100, 3) := zdec_at bX1_writes_102 3 rfl
theorem dX1_writes_111 : decode cX1_writes 111 = .ok (.iload 9, 2) := zdec_at bX1_writes_102 4 rfl
theorem dX1_writes_113 : decode cX1_writes 113 = .ok (.lload_n 1, 1) := zdec_at bX1_writes_102 5 rfl
theorem dX1_writes_114 : decode cX1_writes 114 = .ok (.lload_n 3, 1) := zdec_at bX1_writes_102 6 rfl
theorem dX1_writes_115 : decode cX1_writes 115 = .ok (.invokestatic 827, 3) := zdec_at bX1_writes_102 7 rfl
theorem dX1_writes_118 : decode cX1_writes 118 = .ok (.ifCond .eq 84, 3) := zdec_at bX1_writes_102 8 rfl
theorem dX1_writes_121 : decode cX1_writes 121 = .ok (.aload_n 0, 1) := zdec_at bX1_writes_102 9 rfl
theorem dX1_writes_122 : decode cX1_writes 122 = .ok (.getfield 684, 3) := zdec_at bX1_writes_102 10 rfl
theorem dX1_writes_125 : decode cX1_writes 125 = .ok (.getfield 731, 3) := zdec_at bX1_writes_102 11 rfl
theorem dX1_writes_128 : decode cX1_writes 128 = .ok (.iload 9, 2) := zdec_at bX1_writes_102 12 rfl
theorem dX1_writes_130 : decode cX1_writes 130 = .ok (.baload, 1) := zdec_at bX1_writes_102 13 rfl
theorem dX1_writes_131 : decode cX1_writes 131 = .ok (.ifCond .ne 6, 3) := zdec_at bX1_writes_102 14 rfl
theorem dX1_writes_134 : decode cX1_writes 134 = .ok (.goto 68, 3) := zdec_at bX1_writes_102 15 rfl
theorem bX1_writes_137 : zdec cX1_writes 137 [(137, .iload 9, 2), (139, .aload_n 0, 1), (140, .getfield 652, 3), (143, .aload_n 0, 1), (144, .getfield 655, 3), (147, .invokestatic 827, 3), (150, .istore 10, 2), (152, .iconst 0, 1), (153, .istore 11, 2), (155, .iload 11, 2), (157, .aload_n 0, 1), (158, .getfield 58, 3), (161, .if_icmp .gt 41, 3), (164, .aload_n 0, 1), (165, .iload 11, 2), (167, .invokevirtual 856, 3)] = true := by decide +kernel
theorem dX1_writes_137 : decode cX1_writes 137 = .ok (.iload 9, 2) := zdec_at bX1_writes_137 0 rfl
theorem dX1_writes_139 : decode cX1_writes 139 = .ok (.aload_n 0, 1) := zdec_at bX1_writes_137 1 rfl
theorem dX1_writes_140 : decode cX1_writes 140 = .ok (.getfield 652, 3) := zdec_at bX1_writes_137 2 rfl
theorem dX1_writes_143 : decode cX1_writes 143 = .ok (.aload_n 0, 1) := zdec_at bX1_writes_137 3 rfl
theorem dX1_writes_144 : decode cX1_writes 144 = .ok (.getfield 655, 3) := zdec_at bX1_writes_137 4 rfl
theorem dX1_writes_147 : decode cX1_writes 147 = .ok (.invokestatic 827, 3) := zdec_at bX1_writes_137 5 rfl
theorem dX1_writes_150 : decode cX1_writes 150 = .ok (.istore 10, 2) := zdec_at bX1_writes_137 6 rfl
theorem dX1_writes_152 : decode cX1_writes 152 = .ok (.iconst 0, 1) := zdec_at bX1_writes_137 7 rfl
theorem dX1_writes_153 : decode cX1_writes 153 = .ok (.istore 11, 2) := zdec_at bX1_writes_137 8 rfl
theorem dX1_writes_155 : decode cX1_writes 155 = .ok (.iload 11, 2) := zdec_at bX1_writes_137 9 rfl
theorem dX1_writes_157 : decode cX1_writes 157 = .ok (.aload_n 0, 1) := zdec_at bX1_writes_137 10 rfl
theorem dX1_writes_158 : decode cX1_writes 158 = .ok (.getfield 58, 3) := zdec_at bX1_writes_137 11 rfl
theorem dX1_writes_161 : decode cX1_writes 161 = .ok (.if_icmp .gt 41, 3) := zdec_at bX1_writes_137 12 rfl
theorem dX1_writes_164 : decode cX1_writes 164 = .ok (.aload_n 0, 1) := zdec_at bX1_writes_137 13 rfl
theorem dX1_writes_165 : decode cX1_writes 165 = .ok (.iload 11, 2) := zdec_at bX1_writes_137 14 rfl
theorem dX1_writes_167 : decode cX1_writes 167 = .ok (.invokevirtual 856, 3) := zdec_at bX1_writes_137 15 rfl
theorem bX1_writes_170 : zdec cX1_writes 170 [(170, .ifCond .eq 26, 3), (173, .iload 10, 2), (175, .ifCond .eq 8, 3), (178, .iload 11, 2), (180, .ifCond .eq 16, 3), (183, .aload_n 0, 1), (184, .getfield 684, 3), (187, .iload 9, 2), (189, .iload 11, 2), (191, .aload 6, 2), (193, .invokevirtual 992, 3), (196, .iinc 11 1, 3), (199, .goto (-44), 3), (202, .iinc 9 1, 3), (205, .goto (-103), 3), (208, .return_, 1)] = true := by decide +kernel
theorem dX1_writes_170 : decode cX1_writes 170 = .ok (.ifCond .eq 26, 3) := zdec_at bX1_writes_170 0 rfl
theorem dX1_writes_173 : decode cX1_writes 173 = .ok (.iload 10, 2) := zdec_at bX1_writes_170 1 rfl
theorem dX1_writes_175 : decode cX1_writes 175 = .ok (.ifCond .eq 8, 3) := zdec_at bX1_writes_170 2 rfl
theorem dX1_writes_178 : decode cX1_writes 178 = .ok (.iload 11, 2) := zdec_at bX1_writes_170 3 rfl
theorem dX1_writes_180 : decode cX1_writes 180 = .ok (.ifCond .eq 16, 3) := zdec_at bX1_writes_170 4 rfl
theorem dX1_writes_183 : decode cX1_writes 183 = .ok (.aload_n 0, 1) := zdec_at bX1_writes_170 5 rfl
theorem dX1_writes_184 : decode cX1_writes 184 = .ok (.getfield 684, 3) := zdec_at bX1_writes_170 6 rfl
theorem dX1_writes_187 : decode cX1_writes 187 = .ok (.iload 9, 2) := zdec_at bX1_writes_170 7 rfl
theorem dX1_writes_189 : decode cX1_writes 189 = .ok (.iload 11, 2) := zdec_at bX1_writes_170 8 rfl
theorem dX1_writes_191 : decode cX1_writes 191 = .ok (.aload 6, 2) := zdec_at bX1_writes_170 9 rfl
theorem dX1_writes_193 : decode cX1_writes 193 = .ok (.invokevirtual 992, 3) := zdec_at bX1_writes_170 10 rfl
theorem dX1_writes_196 : decode cX1_writes 196 = .ok (.iinc 11 1, 3) := zdec_at bX1_writes_170 11 rfl
theorem dX1_writes_199 : decode cX1_writes 199 = .ok (.goto (-44), 3) := zdec_at bX1_writes_170 12 rfl
theorem dX1_writes_202 : decode cX1_writes 202 = .ok (.iinc 9 1, 3) := zdec_at bX1_writes_170 13 rfl
theorem dX1_writes_205 : decode cX1_writes 205 = .ok (.goto (-103), 3) := zdec_at bX1_writes_170 14 rfl
theorem dX1_writes_208 : decode cX1_writes 208 = .ok (.return_, 1) := zdec_at bX1_writes_170 15 rfl
theorem sX1_writes_0 {E : zE} {d : Nat} {Q : zO → zM → Prop} (M : zM) (l1 : Int64) (l3 : Int64) (l5 : Int32) (r6 : Option zP) (hw : cw M) (k : if l5 = 0 then (Z E YX1_onlyKey d M (zargs 0 [vr (some (16, 0, 0))]) 0 [] (zafter E YX1_writes (d + 1) [(0, vr (some (16, 0, 0))), (1, vl l1), (3, vl l3), (6, vr r6), (7, vi (-1 : Int32))] 17 3 [] Q)) else (Z E YX1_onlySingle d M (zargs 0 [vl l1, vl l3]) 0 [] (zafter E YX1_writes (d + 1) [(0, vr (some (16, 0, 0))), (1, vl l1), (3, vl l3), (6, vr r6)] 7 3 [] Q))) : Z E YX1_writes (d + 1) M [(0, vr (some (16, 0, 0))), (1, vl l1), (3, vl l3), (5, vi l5), (6, vr r6)] 0 [] Q := by
  refine z_iload dX1_writes_0 rfl ?_
  refine z_if_eq (tgt := 13) dX1_writes_2 rfl (fun h_ => ?_) (fun h_ => ?_)
  · have k := zit h_ k
    refine z_iconst (v := -1) dX1_writes_13 rfl ?_
    refine z_ist dX1_writes_14 (by decide) (lv' := [(0, vr (some (16, 0, 0))), (1, vl l1), (3, vl l3), (5, vi l5), (6, vr r6), (7, vi (-1 : Int32))]) rfl ?_
    refine z_aload_n dX1_writes_16 rfl rfl ?_
    refine Z.pick [0, 1, 2, 4, 5] rfl ?_
    exact z_callV (as := []) (st := []) dX1_writes_17 vsX1_886_0 (Nat.le_refl _) (Nat.le_of_ble_eq_true rfl) (Nat.le_of_ble_eq_true rfl) rfl k
  · have k := zif h_ k
    refine z_lload_n dX1_writes_5 rfl rfl ?_
    refine z_lload_n dX1_writes_6 rfl rfl ?_
    refine Z.pick [0, 1, 2, 4] rfl ?_
    exact z_callS (as := [vl l1, vl l3]) (st := []) dX1_writes_7 ssX1_988 (Nat.le_refl _) (Nat.le_of_ble_eq_true rfl) (Nat.le_of_ble_eq_true rfl) rfl k
theorem sX1_writes_10 {E : zE} {d : Nat} {Q : zO → zM → Prop} (M : zM) (l1 : Int64) (l3 : Int64) (r6 : Option zP) (s0 : Int32) (hw : cw M) (k : Z E YX1_onlyKey d M (zargs 0 [vr (some (16, 0, 0))]) 0 [] (zafter E YX1_writes (d + 1) [(0, vr (some (16, 0, 0))), (1, vl l1), (3, vl l3), (6, vr r6), (7, vi s0)] 17 3 [] Q)) : Z E YX1_writes (d + 1) M [(0, vr (some (16, 0, 0))), (1, vl l1), (3, vl l3), (6, vr r6)] 10 [vi s0] Q := by
  refine z_goto (tgt := 14) dX1_writes_10 rfl ?_
  refine z_ist dX1_writes_14 (by decide) (lv' := [(0, vr (some (16, 0, 0))), (1, vl l1), (3, vl l3), (6, vr r6), (7, vi s0)]) rfl ?_
  refine z_aload_n dX1_writes_16 rfl rfl ?_
  exact z_callV (as := []) (st := []) dX1_writes_17 vsX1_886_0 (Nat.le_refl _) (Nat.le_of_ble_eq_true rfl) (Nat.le_of_ble_eq_true rfl) rfl k
theorem sX1_writes_20 {E : zE} {d : Nat} {Q : zO → zM → Prop} (M : zM) (l1 : Int64) (l3 : Int64) (r6 : Option zP) (l7 : Int32) (s0 : Int32) (hw : cw M) (k : if l7 = (-1 : Int32) then (Z E YX1_writes (d + 1) M [(0, vr (some (16, 0, 0))), (1, vl l1), (3, vl l3), (6, vr r6), (9, vi (0 : Int32))] 102 [] Q) else (if s0 = (-1 : Int32) then (Z E YX1_writes (d + 1) M [(0, vr (some (16, 0, 0))), (1, vl l1), (3, vl l3), (6, vr r6), (9, vi (0 : Int32))] 102 [] Q) else (∃ b1 : Nat, (gr M 16 60) = some (b1, 7, 0) ∧ (∃ b2 m2 : Nat, (gr M b1 8) = some (b2, 104, m2) ∧ (vp_in l7 m2 ∧ (if (gi M b2 (l7).toNatClampNeg) = 0 then (Z E YX1_writes (d + 1) M [(0, vr (some (16, 0, 0))), (1, vl l1), (3, vl l3), (6, vr r6), (9, vi (0 : Int32))] 102 [] Q) else (if s0 = 0 then (Z E YX1_in d M (zargs 0 [vi l7, vl (gl M 16 71), vl (gl M 16 72)]) 0 [] (zafter E YX1_writes (d + 1) [(0, vr (some (16, 0, 0))), (6, vr r6), (7, vi l7), (8, vi s0)] 62 3 [] Q)) else (Z E YX1_writes (d + 1) M [(0, vr (some (16, 0, 0))), (6, vr r6), (7, vi l7), (8, vi s0)] 68 [] Q)))))))) : Z E YX1_writes (d + 1) M [(0, vr (some (16, 0, 0))), (1, vl l1), (3, vl l3), (6, vr r6), (7, vi l7)] 20 [vi s0] Q := by
  refine z_ist dX1_writes_20 (by decide) (lv' := [(0, vr (some (16, 0, 0))), (1, vl l1), (3, vl l3), (6, vr r6), (7, vi l7), (8, vi s0)]) rfl ?_
  refine z_iload dX1_writes_22 rfl ?_
  refine z_iconst (v := -1) dX1_writes_24 rfl ?_
  refine z_icmp_eq (tgt := 99) dX1_writes_25 rfl (fun h_ => ?_) (fun h_ => ?_)
  · have k := zit h_ k
    refine z_iconst (v := 0) dX1_writes_99 rfl ?_
    refine z_ist dX1_writes_100 (by decide) (lv' := [(0, vr (some (16, 0, 0))), (1, vl l1), (3, vl l3), (6, vr r6), (7, vi l7), (8, vi s0), (9, vi (0 : Int32))]) rfl ?_
    refine Z.pick [0, 1, 2, 3, 6] rfl ?_
    exact k
  · have k := zif h_ k
    refine z_iload dX1_writes_28 rfl ?_
    refine z_iconst (v := -1) dX1_writes_30 rfl ?_
    refine z_icmp_eq (tgt := 99) dX1_writes_31 rfl (fun h_ => ?_) (fun h_ => ?_)
    · have k := zit h_ k
      refine z_iconst (v := 0) dX1_writes_99 rfl ?_
      refine z_ist dX1_writes_100 (by decide) (lv' := [(0, vr (some (16, 0, 0))), (1, vl l1), (3, vl l3), (6, vr r6), (7, vi l7), (8, vi s0), (9, vi (0 : Int32))]) rfl ?_
      refine Z.pick [0, 1, 2, 3, 6] rfl ?_
      exact k
    · have k := zif h_ k
      refine z_aload_n dX1_writes_34 rfl rfl ?_
      refine z_getr (r := (gr M 16 60)) dX1_writes_35 fsX1_684_0 rfl ?_
      obtain ⟨b1, e1_, k⟩ := k
      refine Z.eqs (lv' := [(0, vr (some (16, 0, 0))), (1, vl l1), (3, vl l3), (6, vr r6), (7, vi l7), (8, vi s0)]) (st' := [vr (some (b1, 7, 0))]) rfl (by rw [e1_] <;> rfl) ?_
      refine z_getr (r := (gr M b1 8)) dX1_writes_38 fsX1_731_7 rfl ?_
      refine z_iload dX1_writes_41 rfl ?_
      obtain ⟨b2, m2, e2_, k⟩ := k
      refine Z.eqs (lv' := [(0, vr (some (16, 0, 0))), (1, vl l1), (3, vl l3), (6, vr r6), (7, vi l7), (8, vi s0)]) (st' := [vi l7, vr (some (b2, 104, m2))]) rfl (by rw [e2_] <;> rfl) ?_
      obtain ⟨b_, k⟩ := k
      refine z_zald dX1_writes_43 b_ ?_
      refine z_if_eq (tgt := 99) dX1_writes_44 rfl (fun h_ => ?_) (fun h_ => ?_)
      · have k := zit h_ k
        refine z_iconst (v := 0) dX1_writes_99 rfl ?_
        refine z_ist dX1_writes_100 (by decide) (lv' := [(0, vr (some (16, 0, 0))), (1, vl l1), (3, vl l3), (6, vr r6), (7, vi l7), (8, vi s0), (9, vi (0 : Int32))]) rfl ?_
        refine Z.pick [0, 1, 2, 3, 6] rfl ?_
        exact k
      · have k := zif h_ k
        refine z_iload dX1_writes_47 rfl ?_
        refine z_if_ne (tgt := 68) dX1_writes_49 rfl (fun h_ => ?_) (fun h_ => ?_)
        · have k := zif h_ k
          refine Z.pick [0, 3, 4, 5] rfl ?_
          exact k
        · have k := zit h_ k
          refine z_iload dX1_writes_52 rfl ?_
          refine z_aload_n dX1_writes_54 rfl rfl ?_
          refine z_getl dX1_writes_55 fsX1_652_0 ?_
          refine z_aload_n dX1_writes_58 rfl rfl ?_
          refine z_getl dX1_writes_59 fsX1_655_0 ?_
          refine Z.pick [0, 3, 4, 5] rfl ?_
          exact z_callS (as := [vi l7, vl (gl M 16 71), vl (gl M 16 72)]) (st := []) dX1_writes_62 ssX1_827 (Nat.le_refl _) (Nat.le_of_ble_eq_true rfl) (Nat.le_of_ble_eq_true rfl) rfl k
theorem sX1_writes_65 {E : zE} {d : Nat} {Q : zO → zM → Prop} (M : zM) (r6 : Option zP) (l7 : Int32) (l8 : Int32) (s0 : Int32) (hw : cw M) (k : if s0 = 0 then (Z E YX1_writes (d + 1) M [(0, vr (some (16, 0, 0))), (6, vr r6), (7, vi l7), (8, vi l8)] 68 [] Q) else (Z E YX1_writes (d + 1) M [] 98 [] Q)) : Z E YX1_writes (d + 1) M [(0, vr (some (16, 0, 0))), (6, vr r6), (7, vi l7), (8, vi l8)] 65 [vi s0] Q := by
  refine z_if_ne (tgt := 98) dX1_writes_65 rfl (fun h_ => ?_) (fun h_ => ?_)
  · have k := zif h_ k
    refine Z.pick [] rfl ?_
    exact k
  · have k := zit h_ k
    exact k
theorem sX1_writes_68 {E : zE} {d : Nat} {Q : zO → zM → Prop} (M : zM) (r6 : Option zP) (l7 : Int32) (l8 : Int32) (hw : cw M) (k : ∃ b1 : Nat, r6 = some (b1, 4, 0) ∧ (∃ b2 : Nat, (gr M 16 60) = some (b2, 7, 0) ∧ (Z E YX43_put d M (zargs 0 [vr (some (b2, 7, 0)), vi l7, vi l8, vl (gl M b1 0), vl (gl M b1 1), vl ((gl M b1 2) &&& (-513 : Int64))]) 0 [] (zafter E YX1_writes (d + 1) [] 95 3 [] Q)))) : Z E YX1_writes (d + 1) M [(0, vr (some (16, 0, 0))), (6, vr r6), (7, vi l7), (8, vi l8)] 68 [] Q := by
  refine z_aload_n dX1_writes_68 rfl rfl ?_
  refine z_getr (r := (gr M 16 60)) dX1_writes_69 fsX1_684_0 rfl ?_
  refine z_iload dX1_writes_72 rfl ?_
  refine z_iload dX1_writes_74 rfl ?_
  refine z_aload dX1_writes_76 rfl ?_
  obtain ⟨b1, e1_, k⟩ := k
  refine Z.eqs (lv' := [(0, vr (some (16, 0, 0))), (6, vr (some (b1, 4, 0))), (7, vi l7), (8, vi l8)]) (st' := [vr (some (b1, 4, 0)), vi l8, vi l7, vr (gr M 16 60)]) (by rw [e1_] <;> rfl) (by rw [e1_] <;> rfl) ?_
  refine z_getl dX1_writes_78 fsX1_916_4 ?_
  refine z_aload dX1_writes_81 rfl ?_
  refine z_getl dX1_writes_83 fsX1_918_4 ?_
  refine z_aload dX1_writes_86 rfl ?_
  refine z_getl dX1_writes_88 fsX1_920_4 ?_
  refine z_ldc2 (v := -513) dX1_writes_91 q3198 ?_
  refine z_land dX1_writes_94 ?_
  obtain ⟨b2, e2_, k⟩ := k
  refine Z.eqs (lv' := [(0, vr (some (16, 0, 0))), (6, vr (some (b1, 4, 0))), (7, vi l7), (8, vi l8)]) (st' := [vl ((gl M b1 2) &&& (-513 : Int64)), vl (gl M b1 1), vl (gl M b1 0), vi l8, vi l7, vr (some (b2, 7, 0))]) rfl (by rw [e2_] <;> rfl) ?_
  refine Z.pick [] rfl ?_
  exact z_callV (as := [vi l7, vi l8, vl (gl M b1 0), vl (gl M b1 1), vl ((gl M b1 2) &&& (-513 : Int64))]) (st := []) dX1_writes_95 vsX1_722_7 (Nat.le_refl _) (Nat.le_of_ble_eq_true rfl) (Nat.le_of_ble_eq_true rfl) rfl k
theorem sX1_writes_98 {E : zE} {d : Nat} {Q : zO → zM → Prop} (M : zM)  (hw : cw M) (k : Q (.inl none) M) : Z E YX1_writes (d + 1) M [] 98 [] Q := by
  exact z_vret dX1_writes_98 rfl k
theorem sX1_writes_102 {E : zE} {d : Nat} {Q : zO → zM → Prop} (M : zM) (l1 : Int64) (l3 : Int64) (r6 : Option zP) (l9 : Int32) (hw : cw M) (k : if (gi M 16 11) ≤ l9 then (Q (.inl none) M) else (Z E YX1_in d M (zargs 0 [vi l9, vl l1, vl l3]) 0 [] (zafter E YX1_writes (d + 1) [(0, vr (some (16, 0, 0))), (1, vl l1), (3, vl l3), (6, vr r6), (9, vi l9)] 115 3 [] Q))) : Z E YX1_writes (d + 1) M [(0, vr (some (16, 0, 0))), (1, vl l1), (3, vl l3), (6, vr r6), (9, vi l9)] 102 [] Q := by
  refine z_iload dX1_writes_102 rfl ?_
  refine z_aload_n dX1_writes_104 rfl rfl ?_
  refine z_geti dX1_writes_105 fsX1_313_0 ?_
  refine z_icmp_ge (tgt := 208) dX1_writes_108 rfl (fun h_ => ?_) (fun h_ => ?_)
  · have k := zit h_ k
    exact z_vret dX1_writes_208 rfl k
  · have k := zif h_ k
    refine z_iload dX1_writes_111 rfl ?_
    refine z_lload_n dX1_writes_113 rfl rfl ?_
    refine z_lload_n dX1_writes_114 rfl rfl ?_
    exact z_callS (as := [vi l9, vl l1, vl l3]) (st := []) dX1_writes_115 ssX1_827 (Nat.le_refl _) (Nat.le_of_ble_eq_true rfl) (Nat.le_of_ble_eq_true rfl) rfl k
theorem sX1_writes_118 {E : zE} {d : Nat} {Q : zO → zM → Prop} (M : zM) (l1 : Int64) (l3 : Int64) (r6 : Option zP) (l9 : Int32) (s0 : Int32) (hw : cw M) (k : if s0 = 0 then (Z E YX1_writes (d + 1) M [(0, vr (some (16, 0, 0))), (1, vl l1), (3, vl l3), (6, vr r6), (9, vi (l9 + (1 : Int32)))] 102 [] Q) else (∃ b1 : Nat, (gr M 16 60) = some (b1, 7, 0) ∧ (∃ b2 m2 : Nat, (gr M b1 8) = some (b2, 104, m2) ∧ (vp_in l9 m2 ∧ (if (gi M b2 (l9).toNatClampNeg) = 0 then (Z E YX1_writes (d + 1) M [(0, vr (some (16, 0, 0))), (1, vl l1), (3, vl l3), (6, vr r6), (9, vi (l9 + (1 : Int32)))] 102 [] Q) else (Z E YX1_in d M (zargs 0 [vi l9, vl (gl M 16 71), vl (gl M 16 72)]) 0 [] (zafter E YX1_writes (d + 1) [(0, vr (some (16, 0, 0))), (1, vl l1), (3, vl l3), (6, vr r6), (9, vi l9)] 147 3 [] Q))))))) : Z E YX1_writes (d + 1) M [(0, vr (some (16, 0, 0))), (1, vl l1), (3, vl l3), (6, vr r6), (9, vi l9)] 118 [vi s0] Q := by
  refine z_if_eq (tgt := 202) dX1_writes_118 rfl (fun h_ => ?_) (fun h_ => ?_)
  · have k := zit h_ k
    refine z_inc (v := (l9 + (1 : Int32))) dX1_writes_202 rfl rfl (by decide) (lv' := [(0, vr (some (16, 0, 0))), (1, vl l1), (3, vl l3), (6, vr r6), (9, vi (l9 + (1 : Int32)))]) rfl ?_
    refine z_goto (tgt := 102) dX1_writes_205 rfl ?_
    exact k
  · have k := zif h_ k
    refine z_aload_n dX1_writes_121 rfl rfl ?_
    refine z_getr (r := (gr M 16 60)) dX1_writes_122 fsX1_684_0 rfl ?_
    obtain ⟨b1, e1_, k⟩ := k
    refine Z.eqs (lv' := [(0, vr (some (16, 0, 0))), (1, vl l1), (3, vl l3), (6, vr r6), (9, vi l9)]) (st' := [vr (some (b1, 7, 0))]) rfl (by rw [e1_] <;> rfl) ?_
    refine z_getr (r := (gr M b1 8)) dX1_writes_125 fsX1_731_7 rfl ?_
    refine z_iload dX1_writes_128 rfl ?_
    obtain ⟨b2, m2, e2_, k⟩ := k
    refine Z.eqs (lv' := [(0, vr (some (16, 0, 0))), (1, vl l1), (3, vl l3), (6, vr r6), (9, vi l9)]) (st' := [vi l9, vr (some (b2, 104, m2))]) rfl (by rw [e2_] <;> rfl) ?_
    obtain ⟨b_, k⟩ := k
    refine z_zald dX1_writes_130 b_ ?_
    refine z_if_ne (tgt := 137) dX1_writes_131 rfl (fun h_ => ?_) (fun h_ => ?_)
    · have k := zif h_ k
      refine z_iload dX1_writes_137 rfl ?_
      refine z_aload_n dX1_writes_139 rfl rfl ?_
      refine z_getl dX1_writes_140 fsX1_652_0 ?_
      refine z_aload_n dX1_writes_143 rfl rfl ?_
      refine z_getl dX1_writes_144 fsX1_655_0 ?_
      exact z_callS (as := [vi l9, vl (gl M 16 71), vl (gl M 16 72)]) (st := []) dX1_writes_147 ssX1_827 (Nat.le_refl _) (Nat.le_of_ble_eq_true rfl) (Nat.le_of_ble_eq_true rfl) rfl k
    · have k := zit h_ k
      refine z_goto (tgt := 202) dX1_writes_134 rfl ?_
      refine z_inc (v := (l9 + (1 : Int32))) dX1_writes_202 rfl rfl (by decide) (lv' := [(0, vr (some (16, 0, 0))), (1, vl l1), (3, vl l3), (6, vr r6), (9, vi (l9 + (1 : Int32)))]) rfl ?_
      refine z_goto (tgt := 102) dX1_writes_205 rfl ?_
      exact k
theorem sX1_writes_150 {E : zE} {d : Nat} {Q : zO → zM → Prop} (M : zM) (l1 : Int64) (l3 : Int64) (r6 : Option zP) (l9 : Int32) (s0 : Int32) (hw : cw M) (k : Z E YX1_writes (d + 1) M [(0, vr (some (16, 0, 0))), (1, vl l1), (3, vl l3), (6, vr r6), (9, vi l9), (10, vi s0), (11, vi (0 : Int32))] 155 [] Q) : Z E YX1_writes (d + 1) M [(0, vr (some (16, 0, 0))), (1, vl l1), (3, vl l3), (6, vr r6), (9, vi l9)] 150 [vi s0] Q := by
  refine z_ist dX1_writes_150 (by decide) (lv' := [(0, vr (some (16, 0, 0))), (1, vl l1), (3, vl l3), (6, vr r6), (9, vi l9), (10, vi s0)]) rfl ?_
  refine z_iconst (v := 0) dX1_writes_152 rfl ?_
  refine z_ist dX1_writes_153 (by decide) (lv' := [(0, vr (some (16, 0, 0))), (1, vl l1), (3, vl l3), (6, vr r6), (9, vi l9), (10, vi s0), (11, vi (0 : Int32))]) rfl ?_
  exact k
theorem sX1_writes_155 {E : zE} {d : Nat} {Q : zO → zM → Prop} (M : zM) (l1 : Int64) (l3 : Int64) (r6 : Option zP) (l9 : Int32) (l10 : Int32) (l11 : Int32) (hw : cw M) (k : if (gi M 16 1) < l11 then (Z E YX1_writes (d + 1) M [(0, vr (some (16, 0, 0))), (1, vl l1), (3, vl l3), (6, vr r6), (9, vi (l9 + (1 : Int32)))] 102 [] Q) else (Z E YX1_isKey d M (zargs 0 [vr (some (16, 0, 0)), vi l11]) 0 [] (zafter E YX1_writes (d + 1) [(0, vr (some (16, 0, 0))), (1, vl l1), (3, vl l3), (6, vr r6), (9, vi l9), (10, vi l10), (11, vi l11)] 167 3 [] Q))) : Z E YX1_writes (d + 1) M [(0, vr (some (16, 0, 0))), (1, vl l1), (3, vl l3), (6, vr r6), (9, vi l9), (10, vi l10), (11, vi l11)] 155 [] Q := by
  refine z_iload dX1_writes_155 rfl ?_
  refine z_aload_n dX1_writes_157 rfl rfl ?_
  refine z_geti dX1_writes_158 fsX1_58_0 ?_
  refine z_icmp_gt (tgt := 202) dX1_writes_161 rfl (fun h_ => ?_) (fun h_ => ?_)
  · have k := zit h_ k
    refine z_inc (v := (l9 + (1 : Int32))) dX1_writes_202 rfl rfl (by decide) (lv' := [(0, vr (some (16, 0, 0))), (1, vl l1), (3, vl l3), (6, vr r6), (9, vi (l9 + (1 : Int32))), (10, vi l10), (11, vi l11)]) rfl ?_
    refine z_goto (tgt := 102) dX1_writes_205 rfl ?_
    refine Z.pick [0, 1, 2, 3, 4] rfl ?_
    exact k
  · have k := zif h_ k
    refine z_aload_n dX1_writes_164 rfl rfl ?_
    refine z_iload dX1_writes_165 rfl ?_
    exact z_callV (as := [vi l11]) (st := []) dX1_writes_167 vsX1_856_0 (Nat.le_refl _) (Nat.le_of_ble_eq_true rfl) (Nat.le_of_ble_eq_true rfl) rfl k
theorem sX1_writes_170 {E : zE} {d : Nat} {Q : zO → zM → Prop} (M : zM) (l1 : Int64) (l3 : Int64) (r6 : Option zP) (l9 : Int32) (l10 : Int32) (l11 : Int32) (s0 : Int32) (hw : cw M) (k : if s0 = 0 then (Z E YX1_writes (d + 1) M [(0, vr (some (16, 0, 0))), (1, vl l1), (3, vl l3), (6, vr r6), (9, vi l9), (10, vi l10), (11, vi l11)] 196 [] Q) else (if l10 = 0 then (∃ b1 : Nat, (gr M 16 60) = some (b1, 7, 0) ∧ (Z E YX43_joinField d M (zargs 0 [vr (some (b1, 7, 0)), vi l9, vi l11, vr r6]) 0 [] (zafter E YX1_writes (d + 1) [(0, vr (some (16, 0, 0))), (1, vl l1), (3, vl l3), (6, vr r6), (9, vi l9), (10, vi l10), (11, vi l11)] 193 3 [] Q))) else (if l11 = 0 then (Z E YX1_writes (d + 1) M [(0, vr (some (16, 0, 0))), (1, vl l1), (3, vl l3), (6, vr r6), (9, vi l9), (10, vi l10), (11, vi l11)] 196 [] Q) else (∃ b1 : Nat, (gr M 16 60) = some (b1, 7, 0) ∧ (Z E YX43_joinField d M (zargs 0 [vr (some (b1, 7, 0)), vi l9, vi l11, vr r6]) 0 [] (zafter E YX1_writes (d + 1) [(0, vr (some (16, 0, 0))), (1, vl l1), (3, vl l3), (6, vr r6), (9, vi l9), (10, vi l10), (11, vi l11)] 193 3 [] Q)))))) : Z E YX1_writes (d + 1) M [(0, vr (some (16, 0, 0))), (1, vl l1), (3, vl l3), (6, vr r6), (9, vi l9), (10, vi l10), (11, vi l11)] 170 [vi s0] Q := by
  refine z_if_eq (tgt := 196) dX1_writes_170 rfl (fun h_ => ?_) (fun h_ => ?_)
  · have k := zit h_ k
    exact k
  · have k := zif h_ k
    refine z_iload dX1_writes_173 rfl ?_
    refine z_if_eq (tgt := 183) dX1_writes_175 rfl (fun h_ => ?_) (fun h_ => ?_)
    · have k := zit h_ k
      refine z_aload_n dX1_writes_183 rfl rfl ?_
      refine z_getr (r := (gr M 16 60)) dX1_writes_184 fsX1_684_0 rfl ?_
      refine z_iload dX1_writes_187 rfl ?_
      refine z_iload dX1_writes_189 rfl ?_
      refine z_aload dX1_writes_191 rfl ?_
      obtain ⟨b1, e1_, k⟩ := k
      refine Z.eqs (lv' := [(0, vr (some (16, 0, 0))), (1, vl l1), (3, vl l3), (6, vr r6), (9, vi l9), (10, vi l10), (11, vi l11)]) (st' := [vr r6, vi l11, vi l9, vr (some (b1, 7, 0))]) rfl (by rw [e1_] <;> rfl) ?_
      exact z_callV (as := [vi l9, vi l11, vr r6]) (st := []) dX1_writes_193 vsX1_992_7 (Nat.le_refl _) (Nat.le_of_ble_eq_true rfl) (Nat.le_of_ble_eq_true rfl) rfl k
    · have k := zif h_ k
      refine z_iload dX1_writes_178 rfl ?_
      refine z_if_eq (tgt := 196) dX1_writes_180 rfl (fun h_ => ?_) (fun h_ => ?_)
      · have k := zit h_ k
        exact k
      · have k := zif h_ k
        refine z_aload_n dX1_writes_183 rfl rfl ?_
        refine z_getr (r := (gr M 16 60)) dX1_writes_184 fsX1_684_0 rfl ?_
        refine z_iload dX1_writes_187 rfl ?_
        refine z_iload dX1_writes_189 rfl ?_
        refine z_aload dX1_writes_191 rfl ?_
        obtain ⟨b1, e1_, k⟩ := k
        refine Z.eqs (lv' := [(0, vr (some (16, 0, 0))), (1, vl l1), (3, vl l3), (6, vr r6), (9, vi l9), (10, vi l10), (11, vi l11)]) (st' := [vr r6, vi l11, vi l9, vr (some (b1, 7, 0))]) rfl (by rw [e1_] <;> rfl) ?_
        exact z_callV (as := [vi l9, vi l11, vr r6]) (st := []) dX1_writes_193 vsX1_992_7 (Nat.le_refl _) (Nat.le_of_ble_eq_true rfl) (Nat.le_of_ble_eq_true rfl) rfl k
theorem sX1_writes_196 {E : zE} {d : Nat} {Q : zO → zM → Prop} (M : zM) (l1 : Int64) (l3 : Int64) (r6 : Option zP) (l9 : Int32) (l10 : Int32) (l11 : Int32) (hw : cw M) (k : Z E YX1_writes (d + 1) M [(0, vr (some (16, 0, 0))), (1, vl l1), (3, vl l3), (6, vr r6), (9, vi l9), (10, vi l10), (11, vi (l11 + (1 : Int32)))] 155 [] Q) : Z E YX1_writes (d + 1) M [(0, vr (some (16, 0, 0))), (1, vl l1), (3, vl l3), (6, vr r6), (9, vi l9), (10, vi l10), (11, vi l11)] 196 [] Q := by
  refine z_inc (v := (l11 + (1 : Int32))) dX1_writes_196 rfl rfl (by decide) (lv' := [(0, vr (some (16, 0, 0))), (1, vl l1), (3, vl l3), (6, vr r6), (9, vi l9), (10, vi l10), (11, vi (l11 + (1 : Int32)))]) rfl ?_
  refine z_goto (tgt := 155) dX1_writes_199 rfl ?_
  exact k
/-! ScriptTypes.onlySingle(JJ)I -/
theorem bX1_onlySingle_0 : zdec cX1_onlySingle 0 [(0, .lload_n 0, 1), (1, .invokestatic 623, 3), (4, .lload_n 2, 1), (5, .invokestatic 623, 3), (8, .iadd, 1), (9, .iconst 1, 1), (10, .if_icmp .eq 5, 3), (13, .iconst (-1), 1), (14, .ireturn, 1), (15, .lload_n 0, 1), (16, .lconst 0, 1), (17, .lcmp, 1), (18, .ifCond .eq 10, 3), (21, .lload_n 0, 1), (22, .invokestatic 629, 3), (25, .goto 10, 3)] = true := by decide +kernel
theorem dX1_onlySingle_0 : decode cX1_onlySingle 0 = .ok (.lload_n 0, 1) := zdec_at bX1_onlySingle_0 0 rfl
theorem dX1_onlySingle_1 : decode cX1_onlySingle 1 = .ok (.invokestatic 623, 3) := zdec_at bX1_onlySingle_0 1 rfl
theorem dX1_onlySingle_4 : decode cX1_onlySingle 4 = .ok (.lload_n 2, 1) := zdec_at bX1_onlySingle_0 2 rfl
theorem dX1_onlySingle_5 : decode cX1_onlySingle 5 = .ok (.invokestatic 623, 3) := zdec_at bX1_onlySingle_0 3 rfl
theorem dX1_onlySingle_8 : decode cX1_onlySingle 8 = .ok (.iadd, 1) := zdec_at bX1_onlySingle_0 4 rfl
theorem dX1_onlySingle_9 : decode cX1_onlySingle 9 = .ok (.iconst 1, 1) := zdec_at bX1_onlySingle_0 5 rfl
theorem dX1_onlySingle_10 : decode cX1_onlySingle 10 = .ok (.if_icmp .eq 5, 3) := zdec_at bX1_onlySingle_0 6 rfl
theorem dX1_onlySingle_13 : decode cX1_onlySingle 13 = .ok (.iconst (-1), 1) := zdec_at bX1_onlySingle_0 7 rfl
theorem dX1_onlySingle_14 : decode cX1_onlySingle 14 = .ok (.ireturn, 1) := zdec_at bX1_onlySingle_0 8 rfl
theorem dX1_onlySingle_15 : decode cX1_onlySingle 15 = .ok (.lload_n 0, 1) := zdec_at bX1_onlySingle_0 9 rfl
theorem dX1_onlySingle_16 : decode cX1_onlySingle 16 = .ok (.lconst 0, 1) := zdec_at bX1_onlySingle_0 10 rfl
theorem dX1_onlySingle_17 : decode cX1_onlySingle 17 = .ok (.lcmp, 1) := zdec_at bX1_onlySingle_0 11 rfl
theorem dX1_onlySingle_18 : decode cX1_onlySingle 18 = .ok (.ifCond .eq 10, 3) := zdec_at bX1_onlySingle_0 12 rfl
theorem dX1_onlySingle_21 : decode cX1_onlySingle 21 = .ok (.lload_n 0, 1) := zdec_at bX1_onlySingle_0 13 rfl
theorem dX1_onlySingle_22 : decode cX1_onlySingle 22 = .ok (.invokestatic 629, 3) := zdec_at bX1_onlySingle_0 14 rfl
theorem dX1_onlySingle_25 : decode cX1_onlySingle 25 = .ok (.goto 10, 3) := zdec_at bX1_onlySingle_0 15 rfl
theorem bX1_onlySingle_28 : zdec cX1_onlySingle 28 [(28, .bipush 64, 2), (30, .lload_n 2, 1), (31, .invokestatic 629, 3), (34, .iadd, 1), (35, .istore 4, 2), (37, .iload 4, 2), (39, .invokestatic 632, 3), (42, .ifCond .eq 8, 3), (45, .iload 4, 2), (47, .goto 4, 3), (50, .iconst (-1), 1), (51, .ireturn, 1)] = true := by decide +kernel
theorem dX1_onlySingle_28 : decode cX1_onlySingle 28 = .ok (.bipush 64, 2) := zdec_at bX1_onlySingle_28 0 rfl
theorem dX1_onlySingle_30 : decode cX1_onlySingle 30 = .ok (.lload_n 2, 1) := zdec_at bX1_onlySingle_28 1 rfl
theorem dX1_onlySingle_31 : decode cX1_onlySingle 31 = .ok (.invokestatic 629, 3) := zdec_at bX1_onlySingle_28 2 rfl
theorem dX1_onlySingle_34 : decode cX1_onlySingle 34 = .ok (.iadd, 1) := zdec_at bX1_onlySingle_28 3 rfl
theorem dX1_onlySingle_35 : decode cX1_onlySingle 35 = .ok (.istore 4, 2) := zdec_at bX1_onlySingle_28 4 rfl
theorem dX1_onlySingle_37 : decode cX1_onlySingle 37 = .ok (.iload 4, 2) := zdec_at bX1_onlySingle_28 5 rfl
theorem dX1_onlySingle_39 : decode cX1_onlySingle 39 = .ok (.invokestatic 632, 3) := zdec_at bX1_onlySingle_28 6 rfl
theorem dX1_onlySingle_42 : decode cX1_onlySingle 42 = .ok (.ifCond .eq 8, 3) := zdec_at bX1_onlySingle_28 7 rfl
theorem dX1_onlySingle_45 : decode cX1_onlySingle 45 = .ok (.iload 4, 2) := zdec_at bX1_onlySingle_28 8 rfl
theorem dX1_onlySingle_47 : decode cX1_onlySingle 47 = .ok (.goto 4, 3) := zdec_at bX1_onlySingle_28 9 rfl
theorem dX1_onlySingle_50 : decode cX1_onlySingle 50 = .ok (.iconst (-1), 1) := zdec_at bX1_onlySingle_28 10 rfl
theorem dX1_onlySingle_51 : decode cX1_onlySingle 51 = .ok (.ireturn, 1) := zdec_at bX1_onlySingle_28 11 rfl
theorem sX1_onlySingle_0 {E : zE} {d : Nat} {Q : zO → zM → Prop} (M : zM) (l0 : Int64) (l2 : Int64) (hw : cw M) (k : Z E YJ17_bitCount d M (zargs 0 [vl l0]) 0 [] (zafter E YX1_onlySingle (d + 1) [(0, vl l0), (2, vl l2)] 1 3 [] Q)) : Z E YX1_onlySingle (d + 1) M [(0, vl l0), (2, vl l2)] 0 [] Q := by
  refine z_lload_n dX1_onlySingle_0 rfl rfl ?_
  exact z_callS (as := [vl l0]) (st := []) dX1_onlySingle_1 ssX1_623 (Nat.le_refl _) (Nat.le_of_ble_eq_true rfl) (Nat.le_of_ble_eq_true rfl) rfl k
theorem sX1_onlySingle_4 {E : zE} {d : Nat} {Q : zO → zM → Prop} (M : zM) (l0 : Int64) (l2 : Int64) (s0 : Int32) (hw : cw M) (k : Z E YJ17_bitCount d M (zargs 0 [vl l2]) 0 [] (zafter E YX1_onlySingle (d + 1) [(0, vl l0), (2, vl l2)] 5 3 [vi s0] Q)) : Z E YX1_onlySingle (d + 1) M [(0, vl l0), (2, vl l2)] 4 [vi s0] Q := by
  refine z_lload_n dX1_onlySingle_4 rfl rfl ?_
  exact z_callS (as := [vl l2]) (st := [vi s0]) dX1_onlySingle_5 ssX1_623 (Nat.le_refl _) (Nat.le_of_ble_eq_true rfl) (Nat.le_of_ble_eq_true rfl) rfl k
theorem sX1_onlySingle_8 {E : zE} {d : Nat} {Q : zO → zM → Prop} (M : zM) (l0 : Int64) (l2 : Int64) (s0 : Int32) (s1 : Int32) (hw : cw M) (k : if (s1 + s0) = (1 : Int32) then (if (lg_cmp l0 (0 : Int64)) = 0 then (Z E YJ17_numberOfTrailingZeros d M (zargs 0 [vl l2]) 0 [] (zafter E YX1_onlySingle (d + 1) [] 31 3 [vi (64 : Int32)] Q)) else (Z E YJ17_numberOfTrailingZeros d M (zargs 0 [vl l0]) 0 [] (zafter E YX1_onlySingle (d + 1) [] 22 3 [] Q))) else (Q (.inl (some (vi (-1 : Int32)))) M)) : Z E YX1_onlySingle (d + 1) M [(0, vl l0), (2, vl l2)] 8 [vi s0, vi s1] Q := by
  refine z_iadd dX1_onlySingle_8 ?_
  refine z_iconst (v := 1) dX1_onlySingle_9 rfl ?_
  refine z_icmp_eq (tgt := 15) dX1_onlySingle_10 rfl (fun h_ => ?_) (fun h_ => ?_)
  · have k := zit h_ k
    refine z_lload_n dX1_onlySingle_15 rfl rfl ?_
    refine z_lconst (v := 0) dX1_onlySingle_16 rfl ?_
    refine z_lcmp dX1_onlySingle_17 ?_
    refine z_if_eq (tgt := 28) dX1_onlySingle_18 rfl (fun h_ => ?_) (fun h_ => ?_)
    · have k := zit h_ k
      refine z_bipush (v := 64) dX1_onlySingle_28 rfl ?_
      refine z_lload_n dX1_onlySingle_30 rfl rfl ?_
      refine Z.pick [] rfl ?_
      exact z_callS (as := [vl l2]) (st := [vi (64 : Int32)]) dX1_onlySingle_31 ssX1_629 (Nat.le_refl _) (Nat.le_of_ble_eq_true rfl) (Nat.le_of_ble_eq_true rfl) rfl k
    · have k := zif h_ k
      refine z_lload_n dX1_onlySingle_21 rfl rfl ?_
      refine Z.pick [] rfl ?_
      exact z_callS (as := [vl l0]) (st := []) dX1_onlySingle_22 ssX1_629 (Nat.le_refl _) (Nat.le_of_ble_eq_true rfl) (Nat.le_of_ble_eq_true rfl) rfl k
  · have k := zif h_ k
    refine z_iconst (v := -1) dX1_onlySingle_13 rfl ?_
    exact z_iret dX1_onlySingle_14 rfl rfl k
theorem sX1_onlySingle_25 {E : zE} {d : Nat} {Q : zO → zM → Prop} (M : zM) (s0 : Int32) (hw : cw M) (k : Z E YX1_isSingle d M (zargs 0 [vi s0]) 0 [] (zafter E YX1_onlySingle (d + 1) [(4, vi s0)] 39 3 [] Q)) : Z E YX1_onlySingle (d + 1) M [] 25 [vi s0] Q := by
  refine z_goto (tgt := 35) dX1_onlySingle_25 rfl ?_
  refine z_ist dX1_onlySingle_35 (by decide) (lv' := [(4, vi s0)]) rfl ?_
  refine z_iload dX1_onlySingle_37 rfl ?_
  exact z_callS (as := [vi s0]) (st := []) dX1_onlySingle_39 ssX1_632 (Nat.le_refl _) (Nat.le_of_ble_eq_true rfl) (Nat.le_of_ble_eq_true rfl) rfl k
theorem sX1_onlySingle_34 {E : zE} {d : Nat} {Q : zO → zM → Prop} (M : zM) (s0 : Int32) (s1 : Int32) (hw : cw M) (k : Z E YX1_isSingle d M (zargs 0 [vi (s1 + s0)]) 0 [] (zafter E YX1_onlySingle (d + 1) [(4, vi (s1 + s0))] 39 3 [] Q)) : Z E YX1_onlySingle (d + 1) M [] 34 [vi s0, vi s1] Q := by
  refine z_iadd dX1_onlySingle_34 ?_
  refine z_ist dX1_onlySingle_35 (by decide) (lv' := [(4, vi (s1 + s0))]) rfl ?_
  refine z_iload dX1_onlySingle_37 rfl ?_
  exact z_callS (as := [vi (s1 + s0)]) (st := []) dX1_onlySingle_39 ssX1_632 (Nat.le_refl _) (Nat.le_of_ble_eq_true rfl) (Nat.le_of_ble_eq_true rfl) rfl k
theorem sX1_onlySingle_42 {E : zE} {d : Nat} {Q : zO → zM → Prop} (M : zM) (l4 : Int32) (s0 : Int32) (hw : cw M) (k : if s0 = 0 then (Q (.inl (some (vi (-1 : Int32)))) M) else (Q (.inl (some (vi l4))) M)) : Z E YX1_onlySingle (d + 1) M [(4, vi l4)] 42 [vi s0] Q := by
  refine z_if_eq (tgt := 50) dX1_onlySingle_42 rfl (fun h_ => ?_) (fun h_ => ?_)
  · have k := zit h_ k
    refine z_iconst (v := -1) dX1_onlySingle_50 rfl ?_
    exact z_iret dX1_onlySingle_51 rfl rfl k
  · have k := zif h_ k
    refine z_iload dX1_onlySingle_45 rfl ?_
    refine z_goto (tgt := 51) dX1_onlySingle_47 rfl ?_
    exact z_iret dX1_onlySingle_51 rfl rfl k
/-! ScriptTypes.isSingle(I)Z -/
theorem bX1_isSingle_0 : zdec cX1_isSingle 0 [(0, .iload_n 0, 1), (1, .bipush 23, 2), (3, .if_icmp .lt 18, 3), (6, .iload_n 0, 1), (7, .bipush 29, 2), (9, .if_icmp .lt 16, 3), (12, .iload_n 0, 1), (13, .bipush 29, 2), (15, .isub, 1), (16, .iconst 1, 1), (17, .iand, 1), (18, .ifCond .ne 7, 3), (21, .iconst 1, 1), (22, .goto 4, 3), (25, .iconst 0, 1), (26, .ireturn, 1)] = true := by decide +kernel
theorem dX1_isSingle_0 : decode cX1_isSingle 0 = .ok (.iload_n 0, 1) := zdec_at bX1_isSingle_0 0 rfl
theorem dX1_isSingle_1 : decode cX1_isSingle 1 = .ok (.bipush 23, 2) := zdec_at bX1_isSingle_0 1 rfl
theorem dX1_isSingle_3 : decode cX1_isSingle 3 = .ok (.if_icmp .lt 18, 3) := zdec_at bX1_isSingle_0 2 rfl
theorem dX1_isSingle_6 : decode cX1_isSingle 6 = .ok (.iload_n 0, 1) := zdec_at bX1_isSingle_0 3 rfl
theorem dX1_isSingle_7 : decode cX1_isSingle 7 = .ok (.bipush 29, 2) := zdec_at bX1_isSingle_0 4 rfl
theorem dX1_isSingle_9 : decode cX1_isSingle 9 = .ok (.if_icmp .lt 16, 3) := zdec_at bX1_isSingle_0 5 rfl
theorem dX1_isSingle_12 : decode cX1_isSingle 12 = .ok (.iload_n 0, 1) := zdec_at bX1_isSingle_0 6 rfl
theorem dX1_isSingle_13 : decode cX1_isSingle 13 = .ok (.bipush 29, 2) := zdec_at bX1_isSingle_0 7 rfl
theorem dX1_isSingle_15 : decode cX1_isSingle 15 = .ok (.isub, 1) := zdec_at bX1_isSingle_0 8 rfl
theorem dX1_isSingle_16 : decode cX1_isSingle 16 = .ok (.iconst 1, 1) := zdec_at bX1_isSingle_0 9 rfl
theorem dX1_isSingle_17 : decode cX1_isSingle 17 = .ok (.iand, 1) := zdec_at bX1_isSingle_0 10 rfl
theorem dX1_isSingle_18 : decode cX1_isSingle 18 = .ok (.ifCond .ne 7, 3) := zdec_at bX1_isSingle_0 11 rfl
theorem dX1_isSingle_21 : decode cX1_isSingle 21 = .ok (.iconst 1, 1) := zdec_at bX1_isSingle_0 12 rfl
theorem dX1_isSingle_22 : decode cX1_isSingle 22 = .ok (.goto 4, 3) := zdec_at bX1_isSingle_0 13 rfl
theorem dX1_isSingle_25 : decode cX1_isSingle 25 = .ok (.iconst 0, 1) := zdec_at bX1_isSingle_0 14 rfl
theorem dX1_isSingle_26 : decode cX1_isSingle 26 = .ok (.ireturn, 1) := zdec_at bX1_isSingle_0 15 rfl
theorem sX1_isSingle_0 {E : zE} {d : Nat} {Q : zO → zM → Prop} (M : zM) (l0 : Int32) (hw : cw M) (k : if l0 < (23 : Int32) then (Q (.inl (some (vi (1 : Int32)))) M) else (if l0 < (29 : Int32) then (Q (.inl (some (vi (0 : Int32)))) M) else (if ((l0 - (29 : Int32)) &&& (1 : Int32)) = 0 then (Q (.inl (some (vi (1 : Int32)))) M) else (Q (.inl (some (vi (0 : Int32)))) M)))) : Z E YX1_isSingle d M [(0, vi l0)] 0 [] Q := by
  refine z_iload_n dX1_isSingle_0 rfl rfl ?_
  refine z_bipush (v := 23) dX1_isSingle_1 rfl ?_
  refine z_icmp_lt (tgt := 21) dX1_isSingle_3 rfl (fun h_ => ?_) (fun h_ => ?_)
  · have k := zit h_ k
    refine z_iconst (v := 1) dX1_isSingle_21 rfl ?_
    refine z_goto (tgt := 26) dX1_isSingle_22 rfl ?_
    exact z_iret dX1_isSingle_26 rfl (by decide) k
  · have k := zif h_ k
    refine z_iload_n dX1_isSingle_6 rfl rfl ?_
    refine z_bipush (v := 29) dX1_isSingle_7 rfl ?_
    refine z_icmp_lt (tgt := 25) dX1_isSingle_9 rfl (fun h_ => ?_) (fun h_ => ?_)
    · have k := zit h_ k
      refine z_iconst (v := 0) dX1_isSingle_25 rfl ?_
      exact z_iret dX1_isSingle_26 rfl (by decide) k
    · have k := zif h_ k
      refine z_iload_n dX1_isSingle_12 rfl rfl ?_
      refine z_bipush (v := 29) dX1_isSingle_13 rfl ?_
      refine z_isub dX1_isSingle_15 ?_
      refine z_iconst (v := 1) dX1_isSingle_16 rfl ?_
      refine z_iand dX1_isSingle_17 ?_
      refine z_if_ne (tgt := 25) dX1_isSingle_18 rfl (fun h_ => ?_) (fun h_ => ?_)
      · have k := zif h_ k
        refine z_iconst (v := 0) dX1_isSingle_25 rfl ?_
        exact z_iret dX1_isSingle_26 rfl (by decide) k
      · have k := zit h_ k
        refine z_iconst (v := 1) dX1_isSingle_21 rfl ?_
        refine z_goto (tgt := 26) dX1_isSingle_22 rfl ?_
        exact z_iret dX1_isSingle_26 rfl (by decide) k
/-! ScriptTypes.onlyKey()I -/
theorem bX1_onlyKey_0 : zdec cX1_onlyKey 0 [(0, .aload_n 0, 1), (1, .getfield 824, 3), (4, .ifCond .ne 22, 3), (7, .aload_n 0, 1), (8, .getfield 818, 3), (11, .invokestatic 623, 3), (14, .aload_n 0, 1), (15, .getfield 821, 3), (18, .invokestatic 623, 3), (21, .iadd, 1), (22, .iconst 1, 1), (23, .if_icmp .eq 5, 3), (26, .iconst (-1), 1), (27, .ireturn, 1), (28, .aload_n 0, 1), (29, .getfield 818, 3)] = true := by decide +kernel
theorem dX1_onlyKey_0 : decode cX1_onlyKey 0 = .ok (.aload_n 0, 1) := zdec_at bX1_onlyKey_0 0 rfl
theorem dX1_onlyKey_1 : decode cX1_onlyKey 1 = .ok (.getfield 824, 3) := zdec_at bX1_onlyKey_0 1 rfl
theorem dX1_onlyKey_4 : decode cX1_onlyKey 4 = .ok (.ifCond .ne 22, 3) := zdec_at bX1_onlyKey_0 2 rfl
theorem dX1_onlyKey_7 : decode cX1_onlyKey 7 = .ok (.aload_n 0, 1) := zdec_at bX1_onlyKey_0 3 rfl
theorem dX1_onlyKey_8 : decode cX1_onlyKey 8 = .ok (.getfield 818, 3) := zdec_at bX1_onlyKey_0 4 rfl
theorem dX1_onlyKey_11 : decode cX1_onlyKey 11 = .ok (.invokestatic 623, 3) := zdec_at bX1_onlyKey_0 5 rfl
theorem dX1_onlyKey_14 : decode cX1_onlyKey 14 = .ok (.aload_n 0, 1) := zdec_at bX1_onlyKey_0 6 rfl
theorem dX1_onlyKey_15 : decode cX1_onlyKey 15 = .ok (.getfield 821, 3) := zdec_at bX1_onlyKey_0 7 rfl
theorem dX1_onlyKey_18 : decode cX1_onlyKey 18 = .ok (.invokestatic 623, 3) := zdec_at bX1_onlyKey_0 8 rfl
theorem dX1_onlyKey_21 : decode cX1_onlyKey 21 = .ok (.iadd, 1) := zdec_at bX1_onlyKey_0 9 rfl
theorem dX1_onlyKey_22 : decode cX1_onlyKey 22 = .ok (.iconst 1, 1) := zdec_at bX1_onlyKey_0 10 rfl
theorem dX1_onlyKey_23 : decode cX1_onlyKey 23 = .ok (.if_icmp .eq 5, 3) := zdec_at bX1_onlyKey_0 11 rfl
theorem dX1_onlyKey_26 : decode cX1_onlyKey 26 = .ok (.iconst (-1), 1) := zdec_at bX1_onlyKey_0 12 rfl
theorem dX1_onlyKey_27 : decode cX1_onlyKey 27 = .ok (.ireturn, 1) := zdec_at bX1_onlyKey_0 13 rfl
theorem dX1_onlyKey_28 : decode cX1_onlyKey 28 = .ok (.aload_n 0, 1) := zdec_at bX1_onlyKey_0 14 rfl
theorem dX1_onlyKey_29 : decode cX1_onlyKey 29 = .ok (.getfield 818, 3) := zdec_at bX1_onlyKey_0 15 rfl
theorem bX1_onlyKey_32 : zdec cX1_onlyKey 32 [(32, .lconst 0, 1), (33, .lcmp, 1), (34, .ifCond .eq 13, 3), (37, .aload_n 0, 1), (38, .getfield 818, 3), (41, .invokestatic 629, 3), (44, .goto 13, 3), (47, .bipush 64, 2), (49, .aload_n 0, 1), (50, .getfield 821, 3), (53, .invokestatic 629, 3), (56, .iadd, 1), (57, .ireturn, 1)] = true := by decide +kernel
theorem dX1_onlyKey_32 : decode cX1_onlyKey 32 = .ok (.lconst 0, 1) := zdec_at bX1_onlyKey_32 0 rfl
theorem dX1_onlyKey_33 : decode cX1_onlyKey 33 = .ok (.lcmp, 1) := zdec_at bX1_onlyKey_32 1 rfl
theorem dX1_onlyKey_34 : decode cX1_onlyKey 34 = .ok (.ifCond .eq 13, 3) := zdec_at bX1_onlyKey_32 2 rfl
theorem dX1_onlyKey_37 : decode cX1_onlyKey 37 = .ok (.aload_n 0, 1) := zdec_at bX1_onlyKey_32 3 rfl
theorem dX1_onlyKey_38 : decode cX1_onlyKey 38 = .ok (.getfield 818, 3) := zdec_at bX1_onlyKey_32 4 rfl
theorem dX1_onlyKey_41 : decode cX1_onlyKey 41 = .ok (.invokestatic 629, 3) := zdec_at bX1_onlyKey_32 5 rfl
theorem dX1_onlyKey_44 : decode cX1_onlyKey 44 = .ok (.goto 13, 3) := zdec_at bX1_onlyKey_32 6 rfl
theorem dX1_onlyKey_47 : decode cX1_onlyKey 47 = .ok (.bipush 64, 2) := zdec_at bX1_onlyKey_32 7 rfl
theorem dX1_onlyKey_49 : decode cX1_onlyKey 49 = .ok (.aload_n 0, 1) := zdec_at bX1_onlyKey_32 8 rfl
theorem dX1_onlyKey_50 : decode cX1_onlyKey 50 = .ok (.getfield 821, 3) := zdec_at bX1_onlyKey_32 9 rfl
theorem dX1_onlyKey_53 : decode cX1_onlyKey 53 = .ok (.invokestatic 629, 3) := zdec_at bX1_onlyKey_32 10 rfl
theorem dX1_onlyKey_56 : decode cX1_onlyKey 56 = .ok (.iadd, 1) := zdec_at bX1_onlyKey_32 11 rfl
theorem dX1_onlyKey_57 : decode cX1_onlyKey 57 = .ok (.ireturn, 1) := zdec_at bX1_onlyKey_32 12 rfl
theorem sX1_onlyKey_0 {E : zE} {d : Nat} {Q : zO → zM → Prop} (M : zM)  (hw : cw M) (k : if (gi M 16 90) = 0 then (Z E YJ17_bitCount d M (zargs 0 [vl (gl M 16 88)]) 0 [] (zafter E YX1_onlyKey (d + 1) [(0, vr (some (16, 0, 0)))] 11 3 [] Q)) else (Q (.inl (some (vi (-1 : Int32)))) M)) : Z E YX1_onlyKey (d + 1) M [(0, vr (some (16, 0, 0)))] 0 [] Q := by
  refine z_aload_n dX1_onlyKey_0 rfl rfl ?_
  refine z_geti dX1_onlyKey_1 fsX1_824_0 ?_
  refine z_if_ne (tgt := 26) dX1_onlyKey_4 rfl (fun h_ => ?_) (fun h_ => ?_)
  · have k := zif h_ k
    refine z_iconst (v := -1) dX1_onlyKey_26 rfl ?_
    exact z_iret dX1_onlyKey_27 rfl rfl k
  · have k := zit h_ k
    refine z_aload_n dX1_onlyKey_7 rfl rfl ?_
    refine z_getl dX1_onlyKey_8 fsX1_818_0 ?_
    exact z_callS (as := [vl (gl M 16 88)]) (st := []) dX1_onlyKey_11 ssX1_623 (Nat.le_refl _) (Nat.le_of_ble_eq_true rfl) (Nat.le_of_ble_eq_true rfl) rfl k
theorem sX1_onlyKey_14 {E : zE} {d : Nat} {Q : zO → zM → Prop} (M : zM) (s0 : Int32) (hw : cw M) (k : Z E YJ17_bitCount d M (zargs 0 [vl (gl M 16 89)]) 0 [] (zafter E YX1_onlyKey (d + 1) [(0, vr (some (16, 0, 0)))] 18 3 [vi s0] Q)) : Z E YX1_onlyKey (d + 1) M [(0, vr (some (16, 0, 0)))] 14 [vi s0] Q := by
  refine z_aload_n dX1_onlyKey_14 rfl rfl ?_
  refine z_getl dX1_onlyKey_15 fsX1_821_0 ?_
  exact z_callS (as := [vl (gl M 16 89)]) (st := [vi s0]) dX1_onlyKey_18 ssX1_623 (Nat.le_refl _) (Nat.le_of_ble_eq_true rfl) (Nat.le_of_ble_eq_true rfl) rfl k
theorem sX1_onlyKey_21 {E : zE} {d : Nat} {Q : zO → zM → Prop} (M : zM) (s0 : Int32) (s1 : Int32) (hw : cw M) (k : if (s1 + s0) = (1 : Int32) then (if (lg_cmp (gl M 16 88) (0 : Int64)) = 0 then (Z E YJ17_numberOfTrailingZeros d M (zargs 0 [vl (gl M 16 89)]) 0 [] (zafter E YX1_onlyKey (d + 1) [] 53 3 [vi (64 : Int32)] Q)) else (Z E YJ17_numberOfTrailingZeros d M (zargs 0 [vl (gl M 16 88)]) 0 [] (zafter E YX1_onlyKey (d + 1) [] 41 3 [] Q))) else (Q (.inl (some (vi (-1 : Int32)))) M)) : Z E YX1_onlyKey (d + 1) M [(0, vr (some (16, 0, 0)))] 21 [vi s0, vi s1] Q := by
  refine z_iadd dX1_onlyKey_21 ?_
  refine z_iconst (v := 1) dX1_onlyKey_22 rfl ?_
  refine z_icmp_eq (tgt := 28) dX1_onlyKey_23 rfl (fun h_ => ?_) (fun h_ => ?_)
  · have k := zit h_ k
    refine z_aload_n dX1_onlyKey_28 rfl rfl ?_
    refine z_getl dX1_onlyKey_29 fsX1_818_0 ?_
    refine z_lconst (v := 0) dX1_onlyKey_32 rfl ?_
    refine z_lcmp dX1_onlyKey_33 ?_
    refine z_if_eq (tgt := 47) dX1_onlyKey_34 rfl (fun h_ => ?_) (fun h_ => ?_)
    · have k := zit h_ k
      refine z_bipush (v := 64) dX1_onlyKey_47 rfl ?_
      refine z_aload_n dX1_onlyKey_49 rfl rfl ?_
      refine z_getl dX1_onlyKey_50 fsX1_821_0 ?_
      refine Z.pick [] rfl ?_
      exact z_callS (as := [vl (gl M 16 89)]) (st := [vi (64 : Int32)]) dX1_onlyKey_53 ssX1_629 (Nat.le_refl _) (Nat.le_of_ble_eq_true rfl) (Nat.le_of_ble_eq_true rfl) rfl k
    · have k := zif h_ k
      refine z_aload_n dX1_onlyKey_37 rfl rfl ?_
      refine z_getl dX1_onlyKey_38 fsX1_818_0 ?_
      refine Z.pick [] rfl ?_
      exact z_callS (as := [vl (gl M 16 88)]) (st := []) dX1_onlyKey_41 ssX1_629 (Nat.le_refl _) (Nat.le_of_ble_eq_true rfl) (Nat.le_of_ble_eq_true rfl) rfl k
  · have k := zif h_ k
    refine z_iconst (v := -1) dX1_onlyKey_26 rfl ?_
    exact z_iret dX1_onlyKey_27 rfl rfl k
theorem sX1_onlyKey_44 {E : zE} {d : Nat} {Q : zO → zM → Prop} (M : zM) (s0 : Int32) (hw : cw M) (k : Q (.inl (some (vi s0))) M) : Z E YX1_onlyKey (d + 1) M [] 44 [vi s0] Q := by
  refine z_goto (tgt := 57) dX1_onlyKey_44 rfl ?_
  exact z_iret dX1_onlyKey_57 rfl rfl k
theorem sX1_onlyKey_56 {E : zE} {d : Nat} {Q : zO → zM → Prop} (M : zM) (s0 : Int32) (s1 : Int32) (hw : cw M) (k : Q (.inl (some (vi (s1 + s0)))) M) : Z E YX1_onlyKey (d + 1) M [] 56 [vi s0, vi s1] Q := by
  refine z_iadd dX1_onlyKey_56 ?_
  exact z_iret dX1_onlyKey_57 rfl rfl k
/-! ScriptTypes.isKey(I)Z -/
theorem bX1_isKey_0 : zdec cX1_isKey 0 [(0, .iload_n 1, 1), (1, .aload_n 0, 1), (2, .getfield 58, 3), (5, .if_icmp .ne 10, 3), (8, .aload_n 0, 1), (9, .getfield 824, 3), (12, .goto 15, 3), (15, .iload_n 1, 1), (16, .aload_n 0, 1), (17, .getfield 818, 3), (20, .aload_n 0, 1), (21, .getfield 821, 3), (24, .invokestatic 827, 3), (27, .ireturn, 1)] = true := by decide +kernel
theorem dX1_isKey_0 : decode cX1_isKey 0 = .ok (.iload_n 1, 1) := zdec_at bX1_isKey_0 0 rfl
theorem dX1_isKey_1 : decode cX1_isKey 1 = .ok (.aload_n 0, 1) := zdec_at bX1_isKey_0 1 rfl
theorem dX1_isKey_2 : decode cX1_isKey 2 = .ok (.getfield 58, 3) := zdec_at bX1_isKey_0 2 rfl
theorem dX1_isKey_5 : decode cX1_isKey 5 = .ok (.if_icmp .ne 10, 3) := zdec_at bX1_isKey_0 3 rfl
theorem dX1_isKey_8 : decode cX1_isKey 8 = .ok (.aload_n 0, 1) := zdec_at bX1_isKey_0 4 rfl
theorem dX1_isKey_9 : decode cX1_isKey 9 = .ok (.getfield 824, 3) := zdec_at bX1_isKey_0 5 rfl
theorem dX1_isKey_12 : decode cX1_isKey 12 = .ok (.goto 15, 3) := zdec_at bX1_isKey_0 6 rfl
theorem dX1_isKey_15 : decode cX1_isKey 15 = .ok (.iload_n 1, 1) := zdec_at bX1_isKey_0 7 rfl
theorem dX1_isKey_16 : decode cX1_isKey 16 = .ok (.aload_n 0, 1) := zdec_at bX1_isKey_0 8 rfl
theorem dX1_isKey_17 : decode cX1_isKey 17 = .ok (.getfield 818, 3) := zdec_at bX1_isKey_0 9 rfl
theorem dX1_isKey_20 : decode cX1_isKey 20 = .ok (.aload_n 0, 1) := zdec_at bX1_isKey_0 10 rfl
theorem dX1_isKey_21 : decode cX1_isKey 21 = .ok (.getfield 821, 3) := zdec_at bX1_isKey_0 11 rfl
theorem dX1_isKey_24 : decode cX1_isKey 24 = .ok (.invokestatic 827, 3) := zdec_at bX1_isKey_0 12 rfl
theorem dX1_isKey_27 : decode cX1_isKey 27 = .ok (.ireturn, 1) := zdec_at bX1_isKey_0 13 rfl
theorem sX1_isKey_0 {E : zE} {d : Nat} {Q : zO → zM → Prop} (M : zM) (l1 : Int32) (hw : cw M) (k : if l1 = (gi M 16 1) then (Z E YX1_isKey (d + 1) M [] 27 [vi (gi M 16 90)] Q) else (Z E YX1_in d M (zargs 0 [vi l1, vl (gl M 16 88), vl (gl M 16 89)]) 0 [] (zafter E YX1_isKey (d + 1) [] 24 3 [] Q))) : Z E YX1_isKey (d + 1) M [(0, vr (some (16, 0, 0))), (1, vi l1)] 0 [] Q := by
  refine z_iload_n dX1_isKey_0 rfl rfl ?_
  refine z_aload_n dX1_isKey_1 rfl rfl ?_
  refine z_geti dX1_isKey_2 fsX1_58_0 ?_
  refine z_icmp_ne (tgt := 15) dX1_isKey_5 rfl (fun h_ => ?_) (fun h_ => ?_)
  · have k := zif h_ k
    refine z_iload_n dX1_isKey_15 rfl rfl ?_
    refine z_aload_n dX1_isKey_16 rfl rfl ?_
    refine z_getl dX1_isKey_17 fsX1_818_0 ?_
    refine z_aload_n dX1_isKey_20 rfl rfl ?_
    refine z_getl dX1_isKey_21 fsX1_821_0 ?_
    refine Z.pick [] rfl ?_
    exact z_callS (as := [vi l1, vl (gl M 16 88), vl (gl M 16 89)]) (st := []) dX1_isKey_24 ssX1_827 (Nat.le_refl _) (Nat.le_of_ble_eq_true rfl) (Nat.le_of_ble_eq_true rfl) rfl k
  · have k := zit h_ k
    refine z_aload_n dX1_isKey_8 rfl rfl ?_
    refine z_geti dX1_isKey_9 fsX1_824_0 ?_
    refine z_goto (tgt := 27) dX1_isKey_12 rfl ?_
    refine Z.pick [] rfl ?_
    exact k
theorem sX1_isKey_27 {E : zE} {d : Nat} {Q : zO → zM → Prop} (M : zM) (s0 : Int32) (hw : cw M) (k : (narrow .boolean (.int s0) = .int s0) ∧ Q (.inl (some (vi s0))) M) : Z E YX1_isKey (d + 1) M [] 27 [vi s0] Q := by
  exact z_iret dX1_isKey_27 rfl k.1 k.2
/-! ScriptTypes.global(IZ)V -/
theorem bX1_global_0 : zdec cX1_global 0 [(0, .aload_n 0, 1), (1, .getfield 684, 3), (4, .iconst 0, 1), (5, .iload_n 1, 1), (6, .invokevirtual 813, 3), (9, .istore_n 3, 1), (10, .aload_n 0, 1), (11, .getfield 684, 3), (14, .getfield 810, 3), (17, .iload_n 3, 1), (18, .laload, 1), (19, .ldc2_w 816, 3), (22, .land, 1), (23, .lconst 0, 1), (24, .lcmp, 1), (25, .ifCond .eq 7, 3)] = true := by decide +kernel
theorem dX1_global_0 : decode cX1_global 0 = .ok (.aload_n 0, 1) := zdec_at bX1_global_0 0 rfl
theorem dX1_global_1 : decode cX1_global 1 = .ok (.getfield 684, 3) := zdec_at bX1_global_0 1 rfl
theorem dX1_global_4 : decode cX1_global 4 = .ok (.iconst 0, 1) := zdec_at bX1_global_0 2 rfl
theorem dX1_global_5 : decode cX1_global 5 = .ok (.iload_n 1, 1) := zdec_at bX1_global_0 3 rfl
theorem dX1_global_6 : decode cX1_global 6 = .ok (.invokevirtual 813, 3) := zdec_at bX1_global_0 4 rfl
theorem dX1_global_9 : decode cX1_global 9 = .ok (.istore_n 3, 1) := zdec_at bX1_global_0 5 rfl
theorem dX1_global_10 : decode cX1_global 10 = .ok (.aload_n 0, 1) := zdec_at bX1_global_0 6 rfl
theorem dX1_global_11 : decode cX1_global 11 = .ok (.getfield 684, 3) := zdec_at bX1_global_0 7 rfl
theorem dX1_global_14 : decode cX1_global 14 = .ok (.getfield 810, 3) := zdec_at bX1_global_0 8 rfl
theorem dX1_global_17 : decode cX1_global 17 = .ok (.iload_n 3, 1) := zdec_at bX1_global_0 9 rfl
theorem dX1_global_18 : decode cX1_global 18 = .ok (.laload, 1) := zdec_at bX1_global_0 10 rfl
theorem dX1_global_19 : decode cX1_global 19 = .ok (.ldc2_w 816, 3) := zdec_at bX1_global_0 11 rfl
theorem dX1_global_22 : decode cX1_global 22 = .ok (.land, 1) := zdec_at bX1_global_0 12 rfl
theorem dX1_global_23 : decode cX1_global 23 = .ok (.lconst 0, 1) := zdec_at bX1_global_0 13 rfl
theorem dX1_global_24 : decode cX1_global 24 = .ok (.lcmp, 1) := zdec_at bX1_global_0 14 rfl
theorem dX1_global_25 : decode cX1_global 25 = .ok (.ifCond .eq 7, 3) := zdec_at bX1_global_0 15 rfl
theorem bX1_global_28 : zdec cX1_global 28 [(28, .iconst 1, 1), (29, .goto 4, 3), (32, .iconst 0, 1), (33, .istore 4, 2), (35, .aload_n 0, 1), (36, .getfield 206, 3), (39, .aload_n 0, 1), (40, .getfield 684, 3), (43, .getfield 810, 3), (46, .iload_n 3, 1), (47, .laload, 1), (48, .ldc2_w 869, 3), (51, .land, 1), (52, .invokevirtual 892, 3), (55, .aload_n 0, 1), (56, .getfield 684, 3)] = true := by decide +kernel
theorem dX1_global_28 : decode cX1_global 28 = .ok (.iconst 1, 1) := zdec_at bX1_global_28 0 rfl
theorem dX1_global_29 : decode cX1_global 29 = .ok (.goto 4, 3) := zdec_at bX1_global_28 1 rfl
theorem dX1_global_32 : decode cX1_global 32 = .ok (.iconst 0, 1) := zdec_at bX1_global_28 2 rfl
theorem dX1_global_33 : decode cX1_global 33 = .ok (.istore 4, 2) := zdec_at bX1_global_28 3 rfl
theorem dX1_global_35 : decode cX1_global 35 = .ok (.aload_n 0, 1) := zdec_at bX1_global_28 4 rfl
theorem dX1_global_36 : decode cX1_global 36 = .ok (.getfield 206, 3) := zdec_at bX1_global_28 5 rfl
theorem dX1_global_39 : decode cX1_global 39 = .ok (.aload_n 0, 1) := zdec_at bX1_global_28 6 rfl
theorem dX1_global_40 : decode cX1_global 40 = .ok (.getfield 684, 3) := zdec_at bX1_global_28 7 rfl
theorem dX1_global_43 : decode cX1_global 43 = .ok (.getfield 810, 3) := zdec_at bX1_global_28 8 rfl
theorem dX1_global_46 : decode cX1_global 46 = .ok (.iload_n 3, 1) := zdec_at bX1_global_28 9 rfl
theorem dX1_global_47 : decode cX1_global 47 = .ok (.laload, 1) := zdec_at bX1_global_28 10 rfl
theorem dX1_global_48 : decode cX1_global 48 = .ok (.ldc2_w 869, 3) := zdec_at bX1_global_28 11 rfl
theorem dX1_global_51 : decode cX1_global 51 = .ok (.land, 1) := zdec_at bX1_global_28 12 rfl
theorem dX1_global_52 : decode cX1_global 52 = .ok (.invokevirtual 892, 3) := zdec_at bX1_global_28 13 rfl
theorem dX1_global_55 : decode cX1_global 55 = .ok (.aload_n 0, 1) := zdec_at bX1_global_28 14 rfl
theorem dX1_global_56 : decode cX1_global 56 = .ok (.getfield 684, 3) := zdec_at bX1_global_28 15 rfl
theorem bX1_global_59 : zdec cX1_global 59 [(59, .getfield 863, 3), (62, .iload_n 3, 1), (63, .laload, 1), (64, .aload_n 0, 1), (65, .getfield 684, 3), (68, .getfield 866, 3), (71, .iload_n 3, 1), (72, .laload, 1), (73, .lconst 0, 1), (74, .invokevirtual 871, 3), (77, .pop, 1), (78, .iload_n 2, 1), (79, .ifCond .eq 49, 3), (82, .aload_n 0, 1), (83, .aload_n 0, 1), (84, .getfield 206, 3)] = true := by decide +kernel
theorem dX1_global_59 : decode cX1_global 59 = .ok (.getfield 863, 3) := zdec_at bX1_global_59 0 rfl
theorem dX1_global_62 : decode cX1_global 62 = .ok (.iload_n 3, 1) := zdec_at bX1_global_59 1 rfl
theorem dX1_global_63 : decode cX1_global 63 = .ok (.laload, 1) := zdec_at bX1_global_59 2 rfl
theorem dX1_global_64 : decode cX1_global 64 = .ok (.aload_n 0, 1) := zdec_at bX1_global_59 3 rfl
theorem dX1_global_65 : decode cX1_global 65 = .ok (.getfield 684, 3) := zdec_at bX1_global_59 4 rfl
theorem dX1_global_68 : decode cX1_global 68 = .ok (.getfield 866, 3) := zdec_at bX1_global_59 5 rfl
theorem dX1_global_71 : decode cX1_global 71 = .ok (.iload_n 3, 1) := zdec_at bX1_global_59 6 rfl
theorem dX1_global_72 : decode cX1_global 72 = .ok (.laload, 1) := zdec_at bX1_global_59 7 rfl
theorem dX1_global_73 : decode cX1_global 73 = .ok (.lconst 0, 1) := zdec_at bX1_global_59 8 rfl
theorem dX1_global_74 : decode cX1_global 74 = .ok (.invokevirtual 871, 3) := zdec_at bX1_global_59 9 rfl
theorem dX1_global_77 : decode cX1_global 77 = .ok (.pop, 1) := zdec_at bX1_global_59 10 rfl
theorem dX1_global_78 : decode cX1_global 78 = .ok (.iload_n 2, 1) := zdec_at bX1_global_59 11 rfl
theorem dX1_global_79 : decode cX1_global 79 = .ok (.ifCond .eq 49, 3) := zdec_at bX1_global_59 12 rfl
theorem dX1_global_82 : decode cX1_global 82 = .ok (.aload_n 0, 1) := zdec_at bX1_global_59 13 rfl
theorem dX1_global_83 : decode cX1_global 83 = .ok (.aload_n 0, 1) := zdec_at bX1_global_59 14 rfl
theorem dX1_global_84 : decode cX1_global 84 = .ok (.getfield 206, 3) := zdec_at bX1_global_59 15 rfl
theorem bX1_global_87 : zdec cX1_global 87 [(87, .aload_n 0, 1), (88, .getfield 216, 3), (91, .invokevirtual 796, 3), (94, .invokevirtual 956, 3), (97, .iload 4, 2), (99, .ifCond .eq 18, 3), (102, .aload_n 0, 1), (103, .getfield 216, 3), (106, .lconst 0, 1), (107, .lconst 0, 1), (108, .bipush 19, 2), (110, .invokestatic 741, 3), (113, .invokevirtual 871, 3), (116, .pop, 1), (117, .aload_n 0, 1), (118, .aload_n 0, 1)] = true := by decide +kernel
theorem dX1_global_87 : decode cX1_global 87 = .ok (.aload_n 0, 1) := zdec_at bX1_global_87 0 rfl
theorem dX1_global_88 : decode cX1_global 88 = .ok (.getfield 216, 3) := zdec_at bX1_global_87 1 rfl
theorem dX1_global_91 : decode cX1_global 91 = .ok (.invokevirtual 796, 3) := zdec_at bX1_global_87 2 rfl
theorem dX1_global_94 : decode cX1_global 94 = .ok (.invokevirtual 956, 3) := zdec_at bX1_global_87 3 rfl
theorem dX1_global_97 : decode cX1_global 97 = .ok (.iload 4, 2) := zdec_at bX1_global_87 4 rfl
theorem dX1_global_99 : decode cX1_global 99 = .ok (.ifCond .eq 18, 3) := zdec_at bX1_global_87 5 rfl
theorem dX1_global_102 : decode cX1_global 102 = .ok (.aload_n 0, 1) := zdec_at bX1_global_87 6 rfl
theorem dX1_global_103 : decode cX1_global 103 = .ok (.getfield 216, 3) := zdec_at bX1_global_87 7 rfl
theorem dX1_global_106 : decode cX1_global 106 = .ok (.lconst 0, 1) := zdec_at bX1_global_87 8 rfl
theorem dX1_global_107 : decode cX1_global 107 = .ok (.lconst 0, 1) := zdec_at bX1_global_87 9 rfl
theorem dX1_global_108 : decode cX1_global 108 = .ok (.bipush 19, 2) := zdec_at bX1_global_87 10 rfl
theorem dX1_global_110 : decode cX1_global 110 = .ok (.invokestatic 741, 3) := zdec_at bX1_global_87 11 rfl
theorem dX1_global_113 : decode cX1_global 113 = .ok (.invokevirtual 871, 3) := zdec_at bX1_global_87 12 rfl
theorem dX1_global_116 : decode cX1_global 116 = .ok (.pop, 1) := zdec_at bX1_global_87 13 rfl
theorem dX1_global_117 : decode cX1_global 117 = .ok (.aload_n 0, 1) := zdec_at bX1_global_87 14 rfl
theorem dX1_global_118 : decode cX1_global 118 = .ok (.aload_n 0, 1) := zdec_at bX1_global_87 15 rfl
theorem bX1_global_119 : zdec cX1_global 119 [(119, .getfield 216, 3), (122, .invokevirtual 895, 3), (125, .goto 25, 3), (128, .iload 4, 2), (130, .ifCond .eq 12, 3), (133, .aload_n 0, 1), (134, .aload_n 0, 1), (135, .getfield 684, 3), (138, .iconst 1, 1), (139, .invokevirtual 960, 3), (142, .aload_n 0, 1), (143, .aload_n 0, 1), (144, .getfield 206, 3), (147, .invokevirtual 895, 3), (150, .return_, 1)] = true := by decide +kernel
theorem dX1_global_119 : decode cX1_global 119 = .ok (.getfield 216, 3) := zdec_at bX1_global_119 0 rfl
theorem dX1_global_122 : decode cX1_global 122 = .ok (.invokevirtual 895, 3) := zdec_at bX1_global_119 1 rfl
theorem dX1_global_125 : decode cX1_global 125 = .ok (.goto 25, 3) := zdec_at bX1_global_119 2 rfl
theorem dX1_global_128 : decode cX1_global 128 = .ok (.iload 4, 2) := zdec_at bX1_global_119 3 rfl
theorem dX1_global_130 : decode cX1_global 130 = .ok (.ifCond .eq 12, 3) := zdec_at bX1_global_119 4 rfl
theorem dX1_global_133 : decode cX1_global 133 = .ok (.aload_n 0, 1) := zdec_at bX1_global_119 5 rfl
theorem dX1_global_134 : decode cX1_global 134 = .ok (.aload_n 0, 1) := zdec_at bX1_global_119 6 rfl
theorem dX1_global_135 : decode cX1_global 135 = .ok (.getfield 684, 3) := zdec_at bX1_global_119 7 rfl
theorem dX1_global_138 : decode cX1_global 138 = .ok (.iconst 1, 1) := zdec_at bX1_global_119 8 rfl
theorem dX1_global_139 : decode cX1_global 139 = .ok (.invokevirtual 960, 3) := zdec_at bX1_global_119 9 rfl
theorem dX1_global_142 : decode cX1_global 142 = .ok (.aload_n 0, 1) := zdec_at bX1_global_119 10 rfl
theorem dX1_global_143 : decode cX1_global 143 = .ok (.aload_n 0, 1) := zdec_at bX1_global_119 11 rfl
theorem dX1_global_144 : decode cX1_global 144 = .ok (.getfield 206, 3) := zdec_at bX1_global_119 12 rfl
theorem dX1_global_147 : decode cX1_global 147 = .ok (.invokevirtual 895, 3) := zdec_at bX1_global_119 13 rfl
theorem dX1_global_150 : decode cX1_global 150 = .ok (.return_, 1) := zdec_at bX1_global_119 14 rfl
theorem sX1_global_0 {E : zE} {d : Nat} {Q : zO → zM → Prop} (M : zM) (l1 : Int32) (l2 : Int32) (hw : cw M) (k : ∃ b1 : Nat, (gr M 16 60) = some (b1, 7, 0) ∧ (Z E YX43_cell d M (zargs 0 [vr (some (b1, 7, 0)), vi (0 : Int32), vi l1]) 0 [] (zafter E YX1_global (d + 1) [(0, vr (some (16, 0, 0))), (2, vi l2)] 6 3 [] Q))) : Z E YX1_global (d + 1) M [(0, vr (some (16, 0, 0))), (1, vi l1), (2, vi l2)] 0 [] Q := by
  refine z_aload_n dX1_global_0 rfl rfl ?_
  refine z_getr (r := (gr M 16 60)) dX1_global_1 fsX1_684_0 rfl ?_
  refine z_iconst (v := 0) dX1_global_4 rfl ?_
  refine z_iload_n dX1_global_5 rfl rfl ?_
  obtain ⟨b1, e1_, k⟩ := k
  refine Z.eqs (lv' := [(0, vr (some (16, 0, 0))), (1, vi l1), (2, vi l2)]) (st' := [vi l1, vi (0 : Int32), vr (some (b1, 7, 0))]) rfl (by rw [e1_] <;> rfl) ?_
  refine Z.pick [0, 2] rfl ?_
  exact z_callV (as := [vi (0 : Int32), vi l1]) (st := []) dX1_global_6 vsX1_813_7 (Nat.le_refl _) (Nat.le_of_ble_eq_true rfl) (Nat.le_of_ble_eq_true rfl) rfl k
theorem sX1_global_9 {E : zE} {d : Nat} {Q : zO → zM → Prop} (M : zM) (l2 : Int32) (s0 : Int32) (hw : cw M) (k : ∃ b1 : Nat, (gr M 16 60) = some (b1, 7, 0) ∧ (∃ b2 m2 : Nat, (gr M b1 3) = some (b2, 105, m2) ∧ (vp_in s0 m2 ∧ (if (lg_cmp ((gl M b2 (s0).toNatClampNeg) &&& (512 : Int64)) (0 : Int64)) = 0 then (Z E YX1_global (d + 1) M [(0, vr (some (16, 0, 0))), (2, vi l2), (3, vi s0)] 33 [vi (0 : Int32)] Q) else (Z E YX1_global (d + 1) M [(0, vr (some (16, 0, 0))), (2, vi l2), (3, vi s0)] 33 [vi (1 : Int32)] Q))))) : Z E YX1_global (d + 1) M [(0, vr (some (16, 0, 0))), (2, vi l2)] 9 [vi s0] Q := by
  refine z_ist_n dX1_global_9 rfl (by decide) (lv' := [(0, vr (some (16, 0, 0))), (2, vi l2), (3, vi s0)]) rfl ?_
  refine z_aload_n dX1_global_10 rfl rfl ?_
  refine z_getr (r := (gr M 16 60)) dX1_global_11 fsX1_684_0 rfl ?_
  obtain ⟨b1, e1_, k⟩ := k
  refine Z.eqs (lv' := [(0, vr (some (16, 0, 0))), (2, vi l2), (3, vi s0)]) (st' := [vr (some (b1, 7, 0))]) rfl (by rw [e1_] <;> rfl) ?_
  refine z_getr (r := (gr M b1 3)) dX1_global_14 fsX1_810_7 rfl ?_
  refine z_iload_n dX1_global_17 rfl rfl ?_
  obtain ⟨b2, m2, e2_, k⟩ := k
  refine Z.eqs (lv' := [(0, vr (some (16, 0, 0))), (2, vi l2), (3, vi s0)]) (st' := [vi s0, vr (some (b2, 105, m2))]) rfl (by rw [e2_] <;> rfl) ?_
  obtain ⟨b_, k⟩ := k
  refine z_lald dX1_global_18 b_ ?_
  refine z_ldc2 (v := 512) dX1_global_19 q3247 ?_
  refine z_land dX1_global_22 ?_
  refine z_lconst (v := 0) dX1_global_23 rfl ?_
  refine z_lcmp dX1_global_24 ?_
  refine z_if_eq (tgt := 32) dX1_global_25 rfl (fun h_ => ?_) (fun h_ => ?_)
  · have k := zit h_ k
    refine z_iconst (v := 0) dX1_global_32 rfl ?_
    exact k
  · have k := zif h_ k
    refine z_iconst (v := 1) dX1_global_28 rfl ?_
    refine z_goto (tgt := 33) dX1_global_29 rfl ?_
    exact k
theorem sX1_global_33 {E : zE} {d : Nat} {Q : zO → zM → Prop} (M : zM) (l2 : Int32) (l3 : Int32) (s0 : Int32) (hw : cw M) (k : ∃ b1 : Nat, (gr M 16 60) = some (b1, 7, 0) ∧ (∃ b2 m2 : Nat, (gr M b1 3) = some (b2, 105, m2) ∧ (vp_in l3 m2 ∧ (Z E YX6_of d M (zargs 0 [vr (some (71, 4, 0)), vl ((gl M b2 (l3).toNatClampNeg) &&& (-513 : Int64))]) 0 [] (zafter E YX1_global (d + 1) [(0, vr (some (16, 0, 0))), (2, vi l2), (3, vi l3), (4, vi s0)] 52 3 [] Q))))) : Z E YX1_global (d + 1) M [(0, vr (some (16, 0, 0))), (2, vi l2), (3, vi l3)] 33 [vi s0] Q := by
  refine z_ist dX1_global_33 (by decide) (lv' := [(0, vr (some (16, 0, 0))), (2, vi l2), (3, vi l3), (4, vi s0)]) rfl ?_
  refine z_aload_n dX1_global_35 rfl rfl ?_
  refine z_getr dX1_global_36 fsX1_206_0 (show gr M 16 78 = some (71, 4, 0) from cw_at hw 39 rfl) ?_
  refine z_aload_n dX1_global_39 rfl rfl ?_
  refine z_getr (r := (gr M 16 60)) dX1_global_40 fsX1_684_0 rfl ?_
  obtain ⟨b1, e1_, k⟩ := k
  refine Z.eqs (lv' := [(0, vr (some (16, 0, 0))), (2, vi l2), (3, vi l3), (4, vi s0)]) (st' := [vr (some (b1, 7, 0)), vr (some (71, 4, 0))]) rfl (by rw [e1_] <;> rfl) ?_
  refine z_getr (r := (gr M b1 3)) dX1_global_43 fsX1_810_7 rfl ?_
  refine z_iload_n dX1_global_46 rfl rfl ?_
  obtain ⟨b2, m2, e2_, k⟩ := k
  refine Z.eqs (lv' := [(0, vr (some (16, 0, 0))), (2, vi l2), (3, vi l3), (4, vi s0)]) (st' := [vi l3, vr (some (b2, 105, m2)), vr (some (71, 4, 0))]) rfl (by rw [e2_] <;> rfl) ?_
  obtain ⟨b_, k⟩ := k
  refine z_lald dX1_global_47 b_ ?_
  refine z_ldc2 (v := -513) dX1_global_48 q3198 ?_
  refine z_land dX1_global_51 ?_
  exact z_callV (as := [vl ((gl M b2 (l3).toNatClampNeg) &&& (-513 : Int64))]) (st := []) dX1_global_52 vsX1_892_4 (Nat.le_refl _) (Nat.le_of_ble_eq_true rfl) (Nat.le_of_ble_eq_true rfl) rfl k
theorem sX1_global_55 {E : zE} {d : Nat} {Q : zO → zM → Prop} (M : zM) (l2 : Int32) (l3 : Int32) (l4 : Int32) (u0 : Option zP) (hw : cw M) (k : ∃ b1 : Nat, (gr M 16 60) = some (b1, 7, 0) ∧ (∃ b2 m2 : Nat, (gr M b1 1) = some (b2, 105, m2) ∧ (vp_in l3 m2 ∧ (∃ b3 : Nat, (gr M 16 60) = some (b3, 7, 0) ∧ (∃ b4 m4 : Nat, (gr M b3 2) = some (b4, 105, m4) ∧ (vp_in l3 m4 ∧ (∃ b5 : Nat, u0 = some (b5, 4, 0) ∧ (Z E YX6_join3 d M (zargs 0 [vr (some (b5, 4, 0)), vl (gl M b2 (l3).toNatClampNeg), vl (gl M b4 (l3).toNatClampNeg), vl (0 : Int64)]) 0 [] (zafter E YX1_global (d + 1) [(0, vr (some (16, 0, 0))), (2, vi l2), (4, vi l4)] 74 3 [] Q))))))))) : Z E YX1_global (d + 1) M [(0, vr (some (16, 0, 0))), (2, vi l2), (3, vi l3), (4, vi l4)] 55 [vr u0] Q := by
  refine z_aload_n dX1_global_55 rfl rfl ?_
  refine z_getr (r := (gr M 16 60)) dX1_global_56 fsX1_684_0 rfl ?_
  obtain ⟨b1, e1_, k⟩ := k
  refine Z.eqs (lv' := [(0, vr (some (16, 0, 0))), (2, vi l2), (3, vi l3), (4, vi l4)]) (st' := [vr (some (b1, 7, 0)), vr u0]) rfl (by rw [e1_] <;> rfl) ?_
  refine z_getr (r := (gr M b1 1)) dX1_global_59 fsX1_863_7 rfl ?_
  refine z_iload_n dX1_global_62 rfl rfl ?_
  obtain ⟨b2, m2, e2_, k⟩ := k
  refine Z.eqs (lv' := [(0, vr (some (16, 0, 0))), (2, vi l2), (3, vi l3), (4, vi l4)]) (st' := [vi l3, vr (some (b2, 105, m2)), vr u0]) rfl (by rw [e2_] <;> rfl) ?_
  obtain ⟨b_, k⟩ := k
  refine z_lald dX1_global_63 b_ ?_
  refine z_aload_n dX1_global_64 rfl rfl ?_
  refine z_getr (r := (gr M 16 60)) dX1_global_65 fsX1_684_0 rfl ?_
  obtain ⟨b3, e3_, k⟩ := k
  refine Z.eqs (lv' := [(0, vr (some (16, 0, 0))), (2, vi l2), (3, vi l3), (4, vi l4)]) (st' := [vr (some (b3, 7, 0)), vl (gl M b2 (l3).toNatClampNeg), vr u0]) rfl (by rw [e3_] <;> rfl) ?_
  refine z_getr (r := (gr M b3 2)) dX1_global_68 fsX1_866_7 rfl ?_
  refine z_iload_n dX1_global_71 rfl rfl ?_
  obtain ⟨b4, m4, e4_, k⟩ := k
  refine Z.eqs (lv' := [(0, vr (some (16, 0, 0))), (2, vi l2), (3, vi l3), (4, vi l4)]) (st' := [vi l3, vr (some (b4, 105, m4)), vl (gl M b2 (l3).toNatClampNeg), vr u0]) rfl (by rw [e4_] <;> rfl) ?_
  obtain ⟨b_, k⟩ := k
  refine z_lald dX1_global_72 b_ ?_
  refine z_lconst (v := 0) dX1_global_73 rfl ?_
  obtain ⟨b5, e5_, k⟩ := k
  refine Z.eqs (lv' := [(0, vr (some (16, 0, 0))), (2, vi l2), (3, vi l3), (4, vi l4)]) (st' := [vl (0 : Int64), vl (gl M b4 (l3).toNatClampNeg), vl (gl M b2 (l3).toNatClampNeg), vr (some (b5, 4, 0))]) rfl (by rw [e5_] <;> rfl) ?_
  refine Z.pick [0, 1, 3] rfl ?_
  exact z_callV (as := [vl (gl M b2 (l3).toNatClampNeg), vl (gl M b4 (l3).toNatClampNeg), vl (0 : Int64)]) (st := []) dX1_global_74 vsX1_871_4 (Nat.le_refl _) (Nat.le_of_ble_eq_true rfl) (Nat.le_of_ble_eq_true rfl) rfl k
theorem sX1_global_77 {E : zE} {d : Nat} {Q : zO → zM → Prop} (M : zM) (l2 : Int32) (l4 : Int32) (u0 : Option zP) (hw : cw M) (k : if l2 = 0 then (if l4 = 0 then (Z E YX1_global (d + 1) M [(0, vr (some (16, 0, 0)))] 142 [] Q) else (Z E YX1_errs d M (zargs 0 [vr (some (16, 0, 0)), vr (gr M 16 60), vi (1 : Int32)]) 0 [] (zafter E YX1_global (d + 1) [(0, vr (some (16, 0, 0)))] 139 3 [] Q))) else (Z E YX6_empty d M (zargs 0 [vr (some (74, 4, 0))]) 0 [] (zafter E YX1_global (d + 1) [(0, vr (some (16, 0, 0))), (4, vi l4)] 91 3 [vr (some (71, 4, 0)), vr (some (16, 0, 0))] Q))) : Z E YX1_global (d + 1) M [(0, vr (some (16, 0, 0))), (2, vi l2), (4, vi l4)] 77 [vr u0] Q := by
  refine z_pop dX1_global_77 rfl ?_
  refine z_iload_n dX1_global_78 rfl rfl ?_
  refine z_if_eq (tgt := 128) dX1_global_79 rfl (fun h_ => ?_) (fun h_ => ?_)
  · have k := zit h_ k
    refine z_iload dX1_global_128 rfl ?_
    refine z_if_eq (tgt := 142) dX1_global_130 rfl (fun h_ => ?_) (fun h_ => ?_)
    · have k := zit h_ k
      refine Z.pick [0] rfl ?_
      exact k
    · have k := zif h_ k
      refine z_aload_n dX1_global_133 rfl rfl ?_
      refine z_aload_n dX1_global_134 rfl rfl ?_
      refine z_getr (r := (gr M 16 60)) dX1_global_135 fsX1_684_0 rfl ?_
      refine z_iconst (v := 1) dX1_global_138 rfl ?_
      refine Z.pick [0] rfl ?_
      exact z_callV (as := [vr (gr M 16 60), vi (1 : Int32)]) (st := []) dX1_global_139 vsX1_960_0 (Nat.le_refl _) (Nat.le_of_ble_eq_true rfl) (Nat.le_of_ble_eq_true rfl) rfl k
  · have k := zif h_ k
    refine z_aload_n dX1_global_82 rfl rfl ?_
    refine z_aload_n dX1_global_83 rfl rfl ?_
    refine z_getr dX1_global_84 fsX1_206_0 (show gr M 16 78 = some (71, 4, 0) from cw_at hw 39 rfl) ?_
    refine z_aload_n dX1_global_87 rfl rfl ?_
    refine z_getr dX1_global_88 fsX1_216_0 (show gr M 16 81 = some (74, 4, 0) from cw_at hw 42 rfl) ?_
    refine Z.pick [0, 2] rfl ?_
    exact z_callV (as := []) (st := [vr (some (71, 4, 0)), vr (some (16, 0, 0))]) dX1_global_91 vsX1_796_4 (Nat.le_refl _) (Nat.le_of_ble_eq_true rfl) (Nat.le_of_ble_eq_true rfl) rfl k
theorem sX1_global_94 {E : zE} {d : Nat} {Q : zO → zM → Prop} (M : zM) (l4 : Int32) (u0 : Option zP) (hw : cw M) (k : Z E YX1_types d M (zargs 0 [vr (some (16, 0, 0)), vr (some (71, 4, 0)), vr u0]) 0 [] (zafter E YX1_global (d + 1) [(0, vr (some (16, 0, 0))), (4, vi l4)] 94 3 [] Q)) : Z E YX1_global (d + 1) M [(0, vr (some (16, 0, 0))), (4, vi l4)] 94 [vr u0, vr (some (71, 4, 0)), vr (some (16, 0, 0))] Q := by
  exact z_callV (as := [vr (some (71, 4, 0)), vr u0]) (st := []) dX1_global_94 vsX1_956_0 (Nat.le_refl _) (Nat.le_of_ble_eq_true rfl) (Nat.le_of_ble_eq_true rfl) rfl k
theorem sX1_global_97 {E : zE} {d : Nat} {Q : zO → zM → Prop} (M : zM) (l4 : Int32) (hw : cw M) (k : if l4 = 0 then (Z E YX1_nextWith d M (zargs 0 [vr (some (16, 0, 0)), vr (some (74, 4, 0))]) 0 [] (zafter E YX1_global (d + 1) [] 122 3 [] Q)) else (Z E YX1_textSet d M (zargs 0 [vi (19 : Int32)]) 0 [] (zafter E YX1_global (d + 1) [(0, vr (some (16, 0, 0)))] 110 3 [vl (0 : Int64), vl (0 : Int64), vr (some (74, 4, 0))] Q))) : Z E YX1_global (d + 1) M [(0, vr (some (16, 0, 0))), (4, vi l4)] 97 [] Q := by
  refine z_iload dX1_global_97 rfl ?_
  refine z_if_eq (tgt := 117) dX1_global_99 rfl (fun h_ => ?_) (fun h_ => ?_)
  · have k := zit h_ k
    refine z_aload_n dX1_global_117 rfl rfl ?_
    refine z_aload_n dX1_global_118 rfl rfl ?_
    refine z_getr dX1_global_119 fsX1_216_0 (show gr M 16 81 = some (74, 4, 0) from cw_at hw 42 rfl) ?_
    refine Z.pick [] rfl ?_
    exact z_callV (as := [vr (some (74, 4, 0))]) (st := []) dX1_global_122 vsX1_895_0 (Nat.le_refl _) (Nat.le_of_ble_eq_true rfl) (Nat.le_of_ble_eq_true rfl) rfl k
  · have k := zif h_ k
    refine z_aload_n dX1_global_102 rfl rfl ?_
    refine z_getr dX1_global_103 fsX1_216_0 (show gr M 16 81 = some (74, 4, 0) from cw_at hw 42 rfl) ?_
    refine z_lconst (v := 0) dX1_global_106 rfl ?_
    refine z_lconst (v := 0) dX1_global_107 rfl ?_
    refine z_bipush (v := 19) dX1_global_108 rfl ?_
    refine Z.pick [0] rfl ?_
    exact z_callS (as := [vi (19 : Int32)]) (st := [vl (0 : Int64), vl (0 : Int64), vr (some (74, 4, 0))]) dX1_global_110 ssX1_741 (Nat.le_refl _) (Nat.le_of_ble_eq_true rfl) (Nat.le_of_ble_eq_true rfl) rfl k
theorem sX1_global_113 {E : zE} {d : Nat} {Q : zO → zM → Prop} (M : zM) (s0 : Int64) (s1 : Int64) (s2 : Int64) (hw : cw M) (k : Z E YX6_join3 d M (zargs 0 [vr (some (74, 4, 0)), vl s2, vl s1, vl s0]) 0 [] (zafter E YX1_global (d + 1) [(0, vr (some (16, 0, 0)))] 113 3 [] Q)) : Z E YX1_global (d + 1) M [(0, vr (some (16, 0, 0)))] 113 [vl s0, vl s1, vl s2, vr (some (74, 4, 0))] Q := by
  exact z_callV (as := [vl s2, vl s1, vl s0]) (st := []) dX1_global_113 vsX1_871_4 (Nat.le_refl _) (Nat.le_of_ble_eq_true rfl) (Nat.le_of_ble_eq_true rfl) rfl k
theorem sX1_global_116 {E : zE} {d : Nat} {Q : zO → zM → Prop} (M : zM) (u0 : Option zP) (hw : cw M) (k : Z E YX1_nextWith d M (zargs 0 [vr (some (16, 0, 0)), vr (some (74, 4, 0))]) 0 [] (zafter E YX1_global (d + 1) [] 122 3 [] Q)) : Z E YX1_global (d + 1) M [(0, vr (some (16, 0, 0)))] 116 [vr u0] Q := by
  refine z_pop dX1_global_116 rfl ?_
  refine z_aload_n dX1_global_117 rfl rfl ?_
  refine z_aload_n dX1_global_118 rfl rfl ?_
  refine z_getr dX1_global_119 fsX1_216_0 (show gr M 16 81 = some (74, 4, 0) from cw_at hw 42 rfl) ?_
  refine Z.pick [] rfl ?_
  exact z_callV (as := [vr (some (74, 4, 0))]) (st := []) dX1_global_122 vsX1_895_0 (Nat.le_refl _) (Nat.le_of_ble_eq_true rfl) (Nat.le_of_ble_eq_true rfl) rfl k
theorem sX1_global_125 {E : zE} {d : Nat} {Q : zO → zM → Prop} (M : zM)  (hw : cw M) (k : Z E YX1_global (d + 1) M [] 150 [] Q) : Z E YX1_global (d + 1) M [] 125 [] Q := by
  refine z_goto (tgt := 150) dX1_global_125 rfl ?_
  exact k
theorem sX1_global_142 {E : zE} {d : Nat} {Q : zO → zM → Prop} (M : zM)  (hw : cw M) (k : Z E YX1_nextWith d M (zargs 0 [vr (some (16, 0, 0)), vr (some (71, 4, 0))]) 0 [] (zafter E YX1_global (d + 1) [] 147 3 [] Q)) : Z E YX1_global (d + 1) M [(0, vr (some (16, 0, 0)))] 142 [] Q := by
  refine z_aload_n dX1_global_142 rfl rfl ?_
  refine z_aload_n dX1_global_143 rfl rfl ?_
  refine z_getr dX1_global_144 fsX1_206_0 (show gr M 16 78 = some (71, 4, 0) from cw_at hw 39 rfl) ?_
  refine Z.pick [] rfl ?_
  exact z_callV (as := [vr (some (71, 4, 0))]) (st := []) dX1_global_147 vsX1_895_0 (Nat.le_refl _) (Nat.le_of_ble_eq_true rfl) (Nat.le_of_ble_eq_true rfl) rfl k
theorem sX1_global_150 {E : zE} {d : Nat} {Q : zO → zM → Prop} (M : zM)  (hw : cw M) (k : Q (.inl none) M) : Z E YX1_global (d + 1) M [] 150 [] Q := by
  exact z_vret dX1_global_150 rfl k
/-! ScriptTypes.types(LScriptTypes$Bag;LScriptTypes$Bag;)V -/
theorem bX1_types_0 : zdec cX1_types 0 [(0, .aload_n 1, 1), (1, .iconst 1, 1), (2, .invokevirtual 831, 3), (5, .ifCond .eq 15, 3), (8, .aload_n 2, 1), (9, .lconst 0, 1), (10, .lconst 0, 1), (11, .bipush 19, 2), (13, .invokestatic 741, 3), (16, .invokevirtual 871, 3), (19, .pop, 1), (20, .aload_n 1, 1), (21, .iconst 2, 1), (22, .invokevirtual 831, 3), (25, .ifCond .eq 15, 3), (28, .aload_n 2, 1)] = true := by decide +kernel
theorem dX1_types_0 : decode cX1_types 0 = .ok (.aload_n 1, 1) := zdec_at bX1_types_0 0 rfl
theorem dX1_types_1 : decode cX1_types 1 = .ok (.iconst 1, 1) := zdec_at bX1_types_0 1 rfl
theorem dX1_types_2 : decode cX1_types 2 = .ok (.invokevirtual 831, 3) := zdec_at bX1_types_0 2 rfl
theorem dX1_types_5 : decode cX1_types 5 = .ok (.ifCond .eq 15, 3) := zdec_at bX1_types_0 3 rfl
theorem dX1_types_8 : decode cX1_types 8 = .ok (.aload_n 2, 1) := zdec_at bX1_types_0 4 rfl
theorem dX1_types_9 : decode cX1_types 9 = .ok (.lconst 0, 1) := zdec_at bX1_types_0 5 rfl
theorem dX1_types_10 : decode cX1_types 10 = .ok (.lconst 0, 1) := zdec_at bX1_types_0 6 rfl
theorem dX1_types_11 : decode cX1_types 11 = .ok (.bipush 19, 2) := zdec_at bX1_types_0 7 rfl
theorem dX1_types_13 : decode cX1_types 13 = .ok (.invokestatic 741, 3) := zdec_at bX1_types_0 8 rfl
theorem dX1_types_16 : decode cX1_types 16 = .ok (.invokevirtual 871, 3) := zdec_at bX1_types_0 9 rfl
theorem dX1_types_19 : decode cX1_types 19 = .ok (.pop, 1) := zdec_at bX1_types_0 10 rfl
theorem dX1_types_20 : decode cX1_types 20 = .ok (.aload_n 1, 1) := zdec_at bX1_types_0 11 rfl
theorem dX1_types_21 : decode cX1_types 21 = .ok (.iconst 2, 1) := zdec_at bX1_types_0 12 rfl
theorem dX1_types_22 : decode cX1_types 22 = .ok (.invokevirtual 831, 3) := zdec_at bX1_types_0 13 rfl
theorem dX1_types_25 : decode cX1_types 25 = .ok (.ifCond .eq 15, 3) := zdec_at bX1_types_0 14 rfl
theorem dX1_types_28 : decode cX1_types 28 = .ok (.aload_n 2, 1) := zdec_at bX1_types_0 15 rfl
theorem bX1_types_29 : zdec cX1_types 29 [(29, .lconst 0, 1), (30, .lconst 0, 1), (31, .bipush 20, 2), (33, .invokestatic 741, 3), (36, .invokevirtual 871, 3), (39, .pop, 1), (40, .aload_n 1, 1), (41, .bipush 12, 2), (43, .invokevirtual 831, 3), (46, .ifCond .eq 15, 3), (49, .aload_n 2, 1), (50, .lconst 0, 1), (51, .lconst 0, 1), (52, .bipush 21, 2), (54, .invokestatic 741, 3), (57, .invokevirtual 871, 3)] = true := by decide +kernel
theorem dX1_types_29 : decode cX1_types 29 = .ok (.lconst 0, 1) := zdec_at bX1_types_29 0 rfl
theorem dX1_types_30 : decode cX1_types 30 = .ok (.lconst 0, 1) := zdec_at bX1_types_29 1 rfl
theorem dX1_types_31 : decode cX1_types 31 = .ok (.bipush 20, 2) := zdec_at bX1_types_29 2 rfl
theorem dX1_types_33 : decode cX1_types 33 = .ok (.invokestatic 741, 3) := zdec_at bX1_types_29 3 rfl
theorem dX1_types_36 : decode cX1_types 36 = .ok (.invokevirtual 871, 3) := zdec_at bX1_types_29 4 rfl
theorem dX1_types_39 : decode cX1_types 39 = .ok (.pop, 1) := zdec_at bX1_types_29 5 rfl
theorem dX1_types_40 : decode cX1_types 40 = .ok (.aload_n 1, 1) := zdec_at bX1_types_29 6 rfl
theorem dX1_types_41 : decode cX1_types 41 = .ok (.bipush 12, 2) := zdec_at bX1_types_29 7 rfl
theorem dX1_types_43 : decode cX1_types 43 = .ok (.invokevirtual 831, 3) := zdec_at bX1_types_29 8 rfl
theorem dX1_types_46 : decode cX1_types 46 = .ok (.ifCond .eq 15, 3) := zdec_at bX1_types_29 9 rfl
theorem dX1_types_49 : decode cX1_types 49 = .ok (.aload_n 2, 1) := zdec_at bX1_types_29 10 rfl
theorem dX1_types_50 : decode cX1_types 50 = .ok (.lconst 0, 1) := zdec_at bX1_types_29 11 rfl
theorem dX1_types_51 : decode cX1_types 51 = .ok (.lconst 0, 1) := zdec_at bX1_types_29 12 rfl
theorem dX1_types_52 : decode cX1_types 52 = .ok (.bipush 21, 2) := zdec_at bX1_types_29 13 rfl
theorem dX1_types_54 : decode cX1_types 54 = .ok (.invokestatic 741, 3) := zdec_at bX1_types_29 14 rfl
theorem dX1_types_57 : decode cX1_types 57 = .ok (.invokevirtual 871, 3) := zdec_at bX1_types_29 15 rfl
theorem bX1_types_60 : zdec cX1_types 60 [(60, .pop, 1), (61, .aload_n 1, 1), (62, .bipush 112, 2), (64, .invokevirtual 831, 3), (67, .ifCond .eq 15, 3), (70, .aload_n 2, 1), (71, .lconst 0, 1), (72, .lconst 0, 1), (73, .bipush 22, 2), (75, .invokestatic 741, 3), (78, .invokevirtual 871, 3), (81, .pop, 1), (82, .aload_n 1, 1), (83, .sipush 384, 3), (86, .invokevirtual 831, 3), (89, .ifCond .eq 15, 3)] = true := by decide +kernel
theorem dX1_types_60 : decode cX1_types 60 = .ok (.pop, 1) := zdec_at bX1_types_60 0 rfl
theorem dX1_types_61 : decode cX1_types 61 = .ok (.aload_n 1, 1) := zdec_at bX1_types_60 1 rfl
theorem dX1_types_62 : decode cX1_types 62 = .ok (.bipush 112, 2) := zdec_at bX1_types_60 2 rfl
theorem dX1_types_64 : decode cX1_types 64 = .ok (.invokevirtual 831, 3) := zdec_at bX1_types_60 3 rfl
theorem dX1_types_67 : decode cX1_types 67 = .ok (.ifCond .eq 15, 3) := zdec_at bX1_types_60 4 rfl
theorem dX1_types_70 : decode cX1_types 70 = .ok (.aload_n 2, 1) := zdec_at bX1_types_60 5 rfl
theorem dX1_types_71 : decode cX1_types 71 = .ok (.lconst 0, 1) := zdec_at bX1_types_60 6 rfl
theorem dX1_types_72 : decode cX1_types 72 = .ok (.lconst 0, 1) := zdec_at bX1_types_60 7 rfl
theorem dX1_types_73 : decode cX1_types 73 = .ok (.bipush 22, 2) := zdec_at bX1_types_60 8 rfl
theorem dX1_types_75 : decode cX1_types 75 = .ok (.invokestatic 741, 3) := zdec_at bX1_types_60 9 rfl
theorem dX1_types_78 : decode cX1_types 78 = .ok (.invokevirtual 871, 3) := zdec_at bX1_types_60 10 rfl
theorem dX1_types_81 : decode cX1_types 81 = .ok (.pop, 1) := zdec_at bX1_types_60 11 rfl
theorem dX1_types_82 : decode cX1_types 82 = .ok (.aload_n 1, 1) := zdec_at bX1_types_60 12 rfl
theorem dX1_types_83 : decode cX1_types 83 = .ok (.sipush 384, 3) := zdec_at bX1_types_60 13 rfl
theorem dX1_types_86 : decode cX1_types 86 = .ok (.invokevirtual 831, 3) := zdec_at bX1_types_60 14 rfl
theorem dX1_types_89 : decode cX1_types 89 = .ok (.ifCond .eq 15, 3) := zdec_at bX1_types_60 15 rfl
theorem bX1_types_92 : zdec cX1_types 92 [(92, .aload_n 2, 1), (93, .lconst 0, 1), (94, .lconst 0, 1), (95, .bipush 23, 2), (97, .invokestatic 741, 3), (100, .invokevirtual 871, 3), (103, .pop, 1), (104, .invokestatic 996, 3), (107, .aload_n 0, 1), (108, .getfield 658, 3), (111, .lor, 1), (112, .lstore_n 3, 1), (113, .aload_n 1, 1), (114, .lload_n 3, 1), (115, .aload_n 0, 1), (116, .getfield 661, 3)] = true := by decide +kernel
theorem dX1_types_92 : decode cX1_types 92 = .ok (.aload_n 2, 1) := zdec_at bX1_types_92 0 rfl
theorem dX1_types_93 : decode cX1_types 93 = .ok (.lconst 0, 1) := zdec_at bX1_types_92 1 rfl
theorem dX1_types_94 : decode cX1_types 94 = .ok (.lconst 0, 1) := zdec_at bX1_types_92 2 rfl
theorem dX1_types_95 : decode cX1_types 95 = .ok (.bipush 23, 2) := zdec_at bX1_types_92 3 rfl
theorem dX1_types_97 : decode cX1_types 97 = .ok (.invokestatic 741, 3) := zdec_at bX1_types_92 4 rfl
theorem dX1_types_100 : decode cX1_types 100 = .ok (.invokevirtual 871, 3) := zdec_at bX1_types_92 5 rfl
theorem dX1_types_103 : decode cX1_types 103 = .ok (.pop, 1) := zdec_at bX1_types_92 6 rfl
theorem dX1_types_104 : decode cX1_types 104 = .ok (.invokestatic 996, 3) := zdec_at bX1_types_92 7 rfl
theorem dX1_types_107 : decode cX1_types 107 = .ok (.aload_n 0, 1) := zdec_at bX1_types_92 8 rfl
theorem dX1_types_108 : decode cX1_types 108 = .ok (.getfield 658, 3) := zdec_at bX1_types_92 9 rfl
theorem dX1_types_111 : decode cX1_types 111 = .ok (.lor, 1) := zdec_at bX1_types_92 10 rfl
theorem dX1_types_112 : decode cX1_types 112 = .ok (.lstore_n 3, 1) := zdec_at bX1_types_92 11 rfl
theorem dX1_types_113 : decode cX1_types 113 = .ok (.aload_n 1, 1) := zdec_at bX1_types_92 12 rfl
theorem dX1_types_114 : decode cX1_types 114 = .ok (.lload_n 3, 1) := zdec_at bX1_types_92 13 rfl
theorem dX1_types_115 : decode cX1_types 115 = .ok (.aload_n 0, 1) := zdec_at bX1_types_92 14 rfl
theorem dX1_types_116 : decode cX1_types 116 = .ok (.getfield 661, 3) := zdec_at bX1_types_92 15 rfl
theorem bX1_types_119 : zdec cX1_types 119 [(119, .invokevirtual 1000, 3), (122, .ifCond .eq 15, 3), (125, .aload_n 2, 1), (126, .lconst 0, 1), (127, .lconst 0, 1), (128, .bipush 24, 2), (130, .invokestatic 741, 3), (133, .invokevirtual 871, 3), (136, .pop, 1), (137, .aload_n 1, 1), (138, .getfield 916, 3), (141, .lload_n 3, 1), (142, .ldc2_w 848, 3), (145, .lxor, 1), (146, .land, 1), (147, .lconst 0, 1)] = true := by decide +kernel
theorem dX1_types_119 : decode cX1_types 119 = .ok (.invokevirtual 1000, 3) := zdec_at bX1_types_119 0 rfl
theorem dX1_types_122 : decode cX1_types 122 = .ok (.ifCond .eq 15, 3) := zdec_at bX1_types_119 1 rfl
theorem dX1_types_125 : decode cX1_types 125 = .ok (.aload_n 2, 1) := zdec_at bX1_types_119 2 rfl
theorem dX1_types_126 : decode cX1_types 126 = .ok (.lconst 0, 1) := zdec_at bX1_types_119 3 rfl
theorem dX1_types_127 : decode cX1_types 127 = .ok (.lconst 0, 1) := zdec_at bX1_types_119 4 rfl
theorem dX1_types_128 : decode cX1_types 128 = .ok (.bipush 24, 2) := zdec_at bX1_types_119 5 rfl
theorem dX1_types_130 : decode cX1_types 130 = .ok (.invokestatic 741, 3) := zdec_at bX1_types_119 6 rfl
theorem dX1_types_133 : decode cX1_types 133 = .ok (.invokevirtual 871, 3) := zdec_at bX1_types_119 7 rfl
theorem dX1_types_136 : decode cX1_types 136 = .ok (.pop, 1) := zdec_at bX1_types_119 8 rfl
theorem dX1_types_137 : decode cX1_types 137 = .ok (.aload_n 1, 1) := zdec_at bX1_types_119 9 rfl
theorem dX1_types_138 : decode cX1_types 138 = .ok (.getfield 916, 3) := zdec_at bX1_types_119 10 rfl
theorem dX1_types_141 : decode cX1_types 141 = .ok (.lload_n 3, 1) := zdec_at bX1_types_119 11 rfl
theorem dX1_types_142 : decode cX1_types 142 = .ok (.ldc2_w 848, 3) := zdec_at bX1_types_119 12 rfl
theorem dX1_types_145 : decode cX1_types 145 = .ok (.lxor, 1) := zdec_at bX1_types_119 13 rfl
theorem dX1_types_146 : decode cX1_types 146 = .ok (.land, 1) := zdec_at bX1_types_119 14 rfl
theorem dX1_types_147 : decode cX1_types 147 = .ok (.lconst 0, 1) := zdec_at bX1_types_119 15 rfl
theorem bX1_types_148 : zdec cX1_types 148 [(148, .lcmp, 1), (149, .ifCond .ne 21, 3), (152, .aload_n 1, 1), (153, .getfield 918, 3), (156, .aload_n 0, 1), (157, .getfield 661, 3), (160, .ldc2_w 848, 3), (163, .lxor, 1), (164, .land, 1), (165, .lconst 0, 1), (166, .lcmp, 1), (167, .ifCond .eq 15, 3), (170, .aload_n 2, 1), (171, .lconst 0, 1), (172, .lconst 0, 1), (173, .bipush 20, 2)] = true := by decide +kernel
theorem dX1_types_148 : decode cX1_types 148 = .ok (.lcmp, 1) := zdec_at bX1_types_148 0 rfl
theorem dX1_types_149 : decode cX1_types 149 = .ok (.ifCond .ne 21, 3) := zdec_at bX1_types_148 1 rfl
theorem dX1_types_152 : decode cX1_types 152 = .ok (.aload_n 1, 1) := zdec_at bX1_types_148 2 rfl
theorem dX1_types_153 : decode cX1_types 153 = .ok (.getfield 918, 3) := zdec_at bX1_types_148 3 rfl
theorem dX1_types_156 : decode cX1_types 156 = .ok (.aload_n 0, 1) := zdec_at bX1_types_148 4 rfl
theorem dX1_types_157 : decode cX1_types 157 = .ok (.getfield 661, 3) := zdec_at bX1_types_148 5 rfl
theorem dX1_types_160 : decode cX1_types 160 = .ok (.ldc2_w 848, 3) := zdec_at bX1_types_148 6 rfl
theorem dX1_types_163 : decode cX1_types 163 = .ok (.lxor, 1) := zdec_at bX1_types_148 7 rfl
theorem dX1_types_164 : decode cX1_types 164 = .ok (.land, 1) := zdec_at bX1_types_148 8 rfl
theorem dX1_types_165 : decode cX1_types 165 = .ok (.lconst 0, 1) := zdec_at bX1_types_148 9 rfl
theorem dX1_types_166 : decode cX1_types 166 = .ok (.lcmp, 1) := zdec_at bX1_types_148 10 rfl
theorem dX1_types_167 : decode cX1_types 167 = .ok (.ifCond .eq 15, 3) := zdec_at bX1_types_148 11 rfl
theorem dX1_types_170 : decode cX1_types 170 = .ok (.aload_n 2, 1) := zdec_at bX1_types_148 12 rfl
theorem dX1_types_171 : decode cX1_types 171 = .ok (.lconst 0, 1) := zdec_at bX1_types_148 13 rfl
theorem dX1_types_172 : decode cX1_types 172 = .ok (.lconst 0, 1) := zdec_at bX1_types_148 14 rfl
theorem dX1_types_173 : decode cX1_types 173 = .ok (.bipush 20, 2) := zdec_at bX1_types_148 15 rfl
theorem bX1_types_175 : zdec cX1_types 175 [(175, .invokestatic 741, 3), (178, .invokevirtual 871, 3), (181, .pop, 1), (182, .return_, 1)] = true := by decide +kernel
theorem dX1_types_175 : decode cX1_types 175 = .ok (.invokestatic 741, 3) := zdec_at bX1_types_175 0 rfl
theorem dX1_types_178 : decode cX1_types 178 = .ok (.invokevirtual 871, 3) := zdec_at bX1_types_175 1 rfl
theorem dX1_types_181 : decode cX1_types 181 = .ok (.pop, 1) := zdec_at bX1_types_175 2 rfl
theorem dX1_types_182 : decode cX1_types 182 = .ok (.return_, 1) := zdec_at bX1_types_175 3 rfl
theorem sX1_types_0 {E : zE} {d : Nat} {Q : zO → zM → Prop} (M : zM) (r1 : Option zP) (r2 : Option zP) (hw : cw M) (k : ∃ b1 : Nat, r1 = some (b1, 4, 0) ∧ (Z E YX6_has d M (zargs 0 [vr (some (b1, 4, 0)), vi (1 : Int32)]) 0 [] (zafter E YX1_types (d + 1) [(0, vr (some (16, 0, 0))), (1, vr (some (b1, 4, 0))), (2, vr r2)] 2 3 [] Q))) : Z E YX1_types (d + 1) M [(0, vr (some (16, 0, 0))), (1, vr r1), (2, vr r2)] 0 [] Q := by
  refine z_aload_n dX1_types_0 rfl rfl ?_
  refine z_iconst (v := 1) dX1_types_1 rfl ?_
  obtain ⟨b1, e1_, k⟩ := k
  refine Z.eqs (lv' := [(0, vr (some (16, 0, 0))), (1, vr (some (b1, 4, 0))), (2, vr r2)]) (st' := [vi (1 : Int32), vr (some (b1, 4, 0))]) (by rw [e1_] <;> rfl) (by rw [e1_] <;> rfl) ?_
  exact z_callV (as := [vi (1 : Int32)]) (st := []) dX1_types_2 vsX1_831_4 (Nat.le_refl _) (Nat.le_of_ble_eq_true rfl) (Nat.le_of_ble_eq_true rfl) rfl k
theorem sX1_types_5 {E : zE} {d : Nat} {Q : zO → zM → Prop} (M : zM) (a1 : Nat) (r2 : Option zP) (s0 : Int32) (hw : cw M) (k : if s0 = 0 then (Z E YX6_has d M (zargs 0 [vr (some (a1, 4, 0)), vi (2 : Int32)]) 0 [] (zafter E YX1_types (d + 1) [(0, vr (some (16, 0, 0))), (1, vr (some (a1, 4, 0))), (2, vr r2)] 22 3 [] Q)) else (Z E YX1_textSet d M (zargs 0 [vi (19 : Int32)]) 0 [] (zafter E YX1_types (d + 1) [(0, vr (some (16, 0, 0))), (1, vr (some (a1, 4, 0))), (2, vr r2)] 13 3 [vl (0 : Int64), vl (0 : Int64), vr r2] Q))) : Z E YX1_types (d + 1) M [(0, vr (some (16, 0, 0))), (1, vr (some (a1, 4, 0))), (2, vr r2)] 5 [vi s0] Q := by
  refine z_if_eq (tgt := 20) dX1_types_5 rfl (fun h_ => ?_) (fun h_ => ?_)
  · have k := zit h_ k
    refine z_aload_n dX1_types_20 rfl rfl ?_
    refine z_iconst (v := 2) dX1_types_21 rfl ?_
    exact z_callV (as := [vi (2 : Int32)]) (st := []) dX1_types_22 vsX1_831_4 (Nat.le_refl _) (Nat.le_of_ble_eq_true rfl) (Nat.le_of_ble_eq_true rfl) rfl k
  · have k := zif h_ k
    refine z_aload_n dX1_types_8 rfl rfl ?_
    refine z_lconst (v := 0) dX1_types_9 rfl ?_
    refine z_lconst (v := 0) dX1_types_10 rfl ?_
    refine z_bipush (v := 19) dX1_types_11 rfl ?_
    exact z_callS (as := [vi (19 : Int32)]) (st := [vl (0 : Int64), vl (0 : Int64), vr r2]) dX1_types_13 ssX1_741 (Nat.le_refl _) (Nat.le_of_ble_eq_true rfl) (Nat.le_of_ble_eq_true rfl) rfl k
theorem sX1_types_16 {E : zE} {d : Nat} {Q : zO → zM → Prop} (M : zM) (a1 : Nat) (r2 : Option zP) (s0 : Int64) (s1 : Int64) (s2 : Int64) (u3 : Option zP) (hw : cw M) (k : ∃ b1 : Nat, u3 = some (b1, 4, 0) ∧ (Z E YX6_join3 d M (zargs 0 [vr (some (b1, 4, 0)), vl s2, vl s1, vl s0]) 0 [] (zafter E YX1_types (d + 1) [(0, vr (some (16, 0, 0))), (1, vr (some (a1, 4, 0))), (2, vr r2)] 16 3 [] Q))) : Z E YX1_types (d + 1) M [(0, vr (some (16, 0, 0))), (1, vr (some (a1, 4, 0))), (2, vr r2)] 16 [vl s0, vl s1, vl s2, vr u3] Q := by
  obtain ⟨b1, e1_, k⟩ := k
  refine Z.eqs (lv' := [(0, vr (some (16, 0, 0))), (1, vr (some (a1, 4, 0))), (2, vr r2)]) (st' := [vl s0, vl s1, vl s2, vr (some (b1, 4, 0))]) rfl (by rw [e1_] <;> rfl) ?_
  exact z_callV (as := [vl s2, vl s1, vl s0]) (st := []) dX1_types_16 vsX1_871_4 (Nat.le_refl _) (Nat.le_of_ble_eq_true rfl) (Nat.le_of_ble_eq_true rfl) rfl k
theorem sX1_types_19 {E : zE} {d : Nat} {Q : zO → zM → Prop} (M : zM) (a1 : Nat) (r2 : Option zP) (u0 : Option zP) (hw : cw M) (k : Z E YX6_has d M (zargs 0 [vr (some (a1, 4, 0)), vi (2 : Int32)]) 0 [] (zafter E YX1_types (d + 1) [(0, vr (some (16, 0, 0))), (1, vr (some (a1, 4, 0))), (2, vr r2)] 22 3 [] Q)) : Z E YX1_types (d + 1) M [(0, vr (some (16, 0, 0))), (1, vr (some (a1, 4, 0))), (2, vr r2)] 19 [vr u0] Q := by
  refine z_pop dX1_types_19 rfl ?_
  refine z_aload_n dX1_types_20 rfl rfl ?_
  refine z_iconst (v := 2) dX1_types_21 rfl ?_
  exact z_callV (as := [vi (2 : Int32)]) (st := []) dX1_types_22 vsX1_831_4 (Nat.le_refl _) (Nat.le_of_ble_eq_true rfl) (Nat.le_of_ble_eq_true rfl) rfl k
theorem sX1_types_25 {E : zE} {d : Nat} {Q : zO → zM → Prop} (M : zM) (a1 : Nat) (r2 : Option zP) (s0 : Int32) (hw : cw M) (k : if s0 = 0 then (Z E YX6_has d M (zargs 0 [vr (some (a1, 4, 0)), vi (12 : Int32)]) 0 [] (zafter E YX1_types (d + 1) [(0, vr (some (16, 0, 0))), (1, vr (some (a1, 4, 0))), (2, vr r2)] 43 3 [] Q)) else (Z E YX1_textSet d M (zargs 0 [vi (20 : Int32)]) 0 [] (zafter E YX1_types (d + 1) [(0, vr (some (16, 0, 0))), (1, vr (some (a1, 4, 0))), (2, vr r2)] 33 3 [vl (0 : Int64), vl (0 : Int64), vr r2] Q))) : Z E YX1_types (d + 1) M [(0, vr (some (16, 0, 0))), (1, vr (some (a1, 4, 0))), (2, vr r2)] 25 [vi s0] Q := by
  refine z_if_eq (tgt := 40) dX1_types_25 rfl (fun h_ => ?_) (fun h_ => ?_)
  · have k := zit h_ k
    refine z_aload_n dX1_types_40 rfl rfl ?_
    refine z_bipush (v := 12) dX1_types_41 rfl ?_
    exact z_callV (as := [vi (12 : Int32)]) (st := []) dX1_types_43 vsX1_831_4 (Nat.le_refl _) (Nat.le_of_ble_eq_true rfl) (Nat.le_of_ble_eq_true rfl) rfl k
  · have k := zif h_ k
    refine z_aload_n dX1_types_28 rfl rfl ?_
    refine z_lconst (v := 0) dX1_types_29 rfl ?_
    refine z_lconst (v := 0) dX1_types_30 rfl ?_
    refine z_bipush (v := 20) dX1_types_31 rfl ?_
    exact z_callS (as := [vi (20 : Int32)]) (st := [vl (0 : Int64), vl (0 : Int64), vr r2]) dX1_types_33 ssX1_741 (Nat.le_refl _) (Nat.le_of_ble_eq_true rfl) (Nat.le_of_ble_eq_true rfl) rfl k
theorem sX1_types_36 {E : zE} {d : Nat} {Q : zO → zM → Prop} (M : zM) (a1 : Nat) (r2 : Option zP) (s0 : Int64) (s1 : Int64) (s2 : Int64) (u3 : Option zP) (hw : cw M) (k : ∃ b1 : Nat, u3 = some (b1, 4, 0) ∧ (Z E YX6_join3 d M (zargs 0 [vr (some (b1, 4, 0)), vl s2, vl s1, vl s0]) 0 [] (zafter E YX1_types (d + 1) [(0, vr (some (16, 0, 0))), (1, vr (some (a1, 4, 0))), (2, vr r2)] 36 3 [] Q))) : Z E YX1_types (d + 1) M [(0, vr (some (16, 0, 0))), (1, vr (some (a1, 4, 0))), (2, vr r2)] 36 [vl s0, vl s1, vl s2, vr u3] Q := by
  obtain ⟨b1, e1_, k⟩ := k
  refine Z.eqs (lv' := [(0, vr (some (16, 0, 0))), (1, vr (some (a1, 4, 0))), (2, vr r2)]) (st' := [vl s0, vl s1, vl s2, vr (some (b1, 4, 0))]) rfl (by rw [e1_] <;> rfl) ?_
  exact z_callV (as := [vl s2, vl s1, vl s0]) (st := []) dX1_types_36 vsX1_871_4 (Nat.le_refl _) (Nat.le_of_ble_eq_true rfl) (Nat.le_of_ble_eq_true rfl) rfl k
theorem sX1_types_39 {E : zE} {d : Nat} {Q : zO → zM → Prop} (M : zM) (a1 : Nat) (r2 : Option zP) (u0 : Option zP) (hw : cw M) (k : Z E YX6_has d M (zargs 0 [vr (some (a1, 4, 0)), vi (12 : Int32)]) 0 [] (zafter E YX1_types (d + 1) [(0, vr (some (16, 0, 0))), (1, vr (some (a1, 4, 0))), (2, vr r2)] 43 3 [] Q)) : Z E YX1_types (d + 1) M [(0, vr (some (16, 0, 0))), (1, vr (some (a1, 4, 0))), (2, vr r2)] 39 [vr u0] Q := by
  refine z_pop dX1_types_39 rfl ?_
  refine z_aload_n dX1_types_40 rfl rfl ?_
  refine z_bipush (v := 12) dX1_types_41 rfl ?_
  exact z_callV (as := [vi (12 : Int32)]) (st := []) dX1_types_43 vsX1_831_4 (Nat.le_refl _) (Nat.le_of_ble_eq_true rfl) (Nat.le_of_ble_eq_true rfl) rfl k
theorem sX1_types_46 {E : zE} {d : Nat} {Q : zO → zM → Prop} (M : zM) (a1 : Nat) (r2 : Option zP) (s0 : Int32) (hw : cw M) (k : if s0 = 0 then (Z E YX6_has d M (zargs 0 [vr (some (a1, 4, 0)), vi (112 : Int32)]) 0 [] (zafter E YX1_types (d + 1) [(0, vr (some (16, 0, 0))), (1, vr (some (a1, 4, 0))), (2, vr r2)] 64 3 [] Q)) else (Z E YX1_textSet d M (zargs 0 [vi (21 : Int32)]) 0 [] (zafter E YX1_types (d + 1) [(0, vr (some (16, 0, 0))), (1, vr (some (a1, 4, 0))), (2, vr r2)] 54 3 [vl (0 : Int64), vl (0 : Int64), vr r2] Q))) : Z E YX1_types (d + 1) M [(0, vr (some (16, 0, 0))), (1, vr (some (a1, 4, 0))), (2, vr r2)] 46 [vi s0] Q := by
  refine z_if_eq (tgt := 61) dX1_types_46 rfl (fun h_ => ?_) (fun h_ => ?_)
  · have k := zit h_ k
    refine z_aload_n dX1_types_61 rfl rfl ?_
    refine z_bipush (v := 112) dX1_types_62 rfl ?_
    exact z_callV (as := [vi (112 : Int32)]) (st := []) dX1_types_64 vsX1_831_4 (Nat.le_refl _) (Nat.le_of_ble_eq_true rfl) (Nat.le_of_ble_eq_true rfl) rfl k
  · have k := zif h_ k
    refine z_aload_n dX1_types_49 rfl rfl ?_
    refine z_lconst (v := 0) dX1_types_50 rfl ?_
    refine z_lconst (v := 0) dX1_types_51 rfl ?_
    refine z_bipush (v := 21) dX1_types_52 rfl ?_
    exact z_callS (as := [vi (21 : Int32)]) (st := [vl (0 : Int64), vl (0 : Int64), vr r2]) dX1_types_54 ssX1_741 (Nat.le_refl _) (Nat.le_of_ble_eq_true rfl) (Nat.le_of_ble_eq_true rfl) rfl k
theorem sX1_types_57 {E : zE} {d : Nat} {Q : zO → zM → Prop} (M : zM) (a1 : Nat) (r2 : Option zP) (s0 : Int64) (s1 : Int64) (s2 : Int64) (u3 : Option zP) (hw : cw M) (k : ∃ b1 : Nat, u3 = some (b1, 4, 0) ∧ (Z E YX6_join3 d M (zargs 0 [vr (some (b1, 4, 0)), vl s2, vl s1, vl s0]) 0 [] (zafter E YX1_types (d + 1) [(0, vr (some (16, 0, 0))), (1, vr (some (a1, 4, 0))), (2, vr r2)] 57 3 [] Q))) : Z E YX1_types (d + 1) M [(0, vr (some (16, 0, 0))), (1, vr (some (a1, 4, 0))), (2, vr r2)] 57 [vl s0, vl s1, vl s2, vr u3] Q := by
  obtain ⟨b1, e1_, k⟩ := k
  refine Z.eqs (lv' := [(0, vr (some (16, 0, 0))), (1, vr (some (a1, 4, 0))), (2, vr r2)]) (st' := [vl s0, vl s1, vl s2, vr (some (b1, 4, 0))]) rfl (by rw [e1_] <;> rfl) ?_
  exact z_callV (as := [vl s2, vl s1, vl s0]) (st := []) dX1_types_57 vsX1_871_4 (Nat.le_refl _) (Nat.le_of_ble_eq_true rfl) (Nat.le_of_ble_eq_true rfl) rfl k
theorem sX1_types_60 {E : zE} {d : Nat} {Q : zO → zM → Prop} (M : zM) (a1 : Nat) (r2 : Option zP) (u0 : Option zP) (hw : cw M) (k : Z E YX6_has d M (zargs 0 [vr (some (a1, 4, 0)), vi (112 : Int32)]) 0 [] (zafter E YX1_types (d + 1) [(0, vr (some (16, 0, 0))), (1, vr (some (a1, 4, 0))), (2, vr r2)] 64 3 [] Q)) : Z E YX1_types (d + 1) M [(0, vr (some (16, 0, 0))), (1, vr (some (a1, 4, 0))), (2, vr r2)] 60 [vr u0] Q := by
  refine z_pop dX1_types_60 rfl ?_
  refine z_aload_n dX1_types_61 rfl rfl ?_
  refine z_bipush (v := 112) dX1_types_62 rfl ?_
  exact z_callV (as := [vi (112 : Int32)]) (st := []) dX1_types_64 vsX1_831_4 (Nat.le_refl _) (Nat.le_of_ble_eq_true rfl) (Nat.le_of_ble_eq_true rfl) rfl k
theorem sX1_types_67 {E : zE} {d : Nat} {Q : zO → zM → Prop} (M : zM) (a1 : Nat) (r2 : Option zP) (s0 : Int32) (hw : cw M) (k : if s0 = 0 then (Z E YX6_has d M (zargs 0 [vr (some (a1, 4, 0)), vi (384 : Int32)]) 0 [] (zafter E YX1_types (d + 1) [(0, vr (some (16, 0, 0))), (1, vr (some (a1, 4, 0))), (2, vr r2)] 86 3 [] Q)) else (Z E YX1_textSet d M (zargs 0 [vi (22 : Int32)]) 0 [] (zafter E YX1_types (d + 1) [(0, vr (some (16, 0, 0))), (1, vr (some (a1, 4, 0))), (2, vr r2)] 75 3 [vl (0 : Int64), vl (0 : Int64), vr r2] Q))) : Z E YX1_types (d + 1) M [(0, vr (some (16, 0, 0))), (1, vr (some (a1, 4, 0))), (2, vr r2)] 67 [vi s0] Q := by
  refine z_if_eq (tgt := 82) dX1_types_67 rfl (fun h_ => ?_) (fun h_ => ?_)
  · have k := zit h_ k
    refine z_aload_n dX1_types_82 rfl rfl ?_
    refine z_sipush (v := 384) dX1_types_83 rfl ?_
    exact z_callV (as := [vi (384 : Int32)]) (st := []) dX1_types_86 vsX1_831_4 (Nat.le_refl _) (Nat.le_of_ble_eq_true rfl) (Nat.le_of_ble_eq_true rfl) rfl k
  · have k := zif h_ k
    refine z_aload_n dX1_types_70 rfl rfl ?_
    refine z_lconst (v := 0) dX1_types_71 rfl ?_
    refine z_lconst (v := 0) dX1_types_72 rfl ?_
    refine z_bipush (v := 22) dX1_types_73 rfl ?_
    exact z_callS (as := [vi (22 : Int32)]) (st := [vl (0 : Int64), vl (0 : Int64), vr r2]) dX1_types_75 ssX1_741 (Nat.le_refl _) (Nat.le_of_ble_eq_true rfl) (Nat.le_of_ble_eq_true rfl) rfl k
theorem sX1_types_78 {E : zE} {d : Nat} {Q : zO → zM → Prop} (M : zM) (a1 : Nat) (r2 : Option zP) (s0 : Int64) (s1 : Int64) (s2 : Int64) (u3 : Option zP) (hw : cw M) (k : ∃ b1 : Nat, u3 = some (b1, 4, 0) ∧ (Z E YX6_join3 d M (zargs 0 [vr (some (b1, 4, 0)), vl s2, vl s1, vl s0]) 0 [] (zafter E YX1_types (d + 1) [(0, vr (some (16, 0, 0))), (1, vr (some (a1, 4, 0))), (2, vr r2)] 78 3 [] Q))) : Z E YX1_types (d + 1) M [(0, vr (some (16, 0, 0))), (1, vr (some (a1, 4, 0))), (2, vr r2)] 78 [vl s0, vl s1, vl s2, vr u3] Q := by
  obtain ⟨b1, e1_, k⟩ := k
  refine Z.eqs (lv' := [(0, vr (some (16, 0, 0))), (1, vr (some (a1, 4, 0))), (2, vr r2)]) (st' := [vl s0, vl s1, vl s2, vr (some (b1, 4, 0))]) rfl (by rw [e1_] <;> rfl) ?_
  exact z_callV (as := [vl s2, vl s1, vl s0]) (st := []) dX1_types_78 vsX1_871_4 (Nat.le_refl _) (Nat.le_of_ble_eq_true rfl) (Nat.le_of_ble_eq_true rfl) rfl k
theorem sX1_types_81 {E : zE} {d : Nat} {Q : zO → zM → Prop} (M : zM) (a1 : Nat) (r2 : Option zP) (u0 : Option zP) (hw : cw M) (k : Z E YX6_has d M (zargs 0 [vr (some (a1, 4, 0)), vi (384 : Int32)]) 0 [] (zafter E YX1_types (d + 1) [(0, vr (some (16, 0, 0))), (1, vr (some (a1, 4, 0))), (2, vr r2)] 86 3 [] Q)) : Z E YX1_types (d + 1) M [(0, vr (some (16, 0, 0))), (1, vr (some (a1, 4, 0))), (2, vr r2)] 81 [vr u0] Q := by
  refine z_pop dX1_types_81 rfl ?_
  refine z_aload_n dX1_types_82 rfl rfl ?_
  refine z_sipush (v := 384) dX1_types_83 rfl ?_
  exact z_callV (as := [vi (384 : Int32)]) (st := []) dX1_types_86 vsX1_831_4 (Nat.le_refl _) (Nat.le_of_ble_eq_true rfl) (Nat.le_of_ble_eq_true rfl) rfl k
theorem sX1_types_89 {E : zE} {d : Nat} {Q : zO → zM → Prop} (M : zM) (a1 : Nat) (r2 : Option zP) (s0 : Int32) (hw : cw M) (k : if s0 = 0 then (Z E YX1_natives d M (zargs 0 []) 0 [] (zafter E YX1_types (d + 1) [(0, vr (some (16, 0, 0))), (1, vr (some (a1, 4, 0))), (2, vr r2)] 104 3 [] Q)) else (Z E YX1_textSet d M (zargs 0 [vi (23 : Int32)]) 0 [] (zafter E YX1_types (d + 1) [(0, vr (some (16, 0, 0))), (1, vr (some (a1, 4, 0))), (2, vr r2)] 97 3 [vl (0 : Int64), vl (0 : Int64), vr r2] Q))) : Z E YX1_types (d + 1) M [(0, vr (some (16, 0, 0))), (1, vr (some (a1, 4, 0))), (2, vr r2)] 89 [vi s0] Q := by
  refine z_if_eq (tgt := 104) dX1_types_89 rfl (fun h_ => ?_) (fun h_ => ?_)
  · have k := zit h_ k
    exact z_callS (as := []) (st := []) dX1_types_104 ssX1_996 (Nat.le_refl _) (Nat.le_of_ble_eq_true rfl) (Nat.le_of_ble_eq_true rfl) rfl k
  · have k := zif h_ k
    refine z_aload_n dX1_types_92 rfl rfl ?_
    refine z_lconst (v := 0) dX1_types_93 rfl ?_
    refine z_lconst (v := 0) dX1_types_94 rfl ?_
    refine z_bipush (v := 23) dX1_types_95 rfl ?_
    exact z_callS (as := [vi (23 : Int32)]) (st := [vl (0 : Int64), vl (0 : Int64), vr r2]) dX1_types_97 ssX1_741 (Nat.le_refl _) (Nat.le_of_ble_eq_true rfl) (Nat.le_of_ble_eq_true rfl) rfl k
theorem sX1_types_100 {E : zE} {d : Nat} {Q : zO → zM → Prop} (M : zM) (a1 : Nat) (r2 : Option zP) (s0 : Int64) (s1 : Int64) (s2 : Int64) (u3 : Option zP) (hw : cw M) (k : ∃ b1 : Nat, u3 = some (b1, 4, 0) ∧ (Z E YX6_join3 d M (zargs 0 [vr (some (b1, 4, 0)), vl s2, vl s1, vl s0]) 0 [] (zafter E YX1_types (d + 1) [(0, vr (some (16, 0, 0))), (1, vr (some (a1, 4, 0))), (2, vr r2)] 100 3 [] Q))) : Z E YX1_types (d + 1) M [(0, vr (some (16, 0, 0))), (1, vr (some (a1, 4, 0))), (2, vr r2)] 100 [vl s0, vl s1, vl s2, vr u3] Q := by
  obtain ⟨b1, e1_, k⟩ := k
  refine Z.eqs (lv' := [(0, vr (some (16, 0, 0))), (1, vr (some (a1, 4, 0))), (2, vr r2)]) (st' := [vl s0, vl s1, vl s2, vr (some (b1, 4, 0))]) rfl (by rw [e1_] <;> rfl) ?_
  exact z_callV (as := [vl s2, vl s1, vl s0]) (st := []) dX1_types_100 vsX1_871_4 (Nat.le_refl _) (Nat.le_of_ble_eq_true rfl) (Nat.le_of_ble_eq_true rfl) rfl k
theorem sX1_types_103 {E : zE} {d : Nat} {Q : zO → zM → Prop} (M : zM) (a1 : Nat) (r2 : Option zP) (u0 : Option zP) (hw : cw M) (k : Z E YX1_natives d M (zargs 0 []) 0 [] (zafter E YX1_types (d + 1) [(0, vr (some (16, 0, 0))), (1, vr (some (a1, 4, 0))), (2, vr r2)] 104 3 [] Q)) : Z E YX1_types (d + 1) M [(0, vr (some (16, 0, 0))), (1, vr (some (a1, 4, 0))), (2, vr r2)] 103 [vr u0] Q := by
  refine z_pop dX1_types_103 rfl ?_
  exact z_callS (as := []) (st := []) dX1_types_104 ssX1_996 (Nat.le_refl _) (Nat.le_of_ble_eq_true rfl) (Nat.le_of_ble_eq_true rfl) rfl k
theorem sX1_types_107 {E : zE} {d : Nat} {Q : zO → zM → Prop} (M : zM) (a1 : Nat) (r2 : Option zP) (s0 : Int64) (hw : cw M) (k : Z E YX6_meets d M (zargs 0 [vr (some (a1, 4, 0)), vl (s0 ||| (gl M 16 73)), vl (gl M 16 74)]) 0 [] (zafter E YX1_types (d + 1) [(0, vr (some (16, 0, 0))), (1, vr (some (a1, 4, 0))), (2, vr r2), (3, vl (s0 ||| (gl M 16 73)))] 119 3 [] Q)) : Z E YX1_types (d + 1) M [(0, vr (some (16, 0, 0))), (1, vr (some (a1, 4, 0))), (2, vr r2)] 107 [vl s0] Q := by
  refine z_aload_n dX1_types_107 rfl rfl ?_
  refine z_getl dX1_types_108 fsX1_658_0 ?_
  refine z_lor dX1_types_111 ?_
  refine z_lst_n dX1_types_112 rfl (by decide) (lv' := [(0, vr (some (16, 0, 0))), (1, vr (some (a1, 4, 0))), (2, vr r2), (3, vl (s0 ||| (gl M 16 73)))]) rfl ?_
  refine z_aload_n dX1_types_113 rfl rfl ?_
  refine z_lload_n dX1_types_114 rfl rfl ?_
  refine z_aload_n dX1_types_115 rfl rfl ?_
  refine z_getl dX1_types_116 fsX1_661_0 ?_
  exact z_callV (as := [vl (s0 ||| (gl M 16 73)), vl (gl M 16 74)]) (st := []) dX1_types_119 vsX1_1000_4 (Nat.le_refl _) (Nat.le_of_ble_eq_true rfl) (Nat.le_of_ble_eq_true rfl) rfl k
theorem sX1_types_122 {E : zE} {d : Nat} {Q : zO → zM → Prop} (M : zM) (a1 : Nat) (r2 : Option zP) (l3 : Int64) (s0 : Int32) (hw : cw M) (k : if s0 = 0 then (Z E YX1_types (d + 1) M [(0, vr (some (16, 0, 0))), (1, vr (some (a1, 4, 0))), (2, vr r2), (3, vl l3)] 137 [] Q) else (Z E YX1_textSet d M (zargs 0 [vi (24 : Int32)]) 0 [] (zafter E YX1_types (d + 1) [(0, vr (some (16, 0, 0))), (1, vr (some (a1, 4, 0))), (2, vr r2), (3, vl l3)] 130 3 [vl (0 : Int64), vl (0 : Int64), vr r2] Q))) : Z E YX1_types (d + 1) M [(0, vr (some (16, 0, 0))), (1, vr (some (a1, 4, 0))), (2, vr r2), (3, vl l3)] 122 [vi s0] Q := by
  refine z_if_eq (tgt := 137) dX1_types_122 rfl (fun h_ => ?_) (fun h_ => ?_)
  · have k := zit h_ k
    exact k
  · have k := zif h_ k
    refine z_aload_n dX1_types_125 rfl rfl ?_
    refine z_lconst (v := 0) dX1_types_126 rfl ?_
    refine z_lconst (v := 0) dX1_types_127 rfl ?_
    refine z_bipush (v := 24) dX1_types_128 rfl ?_
    exact z_callS (as := [vi (24 : Int32)]) (st := [vl (0 : Int64), vl (0 : Int64), vr r2]) dX1_types_130 ssX1_741 (Nat.le_refl _) (Nat.le_of_ble_eq_true rfl) (Nat.le_of_ble_eq_true rfl) rfl k
theorem sX1_types_133 {E : zE} {d : Nat} {Q : zO → zM → Prop} (M : zM) (a1 : Nat) (r2 : Option zP) (l3 : Int64) (s0 : Int64) (s1 : Int64) (s2 : Int64) (u3 : Option zP) (hw : cw M) (k : ∃ b1 : Nat, u3 = some (b1, 4, 0) ∧ (Z E YX6_join3 d M (zargs 0 [vr (some (b1, 4, 0)), vl s2, vl s1, vl s0]) 0 [] (zafter E YX1_types (d + 1) [(0, vr (some (16, 0, 0))), (1, vr (some (a1, 4, 0))), (2, vr r2), (3, vl l3)] 133 3 [] Q))) : Z E YX1_types (d + 1) M [(0, vr (some (16, 0, 0))), (1, vr (some (a1, 4, 0))), (2, vr r2), (3, vl l3)] 133 [vl s0, vl s1, vl s2, vr u3] Q := by
  obtain ⟨b1, e1_, k⟩ := k
  refine Z.eqs (lv' := [(0, vr (some (16, 0, 0))), (1, vr (some (a1, 4, 0))), (2, vr r2), (3, vl l3)]) (st' := [vl s0, vl s1, vl s2, vr (some (b1, 4, 0))]) rfl (by rw [e1_] <;> rfl) ?_
  exact z_callV (as := [vl s2, vl s1, vl s0]) (st := []) dX1_types_133 vsX1_871_4 (Nat.le_refl _) (Nat.le_of_ble_eq_true rfl) (Nat.le_of_ble_eq_true rfl) rfl k
theorem sX1_types_136 {E : zE} {d : Nat} {Q : zO → zM → Prop} (M : zM) (a1 : Nat) (r2 : Option zP) (l3 : Int64) (u0 : Option zP) (hw : cw M) (k : Z E YX1_types (d + 1) M [(0, vr (some (16, 0, 0))), (1, vr (some (a1, 4, 0))), (2, vr r2), (3, vl l3)] 137 [] Q) : Z E YX1_types (d + 1) M [(0, vr (some (16, 0, 0))), (1, vr (some (a1, 4, 0))), (2, vr r2), (3, vl l3)] 136 [vr u0] Q := by
  refine z_pop dX1_types_136 rfl ?_
  exact k
theorem sX1_types_137 {E : zE} {d : Nat} {Q : zO → zM → Prop} (M : zM) (a1 : Nat) (r2 : Option zP) (l3 : Int64) (hw : cw M) (k : if (lg_cmp ((gl M a1 0) &&& (l3 ^^^ (-1 : Int64))) (0 : Int64)) = 0 then (if (lg_cmp ((gl M a1 1) &&& ((gl M 16 74) ^^^ (-1 : Int64))) (0 : Int64)) = 0 then (Q (.inl none) M) else (Z E YX1_textSet d M (zargs 0 [vi (20 : Int32)]) 0 [] (zafter E YX1_types (d + 1) [] 175 3 [vl (0 : Int64), vl (0 : Int64), vr r2] Q))) else (Z E YX1_textSet d M (zargs 0 [vi (20 : Int32)]) 0 [] (zafter E YX1_types (d + 1) [] 175 3 [vl (0 : Int64), vl (0 : Int64), vr r2] Q))) : Z E YX1_types (d + 1) M [(0, vr (some (16, 0, 0))), (1, vr (some (a1, 4, 0))), (2, vr r2), (3, vl l3)] 137 [] Q := by
  refine z_aload_n dX1_types_137 rfl rfl ?_
  refine z_getl dX1_types_138 fsX1_916_4 ?_
  refine z_lload_n dX1_types_141 rfl rfl ?_
  refine z_ldc2 (v := -1) dX1_types_142 q3261 ?_
  refine z_lxor dX1_types_145 ?_
  refine z_land dX1_types_146 ?_
  refine z_lconst (v := 0) dX1_types_147 rfl ?_
  refine z_lcmp dX1_types_148 ?_
  refine z_if_ne (tgt := 170) dX1_types_149 rfl (fun h_ => ?_) (fun h_ => ?_)
  · have k := zif h_ k
    refine z_aload_n dX1_types_170 rfl rfl ?_
    refine z_lconst (v := 0) dX1_types_171 rfl ?_
    refine z_lconst (v := 0) dX1_types_172 rfl ?_
    refine z_bipush (v := 20) dX1_types_173 rfl ?_
    refine Z.pick [] rfl ?_
    exact z_callS (as := [vi (20 : Int32)]) (st := [vl (0 : Int64), vl (0 : Int64), vr r2]) dX1_types_175 ssX1_741 (Nat.le_refl _) (Nat.le_of_ble_eq_true rfl) (Nat.le_of_ble_eq_true rfl) rfl k
  · have k := zit h_ k
    refine z_aload_n dX1_types_152 rfl rfl ?_
    refine z_getl dX1_types_153 fsX1_918_4 ?_
    refine z_aload_n dX1_types_156 rfl rfl ?_
    refine z_getl dX1_types_157 fsX1_661_0 ?_
    refine z_ldc2 (v := -1) dX1_types_160 q3261 ?_
    refine z_lxor dX1_types_163 ?_
    refine z_land dX1_types_164 ?_
    refine z_lconst (v := 0) dX1_types_165 rfl ?_
    refine z_lcmp dX1_types_166 ?_
    refine z_if_eq (tgt := 182) dX1_types_167 rfl (fun h_ => ?_) (fun h_ => ?_)
    · have k := zit h_ k
      exact z_vret dX1_types_182 rfl k
    · have k := zif h_ k
      refine z_aload_n dX1_types_170 rfl rfl ?_
      refine z_lconst (v := 0) dX1_types_171 rfl ?_
      refine z_lconst (v := 0) dX1_types_172 rfl ?_
      refine z_bipush (v := 20) dX1_types_173 rfl ?_
      refine Z.pick [] rfl ?_
      exact z_callS (as := [vi (20 : Int32)]) (st := [vl (0 : Int64), vl (0 : Int64), vr r2]) dX1_types_175 ssX1_741 (Nat.le_refl _) (Nat.le_of_ble_eq_true rfl) (Nat.le_of_ble_eq_true rfl) rfl k
theorem sX1_types_178 {E : zE} {d : Nat} {Q : zO → zM → Prop} (M : zM) (s0 : Int64) (s1 : Int64) (s2 : Int64) (u3 : Option zP) (hw : cw M) (k : ∃ b1 : Nat, u3 = some (b1, 4, 0) ∧ (Z E YX6_join3 d M (zargs 0 [vr (some (b1, 4, 0)), vl s2, vl s1, vl s0]) 0 [] (zafter E YX1_types (d + 1) [] 178 3 [] Q))) : Z E YX1_types (d + 1) M [] 178 [vl s0, vl s1, vl s2, vr u3] Q := by
  obtain ⟨b1, e1_, k⟩ := k
  refine Z.eqs (lv' := []) (st' := [vl s0, vl s1, vl s2, vr (some (b1, 4, 0))]) rfl (by rw [e1_] <;> rfl) ?_
  exact z_callV (as := [vl s2, vl s1, vl s0]) (st := []) dX1_types_178 vsX1_871_4 (Nat.le_refl _) (Nat.le_of_ble_eq_true rfl) (Nat.le_of_ble_eq_true rfl) rfl k
theorem sX1_types_181 {E : zE} {d : Nat} {Q : zO → zM → Prop} (M : zM) (u0 : Option zP) (hw : cw M) (k : Q (.inl none) M) : Z E YX1_types (d + 1) M [] 181 [vr u0] Q := by
  refine z_pop dX1_types_181 rfl ?_
  exact z_vret dX1_types_182 rfl k
/-! ScriptTypes.natives()J -/
theorem bX1_natives_0 : zdec cX1_natives 0 [(0, .ldc2_w 1004, 3), (3, .lreturn, 1)] = true := by decide +kernel
theorem dX1_natives_0 : decode cX1_natives 0 = .ok (.ldc2_w 1004, 3) := zdec_at bX1_natives_0 0 rfl
theorem dX1_natives_3 : decode cX1_natives 3 = .ok (.lreturn, 1) := zdec_at bX1_natives_0 1 rfl
theorem sX1_natives_0 {E : zE} {d : Nat} {Q : zO → zM → Prop} (M : zM)  (hw : cw M) (k : Q (.inl (some (vl (8388096 : Int64)))) M) : Z E YX1_natives d M [] 0 [] Q := by
  refine z_ldc2 (v := 8388096) dX1_natives_0 q3256 ?_
  exact z_lret dX1_natives_3 rfl k
/-! ScriptTypes.errs(LScriptTypes$Work;I)V -/
theorem bX1_errs_0 : zdec cX1_errs 0 [(0, .iload_n 2, 1), (1, .iconst 2, 1), (2, .if_icmp .ge 19, 3), (5, .aload_n 0, 1), (6, .getfield 200, 3), (9, .aload_n 0, 1), (10, .getfield 713, 3), (13, .dup2, 1), (14, .baload, 1), (15, .iconst 1, 1), (16, .iload_n 2, 1), (17, .ishl, 1), (18, .ior, 1), (19, .i2b, 1), (20, .bastore, 1), (21, .bipush 26, 2)] = true := by decide +kernel
theorem dX1_errs_0 : decode cX1_errs 0 = .ok (.iload_n 2, 1) := zdec_at bX1_errs_0 0 rfl
theorem dX1_errs_1 : decode cX1_errs 1 = .ok (.iconst 2, 1) := zdec_at bX1_errs_0 1 rfl
theorem dX1_errs_2 : decode cX1_errs 2 = .ok (.if_icmp .ge 19, 3) := zdec_at bX1_errs_0 2 rfl
theorem dX1_errs_5 : decode cX1_errs 5 = .ok (.aload_n 0, 1) := zdec_at bX1_errs_0 3 rfl
theorem dX1_errs_6 : decode cX1_errs 6 = .ok (.getfield 200, 3) := zdec_at bX1_errs_0 4 rfl
theorem dX1_errs_9 : decode cX1_errs 9 = .ok (.aload_n 0, 1) := zdec_at bX1_errs_0 5 rfl
theorem dX1_errs_10 : decode cX1_errs 10 = .ok (.getfield 713, 3) := zdec_at bX1_errs_0 6 rfl
theorem dX1_errs_13 : decode cX1_errs 13 = .ok (.dup2, 1) := zdec_at bX1_errs_0 7 rfl
theorem dX1_errs_14 : decode cX1_errs 14 = .ok (.baload, 1) := zdec_at bX1_errs_0 8 rfl
theorem dX1_errs_15 : decode cX1_errs 15 = .ok (.iconst 1, 1) := zdec_at bX1_errs_0 9 rfl
theorem dX1_errs_16 : decode cX1_errs 16 = .ok (.iload_n 2, 1) := zdec_at bX1_errs_0 10 rfl
theorem dX1_errs_17 : decode cX1_errs 17 = .ok (.ishl, 1) := zdec_at bX1_errs_0 11 rfl
theorem dX1_errs_18 : decode cX1_errs 18 = .ok (.ior, 1) := zdec_at bX1_errs_0 12 rfl
theorem dX1_errs_19 : decode cX1_errs 19 = .ok (.i2b, 1) := zdec_at bX1_errs_0 13 rfl
theorem dX1_errs_20 : decode cX1_errs 20 = .ok (.bastore, 1) := zdec_at bX1_errs_0 14 rfl
theorem dX1_errs_21 : decode cX1_errs 21 = .ok (.bipush 26, 2) := zdec_at bX1_errs_0 15 rfl
theorem bX1_errs_23 : zdec cX1_errs 23 [(23, .iload_n 2, 1), (24, .iadd, 1), (25, .istore_n 3, 1), (26, .aload_n 0, 1), (27, .getfield 240, 3), (30, .aload_n 1, 1), (31, .iload_n 3, 1), (32, .invokevirtual 788, 3), (35, .aload_n 0, 1), (36, .aload_n 1, 1), (37, .iload_n 3, 1), (38, .bipush 6, 2), (40, .iload_n 2, 1), (41, .iadd, 1), (42, .invokevirtual 792, 3), (45, .aload_n 0, 1)] = true := by decide +kernel
theorem dX1_errs_23 : decode cX1_errs 23 = .ok (.iload_n 2, 1) := zdec_at bX1_errs_23 0 rfl
theorem dX1_errs_24 : decode cX1_errs 24 = .ok (.iadd, 1) := zdec_at bX1_errs_23 1 rfl
theorem dX1_errs_25 : decode cX1_errs 25 = .ok (.istore_n 3, 1) := zdec_at bX1_errs_23 2 rfl
theorem dX1_errs_26 : decode cX1_errs 26 = .ok (.aload_n 0, 1) := zdec_at bX1_errs_23 3 rfl
theorem dX1_errs_27 : decode cX1_errs 27 = .ok (.getfield 240, 3) := zdec_at bX1_errs_23 4 rfl
theorem dX1_errs_30 : decode cX1_errs 30 = .ok (.aload_n 1, 1) := zdec_at bX1_errs_23 5 rfl
theorem dX1_errs_31 : decode cX1_errs 31 = .ok (.iload_n 3, 1) := zdec_at bX1_errs_23 6 rfl
theorem dX1_errs_32 : decode cX1_errs 32 = .ok (.invokevirtual 788, 3) := zdec_at bX1_errs_23 7 rfl
theorem dX1_errs_35 : decode cX1_errs 35 = .ok (.aload_n 0, 1) := zdec_at bX1_errs_23 8 rfl
theorem dX1_errs_36 : decode cX1_errs 36 = .ok (.aload_n 1, 1) := zdec_at bX1_errs_23 9 rfl
theorem dX1_errs_37 : decode cX1_errs 37 = .ok (.iload_n 3, 1) := zdec_at bX1_errs_23 10 rfl
theorem dX1_errs_38 : decode cX1_errs 38 = .ok (.bipush 6, 2) := zdec_at bX1_errs_23 11 rfl
theorem dX1_errs_40 : decode cX1_errs 40 = .ok (.iload_n 2, 1) := zdec_at bX1_errs_23 12 rfl
theorem dX1_errs_41 : decode cX1_errs 41 = .ok (.iadd, 1) := zdec_at bX1_errs_23 13 rfl
theorem dX1_errs_42 : decode cX1_errs 42 = .ok (.invokevirtual 792, 3) := zdec_at bX1_errs_23 14 rfl
theorem dX1_errs_45 : decode cX1_errs 45 = .ok (.aload_n 0, 1) := zdec_at bX1_errs_23 15 rfl
theorem bX1_errs_46 : zdec cX1_errs 46 [(46, .getfield 232, 3), (49, .invokevirtual 796, 3), (52, .iload_n 3, 1), (53, .invokevirtual 800, 3), (56, .pop, 1), (57, .aload_n 0, 1), (58, .aload_n 1, 1), (59, .aload_n 0, 1), (60, .getfield 232, 3), (63, .invokevirtual 803, 3), (66, .aload_n 0, 1), (67, .getfield 240, 3), (70, .aload_n 1, 1), (71, .iload_n 3, 1), (72, .invokevirtual 807, 3), (75, .return_, 1)] = true := by decide +kernel
theorem dX1_errs_46 : decode cX1_errs 46 = .ok (.getfield 232, 3) := zdec_at bX1_errs_46 0 rfl
theorem dX1_errs_49 : decode cX1_errs 49 = .ok (.invokevirtual 796, 3) := zdec_at bX1_errs_46 1 rfl
theorem dX1_errs_52 : decode cX1_errs 52 = .ok (.iload_n 3, 1) := zdec_at bX1_errs_46 2 rfl
theorem dX1_errs_53 : decode cX1_errs 53 = .ok (.invokevirtual 800, 3) := zdec_at bX1_errs_46 3 rfl
theorem dX1_errs_56 : decode cX1_errs 56 = .ok (.pop, 1) := zdec_at bX1_errs_46 4 rfl
theorem dX1_errs_57 : decode cX1_errs 57 = .ok (.aload_n 0, 1) := zdec_at bX1_errs_46 5 rfl
theorem dX1_errs_58 : decode cX1_errs 58 = .ok (.aload_n 1, 1) := zdec_at bX1_errs_46 6 rfl
theorem dX1_errs_59 : decode cX1_errs 59 = .ok (.aload_n 0, 1) := zdec_at bX1_errs_46 7 rfl
theorem dX1_errs_60 : decode cX1_errs 60 = .ok (.getfield 232, 3) := zdec_at bX1_errs_46 8 rfl
theorem dX1_errs_63 : decode cX1_errs 63 = .ok (.invokevirtual 803, 3) := zdec_at bX1_errs_46 9 rfl
theorem dX1_errs_66 : decode cX1_errs 66 = .ok (.aload_n 0, 1) := zdec_at bX1_errs_46 10 rfl
theorem dX1_errs_67 : decode cX1_errs 67 = .ok (.getfield 240, 3) := zdec_at bX1_errs_46 11 rfl
theorem dX1_errs_70 : decode cX1_errs 70 = .ok (.aload_n 1, 1) := zdec_at bX1_errs_46 12 rfl
theorem dX1_errs_71 : decode cX1_errs 71 = .ok (.iload_n 3, 1) := zdec_at bX1_errs_46 13 rfl
theorem dX1_errs_72 : decode cX1_errs 72 = .ok (.invokevirtual 807, 3) := zdec_at bX1_errs_46 14 rfl
theorem dX1_errs_75 : decode cX1_errs 75 = .ok (.return_, 1) := zdec_at bX1_errs_46 15 rfl
theorem sX1_errs_0 {E : zE} {d : Nat} {Q : zO → zM → Prop} (M : zM) (r1 : Option zP) (l2 : Int32) (hw : cw M) (k : if (2 : Int32) ≤ l2 then (Z E YX1_errs (d + 1) M [(0, vr (some (16, 0, 0))), (1, vr r1), (2, vi l2)] 21 [] Q) else (vp_in (gi M 16 76) 600 ∧ (vp_in (gi M 16 76) 600 ∧ (Z E YX1_errs (d + 1) (si M 70 ((gi M 16 76)).toNatClampNeg (vp_nar .byte (((gi M 70 ((gi M 16 76)).toNatClampNeg) ||| ((1 : Int32) <<< (l2 &&& 31)))).toInt8.toInt32)) [(0, vr (some (16, 0, 0))), (1, vr r1), (2, vi l2)] 21 [] Q)))) : Z E YX1_errs (d + 1) M [(0, vr (some (16, 0, 0))), (1, vr r1), (2, vi l2)] 0 [] Q := by
  refine z_iload_n dX1_errs_0 rfl rfl ?_
  refine z_iconst (v := 2) dX1_errs_1 rfl ?_
  refine z_icmp_ge (tgt := 21) dX1_errs_2 rfl (fun h_ => ?_) (fun h_ => ?_)
  · have k := zit h_ k
    exact k
  · have k := zif h_ k
    refine z_aload_n dX1_errs_5 rfl rfl ?_
    refine z_getr dX1_errs_6 fsX1_200_0 (show gr M 16 66 = some (70, 101, 600) from cw_at hw 38 rfl) ?_
    refine z_aload_n dX1_errs_9 rfl rfl ?_
    refine z_geti dX1_errs_10 fsX1_713_0 ?_
    refine z_dup2 dX1_errs_13 rfl rfl ?_
    obtain ⟨b_, k⟩ := k
    refine z_bald dX1_errs_14 b_ ?_
    refine z_iconst (v := 1) dX1_errs_15 rfl ?_
    refine z_iload_n dX1_errs_16 rfl rfl ?_
    refine z_ishl dX1_errs_17 ?_
    refine z_ior dX1_errs_18 ?_
    refine z_i2b dX1_errs_19 ?_
    obtain ⟨b_, k⟩ := k
    refine z_bast (by decide) dX1_errs_20 b_ ?_
    exact k
theorem sX1_errs_21 {E : zE} {d : Nat} {Q : zO → zM → Prop} (M : zM) (r1 : Option zP) (l2 : Int32) (hw : cw M) (k : Z E YX7_save d M (zargs 0 [vr (some (80, 5, 0)), vr r1, vi ((26 : Int32) + l2)]) 0 [] (zafter E YX1_errs (d + 1) [(0, vr (some (16, 0, 0))), (1, vr r1), (2, vi l2), (3, vi ((26 : Int32) + l2))] 32 3 [] Q)) : Z E YX1_errs (d + 1) M [(0, vr (some (16, 0, 0))), (1, vr r1), (2, vi l2)] 21 [] Q := by
  refine z_bipush (v := 26) dX1_errs_21 rfl ?_
  refine z_iload_n dX1_errs_23 rfl rfl ?_
  refine z_iadd dX1_errs_24 ?_
  refine z_ist_n dX1_errs_25 rfl (by decide) (lv' := [(0, vr (some (16, 0, 0))), (1, vr r1), (2, vi l2), (3, vi ((26 : Int32) + l2))]) rfl ?_
  refine z_aload_n dX1_errs_26 rfl rfl ?_
  refine z_getr dX1_errs_27 fsX1_240_0 (show gr M 16 87 = some (80, 5, 0) from cw_at hw 48 rfl) ?_
  refine z_aload_n dX1_errs_30 rfl rfl ?_
  refine z_iload_n dX1_errs_31 rfl rfl ?_
  exact z_callV (as := [vr r1, vi ((26 : Int32) + l2)]) (st := []) dX1_errs_32 vsX1_788_5 (Nat.le_refl _) (Nat.le_of_ble_eq_true rfl) (Nat.le_of_ble_eq_true rfl) rfl k
theorem sX1_errs_35 {E : zE} {d : Nat} {Q : zO → zM → Prop} (M : zM) (r1 : Option zP) (l2 : Int32) (l3 : Int32) (hw : cw M) (k : Z E YX1_added d M (zargs 0 [vr (some (16, 0, 0)), vr r1, vi l3, vi ((6 : Int32) + l2)]) 0 [] (zafter E YX1_errs (d + 1) [(0, vr (some (16, 0, 0))), (1, vr r1), (3, vi l3)] 42 3 [] Q)) : Z E YX1_errs (d + 1) M [(0, vr (some (16, 0, 0))), (1, vr r1), (2, vi l2), (3, vi l3)] 35 [] Q := by
  refine z_aload_n dX1_errs_35 rfl rfl ?_
  refine z_aload_n dX1_errs_36 rfl rfl ?_
  refine z_iload_n dX1_errs_37 rfl rfl ?_
  refine z_bipush (v := 6) dX1_errs_38 rfl ?_
  refine z_iload_n dX1_errs_40 rfl rfl ?_
  refine z_iadd dX1_errs_41 ?_
  refine Z.pick [0, 1, 3] rfl ?_
  exact z_callV (as := [vr r1, vi l3, vi ((6 : Int32) + l2)]) (st := []) dX1_errs_42 vsX1_792_0 (Nat.le_refl _) (Nat.le_of_ble_eq_true rfl) (Nat.le_of_ble_eq_true rfl) rfl k
theorem sX1_errs_45 {E : zE} {d : Nat} {Q : zO → zM → Prop} (M : zM) (r1 : Option zP) (l3 : Int32) (hw : cw M) (k : Z E YX6_empty d M (zargs 0 [vr (some (79, 4, 0))]) 0 [] (zafter E YX1_errs (d + 1) [(0, vr (some (16, 0, 0))), (1, vr r1), (3, vi l3)] 49 3 [] Q)) : Z E YX1_errs (d + 1) M [(0, vr (some (16, 0, 0))), (1, vr r1), (3, vi l3)] 45 [] Q := by
  refine z_aload_n dX1_errs_45 rfl rfl ?_
  refine z_getr dX1_errs_46 fsX1_232_0 (show gr M 16 86 = some (79, 4, 0) from cw_at hw 47 rfl) ?_
  exact z_callV (as := []) (st := []) dX1_errs_49 vsX1_796_4 (Nat.le_refl _) (Nat.le_of_ble_eq_true rfl) (Nat.le_of_ble_eq_true rfl) rfl k
theorem sX1_errs_52 {E : zE} {d : Nat} {Q : zO → zM → Prop} (M : zM) (r1 : Option zP) (l3 : Int32) (u0 : Option zP) (hw : cw M) (k : ∃ b1 : Nat, u0 = some (b1, 4, 0) ∧ (Z E YX6_add d M (zargs 0 [vr (some (b1, 4, 0)), vi l3]) 0 [] (zafter E YX1_errs (d + 1) [(0, vr (some (16, 0, 0))), (1, vr r1), (3, vi l3)] 53 3 [] Q))) : Z E YX1_errs (d + 1) M [(0, vr (some (16, 0, 0))), (1, vr r1), (3, vi l3)] 52 [vr u0] Q := by
  refine z_iload_n dX1_errs_52 rfl rfl ?_
  obtain ⟨b1, e1_, k⟩ := k
  refine Z.eqs (lv' := [(0, vr (some (16, 0, 0))), (1, vr r1), (3, vi l3)]) (st' := [vi l3, vr (some (b1, 4, 0))]) rfl (by rw [e1_] <;> rfl) ?_
  exact z_callV (as := [vi l3]) (st := []) dX1_errs_53 vsX1_800_4 (Nat.le_refl _) (Nat.le_of_ble_eq_true rfl) (Nat.le_of_ble_eq_true rfl) rfl k
theorem sX1_errs_56 {E : zE} {d : Nat} {Q : zO → zM → Prop} (M : zM) (r1 : Option zP) (l3 : Int32) (u0 : Option zP) (hw : cw M) (k : Z E YX1_throwsTo d M (zargs 0 [vr (some (16, 0, 0)), vr r1, vr (some (79, 4, 0))]) 0 [] (zafter E YX1_errs (d + 1) [(0, vr (some (16, 0, 0))), (1, vr r1), (3, vi l3)] 63 3 [] Q)) : Z E YX1_errs (d + 1) M [(0, vr (some (16, 0, 0))), (1, vr r1), (3, vi l3)] 56 [vr u0] Q := by
  refine z_pop dX1_errs_56 rfl ?_
  refine z_aload_n dX1_errs_57 rfl rfl ?_
  refine z_aload_n dX1_errs_58 rfl rfl ?_
  refine z_aload_n dX1_errs_59 rfl rfl ?_
  refine z_getr dX1_errs_60 fsX1_232_0 (show gr M 16 86 = some (79, 4, 0) from cw_at hw 47 rfl) ?_
  exact z_callV (as := [vr r1, vr (some (79, 4, 0))]) (st := []) dX1_errs_63 vsX1_803_0 (Nat.le_refl _) (Nat.le_of_ble_eq_true rfl) (Nat.le_of_ble_eq_true rfl) rfl k
theorem sX1_errs_66 {E : zE} {d : Nat} {Q : zO → zM → Prop} (M : zM) (r1 : Option zP) (l3 : Int32) (hw : cw M) (k : Z E YX7_restore d M (zargs 0 [vr (some (80, 5, 0)), vr r1, vi l3]) 0 [] (zafter E YX1_errs (d + 1) [] 72 3 [] Q)) : Z E YX1_errs (d + 1) M [(0, vr (some (16, 0, 0))), (1, vr r1), (3, vi l3)] 66 [] Q := by
  refine z_aload_n dX1_errs_66 rfl rfl ?_
  refine z_getr dX1_errs_67 fsX1_240_0 (show gr M 16 87 = some (80, 5, 0) from cw_at hw 48 rfl) ?_
  refine z_aload_n dX1_errs_70 rfl rfl ?_
  refine z_iload_n dX1_errs_71 rfl rfl ?_
  refine Z.pick [] rfl ?_
  exact z_callV (as := [vr r1, vi l3]) (st := []) dX1_errs_72 vsX1_807_5 (Nat.le_refl _) (Nat.le_of_ble_eq_true rfl) (Nat.le_of_ble_eq_true rfl) rfl k
theorem sX1_errs_75 {E : zE} {d : Nat} {Q : zO → zM → Prop} (M : zM)  (hw : cw M) (k : Q (.inl none) M) : Z E YX1_errs (d + 1) M [] 75 [] Q := by
  exact z_vret dX1_errs_75 rfl k
/-! ScriptTypes.added(LScriptTypes$Work;II)V -/
theorem bX1_added_0 : zdec cX1_added 0 [(0, .aload_n 1, 1), (1, .getfield 731, 3), (4, .iload_n 2, 1), (5, .iconst 1, 1), (6, .bastore, 1), (7, .aload_n 1, 1), (8, .getfield 734, 3), (11, .iload_n 2, 1), (12, .dup2, 1), (13, .laload, 1), (14, .lconst 1, 1), (15, .iload_n 3, 1), (16, .lshl, 1), (17, .lor, 1), (18, .lastore, 1), (19, .iconst 0, 1)] = true := by decide +kernel
theorem dX1_added_0 : decode cX1_added 0 = .ok (.aload_n 1, 1) := zdec_at bX1_added_0 0 rfl
theorem dX1_added_1 : decode cX1_added 1 = .ok (.getfield 731, 3) := zdec_at bX1_added_0 1 rfl
theorem dX1_added_4 : decode cX1_added 4 = .ok (.iload_n 2, 1) := zdec_at bX1_added_0 2 rfl
theorem dX1_added_5 : decode cX1_added 5 = .ok (.iconst 1, 1) := zdec_at bX1_added_0 3 rfl
theorem dX1_added_6 : decode cX1_added 6 = .ok (.bastore, 1) := zdec_at bX1_added_0 4 rfl
theorem dX1_added_7 : decode cX1_added 7 = .ok (.aload_n 1, 1) := zdec_at bX1_added_0 5 rfl
theorem dX1_added_8 : decode cX1_added 8 = .ok (.getfield 734, 3) := zdec_at bX1_added_0 6 rfl
theorem dX1_added_11 : decode cX1_added 11 = .ok (.iload_n 2, 1) := zdec_at bX1_added_0 7 rfl
theorem dX1_added_12 : decode cX1_added 12 = .ok (.dup2, 1) := zdec_at bX1_added_0 8 rfl
theorem dX1_added_13 : decode cX1_added 13 = .ok (.laload, 1) := zdec_at bX1_added_0 9 rfl
theorem dX1_added_14 : decode cX1_added 14 = .ok (.lconst 1, 1) := zdec_at bX1_added_0 10 rfl
theorem dX1_added_15 : decode cX1_added 15 = .ok (.iload_n 3, 1) := zdec_at bX1_added_0 11 rfl
theorem dX1_added_16 : decode cX1_added 16 = .ok (.lshl, 1) := zdec_at bX1_added_0 12 rfl
theorem dX1_added_17 : decode cX1_added 17 = .ok (.lor, 1) := zdec_at bX1_added_0 13 rfl
theorem dX1_added_18 : decode cX1_added 18 = .ok (.lastore, 1) := zdec_at bX1_added_0 14 rfl
theorem dX1_added_19 : decode cX1_added 19 = .ok (.iconst 0, 1) := zdec_at bX1_added_0 15 rfl
theorem bX1_added_20 : zdec cX1_added 20 [(20, .istore 4, 2), (22, .iload 4, 2), (24, .aload_n 0, 1), (25, .getfield 58, 3), (28, .if_icmp .gt 27, 3), (31, .aload_n 1, 1), (32, .getfield 810, 3), (35, .aload_n 1, 1), (36, .iload_n 2, 1), (37, .iload 4, 2), (39, .invokevirtual 813, 3), (42, .dup2, 1), (43, .laload, 1), (44, .ldc2_w 816, 3), (47, .lor, 1), (48, .lastore, 1)] = true := by decide +kernel
theorem dX1_added_20 : decode cX1_added 20 = .ok (.istore 4, 2) := zdec_at bX1_added_20 0 rfl
theorem dX1_added_22 : decode cX1_added 22 = .ok (.iload 4, 2) := zdec_at bX1_added_20 1 rfl
theorem dX1_added_24 : decode cX1_added 24 = .ok (.aload_n 0, 1) := zdec_at bX1_added_20 2 rfl
theorem dX1_added_25 : decode cX1_added 25 = .ok (.getfield 58, 3) := zdec_at bX1_added_20 3 rfl
theorem dX1_added_28 : decode cX1_added 28 = .ok (.if_icmp .gt 27, 3) := zdec_at bX1_added_20 4 rfl
theorem dX1_added_31 : decode cX1_added 31 = .ok (.aload_n 1, 1) := zdec_at bX1_added_20 5 rfl
theorem dX1_added_32 : decode cX1_added 32 = .ok (.getfield 810, 3) := zdec_at bX1_added_20 6 rfl
theorem dX1_added_35 : decode cX1_added 35 = .ok (.aload_n 1, 1) := zdec_at bX1_added_20 7 rfl
theorem dX1_added_36 : decode cX1_added 36 = .ok (.iload_n 2, 1) := zdec_at bX1_added_20 8 rfl
theorem dX1_added_37 : decode cX1_added 37 = .ok (.iload 4, 2) := zdec_at bX1_added_20 9 rfl
theorem dX1_added_39 : decode cX1_added 39 = .ok (.invokevirtual 813, 3) := zdec_at bX1_added_20 10 rfl
theorem dX1_added_42 : decode cX1_added 42 = .ok (.dup2, 1) := zdec_at bX1_added_20 11 rfl
theorem dX1_added_43 : decode cX1_added 43 = .ok (.laload, 1) := zdec_at bX1_added_20 12 rfl
theorem dX1_added_44 : decode cX1_added 44 = .ok (.ldc2_w 816, 3) := zdec_at bX1_added_20 13 rfl
theorem dX1_added_47 : decode cX1_added 47 = .ok (.lor, 1) := zdec_at bX1_added_20 14 rfl
theorem dX1_added_48 : decode cX1_added 48 = .ok (.lastore, 1) := zdec_at bX1_added_20 15 rfl
theorem bX1_added_49 : zdec cX1_added 49 [(49, .iinc 4 1, 3), (52, .goto (-30), 3), (55, .return_, 1)] = true := by decide +kernel
theorem dX1_added_49 : decode cX1_added 49 = .ok (.iinc 4 1, 3) := zdec_at bX1_added_49 0 rfl
theorem dX1_added_52 : decode cX1_added 52 = .ok (.goto (-30), 3) := zdec_at bX1_added_49 1 rfl
theorem dX1_added_55 : decode cX1_added 55 = .ok (.return_, 1) := zdec_at bX1_added_49 2 rfl
theorem sX1_added_0 {E : zE} {d : Nat} {Q : zO → zM → Prop} (M : zM) (r1 : Option zP) (l2 : Int32) (l3 : Int32) (hw : cw M) (k : ∃ b1 : Nat, r1 = some (b1, 7, 0) ∧ (∃ b2 m2 : Nat, (gr M b1 8) = some (b2, 104, m2) ∧ (16 ≤ b2 ∧ (vp_in l2 m2 ∧ (∃ b3 m3 : Nat, (gr M b1 4) = some (b3, 105, m3) ∧ (vp_in l2 m3 ∧ (16 ≤ b3 ∧ (vp_in l2 m3 ∧ (Z E YX1_added (d + 1) (sl (si M b2 (l2).toNatClampNeg (vp_nar .boolean (1 : Int32))) b3 (l2).toNatClampNeg ((gl M b3 (l2).toNatClampNeg) ||| (zls (1 : Int64) l3))) [(0, vr (some (16, 0, 0))), (1, vr (some (b1, 7, 0))), (2, vi l2), (4, vi (0 : Int32))] 22 [] Q))))))))) : Z E YX1_added (d + 1) M [(0, vr (some (16, 0, 0))), (1, vr r1), (2, vi l2), (3, vi l3)] 0 [] Q := by
  refine z_aload_n dX1_added_0 rfl rfl ?_
  obtain ⟨b1, e1_, k⟩ := k
  refine Z.eqs (lv' := [(0, vr (some (16, 0, 0))), (1, vr (some (b1, 7, 0))), (2, vi l2), (3, vi l3)]) (st' := [vr (some (b1, 7, 0))]) (by rw [e1_] <;> rfl) (by rw [e1_] <;> rfl) ?_
  refine z_getr (r := (gr M b1 8)) dX1_added_1 fsX1_731_7 rfl ?_
  refine z_iload_n dX1_added_4 rfl rfl ?_
  refine z_iconst (v := 1) dX1_added_5 rfl ?_
  obtain ⟨b2, m2, e2_, k⟩ := k
  refine Z.eqs (lv' := [(0, vr (some (16, 0, 0))), (1, vr (some (b1, 7, 0))), (2, vi l2), (3, vi l3)]) (st' := [vi (1 : Int32), vi l2, vr (some (b2, 104, m2))]) rfl (by rw [e2_] <;> rfl) ?_
  obtain ⟨g_, k⟩ := k
  obtain ⟨b_, k⟩ := k
  refine z_zast g_ dX1_added_6 b_ ?_
  refine z_aload_n dX1_added_7 rfl rfl ?_
  refine z_getr (r := (gr M b1 4)) dX1_added_8 fsX1_734_7 rfl ?_
  refine z_iload_n dX1_added_11 rfl rfl ?_
  refine z_dup2 dX1_added_12 rfl rfl ?_
  obtain ⟨b3, m3, e3_, k⟩ := k
  refine Z.eqs (lv' := [(0, vr (some (16, 0, 0))), (1, vr (some (b1, 7, 0))), (2, vi l2), (3, vi l3)]) (st' := [vi l2, vr (some (b3, 105, m3)), vi l2, vr (some (b3, 105, m3))]) rfl (by rw [e3_] <;> rfl) ?_
  obtain ⟨b_, k⟩ := k
  refine z_lald dX1_added_13 b_ ?_
  refine z_lconst (v := 1) dX1_added_14 rfl ?_
  refine z_iload_n dX1_added_15 rfl rfl ?_
  refine z_lshl dX1_added_16 ?_
  refine z_lor dX1_added_17 ?_
  obtain ⟨g_, k⟩ := k
  obtain ⟨b_, k⟩ := k
  refine z_last g_ dX1_added_18 b_ ?_
  refine z_iconst (v := 0) dX1_added_19 rfl ?_
  refine z_ist dX1_added_20 (by decide) (lv' := [(0, vr (some (16, 0, 0))), (1, vr (some (b1, 7, 0))), (2, vi l2), (3, vi l3), (4, vi (0 : Int32))]) rfl ?_
  refine Z.pick [0, 1, 2, 4] rfl ?_
  exact k
theorem sX1_added_22 {E : zE} {d : Nat} {Q : zO → zM → Prop} (M : zM) (a1 : Nat) (l2 : Int32) (l4 : Int32) (hw : cw M) (k : if (gi M 16 1) < l4 then (Q (.inl none) M) else (Z E YX43_cell d M (zargs 0 [vr (some (a1, 7, 0)), vi l2, vi l4]) 0 [] (zafter E YX1_added (d + 1) [(0, vr (some (16, 0, 0))), (1, vr (some (a1, 7, 0))), (2, vi l2), (4, vi l4)] 39 3 [vr (gr M a1 3)] Q))) : Z E YX1_added (d + 1) M [(0, vr (some (16, 0, 0))), (1, vr (some (a1, 7, 0))), (2, vi l2), (4, vi l4)] 22 [] Q := by
  refine z_iload dX1_added_22 rfl ?_
  refine z_aload_n dX1_added_24 rfl rfl ?_
  refine z_geti dX1_added_25 fsX1_58_0 ?_
  refine z_icmp_gt (tgt := 55) dX1_added_28 rfl (fun h_ => ?_) (fun h_ => ?_)
  · have k := zit h_ k
    exact z_vret dX1_added_55 rfl k
  · have k := zif h_ k
    refine z_aload_n dX1_added_31 rfl rfl ?_
    refine z_getr (r := (gr M a1 3)) dX1_added_32 fsX1_810_7 rfl ?_
    refine z_aload_n dX1_added_35 rfl rfl ?_
    refine z_iload_n dX1_added_36 rfl rfl ?_
    refine z_iload dX1_added_37 rfl ?_
    exact z_callV (as := [vi l2, vi l4]) (st := [vr (gr M a1 3)]) dX1_added_39 vsX1_813_7 (Nat.le_refl _) (Nat.le_of_ble_eq_true rfl) (Nat.le_of_ble_eq_true rfl) rfl k
theorem sX1_added_42 {E : zE} {d : Nat} {Q : zO → zM → Prop} (M : zM) (a1 : Nat) (l2 : Int32) (l4 : Int32) (s0 : Int32) (u1 : Option zP) (hw : cw M) (k : ∃ b1 m1 : Nat, u1 = some (b1, 105, m1) ∧ (vp_in s0 m1 ∧ (16 ≤ b1 ∧ (vp_in s0 m1 ∧ (Z E YX1_added (d + 1) (sl M b1 (s0).toNatClampNeg ((gl M b1 (s0).toNatClampNeg) ||| (512 : Int64))) [(0, vr (some (16, 0, 0))), (1, vr (some (a1, 7, 0))), (2, vi l2), (4, vi (l4 + (1 : Int32)))] 22 [] Q))))) : Z E YX1_added (d + 1) M [(0, vr (some (16, 0, 0))), (1, vr (some (a1, 7, 0))), (2, vi l2), (4, vi l4)] 42 [vi s0, vr u1] Q := by
  refine z_dup2 dX1_added_42 rfl rfl ?_
  obtain ⟨b1, m1, e1_, k⟩ := k
  refine Z.eqs (lv' := [(0, vr (some (16, 0, 0))), (1, vr (some (a1, 7, 0))), (2, vi l2), (4, vi l4)]) (st' := [vi s0, vr (some (b1, 105, m1)), vi s0, vr (some (b1, 105, m1))]) rfl (by rw [e1_] <;> rfl) ?_
  obtain ⟨b_, k⟩ := k
  refine z_lald dX1_added_43 b_ ?_
  refine z_ldc2 (v := 512) dX1_added_44 q3247 ?_
  refine z_lor dX1_added_47 ?_
  obtain ⟨g_, k⟩ := k
  obtain ⟨b_, k⟩ := k
  refine z_last g_ dX1_added_48 b_ ?_
  refine z_inc (v := (l4 + (1 : Int32))) dX1_added_49 rfl rfl (by decide) (lv' := [(0, vr (some (16, 0, 0))), (1, vr (some (a1, 7, 0))), (2, vi l2), (4, vi (l4 + (1 : Int32)))]) rfl ?_
  refine z_goto (tgt := 22) dX1_added_52 rfl ?_
  exact k
/-! ScriptTypes.throwsTo(LScriptTypes$Work;LScriptTypes$Bag;)V -/
theorem bX1_throwsTo_0 : zdec cX1_throwsTo 0 [(0, .aload_n 0, 1), (1, .getfield 89, 3), (4, .getfield 773, 3), (7, .aload_n 0, 1), (8, .getfield 713, 3), (11, .saload, 1), (12, .istore_n 3, 1), (13, .aload_n 1, 1), (14, .getfield 726, 3), (17, .istore 4, 2), (19, .lconst 0, 1), (20, .lstore 5, 2), (22, .lconst 0, 1), (23, .lstore 7, 2), (25, .lconst 0, 1), (26, .lstore 9, 2)] = true := by decide +kernel
theorem dX1_throwsTo_0 : decode cX1_throwsTo 0 = .ok (.aload_n 0, 1) := zdec_at bX1_throwsTo_0 0 rfl
theorem dX1_throwsTo_1 : decode cX1_throwsTo 1 = .ok (.getfield 89, 3) := zdec_at bX1_throwsTo_0 1 rfl
theorem dX1_throwsTo_4 : decode cX1_throwsTo 4 = .ok (.getfield 773, 3) := zdec_at bX1_throwsTo_0 2 rfl
theorem dX1_throwsTo_7 : decode cX1_throwsTo 7 = .ok (.aload_n 0, 1) := zdec_at bX1_throwsTo_0 3 rfl
theorem dX1_throwsTo_8 : decode cX1_throwsTo 8 = .ok (.getfield 713, 3) := zdec_at bX1_throwsTo_0 4 rfl
theorem dX1_throwsTo_11 : decode cX1_throwsTo 11 = .ok (.saload, 1) := zdec_at bX1_throwsTo_0 5 rfl
theorem dX1_throwsTo_12 : decode cX1_throwsTo 12 = .ok (.istore_n 3, 1) := zdec_at bX1_throwsTo_0 6 rfl
theorem dX1_throwsTo_13 : decode cX1_throwsTo 13 = .ok (.aload_n 1, 1) := zdec_at bX1_throwsTo_0 7 rfl
theorem dX1_throwsTo_14 : decode cX1_throwsTo 14 = .ok (.getfield 726, 3) := zdec_at bX1_throwsTo_0 8 rfl
theorem dX1_throwsTo_17 : decode cX1_throwsTo 17 = .ok (.istore 4, 2) := zdec_at bX1_throwsTo_0 9 rfl
theorem dX1_throwsTo_19 : decode cX1_throwsTo 19 = .ok (.lconst 0, 1) := zdec_at bX1_throwsTo_0 10 rfl
theorem dX1_throwsTo_20 : decode cX1_throwsTo 20 = .ok (.lstore 5, 2) := zdec_at bX1_throwsTo_0 11 rfl
theorem dX1_throwsTo_22 : decode cX1_throwsTo 22 = .ok (.lconst 0, 1) := zdec_at bX1_throwsTo_0 12 rfl
theorem dX1_throwsTo_23 : decode cX1_throwsTo 23 = .ok (.lstore 7, 2) := zdec_at bX1_throwsTo_0 13 rfl
theorem dX1_throwsTo_25 : decode cX1_throwsTo 25 = .ok (.lconst 0, 1) := zdec_at bX1_throwsTo_0 14 rfl
theorem dX1_throwsTo_26 : decode cX1_throwsTo 26 = .ok (.lstore 9, 2) := zdec_at bX1_throwsTo_0 15 rfl
theorem bX1_throwsTo_28 : zdec cX1_throwsTo 28 [(28, .iload_n 3, 1), (29, .iconst (-1), 1), (30, .if_icmp .ne 7, 3), (33, .iconst 0, 1), (34, .goto 12, 3), (37, .aload_n 0, 1), (38, .getfield 89, 3), (41, .getfield 776, 3), (44, .iload_n 3, 1), (45, .saload, 1), (46, .istore 11, 2), (48, .aload_n 1, 1), (49, .getfield 779, 3), (52, .arraylength, 1), (53, .iload 11, 2), (55, .if_icmp .le 30, 3)] = true := by decide +kernel
theorem dX1_throwsTo_28 : decode cX1_throwsTo 28 = .ok (.iload_n 3, 1) := zdec_at bX1_throwsTo_28 0 rfl
theorem dX1_throwsTo_29 : decode cX1_throwsTo 29 = .ok (.iconst (-1), 1) := zdec_at bX1_throwsTo_28 1 rfl
theorem dX1_throwsTo_30 : decode cX1_throwsTo 30 = .ok (.if_icmp .ne 7, 3) := zdec_at bX1_throwsTo_28 2 rfl
theorem dX1_throwsTo_33 : decode cX1_throwsTo 33 = .ok (.iconst 0, 1) := zdec_at bX1_throwsTo_28 3 rfl
theorem dX1_throwsTo_34 : decode cX1_throwsTo 34 = .ok (.goto 12, 3) := zdec_at bX1_throwsTo_28 4 rfl
theorem dX1_throwsTo_37 : decode cX1_throwsTo 37 = .ok (.aload_n 0, 1) := zdec_at bX1_throwsTo_28 5 rfl
theorem dX1_throwsTo_38 : decode cX1_throwsTo 38 = .ok (.getfield 89, 3) := zdec_at bX1_throwsTo_28 6 rfl
theorem dX1_throwsTo_41 : decode cX1_throwsTo 41 = .ok (.getfield 776, 3) := zdec_at bX1_throwsTo_28 7 rfl
theorem dX1_throwsTo_44 : decode cX1_throwsTo 44 = .ok (.iload_n 3, 1) := zdec_at bX1_throwsTo_28 8 rfl
theorem dX1_throwsTo_45 : decode cX1_throwsTo 45 = .ok (.saload, 1) := zdec_at bX1_throwsTo_28 9 rfl
theorem dX1_throwsTo_46 : decode cX1_throwsTo 46 = .ok (.istore 11, 2) := zdec_at bX1_throwsTo_28 10 rfl
theorem dX1_throwsTo_48 : decode cX1_throwsTo 48 = .ok (.aload_n 1, 1) := zdec_at bX1_throwsTo_28 11 rfl
theorem dX1_throwsTo_49 : decode cX1_throwsTo 49 = .ok (.getfield 779, 3) := zdec_at bX1_throwsTo_28 12 rfl
theorem dX1_throwsTo_52 : decode cX1_throwsTo 52 = .ok (.arraylength, 1) := zdec_at bX1_throwsTo_28 13 rfl
theorem dX1_throwsTo_53 : decode cX1_throwsTo 53 = .ok (.iload 11, 2) := zdec_at bX1_throwsTo_28 14 rfl
theorem dX1_throwsTo_55 : decode cX1_throwsTo 55 = .ok (.if_icmp .le 30, 3) := zdec_at bX1_throwsTo_28 15 rfl
theorem bX1_throwsTo_58 : zdec cX1_throwsTo 58 [(58, .aload_n 1, 1), (59, .getfield 779, 3), (62, .iload 11, 2), (64, .laload, 1), (65, .lstore 5, 2), (67, .aload_n 1, 1), (68, .getfield 782, 3), (71, .iload 11, 2), (73, .laload, 1), (74, .lstore 7, 2), (76, .aload_n 1, 1), (77, .getfield 785, 3), (80, .iload 11, 2), (82, .laload, 1), (83, .lstore 9, 2), (85, .aload_n 1, 1)] = true := by decide +kernel
theorem dX1_throwsTo_58 : decode cX1_throwsTo 58 = .ok (.aload_n 1, 1) := zdec_at bX1_throwsTo_58 0 rfl
theorem dX1_throwsTo_59 : decode cX1_throwsTo 59 = .ok (.getfield 779, 3) := zdec_at bX1_throwsTo_58 1 rfl
theorem dX1_throwsTo_62 : decode cX1_throwsTo 62 = .ok (.iload 11, 2) := zdec_at bX1_throwsTo_58 2 rfl
theorem dX1_throwsTo_64 : decode cX1_throwsTo 64 = .ok (.laload, 1) := zdec_at bX1_throwsTo_58 3 rfl
theorem dX1_throwsTo_65 : decode cX1_throwsTo 65 = .ok (.lstore 5, 2) := zdec_at bX1_throwsTo_58 4 rfl
theorem dX1_throwsTo_67 : decode cX1_throwsTo 67 = .ok (.aload_n 1, 1) := zdec_at bX1_throwsTo_58 5 rfl
theorem dX1_throwsTo_68 : decode cX1_throwsTo 68 = .ok (.getfield 782, 3) := zdec_at bX1_throwsTo_58 6 rfl
theorem dX1_throwsTo_71 : decode cX1_throwsTo 71 = .ok (.iload 11, 2) := zdec_at bX1_throwsTo_58 7 rfl
theorem dX1_throwsTo_73 : decode cX1_throwsTo 73 = .ok (.laload, 1) := zdec_at bX1_throwsTo_58 8 rfl
theorem dX1_throwsTo_74 : decode cX1_throwsTo 74 = .ok (.lstore 7, 2) := zdec_at bX1_throwsTo_58 9 rfl
theorem dX1_throwsTo_76 : decode cX1_throwsTo 76 = .ok (.aload_n 1, 1) := zdec_at bX1_throwsTo_58 10 rfl
theorem dX1_throwsTo_77 : decode cX1_throwsTo 77 = .ok (.getfield 785, 3) := zdec_at bX1_throwsTo_58 11 rfl
theorem dX1_throwsTo_80 : decode cX1_throwsTo 80 = .ok (.iload 11, 2) := zdec_at bX1_throwsTo_58 12 rfl
theorem dX1_throwsTo_82 : decode cX1_throwsTo 82 = .ok (.laload, 1) := zdec_at bX1_throwsTo_58 13 rfl
theorem dX1_throwsTo_83 : decode cX1_throwsTo 83 = .ok (.lstore 9, 2) := zdec_at bX1_throwsTo_58 14 rfl
theorem dX1_throwsTo_85 : decode cX1_throwsTo 85 = .ok (.aload_n 1, 1) := zdec_at bX1_throwsTo_58 15 rfl
theorem bX1_throwsTo_86 : zdec cX1_throwsTo 86 [(86, .iload 11, 2), (88, .putfield 726, 3), (91, .aload_n 1, 1), (92, .aload_n 2, 1), (93, .invokevirtual 767, 3), (96, .aload_n 0, 1), (97, .iload_n 3, 1), (98, .iconst (-1), 1), (99, .if_icmp .ne 27, 3), (102, .aload_n 0, 1), (103, .getfield 694, 3), (106, .iconst 2, 1), (107, .aload_n 0, 1), (108, .getfield 89, 3), (111, .getfield 343, 3), (114, .aload_n 0, 1)] = true := by decide +kernel
theorem dX1_throwsTo_86 : decode cX1_throwsTo 86 = .ok (.iload 11, 2) := zdec_at bX1_throwsTo_86 0 rfl
theorem dX1_throwsTo_88 : decode cX1_throwsTo 88 = .ok (.putfield 726, 3) := zdec_at bX1_throwsTo_86 1 rfl
theorem dX1_throwsTo_91 : decode cX1_throwsTo 91 = .ok (.aload_n 1, 1) := zdec_at bX1_throwsTo_86 2 rfl
theorem dX1_throwsTo_92 : decode cX1_throwsTo 92 = .ok (.aload_n 2, 1) := zdec_at bX1_throwsTo_86 3 rfl
theorem dX1_throwsTo_93 : decode cX1_throwsTo 93 = .ok (.invokevirtual 767, 3) := zdec_at bX1_throwsTo_86 4 rfl
theorem dX1_throwsTo_96 : decode cX1_throwsTo 96 = .ok (.aload_n 0, 1) := zdec_at bX1_throwsTo_86 5 rfl
theorem dX1_throwsTo_97 : decode cX1_throwsTo 97 = .ok (.iload_n 3, 1) := zdec_at bX1_throwsTo_86 6 rfl
theorem dX1_throwsTo_98 : decode cX1_throwsTo 98 = .ok (.iconst (-1), 1) := zdec_at bX1_throwsTo_86 7 rfl
theorem dX1_throwsTo_99 : decode cX1_throwsTo 99 = .ok (.if_icmp .ne 27, 3) := zdec_at bX1_throwsTo_86 8 rfl
theorem dX1_throwsTo_102 : decode cX1_throwsTo 102 = .ok (.aload_n 0, 1) := zdec_at bX1_throwsTo_86 9 rfl
theorem dX1_throwsTo_103 : decode cX1_throwsTo 103 = .ok (.getfield 694, 3) := zdec_at bX1_throwsTo_86 10 rfl
theorem dX1_throwsTo_106 : decode cX1_throwsTo 106 = .ok (.iconst 2, 1) := zdec_at bX1_throwsTo_86 11 rfl
theorem dX1_throwsTo_107 : decode cX1_throwsTo 107 = .ok (.aload_n 0, 1) := zdec_at bX1_throwsTo_86 12 rfl
theorem dX1_throwsTo_108 : decode cX1_throwsTo 108 = .ok (.getfield 89, 3) := zdec_at bX1_throwsTo_86 13 rfl
theorem dX1_throwsTo_111 : decode cX1_throwsTo 111 = .ok (.getfield 343, 3) := zdec_at bX1_throwsTo_86 14 rfl
theorem dX1_throwsTo_114 : decode cX1_throwsTo 114 = .ok (.aload_n 0, 1) := zdec_at bX1_throwsTo_86 15 rfl
theorem bX1_throwsTo_115 : zdec cX1_throwsTo 115 [(115, .getfield 713, 3), (118, .baload, 1), (119, .imul, 1), (120, .iadd, 1), (121, .iconst 1, 1), (122, .iadd, 1), (123, .goto 12, 3), (126, .aload_n 0, 1), (127, .getfield 89, 3), (130, .getfield 337, 3), (133, .iload_n 3, 1), (134, .saload, 1), (135, .aload_n 1, 1), (136, .invokevirtual 703, 3), (139, .aload_n 1, 1), (140, .getfield 779, 3)] = true := by decide +kernel
theorem dX1_throwsTo_115 : decode cX1_throwsTo 115 = .ok (.getfield 713, 3) := zdec_at bX1_throwsTo_115 0 rfl
theorem dX1_throwsTo_118 : decode cX1_throwsTo 118 = .ok (.baload, 1) := zdec_at bX1_throwsTo_115 1 rfl
theorem dX1_throwsTo_119 : decode cX1_throwsTo 119 = .ok (.imul, 1) := zdec_at bX1_throwsTo_115 2 rfl
theorem dX1_throwsTo_120 : decode cX1_throwsTo 120 = .ok (.iadd, 1) := zdec_at bX1_throwsTo_115 3 rfl
theorem dX1_throwsTo_121 : decode cX1_throwsTo 121 = .ok (.iconst 1, 1) := zdec_at bX1_throwsTo_115 4 rfl
theorem dX1_throwsTo_122 : decode cX1_throwsTo 122 = .ok (.iadd, 1) := zdec_at bX1_throwsTo_115 5 rfl
theorem dX1_throwsTo_123 : decode cX1_throwsTo 123 = .ok (.goto 12, 3) := zdec_at bX1_throwsTo_115 6 rfl
theorem dX1_throwsTo_126 : decode cX1_throwsTo 126 = .ok (.aload_n 0, 1) := zdec_at bX1_throwsTo_115 7 rfl
theorem dX1_throwsTo_127 : decode cX1_throwsTo 127 = .ok (.getfield 89, 3) := zdec_at bX1_throwsTo_115 8 rfl
theorem dX1_throwsTo_130 : decode cX1_throwsTo 130 = .ok (.getfield 337, 3) := zdec_at bX1_throwsTo_115 9 rfl
theorem dX1_throwsTo_133 : decode cX1_throwsTo 133 = .ok (.iload_n 3, 1) := zdec_at bX1_throwsTo_115 10 rfl
theorem dX1_throwsTo_134 : decode cX1_throwsTo 134 = .ok (.saload, 1) := zdec_at bX1_throwsTo_115 11 rfl
theorem dX1_throwsTo_135 : decode cX1_throwsTo 135 = .ok (.aload_n 1, 1) := zdec_at bX1_throwsTo_115 12 rfl
theorem dX1_throwsTo_136 : decode cX1_throwsTo 136 = .ok (.invokevirtual 703, 3) := zdec_at bX1_throwsTo_115 13 rfl
theorem dX1_throwsTo_139 : decode cX1_throwsTo 139 = .ok (.aload_n 1, 1) := zdec_at bX1_throwsTo_115 14 rfl
theorem dX1_throwsTo_140 : decode cX1_throwsTo 140 = .ok (.getfield 779, 3) := zdec_at bX1_throwsTo_115 15 rfl
theorem bX1_throwsTo_143 : zdec cX1_throwsTo 143 [(143, .iload 11, 2), (145, .lload 5, 2), (147, .lastore, 1), (148, .aload_n 1, 1), (149, .getfield 782, 3), (152, .iload 11, 2), (154, .lload 7, 2), (156, .lastore, 1), (157, .aload_n 1, 1), (158, .getfield 785, 3), (161, .iload 11, 2), (163, .lload 9, 2), (165, .lastore, 1), (166, .aload_n 1, 1), (167, .iload 4, 2), (169, .putfield 726, 3)] = true := by decide +kernel
theorem dX1_throwsTo_143 : decode cX1_throwsTo 143 = .ok (.iload 11, 2) := zdec_at bX1_throwsTo_143 0 rfl
theorem dX1_throwsTo_145 : decode cX1_throwsTo 145 = .ok (.lload 5, 2) := zdec_at bX1_throwsTo_143 1 rfl
theorem dX1_throwsTo_147 : decode cX1_throwsTo 147 = .ok (.lastore, 1) := zdec_at bX1_throwsTo_143 2 rfl
theorem dX1_throwsTo_148 : decode cX1_throwsTo 148 = .ok (.aload_n 1, 1) := zdec_at bX1_throwsTo_143 3 rfl
theorem dX1_throwsTo_149 : decode cX1_throwsTo 149 = .ok (.getfield 782, 3) := zdec_at bX1_throwsTo_143 4 rfl
theorem dX1_throwsTo_152 : decode cX1_throwsTo 152 = .ok (.iload 11, 2) := zdec_at bX1_throwsTo_143 5 rfl
theorem dX1_throwsTo_154 : decode cX1_throwsTo 154 = .ok (.lload 7, 2) := zdec_at bX1_throwsTo_143 6 rfl
theorem dX1_throwsTo_156 : decode cX1_throwsTo 156 = .ok (.lastore, 1) := zdec_at bX1_throwsTo_143 7 rfl
theorem dX1_throwsTo_157 : decode cX1_throwsTo 157 = .ok (.aload_n 1, 1) := zdec_at bX1_throwsTo_143 8 rfl
theorem dX1_throwsTo_158 : decode cX1_throwsTo 158 = .ok (.getfield 785, 3) := zdec_at bX1_throwsTo_143 9 rfl
theorem dX1_throwsTo_161 : decode cX1_throwsTo 161 = .ok (.iload 11, 2) := zdec_at bX1_throwsTo_143 10 rfl
theorem dX1_throwsTo_163 : decode cX1_throwsTo 163 = .ok (.lload 9, 2) := zdec_at bX1_throwsTo_143 11 rfl
theorem dX1_throwsTo_165 : decode cX1_throwsTo 165 = .ok (.lastore, 1) := zdec_at bX1_throwsTo_143 12 rfl
theorem dX1_throwsTo_166 : decode cX1_throwsTo 166 = .ok (.aload_n 1, 1) := zdec_at bX1_throwsTo_143 13 rfl
theorem dX1_throwsTo_167 : decode cX1_throwsTo 167 = .ok (.iload 4, 2) := zdec_at bX1_throwsTo_143 14 rfl
theorem dX1_throwsTo_169 : decode cX1_throwsTo 169 = .ok (.putfield 726, 3) := zdec_at bX1_throwsTo_143 15 rfl
theorem bX1_throwsTo_172 : zdec cX1_throwsTo 172 [(172, .return_, 1)] = true := by decide +kernel
theorem dX1_throwsTo_172 : decode cX1_throwsTo 172 = .ok (.return_, 1) := zdec_at bX1_throwsTo_172 0 rfl
theorem sX1_throwsTo_0 {E : zE} {d : Nat} {Q : zO → zM → Prop} (M : zM) (r1 : Option zP) (r2 : Option zP) (hw : cw M) (k : vp_in (gi M 16 76) 600 ∧ (∃ b1 : Nat, r1 = some (b1, 7, 0) ∧ (if (gi M 32 ((gi M 16 76)).toNatClampNeg) = (-1 : Int32) then (Z E YX1_throwsTo (d + 1) M [(0, vr (some (16, 0, 0))), (1, vr (some (b1, 7, 0))), (2, vr r2), (3, vi (gi M 32 ((gi M 16 76)).toNatClampNeg)), (4, vi (gi M b1 13)), (5, vl (0 : Int64)), (7, vl (0 : Int64)), (9, vl (0 : Int64))] 46 [vi (0 : Int32)] Q) else (vp_in (gi M 32 ((gi M 16 76)).toNatClampNeg) 600 ∧ (Z E YX1_throwsTo (d + 1) M [(0, vr (some (16, 0, 0))), (1, vr (some (b1, 7, 0))), (2, vr r2), (3, vi (gi M 32 ((gi M 16 76)).toNatClampNeg)), (4, vi (gi M b1 13)), (5, vl (0 : Int64)), (7, vl (0 : Int64)), (9, vl (0 : Int64))] 46 [vi (gi M 33 ((gi M 32 ((gi M 16 76)).toNatClampNeg)).toNatClampNeg)] Q))))) : Z E YX1_throwsTo (d + 1) M [(0, vr (some (16, 0, 0))), (1, vr r1), (2, vr r2)] 0 [] Q := by
  refine z_aload_n dX1_throwsTo_0 rfl rfl ?_
  refine z_getr dX1_throwsTo_1 fsX1_89_0 (show gr M 16 9 = some (29, 3, 0) from cw_at hw 5 rfl) ?_
  refine z_getr dX1_throwsTo_4 fsX1_773_3 (show gr M 29 2 = some (32, 102, 600) from cw_at hw 52 rfl) ?_
  refine z_aload_n dX1_throwsTo_7 rfl rfl ?_
  refine z_geti dX1_throwsTo_8 fsX1_713_0 ?_
  obtain ⟨b_, k⟩ := k
  refine z_sald dX1_throwsTo_11 b_ ?_
  refine z_ist_n dX1_throwsTo_12 rfl (by decide) (lv' := [(0, vr (some (16, 0, 0))), (1, vr r1), (2, vr r2), (3, vi (gi M 32 ((gi M 16 76)).toNatClampNeg))]) rfl ?_
  refine z_aload_n dX1_throwsTo_13 rfl rfl ?_
  obtain ⟨b1, e1_, k⟩ := k
  refine Z.eqs (lv' := [(0, vr (some (16, 0, 0))), (1, vr (some (b1, 7, 0))), (2, vr r2), (3, vi (gi M 32 ((gi M 16 76)).toNatClampNeg))]) (st' := [vr (some (b1, 7, 0))]) (by rw [e1_] <;> rfl) (by rw [e1_] <;> rfl) ?_
  refine z_geti dX1_throwsTo_14 fsX1_726_7 ?_
  refine z_ist dX1_throwsTo_17 (by decide) (lv' := [(0, vr (some (16, 0, 0))), (1, vr (some (b1, 7, 0))), (2, vr r2), (3, vi (gi M 32 ((gi M 16 76)).toNatClampNeg)), (4, vi (gi M b1 13))]) rfl ?_
  refine z_lconst (v := 0) dX1_throwsTo_19 rfl ?_
  refine z_lst dX1_throwsTo_20 (by decide) (lv' := [(0, vr (some (16, 0, 0))), (1, vr (some (b1, 7, 0))), (2, vr r2), (3, vi (gi M 32 ((gi M 16 76)).toNatClampNeg)), (4, vi (gi M b1 13)), (5, vl (0 : Int64))]) rfl ?_
  refine z_lconst (v := 0) dX1_throwsTo_22 rfl ?_
  refine z_lst dX1_throwsTo_23 (by decide) (lv' := [(0, vr (some (16, 0, 0))), (1, vr (some (b1, 7, 0))), (2, vr r2), (3, vi (gi M 32 ((gi M 16 76)).toNatClampNeg)), (4, vi (gi M b1 13)), (5, vl (0 : Int64)), (7, vl (0 : Int64))]) rfl ?_
  refine z_lconst (v := 0) dX1_throwsTo_25 rfl ?_
  refine z_lst dX1_throwsTo_26 (by decide) (lv' := [(0, vr (some (16, 0, 0))), (1, vr (some (b1, 7, 0))), (2, vr r2), (3, vi (gi M 32 ((gi M 16 76)).toNatClampNeg)), (4, vi (gi M b1 13)), (5, vl (0 : Int64)), (7, vl (0 : Int64)), (9, vl (0 : Int64))]) rfl ?_
  refine z_iload_n dX1_throwsTo_28 rfl rfl ?_
  refine z_iconst (v := -1) dX1_throwsTo_29 rfl ?_
  refine z_icmp_ne (tgt := 37) dX1_throwsTo_30 rfl (fun h_ => ?_) (fun h_ => ?_)
  · have k := zif h_ k
    refine z_aload_n dX1_throwsTo_37 rfl rfl ?_
    refine z_getr dX1_throwsTo_38 fsX1_89_0 (show gr M 16 9 = some (29, 3, 0) from cw_at hw 5 rfl) ?_
    refine z_getr dX1_throwsTo_41 fsX1_776_3 (show gr M 29 3 = some (33, 102, 600) from cw_at hw 53 rfl) ?_
    refine z_iload_n dX1_throwsTo_44 rfl rfl ?_
    obtain ⟨b_, k⟩ := k
    refine z_sald dX1_throwsTo_45 b_ ?_
    exact k
  · have k := zit h_ k
    refine z_iconst (v := 0) dX1_throwsTo_33 rfl ?_
    refine z_goto (tgt := 46) dX1_throwsTo_34 rfl ?_
    exact k
theorem sX1_throwsTo_46 {E : zE} {d : Nat} {Q : zO → zM → Prop} (M : zM) (a1 : Nat) (r2 : Option zP) (l3 : Int32) (l4 : Int32) (l5 : Int64) (l7 : Int64) (l9 : Int64) (s0 : Int32) (hw : cw M) (k : ∃ b1 m1 : Nat, (gr M a1 10) = some (b1, 105, m1) ∧ (if (Int32.ofNat m1) ≤ s0 then (16 ≤ a1 ∧ (Z E YX43_push d (si M a1 13 s0) (zargs 0 [vr (some (a1, 7, 0)), vr r2]) 0 [] (zafter E YX1_throwsTo (d + 1) [(0, vr (some (16, 0, 0))), (1, vr (some (a1, 7, 0))), (3, vi l3), (4, vi l4), (5, vl l5), (7, vl l7), (9, vl l9), (11, vi s0)] 93 3 [] Q))) else (∃ b2 m2 : Nat, (gr M a1 10) = some (b2, 105, m2) ∧ (vp_in s0 m2 ∧ (∃ b3 m3 : Nat, (gr M a1 11) = some (b3, 105, m3) ∧ (vp_in s0 m3 ∧ (∃ b4 m4 : Nat, (gr M a1 12) = some (b4, 105, m4) ∧ (vp_in s0 m4 ∧ (16 ≤ a1 ∧ (Z E YX43_push d (si M a1 13 s0) (zargs 0 [vr (some (a1, 7, 0)), vr r2]) 0 [] (zafter E YX1_throwsTo (d + 1) [(0, vr (some (16, 0, 0))), (1, vr (some (a1, 7, 0))), (3, vi l3), (4, vi l4), (5, vl (gl M b2 (s0).toNatClampNeg)), (7, vl (gl M b3 (s0).toNatClampNeg)), (9, vl (gl M b4 (s0).toNatClampNeg)), (11, vi s0)] 93 3 [] Q))))))))))) : Z E YX1_throwsTo (d + 1) M [(0, vr (some (16, 0, 0))), (1, vr (some (a1, 7, 0))), (2, vr r2), (3, vi l3), (4, vi l4), (5, vl l5), (7, vl l7), (9, vl l9)] 46 [vi s0] Q := by
  refine z_ist dX1_throwsTo_46 (by decide) (lv' := [(0, vr (some (16, 0, 0))), (1, vr (some (a1, 7, 0))), (2, vr r2), (3, vi l3), (4, vi l4), (5, vl l5), (7, vl l7), (9, vl l9), (11, vi s0)]) rfl ?_
  refine z_aload_n dX1_throwsTo_48 rfl rfl ?_
  refine z_getr (r := (gr M a1 10)) dX1_throwsTo_49 fsX1_779_7 rfl ?_
  obtain ⟨b1, m1, e1_, k⟩ := k
  refine Z.eqs (lv' := [(0, vr (some (16, 0, 0))), (1, vr (some (a1, 7, 0))), (2, vr r2), (3, vi l3), (4, vi l4), (5, vl l5), (7, vl l7), (9, vl l9), (11, vi s0)]) (st' := [vr (some (b1, 105, m1))]) rfl (by rw [e1_] <;> rfl) ?_
  refine z_alen (q := 5) (v := Int32.ofNat m1) dX1_throwsTo_52 rfl ?_
  refine z_iload dX1_throwsTo_53 rfl ?_
  refine z_icmp_le (tgt := 85) dX1_throwsTo_55 rfl (fun h_ => ?_) (fun h_ => ?_)
  · have k := zit h_ k
    refine z_aload_n dX1_throwsTo_85 rfl rfl ?_
    refine z_iload dX1_throwsTo_86 rfl ?_
    obtain ⟨g_, k⟩ := k
    refine z_puti g_ dX1_throwsTo_88 (zfwN.w fwX1_726_7) rfl ⟨rfl, rfl⟩ ?_
    refine z_aload_n dX1_throwsTo_91 rfl rfl ?_
    refine z_aload_n dX1_throwsTo_92 rfl rfl ?_
    refine Z.pick [0, 1, 3, 4, 5, 6, 7, 8] rfl ?_
    exact z_callV (as := [vr r2]) (st := []) dX1_throwsTo_93 vsX1_767_7 (Nat.le_refl _) (Nat.le_of_ble_eq_true rfl) (Nat.le_of_ble_eq_true rfl) rfl k
  · have k := zif h_ k
    refine z_aload_n dX1_throwsTo_58 rfl rfl ?_
    refine z_getr (r := (gr M a1 10)) dX1_throwsTo_59 fsX1_779_7 rfl ?_
    refine z_iload dX1_throwsTo_62 rfl ?_
    obtain ⟨b2, m2, e2_, k⟩ := k
    refine Z.eqs (lv' := [(0, vr (some (16, 0, 0))), (1, vr (some (a1, 7, 0))), (2, vr r2), (3, vi l3), (4, vi l4), (5, vl l5), (7, vl l7), (9, vl l9), (11, vi s0)]) (st' := [vi s0, vr (some (b2, 105, m2))]) rfl (by rw [e2_] <;> rfl) ?_
    obtain ⟨b_, k⟩ := k
    refine z_lald dX1_throwsTo_64 b_ ?_
    refine z_lst dX1_throwsTo_65 (by decide) (lv' := [(0, vr (some (16, 0, 0))), (1, vr (some (a1, 7, 0))), (2, vr r2), (3, vi l3), (4, vi l4), (5, vl (gl M b2 (s0).toNatClampNeg)), (7, vl l7), (9, vl l9), (11, vi s0)]) rfl ?_
    refine z_aload_n dX1_throwsTo_67 rfl rfl ?_
    refine z_getr (r := (gr M a1 11)) dX1_throwsTo_68 fsX1_782_7 rfl ?_
    refine z_iload dX1_throwsTo_71 rfl ?_
    obtain ⟨b3, m3, e3_, k⟩ := k
    refine Z.eqs (lv' := [(0, vr (some (16, 0, 0))), (1, vr (some (a1, 7, 0))), (2, vr r2), (3, vi l3), (4, vi l4), (5, vl (gl M b2 (s0).toNatClampNeg)), (7, vl l7), (9, vl l9), (11, vi s0)]) (st' := [vi s0, vr (some (b3, 105, m3))]) rfl (by rw [e3_] <;> rfl) ?_
    obtain ⟨b_, k⟩ := k
    refine z_lald dX1_throwsTo_73 b_ ?_
    refine z_lst dX1_throwsTo_74 (by decide) (lv' := [(0, vr (some (16, 0, 0))), (1, vr (some (a1, 7, 0))), (2, vr r2), (3, vi l3), (4, vi l4), (5, vl (gl M b2 (s0).toNatClampNeg)), (7, vl (gl M b3 (s0).toNatClampNeg)), (9, vl l9), (11, vi s0)]) rfl ?_
    refine z_aload_n dX1_throwsTo_76 rfl rfl ?_
    refine z_getr (r := (gr M a1 12)) dX1_throwsTo_77 fsX1_785_7 rfl ?_
    refine z_iload dX1_throwsTo_80 rfl ?_
    obtain ⟨b4, m4, e4_, k⟩ := k
    refine Z.eqs (lv' := [(0, vr (some (16, 0, 0))), (1, vr (some (a1, 7, 0))), (2, vr r2), (3, vi l3), (4, vi l4), (5, vl (gl M b2 (s0).toNatClampNeg)), (7, vl (gl M b3 (s0).toNatClampNeg)), (9, vl l9), (11, vi s0)]) (st' := [vi s0, vr (some (b4, 105, m4))]) rfl (by rw [e4_] <;> rfl) ?_
    obtain ⟨b_, k⟩ := k
    refine z_lald dX1_throwsTo_82 b_ ?_
    refine z_lst dX1_throwsTo_83 (by decide) (lv' := [(0, vr (some (16, 0, 0))), (1, vr (some (a1, 7, 0))), (2, vr r2), (3, vi l3), (4, vi l4), (5, vl (gl M b2 (s0).toNatClampNeg)), (7, vl (gl M b3 (s0).toNatClampNeg)), (9, vl (gl M b4 (s0).toNatClampNeg)), (11, vi s0)]) rfl ?_
    refine z_aload_n dX1_throwsTo_85 rfl rfl ?_
    refine z_iload dX1_throwsTo_86 rfl ?_
    obtain ⟨g_, k⟩ := k
    refine z_puti g_ dX1_throwsTo_88 (zfwN.w fwX1_726_7) rfl ⟨rfl, rfl⟩ ?_
    refine z_aload_n dX1_throwsTo_91 rfl rfl ?_
    refine z_aload_n dX1_throwsTo_92 rfl rfl ?_
    refine Z.pick [0, 1, 3, 4, 5, 6, 7, 8] rfl ?_
    exact z_callV (as := [vr r2]) (st := []) dX1_throwsTo_93 vsX1_767_7 (Nat.le_refl _) (Nat.le_of_ble_eq_true rfl) (Nat.le_of_ble_eq_true rfl) rfl k
theorem sX1_throwsTo_96 {E : zE} {d : Nat} {Q : zO → zM → Prop} (M : zM) (a1 : Nat) (l3 : Int32) (l4 : Int32) (l5 : Int64) (l7 : Int64) (l9 : Int64) (l11 : Int32) (hw : cw M) (k : if l3 = (-1 : Int32) then (vp_in (gi M 16 76) 600 ∧ (Z E YX1_goes d M (zargs 0 [vr (some (16, 0, 0)), vi (((gi M 16 75) + ((2 : Int32) * (gi M 35 ((gi M 16 76)).toNatClampNeg))) + (1 : Int32)), vr (some (a1, 7, 0))]) 0 [] (zafter E YX1_throwsTo (d + 1) [(1, vr (some (a1, 7, 0))), (4, vi l4), (5, vl l5), (7, vl l7), (9, vl l9), (11, vi l11)] 136 3 [] Q))) else (vp_in l3 600 ∧ (Z E YX1_goes d M (zargs 0 [vr (some (16, 0, 0)), vi (gi M 31 (l3).toNatClampNeg), vr (some (a1, 7, 0))]) 0 [] (zafter E YX1_throwsTo (d + 1) [(1, vr (some (a1, 7, 0))), (4, vi l4), (5, vl l5), (7, vl l7), (9, vl l9), (11, vi l11)] 136 3 [] Q)))) : Z E YX1_throwsTo (d + 1) M [(0, vr (some (16, 0, 0))), (1, vr (some (a1, 7, 0))), (3, vi l3), (4, vi l4), (5, vl l5), (7, vl l7), (9, vl l9), (11, vi l11)] 96 [] Q := by
  refine z_aload_n dX1_throwsTo_96 rfl rfl ?_
  refine z_iload_n dX1_throwsTo_97 rfl rfl ?_
  refine z_iconst (v := -1) dX1_throwsTo_98 rfl ?_
  refine z_icmp_ne (tgt := 126) dX1_throwsTo_99 rfl (fun h_ => ?_) (fun h_ => ?_)
  · have k := zif h_ k
    refine z_aload_n dX1_throwsTo_126 rfl rfl ?_
    refine z_getr dX1_throwsTo_127 fsX1_89_0 (show gr M 16 9 = some (29, 3, 0) from cw_at hw 5 rfl) ?_
    refine z_getr dX1_throwsTo_130 fsX1_337_3 (show gr M 29 1 = some (31, 102, 600) from cw_at hw 51 rfl) ?_
    refine z_iload_n dX1_throwsTo_133 rfl rfl ?_
    obtain ⟨b_, k⟩ := k
    refine z_sald dX1_throwsTo_134 b_ ?_
    refine z_aload_n dX1_throwsTo_135 rfl rfl ?_
    refine Z.pick [1, 3, 4, 5, 6, 7] rfl ?_
    exact z_callV (as := [vi (gi M 31 (l3).toNatClampNeg), vr (some (a1, 7, 0))]) (st := []) dX1_throwsTo_136 vsX1_703_0 (Nat.le_refl _) (Nat.le_of_ble_eq_true rfl) (Nat.le_of_ble_eq_true rfl) rfl k
  · have k := zit h_ k
    refine z_aload_n dX1_throwsTo_102 rfl rfl ?_
    refine z_geti dX1_throwsTo_103 fsX1_694_0 ?_
    refine z_iconst (v := 2) dX1_throwsTo_106 rfl ?_
    refine z_aload_n dX1_throwsTo_107 rfl rfl ?_
    refine z_getr dX1_throwsTo_108 fsX1_89_0 (show gr M 16 9 = some (29, 3, 0) from cw_at hw 5 rfl) ?_
    refine z_getr dX1_throwsTo_111 fsX1_343_3 (show gr M 29 5 = some (35, 101, 600) from cw_at hw 55 rfl) ?_
    refine z_aload_n dX1_throwsTo_114 rfl rfl ?_
    refine z_geti dX1_throwsTo_115 fsX1_713_0 ?_
    obtain ⟨b_, k⟩ := k
    refine z_bald dX1_throwsTo_118 b_ ?_
    refine z_imul dX1_throwsTo_119 ?_
    refine z_iadd dX1_throwsTo_120 ?_
    refine z_iconst (v := 1) dX1_throwsTo_121 rfl ?_
    refine z_iadd dX1_throwsTo_122 ?_
    refine z_goto (tgt := 135) dX1_throwsTo_123 rfl ?_
    refine z_aload_n dX1_throwsTo_135 rfl rfl ?_
    refine Z.pick [1, 3, 4, 5, 6, 7] rfl ?_
    exact z_callV (as := [vi (((gi M 16 75) + ((2 : Int32) * (gi M 35 ((gi M 16 76)).toNatClampNeg))) + (1 : Int32)), vr (some (a1, 7, 0))]) (st := []) dX1_throwsTo_136 vsX1_703_0 (Nat.le_refl _) (Nat.le_of_ble_eq_true rfl) (Nat.le_of_ble_eq_true rfl) rfl k
theorem sX1_throwsTo_139 {E : zE} {d : Nat} {Q : zO → zM → Prop} (M : zM) (a1 : Nat) (l4 : Int32) (l5 : Int64) (l7 : Int64) (l9 : Int64) (l11 : Int32) (hw : cw M) (k : ∃ b1 m1 : Nat, (gr M a1 10) = some (b1, 105, m1) ∧ (16 ≤ b1 ∧ (vp_in l11 m1 ∧ (∃ b2 m2 : Nat, (gr M a1 11) = some (b2, 105, m2) ∧ (16 ≤ b2 ∧ (vp_in l11 m2 ∧ (∃ b3 m3 : Nat, (gr M a1 12) = some (b3, 105, m3) ∧ (16 ≤ b3 ∧ (vp_in l11 m3 ∧ (16 ≤ a1 ∧ (Q (.inl none) (si (sl (sl (sl M b1 (l11).toNatClampNeg l5) b2 (l11).toNatClampNeg l7) b3 (l11).toNatClampNeg l9) a1 13 l4)))))))))))) : Z E YX1_throwsTo (d + 1) M [(1, vr (some (a1, 7, 0))), (4, vi l4), (5, vl l5), (7, vl l7), (9, vl l9), (11, vi l11)] 139 [] Q := by
  refine z_aload_n dX1_throwsTo_139 rfl rfl ?_
  refine z_getr (r := (gr M a1 10)) dX1_throwsTo_140 fsX1_779_7 rfl ?_
  refine z_iload dX1_throwsTo_143 rfl ?_
  refine z_lload dX1_throwsTo_145 rfl ?_
  obtain ⟨b1, m1, e1_, k⟩ := k
  refine Z.eqs (lv' := [(1, vr (some (a1, 7, 0))), (4, vi l4), (5, vl l5), (7, vl l7), (9, vl l9), (11, vi l11)]) (st' := [vl l5, vi l11, vr (some (b1, 105, m1))]) rfl (by rw [e1_] <;> rfl) ?_
  obtain ⟨g_, k⟩ := k
  obtain ⟨b_, k⟩ := k
  refine z_last g_ dX1_throwsTo_147 b_ ?_
  refine z_aload_n dX1_throwsTo_148 rfl rfl ?_
  refine z_getr (r := (gr M a1 11)) dX1_throwsTo_149 fsX1_782_7 rfl ?_
  refine z_iload dX1_throwsTo_152 rfl ?_
  refine z_lload dX1_throwsTo_154 rfl ?_
  obtain ⟨b2, m2, e2_, k⟩ := k
  refine Z.eqs (lv' := [(1, vr (some (a1, 7, 0))), (4, vi l4), (5, vl l5), (7, vl l7), (9, vl l9), (11, vi l11)]) (st' := [vl l7, vi l11, vr (some (b2, 105, m2))]) rfl (by rw [e2_] <;> rfl) ?_
  obtain ⟨g_, k⟩ := k
  obtain ⟨b_, k⟩ := k
  refine z_last g_ dX1_throwsTo_156 b_ ?_
  refine z_aload_n dX1_throwsTo_157 rfl rfl ?_
  refine z_getr (r := (gr M a1 12)) dX1_throwsTo_158 fsX1_785_7 rfl ?_
  refine z_iload dX1_throwsTo_161 rfl ?_
  refine z_lload dX1_throwsTo_163 rfl ?_
  obtain ⟨b3, m3, e3_, k⟩ := k
  refine Z.eqs (lv' := [(1, vr (some (a1, 7, 0))), (4, vi l4), (5, vl l5), (7, vl l7), (9, vl l9), (11, vi l11)]) (st' := [vl l9, vi l11, vr (some (b3, 105, m3))]) rfl (by rw [e3_] <;> rfl) ?_
  obtain ⟨g_, k⟩ := k
  obtain ⟨b_, k⟩ := k
  refine z_last g_ dX1_throwsTo_165 b_ ?_
  refine z_aload_n dX1_throwsTo_166 rfl rfl ?_
  refine z_iload dX1_throwsTo_167 rfl ?_
  obtain ⟨g_, k⟩ := k
  refine z_puti g_ dX1_throwsTo_169 (zfwN.w fwX1_726_7) rfl ⟨rfl, rfl⟩ ?_
  exact z_vret dX1_throwsTo_172 rfl k
/-! ScriptTypes.function(I)V -/
theorem bX1_function_0 : zdec cX1_function 0 [(0, .aload_n 0, 1), (1, .iload_n 1, 1), (2, .invokevirtual 538, 3), (5, .iconst 2, 1), (6, .iadd, 1), (7, .istore_n 2, 1), (8, .iload_n 2, 1), (9, .iconst 2, 1), (10, .iadd, 1), (11, .istore_n 3, 1), (12, .aload_n 0, 1), (13, .getfield 684, 3), (16, .iload_n 2, 1), (17, .iconst 2, 1), (18, .invokevirtual 922, 3), (21, .aload_n 0, 1)] = true := by decide +kernel
theorem dX1_function_0 : decode cX1_function 0 = .ok (.aload_n 0, 1) := zdec_at bX1_function_0 0 rfl
theorem dX1_function_1 : decode cX1_function 1 = .ok (.iload_n 1, 1) := zdec_at bX1_function_0 1 rfl
theorem dX1_function_2 : decode cX1_function 2 = .ok (.invokevirtual 538, 3) := zdec_at bX1_function_0 2 rfl
theorem dX1_function_5 : decode cX1_function 5 = .ok (.iconst 2, 1) := zdec_at bX1_function_0 3 rfl
theorem dX1_function_6 : decode cX1_function 6 = .ok (.iadd, 1) := zdec_at bX1_function_0 4 rfl
theorem dX1_function_7 : decode cX1_function 7 = .ok (.istore_n 2, 1) := zdec_at bX1_function_0 5 rfl
theorem dX1_function_8 : decode cX1_function 8 = .ok (.iload_n 2, 1) := zdec_at bX1_function_0 6 rfl
theorem dX1_function_9 : decode cX1_function 9 = .ok (.iconst 2, 1) := zdec_at bX1_function_0 7 rfl
theorem dX1_function_10 : decode cX1_function 10 = .ok (.iadd, 1) := zdec_at bX1_function_0 8 rfl
theorem dX1_function_11 : decode cX1_function 11 = .ok (.istore_n 3, 1) := zdec_at bX1_function_0 9 rfl
theorem dX1_function_12 : decode cX1_function 12 = .ok (.aload_n 0, 1) := zdec_at bX1_function_0 10 rfl
theorem dX1_function_13 : decode cX1_function 13 = .ok (.getfield 684, 3) := zdec_at bX1_function_0 11 rfl
theorem dX1_function_16 : decode cX1_function 16 = .ok (.iload_n 2, 1) := zdec_at bX1_function_0 12 rfl
theorem dX1_function_17 : decode cX1_function 17 = .ok (.iconst 2, 1) := zdec_at bX1_function_0 13 rfl
theorem dX1_function_18 : decode cX1_function 18 = .ok (.invokevirtual 922, 3) := zdec_at bX1_function_0 14 rfl
theorem dX1_function_21 : decode cX1_function 21 = .ok (.aload_n 0, 1) := zdec_at bX1_function_0 15 rfl
theorem bX1_function_22 : zdec cX1_function 22 [(22, .getfield 684, 3), (25, .iload_n 3, 1), (26, .iconst 1, 1), (27, .invokevirtual 922, 3), (30, .aload_n 0, 1), (31, .getfield 684, 3), (34, .getfield 982, 3), (37, .iload_n 2, 1), (38, .aload_n 0, 1), (39, .getfield 684, 3), (42, .getfield 754, 3), (45, .lastore, 1), (46, .aload_n 0, 1), (47, .getfield 684, 3), (50, .getfield 985, 3), (53, .iload_n 2, 1)] = true := by decide +kernel
theorem dX1_function_22 : decode cX1_function 22 = .ok (.getfield 684, 3) := zdec_at bX1_function_22 0 rfl
theorem dX1_function_25 : decode cX1_function 25 = .ok (.iload_n 3, 1) := zdec_at bX1_function_22 1 rfl
theorem dX1_function_26 : decode cX1_function 26 = .ok (.iconst 1, 1) := zdec_at bX1_function_22 2 rfl
theorem dX1_function_27 : decode cX1_function 27 = .ok (.invokevirtual 922, 3) := zdec_at bX1_function_22 3 rfl
theorem dX1_function_30 : decode cX1_function 30 = .ok (.aload_n 0, 1) := zdec_at bX1_function_22 4 rfl
theorem dX1_function_31 : decode cX1_function 31 = .ok (.getfield 684, 3) := zdec_at bX1_function_22 5 rfl
theorem dX1_function_34 : decode cX1_function 34 = .ok (.getfield 982, 3) := zdec_at bX1_function_22 6 rfl
theorem dX1_function_37 : decode cX1_function 37 = .ok (.iload_n 2, 1) := zdec_at bX1_function_22 7 rfl
theorem dX1_function_38 : decode cX1_function 38 = .ok (.aload_n 0, 1) := zdec_at bX1_function_22 8 rfl
theorem dX1_function_39 : decode cX1_function 39 = .ok (.getfield 684, 3) := zdec_at bX1_function_22 9 rfl
theorem dX1_function_42 : decode cX1_function 42 = .ok (.getfield 754, 3) := zdec_at bX1_function_22 10 rfl
theorem dX1_function_45 : decode cX1_function 45 = .ok (.lastore, 1) := zdec_at bX1_function_22 11 rfl
theorem dX1_function_46 : decode cX1_function 46 = .ok (.aload_n 0, 1) := zdec_at bX1_function_22 12 rfl
theorem dX1_function_47 : decode cX1_function 47 = .ok (.getfield 684, 3) := zdec_at bX1_function_22 13 rfl
theorem dX1_function_50 : decode cX1_function 50 = .ok (.getfield 985, 3) := zdec_at bX1_function_22 14 rfl
theorem dX1_function_53 : decode cX1_function 53 = .ok (.iload_n 2, 1) := zdec_at bX1_function_22 15 rfl
theorem bX1_function_54 : zdec cX1_function 54 [(54, .aload_n 0, 1), (55, .getfield 684, 3), (58, .getfield 757, 3), (61, .lastore, 1), (62, .aload_n 0, 1), (63, .iload_n 2, 1), (64, .iconst 1, 1), (65, .iload_n 3, 1), (66, .invokevirtual 738, 3), (69, .aload_n 0, 1), (70, .iload_n 3, 1), (71, .iconst 2, 1), (72, .iload_n 2, 1), (73, .invokevirtual 738, 3), (76, .aload_n 0, 1), (77, .aload_n 0, 1)] = true := by decide +kernel
theorem dX1_function_54 : decode cX1_function 54 = .ok (.aload_n 0, 1) := zdec_at bX1_function_54 0 rfl
theorem dX1_function_55 : decode cX1_function 55 = .ok (.getfield 684, 3) := zdec_at bX1_function_54 1 rfl
theorem dX1_function_58 : decode cX1_function 58 = .ok (.getfield 757, 3) := zdec_at bX1_function_54 2 rfl
theorem dX1_function_61 : decode cX1_function 61 = .ok (.lastore, 1) := zdec_at bX1_function_54 3 rfl
theorem dX1_function_62 : decode cX1_function 62 = .ok (.aload_n 0, 1) := zdec_at bX1_function_54 4 rfl
theorem dX1_function_63 : decode cX1_function 63 = .ok (.iload_n 2, 1) := zdec_at bX1_function_54 5 rfl
theorem dX1_function_64 : decode cX1_function 64 = .ok (.iconst 1, 1) := zdec_at bX1_function_54 6 rfl
theorem dX1_function_65 : decode cX1_function 65 = .ok (.iload_n 3, 1) := zdec_at bX1_function_54 7 rfl
theorem dX1_function_66 : decode cX1_function 66 = .ok (.invokevirtual 738, 3) := zdec_at bX1_function_54 8 rfl
theorem dX1_function_69 : decode cX1_function 69 = .ok (.aload_n 0, 1) := zdec_at bX1_function_54 9 rfl
theorem dX1_function_70 : decode cX1_function 70 = .ok (.iload_n 3, 1) := zdec_at bX1_function_54 10 rfl
theorem dX1_function_71 : decode cX1_function 71 = .ok (.iconst 2, 1) := zdec_at bX1_function_54 11 rfl
theorem dX1_function_72 : decode cX1_function 72 = .ok (.iload_n 2, 1) := zdec_at bX1_function_54 12 rfl
theorem dX1_function_73 : decode cX1_function 73 = .ok (.invokevirtual 738, 3) := zdec_at bX1_function_54 13 rfl
theorem dX1_function_76 : decode cX1_function 76 = .ok (.aload_n 0, 1) := zdec_at bX1_function_54 14 rfl
theorem dX1_function_77 : decode cX1_function 77 = .ok (.aload_n 0, 1) := zdec_at bX1_function_54 15 rfl
theorem bX1_function_78 : zdec cX1_function 78 [(78, .getfield 206, 3), (81, .invokevirtual 796, 3), (84, .iload_n 2, 1), (85, .invokevirtual 800, 3), (88, .invokevirtual 895, 3), (91, .return_, 1)] = true := by decide +kernel
theorem dX1_function_78 : decode cX1_function 78 = .ok (.getfield 206, 3) := zdec_at bX1_function_78 0 rfl
theorem dX1_function_81 : decode cX1_function 81 = .ok (.invokevirtual 796, 3) := zdec_at bX1_function_78 1 rfl
theorem dX1_function_84 : decode cX1_function 84 = .ok (.iload_n 2, 1) := zdec_at bX1_function_78 2 rfl
theorem dX1_function_85 : decode cX1_function 85 = .ok (.invokevirtual 800, 3) := zdec_at bX1_function_78 3 rfl
theorem dX1_function_88 : decode cX1_function 88 = .ok (.invokevirtual 895, 3) := zdec_at bX1_function_78 4 rfl
theorem dX1_function_91 : decode cX1_function 91 = .ok (.return_, 1) := zdec_at bX1_function_78 5 rfl
theorem sX1_function_0 {E : zE} {d : Nat} {Q : zO → zM → Prop} (M : zM) (l1 : Int32) (hw : cw M) (k : Z E YX1_scopePair d M (zargs 0 [vr (some (16, 0, 0)), vi l1]) 0 [] (zafter E YX1_function (d + 1) [(0, vr (some (16, 0, 0)))] 2 3 [] Q)) : Z E YX1_function (d + 1) M [(0, vr (some (16, 0, 0))), (1, vi l1)] 0 [] Q := by
  refine z_aload_n dX1_function_0 rfl rfl ?_
  refine z_iload_n dX1_function_1 rfl rfl ?_
  refine Z.pick [0] rfl ?_
  exact z_callV (as := [vi l1]) (st := []) dX1_function_2 vsX1_538_0 (Nat.le_refl _) (Nat.le_of_ble_eq_true rfl) (Nat.le_of_ble_eq_true rfl) rfl k
theorem sX1_function_5 {E : zE} {d : Nat} {Q : zO → zM → Prop} (M : zM) (s0 : Int32) (hw : cw M) (k : ∃ b1 : Nat, (gr M 16 60) = some (b1, 7, 0) ∧ (Z E YX43_make d M (zargs 0 [vr (some (b1, 7, 0)), vi (s0 + (2 : Int32)), vi (2 : Int32)]) 0 [] (zafter E YX1_function (d + 1) [(0, vr (some (16, 0, 0))), (2, vi (s0 + (2 : Int32))), (3, vi ((s0 + (2 : Int32)) + (2 : Int32)))] 18 3 [] Q))) : Z E YX1_function (d + 1) M [(0, vr (some (16, 0, 0)))] 5 [vi s0] Q := by
  refine z_iconst (v := 2) dX1_function_5 rfl ?_
  refine z_iadd dX1_function_6 ?_
  refine z_ist_n dX1_function_7 rfl (by decide) (lv' := [(0, vr (some (16, 0, 0))), (2, vi (s0 + (2 : Int32)))]) rfl ?_
  refine z_iload_n dX1_function_8 rfl rfl ?_
  refine z_iconst (v := 2) dX1_function_9 rfl ?_
  refine z_iadd dX1_function_10 ?_
  refine z_ist_n dX1_function_11 rfl (by decide) (lv' := [(0, vr (some (16, 0, 0))), (2, vi (s0 + (2 : Int32))), (3, vi ((s0 + (2 : Int32)) + (2 : Int32)))]) rfl ?_
  refine z_aload_n dX1_function_12 rfl rfl ?_
  refine z_getr (r := (gr M 16 60)) dX1_function_13 fsX1_684_0 rfl ?_
  refine z_iload_n dX1_function_16 rfl rfl ?_
  refine z_iconst (v := 2) dX1_function_17 rfl ?_
  obtain ⟨b1, e1_, k⟩ := k
  refine Z.eqs (lv' := [(0, vr (some (16, 0, 0))), (2, vi (s0 + (2 : Int32))), (3, vi ((s0 + (2 : Int32)) + (2 : Int32)))]) (st' := [vi (2 : Int32), vi (s0 + (2 : Int32)), vr (some (b1, 7, 0))]) rfl (by rw [e1_] <;> rfl) ?_
  exact z_callV (as := [vi (s0 + (2 : Int32)), vi (2 : Int32)]) (st := []) dX1_function_18 vsX1_922_7 (Nat.le_refl _) (Nat.le_of_ble_eq_true rfl) (Nat.le_of_ble_eq_true rfl) rfl k
theorem sX1_function_21 {E : zE} {d : Nat} {Q : zO → zM → Prop} (M : zM) (l2 : Int32) (l3 : Int32) (hw : cw M) (k : ∃ b1 : Nat, (gr M 16 60) = some (b1, 7, 0) ∧ (Z E YX43_make d M (zargs 0 [vr (some (b1, 7, 0)), vi l3, vi (1 : Int32)]) 0 [] (zafter E YX1_function (d + 1) [(0, vr (some (16, 0, 0))), (2, vi l2), (3, vi l3)] 27 3 [] Q))) : Z E YX1_function (d + 1) M [(0, vr (some (16, 0, 0))), (2, vi l2), (3, vi l3)] 21 [] Q := by
  refine z_aload_n dX1_function_21 rfl rfl ?_
  refine z_getr (r := (gr M 16 60)) dX1_function_22 fsX1_684_0 rfl ?_
  refine z_iload_n dX1_function_25 rfl rfl ?_
  refine z_iconst (v := 1) dX1_function_26 rfl ?_
  obtain ⟨b1, e1_, k⟩ := k
  refine Z.eqs (lv' := [(0, vr (some (16, 0, 0))), (2, vi l2), (3, vi l3)]) (st' := [vi (1 : Int32), vi l3, vr (some (b1, 7, 0))]) rfl (by rw [e1_] <;> rfl) ?_
  exact z_callV (as := [vi l3, vi (1 : Int32)]) (st := []) dX1_function_27 vsX1_922_7 (Nat.le_refl _) (Nat.le_of_ble_eq_true rfl) (Nat.le_of_ble_eq_true rfl) rfl k
theorem sX1_function_30 {E : zE} {d : Nat} {Q : zO → zM → Prop} (M : zM) (l2 : Int32) (l3 : Int32) (hw : cw M) (k : ∃ b1 : Nat, (gr M 16 60) = some (b1, 7, 0) ∧ (∃ b2 : Nat, (gr M 16 60) = some (b2, 7, 0) ∧ (∃ b3 m3 : Nat, (gr M b1 6) = some (b3, 105, m3) ∧ (16 ≤ b3 ∧ (vp_in l2 m3 ∧ (∃ b4 : Nat, (gr M 16 60) = some (b4, 7, 0) ∧ (∃ b5 : Nat, (gr M 16 60) = some (b5, 7, 0) ∧ (∃ b6 m6 : Nat, (gr M b4 7) = some (b6, 105, m6) ∧ (16 ≤ b6 ∧ (vp_in l2 m6 ∧ (Z E YX1_thing d (sl (sl M b3 (l2).toNatClampNeg (gl M b2 17)) b6 (l2).toNatClampNeg (gl (sl M b3 (l2).toNatClampNeg (gl M b2 17)) b5 18)) (zargs 0 [vr (some (16, 0, 0)), vi l2, vi (1 : Int32), vi l3]) 0 [] (zafter E YX1_function (d + 1) [(0, vr (some (16, 0, 0))), (2, vi l2), (3, vi l3)] 66 3 [] Q)))))))))))) : Z E YX1_function (d + 1) M [(0, vr (some (16, 0, 0))), (2, vi l2), (3, vi l3)] 30 [] Q := by
  refine z_aload_n dX1_function_30 rfl rfl ?_
  refine z_getr (r := (gr M 16 60)) dX1_function_31 fsX1_684_0 rfl ?_
  obtain ⟨b1, e1_, k⟩ := k
  refine Z.eqs (lv' := [(0, vr (some (16, 0, 0))), (2, vi l2), (3, vi l3)]) (st' := [vr (some (b1, 7, 0))]) rfl (by rw [e1_] <;> rfl) ?_
  refine z_getr (r := (gr M b1 6)) dX1_function_34 fsX1_982_7 rfl ?_
  refine z_iload_n dX1_function_37 rfl rfl ?_
  refine z_aload_n dX1_function_38 rfl rfl ?_
  refine z_getr (r := (gr M 16 60)) dX1_function_39 fsX1_684_0 rfl ?_
  obtain ⟨b2, e2_, k⟩ := k
  refine Z.eqs (lv' := [(0, vr (some (16, 0, 0))), (2, vi l2), (3, vi l3)]) (st' := [vr (some (b2, 7, 0)), vi l2, vr (gr M b1 6)]) rfl (by rw [e2_] <;> rfl) ?_
  refine z_getl dX1_function_42 fsX1_754_7 ?_
  obtain ⟨b3, m3, e3_, k⟩ := k
  refine Z.eqs (lv' := [(0, vr (some (16, 0, 0))), (2, vi l2), (3, vi l3)]) (st' := [vl (gl M b2 17), vi l2, vr (some (b3, 105, m3))]) rfl (by rw [e3_] <;> rfl) ?_
  obtain ⟨g_, k⟩ := k
  obtain ⟨b_, k⟩ := k
  refine z_last g_ dX1_function_45 b_ ?_
  refine z_aload_n dX1_function_46 rfl rfl ?_
  refine z_getr (r := (gr M 16 60)) dX1_function_47 fsX1_684_0 rfl ?_
  obtain ⟨b4, e4_, k⟩ := k
  refine Z.eqs (lv' := [(0, vr (some (16, 0, 0))), (2, vi l2), (3, vi l3)]) (st' := [vr (some (b4, 7, 0))]) rfl (by rw [e4_] <;> rfl) ?_
  refine z_getr (r := (gr M b4 7)) dX1_function_50 fsX1_985_7 rfl ?_
  refine z_iload_n dX1_function_53 rfl rfl ?_
  refine z_aload_n dX1_function_54 rfl rfl ?_
  refine z_getr (r := (gr M 16 60)) dX1_function_55 fsX1_684_0 rfl ?_
  obtain ⟨b5, e5_, k⟩ := k
  refine Z.eqs (lv' := [(0, vr (some (16, 0, 0))), (2, vi l2), (3, vi l3)]) (st' := [vr (some (b5, 7, 0)), vi l2, vr (gr M b4 7)]) rfl (by rw [e5_] <;> rfl) ?_
  refine z_getl dX1_function_58 fsX1_757_7 ?_
  obtain ⟨b6, m6, e6_, k⟩ := k
  refine Z.eqs (lv' := [(0, vr (some (16, 0, 0))), (2, vi l2), (3, vi l3)]) (st' := [vl (gl (sl M b3 (l2).toNatClampNeg (gl M b2 17)) b5 18), vi l2, vr (some (b6, 105, m6))]) rfl (by rw [e6_] <;> rfl) ?_
  obtain ⟨g_, k⟩ := k
  obtain ⟨b_, k⟩ := k
  refine z_last g_ dX1_function_61 b_ ?_
  refine z_aload_n dX1_function_62 rfl rfl ?_
  refine z_iload_n dX1_function_63 rfl rfl ?_
  refine z_iconst (v := 1) dX1_function_64 rfl ?_
  refine z_iload_n dX1_function_65 rfl rfl ?_
  exact z_callV (as := [vi l2, vi (1 : Int32), vi l3]) (st := []) dX1_function_66 vsX1_738_0 (Nat.le_refl _) (Nat.le_of_ble_eq_true rfl) (Nat.le_of_ble_eq_true rfl) rfl k
theorem sX1_function_69 {E : zE} {d : Nat} {Q : zO → zM → Prop} (M : zM) (l2 : Int32) (l3 : Int32) (hw : cw M) (k : Z E YX1_thing d M (zargs 0 [vr (some (16, 0, 0)), vi l3, vi (2 : Int32), vi l2]) 0 [] (zafter E YX1_function (d + 1) [(0, vr (some (16, 0, 0))), (2, vi l2)] 73 3 [] Q)) : Z E YX1_function (d + 1) M [(0, vr (some (16, 0, 0))), (2, vi l2), (3, vi l3)] 69 [] Q := by
  refine z_aload_n dX1_function_69 rfl rfl ?_
  refine z_iload_n dX1_function_70 rfl rfl ?_
  refine z_iconst (v := 2) dX1_function_71 rfl ?_
  refine z_iload_n dX1_function_72 rfl rfl ?_
  refine Z.pick [0, 1] rfl ?_
  exact z_callV (as := [vi l3, vi (2 : Int32), vi l2]) (st := []) dX1_function_73 vsX1_738_0 (Nat.le_refl _) (Nat.le_of_ble_eq_true rfl) (Nat.le_of_ble_eq_true rfl) rfl k
theorem sX1_function_76 {E : zE} {d : Nat} {Q : zO → zM → Prop} (M : zM) (l2 : Int32) (hw : cw M) (k : Z E YX6_empty d M (zargs 0 [vr (some (71, 4, 0))]) 0 [] (zafter E YX1_function (d + 1) [(2, vi l2)] 81 3 [vr (some (16, 0, 0))] Q)) : Z E YX1_function (d + 1) M [(0, vr (some (16, 0, 0))), (2, vi l2)] 76 [] Q := by
  refine z_aload_n dX1_function_76 rfl rfl ?_
  refine z_aload_n dX1_function_77 rfl rfl ?_
  refine z_getr dX1_function_78 fsX1_206_0 (show gr M 16 78 = some (71, 4, 0) from cw_at hw 39 rfl) ?_
  refine Z.pick [1] rfl ?_
  exact z_callV (as := []) (st := [vr (some (16, 0, 0))]) dX1_function_81 vsX1_796_4 (Nat.le_refl _) (Nat.le_of_ble_eq_true rfl) (Nat.le_of_ble_eq_true rfl) rfl k
theorem sX1_function_84 {E : zE} {d : Nat} {Q : zO → zM → Prop} (M : zM) (l2 : Int32) (u0 : Option zP) (hw : cw M) (k : ∃ b1 : Nat, u0 = some (b1, 4, 0) ∧ (Z E YX6_add d M (zargs 0 [vr (some (b1, 4, 0)), vi l2]) 0 [] (zafter E YX1_function (d + 1) [] 85 3 [vr (some (16, 0, 0))] Q))) : Z E YX1_function (d + 1) M [(2, vi l2)] 84 [vr u0, vr (some (16, 0, 0))] Q := by
  refine z_iload_n dX1_function_84 rfl rfl ?_
  obtain ⟨b1, e1_, k⟩ := k
  refine Z.eqs (lv' := [(2, vi l2)]) (st' := [vi l2, vr (some (b1, 4, 0)), vr (some (16, 0, 0))]) rfl (by rw [e1_] <;> rfl) ?_
  refine Z.pick [] rfl ?_
  exact z_callV (as := [vi l2]) (st := [vr (some (16, 0, 0))]) dX1_function_85 vsX1_800_4 (Nat.le_refl _) (Nat.le_of_ble_eq_true rfl) (Nat.le_of_ble_eq_true rfl) rfl k
theorem sX1_function_88 {E : zE} {d : Nat} {Q : zO → zM → Prop} (M : zM) (u0 : Option zP) (hw : cw M) (k : Z E YX1_nextWith d M (zargs 0 [vr (some (16, 0, 0)), vr u0]) 0 [] (zafter E YX1_function (d + 1) [] 88 3 [] Q)) : Z E YX1_function (d + 1) M [] 88 [vr u0, vr (some (16, 0, 0))] Q := by
  exact z_callV (as := [vr u0]) (st := []) dX1_function_88 vsX1_895_0 (Nat.le_refl _) (Nat.le_of_ble_eq_true rfl) (Nat.le_of_ble_eq_true rfl) rfl k
theorem sX1_function_91 {E : zE} {d : Nat} {Q : zO → zM → Prop} (M : zM)  (hw : cw M) (k : Q (.inl none) M) : Z E YX1_function (d + 1) M [] 91 [] Q := by
  exact z_vret dX1_function_91 rfl k
/-! ScriptTypes.gets()V -/
theorem bX1_gets_0 : zdec cX1_gets 0 [(0, .aload_n 0, 1), (1, .getfield 684, 3), (4, .aload_n 0, 1), (5, .getfield 210, 3), (8, .invokevirtual 937, 3), (11, .pop, 1), (12, .aload_n 0, 1), (13, .getfield 684, 3), (16, .aload_n 0, 1), (17, .getfield 206, 3), (20, .invokevirtual 937, 3), (23, .pop, 1), (24, .aload_n 0, 1), (25, .getfield 206, 3), (28, .iconst 3, 1), (29, .invokevirtual 831, 3)] = true := by decide +kernel
theorem dX1_gets_0 : decode cX1_gets 0 = .ok (.aload_n 0, 1) := zdec_at bX1_gets_0 0 rfl
theorem dX1_gets_1 : decode cX1_gets 1 = .ok (.getfield 684, 3) := zdec_at bX1_gets_0 1 rfl
theorem dX1_gets_4 : decode cX1_gets 4 = .ok (.aload_n 0, 1) := zdec_at bX1_gets_0 2 rfl
theorem dX1_gets_5 : decode cX1_gets 5 = .ok (.getfield 210, 3) := zdec_at bX1_gets_0 3 rfl
theorem dX1_gets_8 : decode cX1_gets 8 = .ok (.invokevirtual 937, 3) := zdec_at bX1_gets_0 4 rfl
theorem dX1_gets_11 : decode cX1_gets 11 = .ok (.pop, 1) := zdec_at bX1_gets_0 5 rfl
theorem dX1_gets_12 : decode cX1_gets 12 = .ok (.aload_n 0, 1) := zdec_at bX1_gets_0 6 rfl
theorem dX1_gets_13 : decode cX1_gets 13 = .ok (.getfield 684, 3) := zdec_at bX1_gets_0 7 rfl
theorem dX1_gets_16 : decode cX1_gets 16 = .ok (.aload_n 0, 1) := zdec_at bX1_gets_0 8 rfl
theorem dX1_gets_17 : decode cX1_gets 17 = .ok (.getfield 206, 3) := zdec_at bX1_gets_0 9 rfl
theorem dX1_gets_20 : decode cX1_gets 20 = .ok (.invokevirtual 937, 3) := zdec_at bX1_gets_0 10 rfl
theorem dX1_gets_23 : decode cX1_gets 23 = .ok (.pop, 1) := zdec_at bX1_gets_0 11 rfl
theorem dX1_gets_24 : decode cX1_gets 24 = .ok (.aload_n 0, 1) := zdec_at bX1_gets_0 12 rfl
theorem dX1_gets_25 : decode cX1_gets 25 = .ok (.getfield 206, 3) := zdec_at bX1_gets_0 13 rfl
theorem dX1_gets_28 : decode cX1_gets 28 = .ok (.iconst 3, 1) := zdec_at bX1_gets_0 14 rfl
theorem dX1_gets_29 : decode cX1_gets 29 = .ok (.invokevirtual 831, 3) := zdec_at bX1_gets_0 15 rfl
theorem bX1_gets_32 : zdec cX1_gets 32 [(32, .ifCond .eq 12, 3), (35, .aload_n 0, 1), (36, .aload_n 0, 1), (37, .getfield 684, 3), (40, .iconst 0, 1), (41, .invokevirtual 960, 3), (44, .aload_n 0, 1), (45, .getfield 216, 3), (48, .invokevirtual 796, 3), (51, .pop, 1), (52, .aload_n 0, 1), (53, .getfield 206, 3), (56, .bipush 124, 2), (58, .invokevirtual 831, 3), (61, .ifCond .eq 14, 3), (64, .aload_n 0, 1)] = true := by decide +kernel
theorem dX1_gets_32 : decode cX1_gets 32 = .ok (.ifCond .eq 12, 3) := zdec_at bX1_gets_32 0 rfl
theorem dX1_gets_35 : decode cX1_gets 35 = .ok (.aload_n 0, 1) := zdec_at bX1_gets_32 1 rfl
theorem dX1_gets_36 : decode cX1_gets 36 = .ok (.aload_n 0, 1) := zdec_at bX1_gets_32 2 rfl
theorem dX1_gets_37 : decode cX1_gets 37 = .ok (.getfield 684, 3) := zdec_at bX1_gets_32 3 rfl
theorem dX1_gets_40 : decode cX1_gets 40 = .ok (.iconst 0, 1) := zdec_at bX1_gets_32 4 rfl
theorem dX1_gets_41 : decode cX1_gets 41 = .ok (.invokevirtual 960, 3) := zdec_at bX1_gets_32 5 rfl
theorem dX1_gets_44 : decode cX1_gets 44 = .ok (.aload_n 0, 1) := zdec_at bX1_gets_32 6 rfl
theorem dX1_gets_45 : decode cX1_gets 45 = .ok (.getfield 216, 3) := zdec_at bX1_gets_32 7 rfl
theorem dX1_gets_48 : decode cX1_gets 48 = .ok (.invokevirtual 796, 3) := zdec_at bX1_gets_32 8 rfl
theorem dX1_gets_51 : decode cX1_gets 51 = .ok (.pop, 1) := zdec_at bX1_gets_32 9 rfl
theorem dX1_gets_52 : decode cX1_gets 52 = .ok (.aload_n 0, 1) := zdec_at bX1_gets_32 10 rfl
theorem dX1_gets_53 : decode cX1_gets 53 = .ok (.getfield 206, 3) := zdec_at bX1_gets_32 11 rfl
theorem dX1_gets_56 : decode cX1_gets 56 = .ok (.bipush 124, 2) := zdec_at bX1_gets_32 12 rfl
theorem dX1_gets_58 : decode cX1_gets 58 = .ok (.invokevirtual 831, 3) := zdec_at bX1_gets_32 13 rfl
theorem dX1_gets_61 : decode cX1_gets 61 = .ok (.ifCond .eq 14, 3) := zdec_at bX1_gets_32 14 rfl
theorem dX1_gets_64 : decode cX1_gets 64 = .ok (.aload_n 0, 1) := zdec_at bX1_gets_32 15 rfl
theorem bX1_gets_65 : zdec cX1_gets 65 [(65, .getfield 216, 3), (68, .lconst 0, 1), (69, .lconst 0, 1), (70, .lconst 1, 1), (71, .invokevirtual 871, 3), (74, .pop, 1), (75, .aload_n 0, 1), (76, .aload_n 0, 1), (77, .getfield 210, 3), (80, .invokevirtual 883, 3), (83, .aload_n 0, 1), (84, .getfield 206, 3), (87, .sipush 384, 3), (90, .invokevirtual 831, 3), (93, .ifCond .eq 112, 3), (96, .aload_n 0, 1)] = true := by decide +kernel
theorem dX1_gets_65 : decode cX1_gets 65 = .ok (.getfield 216, 3) := zdec_at bX1_gets_65 0 rfl
theorem dX1_gets_68 : decode cX1_gets 68 = .ok (.lconst 0, 1) := zdec_at bX1_gets_65 1 rfl
theorem dX1_gets_69 : decode cX1_gets 69 = .ok (.lconst 0, 1) := zdec_at bX1_gets_65 2 rfl
theorem dX1_gets_70 : decode cX1_gets 70 = .ok (.lconst 1, 1) := zdec_at bX1_gets_65 3 rfl
theorem dX1_gets_71 : decode cX1_gets 71 = .ok (.invokevirtual 871, 3) := zdec_at bX1_gets_65 4 rfl
theorem dX1_gets_74 : decode cX1_gets 74 = .ok (.pop, 1) := zdec_at bX1_gets_65 5 rfl
theorem dX1_gets_75 : decode cX1_gets 75 = .ok (.aload_n 0, 1) := zdec_at bX1_gets_65 6 rfl
theorem dX1_gets_76 : decode cX1_gets 76 = .ok (.aload_n 0, 1) := zdec_at bX1_gets_65 7 rfl
theorem dX1_gets_77 : decode cX1_gets 77 = .ok (.getfield 210, 3) := zdec_at bX1_gets_65 8 rfl
theorem dX1_gets_80 : decode cX1_gets 80 = .ok (.invokevirtual 883, 3) := zdec_at bX1_gets_65 9 rfl
theorem dX1_gets_83 : decode cX1_gets 83 = .ok (.aload_n 0, 1) := zdec_at bX1_gets_65 10 rfl
theorem dX1_gets_84 : decode cX1_gets 84 = .ok (.getfield 206, 3) := zdec_at bX1_gets_65 11 rfl
theorem dX1_gets_87 : decode cX1_gets 87 = .ok (.sipush 384, 3) := zdec_at bX1_gets_65 12 rfl
theorem dX1_gets_90 : decode cX1_gets 90 = .ok (.invokevirtual 831, 3) := zdec_at bX1_gets_65 13 rfl
theorem dX1_gets_93 : decode cX1_gets 93 = .ok (.ifCond .eq 112, 3) := zdec_at bX1_gets_65 14 rfl
theorem dX1_gets_96 : decode cX1_gets 96 = .ok (.aload_n 0, 1) := zdec_at bX1_gets_65 15 rfl
theorem bX1_gets_97 : zdec cX1_gets 97 [(97, .iconst 0, 1), (98, .invokevirtual 856, 3), (101, .istore_n 1, 1), (102, .iload_n 1, 1), (103, .ifCond .eq 46, 3), (106, .aload_n 0, 1), (107, .getfield 216, 3), (110, .lconst 0, 1), (111, .lconst 0, 1), (112, .aload_n 0, 1), (113, .getfield 206, 3), (116, .invokevirtual 1006, 3), (119, .ifCond .eq 23, 3), (122, .aload_n 0, 1), (123, .getfield 19, 3), (126, .aload_n 0, 1)] = true := by decide +kernel
theorem dX1_gets_97 : decode cX1_gets 97 = .ok (.iconst 0, 1) := zdec_at bX1_gets_97 0 rfl
theorem dX1_gets_98 : decode cX1_gets 98 = .ok (.invokevirtual 856, 3) := zdec_at bX1_gets_97 1 rfl
theorem dX1_gets_101 : decode cX1_gets 101 = .ok (.istore_n 1, 1) := zdec_at bX1_gets_97 2 rfl
theorem dX1_gets_102 : decode cX1_gets 102 = .ok (.iload_n 1, 1) := zdec_at bX1_gets_97 3 rfl
theorem dX1_gets_103 : decode cX1_gets 103 = .ok (.ifCond .eq 46, 3) := zdec_at bX1_gets_97 4 rfl
theorem dX1_gets_106 : decode cX1_gets 106 = .ok (.aload_n 0, 1) := zdec_at bX1_gets_97 5 rfl
theorem dX1_gets_107 : decode cX1_gets 107 = .ok (.getfield 216, 3) := zdec_at bX1_gets_97 6 rfl
theorem dX1_gets_110 : decode cX1_gets 110 = .ok (.lconst 0, 1) := zdec_at bX1_gets_97 7 rfl
theorem dX1_gets_111 : decode cX1_gets 111 = .ok (.lconst 0, 1) := zdec_at bX1_gets_97 8 rfl
theorem dX1_gets_112 : decode cX1_gets 112 = .ok (.aload_n 0, 1) := zdec_at bX1_gets_97 9 rfl
theorem dX1_gets_113 : decode cX1_gets 113 = .ok (.getfield 206, 3) := zdec_at bX1_gets_97 10 rfl
theorem dX1_gets_116 : decode cX1_gets 116 = .ok (.invokevirtual 1006, 3) := zdec_at bX1_gets_97 11 rfl
theorem dX1_gets_119 : decode cX1_gets 119 = .ok (.ifCond .eq 23, 3) := zdec_at bX1_gets_97 12 rfl
theorem dX1_gets_122 : decode cX1_gets 122 = .ok (.aload_n 0, 1) := zdec_at bX1_gets_97 13 rfl
theorem dX1_gets_123 : decode cX1_gets 123 = .ok (.getfield 19, 3) := zdec_at bX1_gets_97 14 rfl
theorem dX1_gets_126 : decode cX1_gets 126 = .ok (.aload_n 0, 1) := zdec_at bX1_gets_97 15 rfl
theorem bX1_gets_127 : zdec cX1_gets 127 [(127, .getfield 206, 3), (130, .invokevirtual 840, 3), (133, .invokevirtual 23, 3), (136, .invokestatic 889, 3), (139, .goto 6, 3), (142, .ldc2_w 609, 3), (145, .invokevirtual 871, 3), (148, .pop, 1), (149, .aload_n 0, 1), (150, .dup, 1), (151, .getfield 818, 3), (154, .ldc2_w 1033, 3), (157, .land, 1), (158, .putfield 818, 3), (161, .aload_n 0, 1), (162, .ldc2_w 1035, 3)] = true := by decide +kernel
theorem dX1_gets_127 : decode cX1_gets 127 = .ok (.getfield 206, 3) := zdec_at bX1_gets_127 0 rfl
theorem dX1_gets_130 : decode cX1_gets 130 = .ok (.invokevirtual 840, 3) := zdec_at bX1_gets_127 1 rfl
theorem dX1_gets_133 : decode cX1_gets 133 = .ok (.invokevirtual 23, 3) := zdec_at bX1_gets_127 2 rfl
theorem dX1_gets_136 : decode cX1_gets 136 = .ok (.invokestatic 889, 3) := zdec_at bX1_gets_127 3 rfl
theorem dX1_gets_139 : decode cX1_gets 139 = .ok (.goto 6, 3) := zdec_at bX1_gets_127 4 rfl
theorem dX1_gets_142 : decode cX1_gets 142 = .ok (.ldc2_w 609, 3) := zdec_at bX1_gets_127 5 rfl
theorem dX1_gets_145 : decode cX1_gets 145 = .ok (.invokevirtual 871, 3) := zdec_at bX1_gets_127 6 rfl
theorem dX1_gets_148 : decode cX1_gets 148 = .ok (.pop, 1) := zdec_at bX1_gets_127 7 rfl
theorem dX1_gets_149 : decode cX1_gets 149 = .ok (.aload_n 0, 1) := zdec_at bX1_gets_127 8 rfl
theorem dX1_gets_150 : decode cX1_gets 150 = .ok (.dup, 1) := zdec_at bX1_gets_127 9 rfl
theorem dX1_gets_151 : decode cX1_gets 151 = .ok (.getfield 818, 3) := zdec_at bX1_gets_127 10 rfl
theorem dX1_gets_154 : decode cX1_gets 154 = .ok (.ldc2_w 1033, 3) := zdec_at bX1_gets_127 11 rfl
theorem dX1_gets_157 : decode cX1_gets 157 = .ok (.land, 1) := zdec_at bX1_gets_127 12 rfl
theorem dX1_gets_158 : decode cX1_gets 158 = .ok (.putfield 818, 3) := zdec_at bX1_gets_127 13 rfl
theorem dX1_gets_161 : decode cX1_gets 161 = .ok (.aload_n 0, 1) := zdec_at bX1_gets_127 14 rfl
theorem dX1_gets_162 : decode cX1_gets 162 = .ok (.ldc2_w 1035, 3) := zdec_at bX1_gets_127 15 rfl
theorem bX1_gets_165 : zdec cX1_gets 165 [(165, .lconst 0, 1), (166, .aload_n 0, 1), (167, .getfield 216, 3), (170, .invokevirtual 1024, 3), (173, .aload_n 0, 1), (174, .getfield 850, 3), (177, .ifCond .eq 14, 3), (180, .aload_n 0, 1), (181, .getfield 216, 3), (184, .lconst 0, 1), (185, .lconst 0, 1), (186, .lconst 1, 1), (187, .invokevirtual 871, 3), (190, .pop, 1), (191, .iload_n 1, 1), (192, .ifCond .eq 13, 3)] = true := by decide +kernel
theorem dX1_gets_165 : decode cX1_gets 165 = .ok (.lconst 0, 1) := zdec_at bX1_gets_165 0 rfl
theorem dX1_gets_166 : decode cX1_gets 166 = .ok (.aload_n 0, 1) := zdec_at bX1_gets_165 1 rfl
theorem dX1_gets_167 : decode cX1_gets 167 = .ok (.getfield 216, 3) := zdec_at bX1_gets_165 2 rfl
theorem dX1_gets_170 : decode cX1_gets 170 = .ok (.invokevirtual 1024, 3) := zdec_at bX1_gets_165 3 rfl
theorem dX1_gets_173 : decode cX1_gets 173 = .ok (.aload_n 0, 1) := zdec_at bX1_gets_165 4 rfl
theorem dX1_gets_174 : decode cX1_gets 174 = .ok (.getfield 850, 3) := zdec_at bX1_gets_165 5 rfl
theorem dX1_gets_177 : decode cX1_gets 177 = .ok (.ifCond .eq 14, 3) := zdec_at bX1_gets_165 6 rfl
theorem dX1_gets_180 : decode cX1_gets 180 = .ok (.aload_n 0, 1) := zdec_at bX1_gets_165 7 rfl
theorem dX1_gets_181 : decode cX1_gets 181 = .ok (.getfield 216, 3) := zdec_at bX1_gets_165 8 rfl
theorem dX1_gets_184 : decode cX1_gets 184 = .ok (.lconst 0, 1) := zdec_at bX1_gets_165 9 rfl
theorem dX1_gets_185 : decode cX1_gets 185 = .ok (.lconst 0, 1) := zdec_at bX1_gets_165 10 rfl
theorem dX1_gets_186 : decode cX1_gets 186 = .ok (.lconst 1, 1) := zdec_at bX1_gets_165 11 rfl
theorem dX1_gets_187 : decode cX1_gets 187 = .ok (.invokevirtual 871, 3) := zdec_at bX1_gets_165 12 rfl
theorem dX1_gets_190 : decode cX1_gets 190 = .ok (.pop, 1) := zdec_at bX1_gets_165 13 rfl
theorem dX1_gets_191 : decode cX1_gets 191 = .ok (.iload_n 1, 1) := zdec_at bX1_gets_165 14 rfl
theorem dX1_gets_192 : decode cX1_gets 192 = .ok (.ifCond .eq 13, 3) := zdec_at bX1_gets_165 15 rfl
theorem bX1_gets_195 : zdec cX1_gets 195 [(195, .aload_n 0, 1), (196, .dup, 1), (197, .getfield 818, 3), (200, .lconst 1, 1), (201, .lor, 1), (202, .putfield 818, 3), (205, .aload_n 0, 1), (206, .getfield 206, 3), (209, .invokevirtual 837, 3), (212, .ifCond .eq 80, 3), (215, .aload_n 0, 1), (216, .aload_n 0, 1), (217, .getfield 206, 3), (220, .getfield 916, 3), (223, .aload_n 0, 1), (224, .getfield 206, 3)] = true := by decide +kernel
theorem dX1_gets_195 : decode cX1_gets 195 = .ok (.aload_n 0, 1) := zdec_at bX1_gets_195 0 rfl
theorem dX1_gets_196 : decode cX1_gets 196 = .ok (.dup, 1) := zdec_at bX1_gets_195 1 rfl
theorem dX1_gets_197 : decode cX1_gets 197 = .ok (.getfield 818, 3) := zdec_at bX1_gets_195 2 rfl
theorem dX1_gets_200 : decode cX1_gets 200 = .ok (.lconst 1, 1) := zdec_at bX1_gets_195 3 rfl
theorem dX1_gets_201 : decode cX1_gets 201 = .ok (.lor, 1) := zdec_at bX1_gets_195 4 rfl
theorem dX1_gets_202 : decode cX1_gets 202 = .ok (.putfield 818, 3) := zdec_at bX1_gets_195 5 rfl
theorem dX1_gets_205 : decode cX1_gets 205 = .ok (.aload_n 0, 1) := zdec_at bX1_gets_195 6 rfl
theorem dX1_gets_206 : decode cX1_gets 206 = .ok (.getfield 206, 3) := zdec_at bX1_gets_195 7 rfl
theorem dX1_gets_209 : decode cX1_gets 209 = .ok (.invokevirtual 837, 3) := zdec_at bX1_gets_195 8 rfl
theorem dX1_gets_212 : decode cX1_gets 212 = .ok (.ifCond .eq 80, 3) := zdec_at bX1_gets_195 9 rfl
theorem dX1_gets_215 : decode cX1_gets 215 = .ok (.aload_n 0, 1) := zdec_at bX1_gets_195 10 rfl
theorem dX1_gets_216 : decode cX1_gets 216 = .ok (.aload_n 0, 1) := zdec_at bX1_gets_195 11 rfl
theorem dX1_gets_217 : decode cX1_gets 217 = .ok (.getfield 206, 3) := zdec_at bX1_gets_195 12 rfl
theorem dX1_gets_220 : decode cX1_gets 220 = .ok (.getfield 916, 3) := zdec_at bX1_gets_195 13 rfl
theorem dX1_gets_223 : decode cX1_gets 223 = .ok (.aload_n 0, 1) := zdec_at bX1_gets_195 14 rfl
theorem dX1_gets_224 : decode cX1_gets 224 = .ok (.getfield 206, 3) := zdec_at bX1_gets_195 15 rfl
theorem bX1_gets_227 : zdec cX1_gets 227 [(227, .getfield 918, 3), (230, .aload_n 0, 1), (231, .getfield 216, 3), (234, .invokevirtual 1024, 3), (237, .aload_n 0, 1), (238, .getfield 850, 3), (241, .ifCond .eq 14, 3), (244, .aload_n 0, 1), (245, .getfield 216, 3), (248, .lconst 0, 1), (249, .lconst 0, 1), (250, .lconst 1, 1), (251, .invokevirtual 871, 3), (254, .pop, 1), (255, .aload_n 0, 1), (256, .getfield 216, 3)] = true := by decide +kernel
theorem dX1_gets_227 : decode cX1_gets 227 = .ok (.getfield 918, 3) := zdec_at bX1_gets_227 0 rfl
theorem dX1_gets_230 : decode cX1_gets 230 = .ok (.aload_n 0, 1) := zdec_at bX1_gets_227 1 rfl
theorem dX1_gets_231 : decode cX1_gets 231 = .ok (.getfield 216, 3) := zdec_at bX1_gets_227 2 rfl
theorem dX1_gets_234 : decode cX1_gets 234 = .ok (.invokevirtual 1024, 3) := zdec_at bX1_gets_227 3 rfl
theorem dX1_gets_237 : decode cX1_gets 237 = .ok (.aload_n 0, 1) := zdec_at bX1_gets_227 4 rfl
theorem dX1_gets_238 : decode cX1_gets 238 = .ok (.getfield 850, 3) := zdec_at bX1_gets_227 5 rfl
theorem dX1_gets_241 : decode cX1_gets 241 = .ok (.ifCond .eq 14, 3) := zdec_at bX1_gets_227 6 rfl
theorem dX1_gets_244 : decode cX1_gets 244 = .ok (.aload_n 0, 1) := zdec_at bX1_gets_227 7 rfl
theorem dX1_gets_245 : decode cX1_gets 245 = .ok (.getfield 216, 3) := zdec_at bX1_gets_227 8 rfl
theorem dX1_gets_248 : decode cX1_gets 248 = .ok (.lconst 0, 1) := zdec_at bX1_gets_227 9 rfl
theorem dX1_gets_249 : decode cX1_gets 249 = .ok (.lconst 0, 1) := zdec_at bX1_gets_227 10 rfl
theorem dX1_gets_250 : decode cX1_gets 250 = .ok (.lconst 1, 1) := zdec_at bX1_gets_227 11 rfl
theorem dX1_gets_251 : decode cX1_gets 251 = .ok (.invokevirtual 871, 3) := zdec_at bX1_gets_227 12 rfl
theorem dX1_gets_254 : decode cX1_gets 254 = .ok (.pop, 1) := zdec_at bX1_gets_227 13 rfl
theorem dX1_gets_255 : decode cX1_gets 255 = .ok (.aload_n 0, 1) := zdec_at bX1_gets_227 14 rfl
theorem dX1_gets_256 : decode cX1_gets 256 = .ok (.getfield 216, 3) := zdec_at bX1_gets_227 15 rfl
theorem bX1_gets_259 : zdec cX1_gets 259 [(259, .getfield 920, 3), (262, .lconst 1, 1), (263, .lcmp, 1), (264, .ifCond .ne 28, 3), (267, .aload_n 0, 1), (268, .getfield 216, 3), (271, .invokevirtual 837, 3), (274, .ifCond .ne 18, 3), (277, .aload_n 0, 1), (278, .getfield 200, 3), (281, .aload_n 0, 1), (282, .getfield 713, 3), (285, .dup2, 1), (286, .baload, 1), (287, .bipush 8, 2), (289, .ior, 1)] = true := by decide +kernel
theorem dX1_gets_259 : decode cX1_gets 259 = .ok (.getfield 920, 3) := zdec_at bX1_gets_259 0 rfl
theorem dX1_gets_262 : decode cX1_gets 262 = .ok (.lconst 1, 1) := zdec_at bX1_gets_259 1 rfl
theorem dX1_gets_263 : decode cX1_gets 263 = .ok (.lcmp, 1) := zdec_at bX1_gets_259 2 rfl
theorem dX1_gets_264 : decode cX1_gets 264 = .ok (.ifCond .ne 28, 3) := zdec_at bX1_gets_259 3 rfl
theorem dX1_gets_267 : decode cX1_gets 267 = .ok (.aload_n 0, 1) := zdec_at bX1_gets_259 4 rfl
theorem dX1_gets_268 : decode cX1_gets 268 = .ok (.getfield 216, 3) := zdec_at bX1_gets_259 5 rfl
theorem dX1_gets_271 : decode cX1_gets 271 = .ok (.invokevirtual 837, 3) := zdec_at bX1_gets_259 6 rfl
theorem dX1_gets_274 : decode cX1_gets 274 = .ok (.ifCond .ne 18, 3) := zdec_at bX1_gets_259 7 rfl
theorem dX1_gets_277 : decode cX1_gets 277 = .ok (.aload_n 0, 1) := zdec_at bX1_gets_259 8 rfl
theorem dX1_gets_278 : decode cX1_gets 278 = .ok (.getfield 200, 3) := zdec_at bX1_gets_259 9 rfl
theorem dX1_gets_281 : decode cX1_gets 281 = .ok (.aload_n 0, 1) := zdec_at bX1_gets_259 10 rfl
theorem dX1_gets_282 : decode cX1_gets 282 = .ok (.getfield 713, 3) := zdec_at bX1_gets_259 11 rfl
theorem dX1_gets_285 : decode cX1_gets 285 = .ok (.dup2, 1) := zdec_at bX1_gets_259 12 rfl
theorem dX1_gets_286 : decode cX1_gets 286 = .ok (.baload, 1) := zdec_at bX1_gets_259 13 rfl
theorem dX1_gets_287 : decode cX1_gets 287 = .ok (.bipush 8, 2) := zdec_at bX1_gets_259 14 rfl
theorem dX1_gets_289 : decode cX1_gets 289 = .ok (.ior, 1) := zdec_at bX1_gets_259 15 rfl
theorem bX1_gets_290 : zdec cX1_gets 290 [(290, .i2b, 1), (291, .bastore, 1), (292, .aload_n 0, 1), (293, .aload_n 0, 1), (294, .getfield 216, 3), (297, .invokevirtual 895, 3), (300, .return_, 1)] = true := by decide +kernel
theorem dX1_gets_290 : decode cX1_gets 290 = .ok (.i2b, 1) := zdec_at bX1_gets_290 0 rfl
theorem dX1_gets_291 : decode cX1_gets 291 = .ok (.bastore, 1) := zdec_at bX1_gets_290 1 rfl
theorem dX1_gets_292 : decode cX1_gets 292 = .ok (.aload_n 0, 1) := zdec_at bX1_gets_290 2 rfl
theorem dX1_gets_293 : decode cX1_gets 293 = .ok (.aload_n 0, 1) := zdec_at bX1_gets_290 3 rfl
theorem dX1_gets_294 : decode cX1_gets 294 = .ok (.getfield 216, 3) := zdec_at bX1_gets_290 4 rfl
theorem dX1_gets_297 : decode cX1_gets 297 = .ok (.invokevirtual 895, 3) := zdec_at bX1_gets_290 5 rfl
theorem dX1_gets_300 : decode cX1_gets 300 = .ok (.return_, 1) := zdec_at bX1_gets_290 6 rfl
theorem sX1_gets_0 {E : zE} {d : Nat} {Q : zO → zM → Prop} (M : zM)  (hw : cw M) (k : ∃ b1 : Nat, (gr M 16 60) = some (b1, 7, 0) ∧ (Z E YX43_pop d M (zargs 0 [vr (some (b1, 7, 0)), vr (some (72, 4, 0))]) 0 [] (zafter E YX1_gets (d + 1) [(0, vr (some (16, 0, 0)))] 8 3 [] Q))) : Z E YX1_gets (d + 1) M [(0, vr (some (16, 0, 0)))] 0 [] Q := by
  refine z_aload_n dX1_gets_0 rfl rfl ?_
  refine z_getr (r := (gr M 16 60)) dX1_gets_1 fsX1_684_0 rfl ?_
  refine z_aload_n dX1_gets_4 rfl rfl ?_
  refine z_getr dX1_gets_5 fsX1_210_0 (show gr M 16 79 = some (72, 4, 0) from cw_at hw 40 rfl) ?_
  obtain ⟨b1, e1_, k⟩ := k
  refine Z.eqs (lv' := [(0, vr (some (16, 0, 0)))]) (st' := [vr (some (72, 4, 0)), vr (some (b1, 7, 0))]) rfl (by rw [e1_] <;> rfl) ?_
  exact z_callV (as := [vr (some (72, 4, 0))]) (st := []) dX1_gets_8 vsX1_937_7 (Nat.le_refl _) (Nat.le_of_ble_eq_true rfl) (Nat.le_of_ble_eq_true rfl) rfl k
theorem sX1_gets_11 {E : zE} {d : Nat} {Q : zO → zM → Prop} (M : zM) (u0 : Option zP) (hw : cw M) (k : ∃ b1 : Nat, (gr M 16 60) = some (b1, 7, 0) ∧ (Z E YX43_pop d M (zargs 0 [vr (some (b1, 7, 0)), vr (some (71, 4, 0))]) 0 [] (zafter E YX1_gets (d + 1) [(0, vr (some (16, 0, 0)))] 20 3 [] Q))) : Z E YX1_gets (d + 1) M [(0, vr (some (16, 0, 0)))] 11 [vr u0] Q := by
  refine z_pop dX1_gets_11 rfl ?_
  refine z_aload_n dX1_gets_12 rfl rfl ?_
  refine z_getr (r := (gr M 16 60)) dX1_gets_13 fsX1_684_0 rfl ?_
  refine z_aload_n dX1_gets_16 rfl rfl ?_
  refine z_getr dX1_gets_17 fsX1_206_0 (show gr M 16 78 = some (71, 4, 0) from cw_at hw 39 rfl) ?_
  obtain ⟨b1, e1_, k⟩ := k
  refine Z.eqs (lv' := [(0, vr (some (16, 0, 0)))]) (st' := [vr (some (71, 4, 0)), vr (some (b1, 7, 0))]) rfl (by rw [e1_] <;> rfl) ?_
  exact z_callV (as := [vr (some (71, 4, 0))]) (st := []) dX1_gets_20 vsX1_937_7 (Nat.le_refl _) (Nat.le_of_ble_eq_true rfl) (Nat.le_of_ble_eq_true rfl) rfl k
theorem sX1_gets_23 {E : zE} {d : Nat} {Q : zO → zM → Prop} (M : zM) (u0 : Option zP) (hw : cw M) (k : Z E YX6_has d M (zargs 0 [vr (some (71, 4, 0)), vi (3 : Int32)]) 0 [] (zafter E YX1_gets (d + 1) [(0, vr (some (16, 0, 0)))] 29 3 [] Q)) : Z E YX1_gets (d + 1) M [(0, vr (some (16, 0, 0)))] 23 [vr u0] Q := by
  refine z_pop dX1_gets_23 rfl ?_
  refine z_aload_n dX1_gets_24 rfl rfl ?_
  refine z_getr dX1_gets_25 fsX1_206_0 (show gr M 16 78 = some (71, 4, 0) from cw_at hw 39 rfl) ?_
  refine z_iconst (v := 3) dX1_gets_28 rfl ?_
  exact z_callV (as := [vi (3 : Int32)]) (st := []) dX1_gets_29 vsX1_831_4 (Nat.le_refl _) (Nat.le_of_ble_eq_true rfl) (Nat.le_of_ble_eq_true rfl) rfl k
theorem sX1_gets_32 {E : zE} {d : Nat} {Q : zO → zM → Prop} (M : zM) (s0 : Int32) (hw : cw M) (k : if s0 = 0 then (Z E YX1_gets (d + 1) M [(0, vr (some (16, 0, 0)))] 44 [] Q) else (Z E YX1_errs d M (zargs 0 [vr (some (16, 0, 0)), vr (gr M 16 60), vi (0 : Int32)]) 0 [] (zafter E YX1_gets (d + 1) [(0, vr (some (16, 0, 0)))] 41 3 [] Q))) : Z E YX1_gets (d + 1) M [(0, vr (some (16, 0, 0)))] 32 [vi s0] Q := by
  refine z_if_eq (tgt := 44) dX1_gets_32 rfl (fun h_ => ?_) (fun h_ => ?_)
  · have k := zit h_ k
    exact k
  · have k := zif h_ k
    refine z_aload_n dX1_gets_35 rfl rfl ?_
    refine z_aload_n dX1_gets_36 rfl rfl ?_
    refine z_getr (r := (gr M 16 60)) dX1_gets_37 fsX1_684_0 rfl ?_
    refine z_iconst (v := 0) dX1_gets_40 rfl ?_
    exact z_callV (as := [vr (gr M 16 60), vi (0 : Int32)]) (st := []) dX1_gets_41 vsX1_960_0 (Nat.le_refl _) (Nat.le_of_ble_eq_true rfl) (Nat.le_of_ble_eq_true rfl) rfl k
theorem sX1_gets_44 {E : zE} {d : Nat} {Q : zO → zM → Prop} (M : zM)  (hw : cw M) (k : Z E YX6_empty d M (zargs 0 [vr (some (74, 4, 0))]) 0 [] (zafter E YX1_gets (d + 1) [(0, vr (some (16, 0, 0)))] 48 3 [] Q)) : Z E YX1_gets (d + 1) M [(0, vr (some (16, 0, 0)))] 44 [] Q := by
  refine z_aload_n dX1_gets_44 rfl rfl ?_
  refine z_getr dX1_gets_45 fsX1_216_0 (show gr M 16 81 = some (74, 4, 0) from cw_at hw 42 rfl) ?_
  exact z_callV (as := []) (st := []) dX1_gets_48 vsX1_796_4 (Nat.le_refl _) (Nat.le_of_ble_eq_true rfl) (Nat.le_of_ble_eq_true rfl) rfl k
theorem sX1_gets_51 {E : zE} {d : Nat} {Q : zO → zM → Prop} (M : zM) (u0 : Option zP) (hw : cw M) (k : Z E YX6_has d M (zargs 0 [vr (some (71, 4, 0)), vi (124 : Int32)]) 0 [] (zafter E YX1_gets (d + 1) [(0, vr (some (16, 0, 0)))] 58 3 [] Q)) : Z E YX1_gets (d + 1) M [(0, vr (some (16, 0, 0)))] 51 [vr u0] Q := by
  refine z_pop dX1_gets_51 rfl ?_
  refine z_aload_n dX1_gets_52 rfl rfl ?_
  refine z_getr dX1_gets_53 fsX1_206_0 (show gr M 16 78 = some (71, 4, 0) from cw_at hw 39 rfl) ?_
  refine z_bipush (v := 124) dX1_gets_56 rfl ?_
  exact z_callV (as := [vi (124 : Int32)]) (st := []) dX1_gets_58 vsX1_831_4 (Nat.le_refl _) (Nat.le_of_ble_eq_true rfl) (Nat.le_of_ble_eq_true rfl) rfl k
theorem sX1_gets_61 {E : zE} {d : Nat} {Q : zO → zM → Prop} (M : zM) (s0 : Int32) (hw : cw M) (k : if s0 = 0 then (Z E YX1_keys d M (zargs 0 [vr (some (16, 0, 0)), vr (some (72, 4, 0))]) 0 [] (zafter E YX1_gets (d + 1) [(0, vr (some (16, 0, 0)))] 80 3 [] Q)) else (Z E YX6_join3 d M (zargs 0 [vr (some (74, 4, 0)), vl (0 : Int64), vl (0 : Int64), vl (1 : Int64)]) 0 [] (zafter E YX1_gets (d + 1) [(0, vr (some (16, 0, 0)))] 71 3 [] Q))) : Z E YX1_gets (d + 1) M [(0, vr (some (16, 0, 0)))] 61 [vi s0] Q := by
  refine z_if_eq (tgt := 75) dX1_gets_61 rfl (fun h_ => ?_) (fun h_ => ?_)
  · have k := zit h_ k
    refine z_aload_n dX1_gets_75 rfl rfl ?_
    refine z_aload_n dX1_gets_76 rfl rfl ?_
    refine z_getr dX1_gets_77 fsX1_210_0 (show gr M 16 79 = some (72, 4, 0) from cw_at hw 40 rfl) ?_
    exact z_callV (as := [vr (some (72, 4, 0))]) (st := []) dX1_gets_80 vsX1_883_0 (Nat.le_refl _) (Nat.le_of_ble_eq_true rfl) (Nat.le_of_ble_eq_true rfl) rfl k
  · have k := zif h_ k
    refine z_aload_n dX1_gets_64 rfl rfl ?_
    refine z_getr dX1_gets_65 fsX1_216_0 (show gr M 16 81 = some (74, 4, 0) from cw_at hw 42 rfl) ?_
    refine z_lconst (v := 0) dX1_gets_68 rfl ?_
    refine z_lconst (v := 0) dX1_gets_69 rfl ?_
    refine z_lconst (v := 1) dX1_gets_70 rfl ?_
    exact z_callV (as := [vl (0 : Int64), vl (0 : Int64), vl (1 : Int64)]) (st := []) dX1_gets_71 vsX1_871_4 (Nat.le_refl _) (Nat.le_of_ble_eq_true rfl) (Nat.le_of_ble_eq_true rfl) rfl k
theorem sX1_gets_74 {E : zE} {d : Nat} {Q : zO → zM → Prop} (M : zM) (u0 : Option zP) (hw : cw M) (k : Z E YX1_keys d M (zargs 0 [vr (some (16, 0, 0)), vr (some (72, 4, 0))]) 0 [] (zafter E YX1_gets (d + 1) [(0, vr (some (16, 0, 0)))] 80 3 [] Q)) : Z E YX1_gets (d + 1) M [(0, vr (some (16, 0, 0)))] 74 [vr u0] Q := by
  refine z_pop dX1_gets_74 rfl ?_
  refine z_aload_n dX1_gets_75 rfl rfl ?_
  refine z_aload_n dX1_gets_76 rfl rfl ?_
  refine z_getr dX1_gets_77 fsX1_210_0 (show gr M 16 79 = some (72, 4, 0) from cw_at hw 40 rfl) ?_
  exact z_callV (as := [vr (some (72, 4, 0))]) (st := []) dX1_gets_80 vsX1_883_0 (Nat.le_refl _) (Nat.le_of_ble_eq_true rfl) (Nat.le_of_ble_eq_true rfl) rfl k
theorem sX1_gets_83 {E : zE} {d : Nat} {Q : zO → zM → Prop} (M : zM)  (hw : cw M) (k : Z E YX6_has d M (zargs 0 [vr (some (71, 4, 0)), vi (384 : Int32)]) 0 [] (zafter E YX1_gets (d + 1) [(0, vr (some (16, 0, 0)))] 90 3 [] Q)) : Z E YX1_gets (d + 1) M [(0, vr (some (16, 0, 0)))] 83 [] Q := by
  refine z_aload_n dX1_gets_83 rfl rfl ?_
  refine z_getr dX1_gets_84 fsX1_206_0 (show gr M 16 78 = some (71, 4, 0) from cw_at hw 39 rfl) ?_
  refine z_sipush (v := 384) dX1_gets_87 rfl ?_
  exact z_callV (as := [vi (384 : Int32)]) (st := []) dX1_gets_90 vsX1_831_4 (Nat.le_refl _) (Nat.le_of_ble_eq_true rfl) (Nat.le_of_ble_eq_true rfl) rfl k
theorem sX1_gets_93 {E : zE} {d : Nat} {Q : zO → zM → Prop} (M : zM) (s0 : Int32) (hw : cw M) (k : if s0 = 0 then (Z E YX6_hasLabels d M (zargs 0 [vr (some (71, 4, 0))]) 0 [] (zafter E YX1_gets (d + 1) [(0, vr (some (16, 0, 0)))] 209 3 [] Q)) else (Z E YX1_isKey d M (zargs 0 [vr (some (16, 0, 0)), vi (0 : Int32)]) 0 [] (zafter E YX1_gets (d + 1) [(0, vr (some (16, 0, 0)))] 98 3 [] Q))) : Z E YX1_gets (d + 1) M [(0, vr (some (16, 0, 0)))] 93 [vi s0] Q := by
  refine z_if_eq (tgt := 205) dX1_gets_93 rfl (fun h_ => ?_) (fun h_ => ?_)
  · have k := zit h_ k
    refine z_aload_n dX1_gets_205 rfl rfl ?_
    refine z_getr dX1_gets_206 fsX1_206_0 (show gr M 16 78 = some (71, 4, 0) from cw_at hw 39 rfl) ?_
    exact z_callV (as := []) (st := []) dX1_gets_209 vsX1_837_4 (Nat.le_refl _) (Nat.le_of_ble_eq_true rfl) (Nat.le_of_ble_eq_true rfl) rfl k
  · have k := zif h_ k
    refine z_aload_n dX1_gets_96 rfl rfl ?_
    refine z_iconst (v := 0) dX1_gets_97 rfl ?_
    exact z_callV (as := [vi (0 : Int32)]) (st := []) dX1_gets_98 vsX1_856_0 (Nat.le_refl _) (Nat.le_of_ble_eq_true rfl) (Nat.le_of_ble_eq_true rfl) rfl k
theorem sX1_gets_101 {E : zE} {d : Nat} {Q : zO → zM → Prop} (M : zM) (s0 : Int32) (hw : cw M) (k : if s0 = 0 then (Z E YX1_gets (d + 1) M [(0, vr (some (16, 0, 0))), (1, vi s0)] 149 [] Q) else (Z E YX6_isAlone d M (zargs 0 [vr (some (71, 4, 0))]) 0 [] (zafter E YX1_gets (d + 1) [(0, vr (some (16, 0, 0))), (1, vi s0)] 116 3 [vl (0 : Int64), vl (0 : Int64), vr (some (74, 4, 0))] Q))) : Z E YX1_gets (d + 1) M [(0, vr (some (16, 0, 0)))] 101 [vi s0] Q := by
  refine z_ist_n dX1_gets_101 rfl (by decide) (lv' := [(0, vr (some (16, 0, 0))), (1, vi s0)]) rfl ?_
  refine z_iload_n dX1_gets_102 rfl rfl ?_
  refine z_if_eq (tgt := 149) dX1_gets_103 rfl (fun h_ => ?_) (fun h_ => ?_)
  · have k := zit h_ k
    exact k
  · have k := zif h_ k
    refine z_aload_n dX1_gets_106 rfl rfl ?_
    refine z_getr dX1_gets_107 fsX1_216_0 (show gr M 16 81 = some (74, 4, 0) from cw_at hw 42 rfl) ?_
    refine z_lconst (v := 0) dX1_gets_110 rfl ?_
    refine z_lconst (v := 0) dX1_gets_111 rfl ?_
    refine z_aload_n dX1_gets_112 rfl rfl ?_
    refine z_getr dX1_gets_113 fsX1_206_0 (show gr M 16 78 = some (71, 4, 0) from cw_at hw 39 rfl) ?_
    exact z_callV (as := []) (st := [vl (0 : Int64), vl (0 : Int64), vr (some (74, 4, 0))]) dX1_gets_116 vsX1_1006_4 (Nat.le_refl _) (Nat.le_of_ble_eq_true rfl) (Nat.le_of_ble_eq_true rfl) rfl k
theorem sX1_gets_119 {E : zE} {d : Nat} {Q : zO → zM → Prop} (M : zM) (l1 : Int32) (s0 : Int32) (s1 : Int64) (s2 : Int64) (hw : cw M) (k : if s0 = 0 then (Z E YX6_join3 d M (zargs 0 [vr (some (74, 4, 0)), vl s2, vl s1, vl (64 : Int64)]) 0 [] (zafter E YX1_gets (d + 1) [(0, vr (some (16, 0, 0))), (1, vi l1)] 145 3 [] Q)) else (Z E YX6_name d M (zargs 0 [vr (some (71, 4, 0))]) 0 [] (zafter E YX1_gets (d + 1) [(0, vr (some (16, 0, 0))), (1, vi l1)] 130 3 [vr (some (17, 2, 0)), vl s1, vl s2, vr (some (74, 4, 0))] Q))) : Z E YX1_gets (d + 1) M [(0, vr (some (16, 0, 0))), (1, vi l1)] 119 [vi s0, vl s1, vl s2, vr (some (74, 4, 0))] Q := by
  refine z_if_eq (tgt := 142) dX1_gets_119 rfl (fun h_ => ?_) (fun h_ => ?_)
  · have k := zit h_ k
    refine z_ldc2 (v := 64) dX1_gets_142 q2567 ?_
    exact z_callV (as := [vl s2, vl s1, vl (64 : Int64)]) (st := []) dX1_gets_145 vsX1_871_4 (Nat.le_refl _) (Nat.le_of_ble_eq_true rfl) (Nat.le_of_ble_eq_true rfl) rfl k
  · have k := zif h_ k
    refine z_aload_n dX1_gets_122 rfl rfl ?_
    refine z_getr dX1_gets_123 fsX1_19_0 (show gr M 16 0 = some (17, 2, 0) from cw_at hw 0 rfl) ?_
    refine z_aload_n dX1_gets_126 rfl rfl ?_
    refine z_getr dX1_gets_127 fsX1_206_0 (show gr M 16 78 = some (71, 4, 0) from cw_at hw 39 rfl) ?_
    exact z_callV (as := []) (st := [vr (some (17, 2, 0)), vl s1, vl s2, vr (some (74, 4, 0))]) dX1_gets_130 vsX1_840_4 (Nat.le_refl _) (Nat.le_of_ble_eq_true rfl) (Nat.le_of_ble_eq_true rfl) rfl k
theorem sX1_gets_133 {E : zE} {d : Nat} {Q : zO → zM → Prop} (M : zM) (l1 : Int32) (s0 : Int32) (s2 : Int64) (s3 : Int64) (hw : cw M) (k : Z E YX2_length d M (zargs 0 [vr (some (17, 2, 0)), vi s0]) 0 [] (zafter E YX1_gets (d + 1) [(0, vr (some (16, 0, 0))), (1, vi l1)] 133 3 [vl s2, vl s3, vr (some (74, 4, 0))] Q)) : Z E YX1_gets (d + 1) M [(0, vr (some (16, 0, 0))), (1, vi l1)] 133 [vi s0, vr (some (17, 2, 0)), vl s2, vl s3, vr (some (74, 4, 0))] Q := by
  exact z_callV (as := [vi s0]) (st := [vl s2, vl s3, vr (some (74, 4, 0))]) dX1_gets_133 vsX1_23_2 (Nat.le_refl _) (Nat.le_of_ble_eq_true rfl) (Nat.le_of_ble_eq_true rfl) rfl k
theorem sX1_gets_136 {E : zE} {d : Nat} {Q : zO → zM → Prop} (M : zM) (l1 : Int32) (s0 : Int32) (s1 : Int64) (s2 : Int64) (hw : cw M) (k : Z E YX1_numberSet d M (zargs 0 [vi s0]) 0 [] (zafter E YX1_gets (d + 1) [(0, vr (some (16, 0, 0))), (1, vi l1)] 136 3 [vl s1, vl s2, vr (some (74, 4, 0))] Q)) : Z E YX1_gets (d + 1) M [(0, vr (some (16, 0, 0))), (1, vi l1)] 136 [vi s0, vl s1, vl s2, vr (some (74, 4, 0))] Q := by
  exact z_callS (as := [vi s0]) (st := [vl s1, vl s2, vr (some (74, 4, 0))]) dX1_gets_136 ssX1_889 (Nat.le_refl _) (Nat.le_of_ble_eq_true rfl) (Nat.le_of_ble_eq_true rfl) rfl k
theorem sX1_gets_139 {E : zE} {d : Nat} {Q : zO → zM → Prop} (M : zM) (l1 : Int32) (s0 : Int64) (s1 : Int64) (s2 : Int64) (hw : cw M) (k : Z E YX6_join3 d M (zargs 0 [vr (some (74, 4, 0)), vl s2, vl s1, vl s0]) 0 [] (zafter E YX1_gets (d + 1) [(0, vr (some (16, 0, 0))), (1, vi l1)] 145 3 [] Q)) : Z E YX1_gets (d + 1) M [(0, vr (some (16, 0, 0))), (1, vi l1)] 139 [vl s0, vl s1, vl s2, vr (some (74, 4, 0))] Q := by
  refine z_goto (tgt := 145) dX1_gets_139 rfl ?_
  exact z_callV (as := [vl s2, vl s1, vl s0]) (st := []) dX1_gets_145 vsX1_871_4 (Nat.le_refl _) (Nat.le_of_ble_eq_true rfl) (Nat.le_of_ble_eq_true rfl) rfl k
theorem sX1_gets_148 {E : zE} {d : Nat} {Q : zO → zM → Prop} (M : zM) (l1 : Int32) (u0 : Option zP) (hw : cw M) (k : Z E YX1_gets (d + 1) M [(0, vr (some (16, 0, 0))), (1, vi l1)] 149 [] Q) : Z E YX1_gets (d + 1) M [(0, vr (some (16, 0, 0))), (1, vi l1)] 148 [vr u0] Q := by
  refine z_pop dX1_gets_148 rfl ?_
  exact k
theorem sX1_gets_149 {E : zE} {d : Nat} {Q : zO → zM → Prop} (M : zM) (l1 : Int32) (hw : cw M) (k : Z E YX1_readAll d (sl M 16 88 ((gl M 16 88) &&& (-2 : Int64))) (zargs 0 [vr (some (16, 0, 0)), vl (16 : Int64), vl (0 : Int64), vr (some (74, 4, 0))]) 0 [] (zafter E YX1_gets (d + 1) [(0, vr (some (16, 0, 0))), (1, vi l1)] 170 3 [] Q)) : Z E YX1_gets (d + 1) M [(0, vr (some (16, 0, 0))), (1, vi l1)] 149 [] Q := by
  refine z_aload_n dX1_gets_149 rfl rfl ?_
  refine z_dup dX1_gets_150 rfl ?_
  refine z_getl dX1_gets_151 fsX1_818_0 ?_
  refine z_ldc2 (v := -2) dX1_gets_154 q3340 ?_
  refine z_land dX1_gets_157 ?_
  refine z_putl (by decide) dX1_gets_158 (zfwN.w fwX1_818_0) ?_
  refine z_aload_n dX1_gets_161 rfl rfl ?_
  refine z_ldc2 (v := 16) dX1_gets_162 q3341 ?_
  refine z_lconst (v := 0) dX1_gets_165 rfl ?_
  refine z_aload_n dX1_gets_166 rfl rfl ?_
  refine z_getr dX1_gets_167 fsX1_216_0 (show gr M 16 81 = some (74, 4, 0) from cw_at hw 42 rfl) ?_
  exact z_callV (as := [vl (16 : Int64), vl (0 : Int64), vr (some (74, 4, 0))]) (st := []) dX1_gets_170 vsX1_1024_0 (Nat.le_refl _) (Nat.le_of_ble_eq_true rfl) (Nat.le_of_ble_eq_true rfl) rfl k
theorem sX1_gets_173 {E : zE} {d : Nat} {Q : zO → zM → Prop} (M : zM) (l1 : Int32) (hw : cw M) (k : if (gi M 16 91) = 0 then (Z E YX1_gets (d + 1) M [(0, vr (some (16, 0, 0))), (1, vi l1)] 191 [] Q) else (Z E YX6_join3 d M (zargs 0 [vr (some (74, 4, 0)), vl (0 : Int64), vl (0 : Int64), vl (1 : Int64)]) 0 [] (zafter E YX1_gets (d + 1) [(0, vr (some (16, 0, 0))), (1, vi l1)] 187 3 [] Q))) : Z E YX1_gets (d + 1) M [(0, vr (some (16, 0, 0))), (1, vi l1)] 173 [] Q := by
  refine z_aload_n dX1_gets_173 rfl rfl ?_
  refine z_geti dX1_gets_174 fsX1_850_0 ?_
  refine z_if_eq (tgt := 191) dX1_gets_177 rfl (fun h_ => ?_) (fun h_ => ?_)
  · have k := zit h_ k
    exact k
  · have k := zif h_ k
    refine z_aload_n dX1_gets_180 rfl rfl ?_
    refine z_getr dX1_gets_181 fsX1_216_0 (show gr M 16 81 = some (74, 4, 0) from cw_at hw 42 rfl) ?_
    refine z_lconst (v := 0) dX1_gets_184 rfl ?_
    refine z_lconst (v := 0) dX1_gets_185 rfl ?_
    refine z_lconst (v := 1) dX1_gets_186 rfl ?_
    exact z_callV (as := [vl (0 : Int64), vl (0 : Int64), vl (1 : Int64)]) (st := []) dX1_gets_187 vsX1_871_4 (Nat.le_refl _) (Nat.le_of_ble_eq_true rfl) (Nat.le_of_ble_eq_true rfl) rfl k
theorem sX1_gets_190 {E : zE} {d : Nat} {Q : zO → zM → Prop} (M : zM) (l1 : Int32) (u0 : Option zP) (hw : cw M) (k : Z E YX1_gets (d + 1) M [(0, vr (some (16, 0, 0))), (1, vi l1)] 191 [] Q) : Z E YX1_gets (d + 1) M [(0, vr (some (16, 0, 0))), (1, vi l1)] 190 [vr u0] Q := by
  refine z_pop dX1_gets_190 rfl ?_
  exact k
theorem sX1_gets_191 {E : zE} {d : Nat} {Q : zO → zM → Prop} (M : zM) (l1 : Int32) (hw : cw M) (k : if l1 = 0 then (Z E YX6_hasLabels d M (zargs 0 [vr (some (71, 4, 0))]) 0 [] (zafter E YX1_gets (d + 1) [(0, vr (some (16, 0, 0)))] 209 3 [] Q)) else (Z E YX6_hasLabels d (sl M 16 88 ((gl M 16 88) ||| (1 : Int64))) (zargs 0 [vr (some (71, 4, 0))]) 0 [] (zafter E YX1_gets (d + 1) [(0, vr (some (16, 0, 0)))] 209 3 [] Q))) : Z E YX1_gets (d + 1) M [(0, vr (some (16, 0, 0))), (1, vi l1)] 191 [] Q := by
  refine z_iload_n dX1_gets_191 rfl rfl ?_
  refine z_if_eq (tgt := 205) dX1_gets_192 rfl (fun h_ => ?_) (fun h_ => ?_)
  · have k := zit h_ k
    refine z_aload_n dX1_gets_205 rfl rfl ?_
    refine z_getr dX1_gets_206 fsX1_206_0 (show gr M 16 78 = some (71, 4, 0) from cw_at hw 39 rfl) ?_
    refine Z.pick [0] rfl ?_
    exact z_callV (as := []) (st := []) dX1_gets_209 vsX1_837_4 (Nat.le_refl _) (Nat.le_of_ble_eq_true rfl) (Nat.le_of_ble_eq_true rfl) rfl k
  · have k := zif h_ k
    refine z_aload_n dX1_gets_195 rfl rfl ?_
    refine z_dup dX1_gets_196 rfl ?_
    refine z_getl dX1_gets_197 fsX1_818_0 ?_
    refine z_lconst (v := 1) dX1_gets_200 rfl ?_
    refine z_lor dX1_gets_201 ?_
    refine z_putl (by decide) dX1_gets_202 (zfwN.w fwX1_818_0) ?_
    refine z_aload_n dX1_gets_205 rfl rfl ?_
    refine z_getr dX1_gets_206 fsX1_206_0 (show gr M 16 78 = some (71, 4, 0) from cw_at hw 39 rfl) ?_
    refine Z.pick [0] rfl ?_
    exact z_callV (as := []) (st := []) dX1_gets_209 vsX1_837_4 (Nat.le_refl _) (Nat.le_of_ble_eq_true rfl) (Nat.le_of_ble_eq_true rfl) rfl k
theorem sX1_gets_212 {E : zE} {d : Nat} {Q : zO → zM → Prop} (M : zM) (s0 : Int32) (hw : cw M) (k : if s0 = 0 then (Z E YX1_nextWith d M (zargs 0 [vr (some (16, 0, 0)), vr (some (74, 4, 0))]) 0 [] (zafter E YX1_gets (d + 1) [] 297 3 [] Q)) else (Z E YX1_readAll d M (zargs 0 [vr (some (16, 0, 0)), vl (gl M 71 0), vl (gl M 71 1), vr (some (74, 4, 0))]) 0 [] (zafter E YX1_gets (d + 1) [(0, vr (some (16, 0, 0)))] 234 3 [] Q))) : Z E YX1_gets (d + 1) M [(0, vr (some (16, 0, 0)))] 212 [vi s0] Q := by
  refine z_if_eq (tgt := 292) dX1_gets_212 rfl (fun h_ => ?_) (fun h_ => ?_)
  · have k := zit h_ k
    refine z_aload_n dX1_gets_292 rfl rfl ?_
    refine z_aload_n dX1_gets_293 rfl rfl ?_
    refine z_getr dX1_gets_294 fsX1_216_0 (show gr M 16 81 = some (74, 4, 0) from cw_at hw 42 rfl) ?_
    refine Z.pick [] rfl ?_
    exact z_callV (as := [vr (some (74, 4, 0))]) (st := []) dX1_gets_297 vsX1_895_0 (Nat.le_refl _) (Nat.le_of_ble_eq_true rfl) (Nat.le_of_ble_eq_true rfl) rfl k
  · have k := zif h_ k
    refine z_aload_n dX1_gets_215 rfl rfl ?_
    refine z_aload_n dX1_gets_216 rfl rfl ?_
    refine z_getr dX1_gets_217 fsX1_206_0 (show gr M 16 78 = some (71, 4, 0) from cw_at hw 39 rfl) ?_
    refine z_getl dX1_gets_220 fsX1_916_4 ?_
    refine z_aload_n dX1_gets_223 rfl rfl ?_
    refine z_getr dX1_gets_224 fsX1_206_0 (show gr M 16 78 = some (71, 4, 0) from cw_at hw 39 rfl) ?_
    refine z_getl dX1_gets_227 fsX1_918_4 ?_
    refine z_aload_n dX1_gets_230 rfl rfl ?_
    refine z_getr dX1_gets_231 fsX1_216_0 (show gr M 16 81 = some (74, 4, 0) from cw_at hw 42 rfl) ?_
    exact z_callV (as := [vl (gl M 71 0), vl (gl M 71 1), vr (some (74, 4, 0))]) (st := []) dX1_gets_234 vsX1_1024_0 (Nat.le_refl _) (Nat.le_of_ble_eq_true rfl) (Nat.le_of_ble_eq_true rfl) rfl k
theorem sX1_gets_237 {E : zE} {d : Nat} {Q : zO → zM → Prop} (M : zM)  (hw : cw M) (k : if (gi M 16 91) = 0 then (Z E YX1_gets (d + 1) M [(0, vr (some (16, 0, 0)))] 255 [] Q) else (Z E YX6_join3 d M (zargs 0 [vr (some (74, 4, 0)), vl (0 : Int64), vl (0 : Int64), vl (1 : Int64)]) 0 [] (zafter E YX1_gets (d + 1) [(0, vr (some (16, 0, 0)))] 251 3 [] Q))) : Z E YX1_gets (d + 1) M [(0, vr (some (16, 0, 0)))] 237 [] Q := by
  refine z_aload_n dX1_gets_237 rfl rfl ?_
  refine z_geti dX1_gets_238 fsX1_850_0 ?_
  refine z_if_eq (tgt := 255) dX1_gets_241 rfl (fun h_ => ?_) (fun h_ => ?_)
  · have k := zit h_ k
    exact k
  · have k := zif h_ k
    refine z_aload_n dX1_gets_244 rfl rfl ?_
    refine z_getr dX1_gets_245 fsX1_216_0 (show gr M 16 81 = some (74, 4, 0) from cw_at hw 42 rfl) ?_
    refine z_lconst (v := 0) dX1_gets_248 rfl ?_
    refine z_lconst (v := 0) dX1_gets_249 rfl ?_
    refine z_lconst (v := 1) dX1_gets_250 rfl ?_
    exact z_callV (as := [vl (0 : Int64), vl (0 : Int64), vl (1 : Int64)]) (st := []) dX1_gets_251 vsX1_871_4 (Nat.le_refl _) (Nat.le_of_ble_eq_true rfl) (Nat.le_of_ble_eq_true rfl) rfl k
theorem sX1_gets_254 {E : zE} {d : Nat} {Q : zO → zM → Prop} (M : zM) (u0 : Option zP) (hw : cw M) (k : Z E YX1_gets (d + 1) M [(0, vr (some (16, 0, 0)))] 255 [] Q) : Z E YX1_gets (d + 1) M [(0, vr (some (16, 0, 0)))] 254 [vr u0] Q := by
  refine z_pop dX1_gets_254 rfl ?_
  exact k
theorem sX1_gets_255 {E : zE} {d : Nat} {Q : zO → zM → Prop} (M : zM)  (hw : cw M) (k : if (lg_cmp (gl M 74 2) (1 : Int64)) = 0 then (Z E YX6_hasLabels d M (zargs 0 [vr (some (74, 4, 0))]) 0 [] (zafter E YX1_gets (d + 1) [(0, vr (some (16, 0, 0)))] 271 3 [] Q)) else (Z E YX1_nextWith d M (zargs 0 [vr (some (16, 0, 0)), vr (some (74, 4, 0))]) 0 [] (zafter E YX1_gets (d + 1) [] 297 3 [] Q))) : Z E YX1_gets (d + 1) M [(0, vr (some (16, 0, 0)))] 255 [] Q := by
  refine z_aload_n dX1_gets_255 rfl rfl ?_
  refine z_getr dX1_gets_256 fsX1_216_0 (show gr M 16 81 = some (74, 4, 0) from cw_at hw 42 rfl) ?_
  refine z_getl dX1_gets_259 fsX1_920_4 ?_
  refine z_lconst (v := 1) dX1_gets_262 rfl ?_
  refine z_lcmp dX1_gets_263 ?_
  refine z_if_ne (tgt := 292) dX1_gets_264 rfl (fun h_ => ?_) (fun h_ => ?_)
  · have k := zif h_ k
    refine z_aload_n dX1_gets_292 rfl rfl ?_
    refine z_aload_n dX1_gets_293 rfl rfl ?_
    refine z_getr dX1_gets_294 fsX1_216_0 (show gr M 16 81 = some (74, 4, 0) from cw_at hw 42 rfl) ?_
    refine Z.pick [] rfl ?_
    exact z_callV (as := [vr (some (74, 4, 0))]) (st := []) dX1_gets_297 vsX1_895_0 (Nat.le_refl _) (Nat.le_of_ble_eq_true rfl) (Nat.le_of_ble_eq_true rfl) rfl k
  · have k := zit h_ k
    refine z_aload_n dX1_gets_267 rfl rfl ?_
    refine z_getr dX1_gets_268 fsX1_216_0 (show gr M 16 81 = some (74, 4, 0) from cw_at hw 42 rfl) ?_
    exact z_callV (as := []) (st := []) dX1_gets_271 vsX1_837_4 (Nat.le_refl _) (Nat.le_of_ble_eq_true rfl) (Nat.le_of_ble_eq_true rfl) rfl k
theorem sX1_gets_274 {E : zE} {d : Nat} {Q : zO → zM → Prop} (M : zM) (s0 : Int32) (hw : cw M) (k : if s0 = 0 then (vp_in (gi M 16 76) 600 ∧ (vp_in (gi M 16 76) 600 ∧ (Z E YX1_nextWith d (si M 70 ((gi M 16 76)).toNatClampNeg (vp_nar .byte (((gi M 70 ((gi M 16 76)).toNatClampNeg) ||| (8 : Int32))).toInt8.toInt32)) (zargs 0 [vr (some (16, 0, 0)), vr (some (74, 4, 0))]) 0 [] (zafter E YX1_gets (d + 1) [] 297 3 [] Q)))) else (Z E YX1_nextWith d M (zargs 0 [vr (some (16, 0, 0)), vr (some (74, 4, 0))]) 0 [] (zafter E YX1_gets (d + 1) [] 297 3 [] Q))) : Z E YX1_gets (d + 1) M [(0, vr (some (16, 0, 0)))] 274 [vi s0] Q := by
  refine z_if_ne (tgt := 292) dX1_gets_274 rfl (fun h_ => ?_) (fun h_ => ?_)
  · have k := zif h_ k
    refine z_aload_n dX1_gets_292 rfl rfl ?_
    refine z_aload_n dX1_gets_293 rfl rfl ?_
    refine z_getr dX1_gets_294 fsX1_216_0 (show gr M 16 81 = some (74, 4, 0) from cw_at hw 42 rfl) ?_
    refine Z.pick [] rfl ?_
    exact z_callV (as := [vr (some (74, 4, 0))]) (st := []) dX1_gets_297 vsX1_895_0 (Nat.le_refl _) (Nat.le_of_ble_eq_true rfl) (Nat.le_of_ble_eq_true rfl) rfl k
  · have k := zit h_ k
    refine z_aload_n dX1_gets_277 rfl rfl ?_
    refine z_getr dX1_gets_278 fsX1_200_0 (show gr M 16 66 = some (70, 101, 600) from cw_at hw 38 rfl) ?_
    refine z_aload_n dX1_gets_281 rfl rfl ?_
    refine z_geti dX1_gets_282 fsX1_713_0 ?_
    refine z_dup2 dX1_gets_285 rfl rfl ?_
    obtain ⟨b_, k⟩ := k
    refine z_bald dX1_gets_286 b_ ?_
    refine z_bipush (v := 8) dX1_gets_287 rfl ?_
    refine z_ior dX1_gets_289 ?_
    refine z_i2b dX1_gets_290 ?_
    obtain ⟨b_, k⟩ := k
    refine z_bast (by decide) dX1_gets_291 b_ ?_
    refine z_aload_n dX1_gets_292 rfl rfl ?_
    refine z_aload_n dX1_gets_293 rfl rfl ?_
    refine z_getr dX1_gets_294 fsX1_216_0 (show gr M 16 81 = some (74, 4, 0) from cw_at hw 42 rfl) ?_
    refine Z.pick [] rfl ?_
    exact z_callV (as := [vr (some (74, 4, 0))]) (st := []) dX1_gets_297 vsX1_895_0 (Nat.le_refl _) (Nat.le_of_ble_eq_true rfl) (Nat.le_of_ble_eq_true rfl) rfl k
theorem sX1_gets_300 {E : zE} {d : Nat} {Q : zO → zM → Prop} (M : zM)  (hw : cw M) (k : Q (.inl none) M) : Z E YX1_gets (d + 1) M [] 300 [] Q := by
  exact z_vret dX1_gets_300 rfl k
/-! ScriptTypes.keys(LScriptTypes$Bag;)V -/
theorem bX1_keys_0 : zdec cX1_keys 0 [(0, .aload_n 0, 1), (1, .aload_n 0, 1), (2, .lconst 0, 1), (3, .dup2_x1, 1), (4, .putfield 821, 3), (7, .putfield 818, 3), (10, .aload_n 0, 1), (11, .iconst 0, 1), (12, .putfield 824, 3), (15, .aload_n 1, 1), (16, .iconst 1, 1), (17, .invokevirtual 831, 3), (20, .ifCond .eq 9, 3), (23, .aload_n 0, 1), (24, .bipush 19, 2), (26, .invokevirtual 834, 3)] = true := by decide +kernel
theorem dX1_keys_0 : decode cX1_keys 0 = .ok (.aload_n 0, 1) := zdec_at bX1_keys_0 0 rfl
theorem dX1_keys_1 : decode cX1_keys 1 = .ok (.aload_n 0, 1) := zdec_at bX1_keys_0 1 rfl
theorem dX1_keys_2 : decode cX1_keys 2 = .ok (.lconst 0, 1) := zdec_at bX1_keys_0 2 rfl
theorem dX1_keys_3 : decode cX1_keys 3 = .ok (.dup2_x1, 1) := zdec_at bX1_keys_0 3 rfl
theorem dX1_keys_4 : decode cX1_keys 4 = .ok (.putfield 821, 3) := zdec_at bX1_keys_0 4 rfl
theorem dX1_keys_7 : decode cX1_keys 7 = .ok (.putfield 818, 3) := zdec_at bX1_keys_0 5 rfl
theorem dX1_keys_10 : decode cX1_keys 10 = .ok (.aload_n 0, 1) := zdec_at bX1_keys_0 6 rfl
theorem dX1_keys_11 : decode cX1_keys 11 = .ok (.iconst 0, 1) := zdec_at bX1_keys_0 7 rfl
theorem dX1_keys_12 : decode cX1_keys 12 = .ok (.putfield 824, 3) := zdec_at bX1_keys_0 8 rfl
theorem dX1_keys_15 : decode cX1_keys 15 = .ok (.aload_n 1, 1) := zdec_at bX1_keys_0 9 rfl
theorem dX1_keys_16 : decode cX1_keys 16 = .ok (.iconst 1, 1) := zdec_at bX1_keys_0 10 rfl
theorem dX1_keys_17 : decode cX1_keys 17 = .ok (.invokevirtual 831, 3) := zdec_at bX1_keys_0 11 rfl
theorem dX1_keys_20 : decode cX1_keys 20 = .ok (.ifCond .eq 9, 3) := zdec_at bX1_keys_0 12 rfl
theorem dX1_keys_23 : decode cX1_keys 23 = .ok (.aload_n 0, 1) := zdec_at bX1_keys_0 13 rfl
theorem dX1_keys_24 : decode cX1_keys 24 = .ok (.bipush 19, 2) := zdec_at bX1_keys_0 14 rfl
theorem dX1_keys_26 : decode cX1_keys 26 = .ok (.invokevirtual 834, 3) := zdec_at bX1_keys_0 15 rfl
theorem bX1_keys_29 : zdec cX1_keys 29 [(29, .aload_n 1, 1), (30, .iconst 2, 1), (31, .invokevirtual 831, 3), (34, .ifCond .eq 9, 3), (37, .aload_n 0, 1), (38, .bipush 25, 2), (40, .invokevirtual 834, 3), (43, .aload_n 1, 1), (44, .iconst 4, 1), (45, .invokevirtual 831, 3), (48, .ifCond .eq 9, 3), (51, .aload_n 0, 1), (52, .bipush 26, 2), (54, .invokevirtual 834, 3), (57, .aload_n 1, 1), (58, .bipush 8, 2)] = true := by decide +kernel
theorem dX1_keys_29 : decode cX1_keys 29 = .ok (.aload_n 1, 1) := zdec_at bX1_keys_29 0 rfl
theorem dX1_keys_30 : decode cX1_keys 30 = .ok (.iconst 2, 1) := zdec_at bX1_keys_29 1 rfl
theorem dX1_keys_31 : decode cX1_keys 31 = .ok (.invokevirtual 831, 3) := zdec_at bX1_keys_29 2 rfl
theorem dX1_keys_34 : decode cX1_keys 34 = .ok (.ifCond .eq 9, 3) := zdec_at bX1_keys_29 3 rfl
theorem dX1_keys_37 : decode cX1_keys 37 = .ok (.aload_n 0, 1) := zdec_at bX1_keys_29 4 rfl
theorem dX1_keys_38 : decode cX1_keys 38 = .ok (.bipush 25, 2) := zdec_at bX1_keys_29 5 rfl
theorem dX1_keys_40 : decode cX1_keys 40 = .ok (.invokevirtual 834, 3) := zdec_at bX1_keys_29 6 rfl
theorem dX1_keys_43 : decode cX1_keys 43 = .ok (.aload_n 1, 1) := zdec_at bX1_keys_29 7 rfl
theorem dX1_keys_44 : decode cX1_keys 44 = .ok (.iconst 4, 1) := zdec_at bX1_keys_29 8 rfl
theorem dX1_keys_45 : decode cX1_keys 45 = .ok (.invokevirtual 831, 3) := zdec_at bX1_keys_29 9 rfl
theorem dX1_keys_48 : decode cX1_keys 48 = .ok (.ifCond .eq 9, 3) := zdec_at bX1_keys_29 10 rfl
theorem dX1_keys_51 : decode cX1_keys 51 = .ok (.aload_n 0, 1) := zdec_at bX1_keys_29 11 rfl
theorem dX1_keys_52 : decode cX1_keys 52 = .ok (.bipush 26, 2) := zdec_at bX1_keys_29 12 rfl
theorem dX1_keys_54 : decode cX1_keys 54 = .ok (.invokevirtual 834, 3) := zdec_at bX1_keys_29 13 rfl
theorem dX1_keys_57 : decode cX1_keys 57 = .ok (.aload_n 1, 1) := zdec_at bX1_keys_29 14 rfl
theorem dX1_keys_58 : decode cX1_keys 58 = .ok (.bipush 8, 2) := zdec_at bX1_keys_29 15 rfl
theorem bX1_keys_60 : zdec cX1_keys 60 [(60, .invokevirtual 831, 3), (63, .ifCond .eq 9, 3), (66, .aload_n 0, 1), (67, .bipush 27, 2), (69, .invokevirtual 834, 3), (72, .aload_n 1, 1), (73, .bipush 16, 2), (75, .invokevirtual 831, 3), (78, .ifCond .eq 9, 3), (81, .aload_n 0, 1), (82, .bipush 28, 2), (84, .invokevirtual 834, 3), (87, .aload_n 1, 1), (88, .invokevirtual 837, 3), (91, .ifCond .eq 9, 3), (94, .aload_n 0, 1)] = true := by decide +kernel
theorem dX1_keys_60 : decode cX1_keys 60 = .ok (.invokevirtual 831, 3) := zdec_at bX1_keys_60 0 rfl
theorem dX1_keys_63 : decode cX1_keys 63 = .ok (.ifCond .eq 9, 3) := zdec_at bX1_keys_60 1 rfl
theorem dX1_keys_66 : decode cX1_keys 66 = .ok (.aload_n 0, 1) := zdec_at bX1_keys_60 2 rfl
theorem dX1_keys_67 : decode cX1_keys 67 = .ok (.bipush 27, 2) := zdec_at bX1_keys_60 3 rfl
theorem dX1_keys_69 : decode cX1_keys 69 = .ok (.invokevirtual 834, 3) := zdec_at bX1_keys_60 4 rfl
theorem dX1_keys_72 : decode cX1_keys 72 = .ok (.aload_n 1, 1) := zdec_at bX1_keys_60 5 rfl
theorem dX1_keys_73 : decode cX1_keys 73 = .ok (.bipush 16, 2) := zdec_at bX1_keys_60 6 rfl
theorem dX1_keys_75 : decode cX1_keys 75 = .ok (.invokevirtual 831, 3) := zdec_at bX1_keys_60 7 rfl
theorem dX1_keys_78 : decode cX1_keys 78 = .ok (.ifCond .eq 9, 3) := zdec_at bX1_keys_60 8 rfl
theorem dX1_keys_81 : decode cX1_keys 81 = .ok (.aload_n 0, 1) := zdec_at bX1_keys_60 9 rfl
theorem dX1_keys_82 : decode cX1_keys 82 = .ok (.bipush 28, 2) := zdec_at bX1_keys_60 10 rfl
theorem dX1_keys_84 : decode cX1_keys 84 = .ok (.invokevirtual 834, 3) := zdec_at bX1_keys_60 11 rfl
theorem dX1_keys_87 : decode cX1_keys 87 = .ok (.aload_n 1, 1) := zdec_at bX1_keys_60 12 rfl
theorem dX1_keys_88 : decode cX1_keys 88 = .ok (.invokevirtual 837, 3) := zdec_at bX1_keys_60 13 rfl
theorem dX1_keys_91 : decode cX1_keys 91 = .ok (.ifCond .eq 9, 3) := zdec_at bX1_keys_60 14 rfl
theorem dX1_keys_94 : decode cX1_keys 94 = .ok (.aload_n 0, 1) := zdec_at bX1_keys_60 15 rfl
theorem bX1_keys_95 : zdec cX1_keys 95 [(95, .bipush 29, 2), (97, .invokevirtual 834, 3), (100, .aload_n 1, 1), (101, .sipush 128, 3), (104, .invokevirtual 831, 3), (107, .ifCond .eq 11, 3), (110, .aload_n 0, 1), (111, .aload_n 1, 1), (112, .invokevirtual 840, 3), (115, .invokevirtual 834, 3), (118, .aload_n 1, 1), (119, .bipush 32, 2), (121, .invokevirtual 831, 3), (124, .ifCond .eq 30, 3), (127, .aload_n 0, 1), (128, .aload_n 1, 1)] = true := by decide +kernel
theorem dX1_keys_95 : decode cX1_keys 95 = .ok (.bipush 29, 2) := zdec_at bX1_keys_95 0 rfl
theorem dX1_keys_97 : decode cX1_keys 97 = .ok (.invokevirtual 834, 3) := zdec_at bX1_keys_95 1 rfl
theorem dX1_keys_100 : decode cX1_keys 100 = .ok (.aload_n 1, 1) := zdec_at bX1_keys_95 2 rfl
theorem dX1_keys_101 : decode cX1_keys 101 = .ok (.sipush 128, 3) := zdec_at bX1_keys_95 3 rfl
theorem dX1_keys_104 : decode cX1_keys 104 = .ok (.invokevirtual 831, 3) := zdec_at bX1_keys_95 4 rfl
theorem dX1_keys_107 : decode cX1_keys 107 = .ok (.ifCond .eq 11, 3) := zdec_at bX1_keys_95 5 rfl
theorem dX1_keys_110 : decode cX1_keys 110 = .ok (.aload_n 0, 1) := zdec_at bX1_keys_95 6 rfl
theorem dX1_keys_111 : decode cX1_keys 111 = .ok (.aload_n 1, 1) := zdec_at bX1_keys_95 7 rfl
theorem dX1_keys_112 : decode cX1_keys 112 = .ok (.invokevirtual 840, 3) := zdec_at bX1_keys_95 8 rfl
theorem dX1_keys_115 : decode cX1_keys 115 = .ok (.invokevirtual 834, 3) := zdec_at bX1_keys_95 9 rfl
theorem dX1_keys_118 : decode cX1_keys 118 = .ok (.aload_n 1, 1) := zdec_at bX1_keys_95 10 rfl
theorem dX1_keys_119 : decode cX1_keys 119 = .ok (.bipush 32, 2) := zdec_at bX1_keys_95 11 rfl
theorem dX1_keys_121 : decode cX1_keys 121 = .ok (.invokevirtual 831, 3) := zdec_at bX1_keys_95 12 rfl
theorem dX1_keys_124 : decode cX1_keys 124 = .ok (.ifCond .eq 30, 3) := zdec_at bX1_keys_95 13 rfl
theorem dX1_keys_127 : decode cX1_keys 127 = .ok (.aload_n 0, 1) := zdec_at bX1_keys_95 14 rfl
theorem dX1_keys_128 : decode cX1_keys 128 = .ok (.aload_n 1, 1) := zdec_at bX1_keys_95 15 rfl
theorem bX1_keys_129 : zdec cX1_keys 129 [(129, .invokevirtual 843, 3), (132, .invokevirtual 845, 3), (135, .istore_n 2, 1), (136, .iload_n 2, 1), (137, .iconst (-1), 1), (138, .if_icmp .ne 11, 3), (141, .aload_n 0, 1), (142, .iconst 1, 1), (143, .putfield 824, 3), (146, .goto 8, 3), (149, .aload_n 0, 1), (150, .iload_n 2, 1), (151, .invokevirtual 834, 3), (154, .aload_n 1, 1), (155, .bipush 64, 2), (157, .invokevirtual 831, 3)] = true := by decide +kernel
theorem dX1_keys_129 : decode cX1_keys 129 = .ok (.invokevirtual 843, 3) := zdec_at bX1_keys_129 0 rfl
theorem dX1_keys_132 : decode cX1_keys 132 = .ok (.invokevirtual 845, 3) := zdec_at bX1_keys_129 1 rfl
theorem dX1_keys_135 : decode cX1_keys 135 = .ok (.istore_n 2, 1) := zdec_at bX1_keys_129 2 rfl
theorem dX1_keys_136 : decode cX1_keys 136 = .ok (.iload_n 2, 1) := zdec_at bX1_keys_129 3 rfl
theorem dX1_keys_137 : decode cX1_keys 137 = .ok (.iconst (-1), 1) := zdec_at bX1_keys_129 4 rfl
theorem dX1_keys_138 : decode cX1_keys 138 = .ok (.if_icmp .ne 11, 3) := zdec_at bX1_keys_129 5 rfl
theorem dX1_keys_141 : decode cX1_keys 141 = .ok (.aload_n 0, 1) := zdec_at bX1_keys_129 6 rfl
theorem dX1_keys_142 : decode cX1_keys 142 = .ok (.iconst 1, 1) := zdec_at bX1_keys_129 7 rfl
theorem dX1_keys_143 : decode cX1_keys 143 = .ok (.putfield 824, 3) := zdec_at bX1_keys_129 8 rfl
theorem dX1_keys_146 : decode cX1_keys 146 = .ok (.goto 8, 3) := zdec_at bX1_keys_129 9 rfl
theorem dX1_keys_149 : decode cX1_keys 149 = .ok (.aload_n 0, 1) := zdec_at bX1_keys_129 10 rfl
theorem dX1_keys_150 : decode cX1_keys 150 = .ok (.iload_n 2, 1) := zdec_at bX1_keys_129 11 rfl
theorem dX1_keys_151 : decode cX1_keys 151 = .ok (.invokevirtual 834, 3) := zdec_at bX1_keys_129 12 rfl
theorem dX1_keys_154 : decode cX1_keys 154 = .ok (.aload_n 1, 1) := zdec_at bX1_keys_129 13 rfl
theorem dX1_keys_155 : decode cX1_keys 155 = .ok (.bipush 64, 2) := zdec_at bX1_keys_129 14 rfl
theorem dX1_keys_157 : decode cX1_keys 157 = .ok (.invokevirtual 831, 3) := zdec_at bX1_keys_129 15 rfl
theorem bX1_keys_160 : zdec cX1_keys 160 [(160, .ifCond .eq 34, 3), (163, .aload_n 0, 1), (164, .dup, 1), (165, .getfield 818, 3), (168, .aload_n 0, 1), (169, .getfield 639, 3), (172, .lor, 1), (173, .putfield 818, 3), (176, .aload_n 0, 1), (177, .dup, 1), (178, .getfield 821, 3), (181, .aload_n 0, 1), (182, .getfield 643, 3), (185, .lor, 1), (186, .putfield 821, 3), (189, .aload_n 0, 1)] = true := by decide +kernel
theorem dX1_keys_160 : decode cX1_keys 160 = .ok (.ifCond .eq 34, 3) := zdec_at bX1_keys_160 0 rfl
theorem dX1_keys_163 : decode cX1_keys 163 = .ok (.aload_n 0, 1) := zdec_at bX1_keys_160 1 rfl
theorem dX1_keys_164 : decode cX1_keys 164 = .ok (.dup, 1) := zdec_at bX1_keys_160 2 rfl
theorem dX1_keys_165 : decode cX1_keys 165 = .ok (.getfield 818, 3) := zdec_at bX1_keys_160 3 rfl
theorem dX1_keys_168 : decode cX1_keys 168 = .ok (.aload_n 0, 1) := zdec_at bX1_keys_160 4 rfl
theorem dX1_keys_169 : decode cX1_keys 169 = .ok (.getfield 639, 3) := zdec_at bX1_keys_160 5 rfl
theorem dX1_keys_172 : decode cX1_keys 172 = .ok (.lor, 1) := zdec_at bX1_keys_160 6 rfl
theorem dX1_keys_173 : decode cX1_keys 173 = .ok (.putfield 818, 3) := zdec_at bX1_keys_160 7 rfl
theorem dX1_keys_176 : decode cX1_keys 176 = .ok (.aload_n 0, 1) := zdec_at bX1_keys_160 8 rfl
theorem dX1_keys_177 : decode cX1_keys 177 = .ok (.dup, 1) := zdec_at bX1_keys_160 9 rfl
theorem dX1_keys_178 : decode cX1_keys 178 = .ok (.getfield 821, 3) := zdec_at bX1_keys_160 10 rfl
theorem dX1_keys_181 : decode cX1_keys 181 = .ok (.aload_n 0, 1) := zdec_at bX1_keys_160 11 rfl
theorem dX1_keys_182 : decode cX1_keys 182 = .ok (.getfield 643, 3) := zdec_at bX1_keys_160 12 rfl
theorem dX1_keys_185 : decode cX1_keys 185 = .ok (.lor, 1) := zdec_at bX1_keys_160 13 rfl
theorem dX1_keys_186 : decode cX1_keys 186 = .ok (.putfield 821, 3) := zdec_at bX1_keys_160 14 rfl
theorem dX1_keys_189 : decode cX1_keys 189 = .ok (.aload_n 0, 1) := zdec_at bX1_keys_160 15 rfl
theorem bX1_keys_190 : zdec cX1_keys 190 [(190, .iconst 1, 1), (191, .putfield 824, 3), (194, .aload_n 1, 1), (195, .sipush 256, 3), (198, .invokevirtual 831, 3), (201, .ifCond .eq 63, 3), (204, .aload_n 0, 1), (205, .aload_n 0, 1), (206, .getfield 58, 3), (209, .bipush 64, 2), (211, .if_icmp .ge 14, 3), (214, .lconst 1, 1), (215, .aload_n 0, 1), (216, .getfield 58, 3), (219, .lshl, 1), (220, .lconst 1, 1)] = true := by decide +kernel
theorem dX1_keys_190 : decode cX1_keys 190 = .ok (.iconst 1, 1) := zdec_at bX1_keys_190 0 rfl
theorem dX1_keys_191 : decode cX1_keys 191 = .ok (.putfield 824, 3) := zdec_at bX1_keys_190 1 rfl
theorem dX1_keys_194 : decode cX1_keys 194 = .ok (.aload_n 1, 1) := zdec_at bX1_keys_190 2 rfl
theorem dX1_keys_195 : decode cX1_keys 195 = .ok (.sipush 256, 3) := zdec_at bX1_keys_190 3 rfl
theorem dX1_keys_198 : decode cX1_keys 198 = .ok (.invokevirtual 831, 3) := zdec_at bX1_keys_190 4 rfl
theorem dX1_keys_201 : decode cX1_keys 201 = .ok (.ifCond .eq 63, 3) := zdec_at bX1_keys_190 5 rfl
theorem dX1_keys_204 : decode cX1_keys 204 = .ok (.aload_n 0, 1) := zdec_at bX1_keys_190 6 rfl
theorem dX1_keys_205 : decode cX1_keys 205 = .ok (.aload_n 0, 1) := zdec_at bX1_keys_190 7 rfl
theorem dX1_keys_206 : decode cX1_keys 206 = .ok (.getfield 58, 3) := zdec_at bX1_keys_190 8 rfl
theorem dX1_keys_209 : decode cX1_keys 209 = .ok (.bipush 64, 2) := zdec_at bX1_keys_190 9 rfl
theorem dX1_keys_211 : decode cX1_keys 211 = .ok (.if_icmp .ge 14, 3) := zdec_at bX1_keys_190 10 rfl
theorem dX1_keys_214 : decode cX1_keys 214 = .ok (.lconst 1, 1) := zdec_at bX1_keys_190 11 rfl
theorem dX1_keys_215 : decode cX1_keys 215 = .ok (.aload_n 0, 1) := zdec_at bX1_keys_190 12 rfl
theorem dX1_keys_216 : decode cX1_keys 216 = .ok (.getfield 58, 3) := zdec_at bX1_keys_190 13 rfl
theorem dX1_keys_219 : decode cX1_keys 219 = .ok (.lshl, 1) := zdec_at bX1_keys_190 14 rfl
theorem dX1_keys_220 : decode cX1_keys 220 = .ok (.lconst 1, 1) := zdec_at bX1_keys_190 15 rfl
theorem bX1_keys_221 : zdec cX1_keys 221 [(221, .lsub, 1), (222, .goto 6, 3), (225, .ldc2_w 848, 3), (228, .putfield 818, 3), (231, .aload_n 0, 1), (232, .aload_n 0, 1), (233, .getfield 58, 3), (236, .bipush 64, 2), (238, .if_icmp .le 17, 3), (241, .lconst 1, 1), (242, .aload_n 0, 1), (243, .getfield 58, 3), (246, .bipush 64, 2), (248, .isub, 1), (249, .lshl, 1), (250, .lconst 1, 1)] = true := by decide +kernel
theorem dX1_keys_221 : decode cX1_keys 221 = .ok (.lsub, 1) := zdec_at bX1_keys_221 0 rfl
theorem dX1_keys_222 : decode cX1_keys 222 = .ok (.goto 6, 3) := zdec_at bX1_keys_221 1 rfl
theorem dX1_keys_225 : decode cX1_keys 225 = .ok (.ldc2_w 848, 3) := zdec_at bX1_keys_221 2 rfl
theorem dX1_keys_228 : decode cX1_keys 228 = .ok (.putfield 818, 3) := zdec_at bX1_keys_221 3 rfl
theorem dX1_keys_231 : decode cX1_keys 231 = .ok (.aload_n 0, 1) := zdec_at bX1_keys_221 4 rfl
theorem dX1_keys_232 : decode cX1_keys 232 = .ok (.aload_n 0, 1) := zdec_at bX1_keys_221 5 rfl
theorem dX1_keys_233 : decode cX1_keys 233 = .ok (.getfield 58, 3) := zdec_at bX1_keys_221 6 rfl
theorem dX1_keys_236 : decode cX1_keys 236 = .ok (.bipush 64, 2) := zdec_at bX1_keys_221 7 rfl
theorem dX1_keys_238 : decode cX1_keys 238 = .ok (.if_icmp .le 17, 3) := zdec_at bX1_keys_221 8 rfl
theorem dX1_keys_241 : decode cX1_keys 241 = .ok (.lconst 1, 1) := zdec_at bX1_keys_221 9 rfl
theorem dX1_keys_242 : decode cX1_keys 242 = .ok (.aload_n 0, 1) := zdec_at bX1_keys_221 10 rfl
theorem dX1_keys_243 : decode cX1_keys 243 = .ok (.getfield 58, 3) := zdec_at bX1_keys_221 11 rfl
theorem dX1_keys_246 : decode cX1_keys 246 = .ok (.bipush 64, 2) := zdec_at bX1_keys_221 12 rfl
theorem dX1_keys_248 : decode cX1_keys 248 = .ok (.isub, 1) := zdec_at bX1_keys_221 13 rfl
theorem dX1_keys_249 : decode cX1_keys 249 = .ok (.lshl, 1) := zdec_at bX1_keys_221 14 rfl
theorem dX1_keys_250 : decode cX1_keys 250 = .ok (.lconst 1, 1) := zdec_at bX1_keys_221 15 rfl
theorem bX1_keys_251 : zdec cX1_keys 251 [(251, .lsub, 1), (252, .goto 4, 3), (255, .lconst 0, 1), (256, .putfield 821, 3), (259, .aload_n 0, 1), (260, .iconst 1, 1), (261, .putfield 824, 3), (264, .return_, 1)] = true := by decide +kernel
theorem dX1_keys_251 : decode cX1_keys 251 = .ok (.lsub, 1) := zdec_at bX1_keys_251 0 rfl
theorem dX1_keys_252 : decode cX1_keys 252 = .ok (.goto 4, 3) := zdec_at bX1_keys_251 1 rfl
theorem dX1_keys_255 : decode cX1_keys 255 = .ok (.lconst 0, 1) := zdec_at bX1_keys_251 2 rfl
theorem dX1_keys_256 : decode cX1_keys 256 = .ok (.putfield 821, 3) := zdec_at bX1_keys_251 3 rfl
theorem dX1_keys_259 : decode cX1_keys 259 = .ok (.aload_n 0, 1) := zdec_at bX1_keys_251 4 rfl
theorem dX1_keys_260 : decode cX1_keys 260 = .ok (.iconst 1, 1) := zdec_at bX1_keys_251 5 rfl
theorem dX1_keys_261 : decode cX1_keys 261 = .ok (.putfield 824, 3) := zdec_at bX1_keys_251 6 rfl
theorem dX1_keys_264 : decode cX1_keys 264 = .ok (.return_, 1) := zdec_at bX1_keys_251 7 rfl
theorem sX1_keys_0 {E : zE} {d : Nat} {Q : zO → zM → Prop} (M : zM) (r1 : Option zP) (hw : cw M) (k : ∃ b1 : Nat, r1 = some (b1, 4, 0) ∧ (Z E YX6_has d (si (sl (sl M 16 89 (0 : Int64)) 16 88 (0 : Int64)) 16 90 (0 : Int32)) (zargs 0 [vr (some (b1, 4, 0)), vi (1 : Int32)]) 0 [] (zafter E YX1_keys (d + 1) [(0, vr (some (16, 0, 0))), (1, vr (some (b1, 4, 0)))] 17 3 [] Q))) : Z E YX1_keys (d + 1) M [(0, vr (some (16, 0, 0))), (1, vr r1)] 0 [] Q := by
  refine z_aload_n dX1_keys_0 rfl rfl ?_
  refine z_aload_n dX1_keys_1 rfl rfl ?_
  refine z_lconst (v := 0) dX1_keys_2 rfl ?_
  refine z_dup2_x1 dX1_keys_3 rfl rfl ?_
  refine z_putl (by decide) dX1_keys_4 (zfwN.w fwX1_821_0) ?_
  refine z_putl (by decide) dX1_keys_7 (zfwN.w fwX1_818_0) ?_
  refine z_aload_n dX1_keys_10 rfl rfl ?_
  refine z_iconst (v := 0) dX1_keys_11 rfl ?_
  refine z_puti (by decide) dX1_keys_12 (zfwN.w fwX1_824_0) rfl ⟨by decide, by decide⟩ ?_
  refine z_aload_n dX1_keys_15 rfl rfl ?_
  refine z_iconst (v := 1) dX1_keys_16 rfl ?_
  obtain ⟨b1, e1_, k⟩ := k
  refine Z.eqs (lv' := [(0, vr (some (16, 0, 0))), (1, vr (some (b1, 4, 0)))]) (st' := [vi (1 : Int32), vr (some (b1, 4, 0))]) (by rw [e1_] <;> rfl) (by rw [e1_] <;> rfl) ?_
  exact z_callV (as := [vi (1 : Int32)]) (st := []) dX1_keys_17 vsX1_831_4 (Nat.le_refl _) (Nat.le_of_ble_eq_true rfl) (Nat.le_of_ble_eq_true rfl) rfl k
theorem sX1_keys_20 {E : zE} {d : Nat} {Q : zO → zM → Prop} (M : zM) (a1 : Nat) (s0 : Int32) (hw : cw M) (k : if s0 = 0 then (Z E YX1_keys (d + 1) M [(0, vr (some (16, 0, 0))), (1, vr (some (a1, 4, 0)))] 29 [] Q) else (Z E YX1_key d M (zargs 0 [vr (some (16, 0, 0)), vi (19 : Int32)]) 0 [] (zafter E YX1_keys (d + 1) [(0, vr (some (16, 0, 0))), (1, vr (some (a1, 4, 0)))] 26 3 [] Q))) : Z E YX1_keys (d + 1) M [(0, vr (some (16, 0, 0))), (1, vr (some (a1, 4, 0)))] 20 [vi s0] Q := by
  refine z_if_eq (tgt := 29) dX1_keys_20 rfl (fun h_ => ?_) (fun h_ => ?_)
  · have k := zit h_ k
    exact k
  · have k := zif h_ k
    refine z_aload_n dX1_keys_23 rfl rfl ?_
    refine z_bipush (v := 19) dX1_keys_24 rfl ?_
    exact z_callV (as := [vi (19 : Int32)]) (st := []) dX1_keys_26 vsX1_834_0 (Nat.le_refl _) (Nat.le_of_ble_eq_true rfl) (Nat.le_of_ble_eq_true rfl) rfl k
theorem sX1_keys_29 {E : zE} {d : Nat} {Q : zO → zM → Prop} (M : zM) (a1 : Nat) (hw : cw M) (k : Z E YX6_has d M (zargs 0 [vr (some (a1, 4, 0)), vi (2 : Int32)]) 0 [] (zafter E YX1_keys (d + 1) [(0, vr (some (16, 0, 0))), (1, vr (some (a1, 4, 0)))] 31 3 [] Q)) : Z E YX1_keys (d + 1) M [(0, vr (some (16, 0, 0))), (1, vr (some (a1, 4, 0)))] 29 [] Q := by
  refine z_aload_n dX1_keys_29 rfl rfl ?_
  refine z_iconst (v := 2) dX1_keys_30 rfl ?_
  exact z_callV (as := [vi (2 : Int32)]) (st := []) dX1_keys_31 vsX1_831_4 (Nat.le_refl _) (Nat.le_of_ble_eq_true rfl) (Nat.le_of_ble_eq_true rfl) rfl k
theorem sX1_keys_34 {E : zE} {d : Nat} {Q : zO → zM → Prop} (M : zM) (a1 : Nat) (s0 : Int32) (hw : cw M) (k : if s0 = 0 then (Z E YX1_keys (d + 1) M [(0, vr (some (16, 0, 0))), (1, vr (some (a1, 4, 0)))] 43 [] Q) else (Z E YX1_key d M (zargs 0 [vr (some (16, 0, 0)), vi (25 : Int32)]) 0 [] (zafter E YX1_keys (d + 1) [(0, vr (some (16, 0, 0))), (1, vr (some (a1, 4, 0)))] 40 3 [] Q))) : Z E YX1_keys (d + 1) M [(0, vr (some (16, 0, 0))), (1, vr (some (a1, 4, 0)))] 34 [vi s0] Q := by
  refine z_if_eq (tgt := 43) dX1_keys_34 rfl (fun h_ => ?_) (fun h_ => ?_)
  · have k := zit h_ k
    exact k
  · have k := zif h_ k
    refine z_aload_n dX1_keys_37 rfl rfl ?_
    refine z_bipush (v := 25) dX1_keys_38 rfl ?_
    exact z_callV (as := [vi (25 : Int32)]) (st := []) dX1_keys_40 vsX1_834_0 (Nat.le_refl _) (Nat.le_of_ble_eq_true rfl) (Nat.le_of_ble_eq_true rfl) rfl k
theorem sX1_keys_43 {E : zE} {d : Nat} {Q : zO → zM → Prop} (M : zM) (a1 : Nat) (hw : cw M) (k : Z E YX6_has d M (zargs 0 [vr (some (a1, 4, 0)), vi (4 : Int32)]) 0 [] (zafter E YX1_keys (d + 1) [(0, vr (some (16, 0, 0))), (1, vr (some (a1, 4, 0)))] 45 3 [] Q)) : Z E YX1_keys (d + 1) M [(0, vr (some (16, 0, 0))), (1, vr (some (a1, 4, 0)))] 43 [] Q := by
  refine z_aload_n dX1_keys_43 rfl rfl ?_
  refine z_iconst (v := 4) dX1_keys_44 rfl ?_
  exact z_callV (as := [vi (4 : Int32)]) (st := []) dX1_keys_45 vsX1_831_4 (Nat.le_refl _) (Nat.le_of_ble_eq_true rfl) (Nat.le_of_ble_eq_true rfl) rfl k
theorem sX1_keys_48 {E : zE} {d : Nat} {Q : zO → zM → Prop} (M : zM) (a1 : Nat) (s0 : Int32) (hw : cw M) (k : if s0 = 0 then (Z E YX1_keys (d + 1) M [(0, vr (some (16, 0, 0))), (1, vr (some (a1, 4, 0)))] 57 [] Q) else (Z E YX1_key d M (zargs 0 [vr (some (16, 0, 0)), vi (26 : Int32)]) 0 [] (zafter E YX1_keys (d + 1) [(0, vr (some (16, 0, 0))), (1, vr (some (a1, 4, 0)))] 54 3 [] Q))) : Z E YX1_keys (d + 1) M [(0, vr (some (16, 0, 0))), (1, vr (some (a1, 4, 0)))] 48 [vi s0] Q := by
  refine z_if_eq (tgt := 57) dX1_keys_48 rfl (fun h_ => ?_) (fun h_ => ?_)
  · have k := zit h_ k
    exact k
  · have k := zif h_ k
    refine z_aload_n dX1_keys_51 rfl rfl ?_
    refine z_bipush (v := 26) dX1_keys_52 rfl ?_
    exact z_callV (as := [vi (26 : Int32)]) (st := []) dX1_keys_54 vsX1_834_0 (Nat.le_refl _) (Nat.le_of_ble_eq_true rfl) (Nat.le_of_ble_eq_true rfl) rfl k
theorem sX1_keys_57 {E : zE} {d : Nat} {Q : zO → zM → Prop} (M : zM) (a1 : Nat) (hw : cw M) (k : Z E YX6_has d M (zargs 0 [vr (some (a1, 4, 0)), vi (8 : Int32)]) 0 [] (zafter E YX1_keys (d + 1) [(0, vr (some (16, 0, 0))), (1, vr (some (a1, 4, 0)))] 60 3 [] Q)) : Z E YX1_keys (d + 1) M [(0, vr (some (16, 0, 0))), (1, vr (some (a1, 4, 0)))] 57 [] Q := by
  refine z_aload_n dX1_keys_57 rfl rfl ?_
  refine z_bipush (v := 8) dX1_keys_58 rfl ?_
  exact z_callV (as := [vi (8 : Int32)]) (st := []) dX1_keys_60 vsX1_831_4 (Nat.le_refl _) (Nat.le_of_ble_eq_true rfl) (Nat.le_of_ble_eq_true rfl) rfl k
theorem sX1_keys_63 {E : zE} {d : Nat} {Q : zO → zM → Prop} (M : zM) (a1 : Nat) (s0 : Int32) (hw : cw M) (k : if s0 = 0 then (Z E YX1_keys (d + 1) M [(0, vr (some (16, 0, 0))), (1, vr (some (a1, 4, 0)))] 72 [] Q) else (Z E YX1_key d M (zargs 0 [vr (some (16, 0, 0)), vi (27 : Int32)]) 0 [] (zafter E YX1_keys (d + 1) [(0, vr (some (16, 0, 0))), (1, vr (some (a1, 4, 0)))] 69 3 [] Q))) : Z E YX1_keys (d + 1) M [(0, vr (some (16, 0, 0))), (1, vr (some (a1, 4, 0)))] 63 [vi s0] Q := by
  refine z_if_eq (tgt := 72) dX1_keys_63 rfl (fun h_ => ?_) (fun h_ => ?_)
  · have k := zit h_ k
    exact k
  · have k := zif h_ k
    refine z_aload_n dX1_keys_66 rfl rfl ?_
    refine z_bipush (v := 27) dX1_keys_67 rfl ?_
    exact z_callV (as := [vi (27 : Int32)]) (st := []) dX1_keys_69 vsX1_834_0 (Nat.le_refl _) (Nat.le_of_ble_eq_true rfl) (Nat.le_of_ble_eq_true rfl) rfl k
theorem sX1_keys_72 {E : zE} {d : Nat} {Q : zO → zM → Prop} (M : zM) (a1 : Nat) (hw : cw M) (k : Z E YX6_has d M (zargs 0 [vr (some (a1, 4, 0)), vi (16 : Int32)]) 0 [] (zafter E YX1_keys (d + 1) [(0, vr (some (16, 0, 0))), (1, vr (some (a1, 4, 0)))] 75 3 [] Q)) : Z E YX1_keys (d + 1) M [(0, vr (some (16, 0, 0))), (1, vr (some (a1, 4, 0)))] 72 [] Q := by
  refine z_aload_n dX1_keys_72 rfl rfl ?_
  refine z_bipush (v := 16) dX1_keys_73 rfl ?_
  exact z_callV (as := [vi (16 : Int32)]) (st := []) dX1_keys_75 vsX1_831_4 (Nat.le_refl _) (Nat.le_of_ble_eq_true rfl) (Nat.le_of_ble_eq_true rfl) rfl k
theorem sX1_keys_78 {E : zE} {d : Nat} {Q : zO → zM → Prop} (M : zM) (a1 : Nat) (s0 : Int32) (hw : cw M) (k : if s0 = 0 then (Z E YX1_keys (d + 1) M [(0, vr (some (16, 0, 0))), (1, vr (some (a1, 4, 0)))] 87 [] Q) else (Z E YX1_key d M (zargs 0 [vr (some (16, 0, 0)), vi (28 : Int32)]) 0 [] (zafter E YX1_keys (d + 1) [(0, vr (some (16, 0, 0))), (1, vr (some (a1, 4, 0)))] 84 3 [] Q))) : Z E YX1_keys (d + 1) M [(0, vr (some (16, 0, 0))), (1, vr (some (a1, 4, 0)))] 78 [vi s0] Q := by
  refine z_if_eq (tgt := 87) dX1_keys_78 rfl (fun h_ => ?_) (fun h_ => ?_)
  · have k := zit h_ k
    exact k
  · have k := zif h_ k
    refine z_aload_n dX1_keys_81 rfl rfl ?_
    refine z_bipush (v := 28) dX1_keys_82 rfl ?_
    exact z_callV (as := [vi (28 : Int32)]) (st := []) dX1_keys_84 vsX1_834_0 (Nat.le_refl _) (Nat.le_of_ble_eq_true rfl) (Nat.le_of_ble_eq_true rfl) rfl k
theorem sX1_keys_87 {E : zE} {d : Nat} {Q : zO → zM → Prop} (M : zM) (a1 : Nat) (hw : cw M) (k : Z E YX6_hasLabels d M (zargs 0 [vr (some (a1, 4, 0))]) 0 [] (zafter E YX1_keys (d + 1) [(0, vr (some (16, 0, 0))), (1, vr (some (a1, 4, 0)))] 88 3 [] Q)) : Z E YX1_keys (d + 1) M [(0, vr (some (16, 0, 0))), (1, vr (some (a1, 4, 0)))] 87 [] Q := by
  refine z_aload_n dX1_keys_87 rfl rfl ?_
  exact z_callV (as := []) (st := []) dX1_keys_88 vsX1_837_4 (Nat.le_refl _) (Nat.le_of_ble_eq_true rfl) (Nat.le_of_ble_eq_true rfl) rfl k
theorem sX1_keys_91 {E : zE} {d : Nat} {Q : zO → zM → Prop} (M : zM) (a1 : Nat) (s0 : Int32) (hw : cw M) (k : if s0 = 0 then (Z E YX1_keys (d + 1) M [(0, vr (some (16, 0, 0))), (1, vr (some (a1, 4, 0)))] 100 [] Q) else (Z E YX1_key d M (zargs 0 [vr (some (16, 0, 0)), vi (29 : Int32)]) 0 [] (zafter E YX1_keys (d + 1) [(0, vr (some (16, 0, 0))), (1, vr (some (a1, 4, 0)))] 97 3 [] Q))) : Z E YX1_keys (d + 1) M [(0, vr (some (16, 0, 0))), (1, vr (some (a1, 4, 0)))] 91 [vi s0] Q := by
  refine z_if_eq (tgt := 100) dX1_keys_91 rfl (fun h_ => ?_) (fun h_ => ?_)
  · have k := zit h_ k
    exact k
  · have k := zif h_ k
    refine z_aload_n dX1_keys_94 rfl rfl ?_
    refine z_bipush (v := 29) dX1_keys_95 rfl ?_
    exact z_callV (as := [vi (29 : Int32)]) (st := []) dX1_keys_97 vsX1_834_0 (Nat.le_refl _) (Nat.le_of_ble_eq_true rfl) (Nat.le_of_ble_eq_true rfl) rfl k
theorem sX1_keys_100 {E : zE} {d : Nat} {Q : zO → zM → Prop} (M : zM) (a1 : Nat) (hw : cw M) (k : Z E YX6_has d M (zargs 0 [vr (some (a1, 4, 0)), vi (128 : Int32)]) 0 [] (zafter E YX1_keys (d + 1) [(0, vr (some (16, 0, 0))), (1, vr (some (a1, 4, 0)))] 104 3 [] Q)) : Z E YX1_keys (d + 1) M [(0, vr (some (16, 0, 0))), (1, vr (some (a1, 4, 0)))] 100 [] Q := by
  refine z_aload_n dX1_keys_100 rfl rfl ?_
  refine z_sipush (v := 128) dX1_keys_101 rfl ?_
  exact z_callV (as := [vi (128 : Int32)]) (st := []) dX1_keys_104 vsX1_831_4 (Nat.le_refl _) (Nat.le_of_ble_eq_true rfl) (Nat.le_of_ble_eq_true rfl) rfl k
theorem sX1_keys_107 {E : zE} {d : Nat} {Q : zO → zM → Prop} (M : zM) (a1 : Nat) (s0 : Int32) (hw : cw M) (k : if s0 = 0 then (Z E YX1_keys (d + 1) M [(0, vr (some (16, 0, 0))), (1, vr (some (a1, 4, 0)))] 118 [] Q) else (Z E YX6_name d M (zargs 0 [vr (some (a1, 4, 0))]) 0 [] (zafter E YX1_keys (d + 1) [(0, vr (some (16, 0, 0))), (1, vr (some (a1, 4, 0)))] 112 3 [vr (some (16, 0, 0))] Q))) : Z E YX1_keys (d + 1) M [(0, vr (some (16, 0, 0))), (1, vr (some (a1, 4, 0)))] 107 [vi s0] Q := by
  refine z_if_eq (tgt := 118) dX1_keys_107 rfl (fun h_ => ?_) (fun h_ => ?_)
  · have k := zit h_ k
    exact k
  · have k := zif h_ k
    refine z_aload_n dX1_keys_110 rfl rfl ?_
    refine z_aload_n dX1_keys_111 rfl rfl ?_
    exact z_callV (as := []) (st := [vr (some (16, 0, 0))]) dX1_keys_112 vsX1_840_4 (Nat.le_refl _) (Nat.le_of_ble_eq_true rfl) (Nat.le_of_ble_eq_true rfl) rfl k
theorem sX1_keys_115 {E : zE} {d : Nat} {Q : zO → zM → Prop} (M : zM) (a1 : Nat) (s0 : Int32) (hw : cw M) (k : Z E YX1_key d M (zargs 0 [vr (some (16, 0, 0)), vi s0]) 0 [] (zafter E YX1_keys (d + 1) [(0, vr (some (16, 0, 0))), (1, vr (some (a1, 4, 0)))] 115 3 [] Q)) : Z E YX1_keys (d + 1) M [(0, vr (some (16, 0, 0))), (1, vr (some (a1, 4, 0)))] 115 [vi s0, vr (some (16, 0, 0))] Q := by
  exact z_callV (as := [vi s0]) (st := []) dX1_keys_115 vsX1_834_0 (Nat.le_refl _) (Nat.le_of_ble_eq_true rfl) (Nat.le_of_ble_eq_true rfl) rfl k
theorem sX1_keys_118 {E : zE} {d : Nat} {Q : zO → zM → Prop} (M : zM) (a1 : Nat) (hw : cw M) (k : Z E YX6_has d M (zargs 0 [vr (some (a1, 4, 0)), vi (32 : Int32)]) 0 [] (zafter E YX1_keys (d + 1) [(0, vr (some (16, 0, 0))), (1, vr (some (a1, 4, 0)))] 121 3 [] Q)) : Z E YX1_keys (d + 1) M [(0, vr (some (16, 0, 0))), (1, vr (some (a1, 4, 0)))] 118 [] Q := by
  refine z_aload_n dX1_keys_118 rfl rfl ?_
  refine z_bipush (v := 32) dX1_keys_119 rfl ?_
  exact z_callV (as := [vi (32 : Int32)]) (st := []) dX1_keys_121 vsX1_831_4 (Nat.le_refl _) (Nat.le_of_ble_eq_true rfl) (Nat.le_of_ble_eq_true rfl) rfl k
theorem sX1_keys_124 {E : zE} {d : Nat} {Q : zO → zM → Prop} (M : zM) (a1 : Nat) (s0 : Int32) (hw : cw M) (k : if s0 = 0 then (Z E YX1_keys (d + 1) M [(0, vr (some (16, 0, 0))), (1, vr (some (a1, 4, 0)))] 154 [] Q) else (Z E YX6_number d M (zargs 0 [vr (some (a1, 4, 0))]) 0 [] (zafter E YX1_keys (d + 1) [(0, vr (some (16, 0, 0))), (1, vr (some (a1, 4, 0)))] 129 3 [vr (some (16, 0, 0))] Q))) : Z E YX1_keys (d + 1) M [(0, vr (some (16, 0, 0))), (1, vr (some (a1, 4, 0)))] 124 [vi s0] Q := by
  refine z_if_eq (tgt := 154) dX1_keys_124 rfl (fun h_ => ?_) (fun h_ => ?_)
  · have k := zit h_ k
    exact k
  · have k := zif h_ k
    refine z_aload_n dX1_keys_127 rfl rfl ?_
    refine z_aload_n dX1_keys_128 rfl rfl ?_
    exact z_callV (as := []) (st := [vr (some (16, 0, 0))]) dX1_keys_129 vsX1_843_4 (Nat.le_refl _) (Nat.le_of_ble_eq_true rfl) (Nat.le_of_ble_eq_true rfl) rfl k
theorem sX1_keys_132 {E : zE} {d : Nat} {Q : zO → zM → Prop} (M : zM) (a1 : Nat) (s0 : Int32) (hw : cw M) (k : Z E YX1_nameOf d M (zargs 0 [vr (some (16, 0, 0)), vi s0]) 0 [] (zafter E YX1_keys (d + 1) [(0, vr (some (16, 0, 0))), (1, vr (some (a1, 4, 0)))] 132 3 [] Q)) : Z E YX1_keys (d + 1) M [(0, vr (some (16, 0, 0))), (1, vr (some (a1, 4, 0)))] 132 [vi s0, vr (some (16, 0, 0))] Q := by
  exact z_callV (as := [vi s0]) (st := []) dX1_keys_132 vsX1_845_0 (Nat.le_refl _) (Nat.le_of_ble_eq_true rfl) (Nat.le_of_ble_eq_true rfl) rfl k
theorem sX1_keys_135 {E : zE} {d : Nat} {Q : zO → zM → Prop} (M : zM) (a1 : Nat) (s0 : Int32) (hw : cw M) (k : if s0 = (-1 : Int32) then (Z E YX1_keys (d + 1) (si M 16 90 (1 : Int32)) [(0, vr (some (16, 0, 0))), (1, vr (some (a1, 4, 0)))] 154 [] Q) else (Z E YX1_key d M (zargs 0 [vr (some (16, 0, 0)), vi s0]) 0 [] (zafter E YX1_keys (d + 1) [(0, vr (some (16, 0, 0))), (1, vr (some (a1, 4, 0)))] 151 3 [] Q))) : Z E YX1_keys (d + 1) M [(0, vr (some (16, 0, 0))), (1, vr (some (a1, 4, 0)))] 135 [vi s0] Q := by
  refine z_ist_n dX1_keys_135 rfl (by decide) (lv' := [(0, vr (some (16, 0, 0))), (1, vr (some (a1, 4, 0))), (2, vi s0)]) rfl ?_
  refine z_iload_n dX1_keys_136 rfl rfl ?_
  refine z_iconst (v := -1) dX1_keys_137 rfl ?_
  refine z_icmp_ne (tgt := 149) dX1_keys_138 rfl (fun h_ => ?_) (fun h_ => ?_)
  · have k := zif h_ k
    refine z_aload_n dX1_keys_149 rfl rfl ?_
    refine z_iload_n dX1_keys_150 rfl rfl ?_
    refine Z.pick [0, 1] rfl ?_
    exact z_callV (as := [vi s0]) (st := []) dX1_keys_151 vsX1_834_0 (Nat.le_refl _) (Nat.le_of_ble_eq_true rfl) (Nat.le_of_ble_eq_true rfl) rfl k
  · have k := zit h_ k
    refine z_aload_n dX1_keys_141 rfl rfl ?_
    refine z_iconst (v := 1) dX1_keys_142 rfl ?_
    refine z_puti (by decide) dX1_keys_143 (zfwN.w fwX1_824_0) rfl ⟨by decide, by decide⟩ ?_
    refine z_goto (tgt := 154) dX1_keys_146 rfl ?_
    refine Z.pick [0, 1] rfl ?_
    exact k
theorem sX1_keys_154 {E : zE} {d : Nat} {Q : zO → zM → Prop} (M : zM) (a1 : Nat) (hw : cw M) (k : Z E YX6_has d M (zargs 0 [vr (some (a1, 4, 0)), vi (64 : Int32)]) 0 [] (zafter E YX1_keys (d + 1) [(0, vr (some (16, 0, 0))), (1, vr (some (a1, 4, 0)))] 157 3 [] Q)) : Z E YX1_keys (d + 1) M [(0, vr (some (16, 0, 0))), (1, vr (some (a1, 4, 0)))] 154 [] Q := by
  refine z_aload_n dX1_keys_154 rfl rfl ?_
  refine z_bipush (v := 64) dX1_keys_155 rfl ?_
  exact z_callV (as := [vi (64 : Int32)]) (st := []) dX1_keys_157 vsX1_831_4 (Nat.le_refl _) (Nat.le_of_ble_eq_true rfl) (Nat.le_of_ble_eq_true rfl) rfl k
theorem sX1_keys_160 {E : zE} {d : Nat} {Q : zO → zM → Prop} (M : zM) (a1 : Nat) (s0 : Int32) (hw : cw M) (k : if s0 = 0 then (Z E YX6_has d M (zargs 0 [vr (some (a1, 4, 0)), vi (256 : Int32)]) 0 [] (zafter E YX1_keys (d + 1) [(0, vr (some (16, 0, 0)))] 198 3 [] Q)) else (Z E YX6_has d (si (sl (sl M 16 88 ((gl M 16 88) ||| (gl M 16 67))) 16 89 ((gl M 16 89) ||| (gl M 16 68))) 16 90 (1 : Int32)) (zargs 0 [vr (some (a1, 4, 0)), vi (256 : Int32)]) 0 [] (zafter E YX1_keys (d + 1) [(0, vr (some (16, 0, 0)))] 198 3 [] Q))) : Z E YX1_keys (d + 1) M [(0, vr (some (16, 0, 0))), (1, vr (some (a1, 4, 0)))] 160 [vi s0] Q := by
  refine z_if_eq (tgt := 194) dX1_keys_160 rfl (fun h_ => ?_) (fun h_ => ?_)
  · have k := zit h_ k
    refine z_aload_n dX1_keys_194 rfl rfl ?_
    refine z_sipush (v := 256) dX1_keys_195 rfl ?_
    refine Z.pick [0] rfl ?_
    exact z_callV (as := [vi (256 : Int32)]) (st := []) dX1_keys_198 vsX1_831_4 (Nat.le_refl _) (Nat.le_of_ble_eq_true rfl) (Nat.le_of_ble_eq_true rfl) rfl k
  · have k := zif h_ k
    refine z_aload_n dX1_keys_163 rfl rfl ?_
    refine z_dup dX1_keys_164 rfl ?_
    refine z_getl dX1_keys_165 fsX1_818_0 ?_
    refine z_aload_n dX1_keys_168 rfl rfl ?_
    refine z_getl dX1_keys_169 fsX1_639_0 ?_
    refine z_lor dX1_keys_172 ?_
    refine z_putl (by decide) dX1_keys_173 (zfwN.w fwX1_818_0) ?_
    refine z_aload_n dX1_keys_176 rfl rfl ?_
    refine z_dup dX1_keys_177 rfl ?_
    refine z_getl dX1_keys_178 fsX1_821_0 ?_
    refine z_aload_n dX1_keys_181 rfl rfl ?_
    refine z_getl dX1_keys_182 fsX1_643_0 ?_
    refine z_lor dX1_keys_185 ?_
    refine z_putl (by decide) dX1_keys_186 (zfwN.w fwX1_821_0) ?_
    refine z_aload_n dX1_keys_189 rfl rfl ?_
    refine z_iconst (v := 1) dX1_keys_190 rfl ?_
    refine z_puti (by decide) dX1_keys_191 (zfwN.w fwX1_824_0) rfl ⟨by decide, by decide⟩ ?_
    refine z_aload_n dX1_keys_194 rfl rfl ?_
    refine z_sipush (v := 256) dX1_keys_195 rfl ?_
    refine Z.pick [0] rfl ?_
    exact z_callV (as := [vi (256 : Int32)]) (st := []) dX1_keys_198 vsX1_831_4 (Nat.le_refl _) (Nat.le_of_ble_eq_true rfl) (Nat.le_of_ble_eq_true rfl) rfl k
theorem sX1_keys_201 {E : zE} {d : Nat} {Q : zO → zM → Prop} (M : zM) (s0 : Int32) (hw : cw M) (k : if s0 = 0 then (Q (.inl none) M) else (if (64 : Int32) ≤ (gi M 16 1) then (Z E YX1_keys (d + 1) M [(0, vr (some (16, 0, 0)))] 228 [vl (-1 : Int64), vr (some (16, 0, 0))] Q) else (Z E YX1_keys (d + 1) M [(0, vr (some (16, 0, 0)))] 228 [vl ((zls (1 : Int64) (gi M 16 1)) - (1 : Int64)), vr (some (16, 0, 0))] Q))) : Z E YX1_keys (d + 1) M [(0, vr (some (16, 0, 0)))] 201 [vi s0] Q := by
  refine z_if_eq (tgt := 264) dX1_keys_201 rfl (fun h_ => ?_) (fun h_ => ?_)
  · have k := zit h_ k
    exact z_vret dX1_keys_264 rfl k
  · have k := zif h_ k
    refine z_aload_n dX1_keys_204 rfl rfl ?_
    refine z_aload_n dX1_keys_205 rfl rfl ?_
    refine z_geti dX1_keys_206 fsX1_58_0 ?_
    refine z_bipush (v := 64) dX1_keys_209 rfl ?_
    refine z_icmp_ge (tgt := 225) dX1_keys_211 rfl (fun h_ => ?_) (fun h_ => ?_)
    · have k := zit h_ k
      refine z_ldc2 (v := -1) dX1_keys_225 q3261 ?_
      exact k
    · have k := zif h_ k
      refine z_lconst (v := 1) dX1_keys_214 rfl ?_
      refine z_aload_n dX1_keys_215 rfl rfl ?_
      refine z_geti dX1_keys_216 fsX1_58_0 ?_
      refine z_lshl dX1_keys_219 ?_
      refine z_lconst (v := 1) dX1_keys_220 rfl ?_
      refine z_lsub dX1_keys_221 ?_
      refine z_goto (tgt := 228) dX1_keys_222 rfl ?_
      exact k
theorem sX1_keys_228 {E : zE} {d : Nat} {Q : zO → zM → Prop} (M : zM) (s0 : Int64) (hw : cw M) (k : if (gi M 16 1) ≤ (64 : Int32) then (Q (.inl none) (si (sl (sl M 16 88 s0) 16 89 (0 : Int64)) 16 90 (1 : Int32))) else (Q (.inl none) (si (sl (sl M 16 88 s0) 16 89 ((zls (1 : Int64) ((gi M 16 1) - (64 : Int32))) - (1 : Int64))) 16 90 (1 : Int32)))) : Z E YX1_keys (d + 1) M [(0, vr (some (16, 0, 0)))] 228 [vl s0, vr (some (16, 0, 0))] Q := by
  refine z_putl (by decide) dX1_keys_228 (zfwN.w fwX1_818_0) ?_
  refine z_aload_n dX1_keys_231 rfl rfl ?_
  refine z_aload_n dX1_keys_232 rfl rfl ?_
  refine z_geti dX1_keys_233 fsX1_58_0 ?_
  refine z_bipush (v := 64) dX1_keys_236 rfl ?_
  refine z_icmp_le (tgt := 255) dX1_keys_238 rfl (fun h_ => ?_) (fun h_ => ?_)
  · have k := zit h_ k
    refine z_lconst (v := 0) dX1_keys_255 rfl ?_
    refine z_putl (by decide) dX1_keys_256 (zfwN.w fwX1_821_0) ?_
    refine z_aload_n dX1_keys_259 rfl rfl ?_
    refine z_iconst (v := 1) dX1_keys_260 rfl ?_
    refine z_puti (by decide) dX1_keys_261 (zfwN.w fwX1_824_0) rfl ⟨by decide, by decide⟩ ?_
    exact z_vret dX1_keys_264 rfl k
  · have k := zif h_ k
    refine z_lconst (v := 1) dX1_keys_241 rfl ?_
    refine z_aload_n dX1_keys_242 rfl rfl ?_
    refine z_geti dX1_keys_243 fsX1_58_0 ?_
    refine z_bipush (v := 64) dX1_keys_246 rfl ?_
    refine z_isub dX1_keys_248 ?_
    refine z_lshl dX1_keys_249 ?_
    refine z_lconst (v := 1) dX1_keys_250 rfl ?_
    refine z_lsub dX1_keys_251 ?_
    refine z_goto (tgt := 256) dX1_keys_252 rfl ?_
    refine z_putl (by decide) dX1_keys_256 (zfwN.w fwX1_821_0) ?_
    refine z_aload_n dX1_keys_259 rfl rfl ?_
    refine z_iconst (v := 1) dX1_keys_260 rfl ?_
    refine z_puti (by decide) dX1_keys_261 (zfwN.w fwX1_824_0) rfl ⟨by decide, by decide⟩ ?_
    exact z_vret dX1_keys_264 rfl k
/-! ScriptTypes.nameOf(I)I -/
theorem bX1_nameOf_0 : zdec cX1_nameOf 0 [(0, .aload_n 0, 1), (1, .invokevirtual 37, 3), (4, .aload_n 0, 1), (5, .iload_n 1, 1), (6, .invokevirtual 377, 3), (9, .aload_n 0, 1), (10, .getfield 19, 3), (13, .aload_n 0, 1), (14, .getfield 7, 3), (17, .aload_n 0, 1), (18, .getfield 1, 3), (21, .invokevirtual 374, 3), (24, .istore_n 2, 1), (25, .iload_n 2, 1), (26, .aload_n 0, 1), (27, .getfield 58, 3)] = true := by decide +kernel
theorem dX1_nameOf_0 : decode cX1_nameOf 0 = .ok (.aload_n 0, 1) := zdec_at bX1_nameOf_0 0 rfl
theorem dX1_nameOf_1 : decode cX1_nameOf 1 = .ok (.invokevirtual 37, 3) := zdec_at bX1_nameOf_0 1 rfl
theorem dX1_nameOf_4 : decode cX1_nameOf 4 = .ok (.aload_n 0, 1) := zdec_at bX1_nameOf_0 2 rfl
theorem dX1_nameOf_5 : decode cX1_nameOf 5 = .ok (.iload_n 1, 1) := zdec_at bX1_nameOf_0 3 rfl
theorem dX1_nameOf_6 : decode cX1_nameOf 6 = .ok (.invokevirtual 377, 3) := zdec_at bX1_nameOf_0 4 rfl
theorem dX1_nameOf_9 : decode cX1_nameOf 9 = .ok (.aload_n 0, 1) := zdec_at bX1_nameOf_0 5 rfl
theorem dX1_nameOf_10 : decode cX1_nameOf 10 = .ok (.getfield 19, 3) := zdec_at bX1_nameOf_0 6 rfl
theorem dX1_nameOf_13 : decode cX1_nameOf 13 = .ok (.aload_n 0, 1) := zdec_at bX1_nameOf_0 7 rfl
theorem dX1_nameOf_14 : decode cX1_nameOf 14 = .ok (.getfield 7, 3) := zdec_at bX1_nameOf_0 8 rfl
theorem dX1_nameOf_17 : decode cX1_nameOf 17 = .ok (.aload_n 0, 1) := zdec_at bX1_nameOf_0 9 rfl
theorem dX1_nameOf_18 : decode cX1_nameOf 18 = .ok (.getfield 1, 3) := zdec_at bX1_nameOf_0 10 rfl
theorem dX1_nameOf_21 : decode cX1_nameOf 21 = .ok (.invokevirtual 374, 3) := zdec_at bX1_nameOf_0 11 rfl
theorem dX1_nameOf_24 : decode cX1_nameOf 24 = .ok (.istore_n 2, 1) := zdec_at bX1_nameOf_0 12 rfl
theorem dX1_nameOf_25 : decode cX1_nameOf 25 = .ok (.iload_n 2, 1) := zdec_at bX1_nameOf_0 13 rfl
theorem dX1_nameOf_26 : decode cX1_nameOf 26 = .ok (.aload_n 0, 1) := zdec_at bX1_nameOf_0 14 rfl
theorem dX1_nameOf_27 : decode cX1_nameOf 27 = .ok (.getfield 58, 3) := zdec_at bX1_nameOf_0 15 rfl
theorem bX1_nameOf_30 : zdec cX1_nameOf 30 [(30, .if_icmp .ge 7, 3), (33, .iload_n 2, 1), (34, .goto 4, 3), (37, .iconst (-1), 1), (38, .ireturn, 1)] = true := by decide +kernel
theorem dX1_nameOf_30 : decode cX1_nameOf 30 = .ok (.if_icmp .ge 7, 3) := zdec_at bX1_nameOf_30 0 rfl
theorem dX1_nameOf_33 : decode cX1_nameOf 33 = .ok (.iload_n 2, 1) := zdec_at bX1_nameOf_30 1 rfl
theorem dX1_nameOf_34 : decode cX1_nameOf 34 = .ok (.goto 4, 3) := zdec_at bX1_nameOf_30 2 rfl
theorem dX1_nameOf_37 : decode cX1_nameOf 37 = .ok (.iconst (-1), 1) := zdec_at bX1_nameOf_30 3 rfl
theorem dX1_nameOf_38 : decode cX1_nameOf 38 = .ok (.ireturn, 1) := zdec_at bX1_nameOf_30 4 rfl
theorem sX1_nameOf_0 {E : zE} {d : Nat} {Q : zO → zM → Prop} (M : zM) (l1 : Int32) (hw : cw M) (k : Z E YX1_clearRow d M (zargs 0 [vr (some (16, 0, 0))]) 0 [] (zafter E YX1_nameOf (d + 1) [(0, vr (some (16, 0, 0))), (1, vi l1)] 1 3 [] Q)) : Z E YX1_nameOf (d + 1) M [(0, vr (some (16, 0, 0))), (1, vi l1)] 0 [] Q := by
  refine z_aload_n dX1_nameOf_0 rfl rfl ?_
  exact z_callV (as := []) (st := []) dX1_nameOf_1 vsX1_37_0 (Nat.le_refl _) (Nat.le_of_ble_eq_true rfl) (Nat.le_of_ble_eq_true rfl) rfl k
theorem sX1_nameOf_4 {E : zE} {d : Nat} {Q : zO → zM → Prop} (M : zM) (l1 : Int32) (hw : cw M) (k : Z E YX1_putDigits d M (zargs 0 [vr (some (16, 0, 0)), vi l1]) 0 [] (zafter E YX1_nameOf (d + 1) [(0, vr (some (16, 0, 0)))] 6 3 [] Q)) : Z E YX1_nameOf (d + 1) M [(0, vr (some (16, 0, 0))), (1, vi l1)] 4 [] Q := by
  refine z_aload_n dX1_nameOf_4 rfl rfl ?_
  refine z_iload_n dX1_nameOf_5 rfl rfl ?_
  refine Z.pick [0] rfl ?_
  exact z_callV (as := [vi l1]) (st := []) dX1_nameOf_6 vsX1_377_0 (Nat.le_refl _) (Nat.le_of_ble_eq_true rfl) (Nat.le_of_ble_eq_true rfl) rfl k
theorem sX1_nameOf_9 {E : zE} {d : Nat} {Q : zO → zM → Prop} (M : zM)  (hw : cw M) (k : Z E YX2_find d M (zargs 0 [vr (some (17, 2, 0)), vr (some (20, 101, 256)), vi (gi M 16 3)]) 0 [] (zafter E YX1_nameOf (d + 1) [(0, vr (some (16, 0, 0)))] 21 3 [] Q)) : Z E YX1_nameOf (d + 1) M [(0, vr (some (16, 0, 0)))] 9 [] Q := by
  refine z_aload_n dX1_nameOf_9 rfl rfl ?_
  refine z_getr dX1_nameOf_10 fsX1_19_0 (show gr M 16 0 = some (17, 2, 0) from cw_at hw 0 rfl) ?_
  refine z_aload_n dX1_nameOf_13 rfl rfl ?_
  refine z_getr dX1_nameOf_14 fsX1_7_0 (show gr M 16 2 = some (20, 101, 256) from cw_at hw 1 rfl) ?_
  refine z_aload_n dX1_nameOf_17 rfl rfl ?_
  refine z_geti dX1_nameOf_18 fsX1_1_0 ?_
  exact z_callV (as := [vr (some (20, 101, 256)), vi (gi M 16 3)]) (st := []) dX1_nameOf_21 vsX1_374_2 (Nat.le_refl _) (Nat.le_of_ble_eq_true rfl) (Nat.le_of_ble_eq_true rfl) rfl k
theorem sX1_nameOf_24 {E : zE} {d : Nat} {Q : zO → zM → Prop} (M : zM) (s0 : Int32) (hw : cw M) (k : if (gi M 16 1) ≤ s0 then (Q (.inl (some (vi (-1 : Int32)))) M) else (Q (.inl (some (vi s0))) M)) : Z E YX1_nameOf (d + 1) M [(0, vr (some (16, 0, 0)))] 24 [vi s0] Q := by
  refine z_ist_n dX1_nameOf_24 rfl (by decide) (lv' := [(0, vr (some (16, 0, 0))), (2, vi s0)]) rfl ?_
  refine z_iload_n dX1_nameOf_25 rfl rfl ?_
  refine z_aload_n dX1_nameOf_26 rfl rfl ?_
  refine z_geti dX1_nameOf_27 fsX1_58_0 ?_
  refine z_icmp_ge (tgt := 37) dX1_nameOf_30 rfl (fun h_ => ?_) (fun h_ => ?_)
  · have k := zit h_ k
    refine z_iconst (v := -1) dX1_nameOf_37 rfl ?_
    exact z_iret dX1_nameOf_38 rfl rfl k
  · have k := zif h_ k
    refine z_iload_n dX1_nameOf_33 rfl rfl ?_
    refine z_goto (tgt := 38) dX1_nameOf_34 rfl ?_
    exact z_iret dX1_nameOf_38 rfl rfl k
/-! ScriptTypes.readAll(JJLScriptTypes$Bag;)V -/
theorem bX1_readAll_0 : zdec cX1_readAll 0 [(0, .aload_n 0, 1), (1, .iconst 0, 1), (2, .putfield 850, 3), (5, .aload_n 0, 1), (6, .iconst 0, 1), (7, .putfield 853, 3), (10, .iconst 0, 1), (11, .istore 6, 2), (13, .iload 6, 2), (15, .aload_n 0, 1), (16, .getfield 58, 3), (19, .if_icmp .gt 28, 3), (22, .aload_n 0, 1), (23, .iload 6, 2), (25, .invokevirtual 856, 3), (28, .ifCond .eq 13, 3)] = true := by decide +kernel
theorem dX1_readAll_0 : decode cX1_readAll 0 = .ok (.aload_n 0, 1) := zdec_at bX1_readAll_0 0 rfl
theorem dX1_readAll_1 : decode cX1_readAll 1 = .ok (.iconst 0, 1) := zdec_at bX1_readAll_0 1 rfl
theorem dX1_readAll_2 : decode cX1_readAll 2 = .ok (.putfield 850, 3) := zdec_at bX1_readAll_0 2 rfl
theorem dX1_readAll_5 : decode cX1_readAll 5 = .ok (.aload_n 0, 1) := zdec_at bX1_readAll_0 3 rfl
theorem dX1_readAll_6 : decode cX1_readAll 6 = .ok (.iconst 0, 1) := zdec_at bX1_readAll_0 4 rfl
theorem dX1_readAll_7 : decode cX1_readAll 7 = .ok (.putfield 853, 3) := zdec_at bX1_readAll_0 5 rfl
theorem dX1_readAll_10 : decode cX1_readAll 10 = .ok (.iconst 0, 1) := zdec_at bX1_readAll_0 6 rfl
theorem dX1_readAll_11 : decode cX1_readAll 11 = .ok (.istore 6, 2) := zdec_at bX1_readAll_0 7 rfl
theorem dX1_readAll_13 : decode cX1_readAll 13 = .ok (.iload 6, 2) := zdec_at bX1_readAll_0 8 rfl
theorem dX1_readAll_15 : decode cX1_readAll 15 = .ok (.aload_n 0, 1) := zdec_at bX1_readAll_0 9 rfl
theorem dX1_readAll_16 : decode cX1_readAll 16 = .ok (.getfield 58, 3) := zdec_at bX1_readAll_0 10 rfl
theorem dX1_readAll_19 : decode cX1_readAll 19 = .ok (.if_icmp .gt 28, 3) := zdec_at bX1_readAll_0 11 rfl
theorem dX1_readAll_22 : decode cX1_readAll 22 = .ok (.aload_n 0, 1) := zdec_at bX1_readAll_0 12 rfl
theorem dX1_readAll_23 : decode cX1_readAll 23 = .ok (.iload 6, 2) := zdec_at bX1_readAll_0 13 rfl
theorem dX1_readAll_25 : decode cX1_readAll 25 = .ok (.invokevirtual 856, 3) := zdec_at bX1_readAll_0 14 rfl
theorem dX1_readAll_28 : decode cX1_readAll 28 = .ok (.ifCond .eq 13, 3) := zdec_at bX1_readAll_0 15 rfl
theorem bX1_readAll_31 : zdec cX1_readAll 31 [(31, .aload_n 0, 1), (32, .lload_n 1, 1), (33, .lload_n 3, 1), (34, .iload 6, 2), (36, .aload 5, 2), (38, .invokevirtual 859, 3), (41, .iinc 6 1, 3), (44, .goto (-31), 3), (47, .return_, 1)] = true := by decide +kernel
theorem dX1_readAll_31 : decode cX1_readAll 31 = .ok (.aload_n 0, 1) := zdec_at bX1_readAll_31 0 rfl
theorem dX1_readAll_32 : decode cX1_readAll 32 = .ok (.lload_n 1, 1) := zdec_at bX1_readAll_31 1 rfl
theorem dX1_readAll_33 : decode cX1_readAll 33 = .ok (.lload_n 3, 1) := zdec_at bX1_readAll_31 2 rfl
theorem dX1_readAll_34 : decode cX1_readAll 34 = .ok (.iload 6, 2) := zdec_at bX1_readAll_31 3 rfl
theorem dX1_readAll_36 : decode cX1_readAll 36 = .ok (.aload 5, 2) := zdec_at bX1_readAll_31 4 rfl
theorem dX1_readAll_38 : decode cX1_readAll 38 = .ok (.invokevirtual 859, 3) := zdec_at bX1_readAll_31 5 rfl
theorem dX1_readAll_41 : decode cX1_readAll 41 = .ok (.iinc 6 1, 3) := zdec_at bX1_readAll_31 6 rfl
theorem dX1_readAll_44 : decode cX1_readAll 44 = .ok (.goto (-31), 3) := zdec_at bX1_readAll_31 7 rfl
theorem dX1_readAll_47 : decode cX1_readAll 47 = .ok (.return_, 1) := zdec_at bX1_readAll_31 8 rfl
theorem sX1_readAll_0 {E : zE} {d : Nat} {Q : zO → zM → Prop} (M : zM) (l1 : Int64) (l3 : Int64) (r5 : Option zP) (hw : cw M) (k : Z E YX1_readAll (d + 1) (si (si M 16 91 (0 : Int32)) 16 92 (0 : Int32)) [(0, vr (some (16, 0, 0))), (1, vl l1), (3, vl l3), (5, vr r5), (6, vi (0 : Int32))] 13 [] Q) : Z E YX1_readAll (d + 1) M [(0, vr (some (16, 0, 0))), (1, vl l1), (3, vl l3), (5, vr r5)] 0 [] Q := by
  refine z_aload_n dX1_readAll_0 rfl rfl ?_
  refine z_iconst (v := 0) dX1_readAll_1 rfl ?_
  refine z_puti (by decide) dX1_readAll_2 (zfwN.w fwX1_850_0) rfl ⟨by decide, by decide⟩ ?_
  refine z_aload_n dX1_readAll_5 rfl rfl ?_
  refine z_iconst (v := 0) dX1_readAll_6 rfl ?_
  refine z_puti (by decide) dX1_readAll_7 (zfwN.w fwX1_853_0) rfl ⟨by decide, by decide⟩ ?_
  refine z_iconst (v := 0) dX1_readAll_10 rfl ?_
  refine z_ist dX1_readAll_11 (by decide) (lv' := [(0, vr (some (16, 0, 0))), (1, vl l1), (3, vl l3), (5, vr r5), (6, vi (0 : Int32))]) rfl ?_
  exact k
theorem sX1_readAll_13 {E : zE} {d : Nat} {Q : zO → zM → Prop} (M : zM) (l1 : Int64) (l3 : Int64) (r5 : Option zP) (l6 : Int32) (hw : cw M) (k : if (gi M 16 1) < l6 then (Q (.inl none) M) else (Z E YX1_isKey d M (zargs 0 [vr (some (16, 0, 0)), vi l6]) 0 [] (zafter E YX1_readAll (d + 1) [(0, vr (some (16, 0, 0))), (1, vl l1), (3, vl l3), (5, vr r5), (6, vi l6)] 25 3 [] Q))) : Z E YX1_readAll (d + 1) M [(0, vr (some (16, 0, 0))), (1, vl l1), (3, vl l3), (5, vr r5), (6, vi l6)] 13 [] Q := by
  refine z_iload dX1_readAll_13 rfl ?_
  refine z_aload_n dX1_readAll_15 rfl rfl ?_
  refine z_geti dX1_readAll_16 fsX1_58_0 ?_
  refine z_icmp_gt (tgt := 47) dX1_readAll_19 rfl (fun h_ => ?_) (fun h_ => ?_)
  · have k := zit h_ k
    exact z_vret dX1_readAll_47 rfl k
  · have k := zif h_ k
    refine z_aload_n dX1_readAll_22 rfl rfl ?_
    refine z_iload dX1_readAll_23 rfl ?_
    exact z_callV (as := [vi l6]) (st := []) dX1_readAll_25 vsX1_856_0 (Nat.le_refl _) (Nat.le_of_ble_eq_true rfl) (Nat.le_of_ble_eq_true rfl) rfl k
theorem sX1_readAll_28 {E : zE} {d : Nat} {Q : zO → zM → Prop} (M : zM) (l1 : Int64) (l3 : Int64) (r5 : Option zP) (l6 : Int32) (s0 : Int32) (hw : cw M) (k : if s0 = 0 then (Z E YX1_readAll (d + 1) M [(0, vr (some (16, 0, 0))), (1, vl l1), (3, vl l3), (5, vr r5), (6, vi l6)] 41 [] Q) else (Z E YX1_readOne d M (zargs 0 [vr (some (16, 0, 0)), vl l1, vl l3, vi l6, vr r5]) 0 [] (zafter E YX1_readAll (d + 1) [(0, vr (some (16, 0, 0))), (1, vl l1), (3, vl l3), (5, vr r5), (6, vi l6)] 38 3 [] Q))) : Z E YX1_readAll (d + 1) M [(0, vr (some (16, 0, 0))), (1, vl l1), (3, vl l3), (5, vr r5), (6, vi l6)] 28 [vi s0] Q := by
  refine z_if_eq (tgt := 41) dX1_readAll_28 rfl (fun h_ => ?_) (fun h_ => ?_)
  · have k := zit h_ k
    exact k
  · have k := zif h_ k
    refine z_aload_n dX1_readAll_31 rfl rfl ?_
    refine z_lload_n dX1_readAll_32 rfl rfl ?_
    refine z_lload_n dX1_readAll_33 rfl rfl ?_
    refine z_iload dX1_readAll_34 rfl ?_
    refine z_aload dX1_readAll_36 rfl ?_
    exact z_callV (as := [vl l1, vl l3, vi l6, vr r5]) (st := []) dX1_readAll_38 vsX1_859_0 (Nat.le_refl _) (Nat.le_of_ble_eq_true rfl) (Nat.le_of_ble_eq_true rfl) rfl k
theorem sX1_readAll_41 {E : zE} {d : Nat} {Q : zO → zM → Prop} (M : zM) (l1 : Int64) (l3 : Int64) (r5 : Option zP) (l6 : Int32) (hw : cw M) (k : Z E YX1_readAll (d + 1) M [(0, vr (some (16, 0, 0))), (1, vl l1), (3, vl l3), (5, vr r5), (6, vi (l6 + (1 : Int32)))] 13 [] Q) : Z E YX1_readAll (d + 1) M [(0, vr (some (16, 0, 0))), (1, vl l1), (3, vl l3), (5, vr r5), (6, vi l6)] 41 [] Q := by
  refine z_inc (v := (l6 + (1 : Int32))) dX1_readAll_41 rfl rfl (by decide) (lv' := [(0, vr (some (16, 0, 0))), (1, vl l1), (3, vl l3), (5, vr r5), (6, vi (l6 + (1 : Int32)))]) rfl ?_
  refine z_goto (tgt := 13) dX1_readAll_44 rfl ?_
  exact k
/-! ScriptTypes.readOne(JJILScriptTypes$Bag;)V -/
theorem bX1_readOne_0 : zdec cX1_readOne 0 [(0, .lconst 0, 1), (1, .lstore 7, 2), (3, .lconst 0, 1), (4, .lstore 9, 2), (6, .lload_n 1, 1), (7, .lstore 11, 2), (9, .lload_n 3, 1), (10, .lstore 13, 2), (12, .lload 11, 2), (14, .lconst 0, 1), (15, .lcmp, 1), (16, .ifCond .ne 10, 3), (19, .lload 13, 2), (21, .lconst 0, 1), (22, .lcmp, 1), (23, .ifCond .eq 268, 3)] = true := by decide +kernel
theorem dX1_readOne_0 : decode cX1_readOne 0 = .ok (.lconst 0, 1) := zdec_at bX1_readOne_0 0 rfl
theorem dX1_readOne_1 : decode cX1_readOne 1 = .ok (.lstore 7, 2) := zdec_at bX1_readOne_0 1 rfl
theorem dX1_readOne_3 : decode cX1_readOne 3 = .ok (.lconst 0, 1) := zdec_at bX1_readOne_0 2 rfl
theorem dX1_readOne_4 : decode cX1_readOne 4 = .ok (.lstore 9, 2) := zdec_at bX1_readOne_0 3 rfl
theorem dX1_readOne_6 : decode cX1_readOne 6 = .ok (.lload_n 1, 1) := zdec_at bX1_readOne_0 4 rfl
theorem dX1_readOne_7 : decode cX1_readOne 7 = .ok (.lstore 11, 2) := zdec_at bX1_readOne_0 5 rfl
theorem dX1_readOne_9 : decode cX1_readOne 9 = .ok (.lload_n 3, 1) := zdec_at bX1_readOne_0 6 rfl
theorem dX1_readOne_10 : decode cX1_readOne 10 = .ok (.lstore 13, 2) := zdec_at bX1_readOne_0 7 rfl
theorem dX1_readOne_12 : decode cX1_readOne 12 = .ok (.lload 11, 2) := zdec_at bX1_readOne_0 8 rfl
theorem dX1_readOne_14 : decode cX1_readOne 14 = .ok (.lconst 0, 1) := zdec_at bX1_readOne_0 9 rfl
theorem dX1_readOne_15 : decode cX1_readOne 15 = .ok (.lcmp, 1) := zdec_at bX1_readOne_0 10 rfl
theorem dX1_readOne_16 : decode cX1_readOne 16 = .ok (.ifCond .ne 10, 3) := zdec_at bX1_readOne_0 11 rfl
theorem dX1_readOne_19 : decode cX1_readOne 19 = .ok (.lload 13, 2) := zdec_at bX1_readOne_0 12 rfl
theorem dX1_readOne_21 : decode cX1_readOne 21 = .ok (.lconst 0, 1) := zdec_at bX1_readOne_0 13 rfl
theorem dX1_readOne_22 : decode cX1_readOne 22 = .ok (.lcmp, 1) := zdec_at bX1_readOne_0 14 rfl
theorem dX1_readOne_23 : decode cX1_readOne 23 = .ok (.ifCond .eq 268, 3) := zdec_at bX1_readOne_0 15 rfl
theorem bX1_readOne_26 : zdec cX1_readOne 26 [(26, .lload 11, 2), (28, .lconst 0, 1), (29, .lcmp, 1), (30, .ifCond .eq 11, 3), (33, .lload 11, 2), (35, .invokestatic 629, 3), (38, .goto 11, 3), (41, .bipush 64, 2), (43, .lload 13, 2), (45, .invokestatic 629, 3), (48, .iadd, 1), (49, .istore 15, 2), (51, .iload 15, 2), (53, .bipush 64, 2), (55, .if_icmp .ge 15, 3), (58, .lload 7, 2)] = true := by decide +kernel
theorem dX1_readOne_26 : decode cX1_readOne 26 = .ok (.lload 11, 2) := zdec_at bX1_readOne_26 0 rfl
theorem dX1_readOne_28 : decode cX1_readOne 28 = .ok (.lconst 0, 1) := zdec_at bX1_readOne_26 1 rfl
theorem dX1_readOne_29 : decode cX1_readOne 29 = .ok (.lcmp, 1) := zdec_at bX1_readOne_26 2 rfl
theorem dX1_readOne_30 : decode cX1_readOne 30 = .ok (.ifCond .eq 11, 3) := zdec_at bX1_readOne_26 3 rfl
theorem dX1_readOne_33 : decode cX1_readOne 33 = .ok (.lload 11, 2) := zdec_at bX1_readOne_26 4 rfl
theorem dX1_readOne_35 : decode cX1_readOne 35 = .ok (.invokestatic 629, 3) := zdec_at bX1_readOne_26 5 rfl
theorem dX1_readOne_38 : decode cX1_readOne 38 = .ok (.goto 11, 3) := zdec_at bX1_readOne_26 6 rfl
theorem dX1_readOne_41 : decode cX1_readOne 41 = .ok (.bipush 64, 2) := zdec_at bX1_readOne_26 7 rfl
theorem dX1_readOne_43 : decode cX1_readOne 43 = .ok (.lload 13, 2) := zdec_at bX1_readOne_26 8 rfl
theorem dX1_readOne_45 : decode cX1_readOne 45 = .ok (.invokestatic 629, 3) := zdec_at bX1_readOne_26 9 rfl
theorem dX1_readOne_48 : decode cX1_readOne 48 = .ok (.iadd, 1) := zdec_at bX1_readOne_26 10 rfl
theorem dX1_readOne_49 : decode cX1_readOne 49 = .ok (.istore 15, 2) := zdec_at bX1_readOne_26 11 rfl
theorem dX1_readOne_51 : decode cX1_readOne 51 = .ok (.iload 15, 2) := zdec_at bX1_readOne_26 12 rfl
theorem dX1_readOne_53 : decode cX1_readOne 53 = .ok (.bipush 64, 2) := zdec_at bX1_readOne_26 13 rfl
theorem dX1_readOne_55 : decode cX1_readOne 55 = .ok (.if_icmp .ge 15, 3) := zdec_at bX1_readOne_26 14 rfl
theorem dX1_readOne_58 : decode cX1_readOne 58 = .ok (.lload 7, 2) := zdec_at bX1_readOne_26 15 rfl
theorem bX1_readOne_60 : zdec cX1_readOne 60 [(60, .lconst 1, 1), (61, .iload 15, 2), (63, .lshl, 1), (64, .lor, 1), (65, .lstore 7, 2), (67, .goto 15, 3), (70, .lload 9, 2), (72, .lconst 1, 1), (73, .iload 15, 2), (75, .bipush 64, 2), (77, .isub, 1), (78, .lshl, 1), (79, .lor, 1), (80, .lstore 9, 2), (82, .aload_n 0, 1), (83, .getfield 684, 3)] = true := by decide +kernel
theorem dX1_readOne_60 : decode cX1_readOne 60 = .ok (.lconst 1, 1) := zdec_at bX1_readOne_60 0 rfl
theorem dX1_readOne_61 : decode cX1_readOne 61 = .ok (.iload 15, 2) := zdec_at bX1_readOne_60 1 rfl
theorem dX1_readOne_63 : decode cX1_readOne 63 = .ok (.lshl, 1) := zdec_at bX1_readOne_60 2 rfl
theorem dX1_readOne_64 : decode cX1_readOne 64 = .ok (.lor, 1) := zdec_at bX1_readOne_60 3 rfl
theorem dX1_readOne_65 : decode cX1_readOne 65 = .ok (.lstore 7, 2) := zdec_at bX1_readOne_60 4 rfl
theorem dX1_readOne_67 : decode cX1_readOne 67 = .ok (.goto 15, 3) := zdec_at bX1_readOne_60 5 rfl
theorem dX1_readOne_70 : decode cX1_readOne 70 = .ok (.lload 9, 2) := zdec_at bX1_readOne_60 6 rfl
theorem dX1_readOne_72 : decode cX1_readOne 72 = .ok (.lconst 1, 1) := zdec_at bX1_readOne_60 7 rfl
theorem dX1_readOne_73 : decode cX1_readOne 73 = .ok (.iload 15, 2) := zdec_at bX1_readOne_60 8 rfl
theorem dX1_readOne_75 : decode cX1_readOne 75 = .ok (.bipush 64, 2) := zdec_at bX1_readOne_60 9 rfl
theorem dX1_readOne_77 : decode cX1_readOne 77 = .ok (.isub, 1) := zdec_at bX1_readOne_60 10 rfl
theorem dX1_readOne_78 : decode cX1_readOne 78 = .ok (.lshl, 1) := zdec_at bX1_readOne_60 11 rfl
theorem dX1_readOne_79 : decode cX1_readOne 79 = .ok (.lor, 1) := zdec_at bX1_readOne_60 12 rfl
theorem dX1_readOne_80 : decode cX1_readOne 80 = .ok (.lstore 9, 2) := zdec_at bX1_readOne_60 13 rfl
theorem dX1_readOne_82 : decode cX1_readOne 82 = .ok (.aload_n 0, 1) := zdec_at bX1_readOne_60 14 rfl
theorem dX1_readOne_83 : decode cX1_readOne 83 = .ok (.getfield 684, 3) := zdec_at bX1_readOne_60 15 rfl
theorem bX1_readOne_86 : zdec cX1_readOne 86 [(86, .iload 15, 2), (88, .iload 5, 2), (90, .invokevirtual 813, 3), (93, .istore 16, 2), (95, .aload 6, 2), (97, .aload_n 0, 1), (98, .getfield 684, 3), (101, .getfield 863, 3), (104, .iload 16, 2), (106, .laload, 1), (107, .aload_n 0, 1), (108, .getfield 684, 3), (111, .getfield 866, 3), (114, .iload 16, 2), (116, .laload, 1), (117, .aload_n 0, 1)] = true := by decide +kernel
theorem dX1_readOne_86 : decode cX1_readOne 86 = .ok (.iload 15, 2) := zdec_at bX1_readOne_86 0 rfl
theorem dX1_readOne_88 : decode cX1_readOne 88 = .ok (.iload 5, 2) := zdec_at bX1_readOne_86 1 rfl
theorem dX1_readOne_90 : decode cX1_readOne 90 = .ok (.invokevirtual 813, 3) := zdec_at bX1_readOne_86 2 rfl
theorem dX1_readOne_93 : decode cX1_readOne 93 = .ok (.istore 16, 2) := zdec_at bX1_readOne_86 3 rfl
theorem dX1_readOne_95 : decode cX1_readOne 95 = .ok (.aload 6, 2) := zdec_at bX1_readOne_86 4 rfl
theorem dX1_readOne_97 : decode cX1_readOne 97 = .ok (.aload_n 0, 1) := zdec_at bX1_readOne_86 5 rfl
theorem dX1_readOne_98 : decode cX1_readOne 98 = .ok (.getfield 684, 3) := zdec_at bX1_readOne_86 6 rfl
theorem dX1_readOne_101 : decode cX1_readOne 101 = .ok (.getfield 863, 3) := zdec_at bX1_readOne_86 7 rfl
theorem dX1_readOne_104 : decode cX1_readOne 104 = .ok (.iload 16, 2) := zdec_at bX1_readOne_86 8 rfl
theorem dX1_readOne_106 : decode cX1_readOne 106 = .ok (.laload, 1) := zdec_at bX1_readOne_86 9 rfl
theorem dX1_readOne_107 : decode cX1_readOne 107 = .ok (.aload_n 0, 1) := zdec_at bX1_readOne_86 10 rfl
theorem dX1_readOne_108 : decode cX1_readOne 108 = .ok (.getfield 684, 3) := zdec_at bX1_readOne_86 11 rfl
theorem dX1_readOne_111 : decode cX1_readOne 111 = .ok (.getfield 866, 3) := zdec_at bX1_readOne_86 12 rfl
theorem dX1_readOne_114 : decode cX1_readOne 114 = .ok (.iload 16, 2) := zdec_at bX1_readOne_86 13 rfl
theorem dX1_readOne_116 : decode cX1_readOne 116 = .ok (.laload, 1) := zdec_at bX1_readOne_86 14 rfl
theorem dX1_readOne_117 : decode cX1_readOne 117 = .ok (.aload_n 0, 1) := zdec_at bX1_readOne_86 15 rfl
theorem bX1_readOne_118 : zdec cX1_readOne 118 [(118, .getfield 684, 3), (121, .getfield 810, 3), (124, .iload 16, 2), (126, .laload, 1), (127, .ldc2_w 869, 3), (130, .land, 1), (131, .invokevirtual 871, 3), (134, .pop, 1), (135, .aload_n 0, 1), (136, .dup, 1), (137, .getfield 853, 3), (140, .aload_n 0, 1), (141, .getfield 684, 3), (144, .getfield 863, 3), (147, .iload 16, 2), (149, .laload, 1)] = true := by decide +kernel
theorem dX1_readOne_118 : decode cX1_readOne 118 = .ok (.getfield 684, 3) := zdec_at bX1_readOne_118 0 rfl
theorem dX1_readOne_121 : decode cX1_readOne 121 = .ok (.getfield 810, 3) := zdec_at bX1_readOne_118 1 rfl
theorem dX1_readOne_124 : decode cX1_readOne 124 = .ok (.iload 16, 2) := zdec_at bX1_readOne_118 2 rfl
theorem dX1_readOne_126 : decode cX1_readOne 126 = .ok (.laload, 1) := zdec_at bX1_readOne_118 3 rfl
theorem dX1_readOne_127 : decode cX1_readOne 127 = .ok (.ldc2_w 869, 3) := zdec_at bX1_readOne_118 4 rfl
theorem dX1_readOne_130 : decode cX1_readOne 130 = .ok (.land, 1) := zdec_at bX1_readOne_118 5 rfl
theorem dX1_readOne_131 : decode cX1_readOne 131 = .ok (.invokevirtual 871, 3) := zdec_at bX1_readOne_118 6 rfl
theorem dX1_readOne_134 : decode cX1_readOne 134 = .ok (.pop, 1) := zdec_at bX1_readOne_118 7 rfl
theorem dX1_readOne_135 : decode cX1_readOne 135 = .ok (.aload_n 0, 1) := zdec_at bX1_readOne_118 8 rfl
theorem dX1_readOne_136 : decode cX1_readOne 136 = .ok (.dup, 1) := zdec_at bX1_readOne_118 9 rfl
theorem dX1_readOne_137 : decode cX1_readOne 137 = .ok (.getfield 853, 3) := zdec_at bX1_readOne_118 10 rfl
theorem dX1_readOne_140 : decode cX1_readOne 140 = .ok (.aload_n 0, 1) := zdec_at bX1_readOne_118 11 rfl
theorem dX1_readOne_141 : decode cX1_readOne 141 = .ok (.getfield 684, 3) := zdec_at bX1_readOne_118 12 rfl
theorem dX1_readOne_144 : decode cX1_readOne 144 = .ok (.getfield 863, 3) := zdec_at bX1_readOne_118 13 rfl
theorem dX1_readOne_147 : decode cX1_readOne 147 = .ok (.iload 16, 2) := zdec_at bX1_readOne_118 14 rfl
theorem dX1_readOne_149 : decode cX1_readOne 149 = .ok (.laload, 1) := zdec_at bX1_readOne_118 15 rfl
theorem bX1_readOne_150 : zdec cX1_readOne 150 [(150, .lconst 0, 1), (151, .lcmp, 1), (152, .ifCond .ne 37, 3), (155, .aload_n 0, 1), (156, .getfield 684, 3), (159, .getfield 866, 3), (162, .iload 16, 2), (164, .laload, 1), (165, .lconst 0, 1), (166, .lcmp, 1), (167, .ifCond .ne 22, 3), (170, .aload_n 0, 1), (171, .getfield 684, 3), (174, .getfield 810, 3), (177, .iload 16, 2), (179, .laload, 1)] = true := by decide +kernel
theorem dX1_readOne_150 : decode cX1_readOne 150 = .ok (.lconst 0, 1) := zdec_at bX1_readOne_150 0 rfl
theorem dX1_readOne_151 : decode cX1_readOne 151 = .ok (.lcmp, 1) := zdec_at bX1_readOne_150 1 rfl
theorem dX1_readOne_152 : decode cX1_readOne 152 = .ok (.ifCond .ne 37, 3) := zdec_at bX1_readOne_150 2 rfl
theorem dX1_readOne_155 : decode cX1_readOne 155 = .ok (.aload_n 0, 1) := zdec_at bX1_readOne_150 3 rfl
theorem dX1_readOne_156 : decode cX1_readOne 156 = .ok (.getfield 684, 3) := zdec_at bX1_readOne_150 4 rfl
theorem dX1_readOne_159 : decode cX1_readOne 159 = .ok (.getfield 866, 3) := zdec_at bX1_readOne_150 5 rfl
theorem dX1_readOne_162 : decode cX1_readOne 162 = .ok (.iload 16, 2) := zdec_at bX1_readOne_150 6 rfl
theorem dX1_readOne_164 : decode cX1_readOne 164 = .ok (.laload, 1) := zdec_at bX1_readOne_150 7 rfl
theorem dX1_readOne_165 : decode cX1_readOne 165 = .ok (.lconst 0, 1) := zdec_at bX1_readOne_150 8 rfl
theorem dX1_readOne_166 : decode cX1_readOne 166 = .ok (.lcmp, 1) := zdec_at bX1_readOne_150 9 rfl
theorem dX1_readOne_167 : decode cX1_readOne 167 = .ok (.ifCond .ne 22, 3) := zdec_at bX1_readOne_150 10 rfl
theorem dX1_readOne_170 : decode cX1_readOne 170 = .ok (.aload_n 0, 1) := zdec_at bX1_readOne_150 11 rfl
theorem dX1_readOne_171 : decode cX1_readOne 171 = .ok (.getfield 684, 3) := zdec_at bX1_readOne_150 12 rfl
theorem dX1_readOne_174 : decode cX1_readOne 174 = .ok (.getfield 810, 3) := zdec_at bX1_readOne_150 13 rfl
theorem dX1_readOne_177 : decode cX1_readOne 177 = .ok (.iload 16, 2) := zdec_at bX1_readOne_150 14 rfl
theorem dX1_readOne_179 : decode cX1_readOne 179 = .ok (.laload, 1) := zdec_at bX1_readOne_150 15 rfl
theorem bX1_readOne_180 : zdec cX1_readOne 180 [(180, .ldc2_w 875, 3), (183, .land, 1), (184, .lconst 0, 1), (185, .lcmp, 1), (186, .ifCond .eq 7, 3), (189, .iconst 1, 1), (190, .goto 4, 3), (193, .iconst 0, 1), (194, .ior, 1), (195, .putfield 853, 3), (198, .aload_n 0, 1), (199, .getfield 684, 3), (202, .getfield 810, 3), (205, .iload 16, 2), (207, .laload, 1), (208, .ldc2_w 816, 3)] = true := by decide +kernel
theorem dX1_readOne_180 : decode cX1_readOne 180 = .ok (.ldc2_w 875, 3) := zdec_at bX1_readOne_180 0 rfl
theorem dX1_readOne_183 : decode cX1_readOne 183 = .ok (.land, 1) := zdec_at bX1_readOne_180 1 rfl
theorem dX1_readOne_184 : decode cX1_readOne 184 = .ok (.lconst 0, 1) := zdec_at bX1_readOne_180 2 rfl
theorem dX1_readOne_185 : decode cX1_readOne 185 = .ok (.lcmp, 1) := zdec_at bX1_readOne_180 3 rfl
theorem dX1_readOne_186 : decode cX1_readOne 186 = .ok (.ifCond .eq 7, 3) := zdec_at bX1_readOne_180 4 rfl
theorem dX1_readOne_189 : decode cX1_readOne 189 = .ok (.iconst 1, 1) := zdec_at bX1_readOne_180 5 rfl
theorem dX1_readOne_190 : decode cX1_readOne 190 = .ok (.goto 4, 3) := zdec_at bX1_readOne_180 6 rfl
theorem dX1_readOne_193 : decode cX1_readOne 193 = .ok (.iconst 0, 1) := zdec_at bX1_readOne_180 7 rfl
theorem dX1_readOne_194 : decode cX1_readOne 194 = .ok (.ior, 1) := zdec_at bX1_readOne_180 8 rfl
theorem dX1_readOne_195 : decode cX1_readOne 195 = .ok (.putfield 853, 3) := zdec_at bX1_readOne_180 9 rfl
theorem dX1_readOne_198 : decode cX1_readOne 198 = .ok (.aload_n 0, 1) := zdec_at bX1_readOne_180 10 rfl
theorem dX1_readOne_199 : decode cX1_readOne 199 = .ok (.getfield 684, 3) := zdec_at bX1_readOne_180 11 rfl
theorem dX1_readOne_202 : decode cX1_readOne 202 = .ok (.getfield 810, 3) := zdec_at bX1_readOne_180 12 rfl
theorem dX1_readOne_205 : decode cX1_readOne 205 = .ok (.iload 16, 2) := zdec_at bX1_readOne_180 13 rfl
theorem dX1_readOne_207 : decode cX1_readOne 207 = .ok (.laload, 1) := zdec_at bX1_readOne_180 14 rfl
theorem dX1_readOne_208 : decode cX1_readOne 208 = .ok (.ldc2_w 816, 3) := zdec_at bX1_readOne_180 15 rfl
theorem bX1_readOne_211 : zdec cX1_readOne 211 [(211, .land, 1), (212, .lconst 0, 1), (213, .lcmp, 1), (214, .ifCond .eq 52, 3), (217, .aload_n 0, 1), (218, .dup, 1), (219, .getfield 850, 3), (222, .aload_n 0, 1), (223, .getfield 684, 3), (226, .getfield 877, 3), (229, .iload 15, 2), (231, .baload, 1), (232, .ior, 1), (233, .putfield 850, 3), (236, .lload 11, 2), (238, .aload_n 0, 1)] = true := by decide +kernel
theorem dX1_readOne_211 : decode cX1_readOne 211 = .ok (.land, 1) := zdec_at bX1_readOne_211 0 rfl
theorem dX1_readOne_212 : decode cX1_readOne 212 = .ok (.lconst 0, 1) := zdec_at bX1_readOne_211 1 rfl
theorem dX1_readOne_213 : decode cX1_readOne 213 = .ok (.lcmp, 1) := zdec_at bX1_readOne_211 2 rfl
theorem dX1_readOne_214 : decode cX1_readOne 214 = .ok (.ifCond .eq 52, 3) := zdec_at bX1_readOne_211 3 rfl
theorem dX1_readOne_217 : decode cX1_readOne 217 = .ok (.aload_n 0, 1) := zdec_at bX1_readOne_211 4 rfl
theorem dX1_readOne_218 : decode cX1_readOne 218 = .ok (.dup, 1) := zdec_at bX1_readOne_211 5 rfl
theorem dX1_readOne_219 : decode cX1_readOne 219 = .ok (.getfield 850, 3) := zdec_at bX1_readOne_211 6 rfl
theorem dX1_readOne_222 : decode cX1_readOne 222 = .ok (.aload_n 0, 1) := zdec_at bX1_readOne_211 7 rfl
theorem dX1_readOne_223 : decode cX1_readOne 223 = .ok (.getfield 684, 3) := zdec_at bX1_readOne_211 8 rfl
theorem dX1_readOne_226 : decode cX1_readOne 226 = .ok (.getfield 877, 3) := zdec_at bX1_readOne_211 9 rfl
theorem dX1_readOne_229 : decode cX1_readOne 229 = .ok (.iload 15, 2) := zdec_at bX1_readOne_211 10 rfl
theorem dX1_readOne_231 : decode cX1_readOne 231 = .ok (.baload, 1) := zdec_at bX1_readOne_211 11 rfl
theorem dX1_readOne_232 : decode cX1_readOne 232 = .ok (.ior, 1) := zdec_at bX1_readOne_211 12 rfl
theorem dX1_readOne_233 : decode cX1_readOne 233 = .ok (.putfield 850, 3) := zdec_at bX1_readOne_211 13 rfl
theorem dX1_readOne_236 : decode cX1_readOne 236 = .ok (.lload 11, 2) := zdec_at bX1_readOne_211 14 rfl
theorem dX1_readOne_238 : decode cX1_readOne 238 = .ok (.aload_n 0, 1) := zdec_at bX1_readOne_211 15 rfl
theorem bX1_readOne_239 : zdec cX1_readOne 239 [(239, .getfield 684, 3), (242, .getfield 734, 3), (245, .iload 15, 2), (247, .laload, 1), (248, .lor, 1), (249, .lstore 11, 2), (251, .lload 13, 2), (253, .aload_n 0, 1), (254, .getfield 684, 3), (257, .getfield 880, 3), (260, .iload 15, 2), (262, .laload, 1), (263, .lor, 1), (264, .lstore 13, 2), (266, .lload 11, 2), (268, .lload 7, 2)] = true := by decide +kernel
theorem dX1_readOne_239 : decode cX1_readOne 239 = .ok (.getfield 684, 3) := zdec_at bX1_readOne_239 0 rfl
theorem dX1_readOne_242 : decode cX1_readOne 242 = .ok (.getfield 734, 3) := zdec_at bX1_readOne_239 1 rfl
theorem dX1_readOne_245 : decode cX1_readOne 245 = .ok (.iload 15, 2) := zdec_at bX1_readOne_239 2 rfl
theorem dX1_readOne_247 : decode cX1_readOne 247 = .ok (.laload, 1) := zdec_at bX1_readOne_239 3 rfl
theorem dX1_readOne_248 : decode cX1_readOne 248 = .ok (.lor, 1) := zdec_at bX1_readOne_239 4 rfl
theorem dX1_readOne_249 : decode cX1_readOne 249 = .ok (.lstore 11, 2) := zdec_at bX1_readOne_239 5 rfl
theorem dX1_readOne_251 : decode cX1_readOne 251 = .ok (.lload 13, 2) := zdec_at bX1_readOne_239 6 rfl
theorem dX1_readOne_253 : decode cX1_readOne 253 = .ok (.aload_n 0, 1) := zdec_at bX1_readOne_239 7 rfl
theorem dX1_readOne_254 : decode cX1_readOne 254 = .ok (.getfield 684, 3) := zdec_at bX1_readOne_239 8 rfl
theorem dX1_readOne_257 : decode cX1_readOne 257 = .ok (.getfield 880, 3) := zdec_at bX1_readOne_239 9 rfl
theorem dX1_readOne_260 : decode cX1_readOne 260 = .ok (.iload 15, 2) := zdec_at bX1_readOne_239 10 rfl
theorem dX1_readOne_262 : decode cX1_readOne 262 = .ok (.laload, 1) := zdec_at bX1_readOne_239 11 rfl
theorem dX1_readOne_263 : decode cX1_readOne 263 = .ok (.lor, 1) := zdec_at bX1_readOne_239 12 rfl
theorem dX1_readOne_264 : decode cX1_readOne 264 = .ok (.lstore 13, 2) := zdec_at bX1_readOne_239 13 rfl
theorem dX1_readOne_266 : decode cX1_readOne 266 = .ok (.lload 11, 2) := zdec_at bX1_readOne_239 14 rfl
theorem dX1_readOne_268 : decode cX1_readOne 268 = .ok (.lload 7, 2) := zdec_at bX1_readOne_239 15 rfl
theorem bX1_readOne_270 : zdec cX1_readOne 270 [(270, .ldc2_w 848, 3), (273, .lxor, 1), (274, .land, 1), (275, .lstore 11, 2), (277, .lload 13, 2), (279, .lload 9, 2), (281, .ldc2_w 848, 3), (284, .lxor, 1), (285, .land, 1), (286, .lstore 13, 2), (288, .goto (-276), 3), (291, .return_, 1)] = true := by decide +kernel
theorem dX1_readOne_270 : decode cX1_readOne 270 = .ok (.ldc2_w 848, 3) := zdec_at bX1_readOne_270 0 rfl
theorem dX1_readOne_273 : decode cX1_readOne 273 = .ok (.lxor, 1) := zdec_at bX1_readOne_270 1 rfl
theorem dX1_readOne_274 : decode cX1_readOne 274 = .ok (.land, 1) := zdec_at bX1_readOne_270 2 rfl
theorem dX1_readOne_275 : decode cX1_readOne 275 = .ok (.lstore 11, 2) := zdec_at bX1_readOne_270 3 rfl
theorem dX1_readOne_277 : decode cX1_readOne 277 = .ok (.lload 13, 2) := zdec_at bX1_readOne_270 4 rfl
theorem dX1_readOne_279 : decode cX1_readOne 279 = .ok (.lload 9, 2) := zdec_at bX1_readOne_270 5 rfl
theorem dX1_readOne_281 : decode cX1_readOne 281 = .ok (.ldc2_w 848, 3) := zdec_at bX1_readOne_270 6 rfl
theorem dX1_readOne_284 : decode cX1_readOne 284 = .ok (.lxor, 1) := zdec_at bX1_readOne_270 7 rfl
theorem dX1_readOne_285 : decode cX1_readOne 285 = .ok (.land, 1) := zdec_at bX1_readOne_270 8 rfl
theorem dX1_readOne_286 : decode cX1_readOne 286 = .ok (.lstore 13, 2) := zdec_at bX1_readOne_270 9 rfl
theorem dX1_readOne_288 : decode cX1_readOne 288 = .ok (.goto (-276), 3) := zdec_at bX1_readOne_270 10 rfl
theorem dX1_readOne_291 : decode cX1_readOne 291 = .ok (.return_, 1) := zdec_at bX1_readOne_270 11 rfl
theorem sX1_readOne_0 {E : zE} {d : Nat} {Q : zO → zM → Prop} (M : zM) (l1 : Int64) (l3 : Int64) (l5 : Int32) (r6 : Option zP) (hw : cw M) (k : Z E YX1_readOne (d + 1) M [(0, vr (some (16, 0, 0))), (5, vi l5), (6, vr r6), (7, vl (0 : Int64)), (9, vl (0 : Int64)), (11, vl l1), (13, vl l3)] 12 [] Q) : Z E YX1_readOne (d + 1) M [(0, vr (some (16, 0, 0))), (1, vl l1), (3, vl l3), (5, vi l5), (6, vr r6)] 0 [] Q := by
  refine z_lconst (v := 0) dX1_readOne_0 rfl ?_
  refine z_lst dX1_readOne_1 (by decide) (lv' := [(0, vr (some (16, 0, 0))), (1, vl l1), (3, vl l3), (5, vi l5), (6, vr r6), (7, vl (0 : Int64))]) rfl ?_
  refine z_lconst (v := 0) dX1_readOne_3 rfl ?_
  refine z_lst dX1_readOne_4 (by decide) (lv' := [(0, vr (some (16, 0, 0))), (1, vl l1), (3, vl l3), (5, vi l5), (6, vr r6), (7, vl (0 : Int64)), (9, vl (0 : Int64))]) rfl ?_
  refine z_lload_n dX1_readOne_6 rfl rfl ?_
  refine z_lst dX1_readOne_7 (by decide) (lv' := [(0, vr (some (16, 0, 0))), (1, vl l1), (3, vl l3), (5, vi l5), (6, vr r6), (7, vl (0 : Int64)), (9, vl (0 : Int64)), (11, vl l1)]) rfl ?_
  refine z_lload_n dX1_readOne_9 rfl rfl ?_
  refine z_lst dX1_readOne_10 (by decide) (lv' := [(0, vr (some (16, 0, 0))), (1, vl l1), (3, vl l3), (5, vi l5), (6, vr r6), (7, vl (0 : Int64)), (9, vl (0 : Int64)), (11, vl l1), (13, vl l3)]) rfl ?_
  refine Z.pick [0, 3, 4, 5, 6, 7, 8] rfl ?_
  exact k
theorem sX1_readOne_12 {E : zE} {d : Nat} {Q : zO → zM → Prop} (M : zM) (l5 : Int32) (r6 : Option zP) (l7 : Int64) (l9 : Int64) (l11 : Int64) (l13 : Int64) (hw : cw M) (k : if (lg_cmp l11 (0 : Int64)) = 0 then (if (lg_cmp l13 (0 : Int64)) = 0 then (Q (.inl none) M) else (Z E YX1_readOne (d + 1) M [(0, vr (some (16, 0, 0))), (5, vi l5), (6, vr r6), (7, vl l7), (9, vl l9), (11, vl l11), (13, vl l13)] 26 [] Q)) else (Z E YX1_readOne (d + 1) M [(0, vr (some (16, 0, 0))), (5, vi l5), (6, vr r6), (7, vl l7), (9, vl l9), (11, vl l11), (13, vl l13)] 26 [] Q)) : Z E YX1_readOne (d + 1) M [(0, vr (some (16, 0, 0))), (5, vi l5), (6, vr r6), (7, vl l7), (9, vl l9), (11, vl l11), (13, vl l13)] 12 [] Q := by
  refine z_lload dX1_readOne_12 rfl ?_
  refine z_lconst (v := 0) dX1_readOne_14 rfl ?_
  refine z_lcmp dX1_readOne_15 ?_
  refine z_if_ne (tgt := 26) dX1_readOne_16 rfl (fun h_ => ?_) (fun h_ => ?_)
  · have k := zif h_ k
    exact k
  · have k := zit h_ k
    refine z_lload dX1_readOne_19 rfl ?_
    refine z_lconst (v := 0) dX1_readOne_21 rfl ?_
    refine z_lcmp dX1_readOne_22 ?_
    refine z_if_eq (tgt := 291) dX1_readOne_23 rfl (fun h_ => ?_) (fun h_ => ?_)
    · have k := zit h_ k
      exact z_vret dX1_readOne_291 rfl k
    · have k := zif h_ k
      exact k
theorem sX1_readOne_26 {E : zE} {d : Nat} {Q : zO → zM → Prop} (M : zM) (l5 : Int32) (r6 : Option zP) (l7 : Int64) (l9 : Int64) (l11 : Int64) (l13 : Int64) (hw : cw M) (k : if (lg_cmp l11 (0 : Int64)) = 0 then (Z E YJ17_numberOfTrailingZeros d M (zargs 0 [vl l13]) 0 [] (zafter E YX1_readOne (d + 1) [(0, vr (some (16, 0, 0))), (5, vi l5), (6, vr r6), (7, vl l7), (9, vl l9), (11, vl l11), (13, vl l13)] 45 3 [vi (64 : Int32)] Q)) else (Z E YJ17_numberOfTrailingZeros d M (zargs 0 [vl l11]) 0 [] (zafter E YX1_readOne (d + 1) [(0, vr (some (16, 0, 0))), (5, vi l5), (6, vr r6), (7, vl l7), (9, vl l9), (11, vl l11), (13, vl l13)] 35 3 [] Q))) : Z E YX1_readOne (d + 1) M [(0, vr (some (16, 0, 0))), (5, vi l5), (6, vr r6), (7, vl l7), (9, vl l9), (11, vl l11), (13, vl l13)] 26 [] Q := by
  refine z_lload dX1_readOne_26 rfl ?_
  refine z_lconst (v := 0) dX1_readOne_28 rfl ?_
  refine z_lcmp dX1_readOne_29 ?_
  refine z_if_eq (tgt := 41) dX1_readOne_30 rfl (fun h_ => ?_) (fun h_ => ?_)
  · have k := zit h_ k
    refine z_bipush (v := 64) dX1_readOne_41 rfl ?_
    refine z_lload dX1_readOne_43 rfl ?_
    exact z_callS (as := [vl l13]) (st := [vi (64 : Int32)]) dX1_readOne_45 ssX1_629 (Nat.le_refl _) (Nat.le_of_ble_eq_true rfl) (Nat.le_of_ble_eq_true rfl) rfl k
  · have k := zif h_ k
    refine z_lload dX1_readOne_33 rfl ?_
    exact z_callS (as := [vl l11]) (st := []) dX1_readOne_35 ssX1_629 (Nat.le_refl _) (Nat.le_of_ble_eq_true rfl) (Nat.le_of_ble_eq_true rfl) rfl k
theorem sX1_readOne_38 {E : zE} {d : Nat} {Q : zO → zM → Prop} (M : zM) (l5 : Int32) (r6 : Option zP) (l7 : Int64) (l9 : Int64) (l11 : Int64) (l13 : Int64) (s0 : Int32) (hw : cw M) (k : Z E YX1_readOne (d + 1) M [(0, vr (some (16, 0, 0))), (5, vi l5), (6, vr r6), (7, vl l7), (9, vl l9), (11, vl l11), (13, vl l13)] 49 [vi s0] Q) : Z E YX1_readOne (d + 1) M [(0, vr (some (16, 0, 0))), (5, vi l5), (6, vr r6), (7, vl l7), (9, vl l9), (11, vl l11), (13, vl l13)] 38 [vi s0] Q := by
  refine z_goto (tgt := 49) dX1_readOne_38 rfl ?_
  exact k
theorem sX1_readOne_48 {E : zE} {d : Nat} {Q : zO → zM → Prop} (M : zM) (l5 : Int32) (r6 : Option zP) (l7 : Int64) (l9 : Int64) (l11 : Int64) (l13 : Int64) (s0 : Int32) (s1 : Int32) (hw : cw M) (k : Z E YX1_readOne (d + 1) M [(0, vr (some (16, 0, 0))), (5, vi l5), (6, vr r6), (7, vl l7), (9, vl l9), (11, vl l11), (13, vl l13)] 49 [vi (s1 + s0)] Q) : Z E YX1_readOne (d + 1) M [(0, vr (some (16, 0, 0))), (5, vi l5), (6, vr r6), (7, vl l7), (9, vl l9), (11, vl l11), (13, vl l13)] 48 [vi s0, vi s1] Q := by
  refine z_iadd dX1_readOne_48 ?_
  exact k
theorem sX1_readOne_49 {E : zE} {d : Nat} {Q : zO → zM → Prop} (M : zM) (l5 : Int32) (r6 : Option zP) (l7 : Int64) (l9 : Int64) (l11 : Int64) (l13 : Int64) (s0 : Int32) (hw : cw M) (k : if (64 : Int32) ≤ s0 then (∃ b1 : Nat, (gr M 16 60) = some (b1, 7, 0) ∧ (Z E YX43_cell d M (zargs 0 [vr (some (b1, 7, 0)), vi s0, vi l5]) 0 [] (zafter E YX1_readOne (d + 1) [(0, vr (some (16, 0, 0))), (5, vi l5), (6, vr r6), (7, vl l7), (9, vl (l9 ||| (zls (1 : Int64) (s0 - (64 : Int32))))), (11, vl l11), (13, vl l13), (15, vi s0)] 90 3 [] Q))) else (∃ b1 : Nat, (gr M 16 60) = some (b1, 7, 0) ∧ (Z E YX43_cell d M (zargs 0 [vr (some (b1, 7, 0)), vi s0, vi l5]) 0 [] (zafter E YX1_readOne (d + 1) [(0, vr (some (16, 0, 0))), (5, vi l5), (6, vr r6), (7, vl (l7 ||| (zls (1 : Int64) s0))), (9, vl l9), (11, vl l11), (13, vl l13), (15, vi s0)] 90 3 [] Q)))) : Z E YX1_readOne (d + 1) M [(0, vr (some (16, 0, 0))), (5, vi l5), (6, vr r6), (7, vl l7), (9, vl l9), (11, vl l11), (13, vl l13)] 49 [vi s0] Q := by
  refine z_ist dX1_readOne_49 (by decide) (lv' := [(0, vr (some (16, 0, 0))), (5, vi l5), (6, vr r6), (7, vl l7), (9, vl l9), (11, vl l11), (13, vl l13), (15, vi s0)]) rfl ?_
  refine z_iload dX1_readOne_51 rfl ?_
  refine z_bipush (v := 64) dX1_readOne_53 rfl ?_
  refine z_icmp_ge (tgt := 70) dX1_readOne_55 rfl (fun h_ => ?_) (fun h_ => ?_)
  · have k := zit h_ k
    refine z_lload dX1_readOne_70 rfl ?_
    refine z_lconst (v := 1) dX1_readOne_72 rfl ?_
    refine z_iload dX1_readOne_73 rfl ?_
    refine z_bipush (v := 64) dX1_readOne_75 rfl ?_
    refine z_isub dX1_readOne_77 ?_
    refine z_lshl dX1_readOne_78 ?_
    refine z_lor dX1_readOne_79 ?_
    refine z_lst dX1_readOne_80 (by decide) (lv' := [(0, vr (some (16, 0, 0))), (5, vi l5), (6, vr r6), (7, vl l7), (9, vl (l9 ||| (zls (1 : Int64) (s0 - (64 : Int32))))), (11, vl l11), (13, vl l13), (15, vi s0)]) rfl ?_
    refine z_aload_n dX1_readOne_82 rfl rfl ?_
    refine z_getr (r := (gr M 16 60)) dX1_readOne_83 fsX1_684_0 rfl ?_
    refine z_iload dX1_readOne_86 rfl ?_
    refine z_iload dX1_readOne_88 rfl ?_
    obtain ⟨b1, e1_, k⟩ := k
    refine Z.eqs (lv' := [(0, vr (some (16, 0, 0))), (5, vi l5), (6, vr r6), (7, vl l7), (9, vl (l9 ||| (zls (1 : Int64) (s0 - (64 : Int32))))), (11, vl l11), (13, vl l13), (15, vi s0)]) (st' := [vi l5, vi s0, vr (some (b1, 7, 0))]) rfl (by rw [e1_] <;> rfl) ?_
    exact z_callV (as := [vi s0, vi l5]) (st := []) dX1_readOne_90 vsX1_813_7 (Nat.le_refl _) (Nat.le_of_ble_eq_true rfl) (Nat.le_of_ble_eq_true rfl) rfl k
  · have k := zif h_ k
    refine z_lload dX1_readOne_58 rfl ?_
    refine z_lconst (v := 1) dX1_readOne_60 rfl ?_
    refine z_iload dX1_readOne_61 rfl ?_
    refine z_lshl dX1_readOne_63 ?_
    refine z_lor dX1_readOne_64 ?_
    refine z_lst dX1_readOne_65 (by decide) (lv' := [(0, vr (some (16, 0, 0))), (5, vi l5), (6, vr r6), (7, vl (l7 ||| (zls (1 : Int64) s0))), (9, vl l9), (11, vl l11), (13, vl l13), (15, vi s0)]) rfl ?_
    refine z_goto (tgt := 82) dX1_readOne_67 rfl ?_
    refine z_aload_n dX1_readOne_82 rfl rfl ?_
    refine z_getr (r := (gr M 16 60)) dX1_readOne_83 fsX1_684_0 rfl ?_
    refine z_iload dX1_readOne_86 rfl ?_
    refine z_iload dX1_readOne_88 rfl ?_
    obtain ⟨b1, e1_, k⟩ := k
    refine Z.eqs (lv' := [(0, vr (some (16, 0, 0))), (5, vi l5), (6, vr r6), (7, vl (l7 ||| (zls (1 : Int64) s0))), (9, vl l9), (11, vl l11), (13, vl l13), (15, vi s0)]) (st' := [vi l5, vi s0, vr (some (b1, 7, 0))]) rfl (by rw [e1_] <;> rfl) ?_
    exact z_callV (as := [vi s0, vi l5]) (st := []) dX1_readOne_90 vsX1_813_7 (Nat.le_refl _) (Nat.le_of_ble_eq_true rfl) (Nat.le_of_ble_eq_true rfl) rfl k
theorem sX1_readOne_93 {E : zE} {d : Nat} {Q : zO → zM → Prop} (M : zM) (l5 : Int32) (r6 : Option zP) (l7 : Int64) (l9 : Int64) (l11 : Int64) (l13 : Int64) (l15 : Int32) (s0 : Int32) (hw : cw M) (k : ∃ b1 : Nat, (gr M 16 60) = some (b1, 7, 0) ∧ (∃ b2 m2 : Nat, (gr M b1 1) = some (b2, 105, m2) ∧ (vp_in s0 m2 ∧ (∃ b3 : Nat, (gr M 16 60) = some (b3, 7, 0) ∧ (∃ b4 m4 : Nat, (gr M b3 2) = some (b4, 105, m4) ∧ (vp_in s0 m4 ∧ (∃ b5 : Nat, (gr M 16 60) = some (b5, 7, 0) ∧ (∃ b6 m6 : Nat, (gr M b5 3) = some (b6, 105, m6) ∧ (vp_in s0 m6 ∧ (∃ b7 : Nat, r6 = some (b7, 4, 0) ∧ (Z E YX6_join3 d M (zargs 0 [vr (some (b7, 4, 0)), vl (gl M b2 (s0).toNatClampNeg), vl (gl M b4 (s0).toNatClampNeg), vl ((gl M b6 (s0).toNatClampNeg) &&& (-513 : Int64))]) 0 [] (zafter E YX1_readOne (d + 1) [(0, vr (some (16, 0, 0))), (5, vi l5), (6, vr (some (b7, 4, 0))), (7, vl l7), (9, vl l9), (11, vl l11), (13, vl l13), (15, vi l15), (16, vi s0)] 131 3 [] Q)))))))))))) : Z E YX1_readOne (d + 1) M [(0, vr (some (16, 0, 0))), (5, vi l5), (6, vr r6), (7, vl l7), (9, vl l9), (11, vl l11), (13, vl l13), (15, vi l15)] 93 [vi s0] Q := by
  refine z_ist dX1_readOne_93 (by decide) (lv' := [(0, vr (some (16, 0, 0))), (5, vi l5), (6, vr r6), (7, vl l7), (9, vl l9), (11, vl l11), (13, vl l13), (15, vi l15), (16, vi s0)]) rfl ?_
  refine z_aload dX1_readOne_95 rfl ?_
  refine z_aload_n dX1_readOne_97 rfl rfl ?_
  refine z_getr (r := (gr M 16 60)) dX1_readOne_98 fsX1_684_0 rfl ?_
  obtain ⟨b1, e1_, k⟩ := k
  refine Z.eqs (lv' := [(0, vr (some (16, 0, 0))), (5, vi l5), (6, vr r6), (7, vl l7), (9, vl l9), (11, vl l11), (13, vl l13), (15, vi l15), (16, vi s0)]) (st' := [vr (some (b1, 7, 0)), vr r6]) rfl (by rw [e1_] <;> rfl) ?_
  refine z_getr (r := (gr M b1 1)) dX1_readOne_101 fsX1_863_7 rfl ?_
  refine z_iload dX1_readOne_104 rfl ?_
  obtain ⟨b2, m2, e2_, k⟩ := k
  refine Z.eqs (lv' := [(0, vr (some (16, 0, 0))), (5, vi l5), (6, vr r6), (7, vl l7), (9, vl l9), (11, vl l11), (13, vl l13), (15, vi l15), (16, vi s0)]) (st' := [vi s0, vr (some (b2, 105, m2)), vr r6]) rfl (by rw [e2_] <;> rfl) ?_
  obtain ⟨b_, k⟩ := k
  refine z_lald dX1_readOne_106 b_ ?_
  refine z_aload_n dX1_readOne_107 rfl rfl ?_
  refine z_getr (r := (gr M 16 60)) dX1_readOne_108 fsX1_684_0 rfl ?_
  obtain ⟨b3, e3_, k⟩ := k
  refine Z.eqs (lv' := [(0, vr (some (16, 0, 0))), (5, vi l5), (6, vr r6), (7, vl l7), (9, vl l9), (11, vl l11), (13, vl l13), (15, vi l15), (16, vi s0)]) (st' := [vr (some (b3, 7, 0)), vl (gl M b2 (s0).toNatClampNeg), vr r6]) rfl (by rw [e3_] <;> rfl) ?_
  refine z_getr (r := (gr M b3 2)) dX1_readOne_111 fsX1_866_7 rfl ?_
  refine z_iload dX1_readOne_114 rfl ?_
  obtain ⟨b4, m4, e4_, k⟩ := k
  refine Z.eqs (lv' := [(0, vr (some (16, 0, 0))), (5, vi l5), (6, vr r6), (7, vl l7), (9, vl l9), (11, vl l11), (13, vl l13), (15, vi l15), (16, vi s0)]) (st' := [vi s0, vr (some (b4, 105, m4)), vl (gl M b2 (s0).toNatClampNeg), vr r6]) rfl (by rw [e4_] <;> rfl) ?_
  obtain ⟨b_, k⟩ := k
  refine z_lald dX1_readOne_116 b_ ?_
  refine z_aload_n dX1_readOne_117 rfl rfl ?_
  refine z_getr (r := (gr M 16 60)) dX1_readOne_118 fsX1_684_0 rfl ?_
  obtain ⟨b5, e5_, k⟩ := k
  refine Z.eqs (lv' := [(0, vr (some (16, 0, 0))), (5, vi l5), (6, vr r6), (7, vl l7), (9, vl l9), (11, vl l11), (13, vl l13), (15, vi l15), (16, vi s0)]) (st' := [vr (some (b5, 7, 0)), vl (gl M b4 (s0).toNatClampNeg), vl (gl M b2 (s0).toNatClampNeg), vr r6]) rfl (by rw [e5_] <;> rfl) ?_
  refine z_getr (r := (gr M b5 3)) dX1_readOne_121 fsX1_810_7 rfl ?_
  refine z_iload dX1_readOne_124 rfl ?_
  obtain ⟨b6, m6, e6_, k⟩ := k
  refine Z.eqs (lv' := [(0, vr (some (16, 0, 0))), (5, vi l5), (6, vr r6), (7, vl l7), (9, vl l9), (11, vl l11), (13, vl l13), (15, vi l15), (16, vi s0)]) (st' := [vi s0, vr (some (b6, 105, m6)), vl (gl M b4 (s0).toNatClampNeg), vl (gl M b2 (s0).toNatClampNeg), vr r6]) rfl (by rw [e6_] <;> rfl) ?_
  obtain ⟨b_, k⟩ := k
  refine z_lald dX1_readOne_126 b_ ?_
  refine z_ldc2 (v := -513) dX1_readOne_127 q3198 ?_
  refine z_land dX1_readOne_130 ?_
  obtain ⟨b7, e7_, k⟩ := k
  refine Z.eqs (lv' := [(0, vr (some (16, 0, 0))), (5, vi l5), (6, vr (some (b7, 4, 0))), (7, vl l7), (9, vl l9), (11, vl l11), (13, vl l13), (15, vi l15), (16, vi s0)]) (st' := [vl ((gl M b6 (s0).toNatClampNeg) &&& (-513 : Int64)), vl (gl M b4 (s0).toNatClampNeg), vl (gl M b2 (s0).toNatClampNeg), vr (some (b7, 4, 0))]) (by rw [e7_] <;> rfl) (by rw [e7_] <;> rfl) ?_
  exact z_callV (as := [vl (gl M b2 (s0).toNatClampNeg), vl (gl M b4 (s0).toNatClampNeg), vl ((gl M b6 (s0).toNatClampNeg) &&& (-513 : Int64))]) (st := []) dX1_readOne_131 vsX1_871_4 (Nat.le_refl _) (Nat.le_of_ble_eq_true rfl) (Nat.le_of_ble_eq_true rfl) rfl k
theorem sX1_readOne_134 {E : zE} {d : Nat} {Q : zO → zM → Prop} (M : zM) (l5 : Int32) (a6 : Nat) (l7 : Int64) (l9 : Int64) (l11 : Int64) (l13 : Int64) (l15 : Int32) (l16 : Int32) (u0 : Option zP) (hw : cw M) (k : ∃ b1 : Nat, (gr M 16 60) = some (b1, 7, 0) ∧ (∃ b2 m2 : Nat, (gr M b1 1) = some (b2, 105, m2) ∧ (vp_in l16 m2 ∧ (if (lg_cmp (gl M b2 (l16).toNatClampNeg) (0 : Int64)) = 0 then (∃ b3 : Nat, (gr M 16 60) = some (b3, 7, 0) ∧ (∃ b4 m4 : Nat, (gr M b3 2) = some (b4, 105, m4) ∧ (vp_in l16 m4 ∧ (if (lg_cmp (gl M b4 (l16).toNatClampNeg) (0 : Int64)) = 0 then (∃ b5 : Nat, (gr M 16 60) = some (b5, 7, 0) ∧ (∃ b6 m6 : Nat, (gr M b5 3) = some (b6, 105, m6) ∧ (vp_in l16 m6 ∧ (if (lg_cmp ((gl M b6 (l16).toNatClampNeg) &&& (511 : Int64)) (0 : Int64)) = 0 then (Z E YX1_readOne (d + 1) M [(0, vr (some (16, 0, 0))), (5, vi l5), (6, vr (some (a6, 4, 0))), (7, vl l7), (9, vl l9), (11, vl l11), (13, vl l13), (15, vi l15), (16, vi l16)] 194 [vi (0 : Int32), vi (gi M 16 92), vr (some (16, 0, 0))] Q) else (Z E YX1_readOne (d + 1) M [(0, vr (some (16, 0, 0))), (5, vi l5), (6, vr (some (a6, 4, 0))), (7, vl l7), (9, vl l9), (11, vl l11), (13, vl l13), (15, vi l15), (16, vi l16)] 194 [vi (1 : Int32), vi (gi M 16 92), vr (some (16, 0, 0))] Q))))) else (Z E YX1_readOne (d + 1) M [(0, vr (some (16, 0, 0))), (5, vi l5), (6, vr (some (a6, 4, 0))), (7, vl l7), (9, vl l9), (11, vl l11), (13, vl l13), (15, vi l15), (16, vi l16)] 194 [vi (1 : Int32), vi (gi M 16 92), vr (some (16, 0, 0))] Q))))) else (Z E YX1_readOne (d + 1) M [(0, vr (some (16, 0, 0))), (5, vi l5), (6, vr (some (a6, 4, 0))), (7, vl l7), (9, vl l9), (11, vl l11), (13, vl l13), (15, vi l15), (16, vi l16)] 194 [vi (1 : Int32), vi (gi M 16 92), vr (some (16, 0, 0))] Q))))) : Z E YX1_readOne (d + 1) M [(0, vr (some (16, 0, 0))), (5, vi l5), (6, vr (some (a6, 4, 0))), (7, vl l7), (9, vl l9), (11, vl l11), (13, vl l13), (15, vi l15), (16, vi l16)] 134 [vr u0] Q := by
  refine z_pop dX1_readOne_134 rfl ?_
  refine z_aload_n dX1_readOne_135 rfl rfl ?_
  refine z_dup dX1_readOne_136 rfl ?_
  refine z_geti dX1_readOne_137 fsX1_853_0 ?_
  refine z_aload_n dX1_readOne_140 rfl rfl ?_
  refine z_getr (r := (gr M 16 60)) dX1_readOne_141 fsX1_684_0 rfl ?_
  obtain ⟨b1, e1_, k⟩ := k
  refine Z.eqs (lv' := [(0, vr (some (16, 0, 0))), (5, vi l5), (6, vr (some (a6, 4, 0))), (7, vl l7), (9, vl l9), (11, vl l11), (13, vl l13), (15, vi l15), (16, vi l16)]) (st' := [vr (some (b1, 7, 0)), vi (gi M 16 92), vr (some (16, 0, 0))]) rfl (by rw [e1_] <;> rfl) ?_
  refine z_getr (r := (gr M b1 1)) dX1_readOne_144 fsX1_863_7 rfl ?_
  refine z_iload dX1_readOne_147 rfl ?_
  obtain ⟨b2, m2, e2_, k⟩ := k
  refine Z.eqs (lv' := [(0, vr (some (16, 0, 0))), (5, vi l5), (6, vr (some (a6, 4, 0))), (7, vl l7), (9, vl l9), (11, vl l11), (13, vl l13), (15, vi l15), (16, vi l16)]) (st' := [vi l16, vr (some (b2, 105, m2)), vi (gi M 16 92), vr (some (16, 0, 0))]) rfl (by rw [e2_] <;> rfl) ?_
  obtain ⟨b_, k⟩ := k
  refine z_lald dX1_readOne_149 b_ ?_
  refine z_lconst (v := 0) dX1_readOne_150 rfl ?_
  refine z_lcmp dX1_readOne_151 ?_
  refine z_if_ne (tgt := 189) dX1_readOne_152 rfl (fun h_ => ?_) (fun h_ => ?_)
  · have k := zif h_ k
    refine z_iconst (v := 1) dX1_readOne_189 rfl ?_
    refine z_goto (tgt := 194) dX1_readOne_190 rfl ?_
    exact k
  · have k := zit h_ k
    refine z_aload_n dX1_readOne_155 rfl rfl ?_
    refine z_getr (r := (gr M 16 60)) dX1_readOne_156 fsX1_684_0 rfl ?_
    obtain ⟨b3, e3_, k⟩ := k
    refine Z.eqs (lv' := [(0, vr (some (16, 0, 0))), (5, vi l5), (6, vr (some (a6, 4, 0))), (7, vl l7), (9, vl l9), (11, vl l11), (13, vl l13), (15, vi l15), (16, vi l16)]) (st' := [vr (some (b3, 7, 0)), vi (gi M 16 92), vr (some (16, 0, 0))]) rfl (by rw [e3_] <;> rfl) ?_
    refine z_getr (r := (gr M b3 2)) dX1_readOne_159 fsX1_866_7 rfl ?_
    refine z_iload dX1_readOne_162 rfl ?_
    obtain ⟨b4, m4, e4_, k⟩ := k
    refine Z.eqs (lv' := [(0, vr (some (16, 0, 0))), (5, vi l5), (6, vr (some (a6, 4, 0))), (7, vl l7), (9, vl l9), (11, vl l11), (13, vl l13), (15, vi l15), (16, vi l16)]) (st' := [vi l16, vr (some (b4, 105, m4)), vi (gi M 16 92), vr (some (16, 0, 0))]) rfl (by rw [e4_] <;> rfl) ?_
    obtain ⟨b_, k⟩ := k
    refine z_lald dX1_readOne_164 b_ ?_
    refine z_lconst (v := 0) dX1_readOne_165 rfl ?_
    refine z_lcmp dX1_readOne_166 ?_
    refine z_if_ne (tgt := 189) dX1_readOne_167 rfl (fun h_ => ?_) (fun h_ => ?_)
    · have k := zif h_ k
      refine z_iconst (v := 1) dX1_readOne_189 rfl ?_
      refine z_goto (tgt := 194) dX1_readOne_190 rfl ?_
      exact k
    · have k := zit h_ k
      refine z_aload_n dX1_readOne_170 rfl rfl ?_
      refine z_getr (r := (gr M 16 60)) dX1_readOne_171 fsX1_684_0 rfl ?_
      obtain ⟨b5, e5_, k⟩ := k
      refine Z.eqs (lv' := [(0, vr (some (16, 0, 0))), (5, vi l5), (6, vr (some (a6, 4, 0))), (7, vl l7), (9, vl l9), (11, vl l11), (13, vl l13), (15, vi l15), (16, vi l16)]) (st' := [vr (some (b5, 7, 0)), vi (gi M 16 92), vr (some (16, 0, 0))]) rfl (by rw [e5_] <;> rfl) ?_
      refine z_getr (r := (gr M b5 3)) dX1_readOne_174 fsX1_810_7 rfl ?_
      refine z_iload dX1_readOne_177 rfl ?_
      obtain ⟨b6, m6, e6_, k⟩ := k
      refine Z.eqs (lv' := [(0, vr (some (16, 0, 0))), (5, vi l5), (6, vr (some (a6, 4, 0))), (7, vl l7), (9, vl l9), (11, vl l11), (13, vl l13), (15, vi l15), (16, vi l16)]) (st' := [vi l16, vr (some (b6, 105, m6)), vi (gi M 16 92), vr (some (16, 0, 0))]) rfl (by rw [e6_] <;> rfl) ?_
      obtain ⟨b_, k⟩ := k
      refine z_lald dX1_readOne_179 b_ ?_
      refine z_ldc2 (v := 511) dX1_readOne_180 q3350 ?_
      refine z_land dX1_readOne_183 ?_
      refine z_lconst (v := 0) dX1_readOne_184 rfl ?_
      refine z_lcmp dX1_readOne_185 ?_
      refine z_if_eq (tgt := 193) dX1_readOne_186 rfl (fun h_ => ?_) (fun h_ => ?_)
      · have k := zit h_ k
        refine z_iconst (v := 0) dX1_readOne_193 rfl ?_
        exact k
      · have k := zif h_ k
        refine z_iconst (v := 1) dX1_readOne_189 rfl ?_
        refine z_goto (tgt := 194) dX1_readOne_190 rfl ?_
        exact k
theorem sX1_readOne_194 {E : zE} {d : Nat} {Q : zO → zM → Prop} (M : zM) (l5 : Int32) (a6 : Nat) (l7 : Int64) (l9 : Int64) (l11 : Int64) (l13 : Int64) (l15 : Int32) (l16 : Int32) (s0 : Int32) (s1 : Int32) (hw : cw M) (k : zfit .boolean (s1 ||| s0) ∧ (∃ b1 : Nat, (gr M 16 60) = some (b1, 7, 0) ∧ (∃ b2 m2 : Nat, (gr M b1 3) = some (b2, 105, m2) ∧ (vp_in l16 m2 ∧ (if (lg_cmp ((gl M b2 (l16).toNatClampNeg) &&& (512 : Int64)) (0 : Int64)) = 0 then (Z E YX1_readOne (d + 1) (si M 16 92 (s1 ||| s0)) [(0, vr (some (16, 0, 0))), (5, vi l5), (6, vr (some (a6, 4, 0))), (7, vl l7), (9, vl l9), (11, vl l11), (13, vl l13)] 266 [] Q) else (∃ b3 : Nat, (gr M 16 60) = some (b3, 7, 0) ∧ (∃ b4 m4 : Nat, (gr M b3 9) = some (b4, 104, m4) ∧ (vp_in l15 m4 ∧ (zfit .boolean ((gi M 16 91) ||| (gi (si M 16 92 (s1 ||| s0)) b4 (l15).toNatClampNeg)) ∧ (∃ b5 : Nat, (gr M 16 60) = some (b5, 7, 0) ∧ (∃ b6 m6 : Nat, (gr M b5 4) = some (b6, 105, m6) ∧ (vp_in l15 m6 ∧ (∃ b7 : Nat, (gr M 16 60) = some (b7, 7, 0) ∧ (∃ b8 m8 : Nat, (gr M b7 5) = some (b8, 105, m8) ∧ (vp_in l15 m8 ∧ (Z E YX1_readOne (d + 1) (si (si M 16 92 (s1 ||| s0)) 16 91 ((gi M 16 91) ||| (gi (si M 16 92 (s1 ||| s0)) b4 (l15).toNatClampNeg))) [(0, vr (some (16, 0, 0))), (5, vi l5), (6, vr (some (a6, 4, 0))), (7, vl l7), (9, vl l9), (11, vl (l11 ||| (gl M b6 (l15).toNatClampNeg))), (13, vl (l13 ||| (gl M b8 (l15).toNatClampNeg)))] 266 [] Q)))))))))))))))) : Z E YX1_readOne (d + 1) M [(0, vr (some (16, 0, 0))), (5, vi l5), (6, vr (some (a6, 4, 0))), (7, vl l7), (9, vl l9), (11, vl l11), (13, vl l13), (15, vi l15), (16, vi l16)] 194 [vi s0, vi s1, vr (some (16, 0, 0))] Q := by
  refine z_ior dX1_readOne_194 ?_
  obtain ⟨b_, k⟩ := k
  refine z_puti (by decide) dX1_readOne_195 (zfwN.w fwX1_853_0) rfl b_ ?_
  refine z_aload_n dX1_readOne_198 rfl rfl ?_
  refine z_getr (r := (gr M 16 60)) dX1_readOne_199 fsX1_684_0 rfl ?_
  obtain ⟨b1, e1_, k⟩ := k
  refine Z.eqs (lv' := [(0, vr (some (16, 0, 0))), (5, vi l5), (6, vr (some (a6, 4, 0))), (7, vl l7), (9, vl l9), (11, vl l11), (13, vl l13), (15, vi l15), (16, vi l16)]) (st' := [vr (some (b1, 7, 0))]) rfl (by rw [e1_] <;> rfl) ?_
  refine z_getr (r := (gr M b1 3)) dX1_readOne_202 fsX1_810_7 rfl ?_
  refine z_iload dX1_readOne_205 rfl ?_
  obtain ⟨b2, m2, e2_, k⟩ := k
  refine Z.eqs (lv' := [(0, vr (some (16, 0, 0))), (5, vi l5), (6, vr (some (a6, 4, 0))), (7, vl l7), (9, vl l9), (11, vl l11), (13, vl l13), (15, vi l15), (16, vi l16)]) (st' := [vi l16, vr (some (b2, 105, m2))]) rfl (by rw [e2_] <;> rfl) ?_
  obtain ⟨b_, k⟩ := k
  refine z_lald dX1_readOne_207 b_ ?_
  refine z_ldc2 (v := 512) dX1_readOne_208 q3247 ?_
  refine z_land dX1_readOne_211 ?_
  refine z_lconst (v := 0) dX1_readOne_212 rfl ?_
  refine z_lcmp dX1_readOne_213 ?_
  refine z_if_eq (tgt := 266) dX1_readOne_214 rfl (fun h_ => ?_) (fun h_ => ?_)
  · have k := zit h_ k
    refine Z.pick [0, 1, 2, 3, 4, 5, 6] rfl ?_
    exact k
  · have k := zif h_ k
    refine z_aload_n dX1_readOne_217 rfl rfl ?_
    refine z_dup dX1_readOne_218 rfl ?_
    refine z_geti dX1_readOne_219 fsX1_850_0 ?_
    refine z_aload_n dX1_readOne_222 rfl rfl ?_
    refine z_getr (r := (gr M 16 60)) dX1_readOne_223 fsX1_684_0 rfl ?_
    obtain ⟨b3, e3_, k⟩ := k
    refine Z.eqs (lv' := [(0, vr (some (16, 0, 0))), (5, vi l5), (6, vr (some (a6, 4, 0))), (7, vl l7), (9, vl l9), (11, vl l11), (13, vl l13), (15, vi l15), (16, vi l16)]) (st' := [vr (some (b3, 7, 0)), vi (gi M 16 91), vr (some (16, 0, 0))]) rfl (by rw [e3_] <;> rfl) ?_
    refine z_getr (r := (gr M b3 9)) dX1_readOne_226 fsX1_877_7 rfl ?_
    refine z_iload dX1_readOne_229 rfl ?_
    obtain ⟨b4, m4, e4_, k⟩ := k
    refine Z.eqs (lv' := [(0, vr (some (16, 0, 0))), (5, vi l5), (6, vr (some (a6, 4, 0))), (7, vl l7), (9, vl l9), (11, vl l11), (13, vl l13), (15, vi l15), (16, vi l16)]) (st' := [vi l15, vr (some (b4, 104, m4)), vi (gi M 16 91), vr (some (16, 0, 0))]) rfl (by rw [e4_] <;> rfl) ?_
    obtain ⟨b_, k⟩ := k
    refine z_zald dX1_readOne_231 b_ ?_
    refine z_ior dX1_readOne_232 ?_
    obtain ⟨b_, k⟩ := k
    refine z_puti (by decide) dX1_readOne_233 (zfwN.w fwX1_850_0) rfl b_ ?_
    refine z_lload dX1_readOne_236 rfl ?_
    refine z_aload_n dX1_readOne_238 rfl rfl ?_
    refine z_getr (r := (gr M 16 60)) dX1_readOne_239 fsX1_684_0 rfl ?_
    obtain ⟨b5, e5_, k⟩ := k
    refine Z.eqs (lv' := [(0, vr (some (16, 0, 0))), (5, vi l5), (6, vr (some (a6, 4, 0))), (7, vl l7), (9, vl l9), (11, vl l11), (13, vl l13), (15, vi l15), (16, vi l16)]) (st' := [vr (some (b5, 7, 0)), vl l11]) rfl (by rw [e5_] <;> rfl) ?_
    refine z_getr (r := (gr M b5 4)) dX1_readOne_242 fsX1_734_7 rfl ?_
    refine z_iload dX1_readOne_245 rfl ?_
    obtain ⟨b6, m6, e6_, k⟩ := k
    refine Z.eqs (lv' := [(0, vr (some (16, 0, 0))), (5, vi l5), (6, vr (some (a6, 4, 0))), (7, vl l7), (9, vl l9), (11, vl l11), (13, vl l13), (15, vi l15), (16, vi l16)]) (st' := [vi l15, vr (some (b6, 105, m6)), vl l11]) rfl (by rw [e6_] <;> rfl) ?_
    obtain ⟨b_, k⟩ := k
    refine z_lald dX1_readOne_247 b_ ?_
    refine z_lor dX1_readOne_248 ?_
    refine z_lst dX1_readOne_249 (by decide) (lv' := [(0, vr (some (16, 0, 0))), (5, vi l5), (6, vr (some (a6, 4, 0))), (7, vl l7), (9, vl l9), (11, vl (l11 ||| (gl M b6 (l15).toNatClampNeg))), (13, vl l13), (15, vi l15), (16, vi l16)]) rfl ?_
    refine z_lload dX1_readOne_251 rfl ?_
    refine z_aload_n dX1_readOne_253 rfl rfl ?_
    refine z_getr (r := (gr M 16 60)) dX1_readOne_254 fsX1_684_0 rfl ?_
    obtain ⟨b7, e7_, k⟩ := k
    refine Z.eqs (lv' := [(0, vr (some (16, 0, 0))), (5, vi l5), (6, vr (some (a6, 4, 0))), (7, vl l7), (9, vl l9), (11, vl (l11 ||| (gl M b6 (l15).toNatClampNeg))), (13, vl l13), (15, vi l15), (16, vi l16)]) (st' := [vr (some (b7, 7, 0)), vl l13]) rfl (by rw [e7_] <;> rfl) ?_
    refine z_getr (r := (gr M b7 5)) dX1_readOne_257 fsX1_880_7 rfl ?_
    refine z_iload dX1_readOne_260 rfl ?_
    obtain ⟨b8, m8, e8_, k⟩ := k
    refine Z.eqs (lv' := [(0, vr (some (16, 0, 0))), (5, vi l5), (6, vr (some (a6, 4, 0))), (7, vl l7), (9, vl l9), (11, vl (l11 ||| (gl M b6 (l15).toNatClampNeg))), (13, vl l13), (15, vi l15), (16, vi l16)]) (st' := [vi l15, vr (some (b8, 105, m8)), vl l13]) rfl (by rw [e8_] <;> rfl) ?_
    obtain ⟨b_, k⟩ := k
    refine z_lald dX1_readOne_262 b_ ?_
    refine z_lor dX1_readOne_263 ?_
    refine z_lst dX1_readOne_264 (by decide) (lv' := [(0, vr (some (16, 0, 0))), (5, vi l5), (6, vr (some (a6, 4, 0))), (7, vl l7), (9, vl l9), (11, vl (l11 ||| (gl M b6 (l15).toNatClampNeg))), (13, vl (l13 ||| (gl M b8 (l15).toNatClampNeg))), (15, vi l15), (16, vi l16)]) rfl ?_
    refine Z.pick [0, 1, 2, 3, 4, 5, 6] rfl ?_
    exact k
theorem sX1_readOne_266 {E : zE} {d : Nat} {Q : zO → zM → Prop} (M : zM) (l5 : Int32) (a6 : Nat) (l7 : Int64) (l9 : Int64) (l11 : Int64) (l13 : Int64) (hw : cw M) (k : Z E YX1_readOne (d + 1) M [(0, vr (some (16, 0, 0))), (5, vi l5), (6, vr (some (a6, 4, 0))), (7, vl l7), (9, vl l9), (11, vl (l11 &&& (l7 ^^^ (-1 : Int64)))), (13, vl (l13 &&& (l9 ^^^ (-1 : Int64))))] 12 [] Q) : Z E YX1_readOne (d + 1) M [(0, vr (some (16, 0, 0))), (5, vi l5), (6, vr (some (a6, 4, 0))), (7, vl l7), (9, vl l9), (11, vl l11), (13, vl l13)] 266 [] Q := by
  refine z_lload dX1_readOne_266 rfl ?_
  refine z_lload dX1_readOne_268 rfl ?_
  refine z_ldc2 (v := -1) dX1_readOne_270 q3261 ?_
  refine z_lxor dX1_readOne_273 ?_
  refine z_land dX1_readOne_274 ?_
  refine z_lst dX1_readOne_275 (by decide) (lv' := [(0, vr (some (16, 0, 0))), (5, vi l5), (6, vr (some (a6, 4, 0))), (7, vl l7), (9, vl l9), (11, vl (l11 &&& (l7 ^^^ (-1 : Int64)))), (13, vl l13)]) rfl ?_
  refine z_lload dX1_readOne_277 rfl ?_
  refine z_lload dX1_readOne_279 rfl ?_
  refine z_ldc2 (v := -1) dX1_readOne_281 q3261 ?_
  refine z_lxor dX1_readOne_284 ?_
  refine z_land dX1_readOne_285 ?_
  refine z_lst dX1_readOne_286 (by decide) (lv' := [(0, vr (some (16, 0, 0))), (5, vi l5), (6, vr (some (a6, 4, 0))), (7, vl l7), (9, vl l9), (11, vl (l11 &&& (l7 ^^^ (-1 : Int64)))), (13, vl (l13 &&& (l9 ^^^ (-1 : Int64))))]) rfl ?_
  refine z_goto (tgt := 12) dX1_readOne_288 rfl ?_
  exact k
/-! ScriptTypes.puts()V -/
theorem bX1_puts_0 : zdec cX1_puts 0 [(0, .aload_n 0, 1), (1, .getfield 684, 3), (4, .aload_n 0, 1), (5, .getfield 213, 3), (8, .invokevirtual 937, 3), (11, .pop, 1), (12, .aload_n 0, 1), (13, .getfield 684, 3), (16, .aload_n 0, 1), (17, .getfield 210, 3), (20, .invokevirtual 937, 3), (23, .pop, 1), (24, .aload_n 0, 1), (25, .getfield 684, 3), (28, .aload_n 0, 1), (29, .getfield 206, 3)] = true := by decide +kernel
theorem dX1_puts_0 : decode cX1_puts 0 = .ok (.aload_n 0, 1) := zdec_at bX1_puts_0 0 rfl
theorem dX1_puts_1 : decode cX1_puts 1 = .ok (.getfield 684, 3) := zdec_at bX1_puts_0 1 rfl
theorem dX1_puts_4 : decode cX1_puts 4 = .ok (.aload_n 0, 1) := zdec_at bX1_puts_0 2 rfl
theorem dX1_puts_5 : decode cX1_puts 5 = .ok (.getfield 213, 3) := zdec_at bX1_puts_0 3 rfl
theorem dX1_puts_8 : decode cX1_puts 8 = .ok (.invokevirtual 937, 3) := zdec_at bX1_puts_0 4 rfl
theorem dX1_puts_11 : decode cX1_puts 11 = .ok (.pop, 1) := zdec_at bX1_puts_0 5 rfl
theorem dX1_puts_12 : decode cX1_puts 12 = .ok (.aload_n 0, 1) := zdec_at bX1_puts_0 6 rfl
theorem dX1_puts_13 : decode cX1_puts 13 = .ok (.getfield 684, 3) := zdec_at bX1_puts_0 7 rfl
theorem dX1_puts_16 : decode cX1_puts 16 = .ok (.aload_n 0, 1) := zdec_at bX1_puts_0 8 rfl
theorem dX1_puts_17 : decode cX1_puts 17 = .ok (.getfield 210, 3) := zdec_at bX1_puts_0 9 rfl
theorem dX1_puts_20 : decode cX1_puts 20 = .ok (.invokevirtual 937, 3) := zdec_at bX1_puts_0 10 rfl
theorem dX1_puts_23 : decode cX1_puts 23 = .ok (.pop, 1) := zdec_at bX1_puts_0 11 rfl
theorem dX1_puts_24 : decode cX1_puts 24 = .ok (.aload_n 0, 1) := zdec_at bX1_puts_0 12 rfl
theorem dX1_puts_25 : decode cX1_puts 25 = .ok (.getfield 684, 3) := zdec_at bX1_puts_0 13 rfl
theorem dX1_puts_28 : decode cX1_puts 28 = .ok (.aload_n 0, 1) := zdec_at bX1_puts_0 14 rfl
theorem dX1_puts_29 : decode cX1_puts 29 = .ok (.getfield 206, 3) := zdec_at bX1_puts_0 15 rfl
theorem bX1_puts_32 : zdec cX1_puts 32 [(32, .invokevirtual 937, 3), (35, .pop, 1), (36, .aload_n 0, 1), (37, .getfield 206, 3), (40, .iconst 3, 1), (41, .invokevirtual 831, 3), (44, .ifCond .eq 12, 3), (47, .aload_n 0, 1), (48, .aload_n 0, 1), (49, .getfield 684, 3), (52, .iconst 0, 1), (53, .invokevirtual 960, 3), (56, .aload_n 0, 1), (57, .getfield 206, 3), (60, .invokevirtual 837, 3), (63, .ifCond .ne 19, 3)] = true := by decide +kernel
theorem dX1_puts_32 : decode cX1_puts 32 = .ok (.invokevirtual 937, 3) := zdec_at bX1_puts_32 0 rfl
theorem dX1_puts_35 : decode cX1_puts 35 = .ok (.pop, 1) := zdec_at bX1_puts_32 1 rfl
theorem dX1_puts_36 : decode cX1_puts 36 = .ok (.aload_n 0, 1) := zdec_at bX1_puts_32 2 rfl
theorem dX1_puts_37 : decode cX1_puts 37 = .ok (.getfield 206, 3) := zdec_at bX1_puts_32 3 rfl
theorem dX1_puts_40 : decode cX1_puts 40 = .ok (.iconst 3, 1) := zdec_at bX1_puts_32 4 rfl
theorem dX1_puts_41 : decode cX1_puts 41 = .ok (.invokevirtual 831, 3) := zdec_at bX1_puts_32 5 rfl
theorem dX1_puts_44 : decode cX1_puts 44 = .ok (.ifCond .eq 12, 3) := zdec_at bX1_puts_32 6 rfl
theorem dX1_puts_47 : decode cX1_puts 47 = .ok (.aload_n 0, 1) := zdec_at bX1_puts_32 7 rfl
theorem dX1_puts_48 : decode cX1_puts 48 = .ok (.aload_n 0, 1) := zdec_at bX1_puts_32 8 rfl
theorem dX1_puts_49 : decode cX1_puts 49 = .ok (.getfield 684, 3) := zdec_at bX1_puts_32 9 rfl
theorem dX1_puts_52 : decode cX1_puts 52 = .ok (.iconst 0, 1) := zdec_at bX1_puts_32 10 rfl
theorem dX1_puts_53 : decode cX1_puts 53 = .ok (.invokevirtual 960, 3) := zdec_at bX1_puts_32 11 rfl
theorem dX1_puts_56 : decode cX1_puts 56 = .ok (.aload_n 0, 1) := zdec_at bX1_puts_32 12 rfl
theorem dX1_puts_57 : decode cX1_puts 57 = .ok (.getfield 206, 3) := zdec_at bX1_puts_32 13 rfl
theorem dX1_puts_60 : decode cX1_puts 60 = .ok (.invokevirtual 837, 3) := zdec_at bX1_puts_32 14 rfl
theorem dX1_puts_63 : decode cX1_puts 63 = .ok (.ifCond .ne 19, 3) := zdec_at bX1_puts_32 15 rfl
theorem bX1_puts_66 : zdec cX1_puts 66 [(66, .aload_n 0, 1), (67, .getfield 206, 3), (70, .getfield 920, 3), (73, .ldc2_w 1037, 3), (76, .land, 1), (77, .lconst 0, 1), (78, .lcmp, 1), (79, .ifCond .eq 200, 3), (82, .aload_n 0, 1), (83, .aload_n 0, 1), (84, .getfield 210, 3), (87, .invokevirtual 883, 3), (90, .aload_n 0, 1), (91, .getfield 206, 3), (94, .getfield 920, 3), (97, .ldc2_w 875, 3)] = true := by decide +kernel
theorem dX1_puts_66 : decode cX1_puts 66 = .ok (.aload_n 0, 1) := zdec_at bX1_puts_66 0 rfl
theorem dX1_puts_67 : decode cX1_puts 67 = .ok (.getfield 206, 3) := zdec_at bX1_puts_66 1 rfl
theorem dX1_puts_70 : decode cX1_puts 70 = .ok (.getfield 920, 3) := zdec_at bX1_puts_66 2 rfl
theorem dX1_puts_73 : decode cX1_puts 73 = .ok (.ldc2_w 1037, 3) := zdec_at bX1_puts_66 3 rfl
theorem dX1_puts_76 : decode cX1_puts 76 = .ok (.land, 1) := zdec_at bX1_puts_66 4 rfl
theorem dX1_puts_77 : decode cX1_puts 77 = .ok (.lconst 0, 1) := zdec_at bX1_puts_66 5 rfl
theorem dX1_puts_78 : decode cX1_puts 78 = .ok (.lcmp, 1) := zdec_at bX1_puts_66 6 rfl
theorem dX1_puts_79 : decode cX1_puts 79 = .ok (.ifCond .eq 200, 3) := zdec_at bX1_puts_66 7 rfl
theorem dX1_puts_82 : decode cX1_puts 82 = .ok (.aload_n 0, 1) := zdec_at bX1_puts_66 8 rfl
theorem dX1_puts_83 : decode cX1_puts 83 = .ok (.aload_n 0, 1) := zdec_at bX1_puts_66 9 rfl
theorem dX1_puts_84 : decode cX1_puts 84 = .ok (.getfield 210, 3) := zdec_at bX1_puts_66 10 rfl
theorem dX1_puts_87 : decode cX1_puts 87 = .ok (.invokevirtual 883, 3) := zdec_at bX1_puts_66 11 rfl
theorem dX1_puts_90 : decode cX1_puts 90 = .ok (.aload_n 0, 1) := zdec_at bX1_puts_66 12 rfl
theorem dX1_puts_91 : decode cX1_puts 91 = .ok (.getfield 206, 3) := zdec_at bX1_puts_66 13 rfl
theorem dX1_puts_94 : decode cX1_puts 94 = .ok (.getfield 920, 3) := zdec_at bX1_puts_66 14 rfl
theorem dX1_puts_97 : decode cX1_puts 97 = .ok (.ldc2_w 875, 3) := zdec_at bX1_puts_66 15 rfl
theorem bX1_puts_100 : zdec cX1_puts 100 [(100, .land, 1), (101, .lconst 0, 1), (102, .lcmp, 1), (103, .ifCond .ne 7, 3), (106, .iconst 1, 1), (107, .goto 4, 3), (110, .iconst 0, 1), (111, .istore_n 1, 1), (112, .aload_n 0, 1), (113, .getfield 206, 3), (116, .getfield 916, 3), (119, .aload_n 0, 1), (120, .getfield 652, 3), (123, .land, 1), (124, .lstore_n 2, 1), (125, .aload_n 0, 1)] = true := by decide +kernel
theorem dX1_puts_100 : decode cX1_puts 100 = .ok (.land, 1) := zdec_at bX1_puts_100 0 rfl
theorem dX1_puts_101 : decode cX1_puts 101 = .ok (.lconst 0, 1) := zdec_at bX1_puts_100 1 rfl
theorem dX1_puts_102 : decode cX1_puts 102 = .ok (.lcmp, 1) := zdec_at bX1_puts_100 2 rfl
theorem dX1_puts_103 : decode cX1_puts 103 = .ok (.ifCond .ne 7, 3) := zdec_at bX1_puts_100 3 rfl
theorem dX1_puts_106 : decode cX1_puts 106 = .ok (.iconst 1, 1) := zdec_at bX1_puts_100 4 rfl
theorem dX1_puts_107 : decode cX1_puts 107 = .ok (.goto 4, 3) := zdec_at bX1_puts_100 5 rfl
theorem dX1_puts_110 : decode cX1_puts 110 = .ok (.iconst 0, 1) := zdec_at bX1_puts_100 6 rfl
theorem dX1_puts_111 : decode cX1_puts 111 = .ok (.istore_n 1, 1) := zdec_at bX1_puts_100 7 rfl
theorem dX1_puts_112 : decode cX1_puts 112 = .ok (.aload_n 0, 1) := zdec_at bX1_puts_100 8 rfl
theorem dX1_puts_113 : decode cX1_puts 113 = .ok (.getfield 206, 3) := zdec_at bX1_puts_100 9 rfl
theorem dX1_puts_116 : decode cX1_puts 116 = .ok (.getfield 916, 3) := zdec_at bX1_puts_100 10 rfl
theorem dX1_puts_119 : decode cX1_puts 119 = .ok (.aload_n 0, 1) := zdec_at bX1_puts_100 11 rfl
theorem dX1_puts_120 : decode cX1_puts 120 = .ok (.getfield 652, 3) := zdec_at bX1_puts_100 12 rfl
theorem dX1_puts_123 : decode cX1_puts 123 = .ok (.land, 1) := zdec_at bX1_puts_100 13 rfl
theorem dX1_puts_124 : decode cX1_puts 124 = .ok (.lstore_n 2, 1) := zdec_at bX1_puts_100 14 rfl
theorem dX1_puts_125 : decode cX1_puts 125 = .ok (.aload_n 0, 1) := zdec_at bX1_puts_100 15 rfl
theorem bX1_puts_126 : zdec cX1_puts 126 [(126, .getfield 206, 3), (129, .getfield 918, 3), (132, .aload_n 0, 1), (133, .getfield 655, 3), (136, .land, 1), (137, .lstore 4, 2), (139, .aload_n 0, 1), (140, .getfield 824, 3), (143, .ifCond .ne 31, 3), (146, .aload_n 0, 1), (147, .getfield 818, 3), (150, .aload_n 0, 1), (151, .getfield 646, 3), (154, .land, 1), (155, .lconst 0, 1), (156, .lcmp, 1)] = true := by decide +kernel
theorem dX1_puts_126 : decode cX1_puts 126 = .ok (.getfield 206, 3) := zdec_at bX1_puts_126 0 rfl
theorem dX1_puts_129 : decode cX1_puts 129 = .ok (.getfield 918, 3) := zdec_at bX1_puts_126 1 rfl
theorem dX1_puts_132 : decode cX1_puts 132 = .ok (.aload_n 0, 1) := zdec_at bX1_puts_126 2 rfl
theorem dX1_puts_133 : decode cX1_puts 133 = .ok (.getfield 655, 3) := zdec_at bX1_puts_126 3 rfl
theorem dX1_puts_136 : decode cX1_puts 136 = .ok (.land, 1) := zdec_at bX1_puts_126 4 rfl
theorem dX1_puts_137 : decode cX1_puts 137 = .ok (.lstore 4, 2) := zdec_at bX1_puts_126 5 rfl
theorem dX1_puts_139 : decode cX1_puts 139 = .ok (.aload_n 0, 1) := zdec_at bX1_puts_126 6 rfl
theorem dX1_puts_140 : decode cX1_puts 140 = .ok (.getfield 824, 3) := zdec_at bX1_puts_126 7 rfl
theorem dX1_puts_143 : decode cX1_puts 143 = .ok (.ifCond .ne 31, 3) := zdec_at bX1_puts_126 8 rfl
theorem dX1_puts_146 : decode cX1_puts 146 = .ok (.aload_n 0, 1) := zdec_at bX1_puts_126 9 rfl
theorem dX1_puts_147 : decode cX1_puts 147 = .ok (.getfield 818, 3) := zdec_at bX1_puts_126 10 rfl
theorem dX1_puts_150 : decode cX1_puts 150 = .ok (.aload_n 0, 1) := zdec_at bX1_puts_126 11 rfl
theorem dX1_puts_151 : decode cX1_puts 151 = .ok (.getfield 646, 3) := zdec_at bX1_puts_126 12 rfl
theorem dX1_puts_154 : decode cX1_puts 154 = .ok (.land, 1) := zdec_at bX1_puts_126 13 rfl
theorem dX1_puts_155 : decode cX1_puts 155 = .ok (.lconst 0, 1) := zdec_at bX1_puts_126 14 rfl
theorem dX1_puts_156 : decode cX1_puts 156 = .ok (.lcmp, 1) := zdec_at bX1_puts_126 15 rfl
theorem bX1_puts_157 : zdec cX1_puts 157 [(157, .ifCond .ne 17, 3), (160, .aload_n 0, 1), (161, .getfield 821, 3), (164, .aload_n 0, 1), (165, .getfield 649, 3), (168, .land, 1), (169, .lconst 0, 1), (170, .lcmp, 1), (171, .ifCond .eq 7, 3), (174, .iconst 1, 1), (175, .goto 4, 3), (178, .iconst 0, 1), (179, .istore 6, 2), (181, .aload_n 0, 1), (182, .aload_n 0, 1), (183, .getfield 206, 3)] = true := by decide +kernel
theorem dX1_puts_157 : decode cX1_puts 157 = .ok (.ifCond .ne 17, 3) := zdec_at bX1_puts_157 0 rfl
theorem dX1_puts_160 : decode cX1_puts 160 = .ok (.aload_n 0, 1) := zdec_at bX1_puts_157 1 rfl
theorem dX1_puts_161 : decode cX1_puts 161 = .ok (.getfield 821, 3) := zdec_at bX1_puts_157 2 rfl
theorem dX1_puts_164 : decode cX1_puts 164 = .ok (.aload_n 0, 1) := zdec_at bX1_puts_157 3 rfl
theorem dX1_puts_165 : decode cX1_puts 165 = .ok (.getfield 649, 3) := zdec_at bX1_puts_157 4 rfl
theorem dX1_puts_168 : decode cX1_puts 168 = .ok (.land, 1) := zdec_at bX1_puts_157 5 rfl
theorem dX1_puts_169 : decode cX1_puts 169 = .ok (.lconst 0, 1) := zdec_at bX1_puts_157 6 rfl
theorem dX1_puts_170 : decode cX1_puts 170 = .ok (.lcmp, 1) := zdec_at bX1_puts_157 7 rfl
theorem dX1_puts_171 : decode cX1_puts 171 = .ok (.ifCond .eq 7, 3) := zdec_at bX1_puts_157 8 rfl
theorem dX1_puts_174 : decode cX1_puts 174 = .ok (.iconst 1, 1) := zdec_at bX1_puts_157 9 rfl
theorem dX1_puts_175 : decode cX1_puts 175 = .ok (.goto 4, 3) := zdec_at bX1_puts_157 10 rfl
theorem dX1_puts_178 : decode cX1_puts 178 = .ok (.iconst 0, 1) := zdec_at bX1_puts_157 11 rfl
theorem dX1_puts_179 : decode cX1_puts 179 = .ok (.istore 6, 2) := zdec_at bX1_puts_157 12 rfl
theorem dX1_puts_181 : decode cX1_puts 181 = .ok (.aload_n 0, 1) := zdec_at bX1_puts_157 13 rfl
theorem dX1_puts_182 : decode cX1_puts 182 = .ok (.aload_n 0, 1) := zdec_at bX1_puts_157 14 rfl
theorem dX1_puts_183 : decode cX1_puts 183 = .ok (.getfield 206, 3) := zdec_at bX1_puts_157 15 rfl
theorem bX1_puts_186 : zdec cX1_puts 186 [(186, .getfield 916, 3), (189, .aload_n 0, 1), (190, .getfield 206, 3), (193, .getfield 918, 3), (196, .iload_n 1, 1), (197, .aload_n 0, 1), (198, .getfield 213, 3), (201, .invokevirtual 908, 3), (204, .iload 6, 2), (206, .ifCond .eq 65, 3), (209, .iconst 0, 1), (210, .istore 7, 2), (212, .iload 7, 2), (214, .aload_n 0, 1), (215, .getfield 313, 3), (218, .if_icmp .ge 53, 3)] = true := by decide +kernel
theorem dX1_puts_186 : decode cX1_puts 186 = .ok (.getfield 916, 3) := zdec_at bX1_puts_186 0 rfl
theorem dX1_puts_189 : decode cX1_puts 189 = .ok (.aload_n 0, 1) := zdec_at bX1_puts_186 1 rfl
theorem dX1_puts_190 : decode cX1_puts 190 = .ok (.getfield 206, 3) := zdec_at bX1_puts_186 2 rfl
theorem dX1_puts_193 : decode cX1_puts 193 = .ok (.getfield 918, 3) := zdec_at bX1_puts_186 3 rfl
theorem dX1_puts_196 : decode cX1_puts 196 = .ok (.iload_n 1, 1) := zdec_at bX1_puts_186 4 rfl
theorem dX1_puts_197 : decode cX1_puts 197 = .ok (.aload_n 0, 1) := zdec_at bX1_puts_186 5 rfl
theorem dX1_puts_198 : decode cX1_puts 198 = .ok (.getfield 213, 3) := zdec_at bX1_puts_186 6 rfl
theorem dX1_puts_201 : decode cX1_puts 201 = .ok (.invokevirtual 908, 3) := zdec_at bX1_puts_186 7 rfl
theorem dX1_puts_204 : decode cX1_puts 204 = .ok (.iload 6, 2) := zdec_at bX1_puts_186 8 rfl
theorem dX1_puts_206 : decode cX1_puts 206 = .ok (.ifCond .eq 65, 3) := zdec_at bX1_puts_186 9 rfl
theorem dX1_puts_209 : decode cX1_puts 209 = .ok (.iconst 0, 1) := zdec_at bX1_puts_186 10 rfl
theorem dX1_puts_210 : decode cX1_puts 210 = .ok (.istore 7, 2) := zdec_at bX1_puts_186 11 rfl
theorem dX1_puts_212 : decode cX1_puts 212 = .ok (.iload 7, 2) := zdec_at bX1_puts_186 12 rfl
theorem dX1_puts_214 : decode cX1_puts 214 = .ok (.aload_n 0, 1) := zdec_at bX1_puts_186 13 rfl
theorem dX1_puts_215 : decode cX1_puts 215 = .ok (.getfield 313, 3) := zdec_at bX1_puts_186 14 rfl
theorem dX1_puts_218 : decode cX1_puts 218 = .ok (.if_icmp .ge 53, 3) := zdec_at bX1_puts_186 15 rfl
theorem bX1_puts_221 : zdec cX1_puts 221 [(221, .iload 7, 2), (223, .lload_n 2, 1), (224, .lload 4, 2), (226, .invokestatic 827, 3), (229, .ifCond .eq 36, 3), (232, .aload_n 0, 1), (233, .getfield 684, 3), (236, .getfield 731, 3), (239, .iload 7, 2), (241, .baload, 1), (242, .ifCond .eq 23, 3), (245, .aload_n 0, 1), (246, .getfield 684, 3), (249, .iload 7, 2), (251, .iconst 0, 1), (252, .aload_n 0, 1)] = true := by decide +kernel
theorem dX1_puts_221 : decode cX1_puts 221 = .ok (.iload 7, 2) := zdec_at bX1_puts_221 0 rfl
theorem dX1_puts_223 : decode cX1_puts 223 = .ok (.lload_n 2, 1) := zdec_at bX1_puts_221 1 rfl
theorem dX1_puts_224 : decode cX1_puts 224 = .ok (.lload 4, 2) := zdec_at bX1_puts_221 2 rfl
theorem dX1_puts_226 : decode cX1_puts 226 = .ok (.invokestatic 827, 3) := zdec_at bX1_puts_221 3 rfl
theorem dX1_puts_229 : decode cX1_puts 229 = .ok (.ifCond .eq 36, 3) := zdec_at bX1_puts_221 4 rfl
theorem dX1_puts_232 : decode cX1_puts 232 = .ok (.aload_n 0, 1) := zdec_at bX1_puts_221 5 rfl
theorem dX1_puts_233 : decode cX1_puts 233 = .ok (.getfield 684, 3) := zdec_at bX1_puts_221 6 rfl
theorem dX1_puts_236 : decode cX1_puts 236 = .ok (.getfield 731, 3) := zdec_at bX1_puts_221 7 rfl
theorem dX1_puts_239 : decode cX1_puts 239 = .ok (.iload 7, 2) := zdec_at bX1_puts_221 8 rfl
theorem dX1_puts_241 : decode cX1_puts 241 = .ok (.baload, 1) := zdec_at bX1_puts_221 9 rfl
theorem dX1_puts_242 : decode cX1_puts 242 = .ok (.ifCond .eq 23, 3) := zdec_at bX1_puts_221 10 rfl
theorem dX1_puts_245 : decode cX1_puts 245 = .ok (.aload_n 0, 1) := zdec_at bX1_puts_221 11 rfl
theorem dX1_puts_246 : decode cX1_puts 246 = .ok (.getfield 684, 3) := zdec_at bX1_puts_221 12 rfl
theorem dX1_puts_249 : decode cX1_puts 249 = .ok (.iload 7, 2) := zdec_at bX1_puts_221 13 rfl
theorem dX1_puts_251 : decode cX1_puts 251 = .ok (.iconst 0, 1) := zdec_at bX1_puts_221 14 rfl
theorem dX1_puts_252 : decode cX1_puts 252 = .ok (.aload_n 0, 1) := zdec_at bX1_puts_221 15 rfl
theorem bX1_puts_253 : zdec cX1_puts 253 [(253, .getfield 210, 3), (256, .ldc2_w 609, 3), (259, .invokevirtual 892, 3), (262, .invokevirtual 992, 3), (265, .iinc 7 1, 3), (268, .goto (-56), 3), (271, .aload_n 0, 1), (272, .aload_n 0, 1), (273, .getfield 213, 3), (276, .invokevirtual 895, 3), (279, .return_, 1)] = true := by decide +kernel
theorem dX1_puts_253 : decode cX1_puts 253 = .ok (.getfield 210, 3) := zdec_at bX1_puts_253 0 rfl
theorem dX1_puts_256 : decode cX1_puts 256 = .ok (.ldc2_w 609, 3) := zdec_at bX1_puts_253 1 rfl
theorem dX1_puts_259 : decode cX1_puts 259 = .ok (.invokevirtual 892, 3) := zdec_at bX1_puts_253 2 rfl
theorem dX1_puts_262 : decode cX1_puts 262 = .ok (.invokevirtual 992, 3) := zdec_at bX1_puts_253 3 rfl
theorem dX1_puts_265 : decode cX1_puts 265 = .ok (.iinc 7 1, 3) := zdec_at bX1_puts_253 4 rfl
theorem dX1_puts_268 : decode cX1_puts 268 = .ok (.goto (-56), 3) := zdec_at bX1_puts_253 5 rfl
theorem dX1_puts_271 : decode cX1_puts 271 = .ok (.aload_n 0, 1) := zdec_at bX1_puts_253 6 rfl
theorem dX1_puts_272 : decode cX1_puts 272 = .ok (.aload_n 0, 1) := zdec_at bX1_puts_253 7 rfl
theorem dX1_puts_273 : decode cX1_puts 273 = .ok (.getfield 213, 3) := zdec_at bX1_puts_253 8 rfl
theorem dX1_puts_276 : decode cX1_puts 276 = .ok (.invokevirtual 895, 3) := zdec_at bX1_puts_253 9 rfl
theorem dX1_puts_279 : decode cX1_puts 279 = .ok (.return_, 1) := zdec_at bX1_puts_253 10 rfl
theorem sX1_puts_0 {E : zE} {d : Nat} {Q : zO → zM → Prop} (M : zM)  (hw : cw M) (k : ∃ b1 : Nat, (gr M 16 60) = some (b1, 7, 0) ∧ (Z E YX43_pop d M (zargs 0 [vr (some (b1, 7, 0)), vr (some (73, 4, 0))]) 0 [] (zafter E YX1_puts (d + 1) [(0, vr (some (16, 0, 0)))] 8 3 [] Q))) : Z E YX1_puts (d + 1) M [(0, vr (some (16, 0, 0)))] 0 [] Q := by
  refine z_aload_n dX1_puts_0 rfl rfl ?_
  refine z_getr (r := (gr M 16 60)) dX1_puts_1 fsX1_684_0 rfl ?_
  refine z_aload_n dX1_puts_4 rfl rfl ?_
  refine z_getr dX1_puts_5 fsX1_213_0 (show gr M 16 80 = some (73, 4, 0) from cw_at hw 41 rfl) ?_
  obtain ⟨b1, e1_, k⟩ := k
  refine Z.eqs (lv' := [(0, vr (some (16, 0, 0)))]) (st' := [vr (some (73, 4, 0)), vr (some (b1, 7, 0))]) rfl (by rw [e1_] <;> rfl) ?_
  exact z_callV (as := [vr (some (73, 4, 0))]) (st := []) dX1_puts_8 vsX1_937_7 (Nat.le_refl _) (Nat.le_of_ble_eq_true rfl) (Nat.le_of_ble_eq_true rfl) rfl k
theorem sX1_puts_11 {E : zE} {d : Nat} {Q : zO → zM → Prop} (M : zM) (u0 : Option zP) (hw : cw M) (k : ∃ b1 : Nat, (gr M 16 60) = some (b1, 7, 0) ∧ (Z E YX43_pop d M (zargs 0 [vr (some (b1, 7, 0)), vr (some (72, 4, 0))]) 0 [] (zafter E YX1_puts (d + 1) [(0, vr (some (16, 0, 0)))] 20 3 [] Q))) : Z E YX1_puts (d + 1) M [(0, vr (some (16, 0, 0)))] 11 [vr u0] Q := by
  refine z_pop dX1_puts_11 rfl ?_
  refine z_aload_n dX1_puts_12 rfl rfl ?_
  refine z_getr (r := (gr M 16 60)) dX1_puts_13 fsX1_684_0 rfl ?_
  refine z_aload_n dX1_puts_16 rfl rfl ?_
  refine z_getr dX1_puts_17 fsX1_210_0 (show gr M 16 79 = some (72, 4, 0) from cw_at hw 40 rfl) ?_
  obtain ⟨b1, e1_, k⟩ := k
  refine Z.eqs (lv' := [(0, vr (some (16, 0, 0)))]) (st' := [vr (some (72, 4, 0)), vr (some (b1, 7, 0))]) rfl (by rw [e1_] <;> rfl) ?_
  exact z_callV (as := [vr (some (72, 4, 0))]) (st := []) dX1_puts_20 vsX1_937_7 (Nat.le_refl _) (Nat.le_of_ble_eq_true rfl) (Nat.le_of_ble_eq_true rfl) rfl k
theorem sX1_puts_23 {E : zE} {d : Nat} {Q : zO → zM → Prop} (M : zM) (u0 : Option zP) (hw : cw M) (k : ∃ b1 : Nat, (gr M 16 60) = some (b1, 7, 0) ∧ (Z E YX43_pop d M (zargs 0 [vr (some (b1, 7, 0)), vr (some (71, 4, 0))]) 0 [] (zafter E YX1_puts (d + 1) [(0, vr (some (16, 0, 0)))] 32 3 [] Q))) : Z E YX1_puts (d + 1) M [(0, vr (some (16, 0, 0)))] 23 [vr u0] Q := by
  refine z_pop dX1_puts_23 rfl ?_
  refine z_aload_n dX1_puts_24 rfl rfl ?_
  refine z_getr (r := (gr M 16 60)) dX1_puts_25 fsX1_684_0 rfl ?_
  refine z_aload_n dX1_puts_28 rfl rfl ?_
  refine z_getr dX1_puts_29 fsX1_206_0 (show gr M 16 78 = some (71, 4, 0) from cw_at hw 39 rfl) ?_
  obtain ⟨b1, e1_, k⟩ := k
  refine Z.eqs (lv' := [(0, vr (some (16, 0, 0)))]) (st' := [vr (some (71, 4, 0)), vr (some (b1, 7, 0))]) rfl (by rw [e1_] <;> rfl) ?_
  exact z_callV (as := [vr (some (71, 4, 0))]) (st := []) dX1_puts_32 vsX1_937_7 (Nat.le_refl _) (Nat.le_of_ble_eq_true rfl) (Nat.le_of_ble_eq_true rfl) rfl k
theorem sX1_puts_35 {E : zE} {d : Nat} {Q : zO → zM → Prop} (M : zM) (u0 : Option zP) (hw : cw M) (k : Z E YX6_has d M (zargs 0 [vr (some (71, 4, 0)), vi (3 : Int32)]) 0 [] (zafter E YX1_puts (d + 1) [(0, vr (some (16, 0, 0)))] 41 3 [] Q)) : Z E YX1_puts (d + 1) M [(0, vr (some (16, 0, 0)))] 35 [vr u0] Q := by
  refine z_pop dX1_puts_35 rfl ?_
  refine z_aload_n dX1_puts_36 rfl rfl ?_
  refine z_getr dX1_puts_37 fsX1_206_0 (show gr M 16 78 = some (71, 4, 0) from cw_at hw 39 rfl) ?_
  refine z_iconst (v := 3) dX1_puts_40 rfl ?_
  exact z_callV (as := [vi (3 : Int32)]) (st := []) dX1_puts_41 vsX1_831_4 (Nat.le_refl _) (Nat.le_of_ble_eq_true rfl) (Nat.le_of_ble_eq_true rfl) rfl k
theorem sX1_puts_44 {E : zE} {d : Nat} {Q : zO → zM → Prop} (M : zM) (s0 : Int32) (hw : cw M) (k : if s0 = 0 then (Z E YX1_puts (d + 1) M [(0, vr (some (16, 0, 0)))] 56 [] Q) else (Z E YX1_errs d M (zargs 0 [vr (some (16, 0, 0)), vr (gr M 16 60), vi (0 : Int32)]) 0 [] (zafter E YX1_puts (d + 1) [(0, vr (some (16, 0, 0)))] 53 3 [] Q))) : Z E YX1_puts (d + 1) M [(0, vr (some (16, 0, 0)))] 44 [vi s0] Q := by
  refine z_if_eq (tgt := 56) dX1_puts_44 rfl (fun h_ => ?_) (fun h_ => ?_)
  · have k := zit h_ k
    exact k
  · have k := zif h_ k
    refine z_aload_n dX1_puts_47 rfl rfl ?_
    refine z_aload_n dX1_puts_48 rfl rfl ?_
    refine z_getr (r := (gr M 16 60)) dX1_puts_49 fsX1_684_0 rfl ?_
    refine z_iconst (v := 0) dX1_puts_52 rfl ?_
    exact z_callV (as := [vr (gr M 16 60), vi (0 : Int32)]) (st := []) dX1_puts_53 vsX1_960_0 (Nat.le_refl _) (Nat.le_of_ble_eq_true rfl) (Nat.le_of_ble_eq_true rfl) rfl k
theorem sX1_puts_56 {E : zE} {d : Nat} {Q : zO → zM → Prop} (M : zM)  (hw : cw M) (k : Z E YX6_hasLabels d M (zargs 0 [vr (some (71, 4, 0))]) 0 [] (zafter E YX1_puts (d + 1) [(0, vr (some (16, 0, 0)))] 60 3 [] Q)) : Z E YX1_puts (d + 1) M [(0, vr (some (16, 0, 0)))] 56 [] Q := by
  refine z_aload_n dX1_puts_56 rfl rfl ?_
  refine z_getr dX1_puts_57 fsX1_206_0 (show gr M 16 78 = some (71, 4, 0) from cw_at hw 39 rfl) ?_
  exact z_callV (as := []) (st := []) dX1_puts_60 vsX1_837_4 (Nat.le_refl _) (Nat.le_of_ble_eq_true rfl) (Nat.le_of_ble_eq_true rfl) rfl k
theorem sX1_puts_63 {E : zE} {d : Nat} {Q : zO → zM → Prop} (M : zM) (s0 : Int32) (hw : cw M) (k : if s0 = 0 then (if (lg_cmp ((gl M 71 2) &&& (508 : Int64)) (0 : Int64)) = 0 then (Z E YX1_puts (d + 1) M [] 279 [] Q) else (Z E YX1_keys d M (zargs 0 [vr (some (16, 0, 0)), vr (some (72, 4, 0))]) 0 [] (zafter E YX1_puts (d + 1) [(0, vr (some (16, 0, 0)))] 87 3 [] Q))) else (Z E YX1_keys d M (zargs 0 [vr (some (16, 0, 0)), vr (some (72, 4, 0))]) 0 [] (zafter E YX1_puts (d + 1) [(0, vr (some (16, 0, 0)))] 87 3 [] Q))) : Z E YX1_puts (d + 1) M [(0, vr (some (16, 0, 0)))] 63 [vi s0] Q := by
  refine z_if_ne (tgt := 82) dX1_puts_63 rfl (fun h_ => ?_) (fun h_ => ?_)
  · have k := zif h_ k
    refine z_aload_n dX1_puts_82 rfl rfl ?_
    refine z_aload_n dX1_puts_83 rfl rfl ?_
    refine z_getr dX1_puts_84 fsX1_210_0 (show gr M 16 79 = some (72, 4, 0) from cw_at hw 40 rfl) ?_
    exact z_callV (as := [vr (some (72, 4, 0))]) (st := []) dX1_puts_87 vsX1_883_0 (Nat.le_refl _) (Nat.le_of_ble_eq_true rfl) (Nat.le_of_ble_eq_true rfl) rfl k
  · have k := zit h_ k
    refine z_aload_n dX1_puts_66 rfl rfl ?_
    refine z_getr dX1_puts_67 fsX1_206_0 (show gr M 16 78 = some (71, 4, 0) from cw_at hw 39 rfl) ?_
    refine z_getl dX1_puts_70 fsX1_920_4 ?_
    refine z_ldc2 (v := 508) dX1_puts_73 q3355 ?_
    refine z_land dX1_puts_76 ?_
    refine z_lconst (v := 0) dX1_puts_77 rfl ?_
    refine z_lcmp dX1_puts_78 ?_
    refine z_if_eq (tgt := 279) dX1_puts_79 rfl (fun h_ => ?_) (fun h_ => ?_)
    · have k := zit h_ k
      refine Z.pick [] rfl ?_
      exact k
    · have k := zif h_ k
      refine z_aload_n dX1_puts_82 rfl rfl ?_
      refine z_aload_n dX1_puts_83 rfl rfl ?_
      refine z_getr dX1_puts_84 fsX1_210_0 (show gr M 16 79 = some (72, 4, 0) from cw_at hw 40 rfl) ?_
      exact z_callV (as := [vr (some (72, 4, 0))]) (st := []) dX1_puts_87 vsX1_883_0 (Nat.le_refl _) (Nat.le_of_ble_eq_true rfl) (Nat.le_of_ble_eq_true rfl) rfl k
theorem sX1_puts_90 {E : zE} {d : Nat} {Q : zO → zM → Prop} (M : zM)  (hw : cw M) (k : if (lg_cmp ((gl M 71 2) &&& (511 : Int64)) (0 : Int64)) = 0 then (Z E YX1_puts (d + 1) M [(0, vr (some (16, 0, 0)))] 111 [vi (1 : Int32)] Q) else (Z E YX1_puts (d + 1) M [(0, vr (some (16, 0, 0)))] 111 [vi (0 : Int32)] Q)) : Z E YX1_puts (d + 1) M [(0, vr (some (16, 0, 0)))] 90 [] Q := by
  refine z_aload_n dX1_puts_90 rfl rfl ?_
  refine z_getr dX1_puts_91 fsX1_206_0 (show gr M 16 78 = some (71, 4, 0) from cw_at hw 39 rfl) ?_
  refine z_getl dX1_puts_94 fsX1_920_4 ?_
  refine z_ldc2 (v := 511) dX1_puts_97 q3350 ?_
  refine z_land dX1_puts_100 ?_
  refine z_lconst (v := 0) dX1_puts_101 rfl ?_
  refine z_lcmp dX1_puts_102 ?_
  refine z_if_ne (tgt := 110) dX1_puts_103 rfl (fun h_ => ?_) (fun h_ => ?_)
  · have k := zif h_ k
    refine z_iconst (v := 0) dX1_puts_110 rfl ?_
    exact k
  · have k := zit h_ k
    refine z_iconst (v := 1) dX1_puts_106 rfl ?_
    refine z_goto (tgt := 111) dX1_puts_107 rfl ?_
    exact k
theorem sX1_puts_111 {E : zE} {d : Nat} {Q : zO → zM → Prop} (M : zM) (s0 : Int32) (hw : cw M) (k : if (gi M 16 90) = 0 then (if (lg_cmp ((gl M 16 88) &&& (gl M 16 69)) (0 : Int64)) = 0 then (if (lg_cmp ((gl M 16 89) &&& (gl M 16 70)) (0 : Int64)) = 0 then (Z E YX1_puts (d + 1) M [(0, vr (some (16, 0, 0))), (1, vi s0), (2, vl ((gl M 71 0) &&& (gl M 16 71))), (4, vl ((gl M 71 1) &&& (gl M 16 72)))] 179 [vi (0 : Int32)] Q) else (Z E YX1_puts (d + 1) M [(0, vr (some (16, 0, 0))), (1, vi s0), (2, vl ((gl M 71 0) &&& (gl M 16 71))), (4, vl ((gl M 71 1) &&& (gl M 16 72)))] 179 [vi (1 : Int32)] Q)) else (Z E YX1_puts (d + 1) M [(0, vr (some (16, 0, 0))), (1, vi s0), (2, vl ((gl M 71 0) &&& (gl M 16 71))), (4, vl ((gl M 71 1) &&& (gl M 16 72)))] 179 [vi (1 : Int32)] Q)) else (Z E YX1_puts (d + 1) M [(0, vr (some (16, 0, 0))), (1, vi s0), (2, vl ((gl M 71 0) &&& (gl M 16 71))), (4, vl ((gl M 71 1) &&& (gl M 16 72)))] 179 [vi (1 : Int32)] Q)) : Z E YX1_puts (d + 1) M [(0, vr (some (16, 0, 0)))] 111 [vi s0] Q := by
  refine z_ist_n dX1_puts_111 rfl (by decide) (lv' := [(0, vr (some (16, 0, 0))), (1, vi s0)]) rfl ?_
  refine z_aload_n dX1_puts_112 rfl rfl ?_
  refine z_getr dX1_puts_113 fsX1_206_0 (show gr M 16 78 = some (71, 4, 0) from cw_at hw 39 rfl) ?_
  refine z_getl dX1_puts_116 fsX1_916_4 ?_
  refine z_aload_n dX1_puts_119 rfl rfl ?_
  refine z_getl dX1_puts_120 fsX1_652_0 ?_
  refine z_land dX1_puts_123 ?_
  refine z_lst_n dX1_puts_124 rfl (by decide) (lv' := [(0, vr (some (16, 0, 0))), (1, vi s0), (2, vl ((gl M 71 0) &&& (gl M 16 71)))]) rfl ?_
  refine z_aload_n dX1_puts_125 rfl rfl ?_
  refine z_getr dX1_puts_126 fsX1_206_0 (show gr M 16 78 = some (71, 4, 0) from cw_at hw 39 rfl) ?_
  refine z_getl dX1_puts_129 fsX1_918_4 ?_
  refine z_aload_n dX1_puts_132 rfl rfl ?_
  refine z_getl dX1_puts_133 fsX1_655_0 ?_
  refine z_land dX1_puts_136 ?_
  refine z_lst dX1_puts_137 (by decide) (lv' := [(0, vr (some (16, 0, 0))), (1, vi s0), (2, vl ((gl M 71 0) &&& (gl M 16 71))), (4, vl ((gl M 71 1) &&& (gl M 16 72)))]) rfl ?_
  refine z_aload_n dX1_puts_139 rfl rfl ?_
  refine z_geti dX1_puts_140 fsX1_824_0 ?_
  refine z_if_ne (tgt := 174) dX1_puts_143 rfl (fun h_ => ?_) (fun h_ => ?_)
  · have k := zif h_ k
    refine z_iconst (v := 1) dX1_puts_174 rfl ?_
    refine z_goto (tgt := 179) dX1_puts_175 rfl ?_
    exact k
  · have k := zit h_ k
    refine z_aload_n dX1_puts_146 rfl rfl ?_
    refine z_getl dX1_puts_147 fsX1_818_0 ?_
    refine z_aload_n dX1_puts_150 rfl rfl ?_
    refine z_getl dX1_puts_151 fsX1_646_0 ?_
    refine z_land dX1_puts_154 ?_
    refine z_lconst (v := 0) dX1_puts_155 rfl ?_
    refine z_lcmp dX1_puts_156 ?_
    refine z_if_ne (tgt := 174) dX1_puts_157 rfl (fun h_ => ?_) (fun h_ => ?_)
    · have k := zif h_ k
      refine z_iconst (v := 1) dX1_puts_174 rfl ?_
      refine z_goto (tgt := 179) dX1_puts_175 rfl ?_
      exact k
    · have k := zit h_ k
      refine z_aload_n dX1_puts_160 rfl rfl ?_
      refine z_getl dX1_puts_161 fsX1_821_0 ?_
      refine z_aload_n dX1_puts_164 rfl rfl ?_
      refine z_getl dX1_puts_165 fsX1_649_0 ?_
      refine z_land dX1_puts_168 ?_
      refine z_lconst (v := 0) dX1_puts_169 rfl ?_
      refine z_lcmp dX1_puts_170 ?_
      refine z_if_eq (tgt := 178) dX1_puts_171 rfl (fun h_ => ?_) (fun h_ => ?_)
      · have k := zit h_ k
        refine z_iconst (v := 0) dX1_puts_178 rfl ?_
        exact k
      · have k := zif h_ k
        refine z_iconst (v := 1) dX1_puts_174 rfl ?_
        refine z_goto (tgt := 179) dX1_puts_175 rfl ?_
        exact k
theorem sX1_puts_179 {E : zE} {d : Nat} {Q : zO → zM → Prop} (M : zM) (l1 : Int32) (l2 : Int64) (l4 : Int64) (s0 : Int32) (hw : cw M) (k : Z E YX1_writes d M (zargs 0 [vr (some (16, 0, 0)), vl (gl M 71 0), vl (gl M 71 1), vi l1, vr (some (73, 4, 0))]) 0 [] (zafter E YX1_puts (d + 1) [(0, vr (some (16, 0, 0))), (2, vl l2), (4, vl l4), (6, vi s0)] 201 3 [] Q)) : Z E YX1_puts (d + 1) M [(0, vr (some (16, 0, 0))), (1, vi l1), (2, vl l2), (4, vl l4)] 179 [vi s0] Q := by
  refine z_ist dX1_puts_179 (by decide) (lv' := [(0, vr (some (16, 0, 0))), (1, vi l1), (2, vl l2), (4, vl l4), (6, vi s0)]) rfl ?_
  refine z_aload_n dX1_puts_181 rfl rfl ?_
  refine z_aload_n dX1_puts_182 rfl rfl ?_
  refine z_getr dX1_puts_183 fsX1_206_0 (show gr M 16 78 = some (71, 4, 0) from cw_at hw 39 rfl) ?_
  refine z_getl dX1_puts_186 fsX1_916_4 ?_
  refine z_aload_n dX1_puts_189 rfl rfl ?_
  refine z_getr dX1_puts_190 fsX1_206_0 (show gr M 16 78 = some (71, 4, 0) from cw_at hw 39 rfl) ?_
  refine z_getl dX1_puts_193 fsX1_918_4 ?_
  refine z_iload_n dX1_puts_196 rfl rfl ?_
  refine z_aload_n dX1_puts_197 rfl rfl ?_
  refine z_getr dX1_puts_198 fsX1_213_0 (show gr M 16 80 = some (73, 4, 0) from cw_at hw 41 rfl) ?_
  refine Z.pick [0, 2, 3, 4] rfl ?_
  exact z_callV (as := [vl (gl M 71 0), vl (gl M 71 1), vi l1, vr (some (73, 4, 0))]) (st := []) dX1_puts_201 vsX1_908_0 (Nat.le_refl _) (Nat.le_of_ble_eq_true rfl) (Nat.le_of_ble_eq_true rfl) rfl k
theorem sX1_puts_204 {E : zE} {d : Nat} {Q : zO → zM → Prop} (M : zM) (l2 : Int64) (l4 : Int64) (l6 : Int32) (hw : cw M) (k : if l6 = 0 then (Z E YX1_nextWith d M (zargs 0 [vr (some (16, 0, 0)), vr (some (73, 4, 0))]) 0 [] (zafter E YX1_puts (d + 1) [] 276 3 [] Q)) else (Z E YX1_puts (d + 1) M [(0, vr (some (16, 0, 0))), (2, vl l2), (4, vl l4), (7, vi (0 : Int32))] 212 [] Q)) : Z E YX1_puts (d + 1) M [(0, vr (some (16, 0, 0))), (2, vl l2), (4, vl l4), (6, vi l6)] 204 [] Q := by
  refine z_iload dX1_puts_204 rfl ?_
  refine z_if_eq (tgt := 271) dX1_puts_206 rfl (fun h_ => ?_) (fun h_ => ?_)
  · have k := zit h_ k
    refine z_aload_n dX1_puts_271 rfl rfl ?_
    refine z_aload_n dX1_puts_272 rfl rfl ?_
    refine z_getr dX1_puts_273 fsX1_213_0 (show gr M 16 80 = some (73, 4, 0) from cw_at hw 41 rfl) ?_
    refine Z.pick [] rfl ?_
    exact z_callV (as := [vr (some (73, 4, 0))]) (st := []) dX1_puts_276 vsX1_895_0 (Nat.le_refl _) (Nat.le_of_ble_eq_true rfl) (Nat.le_of_ble_eq_true rfl) rfl k
  · have k := zif h_ k
    refine z_iconst (v := 0) dX1_puts_209 rfl ?_
    refine z_ist dX1_puts_210 (by decide) (lv' := [(0, vr (some (16, 0, 0))), (2, vl l2), (4, vl l4), (6, vi l6), (7, vi (0 : Int32))]) rfl ?_
    refine Z.pick [0, 1, 2, 4] rfl ?_
    exact k
theorem sX1_puts_212 {E : zE} {d : Nat} {Q : zO → zM → Prop} (M : zM) (l2 : Int64) (l4 : Int64) (l7 : Int32) (hw : cw M) (k : if (gi M 16 11) ≤ l7 then (Z E YX1_nextWith d M (zargs 0 [vr (some (16, 0, 0)), vr (some (73, 4, 0))]) 0 [] (zafter E YX1_puts (d + 1) [] 276 3 [] Q)) else (Z E YX1_in d M (zargs 0 [vi l7, vl l2, vl l4]) 0 [] (zafter E YX1_puts (d + 1) [(0, vr (some (16, 0, 0))), (2, vl l2), (4, vl l4), (7, vi l7)] 226 3 [] Q))) : Z E YX1_puts (d + 1) M [(0, vr (some (16, 0, 0))), (2, vl l2), (4, vl l4), (7, vi l7)] 212 [] Q := by
  refine z_iload dX1_puts_212 rfl ?_
  refine z_aload_n dX1_puts_214 rfl rfl ?_
  refine z_geti dX1_puts_215 fsX1_313_0 ?_
  refine z_icmp_ge (tgt := 271) dX1_puts_218 rfl (fun h_ => ?_) (fun h_ => ?_)
  · have k := zit h_ k
    refine z_aload_n dX1_puts_271 rfl rfl ?_
    refine z_aload_n dX1_puts_272 rfl rfl ?_
    refine z_getr dX1_puts_273 fsX1_213_0 (show gr M 16 80 = some (73, 4, 0) from cw_at hw 41 rfl) ?_
    refine Z.pick [] rfl ?_
    exact z_callV (as := [vr (some (73, 4, 0))]) (st := []) dX1_puts_276 vsX1_895_0 (Nat.le_refl _) (Nat.le_of_ble_eq_true rfl) (Nat.le_of_ble_eq_true rfl) rfl k
  · have k := zif h_ k
    refine z_iload dX1_puts_221 rfl ?_
    refine z_lload_n dX1_puts_223 rfl rfl ?_
    refine z_lload dX1_puts_224 rfl ?_
    exact z_callS (as := [vi l7, vl l2, vl l4]) (st := []) dX1_puts_226 ssX1_827 (Nat.le_refl _) (Nat.le_of_ble_eq_true rfl) (Nat.le_of_ble_eq_true rfl) rfl k
theorem sX1_puts_229 {E : zE} {d : Nat} {Q : zO → zM → Prop} (M : zM) (l2 : Int64) (l4 : Int64) (l7 : Int32) (s0 : Int32) (hw : cw M) (k : if s0 = 0 then (Z E YX1_puts (d + 1) M [(0, vr (some (16, 0, 0))), (2, vl l2), (4, vl l4), (7, vi l7)] 265 [] Q) else (∃ b1 : Nat, (gr M 16 60) = some (b1, 7, 0) ∧ (∃ b2 m2 : Nat, (gr M b1 8) = some (b2, 104, m2) ∧ (vp_in l7 m2 ∧ (if (gi M b2 (l7).toNatClampNeg) = 0 then (Z E YX1_puts (d + 1) M [(0, vr (some (16, 0, 0))), (2, vl l2), (4, vl l4), (7, vi l7)] 265 [] Q) else (Z E YX6_of d M (zargs 0 [vr (some (72, 4, 0)), vl (64 : Int64)]) 0 [] (zafter E YX1_puts (d + 1) [(0, vr (some (16, 0, 0))), (2, vl l2), (4, vl l4), (7, vi l7)] 259 3 [vi (0 : Int32), vi l7, vr (gr M 16 60)] Q))))))) : Z E YX1_puts (d + 1) M [(0, vr (some (16, 0, 0))), (2, vl l2), (4, vl l4), (7, vi l7)] 229 [vi s0] Q := by
  refine z_if_eq (tgt := 265) dX1_puts_229 rfl (fun h_ => ?_) (fun h_ => ?_)
  · have k := zit h_ k
    exact k
  · have k := zif h_ k
    refine z_aload_n dX1_puts_232 rfl rfl ?_
    refine z_getr (r := (gr M 16 60)) dX1_puts_233 fsX1_684_0 rfl ?_
    obtain ⟨b1, e1_, k⟩ := k
    refine Z.eqs (lv' := [(0, vr (some (16, 0, 0))), (2, vl l2), (4, vl l4), (7, vi l7)]) (st' := [vr (some (b1, 7, 0))]) rfl (by rw [e1_] <;> rfl) ?_
    refine z_getr (r := (gr M b1 8)) dX1_puts_236 fsX1_731_7 rfl ?_
    refine z_iload dX1_puts_239 rfl ?_
    obtain ⟨b2, m2, e2_, k⟩ := k
    refine Z.eqs (lv' := [(0, vr (some (16, 0, 0))), (2, vl l2), (4, vl l4), (7, vi l7)]) (st' := [vi l7, vr (some (b2, 104, m2))]) rfl (by rw [e2_] <;> rfl) ?_
    obtain ⟨b_, k⟩ := k
    refine z_zald dX1_puts_241 b_ ?_
    refine z_if_eq (tgt := 265) dX1_puts_242 rfl (fun h_ => ?_) (fun h_ => ?_)
    · have k := zit h_ k
      exact k
    · have k := zif h_ k
      refine z_aload_n dX1_puts_245 rfl rfl ?_
      refine z_getr (r := (gr M 16 60)) dX1_puts_246 fsX1_684_0 rfl ?_
      refine z_iload dX1_puts_249 rfl ?_
      refine z_iconst (v := 0) dX1_puts_251 rfl ?_
      refine z_aload_n dX1_puts_252 rfl rfl ?_
      refine z_getr dX1_puts_253 fsX1_210_0 (show gr M 16 79 = some (72, 4, 0) from cw_at hw 40 rfl) ?_
      refine z_ldc2 (v := 64) dX1_puts_256 q2567 ?_
      exact z_callV (as := [vl (64 : Int64)]) (st := [vi (0 : Int32), vi l7, vr (gr M 16 60)]) dX1_puts_259 vsX1_892_4 (Nat.le_refl _) (Nat.le_of_ble_eq_true rfl) (Nat.le_of_ble_eq_true rfl) rfl k
theorem sX1_puts_262 {E : zE} {d : Nat} {Q : zO → zM → Prop} (M : zM) (l2 : Int64) (l4 : Int64) (l7 : Int32) (u0 : Option zP) (s1 : Int32) (s2 : Int32) (u3 : Option zP) (hw : cw M) (k : ∃ b1 : Nat, u3 = some (b1, 7, 0) ∧ (Z E YX43_joinField d M (zargs 0 [vr (some (b1, 7, 0)), vi s2, vi s1, vr u0]) 0 [] (zafter E YX1_puts (d + 1) [(0, vr (some (16, 0, 0))), (2, vl l2), (4, vl l4), (7, vi l7)] 262 3 [] Q))) : Z E YX1_puts (d + 1) M [(0, vr (some (16, 0, 0))), (2, vl l2), (4, vl l4), (7, vi l7)] 262 [vr u0, vi s1, vi s2, vr u3] Q := by
  obtain ⟨b1, e1_, k⟩ := k
  refine Z.eqs (lv' := [(0, vr (some (16, 0, 0))), (2, vl l2), (4, vl l4), (7, vi l7)]) (st' := [vr u0, vi s1, vi s2, vr (some (b1, 7, 0))]) rfl (by rw [e1_] <;> rfl) ?_
  exact z_callV (as := [vi s2, vi s1, vr u0]) (st := []) dX1_puts_262 vsX1_992_7 (Nat.le_refl _) (Nat.le_of_ble_eq_true rfl) (Nat.le_of_ble_eq_true rfl) rfl k
theorem sX1_puts_265 {E : zE} {d : Nat} {Q : zO → zM → Prop} (M : zM) (l2 : Int64) (l4 : Int64) (l7 : Int32) (hw : cw M) (k : Z E YX1_puts (d + 1) M [(0, vr (some (16, 0, 0))), (2, vl l2), (4, vl l4), (7, vi (l7 + (1 : Int32)))] 212 [] Q) : Z E YX1_puts (d + 1) M [(0, vr (some (16, 0, 0))), (2, vl l2), (4, vl l4), (7, vi l7)] 265 [] Q := by
  refine z_inc (v := (l7 + (1 : Int32))) dX1_puts_265 rfl rfl (by decide) (lv' := [(0, vr (some (16, 0, 0))), (2, vl l2), (4, vl l4), (7, vi (l7 + (1 : Int32)))]) rfl ?_
  refine z_goto (tgt := 212) dX1_puts_268 rfl ?_
  exact k
theorem sX1_puts_279 {E : zE} {d : Nat} {Q : zO → zM → Prop} (M : zM)  (hw : cw M) (k : Q (.inl none) M) : Z E YX1_puts (d + 1) M [] 279 [] Q := by
  exact z_vret dX1_puts_279 rfl k
/-! ScriptTypes.deletes()V -/
theorem bX1_deletes_0 : zdec cX1_deletes 0 [(0, .aload_n 0, 1), (1, .getfield 684, 3), (4, .aload_n 0, 1), (5, .getfield 210, 3), (8, .invokevirtual 937, 3), (11, .pop, 1), (12, .aload_n 0, 1), (13, .getfield 684, 3), (16, .aload_n 0, 1), (17, .getfield 206, 3), (20, .invokevirtual 937, 3), (23, .pop, 1), (24, .aload_n 0, 1), (25, .getfield 206, 3), (28, .iconst 3, 1), (29, .invokevirtual 831, 3)] = true := by decide +kernel
theorem dX1_deletes_0 : decode cX1_deletes 0 = .ok (.aload_n 0, 1) := zdec_at bX1_deletes_0 0 rfl
theorem dX1_deletes_1 : decode cX1_deletes 1 = .ok (.getfield 684, 3) := zdec_at bX1_deletes_0 1 rfl
theorem dX1_deletes_4 : decode cX1_deletes 4 = .ok (.aload_n 0, 1) := zdec_at bX1_deletes_0 2 rfl
theorem dX1_deletes_5 : decode cX1_deletes 5 = .ok (.getfield 210, 3) := zdec_at bX1_deletes_0 3 rfl
theorem dX1_deletes_8 : decode cX1_deletes 8 = .ok (.invokevirtual 937, 3) := zdec_at bX1_deletes_0 4 rfl
theorem dX1_deletes_11 : decode cX1_deletes 11 = .ok (.pop, 1) := zdec_at bX1_deletes_0 5 rfl
theorem dX1_deletes_12 : decode cX1_deletes 12 = .ok (.aload_n 0, 1) := zdec_at bX1_deletes_0 6 rfl
theorem dX1_deletes_13 : decode cX1_deletes 13 = .ok (.getfield 684, 3) := zdec_at bX1_deletes_0 7 rfl
theorem dX1_deletes_16 : decode cX1_deletes 16 = .ok (.aload_n 0, 1) := zdec_at bX1_deletes_0 8 rfl
theorem dX1_deletes_17 : decode cX1_deletes 17 = .ok (.getfield 206, 3) := zdec_at bX1_deletes_0 9 rfl
theorem dX1_deletes_20 : decode cX1_deletes 20 = .ok (.invokevirtual 937, 3) := zdec_at bX1_deletes_0 10 rfl
theorem dX1_deletes_23 : decode cX1_deletes 23 = .ok (.pop, 1) := zdec_at bX1_deletes_0 11 rfl
theorem dX1_deletes_24 : decode cX1_deletes 24 = .ok (.aload_n 0, 1) := zdec_at bX1_deletes_0 12 rfl
theorem dX1_deletes_25 : decode cX1_deletes 25 = .ok (.getfield 206, 3) := zdec_at bX1_deletes_0 13 rfl
theorem dX1_deletes_28 : decode cX1_deletes 28 = .ok (.iconst 3, 1) := zdec_at bX1_deletes_0 14 rfl
theorem dX1_deletes_29 : decode cX1_deletes 29 = .ok (.invokevirtual 831, 3) := zdec_at bX1_deletes_0 15 rfl
theorem bX1_deletes_32 : zdec cX1_deletes 32 [(32, .ifCond .eq 12, 3), (35, .aload_n 0, 1), (36, .aload_n 0, 1), (37, .getfield 684, 3), (40, .iconst 0, 1), (41, .invokevirtual 960, 3), (44, .aload_n 0, 1), (45, .getfield 206, 3), (48, .invokevirtual 837, 3), (51, .ifCond .ne 20, 3), (54, .aload_n 0, 1), (55, .getfield 206, 3), (58, .getfield 920, 3), (61, .ldc2_w 1037, 3), (64, .land, 1), (65, .lconst 0, 1)] = true := by decide +kernel
theorem dX1_deletes_32 : decode cX1_deletes 32 = .ok (.ifCond .eq 12, 3) := zdec_at bX1_deletes_32 0 rfl
theorem dX1_deletes_35 : decode cX1_deletes 35 = .ok (.aload_n 0, 1) := zdec_at bX1_deletes_32 1 rfl
theorem dX1_deletes_36 : decode cX1_deletes 36 = .ok (.aload_n 0, 1) := zdec_at bX1_deletes_32 2 rfl
theorem dX1_deletes_37 : decode cX1_deletes 37 = .ok (.getfield 684, 3) := zdec_at bX1_deletes_32 3 rfl
theorem dX1_deletes_40 : decode cX1_deletes 40 = .ok (.iconst 0, 1) := zdec_at bX1_deletes_32 4 rfl
theorem dX1_deletes_41 : decode cX1_deletes 41 = .ok (.invokevirtual 960, 3) := zdec_at bX1_deletes_32 5 rfl
theorem dX1_deletes_44 : decode cX1_deletes 44 = .ok (.aload_n 0, 1) := zdec_at bX1_deletes_32 6 rfl
theorem dX1_deletes_45 : decode cX1_deletes 45 = .ok (.getfield 206, 3) := zdec_at bX1_deletes_32 7 rfl
theorem dX1_deletes_48 : decode cX1_deletes 48 = .ok (.invokevirtual 837, 3) := zdec_at bX1_deletes_32 8 rfl
theorem dX1_deletes_51 : decode cX1_deletes 51 = .ok (.ifCond .ne 20, 3) := zdec_at bX1_deletes_32 9 rfl
theorem dX1_deletes_54 : decode cX1_deletes 54 = .ok (.aload_n 0, 1) := zdec_at bX1_deletes_32 10 rfl
theorem dX1_deletes_55 : decode cX1_deletes 55 = .ok (.getfield 206, 3) := zdec_at bX1_deletes_32 11 rfl
theorem dX1_deletes_58 : decode cX1_deletes 58 = .ok (.getfield 920, 3) := zdec_at bX1_deletes_32 12 rfl
theorem dX1_deletes_61 : decode cX1_deletes 61 = .ok (.ldc2_w 1037, 3) := zdec_at bX1_deletes_32 13 rfl
theorem dX1_deletes_64 : decode cX1_deletes 64 = .ok (.land, 1) := zdec_at bX1_deletes_32 14 rfl
theorem dX1_deletes_65 : decode cX1_deletes 65 = .ok (.lconst 0, 1) := zdec_at bX1_deletes_32 15 rfl
theorem bX1_deletes_66 : zdec cX1_deletes 66 [(66, .lcmp, 1), (67, .ifCond .ne 4, 3), (70, .return_, 1), (71, .aload_n 0, 1), (72, .aload_n 0, 1), (73, .getfield 210, 3), (76, .invokevirtual 883, 3), (79, .aload_n 0, 1), (80, .getfield 206, 3), (83, .getfield 920, 3), (86, .ldc2_w 875, 3), (89, .land, 1), (90, .lconst 0, 1), (91, .lcmp, 1), (92, .ifCond .ne 7, 3), (95, .iconst 1, 1)] = true := by decide +kernel
theorem dX1_deletes_66 : decode cX1_deletes 66 = .ok (.lcmp, 1) := zdec_at bX1_deletes_66 0 rfl
theorem dX1_deletes_67 : decode cX1_deletes 67 = .ok (.ifCond .ne 4, 3) := zdec_at bX1_deletes_66 1 rfl
theorem dX1_deletes_70 : decode cX1_deletes 70 = .ok (.return_, 1) := zdec_at bX1_deletes_66 2 rfl
theorem dX1_deletes_71 : decode cX1_deletes 71 = .ok (.aload_n 0, 1) := zdec_at bX1_deletes_66 3 rfl
theorem dX1_deletes_72 : decode cX1_deletes 72 = .ok (.aload_n 0, 1) := zdec_at bX1_deletes_66 4 rfl
theorem dX1_deletes_73 : decode cX1_deletes 73 = .ok (.getfield 210, 3) := zdec_at bX1_deletes_66 5 rfl
theorem dX1_deletes_76 : decode cX1_deletes 76 = .ok (.invokevirtual 883, 3) := zdec_at bX1_deletes_66 6 rfl
theorem dX1_deletes_79 : decode cX1_deletes 79 = .ok (.aload_n 0, 1) := zdec_at bX1_deletes_66 7 rfl
theorem dX1_deletes_80 : decode cX1_deletes 80 = .ok (.getfield 206, 3) := zdec_at bX1_deletes_66 8 rfl
theorem dX1_deletes_83 : decode cX1_deletes 83 = .ok (.getfield 920, 3) := zdec_at bX1_deletes_66 9 rfl
theorem dX1_deletes_86 : decode cX1_deletes 86 = .ok (.ldc2_w 875, 3) := zdec_at bX1_deletes_66 10 rfl
theorem dX1_deletes_89 : decode cX1_deletes 89 = .ok (.land, 1) := zdec_at bX1_deletes_66 11 rfl
theorem dX1_deletes_90 : decode cX1_deletes 90 = .ok (.lconst 0, 1) := zdec_at bX1_deletes_66 12 rfl
theorem dX1_deletes_91 : decode cX1_deletes 91 = .ok (.lcmp, 1) := zdec_at bX1_deletes_66 13 rfl
theorem dX1_deletes_92 : decode cX1_deletes 92 = .ok (.ifCond .ne 7, 3) := zdec_at bX1_deletes_66 14 rfl
theorem dX1_deletes_95 : decode cX1_deletes 95 = .ok (.iconst 1, 1) := zdec_at bX1_deletes_66 15 rfl
theorem bX1_deletes_96 : zdec cX1_deletes 96 [(96, .goto 4, 3), (99, .iconst 0, 1), (100, .istore_n 1, 1), (101, .aload_n 0, 1), (102, .iconst 0, 1), (103, .invokevirtual 856, 3), (106, .istore_n 2, 1), (107, .aload_n 0, 1), (108, .getfield 206, 3), (111, .aload_n 0, 1), (112, .getfield 652, 3), (115, .aload_n 0, 1), (116, .getfield 655, 3), (119, .invokevirtual 1000, 3), (122, .istore_n 3, 1), (123, .iload_n 1, 1)] = true := by decide +kernel
theorem dX1_deletes_96 : decode cX1_deletes 96 = .ok (.goto 4, 3) := zdec_at bX1_deletes_96 0 rfl
theorem dX1_deletes_99 : decode cX1_deletes 99 = .ok (.iconst 0, 1) := zdec_at bX1_deletes_96 1 rfl
theorem dX1_deletes_100 : decode cX1_deletes 100 = .ok (.istore_n 1, 1) := zdec_at bX1_deletes_96 2 rfl
theorem dX1_deletes_101 : decode cX1_deletes 101 = .ok (.aload_n 0, 1) := zdec_at bX1_deletes_96 3 rfl
theorem dX1_deletes_102 : decode cX1_deletes 102 = .ok (.iconst 0, 1) := zdec_at bX1_deletes_96 4 rfl
theorem dX1_deletes_103 : decode cX1_deletes 103 = .ok (.invokevirtual 856, 3) := zdec_at bX1_deletes_96 5 rfl
theorem dX1_deletes_106 : decode cX1_deletes 106 = .ok (.istore_n 2, 1) := zdec_at bX1_deletes_96 6 rfl
theorem dX1_deletes_107 : decode cX1_deletes 107 = .ok (.aload_n 0, 1) := zdec_at bX1_deletes_96 7 rfl
theorem dX1_deletes_108 : decode cX1_deletes 108 = .ok (.getfield 206, 3) := zdec_at bX1_deletes_96 8 rfl
theorem dX1_deletes_111 : decode cX1_deletes 111 = .ok (.aload_n 0, 1) := zdec_at bX1_deletes_96 9 rfl
theorem dX1_deletes_112 : decode cX1_deletes 112 = .ok (.getfield 652, 3) := zdec_at bX1_deletes_96 10 rfl
theorem dX1_deletes_115 : decode cX1_deletes 115 = .ok (.aload_n 0, 1) := zdec_at bX1_deletes_96 11 rfl
theorem dX1_deletes_116 : decode cX1_deletes 116 = .ok (.getfield 655, 3) := zdec_at bX1_deletes_96 12 rfl
theorem dX1_deletes_119 : decode cX1_deletes 119 = .ok (.invokevirtual 1000, 3) := zdec_at bX1_deletes_96 13 rfl
theorem dX1_deletes_122 : decode cX1_deletes 122 = .ok (.istore_n 3, 1) := zdec_at bX1_deletes_96 14 rfl
theorem dX1_deletes_123 : decode cX1_deletes 123 = .ok (.iload_n 1, 1) := zdec_at bX1_deletes_96 15 rfl
theorem bX1_deletes_124 : zdec cX1_deletes 124 [(124, .ifCond .eq 23, 3), (127, .aload_n 0, 1), (128, .getfield 206, 3), (131, .getfield 916, 3), (134, .aload_n 0, 1), (135, .getfield 206, 3), (138, .getfield 918, 3), (141, .invokestatic 988, 3), (144, .goto 4, 3), (147, .iconst (-1), 1), (148, .istore 4, 2), (150, .aload_n 0, 1), (151, .invokevirtual 886, 3), (154, .istore 5, 2), (156, .iconst 0, 1), (157, .istore 6, 2)] = true := by decide +kernel
theorem dX1_deletes_124 : decode cX1_deletes 124 = .ok (.ifCond .eq 23, 3) := zdec_at bX1_deletes_124 0 rfl
theorem dX1_deletes_127 : decode cX1_deletes 127 = .ok (.aload_n 0, 1) := zdec_at bX1_deletes_124 1 rfl
theorem dX1_deletes_128 : decode cX1_deletes 128 = .ok (.getfield 206, 3) := zdec_at bX1_deletes_124 2 rfl
theorem dX1_deletes_131 : decode cX1_deletes 131 = .ok (.getfield 916, 3) := zdec_at bX1_deletes_124 3 rfl
theorem dX1_deletes_134 : decode cX1_deletes 134 = .ok (.aload_n 0, 1) := zdec_at bX1_deletes_124 4 rfl
theorem dX1_deletes_135 : decode cX1_deletes 135 = .ok (.getfield 206, 3) := zdec_at bX1_deletes_124 5 rfl
theorem dX1_deletes_138 : decode cX1_deletes 138 = .ok (.getfield 918, 3) := zdec_at bX1_deletes_124 6 rfl
theorem dX1_deletes_141 : decode cX1_deletes 141 = .ok (.invokestatic 988, 3) := zdec_at bX1_deletes_124 7 rfl
theorem dX1_deletes_144 : decode cX1_deletes 144 = .ok (.goto 4, 3) := zdec_at bX1_deletes_124 8 rfl
theorem dX1_deletes_147 : decode cX1_deletes 147 = .ok (.iconst (-1), 1) := zdec_at bX1_deletes_124 9 rfl
theorem dX1_deletes_148 : decode cX1_deletes 148 = .ok (.istore 4, 2) := zdec_at bX1_deletes_124 10 rfl
theorem dX1_deletes_150 : decode cX1_deletes 150 = .ok (.aload_n 0, 1) := zdec_at bX1_deletes_124 11 rfl
theorem dX1_deletes_151 : decode cX1_deletes 151 = .ok (.invokevirtual 886, 3) := zdec_at bX1_deletes_124 12 rfl
theorem dX1_deletes_154 : decode cX1_deletes 154 = .ok (.istore 5, 2) := zdec_at bX1_deletes_124 13 rfl
theorem dX1_deletes_156 : decode cX1_deletes 156 = .ok (.iconst 0, 1) := zdec_at bX1_deletes_124 14 rfl
theorem dX1_deletes_157 : decode cX1_deletes 157 = .ok (.istore 6, 2) := zdec_at bX1_deletes_124 15 rfl
theorem bX1_deletes_159 : zdec cX1_deletes 159 [(159, .iload 6, 2), (161, .aload_n 0, 1), (162, .getfield 313, 3), (165, .if_icmp .ge 160, 3), (168, .iload 6, 2), (170, .aload_n 0, 1), (171, .getfield 206, 3), (174, .getfield 916, 3), (177, .aload_n 0, 1), (178, .getfield 206, 3), (181, .getfield 918, 3), (184, .invokestatic 827, 3), (187, .ifCond .eq 132, 3), (190, .aload_n 0, 1), (191, .getfield 684, 3), (194, .getfield 731, 3)] = true := by decide +kernel
theorem dX1_deletes_159 : decode cX1_deletes 159 = .ok (.iload 6, 2) := zdec_at bX1_deletes_159 0 rfl
theorem dX1_deletes_161 : decode cX1_deletes 161 = .ok (.aload_n 0, 1) := zdec_at bX1_deletes_159 1 rfl
theorem dX1_deletes_162 : decode cX1_deletes 162 = .ok (.getfield 313, 3) := zdec_at bX1_deletes_159 2 rfl
theorem dX1_deletes_165 : decode cX1_deletes 165 = .ok (.if_icmp .ge 160, 3) := zdec_at bX1_deletes_159 3 rfl
theorem dX1_deletes_168 : decode cX1_deletes 168 = .ok (.iload 6, 2) := zdec_at bX1_deletes_159 4 rfl
theorem dX1_deletes_170 : decode cX1_deletes 170 = .ok (.aload_n 0, 1) := zdec_at bX1_deletes_159 5 rfl
theorem dX1_deletes_171 : decode cX1_deletes 171 = .ok (.getfield 206, 3) := zdec_at bX1_deletes_159 6 rfl
theorem dX1_deletes_174 : decode cX1_deletes 174 = .ok (.getfield 916, 3) := zdec_at bX1_deletes_159 7 rfl
theorem dX1_deletes_177 : decode cX1_deletes 177 = .ok (.aload_n 0, 1) := zdec_at bX1_deletes_159 8 rfl
theorem dX1_deletes_178 : decode cX1_deletes 178 = .ok (.getfield 206, 3) := zdec_at bX1_deletes_159 9 rfl
theorem dX1_deletes_181 : decode cX1_deletes 181 = .ok (.getfield 918, 3) := zdec_at bX1_deletes_159 10 rfl
theorem dX1_deletes_184 : decode cX1_deletes 184 = .ok (.invokestatic 827, 3) := zdec_at bX1_deletes_159 11 rfl
theorem dX1_deletes_187 : decode cX1_deletes 187 = .ok (.ifCond .eq 132, 3) := zdec_at bX1_deletes_159 12 rfl
theorem dX1_deletes_190 : decode cX1_deletes 190 = .ok (.aload_n 0, 1) := zdec_at bX1_deletes_159 13 rfl
theorem dX1_deletes_191 : decode cX1_deletes 191 = .ok (.getfield 684, 3) := zdec_at bX1_deletes_159 14 rfl
theorem dX1_deletes_194 : decode cX1_deletes 194 = .ok (.getfield 731, 3) := zdec_at bX1_deletes_159 15 rfl
theorem bX1_deletes_197 : zdec cX1_deletes 197 [(197, .iload 6, 2), (199, .baload, 1), (200, .ifCond .ne 6, 3), (203, .goto 116, 3), (206, .iconst 0, 1), (207, .istore 7, 2), (209, .iload 7, 2), (211, .aload_n 0, 1), (212, .getfield 58, 3), (215, .if_icmp .gt 104, 3), (218, .aload_n 0, 1), (219, .iload 7, 2), (221, .invokevirtual 856, 3), (224, .ifCond .eq 89, 3), (227, .iload 7, 2), (229, .ifCond .ne 22, 3)] = true := by decide +kernel
theorem dX1_deletes_197 : decode cX1_deletes 197 = .ok (.iload 6, 2) := zdec_at bX1_deletes_197 0 rfl
theorem dX1_deletes_199 : decode cX1_deletes 199 = .ok (.baload, 1) := zdec_at bX1_deletes_197 1 rfl
theorem dX1_deletes_200 : decode cX1_deletes 200 = .ok (.ifCond .ne 6, 3) := zdec_at bX1_deletes_197 2 rfl
theorem dX1_deletes_203 : decode cX1_deletes 203 = .ok (.goto 116, 3) := zdec_at bX1_deletes_197 3 rfl
theorem dX1_deletes_206 : decode cX1_deletes 206 = .ok (.iconst 0, 1) := zdec_at bX1_deletes_197 4 rfl
theorem dX1_deletes_207 : decode cX1_deletes 207 = .ok (.istore 7, 2) := zdec_at bX1_deletes_197 5 rfl
theorem dX1_deletes_209 : decode cX1_deletes 209 = .ok (.iload 7, 2) := zdec_at bX1_deletes_197 6 rfl
theorem dX1_deletes_211 : decode cX1_deletes 211 = .ok (.aload_n 0, 1) := zdec_at bX1_deletes_197 7 rfl
theorem dX1_deletes_212 : decode cX1_deletes 212 = .ok (.getfield 58, 3) := zdec_at bX1_deletes_197 8 rfl
theorem dX1_deletes_215 : decode cX1_deletes 215 = .ok (.if_icmp .gt 104, 3) := zdec_at bX1_deletes_197 9 rfl
theorem dX1_deletes_218 : decode cX1_deletes 218 = .ok (.aload_n 0, 1) := zdec_at bX1_deletes_197 10 rfl
theorem dX1_deletes_219 : decode cX1_deletes 219 = .ok (.iload 7, 2) := zdec_at bX1_deletes_197 11 rfl
theorem dX1_deletes_221 : decode cX1_deletes 221 = .ok (.invokevirtual 856, 3) := zdec_at bX1_deletes_197 12 rfl
theorem dX1_deletes_224 : decode cX1_deletes 224 = .ok (.ifCond .eq 89, 3) := zdec_at bX1_deletes_197 13 rfl
theorem dX1_deletes_227 : decode cX1_deletes 227 = .ok (.iload 7, 2) := zdec_at bX1_deletes_197 14 rfl
theorem dX1_deletes_229 : decode cX1_deletes 229 = .ok (.ifCond .ne 22, 3) := zdec_at bX1_deletes_197 15 rfl
theorem bX1_deletes_232 : zdec cX1_deletes 232 [(232, .iload 6, 2), (234, .aload_n 0, 1), (235, .getfield 652, 3), (238, .aload_n 0, 1), (239, .getfield 655, 3), (242, .invokestatic 827, 3), (245, .ifCond .eq 6, 3), (248, .goto 65, 3), (251, .aload_n 0, 1), (252, .getfield 684, 3), (255, .iload 6, 2), (257, .iload 7, 2), (259, .invokevirtual 813, 3), (262, .istore 8, 2), (264, .iload 6, 2), (266, .iload 4, 2)] = true := by decide +kernel
theorem dX1_deletes_232 : decode cX1_deletes 232 = .ok (.iload 6, 2) := zdec_at bX1_deletes_232 0 rfl
theorem dX1_deletes_234 : decode cX1_deletes 234 = .ok (.aload_n 0, 1) := zdec_at bX1_deletes_232 1 rfl
theorem dX1_deletes_235 : decode cX1_deletes 235 = .ok (.getfield 652, 3) := zdec_at bX1_deletes_232 2 rfl
theorem dX1_deletes_238 : decode cX1_deletes 238 = .ok (.aload_n 0, 1) := zdec_at bX1_deletes_232 3 rfl
theorem dX1_deletes_239 : decode cX1_deletes 239 = .ok (.getfield 655, 3) := zdec_at bX1_deletes_232 4 rfl
theorem dX1_deletes_242 : decode cX1_deletes 242 = .ok (.invokestatic 827, 3) := zdec_at bX1_deletes_232 5 rfl
theorem dX1_deletes_245 : decode cX1_deletes 245 = .ok (.ifCond .eq 6, 3) := zdec_at bX1_deletes_232 6 rfl
theorem dX1_deletes_248 : decode cX1_deletes 248 = .ok (.goto 65, 3) := zdec_at bX1_deletes_232 7 rfl
theorem dX1_deletes_251 : decode cX1_deletes 251 = .ok (.aload_n 0, 1) := zdec_at bX1_deletes_232 8 rfl
theorem dX1_deletes_252 : decode cX1_deletes 252 = .ok (.getfield 684, 3) := zdec_at bX1_deletes_232 9 rfl
theorem dX1_deletes_255 : decode cX1_deletes 255 = .ok (.iload 6, 2) := zdec_at bX1_deletes_232 10 rfl
theorem dX1_deletes_257 : decode cX1_deletes 257 = .ok (.iload 7, 2) := zdec_at bX1_deletes_232 11 rfl
theorem dX1_deletes_259 : decode cX1_deletes 259 = .ok (.invokevirtual 813, 3) := zdec_at bX1_deletes_232 12 rfl
theorem dX1_deletes_262 : decode cX1_deletes 262 = .ok (.istore 8, 2) := zdec_at bX1_deletes_232 13 rfl
theorem dX1_deletes_264 : decode cX1_deletes 264 = .ok (.iload 6, 2) := zdec_at bX1_deletes_232 14 rfl
theorem dX1_deletes_266 : decode cX1_deletes 266 = .ok (.iload 4, 2) := zdec_at bX1_deletes_232 15 rfl
theorem bX1_deletes_268 : zdec cX1_deletes 268 [(268, .if_icmp .ne 29, 3), (271, .iload 7, 2), (273, .iload 5, 2), (275, .if_icmp .ne 22, 3), (278, .aload_n 0, 1), (279, .getfield 684, 3), (282, .iload 6, 2), (284, .iload 7, 2), (286, .lconst 0, 1), (287, .lconst 0, 1), (288, .ldc2_w 816, 3), (291, .invokevirtual 722, 3), (294, .goto 19, 3), (297, .aload_n 0, 1), (298, .getfield 684, 3), (301, .getfield 810, 3)] = true := by decide +kernel
theorem dX1_deletes_268 : decode cX1_deletes 268 = .ok (.if_icmp .ne 29, 3) := zdec_at bX1_deletes_268 0 rfl
theorem dX1_deletes_271 : decode cX1_deletes 271 = .ok (.iload 7, 2) := zdec_at bX1_deletes_268 1 rfl
theorem dX1_deletes_273 : decode cX1_deletes 273 = .ok (.iload 5, 2) := zdec_at bX1_deletes_268 2 rfl
theorem dX1_deletes_275 : decode cX1_deletes 275 = .ok (.if_icmp .ne 22, 3) := zdec_at bX1_deletes_268 3 rfl
theorem dX1_deletes_278 : decode cX1_deletes 278 = .ok (.aload_n 0, 1) := zdec_at bX1_deletes_268 4 rfl
theorem dX1_deletes_279 : decode cX1_deletes 279 = .ok (.getfield 684, 3) := zdec_at bX1_deletes_268 5 rfl
theorem dX1_deletes_282 : decode cX1_deletes 282 = .ok (.iload 6, 2) := zdec_at bX1_deletes_268 6 rfl
theorem dX1_deletes_284 : decode cX1_deletes 284 = .ok (.iload 7, 2) := zdec_at bX1_deletes_268 7 rfl
theorem dX1_deletes_286 : decode cX1_deletes 286 = .ok (.lconst 0, 1) := zdec_at bX1_deletes_268 8 rfl
theorem dX1_deletes_287 : decode cX1_deletes 287 = .ok (.lconst 0, 1) := zdec_at bX1_deletes_268 9 rfl
theorem dX1_deletes_288 : decode cX1_deletes 288 = .ok (.ldc2_w 816, 3) := zdec_at bX1_deletes_268 10 rfl
theorem dX1_deletes_291 : decode cX1_deletes 291 = .ok (.invokevirtual 722, 3) := zdec_at bX1_deletes_268 11 rfl
theorem dX1_deletes_294 : decode cX1_deletes 294 = .ok (.goto 19, 3) := zdec_at bX1_deletes_268 12 rfl
theorem dX1_deletes_297 : decode cX1_deletes 297 = .ok (.aload_n 0, 1) := zdec_at bX1_deletes_268 13 rfl
theorem dX1_deletes_298 : decode cX1_deletes 298 = .ok (.getfield 684, 3) := zdec_at bX1_deletes_268 14 rfl
theorem dX1_deletes_301 : decode cX1_deletes 301 = .ok (.getfield 810, 3) := zdec_at bX1_deletes_268 15 rfl
theorem bX1_deletes_304 : zdec cX1_deletes 304 [(304, .iload 8, 2), (306, .dup2, 1), (307, .laload, 1), (308, .ldc2_w 816, 3), (311, .lor, 1), (312, .lastore, 1), (313, .iinc 7 1, 3), (316, .goto (-107), 3), (319, .iinc 6 1, 3), (322, .goto (-163), 3), (325, .iload_n 1, 1), (326, .ifCond .eq 30, 3), (329, .aload_n 0, 1), (330, .getfield 206, 3), (333, .aload_n 0, 1), (334, .getfield 652, 3)] = true := by decide +kernel
theorem dX1_deletes_304 : decode cX1_deletes 304 = .ok (.iload 8, 2) := zdec_at bX1_deletes_304 0 rfl
theorem dX1_deletes_306 : decode cX1_deletes 306 = .ok (.dup2, 1) := zdec_at bX1_deletes_304 1 rfl
theorem dX1_deletes_307 : decode cX1_deletes 307 = .ok (.laload, 1) := zdec_at bX1_deletes_304 2 rfl
theorem dX1_deletes_308 : decode cX1_deletes 308 = .ok (.ldc2_w 816, 3) := zdec_at bX1_deletes_304 3 rfl
theorem dX1_deletes_311 : decode cX1_deletes 311 = .ok (.lor, 1) := zdec_at bX1_deletes_304 4 rfl
theorem dX1_deletes_312 : decode cX1_deletes 312 = .ok (.lastore, 1) := zdec_at bX1_deletes_304 5 rfl
theorem dX1_deletes_313 : decode cX1_deletes 313 = .ok (.iinc 7 1, 3) := zdec_at bX1_deletes_304 6 rfl
theorem dX1_deletes_316 : decode cX1_deletes 316 = .ok (.goto (-107), 3) := zdec_at bX1_deletes_304 7 rfl
theorem dX1_deletes_319 : decode cX1_deletes 319 = .ok (.iinc 6 1, 3) := zdec_at bX1_deletes_304 8 rfl
theorem dX1_deletes_322 : decode cX1_deletes 322 = .ok (.goto (-163), 3) := zdec_at bX1_deletes_304 9 rfl
theorem dX1_deletes_325 : decode cX1_deletes 325 = .ok (.iload_n 1, 1) := zdec_at bX1_deletes_304 10 rfl
theorem dX1_deletes_326 : decode cX1_deletes 326 = .ok (.ifCond .eq 30, 3) := zdec_at bX1_deletes_304 11 rfl
theorem dX1_deletes_329 : decode cX1_deletes 329 = .ok (.aload_n 0, 1) := zdec_at bX1_deletes_304 12 rfl
theorem dX1_deletes_330 : decode cX1_deletes 330 = .ok (.getfield 206, 3) := zdec_at bX1_deletes_304 13 rfl
theorem dX1_deletes_333 : decode cX1_deletes 333 = .ok (.aload_n 0, 1) := zdec_at bX1_deletes_304 14 rfl
theorem dX1_deletes_334 : decode cX1_deletes 334 = .ok (.getfield 652, 3) := zdec_at bX1_deletes_304 15 rfl
theorem bX1_deletes_337 : zdec cX1_deletes 337 [(337, .aload_n 0, 1), (338, .getfield 655, 3), (341, .invokevirtual 1028, 3), (344, .ifCond .eq 12, 3), (347, .iload 5, 2), (349, .ifCond .ne 7, 3), (352, .iconst 1, 1), (353, .goto 4, 3), (356, .iconst 0, 1), (357, .istore 6, 2), (359, .aload_n 0, 1), (360, .aload_n 0, 1), (361, .getfield 216, 3), (364, .iload 6, 2), (366, .ifCond .eq 7, 3), (369, .lconst 0, 1)] = true := by decide +kernel
theorem dX1_deletes_337 : decode cX1_deletes 337 = .ok (.aload_n 0, 1) := zdec_at bX1_deletes_337 0 rfl
theorem dX1_deletes_338 : decode cX1_deletes 338 = .ok (.getfield 655, 3) := zdec_at bX1_deletes_337 1 rfl
theorem dX1_deletes_341 : decode cX1_deletes 341 = .ok (.invokevirtual 1028, 3) := zdec_at bX1_deletes_337 2 rfl
theorem dX1_deletes_344 : decode cX1_deletes 344 = .ok (.ifCond .eq 12, 3) := zdec_at bX1_deletes_337 3 rfl
theorem dX1_deletes_347 : decode cX1_deletes 347 = .ok (.iload 5, 2) := zdec_at bX1_deletes_337 4 rfl
theorem dX1_deletes_349 : decode cX1_deletes 349 = .ok (.ifCond .ne 7, 3) := zdec_at bX1_deletes_337 5 rfl
theorem dX1_deletes_352 : decode cX1_deletes 352 = .ok (.iconst 1, 1) := zdec_at bX1_deletes_337 6 rfl
theorem dX1_deletes_353 : decode cX1_deletes 353 = .ok (.goto 4, 3) := zdec_at bX1_deletes_337 7 rfl
theorem dX1_deletes_356 : decode cX1_deletes 356 = .ok (.iconst 0, 1) := zdec_at bX1_deletes_337 8 rfl
theorem dX1_deletes_357 : decode cX1_deletes 357 = .ok (.istore 6, 2) := zdec_at bX1_deletes_337 9 rfl
theorem dX1_deletes_359 : decode cX1_deletes 359 = .ok (.aload_n 0, 1) := zdec_at bX1_deletes_337 10 rfl
theorem dX1_deletes_360 : decode cX1_deletes 360 = .ok (.aload_n 0, 1) := zdec_at bX1_deletes_337 11 rfl
theorem dX1_deletes_361 : decode cX1_deletes 361 = .ok (.getfield 216, 3) := zdec_at bX1_deletes_337 12 rfl
theorem dX1_deletes_364 : decode cX1_deletes 364 = .ok (.iload 6, 2) := zdec_at bX1_deletes_337 13 rfl
theorem dX1_deletes_366 : decode cX1_deletes 366 = .ok (.ifCond .eq 7, 3) := zdec_at bX1_deletes_337 14 rfl
theorem dX1_deletes_369 : decode cX1_deletes 369 = .ok (.lconst 0, 1) := zdec_at bX1_deletes_337 15 rfl
theorem bX1_deletes_370 : zdec cX1_deletes 370 [(370, .goto 6, 3), (373, .ldc2_w 1016, 3), (376, .iload_n 3, 1), (377, .ifCond .eq 12, 3), (380, .iload_n 2, 1), (381, .ifCond .eq 8, 3), (384, .bipush 8, 2), (386, .goto 4, 3), (389, .iconst 0, 1), (390, .i2l, 1), (391, .lor, 1), (392, .invokevirtual 892, 3), (395, .invokevirtual 895, 3), (398, .return_, 1)] = true := by decide +kernel
theorem dX1_deletes_370 : decode cX1_deletes 370 = .ok (.goto 6, 3) := zdec_at bX1_deletes_370 0 rfl
theorem dX1_deletes_373 : decode cX1_deletes 373 = .ok (.ldc2_w 1016, 3) := zdec_at bX1_deletes_370 1 rfl
theorem dX1_deletes_376 : decode cX1_deletes 376 = .ok (.iload_n 3, 1) := zdec_at bX1_deletes_370 2 rfl
theorem dX1_deletes_377 : decode cX1_deletes 377 = .ok (.ifCond .eq 12, 3) := zdec_at bX1_deletes_370 3 rfl
theorem dX1_deletes_380 : decode cX1_deletes 380 = .ok (.iload_n 2, 1) := zdec_at bX1_deletes_370 4 rfl
theorem dX1_deletes_381 : decode cX1_deletes 381 = .ok (.ifCond .eq 8, 3) := zdec_at bX1_deletes_370 5 rfl
theorem dX1_deletes_384 : decode cX1_deletes 384 = .ok (.bipush 8, 2) := zdec_at bX1_deletes_370 6 rfl
theorem dX1_deletes_386 : decode cX1_deletes 386 = .ok (.goto 4, 3) := zdec_at bX1_deletes_370 7 rfl
theorem dX1_deletes_389 : decode cX1_deletes 389 = .ok (.iconst 0, 1) := zdec_at bX1_deletes_370 8 rfl
theorem dX1_deletes_390 : decode cX1_deletes 390 = .ok (.i2l, 1) := zdec_at bX1_deletes_370 9 rfl
theorem dX1_deletes_391 : decode cX1_deletes 391 = .ok (.lor, 1) := zdec_at bX1_deletes_370 10 rfl
theorem dX1_deletes_392 : decode cX1_deletes 392 = .ok (.invokevirtual 892, 3) := zdec_at bX1_deletes_370 11 rfl
theorem dX1_deletes_395 : decode cX1_deletes 395 = .ok (.invokevirtual 895, 3) := zdec_at bX1_deletes_370 12 rfl
theorem dX1_deletes_398 : decode cX1_deletes 398 = .ok (.return_, 1) := zdec_at bX1_deletes_370 13 rfl
theorem sX1_deletes_0 {E : zE} {d : Nat} {Q : zO → zM → Prop} (M : zM)  (hw : cw M) (k : ∃ b1 : Nat, (gr M 16 60) = some (b1, 7, 0) ∧ (Z E YX43_pop d M (zargs 0 [vr (some (b1, 7, 0)), vr (some (72, 4, 0))]) 0 [] (zafter E YX1_deletes (d + 1) [(0, vr (some (16, 0, 0)))] 8 3 [] Q))) : Z E YX1_deletes (d + 1) M [(0, vr (some (16, 0, 0)))] 0 [] Q := by
  refine z_aload_n dX1_deletes_0 rfl rfl ?_
  refine z_getr (r := (gr M 16 60)) dX1_deletes_1 fsX1_684_0 rfl ?_
  refine z_aload_n dX1_deletes_4 rfl rfl ?_
  refine z_getr dX1_deletes_5 fsX1_210_0 (show gr M 16 79 = some (72, 4, 0) from cw_at hw 40 rfl) ?_
  obtain ⟨b1, e1_, k⟩ := k
  refine Z.eqs (lv' := [(0, vr (some (16, 0, 0)))]) (st' := [vr (some (72, 4, 0)), vr (some (b1, 7, 0))]) rfl (by rw [e1_] <;> rfl) ?_
  exact z_callV (as := [vr (some (72, 4, 0))]) (st := []) dX1_deletes_8 vsX1_937_7 (Nat.le_refl _) (Nat.le_of_ble_eq_true rfl) (Nat.le_of_ble_eq_true rfl) rfl k
theorem sX1_deletes_11 {E : zE} {d : Nat} {Q : zO → zM → Prop} (M : zM) (u0 : Option zP) (hw : cw M) (k : ∃ b1 : Nat, (gr M 16 60) = some (b1, 7, 0) ∧ (Z E YX43_pop d M (zargs 0 [vr (some (b1, 7, 0)), vr (some (71, 4, 0))]) 0 [] (zafter E YX1_deletes (d + 1) [(0, vr (some (16, 0, 0)))] 20 3 [] Q))) : Z E YX1_deletes (d + 1) M [(0, vr (some (16, 0, 0)))] 11 [vr u0] Q := by
  refine z_pop dX1_deletes_11 rfl ?_
  refine z_aload_n dX1_deletes_12 rfl rfl ?_
  refine z_getr (r := (gr M 16 60)) dX1_deletes_13 fsX1_684_0 rfl ?_
  refine z_aload_n dX1_deletes_16 rfl rfl ?_
  refine z_getr dX1_deletes_17 fsX1_206_0 (show gr M 16 78 = some (71, 4, 0) from cw_at hw 39 rfl) ?_
  obtain ⟨b1, e1_, k⟩ := k
  refine Z.eqs (lv' := [(0, vr (some (16, 0, 0)))]) (st' := [vr (some (71, 4, 0)), vr (some (b1, 7, 0))]) rfl (by rw [e1_] <;> rfl) ?_
  exact z_callV (as := [vr (some (71, 4, 0))]) (st := []) dX1_deletes_20 vsX1_937_7 (Nat.le_refl _) (Nat.le_of_ble_eq_true rfl) (Nat.le_of_ble_eq_true rfl) rfl k
theorem sX1_deletes_23 {E : zE} {d : Nat} {Q : zO → zM → Prop} (M : zM) (u0 : Option zP) (hw : cw M) (k : Z E YX6_has d M (zargs 0 [vr (some (71, 4, 0)), vi (3 : Int32)]) 0 [] (zafter E YX1_deletes (d + 1) [(0, vr (some (16, 0, 0)))] 29 3 [] Q)) : Z E YX1_deletes (d + 1) M [(0, vr (some (16, 0, 0)))] 23 [vr u0] Q := by
  refine z_pop dX1_deletes_23 rfl ?_
  refine z_aload_n dX1_deletes_24 rfl rfl ?_
  refine z_getr dX1_deletes_25 fsX1_206_0 (show gr M 16 78 = some (71, 4, 0) from cw_at hw 39 rfl) ?_
  refine z_iconst (v := 3) dX1_deletes_28 rfl ?_
  exact z_callV (as := [vi (3 : Int32)]) (st := []) dX1_deletes_29 vsX1_831_4 (Nat.le_refl _) (Nat.le_of_ble_eq_true rfl) (Nat.le_of_ble_eq_true rfl) rfl k
theorem sX1_deletes_32 {E : zE} {d : Nat} {Q : zO → zM → Prop} (M : zM) (s0 : Int32) (hw : cw M) (k : if s0 = 0 then (Z E YX1_deletes (d + 1) M [(0, vr (some (16, 0, 0)))] 44 [] Q) else (Z E YX1_errs d M (zargs 0 [vr (some (16, 0, 0)), vr (gr M 16 60), vi (0 : Int32)]) 0 [] (zafter E YX1_deletes (d + 1) [(0, vr (some (16, 0, 0)))] 41 3 [] Q))) : Z E YX1_deletes (d + 1) M [(0, vr (some (16, 0, 0)))] 32 [vi s0] Q := by
  refine z_if_eq (tgt := 44) dX1_deletes_32 rfl (fun h_ => ?_) (fun h_ => ?_)
  · have k := zit h_ k
    exact k
  · have k := zif h_ k
    refine z_aload_n dX1_deletes_35 rfl rfl ?_
    refine z_aload_n dX1_deletes_36 rfl rfl ?_
    refine z_getr (r := (gr M 16 60)) dX1_deletes_37 fsX1_684_0 rfl ?_
    refine z_iconst (v := 0) dX1_deletes_40 rfl ?_
    exact z_callV (as := [vr (gr M 16 60), vi (0 : Int32)]) (st := []) dX1_deletes_41 vsX1_960_0 (Nat.le_refl _) (Nat.le_of_ble_eq_true rfl) (Nat.le_of_ble_eq_true rfl) rfl k
theorem sX1_deletes_44 {E : zE} {d : Nat} {Q : zO → zM → Prop} (M : zM)  (hw : cw M) (k : Z E YX6_hasLabels d M (zargs 0 [vr (some (71, 4, 0))]) 0 [] (zafter E YX1_deletes (d + 1) [(0, vr (some (16, 0, 0)))] 48 3 [] Q)) : Z E YX1_deletes (d + 1) M [(0, vr (some (16, 0, 0)))] 44 [] Q := by
  refine z_aload_n dX1_deletes_44 rfl rfl ?_
  refine z_getr dX1_deletes_45 fsX1_206_0 (show gr M 16 78 = some (71, 4, 0) from cw_at hw 39 rfl) ?_
  exact z_callV (as := []) (st := []) dX1_deletes_48 vsX1_837_4 (Nat.le_refl _) (Nat.le_of_ble_eq_true rfl) (Nat.le_of_ble_eq_true rfl) rfl k
theorem sX1_deletes_51 {E : zE} {d : Nat} {Q : zO → zM → Prop} (M : zM) (s0 : Int32) (hw : cw M) (k : if s0 = 0 then (if (lg_cmp ((gl M 71 2) &&& (508 : Int64)) (0 : Int64)) = 0 then (Q (.inl none) M) else (Z E YX1_keys d M (zargs 0 [vr (some (16, 0, 0)), vr (some (72, 4, 0))]) 0 [] (zafter E YX1_deletes (d + 1) [(0, vr (some (16, 0, 0)))] 76 3 [] Q))) else (Z E YX1_keys d M (zargs 0 [vr (some (16, 0, 0)), vr (some (72, 4, 0))]) 0 [] (zafter E YX1_deletes (d + 1) [(0, vr (some (16, 0, 0)))] 76 3 [] Q))) : Z E YX1_deletes (d + 1) M [(0, vr (some (16, 0, 0)))] 51 [vi s0] Q := by
  refine z_if_ne (tgt := 71) dX1_deletes_51 rfl (fun h_ => ?_) (fun h_ => ?_)
  · have k := zif h_ k
    refine z_aload_n dX1_deletes_71 rfl rfl ?_
    refine z_aload_n dX1_deletes_72 rfl rfl ?_
    refine z_getr dX1_deletes_73 fsX1_210_0 (show gr M 16 79 = some (72, 4, 0) from cw_at hw 40 rfl) ?_
    exact z_callV (as := [vr (some (72, 4, 0))]) (st := []) dX1_deletes_76 vsX1_883_0 (Nat.le_refl _) (Nat.le_of_ble_eq_true rfl) (Nat.le_of_ble_eq_true rfl) rfl k
  · have k := zit h_ k
    refine z_aload_n dX1_deletes_54 rfl rfl ?_
    refine z_getr dX1_deletes_55 fsX1_206_0 (show gr M 16 78 = some (71, 4, 0) from cw_at hw 39 rfl) ?_
    refine z_getl dX1_deletes_58 fsX1_920_4 ?_
    refine z_ldc2 (v := 508) dX1_deletes_61 q3355 ?_
    refine z_land dX1_deletes_64 ?_
    refine z_lconst (v := 0) dX1_deletes_65 rfl ?_
    refine z_lcmp dX1_deletes_66 ?_
    refine z_if_ne (tgt := 71) dX1_deletes_67 rfl (fun h_ => ?_) (fun h_ => ?_)
    · have k := zif h_ k
      refine z_aload_n dX1_deletes_71 rfl rfl ?_
      refine z_aload_n dX1_deletes_72 rfl rfl ?_
      refine z_getr dX1_deletes_73 fsX1_210_0 (show gr M 16 79 = some (72, 4, 0) from cw_at hw 40 rfl) ?_
      exact z_callV (as := [vr (some (72, 4, 0))]) (st := []) dX1_deletes_76 vsX1_883_0 (Nat.le_refl _) (Nat.le_of_ble_eq_true rfl) (Nat.le_of_ble_eq_true rfl) rfl k
    · have k := zit h_ k
      exact z_vret dX1_deletes_70 rfl k
theorem sX1_deletes_79 {E : zE} {d : Nat} {Q : zO → zM → Prop} (M : zM)  (hw : cw M) (k : if (lg_cmp ((gl M 71 2) &&& (511 : Int64)) (0 : Int64)) = 0 then (Z E YX1_isKey d M (zargs 0 [vr (some (16, 0, 0)), vi (0 : Int32)]) 0 [] (zafter E YX1_deletes (d + 1) [(0, vr (some (16, 0, 0))), (1, vi (1 : Int32))] 103 3 [] Q)) else (Z E YX1_isKey d M (zargs 0 [vr (some (16, 0, 0)), vi (0 : Int32)]) 0 [] (zafter E YX1_deletes (d + 1) [(0, vr (some (16, 0, 0))), (1, vi (0 : Int32))] 103 3 [] Q))) : Z E YX1_deletes (d + 1) M [(0, vr (some (16, 0, 0)))] 79 [] Q := by
  refine z_aload_n dX1_deletes_79 rfl rfl ?_
  refine z_getr dX1_deletes_80 fsX1_206_0 (show gr M 16 78 = some (71, 4, 0) from cw_at hw 39 rfl) ?_
  refine z_getl dX1_deletes_83 fsX1_920_4 ?_
  refine z_ldc2 (v := 511) dX1_deletes_86 q3350 ?_
  refine z_land dX1_deletes_89 ?_
  refine z_lconst (v := 0) dX1_deletes_90 rfl ?_
  refine z_lcmp dX1_deletes_91 ?_
  refine z_if_ne (tgt := 99) dX1_deletes_92 rfl (fun h_ => ?_) (fun h_ => ?_)
  · have k := zif h_ k
    refine z_iconst (v := 0) dX1_deletes_99 rfl ?_
    refine z_ist_n dX1_deletes_100 rfl (by decide) (lv' := [(0, vr (some (16, 0, 0))), (1, vi (0 : Int32))]) rfl ?_
    refine z_aload_n dX1_deletes_101 rfl rfl ?_
    refine z_iconst (v := 0) dX1_deletes_102 rfl ?_
    exact z_callV (as := [vi (0 : Int32)]) (st := []) dX1_deletes_103 vsX1_856_0 (Nat.le_refl _) (Nat.le_of_ble_eq_true rfl) (Nat.le_of_ble_eq_true rfl) rfl k
  · have k := zit h_ k
    refine z_iconst (v := 1) dX1_deletes_95 rfl ?_
    refine z_goto (tgt := 100) dX1_deletes_96 rfl ?_
    refine z_ist_n dX1_deletes_100 rfl (by decide) (lv' := [(0, vr (some (16, 0, 0))), (1, vi (1 : Int32))]) rfl ?_
    refine z_aload_n dX1_deletes_101 rfl rfl ?_
    refine z_iconst (v := 0) dX1_deletes_102 rfl ?_
    exact z_callV (as := [vi (0 : Int32)]) (st := []) dX1_deletes_103 vsX1_856_0 (Nat.le_refl _) (Nat.le_of_ble_eq_true rfl) (Nat.le_of_ble_eq_true rfl) rfl k
theorem sX1_deletes_106 {E : zE} {d : Nat} {Q : zO → zM → Prop} (M : zM) (l1 : Int32) (s0 : Int32) (hw : cw M) (k : Z E YX6_meets d M (zargs 0 [vr (some (71, 4, 0)), vl (gl M 16 71), vl (gl M 16 72)]) 0 [] (zafter E YX1_deletes (d + 1) [(0, vr (some (16, 0, 0))), (1, vi l1), (2, vi s0)] 119 3 [] Q)) : Z E YX1_deletes (d + 1) M [(0, vr (some (16, 0, 0))), (1, vi l1)] 106 [vi s0] Q := by
  refine z_ist_n dX1_deletes_106 rfl (by decide) (lv' := [(0, vr (some (16, 0, 0))), (1, vi l1), (2, vi s0)]) rfl ?_
  refine z_aload_n dX1_deletes_107 rfl rfl ?_
  refine z_getr dX1_deletes_108 fsX1_206_0 (show gr M 16 78 = some (71, 4, 0) from cw_at hw 39 rfl) ?_
  refine z_aload_n dX1_deletes_111 rfl rfl ?_
  refine z_getl dX1_deletes_112 fsX1_652_0 ?_
  refine z_aload_n dX1_deletes_115 rfl rfl ?_
  refine z_getl dX1_deletes_116 fsX1_655_0 ?_
  exact z_callV (as := [vl (gl M 16 71), vl (gl M 16 72)]) (st := []) dX1_deletes_119 vsX1_1000_4 (Nat.le_refl _) (Nat.le_of_ble_eq_true rfl) (Nat.le_of_ble_eq_true rfl) rfl k
theorem sX1_deletes_122 {E : zE} {d : Nat} {Q : zO → zM → Prop} (M : zM) (l1 : Int32) (l2 : Int32) (s0 : Int32) (hw : cw M) (k : if l1 = 0 then (Z E YX1_onlyKey d M (zargs 0 [vr (some (16, 0, 0))]) 0 [] (zafter E YX1_deletes (d + 1) [(0, vr (some (16, 0, 0))), (1, vi l1), (2, vi l2), (3, vi s0), (4, vi (-1 : Int32))] 151 3 [] Q)) else (Z E YX1_onlySingle d M (zargs 0 [vl (gl M 71 0), vl (gl M 71 1)]) 0 [] (zafter E YX1_deletes (d + 1) [(0, vr (some (16, 0, 0))), (1, vi l1), (2, vi l2), (3, vi s0)] 141 3 [] Q))) : Z E YX1_deletes (d + 1) M [(0, vr (some (16, 0, 0))), (1, vi l1), (2, vi l2)] 122 [vi s0] Q := by
  refine z_ist_n dX1_deletes_122 rfl (by decide) (lv' := [(0, vr (some (16, 0, 0))), (1, vi l1), (2, vi l2), (3, vi s0)]) rfl ?_
  refine z_iload_n dX1_deletes_123 rfl rfl ?_
  refine z_if_eq (tgt := 147) dX1_deletes_124 rfl (fun h_ => ?_) (fun h_ => ?_)
  · have k := zit h_ k
    refine z_iconst (v := -1) dX1_deletes_147 rfl ?_
    refine z_ist dX1_deletes_148 (by decide) (lv' := [(0, vr (some (16, 0, 0))), (1, vi l1), (2, vi l2), (3, vi s0), (4, vi (-1 : Int32))]) rfl ?_
    refine z_aload_n dX1_deletes_150 rfl rfl ?_
    exact z_callV (as := []) (st := []) dX1_deletes_151 vsX1_886_0 (Nat.le_refl _) (Nat.le_of_ble_eq_true rfl) (Nat.le_of_ble_eq_true rfl) rfl k
  · have k := zif h_ k
    refine z_aload_n dX1_deletes_127 rfl rfl ?_
    refine z_getr dX1_deletes_128 fsX1_206_0 (show gr M 16 78 = some (71, 4, 0) from cw_at hw 39 rfl) ?_
    refine z_getl dX1_deletes_131 fsX1_916_4 ?_
    refine z_aload_n dX1_deletes_134 rfl rfl ?_
    refine z_getr dX1_deletes_135 fsX1_206_0 (show gr M 16 78 = some (71, 4, 0) from cw_at hw 39 rfl) ?_
    refine z_getl dX1_deletes_138 fsX1_918_4 ?_
    exact z_callS (as := [vl (gl M 71 0), vl (gl M 71 1)]) (st := []) dX1_deletes_141 ssX1_988 (Nat.le_refl _) (Nat.le_of_ble_eq_true rfl) (Nat.le_of_ble_eq_true rfl) rfl k
theorem sX1_deletes_144 {E : zE} {d : Nat} {Q : zO → zM → Prop} (M : zM) (l1 : Int32) (l2 : Int32) (l3 : Int32) (s0 : Int32) (hw : cw M) (k : Z E YX1_onlyKey d M (zargs 0 [vr (some (16, 0, 0))]) 0 [] (zafter E YX1_deletes (d + 1) [(0, vr (some (16, 0, 0))), (1, vi l1), (2, vi l2), (3, vi l3), (4, vi s0)] 151 3 [] Q)) : Z E YX1_deletes (d + 1) M [(0, vr (some (16, 0, 0))), (1, vi l1), (2, vi l2), (3, vi l3)] 144 [vi s0] Q := by
  refine z_goto (tgt := 148) dX1_deletes_144 rfl ?_
  refine z_ist dX1_deletes_148 (by decide) (lv' := [(0, vr (some (16, 0, 0))), (1, vi l1), (2, vi l2), (3, vi l3), (4, vi s0)]) rfl ?_
  refine z_aload_n dX1_deletes_150 rfl rfl ?_
  exact z_callV (as := []) (st := []) dX1_deletes_151 vsX1_886_0 (Nat.le_refl _) (Nat.le_of_ble_eq_true rfl) (Nat.le_of_ble_eq_true rfl) rfl k
theorem sX1_deletes_154 {E : zE} {d : Nat} {Q : zO → zM → Prop} (M : zM) (l1 : Int32) (l2 : Int32) (l3 : Int32) (l4 : Int32) (s0 : Int32) (hw : cw M) (k : Z E YX1_deletes (d + 1) M [(0, vr (some (16, 0, 0))), (1, vi l1), (2, vi l2), (3, vi l3), (4, vi l4), (5, vi s0), (6, vi (0 : Int32))] 159 [] Q) : Z E YX1_deletes (d + 1) M [(0, vr (some (16, 0, 0))), (1, vi l1), (2, vi l2), (3, vi l3), (4, vi l4)] 154 [vi s0] Q := by
  refine z_ist dX1_deletes_154 (by decide) (lv' := [(0, vr (some (16, 0, 0))), (1, vi l1), (2, vi l2), (3, vi l3), (4, vi l4), (5, vi s0)]) rfl ?_
  refine z_iconst (v := 0) dX1_deletes_156 rfl ?_
  refine z_ist dX1_deletes_157 (by decide) (lv' := [(0, vr (some (16, 0, 0))), (1, vi l1), (2, vi l2), (3, vi l3), (4, vi l4), (5, vi s0), (6, vi (0 : Int32))]) rfl ?_
  exact k
theorem sX1_deletes_159 {E : zE} {d : Nat} {Q : zO → zM → Prop} (M : zM) (l1 : Int32) (l2 : Int32) (l3 : Int32) (l4 : Int32) (l5 : Int32) (l6 : Int32) (hw : cw M) (k : if (gi M 16 11) ≤ l6 then (if l1 = 0 then (Z E YX1_deletes (d + 1) M [(0, vr (some (16, 0, 0))), (2, vi l2), (3, vi l3)] 357 [vi (0 : Int32)] Q) else (Z E YX6_hasOnly d M (zargs 0 [vr (some (71, 4, 0)), vl (gl M 16 71), vl (gl M 16 72)]) 0 [] (zafter E YX1_deletes (d + 1) [(0, vr (some (16, 0, 0))), (2, vi l2), (3, vi l3), (5, vi l5)] 341 3 [] Q))) else (Z E YX1_in d M (zargs 0 [vi l6, vl (gl M 71 0), vl (gl M 71 1)]) 0 [] (zafter E YX1_deletes (d + 1) [(0, vr (some (16, 0, 0))), (1, vi l1), (2, vi l2), (3, vi l3), (4, vi l4), (5, vi l5), (6, vi l6)] 184 3 [] Q))) : Z E YX1_deletes (d + 1) M [(0, vr (some (16, 0, 0))), (1, vi l1), (2, vi l2), (3, vi l3), (4, vi l4), (5, vi l5), (6, vi l6)] 159 [] Q := by
  refine z_iload dX1_deletes_159 rfl ?_
  refine z_aload_n dX1_deletes_161 rfl rfl ?_
  refine z_geti dX1_deletes_162 fsX1_313_0 ?_
  refine z_icmp_ge (tgt := 325) dX1_deletes_165 rfl (fun h_ => ?_) (fun h_ => ?_)
  · have k := zit h_ k
    refine z_iload_n dX1_deletes_325 rfl rfl ?_
    refine z_if_eq (tgt := 356) dX1_deletes_326 rfl (fun h_ => ?_) (fun h_ => ?_)
    · have k := zit h_ k
      refine z_iconst (v := 0) dX1_deletes_356 rfl ?_
      refine Z.pick [0, 2, 3] rfl ?_
      exact k
    · have k := zif h_ k
      refine z_aload_n dX1_deletes_329 rfl rfl ?_
      refine z_getr dX1_deletes_330 fsX1_206_0 (show gr M 16 78 = some (71, 4, 0) from cw_at hw 39 rfl) ?_
      refine z_aload_n dX1_deletes_333 rfl rfl ?_
      refine z_getl dX1_deletes_334 fsX1_652_0 ?_
      refine z_aload_n dX1_deletes_337 rfl rfl ?_
      refine z_getl dX1_deletes_338 fsX1_655_0 ?_
      refine Z.pick [0, 2, 3, 5] rfl ?_
      exact z_callV (as := [vl (gl M 16 71), vl (gl M 16 72)]) (st := []) dX1_deletes_341 vsX1_1028_4 (Nat.le_refl _) (Nat.le_of_ble_eq_true rfl) (Nat.le_of_ble_eq_true rfl) rfl k
  · have k := zif h_ k
    refine z_iload dX1_deletes_168 rfl ?_
    refine z_aload_n dX1_deletes_170 rfl rfl ?_
    refine z_getr dX1_deletes_171 fsX1_206_0 (show gr M 16 78 = some (71, 4, 0) from cw_at hw 39 rfl) ?_
    refine z_getl dX1_deletes_174 fsX1_916_4 ?_
    refine z_aload_n dX1_deletes_177 rfl rfl ?_
    refine z_getr dX1_deletes_178 fsX1_206_0 (show gr M 16 78 = some (71, 4, 0) from cw_at hw 39 rfl) ?_
    refine z_getl dX1_deletes_181 fsX1_918_4 ?_
    exact z_callS (as := [vi l6, vl (gl M 71 0), vl (gl M 71 1)]) (st := []) dX1_deletes_184 ssX1_827 (Nat.le_refl _) (Nat.le_of_ble_eq_true rfl) (Nat.le_of_ble_eq_true rfl) rfl k
theorem sX1_deletes_187 {E : zE} {d : Nat} {Q : zO → zM → Prop} (M : zM) (l1 : Int32) (l2 : Int32) (l3 : Int32) (l4 : Int32) (l5 : Int32) (l6 : Int32) (s0 : Int32) (hw : cw M) (k : if s0 = 0 then (Z E YX1_deletes (d + 1) M [(0, vr (some (16, 0, 0))), (1, vi l1), (2, vi l2), (3, vi l3), (4, vi l4), (5, vi l5), (6, vi (l6 + (1 : Int32)))] 159 [] Q) else (∃ b1 : Nat, (gr M 16 60) = some (b1, 7, 0) ∧ (∃ b2 m2 : Nat, (gr M b1 8) = some (b2, 104, m2) ∧ (vp_in l6 m2 ∧ (if (gi M b2 (l6).toNatClampNeg) = 0 then (Z E YX1_deletes (d + 1) M [(0, vr (some (16, 0, 0))), (1, vi l1), (2, vi l2), (3, vi l3), (4, vi l4), (5, vi l5), (6, vi (l6 + (1 : Int32)))] 159 [] Q) else (Z E YX1_deletes (d + 1) M [(0, vr (some (16, 0, 0))), (1, vi l1), (2, vi l2), (3, vi l3), (4, vi l4), (5, vi l5), (6, vi l6), (7, vi (0 : Int32))] 209 [] Q)))))) : Z E YX1_deletes (d + 1) M [(0, vr (some (16, 0, 0))), (1, vi l1), (2, vi l2), (3, vi l3), (4, vi l4), (5, vi l5), (6, vi l6)] 187 [vi s0] Q := by
  refine z_if_eq (tgt := 319) dX1_deletes_187 rfl (fun h_ => ?_) (fun h_ => ?_)
  · have k := zit h_ k
    refine z_inc (v := (l6 + (1 : Int32))) dX1_deletes_319 rfl rfl (by decide) (lv' := [(0, vr (some (16, 0, 0))), (1, vi l1), (2, vi l2), (3, vi l3), (4, vi l4), (5, vi l5), (6, vi (l6 + (1 : Int32)))]) rfl ?_
    refine z_goto (tgt := 159) dX1_deletes_322 rfl ?_
    exact k
  · have k := zif h_ k
    refine z_aload_n dX1_deletes_190 rfl rfl ?_
    refine z_getr (r := (gr M 16 60)) dX1_deletes_191 fsX1_684_0 rfl ?_
    obtain ⟨b1, e1_, k⟩ := k
    refine Z.eqs (lv' := [(0, vr (some (16, 0, 0))), (1, vi l1), (2, vi l2), (3, vi l3), (4, vi l4), (5, vi l5), (6, vi l6)]) (st' := [vr (some (b1, 7, 0))]) rfl (by rw [e1_] <;> rfl) ?_
    refine z_getr (r := (gr M b1 8)) dX1_deletes_194 fsX1_731_7 rfl ?_
    refine z_iload dX1_deletes_197 rfl ?_
    obtain ⟨b2, m2, e2_, k⟩ := k
    refine Z.eqs (lv' := [(0, vr (some (16, 0, 0))), (1, vi l1), (2, vi l2), (3, vi l3), (4, vi l4), (5, vi l5), (6, vi l6)]) (st' := [vi l6, vr (some (b2, 104, m2))]) rfl (by rw [e2_] <;> rfl) ?_
    obtain ⟨b_, k⟩ := k
    refine z_zald dX1_deletes_199 b_ ?_
    refine z_if_ne (tgt := 206) dX1_deletes_200 rfl (fun h_ => ?_) (fun h_ => ?_)
    · have k := zif h_ k
      refine z_iconst (v := 0) dX1_deletes_206 rfl ?_
      refine z_ist dX1_deletes_207 (by decide) (lv' := [(0, vr (some (16, 0, 0))), (1, vi l1), (2, vi l2), (3, vi l3), (4, vi l4), (5, vi l5), (6, vi l6), (7, vi (0 : Int32))]) rfl ?_
      exact k
    · have k := zit h_ k
      refine z_goto (tgt := 319) dX1_deletes_203 rfl ?_
      refine z_inc (v := (l6 + (1 : Int32))) dX1_deletes_319 rfl rfl (by decide) (lv' := [(0, vr (some (16, 0, 0))), (1, vi l1), (2, vi l2), (3, vi l3), (4, vi l4), (5, vi l5), (6, vi (l6 + (1 : Int32)))]) rfl ?_
      refine z_goto (tgt := 159) dX1_deletes_322 rfl ?_
      exact k
theorem sX1_deletes_209 {E : zE} {d : Nat} {Q : zO → zM → Prop} (M : zM) (l1 : Int32) (l2 : Int32) (l3 : Int32) (l4 : Int32) (l5 : Int32) (l6 : Int32) (l7 : Int32) (hw : cw M) (k : if (gi M 16 1) < l7 then (Z E YX1_deletes (d + 1) M [(0, vr (some (16, 0, 0))), (1, vi l1), (2, vi l2), (3, vi l3), (4, vi l4), (5, vi l5), (6, vi (l6 + (1 : Int32)))] 159 [] Q) else (Z E YX1_isKey d M (zargs 0 [vr (some (16, 0, 0)), vi l7]) 0 [] (zafter E YX1_deletes (d + 1) [(0, vr (some (16, 0, 0))), (1, vi l1), (2, vi l2), (3, vi l3), (4, vi l4), (5, vi l5), (6, vi l6), (7, vi l7)] 221 3 [] Q))) : Z E YX1_deletes (d + 1) M [(0, vr (some (16, 0, 0))), (1, vi l1), (2, vi l2), (3, vi l3), (4, vi l4), (5, vi l5), (6, vi l6), (7, vi l7)] 209 [] Q := by
  refine z_iload dX1_deletes_209 rfl ?_
  refine z_aload_n dX1_deletes_211 rfl rfl ?_
  refine z_geti dX1_deletes_212 fsX1_58_0 ?_
  refine z_icmp_gt (tgt := 319) dX1_deletes_215 rfl (fun h_ => ?_) (fun h_ => ?_)
  · have k := zit h_ k
    refine z_inc (v := (l6 + (1 : Int32))) dX1_deletes_319 rfl rfl (by decide) (lv' := [(0, vr (some (16, 0, 0))), (1, vi l1), (2, vi l2), (3, vi l3), (4, vi l4), (5, vi l5), (6, vi (l6 + (1 : Int32))), (7, vi l7)]) rfl ?_
    refine z_goto (tgt := 159) dX1_deletes_322 rfl ?_
    refine Z.pick [0, 1, 2, 3, 4, 5, 6] rfl ?_
    exact k
  · have k := zif h_ k
    refine z_aload_n dX1_deletes_218 rfl rfl ?_
    refine z_iload dX1_deletes_219 rfl ?_
    exact z_callV (as := [vi l7]) (st := []) dX1_deletes_221 vsX1_856_0 (Nat.le_refl _) (Nat.le_of_ble_eq_true rfl) (Nat.le_of_ble_eq_true rfl) rfl k
theorem sX1_deletes_224 {E : zE} {d : Nat} {Q : zO → zM → Prop} (M : zM) (l1 : Int32) (l2 : Int32) (l3 : Int32) (l4 : Int32) (l5 : Int32) (l6 : Int32) (l7 : Int32) (s0 : Int32) (hw : cw M) (k : if s0 = 0 then (Z E YX1_deletes (d + 1) M [(0, vr (some (16, 0, 0))), (1, vi l1), (2, vi l2), (3, vi l3), (4, vi l4), (5, vi l5), (6, vi l6), (7, vi (l7 + (1 : Int32)))] 209 [] Q) else (if l7 = 0 then (Z E YX1_in d M (zargs 0 [vi l6, vl (gl M 16 71), vl (gl M 16 72)]) 0 [] (zafter E YX1_deletes (d + 1) [(0, vr (some (16, 0, 0))), (1, vi l1), (2, vi l2), (3, vi l3), (4, vi l4), (5, vi l5), (6, vi l6), (7, vi l7)] 242 3 [] Q)) else (∃ b1 : Nat, (gr M 16 60) = some (b1, 7, 0) ∧ (Z E YX43_cell d M (zargs 0 [vr (some (b1, 7, 0)), vi l6, vi l7]) 0 [] (zafter E YX1_deletes (d + 1) [(0, vr (some (16, 0, 0))), (1, vi l1), (2, vi l2), (3, vi l3), (4, vi l4), (5, vi l5), (6, vi l6), (7, vi l7)] 259 3 [] Q))))) : Z E YX1_deletes (d + 1) M [(0, vr (some (16, 0, 0))), (1, vi l1), (2, vi l2), (3, vi l3), (4, vi l4), (5, vi l5), (6, vi l6), (7, vi l7)] 224 [vi s0] Q := by
  refine z_if_eq (tgt := 313) dX1_deletes_224 rfl (fun h_ => ?_) (fun h_ => ?_)
  · have k := zit h_ k
    refine z_inc (v := (l7 + (1 : Int32))) dX1_deletes_313 rfl rfl (by decide) (lv' := [(0, vr (some (16, 0, 0))), (1, vi l1), (2, vi l2), (3, vi l3), (4, vi l4), (5, vi l5), (6, vi l6), (7, vi (l7 + (1 : Int32)))]) rfl ?_
    refine z_goto (tgt := 209) dX1_deletes_316 rfl ?_
    exact k
  · have k := zif h_ k
    refine z_iload dX1_deletes_227 rfl ?_
    refine z_if_ne (tgt := 251) dX1_deletes_229 rfl (fun h_ => ?_) (fun h_ => ?_)
    · have k := zif h_ k
      refine z_aload_n dX1_deletes_251 rfl rfl ?_
      refine z_getr (r := (gr M 16 60)) dX1_deletes_252 fsX1_684_0 rfl ?_
      refine z_iload dX1_deletes_255 rfl ?_
      refine z_iload dX1_deletes_257 rfl ?_
      obtain ⟨b1, e1_, k⟩ := k
      refine Z.eqs (lv' := [(0, vr (some (16, 0, 0))), (1, vi l1), (2, vi l2), (3, vi l3), (4, vi l4), (5, vi l5), (6, vi l6), (7, vi l7)]) (st' := [vi l7, vi l6, vr (some (b1, 7, 0))]) rfl (by rw [e1_] <;> rfl) ?_
      exact z_callV (as := [vi l6, vi l7]) (st := []) dX1_deletes_259 vsX1_813_7 (Nat.le_refl _) (Nat.le_of_ble_eq_true rfl) (Nat.le_of_ble_eq_true rfl) rfl k
    · have k := zit h_ k
      refine z_iload dX1_deletes_232 rfl ?_
      refine z_aload_n dX1_deletes_234 rfl rfl ?_
      refine z_getl dX1_deletes_235 fsX1_652_0 ?_
      refine z_aload_n dX1_deletes_238 rfl rfl ?_
      refine z_getl dX1_deletes_239 fsX1_655_0 ?_
      exact z_callS (as := [vi l6, vl (gl M 16 71), vl (gl M 16 72)]) (st := []) dX1_deletes_242 ssX1_827 (Nat.le_refl _) (Nat.le_of_ble_eq_true rfl) (Nat.le_of_ble_eq_true rfl) rfl k
theorem sX1_deletes_245 {E : zE} {d : Nat} {Q : zO → zM → Prop} (M : zM) (l1 : Int32) (l2 : Int32) (l3 : Int32) (l4 : Int32) (l5 : Int32) (l6 : Int32) (l7 : Int32) (s0 : Int32) (hw : cw M) (k : if s0 = 0 then (∃ b1 : Nat, (gr M 16 60) = some (b1, 7, 0) ∧ (Z E YX43_cell d M (zargs 0 [vr (some (b1, 7, 0)), vi l6, vi l7]) 0 [] (zafter E YX1_deletes (d + 1) [(0, vr (some (16, 0, 0))), (1, vi l1), (2, vi l2), (3, vi l3), (4, vi l4), (5, vi l5), (6, vi l6), (7, vi l7)] 259 3 [] Q))) else (Z E YX1_deletes (d + 1) M [(0, vr (some (16, 0, 0))), (1, vi l1), (2, vi l2), (3, vi l3), (4, vi l4), (5, vi l5), (6, vi l6), (7, vi (l7 + (1 : Int32)))] 209 [] Q)) : Z E YX1_deletes (d + 1) M [(0, vr (some (16, 0, 0))), (1, vi l1), (2, vi l2), (3, vi l3), (4, vi l4), (5, vi l5), (6, vi l6), (7, vi l7)] 245 [vi s0] Q := by
  refine z_if_eq (tgt := 251) dX1_deletes_245 rfl (fun h_ => ?_) (fun h_ => ?_)
  · have k := zit h_ k
    refine z_aload_n dX1_deletes_251 rfl rfl ?_
    refine z_getr (r := (gr M 16 60)) dX1_deletes_252 fsX1_684_0 rfl ?_
    refine z_iload dX1_deletes_255 rfl ?_
    refine z_iload dX1_deletes_257 rfl ?_
    obtain ⟨b1, e1_, k⟩ := k
    refine Z.eqs (lv' := [(0, vr (some (16, 0, 0))), (1, vi l1), (2, vi l2), (3, vi l3), (4, vi l4), (5, vi l5), (6, vi l6), (7, vi l7)]) (st' := [vi l7, vi l6, vr (some (b1, 7, 0))]) rfl (by rw [e1_] <;> rfl) ?_
    exact z_callV (as := [vi l6, vi l7]) (st := []) dX1_deletes_259 vsX1_813_7 (Nat.le_refl _) (Nat.le_of_ble_eq_true rfl) (Nat.le_of_ble_eq_true rfl) rfl k
  · have k := zif h_ k
    refine z_goto (tgt := 313) dX1_deletes_248 rfl ?_
    refine z_inc (v := (l7 + (1 : Int32))) dX1_deletes_313 rfl rfl (by decide) (lv' := [(0, vr (some (16, 0, 0))), (1, vi l1), (2, vi l2), (3, vi l3), (4, vi l4), (5, vi l5), (6, vi l6), (7, vi (l7 + (1 : Int32)))]) rfl ?_
    refine z_goto (tgt := 209) dX1_deletes_316 rfl ?_
    exact k
theorem sX1_deletes_262 {E : zE} {d : Nat} {Q : zO → zM → Prop} (M : zM) (l1 : Int32) (l2 : Int32) (l3 : Int32) (l4 : Int32) (l5 : Int32) (l6 : Int32) (l7 : Int32) (s0 : Int32) (hw : cw M) (k : if l6 = l4 then (if l7 = l5 then (∃ b1 : Nat, (gr M 16 60) = some (b1, 7, 0) ∧ (Z E YX43_put d M (zargs 0 [vr (some (b1, 7, 0)), vi l6, vi l7, vl (0 : Int64), vl (0 : Int64), vl (512 : Int64)]) 0 [] (zafter E YX1_deletes (d + 1) [(0, vr (some (16, 0, 0))), (1, vi l1), (2, vi l2), (3, vi l3), (4, vi l4), (5, vi l5), (6, vi l6), (7, vi l7)] 291 3 [] Q))) else (Z E YX1_deletes (d + 1) M [(0, vr (some (16, 0, 0))), (1, vi l1), (2, vi l2), (3, vi l3), (4, vi l4), (5, vi l5), (6, vi l6), (7, vi l7), (8, vi s0)] 297 [] Q)) else (Z E YX1_deletes (d + 1) M [(0, vr (some (16, 0, 0))), (1, vi l1), (2, vi l2), (3, vi l3), (4, vi l4), (5, vi l5), (6, vi l6), (7, vi l7), (8, vi s0)] 297 [] Q)) : Z E YX1_deletes (d + 1) M [(0, vr (some (16, 0, 0))), (1, vi l1), (2, vi l2), (3, vi l3), (4, vi l4), (5, vi l5), (6, vi l6), (7, vi l7)] 262 [vi s0] Q := by
  refine z_ist dX1_deletes_262 (by decide) (lv' := [(0, vr (some (16, 0, 0))), (1, vi l1), (2, vi l2), (3, vi l3), (4, vi l4), (5, vi l5), (6, vi l6), (7, vi l7), (8, vi s0)]) rfl ?_
  refine z_iload dX1_deletes_264 rfl ?_
  refine z_iload dX1_deletes_266 rfl ?_
  refine z_icmp_ne (tgt := 297) dX1_deletes_268 rfl (fun h_ => ?_) (fun h_ => ?_)
  · have k := zif h_ k
    exact k
  · have k := zit h_ k
    refine z_iload dX1_deletes_271 rfl ?_
    refine z_iload dX1_deletes_273 rfl ?_
    refine z_icmp_ne (tgt := 297) dX1_deletes_275 rfl (fun h_ => ?_) (fun h_ => ?_)
    · have k := zif h_ k
      exact k
    · have k := zit h_ k
      refine z_aload_n dX1_deletes_278 rfl rfl ?_
      refine z_getr (r := (gr M 16 60)) dX1_deletes_279 fsX1_684_0 rfl ?_
      refine z_iload dX1_deletes_282 rfl ?_
      refine z_iload dX1_deletes_284 rfl ?_
      refine z_lconst (v := 0) dX1_deletes_286 rfl ?_
      refine z_lconst (v := 0) dX1_deletes_287 rfl ?_
      refine z_ldc2 (v := 512) dX1_deletes_288 q3247 ?_
      obtain ⟨b1, e1_, k⟩ := k
      refine Z.eqs (lv' := [(0, vr (some (16, 0, 0))), (1, vi l1), (2, vi l2), (3, vi l3), (4, vi l4), (5, vi l5), (6, vi l6), (7, vi l7), (8, vi s0)]) (st' := [vl (512 : Int64), vl (0 : Int64), vl (0 : Int64), vi l7, vi l6, vr (some (b1, 7, 0))]) rfl (by rw [e1_] <;> rfl) ?_
      refine Z.pick [0, 1, 2, 3, 4, 5, 6, 7] rfl ?_
      exact z_callV (as := [vi l6, vi l7, vl (0 : Int64), vl (0 : Int64), vl (512 : Int64)]) (st := []) dX1_deletes_291 vsX1_722_7 (Nat.le_refl _) (Nat.le_of_ble_eq_true rfl) (Nat.le_of_ble_eq_true rfl) rfl k
theorem sX1_deletes_294 {E : zE} {d : Nat} {Q : zO → zM → Prop} (M : zM) (l1 : Int32) (l2 : Int32) (l3 : Int32) (l4 : Int32) (l5 : Int32) (l6 : Int32) (l7 : Int32) (hw : cw M) (k : Z E YX1_deletes (d + 1) M [(0, vr (some (16, 0, 0))), (1, vi l1), (2, vi l2), (3, vi l3), (4, vi l4), (5, vi l5), (6, vi l6), (7, vi (l7 + (1 : Int32)))] 209 [] Q) : Z E YX1_deletes (d + 1) M [(0, vr (some (16, 0, 0))), (1, vi l1), (2, vi l2), (3, vi l3), (4, vi l4), (5, vi l5), (6, vi l6), (7, vi l7)] 294 [] Q := by
  refine z_goto (tgt := 313) dX1_deletes_294 rfl ?_
  refine z_inc (v := (l7 + (1 : Int32))) dX1_deletes_313 rfl rfl (by decide) (lv' := [(0, vr (some (16, 0, 0))), (1, vi l1), (2, vi l2), (3, vi l3), (4, vi l4), (5, vi l5), (6, vi l6), (7, vi (l7 + (1 : Int32)))]) rfl ?_
  refine z_goto (tgt := 209) dX1_deletes_316 rfl ?_
  exact k
theorem sX1_deletes_297 {E : zE} {d : Nat} {Q : zO → zM → Prop} (M : zM) (l1 : Int32) (l2 : Int32) (l3 : Int32) (l4 : Int32) (l5 : Int32) (l6 : Int32) (l7 : Int32) (l8 : Int32) (hw : cw M) (k : ∃ b1 : Nat, (gr M 16 60) = some (b1, 7, 0) ∧ (∃ b2 m2 : Nat, (gr M b1 3) = some (b2, 105, m2) ∧ (vp_in l8 m2 ∧ (16 ≤ b2 ∧ (vp_in l8 m2 ∧ (Z E YX1_deletes (d + 1) (sl M b2 (l8).toNatClampNeg ((gl M b2 (l8).toNatClampNeg) ||| (512 : Int64))) [(0, vr (some (16, 0, 0))), (1, vi l1), (2, vi l2), (3, vi l3), (4, vi l4), (5, vi l5), (6, vi l6), (7, vi (l7 + (1 : Int32)))] 209 [] Q)))))) : Z E YX1_deletes (d + 1) M [(0, vr (some (16, 0, 0))), (1, vi l1), (2, vi l2), (3, vi l3), (4, vi l4), (5, vi l5), (6, vi l6), (7, vi l7), (8, vi l8)] 297 [] Q := by
  refine z_aload_n dX1_deletes_297 rfl rfl ?_
  refine z_getr (r := (gr M 16 60)) dX1_deletes_298 fsX1_684_0 rfl ?_
  obtain ⟨b1, e1_, k⟩ := k
  refine Z.eqs (lv' := [(0, vr (some (16, 0, 0))), (1, vi l1), (2, vi l2), (3, vi l3), (4, vi l4), (5, vi l5), (6, vi l6), (7, vi l7), (8, vi l8)]) (st' := [vr (some (b1, 7, 0))]) rfl (by rw [e1_] <;> rfl) ?_
  refine z_getr (r := (gr M b1 3)) dX1_deletes_301 fsX1_810_7 rfl ?_
  refine z_iload dX1_deletes_304 rfl ?_
  refine z_dup2 dX1_deletes_306 rfl rfl ?_
  obtain ⟨b2, m2, e2_, k⟩ := k
  refine Z.eqs (lv' := [(0, vr (some (16, 0, 0))), (1, vi l1), (2, vi l2), (3, vi l3), (4, vi l4), (5, vi l5), (6, vi l6), (7, vi l7), (8, vi l8)]) (st' := [vi l8, vr (some (b2, 105, m2)), vi l8, vr (some (b2, 105, m2))]) rfl (by rw [e2_] <;> rfl) ?_
  obtain ⟨b_, k⟩ := k
  refine z_lald dX1_deletes_307 b_ ?_
  refine z_ldc2 (v := 512) dX1_deletes_308 q3247 ?_
  refine z_lor dX1_deletes_311 ?_
  obtain ⟨g_, k⟩ := k
  obtain ⟨b_, k⟩ := k
  refine z_last g_ dX1_deletes_312 b_ ?_
  refine z_inc (v := (l7 + (1 : Int32))) dX1_deletes_313 rfl rfl (by decide) (lv' := [(0, vr (some (16, 0, 0))), (1, vi l1), (2, vi l2), (3, vi l3), (4, vi l4), (5, vi l5), (6, vi l6), (7, vi (l7 + (1 : Int32))), (8, vi l8)]) rfl ?_
  refine z_goto (tgt := 209) dX1_deletes_316 rfl ?_
  refine Z.pick [0, 1, 2, 3, 4, 5, 6, 7] rfl ?_
  exact k
theorem sX1_deletes_344 {E : zE} {d : Nat} {Q : zO → zM → Prop} (M : zM) (l2 : Int32) (l3 : Int32) (l5 : Int32) (s0 : Int32) (hw : cw M) (k : if s0 = 0 then (Z E YX1_deletes (d + 1) M [(0, vr (some (16, 0, 0))), (2, vi l2), (3, vi l3)] 357 [vi (0 : Int32)] Q) else (if l5 = 0 then (Z E YX1_deletes (d + 1) M [(0, vr (some (16, 0, 0))), (2, vi l2), (3, vi l3)] 357 [vi (1 : Int32)] Q) else (Z E YX1_deletes (d + 1) M [(0, vr (some (16, 0, 0))), (2, vi l2), (3, vi l3)] 357 [vi (0 : Int32)] Q))) : Z E YX1_deletes (d + 1) M [(0, vr (some (16, 0, 0))), (2, vi l2), (3, vi l3), (5, vi l5)] 344 [vi s0] Q := by
  refine z_if_eq (tgt := 356) dX1_deletes_344 rfl (fun h_ => ?_) (fun h_ => ?_)
  · have k := zit h_ k
    refine z_iconst (v := 0) dX1_deletes_356 rfl ?_
    refine Z.pick [0, 1, 2] rfl ?_
    exact k
  · have k := zif h_ k
    refine z_iload dX1_deletes_347 rfl ?_
    refine z_if_ne (tgt := 356) dX1_deletes_349 rfl (fun h_ => ?_) (fun h_ => ?_)
    · have k := zif h_ k
      refine z_iconst (v := 0) dX1_deletes_356 rfl ?_
      refine Z.pick [0, 1, 2] rfl ?_
      exact k
    · have k := zit h_ k
      refine z_iconst (v := 1) dX1_deletes_352 rfl ?_
      refine z_goto (tgt := 357) dX1_deletes_353 rfl ?_
      refine Z.pick [0, 1, 2] rfl ?_
      exact k
theorem sX1_deletes_357 {E : zE} {d : Nat} {Q : zO → zM → Prop} (M : zM) (l2 : Int32) (l3 : Int32) (s0 : Int32) (hw : cw M) (k : if s0 = 0 then (Z E YX1_deletes (d + 1) M [(2, vi l2), (3, vi l3)] 376 [vl (4 : Int64), vr (some (74, 4, 0)), vr (some (16, 0, 0))] Q) else (Z E YX1_deletes (d + 1) M [(2, vi l2), (3, vi l3)] 376 [vl (0 : Int64), vr (some (74, 4, 0)), vr (some (16, 0, 0))] Q)) : Z E YX1_deletes (d + 1) M [(0, vr (some (16, 0, 0))), (2, vi l2), (3, vi l3)] 357 [vi s0] Q := by
  refine z_ist dX1_deletes_357 (by decide) (lv' := [(0, vr (some (16, 0, 0))), (2, vi l2), (3, vi l3), (6, vi s0)]) rfl ?_
  refine z_aload_n dX1_deletes_359 rfl rfl ?_
  refine z_aload_n dX1_deletes_360 rfl rfl ?_
  refine z_getr dX1_deletes_361 fsX1_216_0 (show gr M 16 81 = some (74, 4, 0) from cw_at hw 42 rfl) ?_
  refine z_iload dX1_deletes_364 rfl ?_
  refine z_if_eq (tgt := 373) dX1_deletes_366 rfl (fun h_ => ?_) (fun h_ => ?_)
  · have k := zit h_ k
    refine z_ldc2 (v := 4) dX1_deletes_373 q3365 ?_
    refine Z.pick [1, 2] rfl ?_
    exact k
  · have k := zif h_ k
    refine z_lconst (v := 0) dX1_deletes_369 rfl ?_
    refine z_goto (tgt := 376) dX1_deletes_370 rfl ?_
    refine Z.pick [1, 2] rfl ?_
    exact k
theorem sX1_deletes_376 {E : zE} {d : Nat} {Q : zO → zM → Prop} (M : zM) (l2 : Int32) (l3 : Int32) (s0 : Int64) (hw : cw M) (k : if l3 = 0 then (Z E YX6_of d M (zargs 0 [vr (some (74, 4, 0)), vl (s0 ||| ((0 : Int32)).toInt64)]) 0 [] (zafter E YX1_deletes (d + 1) [] 392 3 [vr (some (16, 0, 0))] Q)) else (if l2 = 0 then (Z E YX6_of d M (zargs 0 [vr (some (74, 4, 0)), vl (s0 ||| ((0 : Int32)).toInt64)]) 0 [] (zafter E YX1_deletes (d + 1) [] 392 3 [vr (some (16, 0, 0))] Q)) else (Z E YX6_of d M (zargs 0 [vr (some (74, 4, 0)), vl (s0 ||| ((8 : Int32)).toInt64)]) 0 [] (zafter E YX1_deletes (d + 1) [] 392 3 [vr (some (16, 0, 0))] Q)))) : Z E YX1_deletes (d + 1) M [(2, vi l2), (3, vi l3)] 376 [vl s0, vr (some (74, 4, 0)), vr (some (16, 0, 0))] Q := by
  refine z_iload_n dX1_deletes_376 rfl rfl ?_
  refine z_if_eq (tgt := 389) dX1_deletes_377 rfl (fun h_ => ?_) (fun h_ => ?_)
  · have k := zit h_ k
    refine z_iconst (v := 0) dX1_deletes_389 rfl ?_
    refine z_i2l dX1_deletes_390 ?_
    refine z_lor dX1_deletes_391 ?_
    refine Z.pick [] rfl ?_
    exact z_callV (as := [vl (s0 ||| ((0 : Int32)).toInt64)]) (st := [vr (some (16, 0, 0))]) dX1_deletes_392 vsX1_892_4 (Nat.le_refl _) (Nat.le_of_ble_eq_true rfl) (Nat.le_of_ble_eq_true rfl) rfl k
  · have k := zif h_ k
    refine z_iload_n dX1_deletes_380 rfl rfl ?_
    refine z_if_eq (tgt := 389) dX1_deletes_381 rfl (fun h_ => ?_) (fun h_ => ?_)
    · have k := zit h_ k
      refine z_iconst (v := 0) dX1_deletes_389 rfl ?_
      refine z_i2l dX1_deletes_390 ?_
      refine z_lor dX1_deletes_391 ?_
      refine Z.pick [] rfl ?_
      exact z_callV (as := [vl (s0 ||| ((0 : Int32)).toInt64)]) (st := [vr (some (16, 0, 0))]) dX1_deletes_392 vsX1_892_4 (Nat.le_refl _) (Nat.le_of_ble_eq_true rfl) (Nat.le_of_ble_eq_true rfl) rfl k
    · have k := zif h_ k
      refine z_bipush (v := 8) dX1_deletes_384 rfl ?_
      refine z_goto (tgt := 390) dX1_deletes_386 rfl ?_
      refine z_i2l dX1_deletes_390 ?_
      refine z_lor dX1_deletes_391 ?_
      refine Z.pick [] rfl ?_
      exact z_callV (as := [vl (s0 ||| ((8 : Int32)).toInt64)]) (st := [vr (some (16, 0, 0))]) dX1_deletes_392 vsX1_892_4 (Nat.le_refl _) (Nat.le_of_ble_eq_true rfl) (Nat.le_of_ble_eq_true rfl) rfl k
theorem sX1_deletes_395 {E : zE} {d : Nat} {Q : zO → zM → Prop} (M : zM) (u0 : Option zP) (hw : cw M) (k : Z E YX1_nextWith d M (zargs 0 [vr (some (16, 0, 0)), vr u0]) 0 [] (zafter E YX1_deletes (d + 1) [] 395 3 [] Q)) : Z E YX1_deletes (d + 1) M [] 395 [vr u0, vr (some (16, 0, 0))] Q := by
  exact z_callV (as := [vr u0]) (st := []) dX1_deletes_395 vsX1_895_0 (Nat.le_refl _) (Nat.le_of_ble_eq_true rfl) (Nat.le_of_ble_eq_true rfl) rfl k
theorem sX1_deletes_398 {E : zE} {d : Nat} {Q : zO → zM → Prop} (M : zM)  (hw : cw M) (k : Q (.inl none) M) : Z E YX1_deletes (d + 1) M [] 398 [] Q := by
  exact z_vret dX1_deletes_398 rfl k
/-! ScriptTypes.unaryOf(I)V -/
theorem bX1_unaryOf_0 : zdec cX1_unaryOf 0 [(0, .aload_n 0, 1), (1, .getfield 216, 3), (4, .invokevirtual 796, 3), (7, .pop, 1), (8, .iload_n 1, 1), (9, .iconst 4, 1), (10, .if_icmp .ne 18, 3), (13, .aload_n 0, 1), (14, .aload_n 0, 1), (15, .getfield 206, 3), (18, .aload_n 0, 1), (19, .getfield 216, 3), (22, .invokevirtual 956, 3), (25, .goto 117, 3), (28, .aload_n 0, 1), (29, .getfield 206, 3)] = true := by decide +kernel
theorem dX1_unaryOf_0 : decode cX1_unaryOf 0 = .ok (.aload_n 0, 1) := zdec_at bX1_unaryOf_0 0 rfl
theorem dX1_unaryOf_1 : decode cX1_unaryOf 1 = .ok (.getfield 216, 3) := zdec_at bX1_unaryOf_0 1 rfl
theorem dX1_unaryOf_4 : decode cX1_unaryOf 4 = .ok (.invokevirtual 796, 3) := zdec_at bX1_unaryOf_0 2 rfl
theorem dX1_unaryOf_7 : decode cX1_unaryOf 7 = .ok (.pop, 1) := zdec_at bX1_unaryOf_0 3 rfl
theorem dX1_unaryOf_8 : decode cX1_unaryOf 8 = .ok (.iload_n 1, 1) := zdec_at bX1_unaryOf_0 4 rfl
theorem dX1_unaryOf_9 : decode cX1_unaryOf 9 = .ok (.iconst 4, 1) := zdec_at bX1_unaryOf_0 5 rfl
theorem dX1_unaryOf_10 : decode cX1_unaryOf 10 = .ok (.if_icmp .ne 18, 3) := zdec_at bX1_unaryOf_0 6 rfl
theorem dX1_unaryOf_13 : decode cX1_unaryOf 13 = .ok (.aload_n 0, 1) := zdec_at bX1_unaryOf_0 7 rfl
theorem dX1_unaryOf_14 : decode cX1_unaryOf 14 = .ok (.aload_n 0, 1) := zdec_at bX1_unaryOf_0 8 rfl
theorem dX1_unaryOf_15 : decode cX1_unaryOf 15 = .ok (.getfield 206, 3) := zdec_at bX1_unaryOf_0 9 rfl
theorem dX1_unaryOf_18 : decode cX1_unaryOf 18 = .ok (.aload_n 0, 1) := zdec_at bX1_unaryOf_0 10 rfl
theorem dX1_unaryOf_19 : decode cX1_unaryOf 19 = .ok (.getfield 216, 3) := zdec_at bX1_unaryOf_0 11 rfl
theorem dX1_unaryOf_22 : decode cX1_unaryOf 22 = .ok (.invokevirtual 956, 3) := zdec_at bX1_unaryOf_0 12 rfl
theorem dX1_unaryOf_25 : decode cX1_unaryOf 25 = .ok (.goto 117, 3) := zdec_at bX1_unaryOf_0 13 rfl
theorem dX1_unaryOf_28 : decode cX1_unaryOf 28 = .ok (.aload_n 0, 1) := zdec_at bX1_unaryOf_0 14 rfl
theorem dX1_unaryOf_29 : decode cX1_unaryOf 29 = .ok (.getfield 206, 3) := zdec_at bX1_unaryOf_0 15 rfl
theorem bX1_unaryOf_32 : zdec cX1_unaryOf 32 [(32, .invokevirtual 1006, 3), (35, .ifCond .eq 29, 3), (38, .aload_n 0, 1), (39, .iload_n 1, 1), (40, .aload_n 0, 1), (41, .getfield 206, 3), (44, .invokevirtual 1009, 3), (47, .aload_n 0, 1), (48, .getfield 206, 3), (51, .invokevirtual 1011, 3), (54, .invokevirtual 504, 3), (57, .aload_n 0, 1), (58, .invokevirtual 1013, 3), (61, .goto 81, 3), (64, .iload_n 1, 1), (65, .iconst 3, 1)] = true := by decide +kernel
theorem dX1_unaryOf_32 : decode cX1_unaryOf 32 = .ok (.invokevirtual 1006, 3) := zdec_at bX1_unaryOf_32 0 rfl
theorem dX1_unaryOf_35 : decode cX1_unaryOf 35 = .ok (.ifCond .eq 29, 3) := zdec_at bX1_unaryOf_32 1 rfl
theorem dX1_unaryOf_38 : decode cX1_unaryOf 38 = .ok (.aload_n 0, 1) := zdec_at bX1_unaryOf_32 2 rfl
theorem dX1_unaryOf_39 : decode cX1_unaryOf 39 = .ok (.iload_n 1, 1) := zdec_at bX1_unaryOf_32 3 rfl
theorem dX1_unaryOf_40 : decode cX1_unaryOf 40 = .ok (.aload_n 0, 1) := zdec_at bX1_unaryOf_32 4 rfl
theorem dX1_unaryOf_41 : decode cX1_unaryOf 41 = .ok (.getfield 206, 3) := zdec_at bX1_unaryOf_32 5 rfl
theorem dX1_unaryOf_44 : decode cX1_unaryOf 44 = .ok (.invokevirtual 1009, 3) := zdec_at bX1_unaryOf_32 6 rfl
theorem dX1_unaryOf_47 : decode cX1_unaryOf 47 = .ok (.aload_n 0, 1) := zdec_at bX1_unaryOf_32 7 rfl
theorem dX1_unaryOf_48 : decode cX1_unaryOf 48 = .ok (.getfield 206, 3) := zdec_at bX1_unaryOf_32 8 rfl
theorem dX1_unaryOf_51 : decode cX1_unaryOf 51 = .ok (.invokevirtual 1011, 3) := zdec_at bX1_unaryOf_32 9 rfl
theorem dX1_unaryOf_54 : decode cX1_unaryOf 54 = .ok (.invokevirtual 504, 3) := zdec_at bX1_unaryOf_32 10 rfl
theorem dX1_unaryOf_57 : decode cX1_unaryOf 57 = .ok (.aload_n 0, 1) := zdec_at bX1_unaryOf_32 11 rfl
theorem dX1_unaryOf_58 : decode cX1_unaryOf 58 = .ok (.invokevirtual 1013, 3) := zdec_at bX1_unaryOf_32 12 rfl
theorem dX1_unaryOf_61 : decode cX1_unaryOf 61 = .ok (.goto 81, 3) := zdec_at bX1_unaryOf_32 13 rfl
theorem dX1_unaryOf_64 : decode cX1_unaryOf 64 = .ok (.iload_n 1, 1) := zdec_at bX1_unaryOf_32 14 rfl
theorem dX1_unaryOf_65 : decode cX1_unaryOf 65 = .ok (.iconst 3, 1) := zdec_at bX1_unaryOf_32 15 rfl
theorem bX1_unaryOf_66 : zdec cX1_unaryOf 66 [(66, .if_icmp .ne 54, 3), (69, .aload_n 0, 1), (70, .aload_n 0, 1), (71, .getfield 206, 3), (74, .invokevirtual 976, 3), (77, .ifCond .eq 16, 3), (80, .aload_n 0, 1), (81, .getfield 216, 3), (84, .lconst 0, 1), (85, .lconst 0, 1), (86, .ldc2_w 1016, 3), (89, .invokevirtual 871, 3), (92, .pop, 1), (93, .aload_n 0, 1), (94, .aload_n 0, 1), (95, .getfield 206, 3)] = true := by decide +kernel
theorem dX1_unaryOf_66 : decode cX1_unaryOf 66 = .ok (.if_icmp .ne 54, 3) := zdec_at bX1_unaryOf_66 0 rfl
theorem dX1_unaryOf_69 : decode cX1_unaryOf 69 = .ok (.aload_n 0, 1) := zdec_at bX1_unaryOf_66 1 rfl
theorem dX1_unaryOf_70 : decode cX1_unaryOf 70 = .ok (.aload_n 0, 1) := zdec_at bX1_unaryOf_66 2 rfl
theorem dX1_unaryOf_71 : decode cX1_unaryOf 71 = .ok (.getfield 206, 3) := zdec_at bX1_unaryOf_66 3 rfl
theorem dX1_unaryOf_74 : decode cX1_unaryOf 74 = .ok (.invokevirtual 976, 3) := zdec_at bX1_unaryOf_66 4 rfl
theorem dX1_unaryOf_77 : decode cX1_unaryOf 77 = .ok (.ifCond .eq 16, 3) := zdec_at bX1_unaryOf_66 5 rfl
theorem dX1_unaryOf_80 : decode cX1_unaryOf 80 = .ok (.aload_n 0, 1) := zdec_at bX1_unaryOf_66 6 rfl
theorem dX1_unaryOf_81 : decode cX1_unaryOf 81 = .ok (.getfield 216, 3) := zdec_at bX1_unaryOf_66 7 rfl
theorem dX1_unaryOf_84 : decode cX1_unaryOf 84 = .ok (.lconst 0, 1) := zdec_at bX1_unaryOf_66 8 rfl
theorem dX1_unaryOf_85 : decode cX1_unaryOf 85 = .ok (.lconst 0, 1) := zdec_at bX1_unaryOf_66 9 rfl
theorem dX1_unaryOf_86 : decode cX1_unaryOf 86 = .ok (.ldc2_w 1016, 3) := zdec_at bX1_unaryOf_66 10 rfl
theorem dX1_unaryOf_89 : decode cX1_unaryOf 89 = .ok (.invokevirtual 871, 3) := zdec_at bX1_unaryOf_66 11 rfl
theorem dX1_unaryOf_92 : decode cX1_unaryOf 92 = .ok (.pop, 1) := zdec_at bX1_unaryOf_66 12 rfl
theorem dX1_unaryOf_93 : decode cX1_unaryOf 93 = .ok (.aload_n 0, 1) := zdec_at bX1_unaryOf_66 13 rfl
theorem dX1_unaryOf_94 : decode cX1_unaryOf 94 = .ok (.aload_n 0, 1) := zdec_at bX1_unaryOf_66 14 rfl
theorem dX1_unaryOf_95 : decode cX1_unaryOf 95 = .ok (.getfield 206, 3) := zdec_at bX1_unaryOf_66 15 rfl
theorem bX1_unaryOf_98 : zdec cX1_unaryOf 98 [(98, .invokevirtual 972, 3), (101, .ifCond .eq 41, 3), (104, .aload_n 0, 1), (105, .getfield 216, 3), (108, .lconst 0, 1), (109, .lconst 0, 1), (110, .ldc2_w 1018, 3), (113, .invokevirtual 871, 3), (116, .pop, 1), (117, .goto 25, 3), (120, .aload_n 0, 1), (121, .getfield 216, 3), (124, .iload_n 1, 1), (125, .iconst 2, 1), (126, .if_icmp .ne 9, 3), (129, .ldc2_w 609, 3)] = true := by decide +kernel
theorem dX1_unaryOf_98 : decode cX1_unaryOf 98 = .ok (.invokevirtual 972, 3) := zdec_at bX1_unaryOf_98 0 rfl
theorem dX1_unaryOf_101 : decode cX1_unaryOf 101 = .ok (.ifCond .eq 41, 3) := zdec_at bX1_unaryOf_98 1 rfl
theorem dX1_unaryOf_104 : decode cX1_unaryOf 104 = .ok (.aload_n 0, 1) := zdec_at bX1_unaryOf_98 2 rfl
theorem dX1_unaryOf_105 : decode cX1_unaryOf 105 = .ok (.getfield 216, 3) := zdec_at bX1_unaryOf_98 3 rfl
theorem dX1_unaryOf_108 : decode cX1_unaryOf 108 = .ok (.lconst 0, 1) := zdec_at bX1_unaryOf_98 4 rfl
theorem dX1_unaryOf_109 : decode cX1_unaryOf 109 = .ok (.lconst 0, 1) := zdec_at bX1_unaryOf_98 5 rfl
theorem dX1_unaryOf_110 : decode cX1_unaryOf 110 = .ok (.ldc2_w 1018, 3) := zdec_at bX1_unaryOf_98 6 rfl
theorem dX1_unaryOf_113 : decode cX1_unaryOf 113 = .ok (.invokevirtual 871, 3) := zdec_at bX1_unaryOf_98 7 rfl
theorem dX1_unaryOf_116 : decode cX1_unaryOf 116 = .ok (.pop, 1) := zdec_at bX1_unaryOf_98 8 rfl
theorem dX1_unaryOf_117 : decode cX1_unaryOf 117 = .ok (.goto 25, 3) := zdec_at bX1_unaryOf_98 9 rfl
theorem dX1_unaryOf_120 : decode cX1_unaryOf 120 = .ok (.aload_n 0, 1) := zdec_at bX1_unaryOf_98 10 rfl
theorem dX1_unaryOf_121 : decode cX1_unaryOf 121 = .ok (.getfield 216, 3) := zdec_at bX1_unaryOf_98 11 rfl
theorem dX1_unaryOf_124 : decode cX1_unaryOf 124 = .ok (.iload_n 1, 1) := zdec_at bX1_unaryOf_98 12 rfl
theorem dX1_unaryOf_125 : decode cX1_unaryOf 125 = .ok (.iconst 2, 1) := zdec_at bX1_unaryOf_98 13 rfl
theorem dX1_unaryOf_126 : decode cX1_unaryOf 126 = .ok (.if_icmp .ne 9, 3) := zdec_at bX1_unaryOf_98 14 rfl
theorem dX1_unaryOf_129 : decode cX1_unaryOf 129 = .ok (.ldc2_w 609, 3) := zdec_at bX1_unaryOf_98 15 rfl
theorem bX1_unaryOf_132 : zdec cX1_unaryOf 132 [(132, .goto 6, 3), (135, .ldc2_w 1020, 3), (138, .invokevirtual 892, 3), (141, .pop, 1), (142, .return_, 1)] = true := by decide +kernel
theorem dX1_unaryOf_132 : decode cX1_unaryOf 132 = .ok (.goto 6, 3) := zdec_at bX1_unaryOf_132 0 rfl
theorem dX1_unaryOf_135 : decode cX1_unaryOf 135 = .ok (.ldc2_w 1020, 3) := zdec_at bX1_unaryOf_132 1 rfl
theorem dX1_unaryOf_138 : decode cX1_unaryOf 138 = .ok (.invokevirtual 892, 3) := zdec_at bX1_unaryOf_132 2 rfl
theorem dX1_unaryOf_141 : decode cX1_unaryOf 141 = .ok (.pop, 1) := zdec_at bX1_unaryOf_132 3 rfl
theorem dX1_unaryOf_142 : decode cX1_unaryOf 142 = .ok (.return_, 1) := zdec_at bX1_unaryOf_132 4 rfl
theorem sX1_unaryOf_0 {E : zE} {d : Nat} {Q : zO → zM → Prop} (M : zM) (l1 : Int32) (hw : cw M) (k : Z E YX6_empty d M (zargs 0 [vr (some (74, 4, 0))]) 0 [] (zafter E YX1_unaryOf (d + 1) [(0, vr (some (16, 0, 0))), (1, vi l1)] 4 3 [] Q)) : Z E YX1_unaryOf (d + 1) M [(0, vr (some (16, 0, 0))), (1, vi l1)] 0 [] Q := by
  refine z_aload_n dX1_unaryOf_0 rfl rfl ?_
  refine z_getr dX1_unaryOf_1 fsX1_216_0 (show gr M 16 81 = some (74, 4, 0) from cw_at hw 42 rfl) ?_
  exact z_callV (as := []) (st := []) dX1_unaryOf_4 vsX1_796_4 (Nat.le_refl _) (Nat.le_of_ble_eq_true rfl) (Nat.le_of_ble_eq_true rfl) rfl k
theorem sX1_unaryOf_7 {E : zE} {d : Nat} {Q : zO → zM → Prop} (M : zM) (l1 : Int32) (u0 : Option zP) (hw : cw M) (k : if l1 = (4 : Int32) then (Z E YX1_types d M (zargs 0 [vr (some (16, 0, 0)), vr (some (71, 4, 0)), vr (some (74, 4, 0))]) 0 [] (zafter E YX1_unaryOf (d + 1) [] 22 3 [] Q)) else (Z E YX6_isAlone d M (zargs 0 [vr (some (71, 4, 0))]) 0 [] (zafter E YX1_unaryOf (d + 1) [(0, vr (some (16, 0, 0))), (1, vi l1)] 32 3 [] Q))) : Z E YX1_unaryOf (d + 1) M [(0, vr (some (16, 0, 0))), (1, vi l1)] 7 [vr u0] Q := by
  refine z_pop dX1_unaryOf_7 rfl ?_
  refine z_iload_n dX1_unaryOf_8 rfl rfl ?_
  refine z_iconst (v := 4) dX1_unaryOf_9 rfl ?_
  refine z_icmp_ne (tgt := 28) dX1_unaryOf_10 rfl (fun h_ => ?_) (fun h_ => ?_)
  · have k := zif h_ k
    refine z_aload_n dX1_unaryOf_28 rfl rfl ?_
    refine z_getr dX1_unaryOf_29 fsX1_206_0 (show gr M 16 78 = some (71, 4, 0) from cw_at hw 39 rfl) ?_
    exact z_callV (as := []) (st := []) dX1_unaryOf_32 vsX1_1006_4 (Nat.le_refl _) (Nat.le_of_ble_eq_true rfl) (Nat.le_of_ble_eq_true rfl) rfl k
  · have k := zit h_ k
    refine z_aload_n dX1_unaryOf_13 rfl rfl ?_
    refine z_aload_n dX1_unaryOf_14 rfl rfl ?_
    refine z_getr dX1_unaryOf_15 fsX1_206_0 (show gr M 16 78 = some (71, 4, 0) from cw_at hw 39 rfl) ?_
    refine z_aload_n dX1_unaryOf_18 rfl rfl ?_
    refine z_getr dX1_unaryOf_19 fsX1_216_0 (show gr M 16 81 = some (74, 4, 0) from cw_at hw 42 rfl) ?_
    refine Z.pick [] rfl ?_
    exact z_callV (as := [vr (some (71, 4, 0)), vr (some (74, 4, 0))]) (st := []) dX1_unaryOf_22 vsX1_956_0 (Nat.le_refl _) (Nat.le_of_ble_eq_true rfl) (Nat.le_of_ble_eq_true rfl) rfl k
theorem sX1_unaryOf_25 {E : zE} {d : Nat} {Q : zO → zM → Prop} (M : zM)  (hw : cw M) (k : Q (.inl none) M) : Z E YX1_unaryOf (d + 1) M [] 25 [] Q := by
  refine z_goto (tgt := 142) dX1_unaryOf_25 rfl ?_
  exact z_vret dX1_unaryOf_142 rfl k
theorem sX1_unaryOf_35 {E : zE} {d : Nat} {Q : zO → zM → Prop} (M : zM) (l1 : Int32) (s0 : Int32) (hw : cw M) (k : if s0 = 0 then (if l1 = (3 : Int32) then (Z E YX1_mayBeFalse d M (zargs 0 [vr (some (16, 0, 0)), vr (some (71, 4, 0))]) 0 [] (zafter E YX1_unaryOf (d + 1) [(0, vr (some (16, 0, 0)))] 74 3 [] Q)) else (if l1 = (2 : Int32) then (Z E YX6_of d M (zargs 0 [vr (some (74, 4, 0)), vl (64 : Int64)]) 0 [] (zafter E YX1_unaryOf (d + 1) [] 138 3 [] Q)) else (Z E YX6_of d M (zargs 0 [vr (some (74, 4, 0)), vl (80 : Int64)]) 0 [] (zafter E YX1_unaryOf (d + 1) [] 138 3 [] Q)))) else (Z E YX6_sort d M (zargs 0 [vr (some (71, 4, 0))]) 0 [] (zafter E YX1_unaryOf (d + 1) [(0, vr (some (16, 0, 0)))] 44 3 [vi l1, vr (some (16, 0, 0))] Q))) : Z E YX1_unaryOf (d + 1) M [(0, vr (some (16, 0, 0))), (1, vi l1)] 35 [vi s0] Q := by
  refine z_if_eq (tgt := 64) dX1_unaryOf_35 rfl (fun h_ => ?_) (fun h_ => ?_)
  · have k := zit h_ k
    refine z_iload_n dX1_unaryOf_64 rfl rfl ?_
    refine z_iconst (v := 3) dX1_unaryOf_65 rfl ?_
    refine z_icmp_ne (tgt := 120) dX1_unaryOf_66 rfl (fun h_ => ?_) (fun h_ => ?_)
    · have k := zif h_ k
      refine z_aload_n dX1_unaryOf_120 rfl rfl ?_
      refine z_getr dX1_unaryOf_121 fsX1_216_0 (show gr M 16 81 = some (74, 4, 0) from cw_at hw 42 rfl) ?_
      refine z_iload_n dX1_unaryOf_124 rfl rfl ?_
      refine z_iconst (v := 2) dX1_unaryOf_125 rfl ?_
      refine z_icmp_ne (tgt := 135) dX1_unaryOf_126 rfl (fun h_ => ?_) (fun h_ => ?_)
      · have k := zif h_ k
        refine z_ldc2 (v := 80) dX1_unaryOf_135 q3393 ?_
        refine Z.pick [] rfl ?_
        exact z_callV (as := [vl (80 : Int64)]) (st := []) dX1_unaryOf_138 vsX1_892_4 (Nat.le_refl _) (Nat.le_of_ble_eq_true rfl) (Nat.le_of_ble_eq_true rfl) rfl k
      · have k := zit h_ k
        refine z_ldc2 (v := 64) dX1_unaryOf_129 q2567 ?_
        refine z_goto (tgt := 138) dX1_unaryOf_132 rfl ?_
        refine Z.pick [] rfl ?_
        exact z_callV (as := [vl (64 : Int64)]) (st := []) dX1_unaryOf_138 vsX1_892_4 (Nat.le_refl _) (Nat.le_of_ble_eq_true rfl) (Nat.le_of_ble_eq_true rfl) rfl k
    · have k := zit h_ k
      refine z_aload_n dX1_unaryOf_69 rfl rfl ?_
      refine z_aload_n dX1_unaryOf_70 rfl rfl ?_
      refine z_getr dX1_unaryOf_71 fsX1_206_0 (show gr M 16 78 = some (71, 4, 0) from cw_at hw 39 rfl) ?_
      refine Z.pick [0] rfl ?_
      exact z_callV (as := [vr (some (71, 4, 0))]) (st := []) dX1_unaryOf_74 vsX1_976_0 (Nat.le_refl _) (Nat.le_of_ble_eq_true rfl) (Nat.le_of_ble_eq_true rfl) rfl k
  · have k := zif h_ k
    refine z_aload_n dX1_unaryOf_38 rfl rfl ?_
    refine z_iload_n dX1_unaryOf_39 rfl rfl ?_
    refine z_aload_n dX1_unaryOf_40 rfl rfl ?_
    refine z_getr dX1_unaryOf_41 fsX1_206_0 (show gr M 16 78 = some (71, 4, 0) from cw_at hw 39 rfl) ?_
    refine Z.pick [0] rfl ?_
    exact z_callV (as := []) (st := [vi l1, vr (some (16, 0, 0))]) dX1_unaryOf_44 vsX1_1009_4 (Nat.le_refl _) (Nat.le_of_ble_eq_true rfl) (Nat.le_of_ble_eq_true rfl) rfl k
theorem sX1_unaryOf_47 {E : zE} {d : Nat} {Q : zO → zM → Prop} (M : zM) (s0 : Int32) (s1 : Int32) (hw : cw M) (k : Z E YX6_value d M (zargs 0 [vr (some (71, 4, 0))]) 0 [] (zafter E YX1_unaryOf (d + 1) [(0, vr (some (16, 0, 0)))] 51 3 [vi s0, vi s1, vr (some (16, 0, 0))] Q)) : Z E YX1_unaryOf (d + 1) M [(0, vr (some (16, 0, 0)))] 47 [vi s0, vi s1, vr (some (16, 0, 0))] Q := by
  refine z_aload_n dX1_unaryOf_47 rfl rfl ?_
  refine z_getr dX1_unaryOf_48 fsX1_206_0 (show gr M 16 78 = some (71, 4, 0) from cw_at hw 39 rfl) ?_
  exact z_callV (as := []) (st := [vi s0, vi s1, vr (some (16, 0, 0))]) dX1_unaryOf_51 vsX1_1011_4 (Nat.le_refl _) (Nat.le_of_ble_eq_true rfl) (Nat.le_of_ble_eq_true rfl) rfl k
theorem sX1_unaryOf_54 {E : zE} {d : Nat} {Q : zO → zM → Prop} (M : zM) (s0 : Int32) (s1 : Int32) (s2 : Int32) (hw : cw M) (k : Z E YX1_unary d M (zargs 0 [vr (some (16, 0, 0)), vi s2, vi s1, vi s0]) 0 [] (zafter E YX1_unaryOf (d + 1) [(0, vr (some (16, 0, 0)))] 54 3 [] Q)) : Z E YX1_unaryOf (d + 1) M [(0, vr (some (16, 0, 0)))] 54 [vi s0, vi s1, vi s2, vr (some (16, 0, 0))] Q := by
  exact z_callV (as := [vi s2, vi s1, vi s0]) (st := []) dX1_unaryOf_54 vsX1_504_0 (Nat.le_refl _) (Nat.le_of_ble_eq_true rfl) (Nat.le_of_ble_eq_true rfl) rfl k
theorem sX1_unaryOf_57 {E : zE} {d : Nat} {Q : zO → zM → Prop} (M : zM)  (hw : cw M) (k : Z E YX1_fold d M (zargs 0 [vr (some (16, 0, 0))]) 0 [] (zafter E YX1_unaryOf (d + 1) [] 58 3 [] Q)) : Z E YX1_unaryOf (d + 1) M [(0, vr (some (16, 0, 0)))] 57 [] Q := by
  refine z_aload_n dX1_unaryOf_57 rfl rfl ?_
  refine Z.pick [] rfl ?_
  exact z_callV (as := []) (st := []) dX1_unaryOf_58 vsX1_1013_0 (Nat.le_refl _) (Nat.le_of_ble_eq_true rfl) (Nat.le_of_ble_eq_true rfl) rfl k
theorem sX1_unaryOf_61 {E : zE} {d : Nat} {Q : zO → zM → Prop} (M : zM)  (hw : cw M) (k : Q (.inl none) M) : Z E YX1_unaryOf (d + 1) M [] 61 [] Q := by
  refine z_goto (tgt := 142) dX1_unaryOf_61 rfl ?_
  exact z_vret dX1_unaryOf_142 rfl k
theorem sX1_unaryOf_77 {E : zE} {d : Nat} {Q : zO → zM → Prop} (M : zM) (s0 : Int32) (hw : cw M) (k : if s0 = 0 then (Z E YX1_mayBeTrue d M (zargs 0 [vr (some (16, 0, 0)), vr (some (71, 4, 0))]) 0 [] (zafter E YX1_unaryOf (d + 1) [(0, vr (some (16, 0, 0)))] 98 3 [] Q)) else (Z E YX6_join3 d M (zargs 0 [vr (some (74, 4, 0)), vl (0 : Int64), vl (0 : Int64), vl (4 : Int64)]) 0 [] (zafter E YX1_unaryOf (d + 1) [(0, vr (some (16, 0, 0)))] 89 3 [] Q))) : Z E YX1_unaryOf (d + 1) M [(0, vr (some (16, 0, 0)))] 77 [vi s0] Q := by
  refine z_if_eq (tgt := 93) dX1_unaryOf_77 rfl (fun h_ => ?_) (fun h_ => ?_)
  · have k := zit h_ k
    refine z_aload_n dX1_unaryOf_93 rfl rfl ?_
    refine z_aload_n dX1_unaryOf_94 rfl rfl ?_
    refine z_getr dX1_unaryOf_95 fsX1_206_0 (show gr M 16 78 = some (71, 4, 0) from cw_at hw 39 rfl) ?_
    exact z_callV (as := [vr (some (71, 4, 0))]) (st := []) dX1_unaryOf_98 vsX1_972_0 (Nat.le_refl _) (Nat.le_of_ble_eq_true rfl) (Nat.le_of_ble_eq_true rfl) rfl k
  · have k := zif h_ k
    refine z_aload_n dX1_unaryOf_80 rfl rfl ?_
    refine z_getr dX1_unaryOf_81 fsX1_216_0 (show gr M 16 81 = some (74, 4, 0) from cw_at hw 42 rfl) ?_
    refine z_lconst (v := 0) dX1_unaryOf_84 rfl ?_
    refine z_lconst (v := 0) dX1_unaryOf_85 rfl ?_
    refine z_ldc2 (v := 4) dX1_unaryOf_86 q3365 ?_
    exact z_callV (as := [vl (0 : Int64), vl (0 : Int64), vl (4 : Int64)]) (st := []) dX1_unaryOf_89 vsX1_871_4 (Nat.le_refl _) (Nat.le_of_ble_eq_true rfl) (Nat.le_of_ble_eq_true rfl) rfl k
theorem sX1_unaryOf_92 {E : zE} {d : Nat} {Q : zO → zM → Prop} (M : zM) (u0 : Option zP) (hw : cw M) (k : Z E YX1_mayBeTrue d M (zargs 0 [vr (some (16, 0, 0)), vr (some (71, 4, 0))]) 0 [] (zafter E YX1_unaryOf (d + 1) [(0, vr (some (16, 0, 0)))] 98 3 [] Q)) : Z E YX1_unaryOf (d + 1) M [(0, vr (some (16, 0, 0)))] 92 [vr u0] Q := by
  refine z_pop dX1_unaryOf_92 rfl ?_
  refine z_aload_n dX1_unaryOf_93 rfl rfl ?_
  refine z_aload_n dX1_unaryOf_94 rfl rfl ?_
  refine z_getr dX1_unaryOf_95 fsX1_206_0 (show gr M 16 78 = some (71, 4, 0) from cw_at hw 39 rfl) ?_
  exact z_callV (as := [vr (some (71, 4, 0))]) (st := []) dX1_unaryOf_98 vsX1_972_0 (Nat.le_refl _) (Nat.le_of_ble_eq_true rfl) (Nat.le_of_ble_eq_true rfl) rfl k
theorem sX1_unaryOf_101 {E : zE} {d : Nat} {Q : zO → zM → Prop} (M : zM) (s0 : Int32) (hw : cw M) (k : if s0 = 0 then (Q (.inl none) M) else (Z E YX6_join3 d M (zargs 0 [vr (some (74, 4, 0)), vl (0 : Int64), vl (0 : Int64), vl (8 : Int64)]) 0 [] (zafter E YX1_unaryOf (d + 1) [] 113 3 [] Q))) : Z E YX1_unaryOf (d + 1) M [(0, vr (some (16, 0, 0)))] 101 [vi s0] Q := by
  refine z_if_eq (tgt := 142) dX1_unaryOf_101 rfl (fun h_ => ?_) (fun h_ => ?_)
  · have k := zit h_ k
    exact z_vret dX1_unaryOf_142 rfl k
  · have k := zif h_ k
    refine z_aload_n dX1_unaryOf_104 rfl rfl ?_
    refine z_getr dX1_unaryOf_105 fsX1_216_0 (show gr M 16 81 = some (74, 4, 0) from cw_at hw 42 rfl) ?_
    refine z_lconst (v := 0) dX1_unaryOf_108 rfl ?_
    refine z_lconst (v := 0) dX1_unaryOf_109 rfl ?_
    refine z_ldc2 (v := 8) dX1_unaryOf_110 q3392 ?_
    refine Z.pick [] rfl ?_
    exact z_callV (as := [vl (0 : Int64), vl (0 : Int64), vl (8 : Int64)]) (st := []) dX1_unaryOf_113 vsX1_871_4 (Nat.le_refl _) (Nat.le_of_ble_eq_true rfl) (Nat.le_of_ble_eq_true rfl) rfl k
theorem sX1_unaryOf_116 {E : zE} {d : Nat} {Q : zO → zM → Prop} (M : zM) (u0 : Option zP) (hw : cw M) (k : Q (.inl none) M) : Z E YX1_unaryOf (d + 1) M [] 116 [vr u0] Q := by
  refine z_pop dX1_unaryOf_116 rfl ?_
  refine z_goto (tgt := 142) dX1_unaryOf_117 rfl ?_
  exact z_vret dX1_unaryOf_142 rfl k
theorem sX1_unaryOf_141 {E : zE} {d : Nat} {Q : zO → zM → Prop} (M : zM) (u0 : Option zP) (hw : cw M) (k : Q (.inl none) M) : Z E YX1_unaryOf (d + 1) M [] 141 [vr u0] Q := by
  refine z_pop dX1_unaryOf_141 rfl ?_
  exact z_vret dX1_unaryOf_142 rfl k
