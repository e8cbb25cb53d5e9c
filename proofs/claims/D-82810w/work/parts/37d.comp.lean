/-! ScriptTypes.fold()V -/
theorem bX1_fold_0 : zdec cX1_fold 0 [(0, .aload_n 0, 1), (1, .getfield 216, 3), (4, .aload_n 0, 1), (5, .getfield 389, 3), (8, .iconst 5, 1), (9, .if_icmp .ne 13, 3), (12, .aload_n 0, 1), (13, .getfield 392, 3), (16, .invokestatic 889, 3), (19, .goto 28, 3), (22, .aload_n 0, 1), (23, .getfield 389, 3), (26, .bipush 6, 2), (28, .if_icmp .ne 13, 3), (31, .aload_n 0, 1), (32, .getfield 392, 3)] = true := by decide +kernel
theorem dX1_fold_0 : decode cX1_fold 0 = .ok (.aload_n 0, 1) := zdec_at bX1_fold_0 0 rfl
theorem dX1_fold_1 : decode cX1_fold 1 = .ok (.getfield 216, 3) := zdec_at bX1_fold_0 1 rfl
theorem dX1_fold_4 : decode cX1_fold 4 = .ok (.aload_n 0, 1) := zdec_at bX1_fold_0 2 rfl
theorem dX1_fold_5 : decode cX1_fold 5 = .ok (.getfield 389, 3) := zdec_at bX1_fold_0 3 rfl
theorem dX1_fold_8 : decode cX1_fold 8 = .ok (.iconst 5, 1) := zdec_at bX1_fold_0 4 rfl
theorem dX1_fold_9 : decode cX1_fold 9 = .ok (.if_icmp .ne 13, 3) := zdec_at bX1_fold_0 5 rfl
theorem dX1_fold_12 : decode cX1_fold 12 = .ok (.aload_n 0, 1) := zdec_at bX1_fold_0 6 rfl
theorem dX1_fold_13 : decode cX1_fold 13 = .ok (.getfield 392, 3) := zdec_at bX1_fold_0 7 rfl
theorem dX1_fold_16 : decode cX1_fold 16 = .ok (.invokestatic 889, 3) := zdec_at bX1_fold_0 8 rfl
theorem dX1_fold_19 : decode cX1_fold 19 = .ok (.goto 28, 3) := zdec_at bX1_fold_0 9 rfl
theorem dX1_fold_22 : decode cX1_fold 22 = .ok (.aload_n 0, 1) := zdec_at bX1_fold_0 10 rfl
theorem dX1_fold_23 : decode cX1_fold 23 = .ok (.getfield 389, 3) := zdec_at bX1_fold_0 11 rfl
theorem dX1_fold_26 : decode cX1_fold 26 = .ok (.bipush 6, 2) := zdec_at bX1_fold_0 12 rfl
theorem dX1_fold_28 : decode cX1_fold 28 = .ok (.if_icmp .ne 13, 3) := zdec_at bX1_fold_0 13 rfl
theorem dX1_fold_31 : decode cX1_fold 31 = .ok (.aload_n 0, 1) := zdec_at bX1_fold_0 14 rfl
theorem dX1_fold_32 : decode cX1_fold 32 = .ok (.getfield 392, 3) := zdec_at bX1_fold_0 15 rfl
theorem bX1_fold_35 : zdec cX1_fold 35 [(35, .invokestatic 741, 3), (38, .goto 9, 3), (41, .lconst 1, 1), (42, .aload_n 0, 1), (43, .getfield 389, 3), (46, .lshl, 1), (47, .invokevirtual 892, 3), (50, .pop, 1), (51, .return_, 1)] = true := by decide +kernel
theorem dX1_fold_35 : decode cX1_fold 35 = .ok (.invokestatic 741, 3) := zdec_at bX1_fold_35 0 rfl
theorem dX1_fold_38 : decode cX1_fold 38 = .ok (.goto 9, 3) := zdec_at bX1_fold_35 1 rfl
theorem dX1_fold_41 : decode cX1_fold 41 = .ok (.lconst 1, 1) := zdec_at bX1_fold_35 2 rfl
theorem dX1_fold_42 : decode cX1_fold 42 = .ok (.aload_n 0, 1) := zdec_at bX1_fold_35 3 rfl
theorem dX1_fold_43 : decode cX1_fold 43 = .ok (.getfield 389, 3) := zdec_at bX1_fold_35 4 rfl
theorem dX1_fold_46 : decode cX1_fold 46 = .ok (.lshl, 1) := zdec_at bX1_fold_35 5 rfl
theorem dX1_fold_47 : decode cX1_fold 47 = .ok (.invokevirtual 892, 3) := zdec_at bX1_fold_35 6 rfl
theorem dX1_fold_50 : decode cX1_fold 50 = .ok (.pop, 1) := zdec_at bX1_fold_35 7 rfl
theorem dX1_fold_51 : decode cX1_fold 51 = .ok (.return_, 1) := zdec_at bX1_fold_35 8 rfl
theorem sX1_fold_0 {E : zE} {d : Nat} {Q : zO → zM → Prop} (M : zM)  (hw : cw M) (k : if (gi M 16 33) = (5 : Int32) then (Z E YX1_numberSet d M (zargs 0 [vi (gi M 16 32)]) 0 [] (zafter E YX1_fold (d + 1) [] 16 3 [vr (some (74, 4, 0))] Q)) else (if (gi M 16 33) = (6 : Int32) then (Z E YX1_textSet d M (zargs 0 [vi (gi M 16 32)]) 0 [] (zafter E YX1_fold (d + 1) [] 35 3 [vr (some (74, 4, 0))] Q)) else (Z E YX6_of d M (zargs 0 [vr (some (74, 4, 0)), vl (zls (1 : Int64) (gi M 16 33))]) 0 [] (zafter E YX1_fold (d + 1) [] 47 3 [] Q)))) : Z E YX1_fold (d + 1) M [(0, vr (some (16, 0, 0)))] 0 [] Q := by
  refine z_aload_n dX1_fold_0 rfl rfl ?_
  refine z_getr dX1_fold_1 fsX1_216_0 (show gr M 16 81 = some (74, 4, 0) from cw_at hw 42 rfl) ?_
  refine z_aload_n dX1_fold_4 rfl rfl ?_
  refine z_geti dX1_fold_5 fsX1_389_0 ?_
  refine z_iconst (v := 5) dX1_fold_8 rfl ?_
  refine z_icmp_ne (tgt := 22) dX1_fold_9 rfl (fun h_ => ?_) (fun h_ => ?_)
  · have k := zif h_ k
    refine z_aload_n dX1_fold_22 rfl rfl ?_
    refine z_geti dX1_fold_23 fsX1_389_0 ?_
    refine z_bipush (v := 6) dX1_fold_26 rfl ?_
    refine z_icmp_ne (tgt := 41) dX1_fold_28 rfl (fun h_ => ?_) (fun h_ => ?_)
    · have k := zif h_ k
      refine z_lconst (v := 1) dX1_fold_41 rfl ?_
      refine z_aload_n dX1_fold_42 rfl rfl ?_
      refine z_geti dX1_fold_43 fsX1_389_0 ?_
      refine z_lshl dX1_fold_46 ?_
      refine Z.pick [] rfl ?_
      exact z_callV (as := [vl (zls (1 : Int64) (gi M 16 33))]) (st := []) dX1_fold_47 vsX1_892_4 (Nat.le_refl _) (Nat.le_of_ble_eq_true rfl) (Nat.le_of_ble_eq_true rfl) rfl k
    · have k := zit h_ k
      refine z_aload_n dX1_fold_31 rfl rfl ?_
      refine z_geti dX1_fold_32 fsX1_392_0 ?_
      refine Z.pick [] rfl ?_
      exact z_callS (as := [vi (gi M 16 32)]) (st := [vr (some (74, 4, 0))]) dX1_fold_35 ssX1_741 (Nat.le_refl _) (Nat.le_of_ble_eq_true rfl) (Nat.le_of_ble_eq_true rfl) rfl k
  · have k := zit h_ k
    refine z_aload_n dX1_fold_12 rfl rfl ?_
    refine z_geti dX1_fold_13 fsX1_392_0 ?_
    refine Z.pick [] rfl ?_
    exact z_callS (as := [vi (gi M 16 32)]) (st := [vr (some (74, 4, 0))]) dX1_fold_16 ssX1_889 (Nat.le_refl _) (Nat.le_of_ble_eq_true rfl) (Nat.le_of_ble_eq_true rfl) rfl k
theorem sX1_fold_19 {E : zE} {d : Nat} {Q : zO → zM → Prop} (M : zM) (s0 : Int64) (hw : cw M) (k : Z E YX6_of d M (zargs 0 [vr (some (74, 4, 0)), vl s0]) 0 [] (zafter E YX1_fold (d + 1) [] 47 3 [] Q)) : Z E YX1_fold (d + 1) M [] 19 [vl s0, vr (some (74, 4, 0))] Q := by
  refine z_goto (tgt := 47) dX1_fold_19 rfl ?_
  exact z_callV (as := [vl s0]) (st := []) dX1_fold_47 vsX1_892_4 (Nat.le_refl _) (Nat.le_of_ble_eq_true rfl) (Nat.le_of_ble_eq_true rfl) rfl k
theorem sX1_fold_38 {E : zE} {d : Nat} {Q : zO → zM → Prop} (M : zM) (s0 : Int64) (hw : cw M) (k : Z E YX6_of d M (zargs 0 [vr (some (74, 4, 0)), vl s0]) 0 [] (zafter E YX1_fold (d + 1) [] 47 3 [] Q)) : Z E YX1_fold (d + 1) M [] 38 [vl s0, vr (some (74, 4, 0))] Q := by
  refine z_goto (tgt := 47) dX1_fold_38 rfl ?_
  exact z_callV (as := [vl s0]) (st := []) dX1_fold_47 vsX1_892_4 (Nat.le_refl _) (Nat.le_of_ble_eq_true rfl) (Nat.le_of_ble_eq_true rfl) rfl k
theorem sX1_fold_50 {E : zE} {d : Nat} {Q : zO → zM → Prop} (M : zM) (u0 : Option zP) (hw : cw M) (k : Q (.inl none) M) : Z E YX1_fold (d + 1) M [] 50 [vr u0] Q := by
  refine z_pop dX1_fold_50 rfl ?_
  exact z_vret dX1_fold_51 rfl k
/-! ScriptTypes.mayBeFalse(LScriptTypes$Bag;)Z -/
theorem bX1_mayBeFalse_0 : zdec cX1_mayBeFalse 0 [(0, .aload_n 1, 1), (1, .sipush 347, 3), (4, .invokevirtual 831, 3), (7, .ifCond .ne 38, 3), (10, .aload_n 1, 1), (11, .bipush 32, 2), (13, .invokevirtual 831, 3), (16, .ifCond .eq 10, 3), (19, .aload_n 1, 1), (20, .invokevirtual 843, 3), (23, .ifCond .eq 22, 3), (26, .aload_n 1, 1), (27, .sipush 128, 3), (30, .invokevirtual 831, 3), (33, .ifCond .eq 16, 3), (36, .aload_n 1, 1)] = true := by decide +kernel
theorem dX1_mayBeFalse_0 : decode cX1_mayBeFalse 0 = .ok (.aload_n 1, 1) := zdec_at bX1_mayBeFalse_0 0 rfl
theorem dX1_mayBeFalse_1 : decode cX1_mayBeFalse 1 = .ok (.sipush 347, 3) := zdec_at bX1_mayBeFalse_0 1 rfl
theorem dX1_mayBeFalse_4 : decode cX1_mayBeFalse 4 = .ok (.invokevirtual 831, 3) := zdec_at bX1_mayBeFalse_0 2 rfl
theorem dX1_mayBeFalse_7 : decode cX1_mayBeFalse 7 = .ok (.ifCond .ne 38, 3) := zdec_at bX1_mayBeFalse_0 3 rfl
theorem dX1_mayBeFalse_10 : decode cX1_mayBeFalse 10 = .ok (.aload_n 1, 1) := zdec_at bX1_mayBeFalse_0 4 rfl
theorem dX1_mayBeFalse_11 : decode cX1_mayBeFalse 11 = .ok (.bipush 32, 2) := zdec_at bX1_mayBeFalse_0 5 rfl
theorem dX1_mayBeFalse_13 : decode cX1_mayBeFalse 13 = .ok (.invokevirtual 831, 3) := zdec_at bX1_mayBeFalse_0 6 rfl
theorem dX1_mayBeFalse_16 : decode cX1_mayBeFalse 16 = .ok (.ifCond .eq 10, 3) := zdec_at bX1_mayBeFalse_0 7 rfl
theorem dX1_mayBeFalse_19 : decode cX1_mayBeFalse 19 = .ok (.aload_n 1, 1) := zdec_at bX1_mayBeFalse_0 8 rfl
theorem dX1_mayBeFalse_20 : decode cX1_mayBeFalse 20 = .ok (.invokevirtual 843, 3) := zdec_at bX1_mayBeFalse_0 9 rfl
theorem dX1_mayBeFalse_23 : decode cX1_mayBeFalse 23 = .ok (.ifCond .eq 22, 3) := zdec_at bX1_mayBeFalse_0 10 rfl
theorem dX1_mayBeFalse_26 : decode cX1_mayBeFalse 26 = .ok (.aload_n 1, 1) := zdec_at bX1_mayBeFalse_0 11 rfl
theorem dX1_mayBeFalse_27 : decode cX1_mayBeFalse 27 = .ok (.sipush 128, 3) := zdec_at bX1_mayBeFalse_0 12 rfl
theorem dX1_mayBeFalse_30 : decode cX1_mayBeFalse 30 = .ok (.invokevirtual 831, 3) := zdec_at bX1_mayBeFalse_0 13 rfl
theorem dX1_mayBeFalse_33 : decode cX1_mayBeFalse 33 = .ok (.ifCond .eq 16, 3) := zdec_at bX1_mayBeFalse_0 14 rfl
theorem dX1_mayBeFalse_36 : decode cX1_mayBeFalse 36 = .ok (.aload_n 1, 1) := zdec_at bX1_mayBeFalse_0 15 rfl
theorem bX1_mayBeFalse_37 : zdec cX1_mayBeFalse 37 [(37, .invokevirtual 840, 3), (40, .bipush 30, 2), (42, .if_icmp .ne 7, 3), (45, .iconst 1, 1), (46, .goto 4, 3), (49, .iconst 0, 1), (50, .ireturn, 1)] = true := by decide +kernel
theorem dX1_mayBeFalse_37 : decode cX1_mayBeFalse 37 = .ok (.invokevirtual 840, 3) := zdec_at bX1_mayBeFalse_37 0 rfl
theorem dX1_mayBeFalse_40 : decode cX1_mayBeFalse 40 = .ok (.bipush 30, 2) := zdec_at bX1_mayBeFalse_37 1 rfl
theorem dX1_mayBeFalse_42 : decode cX1_mayBeFalse 42 = .ok (.if_icmp .ne 7, 3) := zdec_at bX1_mayBeFalse_37 2 rfl
theorem dX1_mayBeFalse_45 : decode cX1_mayBeFalse 45 = .ok (.iconst 1, 1) := zdec_at bX1_mayBeFalse_37 3 rfl
theorem dX1_mayBeFalse_46 : decode cX1_mayBeFalse 46 = .ok (.goto 4, 3) := zdec_at bX1_mayBeFalse_37 4 rfl
theorem dX1_mayBeFalse_49 : decode cX1_mayBeFalse 49 = .ok (.iconst 0, 1) := zdec_at bX1_mayBeFalse_37 5 rfl
theorem dX1_mayBeFalse_50 : decode cX1_mayBeFalse 50 = .ok (.ireturn, 1) := zdec_at bX1_mayBeFalse_37 6 rfl
theorem sX1_mayBeFalse_0 {E : zE} {d : Nat} {Q : zO → zM → Prop} (M : zM) (r1 : Option zP) (hw : cw M) (k : ∃ b1 : Nat, r1 = some (b1, 4, 0) ∧ (Z E YX6_has d M (zargs 0 [vr (some (b1, 4, 0)), vi (347 : Int32)]) 0 [] (zafter E YX1_mayBeFalse (d + 1) [(1, vr (some (b1, 4, 0)))] 4 3 [] Q))) : Z E YX1_mayBeFalse (d + 1) M [(0, vr (some (16, 0, 0))), (1, vr r1)] 0 [] Q := by
  refine z_aload_n dX1_mayBeFalse_0 rfl rfl ?_
  refine z_sipush (v := 347) dX1_mayBeFalse_1 rfl ?_
  obtain ⟨b1, e1_, k⟩ := k
  refine Z.eqs (lv' := [(0, vr (some (16, 0, 0))), (1, vr (some (b1, 4, 0)))]) (st' := [vi (347 : Int32), vr (some (b1, 4, 0))]) (by rw [e1_] <;> rfl) (by rw [e1_] <;> rfl) ?_
  refine Z.pick [1] rfl ?_
  exact z_callV (as := [vi (347 : Int32)]) (st := []) dX1_mayBeFalse_4 vsX1_831_4 (Nat.le_refl _) (Nat.le_of_ble_eq_true rfl) (Nat.le_of_ble_eq_true rfl) rfl k
theorem sX1_mayBeFalse_7 {E : zE} {d : Nat} {Q : zO → zM → Prop} (M : zM) (a1 : Nat) (s0 : Int32) (hw : cw M) (k : if s0 = 0 then (Z E YX6_has d M (zargs 0 [vr (some (a1, 4, 0)), vi (32 : Int32)]) 0 [] (zafter E YX1_mayBeFalse (d + 1) [(1, vr (some (a1, 4, 0)))] 13 3 [] Q)) else (Q (.inl (some (vi (1 : Int32)))) M)) : Z E YX1_mayBeFalse (d + 1) M [(1, vr (some (a1, 4, 0)))] 7 [vi s0] Q := by
  refine z_if_ne (tgt := 45) dX1_mayBeFalse_7 rfl (fun h_ => ?_) (fun h_ => ?_)
  · have k := zif h_ k
    refine z_iconst (v := 1) dX1_mayBeFalse_45 rfl ?_
    refine z_goto (tgt := 50) dX1_mayBeFalse_46 rfl ?_
    exact z_iret dX1_mayBeFalse_50 rfl (by decide) k
  · have k := zit h_ k
    refine z_aload_n dX1_mayBeFalse_10 rfl rfl ?_
    refine z_bipush (v := 32) dX1_mayBeFalse_11 rfl ?_
    exact z_callV (as := [vi (32 : Int32)]) (st := []) dX1_mayBeFalse_13 vsX1_831_4 (Nat.le_refl _) (Nat.le_of_ble_eq_true rfl) (Nat.le_of_ble_eq_true rfl) rfl k
theorem sX1_mayBeFalse_16 {E : zE} {d : Nat} {Q : zO → zM → Prop} (M : zM) (a1 : Nat) (s0 : Int32) (hw : cw M) (k : if s0 = 0 then (Z E YX6_has d M (zargs 0 [vr (some (a1, 4, 0)), vi (128 : Int32)]) 0 [] (zafter E YX1_mayBeFalse (d + 1) [(1, vr (some (a1, 4, 0)))] 30 3 [] Q)) else (Z E YX6_number d M (zargs 0 [vr (some (a1, 4, 0))]) 0 [] (zafter E YX1_mayBeFalse (d + 1) [(1, vr (some (a1, 4, 0)))] 20 3 [] Q))) : Z E YX1_mayBeFalse (d + 1) M [(1, vr (some (a1, 4, 0)))] 16 [vi s0] Q := by
  refine z_if_eq (tgt := 26) dX1_mayBeFalse_16 rfl (fun h_ => ?_) (fun h_ => ?_)
  · have k := zit h_ k
    refine z_aload_n dX1_mayBeFalse_26 rfl rfl ?_
    refine z_sipush (v := 128) dX1_mayBeFalse_27 rfl ?_
    exact z_callV (as := [vi (128 : Int32)]) (st := []) dX1_mayBeFalse_30 vsX1_831_4 (Nat.le_refl _) (Nat.le_of_ble_eq_true rfl) (Nat.le_of_ble_eq_true rfl) rfl k
  · have k := zif h_ k
    refine z_aload_n dX1_mayBeFalse_19 rfl rfl ?_
    exact z_callV (as := []) (st := []) dX1_mayBeFalse_20 vsX1_843_4 (Nat.le_refl _) (Nat.le_of_ble_eq_true rfl) (Nat.le_of_ble_eq_true rfl) rfl k
theorem sX1_mayBeFalse_23 {E : zE} {d : Nat} {Q : zO → zM → Prop} (M : zM) (a1 : Nat) (s0 : Int32) (hw : cw M) (k : if s0 = 0 then (Q (.inl (some (vi (1 : Int32)))) M) else (Z E YX6_has d M (zargs 0 [vr (some (a1, 4, 0)), vi (128 : Int32)]) 0 [] (zafter E YX1_mayBeFalse (d + 1) [(1, vr (some (a1, 4, 0)))] 30 3 [] Q))) : Z E YX1_mayBeFalse (d + 1) M [(1, vr (some (a1, 4, 0)))] 23 [vi s0] Q := by
  refine z_if_eq (tgt := 45) dX1_mayBeFalse_23 rfl (fun h_ => ?_) (fun h_ => ?_)
  · have k := zit h_ k
    refine z_iconst (v := 1) dX1_mayBeFalse_45 rfl ?_
    refine z_goto (tgt := 50) dX1_mayBeFalse_46 rfl ?_
    exact z_iret dX1_mayBeFalse_50 rfl (by decide) k
  · have k := zif h_ k
    refine z_aload_n dX1_mayBeFalse_26 rfl rfl ?_
    refine z_sipush (v := 128) dX1_mayBeFalse_27 rfl ?_
    exact z_callV (as := [vi (128 : Int32)]) (st := []) dX1_mayBeFalse_30 vsX1_831_4 (Nat.le_refl _) (Nat.le_of_ble_eq_true rfl) (Nat.le_of_ble_eq_true rfl) rfl k
theorem sX1_mayBeFalse_33 {E : zE} {d : Nat} {Q : zO → zM → Prop} (M : zM) (a1 : Nat) (s0 : Int32) (hw : cw M) (k : if s0 = 0 then (Q (.inl (some (vi (0 : Int32)))) M) else (Z E YX6_name d M (zargs 0 [vr (some (a1, 4, 0))]) 0 [] (zafter E YX1_mayBeFalse (d + 1) [] 37 3 [] Q))) : Z E YX1_mayBeFalse (d + 1) M [(1, vr (some (a1, 4, 0)))] 33 [vi s0] Q := by
  refine z_if_eq (tgt := 49) dX1_mayBeFalse_33 rfl (fun h_ => ?_) (fun h_ => ?_)
  · have k := zit h_ k
    refine z_iconst (v := 0) dX1_mayBeFalse_49 rfl ?_
    exact z_iret dX1_mayBeFalse_50 rfl (by decide) k
  · have k := zif h_ k
    refine z_aload_n dX1_mayBeFalse_36 rfl rfl ?_
    refine Z.pick [] rfl ?_
    exact z_callV (as := []) (st := []) dX1_mayBeFalse_37 vsX1_840_4 (Nat.le_refl _) (Nat.le_of_ble_eq_true rfl) (Nat.le_of_ble_eq_true rfl) rfl k
theorem sX1_mayBeFalse_40 {E : zE} {d : Nat} {Q : zO → zM → Prop} (M : zM) (s0 : Int32) (hw : cw M) (k : if s0 = (30 : Int32) then (Q (.inl (some (vi (1 : Int32)))) M) else (Q (.inl (some (vi (0 : Int32)))) M)) : Z E YX1_mayBeFalse (d + 1) M [] 40 [vi s0] Q := by
  refine z_bipush (v := 30) dX1_mayBeFalse_40 rfl ?_
  refine z_icmp_ne (tgt := 49) dX1_mayBeFalse_42 rfl (fun h_ => ?_) (fun h_ => ?_)
  · have k := zif h_ k
    refine z_iconst (v := 0) dX1_mayBeFalse_49 rfl ?_
    exact z_iret dX1_mayBeFalse_50 rfl (by decide) k
  · have k := zit h_ k
    refine z_iconst (v := 1) dX1_mayBeFalse_45 rfl ?_
    refine z_goto (tgt := 50) dX1_mayBeFalse_46 rfl ?_
    exact z_iret dX1_mayBeFalse_50 rfl (by decide) k
/-! ScriptTypes.mayBeTrue(LScriptTypes$Bag;)Z -/
theorem bX1_mayBeTrue_0 : zdec cX1_mayBeTrue 0 [(0, .aload_n 1, 1), (1, .sipush 324, 3), (4, .invokevirtual 831, 3), (7, .ifCond .ne 45, 3), (10, .aload_n 1, 1), (11, .invokevirtual 837, 3), (14, .ifCond .ne 38, 3), (17, .aload_n 1, 1), (18, .bipush 32, 2), (20, .invokevirtual 831, 3), (23, .ifCond .eq 10, 3), (26, .aload_n 1, 1), (27, .invokevirtual 843, 3), (30, .ifCond .ne 22, 3), (33, .aload_n 1, 1), (34, .sipush 128, 3)] = true := by decide +kernel
theorem dX1_mayBeTrue_0 : decode cX1_mayBeTrue 0 = .ok (.aload_n 1, 1) := zdec_at bX1_mayBeTrue_0 0 rfl
theorem dX1_mayBeTrue_1 : decode cX1_mayBeTrue 1 = .ok (.sipush 324, 3) := zdec_at bX1_mayBeTrue_0 1 rfl
theorem dX1_mayBeTrue_4 : decode cX1_mayBeTrue 4 = .ok (.invokevirtual 831, 3) := zdec_at bX1_mayBeTrue_0 2 rfl
theorem dX1_mayBeTrue_7 : decode cX1_mayBeTrue 7 = .ok (.ifCond .ne 45, 3) := zdec_at bX1_mayBeTrue_0 3 rfl
theorem dX1_mayBeTrue_10 : decode cX1_mayBeTrue 10 = .ok (.aload_n 1, 1) := zdec_at bX1_mayBeTrue_0 4 rfl
theorem dX1_mayBeTrue_11 : decode cX1_mayBeTrue 11 = .ok (.invokevirtual 837, 3) := zdec_at bX1_mayBeTrue_0 5 rfl
theorem dX1_mayBeTrue_14 : decode cX1_mayBeTrue 14 = .ok (.ifCond .ne 38, 3) := zdec_at bX1_mayBeTrue_0 6 rfl
theorem dX1_mayBeTrue_17 : decode cX1_mayBeTrue 17 = .ok (.aload_n 1, 1) := zdec_at bX1_mayBeTrue_0 7 rfl
theorem dX1_mayBeTrue_18 : decode cX1_mayBeTrue 18 = .ok (.bipush 32, 2) := zdec_at bX1_mayBeTrue_0 8 rfl
theorem dX1_mayBeTrue_20 : decode cX1_mayBeTrue 20 = .ok (.invokevirtual 831, 3) := zdec_at bX1_mayBeTrue_0 9 rfl
theorem dX1_mayBeTrue_23 : decode cX1_mayBeTrue 23 = .ok (.ifCond .eq 10, 3) := zdec_at bX1_mayBeTrue_0 10 rfl
theorem dX1_mayBeTrue_26 : decode cX1_mayBeTrue 26 = .ok (.aload_n 1, 1) := zdec_at bX1_mayBeTrue_0 11 rfl
theorem dX1_mayBeTrue_27 : decode cX1_mayBeTrue 27 = .ok (.invokevirtual 843, 3) := zdec_at bX1_mayBeTrue_0 12 rfl
theorem dX1_mayBeTrue_30 : decode cX1_mayBeTrue 30 = .ok (.ifCond .ne 22, 3) := zdec_at bX1_mayBeTrue_0 13 rfl
theorem dX1_mayBeTrue_33 : decode cX1_mayBeTrue 33 = .ok (.aload_n 1, 1) := zdec_at bX1_mayBeTrue_0 14 rfl
theorem dX1_mayBeTrue_34 : decode cX1_mayBeTrue 34 = .ok (.sipush 128, 3) := zdec_at bX1_mayBeTrue_0 15 rfl
theorem bX1_mayBeTrue_37 : zdec cX1_mayBeTrue 37 [(37, .invokevirtual 831, 3), (40, .ifCond .eq 16, 3), (43, .aload_n 1, 1), (44, .invokevirtual 840, 3), (47, .bipush 30, 2), (49, .if_icmp .eq 7, 3), (52, .iconst 1, 1), (53, .goto 4, 3), (56, .iconst 0, 1), (57, .ireturn, 1)] = true := by decide +kernel
theorem dX1_mayBeTrue_37 : decode cX1_mayBeTrue 37 = .ok (.invokevirtual 831, 3) := zdec_at bX1_mayBeTrue_37 0 rfl
theorem dX1_mayBeTrue_40 : decode cX1_mayBeTrue 40 = .ok (.ifCond .eq 16, 3) := zdec_at bX1_mayBeTrue_37 1 rfl
theorem dX1_mayBeTrue_43 : decode cX1_mayBeTrue 43 = .ok (.aload_n 1, 1) := zdec_at bX1_mayBeTrue_37 2 rfl
theorem dX1_mayBeTrue_44 : decode cX1_mayBeTrue 44 = .ok (.invokevirtual 840, 3) := zdec_at bX1_mayBeTrue_37 3 rfl
theorem dX1_mayBeTrue_47 : decode cX1_mayBeTrue 47 = .ok (.bipush 30, 2) := zdec_at bX1_mayBeTrue_37 4 rfl
theorem dX1_mayBeTrue_49 : decode cX1_mayBeTrue 49 = .ok (.if_icmp .eq 7, 3) := zdec_at bX1_mayBeTrue_37 5 rfl
theorem dX1_mayBeTrue_52 : decode cX1_mayBeTrue 52 = .ok (.iconst 1, 1) := zdec_at bX1_mayBeTrue_37 6 rfl
theorem dX1_mayBeTrue_53 : decode cX1_mayBeTrue 53 = .ok (.goto 4, 3) := zdec_at bX1_mayBeTrue_37 7 rfl
theorem dX1_mayBeTrue_56 : decode cX1_mayBeTrue 56 = .ok (.iconst 0, 1) := zdec_at bX1_mayBeTrue_37 8 rfl
theorem dX1_mayBeTrue_57 : decode cX1_mayBeTrue 57 = .ok (.ireturn, 1) := zdec_at bX1_mayBeTrue_37 9 rfl
theorem sX1_mayBeTrue_0 {E : zE} {d : Nat} {Q : zO → zM → Prop} (M : zM) (r1 : Option zP) (hw : cw M) (k : ∃ b1 : Nat, r1 = some (b1, 4, 0) ∧ (Z E YX6_has d M (zargs 0 [vr (some (b1, 4, 0)), vi (324 : Int32)]) 0 [] (zafter E YX1_mayBeTrue (d + 1) [(1, vr (some (b1, 4, 0)))] 4 3 [] Q))) : Z E YX1_mayBeTrue (d + 1) M [(0, vr (some (16, 0, 0))), (1, vr r1)] 0 [] Q := by
  refine z_aload_n dX1_mayBeTrue_0 rfl rfl ?_
  refine z_sipush (v := 324) dX1_mayBeTrue_1 rfl ?_
  obtain ⟨b1, e1_, k⟩ := k
  refine Z.eqs (lv' := [(0, vr (some (16, 0, 0))), (1, vr (some (b1, 4, 0)))]) (st' := [vi (324 : Int32), vr (some (b1, 4, 0))]) (by rw [e1_] <;> rfl) (by rw [e1_] <;> rfl) ?_
  refine Z.pick [1] rfl ?_
  exact z_callV (as := [vi (324 : Int32)]) (st := []) dX1_mayBeTrue_4 vsX1_831_4 (Nat.le_refl _) (Nat.le_of_ble_eq_true rfl) (Nat.le_of_ble_eq_true rfl) rfl k
theorem sX1_mayBeTrue_7 {E : zE} {d : Nat} {Q : zO → zM → Prop} (M : zM) (a1 : Nat) (s0 : Int32) (hw : cw M) (k : if s0 = 0 then (Z E YX6_hasLabels d M (zargs 0 [vr (some (a1, 4, 0))]) 0 [] (zafter E YX1_mayBeTrue (d + 1) [(1, vr (some (a1, 4, 0)))] 11 3 [] Q)) else (Q (.inl (some (vi (1 : Int32)))) M)) : Z E YX1_mayBeTrue (d + 1) M [(1, vr (some (a1, 4, 0)))] 7 [vi s0] Q := by
  refine z_if_ne (tgt := 52) dX1_mayBeTrue_7 rfl (fun h_ => ?_) (fun h_ => ?_)
  · have k := zif h_ k
    refine z_iconst (v := 1) dX1_mayBeTrue_52 rfl ?_
    refine z_goto (tgt := 57) dX1_mayBeTrue_53 rfl ?_
    exact z_iret dX1_mayBeTrue_57 rfl (by decide) k
  · have k := zit h_ k
    refine z_aload_n dX1_mayBeTrue_10 rfl rfl ?_
    exact z_callV (as := []) (st := []) dX1_mayBeTrue_11 vsX1_837_4 (Nat.le_refl _) (Nat.le_of_ble_eq_true rfl) (Nat.le_of_ble_eq_true rfl) rfl k
theorem sX1_mayBeTrue_14 {E : zE} {d : Nat} {Q : zO → zM → Prop} (M : zM) (a1 : Nat) (s0 : Int32) (hw : cw M) (k : if s0 = 0 then (Z E YX6_has d M (zargs 0 [vr (some (a1, 4, 0)), vi (32 : Int32)]) 0 [] (zafter E YX1_mayBeTrue (d + 1) [(1, vr (some (a1, 4, 0)))] 20 3 [] Q)) else (Q (.inl (some (vi (1 : Int32)))) M)) : Z E YX1_mayBeTrue (d + 1) M [(1, vr (some (a1, 4, 0)))] 14 [vi s0] Q := by
  refine z_if_ne (tgt := 52) dX1_mayBeTrue_14 rfl (fun h_ => ?_) (fun h_ => ?_)
  · have k := zif h_ k
    refine z_iconst (v := 1) dX1_mayBeTrue_52 rfl ?_
    refine z_goto (tgt := 57) dX1_mayBeTrue_53 rfl ?_
    exact z_iret dX1_mayBeTrue_57 rfl (by decide) k
  · have k := zit h_ k
    refine z_aload_n dX1_mayBeTrue_17 rfl rfl ?_
    refine z_bipush (v := 32) dX1_mayBeTrue_18 rfl ?_
    exact z_callV (as := [vi (32 : Int32)]) (st := []) dX1_mayBeTrue_20 vsX1_831_4 (Nat.le_refl _) (Nat.le_of_ble_eq_true rfl) (Nat.le_of_ble_eq_true rfl) rfl k
theorem sX1_mayBeTrue_23 {E : zE} {d : Nat} {Q : zO → zM → Prop} (M : zM) (a1 : Nat) (s0 : Int32) (hw : cw M) (k : if s0 = 0 then (Z E YX6_has d M (zargs 0 [vr (some (a1, 4, 0)), vi (128 : Int32)]) 0 [] (zafter E YX1_mayBeTrue (d + 1) [(1, vr (some (a1, 4, 0)))] 37 3 [] Q)) else (Z E YX6_number d M (zargs 0 [vr (some (a1, 4, 0))]) 0 [] (zafter E YX1_mayBeTrue (d + 1) [(1, vr (some (a1, 4, 0)))] 27 3 [] Q))) : Z E YX1_mayBeTrue (d + 1) M [(1, vr (some (a1, 4, 0)))] 23 [vi s0] Q := by
  refine z_if_eq (tgt := 33) dX1_mayBeTrue_23 rfl (fun h_ => ?_) (fun h_ => ?_)
  · have k := zit h_ k
    refine z_aload_n dX1_mayBeTrue_33 rfl rfl ?_
    refine z_sipush (v := 128) dX1_mayBeTrue_34 rfl ?_
    exact z_callV (as := [vi (128 : Int32)]) (st := []) dX1_mayBeTrue_37 vsX1_831_4 (Nat.le_refl _) (Nat.le_of_ble_eq_true rfl) (Nat.le_of_ble_eq_true rfl) rfl k
  · have k := zif h_ k
    refine z_aload_n dX1_mayBeTrue_26 rfl rfl ?_
    exact z_callV (as := []) (st := []) dX1_mayBeTrue_27 vsX1_843_4 (Nat.le_refl _) (Nat.le_of_ble_eq_true rfl) (Nat.le_of_ble_eq_true rfl) rfl k
theorem sX1_mayBeTrue_30 {E : zE} {d : Nat} {Q : zO → zM → Prop} (M : zM) (a1 : Nat) (s0 : Int32) (hw : cw M) (k : if s0 = 0 then (Z E YX6_has d M (zargs 0 [vr (some (a1, 4, 0)), vi (128 : Int32)]) 0 [] (zafter E YX1_mayBeTrue (d + 1) [(1, vr (some (a1, 4, 0)))] 37 3 [] Q)) else (Q (.inl (some (vi (1 : Int32)))) M)) : Z E YX1_mayBeTrue (d + 1) M [(1, vr (some (a1, 4, 0)))] 30 [vi s0] Q := by
  refine z_if_ne (tgt := 52) dX1_mayBeTrue_30 rfl (fun h_ => ?_) (fun h_ => ?_)
  · have k := zif h_ k
    refine z_iconst (v := 1) dX1_mayBeTrue_52 rfl ?_
    refine z_goto (tgt := 57) dX1_mayBeTrue_53 rfl ?_
    exact z_iret dX1_mayBeTrue_57 rfl (by decide) k
  · have k := zit h_ k
    refine z_aload_n dX1_mayBeTrue_33 rfl rfl ?_
    refine z_sipush (v := 128) dX1_mayBeTrue_34 rfl ?_
    exact z_callV (as := [vi (128 : Int32)]) (st := []) dX1_mayBeTrue_37 vsX1_831_4 (Nat.le_refl _) (Nat.le_of_ble_eq_true rfl) (Nat.le_of_ble_eq_true rfl) rfl k
theorem sX1_mayBeTrue_40 {E : zE} {d : Nat} {Q : zO → zM → Prop} (M : zM) (a1 : Nat) (s0 : Int32) (hw : cw M) (k : if s0 = 0 then (Q (.inl (some (vi (0 : Int32)))) M) else (Z E YX6_name d M (zargs 0 [vr (some (a1, 4, 0))]) 0 [] (zafter E YX1_mayBeTrue (d + 1) [] 44 3 [] Q))) : Z E YX1_mayBeTrue (d + 1) M [(1, vr (some (a1, 4, 0)))] 40 [vi s0] Q := by
  refine z_if_eq (tgt := 56) dX1_mayBeTrue_40 rfl (fun h_ => ?_) (fun h_ => ?_)
  · have k := zit h_ k
    refine z_iconst (v := 0) dX1_mayBeTrue_56 rfl ?_
    exact z_iret dX1_mayBeTrue_57 rfl (by decide) k
  · have k := zif h_ k
    refine z_aload_n dX1_mayBeTrue_43 rfl rfl ?_
    refine Z.pick [] rfl ?_
    exact z_callV (as := []) (st := []) dX1_mayBeTrue_44 vsX1_840_4 (Nat.le_refl _) (Nat.le_of_ble_eq_true rfl) (Nat.le_of_ble_eq_true rfl) rfl k
theorem sX1_mayBeTrue_47 {E : zE} {d : Nat} {Q : zO → zM → Prop} (M : zM) (s0 : Int32) (hw : cw M) (k : if s0 = (30 : Int32) then (Q (.inl (some (vi (0 : Int32)))) M) else (Q (.inl (some (vi (1 : Int32)))) M)) : Z E YX1_mayBeTrue (d + 1) M [] 47 [vi s0] Q := by
  refine z_bipush (v := 30) dX1_mayBeTrue_47 rfl ?_
  refine z_icmp_eq (tgt := 56) dX1_mayBeTrue_49 rfl (fun h_ => ?_) (fun h_ => ?_)
  · have k := zit h_ k
    refine z_iconst (v := 0) dX1_mayBeTrue_56 rfl ?_
    exact z_iret dX1_mayBeTrue_57 rfl (by decide) k
  · have k := zif h_ k
    refine z_iconst (v := 1) dX1_mayBeTrue_52 rfl ?_
    refine z_goto (tgt := 57) dX1_mayBeTrue_53 rfl ?_
    exact z_iret dX1_mayBeTrue_57 rfl (by decide) k
/-! ScriptTypes.readsIn()V -/
theorem bX1_readsIn_0 : zdec cX1_readsIn 0 [(0, .aload_n 0, 1), (1, .getfield 210, 3), (4, .getfield 920, 3), (7, .ldc2_w 875, 3), (10, .land, 1), (11, .lconst 0, 1), (12, .lcmp, 1), (13, .ifCond .eq 12, 3), (16, .aload_n 0, 1), (17, .aload_n 0, 1), (18, .getfield 684, 3), (21, .iconst 0, 1), (22, .invokevirtual 960, 3), (25, .aload_n 0, 1), (26, .getfield 210, 3), (29, .invokevirtual 837, 3)] = true := by decide +kernel
theorem dX1_readsIn_0 : decode cX1_readsIn 0 = .ok (.aload_n 0, 1) := zdec_at bX1_readsIn_0 0 rfl
theorem dX1_readsIn_1 : decode cX1_readsIn 1 = .ok (.getfield 210, 3) := zdec_at bX1_readsIn_0 1 rfl
theorem dX1_readsIn_4 : decode cX1_readsIn 4 = .ok (.getfield 920, 3) := zdec_at bX1_readsIn_0 2 rfl
theorem dX1_readsIn_7 : decode cX1_readsIn 7 = .ok (.ldc2_w 875, 3) := zdec_at bX1_readsIn_0 3 rfl
theorem dX1_readsIn_10 : decode cX1_readsIn 10 = .ok (.land, 1) := zdec_at bX1_readsIn_0 4 rfl
theorem dX1_readsIn_11 : decode cX1_readsIn 11 = .ok (.lconst 0, 1) := zdec_at bX1_readsIn_0 5 rfl
theorem dX1_readsIn_12 : decode cX1_readsIn 12 = .ok (.lcmp, 1) := zdec_at bX1_readsIn_0 6 rfl
theorem dX1_readsIn_13 : decode cX1_readsIn 13 = .ok (.ifCond .eq 12, 3) := zdec_at bX1_readsIn_0 7 rfl
theorem dX1_readsIn_16 : decode cX1_readsIn 16 = .ok (.aload_n 0, 1) := zdec_at bX1_readsIn_0 8 rfl
theorem dX1_readsIn_17 : decode cX1_readsIn 17 = .ok (.aload_n 0, 1) := zdec_at bX1_readsIn_0 9 rfl
theorem dX1_readsIn_18 : decode cX1_readsIn 18 = .ok (.getfield 684, 3) := zdec_at bX1_readsIn_0 10 rfl
theorem dX1_readsIn_21 : decode cX1_readsIn 21 = .ok (.iconst 0, 1) := zdec_at bX1_readsIn_0 11 rfl
theorem dX1_readsIn_22 : decode cX1_readsIn 22 = .ok (.invokevirtual 960, 3) := zdec_at bX1_readsIn_0 12 rfl
theorem dX1_readsIn_25 : decode cX1_readsIn 25 = .ok (.aload_n 0, 1) := zdec_at bX1_readsIn_0 13 rfl
theorem dX1_readsIn_26 : decode cX1_readsIn 26 = .ok (.getfield 210, 3) := zdec_at bX1_readsIn_0 14 rfl
theorem dX1_readsIn_29 : decode cX1_readsIn 29 = .ok (.invokevirtual 837, 3) := zdec_at bX1_readsIn_0 15 rfl
theorem bX1_readsIn_32 : zdec cX1_readsIn 32 [(32, .ifCond .ne 4, 3), (35, .return_, 1), (36, .aload_n 0, 1), (37, .aload_n 0, 1), (38, .getfield 206, 3), (41, .invokevirtual 883, 3), (44, .aload_n 0, 1), (45, .aload_n 0, 1), (46, .getfield 210, 3), (49, .getfield 916, 3), (52, .aload_n 0, 1), (53, .getfield 210, 3), (56, .getfield 918, 3), (59, .aload_n 0, 1), (60, .getfield 219, 3), (63, .invokevirtual 796, 3)] = true := by decide +kernel
theorem dX1_readsIn_32 : decode cX1_readsIn 32 = .ok (.ifCond .ne 4, 3) := zdec_at bX1_readsIn_32 0 rfl
theorem dX1_readsIn_35 : decode cX1_readsIn 35 = .ok (.return_, 1) := zdec_at bX1_readsIn_32 1 rfl
theorem dX1_readsIn_36 : decode cX1_readsIn 36 = .ok (.aload_n 0, 1) := zdec_at bX1_readsIn_32 2 rfl
theorem dX1_readsIn_37 : decode cX1_readsIn 37 = .ok (.aload_n 0, 1) := zdec_at bX1_readsIn_32 3 rfl
theorem dX1_readsIn_38 : decode cX1_readsIn 38 = .ok (.getfield 206, 3) := zdec_at bX1_readsIn_32 4 rfl
theorem dX1_readsIn_41 : decode cX1_readsIn 41 = .ok (.invokevirtual 883, 3) := zdec_at bX1_readsIn_32 5 rfl
theorem dX1_readsIn_44 : decode cX1_readsIn 44 = .ok (.aload_n 0, 1) := zdec_at bX1_readsIn_32 6 rfl
theorem dX1_readsIn_45 : decode cX1_readsIn 45 = .ok (.aload_n 0, 1) := zdec_at bX1_readsIn_32 7 rfl
theorem dX1_readsIn_46 : decode cX1_readsIn 46 = .ok (.getfield 210, 3) := zdec_at bX1_readsIn_32 8 rfl
theorem dX1_readsIn_49 : decode cX1_readsIn 49 = .ok (.getfield 916, 3) := zdec_at bX1_readsIn_32 9 rfl
theorem dX1_readsIn_52 : decode cX1_readsIn 52 = .ok (.aload_n 0, 1) := zdec_at bX1_readsIn_32 10 rfl
theorem dX1_readsIn_53 : decode cX1_readsIn 53 = .ok (.getfield 210, 3) := zdec_at bX1_readsIn_32 11 rfl
theorem dX1_readsIn_56 : decode cX1_readsIn 56 = .ok (.getfield 918, 3) := zdec_at bX1_readsIn_32 12 rfl
theorem dX1_readsIn_59 : decode cX1_readsIn 59 = .ok (.aload_n 0, 1) := zdec_at bX1_readsIn_32 13 rfl
theorem dX1_readsIn_60 : decode cX1_readsIn 60 = .ok (.getfield 219, 3) := zdec_at bX1_readsIn_32 14 rfl
theorem dX1_readsIn_63 : decode cX1_readsIn 63 = .ok (.invokevirtual 796, 3) := zdec_at bX1_readsIn_32 15 rfl
theorem bX1_readsIn_66 : zdec cX1_readsIn 66 [(66, .invokevirtual 1024, 3), (69, .aload_n 0, 1), (70, .aload_n 0, 1), (71, .getfield 216, 3), (74, .aload_n 0, 1), (75, .getfield 853, 3), (78, .ifCond .eq 9, 3), (81, .ldc2_w 1016, 3), (84, .goto 4, 3), (87, .lconst 0, 1), (88, .aload_n 0, 1), (89, .getfield 850, 3), (92, .ifCond .eq 8, 3), (95, .bipush 8, 2), (97, .goto 4, 3), (100, .iconst 0, 1)] = true := by decide +kernel
theorem dX1_readsIn_66 : decode cX1_readsIn 66 = .ok (.invokevirtual 1024, 3) := zdec_at bX1_readsIn_66 0 rfl
theorem dX1_readsIn_69 : decode cX1_readsIn 69 = .ok (.aload_n 0, 1) := zdec_at bX1_readsIn_66 1 rfl
theorem dX1_readsIn_70 : decode cX1_readsIn 70 = .ok (.aload_n 0, 1) := zdec_at bX1_readsIn_66 2 rfl
theorem dX1_readsIn_71 : decode cX1_readsIn 71 = .ok (.getfield 216, 3) := zdec_at bX1_readsIn_66 3 rfl
theorem dX1_readsIn_74 : decode cX1_readsIn 74 = .ok (.aload_n 0, 1) := zdec_at bX1_readsIn_66 4 rfl
theorem dX1_readsIn_75 : decode cX1_readsIn 75 = .ok (.getfield 853, 3) := zdec_at bX1_readsIn_66 5 rfl
theorem dX1_readsIn_78 : decode cX1_readsIn 78 = .ok (.ifCond .eq 9, 3) := zdec_at bX1_readsIn_66 6 rfl
theorem dX1_readsIn_81 : decode cX1_readsIn 81 = .ok (.ldc2_w 1016, 3) := zdec_at bX1_readsIn_66 7 rfl
theorem dX1_readsIn_84 : decode cX1_readsIn 84 = .ok (.goto 4, 3) := zdec_at bX1_readsIn_66 8 rfl
theorem dX1_readsIn_87 : decode cX1_readsIn 87 = .ok (.lconst 0, 1) := zdec_at bX1_readsIn_66 9 rfl
theorem dX1_readsIn_88 : decode cX1_readsIn 88 = .ok (.aload_n 0, 1) := zdec_at bX1_readsIn_66 10 rfl
theorem dX1_readsIn_89 : decode cX1_readsIn 89 = .ok (.getfield 850, 3) := zdec_at bX1_readsIn_66 11 rfl
theorem dX1_readsIn_92 : decode cX1_readsIn 92 = .ok (.ifCond .eq 8, 3) := zdec_at bX1_readsIn_66 12 rfl
theorem dX1_readsIn_95 : decode cX1_readsIn 95 = .ok (.bipush 8, 2) := zdec_at bX1_readsIn_66 13 rfl
theorem dX1_readsIn_97 : decode cX1_readsIn 97 = .ok (.goto 4, 3) := zdec_at bX1_readsIn_66 14 rfl
theorem dX1_readsIn_100 : decode cX1_readsIn 100 = .ok (.iconst 0, 1) := zdec_at bX1_readsIn_66 15 rfl
theorem bX1_readsIn_101 : zdec cX1_readsIn 101 [(101, .i2l, 1), (102, .lor, 1), (103, .invokevirtual 892, 3), (106, .invokevirtual 895, 3), (109, .return_, 1)] = true := by decide +kernel
theorem dX1_readsIn_101 : decode cX1_readsIn 101 = .ok (.i2l, 1) := zdec_at bX1_readsIn_101 0 rfl
theorem dX1_readsIn_102 : decode cX1_readsIn 102 = .ok (.lor, 1) := zdec_at bX1_readsIn_101 1 rfl
theorem dX1_readsIn_103 : decode cX1_readsIn 103 = .ok (.invokevirtual 892, 3) := zdec_at bX1_readsIn_101 2 rfl
theorem dX1_readsIn_106 : decode cX1_readsIn 106 = .ok (.invokevirtual 895, 3) := zdec_at bX1_readsIn_101 3 rfl
theorem dX1_readsIn_109 : decode cX1_readsIn 109 = .ok (.return_, 1) := zdec_at bX1_readsIn_101 4 rfl
theorem sX1_readsIn_0 {E : zE} {d : Nat} {Q : zO → zM → Prop} (M : zM)  (hw : cw M) (k : if (lg_cmp ((gl M 72 2) &&& (511 : Int64)) (0 : Int64)) = 0 then (Z E YX1_readsIn (d + 1) M [(0, vr (some (16, 0, 0)))] 25 [] Q) else (Z E YX1_errs d M (zargs 0 [vr (some (16, 0, 0)), vr (gr M 16 60), vi (0 : Int32)]) 0 [] (zafter E YX1_readsIn (d + 1) [(0, vr (some (16, 0, 0)))] 22 3 [] Q))) : Z E YX1_readsIn (d + 1) M [(0, vr (some (16, 0, 0)))] 0 [] Q := by
  refine z_aload_n dX1_readsIn_0 rfl rfl ?_
  refine z_getr dX1_readsIn_1 fsX1_210_0 (show gr M 16 79 = some (72, 4, 0) from cw_at hw 40 rfl) ?_
  refine z_getl dX1_readsIn_4 fsX1_920_4 ?_
  refine z_ldc2 (v := 511) dX1_readsIn_7 q3350 ?_
  refine z_land dX1_readsIn_10 ?_
  refine z_lconst (v := 0) dX1_readsIn_11 rfl ?_
  refine z_lcmp dX1_readsIn_12 ?_
  refine z_if_eq (tgt := 25) dX1_readsIn_13 rfl (fun h_ => ?_) (fun h_ => ?_)
  · have k := zit h_ k
    exact k
  · have k := zif h_ k
    refine z_aload_n dX1_readsIn_16 rfl rfl ?_
    refine z_aload_n dX1_readsIn_17 rfl rfl ?_
    refine z_getr (r := (gr M 16 60)) dX1_readsIn_18 fsX1_684_0 rfl ?_
    refine z_iconst (v := 0) dX1_readsIn_21 rfl ?_
    exact z_callV (as := [vr (gr M 16 60), vi (0 : Int32)]) (st := []) dX1_readsIn_22 vsX1_960_0 (Nat.le_refl _) (Nat.le_of_ble_eq_true rfl) (Nat.le_of_ble_eq_true rfl) rfl k
theorem sX1_readsIn_25 {E : zE} {d : Nat} {Q : zO → zM → Prop} (M : zM)  (hw : cw M) (k : Z E YX6_hasLabels d M (zargs 0 [vr (some (72, 4, 0))]) 0 [] (zafter E YX1_readsIn (d + 1) [(0, vr (some (16, 0, 0)))] 29 3 [] Q)) : Z E YX1_readsIn (d + 1) M [(0, vr (some (16, 0, 0)))] 25 [] Q := by
  refine z_aload_n dX1_readsIn_25 rfl rfl ?_
  refine z_getr dX1_readsIn_26 fsX1_210_0 (show gr M 16 79 = some (72, 4, 0) from cw_at hw 40 rfl) ?_
  exact z_callV (as := []) (st := []) dX1_readsIn_29 vsX1_837_4 (Nat.le_refl _) (Nat.le_of_ble_eq_true rfl) (Nat.le_of_ble_eq_true rfl) rfl k
theorem sX1_readsIn_32 {E : zE} {d : Nat} {Q : zO → zM → Prop} (M : zM) (s0 : Int32) (hw : cw M) (k : if s0 = 0 then (Q (.inl none) M) else (Z E YX1_keys d M (zargs 0 [vr (some (16, 0, 0)), vr (some (71, 4, 0))]) 0 [] (zafter E YX1_readsIn (d + 1) [(0, vr (some (16, 0, 0)))] 41 3 [] Q))) : Z E YX1_readsIn (d + 1) M [(0, vr (some (16, 0, 0)))] 32 [vi s0] Q := by
  refine z_if_ne (tgt := 36) dX1_readsIn_32 rfl (fun h_ => ?_) (fun h_ => ?_)
  · have k := zif h_ k
    refine z_aload_n dX1_readsIn_36 rfl rfl ?_
    refine z_aload_n dX1_readsIn_37 rfl rfl ?_
    refine z_getr dX1_readsIn_38 fsX1_206_0 (show gr M 16 78 = some (71, 4, 0) from cw_at hw 39 rfl) ?_
    exact z_callV (as := [vr (some (71, 4, 0))]) (st := []) dX1_readsIn_41 vsX1_883_0 (Nat.le_refl _) (Nat.le_of_ble_eq_true rfl) (Nat.le_of_ble_eq_true rfl) rfl k
  · have k := zit h_ k
    exact z_vret dX1_readsIn_35 rfl k
theorem sX1_readsIn_44 {E : zE} {d : Nat} {Q : zO → zM → Prop} (M : zM)  (hw : cw M) (k : Z E YX6_empty d M (zargs 0 [vr (some (75, 4, 0))]) 0 [] (zafter E YX1_readsIn (d + 1) [(0, vr (some (16, 0, 0)))] 63 3 [vl (gl M 72 1), vl (gl M 72 0), vr (some (16, 0, 0))] Q)) : Z E YX1_readsIn (d + 1) M [(0, vr (some (16, 0, 0)))] 44 [] Q := by
  refine z_aload_n dX1_readsIn_44 rfl rfl ?_
  refine z_aload_n dX1_readsIn_45 rfl rfl ?_
  refine z_getr dX1_readsIn_46 fsX1_210_0 (show gr M 16 79 = some (72, 4, 0) from cw_at hw 40 rfl) ?_
  refine z_getl dX1_readsIn_49 fsX1_916_4 ?_
  refine z_aload_n dX1_readsIn_52 rfl rfl ?_
  refine z_getr dX1_readsIn_53 fsX1_210_0 (show gr M 16 79 = some (72, 4, 0) from cw_at hw 40 rfl) ?_
  refine z_getl dX1_readsIn_56 fsX1_918_4 ?_
  refine z_aload_n dX1_readsIn_59 rfl rfl ?_
  refine z_getr dX1_readsIn_60 fsX1_219_0 (show gr M 16 82 = some (75, 4, 0) from cw_at hw 43 rfl) ?_
  exact z_callV (as := []) (st := [vl (gl M 72 1), vl (gl M 72 0), vr (some (16, 0, 0))]) dX1_readsIn_63 vsX1_796_4 (Nat.le_refl _) (Nat.le_of_ble_eq_true rfl) (Nat.le_of_ble_eq_true rfl) rfl k
theorem sX1_readsIn_66 {E : zE} {d : Nat} {Q : zO → zM → Prop} (M : zM) (u0 : Option zP) (s1 : Int64) (s2 : Int64) (hw : cw M) (k : Z E YX1_readAll d M (zargs 0 [vr (some (16, 0, 0)), vl s2, vl s1, vr u0]) 0 [] (zafter E YX1_readsIn (d + 1) [(0, vr (some (16, 0, 0)))] 66 3 [] Q)) : Z E YX1_readsIn (d + 1) M [(0, vr (some (16, 0, 0)))] 66 [vr u0, vl s1, vl s2, vr (some (16, 0, 0))] Q := by
  exact z_callV (as := [vl s2, vl s1, vr u0]) (st := []) dX1_readsIn_66 vsX1_1024_0 (Nat.le_refl _) (Nat.le_of_ble_eq_true rfl) (Nat.le_of_ble_eq_true rfl) rfl k
theorem sX1_readsIn_69 {E : zE} {d : Nat} {Q : zO → zM → Prop} (M : zM)  (hw : cw M) (k : if (gi M 16 92) = 0 then (Z E YX1_readsIn (d + 1) M [(0, vr (some (16, 0, 0)))] 88 [vl (0 : Int64), vr (some (74, 4, 0)), vr (some (16, 0, 0))] Q) else (Z E YX1_readsIn (d + 1) M [(0, vr (some (16, 0, 0)))] 88 [vl (4 : Int64), vr (some (74, 4, 0)), vr (some (16, 0, 0))] Q)) : Z E YX1_readsIn (d + 1) M [(0, vr (some (16, 0, 0)))] 69 [] Q := by
  refine z_aload_n dX1_readsIn_69 rfl rfl ?_
  refine z_aload_n dX1_readsIn_70 rfl rfl ?_
  refine z_getr dX1_readsIn_71 fsX1_216_0 (show gr M 16 81 = some (74, 4, 0) from cw_at hw 42 rfl) ?_
  refine z_aload_n dX1_readsIn_74 rfl rfl ?_
  refine z_geti dX1_readsIn_75 fsX1_853_0 ?_
  refine z_if_eq (tgt := 87) dX1_readsIn_78 rfl (fun h_ => ?_) (fun h_ => ?_)
  · have k := zit h_ k
    refine z_lconst (v := 0) dX1_readsIn_87 rfl ?_
    exact k
  · have k := zif h_ k
    refine z_ldc2 (v := 4) dX1_readsIn_81 q3365 ?_
    refine z_goto (tgt := 88) dX1_readsIn_84 rfl ?_
    exact k
theorem sX1_readsIn_88 {E : zE} {d : Nat} {Q : zO → zM → Prop} (M : zM) (s0 : Int64) (hw : cw M) (k : if (gi M 16 91) = 0 then (Z E YX6_of d M (zargs 0 [vr (some (74, 4, 0)), vl (s0 ||| ((0 : Int32)).toInt64)]) 0 [] (zafter E YX1_readsIn (d + 1) [] 103 3 [vr (some (16, 0, 0))] Q)) else (Z E YX6_of d M (zargs 0 [vr (some (74, 4, 0)), vl (s0 ||| ((8 : Int32)).toInt64)]) 0 [] (zafter E YX1_readsIn (d + 1) [] 103 3 [vr (some (16, 0, 0))] Q))) : Z E YX1_readsIn (d + 1) M [(0, vr (some (16, 0, 0)))] 88 [vl s0, vr (some (74, 4, 0)), vr (some (16, 0, 0))] Q := by
  refine z_aload_n dX1_readsIn_88 rfl rfl ?_
  refine z_geti dX1_readsIn_89 fsX1_850_0 ?_
  refine z_if_eq (tgt := 100) dX1_readsIn_92 rfl (fun h_ => ?_) (fun h_ => ?_)
  · have k := zit h_ k
    refine z_iconst (v := 0) dX1_readsIn_100 rfl ?_
    refine z_i2l dX1_readsIn_101 ?_
    refine z_lor dX1_readsIn_102 ?_
    refine Z.pick [] rfl ?_
    exact z_callV (as := [vl (s0 ||| ((0 : Int32)).toInt64)]) (st := [vr (some (16, 0, 0))]) dX1_readsIn_103 vsX1_892_4 (Nat.le_refl _) (Nat.le_of_ble_eq_true rfl) (Nat.le_of_ble_eq_true rfl) rfl k
  · have k := zif h_ k
    refine z_bipush (v := 8) dX1_readsIn_95 rfl ?_
    refine z_goto (tgt := 101) dX1_readsIn_97 rfl ?_
    refine z_i2l dX1_readsIn_101 ?_
    refine z_lor dX1_readsIn_102 ?_
    refine Z.pick [] rfl ?_
    exact z_callV (as := [vl (s0 ||| ((8 : Int32)).toInt64)]) (st := [vr (some (16, 0, 0))]) dX1_readsIn_103 vsX1_892_4 (Nat.le_refl _) (Nat.le_of_ble_eq_true rfl) (Nat.le_of_ble_eq_true rfl) rfl k
theorem sX1_readsIn_106 {E : zE} {d : Nat} {Q : zO → zM → Prop} (M : zM) (u0 : Option zP) (hw : cw M) (k : Z E YX1_nextWith d M (zargs 0 [vr (some (16, 0, 0)), vr u0]) 0 [] (zafter E YX1_readsIn (d + 1) [] 106 3 [] Q)) : Z E YX1_readsIn (d + 1) M [] 106 [vr u0, vr (some (16, 0, 0))] Q := by
  exact z_callV (as := [vr u0]) (st := []) dX1_readsIn_106 vsX1_895_0 (Nat.le_refl _) (Nat.le_of_ble_eq_true rfl) (Nat.le_of_ble_eq_true rfl) rfl k
theorem sX1_readsIn_109 {E : zE} {d : Nat} {Q : zO → zM → Prop} (M : zM)  (hw : cw M) (k : Q (.inl none) M) : Z E YX1_readsIn (d + 1) M [] 109 [] Q := by
  exact z_vret dX1_readsIn_109 rfl k
/-! ScriptTypes.isIn()V -/
theorem bX1_isIn_0 : zdec cX1_isIn 0 [(0, .aload_n 0, 1), (1, .getfield 210, 3), (4, .getfield 916, 3), (7, .invokestatic 996, 3), (10, .aload_n 0, 1), (11, .getfield 658, 3), (14, .lor, 1), (15, .land, 1), (16, .lstore_n 1, 1), (17, .aload_n 0, 1), (18, .getfield 210, 3), (21, .getfield 918, 3), (24, .aload_n 0, 1), (25, .getfield 661, 3), (28, .land, 1), (29, .lstore_n 3, 1)] = true := by decide +kernel
theorem dX1_isIn_0 : decode cX1_isIn 0 = .ok (.aload_n 0, 1) := zdec_at bX1_isIn_0 0 rfl
theorem dX1_isIn_1 : decode cX1_isIn 1 = .ok (.getfield 210, 3) := zdec_at bX1_isIn_0 1 rfl
theorem dX1_isIn_4 : decode cX1_isIn 4 = .ok (.getfield 916, 3) := zdec_at bX1_isIn_0 2 rfl
theorem dX1_isIn_7 : decode cX1_isIn 7 = .ok (.invokestatic 996, 3) := zdec_at bX1_isIn_0 3 rfl
theorem dX1_isIn_10 : decode cX1_isIn 10 = .ok (.aload_n 0, 1) := zdec_at bX1_isIn_0 4 rfl
theorem dX1_isIn_11 : decode cX1_isIn 11 = .ok (.getfield 658, 3) := zdec_at bX1_isIn_0 5 rfl
theorem dX1_isIn_14 : decode cX1_isIn 14 = .ok (.lor, 1) := zdec_at bX1_isIn_0 6 rfl
theorem dX1_isIn_15 : decode cX1_isIn 15 = .ok (.land, 1) := zdec_at bX1_isIn_0 7 rfl
theorem dX1_isIn_16 : decode cX1_isIn 16 = .ok (.lstore_n 1, 1) := zdec_at bX1_isIn_0 8 rfl
theorem dX1_isIn_17 : decode cX1_isIn 17 = .ok (.aload_n 0, 1) := zdec_at bX1_isIn_0 9 rfl
theorem dX1_isIn_18 : decode cX1_isIn 18 = .ok (.getfield 210, 3) := zdec_at bX1_isIn_0 10 rfl
theorem dX1_isIn_21 : decode cX1_isIn 21 = .ok (.getfield 918, 3) := zdec_at bX1_isIn_0 11 rfl
theorem dX1_isIn_24 : decode cX1_isIn 24 = .ok (.aload_n 0, 1) := zdec_at bX1_isIn_0 12 rfl
theorem dX1_isIn_25 : decode cX1_isIn 25 = .ok (.getfield 661, 3) := zdec_at bX1_isIn_0 13 rfl
theorem dX1_isIn_28 : decode cX1_isIn 28 = .ok (.land, 1) := zdec_at bX1_isIn_0 14 rfl
theorem dX1_isIn_29 : decode cX1_isIn 29 = .ok (.lstore_n 3, 1) := zdec_at bX1_isIn_0 15 rfl
theorem bX1_isIn_30 : zdec cX1_isIn 30 [(30, .aload_n 0, 1), (31, .getfield 210, 3), (34, .invokestatic 996, 3), (37, .aload_n 0, 1), (38, .getfield 658, 3), (41, .lor, 1), (42, .aload_n 0, 1), (43, .getfield 661, 3), (46, .invokevirtual 1028, 3), (49, .ifCond .ne 7, 3), (52, .iconst 1, 1), (53, .goto 4, 3), (56, .iconst 0, 1), (57, .istore 5, 2), (59, .aload_n 0, 1), (60, .ldc2_w 1031, 3)] = true := by decide +kernel
theorem dX1_isIn_30 : decode cX1_isIn 30 = .ok (.aload_n 0, 1) := zdec_at bX1_isIn_30 0 rfl
theorem dX1_isIn_31 : decode cX1_isIn 31 = .ok (.getfield 210, 3) := zdec_at bX1_isIn_30 1 rfl
theorem dX1_isIn_34 : decode cX1_isIn 34 = .ok (.invokestatic 996, 3) := zdec_at bX1_isIn_30 2 rfl
theorem dX1_isIn_37 : decode cX1_isIn 37 = .ok (.aload_n 0, 1) := zdec_at bX1_isIn_30 3 rfl
theorem dX1_isIn_38 : decode cX1_isIn 38 = .ok (.getfield 658, 3) := zdec_at bX1_isIn_30 4 rfl
theorem dX1_isIn_41 : decode cX1_isIn 41 = .ok (.lor, 1) := zdec_at bX1_isIn_30 5 rfl
theorem dX1_isIn_42 : decode cX1_isIn 42 = .ok (.aload_n 0, 1) := zdec_at bX1_isIn_30 6 rfl
theorem dX1_isIn_43 : decode cX1_isIn 43 = .ok (.getfield 661, 3) := zdec_at bX1_isIn_30 7 rfl
theorem dX1_isIn_46 : decode cX1_isIn 46 = .ok (.invokevirtual 1028, 3) := zdec_at bX1_isIn_30 8 rfl
theorem dX1_isIn_49 : decode cX1_isIn 49 = .ok (.ifCond .ne 7, 3) := zdec_at bX1_isIn_30 9 rfl
theorem dX1_isIn_52 : decode cX1_isIn 52 = .ok (.iconst 1, 1) := zdec_at bX1_isIn_30 10 rfl
theorem dX1_isIn_53 : decode cX1_isIn 53 = .ok (.goto 4, 3) := zdec_at bX1_isIn_30 11 rfl
theorem dX1_isIn_56 : decode cX1_isIn 56 = .ok (.iconst 0, 1) := zdec_at bX1_isIn_30 12 rfl
theorem dX1_isIn_57 : decode cX1_isIn 57 = .ok (.istore 5, 2) := zdec_at bX1_isIn_30 13 rfl
theorem dX1_isIn_59 : decode cX1_isIn 59 = .ok (.aload_n 0, 1) := zdec_at bX1_isIn_30 14 rfl
theorem dX1_isIn_60 : decode cX1_isIn 60 = .ok (.ldc2_w 1031, 3) := zdec_at bX1_isIn_30 15 rfl
theorem bX1_isIn_63 : zdec cX1_isIn 63 [(63, .putfield 818, 3), (66, .aload_n 0, 1), (67, .lconst 0, 1), (68, .putfield 821, 3), (71, .aload_n 0, 1), (72, .iconst 0, 1), (73, .putfield 824, 3), (76, .aload_n 0, 1), (77, .lload_n 1, 1), (78, .lload_n 3, 1), (79, .aload_n 0, 1), (80, .getfield 219, 3), (83, .invokevirtual 796, 3), (86, .invokevirtual 1024, 3), (89, .iload 5, 2), (91, .aload_n 0, 1)] = true := by decide +kernel
theorem dX1_isIn_63 : decode cX1_isIn 63 = .ok (.putfield 818, 3) := zdec_at bX1_isIn_63 0 rfl
theorem dX1_isIn_66 : decode cX1_isIn 66 = .ok (.aload_n 0, 1) := zdec_at bX1_isIn_63 1 rfl
theorem dX1_isIn_67 : decode cX1_isIn 67 = .ok (.lconst 0, 1) := zdec_at bX1_isIn_63 2 rfl
theorem dX1_isIn_68 : decode cX1_isIn 68 = .ok (.putfield 821, 3) := zdec_at bX1_isIn_63 3 rfl
theorem dX1_isIn_71 : decode cX1_isIn 71 = .ok (.aload_n 0, 1) := zdec_at bX1_isIn_63 4 rfl
theorem dX1_isIn_72 : decode cX1_isIn 72 = .ok (.iconst 0, 1) := zdec_at bX1_isIn_63 5 rfl
theorem dX1_isIn_73 : decode cX1_isIn 73 = .ok (.putfield 824, 3) := zdec_at bX1_isIn_63 6 rfl
theorem dX1_isIn_76 : decode cX1_isIn 76 = .ok (.aload_n 0, 1) := zdec_at bX1_isIn_63 7 rfl
theorem dX1_isIn_77 : decode cX1_isIn 77 = .ok (.lload_n 1, 1) := zdec_at bX1_isIn_63 8 rfl
theorem dX1_isIn_78 : decode cX1_isIn 78 = .ok (.lload_n 3, 1) := zdec_at bX1_isIn_63 9 rfl
theorem dX1_isIn_79 : decode cX1_isIn 79 = .ok (.aload_n 0, 1) := zdec_at bX1_isIn_63 10 rfl
theorem dX1_isIn_80 : decode cX1_isIn 80 = .ok (.getfield 219, 3) := zdec_at bX1_isIn_63 11 rfl
theorem dX1_isIn_83 : decode cX1_isIn 83 = .ok (.invokevirtual 796, 3) := zdec_at bX1_isIn_63 12 rfl
theorem dX1_isIn_86 : decode cX1_isIn 86 = .ok (.invokevirtual 1024, 3) := zdec_at bX1_isIn_63 13 rfl
theorem dX1_isIn_89 : decode cX1_isIn 89 = .ok (.iload 5, 2) := zdec_at bX1_isIn_63 14 rfl
theorem dX1_isIn_91 : decode cX1_isIn 91 = .ok (.aload_n 0, 1) := zdec_at bX1_isIn_63 15 rfl
theorem bX1_isIn_92 : zdec cX1_isIn 92 [(92, .getfield 850, 3), (95, .ifCond .ne 19, 3), (98, .aload_n 0, 1), (99, .getfield 219, 3), (102, .getfield 920, 3), (105, .ldc2_w 875, 3), (108, .land, 1), (109, .lconst 0, 1), (110, .lcmp, 1), (111, .ifCond .eq 7, 3), (114, .iconst 1, 1), (115, .goto 4, 3), (118, .iconst 0, 1), (119, .ior, 1), (120, .istore 5, 2), (122, .iload 5, 2)] = true := by decide +kernel
theorem dX1_isIn_92 : decode cX1_isIn 92 = .ok (.getfield 850, 3) := zdec_at bX1_isIn_92 0 rfl
theorem dX1_isIn_95 : decode cX1_isIn 95 = .ok (.ifCond .ne 19, 3) := zdec_at bX1_isIn_92 1 rfl
theorem dX1_isIn_98 : decode cX1_isIn 98 = .ok (.aload_n 0, 1) := zdec_at bX1_isIn_92 2 rfl
theorem dX1_isIn_99 : decode cX1_isIn 99 = .ok (.getfield 219, 3) := zdec_at bX1_isIn_92 3 rfl
theorem dX1_isIn_102 : decode cX1_isIn 102 = .ok (.getfield 920, 3) := zdec_at bX1_isIn_92 4 rfl
theorem dX1_isIn_105 : decode cX1_isIn 105 = .ok (.ldc2_w 875, 3) := zdec_at bX1_isIn_92 5 rfl
theorem dX1_isIn_108 : decode cX1_isIn 108 = .ok (.land, 1) := zdec_at bX1_isIn_92 6 rfl
theorem dX1_isIn_109 : decode cX1_isIn 109 = .ok (.lconst 0, 1) := zdec_at bX1_isIn_92 7 rfl
theorem dX1_isIn_110 : decode cX1_isIn 110 = .ok (.lcmp, 1) := zdec_at bX1_isIn_92 8 rfl
theorem dX1_isIn_111 : decode cX1_isIn 111 = .ok (.ifCond .eq 7, 3) := zdec_at bX1_isIn_92 9 rfl
theorem dX1_isIn_114 : decode cX1_isIn 114 = .ok (.iconst 1, 1) := zdec_at bX1_isIn_92 10 rfl
theorem dX1_isIn_115 : decode cX1_isIn 115 = .ok (.goto 4, 3) := zdec_at bX1_isIn_92 11 rfl
theorem dX1_isIn_118 : decode cX1_isIn 118 = .ok (.iconst 0, 1) := zdec_at bX1_isIn_92 12 rfl
theorem dX1_isIn_119 : decode cX1_isIn 119 = .ok (.ior, 1) := zdec_at bX1_isIn_92 13 rfl
theorem dX1_isIn_120 : decode cX1_isIn 120 = .ok (.istore 5, 2) := zdec_at bX1_isIn_92 14 rfl
theorem dX1_isIn_122 : decode cX1_isIn 122 = .ok (.iload 5, 2) := zdec_at bX1_isIn_92 15 rfl
theorem bX1_isIn_124 : zdec cX1_isIn 124 [(124, .ifCond .eq 12, 3), (127, .aload_n 0, 1), (128, .aload_n 0, 1), (129, .getfield 684, 3), (132, .iconst 0, 1), (133, .invokevirtual 960, 3), (136, .aload_n 0, 1), (137, .getfield 219, 3), (140, .invokevirtual 837, 3), (143, .ifCond .eq 34, 3), (146, .aload_n 0, 1), (147, .aload_n 0, 1), (148, .getfield 216, 3), (151, .ldc2_w 1018, 3), (154, .aload_n 0, 1), (155, .getfield 206, 3)] = true := by decide +kernel
theorem dX1_isIn_124 : decode cX1_isIn 124 = .ok (.ifCond .eq 12, 3) := zdec_at bX1_isIn_124 0 rfl
theorem dX1_isIn_127 : decode cX1_isIn 127 = .ok (.aload_n 0, 1) := zdec_at bX1_isIn_124 1 rfl
theorem dX1_isIn_128 : decode cX1_isIn 128 = .ok (.aload_n 0, 1) := zdec_at bX1_isIn_124 2 rfl
theorem dX1_isIn_129 : decode cX1_isIn 129 = .ok (.getfield 684, 3) := zdec_at bX1_isIn_124 3 rfl
theorem dX1_isIn_132 : decode cX1_isIn 132 = .ok (.iconst 0, 1) := zdec_at bX1_isIn_124 4 rfl
theorem dX1_isIn_133 : decode cX1_isIn 133 = .ok (.invokevirtual 960, 3) := zdec_at bX1_isIn_124 5 rfl
theorem dX1_isIn_136 : decode cX1_isIn 136 = .ok (.aload_n 0, 1) := zdec_at bX1_isIn_124 6 rfl
theorem dX1_isIn_137 : decode cX1_isIn 137 = .ok (.getfield 219, 3) := zdec_at bX1_isIn_124 7 rfl
theorem dX1_isIn_140 : decode cX1_isIn 140 = .ok (.invokevirtual 837, 3) := zdec_at bX1_isIn_124 8 rfl
theorem dX1_isIn_143 : decode cX1_isIn 143 = .ok (.ifCond .eq 34, 3) := zdec_at bX1_isIn_124 9 rfl
theorem dX1_isIn_146 : decode cX1_isIn 146 = .ok (.aload_n 0, 1) := zdec_at bX1_isIn_124 10 rfl
theorem dX1_isIn_147 : decode cX1_isIn 147 = .ok (.aload_n 0, 1) := zdec_at bX1_isIn_124 11 rfl
theorem dX1_isIn_148 : decode cX1_isIn 148 = .ok (.getfield 216, 3) := zdec_at bX1_isIn_124 12 rfl
theorem dX1_isIn_151 : decode cX1_isIn 151 = .ok (.ldc2_w 1018, 3) := zdec_at bX1_isIn_124 13 rfl
theorem dX1_isIn_154 : decode cX1_isIn 154 = .ok (.aload_n 0, 1) := zdec_at bX1_isIn_124 14 rfl
theorem dX1_isIn_155 : decode cX1_isIn 155 = .ok (.getfield 206, 3) := zdec_at bX1_isIn_124 15 rfl
theorem bX1_isIn_158 : zdec cX1_isIn 158 [(158, .invokevirtual 837, 3), (161, .ifCond .eq 7, 3), (164, .iconst 4, 1), (165, .goto 4, 3), (168, .iconst 0, 1), (169, .i2l, 1), (170, .lor, 1), (171, .invokevirtual 892, 3), (174, .invokevirtual 895, 3), (177, .return_, 1)] = true := by decide +kernel
theorem dX1_isIn_158 : decode cX1_isIn 158 = .ok (.invokevirtual 837, 3) := zdec_at bX1_isIn_158 0 rfl
theorem dX1_isIn_161 : decode cX1_isIn 161 = .ok (.ifCond .eq 7, 3) := zdec_at bX1_isIn_158 1 rfl
theorem dX1_isIn_164 : decode cX1_isIn 164 = .ok (.iconst 4, 1) := zdec_at bX1_isIn_158 2 rfl
theorem dX1_isIn_165 : decode cX1_isIn 165 = .ok (.goto 4, 3) := zdec_at bX1_isIn_158 3 rfl
theorem dX1_isIn_168 : decode cX1_isIn 168 = .ok (.iconst 0, 1) := zdec_at bX1_isIn_158 4 rfl
theorem dX1_isIn_169 : decode cX1_isIn 169 = .ok (.i2l, 1) := zdec_at bX1_isIn_158 5 rfl
theorem dX1_isIn_170 : decode cX1_isIn 170 = .ok (.lor, 1) := zdec_at bX1_isIn_158 6 rfl
theorem dX1_isIn_171 : decode cX1_isIn 171 = .ok (.invokevirtual 892, 3) := zdec_at bX1_isIn_158 7 rfl
theorem dX1_isIn_174 : decode cX1_isIn 174 = .ok (.invokevirtual 895, 3) := zdec_at bX1_isIn_158 8 rfl
theorem dX1_isIn_177 : decode cX1_isIn 177 = .ok (.return_, 1) := zdec_at bX1_isIn_158 9 rfl
theorem sX1_isIn_0 {E : zE} {d : Nat} {Q : zO → zM → Prop} (M : zM)  (hw : cw M) (k : Z E YX1_natives d M (zargs 0 []) 0 [] (zafter E YX1_isIn (d + 1) [(0, vr (some (16, 0, 0)))] 7 3 [vl (gl M 72 0)] Q)) : Z E YX1_isIn (d + 1) M [(0, vr (some (16, 0, 0)))] 0 [] Q := by
  refine z_aload_n dX1_isIn_0 rfl rfl ?_
  refine z_getr dX1_isIn_1 fsX1_210_0 (show gr M 16 79 = some (72, 4, 0) from cw_at hw 40 rfl) ?_
  refine z_getl dX1_isIn_4 fsX1_916_4 ?_
  exact z_callS (as := []) (st := [vl (gl M 72 0)]) dX1_isIn_7 ssX1_996 (Nat.le_refl _) (Nat.le_of_ble_eq_true rfl) (Nat.le_of_ble_eq_true rfl) rfl k
theorem sX1_isIn_10 {E : zE} {d : Nat} {Q : zO → zM → Prop} (M : zM) (s0 : Int64) (s1 : Int64) (hw : cw M) (k : Z E YX1_natives d M (zargs 0 []) 0 [] (zafter E YX1_isIn (d + 1) [(0, vr (some (16, 0, 0))), (1, vl (s1 &&& (s0 ||| (gl M 16 73)))), (3, vl ((gl M 72 1) &&& (gl M 16 74)))] 34 3 [vr (some (72, 4, 0))] Q)) : Z E YX1_isIn (d + 1) M [(0, vr (some (16, 0, 0)))] 10 [vl s0, vl s1] Q := by
  refine z_aload_n dX1_isIn_10 rfl rfl ?_
  refine z_getl dX1_isIn_11 fsX1_658_0 ?_
  refine z_lor dX1_isIn_14 ?_
  refine z_land dX1_isIn_15 ?_
  refine z_lst_n dX1_isIn_16 rfl (by decide) (lv' := [(0, vr (some (16, 0, 0))), (1, vl (s1 &&& (s0 ||| (gl M 16 73))))]) rfl ?_
  refine z_aload_n dX1_isIn_17 rfl rfl ?_
  refine z_getr dX1_isIn_18 fsX1_210_0 (show gr M 16 79 = some (72, 4, 0) from cw_at hw 40 rfl) ?_
  refine z_getl dX1_isIn_21 fsX1_918_4 ?_
  refine z_aload_n dX1_isIn_24 rfl rfl ?_
  refine z_getl dX1_isIn_25 fsX1_661_0 ?_
  refine z_land dX1_isIn_28 ?_
  refine z_lst_n dX1_isIn_29 rfl (by decide) (lv' := [(0, vr (some (16, 0, 0))), (1, vl (s1 &&& (s0 ||| (gl M 16 73)))), (3, vl ((gl M 72 1) &&& (gl M 16 74)))]) rfl ?_
  refine z_aload_n dX1_isIn_30 rfl rfl ?_
  refine z_getr dX1_isIn_31 fsX1_210_0 (show gr M 16 79 = some (72, 4, 0) from cw_at hw 40 rfl) ?_
  exact z_callS (as := []) (st := [vr (some (72, 4, 0))]) dX1_isIn_34 ssX1_996 (Nat.le_refl _) (Nat.le_of_ble_eq_true rfl) (Nat.le_of_ble_eq_true rfl) rfl k
theorem sX1_isIn_37 {E : zE} {d : Nat} {Q : zO → zM → Prop} (M : zM) (l1 : Int64) (l3 : Int64) (s0 : Int64) (hw : cw M) (k : Z E YX6_hasOnly d M (zargs 0 [vr (some (72, 4, 0)), vl (s0 ||| (gl M 16 73)), vl (gl M 16 74)]) 0 [] (zafter E YX1_isIn (d + 1) [(0, vr (some (16, 0, 0))), (1, vl l1), (3, vl l3)] 46 3 [] Q)) : Z E YX1_isIn (d + 1) M [(0, vr (some (16, 0, 0))), (1, vl l1), (3, vl l3)] 37 [vl s0, vr (some (72, 4, 0))] Q := by
  refine z_aload_n dX1_isIn_37 rfl rfl ?_
  refine z_getl dX1_isIn_38 fsX1_658_0 ?_
  refine z_lor dX1_isIn_41 ?_
  refine z_aload_n dX1_isIn_42 rfl rfl ?_
  refine z_getl dX1_isIn_43 fsX1_661_0 ?_
  exact z_callV (as := [vl (s0 ||| (gl M 16 73)), vl (gl M 16 74)]) (st := []) dX1_isIn_46 vsX1_1028_4 (Nat.le_refl _) (Nat.le_of_ble_eq_true rfl) (Nat.le_of_ble_eq_true rfl) rfl k
theorem sX1_isIn_49 {E : zE} {d : Nat} {Q : zO → zM → Prop} (M : zM) (l1 : Int64) (l3 : Int64) (s0 : Int32) (hw : cw M) (k : if s0 = 0 then (Z E YX1_isIn (d + 1) M [(0, vr (some (16, 0, 0))), (1, vl l1), (3, vl l3)] 57 [vi (1 : Int32)] Q) else (Z E YX1_isIn (d + 1) M [(0, vr (some (16, 0, 0))), (1, vl l1), (3, vl l3)] 57 [vi (0 : Int32)] Q)) : Z E YX1_isIn (d + 1) M [(0, vr (some (16, 0, 0))), (1, vl l1), (3, vl l3)] 49 [vi s0] Q := by
  refine z_if_ne (tgt := 56) dX1_isIn_49 rfl (fun h_ => ?_) (fun h_ => ?_)
  · have k := zif h_ k
    refine z_iconst (v := 0) dX1_isIn_56 rfl ?_
    exact k
  · have k := zit h_ k
    refine z_iconst (v := 1) dX1_isIn_52 rfl ?_
    refine z_goto (tgt := 57) dX1_isIn_53 rfl ?_
    exact k
theorem sX1_isIn_57 {E : zE} {d : Nat} {Q : zO → zM → Prop} (M : zM) (l1 : Int64) (l3 : Int64) (s0 : Int32) (hw : cw M) (k : Z E YX6_empty d (si (sl (sl M 16 88 (2 : Int64)) 16 89 (0 : Int64)) 16 90 (0 : Int32)) (zargs 0 [vr (some (75, 4, 0))]) 0 [] (zafter E YX1_isIn (d + 1) [(0, vr (some (16, 0, 0))), (5, vi s0)] 83 3 [vl l3, vl l1, vr (some (16, 0, 0))] Q)) : Z E YX1_isIn (d + 1) M [(0, vr (some (16, 0, 0))), (1, vl l1), (3, vl l3)] 57 [vi s0] Q := by
  refine z_ist dX1_isIn_57 (by decide) (lv' := [(0, vr (some (16, 0, 0))), (1, vl l1), (3, vl l3), (5, vi s0)]) rfl ?_
  refine z_aload_n dX1_isIn_59 rfl rfl ?_
  refine z_ldc2 (v := 2) dX1_isIn_60 q3402 ?_
  refine z_putl (by decide) dX1_isIn_63 (zfwN.w fwX1_818_0) ?_
  refine z_aload_n dX1_isIn_66 rfl rfl ?_
  refine z_lconst (v := 0) dX1_isIn_67 rfl ?_
  refine z_putl (by decide) dX1_isIn_68 (zfwN.w fwX1_821_0) ?_
  refine z_aload_n dX1_isIn_71 rfl rfl ?_
  refine z_iconst (v := 0) dX1_isIn_72 rfl ?_
  refine z_puti (by decide) dX1_isIn_73 (zfwN.w fwX1_824_0) rfl ⟨by decide, by decide⟩ ?_
  refine z_aload_n dX1_isIn_76 rfl rfl ?_
  refine z_lload_n dX1_isIn_77 rfl rfl ?_
  refine z_lload_n dX1_isIn_78 rfl rfl ?_
  refine z_aload_n dX1_isIn_79 rfl rfl ?_
  refine z_getr dX1_isIn_80 fsX1_219_0 (show gr M 16 82 = some (75, 4, 0) from cw_at hw 43 rfl) ?_
  refine Z.pick [0, 3] rfl ?_
  exact z_callV (as := []) (st := [vl l3, vl l1, vr (some (16, 0, 0))]) dX1_isIn_83 vsX1_796_4 (Nat.le_refl _) (Nat.le_of_ble_eq_true rfl) (Nat.le_of_ble_eq_true rfl) rfl k
theorem sX1_isIn_86 {E : zE} {d : Nat} {Q : zO → zM → Prop} (M : zM) (l5 : Int32) (u0 : Option zP) (s1 : Int64) (s2 : Int64) (hw : cw M) (k : Z E YX1_readAll d M (zargs 0 [vr (some (16, 0, 0)), vl s2, vl s1, vr u0]) 0 [] (zafter E YX1_isIn (d + 1) [(0, vr (some (16, 0, 0))), (5, vi l5)] 86 3 [] Q)) : Z E YX1_isIn (d + 1) M [(0, vr (some (16, 0, 0))), (5, vi l5)] 86 [vr u0, vl s1, vl s2, vr (some (16, 0, 0))] Q := by
  exact z_callV (as := [vl s2, vl s1, vr u0]) (st := []) dX1_isIn_86 vsX1_1024_0 (Nat.le_refl _) (Nat.le_of_ble_eq_true rfl) (Nat.le_of_ble_eq_true rfl) rfl k
theorem sX1_isIn_89 {E : zE} {d : Nat} {Q : zO → zM → Prop} (M : zM) (l5 : Int32) (hw : cw M) (k : if (gi M 16 91) = 0 then (if (lg_cmp ((gl M 75 2) &&& (511 : Int64)) (0 : Int64)) = 0 then (Z E YX1_isIn (d + 1) M [(0, vr (some (16, 0, 0)))] 119 [vi (0 : Int32), vi l5] Q) else (Z E YX1_isIn (d + 1) M [(0, vr (some (16, 0, 0)))] 119 [vi (1 : Int32), vi l5] Q)) else (Z E YX1_isIn (d + 1) M [(0, vr (some (16, 0, 0)))] 119 [vi (1 : Int32), vi l5] Q)) : Z E YX1_isIn (d + 1) M [(0, vr (some (16, 0, 0))), (5, vi l5)] 89 [] Q := by
  refine z_iload dX1_isIn_89 rfl ?_
  refine z_aload_n dX1_isIn_91 rfl rfl ?_
  refine z_geti dX1_isIn_92 fsX1_850_0 ?_
  refine z_if_ne (tgt := 114) dX1_isIn_95 rfl (fun h_ => ?_) (fun h_ => ?_)
  · have k := zif h_ k
    refine z_iconst (v := 1) dX1_isIn_114 rfl ?_
    refine z_goto (tgt := 119) dX1_isIn_115 rfl ?_
    refine Z.pick [0] rfl ?_
    exact k
  · have k := zit h_ k
    refine z_aload_n dX1_isIn_98 rfl rfl ?_
    refine z_getr dX1_isIn_99 fsX1_219_0 (show gr M 16 82 = some (75, 4, 0) from cw_at hw 43 rfl) ?_
    refine z_getl dX1_isIn_102 fsX1_920_4 ?_
    refine z_ldc2 (v := 511) dX1_isIn_105 q3350 ?_
    refine z_land dX1_isIn_108 ?_
    refine z_lconst (v := 0) dX1_isIn_109 rfl ?_
    refine z_lcmp dX1_isIn_110 ?_
    refine z_if_eq (tgt := 118) dX1_isIn_111 rfl (fun h_ => ?_) (fun h_ => ?_)
    · have k := zit h_ k
      refine z_iconst (v := 0) dX1_isIn_118 rfl ?_
      refine Z.pick [0] rfl ?_
      exact k
    · have k := zif h_ k
      refine z_iconst (v := 1) dX1_isIn_114 rfl ?_
      refine z_goto (tgt := 119) dX1_isIn_115 rfl ?_
      refine Z.pick [0] rfl ?_
      exact k
theorem sX1_isIn_119 {E : zE} {d : Nat} {Q : zO → zM → Prop} (M : zM) (s0 : Int32) (s1 : Int32) (hw : cw M) (k : if (s1 ||| s0) = 0 then (Z E YX1_isIn (d + 1) M [(0, vr (some (16, 0, 0)))] 136 [] Q) else (Z E YX1_errs d M (zargs 0 [vr (some (16, 0, 0)), vr (gr M 16 60), vi (0 : Int32)]) 0 [] (zafter E YX1_isIn (d + 1) [(0, vr (some (16, 0, 0)))] 133 3 [] Q))) : Z E YX1_isIn (d + 1) M [(0, vr (some (16, 0, 0)))] 119 [vi s0, vi s1] Q := by
  refine z_ior dX1_isIn_119 ?_
  refine z_ist dX1_isIn_120 (by decide) (lv' := [(0, vr (some (16, 0, 0))), (5, vi (s1 ||| s0))]) rfl ?_
  refine z_iload dX1_isIn_122 rfl ?_
  refine z_if_eq (tgt := 136) dX1_isIn_124 rfl (fun h_ => ?_) (fun h_ => ?_)
  · have k := zit h_ k
    refine Z.pick [0] rfl ?_
    exact k
  · have k := zif h_ k
    refine z_aload_n dX1_isIn_127 rfl rfl ?_
    refine z_aload_n dX1_isIn_128 rfl rfl ?_
    refine z_getr (r := (gr M 16 60)) dX1_isIn_129 fsX1_684_0 rfl ?_
    refine z_iconst (v := 0) dX1_isIn_132 rfl ?_
    refine Z.pick [0] rfl ?_
    exact z_callV (as := [vr (gr M 16 60), vi (0 : Int32)]) (st := []) dX1_isIn_133 vsX1_960_0 (Nat.le_refl _) (Nat.le_of_ble_eq_true rfl) (Nat.le_of_ble_eq_true rfl) rfl k
theorem sX1_isIn_136 {E : zE} {d : Nat} {Q : zO → zM → Prop} (M : zM)  (hw : cw M) (k : Z E YX6_hasLabels d M (zargs 0 [vr (some (75, 4, 0))]) 0 [] (zafter E YX1_isIn (d + 1) [(0, vr (some (16, 0, 0)))] 140 3 [] Q)) : Z E YX1_isIn (d + 1) M [(0, vr (some (16, 0, 0)))] 136 [] Q := by
  refine z_aload_n dX1_isIn_136 rfl rfl ?_
  refine z_getr dX1_isIn_137 fsX1_219_0 (show gr M 16 82 = some (75, 4, 0) from cw_at hw 43 rfl) ?_
  exact z_callV (as := []) (st := []) dX1_isIn_140 vsX1_837_4 (Nat.le_refl _) (Nat.le_of_ble_eq_true rfl) (Nat.le_of_ble_eq_true rfl) rfl k
theorem sX1_isIn_143 {E : zE} {d : Nat} {Q : zO → zM → Prop} (M : zM) (s0 : Int32) (hw : cw M) (k : if s0 = 0 then (Z E YX1_isIn (d + 1) M [] 177 [] Q) else (Z E YX6_hasLabels d M (zargs 0 [vr (some (71, 4, 0))]) 0 [] (zafter E YX1_isIn (d + 1) [] 158 3 [vl (8 : Int64), vr (some (74, 4, 0)), vr (some (16, 0, 0))] Q))) : Z E YX1_isIn (d + 1) M [(0, vr (some (16, 0, 0)))] 143 [vi s0] Q := by
  refine z_if_eq (tgt := 177) dX1_isIn_143 rfl (fun h_ => ?_) (fun h_ => ?_)
  · have k := zit h_ k
    refine Z.pick [] rfl ?_
    exact k
  · have k := zif h_ k
    refine z_aload_n dX1_isIn_146 rfl rfl ?_
    refine z_aload_n dX1_isIn_147 rfl rfl ?_
    refine z_getr dX1_isIn_148 fsX1_216_0 (show gr M 16 81 = some (74, 4, 0) from cw_at hw 42 rfl) ?_
    refine z_ldc2 (v := 8) dX1_isIn_151 q3392 ?_
    refine z_aload_n dX1_isIn_154 rfl rfl ?_
    refine z_getr dX1_isIn_155 fsX1_206_0 (show gr M 16 78 = some (71, 4, 0) from cw_at hw 39 rfl) ?_
    refine Z.pick [] rfl ?_
    exact z_callV (as := []) (st := [vl (8 : Int64), vr (some (74, 4, 0)), vr (some (16, 0, 0))]) dX1_isIn_158 vsX1_837_4 (Nat.le_refl _) (Nat.le_of_ble_eq_true rfl) (Nat.le_of_ble_eq_true rfl) rfl k
theorem sX1_isIn_161 {E : zE} {d : Nat} {Q : zO → zM → Prop} (M : zM) (s0 : Int32) (s1 : Int64) (hw : cw M) (k : if s0 = 0 then (Z E YX6_of d M (zargs 0 [vr (some (74, 4, 0)), vl (s1 ||| ((0 : Int32)).toInt64)]) 0 [] (zafter E YX1_isIn (d + 1) [] 171 3 [vr (some (16, 0, 0))] Q)) else (Z E YX6_of d M (zargs 0 [vr (some (74, 4, 0)), vl (s1 ||| ((4 : Int32)).toInt64)]) 0 [] (zafter E YX1_isIn (d + 1) [] 171 3 [vr (some (16, 0, 0))] Q))) : Z E YX1_isIn (d + 1) M [] 161 [vi s0, vl s1, vr (some (74, 4, 0)), vr (some (16, 0, 0))] Q := by
  refine z_if_eq (tgt := 168) dX1_isIn_161 rfl (fun h_ => ?_) (fun h_ => ?_)
  · have k := zit h_ k
    refine z_iconst (v := 0) dX1_isIn_168 rfl ?_
    refine z_i2l dX1_isIn_169 ?_
    refine z_lor dX1_isIn_170 ?_
    exact z_callV (as := [vl (s1 ||| ((0 : Int32)).toInt64)]) (st := [vr (some (16, 0, 0))]) dX1_isIn_171 vsX1_892_4 (Nat.le_refl _) (Nat.le_of_ble_eq_true rfl) (Nat.le_of_ble_eq_true rfl) rfl k
  · have k := zif h_ k
    refine z_iconst (v := 4) dX1_isIn_164 rfl ?_
    refine z_goto (tgt := 169) dX1_isIn_165 rfl ?_
    refine z_i2l dX1_isIn_169 ?_
    refine z_lor dX1_isIn_170 ?_
    exact z_callV (as := [vl (s1 ||| ((4 : Int32)).toInt64)]) (st := [vr (some (16, 0, 0))]) dX1_isIn_171 vsX1_892_4 (Nat.le_refl _) (Nat.le_of_ble_eq_true rfl) (Nat.le_of_ble_eq_true rfl) rfl k
theorem sX1_isIn_174 {E : zE} {d : Nat} {Q : zO → zM → Prop} (M : zM) (u0 : Option zP) (hw : cw M) (k : Z E YX1_nextWith d M (zargs 0 [vr (some (16, 0, 0)), vr u0]) 0 [] (zafter E YX1_isIn (d + 1) [] 174 3 [] Q)) : Z E YX1_isIn (d + 1) M [] 174 [vr u0, vr (some (16, 0, 0))] Q := by
  exact z_callV (as := [vr u0]) (st := []) dX1_isIn_174 vsX1_895_0 (Nat.le_refl _) (Nat.le_of_ble_eq_true rfl) (Nat.le_of_ble_eq_true rfl) rfl k
theorem sX1_isIn_177 {E : zE} {d : Nat} {Q : zO → zM → Prop} (M : zM)  (hw : cw M) (k : Q (.inl none) M) : Z E YX1_isIn (d + 1) M [] 177 [] Q := by
  exact z_vret dX1_isIn_177 rfl k
/-! ScriptTypes.binaryOf(I)V -/
theorem bX1_binaryOf_0 : zdec cX1_binaryOf 0 [(0, .aload_n 0, 1), (1, .getfield 216, 3), (4, .invokevirtual 796, 3), (7, .pop, 1), (8, .aload_n 0, 1), (9, .getfield 206, 3), (12, .sipush 384, 3), (15, .invokevirtual 831, 3), (18, .ifCond .ne 36, 3), (21, .aload_n 0, 1), (22, .getfield 206, 3), (25, .invokevirtual 837, 3), (28, .ifCond .ne 26, 3), (31, .aload_n 0, 1), (32, .getfield 210, 3), (35, .sipush 384, 3)] = true := by decide +kernel
theorem dX1_binaryOf_0 : decode cX1_binaryOf 0 = .ok (.aload_n 0, 1) := zdec_at bX1_binaryOf_0 0 rfl
theorem dX1_binaryOf_1 : decode cX1_binaryOf 1 = .ok (.getfield 216, 3) := zdec_at bX1_binaryOf_0 1 rfl
theorem dX1_binaryOf_4 : decode cX1_binaryOf 4 = .ok (.invokevirtual 796, 3) := zdec_at bX1_binaryOf_0 2 rfl
theorem dX1_binaryOf_7 : decode cX1_binaryOf 7 = .ok (.pop, 1) := zdec_at bX1_binaryOf_0 3 rfl
theorem dX1_binaryOf_8 : decode cX1_binaryOf 8 = .ok (.aload_n 0, 1) := zdec_at bX1_binaryOf_0 4 rfl
theorem dX1_binaryOf_9 : decode cX1_binaryOf 9 = .ok (.getfield 206, 3) := zdec_at bX1_binaryOf_0 5 rfl
theorem dX1_binaryOf_12 : decode cX1_binaryOf 12 = .ok (.sipush 384, 3) := zdec_at bX1_binaryOf_0 6 rfl
theorem dX1_binaryOf_15 : decode cX1_binaryOf 15 = .ok (.invokevirtual 831, 3) := zdec_at bX1_binaryOf_0 7 rfl
theorem dX1_binaryOf_18 : decode cX1_binaryOf 18 = .ok (.ifCond .ne 36, 3) := zdec_at bX1_binaryOf_0 8 rfl
theorem dX1_binaryOf_21 : decode cX1_binaryOf 21 = .ok (.aload_n 0, 1) := zdec_at bX1_binaryOf_0 9 rfl
theorem dX1_binaryOf_22 : decode cX1_binaryOf 22 = .ok (.getfield 206, 3) := zdec_at bX1_binaryOf_0 10 rfl
theorem dX1_binaryOf_25 : decode cX1_binaryOf 25 = .ok (.invokevirtual 837, 3) := zdec_at bX1_binaryOf_0 11 rfl
theorem dX1_binaryOf_28 : decode cX1_binaryOf 28 = .ok (.ifCond .ne 26, 3) := zdec_at bX1_binaryOf_0 12 rfl
theorem dX1_binaryOf_31 : decode cX1_binaryOf 31 = .ok (.aload_n 0, 1) := zdec_at bX1_binaryOf_0 13 rfl
theorem dX1_binaryOf_32 : decode cX1_binaryOf 32 = .ok (.getfield 210, 3) := zdec_at bX1_binaryOf_0 14 rfl
theorem dX1_binaryOf_35 : decode cX1_binaryOf 35 = .ok (.sipush 384, 3) := zdec_at bX1_binaryOf_0 15 rfl
theorem bX1_binaryOf_38 : zdec cX1_binaryOf 38 [(38, .invokevirtual 831, 3), (41, .ifCond .ne 13, 3), (44, .aload_n 0, 1), (45, .getfield 210, 3), (48, .invokevirtual 837, 3), (51, .ifCond .eq 7, 3), (54, .iconst 1, 1), (55, .goto 4, 3), (58, .iconst 0, 1), (59, .istore_n 2, 1), (60, .aload_n 0, 1), (61, .getfield 206, 3), (64, .invokevirtual 1006, 3), (67, .ifCond .eq 149, 3), (70, .aload_n 0, 1), (71, .getfield 210, 3)] = true := by decide +kernel
theorem dX1_binaryOf_38 : decode cX1_binaryOf 38 = .ok (.invokevirtual 831, 3) := zdec_at bX1_binaryOf_38 0 rfl
theorem dX1_binaryOf_41 : decode cX1_binaryOf 41 = .ok (.ifCond .ne 13, 3) := zdec_at bX1_binaryOf_38 1 rfl
theorem dX1_binaryOf_44 : decode cX1_binaryOf 44 = .ok (.aload_n 0, 1) := zdec_at bX1_binaryOf_38 2 rfl
theorem dX1_binaryOf_45 : decode cX1_binaryOf 45 = .ok (.getfield 210, 3) := zdec_at bX1_binaryOf_38 3 rfl
theorem dX1_binaryOf_48 : decode cX1_binaryOf 48 = .ok (.invokevirtual 837, 3) := zdec_at bX1_binaryOf_38 4 rfl
theorem dX1_binaryOf_51 : decode cX1_binaryOf 51 = .ok (.ifCond .eq 7, 3) := zdec_at bX1_binaryOf_38 5 rfl
theorem dX1_binaryOf_54 : decode cX1_binaryOf 54 = .ok (.iconst 1, 1) := zdec_at bX1_binaryOf_38 6 rfl
theorem dX1_binaryOf_55 : decode cX1_binaryOf 55 = .ok (.goto 4, 3) := zdec_at bX1_binaryOf_38 7 rfl
theorem dX1_binaryOf_58 : decode cX1_binaryOf 58 = .ok (.iconst 0, 1) := zdec_at bX1_binaryOf_38 8 rfl
theorem dX1_binaryOf_59 : decode cX1_binaryOf 59 = .ok (.istore_n 2, 1) := zdec_at bX1_binaryOf_38 9 rfl
theorem dX1_binaryOf_60 : decode cX1_binaryOf 60 = .ok (.aload_n 0, 1) := zdec_at bX1_binaryOf_38 10 rfl
theorem dX1_binaryOf_61 : decode cX1_binaryOf 61 = .ok (.getfield 206, 3) := zdec_at bX1_binaryOf_38 11 rfl
theorem dX1_binaryOf_64 : decode cX1_binaryOf 64 = .ok (.invokevirtual 1006, 3) := zdec_at bX1_binaryOf_38 12 rfl
theorem dX1_binaryOf_67 : decode cX1_binaryOf 67 = .ok (.ifCond .eq 149, 3) := zdec_at bX1_binaryOf_38 13 rfl
theorem dX1_binaryOf_70 : decode cX1_binaryOf 70 = .ok (.aload_n 0, 1) := zdec_at bX1_binaryOf_38 14 rfl
theorem dX1_binaryOf_71 : decode cX1_binaryOf 71 = .ok (.getfield 210, 3) := zdec_at bX1_binaryOf_38 15 rfl
theorem bX1_binaryOf_74 : zdec cX1_binaryOf 74 [(74, .invokevirtual 1006, 3), (77, .ifCond .eq 139, 3), (80, .iload_n 1, 1), (81, .ifCond .ne 95, 3), (84, .iload_n 2, 1), (85, .ifCond .eq 91, 3), (88, .aload_n 0, 1), (89, .invokevirtual 37, 3), (92, .aload_n 0, 1), (93, .aload_n 0, 1), (94, .getfield 206, 3), (97, .invokevirtual 1009, 3), (100, .aload_n 0, 1), (101, .getfield 206, 3), (104, .invokevirtual 1011, 3), (107, .invokevirtual 383, 3)] = true := by decide +kernel
theorem dX1_binaryOf_74 : decode cX1_binaryOf 74 = .ok (.invokevirtual 1006, 3) := zdec_at bX1_binaryOf_74 0 rfl
theorem dX1_binaryOf_77 : decode cX1_binaryOf 77 = .ok (.ifCond .eq 139, 3) := zdec_at bX1_binaryOf_74 1 rfl
theorem dX1_binaryOf_80 : decode cX1_binaryOf 80 = .ok (.iload_n 1, 1) := zdec_at bX1_binaryOf_74 2 rfl
theorem dX1_binaryOf_81 : decode cX1_binaryOf 81 = .ok (.ifCond .ne 95, 3) := zdec_at bX1_binaryOf_74 3 rfl
theorem dX1_binaryOf_84 : decode cX1_binaryOf 84 = .ok (.iload_n 2, 1) := zdec_at bX1_binaryOf_74 4 rfl
theorem dX1_binaryOf_85 : decode cX1_binaryOf 85 = .ok (.ifCond .eq 91, 3) := zdec_at bX1_binaryOf_74 5 rfl
theorem dX1_binaryOf_88 : decode cX1_binaryOf 88 = .ok (.aload_n 0, 1) := zdec_at bX1_binaryOf_74 6 rfl
theorem dX1_binaryOf_89 : decode cX1_binaryOf 89 = .ok (.invokevirtual 37, 3) := zdec_at bX1_binaryOf_74 7 rfl
theorem dX1_binaryOf_92 : decode cX1_binaryOf 92 = .ok (.aload_n 0, 1) := zdec_at bX1_binaryOf_74 8 rfl
theorem dX1_binaryOf_93 : decode cX1_binaryOf 93 = .ok (.aload_n 0, 1) := zdec_at bX1_binaryOf_74 9 rfl
theorem dX1_binaryOf_94 : decode cX1_binaryOf 94 = .ok (.getfield 206, 3) := zdec_at bX1_binaryOf_74 10 rfl
theorem dX1_binaryOf_97 : decode cX1_binaryOf 97 = .ok (.invokevirtual 1009, 3) := zdec_at bX1_binaryOf_74 11 rfl
theorem dX1_binaryOf_100 : decode cX1_binaryOf 100 = .ok (.aload_n 0, 1) := zdec_at bX1_binaryOf_74 12 rfl
theorem dX1_binaryOf_101 : decode cX1_binaryOf 101 = .ok (.getfield 206, 3) := zdec_at bX1_binaryOf_74 13 rfl
theorem dX1_binaryOf_104 : decode cX1_binaryOf 104 = .ok (.invokevirtual 1011, 3) := zdec_at bX1_binaryOf_74 14 rfl
theorem dX1_binaryOf_107 : decode cX1_binaryOf 107 = .ok (.invokevirtual 383, 3) := zdec_at bX1_binaryOf_74 15 rfl
theorem bX1_binaryOf_110 : zdec cX1_binaryOf 110 [(110, .aload_n 0, 1), (111, .aload_n 0, 1), (112, .getfield 210, 3), (115, .invokevirtual 1009, 3), (118, .aload_n 0, 1), (119, .getfield 210, 3), (122, .invokevirtual 1011, 3), (125, .invokevirtual 383, 3), (128, .aload_n 0, 1), (129, .getfield 19, 3), (132, .aload_n 0, 1), (133, .getfield 7, 3), (136, .aload_n 0, 1), (137, .getfield 1, 3), (140, .bipush 60, 2), (142, .invokestatic 369, 3)] = true := by decide +kernel
theorem dX1_binaryOf_110 : decode cX1_binaryOf 110 = .ok (.aload_n 0, 1) := zdec_at bX1_binaryOf_110 0 rfl
theorem dX1_binaryOf_111 : decode cX1_binaryOf 111 = .ok (.aload_n 0, 1) := zdec_at bX1_binaryOf_110 1 rfl
theorem dX1_binaryOf_112 : decode cX1_binaryOf 112 = .ok (.getfield 210, 3) := zdec_at bX1_binaryOf_110 2 rfl
theorem dX1_binaryOf_115 : decode cX1_binaryOf 115 = .ok (.invokevirtual 1009, 3) := zdec_at bX1_binaryOf_110 3 rfl
theorem dX1_binaryOf_118 : decode cX1_binaryOf 118 = .ok (.aload_n 0, 1) := zdec_at bX1_binaryOf_110 4 rfl
theorem dX1_binaryOf_119 : decode cX1_binaryOf 119 = .ok (.getfield 210, 3) := zdec_at bX1_binaryOf_110 5 rfl
theorem dX1_binaryOf_122 : decode cX1_binaryOf 122 = .ok (.invokevirtual 1011, 3) := zdec_at bX1_binaryOf_110 6 rfl
theorem dX1_binaryOf_125 : decode cX1_binaryOf 125 = .ok (.invokevirtual 383, 3) := zdec_at bX1_binaryOf_110 7 rfl
theorem dX1_binaryOf_128 : decode cX1_binaryOf 128 = .ok (.aload_n 0, 1) := zdec_at bX1_binaryOf_110 8 rfl
theorem dX1_binaryOf_129 : decode cX1_binaryOf 129 = .ok (.getfield 19, 3) := zdec_at bX1_binaryOf_110 9 rfl
theorem dX1_binaryOf_132 : decode cX1_binaryOf 132 = .ok (.aload_n 0, 1) := zdec_at bX1_binaryOf_110 10 rfl
theorem dX1_binaryOf_133 : decode cX1_binaryOf 133 = .ok (.getfield 7, 3) := zdec_at bX1_binaryOf_110 11 rfl
theorem dX1_binaryOf_136 : decode cX1_binaryOf 136 = .ok (.aload_n 0, 1) := zdec_at bX1_binaryOf_110 12 rfl
theorem dX1_binaryOf_137 : decode cX1_binaryOf 137 = .ok (.getfield 1, 3) := zdec_at bX1_binaryOf_110 13 rfl
theorem dX1_binaryOf_140 : decode cX1_binaryOf 140 = .ok (.bipush 60, 2) := zdec_at bX1_binaryOf_110 14 rfl
theorem dX1_binaryOf_142 : decode cX1_binaryOf 142 = .ok (.invokestatic 369, 3) := zdec_at bX1_binaryOf_110 15 rfl
theorem bX1_binaryOf_145 : zdec cX1_binaryOf 145 [(145, .invokevirtual 374, 3), (148, .istore_n 3, 1), (149, .aload_n 0, 1), (150, .getfield 216, 3), (153, .iload_n 3, 1), (154, .aload_n 0, 1), (155, .getfield 58, 3), (158, .if_icmp .ge 7, 3), (161, .iload_n 3, 1), (162, .goto 4, 3), (165, .iconst (-1), 1), (166, .invokestatic 741, 3), (169, .invokevirtual 892, 3), (172, .pop, 1), (173, .goto 138, 3), (176, .aload_n 0, 1)] = true := by decide +kernel
theorem dX1_binaryOf_145 : decode cX1_binaryOf 145 = .ok (.invokevirtual 374, 3) := zdec_at bX1_binaryOf_145 0 rfl
theorem dX1_binaryOf_148 : decode cX1_binaryOf 148 = .ok (.istore_n 3, 1) := zdec_at bX1_binaryOf_145 1 rfl
theorem dX1_binaryOf_149 : decode cX1_binaryOf 149 = .ok (.aload_n 0, 1) := zdec_at bX1_binaryOf_145 2 rfl
theorem dX1_binaryOf_150 : decode cX1_binaryOf 150 = .ok (.getfield 216, 3) := zdec_at bX1_binaryOf_145 3 rfl
theorem dX1_binaryOf_153 : decode cX1_binaryOf 153 = .ok (.iload_n 3, 1) := zdec_at bX1_binaryOf_145 4 rfl
theorem dX1_binaryOf_154 : decode cX1_binaryOf 154 = .ok (.aload_n 0, 1) := zdec_at bX1_binaryOf_145 5 rfl
theorem dX1_binaryOf_155 : decode cX1_binaryOf 155 = .ok (.getfield 58, 3) := zdec_at bX1_binaryOf_145 6 rfl
theorem dX1_binaryOf_158 : decode cX1_binaryOf 158 = .ok (.if_icmp .ge 7, 3) := zdec_at bX1_binaryOf_145 7 rfl
theorem dX1_binaryOf_161 : decode cX1_binaryOf 161 = .ok (.iload_n 3, 1) := zdec_at bX1_binaryOf_145 8 rfl
theorem dX1_binaryOf_162 : decode cX1_binaryOf 162 = .ok (.goto 4, 3) := zdec_at bX1_binaryOf_145 9 rfl
theorem dX1_binaryOf_165 : decode cX1_binaryOf 165 = .ok (.iconst (-1), 1) := zdec_at bX1_binaryOf_145 10 rfl
theorem dX1_binaryOf_166 : decode cX1_binaryOf 166 = .ok (.invokestatic 741, 3) := zdec_at bX1_binaryOf_145 11 rfl
theorem dX1_binaryOf_169 : decode cX1_binaryOf 169 = .ok (.invokevirtual 892, 3) := zdec_at bX1_binaryOf_145 12 rfl
theorem dX1_binaryOf_172 : decode cX1_binaryOf 172 = .ok (.pop, 1) := zdec_at bX1_binaryOf_145 13 rfl
theorem dX1_binaryOf_173 : decode cX1_binaryOf 173 = .ok (.goto 138, 3) := zdec_at bX1_binaryOf_145 14 rfl
theorem dX1_binaryOf_176 : decode cX1_binaryOf 176 = .ok (.aload_n 0, 1) := zdec_at bX1_binaryOf_145 15 rfl
theorem bX1_binaryOf_177 : zdec cX1_binaryOf 177 [(177, .iload_n 1, 1), (178, .aload_n 0, 1), (179, .getfield 206, 3), (182, .invokevirtual 1009, 3), (185, .aload_n 0, 1), (186, .getfield 206, 3), (189, .invokevirtual 1011, 3), (192, .aload_n 0, 1), (193, .getfield 210, 3), (196, .invokevirtual 1009, 3), (199, .aload_n 0, 1), (200, .getfield 210, 3), (203, .invokevirtual 1011, 3), (206, .invokevirtual 511, 3), (209, .aload_n 0, 1), (210, .invokevirtual 1013, 3)] = true := by decide +kernel
theorem dX1_binaryOf_177 : decode cX1_binaryOf 177 = .ok (.iload_n 1, 1) := zdec_at bX1_binaryOf_177 0 rfl
theorem dX1_binaryOf_178 : decode cX1_binaryOf 178 = .ok (.aload_n 0, 1) := zdec_at bX1_binaryOf_177 1 rfl
theorem dX1_binaryOf_179 : decode cX1_binaryOf 179 = .ok (.getfield 206, 3) := zdec_at bX1_binaryOf_177 2 rfl
theorem dX1_binaryOf_182 : decode cX1_binaryOf 182 = .ok (.invokevirtual 1009, 3) := zdec_at bX1_binaryOf_177 3 rfl
theorem dX1_binaryOf_185 : decode cX1_binaryOf 185 = .ok (.aload_n 0, 1) := zdec_at bX1_binaryOf_177 4 rfl
theorem dX1_binaryOf_186 : decode cX1_binaryOf 186 = .ok (.getfield 206, 3) := zdec_at bX1_binaryOf_177 5 rfl
theorem dX1_binaryOf_189 : decode cX1_binaryOf 189 = .ok (.invokevirtual 1011, 3) := zdec_at bX1_binaryOf_177 6 rfl
theorem dX1_binaryOf_192 : decode cX1_binaryOf 192 = .ok (.aload_n 0, 1) := zdec_at bX1_binaryOf_177 7 rfl
theorem dX1_binaryOf_193 : decode cX1_binaryOf 193 = .ok (.getfield 210, 3) := zdec_at bX1_binaryOf_177 8 rfl
theorem dX1_binaryOf_196 : decode cX1_binaryOf 196 = .ok (.invokevirtual 1009, 3) := zdec_at bX1_binaryOf_177 9 rfl
theorem dX1_binaryOf_199 : decode cX1_binaryOf 199 = .ok (.aload_n 0, 1) := zdec_at bX1_binaryOf_177 10 rfl
theorem dX1_binaryOf_200 : decode cX1_binaryOf 200 = .ok (.getfield 210, 3) := zdec_at bX1_binaryOf_177 11 rfl
theorem dX1_binaryOf_203 : decode cX1_binaryOf 203 = .ok (.invokevirtual 1011, 3) := zdec_at bX1_binaryOf_177 12 rfl
theorem dX1_binaryOf_206 : decode cX1_binaryOf 206 = .ok (.invokevirtual 511, 3) := zdec_at bX1_binaryOf_177 13 rfl
theorem dX1_binaryOf_209 : decode cX1_binaryOf 209 = .ok (.aload_n 0, 1) := zdec_at bX1_binaryOf_177 14 rfl
theorem dX1_binaryOf_210 : decode cX1_binaryOf 210 = .ok (.invokevirtual 1013, 3) := zdec_at bX1_binaryOf_177 15 rfl
theorem bX1_binaryOf_213 : zdec cX1_binaryOf 213 [(213, .goto 98, 3), (216, .iload_n 1, 1), (217, .ifCond .ne 60, 3), (220, .iload_n 2, 1), (221, .ifCond .eq 16, 3), (224, .aload_n 0, 1), (225, .getfield 216, 3), (228, .lconst 0, 1), (229, .lconst 0, 1), (230, .ldc2_w 613, 3), (233, .invokevirtual 871, 3), (236, .pop, 1), (237, .aload_n 0, 1), (238, .getfield 206, 3), (241, .bipush 127, 2), (243, .invokevirtual 831, 3)] = true := by decide +kernel
theorem dX1_binaryOf_213 : decode cX1_binaryOf 213 = .ok (.goto 98, 3) := zdec_at bX1_binaryOf_213 0 rfl
theorem dX1_binaryOf_216 : decode cX1_binaryOf 216 = .ok (.iload_n 1, 1) := zdec_at bX1_binaryOf_213 1 rfl
theorem dX1_binaryOf_217 : decode cX1_binaryOf 217 = .ok (.ifCond .ne 60, 3) := zdec_at bX1_binaryOf_213 2 rfl
theorem dX1_binaryOf_220 : decode cX1_binaryOf 220 = .ok (.iload_n 2, 1) := zdec_at bX1_binaryOf_213 3 rfl
theorem dX1_binaryOf_221 : decode cX1_binaryOf 221 = .ok (.ifCond .eq 16, 3) := zdec_at bX1_binaryOf_213 4 rfl
theorem dX1_binaryOf_224 : decode cX1_binaryOf 224 = .ok (.aload_n 0, 1) := zdec_at bX1_binaryOf_213 5 rfl
theorem dX1_binaryOf_225 : decode cX1_binaryOf 225 = .ok (.getfield 216, 3) := zdec_at bX1_binaryOf_213 6 rfl
theorem dX1_binaryOf_228 : decode cX1_binaryOf 228 = .ok (.lconst 0, 1) := zdec_at bX1_binaryOf_213 7 rfl
theorem dX1_binaryOf_229 : decode cX1_binaryOf 229 = .ok (.lconst 0, 1) := zdec_at bX1_binaryOf_213 8 rfl
theorem dX1_binaryOf_230 : decode cX1_binaryOf 230 = .ok (.ldc2_w 613, 3) := zdec_at bX1_binaryOf_213 9 rfl
theorem dX1_binaryOf_233 : decode cX1_binaryOf 233 = .ok (.invokevirtual 871, 3) := zdec_at bX1_binaryOf_213 10 rfl
theorem dX1_binaryOf_236 : decode cX1_binaryOf 236 = .ok (.pop, 1) := zdec_at bX1_binaryOf_213 11 rfl
theorem dX1_binaryOf_237 : decode cX1_binaryOf 237 = .ok (.aload_n 0, 1) := zdec_at bX1_binaryOf_213 12 rfl
theorem dX1_binaryOf_238 : decode cX1_binaryOf 238 = .ok (.getfield 206, 3) := zdec_at bX1_binaryOf_213 13 rfl
theorem dX1_binaryOf_241 : decode cX1_binaryOf 241 = .ok (.bipush 127, 2) := zdec_at bX1_binaryOf_213 14 rfl
theorem dX1_binaryOf_243 : decode cX1_binaryOf 243 = .ok (.invokevirtual 831, 3) := zdec_at bX1_binaryOf_213 15 rfl
theorem bX1_binaryOf_246 : zdec cX1_binaryOf 246 [(246, .ifCond .eq 65, 3), (249, .aload_n 0, 1), (250, .getfield 210, 3), (253, .bipush 127, 2), (255, .invokevirtual 831, 3), (258, .ifCond .eq 53, 3), (261, .aload_n 0, 1), (262, .getfield 216, 3), (265, .lconst 0, 1), (266, .lconst 0, 1), (267, .ldc2_w 1020, 3), (270, .invokevirtual 871, 3), (273, .pop, 1), (274, .goto 37, 3), (277, .aload_n 0, 1), (278, .getfield 216, 3)] = true := by decide +kernel
theorem dX1_binaryOf_246 : decode cX1_binaryOf 246 = .ok (.ifCond .eq 65, 3) := zdec_at bX1_binaryOf_246 0 rfl
theorem dX1_binaryOf_249 : decode cX1_binaryOf 249 = .ok (.aload_n 0, 1) := zdec_at bX1_binaryOf_246 1 rfl
theorem dX1_binaryOf_250 : decode cX1_binaryOf 250 = .ok (.getfield 210, 3) := zdec_at bX1_binaryOf_246 2 rfl
theorem dX1_binaryOf_253 : decode cX1_binaryOf 253 = .ok (.bipush 127, 2) := zdec_at bX1_binaryOf_246 3 rfl
theorem dX1_binaryOf_255 : decode cX1_binaryOf 255 = .ok (.invokevirtual 831, 3) := zdec_at bX1_binaryOf_246 4 rfl
theorem dX1_binaryOf_258 : decode cX1_binaryOf 258 = .ok (.ifCond .eq 53, 3) := zdec_at bX1_binaryOf_246 5 rfl
theorem dX1_binaryOf_261 : decode cX1_binaryOf 261 = .ok (.aload_n 0, 1) := zdec_at bX1_binaryOf_246 6 rfl
theorem dX1_binaryOf_262 : decode cX1_binaryOf 262 = .ok (.getfield 216, 3) := zdec_at bX1_binaryOf_246 7 rfl
theorem dX1_binaryOf_265 : decode cX1_binaryOf 265 = .ok (.lconst 0, 1) := zdec_at bX1_binaryOf_246 8 rfl
theorem dX1_binaryOf_266 : decode cX1_binaryOf 266 = .ok (.lconst 0, 1) := zdec_at bX1_binaryOf_246 9 rfl
theorem dX1_binaryOf_267 : decode cX1_binaryOf 267 = .ok (.ldc2_w 1020, 3) := zdec_at bX1_binaryOf_246 10 rfl
theorem dX1_binaryOf_270 : decode cX1_binaryOf 270 = .ok (.invokevirtual 871, 3) := zdec_at bX1_binaryOf_246 11 rfl
theorem dX1_binaryOf_273 : decode cX1_binaryOf 273 = .ok (.pop, 1) := zdec_at bX1_binaryOf_246 12 rfl
theorem dX1_binaryOf_274 : decode cX1_binaryOf 274 = .ok (.goto 37, 3) := zdec_at bX1_binaryOf_246 13 rfl
theorem dX1_binaryOf_277 : decode cX1_binaryOf 277 = .ok (.aload_n 0, 1) := zdec_at bX1_binaryOf_246 14 rfl
theorem dX1_binaryOf_278 : decode cX1_binaryOf 278 = .ok (.getfield 216, 3) := zdec_at bX1_binaryOf_246 15 rfl
theorem bX1_binaryOf_281 : zdec cX1_binaryOf 281 [(281, .iload_n 1, 1), (282, .iconst 5, 1), (283, .if_icmp .ge 9, 3), (286, .ldc2_w 1020, 3), (289, .goto 18, 3), (292, .iload_n 1, 1), (293, .bipush 11, 2), (295, .if_icmp .ge 9, 3), (298, .ldc2_w 609, 3), (301, .goto 6, 3), (304, .ldc2_w 1022, 3), (307, .invokevirtual 892, 3), (310, .pop, 1), (311, .aload_n 0, 1), (312, .aload_n 0, 1), (313, .getfield 216, 3)] = true := by decide +kernel
theorem dX1_binaryOf_281 : decode cX1_binaryOf 281 = .ok (.iload_n 1, 1) := zdec_at bX1_binaryOf_281 0 rfl
theorem dX1_binaryOf_282 : decode cX1_binaryOf 282 = .ok (.iconst 5, 1) := zdec_at bX1_binaryOf_281 1 rfl
theorem dX1_binaryOf_283 : decode cX1_binaryOf 283 = .ok (.if_icmp .ge 9, 3) := zdec_at bX1_binaryOf_281 2 rfl
theorem dX1_binaryOf_286 : decode cX1_binaryOf 286 = .ok (.ldc2_w 1020, 3) := zdec_at bX1_binaryOf_281 3 rfl
theorem dX1_binaryOf_289 : decode cX1_binaryOf 289 = .ok (.goto 18, 3) := zdec_at bX1_binaryOf_281 4 rfl
theorem dX1_binaryOf_292 : decode cX1_binaryOf 292 = .ok (.iload_n 1, 1) := zdec_at bX1_binaryOf_281 5 rfl
theorem dX1_binaryOf_293 : decode cX1_binaryOf 293 = .ok (.bipush 11, 2) := zdec_at bX1_binaryOf_281 6 rfl
theorem dX1_binaryOf_295 : decode cX1_binaryOf 295 = .ok (.if_icmp .ge 9, 3) := zdec_at bX1_binaryOf_281 7 rfl
theorem dX1_binaryOf_298 : decode cX1_binaryOf 298 = .ok (.ldc2_w 609, 3) := zdec_at bX1_binaryOf_281 8 rfl
theorem dX1_binaryOf_301 : decode cX1_binaryOf 301 = .ok (.goto 6, 3) := zdec_at bX1_binaryOf_281 9 rfl
theorem dX1_binaryOf_304 : decode cX1_binaryOf 304 = .ok (.ldc2_w 1022, 3) := zdec_at bX1_binaryOf_281 10 rfl
theorem dX1_binaryOf_307 : decode cX1_binaryOf 307 = .ok (.invokevirtual 892, 3) := zdec_at bX1_binaryOf_281 11 rfl
theorem dX1_binaryOf_310 : decode cX1_binaryOf 310 = .ok (.pop, 1) := zdec_at bX1_binaryOf_281 12 rfl
theorem dX1_binaryOf_311 : decode cX1_binaryOf 311 = .ok (.aload_n 0, 1) := zdec_at bX1_binaryOf_281 13 rfl
theorem dX1_binaryOf_312 : decode cX1_binaryOf 312 = .ok (.aload_n 0, 1) := zdec_at bX1_binaryOf_281 14 rfl
theorem dX1_binaryOf_313 : decode cX1_binaryOf 313 = .ok (.getfield 216, 3) := zdec_at bX1_binaryOf_281 15 rfl
theorem bX1_binaryOf_316 : zdec cX1_binaryOf 316 [(316, .invokevirtual 895, 3), (319, .return_, 1)] = true := by decide +kernel
theorem dX1_binaryOf_316 : decode cX1_binaryOf 316 = .ok (.invokevirtual 895, 3) := zdec_at bX1_binaryOf_316 0 rfl
theorem dX1_binaryOf_319 : decode cX1_binaryOf 319 = .ok (.return_, 1) := zdec_at bX1_binaryOf_316 1 rfl
theorem sX1_binaryOf_0 {E : zE} {d : Nat} {Q : zO → zM → Prop} (M : zM) (l1 : Int32) (hw : cw M) (k : Z E YX6_empty d M (zargs 0 [vr (some (74, 4, 0))]) 0 [] (zafter E YX1_binaryOf (d + 1) [(0, vr (some (16, 0, 0))), (1, vi l1)] 4 3 [] Q)) : Z E YX1_binaryOf (d + 1) M [(0, vr (some (16, 0, 0))), (1, vi l1)] 0 [] Q := by
  refine z_aload_n dX1_binaryOf_0 rfl rfl ?_
  refine z_getr dX1_binaryOf_1 fsX1_216_0 (show gr M 16 81 = some (74, 4, 0) from cw_at hw 42 rfl) ?_
  exact z_callV (as := []) (st := []) dX1_binaryOf_4 vsX1_796_4 (Nat.le_refl _) (Nat.le_of_ble_eq_true rfl) (Nat.le_of_ble_eq_true rfl) rfl k
theorem sX1_binaryOf_7 {E : zE} {d : Nat} {Q : zO → zM → Prop} (M : zM) (l1 : Int32) (u0 : Option zP) (hw : cw M) (k : Z E YX6_has d M (zargs 0 [vr (some (71, 4, 0)), vi (384 : Int32)]) 0 [] (zafter E YX1_binaryOf (d + 1) [(0, vr (some (16, 0, 0))), (1, vi l1)] 15 3 [] Q)) : Z E YX1_binaryOf (d + 1) M [(0, vr (some (16, 0, 0))), (1, vi l1)] 7 [vr u0] Q := by
  refine z_pop dX1_binaryOf_7 rfl ?_
  refine z_aload_n dX1_binaryOf_8 rfl rfl ?_
  refine z_getr dX1_binaryOf_9 fsX1_206_0 (show gr M 16 78 = some (71, 4, 0) from cw_at hw 39 rfl) ?_
  refine z_sipush (v := 384) dX1_binaryOf_12 rfl ?_
  exact z_callV (as := [vi (384 : Int32)]) (st := []) dX1_binaryOf_15 vsX1_831_4 (Nat.le_refl _) (Nat.le_of_ble_eq_true rfl) (Nat.le_of_ble_eq_true rfl) rfl k
theorem sX1_binaryOf_18 {E : zE} {d : Nat} {Q : zO → zM → Prop} (M : zM) (l1 : Int32) (s0 : Int32) (hw : cw M) (k : if s0 = 0 then (Z E YX6_hasLabels d M (zargs 0 [vr (some (71, 4, 0))]) 0 [] (zafter E YX1_binaryOf (d + 1) [(0, vr (some (16, 0, 0))), (1, vi l1)] 25 3 [] Q)) else (Z E YX6_isAlone d M (zargs 0 [vr (some (71, 4, 0))]) 0 [] (zafter E YX1_binaryOf (d + 1) [(0, vr (some (16, 0, 0))), (1, vi l1), (2, vi (1 : Int32))] 64 3 [] Q))) : Z E YX1_binaryOf (d + 1) M [(0, vr (some (16, 0, 0))), (1, vi l1)] 18 [vi s0] Q := by
  refine z_if_ne (tgt := 54) dX1_binaryOf_18 rfl (fun h_ => ?_) (fun h_ => ?_)
  · have k := zif h_ k
    refine z_iconst (v := 1) dX1_binaryOf_54 rfl ?_
    refine z_goto (tgt := 59) dX1_binaryOf_55 rfl ?_
    refine z_ist_n dX1_binaryOf_59 rfl (by decide) (lv' := [(0, vr (some (16, 0, 0))), (1, vi l1), (2, vi (1 : Int32))]) rfl ?_
    refine z_aload_n dX1_binaryOf_60 rfl rfl ?_
    refine z_getr dX1_binaryOf_61 fsX1_206_0 (show gr M 16 78 = some (71, 4, 0) from cw_at hw 39 rfl) ?_
    exact z_callV (as := []) (st := []) dX1_binaryOf_64 vsX1_1006_4 (Nat.le_refl _) (Nat.le_of_ble_eq_true rfl) (Nat.le_of_ble_eq_true rfl) rfl k
  · have k := zit h_ k
    refine z_aload_n dX1_binaryOf_21 rfl rfl ?_
    refine z_getr dX1_binaryOf_22 fsX1_206_0 (show gr M 16 78 = some (71, 4, 0) from cw_at hw 39 rfl) ?_
    exact z_callV (as := []) (st := []) dX1_binaryOf_25 vsX1_837_4 (Nat.le_refl _) (Nat.le_of_ble_eq_true rfl) (Nat.le_of_ble_eq_true rfl) rfl k
theorem sX1_binaryOf_28 {E : zE} {d : Nat} {Q : zO → zM → Prop} (M : zM) (l1 : Int32) (s0 : Int32) (hw : cw M) (k : if s0 = 0 then (Z E YX6_has d M (zargs 0 [vr (some (72, 4, 0)), vi (384 : Int32)]) 0 [] (zafter E YX1_binaryOf (d + 1) [(0, vr (some (16, 0, 0))), (1, vi l1)] 38 3 [] Q)) else (Z E YX6_isAlone d M (zargs 0 [vr (some (71, 4, 0))]) 0 [] (zafter E YX1_binaryOf (d + 1) [(0, vr (some (16, 0, 0))), (1, vi l1), (2, vi (1 : Int32))] 64 3 [] Q))) : Z E YX1_binaryOf (d + 1) M [(0, vr (some (16, 0, 0))), (1, vi l1)] 28 [vi s0] Q := by
  refine z_if_ne (tgt := 54) dX1_binaryOf_28 rfl (fun h_ => ?_) (fun h_ => ?_)
  · have k := zif h_ k
    refine z_iconst (v := 1) dX1_binaryOf_54 rfl ?_
    refine z_goto (tgt := 59) dX1_binaryOf_55 rfl ?_
    refine z_ist_n dX1_binaryOf_59 rfl (by decide) (lv' := [(0, vr (some (16, 0, 0))), (1, vi l1), (2, vi (1 : Int32))]) rfl ?_
    refine z_aload_n dX1_binaryOf_60 rfl rfl ?_
    refine z_getr dX1_binaryOf_61 fsX1_206_0 (show gr M 16 78 = some (71, 4, 0) from cw_at hw 39 rfl) ?_
    exact z_callV (as := []) (st := []) dX1_binaryOf_64 vsX1_1006_4 (Nat.le_refl _) (Nat.le_of_ble_eq_true rfl) (Nat.le_of_ble_eq_true rfl) rfl k
  · have k := zit h_ k
    refine z_aload_n dX1_binaryOf_31 rfl rfl ?_
    refine z_getr dX1_binaryOf_32 fsX1_210_0 (show gr M 16 79 = some (72, 4, 0) from cw_at hw 40 rfl) ?_
    refine z_sipush (v := 384) dX1_binaryOf_35 rfl ?_
    exact z_callV (as := [vi (384 : Int32)]) (st := []) dX1_binaryOf_38 vsX1_831_4 (Nat.le_refl _) (Nat.le_of_ble_eq_true rfl) (Nat.le_of_ble_eq_true rfl) rfl k
theorem sX1_binaryOf_41 {E : zE} {d : Nat} {Q : zO → zM → Prop} (M : zM) (l1 : Int32) (s0 : Int32) (hw : cw M) (k : if s0 = 0 then (Z E YX6_hasLabels d M (zargs 0 [vr (some (72, 4, 0))]) 0 [] (zafter E YX1_binaryOf (d + 1) [(0, vr (some (16, 0, 0))), (1, vi l1)] 48 3 [] Q)) else (Z E YX6_isAlone d M (zargs 0 [vr (some (71, 4, 0))]) 0 [] (zafter E YX1_binaryOf (d + 1) [(0, vr (some (16, 0, 0))), (1, vi l1), (2, vi (1 : Int32))] 64 3 [] Q))) : Z E YX1_binaryOf (d + 1) M [(0, vr (some (16, 0, 0))), (1, vi l1)] 41 [vi s0] Q := by
  refine z_if_ne (tgt := 54) dX1_binaryOf_41 rfl (fun h_ => ?_) (fun h_ => ?_)
  · have k := zif h_ k
    refine z_iconst (v := 1) dX1_binaryOf_54 rfl ?_
    refine z_goto (tgt := 59) dX1_binaryOf_55 rfl ?_
    refine z_ist_n dX1_binaryOf_59 rfl (by decide) (lv' := [(0, vr (some (16, 0, 0))), (1, vi l1), (2, vi (1 : Int32))]) rfl ?_
    refine z_aload_n dX1_binaryOf_60 rfl rfl ?_
    refine z_getr dX1_binaryOf_61 fsX1_206_0 (show gr M 16 78 = some (71, 4, 0) from cw_at hw 39 rfl) ?_
    exact z_callV (as := []) (st := []) dX1_binaryOf_64 vsX1_1006_4 (Nat.le_refl _) (Nat.le_of_ble_eq_true rfl) (Nat.le_of_ble_eq_true rfl) rfl k
  · have k := zit h_ k
    refine z_aload_n dX1_binaryOf_44 rfl rfl ?_
    refine z_getr dX1_binaryOf_45 fsX1_210_0 (show gr M 16 79 = some (72, 4, 0) from cw_at hw 40 rfl) ?_
    exact z_callV (as := []) (st := []) dX1_binaryOf_48 vsX1_837_4 (Nat.le_refl _) (Nat.le_of_ble_eq_true rfl) (Nat.le_of_ble_eq_true rfl) rfl k
theorem sX1_binaryOf_51 {E : zE} {d : Nat} {Q : zO → zM → Prop} (M : zM) (l1 : Int32) (s0 : Int32) (hw : cw M) (k : if s0 = 0 then (Z E YX6_isAlone d M (zargs 0 [vr (some (71, 4, 0))]) 0 [] (zafter E YX1_binaryOf (d + 1) [(0, vr (some (16, 0, 0))), (1, vi l1), (2, vi (0 : Int32))] 64 3 [] Q)) else (Z E YX6_isAlone d M (zargs 0 [vr (some (71, 4, 0))]) 0 [] (zafter E YX1_binaryOf (d + 1) [(0, vr (some (16, 0, 0))), (1, vi l1), (2, vi (1 : Int32))] 64 3 [] Q))) : Z E YX1_binaryOf (d + 1) M [(0, vr (some (16, 0, 0))), (1, vi l1)] 51 [vi s0] Q := by
  refine z_if_eq (tgt := 58) dX1_binaryOf_51 rfl (fun h_ => ?_) (fun h_ => ?_)
  · have k := zit h_ k
    refine z_iconst (v := 0) dX1_binaryOf_58 rfl ?_
    refine z_ist_n dX1_binaryOf_59 rfl (by decide) (lv' := [(0, vr (some (16, 0, 0))), (1, vi l1), (2, vi (0 : Int32))]) rfl ?_
    refine z_aload_n dX1_binaryOf_60 rfl rfl ?_
    refine z_getr dX1_binaryOf_61 fsX1_206_0 (show gr M 16 78 = some (71, 4, 0) from cw_at hw 39 rfl) ?_
    exact z_callV (as := []) (st := []) dX1_binaryOf_64 vsX1_1006_4 (Nat.le_refl _) (Nat.le_of_ble_eq_true rfl) (Nat.le_of_ble_eq_true rfl) rfl k
  · have k := zif h_ k
    refine z_iconst (v := 1) dX1_binaryOf_54 rfl ?_
    refine z_goto (tgt := 59) dX1_binaryOf_55 rfl ?_
    refine z_ist_n dX1_binaryOf_59 rfl (by decide) (lv' := [(0, vr (some (16, 0, 0))), (1, vi l1), (2, vi (1 : Int32))]) rfl ?_
    refine z_aload_n dX1_binaryOf_60 rfl rfl ?_
    refine z_getr dX1_binaryOf_61 fsX1_206_0 (show gr M 16 78 = some (71, 4, 0) from cw_at hw 39 rfl) ?_
    exact z_callV (as := []) (st := []) dX1_binaryOf_64 vsX1_1006_4 (Nat.le_refl _) (Nat.le_of_ble_eq_true rfl) (Nat.le_of_ble_eq_true rfl) rfl k
theorem sX1_binaryOf_67 {E : zE} {d : Nat} {Q : zO → zM → Prop} (M : zM) (l1 : Int32) (l2 : Int32) (s0 : Int32) (hw : cw M) (k : if s0 = 0 then (Z E YX1_binaryOf (d + 1) M [(0, vr (some (16, 0, 0))), (1, vi l1), (2, vi l2)] 216 [] Q) else (Z E YX6_isAlone d M (zargs 0 [vr (some (72, 4, 0))]) 0 [] (zafter E YX1_binaryOf (d + 1) [(0, vr (some (16, 0, 0))), (1, vi l1), (2, vi l2)] 74 3 [] Q))) : Z E YX1_binaryOf (d + 1) M [(0, vr (some (16, 0, 0))), (1, vi l1), (2, vi l2)] 67 [vi s0] Q := by
  refine z_if_eq (tgt := 216) dX1_binaryOf_67 rfl (fun h_ => ?_) (fun h_ => ?_)
  · have k := zit h_ k
    exact k
  · have k := zif h_ k
    refine z_aload_n dX1_binaryOf_70 rfl rfl ?_
    refine z_getr dX1_binaryOf_71 fsX1_210_0 (show gr M 16 79 = some (72, 4, 0) from cw_at hw 40 rfl) ?_
    exact z_callV (as := []) (st := []) dX1_binaryOf_74 vsX1_1006_4 (Nat.le_refl _) (Nat.le_of_ble_eq_true rfl) (Nat.le_of_ble_eq_true rfl) rfl k
theorem sX1_binaryOf_77 {E : zE} {d : Nat} {Q : zO → zM → Prop} (M : zM) (l1 : Int32) (l2 : Int32) (s0 : Int32) (hw : cw M) (k : if s0 = 0 then (Z E YX1_binaryOf (d + 1) M [(0, vr (some (16, 0, 0))), (1, vi l1), (2, vi l2)] 216 [] Q) else (if l1 = 0 then (if l2 = 0 then (Z E YX6_sort d M (zargs 0 [vr (some (71, 4, 0))]) 0 [] (zafter E YX1_binaryOf (d + 1) [(0, vr (some (16, 0, 0)))] 182 3 [vi l1, vr (some (16, 0, 0))] Q)) else (Z E YX1_clearRow d M (zargs 0 [vr (some (16, 0, 0))]) 0 [] (zafter E YX1_binaryOf (d + 1) [(0, vr (some (16, 0, 0)))] 89 3 [] Q))) else (Z E YX6_sort d M (zargs 0 [vr (some (71, 4, 0))]) 0 [] (zafter E YX1_binaryOf (d + 1) [(0, vr (some (16, 0, 0)))] 182 3 [vi l1, vr (some (16, 0, 0))] Q)))) : Z E YX1_binaryOf (d + 1) M [(0, vr (some (16, 0, 0))), (1, vi l1), (2, vi l2)] 77 [vi s0] Q := by
  refine z_if_eq (tgt := 216) dX1_binaryOf_77 rfl (fun h_ => ?_) (fun h_ => ?_)
  · have k := zit h_ k
    exact k
  · have k := zif h_ k
    refine z_iload_n dX1_binaryOf_80 rfl rfl ?_
    refine z_if_ne (tgt := 176) dX1_binaryOf_81 rfl (fun h_ => ?_) (fun h_ => ?_)
    · have k := zif h_ k
      refine z_aload_n dX1_binaryOf_176 rfl rfl ?_
      refine z_iload_n dX1_binaryOf_177 rfl rfl ?_
      refine z_aload_n dX1_binaryOf_178 rfl rfl ?_
      refine z_getr dX1_binaryOf_179 fsX1_206_0 (show gr M 16 78 = some (71, 4, 0) from cw_at hw 39 rfl) ?_
      refine Z.pick [0] rfl ?_
      exact z_callV (as := []) (st := [vi l1, vr (some (16, 0, 0))]) dX1_binaryOf_182 vsX1_1009_4 (Nat.le_refl _) (Nat.le_of_ble_eq_true rfl) (Nat.le_of_ble_eq_true rfl) rfl k
    · have k := zit h_ k
      refine z_iload_n dX1_binaryOf_84 rfl rfl ?_
      refine z_if_eq (tgt := 176) dX1_binaryOf_85 rfl (fun h_ => ?_) (fun h_ => ?_)
      · have k := zit h_ k
        refine z_aload_n dX1_binaryOf_176 rfl rfl ?_
        refine z_iload_n dX1_binaryOf_177 rfl rfl ?_
        refine z_aload_n dX1_binaryOf_178 rfl rfl ?_
        refine z_getr dX1_binaryOf_179 fsX1_206_0 (show gr M 16 78 = some (71, 4, 0) from cw_at hw 39 rfl) ?_
        refine Z.pick [0] rfl ?_
        exact z_callV (as := []) (st := [vi l1, vr (some (16, 0, 0))]) dX1_binaryOf_182 vsX1_1009_4 (Nat.le_refl _) (Nat.le_of_ble_eq_true rfl) (Nat.le_of_ble_eq_true rfl) rfl k
      · have k := zif h_ k
        refine z_aload_n dX1_binaryOf_88 rfl rfl ?_
        refine Z.pick [0] rfl ?_
        exact z_callV (as := []) (st := []) dX1_binaryOf_89 vsX1_37_0 (Nat.le_refl _) (Nat.le_of_ble_eq_true rfl) (Nat.le_of_ble_eq_true rfl) rfl k
theorem sX1_binaryOf_92 {E : zE} {d : Nat} {Q : zO → zM → Prop} (M : zM)  (hw : cw M) (k : Z E YX6_sort d M (zargs 0 [vr (some (71, 4, 0))]) 0 [] (zafter E YX1_binaryOf (d + 1) [(0, vr (some (16, 0, 0)))] 97 3 [vr (some (16, 0, 0))] Q)) : Z E YX1_binaryOf (d + 1) M [(0, vr (some (16, 0, 0)))] 92 [] Q := by
  refine z_aload_n dX1_binaryOf_92 rfl rfl ?_
  refine z_aload_n dX1_binaryOf_93 rfl rfl ?_
  refine z_getr dX1_binaryOf_94 fsX1_206_0 (show gr M 16 78 = some (71, 4, 0) from cw_at hw 39 rfl) ?_
  exact z_callV (as := []) (st := [vr (some (16, 0, 0))]) dX1_binaryOf_97 vsX1_1009_4 (Nat.le_refl _) (Nat.le_of_ble_eq_true rfl) (Nat.le_of_ble_eq_true rfl) rfl k
theorem sX1_binaryOf_100 {E : zE} {d : Nat} {Q : zO → zM → Prop} (M : zM) (s0 : Int32) (hw : cw M) (k : Z E YX6_value d M (zargs 0 [vr (some (71, 4, 0))]) 0 [] (zafter E YX1_binaryOf (d + 1) [(0, vr (some (16, 0, 0)))] 104 3 [vi s0, vr (some (16, 0, 0))] Q)) : Z E YX1_binaryOf (d + 1) M [(0, vr (some (16, 0, 0)))] 100 [vi s0, vr (some (16, 0, 0))] Q := by
  refine z_aload_n dX1_binaryOf_100 rfl rfl ?_
  refine z_getr dX1_binaryOf_101 fsX1_206_0 (show gr M 16 78 = some (71, 4, 0) from cw_at hw 39 rfl) ?_
  exact z_callV (as := []) (st := [vi s0, vr (some (16, 0, 0))]) dX1_binaryOf_104 vsX1_1011_4 (Nat.le_refl _) (Nat.le_of_ble_eq_true rfl) (Nat.le_of_ble_eq_true rfl) rfl k
theorem sX1_binaryOf_107 {E : zE} {d : Nat} {Q : zO → zM → Prop} (M : zM) (s0 : Int32) (s1 : Int32) (hw : cw M) (k : Z E YX1_putValue d M (zargs 0 [vr (some (16, 0, 0)), vi s1, vi s0]) 0 [] (zafter E YX1_binaryOf (d + 1) [(0, vr (some (16, 0, 0)))] 107 3 [] Q)) : Z E YX1_binaryOf (d + 1) M [(0, vr (some (16, 0, 0)))] 107 [vi s0, vi s1, vr (some (16, 0, 0))] Q := by
  exact z_callV (as := [vi s1, vi s0]) (st := []) dX1_binaryOf_107 vsX1_383_0 (Nat.le_refl _) (Nat.le_of_ble_eq_true rfl) (Nat.le_of_ble_eq_true rfl) rfl k
theorem sX1_binaryOf_110 {E : zE} {d : Nat} {Q : zO → zM → Prop} (M : zM)  (hw : cw M) (k : Z E YX6_sort d M (zargs 0 [vr (some (72, 4, 0))]) 0 [] (zafter E YX1_binaryOf (d + 1) [(0, vr (some (16, 0, 0)))] 115 3 [vr (some (16, 0, 0))] Q)) : Z E YX1_binaryOf (d + 1) M [(0, vr (some (16, 0, 0)))] 110 [] Q := by
  refine z_aload_n dX1_binaryOf_110 rfl rfl ?_
  refine z_aload_n dX1_binaryOf_111 rfl rfl ?_
  refine z_getr dX1_binaryOf_112 fsX1_210_0 (show gr M 16 79 = some (72, 4, 0) from cw_at hw 40 rfl) ?_
  exact z_callV (as := []) (st := [vr (some (16, 0, 0))]) dX1_binaryOf_115 vsX1_1009_4 (Nat.le_refl _) (Nat.le_of_ble_eq_true rfl) (Nat.le_of_ble_eq_true rfl) rfl k
theorem sX1_binaryOf_118 {E : zE} {d : Nat} {Q : zO → zM → Prop} (M : zM) (s0 : Int32) (hw : cw M) (k : Z E YX6_value d M (zargs 0 [vr (some (72, 4, 0))]) 0 [] (zafter E YX1_binaryOf (d + 1) [(0, vr (some (16, 0, 0)))] 122 3 [vi s0, vr (some (16, 0, 0))] Q)) : Z E YX1_binaryOf (d + 1) M [(0, vr (some (16, 0, 0)))] 118 [vi s0, vr (some (16, 0, 0))] Q := by
  refine z_aload_n dX1_binaryOf_118 rfl rfl ?_
  refine z_getr dX1_binaryOf_119 fsX1_210_0 (show gr M 16 79 = some (72, 4, 0) from cw_at hw 40 rfl) ?_
  exact z_callV (as := []) (st := [vi s0, vr (some (16, 0, 0))]) dX1_binaryOf_122 vsX1_1011_4 (Nat.le_refl _) (Nat.le_of_ble_eq_true rfl) (Nat.le_of_ble_eq_true rfl) rfl k
theorem sX1_binaryOf_125 {E : zE} {d : Nat} {Q : zO → zM → Prop} (M : zM) (s0 : Int32) (s1 : Int32) (hw : cw M) (k : Z E YX1_putValue d M (zargs 0 [vr (some (16, 0, 0)), vi s1, vi s0]) 0 [] (zafter E YX1_binaryOf (d + 1) [(0, vr (some (16, 0, 0)))] 125 3 [] Q)) : Z E YX1_binaryOf (d + 1) M [(0, vr (some (16, 0, 0)))] 125 [vi s0, vi s1, vr (some (16, 0, 0))] Q := by
  exact z_callV (as := [vi s1, vi s0]) (st := []) dX1_binaryOf_125 vsX1_383_0 (Nat.le_refl _) (Nat.le_of_ble_eq_true rfl) (Nat.le_of_ble_eq_true rfl) rfl k
theorem sX1_binaryOf_128 {E : zE} {d : Nat} {Q : zO → zM → Prop} (M : zM)  (hw : cw M) (k : Z E YJ11_min d M (zargs 0 [vi (gi M 16 3), vi (60 : Int32)]) 0 [] (zafter E YX1_binaryOf (d + 1) [(0, vr (some (16, 0, 0)))] 142 3 [vr (some (20, 101, 256)), vr (some (17, 2, 0))] Q)) : Z E YX1_binaryOf (d + 1) M [(0, vr (some (16, 0, 0)))] 128 [] Q := by
  refine z_aload_n dX1_binaryOf_128 rfl rfl ?_
  refine z_getr dX1_binaryOf_129 fsX1_19_0 (show gr M 16 0 = some (17, 2, 0) from cw_at hw 0 rfl) ?_
  refine z_aload_n dX1_binaryOf_132 rfl rfl ?_
  refine z_getr dX1_binaryOf_133 fsX1_7_0 (show gr M 16 2 = some (20, 101, 256) from cw_at hw 1 rfl) ?_
  refine z_aload_n dX1_binaryOf_136 rfl rfl ?_
  refine z_geti dX1_binaryOf_137 fsX1_1_0 ?_
  refine z_bipush (v := 60) dX1_binaryOf_140 rfl ?_
  exact z_callS (as := [vi (gi M 16 3), vi (60 : Int32)]) (st := [vr (some (20, 101, 256)), vr (some (17, 2, 0))]) dX1_binaryOf_142 ssX1_369 (Nat.le_refl _) (Nat.le_of_ble_eq_true rfl) (Nat.le_of_ble_eq_true rfl) rfl k
theorem sX1_binaryOf_145 {E : zE} {d : Nat} {Q : zO → zM → Prop} (M : zM) (s0 : Int32) (hw : cw M) (k : Z E YX2_find d M (zargs 0 [vr (some (17, 2, 0)), vr (some (20, 101, 256)), vi s0]) 0 [] (zafter E YX1_binaryOf (d + 1) [(0, vr (some (16, 0, 0)))] 145 3 [] Q)) : Z E YX1_binaryOf (d + 1) M [(0, vr (some (16, 0, 0)))] 145 [vi s0, vr (some (20, 101, 256)), vr (some (17, 2, 0))] Q := by
  exact z_callV (as := [vr (some (20, 101, 256)), vi s0]) (st := []) dX1_binaryOf_145 vsX1_374_2 (Nat.le_refl _) (Nat.le_of_ble_eq_true rfl) (Nat.le_of_ble_eq_true rfl) rfl k
theorem sX1_binaryOf_148 {E : zE} {d : Nat} {Q : zO → zM → Prop} (M : zM) (s0 : Int32) (hw : cw M) (k : if (gi M 16 1) ≤ s0 then (Z E YX1_textSet d M (zargs 0 [vi (-1 : Int32)]) 0 [] (zafter E YX1_binaryOf (d + 1) [(0, vr (some (16, 0, 0)))] 166 3 [vr (some (74, 4, 0))] Q)) else (Z E YX1_textSet d M (zargs 0 [vi s0]) 0 [] (zafter E YX1_binaryOf (d + 1) [(0, vr (some (16, 0, 0)))] 166 3 [vr (some (74, 4, 0))] Q))) : Z E YX1_binaryOf (d + 1) M [(0, vr (some (16, 0, 0)))] 148 [vi s0] Q := by
  refine z_ist_n dX1_binaryOf_148 rfl (by decide) (lv' := [(0, vr (some (16, 0, 0))), (3, vi s0)]) rfl ?_
  refine z_aload_n dX1_binaryOf_149 rfl rfl ?_
  refine z_getr dX1_binaryOf_150 fsX1_216_0 (show gr M 16 81 = some (74, 4, 0) from cw_at hw 42 rfl) ?_
  refine z_iload_n dX1_binaryOf_153 rfl rfl ?_
  refine z_aload_n dX1_binaryOf_154 rfl rfl ?_
  refine z_geti dX1_binaryOf_155 fsX1_58_0 ?_
  refine z_icmp_ge (tgt := 165) dX1_binaryOf_158 rfl (fun h_ => ?_) (fun h_ => ?_)
  · have k := zit h_ k
    refine z_iconst (v := -1) dX1_binaryOf_165 rfl ?_
    refine Z.pick [0] rfl ?_
    exact z_callS (as := [vi (-1 : Int32)]) (st := [vr (some (74, 4, 0))]) dX1_binaryOf_166 ssX1_741 (Nat.le_refl _) (Nat.le_of_ble_eq_true rfl) (Nat.le_of_ble_eq_true rfl) rfl k
  · have k := zif h_ k
    refine z_iload_n dX1_binaryOf_161 rfl rfl ?_
    refine z_goto (tgt := 166) dX1_binaryOf_162 rfl ?_
    refine Z.pick [0] rfl ?_
    exact z_callS (as := [vi s0]) (st := [vr (some (74, 4, 0))]) dX1_binaryOf_166 ssX1_741 (Nat.le_refl _) (Nat.le_of_ble_eq_true rfl) (Nat.le_of_ble_eq_true rfl) rfl k
theorem sX1_binaryOf_169 {E : zE} {d : Nat} {Q : zO → zM → Prop} (M : zM) (s0 : Int64) (hw : cw M) (k : Z E YX6_of d M (zargs 0 [vr (some (74, 4, 0)), vl s0]) 0 [] (zafter E YX1_binaryOf (d + 1) [(0, vr (some (16, 0, 0)))] 169 3 [] Q)) : Z E YX1_binaryOf (d + 1) M [(0, vr (some (16, 0, 0)))] 169 [vl s0, vr (some (74, 4, 0))] Q := by
  exact z_callV (as := [vl s0]) (st := []) dX1_binaryOf_169 vsX1_892_4 (Nat.le_refl _) (Nat.le_of_ble_eq_true rfl) (Nat.le_of_ble_eq_true rfl) rfl k
theorem sX1_binaryOf_172 {E : zE} {d : Nat} {Q : zO → zM → Prop} (M : zM) (u0 : Option zP) (hw : cw M) (k : Z E YX1_nextWith d M (zargs 0 [vr (some (16, 0, 0)), vr (some (74, 4, 0))]) 0 [] (zafter E YX1_binaryOf (d + 1) [] 316 3 [] Q)) : Z E YX1_binaryOf (d + 1) M [(0, vr (some (16, 0, 0)))] 172 [vr u0] Q := by
  refine z_pop dX1_binaryOf_172 rfl ?_
  refine z_goto (tgt := 311) dX1_binaryOf_173 rfl ?_
  refine z_aload_n dX1_binaryOf_311 rfl rfl ?_
  refine z_aload_n dX1_binaryOf_312 rfl rfl ?_
  refine z_getr dX1_binaryOf_313 fsX1_216_0 (show gr M 16 81 = some (74, 4, 0) from cw_at hw 42 rfl) ?_
  refine Z.pick [] rfl ?_
  exact z_callV (as := [vr (some (74, 4, 0))]) (st := []) dX1_binaryOf_316 vsX1_895_0 (Nat.le_refl _) (Nat.le_of_ble_eq_true rfl) (Nat.le_of_ble_eq_true rfl) rfl k
theorem sX1_binaryOf_185 {E : zE} {d : Nat} {Q : zO → zM → Prop} (M : zM) (s0 : Int32) (s1 : Int32) (hw : cw M) (k : Z E YX6_value d M (zargs 0 [vr (some (71, 4, 0))]) 0 [] (zafter E YX1_binaryOf (d + 1) [(0, vr (some (16, 0, 0)))] 189 3 [vi s0, vi s1, vr (some (16, 0, 0))] Q)) : Z E YX1_binaryOf (d + 1) M [(0, vr (some (16, 0, 0)))] 185 [vi s0, vi s1, vr (some (16, 0, 0))] Q := by
  refine z_aload_n dX1_binaryOf_185 rfl rfl ?_
  refine z_getr dX1_binaryOf_186 fsX1_206_0 (show gr M 16 78 = some (71, 4, 0) from cw_at hw 39 rfl) ?_
  exact z_callV (as := []) (st := [vi s0, vi s1, vr (some (16, 0, 0))]) dX1_binaryOf_189 vsX1_1011_4 (Nat.le_refl _) (Nat.le_of_ble_eq_true rfl) (Nat.le_of_ble_eq_true rfl) rfl k
theorem sX1_binaryOf_192 {E : zE} {d : Nat} {Q : zO → zM → Prop} (M : zM) (s0 : Int32) (s1 : Int32) (s2 : Int32) (hw : cw M) (k : Z E YX6_sort d M (zargs 0 [vr (some (72, 4, 0))]) 0 [] (zafter E YX1_binaryOf (d + 1) [(0, vr (some (16, 0, 0)))] 196 3 [vi s0, vi s1, vi s2, vr (some (16, 0, 0))] Q)) : Z E YX1_binaryOf (d + 1) M [(0, vr (some (16, 0, 0)))] 192 [vi s0, vi s1, vi s2, vr (some (16, 0, 0))] Q := by
  refine z_aload_n dX1_binaryOf_192 rfl rfl ?_
  refine z_getr dX1_binaryOf_193 fsX1_210_0 (show gr M 16 79 = some (72, 4, 0) from cw_at hw 40 rfl) ?_
  exact z_callV (as := []) (st := [vi s0, vi s1, vi s2, vr (some (16, 0, 0))]) dX1_binaryOf_196 vsX1_1009_4 (Nat.le_refl _) (Nat.le_of_ble_eq_true rfl) (Nat.le_of_ble_eq_true rfl) rfl k
theorem sX1_binaryOf_199 {E : zE} {d : Nat} {Q : zO → zM → Prop} (M : zM) (s0 : Int32) (s1 : Int32) (s2 : Int32) (s3 : Int32) (hw : cw M) (k : Z E YX6_value d M (zargs 0 [vr (some (72, 4, 0))]) 0 [] (zafter E YX1_binaryOf (d + 1) [(0, vr (some (16, 0, 0)))] 203 3 [vi s0, vi s1, vi s2, vi s3, vr (some (16, 0, 0))] Q)) : Z E YX1_binaryOf (d + 1) M [(0, vr (some (16, 0, 0)))] 199 [vi s0, vi s1, vi s2, vi s3, vr (some (16, 0, 0))] Q := by
  refine z_aload_n dX1_binaryOf_199 rfl rfl ?_
  refine z_getr dX1_binaryOf_200 fsX1_210_0 (show gr M 16 79 = some (72, 4, 0) from cw_at hw 40 rfl) ?_
  exact z_callV (as := []) (st := [vi s0, vi s1, vi s2, vi s3, vr (some (16, 0, 0))]) dX1_binaryOf_203 vsX1_1011_4 (Nat.le_refl _) (Nat.le_of_ble_eq_true rfl) (Nat.le_of_ble_eq_true rfl) rfl k
theorem sX1_binaryOf_206 {E : zE} {d : Nat} {Q : zO → zM → Prop} (M : zM) (s0 : Int32) (s1 : Int32) (s2 : Int32) (s3 : Int32) (s4 : Int32) (hw : cw M) (k : Z E YX1_binary d M (zargs 0 [vr (some (16, 0, 0)), vi s4, vi s3, vi s2, vi s1, vi s0]) 0 [] (zafter E YX1_binaryOf (d + 1) [(0, vr (some (16, 0, 0)))] 206 3 [] Q)) : Z E YX1_binaryOf (d + 1) M [(0, vr (some (16, 0, 0)))] 206 [vi s0, vi s1, vi s2, vi s3, vi s4, vr (some (16, 0, 0))] Q := by
  exact z_callV (as := [vi s4, vi s3, vi s2, vi s1, vi s0]) (st := []) dX1_binaryOf_206 vsX1_511_0 (Nat.le_refl _) (Nat.le_of_ble_eq_true rfl) (Nat.le_of_ble_eq_true rfl) rfl k
theorem sX1_binaryOf_209 {E : zE} {d : Nat} {Q : zO → zM → Prop} (M : zM)  (hw : cw M) (k : Z E YX1_fold d M (zargs 0 [vr (some (16, 0, 0))]) 0 [] (zafter E YX1_binaryOf (d + 1) [(0, vr (some (16, 0, 0)))] 210 3 [] Q)) : Z E YX1_binaryOf (d + 1) M [(0, vr (some (16, 0, 0)))] 209 [] Q := by
  refine z_aload_n dX1_binaryOf_209 rfl rfl ?_
  exact z_callV (as := []) (st := []) dX1_binaryOf_210 vsX1_1013_0 (Nat.le_refl _) (Nat.le_of_ble_eq_true rfl) (Nat.le_of_ble_eq_true rfl) rfl k
theorem sX1_binaryOf_213 {E : zE} {d : Nat} {Q : zO → zM → Prop} (M : zM)  (hw : cw M) (k : Z E YX1_nextWith d M (zargs 0 [vr (some (16, 0, 0)), vr (some (74, 4, 0))]) 0 [] (zafter E YX1_binaryOf (d + 1) [] 316 3 [] Q)) : Z E YX1_binaryOf (d + 1) M [(0, vr (some (16, 0, 0)))] 213 [] Q := by
  refine z_goto (tgt := 311) dX1_binaryOf_213 rfl ?_
  refine z_aload_n dX1_binaryOf_311 rfl rfl ?_
  refine z_aload_n dX1_binaryOf_312 rfl rfl ?_
  refine z_getr dX1_binaryOf_313 fsX1_216_0 (show gr M 16 81 = some (74, 4, 0) from cw_at hw 42 rfl) ?_
  refine Z.pick [] rfl ?_
  exact z_callV (as := [vr (some (74, 4, 0))]) (st := []) dX1_binaryOf_316 vsX1_895_0 (Nat.le_refl _) (Nat.le_of_ble_eq_true rfl) (Nat.le_of_ble_eq_true rfl) rfl k
theorem sX1_binaryOf_216 {E : zE} {d : Nat} {Q : zO → zM → Prop} (M : zM) (l1 : Int32) (l2 : Int32) (hw : cw M) (k : if l1 = 0 then (if l2 = 0 then (Z E YX6_has d M (zargs 0 [vr (some (71, 4, 0)), vi (127 : Int32)]) 0 [] (zafter E YX1_binaryOf (d + 1) [(0, vr (some (16, 0, 0)))] 243 3 [] Q)) else (Z E YX6_join3 d M (zargs 0 [vr (some (74, 4, 0)), vl (0 : Int64), vl (0 : Int64), vl (256 : Int64)]) 0 [] (zafter E YX1_binaryOf (d + 1) [(0, vr (some (16, 0, 0)))] 233 3 [] Q))) else (if (5 : Int32) ≤ l1 then (if (11 : Int32) ≤ l1 then (Z E YX6_of d M (zargs 0 [vr (some (74, 4, 0)), vl (12 : Int64)]) 0 [] (zafter E YX1_binaryOf (d + 1) [(0, vr (some (16, 0, 0)))] 307 3 [] Q)) else (Z E YX6_of d M (zargs 0 [vr (some (74, 4, 0)), vl (64 : Int64)]) 0 [] (zafter E YX1_binaryOf (d + 1) [(0, vr (some (16, 0, 0)))] 307 3 [] Q))) else (Z E YX6_of d M (zargs 0 [vr (some (74, 4, 0)), vl (80 : Int64)]) 0 [] (zafter E YX1_binaryOf (d + 1) [(0, vr (some (16, 0, 0)))] 307 3 [] Q)))) : Z E YX1_binaryOf (d + 1) M [(0, vr (some (16, 0, 0))), (1, vi l1), (2, vi l2)] 216 [] Q := by
  refine z_iload_n dX1_binaryOf_216 rfl rfl ?_
  refine z_if_ne (tgt := 277) dX1_binaryOf_217 rfl (fun h_ => ?_) (fun h_ => ?_)
  · have k := zif h_ k
    refine z_aload_n dX1_binaryOf_277 rfl rfl ?_
    refine z_getr dX1_binaryOf_278 fsX1_216_0 (show gr M 16 81 = some (74, 4, 0) from cw_at hw 42 rfl) ?_
    refine z_iload_n dX1_binaryOf_281 rfl rfl ?_
    refine z_iconst (v := 5) dX1_binaryOf_282 rfl ?_
    refine z_icmp_ge (tgt := 292) dX1_binaryOf_283 rfl (fun h_ => ?_) (fun h_ => ?_)
    · have k := zit h_ k
      refine z_iload_n dX1_binaryOf_292 rfl rfl ?_
      refine z_bipush (v := 11) dX1_binaryOf_293 rfl ?_
      refine z_icmp_ge (tgt := 304) dX1_binaryOf_295 rfl (fun h_ => ?_) (fun h_ => ?_)
      · have k := zit h_ k
        refine z_ldc2 (v := 12) dX1_binaryOf_304 q3407 ?_
        refine Z.pick [0] rfl ?_
        exact z_callV (as := [vl (12 : Int64)]) (st := []) dX1_binaryOf_307 vsX1_892_4 (Nat.le_refl _) (Nat.le_of_ble_eq_true rfl) (Nat.le_of_ble_eq_true rfl) rfl k
      · have k := zif h_ k
        refine z_ldc2 (v := 64) dX1_binaryOf_298 q2567 ?_
        refine z_goto (tgt := 307) dX1_binaryOf_301 rfl ?_
        refine Z.pick [0] rfl ?_
        exact z_callV (as := [vl (64 : Int64)]) (st := []) dX1_binaryOf_307 vsX1_892_4 (Nat.le_refl _) (Nat.le_of_ble_eq_true rfl) (Nat.le_of_ble_eq_true rfl) rfl k
    · have k := zif h_ k
      refine z_ldc2 (v := 80) dX1_binaryOf_286 q3393 ?_
      refine z_goto (tgt := 307) dX1_binaryOf_289 rfl ?_
      refine Z.pick [0] rfl ?_
      exact z_callV (as := [vl (80 : Int64)]) (st := []) dX1_binaryOf_307 vsX1_892_4 (Nat.le_refl _) (Nat.le_of_ble_eq_true rfl) (Nat.le_of_ble_eq_true rfl) rfl k
  · have k := zit h_ k
    refine z_iload_n dX1_binaryOf_220 rfl rfl ?_
    refine z_if_eq (tgt := 237) dX1_binaryOf_221 rfl (fun h_ => ?_) (fun h_ => ?_)
    · have k := zit h_ k
      refine z_aload_n dX1_binaryOf_237 rfl rfl ?_
      refine z_getr dX1_binaryOf_238 fsX1_206_0 (show gr M 16 78 = some (71, 4, 0) from cw_at hw 39 rfl) ?_
      refine z_bipush (v := 127) dX1_binaryOf_241 rfl ?_
      refine Z.pick [0] rfl ?_
      exact z_callV (as := [vi (127 : Int32)]) (st := []) dX1_binaryOf_243 vsX1_831_4 (Nat.le_refl _) (Nat.le_of_ble_eq_true rfl) (Nat.le_of_ble_eq_true rfl) rfl k
    · have k := zif h_ k
      refine z_aload_n dX1_binaryOf_224 rfl rfl ?_
      refine z_getr dX1_binaryOf_225 fsX1_216_0 (show gr M 16 81 = some (74, 4, 0) from cw_at hw 42 rfl) ?_
      refine z_lconst (v := 0) dX1_binaryOf_228 rfl ?_
      refine z_lconst (v := 0) dX1_binaryOf_229 rfl ?_
      refine z_ldc2 (v := 256) dX1_binaryOf_230 q2569 ?_
      refine Z.pick [0] rfl ?_
      exact z_callV (as := [vl (0 : Int64), vl (0 : Int64), vl (256 : Int64)]) (st := []) dX1_binaryOf_233 vsX1_871_4 (Nat.le_refl _) (Nat.le_of_ble_eq_true rfl) (Nat.le_of_ble_eq_true rfl) rfl k
theorem sX1_binaryOf_236 {E : zE} {d : Nat} {Q : zO → zM → Prop} (M : zM) (u0 : Option zP) (hw : cw M) (k : Z E YX6_has d M (zargs 0 [vr (some (71, 4, 0)), vi (127 : Int32)]) 0 [] (zafter E YX1_binaryOf (d + 1) [(0, vr (some (16, 0, 0)))] 243 3 [] Q)) : Z E YX1_binaryOf (d + 1) M [(0, vr (some (16, 0, 0)))] 236 [vr u0] Q := by
  refine z_pop dX1_binaryOf_236 rfl ?_
  refine z_aload_n dX1_binaryOf_237 rfl rfl ?_
  refine z_getr dX1_binaryOf_238 fsX1_206_0 (show gr M 16 78 = some (71, 4, 0) from cw_at hw 39 rfl) ?_
  refine z_bipush (v := 127) dX1_binaryOf_241 rfl ?_
  exact z_callV (as := [vi (127 : Int32)]) (st := []) dX1_binaryOf_243 vsX1_831_4 (Nat.le_refl _) (Nat.le_of_ble_eq_true rfl) (Nat.le_of_ble_eq_true rfl) rfl k
theorem sX1_binaryOf_246 {E : zE} {d : Nat} {Q : zO → zM → Prop} (M : zM) (s0 : Int32) (hw : cw M) (k : if s0 = 0 then (Z E YX1_nextWith d M (zargs 0 [vr (some (16, 0, 0)), vr (some (74, 4, 0))]) 0 [] (zafter E YX1_binaryOf (d + 1) [] 316 3 [] Q)) else (Z E YX6_has d M (zargs 0 [vr (some (72, 4, 0)), vi (127 : Int32)]) 0 [] (zafter E YX1_binaryOf (d + 1) [(0, vr (some (16, 0, 0)))] 255 3 [] Q))) : Z E YX1_binaryOf (d + 1) M [(0, vr (some (16, 0, 0)))] 246 [vi s0] Q := by
  refine z_if_eq (tgt := 311) dX1_binaryOf_246 rfl (fun h_ => ?_) (fun h_ => ?_)
  · have k := zit h_ k
    refine z_aload_n dX1_binaryOf_311 rfl rfl ?_
    refine z_aload_n dX1_binaryOf_312 rfl rfl ?_
    refine z_getr dX1_binaryOf_313 fsX1_216_0 (show gr M 16 81 = some (74, 4, 0) from cw_at hw 42 rfl) ?_
    refine Z.pick [] rfl ?_
    exact z_callV (as := [vr (some (74, 4, 0))]) (st := []) dX1_binaryOf_316 vsX1_895_0 (Nat.le_refl _) (Nat.le_of_ble_eq_true rfl) (Nat.le_of_ble_eq_true rfl) rfl k
  · have k := zif h_ k
    refine z_aload_n dX1_binaryOf_249 rfl rfl ?_
    refine z_getr dX1_binaryOf_250 fsX1_210_0 (show gr M 16 79 = some (72, 4, 0) from cw_at hw 40 rfl) ?_
    refine z_bipush (v := 127) dX1_binaryOf_253 rfl ?_
    exact z_callV (as := [vi (127 : Int32)]) (st := []) dX1_binaryOf_255 vsX1_831_4 (Nat.le_refl _) (Nat.le_of_ble_eq_true rfl) (Nat.le_of_ble_eq_true rfl) rfl k
theorem sX1_binaryOf_258 {E : zE} {d : Nat} {Q : zO → zM → Prop} (M : zM) (s0 : Int32) (hw : cw M) (k : if s0 = 0 then (Z E YX1_nextWith d M (zargs 0 [vr (some (16, 0, 0)), vr (some (74, 4, 0))]) 0 [] (zafter E YX1_binaryOf (d + 1) [] 316 3 [] Q)) else (Z E YX6_join3 d M (zargs 0 [vr (some (74, 4, 0)), vl (0 : Int64), vl (0 : Int64), vl (80 : Int64)]) 0 [] (zafter E YX1_binaryOf (d + 1) [(0, vr (some (16, 0, 0)))] 270 3 [] Q))) : Z E YX1_binaryOf (d + 1) M [(0, vr (some (16, 0, 0)))] 258 [vi s0] Q := by
  refine z_if_eq (tgt := 311) dX1_binaryOf_258 rfl (fun h_ => ?_) (fun h_ => ?_)
  · have k := zit h_ k
    refine z_aload_n dX1_binaryOf_311 rfl rfl ?_
    refine z_aload_n dX1_binaryOf_312 rfl rfl ?_
    refine z_getr dX1_binaryOf_313 fsX1_216_0 (show gr M 16 81 = some (74, 4, 0) from cw_at hw 42 rfl) ?_
    refine Z.pick [] rfl ?_
    exact z_callV (as := [vr (some (74, 4, 0))]) (st := []) dX1_binaryOf_316 vsX1_895_0 (Nat.le_refl _) (Nat.le_of_ble_eq_true rfl) (Nat.le_of_ble_eq_true rfl) rfl k
  · have k := zif h_ k
    refine z_aload_n dX1_binaryOf_261 rfl rfl ?_
    refine z_getr dX1_binaryOf_262 fsX1_216_0 (show gr M 16 81 = some (74, 4, 0) from cw_at hw 42 rfl) ?_
    refine z_lconst (v := 0) dX1_binaryOf_265 rfl ?_
    refine z_lconst (v := 0) dX1_binaryOf_266 rfl ?_
    refine z_ldc2 (v := 80) dX1_binaryOf_267 q3393 ?_
    exact z_callV (as := [vl (0 : Int64), vl (0 : Int64), vl (80 : Int64)]) (st := []) dX1_binaryOf_270 vsX1_871_4 (Nat.le_refl _) (Nat.le_of_ble_eq_true rfl) (Nat.le_of_ble_eq_true rfl) rfl k
theorem sX1_binaryOf_273 {E : zE} {d : Nat} {Q : zO → zM → Prop} (M : zM) (u0 : Option zP) (hw : cw M) (k : Z E YX1_nextWith d M (zargs 0 [vr (some (16, 0, 0)), vr (some (74, 4, 0))]) 0 [] (zafter E YX1_binaryOf (d + 1) [] 316 3 [] Q)) : Z E YX1_binaryOf (d + 1) M [(0, vr (some (16, 0, 0)))] 273 [vr u0] Q := by
  refine z_pop dX1_binaryOf_273 rfl ?_
  refine z_goto (tgt := 311) dX1_binaryOf_274 rfl ?_
  refine z_aload_n dX1_binaryOf_311 rfl rfl ?_
  refine z_aload_n dX1_binaryOf_312 rfl rfl ?_
  refine z_getr dX1_binaryOf_313 fsX1_216_0 (show gr M 16 81 = some (74, 4, 0) from cw_at hw 42 rfl) ?_
  refine Z.pick [] rfl ?_
  exact z_callV (as := [vr (some (74, 4, 0))]) (st := []) dX1_binaryOf_316 vsX1_895_0 (Nat.le_refl _) (Nat.le_of_ble_eq_true rfl) (Nat.le_of_ble_eq_true rfl) rfl k
theorem sX1_binaryOf_310 {E : zE} {d : Nat} {Q : zO → zM → Prop} (M : zM) (u0 : Option zP) (hw : cw M) (k : Z E YX1_nextWith d M (zargs 0 [vr (some (16, 0, 0)), vr (some (74, 4, 0))]) 0 [] (zafter E YX1_binaryOf (d + 1) [] 316 3 [] Q)) : Z E YX1_binaryOf (d + 1) M [(0, vr (some (16, 0, 0)))] 310 [vr u0] Q := by
  refine z_pop dX1_binaryOf_310 rfl ?_
  refine z_aload_n dX1_binaryOf_311 rfl rfl ?_
  refine z_aload_n dX1_binaryOf_312 rfl rfl ?_
  refine z_getr dX1_binaryOf_313 fsX1_216_0 (show gr M 16 81 = some (74, 4, 0) from cw_at hw 42 rfl) ?_
  refine Z.pick [] rfl ?_
  exact z_callV (as := [vr (some (74, 4, 0))]) (st := []) dX1_binaryOf_316 vsX1_895_0 (Nat.le_refl _) (Nat.le_of_ble_eq_true rfl) (Nat.le_of_ble_eq_true rfl) rfl k
theorem sX1_binaryOf_319 {E : zE} {d : Nat} {Q : zO → zM → Prop} (M : zM)  (hw : cw M) (k : Q (.inl none) M) : Z E YX1_binaryOf (d + 1) M [] 319 [] Q := by
  exact z_vret dX1_binaryOf_319 rfl k
/-! ScriptTypes.goesOn(III)V -/
theorem bX1_goesOn_0 : zdec cX1_goesOn 0 [(0, .iload_n 1, 1)] = true := by decide +kernel
theorem dX1_goesOn_0 : decode cX1_goesOn 0 = .ok (.iload_n 1, 1) := zdec_at bX1_goesOn_0 0 rfl
theorem dX1_goesOn_1 : decode cX1_goesOn 1 = .ok (.tableswitch 417 15 29 #[75, 83, 92, 92, 92, 92, 110, 118, 170, 170, 284, 341, 368, 368, 381], 75) := by decide +kernel
theorem bX1_goesOn_76 : zdec cX1_goesOn 76 [(76, .aload_n 0, 1), (77, .iload_n 2, 1), (78, .invokevirtual 963, 3), (81, .goto 369, 3), (84, .aload_n 0, 1), (85, .iload_n 2, 1), (86, .iload_n 3, 1), (87, .invokevirtual 966, 3), (90, .goto 360, 3), (93, .aload_n 0, 1), (94, .iload_n 1, 1), (95, .invokevirtual 969, 3), (98, .aload_n 0, 1), (99, .aload_n 0, 1), (100, .getfield 713, 3), (103, .iconst 1, 1)] = true := by decide +kernel
theorem dX1_goesOn_76 : decode cX1_goesOn 76 = .ok (.aload_n 0, 1) := zdec_at bX1_goesOn_76 0 rfl
theorem dX1_goesOn_77 : decode cX1_goesOn 77 = .ok (.iload_n 2, 1) := zdec_at bX1_goesOn_76 1 rfl
theorem dX1_goesOn_78 : decode cX1_goesOn 78 = .ok (.invokevirtual 963, 3) := zdec_at bX1_goesOn_76 2 rfl
theorem dX1_goesOn_81 : decode cX1_goesOn 81 = .ok (.goto 369, 3) := zdec_at bX1_goesOn_76 3 rfl
theorem dX1_goesOn_84 : decode cX1_goesOn 84 = .ok (.aload_n 0, 1) := zdec_at bX1_goesOn_76 4 rfl
theorem dX1_goesOn_85 : decode cX1_goesOn 85 = .ok (.iload_n 2, 1) := zdec_at bX1_goesOn_76 5 rfl
theorem dX1_goesOn_86 : decode cX1_goesOn 86 = .ok (.iload_n 3, 1) := zdec_at bX1_goesOn_76 6 rfl
theorem dX1_goesOn_87 : decode cX1_goesOn 87 = .ok (.invokevirtual 966, 3) := zdec_at bX1_goesOn_76 7 rfl
theorem dX1_goesOn_90 : decode cX1_goesOn 90 = .ok (.goto 360, 3) := zdec_at bX1_goesOn_76 8 rfl
theorem dX1_goesOn_93 : decode cX1_goesOn 93 = .ok (.aload_n 0, 1) := zdec_at bX1_goesOn_76 9 rfl
theorem dX1_goesOn_94 : decode cX1_goesOn 94 = .ok (.iload_n 1, 1) := zdec_at bX1_goesOn_76 10 rfl
theorem dX1_goesOn_95 : decode cX1_goesOn 95 = .ok (.invokevirtual 969, 3) := zdec_at bX1_goesOn_76 11 rfl
theorem dX1_goesOn_98 : decode cX1_goesOn 98 = .ok (.aload_n 0, 1) := zdec_at bX1_goesOn_76 12 rfl
theorem dX1_goesOn_99 : decode cX1_goesOn 99 = .ok (.aload_n 0, 1) := zdec_at bX1_goesOn_76 13 rfl
theorem dX1_goesOn_100 : decode cX1_goesOn 100 = .ok (.getfield 713, 3) := zdec_at bX1_goesOn_76 14 rfl
theorem dX1_goesOn_103 : decode cX1_goesOn 103 = .ok (.iconst 1, 1) := zdec_at bX1_goesOn_76 15 rfl
theorem bX1_goesOn_104 : zdec cX1_goesOn 104 [(104, .iadd, 1), (105, .invokevirtual 770, 3), (108, .goto 342, 3), (111, .aload_n 0, 1), (112, .iload_n 2, 1), (113, .invokevirtual 770, 3), (116, .goto 334, 3), (119, .aload_n 0, 1), (120, .getfield 684, 3), (123, .aload_n 0, 1), (124, .getfield 206, 3), (127, .invokevirtual 937, 3), (130, .pop, 1), (131, .aload_n 0, 1), (132, .aload_n 0, 1), (133, .getfield 206, 3)] = true := by decide +kernel
theorem dX1_goesOn_104 : decode cX1_goesOn 104 = .ok (.iadd, 1) := zdec_at bX1_goesOn_104 0 rfl
theorem dX1_goesOn_105 : decode cX1_goesOn 105 = .ok (.invokevirtual 770, 3) := zdec_at bX1_goesOn_104 1 rfl
theorem dX1_goesOn_108 : decode cX1_goesOn 108 = .ok (.goto 342, 3) := zdec_at bX1_goesOn_104 2 rfl
theorem dX1_goesOn_111 : decode cX1_goesOn 111 = .ok (.aload_n 0, 1) := zdec_at bX1_goesOn_104 3 rfl
theorem dX1_goesOn_112 : decode cX1_goesOn 112 = .ok (.iload_n 2, 1) := zdec_at bX1_goesOn_104 4 rfl
theorem dX1_goesOn_113 : decode cX1_goesOn 113 = .ok (.invokevirtual 770, 3) := zdec_at bX1_goesOn_104 5 rfl
theorem dX1_goesOn_116 : decode cX1_goesOn 116 = .ok (.goto 334, 3) := zdec_at bX1_goesOn_104 6 rfl
theorem dX1_goesOn_119 : decode cX1_goesOn 119 = .ok (.aload_n 0, 1) := zdec_at bX1_goesOn_104 7 rfl
theorem dX1_goesOn_120 : decode cX1_goesOn 120 = .ok (.getfield 684, 3) := zdec_at bX1_goesOn_104 8 rfl
theorem dX1_goesOn_123 : decode cX1_goesOn 123 = .ok (.aload_n 0, 1) := zdec_at bX1_goesOn_104 9 rfl
theorem dX1_goesOn_124 : decode cX1_goesOn 124 = .ok (.getfield 206, 3) := zdec_at bX1_goesOn_104 10 rfl
theorem dX1_goesOn_127 : decode cX1_goesOn 127 = .ok (.invokevirtual 937, 3) := zdec_at bX1_goesOn_104 11 rfl
theorem dX1_goesOn_130 : decode cX1_goesOn 130 = .ok (.pop, 1) := zdec_at bX1_goesOn_104 12 rfl
theorem dX1_goesOn_131 : decode cX1_goesOn 131 = .ok (.aload_n 0, 1) := zdec_at bX1_goesOn_104 13 rfl
theorem dX1_goesOn_132 : decode cX1_goesOn 132 = .ok (.aload_n 0, 1) := zdec_at bX1_goesOn_104 14 rfl
theorem dX1_goesOn_133 : decode cX1_goesOn 133 = .ok (.getfield 206, 3) := zdec_at bX1_goesOn_104 15 rfl
theorem bX1_goesOn_136 : zdec cX1_goesOn 136 [(136, .invokevirtual 972, 3), (139, .ifCond .eq 13, 3), (142, .aload_n 0, 1), (143, .aload_n 0, 1), (144, .getfield 713, 3), (147, .iconst 1, 1), (148, .iadd, 1), (149, .invokevirtual 770, 3), (152, .aload_n 0, 1), (153, .aload_n 0, 1), (154, .getfield 206, 3), (157, .invokevirtual 976, 3), (160, .ifCond .eq 290, 3), (163, .aload_n 0, 1), (164, .iload_n 2, 1), (165, .invokevirtual 770, 3)] = true := by decide +kernel
theorem dX1_goesOn_136 : decode cX1_goesOn 136 = .ok (.invokevirtual 972, 3) := zdec_at bX1_goesOn_136 0 rfl
theorem dX1_goesOn_139 : decode cX1_goesOn 139 = .ok (.ifCond .eq 13, 3) := zdec_at bX1_goesOn_136 1 rfl
theorem dX1_goesOn_142 : decode cX1_goesOn 142 = .ok (.aload_n 0, 1) := zdec_at bX1_goesOn_136 2 rfl
theorem dX1_goesOn_143 : decode cX1_goesOn 143 = .ok (.aload_n 0, 1) := zdec_at bX1_goesOn_136 3 rfl
theorem dX1_goesOn_144 : decode cX1_goesOn 144 = .ok (.getfield 713, 3) := zdec_at bX1_goesOn_136 4 rfl
theorem dX1_goesOn_147 : decode cX1_goesOn 147 = .ok (.iconst 1, 1) := zdec_at bX1_goesOn_136 5 rfl
theorem dX1_goesOn_148 : decode cX1_goesOn 148 = .ok (.iadd, 1) := zdec_at bX1_goesOn_136 6 rfl
theorem dX1_goesOn_149 : decode cX1_goesOn 149 = .ok (.invokevirtual 770, 3) := zdec_at bX1_goesOn_136 7 rfl
theorem dX1_goesOn_152 : decode cX1_goesOn 152 = .ok (.aload_n 0, 1) := zdec_at bX1_goesOn_136 8 rfl
theorem dX1_goesOn_153 : decode cX1_goesOn 153 = .ok (.aload_n 0, 1) := zdec_at bX1_goesOn_136 9 rfl
theorem dX1_goesOn_154 : decode cX1_goesOn 154 = .ok (.getfield 206, 3) := zdec_at bX1_goesOn_136 10 rfl
theorem dX1_goesOn_157 : decode cX1_goesOn 157 = .ok (.invokevirtual 976, 3) := zdec_at bX1_goesOn_136 11 rfl
theorem dX1_goesOn_160 : decode cX1_goesOn 160 = .ok (.ifCond .eq 290, 3) := zdec_at bX1_goesOn_136 12 rfl
theorem dX1_goesOn_163 : decode cX1_goesOn 163 = .ok (.aload_n 0, 1) := zdec_at bX1_goesOn_136 13 rfl
theorem dX1_goesOn_164 : decode cX1_goesOn 164 = .ok (.iload_n 2, 1) := zdec_at bX1_goesOn_136 14 rfl
theorem dX1_goesOn_165 : decode cX1_goesOn 165 = .ok (.invokevirtual 770, 3) := zdec_at bX1_goesOn_136 15 rfl
theorem bX1_goesOn_168 : zdec cX1_goesOn 168 [(168, .goto 282, 3), (171, .aload_n 0, 1), (172, .getfield 684, 3), (175, .aload_n 0, 1), (176, .getfield 684, 3), (179, .getfield 726, 3), (182, .iconst 1, 1), (183, .isub, 1), (184, .aload_n 0, 1), (185, .getfield 206, 3), (188, .invokevirtual 903, 3), (191, .pop, 1), (192, .iload_n 1, 1), (193, .bipush 23, 2), (195, .if_icmp .ne 17, 3), (198, .aload_n 0, 1)] = true := by decide +kernel
theorem dX1_goesOn_168 : decode cX1_goesOn 168 = .ok (.goto 282, 3) := zdec_at bX1_goesOn_168 0 rfl
theorem dX1_goesOn_171 : decode cX1_goesOn 171 = .ok (.aload_n 0, 1) := zdec_at bX1_goesOn_168 1 rfl
theorem dX1_goesOn_172 : decode cX1_goesOn 172 = .ok (.getfield 684, 3) := zdec_at bX1_goesOn_168 2 rfl
theorem dX1_goesOn_175 : decode cX1_goesOn 175 = .ok (.aload_n 0, 1) := zdec_at bX1_goesOn_168 3 rfl
theorem dX1_goesOn_176 : decode cX1_goesOn 176 = .ok (.getfield 684, 3) := zdec_at bX1_goesOn_168 4 rfl
theorem dX1_goesOn_179 : decode cX1_goesOn 179 = .ok (.getfield 726, 3) := zdec_at bX1_goesOn_168 5 rfl
theorem dX1_goesOn_182 : decode cX1_goesOn 182 = .ok (.iconst 1, 1) := zdec_at bX1_goesOn_168 6 rfl
theorem dX1_goesOn_183 : decode cX1_goesOn 183 = .ok (.isub, 1) := zdec_at bX1_goesOn_168 7 rfl
theorem dX1_goesOn_184 : decode cX1_goesOn 184 = .ok (.aload_n 0, 1) := zdec_at bX1_goesOn_168 8 rfl
theorem dX1_goesOn_185 : decode cX1_goesOn 185 = .ok (.getfield 206, 3) := zdec_at bX1_goesOn_168 9 rfl
theorem dX1_goesOn_188 : decode cX1_goesOn 188 = .ok (.invokevirtual 903, 3) := zdec_at bX1_goesOn_168 10 rfl
theorem dX1_goesOn_191 : decode cX1_goesOn 191 = .ok (.pop, 1) := zdec_at bX1_goesOn_168 11 rfl
theorem dX1_goesOn_192 : decode cX1_goesOn 192 = .ok (.iload_n 1, 1) := zdec_at bX1_goesOn_168 12 rfl
theorem dX1_goesOn_193 : decode cX1_goesOn 193 = .ok (.bipush 23, 2) := zdec_at bX1_goesOn_168 13 rfl
theorem dX1_goesOn_195 : decode cX1_goesOn 195 = .ok (.if_icmp .ne 17, 3) := zdec_at bX1_goesOn_168 14 rfl
theorem dX1_goesOn_198 : decode cX1_goesOn 198 = .ok (.aload_n 0, 1) := zdec_at bX1_goesOn_168 15 rfl
theorem bX1_goesOn_199 : zdec cX1_goesOn 199 [(199, .aload_n 0, 1), (200, .getfield 206, 3), (203, .invokevirtual 976, 3), (206, .ifCond .eq 22, 3), (209, .goto 14, 3), (212, .aload_n 0, 1), (213, .aload_n 0, 1), (214, .getfield 206, 3), (217, .invokevirtual 972, 3), (220, .ifCond .eq 8, 3), (223, .aload_n 0, 1), (224, .iload_n 2, 1), (225, .invokevirtual 770, 3), (228, .aload_n 0, 1), (229, .getfield 684, 3), (232, .dup, 1)] = true := by decide +kernel
theorem dX1_goesOn_199 : decode cX1_goesOn 199 = .ok (.aload_n 0, 1) := zdec_at bX1_goesOn_199 0 rfl
theorem dX1_goesOn_200 : decode cX1_goesOn 200 = .ok (.getfield 206, 3) := zdec_at bX1_goesOn_199 1 rfl
theorem dX1_goesOn_203 : decode cX1_goesOn 203 = .ok (.invokevirtual 976, 3) := zdec_at bX1_goesOn_199 2 rfl
theorem dX1_goesOn_206 : decode cX1_goesOn 206 = .ok (.ifCond .eq 22, 3) := zdec_at bX1_goesOn_199 3 rfl
theorem dX1_goesOn_209 : decode cX1_goesOn 209 = .ok (.goto 14, 3) := zdec_at bX1_goesOn_199 4 rfl
theorem dX1_goesOn_212 : decode cX1_goesOn 212 = .ok (.aload_n 0, 1) := zdec_at bX1_goesOn_199 5 rfl
theorem dX1_goesOn_213 : decode cX1_goesOn 213 = .ok (.aload_n 0, 1) := zdec_at bX1_goesOn_199 6 rfl
theorem dX1_goesOn_214 : decode cX1_goesOn 214 = .ok (.getfield 206, 3) := zdec_at bX1_goesOn_199 7 rfl
theorem dX1_goesOn_217 : decode cX1_goesOn 217 = .ok (.invokevirtual 972, 3) := zdec_at bX1_goesOn_199 8 rfl
theorem dX1_goesOn_220 : decode cX1_goesOn 220 = .ok (.ifCond .eq 8, 3) := zdec_at bX1_goesOn_199 9 rfl
theorem dX1_goesOn_223 : decode cX1_goesOn 223 = .ok (.aload_n 0, 1) := zdec_at bX1_goesOn_199 10 rfl
theorem dX1_goesOn_224 : decode cX1_goesOn 224 = .ok (.iload_n 2, 1) := zdec_at bX1_goesOn_199 11 rfl
theorem dX1_goesOn_225 : decode cX1_goesOn 225 = .ok (.invokevirtual 770, 3) := zdec_at bX1_goesOn_199 12 rfl
theorem dX1_goesOn_228 : decode cX1_goesOn 228 = .ok (.aload_n 0, 1) := zdec_at bX1_goesOn_199 13 rfl
theorem dX1_goesOn_229 : decode cX1_goesOn 229 = .ok (.getfield 684, 3) := zdec_at bX1_goesOn_199 14 rfl
theorem dX1_goesOn_232 : decode cX1_goesOn 232 = .ok (.dup, 1) := zdec_at bX1_goesOn_199 15 rfl
theorem bX1_goesOn_233 : zdec cX1_goesOn 233 [(233, .getfield 726, 3), (236, .iconst 1, 1), (237, .isub, 1), (238, .putfield 726, 3), (241, .iload_n 1, 1), (242, .bipush 23, 2), (244, .if_icmp .ne 17, 3), (247, .aload_n 0, 1), (248, .aload_n 0, 1), (249, .getfield 206, 3), (252, .invokevirtual 972, 3), (255, .ifCond .eq 195, 3), (258, .goto 14, 3), (261, .aload_n 0, 1), (262, .aload_n 0, 1), (263, .getfield 206, 3)] = true := by decide +kernel
theorem dX1_goesOn_233 : decode cX1_goesOn 233 = .ok (.getfield 726, 3) := zdec_at bX1_goesOn_233 0 rfl
theorem dX1_goesOn_236 : decode cX1_goesOn 236 = .ok (.iconst 1, 1) := zdec_at bX1_goesOn_233 1 rfl
theorem dX1_goesOn_237 : decode cX1_goesOn 237 = .ok (.isub, 1) := zdec_at bX1_goesOn_233 2 rfl
theorem dX1_goesOn_238 : decode cX1_goesOn 238 = .ok (.putfield 726, 3) := zdec_at bX1_goesOn_233 3 rfl
theorem dX1_goesOn_241 : decode cX1_goesOn 241 = .ok (.iload_n 1, 1) := zdec_at bX1_goesOn_233 4 rfl
theorem dX1_goesOn_242 : decode cX1_goesOn 242 = .ok (.bipush 23, 2) := zdec_at bX1_goesOn_233 5 rfl
theorem dX1_goesOn_244 : decode cX1_goesOn 244 = .ok (.if_icmp .ne 17, 3) := zdec_at bX1_goesOn_233 6 rfl
theorem dX1_goesOn_247 : decode cX1_goesOn 247 = .ok (.aload_n 0, 1) := zdec_at bX1_goesOn_233 7 rfl
theorem dX1_goesOn_248 : decode cX1_goesOn 248 = .ok (.aload_n 0, 1) := zdec_at bX1_goesOn_233 8 rfl
theorem dX1_goesOn_249 : decode cX1_goesOn 249 = .ok (.getfield 206, 3) := zdec_at bX1_goesOn_233 9 rfl
theorem dX1_goesOn_252 : decode cX1_goesOn 252 = .ok (.invokevirtual 972, 3) := zdec_at bX1_goesOn_233 10 rfl
theorem dX1_goesOn_255 : decode cX1_goesOn 255 = .ok (.ifCond .eq 195, 3) := zdec_at bX1_goesOn_233 11 rfl
theorem dX1_goesOn_258 : decode cX1_goesOn 258 = .ok (.goto 14, 3) := zdec_at bX1_goesOn_233 12 rfl
theorem dX1_goesOn_261 : decode cX1_goesOn 261 = .ok (.aload_n 0, 1) := zdec_at bX1_goesOn_233 13 rfl
theorem dX1_goesOn_262 : decode cX1_goesOn 262 = .ok (.aload_n 0, 1) := zdec_at bX1_goesOn_233 14 rfl
theorem dX1_goesOn_263 : decode cX1_goesOn 263 = .ok (.getfield 206, 3) := zdec_at bX1_goesOn_233 15 rfl
theorem bX1_goesOn_266 : zdec cX1_goesOn 266 [(266, .invokevirtual 976, 3), (269, .ifCond .eq 181, 3), (272, .aload_n 0, 1), (273, .aload_n 0, 1), (274, .getfield 713, 3), (277, .iconst 1, 1), (278, .iadd, 1), (279, .invokevirtual 770, 3), (282, .goto 168, 3), (285, .aload_n 0, 1), (286, .getfield 684, 3), (289, .aload_n 0, 1), (290, .getfield 206, 3), (293, .invokevirtual 937, 3), (296, .pop, 1), (297, .aload_n 0, 1)] = true := by decide +kernel
theorem dX1_goesOn_266 : decode cX1_goesOn 266 = .ok (.invokevirtual 976, 3) := zdec_at bX1_goesOn_266 0 rfl
theorem dX1_goesOn_269 : decode cX1_goesOn 269 = .ok (.ifCond .eq 181, 3) := zdec_at bX1_goesOn_266 1 rfl
theorem dX1_goesOn_272 : decode cX1_goesOn 272 = .ok (.aload_n 0, 1) := zdec_at bX1_goesOn_266 2 rfl
theorem dX1_goesOn_273 : decode cX1_goesOn 273 = .ok (.aload_n 0, 1) := zdec_at bX1_goesOn_266 3 rfl
theorem dX1_goesOn_274 : decode cX1_goesOn 274 = .ok (.getfield 713, 3) := zdec_at bX1_goesOn_266 4 rfl
theorem dX1_goesOn_277 : decode cX1_goesOn 277 = .ok (.iconst 1, 1) := zdec_at bX1_goesOn_266 5 rfl
theorem dX1_goesOn_278 : decode cX1_goesOn 278 = .ok (.iadd, 1) := zdec_at bX1_goesOn_266 6 rfl
theorem dX1_goesOn_279 : decode cX1_goesOn 279 = .ok (.invokevirtual 770, 3) := zdec_at bX1_goesOn_266 7 rfl
theorem dX1_goesOn_282 : decode cX1_goesOn 282 = .ok (.goto 168, 3) := zdec_at bX1_goesOn_266 8 rfl
theorem dX1_goesOn_285 : decode cX1_goesOn 285 = .ok (.aload_n 0, 1) := zdec_at bX1_goesOn_266 9 rfl
theorem dX1_goesOn_286 : decode cX1_goesOn 286 = .ok (.getfield 684, 3) := zdec_at bX1_goesOn_266 10 rfl
theorem dX1_goesOn_289 : decode cX1_goesOn 289 = .ok (.aload_n 0, 1) := zdec_at bX1_goesOn_266 11 rfl
theorem dX1_goesOn_290 : decode cX1_goesOn 290 = .ok (.getfield 206, 3) := zdec_at bX1_goesOn_266 12 rfl
theorem dX1_goesOn_293 : decode cX1_goesOn 293 = .ok (.invokevirtual 937, 3) := zdec_at bX1_goesOn_266 13 rfl
theorem dX1_goesOn_296 : decode cX1_goesOn 296 = .ok (.pop, 1) := zdec_at bX1_goesOn_266 14 rfl
theorem dX1_goesOn_297 : decode cX1_goesOn 297 = .ok (.aload_n 0, 1) := zdec_at bX1_goesOn_266 15 rfl
theorem bX1_goesOn_298 : zdec cX1_goesOn 298 [(298, .getfield 684, 3), (301, .iconst 0, 1), (302, .putfield 726, 3), (305, .aload_n 0, 1), (306, .getfield 684, 3), (309, .aload_n 0, 1), (310, .getfield 206, 3), (313, .invokevirtual 767, 3), (316, .aload_n 0, 1), (317, .aload_n 0, 1), (318, .getfield 694, 3), (321, .iconst 2, 1), (322, .aload_n 0, 1), (323, .getfield 89, 3), (326, .getfield 343, 3), (329, .aload_n 0, 1)] = true := by decide +kernel
theorem dX1_goesOn_298 : decode cX1_goesOn 298 = .ok (.getfield 684, 3) := zdec_at bX1_goesOn_298 0 rfl
theorem dX1_goesOn_301 : decode cX1_goesOn 301 = .ok (.iconst 0, 1) := zdec_at bX1_goesOn_298 1 rfl
theorem dX1_goesOn_302 : decode cX1_goesOn 302 = .ok (.putfield 726, 3) := zdec_at bX1_goesOn_298 2 rfl
theorem dX1_goesOn_305 : decode cX1_goesOn 305 = .ok (.aload_n 0, 1) := zdec_at bX1_goesOn_298 3 rfl
theorem dX1_goesOn_306 : decode cX1_goesOn 306 = .ok (.getfield 684, 3) := zdec_at bX1_goesOn_298 4 rfl
theorem dX1_goesOn_309 : decode cX1_goesOn 309 = .ok (.aload_n 0, 1) := zdec_at bX1_goesOn_298 5 rfl
theorem dX1_goesOn_310 : decode cX1_goesOn 310 = .ok (.getfield 206, 3) := zdec_at bX1_goesOn_298 6 rfl
theorem dX1_goesOn_313 : decode cX1_goesOn 313 = .ok (.invokevirtual 767, 3) := zdec_at bX1_goesOn_298 7 rfl
theorem dX1_goesOn_316 : decode cX1_goesOn 316 = .ok (.aload_n 0, 1) := zdec_at bX1_goesOn_298 8 rfl
theorem dX1_goesOn_317 : decode cX1_goesOn 317 = .ok (.aload_n 0, 1) := zdec_at bX1_goesOn_298 9 rfl
theorem dX1_goesOn_318 : decode cX1_goesOn 318 = .ok (.getfield 694, 3) := zdec_at bX1_goesOn_298 10 rfl
theorem dX1_goesOn_321 : decode cX1_goesOn 321 = .ok (.iconst 2, 1) := zdec_at bX1_goesOn_298 11 rfl
theorem dX1_goesOn_322 : decode cX1_goesOn 322 = .ok (.aload_n 0, 1) := zdec_at bX1_goesOn_298 12 rfl
theorem dX1_goesOn_323 : decode cX1_goesOn 323 = .ok (.getfield 89, 3) := zdec_at bX1_goesOn_298 13 rfl
theorem dX1_goesOn_326 : decode cX1_goesOn 326 = .ok (.getfield 343, 3) := zdec_at bX1_goesOn_298 14 rfl
theorem dX1_goesOn_329 : decode cX1_goesOn 329 = .ok (.aload_n 0, 1) := zdec_at bX1_goesOn_298 15 rfl
theorem bX1_goesOn_330 : zdec cX1_goesOn 330 [(330, .getfield 713, 3), (333, .baload, 1), (334, .imul, 1), (335, .iadd, 1), (336, .invokevirtual 770, 3), (339, .goto 111, 3), (342, .aload_n 0, 1), (343, .getfield 684, 3), (346, .aload_n 0, 1), (347, .getfield 206, 3), (350, .invokevirtual 937, 3), (353, .pop, 1), (354, .aload_n 0, 1), (355, .aload_n 0, 1), (356, .getfield 684, 3), (359, .aload_n 0, 1)] = true := by decide +kernel
theorem dX1_goesOn_330 : decode cX1_goesOn 330 = .ok (.getfield 713, 3) := zdec_at bX1_goesOn_330 0 rfl
theorem dX1_goesOn_333 : decode cX1_goesOn 333 = .ok (.baload, 1) := zdec_at bX1_goesOn_330 1 rfl
theorem dX1_goesOn_334 : decode cX1_goesOn 334 = .ok (.imul, 1) := zdec_at bX1_goesOn_330 2 rfl
theorem dX1_goesOn_335 : decode cX1_goesOn 335 = .ok (.iadd, 1) := zdec_at bX1_goesOn_330 3 rfl
theorem dX1_goesOn_336 : decode cX1_goesOn 336 = .ok (.invokevirtual 770, 3) := zdec_at bX1_goesOn_330 4 rfl
theorem dX1_goesOn_339 : decode cX1_goesOn 339 = .ok (.goto 111, 3) := zdec_at bX1_goesOn_330 5 rfl
theorem dX1_goesOn_342 : decode cX1_goesOn 342 = .ok (.aload_n 0, 1) := zdec_at bX1_goesOn_330 6 rfl
theorem dX1_goesOn_343 : decode cX1_goesOn 343 = .ok (.getfield 684, 3) := zdec_at bX1_goesOn_330 7 rfl
theorem dX1_goesOn_346 : decode cX1_goesOn 346 = .ok (.aload_n 0, 1) := zdec_at bX1_goesOn_330 8 rfl
theorem dX1_goesOn_347 : decode cX1_goesOn 347 = .ok (.getfield 206, 3) := zdec_at bX1_goesOn_330 9 rfl
theorem dX1_goesOn_350 : decode cX1_goesOn 350 = .ok (.invokevirtual 937, 3) := zdec_at bX1_goesOn_330 10 rfl
theorem dX1_goesOn_353 : decode cX1_goesOn 353 = .ok (.pop, 1) := zdec_at bX1_goesOn_330 11 rfl
theorem dX1_goesOn_354 : decode cX1_goesOn 354 = .ok (.aload_n 0, 1) := zdec_at bX1_goesOn_330 12 rfl
theorem dX1_goesOn_355 : decode cX1_goesOn 355 = .ok (.aload_n 0, 1) := zdec_at bX1_goesOn_330 13 rfl
theorem dX1_goesOn_356 : decode cX1_goesOn 356 = .ok (.getfield 684, 3) := zdec_at bX1_goesOn_330 14 rfl
theorem dX1_goesOn_359 : decode cX1_goesOn 359 = .ok (.aload_n 0, 1) := zdec_at bX1_goesOn_330 15 rfl
theorem bX1_goesOn_360 : zdec cX1_goesOn 360 [(360, .getfield 206, 3), (363, .invokevirtual 803, 3), (366, .goto 84, 3), (369, .aload_n 0, 1), (370, .aload_n 0, 1), (371, .getfield 713, 3), (374, .iconst 1, 1), (375, .iadd, 1), (376, .invokevirtual 770, 3), (379, .goto 71, 3), (382, .aload_n 0, 1), (383, .getfield 684, 3), (386, .dup, 1), (387, .getfield 726, 3), (390, .iconst 1, 1), (391, .isub, 1)] = true := by decide +kernel
theorem dX1_goesOn_360 : decode cX1_goesOn 360 = .ok (.getfield 206, 3) := zdec_at bX1_goesOn_360 0 rfl
theorem dX1_goesOn_363 : decode cX1_goesOn 363 = .ok (.invokevirtual 803, 3) := zdec_at bX1_goesOn_360 1 rfl
theorem dX1_goesOn_366 : decode cX1_goesOn 366 = .ok (.goto 84, 3) := zdec_at bX1_goesOn_360 2 rfl
theorem dX1_goesOn_369 : decode cX1_goesOn 369 = .ok (.aload_n 0, 1) := zdec_at bX1_goesOn_360 3 rfl
theorem dX1_goesOn_370 : decode cX1_goesOn 370 = .ok (.aload_n 0, 1) := zdec_at bX1_goesOn_360 4 rfl
theorem dX1_goesOn_371 : decode cX1_goesOn 371 = .ok (.getfield 713, 3) := zdec_at bX1_goesOn_360 5 rfl
theorem dX1_goesOn_374 : decode cX1_goesOn 374 = .ok (.iconst 1, 1) := zdec_at bX1_goesOn_360 6 rfl
theorem dX1_goesOn_375 : decode cX1_goesOn 375 = .ok (.iadd, 1) := zdec_at bX1_goesOn_360 7 rfl
theorem dX1_goesOn_376 : decode cX1_goesOn 376 = .ok (.invokevirtual 770, 3) := zdec_at bX1_goesOn_360 8 rfl
theorem dX1_goesOn_379 : decode cX1_goesOn 379 = .ok (.goto 71, 3) := zdec_at bX1_goesOn_360 9 rfl
theorem dX1_goesOn_382 : decode cX1_goesOn 382 = .ok (.aload_n 0, 1) := zdec_at bX1_goesOn_360 10 rfl
theorem dX1_goesOn_383 : decode cX1_goesOn 383 = .ok (.getfield 684, 3) := zdec_at bX1_goesOn_360 11 rfl
theorem dX1_goesOn_386 : decode cX1_goesOn 386 = .ok (.dup, 1) := zdec_at bX1_goesOn_360 12 rfl
theorem dX1_goesOn_387 : decode cX1_goesOn 387 = .ok (.getfield 726, 3) := zdec_at bX1_goesOn_360 13 rfl
theorem dX1_goesOn_390 : decode cX1_goesOn 390 = .ok (.iconst 1, 1) := zdec_at bX1_goesOn_360 14 rfl
theorem dX1_goesOn_391 : decode cX1_goesOn 391 = .ok (.isub, 1) := zdec_at bX1_goesOn_360 15 rfl
theorem bX1_goesOn_392 : zdec cX1_goesOn 392 [(392, .putfield 726, 3), (395, .aload_n 0, 1), (396, .getfield 684, 3), (399, .lconst 0, 1), (400, .lconst 0, 1), (401, .lconst 0, 1), (402, .invokevirtual 979, 3), (405, .aload_n 0, 1), (406, .aload_n 0, 1), (407, .getfield 713, 3), (410, .iconst 1, 1), (411, .iadd, 1), (412, .invokevirtual 770, 3), (415, .goto 35, 3), (418, .aload_n 0, 1), (419, .aload_n 0, 1)] = true := by decide +kernel
theorem dX1_goesOn_392 : decode cX1_goesOn 392 = .ok (.putfield 726, 3) := zdec_at bX1_goesOn_392 0 rfl
theorem dX1_goesOn_395 : decode cX1_goesOn 395 = .ok (.aload_n 0, 1) := zdec_at bX1_goesOn_392 1 rfl
theorem dX1_goesOn_396 : decode cX1_goesOn 396 = .ok (.getfield 684, 3) := zdec_at bX1_goesOn_392 2 rfl
theorem dX1_goesOn_399 : decode cX1_goesOn 399 = .ok (.lconst 0, 1) := zdec_at bX1_goesOn_392 3 rfl
theorem dX1_goesOn_400 : decode cX1_goesOn 400 = .ok (.lconst 0, 1) := zdec_at bX1_goesOn_392 4 rfl
theorem dX1_goesOn_401 : decode cX1_goesOn 401 = .ok (.lconst 0, 1) := zdec_at bX1_goesOn_392 5 rfl
theorem dX1_goesOn_402 : decode cX1_goesOn 402 = .ok (.invokevirtual 979, 3) := zdec_at bX1_goesOn_392 6 rfl
theorem dX1_goesOn_405 : decode cX1_goesOn 405 = .ok (.aload_n 0, 1) := zdec_at bX1_goesOn_392 7 rfl
theorem dX1_goesOn_406 : decode cX1_goesOn 406 = .ok (.aload_n 0, 1) := zdec_at bX1_goesOn_392 8 rfl
theorem dX1_goesOn_407 : decode cX1_goesOn 407 = .ok (.getfield 713, 3) := zdec_at bX1_goesOn_392 9 rfl
theorem dX1_goesOn_410 : decode cX1_goesOn 410 = .ok (.iconst 1, 1) := zdec_at bX1_goesOn_392 10 rfl
theorem dX1_goesOn_411 : decode cX1_goesOn 411 = .ok (.iadd, 1) := zdec_at bX1_goesOn_392 11 rfl
theorem dX1_goesOn_412 : decode cX1_goesOn 412 = .ok (.invokevirtual 770, 3) := zdec_at bX1_goesOn_392 12 rfl
theorem dX1_goesOn_415 : decode cX1_goesOn 415 = .ok (.goto 35, 3) := zdec_at bX1_goesOn_392 13 rfl
theorem dX1_goesOn_418 : decode cX1_goesOn 418 = .ok (.aload_n 0, 1) := zdec_at bX1_goesOn_392 14 rfl
theorem dX1_goesOn_419 : decode cX1_goesOn 419 = .ok (.aload_n 0, 1) := zdec_at bX1_goesOn_392 15 rfl
theorem bX1_goesOn_420 : zdec cX1_goesOn 420 [(420, .getfield 206, 3), (423, .ldc2_w 613, 3), (426, .invokevirtual 892, 3), (429, .invokevirtual 895, 3), (432, .aload_n 0, 1), (433, .getfield 684, 3), (436, .dup, 1), (437, .getfield 726, 3), (440, .iconst 1, 1), (441, .isub, 1), (442, .putfield 726, 3), (445, .aload_n 0, 1), (446, .iload_n 2, 1), (447, .invokevirtual 770, 3), (450, .return_, 1)] = true := by decide +kernel
theorem dX1_goesOn_420 : decode cX1_goesOn 420 = .ok (.getfield 206, 3) := zdec_at bX1_goesOn_420 0 rfl
theorem dX1_goesOn_423 : decode cX1_goesOn 423 = .ok (.ldc2_w 613, 3) := zdec_at bX1_goesOn_420 1 rfl
theorem dX1_goesOn_426 : decode cX1_goesOn 426 = .ok (.invokevirtual 892, 3) := zdec_at bX1_goesOn_420 2 rfl
theorem dX1_goesOn_429 : decode cX1_goesOn 429 = .ok (.invokevirtual 895, 3) := zdec_at bX1_goesOn_420 3 rfl
theorem dX1_goesOn_432 : decode cX1_goesOn 432 = .ok (.aload_n 0, 1) := zdec_at bX1_goesOn_420 4 rfl
theorem dX1_goesOn_433 : decode cX1_goesOn 433 = .ok (.getfield 684, 3) := zdec_at bX1_goesOn_420 5 rfl
theorem dX1_goesOn_436 : decode cX1_goesOn 436 = .ok (.dup, 1) := zdec_at bX1_goesOn_420 6 rfl
theorem dX1_goesOn_437 : decode cX1_goesOn 437 = .ok (.getfield 726, 3) := zdec_at bX1_goesOn_420 7 rfl
theorem dX1_goesOn_440 : decode cX1_goesOn 440 = .ok (.iconst 1, 1) := zdec_at bX1_goesOn_420 8 rfl
theorem dX1_goesOn_441 : decode cX1_goesOn 441 = .ok (.isub, 1) := zdec_at bX1_goesOn_420 9 rfl
theorem dX1_goesOn_442 : decode cX1_goesOn 442 = .ok (.putfield 726, 3) := zdec_at bX1_goesOn_420 10 rfl
theorem dX1_goesOn_445 : decode cX1_goesOn 445 = .ok (.aload_n 0, 1) := zdec_at bX1_goesOn_420 11 rfl
theorem dX1_goesOn_446 : decode cX1_goesOn 446 = .ok (.iload_n 2, 1) := zdec_at bX1_goesOn_420 12 rfl
theorem dX1_goesOn_447 : decode cX1_goesOn 447 = .ok (.invokevirtual 770, 3) := zdec_at bX1_goesOn_420 13 rfl
theorem dX1_goesOn_450 : decode cX1_goesOn 450 = .ok (.return_, 1) := zdec_at bX1_goesOn_420 14 rfl
theorem sX1_goesOn_0 {E : zE} {d : Nat} {Q : zO → zM → Prop} (M : zM) (l1 : Int32) (l2 : Int32) (l3 : Int32) (hw : cw M) (k : if l1 = 15 then (Z E YX1_callsOf d M (zargs 0 [vr (some (16, 0, 0)), vi l2]) 0 [] (zafter E YX1_goesOn (d + 1) [] 78 3 [] Q)) else (if l1 = 16 then (Z E YX1_makes d M (zargs 0 [vr (some (16, 0, 0)), vi l2, vi l3]) 0 [] (zafter E YX1_goesOn (d + 1) [] 87 3 [] Q)) else (if l1 = 17 then (Z E YX1_stacks d M (zargs 0 [vr (some (16, 0, 0)), vi l1]) 0 [] (zafter E YX1_goesOn (d + 1) [(0, vr (some (16, 0, 0)))] 95 3 [] Q)) else (if l1 = 18 then (Z E YX1_stacks d M (zargs 0 [vr (some (16, 0, 0)), vi l1]) 0 [] (zafter E YX1_goesOn (d + 1) [(0, vr (some (16, 0, 0)))] 95 3 [] Q)) else (if l1 = 19 then (Z E YX1_stacks d M (zargs 0 [vr (some (16, 0, 0)), vi l1]) 0 [] (zafter E YX1_goesOn (d + 1) [(0, vr (some (16, 0, 0)))] 95 3 [] Q)) else (if l1 = 20 then (Z E YX1_stacks d M (zargs 0 [vr (some (16, 0, 0)), vi l1]) 0 [] (zafter E YX1_goesOn (d + 1) [(0, vr (some (16, 0, 0)))] 95 3 [] Q)) else (if l1 = 21 then (Z E YX1_next d M (zargs 0 [vr (some (16, 0, 0)), vi l2]) 0 [] (zafter E YX1_goesOn (d + 1) [] 113 3 [] Q)) else (if l1 = 22 then (∃ b1 : Nat, (gr M 16 60) = some (b1, 7, 0) ∧ (Z E YX43_pop d M (zargs 0 [vr (some (b1, 7, 0)), vr (some (71, 4, 0))]) 0 [] (zafter E YX1_goesOn (d + 1) [(0, vr (some (16, 0, 0))), (2, vi l2)] 127 3 [] Q))) else (if l1 = 23 then (∃ b2 : Nat, (gr M 16 60) = some (b2, 7, 0) ∧ (Z E YX43_at d M (zargs 0 [vr (some (b2, 7, 0)), vi ((gi M b2 13) - (1 : Int32)), vr (some (71, 4, 0))]) 0 [] (zafter E YX1_goesOn (d + 1) [(0, vr (some (16, 0, 0))), (1, vi l1), (2, vi l2)] 188 3 [] Q))) else (if l1 = 24 then (∃ b3 : Nat, (gr M 16 60) = some (b3, 7, 0) ∧ (Z E YX43_at d M (zargs 0 [vr (some (b3, 7, 0)), vi ((gi M b3 13) - (1 : Int32)), vr (some (71, 4, 0))]) 0 [] (zafter E YX1_goesOn (d + 1) [(0, vr (some (16, 0, 0))), (1, vi l1), (2, vi l2)] 188 3 [] Q))) else (if l1 = 25 then (∃ b4 : Nat, (gr M 16 60) = some (b4, 7, 0) ∧ (Z E YX43_pop d M (zargs 0 [vr (some (b4, 7, 0)), vr (some (71, 4, 0))]) 0 [] (zafter E YX1_goesOn (d + 1) [(0, vr (some (16, 0, 0)))] 293 3 [] Q))) else (if l1 = 26 then (∃ b5 : Nat, (gr M 16 60) = some (b5, 7, 0) ∧ (Z E YX43_pop d M (zargs 0 [vr (some (b5, 7, 0)), vr (some (71, 4, 0))]) 0 [] (zafter E YX1_goesOn (d + 1) [(0, vr (some (16, 0, 0)))] 350 3 [] Q))) else (if l1 = 27 then (Z E YX1_next d M (zargs 0 [vr (some (16, 0, 0)), vi ((gi M 16 76) + (1 : Int32))]) 0 [] (zafter E YX1_goesOn (d + 1) [] 376 3 [] Q)) else (if l1 = 28 then (Z E YX1_next d M (zargs 0 [vr (some (16, 0, 0)), vi ((gi M 16 76) + (1 : Int32))]) 0 [] (zafter E YX1_goesOn (d + 1) [] 376 3 [] Q)) else (if l1 = 29 then (∃ b6 : Nat, (gr M 16 60) = some (b6, 7, 0) ∧ (16 ≤ b6 ∧ (∃ b7 : Nat, (gr M 16 60) = some (b7, 7, 0) ∧ (Z E YX43_push_2 d (si M b6 13 ((gi M b6 13) - (1 : Int32))) (zargs 0 [vr (some (b7, 7, 0)), vl (0 : Int64), vl (0 : Int64), vl (0 : Int64)]) 0 [] (zafter E YX1_goesOn (d + 1) [(0, vr (some (16, 0, 0)))] 402 3 [] Q))))) else (Z E YX6_of d M (zargs 0 [vr (some (71, 4, 0)), vl (256 : Int64)]) 0 [] (zafter E YX1_goesOn (d + 1) [(0, vr (some (16, 0, 0))), (2, vi l2)] 426 3 [vr (some (16, 0, 0))] Q))))))))))))))))) : Z E YX1_goesOn (d + 1) M [(0, vr (some (16, 0, 0))), (1, vi l1), (2, vi l2), (3, vi l3)] 0 [] Q := by
  refine z_iload_n dX1_goesOn_0 rfl rfl ?_
  by_cases h0_ : l1 = 15
  · have k := zit h0_ k
    refine z_tableIn (off := 75) (tgt := 76) dX1_goesOn_1 (by rw [h0_]; decide) (by rw [h0_]; decide) (by rw [h0_]; rfl) rfl ?_
    refine z_aload_n dX1_goesOn_76 rfl rfl ?_
    refine z_iload_n dX1_goesOn_77 rfl rfl ?_
    refine Z.pick [] rfl ?_
    exact z_callV (as := [vi l2]) (st := []) dX1_goesOn_78 vsX1_963_0 (Nat.le_refl _) (Nat.le_of_ble_eq_true rfl) (Nat.le_of_ble_eq_true rfl) rfl k
  · have k := zif h0_ k
    by_cases h1_ : l1 = 16
    · have k := zit h1_ k
      refine z_tableIn (off := 83) (tgt := 84) dX1_goesOn_1 (by rw [h1_]; decide) (by rw [h1_]; decide) (by rw [h1_]; rfl) rfl ?_
      refine z_aload_n dX1_goesOn_84 rfl rfl ?_
      refine z_iload_n dX1_goesOn_85 rfl rfl ?_
      refine z_iload_n dX1_goesOn_86 rfl rfl ?_
      refine Z.pick [] rfl ?_
      exact z_callV (as := [vi l2, vi l3]) (st := []) dX1_goesOn_87 vsX1_966_0 (Nat.le_refl _) (Nat.le_of_ble_eq_true rfl) (Nat.le_of_ble_eq_true rfl) rfl k
    · have k := zif h1_ k
      by_cases h2_ : l1 = 17
      · have k := zit h2_ k
        refine z_tableIn (off := 92) (tgt := 93) dX1_goesOn_1 (by rw [h2_]; decide) (by rw [h2_]; decide) (by rw [h2_]; rfl) rfl ?_
        refine z_aload_n dX1_goesOn_93 rfl rfl ?_
        refine z_iload_n dX1_goesOn_94 rfl rfl ?_
        refine Z.pick [0] rfl ?_
        exact z_callV (as := [vi l1]) (st := []) dX1_goesOn_95 vsX1_969_0 (Nat.le_refl _) (Nat.le_of_ble_eq_true rfl) (Nat.le_of_ble_eq_true rfl) rfl k
      · have k := zif h2_ k
        by_cases h3_ : l1 = 18
        · have k := zit h3_ k
          refine z_tableIn (off := 92) (tgt := 93) dX1_goesOn_1 (by rw [h3_]; decide) (by rw [h3_]; decide) (by rw [h3_]; rfl) rfl ?_
          refine z_aload_n dX1_goesOn_93 rfl rfl ?_
          refine z_iload_n dX1_goesOn_94 rfl rfl ?_
          refine Z.pick [0] rfl ?_
          exact z_callV (as := [vi l1]) (st := []) dX1_goesOn_95 vsX1_969_0 (Nat.le_refl _) (Nat.le_of_ble_eq_true rfl) (Nat.le_of_ble_eq_true rfl) rfl k
        · have k := zif h3_ k
          by_cases h4_ : l1 = 19
          · have k := zit h4_ k
            refine z_tableIn (off := 92) (tgt := 93) dX1_goesOn_1 (by rw [h4_]; decide) (by rw [h4_]; decide) (by rw [h4_]; rfl) rfl ?_
            refine z_aload_n dX1_goesOn_93 rfl rfl ?_
            refine z_iload_n dX1_goesOn_94 rfl rfl ?_
            refine Z.pick [0] rfl ?_
            exact z_callV (as := [vi l1]) (st := []) dX1_goesOn_95 vsX1_969_0 (Nat.le_refl _) (Nat.le_of_ble_eq_true rfl) (Nat.le_of_ble_eq_true rfl) rfl k
          · have k := zif h4_ k
            by_cases h5_ : l1 = 20
            · have k := zit h5_ k
              refine z_tableIn (off := 92) (tgt := 93) dX1_goesOn_1 (by rw [h5_]; decide) (by rw [h5_]; decide) (by rw [h5_]; rfl) rfl ?_
              refine z_aload_n dX1_goesOn_93 rfl rfl ?_
              refine z_iload_n dX1_goesOn_94 rfl rfl ?_
              refine Z.pick [0] rfl ?_
              exact z_callV (as := [vi l1]) (st := []) dX1_goesOn_95 vsX1_969_0 (Nat.le_refl _) (Nat.le_of_ble_eq_true rfl) (Nat.le_of_ble_eq_true rfl) rfl k
            · have k := zif h5_ k
              by_cases h6_ : l1 = 21
              · have k := zit h6_ k
                refine z_tableIn (off := 110) (tgt := 111) dX1_goesOn_1 (by rw [h6_]; decide) (by rw [h6_]; decide) (by rw [h6_]; rfl) rfl ?_
                refine z_aload_n dX1_goesOn_111 rfl rfl ?_
                refine z_iload_n dX1_goesOn_112 rfl rfl ?_
                refine Z.pick [] rfl ?_
                exact z_callV (as := [vi l2]) (st := []) dX1_goesOn_113 vsX1_770_0 (Nat.le_refl _) (Nat.le_of_ble_eq_true rfl) (Nat.le_of_ble_eq_true rfl) rfl k
              · have k := zif h6_ k
                by_cases h7_ : l1 = 22
                · have k := zit h7_ k
                  refine z_tableIn (off := 118) (tgt := 119) dX1_goesOn_1 (by rw [h7_]; decide) (by rw [h7_]; decide) (by rw [h7_]; rfl) rfl ?_
                  refine z_aload_n dX1_goesOn_119 rfl rfl ?_
                  refine z_getr (r := (gr M 16 60)) dX1_goesOn_120 fsX1_684_0 rfl ?_
                  refine z_aload_n dX1_goesOn_123 rfl rfl ?_
                  refine z_getr dX1_goesOn_124 fsX1_206_0 (show gr M 16 78 = some (71, 4, 0) from cw_at hw 39 rfl) ?_
                  obtain ⟨b1, e1_, k⟩ := k
                  refine Z.eqs (lv' := [(0, vr (some (16, 0, 0))), (1, vi l1), (2, vi l2), (3, vi l3)]) (st' := [vr (some (71, 4, 0)), vr (some (b1, 7, 0))]) rfl (by rw [e1_] <;> rfl) ?_
                  refine Z.pick [0, 2] rfl ?_
                  exact z_callV (as := [vr (some (71, 4, 0))]) (st := []) dX1_goesOn_127 vsX1_937_7 (Nat.le_refl _) (Nat.le_of_ble_eq_true rfl) (Nat.le_of_ble_eq_true rfl) rfl k
                · have k := zif h7_ k
                  by_cases h8_ : l1 = 23
                  · have k := zit h8_ k
                    refine z_tableIn (off := 170) (tgt := 171) dX1_goesOn_1 (by rw [h8_]; decide) (by rw [h8_]; decide) (by rw [h8_]; rfl) rfl ?_
                    refine z_aload_n dX1_goesOn_171 rfl rfl ?_
                    refine z_getr (r := (gr M 16 60)) dX1_goesOn_172 fsX1_684_0 rfl ?_
                    refine z_aload_n dX1_goesOn_175 rfl rfl ?_
                    refine z_getr (r := (gr M 16 60)) dX1_goesOn_176 fsX1_684_0 rfl ?_
                    obtain ⟨b2, e2_, k⟩ := k
                    refine Z.eqs (lv' := [(0, vr (some (16, 0, 0))), (1, vi l1), (2, vi l2), (3, vi l3)]) (st' := [vr (some (b2, 7, 0)), vr (some (b2, 7, 0))]) rfl (by rw [e2_] <;> rfl) ?_
                    refine z_geti dX1_goesOn_179 fsX1_726_7 ?_
                    refine z_iconst (v := 1) dX1_goesOn_182 rfl ?_
                    refine z_isub dX1_goesOn_183 ?_
                    refine z_aload_n dX1_goesOn_184 rfl rfl ?_
                    refine z_getr dX1_goesOn_185 fsX1_206_0 (show gr M 16 78 = some (71, 4, 0) from cw_at hw 39 rfl) ?_
                    refine Z.pick [0, 1, 2] rfl ?_
                    exact z_callV (as := [vi ((gi M b2 13) - (1 : Int32)), vr (some (71, 4, 0))]) (st := []) dX1_goesOn_188 vsX1_903_7 (Nat.le_refl _) (Nat.le_of_ble_eq_true rfl) (Nat.le_of_ble_eq_true rfl) rfl k
                  · have k := zif h8_ k
                    by_cases h9_ : l1 = 24
                    · have k := zit h9_ k
                      refine z_tableIn (off := 170) (tgt := 171) dX1_goesOn_1 (by rw [h9_]; decide) (by rw [h9_]; decide) (by rw [h9_]; rfl) rfl ?_
                      refine z_aload_n dX1_goesOn_171 rfl rfl ?_
                      refine z_getr (r := (gr M 16 60)) dX1_goesOn_172 fsX1_684_0 rfl ?_
                      refine z_aload_n dX1_goesOn_175 rfl rfl ?_
                      refine z_getr (r := (gr M 16 60)) dX1_goesOn_176 fsX1_684_0 rfl ?_
                      obtain ⟨b3, e3_, k⟩ := k
                      refine Z.eqs (lv' := [(0, vr (some (16, 0, 0))), (1, vi l1), (2, vi l2), (3, vi l3)]) (st' := [vr (some (b3, 7, 0)), vr (some (b3, 7, 0))]) rfl (by rw [e3_] <;> rfl) ?_
                      refine z_geti dX1_goesOn_179 fsX1_726_7 ?_
                      refine z_iconst (v := 1) dX1_goesOn_182 rfl ?_
                      refine z_isub dX1_goesOn_183 ?_
                      refine z_aload_n dX1_goesOn_184 rfl rfl ?_
                      refine z_getr dX1_goesOn_185 fsX1_206_0 (show gr M 16 78 = some (71, 4, 0) from cw_at hw 39 rfl) ?_
                      refine Z.pick [0, 1, 2] rfl ?_
                      exact z_callV (as := [vi ((gi M b3 13) - (1 : Int32)), vr (some (71, 4, 0))]) (st := []) dX1_goesOn_188 vsX1_903_7 (Nat.le_refl _) (Nat.le_of_ble_eq_true rfl) (Nat.le_of_ble_eq_true rfl) rfl k
                    · have k := zif h9_ k
                      by_cases h10_ : l1 = 25
                      · have k := zit h10_ k
                        refine z_tableIn (off := 284) (tgt := 285) dX1_goesOn_1 (by rw [h10_]; decide) (by rw [h10_]; decide) (by rw [h10_]; rfl) rfl ?_
                        refine z_aload_n dX1_goesOn_285 rfl rfl ?_
                        refine z_getr (r := (gr M 16 60)) dX1_goesOn_286 fsX1_684_0 rfl ?_
                        refine z_aload_n dX1_goesOn_289 rfl rfl ?_
                        refine z_getr dX1_goesOn_290 fsX1_206_0 (show gr M 16 78 = some (71, 4, 0) from cw_at hw 39 rfl) ?_
                        obtain ⟨b4, e4_, k⟩ := k
                        refine Z.eqs (lv' := [(0, vr (some (16, 0, 0))), (1, vi l1), (2, vi l2), (3, vi l3)]) (st' := [vr (some (71, 4, 0)), vr (some (b4, 7, 0))]) rfl (by rw [e4_] <;> rfl) ?_
                        refine Z.pick [0] rfl ?_
                        exact z_callV (as := [vr (some (71, 4, 0))]) (st := []) dX1_goesOn_293 vsX1_937_7 (Nat.le_refl _) (Nat.le_of_ble_eq_true rfl) (Nat.le_of_ble_eq_true rfl) rfl k
                      · have k := zif h10_ k
                        by_cases h11_ : l1 = 26
                        · have k := zit h11_ k
                          refine z_tableIn (off := 341) (tgt := 342) dX1_goesOn_1 (by rw [h11_]; decide) (by rw [h11_]; decide) (by rw [h11_]; rfl) rfl ?_
                          refine z_aload_n dX1_goesOn_342 rfl rfl ?_
                          refine z_getr (r := (gr M 16 60)) dX1_goesOn_343 fsX1_684_0 rfl ?_
                          refine z_aload_n dX1_goesOn_346 rfl rfl ?_
                          refine z_getr dX1_goesOn_347 fsX1_206_0 (show gr M 16 78 = some (71, 4, 0) from cw_at hw 39 rfl) ?_
                          obtain ⟨b5, e5_, k⟩ := k
                          refine Z.eqs (lv' := [(0, vr (some (16, 0, 0))), (1, vi l1), (2, vi l2), (3, vi l3)]) (st' := [vr (some (71, 4, 0)), vr (some (b5, 7, 0))]) rfl (by rw [e5_] <;> rfl) ?_
                          refine Z.pick [0] rfl ?_
                          exact z_callV (as := [vr (some (71, 4, 0))]) (st := []) dX1_goesOn_350 vsX1_937_7 (Nat.le_refl _) (Nat.le_of_ble_eq_true rfl) (Nat.le_of_ble_eq_true rfl) rfl k
                        · have k := zif h11_ k
                          by_cases h12_ : l1 = 27
                          · have k := zit h12_ k
                            refine z_tableIn (off := 368) (tgt := 369) dX1_goesOn_1 (by rw [h12_]; decide) (by rw [h12_]; decide) (by rw [h12_]; rfl) rfl ?_
                            refine z_aload_n dX1_goesOn_369 rfl rfl ?_
                            refine z_aload_n dX1_goesOn_370 rfl rfl ?_
                            refine z_geti dX1_goesOn_371 fsX1_713_0 ?_
                            refine z_iconst (v := 1) dX1_goesOn_374 rfl ?_
                            refine z_iadd dX1_goesOn_375 ?_
                            refine Z.pick [] rfl ?_
                            exact z_callV (as := [vi ((gi M 16 76) + (1 : Int32))]) (st := []) dX1_goesOn_376 vsX1_770_0 (Nat.le_refl _) (Nat.le_of_ble_eq_true rfl) (Nat.le_of_ble_eq_true rfl) rfl k
                          · have k := zif h12_ k
                            by_cases h13_ : l1 = 28
                            · have k := zit h13_ k
                              refine z_tableIn (off := 368) (tgt := 369) dX1_goesOn_1 (by rw [h13_]; decide) (by rw [h13_]; decide) (by rw [h13_]; rfl) rfl ?_
                              refine z_aload_n dX1_goesOn_369 rfl rfl ?_
                              refine z_aload_n dX1_goesOn_370 rfl rfl ?_
                              refine z_geti dX1_goesOn_371 fsX1_713_0 ?_
                              refine z_iconst (v := 1) dX1_goesOn_374 rfl ?_
                              refine z_iadd dX1_goesOn_375 ?_
                              refine Z.pick [] rfl ?_
                              exact z_callV (as := [vi ((gi M 16 76) + (1 : Int32))]) (st := []) dX1_goesOn_376 vsX1_770_0 (Nat.le_refl _) (Nat.le_of_ble_eq_true rfl) (Nat.le_of_ble_eq_true rfl) rfl k
                            · have k := zif h13_ k
                              by_cases h14_ : l1 = 29
                              · have k := zit h14_ k
                                refine z_tableIn (off := 381) (tgt := 382) dX1_goesOn_1 (by rw [h14_]; decide) (by rw [h14_]; decide) (by rw [h14_]; rfl) rfl ?_
                                refine z_aload_n dX1_goesOn_382 rfl rfl ?_
                                refine z_getr (r := (gr M 16 60)) dX1_goesOn_383 fsX1_684_0 rfl ?_
                                refine z_dup dX1_goesOn_386 rfl ?_
                                obtain ⟨b6, e6_, k⟩ := k
                                refine Z.eqs (lv' := [(0, vr (some (16, 0, 0))), (1, vi l1), (2, vi l2), (3, vi l3)]) (st' := [vr (some (b6, 7, 0)), vr (some (b6, 7, 0))]) rfl (by rw [e6_] <;> rfl) ?_
                                refine z_geti dX1_goesOn_387 fsX1_726_7 ?_
                                refine z_iconst (v := 1) dX1_goesOn_390 rfl ?_
                                refine z_isub dX1_goesOn_391 ?_
                                obtain ⟨g_, k⟩ := k
                                refine z_puti g_ dX1_goesOn_392 (zfwN.w fwX1_726_7) rfl ⟨rfl, rfl⟩ ?_
                                refine z_aload_n dX1_goesOn_395 rfl rfl ?_
                                refine z_getr (r := (gr M 16 60)) dX1_goesOn_396 fsX1_684_0 rfl ?_
                                refine z_lconst (v := 0) dX1_goesOn_399 rfl ?_
                                refine z_lconst (v := 0) dX1_goesOn_400 rfl ?_
                                refine z_lconst (v := 0) dX1_goesOn_401 rfl ?_
                                obtain ⟨b7, e7_, k⟩ := k
                                refine Z.eqs (lv' := [(0, vr (some (16, 0, 0))), (1, vi l1), (2, vi l2), (3, vi l3)]) (st' := [vl (0 : Int64), vl (0 : Int64), vl (0 : Int64), vr (some (b7, 7, 0))]) rfl (by rw [e7_] <;> rfl) ?_
                                refine Z.pick [0] rfl ?_
                                exact z_callV (as := [vl (0 : Int64), vl (0 : Int64), vl (0 : Int64)]) (st := []) dX1_goesOn_402 vsX1_979_7 (Nat.le_refl _) (Nat.le_of_ble_eq_true rfl) (Nat.le_of_ble_eq_true rfl) rfl k
                              · have k := zif h14_ k
                                refine z_tout (tgt := 418) [15, 16, 17, 18, 19, 20, 21, 22, 23, 24, 25, 26, 27, 28, 29] (by decide) dX1_goesOn_1 (zall_1 h0_ (zall_1 h1_ (zall_1 h2_ (zall_1 h3_ (zall_1 h4_ (zall_1 h5_ (zall_1 h6_ (zall_1 h7_ (zall_1 h8_ (zall_1 h9_ (zall_1 h10_ (zall_1 h11_ (zall_1 h12_ (zall_1 h13_ (zall_1 h14_ zall_0))))))))))))))) rfl ?_
                                refine z_aload_n dX1_goesOn_418 rfl rfl ?_
                                refine z_aload_n dX1_goesOn_419 rfl rfl ?_
                                refine z_getr dX1_goesOn_420 fsX1_206_0 (show gr M 16 78 = some (71, 4, 0) from cw_at hw 39 rfl) ?_
                                refine z_ldc2 (v := 256) dX1_goesOn_423 q2569 ?_
                                refine Z.pick [0, 2] rfl ?_
                                exact z_callV (as := [vl (256 : Int64)]) (st := [vr (some (16, 0, 0))]) dX1_goesOn_426 vsX1_892_4 (Nat.le_refl _) (Nat.le_of_ble_eq_true rfl) (Nat.le_of_ble_eq_true rfl) rfl k
theorem sX1_goesOn_81 {E : zE} {d : Nat} {Q : zO → zM → Prop} (M : zM)  (hw : cw M) (k : Z E YX1_goesOn (d + 1) M [] 450 [] Q) : Z E YX1_goesOn (d + 1) M [] 81 [] Q := by
  refine z_goto (tgt := 450) dX1_goesOn_81 rfl ?_
  exact k
theorem sX1_goesOn_90 {E : zE} {d : Nat} {Q : zO → zM → Prop} (M : zM)  (hw : cw M) (k : Z E YX1_goesOn (d + 1) M [] 450 [] Q) : Z E YX1_goesOn (d + 1) M [] 90 [] Q := by
  refine z_goto (tgt := 450) dX1_goesOn_90 rfl ?_
  exact k
theorem sX1_goesOn_98 {E : zE} {d : Nat} {Q : zO → zM → Prop} (M : zM)  (hw : cw M) (k : Z E YX1_next d M (zargs 0 [vr (some (16, 0, 0)), vi ((gi M 16 76) + (1 : Int32))]) 0 [] (zafter E YX1_goesOn (d + 1) [] 105 3 [] Q)) : Z E YX1_goesOn (d + 1) M [(0, vr (some (16, 0, 0)))] 98 [] Q := by
  refine z_aload_n dX1_goesOn_98 rfl rfl ?_
  refine z_aload_n dX1_goesOn_99 rfl rfl ?_
  refine z_geti dX1_goesOn_100 fsX1_713_0 ?_
  refine z_iconst (v := 1) dX1_goesOn_103 rfl ?_
  refine z_iadd dX1_goesOn_104 ?_
  refine Z.pick [] rfl ?_
  exact z_callV (as := [vi ((gi M 16 76) + (1 : Int32))]) (st := []) dX1_goesOn_105 vsX1_770_0 (Nat.le_refl _) (Nat.le_of_ble_eq_true rfl) (Nat.le_of_ble_eq_true rfl) rfl k
theorem sX1_goesOn_108 {E : zE} {d : Nat} {Q : zO → zM → Prop} (M : zM)  (hw : cw M) (k : Z E YX1_goesOn (d + 1) M [] 450 [] Q) : Z E YX1_goesOn (d + 1) M [] 108 [] Q := by
  refine z_goto (tgt := 450) dX1_goesOn_108 rfl ?_
  exact k
theorem sX1_goesOn_116 {E : zE} {d : Nat} {Q : zO → zM → Prop} (M : zM)  (hw : cw M) (k : Z E YX1_goesOn (d + 1) M [] 450 [] Q) : Z E YX1_goesOn (d + 1) M [] 116 [] Q := by
  refine z_goto (tgt := 450) dX1_goesOn_116 rfl ?_
  exact k
theorem sX1_goesOn_130 {E : zE} {d : Nat} {Q : zO → zM → Prop} (M : zM) (l2 : Int32) (u0 : Option zP) (hw : cw M) (k : Z E YX1_mayBeTrue d M (zargs 0 [vr (some (16, 0, 0)), vr (some (71, 4, 0))]) 0 [] (zafter E YX1_goesOn (d + 1) [(0, vr (some (16, 0, 0))), (2, vi l2)] 136 3 [] Q)) : Z E YX1_goesOn (d + 1) M [(0, vr (some (16, 0, 0))), (2, vi l2)] 130 [vr u0] Q := by
  refine z_pop dX1_goesOn_130 rfl ?_
  refine z_aload_n dX1_goesOn_131 rfl rfl ?_
  refine z_aload_n dX1_goesOn_132 rfl rfl ?_
  refine z_getr dX1_goesOn_133 fsX1_206_0 (show gr M 16 78 = some (71, 4, 0) from cw_at hw 39 rfl) ?_
  exact z_callV (as := [vr (some (71, 4, 0))]) (st := []) dX1_goesOn_136 vsX1_972_0 (Nat.le_refl _) (Nat.le_of_ble_eq_true rfl) (Nat.le_of_ble_eq_true rfl) rfl k
theorem sX1_goesOn_139 {E : zE} {d : Nat} {Q : zO → zM → Prop} (M : zM) (l2 : Int32) (s0 : Int32) (hw : cw M) (k : if s0 = 0 then (Z E YX1_goesOn (d + 1) M [(0, vr (some (16, 0, 0))), (2, vi l2)] 152 [] Q) else (Z E YX1_next d M (zargs 0 [vr (some (16, 0, 0)), vi ((gi M 16 76) + (1 : Int32))]) 0 [] (zafter E YX1_goesOn (d + 1) [(0, vr (some (16, 0, 0))), (2, vi l2)] 149 3 [] Q))) : Z E YX1_goesOn (d + 1) M [(0, vr (some (16, 0, 0))), (2, vi l2)] 139 [vi s0] Q := by
  refine z_if_eq (tgt := 152) dX1_goesOn_139 rfl (fun h_ => ?_) (fun h_ => ?_)
  · have k := zit h_ k
    exact k
  · have k := zif h_ k
    refine z_aload_n dX1_goesOn_142 rfl rfl ?_
    refine z_aload_n dX1_goesOn_143 rfl rfl ?_
    refine z_geti dX1_goesOn_144 fsX1_713_0 ?_
    refine z_iconst (v := 1) dX1_goesOn_147 rfl ?_
    refine z_iadd dX1_goesOn_148 ?_
    exact z_callV (as := [vi ((gi M 16 76) + (1 : Int32))]) (st := []) dX1_goesOn_149 vsX1_770_0 (Nat.le_refl _) (Nat.le_of_ble_eq_true rfl) (Nat.le_of_ble_eq_true rfl) rfl k
theorem sX1_goesOn_152 {E : zE} {d : Nat} {Q : zO → zM → Prop} (M : zM) (l2 : Int32) (hw : cw M) (k : Z E YX1_mayBeFalse d M (zargs 0 [vr (some (16, 0, 0)), vr (some (71, 4, 0))]) 0 [] (zafter E YX1_goesOn (d + 1) [(0, vr (some (16, 0, 0))), (2, vi l2)] 157 3 [] Q)) : Z E YX1_goesOn (d + 1) M [(0, vr (some (16, 0, 0))), (2, vi l2)] 152 [] Q := by
  refine z_aload_n dX1_goesOn_152 rfl rfl ?_
  refine z_aload_n dX1_goesOn_153 rfl rfl ?_
  refine z_getr dX1_goesOn_154 fsX1_206_0 (show gr M 16 78 = some (71, 4, 0) from cw_at hw 39 rfl) ?_
  exact z_callV (as := [vr (some (71, 4, 0))]) (st := []) dX1_goesOn_157 vsX1_976_0 (Nat.le_refl _) (Nat.le_of_ble_eq_true rfl) (Nat.le_of_ble_eq_true rfl) rfl k
theorem sX1_goesOn_160 {E : zE} {d : Nat} {Q : zO → zM → Prop} (M : zM) (l2 : Int32) (s0 : Int32) (hw : cw M) (k : if s0 = 0 then (Z E YX1_goesOn (d + 1) M [] 450 [] Q) else (Z E YX1_next d M (zargs 0 [vr (some (16, 0, 0)), vi l2]) 0 [] (zafter E YX1_goesOn (d + 1) [] 165 3 [] Q))) : Z E YX1_goesOn (d + 1) M [(0, vr (some (16, 0, 0))), (2, vi l2)] 160 [vi s0] Q := by
  refine z_if_eq (tgt := 450) dX1_goesOn_160 rfl (fun h_ => ?_) (fun h_ => ?_)
  · have k := zit h_ k
    refine Z.pick [] rfl ?_
    exact k
  · have k := zif h_ k
    refine z_aload_n dX1_goesOn_163 rfl rfl ?_
    refine z_iload_n dX1_goesOn_164 rfl rfl ?_
    refine Z.pick [] rfl ?_
    exact z_callV (as := [vi l2]) (st := []) dX1_goesOn_165 vsX1_770_0 (Nat.le_refl _) (Nat.le_of_ble_eq_true rfl) (Nat.le_of_ble_eq_true rfl) rfl k
theorem sX1_goesOn_168 {E : zE} {d : Nat} {Q : zO → zM → Prop} (M : zM)  (hw : cw M) (k : Z E YX1_goesOn (d + 1) M [] 450 [] Q) : Z E YX1_goesOn (d + 1) M [] 168 [] Q := by
  refine z_goto (tgt := 450) dX1_goesOn_168 rfl ?_
  exact k
theorem sX1_goesOn_191 {E : zE} {d : Nat} {Q : zO → zM → Prop} (M : zM) (l1 : Int32) (l2 : Int32) (u0 : Option zP) (hw : cw M) (k : if l1 = (23 : Int32) then (Z E YX1_mayBeFalse d M (zargs 0 [vr (some (16, 0, 0)), vr (some (71, 4, 0))]) 0 [] (zafter E YX1_goesOn (d + 1) [(0, vr (some (16, 0, 0))), (1, vi l1), (2, vi l2)] 203 3 [] Q)) else (Z E YX1_mayBeTrue d M (zargs 0 [vr (some (16, 0, 0)), vr (some (71, 4, 0))]) 0 [] (zafter E YX1_goesOn (d + 1) [(0, vr (some (16, 0, 0))), (1, vi l1), (2, vi l2)] 217 3 [] Q))) : Z E YX1_goesOn (d + 1) M [(0, vr (some (16, 0, 0))), (1, vi l1), (2, vi l2)] 191 [vr u0] Q := by
  refine z_pop dX1_goesOn_191 rfl ?_
  refine z_iload_n dX1_goesOn_192 rfl rfl ?_
  refine z_bipush (v := 23) dX1_goesOn_193 rfl ?_
  refine z_icmp_ne (tgt := 212) dX1_goesOn_195 rfl (fun h_ => ?_) (fun h_ => ?_)
  · have k := zif h_ k
    refine z_aload_n dX1_goesOn_212 rfl rfl ?_
    refine z_aload_n dX1_goesOn_213 rfl rfl ?_
    refine z_getr dX1_goesOn_214 fsX1_206_0 (show gr M 16 78 = some (71, 4, 0) from cw_at hw 39 rfl) ?_
    exact z_callV (as := [vr (some (71, 4, 0))]) (st := []) dX1_goesOn_217 vsX1_972_0 (Nat.le_refl _) (Nat.le_of_ble_eq_true rfl) (Nat.le_of_ble_eq_true rfl) rfl k
  · have k := zit h_ k
    refine z_aload_n dX1_goesOn_198 rfl rfl ?_
    refine z_aload_n dX1_goesOn_199 rfl rfl ?_
    refine z_getr dX1_goesOn_200 fsX1_206_0 (show gr M 16 78 = some (71, 4, 0) from cw_at hw 39 rfl) ?_
    exact z_callV (as := [vr (some (71, 4, 0))]) (st := []) dX1_goesOn_203 vsX1_976_0 (Nat.le_refl _) (Nat.le_of_ble_eq_true rfl) (Nat.le_of_ble_eq_true rfl) rfl k
theorem sX1_goesOn_206 {E : zE} {d : Nat} {Q : zO → zM → Prop} (M : zM) (l1 : Int32) (l2 : Int32) (s0 : Int32) (hw : cw M) (k : if s0 = 0 then (Z E YX1_goesOn (d + 1) M [(0, vr (some (16, 0, 0))), (1, vi l1)] 228 [] Q) else (Z E YX1_next d M (zargs 0 [vr (some (16, 0, 0)), vi l2]) 0 [] (zafter E YX1_goesOn (d + 1) [(0, vr (some (16, 0, 0))), (1, vi l1)] 225 3 [] Q))) : Z E YX1_goesOn (d + 1) M [(0, vr (some (16, 0, 0))), (1, vi l1), (2, vi l2)] 206 [vi s0] Q := by
  refine z_if_eq (tgt := 228) dX1_goesOn_206 rfl (fun h_ => ?_) (fun h_ => ?_)
  · have k := zit h_ k
    refine Z.pick [0, 1] rfl ?_
    exact k
  · have k := zif h_ k
    refine z_goto (tgt := 223) dX1_goesOn_209 rfl ?_
    refine z_aload_n dX1_goesOn_223 rfl rfl ?_
    refine z_iload_n dX1_goesOn_224 rfl rfl ?_
    refine Z.pick [0, 1] rfl ?_
    exact z_callV (as := [vi l2]) (st := []) dX1_goesOn_225 vsX1_770_0 (Nat.le_refl _) (Nat.le_of_ble_eq_true rfl) (Nat.le_of_ble_eq_true rfl) rfl k
theorem sX1_goesOn_220 {E : zE} {d : Nat} {Q : zO → zM → Prop} (M : zM) (l1 : Int32) (l2 : Int32) (s0 : Int32) (hw : cw M) (k : if s0 = 0 then (Z E YX1_goesOn (d + 1) M [(0, vr (some (16, 0, 0))), (1, vi l1)] 228 [] Q) else (Z E YX1_next d M (zargs 0 [vr (some (16, 0, 0)), vi l2]) 0 [] (zafter E YX1_goesOn (d + 1) [(0, vr (some (16, 0, 0))), (1, vi l1)] 225 3 [] Q))) : Z E YX1_goesOn (d + 1) M [(0, vr (some (16, 0, 0))), (1, vi l1), (2, vi l2)] 220 [vi s0] Q := by
  refine z_if_eq (tgt := 228) dX1_goesOn_220 rfl (fun h_ => ?_) (fun h_ => ?_)
  · have k := zit h_ k
    refine Z.pick [0, 1] rfl ?_
    exact k
  · have k := zif h_ k
    refine z_aload_n dX1_goesOn_223 rfl rfl ?_
    refine z_iload_n dX1_goesOn_224 rfl rfl ?_
    refine Z.pick [0, 1] rfl ?_
    exact z_callV (as := [vi l2]) (st := []) dX1_goesOn_225 vsX1_770_0 (Nat.le_refl _) (Nat.le_of_ble_eq_true rfl) (Nat.le_of_ble_eq_true rfl) rfl k
theorem sX1_goesOn_228 {E : zE} {d : Nat} {Q : zO → zM → Prop} (M : zM) (l1 : Int32) (hw : cw M) (k : ∃ b1 : Nat, (gr M 16 60) = some (b1, 7, 0) ∧ (16 ≤ b1 ∧ (if l1 = (23 : Int32) then (Z E YX1_mayBeTrue d (si M b1 13 ((gi M b1 13) - (1 : Int32))) (zargs 0 [vr (some (16, 0, 0)), vr (some (71, 4, 0))]) 0 [] (zafter E YX1_goesOn (d + 1) [(0, vr (some (16, 0, 0)))] 252 3 [] Q)) else (Z E YX1_mayBeFalse d (si M b1 13 ((gi M b1 13) - (1 : Int32))) (zargs 0 [vr (some (16, 0, 0)), vr (some (71, 4, 0))]) 0 [] (zafter E YX1_goesOn (d + 1) [(0, vr (some (16, 0, 0)))] 266 3 [] Q))))) : Z E YX1_goesOn (d + 1) M [(0, vr (some (16, 0, 0))), (1, vi l1)] 228 [] Q := by
  refine z_aload_n dX1_goesOn_228 rfl rfl ?_
  refine z_getr (r := (gr M 16 60)) dX1_goesOn_229 fsX1_684_0 rfl ?_
  refine z_dup dX1_goesOn_232 rfl ?_
  obtain ⟨b1, e1_, k⟩ := k
  refine Z.eqs (lv' := [(0, vr (some (16, 0, 0))), (1, vi l1)]) (st' := [vr (some (b1, 7, 0)), vr (some (b1, 7, 0))]) rfl (by rw [e1_] <;> rfl) ?_
  refine z_geti dX1_goesOn_233 fsX1_726_7 ?_
  refine z_iconst (v := 1) dX1_goesOn_236 rfl ?_
  refine z_isub dX1_goesOn_237 ?_
  obtain ⟨g_, k⟩ := k
  refine z_puti g_ dX1_goesOn_238 (zfwN.w fwX1_726_7) rfl ⟨rfl, rfl⟩ ?_
  refine z_iload_n dX1_goesOn_241 rfl rfl ?_
  refine z_bipush (v := 23) dX1_goesOn_242 rfl ?_
  refine z_icmp_ne (tgt := 261) dX1_goesOn_244 rfl (fun h_ => ?_) (fun h_ => ?_)
  · have k := zif h_ k
    refine z_aload_n dX1_goesOn_261 rfl rfl ?_
    refine z_aload_n dX1_goesOn_262 rfl rfl ?_
    refine z_getr dX1_goesOn_263 fsX1_206_0 (show gr M 16 78 = some (71, 4, 0) from cw_at hw 39 rfl) ?_
    refine Z.pick [0] rfl ?_
    exact z_callV (as := [vr (some (71, 4, 0))]) (st := []) dX1_goesOn_266 vsX1_976_0 (Nat.le_refl _) (Nat.le_of_ble_eq_true rfl) (Nat.le_of_ble_eq_true rfl) rfl k
  · have k := zit h_ k
    refine z_aload_n dX1_goesOn_247 rfl rfl ?_
    refine z_aload_n dX1_goesOn_248 rfl rfl ?_
    refine z_getr dX1_goesOn_249 fsX1_206_0 (show gr M 16 78 = some (71, 4, 0) from cw_at hw 39 rfl) ?_
    refine Z.pick [0] rfl ?_
    exact z_callV (as := [vr (some (71, 4, 0))]) (st := []) dX1_goesOn_252 vsX1_972_0 (Nat.le_refl _) (Nat.le_of_ble_eq_true rfl) (Nat.le_of_ble_eq_true rfl) rfl k
theorem sX1_goesOn_255 {E : zE} {d : Nat} {Q : zO → zM → Prop} (M : zM) (s0 : Int32) (hw : cw M) (k : if s0 = 0 then (Z E YX1_goesOn (d + 1) M [] 450 [] Q) else (Z E YX1_next d M (zargs 0 [vr (some (16, 0, 0)), vi ((gi M 16 76) + (1 : Int32))]) 0 [] (zafter E YX1_goesOn (d + 1) [] 279 3 [] Q))) : Z E YX1_goesOn (d + 1) M [(0, vr (some (16, 0, 0)))] 255 [vi s0] Q := by
  refine z_if_eq (tgt := 450) dX1_goesOn_255 rfl (fun h_ => ?_) (fun h_ => ?_)
  · have k := zit h_ k
    refine Z.pick [] rfl ?_
    exact k
  · have k := zif h_ k
    refine z_goto (tgt := 272) dX1_goesOn_258 rfl ?_
    refine z_aload_n dX1_goesOn_272 rfl rfl ?_
    refine z_aload_n dX1_goesOn_273 rfl rfl ?_
    refine z_geti dX1_goesOn_274 fsX1_713_0 ?_
    refine z_iconst (v := 1) dX1_goesOn_277 rfl ?_
    refine z_iadd dX1_goesOn_278 ?_
    refine Z.pick [] rfl ?_
    exact z_callV (as := [vi ((gi M 16 76) + (1 : Int32))]) (st := []) dX1_goesOn_279 vsX1_770_0 (Nat.le_refl _) (Nat.le_of_ble_eq_true rfl) (Nat.le_of_ble_eq_true rfl) rfl k
theorem sX1_goesOn_269 {E : zE} {d : Nat} {Q : zO → zM → Prop} (M : zM) (s0 : Int32) (hw : cw M) (k : if s0 = 0 then (Z E YX1_goesOn (d + 1) M [] 450 [] Q) else (Z E YX1_next d M (zargs 0 [vr (some (16, 0, 0)), vi ((gi M 16 76) + (1 : Int32))]) 0 [] (zafter E YX1_goesOn (d + 1) [] 279 3 [] Q))) : Z E YX1_goesOn (d + 1) M [(0, vr (some (16, 0, 0)))] 269 [vi s0] Q := by
  refine z_if_eq (tgt := 450) dX1_goesOn_269 rfl (fun h_ => ?_) (fun h_ => ?_)
  · have k := zit h_ k
    refine Z.pick [] rfl ?_
    exact k
  · have k := zif h_ k
    refine z_aload_n dX1_goesOn_272 rfl rfl ?_
    refine z_aload_n dX1_goesOn_273 rfl rfl ?_
    refine z_geti dX1_goesOn_274 fsX1_713_0 ?_
    refine z_iconst (v := 1) dX1_goesOn_277 rfl ?_
    refine z_iadd dX1_goesOn_278 ?_
    refine Z.pick [] rfl ?_
    exact z_callV (as := [vi ((gi M 16 76) + (1 : Int32))]) (st := []) dX1_goesOn_279 vsX1_770_0 (Nat.le_refl _) (Nat.le_of_ble_eq_true rfl) (Nat.le_of_ble_eq_true rfl) rfl k
theorem sX1_goesOn_282 {E : zE} {d : Nat} {Q : zO → zM → Prop} (M : zM)  (hw : cw M) (k : Z E YX1_goesOn (d + 1) M [] 450 [] Q) : Z E YX1_goesOn (d + 1) M [] 282 [] Q := by
  refine z_goto (tgt := 450) dX1_goesOn_282 rfl ?_
  exact k
theorem sX1_goesOn_296 {E : zE} {d : Nat} {Q : zO → zM → Prop} (M : zM) (u0 : Option zP) (hw : cw M) (k : ∃ b1 : Nat, (gr M 16 60) = some (b1, 7, 0) ∧ (16 ≤ b1 ∧ (∃ b2 : Nat, (gr M 16 60) = some (b2, 7, 0) ∧ (Z E YX43_push d (si M b1 13 (0 : Int32)) (zargs 0 [vr (some (b2, 7, 0)), vr (some (71, 4, 0))]) 0 [] (zafter E YX1_goesOn (d + 1) [(0, vr (some (16, 0, 0)))] 313 3 [] Q))))) : Z E YX1_goesOn (d + 1) M [(0, vr (some (16, 0, 0)))] 296 [vr u0] Q := by
  refine z_pop dX1_goesOn_296 rfl ?_
  refine z_aload_n dX1_goesOn_297 rfl rfl ?_
  refine z_getr (r := (gr M 16 60)) dX1_goesOn_298 fsX1_684_0 rfl ?_
  refine z_iconst (v := 0) dX1_goesOn_301 rfl ?_
  obtain ⟨b1, e1_, k⟩ := k
  refine Z.eqs (lv' := [(0, vr (some (16, 0, 0)))]) (st' := [vi (0 : Int32), vr (some (b1, 7, 0))]) rfl (by rw [e1_] <;> rfl) ?_
  obtain ⟨g_, k⟩ := k
  refine z_puti g_ dX1_goesOn_302 (zfwN.w fwX1_726_7) rfl ⟨rfl, rfl⟩ ?_
  refine z_aload_n dX1_goesOn_305 rfl rfl ?_
  refine z_getr (r := (gr M 16 60)) dX1_goesOn_306 fsX1_684_0 rfl ?_
  refine z_aload_n dX1_goesOn_309 rfl rfl ?_
  refine z_getr dX1_goesOn_310 fsX1_206_0 (show gr M 16 78 = some (71, 4, 0) from cw_at hw 39 rfl) ?_
  obtain ⟨b2, e2_, k⟩ := k
  refine Z.eqs (lv' := [(0, vr (some (16, 0, 0)))]) (st' := [vr (some (71, 4, 0)), vr (some (b2, 7, 0))]) rfl (by rw [e2_] <;> rfl) ?_
  exact z_callV (as := [vr (some (71, 4, 0))]) (st := []) dX1_goesOn_313 vsX1_767_7 (Nat.le_refl _) (Nat.le_of_ble_eq_true rfl) (Nat.le_of_ble_eq_true rfl) rfl k
theorem sX1_goesOn_316 {E : zE} {d : Nat} {Q : zO → zM → Prop} (M : zM)  (hw : cw M) (k : vp_in (gi M 16 76) 600 ∧ (Z E YX1_next d M (zargs 0 [vr (some (16, 0, 0)), vi ((gi M 16 75) + ((2 : Int32) * (gi M 35 ((gi M 16 76)).toNatClampNeg)))]) 0 [] (zafter E YX1_goesOn (d + 1) [] 336 3 [] Q))) : Z E YX1_goesOn (d + 1) M [(0, vr (some (16, 0, 0)))] 316 [] Q := by
  refine z_aload_n dX1_goesOn_316 rfl rfl ?_
  refine z_aload_n dX1_goesOn_317 rfl rfl ?_
  refine z_geti dX1_goesOn_318 fsX1_694_0 ?_
  refine z_iconst (v := 2) dX1_goesOn_321 rfl ?_
  refine z_aload_n dX1_goesOn_322 rfl rfl ?_
  refine z_getr dX1_goesOn_323 fsX1_89_0 (show gr M 16 9 = some (29, 3, 0) from cw_at hw 5 rfl) ?_
  refine z_getr dX1_goesOn_326 fsX1_343_3 (show gr M 29 5 = some (35, 101, 600) from cw_at hw 55 rfl) ?_
  refine z_aload_n dX1_goesOn_329 rfl rfl ?_
  refine z_geti dX1_goesOn_330 fsX1_713_0 ?_
  obtain ⟨b_, k⟩ := k
  refine z_bald dX1_goesOn_333 b_ ?_
  refine z_imul dX1_goesOn_334 ?_
  refine z_iadd dX1_goesOn_335 ?_
  refine Z.pick [] rfl ?_
  exact z_callV (as := [vi ((gi M 16 75) + ((2 : Int32) * (gi M 35 ((gi M 16 76)).toNatClampNeg)))]) (st := []) dX1_goesOn_336 vsX1_770_0 (Nat.le_refl _) (Nat.le_of_ble_eq_true rfl) (Nat.le_of_ble_eq_true rfl) rfl k
theorem sX1_goesOn_339 {E : zE} {d : Nat} {Q : zO → zM → Prop} (M : zM)  (hw : cw M) (k : Z E YX1_goesOn (d + 1) M [] 450 [] Q) : Z E YX1_goesOn (d + 1) M [] 339 [] Q := by
  refine z_goto (tgt := 450) dX1_goesOn_339 rfl ?_
  exact k
theorem sX1_goesOn_353 {E : zE} {d : Nat} {Q : zO → zM → Prop} (M : zM) (u0 : Option zP) (hw : cw M) (k : Z E YX1_throwsTo d M (zargs 0 [vr (some (16, 0, 0)), vr (gr M 16 60), vr (some (71, 4, 0))]) 0 [] (zafter E YX1_goesOn (d + 1) [] 363 3 [] Q)) : Z E YX1_goesOn (d + 1) M [(0, vr (some (16, 0, 0)))] 353 [vr u0] Q := by
  refine z_pop dX1_goesOn_353 rfl ?_
  refine z_aload_n dX1_goesOn_354 rfl rfl ?_
  refine z_aload_n dX1_goesOn_355 rfl rfl ?_
  refine z_getr (r := (gr M 16 60)) dX1_goesOn_356 fsX1_684_0 rfl ?_
  refine z_aload_n dX1_goesOn_359 rfl rfl ?_
  refine z_getr dX1_goesOn_360 fsX1_206_0 (show gr M 16 78 = some (71, 4, 0) from cw_at hw 39 rfl) ?_
  refine Z.pick [] rfl ?_
  exact z_callV (as := [vr (gr M 16 60), vr (some (71, 4, 0))]) (st := []) dX1_goesOn_363 vsX1_803_0 (Nat.le_refl _) (Nat.le_of_ble_eq_true rfl) (Nat.le_of_ble_eq_true rfl) rfl k
theorem sX1_goesOn_366 {E : zE} {d : Nat} {Q : zO → zM → Prop} (M : zM)  (hw : cw M) (k : Z E YX1_goesOn (d + 1) M [] 450 [] Q) : Z E YX1_goesOn (d + 1) M [] 366 [] Q := by
  refine z_goto (tgt := 450) dX1_goesOn_366 rfl ?_
  exact k
theorem sX1_goesOn_379 {E : zE} {d : Nat} {Q : zO → zM → Prop} (M : zM)  (hw : cw M) (k : Z E YX1_goesOn (d + 1) M [] 450 [] Q) : Z E YX1_goesOn (d + 1) M [] 379 [] Q := by
  refine z_goto (tgt := 450) dX1_goesOn_379 rfl ?_
  exact k
theorem sX1_goesOn_405 {E : zE} {d : Nat} {Q : zO → zM → Prop} (M : zM)  (hw : cw M) (k : Z E YX1_next d M (zargs 0 [vr (some (16, 0, 0)), vi ((gi M 16 76) + (1 : Int32))]) 0 [] (zafter E YX1_goesOn (d + 1) [] 412 3 [] Q)) : Z E YX1_goesOn (d + 1) M [(0, vr (some (16, 0, 0)))] 405 [] Q := by
  refine z_aload_n dX1_goesOn_405 rfl rfl ?_
  refine z_aload_n dX1_goesOn_406 rfl rfl ?_
  refine z_geti dX1_goesOn_407 fsX1_713_0 ?_
  refine z_iconst (v := 1) dX1_goesOn_410 rfl ?_
  refine z_iadd dX1_goesOn_411 ?_
  refine Z.pick [] rfl ?_
  exact z_callV (as := [vi ((gi M 16 76) + (1 : Int32))]) (st := []) dX1_goesOn_412 vsX1_770_0 (Nat.le_refl _) (Nat.le_of_ble_eq_true rfl) (Nat.le_of_ble_eq_true rfl) rfl k
theorem sX1_goesOn_415 {E : zE} {d : Nat} {Q : zO → zM → Prop} (M : zM)  (hw : cw M) (k : Z E YX1_goesOn (d + 1) M [] 450 [] Q) : Z E YX1_goesOn (d + 1) M [] 415 [] Q := by
  refine z_goto (tgt := 450) dX1_goesOn_415 rfl ?_
  exact k
theorem sX1_goesOn_429 {E : zE} {d : Nat} {Q : zO → zM → Prop} (M : zM) (l2 : Int32) (u0 : Option zP) (hw : cw M) (k : Z E YX1_nextWith d M (zargs 0 [vr (some (16, 0, 0)), vr u0]) 0 [] (zafter E YX1_goesOn (d + 1) [(0, vr (some (16, 0, 0))), (2, vi l2)] 429 3 [] Q)) : Z E YX1_goesOn (d + 1) M [(0, vr (some (16, 0, 0))), (2, vi l2)] 429 [vr u0, vr (some (16, 0, 0))] Q := by
  exact z_callV (as := [vr u0]) (st := []) dX1_goesOn_429 vsX1_895_0 (Nat.le_refl _) (Nat.le_of_ble_eq_true rfl) (Nat.le_of_ble_eq_true rfl) rfl k
theorem sX1_goesOn_432 {E : zE} {d : Nat} {Q : zO → zM → Prop} (M : zM) (l2 : Int32) (hw : cw M) (k : ∃ b1 : Nat, (gr M 16 60) = some (b1, 7, 0) ∧ (16 ≤ b1 ∧ (Z E YX1_next d (si M b1 13 ((gi M b1 13) - (1 : Int32))) (zargs 0 [vr (some (16, 0, 0)), vi l2]) 0 [] (zafter E YX1_goesOn (d + 1) [] 447 3 [] Q)))) : Z E YX1_goesOn (d + 1) M [(0, vr (some (16, 0, 0))), (2, vi l2)] 432 [] Q := by
  refine z_aload_n dX1_goesOn_432 rfl rfl ?_
  refine z_getr (r := (gr M 16 60)) dX1_goesOn_433 fsX1_684_0 rfl ?_
  refine z_dup dX1_goesOn_436 rfl ?_
  obtain ⟨b1, e1_, k⟩ := k
  refine Z.eqs (lv' := [(0, vr (some (16, 0, 0))), (2, vi l2)]) (st' := [vr (some (b1, 7, 0)), vr (some (b1, 7, 0))]) rfl (by rw [e1_] <;> rfl) ?_
  refine z_geti dX1_goesOn_437 fsX1_726_7 ?_
  refine z_iconst (v := 1) dX1_goesOn_440 rfl ?_
  refine z_isub dX1_goesOn_441 ?_
  obtain ⟨g_, k⟩ := k
  refine z_puti g_ dX1_goesOn_442 (zfwN.w fwX1_726_7) rfl ⟨rfl, rfl⟩ ?_
  refine z_aload_n dX1_goesOn_445 rfl rfl ?_
  refine z_iload_n dX1_goesOn_446 rfl rfl ?_
  refine Z.pick [] rfl ?_
  exact z_callV (as := [vi l2]) (st := []) dX1_goesOn_447 vsX1_770_0 (Nat.le_refl _) (Nat.le_of_ble_eq_true rfl) (Nat.le_of_ble_eq_true rfl) rfl k
theorem sX1_goesOn_450 {E : zE} {d : Nat} {Q : zO → zM → Prop} (M : zM)  (hw : cw M) (k : Q (.inl none) M) : Z E YX1_goesOn (d + 1) M [] 450 [] Q := by
  exact z_vret dX1_goesOn_450 rfl k
/-! ScriptTypes.callsOf(I)V -/
theorem bX1_callsOf_0 : zdec cX1_callsOf 0 [(0, .aload_n 0, 1), (1, .iload_n 1, 1), (2, .invokevirtual 1039, 3), (5, .aload_n 0, 1), (6, .getfield 684, 3), (9, .dup, 1), (10, .getfield 726, 3), (13, .iload_n 1, 1), (14, .isub, 1), (15, .putfield 726, 3), (18, .aload_n 0, 1), (19, .getfield 684, 3), (22, .aload_n 0, 1), (23, .getfield 222, 3), (26, .invokevirtual 937, 3), (29, .pop, 1)] = true := by decide +kernel
theorem dX1_callsOf_0 : decode cX1_callsOf 0 = .ok (.aload_n 0, 1) := zdec_at bX1_callsOf_0 0 rfl
theorem dX1_callsOf_1 : decode cX1_callsOf 1 = .ok (.iload_n 1, 1) := zdec_at bX1_callsOf_0 1 rfl
theorem dX1_callsOf_2 : decode cX1_callsOf 2 = .ok (.invokevirtual 1039, 3) := zdec_at bX1_callsOf_0 2 rfl
theorem dX1_callsOf_5 : decode cX1_callsOf 5 = .ok (.aload_n 0, 1) := zdec_at bX1_callsOf_0 3 rfl
theorem dX1_callsOf_6 : decode cX1_callsOf 6 = .ok (.getfield 684, 3) := zdec_at bX1_callsOf_0 4 rfl
theorem dX1_callsOf_9 : decode cX1_callsOf 9 = .ok (.dup, 1) := zdec_at bX1_callsOf_0 5 rfl
theorem dX1_callsOf_10 : decode cX1_callsOf 10 = .ok (.getfield 726, 3) := zdec_at bX1_callsOf_0 6 rfl
theorem dX1_callsOf_13 : decode cX1_callsOf 13 = .ok (.iload_n 1, 1) := zdec_at bX1_callsOf_0 7 rfl
theorem dX1_callsOf_14 : decode cX1_callsOf 14 = .ok (.isub, 1) := zdec_at bX1_callsOf_0 8 rfl
theorem dX1_callsOf_15 : decode cX1_callsOf 15 = .ok (.putfield 726, 3) := zdec_at bX1_callsOf_0 9 rfl
theorem dX1_callsOf_18 : decode cX1_callsOf 18 = .ok (.aload_n 0, 1) := zdec_at bX1_callsOf_0 10 rfl
theorem dX1_callsOf_19 : decode cX1_callsOf 19 = .ok (.getfield 684, 3) := zdec_at bX1_callsOf_0 11 rfl
theorem dX1_callsOf_22 : decode cX1_callsOf 22 = .ok (.aload_n 0, 1) := zdec_at bX1_callsOf_0 12 rfl
theorem dX1_callsOf_23 : decode cX1_callsOf 23 = .ok (.getfield 222, 3) := zdec_at bX1_callsOf_0 13 rfl
theorem dX1_callsOf_26 : decode cX1_callsOf 26 = .ok (.invokevirtual 937, 3) := zdec_at bX1_callsOf_0 14 rfl
theorem dX1_callsOf_29 : decode cX1_callsOf 29 = .ok (.pop, 1) := zdec_at bX1_callsOf_0 15 rfl
theorem bX1_callsOf_30 : zdec cX1_callsOf 30 [(30, .aload_n 0, 1), (31, .getfield 684, 3), (34, .aload_n 0, 1), (35, .getfield 225, 3), (38, .invokevirtual 937, 3), (41, .pop, 1), (42, .aload_n 0, 1), (43, .aload_n 0, 1), (44, .getfield 684, 3), (47, .getfield 726, 3), (50, .putfield 1042, 3), (53, .iconst 0, 1), (54, .istore_n 2, 1), (55, .iload_n 1, 1), (56, .istore_n 3, 1), (57, .aload_n 0, 1)] = true := by decide +kernel
theorem dX1_callsOf_30 : decode cX1_callsOf 30 = .ok (.aload_n 0, 1) := zdec_at bX1_callsOf_30 0 rfl
theorem dX1_callsOf_31 : decode cX1_callsOf 31 = .ok (.getfield 684, 3) := zdec_at bX1_callsOf_30 1 rfl
theorem dX1_callsOf_34 : decode cX1_callsOf 34 = .ok (.aload_n 0, 1) := zdec_at bX1_callsOf_30 2 rfl
theorem dX1_callsOf_35 : decode cX1_callsOf 35 = .ok (.getfield 225, 3) := zdec_at bX1_callsOf_30 3 rfl
theorem dX1_callsOf_38 : decode cX1_callsOf 38 = .ok (.invokevirtual 937, 3) := zdec_at bX1_callsOf_30 4 rfl
theorem dX1_callsOf_41 : decode cX1_callsOf 41 = .ok (.pop, 1) := zdec_at bX1_callsOf_30 5 rfl
theorem dX1_callsOf_42 : decode cX1_callsOf 42 = .ok (.aload_n 0, 1) := zdec_at bX1_callsOf_30 6 rfl
theorem dX1_callsOf_43 : decode cX1_callsOf 43 = .ok (.aload_n 0, 1) := zdec_at bX1_callsOf_30 7 rfl
theorem dX1_callsOf_44 : decode cX1_callsOf 44 = .ok (.getfield 684, 3) := zdec_at bX1_callsOf_30 8 rfl
theorem dX1_callsOf_47 : decode cX1_callsOf 47 = .ok (.getfield 726, 3) := zdec_at bX1_callsOf_30 9 rfl
theorem dX1_callsOf_50 : decode cX1_callsOf 50 = .ok (.putfield 1042, 3) := zdec_at bX1_callsOf_30 10 rfl
theorem dX1_callsOf_53 : decode cX1_callsOf 53 = .ok (.iconst 0, 1) := zdec_at bX1_callsOf_30 11 rfl
theorem dX1_callsOf_54 : decode cX1_callsOf 54 = .ok (.istore_n 2, 1) := zdec_at bX1_callsOf_30 12 rfl
theorem dX1_callsOf_55 : decode cX1_callsOf 55 = .ok (.iload_n 1, 1) := zdec_at bX1_callsOf_30 13 rfl
theorem dX1_callsOf_56 : decode cX1_callsOf 56 = .ok (.istore_n 3, 1) := zdec_at bX1_callsOf_30 14 rfl
theorem dX1_callsOf_57 : decode cX1_callsOf 57 = .ok (.aload_n 0, 1) := zdec_at bX1_callsOf_30 15 rfl
theorem bX1_callsOf_58 : zdec cX1_callsOf 58 [(58, .getfield 222, 3), (61, .invokestatic 996, 3), (64, .aload_n 0, 1), (65, .getfield 658, 3), (68, .lor, 1), (69, .aload_n 0, 1), (70, .getfield 661, 3), (73, .invokevirtual 1028, 3), (76, .ifCond .ne 12, 3), (79, .aload_n 0, 1), (80, .aload_n 0, 1), (81, .getfield 684, 3), (84, .iconst 0, 1), (85, .invokevirtual 960, 3), (88, .bipush 9, 2), (90, .istore 4, 2)] = true := by decide +kernel
theorem dX1_callsOf_58 : decode cX1_callsOf 58 = .ok (.getfield 222, 3) := zdec_at bX1_callsOf_58 0 rfl
theorem dX1_callsOf_61 : decode cX1_callsOf 61 = .ok (.invokestatic 996, 3) := zdec_at bX1_callsOf_58 1 rfl
theorem dX1_callsOf_64 : decode cX1_callsOf 64 = .ok (.aload_n 0, 1) := zdec_at bX1_callsOf_58 2 rfl
theorem dX1_callsOf_65 : decode cX1_callsOf 65 = .ok (.getfield 658, 3) := zdec_at bX1_callsOf_58 3 rfl
theorem dX1_callsOf_68 : decode cX1_callsOf 68 = .ok (.lor, 1) := zdec_at bX1_callsOf_58 4 rfl
theorem dX1_callsOf_69 : decode cX1_callsOf 69 = .ok (.aload_n 0, 1) := zdec_at bX1_callsOf_58 5 rfl
theorem dX1_callsOf_70 : decode cX1_callsOf 70 = .ok (.getfield 661, 3) := zdec_at bX1_callsOf_58 6 rfl
theorem dX1_callsOf_73 : decode cX1_callsOf 73 = .ok (.invokevirtual 1028, 3) := zdec_at bX1_callsOf_58 7 rfl
theorem dX1_callsOf_76 : decode cX1_callsOf 76 = .ok (.ifCond .ne 12, 3) := zdec_at bX1_callsOf_58 8 rfl
theorem dX1_callsOf_79 : decode cX1_callsOf 79 = .ok (.aload_n 0, 1) := zdec_at bX1_callsOf_58 9 rfl
theorem dX1_callsOf_80 : decode cX1_callsOf 80 = .ok (.aload_n 0, 1) := zdec_at bX1_callsOf_58 10 rfl
theorem dX1_callsOf_81 : decode cX1_callsOf 81 = .ok (.getfield 684, 3) := zdec_at bX1_callsOf_58 11 rfl
theorem dX1_callsOf_84 : decode cX1_callsOf 84 = .ok (.iconst 0, 1) := zdec_at bX1_callsOf_58 12 rfl
theorem dX1_callsOf_85 : decode cX1_callsOf 85 = .ok (.invokevirtual 960, 3) := zdec_at bX1_callsOf_58 13 rfl
theorem dX1_callsOf_88 : decode cX1_callsOf 88 = .ok (.bipush 9, 2) := zdec_at bX1_callsOf_58 14 rfl
theorem dX1_callsOf_90 : decode cX1_callsOf 90 = .ok (.istore 4, 2) := zdec_at bX1_callsOf_58 15 rfl
theorem bX1_callsOf_92 : zdec cX1_callsOf 92 [(92, .iload 4, 2), (94, .bipush 23, 2), (96, .if_icmp .ge 46, 3), (99, .iload 4, 2), (101, .bipush 20, 2), (103, .if_icmp .eq 33, 3), (106, .iload 4, 2), (108, .aload_n 0, 1), (109, .getfield 222, 3), (112, .getfield 916, 3), (115, .aload_n 0, 1), (116, .getfield 222, 3), (119, .getfield 918, 3), (122, .invokestatic 827, 3), (125, .ifCond .eq 11, 3), (128, .aload_n 0, 1)] = true := by decide +kernel
theorem dX1_callsOf_92 : decode cX1_callsOf 92 = .ok (.iload 4, 2) := zdec_at bX1_callsOf_92 0 rfl
theorem dX1_callsOf_94 : decode cX1_callsOf 94 = .ok (.bipush 23, 2) := zdec_at bX1_callsOf_92 1 rfl
theorem dX1_callsOf_96 : decode cX1_callsOf 96 = .ok (.if_icmp .ge 46, 3) := zdec_at bX1_callsOf_92 2 rfl
theorem dX1_callsOf_99 : decode cX1_callsOf 99 = .ok (.iload 4, 2) := zdec_at bX1_callsOf_92 3 rfl
theorem dX1_callsOf_101 : decode cX1_callsOf 101 = .ok (.bipush 20, 2) := zdec_at bX1_callsOf_92 4 rfl
theorem dX1_callsOf_103 : decode cX1_callsOf 103 = .ok (.if_icmp .eq 33, 3) := zdec_at bX1_callsOf_92 5 rfl
theorem dX1_callsOf_106 : decode cX1_callsOf 106 = .ok (.iload 4, 2) := zdec_at bX1_callsOf_92 6 rfl
theorem dX1_callsOf_108 : decode cX1_callsOf 108 = .ok (.aload_n 0, 1) := zdec_at bX1_callsOf_92 7 rfl
theorem dX1_callsOf_109 : decode cX1_callsOf 109 = .ok (.getfield 222, 3) := zdec_at bX1_callsOf_92 8 rfl
theorem dX1_callsOf_112 : decode cX1_callsOf 112 = .ok (.getfield 916, 3) := zdec_at bX1_callsOf_92 9 rfl
theorem dX1_callsOf_115 : decode cX1_callsOf 115 = .ok (.aload_n 0, 1) := zdec_at bX1_callsOf_92 10 rfl
theorem dX1_callsOf_116 : decode cX1_callsOf 116 = .ok (.getfield 222, 3) := zdec_at bX1_callsOf_92 11 rfl
theorem dX1_callsOf_119 : decode cX1_callsOf 119 = .ok (.getfield 918, 3) := zdec_at bX1_callsOf_92 12 rfl
theorem dX1_callsOf_122 : decode cX1_callsOf 122 = .ok (.invokestatic 827, 3) := zdec_at bX1_callsOf_92 13 rfl
theorem dX1_callsOf_125 : decode cX1_callsOf 125 = .ok (.ifCond .eq 11, 3) := zdec_at bX1_callsOf_92 14 rfl
theorem dX1_callsOf_128 : decode cX1_callsOf 128 = .ok (.aload_n 0, 1) := zdec_at bX1_callsOf_92 15 rfl
theorem bX1_callsOf_129 : zdec cX1_callsOf 129 [(129, .iload 4, 2), (131, .iload_n 2, 1), (132, .iload_n 3, 1), (133, .invokevirtual 1045, 3), (136, .iinc 4 1, 3), (139, .goto (-47), 3), (142, .iconst 1, 1), (143, .istore 4, 2), (145, .iload 4, 2), (147, .aload_n 0, 1), (148, .getfield 82, 3), (151, .invokevirtual 291, 3), (154, .if_icmp .ge 27, 3), (157, .aload_n 0, 1), (158, .iload 4, 2), (160, .invokevirtual 1048, 3)] = true := by decide +kernel
theorem dX1_callsOf_129 : decode cX1_callsOf 129 = .ok (.iload 4, 2) := zdec_at bX1_callsOf_129 0 rfl
theorem dX1_callsOf_131 : decode cX1_callsOf 131 = .ok (.iload_n 2, 1) := zdec_at bX1_callsOf_129 1 rfl
theorem dX1_callsOf_132 : decode cX1_callsOf 132 = .ok (.iload_n 3, 1) := zdec_at bX1_callsOf_129 2 rfl
theorem dX1_callsOf_133 : decode cX1_callsOf 133 = .ok (.invokevirtual 1045, 3) := zdec_at bX1_callsOf_129 3 rfl
theorem dX1_callsOf_136 : decode cX1_callsOf 136 = .ok (.iinc 4 1, 3) := zdec_at bX1_callsOf_129 4 rfl
theorem dX1_callsOf_139 : decode cX1_callsOf 139 = .ok (.goto (-47), 3) := zdec_at bX1_callsOf_129 5 rfl
theorem dX1_callsOf_142 : decode cX1_callsOf 142 = .ok (.iconst 1, 1) := zdec_at bX1_callsOf_129 6 rfl
theorem dX1_callsOf_143 : decode cX1_callsOf 143 = .ok (.istore 4, 2) := zdec_at bX1_callsOf_129 7 rfl
theorem dX1_callsOf_145 : decode cX1_callsOf 145 = .ok (.iload 4, 2) := zdec_at bX1_callsOf_129 8 rfl
theorem dX1_callsOf_147 : decode cX1_callsOf 147 = .ok (.aload_n 0, 1) := zdec_at bX1_callsOf_129 9 rfl
theorem dX1_callsOf_148 : decode cX1_callsOf 148 = .ok (.getfield 82, 3) := zdec_at bX1_callsOf_129 10 rfl
theorem dX1_callsOf_151 : decode cX1_callsOf 151 = .ok (.invokevirtual 291, 3) := zdec_at bX1_callsOf_129 11 rfl
theorem dX1_callsOf_154 : decode cX1_callsOf 154 = .ok (.if_icmp .ge 27, 3) := zdec_at bX1_callsOf_129 12 rfl
theorem dX1_callsOf_157 : decode cX1_callsOf 157 = .ok (.aload_n 0, 1) := zdec_at bX1_callsOf_129 13 rfl
theorem dX1_callsOf_158 : decode cX1_callsOf 158 = .ok (.iload 4, 2) := zdec_at bX1_callsOf_129 14 rfl
theorem dX1_callsOf_160 : decode cX1_callsOf 160 = .ok (.invokevirtual 1048, 3) := zdec_at bX1_callsOf_129 15 rfl
theorem bX1_callsOf_163 : zdec cX1_callsOf 163 [(163, .ifCond .eq 12, 3), (166, .aload_n 0, 1), (167, .iload 4, 2), (169, .iload_n 2, 1), (170, .iload_n 3, 1), (171, .iconst (-1), 1), (172, .invokevirtual 1051, 3), (175, .iinc 4 1, 3), (178, .goto (-33), 3), (181, .bipush 20, 2), (183, .aload_n 0, 1), (184, .getfield 222, 3), (187, .getfield 916, 3), (190, .aload_n 0, 1), (191, .getfield 222, 3), (194, .getfield 918, 3)] = true := by decide +kernel
theorem dX1_callsOf_163 : decode cX1_callsOf 163 = .ok (.ifCond .eq 12, 3) := zdec_at bX1_callsOf_163 0 rfl
theorem dX1_callsOf_166 : decode cX1_callsOf 166 = .ok (.aload_n 0, 1) := zdec_at bX1_callsOf_163 1 rfl
theorem dX1_callsOf_167 : decode cX1_callsOf 167 = .ok (.iload 4, 2) := zdec_at bX1_callsOf_163 2 rfl
theorem dX1_callsOf_169 : decode cX1_callsOf 169 = .ok (.iload_n 2, 1) := zdec_at bX1_callsOf_163 3 rfl
theorem dX1_callsOf_170 : decode cX1_callsOf 170 = .ok (.iload_n 3, 1) := zdec_at bX1_callsOf_163 4 rfl
theorem dX1_callsOf_171 : decode cX1_callsOf 171 = .ok (.iconst (-1), 1) := zdec_at bX1_callsOf_163 5 rfl
theorem dX1_callsOf_172 : decode cX1_callsOf 172 = .ok (.invokevirtual 1051, 3) := zdec_at bX1_callsOf_163 6 rfl
theorem dX1_callsOf_175 : decode cX1_callsOf 175 = .ok (.iinc 4 1, 3) := zdec_at bX1_callsOf_163 7 rfl
theorem dX1_callsOf_178 : decode cX1_callsOf 178 = .ok (.goto (-33), 3) := zdec_at bX1_callsOf_163 8 rfl
theorem dX1_callsOf_181 : decode cX1_callsOf 181 = .ok (.bipush 20, 2) := zdec_at bX1_callsOf_163 9 rfl
theorem dX1_callsOf_183 : decode cX1_callsOf 183 = .ok (.aload_n 0, 1) := zdec_at bX1_callsOf_163 10 rfl
theorem dX1_callsOf_184 : decode cX1_callsOf 184 = .ok (.getfield 222, 3) := zdec_at bX1_callsOf_163 11 rfl
theorem dX1_callsOf_187 : decode cX1_callsOf 187 = .ok (.getfield 916, 3) := zdec_at bX1_callsOf_163 12 rfl
theorem dX1_callsOf_190 : decode cX1_callsOf 190 = .ok (.aload_n 0, 1) := zdec_at bX1_callsOf_163 13 rfl
theorem dX1_callsOf_191 : decode cX1_callsOf 191 = .ok (.getfield 222, 3) := zdec_at bX1_callsOf_163 14 rfl
theorem dX1_callsOf_194 : decode cX1_callsOf 194 = .ok (.getfield 918, 3) := zdec_at bX1_callsOf_163 15 rfl
theorem bX1_callsOf_197 : zdec cX1_callsOf 197 [(197, .invokestatic 827, 3), (200, .ifCond .ne 4, 3), (203, .return_, 1), (204, .aload_n 0, 1), (205, .getfield 222, 3), (208, .aload_n 0, 1), (209, .getfield 225, 3), (212, .invokevirtual 1054, 3), (215, .pop, 1), (216, .iload_n 3, 1), (217, .ifCond .le 20, 3), (220, .aload_n 0, 1), (221, .getfield 225, 3), (224, .aload_n 0, 1), (225, .getfield 228, 3), (228, .iload_n 2, 1)] = true := by decide +kernel
theorem dX1_callsOf_197 : decode cX1_callsOf 197 = .ok (.invokestatic 827, 3) := zdec_at bX1_callsOf_197 0 rfl
theorem dX1_callsOf_200 : decode cX1_callsOf 200 = .ok (.ifCond .ne 4, 3) := zdec_at bX1_callsOf_197 1 rfl
theorem dX1_callsOf_203 : decode cX1_callsOf 203 = .ok (.return_, 1) := zdec_at bX1_callsOf_197 2 rfl
theorem dX1_callsOf_204 : decode cX1_callsOf 204 = .ok (.aload_n 0, 1) := zdec_at bX1_callsOf_197 3 rfl
theorem dX1_callsOf_205 : decode cX1_callsOf 205 = .ok (.getfield 222, 3) := zdec_at bX1_callsOf_197 4 rfl
theorem dX1_callsOf_208 : decode cX1_callsOf 208 = .ok (.aload_n 0, 1) := zdec_at bX1_callsOf_197 5 rfl
theorem dX1_callsOf_209 : decode cX1_callsOf 209 = .ok (.getfield 225, 3) := zdec_at bX1_callsOf_197 6 rfl
theorem dX1_callsOf_212 : decode cX1_callsOf 212 = .ok (.invokevirtual 1054, 3) := zdec_at bX1_callsOf_197 7 rfl
theorem dX1_callsOf_215 : decode cX1_callsOf 215 = .ok (.pop, 1) := zdec_at bX1_callsOf_197 8 rfl
theorem dX1_callsOf_216 : decode cX1_callsOf 216 = .ok (.iload_n 3, 1) := zdec_at bX1_callsOf_197 9 rfl
theorem dX1_callsOf_217 : decode cX1_callsOf 217 = .ok (.ifCond .le 20, 3) := zdec_at bX1_callsOf_197 10 rfl
theorem dX1_callsOf_220 : decode cX1_callsOf 220 = .ok (.aload_n 0, 1) := zdec_at bX1_callsOf_197 11 rfl
theorem dX1_callsOf_221 : decode cX1_callsOf 221 = .ok (.getfield 225, 3) := zdec_at bX1_callsOf_197 12 rfl
theorem dX1_callsOf_224 : decode cX1_callsOf 224 = .ok (.aload_n 0, 1) := zdec_at bX1_callsOf_197 13 rfl
theorem dX1_callsOf_225 : decode cX1_callsOf 225 = .ok (.getfield 228, 3) := zdec_at bX1_callsOf_197 14 rfl
theorem dX1_callsOf_228 : decode cX1_callsOf 228 = .ok (.iload_n 2, 1) := zdec_at bX1_callsOf_197 15 rfl
theorem bX1_callsOf_229 : zdec cX1_callsOf 229 [(229, .aaload, 1), (230, .invokevirtual 1054, 3), (233, .pop, 1), (234, .goto 12, 3), (237, .aload_n 0, 1), (238, .getfield 225, 3), (241, .lconst 1, 1), (242, .invokevirtual 892, 3), (245, .pop, 1), (246, .iinc 2 1, 3), (249, .iconst 0, 1), (250, .iload_n 3, 1), (251, .iconst 1, 1), (252, .isub, 1), (253, .invokestatic 561, 3), (256, .istore_n 3, 1)] = true := by decide +kernel
theorem dX1_callsOf_229 : decode cX1_callsOf 229 = .ok (.aaload, 1) := zdec_at bX1_callsOf_229 0 rfl
theorem dX1_callsOf_230 : decode cX1_callsOf 230 = .ok (.invokevirtual 1054, 3) := zdec_at bX1_callsOf_229 1 rfl
theorem dX1_callsOf_233 : decode cX1_callsOf 233 = .ok (.pop, 1) := zdec_at bX1_callsOf_229 2 rfl
theorem dX1_callsOf_234 : decode cX1_callsOf 234 = .ok (.goto 12, 3) := zdec_at bX1_callsOf_229 3 rfl
theorem dX1_callsOf_237 : decode cX1_callsOf 237 = .ok (.aload_n 0, 1) := zdec_at bX1_callsOf_229 4 rfl
theorem dX1_callsOf_238 : decode cX1_callsOf 238 = .ok (.getfield 225, 3) := zdec_at bX1_callsOf_229 5 rfl
theorem dX1_callsOf_241 : decode cX1_callsOf 241 = .ok (.lconst 1, 1) := zdec_at bX1_callsOf_229 6 rfl
theorem dX1_callsOf_242 : decode cX1_callsOf 242 = .ok (.invokevirtual 892, 3) := zdec_at bX1_callsOf_229 7 rfl
theorem dX1_callsOf_245 : decode cX1_callsOf 245 = .ok (.pop, 1) := zdec_at bX1_callsOf_229 8 rfl
theorem dX1_callsOf_246 : decode cX1_callsOf 246 = .ok (.iinc 2 1, 3) := zdec_at bX1_callsOf_229 9 rfl
theorem dX1_callsOf_249 : decode cX1_callsOf 249 = .ok (.iconst 0, 1) := zdec_at bX1_callsOf_229 10 rfl
theorem dX1_callsOf_250 : decode cX1_callsOf 250 = .ok (.iload_n 3, 1) := zdec_at bX1_callsOf_229 11 rfl
theorem dX1_callsOf_251 : decode cX1_callsOf 251 = .ok (.iconst 1, 1) := zdec_at bX1_callsOf_229 12 rfl
theorem dX1_callsOf_252 : decode cX1_callsOf 252 = .ok (.isub, 1) := zdec_at bX1_callsOf_229 13 rfl
theorem dX1_callsOf_253 : decode cX1_callsOf 253 = .ok (.invokestatic 561, 3) := zdec_at bX1_callsOf_229 14 rfl
theorem dX1_callsOf_256 : decode cX1_callsOf 256 = .ok (.istore_n 3, 1) := zdec_at bX1_callsOf_229 15 rfl
theorem bX1_callsOf_257 : zdec cX1_callsOf 257 [(257, .goto (-200), 3)] = true := by decide +kernel
theorem dX1_callsOf_257 : decode cX1_callsOf 257 = .ok (.goto (-200), 3) := zdec_at bX1_callsOf_257 0 rfl
theorem sX1_callsOf_0 {E : zE} {d : Nat} {Q : zO → zM → Prop} (M : zM) (l1 : Int32) (hw : cw M) (k : Z E YX1_takesArguments d M (zargs 0 [vr (some (16, 0, 0)), vi l1]) 0 [] (zafter E YX1_callsOf (d + 1) [(0, vr (some (16, 0, 0))), (1, vi l1)] 2 3 [] Q)) : Z E YX1_callsOf (d + 1) M [(0, vr (some (16, 0, 0))), (1, vi l1)] 0 [] Q := by
  refine z_aload_n dX1_callsOf_0 rfl rfl ?_
  refine z_iload_n dX1_callsOf_1 rfl rfl ?_
  exact z_callV (as := [vi l1]) (st := []) dX1_callsOf_2 vsX1_1039_0 (Nat.le_refl _) (Nat.le_of_ble_eq_true rfl) (Nat.le_of_ble_eq_true rfl) rfl k
theorem sX1_callsOf_5 {E : zE} {d : Nat} {Q : zO → zM → Prop} (M : zM) (l1 : Int32) (hw : cw M) (k : ∃ b1 : Nat, (gr M 16 60) = some (b1, 7, 0) ∧ (16 ≤ b1 ∧ (∃ b2 : Nat, (gr M 16 60) = some (b2, 7, 0) ∧ (Z E YX43_pop d (si M b1 13 ((gi M b1 13) - l1)) (zargs 0 [vr (some (b2, 7, 0)), vr (some (76, 4, 0))]) 0 [] (zafter E YX1_callsOf (d + 1) [(0, vr (some (16, 0, 0))), (1, vi l1)] 26 3 [] Q))))) : Z E YX1_callsOf (d + 1) M [(0, vr (some (16, 0, 0))), (1, vi l1)] 5 [] Q := by
  refine z_aload_n dX1_callsOf_5 rfl rfl ?_
  refine z_getr (r := (gr M 16 60)) dX1_callsOf_6 fsX1_684_0 rfl ?_
  refine z_dup dX1_callsOf_9 rfl ?_
  obtain ⟨b1, e1_, k⟩ := k
  refine Z.eqs (lv' := [(0, vr (some (16, 0, 0))), (1, vi l1)]) (st' := [vr (some (b1, 7, 0)), vr (some (b1, 7, 0))]) rfl (by rw [e1_] <;> rfl) ?_
  refine z_geti dX1_callsOf_10 fsX1_726_7 ?_
  refine z_iload_n dX1_callsOf_13 rfl rfl ?_
  refine z_isub dX1_callsOf_14 ?_
  obtain ⟨g_, k⟩ := k
  refine z_puti g_ dX1_callsOf_15 (zfwN.w fwX1_726_7) rfl ⟨rfl, rfl⟩ ?_
  refine z_aload_n dX1_callsOf_18 rfl rfl ?_
  refine z_getr (r := (gr M 16 60)) dX1_callsOf_19 fsX1_684_0 rfl ?_
  refine z_aload_n dX1_callsOf_22 rfl rfl ?_
  refine z_getr dX1_callsOf_23 fsX1_222_0 (show gr M 16 83 = some (76, 4, 0) from cw_at hw 44 rfl) ?_
  obtain ⟨b2, e2_, k⟩ := k
  refine Z.eqs (lv' := [(0, vr (some (16, 0, 0))), (1, vi l1)]) (st' := [vr (some (76, 4, 0)), vr (some (b2, 7, 0))]) rfl (by rw [e2_] <;> rfl) ?_
  exact z_callV (as := [vr (some (76, 4, 0))]) (st := []) dX1_callsOf_26 vsX1_937_7 (Nat.le_refl _) (Nat.le_of_ble_eq_true rfl) (Nat.le_of_ble_eq_true rfl) rfl k
theorem sX1_callsOf_29 {E : zE} {d : Nat} {Q : zO → zM → Prop} (M : zM) (l1 : Int32) (u0 : Option zP) (hw : cw M) (k : ∃ b1 : Nat, (gr M 16 60) = some (b1, 7, 0) ∧ (Z E YX43_pop d M (zargs 0 [vr (some (b1, 7, 0)), vr (some (77, 4, 0))]) 0 [] (zafter E YX1_callsOf (d + 1) [(0, vr (some (16, 0, 0))), (1, vi l1)] 38 3 [] Q))) : Z E YX1_callsOf (d + 1) M [(0, vr (some (16, 0, 0))), (1, vi l1)] 29 [vr u0] Q := by
  refine z_pop dX1_callsOf_29 rfl ?_
  refine z_aload_n dX1_callsOf_30 rfl rfl ?_
  refine z_getr (r := (gr M 16 60)) dX1_callsOf_31 fsX1_684_0 rfl ?_
  refine z_aload_n dX1_callsOf_34 rfl rfl ?_
  refine z_getr dX1_callsOf_35 fsX1_225_0 (show gr M 16 84 = some (77, 4, 0) from cw_at hw 45 rfl) ?_
  obtain ⟨b1, e1_, k⟩ := k
  refine Z.eqs (lv' := [(0, vr (some (16, 0, 0))), (1, vi l1)]) (st' := [vr (some (77, 4, 0)), vr (some (b1, 7, 0))]) rfl (by rw [e1_] <;> rfl) ?_
  exact z_callV (as := [vr (some (77, 4, 0))]) (st := []) dX1_callsOf_38 vsX1_937_7 (Nat.le_refl _) (Nat.le_of_ble_eq_true rfl) (Nat.le_of_ble_eq_true rfl) rfl k
theorem sX1_callsOf_41 {E : zE} {d : Nat} {Q : zO → zM → Prop} (M : zM) (l1 : Int32) (u0 : Option zP) (hw : cw M) (k : ∃ b1 : Nat, (gr M 16 60) = some (b1, 7, 0) ∧ (Z E YX1_callsOf (d + 1) (si M 16 95 (gi M b1 13)) [(0, vr (some (16, 0, 0))), (2, vi (0 : Int32)), (3, vi l1)] 57 [] Q)) : Z E YX1_callsOf (d + 1) M [(0, vr (some (16, 0, 0))), (1, vi l1)] 41 [vr u0] Q := by
  refine z_pop dX1_callsOf_41 rfl ?_
  refine z_aload_n dX1_callsOf_42 rfl rfl ?_
  refine z_aload_n dX1_callsOf_43 rfl rfl ?_
  refine z_getr (r := (gr M 16 60)) dX1_callsOf_44 fsX1_684_0 rfl ?_
  obtain ⟨b1, e1_, k⟩ := k
  refine Z.eqs (lv' := [(0, vr (some (16, 0, 0))), (1, vi l1)]) (st' := [vr (some (b1, 7, 0)), vr (some (16, 0, 0))]) rfl (by rw [e1_] <;> rfl) ?_
  refine z_geti dX1_callsOf_47 fsX1_726_7 ?_
  refine z_puti (by decide) dX1_callsOf_50 (zfwN.w fwX1_1042_0) rfl ⟨rfl, rfl⟩ ?_
  refine z_iconst (v := 0) dX1_callsOf_53 rfl ?_
  refine z_ist_n dX1_callsOf_54 rfl (by decide) (lv' := [(0, vr (some (16, 0, 0))), (1, vi l1), (2, vi (0 : Int32))]) rfl ?_
  refine z_iload_n dX1_callsOf_55 rfl rfl ?_
  refine z_ist_n dX1_callsOf_56 rfl (by decide) (lv' := [(0, vr (some (16, 0, 0))), (1, vi l1), (2, vi (0 : Int32)), (3, vi l1)]) rfl ?_
  refine Z.pick [0, 2, 3] rfl ?_
  exact k
theorem sX1_callsOf_57 {E : zE} {d : Nat} {Q : zO → zM → Prop} (M : zM) (l2 : Int32) (l3 : Int32) (hw : cw M) (k : Z E YX1_natives d M (zargs 0 []) 0 [] (zafter E YX1_callsOf (d + 1) [(0, vr (some (16, 0, 0))), (2, vi l2), (3, vi l3)] 61 3 [vr (some (76, 4, 0))] Q)) : Z E YX1_callsOf (d + 1) M [(0, vr (some (16, 0, 0))), (2, vi l2), (3, vi l3)] 57 [] Q := by
  refine z_aload_n dX1_callsOf_57 rfl rfl ?_
  refine z_getr dX1_callsOf_58 fsX1_222_0 (show gr M 16 83 = some (76, 4, 0) from cw_at hw 44 rfl) ?_
  exact z_callS (as := []) (st := [vr (some (76, 4, 0))]) dX1_callsOf_61 ssX1_996 (Nat.le_refl _) (Nat.le_of_ble_eq_true rfl) (Nat.le_of_ble_eq_true rfl) rfl k
theorem sX1_callsOf_64 {E : zE} {d : Nat} {Q : zO → zM → Prop} (M : zM) (l2 : Int32) (l3 : Int32) (s0 : Int64) (hw : cw M) (k : Z E YX6_hasOnly d M (zargs 0 [vr (some (76, 4, 0)), vl (s0 ||| (gl M 16 73)), vl (gl M 16 74)]) 0 [] (zafter E YX1_callsOf (d + 1) [(0, vr (some (16, 0, 0))), (2, vi l2), (3, vi l3)] 73 3 [] Q)) : Z E YX1_callsOf (d + 1) M [(0, vr (some (16, 0, 0))), (2, vi l2), (3, vi l3)] 64 [vl s0, vr (some (76, 4, 0))] Q := by
  refine z_aload_n dX1_callsOf_64 rfl rfl ?_
  refine z_getl dX1_callsOf_65 fsX1_658_0 ?_
  refine z_lor dX1_callsOf_68 ?_
  refine z_aload_n dX1_callsOf_69 rfl rfl ?_
  refine z_getl dX1_callsOf_70 fsX1_661_0 ?_
  exact z_callV (as := [vl (s0 ||| (gl M 16 73)), vl (gl M 16 74)]) (st := []) dX1_callsOf_73 vsX1_1028_4 (Nat.le_refl _) (Nat.le_of_ble_eq_true rfl) (Nat.le_of_ble_eq_true rfl) rfl k
theorem sX1_callsOf_76 {E : zE} {d : Nat} {Q : zO → zM → Prop} (M : zM) (l2 : Int32) (l3 : Int32) (s0 : Int32) (hw : cw M) (k : if s0 = 0 then (Z E YX1_errs d M (zargs 0 [vr (some (16, 0, 0)), vr (gr M 16 60), vi (0 : Int32)]) 0 [] (zafter E YX1_callsOf (d + 1) [(0, vr (some (16, 0, 0))), (2, vi l2), (3, vi l3)] 85 3 [] Q)) else (Z E YX1_callsOf (d + 1) M [(0, vr (some (16, 0, 0))), (2, vi l2), (3, vi l3)] 88 [] Q)) : Z E YX1_callsOf (d + 1) M [(0, vr (some (16, 0, 0))), (2, vi l2), (3, vi l3)] 76 [vi s0] Q := by
  refine z_if_ne (tgt := 88) dX1_callsOf_76 rfl (fun h_ => ?_) (fun h_ => ?_)
  · have k := zif h_ k
    exact k
  · have k := zit h_ k
    refine z_aload_n dX1_callsOf_79 rfl rfl ?_
    refine z_aload_n dX1_callsOf_80 rfl rfl ?_
    refine z_getr (r := (gr M 16 60)) dX1_callsOf_81 fsX1_684_0 rfl ?_
    refine z_iconst (v := 0) dX1_callsOf_84 rfl ?_
    exact z_callV (as := [vr (gr M 16 60), vi (0 : Int32)]) (st := []) dX1_callsOf_85 vsX1_960_0 (Nat.le_refl _) (Nat.le_of_ble_eq_true rfl) (Nat.le_of_ble_eq_true rfl) rfl k
theorem sX1_callsOf_88 {E : zE} {d : Nat} {Q : zO → zM → Prop} (M : zM) (l2 : Int32) (l3 : Int32) (hw : cw M) (k : Z E YX1_callsOf (d + 1) M [(0, vr (some (16, 0, 0))), (2, vi l2), (3, vi l3), (4, vi (9 : Int32))] 92 [] Q) : Z E YX1_callsOf (d + 1) M [(0, vr (some (16, 0, 0))), (2, vi l2), (3, vi l3)] 88 [] Q := by
  refine z_bipush (v := 9) dX1_callsOf_88 rfl ?_
  refine z_ist dX1_callsOf_90 (by decide) (lv' := [(0, vr (some (16, 0, 0))), (2, vi l2), (3, vi l3), (4, vi (9 : Int32))]) rfl ?_
  exact k
theorem sX1_callsOf_92 {E : zE} {d : Nat} {Q : zO → zM → Prop} (M : zM) (l2 : Int32) (l3 : Int32) (l4 : Int32) (hw : cw M) (k : if (23 : Int32) ≤ l4 then (Z E YX1_callsOf (d + 1) M [(0, vr (some (16, 0, 0))), (2, vi l2), (3, vi l3), (4, vi (1 : Int32))] 145 [] Q) else (if l4 = (20 : Int32) then (Z E YX1_callsOf (d + 1) M [(0, vr (some (16, 0, 0))), (2, vi l2), (3, vi l3), (4, vi l4)] 136 [] Q) else (Z E YX1_in d M (zargs 0 [vi l4, vl (gl M 76 0), vl (gl M 76 1)]) 0 [] (zafter E YX1_callsOf (d + 1) [(0, vr (some (16, 0, 0))), (2, vi l2), (3, vi l3), (4, vi l4)] 122 3 [] Q)))) : Z E YX1_callsOf (d + 1) M [(0, vr (some (16, 0, 0))), (2, vi l2), (3, vi l3), (4, vi l4)] 92 [] Q := by
  refine z_iload dX1_callsOf_92 rfl ?_
  refine z_bipush (v := 23) dX1_callsOf_94 rfl ?_
  refine z_icmp_ge (tgt := 142) dX1_callsOf_96 rfl (fun h_ => ?_) (fun h_ => ?_)
  · have k := zit h_ k
    refine z_iconst (v := 1) dX1_callsOf_142 rfl ?_
    refine z_ist dX1_callsOf_143 (by decide) (lv' := [(0, vr (some (16, 0, 0))), (2, vi l2), (3, vi l3), (4, vi (1 : Int32))]) rfl ?_
    exact k
  · have k := zif h_ k
    refine z_iload dX1_callsOf_99 rfl ?_
    refine z_bipush (v := 20) dX1_callsOf_101 rfl ?_
    refine z_icmp_eq (tgt := 136) dX1_callsOf_103 rfl (fun h_ => ?_) (fun h_ => ?_)
    · have k := zit h_ k
      exact k
    · have k := zif h_ k
      refine z_iload dX1_callsOf_106 rfl ?_
      refine z_aload_n dX1_callsOf_108 rfl rfl ?_
      refine z_getr dX1_callsOf_109 fsX1_222_0 (show gr M 16 83 = some (76, 4, 0) from cw_at hw 44 rfl) ?_
      refine z_getl dX1_callsOf_112 fsX1_916_4 ?_
      refine z_aload_n dX1_callsOf_115 rfl rfl ?_
      refine z_getr dX1_callsOf_116 fsX1_222_0 (show gr M 16 83 = some (76, 4, 0) from cw_at hw 44 rfl) ?_
      refine z_getl dX1_callsOf_119 fsX1_918_4 ?_
      exact z_callS (as := [vi l4, vl (gl M 76 0), vl (gl M 76 1)]) (st := []) dX1_callsOf_122 ssX1_827 (Nat.le_refl _) (Nat.le_of_ble_eq_true rfl) (Nat.le_of_ble_eq_true rfl) rfl k
theorem sX1_callsOf_125 {E : zE} {d : Nat} {Q : zO → zM → Prop} (M : zM) (l2 : Int32) (l3 : Int32) (l4 : Int32) (s0 : Int32) (hw : cw M) (k : if s0 = 0 then (Z E YX1_callsOf (d + 1) M [(0, vr (some (16, 0, 0))), (2, vi l2), (3, vi l3), (4, vi l4)] 136 [] Q) else (Z E YX1_alone d M (zargs 0 [vr (some (16, 0, 0)), vi l4, vi l2, vi l3]) 0 [] (zafter E YX1_callsOf (d + 1) [(0, vr (some (16, 0, 0))), (2, vi l2), (3, vi l3), (4, vi l4)] 133 3 [] Q))) : Z E YX1_callsOf (d + 1) M [(0, vr (some (16, 0, 0))), (2, vi l2), (3, vi l3), (4, vi l4)] 125 [vi s0] Q := by
  refine z_if_eq (tgt := 136) dX1_callsOf_125 rfl (fun h_ => ?_) (fun h_ => ?_)
  · have k := zit h_ k
    exact k
  · have k := zif h_ k
    refine z_aload_n dX1_callsOf_128 rfl rfl ?_
    refine z_iload dX1_callsOf_129 rfl ?_
    refine z_iload_n dX1_callsOf_131 rfl rfl ?_
    refine z_iload_n dX1_callsOf_132 rfl rfl ?_
    exact z_callV (as := [vi l4, vi l2, vi l3]) (st := []) dX1_callsOf_133 vsX1_1045_0 (Nat.le_refl _) (Nat.le_of_ble_eq_true rfl) (Nat.le_of_ble_eq_true rfl) rfl k
theorem sX1_callsOf_136 {E : zE} {d : Nat} {Q : zO → zM → Prop} (M : zM) (l2 : Int32) (l3 : Int32) (l4 : Int32) (hw : cw M) (k : Z E YX1_callsOf (d + 1) M [(0, vr (some (16, 0, 0))), (2, vi l2), (3, vi l3), (4, vi (l4 + (1 : Int32)))] 92 [] Q) : Z E YX1_callsOf (d + 1) M [(0, vr (some (16, 0, 0))), (2, vi l2), (3, vi l3), (4, vi l4)] 136 [] Q := by
  refine z_inc (v := (l4 + (1 : Int32))) dX1_callsOf_136 rfl rfl (by decide) (lv' := [(0, vr (some (16, 0, 0))), (2, vi l2), (3, vi l3), (4, vi (l4 + (1 : Int32)))]) rfl ?_
  refine z_goto (tgt := 92) dX1_callsOf_139 rfl ?_
  exact k
theorem sX1_callsOf_145 {E : zE} {d : Nat} {Q : zO → zM → Prop} (M : zM) (l2 : Int32) (l3 : Int32) (l4 : Int32) (hw : cw M) (k : ∃ b1 : Nat, (gr M 16 8) = some (b1, 11, 0) ∧ (Z E YJ2_size d M (zargs 0 [vr (some (b1, 11, 0))]) 0 [] (zafter E YX1_callsOf (d + 1) [(0, vr (some (16, 0, 0))), (2, vi l2), (3, vi l3), (4, vi l4)] 151 3 [vi l4] Q))) : Z E YX1_callsOf (d + 1) M [(0, vr (some (16, 0, 0))), (2, vi l2), (3, vi l3), (4, vi l4)] 145 [] Q := by
  refine z_iload dX1_callsOf_145 rfl ?_
  refine z_aload_n dX1_callsOf_147 rfl rfl ?_
  refine z_getr (r := (gr M 16 8)) dX1_callsOf_148 fsX1_82_0 rfl ?_
  obtain ⟨b1, e1_, k⟩ := k
  refine Z.eqs (lv' := [(0, vr (some (16, 0, 0))), (2, vi l2), (3, vi l3), (4, vi l4)]) (st' := [vr (some (b1, 11, 0)), vi l4]) rfl (by rw [e1_] <;> rfl) ?_
  exact z_callV (as := []) (st := [vi l4]) dX1_callsOf_151 vsX1_291_11 (Nat.le_refl _) (Nat.le_of_ble_eq_true rfl) (Nat.le_of_ble_eq_true rfl) rfl k
theorem sX1_callsOf_154 {E : zE} {d : Nat} {Q : zO → zM → Prop} (M : zM) (l2 : Int32) (l3 : Int32) (l4 : Int32) (s0 : Int32) (s1 : Int32) (hw : cw M) (k : if s0 ≤ s1 then (Z E YX1_in d M (zargs 0 [vi (20 : Int32), vl (gl M 76 0), vl (gl M 76 1)]) 0 [] (zafter E YX1_callsOf (d + 1) [(0, vr (some (16, 0, 0))), (2, vi l2), (3, vi l3)] 197 3 [] Q)) else (Z E YX1_isOf d M (zargs 0 [vr (some (16, 0, 0)), vi l4]) 0 [] (zafter E YX1_callsOf (d + 1) [(0, vr (some (16, 0, 0))), (2, vi l2), (3, vi l3), (4, vi l4)] 160 3 [] Q))) : Z E YX1_callsOf (d + 1) M [(0, vr (some (16, 0, 0))), (2, vi l2), (3, vi l3), (4, vi l4)] 154 [vi s0, vi s1] Q := by
  refine z_icmp_ge (tgt := 181) dX1_callsOf_154 rfl (fun h_ => ?_) (fun h_ => ?_)
  · have k := zit h_ k
    refine z_bipush (v := 20) dX1_callsOf_181 rfl ?_
    refine z_aload_n dX1_callsOf_183 rfl rfl ?_
    refine z_getr dX1_callsOf_184 fsX1_222_0 (show gr M 16 83 = some (76, 4, 0) from cw_at hw 44 rfl) ?_
    refine z_getl dX1_callsOf_187 fsX1_916_4 ?_
    refine z_aload_n dX1_callsOf_190 rfl rfl ?_
    refine z_getr dX1_callsOf_191 fsX1_222_0 (show gr M 16 83 = some (76, 4, 0) from cw_at hw 44 rfl) ?_
    refine z_getl dX1_callsOf_194 fsX1_918_4 ?_
    refine Z.pick [0, 1, 2] rfl ?_
    exact z_callS (as := [vi (20 : Int32), vl (gl M 76 0), vl (gl M 76 1)]) (st := []) dX1_callsOf_197 ssX1_827 (Nat.le_refl _) (Nat.le_of_ble_eq_true rfl) (Nat.le_of_ble_eq_true rfl) rfl k
  · have k := zif h_ k
    refine z_aload_n dX1_callsOf_157 rfl rfl ?_
    refine z_iload dX1_callsOf_158 rfl ?_
    exact z_callV (as := [vi l4]) (st := []) dX1_callsOf_160 vsX1_1048_0 (Nat.le_refl _) (Nat.le_of_ble_eq_true rfl) (Nat.le_of_ble_eq_true rfl) rfl k
theorem sX1_callsOf_163 {E : zE} {d : Nat} {Q : zO → zM → Prop} (M : zM) (l2 : Int32) (l3 : Int32) (l4 : Int32) (s0 : Int32) (hw : cw M) (k : if s0 = 0 then (Z E YX1_callsOf (d + 1) M [(0, vr (some (16, 0, 0))), (2, vi l2), (3, vi l3), (4, vi l4)] 175 [] Q) else (Z E YX1_enters d M (zargs 0 [vr (some (16, 0, 0)), vi l4, vi l2, vi l3, vi (-1 : Int32)]) 0 [] (zafter E YX1_callsOf (d + 1) [(0, vr (some (16, 0, 0))), (2, vi l2), (3, vi l3), (4, vi l4)] 172 3 [] Q))) : Z E YX1_callsOf (d + 1) M [(0, vr (some (16, 0, 0))), (2, vi l2), (3, vi l3), (4, vi l4)] 163 [vi s0] Q := by
  refine z_if_eq (tgt := 175) dX1_callsOf_163 rfl (fun h_ => ?_) (fun h_ => ?_)
  · have k := zit h_ k
    exact k
  · have k := zif h_ k
    refine z_aload_n dX1_callsOf_166 rfl rfl ?_
    refine z_iload dX1_callsOf_167 rfl ?_
    refine z_iload_n dX1_callsOf_169 rfl rfl ?_
    refine z_iload_n dX1_callsOf_170 rfl rfl ?_
    refine z_iconst (v := -1) dX1_callsOf_171 rfl ?_
    exact z_callV (as := [vi l4, vi l2, vi l3, vi (-1 : Int32)]) (st := []) dX1_callsOf_172 vsX1_1051_0 (Nat.le_refl _) (Nat.le_of_ble_eq_true rfl) (Nat.le_of_ble_eq_true rfl) rfl k
theorem sX1_callsOf_175 {E : zE} {d : Nat} {Q : zO → zM → Prop} (M : zM) (l2 : Int32) (l3 : Int32) (l4 : Int32) (hw : cw M) (k : Z E YX1_callsOf (d + 1) M [(0, vr (some (16, 0, 0))), (2, vi l2), (3, vi l3), (4, vi (l4 + (1 : Int32)))] 145 [] Q) : Z E YX1_callsOf (d + 1) M [(0, vr (some (16, 0, 0))), (2, vi l2), (3, vi l3), (4, vi l4)] 175 [] Q := by
  refine z_inc (v := (l4 + (1 : Int32))) dX1_callsOf_175 rfl rfl (by decide) (lv' := [(0, vr (some (16, 0, 0))), (2, vi l2), (3, vi l3), (4, vi (l4 + (1 : Int32)))]) rfl ?_
  refine z_goto (tgt := 145) dX1_callsOf_178 rfl ?_
  exact k
theorem sX1_callsOf_200 {E : zE} {d : Nat} {Q : zO → zM → Prop} (M : zM) (l2 : Int32) (l3 : Int32) (s0 : Int32) (hw : cw M) (k : if s0 = 0 then (Q (.inl none) M) else (Z E YX6_copy d M (zargs 0 [vr (some (76, 4, 0)), vr (some (77, 4, 0))]) 0 [] (zafter E YX1_callsOf (d + 1) [(0, vr (some (16, 0, 0))), (2, vi l2), (3, vi l3)] 212 3 [] Q))) : Z E YX1_callsOf (d + 1) M [(0, vr (some (16, 0, 0))), (2, vi l2), (3, vi l3)] 200 [vi s0] Q := by
  refine z_if_ne (tgt := 204) dX1_callsOf_200 rfl (fun h_ => ?_) (fun h_ => ?_)
  · have k := zif h_ k
    refine z_aload_n dX1_callsOf_204 rfl rfl ?_
    refine z_getr dX1_callsOf_205 fsX1_222_0 (show gr M 16 83 = some (76, 4, 0) from cw_at hw 44 rfl) ?_
    refine z_aload_n dX1_callsOf_208 rfl rfl ?_
    refine z_getr dX1_callsOf_209 fsX1_225_0 (show gr M 16 84 = some (77, 4, 0) from cw_at hw 45 rfl) ?_
    exact z_callV (as := [vr (some (77, 4, 0))]) (st := []) dX1_callsOf_212 vsX1_1054_4 (Nat.le_refl _) (Nat.le_of_ble_eq_true rfl) (Nat.le_of_ble_eq_true rfl) rfl k
  · have k := zit h_ k
    exact z_vret dX1_callsOf_203 rfl k
theorem sX1_callsOf_215 {E : zE} {d : Nat} {Q : zO → zM → Prop} (M : zM) (l2 : Int32) (l3 : Int32) (u0 : Option zP) (hw : cw M) (k : if l3 ≤ 0 then (Z E YX6_of d M (zargs 0 [vr (some (77, 4, 0)), vl (1 : Int64)]) 0 [] (zafter E YX1_callsOf (d + 1) [(0, vr (some (16, 0, 0))), (2, vi l2), (3, vi l3)] 242 3 [] Q)) else (vp_in l2 9 ∧ (Z E YX6_copy d M (zargs 0 [vr (some (77, 4, 0)), vr (gr M 78 (l2).toNatClampNeg)]) 0 [] (zafter E YX1_callsOf (d + 1) [(0, vr (some (16, 0, 0))), (2, vi l2), (3, vi l3)] 230 3 [] Q)))) : Z E YX1_callsOf (d + 1) M [(0, vr (some (16, 0, 0))), (2, vi l2), (3, vi l3)] 215 [vr u0] Q := by
  refine z_pop dX1_callsOf_215 rfl ?_
  refine z_iload_n dX1_callsOf_216 rfl rfl ?_
  refine z_if_le (tgt := 237) dX1_callsOf_217 rfl (fun h_ => ?_) (fun h_ => ?_)
  · have k := zit h_ k
    refine z_aload_n dX1_callsOf_237 rfl rfl ?_
    refine z_getr dX1_callsOf_238 fsX1_225_0 (show gr M 16 84 = some (77, 4, 0) from cw_at hw 45 rfl) ?_
    refine z_lconst (v := 1) dX1_callsOf_241 rfl ?_
    exact z_callV (as := [vl (1 : Int64)]) (st := []) dX1_callsOf_242 vsX1_892_4 (Nat.le_refl _) (Nat.le_of_ble_eq_true rfl) (Nat.le_of_ble_eq_true rfl) rfl k
  · have k := zif h_ k
    refine z_aload_n dX1_callsOf_220 rfl rfl ?_
    refine z_getr dX1_callsOf_221 fsX1_225_0 (show gr M 16 84 = some (77, 4, 0) from cw_at hw 45 rfl) ?_
    refine z_aload_n dX1_callsOf_224 rfl rfl ?_
    refine z_getr dX1_callsOf_225 fsX1_228_0 (show gr M 16 85 = some (78, 107, 9) from cw_at hw 46 rfl) ?_
    refine z_iload_n dX1_callsOf_228 rfl rfl ?_
    obtain ⟨b_, k⟩ := k
    refine z_aald (r := (gr M 78 (l2).toNatClampNeg)) (q := 7) (Or.inr rfl) dX1_callsOf_229 b_ rfl ?_
    exact z_callV (as := [vr (gr M 78 (l2).toNatClampNeg)]) (st := []) dX1_callsOf_230 vsX1_1054_4 (Nat.le_refl _) (Nat.le_of_ble_eq_true rfl) (Nat.le_of_ble_eq_true rfl) rfl k
theorem sX1_callsOf_233 {E : zE} {d : Nat} {Q : zO → zM → Prop} (M : zM) (l2 : Int32) (l3 : Int32) (u0 : Option zP) (hw : cw M) (k : Z E YJ11_max d M (zargs 0 [vi (0 : Int32), vi (l3 - (1 : Int32))]) 0 [] (zafter E YX1_callsOf (d + 1) [(0, vr (some (16, 0, 0))), (2, vi (l2 + (1 : Int32)))] 253 3 [] Q)) : Z E YX1_callsOf (d + 1) M [(0, vr (some (16, 0, 0))), (2, vi l2), (3, vi l3)] 233 [vr u0] Q := by
  refine z_pop dX1_callsOf_233 rfl ?_
  refine z_goto (tgt := 246) dX1_callsOf_234 rfl ?_
  refine z_inc (v := (l2 + (1 : Int32))) dX1_callsOf_246 rfl rfl (by decide) (lv' := [(0, vr (some (16, 0, 0))), (2, vi (l2 + (1 : Int32))), (3, vi l3)]) rfl ?_
  refine z_iconst (v := 0) dX1_callsOf_249 rfl ?_
  refine z_iload_n dX1_callsOf_250 rfl rfl ?_
  refine z_iconst (v := 1) dX1_callsOf_251 rfl ?_
  refine z_isub dX1_callsOf_252 ?_
  refine Z.pick [0, 1] rfl ?_
  exact z_callS (as := [vi (0 : Int32), vi (l3 - (1 : Int32))]) (st := []) dX1_callsOf_253 ssX1_561 (Nat.le_refl _) (Nat.le_of_ble_eq_true rfl) (Nat.le_of_ble_eq_true rfl) rfl k
theorem sX1_callsOf_245 {E : zE} {d : Nat} {Q : zO → zM → Prop} (M : zM) (l2 : Int32) (l3 : Int32) (u0 : Option zP) (hw : cw M) (k : Z E YJ11_max d M (zargs 0 [vi (0 : Int32), vi (l3 - (1 : Int32))]) 0 [] (zafter E YX1_callsOf (d + 1) [(0, vr (some (16, 0, 0))), (2, vi (l2 + (1 : Int32)))] 253 3 [] Q)) : Z E YX1_callsOf (d + 1) M [(0, vr (some (16, 0, 0))), (2, vi l2), (3, vi l3)] 245 [vr u0] Q := by
  refine z_pop dX1_callsOf_245 rfl ?_
  refine z_inc (v := (l2 + (1 : Int32))) dX1_callsOf_246 rfl rfl (by decide) (lv' := [(0, vr (some (16, 0, 0))), (2, vi (l2 + (1 : Int32))), (3, vi l3)]) rfl ?_
  refine z_iconst (v := 0) dX1_callsOf_249 rfl ?_
  refine z_iload_n dX1_callsOf_250 rfl rfl ?_
  refine z_iconst (v := 1) dX1_callsOf_251 rfl ?_
  refine z_isub dX1_callsOf_252 ?_
  refine Z.pick [0, 1] rfl ?_
  exact z_callS (as := [vi (0 : Int32), vi (l3 - (1 : Int32))]) (st := []) dX1_callsOf_253 ssX1_561 (Nat.le_refl _) (Nat.le_of_ble_eq_true rfl) (Nat.le_of_ble_eq_true rfl) rfl k
theorem sX1_callsOf_256 {E : zE} {d : Nat} {Q : zO → zM → Prop} (M : zM) (l2 : Int32) (s0 : Int32) (hw : cw M) (k : Z E YX1_callsOf (d + 1) M [(0, vr (some (16, 0, 0))), (2, vi l2), (3, vi s0)] 57 [] Q) : Z E YX1_callsOf (d + 1) M [(0, vr (some (16, 0, 0))), (2, vi l2)] 256 [vi s0] Q := by
  refine z_ist_n dX1_callsOf_256 rfl (by decide) (lv' := [(0, vr (some (16, 0, 0))), (2, vi l2), (3, vi s0)]) rfl ?_
  refine z_goto (tgt := 57) dX1_callsOf_257 rfl ?_
  exact k
/-! ScriptTypes.takesArguments(I)V -/
theorem bX1_takesArguments_0 : zdec cX1_takesArguments 0 [(0, .iconst 0, 1), (1, .istore_n 2, 1), (2, .iload_n 2, 1), (3, .iload_n 1, 1), (4, .if_icmp .ge 34, 3), (7, .aload_n 0, 1), (8, .getfield 684, 3), (11, .aload_n 0, 1), (12, .getfield 684, 3), (15, .getfield 726, 3), (18, .iload_n 1, 1), (19, .isub, 1), (20, .iload_n 2, 1), (21, .iadd, 1), (22, .aload_n 0, 1), (23, .getfield 228, 3)] = true := by decide +kernel
theorem dX1_takesArguments_0 : decode cX1_takesArguments 0 = .ok (.iconst 0, 1) := zdec_at bX1_takesArguments_0 0 rfl
theorem dX1_takesArguments_1 : decode cX1_takesArguments 1 = .ok (.istore_n 2, 1) := zdec_at bX1_takesArguments_0 1 rfl
theorem dX1_takesArguments_2 : decode cX1_takesArguments 2 = .ok (.iload_n 2, 1) := zdec_at bX1_takesArguments_0 2 rfl
theorem dX1_takesArguments_3 : decode cX1_takesArguments 3 = .ok (.iload_n 1, 1) := zdec_at bX1_takesArguments_0 3 rfl
theorem dX1_takesArguments_4 : decode cX1_takesArguments 4 = .ok (.if_icmp .ge 34, 3) := zdec_at bX1_takesArguments_0 4 rfl
theorem dX1_takesArguments_7 : decode cX1_takesArguments 7 = .ok (.aload_n 0, 1) := zdec_at bX1_takesArguments_0 5 rfl
theorem dX1_takesArguments_8 : decode cX1_takesArguments 8 = .ok (.getfield 684, 3) := zdec_at bX1_takesArguments_0 6 rfl
theorem dX1_takesArguments_11 : decode cX1_takesArguments 11 = .ok (.aload_n 0, 1) := zdec_at bX1_takesArguments_0 7 rfl
theorem dX1_takesArguments_12 : decode cX1_takesArguments 12 = .ok (.getfield 684, 3) := zdec_at bX1_takesArguments_0 8 rfl
theorem dX1_takesArguments_15 : decode cX1_takesArguments 15 = .ok (.getfield 726, 3) := zdec_at bX1_takesArguments_0 9 rfl
theorem dX1_takesArguments_18 : decode cX1_takesArguments 18 = .ok (.iload_n 1, 1) := zdec_at bX1_takesArguments_0 10 rfl
theorem dX1_takesArguments_19 : decode cX1_takesArguments 19 = .ok (.isub, 1) := zdec_at bX1_takesArguments_0 11 rfl
theorem dX1_takesArguments_20 : decode cX1_takesArguments 20 = .ok (.iload_n 2, 1) := zdec_at bX1_takesArguments_0 12 rfl
theorem dX1_takesArguments_21 : decode cX1_takesArguments 21 = .ok (.iadd, 1) := zdec_at bX1_takesArguments_0 13 rfl
theorem dX1_takesArguments_22 : decode cX1_takesArguments 22 = .ok (.aload_n 0, 1) := zdec_at bX1_takesArguments_0 14 rfl
theorem dX1_takesArguments_23 : decode cX1_takesArguments 23 = .ok (.getfield 228, 3) := zdec_at bX1_takesArguments_0 15 rfl
theorem bX1_takesArguments_26 : zdec cX1_takesArguments 26 [(26, .iload_n 2, 1), (27, .aaload, 1), (28, .invokevirtual 903, 3), (31, .pop, 1), (32, .iinc 2 1, 3), (35, .goto (-33), 3), (38, .return_, 1)] = true := by decide +kernel
theorem dX1_takesArguments_26 : decode cX1_takesArguments 26 = .ok (.iload_n 2, 1) := zdec_at bX1_takesArguments_26 0 rfl
theorem dX1_takesArguments_27 : decode cX1_takesArguments 27 = .ok (.aaload, 1) := zdec_at bX1_takesArguments_26 1 rfl
theorem dX1_takesArguments_28 : decode cX1_takesArguments 28 = .ok (.invokevirtual 903, 3) := zdec_at bX1_takesArguments_26 2 rfl
theorem dX1_takesArguments_31 : decode cX1_takesArguments 31 = .ok (.pop, 1) := zdec_at bX1_takesArguments_26 3 rfl
theorem dX1_takesArguments_32 : decode cX1_takesArguments 32 = .ok (.iinc 2 1, 3) := zdec_at bX1_takesArguments_26 4 rfl
theorem dX1_takesArguments_35 : decode cX1_takesArguments 35 = .ok (.goto (-33), 3) := zdec_at bX1_takesArguments_26 5 rfl
theorem dX1_takesArguments_38 : decode cX1_takesArguments 38 = .ok (.return_, 1) := zdec_at bX1_takesArguments_26 6 rfl
theorem sX1_takesArguments_0 {E : zE} {d : Nat} {Q : zO → zM → Prop} (M : zM) (l1 : Int32) (hw : cw M) (k : Z E YX1_takesArguments (d + 1) M [(0, vr (some (16, 0, 0))), (1, vi l1), (2, vi (0 : Int32))] 2 [] Q) : Z E YX1_takesArguments (d + 1) M [(0, vr (some (16, 0, 0))), (1, vi l1)] 0 [] Q := by
  refine z_iconst (v := 0) dX1_takesArguments_0 rfl ?_
  refine z_ist_n dX1_takesArguments_1 rfl (by decide) (lv' := [(0, vr (some (16, 0, 0))), (1, vi l1), (2, vi (0 : Int32))]) rfl ?_
  exact k
theorem sX1_takesArguments_2 {E : zE} {d : Nat} {Q : zO → zM → Prop} (M : zM) (l1 : Int32) (l2 : Int32) (hw : cw M) (k : if l1 ≤ l2 then (Q (.inl none) M) else (∃ b1 : Nat, (gr M 16 60) = some (b1, 7, 0) ∧ (vp_in l2 9 ∧ (Z E YX43_at d M (zargs 0 [vr (some (b1, 7, 0)), vi (((gi M b1 13) - l1) + l2), vr (gr M 78 (l2).toNatClampNeg)]) 0 [] (zafter E YX1_takesArguments (d + 1) [(0, vr (some (16, 0, 0))), (1, vi l1), (2, vi l2)] 28 3 [] Q))))) : Z E YX1_takesArguments (d + 1) M [(0, vr (some (16, 0, 0))), (1, vi l1), (2, vi l2)] 2 [] Q := by
  refine z_iload_n dX1_takesArguments_2 rfl rfl ?_
  refine z_iload_n dX1_takesArguments_3 rfl rfl ?_
  refine z_icmp_ge (tgt := 38) dX1_takesArguments_4 rfl (fun h_ => ?_) (fun h_ => ?_)
  · have k := zit h_ k
    exact z_vret dX1_takesArguments_38 rfl k
  · have k := zif h_ k
    refine z_aload_n dX1_takesArguments_7 rfl rfl ?_
    refine z_getr (r := (gr M 16 60)) dX1_takesArguments_8 fsX1_684_0 rfl ?_
    refine z_aload_n dX1_takesArguments_11 rfl rfl ?_
    refine z_getr (r := (gr M 16 60)) dX1_takesArguments_12 fsX1_684_0 rfl ?_
    obtain ⟨b1, e1_, k⟩ := k
    refine Z.eqs (lv' := [(0, vr (some (16, 0, 0))), (1, vi l1), (2, vi l2)]) (st' := [vr (some (b1, 7, 0)), vr (some (b1, 7, 0))]) rfl (by rw [e1_] <;> rfl) ?_
    refine z_geti dX1_takesArguments_15 fsX1_726_7 ?_
    refine z_iload_n dX1_takesArguments_18 rfl rfl ?_
    refine z_isub dX1_takesArguments_19 ?_
    refine z_iload_n dX1_takesArguments_20 rfl rfl ?_
    refine z_iadd dX1_takesArguments_21 ?_
    refine z_aload_n dX1_takesArguments_22 rfl rfl ?_
    refine z_getr dX1_takesArguments_23 fsX1_228_0 (show gr M 16 85 = some (78, 107, 9) from cw_at hw 46 rfl) ?_
    refine z_iload_n dX1_takesArguments_26 rfl rfl ?_
    obtain ⟨b_, k⟩ := k
    refine z_aald (r := (gr M 78 (l2).toNatClampNeg)) (q := 7) (Or.inr rfl) dX1_takesArguments_27 b_ rfl ?_
    exact z_callV (as := [vi (((gi M b1 13) - l1) + l2), vr (gr M 78 (l2).toNatClampNeg)]) (st := []) dX1_takesArguments_28 vsX1_903_7 (Nat.le_refl _) (Nat.le_of_ble_eq_true rfl) (Nat.le_of_ble_eq_true rfl) rfl k
theorem sX1_takesArguments_31 {E : zE} {d : Nat} {Q : zO → zM → Prop} (M : zM) (l1 : Int32) (l2 : Int32) (u0 : Option zP) (hw : cw M) (k : Z E YX1_takesArguments (d + 1) M [(0, vr (some (16, 0, 0))), (1, vi l1), (2, vi (l2 + (1 : Int32)))] 2 [] Q) : Z E YX1_takesArguments (d + 1) M [(0, vr (some (16, 0, 0))), (1, vi l1), (2, vi l2)] 31 [vr u0] Q := by
  refine z_pop dX1_takesArguments_31 rfl ?_
  refine z_inc (v := (l2 + (1 : Int32))) dX1_takesArguments_32 rfl rfl (by decide) (lv' := [(0, vr (some (16, 0, 0))), (1, vi l1), (2, vi (l2 + (1 : Int32)))]) rfl ?_
  refine z_goto (tgt := 2) dX1_takesArguments_35 rfl ?_
  exact k
/-! ScriptTypes.alone(III)V -/
theorem bX1_alone_0 : zdec cX1_alone 0 [(0, .iload_n 3, 1), (1, .ifCond .le 12, 3), (4, .aload_n 0, 1), (5, .getfield 228, 3), (8, .iload_n 2, 1), (9, .aaload, 1), (10, .goto 11, 3), (13, .aload_n 0, 1), (14, .getfield 210, 3), (17, .lconst 1, 1), (18, .invokevirtual 892, 3), (21, .astore 4, 2), (23, .iload_n 1, 1)] = true := by decide +kernel
theorem dX1_alone_0 : decode cX1_alone 0 = .ok (.iload_n 3, 1) := zdec_at bX1_alone_0 0 rfl
theorem dX1_alone_1 : decode cX1_alone 1 = .ok (.ifCond .le 12, 3) := zdec_at bX1_alone_0 1 rfl
theorem dX1_alone_4 : decode cX1_alone 4 = .ok (.aload_n 0, 1) := zdec_at bX1_alone_0 2 rfl
theorem dX1_alone_5 : decode cX1_alone 5 = .ok (.getfield 228, 3) := zdec_at bX1_alone_0 3 rfl
theorem dX1_alone_8 : decode cX1_alone 8 = .ok (.iload_n 2, 1) := zdec_at bX1_alone_0 4 rfl
theorem dX1_alone_9 : decode cX1_alone 9 = .ok (.aaload, 1) := zdec_at bX1_alone_0 5 rfl
theorem dX1_alone_10 : decode cX1_alone 10 = .ok (.goto 11, 3) := zdec_at bX1_alone_0 6 rfl
theorem dX1_alone_13 : decode cX1_alone 13 = .ok (.aload_n 0, 1) := zdec_at bX1_alone_0 7 rfl
theorem dX1_alone_14 : decode cX1_alone 14 = .ok (.getfield 210, 3) := zdec_at bX1_alone_0 8 rfl
theorem dX1_alone_17 : decode cX1_alone 17 = .ok (.lconst 1, 1) := zdec_at bX1_alone_0 9 rfl
theorem dX1_alone_18 : decode cX1_alone 18 = .ok (.invokevirtual 892, 3) := zdec_at bX1_alone_0 10 rfl
theorem dX1_alone_21 : decode cX1_alone 21 = .ok (.astore 4, 2) := zdec_at bX1_alone_0 11 rfl
theorem dX1_alone_23 : decode cX1_alone 23 = .ok (.iload_n 1, 1) := zdec_at bX1_alone_0 12 rfl
theorem dX1_alone_24 : decode cX1_alone 24 = .ok (.tableswitch 231 9 21 #[68, 83, 83, 105, 137, 83, 83, 83, 83, 202, 202, 231, 222], 68) := by decide +kernel
theorem bX1_alone_92 : zdec cX1_alone 92 [(92, .aload_n 0, 1), (93, .aload_n 0, 1), (94, .getfield 216, 3), (97, .lconst 1, 1), (98, .invokevirtual 892, 3), (101, .invokevirtual 895, 3), (104, .goto 217, 3), (107, .aload_n 0, 1), (108, .iload_n 1, 1), (109, .iload_n 3, 1), (110, .ifCond .le 12, 3), (113, .aload_n 0, 1), (114, .aload 4, 2), (116, .invokevirtual 1089, 3), (119, .goto 4, 3), (122, .lconst 0, 1)] = true := by decide +kernel
theorem dX1_alone_92 : decode cX1_alone 92 = .ok (.aload_n 0, 1) := zdec_at bX1_alone_92 0 rfl
theorem dX1_alone_93 : decode cX1_alone 93 = .ok (.aload_n 0, 1) := zdec_at bX1_alone_92 1 rfl
theorem dX1_alone_94 : decode cX1_alone 94 = .ok (.getfield 216, 3) := zdec_at bX1_alone_92 2 rfl
theorem dX1_alone_97 : decode cX1_alone 97 = .ok (.lconst 1, 1) := zdec_at bX1_alone_92 3 rfl
theorem dX1_alone_98 : decode cX1_alone 98 = .ok (.invokevirtual 892, 3) := zdec_at bX1_alone_92 4 rfl
theorem dX1_alone_101 : decode cX1_alone 101 = .ok (.invokevirtual 895, 3) := zdec_at bX1_alone_92 5 rfl
theorem dX1_alone_104 : decode cX1_alone 104 = .ok (.goto 217, 3) := zdec_at bX1_alone_92 6 rfl
theorem dX1_alone_107 : decode cX1_alone 107 = .ok (.aload_n 0, 1) := zdec_at bX1_alone_92 7 rfl
theorem dX1_alone_108 : decode cX1_alone 108 = .ok (.iload_n 1, 1) := zdec_at bX1_alone_92 8 rfl
theorem dX1_alone_109 : decode cX1_alone 109 = .ok (.iload_n 3, 1) := zdec_at bX1_alone_92 9 rfl
theorem dX1_alone_110 : decode cX1_alone 110 = .ok (.ifCond .le 12, 3) := zdec_at bX1_alone_92 10 rfl
theorem dX1_alone_113 : decode cX1_alone 113 = .ok (.aload_n 0, 1) := zdec_at bX1_alone_92 11 rfl
theorem dX1_alone_114 : decode cX1_alone 114 = .ok (.aload 4, 2) := zdec_at bX1_alone_92 12 rfl
theorem dX1_alone_116 : decode cX1_alone 116 = .ok (.invokevirtual 1089, 3) := zdec_at bX1_alone_92 13 rfl
theorem dX1_alone_119 : decode cX1_alone 119 = .ok (.goto 4, 3) := zdec_at bX1_alone_92 14 rfl
theorem dX1_alone_122 : decode cX1_alone 122 = .ok (.lconst 0, 1) := zdec_at bX1_alone_92 15 rfl
theorem bX1_alone_123 : zdec cX1_alone 123 [(123, .invokevirtual 1093, 3), (126, .goto 195, 3), (129, .aload_n 0, 1), (130, .aload_n 0, 1), (131, .getfield 216, 3), (134, .iload_n 3, 1), (135, .ifCond .le 12, 3), (138, .aload_n 0, 1), (139, .aload 4, 2), (141, .invokevirtual 1089, 3), (144, .goto 8, 3), (147, .bipush 30, 2), (149, .invokestatic 741, 3), (152, .invokevirtual 892, 3), (155, .invokevirtual 895, 3), (158, .goto 163, 3)] = true := by decide +kernel
theorem dX1_alone_123 : decode cX1_alone 123 = .ok (.invokevirtual 1093, 3) := zdec_at bX1_alone_123 0 rfl
theorem dX1_alone_126 : decode cX1_alone 126 = .ok (.goto 195, 3) := zdec_at bX1_alone_123 1 rfl
theorem dX1_alone_129 : decode cX1_alone 129 = .ok (.aload_n 0, 1) := zdec_at bX1_alone_123 2 rfl
theorem dX1_alone_130 : decode cX1_alone 130 = .ok (.aload_n 0, 1) := zdec_at bX1_alone_123 3 rfl
theorem dX1_alone_131 : decode cX1_alone 131 = .ok (.getfield 216, 3) := zdec_at bX1_alone_123 4 rfl
theorem dX1_alone_134 : decode cX1_alone 134 = .ok (.iload_n 3, 1) := zdec_at bX1_alone_123 5 rfl
theorem dX1_alone_135 : decode cX1_alone 135 = .ok (.ifCond .le 12, 3) := zdec_at bX1_alone_123 6 rfl
theorem dX1_alone_138 : decode cX1_alone 138 = .ok (.aload_n 0, 1) := zdec_at bX1_alone_123 7 rfl
theorem dX1_alone_139 : decode cX1_alone 139 = .ok (.aload 4, 2) := zdec_at bX1_alone_123 8 rfl
theorem dX1_alone_141 : decode cX1_alone 141 = .ok (.invokevirtual 1089, 3) := zdec_at bX1_alone_123 9 rfl
theorem dX1_alone_144 : decode cX1_alone 144 = .ok (.goto 8, 3) := zdec_at bX1_alone_123 10 rfl
theorem dX1_alone_147 : decode cX1_alone 147 = .ok (.bipush 30, 2) := zdec_at bX1_alone_123 11 rfl
theorem dX1_alone_149 : decode cX1_alone 149 = .ok (.invokestatic 741, 3) := zdec_at bX1_alone_123 12 rfl
theorem dX1_alone_152 : decode cX1_alone 152 = .ok (.invokevirtual 892, 3) := zdec_at bX1_alone_123 13 rfl
theorem dX1_alone_155 : decode cX1_alone 155 = .ok (.invokevirtual 895, 3) := zdec_at bX1_alone_123 14 rfl
theorem dX1_alone_158 : decode cX1_alone 158 = .ok (.goto 163, 3) := zdec_at bX1_alone_123 15 rfl
theorem bX1_alone_161 : zdec cX1_alone 161 [(161, .aload 4, 2), (163, .invokevirtual 1006, 3), (166, .ifCond .eq 43, 3), (169, .aload_n 0, 1), (170, .aload_n 0, 1), (171, .getfield 216, 3), (174, .aload_n 0, 1), (175, .aload 4, 2), (177, .invokevirtual 1009, 3), (180, .aload 4, 2), (182, .invokevirtual 1011, 3), (185, .invokevirtual 412, 3), (188, .ifCond .eq 9, 3), (191, .ldc2_w 1018, 3), (194, .goto 6, 3), (197, .ldc2_w 1016, 3)] = true := by decide +kernel
theorem dX1_alone_161 : decode cX1_alone 161 = .ok (.aload 4, 2) := zdec_at bX1_alone_161 0 rfl
theorem dX1_alone_163 : decode cX1_alone 163 = .ok (.invokevirtual 1006, 3) := zdec_at bX1_alone_161 1 rfl
theorem dX1_alone_166 : decode cX1_alone 166 = .ok (.ifCond .eq 43, 3) := zdec_at bX1_alone_161 2 rfl
theorem dX1_alone_169 : decode cX1_alone 169 = .ok (.aload_n 0, 1) := zdec_at bX1_alone_161 3 rfl
theorem dX1_alone_170 : decode cX1_alone 170 = .ok (.aload_n 0, 1) := zdec_at bX1_alone_161 4 rfl
theorem dX1_alone_171 : decode cX1_alone 171 = .ok (.getfield 216, 3) := zdec_at bX1_alone_161 5 rfl
theorem dX1_alone_174 : decode cX1_alone 174 = .ok (.aload_n 0, 1) := zdec_at bX1_alone_161 6 rfl
theorem dX1_alone_175 : decode cX1_alone 175 = .ok (.aload 4, 2) := zdec_at bX1_alone_161 7 rfl
theorem dX1_alone_177 : decode cX1_alone 177 = .ok (.invokevirtual 1009, 3) := zdec_at bX1_alone_161 8 rfl
theorem dX1_alone_180 : decode cX1_alone 180 = .ok (.aload 4, 2) := zdec_at bX1_alone_161 9 rfl
theorem dX1_alone_182 : decode cX1_alone 182 = .ok (.invokevirtual 1011, 3) := zdec_at bX1_alone_161 10 rfl
theorem dX1_alone_185 : decode cX1_alone 185 = .ok (.invokevirtual 412, 3) := zdec_at bX1_alone_161 11 rfl
theorem dX1_alone_188 : decode cX1_alone 188 = .ok (.ifCond .eq 9, 3) := zdec_at bX1_alone_161 12 rfl
theorem dX1_alone_191 : decode cX1_alone 191 = .ok (.ldc2_w 1018, 3) := zdec_at bX1_alone_161 13 rfl
theorem dX1_alone_194 : decode cX1_alone 194 = .ok (.goto 6, 3) := zdec_at bX1_alone_161 14 rfl
theorem dX1_alone_197 : decode cX1_alone 197 = .ok (.ldc2_w 1016, 3) := zdec_at bX1_alone_161 15 rfl
theorem bX1_alone_200 : zdec cX1_alone 200 [(200, .invokevirtual 892, 3), (203, .invokevirtual 895, 3), (206, .goto 115, 3), (209, .aload_n 0, 1), (210, .aload_n 0, 1), (211, .getfield 216, 3), (214, .ldc2_w 1022, 3), (217, .invokevirtual 892, 3), (220, .invokevirtual 895, 3), (223, .goto 98, 3), (226, .aload_n 0, 1), (227, .iload_n 1, 1), (228, .bipush 18, 2), (230, .if_icmp .ne 7, 3), (233, .iconst 1, 1), (234, .goto 4, 3)] = true := by decide +kernel
theorem dX1_alone_200 : decode cX1_alone 200 = .ok (.invokevirtual 892, 3) := zdec_at bX1_alone_200 0 rfl
theorem dX1_alone_203 : decode cX1_alone 203 = .ok (.invokevirtual 895, 3) := zdec_at bX1_alone_200 1 rfl
theorem dX1_alone_206 : decode cX1_alone 206 = .ok (.goto 115, 3) := zdec_at bX1_alone_200 2 rfl
theorem dX1_alone_209 : decode cX1_alone 209 = .ok (.aload_n 0, 1) := zdec_at bX1_alone_200 3 rfl
theorem dX1_alone_210 : decode cX1_alone 210 = .ok (.aload_n 0, 1) := zdec_at bX1_alone_200 4 rfl
theorem dX1_alone_211 : decode cX1_alone 211 = .ok (.getfield 216, 3) := zdec_at bX1_alone_200 5 rfl
theorem dX1_alone_214 : decode cX1_alone 214 = .ok (.ldc2_w 1022, 3) := zdec_at bX1_alone_200 6 rfl
theorem dX1_alone_217 : decode cX1_alone 217 = .ok (.invokevirtual 892, 3) := zdec_at bX1_alone_200 7 rfl
theorem dX1_alone_220 : decode cX1_alone 220 = .ok (.invokevirtual 895, 3) := zdec_at bX1_alone_200 8 rfl
theorem dX1_alone_223 : decode cX1_alone 223 = .ok (.goto 98, 3) := zdec_at bX1_alone_200 9 rfl
theorem dX1_alone_226 : decode cX1_alone 226 = .ok (.aload_n 0, 1) := zdec_at bX1_alone_200 10 rfl
theorem dX1_alone_227 : decode cX1_alone 227 = .ok (.iload_n 1, 1) := zdec_at bX1_alone_200 11 rfl
theorem dX1_alone_228 : decode cX1_alone 228 = .ok (.bipush 18, 2) := zdec_at bX1_alone_200 12 rfl
theorem dX1_alone_230 : decode cX1_alone 230 = .ok (.if_icmp .ne 7, 3) := zdec_at bX1_alone_200 13 rfl
theorem dX1_alone_233 : decode cX1_alone 233 = .ok (.iconst 1, 1) := zdec_at bX1_alone_200 14 rfl
theorem dX1_alone_234 : decode cX1_alone 234 = .ok (.goto 4, 3) := zdec_at bX1_alone_200 15 rfl
theorem bX1_alone_237 : zdec cX1_alone 237 [(237, .iconst 0, 1), (238, .aload 4, 2), (240, .invokevirtual 1097, 3), (243, .goto 78, 3), (246, .aload_n 0, 1), (247, .aload 4, 2), (249, .invokevirtual 1101, 3), (252, .goto 69, 3), (255, .aload_n 0, 1), (256, .getfield 225, 3), (259, .invokevirtual 837, 3), (262, .ifCond .ne 23, 3), (265, .aload_n 0, 1), (266, .getfield 225, 3), (269, .getfield 920, 3), (272, .ldc2_w 875, 3)] = true := by decide +kernel
theorem dX1_alone_237 : decode cX1_alone 237 = .ok (.iconst 0, 1) := zdec_at bX1_alone_237 0 rfl
theorem dX1_alone_238 : decode cX1_alone 238 = .ok (.aload 4, 2) := zdec_at bX1_alone_237 1 rfl
theorem dX1_alone_240 : decode cX1_alone 240 = .ok (.invokevirtual 1097, 3) := zdec_at bX1_alone_237 2 rfl
theorem dX1_alone_243 : decode cX1_alone 243 = .ok (.goto 78, 3) := zdec_at bX1_alone_237 3 rfl
theorem dX1_alone_246 : decode cX1_alone 246 = .ok (.aload_n 0, 1) := zdec_at bX1_alone_237 4 rfl
theorem dX1_alone_247 : decode cX1_alone 247 = .ok (.aload 4, 2) := zdec_at bX1_alone_237 5 rfl
theorem dX1_alone_249 : decode cX1_alone 249 = .ok (.invokevirtual 1101, 3) := zdec_at bX1_alone_237 6 rfl
theorem dX1_alone_252 : decode cX1_alone 252 = .ok (.goto 69, 3) := zdec_at bX1_alone_237 7 rfl
theorem dX1_alone_255 : decode cX1_alone 255 = .ok (.aload_n 0, 1) := zdec_at bX1_alone_237 8 rfl
theorem dX1_alone_256 : decode cX1_alone 256 = .ok (.getfield 225, 3) := zdec_at bX1_alone_237 9 rfl
theorem dX1_alone_259 : decode cX1_alone 259 = .ok (.invokevirtual 837, 3) := zdec_at bX1_alone_237 10 rfl
theorem dX1_alone_262 : decode cX1_alone 262 = .ok (.ifCond .ne 23, 3) := zdec_at bX1_alone_237 11 rfl
theorem dX1_alone_265 : decode cX1_alone 265 = .ok (.aload_n 0, 1) := zdec_at bX1_alone_237 12 rfl
theorem dX1_alone_266 : decode cX1_alone 266 = .ok (.getfield 225, 3) := zdec_at bX1_alone_237 13 rfl
theorem dX1_alone_269 : decode cX1_alone 269 = .ok (.getfield 920, 3) := zdec_at bX1_alone_237 14 rfl
theorem dX1_alone_272 : decode cX1_alone 272 = .ok (.ldc2_w 875, 3) := zdec_at bX1_alone_237 15 rfl
theorem bX1_alone_275 : zdec cX1_alone 275 [(275, .land, 1), (276, .ldc2_w 1104, 3), (279, .land, 1), (280, .lconst 0, 1), (281, .lcmp, 1), (282, .ifCond .eq 12, 3), (285, .aload_n 0, 1), (286, .aload_n 0, 1), (287, .getfield 684, 3), (290, .iconst 0, 1), (291, .invokevirtual 960, 3), (294, .aload_n 0, 1), (295, .getfield 225, 3), (298, .sipush 384, 3), (301, .invokevirtual 831, 3), (304, .ifCond .eq 17, 3)] = true := by decide +kernel
theorem dX1_alone_275 : decode cX1_alone 275 = .ok (.land, 1) := zdec_at bX1_alone_275 0 rfl
theorem dX1_alone_276 : decode cX1_alone 276 = .ok (.ldc2_w 1104, 3) := zdec_at bX1_alone_275 1 rfl
theorem dX1_alone_279 : decode cX1_alone 279 = .ok (.land, 1) := zdec_at bX1_alone_275 2 rfl
theorem dX1_alone_280 : decode cX1_alone 280 = .ok (.lconst 0, 1) := zdec_at bX1_alone_275 3 rfl
theorem dX1_alone_281 : decode cX1_alone 281 = .ok (.lcmp, 1) := zdec_at bX1_alone_275 4 rfl
theorem dX1_alone_282 : decode cX1_alone 282 = .ok (.ifCond .eq 12, 3) := zdec_at bX1_alone_275 5 rfl
theorem dX1_alone_285 : decode cX1_alone 285 = .ok (.aload_n 0, 1) := zdec_at bX1_alone_275 6 rfl
theorem dX1_alone_286 : decode cX1_alone 286 = .ok (.aload_n 0, 1) := zdec_at bX1_alone_275 7 rfl
theorem dX1_alone_287 : decode cX1_alone 287 = .ok (.getfield 684, 3) := zdec_at bX1_alone_275 8 rfl
theorem dX1_alone_290 : decode cX1_alone 290 = .ok (.iconst 0, 1) := zdec_at bX1_alone_275 9 rfl
theorem dX1_alone_291 : decode cX1_alone 291 = .ok (.invokevirtual 960, 3) := zdec_at bX1_alone_275 10 rfl
theorem dX1_alone_294 : decode cX1_alone 294 = .ok (.aload_n 0, 1) := zdec_at bX1_alone_275 11 rfl
theorem dX1_alone_295 : decode cX1_alone 295 = .ok (.getfield 225, 3) := zdec_at bX1_alone_275 12 rfl
theorem dX1_alone_298 : decode cX1_alone 298 = .ok (.sipush 384, 3) := zdec_at bX1_alone_275 13 rfl
theorem dX1_alone_301 : decode cX1_alone 301 = .ok (.invokevirtual 831, 3) := zdec_at bX1_alone_275 14 rfl
theorem dX1_alone_304 : decode cX1_alone 304 = .ok (.ifCond .eq 17, 3) := zdec_at bX1_alone_275 15 rfl
theorem bX1_alone_307 : zdec cX1_alone 307 [(307, .aload_n 0, 1), (308, .aload_n 0, 1), (309, .getfield 216, 3), (312, .ldc2_w 613, 3), (315, .invokevirtual 892, 3), (318, .invokevirtual 895, 3), (321, .return_, 1)] = true := by decide +kernel
theorem dX1_alone_307 : decode cX1_alone 307 = .ok (.aload_n 0, 1) := zdec_at bX1_alone_307 0 rfl
theorem dX1_alone_308 : decode cX1_alone 308 = .ok (.aload_n 0, 1) := zdec_at bX1_alone_307 1 rfl
theorem dX1_alone_309 : decode cX1_alone 309 = .ok (.getfield 216, 3) := zdec_at bX1_alone_307 2 rfl
theorem dX1_alone_312 : decode cX1_alone 312 = .ok (.ldc2_w 613, 3) := zdec_at bX1_alone_307 3 rfl
theorem dX1_alone_315 : decode cX1_alone 315 = .ok (.invokevirtual 892, 3) := zdec_at bX1_alone_307 4 rfl
theorem dX1_alone_318 : decode cX1_alone 318 = .ok (.invokevirtual 895, 3) := zdec_at bX1_alone_307 5 rfl
theorem dX1_alone_321 : decode cX1_alone 321 = .ok (.return_, 1) := zdec_at bX1_alone_307 6 rfl
theorem sX1_alone_0 {E : zE} {d : Nat} {Q : zO → zM → Prop} (M : zM) (l1 : Int32) (l2 : Int32) (l3 : Int32) (hw : cw M) (k : if l3 ≤ 0 then (Z E YX6_of d M (zargs 0 [vr (some (72, 4, 0)), vl (1 : Int64)]) 0 [] (zafter E YX1_alone (d + 1) [(0, vr (some (16, 0, 0))), (1, vi l1), (3, vi l3)] 18 3 [] Q)) else (vp_in l2 9 ∧ (Z E YX1_alone (d + 1) M [(0, vr (some (16, 0, 0))), (1, vi l1), (3, vi l3)] 21 [vr (gr M 78 (l2).toNatClampNeg)] Q))) : Z E YX1_alone (d + 1) M [(0, vr (some (16, 0, 0))), (1, vi l1), (2, vi l2), (3, vi l3)] 0 [] Q := by
  refine z_iload_n dX1_alone_0 rfl rfl ?_
  refine z_if_le (tgt := 13) dX1_alone_1 rfl (fun h_ => ?_) (fun h_ => ?_)
  · have k := zit h_ k
    refine z_aload_n dX1_alone_13 rfl rfl ?_
    refine z_getr dX1_alone_14 fsX1_210_0 (show gr M 16 79 = some (72, 4, 0) from cw_at hw 40 rfl) ?_
    refine z_lconst (v := 1) dX1_alone_17 rfl ?_
    refine Z.pick [0, 1, 3] rfl ?_
    exact z_callV (as := [vl (1 : Int64)]) (st := []) dX1_alone_18 vsX1_892_4 (Nat.le_refl _) (Nat.le_of_ble_eq_true rfl) (Nat.le_of_ble_eq_true rfl) rfl k
  · have k := zif h_ k
    refine z_aload_n dX1_alone_4 rfl rfl ?_
    refine z_getr dX1_alone_5 fsX1_228_0 (show gr M 16 85 = some (78, 107, 9) from cw_at hw 46 rfl) ?_
    refine z_iload_n dX1_alone_8 rfl rfl ?_
    obtain ⟨b_, k⟩ := k
    refine z_aald (r := (gr M 78 (l2).toNatClampNeg)) (q := 7) (Or.inr rfl) dX1_alone_9 b_ rfl ?_
    refine z_goto (tgt := 21) dX1_alone_10 rfl ?_
    refine Z.pick [0, 1, 3] rfl ?_
    exact k
theorem sX1_alone_21 {E : zE} {d : Nat} {Q : zO → zM → Prop} (M : zM) (l1 : Int32) (l3 : Int32) (u0 : Option zP) (hw : cw M) (k : if l1 = 9 then (Z E YX6_of d M (zargs 0 [vr (some (74, 4, 0)), vl (1 : Int64)]) 0 [] (zafter E YX1_alone (d + 1) [] 98 3 [vr (some (16, 0, 0))] Q)) else (if l1 = 10 then (if l3 ≤ 0 then (Z E YX1_newOne d M (zargs 0 [vr (some (16, 0, 0)), vi l1, vl (0 : Int64)]) 0 [] (zafter E YX1_alone (d + 1) [] 123 3 [] Q)) else (Z E YX1_textIn d M (zargs 0 [vr (some (16, 0, 0)), vr u0]) 0 [] (zafter E YX1_alone (d + 1) [] 116 3 [vi l1, vr (some (16, 0, 0))] Q))) else (if l1 = 11 then (if l3 ≤ 0 then (Z E YX1_newOne d M (zargs 0 [vr (some (16, 0, 0)), vi l1, vl (0 : Int64)]) 0 [] (zafter E YX1_alone (d + 1) [] 123 3 [] Q)) else (Z E YX1_textIn d M (zargs 0 [vr (some (16, 0, 0)), vr u0]) 0 [] (zafter E YX1_alone (d + 1) [] 116 3 [vi l1, vr (some (16, 0, 0))] Q))) else (if l1 = 12 then (if l3 ≤ 0 then (Z E YX1_textSet d M (zargs 0 [vi (30 : Int32)]) 0 [] (zafter E YX1_alone (d + 1) [] 149 3 [vr (some (74, 4, 0)), vr (some (16, 0, 0))] Q)) else (Z E YX1_textIn d M (zargs 0 [vr (some (16, 0, 0)), vr u0]) 0 [] (zafter E YX1_alone (d + 1) [] 141 3 [vr (some (74, 4, 0)), vr (some (16, 0, 0))] Q))) else (if l1 = 13 then (∃ b1 : Nat, u0 = some (b1, 4, 0) ∧ (Z E YX6_isAlone d M (zargs 0 [vr (some (b1, 4, 0))]) 0 [] (zafter E YX1_alone (d + 1) [(0, vr (some (16, 0, 0))), (4, vr (some (b1, 4, 0)))] 163 3 [] Q))) else (if l1 = 14 then (if l3 ≤ 0 then (Z E YX1_newOne d M (zargs 0 [vr (some (16, 0, 0)), vi l1, vl (0 : Int64)]) 0 [] (zafter E YX1_alone (d + 1) [] 123 3 [] Q)) else (Z E YX1_textIn d M (zargs 0 [vr (some (16, 0, 0)), vr u0]) 0 [] (zafter E YX1_alone (d + 1) [] 116 3 [vi l1, vr (some (16, 0, 0))] Q))) else (if l1 = 15 then (if l3 ≤ 0 then (Z E YX1_newOne d M (zargs 0 [vr (some (16, 0, 0)), vi l1, vl (0 : Int64)]) 0 [] (zafter E YX1_alone (d + 1) [] 123 3 [] Q)) else (Z E YX1_textIn d M (zargs 0 [vr (some (16, 0, 0)), vr u0]) 0 [] (zafter E YX1_alone (d + 1) [] 116 3 [vi l1, vr (some (16, 0, 0))] Q))) else (if l1 = 16 then (if l3 ≤ 0 then (Z E YX1_newOne d M (zargs 0 [vr (some (16, 0, 0)), vi l1, vl (0 : Int64)]) 0 [] (zafter E YX1_alone (d + 1) [] 123 3 [] Q)) else (Z E YX1_textIn d M (zargs 0 [vr (some (16, 0, 0)), vr u0]) 0 [] (zafter E YX1_alone (d + 1) [] 116 3 [vi l1, vr (some (16, 0, 0))] Q))) else (if l1 = 17 then (if l3 ≤ 0 then (Z E YX1_newOne d M (zargs 0 [vr (some (16, 0, 0)), vi l1, vl (0 : Int64)]) 0 [] (zafter E YX1_alone (d + 1) [] 123 3 [] Q)) else (Z E YX1_textIn d M (zargs 0 [vr (some (16, 0, 0)), vr u0]) 0 [] (zafter E YX1_alone (d + 1) [] 116 3 [vi l1, vr (some (16, 0, 0))] Q))) else (if l1 = 18 then (if l1 = (18 : Int32) then (Z E YX1_rows d M (zargs 0 [vr (some (16, 0, 0)), vi (1 : Int32), vr u0]) 0 [] (zafter E YX1_alone (d + 1) [] 240 3 [] Q)) else (Z E YX1_rows d M (zargs 0 [vr (some (16, 0, 0)), vi (0 : Int32), vr u0]) 0 [] (zafter E YX1_alone (d + 1) [] 240 3 [] Q))) else (if l1 = 19 then (if l1 = (18 : Int32) then (Z E YX1_rows d M (zargs 0 [vr (some (16, 0, 0)), vi (1 : Int32), vr u0]) 0 [] (zafter E YX1_alone (d + 1) [] 240 3 [] Q)) else (Z E YX1_rows d M (zargs 0 [vr (some (16, 0, 0)), vi (0 : Int32), vr u0]) 0 [] (zafter E YX1_alone (d + 1) [] 240 3 [] Q))) else (if l1 = 20 then (Z E YX6_hasLabels d M (zargs 0 [vr (some (77, 4, 0))]) 0 [] (zafter E YX1_alone (d + 1) [(0, vr (some (16, 0, 0)))] 259 3 [] Q)) else (if l1 = 21 then (Z E YX1_hasOwn d M (zargs 0 [vr (some (16, 0, 0)), vr u0]) 0 [] (zafter E YX1_alone (d + 1) [] 249 3 [] Q)) else (Z E YX6_hasLabels d M (zargs 0 [vr (some (77, 4, 0))]) 0 [] (zafter E YX1_alone (d + 1) [(0, vr (some (16, 0, 0)))] 259 3 [] Q))))))))))))))) : Z E YX1_alone (d + 1) M [(0, vr (some (16, 0, 0))), (1, vi l1), (3, vi l3)] 21 [vr u0] Q := by
  refine z_ast dX1_alone_21 (by decide) (lv' := [(0, vr (some (16, 0, 0))), (1, vi l1), (3, vi l3), (4, vr u0)]) rfl ?_
  refine z_iload_n dX1_alone_23 rfl rfl ?_
  by_cases h0_ : l1 = 9
  · have k := zit h0_ k
    refine z_tableIn (off := 68) (tgt := 92) dX1_alone_24 (by rw [h0_]; decide) (by rw [h0_]; decide) (by rw [h0_]; rfl) rfl ?_
    refine z_aload_n dX1_alone_92 rfl rfl ?_
    refine z_aload_n dX1_alone_93 rfl rfl ?_
    refine z_getr dX1_alone_94 fsX1_216_0 (show gr M 16 81 = some (74, 4, 0) from cw_at hw 42 rfl) ?_
    refine z_lconst (v := 1) dX1_alone_97 rfl ?_
    refine Z.pick [] rfl ?_
    exact z_callV (as := [vl (1 : Int64)]) (st := [vr (some (16, 0, 0))]) dX1_alone_98 vsX1_892_4 (Nat.le_refl _) (Nat.le_of_ble_eq_true rfl) (Nat.le_of_ble_eq_true rfl) rfl k
  · have k := zif h0_ k
    by_cases h1_ : l1 = 10
    · have k := zit h1_ k
      refine z_tableIn (off := 83) (tgt := 107) dX1_alone_24 (by rw [h1_]; decide) (by rw [h1_]; decide) (by rw [h1_]; rfl) rfl ?_
      refine z_aload_n dX1_alone_107 rfl rfl ?_
      refine z_iload_n dX1_alone_108 rfl rfl ?_
      refine z_iload_n dX1_alone_109 rfl rfl ?_
      refine z_if_le (tgt := 122) dX1_alone_110 rfl (fun h_ => ?_) (fun h_ => ?_)
      · have k := zit h_ k
        refine z_lconst (v := 0) dX1_alone_122 rfl ?_
        refine Z.pick [] rfl ?_
        exact z_callV (as := [vi l1, vl (0 : Int64)]) (st := []) dX1_alone_123 vsX1_1093_0 (Nat.le_refl _) (Nat.le_of_ble_eq_true rfl) (Nat.le_of_ble_eq_true rfl) rfl k
      · have k := zif h_ k
        refine z_aload_n dX1_alone_113 rfl rfl ?_
        refine z_aload dX1_alone_114 rfl ?_
        refine Z.pick [] rfl ?_
        exact z_callV (as := [vr u0]) (st := [vi l1, vr (some (16, 0, 0))]) dX1_alone_116 vsX1_1089_0 (Nat.le_refl _) (Nat.le_of_ble_eq_true rfl) (Nat.le_of_ble_eq_true rfl) rfl k
    · have k := zif h1_ k
      by_cases h2_ : l1 = 11
      · have k := zit h2_ k
        refine z_tableIn (off := 83) (tgt := 107) dX1_alone_24 (by rw [h2_]; decide) (by rw [h2_]; decide) (by rw [h2_]; rfl) rfl ?_
        refine z_aload_n dX1_alone_107 rfl rfl ?_
        refine z_iload_n dX1_alone_108 rfl rfl ?_
        refine z_iload_n dX1_alone_109 rfl rfl ?_
        refine z_if_le (tgt := 122) dX1_alone_110 rfl (fun h_ => ?_) (fun h_ => ?_)
        · have k := zit h_ k
          refine z_lconst (v := 0) dX1_alone_122 rfl ?_
          refine Z.pick [] rfl ?_
          exact z_callV (as := [vi l1, vl (0 : Int64)]) (st := []) dX1_alone_123 vsX1_1093_0 (Nat.le_refl _) (Nat.le_of_ble_eq_true rfl) (Nat.le_of_ble_eq_true rfl) rfl k
        · have k := zif h_ k
          refine z_aload_n dX1_alone_113 rfl rfl ?_
          refine z_aload dX1_alone_114 rfl ?_
          refine Z.pick [] rfl ?_
          exact z_callV (as := [vr u0]) (st := [vi l1, vr (some (16, 0, 0))]) dX1_alone_116 vsX1_1089_0 (Nat.le_refl _) (Nat.le_of_ble_eq_true rfl) (Nat.le_of_ble_eq_true rfl) rfl k
      · have k := zif h2_ k
        by_cases h3_ : l1 = 12
        · have k := zit h3_ k
          refine z_tableIn (off := 105) (tgt := 129) dX1_alone_24 (by rw [h3_]; decide) (by rw [h3_]; decide) (by rw [h3_]; rfl) rfl ?_
          refine z_aload_n dX1_alone_129 rfl rfl ?_
          refine z_aload_n dX1_alone_130 rfl rfl ?_
          refine z_getr dX1_alone_131 fsX1_216_0 (show gr M 16 81 = some (74, 4, 0) from cw_at hw 42 rfl) ?_
          refine z_iload_n dX1_alone_134 rfl rfl ?_
          refine z_if_le (tgt := 147) dX1_alone_135 rfl (fun h_ => ?_) (fun h_ => ?_)
          · have k := zit h_ k
            refine z_bipush (v := 30) dX1_alone_147 rfl ?_
            refine Z.pick [] rfl ?_
            exact z_callS (as := [vi (30 : Int32)]) (st := [vr (some (74, 4, 0)), vr (some (16, 0, 0))]) dX1_alone_149 ssX1_741 (Nat.le_refl _) (Nat.le_of_ble_eq_true rfl) (Nat.le_of_ble_eq_true rfl) rfl k
          · have k := zif h_ k
            refine z_aload_n dX1_alone_138 rfl rfl ?_
            refine z_aload dX1_alone_139 rfl ?_
            refine Z.pick [] rfl ?_
            exact z_callV (as := [vr u0]) (st := [vr (some (74, 4, 0)), vr (some (16, 0, 0))]) dX1_alone_141 vsX1_1089_0 (Nat.le_refl _) (Nat.le_of_ble_eq_true rfl) (Nat.le_of_ble_eq_true rfl) rfl k
        · have k := zif h3_ k
          by_cases h4_ : l1 = 13
          · have k := zit h4_ k
            refine z_tableIn (off := 137) (tgt := 161) dX1_alone_24 (by rw [h4_]; decide) (by rw [h4_]; decide) (by rw [h4_]; rfl) rfl ?_
            refine z_aload dX1_alone_161 rfl ?_
            obtain ⟨b1, e1_, k⟩ := k
            refine Z.eqs (lv' := [(0, vr (some (16, 0, 0))), (1, vi l1), (3, vi l3), (4, vr (some (b1, 4, 0)))]) (st' := [vr (some (b1, 4, 0))]) (by rw [e1_] <;> rfl) (by rw [e1_] <;> rfl) ?_
            refine Z.pick [0, 3] rfl ?_
            exact z_callV (as := []) (st := []) dX1_alone_163 vsX1_1006_4 (Nat.le_refl _) (Nat.le_of_ble_eq_true rfl) (Nat.le_of_ble_eq_true rfl) rfl k
          · have k := zif h4_ k
            by_cases h5_ : l1 = 14
            · have k := zit h5_ k
              refine z_tableIn (off := 83) (tgt := 107) dX1_alone_24 (by rw [h5_]; decide) (by rw [h5_]; decide) (by rw [h5_]; rfl) rfl ?_
              refine z_aload_n dX1_alone_107 rfl rfl ?_
              refine z_iload_n dX1_alone_108 rfl rfl ?_
              refine z_iload_n dX1_alone_109 rfl rfl ?_
              refine z_if_le (tgt := 122) dX1_alone_110 rfl (fun h_ => ?_) (fun h_ => ?_)
              · have k := zit h_ k
                refine z_lconst (v := 0) dX1_alone_122 rfl ?_
                refine Z.pick [] rfl ?_
                exact z_callV (as := [vi l1, vl (0 : Int64)]) (st := []) dX1_alone_123 vsX1_1093_0 (Nat.le_refl _) (Nat.le_of_ble_eq_true rfl) (Nat.le_of_ble_eq_true rfl) rfl k
              · have k := zif h_ k
                refine z_aload_n dX1_alone_113 rfl rfl ?_
                refine z_aload dX1_alone_114 rfl ?_
                refine Z.pick [] rfl ?_
                exact z_callV (as := [vr u0]) (st := [vi l1, vr (some (16, 0, 0))]) dX1_alone_116 vsX1_1089_0 (Nat.le_refl _) (Nat.le_of_ble_eq_true rfl) (Nat.le_of_ble_eq_true rfl) rfl k
            · have k := zif h5_ k
              by_cases h6_ : l1 = 15
              · have k := zit h6_ k
                refine z_tableIn (off := 83) (tgt := 107) dX1_alone_24 (by rw [h6_]; decide) (by rw [h6_]; decide) (by rw [h6_]; rfl) rfl ?_
                refine z_aload_n dX1_alone_107 rfl rfl ?_
                refine z_iload_n dX1_alone_108 rfl rfl ?_
                refine z_iload_n dX1_alone_109 rfl rfl ?_
                refine z_if_le (tgt := 122) dX1_alone_110 rfl (fun h_ => ?_) (fun h_ => ?_)
                · have k := zit h_ k
                  refine z_lconst (v := 0) dX1_alone_122 rfl ?_
                  refine Z.pick [] rfl ?_
                  exact z_callV (as := [vi l1, vl (0 : Int64)]) (st := []) dX1_alone_123 vsX1_1093_0 (Nat.le_refl _) (Nat.le_of_ble_eq_true rfl) (Nat.le_of_ble_eq_true rfl) rfl k
                · have k := zif h_ k
                  refine z_aload_n dX1_alone_113 rfl rfl ?_
                  refine z_aload dX1_alone_114 rfl ?_
                  refine Z.pick [] rfl ?_
                  exact z_callV (as := [vr u0]) (st := [vi l1, vr (some (16, 0, 0))]) dX1_alone_116 vsX1_1089_0 (Nat.le_refl _) (Nat.le_of_ble_eq_true rfl) (Nat.le_of_ble_eq_true rfl) rfl k
              · have k := zif h6_ k
                by_cases h7_ : l1 = 16
                · have k := zit h7_ k
                  refine z_tableIn (off := 83) (tgt := 107) dX1_alone_24 (by rw [h7_]; decide) (by rw [h7_]; decide) (by rw [h7_]; rfl) rfl ?_
                  refine z_aload_n dX1_alone_107 rfl rfl ?_
                  refine z_iload_n dX1_alone_108 rfl rfl ?_
                  refine z_iload_n dX1_alone_109 rfl rfl ?_
                  refine z_if_le (tgt := 122) dX1_alone_110 rfl (fun h_ => ?_) (fun h_ => ?_)
                  · have k := zit h_ k
                    refine z_lconst (v := 0) dX1_alone_122 rfl ?_
                    refine Z.pick [] rfl ?_
                    exact z_callV (as := [vi l1, vl (0 : Int64)]) (st := []) dX1_alone_123 vsX1_1093_0 (Nat.le_refl _) (Nat.le_of_ble_eq_true rfl) (Nat.le_of_ble_eq_true rfl) rfl k
                  · have k := zif h_ k
                    refine z_aload_n dX1_alone_113 rfl rfl ?_
                    refine z_aload dX1_alone_114 rfl ?_
                    refine Z.pick [] rfl ?_
                    exact z_callV (as := [vr u0]) (st := [vi l1, vr (some (16, 0, 0))]) dX1_alone_116 vsX1_1089_0 (Nat.le_refl _) (Nat.le_of_ble_eq_true rfl) (Nat.le_of_ble_eq_true rfl) rfl k
                · have k := zif h7_ k
                  by_cases h8_ : l1 = 17
                  · have k := zit h8_ k
                    refine z_tableIn (off := 83) (tgt := 107) dX1_alone_24 (by rw [h8_]; decide) (by rw [h8_]; decide) (by rw [h8_]; rfl) rfl ?_
                    refine z_aload_n dX1_alone_107 rfl rfl ?_
                    refine z_iload_n dX1_alone_108 rfl rfl ?_
                    refine z_iload_n dX1_alone_109 rfl rfl ?_
                    refine z_if_le (tgt := 122) dX1_alone_110 rfl (fun h_ => ?_) (fun h_ => ?_)
                    · have k := zit h_ k
                      refine z_lconst (v := 0) dX1_alone_122 rfl ?_
                      refine Z.pick [] rfl ?_
                      exact z_callV (as := [vi l1, vl (0 : Int64)]) (st := []) dX1_alone_123 vsX1_1093_0 (Nat.le_refl _) (Nat.le_of_ble_eq_true rfl) (Nat.le_of_ble_eq_true rfl) rfl k
                    · have k := zif h_ k
                      refine z_aload_n dX1_alone_113 rfl rfl ?_
                      refine z_aload dX1_alone_114 rfl ?_
                      refine Z.pick [] rfl ?_
                      exact z_callV (as := [vr u0]) (st := [vi l1, vr (some (16, 0, 0))]) dX1_alone_116 vsX1_1089_0 (Nat.le_refl _) (Nat.le_of_ble_eq_true rfl) (Nat.le_of_ble_eq_true rfl) rfl k
                  · have k := zif h8_ k
                    by_cases h9_ : l1 = 18
                    · have k := zit h9_ k
                      refine z_tableIn (off := 202) (tgt := 226) dX1_alone_24 (by rw [h9_]; decide) (by rw [h9_]; decide) (by rw [h9_]; rfl) rfl ?_
                      refine z_aload_n dX1_alone_226 rfl rfl ?_
                      refine z_iload_n dX1_alone_227 rfl rfl ?_
                      refine z_bipush (v := 18) dX1_alone_228 rfl ?_
                      refine z_icmp_ne (tgt := 237) dX1_alone_230 rfl (fun h_ => ?_) (fun h_ => ?_)
                      · have k := zif h_ k
                        refine z_iconst (v := 0) dX1_alone_237 rfl ?_
                        refine z_aload dX1_alone_238 rfl ?_
                        refine Z.pick [] rfl ?_
                        exact z_callV (as := [vi (0 : Int32), vr u0]) (st := []) dX1_alone_240 vsX1_1097_0 (Nat.le_refl _) (Nat.le_of_ble_eq_true rfl) (Nat.le_of_ble_eq_true rfl) rfl k
                      · have k := zit h_ k
                        refine z_iconst (v := 1) dX1_alone_233 rfl ?_
                        refine z_goto (tgt := 238) dX1_alone_234 rfl ?_
                        refine z_aload dX1_alone_238 rfl ?_
                        refine Z.pick [] rfl ?_
                        exact z_callV (as := [vi (1 : Int32), vr u0]) (st := []) dX1_alone_240 vsX1_1097_0 (Nat.le_refl _) (Nat.le_of_ble_eq_true rfl) (Nat.le_of_ble_eq_true rfl) rfl k
                    · have k := zif h9_ k
                      by_cases h10_ : l1 = 19
                      · have k := zit h10_ k
                        refine z_tableIn (off := 202) (tgt := 226) dX1_alone_24 (by rw [h10_]; decide) (by rw [h10_]; decide) (by rw [h10_]; rfl) rfl ?_
                        refine z_aload_n dX1_alone_226 rfl rfl ?_
                        refine z_iload_n dX1_alone_227 rfl rfl ?_
                        refine z_bipush (v := 18) dX1_alone_228 rfl ?_
                        refine z_icmp_ne (tgt := 237) dX1_alone_230 rfl (fun h_ => ?_) (fun h_ => ?_)
                        · have k := zif h_ k
                          refine z_iconst (v := 0) dX1_alone_237 rfl ?_
                          refine z_aload dX1_alone_238 rfl ?_
                          refine Z.pick [] rfl ?_
                          exact z_callV (as := [vi (0 : Int32), vr u0]) (st := []) dX1_alone_240 vsX1_1097_0 (Nat.le_refl _) (Nat.le_of_ble_eq_true rfl) (Nat.le_of_ble_eq_true rfl) rfl k
                        · have k := zit h_ k
                          refine z_iconst (v := 1) dX1_alone_233 rfl ?_
                          refine z_goto (tgt := 238) dX1_alone_234 rfl ?_
                          refine z_aload dX1_alone_238 rfl ?_
                          refine Z.pick [] rfl ?_
                          exact z_callV (as := [vi (1 : Int32), vr u0]) (st := []) dX1_alone_240 vsX1_1097_0 (Nat.le_refl _) (Nat.le_of_ble_eq_true rfl) (Nat.le_of_ble_eq_true rfl) rfl k
                      · have k := zif h10_ k
                        by_cases h11_ : l1 = 20
                        · have k := zit h11_ k
                          refine z_tableIn (off := 231) (tgt := 255) dX1_alone_24 (by rw [h11_]; decide) (by rw [h11_]; decide) (by rw [h11_]; rfl) rfl ?_
                          refine z_aload_n dX1_alone_255 rfl rfl ?_
                          refine z_getr dX1_alone_256 fsX1_225_0 (show gr M 16 84 = some (77, 4, 0) from cw_at hw 45 rfl) ?_
                          refine Z.pick [0] rfl ?_
                          exact z_callV (as := []) (st := []) dX1_alone_259 vsX1_837_4 (Nat.le_refl _) (Nat.le_of_ble_eq_true rfl) (Nat.le_of_ble_eq_true rfl) rfl k
                        · have k := zif h11_ k
                          by_cases h12_ : l1 = 21
                          · have k := zit h12_ k
                            refine z_tableIn (off := 222) (tgt := 246) dX1_alone_24 (by rw [h12_]; decide) (by rw [h12_]; decide) (by rw [h12_]; rfl) rfl ?_
                            refine z_aload_n dX1_alone_246 rfl rfl ?_
                            refine z_aload dX1_alone_247 rfl ?_
                            refine Z.pick [] rfl ?_
                            exact z_callV (as := [vr u0]) (st := []) dX1_alone_249 vsX1_1101_0 (Nat.le_refl _) (Nat.le_of_ble_eq_true rfl) (Nat.le_of_ble_eq_true rfl) rfl k
                          · have k := zif h12_ k
                            refine z_tout (tgt := 255) [9, 10, 11, 12, 13, 14, 15, 16, 17, 18, 19, 20, 21] (by decide) dX1_alone_24 (zall_1 h0_ (zall_1 h1_ (zall_1 h2_ (zall_1 h3_ (zall_1 h4_ (zall_1 h5_ (zall_1 h6_ (zall_1 h7_ (zall_1 h8_ (zall_1 h9_ (zall_1 h10_ (zall_1 h11_ (zall_1 h12_ zall_0))))))))))))) rfl ?_
                            refine z_aload_n dX1_alone_255 rfl rfl ?_
                            refine z_getr dX1_alone_256 fsX1_225_0 (show gr M 16 84 = some (77, 4, 0) from cw_at hw 45 rfl) ?_
                            refine Z.pick [0] rfl ?_
                            exact z_callV (as := []) (st := []) dX1_alone_259 vsX1_837_4 (Nat.le_refl _) (Nat.le_of_ble_eq_true rfl) (Nat.le_of_ble_eq_true rfl) rfl k
theorem sX1_alone_101 {E : zE} {d : Nat} {Q : zO → zM → Prop} (M : zM) (u0 : Option zP) (hw : cw M) (k : Z E YX1_nextWith d M (zargs 0 [vr (some (16, 0, 0)), vr u0]) 0 [] (zafter E YX1_alone (d + 1) [] 101 3 [] Q)) : Z E YX1_alone (d + 1) M [] 101 [vr u0, vr (some (16, 0, 0))] Q := by
  exact z_callV (as := [vr u0]) (st := []) dX1_alone_101 vsX1_895_0 (Nat.le_refl _) (Nat.le_of_ble_eq_true rfl) (Nat.le_of_ble_eq_true rfl) rfl k
theorem sX1_alone_104 {E : zE} {d : Nat} {Q : zO → zM → Prop} (M : zM)  (hw : cw M) (k : Z E YX1_alone (d + 1) M [] 321 [] Q) : Z E YX1_alone (d + 1) M [] 104 [] Q := by
  refine z_goto (tgt := 321) dX1_alone_104 rfl ?_
  exact k
theorem sX1_alone_119 {E : zE} {d : Nat} {Q : zO → zM → Prop} (M : zM) (s0 : Int64) (s1 : Int32) (hw : cw M) (k : Z E YX1_newOne d M (zargs 0 [vr (some (16, 0, 0)), vi s1, vl s0]) 0 [] (zafter E YX1_alone (d + 1) [] 123 3 [] Q)) : Z E YX1_alone (d + 1) M [] 119 [vl s0, vi s1, vr (some (16, 0, 0))] Q := by
  refine z_goto (tgt := 123) dX1_alone_119 rfl ?_
  exact z_callV (as := [vi s1, vl s0]) (st := []) dX1_alone_123 vsX1_1093_0 (Nat.le_refl _) (Nat.le_of_ble_eq_true rfl) (Nat.le_of_ble_eq_true rfl) rfl k
theorem sX1_alone_126 {E : zE} {d : Nat} {Q : zO → zM → Prop} (M : zM)  (hw : cw M) (k : Z E YX1_alone (d + 1) M [] 321 [] Q) : Z E YX1_alone (d + 1) M [] 126 [] Q := by
  refine z_goto (tgt := 321) dX1_alone_126 rfl ?_
  exact k
theorem sX1_alone_144 {E : zE} {d : Nat} {Q : zO → zM → Prop} (M : zM) (s0 : Int64) (hw : cw M) (k : Z E YX1_alone (d + 1) M [] 152 [vl s0, vr (some (74, 4, 0)), vr (some (16, 0, 0))] Q) : Z E YX1_alone (d + 1) M [] 144 [vl s0, vr (some (74, 4, 0)), vr (some (16, 0, 0))] Q := by
  refine z_goto (tgt := 152) dX1_alone_144 rfl ?_
  exact k
theorem sX1_alone_152 {E : zE} {d : Nat} {Q : zO → zM → Prop} (M : zM) (s0 : Int64) (hw : cw M) (k : Z E YX6_of d M (zargs 0 [vr (some (74, 4, 0)), vl s0]) 0 [] (zafter E YX1_alone (d + 1) [] 152 3 [vr (some (16, 0, 0))] Q)) : Z E YX1_alone (d + 1) M [] 152 [vl s0, vr (some (74, 4, 0)), vr (some (16, 0, 0))] Q := by
  exact z_callV (as := [vl s0]) (st := [vr (some (16, 0, 0))]) dX1_alone_152 vsX1_892_4 (Nat.le_refl _) (Nat.le_of_ble_eq_true rfl) (Nat.le_of_ble_eq_true rfl) rfl k
theorem sX1_alone_155 {E : zE} {d : Nat} {Q : zO → zM → Prop} (M : zM) (u0 : Option zP) (hw : cw M) (k : Z E YX1_nextWith d M (zargs 0 [vr (some (16, 0, 0)), vr u0]) 0 [] (zafter E YX1_alone (d + 1) [] 155 3 [] Q)) : Z E YX1_alone (d + 1) M [] 155 [vr u0, vr (some (16, 0, 0))] Q := by
  exact z_callV (as := [vr u0]) (st := []) dX1_alone_155 vsX1_895_0 (Nat.le_refl _) (Nat.le_of_ble_eq_true rfl) (Nat.le_of_ble_eq_true rfl) rfl k
theorem sX1_alone_158 {E : zE} {d : Nat} {Q : zO → zM → Prop} (M : zM)  (hw : cw M) (k : Z E YX1_alone (d + 1) M [] 321 [] Q) : Z E YX1_alone (d + 1) M [] 158 [] Q := by
  refine z_goto (tgt := 321) dX1_alone_158 rfl ?_
  exact k
theorem sX1_alone_166 {E : zE} {d : Nat} {Q : zO → zM → Prop} (M : zM) (a4 : Nat) (s0 : Int32) (hw : cw M) (k : if s0 = 0 then (Z E YX6_of d M (zargs 0 [vr (some (74, 4, 0)), vl (12 : Int64)]) 0 [] (zafter E YX1_alone (d + 1) [] 217 3 [vr (some (16, 0, 0))] Q)) else (Z E YX6_sort d M (zargs 0 [vr (some (a4, 4, 0))]) 0 [] (zafter E YX1_alone (d + 1) [(4, vr (some (a4, 4, 0)))] 177 3 [vr (some (16, 0, 0)), vr (some (74, 4, 0)), vr (some (16, 0, 0))] Q))) : Z E YX1_alone (d + 1) M [(0, vr (some (16, 0, 0))), (4, vr (some (a4, 4, 0)))] 166 [vi s0] Q := by
  refine z_if_eq (tgt := 209) dX1_alone_166 rfl (fun h_ => ?_) (fun h_ => ?_)
  · have k := zit h_ k
    refine z_aload_n dX1_alone_209 rfl rfl ?_
    refine z_aload_n dX1_alone_210 rfl rfl ?_
    refine z_getr dX1_alone_211 fsX1_216_0 (show gr M 16 81 = some (74, 4, 0) from cw_at hw 42 rfl) ?_
    refine z_ldc2 (v := 12) dX1_alone_214 q3407 ?_
    refine Z.pick [] rfl ?_
    exact z_callV (as := [vl (12 : Int64)]) (st := [vr (some (16, 0, 0))]) dX1_alone_217 vsX1_892_4 (Nat.le_refl _) (Nat.le_of_ble_eq_true rfl) (Nat.le_of_ble_eq_true rfl) rfl k
  · have k := zif h_ k
    refine z_aload_n dX1_alone_169 rfl rfl ?_
    refine z_aload_n dX1_alone_170 rfl rfl ?_
    refine z_getr dX1_alone_171 fsX1_216_0 (show gr M 16 81 = some (74, 4, 0) from cw_at hw 42 rfl) ?_
    refine z_aload_n dX1_alone_174 rfl rfl ?_
    refine z_aload dX1_alone_175 rfl ?_
    refine Z.pick [1] rfl ?_
    exact z_callV (as := []) (st := [vr (some (16, 0, 0)), vr (some (74, 4, 0)), vr (some (16, 0, 0))]) dX1_alone_177 vsX1_1009_4 (Nat.le_refl _) (Nat.le_of_ble_eq_true rfl) (Nat.le_of_ble_eq_true rfl) rfl k
theorem sX1_alone_180 {E : zE} {d : Nat} {Q : zO → zM → Prop} (M : zM) (a4 : Nat) (s0 : Int32) (hw : cw M) (k : Z E YX6_value d M (zargs 0 [vr (some (a4, 4, 0))]) 0 [] (zafter E YX1_alone (d + 1) [] 182 3 [vi s0, vr (some (16, 0, 0)), vr (some (74, 4, 0)), vr (some (16, 0, 0))] Q)) : Z E YX1_alone (d + 1) M [(4, vr (some (a4, 4, 0)))] 180 [vi s0, vr (some (16, 0, 0)), vr (some (74, 4, 0)), vr (some (16, 0, 0))] Q := by
  refine z_aload dX1_alone_180 rfl ?_
  refine Z.pick [] rfl ?_
  exact z_callV (as := []) (st := [vi s0, vr (some (16, 0, 0)), vr (some (74, 4, 0)), vr (some (16, 0, 0))]) dX1_alone_182 vsX1_1011_4 (Nat.le_refl _) (Nat.le_of_ble_eq_true rfl) (Nat.le_of_ble_eq_true rfl) rfl k
theorem sX1_alone_185 {E : zE} {d : Nat} {Q : zO → zM → Prop} (M : zM) (s0 : Int32) (s1 : Int32) (hw : cw M) (k : Z E YX1_hasNumber d M (zargs 0 [vr (some (16, 0, 0)), vi s1, vi s0]) 0 [] (zafter E YX1_alone (d + 1) [] 185 3 [vr (some (74, 4, 0)), vr (some (16, 0, 0))] Q)) : Z E YX1_alone (d + 1) M [] 185 [vi s0, vi s1, vr (some (16, 0, 0)), vr (some (74, 4, 0)), vr (some (16, 0, 0))] Q := by
  exact z_callV (as := [vi s1, vi s0]) (st := [vr (some (74, 4, 0)), vr (some (16, 0, 0))]) dX1_alone_185 vsX1_412_0 (Nat.le_refl _) (Nat.le_of_ble_eq_true rfl) (Nat.le_of_ble_eq_true rfl) rfl k
theorem sX1_alone_188 {E : zE} {d : Nat} {Q : zO → zM → Prop} (M : zM) (s0 : Int32) (hw : cw M) (k : if s0 = 0 then (Z E YX6_of d M (zargs 0 [vr (some (74, 4, 0)), vl (4 : Int64)]) 0 [] (zafter E YX1_alone (d + 1) [] 200 3 [vr (some (16, 0, 0))] Q)) else (Z E YX6_of d M (zargs 0 [vr (some (74, 4, 0)), vl (8 : Int64)]) 0 [] (zafter E YX1_alone (d + 1) [] 200 3 [vr (some (16, 0, 0))] Q))) : Z E YX1_alone (d + 1) M [] 188 [vi s0, vr (some (74, 4, 0)), vr (some (16, 0, 0))] Q := by
  refine z_if_eq (tgt := 197) dX1_alone_188 rfl (fun h_ => ?_) (fun h_ => ?_)
  · have k := zit h_ k
    refine z_ldc2 (v := 4) dX1_alone_197 q3365 ?_
    exact z_callV (as := [vl (4 : Int64)]) (st := [vr (some (16, 0, 0))]) dX1_alone_200 vsX1_892_4 (Nat.le_refl _) (Nat.le_of_ble_eq_true rfl) (Nat.le_of_ble_eq_true rfl) rfl k
  · have k := zif h_ k
    refine z_ldc2 (v := 8) dX1_alone_191 q3392 ?_
    refine z_goto (tgt := 200) dX1_alone_194 rfl ?_
    exact z_callV (as := [vl (8 : Int64)]) (st := [vr (some (16, 0, 0))]) dX1_alone_200 vsX1_892_4 (Nat.le_refl _) (Nat.le_of_ble_eq_true rfl) (Nat.le_of_ble_eq_true rfl) rfl k
theorem sX1_alone_203 {E : zE} {d : Nat} {Q : zO → zM → Prop} (M : zM) (u0 : Option zP) (hw : cw M) (k : Z E YX1_nextWith d M (zargs 0 [vr (some (16, 0, 0)), vr u0]) 0 [] (zafter E YX1_alone (d + 1) [] 203 3 [] Q)) : Z E YX1_alone (d + 1) M [] 203 [vr u0, vr (some (16, 0, 0))] Q := by
  exact z_callV (as := [vr u0]) (st := []) dX1_alone_203 vsX1_895_0 (Nat.le_refl _) (Nat.le_of_ble_eq_true rfl) (Nat.le_of_ble_eq_true rfl) rfl k
theorem sX1_alone_206 {E : zE} {d : Nat} {Q : zO → zM → Prop} (M : zM)  (hw : cw M) (k : Z E YX1_alone (d + 1) M [] 321 [] Q) : Z E YX1_alone (d + 1) M [] 206 [] Q := by
  refine z_goto (tgt := 321) dX1_alone_206 rfl ?_
  exact k
theorem sX1_alone_220 {E : zE} {d : Nat} {Q : zO → zM → Prop} (M : zM) (u0 : Option zP) (hw : cw M) (k : Z E YX1_nextWith d M (zargs 0 [vr (some (16, 0, 0)), vr u0]) 0 [] (zafter E YX1_alone (d + 1) [] 220 3 [] Q)) : Z E YX1_alone (d + 1) M [] 220 [vr u0, vr (some (16, 0, 0))] Q := by
  exact z_callV (as := [vr u0]) (st := []) dX1_alone_220 vsX1_895_0 (Nat.le_refl _) (Nat.le_of_ble_eq_true rfl) (Nat.le_of_ble_eq_true rfl) rfl k
theorem sX1_alone_223 {E : zE} {d : Nat} {Q : zO → zM → Prop} (M : zM)  (hw : cw M) (k : Z E YX1_alone (d + 1) M [] 321 [] Q) : Z E YX1_alone (d + 1) M [] 223 [] Q := by
  refine z_goto (tgt := 321) dX1_alone_223 rfl ?_
  exact k
theorem sX1_alone_243 {E : zE} {d : Nat} {Q : zO → zM → Prop} (M : zM)  (hw : cw M) (k : Z E YX1_alone (d + 1) M [] 321 [] Q) : Z E YX1_alone (d + 1) M [] 243 [] Q := by
  refine z_goto (tgt := 321) dX1_alone_243 rfl ?_
  exact k
theorem sX1_alone_252 {E : zE} {d : Nat} {Q : zO → zM → Prop} (M : zM)  (hw : cw M) (k : Z E YX1_alone (d + 1) M [] 321 [] Q) : Z E YX1_alone (d + 1) M [] 252 [] Q := by
  refine z_goto (tgt := 321) dX1_alone_252 rfl ?_
  exact k
theorem sX1_alone_262 {E : zE} {d : Nat} {Q : zO → zM → Prop} (M : zM) (s0 : Int32) (hw : cw M) (k : if s0 = 0 then (if (lg_cmp (((gl M 77 2) &&& (511 : Int64)) &&& (-385 : Int64)) (0 : Int64)) = 0 then (Z E YX1_alone (d + 1) M [(0, vr (some (16, 0, 0)))] 294 [] Q) else (Z E YX1_errs d M (zargs 0 [vr (some (16, 0, 0)), vr (gr M 16 60), vi (0 : Int32)]) 0 [] (zafter E YX1_alone (d + 1) [(0, vr (some (16, 0, 0)))] 291 3 [] Q))) else (Z E YX1_errs d M (zargs 0 [vr (some (16, 0, 0)), vr (gr M 16 60), vi (0 : Int32)]) 0 [] (zafter E YX1_alone (d + 1) [(0, vr (some (16, 0, 0)))] 291 3 [] Q))) : Z E YX1_alone (d + 1) M [(0, vr (some (16, 0, 0)))] 262 [vi s0] Q := by
  refine z_if_ne (tgt := 285) dX1_alone_262 rfl (fun h_ => ?_) (fun h_ => ?_)
  · have k := zif h_ k
    refine z_aload_n dX1_alone_285 rfl rfl ?_
    refine z_aload_n dX1_alone_286 rfl rfl ?_
    refine z_getr (r := (gr M 16 60)) dX1_alone_287 fsX1_684_0 rfl ?_
    refine z_iconst (v := 0) dX1_alone_290 rfl ?_
    exact z_callV (as := [vr (gr M 16 60), vi (0 : Int32)]) (st := []) dX1_alone_291 vsX1_960_0 (Nat.le_refl _) (Nat.le_of_ble_eq_true rfl) (Nat.le_of_ble_eq_true rfl) rfl k
  · have k := zit h_ k
    refine z_aload_n dX1_alone_265 rfl rfl ?_
    refine z_getr dX1_alone_266 fsX1_225_0 (show gr M 16 84 = some (77, 4, 0) from cw_at hw 45 rfl) ?_
    refine z_getl dX1_alone_269 fsX1_920_4 ?_
    refine z_ldc2 (v := 511) dX1_alone_272 q3350 ?_
    refine z_land dX1_alone_275 ?_
    refine z_ldc2 (v := -385) dX1_alone_276 q3450 ?_
    refine z_land dX1_alone_279 ?_
    refine z_lconst (v := 0) dX1_alone_280 rfl ?_
    refine z_lcmp dX1_alone_281 ?_
    refine z_if_eq (tgt := 294) dX1_alone_282 rfl (fun h_ => ?_) (fun h_ => ?_)
    · have k := zit h_ k
      exact k
    · have k := zif h_ k
      refine z_aload_n dX1_alone_285 rfl rfl ?_
      refine z_aload_n dX1_alone_286 rfl rfl ?_
      refine z_getr (r := (gr M 16 60)) dX1_alone_287 fsX1_684_0 rfl ?_
      refine z_iconst (v := 0) dX1_alone_290 rfl ?_
      exact z_callV (as := [vr (gr M 16 60), vi (0 : Int32)]) (st := []) dX1_alone_291 vsX1_960_0 (Nat.le_refl _) (Nat.le_of_ble_eq_true rfl) (Nat.le_of_ble_eq_true rfl) rfl k
theorem sX1_alone_294 {E : zE} {d : Nat} {Q : zO → zM → Prop} (M : zM)  (hw : cw M) (k : Z E YX6_has d M (zargs 0 [vr (some (77, 4, 0)), vi (384 : Int32)]) 0 [] (zafter E YX1_alone (d + 1) [(0, vr (some (16, 0, 0)))] 301 3 [] Q)) : Z E YX1_alone (d + 1) M [(0, vr (some (16, 0, 0)))] 294 [] Q := by
  refine z_aload_n dX1_alone_294 rfl rfl ?_
  refine z_getr dX1_alone_295 fsX1_225_0 (show gr M 16 84 = some (77, 4, 0) from cw_at hw 45 rfl) ?_
  refine z_sipush (v := 384) dX1_alone_298 rfl ?_
  exact z_callV (as := [vi (384 : Int32)]) (st := []) dX1_alone_301 vsX1_831_4 (Nat.le_refl _) (Nat.le_of_ble_eq_true rfl) (Nat.le_of_ble_eq_true rfl) rfl k
theorem sX1_alone_304 {E : zE} {d : Nat} {Q : zO → zM → Prop} (M : zM) (s0 : Int32) (hw : cw M) (k : if s0 = 0 then (Z E YX1_alone (d + 1) M [] 321 [] Q) else (Z E YX6_of d M (zargs 0 [vr (some (74, 4, 0)), vl (256 : Int64)]) 0 [] (zafter E YX1_alone (d + 1) [] 315 3 [vr (some (16, 0, 0))] Q))) : Z E YX1_alone (d + 1) M [(0, vr (some (16, 0, 0)))] 304 [vi s0] Q := by
  refine z_if_eq (tgt := 321) dX1_alone_304 rfl (fun h_ => ?_) (fun h_ => ?_)
  · have k := zit h_ k
    refine Z.pick [] rfl ?_
    exact k
  · have k := zif h_ k
    refine z_aload_n dX1_alone_307 rfl rfl ?_
    refine z_aload_n dX1_alone_308 rfl rfl ?_
    refine z_getr dX1_alone_309 fsX1_216_0 (show gr M 16 81 = some (74, 4, 0) from cw_at hw 42 rfl) ?_
    refine z_ldc2 (v := 256) dX1_alone_312 q2569 ?_
    refine Z.pick [] rfl ?_
    exact z_callV (as := [vl (256 : Int64)]) (st := [vr (some (16, 0, 0))]) dX1_alone_315 vsX1_892_4 (Nat.le_refl _) (Nat.le_of_ble_eq_true rfl) (Nat.le_of_ble_eq_true rfl) rfl k
theorem sX1_alone_318 {E : zE} {d : Nat} {Q : zO → zM → Prop} (M : zM) (u0 : Option zP) (hw : cw M) (k : Z E YX1_nextWith d M (zargs 0 [vr (some (16, 0, 0)), vr u0]) 0 [] (zafter E YX1_alone (d + 1) [] 318 3 [] Q)) : Z E YX1_alone (d + 1) M [] 318 [vr u0, vr (some (16, 0, 0))] Q := by
  exact z_callV (as := [vr u0]) (st := []) dX1_alone_318 vsX1_895_0 (Nat.le_refl _) (Nat.le_of_ble_eq_true rfl) (Nat.le_of_ble_eq_true rfl) rfl k
theorem sX1_alone_321 {E : zE} {d : Nat} {Q : zO → zM → Prop} (M : zM)  (hw : cw M) (k : Q (.inl none) M) : Z E YX1_alone (d + 1) M [] 321 [] Q := by
  exact z_vret dX1_alone_321 rfl k
/-! ScriptTypes.textIn(LScriptTypes$Bag;)J -/
theorem bX1_textIn_0 : zdec cX1_textIn 0 [(0, .aload_n 0, 1), (1, .aload_n 1, 1), (2, .invokevirtual 883, 3), (5, .aload_n 0, 1), (6, .invokevirtual 886, 3), (9, .invokestatic 741, 3), (12, .lreturn, 1)] = true := by decide +kernel
theorem dX1_textIn_0 : decode cX1_textIn 0 = .ok (.aload_n 0, 1) := zdec_at bX1_textIn_0 0 rfl
theorem dX1_textIn_1 : decode cX1_textIn 1 = .ok (.aload_n 1, 1) := zdec_at bX1_textIn_0 1 rfl
theorem dX1_textIn_2 : decode cX1_textIn 2 = .ok (.invokevirtual 883, 3) := zdec_at bX1_textIn_0 2 rfl
theorem dX1_textIn_5 : decode cX1_textIn 5 = .ok (.aload_n 0, 1) := zdec_at bX1_textIn_0 3 rfl
theorem dX1_textIn_6 : decode cX1_textIn 6 = .ok (.invokevirtual 886, 3) := zdec_at bX1_textIn_0 4 rfl
theorem dX1_textIn_9 : decode cX1_textIn 9 = .ok (.invokestatic 741, 3) := zdec_at bX1_textIn_0 5 rfl
theorem dX1_textIn_12 : decode cX1_textIn 12 = .ok (.lreturn, 1) := zdec_at bX1_textIn_0 6 rfl
theorem sX1_textIn_0 {E : zE} {d : Nat} {Q : zO → zM → Prop} (M : zM) (r1 : Option zP) (hw : cw M) (k : Z E YX1_keys d M (zargs 0 [vr (some (16, 0, 0)), vr r1]) 0 [] (zafter E YX1_textIn (d + 1) [(0, vr (some (16, 0, 0)))] 2 3 [] Q)) : Z E YX1_textIn (d + 1) M [(0, vr (some (16, 0, 0))), (1, vr r1)] 0 [] Q := by
  refine z_aload_n dX1_textIn_0 rfl rfl ?_
  refine z_aload_n dX1_textIn_1 rfl rfl ?_
  refine Z.pick [0] rfl ?_
  exact z_callV (as := [vr r1]) (st := []) dX1_textIn_2 vsX1_883_0 (Nat.le_refl _) (Nat.le_of_ble_eq_true rfl) (Nat.le_of_ble_eq_true rfl) rfl k
theorem sX1_textIn_5 {E : zE} {d : Nat} {Q : zO → zM → Prop} (M : zM)  (hw : cw M) (k : Z E YX1_onlyKey d M (zargs 0 [vr (some (16, 0, 0))]) 0 [] (zafter E YX1_textIn (d + 1) [] 6 3 [] Q)) : Z E YX1_textIn (d + 1) M [(0, vr (some (16, 0, 0)))] 5 [] Q := by
  refine z_aload_n dX1_textIn_5 rfl rfl ?_
  refine Z.pick [] rfl ?_
  exact z_callV (as := []) (st := []) dX1_textIn_6 vsX1_886_0 (Nat.le_refl _) (Nat.le_of_ble_eq_true rfl) (Nat.le_of_ble_eq_true rfl) rfl k
theorem sX1_textIn_9 {E : zE} {d : Nat} {Q : zO → zM → Prop} (M : zM) (s0 : Int32) (hw : cw M) (k : Z E YX1_textSet d M (zargs 0 [vi s0]) 0 [] (zafter E YX1_textIn (d + 1) [] 9 3 [] Q)) : Z E YX1_textIn (d + 1) M [] 9 [vi s0] Q := by
  exact z_callS (as := [vi s0]) (st := []) dX1_textIn_9 ssX1_741 (Nat.le_refl _) (Nat.le_of_ble_eq_true rfl) (Nat.le_of_ble_eq_true rfl) rfl k
theorem sX1_textIn_12 {E : zE} {d : Nat} {Q : zO → zM → Prop} (M : zM) (s0 : Int64) (hw : cw M) (k : Q (.inl (some (vl s0))) M) : Z E YX1_textIn (d + 1) M [] 12 [vl s0] Q := by
  exact z_lret dX1_textIn_12 rfl k
/-! ScriptTypes.newOne(IJ)V -/
theorem bX1_newOne_0 : zdec cX1_newOne 0 [(0, .iload_n 1, 1), (1, .bipush 12, 2), (3, .if_icmp .ge 10, 3), (6, .iload_n 1, 1), (7, .bipush 13, 2), (9, .iadd, 1), (10, .goto 7, 3), (13, .iload_n 1, 1), (14, .bipush 11, 2), (16, .iadd, 1), (17, .istore 4, 2), (19, .aload_n 0, 1), (20, .getfield 244, 3), (23, .aload_n 0, 1), (24, .getfield 684, 3), (27, .iload 4, 2)] = true := by decide +kernel
theorem dX1_newOne_0 : decode cX1_newOne 0 = .ok (.iload_n 1, 1) := zdec_at bX1_newOne_0 0 rfl
theorem dX1_newOne_1 : decode cX1_newOne 1 = .ok (.bipush 12, 2) := zdec_at bX1_newOne_0 1 rfl
theorem dX1_newOne_3 : decode cX1_newOne 3 = .ok (.if_icmp .ge 10, 3) := zdec_at bX1_newOne_0 2 rfl
theorem dX1_newOne_6 : decode cX1_newOne 6 = .ok (.iload_n 1, 1) := zdec_at bX1_newOne_0 3 rfl
theorem dX1_newOne_7 : decode cX1_newOne 7 = .ok (.bipush 13, 2) := zdec_at bX1_newOne_0 4 rfl
theorem dX1_newOne_9 : decode cX1_newOne 9 = .ok (.iadd, 1) := zdec_at bX1_newOne_0 5 rfl
theorem dX1_newOne_10 : decode cX1_newOne 10 = .ok (.goto 7, 3) := zdec_at bX1_newOne_0 6 rfl
theorem dX1_newOne_13 : decode cX1_newOne 13 = .ok (.iload_n 1, 1) := zdec_at bX1_newOne_0 7 rfl
theorem dX1_newOne_14 : decode cX1_newOne 14 = .ok (.bipush 11, 2) := zdec_at bX1_newOne_0 8 rfl
theorem dX1_newOne_16 : decode cX1_newOne 16 = .ok (.iadd, 1) := zdec_at bX1_newOne_0 9 rfl
theorem dX1_newOne_17 : decode cX1_newOne 17 = .ok (.istore 4, 2) := zdec_at bX1_newOne_0 10 rfl
theorem dX1_newOne_19 : decode cX1_newOne 19 = .ok (.aload_n 0, 1) := zdec_at bX1_newOne_0 11 rfl
theorem dX1_newOne_20 : decode cX1_newOne 20 = .ok (.getfield 244, 3) := zdec_at bX1_newOne_0 12 rfl
theorem dX1_newOne_23 : decode cX1_newOne 23 = .ok (.aload_n 0, 1) := zdec_at bX1_newOne_0 13 rfl
theorem dX1_newOne_24 : decode cX1_newOne 24 = .ok (.getfield 684, 3) := zdec_at bX1_newOne_0 14 rfl
theorem dX1_newOne_27 : decode cX1_newOne 27 = .ok (.iload 4, 2) := zdec_at bX1_newOne_0 15 rfl
theorem bX1_newOne_29 : zdec cX1_newOne 29 [(29, .invokevirtual 788, 3), (32, .aload_n 0, 1), (33, .aload_n 0, 1), (34, .getfield 684, 3), (37, .iload 4, 2), (39, .iload_n 1, 1), (40, .bipush 10, 2), (42, .if_icmp .ne 7, 3), (45, .iconst 1, 1), (46, .goto 17, 3), (49, .iload_n 1, 1), (50, .bipush 11, 2), (52, .if_icmp .ne 7, 3), (55, .iconst 3, 1), (56, .goto 7, 3), (59, .iload_n 1, 1)] = true := by decide +kernel
theorem dX1_newOne_29 : decode cX1_newOne 29 = .ok (.invokevirtual 788, 3) := zdec_at bX1_newOne_29 0 rfl
theorem dX1_newOne_32 : decode cX1_newOne 32 = .ok (.aload_n 0, 1) := zdec_at bX1_newOne_29 1 rfl
theorem dX1_newOne_33 : decode cX1_newOne 33 = .ok (.aload_n 0, 1) := zdec_at bX1_newOne_29 2 rfl
theorem dX1_newOne_34 : decode cX1_newOne 34 = .ok (.getfield 684, 3) := zdec_at bX1_newOne_29 3 rfl
theorem dX1_newOne_37 : decode cX1_newOne 37 = .ok (.iload 4, 2) := zdec_at bX1_newOne_29 4 rfl
theorem dX1_newOne_39 : decode cX1_newOne 39 = .ok (.iload_n 1, 1) := zdec_at bX1_newOne_29 5 rfl
theorem dX1_newOne_40 : decode cX1_newOne 40 = .ok (.bipush 10, 2) := zdec_at bX1_newOne_29 6 rfl
theorem dX1_newOne_42 : decode cX1_newOne 42 = .ok (.if_icmp .ne 7, 3) := zdec_at bX1_newOne_29 7 rfl
theorem dX1_newOne_45 : decode cX1_newOne 45 = .ok (.iconst 1, 1) := zdec_at bX1_newOne_29 8 rfl
theorem dX1_newOne_46 : decode cX1_newOne 46 = .ok (.goto 17, 3) := zdec_at bX1_newOne_29 9 rfl
theorem dX1_newOne_49 : decode cX1_newOne 49 = .ok (.iload_n 1, 1) := zdec_at bX1_newOne_29 10 rfl
theorem dX1_newOne_50 : decode cX1_newOne 50 = .ok (.bipush 11, 2) := zdec_at bX1_newOne_29 11 rfl
theorem dX1_newOne_52 : decode cX1_newOne 52 = .ok (.if_icmp .ne 7, 3) := zdec_at bX1_newOne_29 12 rfl
theorem dX1_newOne_55 : decode cX1_newOne 55 = .ok (.iconst 3, 1) := zdec_at bX1_newOne_29 13 rfl
theorem dX1_newOne_56 : decode cX1_newOne 56 = .ok (.goto 7, 3) := zdec_at bX1_newOne_29 14 rfl
theorem dX1_newOne_59 : decode cX1_newOne 59 = .ok (.iload_n 1, 1) := zdec_at bX1_newOne_29 15 rfl
theorem bX1_newOne_60 : zdec cX1_newOne 60 [(60, .bipush 9, 2), (62, .isub, 1), (63, .invokevirtual 792, 3), (66, .iload_n 1, 1), (67, .bipush 11, 2), (69, .if_icmp .ne 41, 3), (72, .aload_n 0, 1), (73, .getfield 684, 3), (76, .iload 4, 2), (78, .iconst 0, 1), (79, .invokevirtual 813, 3), (82, .istore 5, 2), (84, .aload_n 0, 1), (85, .getfield 684, 3), (88, .getfield 810, 3), (91, .iload 5, 2)] = true := by decide +kernel
theorem dX1_newOne_60 : decode cX1_newOne 60 = .ok (.bipush 9, 2) := zdec_at bX1_newOne_60 0 rfl
theorem dX1_newOne_62 : decode cX1_newOne 62 = .ok (.isub, 1) := zdec_at bX1_newOne_60 1 rfl
theorem dX1_newOne_63 : decode cX1_newOne 63 = .ok (.invokevirtual 792, 3) := zdec_at bX1_newOne_60 2 rfl
theorem dX1_newOne_66 : decode cX1_newOne 66 = .ok (.iload_n 1, 1) := zdec_at bX1_newOne_60 3 rfl
theorem dX1_newOne_67 : decode cX1_newOne 67 = .ok (.bipush 11, 2) := zdec_at bX1_newOne_60 4 rfl
theorem dX1_newOne_69 : decode cX1_newOne 69 = .ok (.if_icmp .ne 41, 3) := zdec_at bX1_newOne_60 5 rfl
theorem dX1_newOne_72 : decode cX1_newOne 72 = .ok (.aload_n 0, 1) := zdec_at bX1_newOne_60 6 rfl
theorem dX1_newOne_73 : decode cX1_newOne 73 = .ok (.getfield 684, 3) := zdec_at bX1_newOne_60 7 rfl
theorem dX1_newOne_76 : decode cX1_newOne 76 = .ok (.iload 4, 2) := zdec_at bX1_newOne_60 8 rfl
theorem dX1_newOne_78 : decode cX1_newOne 78 = .ok (.iconst 0, 1) := zdec_at bX1_newOne_60 9 rfl
theorem dX1_newOne_79 : decode cX1_newOne 79 = .ok (.invokevirtual 813, 3) := zdec_at bX1_newOne_60 10 rfl
theorem dX1_newOne_82 : decode cX1_newOne 82 = .ok (.istore 5, 2) := zdec_at bX1_newOne_60 11 rfl
theorem dX1_newOne_84 : decode cX1_newOne 84 = .ok (.aload_n 0, 1) := zdec_at bX1_newOne_60 12 rfl
theorem dX1_newOne_85 : decode cX1_newOne 85 = .ok (.getfield 684, 3) := zdec_at bX1_newOne_60 13 rfl
theorem dX1_newOne_88 : decode cX1_newOne 88 = .ok (.getfield 810, 3) := zdec_at bX1_newOne_60 14 rfl
theorem dX1_newOne_91 : decode cX1_newOne 91 = .ok (.iload 5, 2) := zdec_at bX1_newOne_60 15 rfl
theorem bX1_newOne_93 : zdec cX1_newOne 93 [(93, .aload_n 0, 1), (94, .getfield 244, 3), (97, .getfield 1106, 3), (100, .iconst 0, 1), (101, .laload, 1), (102, .iconst 0, 1), (103, .invokestatic 889, 3), (106, .invokestatic 1107, 3), (109, .lastore, 1), (110, .lload_n 2, 1), (111, .lconst 0, 1), (112, .lcmp, 1), (113, .ifCond .eq 44, 3), (116, .iload_n 1, 1), (117, .bipush 13, 2), (119, .if_icmp .le 38, 3)] = true := by decide +kernel
theorem dX1_newOne_93 : decode cX1_newOne 93 = .ok (.aload_n 0, 1) := zdec_at bX1_newOne_93 0 rfl
theorem dX1_newOne_94 : decode cX1_newOne 94 = .ok (.getfield 244, 3) := zdec_at bX1_newOne_93 1 rfl
theorem dX1_newOne_97 : decode cX1_newOne 97 = .ok (.getfield 1106, 3) := zdec_at bX1_newOne_93 2 rfl
theorem dX1_newOne_100 : decode cX1_newOne 100 = .ok (.iconst 0, 1) := zdec_at bX1_newOne_93 3 rfl
theorem dX1_newOne_101 : decode cX1_newOne 101 = .ok (.laload, 1) := zdec_at bX1_newOne_93 4 rfl
theorem dX1_newOne_102 : decode cX1_newOne 102 = .ok (.iconst 0, 1) := zdec_at bX1_newOne_93 5 rfl
theorem dX1_newOne_103 : decode cX1_newOne 103 = .ok (.invokestatic 889, 3) := zdec_at bX1_newOne_93 6 rfl
theorem dX1_newOne_106 : decode cX1_newOne 106 = .ok (.invokestatic 1107, 3) := zdec_at bX1_newOne_93 7 rfl
theorem dX1_newOne_109 : decode cX1_newOne 109 = .ok (.lastore, 1) := zdec_at bX1_newOne_93 8 rfl
theorem dX1_newOne_110 : decode cX1_newOne 110 = .ok (.lload_n 2, 1) := zdec_at bX1_newOne_93 9 rfl
theorem dX1_newOne_111 : decode cX1_newOne 111 = .ok (.lconst 0, 1) := zdec_at bX1_newOne_93 10 rfl
theorem dX1_newOne_112 : decode cX1_newOne 112 = .ok (.lcmp, 1) := zdec_at bX1_newOne_93 11 rfl
theorem dX1_newOne_113 : decode cX1_newOne 113 = .ok (.ifCond .eq 44, 3) := zdec_at bX1_newOne_93 12 rfl
theorem dX1_newOne_116 : decode cX1_newOne 116 = .ok (.iload_n 1, 1) := zdec_at bX1_newOne_93 13 rfl
theorem dX1_newOne_117 : decode cX1_newOne 117 = .ok (.bipush 13, 2) := zdec_at bX1_newOne_93 14 rfl
theorem dX1_newOne_119 : decode cX1_newOne 119 = .ok (.if_icmp .le 38, 3) := zdec_at bX1_newOne_93 15 rfl
theorem bX1_newOne_122 : zdec cX1_newOne 122 [(122, .aload_n 0, 1), (123, .getfield 684, 3), (126, .iload 4, 2), (128, .iconst 3, 1), (129, .invokevirtual 813, 3), (132, .istore 5, 2), (134, .aload_n 0, 1), (135, .getfield 684, 3), (138, .getfield 810, 3), (141, .iload 5, 2), (143, .aload_n 0, 1), (144, .getfield 244, 3), (147, .getfield 1106, 3), (150, .iconst 3, 1), (151, .laload, 1), (152, .lload_n 2, 1)] = true := by decide +kernel
theorem dX1_newOne_122 : decode cX1_newOne 122 = .ok (.aload_n 0, 1) := zdec_at bX1_newOne_122 0 rfl
theorem dX1_newOne_123 : decode cX1_newOne 123 = .ok (.getfield 684, 3) := zdec_at bX1_newOne_122 1 rfl
theorem dX1_newOne_126 : decode cX1_newOne 126 = .ok (.iload 4, 2) := zdec_at bX1_newOne_122 2 rfl
theorem dX1_newOne_128 : decode cX1_newOne 128 = .ok (.iconst 3, 1) := zdec_at bX1_newOne_122 3 rfl
theorem dX1_newOne_129 : decode cX1_newOne 129 = .ok (.invokevirtual 813, 3) := zdec_at bX1_newOne_122 4 rfl
theorem dX1_newOne_132 : decode cX1_newOne 132 = .ok (.istore 5, 2) := zdec_at bX1_newOne_122 5 rfl
theorem dX1_newOne_134 : decode cX1_newOne 134 = .ok (.aload_n 0, 1) := zdec_at bX1_newOne_122 6 rfl
theorem dX1_newOne_135 : decode cX1_newOne 135 = .ok (.getfield 684, 3) := zdec_at bX1_newOne_122 7 rfl
theorem dX1_newOne_138 : decode cX1_newOne 138 = .ok (.getfield 810, 3) := zdec_at bX1_newOne_122 8 rfl
theorem dX1_newOne_141 : decode cX1_newOne 141 = .ok (.iload 5, 2) := zdec_at bX1_newOne_122 9 rfl
theorem dX1_newOne_143 : decode cX1_newOne 143 = .ok (.aload_n 0, 1) := zdec_at bX1_newOne_122 10 rfl
theorem dX1_newOne_144 : decode cX1_newOne 144 = .ok (.getfield 244, 3) := zdec_at bX1_newOne_122 11 rfl
theorem dX1_newOne_147 : decode cX1_newOne 147 = .ok (.getfield 1106, 3) := zdec_at bX1_newOne_122 12 rfl
theorem dX1_newOne_150 : decode cX1_newOne 150 = .ok (.iconst 3, 1) := zdec_at bX1_newOne_122 13 rfl
theorem dX1_newOne_151 : decode cX1_newOne 151 = .ok (.laload, 1) := zdec_at bX1_newOne_122 14 rfl
theorem dX1_newOne_152 : decode cX1_newOne 152 = .ok (.lload_n 2, 1) := zdec_at bX1_newOne_122 15 rfl
theorem bX1_newOne_153 : zdec cX1_newOne 153 [(153, .invokestatic 1107, 3), (156, .lastore, 1), (157, .aload_n 0, 1), (158, .aload_n 0, 1), (159, .getfield 216, 3), (162, .invokevirtual 796, 3), (165, .iload 4, 2), (167, .invokevirtual 800, 3), (170, .invokevirtual 895, 3), (173, .aload_n 0, 1), (174, .getfield 244, 3), (177, .aload_n 0, 1), (178, .getfield 684, 3), (181, .iload 4, 2), (183, .invokevirtual 807, 3), (186, .return_, 1)] = true := by decide +kernel
theorem dX1_newOne_153 : decode cX1_newOne 153 = .ok (.invokestatic 1107, 3) := zdec_at bX1_newOne_153 0 rfl
theorem dX1_newOne_156 : decode cX1_newOne 156 = .ok (.lastore, 1) := zdec_at bX1_newOne_153 1 rfl
theorem dX1_newOne_157 : decode cX1_newOne 157 = .ok (.aload_n 0, 1) := zdec_at bX1_newOne_153 2 rfl
theorem dX1_newOne_158 : decode cX1_newOne 158 = .ok (.aload_n 0, 1) := zdec_at bX1_newOne_153 3 rfl
theorem dX1_newOne_159 : decode cX1_newOne 159 = .ok (.getfield 216, 3) := zdec_at bX1_newOne_153 4 rfl
theorem dX1_newOne_162 : decode cX1_newOne 162 = .ok (.invokevirtual 796, 3) := zdec_at bX1_newOne_153 5 rfl
theorem dX1_newOne_165 : decode cX1_newOne 165 = .ok (.iload 4, 2) := zdec_at bX1_newOne_153 6 rfl
theorem dX1_newOne_167 : decode cX1_newOne 167 = .ok (.invokevirtual 800, 3) := zdec_at bX1_newOne_153 7 rfl
theorem dX1_newOne_170 : decode cX1_newOne 170 = .ok (.invokevirtual 895, 3) := zdec_at bX1_newOne_153 8 rfl
theorem dX1_newOne_173 : decode cX1_newOne 173 = .ok (.aload_n 0, 1) := zdec_at bX1_newOne_153 9 rfl
theorem dX1_newOne_174 : decode cX1_newOne 174 = .ok (.getfield 244, 3) := zdec_at bX1_newOne_153 10 rfl
theorem dX1_newOne_177 : decode cX1_newOne 177 = .ok (.aload_n 0, 1) := zdec_at bX1_newOne_153 11 rfl
theorem dX1_newOne_178 : decode cX1_newOne 178 = .ok (.getfield 684, 3) := zdec_at bX1_newOne_153 12 rfl
theorem dX1_newOne_181 : decode cX1_newOne 181 = .ok (.iload 4, 2) := zdec_at bX1_newOne_153 13 rfl
theorem dX1_newOne_183 : decode cX1_newOne 183 = .ok (.invokevirtual 807, 3) := zdec_at bX1_newOne_153 14 rfl
theorem dX1_newOne_186 : decode cX1_newOne 186 = .ok (.return_, 1) := zdec_at bX1_newOne_153 15 rfl
theorem sX1_newOne_0 {E : zE} {d : Nat} {Q : zO → zM → Prop} (M : zM) (l1 : Int32) (l2 : Int64) (hw : cw M) (k : if (12 : Int32) ≤ l1 then (Z E YX7_save d M (zargs 0 [vr (some (84, 5, 0)), vr (gr M 16 60), vi (l1 + (11 : Int32))]) 0 [] (zafter E YX1_newOne (d + 1) [(0, vr (some (16, 0, 0))), (1, vi l1), (2, vl l2), (4, vi (l1 + (11 : Int32)))] 29 3 [] Q)) else (Z E YX7_save d M (zargs 0 [vr (some (84, 5, 0)), vr (gr M 16 60), vi (l1 + (13 : Int32))]) 0 [] (zafter E YX1_newOne (d + 1) [(0, vr (some (16, 0, 0))), (1, vi l1), (2, vl l2), (4, vi (l1 + (13 : Int32)))] 29 3 [] Q))) : Z E YX1_newOne (d + 1) M [(0, vr (some (16, 0, 0))), (1, vi l1), (2, vl l2)] 0 [] Q := by
  refine z_iload_n dX1_newOne_0 rfl rfl ?_
  refine z_bipush (v := 12) dX1_newOne_1 rfl ?_
  refine z_icmp_ge (tgt := 13) dX1_newOne_3 rfl (fun h_ => ?_) (fun h_ => ?_)
  · have k := zit h_ k
    refine z_iload_n dX1_newOne_13 rfl rfl ?_
    refine z_bipush (v := 11) dX1_newOne_14 rfl ?_
    refine z_iadd dX1_newOne_16 ?_
    refine z_ist dX1_newOne_17 (by decide) (lv' := [(0, vr (some (16, 0, 0))), (1, vi l1), (2, vl l2), (4, vi (l1 + (11 : Int32)))]) rfl ?_
    refine z_aload_n dX1_newOne_19 rfl rfl ?_
    refine z_getr dX1_newOne_20 fsX1_244_0 (show gr M 16 96 = some (84, 5, 0) from cw_at hw 49 rfl) ?_
    refine z_aload_n dX1_newOne_23 rfl rfl ?_
    refine z_getr (r := (gr M 16 60)) dX1_newOne_24 fsX1_684_0 rfl ?_
    refine z_iload dX1_newOne_27 rfl ?_
    exact z_callV (as := [vr (gr M 16 60), vi (l1 + (11 : Int32))]) (st := []) dX1_newOne_29 vsX1_788_5 (Nat.le_refl _) (Nat.le_of_ble_eq_true rfl) (Nat.le_of_ble_eq_true rfl) rfl k
  · have k := zif h_ k
    refine z_iload_n dX1_newOne_6 rfl rfl ?_
    refine z_bipush (v := 13) dX1_newOne_7 rfl ?_
    refine z_iadd dX1_newOne_9 ?_
    refine z_goto (tgt := 17) dX1_newOne_10 rfl ?_
    refine z_ist dX1_newOne_17 (by decide) (lv' := [(0, vr (some (16, 0, 0))), (1, vi l1), (2, vl l2), (4, vi (l1 + (13 : Int32)))]) rfl ?_
    refine z_aload_n dX1_newOne_19 rfl rfl ?_
    refine z_getr dX1_newOne_20 fsX1_244_0 (show gr M 16 96 = some (84, 5, 0) from cw_at hw 49 rfl) ?_
    refine z_aload_n dX1_newOne_23 rfl rfl ?_
    refine z_getr (r := (gr M 16 60)) dX1_newOne_24 fsX1_684_0 rfl ?_
    refine z_iload dX1_newOne_27 rfl ?_
    exact z_callV (as := [vr (gr M 16 60), vi (l1 + (13 : Int32))]) (st := []) dX1_newOne_29 vsX1_788_5 (Nat.le_refl _) (Nat.le_of_ble_eq_true rfl) (Nat.le_of_ble_eq_true rfl) rfl k
theorem sX1_newOne_32 {E : zE} {d : Nat} {Q : zO → zM → Prop} (M : zM) (l1 : Int32) (l2 : Int64) (l4 : Int32) (hw : cw M) (k : if l1 = (10 : Int32) then (Z E YX1_added d M (zargs 0 [vr (some (16, 0, 0)), vr (gr M 16 60), vi l4, vi (1 : Int32)]) 0 [] (zafter E YX1_newOne (d + 1) [(0, vr (some (16, 0, 0))), (1, vi l1), (2, vl l2), (4, vi l4)] 63 3 [] Q)) else (if l1 = (11 : Int32) then (Z E YX1_added d M (zargs 0 [vr (some (16, 0, 0)), vr (gr M 16 60), vi l4, vi (3 : Int32)]) 0 [] (zafter E YX1_newOne (d + 1) [(0, vr (some (16, 0, 0))), (1, vi l1), (2, vl l2), (4, vi l4)] 63 3 [] Q)) else (Z E YX1_added d M (zargs 0 [vr (some (16, 0, 0)), vr (gr M 16 60), vi l4, vi (l1 - (9 : Int32))]) 0 [] (zafter E YX1_newOne (d + 1) [(0, vr (some (16, 0, 0))), (1, vi l1), (2, vl l2), (4, vi l4)] 63 3 [] Q)))) : Z E YX1_newOne (d + 1) M [(0, vr (some (16, 0, 0))), (1, vi l1), (2, vl l2), (4, vi l4)] 32 [] Q := by
  refine z_aload_n dX1_newOne_32 rfl rfl ?_
  refine z_aload_n dX1_newOne_33 rfl rfl ?_
  refine z_getr (r := (gr M 16 60)) dX1_newOne_34 fsX1_684_0 rfl ?_
  refine z_iload dX1_newOne_37 rfl ?_
  refine z_iload_n dX1_newOne_39 rfl rfl ?_
  refine z_bipush (v := 10) dX1_newOne_40 rfl ?_
  refine z_icmp_ne (tgt := 49) dX1_newOne_42 rfl (fun h_ => ?_) (fun h_ => ?_)
  · have k := zif h_ k
    refine z_iload_n dX1_newOne_49 rfl rfl ?_
    refine z_bipush (v := 11) dX1_newOne_50 rfl ?_
    refine z_icmp_ne (tgt := 59) dX1_newOne_52 rfl (fun h_ => ?_) (fun h_ => ?_)
    · have k := zif h_ k
      refine z_iload_n dX1_newOne_59 rfl rfl ?_
      refine z_bipush (v := 9) dX1_newOne_60 rfl ?_
      refine z_isub dX1_newOne_62 ?_
      exact z_callV (as := [vr (gr M 16 60), vi l4, vi (l1 - (9 : Int32))]) (st := []) dX1_newOne_63 vsX1_792_0 (Nat.le_refl _) (Nat.le_of_ble_eq_true rfl) (Nat.le_of_ble_eq_true rfl) rfl k
    · have k := zit h_ k
      refine z_iconst (v := 3) dX1_newOne_55 rfl ?_
      refine z_goto (tgt := 63) dX1_newOne_56 rfl ?_
      exact z_callV (as := [vr (gr M 16 60), vi l4, vi (3 : Int32)]) (st := []) dX1_newOne_63 vsX1_792_0 (Nat.le_refl _) (Nat.le_of_ble_eq_true rfl) (Nat.le_of_ble_eq_true rfl) rfl k
  · have k := zit h_ k
    refine z_iconst (v := 1) dX1_newOne_45 rfl ?_
    refine z_goto (tgt := 63) dX1_newOne_46 rfl ?_
    exact z_callV (as := [vr (gr M 16 60), vi l4, vi (1 : Int32)]) (st := []) dX1_newOne_63 vsX1_792_0 (Nat.le_refl _) (Nat.le_of_ble_eq_true rfl) (Nat.le_of_ble_eq_true rfl) rfl k
theorem sX1_newOne_66 {E : zE} {d : Nat} {Q : zO → zM → Prop} (M : zM) (l1 : Int32) (l2 : Int64) (l4 : Int32) (hw : cw M) (k : if l1 = (11 : Int32) then (∃ b1 : Nat, (gr M 16 60) = some (b1, 7, 0) ∧ (Z E YX43_cell d M (zargs 0 [vr (some (b1, 7, 0)), vi l4, vi (0 : Int32)]) 0 [] (zafter E YX1_newOne (d + 1) [(0, vr (some (16, 0, 0))), (1, vi l1), (2, vl l2), (4, vi l4)] 79 3 [] Q))) else (Z E YX1_newOne (d + 1) M [(0, vr (some (16, 0, 0))), (1, vi l1), (2, vl l2), (4, vi l4)] 110 [] Q)) : Z E YX1_newOne (d + 1) M [(0, vr (some (16, 0, 0))), (1, vi l1), (2, vl l2), (4, vi l4)] 66 [] Q := by
  refine z_iload_n dX1_newOne_66 rfl rfl ?_
  refine z_bipush (v := 11) dX1_newOne_67 rfl ?_
  refine z_icmp_ne (tgt := 110) dX1_newOne_69 rfl (fun h_ => ?_) (fun h_ => ?_)
  · have k := zif h_ k
    exact k
  · have k := zit h_ k
    refine z_aload_n dX1_newOne_72 rfl rfl ?_
    refine z_getr (r := (gr M 16 60)) dX1_newOne_73 fsX1_684_0 rfl ?_
    refine z_iload dX1_newOne_76 rfl ?_
    refine z_iconst (v := 0) dX1_newOne_78 rfl ?_
    obtain ⟨b1, e1_, k⟩ := k
    refine Z.eqs (lv' := [(0, vr (some (16, 0, 0))), (1, vi l1), (2, vl l2), (4, vi l4)]) (st' := [vi (0 : Int32), vi l4, vr (some (b1, 7, 0))]) rfl (by rw [e1_] <;> rfl) ?_
    exact z_callV (as := [vi l4, vi (0 : Int32)]) (st := []) dX1_newOne_79 vsX1_813_7 (Nat.le_refl _) (Nat.le_of_ble_eq_true rfl) (Nat.le_of_ble_eq_true rfl) rfl k
theorem sX1_newOne_82 {E : zE} {d : Nat} {Q : zO → zM → Prop} (M : zM) (l1 : Int32) (l2 : Int64) (l4 : Int32) (s0 : Int32) (hw : cw M) (k : ∃ b1 : Nat, (gr M 16 60) = some (b1, 7, 0) ∧ (∃ b2 m2 : Nat, (gr M 84 3) = some (b2, 105, m2) ∧ (vp_in (0 : Int32) m2 ∧ (Z E YX1_numberSet d M (zargs 0 [vi (0 : Int32)]) 0 [] (zafter E YX1_newOne (d + 1) [(0, vr (some (16, 0, 0))), (1, vi l1), (2, vl l2), (4, vi l4)] 103 3 [vl (gl M b2 ((0 : Int32)).toNatClampNeg), vi s0, vr (gr M b1 3)] Q))))) : Z E YX1_newOne (d + 1) M [(0, vr (some (16, 0, 0))), (1, vi l1), (2, vl l2), (4, vi l4)] 82 [vi s0] Q := by
  refine z_ist dX1_newOne_82 (by decide) (lv' := [(0, vr (some (16, 0, 0))), (1, vi l1), (2, vl l2), (4, vi l4), (5, vi s0)]) rfl ?_
  refine z_aload_n dX1_newOne_84 rfl rfl ?_
  refine z_getr (r := (gr M 16 60)) dX1_newOne_85 fsX1_684_0 rfl ?_
  obtain ⟨b1, e1_, k⟩ := k
  refine Z.eqs (lv' := [(0, vr (some (16, 0, 0))), (1, vi l1), (2, vl l2), (4, vi l4), (5, vi s0)]) (st' := [vr (some (b1, 7, 0))]) rfl (by rw [e1_] <;> rfl) ?_
  refine z_getr (r := (gr M b1 3)) dX1_newOne_88 fsX1_810_7 rfl ?_
  refine z_iload dX1_newOne_91 rfl ?_
  refine z_aload_n dX1_newOne_93 rfl rfl ?_
  refine z_getr dX1_newOne_94 fsX1_244_0 (show gr M 16 96 = some (84, 5, 0) from cw_at hw 49 rfl) ?_
  refine z_getr (r := (gr M 84 3)) dX1_newOne_97 fsX1_1106_5 rfl ?_
  refine z_iconst (v := 0) dX1_newOne_100 rfl ?_
  obtain ⟨b2, m2, e2_, k⟩ := k
  refine Z.eqs (lv' := [(0, vr (some (16, 0, 0))), (1, vi l1), (2, vl l2), (4, vi l4), (5, vi s0)]) (st' := [vi (0 : Int32), vr (some (b2, 105, m2)), vi s0, vr (gr M b1 3)]) rfl (by rw [e2_] <;> rfl) ?_
  obtain ⟨b_, k⟩ := k
  refine z_lald dX1_newOne_101 b_ ?_
  refine z_iconst (v := 0) dX1_newOne_102 rfl ?_
  refine Z.pick [0, 1, 2, 3] rfl ?_
  exact z_callS (as := [vi (0 : Int32)]) (st := [vl (gl M b2 ((0 : Int32)).toNatClampNeg), vi s0, vr (gr M b1 3)]) dX1_newOne_103 ssX1_889 (Nat.le_refl _) (Nat.le_of_ble_eq_true rfl) (Nat.le_of_ble_eq_true rfl) rfl k
theorem sX1_newOne_106 {E : zE} {d : Nat} {Q : zO → zM → Prop} (M : zM) (l1 : Int32) (l2 : Int64) (l4 : Int32) (s0 : Int64) (s1 : Int64) (s2 : Int32) (u3 : Option zP) (hw : cw M) (k : Z E YX1_joined d M (zargs 0 [vl s1, vl s0]) 0 [] (zafter E YX1_newOne (d + 1) [(0, vr (some (16, 0, 0))), (1, vi l1), (2, vl l2), (4, vi l4)] 106 3 [vi s2, vr u3] Q)) : Z E YX1_newOne (d + 1) M [(0, vr (some (16, 0, 0))), (1, vi l1), (2, vl l2), (4, vi l4)] 106 [vl s0, vl s1, vi s2, vr u3] Q := by
  exact z_callS (as := [vl s1, vl s0]) (st := [vi s2, vr u3]) dX1_newOne_106 ssX1_1107 (Nat.le_refl _) (Nat.le_of_ble_eq_true rfl) (Nat.le_of_ble_eq_true rfl) rfl k
theorem sX1_newOne_109 {E : zE} {d : Nat} {Q : zO → zM → Prop} (M : zM) (l1 : Int32) (l2 : Int64) (l4 : Int32) (s0 : Int64) (s1 : Int32) (u2 : Option zP) (hw : cw M) (k : ∃ b1 m1 : Nat, u2 = some (b1, 105, m1) ∧ (16 ≤ b1 ∧ (vp_in s1 m1 ∧ (Z E YX1_newOne (d + 1) (sl M b1 (s1).toNatClampNeg s0) [(0, vr (some (16, 0, 0))), (1, vi l1), (2, vl l2), (4, vi l4)] 110 [] Q)))) : Z E YX1_newOne (d + 1) M [(0, vr (some (16, 0, 0))), (1, vi l1), (2, vl l2), (4, vi l4)] 109 [vl s0, vi s1, vr u2] Q := by
  obtain ⟨b1, m1, e1_, k⟩ := k
  refine Z.eqs (lv' := [(0, vr (some (16, 0, 0))), (1, vi l1), (2, vl l2), (4, vi l4)]) (st' := [vl s0, vi s1, vr (some (b1, 105, m1))]) rfl (by rw [e1_] <;> rfl) ?_
  obtain ⟨g_, k⟩ := k
  obtain ⟨b_, k⟩ := k
  refine z_last g_ dX1_newOne_109 b_ ?_
  exact k
theorem sX1_newOne_110 {E : zE} {d : Nat} {Q : zO → zM → Prop} (M : zM) (l1 : Int32) (l2 : Int64) (l4 : Int32) (hw : cw M) (k : if (lg_cmp l2 (0 : Int64)) = 0 then (Z E YX6_empty d M (zargs 0 [vr (some (74, 4, 0))]) 0 [] (zafter E YX1_newOne (d + 1) [(0, vr (some (16, 0, 0))), (4, vi l4)] 162 3 [vr (some (16, 0, 0))] Q)) else (if l1 ≤ (13 : Int32) then (Z E YX6_empty d M (zargs 0 [vr (some (74, 4, 0))]) 0 [] (zafter E YX1_newOne (d + 1) [(0, vr (some (16, 0, 0))), (4, vi l4)] 162 3 [vr (some (16, 0, 0))] Q)) else (∃ b1 : Nat, (gr M 16 60) = some (b1, 7, 0) ∧ (Z E YX43_cell d M (zargs 0 [vr (some (b1, 7, 0)), vi l4, vi (3 : Int32)]) 0 [] (zafter E YX1_newOne (d + 1) [(0, vr (some (16, 0, 0))), (2, vl l2), (4, vi l4)] 129 3 [] Q))))) : Z E YX1_newOne (d + 1) M [(0, vr (some (16, 0, 0))), (1, vi l1), (2, vl l2), (4, vi l4)] 110 [] Q := by
  refine z_lload_n dX1_newOne_110 rfl rfl ?_
  refine z_lconst (v := 0) dX1_newOne_111 rfl ?_
  refine z_lcmp dX1_newOne_112 ?_
  refine z_if_eq (tgt := 157) dX1_newOne_113 rfl (fun h_ => ?_) (fun h_ => ?_)
  · have k := zit h_ k
    refine z_aload_n dX1_newOne_157 rfl rfl ?_
    refine z_aload_n dX1_newOne_158 rfl rfl ?_
    refine z_getr dX1_newOne_159 fsX1_216_0 (show gr M 16 81 = some (74, 4, 0) from cw_at hw 42 rfl) ?_
    refine Z.pick [0, 3] rfl ?_
    exact z_callV (as := []) (st := [vr (some (16, 0, 0))]) dX1_newOne_162 vsX1_796_4 (Nat.le_refl _) (Nat.le_of_ble_eq_true rfl) (Nat.le_of_ble_eq_true rfl) rfl k
  · have k := zif h_ k
    refine z_iload_n dX1_newOne_116 rfl rfl ?_
    refine z_bipush (v := 13) dX1_newOne_117 rfl ?_
    refine z_icmp_le (tgt := 157) dX1_newOne_119 rfl (fun h_ => ?_) (fun h_ => ?_)
    · have k := zit h_ k
      refine z_aload_n dX1_newOne_157 rfl rfl ?_
      refine z_aload_n dX1_newOne_158 rfl rfl ?_
      refine z_getr dX1_newOne_159 fsX1_216_0 (show gr M 16 81 = some (74, 4, 0) from cw_at hw 42 rfl) ?_
      refine Z.pick [0, 3] rfl ?_
      exact z_callV (as := []) (st := [vr (some (16, 0, 0))]) dX1_newOne_162 vsX1_796_4 (Nat.le_refl _) (Nat.le_of_ble_eq_true rfl) (Nat.le_of_ble_eq_true rfl) rfl k
    · have k := zif h_ k
      refine z_aload_n dX1_newOne_122 rfl rfl ?_
      refine z_getr (r := (gr M 16 60)) dX1_newOne_123 fsX1_684_0 rfl ?_
      refine z_iload dX1_newOne_126 rfl ?_
      refine z_iconst (v := 3) dX1_newOne_128 rfl ?_
      obtain ⟨b1, e1_, k⟩ := k
      refine Z.eqs (lv' := [(0, vr (some (16, 0, 0))), (1, vi l1), (2, vl l2), (4, vi l4)]) (st' := [vi (3 : Int32), vi l4, vr (some (b1, 7, 0))]) rfl (by rw [e1_] <;> rfl) ?_
      refine Z.pick [0, 2, 3] rfl ?_
      exact z_callV (as := [vi l4, vi (3 : Int32)]) (st := []) dX1_newOne_129 vsX1_813_7 (Nat.le_refl _) (Nat.le_of_ble_eq_true rfl) (Nat.le_of_ble_eq_true rfl) rfl k
theorem sX1_newOne_132 {E : zE} {d : Nat} {Q : zO → zM → Prop} (M : zM) (l2 : Int64) (l4 : Int32) (s0 : Int32) (hw : cw M) (k : ∃ b1 : Nat, (gr M 16 60) = some (b1, 7, 0) ∧ (∃ b2 m2 : Nat, (gr M 84 3) = some (b2, 105, m2) ∧ (vp_in (3 : Int32) m2 ∧ (Z E YX1_joined d M (zargs 0 [vl (gl M b2 ((3 : Int32)).toNatClampNeg), vl l2]) 0 [] (zafter E YX1_newOne (d + 1) [(0, vr (some (16, 0, 0))), (4, vi l4)] 153 3 [vi s0, vr (gr M b1 3)] Q))))) : Z E YX1_newOne (d + 1) M [(0, vr (some (16, 0, 0))), (2, vl l2), (4, vi l4)] 132 [vi s0] Q := by
  refine z_ist dX1_newOne_132 (by decide) (lv' := [(0, vr (some (16, 0, 0))), (2, vl l2), (4, vi l4), (5, vi s0)]) rfl ?_
  refine z_aload_n dX1_newOne_134 rfl rfl ?_
  refine z_getr (r := (gr M 16 60)) dX1_newOne_135 fsX1_684_0 rfl ?_
  obtain ⟨b1, e1_, k⟩ := k
  refine Z.eqs (lv' := [(0, vr (some (16, 0, 0))), (2, vl l2), (4, vi l4), (5, vi s0)]) (st' := [vr (some (b1, 7, 0))]) rfl (by rw [e1_] <;> rfl) ?_
  refine z_getr (r := (gr M b1 3)) dX1_newOne_138 fsX1_810_7 rfl ?_
  refine z_iload dX1_newOne_141 rfl ?_
  refine z_aload_n dX1_newOne_143 rfl rfl ?_
  refine z_getr dX1_newOne_144 fsX1_244_0 (show gr M 16 96 = some (84, 5, 0) from cw_at hw 49 rfl) ?_
  refine z_getr (r := (gr M 84 3)) dX1_newOne_147 fsX1_1106_5 rfl ?_
  refine z_iconst (v := 3) dX1_newOne_150 rfl ?_
  obtain ⟨b2, m2, e2_, k⟩ := k
  refine Z.eqs (lv' := [(0, vr (some (16, 0, 0))), (2, vl l2), (4, vi l4), (5, vi s0)]) (st' := [vi (3 : Int32), vr (some (b2, 105, m2)), vi s0, vr (gr M b1 3)]) rfl (by rw [e2_] <;> rfl) ?_
  obtain ⟨b_, k⟩ := k
  refine z_lald dX1_newOne_151 b_ ?_
  refine z_lload_n dX1_newOne_152 rfl rfl ?_
  refine Z.pick [0, 2] rfl ?_
  exact z_callS (as := [vl (gl M b2 ((3 : Int32)).toNatClampNeg), vl l2]) (st := [vi s0, vr (gr M b1 3)]) dX1_newOne_153 ssX1_1107 (Nat.le_refl _) (Nat.le_of_ble_eq_true rfl) (Nat.le_of_ble_eq_true rfl) rfl k
theorem sX1_newOne_156 {E : zE} {d : Nat} {Q : zO → zM → Prop} (M : zM) (l4 : Int32) (s0 : Int64) (s1 : Int32) (u2 : Option zP) (hw : cw M) (k : ∃ b1 m1 : Nat, u2 = some (b1, 105, m1) ∧ (16 ≤ b1 ∧ (vp_in s1 m1 ∧ (Z E YX6_empty d (sl M b1 (s1).toNatClampNeg s0) (zargs 0 [vr (some (74, 4, 0))]) 0 [] (zafter E YX1_newOne (d + 1) [(0, vr (some (16, 0, 0))), (4, vi l4)] 162 3 [vr (some (16, 0, 0))] Q))))) : Z E YX1_newOne (d + 1) M [(0, vr (some (16, 0, 0))), (4, vi l4)] 156 [vl s0, vi s1, vr u2] Q := by
  obtain ⟨b1, m1, e1_, k⟩ := k
  refine Z.eqs (lv' := [(0, vr (some (16, 0, 0))), (4, vi l4)]) (st' := [vl s0, vi s1, vr (some (b1, 105, m1))]) rfl (by rw [e1_] <;> rfl) ?_
  obtain ⟨g_, k⟩ := k
  obtain ⟨b_, k⟩ := k
  refine z_last g_ dX1_newOne_156 b_ ?_
  refine z_aload_n dX1_newOne_157 rfl rfl ?_
  refine z_aload_n dX1_newOne_158 rfl rfl ?_
  refine z_getr dX1_newOne_159 fsX1_216_0 (show gr M 16 81 = some (74, 4, 0) from cw_at hw 42 rfl) ?_
  exact z_callV (as := []) (st := [vr (some (16, 0, 0))]) dX1_newOne_162 vsX1_796_4 (Nat.le_refl _) (Nat.le_of_ble_eq_true rfl) (Nat.le_of_ble_eq_true rfl) rfl k
theorem sX1_newOne_165 {E : zE} {d : Nat} {Q : zO → zM → Prop} (M : zM) (l4 : Int32) (u0 : Option zP) (hw : cw M) (k : ∃ b1 : Nat, u0 = some (b1, 4, 0) ∧ (Z E YX6_add d M (zargs 0 [vr (some (b1, 4, 0)), vi l4]) 0 [] (zafter E YX1_newOne (d + 1) [(0, vr (some (16, 0, 0))), (4, vi l4)] 167 3 [vr (some (16, 0, 0))] Q))) : Z E YX1_newOne (d + 1) M [(0, vr (some (16, 0, 0))), (4, vi l4)] 165 [vr u0, vr (some (16, 0, 0))] Q := by
  refine z_iload dX1_newOne_165 rfl ?_
  obtain ⟨b1, e1_, k⟩ := k
  refine Z.eqs (lv' := [(0, vr (some (16, 0, 0))), (4, vi l4)]) (st' := [vi l4, vr (some (b1, 4, 0)), vr (some (16, 0, 0))]) rfl (by rw [e1_] <;> rfl) ?_
  exact z_callV (as := [vi l4]) (st := [vr (some (16, 0, 0))]) dX1_newOne_167 vsX1_800_4 (Nat.le_refl _) (Nat.le_of_ble_eq_true rfl) (Nat.le_of_ble_eq_true rfl) rfl k
theorem sX1_newOne_170 {E : zE} {d : Nat} {Q : zO → zM → Prop} (M : zM) (l4 : Int32) (u0 : Option zP) (hw : cw M) (k : Z E YX1_nextWith d M (zargs 0 [vr (some (16, 0, 0)), vr u0]) 0 [] (zafter E YX1_newOne (d + 1) [(0, vr (some (16, 0, 0))), (4, vi l4)] 170 3 [] Q)) : Z E YX1_newOne (d + 1) M [(0, vr (some (16, 0, 0))), (4, vi l4)] 170 [vr u0, vr (some (16, 0, 0))] Q := by
  exact z_callV (as := [vr u0]) (st := []) dX1_newOne_170 vsX1_895_0 (Nat.le_refl _) (Nat.le_of_ble_eq_true rfl) (Nat.le_of_ble_eq_true rfl) rfl k
theorem sX1_newOne_173 {E : zE} {d : Nat} {Q : zO → zM → Prop} (M : zM) (l4 : Int32) (hw : cw M) (k : Z E YX7_restore d M (zargs 0 [vr (some (84, 5, 0)), vr (gr M 16 60), vi l4]) 0 [] (zafter E YX1_newOne (d + 1) [] 183 3 [] Q)) : Z E YX1_newOne (d + 1) M [(0, vr (some (16, 0, 0))), (4, vi l4)] 173 [] Q := by
  refine z_aload_n dX1_newOne_173 rfl rfl ?_
  refine z_getr dX1_newOne_174 fsX1_244_0 (show gr M 16 96 = some (84, 5, 0) from cw_at hw 49 rfl) ?_
  refine z_aload_n dX1_newOne_177 rfl rfl ?_
  refine z_getr (r := (gr M 16 60)) dX1_newOne_178 fsX1_684_0 rfl ?_
  refine z_iload dX1_newOne_181 rfl ?_
  refine Z.pick [] rfl ?_
  exact z_callV (as := [vr (gr M 16 60), vi l4]) (st := []) dX1_newOne_183 vsX1_807_5 (Nat.le_refl _) (Nat.le_of_ble_eq_true rfl) (Nat.le_of_ble_eq_true rfl) rfl k
theorem sX1_newOne_186 {E : zE} {d : Nat} {Q : zO → zM → Prop} (M : zM)  (hw : cw M) (k : Q (.inl none) M) : Z E YX1_newOne (d + 1) M [] 186 [] Q := by
  exact z_vret dX1_newOne_186 rfl k
/-! ScriptTypes.rows(ZLScriptTypes$Bag;)V -/
theorem bX1_rows_0 : zdec cX1_rows 0 [(0, .aload_n 0, 1), (1, .getfield 225, 3), (4, .aload_n 0, 1), (5, .getfield 652, 3), (8, .aload_n 0, 1), (9, .getfield 655, 3), (12, .invokevirtual 1028, 3), (15, .ifCond .ne 12, 3), (18, .aload_n 0, 1), (19, .aload_n 0, 1), (20, .getfield 684, 3), (23, .iconst 0, 1), (24, .invokevirtual 960, 3), (27, .aload_n 0, 1), (28, .getfield 225, 3), (31, .aload_n 0, 1)] = true := by decide +kernel
theorem dX1_rows_0 : decode cX1_rows 0 = .ok (.aload_n 0, 1) := zdec_at bX1_rows_0 0 rfl
theorem dX1_rows_1 : decode cX1_rows 1 = .ok (.getfield 225, 3) := zdec_at bX1_rows_0 1 rfl
theorem dX1_rows_4 : decode cX1_rows 4 = .ok (.aload_n 0, 1) := zdec_at bX1_rows_0 2 rfl
theorem dX1_rows_5 : decode cX1_rows 5 = .ok (.getfield 652, 3) := zdec_at bX1_rows_0 3 rfl
theorem dX1_rows_8 : decode cX1_rows 8 = .ok (.aload_n 0, 1) := zdec_at bX1_rows_0 4 rfl
theorem dX1_rows_9 : decode cX1_rows 9 = .ok (.getfield 655, 3) := zdec_at bX1_rows_0 5 rfl
theorem dX1_rows_12 : decode cX1_rows 12 = .ok (.invokevirtual 1028, 3) := zdec_at bX1_rows_0 6 rfl
theorem dX1_rows_15 : decode cX1_rows 15 = .ok (.ifCond .ne 12, 3) := zdec_at bX1_rows_0 7 rfl
theorem dX1_rows_18 : decode cX1_rows 18 = .ok (.aload_n 0, 1) := zdec_at bX1_rows_0 8 rfl
theorem dX1_rows_19 : decode cX1_rows 19 = .ok (.aload_n 0, 1) := zdec_at bX1_rows_0 9 rfl
theorem dX1_rows_20 : decode cX1_rows 20 = .ok (.getfield 684, 3) := zdec_at bX1_rows_0 10 rfl
theorem dX1_rows_23 : decode cX1_rows 23 = .ok (.iconst 0, 1) := zdec_at bX1_rows_0 11 rfl
theorem dX1_rows_24 : decode cX1_rows 24 = .ok (.invokevirtual 960, 3) := zdec_at bX1_rows_0 12 rfl
theorem dX1_rows_27 : decode cX1_rows 27 = .ok (.aload_n 0, 1) := zdec_at bX1_rows_0 13 rfl
theorem dX1_rows_28 : decode cX1_rows 28 = .ok (.getfield 225, 3) := zdec_at bX1_rows_0 14 rfl
theorem dX1_rows_31 : decode cX1_rows 31 = .ok (.aload_n 0, 1) := zdec_at bX1_rows_0 15 rfl
theorem bX1_rows_32 : zdec cX1_rows 32 [(32, .getfield 652, 3), (35, .aload_n 0, 1), (36, .getfield 655, 3), (39, .invokevirtual 1000, 3), (42, .ifCond .ne 4, 3), (45, .return_, 1), (46, .aload_n 0, 1), (47, .getfield 688, 3), (50, .aload_n 0, 1), (51, .getfield 684, 3), (54, .invokevirtual 1059, 3), (57, .aload_n 0, 1), (58, .getfield 216, 3), (61, .iload_n 1, 1), (62, .ifCond .eq 9, 3), (65, .ldc2_w 609, 3)] = true := by decide +kernel
theorem dX1_rows_32 : decode cX1_rows 32 = .ok (.getfield 652, 3) := zdec_at bX1_rows_32 0 rfl
theorem dX1_rows_35 : decode cX1_rows 35 = .ok (.aload_n 0, 1) := zdec_at bX1_rows_32 1 rfl
theorem dX1_rows_36 : decode cX1_rows 36 = .ok (.getfield 655, 3) := zdec_at bX1_rows_32 2 rfl
theorem dX1_rows_39 : decode cX1_rows 39 = .ok (.invokevirtual 1000, 3) := zdec_at bX1_rows_32 3 rfl
theorem dX1_rows_42 : decode cX1_rows 42 = .ok (.ifCond .ne 4, 3) := zdec_at bX1_rows_32 4 rfl
theorem dX1_rows_45 : decode cX1_rows 45 = .ok (.return_, 1) := zdec_at bX1_rows_32 5 rfl
theorem dX1_rows_46 : decode cX1_rows 46 = .ok (.aload_n 0, 1) := zdec_at bX1_rows_32 6 rfl
theorem dX1_rows_47 : decode cX1_rows 47 = .ok (.getfield 688, 3) := zdec_at bX1_rows_32 7 rfl
theorem dX1_rows_50 : decode cX1_rows 50 = .ok (.aload_n 0, 1) := zdec_at bX1_rows_32 8 rfl
theorem dX1_rows_51 : decode cX1_rows 51 = .ok (.getfield 684, 3) := zdec_at bX1_rows_32 9 rfl
theorem dX1_rows_54 : decode cX1_rows 54 = .ok (.invokevirtual 1059, 3) := zdec_at bX1_rows_32 10 rfl
theorem dX1_rows_57 : decode cX1_rows 57 = .ok (.aload_n 0, 1) := zdec_at bX1_rows_32 11 rfl
theorem dX1_rows_58 : decode cX1_rows 58 = .ok (.getfield 216, 3) := zdec_at bX1_rows_32 12 rfl
theorem dX1_rows_61 : decode cX1_rows 61 = .ok (.iload_n 1, 1) := zdec_at bX1_rows_32 13 rfl
theorem dX1_rows_62 : decode cX1_rows 62 = .ok (.ifCond .eq 9, 3) := zdec_at bX1_rows_32 14 rfl
theorem dX1_rows_65 : decode cX1_rows 65 = .ok (.ldc2_w 609, 3) := zdec_at bX1_rows_32 15 rfl
theorem bX1_rows_68 : zdec cX1_rows 68 [(68, .goto 4, 3), (71, .lconst 1, 1), (72, .invokevirtual 892, 3), (75, .pop, 1), (76, .iconst 0, 1), (77, .istore_n 3, 1), (78, .iload_n 3, 1), (79, .aload_n 0, 1), (80, .getfield 313, 3), (83, .if_icmp .ge 221, 3), (86, .iload_n 3, 1), (87, .aload_n 0, 1), (88, .getfield 225, 3), (91, .getfield 916, 3), (94, .aload_n 0, 1), (95, .getfield 652, 3)] = true := by decide +kernel
theorem dX1_rows_68 : decode cX1_rows 68 = .ok (.goto 4, 3) := zdec_at bX1_rows_68 0 rfl
theorem dX1_rows_71 : decode cX1_rows 71 = .ok (.lconst 1, 1) := zdec_at bX1_rows_68 1 rfl
theorem dX1_rows_72 : decode cX1_rows 72 = .ok (.invokevirtual 892, 3) := zdec_at bX1_rows_68 2 rfl
theorem dX1_rows_75 : decode cX1_rows 75 = .ok (.pop, 1) := zdec_at bX1_rows_68 3 rfl
theorem dX1_rows_76 : decode cX1_rows 76 = .ok (.iconst 0, 1) := zdec_at bX1_rows_68 4 rfl
theorem dX1_rows_77 : decode cX1_rows 77 = .ok (.istore_n 3, 1) := zdec_at bX1_rows_68 5 rfl
theorem dX1_rows_78 : decode cX1_rows 78 = .ok (.iload_n 3, 1) := zdec_at bX1_rows_68 6 rfl
theorem dX1_rows_79 : decode cX1_rows 79 = .ok (.aload_n 0, 1) := zdec_at bX1_rows_68 7 rfl
theorem dX1_rows_80 : decode cX1_rows 80 = .ok (.getfield 313, 3) := zdec_at bX1_rows_68 8 rfl
theorem dX1_rows_83 : decode cX1_rows 83 = .ok (.if_icmp .ge 221, 3) := zdec_at bX1_rows_68 9 rfl
theorem dX1_rows_86 : decode cX1_rows 86 = .ok (.iload_n 3, 1) := zdec_at bX1_rows_68 10 rfl
theorem dX1_rows_87 : decode cX1_rows 87 = .ok (.aload_n 0, 1) := zdec_at bX1_rows_68 11 rfl
theorem dX1_rows_88 : decode cX1_rows 88 = .ok (.getfield 225, 3) := zdec_at bX1_rows_68 12 rfl
theorem dX1_rows_91 : decode cX1_rows 91 = .ok (.getfield 916, 3) := zdec_at bX1_rows_68 13 rfl
theorem dX1_rows_94 : decode cX1_rows 94 = .ok (.aload_n 0, 1) := zdec_at bX1_rows_68 14 rfl
theorem dX1_rows_95 : decode cX1_rows 95 = .ok (.getfield 652, 3) := zdec_at bX1_rows_68 15 rfl
theorem bX1_rows_98 : zdec cX1_rows 98 [(98, .land, 1), (99, .aload_n 0, 1), (100, .getfield 225, 3), (103, .getfield 918, 3), (106, .aload_n 0, 1), (107, .getfield 655, 3), (110, .land, 1), (111, .invokestatic 827, 3), (114, .ifCond .eq 184, 3), (117, .aload_n 0, 1), (118, .getfield 684, 3), (121, .getfield 731, 3), (124, .iload_n 3, 1), (125, .baload, 1), (126, .ifCond .ne 6, 3), (129, .goto 169, 3)] = true := by decide +kernel
theorem dX1_rows_98 : decode cX1_rows 98 = .ok (.land, 1) := zdec_at bX1_rows_98 0 rfl
theorem dX1_rows_99 : decode cX1_rows 99 = .ok (.aload_n 0, 1) := zdec_at bX1_rows_98 1 rfl
theorem dX1_rows_100 : decode cX1_rows 100 = .ok (.getfield 225, 3) := zdec_at bX1_rows_98 2 rfl
theorem dX1_rows_103 : decode cX1_rows 103 = .ok (.getfield 918, 3) := zdec_at bX1_rows_98 3 rfl
theorem dX1_rows_106 : decode cX1_rows 106 = .ok (.aload_n 0, 1) := zdec_at bX1_rows_98 4 rfl
theorem dX1_rows_107 : decode cX1_rows 107 = .ok (.getfield 655, 3) := zdec_at bX1_rows_98 5 rfl
theorem dX1_rows_110 : decode cX1_rows 110 = .ok (.land, 1) := zdec_at bX1_rows_98 6 rfl
theorem dX1_rows_111 : decode cX1_rows 111 = .ok (.invokestatic 827, 3) := zdec_at bX1_rows_98 7 rfl
theorem dX1_rows_114 : decode cX1_rows 114 = .ok (.ifCond .eq 184, 3) := zdec_at bX1_rows_98 8 rfl
theorem dX1_rows_117 : decode cX1_rows 117 = .ok (.aload_n 0, 1) := zdec_at bX1_rows_98 9 rfl
theorem dX1_rows_118 : decode cX1_rows 118 = .ok (.getfield 684, 3) := zdec_at bX1_rows_98 10 rfl
theorem dX1_rows_121 : decode cX1_rows 121 = .ok (.getfield 731, 3) := zdec_at bX1_rows_98 11 rfl
theorem dX1_rows_124 : decode cX1_rows 124 = .ok (.iload_n 3, 1) := zdec_at bX1_rows_98 12 rfl
theorem dX1_rows_125 : decode cX1_rows 125 = .ok (.baload, 1) := zdec_at bX1_rows_98 13 rfl
theorem dX1_rows_126 : decode cX1_rows 126 = .ok (.ifCond .ne 6, 3) := zdec_at bX1_rows_98 14 rfl
theorem dX1_rows_129 : decode cX1_rows 129 = .ok (.goto 169, 3) := zdec_at bX1_rows_98 15 rfl
theorem bX1_rows_132 : zdec cX1_rows 132 [(132, .iconst 0, 1), (133, .istore 4, 2), (135, .iload 4, 2), (137, .aload_n 0, 1), (138, .getfield 58, 3), (141, .if_icmp .gt 138, 3), (144, .iload 4, 2), (146, .aload_n 0, 1), (147, .getfield 58, 3), (150, .if_icmp .ge 35, 3), (153, .iload 4, 2), (155, .aload_n 0, 1), (156, .getfield 646, 3), (159, .aload_n 0, 1), (160, .getfield 649, 3), (163, .invokestatic 827, 3)] = true := by decide +kernel
theorem dX1_rows_132 : decode cX1_rows 132 = .ok (.iconst 0, 1) := zdec_at bX1_rows_132 0 rfl
theorem dX1_rows_133 : decode cX1_rows 133 = .ok (.istore 4, 2) := zdec_at bX1_rows_132 1 rfl
theorem dX1_rows_135 : decode cX1_rows 135 = .ok (.iload 4, 2) := zdec_at bX1_rows_132 2 rfl
theorem dX1_rows_137 : decode cX1_rows 137 = .ok (.aload_n 0, 1) := zdec_at bX1_rows_132 3 rfl
theorem dX1_rows_138 : decode cX1_rows 138 = .ok (.getfield 58, 3) := zdec_at bX1_rows_132 4 rfl
theorem dX1_rows_141 : decode cX1_rows 141 = .ok (.if_icmp .gt 138, 3) := zdec_at bX1_rows_132 5 rfl
theorem dX1_rows_144 : decode cX1_rows 144 = .ok (.iload 4, 2) := zdec_at bX1_rows_132 6 rfl
theorem dX1_rows_146 : decode cX1_rows 146 = .ok (.aload_n 0, 1) := zdec_at bX1_rows_132 7 rfl
theorem dX1_rows_147 : decode cX1_rows 147 = .ok (.getfield 58, 3) := zdec_at bX1_rows_132 8 rfl
theorem dX1_rows_150 : decode cX1_rows 150 = .ok (.if_icmp .ge 35, 3) := zdec_at bX1_rows_132 9 rfl
theorem dX1_rows_153 : decode cX1_rows 153 = .ok (.iload 4, 2) := zdec_at bX1_rows_132 10 rfl
theorem dX1_rows_155 : decode cX1_rows 155 = .ok (.aload_n 0, 1) := zdec_at bX1_rows_132 11 rfl
theorem dX1_rows_156 : decode cX1_rows 156 = .ok (.getfield 646, 3) := zdec_at bX1_rows_132 12 rfl
theorem dX1_rows_159 : decode cX1_rows 159 = .ok (.aload_n 0, 1) := zdec_at bX1_rows_132 13 rfl
theorem dX1_rows_160 : decode cX1_rows 160 = .ok (.getfield 649, 3) := zdec_at bX1_rows_132 14 rfl
theorem dX1_rows_163 : decode cX1_rows 163 = .ok (.invokestatic 827, 3) := zdec_at bX1_rows_132 15 rfl
theorem bX1_rows_166 : zdec cX1_rows 166 [(166, .ifCond .ne 19, 3), (169, .iload_n 1, 1), (170, .ifCond .eq 103, 3), (173, .aload_n 0, 1), (174, .iload 4, 2), (176, .invokevirtual 1110, 3), (179, .ifCond .ne 6, 3), (182, .goto 91, 3), (185, .aload_n 0, 1), (186, .getfield 684, 3), (189, .iload_n 3, 1), (190, .iload 4, 2), (192, .invokevirtual 813, 3), (195, .istore 5, 2), (197, .iload_n 1, 1), (198, .ifCond .eq 17, 3)] = true := by decide +kernel
theorem dX1_rows_166 : decode cX1_rows 166 = .ok (.ifCond .ne 19, 3) := zdec_at bX1_rows_166 0 rfl
theorem dX1_rows_169 : decode cX1_rows 169 = .ok (.iload_n 1, 1) := zdec_at bX1_rows_166 1 rfl
theorem dX1_rows_170 : decode cX1_rows 170 = .ok (.ifCond .eq 103, 3) := zdec_at bX1_rows_166 2 rfl
theorem dX1_rows_173 : decode cX1_rows 173 = .ok (.aload_n 0, 1) := zdec_at bX1_rows_166 3 rfl
theorem dX1_rows_174 : decode cX1_rows 174 = .ok (.iload 4, 2) := zdec_at bX1_rows_166 4 rfl
theorem dX1_rows_176 : decode cX1_rows 176 = .ok (.invokevirtual 1110, 3) := zdec_at bX1_rows_166 5 rfl
theorem dX1_rows_179 : decode cX1_rows 179 = .ok (.ifCond .ne 6, 3) := zdec_at bX1_rows_166 6 rfl
theorem dX1_rows_182 : decode cX1_rows 182 = .ok (.goto 91, 3) := zdec_at bX1_rows_166 7 rfl
theorem dX1_rows_185 : decode cX1_rows 185 = .ok (.aload_n 0, 1) := zdec_at bX1_rows_166 8 rfl
theorem dX1_rows_186 : decode cX1_rows 186 = .ok (.getfield 684, 3) := zdec_at bX1_rows_166 9 rfl
theorem dX1_rows_189 : decode cX1_rows 189 = .ok (.iload_n 3, 1) := zdec_at bX1_rows_166 10 rfl
theorem dX1_rows_190 : decode cX1_rows 190 = .ok (.iload 4, 2) := zdec_at bX1_rows_166 11 rfl
theorem dX1_rows_192 : decode cX1_rows 192 = .ok (.invokevirtual 813, 3) := zdec_at bX1_rows_166 12 rfl
theorem dX1_rows_195 : decode cX1_rows 195 = .ok (.istore 5, 2) := zdec_at bX1_rows_166 13 rfl
theorem dX1_rows_197 : decode cX1_rows 197 = .ok (.iload_n 1, 1) := zdec_at bX1_rows_166 14 rfl
theorem dX1_rows_198 : decode cX1_rows 198 = .ok (.ifCond .eq 17, 3) := zdec_at bX1_rows_166 15 rfl
theorem bX1_rows_201 : zdec cX1_rows 201 [(201, .aload_n 0, 1), (202, .getfield 684, 3), (205, .iload_n 3, 1), (206, .iload 4, 2), (208, .aload_n 2, 1), (209, .invokevirtual 992, 3), (212, .goto 61, 3), (215, .aload_n 0, 1), (216, .getfield 216, 3), (219, .aload_n 0, 1), (220, .getfield 684, 3), (223, .getfield 863, 3), (226, .iload 5, 2), (228, .laload, 1), (229, .aload_n 0, 1), (230, .getfield 684, 3)] = true := by decide +kernel
theorem dX1_rows_201 : decode cX1_rows 201 = .ok (.aload_n 0, 1) := zdec_at bX1_rows_201 0 rfl
theorem dX1_rows_202 : decode cX1_rows 202 = .ok (.getfield 684, 3) := zdec_at bX1_rows_201 1 rfl
theorem dX1_rows_205 : decode cX1_rows 205 = .ok (.iload_n 3, 1) := zdec_at bX1_rows_201 2 rfl
theorem dX1_rows_206 : decode cX1_rows 206 = .ok (.iload 4, 2) := zdec_at bX1_rows_201 3 rfl
theorem dX1_rows_208 : decode cX1_rows 208 = .ok (.aload_n 2, 1) := zdec_at bX1_rows_201 4 rfl
theorem dX1_rows_209 : decode cX1_rows 209 = .ok (.invokevirtual 992, 3) := zdec_at bX1_rows_201 5 rfl
theorem dX1_rows_212 : decode cX1_rows 212 = .ok (.goto 61, 3) := zdec_at bX1_rows_201 6 rfl
theorem dX1_rows_215 : decode cX1_rows 215 = .ok (.aload_n 0, 1) := zdec_at bX1_rows_201 7 rfl
theorem dX1_rows_216 : decode cX1_rows 216 = .ok (.getfield 216, 3) := zdec_at bX1_rows_201 8 rfl
theorem dX1_rows_219 : decode cX1_rows 219 = .ok (.aload_n 0, 1) := zdec_at bX1_rows_201 9 rfl
theorem dX1_rows_220 : decode cX1_rows 220 = .ok (.getfield 684, 3) := zdec_at bX1_rows_201 10 rfl
theorem dX1_rows_223 : decode cX1_rows 223 = .ok (.getfield 863, 3) := zdec_at bX1_rows_201 11 rfl
theorem dX1_rows_226 : decode cX1_rows 226 = .ok (.iload 5, 2) := zdec_at bX1_rows_201 12 rfl
theorem dX1_rows_228 : decode cX1_rows 228 = .ok (.laload, 1) := zdec_at bX1_rows_201 13 rfl
theorem dX1_rows_229 : decode cX1_rows 229 = .ok (.aload_n 0, 1) := zdec_at bX1_rows_201 14 rfl
theorem dX1_rows_230 : decode cX1_rows 230 = .ok (.getfield 684, 3) := zdec_at bX1_rows_201 15 rfl
theorem bX1_rows_233 : zdec cX1_rows 233 [(233, .getfield 866, 3), (236, .iload 5, 2), (238, .laload, 1), (239, .aload_n 0, 1), (240, .getfield 684, 3), (243, .getfield 810, 3), (246, .iload 5, 2), (248, .laload, 1), (249, .ldc2_w 869, 3), (252, .land, 1), (253, .invokevirtual 871, 3), (256, .pop, 1), (257, .aload_n 0, 1), (258, .getfield 684, 3), (261, .getfield 810, 3), (264, .iload 5, 2)] = true := by decide +kernel
theorem dX1_rows_233 : decode cX1_rows 233 = .ok (.getfield 866, 3) := zdec_at bX1_rows_233 0 rfl
theorem dX1_rows_236 : decode cX1_rows 236 = .ok (.iload 5, 2) := zdec_at bX1_rows_233 1 rfl
theorem dX1_rows_238 : decode cX1_rows 238 = .ok (.laload, 1) := zdec_at bX1_rows_233 2 rfl
theorem dX1_rows_239 : decode cX1_rows 239 = .ok (.aload_n 0, 1) := zdec_at bX1_rows_233 3 rfl
theorem dX1_rows_240 : decode cX1_rows 240 = .ok (.getfield 684, 3) := zdec_at bX1_rows_233 4 rfl
theorem dX1_rows_243 : decode cX1_rows 243 = .ok (.getfield 810, 3) := zdec_at bX1_rows_233 5 rfl
theorem dX1_rows_246 : decode cX1_rows 246 = .ok (.iload 5, 2) := zdec_at bX1_rows_233 6 rfl
theorem dX1_rows_248 : decode cX1_rows 248 = .ok (.laload, 1) := zdec_at bX1_rows_233 7 rfl
theorem dX1_rows_249 : decode cX1_rows 249 = .ok (.ldc2_w 869, 3) := zdec_at bX1_rows_233 8 rfl
theorem dX1_rows_252 : decode cX1_rows 252 = .ok (.land, 1) := zdec_at bX1_rows_233 9 rfl
theorem dX1_rows_253 : decode cX1_rows 253 = .ok (.invokevirtual 871, 3) := zdec_at bX1_rows_233 10 rfl
theorem dX1_rows_256 : decode cX1_rows 256 = .ok (.pop, 1) := zdec_at bX1_rows_233 11 rfl
theorem dX1_rows_257 : decode cX1_rows 257 = .ok (.aload_n 0, 1) := zdec_at bX1_rows_233 12 rfl
theorem dX1_rows_258 : decode cX1_rows 258 = .ok (.getfield 684, 3) := zdec_at bX1_rows_233 13 rfl
theorem dX1_rows_261 : decode cX1_rows 261 = .ok (.getfield 810, 3) := zdec_at bX1_rows_233 14 rfl
theorem dX1_rows_264 : decode cX1_rows 264 = .ok (.iload 5, 2) := zdec_at bX1_rows_233 15 rfl
theorem bX1_rows_266 : zdec cX1_rows 266 [(266, .dup2, 1), (267, .laload, 1), (268, .ldc2_w 816, 3), (271, .lor, 1), (272, .lastore, 1), (273, .iinc 4 1, 3), (276, .goto (-141), 3), (279, .aload_n 0, 1), (280, .getfield 684, 3), (283, .iload_n 3, 1), (284, .iconst 0, 1), (285, .aload_n 0, 1), (286, .getfield 213, 3), (289, .ldc2_w 609, 3), (292, .invokevirtual 892, 3), (295, .invokevirtual 992, 3)] = true := by decide +kernel
theorem dX1_rows_266 : decode cX1_rows 266 = .ok (.dup2, 1) := zdec_at bX1_rows_266 0 rfl
theorem dX1_rows_267 : decode cX1_rows 267 = .ok (.laload, 1) := zdec_at bX1_rows_266 1 rfl
theorem dX1_rows_268 : decode cX1_rows 268 = .ok (.ldc2_w 816, 3) := zdec_at bX1_rows_266 2 rfl
theorem dX1_rows_271 : decode cX1_rows 271 = .ok (.lor, 1) := zdec_at bX1_rows_266 3 rfl
theorem dX1_rows_272 : decode cX1_rows 272 = .ok (.lastore, 1) := zdec_at bX1_rows_266 4 rfl
theorem dX1_rows_273 : decode cX1_rows 273 = .ok (.iinc 4 1, 3) := zdec_at bX1_rows_266 5 rfl
theorem dX1_rows_276 : decode cX1_rows 276 = .ok (.goto (-141), 3) := zdec_at bX1_rows_266 6 rfl
theorem dX1_rows_279 : decode cX1_rows 279 = .ok (.aload_n 0, 1) := zdec_at bX1_rows_266 7 rfl
theorem dX1_rows_280 : decode cX1_rows 280 = .ok (.getfield 684, 3) := zdec_at bX1_rows_266 8 rfl
theorem dX1_rows_283 : decode cX1_rows 283 = .ok (.iload_n 3, 1) := zdec_at bX1_rows_266 9 rfl
theorem dX1_rows_284 : decode cX1_rows 284 = .ok (.iconst 0, 1) := zdec_at bX1_rows_266 10 rfl
theorem dX1_rows_285 : decode cX1_rows 285 = .ok (.aload_n 0, 1) := zdec_at bX1_rows_266 11 rfl
theorem dX1_rows_286 : decode cX1_rows 286 = .ok (.getfield 213, 3) := zdec_at bX1_rows_266 12 rfl
theorem dX1_rows_289 : decode cX1_rows 289 = .ok (.ldc2_w 609, 3) := zdec_at bX1_rows_266 13 rfl
theorem dX1_rows_292 : decode cX1_rows 292 = .ok (.invokevirtual 892, 3) := zdec_at bX1_rows_266 14 rfl
theorem dX1_rows_295 : decode cX1_rows 295 = .ok (.invokevirtual 992, 3) := zdec_at bX1_rows_266 15 rfl
theorem bX1_rows_298 : zdec cX1_rows 298 [(298, .iinc 3 1, 3), (301, .goto (-223), 3), (304, .aload_n 0, 1), (305, .aload_n 0, 1), (306, .getfield 216, 3), (309, .invokevirtual 895, 3), (312, .aload_n 0, 1), (313, .getfield 684, 3), (316, .aload_n 0, 1), (317, .getfield 688, 3), (320, .invokevirtual 1059, 3), (323, .return_, 1)] = true := by decide +kernel
theorem dX1_rows_298 : decode cX1_rows 298 = .ok (.iinc 3 1, 3) := zdec_at bX1_rows_298 0 rfl
theorem dX1_rows_301 : decode cX1_rows 301 = .ok (.goto (-223), 3) := zdec_at bX1_rows_298 1 rfl
theorem dX1_rows_304 : decode cX1_rows 304 = .ok (.aload_n 0, 1) := zdec_at bX1_rows_298 2 rfl
theorem dX1_rows_305 : decode cX1_rows 305 = .ok (.aload_n 0, 1) := zdec_at bX1_rows_298 3 rfl
theorem dX1_rows_306 : decode cX1_rows 306 = .ok (.getfield 216, 3) := zdec_at bX1_rows_298 4 rfl
theorem dX1_rows_309 : decode cX1_rows 309 = .ok (.invokevirtual 895, 3) := zdec_at bX1_rows_298 5 rfl
theorem dX1_rows_312 : decode cX1_rows 312 = .ok (.aload_n 0, 1) := zdec_at bX1_rows_298 6 rfl
theorem dX1_rows_313 : decode cX1_rows 313 = .ok (.getfield 684, 3) := zdec_at bX1_rows_298 7 rfl
theorem dX1_rows_316 : decode cX1_rows 316 = .ok (.aload_n 0, 1) := zdec_at bX1_rows_298 8 rfl
theorem dX1_rows_317 : decode cX1_rows 317 = .ok (.getfield 688, 3) := zdec_at bX1_rows_298 9 rfl
theorem dX1_rows_320 : decode cX1_rows 320 = .ok (.invokevirtual 1059, 3) := zdec_at bX1_rows_298 10 rfl
theorem dX1_rows_323 : decode cX1_rows 323 = .ok (.return_, 1) := zdec_at bX1_rows_298 11 rfl
theorem sX1_rows_0 {E : zE} {d : Nat} {Q : zO → zM → Prop} (M : zM) (l1 : Int32) (r2 : Option zP) (hw : cw M) (k : Z E YX6_hasOnly d M (zargs 0 [vr (some (77, 4, 0)), vl (gl M 16 71), vl (gl M 16 72)]) 0 [] (zafter E YX1_rows (d + 1) [(0, vr (some (16, 0, 0))), (1, vi l1), (2, vr r2)] 12 3 [] Q)) : Z E YX1_rows (d + 1) M [(0, vr (some (16, 0, 0))), (1, vi l1), (2, vr r2)] 0 [] Q := by
  refine z_aload_n dX1_rows_0 rfl rfl ?_
  refine z_getr dX1_rows_1 fsX1_225_0 (show gr M 16 84 = some (77, 4, 0) from cw_at hw 45 rfl) ?_
  refine z_aload_n dX1_rows_4 rfl rfl ?_
  refine z_getl dX1_rows_5 fsX1_652_0 ?_
  refine z_aload_n dX1_rows_8 rfl rfl ?_
  refine z_getl dX1_rows_9 fsX1_655_0 ?_
  exact z_callV (as := [vl (gl M 16 71), vl (gl M 16 72)]) (st := []) dX1_rows_12 vsX1_1028_4 (Nat.le_refl _) (Nat.le_of_ble_eq_true rfl) (Nat.le_of_ble_eq_true rfl) rfl k
theorem sX1_rows_15 {E : zE} {d : Nat} {Q : zO → zM → Prop} (M : zM) (l1 : Int32) (r2 : Option zP) (s0 : Int32) (hw : cw M) (k : if s0 = 0 then (Z E YX1_errs d M (zargs 0 [vr (some (16, 0, 0)), vr (gr M 16 60), vi (0 : Int32)]) 0 [] (zafter E YX1_rows (d + 1) [(0, vr (some (16, 0, 0))), (1, vi l1), (2, vr r2)] 24 3 [] Q)) else (Z E YX1_rows (d + 1) M [(0, vr (some (16, 0, 0))), (1, vi l1), (2, vr r2)] 27 [] Q)) : Z E YX1_rows (d + 1) M [(0, vr (some (16, 0, 0))), (1, vi l1), (2, vr r2)] 15 [vi s0] Q := by
  refine z_if_ne (tgt := 27) dX1_rows_15 rfl (fun h_ => ?_) (fun h_ => ?_)
  · have k := zif h_ k
    exact k
  · have k := zit h_ k
    refine z_aload_n dX1_rows_18 rfl rfl ?_
    refine z_aload_n dX1_rows_19 rfl rfl ?_
    refine z_getr (r := (gr M 16 60)) dX1_rows_20 fsX1_684_0 rfl ?_
    refine z_iconst (v := 0) dX1_rows_23 rfl ?_
    exact z_callV (as := [vr (gr M 16 60), vi (0 : Int32)]) (st := []) dX1_rows_24 vsX1_960_0 (Nat.le_refl _) (Nat.le_of_ble_eq_true rfl) (Nat.le_of_ble_eq_true rfl) rfl k
theorem sX1_rows_27 {E : zE} {d : Nat} {Q : zO → zM → Prop} (M : zM) (l1 : Int32) (r2 : Option zP) (hw : cw M) (k : Z E YX6_meets d M (zargs 0 [vr (some (77, 4, 0)), vl (gl M 16 71), vl (gl M 16 72)]) 0 [] (zafter E YX1_rows (d + 1) [(0, vr (some (16, 0, 0))), (1, vi l1), (2, vr r2)] 39 3 [] Q)) : Z E YX1_rows (d + 1) M [(0, vr (some (16, 0, 0))), (1, vi l1), (2, vr r2)] 27 [] Q := by
  refine z_aload_n dX1_rows_27 rfl rfl ?_
  refine z_getr dX1_rows_28 fsX1_225_0 (show gr M 16 84 = some (77, 4, 0) from cw_at hw 45 rfl) ?_
  refine z_aload_n dX1_rows_31 rfl rfl ?_
  refine z_getl dX1_rows_32 fsX1_652_0 ?_
  refine z_aload_n dX1_rows_35 rfl rfl ?_
  refine z_getl dX1_rows_36 fsX1_655_0 ?_
  exact z_callV (as := [vl (gl M 16 71), vl (gl M 16 72)]) (st := []) dX1_rows_39 vsX1_1000_4 (Nat.le_refl _) (Nat.le_of_ble_eq_true rfl) (Nat.le_of_ble_eq_true rfl) rfl k
theorem sX1_rows_42 {E : zE} {d : Nat} {Q : zO → zM → Prop} (M : zM) (l1 : Int32) (r2 : Option zP) (s0 : Int32) (hw : cw M) (k : if s0 = 0 then (Q (.inl none) M) else (∃ b1 : Nat, (gr M 16 61) = some (b1, 7, 0) ∧ (Z E YX43_copy d M (zargs 0 [vr (some (b1, 7, 0)), vr (gr M 16 60)]) 0 [] (zafter E YX1_rows (d + 1) [(0, vr (some (16, 0, 0))), (1, vi l1), (2, vr r2)] 54 3 [] Q)))) : Z E YX1_rows (d + 1) M [(0, vr (some (16, 0, 0))), (1, vi l1), (2, vr r2)] 42 [vi s0] Q := by
  refine z_if_ne (tgt := 46) dX1_rows_42 rfl (fun h_ => ?_) (fun h_ => ?_)
  · have k := zif h_ k
    refine z_aload_n dX1_rows_46 rfl rfl ?_
    refine z_getr (r := (gr M 16 61)) dX1_rows_47 fsX1_688_0 rfl ?_
    refine z_aload_n dX1_rows_50 rfl rfl ?_
    refine z_getr (r := (gr M 16 60)) dX1_rows_51 fsX1_684_0 rfl ?_
    obtain ⟨b1, e1_, k⟩ := k
    refine Z.eqs (lv' := [(0, vr (some (16, 0, 0))), (1, vi l1), (2, vr r2)]) (st' := [vr (gr M 16 60), vr (some (b1, 7, 0))]) rfl (by rw [e1_] <;> rfl) ?_
    exact z_callV (as := [vr (gr M 16 60)]) (st := []) dX1_rows_54 vsX1_1059_7 (Nat.le_refl _) (Nat.le_of_ble_eq_true rfl) (Nat.le_of_ble_eq_true rfl) rfl k
  · have k := zit h_ k
    exact z_vret dX1_rows_45 rfl k
theorem sX1_rows_57 {E : zE} {d : Nat} {Q : zO → zM → Prop} (M : zM) (l1 : Int32) (r2 : Option zP) (hw : cw M) (k : if l1 = 0 then (Z E YX6_of d M (zargs 0 [vr (some (74, 4, 0)), vl (1 : Int64)]) 0 [] (zafter E YX1_rows (d + 1) [(0, vr (some (16, 0, 0))), (1, vi l1), (2, vr r2)] 72 3 [] Q)) else (Z E YX6_of d M (zargs 0 [vr (some (74, 4, 0)), vl (64 : Int64)]) 0 [] (zafter E YX1_rows (d + 1) [(0, vr (some (16, 0, 0))), (1, vi l1), (2, vr r2)] 72 3 [] Q))) : Z E YX1_rows (d + 1) M [(0, vr (some (16, 0, 0))), (1, vi l1), (2, vr r2)] 57 [] Q := by
  refine z_aload_n dX1_rows_57 rfl rfl ?_
  refine z_getr dX1_rows_58 fsX1_216_0 (show gr M 16 81 = some (74, 4, 0) from cw_at hw 42 rfl) ?_
  refine z_iload_n dX1_rows_61 rfl rfl ?_
  refine z_if_eq (tgt := 71) dX1_rows_62 rfl (fun h_ => ?_) (fun h_ => ?_)
  · have k := zit h_ k
    refine z_lconst (v := 1) dX1_rows_71 rfl ?_
    exact z_callV (as := [vl (1 : Int64)]) (st := []) dX1_rows_72 vsX1_892_4 (Nat.le_refl _) (Nat.le_of_ble_eq_true rfl) (Nat.le_of_ble_eq_true rfl) rfl k
  · have k := zif h_ k
    refine z_ldc2 (v := 64) dX1_rows_65 q2567 ?_
    refine z_goto (tgt := 72) dX1_rows_68 rfl ?_
    exact z_callV (as := [vl (64 : Int64)]) (st := []) dX1_rows_72 vsX1_892_4 (Nat.le_refl _) (Nat.le_of_ble_eq_true rfl) (Nat.le_of_ble_eq_true rfl) rfl k
theorem sX1_rows_75 {E : zE} {d : Nat} {Q : zO → zM → Prop} (M : zM) (l1 : Int32) (r2 : Option zP) (u0 : Option zP) (hw : cw M) (k : Z E YX1_rows (d + 1) M [(0, vr (some (16, 0, 0))), (1, vi l1), (2, vr r2), (3, vi (0 : Int32))] 78 [] Q) : Z E YX1_rows (d + 1) M [(0, vr (some (16, 0, 0))), (1, vi l1), (2, vr r2)] 75 [vr u0] Q := by
  refine z_pop dX1_rows_75 rfl ?_
  refine z_iconst (v := 0) dX1_rows_76 rfl ?_
  refine z_ist_n dX1_rows_77 rfl (by decide) (lv' := [(0, vr (some (16, 0, 0))), (1, vi l1), (2, vr r2), (3, vi (0 : Int32))]) rfl ?_
  exact k
theorem sX1_rows_78 {E : zE} {d : Nat} {Q : zO → zM → Prop} (M : zM) (l1 : Int32) (r2 : Option zP) (l3 : Int32) (hw : cw M) (k : if (gi M 16 11) ≤ l3 then (Z E YX1_nextWith d M (zargs 0 [vr (some (16, 0, 0)), vr (some (74, 4, 0))]) 0 [] (zafter E YX1_rows (d + 1) [(0, vr (some (16, 0, 0)))] 309 3 [] Q)) else (Z E YX1_in d M (zargs 0 [vi l3, vl ((gl M 77 0) &&& (gl M 16 71)), vl ((gl M 77 1) &&& (gl M 16 72))]) 0 [] (zafter E YX1_rows (d + 1) [(0, vr (some (16, 0, 0))), (1, vi l1), (2, vr r2), (3, vi l3)] 111 3 [] Q))) : Z E YX1_rows (d + 1) M [(0, vr (some (16, 0, 0))), (1, vi l1), (2, vr r2), (3, vi l3)] 78 [] Q := by
  refine z_iload_n dX1_rows_78 rfl rfl ?_
  refine z_aload_n dX1_rows_79 rfl rfl ?_
  refine z_geti dX1_rows_80 fsX1_313_0 ?_
  refine z_icmp_ge (tgt := 304) dX1_rows_83 rfl (fun h_ => ?_) (fun h_ => ?_)
  · have k := zit h_ k
    refine z_aload_n dX1_rows_304 rfl rfl ?_
    refine z_aload_n dX1_rows_305 rfl rfl ?_
    refine z_getr dX1_rows_306 fsX1_216_0 (show gr M 16 81 = some (74, 4, 0) from cw_at hw 42 rfl) ?_
    refine Z.pick [0] rfl ?_
    exact z_callV (as := [vr (some (74, 4, 0))]) (st := []) dX1_rows_309 vsX1_895_0 (Nat.le_refl _) (Nat.le_of_ble_eq_true rfl) (Nat.le_of_ble_eq_true rfl) rfl k
  · have k := zif h_ k
    refine z_iload_n dX1_rows_86 rfl rfl ?_
    refine z_aload_n dX1_rows_87 rfl rfl ?_
    refine z_getr dX1_rows_88 fsX1_225_0 (show gr M 16 84 = some (77, 4, 0) from cw_at hw 45 rfl) ?_
    refine z_getl dX1_rows_91 fsX1_916_4 ?_
    refine z_aload_n dX1_rows_94 rfl rfl ?_
    refine z_getl dX1_rows_95 fsX1_652_0 ?_
    refine z_land dX1_rows_98 ?_
    refine z_aload_n dX1_rows_99 rfl rfl ?_
    refine z_getr dX1_rows_100 fsX1_225_0 (show gr M 16 84 = some (77, 4, 0) from cw_at hw 45 rfl) ?_
    refine z_getl dX1_rows_103 fsX1_918_4 ?_
    refine z_aload_n dX1_rows_106 rfl rfl ?_
    refine z_getl dX1_rows_107 fsX1_655_0 ?_
    refine z_land dX1_rows_110 ?_
    exact z_callS (as := [vi l3, vl ((gl M 77 0) &&& (gl M 16 71)), vl ((gl M 77 1) &&& (gl M 16 72))]) (st := []) dX1_rows_111 ssX1_827 (Nat.le_refl _) (Nat.le_of_ble_eq_true rfl) (Nat.le_of_ble_eq_true rfl) rfl k
theorem sX1_rows_114 {E : zE} {d : Nat} {Q : zO → zM → Prop} (M : zM) (l1 : Int32) (r2 : Option zP) (l3 : Int32) (s0 : Int32) (hw : cw M) (k : if s0 = 0 then (Z E YX1_rows (d + 1) M [(0, vr (some (16, 0, 0))), (1, vi l1), (2, vr r2), (3, vi l3)] 298 [] Q) else (∃ b1 : Nat, (gr M 16 60) = some (b1, 7, 0) ∧ (∃ b2 m2 : Nat, (gr M b1 8) = some (b2, 104, m2) ∧ (vp_in l3 m2 ∧ (if (gi M b2 (l3).toNatClampNeg) = 0 then (Z E YX1_rows (d + 1) M [(0, vr (some (16, 0, 0))), (1, vi l1), (2, vr r2), (3, vi l3)] 298 [] Q) else (Z E YX1_rows (d + 1) M [(0, vr (some (16, 0, 0))), (1, vi l1), (2, vr r2), (3, vi l3), (4, vi (0 : Int32))] 135 [] Q)))))) : Z E YX1_rows (d + 1) M [(0, vr (some (16, 0, 0))), (1, vi l1), (2, vr r2), (3, vi l3)] 114 [vi s0] Q := by
  refine z_if_eq (tgt := 298) dX1_rows_114 rfl (fun h_ => ?_) (fun h_ => ?_)
  · have k := zit h_ k
    exact k
  · have k := zif h_ k
    refine z_aload_n dX1_rows_117 rfl rfl ?_
    refine z_getr (r := (gr M 16 60)) dX1_rows_118 fsX1_684_0 rfl ?_
    obtain ⟨b1, e1_, k⟩ := k
    refine Z.eqs (lv' := [(0, vr (some (16, 0, 0))), (1, vi l1), (2, vr r2), (3, vi l3)]) (st' := [vr (some (b1, 7, 0))]) rfl (by rw [e1_] <;> rfl) ?_
    refine z_getr (r := (gr M b1 8)) dX1_rows_121 fsX1_731_7 rfl ?_
    refine z_iload_n dX1_rows_124 rfl rfl ?_
    obtain ⟨b2, m2, e2_, k⟩ := k
    refine Z.eqs (lv' := [(0, vr (some (16, 0, 0))), (1, vi l1), (2, vr r2), (3, vi l3)]) (st' := [vi l3, vr (some (b2, 104, m2))]) rfl (by rw [e2_] <;> rfl) ?_
    obtain ⟨b_, k⟩ := k
    refine z_zald dX1_rows_125 b_ ?_
    refine z_if_ne (tgt := 132) dX1_rows_126 rfl (fun h_ => ?_) (fun h_ => ?_)
    · have k := zif h_ k
      refine z_iconst (v := 0) dX1_rows_132 rfl ?_
      refine z_ist dX1_rows_133 (by decide) (lv' := [(0, vr (some (16, 0, 0))), (1, vi l1), (2, vr r2), (3, vi l3), (4, vi (0 : Int32))]) rfl ?_
      exact k
    · have k := zit h_ k
      refine z_goto (tgt := 298) dX1_rows_129 rfl ?_
      exact k
theorem sX1_rows_135 {E : zE} {d : Nat} {Q : zO → zM → Prop} (M : zM) (l1 : Int32) (r2 : Option zP) (l3 : Int32) (l4 : Int32) (hw : cw M) (k : if (gi M 16 1) < l4 then (Z E YX6_of d M (zargs 0 [vr (some (73, 4, 0)), vl (64 : Int64)]) 0 [] (zafter E YX1_rows (d + 1) [(0, vr (some (16, 0, 0))), (1, vi l1), (2, vr r2), (3, vi l3)] 292 3 [vi (0 : Int32), vi l3, vr (gr M 16 60)] Q)) else (if (gi M 16 1) ≤ l4 then (∃ b1 : Nat, (gr M 16 60) = some (b1, 7, 0) ∧ (Z E YX43_cell d M (zargs 0 [vr (some (b1, 7, 0)), vi l3, vi l4]) 0 [] (zafter E YX1_rows (d + 1) [(0, vr (some (16, 0, 0))), (1, vi l1), (2, vr r2), (3, vi l3), (4, vi l4)] 192 3 [] Q))) else (Z E YX1_in d M (zargs 0 [vi l4, vl (gl M 16 69), vl (gl M 16 70)]) 0 [] (zafter E YX1_rows (d + 1) [(0, vr (some (16, 0, 0))), (1, vi l1), (2, vr r2), (3, vi l3), (4, vi l4)] 163 3 [] Q)))) : Z E YX1_rows (d + 1) M [(0, vr (some (16, 0, 0))), (1, vi l1), (2, vr r2), (3, vi l3), (4, vi l4)] 135 [] Q := by
  refine z_iload dX1_rows_135 rfl ?_
  refine z_aload_n dX1_rows_137 rfl rfl ?_
  refine z_geti dX1_rows_138 fsX1_58_0 ?_
  refine z_icmp_gt (tgt := 279) dX1_rows_141 rfl (fun h_ => ?_) (fun h_ => ?_)
  · have k := zit h_ k
    refine z_aload_n dX1_rows_279 rfl rfl ?_
    refine z_getr (r := (gr M 16 60)) dX1_rows_280 fsX1_684_0 rfl ?_
    refine z_iload_n dX1_rows_283 rfl rfl ?_
    refine z_iconst (v := 0) dX1_rows_284 rfl ?_
    refine z_aload_n dX1_rows_285 rfl rfl ?_
    refine z_getr dX1_rows_286 fsX1_213_0 (show gr M 16 80 = some (73, 4, 0) from cw_at hw 41 rfl) ?_
    refine z_ldc2 (v := 64) dX1_rows_289 q2567 ?_
    refine Z.pick [0, 1, 2, 3] rfl ?_
    exact z_callV (as := [vl (64 : Int64)]) (st := [vi (0 : Int32), vi l3, vr (gr M 16 60)]) dX1_rows_292 vsX1_892_4 (Nat.le_refl _) (Nat.le_of_ble_eq_true rfl) (Nat.le_of_ble_eq_true rfl) rfl k
  · have k := zif h_ k
    refine z_iload dX1_rows_144 rfl ?_
    refine z_aload_n dX1_rows_146 rfl rfl ?_
    refine z_geti dX1_rows_147 fsX1_58_0 ?_
    refine z_icmp_ge (tgt := 185) dX1_rows_150 rfl (fun h_ => ?_) (fun h_ => ?_)
    · have k := zit h_ k
      refine z_aload_n dX1_rows_185 rfl rfl ?_
      refine z_getr (r := (gr M 16 60)) dX1_rows_186 fsX1_684_0 rfl ?_
      refine z_iload_n dX1_rows_189 rfl rfl ?_
      refine z_iload dX1_rows_190 rfl ?_
      obtain ⟨b1, e1_, k⟩ := k
      refine Z.eqs (lv' := [(0, vr (some (16, 0, 0))), (1, vi l1), (2, vr r2), (3, vi l3), (4, vi l4)]) (st' := [vi l4, vi l3, vr (some (b1, 7, 0))]) rfl (by rw [e1_] <;> rfl) ?_
      exact z_callV (as := [vi l3, vi l4]) (st := []) dX1_rows_192 vsX1_813_7 (Nat.le_refl _) (Nat.le_of_ble_eq_true rfl) (Nat.le_of_ble_eq_true rfl) rfl k
    · have k := zif h_ k
      refine z_iload dX1_rows_153 rfl ?_
      refine z_aload_n dX1_rows_155 rfl rfl ?_
      refine z_getl dX1_rows_156 fsX1_646_0 ?_
      refine z_aload_n dX1_rows_159 rfl rfl ?_
      refine z_getl dX1_rows_160 fsX1_649_0 ?_
      exact z_callS (as := [vi l4, vl (gl M 16 69), vl (gl M 16 70)]) (st := []) dX1_rows_163 ssX1_827 (Nat.le_refl _) (Nat.le_of_ble_eq_true rfl) (Nat.le_of_ble_eq_true rfl) rfl k
theorem sX1_rows_166 {E : zE} {d : Nat} {Q : zO → zM → Prop} (M : zM) (l1 : Int32) (r2 : Option zP) (l3 : Int32) (l4 : Int32) (s0 : Int32) (hw : cw M) (k : if s0 = 0 then (if l1 = 0 then (Z E YX1_rows (d + 1) M [(0, vr (some (16, 0, 0))), (1, vi l1), (2, vr r2), (3, vi l3), (4, vi (l4 + (1 : Int32)))] 135 [] Q) else (Z E YX1_isHundred d M (zargs 0 [vr (some (16, 0, 0)), vi l4]) 0 [] (zafter E YX1_rows (d + 1) [(0, vr (some (16, 0, 0))), (1, vi l1), (2, vr r2), (3, vi l3), (4, vi l4)] 176 3 [] Q))) else (∃ b1 : Nat, (gr M 16 60) = some (b1, 7, 0) ∧ (Z E YX43_cell d M (zargs 0 [vr (some (b1, 7, 0)), vi l3, vi l4]) 0 [] (zafter E YX1_rows (d + 1) [(0, vr (some (16, 0, 0))), (1, vi l1), (2, vr r2), (3, vi l3), (4, vi l4)] 192 3 [] Q)))) : Z E YX1_rows (d + 1) M [(0, vr (some (16, 0, 0))), (1, vi l1), (2, vr r2), (3, vi l3), (4, vi l4)] 166 [vi s0] Q := by
  refine z_if_ne (tgt := 185) dX1_rows_166 rfl (fun h_ => ?_) (fun h_ => ?_)
  · have k := zif h_ k
    refine z_aload_n dX1_rows_185 rfl rfl ?_
    refine z_getr (r := (gr M 16 60)) dX1_rows_186 fsX1_684_0 rfl ?_
    refine z_iload_n dX1_rows_189 rfl rfl ?_
    refine z_iload dX1_rows_190 rfl ?_
    obtain ⟨b1, e1_, k⟩ := k
    refine Z.eqs (lv' := [(0, vr (some (16, 0, 0))), (1, vi l1), (2, vr r2), (3, vi l3), (4, vi l4)]) (st' := [vi l4, vi l3, vr (some (b1, 7, 0))]) rfl (by rw [e1_] <;> rfl) ?_
    exact z_callV (as := [vi l3, vi l4]) (st := []) dX1_rows_192 vsX1_813_7 (Nat.le_refl _) (Nat.le_of_ble_eq_true rfl) (Nat.le_of_ble_eq_true rfl) rfl k
  · have k := zit h_ k
    refine z_iload_n dX1_rows_169 rfl rfl ?_
    refine z_if_eq (tgt := 273) dX1_rows_170 rfl (fun h_ => ?_) (fun h_ => ?_)
    · have k := zit h_ k
      refine z_inc (v := (l4 + (1 : Int32))) dX1_rows_273 rfl rfl (by decide) (lv' := [(0, vr (some (16, 0, 0))), (1, vi l1), (2, vr r2), (3, vi l3), (4, vi (l4 + (1 : Int32)))]) rfl ?_
      refine z_goto (tgt := 135) dX1_rows_276 rfl ?_
      exact k
    · have k := zif h_ k
      refine z_aload_n dX1_rows_173 rfl rfl ?_
      refine z_iload dX1_rows_174 rfl ?_
      exact z_callV (as := [vi l4]) (st := []) dX1_rows_176 vsX1_1110_0 (Nat.le_refl _) (Nat.le_of_ble_eq_true rfl) (Nat.le_of_ble_eq_true rfl) rfl k
theorem sX1_rows_179 {E : zE} {d : Nat} {Q : zO → zM → Prop} (M : zM) (l1 : Int32) (r2 : Option zP) (l3 : Int32) (l4 : Int32) (s0 : Int32) (hw : cw M) (k : if s0 = 0 then (Z E YX1_rows (d + 1) M [(0, vr (some (16, 0, 0))), (1, vi l1), (2, vr r2), (3, vi l3), (4, vi (l4 + (1 : Int32)))] 135 [] Q) else (∃ b1 : Nat, (gr M 16 60) = some (b1, 7, 0) ∧ (Z E YX43_cell d M (zargs 0 [vr (some (b1, 7, 0)), vi l3, vi l4]) 0 [] (zafter E YX1_rows (d + 1) [(0, vr (some (16, 0, 0))), (1, vi l1), (2, vr r2), (3, vi l3), (4, vi l4)] 192 3 [] Q)))) : Z E YX1_rows (d + 1) M [(0, vr (some (16, 0, 0))), (1, vi l1), (2, vr r2), (3, vi l3), (4, vi l4)] 179 [vi s0] Q := by
  refine z_if_ne (tgt := 185) dX1_rows_179 rfl (fun h_ => ?_) (fun h_ => ?_)
  · have k := zif h_ k
    refine z_aload_n dX1_rows_185 rfl rfl ?_
    refine z_getr (r := (gr M 16 60)) dX1_rows_186 fsX1_684_0 rfl ?_
    refine z_iload_n dX1_rows_189 rfl rfl ?_
    refine z_iload dX1_rows_190 rfl ?_
    obtain ⟨b1, e1_, k⟩ := k
    refine Z.eqs (lv' := [(0, vr (some (16, 0, 0))), (1, vi l1), (2, vr r2), (3, vi l3), (4, vi l4)]) (st' := [vi l4, vi l3, vr (some (b1, 7, 0))]) rfl (by rw [e1_] <;> rfl) ?_
    exact z_callV (as := [vi l3, vi l4]) (st := []) dX1_rows_192 vsX1_813_7 (Nat.le_refl _) (Nat.le_of_ble_eq_true rfl) (Nat.le_of_ble_eq_true rfl) rfl k
  · have k := zit h_ k
    refine z_goto (tgt := 273) dX1_rows_182 rfl ?_
    refine z_inc (v := (l4 + (1 : Int32))) dX1_rows_273 rfl rfl (by decide) (lv' := [(0, vr (some (16, 0, 0))), (1, vi l1), (2, vr r2), (3, vi l3), (4, vi (l4 + (1 : Int32)))]) rfl ?_
    refine z_goto (tgt := 135) dX1_rows_276 rfl ?_
    exact k
theorem sX1_rows_195 {E : zE} {d : Nat} {Q : zO → zM → Prop} (M : zM) (l1 : Int32) (r2 : Option zP) (l3 : Int32) (l4 : Int32) (s0 : Int32) (hw : cw M) (k : if l1 = 0 then (∃ b1 : Nat, (gr M 16 60) = some (b1, 7, 0) ∧ (∃ b2 m2 : Nat, (gr M b1 1) = some (b2, 105, m2) ∧ (vp_in s0 m2 ∧ (∃ b3 : Nat, (gr M 16 60) = some (b3, 7, 0) ∧ (∃ b4 m4 : Nat, (gr M b3 2) = some (b4, 105, m4) ∧ (vp_in s0 m4 ∧ (∃ b5 : Nat, (gr M 16 60) = some (b5, 7, 0) ∧ (∃ b6 m6 : Nat, (gr M b5 3) = some (b6, 105, m6) ∧ (vp_in s0 m6 ∧ (Z E YX6_join3 d M (zargs 0 [vr (some (74, 4, 0)), vl (gl M b2 (s0).toNatClampNeg), vl (gl M b4 (s0).toNatClampNeg), vl ((gl M b6 (s0).toNatClampNeg) &&& (-513 : Int64))]) 0 [] (zafter E YX1_rows (d + 1) [(0, vr (some (16, 0, 0))), (1, vi l1), (2, vr r2), (3, vi l3), (4, vi l4), (5, vi s0)] 253 3 [] Q))))))))))) else (∃ b1 : Nat, (gr M 16 60) = some (b1, 7, 0) ∧ (Z E YX43_joinField d M (zargs 0 [vr (some (b1, 7, 0)), vi l3, vi l4, vr r2]) 0 [] (zafter E YX1_rows (d + 1) [(0, vr (some (16, 0, 0))), (1, vi l1), (2, vr r2), (3, vi l3), (4, vi l4)] 209 3 [] Q)))) : Z E YX1_rows (d + 1) M [(0, vr (some (16, 0, 0))), (1, vi l1), (2, vr r2), (3, vi l3), (4, vi l4)] 195 [vi s0] Q := by
  refine z_ist dX1_rows_195 (by decide) (lv' := [(0, vr (some (16, 0, 0))), (1, vi l1), (2, vr r2), (3, vi l3), (4, vi l4), (5, vi s0)]) rfl ?_
  refine z_iload_n dX1_rows_197 rfl rfl ?_
  refine z_if_eq (tgt := 215) dX1_rows_198 rfl (fun h_ => ?_) (fun h_ => ?_)
  · have k := zit h_ k
    refine z_aload_n dX1_rows_215 rfl rfl ?_
    refine z_getr dX1_rows_216 fsX1_216_0 (show gr M 16 81 = some (74, 4, 0) from cw_at hw 42 rfl) ?_
    refine z_aload_n dX1_rows_219 rfl rfl ?_
    refine z_getr (r := (gr M 16 60)) dX1_rows_220 fsX1_684_0 rfl ?_
    obtain ⟨b1, e1_, k⟩ := k
    refine Z.eqs (lv' := [(0, vr (some (16, 0, 0))), (1, vi l1), (2, vr r2), (3, vi l3), (4, vi l4), (5, vi s0)]) (st' := [vr (some (b1, 7, 0)), vr (some (74, 4, 0))]) rfl (by rw [e1_] <;> rfl) ?_
    refine z_getr (r := (gr M b1 1)) dX1_rows_223 fsX1_863_7 rfl ?_
    refine z_iload dX1_rows_226 rfl ?_
    obtain ⟨b2, m2, e2_, k⟩ := k
    refine Z.eqs (lv' := [(0, vr (some (16, 0, 0))), (1, vi l1), (2, vr r2), (3, vi l3), (4, vi l4), (5, vi s0)]) (st' := [vi s0, vr (some (b2, 105, m2)), vr (some (74, 4, 0))]) rfl (by rw [e2_] <;> rfl) ?_
    obtain ⟨b_, k⟩ := k
    refine z_lald dX1_rows_228 b_ ?_
    refine z_aload_n dX1_rows_229 rfl rfl ?_
    refine z_getr (r := (gr M 16 60)) dX1_rows_230 fsX1_684_0 rfl ?_
    obtain ⟨b3, e3_, k⟩ := k
    refine Z.eqs (lv' := [(0, vr (some (16, 0, 0))), (1, vi l1), (2, vr r2), (3, vi l3), (4, vi l4), (5, vi s0)]) (st' := [vr (some (b3, 7, 0)), vl (gl M b2 (s0).toNatClampNeg), vr (some (74, 4, 0))]) rfl (by rw [e3_] <;> rfl) ?_
    refine z_getr (r := (gr M b3 2)) dX1_rows_233 fsX1_866_7 rfl ?_
    refine z_iload dX1_rows_236 rfl ?_
    obtain ⟨b4, m4, e4_, k⟩ := k
    refine Z.eqs (lv' := [(0, vr (some (16, 0, 0))), (1, vi l1), (2, vr r2), (3, vi l3), (4, vi l4), (5, vi s0)]) (st' := [vi s0, vr (some (b4, 105, m4)), vl (gl M b2 (s0).toNatClampNeg), vr (some (74, 4, 0))]) rfl (by rw [e4_] <;> rfl) ?_
    obtain ⟨b_, k⟩ := k
    refine z_lald dX1_rows_238 b_ ?_
    refine z_aload_n dX1_rows_239 rfl rfl ?_
    refine z_getr (r := (gr M 16 60)) dX1_rows_240 fsX1_684_0 rfl ?_
    obtain ⟨b5, e5_, k⟩ := k
    refine Z.eqs (lv' := [(0, vr (some (16, 0, 0))), (1, vi l1), (2, vr r2), (3, vi l3), (4, vi l4), (5, vi s0)]) (st' := [vr (some (b5, 7, 0)), vl (gl M b4 (s0).toNatClampNeg), vl (gl M b2 (s0).toNatClampNeg), vr (some (74, 4, 0))]) rfl (by rw [e5_] <;> rfl) ?_
    refine z_getr (r := (gr M b5 3)) dX1_rows_243 fsX1_810_7 rfl ?_
    refine z_iload dX1_rows_246 rfl ?_
    obtain ⟨b6, m6, e6_, k⟩ := k
    refine Z.eqs (lv' := [(0, vr (some (16, 0, 0))), (1, vi l1), (2, vr r2), (3, vi l3), (4, vi l4), (5, vi s0)]) (st' := [vi s0, vr (some (b6, 105, m6)), vl (gl M b4 (s0).toNatClampNeg), vl (gl M b2 (s0).toNatClampNeg), vr (some (74, 4, 0))]) rfl (by rw [e6_] <;> rfl) ?_
    obtain ⟨b_, k⟩ := k
    refine z_lald dX1_rows_248 b_ ?_
    refine z_ldc2 (v := -513) dX1_rows_249 q3198 ?_
    refine z_land dX1_rows_252 ?_
    exact z_callV (as := [vl (gl M b2 (s0).toNatClampNeg), vl (gl M b4 (s0).toNatClampNeg), vl ((gl M b6 (s0).toNatClampNeg) &&& (-513 : Int64))]) (st := []) dX1_rows_253 vsX1_871_4 (Nat.le_refl _) (Nat.le_of_ble_eq_true rfl) (Nat.le_of_ble_eq_true rfl) rfl k
  · have k := zif h_ k
    refine z_aload_n dX1_rows_201 rfl rfl ?_
    refine z_getr (r := (gr M 16 60)) dX1_rows_202 fsX1_684_0 rfl ?_
    refine z_iload_n dX1_rows_205 rfl rfl ?_
    refine z_iload dX1_rows_206 rfl ?_
    refine z_aload_n dX1_rows_208 rfl rfl ?_
    obtain ⟨b1, e1_, k⟩ := k
    refine Z.eqs (lv' := [(0, vr (some (16, 0, 0))), (1, vi l1), (2, vr r2), (3, vi l3), (4, vi l4), (5, vi s0)]) (st' := [vr r2, vi l4, vi l3, vr (some (b1, 7, 0))]) rfl (by rw [e1_] <;> rfl) ?_
    refine Z.pick [0, 1, 2, 3, 4] rfl ?_
    exact z_callV (as := [vi l3, vi l4, vr r2]) (st := []) dX1_rows_209 vsX1_992_7 (Nat.le_refl _) (Nat.le_of_ble_eq_true rfl) (Nat.le_of_ble_eq_true rfl) rfl k
theorem sX1_rows_212 {E : zE} {d : Nat} {Q : zO → zM → Prop} (M : zM) (l1 : Int32) (r2 : Option zP) (l3 : Int32) (l4 : Int32) (hw : cw M) (k : Z E YX1_rows (d + 1) M [(0, vr (some (16, 0, 0))), (1, vi l1), (2, vr r2), (3, vi l3), (4, vi (l4 + (1 : Int32)))] 135 [] Q) : Z E YX1_rows (d + 1) M [(0, vr (some (16, 0, 0))), (1, vi l1), (2, vr r2), (3, vi l3), (4, vi l4)] 212 [] Q := by
  refine z_goto (tgt := 273) dX1_rows_212 rfl ?_
  refine z_inc (v := (l4 + (1 : Int32))) dX1_rows_273 rfl rfl (by decide) (lv' := [(0, vr (some (16, 0, 0))), (1, vi l1), (2, vr r2), (3, vi l3), (4, vi (l4 + (1 : Int32)))]) rfl ?_
  refine z_goto (tgt := 135) dX1_rows_276 rfl ?_
  exact k
theorem sX1_rows_256 {E : zE} {d : Nat} {Q : zO → zM → Prop} (M : zM) (l1 : Int32) (r2 : Option zP) (l3 : Int32) (l4 : Int32) (l5 : Int32) (u0 : Option zP) (hw : cw M) (k : ∃ b1 : Nat, (gr M 16 60) = some (b1, 7, 0) ∧ (∃ b2 m2 : Nat, (gr M b1 3) = some (b2, 105, m2) ∧ (vp_in l5 m2 ∧ (16 ≤ b2 ∧ (vp_in l5 m2 ∧ (Z E YX1_rows (d + 1) (sl M b2 (l5).toNatClampNeg ((gl M b2 (l5).toNatClampNeg) ||| (512 : Int64))) [(0, vr (some (16, 0, 0))), (1, vi l1), (2, vr r2), (3, vi l3), (4, vi (l4 + (1 : Int32)))] 135 [] Q)))))) : Z E YX1_rows (d + 1) M [(0, vr (some (16, 0, 0))), (1, vi l1), (2, vr r2), (3, vi l3), (4, vi l4), (5, vi l5)] 256 [vr u0] Q := by
  refine z_pop dX1_rows_256 rfl ?_
  refine z_aload_n dX1_rows_257 rfl rfl ?_
  refine z_getr (r := (gr M 16 60)) dX1_rows_258 fsX1_684_0 rfl ?_
  obtain ⟨b1, e1_, k⟩ := k
  refine Z.eqs (lv' := [(0, vr (some (16, 0, 0))), (1, vi l1), (2, vr r2), (3, vi l3), (4, vi l4), (5, vi l5)]) (st' := [vr (some (b1, 7, 0))]) rfl (by rw [e1_] <;> rfl) ?_
  refine z_getr (r := (gr M b1 3)) dX1_rows_261 fsX1_810_7 rfl ?_
  refine z_iload dX1_rows_264 rfl ?_
  refine z_dup2 dX1_rows_266 rfl rfl ?_
  obtain ⟨b2, m2, e2_, k⟩ := k
  refine Z.eqs (lv' := [(0, vr (some (16, 0, 0))), (1, vi l1), (2, vr r2), (3, vi l3), (4, vi l4), (5, vi l5)]) (st' := [vi l5, vr (some (b2, 105, m2)), vi l5, vr (some (b2, 105, m2))]) rfl (by rw [e2_] <;> rfl) ?_
  obtain ⟨b_, k⟩ := k
  refine z_lald dX1_rows_267 b_ ?_
  refine z_ldc2 (v := 512) dX1_rows_268 q3247 ?_
  refine z_lor dX1_rows_271 ?_
  obtain ⟨g_, k⟩ := k
  obtain ⟨b_, k⟩ := k
  refine z_last g_ dX1_rows_272 b_ ?_
  refine z_inc (v := (l4 + (1 : Int32))) dX1_rows_273 rfl rfl (by decide) (lv' := [(0, vr (some (16, 0, 0))), (1, vi l1), (2, vr r2), (3, vi l3), (4, vi (l4 + (1 : Int32))), (5, vi l5)]) rfl ?_
  refine z_goto (tgt := 135) dX1_rows_276 rfl ?_
  refine Z.pick [0, 1, 2, 3, 4] rfl ?_
  exact k
theorem sX1_rows_295 {E : zE} {d : Nat} {Q : zO → zM → Prop} (M : zM) (l1 : Int32) (r2 : Option zP) (l3 : Int32) (u0 : Option zP) (s1 : Int32) (s2 : Int32) (u3 : Option zP) (hw : cw M) (k : ∃ b1 : Nat, u3 = some (b1, 7, 0) ∧ (Z E YX43_joinField d M (zargs 0 [vr (some (b1, 7, 0)), vi s2, vi s1, vr u0]) 0 [] (zafter E YX1_rows (d + 1) [(0, vr (some (16, 0, 0))), (1, vi l1), (2, vr r2), (3, vi l3)] 295 3 [] Q))) : Z E YX1_rows (d + 1) M [(0, vr (some (16, 0, 0))), (1, vi l1), (2, vr r2), (3, vi l3)] 295 [vr u0, vi s1, vi s2, vr u3] Q := by
  obtain ⟨b1, e1_, k⟩ := k
  refine Z.eqs (lv' := [(0, vr (some (16, 0, 0))), (1, vi l1), (2, vr r2), (3, vi l3)]) (st' := [vr u0, vi s1, vi s2, vr (some (b1, 7, 0))]) rfl (by rw [e1_] <;> rfl) ?_
  exact z_callV (as := [vi s2, vi s1, vr u0]) (st := []) dX1_rows_295 vsX1_992_7 (Nat.le_refl _) (Nat.le_of_ble_eq_true rfl) (Nat.le_of_ble_eq_true rfl) rfl k
theorem sX1_rows_298 {E : zE} {d : Nat} {Q : zO → zM → Prop} (M : zM) (l1 : Int32) (r2 : Option zP) (l3 : Int32) (hw : cw M) (k : Z E YX1_rows (d + 1) M [(0, vr (some (16, 0, 0))), (1, vi l1), (2, vr r2), (3, vi (l3 + (1 : Int32)))] 78 [] Q) : Z E YX1_rows (d + 1) M [(0, vr (some (16, 0, 0))), (1, vi l1), (2, vr r2), (3, vi l3)] 298 [] Q := by
  refine z_inc (v := (l3 + (1 : Int32))) dX1_rows_298 rfl rfl (by decide) (lv' := [(0, vr (some (16, 0, 0))), (1, vi l1), (2, vr r2), (3, vi (l3 + (1 : Int32)))]) rfl ?_
  refine z_goto (tgt := 78) dX1_rows_301 rfl ?_
  exact k
theorem sX1_rows_312 {E : zE} {d : Nat} {Q : zO → zM → Prop} (M : zM)  (hw : cw M) (k : ∃ b1 : Nat, (gr M 16 60) = some (b1, 7, 0) ∧ (Z E YX43_copy d M (zargs 0 [vr (some (b1, 7, 0)), vr (gr M 16 61)]) 0 [] (zafter E YX1_rows (d + 1) [] 320 3 [] Q))) : Z E YX1_rows (d + 1) M [(0, vr (some (16, 0, 0)))] 312 [] Q := by
  refine z_aload_n dX1_rows_312 rfl rfl ?_
  refine z_getr (r := (gr M 16 60)) dX1_rows_313 fsX1_684_0 rfl ?_
  refine z_aload_n dX1_rows_316 rfl rfl ?_
  refine z_getr (r := (gr M 16 61)) dX1_rows_317 fsX1_688_0 rfl ?_
  obtain ⟨b1, e1_, k⟩ := k
  refine Z.eqs (lv' := [(0, vr (some (16, 0, 0)))]) (st' := [vr (gr M 16 61), vr (some (b1, 7, 0))]) rfl (by rw [e1_] <;> rfl) ?_
  refine Z.pick [] rfl ?_
  exact z_callV (as := [vr (gr M 16 61)]) (st := []) dX1_rows_320 vsX1_1059_7 (Nat.le_refl _) (Nat.le_of_ble_eq_true rfl) (Nat.le_of_ble_eq_true rfl) rfl k
theorem sX1_rows_323 {E : zE} {d : Nat} {Q : zO → zM → Prop} (M : zM)  (hw : cw M) (k : Q (.inl none) M) : Z E YX1_rows (d + 1) M [] 323 [] Q := by
  exact z_vret dX1_rows_323 rfl k
/-! ScriptTypes.isHundred(I)Z -/
theorem bX1_isHundred_0 : zdec cX1_isHundred 0 [(0, .aload_n 0, 1), (1, .getfield 19, 3), (4, .iload_n 1, 1), (5, .invokevirtual 23, 3), (8, .iconst 3, 1), (9, .if_icmp .ne 49, 3), (12, .aload_n 0, 1), (13, .getfield 19, 3), (16, .iload_n 1, 1), (17, .iconst 0, 1), (18, .invokevirtual 29, 3), (21, .bipush 49, 2), (23, .if_icmp .ne 35, 3), (26, .aload_n 0, 1), (27, .getfield 19, 3), (30, .iload_n 1, 1)] = true := by decide +kernel
theorem dX1_isHundred_0 : decode cX1_isHundred 0 = .ok (.aload_n 0, 1) := zdec_at bX1_isHundred_0 0 rfl
theorem dX1_isHundred_1 : decode cX1_isHundred 1 = .ok (.getfield 19, 3) := zdec_at bX1_isHundred_0 1 rfl
theorem dX1_isHundred_4 : decode cX1_isHundred 4 = .ok (.iload_n 1, 1) := zdec_at bX1_isHundred_0 2 rfl
theorem dX1_isHundred_5 : decode cX1_isHundred 5 = .ok (.invokevirtual 23, 3) := zdec_at bX1_isHundred_0 3 rfl
theorem dX1_isHundred_8 : decode cX1_isHundred 8 = .ok (.iconst 3, 1) := zdec_at bX1_isHundred_0 4 rfl
theorem dX1_isHundred_9 : decode cX1_isHundred 9 = .ok (.if_icmp .ne 49, 3) := zdec_at bX1_isHundred_0 5 rfl
theorem dX1_isHundred_12 : decode cX1_isHundred 12 = .ok (.aload_n 0, 1) := zdec_at bX1_isHundred_0 6 rfl
theorem dX1_isHundred_13 : decode cX1_isHundred 13 = .ok (.getfield 19, 3) := zdec_at bX1_isHundred_0 7 rfl
theorem dX1_isHundred_16 : decode cX1_isHundred 16 = .ok (.iload_n 1, 1) := zdec_at bX1_isHundred_0 8 rfl
theorem dX1_isHundred_17 : decode cX1_isHundred 17 = .ok (.iconst 0, 1) := zdec_at bX1_isHundred_0 9 rfl
theorem dX1_isHundred_18 : decode cX1_isHundred 18 = .ok (.invokevirtual 29, 3) := zdec_at bX1_isHundred_0 10 rfl
theorem dX1_isHundred_21 : decode cX1_isHundred 21 = .ok (.bipush 49, 2) := zdec_at bX1_isHundred_0 11 rfl
theorem dX1_isHundred_23 : decode cX1_isHundred 23 = .ok (.if_icmp .ne 35, 3) := zdec_at bX1_isHundred_0 12 rfl
theorem dX1_isHundred_26 : decode cX1_isHundred 26 = .ok (.aload_n 0, 1) := zdec_at bX1_isHundred_0 13 rfl
theorem dX1_isHundred_27 : decode cX1_isHundred 27 = .ok (.getfield 19, 3) := zdec_at bX1_isHundred_0 14 rfl
theorem dX1_isHundred_30 : decode cX1_isHundred 30 = .ok (.iload_n 1, 1) := zdec_at bX1_isHundred_0 15 rfl
theorem bX1_isHundred_31 : zdec cX1_isHundred 31 [(31, .iconst 1, 1), (32, .invokevirtual 29, 3), (35, .bipush 48, 2), (37, .if_icmp .ne 21, 3), (40, .aload_n 0, 1), (41, .getfield 19, 3), (44, .iload_n 1, 1), (45, .iconst 2, 1), (46, .invokevirtual 29, 3), (49, .bipush 48, 2), (51, .if_icmp .ne 7, 3), (54, .iconst 1, 1), (55, .goto 4, 3), (58, .iconst 0, 1), (59, .ireturn, 1)] = true := by decide +kernel
theorem dX1_isHundred_31 : decode cX1_isHundred 31 = .ok (.iconst 1, 1) := zdec_at bX1_isHundred_31 0 rfl
theorem dX1_isHundred_32 : decode cX1_isHundred 32 = .ok (.invokevirtual 29, 3) := zdec_at bX1_isHundred_31 1 rfl
theorem dX1_isHundred_35 : decode cX1_isHundred 35 = .ok (.bipush 48, 2) := zdec_at bX1_isHundred_31 2 rfl
theorem dX1_isHundred_37 : decode cX1_isHundred 37 = .ok (.if_icmp .ne 21, 3) := zdec_at bX1_isHundred_31 3 rfl
theorem dX1_isHundred_40 : decode cX1_isHundred 40 = .ok (.aload_n 0, 1) := zdec_at bX1_isHundred_31 4 rfl
theorem dX1_isHundred_41 : decode cX1_isHundred 41 = .ok (.getfield 19, 3) := zdec_at bX1_isHundred_31 5 rfl
theorem dX1_isHundred_44 : decode cX1_isHundred 44 = .ok (.iload_n 1, 1) := zdec_at bX1_isHundred_31 6 rfl
theorem dX1_isHundred_45 : decode cX1_isHundred 45 = .ok (.iconst 2, 1) := zdec_at bX1_isHundred_31 7 rfl
theorem dX1_isHundred_46 : decode cX1_isHundred 46 = .ok (.invokevirtual 29, 3) := zdec_at bX1_isHundred_31 8 rfl
theorem dX1_isHundred_49 : decode cX1_isHundred 49 = .ok (.bipush 48, 2) := zdec_at bX1_isHundred_31 9 rfl
theorem dX1_isHundred_51 : decode cX1_isHundred 51 = .ok (.if_icmp .ne 7, 3) := zdec_at bX1_isHundred_31 10 rfl
theorem dX1_isHundred_54 : decode cX1_isHundred 54 = .ok (.iconst 1, 1) := zdec_at bX1_isHundred_31 11 rfl
theorem dX1_isHundred_55 : decode cX1_isHundred 55 = .ok (.goto 4, 3) := zdec_at bX1_isHundred_31 12 rfl
theorem dX1_isHundred_58 : decode cX1_isHundred 58 = .ok (.iconst 0, 1) := zdec_at bX1_isHundred_31 13 rfl
theorem dX1_isHundred_59 : decode cX1_isHundred 59 = .ok (.ireturn, 1) := zdec_at bX1_isHundred_31 14 rfl
theorem sX1_isHundred_0 {E : zE} {d : Nat} {Q : zO → zM → Prop} (M : zM) (l1 : Int32) (hw : cw M) (k : Z E YX2_length d M (zargs 0 [vr (some (17, 2, 0)), vi l1]) 0 [] (zafter E YX1_isHundred (d + 1) [(0, vr (some (16, 0, 0))), (1, vi l1)] 5 3 [] Q)) : Z E YX1_isHundred (d + 1) M [(0, vr (some (16, 0, 0))), (1, vi l1)] 0 [] Q := by
  refine z_aload_n dX1_isHundred_0 rfl rfl ?_
  refine z_getr dX1_isHundred_1 fsX1_19_0 (show gr M 16 0 = some (17, 2, 0) from cw_at hw 0 rfl) ?_
  refine z_iload_n dX1_isHundred_4 rfl rfl ?_
  exact z_callV (as := [vi l1]) (st := []) dX1_isHundred_5 vsX1_23_2 (Nat.le_refl _) (Nat.le_of_ble_eq_true rfl) (Nat.le_of_ble_eq_true rfl) rfl k
theorem sX1_isHundred_8 {E : zE} {d : Nat} {Q : zO → zM → Prop} (M : zM) (l1 : Int32) (s0 : Int32) (hw : cw M) (k : if s0 = (3 : Int32) then (Z E YX2_sign d M (zargs 0 [vr (some (17, 2, 0)), vi l1, vi (0 : Int32)]) 0 [] (zafter E YX1_isHundred (d + 1) [(0, vr (some (16, 0, 0))), (1, vi l1)] 18 3 [] Q)) else (Q (.inl (some (vi (0 : Int32)))) M)) : Z E YX1_isHundred (d + 1) M [(0, vr (some (16, 0, 0))), (1, vi l1)] 8 [vi s0] Q := by
  refine z_iconst (v := 3) dX1_isHundred_8 rfl ?_
  refine z_icmp_ne (tgt := 58) dX1_isHundred_9 rfl (fun h_ => ?_) (fun h_ => ?_)
  · have k := zif h_ k
    refine z_iconst (v := 0) dX1_isHundred_58 rfl ?_
    exact z_iret dX1_isHundred_59 rfl (by decide) k
  · have k := zit h_ k
    refine z_aload_n dX1_isHundred_12 rfl rfl ?_
    refine z_getr dX1_isHundred_13 fsX1_19_0 (show gr M 16 0 = some (17, 2, 0) from cw_at hw 0 rfl) ?_
    refine z_iload_n dX1_isHundred_16 rfl rfl ?_
    refine z_iconst (v := 0) dX1_isHundred_17 rfl ?_
    exact z_callV (as := [vi l1, vi (0 : Int32)]) (st := []) dX1_isHundred_18 vsX1_29_2 (Nat.le_refl _) (Nat.le_of_ble_eq_true rfl) (Nat.le_of_ble_eq_true rfl) rfl k
theorem sX1_isHundred_21 {E : zE} {d : Nat} {Q : zO → zM → Prop} (M : zM) (l1 : Int32) (s0 : Int32) (hw : cw M) (k : if s0 = (49 : Int32) then (Z E YX2_sign d M (zargs 0 [vr (some (17, 2, 0)), vi l1, vi (1 : Int32)]) 0 [] (zafter E YX1_isHundred (d + 1) [(0, vr (some (16, 0, 0))), (1, vi l1)] 32 3 [] Q)) else (Q (.inl (some (vi (0 : Int32)))) M)) : Z E YX1_isHundred (d + 1) M [(0, vr (some (16, 0, 0))), (1, vi l1)] 21 [vi s0] Q := by
  refine z_bipush (v := 49) dX1_isHundred_21 rfl ?_
  refine z_icmp_ne (tgt := 58) dX1_isHundred_23 rfl (fun h_ => ?_) (fun h_ => ?_)
  · have k := zif h_ k
    refine z_iconst (v := 0) dX1_isHundred_58 rfl ?_
    exact z_iret dX1_isHundred_59 rfl (by decide) k
  · have k := zit h_ k
    refine z_aload_n dX1_isHundred_26 rfl rfl ?_
    refine z_getr dX1_isHundred_27 fsX1_19_0 (show gr M 16 0 = some (17, 2, 0) from cw_at hw 0 rfl) ?_
    refine z_iload_n dX1_isHundred_30 rfl rfl ?_
    refine z_iconst (v := 1) dX1_isHundred_31 rfl ?_
    exact z_callV (as := [vi l1, vi (1 : Int32)]) (st := []) dX1_isHundred_32 vsX1_29_2 (Nat.le_refl _) (Nat.le_of_ble_eq_true rfl) (Nat.le_of_ble_eq_true rfl) rfl k
theorem sX1_isHundred_35 {E : zE} {d : Nat} {Q : zO → zM → Prop} (M : zM) (l1 : Int32) (s0 : Int32) (hw : cw M) (k : if s0 = (48 : Int32) then (Z E YX2_sign d M (zargs 0 [vr (some (17, 2, 0)), vi l1, vi (2 : Int32)]) 0 [] (zafter E YX1_isHundred (d + 1) [] 46 3 [] Q)) else (Q (.inl (some (vi (0 : Int32)))) M)) : Z E YX1_isHundred (d + 1) M [(0, vr (some (16, 0, 0))), (1, vi l1)] 35 [vi s0] Q := by
  refine z_bipush (v := 48) dX1_isHundred_35 rfl ?_
  refine z_icmp_ne (tgt := 58) dX1_isHundred_37 rfl (fun h_ => ?_) (fun h_ => ?_)
  · have k := zif h_ k
    refine z_iconst (v := 0) dX1_isHundred_58 rfl ?_
    exact z_iret dX1_isHundred_59 rfl (by decide) k
  · have k := zit h_ k
    refine z_aload_n dX1_isHundred_40 rfl rfl ?_
    refine z_getr dX1_isHundred_41 fsX1_19_0 (show gr M 16 0 = some (17, 2, 0) from cw_at hw 0 rfl) ?_
    refine z_iload_n dX1_isHundred_44 rfl rfl ?_
    refine z_iconst (v := 2) dX1_isHundred_45 rfl ?_
    refine Z.pick [] rfl ?_
    exact z_callV (as := [vi l1, vi (2 : Int32)]) (st := []) dX1_isHundred_46 vsX1_29_2 (Nat.le_refl _) (Nat.le_of_ble_eq_true rfl) (Nat.le_of_ble_eq_true rfl) rfl k
theorem sX1_isHundred_49 {E : zE} {d : Nat} {Q : zO → zM → Prop} (M : zM) (s0 : Int32) (hw : cw M) (k : if s0 = (48 : Int32) then (Q (.inl (some (vi (1 : Int32)))) M) else (Q (.inl (some (vi (0 : Int32)))) M)) : Z E YX1_isHundred (d + 1) M [] 49 [vi s0] Q := by
  refine z_bipush (v := 48) dX1_isHundred_49 rfl ?_
  refine z_icmp_ne (tgt := 58) dX1_isHundred_51 rfl (fun h_ => ?_) (fun h_ => ?_)
  · have k := zif h_ k
    refine z_iconst (v := 0) dX1_isHundred_58 rfl ?_
    exact z_iret dX1_isHundred_59 rfl (by decide) k
  · have k := zit h_ k
    refine z_iconst (v := 1) dX1_isHundred_54 rfl ?_
    refine z_goto (tgt := 59) dX1_isHundred_55 rfl ?_
    exact z_iret dX1_isHundred_59 rfl (by decide) k
/-! ScriptTypes.hasOwn(LScriptTypes$Bag;)V -/
theorem bX1_hasOwn_0 : zdec cX1_hasOwn 0 [(0, .aload_n 0, 1), (1, .getfield 225, 3), (4, .getfield 920, 3), (7, .ldc2_w 875, 3), (10, .land, 1), (11, .lconst 0, 1), (12, .lcmp, 1), (13, .ifCond .eq 12, 3), (16, .aload_n 0, 1), (17, .aload_n 0, 1), (18, .getfield 684, 3), (21, .iconst 0, 1), (22, .invokevirtual 960, 3), (25, .aload_n 0, 1), (26, .aload_n 1, 1), (27, .invokevirtual 883, 3)] = true := by decide +kernel
theorem dX1_hasOwn_0 : decode cX1_hasOwn 0 = .ok (.aload_n 0, 1) := zdec_at bX1_hasOwn_0 0 rfl
theorem dX1_hasOwn_1 : decode cX1_hasOwn 1 = .ok (.getfield 225, 3) := zdec_at bX1_hasOwn_0 1 rfl
theorem dX1_hasOwn_4 : decode cX1_hasOwn 4 = .ok (.getfield 920, 3) := zdec_at bX1_hasOwn_0 2 rfl
theorem dX1_hasOwn_7 : decode cX1_hasOwn 7 = .ok (.ldc2_w 875, 3) := zdec_at bX1_hasOwn_0 3 rfl
theorem dX1_hasOwn_10 : decode cX1_hasOwn 10 = .ok (.land, 1) := zdec_at bX1_hasOwn_0 4 rfl
theorem dX1_hasOwn_11 : decode cX1_hasOwn 11 = .ok (.lconst 0, 1) := zdec_at bX1_hasOwn_0 5 rfl
theorem dX1_hasOwn_12 : decode cX1_hasOwn 12 = .ok (.lcmp, 1) := zdec_at bX1_hasOwn_0 6 rfl
theorem dX1_hasOwn_13 : decode cX1_hasOwn 13 = .ok (.ifCond .eq 12, 3) := zdec_at bX1_hasOwn_0 7 rfl
theorem dX1_hasOwn_16 : decode cX1_hasOwn 16 = .ok (.aload_n 0, 1) := zdec_at bX1_hasOwn_0 8 rfl
theorem dX1_hasOwn_17 : decode cX1_hasOwn 17 = .ok (.aload_n 0, 1) := zdec_at bX1_hasOwn_0 9 rfl
theorem dX1_hasOwn_18 : decode cX1_hasOwn 18 = .ok (.getfield 684, 3) := zdec_at bX1_hasOwn_0 10 rfl
theorem dX1_hasOwn_21 : decode cX1_hasOwn 21 = .ok (.iconst 0, 1) := zdec_at bX1_hasOwn_0 11 rfl
theorem dX1_hasOwn_22 : decode cX1_hasOwn 22 = .ok (.invokevirtual 960, 3) := zdec_at bX1_hasOwn_0 12 rfl
theorem dX1_hasOwn_25 : decode cX1_hasOwn 25 = .ok (.aload_n 0, 1) := zdec_at bX1_hasOwn_0 13 rfl
theorem dX1_hasOwn_26 : decode cX1_hasOwn 26 = .ok (.aload_n 1, 1) := zdec_at bX1_hasOwn_0 14 rfl
theorem dX1_hasOwn_27 : decode cX1_hasOwn 27 = .ok (.invokevirtual 883, 3) := zdec_at bX1_hasOwn_0 15 rfl
theorem bX1_hasOwn_30 : zdec cX1_hasOwn 30 [(30, .aload_n 0, 1), (31, .getfield 216, 3), (34, .invokevirtual 796, 3), (37, .pop, 1), (38, .iconst 0, 1), (39, .istore_n 2, 1), (40, .iload_n 2, 1), (41, .aload_n 0, 1), (42, .getfield 313, 3), (45, .if_icmp .ge 165, 3), (48, .iload_n 2, 1), (49, .aload_n 0, 1), (50, .getfield 225, 3), (53, .getfield 916, 3), (56, .aload_n 0, 1), (57, .getfield 225, 3)] = true := by decide +kernel
theorem dX1_hasOwn_30 : decode cX1_hasOwn 30 = .ok (.aload_n 0, 1) := zdec_at bX1_hasOwn_30 0 rfl
theorem dX1_hasOwn_31 : decode cX1_hasOwn 31 = .ok (.getfield 216, 3) := zdec_at bX1_hasOwn_30 1 rfl
theorem dX1_hasOwn_34 : decode cX1_hasOwn 34 = .ok (.invokevirtual 796, 3) := zdec_at bX1_hasOwn_30 2 rfl
theorem dX1_hasOwn_37 : decode cX1_hasOwn 37 = .ok (.pop, 1) := zdec_at bX1_hasOwn_30 3 rfl
theorem dX1_hasOwn_38 : decode cX1_hasOwn 38 = .ok (.iconst 0, 1) := zdec_at bX1_hasOwn_30 4 rfl
theorem dX1_hasOwn_39 : decode cX1_hasOwn 39 = .ok (.istore_n 2, 1) := zdec_at bX1_hasOwn_30 5 rfl
theorem dX1_hasOwn_40 : decode cX1_hasOwn 40 = .ok (.iload_n 2, 1) := zdec_at bX1_hasOwn_30 6 rfl
theorem dX1_hasOwn_41 : decode cX1_hasOwn 41 = .ok (.aload_n 0, 1) := zdec_at bX1_hasOwn_30 7 rfl
theorem dX1_hasOwn_42 : decode cX1_hasOwn 42 = .ok (.getfield 313, 3) := zdec_at bX1_hasOwn_30 8 rfl
theorem dX1_hasOwn_45 : decode cX1_hasOwn 45 = .ok (.if_icmp .ge 165, 3) := zdec_at bX1_hasOwn_30 9 rfl
theorem dX1_hasOwn_48 : decode cX1_hasOwn 48 = .ok (.iload_n 2, 1) := zdec_at bX1_hasOwn_30 10 rfl
theorem dX1_hasOwn_49 : decode cX1_hasOwn 49 = .ok (.aload_n 0, 1) := zdec_at bX1_hasOwn_30 11 rfl
theorem dX1_hasOwn_50 : decode cX1_hasOwn 50 = .ok (.getfield 225, 3) := zdec_at bX1_hasOwn_30 12 rfl
theorem dX1_hasOwn_53 : decode cX1_hasOwn 53 = .ok (.getfield 916, 3) := zdec_at bX1_hasOwn_30 13 rfl
theorem dX1_hasOwn_56 : decode cX1_hasOwn 56 = .ok (.aload_n 0, 1) := zdec_at bX1_hasOwn_30 14 rfl
theorem dX1_hasOwn_57 : decode cX1_hasOwn 57 = .ok (.getfield 225, 3) := zdec_at bX1_hasOwn_30 15 rfl
theorem bX1_hasOwn_60 : zdec cX1_hasOwn 60 [(60, .getfield 918, 3), (63, .invokestatic 827, 3), (66, .ifCond .ne 6, 3), (69, .goto 135, 3), (72, .iconst 0, 1), (73, .istore_n 3, 1), (74, .iload_n 3, 1), (75, .aload_n 0, 1), (76, .getfield 58, 3), (79, .if_icmp .gt 125, 3), (82, .aload_n 0, 1), (83, .iload_n 3, 1), (84, .invokevirtual 856, 3), (87, .ifCond .ne 6, 3), (90, .goto 108, 3), (93, .aload_n 0, 1)] = true := by decide +kernel
theorem dX1_hasOwn_60 : decode cX1_hasOwn 60 = .ok (.getfield 918, 3) := zdec_at bX1_hasOwn_60 0 rfl
theorem dX1_hasOwn_63 : decode cX1_hasOwn 63 = .ok (.invokestatic 827, 3) := zdec_at bX1_hasOwn_60 1 rfl
theorem dX1_hasOwn_66 : decode cX1_hasOwn 66 = .ok (.ifCond .ne 6, 3) := zdec_at bX1_hasOwn_60 2 rfl
theorem dX1_hasOwn_69 : decode cX1_hasOwn 69 = .ok (.goto 135, 3) := zdec_at bX1_hasOwn_60 3 rfl
theorem dX1_hasOwn_72 : decode cX1_hasOwn 72 = .ok (.iconst 0, 1) := zdec_at bX1_hasOwn_60 4 rfl
theorem dX1_hasOwn_73 : decode cX1_hasOwn 73 = .ok (.istore_n 3, 1) := zdec_at bX1_hasOwn_60 5 rfl
theorem dX1_hasOwn_74 : decode cX1_hasOwn 74 = .ok (.iload_n 3, 1) := zdec_at bX1_hasOwn_60 6 rfl
theorem dX1_hasOwn_75 : decode cX1_hasOwn 75 = .ok (.aload_n 0, 1) := zdec_at bX1_hasOwn_60 7 rfl
theorem dX1_hasOwn_76 : decode cX1_hasOwn 76 = .ok (.getfield 58, 3) := zdec_at bX1_hasOwn_60 8 rfl
theorem dX1_hasOwn_79 : decode cX1_hasOwn 79 = .ok (.if_icmp .gt 125, 3) := zdec_at bX1_hasOwn_60 9 rfl
theorem dX1_hasOwn_82 : decode cX1_hasOwn 82 = .ok (.aload_n 0, 1) := zdec_at bX1_hasOwn_60 10 rfl
theorem dX1_hasOwn_83 : decode cX1_hasOwn 83 = .ok (.iload_n 3, 1) := zdec_at bX1_hasOwn_60 11 rfl
theorem dX1_hasOwn_84 : decode cX1_hasOwn 84 = .ok (.invokevirtual 856, 3) := zdec_at bX1_hasOwn_60 12 rfl
theorem dX1_hasOwn_87 : decode cX1_hasOwn 87 = .ok (.ifCond .ne 6, 3) := zdec_at bX1_hasOwn_60 13 rfl
theorem dX1_hasOwn_90 : decode cX1_hasOwn 90 = .ok (.goto 108, 3) := zdec_at bX1_hasOwn_60 14 rfl
theorem dX1_hasOwn_93 : decode cX1_hasOwn 93 = .ok (.aload_n 0, 1) := zdec_at bX1_hasOwn_60 15 rfl
theorem bX1_hasOwn_94 : zdec cX1_hasOwn 94 [(94, .getfield 684, 3), (97, .iload_n 2, 1), (98, .iload_n 3, 1), (99, .invokevirtual 813, 3), (102, .istore 4, 2), (104, .aload_n 0, 1), (105, .getfield 684, 3), (108, .getfield 863, 3), (111, .iload 4, 2), (113, .laload, 1), (114, .lconst 0, 1), (115, .lcmp, 1), (116, .ifCond .ne 37, 3), (119, .aload_n 0, 1), (120, .getfield 684, 3), (123, .getfield 866, 3)] = true := by decide +kernel
theorem dX1_hasOwn_94 : decode cX1_hasOwn 94 = .ok (.getfield 684, 3) := zdec_at bX1_hasOwn_94 0 rfl
theorem dX1_hasOwn_97 : decode cX1_hasOwn 97 = .ok (.iload_n 2, 1) := zdec_at bX1_hasOwn_94 1 rfl
theorem dX1_hasOwn_98 : decode cX1_hasOwn 98 = .ok (.iload_n 3, 1) := zdec_at bX1_hasOwn_94 2 rfl
theorem dX1_hasOwn_99 : decode cX1_hasOwn 99 = .ok (.invokevirtual 813, 3) := zdec_at bX1_hasOwn_94 3 rfl
theorem dX1_hasOwn_102 : decode cX1_hasOwn 102 = .ok (.istore 4, 2) := zdec_at bX1_hasOwn_94 4 rfl
theorem dX1_hasOwn_104 : decode cX1_hasOwn 104 = .ok (.aload_n 0, 1) := zdec_at bX1_hasOwn_94 5 rfl
theorem dX1_hasOwn_105 : decode cX1_hasOwn 105 = .ok (.getfield 684, 3) := zdec_at bX1_hasOwn_94 6 rfl
theorem dX1_hasOwn_108 : decode cX1_hasOwn 108 = .ok (.getfield 863, 3) := zdec_at bX1_hasOwn_94 7 rfl
theorem dX1_hasOwn_111 : decode cX1_hasOwn 111 = .ok (.iload 4, 2) := zdec_at bX1_hasOwn_94 8 rfl
theorem dX1_hasOwn_113 : decode cX1_hasOwn 113 = .ok (.laload, 1) := zdec_at bX1_hasOwn_94 9 rfl
theorem dX1_hasOwn_114 : decode cX1_hasOwn 114 = .ok (.lconst 0, 1) := zdec_at bX1_hasOwn_94 10 rfl
theorem dX1_hasOwn_115 : decode cX1_hasOwn 115 = .ok (.lcmp, 1) := zdec_at bX1_hasOwn_94 11 rfl
theorem dX1_hasOwn_116 : decode cX1_hasOwn 116 = .ok (.ifCond .ne 37, 3) := zdec_at bX1_hasOwn_94 12 rfl
theorem dX1_hasOwn_119 : decode cX1_hasOwn 119 = .ok (.aload_n 0, 1) := zdec_at bX1_hasOwn_94 13 rfl
theorem dX1_hasOwn_120 : decode cX1_hasOwn 120 = .ok (.getfield 684, 3) := zdec_at bX1_hasOwn_94 14 rfl
theorem dX1_hasOwn_123 : decode cX1_hasOwn 123 = .ok (.getfield 866, 3) := zdec_at bX1_hasOwn_94 15 rfl
theorem bX1_hasOwn_126 : zdec cX1_hasOwn 126 [(126, .iload 4, 2), (128, .laload, 1), (129, .lconst 0, 1), (130, .lcmp, 1), (131, .ifCond .ne 22, 3), (134, .aload_n 0, 1), (135, .getfield 684, 3), (138, .getfield 810, 3), (141, .iload 4, 2), (143, .laload, 1), (144, .ldc2_w 875, 3), (147, .land, 1), (148, .lconst 0, 1), (149, .lcmp, 1), (150, .ifCond .eq 16, 3), (153, .aload_n 0, 1)] = true := by decide +kernel
theorem dX1_hasOwn_126 : decode cX1_hasOwn 126 = .ok (.iload 4, 2) := zdec_at bX1_hasOwn_126 0 rfl
theorem dX1_hasOwn_128 : decode cX1_hasOwn 128 = .ok (.laload, 1) := zdec_at bX1_hasOwn_126 1 rfl
theorem dX1_hasOwn_129 : decode cX1_hasOwn 129 = .ok (.lconst 0, 1) := zdec_at bX1_hasOwn_126 2 rfl
theorem dX1_hasOwn_130 : decode cX1_hasOwn 130 = .ok (.lcmp, 1) := zdec_at bX1_hasOwn_126 3 rfl
theorem dX1_hasOwn_131 : decode cX1_hasOwn 131 = .ok (.ifCond .ne 22, 3) := zdec_at bX1_hasOwn_126 4 rfl
theorem dX1_hasOwn_134 : decode cX1_hasOwn 134 = .ok (.aload_n 0, 1) := zdec_at bX1_hasOwn_126 5 rfl
theorem dX1_hasOwn_135 : decode cX1_hasOwn 135 = .ok (.getfield 684, 3) := zdec_at bX1_hasOwn_126 6 rfl
theorem dX1_hasOwn_138 : decode cX1_hasOwn 138 = .ok (.getfield 810, 3) := zdec_at bX1_hasOwn_126 7 rfl
theorem dX1_hasOwn_141 : decode cX1_hasOwn 141 = .ok (.iload 4, 2) := zdec_at bX1_hasOwn_126 8 rfl
theorem dX1_hasOwn_143 : decode cX1_hasOwn 143 = .ok (.laload, 1) := zdec_at bX1_hasOwn_126 9 rfl
theorem dX1_hasOwn_144 : decode cX1_hasOwn 144 = .ok (.ldc2_w 875, 3) := zdec_at bX1_hasOwn_126 10 rfl
theorem dX1_hasOwn_147 : decode cX1_hasOwn 147 = .ok (.land, 1) := zdec_at bX1_hasOwn_126 11 rfl
theorem dX1_hasOwn_148 : decode cX1_hasOwn 148 = .ok (.lconst 0, 1) := zdec_at bX1_hasOwn_126 12 rfl
theorem dX1_hasOwn_149 : decode cX1_hasOwn 149 = .ok (.lcmp, 1) := zdec_at bX1_hasOwn_126 13 rfl
theorem dX1_hasOwn_150 : decode cX1_hasOwn 150 = .ok (.ifCond .eq 16, 3) := zdec_at bX1_hasOwn_126 14 rfl
theorem dX1_hasOwn_153 : decode cX1_hasOwn 153 = .ok (.aload_n 0, 1) := zdec_at bX1_hasOwn_126 15 rfl
theorem bX1_hasOwn_154 : zdec cX1_hasOwn 154 [(154, .getfield 216, 3), (157, .lconst 0, 1), (158, .lconst 0, 1), (159, .ldc2_w 1016, 3), (162, .invokevirtual 871, 3), (165, .pop, 1), (166, .aload_n 0, 1), (167, .getfield 684, 3), (170, .getfield 810, 3), (173, .iload 4, 2), (175, .laload, 1), (176, .ldc2_w 816, 3), (179, .land, 1), (180, .lconst 0, 1), (181, .lcmp, 1), (182, .ifCond .eq 16, 3)] = true := by decide +kernel
theorem dX1_hasOwn_154 : decode cX1_hasOwn 154 = .ok (.getfield 216, 3) := zdec_at bX1_hasOwn_154 0 rfl
theorem dX1_hasOwn_157 : decode cX1_hasOwn 157 = .ok (.lconst 0, 1) := zdec_at bX1_hasOwn_154 1 rfl
theorem dX1_hasOwn_158 : decode cX1_hasOwn 158 = .ok (.lconst 0, 1) := zdec_at bX1_hasOwn_154 2 rfl
theorem dX1_hasOwn_159 : decode cX1_hasOwn 159 = .ok (.ldc2_w 1016, 3) := zdec_at bX1_hasOwn_154 3 rfl
theorem dX1_hasOwn_162 : decode cX1_hasOwn 162 = .ok (.invokevirtual 871, 3) := zdec_at bX1_hasOwn_154 4 rfl
theorem dX1_hasOwn_165 : decode cX1_hasOwn 165 = .ok (.pop, 1) := zdec_at bX1_hasOwn_154 5 rfl
theorem dX1_hasOwn_166 : decode cX1_hasOwn 166 = .ok (.aload_n 0, 1) := zdec_at bX1_hasOwn_154 6 rfl
theorem dX1_hasOwn_167 : decode cX1_hasOwn 167 = .ok (.getfield 684, 3) := zdec_at bX1_hasOwn_154 7 rfl
theorem dX1_hasOwn_170 : decode cX1_hasOwn 170 = .ok (.getfield 810, 3) := zdec_at bX1_hasOwn_154 8 rfl
theorem dX1_hasOwn_173 : decode cX1_hasOwn 173 = .ok (.iload 4, 2) := zdec_at bX1_hasOwn_154 9 rfl
theorem dX1_hasOwn_175 : decode cX1_hasOwn 175 = .ok (.laload, 1) := zdec_at bX1_hasOwn_154 10 rfl
theorem dX1_hasOwn_176 : decode cX1_hasOwn 176 = .ok (.ldc2_w 816, 3) := zdec_at bX1_hasOwn_154 11 rfl
theorem dX1_hasOwn_179 : decode cX1_hasOwn 179 = .ok (.land, 1) := zdec_at bX1_hasOwn_154 12 rfl
theorem dX1_hasOwn_180 : decode cX1_hasOwn 180 = .ok (.lconst 0, 1) := zdec_at bX1_hasOwn_154 13 rfl
theorem dX1_hasOwn_181 : decode cX1_hasOwn 181 = .ok (.lcmp, 1) := zdec_at bX1_hasOwn_154 14 rfl
theorem dX1_hasOwn_182 : decode cX1_hasOwn 182 = .ok (.ifCond .eq 16, 3) := zdec_at bX1_hasOwn_154 15 rfl
theorem bX1_hasOwn_185 : zdec cX1_hasOwn 185 [(185, .aload_n 0, 1), (186, .getfield 216, 3), (189, .lconst 0, 1), (190, .lconst 0, 1), (191, .ldc2_w 1018, 3), (194, .invokevirtual 871, 3), (197, .pop, 1), (198, .iinc 3 1, 3), (201, .goto (-127), 3), (204, .iinc 2 1, 3), (207, .goto (-167), 3), (210, .aload_n 0, 1), (211, .aload_n 0, 1), (212, .getfield 216, 3), (215, .invokevirtual 895, 3), (218, .return_, 1)] = true := by decide +kernel
theorem dX1_hasOwn_185 : decode cX1_hasOwn 185 = .ok (.aload_n 0, 1) := zdec_at bX1_hasOwn_185 0 rfl
theorem dX1_hasOwn_186 : decode cX1_hasOwn 186 = .ok (.getfield 216, 3) := zdec_at bX1_hasOwn_185 1 rfl
theorem dX1_hasOwn_189 : decode cX1_hasOwn 189 = .ok (.lconst 0, 1) := zdec_at bX1_hasOwn_185 2 rfl
theorem dX1_hasOwn_190 : decode cX1_hasOwn 190 = .ok (.lconst 0, 1) := zdec_at bX1_hasOwn_185 3 rfl
theorem dX1_hasOwn_191 : decode cX1_hasOwn 191 = .ok (.ldc2_w 1018, 3) := zdec_at bX1_hasOwn_185 4 rfl
theorem dX1_hasOwn_194 : decode cX1_hasOwn 194 = .ok (.invokevirtual 871, 3) := zdec_at bX1_hasOwn_185 5 rfl
theorem dX1_hasOwn_197 : decode cX1_hasOwn 197 = .ok (.pop, 1) := zdec_at bX1_hasOwn_185 6 rfl
theorem dX1_hasOwn_198 : decode cX1_hasOwn 198 = .ok (.iinc 3 1, 3) := zdec_at bX1_hasOwn_185 7 rfl
theorem dX1_hasOwn_201 : decode cX1_hasOwn 201 = .ok (.goto (-127), 3) := zdec_at bX1_hasOwn_185 8 rfl
theorem dX1_hasOwn_204 : decode cX1_hasOwn 204 = .ok (.iinc 2 1, 3) := zdec_at bX1_hasOwn_185 9 rfl
theorem dX1_hasOwn_207 : decode cX1_hasOwn 207 = .ok (.goto (-167), 3) := zdec_at bX1_hasOwn_185 10 rfl
theorem dX1_hasOwn_210 : decode cX1_hasOwn 210 = .ok (.aload_n 0, 1) := zdec_at bX1_hasOwn_185 11 rfl
theorem dX1_hasOwn_211 : decode cX1_hasOwn 211 = .ok (.aload_n 0, 1) := zdec_at bX1_hasOwn_185 12 rfl
theorem dX1_hasOwn_212 : decode cX1_hasOwn 212 = .ok (.getfield 216, 3) := zdec_at bX1_hasOwn_185 13 rfl
theorem dX1_hasOwn_215 : decode cX1_hasOwn 215 = .ok (.invokevirtual 895, 3) := zdec_at bX1_hasOwn_185 14 rfl
theorem dX1_hasOwn_218 : decode cX1_hasOwn 218 = .ok (.return_, 1) := zdec_at bX1_hasOwn_185 15 rfl
theorem sX1_hasOwn_0 {E : zE} {d : Nat} {Q : zO → zM → Prop} (M : zM) (r1 : Option zP) (hw : cw M) (k : if (lg_cmp ((gl M 77 2) &&& (511 : Int64)) (0 : Int64)) = 0 then (Z E YX1_hasOwn (d + 1) M [(0, vr (some (16, 0, 0))), (1, vr r1)] 25 [] Q) else (Z E YX1_errs d M (zargs 0 [vr (some (16, 0, 0)), vr (gr M 16 60), vi (0 : Int32)]) 0 [] (zafter E YX1_hasOwn (d + 1) [(0, vr (some (16, 0, 0))), (1, vr r1)] 22 3 [] Q))) : Z E YX1_hasOwn (d + 1) M [(0, vr (some (16, 0, 0))), (1, vr r1)] 0 [] Q := by
  refine z_aload_n dX1_hasOwn_0 rfl rfl ?_
  refine z_getr dX1_hasOwn_1 fsX1_225_0 (show gr M 16 84 = some (77, 4, 0) from cw_at hw 45 rfl) ?_
  refine z_getl dX1_hasOwn_4 fsX1_920_4 ?_
  refine z_ldc2 (v := 511) dX1_hasOwn_7 q3350 ?_
  refine z_land dX1_hasOwn_10 ?_
  refine z_lconst (v := 0) dX1_hasOwn_11 rfl ?_
  refine z_lcmp dX1_hasOwn_12 ?_
  refine z_if_eq (tgt := 25) dX1_hasOwn_13 rfl (fun h_ => ?_) (fun h_ => ?_)
  · have k := zit h_ k
    exact k
  · have k := zif h_ k
    refine z_aload_n dX1_hasOwn_16 rfl rfl ?_
    refine z_aload_n dX1_hasOwn_17 rfl rfl ?_
    refine z_getr (r := (gr M 16 60)) dX1_hasOwn_18 fsX1_684_0 rfl ?_
    refine z_iconst (v := 0) dX1_hasOwn_21 rfl ?_
    exact z_callV (as := [vr (gr M 16 60), vi (0 : Int32)]) (st := []) dX1_hasOwn_22 vsX1_960_0 (Nat.le_refl _) (Nat.le_of_ble_eq_true rfl) (Nat.le_of_ble_eq_true rfl) rfl k
theorem sX1_hasOwn_25 {E : zE} {d : Nat} {Q : zO → zM → Prop} (M : zM) (r1 : Option zP) (hw : cw M) (k : Z E YX1_keys d M (zargs 0 [vr (some (16, 0, 0)), vr r1]) 0 [] (zafter E YX1_hasOwn (d + 1) [(0, vr (some (16, 0, 0)))] 27 3 [] Q)) : Z E YX1_hasOwn (d + 1) M [(0, vr (some (16, 0, 0))), (1, vr r1)] 25 [] Q := by
  refine z_aload_n dX1_hasOwn_25 rfl rfl ?_
  refine z_aload_n dX1_hasOwn_26 rfl rfl ?_
  refine Z.pick [0] rfl ?_
  exact z_callV (as := [vr r1]) (st := []) dX1_hasOwn_27 vsX1_883_0 (Nat.le_refl _) (Nat.le_of_ble_eq_true rfl) (Nat.le_of_ble_eq_true rfl) rfl k
theorem sX1_hasOwn_30 {E : zE} {d : Nat} {Q : zO → zM → Prop} (M : zM)  (hw : cw M) (k : Z E YX6_empty d M (zargs 0 [vr (some (74, 4, 0))]) 0 [] (zafter E YX1_hasOwn (d + 1) [(0, vr (some (16, 0, 0)))] 34 3 [] Q)) : Z E YX1_hasOwn (d + 1) M [(0, vr (some (16, 0, 0)))] 30 [] Q := by
  refine z_aload_n dX1_hasOwn_30 rfl rfl ?_
  refine z_getr dX1_hasOwn_31 fsX1_216_0 (show gr M 16 81 = some (74, 4, 0) from cw_at hw 42 rfl) ?_
  exact z_callV (as := []) (st := []) dX1_hasOwn_34 vsX1_796_4 (Nat.le_refl _) (Nat.le_of_ble_eq_true rfl) (Nat.le_of_ble_eq_true rfl) rfl k
theorem sX1_hasOwn_37 {E : zE} {d : Nat} {Q : zO → zM → Prop} (M : zM) (u0 : Option zP) (hw : cw M) (k : Z E YX1_hasOwn (d + 1) M [(0, vr (some (16, 0, 0))), (2, vi (0 : Int32))] 40 [] Q) : Z E YX1_hasOwn (d + 1) M [(0, vr (some (16, 0, 0)))] 37 [vr u0] Q := by
  refine z_pop dX1_hasOwn_37 rfl ?_
  refine z_iconst (v := 0) dX1_hasOwn_38 rfl ?_
  refine z_ist_n dX1_hasOwn_39 rfl (by decide) (lv' := [(0, vr (some (16, 0, 0))), (2, vi (0 : Int32))]) rfl ?_
  exact k
theorem sX1_hasOwn_40 {E : zE} {d : Nat} {Q : zO → zM → Prop} (M : zM) (l2 : Int32) (hw : cw M) (k : if (gi M 16 11) ≤ l2 then (Z E YX1_nextWith d M (zargs 0 [vr (some (16, 0, 0)), vr (some (74, 4, 0))]) 0 [] (zafter E YX1_hasOwn (d + 1) [] 215 3 [] Q)) else (Z E YX1_in d M (zargs 0 [vi l2, vl (gl M 77 0), vl (gl M 77 1)]) 0 [] (zafter E YX1_hasOwn (d + 1) [(0, vr (some (16, 0, 0))), (2, vi l2)] 63 3 [] Q))) : Z E YX1_hasOwn (d + 1) M [(0, vr (some (16, 0, 0))), (2, vi l2)] 40 [] Q := by
  refine z_iload_n dX1_hasOwn_40 rfl rfl ?_
  refine z_aload_n dX1_hasOwn_41 rfl rfl ?_
  refine z_geti dX1_hasOwn_42 fsX1_313_0 ?_
  refine z_icmp_ge (tgt := 210) dX1_hasOwn_45 rfl (fun h_ => ?_) (fun h_ => ?_)
  · have k := zit h_ k
    refine z_aload_n dX1_hasOwn_210 rfl rfl ?_
    refine z_aload_n dX1_hasOwn_211 rfl rfl ?_
    refine z_getr dX1_hasOwn_212 fsX1_216_0 (show gr M 16 81 = some (74, 4, 0) from cw_at hw 42 rfl) ?_
    refine Z.pick [] rfl ?_
    exact z_callV (as := [vr (some (74, 4, 0))]) (st := []) dX1_hasOwn_215 vsX1_895_0 (Nat.le_refl _) (Nat.le_of_ble_eq_true rfl) (Nat.le_of_ble_eq_true rfl) rfl k
  · have k := zif h_ k
    refine z_iload_n dX1_hasOwn_48 rfl rfl ?_
    refine z_aload_n dX1_hasOwn_49 rfl rfl ?_
    refine z_getr dX1_hasOwn_50 fsX1_225_0 (show gr M 16 84 = some (77, 4, 0) from cw_at hw 45 rfl) ?_
    refine z_getl dX1_hasOwn_53 fsX1_916_4 ?_
    refine z_aload_n dX1_hasOwn_56 rfl rfl ?_
    refine z_getr dX1_hasOwn_57 fsX1_225_0 (show gr M 16 84 = some (77, 4, 0) from cw_at hw 45 rfl) ?_
    refine z_getl dX1_hasOwn_60 fsX1_918_4 ?_
    exact z_callS (as := [vi l2, vl (gl M 77 0), vl (gl M 77 1)]) (st := []) dX1_hasOwn_63 ssX1_827 (Nat.le_refl _) (Nat.le_of_ble_eq_true rfl) (Nat.le_of_ble_eq_true rfl) rfl k
theorem sX1_hasOwn_66 {E : zE} {d : Nat} {Q : zO → zM → Prop} (M : zM) (l2 : Int32) (s0 : Int32) (hw : cw M) (k : if s0 = 0 then (Z E YX1_hasOwn (d + 1) M [(0, vr (some (16, 0, 0))), (2, vi (l2 + (1 : Int32)))] 40 [] Q) else (Z E YX1_hasOwn (d + 1) M [(0, vr (some (16, 0, 0))), (2, vi l2), (3, vi (0 : Int32))] 74 [] Q)) : Z E YX1_hasOwn (d + 1) M [(0, vr (some (16, 0, 0))), (2, vi l2)] 66 [vi s0] Q := by
  refine z_if_ne (tgt := 72) dX1_hasOwn_66 rfl (fun h_ => ?_) (fun h_ => ?_)
  · have k := zif h_ k
    refine z_iconst (v := 0) dX1_hasOwn_72 rfl ?_
    refine z_ist_n dX1_hasOwn_73 rfl (by decide) (lv' := [(0, vr (some (16, 0, 0))), (2, vi l2), (3, vi (0 : Int32))]) rfl ?_
    exact k
  · have k := zit h_ k
    refine z_goto (tgt := 204) dX1_hasOwn_69 rfl ?_
    refine z_inc (v := (l2 + (1 : Int32))) dX1_hasOwn_204 rfl rfl (by decide) (lv' := [(0, vr (some (16, 0, 0))), (2, vi (l2 + (1 : Int32)))]) rfl ?_
    refine z_goto (tgt := 40) dX1_hasOwn_207 rfl ?_
    exact k
theorem sX1_hasOwn_74 {E : zE} {d : Nat} {Q : zO → zM → Prop} (M : zM) (l2 : Int32) (l3 : Int32) (hw : cw M) (k : if (gi M 16 1) < l3 then (Z E YX1_hasOwn (d + 1) M [(0, vr (some (16, 0, 0))), (2, vi (l2 + (1 : Int32)))] 40 [] Q) else (Z E YX1_isKey d M (zargs 0 [vr (some (16, 0, 0)), vi l3]) 0 [] (zafter E YX1_hasOwn (d + 1) [(0, vr (some (16, 0, 0))), (2, vi l2), (3, vi l3)] 84 3 [] Q))) : Z E YX1_hasOwn (d + 1) M [(0, vr (some (16, 0, 0))), (2, vi l2), (3, vi l3)] 74 [] Q := by
  refine z_iload_n dX1_hasOwn_74 rfl rfl ?_
  refine z_aload_n dX1_hasOwn_75 rfl rfl ?_
  refine z_geti dX1_hasOwn_76 fsX1_58_0 ?_
  refine z_icmp_gt (tgt := 204) dX1_hasOwn_79 rfl (fun h_ => ?_) (fun h_ => ?_)
  · have k := zit h_ k
    refine z_inc (v := (l2 + (1 : Int32))) dX1_hasOwn_204 rfl rfl (by decide) (lv' := [(0, vr (some (16, 0, 0))), (2, vi (l2 + (1 : Int32))), (3, vi l3)]) rfl ?_
    refine z_goto (tgt := 40) dX1_hasOwn_207 rfl ?_
    refine Z.pick [0, 1] rfl ?_
    exact k
  · have k := zif h_ k
    refine z_aload_n dX1_hasOwn_82 rfl rfl ?_
    refine z_iload_n dX1_hasOwn_83 rfl rfl ?_
    exact z_callV (as := [vi l3]) (st := []) dX1_hasOwn_84 vsX1_856_0 (Nat.le_refl _) (Nat.le_of_ble_eq_true rfl) (Nat.le_of_ble_eq_true rfl) rfl k
theorem sX1_hasOwn_87 {E : zE} {d : Nat} {Q : zO → zM → Prop} (M : zM) (l2 : Int32) (l3 : Int32) (s0 : Int32) (hw : cw M) (k : if s0 = 0 then (Z E YX1_hasOwn (d + 1) M [(0, vr (some (16, 0, 0))), (2, vi l2), (3, vi (l3 + (1 : Int32)))] 74 [] Q) else (∃ b1 : Nat, (gr M 16 60) = some (b1, 7, 0) ∧ (Z E YX43_cell d M (zargs 0 [vr (some (b1, 7, 0)), vi l2, vi l3]) 0 [] (zafter E YX1_hasOwn (d + 1) [(0, vr (some (16, 0, 0))), (2, vi l2), (3, vi l3)] 99 3 [] Q)))) : Z E YX1_hasOwn (d + 1) M [(0, vr (some (16, 0, 0))), (2, vi l2), (3, vi l3)] 87 [vi s0] Q := by
  refine z_if_ne (tgt := 93) dX1_hasOwn_87 rfl (fun h_ => ?_) (fun h_ => ?_)
  · have k := zif h_ k
    refine z_aload_n dX1_hasOwn_93 rfl rfl ?_
    refine z_getr (r := (gr M 16 60)) dX1_hasOwn_94 fsX1_684_0 rfl ?_
    refine z_iload_n dX1_hasOwn_97 rfl rfl ?_
    refine z_iload_n dX1_hasOwn_98 rfl rfl ?_
    obtain ⟨b1, e1_, k⟩ := k
    refine Z.eqs (lv' := [(0, vr (some (16, 0, 0))), (2, vi l2), (3, vi l3)]) (st' := [vi l3, vi l2, vr (some (b1, 7, 0))]) rfl (by rw [e1_] <;> rfl) ?_
    exact z_callV (as := [vi l2, vi l3]) (st := []) dX1_hasOwn_99 vsX1_813_7 (Nat.le_refl _) (Nat.le_of_ble_eq_true rfl) (Nat.le_of_ble_eq_true rfl) rfl k
  · have k := zit h_ k
    refine z_goto (tgt := 198) dX1_hasOwn_90 rfl ?_
    refine z_inc (v := (l3 + (1 : Int32))) dX1_hasOwn_198 rfl rfl (by decide) (lv' := [(0, vr (some (16, 0, 0))), (2, vi l2), (3, vi (l3 + (1 : Int32)))]) rfl ?_
    refine z_goto (tgt := 74) dX1_hasOwn_201 rfl ?_
    exact k
theorem sX1_hasOwn_102 {E : zE} {d : Nat} {Q : zO → zM → Prop} (M : zM) (l2 : Int32) (l3 : Int32) (s0 : Int32) (hw : cw M) (k : ∃ b1 : Nat, (gr M 16 60) = some (b1, 7, 0) ∧ (∃ b2 m2 : Nat, (gr M b1 1) = some (b2, 105, m2) ∧ (vp_in s0 m2 ∧ (if (lg_cmp (gl M b2 (s0).toNatClampNeg) (0 : Int64)) = 0 then (∃ b3 : Nat, (gr M 16 60) = some (b3, 7, 0) ∧ (∃ b4 m4 : Nat, (gr M b3 2) = some (b4, 105, m4) ∧ (vp_in s0 m4 ∧ (if (lg_cmp (gl M b4 (s0).toNatClampNeg) (0 : Int64)) = 0 then (∃ b5 : Nat, (gr M 16 60) = some (b5, 7, 0) ∧ (∃ b6 m6 : Nat, (gr M b5 3) = some (b6, 105, m6) ∧ (vp_in s0 m6 ∧ (if (lg_cmp ((gl M b6 (s0).toNatClampNeg) &&& (511 : Int64)) (0 : Int64)) = 0 then (Z E YX1_hasOwn (d + 1) M [(0, vr (some (16, 0, 0))), (2, vi l2), (3, vi l3), (4, vi s0)] 166 [] Q) else (Z E YX6_join3 d M (zargs 0 [vr (some (74, 4, 0)), vl (0 : Int64), vl (0 : Int64), vl (4 : Int64)]) 0 [] (zafter E YX1_hasOwn (d + 1) [(0, vr (some (16, 0, 0))), (2, vi l2), (3, vi l3), (4, vi s0)] 162 3 [] Q)))))) else (Z E YX6_join3 d M (zargs 0 [vr (some (74, 4, 0)), vl (0 : Int64), vl (0 : Int64), vl (4 : Int64)]) 0 [] (zafter E YX1_hasOwn (d + 1) [(0, vr (some (16, 0, 0))), (2, vi l2), (3, vi l3), (4, vi s0)] 162 3 [] Q)))))) else (Z E YX6_join3 d M (zargs 0 [vr (some (74, 4, 0)), vl (0 : Int64), vl (0 : Int64), vl (4 : Int64)]) 0 [] (zafter E YX1_hasOwn (d + 1) [(0, vr (some (16, 0, 0))), (2, vi l2), (3, vi l3), (4, vi s0)] 162 3 [] Q)))))) : Z E YX1_hasOwn (d + 1) M [(0, vr (some (16, 0, 0))), (2, vi l2), (3, vi l3)] 102 [vi s0] Q := by
  refine z_ist dX1_hasOwn_102 (by decide) (lv' := [(0, vr (some (16, 0, 0))), (2, vi l2), (3, vi l3), (4, vi s0)]) rfl ?_
  refine z_aload_n dX1_hasOwn_104 rfl rfl ?_
  refine z_getr (r := (gr M 16 60)) dX1_hasOwn_105 fsX1_684_0 rfl ?_
  obtain ⟨b1, e1_, k⟩ := k
  refine Z.eqs (lv' := [(0, vr (some (16, 0, 0))), (2, vi l2), (3, vi l3), (4, vi s0)]) (st' := [vr (some (b1, 7, 0))]) rfl (by rw [e1_] <;> rfl) ?_
  refine z_getr (r := (gr M b1 1)) dX1_hasOwn_108 fsX1_863_7 rfl ?_
  refine z_iload dX1_hasOwn_111 rfl ?_
  obtain ⟨b2, m2, e2_, k⟩ := k
  refine Z.eqs (lv' := [(0, vr (some (16, 0, 0))), (2, vi l2), (3, vi l3), (4, vi s0)]) (st' := [vi s0, vr (some (b2, 105, m2))]) rfl (by rw [e2_] <;> rfl) ?_
  obtain ⟨b_, k⟩ := k
  refine z_lald dX1_hasOwn_113 b_ ?_
  refine z_lconst (v := 0) dX1_hasOwn_114 rfl ?_
  refine z_lcmp dX1_hasOwn_115 ?_
  refine z_if_ne (tgt := 153) dX1_hasOwn_116 rfl (fun h_ => ?_) (fun h_ => ?_)
  · have k := zif h_ k
    refine z_aload_n dX1_hasOwn_153 rfl rfl ?_
    refine z_getr dX1_hasOwn_154 fsX1_216_0 (show gr M 16 81 = some (74, 4, 0) from cw_at hw 42 rfl) ?_
    refine z_lconst (v := 0) dX1_hasOwn_157 rfl ?_
    refine z_lconst (v := 0) dX1_hasOwn_158 rfl ?_
    refine z_ldc2 (v := 4) dX1_hasOwn_159 q3365 ?_
    exact z_callV (as := [vl (0 : Int64), vl (0 : Int64), vl (4 : Int64)]) (st := []) dX1_hasOwn_162 vsX1_871_4 (Nat.le_refl _) (Nat.le_of_ble_eq_true rfl) (Nat.le_of_ble_eq_true rfl) rfl k
  · have k := zit h_ k
    refine z_aload_n dX1_hasOwn_119 rfl rfl ?_
    refine z_getr (r := (gr M 16 60)) dX1_hasOwn_120 fsX1_684_0 rfl ?_
    obtain ⟨b3, e3_, k⟩ := k
    refine Z.eqs (lv' := [(0, vr (some (16, 0, 0))), (2, vi l2), (3, vi l3), (4, vi s0)]) (st' := [vr (some (b3, 7, 0))]) rfl (by rw [e3_] <;> rfl) ?_
    refine z_getr (r := (gr M b3 2)) dX1_hasOwn_123 fsX1_866_7 rfl ?_
    refine z_iload dX1_hasOwn_126 rfl ?_
    obtain ⟨b4, m4, e4_, k⟩ := k
    refine Z.eqs (lv' := [(0, vr (some (16, 0, 0))), (2, vi l2), (3, vi l3), (4, vi s0)]) (st' := [vi s0, vr (some (b4, 105, m4))]) rfl (by rw [e4_] <;> rfl) ?_
    obtain ⟨b_, k⟩ := k
    refine z_lald dX1_hasOwn_128 b_ ?_
    refine z_lconst (v := 0) dX1_hasOwn_129 rfl ?_
    refine z_lcmp dX1_hasOwn_130 ?_
    refine z_if_ne (tgt := 153) dX1_hasOwn_131 rfl (fun h_ => ?_) (fun h_ => ?_)
    · have k := zif h_ k
      refine z_aload_n dX1_hasOwn_153 rfl rfl ?_
      refine z_getr dX1_hasOwn_154 fsX1_216_0 (show gr M 16 81 = some (74, 4, 0) from cw_at hw 42 rfl) ?_
      refine z_lconst (v := 0) dX1_hasOwn_157 rfl ?_
      refine z_lconst (v := 0) dX1_hasOwn_158 rfl ?_
      refine z_ldc2 (v := 4) dX1_hasOwn_159 q3365 ?_
      exact z_callV (as := [vl (0 : Int64), vl (0 : Int64), vl (4 : Int64)]) (st := []) dX1_hasOwn_162 vsX1_871_4 (Nat.le_refl _) (Nat.le_of_ble_eq_true rfl) (Nat.le_of_ble_eq_true rfl) rfl k
    · have k := zit h_ k
      refine z_aload_n dX1_hasOwn_134 rfl rfl ?_
      refine z_getr (r := (gr M 16 60)) dX1_hasOwn_135 fsX1_684_0 rfl ?_
      obtain ⟨b5, e5_, k⟩ := k
      refine Z.eqs (lv' := [(0, vr (some (16, 0, 0))), (2, vi l2), (3, vi l3), (4, vi s0)]) (st' := [vr (some (b5, 7, 0))]) rfl (by rw [e5_] <;> rfl) ?_
      refine z_getr (r := (gr M b5 3)) dX1_hasOwn_138 fsX1_810_7 rfl ?_
      refine z_iload dX1_hasOwn_141 rfl ?_
      obtain ⟨b6, m6, e6_, k⟩ := k
      refine Z.eqs (lv' := [(0, vr (some (16, 0, 0))), (2, vi l2), (3, vi l3), (4, vi s0)]) (st' := [vi s0, vr (some (b6, 105, m6))]) rfl (by rw [e6_] <;> rfl) ?_
      obtain ⟨b_, k⟩ := k
      refine z_lald dX1_hasOwn_143 b_ ?_
      refine z_ldc2 (v := 511) dX1_hasOwn_144 q3350 ?_
      refine z_land dX1_hasOwn_147 ?_
      refine z_lconst (v := 0) dX1_hasOwn_148 rfl ?_
      refine z_lcmp dX1_hasOwn_149 ?_
      refine z_if_eq (tgt := 166) dX1_hasOwn_150 rfl (fun h_ => ?_) (fun h_ => ?_)
      · have k := zit h_ k
        exact k
      · have k := zif h_ k
        refine z_aload_n dX1_hasOwn_153 rfl rfl ?_
        refine z_getr dX1_hasOwn_154 fsX1_216_0 (show gr M 16 81 = some (74, 4, 0) from cw_at hw 42 rfl) ?_
        refine z_lconst (v := 0) dX1_hasOwn_157 rfl ?_
        refine z_lconst (v := 0) dX1_hasOwn_158 rfl ?_
        refine z_ldc2 (v := 4) dX1_hasOwn_159 q3365 ?_
        exact z_callV (as := [vl (0 : Int64), vl (0 : Int64), vl (4 : Int64)]) (st := []) dX1_hasOwn_162 vsX1_871_4 (Nat.le_refl _) (Nat.le_of_ble_eq_true rfl) (Nat.le_of_ble_eq_true rfl) rfl k
theorem sX1_hasOwn_165 {E : zE} {d : Nat} {Q : zO → zM → Prop} (M : zM) (l2 : Int32) (l3 : Int32) (l4 : Int32) (u0 : Option zP) (hw : cw M) (k : Z E YX1_hasOwn (d + 1) M [(0, vr (some (16, 0, 0))), (2, vi l2), (3, vi l3), (4, vi l4)] 166 [] Q) : Z E YX1_hasOwn (d + 1) M [(0, vr (some (16, 0, 0))), (2, vi l2), (3, vi l3), (4, vi l4)] 165 [vr u0] Q := by
  refine z_pop dX1_hasOwn_165 rfl ?_
  exact k
theorem sX1_hasOwn_166 {E : zE} {d : Nat} {Q : zO → zM → Prop} (M : zM) (l2 : Int32) (l3 : Int32) (l4 : Int32) (hw : cw M) (k : ∃ b1 : Nat, (gr M 16 60) = some (b1, 7, 0) ∧ (∃ b2 m2 : Nat, (gr M b1 3) = some (b2, 105, m2) ∧ (vp_in l4 m2 ∧ (if (lg_cmp ((gl M b2 (l4).toNatClampNeg) &&& (512 : Int64)) (0 : Int64)) = 0 then (Z E YX1_hasOwn (d + 1) M [(0, vr (some (16, 0, 0))), (2, vi l2), (3, vi (l3 + (1 : Int32)))] 74 [] Q) else (Z E YX6_join3 d M (zargs 0 [vr (some (74, 4, 0)), vl (0 : Int64), vl (0 : Int64), vl (8 : Int64)]) 0 [] (zafter E YX1_hasOwn (d + 1) [(0, vr (some (16, 0, 0))), (2, vi l2), (3, vi l3)] 194 3 [] Q)))))) : Z E YX1_hasOwn (d + 1) M [(0, vr (some (16, 0, 0))), (2, vi l2), (3, vi l3), (4, vi l4)] 166 [] Q := by
  refine z_aload_n dX1_hasOwn_166 rfl rfl ?_
  refine z_getr (r := (gr M 16 60)) dX1_hasOwn_167 fsX1_684_0 rfl ?_
  obtain ⟨b1, e1_, k⟩ := k
  refine Z.eqs (lv' := [(0, vr (some (16, 0, 0))), (2, vi l2), (3, vi l3), (4, vi l4)]) (st' := [vr (some (b1, 7, 0))]) rfl (by rw [e1_] <;> rfl) ?_
  refine z_getr (r := (gr M b1 3)) dX1_hasOwn_170 fsX1_810_7 rfl ?_
  refine z_iload dX1_hasOwn_173 rfl ?_
  obtain ⟨b2, m2, e2_, k⟩ := k
  refine Z.eqs (lv' := [(0, vr (some (16, 0, 0))), (2, vi l2), (3, vi l3), (4, vi l4)]) (st' := [vi l4, vr (some (b2, 105, m2))]) rfl (by rw [e2_] <;> rfl) ?_
  obtain ⟨b_, k⟩ := k
  refine z_lald dX1_hasOwn_175 b_ ?_
  refine z_ldc2 (v := 512) dX1_hasOwn_176 q3247 ?_
  refine z_land dX1_hasOwn_179 ?_
  refine z_lconst (v := 0) dX1_hasOwn_180 rfl ?_
  refine z_lcmp dX1_hasOwn_181 ?_
  refine z_if_eq (tgt := 198) dX1_hasOwn_182 rfl (fun h_ => ?_) (fun h_ => ?_)
  · have k := zit h_ k
    refine z_inc (v := (l3 + (1 : Int32))) dX1_hasOwn_198 rfl rfl (by decide) (lv' := [(0, vr (some (16, 0, 0))), (2, vi l2), (3, vi (l3 + (1 : Int32))), (4, vi l4)]) rfl ?_
    refine z_goto (tgt := 74) dX1_hasOwn_201 rfl ?_
    refine Z.pick [0, 1, 2] rfl ?_
    exact k
  · have k := zif h_ k
    refine z_aload_n dX1_hasOwn_185 rfl rfl ?_
    refine z_getr dX1_hasOwn_186 fsX1_216_0 (show gr M 16 81 = some (74, 4, 0) from cw_at hw 42 rfl) ?_
    refine z_lconst (v := 0) dX1_hasOwn_189 rfl ?_
    refine z_lconst (v := 0) dX1_hasOwn_190 rfl ?_
    refine z_ldc2 (v := 8) dX1_hasOwn_191 q3392 ?_
    refine Z.pick [0, 1, 2] rfl ?_
    exact z_callV (as := [vl (0 : Int64), vl (0 : Int64), vl (8 : Int64)]) (st := []) dX1_hasOwn_194 vsX1_871_4 (Nat.le_refl _) (Nat.le_of_ble_eq_true rfl) (Nat.le_of_ble_eq_true rfl) rfl k
theorem sX1_hasOwn_197 {E : zE} {d : Nat} {Q : zO → zM → Prop} (M : zM) (l2 : Int32) (l3 : Int32) (u0 : Option zP) (hw : cw M) (k : Z E YX1_hasOwn (d + 1) M [(0, vr (some (16, 0, 0))), (2, vi l2), (3, vi (l3 + (1 : Int32)))] 74 [] Q) : Z E YX1_hasOwn (d + 1) M [(0, vr (some (16, 0, 0))), (2, vi l2), (3, vi l3)] 197 [vr u0] Q := by
  refine z_pop dX1_hasOwn_197 rfl ?_
  refine z_inc (v := (l3 + (1 : Int32))) dX1_hasOwn_198 rfl rfl (by decide) (lv' := [(0, vr (some (16, 0, 0))), (2, vi l2), (3, vi (l3 + (1 : Int32)))]) rfl ?_
  refine z_goto (tgt := 74) dX1_hasOwn_201 rfl ?_
  exact k
theorem sX1_hasOwn_218 {E : zE} {d : Nat} {Q : zO → zM → Prop} (M : zM)  (hw : cw M) (k : Q (.inl none) M) : Z E YX1_hasOwn (d + 1) M [] 218 [] Q := by
  exact z_vret dX1_hasOwn_218 rfl k
/-! ScriptTypes.isOf(I)Z -/
theorem bX1_isOf_0 : zdec cX1_isOf 0 [(0, .aload_n 0, 1), (1, .iload_n 1, 1), (2, .invokevirtual 538, 3), (5, .iconst 2, 1), (6, .iadd, 1), (7, .aload_n 0, 1), (8, .getfield 222, 3), (11, .getfield 916, 3), (14, .aload_n 0, 1), (15, .getfield 222, 3), (18, .getfield 918, 3), (21, .invokestatic 827, 3), (24, .ifCond .ne 30, 3), (27, .aload_n 0, 1), (28, .iload_n 1, 1), (29, .invokevirtual 538, 3)] = true := by decide +kernel
theorem dX1_isOf_0 : decode cX1_isOf 0 = .ok (.aload_n 0, 1) := zdec_at bX1_isOf_0 0 rfl
theorem dX1_isOf_1 : decode cX1_isOf 1 = .ok (.iload_n 1, 1) := zdec_at bX1_isOf_0 1 rfl
theorem dX1_isOf_2 : decode cX1_isOf 2 = .ok (.invokevirtual 538, 3) := zdec_at bX1_isOf_0 2 rfl
theorem dX1_isOf_5 : decode cX1_isOf 5 = .ok (.iconst 2, 1) := zdec_at bX1_isOf_0 3 rfl
theorem dX1_isOf_6 : decode cX1_isOf 6 = .ok (.iadd, 1) := zdec_at bX1_isOf_0 4 rfl
theorem dX1_isOf_7 : decode cX1_isOf 7 = .ok (.aload_n 0, 1) := zdec_at bX1_isOf_0 5 rfl
theorem dX1_isOf_8 : decode cX1_isOf 8 = .ok (.getfield 222, 3) := zdec_at bX1_isOf_0 6 rfl
theorem dX1_isOf_11 : decode cX1_isOf 11 = .ok (.getfield 916, 3) := zdec_at bX1_isOf_0 7 rfl
theorem dX1_isOf_14 : decode cX1_isOf 14 = .ok (.aload_n 0, 1) := zdec_at bX1_isOf_0 8 rfl
theorem dX1_isOf_15 : decode cX1_isOf 15 = .ok (.getfield 222, 3) := zdec_at bX1_isOf_0 9 rfl
theorem dX1_isOf_18 : decode cX1_isOf 18 = .ok (.getfield 918, 3) := zdec_at bX1_isOf_0 10 rfl
theorem dX1_isOf_21 : decode cX1_isOf 21 = .ok (.invokestatic 827, 3) := zdec_at bX1_isOf_0 11 rfl
theorem dX1_isOf_24 : decode cX1_isOf 24 = .ok (.ifCond .ne 30, 3) := zdec_at bX1_isOf_0 12 rfl
theorem dX1_isOf_27 : decode cX1_isOf 27 = .ok (.aload_n 0, 1) := zdec_at bX1_isOf_0 13 rfl
theorem dX1_isOf_28 : decode cX1_isOf 28 = .ok (.iload_n 1, 1) := zdec_at bX1_isOf_0 14 rfl
theorem dX1_isOf_29 : decode cX1_isOf 29 = .ok (.invokevirtual 538, 3) := zdec_at bX1_isOf_0 15 rfl
theorem bX1_isOf_32 : zdec cX1_isOf 32 [(32, .iconst 3, 1), (33, .iadd, 1), (34, .aload_n 0, 1), (35, .getfield 222, 3), (38, .getfield 916, 3), (41, .aload_n 0, 1), (42, .getfield 222, 3), (45, .getfield 918, 3), (48, .invokestatic 827, 3), (51, .ifCond .eq 7, 3), (54, .iconst 1, 1), (55, .goto 4, 3), (58, .iconst 0, 1), (59, .ireturn, 1)] = true := by decide +kernel
theorem dX1_isOf_32 : decode cX1_isOf 32 = .ok (.iconst 3, 1) := zdec_at bX1_isOf_32 0 rfl
theorem dX1_isOf_33 : decode cX1_isOf 33 = .ok (.iadd, 1) := zdec_at bX1_isOf_32 1 rfl
theorem dX1_isOf_34 : decode cX1_isOf 34 = .ok (.aload_n 0, 1) := zdec_at bX1_isOf_32 2 rfl
theorem dX1_isOf_35 : decode cX1_isOf 35 = .ok (.getfield 222, 3) := zdec_at bX1_isOf_32 3 rfl
theorem dX1_isOf_38 : decode cX1_isOf 38 = .ok (.getfield 916, 3) := zdec_at bX1_isOf_32 4 rfl
theorem dX1_isOf_41 : decode cX1_isOf 41 = .ok (.aload_n 0, 1) := zdec_at bX1_isOf_32 5 rfl
theorem dX1_isOf_42 : decode cX1_isOf 42 = .ok (.getfield 222, 3) := zdec_at bX1_isOf_32 6 rfl
theorem dX1_isOf_45 : decode cX1_isOf 45 = .ok (.getfield 918, 3) := zdec_at bX1_isOf_32 7 rfl
theorem dX1_isOf_48 : decode cX1_isOf 48 = .ok (.invokestatic 827, 3) := zdec_at bX1_isOf_32 8 rfl
theorem dX1_isOf_51 : decode cX1_isOf 51 = .ok (.ifCond .eq 7, 3) := zdec_at bX1_isOf_32 9 rfl
theorem dX1_isOf_54 : decode cX1_isOf 54 = .ok (.iconst 1, 1) := zdec_at bX1_isOf_32 10 rfl
theorem dX1_isOf_55 : decode cX1_isOf 55 = .ok (.goto 4, 3) := zdec_at bX1_isOf_32 11 rfl
theorem dX1_isOf_58 : decode cX1_isOf 58 = .ok (.iconst 0, 1) := zdec_at bX1_isOf_32 12 rfl
theorem dX1_isOf_59 : decode cX1_isOf 59 = .ok (.ireturn, 1) := zdec_at bX1_isOf_32 13 rfl
theorem sX1_isOf_0 {E : zE} {d : Nat} {Q : zO → zM → Prop} (M : zM) (l1 : Int32) (hw : cw M) (k : Z E YX1_scopePair d M (zargs 0 [vr (some (16, 0, 0)), vi l1]) 0 [] (zafter E YX1_isOf (d + 1) [(0, vr (some (16, 0, 0))), (1, vi l1)] 2 3 [] Q)) : Z E YX1_isOf (d + 1) M [(0, vr (some (16, 0, 0))), (1, vi l1)] 0 [] Q := by
  refine z_aload_n dX1_isOf_0 rfl rfl ?_
  refine z_iload_n dX1_isOf_1 rfl rfl ?_
  exact z_callV (as := [vi l1]) (st := []) dX1_isOf_2 vsX1_538_0 (Nat.le_refl _) (Nat.le_of_ble_eq_true rfl) (Nat.le_of_ble_eq_true rfl) rfl k
theorem sX1_isOf_5 {E : zE} {d : Nat} {Q : zO → zM → Prop} (M : zM) (l1 : Int32) (s0 : Int32) (hw : cw M) (k : Z E YX1_in d M (zargs 0 [vi (s0 + (2 : Int32)), vl (gl M 76 0), vl (gl M 76 1)]) 0 [] (zafter E YX1_isOf (d + 1) [(0, vr (some (16, 0, 0))), (1, vi l1)] 21 3 [] Q)) : Z E YX1_isOf (d + 1) M [(0, vr (some (16, 0, 0))), (1, vi l1)] 5 [vi s0] Q := by
  refine z_iconst (v := 2) dX1_isOf_5 rfl ?_
  refine z_iadd dX1_isOf_6 ?_
  refine z_aload_n dX1_isOf_7 rfl rfl ?_
  refine z_getr dX1_isOf_8 fsX1_222_0 (show gr M 16 83 = some (76, 4, 0) from cw_at hw 44 rfl) ?_
  refine z_getl dX1_isOf_11 fsX1_916_4 ?_
  refine z_aload_n dX1_isOf_14 rfl rfl ?_
  refine z_getr dX1_isOf_15 fsX1_222_0 (show gr M 16 83 = some (76, 4, 0) from cw_at hw 44 rfl) ?_
  refine z_getl dX1_isOf_18 fsX1_918_4 ?_
  exact z_callS (as := [vi (s0 + (2 : Int32)), vl (gl M 76 0), vl (gl M 76 1)]) (st := []) dX1_isOf_21 ssX1_827 (Nat.le_refl _) (Nat.le_of_ble_eq_true rfl) (Nat.le_of_ble_eq_true rfl) rfl k
theorem sX1_isOf_24 {E : zE} {d : Nat} {Q : zO → zM → Prop} (M : zM) (l1 : Int32) (s0 : Int32) (hw : cw M) (k : if s0 = 0 then (Z E YX1_scopePair d M (zargs 0 [vr (some (16, 0, 0)), vi l1]) 0 [] (zafter E YX1_isOf (d + 1) [(0, vr (some (16, 0, 0)))] 29 3 [] Q)) else (Q (.inl (some (vi (1 : Int32)))) M)) : Z E YX1_isOf (d + 1) M [(0, vr (some (16, 0, 0))), (1, vi l1)] 24 [vi s0] Q := by
  refine z_if_ne (tgt := 54) dX1_isOf_24 rfl (fun h_ => ?_) (fun h_ => ?_)
  · have k := zif h_ k
    refine z_iconst (v := 1) dX1_isOf_54 rfl ?_
    refine z_goto (tgt := 59) dX1_isOf_55 rfl ?_
    exact z_iret dX1_isOf_59 rfl (by decide) k
  · have k := zit h_ k
    refine z_aload_n dX1_isOf_27 rfl rfl ?_
    refine z_iload_n dX1_isOf_28 rfl rfl ?_
    refine Z.pick [0] rfl ?_
    exact z_callV (as := [vi l1]) (st := []) dX1_isOf_29 vsX1_538_0 (Nat.le_refl _) (Nat.le_of_ble_eq_true rfl) (Nat.le_of_ble_eq_true rfl) rfl k
theorem sX1_isOf_32 {E : zE} {d : Nat} {Q : zO → zM → Prop} (M : zM) (s0 : Int32) (hw : cw M) (k : Z E YX1_in d M (zargs 0 [vi (s0 + (3 : Int32)), vl (gl M 76 0), vl (gl M 76 1)]) 0 [] (zafter E YX1_isOf (d + 1) [] 48 3 [] Q)) : Z E YX1_isOf (d + 1) M [(0, vr (some (16, 0, 0)))] 32 [vi s0] Q := by
  refine z_iconst (v := 3) dX1_isOf_32 rfl ?_
  refine z_iadd dX1_isOf_33 ?_
  refine z_aload_n dX1_isOf_34 rfl rfl ?_
  refine z_getr dX1_isOf_35 fsX1_222_0 (show gr M 16 83 = some (76, 4, 0) from cw_at hw 44 rfl) ?_
  refine z_getl dX1_isOf_38 fsX1_916_4 ?_
  refine z_aload_n dX1_isOf_41 rfl rfl ?_
  refine z_getr dX1_isOf_42 fsX1_222_0 (show gr M 16 83 = some (76, 4, 0) from cw_at hw 44 rfl) ?_
  refine z_getl dX1_isOf_45 fsX1_918_4 ?_
  refine Z.pick [] rfl ?_
  exact z_callS (as := [vi (s0 + (3 : Int32)), vl (gl M 76 0), vl (gl M 76 1)]) (st := []) dX1_isOf_48 ssX1_827 (Nat.le_refl _) (Nat.le_of_ble_eq_true rfl) (Nat.le_of_ble_eq_true rfl) rfl k
theorem sX1_isOf_51 {E : zE} {d : Nat} {Q : zO → zM → Prop} (M : zM) (s0 : Int32) (hw : cw M) (k : if s0 = 0 then (Q (.inl (some (vi (0 : Int32)))) M) else (Q (.inl (some (vi (1 : Int32)))) M)) : Z E YX1_isOf (d + 1) M [] 51 [vi s0] Q := by
  refine z_if_eq (tgt := 58) dX1_isOf_51 rfl (fun h_ => ?_) (fun h_ => ?_)
  · have k := zit h_ k
    refine z_iconst (v := 0) dX1_isOf_58 rfl ?_
    exact z_iret dX1_isOf_59 rfl (by decide) k
  · have k := zif h_ k
    refine z_iconst (v := 1) dX1_isOf_54 rfl ?_
    refine z_goto (tgt := 59) dX1_isOf_55 rfl ?_
    exact z_iret dX1_isOf_59 rfl (by decide) k
/-! ScriptTypes.enters(IIII)V -/
theorem bX1_enters_0 : zdec cX1_enters 0 [(0, .aload_n 0, 1), (1, .getfield 82, 3), (4, .iload_n 1, 1), (5, .invokevirtual 294, 3), (8, .checkcast 298, 3), (11, .astore 5, 2), (13, .aload_n 0, 1), (14, .iload_n 1, 1), (15, .invokevirtual 538, 3), (18, .istore 6, 2), (20, .aload_n 0, 1), (21, .aload_n 0, 1), (22, .getfield 684, 3), (25, .iconst 2, 1), (26, .invokevirtual 960, 3), (29, .aload_n 0, 1)] = true := by decide +kernel
theorem dX1_enters_0 : decode cX1_enters 0 = .ok (.aload_n 0, 1) := zdec_at bX1_enters_0 0 rfl
theorem dX1_enters_1 : decode cX1_enters 1 = .ok (.getfield 82, 3) := zdec_at bX1_enters_0 1 rfl
theorem dX1_enters_4 : decode cX1_enters 4 = .ok (.iload_n 1, 1) := zdec_at bX1_enters_0 2 rfl
theorem dX1_enters_5 : decode cX1_enters 5 = .ok (.invokevirtual 294, 3) := zdec_at bX1_enters_0 3 rfl
theorem dX1_enters_8 : decode cX1_enters 8 = .ok (.checkcast 298, 3) := zdec_at bX1_enters_0 4 rfl
theorem dX1_enters_11 : decode cX1_enters 11 = .ok (.astore 5, 2) := zdec_at bX1_enters_0 5 rfl
theorem dX1_enters_13 : decode cX1_enters 13 = .ok (.aload_n 0, 1) := zdec_at bX1_enters_0 6 rfl
theorem dX1_enters_14 : decode cX1_enters 14 = .ok (.iload_n 1, 1) := zdec_at bX1_enters_0 7 rfl
theorem dX1_enters_15 : decode cX1_enters 15 = .ok (.invokevirtual 538, 3) := zdec_at bX1_enters_0 8 rfl
theorem dX1_enters_18 : decode cX1_enters 18 = .ok (.istore 6, 2) := zdec_at bX1_enters_0 9 rfl
theorem dX1_enters_20 : decode cX1_enters 20 = .ok (.aload_n 0, 1) := zdec_at bX1_enters_0 10 rfl
theorem dX1_enters_21 : decode cX1_enters 21 = .ok (.aload_n 0, 1) := zdec_at bX1_enters_0 11 rfl
theorem dX1_enters_22 : decode cX1_enters 22 = .ok (.getfield 684, 3) := zdec_at bX1_enters_0 12 rfl
theorem dX1_enters_25 : decode cX1_enters 25 = .ok (.iconst 2, 1) := zdec_at bX1_enters_0 13 rfl
theorem dX1_enters_26 : decode cX1_enters 26 = .ok (.invokevirtual 960, 3) := zdec_at bX1_enters_0 14 rfl
theorem dX1_enters_29 : decode cX1_enters 29 = .ok (.aload_n 0, 1) := zdec_at bX1_enters_0 15 rfl
theorem bX1_enters_30 : zdec cX1_enters 30 [(30, .getfield 197, 3), (33, .aload_n 0, 1), (34, .getfield 713, 3), (37, .dup2, 1), (38, .saload, 1), (39, .iconst 1, 1), (40, .iload_n 1, 1), (41, .ishl, 1), (42, .ior, 1), (43, .i2s, 1), (44, .sastore, 1), (45, .aload_n 0, 1), (46, .getfield 688, 3), (49, .aload_n 0, 1), (50, .getfield 684, 3), (53, .invokevirtual 1059, 3)] = true := by decide +kernel
theorem dX1_enters_30 : decode cX1_enters 30 = .ok (.getfield 197, 3) := zdec_at bX1_enters_30 0 rfl
theorem dX1_enters_33 : decode cX1_enters 33 = .ok (.aload_n 0, 1) := zdec_at bX1_enters_30 1 rfl
theorem dX1_enters_34 : decode cX1_enters 34 = .ok (.getfield 713, 3) := zdec_at bX1_enters_30 2 rfl
theorem dX1_enters_37 : decode cX1_enters 37 = .ok (.dup2, 1) := zdec_at bX1_enters_30 3 rfl
theorem dX1_enters_38 : decode cX1_enters 38 = .ok (.saload, 1) := zdec_at bX1_enters_30 4 rfl
theorem dX1_enters_39 : decode cX1_enters 39 = .ok (.iconst 1, 1) := zdec_at bX1_enters_30 5 rfl
theorem dX1_enters_40 : decode cX1_enters 40 = .ok (.iload_n 1, 1) := zdec_at bX1_enters_30 6 rfl
theorem dX1_enters_41 : decode cX1_enters 41 = .ok (.ishl, 1) := zdec_at bX1_enters_30 7 rfl
theorem dX1_enters_42 : decode cX1_enters 42 = .ok (.ior, 1) := zdec_at bX1_enters_30 8 rfl
theorem dX1_enters_43 : decode cX1_enters 43 = .ok (.i2s, 1) := zdec_at bX1_enters_30 9 rfl
theorem dX1_enters_44 : decode cX1_enters 44 = .ok (.sastore, 1) := zdec_at bX1_enters_30 10 rfl
theorem dX1_enters_45 : decode cX1_enters 45 = .ok (.aload_n 0, 1) := zdec_at bX1_enters_30 11 rfl
theorem dX1_enters_46 : decode cX1_enters 46 = .ok (.getfield 688, 3) := zdec_at bX1_enters_30 12 rfl
theorem dX1_enters_49 : decode cX1_enters 49 = .ok (.aload_n 0, 1) := zdec_at bX1_enters_30 13 rfl
theorem dX1_enters_50 : decode cX1_enters 50 = .ok (.getfield 684, 3) := zdec_at bX1_enters_30 14 rfl
theorem dX1_enters_53 : decode cX1_enters 53 = .ok (.invokevirtual 1059, 3) := zdec_at bX1_enters_30 15 rfl
theorem bX1_enters_56 : zdec cX1_enters 56 [(56, .aload_n 0, 1), (57, .getfield 684, 3), (60, .aload_n 0, 1), (61, .getfield 225, 3), (64, .invokevirtual 767, 3), (67, .aload_n 0, 1), (68, .getfield 684, 3), (71, .aload_n 0, 1), (72, .getfield 222, 3), (75, .invokevirtual 767, 3), (78, .iconst 0, 1), (79, .istore 7, 2), (81, .iload 7, 2), (83, .iload_n 3, 1), (84, .if_icmp .ge 25, 3), (87, .aload_n 0, 1)] = true := by decide +kernel
theorem dX1_enters_56 : decode cX1_enters 56 = .ok (.aload_n 0, 1) := zdec_at bX1_enters_56 0 rfl
theorem dX1_enters_57 : decode cX1_enters 57 = .ok (.getfield 684, 3) := zdec_at bX1_enters_56 1 rfl
theorem dX1_enters_60 : decode cX1_enters 60 = .ok (.aload_n 0, 1) := zdec_at bX1_enters_56 2 rfl
theorem dX1_enters_61 : decode cX1_enters 61 = .ok (.getfield 225, 3) := zdec_at bX1_enters_56 3 rfl
theorem dX1_enters_64 : decode cX1_enters 64 = .ok (.invokevirtual 767, 3) := zdec_at bX1_enters_56 4 rfl
theorem dX1_enters_67 : decode cX1_enters 67 = .ok (.aload_n 0, 1) := zdec_at bX1_enters_56 5 rfl
theorem dX1_enters_68 : decode cX1_enters 68 = .ok (.getfield 684, 3) := zdec_at bX1_enters_56 6 rfl
theorem dX1_enters_71 : decode cX1_enters 71 = .ok (.aload_n 0, 1) := zdec_at bX1_enters_56 7 rfl
theorem dX1_enters_72 : decode cX1_enters 72 = .ok (.getfield 222, 3) := zdec_at bX1_enters_56 8 rfl
theorem dX1_enters_75 : decode cX1_enters 75 = .ok (.invokevirtual 767, 3) := zdec_at bX1_enters_56 9 rfl
theorem dX1_enters_78 : decode cX1_enters 78 = .ok (.iconst 0, 1) := zdec_at bX1_enters_56 10 rfl
theorem dX1_enters_79 : decode cX1_enters 79 = .ok (.istore 7, 2) := zdec_at bX1_enters_56 11 rfl
theorem dX1_enters_81 : decode cX1_enters 81 = .ok (.iload 7, 2) := zdec_at bX1_enters_56 12 rfl
theorem dX1_enters_83 : decode cX1_enters 83 = .ok (.iload_n 3, 1) := zdec_at bX1_enters_56 13 rfl
theorem dX1_enters_84 : decode cX1_enters 84 = .ok (.if_icmp .ge 25, 3) := zdec_at bX1_enters_56 14 rfl
theorem dX1_enters_87 : decode cX1_enters 87 = .ok (.aload_n 0, 1) := zdec_at bX1_enters_56 15 rfl
theorem bX1_enters_88 : zdec cX1_enters 88 [(88, .getfield 684, 3), (91, .aload_n 0, 1), (92, .getfield 228, 3), (95, .iload_n 2, 1), (96, .iload 7, 2), (98, .iadd, 1), (99, .aaload, 1), (100, .invokevirtual 767, 3), (103, .iinc 7 1, 3), (106, .goto (-25), 3), (109, .aload_n 0, 1), (110, .getfield 684, 3), (113, .iload 6, 2), (115, .iconst (-1), 1), (116, .invokevirtual 922, 3), (119, .aload_n 0, 1)] = true := by decide +kernel
theorem dX1_enters_88 : decode cX1_enters 88 = .ok (.getfield 684, 3) := zdec_at bX1_enters_88 0 rfl
theorem dX1_enters_91 : decode cX1_enters 91 = .ok (.aload_n 0, 1) := zdec_at bX1_enters_88 1 rfl
theorem dX1_enters_92 : decode cX1_enters 92 = .ok (.getfield 228, 3) := zdec_at bX1_enters_88 2 rfl
theorem dX1_enters_95 : decode cX1_enters 95 = .ok (.iload_n 2, 1) := zdec_at bX1_enters_88 3 rfl
theorem dX1_enters_96 : decode cX1_enters 96 = .ok (.iload 7, 2) := zdec_at bX1_enters_88 4 rfl
theorem dX1_enters_98 : decode cX1_enters 98 = .ok (.iadd, 1) := zdec_at bX1_enters_88 5 rfl
theorem dX1_enters_99 : decode cX1_enters 99 = .ok (.aaload, 1) := zdec_at bX1_enters_88 6 rfl
theorem dX1_enters_100 : decode cX1_enters 100 = .ok (.invokevirtual 767, 3) := zdec_at bX1_enters_88 7 rfl
theorem dX1_enters_103 : decode cX1_enters 103 = .ok (.iinc 7 1, 3) := zdec_at bX1_enters_88 8 rfl
theorem dX1_enters_106 : decode cX1_enters 106 = .ok (.goto (-25), 3) := zdec_at bX1_enters_88 9 rfl
theorem dX1_enters_109 : decode cX1_enters 109 = .ok (.aload_n 0, 1) := zdec_at bX1_enters_88 10 rfl
theorem dX1_enters_110 : decode cX1_enters 110 = .ok (.getfield 684, 3) := zdec_at bX1_enters_88 11 rfl
theorem dX1_enters_113 : decode cX1_enters 113 = .ok (.iload 6, 2) := zdec_at bX1_enters_88 12 rfl
theorem dX1_enters_115 : decode cX1_enters 115 = .ok (.iconst (-1), 1) := zdec_at bX1_enters_88 13 rfl
theorem dX1_enters_116 : decode cX1_enters 116 = .ok (.invokevirtual 922, 3) := zdec_at bX1_enters_88 14 rfl
theorem dX1_enters_119 : decode cX1_enters 119 = .ok (.aload_n 0, 1) := zdec_at bX1_enters_88 15 rfl
theorem bX1_enters_120 : zdec cX1_enters 120 [(120, .getfield 684, 3), (123, .getfield 877, 3), (126, .iload 6, 2), (128, .iconst 1, 1), (129, .bastore, 1), (130, .aload_n 0, 1), (131, .getfield 684, 3), (134, .getfield 726, 3), (137, .iload_n 3, 1), (138, .isub, 1), (139, .istore 7, 2), (141, .iconst 0, 1), (142, .istore 8, 2), (144, .iload 8, 2), (146, .aload 5, 2), (148, .getfield 316, 3)] = true := by decide +kernel
theorem dX1_enters_120 : decode cX1_enters 120 = .ok (.getfield 684, 3) := zdec_at bX1_enters_120 0 rfl
theorem dX1_enters_123 : decode cX1_enters 123 = .ok (.getfield 877, 3) := zdec_at bX1_enters_120 1 rfl
theorem dX1_enters_126 : decode cX1_enters 126 = .ok (.iload 6, 2) := zdec_at bX1_enters_120 2 rfl
theorem dX1_enters_128 : decode cX1_enters 128 = .ok (.iconst 1, 1) := zdec_at bX1_enters_120 3 rfl
theorem dX1_enters_129 : decode cX1_enters 129 = .ok (.bastore, 1) := zdec_at bX1_enters_120 4 rfl
theorem dX1_enters_130 : decode cX1_enters 130 = .ok (.aload_n 0, 1) := zdec_at bX1_enters_120 5 rfl
theorem dX1_enters_131 : decode cX1_enters 131 = .ok (.getfield 684, 3) := zdec_at bX1_enters_120 6 rfl
theorem dX1_enters_134 : decode cX1_enters 134 = .ok (.getfield 726, 3) := zdec_at bX1_enters_120 7 rfl
theorem dX1_enters_137 : decode cX1_enters 137 = .ok (.iload_n 3, 1) := zdec_at bX1_enters_120 8 rfl
theorem dX1_enters_138 : decode cX1_enters 138 = .ok (.isub, 1) := zdec_at bX1_enters_120 9 rfl
theorem dX1_enters_139 : decode cX1_enters 139 = .ok (.istore 7, 2) := zdec_at bX1_enters_120 10 rfl
theorem dX1_enters_141 : decode cX1_enters 141 = .ok (.iconst 0, 1) := zdec_at bX1_enters_120 11 rfl
theorem dX1_enters_142 : decode cX1_enters 142 = .ok (.istore 8, 2) := zdec_at bX1_enters_120 12 rfl
theorem dX1_enters_144 : decode cX1_enters 144 = .ok (.iload 8, 2) := zdec_at bX1_enters_120 13 rfl
theorem dX1_enters_146 : decode cX1_enters 146 = .ok (.aload 5, 2) := zdec_at bX1_enters_120 14 rfl
theorem dX1_enters_148 : decode cX1_enters 148 = .ok (.getfield 316, 3) := zdec_at bX1_enters_120 15 rfl
theorem bX1_enters_151 : zdec cX1_enters 151 [(151, .if_icmp .ge 156, 3), (154, .iload 8, 2), (156, .aload 5, 2), (158, .getfield 574, 3), (161, .if_icmp .ge 20, 3), (164, .aload_n 0, 1), (165, .getfield 684, 3), (168, .iload 7, 2), (170, .iload 8, 2), (172, .iadd, 1), (173, .aload_n 0, 1), (174, .getfield 206, 3), (177, .invokevirtual 903, 3), (180, .pop, 1), (181, .iload 8, 2), (183, .aload 5, 2)] = true := by decide +kernel
theorem dX1_enters_151 : decode cX1_enters 151 = .ok (.if_icmp .ge 156, 3) := zdec_at bX1_enters_151 0 rfl
theorem dX1_enters_154 : decode cX1_enters 154 = .ok (.iload 8, 2) := zdec_at bX1_enters_151 1 rfl
theorem dX1_enters_156 : decode cX1_enters 156 = .ok (.aload 5, 2) := zdec_at bX1_enters_151 2 rfl
theorem dX1_enters_158 : decode cX1_enters 158 = .ok (.getfield 574, 3) := zdec_at bX1_enters_151 3 rfl
theorem dX1_enters_161 : decode cX1_enters 161 = .ok (.if_icmp .ge 20, 3) := zdec_at bX1_enters_151 4 rfl
theorem dX1_enters_164 : decode cX1_enters 164 = .ok (.aload_n 0, 1) := zdec_at bX1_enters_151 5 rfl
theorem dX1_enters_165 : decode cX1_enters 165 = .ok (.getfield 684, 3) := zdec_at bX1_enters_151 6 rfl
theorem dX1_enters_168 : decode cX1_enters 168 = .ok (.iload 7, 2) := zdec_at bX1_enters_151 7 rfl
theorem dX1_enters_170 : decode cX1_enters 170 = .ok (.iload 8, 2) := zdec_at bX1_enters_151 8 rfl
theorem dX1_enters_172 : decode cX1_enters 172 = .ok (.iadd, 1) := zdec_at bX1_enters_151 9 rfl
theorem dX1_enters_173 : decode cX1_enters 173 = .ok (.aload_n 0, 1) := zdec_at bX1_enters_151 10 rfl
theorem dX1_enters_174 : decode cX1_enters 174 = .ok (.getfield 206, 3) := zdec_at bX1_enters_151 11 rfl
theorem dX1_enters_177 : decode cX1_enters 177 = .ok (.invokevirtual 903, 3) := zdec_at bX1_enters_151 12 rfl
theorem dX1_enters_180 : decode cX1_enters 180 = .ok (.pop, 1) := zdec_at bX1_enters_151 13 rfl
theorem dX1_enters_181 : decode cX1_enters 181 = .ok (.iload 8, 2) := zdec_at bX1_enters_151 14 rfl
theorem dX1_enters_183 : decode cX1_enters 183 = .ok (.aload 5, 2) := zdec_at bX1_enters_151 15 rfl
theorem bX1_enters_185 : zdec cX1_enters 185 [(185, .getfield 574, 3), (188, .if_icmp .ge 9, 3), (191, .iload 8, 2), (193, .iload_n 3, 1), (194, .if_icmp .lt 12, 3), (197, .aload_n 0, 1), (198, .getfield 206, 3), (201, .lconst 1, 1), (202, .invokevirtual 892, 3), (205, .pop, 1), (206, .iload 8, 2), (208, .aload 5, 2), (210, .getfield 574, 3), (213, .if_icmp .lt 46, 3), (216, .aload 5, 2), (218, .getfield 577, 3)] = true := by decide +kernel
theorem dX1_enters_185 : decode cX1_enters 185 = .ok (.getfield 574, 3) := zdec_at bX1_enters_185 0 rfl
theorem dX1_enters_188 : decode cX1_enters 188 = .ok (.if_icmp .ge 9, 3) := zdec_at bX1_enters_185 1 rfl
theorem dX1_enters_191 : decode cX1_enters 191 = .ok (.iload 8, 2) := zdec_at bX1_enters_185 2 rfl
theorem dX1_enters_193 : decode cX1_enters 193 = .ok (.iload_n 3, 1) := zdec_at bX1_enters_185 3 rfl
theorem dX1_enters_194 : decode cX1_enters 194 = .ok (.if_icmp .lt 12, 3) := zdec_at bX1_enters_185 4 rfl
theorem dX1_enters_197 : decode cX1_enters 197 = .ok (.aload_n 0, 1) := zdec_at bX1_enters_185 5 rfl
theorem dX1_enters_198 : decode cX1_enters 198 = .ok (.getfield 206, 3) := zdec_at bX1_enters_185 6 rfl
theorem dX1_enters_201 : decode cX1_enters 201 = .ok (.lconst 1, 1) := zdec_at bX1_enters_185 7 rfl
theorem dX1_enters_202 : decode cX1_enters 202 = .ok (.invokevirtual 892, 3) := zdec_at bX1_enters_185 8 rfl
theorem dX1_enters_205 : decode cX1_enters 205 = .ok (.pop, 1) := zdec_at bX1_enters_185 9 rfl
theorem dX1_enters_206 : decode cX1_enters 206 = .ok (.iload 8, 2) := zdec_at bX1_enters_185 10 rfl
theorem dX1_enters_208 : decode cX1_enters 208 = .ok (.aload 5, 2) := zdec_at bX1_enters_185 11 rfl
theorem dX1_enters_210 : decode cX1_enters 210 = .ok (.getfield 574, 3) := zdec_at bX1_enters_185 12 rfl
theorem dX1_enters_213 : decode cX1_enters 213 = .ok (.if_icmp .lt 46, 3) := zdec_at bX1_enters_185 13 rfl
theorem dX1_enters_216 : decode cX1_enters 216 = .ok (.aload 5, 2) := zdec_at bX1_enters_185 14 rfl
theorem dX1_enters_218 : decode cX1_enters 218 = .ok (.getfield 577, 3) := zdec_at bX1_enters_185 15 rfl
theorem bX1_enters_221 : zdec cX1_enters 221 [(221, .iload 8, 2), (223, .iaload, 1), (224, .aload 5, 2), (226, .getfield 580, 3), (229, .if_icmp .ne 30, 3), (232, .aload_n 0, 1), (233, .getfield 684, 3), (236, .iload 7, 2), (238, .iconst 1, 1), (239, .isub, 1), (240, .aload_n 0, 1), (241, .getfield 206, 3), (244, .invokevirtual 903, 3), (247, .pop, 1), (248, .aload_n 0, 1), (249, .getfield 206, 3)] = true := by decide +kernel
theorem dX1_enters_221 : decode cX1_enters 221 = .ok (.iload 8, 2) := zdec_at bX1_enters_221 0 rfl
theorem dX1_enters_223 : decode cX1_enters 223 = .ok (.iaload, 1) := zdec_at bX1_enters_221 1 rfl
theorem dX1_enters_224 : decode cX1_enters 224 = .ok (.aload 5, 2) := zdec_at bX1_enters_221 2 rfl
theorem dX1_enters_226 : decode cX1_enters 226 = .ok (.getfield 580, 3) := zdec_at bX1_enters_221 3 rfl
theorem dX1_enters_229 : decode cX1_enters 229 = .ok (.if_icmp .ne 30, 3) := zdec_at bX1_enters_221 4 rfl
theorem dX1_enters_232 : decode cX1_enters 232 = .ok (.aload_n 0, 1) := zdec_at bX1_enters_221 5 rfl
theorem dX1_enters_233 : decode cX1_enters 233 = .ok (.getfield 684, 3) := zdec_at bX1_enters_221 6 rfl
theorem dX1_enters_236 : decode cX1_enters 236 = .ok (.iload 7, 2) := zdec_at bX1_enters_221 7 rfl
theorem dX1_enters_238 : decode cX1_enters 238 = .ok (.iconst 1, 1) := zdec_at bX1_enters_221 8 rfl
theorem dX1_enters_239 : decode cX1_enters 239 = .ok (.isub, 1) := zdec_at bX1_enters_221 9 rfl
theorem dX1_enters_240 : decode cX1_enters 240 = .ok (.aload_n 0, 1) := zdec_at bX1_enters_221 10 rfl
theorem dX1_enters_241 : decode cX1_enters 241 = .ok (.getfield 206, 3) := zdec_at bX1_enters_221 11 rfl
theorem dX1_enters_244 : decode cX1_enters 244 = .ok (.invokevirtual 903, 3) := zdec_at bX1_enters_221 12 rfl
theorem dX1_enters_247 : decode cX1_enters 247 = .ok (.pop, 1) := zdec_at bX1_enters_221 13 rfl
theorem dX1_enters_248 : decode cX1_enters 248 = .ok (.aload_n 0, 1) := zdec_at bX1_enters_221 14 rfl
theorem dX1_enters_249 : decode cX1_enters 249 = .ok (.getfield 206, 3) := zdec_at bX1_enters_221 15 rfl
theorem bX1_enters_252 : zdec cX1_enters 252 [(252, .iload 6, 2), (254, .iconst 2, 1), (255, .iadd, 1), (256, .invokestatic 1062, 3), (259, .aload_n 0, 1), (260, .getfield 684, 3), (263, .iload 6, 2), (265, .aload 5, 2), (267, .getfield 577, 3), (270, .iload 8, 2), (272, .iaload, 1), (273, .aload_n 0, 1), (274, .getfield 206, 3), (277, .getfield 916, 3), (280, .aload_n 0, 1), (281, .getfield 206, 3)] = true := by decide +kernel
theorem dX1_enters_252 : decode cX1_enters 252 = .ok (.iload 6, 2) := zdec_at bX1_enters_252 0 rfl
theorem dX1_enters_254 : decode cX1_enters 254 = .ok (.iconst 2, 1) := zdec_at bX1_enters_252 1 rfl
theorem dX1_enters_255 : decode cX1_enters 255 = .ok (.iadd, 1) := zdec_at bX1_enters_252 2 rfl
theorem dX1_enters_256 : decode cX1_enters 256 = .ok (.invokestatic 1062, 3) := zdec_at bX1_enters_252 3 rfl
theorem dX1_enters_259 : decode cX1_enters 259 = .ok (.aload_n 0, 1) := zdec_at bX1_enters_252 4 rfl
theorem dX1_enters_260 : decode cX1_enters 260 = .ok (.getfield 684, 3) := zdec_at bX1_enters_252 5 rfl
theorem dX1_enters_263 : decode cX1_enters 263 = .ok (.iload 6, 2) := zdec_at bX1_enters_252 6 rfl
theorem dX1_enters_265 : decode cX1_enters 265 = .ok (.aload 5, 2) := zdec_at bX1_enters_252 7 rfl
theorem dX1_enters_267 : decode cX1_enters 267 = .ok (.getfield 577, 3) := zdec_at bX1_enters_252 8 rfl
theorem dX1_enters_270 : decode cX1_enters 270 = .ok (.iload 8, 2) := zdec_at bX1_enters_252 9 rfl
theorem dX1_enters_272 : decode cX1_enters 272 = .ok (.iaload, 1) := zdec_at bX1_enters_252 10 rfl
theorem dX1_enters_273 : decode cX1_enters 273 = .ok (.aload_n 0, 1) := zdec_at bX1_enters_252 11 rfl
theorem dX1_enters_274 : decode cX1_enters 274 = .ok (.getfield 206, 3) := zdec_at bX1_enters_252 12 rfl
theorem dX1_enters_277 : decode cX1_enters 277 = .ok (.getfield 916, 3) := zdec_at bX1_enters_252 13 rfl
theorem dX1_enters_280 : decode cX1_enters 280 = .ok (.aload_n 0, 1) := zdec_at bX1_enters_252 14 rfl
theorem dX1_enters_281 : decode cX1_enters 281 = .ok (.getfield 206, 3) := zdec_at bX1_enters_252 15 rfl
theorem bX1_enters_284 : zdec cX1_enters 284 [(284, .getfield 918, 3), (287, .aload_n 0, 1), (288, .getfield 206, 3), (291, .getfield 920, 3), (294, .ldc2_w 869, 3), (297, .land, 1), (298, .invokevirtual 722, 3), (301, .iinc 8 1, 3), (304, .goto (-160), 3), (307, .aload_n 0, 1), (308, .getfield 684, 3), (311, .iload 7, 2), (313, .iconst 1, 1), (314, .isub, 1), (315, .aload_n 0, 1), (316, .getfield 206, 3)] = true := by decide +kernel
theorem dX1_enters_284 : decode cX1_enters 284 = .ok (.getfield 918, 3) := zdec_at bX1_enters_284 0 rfl
theorem dX1_enters_287 : decode cX1_enters 287 = .ok (.aload_n 0, 1) := zdec_at bX1_enters_284 1 rfl
theorem dX1_enters_288 : decode cX1_enters 288 = .ok (.getfield 206, 3) := zdec_at bX1_enters_284 2 rfl
theorem dX1_enters_291 : decode cX1_enters 291 = .ok (.getfield 920, 3) := zdec_at bX1_enters_284 3 rfl
theorem dX1_enters_294 : decode cX1_enters 294 = .ok (.ldc2_w 869, 3) := zdec_at bX1_enters_284 4 rfl
theorem dX1_enters_297 : decode cX1_enters 297 = .ok (.land, 1) := zdec_at bX1_enters_284 5 rfl
theorem dX1_enters_298 : decode cX1_enters 298 = .ok (.invokevirtual 722, 3) := zdec_at bX1_enters_284 6 rfl
theorem dX1_enters_301 : decode cX1_enters 301 = .ok (.iinc 8 1, 3) := zdec_at bX1_enters_284 7 rfl
theorem dX1_enters_304 : decode cX1_enters 304 = .ok (.goto (-160), 3) := zdec_at bX1_enters_284 8 rfl
theorem dX1_enters_307 : decode cX1_enters 307 = .ok (.aload_n 0, 1) := zdec_at bX1_enters_284 9 rfl
theorem dX1_enters_308 : decode cX1_enters 308 = .ok (.getfield 684, 3) := zdec_at bX1_enters_284 10 rfl
theorem dX1_enters_311 : decode cX1_enters 311 = .ok (.iload 7, 2) := zdec_at bX1_enters_284 11 rfl
theorem dX1_enters_313 : decode cX1_enters 313 = .ok (.iconst 1, 1) := zdec_at bX1_enters_284 12 rfl
theorem dX1_enters_314 : decode cX1_enters 314 = .ok (.isub, 1) := zdec_at bX1_enters_284 13 rfl
theorem dX1_enters_315 : decode cX1_enters 315 = .ok (.aload_n 0, 1) := zdec_at bX1_enters_284 14 rfl
theorem dX1_enters_316 : decode cX1_enters 316 = .ok (.getfield 206, 3) := zdec_at bX1_enters_284 15 rfl
theorem bX1_enters_319 : zdec cX1_enters 319 [(319, .invokevirtual 903, 3), (322, .pop, 1), (323, .aload_n 0, 1), (324, .getfield 206, 3), (327, .iload 6, 2), (329, .iconst 2, 1), (330, .iadd, 1), (331, .invokestatic 1062, 3), (334, .lconst 0, 1), (335, .lstore 8, 2), (337, .lconst 0, 1), (338, .lstore 10, 2), (340, .iload 6, 2), (342, .iconst 2, 1), (343, .iadd, 1), (344, .istore 12, 2)] = true := by decide +kernel
theorem dX1_enters_319 : decode cX1_enters 319 = .ok (.invokevirtual 903, 3) := zdec_at bX1_enters_319 0 rfl
theorem dX1_enters_322 : decode cX1_enters 322 = .ok (.pop, 1) := zdec_at bX1_enters_319 1 rfl
theorem dX1_enters_323 : decode cX1_enters 323 = .ok (.aload_n 0, 1) := zdec_at bX1_enters_319 2 rfl
theorem dX1_enters_324 : decode cX1_enters 324 = .ok (.getfield 206, 3) := zdec_at bX1_enters_319 3 rfl
theorem dX1_enters_327 : decode cX1_enters 327 = .ok (.iload 6, 2) := zdec_at bX1_enters_319 4 rfl
theorem dX1_enters_329 : decode cX1_enters 329 = .ok (.iconst 2, 1) := zdec_at bX1_enters_319 5 rfl
theorem dX1_enters_330 : decode cX1_enters 330 = .ok (.iadd, 1) := zdec_at bX1_enters_319 6 rfl
theorem dX1_enters_331 : decode cX1_enters 331 = .ok (.invokestatic 1062, 3) := zdec_at bX1_enters_319 7 rfl
theorem dX1_enters_334 : decode cX1_enters 334 = .ok (.lconst 0, 1) := zdec_at bX1_enters_319 8 rfl
theorem dX1_enters_335 : decode cX1_enters 335 = .ok (.lstore 8, 2) := zdec_at bX1_enters_319 9 rfl
theorem dX1_enters_337 : decode cX1_enters 337 = .ok (.lconst 0, 1) := zdec_at bX1_enters_319 10 rfl
theorem dX1_enters_338 : decode cX1_enters 338 = .ok (.lstore 10, 2) := zdec_at bX1_enters_319 11 rfl
theorem dX1_enters_340 : decode cX1_enters 340 = .ok (.iload 6, 2) := zdec_at bX1_enters_319 12 rfl
theorem dX1_enters_342 : decode cX1_enters 342 = .ok (.iconst 2, 1) := zdec_at bX1_enters_319 13 rfl
theorem dX1_enters_343 : decode cX1_enters 343 = .ok (.iadd, 1) := zdec_at bX1_enters_319 14 rfl
theorem dX1_enters_344 : decode cX1_enters 344 = .ok (.istore 12, 2) := zdec_at bX1_enters_319 15 rfl
theorem bX1_enters_346 : zdec cX1_enters 346 [(346, .iload 12, 2), (348, .iload 6, 2), (350, .iconst 4, 1), (351, .iadd, 1), (352, .if_icmp .ge 64, 3), (355, .iload 12, 2), (357, .aload_n 0, 1), (358, .getfield 206, 3), (361, .getfield 916, 3), (364, .aload_n 0, 1), (365, .getfield 206, 3), (368, .getfield 918, 3), (371, .invokestatic 827, 3), (374, .ifCond .ne 6, 3), (377, .goto 33, 3), (380, .lload 8, 2)] = true := by decide +kernel
theorem dX1_enters_346 : decode cX1_enters 346 = .ok (.iload 12, 2) := zdec_at bX1_enters_346 0 rfl
theorem dX1_enters_348 : decode cX1_enters 348 = .ok (.iload 6, 2) := zdec_at bX1_enters_346 1 rfl
theorem dX1_enters_350 : decode cX1_enters 350 = .ok (.iconst 4, 1) := zdec_at bX1_enters_346 2 rfl
theorem dX1_enters_351 : decode cX1_enters 351 = .ok (.iadd, 1) := zdec_at bX1_enters_346 3 rfl
theorem dX1_enters_352 : decode cX1_enters 352 = .ok (.if_icmp .ge 64, 3) := zdec_at bX1_enters_346 4 rfl
theorem dX1_enters_355 : decode cX1_enters 355 = .ok (.iload 12, 2) := zdec_at bX1_enters_346 5 rfl
theorem dX1_enters_357 : decode cX1_enters 357 = .ok (.aload_n 0, 1) := zdec_at bX1_enters_346 6 rfl
theorem dX1_enters_358 : decode cX1_enters 358 = .ok (.getfield 206, 3) := zdec_at bX1_enters_346 7 rfl
theorem dX1_enters_361 : decode cX1_enters 361 = .ok (.getfield 916, 3) := zdec_at bX1_enters_346 8 rfl
theorem dX1_enters_364 : decode cX1_enters 364 = .ok (.aload_n 0, 1) := zdec_at bX1_enters_346 9 rfl
theorem dX1_enters_365 : decode cX1_enters 365 = .ok (.getfield 206, 3) := zdec_at bX1_enters_346 10 rfl
theorem dX1_enters_368 : decode cX1_enters 368 = .ok (.getfield 918, 3) := zdec_at bX1_enters_346 11 rfl
theorem dX1_enters_371 : decode cX1_enters 371 = .ok (.invokestatic 827, 3) := zdec_at bX1_enters_346 12 rfl
theorem dX1_enters_374 : decode cX1_enters 374 = .ok (.ifCond .ne 6, 3) := zdec_at bX1_enters_346 13 rfl
theorem dX1_enters_377 : decode cX1_enters 377 = .ok (.goto 33, 3) := zdec_at bX1_enters_346 14 rfl
theorem dX1_enters_380 : decode cX1_enters 380 = .ok (.lload 8, 2) := zdec_at bX1_enters_346 15 rfl
theorem bX1_enters_382 : zdec cX1_enters 382 [(382, .aload_n 0, 1), (383, .getfield 684, 3), (386, .getfield 982, 3), (389, .iload 12, 2), (391, .laload, 1), (392, .lor, 1), (393, .lstore 8, 2), (395, .lload 10, 2), (397, .aload_n 0, 1), (398, .getfield 684, 3), (401, .getfield 985, 3), (404, .iload 12, 2), (406, .laload, 1), (407, .lor, 1), (408, .lstore 10, 2), (410, .iinc 12 1, 3)] = true := by decide +kernel
theorem dX1_enters_382 : decode cX1_enters 382 = .ok (.aload_n 0, 1) := zdec_at bX1_enters_382 0 rfl
theorem dX1_enters_383 : decode cX1_enters 383 = .ok (.getfield 684, 3) := zdec_at bX1_enters_382 1 rfl
theorem dX1_enters_386 : decode cX1_enters 386 = .ok (.getfield 982, 3) := zdec_at bX1_enters_382 2 rfl
theorem dX1_enters_389 : decode cX1_enters 389 = .ok (.iload 12, 2) := zdec_at bX1_enters_382 3 rfl
theorem dX1_enters_391 : decode cX1_enters 391 = .ok (.laload, 1) := zdec_at bX1_enters_382 4 rfl
theorem dX1_enters_392 : decode cX1_enters 392 = .ok (.lor, 1) := zdec_at bX1_enters_382 5 rfl
theorem dX1_enters_393 : decode cX1_enters 393 = .ok (.lstore 8, 2) := zdec_at bX1_enters_382 6 rfl
theorem dX1_enters_395 : decode cX1_enters 395 = .ok (.lload 10, 2) := zdec_at bX1_enters_382 7 rfl
theorem dX1_enters_397 : decode cX1_enters 397 = .ok (.aload_n 0, 1) := zdec_at bX1_enters_382 8 rfl
theorem dX1_enters_398 : decode cX1_enters 398 = .ok (.getfield 684, 3) := zdec_at bX1_enters_382 9 rfl
theorem dX1_enters_401 : decode cX1_enters 401 = .ok (.getfield 985, 3) := zdec_at bX1_enters_382 10 rfl
theorem dX1_enters_404 : decode cX1_enters 404 = .ok (.iload 12, 2) := zdec_at bX1_enters_382 11 rfl
theorem dX1_enters_406 : decode cX1_enters 406 = .ok (.laload, 1) := zdec_at bX1_enters_382 12 rfl
theorem dX1_enters_407 : decode cX1_enters 407 = .ok (.lor, 1) := zdec_at bX1_enters_382 13 rfl
theorem dX1_enters_408 : decode cX1_enters 408 = .ok (.lstore 10, 2) := zdec_at bX1_enters_382 14 rfl
theorem dX1_enters_410 : decode cX1_enters 410 = .ok (.iinc 12 1, 3) := zdec_at bX1_enters_382 15 rfl
theorem bX1_enters_413 : zdec cX1_enters 413 [(413, .goto (-67), 3), (416, .aload_n 0, 1), (417, .getfield 684, 3), (420, .getfield 982, 3), (423, .iload 6, 2), (425, .lload 8, 2), (427, .lastore, 1), (428, .aload_n 0, 1), (429, .getfield 684, 3), (432, .getfield 985, 3), (435, .iload 6, 2), (437, .lload 10, 2), (439, .lastore, 1), (440, .aload_n 0, 1), (441, .getfield 684, 3), (444, .iload 7, 2)] = true := by decide +kernel
theorem dX1_enters_413 : decode cX1_enters 413 = .ok (.goto (-67), 3) := zdec_at bX1_enters_413 0 rfl
theorem dX1_enters_416 : decode cX1_enters 416 = .ok (.aload_n 0, 1) := zdec_at bX1_enters_413 1 rfl
theorem dX1_enters_417 : decode cX1_enters 417 = .ok (.getfield 684, 3) := zdec_at bX1_enters_413 2 rfl
theorem dX1_enters_420 : decode cX1_enters 420 = .ok (.getfield 982, 3) := zdec_at bX1_enters_413 3 rfl
theorem dX1_enters_423 : decode cX1_enters 423 = .ok (.iload 6, 2) := zdec_at bX1_enters_413 4 rfl
theorem dX1_enters_425 : decode cX1_enters 425 = .ok (.lload 8, 2) := zdec_at bX1_enters_413 5 rfl
theorem dX1_enters_427 : decode cX1_enters 427 = .ok (.lastore, 1) := zdec_at bX1_enters_413 6 rfl
theorem dX1_enters_428 : decode cX1_enters 428 = .ok (.aload_n 0, 1) := zdec_at bX1_enters_413 7 rfl
theorem dX1_enters_429 : decode cX1_enters 429 = .ok (.getfield 684, 3) := zdec_at bX1_enters_413 8 rfl
theorem dX1_enters_432 : decode cX1_enters 432 = .ok (.getfield 985, 3) := zdec_at bX1_enters_413 9 rfl
theorem dX1_enters_435 : decode cX1_enters 435 = .ok (.iload 6, 2) := zdec_at bX1_enters_413 10 rfl
theorem dX1_enters_437 : decode cX1_enters 437 = .ok (.lload 10, 2) := zdec_at bX1_enters_413 11 rfl
theorem dX1_enters_439 : decode cX1_enters 439 = .ok (.lastore, 1) := zdec_at bX1_enters_413 12 rfl
theorem dX1_enters_440 : decode cX1_enters 440 = .ok (.aload_n 0, 1) := zdec_at bX1_enters_413 13 rfl
theorem dX1_enters_441 : decode cX1_enters 441 = .ok (.getfield 684, 3) := zdec_at bX1_enters_413 14 rfl
theorem dX1_enters_444 : decode cX1_enters 444 = .ok (.iload 7, 2) := zdec_at bX1_enters_413 15 rfl
theorem bX1_enters_446 : zdec cX1_enters 446 [(446, .iconst 2, 1), (447, .isub, 1), (448, .aload_n 0, 1), (449, .getfield 206, 3), (452, .invokevirtual 903, 3), (455, .pop, 1), (456, .aload_n 0, 1), (457, .getfield 684, 3), (460, .aload_n 0, 1), (461, .getfield 206, 3), (464, .getfield 916, 3), (467, .putfield 745, 3), (470, .aload_n 0, 1), (471, .getfield 684, 3), (474, .aload_n 0, 1), (475, .getfield 206, 3)] = true := by decide +kernel
theorem dX1_enters_446 : decode cX1_enters 446 = .ok (.iconst 2, 1) := zdec_at bX1_enters_446 0 rfl
theorem dX1_enters_447 : decode cX1_enters 447 = .ok (.isub, 1) := zdec_at bX1_enters_446 1 rfl
theorem dX1_enters_448 : decode cX1_enters 448 = .ok (.aload_n 0, 1) := zdec_at bX1_enters_446 2 rfl
theorem dX1_enters_449 : decode cX1_enters 449 = .ok (.getfield 206, 3) := zdec_at bX1_enters_446 3 rfl
theorem dX1_enters_452 : decode cX1_enters 452 = .ok (.invokevirtual 903, 3) := zdec_at bX1_enters_446 4 rfl
theorem dX1_enters_455 : decode cX1_enters 455 = .ok (.pop, 1) := zdec_at bX1_enters_446 5 rfl
theorem dX1_enters_456 : decode cX1_enters 456 = .ok (.aload_n 0, 1) := zdec_at bX1_enters_446 6 rfl
theorem dX1_enters_457 : decode cX1_enters 457 = .ok (.getfield 684, 3) := zdec_at bX1_enters_446 7 rfl
theorem dX1_enters_460 : decode cX1_enters 460 = .ok (.aload_n 0, 1) := zdec_at bX1_enters_446 8 rfl
theorem dX1_enters_461 : decode cX1_enters 461 = .ok (.getfield 206, 3) := zdec_at bX1_enters_446 9 rfl
theorem dX1_enters_464 : decode cX1_enters 464 = .ok (.getfield 916, 3) := zdec_at bX1_enters_446 10 rfl
theorem dX1_enters_467 : decode cX1_enters 467 = .ok (.putfield 745, 3) := zdec_at bX1_enters_446 11 rfl
theorem dX1_enters_470 : decode cX1_enters 470 = .ok (.aload_n 0, 1) := zdec_at bX1_enters_446 12 rfl
theorem dX1_enters_471 : decode cX1_enters 471 = .ok (.getfield 684, 3) := zdec_at bX1_enters_446 13 rfl
theorem dX1_enters_474 : decode cX1_enters 474 = .ok (.aload_n 0, 1) := zdec_at bX1_enters_446 14 rfl
theorem dX1_enters_475 : decode cX1_enters 475 = .ok (.getfield 206, 3) := zdec_at bX1_enters_446 15 rfl
theorem bX1_enters_478 : zdec cX1_enters 478 [(478, .getfield 918, 3), (481, .putfield 748, 3), (484, .aload_n 0, 1), (485, .getfield 684, 3), (488, .aload_n 0, 1), (489, .getfield 206, 3), (492, .getfield 920, 3), (495, .putfield 751, 3), (498, .aload_n 0, 1), (499, .getfield 684, 3), (502, .iload 6, 2), (504, .bipush 64, 2), (506, .if_icmp .ge 10, 3), (509, .lconst 1, 1), (510, .iload 6, 2), (512, .lshl, 1)] = true := by decide +kernel
theorem dX1_enters_478 : decode cX1_enters 478 = .ok (.getfield 918, 3) := zdec_at bX1_enters_478 0 rfl
theorem dX1_enters_481 : decode cX1_enters 481 = .ok (.putfield 748, 3) := zdec_at bX1_enters_478 1 rfl
theorem dX1_enters_484 : decode cX1_enters 484 = .ok (.aload_n 0, 1) := zdec_at bX1_enters_478 2 rfl
theorem dX1_enters_485 : decode cX1_enters 485 = .ok (.getfield 684, 3) := zdec_at bX1_enters_478 3 rfl
theorem dX1_enters_488 : decode cX1_enters 488 = .ok (.aload_n 0, 1) := zdec_at bX1_enters_478 4 rfl
theorem dX1_enters_489 : decode cX1_enters 489 = .ok (.getfield 206, 3) := zdec_at bX1_enters_478 5 rfl
theorem dX1_enters_492 : decode cX1_enters 492 = .ok (.getfield 920, 3) := zdec_at bX1_enters_478 6 rfl
theorem dX1_enters_495 : decode cX1_enters 495 = .ok (.putfield 751, 3) := zdec_at bX1_enters_478 7 rfl
theorem dX1_enters_498 : decode cX1_enters 498 = .ok (.aload_n 0, 1) := zdec_at bX1_enters_478 8 rfl
theorem dX1_enters_499 : decode cX1_enters 499 = .ok (.getfield 684, 3) := zdec_at bX1_enters_478 9 rfl
theorem dX1_enters_502 : decode cX1_enters 502 = .ok (.iload 6, 2) := zdec_at bX1_enters_478 10 rfl
theorem dX1_enters_504 : decode cX1_enters 504 = .ok (.bipush 64, 2) := zdec_at bX1_enters_478 11 rfl
theorem dX1_enters_506 : decode cX1_enters 506 = .ok (.if_icmp .ge 10, 3) := zdec_at bX1_enters_478 12 rfl
theorem dX1_enters_509 : decode cX1_enters 509 = .ok (.lconst 1, 1) := zdec_at bX1_enters_478 13 rfl
theorem dX1_enters_510 : decode cX1_enters 510 = .ok (.iload 6, 2) := zdec_at bX1_enters_478 14 rfl
theorem dX1_enters_512 : decode cX1_enters 512 = .ok (.lshl, 1) := zdec_at bX1_enters_478 15 rfl
theorem bX1_enters_513 : zdec cX1_enters 513 [(513, .goto 4, 3), (516, .lconst 0, 1), (517, .putfield 754, 3), (520, .aload_n 0, 1), (521, .getfield 684, 3), (524, .iload 6, 2), (526, .bipush 64, 2), (528, .if_icmp .ge 7, 3), (531, .lconst 0, 1), (532, .goto 10, 3), (535, .lconst 1, 1), (536, .iload 6, 2), (538, .bipush 64, 2), (540, .isub, 1), (541, .lshl, 1), (542, .putfield 757, 3)] = true := by decide +kernel
theorem dX1_enters_513 : decode cX1_enters 513 = .ok (.goto 4, 3) := zdec_at bX1_enters_513 0 rfl
theorem dX1_enters_516 : decode cX1_enters 516 = .ok (.lconst 0, 1) := zdec_at bX1_enters_513 1 rfl
theorem dX1_enters_517 : decode cX1_enters 517 = .ok (.putfield 754, 3) := zdec_at bX1_enters_513 2 rfl
theorem dX1_enters_520 : decode cX1_enters 520 = .ok (.aload_n 0, 1) := zdec_at bX1_enters_513 3 rfl
theorem dX1_enters_521 : decode cX1_enters 521 = .ok (.getfield 684, 3) := zdec_at bX1_enters_513 4 rfl
theorem dX1_enters_524 : decode cX1_enters 524 = .ok (.iload 6, 2) := zdec_at bX1_enters_513 5 rfl
theorem dX1_enters_526 : decode cX1_enters 526 = .ok (.bipush 64, 2) := zdec_at bX1_enters_513 6 rfl
theorem dX1_enters_528 : decode cX1_enters 528 = .ok (.if_icmp .ge 7, 3) := zdec_at bX1_enters_513 7 rfl
theorem dX1_enters_531 : decode cX1_enters 531 = .ok (.lconst 0, 1) := zdec_at bX1_enters_513 8 rfl
theorem dX1_enters_532 : decode cX1_enters 532 = .ok (.goto 10, 3) := zdec_at bX1_enters_513 9 rfl
theorem dX1_enters_535 : decode cX1_enters 535 = .ok (.lconst 1, 1) := zdec_at bX1_enters_513 10 rfl
theorem dX1_enters_536 : decode cX1_enters 536 = .ok (.iload 6, 2) := zdec_at bX1_enters_513 11 rfl
theorem dX1_enters_538 : decode cX1_enters 538 = .ok (.bipush 64, 2) := zdec_at bX1_enters_513 12 rfl
theorem dX1_enters_540 : decode cX1_enters 540 = .ok (.isub, 1) := zdec_at bX1_enters_513 13 rfl
theorem dX1_enters_541 : decode cX1_enters 541 = .ok (.lshl, 1) := zdec_at bX1_enters_513 14 rfl
theorem dX1_enters_542 : decode cX1_enters 542 = .ok (.putfield 757, 3) := zdec_at bX1_enters_513 15 rfl
theorem bX1_enters_545 : zdec cX1_enters 545 [(545, .aload_n 0, 1), (546, .getfield 684, 3), (549, .iconst 0, 1), (550, .putfield 726, 3), (553, .aload_n 0, 1), (554, .aload 5, 2), (556, .getfield 449, 3), (559, .aload_n 0, 1), (560, .getfield 684, 3), (563, .invokevirtual 703, 3), (566, .aload_n 0, 1), (567, .getfield 684, 3), (570, .aload_n 0, 1), (571, .getfield 688, 3), (574, .invokevirtual 1059, 3), (577, .aload_n 0, 1)] = true := by decide +kernel
theorem dX1_enters_545 : decode cX1_enters 545 = .ok (.aload_n 0, 1) := zdec_at bX1_enters_545 0 rfl
theorem dX1_enters_546 : decode cX1_enters 546 = .ok (.getfield 684, 3) := zdec_at bX1_enters_545 1 rfl
theorem dX1_enters_549 : decode cX1_enters 549 = .ok (.iconst 0, 1) := zdec_at bX1_enters_545 2 rfl
theorem dX1_enters_550 : decode cX1_enters 550 = .ok (.putfield 726, 3) := zdec_at bX1_enters_545 3 rfl
theorem dX1_enters_553 : decode cX1_enters 553 = .ok (.aload_n 0, 1) := zdec_at bX1_enters_545 4 rfl
theorem dX1_enters_554 : decode cX1_enters 554 = .ok (.aload 5, 2) := zdec_at bX1_enters_545 5 rfl
theorem dX1_enters_556 : decode cX1_enters 556 = .ok (.getfield 449, 3) := zdec_at bX1_enters_545 6 rfl
theorem dX1_enters_559 : decode cX1_enters 559 = .ok (.aload_n 0, 1) := zdec_at bX1_enters_545 7 rfl
theorem dX1_enters_560 : decode cX1_enters 560 = .ok (.getfield 684, 3) := zdec_at bX1_enters_545 8 rfl
theorem dX1_enters_563 : decode cX1_enters 563 = .ok (.invokevirtual 703, 3) := zdec_at bX1_enters_545 9 rfl
theorem dX1_enters_566 : decode cX1_enters 566 = .ok (.aload_n 0, 1) := zdec_at bX1_enters_545 10 rfl
theorem dX1_enters_567 : decode cX1_enters 567 = .ok (.getfield 684, 3) := zdec_at bX1_enters_545 11 rfl
theorem dX1_enters_570 : decode cX1_enters 570 = .ok (.aload_n 0, 1) := zdec_at bX1_enters_545 12 rfl
theorem dX1_enters_571 : decode cX1_enters 571 = .ok (.getfield 688, 3) := zdec_at bX1_enters_545 13 rfl
theorem dX1_enters_574 : decode cX1_enters 574 = .ok (.invokevirtual 1059, 3) := zdec_at bX1_enters_545 14 rfl
theorem dX1_enters_577 : decode cX1_enters 577 = .ok (.aload_n 0, 1) := zdec_at bX1_enters_545 15 rfl
theorem bX1_enters_578 : zdec cX1_enters 578 [(578, .aload_n 0, 1), (579, .getfield 694, 3), (582, .iconst 2, 1), (583, .iload_n 1, 1), (584, .imul, 1), (585, .iadd, 1), (586, .iload 4, 2), (588, .invokevirtual 1066, 3), (591, .return_, 1)] = true := by decide +kernel
theorem dX1_enters_578 : decode cX1_enters 578 = .ok (.aload_n 0, 1) := zdec_at bX1_enters_578 0 rfl
theorem dX1_enters_579 : decode cX1_enters 579 = .ok (.getfield 694, 3) := zdec_at bX1_enters_578 1 rfl
theorem dX1_enters_582 : decode cX1_enters 582 = .ok (.iconst 2, 1) := zdec_at bX1_enters_578 2 rfl
theorem dX1_enters_583 : decode cX1_enters 583 = .ok (.iload_n 1, 1) := zdec_at bX1_enters_578 3 rfl
theorem dX1_enters_584 : decode cX1_enters 584 = .ok (.imul, 1) := zdec_at bX1_enters_578 4 rfl
theorem dX1_enters_585 : decode cX1_enters 585 = .ok (.iadd, 1) := zdec_at bX1_enters_578 5 rfl
theorem dX1_enters_586 : decode cX1_enters 586 = .ok (.iload 4, 2) := zdec_at bX1_enters_578 6 rfl
theorem dX1_enters_588 : decode cX1_enters 588 = .ok (.invokevirtual 1066, 3) := zdec_at bX1_enters_578 7 rfl
theorem dX1_enters_591 : decode cX1_enters 591 = .ok (.return_, 1) := zdec_at bX1_enters_578 8 rfl
theorem sX1_enters_0 {E : zE} {d : Nat} {Q : zO → zM → Prop} (M : zM) (l1 : Int32) (l2 : Int32) (l3 : Int32) (l4 : Int32) (hw : cw M) (k : ∃ b1 : Nat, (gr M 16 8) = some (b1, 11, 0) ∧ (Z E YJ2_get d M (zargs 0 [vr (some (b1, 11, 0)), vi l1]) 0 [] (zafter E YX1_enters (d + 1) [(0, vr (some (16, 0, 0))), (1, vi l1), (2, vi l2), (3, vi l3), (4, vi l4)] 5 3 [] Q))) : Z E YX1_enters (d + 1) M [(0, vr (some (16, 0, 0))), (1, vi l1), (2, vi l2), (3, vi l3), (4, vi l4)] 0 [] Q := by
  refine z_aload_n dX1_enters_0 rfl rfl ?_
  refine z_getr (r := (gr M 16 8)) dX1_enters_1 fsX1_82_0 rfl ?_
  refine z_iload_n dX1_enters_4 rfl rfl ?_
  obtain ⟨b1, e1_, k⟩ := k
  refine Z.eqs (lv' := [(0, vr (some (16, 0, 0))), (1, vi l1), (2, vi l2), (3, vi l3), (4, vi l4)]) (st' := [vi l1, vr (some (b1, 11, 0))]) rfl (by rw [e1_] <;> rfl) ?_
  exact z_callV (as := [vi l1]) (st := []) dX1_enters_5 vsX1_294_11 (Nat.le_refl _) (Nat.le_of_ble_eq_true rfl) (Nat.le_of_ble_eq_true rfl) rfl k
theorem sX1_enters_8 {E : zE} {d : Nat} {Q : zO → zM → Prop} (M : zM) (l1 : Int32) (l2 : Int32) (l3 : Int32) (l4 : Int32) (u0 : Option zP) (hw : cw M) (k : ∃ b1 : Nat, u0 = some (b1, 10, 0) ∧ (Z E YX1_scopePair d M (zargs 0 [vr (some (16, 0, 0)), vi l1]) 0 [] (zafter E YX1_enters (d + 1) [(0, vr (some (16, 0, 0))), (1, vi l1), (2, vi l2), (3, vi l3), (4, vi l4), (5, vr (some (b1, 10, 0)))] 15 3 [] Q))) : Z E YX1_enters (d + 1) M [(0, vr (some (16, 0, 0))), (1, vi l1), (2, vi l2), (3, vi l3), (4, vi l4)] 8 [vr u0] Q := by
  obtain ⟨b1, e1_, k⟩ := k
  refine Z.eqs (lv' := [(0, vr (some (16, 0, 0))), (1, vi l1), (2, vi l2), (3, vi l3), (4, vi l4)]) (st' := [vr (some (b1, 10, 0))]) rfl (by rw [e1_] <;> rfl) ?_
  refine z_ckcast dX1_enters_8 ctX1_298_10 ?_
  refine z_ast dX1_enters_11 (by decide) (lv' := [(0, vr (some (16, 0, 0))), (1, vi l1), (2, vi l2), (3, vi l3), (4, vi l4), (5, vr (some (b1, 10, 0)))]) rfl ?_
  refine z_aload_n dX1_enters_13 rfl rfl ?_
  refine z_iload_n dX1_enters_14 rfl rfl ?_
  exact z_callV (as := [vi l1]) (st := []) dX1_enters_15 vsX1_538_0 (Nat.le_refl _) (Nat.le_of_ble_eq_true rfl) (Nat.le_of_ble_eq_true rfl) rfl k
theorem sX1_enters_18 {E : zE} {d : Nat} {Q : zO → zM → Prop} (M : zM) (l1 : Int32) (l2 : Int32) (l3 : Int32) (l4 : Int32) (a5 : Nat) (s0 : Int32) (hw : cw M) (k : Z E YX1_errs d M (zargs 0 [vr (some (16, 0, 0)), vr (gr M 16 60), vi (2 : Int32)]) 0 [] (zafter E YX1_enters (d + 1) [(0, vr (some (16, 0, 0))), (1, vi l1), (2, vi l2), (3, vi l3), (4, vi l4), (5, vr (some (a5, 10, 0))), (6, vi s0)] 26 3 [] Q)) : Z E YX1_enters (d + 1) M [(0, vr (some (16, 0, 0))), (1, vi l1), (2, vi l2), (3, vi l3), (4, vi l4), (5, vr (some (a5, 10, 0)))] 18 [vi s0] Q := by
  refine z_ist dX1_enters_18 (by decide) (lv' := [(0, vr (some (16, 0, 0))), (1, vi l1), (2, vi l2), (3, vi l3), (4, vi l4), (5, vr (some (a5, 10, 0))), (6, vi s0)]) rfl ?_
  refine z_aload_n dX1_enters_20 rfl rfl ?_
  refine z_aload_n dX1_enters_21 rfl rfl ?_
  refine z_getr (r := (gr M 16 60)) dX1_enters_22 fsX1_684_0 rfl ?_
  refine z_iconst (v := 2) dX1_enters_25 rfl ?_
  exact z_callV (as := [vr (gr M 16 60), vi (2 : Int32)]) (st := []) dX1_enters_26 vsX1_960_0 (Nat.le_refl _) (Nat.le_of_ble_eq_true rfl) (Nat.le_of_ble_eq_true rfl) rfl k
theorem sX1_enters_29 {E : zE} {d : Nat} {Q : zO → zM → Prop} (M : zM) (l1 : Int32) (l2 : Int32) (l3 : Int32) (l4 : Int32) (a5 : Nat) (l6 : Int32) (hw : cw M) (k : vp_in (gi M 16 76) 624 ∧ (vp_in (gi M 16 76) 624 ∧ (∃ b1 : Nat, (gr M 16 61) = some (b1, 7, 0) ∧ (Z E YX43_copy d (si M 69 ((gi M 16 76)).toNatClampNeg (vp_nar .short (((gi M 69 ((gi M 16 76)).toNatClampNeg) ||| ((1 : Int32) <<< (l1 &&& 31)))).toInt16.toInt32)) (zargs 0 [vr (some (b1, 7, 0)), vr (gr M 16 60)]) 0 [] (zafter E YX1_enters (d + 1) [(0, vr (some (16, 0, 0))), (1, vi l1), (2, vi l2), (3, vi l3), (4, vi l4), (5, vr (some (a5, 10, 0))), (6, vi l6)] 53 3 [] Q))))) : Z E YX1_enters (d + 1) M [(0, vr (some (16, 0, 0))), (1, vi l1), (2, vi l2), (3, vi l3), (4, vi l4), (5, vr (some (a5, 10, 0))), (6, vi l6)] 29 [] Q := by
  refine z_aload_n dX1_enters_29 rfl rfl ?_
  refine z_getr dX1_enters_30 fsX1_197_0 (show gr M 16 65 = some (69, 102, 624) from cw_at hw 37 rfl) ?_
  refine z_aload_n dX1_enters_33 rfl rfl ?_
  refine z_geti dX1_enters_34 fsX1_713_0 ?_
  refine z_dup2 dX1_enters_37 rfl rfl ?_
  obtain ⟨b_, k⟩ := k
  refine z_sald dX1_enters_38 b_ ?_
  refine z_iconst (v := 1) dX1_enters_39 rfl ?_
  refine z_iload_n dX1_enters_40 rfl rfl ?_
  refine z_ishl dX1_enters_41 ?_
  refine z_ior dX1_enters_42 ?_
  refine z_i2s dX1_enters_43 ?_
  obtain ⟨b_, k⟩ := k
  refine z_sast (by decide) dX1_enters_44 b_ ?_
  refine z_aload_n dX1_enters_45 rfl rfl ?_
  refine z_getr (r := (gr M 16 61)) dX1_enters_46 fsX1_688_0 rfl ?_
  refine z_aload_n dX1_enters_49 rfl rfl ?_
  refine z_getr (r := (gr M 16 60)) dX1_enters_50 fsX1_684_0 rfl ?_
  obtain ⟨b1, e1_, k⟩ := k
  refine Z.eqs (lv' := [(0, vr (some (16, 0, 0))), (1, vi l1), (2, vi l2), (3, vi l3), (4, vi l4), (5, vr (some (a5, 10, 0))), (6, vi l6)]) (st' := [vr (gr M 16 60), vr (some (b1, 7, 0))]) rfl (by rw [e1_] <;> rfl) ?_
  exact z_callV (as := [vr (gr M 16 60)]) (st := []) dX1_enters_53 vsX1_1059_7 (Nat.le_refl _) (Nat.le_of_ble_eq_true rfl) (Nat.le_of_ble_eq_true rfl) rfl k
theorem sX1_enters_56 {E : zE} {d : Nat} {Q : zO → zM → Prop} (M : zM) (l1 : Int32) (l2 : Int32) (l3 : Int32) (l4 : Int32) (a5 : Nat) (l6 : Int32) (hw : cw M) (k : ∃ b1 : Nat, (gr M 16 60) = some (b1, 7, 0) ∧ (Z E YX43_push d M (zargs 0 [vr (some (b1, 7, 0)), vr (some (77, 4, 0))]) 0 [] (zafter E YX1_enters (d + 1) [(0, vr (some (16, 0, 0))), (1, vi l1), (2, vi l2), (3, vi l3), (4, vi l4), (5, vr (some (a5, 10, 0))), (6, vi l6)] 64 3 [] Q))) : Z E YX1_enters (d + 1) M [(0, vr (some (16, 0, 0))), (1, vi l1), (2, vi l2), (3, vi l3), (4, vi l4), (5, vr (some (a5, 10, 0))), (6, vi l6)] 56 [] Q := by
  refine z_aload_n dX1_enters_56 rfl rfl ?_
  refine z_getr (r := (gr M 16 60)) dX1_enters_57 fsX1_684_0 rfl ?_
  refine z_aload_n dX1_enters_60 rfl rfl ?_
  refine z_getr dX1_enters_61 fsX1_225_0 (show gr M 16 84 = some (77, 4, 0) from cw_at hw 45 rfl) ?_
  obtain ⟨b1, e1_, k⟩ := k
  refine Z.eqs (lv' := [(0, vr (some (16, 0, 0))), (1, vi l1), (2, vi l2), (3, vi l3), (4, vi l4), (5, vr (some (a5, 10, 0))), (6, vi l6)]) (st' := [vr (some (77, 4, 0)), vr (some (b1, 7, 0))]) rfl (by rw [e1_] <;> rfl) ?_
  exact z_callV (as := [vr (some (77, 4, 0))]) (st := []) dX1_enters_64 vsX1_767_7 (Nat.le_refl _) (Nat.le_of_ble_eq_true rfl) (Nat.le_of_ble_eq_true rfl) rfl k
theorem sX1_enters_67 {E : zE} {d : Nat} {Q : zO → zM → Prop} (M : zM) (l1 : Int32) (l2 : Int32) (l3 : Int32) (l4 : Int32) (a5 : Nat) (l6 : Int32) (hw : cw M) (k : ∃ b1 : Nat, (gr M 16 60) = some (b1, 7, 0) ∧ (Z E YX43_push d M (zargs 0 [vr (some (b1, 7, 0)), vr (some (76, 4, 0))]) 0 [] (zafter E YX1_enters (d + 1) [(0, vr (some (16, 0, 0))), (1, vi l1), (2, vi l2), (3, vi l3), (4, vi l4), (5, vr (some (a5, 10, 0))), (6, vi l6)] 75 3 [] Q))) : Z E YX1_enters (d + 1) M [(0, vr (some (16, 0, 0))), (1, vi l1), (2, vi l2), (3, vi l3), (4, vi l4), (5, vr (some (a5, 10, 0))), (6, vi l6)] 67 [] Q := by
  refine z_aload_n dX1_enters_67 rfl rfl ?_
  refine z_getr (r := (gr M 16 60)) dX1_enters_68 fsX1_684_0 rfl ?_
  refine z_aload_n dX1_enters_71 rfl rfl ?_
  refine z_getr dX1_enters_72 fsX1_222_0 (show gr M 16 83 = some (76, 4, 0) from cw_at hw 44 rfl) ?_
  obtain ⟨b1, e1_, k⟩ := k
  refine Z.eqs (lv' := [(0, vr (some (16, 0, 0))), (1, vi l1), (2, vi l2), (3, vi l3), (4, vi l4), (5, vr (some (a5, 10, 0))), (6, vi l6)]) (st' := [vr (some (76, 4, 0)), vr (some (b1, 7, 0))]) rfl (by rw [e1_] <;> rfl) ?_
  exact z_callV (as := [vr (some (76, 4, 0))]) (st := []) dX1_enters_75 vsX1_767_7 (Nat.le_refl _) (Nat.le_of_ble_eq_true rfl) (Nat.le_of_ble_eq_true rfl) rfl k
theorem sX1_enters_78 {E : zE} {d : Nat} {Q : zO → zM → Prop} (M : zM) (l1 : Int32) (l2 : Int32) (l3 : Int32) (l4 : Int32) (a5 : Nat) (l6 : Int32) (hw : cw M) (k : Z E YX1_enters (d + 1) M [(0, vr (some (16, 0, 0))), (1, vi l1), (2, vi l2), (3, vi l3), (4, vi l4), (5, vr (some (a5, 10, 0))), (6, vi l6), (7, vi (0 : Int32))] 81 [] Q) : Z E YX1_enters (d + 1) M [(0, vr (some (16, 0, 0))), (1, vi l1), (2, vi l2), (3, vi l3), (4, vi l4), (5, vr (some (a5, 10, 0))), (6, vi l6)] 78 [] Q := by
  refine z_iconst (v := 0) dX1_enters_78 rfl ?_
  refine z_ist dX1_enters_79 (by decide) (lv' := [(0, vr (some (16, 0, 0))), (1, vi l1), (2, vi l2), (3, vi l3), (4, vi l4), (5, vr (some (a5, 10, 0))), (6, vi l6), (7, vi (0 : Int32))]) rfl ?_
  exact k
theorem sX1_enters_81 {E : zE} {d : Nat} {Q : zO → zM → Prop} (M : zM) (l1 : Int32) (l2 : Int32) (l3 : Int32) (l4 : Int32) (a5 : Nat) (l6 : Int32) (l7 : Int32) (hw : cw M) (k : if l3 ≤ l7 then (∃ b1 : Nat, (gr M 16 60) = some (b1, 7, 0) ∧ (Z E YX43_make d M (zargs 0 [vr (some (b1, 7, 0)), vi l6, vi (-1 : Int32)]) 0 [] (zafter E YX1_enters (d + 1) [(0, vr (some (16, 0, 0))), (1, vi l1), (3, vi l3), (4, vi l4), (5, vr (some (a5, 10, 0))), (6, vi l6)] 116 3 [] Q))) else (vp_in (l2 + l7) 9 ∧ (∃ b1 : Nat, (gr M 16 60) = some (b1, 7, 0) ∧ (Z E YX43_push d M (zargs 0 [vr (some (b1, 7, 0)), vr (gr M 78 ((l2 + l7)).toNatClampNeg)]) 0 [] (zafter E YX1_enters (d + 1) [(0, vr (some (16, 0, 0))), (1, vi l1), (2, vi l2), (3, vi l3), (4, vi l4), (5, vr (some (a5, 10, 0))), (6, vi l6), (7, vi l7)] 100 3 [] Q))))) : Z E YX1_enters (d + 1) M [(0, vr (some (16, 0, 0))), (1, vi l1), (2, vi l2), (3, vi l3), (4, vi l4), (5, vr (some (a5, 10, 0))), (6, vi l6), (7, vi l7)] 81 [] Q := by
  refine z_iload dX1_enters_81 rfl ?_
  refine z_iload_n dX1_enters_83 rfl rfl ?_
  refine z_icmp_ge (tgt := 109) dX1_enters_84 rfl (fun h_ => ?_) (fun h_ => ?_)
  · have k := zit h_ k
    refine z_aload_n dX1_enters_109 rfl rfl ?_
    refine z_getr (r := (gr M 16 60)) dX1_enters_110 fsX1_684_0 rfl ?_
    refine z_iload dX1_enters_113 rfl ?_
    refine z_iconst (v := -1) dX1_enters_115 rfl ?_
    obtain ⟨b1, e1_, k⟩ := k
    refine Z.eqs (lv' := [(0, vr (some (16, 0, 0))), (1, vi l1), (2, vi l2), (3, vi l3), (4, vi l4), (5, vr (some (a5, 10, 0))), (6, vi l6), (7, vi l7)]) (st' := [vi (-1 : Int32), vi l6, vr (some (b1, 7, 0))]) rfl (by rw [e1_] <;> rfl) ?_
    refine Z.pick [0, 1, 3, 4, 5, 6] rfl ?_
    exact z_callV (as := [vi l6, vi (-1 : Int32)]) (st := []) dX1_enters_116 vsX1_922_7 (Nat.le_refl _) (Nat.le_of_ble_eq_true rfl) (Nat.le_of_ble_eq_true rfl) rfl k
  · have k := zif h_ k
    refine z_aload_n dX1_enters_87 rfl rfl ?_
    refine z_getr (r := (gr M 16 60)) dX1_enters_88 fsX1_684_0 rfl ?_
    refine z_aload_n dX1_enters_91 rfl rfl ?_
    refine z_getr dX1_enters_92 fsX1_228_0 (show gr M 16 85 = some (78, 107, 9) from cw_at hw 46 rfl) ?_
    refine z_iload_n dX1_enters_95 rfl rfl ?_
    refine z_iload dX1_enters_96 rfl ?_
    refine z_iadd dX1_enters_98 ?_
    obtain ⟨b_, k⟩ := k
    refine z_aald (r := (gr M 78 ((l2 + l7)).toNatClampNeg)) (q := 7) (Or.inr rfl) dX1_enters_99 b_ rfl ?_
    obtain ⟨b1, e1_, k⟩ := k
    refine Z.eqs (lv' := [(0, vr (some (16, 0, 0))), (1, vi l1), (2, vi l2), (3, vi l3), (4, vi l4), (5, vr (some (a5, 10, 0))), (6, vi l6), (7, vi l7)]) (st' := [vr (gr M 78 ((l2 + l7)).toNatClampNeg), vr (some (b1, 7, 0))]) rfl (by rw [e1_] <;> rfl) ?_
    exact z_callV (as := [vr (gr M 78 ((l2 + l7)).toNatClampNeg)]) (st := []) dX1_enters_100 vsX1_767_7 (Nat.le_refl _) (Nat.le_of_ble_eq_true rfl) (Nat.le_of_ble_eq_true rfl) rfl k
theorem sX1_enters_103 {E : zE} {d : Nat} {Q : zO → zM → Prop} (M : zM) (l1 : Int32) (l2 : Int32) (l3 : Int32) (l4 : Int32) (a5 : Nat) (l6 : Int32) (l7 : Int32) (hw : cw M) (k : Z E YX1_enters (d + 1) M [(0, vr (some (16, 0, 0))), (1, vi l1), (2, vi l2), (3, vi l3), (4, vi l4), (5, vr (some (a5, 10, 0))), (6, vi l6), (7, vi (l7 + (1 : Int32)))] 81 [] Q) : Z E YX1_enters (d + 1) M [(0, vr (some (16, 0, 0))), (1, vi l1), (2, vi l2), (3, vi l3), (4, vi l4), (5, vr (some (a5, 10, 0))), (6, vi l6), (7, vi l7)] 103 [] Q := by
  refine z_inc (v := (l7 + (1 : Int32))) dX1_enters_103 rfl rfl (by decide) (lv' := [(0, vr (some (16, 0, 0))), (1, vi l1), (2, vi l2), (3, vi l3), (4, vi l4), (5, vr (some (a5, 10, 0))), (6, vi l6), (7, vi (l7 + (1 : Int32)))]) rfl ?_
  refine z_goto (tgt := 81) dX1_enters_106 rfl ?_
  exact k
theorem sX1_enters_119 {E : zE} {d : Nat} {Q : zO → zM → Prop} (M : zM) (l1 : Int32) (l3 : Int32) (l4 : Int32) (a5 : Nat) (l6 : Int32) (hw : cw M) (k : ∃ b1 : Nat, (gr M 16 60) = some (b1, 7, 0) ∧ (∃ b2 m2 : Nat, (gr M b1 9) = some (b2, 104, m2) ∧ (16 ≤ b2 ∧ (vp_in l6 m2 ∧ (∃ b3 : Nat, (gr M 16 60) = some (b3, 7, 0) ∧ (Z E YX1_enters (d + 1) (si M b2 (l6).toNatClampNeg (vp_nar .boolean (1 : Int32))) [(0, vr (some (16, 0, 0))), (1, vi l1), (3, vi l3), (4, vi l4), (5, vr (some (a5, 10, 0))), (6, vi l6), (7, vi ((gi (si M b2 (l6).toNatClampNeg (vp_nar .boolean (1 : Int32))) b3 13) - l3)), (8, vi (0 : Int32))] 144 [] Q)))))) : Z E YX1_enters (d + 1) M [(0, vr (some (16, 0, 0))), (1, vi l1), (3, vi l3), (4, vi l4), (5, vr (some (a5, 10, 0))), (6, vi l6)] 119 [] Q := by
  refine z_aload_n dX1_enters_119 rfl rfl ?_
  refine z_getr (r := (gr M 16 60)) dX1_enters_120 fsX1_684_0 rfl ?_
  obtain ⟨b1, e1_, k⟩ := k
  refine Z.eqs (lv' := [(0, vr (some (16, 0, 0))), (1, vi l1), (3, vi l3), (4, vi l4), (5, vr (some (a5, 10, 0))), (6, vi l6)]) (st' := [vr (some (b1, 7, 0))]) rfl (by rw [e1_] <;> rfl) ?_
  refine z_getr (r := (gr M b1 9)) dX1_enters_123 fsX1_877_7 rfl ?_
  refine z_iload dX1_enters_126 rfl ?_
  refine z_iconst (v := 1) dX1_enters_128 rfl ?_
  obtain ⟨b2, m2, e2_, k⟩ := k
  refine Z.eqs (lv' := [(0, vr (some (16, 0, 0))), (1, vi l1), (3, vi l3), (4, vi l4), (5, vr (some (a5, 10, 0))), (6, vi l6)]) (st' := [vi (1 : Int32), vi l6, vr (some (b2, 104, m2))]) rfl (by rw [e2_] <;> rfl) ?_
  obtain ⟨g_, k⟩ := k
  obtain ⟨b_, k⟩ := k
  refine z_zast g_ dX1_enters_129 b_ ?_
  refine z_aload_n dX1_enters_130 rfl rfl ?_
  refine z_getr (r := (gr M 16 60)) dX1_enters_131 fsX1_684_0 rfl ?_
  obtain ⟨b3, e3_, k⟩ := k
  refine Z.eqs (lv' := [(0, vr (some (16, 0, 0))), (1, vi l1), (3, vi l3), (4, vi l4), (5, vr (some (a5, 10, 0))), (6, vi l6)]) (st' := [vr (some (b3, 7, 0))]) rfl (by rw [e3_] <;> rfl) ?_
  refine z_geti dX1_enters_134 fsX1_726_7 ?_
  refine z_iload_n dX1_enters_137 rfl rfl ?_
  refine z_isub dX1_enters_138 ?_
  refine z_ist dX1_enters_139 (by decide) (lv' := [(0, vr (some (16, 0, 0))), (1, vi l1), (3, vi l3), (4, vi l4), (5, vr (some (a5, 10, 0))), (6, vi l6), (7, vi ((gi (si M b2 (l6).toNatClampNeg (vp_nar .boolean (1 : Int32))) b3 13) - l3))]) rfl ?_
  refine z_iconst (v := 0) dX1_enters_141 rfl ?_
  refine z_ist dX1_enters_142 (by decide) (lv' := [(0, vr (some (16, 0, 0))), (1, vi l1), (3, vi l3), (4, vi l4), (5, vr (some (a5, 10, 0))), (6, vi l6), (7, vi ((gi (si M b2 (l6).toNatClampNeg (vp_nar .boolean (1 : Int32))) b3 13) - l3)), (8, vi (0 : Int32))]) rfl ?_
  exact k
theorem sX1_enters_144 {E : zE} {d : Nat} {Q : zO → zM → Prop} (M : zM) (l1 : Int32) (l3 : Int32) (l4 : Int32) (a5 : Nat) (l6 : Int32) (l7 : Int32) (l8 : Int32) (hw : cw M) (k : if (gi M a5 5) ≤ l8 then (∃ b1 : Nat, (gr M 16 60) = some (b1, 7, 0) ∧ (Z E YX43_at d M (zargs 0 [vr (some (b1, 7, 0)), vi (l7 - (1 : Int32)), vr (some (71, 4, 0))]) 0 [] (zafter E YX1_enters (d + 1) [(0, vr (some (16, 0, 0))), (1, vi l1), (4, vi l4), (5, vr (some (a5, 10, 0))), (6, vi l6), (7, vi l7)] 319 3 [] Q))) else (if (gi M a5 6) ≤ l8 then (Z E YX1_enters (d + 1) M [(0, vr (some (16, 0, 0))), (1, vi l1), (3, vi l3), (4, vi l4), (5, vr (some (a5, 10, 0))), (6, vi l6), (7, vi l7), (8, vi l8)] 181 [] Q) else (∃ b1 : Nat, (gr M 16 60) = some (b1, 7, 0) ∧ (Z E YX43_at d M (zargs 0 [vr (some (b1, 7, 0)), vi (l7 + l8), vr (some (71, 4, 0))]) 0 [] (zafter E YX1_enters (d + 1) [(0, vr (some (16, 0, 0))), (1, vi l1), (3, vi l3), (4, vi l4), (5, vr (some (a5, 10, 0))), (6, vi l6), (7, vi l7), (8, vi l8)] 177 3 [] Q))))) : Z E YX1_enters (d + 1) M [(0, vr (some (16, 0, 0))), (1, vi l1), (3, vi l3), (4, vi l4), (5, vr (some (a5, 10, 0))), (6, vi l6), (7, vi l7), (8, vi l8)] 144 [] Q := by
  refine z_iload dX1_enters_144 rfl ?_
  refine z_aload dX1_enters_146 rfl ?_
  refine z_geti dX1_enters_148 fsX1_316_10 ?_
  refine z_icmp_ge (tgt := 307) dX1_enters_151 rfl (fun h_ => ?_) (fun h_ => ?_)
  · have k := zit h_ k
    refine z_aload_n dX1_enters_307 rfl rfl ?_
    refine z_getr (r := (gr M 16 60)) dX1_enters_308 fsX1_684_0 rfl ?_
    refine z_iload dX1_enters_311 rfl ?_
    refine z_iconst (v := 1) dX1_enters_313 rfl ?_
    refine z_isub dX1_enters_314 ?_
    refine z_aload_n dX1_enters_315 rfl rfl ?_
    refine z_getr dX1_enters_316 fsX1_206_0 (show gr M 16 78 = some (71, 4, 0) from cw_at hw 39 rfl) ?_
    obtain ⟨b1, e1_, k⟩ := k
    refine Z.eqs (lv' := [(0, vr (some (16, 0, 0))), (1, vi l1), (3, vi l3), (4, vi l4), (5, vr (some (a5, 10, 0))), (6, vi l6), (7, vi l7), (8, vi l8)]) (st' := [vr (some (71, 4, 0)), vi (l7 - (1 : Int32)), vr (some (b1, 7, 0))]) rfl (by rw [e1_] <;> rfl) ?_
    refine Z.pick [0, 1, 3, 4, 5, 6] rfl ?_
    exact z_callV (as := [vi (l7 - (1 : Int32)), vr (some (71, 4, 0))]) (st := []) dX1_enters_319 vsX1_903_7 (Nat.le_refl _) (Nat.le_of_ble_eq_true rfl) (Nat.le_of_ble_eq_true rfl) rfl k
  · have k := zif h_ k
    refine z_iload dX1_enters_154 rfl ?_
    refine z_aload dX1_enters_156 rfl ?_
    refine z_geti dX1_enters_158 fsX1_574_10 ?_
    refine z_icmp_ge (tgt := 181) dX1_enters_161 rfl (fun h_ => ?_) (fun h_ => ?_)
    · have k := zit h_ k
      exact k
    · have k := zif h_ k
      refine z_aload_n dX1_enters_164 rfl rfl ?_
      refine z_getr (r := (gr M 16 60)) dX1_enters_165 fsX1_684_0 rfl ?_
      refine z_iload dX1_enters_168 rfl ?_
      refine z_iload dX1_enters_170 rfl ?_
      refine z_iadd dX1_enters_172 ?_
      refine z_aload_n dX1_enters_173 rfl rfl ?_
      refine z_getr dX1_enters_174 fsX1_206_0 (show gr M 16 78 = some (71, 4, 0) from cw_at hw 39 rfl) ?_
      obtain ⟨b1, e1_, k⟩ := k
      refine Z.eqs (lv' := [(0, vr (some (16, 0, 0))), (1, vi l1), (3, vi l3), (4, vi l4), (5, vr (some (a5, 10, 0))), (6, vi l6), (7, vi l7), (8, vi l8)]) (st' := [vr (some (71, 4, 0)), vi (l7 + l8), vr (some (b1, 7, 0))]) rfl (by rw [e1_] <;> rfl) ?_
      exact z_callV (as := [vi (l7 + l8), vr (some (71, 4, 0))]) (st := []) dX1_enters_177 vsX1_903_7 (Nat.le_refl _) (Nat.le_of_ble_eq_true rfl) (Nat.le_of_ble_eq_true rfl) rfl k
theorem sX1_enters_180 {E : zE} {d : Nat} {Q : zO → zM → Prop} (M : zM) (l1 : Int32) (l3 : Int32) (l4 : Int32) (a5 : Nat) (l6 : Int32) (l7 : Int32) (l8 : Int32) (u0 : Option zP) (hw : cw M) (k : Z E YX1_enters (d + 1) M [(0, vr (some (16, 0, 0))), (1, vi l1), (3, vi l3), (4, vi l4), (5, vr (some (a5, 10, 0))), (6, vi l6), (7, vi l7), (8, vi l8)] 181 [] Q) : Z E YX1_enters (d + 1) M [(0, vr (some (16, 0, 0))), (1, vi l1), (3, vi l3), (4, vi l4), (5, vr (some (a5, 10, 0))), (6, vi l6), (7, vi l7), (8, vi l8)] 180 [vr u0] Q := by
  refine z_pop dX1_enters_180 rfl ?_
  exact k
theorem sX1_enters_181 {E : zE} {d : Nat} {Q : zO → zM → Prop} (M : zM) (l1 : Int32) (l3 : Int32) (l4 : Int32) (a5 : Nat) (l6 : Int32) (l7 : Int32) (l8 : Int32) (hw : cw M) (k : if (gi M a5 6) ≤ l8 then (Z E YX6_of d M (zargs 0 [vr (some (71, 4, 0)), vl (1 : Int64)]) 0 [] (zafter E YX1_enters (d + 1) [(0, vr (some (16, 0, 0))), (1, vi l1), (3, vi l3), (4, vi l4), (5, vr (some (a5, 10, 0))), (6, vi l6), (7, vi l7), (8, vi l8)] 202 3 [] Q)) else (if l8 < l3 then (Z E YX1_enters (d + 1) M [(0, vr (some (16, 0, 0))), (1, vi l1), (3, vi l3), (4, vi l4), (5, vr (some (a5, 10, 0))), (6, vi l6), (7, vi l7), (8, vi l8)] 206 [] Q) else (Z E YX6_of d M (zargs 0 [vr (some (71, 4, 0)), vl (1 : Int64)]) 0 [] (zafter E YX1_enters (d + 1) [(0, vr (some (16, 0, 0))), (1, vi l1), (3, vi l3), (4, vi l4), (5, vr (some (a5, 10, 0))), (6, vi l6), (7, vi l7), (8, vi l8)] 202 3 [] Q)))) : Z E YX1_enters (d + 1) M [(0, vr (some (16, 0, 0))), (1, vi l1), (3, vi l3), (4, vi l4), (5, vr (some (a5, 10, 0))), (6, vi l6), (7, vi l7), (8, vi l8)] 181 [] Q := by
  refine z_iload dX1_enters_181 rfl ?_
  refine z_aload dX1_enters_183 rfl ?_
  refine z_geti dX1_enters_185 fsX1_574_10 ?_
  refine z_icmp_ge (tgt := 197) dX1_enters_188 rfl (fun h_ => ?_) (fun h_ => ?_)
  · have k := zit h_ k
    refine z_aload_n dX1_enters_197 rfl rfl ?_
    refine z_getr dX1_enters_198 fsX1_206_0 (show gr M 16 78 = some (71, 4, 0) from cw_at hw 39 rfl) ?_
    refine z_lconst (v := 1) dX1_enters_201 rfl ?_
    exact z_callV (as := [vl (1 : Int64)]) (st := []) dX1_enters_202 vsX1_892_4 (Nat.le_refl _) (Nat.le_of_ble_eq_true rfl) (Nat.le_of_ble_eq_true rfl) rfl k
  · have k := zif h_ k
    refine z_iload dX1_enters_191 rfl ?_
    refine z_iload_n dX1_enters_193 rfl rfl ?_
    refine z_icmp_lt (tgt := 206) dX1_enters_194 rfl (fun h_ => ?_) (fun h_ => ?_)
    · have k := zit h_ k
      exact k
    · have k := zif h_ k
      refine z_aload_n dX1_enters_197 rfl rfl ?_
      refine z_getr dX1_enters_198 fsX1_206_0 (show gr M 16 78 = some (71, 4, 0) from cw_at hw 39 rfl) ?_
      refine z_lconst (v := 1) dX1_enters_201 rfl ?_
      exact z_callV (as := [vl (1 : Int64)]) (st := []) dX1_enters_202 vsX1_892_4 (Nat.le_refl _) (Nat.le_of_ble_eq_true rfl) (Nat.le_of_ble_eq_true rfl) rfl k
theorem sX1_enters_205 {E : zE} {d : Nat} {Q : zO → zM → Prop} (M : zM) (l1 : Int32) (l3 : Int32) (l4 : Int32) (a5 : Nat) (l6 : Int32) (l7 : Int32) (l8 : Int32) (u0 : Option zP) (hw : cw M) (k : Z E YX1_enters (d + 1) M [(0, vr (some (16, 0, 0))), (1, vi l1), (3, vi l3), (4, vi l4), (5, vr (some (a5, 10, 0))), (6, vi l6), (7, vi l7), (8, vi l8)] 206 [] Q) : Z E YX1_enters (d + 1) M [(0, vr (some (16, 0, 0))), (1, vi l1), (3, vi l3), (4, vi l4), (5, vr (some (a5, 10, 0))), (6, vi l6), (7, vi l7), (8, vi l8)] 205 [vr u0] Q := by
  refine z_pop dX1_enters_205 rfl ?_
  exact k
theorem sX1_enters_206 {E : zE} {d : Nat} {Q : zO → zM → Prop} (M : zM) (l1 : Int32) (l3 : Int32) (l4 : Int32) (a5 : Nat) (l6 : Int32) (l7 : Int32) (l8 : Int32) (hw : cw M) (k : if l8 < (gi M a5 6) then (Z E YX1_enters (d + 1) M [(0, vr (some (16, 0, 0))), (1, vi l1), (3, vi l3), (4, vi l4), (5, vr (some (a5, 10, 0))), (6, vi l6), (7, vi l7), (8, vi l8)] 259 [] Q) else (∃ b1 m1 : Nat, (gr M a5 4) = some (b1, 100, m1) ∧ (vp_in l8 m1 ∧ (if (gi M b1 (l8).toNatClampNeg) = (gi M a5 8) then (∃ b2 : Nat, (gr M 16 60) = some (b2, 7, 0) ∧ (Z E YX43_at d M (zargs 0 [vr (some (b2, 7, 0)), vi (l7 - (1 : Int32)), vr (some (71, 4, 0))]) 0 [] (zafter E YX1_enters (d + 1) [(0, vr (some (16, 0, 0))), (1, vi l1), (3, vi l3), (4, vi l4), (5, vr (some (a5, 10, 0))), (6, vi l6), (7, vi l7), (8, vi l8)] 244 3 [] Q))) else (Z E YX1_enters (d + 1) M [(0, vr (some (16, 0, 0))), (1, vi l1), (3, vi l3), (4, vi l4), (5, vr (some (a5, 10, 0))), (6, vi l6), (7, vi l7), (8, vi l8)] 259 [] Q))))) : Z E YX1_enters (d + 1) M [(0, vr (some (16, 0, 0))), (1, vi l1), (3, vi l3), (4, vi l4), (5, vr (some (a5, 10, 0))), (6, vi l6), (7, vi l7), (8, vi l8)] 206 [] Q := by
  refine z_iload dX1_enters_206 rfl ?_
  refine z_aload dX1_enters_208 rfl ?_
  refine z_geti dX1_enters_210 fsX1_574_10 ?_
  refine z_icmp_lt (tgt := 259) dX1_enters_213 rfl (fun h_ => ?_) (fun h_ => ?_)
  · have k := zit h_ k
    exact k
  · have k := zif h_ k
    refine z_aload dX1_enters_216 rfl ?_
    refine z_getr (r := (gr M a5 4)) dX1_enters_218 fsX1_577_10 rfl ?_
    refine z_iload dX1_enters_221 rfl ?_
    obtain ⟨b1, m1, e1_, k⟩ := k
    refine Z.eqs (lv' := [(0, vr (some (16, 0, 0))), (1, vi l1), (3, vi l3), (4, vi l4), (5, vr (some (a5, 10, 0))), (6, vi l6), (7, vi l7), (8, vi l8)]) (st' := [vi l8, vr (some (b1, 100, m1))]) rfl (by rw [e1_] <;> rfl) ?_
    obtain ⟨b_, k⟩ := k
    refine z_iald dX1_enters_223 b_ ?_
    refine z_aload dX1_enters_224 rfl ?_
    refine z_geti dX1_enters_226 fsX1_580_10 ?_
    refine z_icmp_ne (tgt := 259) dX1_enters_229 rfl (fun h_ => ?_) (fun h_ => ?_)
    · have k := zif h_ k
      exact k
    · have k := zit h_ k
      refine z_aload_n dX1_enters_232 rfl rfl ?_
      refine z_getr (r := (gr M 16 60)) dX1_enters_233 fsX1_684_0 rfl ?_
      refine z_iload dX1_enters_236 rfl ?_
      refine z_iconst (v := 1) dX1_enters_238 rfl ?_
      refine z_isub dX1_enters_239 ?_
      refine z_aload_n dX1_enters_240 rfl rfl ?_
      refine z_getr dX1_enters_241 fsX1_206_0 (show gr M 16 78 = some (71, 4, 0) from cw_at hw 39 rfl) ?_
      obtain ⟨b2, e2_, k⟩ := k
      refine Z.eqs (lv' := [(0, vr (some (16, 0, 0))), (1, vi l1), (3, vi l3), (4, vi l4), (5, vr (some (a5, 10, 0))), (6, vi l6), (7, vi l7), (8, vi l8)]) (st' := [vr (some (71, 4, 0)), vi (l7 - (1 : Int32)), vr (some (b2, 7, 0))]) rfl (by rw [e2_] <;> rfl) ?_
      exact z_callV (as := [vi (l7 - (1 : Int32)), vr (some (71, 4, 0))]) (st := []) dX1_enters_244 vsX1_903_7 (Nat.le_refl _) (Nat.le_of_ble_eq_true rfl) (Nat.le_of_ble_eq_true rfl) rfl k
theorem sX1_enters_247 {E : zE} {d : Nat} {Q : zO → zM → Prop} (M : zM) (l1 : Int32) (l3 : Int32) (l4 : Int32) (a5 : Nat) (l6 : Int32) (l7 : Int32) (l8 : Int32) (u0 : Option zP) (hw : cw M) (k : Z E YX1_onlyOf d M (zargs 0 [vr (some (71, 4, 0)), vi (l6 + (2 : Int32))]) 0 [] (zafter E YX1_enters (d + 1) [(0, vr (some (16, 0, 0))), (1, vi l1), (3, vi l3), (4, vi l4), (5, vr (some (a5, 10, 0))), (6, vi l6), (7, vi l7), (8, vi l8)] 256 3 [] Q)) : Z E YX1_enters (d + 1) M [(0, vr (some (16, 0, 0))), (1, vi l1), (3, vi l3), (4, vi l4), (5, vr (some (a5, 10, 0))), (6, vi l6), (7, vi l7), (8, vi l8)] 247 [vr u0] Q := by
  refine z_pop dX1_enters_247 rfl ?_
  refine z_aload_n dX1_enters_248 rfl rfl ?_
  refine z_getr dX1_enters_249 fsX1_206_0 (show gr M 16 78 = some (71, 4, 0) from cw_at hw 39 rfl) ?_
  refine z_iload dX1_enters_252 rfl ?_
  refine z_iconst (v := 2) dX1_enters_254 rfl ?_
  refine z_iadd dX1_enters_255 ?_
  exact z_callS (as := [vr (some (71, 4, 0)), vi (l6 + (2 : Int32))]) (st := []) dX1_enters_256 ssX1_1062 (Nat.le_refl _) (Nat.le_of_ble_eq_true rfl) (Nat.le_of_ble_eq_true rfl) rfl k
theorem sX1_enters_259 {E : zE} {d : Nat} {Q : zO → zM → Prop} (M : zM) (l1 : Int32) (l3 : Int32) (l4 : Int32) (a5 : Nat) (l6 : Int32) (l7 : Int32) (l8 : Int32) (hw : cw M) (k : ∃ b1 m1 : Nat, (gr M a5 4) = some (b1, 100, m1) ∧ (vp_in l8 m1 ∧ (∃ b2 : Nat, (gr M 16 60) = some (b2, 7, 0) ∧ (Z E YX43_put d M (zargs 0 [vr (some (b2, 7, 0)), vi l6, vi (gi M b1 (l8).toNatClampNeg), vl (gl M 71 0), vl (gl M 71 1), vl ((gl M 71 2) &&& (-513 : Int64))]) 0 [] (zafter E YX1_enters (d + 1) [(0, vr (some (16, 0, 0))), (1, vi l1), (3, vi l3), (4, vi l4), (5, vr (some (a5, 10, 0))), (6, vi l6), (7, vi l7), (8, vi l8)] 298 3 [] Q))))) : Z E YX1_enters (d + 1) M [(0, vr (some (16, 0, 0))), (1, vi l1), (3, vi l3), (4, vi l4), (5, vr (some (a5, 10, 0))), (6, vi l6), (7, vi l7), (8, vi l8)] 259 [] Q := by
  refine z_aload_n dX1_enters_259 rfl rfl ?_
  refine z_getr (r := (gr M 16 60)) dX1_enters_260 fsX1_684_0 rfl ?_
  refine z_iload dX1_enters_263 rfl ?_
  refine z_aload dX1_enters_265 rfl ?_
  refine z_getr (r := (gr M a5 4)) dX1_enters_267 fsX1_577_10 rfl ?_
  refine z_iload dX1_enters_270 rfl ?_
  obtain ⟨b1, m1, e1_, k⟩ := k
  refine Z.eqs (lv' := [(0, vr (some (16, 0, 0))), (1, vi l1), (3, vi l3), (4, vi l4), (5, vr (some (a5, 10, 0))), (6, vi l6), (7, vi l7), (8, vi l8)]) (st' := [vi l8, vr (some (b1, 100, m1)), vi l6, vr (gr M 16 60)]) rfl (by rw [e1_] <;> rfl) ?_
  obtain ⟨b_, k⟩ := k
  refine z_iald dX1_enters_272 b_ ?_
  refine z_aload_n dX1_enters_273 rfl rfl ?_
  refine z_getr dX1_enters_274 fsX1_206_0 (show gr M 16 78 = some (71, 4, 0) from cw_at hw 39 rfl) ?_
  refine z_getl dX1_enters_277 fsX1_916_4 ?_
  refine z_aload_n dX1_enters_280 rfl rfl ?_
  refine z_getr dX1_enters_281 fsX1_206_0 (show gr M 16 78 = some (71, 4, 0) from cw_at hw 39 rfl) ?_
  refine z_getl dX1_enters_284 fsX1_918_4 ?_
  refine z_aload_n dX1_enters_287 rfl rfl ?_
  refine z_getr dX1_enters_288 fsX1_206_0 (show gr M 16 78 = some (71, 4, 0) from cw_at hw 39 rfl) ?_
  refine z_getl dX1_enters_291 fsX1_920_4 ?_
  refine z_ldc2 (v := -513) dX1_enters_294 q3198 ?_
  refine z_land dX1_enters_297 ?_
  obtain ⟨b2, e2_, k⟩ := k
  refine Z.eqs (lv' := [(0, vr (some (16, 0, 0))), (1, vi l1), (3, vi l3), (4, vi l4), (5, vr (some (a5, 10, 0))), (6, vi l6), (7, vi l7), (8, vi l8)]) (st' := [vl ((gl M 71 2) &&& (-513 : Int64)), vl (gl M 71 1), vl (gl M 71 0), vi (gi M b1 (l8).toNatClampNeg), vi l6, vr (some (b2, 7, 0))]) rfl (by rw [e2_] <;> rfl) ?_
  exact z_callV (as := [vi l6, vi (gi M b1 (l8).toNatClampNeg), vl (gl M 71 0), vl (gl M 71 1), vl ((gl M 71 2) &&& (-513 : Int64))]) (st := []) dX1_enters_298 vsX1_722_7 (Nat.le_refl _) (Nat.le_of_ble_eq_true rfl) (Nat.le_of_ble_eq_true rfl) rfl k
theorem sX1_enters_301 {E : zE} {d : Nat} {Q : zO → zM → Prop} (M : zM) (l1 : Int32) (l3 : Int32) (l4 : Int32) (a5 : Nat) (l6 : Int32) (l7 : Int32) (l8 : Int32) (hw : cw M) (k : Z E YX1_enters (d + 1) M [(0, vr (some (16, 0, 0))), (1, vi l1), (3, vi l3), (4, vi l4), (5, vr (some (a5, 10, 0))), (6, vi l6), (7, vi l7), (8, vi (l8 + (1 : Int32)))] 144 [] Q) : Z E YX1_enters (d + 1) M [(0, vr (some (16, 0, 0))), (1, vi l1), (3, vi l3), (4, vi l4), (5, vr (some (a5, 10, 0))), (6, vi l6), (7, vi l7), (8, vi l8)] 301 [] Q := by
  refine z_inc (v := (l8 + (1 : Int32))) dX1_enters_301 rfl rfl (by decide) (lv' := [(0, vr (some (16, 0, 0))), (1, vi l1), (3, vi l3), (4, vi l4), (5, vr (some (a5, 10, 0))), (6, vi l6), (7, vi l7), (8, vi (l8 + (1 : Int32)))]) rfl ?_
  refine z_goto (tgt := 144) dX1_enters_304 rfl ?_
  exact k
theorem sX1_enters_322 {E : zE} {d : Nat} {Q : zO → zM → Prop} (M : zM) (l1 : Int32) (l4 : Int32) (a5 : Nat) (l6 : Int32) (l7 : Int32) (u0 : Option zP) (hw : cw M) (k : Z E YX1_onlyOf d M (zargs 0 [vr (some (71, 4, 0)), vi (l6 + (2 : Int32))]) 0 [] (zafter E YX1_enters (d + 1) [(0, vr (some (16, 0, 0))), (1, vi l1), (4, vi l4), (5, vr (some (a5, 10, 0))), (6, vi l6), (7, vi l7)] 331 3 [] Q)) : Z E YX1_enters (d + 1) M [(0, vr (some (16, 0, 0))), (1, vi l1), (4, vi l4), (5, vr (some (a5, 10, 0))), (6, vi l6), (7, vi l7)] 322 [vr u0] Q := by
  refine z_pop dX1_enters_322 rfl ?_
  refine z_aload_n dX1_enters_323 rfl rfl ?_
  refine z_getr dX1_enters_324 fsX1_206_0 (show gr M 16 78 = some (71, 4, 0) from cw_at hw 39 rfl) ?_
  refine z_iload dX1_enters_327 rfl ?_
  refine z_iconst (v := 2) dX1_enters_329 rfl ?_
  refine z_iadd dX1_enters_330 ?_
  exact z_callS (as := [vr (some (71, 4, 0)), vi (l6 + (2 : Int32))]) (st := []) dX1_enters_331 ssX1_1062 (Nat.le_refl _) (Nat.le_of_ble_eq_true rfl) (Nat.le_of_ble_eq_true rfl) rfl k
theorem sX1_enters_334 {E : zE} {d : Nat} {Q : zO → zM → Prop} (M : zM) (l1 : Int32) (l4 : Int32) (a5 : Nat) (l6 : Int32) (l7 : Int32) (hw : cw M) (k : Z E YX1_enters (d + 1) M [(0, vr (some (16, 0, 0))), (1, vi l1), (4, vi l4), (5, vr (some (a5, 10, 0))), (6, vi l6), (7, vi l7), (8, vl (0 : Int64)), (10, vl (0 : Int64)), (12, vi (l6 + (2 : Int32)))] 346 [] Q) : Z E YX1_enters (d + 1) M [(0, vr (some (16, 0, 0))), (1, vi l1), (4, vi l4), (5, vr (some (a5, 10, 0))), (6, vi l6), (7, vi l7)] 334 [] Q := by
  refine z_lconst (v := 0) dX1_enters_334 rfl ?_
  refine z_lst dX1_enters_335 (by decide) (lv' := [(0, vr (some (16, 0, 0))), (1, vi l1), (4, vi l4), (5, vr (some (a5, 10, 0))), (6, vi l6), (7, vi l7), (8, vl (0 : Int64))]) rfl ?_
  refine z_lconst (v := 0) dX1_enters_337 rfl ?_
  refine z_lst dX1_enters_338 (by decide) (lv' := [(0, vr (some (16, 0, 0))), (1, vi l1), (4, vi l4), (5, vr (some (a5, 10, 0))), (6, vi l6), (7, vi l7), (8, vl (0 : Int64)), (10, vl (0 : Int64))]) rfl ?_
  refine z_iload dX1_enters_340 rfl ?_
  refine z_iconst (v := 2) dX1_enters_342 rfl ?_
  refine z_iadd dX1_enters_343 ?_
  refine z_ist dX1_enters_344 (by decide) (lv' := [(0, vr (some (16, 0, 0))), (1, vi l1), (4, vi l4), (5, vr (some (a5, 10, 0))), (6, vi l6), (7, vi l7), (8, vl (0 : Int64)), (10, vl (0 : Int64)), (12, vi (l6 + (2 : Int32)))]) rfl ?_
  exact k
theorem sX1_enters_346 {E : zE} {d : Nat} {Q : zO → zM → Prop} (M : zM) (l1 : Int32) (l4 : Int32) (a5 : Nat) (l6 : Int32) (l7 : Int32) (l8 : Int64) (l10 : Int64) (l12 : Int32) (hw : cw M) (k : if (l6 + (4 : Int32)) ≤ l12 then (∃ b1 : Nat, (gr M 16 60) = some (b1, 7, 0) ∧ (∃ b2 m2 : Nat, (gr M b1 6) = some (b2, 105, m2) ∧ (16 ≤ b2 ∧ (vp_in l6 m2 ∧ (∃ b3 : Nat, (gr M 16 60) = some (b3, 7, 0) ∧ (∃ b4 m4 : Nat, (gr M b3 7) = some (b4, 105, m4) ∧ (16 ≤ b4 ∧ (vp_in l6 m4 ∧ (∃ b5 : Nat, (gr M 16 60) = some (b5, 7, 0) ∧ (Z E YX43_at d (sl (sl M b2 (l6).toNatClampNeg l8) b4 (l6).toNatClampNeg l10) (zargs 0 [vr (some (b5, 7, 0)), vi (l7 - (2 : Int32)), vr (some (71, 4, 0))]) 0 [] (zafter E YX1_enters (d + 1) [(0, vr (some (16, 0, 0))), (1, vi l1), (4, vi l4), (5, vr (some (a5, 10, 0))), (6, vi l6)] 452 3 [] Q))))))))))) else (Z E YX1_in d M (zargs 0 [vi l12, vl (gl M 71 0), vl (gl M 71 1)]) 0 [] (zafter E YX1_enters (d + 1) [(0, vr (some (16, 0, 0))), (1, vi l1), (4, vi l4), (5, vr (some (a5, 10, 0))), (6, vi l6), (7, vi l7), (8, vl l8), (10, vl l10), (12, vi l12)] 371 3 [] Q))) : Z E YX1_enters (d + 1) M [(0, vr (some (16, 0, 0))), (1, vi l1), (4, vi l4), (5, vr (some (a5, 10, 0))), (6, vi l6), (7, vi l7), (8, vl l8), (10, vl l10), (12, vi l12)] 346 [] Q := by
  refine z_iload dX1_enters_346 rfl ?_
  refine z_iload dX1_enters_348 rfl ?_
  refine z_iconst (v := 4) dX1_enters_350 rfl ?_
  refine z_iadd dX1_enters_351 ?_
  refine z_icmp_ge (tgt := 416) dX1_enters_352 rfl (fun h_ => ?_) (fun h_ => ?_)
  · have k := zit h_ k
    refine z_aload_n dX1_enters_416 rfl rfl ?_
    refine z_getr (r := (gr M 16 60)) dX1_enters_417 fsX1_684_0 rfl ?_
    obtain ⟨b1, e1_, k⟩ := k
    refine Z.eqs (lv' := [(0, vr (some (16, 0, 0))), (1, vi l1), (4, vi l4), (5, vr (some (a5, 10, 0))), (6, vi l6), (7, vi l7), (8, vl l8), (10, vl l10), (12, vi l12)]) (st' := [vr (some (b1, 7, 0))]) rfl (by rw [e1_] <;> rfl) ?_
    refine z_getr (r := (gr M b1 6)) dX1_enters_420 fsX1_982_7 rfl ?_
    refine z_iload dX1_enters_423 rfl ?_
    refine z_lload dX1_enters_425 rfl ?_
    obtain ⟨b2, m2, e2_, k⟩ := k
    refine Z.eqs (lv' := [(0, vr (some (16, 0, 0))), (1, vi l1), (4, vi l4), (5, vr (some (a5, 10, 0))), (6, vi l6), (7, vi l7), (8, vl l8), (10, vl l10), (12, vi l12)]) (st' := [vl l8, vi l6, vr (some (b2, 105, m2))]) rfl (by rw [e2_] <;> rfl) ?_
    obtain ⟨g_, k⟩ := k
    obtain ⟨b_, k⟩ := k
    refine z_last g_ dX1_enters_427 b_ ?_
    refine z_aload_n dX1_enters_428 rfl rfl ?_
    refine z_getr (r := (gr M 16 60)) dX1_enters_429 fsX1_684_0 rfl ?_
    obtain ⟨b3, e3_, k⟩ := k
    refine Z.eqs (lv' := [(0, vr (some (16, 0, 0))), (1, vi l1), (4, vi l4), (5, vr (some (a5, 10, 0))), (6, vi l6), (7, vi l7), (8, vl l8), (10, vl l10), (12, vi l12)]) (st' := [vr (some (b3, 7, 0))]) rfl (by rw [e3_] <;> rfl) ?_
    refine z_getr (r := (gr M b3 7)) dX1_enters_432 fsX1_985_7 rfl ?_
    refine z_iload dX1_enters_435 rfl ?_
    refine z_lload dX1_enters_437 rfl ?_
    obtain ⟨b4, m4, e4_, k⟩ := k
    refine Z.eqs (lv' := [(0, vr (some (16, 0, 0))), (1, vi l1), (4, vi l4), (5, vr (some (a5, 10, 0))), (6, vi l6), (7, vi l7), (8, vl l8), (10, vl l10), (12, vi l12)]) (st' := [vl l10, vi l6, vr (some (b4, 105, m4))]) rfl (by rw [e4_] <;> rfl) ?_
    obtain ⟨g_, k⟩ := k
    obtain ⟨b_, k⟩ := k
    refine z_last g_ dX1_enters_439 b_ ?_
    refine z_aload_n dX1_enters_440 rfl rfl ?_
    refine z_getr (r := (gr M 16 60)) dX1_enters_441 fsX1_684_0 rfl ?_
    refine z_iload dX1_enters_444 rfl ?_
    refine z_iconst (v := 2) dX1_enters_446 rfl ?_
    refine z_isub dX1_enters_447 ?_
    refine z_aload_n dX1_enters_448 rfl rfl ?_
    refine z_getr dX1_enters_449 fsX1_206_0 (show gr M 16 78 = some (71, 4, 0) from cw_at hw 39 rfl) ?_
    obtain ⟨b5, e5_, k⟩ := k
    refine Z.eqs (lv' := [(0, vr (some (16, 0, 0))), (1, vi l1), (4, vi l4), (5, vr (some (a5, 10, 0))), (6, vi l6), (7, vi l7), (8, vl l8), (10, vl l10), (12, vi l12)]) (st' := [vr (some (71, 4, 0)), vi (l7 - (2 : Int32)), vr (some (b5, 7, 0))]) rfl (by rw [e5_] <;> rfl) ?_
    refine Z.pick [0, 1, 2, 3, 4] rfl ?_
    exact z_callV (as := [vi (l7 - (2 : Int32)), vr (some (71, 4, 0))]) (st := []) dX1_enters_452 vsX1_903_7 (Nat.le_refl _) (Nat.le_of_ble_eq_true rfl) (Nat.le_of_ble_eq_true rfl) rfl k
  · have k := zif h_ k
    refine z_iload dX1_enters_355 rfl ?_
    refine z_aload_n dX1_enters_357 rfl rfl ?_
    refine z_getr dX1_enters_358 fsX1_206_0 (show gr M 16 78 = some (71, 4, 0) from cw_at hw 39 rfl) ?_
    refine z_getl dX1_enters_361 fsX1_916_4 ?_
    refine z_aload_n dX1_enters_364 rfl rfl ?_
    refine z_getr dX1_enters_365 fsX1_206_0 (show gr M 16 78 = some (71, 4, 0) from cw_at hw 39 rfl) ?_
    refine z_getl dX1_enters_368 fsX1_918_4 ?_
    exact z_callS (as := [vi l12, vl (gl M 71 0), vl (gl M 71 1)]) (st := []) dX1_enters_371 ssX1_827 (Nat.le_refl _) (Nat.le_of_ble_eq_true rfl) (Nat.le_of_ble_eq_true rfl) rfl k
theorem sX1_enters_374 {E : zE} {d : Nat} {Q : zO → zM → Prop} (M : zM) (l1 : Int32) (l4 : Int32) (a5 : Nat) (l6 : Int32) (l7 : Int32) (l8 : Int64) (l10 : Int64) (l12 : Int32) (s0 : Int32) (hw : cw M) (k : if s0 = 0 then (Z E YX1_enters (d + 1) M [(0, vr (some (16, 0, 0))), (1, vi l1), (4, vi l4), (5, vr (some (a5, 10, 0))), (6, vi l6), (7, vi l7), (8, vl l8), (10, vl l10), (12, vi (l12 + (1 : Int32)))] 346 [] Q) else (∃ b1 : Nat, (gr M 16 60) = some (b1, 7, 0) ∧ (∃ b2 m2 : Nat, (gr M b1 6) = some (b2, 105, m2) ∧ (vp_in l12 m2 ∧ (∃ b3 : Nat, (gr M 16 60) = some (b3, 7, 0) ∧ (∃ b4 m4 : Nat, (gr M b3 7) = some (b4, 105, m4) ∧ (vp_in l12 m4 ∧ (Z E YX1_enters (d + 1) M [(0, vr (some (16, 0, 0))), (1, vi l1), (4, vi l4), (5, vr (some (a5, 10, 0))), (6, vi l6), (7, vi l7), (8, vl (l8 ||| (gl M b2 (l12).toNatClampNeg))), (10, vl (l10 ||| (gl M b4 (l12).toNatClampNeg))), (12, vi (l12 + (1 : Int32)))] 346 [] Q)))))))) : Z E YX1_enters (d + 1) M [(0, vr (some (16, 0, 0))), (1, vi l1), (4, vi l4), (5, vr (some (a5, 10, 0))), (6, vi l6), (7, vi l7), (8, vl l8), (10, vl l10), (12, vi l12)] 374 [vi s0] Q := by
  refine z_if_ne (tgt := 380) dX1_enters_374 rfl (fun h_ => ?_) (fun h_ => ?_)
  · have k := zif h_ k
    refine z_lload dX1_enters_380 rfl ?_
    refine z_aload_n dX1_enters_382 rfl rfl ?_
    refine z_getr (r := (gr M 16 60)) dX1_enters_383 fsX1_684_0 rfl ?_
    obtain ⟨b1, e1_, k⟩ := k
    refine Z.eqs (lv' := [(0, vr (some (16, 0, 0))), (1, vi l1), (4, vi l4), (5, vr (some (a5, 10, 0))), (6, vi l6), (7, vi l7), (8, vl l8), (10, vl l10), (12, vi l12)]) (st' := [vr (some (b1, 7, 0)), vl l8]) rfl (by rw [e1_] <;> rfl) ?_
    refine z_getr (r := (gr M b1 6)) dX1_enters_386 fsX1_982_7 rfl ?_
    refine z_iload dX1_enters_389 rfl ?_
    obtain ⟨b2, m2, e2_, k⟩ := k
    refine Z.eqs (lv' := [(0, vr (some (16, 0, 0))), (1, vi l1), (4, vi l4), (5, vr (some (a5, 10, 0))), (6, vi l6), (7, vi l7), (8, vl l8), (10, vl l10), (12, vi l12)]) (st' := [vi l12, vr (some (b2, 105, m2)), vl l8]) rfl (by rw [e2_] <;> rfl) ?_
    obtain ⟨b_, k⟩ := k
    refine z_lald dX1_enters_391 b_ ?_
    refine z_lor dX1_enters_392 ?_
    refine z_lst dX1_enters_393 (by decide) (lv' := [(0, vr (some (16, 0, 0))), (1, vi l1), (4, vi l4), (5, vr (some (a5, 10, 0))), (6, vi l6), (7, vi l7), (8, vl (l8 ||| (gl M b2 (l12).toNatClampNeg))), (10, vl l10), (12, vi l12)]) rfl ?_
    refine z_lload dX1_enters_395 rfl ?_
    refine z_aload_n dX1_enters_397 rfl rfl ?_
    refine z_getr (r := (gr M 16 60)) dX1_enters_398 fsX1_684_0 rfl ?_
    obtain ⟨b3, e3_, k⟩ := k
    refine Z.eqs (lv' := [(0, vr (some (16, 0, 0))), (1, vi l1), (4, vi l4), (5, vr (some (a5, 10, 0))), (6, vi l6), (7, vi l7), (8, vl (l8 ||| (gl M b2 (l12).toNatClampNeg))), (10, vl l10), (12, vi l12)]) (st' := [vr (some (b3, 7, 0)), vl l10]) rfl (by rw [e3_] <;> rfl) ?_
    refine z_getr (r := (gr M b3 7)) dX1_enters_401 fsX1_985_7 rfl ?_
    refine z_iload dX1_enters_404 rfl ?_
    obtain ⟨b4, m4, e4_, k⟩ := k
    refine Z.eqs (lv' := [(0, vr (some (16, 0, 0))), (1, vi l1), (4, vi l4), (5, vr (some (a5, 10, 0))), (6, vi l6), (7, vi l7), (8, vl (l8 ||| (gl M b2 (l12).toNatClampNeg))), (10, vl l10), (12, vi l12)]) (st' := [vi l12, vr (some (b4, 105, m4)), vl l10]) rfl (by rw [e4_] <;> rfl) ?_
    obtain ⟨b_, k⟩ := k
    refine z_lald dX1_enters_406 b_ ?_
    refine z_lor dX1_enters_407 ?_
    refine z_lst dX1_enters_408 (by decide) (lv' := [(0, vr (some (16, 0, 0))), (1, vi l1), (4, vi l4), (5, vr (some (a5, 10, 0))), (6, vi l6), (7, vi l7), (8, vl (l8 ||| (gl M b2 (l12).toNatClampNeg))), (10, vl (l10 ||| (gl M b4 (l12).toNatClampNeg))), (12, vi l12)]) rfl ?_
    refine z_inc (v := (l12 + (1 : Int32))) dX1_enters_410 rfl rfl (by decide) (lv' := [(0, vr (some (16, 0, 0))), (1, vi l1), (4, vi l4), (5, vr (some (a5, 10, 0))), (6, vi l6), (7, vi l7), (8, vl (l8 ||| (gl M b2 (l12).toNatClampNeg))), (10, vl (l10 ||| (gl M b4 (l12).toNatClampNeg))), (12, vi (l12 + (1 : Int32)))]) rfl ?_
    refine z_goto (tgt := 346) dX1_enters_413 rfl ?_
    exact k
  · have k := zit h_ k
    refine z_goto (tgt := 410) dX1_enters_377 rfl ?_
    refine z_inc (v := (l12 + (1 : Int32))) dX1_enters_410 rfl rfl (by decide) (lv' := [(0, vr (some (16, 0, 0))), (1, vi l1), (4, vi l4), (5, vr (some (a5, 10, 0))), (6, vi l6), (7, vi l7), (8, vl l8), (10, vl l10), (12, vi (l12 + (1 : Int32)))]) rfl ?_
    refine z_goto (tgt := 346) dX1_enters_413 rfl ?_
    exact k
theorem sX1_enters_455 {E : zE} {d : Nat} {Q : zO → zM → Prop} (M : zM) (l1 : Int32) (l4 : Int32) (a5 : Nat) (l6 : Int32) (u0 : Option zP) (hw : cw M) (k : ∃ b1 : Nat, (gr M 16 60) = some (b1, 7, 0) ∧ (16 ≤ b1 ∧ (∃ b2 : Nat, (gr M 16 60) = some (b2, 7, 0) ∧ (16 ≤ b2 ∧ (∃ b3 : Nat, (gr M 16 60) = some (b3, 7, 0) ∧ (16 ≤ b3 ∧ (if (64 : Int32) ≤ l6 then (Z E YX1_enters (d + 1) (sl (sl (sl M b1 14 (gl M 71 0)) b2 15 (gl (sl M b1 14 (gl M 71 0)) 71 1)) b3 16 (gl (sl (sl M b1 14 (gl M 71 0)) b2 15 (gl (sl M b1 14 (gl M 71 0)) 71 1)) 71 2)) [(0, vr (some (16, 0, 0))), (1, vi l1), (4, vi l4), (5, vr (some (a5, 10, 0))), (6, vi l6)] 517 [vl (0 : Int64), vr (gr M 16 60)] Q) else (Z E YX1_enters (d + 1) (sl (sl (sl M b1 14 (gl M 71 0)) b2 15 (gl (sl M b1 14 (gl M 71 0)) 71 1)) b3 16 (gl (sl (sl M b1 14 (gl M 71 0)) b2 15 (gl (sl M b1 14 (gl M 71 0)) 71 1)) 71 2)) [(0, vr (some (16, 0, 0))), (1, vi l1), (4, vi l4), (5, vr (some (a5, 10, 0))), (6, vi l6)] 517 [vl (zls (1 : Int64) l6), vr (gr M 16 60)] Q)))))))) : Z E YX1_enters (d + 1) M [(0, vr (some (16, 0, 0))), (1, vi l1), (4, vi l4), (5, vr (some (a5, 10, 0))), (6, vi l6)] 455 [vr u0] Q := by
  refine z_pop dX1_enters_455 rfl ?_
  refine z_aload_n dX1_enters_456 rfl rfl ?_
  refine z_getr (r := (gr M 16 60)) dX1_enters_457 fsX1_684_0 rfl ?_
  refine z_aload_n dX1_enters_460 rfl rfl ?_
  refine z_getr dX1_enters_461 fsX1_206_0 (show gr M 16 78 = some (71, 4, 0) from cw_at hw 39 rfl) ?_
  refine z_getl dX1_enters_464 fsX1_916_4 ?_
  obtain ⟨b1, e1_, k⟩ := k
  refine Z.eqs (lv' := [(0, vr (some (16, 0, 0))), (1, vi l1), (4, vi l4), (5, vr (some (a5, 10, 0))), (6, vi l6)]) (st' := [vl (gl M 71 0), vr (some (b1, 7, 0))]) rfl (by rw [e1_] <;> rfl) ?_
  obtain ⟨g_, k⟩ := k
  refine z_putl g_ dX1_enters_467 (zfwN.w fwX1_745_7) ?_
  refine z_aload_n dX1_enters_470 rfl rfl ?_
  refine z_getr (r := (gr M 16 60)) dX1_enters_471 fsX1_684_0 rfl ?_
  refine z_aload_n dX1_enters_474 rfl rfl ?_
  refine z_getr dX1_enters_475 fsX1_206_0 (show gr M 16 78 = some (71, 4, 0) from cw_at hw 39 rfl) ?_
  refine z_getl dX1_enters_478 fsX1_918_4 ?_
  obtain ⟨b2, e2_, k⟩ := k
  refine Z.eqs (lv' := [(0, vr (some (16, 0, 0))), (1, vi l1), (4, vi l4), (5, vr (some (a5, 10, 0))), (6, vi l6)]) (st' := [vl (gl (sl M b1 14 (gl M 71 0)) 71 1), vr (some (b2, 7, 0))]) rfl (by rw [e2_] <;> rfl) ?_
  obtain ⟨g_, k⟩ := k
  refine z_putl g_ dX1_enters_481 (zfwN.w fwX1_748_7) ?_
  refine z_aload_n dX1_enters_484 rfl rfl ?_
  refine z_getr (r := (gr M 16 60)) dX1_enters_485 fsX1_684_0 rfl ?_
  refine z_aload_n dX1_enters_488 rfl rfl ?_
  refine z_getr dX1_enters_489 fsX1_206_0 (show gr M 16 78 = some (71, 4, 0) from cw_at hw 39 rfl) ?_
  refine z_getl dX1_enters_492 fsX1_920_4 ?_
  obtain ⟨b3, e3_, k⟩ := k
  refine Z.eqs (lv' := [(0, vr (some (16, 0, 0))), (1, vi l1), (4, vi l4), (5, vr (some (a5, 10, 0))), (6, vi l6)]) (st' := [vl (gl (sl (sl M b1 14 (gl M 71 0)) b2 15 (gl (sl M b1 14 (gl M 71 0)) 71 1)) 71 2), vr (some (b3, 7, 0))]) rfl (by rw [e3_] <;> rfl) ?_
  obtain ⟨g_, k⟩ := k
  refine z_putl g_ dX1_enters_495 (zfwN.w fwX1_751_7) ?_
  refine z_aload_n dX1_enters_498 rfl rfl ?_
  refine z_getr (r := (gr M 16 60)) dX1_enters_499 fsX1_684_0 rfl ?_
  refine z_iload dX1_enters_502 rfl ?_
  refine z_bipush (v := 64) dX1_enters_504 rfl ?_
  refine z_icmp_ge (tgt := 516) dX1_enters_506 rfl (fun h_ => ?_) (fun h_ => ?_)
  · have k := zit h_ k
    refine z_lconst (v := 0) dX1_enters_516 rfl ?_
    exact k
  · have k := zif h_ k
    refine z_lconst (v := 1) dX1_enters_509 rfl ?_
    refine z_iload dX1_enters_510 rfl ?_
    refine z_lshl dX1_enters_512 ?_
    refine z_goto (tgt := 517) dX1_enters_513 rfl ?_
    exact k
theorem sX1_enters_517 {E : zE} {d : Nat} {Q : zO → zM → Prop} (M : zM) (l1 : Int32) (l4 : Int32) (a5 : Nat) (l6 : Int32) (s0 : Int64) (u1 : Option zP) (hw : cw M) (k : ∃ b1 : Nat, u1 = some (b1, 7, 0) ∧ (16 ≤ b1 ∧ (if (64 : Int32) ≤ l6 then (Z E YX1_enters (d + 1) (sl M b1 17 s0) [(0, vr (some (16, 0, 0))), (1, vi l1), (4, vi l4), (5, vr (some (a5, 10, 0)))] 542 [vl (zls (1 : Int64) (l6 - (64 : Int32))), vr (gr M 16 60)] Q) else (Z E YX1_enters (d + 1) (sl M b1 17 s0) [(0, vr (some (16, 0, 0))), (1, vi l1), (4, vi l4), (5, vr (some (a5, 10, 0)))] 542 [vl (0 : Int64), vr (gr M 16 60)] Q)))) : Z E YX1_enters (d + 1) M [(0, vr (some (16, 0, 0))), (1, vi l1), (4, vi l4), (5, vr (some (a5, 10, 0))), (6, vi l6)] 517 [vl s0, vr u1] Q := by
  obtain ⟨b1, e1_, k⟩ := k
  refine Z.eqs (lv' := [(0, vr (some (16, 0, 0))), (1, vi l1), (4, vi l4), (5, vr (some (a5, 10, 0))), (6, vi l6)]) (st' := [vl s0, vr (some (b1, 7, 0))]) rfl (by rw [e1_] <;> rfl) ?_
  obtain ⟨g_, k⟩ := k
  refine z_putl g_ dX1_enters_517 (zfwN.w fwX1_754_7) ?_
  refine z_aload_n dX1_enters_520 rfl rfl ?_
  refine z_getr (r := (gr M 16 60)) dX1_enters_521 fsX1_684_0 rfl ?_
  refine z_iload dX1_enters_524 rfl ?_
  refine z_bipush (v := 64) dX1_enters_526 rfl ?_
  refine z_icmp_ge (tgt := 535) dX1_enters_528 rfl (fun h_ => ?_) (fun h_ => ?_)
  · have k := zit h_ k
    refine z_lconst (v := 1) dX1_enters_535 rfl ?_
    refine z_iload dX1_enters_536 rfl ?_
    refine z_bipush (v := 64) dX1_enters_538 rfl ?_
    refine z_isub dX1_enters_540 ?_
    refine z_lshl dX1_enters_541 ?_
    refine Z.pick [0, 1, 2, 3] rfl ?_
    exact k
  · have k := zif h_ k
    refine z_lconst (v := 0) dX1_enters_531 rfl ?_
    refine z_goto (tgt := 542) dX1_enters_532 rfl ?_
    refine Z.pick [0, 1, 2, 3] rfl ?_
    exact k
theorem sX1_enters_542 {E : zE} {d : Nat} {Q : zO → zM → Prop} (M : zM) (l1 : Int32) (l4 : Int32) (a5 : Nat) (s0 : Int64) (u1 : Option zP) (hw : cw M) (k : ∃ b1 : Nat, u1 = some (b1, 7, 0) ∧ (16 ≤ b1 ∧ (∃ b2 : Nat, (gr M 16 60) = some (b2, 7, 0) ∧ (16 ≤ b2 ∧ (Z E YX1_goes d (si (sl M b1 18 s0) b2 13 (0 : Int32)) (zargs 0 [vr (some (16, 0, 0)), vi (gi (si (sl M b1 18 s0) b2 13 (0 : Int32)) a5 9), vr (gr M 16 60)]) 0 [] (zafter E YX1_enters (d + 1) [(0, vr (some (16, 0, 0))), (1, vi l1), (4, vi l4)] 563 3 [] Q)))))) : Z E YX1_enters (d + 1) M [(0, vr (some (16, 0, 0))), (1, vi l1), (4, vi l4), (5, vr (some (a5, 10, 0)))] 542 [vl s0, vr u1] Q := by
  obtain ⟨b1, e1_, k⟩ := k
  refine Z.eqs (lv' := [(0, vr (some (16, 0, 0))), (1, vi l1), (4, vi l4), (5, vr (some (a5, 10, 0)))]) (st' := [vl s0, vr (some (b1, 7, 0))]) rfl (by rw [e1_] <;> rfl) ?_
  obtain ⟨g_, k⟩ := k
  refine z_putl g_ dX1_enters_542 (zfwN.w fwX1_757_7) ?_
  refine z_aload_n dX1_enters_545 rfl rfl ?_
  refine z_getr (r := (gr M 16 60)) dX1_enters_546 fsX1_684_0 rfl ?_
  refine z_iconst (v := 0) dX1_enters_549 rfl ?_
  obtain ⟨b2, e2_, k⟩ := k
  refine Z.eqs (lv' := [(0, vr (some (16, 0, 0))), (1, vi l1), (4, vi l4), (5, vr (some (a5, 10, 0)))]) (st' := [vi (0 : Int32), vr (some (b2, 7, 0))]) rfl (by rw [e2_] <;> rfl) ?_
  obtain ⟨g_, k⟩ := k
  refine z_puti g_ dX1_enters_550 (zfwN.w fwX1_726_7) rfl ⟨rfl, rfl⟩ ?_
  refine z_aload_n dX1_enters_553 rfl rfl ?_
  refine z_aload dX1_enters_554 rfl ?_
  refine z_geti dX1_enters_556 fsX1_449_10 ?_
  refine z_aload_n dX1_enters_559 rfl rfl ?_
  refine z_getr (r := (gr M 16 60)) dX1_enters_560 fsX1_684_0 rfl ?_
  refine Z.pick [0, 1, 2] rfl ?_
  exact z_callV (as := [vi (gi (si (sl M b1 18 s0) b2 13 (0 : Int32)) a5 9), vr (gr M 16 60)]) (st := []) dX1_enters_563 vsX1_703_0 (Nat.le_refl _) (Nat.le_of_ble_eq_true rfl) (Nat.le_of_ble_eq_true rfl) rfl k
theorem sX1_enters_566 {E : zE} {d : Nat} {Q : zO → zM → Prop} (M : zM) (l1 : Int32) (l4 : Int32) (hw : cw M) (k : ∃ b1 : Nat, (gr M 16 60) = some (b1, 7, 0) ∧ (Z E YX43_copy d M (zargs 0 [vr (some (b1, 7, 0)), vr (gr M 16 61)]) 0 [] (zafter E YX1_enters (d + 1) [(0, vr (some (16, 0, 0))), (1, vi l1), (4, vi l4)] 574 3 [] Q))) : Z E YX1_enters (d + 1) M [(0, vr (some (16, 0, 0))), (1, vi l1), (4, vi l4)] 566 [] Q := by
  refine z_aload_n dX1_enters_566 rfl rfl ?_
  refine z_getr (r := (gr M 16 60)) dX1_enters_567 fsX1_684_0 rfl ?_
  refine z_aload_n dX1_enters_570 rfl rfl ?_
  refine z_getr (r := (gr M 16 61)) dX1_enters_571 fsX1_688_0 rfl ?_
  obtain ⟨b1, e1_, k⟩ := k
  refine Z.eqs (lv' := [(0, vr (some (16, 0, 0))), (1, vi l1), (4, vi l4)]) (st' := [vr (gr M 16 61), vr (some (b1, 7, 0))]) rfl (by rw [e1_] <;> rfl) ?_
  exact z_callV (as := [vr (gr M 16 61)]) (st := []) dX1_enters_574 vsX1_1059_7 (Nat.le_refl _) (Nat.le_of_ble_eq_true rfl) (Nat.le_of_ble_eq_true rfl) rfl k
theorem sX1_enters_577 {E : zE} {d : Nat} {Q : zO → zM → Prop} (M : zM) (l1 : Int32) (l4 : Int32) (hw : cw M) (k : Z E YX1_comesBack d M (zargs 0 [vr (some (16, 0, 0)), vi ((gi M 16 75) + ((2 : Int32) * l1)), vi l4]) 0 [] (zafter E YX1_enters (d + 1) [] 588 3 [] Q)) : Z E YX1_enters (d + 1) M [(0, vr (some (16, 0, 0))), (1, vi l1), (4, vi l4)] 577 [] Q := by
  refine z_aload_n dX1_enters_577 rfl rfl ?_
  refine z_aload_n dX1_enters_578 rfl rfl ?_
  refine z_geti dX1_enters_579 fsX1_694_0 ?_
  refine z_iconst (v := 2) dX1_enters_582 rfl ?_
  refine z_iload_n dX1_enters_583 rfl rfl ?_
  refine z_imul dX1_enters_584 ?_
  refine z_iadd dX1_enters_585 ?_
  refine z_iload dX1_enters_586 rfl ?_
  refine Z.pick [] rfl ?_
  exact z_callV (as := [vi ((gi M 16 75) + ((2 : Int32) * l1)), vi l4]) (st := []) dX1_enters_588 vsX1_1066_0 (Nat.le_refl _) (Nat.le_of_ble_eq_true rfl) (Nat.le_of_ble_eq_true rfl) rfl k
theorem sX1_enters_591 {E : zE} {d : Nat} {Q : zO → zM → Prop} (M : zM)  (hw : cw M) (k : Q (.inl none) M) : Z E YX1_enters (d + 1) M [] 591 [] Q := by
  exact z_vret dX1_enters_591 rfl k
