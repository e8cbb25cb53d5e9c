/-! ScriptTypesModel.isPrefix()Z -/
theorem bX8_isPrefix_0 : zdec cX8_isPrefix 0 [(0, .aload_n 0, 1), (1, .bipush 35, 2), (3, .invokevirtual 398, 3), (6, .ifCond .ne 74, 3), (9, .aload_n 0, 1), (10, .bipush 36, 2), (12, .invokevirtual 398, 3), (15, .ifCond .ne 65, 3), (18, .aload_n 0, 1), (19, .bipush 44, 2), (21, .invokevirtual 398, 3), (24, .ifCond .ne 56, 3), (27, .aload_n 0, 1), (28, .bipush 43, 2), (30, .invokevirtual 398, 3), (33, .ifCond .ne 47, 3)] = true := by decide +kernel
theorem dX8_isPrefix_0 : decode cX8_isPrefix 0 = .ok (.aload_n 0, 1) := zdec_at bX8_isPrefix_0 0 rfl
theorem dX8_isPrefix_1 : decode cX8_isPrefix 1 = .ok (.bipush 35, 2) := zdec_at bX8_isPrefix_0 1 rfl
theorem dX8_isPrefix_3 : decode cX8_isPrefix 3 = .ok (.invokevirtual 398, 3) := zdec_at bX8_isPrefix_0 2 rfl
theorem dX8_isPrefix_6 : decode cX8_isPrefix 6 = .ok (.ifCond .ne 74, 3) := zdec_at bX8_isPrefix_0 3 rfl
theorem dX8_isPrefix_9 : decode cX8_isPrefix 9 = .ok (.aload_n 0, 1) := zdec_at bX8_isPrefix_0 4 rfl
theorem dX8_isPrefix_10 : decode cX8_isPrefix 10 = .ok (.bipush 36, 2) := zdec_at bX8_isPrefix_0 5 rfl
theorem dX8_isPrefix_12 : decode cX8_isPrefix 12 = .ok (.invokevirtual 398, 3) := zdec_at bX8_isPrefix_0 6 rfl
theorem dX8_isPrefix_15 : decode cX8_isPrefix 15 = .ok (.ifCond .ne 65, 3) := zdec_at bX8_isPrefix_0 7 rfl
theorem dX8_isPrefix_18 : decode cX8_isPrefix 18 = .ok (.aload_n 0, 1) := zdec_at bX8_isPrefix_0 8 rfl
theorem dX8_isPrefix_19 : decode cX8_isPrefix 19 = .ok (.bipush 44, 2) := zdec_at bX8_isPrefix_0 9 rfl
theorem dX8_isPrefix_21 : decode cX8_isPrefix 21 = .ok (.invokevirtual 398, 3) := zdec_at bX8_isPrefix_0 10 rfl
theorem dX8_isPrefix_24 : decode cX8_isPrefix 24 = .ok (.ifCond .ne 56, 3) := zdec_at bX8_isPrefix_0 11 rfl
theorem dX8_isPrefix_27 : decode cX8_isPrefix 27 = .ok (.aload_n 0, 1) := zdec_at bX8_isPrefix_0 12 rfl
theorem dX8_isPrefix_28 : decode cX8_isPrefix 28 = .ok (.bipush 43, 2) := zdec_at bX8_isPrefix_0 13 rfl
theorem dX8_isPrefix_30 : decode cX8_isPrefix 30 = .ok (.invokevirtual 398, 3) := zdec_at bX8_isPrefix_0 14 rfl
theorem dX8_isPrefix_33 : decode cX8_isPrefix 33 = .ok (.ifCond .ne 47, 3) := zdec_at bX8_isPrefix_0 15 rfl
theorem bX8_isPrefix_36 : zdec cX8_isPrefix 36 [(36, .aload_n 0, 1), (37, .bipush 10, 2), (39, .invokevirtual 398, 3), (42, .ifCond .ne 38, 3), (45, .aload_n 0, 1), (46, .bipush 11, 2), (48, .invokevirtual 398, 3), (51, .ifCond .ne 29, 3), (54, .aload_n 0, 1), (55, .iconst 5, 1), (56, .invokevirtual 404, 3), (59, .ifCond .ne 21, 3), (62, .aload_n 0, 1), (63, .bipush 27, 2), (65, .invokevirtual 404, 3), (68, .ifCond .ne 12, 3)] = true := by decide +kernel
theorem dX8_isPrefix_36 : decode cX8_isPrefix 36 = .ok (.aload_n 0, 1) := zdec_at bX8_isPrefix_36 0 rfl
theorem dX8_isPrefix_37 : decode cX8_isPrefix 37 = .ok (.bipush 10, 2) := zdec_at bX8_isPrefix_36 1 rfl
theorem dX8_isPrefix_39 : decode cX8_isPrefix 39 = .ok (.invokevirtual 398, 3) := zdec_at bX8_isPrefix_36 2 rfl
theorem dX8_isPrefix_42 : decode cX8_isPrefix 42 = .ok (.ifCond .ne 38, 3) := zdec_at bX8_isPrefix_36 3 rfl
theorem dX8_isPrefix_45 : decode cX8_isPrefix 45 = .ok (.aload_n 0, 1) := zdec_at bX8_isPrefix_36 4 rfl
theorem dX8_isPrefix_46 : decode cX8_isPrefix 46 = .ok (.bipush 11, 2) := zdec_at bX8_isPrefix_36 5 rfl
theorem dX8_isPrefix_48 : decode cX8_isPrefix 48 = .ok (.invokevirtual 398, 3) := zdec_at bX8_isPrefix_36 6 rfl
theorem dX8_isPrefix_51 : decode cX8_isPrefix 51 = .ok (.ifCond .ne 29, 3) := zdec_at bX8_isPrefix_36 7 rfl
theorem dX8_isPrefix_54 : decode cX8_isPrefix 54 = .ok (.aload_n 0, 1) := zdec_at bX8_isPrefix_36 8 rfl
theorem dX8_isPrefix_55 : decode cX8_isPrefix 55 = .ok (.iconst 5, 1) := zdec_at bX8_isPrefix_36 9 rfl
theorem dX8_isPrefix_56 : decode cX8_isPrefix 56 = .ok (.invokevirtual 404, 3) := zdec_at bX8_isPrefix_36 10 rfl
theorem dX8_isPrefix_59 : decode cX8_isPrefix 59 = .ok (.ifCond .ne 21, 3) := zdec_at bX8_isPrefix_36 11 rfl
theorem dX8_isPrefix_62 : decode cX8_isPrefix 62 = .ok (.aload_n 0, 1) := zdec_at bX8_isPrefix_36 12 rfl
theorem dX8_isPrefix_63 : decode cX8_isPrefix 63 = .ok (.bipush 27, 2) := zdec_at bX8_isPrefix_36 13 rfl
theorem dX8_isPrefix_65 : decode cX8_isPrefix 65 = .ok (.invokevirtual 404, 3) := zdec_at bX8_isPrefix_36 14 rfl
theorem dX8_isPrefix_68 : decode cX8_isPrefix 68 = .ok (.ifCond .ne 12, 3) := zdec_at bX8_isPrefix_36 15 rfl
theorem bX8_isPrefix_71 : zdec cX8_isPrefix 71 [(71, .aload_n 0, 1), (72, .bipush 24, 2), (74, .invokevirtual 404, 3), (77, .ifCond .eq 7, 3), (80, .iconst 1, 1), (81, .goto 4, 3), (84, .iconst 0, 1), (85, .ireturn, 1)] = true := by decide +kernel
theorem dX8_isPrefix_71 : decode cX8_isPrefix 71 = .ok (.aload_n 0, 1) := zdec_at bX8_isPrefix_71 0 rfl
theorem dX8_isPrefix_72 : decode cX8_isPrefix 72 = .ok (.bipush 24, 2) := zdec_at bX8_isPrefix_71 1 rfl
theorem dX8_isPrefix_74 : decode cX8_isPrefix 74 = .ok (.invokevirtual 404, 3) := zdec_at bX8_isPrefix_71 2 rfl
theorem dX8_isPrefix_77 : decode cX8_isPrefix 77 = .ok (.ifCond .eq 7, 3) := zdec_at bX8_isPrefix_71 3 rfl
theorem dX8_isPrefix_80 : decode cX8_isPrefix 80 = .ok (.iconst 1, 1) := zdec_at bX8_isPrefix_71 4 rfl
theorem dX8_isPrefix_81 : decode cX8_isPrefix 81 = .ok (.goto 4, 3) := zdec_at bX8_isPrefix_71 5 rfl
theorem dX8_isPrefix_84 : decode cX8_isPrefix 84 = .ok (.iconst 0, 1) := zdec_at bX8_isPrefix_71 6 rfl
theorem dX8_isPrefix_85 : decode cX8_isPrefix 85 = .ok (.ireturn, 1) := zdec_at bX8_isPrefix_71 7 rfl
theorem sX8_isPrefix_0 {E : zE} {d : Nat} {Q : zO → zM → Prop} (M : zM)  (k : Zm E YX8_isSign d M (zargs 0 [vr (some (97, 1, 0)), vi (35 : Int32)]) 0 [] (zma E YX8_isPrefix (d + 1) [(0, vr (some (97, 1, 0)))] 3 3 [] Q)) : Zm E YX8_isPrefix (d + 1) M [(0, vr (some (97, 1, 0)))] 0 [] Q := by
  refine Zm.l (fun _ _ k_ => z_aload_n dX8_isPrefix_0 rfl rfl k_) ?_
  refine Zm.l (fun _ _ k_ => z_bipush (v := 35) dX8_isPrefix_1 rfl k_) ?_
  exact zm_callV (as := [vi (35 : Int32)]) (st := []) dX8_isPrefix_3 vsX8_398_1 (Nat.le_refl _) (Nat.le_of_ble_eq_true rfl) (Nat.le_of_ble_eq_true rfl) rfl k
theorem sX8_isPrefix_6 {E : zE} {d : Nat} {Q : zO → zM → Prop} (M : zM) (s0 : Int32) (k : if s0 = 0 then (Zm E YX8_isSign d M (zargs 0 [vr (some (97, 1, 0)), vi (36 : Int32)]) 0 [] (zma E YX8_isPrefix (d + 1) [(0, vr (some (97, 1, 0)))] 12 3 [] Q)) else (Q (.inl (some (vi (1 : Int32)))) M)) : Zm E YX8_isPrefix (d + 1) M [(0, vr (some (97, 1, 0)))] 6 [vi s0] Q := by
  refine Zm.brn (fun _ _ k1_ k2_ => z_if_ne (tgt := 80) dX8_isPrefix_6 rfl k1_ k2_) (fun h_ => ?_) (fun h_ => ?_)
  · have k := zif h_ k
    refine Zm.l (fun _ _ k_ => z_iconst (v := 1) dX8_isPrefix_80 rfl k_) ?_
    refine Zm.l (fun _ _ k_ => z_goto (tgt := 85) dX8_isPrefix_81 rfl k_) ?_
    exact zm_iret dX8_isPrefix_85 rfl (by decide) k
  · have k := zit h_ k
    refine Zm.l (fun _ _ k_ => z_aload_n dX8_isPrefix_9 rfl rfl k_) ?_
    refine Zm.l (fun _ _ k_ => z_bipush (v := 36) dX8_isPrefix_10 rfl k_) ?_
    exact zm_callV (as := [vi (36 : Int32)]) (st := []) dX8_isPrefix_12 vsX8_398_1 (Nat.le_refl _) (Nat.le_of_ble_eq_true rfl) (Nat.le_of_ble_eq_true rfl) rfl k
theorem sX8_isPrefix_15 {E : zE} {d : Nat} {Q : zO → zM → Prop} (M : zM) (s0 : Int32) (k : if s0 = 0 then (Zm E YX8_isSign d M (zargs 0 [vr (some (97, 1, 0)), vi (44 : Int32)]) 0 [] (zma E YX8_isPrefix (d + 1) [(0, vr (some (97, 1, 0)))] 21 3 [] Q)) else (Q (.inl (some (vi (1 : Int32)))) M)) : Zm E YX8_isPrefix (d + 1) M [(0, vr (some (97, 1, 0)))] 15 [vi s0] Q := by
  refine Zm.brn (fun _ _ k1_ k2_ => z_if_ne (tgt := 80) dX8_isPrefix_15 rfl k1_ k2_) (fun h_ => ?_) (fun h_ => ?_)
  · have k := zif h_ k
    refine Zm.l (fun _ _ k_ => z_iconst (v := 1) dX8_isPrefix_80 rfl k_) ?_
    refine Zm.l (fun _ _ k_ => z_goto (tgt := 85) dX8_isPrefix_81 rfl k_) ?_
    exact zm_iret dX8_isPrefix_85 rfl (by decide) k
  · have k := zit h_ k
    refine Zm.l (fun _ _ k_ => z_aload_n dX8_isPrefix_18 rfl rfl k_) ?_
    refine Zm.l (fun _ _ k_ => z_bipush (v := 44) dX8_isPrefix_19 rfl k_) ?_
    exact zm_callV (as := [vi (44 : Int32)]) (st := []) dX8_isPrefix_21 vsX8_398_1 (Nat.le_refl _) (Nat.le_of_ble_eq_true rfl) (Nat.le_of_ble_eq_true rfl) rfl k
theorem sX8_isPrefix_24 {E : zE} {d : Nat} {Q : zO → zM → Prop} (M : zM) (s0 : Int32) (k : if s0 = 0 then (Zm E YX8_isSign d M (zargs 0 [vr (some (97, 1, 0)), vi (43 : Int32)]) 0 [] (zma E YX8_isPrefix (d + 1) [(0, vr (some (97, 1, 0)))] 30 3 [] Q)) else (Q (.inl (some (vi (1 : Int32)))) M)) : Zm E YX8_isPrefix (d + 1) M [(0, vr (some (97, 1, 0)))] 24 [vi s0] Q := by
  refine Zm.brn (fun _ _ k1_ k2_ => z_if_ne (tgt := 80) dX8_isPrefix_24 rfl k1_ k2_) (fun h_ => ?_) (fun h_ => ?_)
  · have k := zif h_ k
    refine Zm.l (fun _ _ k_ => z_iconst (v := 1) dX8_isPrefix_80 rfl k_) ?_
    refine Zm.l (fun _ _ k_ => z_goto (tgt := 85) dX8_isPrefix_81 rfl k_) ?_
    exact zm_iret dX8_isPrefix_85 rfl (by decide) k
  · have k := zit h_ k
    refine Zm.l (fun _ _ k_ => z_aload_n dX8_isPrefix_27 rfl rfl k_) ?_
    refine Zm.l (fun _ _ k_ => z_bipush (v := 43) dX8_isPrefix_28 rfl k_) ?_
    exact zm_callV (as := [vi (43 : Int32)]) (st := []) dX8_isPrefix_30 vsX8_398_1 (Nat.le_refl _) (Nat.le_of_ble_eq_true rfl) (Nat.le_of_ble_eq_true rfl) rfl k
theorem sX8_isPrefix_33 {E : zE} {d : Nat} {Q : zO → zM → Prop} (M : zM) (s0 : Int32) (k : if s0 = 0 then (Zm E YX8_isSign d M (zargs 0 [vr (some (97, 1, 0)), vi (10 : Int32)]) 0 [] (zma E YX8_isPrefix (d + 1) [(0, vr (some (97, 1, 0)))] 39 3 [] Q)) else (Q (.inl (some (vi (1 : Int32)))) M)) : Zm E YX8_isPrefix (d + 1) M [(0, vr (some (97, 1, 0)))] 33 [vi s0] Q := by
  refine Zm.brn (fun _ _ k1_ k2_ => z_if_ne (tgt := 80) dX8_isPrefix_33 rfl k1_ k2_) (fun h_ => ?_) (fun h_ => ?_)
  · have k := zif h_ k
    refine Zm.l (fun _ _ k_ => z_iconst (v := 1) dX8_isPrefix_80 rfl k_) ?_
    refine Zm.l (fun _ _ k_ => z_goto (tgt := 85) dX8_isPrefix_81 rfl k_) ?_
    exact zm_iret dX8_isPrefix_85 rfl (by decide) k
  · have k := zit h_ k
    refine Zm.l (fun _ _ k_ => z_aload_n dX8_isPrefix_36 rfl rfl k_) ?_
    refine Zm.l (fun _ _ k_ => z_bipush (v := 10) dX8_isPrefix_37 rfl k_) ?_
    exact zm_callV (as := [vi (10 : Int32)]) (st := []) dX8_isPrefix_39 vsX8_398_1 (Nat.le_refl _) (Nat.le_of_ble_eq_true rfl) (Nat.le_of_ble_eq_true rfl) rfl k
theorem sX8_isPrefix_42 {E : zE} {d : Nat} {Q : zO → zM → Prop} (M : zM) (s0 : Int32) (k : if s0 = 0 then (Zm E YX8_isSign d M (zargs 0 [vr (some (97, 1, 0)), vi (11 : Int32)]) 0 [] (zma E YX8_isPrefix (d + 1) [(0, vr (some (97, 1, 0)))] 48 3 [] Q)) else (Q (.inl (some (vi (1 : Int32)))) M)) : Zm E YX8_isPrefix (d + 1) M [(0, vr (some (97, 1, 0)))] 42 [vi s0] Q := by
  refine Zm.brn (fun _ _ k1_ k2_ => z_if_ne (tgt := 80) dX8_isPrefix_42 rfl k1_ k2_) (fun h_ => ?_) (fun h_ => ?_)
  · have k := zif h_ k
    refine Zm.l (fun _ _ k_ => z_iconst (v := 1) dX8_isPrefix_80 rfl k_) ?_
    refine Zm.l (fun _ _ k_ => z_goto (tgt := 85) dX8_isPrefix_81 rfl k_) ?_
    exact zm_iret dX8_isPrefix_85 rfl (by decide) k
  · have k := zit h_ k
    refine Zm.l (fun _ _ k_ => z_aload_n dX8_isPrefix_45 rfl rfl k_) ?_
    refine Zm.l (fun _ _ k_ => z_bipush (v := 11) dX8_isPrefix_46 rfl k_) ?_
    exact zm_callV (as := [vi (11 : Int32)]) (st := []) dX8_isPrefix_48 vsX8_398_1 (Nat.le_refl _) (Nat.le_of_ble_eq_true rfl) (Nat.le_of_ble_eq_true rfl) rfl k
theorem sX8_isPrefix_51 {E : zE} {d : Nat} {Q : zO → zM → Prop} (M : zM) (s0 : Int32) (k : if s0 = 0 then (Zm E YX8_isKeyword d M (zargs 0 [vr (some (97, 1, 0)), vi (5 : Int32)]) 0 [] (zma E YX8_isPrefix (d + 1) [(0, vr (some (97, 1, 0)))] 56 3 [] Q)) else (Q (.inl (some (vi (1 : Int32)))) M)) : Zm E YX8_isPrefix (d + 1) M [(0, vr (some (97, 1, 0)))] 51 [vi s0] Q := by
  refine Zm.brn (fun _ _ k1_ k2_ => z_if_ne (tgt := 80) dX8_isPrefix_51 rfl k1_ k2_) (fun h_ => ?_) (fun h_ => ?_)
  · have k := zif h_ k
    refine Zm.l (fun _ _ k_ => z_iconst (v := 1) dX8_isPrefix_80 rfl k_) ?_
    refine Zm.l (fun _ _ k_ => z_goto (tgt := 85) dX8_isPrefix_81 rfl k_) ?_
    exact zm_iret dX8_isPrefix_85 rfl (by decide) k
  · have k := zit h_ k
    refine Zm.l (fun _ _ k_ => z_aload_n dX8_isPrefix_54 rfl rfl k_) ?_
    refine Zm.l (fun _ _ k_ => z_iconst (v := 5) dX8_isPrefix_55 rfl k_) ?_
    exact zm_callV (as := [vi (5 : Int32)]) (st := []) dX8_isPrefix_56 vsX8_404_1 (Nat.le_refl _) (Nat.le_of_ble_eq_true rfl) (Nat.le_of_ble_eq_true rfl) rfl k
theorem sX8_isPrefix_59 {E : zE} {d : Nat} {Q : zO → zM → Prop} (M : zM) (s0 : Int32) (k : if s0 = 0 then (Zm E YX8_isKeyword d M (zargs 0 [vr (some (97, 1, 0)), vi (27 : Int32)]) 0 [] (zma E YX8_isPrefix (d + 1) [(0, vr (some (97, 1, 0)))] 65 3 [] Q)) else (Q (.inl (some (vi (1 : Int32)))) M)) : Zm E YX8_isPrefix (d + 1) M [(0, vr (some (97, 1, 0)))] 59 [vi s0] Q := by
  refine Zm.brn (fun _ _ k1_ k2_ => z_if_ne (tgt := 80) dX8_isPrefix_59 rfl k1_ k2_) (fun h_ => ?_) (fun h_ => ?_)
  · have k := zif h_ k
    refine Zm.l (fun _ _ k_ => z_iconst (v := 1) dX8_isPrefix_80 rfl k_) ?_
    refine Zm.l (fun _ _ k_ => z_goto (tgt := 85) dX8_isPrefix_81 rfl k_) ?_
    exact zm_iret dX8_isPrefix_85 rfl (by decide) k
  · have k := zit h_ k
    refine Zm.l (fun _ _ k_ => z_aload_n dX8_isPrefix_62 rfl rfl k_) ?_
    refine Zm.l (fun _ _ k_ => z_bipush (v := 27) dX8_isPrefix_63 rfl k_) ?_
    exact zm_callV (as := [vi (27 : Int32)]) (st := []) dX8_isPrefix_65 vsX8_404_1 (Nat.le_refl _) (Nat.le_of_ble_eq_true rfl) (Nat.le_of_ble_eq_true rfl) rfl k
theorem sX8_isPrefix_68 {E : zE} {d : Nat} {Q : zO → zM → Prop} (M : zM) (s0 : Int32) (k : if s0 = 0 then (Zm E YX8_isKeyword d M (zargs 0 [vr (some (97, 1, 0)), vi (24 : Int32)]) 0 [] (zma E YX8_isPrefix (d + 1) [] 74 3 [] Q)) else (Q (.inl (some (vi (1 : Int32)))) M)) : Zm E YX8_isPrefix (d + 1) M [(0, vr (some (97, 1, 0)))] 68 [vi s0] Q := by
  refine Zm.brn (fun _ _ k1_ k2_ => z_if_ne (tgt := 80) dX8_isPrefix_68 rfl k1_ k2_) (fun h_ => ?_) (fun h_ => ?_)
  · have k := zif h_ k
    refine Zm.l (fun _ _ k_ => z_iconst (v := 1) dX8_isPrefix_80 rfl k_) ?_
    refine Zm.l (fun _ _ k_ => z_goto (tgt := 85) dX8_isPrefix_81 rfl k_) ?_
    exact zm_iret dX8_isPrefix_85 rfl (by decide) k
  · have k := zit h_ k
    refine Zm.l (fun _ _ k_ => z_aload_n dX8_isPrefix_71 rfl rfl k_) ?_
    refine Zm.l (fun _ _ k_ => z_bipush (v := 24) dX8_isPrefix_72 rfl k_) ?_
    refine Zm.pick [] rfl ?_
    exact zm_callV (as := [vi (24 : Int32)]) (st := []) dX8_isPrefix_74 vsX8_404_1 (Nat.le_refl _) (Nat.le_of_ble_eq_true rfl) (Nat.le_of_ble_eq_true rfl) rfl k
theorem sX8_isPrefix_77 {E : zE} {d : Nat} {Q : zO → zM → Prop} (M : zM) (s0 : Int32) (k : if s0 = 0 then (Q (.inl (some (vi (0 : Int32)))) M) else (Q (.inl (some (vi (1 : Int32)))) M)) : Zm E YX8_isPrefix (d + 1) M [] 77 [vi s0] Q := by
  refine Zm.br (fun _ _ k1_ k2_ => z_if_eq (tgt := 84) dX8_isPrefix_77 rfl k1_ k2_) (fun h_ => ?_) (fun h_ => ?_)
  · have k := zit h_ k
    refine Zm.l (fun _ _ k_ => z_iconst (v := 0) dX8_isPrefix_84 rfl k_) ?_
    exact zm_iret dX8_isPrefix_85 rfl (by decide) k
  · have k := zif h_ k
    refine Zm.l (fun _ _ k_ => z_iconst (v := 1) dX8_isPrefix_80 rfl k_) ?_
    refine Zm.l (fun _ _ k_ => z_goto (tgt := 85) dX8_isPrefix_81 rfl k_) ?_
    exact zm_iret dX8_isPrefix_85 rfl (by decide) k
/-! ScriptTypesModel.isLiteral()Z -/
theorem bX8_isLiteral_0 : zdec cX8_isLiteral 0 [(0, .aload_n 0, 1), (1, .bipush 22, 2), (3, .invokevirtual 404, 3), (6, .ifCond .ne 39, 3), (9, .aload_n 0, 1), (10, .bipush 8, 2), (12, .invokevirtual 404, 3), (15, .ifCond .ne 30, 3), (18, .aload_n 0, 1), (19, .bipush 17, 2), (21, .invokevirtual 404, 3), (24, .ifCond .ne 21, 3), (27, .aload_n 0, 1), (28, .bipush 25, 2), (30, .invokevirtual 404, 3), (33, .ifCond .ne 12, 3)] = true := by decide +kernel
theorem dX8_isLiteral_0 : decode cX8_isLiteral 0 = .ok (.aload_n 0, 1) := zdec_at bX8_isLiteral_0 0 rfl
theorem dX8_isLiteral_1 : decode cX8_isLiteral 1 = .ok (.bipush 22, 2) := zdec_at bX8_isLiteral_0 1 rfl
theorem dX8_isLiteral_3 : decode cX8_isLiteral 3 = .ok (.invokevirtual 404, 3) := zdec_at bX8_isLiteral_0 2 rfl
theorem dX8_isLiteral_6 : decode cX8_isLiteral 6 = .ok (.ifCond .ne 39, 3) := zdec_at bX8_isLiteral_0 3 rfl
theorem dX8_isLiteral_9 : decode cX8_isLiteral 9 = .ok (.aload_n 0, 1) := zdec_at bX8_isLiteral_0 4 rfl
theorem dX8_isLiteral_10 : decode cX8_isLiteral 10 = .ok (.bipush 8, 2) := zdec_at bX8_isLiteral_0 5 rfl
theorem dX8_isLiteral_12 : decode cX8_isLiteral 12 = .ok (.invokevirtual 404, 3) := zdec_at bX8_isLiteral_0 6 rfl
theorem dX8_isLiteral_15 : decode cX8_isLiteral 15 = .ok (.ifCond .ne 30, 3) := zdec_at bX8_isLiteral_0 7 rfl
theorem dX8_isLiteral_18 : decode cX8_isLiteral 18 = .ok (.aload_n 0, 1) := zdec_at bX8_isLiteral_0 8 rfl
theorem dX8_isLiteral_19 : decode cX8_isLiteral 19 = .ok (.bipush 17, 2) := zdec_at bX8_isLiteral_0 9 rfl
theorem dX8_isLiteral_21 : decode cX8_isLiteral 21 = .ok (.invokevirtual 404, 3) := zdec_at bX8_isLiteral_0 10 rfl
theorem dX8_isLiteral_24 : decode cX8_isLiteral 24 = .ok (.ifCond .ne 21, 3) := zdec_at bX8_isLiteral_0 11 rfl
theorem dX8_isLiteral_27 : decode cX8_isLiteral 27 = .ok (.aload_n 0, 1) := zdec_at bX8_isLiteral_0 12 rfl
theorem dX8_isLiteral_28 : decode cX8_isLiteral 28 = .ok (.bipush 25, 2) := zdec_at bX8_isLiteral_0 13 rfl
theorem dX8_isLiteral_30 : decode cX8_isLiteral 30 = .ok (.invokevirtual 404, 3) := zdec_at bX8_isLiteral_0 14 rfl
theorem dX8_isLiteral_33 : decode cX8_isLiteral 33 = .ok (.ifCond .ne 12, 3) := zdec_at bX8_isLiteral_0 15 rfl
theorem bX8_isLiteral_36 : zdec cX8_isLiteral 36 [(36, .aload_n 0, 1), (37, .bipush 15, 2), (39, .invokevirtual 404, 3), (42, .ifCond .eq 7, 3), (45, .iconst 1, 1), (46, .goto 4, 3), (49, .iconst 0, 1), (50, .ireturn, 1)] = true := by decide +kernel
theorem dX8_isLiteral_36 : decode cX8_isLiteral 36 = .ok (.aload_n 0, 1) := zdec_at bX8_isLiteral_36 0 rfl
theorem dX8_isLiteral_37 : decode cX8_isLiteral 37 = .ok (.bipush 15, 2) := zdec_at bX8_isLiteral_36 1 rfl
theorem dX8_isLiteral_39 : decode cX8_isLiteral 39 = .ok (.invokevirtual 404, 3) := zdec_at bX8_isLiteral_36 2 rfl
theorem dX8_isLiteral_42 : decode cX8_isLiteral 42 = .ok (.ifCond .eq 7, 3) := zdec_at bX8_isLiteral_36 3 rfl
theorem dX8_isLiteral_45 : decode cX8_isLiteral 45 = .ok (.iconst 1, 1) := zdec_at bX8_isLiteral_36 4 rfl
theorem dX8_isLiteral_46 : decode cX8_isLiteral 46 = .ok (.goto 4, 3) := zdec_at bX8_isLiteral_36 5 rfl
theorem dX8_isLiteral_49 : decode cX8_isLiteral 49 = .ok (.iconst 0, 1) := zdec_at bX8_isLiteral_36 6 rfl
theorem dX8_isLiteral_50 : decode cX8_isLiteral 50 = .ok (.ireturn, 1) := zdec_at bX8_isLiteral_36 7 rfl
theorem sX8_isLiteral_0 {E : zE} {d : Nat} {Q : zO → zM → Prop} (M : zM)  (k : Zm E YX8_isKeyword d M (zargs 0 [vr (some (97, 1, 0)), vi (22 : Int32)]) 0 [] (zma E YX8_isLiteral (d + 1) [(0, vr (some (97, 1, 0)))] 3 3 [] Q)) : Zm E YX8_isLiteral (d + 1) M [(0, vr (some (97, 1, 0)))] 0 [] Q := by
  refine Zm.l (fun _ _ k_ => z_aload_n dX8_isLiteral_0 rfl rfl k_) ?_
  refine Zm.l (fun _ _ k_ => z_bipush (v := 22) dX8_isLiteral_1 rfl k_) ?_
  exact zm_callV (as := [vi (22 : Int32)]) (st := []) dX8_isLiteral_3 vsX8_404_1 (Nat.le_refl _) (Nat.le_of_ble_eq_true rfl) (Nat.le_of_ble_eq_true rfl) rfl k
theorem sX8_isLiteral_6 {E : zE} {d : Nat} {Q : zO → zM → Prop} (M : zM) (s0 : Int32) (k : if s0 = 0 then (Zm E YX8_isKeyword d M (zargs 0 [vr (some (97, 1, 0)), vi (8 : Int32)]) 0 [] (zma E YX8_isLiteral (d + 1) [(0, vr (some (97, 1, 0)))] 12 3 [] Q)) else (Q (.inl (some (vi (1 : Int32)))) M)) : Zm E YX8_isLiteral (d + 1) M [(0, vr (some (97, 1, 0)))] 6 [vi s0] Q := by
  refine Zm.brn (fun _ _ k1_ k2_ => z_if_ne (tgt := 45) dX8_isLiteral_6 rfl k1_ k2_) (fun h_ => ?_) (fun h_ => ?_)
  · have k := zif h_ k
    refine Zm.l (fun _ _ k_ => z_iconst (v := 1) dX8_isLiteral_45 rfl k_) ?_
    refine Zm.l (fun _ _ k_ => z_goto (tgt := 50) dX8_isLiteral_46 rfl k_) ?_
    exact zm_iret dX8_isLiteral_50 rfl (by decide) k
  · have k := zit h_ k
    refine Zm.l (fun _ _ k_ => z_aload_n dX8_isLiteral_9 rfl rfl k_) ?_
    refine Zm.l (fun _ _ k_ => z_bipush (v := 8) dX8_isLiteral_10 rfl k_) ?_
    exact zm_callV (as := [vi (8 : Int32)]) (st := []) dX8_isLiteral_12 vsX8_404_1 (Nat.le_refl _) (Nat.le_of_ble_eq_true rfl) (Nat.le_of_ble_eq_true rfl) rfl k
theorem sX8_isLiteral_15 {E : zE} {d : Nat} {Q : zO → zM → Prop} (M : zM) (s0 : Int32) (k : if s0 = 0 then (Zm E YX8_isKeyword d M (zargs 0 [vr (some (97, 1, 0)), vi (17 : Int32)]) 0 [] (zma E YX8_isLiteral (d + 1) [(0, vr (some (97, 1, 0)))] 21 3 [] Q)) else (Q (.inl (some (vi (1 : Int32)))) M)) : Zm E YX8_isLiteral (d + 1) M [(0, vr (some (97, 1, 0)))] 15 [vi s0] Q := by
  refine Zm.brn (fun _ _ k1_ k2_ => z_if_ne (tgt := 45) dX8_isLiteral_15 rfl k1_ k2_) (fun h_ => ?_) (fun h_ => ?_)
  · have k := zif h_ k
    refine Zm.l (fun _ _ k_ => z_iconst (v := 1) dX8_isLiteral_45 rfl k_) ?_
    refine Zm.l (fun _ _ k_ => z_goto (tgt := 50) dX8_isLiteral_46 rfl k_) ?_
    exact zm_iret dX8_isLiteral_50 rfl (by decide) k
  · have k := zit h_ k
    refine Zm.l (fun _ _ k_ => z_aload_n dX8_isLiteral_18 rfl rfl k_) ?_
    refine Zm.l (fun _ _ k_ => z_bipush (v := 17) dX8_isLiteral_19 rfl k_) ?_
    exact zm_callV (as := [vi (17 : Int32)]) (st := []) dX8_isLiteral_21 vsX8_404_1 (Nat.le_refl _) (Nat.le_of_ble_eq_true rfl) (Nat.le_of_ble_eq_true rfl) rfl k
theorem sX8_isLiteral_24 {E : zE} {d : Nat} {Q : zO → zM → Prop} (M : zM) (s0 : Int32) (k : if s0 = 0 then (Zm E YX8_isKeyword d M (zargs 0 [vr (some (97, 1, 0)), vi (25 : Int32)]) 0 [] (zma E YX8_isLiteral (d + 1) [(0, vr (some (97, 1, 0)))] 30 3 [] Q)) else (Q (.inl (some (vi (1 : Int32)))) M)) : Zm E YX8_isLiteral (d + 1) M [(0, vr (some (97, 1, 0)))] 24 [vi s0] Q := by
  refine Zm.brn (fun _ _ k1_ k2_ => z_if_ne (tgt := 45) dX8_isLiteral_24 rfl k1_ k2_) (fun h_ => ?_) (fun h_ => ?_)
  · have k := zif h_ k
    refine Zm.l (fun _ _ k_ => z_iconst (v := 1) dX8_isLiteral_45 rfl k_) ?_
    refine Zm.l (fun _ _ k_ => z_goto (tgt := 50) dX8_isLiteral_46 rfl k_) ?_
    exact zm_iret dX8_isLiteral_50 rfl (by decide) k
  · have k := zit h_ k
    refine Zm.l (fun _ _ k_ => z_aload_n dX8_isLiteral_27 rfl rfl k_) ?_
    refine Zm.l (fun _ _ k_ => z_bipush (v := 25) dX8_isLiteral_28 rfl k_) ?_
    exact zm_callV (as := [vi (25 : Int32)]) (st := []) dX8_isLiteral_30 vsX8_404_1 (Nat.le_refl _) (Nat.le_of_ble_eq_true rfl) (Nat.le_of_ble_eq_true rfl) rfl k
theorem sX8_isLiteral_33 {E : zE} {d : Nat} {Q : zO → zM → Prop} (M : zM) (s0 : Int32) (k : if s0 = 0 then (Zm E YX8_isKeyword d M (zargs 0 [vr (some (97, 1, 0)), vi (15 : Int32)]) 0 [] (zma E YX8_isLiteral (d + 1) [] 39 3 [] Q)) else (Q (.inl (some (vi (1 : Int32)))) M)) : Zm E YX8_isLiteral (d + 1) M [(0, vr (some (97, 1, 0)))] 33 [vi s0] Q := by
  refine Zm.brn (fun _ _ k1_ k2_ => z_if_ne (tgt := 45) dX8_isLiteral_33 rfl k1_ k2_) (fun h_ => ?_) (fun h_ => ?_)
  · have k := zif h_ k
    refine Zm.l (fun _ _ k_ => z_iconst (v := 1) dX8_isLiteral_45 rfl k_) ?_
    refine Zm.l (fun _ _ k_ => z_goto (tgt := 50) dX8_isLiteral_46 rfl k_) ?_
    exact zm_iret dX8_isLiteral_50 rfl (by decide) k
  · have k := zit h_ k
    refine Zm.l (fun _ _ k_ => z_aload_n dX8_isLiteral_36 rfl rfl k_) ?_
    refine Zm.l (fun _ _ k_ => z_bipush (v := 15) dX8_isLiteral_37 rfl k_) ?_
    refine Zm.pick [] rfl ?_
    exact zm_callV (as := [vi (15 : Int32)]) (st := []) dX8_isLiteral_39 vsX8_404_1 (Nat.le_refl _) (Nat.le_of_ble_eq_true rfl) (Nat.le_of_ble_eq_true rfl) rfl k
theorem sX8_isLiteral_42 {E : zE} {d : Nat} {Q : zO → zM → Prop} (M : zM) (s0 : Int32) (k : if s0 = 0 then (Q (.inl (some (vi (0 : Int32)))) M) else (Q (.inl (some (vi (1 : Int32)))) M)) : Zm E YX8_isLiteral (d + 1) M [] 42 [vi s0] Q := by
  refine Zm.br (fun _ _ k1_ k2_ => z_if_eq (tgt := 49) dX8_isLiteral_42 rfl k1_ k2_) (fun h_ => ?_) (fun h_ => ?_)
  · have k := zit h_ k
    refine Zm.l (fun _ _ k_ => z_iconst (v := 0) dX8_isLiteral_49 rfl k_) ?_
    exact zm_iret dX8_isLiteral_50 rfl (by decide) k
  · have k := zif h_ k
    refine Zm.l (fun _ _ k_ => z_iconst (v := 1) dX8_isLiteral_45 rfl k_) ?_
    refine Zm.l (fun _ _ k_ => z_goto (tgt := 50) dX8_isLiteral_46 rfl k_) ?_
    exact zm_iret dX8_isLiteral_50 rfl (by decide) k
/-! ScriptTypesModel.statementBody()I -/
theorem bX8_statementBody_0 : zdec cX8_statementBody 0 [(0, .aload_n 0, 1), (1, .bipush 24, 2), (3, .invokevirtual 398, 3), (6, .ifCond .eq 16, 3), (9, .aload_n 0, 1), (10, .bipush 20, 2), (12, .aload_n 0, 1), (13, .invokevirtual 562, 3), (16, .iconst 0, 1), (17, .iconst 0, 1), (18, .invokevirtual 446, 3), (21, .ireturn, 1), (22, .aload_n 0, 1), (23, .bipush 31, 2), (25, .invokevirtual 398, 3), (28, .ifCond .eq 23, 3)] = true := by decide +kernel
theorem dX8_statementBody_0 : decode cX8_statementBody 0 = .ok (.aload_n 0, 1) := zdec_at bX8_statementBody_0 0 rfl
theorem dX8_statementBody_1 : decode cX8_statementBody 1 = .ok (.bipush 24, 2) := zdec_at bX8_statementBody_0 1 rfl
theorem dX8_statementBody_3 : decode cX8_statementBody 3 = .ok (.invokevirtual 398, 3) := zdec_at bX8_statementBody_0 2 rfl
theorem dX8_statementBody_6 : decode cX8_statementBody 6 = .ok (.ifCond .eq 16, 3) := zdec_at bX8_statementBody_0 3 rfl
theorem dX8_statementBody_9 : decode cX8_statementBody 9 = .ok (.aload_n 0, 1) := zdec_at bX8_statementBody_0 4 rfl
theorem dX8_statementBody_10 : decode cX8_statementBody 10 = .ok (.bipush 20, 2) := zdec_at bX8_statementBody_0 5 rfl
theorem dX8_statementBody_12 : decode cX8_statementBody 12 = .ok (.aload_n 0, 1) := zdec_at bX8_statementBody_0 6 rfl
theorem dX8_statementBody_13 : decode cX8_statementBody 13 = .ok (.invokevirtual 562, 3) := zdec_at bX8_statementBody_0 7 rfl
theorem dX8_statementBody_16 : decode cX8_statementBody 16 = .ok (.iconst 0, 1) := zdec_at bX8_statementBody_0 8 rfl
theorem dX8_statementBody_17 : decode cX8_statementBody 17 = .ok (.iconst 0, 1) := zdec_at bX8_statementBody_0 9 rfl
theorem dX8_statementBody_18 : decode cX8_statementBody 18 = .ok (.invokevirtual 446, 3) := zdec_at bX8_statementBody_0 10 rfl
theorem dX8_statementBody_21 : decode cX8_statementBody 21 = .ok (.ireturn, 1) := zdec_at bX8_statementBody_0 11 rfl
theorem dX8_statementBody_22 : decode cX8_statementBody 22 = .ok (.aload_n 0, 1) := zdec_at bX8_statementBody_0 12 rfl
theorem dX8_statementBody_23 : decode cX8_statementBody 23 = .ok (.bipush 31, 2) := zdec_at bX8_statementBody_0 13 rfl
theorem dX8_statementBody_25 : decode cX8_statementBody 25 = .ok (.invokevirtual 398, 3) := zdec_at bX8_statementBody_0 14 rfl
theorem dX8_statementBody_28 : decode cX8_statementBody 28 = .ok (.ifCond .eq 23, 3) := zdec_at bX8_statementBody_0 15 rfl
theorem bX8_statementBody_31 : zdec cX8_statementBody 31 [(31, .aload_n 0, 1), (32, .dup, 1), (33, .getfield 392, 3), (36, .iconst 1, 1), (37, .iadd, 1), (38, .putfield 392, 3), (41, .aload_n 0, 1), (42, .bipush 22, 2), (44, .iconst 0, 1), (45, .iconst 0, 1), (46, .iconst 0, 1), (47, .invokevirtual 446, 3), (50, .ireturn, 1), (51, .aload_n 0, 1), (52, .getfield 27, 3), (55, .aload_n 0, 1)] = true := by decide +kernel
theorem dX8_statementBody_31 : decode cX8_statementBody 31 = .ok (.aload_n 0, 1) := zdec_at bX8_statementBody_31 0 rfl
theorem dX8_statementBody_32 : decode cX8_statementBody 32 = .ok (.dup, 1) := zdec_at bX8_statementBody_31 1 rfl
theorem dX8_statementBody_33 : decode cX8_statementBody 33 = .ok (.getfield 392, 3) := zdec_at bX8_statementBody_31 2 rfl
theorem dX8_statementBody_36 : decode cX8_statementBody 36 = .ok (.iconst 1, 1) := zdec_at bX8_statementBody_31 3 rfl
theorem dX8_statementBody_37 : decode cX8_statementBody 37 = .ok (.iadd, 1) := zdec_at bX8_statementBody_31 4 rfl
theorem dX8_statementBody_38 : decode cX8_statementBody 38 = .ok (.putfield 392, 3) := zdec_at bX8_statementBody_31 5 rfl
theorem dX8_statementBody_41 : decode cX8_statementBody 41 = .ok (.aload_n 0, 1) := zdec_at bX8_statementBody_31 6 rfl
theorem dX8_statementBody_42 : decode cX8_statementBody 42 = .ok (.bipush 22, 2) := zdec_at bX8_statementBody_31 7 rfl
theorem dX8_statementBody_44 : decode cX8_statementBody 44 = .ok (.iconst 0, 1) := zdec_at bX8_statementBody_31 8 rfl
theorem dX8_statementBody_45 : decode cX8_statementBody 45 = .ok (.iconst 0, 1) := zdec_at bX8_statementBody_31 9 rfl
theorem dX8_statementBody_46 : decode cX8_statementBody 46 = .ok (.iconst 0, 1) := zdec_at bX8_statementBody_31 10 rfl
theorem dX8_statementBody_47 : decode cX8_statementBody 47 = .ok (.invokevirtual 446, 3) := zdec_at bX8_statementBody_31 11 rfl
theorem dX8_statementBody_50 : decode cX8_statementBody 50 = .ok (.ireturn, 1) := zdec_at bX8_statementBody_31 12 rfl
theorem dX8_statementBody_51 : decode cX8_statementBody 51 = .ok (.aload_n 0, 1) := zdec_at bX8_statementBody_31 13 rfl
theorem dX8_statementBody_52 : decode cX8_statementBody 52 = .ok (.getfield 27, 3) := zdec_at bX8_statementBody_31 14 rfl
theorem dX8_statementBody_55 : decode cX8_statementBody 55 = .ok (.aload_n 0, 1) := zdec_at bX8_statementBody_31 15 rfl
theorem bX8_statementBody_56 : zdec cX8_statementBody 56 [(56, .getfield 392, 3), (59, .iaload, 1), (60, .iconst 2, 1), (61, .if_icmp .eq 8, 3), (64, .aload_n 0, 1), (65, .invokevirtual 565, 3), (68, .ireturn, 1), (69, .aload_n 0, 1), (70, .getfield 30, 3), (73, .aload_n 0, 1), (74, .getfield 392, 3), (77, .iaload, 1)] = true := by decide +kernel
theorem dX8_statementBody_56 : decode cX8_statementBody 56 = .ok (.getfield 392, 3) := zdec_at bX8_statementBody_56 0 rfl
theorem dX8_statementBody_59 : decode cX8_statementBody 59 = .ok (.iaload, 1) := zdec_at bX8_statementBody_56 1 rfl
theorem dX8_statementBody_60 : decode cX8_statementBody 60 = .ok (.iconst 2, 1) := zdec_at bX8_statementBody_56 2 rfl
theorem dX8_statementBody_61 : decode cX8_statementBody 61 = .ok (.if_icmp .eq 8, 3) := zdec_at bX8_statementBody_56 3 rfl
theorem dX8_statementBody_64 : decode cX8_statementBody 64 = .ok (.aload_n 0, 1) := zdec_at bX8_statementBody_56 4 rfl
theorem dX8_statementBody_65 : decode cX8_statementBody 65 = .ok (.invokevirtual 565, 3) := zdec_at bX8_statementBody_56 5 rfl
theorem dX8_statementBody_68 : decode cX8_statementBody 68 = .ok (.ireturn, 1) := zdec_at bX8_statementBody_56 6 rfl
theorem dX8_statementBody_69 : decode cX8_statementBody 69 = .ok (.aload_n 0, 1) := zdec_at bX8_statementBody_56 7 rfl
theorem dX8_statementBody_70 : decode cX8_statementBody 70 = .ok (.getfield 30, 3) := zdec_at bX8_statementBody_56 8 rfl
theorem dX8_statementBody_73 : decode cX8_statementBody 73 = .ok (.aload_n 0, 1) := zdec_at bX8_statementBody_56 9 rfl
theorem dX8_statementBody_74 : decode cX8_statementBody 74 = .ok (.getfield 392, 3) := zdec_at bX8_statementBody_56 10 rfl
theorem dX8_statementBody_77 : decode cX8_statementBody 77 = .ok (.iaload, 1) := zdec_at bX8_statementBody_56 11 rfl
theorem dX8_statementBody_78 : decode cX8_statementBody 78 = .ok (.tableswitch 248 0 28 #[185, 248, 248, 185, 248, 248, 175, 248, 248, 248, 180, 248, 142, 248, 248, 248, 248, 248, 228, 243, 248, 233, 248, 238, 248, 248, 130, 248, 147], 130) := by decide +kernel
theorem bX8_statementBody_208 : zdec cX8_statementBody 208 [(208, .aload_n 0, 1), (209, .iconst 1, 1), (210, .invokevirtual 568, 3), (213, .istore_n 1, 1), (214, .aload_n 0, 1), (215, .invokevirtual 571, 3), (218, .iload_n 1, 1), (219, .ireturn, 1), (220, .aload_n 0, 1), (221, .invokevirtual 574, 3), (224, .ireturn, 1), (225, .aload_n 0, 1), (226, .dup, 1), (227, .getfield 392, 3), (230, .iconst 1, 1), (231, .iadd, 1)] = true := by decide +kernel
theorem dX8_statementBody_208 : decode cX8_statementBody 208 = .ok (.aload_n 0, 1) := zdec_at bX8_statementBody_208 0 rfl
theorem dX8_statementBody_209 : decode cX8_statementBody 209 = .ok (.iconst 1, 1) := zdec_at bX8_statementBody_208 1 rfl
theorem dX8_statementBody_210 : decode cX8_statementBody 210 = .ok (.invokevirtual 568, 3) := zdec_at bX8_statementBody_208 2 rfl
theorem dX8_statementBody_213 : decode cX8_statementBody 213 = .ok (.istore_n 1, 1) := zdec_at bX8_statementBody_208 3 rfl
theorem dX8_statementBody_214 : decode cX8_statementBody 214 = .ok (.aload_n 0, 1) := zdec_at bX8_statementBody_208 4 rfl
theorem dX8_statementBody_215 : decode cX8_statementBody 215 = .ok (.invokevirtual 571, 3) := zdec_at bX8_statementBody_208 5 rfl
theorem dX8_statementBody_218 : decode cX8_statementBody 218 = .ok (.iload_n 1, 1) := zdec_at bX8_statementBody_208 6 rfl
theorem dX8_statementBody_219 : decode cX8_statementBody 219 = .ok (.ireturn, 1) := zdec_at bX8_statementBody_208 7 rfl
theorem dX8_statementBody_220 : decode cX8_statementBody 220 = .ok (.aload_n 0, 1) := zdec_at bX8_statementBody_208 8 rfl
theorem dX8_statementBody_221 : decode cX8_statementBody 221 = .ok (.invokevirtual 574, 3) := zdec_at bX8_statementBody_208 9 rfl
theorem dX8_statementBody_224 : decode cX8_statementBody 224 = .ok (.ireturn, 1) := zdec_at bX8_statementBody_208 10 rfl
theorem dX8_statementBody_225 : decode cX8_statementBody 225 = .ok (.aload_n 0, 1) := zdec_at bX8_statementBody_208 11 rfl
theorem dX8_statementBody_226 : decode cX8_statementBody 226 = .ok (.dup, 1) := zdec_at bX8_statementBody_208 12 rfl
theorem dX8_statementBody_227 : decode cX8_statementBody 227 = .ok (.getfield 392, 3) := zdec_at bX8_statementBody_208 13 rfl
theorem dX8_statementBody_230 : decode cX8_statementBody 230 = .ok (.iconst 1, 1) := zdec_at bX8_statementBody_208 14 rfl
theorem dX8_statementBody_231 : decode cX8_statementBody 231 = .ok (.iadd, 1) := zdec_at bX8_statementBody_208 15 rfl
theorem bX8_statementBody_232 : zdec cX8_statementBody 232 [(232, .putfield 392, 3), (235, .aload_n 0, 1), (236, .invokevirtual 577, 3), (239, .istore_n 1, 1), (240, .aload_n 0, 1), (241, .bipush 25, 2), (243, .iload_n 1, 1), (244, .aload_n 0, 1), (245, .invokevirtual 580, 3), (248, .iconst 0, 1), (249, .invokevirtual 446, 3), (252, .ireturn, 1), (253, .aload_n 0, 1), (254, .invokevirtual 583, 3), (257, .ireturn, 1), (258, .aload_n 0, 1)] = true := by decide +kernel
theorem dX8_statementBody_232 : decode cX8_statementBody 232 = .ok (.putfield 392, 3) := zdec_at bX8_statementBody_232 0 rfl
theorem dX8_statementBody_235 : decode cX8_statementBody 235 = .ok (.aload_n 0, 1) := zdec_at bX8_statementBody_232 1 rfl
theorem dX8_statementBody_236 : decode cX8_statementBody 236 = .ok (.invokevirtual 577, 3) := zdec_at bX8_statementBody_232 2 rfl
theorem dX8_statementBody_239 : decode cX8_statementBody 239 = .ok (.istore_n 1, 1) := zdec_at bX8_statementBody_232 3 rfl
theorem dX8_statementBody_240 : decode cX8_statementBody 240 = .ok (.aload_n 0, 1) := zdec_at bX8_statementBody_232 4 rfl
theorem dX8_statementBody_241 : decode cX8_statementBody 241 = .ok (.bipush 25, 2) := zdec_at bX8_statementBody_232 5 rfl
theorem dX8_statementBody_243 : decode cX8_statementBody 243 = .ok (.iload_n 1, 1) := zdec_at bX8_statementBody_232 6 rfl
theorem dX8_statementBody_244 : decode cX8_statementBody 244 = .ok (.aload_n 0, 1) := zdec_at bX8_statementBody_232 7 rfl
theorem dX8_statementBody_245 : decode cX8_statementBody 245 = .ok (.invokevirtual 580, 3) := zdec_at bX8_statementBody_232 8 rfl
theorem dX8_statementBody_248 : decode cX8_statementBody 248 = .ok (.iconst 0, 1) := zdec_at bX8_statementBody_232 9 rfl
theorem dX8_statementBody_249 : decode cX8_statementBody 249 = .ok (.invokevirtual 446, 3) := zdec_at bX8_statementBody_232 10 rfl
theorem dX8_statementBody_252 : decode cX8_statementBody 252 = .ok (.ireturn, 1) := zdec_at bX8_statementBody_232 11 rfl
theorem dX8_statementBody_253 : decode cX8_statementBody 253 = .ok (.aload_n 0, 1) := zdec_at bX8_statementBody_232 12 rfl
theorem dX8_statementBody_254 : decode cX8_statementBody 254 = .ok (.invokevirtual 583, 3) := zdec_at bX8_statementBody_232 13 rfl
theorem dX8_statementBody_257 : decode cX8_statementBody 257 = .ok (.ireturn, 1) := zdec_at bX8_statementBody_232 14 rfl
theorem dX8_statementBody_258 : decode cX8_statementBody 258 = .ok (.aload_n 0, 1) := zdec_at bX8_statementBody_232 15 rfl
theorem bX8_statementBody_259 : zdec cX8_statementBody 259 [(259, .invokevirtual 585, 3), (262, .ireturn, 1), (263, .aload_n 0, 1), (264, .aload_n 0, 1), (265, .getfield 30, 3), (268, .aload_n 0, 1), (269, .getfield 392, 3), (272, .iaload, 1), (273, .ifCond .ne 8, 3), (276, .bipush 30, 2), (278, .goto 5, 3), (281, .bipush 29, 2), (283, .iconst 0, 1), (284, .iconst 0, 1), (285, .iconst 0, 1), (286, .invokevirtual 446, 3)] = true := by decide +kernel
theorem dX8_statementBody_259 : decode cX8_statementBody 259 = .ok (.invokevirtual 585, 3) := zdec_at bX8_statementBody_259 0 rfl
theorem dX8_statementBody_262 : decode cX8_statementBody 262 = .ok (.ireturn, 1) := zdec_at bX8_statementBody_259 1 rfl
theorem dX8_statementBody_263 : decode cX8_statementBody 263 = .ok (.aload_n 0, 1) := zdec_at bX8_statementBody_259 2 rfl
theorem dX8_statementBody_264 : decode cX8_statementBody 264 = .ok (.aload_n 0, 1) := zdec_at bX8_statementBody_259 3 rfl
theorem dX8_statementBody_265 : decode cX8_statementBody 265 = .ok (.getfield 30, 3) := zdec_at bX8_statementBody_259 4 rfl
theorem dX8_statementBody_268 : decode cX8_statementBody 268 = .ok (.aload_n 0, 1) := zdec_at bX8_statementBody_259 5 rfl
theorem dX8_statementBody_269 : decode cX8_statementBody 269 = .ok (.getfield 392, 3) := zdec_at bX8_statementBody_259 6 rfl
theorem dX8_statementBody_272 : decode cX8_statementBody 272 = .ok (.iaload, 1) := zdec_at bX8_statementBody_259 7 rfl
theorem dX8_statementBody_273 : decode cX8_statementBody 273 = .ok (.ifCond .ne 8, 3) := zdec_at bX8_statementBody_259 8 rfl
theorem dX8_statementBody_276 : decode cX8_statementBody 276 = .ok (.bipush 30, 2) := zdec_at bX8_statementBody_259 9 rfl
theorem dX8_statementBody_278 : decode cX8_statementBody 278 = .ok (.goto 5, 3) := zdec_at bX8_statementBody_259 10 rfl
theorem dX8_statementBody_281 : decode cX8_statementBody 281 = .ok (.bipush 29, 2) := zdec_at bX8_statementBody_259 11 rfl
theorem dX8_statementBody_283 : decode cX8_statementBody 283 = .ok (.iconst 0, 1) := zdec_at bX8_statementBody_259 12 rfl
theorem dX8_statementBody_284 : decode cX8_statementBody 284 = .ok (.iconst 0, 1) := zdec_at bX8_statementBody_259 13 rfl
theorem dX8_statementBody_285 : decode cX8_statementBody 285 = .ok (.iconst 0, 1) := zdec_at bX8_statementBody_259 14 rfl
theorem dX8_statementBody_286 : decode cX8_statementBody 286 = .ok (.invokevirtual 446, 3) := zdec_at bX8_statementBody_259 15 rfl
theorem bX8_statementBody_289 : zdec cX8_statementBody 289 [(289, .istore_n 1, 1), (290, .aload_n 0, 1), (291, .dup, 1), (292, .getfield 392, 3), (295, .iconst 1, 1), (296, .iadd, 1), (297, .putfield 392, 3), (300, .aload_n 0, 1), (301, .invokevirtual 571, 3), (304, .iload_n 1, 1), (305, .ireturn, 1), (306, .aload_n 0, 1), (307, .invokevirtual 588, 3), (310, .ireturn, 1), (311, .aload_n 0, 1), (312, .invokevirtual 591, 3)] = true := by decide +kernel
theorem dX8_statementBody_289 : decode cX8_statementBody 289 = .ok (.istore_n 1, 1) := zdec_at bX8_statementBody_289 0 rfl
theorem dX8_statementBody_290 : decode cX8_statementBody 290 = .ok (.aload_n 0, 1) := zdec_at bX8_statementBody_289 1 rfl
theorem dX8_statementBody_291 : decode cX8_statementBody 291 = .ok (.dup, 1) := zdec_at bX8_statementBody_289 2 rfl
theorem dX8_statementBody_292 : decode cX8_statementBody 292 = .ok (.getfield 392, 3) := zdec_at bX8_statementBody_289 3 rfl
theorem dX8_statementBody_295 : decode cX8_statementBody 295 = .ok (.iconst 1, 1) := zdec_at bX8_statementBody_289 4 rfl
theorem dX8_statementBody_296 : decode cX8_statementBody 296 = .ok (.iadd, 1) := zdec_at bX8_statementBody_289 5 rfl
theorem dX8_statementBody_297 : decode cX8_statementBody 297 = .ok (.putfield 392, 3) := zdec_at bX8_statementBody_289 6 rfl
theorem dX8_statementBody_300 : decode cX8_statementBody 300 = .ok (.aload_n 0, 1) := zdec_at bX8_statementBody_289 7 rfl
theorem dX8_statementBody_301 : decode cX8_statementBody 301 = .ok (.invokevirtual 571, 3) := zdec_at bX8_statementBody_289 8 rfl
theorem dX8_statementBody_304 : decode cX8_statementBody 304 = .ok (.iload_n 1, 1) := zdec_at bX8_statementBody_289 9 rfl
theorem dX8_statementBody_305 : decode cX8_statementBody 305 = .ok (.ireturn, 1) := zdec_at bX8_statementBody_289 10 rfl
theorem dX8_statementBody_306 : decode cX8_statementBody 306 = .ok (.aload_n 0, 1) := zdec_at bX8_statementBody_289 11 rfl
theorem dX8_statementBody_307 : decode cX8_statementBody 307 = .ok (.invokevirtual 588, 3) := zdec_at bX8_statementBody_289 12 rfl
theorem dX8_statementBody_310 : decode cX8_statementBody 310 = .ok (.ireturn, 1) := zdec_at bX8_statementBody_289 13 rfl
theorem dX8_statementBody_311 : decode cX8_statementBody 311 = .ok (.aload_n 0, 1) := zdec_at bX8_statementBody_289 14 rfl
theorem dX8_statementBody_312 : decode cX8_statementBody 312 = .ok (.invokevirtual 591, 3) := zdec_at bX8_statementBody_289 15 rfl
theorem bX8_statementBody_315 : zdec cX8_statementBody 315 [(315, .ireturn, 1), (316, .aload_n 0, 1), (317, .invokevirtual 594, 3), (320, .ireturn, 1), (321, .aload_n 0, 1), (322, .invokevirtual 597, 3), (325, .ireturn, 1), (326, .aload_n 0, 1), (327, .invokevirtual 565, 3), (330, .ireturn, 1)] = true := by decide +kernel
theorem dX8_statementBody_315 : decode cX8_statementBody 315 = .ok (.ireturn, 1) := zdec_at bX8_statementBody_315 0 rfl
theorem dX8_statementBody_316 : decode cX8_statementBody 316 = .ok (.aload_n 0, 1) := zdec_at bX8_statementBody_315 1 rfl
theorem dX8_statementBody_317 : decode cX8_statementBody 317 = .ok (.invokevirtual 594, 3) := zdec_at bX8_statementBody_315 2 rfl
theorem dX8_statementBody_320 : decode cX8_statementBody 320 = .ok (.ireturn, 1) := zdec_at bX8_statementBody_315 3 rfl
theorem dX8_statementBody_321 : decode cX8_statementBody 321 = .ok (.aload_n 0, 1) := zdec_at bX8_statementBody_315 4 rfl
theorem dX8_statementBody_322 : decode cX8_statementBody 322 = .ok (.invokevirtual 597, 3) := zdec_at bX8_statementBody_315 5 rfl
theorem dX8_statementBody_325 : decode cX8_statementBody 325 = .ok (.ireturn, 1) := zdec_at bX8_statementBody_315 6 rfl
theorem dX8_statementBody_326 : decode cX8_statementBody 326 = .ok (.aload_n 0, 1) := zdec_at bX8_statementBody_315 7 rfl
theorem dX8_statementBody_327 : decode cX8_statementBody 327 = .ok (.invokevirtual 565, 3) := zdec_at bX8_statementBody_315 8 rfl
theorem dX8_statementBody_330 : decode cX8_statementBody 330 = .ok (.ireturn, 1) := zdec_at bX8_statementBody_315 9 rfl
theorem sX8_statementBody_0 {E : zE} {d : Nat} {Q : zO → zM → Prop} (M : zM)  (k : Zm E YX8_isSign d M (zargs 0 [vr (some (97, 1, 0)), vi (24 : Int32)]) 0 [] (zma E YX8_statementBody (d + 1) [(0, vr (some (97, 1, 0)))] 3 3 [] Q)) : Zm E YX8_statementBody (d + 1) M [(0, vr (some (97, 1, 0)))] 0 [] Q := by
  refine Zm.l (fun _ _ k_ => z_aload_n dX8_statementBody_0 rfl rfl k_) ?_
  refine Zm.l (fun _ _ k_ => z_bipush (v := 24) dX8_statementBody_1 rfl k_) ?_
  exact zm_callV (as := [vi (24 : Int32)]) (st := []) dX8_statementBody_3 vsX8_398_1 (Nat.le_refl _) (Nat.le_of_ble_eq_true rfl) (Nat.le_of_ble_eq_true rfl) rfl k
theorem sX8_statementBody_6 {E : zE} {d : Nat} {Q : zO → zM → Prop} (M : zM) (s0 : Int32) (k : if s0 = 0 then (Zm E YX8_isSign d M (zargs 0 [vr (some (97, 1, 0)), vi (31 : Int32)]) 0 [] (zma E YX8_statementBody (d + 1) [(0, vr (some (97, 1, 0)))] 25 3 [] Q)) else (Zm E YX8_block d M (zargs 0 [vr (some (97, 1, 0))]) 0 [] (zma E YX8_statementBody (d + 1) [] 13 3 [vi (20 : Int32), vr (some (97, 1, 0))] Q))) : Zm E YX8_statementBody (d + 1) M [(0, vr (some (97, 1, 0)))] 6 [vi s0] Q := by
  refine Zm.br (fun _ _ k1_ k2_ => z_if_eq (tgt := 22) dX8_statementBody_6 rfl k1_ k2_) (fun h_ => ?_) (fun h_ => ?_)
  · have k := zit h_ k
    refine Zm.l (fun _ _ k_ => z_aload_n dX8_statementBody_22 rfl rfl k_) ?_
    refine Zm.l (fun _ _ k_ => z_bipush (v := 31) dX8_statementBody_23 rfl k_) ?_
    exact zm_callV (as := [vi (31 : Int32)]) (st := []) dX8_statementBody_25 vsX8_398_1 (Nat.le_refl _) (Nat.le_of_ble_eq_true rfl) (Nat.le_of_ble_eq_true rfl) rfl k
  · have k := zif h_ k
    refine Zm.l (fun _ _ k_ => z_aload_n dX8_statementBody_9 rfl rfl k_) ?_
    refine Zm.l (fun _ _ k_ => z_bipush (v := 20) dX8_statementBody_10 rfl k_) ?_
    refine Zm.l (fun _ _ k_ => z_aload_n dX8_statementBody_12 rfl rfl k_) ?_
    refine Zm.pick [] rfl ?_
    exact zm_callV (as := []) (st := [vi (20 : Int32), vr (some (97, 1, 0))]) dX8_statementBody_13 vsX8_562_1 (Nat.le_refl _) (Nat.le_of_ble_eq_true rfl) (Nat.le_of_ble_eq_true rfl) rfl k
theorem sX8_statementBody_16 {E : zE} {d : Nat} {Q : zO → zM → Prop} (M : zM) (s0 : Int32) (s1 : Int32) (k : Zm E YX8_node d M (zargs 0 [vr (some (97, 1, 0)), vi s1, vi s0, vi (0 : Int32), vi (0 : Int32)]) 0 [] (zma E YX8_statementBody (d + 1) [] 18 3 [] Q)) : Zm E YX8_statementBody (d + 1) M [] 16 [vi s0, vi s1, vr (some (97, 1, 0))] Q := by
  refine Zm.l (fun _ _ k_ => z_iconst (v := 0) dX8_statementBody_16 rfl k_) ?_
  refine Zm.l (fun _ _ k_ => z_iconst (v := 0) dX8_statementBody_17 rfl k_) ?_
  exact zm_callV (as := [vi s1, vi s0, vi (0 : Int32), vi (0 : Int32)]) (st := []) dX8_statementBody_18 vsX8_446_1 (Nat.le_refl _) (Nat.le_of_ble_eq_true rfl) (Nat.le_of_ble_eq_true rfl) rfl k
theorem sX8_statementBody_21 {E : zE} {d : Nat} {Q : zO → zM → Prop} (M : zM) (s0 : Int32) (k : Q (.inl (some (vi s0))) M) : Zm E YX8_statementBody (d + 1) M [] 21 [vi s0] Q := by
  exact zm_iret dX8_statementBody_21 rfl rfl k
theorem sX8_statementBody_28 {E : zE} {d : Nat} {Q : zO → zM → Prop} (M : zM) (s0 : Int32) (k : if s0 = 0 then (vp_in (gi M 97 20) 4002 ∧ (if (gi M 103 ((gi M 97 20)).toNatClampNeg) = (2 : Int32) then (vp_in (gi M 97 20) 4002 ∧ (if (gi M 104 ((gi M 97 20)).toNatClampNeg) = 0 then (vp_in (gi M 97 20) 4002 ∧ (if (gi M 104 ((gi M 97 20)).toNatClampNeg) = 0 then (Zm E YX8_node d M (zargs 0 [vr (some (97, 1, 0)), vi (30 : Int32), vi (0 : Int32), vi (0 : Int32), vi (0 : Int32)]) 0 [] (zma E YX8_statementBody (d + 1) [(0, vr (some (97, 1, 0)))] 286 3 [] Q)) else (Zm E YX8_node d M (zargs 0 [vr (some (97, 1, 0)), vi (29 : Int32), vi (0 : Int32), vi (0 : Int32), vi (0 : Int32)]) 0 [] (zma E YX8_statementBody (d + 1) [(0, vr (some (97, 1, 0)))] 286 3 [] Q)))) else (if (gi M 104 ((gi M 97 20)).toNatClampNeg) = 1 then (Zm E YX8_plain d M (zargs 0 [vr (some (97, 1, 0))]) 0 [] (zma E YX8_statementBody (d + 1) [] 327 3 [] Q)) else (if (gi M 104 ((gi M 97 20)).toNatClampNeg) = 2 then (Zm E YX8_plain d M (zargs 0 [vr (some (97, 1, 0))]) 0 [] (zma E YX8_statementBody (d + 1) [] 327 3 [] Q)) else (if (gi M 104 ((gi M 97 20)).toNatClampNeg) = 3 then (vp_in (gi M 97 20) 4002 ∧ (if (gi M 104 ((gi M 97 20)).toNatClampNeg) = 0 then (Zm E YX8_node d M (zargs 0 [vr (some (97, 1, 0)), vi (30 : Int32), vi (0 : Int32), vi (0 : Int32), vi (0 : Int32)]) 0 [] (zma E YX8_statementBody (d + 1) [(0, vr (some (97, 1, 0)))] 286 3 [] Q)) else (Zm E YX8_node d M (zargs 0 [vr (some (97, 1, 0)), vi (29 : Int32), vi (0 : Int32), vi (0 : Int32), vi (0 : Int32)]) 0 [] (zma E YX8_statementBody (d + 1) [(0, vr (some (97, 1, 0)))] 286 3 [] Q)))) else (if (gi M 104 ((gi M 97 20)).toNatClampNeg) = 4 then (Zm E YX8_plain d M (zargs 0 [vr (some (97, 1, 0))]) 0 [] (zma E YX8_statementBody (d + 1) [] 327 3 [] Q)) else (if (gi M 104 ((gi M 97 20)).toNatClampNeg) = 5 then (Zm E YX8_plain d M (zargs 0 [vr (some (97, 1, 0))]) 0 [] (zma E YX8_statementBody (d + 1) [] 327 3 [] Q)) else (if (gi M 104 ((gi M 97 20)).toNatClampNeg) = 6 then (Zm E YX8_until d M (zargs 0 [vr (some (97, 1, 0))]) 0 [] (zma E YX8_statementBody (d + 1) [] 254 3 [] Q)) else (if (gi M 104 ((gi M 97 20)).toNatClampNeg) = 7 then (Zm E YX8_plain d M (zargs 0 [vr (some (97, 1, 0))]) 0 [] (zma E YX8_statementBody (d + 1) [] 327 3 [] Q)) else (if (gi M 104 ((gi M 97 20)).toNatClampNeg) = 8 then (Zm E YX8_plain d M (zargs 0 [vr (some (97, 1, 0))]) 0 [] (zma E YX8_statementBody (d + 1) [] 327 3 [] Q)) else (if (gi M 104 ((gi M 97 20)).toNatClampNeg) = 9 then (Zm E YX8_plain d M (zargs 0 [vr (some (97, 1, 0))]) 0 [] (zma E YX8_statementBody (d + 1) [] 327 3 [] Q)) else (if (gi M 104 ((gi M 97 20)).toNatClampNeg) = 10 then (Zm E YX8_counted d M (zargs 0 [vr (some (97, 1, 0))]) 0 [] (zma E YX8_statementBody (d + 1) [] 259 3 [] Q)) else (if (gi M 104 ((gi M 97 20)).toNatClampNeg) = 11 then (Zm E YX8_plain d M (zargs 0 [vr (some (97, 1, 0))]) 0 [] (zma E YX8_statementBody (d + 1) [] 327 3 [] Q)) else (if (gi M 104 ((gi M 97 20)).toNatClampNeg) = 12 then (Zm E YX8_whether d M (zargs 0 [vr (some (97, 1, 0))]) 0 [] (zma E YX8_statementBody (d + 1) [] 221 3 [] Q)) else (if (gi M 104 ((gi M 97 20)).toNatClampNeg) = 13 then (Zm E YX8_plain d M (zargs 0 [vr (some (97, 1, 0))]) 0 [] (zma E YX8_statementBody (d + 1) [] 327 3 [] Q)) else (if (gi M 104 ((gi M 97 20)).toNatClampNeg) = 14 then (Zm E YX8_plain d M (zargs 0 [vr (some (97, 1, 0))]) 0 [] (zma E YX8_statementBody (d + 1) [] 327 3 [] Q)) else (if (gi M 104 ((gi M 97 20)).toNatClampNeg) = 15 then (Zm E YX8_plain d M (zargs 0 [vr (some (97, 1, 0))]) 0 [] (zma E YX8_statementBody (d + 1) [] 327 3 [] Q)) else (if (gi M 104 ((gi M 97 20)).toNatClampNeg) = 16 then (Zm E YX8_plain d M (zargs 0 [vr (some (97, 1, 0))]) 0 [] (zma E YX8_statementBody (d + 1) [] 327 3 [] Q)) else (if (gi M 104 ((gi M 97 20)).toNatClampNeg) = 17 then (Zm E YX8_plain d M (zargs 0 [vr (some (97, 1, 0))]) 0 [] (zma E YX8_statementBody (d + 1) [] 327 3 [] Q)) else (if (gi M 104 ((gi M 97 20)).toNatClampNeg) = 18 then (Zm E YX8_back_2 d M (zargs 0 [vr (some (97, 1, 0))]) 0 [] (zma E YX8_statementBody (d + 1) [] 307 3 [] Q)) else (if (gi M 104 ((gi M 97 20)).toNatClampNeg) = 19 then (Zm E YX8_cases d M (zargs 0 [vr (some (97, 1, 0))]) 0 [] (zma E YX8_statementBody (d + 1) [] 322 3 [] Q)) else (if (gi M 104 ((gi M 97 20)).toNatClampNeg) = 20 then (Zm E YX8_plain d M (zargs 0 [vr (some (97, 1, 0))]) 0 [] (zma E YX8_statementBody (d + 1) [] 327 3 [] Q)) else (if (gi M 104 ((gi M 97 20)).toNatClampNeg) = 21 then (Zm E YX8_toss d M (zargs 0 [vr (some (97, 1, 0))]) 0 [] (zma E YX8_statementBody (d + 1) [] 312 3 [] Q)) else (if (gi M 104 ((gi M 97 20)).toNatClampNeg) = 22 then (Zm E YX8_plain d M (zargs 0 [vr (some (97, 1, 0))]) 0 [] (zma E YX8_statementBody (d + 1) [] 327 3 [] Q)) else (if (gi M 104 ((gi M 97 20)).toNatClampNeg) = 23 then (Zm E YX8_attempt d M (zargs 0 [vr (some (97, 1, 0))]) 0 [] (zma E YX8_statementBody (d + 1) [] 317 3 [] Q)) else (if (gi M 104 ((gi M 97 20)).toNatClampNeg) = 24 then (Zm E YX8_plain d M (zargs 0 [vr (some (97, 1, 0))]) 0 [] (zma E YX8_statementBody (d + 1) [] 327 3 [] Q)) else (if (gi M 104 ((gi M 97 20)).toNatClampNeg) = 25 then (Zm E YX8_plain d M (zargs 0 [vr (some (97, 1, 0))]) 0 [] (zma E YX8_statementBody (d + 1) [] 327 3 [] Q)) else (if (gi M 104 ((gi M 97 20)).toNatClampNeg) = 26 then (Zm E YX8_declarations d M (zargs 0 [vr (some (97, 1, 0)), vi (1 : Int32)]) 0 [] (zma E YX8_statementBody (d + 1) [(0, vr (some (97, 1, 0)))] 210 3 [] Q)) else (if (gi M 104 ((gi M 97 20)).toNatClampNeg) = 27 then (Zm E YX8_plain d M (zargs 0 [vr (some (97, 1, 0))]) 0 [] (zma E YX8_statementBody (d + 1) [] 327 3 [] Q)) else (if (gi M 104 ((gi M 97 20)).toNatClampNeg) = 28 then (Zm E YX8_condition d (si M 97 20 ((gi M 97 20) + (1 : Int32))) (zargs 0 [vr (some (97, 1, 0))]) 0 [] (zma E YX8_statementBody (d + 1) [(0, vr (some (97, 1, 0)))] 236 3 [] Q)) else (Zm E YX8_plain d M (zargs 0 [vr (some (97, 1, 0))]) 0 [] (zma E YX8_statementBody (d + 1) [] 327 3 [] Q)))))))))))))))))))))))))))))))) else (Zm E YX8_plain d M (zargs 0 [vr (some (97, 1, 0))]) 0 [] (zma E YX8_statementBody (d + 1) [] 65 3 [] Q)))) else (Zm E YX8_node d (si M 97 20 ((gi M 97 20) + (1 : Int32))) (zargs 0 [vr (some (97, 1, 0)), vi (22 : Int32), vi (0 : Int32), vi (0 : Int32), vi (0 : Int32)]) 0 [] (zma E YX8_statementBody (d + 1) [] 47 3 [] Q))) : Zm E YX8_statementBody (d + 1) M [(0, vr (some (97, 1, 0)))] 28 [vi s0] Q := by
  refine Zm.br (fun _ _ k1_ k2_ => z_if_eq (tgt := 51) dX8_statementBody_28 rfl k1_ k2_) (fun h_ => ?_) (fun h_ => ?_)
  · have k := zit h_ k
    refine Zm.l (fun _ _ k_ => z_aload_n dX8_statementBody_51 rfl rfl k_) ?_
    refine zm_getr 5 dX8_statementBody_52 fsX8_27_1 rfl ?_
    refine Zm.l (fun _ _ k_ => z_aload_n dX8_statementBody_55 rfl rfl k_) ?_
    refine zm_geti dX8_statementBody_56 fsX8_392_1 (by decide) (by decide) ?_
    obtain ⟨b_, k⟩ := k
    refine zm_iald dX8_statementBody_59 b_ (by decide) (by decide) ?_
    refine Zm.l (fun _ _ k_ => z_iconst (v := 2) dX8_statementBody_60 rfl k_) ?_
    refine Zm.br (fun _ _ k1_ k2_ => z_icmp_eq (tgt := 69) dX8_statementBody_61 rfl k1_ k2_) (fun h_ => ?_) (fun h_ => ?_)
    · have k := zit h_ k
      refine Zm.l (fun _ _ k_ => z_aload_n dX8_statementBody_69 rfl rfl k_) ?_
      refine zm_getr 6 dX8_statementBody_70 fsX8_30_1 rfl ?_
      refine Zm.l (fun _ _ k_ => z_aload_n dX8_statementBody_73 rfl rfl k_) ?_
      refine zm_geti dX8_statementBody_74 fsX8_392_1 (by decide) (by decide) ?_
      obtain ⟨b_, k⟩ := k
      refine zm_iald dX8_statementBody_77 b_ (by decide) (by decide) ?_
      by_cases h0_ : (gi M 104 ((gi M 97 20)).toNatClampNeg) = 0
      · have k := zit h0_ k
        refine Zm.l (fun _ _ k_ => z_tableIn (off := 185) (tgt := 263) dX8_statementBody_78 (by rw [h0_]; decide) (by rw [h0_]; decide) (by rw [h0_]; rfl) rfl k_) ?_
        refine Zm.l (fun _ _ k_ => z_aload_n dX8_statementBody_263 rfl rfl k_) ?_
        refine Zm.l (fun _ _ k_ => z_aload_n dX8_statementBody_264 rfl rfl k_) ?_
        refine zm_getr 6 dX8_statementBody_265 fsX8_30_1 rfl ?_
        refine Zm.l (fun _ _ k_ => z_aload_n dX8_statementBody_268 rfl rfl k_) ?_
        refine zm_geti dX8_statementBody_269 fsX8_392_1 (by decide) (by decide) ?_
        obtain ⟨b_, k⟩ := k
        refine zm_iald dX8_statementBody_272 b_ (by decide) (by decide) ?_
        refine Zm.brn (fun _ _ k1_ k2_ => z_if_ne (tgt := 281) dX8_statementBody_273 rfl k1_ k2_) (fun h_ => ?_) (fun h_ => ?_)
        · have k := zif h_ k
          refine Zm.l (fun _ _ k_ => z_bipush (v := 29) dX8_statementBody_281 rfl k_) ?_
          refine Zm.l (fun _ _ k_ => z_iconst (v := 0) dX8_statementBody_283 rfl k_) ?_
          refine Zm.l (fun _ _ k_ => z_iconst (v := 0) dX8_statementBody_284 rfl k_) ?_
          refine Zm.l (fun _ _ k_ => z_iconst (v := 0) dX8_statementBody_285 rfl k_) ?_
          exact zm_callV (as := [vi (29 : Int32), vi (0 : Int32), vi (0 : Int32), vi (0 : Int32)]) (st := []) dX8_statementBody_286 vsX8_446_1 (Nat.le_refl _) (Nat.le_of_ble_eq_true rfl) (Nat.le_of_ble_eq_true rfl) rfl k
        · have k := zit h_ k
          refine Zm.l (fun _ _ k_ => z_bipush (v := 30) dX8_statementBody_276 rfl k_) ?_
          refine Zm.l (fun _ _ k_ => z_goto (tgt := 283) dX8_statementBody_278 rfl k_) ?_
          refine Zm.l (fun _ _ k_ => z_iconst (v := 0) dX8_statementBody_283 rfl k_) ?_
          refine Zm.l (fun _ _ k_ => z_iconst (v := 0) dX8_statementBody_284 rfl k_) ?_
          refine Zm.l (fun _ _ k_ => z_iconst (v := 0) dX8_statementBody_285 rfl k_) ?_
          exact zm_callV (as := [vi (30 : Int32), vi (0 : Int32), vi (0 : Int32), vi (0 : Int32)]) (st := []) dX8_statementBody_286 vsX8_446_1 (Nat.le_refl _) (Nat.le_of_ble_eq_true rfl) (Nat.le_of_ble_eq_true rfl) rfl k
      · have k := zif h0_ k
        by_cases h1_ : (gi M 104 ((gi M 97 20)).toNatClampNeg) = 1
        · have k := zit h1_ k
          refine Zm.l (fun _ _ k_ => z_tableIn (off := 248) (tgt := 326) dX8_statementBody_78 (by rw [h1_]; decide) (by rw [h1_]; decide) (by rw [h1_]; rfl) rfl k_) ?_
          refine Zm.l (fun _ _ k_ => z_aload_n dX8_statementBody_326 rfl rfl k_) ?_
          refine Zm.pick [] rfl ?_
          exact zm_callV (as := []) (st := []) dX8_statementBody_327 vsX8_565_1 (Nat.le_refl _) (Nat.le_of_ble_eq_true rfl) (Nat.le_of_ble_eq_true rfl) rfl k
        · have k := zif h1_ k
          by_cases h2_ : (gi M 104 ((gi M 97 20)).toNatClampNeg) = 2
          · have k := zit h2_ k
            refine Zm.l (fun _ _ k_ => z_tableIn (off := 248) (tgt := 326) dX8_statementBody_78 (by rw [h2_]; decide) (by rw [h2_]; decide) (by rw [h2_]; rfl) rfl k_) ?_
            refine Zm.l (fun _ _ k_ => z_aload_n dX8_statementBody_326 rfl rfl k_) ?_
            refine Zm.pick [] rfl ?_
            exact zm_callV (as := []) (st := []) dX8_statementBody_327 vsX8_565_1 (Nat.le_refl _) (Nat.le_of_ble_eq_true rfl) (Nat.le_of_ble_eq_true rfl) rfl k
          · have k := zif h2_ k
            by_cases h3_ : (gi M 104 ((gi M 97 20)).toNatClampNeg) = 3
            · have k := zit h3_ k
              refine Zm.l (fun _ _ k_ => z_tableIn (off := 185) (tgt := 263) dX8_statementBody_78 (by rw [h3_]; decide) (by rw [h3_]; decide) (by rw [h3_]; rfl) rfl k_) ?_
              refine Zm.l (fun _ _ k_ => z_aload_n dX8_statementBody_263 rfl rfl k_) ?_
              refine Zm.l (fun _ _ k_ => z_aload_n dX8_statementBody_264 rfl rfl k_) ?_
              refine zm_getr 6 dX8_statementBody_265 fsX8_30_1 rfl ?_
              refine Zm.l (fun _ _ k_ => z_aload_n dX8_statementBody_268 rfl rfl k_) ?_
              refine zm_geti dX8_statementBody_269 fsX8_392_1 (by decide) (by decide) ?_
              obtain ⟨b_, k⟩ := k
              refine zm_iald dX8_statementBody_272 b_ (by decide) (by decide) ?_
              refine Zm.brn (fun _ _ k1_ k2_ => z_if_ne (tgt := 281) dX8_statementBody_273 rfl k1_ k2_) (fun h_ => ?_) (fun h_ => ?_)
              · have k := zif h_ k
                refine Zm.l (fun _ _ k_ => z_bipush (v := 29) dX8_statementBody_281 rfl k_) ?_
                refine Zm.l (fun _ _ k_ => z_iconst (v := 0) dX8_statementBody_283 rfl k_) ?_
                refine Zm.l (fun _ _ k_ => z_iconst (v := 0) dX8_statementBody_284 rfl k_) ?_
                refine Zm.l (fun _ _ k_ => z_iconst (v := 0) dX8_statementBody_285 rfl k_) ?_
                exact zm_callV (as := [vi (29 : Int32), vi (0 : Int32), vi (0 : Int32), vi (0 : Int32)]) (st := []) dX8_statementBody_286 vsX8_446_1 (Nat.le_refl _) (Nat.le_of_ble_eq_true rfl) (Nat.le_of_ble_eq_true rfl) rfl k
              · have k := zit h_ k
                refine Zm.l (fun _ _ k_ => z_bipush (v := 30) dX8_statementBody_276 rfl k_) ?_
                refine Zm.l (fun _ _ k_ => z_goto (tgt := 283) dX8_statementBody_278 rfl k_) ?_
                refine Zm.l (fun _ _ k_ => z_iconst (v := 0) dX8_statementBody_283 rfl k_) ?_
                refine Zm.l (fun _ _ k_ => z_iconst (v := 0) dX8_statementBody_284 rfl k_) ?_
                refine Zm.l (fun _ _ k_ => z_iconst (v := 0) dX8_statementBody_285 rfl k_) ?_
                exact zm_callV (as := [vi (30 : Int32), vi (0 : Int32), vi (0 : Int32), vi (0 : Int32)]) (st := []) dX8_statementBody_286 vsX8_446_1 (Nat.le_refl _) (Nat.le_of_ble_eq_true rfl) (Nat.le_of_ble_eq_true rfl) rfl k
            · have k := zif h3_ k
              by_cases h4_ : (gi M 104 ((gi M 97 20)).toNatClampNeg) = 4
              · have k := zit h4_ k
                refine Zm.l (fun _ _ k_ => z_tableIn (off := 248) (tgt := 326) dX8_statementBody_78 (by rw [h4_]; decide) (by rw [h4_]; decide) (by rw [h4_]; rfl) rfl k_) ?_
                refine Zm.l (fun _ _ k_ => z_aload_n dX8_statementBody_326 rfl rfl k_) ?_
                refine Zm.pick [] rfl ?_
                exact zm_callV (as := []) (st := []) dX8_statementBody_327 vsX8_565_1 (Nat.le_refl _) (Nat.le_of_ble_eq_true rfl) (Nat.le_of_ble_eq_true rfl) rfl k
              · have k := zif h4_ k
                by_cases h5_ : (gi M 104 ((gi M 97 20)).toNatClampNeg) = 5
                · have k := zit h5_ k
                  refine Zm.l (fun _ _ k_ => z_tableIn (off := 248) (tgt := 326) dX8_statementBody_78 (by rw [h5_]; decide) (by rw [h5_]; decide) (by rw [h5_]; rfl) rfl k_) ?_
                  refine Zm.l (fun _ _ k_ => z_aload_n dX8_statementBody_326 rfl rfl k_) ?_
                  refine Zm.pick [] rfl ?_
                  exact zm_callV (as := []) (st := []) dX8_statementBody_327 vsX8_565_1 (Nat.le_refl _) (Nat.le_of_ble_eq_true rfl) (Nat.le_of_ble_eq_true rfl) rfl k
                · have k := zif h5_ k
                  by_cases h6_ : (gi M 104 ((gi M 97 20)).toNatClampNeg) = 6
                  · have k := zit h6_ k
                    refine Zm.l (fun _ _ k_ => z_tableIn (off := 175) (tgt := 253) dX8_statementBody_78 (by rw [h6_]; decide) (by rw [h6_]; decide) (by rw [h6_]; rfl) rfl k_) ?_
                    refine Zm.l (fun _ _ k_ => z_aload_n dX8_statementBody_253 rfl rfl k_) ?_
                    refine Zm.pick [] rfl ?_
                    exact zm_callV (as := []) (st := []) dX8_statementBody_254 vsX8_583_1 (Nat.le_refl _) (Nat.le_of_ble_eq_true rfl) (Nat.le_of_ble_eq_true rfl) rfl k
                  · have k := zif h6_ k
                    by_cases h7_ : (gi M 104 ((gi M 97 20)).toNatClampNeg) = 7
                    · have k := zit h7_ k
                      refine Zm.l (fun _ _ k_ => z_tableIn (off := 248) (tgt := 326) dX8_statementBody_78 (by rw [h7_]; decide) (by rw [h7_]; decide) (by rw [h7_]; rfl) rfl k_) ?_
                      refine Zm.l (fun _ _ k_ => z_aload_n dX8_statementBody_326 rfl rfl k_) ?_
                      refine Zm.pick [] rfl ?_
                      exact zm_callV (as := []) (st := []) dX8_statementBody_327 vsX8_565_1 (Nat.le_refl _) (Nat.le_of_ble_eq_true rfl) (Nat.le_of_ble_eq_true rfl) rfl k
                    · have k := zif h7_ k
                      by_cases h8_ : (gi M 104 ((gi M 97 20)).toNatClampNeg) = 8
                      · have k := zit h8_ k
                        refine Zm.l (fun _ _ k_ => z_tableIn (off := 248) (tgt := 326) dX8_statementBody_78 (by rw [h8_]; decide) (by rw [h8_]; decide) (by rw [h8_]; rfl) rfl k_) ?_
                        refine Zm.l (fun _ _ k_ => z_aload_n dX8_statementBody_326 rfl rfl k_) ?_
                        refine Zm.pick [] rfl ?_
                        exact zm_callV (as := []) (st := []) dX8_statementBody_327 vsX8_565_1 (Nat.le_refl _) (Nat.le_of_ble_eq_true rfl) (Nat.le_of_ble_eq_true rfl) rfl k
                      · have k := zif h8_ k
                        by_cases h9_ : (gi M 104 ((gi M 97 20)).toNatClampNeg) = 9
                        · have k := zit h9_ k
                          refine Zm.l (fun _ _ k_ => z_tableIn (off := 248) (tgt := 326) dX8_statementBody_78 (by rw [h9_]; decide) (by rw [h9_]; decide) (by rw [h9_]; rfl) rfl k_) ?_
                          refine Zm.l (fun _ _ k_ => z_aload_n dX8_statementBody_326 rfl rfl k_) ?_
                          refine Zm.pick [] rfl ?_
                          exact zm_callV (as := []) (st := []) dX8_statementBody_327 vsX8_565_1 (Nat.le_refl _) (Nat.le_of_ble_eq_true rfl) (Nat.le_of_ble_eq_true rfl) rfl k
                        · have k := zif h9_ k
                          by_cases h10_ : (gi M 104 ((gi M 97 20)).toNatClampNeg) = 10
                          · have k := zit h10_ k
                            refine Zm.l (fun _ _ k_ => z_tableIn (off := 180) (tgt := 258) dX8_statementBody_78 (by rw [h10_]; decide) (by rw [h10_]; decide) (by rw [h10_]; rfl) rfl k_) ?_
                            refine Zm.l (fun _ _ k_ => z_aload_n dX8_statementBody_258 rfl rfl k_) ?_
                            refine Zm.pick [] rfl ?_
                            exact zm_callV (as := []) (st := []) dX8_statementBody_259 vsX8_585_1 (Nat.le_refl _) (Nat.le_of_ble_eq_true rfl) (Nat.le_of_ble_eq_true rfl) rfl k
                          · have k := zif h10_ k
                            by_cases h11_ : (gi M 104 ((gi M 97 20)).toNatClampNeg) = 11
                            · have k := zit h11_ k
                              refine Zm.l (fun _ _ k_ => z_tableIn (off := 248) (tgt := 326) dX8_statementBody_78 (by rw [h11_]; decide) (by rw [h11_]; decide) (by rw [h11_]; rfl) rfl k_) ?_
                              refine Zm.l (fun _ _ k_ => z_aload_n dX8_statementBody_326 rfl rfl k_) ?_
                              refine Zm.pick [] rfl ?_
                              exact zm_callV (as := []) (st := []) dX8_statementBody_327 vsX8_565_1 (Nat.le_refl _) (Nat.le_of_ble_eq_true rfl) (Nat.le_of_ble_eq_true rfl) rfl k
                            · have k := zif h11_ k
                              by_cases h12_ : (gi M 104 ((gi M 97 20)).toNatClampNeg) = 12
                              · have k := zit h12_ k
                                refine Zm.l (fun _ _ k_ => z_tableIn (off := 142) (tgt := 220) dX8_statementBody_78 (by rw [h12_]; decide) (by rw [h12_]; decide) (by rw [h12_]; rfl) rfl k_) ?_
                                refine Zm.l (fun _ _ k_ => z_aload_n dX8_statementBody_220 rfl rfl k_) ?_
                                refine Zm.pick [] rfl ?_
                                exact zm_callV (as := []) (st := []) dX8_statementBody_221 vsX8_574_1 (Nat.le_refl _) (Nat.le_of_ble_eq_true rfl) (Nat.le_of_ble_eq_true rfl) rfl k
                              · have k := zif h12_ k
                                by_cases h13_ : (gi M 104 ((gi M 97 20)).toNatClampNeg) = 13
                                · have k := zit h13_ k
                                  refine Zm.l (fun _ _ k_ => z_tableIn (off := 248) (tgt := 326) dX8_statementBody_78 (by rw [h13_]; decide) (by rw [h13_]; decide) (by rw [h13_]; rfl) rfl k_) ?_
                                  refine Zm.l (fun _ _ k_ => z_aload_n dX8_statementBody_326 rfl rfl k_) ?_
                                  refine Zm.pick [] rfl ?_
                                  exact zm_callV (as := []) (st := []) dX8_statementBody_327 vsX8_565_1 (Nat.le_refl _) (Nat.le_of_ble_eq_true rfl) (Nat.le_of_ble_eq_true rfl) rfl k
                                · have k := zif h13_ k
                                  by_cases h14_ : (gi M 104 ((gi M 97 20)).toNatClampNeg) = 14
                                  · have k := zit h14_ k
                                    refine Zm.l (fun _ _ k_ => z_tableIn (off := 248) (tgt := 326) dX8_statementBody_78 (by rw [h14_]; decide) (by rw [h14_]; decide) (by rw [h14_]; rfl) rfl k_) ?_
                                    refine Zm.l (fun _ _ k_ => z_aload_n dX8_statementBody_326 rfl rfl k_) ?_
                                    refine Zm.pick [] rfl ?_
                                    exact zm_callV (as := []) (st := []) dX8_statementBody_327 vsX8_565_1 (Nat.le_refl _) (Nat.le_of_ble_eq_true rfl) (Nat.le_of_ble_eq_true rfl) rfl k
                                  · have k := zif h14_ k
                                    by_cases h15_ : (gi M 104 ((gi M 97 20)).toNatClampNeg) = 15
                                    · have k := zit h15_ k
                                      refine Zm.l (fun _ _ k_ => z_tableIn (off := 248) (tgt := 326) dX8_statementBody_78 (by rw [h15_]; decide) (by rw [h15_]; decide) (by rw [h15_]; rfl) rfl k_) ?_
                                      refine Zm.l (fun _ _ k_ => z_aload_n dX8_statementBody_326 rfl rfl k_) ?_
                                      refine Zm.pick [] rfl ?_
                                      exact zm_callV (as := []) (st := []) dX8_statementBody_327 vsX8_565_1 (Nat.le_refl _) (Nat.le_of_ble_eq_true rfl) (Nat.le_of_ble_eq_true rfl) rfl k
                                    · have k := zif h15_ k
                                      by_cases h16_ : (gi M 104 ((gi M 97 20)).toNatClampNeg) = 16
                                      · have k := zit h16_ k
                                        refine Zm.l (fun _ _ k_ => z_tableIn (off := 248) (tgt := 326) dX8_statementBody_78 (by rw [h16_]; decide) (by rw [h16_]; decide) (by rw [h16_]; rfl) rfl k_) ?_
                                        refine Zm.l (fun _ _ k_ => z_aload_n dX8_statementBody_326 rfl rfl k_) ?_
                                        refine Zm.pick [] rfl ?_
                                        exact zm_callV (as := []) (st := []) dX8_statementBody_327 vsX8_565_1 (Nat.le_refl _) (Nat.le_of_ble_eq_true rfl) (Nat.le_of_ble_eq_true rfl) rfl k
                                      · have k := zif h16_ k
                                        by_cases h17_ : (gi M 104 ((gi M 97 20)).toNatClampNeg) = 17
                                        · have k := zit h17_ k
                                          refine Zm.l (fun _ _ k_ => z_tableIn (off := 248) (tgt := 326) dX8_statementBody_78 (by rw [h17_]; decide) (by rw [h17_]; decide) (by rw [h17_]; rfl) rfl k_) ?_
                                          refine Zm.l (fun _ _ k_ => z_aload_n dX8_statementBody_326 rfl rfl k_) ?_
                                          refine Zm.pick [] rfl ?_
                                          exact zm_callV (as := []) (st := []) dX8_statementBody_327 vsX8_565_1 (Nat.le_refl _) (Nat.le_of_ble_eq_true rfl) (Nat.le_of_ble_eq_true rfl) rfl k
                                        · have k := zif h17_ k
                                          by_cases h18_ : (gi M 104 ((gi M 97 20)).toNatClampNeg) = 18
                                          · have k := zit h18_ k
                                            refine Zm.l (fun _ _ k_ => z_tableIn (off := 228) (tgt := 306) dX8_statementBody_78 (by rw [h18_]; decide) (by rw [h18_]; decide) (by rw [h18_]; rfl) rfl k_) ?_
                                            refine Zm.l (fun _ _ k_ => z_aload_n dX8_statementBody_306 rfl rfl k_) ?_
                                            refine Zm.pick [] rfl ?_
                                            exact zm_callV (as := []) (st := []) dX8_statementBody_307 vsX8_588_1 (Nat.le_refl _) (Nat.le_of_ble_eq_true rfl) (Nat.le_of_ble_eq_true rfl) rfl k
                                          · have k := zif h18_ k
                                            by_cases h19_ : (gi M 104 ((gi M 97 20)).toNatClampNeg) = 19
                                            · have k := zit h19_ k
                                              refine Zm.l (fun _ _ k_ => z_tableIn (off := 243) (tgt := 321) dX8_statementBody_78 (by rw [h19_]; decide) (by rw [h19_]; decide) (by rw [h19_]; rfl) rfl k_) ?_
                                              refine Zm.l (fun _ _ k_ => z_aload_n dX8_statementBody_321 rfl rfl k_) ?_
                                              refine Zm.pick [] rfl ?_
                                              exact zm_callV (as := []) (st := []) dX8_statementBody_322 vsX8_597_1 (Nat.le_refl _) (Nat.le_of_ble_eq_true rfl) (Nat.le_of_ble_eq_true rfl) rfl k
                                            · have k := zif h19_ k
                                              by_cases h20_ : (gi M 104 ((gi M 97 20)).toNatClampNeg) = 20
                                              · have k := zit h20_ k
                                                refine Zm.l (fun _ _ k_ => z_tableIn (off := 248) (tgt := 326) dX8_statementBody_78 (by rw [h20_]; decide) (by rw [h20_]; decide) (by rw [h20_]; rfl) rfl k_) ?_
                                                refine Zm.l (fun _ _ k_ => z_aload_n dX8_statementBody_326 rfl rfl k_) ?_
                                                refine Zm.pick [] rfl ?_
                                                exact zm_callV (as := []) (st := []) dX8_statementBody_327 vsX8_565_1 (Nat.le_refl _) (Nat.le_of_ble_eq_true rfl) (Nat.le_of_ble_eq_true rfl) rfl k
                                              · have k := zif h20_ k
                                                by_cases h21_ : (gi M 104 ((gi M 97 20)).toNatClampNeg) = 21
                                                · have k := zit h21_ k
                                                  refine Zm.l (fun _ _ k_ => z_tableIn (off := 233) (tgt := 311) dX8_statementBody_78 (by rw [h21_]; decide) (by rw [h21_]; decide) (by rw [h21_]; rfl) rfl k_) ?_
                                                  refine Zm.l (fun _ _ k_ => z_aload_n dX8_statementBody_311 rfl rfl k_) ?_
                                                  refine Zm.pick [] rfl ?_
                                                  exact zm_callV (as := []) (st := []) dX8_statementBody_312 vsX8_591_1 (Nat.le_refl _) (Nat.le_of_ble_eq_true rfl) (Nat.le_of_ble_eq_true rfl) rfl k
                                                · have k := zif h21_ k
                                                  by_cases h22_ : (gi M 104 ((gi M 97 20)).toNatClampNeg) = 22
                                                  · have k := zit h22_ k
                                                    refine Zm.l (fun _ _ k_ => z_tableIn (off := 248) (tgt := 326) dX8_statementBody_78 (by rw [h22_]; decide) (by rw [h22_]; decide) (by rw [h22_]; rfl) rfl k_) ?_
                                                    refine Zm.l (fun _ _ k_ => z_aload_n dX8_statementBody_326 rfl rfl k_) ?_
                                                    refine Zm.pick [] rfl ?_
                                                    exact zm_callV (as := []) (st := []) dX8_statementBody_327 vsX8_565_1 (Nat.le_refl _) (Nat.le_of_ble_eq_true rfl) (Nat.le_of_ble_eq_true rfl) rfl k
                                                  · have k := zif h22_ k
                                                    by_cases h23_ : (gi M 104 ((gi M 97 20)).toNatClampNeg) = 23
                                                    · have k := zit h23_ k
                                                      refine Zm.l (fun _ _ k_ => z_tableIn (off := 238) (tgt := 316) dX8_statementBody_78 (by rw [h23_]; decide) (by rw [h23_]; decide) (by rw [h23_]; rfl) rfl k_) ?_
                                                      refine Zm.l (fun _ _ k_ => z_aload_n dX8_statementBody_316 rfl rfl k_) ?_
                                                      refine Zm.pick [] rfl ?_
                                                      exact zm_callV (as := []) (st := []) dX8_statementBody_317 vsX8_594_1 (Nat.le_refl _) (Nat.le_of_ble_eq_true rfl) (Nat.le_of_ble_eq_true rfl) rfl k
                                                    · have k := zif h23_ k
                                                      by_cases h24_ : (gi M 104 ((gi M 97 20)).toNatClampNeg) = 24
                                                      · have k := zit h24_ k
                                                        refine Zm.l (fun _ _ k_ => z_tableIn (off := 248) (tgt := 326) dX8_statementBody_78 (by rw [h24_]; decide) (by rw [h24_]; decide) (by rw [h24_]; rfl) rfl k_) ?_
                                                        refine Zm.l (fun _ _ k_ => z_aload_n dX8_statementBody_326 rfl rfl k_) ?_
                                                        refine Zm.pick [] rfl ?_
                                                        exact zm_callV (as := []) (st := []) dX8_statementBody_327 vsX8_565_1 (Nat.le_refl _) (Nat.le_of_ble_eq_true rfl) (Nat.le_of_ble_eq_true rfl) rfl k
                                                      · have k := zif h24_ k
                                                        by_cases h25_ : (gi M 104 ((gi M 97 20)).toNatClampNeg) = 25
                                                        · have k := zit h25_ k
                                                          refine Zm.l (fun _ _ k_ => z_tableIn (off := 248) (tgt := 326) dX8_statementBody_78 (by rw [h25_]; decide) (by rw [h25_]; decide) (by rw [h25_]; rfl) rfl k_) ?_
                                                          refine Zm.l (fun _ _ k_ => z_aload_n dX8_statementBody_326 rfl rfl k_) ?_
                                                          refine Zm.pick [] rfl ?_
                                                          exact zm_callV (as := []) (st := []) dX8_statementBody_327 vsX8_565_1 (Nat.le_refl _) (Nat.le_of_ble_eq_true rfl) (Nat.le_of_ble_eq_true rfl) rfl k
                                                        · have k := zif h25_ k
                                                          by_cases h26_ : (gi M 104 ((gi M 97 20)).toNatClampNeg) = 26
                                                          · have k := zit h26_ k
                                                            refine Zm.l (fun _ _ k_ => z_tableIn (off := 130) (tgt := 208) dX8_statementBody_78 (by rw [h26_]; decide) (by rw [h26_]; decide) (by rw [h26_]; rfl) rfl k_) ?_
                                                            refine Zm.l (fun _ _ k_ => z_aload_n dX8_statementBody_208 rfl rfl k_) ?_
                                                            refine Zm.l (fun _ _ k_ => z_iconst (v := 1) dX8_statementBody_209 rfl k_) ?_
                                                            exact zm_callV (as := [vi (1 : Int32)]) (st := []) dX8_statementBody_210 vsX8_568_1 (Nat.le_refl _) (Nat.le_of_ble_eq_true rfl) (Nat.le_of_ble_eq_true rfl) rfl k
                                                          · have k := zif h26_ k
                                                            by_cases h27_ : (gi M 104 ((gi M 97 20)).toNatClampNeg) = 27
                                                            · have k := zit h27_ k
                                                              refine Zm.l (fun _ _ k_ => z_tableIn (off := 248) (tgt := 326) dX8_statementBody_78 (by rw [h27_]; decide) (by rw [h27_]; decide) (by rw [h27_]; rfl) rfl k_) ?_
                                                              refine Zm.l (fun _ _ k_ => z_aload_n dX8_statementBody_326 rfl rfl k_) ?_
                                                              refine Zm.pick [] rfl ?_
                                                              exact zm_callV (as := []) (st := []) dX8_statementBody_327 vsX8_565_1 (Nat.le_refl _) (Nat.le_of_ble_eq_true rfl) (Nat.le_of_ble_eq_true rfl) rfl k
                                                            · have k := zif h27_ k
                                                              by_cases h28_ : (gi M 104 ((gi M 97 20)).toNatClampNeg) = 28
                                                              · have k := zit h28_ k
                                                                refine Zm.l (fun _ _ k_ => z_tableIn (off := 147) (tgt := 225) dX8_statementBody_78 (by rw [h28_]; decide) (by rw [h28_]; decide) (by rw [h28_]; rfl) rfl k_) ?_
                                                                refine Zm.l (fun _ _ k_ => z_aload_n dX8_statementBody_225 rfl rfl k_) ?_
                                                                refine Zm.l (fun _ _ k_ => z_dup dX8_statementBody_226 rfl k_) ?_
                                                                refine zm_geti dX8_statementBody_227 fsX8_392_1 (by decide) (by decide) ?_
                                                                refine Zm.l (fun _ _ k_ => z_iconst (v := 1) dX8_statementBody_230 rfl k_) ?_
                                                                refine Zm.l (fun _ _ k_ => z_iadd dX8_statementBody_231 k_) ?_
                                                                refine zm_puti (by decide) (by decide) dX8_statementBody_232 (zfwN.w fwX8_392_1) rfl ⟨rfl, rfl⟩ ?_
                                                                refine Zm.l (fun _ _ k_ => z_aload_n dX8_statementBody_235 rfl rfl k_) ?_
                                                                exact zm_callV (as := []) (st := []) dX8_statementBody_236 vsX8_577_1 (Nat.le_refl _) (Nat.le_of_ble_eq_true rfl) (Nat.le_of_ble_eq_true rfl) rfl k
                                                              · have k := zif h28_ k
                                                                refine Zm.l (fun _ _ k_ => z_tout (tgt := 326) [0, 1, 2, 3, 4, 5, 6, 7, 8, 9, 10, 11, 12, 13, 14, 15, 16, 17, 18, 19, 20, 21, 22, 23, 24, 25, 26, 27, 28] (by decide) dX8_statementBody_78 (zall_1 h0_ (zall_1 h1_ (zall_1 h2_ (zall_1 h3_ (zall_1 h4_ (zall_1 h5_ (zall_1 h6_ (zall_1 h7_ (zall_1 h8_ (zall_1 h9_ (zall_1 h10_ (zall_1 h11_ (zall_1 h12_ (zall_1 h13_ (zall_1 h14_ (zall_1 h15_ (zall_1 h16_ (zall_1 h17_ (zall_1 h18_ (zall_1 h19_ (zall_1 h20_ (zall_1 h21_ (zall_1 h22_ (zall_1 h23_ (zall_1 h24_ (zall_1 h25_ (zall_1 h26_ (zall_1 h27_ (zall_1 h28_ zall_0))))))))))))))))))))))))))))) rfl k_) ?_
                                                                refine Zm.l (fun _ _ k_ => z_aload_n dX8_statementBody_326 rfl rfl k_) ?_
                                                                refine Zm.pick [] rfl ?_
                                                                exact zm_callV (as := []) (st := []) dX8_statementBody_327 vsX8_565_1 (Nat.le_refl _) (Nat.le_of_ble_eq_true rfl) (Nat.le_of_ble_eq_true rfl) rfl k
    · have k := zif h_ k
      refine Zm.l (fun _ _ k_ => z_aload_n dX8_statementBody_64 rfl rfl k_) ?_
      refine Zm.pick [] rfl ?_
      exact zm_callV (as := []) (st := []) dX8_statementBody_65 vsX8_565_1 (Nat.le_refl _) (Nat.le_of_ble_eq_true rfl) (Nat.le_of_ble_eq_true rfl) rfl k
  · have k := zif h_ k
    refine Zm.l (fun _ _ k_ => z_aload_n dX8_statementBody_31 rfl rfl k_) ?_
    refine Zm.l (fun _ _ k_ => z_dup dX8_statementBody_32 rfl k_) ?_
    refine zm_geti dX8_statementBody_33 fsX8_392_1 (by decide) (by decide) ?_
    refine Zm.l (fun _ _ k_ => z_iconst (v := 1) dX8_statementBody_36 rfl k_) ?_
    refine Zm.l (fun _ _ k_ => z_iadd dX8_statementBody_37 k_) ?_
    refine zm_puti (by decide) (by decide) dX8_statementBody_38 (zfwN.w fwX8_392_1) rfl ⟨rfl, rfl⟩ ?_
    refine Zm.l (fun _ _ k_ => z_aload_n dX8_statementBody_41 rfl rfl k_) ?_
    refine Zm.l (fun _ _ k_ => z_bipush (v := 22) dX8_statementBody_42 rfl k_) ?_
    refine Zm.l (fun _ _ k_ => z_iconst (v := 0) dX8_statementBody_44 rfl k_) ?_
    refine Zm.l (fun _ _ k_ => z_iconst (v := 0) dX8_statementBody_45 rfl k_) ?_
    refine Zm.l (fun _ _ k_ => z_iconst (v := 0) dX8_statementBody_46 rfl k_) ?_
    refine Zm.pick [] rfl ?_
    exact zm_callV (as := [vi (22 : Int32), vi (0 : Int32), vi (0 : Int32), vi (0 : Int32)]) (st := []) dX8_statementBody_47 vsX8_446_1 (Nat.le_refl _) (Nat.le_of_ble_eq_true rfl) (Nat.le_of_ble_eq_true rfl) rfl k
theorem sX8_statementBody_50 {E : zE} {d : Nat} {Q : zO → zM → Prop} (M : zM) (s0 : Int32) (k : Q (.inl (some (vi s0))) M) : Zm E YX8_statementBody (d + 1) M [] 50 [vi s0] Q := by
  exact zm_iret dX8_statementBody_50 rfl rfl k
theorem sX8_statementBody_68 {E : zE} {d : Nat} {Q : zO → zM → Prop} (M : zM) (s0 : Int32) (k : Q (.inl (some (vi s0))) M) : Zm E YX8_statementBody (d + 1) M [] 68 [vi s0] Q := by
  exact zm_iret dX8_statementBody_68 rfl rfl k
theorem sX8_statementBody_213 {E : zE} {d : Nat} {Q : zO → zM → Prop} (M : zM) (s0 : Int32) (k : Zm E YX8_endOfStatement d M (zargs 0 [vr (some (97, 1, 0))]) 0 [] (zma E YX8_statementBody (d + 1) [(1, vi s0)] 215 3 [] Q)) : Zm E YX8_statementBody (d + 1) M [(0, vr (some (97, 1, 0)))] 213 [vi s0] Q := by
  refine Zm.l (fun _ _ k_ => z_ist_n dX8_statementBody_213 rfl (by decide) (lv' := [(0, vr (some (97, 1, 0))), (1, vi s0)]) rfl k_) ?_
  refine Zm.l (fun _ _ k_ => z_aload_n dX8_statementBody_214 rfl rfl k_) ?_
  refine Zm.pick [1] rfl ?_
  exact zm_callV (as := []) (st := []) dX8_statementBody_215 vsX8_571_1 (Nat.le_refl _) (Nat.le_of_ble_eq_true rfl) (Nat.le_of_ble_eq_true rfl) rfl k
theorem sX8_statementBody_218 {E : zE} {d : Nat} {Q : zO → zM → Prop} (M : zM) (l1 : Int32) (k : Q (.inl (some (vi l1))) M) : Zm E YX8_statementBody (d + 1) M [(1, vi l1)] 218 [] Q := by
  refine Zm.l (fun _ _ k_ => z_iload_n dX8_statementBody_218 rfl rfl k_) ?_
  exact zm_iret dX8_statementBody_219 rfl rfl k
theorem sX8_statementBody_224 {E : zE} {d : Nat} {Q : zO → zM → Prop} (M : zM) (s0 : Int32) (k : Q (.inl (some (vi s0))) M) : Zm E YX8_statementBody (d + 1) M [] 224 [vi s0] Q := by
  exact zm_iret dX8_statementBody_224 rfl rfl k
theorem sX8_statementBody_239 {E : zE} {d : Nat} {Q : zO → zM → Prop} (M : zM) (s0 : Int32) (k : Zm E YX8_looped d M (zargs 0 [vr (some (97, 1, 0))]) 0 [] (zma E YX8_statementBody (d + 1) [] 245 3 [vi s0, vi (25 : Int32), vr (some (97, 1, 0))] Q)) : Zm E YX8_statementBody (d + 1) M [(0, vr (some (97, 1, 0)))] 239 [vi s0] Q := by
  refine Zm.l (fun _ _ k_ => z_ist_n dX8_statementBody_239 rfl (by decide) (lv' := [(0, vr (some (97, 1, 0))), (1, vi s0)]) rfl k_) ?_
  refine Zm.l (fun _ _ k_ => z_aload_n dX8_statementBody_240 rfl rfl k_) ?_
  refine Zm.l (fun _ _ k_ => z_bipush (v := 25) dX8_statementBody_241 rfl k_) ?_
  refine Zm.l (fun _ _ k_ => z_iload_n dX8_statementBody_243 rfl rfl k_) ?_
  refine Zm.l (fun _ _ k_ => z_aload_n dX8_statementBody_244 rfl rfl k_) ?_
  refine Zm.pick [] rfl ?_
  exact zm_callV (as := []) (st := [vi s0, vi (25 : Int32), vr (some (97, 1, 0))]) dX8_statementBody_245 vsX8_580_1 (Nat.le_refl _) (Nat.le_of_ble_eq_true rfl) (Nat.le_of_ble_eq_true rfl) rfl k
theorem sX8_statementBody_248 {E : zE} {d : Nat} {Q : zO → zM → Prop} (M : zM) (s0 : Int32) (s1 : Int32) (s2 : Int32) (k : Zm E YX8_node d M (zargs 0 [vr (some (97, 1, 0)), vi s2, vi s1, vi s0, vi (0 : Int32)]) 0 [] (zma E YX8_statementBody (d + 1) [] 249 3 [] Q)) : Zm E YX8_statementBody (d + 1) M [] 248 [vi s0, vi s1, vi s2, vr (some (97, 1, 0))] Q := by
  refine Zm.l (fun _ _ k_ => z_iconst (v := 0) dX8_statementBody_248 rfl k_) ?_
  exact zm_callV (as := [vi s2, vi s1, vi s0, vi (0 : Int32)]) (st := []) dX8_statementBody_249 vsX8_446_1 (Nat.le_refl _) (Nat.le_of_ble_eq_true rfl) (Nat.le_of_ble_eq_true rfl) rfl k
theorem sX8_statementBody_252 {E : zE} {d : Nat} {Q : zO → zM → Prop} (M : zM) (s0 : Int32) (k : Q (.inl (some (vi s0))) M) : Zm E YX8_statementBody (d + 1) M [] 252 [vi s0] Q := by
  exact zm_iret dX8_statementBody_252 rfl rfl k
theorem sX8_statementBody_257 {E : zE} {d : Nat} {Q : zO → zM → Prop} (M : zM) (s0 : Int32) (k : Q (.inl (some (vi s0))) M) : Zm E YX8_statementBody (d + 1) M [] 257 [vi s0] Q := by
  exact zm_iret dX8_statementBody_257 rfl rfl k
theorem sX8_statementBody_262 {E : zE} {d : Nat} {Q : zO → zM → Prop} (M : zM) (s0 : Int32) (k : Q (.inl (some (vi s0))) M) : Zm E YX8_statementBody (d + 1) M [] 262 [vi s0] Q := by
  exact zm_iret dX8_statementBody_262 rfl rfl k
theorem sX8_statementBody_289 {E : zE} {d : Nat} {Q : zO → zM → Prop} (M : zM) (s0 : Int32) (k : Zm E YX8_endOfStatement d (si M 97 20 ((gi M 97 20) + (1 : Int32))) (zargs 0 [vr (some (97, 1, 0))]) 0 [] (zma E YX8_statementBody (d + 1) [(1, vi s0)] 301 3 [] Q)) : Zm E YX8_statementBody (d + 1) M [(0, vr (some (97, 1, 0)))] 289 [vi s0] Q := by
  refine Zm.l (fun _ _ k_ => z_ist_n dX8_statementBody_289 rfl (by decide) (lv' := [(0, vr (some (97, 1, 0))), (1, vi s0)]) rfl k_) ?_
  refine Zm.l (fun _ _ k_ => z_aload_n dX8_statementBody_290 rfl rfl k_) ?_
  refine Zm.l (fun _ _ k_ => z_dup dX8_statementBody_291 rfl k_) ?_
  refine zm_geti dX8_statementBody_292 fsX8_392_1 (by decide) (by decide) ?_
  refine Zm.l (fun _ _ k_ => z_iconst (v := 1) dX8_statementBody_295 rfl k_) ?_
  refine Zm.l (fun _ _ k_ => z_iadd dX8_statementBody_296 k_) ?_
  refine zm_puti (by decide) (by decide) dX8_statementBody_297 (zfwN.w fwX8_392_1) rfl ⟨rfl, rfl⟩ ?_
  refine Zm.l (fun _ _ k_ => z_aload_n dX8_statementBody_300 rfl rfl k_) ?_
  refine Zm.pick [1] rfl ?_
  exact zm_callV (as := []) (st := []) dX8_statementBody_301 vsX8_571_1 (Nat.le_refl _) (Nat.le_of_ble_eq_true rfl) (Nat.le_of_ble_eq_true rfl) rfl k
theorem sX8_statementBody_304 {E : zE} {d : Nat} {Q : zO → zM → Prop} (M : zM) (l1 : Int32) (k : Q (.inl (some (vi l1))) M) : Zm E YX8_statementBody (d + 1) M [(1, vi l1)] 304 [] Q := by
  refine Zm.l (fun _ _ k_ => z_iload_n dX8_statementBody_304 rfl rfl k_) ?_
  exact zm_iret dX8_statementBody_305 rfl rfl k
theorem sX8_statementBody_310 {E : zE} {d : Nat} {Q : zO → zM → Prop} (M : zM) (s0 : Int32) (k : Q (.inl (some (vi s0))) M) : Zm E YX8_statementBody (d + 1) M [] 310 [vi s0] Q := by
  exact zm_iret dX8_statementBody_310 rfl rfl k
theorem sX8_statementBody_315 {E : zE} {d : Nat} {Q : zO → zM → Prop} (M : zM) (s0 : Int32) (k : Q (.inl (some (vi s0))) M) : Zm E YX8_statementBody (d + 1) M [] 315 [vi s0] Q := by
  exact zm_iret dX8_statementBody_315 rfl rfl k
theorem sX8_statementBody_320 {E : zE} {d : Nat} {Q : zO → zM → Prop} (M : zM) (s0 : Int32) (k : Q (.inl (some (vi s0))) M) : Zm E YX8_statementBody (d + 1) M [] 320 [vi s0] Q := by
  exact zm_iret dX8_statementBody_320 rfl rfl k
theorem sX8_statementBody_325 {E : zE} {d : Nat} {Q : zO → zM → Prop} (M : zM) (s0 : Int32) (k : Q (.inl (some (vi s0))) M) : Zm E YX8_statementBody (d + 1) M [] 325 [vi s0] Q := by
  exact zm_iret dX8_statementBody_325 rfl rfl k
theorem sX8_statementBody_330 {E : zE} {d : Nat} {Q : zO → zM → Prop} (M : zM) (s0 : Int32) (k : Q (.inl (some (vi s0))) M) : Zm E YX8_statementBody (d + 1) M [] 330 [vi s0] Q := by
  exact zm_iret dX8_statementBody_330 rfl rfl k
/-! ScriptTypesModel.block()I -/
theorem bX8_block_0 : zdec cX8_block 0 [(0, .aload_n 0, 1), (1, .invokevirtual 509, 3), (4, .aload_n 0, 1), (5, .bipush 24, 2), (7, .invokevirtual 473, 3), (10, .istore_n 1, 1), (11, .aload_n 0, 1), (12, .getfield 389, 3), (15, .ifCond .ne 23, 3), (18, .aload_n 0, 1), (19, .bipush 25, 2), (21, .invokevirtual 398, 3), (24, .ifCond .ne 14, 3), (27, .aload_n 0, 1), (28, .aload_n 0, 1), (29, .invokevirtual 553, 3)] = true := by decide +kernel
theorem dX8_block_0 : decode cX8_block 0 = .ok (.aload_n 0, 1) := zdec_at bX8_block_0 0 rfl
theorem dX8_block_1 : decode cX8_block 1 = .ok (.invokevirtual 509, 3) := zdec_at bX8_block_0 1 rfl
theorem dX8_block_4 : decode cX8_block 4 = .ok (.aload_n 0, 1) := zdec_at bX8_block_0 2 rfl
theorem dX8_block_5 : decode cX8_block 5 = .ok (.bipush 24, 2) := zdec_at bX8_block_0 3 rfl
theorem dX8_block_7 : decode cX8_block 7 = .ok (.invokevirtual 473, 3) := zdec_at bX8_block_0 4 rfl
theorem dX8_block_10 : decode cX8_block 10 = .ok (.istore_n 1, 1) := zdec_at bX8_block_0 5 rfl
theorem dX8_block_11 : decode cX8_block 11 = .ok (.aload_n 0, 1) := zdec_at bX8_block_0 6 rfl
theorem dX8_block_12 : decode cX8_block 12 = .ok (.getfield 389, 3) := zdec_at bX8_block_0 7 rfl
theorem dX8_block_15 : decode cX8_block 15 = .ok (.ifCond .ne 23, 3) := zdec_at bX8_block_0 8 rfl
theorem dX8_block_18 : decode cX8_block 18 = .ok (.aload_n 0, 1) := zdec_at bX8_block_0 9 rfl
theorem dX8_block_19 : decode cX8_block 19 = .ok (.bipush 25, 2) := zdec_at bX8_block_0 10 rfl
theorem dX8_block_21 : decode cX8_block 21 = .ok (.invokevirtual 398, 3) := zdec_at bX8_block_0 11 rfl
theorem dX8_block_24 : decode cX8_block 24 = .ok (.ifCond .ne 14, 3) := zdec_at bX8_block_0 12 rfl
theorem dX8_block_27 : decode cX8_block 27 = .ok (.aload_n 0, 1) := zdec_at bX8_block_0 13 rfl
theorem dX8_block_28 : decode cX8_block 28 = .ok (.aload_n 0, 1) := zdec_at bX8_block_0 14 rfl
theorem dX8_block_29 : decode cX8_block 29 = .ok (.invokevirtual 553, 3) := zdec_at bX8_block_0 15 rfl
theorem bX8_block_32 : zdec cX8_block 32 [(32, .invokevirtual 512, 3), (35, .goto (-24), 3), (38, .aload_n 0, 1), (39, .bipush 25, 2), (41, .invokevirtual 473, 3), (44, .istore_n 2, 1), (45, .aload_n 0, 1), (46, .invokevirtual 515, 3), (49, .ireturn, 1)] = true := by decide +kernel
theorem dX8_block_32 : decode cX8_block 32 = .ok (.invokevirtual 512, 3) := zdec_at bX8_block_32 0 rfl
theorem dX8_block_35 : decode cX8_block 35 = .ok (.goto (-24), 3) := zdec_at bX8_block_32 1 rfl
theorem dX8_block_38 : decode cX8_block 38 = .ok (.aload_n 0, 1) := zdec_at bX8_block_32 2 rfl
theorem dX8_block_39 : decode cX8_block 39 = .ok (.bipush 25, 2) := zdec_at bX8_block_32 3 rfl
theorem dX8_block_41 : decode cX8_block 41 = .ok (.invokevirtual 473, 3) := zdec_at bX8_block_32 4 rfl
theorem dX8_block_44 : decode cX8_block 44 = .ok (.istore_n 2, 1) := zdec_at bX8_block_32 5 rfl
theorem dX8_block_45 : decode cX8_block 45 = .ok (.aload_n 0, 1) := zdec_at bX8_block_32 6 rfl
theorem dX8_block_46 : decode cX8_block 46 = .ok (.invokevirtual 515, 3) := zdec_at bX8_block_32 7 rfl
theorem dX8_block_49 : decode cX8_block 49 = .ok (.ireturn, 1) := zdec_at bX8_block_32 8 rfl
theorem sX8_block_0 {E : zE} {d : Nat} {Q : zO → zM → Prop} (M : zM)  (k : Zm E YX8_beginList d M (zargs 0 [vr (some (97, 1, 0))]) 0 [] (zma E YX8_block (d + 1) [(0, vr (some (97, 1, 0)))] 1 3 [] Q)) : Zm E YX8_block (d + 1) M [(0, vr (some (97, 1, 0)))] 0 [] Q := by
  refine Zm.l (fun _ _ k_ => z_aload_n dX8_block_0 rfl rfl k_) ?_
  exact zm_callV (as := []) (st := []) dX8_block_1 vsX8_509_1 (Nat.le_refl _) (Nat.le_of_ble_eq_true rfl) (Nat.le_of_ble_eq_true rfl) rfl k
theorem sX8_block_4 {E : zE} {d : Nat} {Q : zO → zM → Prop} (M : zM)  (k : Zm E YX8_must d M (zargs 0 [vr (some (97, 1, 0)), vi (24 : Int32)]) 0 [] (zma E YX8_block (d + 1) [(0, vr (some (97, 1, 0)))] 7 3 [] Q)) : Zm E YX8_block (d + 1) M [(0, vr (some (97, 1, 0)))] 4 [] Q := by
  refine Zm.l (fun _ _ k_ => z_aload_n dX8_block_4 rfl rfl k_) ?_
  refine Zm.l (fun _ _ k_ => z_bipush (v := 24) dX8_block_5 rfl k_) ?_
  exact zm_callV (as := [vi (24 : Int32)]) (st := []) dX8_block_7 vsX8_473_1 (Nat.le_refl _) (Nat.le_of_ble_eq_true rfl) (Nat.le_of_ble_eq_true rfl) rfl k
theorem sX8_block_10 {E : zE} {d : Nat} {Q : zO → zM → Prop} (M : zM) (s0 : Int32) (k : Zm E YX8_block (d + 1) M [(0, vr (some (97, 1, 0)))] 11 [] Q) : Zm E YX8_block (d + 1) M [(0, vr (some (97, 1, 0)))] 10 [vi s0] Q := by
  refine Zm.l (fun _ _ k_ => z_ist_n dX8_block_10 rfl (by decide) (lv' := [(0, vr (some (97, 1, 0))), (1, vi s0)]) rfl k_) ?_
  refine Zm.pick [0] rfl ?_
  exact k
theorem sX8_block_11 {E : zE} {d : Nat} {Q : zO → zM → Prop} (M : zM)  (k : if (gi M 97 21) = 0 then (Zm E YX8_isSign d M (zargs 0 [vr (some (97, 1, 0)), vi (25 : Int32)]) 0 [] (zma E YX8_block (d + 1) [(0, vr (some (97, 1, 0)))] 21 3 [] Q)) else (Zm E YX8_must d M (zargs 0 [vr (some (97, 1, 0)), vi (25 : Int32)]) 0 [] (zma E YX8_block (d + 1) [(0, vr (some (97, 1, 0)))] 41 3 [] Q))) : Zm E YX8_block (d + 1) M [(0, vr (some (97, 1, 0)))] 11 [] Q := by
  refine Zm.l (fun _ _ k_ => z_aload_n dX8_block_11 rfl rfl k_) ?_
  refine zm_geti dX8_block_12 fsX8_389_1 (by decide) (by decide) ?_
  refine Zm.brn (fun _ _ k1_ k2_ => z_if_ne (tgt := 38) dX8_block_15 rfl k1_ k2_) (fun h_ => ?_) (fun h_ => ?_)
  · have k := zif h_ k
    refine Zm.l (fun _ _ k_ => z_aload_n dX8_block_38 rfl rfl k_) ?_
    refine Zm.l (fun _ _ k_ => z_bipush (v := 25) dX8_block_39 rfl k_) ?_
    exact zm_callV (as := [vi (25 : Int32)]) (st := []) dX8_block_41 vsX8_473_1 (Nat.le_refl _) (Nat.le_of_ble_eq_true rfl) (Nat.le_of_ble_eq_true rfl) rfl k
  · have k := zit h_ k
    refine Zm.l (fun _ _ k_ => z_aload_n dX8_block_18 rfl rfl k_) ?_
    refine Zm.l (fun _ _ k_ => z_bipush (v := 25) dX8_block_19 rfl k_) ?_
    exact zm_callV (as := [vi (25 : Int32)]) (st := []) dX8_block_21 vsX8_398_1 (Nat.le_refl _) (Nat.le_of_ble_eq_true rfl) (Nat.le_of_ble_eq_true rfl) rfl k
theorem sX8_block_24 {E : zE} {d : Nat} {Q : zO → zM → Prop} (M : zM) (s0 : Int32) (k : if s0 = 0 then (Zm E YX8_statement d M (zargs 0 [vr (some (97, 1, 0))]) 0 [] (zma E YX8_block (d + 1) [(0, vr (some (97, 1, 0)))] 29 3 [vr (some (97, 1, 0))] Q)) else (Zm E YX8_must d M (zargs 0 [vr (some (97, 1, 0)), vi (25 : Int32)]) 0 [] (zma E YX8_block (d + 1) [(0, vr (some (97, 1, 0)))] 41 3 [] Q))) : Zm E YX8_block (d + 1) M [(0, vr (some (97, 1, 0)))] 24 [vi s0] Q := by
  refine Zm.brn (fun _ _ k1_ k2_ => z_if_ne (tgt := 38) dX8_block_24 rfl k1_ k2_) (fun h_ => ?_) (fun h_ => ?_)
  · have k := zif h_ k
    refine Zm.l (fun _ _ k_ => z_aload_n dX8_block_38 rfl rfl k_) ?_
    refine Zm.l (fun _ _ k_ => z_bipush (v := 25) dX8_block_39 rfl k_) ?_
    exact zm_callV (as := [vi (25 : Int32)]) (st := []) dX8_block_41 vsX8_473_1 (Nat.le_refl _) (Nat.le_of_ble_eq_true rfl) (Nat.le_of_ble_eq_true rfl) rfl k
  · have k := zit h_ k
    refine Zm.l (fun _ _ k_ => z_aload_n dX8_block_27 rfl rfl k_) ?_
    refine Zm.l (fun _ _ k_ => z_aload_n dX8_block_28 rfl rfl k_) ?_
    exact zm_callV (as := []) (st := [vr (some (97, 1, 0))]) dX8_block_29 vsX8_553_1 (Nat.le_refl _) (Nat.le_of_ble_eq_true rfl) (Nat.le_of_ble_eq_true rfl) rfl k
theorem sX8_block_32 {E : zE} {d : Nat} {Q : zO → zM → Prop} (M : zM) (s0 : Int32) (k : Zm E YX8_add d M (zargs 0 [vr (some (97, 1, 0)), vi s0]) 0 [] (zma E YX8_block (d + 1) [(0, vr (some (97, 1, 0)))] 32 3 [] Q)) : Zm E YX8_block (d + 1) M [(0, vr (some (97, 1, 0)))] 32 [vi s0, vr (some (97, 1, 0))] Q := by
  exact zm_callV (as := [vi s0]) (st := []) dX8_block_32 vsX8_512_1 (Nat.le_refl _) (Nat.le_of_ble_eq_true rfl) (Nat.le_of_ble_eq_true rfl) rfl k
theorem sX8_block_35 {E : zE} {d : Nat} {Q : zO → zM → Prop} (M : zM)  (k : Zm E YX8_block (d + 1) M [(0, vr (some (97, 1, 0)))] 11 [] Q) : Zm E YX8_block (d + 1) M [(0, vr (some (97, 1, 0)))] 35 [] Q := by
  refine Zm.l (fun _ _ k_ => z_goto (tgt := 11) dX8_block_35 rfl k_) ?_
  exact k
theorem sX8_block_44 {E : zE} {d : Nat} {Q : zO → zM → Prop} (M : zM) (s0 : Int32) (k : Zm E YX8_ended d M (zargs 0 [vr (some (97, 1, 0))]) 0 [] (zma E YX8_block (d + 1) [] 46 3 [] Q)) : Zm E YX8_block (d + 1) M [(0, vr (some (97, 1, 0)))] 44 [vi s0] Q := by
  refine Zm.l (fun _ _ k_ => z_ist_n dX8_block_44 rfl (by decide) (lv' := [(0, vr (some (97, 1, 0))), (2, vi s0)]) rfl k_) ?_
  refine Zm.l (fun _ _ k_ => z_aload_n dX8_block_45 rfl rfl k_) ?_
  refine Zm.pick [] rfl ?_
  exact zm_callV (as := []) (st := []) dX8_block_46 vsX8_515_1 (Nat.le_refl _) (Nat.le_of_ble_eq_true rfl) (Nat.le_of_ble_eq_true rfl) rfl k
theorem sX8_block_49 {E : zE} {d : Nat} {Q : zO → zM → Prop} (M : zM) (s0 : Int32) (k : Q (.inl (some (vi s0))) M) : Zm E YX8_block (d + 1) M [] 49 [vi s0] Q := by
  exact zm_iret dX8_block_49 rfl rfl k
/-! ScriptTypesModel.add(I)V -/
theorem bX8_add_0 : zdec cX8_add 0 [(0, .aload_n 0, 1), (1, .getfield 424, 3), (4, .iconst 1, 1), (5, .isub, 1), (6, .istore_n 2, 1), (7, .aload_n 0, 1), (8, .getfield 56, 3), (11, .iload_n 2, 1), (12, .iaload, 1), (13, .iconst (-1), 1), (14, .if_icmp .ne 13, 3), (17, .aload_n 0, 1), (18, .getfield 56, 3), (21, .iload_n 2, 1), (22, .iload_n 1, 1), (23, .iastore, 1)] = true := by decide +kernel
theorem dX8_add_0 : decode cX8_add 0 = .ok (.aload_n 0, 1) := zdec_at bX8_add_0 0 rfl
theorem dX8_add_1 : decode cX8_add 1 = .ok (.getfield 424, 3) := zdec_at bX8_add_0 1 rfl
theorem dX8_add_4 : decode cX8_add 4 = .ok (.iconst 1, 1) := zdec_at bX8_add_0 2 rfl
theorem dX8_add_5 : decode cX8_add 5 = .ok (.isub, 1) := zdec_at bX8_add_0 3 rfl
theorem dX8_add_6 : decode cX8_add 6 = .ok (.istore_n 2, 1) := zdec_at bX8_add_0 4 rfl
theorem dX8_add_7 : decode cX8_add 7 = .ok (.aload_n 0, 1) := zdec_at bX8_add_0 5 rfl
theorem dX8_add_8 : decode cX8_add 8 = .ok (.getfield 56, 3) := zdec_at bX8_add_0 6 rfl
theorem dX8_add_11 : decode cX8_add 11 = .ok (.iload_n 2, 1) := zdec_at bX8_add_0 7 rfl
theorem dX8_add_12 : decode cX8_add 12 = .ok (.iaload, 1) := zdec_at bX8_add_0 8 rfl
theorem dX8_add_13 : decode cX8_add 13 = .ok (.iconst (-1), 1) := zdec_at bX8_add_0 9 rfl
theorem dX8_add_14 : decode cX8_add 14 = .ok (.if_icmp .ne 13, 3) := zdec_at bX8_add_0 10 rfl
theorem dX8_add_17 : decode cX8_add 17 = .ok (.aload_n 0, 1) := zdec_at bX8_add_0 11 rfl
theorem dX8_add_18 : decode cX8_add 18 = .ok (.getfield 56, 3) := zdec_at bX8_add_0 12 rfl
theorem dX8_add_21 : decode cX8_add 21 = .ok (.iload_n 2, 1) := zdec_at bX8_add_0 13 rfl
theorem dX8_add_22 : decode cX8_add 22 = .ok (.iload_n 1, 1) := zdec_at bX8_add_0 14 rfl
theorem dX8_add_23 : decode cX8_add 23 = .ok (.iastore, 1) := zdec_at bX8_add_0 15 rfl
theorem bX8_add_24 : zdec cX8_add 24 [(24, .goto 15, 3), (27, .aload_n 0, 1), (28, .getfield 49, 3), (31, .aload_n 0, 1), (32, .getfield 59, 3), (35, .iload_n 2, 1), (36, .iaload, 1), (37, .iload_n 1, 1), (38, .iastore, 1), (39, .aload_n 0, 1), (40, .getfield 59, 3), (43, .iload_n 2, 1), (44, .iload_n 1, 1), (45, .iastore, 1), (46, .return_, 1)] = true := by decide +kernel
theorem dX8_add_24 : decode cX8_add 24 = .ok (.goto 15, 3) := zdec_at bX8_add_24 0 rfl
theorem dX8_add_27 : decode cX8_add 27 = .ok (.aload_n 0, 1) := zdec_at bX8_add_24 1 rfl
theorem dX8_add_28 : decode cX8_add 28 = .ok (.getfield 49, 3) := zdec_at bX8_add_24 2 rfl
theorem dX8_add_31 : decode cX8_add 31 = .ok (.aload_n 0, 1) := zdec_at bX8_add_24 3 rfl
theorem dX8_add_32 : decode cX8_add 32 = .ok (.getfield 59, 3) := zdec_at bX8_add_24 4 rfl
theorem dX8_add_35 : decode cX8_add 35 = .ok (.iload_n 2, 1) := zdec_at bX8_add_24 5 rfl
theorem dX8_add_36 : decode cX8_add 36 = .ok (.iaload, 1) := zdec_at bX8_add_24 6 rfl
theorem dX8_add_37 : decode cX8_add 37 = .ok (.iload_n 1, 1) := zdec_at bX8_add_24 7 rfl
theorem dX8_add_38 : decode cX8_add 38 = .ok (.iastore, 1) := zdec_at bX8_add_24 8 rfl
theorem dX8_add_39 : decode cX8_add 39 = .ok (.aload_n 0, 1) := zdec_at bX8_add_24 9 rfl
theorem dX8_add_40 : decode cX8_add 40 = .ok (.getfield 59, 3) := zdec_at bX8_add_24 10 rfl
theorem dX8_add_43 : decode cX8_add 43 = .ok (.iload_n 2, 1) := zdec_at bX8_add_24 11 rfl
theorem dX8_add_44 : decode cX8_add 44 = .ok (.iload_n 1, 1) := zdec_at bX8_add_24 12 rfl
theorem dX8_add_45 : decode cX8_add 45 = .ok (.iastore, 1) := zdec_at bX8_add_24 13 rfl
theorem dX8_add_46 : decode cX8_add 46 = .ok (.return_, 1) := zdec_at bX8_add_24 14 rfl
theorem sX8_add_0 {E : zE} {d : Nat} {Q : zO → zM → Prop} (M : zM) (l1 : Int32) (k : vp_in ((gi M 97 31) - (1 : Int32)) 200 ∧ (if (gi M 112 (((gi M 97 31) - (1 : Int32))).toNatClampNeg) = (-1 : Int32) then (vp_in ((gi M 97 31) - (1 : Int32)) 200 ∧ (vp_in ((gi M 97 31) - (1 : Int32)) 200 ∧ (Q (.inl none) (si (si M 112 (((gi M 97 31) - (1 : Int32))).toNatClampNeg l1) 113 (((gi M 97 31) - (1 : Int32))).toNatClampNeg l1)))) else (vp_in ((gi M 97 31) - (1 : Int32)) 200 ∧ (vp_in (gi M 113 (((gi M 97 31) - (1 : Int32))).toNatClampNeg) 12000 ∧ (vp_in ((gi M 97 31) - (1 : Int32)) 200 ∧ (Q (.inl none) (si (si M 110 ((gi M 113 (((gi M 97 31) - (1 : Int32))).toNatClampNeg)).toNatClampNeg l1) 113 (((gi M 97 31) - (1 : Int32))).toNatClampNeg l1))))))) : Zm E YX8_add d M [(0, vr (some (97, 1, 0))), (1, vi l1)] 0 [] Q := by
  refine Zm.l (fun _ _ k_ => z_aload_n dX8_add_0 rfl rfl k_) ?_
  refine zm_geti dX8_add_1 fsX8_424_1 (by decide) (by decide) ?_
  refine Zm.l (fun _ _ k_ => z_iconst (v := 1) dX8_add_4 rfl k_) ?_
  refine Zm.l (fun _ _ k_ => z_isub dX8_add_5 k_) ?_
  refine Zm.l (fun _ _ k_ => z_ist_n dX8_add_6 rfl (by decide) (lv' := [(0, vr (some (97, 1, 0))), (1, vi l1), (2, vi ((gi M 97 31) - (1 : Int32)))]) rfl k_) ?_
  refine Zm.l (fun _ _ k_ => z_aload_n dX8_add_7 rfl rfl k_) ?_
  refine zm_getr 14 dX8_add_8 fsX8_56_1 rfl ?_
  refine Zm.l (fun _ _ k_ => z_iload_n dX8_add_11 rfl rfl k_) ?_
  obtain ⟨b_, k⟩ := k
  refine zm_iald dX8_add_12 b_ (by decide) (by decide) ?_
  refine Zm.l (fun _ _ k_ => z_iconst (v := -1) dX8_add_13 rfl k_) ?_
  refine Zm.brn (fun _ _ k1_ k2_ => z_icmp_ne (tgt := 27) dX8_add_14 rfl k1_ k2_) (fun h_ => ?_) (fun h_ => ?_)
  · have k := zif h_ k
    refine Zm.l (fun _ _ k_ => z_aload_n dX8_add_27 rfl rfl k_) ?_
    refine zm_getr 12 dX8_add_28 fsX8_49_1 rfl ?_
    refine Zm.l (fun _ _ k_ => z_aload_n dX8_add_31 rfl rfl k_) ?_
    refine zm_getr 15 dX8_add_32 fsX8_59_1 rfl ?_
    refine Zm.l (fun _ _ k_ => z_iload_n dX8_add_35 rfl rfl k_) ?_
    obtain ⟨b_, k⟩ := k
    refine zm_iald dX8_add_36 b_ (by decide) (by decide) ?_
    refine Zm.l (fun _ _ k_ => z_iload_n dX8_add_37 rfl rfl k_) ?_
    obtain ⟨b_, k⟩ := k
    refine zm_iast dX8_add_38 b_ (by decide) (by decide) ?_
    refine Zm.l (fun _ _ k_ => z_aload_n dX8_add_39 rfl rfl k_) ?_
    refine zm_getr 15 dX8_add_40 fsX8_59_1 rfl ?_
    refine Zm.l (fun _ _ k_ => z_iload_n dX8_add_43 rfl rfl k_) ?_
    refine Zm.l (fun _ _ k_ => z_iload_n dX8_add_44 rfl rfl k_) ?_
    obtain ⟨b_, k⟩ := k
    refine zm_iast dX8_add_45 b_ (by decide) (by decide) ?_
    exact zm_vret dX8_add_46 rfl k
  · have k := zit h_ k
    refine Zm.l (fun _ _ k_ => z_aload_n dX8_add_17 rfl rfl k_) ?_
    refine zm_getr 14 dX8_add_18 fsX8_56_1 rfl ?_
    refine Zm.l (fun _ _ k_ => z_iload_n dX8_add_21 rfl rfl k_) ?_
    refine Zm.l (fun _ _ k_ => z_iload_n dX8_add_22 rfl rfl k_) ?_
    obtain ⟨b_, k⟩ := k
    refine zm_iast dX8_add_23 b_ (by decide) (by decide) ?_
    refine Zm.l (fun _ _ k_ => z_goto (tgt := 39) dX8_add_24 rfl k_) ?_
    refine Zm.l (fun _ _ k_ => z_aload_n dX8_add_39 rfl rfl k_) ?_
    refine zm_getr 15 dX8_add_40 fsX8_59_1 rfl ?_
    refine Zm.l (fun _ _ k_ => z_iload_n dX8_add_43 rfl rfl k_) ?_
    refine Zm.l (fun _ _ k_ => z_iload_n dX8_add_44 rfl rfl k_) ?_
    obtain ⟨b_, k⟩ := k
    refine zm_iast dX8_add_45 b_ (by decide) (by decide) ?_
    exact zm_vret dX8_add_46 rfl k
/-! ScriptTypesModel.ended()I -/
theorem bX8_ended_0 : zdec cX8_ended 0 [(0, .aload_n 0, 1), (1, .dup, 1), (2, .getfield 424, 3), (5, .iconst 1, 1), (6, .isub, 1), (7, .putfield 424, 3), (10, .aload_n 0, 1), (11, .getfield 56, 3), (14, .aload_n 0, 1), (15, .getfield 424, 3), (18, .iaload, 1), (19, .ireturn, 1)] = true := by decide +kernel
theorem dX8_ended_0 : decode cX8_ended 0 = .ok (.aload_n 0, 1) := zdec_at bX8_ended_0 0 rfl
theorem dX8_ended_1 : decode cX8_ended 1 = .ok (.dup, 1) := zdec_at bX8_ended_0 1 rfl
theorem dX8_ended_2 : decode cX8_ended 2 = .ok (.getfield 424, 3) := zdec_at bX8_ended_0 2 rfl
theorem dX8_ended_5 : decode cX8_ended 5 = .ok (.iconst 1, 1) := zdec_at bX8_ended_0 3 rfl
theorem dX8_ended_6 : decode cX8_ended 6 = .ok (.isub, 1) := zdec_at bX8_ended_0 4 rfl
theorem dX8_ended_7 : decode cX8_ended 7 = .ok (.putfield 424, 3) := zdec_at bX8_ended_0 5 rfl
theorem dX8_ended_10 : decode cX8_ended 10 = .ok (.aload_n 0, 1) := zdec_at bX8_ended_0 6 rfl
theorem dX8_ended_11 : decode cX8_ended 11 = .ok (.getfield 56, 3) := zdec_at bX8_ended_0 7 rfl
theorem dX8_ended_14 : decode cX8_ended 14 = .ok (.aload_n 0, 1) := zdec_at bX8_ended_0 8 rfl
theorem dX8_ended_15 : decode cX8_ended 15 = .ok (.getfield 424, 3) := zdec_at bX8_ended_0 9 rfl
theorem dX8_ended_18 : decode cX8_ended 18 = .ok (.iaload, 1) := zdec_at bX8_ended_0 10 rfl
theorem dX8_ended_19 : decode cX8_ended 19 = .ok (.ireturn, 1) := zdec_at bX8_ended_0 11 rfl
theorem sX8_ended_0 {E : zE} {d : Nat} {Q : zO → zM → Prop} (M : zM)  (k : vp_in ((gi M 97 31) - (1 : Int32)) 200 ∧ (Q (.inl (some (vi (gi M 112 (((gi M 97 31) - (1 : Int32))).toNatClampNeg)))) (si M 97 31 ((gi M 97 31) - (1 : Int32))))) : Zm E YX8_ended d M [(0, vr (some (97, 1, 0)))] 0 [] Q := by
  refine Zm.l (fun _ _ k_ => z_aload_n dX8_ended_0 rfl rfl k_) ?_
  refine Zm.l (fun _ _ k_ => z_dup dX8_ended_1 rfl k_) ?_
  refine zm_geti dX8_ended_2 fsX8_424_1 (by decide) (by decide) ?_
  refine Zm.l (fun _ _ k_ => z_iconst (v := 1) dX8_ended_5 rfl k_) ?_
  refine Zm.l (fun _ _ k_ => z_isub dX8_ended_6 k_) ?_
  refine zm_puti (by decide) (by decide) dX8_ended_7 (zfwN.w fwX8_424_1) rfl ⟨rfl, rfl⟩ ?_
  refine Zm.l (fun _ _ k_ => z_aload_n dX8_ended_10 rfl rfl k_) ?_
  refine zm_getr 14 dX8_ended_11 fsX8_56_1 rfl ?_
  refine Zm.l (fun _ _ k_ => z_aload_n dX8_ended_14 rfl rfl k_) ?_
  refine zm_geti dX8_ended_15 fsX8_424_1 (by decide) (by decide) ?_
  obtain ⟨b_, k⟩ := k
  refine zm_iald dX8_ended_18 b_ (by decide) (by decide) ?_
  exact zm_iret dX8_ended_19 rfl rfl k
/-! ScriptTypesModel.plain()I -/
theorem bX8_plain_0 : zdec cX8_plain 0 [(0, .aload_n 0, 1), (1, .bipush 23, 2), (3, .aload_n 0, 1), (4, .iconst 1, 1), (5, .invokevirtual 502, 3), (8, .iconst 0, 1), (9, .iconst 0, 1), (10, .invokevirtual 446, 3), (13, .istore_n 1, 1), (14, .aload_n 0, 1), (15, .invokevirtual 571, 3), (18, .iload_n 1, 1), (19, .ireturn, 1)] = true := by decide +kernel
theorem dX8_plain_0 : decode cX8_plain 0 = .ok (.aload_n 0, 1) := zdec_at bX8_plain_0 0 rfl
theorem dX8_plain_1 : decode cX8_plain 1 = .ok (.bipush 23, 2) := zdec_at bX8_plain_0 1 rfl
theorem dX8_plain_3 : decode cX8_plain 3 = .ok (.aload_n 0, 1) := zdec_at bX8_plain_0 2 rfl
theorem dX8_plain_4 : decode cX8_plain 4 = .ok (.iconst 1, 1) := zdec_at bX8_plain_0 3 rfl
theorem dX8_plain_5 : decode cX8_plain 5 = .ok (.invokevirtual 502, 3) := zdec_at bX8_plain_0 4 rfl
theorem dX8_plain_8 : decode cX8_plain 8 = .ok (.iconst 0, 1) := zdec_at bX8_plain_0 5 rfl
theorem dX8_plain_9 : decode cX8_plain 9 = .ok (.iconst 0, 1) := zdec_at bX8_plain_0 6 rfl
theorem dX8_plain_10 : decode cX8_plain 10 = .ok (.invokevirtual 446, 3) := zdec_at bX8_plain_0 7 rfl
theorem dX8_plain_13 : decode cX8_plain 13 = .ok (.istore_n 1, 1) := zdec_at bX8_plain_0 8 rfl
theorem dX8_plain_14 : decode cX8_plain 14 = .ok (.aload_n 0, 1) := zdec_at bX8_plain_0 9 rfl
theorem dX8_plain_15 : decode cX8_plain 15 = .ok (.invokevirtual 571, 3) := zdec_at bX8_plain_0 10 rfl
theorem dX8_plain_18 : decode cX8_plain 18 = .ok (.iload_n 1, 1) := zdec_at bX8_plain_0 11 rfl
theorem dX8_plain_19 : decode cX8_plain 19 = .ok (.ireturn, 1) := zdec_at bX8_plain_0 12 rfl
theorem sX8_plain_0 {E : zE} {d : Nat} {Q : zO → zM → Prop} (M : zM)  (k : Zm E YX8_expression d M (zargs 0 [vr (some (97, 1, 0)), vi (1 : Int32)]) 0 [] (zma E YX8_plain (d + 1) [(0, vr (some (97, 1, 0)))] 5 3 [vi (23 : Int32), vr (some (97, 1, 0))] Q)) : Zm E YX8_plain (d + 1) M [(0, vr (some (97, 1, 0)))] 0 [] Q := by
  refine Zm.l (fun _ _ k_ => z_aload_n dX8_plain_0 rfl rfl k_) ?_
  refine Zm.l (fun _ _ k_ => z_bipush (v := 23) dX8_plain_1 rfl k_) ?_
  refine Zm.l (fun _ _ k_ => z_aload_n dX8_plain_3 rfl rfl k_) ?_
  refine Zm.l (fun _ _ k_ => z_iconst (v := 1) dX8_plain_4 rfl k_) ?_
  exact zm_callV (as := [vi (1 : Int32)]) (st := [vi (23 : Int32), vr (some (97, 1, 0))]) dX8_plain_5 vsX8_502_1 (Nat.le_refl _) (Nat.le_of_ble_eq_true rfl) (Nat.le_of_ble_eq_true rfl) rfl k
theorem sX8_plain_8 {E : zE} {d : Nat} {Q : zO → zM → Prop} (M : zM) (s0 : Int32) (s1 : Int32) (k : Zm E YX8_node d M (zargs 0 [vr (some (97, 1, 0)), vi s1, vi s0, vi (0 : Int32), vi (0 : Int32)]) 0 [] (zma E YX8_plain (d + 1) [(0, vr (some (97, 1, 0)))] 10 3 [] Q)) : Zm E YX8_plain (d + 1) M [(0, vr (some (97, 1, 0)))] 8 [vi s0, vi s1, vr (some (97, 1, 0))] Q := by
  refine Zm.l (fun _ _ k_ => z_iconst (v := 0) dX8_plain_8 rfl k_) ?_
  refine Zm.l (fun _ _ k_ => z_iconst (v := 0) dX8_plain_9 rfl k_) ?_
  exact zm_callV (as := [vi s1, vi s0, vi (0 : Int32), vi (0 : Int32)]) (st := []) dX8_plain_10 vsX8_446_1 (Nat.le_refl _) (Nat.le_of_ble_eq_true rfl) (Nat.le_of_ble_eq_true rfl) rfl k
theorem sX8_plain_13 {E : zE} {d : Nat} {Q : zO → zM → Prop} (M : zM) (s0 : Int32) (k : Zm E YX8_endOfStatement d M (zargs 0 [vr (some (97, 1, 0))]) 0 [] (zma E YX8_plain (d + 1) [(1, vi s0)] 15 3 [] Q)) : Zm E YX8_plain (d + 1) M [(0, vr (some (97, 1, 0)))] 13 [vi s0] Q := by
  refine Zm.l (fun _ _ k_ => z_ist_n dX8_plain_13 rfl (by decide) (lv' := [(0, vr (some (97, 1, 0))), (1, vi s0)]) rfl k_) ?_
  refine Zm.l (fun _ _ k_ => z_aload_n dX8_plain_14 rfl rfl k_) ?_
  refine Zm.pick [1] rfl ?_
  exact zm_callV (as := []) (st := []) dX8_plain_15 vsX8_571_1 (Nat.le_refl _) (Nat.le_of_ble_eq_true rfl) (Nat.le_of_ble_eq_true rfl) rfl k
theorem sX8_plain_18 {E : zE} {d : Nat} {Q : zO → zM → Prop} (M : zM) (l1 : Int32) (k : Q (.inl (some (vi l1))) M) : Zm E YX8_plain (d + 1) M [(1, vi l1)] 18 [] Q := by
  refine Zm.l (fun _ _ k_ => z_iload_n dX8_plain_18 rfl rfl k_) ?_
  exact zm_iret dX8_plain_19 rfl rfl k
/-! ScriptTypesModel.expression(Z)I -/
theorem bX8_expression_0 : zdec cX8_expression 0 [(0, .aload_n 0, 1), (1, .iload_n 1, 1), (2, .invokevirtual 442, 3), (5, .istore_n 2, 1), (6, .aload_n 0, 1), (7, .getfield 389, 3), (10, .ifCond .ne 38, 3), (13, .aload_n 0, 1), (14, .bipush 32, 2), (16, .invokevirtual 398, 3), (19, .ifCond .eq 29, 3), (22, .aload_n 0, 1), (23, .dup, 1), (24, .getfield 392, 3), (27, .iconst 1, 1), (28, .iadd, 1)] = true := by decide +kernel
theorem dX8_expression_0 : decode cX8_expression 0 = .ok (.aload_n 0, 1) := zdec_at bX8_expression_0 0 rfl
theorem dX8_expression_1 : decode cX8_expression 1 = .ok (.iload_n 1, 1) := zdec_at bX8_expression_0 1 rfl
theorem dX8_expression_2 : decode cX8_expression 2 = .ok (.invokevirtual 442, 3) := zdec_at bX8_expression_0 2 rfl
theorem dX8_expression_5 : decode cX8_expression 5 = .ok (.istore_n 2, 1) := zdec_at bX8_expression_0 3 rfl
theorem dX8_expression_6 : decode cX8_expression 6 = .ok (.aload_n 0, 1) := zdec_at bX8_expression_0 4 rfl
theorem dX8_expression_7 : decode cX8_expression 7 = .ok (.getfield 389, 3) := zdec_at bX8_expression_0 5 rfl
theorem dX8_expression_10 : decode cX8_expression 10 = .ok (.ifCond .ne 38, 3) := zdec_at bX8_expression_0 6 rfl
theorem dX8_expression_13 : decode cX8_expression 13 = .ok (.aload_n 0, 1) := zdec_at bX8_expression_0 7 rfl
theorem dX8_expression_14 : decode cX8_expression 14 = .ok (.bipush 32, 2) := zdec_at bX8_expression_0 8 rfl
theorem dX8_expression_16 : decode cX8_expression 16 = .ok (.invokevirtual 398, 3) := zdec_at bX8_expression_0 9 rfl
theorem dX8_expression_19 : decode cX8_expression 19 = .ok (.ifCond .eq 29, 3) := zdec_at bX8_expression_0 10 rfl
theorem dX8_expression_22 : decode cX8_expression 22 = .ok (.aload_n 0, 1) := zdec_at bX8_expression_0 11 rfl
theorem dX8_expression_23 : decode cX8_expression 23 = .ok (.dup, 1) := zdec_at bX8_expression_0 12 rfl
theorem dX8_expression_24 : decode cX8_expression 24 = .ok (.getfield 392, 3) := zdec_at bX8_expression_0 13 rfl
theorem dX8_expression_27 : decode cX8_expression 27 = .ok (.iconst 1, 1) := zdec_at bX8_expression_0 14 rfl
theorem dX8_expression_28 : decode cX8_expression 28 = .ok (.iadd, 1) := zdec_at bX8_expression_0 15 rfl
theorem bX8_expression_29 : zdec cX8_expression 29 [(29, .putfield 392, 3), (32, .aload_n 0, 1), (33, .iconst 3, 1), (34, .iload_n 2, 1), (35, .aload_n 0, 1), (36, .iload_n 1, 1), (37, .invokevirtual 442, 3), (40, .iconst 0, 1), (41, .invokevirtual 446, 3), (44, .istore_n 2, 1), (45, .goto (-39), 3), (48, .iload_n 2, 1), (49, .ireturn, 1)] = true := by decide +kernel
theorem dX8_expression_29 : decode cX8_expression 29 = .ok (.putfield 392, 3) := zdec_at bX8_expression_29 0 rfl
theorem dX8_expression_32 : decode cX8_expression 32 = .ok (.aload_n 0, 1) := zdec_at bX8_expression_29 1 rfl
theorem dX8_expression_33 : decode cX8_expression 33 = .ok (.iconst 3, 1) := zdec_at bX8_expression_29 2 rfl
theorem dX8_expression_34 : decode cX8_expression 34 = .ok (.iload_n 2, 1) := zdec_at bX8_expression_29 3 rfl
theorem dX8_expression_35 : decode cX8_expression 35 = .ok (.aload_n 0, 1) := zdec_at bX8_expression_29 4 rfl
theorem dX8_expression_36 : decode cX8_expression 36 = .ok (.iload_n 1, 1) := zdec_at bX8_expression_29 5 rfl
theorem dX8_expression_37 : decode cX8_expression 37 = .ok (.invokevirtual 442, 3) := zdec_at bX8_expression_29 6 rfl
theorem dX8_expression_40 : decode cX8_expression 40 = .ok (.iconst 0, 1) := zdec_at bX8_expression_29 7 rfl
theorem dX8_expression_41 : decode cX8_expression 41 = .ok (.invokevirtual 446, 3) := zdec_at bX8_expression_29 8 rfl
theorem dX8_expression_44 : decode cX8_expression 44 = .ok (.istore_n 2, 1) := zdec_at bX8_expression_29 9 rfl
theorem dX8_expression_45 : decode cX8_expression 45 = .ok (.goto (-39), 3) := zdec_at bX8_expression_29 10 rfl
theorem dX8_expression_48 : decode cX8_expression 48 = .ok (.iload_n 2, 1) := zdec_at bX8_expression_29 11 rfl
theorem dX8_expression_49 : decode cX8_expression 49 = .ok (.ireturn, 1) := zdec_at bX8_expression_29 12 rfl
theorem sX8_expression_0 {E : zE} {d : Nat} {Q : zO → zM → Prop} (M : zM) (l1 : Int32) (k : Zm E YX8_assigned d M (zargs 0 [vr (some (97, 1, 0)), vi l1]) 0 [] (zma E YX8_expression (d + 1) [(0, vr (some (97, 1, 0))), (1, vi l1)] 2 3 [] Q)) : Zm E YX8_expression (d + 1) M [(0, vr (some (97, 1, 0))), (1, vi l1)] 0 [] Q := by
  refine Zm.l (fun _ _ k_ => z_aload_n dX8_expression_0 rfl rfl k_) ?_
  refine Zm.l (fun _ _ k_ => z_iload_n dX8_expression_1 rfl rfl k_) ?_
  exact zm_callV (as := [vi l1]) (st := []) dX8_expression_2 vsX8_442_1 (Nat.le_refl _) (Nat.le_of_ble_eq_true rfl) (Nat.le_of_ble_eq_true rfl) rfl k
theorem sX8_expression_5 {E : zE} {d : Nat} {Q : zO → zM → Prop} (M : zM) (l1 : Int32) (s0 : Int32) (k : Zm E YX8_expression (d + 1) M [(0, vr (some (97, 1, 0))), (1, vi l1), (2, vi s0)] 6 [] Q) : Zm E YX8_expression (d + 1) M [(0, vr (some (97, 1, 0))), (1, vi l1)] 5 [vi s0] Q := by
  refine Zm.l (fun _ _ k_ => z_ist_n dX8_expression_5 rfl (by decide) (lv' := [(0, vr (some (97, 1, 0))), (1, vi l1), (2, vi s0)]) rfl k_) ?_
  exact k
theorem sX8_expression_6 {E : zE} {d : Nat} {Q : zO → zM → Prop} (M : zM) (l1 : Int32) (l2 : Int32) (k : if (gi M 97 21) = 0 then (Zm E YX8_isSign d M (zargs 0 [vr (some (97, 1, 0)), vi (32 : Int32)]) 0 [] (zma E YX8_expression (d + 1) [(0, vr (some (97, 1, 0))), (1, vi l1), (2, vi l2)] 16 3 [] Q)) else (Q (.inl (some (vi l2))) M)) : Zm E YX8_expression (d + 1) M [(0, vr (some (97, 1, 0))), (1, vi l1), (2, vi l2)] 6 [] Q := by
  refine Zm.l (fun _ _ k_ => z_aload_n dX8_expression_6 rfl rfl k_) ?_
  refine zm_geti dX8_expression_7 fsX8_389_1 (by decide) (by decide) ?_
  refine Zm.brn (fun _ _ k1_ k2_ => z_if_ne (tgt := 48) dX8_expression_10 rfl k1_ k2_) (fun h_ => ?_) (fun h_ => ?_)
  · have k := zif h_ k
    refine Zm.l (fun _ _ k_ => z_iload_n dX8_expression_48 rfl rfl k_) ?_
    exact zm_iret dX8_expression_49 rfl rfl k
  · have k := zit h_ k
    refine Zm.l (fun _ _ k_ => z_aload_n dX8_expression_13 rfl rfl k_) ?_
    refine Zm.l (fun _ _ k_ => z_bipush (v := 32) dX8_expression_14 rfl k_) ?_
    exact zm_callV (as := [vi (32 : Int32)]) (st := []) dX8_expression_16 vsX8_398_1 (Nat.le_refl _) (Nat.le_of_ble_eq_true rfl) (Nat.le_of_ble_eq_true rfl) rfl k
theorem sX8_expression_19 {E : zE} {d : Nat} {Q : zO → zM → Prop} (M : zM) (l1 : Int32) (l2 : Int32) (s0 : Int32) (k : if s0 = 0 then (Q (.inl (some (vi l2))) M) else (Zm E YX8_assigned d (si M 97 20 ((gi M 97 20) + (1 : Int32))) (zargs 0 [vr (some (97, 1, 0)), vi l1]) 0 [] (zma E YX8_expression (d + 1) [(0, vr (some (97, 1, 0))), (1, vi l1)] 37 3 [vi l2, vi (3 : Int32), vr (some (97, 1, 0))] Q))) : Zm E YX8_expression (d + 1) M [(0, vr (some (97, 1, 0))), (1, vi l1), (2, vi l2)] 19 [vi s0] Q := by
  refine Zm.br (fun _ _ k1_ k2_ => z_if_eq (tgt := 48) dX8_expression_19 rfl k1_ k2_) (fun h_ => ?_) (fun h_ => ?_)
  · have k := zit h_ k
    refine Zm.l (fun _ _ k_ => z_iload_n dX8_expression_48 rfl rfl k_) ?_
    exact zm_iret dX8_expression_49 rfl rfl k
  · have k := zif h_ k
    refine Zm.l (fun _ _ k_ => z_aload_n dX8_expression_22 rfl rfl k_) ?_
    refine Zm.l (fun _ _ k_ => z_dup dX8_expression_23 rfl k_) ?_
    refine zm_geti dX8_expression_24 fsX8_392_1 (by decide) (by decide) ?_
    refine Zm.l (fun _ _ k_ => z_iconst (v := 1) dX8_expression_27 rfl k_) ?_
    refine Zm.l (fun _ _ k_ => z_iadd dX8_expression_28 k_) ?_
    refine zm_puti (by decide) (by decide) dX8_expression_29 (zfwN.w fwX8_392_1) rfl ⟨rfl, rfl⟩ ?_
    refine Zm.l (fun _ _ k_ => z_aload_n dX8_expression_32 rfl rfl k_) ?_
    refine Zm.l (fun _ _ k_ => z_iconst (v := 3) dX8_expression_33 rfl k_) ?_
    refine Zm.l (fun _ _ k_ => z_iload_n dX8_expression_34 rfl rfl k_) ?_
    refine Zm.l (fun _ _ k_ => z_aload_n dX8_expression_35 rfl rfl k_) ?_
    refine Zm.l (fun _ _ k_ => z_iload_n dX8_expression_36 rfl rfl k_) ?_
    refine Zm.pick [0, 1] rfl ?_
    exact zm_callV (as := [vi l1]) (st := [vi l2, vi (3 : Int32), vr (some (97, 1, 0))]) dX8_expression_37 vsX8_442_1 (Nat.le_refl _) (Nat.le_of_ble_eq_true rfl) (Nat.le_of_ble_eq_true rfl) rfl k
theorem sX8_expression_40 {E : zE} {d : Nat} {Q : zO → zM → Prop} (M : zM) (l1 : Int32) (s0 : Int32) (s1 : Int32) (s2 : Int32) (k : Zm E YX8_node d M (zargs 0 [vr (some (97, 1, 0)), vi s2, vi s1, vi s0, vi (0 : Int32)]) 0 [] (zma E YX8_expression (d + 1) [(0, vr (some (97, 1, 0))), (1, vi l1)] 41 3 [] Q)) : Zm E YX8_expression (d + 1) M [(0, vr (some (97, 1, 0))), (1, vi l1)] 40 [vi s0, vi s1, vi s2, vr (some (97, 1, 0))] Q := by
  refine Zm.l (fun _ _ k_ => z_iconst (v := 0) dX8_expression_40 rfl k_) ?_
  exact zm_callV (as := [vi s2, vi s1, vi s0, vi (0 : Int32)]) (st := []) dX8_expression_41 vsX8_446_1 (Nat.le_refl _) (Nat.le_of_ble_eq_true rfl) (Nat.le_of_ble_eq_true rfl) rfl k
theorem sX8_expression_44 {E : zE} {d : Nat} {Q : zO → zM → Prop} (M : zM) (l1 : Int32) (s0 : Int32) (k : Zm E YX8_expression (d + 1) M [(0, vr (some (97, 1, 0))), (1, vi l1), (2, vi s0)] 6 [] Q) : Zm E YX8_expression (d + 1) M [(0, vr (some (97, 1, 0))), (1, vi l1)] 44 [vi s0] Q := by
  refine Zm.l (fun _ _ k_ => z_ist_n dX8_expression_44 rfl (by decide) (lv' := [(0, vr (some (97, 1, 0))), (1, vi l1), (2, vi s0)]) rfl k_) ?_
  refine Zm.l (fun _ _ k_ => z_goto (tgt := 6) dX8_expression_45 rfl k_) ?_
  exact k
/-! ScriptTypesModel.assigned(Z)I -/
theorem bX8_assigned_0 : zdec cX8_assigned 0 [(0, .aload_n 0, 1), (1, .iload_n 1, 1), (2, .invokevirtual 457, 3), (5, .istore_n 2, 1), (6, .aload_n 0, 1), (7, .getfield 389, 3), (10, .ifCond .le 5, 3), (13, .iconst (-1), 1), (14, .ireturn, 1), (15, .aload_n 0, 1), (16, .invokevirtual 460, 3), (19, .istore_n 3, 1), (20, .iload_n 3, 1), (21, .iconst (-1), 1), (22, .if_icmp .ne 5, 3), (25, .iload_n 2, 1)] = true := by decide +kernel
theorem dX8_assigned_0 : decode cX8_assigned 0 = .ok (.aload_n 0, 1) := zdec_at bX8_assigned_0 0 rfl
theorem dX8_assigned_1 : decode cX8_assigned 1 = .ok (.iload_n 1, 1) := zdec_at bX8_assigned_0 1 rfl
theorem dX8_assigned_2 : decode cX8_assigned 2 = .ok (.invokevirtual 457, 3) := zdec_at bX8_assigned_0 2 rfl
theorem dX8_assigned_5 : decode cX8_assigned 5 = .ok (.istore_n 2, 1) := zdec_at bX8_assigned_0 3 rfl
theorem dX8_assigned_6 : decode cX8_assigned 6 = .ok (.aload_n 0, 1) := zdec_at bX8_assigned_0 4 rfl
theorem dX8_assigned_7 : decode cX8_assigned 7 = .ok (.getfield 389, 3) := zdec_at bX8_assigned_0 5 rfl
theorem dX8_assigned_10 : decode cX8_assigned 10 = .ok (.ifCond .le 5, 3) := zdec_at bX8_assigned_0 6 rfl
theorem dX8_assigned_13 : decode cX8_assigned 13 = .ok (.iconst (-1), 1) := zdec_at bX8_assigned_0 7 rfl
theorem dX8_assigned_14 : decode cX8_assigned 14 = .ok (.ireturn, 1) := zdec_at bX8_assigned_0 8 rfl
theorem dX8_assigned_15 : decode cX8_assigned 15 = .ok (.aload_n 0, 1) := zdec_at bX8_assigned_0 9 rfl
theorem dX8_assigned_16 : decode cX8_assigned 16 = .ok (.invokevirtual 460, 3) := zdec_at bX8_assigned_0 10 rfl
theorem dX8_assigned_19 : decode cX8_assigned 19 = .ok (.istore_n 3, 1) := zdec_at bX8_assigned_0 11 rfl
theorem dX8_assigned_20 : decode cX8_assigned 20 = .ok (.iload_n 3, 1) := zdec_at bX8_assigned_0 12 rfl
theorem dX8_assigned_21 : decode cX8_assigned 21 = .ok (.iconst (-1), 1) := zdec_at bX8_assigned_0 13 rfl
theorem dX8_assigned_22 : decode cX8_assigned 22 = .ok (.if_icmp .ne 5, 3) := zdec_at bX8_assigned_0 14 rfl
theorem dX8_assigned_25 : decode cX8_assigned 25 = .ok (.iload_n 2, 1) := zdec_at bX8_assigned_0 15 rfl
theorem bX8_assigned_26 : zdec cX8_assigned 26 [(26, .ireturn, 1), (27, .aload_n 0, 1), (28, .iload_n 2, 1), (29, .invokevirtual 463, 3), (32, .ifCond .ne 11, 3), (35, .aload_n 0, 1), (36, .iconst 3, 1), (37, .invokevirtual 401, 3), (40, .pop, 1), (41, .iconst (-1), 1), (42, .ireturn, 1), (43, .aload_n 0, 1), (44, .dup, 1), (45, .getfield 392, 3), (48, .iconst 1, 1), (49, .iadd, 1)] = true := by decide +kernel
theorem dX8_assigned_26 : decode cX8_assigned 26 = .ok (.ireturn, 1) := zdec_at bX8_assigned_26 0 rfl
theorem dX8_assigned_27 : decode cX8_assigned 27 = .ok (.aload_n 0, 1) := zdec_at bX8_assigned_26 1 rfl
theorem dX8_assigned_28 : decode cX8_assigned 28 = .ok (.iload_n 2, 1) := zdec_at bX8_assigned_26 2 rfl
theorem dX8_assigned_29 : decode cX8_assigned 29 = .ok (.invokevirtual 463, 3) := zdec_at bX8_assigned_26 3 rfl
theorem dX8_assigned_32 : decode cX8_assigned 32 = .ok (.ifCond .ne 11, 3) := zdec_at bX8_assigned_26 4 rfl
theorem dX8_assigned_35 : decode cX8_assigned 35 = .ok (.aload_n 0, 1) := zdec_at bX8_assigned_26 5 rfl
theorem dX8_assigned_36 : decode cX8_assigned 36 = .ok (.iconst 3, 1) := zdec_at bX8_assigned_26 6 rfl
theorem dX8_assigned_37 : decode cX8_assigned 37 = .ok (.invokevirtual 401, 3) := zdec_at bX8_assigned_26 7 rfl
theorem dX8_assigned_40 : decode cX8_assigned 40 = .ok (.pop, 1) := zdec_at bX8_assigned_26 8 rfl
theorem dX8_assigned_41 : decode cX8_assigned 41 = .ok (.iconst (-1), 1) := zdec_at bX8_assigned_26 9 rfl
theorem dX8_assigned_42 : decode cX8_assigned 42 = .ok (.ireturn, 1) := zdec_at bX8_assigned_26 10 rfl
theorem dX8_assigned_43 : decode cX8_assigned 43 = .ok (.aload_n 0, 1) := zdec_at bX8_assigned_26 11 rfl
theorem dX8_assigned_44 : decode cX8_assigned 44 = .ok (.dup, 1) := zdec_at bX8_assigned_26 12 rfl
theorem dX8_assigned_45 : decode cX8_assigned 45 = .ok (.getfield 392, 3) := zdec_at bX8_assigned_26 13 rfl
theorem dX8_assigned_48 : decode cX8_assigned 48 = .ok (.iconst 1, 1) := zdec_at bX8_assigned_26 14 rfl
theorem dX8_assigned_49 : decode cX8_assigned 49 = .ok (.iadd, 1) := zdec_at bX8_assigned_26 15 rfl
theorem bX8_assigned_50 : zdec cX8_assigned 50 [(50, .putfield 392, 3), (53, .aload_n 0, 1), (54, .bipush 15, 2), (56, .iload_n 3, 1), (57, .bipush 99, 2), (59, .if_icmp .ne 7, 3), (62, .iconst (-1), 1), (63, .goto 4, 3), (66, .iload_n 3, 1), (67, .iload_n 2, 1), (68, .aload_n 0, 1), (69, .iload_n 1, 1), (70, .invokevirtual 466, 3), (73, .invokevirtual 446, 3), (76, .ireturn, 1)] = true := by decide +kernel
theorem dX8_assigned_50 : decode cX8_assigned 50 = .ok (.putfield 392, 3) := zdec_at bX8_assigned_50 0 rfl
theorem dX8_assigned_53 : decode cX8_assigned 53 = .ok (.aload_n 0, 1) := zdec_at bX8_assigned_50 1 rfl
theorem dX8_assigned_54 : decode cX8_assigned 54 = .ok (.bipush 15, 2) := zdec_at bX8_assigned_50 2 rfl
theorem dX8_assigned_56 : decode cX8_assigned 56 = .ok (.iload_n 3, 1) := zdec_at bX8_assigned_50 3 rfl
theorem dX8_assigned_57 : decode cX8_assigned 57 = .ok (.bipush 99, 2) := zdec_at bX8_assigned_50 4 rfl
theorem dX8_assigned_59 : decode cX8_assigned 59 = .ok (.if_icmp .ne 7, 3) := zdec_at bX8_assigned_50 5 rfl
theorem dX8_assigned_62 : decode cX8_assigned 62 = .ok (.iconst (-1), 1) := zdec_at bX8_assigned_50 6 rfl
theorem dX8_assigned_63 : decode cX8_assigned 63 = .ok (.goto 4, 3) := zdec_at bX8_assigned_50 7 rfl
theorem dX8_assigned_66 : decode cX8_assigned 66 = .ok (.iload_n 3, 1) := zdec_at bX8_assigned_50 8 rfl
theorem dX8_assigned_67 : decode cX8_assigned 67 = .ok (.iload_n 2, 1) := zdec_at bX8_assigned_50 9 rfl
theorem dX8_assigned_68 : decode cX8_assigned 68 = .ok (.aload_n 0, 1) := zdec_at bX8_assigned_50 10 rfl
theorem dX8_assigned_69 : decode cX8_assigned 69 = .ok (.iload_n 1, 1) := zdec_at bX8_assigned_50 11 rfl
theorem dX8_assigned_70 : decode cX8_assigned 70 = .ok (.invokevirtual 466, 3) := zdec_at bX8_assigned_50 12 rfl
theorem dX8_assigned_73 : decode cX8_assigned 73 = .ok (.invokevirtual 446, 3) := zdec_at bX8_assigned_50 13 rfl
theorem dX8_assigned_76 : decode cX8_assigned 76 = .ok (.ireturn, 1) := zdec_at bX8_assigned_50 14 rfl
theorem sX8_assigned_0 {E : zE} {d : Nat} {Q : zO → zM → Prop} (M : zM) (l1 : Int32) (k : Zm E YX8_conditional d M (zargs 0 [vr (some (97, 1, 0)), vi l1]) 0 [] (zma E YX8_assigned (d + 1) [(0, vr (some (97, 1, 0))), (1, vi l1)] 2 3 [] Q)) : Zm E YX8_assigned (d + 1) M [(0, vr (some (97, 1, 0))), (1, vi l1)] 0 [] Q := by
  refine Zm.l (fun _ _ k_ => z_aload_n dX8_assigned_0 rfl rfl k_) ?_
  refine Zm.l (fun _ _ k_ => z_iload_n dX8_assigned_1 rfl rfl k_) ?_
  exact zm_callV (as := [vi l1]) (st := []) dX8_assigned_2 vsX8_457_1 (Nat.le_refl _) (Nat.le_of_ble_eq_true rfl) (Nat.le_of_ble_eq_true rfl) rfl k
theorem sX8_assigned_5 {E : zE} {d : Nat} {Q : zO → zM → Prop} (M : zM) (l1 : Int32) (s0 : Int32) (k : if (gi M 97 21) ≤ 0 then (Zm E YX8_settingOf d M (zargs 0 [vr (some (97, 1, 0))]) 0 [] (zma E YX8_assigned (d + 1) [(0, vr (some (97, 1, 0))), (1, vi l1), (2, vi s0)] 16 3 [] Q)) else (Q (.inl (some (vi (-1 : Int32)))) M)) : Zm E YX8_assigned (d + 1) M [(0, vr (some (97, 1, 0))), (1, vi l1)] 5 [vi s0] Q := by
  refine Zm.l (fun _ _ k_ => z_ist_n dX8_assigned_5 rfl (by decide) (lv' := [(0, vr (some (97, 1, 0))), (1, vi l1), (2, vi s0)]) rfl k_) ?_
  refine Zm.l (fun _ _ k_ => z_aload_n dX8_assigned_6 rfl rfl k_) ?_
  refine zm_geti dX8_assigned_7 fsX8_389_1 (by decide) (by decide) ?_
  refine Zm.br (fun _ _ k1_ k2_ => z_if_le (tgt := 15) dX8_assigned_10 rfl k1_ k2_) (fun h_ => ?_) (fun h_ => ?_)
  · have k := zit h_ k
    refine Zm.l (fun _ _ k_ => z_aload_n dX8_assigned_15 rfl rfl k_) ?_
    exact zm_callV (as := []) (st := []) dX8_assigned_16 vsX8_460_1 (Nat.le_refl _) (Nat.le_of_ble_eq_true rfl) (Nat.le_of_ble_eq_true rfl) rfl k
  · have k := zif h_ k
    refine Zm.l (fun _ _ k_ => z_iconst (v := -1) dX8_assigned_13 rfl k_) ?_
    exact zm_iret dX8_assigned_14 rfl rfl k
theorem sX8_assigned_19 {E : zE} {d : Nat} {Q : zO → zM → Prop} (M : zM) (l1 : Int32) (l2 : Int32) (s0 : Int32) (k : if s0 = (-1 : Int32) then (Q (.inl (some (vi l2))) M) else (Zm E YX8_isTarget d M (zargs 0 [vr (some (97, 1, 0)), vi l2]) 0 [] (zma E YX8_assigned (d + 1) [(0, vr (some (97, 1, 0))), (1, vi l1), (2, vi l2), (3, vi s0)] 29 3 [] Q))) : Zm E YX8_assigned (d + 1) M [(0, vr (some (97, 1, 0))), (1, vi l1), (2, vi l2)] 19 [vi s0] Q := by
  refine Zm.l (fun _ _ k_ => z_ist_n dX8_assigned_19 rfl (by decide) (lv' := [(0, vr (some (97, 1, 0))), (1, vi l1), (2, vi l2), (3, vi s0)]) rfl k_) ?_
  refine Zm.l (fun _ _ k_ => z_iload_n dX8_assigned_20 rfl rfl k_) ?_
  refine Zm.l (fun _ _ k_ => z_iconst (v := -1) dX8_assigned_21 rfl k_) ?_
  refine Zm.brn (fun _ _ k1_ k2_ => z_icmp_ne (tgt := 27) dX8_assigned_22 rfl k1_ k2_) (fun h_ => ?_) (fun h_ => ?_)
  · have k := zif h_ k
    refine Zm.l (fun _ _ k_ => z_aload_n dX8_assigned_27 rfl rfl k_) ?_
    refine Zm.l (fun _ _ k_ => z_iload_n dX8_assigned_28 rfl rfl k_) ?_
    exact zm_callV (as := [vi l2]) (st := []) dX8_assigned_29 vsX8_463_1 (Nat.le_refl _) (Nat.le_of_ble_eq_true rfl) (Nat.le_of_ble_eq_true rfl) rfl k
  · have k := zit h_ k
    refine Zm.l (fun _ _ k_ => z_iload_n dX8_assigned_25 rfl rfl k_) ?_
    exact zm_iret dX8_assigned_26 rfl rfl k
theorem sX8_assigned_32 {E : zE} {d : Nat} {Q : zO → zM → Prop} (M : zM) (l1 : Int32) (l2 : Int32) (l3 : Int32) (s0 : Int32) (k : if s0 = 0 then (Zm E YX8_fail d M (zargs 0 [vr (some (97, 1, 0)), vi (3 : Int32)]) 0 [] (zma E YX8_assigned (d + 1) [] 37 3 [] Q)) else (if l3 = (99 : Int32) then (Zm E YX8_opened d (si M 97 20 ((gi M 97 20) + (1 : Int32))) (zargs 0 [vr (some (97, 1, 0)), vi l1]) 0 [] (zma E YX8_assigned (d + 1) [] 70 3 [vi l2, vi (-1 : Int32), vi (15 : Int32), vr (some (97, 1, 0))] Q)) else (Zm E YX8_opened d (si M 97 20 ((gi M 97 20) + (1 : Int32))) (zargs 0 [vr (some (97, 1, 0)), vi l1]) 0 [] (zma E YX8_assigned (d + 1) [] 70 3 [vi l2, vi l3, vi (15 : Int32), vr (some (97, 1, 0))] Q)))) : Zm E YX8_assigned (d + 1) M [(0, vr (some (97, 1, 0))), (1, vi l1), (2, vi l2), (3, vi l3)] 32 [vi s0] Q := by
  refine Zm.brn (fun _ _ k1_ k2_ => z_if_ne (tgt := 43) dX8_assigned_32 rfl k1_ k2_) (fun h_ => ?_) (fun h_ => ?_)
  · have k := zif h_ k
    refine Zm.l (fun _ _ k_ => z_aload_n dX8_assigned_43 rfl rfl k_) ?_
    refine Zm.l (fun _ _ k_ => z_dup dX8_assigned_44 rfl k_) ?_
    refine zm_geti dX8_assigned_45 fsX8_392_1 (by decide) (by decide) ?_
    refine Zm.l (fun _ _ k_ => z_iconst (v := 1) dX8_assigned_48 rfl k_) ?_
    refine Zm.l (fun _ _ k_ => z_iadd dX8_assigned_49 k_) ?_
    refine zm_puti (by decide) (by decide) dX8_assigned_50 (zfwN.w fwX8_392_1) rfl ⟨rfl, rfl⟩ ?_
    refine Zm.l (fun _ _ k_ => z_aload_n dX8_assigned_53 rfl rfl k_) ?_
    refine Zm.l (fun _ _ k_ => z_bipush (v := 15) dX8_assigned_54 rfl k_) ?_
    refine Zm.l (fun _ _ k_ => z_iload_n dX8_assigned_56 rfl rfl k_) ?_
    refine Zm.l (fun _ _ k_ => z_bipush (v := 99) dX8_assigned_57 rfl k_) ?_
    refine Zm.brn (fun _ _ k1_ k2_ => z_icmp_ne (tgt := 66) dX8_assigned_59 rfl k1_ k2_) (fun h_ => ?_) (fun h_ => ?_)
    · have k := zif h_ k
      refine Zm.l (fun _ _ k_ => z_iload_n dX8_assigned_66 rfl rfl k_) ?_
      refine Zm.l (fun _ _ k_ => z_iload_n dX8_assigned_67 rfl rfl k_) ?_
      refine Zm.l (fun _ _ k_ => z_aload_n dX8_assigned_68 rfl rfl k_) ?_
      refine Zm.l (fun _ _ k_ => z_iload_n dX8_assigned_69 rfl rfl k_) ?_
      refine Zm.pick [] rfl ?_
      exact zm_callV (as := [vi l1]) (st := [vi l2, vi l3, vi (15 : Int32), vr (some (97, 1, 0))]) dX8_assigned_70 vsX8_466_1 (Nat.le_refl _) (Nat.le_of_ble_eq_true rfl) (Nat.le_of_ble_eq_true rfl) rfl k
    · have k := zit h_ k
      refine Zm.l (fun _ _ k_ => z_iconst (v := -1) dX8_assigned_62 rfl k_) ?_
      refine Zm.l (fun _ _ k_ => z_goto (tgt := 67) dX8_assigned_63 rfl k_) ?_
      refine Zm.l (fun _ _ k_ => z_iload_n dX8_assigned_67 rfl rfl k_) ?_
      refine Zm.l (fun _ _ k_ => z_aload_n dX8_assigned_68 rfl rfl k_) ?_
      refine Zm.l (fun _ _ k_ => z_iload_n dX8_assigned_69 rfl rfl k_) ?_
      refine Zm.pick [] rfl ?_
      exact zm_callV (as := [vi l1]) (st := [vi l2, vi (-1 : Int32), vi (15 : Int32), vr (some (97, 1, 0))]) dX8_assigned_70 vsX8_466_1 (Nat.le_refl _) (Nat.le_of_ble_eq_true rfl) (Nat.le_of_ble_eq_true rfl) rfl k
  · have k := zit h_ k
    refine Zm.l (fun _ _ k_ => z_aload_n dX8_assigned_35 rfl rfl k_) ?_
    refine Zm.l (fun _ _ k_ => z_iconst (v := 3) dX8_assigned_36 rfl k_) ?_
    refine Zm.pick [] rfl ?_
    exact zm_callV (as := [vi (3 : Int32)]) (st := []) dX8_assigned_37 vsX8_401_1 (Nat.le_refl _) (Nat.le_of_ble_eq_true rfl) (Nat.le_of_ble_eq_true rfl) rfl k
theorem sX8_assigned_40 {E : zE} {d : Nat} {Q : zO → zM → Prop} (M : zM) (s0 : Int32) (k : Q (.inl (some (vi (-1 : Int32)))) M) : Zm E YX8_assigned (d + 1) M [] 40 [vi s0] Q := by
  refine Zm.l (fun _ _ k_ => z_pop dX8_assigned_40 rfl k_) ?_
  refine Zm.l (fun _ _ k_ => z_iconst (v := -1) dX8_assigned_41 rfl k_) ?_
  exact zm_iret dX8_assigned_42 rfl rfl k
theorem sX8_assigned_73 {E : zE} {d : Nat} {Q : zO → zM → Prop} (M : zM) (s0 : Int32) (s1 : Int32) (s2 : Int32) (s3 : Int32) (k : Zm E YX8_node d M (zargs 0 [vr (some (97, 1, 0)), vi s3, vi s2, vi s1, vi s0]) 0 [] (zma E YX8_assigned (d + 1) [] 73 3 [] Q)) : Zm E YX8_assigned (d + 1) M [] 73 [vi s0, vi s1, vi s2, vi s3, vr (some (97, 1, 0))] Q := by
  exact zm_callV (as := [vi s3, vi s2, vi s1, vi s0]) (st := []) dX8_assigned_73 vsX8_446_1 (Nat.le_refl _) (Nat.le_of_ble_eq_true rfl) (Nat.le_of_ble_eq_true rfl) rfl k
theorem sX8_assigned_76 {E : zE} {d : Nat} {Q : zO → zM → Prop} (M : zM) (s0 : Int32) (k : Q (.inl (some (vi s0))) M) : Zm E YX8_assigned (d + 1) M [] 76 [vi s0] Q := by
  exact zm_iret dX8_assigned_76 rfl rfl k
/-! ScriptTypesModel.conditional(Z)I -/
theorem bX8_conditional_0 : zdec cX8_conditional 0 [(0, .aload_n 0, 1), (1, .iconst 0, 1), (2, .iload_n 1, 1), (3, .invokevirtual 469, 3), (6, .istore_n 2, 1), (7, .aload_n 0, 1), (8, .getfield 389, 3), (11, .ifCond .gt 12, 3), (14, .aload_n 0, 1), (15, .bipush 45, 2), (17, .invokevirtual 398, 3), (20, .ifCond .ne 5, 3), (23, .iload_n 2, 1), (24, .ireturn, 1), (25, .aload_n 0, 1), (26, .dup, 1)] = true := by decide +kernel
theorem dX8_conditional_0 : decode cX8_conditional 0 = .ok (.aload_n 0, 1) := zdec_at bX8_conditional_0 0 rfl
theorem dX8_conditional_1 : decode cX8_conditional 1 = .ok (.iconst 0, 1) := zdec_at bX8_conditional_0 1 rfl
theorem dX8_conditional_2 : decode cX8_conditional 2 = .ok (.iload_n 1, 1) := zdec_at bX8_conditional_0 2 rfl
theorem dX8_conditional_3 : decode cX8_conditional 3 = .ok (.invokevirtual 469, 3) := zdec_at bX8_conditional_0 3 rfl
theorem dX8_conditional_6 : decode cX8_conditional 6 = .ok (.istore_n 2, 1) := zdec_at bX8_conditional_0 4 rfl
theorem dX8_conditional_7 : decode cX8_conditional 7 = .ok (.aload_n 0, 1) := zdec_at bX8_conditional_0 5 rfl
theorem dX8_conditional_8 : decode cX8_conditional 8 = .ok (.getfield 389, 3) := zdec_at bX8_conditional_0 6 rfl
theorem dX8_conditional_11 : decode cX8_conditional 11 = .ok (.ifCond .gt 12, 3) := zdec_at bX8_conditional_0 7 rfl
theorem dX8_conditional_14 : decode cX8_conditional 14 = .ok (.aload_n 0, 1) := zdec_at bX8_conditional_0 8 rfl
theorem dX8_conditional_15 : decode cX8_conditional 15 = .ok (.bipush 45, 2) := zdec_at bX8_conditional_0 9 rfl
theorem dX8_conditional_17 : decode cX8_conditional 17 = .ok (.invokevirtual 398, 3) := zdec_at bX8_conditional_0 10 rfl
theorem dX8_conditional_20 : decode cX8_conditional 20 = .ok (.ifCond .ne 5, 3) := zdec_at bX8_conditional_0 11 rfl
theorem dX8_conditional_23 : decode cX8_conditional 23 = .ok (.iload_n 2, 1) := zdec_at bX8_conditional_0 12 rfl
theorem dX8_conditional_24 : decode cX8_conditional 24 = .ok (.ireturn, 1) := zdec_at bX8_conditional_0 13 rfl
theorem dX8_conditional_25 : decode cX8_conditional 25 = .ok (.aload_n 0, 1) := zdec_at bX8_conditional_0 14 rfl
theorem dX8_conditional_26 : decode cX8_conditional 26 = .ok (.dup, 1) := zdec_at bX8_conditional_0 15 rfl
theorem bX8_conditional_27 : zdec cX8_conditional 27 [(27, .getfield 392, 3), (30, .iconst 1, 1), (31, .iadd, 1), (32, .putfield 392, 3), (35, .aload_n 0, 1), (36, .iload_n 1, 1), (37, .invokevirtual 466, 3), (40, .istore_n 3, 1), (41, .aload_n 0, 1), (42, .bipush 46, 2), (44, .invokevirtual 473, 3), (47, .ifCond .ne 5, 3), (50, .iconst (-1), 1), (51, .ireturn, 1), (52, .aload_n 0, 1), (53, .bipush 14, 2)] = true := by decide +kernel
theorem dX8_conditional_27 : decode cX8_conditional 27 = .ok (.getfield 392, 3) := zdec_at bX8_conditional_27 0 rfl
theorem dX8_conditional_30 : decode cX8_conditional 30 = .ok (.iconst 1, 1) := zdec_at bX8_conditional_27 1 rfl
theorem dX8_conditional_31 : decode cX8_conditional 31 = .ok (.iadd, 1) := zdec_at bX8_conditional_27 2 rfl
theorem dX8_conditional_32 : decode cX8_conditional 32 = .ok (.putfield 392, 3) := zdec_at bX8_conditional_27 3 rfl
theorem dX8_conditional_35 : decode cX8_conditional 35 = .ok (.aload_n 0, 1) := zdec_at bX8_conditional_27 4 rfl
theorem dX8_conditional_36 : decode cX8_conditional 36 = .ok (.iload_n 1, 1) := zdec_at bX8_conditional_27 5 rfl
theorem dX8_conditional_37 : decode cX8_conditional 37 = .ok (.invokevirtual 466, 3) := zdec_at bX8_conditional_27 6 rfl
theorem dX8_conditional_40 : decode cX8_conditional 40 = .ok (.istore_n 3, 1) := zdec_at bX8_conditional_27 7 rfl
theorem dX8_conditional_41 : decode cX8_conditional 41 = .ok (.aload_n 0, 1) := zdec_at bX8_conditional_27 8 rfl
theorem dX8_conditional_42 : decode cX8_conditional 42 = .ok (.bipush 46, 2) := zdec_at bX8_conditional_27 9 rfl
theorem dX8_conditional_44 : decode cX8_conditional 44 = .ok (.invokevirtual 473, 3) := zdec_at bX8_conditional_27 10 rfl
theorem dX8_conditional_47 : decode cX8_conditional 47 = .ok (.ifCond .ne 5, 3) := zdec_at bX8_conditional_27 11 rfl
theorem dX8_conditional_50 : decode cX8_conditional 50 = .ok (.iconst (-1), 1) := zdec_at bX8_conditional_27 12 rfl
theorem dX8_conditional_51 : decode cX8_conditional 51 = .ok (.ireturn, 1) := zdec_at bX8_conditional_27 13 rfl
theorem dX8_conditional_52 : decode cX8_conditional 52 = .ok (.aload_n 0, 1) := zdec_at bX8_conditional_27 14 rfl
theorem dX8_conditional_53 : decode cX8_conditional 53 = .ok (.bipush 14, 2) := zdec_at bX8_conditional_27 15 rfl
theorem bX8_conditional_55 : zdec cX8_conditional 55 [(55, .iload_n 2, 1), (56, .iload_n 3, 1), (57, .aload_n 0, 1), (58, .iload_n 1, 1), (59, .invokevirtual 466, 3), (62, .invokevirtual 446, 3), (65, .ireturn, 1)] = true := by decide +kernel
theorem dX8_conditional_55 : decode cX8_conditional 55 = .ok (.iload_n 2, 1) := zdec_at bX8_conditional_55 0 rfl
theorem dX8_conditional_56 : decode cX8_conditional 56 = .ok (.iload_n 3, 1) := zdec_at bX8_conditional_55 1 rfl
theorem dX8_conditional_57 : decode cX8_conditional 57 = .ok (.aload_n 0, 1) := zdec_at bX8_conditional_55 2 rfl
theorem dX8_conditional_58 : decode cX8_conditional 58 = .ok (.iload_n 1, 1) := zdec_at bX8_conditional_55 3 rfl
theorem dX8_conditional_59 : decode cX8_conditional 59 = .ok (.invokevirtual 466, 3) := zdec_at bX8_conditional_55 4 rfl
theorem dX8_conditional_62 : decode cX8_conditional 62 = .ok (.invokevirtual 446, 3) := zdec_at bX8_conditional_55 5 rfl
theorem dX8_conditional_65 : decode cX8_conditional 65 = .ok (.ireturn, 1) := zdec_at bX8_conditional_55 6 rfl
theorem sX8_conditional_0 {E : zE} {d : Nat} {Q : zO → zM → Prop} (M : zM) (l1 : Int32) (k : Zm E YX8_binary d M (zargs 0 [vr (some (97, 1, 0)), vi (0 : Int32), vi l1]) 0 [] (zma E YX8_conditional (d + 1) [(0, vr (some (97, 1, 0))), (1, vi l1)] 3 3 [] Q)) : Zm E YX8_conditional (d + 1) M [(0, vr (some (97, 1, 0))), (1, vi l1)] 0 [] Q := by
  refine Zm.l (fun _ _ k_ => z_aload_n dX8_conditional_0 rfl rfl k_) ?_
  refine Zm.l (fun _ _ k_ => z_iconst (v := 0) dX8_conditional_1 rfl k_) ?_
  refine Zm.l (fun _ _ k_ => z_iload_n dX8_conditional_2 rfl rfl k_) ?_
  exact zm_callV (as := [vi (0 : Int32), vi l1]) (st := []) dX8_conditional_3 vsX8_469_1 (Nat.le_refl _) (Nat.le_of_ble_eq_true rfl) (Nat.le_of_ble_eq_true rfl) rfl k
theorem sX8_conditional_6 {E : zE} {d : Nat} {Q : zO → zM → Prop} (M : zM) (l1 : Int32) (s0 : Int32) (k : if 0 < (gi M 97 21) then (Q (.inl (some (vi s0))) M) else (Zm E YX8_isSign d M (zargs 0 [vr (some (97, 1, 0)), vi (45 : Int32)]) 0 [] (zma E YX8_conditional (d + 1) [(0, vr (some (97, 1, 0))), (1, vi l1), (2, vi s0)] 17 3 [] Q))) : Zm E YX8_conditional (d + 1) M [(0, vr (some (97, 1, 0))), (1, vi l1)] 6 [vi s0] Q := by
  refine Zm.l (fun _ _ k_ => z_ist_n dX8_conditional_6 rfl (by decide) (lv' := [(0, vr (some (97, 1, 0))), (1, vi l1), (2, vi s0)]) rfl k_) ?_
  refine Zm.l (fun _ _ k_ => z_aload_n dX8_conditional_7 rfl rfl k_) ?_
  refine zm_geti dX8_conditional_8 fsX8_389_1 (by decide) (by decide) ?_
  refine Zm.br (fun _ _ k1_ k2_ => z_if_gt (tgt := 23) dX8_conditional_11 rfl k1_ k2_) (fun h_ => ?_) (fun h_ => ?_)
  · have k := zit h_ k
    refine Zm.l (fun _ _ k_ => z_iload_n dX8_conditional_23 rfl rfl k_) ?_
    exact zm_iret dX8_conditional_24 rfl rfl k
  · have k := zif h_ k
    refine Zm.l (fun _ _ k_ => z_aload_n dX8_conditional_14 rfl rfl k_) ?_
    refine Zm.l (fun _ _ k_ => z_bipush (v := 45) dX8_conditional_15 rfl k_) ?_
    exact zm_callV (as := [vi (45 : Int32)]) (st := []) dX8_conditional_17 vsX8_398_1 (Nat.le_refl _) (Nat.le_of_ble_eq_true rfl) (Nat.le_of_ble_eq_true rfl) rfl k
theorem sX8_conditional_20 {E : zE} {d : Nat} {Q : zO → zM → Prop} (M : zM) (l1 : Int32) (l2 : Int32) (s0 : Int32) (k : if s0 = 0 then (Q (.inl (some (vi l2))) M) else (Zm E YX8_opened d (si M 97 20 ((gi M 97 20) + (1 : Int32))) (zargs 0 [vr (some (97, 1, 0)), vi l1]) 0 [] (zma E YX8_conditional (d + 1) [(0, vr (some (97, 1, 0))), (1, vi l1), (2, vi l2)] 37 3 [] Q))) : Zm E YX8_conditional (d + 1) M [(0, vr (some (97, 1, 0))), (1, vi l1), (2, vi l2)] 20 [vi s0] Q := by
  refine Zm.brn (fun _ _ k1_ k2_ => z_if_ne (tgt := 25) dX8_conditional_20 rfl k1_ k2_) (fun h_ => ?_) (fun h_ => ?_)
  · have k := zif h_ k
    refine Zm.l (fun _ _ k_ => z_aload_n dX8_conditional_25 rfl rfl k_) ?_
    refine Zm.l (fun _ _ k_ => z_dup dX8_conditional_26 rfl k_) ?_
    refine zm_geti dX8_conditional_27 fsX8_392_1 (by decide) (by decide) ?_
    refine Zm.l (fun _ _ k_ => z_iconst (v := 1) dX8_conditional_30 rfl k_) ?_
    refine Zm.l (fun _ _ k_ => z_iadd dX8_conditional_31 k_) ?_
    refine zm_puti (by decide) (by decide) dX8_conditional_32 (zfwN.w fwX8_392_1) rfl ⟨rfl, rfl⟩ ?_
    refine Zm.l (fun _ _ k_ => z_aload_n dX8_conditional_35 rfl rfl k_) ?_
    refine Zm.l (fun _ _ k_ => z_iload_n dX8_conditional_36 rfl rfl k_) ?_
    exact zm_callV (as := [vi l1]) (st := []) dX8_conditional_37 vsX8_466_1 (Nat.le_refl _) (Nat.le_of_ble_eq_true rfl) (Nat.le_of_ble_eq_true rfl) rfl k
  · have k := zit h_ k
    refine Zm.l (fun _ _ k_ => z_iload_n dX8_conditional_23 rfl rfl k_) ?_
    exact zm_iret dX8_conditional_24 rfl rfl k
theorem sX8_conditional_40 {E : zE} {d : Nat} {Q : zO → zM → Prop} (M : zM) (l1 : Int32) (l2 : Int32) (s0 : Int32) (k : Zm E YX8_must d M (zargs 0 [vr (some (97, 1, 0)), vi (46 : Int32)]) 0 [] (zma E YX8_conditional (d + 1) [(0, vr (some (97, 1, 0))), (1, vi l1), (2, vi l2), (3, vi s0)] 44 3 [] Q)) : Zm E YX8_conditional (d + 1) M [(0, vr (some (97, 1, 0))), (1, vi l1), (2, vi l2)] 40 [vi s0] Q := by
  refine Zm.l (fun _ _ k_ => z_ist_n dX8_conditional_40 rfl (by decide) (lv' := [(0, vr (some (97, 1, 0))), (1, vi l1), (2, vi l2), (3, vi s0)]) rfl k_) ?_
  refine Zm.l (fun _ _ k_ => z_aload_n dX8_conditional_41 rfl rfl k_) ?_
  refine Zm.l (fun _ _ k_ => z_bipush (v := 46) dX8_conditional_42 rfl k_) ?_
  exact zm_callV (as := [vi (46 : Int32)]) (st := []) dX8_conditional_44 vsX8_473_1 (Nat.le_refl _) (Nat.le_of_ble_eq_true rfl) (Nat.le_of_ble_eq_true rfl) rfl k
theorem sX8_conditional_47 {E : zE} {d : Nat} {Q : zO → zM → Prop} (M : zM) (l1 : Int32) (l2 : Int32) (l3 : Int32) (s0 : Int32) (k : if s0 = 0 then (Q (.inl (some (vi (-1 : Int32)))) M) else (Zm E YX8_opened d M (zargs 0 [vr (some (97, 1, 0)), vi l1]) 0 [] (zma E YX8_conditional (d + 1) [] 59 3 [vi l3, vi l2, vi (14 : Int32), vr (some (97, 1, 0))] Q))) : Zm E YX8_conditional (d + 1) M [(0, vr (some (97, 1, 0))), (1, vi l1), (2, vi l2), (3, vi l3)] 47 [vi s0] Q := by
  refine Zm.brn (fun _ _ k1_ k2_ => z_if_ne (tgt := 52) dX8_conditional_47 rfl k1_ k2_) (fun h_ => ?_) (fun h_ => ?_)
  · have k := zif h_ k
    refine Zm.l (fun _ _ k_ => z_aload_n dX8_conditional_52 rfl rfl k_) ?_
    refine Zm.l (fun _ _ k_ => z_bipush (v := 14) dX8_conditional_53 rfl k_) ?_
    refine Zm.l (fun _ _ k_ => z_iload_n dX8_conditional_55 rfl rfl k_) ?_
    refine Zm.l (fun _ _ k_ => z_iload_n dX8_conditional_56 rfl rfl k_) ?_
    refine Zm.l (fun _ _ k_ => z_aload_n dX8_conditional_57 rfl rfl k_) ?_
    refine Zm.l (fun _ _ k_ => z_iload_n dX8_conditional_58 rfl rfl k_) ?_
    refine Zm.pick [] rfl ?_
    exact zm_callV (as := [vi l1]) (st := [vi l3, vi l2, vi (14 : Int32), vr (some (97, 1, 0))]) dX8_conditional_59 vsX8_466_1 (Nat.le_refl _) (Nat.le_of_ble_eq_true rfl) (Nat.le_of_ble_eq_true rfl) rfl k
  · have k := zit h_ k
    refine Zm.l (fun _ _ k_ => z_iconst (v := -1) dX8_conditional_50 rfl k_) ?_
    exact zm_iret dX8_conditional_51 rfl rfl k
theorem sX8_conditional_62 {E : zE} {d : Nat} {Q : zO → zM → Prop} (M : zM) (s0 : Int32) (s1 : Int32) (s2 : Int32) (s3 : Int32) (k : Zm E YX8_node d M (zargs 0 [vr (some (97, 1, 0)), vi s3, vi s2, vi s1, vi s0]) 0 [] (zma E YX8_conditional (d + 1) [] 62 3 [] Q)) : Zm E YX8_conditional (d + 1) M [] 62 [vi s0, vi s1, vi s2, vi s3, vr (some (97, 1, 0))] Q := by
  exact zm_callV (as := [vi s3, vi s2, vi s1, vi s0]) (st := []) dX8_conditional_62 vsX8_446_1 (Nat.le_refl _) (Nat.le_of_ble_eq_true rfl) (Nat.le_of_ble_eq_true rfl) rfl k
theorem sX8_conditional_65 {E : zE} {d : Nat} {Q : zO → zM → Prop} (M : zM) (s0 : Int32) (k : Q (.inl (some (vi s0))) M) : Zm E YX8_conditional (d + 1) M [] 65 [vi s0] Q := by
  exact zm_iret dX8_conditional_65 rfl rfl k
/-! ScriptTypesModel.binary(IZ)I -/
theorem bX8_binary_0 : zdec cX8_binary 0 [(0, .aload_n 0, 1), (1, .invokevirtual 476, 3), (4, .istore_n 3, 1), (5, .aload_n 0, 1), (6, .getfield 389, 3), (9, .ifCond .ne 108, 3), (12, .aload_n 0, 1), (13, .iload_n 2, 1), (14, .invokevirtual 479, 3), (17, .iload_n 1, 1), (18, .if_icmp .lt 99, 3), (21, .aload_n 0, 1), (22, .iload_n 2, 1), (23, .invokevirtual 479, 3), (26, .istore 4, 2), (28, .iload 4, 2)] = true := by decide +kernel
theorem dX8_binary_0 : decode cX8_binary 0 = .ok (.aload_n 0, 1) := zdec_at bX8_binary_0 0 rfl
theorem dX8_binary_1 : decode cX8_binary 1 = .ok (.invokevirtual 476, 3) := zdec_at bX8_binary_0 1 rfl
theorem dX8_binary_4 : decode cX8_binary 4 = .ok (.istore_n 3, 1) := zdec_at bX8_binary_0 2 rfl
theorem dX8_binary_5 : decode cX8_binary 5 = .ok (.aload_n 0, 1) := zdec_at bX8_binary_0 3 rfl
theorem dX8_binary_6 : decode cX8_binary 6 = .ok (.getfield 389, 3) := zdec_at bX8_binary_0 4 rfl
theorem dX8_binary_9 : decode cX8_binary 9 = .ok (.ifCond .ne 108, 3) := zdec_at bX8_binary_0 5 rfl
theorem dX8_binary_12 : decode cX8_binary 12 = .ok (.aload_n 0, 1) := zdec_at bX8_binary_0 6 rfl
theorem dX8_binary_13 : decode cX8_binary 13 = .ok (.iload_n 2, 1) := zdec_at bX8_binary_0 7 rfl
theorem dX8_binary_14 : decode cX8_binary 14 = .ok (.invokevirtual 479, 3) := zdec_at bX8_binary_0 8 rfl
theorem dX8_binary_17 : decode cX8_binary 17 = .ok (.iload_n 1, 1) := zdec_at bX8_binary_0 9 rfl
theorem dX8_binary_18 : decode cX8_binary 18 = .ok (.if_icmp .lt 99, 3) := zdec_at bX8_binary_0 10 rfl
theorem dX8_binary_21 : decode cX8_binary 21 = .ok (.aload_n 0, 1) := zdec_at bX8_binary_0 11 rfl
theorem dX8_binary_22 : decode cX8_binary 22 = .ok (.iload_n 2, 1) := zdec_at bX8_binary_0 12 rfl
theorem dX8_binary_23 : decode cX8_binary 23 = .ok (.invokevirtual 479, 3) := zdec_at bX8_binary_0 13 rfl
theorem dX8_binary_26 : decode cX8_binary 26 = .ok (.istore 4, 2) := zdec_at bX8_binary_0 14 rfl
theorem dX8_binary_28 : decode cX8_binary 28 = .ok (.iload 4, 2) := zdec_at bX8_binary_0 15 rfl
theorem bX8_binary_30 : zdec cX8_binary 30 [(30, .iconst 2, 1), (31, .if_icmp .ge 7, 3), (34, .iconst 0, 1), (35, .goto 7, 3), (38, .aload_n 0, 1), (39, .invokevirtual 482, 3), (42, .istore 5, 2), (44, .aload_n 0, 1), (45, .dup, 1), (46, .getfield 392, 3), (49, .iconst 1, 1), (50, .iadd, 1), (51, .putfield 392, 3), (54, .aload_n 0, 1), (55, .iload 4, 2), (57, .iconst 1, 1)] = true := by decide +kernel
theorem dX8_binary_30 : decode cX8_binary 30 = .ok (.iconst 2, 1) := zdec_at bX8_binary_30 0 rfl
theorem dX8_binary_31 : decode cX8_binary 31 = .ok (.if_icmp .ge 7, 3) := zdec_at bX8_binary_30 1 rfl
theorem dX8_binary_34 : decode cX8_binary 34 = .ok (.iconst 0, 1) := zdec_at bX8_binary_30 2 rfl
theorem dX8_binary_35 : decode cX8_binary 35 = .ok (.goto 7, 3) := zdec_at bX8_binary_30 3 rfl
theorem dX8_binary_38 : decode cX8_binary 38 = .ok (.aload_n 0, 1) := zdec_at bX8_binary_30 4 rfl
theorem dX8_binary_39 : decode cX8_binary 39 = .ok (.invokevirtual 482, 3) := zdec_at bX8_binary_30 5 rfl
theorem dX8_binary_42 : decode cX8_binary 42 = .ok (.istore 5, 2) := zdec_at bX8_binary_30 6 rfl
theorem dX8_binary_44 : decode cX8_binary 44 = .ok (.aload_n 0, 1) := zdec_at bX8_binary_30 7 rfl
theorem dX8_binary_45 : decode cX8_binary 45 = .ok (.dup, 1) := zdec_at bX8_binary_30 8 rfl
theorem dX8_binary_46 : decode cX8_binary 46 = .ok (.getfield 392, 3) := zdec_at bX8_binary_30 9 rfl
theorem dX8_binary_49 : decode cX8_binary 49 = .ok (.iconst 1, 1) := zdec_at bX8_binary_30 10 rfl
theorem dX8_binary_50 : decode cX8_binary 50 = .ok (.iadd, 1) := zdec_at bX8_binary_30 11 rfl
theorem dX8_binary_51 : decode cX8_binary 51 = .ok (.putfield 392, 3) := zdec_at bX8_binary_30 12 rfl
theorem dX8_binary_54 : decode cX8_binary 54 = .ok (.aload_n 0, 1) := zdec_at bX8_binary_30 13 rfl
theorem dX8_binary_55 : decode cX8_binary 55 = .ok (.iload 4, 2) := zdec_at bX8_binary_30 14 rfl
theorem dX8_binary_57 : decode cX8_binary 57 = .ok (.iconst 1, 1) := zdec_at bX8_binary_30 15 rfl
theorem bX8_binary_58 : zdec cX8_binary 58 [(58, .iadd, 1), (59, .iload_n 2, 1), (60, .invokevirtual 469, 3), (63, .istore 6, 2), (65, .iload 4, 2), (67, .ifCond .ne 16, 3), (70, .aload_n 0, 1), (71, .bipush 13, 2), (73, .iload_n 3, 1), (74, .iload 6, 2), (76, .iconst 0, 1), (77, .invokevirtual 446, 3), (80, .goto 33, 3), (83, .iload 4, 2), (85, .iconst 1, 1), (86, .if_icmp .ne 16, 3)] = true := by decide +kernel
theorem dX8_binary_58 : decode cX8_binary 58 = .ok (.iadd, 1) := zdec_at bX8_binary_58 0 rfl
theorem dX8_binary_59 : decode cX8_binary 59 = .ok (.iload_n 2, 1) := zdec_at bX8_binary_58 1 rfl
theorem dX8_binary_60 : decode cX8_binary 60 = .ok (.invokevirtual 469, 3) := zdec_at bX8_binary_58 2 rfl
theorem dX8_binary_63 : decode cX8_binary 63 = .ok (.istore 6, 2) := zdec_at bX8_binary_58 3 rfl
theorem dX8_binary_65 : decode cX8_binary 65 = .ok (.iload 4, 2) := zdec_at bX8_binary_58 4 rfl
theorem dX8_binary_67 : decode cX8_binary 67 = .ok (.ifCond .ne 16, 3) := zdec_at bX8_binary_58 5 rfl
theorem dX8_binary_70 : decode cX8_binary 70 = .ok (.aload_n 0, 1) := zdec_at bX8_binary_58 6 rfl
theorem dX8_binary_71 : decode cX8_binary 71 = .ok (.bipush 13, 2) := zdec_at bX8_binary_58 7 rfl
theorem dX8_binary_73 : decode cX8_binary 73 = .ok (.iload_n 3, 1) := zdec_at bX8_binary_58 8 rfl
theorem dX8_binary_74 : decode cX8_binary 74 = .ok (.iload 6, 2) := zdec_at bX8_binary_58 9 rfl
theorem dX8_binary_76 : decode cX8_binary 76 = .ok (.iconst 0, 1) := zdec_at bX8_binary_58 10 rfl
theorem dX8_binary_77 : decode cX8_binary 77 = .ok (.invokevirtual 446, 3) := zdec_at bX8_binary_58 11 rfl
theorem dX8_binary_80 : decode cX8_binary 80 = .ok (.goto 33, 3) := zdec_at bX8_binary_58 12 rfl
theorem dX8_binary_83 : decode cX8_binary 83 = .ok (.iload 4, 2) := zdec_at bX8_binary_58 13 rfl
theorem dX8_binary_85 : decode cX8_binary 85 = .ok (.iconst 1, 1) := zdec_at bX8_binary_58 14 rfl
theorem dX8_binary_86 : decode cX8_binary 86 = .ok (.if_icmp .ne 16, 3) := zdec_at bX8_binary_58 15 rfl
theorem bX8_binary_89 : zdec cX8_binary 89 [(89, .aload_n 0, 1), (90, .bipush 12, 2), (92, .iload_n 3, 1), (93, .iload 6, 2), (95, .iconst 0, 1), (96, .invokevirtual 446, 3), (99, .goto 14, 3), (102, .aload_n 0, 1), (103, .bipush 11, 2), (105, .iload 5, 2), (107, .iload_n 3, 1), (108, .iload 6, 2), (110, .invokevirtual 446, 3), (113, .istore_n 3, 1), (114, .goto (-109), 3), (117, .iload_n 3, 1)] = true := by decide +kernel
theorem dX8_binary_89 : decode cX8_binary 89 = .ok (.aload_n 0, 1) := zdec_at bX8_binary_89 0 rfl
theorem dX8_binary_90 : decode cX8_binary 90 = .ok (.bipush 12, 2) := zdec_at bX8_binary_89 1 rfl
theorem dX8_binary_92 : decode cX8_binary 92 = .ok (.iload_n 3, 1) := zdec_at bX8_binary_89 2 rfl
theorem dX8_binary_93 : decode cX8_binary 93 = .ok (.iload 6, 2) := zdec_at bX8_binary_89 3 rfl
theorem dX8_binary_95 : decode cX8_binary 95 = .ok (.iconst 0, 1) := zdec_at bX8_binary_89 4 rfl
theorem dX8_binary_96 : decode cX8_binary 96 = .ok (.invokevirtual 446, 3) := zdec_at bX8_binary_89 5 rfl
theorem dX8_binary_99 : decode cX8_binary 99 = .ok (.goto 14, 3) := zdec_at bX8_binary_89 6 rfl
theorem dX8_binary_102 : decode cX8_binary 102 = .ok (.aload_n 0, 1) := zdec_at bX8_binary_89 7 rfl
theorem dX8_binary_103 : decode cX8_binary 103 = .ok (.bipush 11, 2) := zdec_at bX8_binary_89 8 rfl
theorem dX8_binary_105 : decode cX8_binary 105 = .ok (.iload 5, 2) := zdec_at bX8_binary_89 9 rfl
theorem dX8_binary_107 : decode cX8_binary 107 = .ok (.iload_n 3, 1) := zdec_at bX8_binary_89 10 rfl
theorem dX8_binary_108 : decode cX8_binary 108 = .ok (.iload 6, 2) := zdec_at bX8_binary_89 11 rfl
theorem dX8_binary_110 : decode cX8_binary 110 = .ok (.invokevirtual 446, 3) := zdec_at bX8_binary_89 12 rfl
theorem dX8_binary_113 : decode cX8_binary 113 = .ok (.istore_n 3, 1) := zdec_at bX8_binary_89 13 rfl
theorem dX8_binary_114 : decode cX8_binary 114 = .ok (.goto (-109), 3) := zdec_at bX8_binary_89 14 rfl
theorem dX8_binary_117 : decode cX8_binary 117 = .ok (.iload_n 3, 1) := zdec_at bX8_binary_89 15 rfl
theorem bX8_binary_118 : zdec cX8_binary 118 [(118, .ireturn, 1)] = true := by decide +kernel
theorem dX8_binary_118 : decode cX8_binary 118 = .ok (.ireturn, 1) := zdec_at bX8_binary_118 0 rfl
theorem sX8_binary_0 {E : zE} {d : Nat} {Q : zO → zM → Prop} (M : zM) (l1 : Int32) (l2 : Int32) (k : Zm E YX8_unit d M (zargs 0 [vr (some (97, 1, 0))]) 0 [] (zma E YX8_binary (d + 1) [(0, vr (some (97, 1, 0))), (1, vi l1), (2, vi l2)] 1 3 [] Q)) : Zm E YX8_binary (d + 1) M [(0, vr (some (97, 1, 0))), (1, vi l1), (2, vi l2)] 0 [] Q := by
  refine Zm.l (fun _ _ k_ => z_aload_n dX8_binary_0 rfl rfl k_) ?_
  exact zm_callV (as := []) (st := []) dX8_binary_1 vsX8_476_1 (Nat.le_refl _) (Nat.le_of_ble_eq_true rfl) (Nat.le_of_ble_eq_true rfl) rfl k
theorem sX8_binary_4 {E : zE} {d : Nat} {Q : zO → zM → Prop} (M : zM) (l1 : Int32) (l2 : Int32) (s0 : Int32) (k : Zm E YX8_binary (d + 1) M [(0, vr (some (97, 1, 0))), (1, vi l1), (2, vi l2), (3, vi s0)] 5 [] Q) : Zm E YX8_binary (d + 1) M [(0, vr (some (97, 1, 0))), (1, vi l1), (2, vi l2)] 4 [vi s0] Q := by
  refine Zm.l (fun _ _ k_ => z_ist_n dX8_binary_4 rfl (by decide) (lv' := [(0, vr (some (97, 1, 0))), (1, vi l1), (2, vi l2), (3, vi s0)]) rfl k_) ?_
  exact k
theorem sX8_binary_5 {E : zE} {d : Nat} {Q : zO → zM → Prop} (M : zM) (l1 : Int32) (l2 : Int32) (l3 : Int32) (k : if (gi M 97 21) = 0 then (Zm E YX8_bindsOf d M (zargs 0 [vr (some (97, 1, 0)), vi l2]) 0 [] (zma E YX8_binary (d + 1) [(0, vr (some (97, 1, 0))), (1, vi l1), (2, vi l2), (3, vi l3)] 14 3 [] Q)) else (Q (.inl (some (vi l3))) M)) : Zm E YX8_binary (d + 1) M [(0, vr (some (97, 1, 0))), (1, vi l1), (2, vi l2), (3, vi l3)] 5 [] Q := by
  refine Zm.l (fun _ _ k_ => z_aload_n dX8_binary_5 rfl rfl k_) ?_
  refine zm_geti dX8_binary_6 fsX8_389_1 (by decide) (by decide) ?_
  refine Zm.brn (fun _ _ k1_ k2_ => z_if_ne (tgt := 117) dX8_binary_9 rfl k1_ k2_) (fun h_ => ?_) (fun h_ => ?_)
  · have k := zif h_ k
    refine Zm.l (fun _ _ k_ => z_iload_n dX8_binary_117 rfl rfl k_) ?_
    exact zm_iret dX8_binary_118 rfl rfl k
  · have k := zit h_ k
    refine Zm.l (fun _ _ k_ => z_aload_n dX8_binary_12 rfl rfl k_) ?_
    refine Zm.l (fun _ _ k_ => z_iload_n dX8_binary_13 rfl rfl k_) ?_
    exact zm_callV (as := [vi l2]) (st := []) dX8_binary_14 vsX8_479_1 (Nat.le_refl _) (Nat.le_of_ble_eq_true rfl) (Nat.le_of_ble_eq_true rfl) rfl k
theorem sX8_binary_17 {E : zE} {d : Nat} {Q : zO → zM → Prop} (M : zM) (l1 : Int32) (l2 : Int32) (l3 : Int32) (s0 : Int32) (k : if s0 < l1 then (Q (.inl (some (vi l3))) M) else (Zm E YX8_bindsOf d M (zargs 0 [vr (some (97, 1, 0)), vi l2]) 0 [] (zma E YX8_binary (d + 1) [(0, vr (some (97, 1, 0))), (1, vi l1), (2, vi l2), (3, vi l3)] 23 3 [] Q))) : Zm E YX8_binary (d + 1) M [(0, vr (some (97, 1, 0))), (1, vi l1), (2, vi l2), (3, vi l3)] 17 [vi s0] Q := by
  refine Zm.l (fun _ _ k_ => z_iload_n dX8_binary_17 rfl rfl k_) ?_
  refine Zm.br (fun _ _ k1_ k2_ => z_icmp_lt (tgt := 117) dX8_binary_18 rfl k1_ k2_) (fun h_ => ?_) (fun h_ => ?_)
  · have k := zit h_ k
    refine Zm.l (fun _ _ k_ => z_iload_n dX8_binary_117 rfl rfl k_) ?_
    exact zm_iret dX8_binary_118 rfl rfl k
  · have k := zif h_ k
    refine Zm.l (fun _ _ k_ => z_aload_n dX8_binary_21 rfl rfl k_) ?_
    refine Zm.l (fun _ _ k_ => z_iload_n dX8_binary_22 rfl rfl k_) ?_
    exact zm_callV (as := [vi l2]) (st := []) dX8_binary_23 vsX8_479_1 (Nat.le_refl _) (Nat.le_of_ble_eq_true rfl) (Nat.le_of_ble_eq_true rfl) rfl k
theorem sX8_binary_26 {E : zE} {d : Nat} {Q : zO → zM → Prop} (M : zM) (l1 : Int32) (l2 : Int32) (l3 : Int32) (s0 : Int32) (k : if (2 : Int32) ≤ s0 then (Zm E YX8_binaryOf d M (zargs 0 [vr (some (97, 1, 0))]) 0 [] (zma E YX8_binary (d + 1) [(0, vr (some (97, 1, 0))), (1, vi l1), (2, vi l2), (3, vi l3), (4, vi s0)] 39 3 [] Q)) else (Zm E YX8_binary (d + 1) M [(0, vr (some (97, 1, 0))), (1, vi l1), (2, vi l2), (3, vi l3), (4, vi s0)] 42 [vi (0 : Int32)] Q)) : Zm E YX8_binary (d + 1) M [(0, vr (some (97, 1, 0))), (1, vi l1), (2, vi l2), (3, vi l3)] 26 [vi s0] Q := by
  refine Zm.l (fun _ _ k_ => z_ist dX8_binary_26 (by decide) (lv' := [(0, vr (some (97, 1, 0))), (1, vi l1), (2, vi l2), (3, vi l3), (4, vi s0)]) rfl k_) ?_
  refine Zm.l (fun _ _ k_ => z_iload dX8_binary_28 rfl k_) ?_
  refine Zm.l (fun _ _ k_ => z_iconst (v := 2) dX8_binary_30 rfl k_) ?_
  refine Zm.br (fun _ _ k1_ k2_ => z_icmp_ge (tgt := 38) dX8_binary_31 rfl k1_ k2_) (fun h_ => ?_) (fun h_ => ?_)
  · have k := zit h_ k
    refine Zm.l (fun _ _ k_ => z_aload_n dX8_binary_38 rfl rfl k_) ?_
    exact zm_callV (as := []) (st := []) dX8_binary_39 vsX8_482_1 (Nat.le_refl _) (Nat.le_of_ble_eq_true rfl) (Nat.le_of_ble_eq_true rfl) rfl k
  · have k := zif h_ k
    refine Zm.l (fun _ _ k_ => z_iconst (v := 0) dX8_binary_34 rfl k_) ?_
    refine Zm.l (fun _ _ k_ => z_goto (tgt := 42) dX8_binary_35 rfl k_) ?_
    exact k
theorem sX8_binary_42 {E : zE} {d : Nat} {Q : zO → zM → Prop} (M : zM) (l1 : Int32) (l2 : Int32) (l3 : Int32) (l4 : Int32) (s0 : Int32) (k : Zm E YX8_binary d (si M 97 20 ((gi M 97 20) + (1 : Int32))) (zargs 0 [vr (some (97, 1, 0)), vi (l4 + (1 : Int32)), vi l2]) 0 [] (zma E YX8_binary (d + 1) [(0, vr (some (97, 1, 0))), (1, vi l1), (2, vi l2), (3, vi l3), (4, vi l4), (5, vi s0)] 60 3 [] Q)) : Zm E YX8_binary (d + 1) M [(0, vr (some (97, 1, 0))), (1, vi l1), (2, vi l2), (3, vi l3), (4, vi l4)] 42 [vi s0] Q := by
  refine Zm.l (fun _ _ k_ => z_ist dX8_binary_42 (by decide) (lv' := [(0, vr (some (97, 1, 0))), (1, vi l1), (2, vi l2), (3, vi l3), (4, vi l4), (5, vi s0)]) rfl k_) ?_
  refine Zm.l (fun _ _ k_ => z_aload_n dX8_binary_44 rfl rfl k_) ?_
  refine Zm.l (fun _ _ k_ => z_dup dX8_binary_45 rfl k_) ?_
  refine zm_geti dX8_binary_46 fsX8_392_1 (by decide) (by decide) ?_
  refine Zm.l (fun _ _ k_ => z_iconst (v := 1) dX8_binary_49 rfl k_) ?_
  refine Zm.l (fun _ _ k_ => z_iadd dX8_binary_50 k_) ?_
  refine zm_puti (by decide) (by decide) dX8_binary_51 (zfwN.w fwX8_392_1) rfl ⟨rfl, rfl⟩ ?_
  refine Zm.l (fun _ _ k_ => z_aload_n dX8_binary_54 rfl rfl k_) ?_
  refine Zm.l (fun _ _ k_ => z_iload dX8_binary_55 rfl k_) ?_
  refine Zm.l (fun _ _ k_ => z_iconst (v := 1) dX8_binary_57 rfl k_) ?_
  refine Zm.l (fun _ _ k_ => z_iadd dX8_binary_58 k_) ?_
  refine Zm.l (fun _ _ k_ => z_iload_n dX8_binary_59 rfl rfl k_) ?_
  exact zm_callV (as := [vi (l4 + (1 : Int32)), vi l2]) (st := []) dX8_binary_60 vsX8_469_1 (Nat.le_refl _) (Nat.le_of_ble_eq_true rfl) (Nat.le_of_ble_eq_true rfl) rfl k
theorem sX8_binary_63 {E : zE} {d : Nat} {Q : zO → zM → Prop} (M : zM) (l1 : Int32) (l2 : Int32) (l3 : Int32) (l4 : Int32) (l5 : Int32) (s0 : Int32) (k : if l4 = 0 then (Zm E YX8_node d M (zargs 0 [vr (some (97, 1, 0)), vi (13 : Int32), vi l3, vi s0, vi (0 : Int32)]) 0 [] (zma E YX8_binary (d + 1) [(0, vr (some (97, 1, 0))), (1, vi l1), (2, vi l2)] 77 3 [] Q)) else (if l4 = (1 : Int32) then (Zm E YX8_node d M (zargs 0 [vr (some (97, 1, 0)), vi (12 : Int32), vi l3, vi s0, vi (0 : Int32)]) 0 [] (zma E YX8_binary (d + 1) [(0, vr (some (97, 1, 0))), (1, vi l1), (2, vi l2)] 96 3 [] Q)) else (Zm E YX8_node d M (zargs 0 [vr (some (97, 1, 0)), vi (11 : Int32), vi l5, vi l3, vi s0]) 0 [] (zma E YX8_binary (d + 1) [(0, vr (some (97, 1, 0))), (1, vi l1), (2, vi l2)] 110 3 [] Q)))) : Zm E YX8_binary (d + 1) M [(0, vr (some (97, 1, 0))), (1, vi l1), (2, vi l2), (3, vi l3), (4, vi l4), (5, vi l5)] 63 [vi s0] Q := by
  refine Zm.l (fun _ _ k_ => z_ist dX8_binary_63 (by decide) (lv' := [(0, vr (some (97, 1, 0))), (1, vi l1), (2, vi l2), (3, vi l3), (4, vi l4), (5, vi l5), (6, vi s0)]) rfl k_) ?_
  refine Zm.l (fun _ _ k_ => z_iload dX8_binary_65 rfl k_) ?_
  refine Zm.brn (fun _ _ k1_ k2_ => z_if_ne (tgt := 83) dX8_binary_67 rfl k1_ k2_) (fun h_ => ?_) (fun h_ => ?_)
  · have k := zif h_ k
    refine Zm.l (fun _ _ k_ => z_iload dX8_binary_83 rfl k_) ?_
    refine Zm.l (fun _ _ k_ => z_iconst (v := 1) dX8_binary_85 rfl k_) ?_
    refine Zm.brn (fun _ _ k1_ k2_ => z_icmp_ne (tgt := 102) dX8_binary_86 rfl k1_ k2_) (fun h_ => ?_) (fun h_ => ?_)
    · have k := zif h_ k
      refine Zm.l (fun _ _ k_ => z_aload_n dX8_binary_102 rfl rfl k_) ?_
      refine Zm.l (fun _ _ k_ => z_bipush (v := 11) dX8_binary_103 rfl k_) ?_
      refine Zm.l (fun _ _ k_ => z_iload dX8_binary_105 rfl k_) ?_
      refine Zm.l (fun _ _ k_ => z_iload_n dX8_binary_107 rfl rfl k_) ?_
      refine Zm.l (fun _ _ k_ => z_iload dX8_binary_108 rfl k_) ?_
      refine Zm.pick [0, 1, 2] rfl ?_
      exact zm_callV (as := [vi (11 : Int32), vi l5, vi l3, vi s0]) (st := []) dX8_binary_110 vsX8_446_1 (Nat.le_refl _) (Nat.le_of_ble_eq_true rfl) (Nat.le_of_ble_eq_true rfl) rfl k
    · have k := zit h_ k
      refine Zm.l (fun _ _ k_ => z_aload_n dX8_binary_89 rfl rfl k_) ?_
      refine Zm.l (fun _ _ k_ => z_bipush (v := 12) dX8_binary_90 rfl k_) ?_
      refine Zm.l (fun _ _ k_ => z_iload_n dX8_binary_92 rfl rfl k_) ?_
      refine Zm.l (fun _ _ k_ => z_iload dX8_binary_93 rfl k_) ?_
      refine Zm.l (fun _ _ k_ => z_iconst (v := 0) dX8_binary_95 rfl k_) ?_
      refine Zm.pick [0, 1, 2] rfl ?_
      exact zm_callV (as := [vi (12 : Int32), vi l3, vi s0, vi (0 : Int32)]) (st := []) dX8_binary_96 vsX8_446_1 (Nat.le_refl _) (Nat.le_of_ble_eq_true rfl) (Nat.le_of_ble_eq_true rfl) rfl k
  · have k := zit h_ k
    refine Zm.l (fun _ _ k_ => z_aload_n dX8_binary_70 rfl rfl k_) ?_
    refine Zm.l (fun _ _ k_ => z_bipush (v := 13) dX8_binary_71 rfl k_) ?_
    refine Zm.l (fun _ _ k_ => z_iload_n dX8_binary_73 rfl rfl k_) ?_
    refine Zm.l (fun _ _ k_ => z_iload dX8_binary_74 rfl k_) ?_
    refine Zm.l (fun _ _ k_ => z_iconst (v := 0) dX8_binary_76 rfl k_) ?_
    refine Zm.pick [0, 1, 2] rfl ?_
    exact zm_callV (as := [vi (13 : Int32), vi l3, vi s0, vi (0 : Int32)]) (st := []) dX8_binary_77 vsX8_446_1 (Nat.le_refl _) (Nat.le_of_ble_eq_true rfl) (Nat.le_of_ble_eq_true rfl) rfl k
theorem sX8_binary_80 {E : zE} {d : Nat} {Q : zO → zM → Prop} (M : zM) (l1 : Int32) (l2 : Int32) (s0 : Int32) (k : Zm E YX8_binary (d + 1) M [(0, vr (some (97, 1, 0))), (1, vi l1), (2, vi l2)] 113 [vi s0] Q) : Zm E YX8_binary (d + 1) M [(0, vr (some (97, 1, 0))), (1, vi l1), (2, vi l2)] 80 [vi s0] Q := by
  refine Zm.l (fun _ _ k_ => z_goto (tgt := 113) dX8_binary_80 rfl k_) ?_
  exact k
theorem sX8_binary_99 {E : zE} {d : Nat} {Q : zO → zM → Prop} (M : zM) (l1 : Int32) (l2 : Int32) (s0 : Int32) (k : Zm E YX8_binary (d + 1) M [(0, vr (some (97, 1, 0))), (1, vi l1), (2, vi l2)] 113 [vi s0] Q) : Zm E YX8_binary (d + 1) M [(0, vr (some (97, 1, 0))), (1, vi l1), (2, vi l2)] 99 [vi s0] Q := by
  refine Zm.l (fun _ _ k_ => z_goto (tgt := 113) dX8_binary_99 rfl k_) ?_
  exact k
theorem sX8_binary_113 {E : zE} {d : Nat} {Q : zO → zM → Prop} (M : zM) (l1 : Int32) (l2 : Int32) (s0 : Int32) (k : Zm E YX8_binary (d + 1) M [(0, vr (some (97, 1, 0))), (1, vi l1), (2, vi l2), (3, vi s0)] 5 [] Q) : Zm E YX8_binary (d + 1) M [(0, vr (some (97, 1, 0))), (1, vi l1), (2, vi l2)] 113 [vi s0] Q := by
  refine Zm.l (fun _ _ k_ => z_ist_n dX8_binary_113 rfl (by decide) (lv' := [(0, vr (some (97, 1, 0))), (1, vi l1), (2, vi l2), (3, vi s0)]) rfl k_) ?_
  refine Zm.l (fun _ _ k_ => z_goto (tgt := 5) dX8_binary_114 rfl k_) ?_
  exact k
/-! ScriptTypesModel.unit()I -/
theorem bX8_unit_0 : zdec cX8_unit 0 [(0, .aload_n 0, 1), (1, .getfield 389, 3), (4, .ifCond .le 5, 3), (7, .iconst (-1), 1), (8, .ireturn, 1), (9, .aload_n 0, 1), (10, .invokevirtual 433, 3), (13, .ifCond .ne 8, 3), (16, .aload_n 0, 1), (17, .invokevirtual 485, 3), (20, .ireturn, 1), (21, .aload_n 0, 1), (22, .getfield 392, 3), (25, .istore_n 1, 1), (26, .aload_n 0, 1), (27, .iconst 1, 1)] = true := by decide +kernel
theorem dX8_unit_0 : decode cX8_unit 0 = .ok (.aload_n 0, 1) := zdec_at bX8_unit_0 0 rfl
theorem dX8_unit_1 : decode cX8_unit 1 = .ok (.getfield 389, 3) := zdec_at bX8_unit_0 1 rfl
theorem dX8_unit_4 : decode cX8_unit 4 = .ok (.ifCond .le 5, 3) := zdec_at bX8_unit_0 2 rfl
theorem dX8_unit_7 : decode cX8_unit 7 = .ok (.iconst (-1), 1) := zdec_at bX8_unit_0 3 rfl
theorem dX8_unit_8 : decode cX8_unit 8 = .ok (.ireturn, 1) := zdec_at bX8_unit_0 4 rfl
theorem dX8_unit_9 : decode cX8_unit 9 = .ok (.aload_n 0, 1) := zdec_at bX8_unit_0 5 rfl
theorem dX8_unit_10 : decode cX8_unit 10 = .ok (.invokevirtual 433, 3) := zdec_at bX8_unit_0 6 rfl
theorem dX8_unit_13 : decode cX8_unit 13 = .ok (.ifCond .ne 8, 3) := zdec_at bX8_unit_0 7 rfl
theorem dX8_unit_16 : decode cX8_unit 16 = .ok (.aload_n 0, 1) := zdec_at bX8_unit_0 8 rfl
theorem dX8_unit_17 : decode cX8_unit 17 = .ok (.invokevirtual 485, 3) := zdec_at bX8_unit_0 9 rfl
theorem dX8_unit_20 : decode cX8_unit 20 = .ok (.ireturn, 1) := zdec_at bX8_unit_0 10 rfl
theorem dX8_unit_21 : decode cX8_unit 21 = .ok (.aload_n 0, 1) := zdec_at bX8_unit_0 11 rfl
theorem dX8_unit_22 : decode cX8_unit 22 = .ok (.getfield 392, 3) := zdec_at bX8_unit_0 12 rfl
theorem dX8_unit_25 : decode cX8_unit 25 = .ok (.istore_n 1, 1) := zdec_at bX8_unit_0 13 rfl
theorem dX8_unit_26 : decode cX8_unit 26 = .ok (.aload_n 0, 1) := zdec_at bX8_unit_0 14 rfl
theorem dX8_unit_27 : decode cX8_unit 27 = .ok (.iconst 1, 1) := zdec_at bX8_unit_0 15 rfl
theorem bX8_unit_28 : zdec cX8_unit 28 [(28, .invokevirtual 450, 3), (31, .aload_n 0, 1), (32, .dup, 1), (33, .getfield 392, 3), (36, .iconst 1, 1), (37, .iadd, 1), (38, .putfield 392, 3), (41, .aload_n 0, 1), (42, .invokevirtual 476, 3), (45, .istore_n 2, 1), (46, .aload_n 0, 1), (47, .invokevirtual 454, 3), (50, .aload_n 0, 1), (51, .getfield 389, 3), (54, .ifCond .le 5, 3), (57, .iconst (-1), 1)] = true := by decide +kernel
theorem dX8_unit_28 : decode cX8_unit 28 = .ok (.invokevirtual 450, 3) := zdec_at bX8_unit_28 0 rfl
theorem dX8_unit_31 : decode cX8_unit 31 = .ok (.aload_n 0, 1) := zdec_at bX8_unit_28 1 rfl
theorem dX8_unit_32 : decode cX8_unit 32 = .ok (.dup, 1) := zdec_at bX8_unit_28 2 rfl
theorem dX8_unit_33 : decode cX8_unit 33 = .ok (.getfield 392, 3) := zdec_at bX8_unit_28 3 rfl
theorem dX8_unit_36 : decode cX8_unit 36 = .ok (.iconst 1, 1) := zdec_at bX8_unit_28 4 rfl
theorem dX8_unit_37 : decode cX8_unit 37 = .ok (.iadd, 1) := zdec_at bX8_unit_28 5 rfl
theorem dX8_unit_38 : decode cX8_unit 38 = .ok (.putfield 392, 3) := zdec_at bX8_unit_28 6 rfl
theorem dX8_unit_41 : decode cX8_unit 41 = .ok (.aload_n 0, 1) := zdec_at bX8_unit_28 7 rfl
theorem dX8_unit_42 : decode cX8_unit 42 = .ok (.invokevirtual 476, 3) := zdec_at bX8_unit_28 8 rfl
theorem dX8_unit_45 : decode cX8_unit 45 = .ok (.istore_n 2, 1) := zdec_at bX8_unit_28 9 rfl
theorem dX8_unit_46 : decode cX8_unit 46 = .ok (.aload_n 0, 1) := zdec_at bX8_unit_28 10 rfl
theorem dX8_unit_47 : decode cX8_unit 47 = .ok (.invokevirtual 454, 3) := zdec_at bX8_unit_28 11 rfl
theorem dX8_unit_50 : decode cX8_unit 50 = .ok (.aload_n 0, 1) := zdec_at bX8_unit_28 12 rfl
theorem dX8_unit_51 : decode cX8_unit 51 = .ok (.getfield 389, 3) := zdec_at bX8_unit_28 13 rfl
theorem dX8_unit_54 : decode cX8_unit 54 = .ok (.ifCond .le 5, 3) := zdec_at bX8_unit_28 14 rfl
theorem dX8_unit_57 : decode cX8_unit 57 = .ok (.iconst (-1), 1) := zdec_at bX8_unit_28 15 rfl
theorem bX8_unit_58 : zdec cX8_unit 58 [(58, .ireturn, 1), (59, .aload_n 0, 1), (60, .getfield 27, 3), (63, .iload_n 1, 1), (64, .iaload, 1), (65, .iconst 5, 1), (66, .if_icmp .ne 29, 3), (69, .aload_n 0, 1), (70, .getfield 30, 3), (73, .iload_n 1, 1), (74, .iaload, 1), (75, .bipush 10, 2), (77, .if_icmp .eq 14, 3), (80, .aload_n 0, 1), (81, .getfield 30, 3), (84, .iload_n 1, 1)] = true := by decide +kernel
theorem dX8_unit_58 : decode cX8_unit 58 = .ok (.ireturn, 1) := zdec_at bX8_unit_58 0 rfl
theorem dX8_unit_59 : decode cX8_unit 59 = .ok (.aload_n 0, 1) := zdec_at bX8_unit_58 1 rfl
theorem dX8_unit_60 : decode cX8_unit 60 = .ok (.getfield 27, 3) := zdec_at bX8_unit_58 2 rfl
theorem dX8_unit_63 : decode cX8_unit 63 = .ok (.iload_n 1, 1) := zdec_at bX8_unit_58 3 rfl
theorem dX8_unit_64 : decode cX8_unit 64 = .ok (.iaload, 1) := zdec_at bX8_unit_58 4 rfl
theorem dX8_unit_65 : decode cX8_unit 65 = .ok (.iconst 5, 1) := zdec_at bX8_unit_58 5 rfl
theorem dX8_unit_66 : decode cX8_unit 66 = .ok (.if_icmp .ne 29, 3) := zdec_at bX8_unit_58 6 rfl
theorem dX8_unit_69 : decode cX8_unit 69 = .ok (.aload_n 0, 1) := zdec_at bX8_unit_58 7 rfl
theorem dX8_unit_70 : decode cX8_unit 70 = .ok (.getfield 30, 3) := zdec_at bX8_unit_58 8 rfl
theorem dX8_unit_73 : decode cX8_unit 73 = .ok (.iload_n 1, 1) := zdec_at bX8_unit_58 9 rfl
theorem dX8_unit_74 : decode cX8_unit 74 = .ok (.iaload, 1) := zdec_at bX8_unit_58 10 rfl
theorem dX8_unit_75 : decode cX8_unit 75 = .ok (.bipush 10, 2) := zdec_at bX8_unit_58 11 rfl
theorem dX8_unit_77 : decode cX8_unit 77 = .ok (.if_icmp .eq 14, 3) := zdec_at bX8_unit_58 12 rfl
theorem dX8_unit_80 : decode cX8_unit 80 = .ok (.aload_n 0, 1) := zdec_at bX8_unit_58 13 rfl
theorem dX8_unit_81 : decode cX8_unit 81 = .ok (.getfield 30, 3) := zdec_at bX8_unit_58 14 rfl
theorem dX8_unit_84 : decode cX8_unit 84 = .ok (.iload_n 1, 1) := zdec_at bX8_unit_58 15 rfl
theorem bX8_unit_85 : zdec cX8_unit 85 [(85, .iaload, 1), (86, .bipush 11, 2), (88, .if_icmp .ne 7, 3), (91, .iconst 1, 1), (92, .goto 4, 3), (95, .iconst 0, 1), (96, .istore_n 3, 1), (97, .aload_n 0, 1), (98, .getfield 27, 3), (101, .iload_n 1, 1), (102, .iaload, 1), (103, .iconst 2, 1), (104, .if_icmp .ne 17, 3), (107, .aload_n 0, 1), (108, .getfield 30, 3), (111, .iload_n 1, 1)] = true := by decide +kernel
theorem dX8_unit_85 : decode cX8_unit 85 = .ok (.iaload, 1) := zdec_at bX8_unit_85 0 rfl
theorem dX8_unit_86 : decode cX8_unit 86 = .ok (.bipush 11, 2) := zdec_at bX8_unit_85 1 rfl
theorem dX8_unit_88 : decode cX8_unit 88 = .ok (.if_icmp .ne 7, 3) := zdec_at bX8_unit_85 2 rfl
theorem dX8_unit_91 : decode cX8_unit 91 = .ok (.iconst 1, 1) := zdec_at bX8_unit_85 3 rfl
theorem dX8_unit_92 : decode cX8_unit 92 = .ok (.goto 4, 3) := zdec_at bX8_unit_85 4 rfl
theorem dX8_unit_95 : decode cX8_unit 95 = .ok (.iconst 0, 1) := zdec_at bX8_unit_85 5 rfl
theorem dX8_unit_96 : decode cX8_unit 96 = .ok (.istore_n 3, 1) := zdec_at bX8_unit_85 6 rfl
theorem dX8_unit_97 : decode cX8_unit 97 = .ok (.aload_n 0, 1) := zdec_at bX8_unit_85 7 rfl
theorem dX8_unit_98 : decode cX8_unit 98 = .ok (.getfield 27, 3) := zdec_at bX8_unit_85 8 rfl
theorem dX8_unit_101 : decode cX8_unit 101 = .ok (.iload_n 1, 1) := zdec_at bX8_unit_85 9 rfl
theorem dX8_unit_102 : decode cX8_unit 102 = .ok (.iaload, 1) := zdec_at bX8_unit_85 10 rfl
theorem dX8_unit_103 : decode cX8_unit 103 = .ok (.iconst 2, 1) := zdec_at bX8_unit_85 11 rfl
theorem dX8_unit_104 : decode cX8_unit 104 = .ok (.if_icmp .ne 17, 3) := zdec_at bX8_unit_85 12 rfl
theorem dX8_unit_107 : decode cX8_unit 107 = .ok (.aload_n 0, 1) := zdec_at bX8_unit_85 13 rfl
theorem dX8_unit_108 : decode cX8_unit 108 = .ok (.getfield 30, 3) := zdec_at bX8_unit_85 14 rfl
theorem dX8_unit_111 : decode cX8_unit 111 = .ok (.iload_n 1, 1) := zdec_at bX8_unit_85 15 rfl
theorem bX8_unit_112 : zdec cX8_unit 112 [(112, .iaload, 1), (113, .iconst 5, 1), (114, .if_icmp .ne 7, 3), (117, .iconst 1, 1), (118, .goto 4, 3), (121, .iconst 0, 1), (122, .istore 4, 2), (124, .iload_n 3, 1), (125, .ifCond .eq 11, 3), (128, .aload_n 0, 1), (129, .iload_n 2, 1), (130, .invokevirtual 463, 3), (133, .ifCond .eq 27, 3), (136, .iload 4, 2), (138, .ifCond .eq 30, 3), (141, .aload_n 0, 1)] = true := by decide +kernel
theorem dX8_unit_112 : decode cX8_unit 112 = .ok (.iaload, 1) := zdec_at bX8_unit_112 0 rfl
theorem dX8_unit_113 : decode cX8_unit 113 = .ok (.iconst 5, 1) := zdec_at bX8_unit_112 1 rfl
theorem dX8_unit_114 : decode cX8_unit 114 = .ok (.if_icmp .ne 7, 3) := zdec_at bX8_unit_112 2 rfl
theorem dX8_unit_117 : decode cX8_unit 117 = .ok (.iconst 1, 1) := zdec_at bX8_unit_112 3 rfl
theorem dX8_unit_118 : decode cX8_unit 118 = .ok (.goto 4, 3) := zdec_at bX8_unit_112 4 rfl
theorem dX8_unit_121 : decode cX8_unit 121 = .ok (.iconst 0, 1) := zdec_at bX8_unit_112 5 rfl
theorem dX8_unit_122 : decode cX8_unit 122 = .ok (.istore 4, 2) := zdec_at bX8_unit_112 6 rfl
theorem dX8_unit_124 : decode cX8_unit 124 = .ok (.iload_n 3, 1) := zdec_at bX8_unit_112 7 rfl
theorem dX8_unit_125 : decode cX8_unit 125 = .ok (.ifCond .eq 11, 3) := zdec_at bX8_unit_112 8 rfl
theorem dX8_unit_128 : decode cX8_unit 128 = .ok (.aload_n 0, 1) := zdec_at bX8_unit_112 9 rfl
theorem dX8_unit_129 : decode cX8_unit 129 = .ok (.iload_n 2, 1) := zdec_at bX8_unit_112 10 rfl
theorem dX8_unit_130 : decode cX8_unit 130 = .ok (.invokevirtual 463, 3) := zdec_at bX8_unit_112 11 rfl
theorem dX8_unit_133 : decode cX8_unit 133 = .ok (.ifCond .eq 27, 3) := zdec_at bX8_unit_112 12 rfl
theorem dX8_unit_136 : decode cX8_unit 136 = .ok (.iload 4, 2) := zdec_at bX8_unit_112 13 rfl
theorem dX8_unit_138 : decode cX8_unit 138 = .ok (.ifCond .eq 30, 3) := zdec_at bX8_unit_112 14 rfl
theorem dX8_unit_141 : decode cX8_unit 141 = .ok (.aload_n 0, 1) := zdec_at bX8_unit_112 15 rfl
theorem bX8_unit_142 : zdec cX8_unit 142 [(142, .iload_n 2, 1), (143, .invokevirtual 463, 3), (146, .ifCond .eq 14, 3), (149, .aload_n 0, 1), (150, .getfield 42, 3), (153, .iload_n 2, 1), (154, .iaload, 1), (155, .bipush 7, 2), (157, .if_icmp .eq 11, 3), (160, .aload_n 0, 1), (161, .iconst 3, 1), (162, .invokevirtual 401, 3), (165, .pop, 1), (166, .iconst (-1), 1), (167, .ireturn, 1), (168, .iload_n 3, 1)] = true := by decide +kernel
theorem dX8_unit_142 : decode cX8_unit 142 = .ok (.iload_n 2, 1) := zdec_at bX8_unit_142 0 rfl
theorem dX8_unit_143 : decode cX8_unit 143 = .ok (.invokevirtual 463, 3) := zdec_at bX8_unit_142 1 rfl
theorem dX8_unit_146 : decode cX8_unit 146 = .ok (.ifCond .eq 14, 3) := zdec_at bX8_unit_142 2 rfl
theorem dX8_unit_149 : decode cX8_unit 149 = .ok (.aload_n 0, 1) := zdec_at bX8_unit_142 3 rfl
theorem dX8_unit_150 : decode cX8_unit 150 = .ok (.getfield 42, 3) := zdec_at bX8_unit_142 4 rfl
theorem dX8_unit_153 : decode cX8_unit 153 = .ok (.iload_n 2, 1) := zdec_at bX8_unit_142 5 rfl
theorem dX8_unit_154 : decode cX8_unit 154 = .ok (.iaload, 1) := zdec_at bX8_unit_142 6 rfl
theorem dX8_unit_155 : decode cX8_unit 155 = .ok (.bipush 7, 2) := zdec_at bX8_unit_142 7 rfl
theorem dX8_unit_157 : decode cX8_unit 157 = .ok (.if_icmp .eq 11, 3) := zdec_at bX8_unit_142 8 rfl
theorem dX8_unit_160 : decode cX8_unit 160 = .ok (.aload_n 0, 1) := zdec_at bX8_unit_142 9 rfl
theorem dX8_unit_161 : decode cX8_unit 161 = .ok (.iconst 3, 1) := zdec_at bX8_unit_142 10 rfl
theorem dX8_unit_162 : decode cX8_unit 162 = .ok (.invokevirtual 401, 3) := zdec_at bX8_unit_142 11 rfl
theorem dX8_unit_165 : decode cX8_unit 165 = .ok (.pop, 1) := zdec_at bX8_unit_142 12 rfl
theorem dX8_unit_166 : decode cX8_unit 166 = .ok (.iconst (-1), 1) := zdec_at bX8_unit_142 13 rfl
theorem dX8_unit_167 : decode cX8_unit 167 = .ok (.ireturn, 1) := zdec_at bX8_unit_142 14 rfl
theorem dX8_unit_168 : decode cX8_unit 168 = .ok (.iload_n 3, 1) := zdec_at bX8_unit_142 15 rfl
theorem bX8_unit_169 : zdec cX8_unit 169 [(169, .ifCond .eq 28, 3), (172, .aload_n 0, 1), (173, .bipush 16, 2), (175, .aload_n 0, 1), (176, .getfield 30, 3), (179, .iload_n 1, 1), (180, .iaload, 1), (181, .bipush 10, 2), (183, .if_icmp .ne 7, 3), (186, .iconst 0, 1), (187, .goto 4, 3), (190, .iconst 1, 1), (191, .iload_n 2, 1), (192, .iconst 0, 1), (193, .invokevirtual 446, 3), (196, .ireturn, 1)] = true := by decide +kernel
theorem dX8_unit_169 : decode cX8_unit 169 = .ok (.ifCond .eq 28, 3) := zdec_at bX8_unit_169 0 rfl
theorem dX8_unit_172 : decode cX8_unit 172 = .ok (.aload_n 0, 1) := zdec_at bX8_unit_169 1 rfl
theorem dX8_unit_173 : decode cX8_unit 173 = .ok (.bipush 16, 2) := zdec_at bX8_unit_169 2 rfl
theorem dX8_unit_175 : decode cX8_unit 175 = .ok (.aload_n 0, 1) := zdec_at bX8_unit_169 3 rfl
theorem dX8_unit_176 : decode cX8_unit 176 = .ok (.getfield 30, 3) := zdec_at bX8_unit_169 4 rfl
theorem dX8_unit_179 : decode cX8_unit 179 = .ok (.iload_n 1, 1) := zdec_at bX8_unit_169 5 rfl
theorem dX8_unit_180 : decode cX8_unit 180 = .ok (.iaload, 1) := zdec_at bX8_unit_169 6 rfl
theorem dX8_unit_181 : decode cX8_unit 181 = .ok (.bipush 10, 2) := zdec_at bX8_unit_169 7 rfl
theorem dX8_unit_183 : decode cX8_unit 183 = .ok (.if_icmp .ne 7, 3) := zdec_at bX8_unit_169 8 rfl
theorem dX8_unit_186 : decode cX8_unit 186 = .ok (.iconst 0, 1) := zdec_at bX8_unit_169 9 rfl
theorem dX8_unit_187 : decode cX8_unit 187 = .ok (.goto 4, 3) := zdec_at bX8_unit_169 10 rfl
theorem dX8_unit_190 : decode cX8_unit 190 = .ok (.iconst 1, 1) := zdec_at bX8_unit_169 11 rfl
theorem dX8_unit_191 : decode cX8_unit 191 = .ok (.iload_n 2, 1) := zdec_at bX8_unit_169 12 rfl
theorem dX8_unit_192 : decode cX8_unit 192 = .ok (.iconst 0, 1) := zdec_at bX8_unit_169 13 rfl
theorem dX8_unit_193 : decode cX8_unit 193 = .ok (.invokevirtual 446, 3) := zdec_at bX8_unit_169 14 rfl
theorem dX8_unit_196 : decode cX8_unit 196 = .ok (.ireturn, 1) := zdec_at bX8_unit_169 15 rfl
theorem bX8_unit_197 : zdec cX8_unit 197 [(197, .aload_n 0, 1), (198, .getfield 27, 3), (201, .iload_n 1, 1), (202, .iaload, 1), (203, .iconst 5, 1), (204, .if_icmp .ne 52, 3), (207, .aload_n 0, 1), (208, .getfield 30, 3), (211, .iload_n 1, 1), (212, .iaload, 1), (213, .bipush 35, 2), (215, .if_icmp .ne 7, 3), (218, .iconst 0, 1), (219, .goto 69, 3), (222, .aload_n 0, 1), (223, .getfield 30, 3)] = true := by decide +kernel
theorem dX8_unit_197 : decode cX8_unit 197 = .ok (.aload_n 0, 1) := zdec_at bX8_unit_197 0 rfl
theorem dX8_unit_198 : decode cX8_unit 198 = .ok (.getfield 27, 3) := zdec_at bX8_unit_197 1 rfl
theorem dX8_unit_201 : decode cX8_unit 201 = .ok (.iload_n 1, 1) := zdec_at bX8_unit_197 2 rfl
theorem dX8_unit_202 : decode cX8_unit 202 = .ok (.iaload, 1) := zdec_at bX8_unit_197 3 rfl
theorem dX8_unit_203 : decode cX8_unit 203 = .ok (.iconst 5, 1) := zdec_at bX8_unit_197 4 rfl
theorem dX8_unit_204 : decode cX8_unit 204 = .ok (.if_icmp .ne 52, 3) := zdec_at bX8_unit_197 5 rfl
theorem dX8_unit_207 : decode cX8_unit 207 = .ok (.aload_n 0, 1) := zdec_at bX8_unit_197 6 rfl
theorem dX8_unit_208 : decode cX8_unit 208 = .ok (.getfield 30, 3) := zdec_at bX8_unit_197 7 rfl
theorem dX8_unit_211 : decode cX8_unit 211 = .ok (.iload_n 1, 1) := zdec_at bX8_unit_197 8 rfl
theorem dX8_unit_212 : decode cX8_unit 212 = .ok (.iaload, 1) := zdec_at bX8_unit_197 9 rfl
theorem dX8_unit_213 : decode cX8_unit 213 = .ok (.bipush 35, 2) := zdec_at bX8_unit_197 10 rfl
theorem dX8_unit_215 : decode cX8_unit 215 = .ok (.if_icmp .ne 7, 3) := zdec_at bX8_unit_197 11 rfl
theorem dX8_unit_218 : decode cX8_unit 218 = .ok (.iconst 0, 1) := zdec_at bX8_unit_197 12 rfl
theorem dX8_unit_219 : decode cX8_unit 219 = .ok (.goto 69, 3) := zdec_at bX8_unit_197 13 rfl
theorem dX8_unit_222 : decode cX8_unit 222 = .ok (.aload_n 0, 1) := zdec_at bX8_unit_197 14 rfl
theorem dX8_unit_223 : decode cX8_unit 223 = .ok (.getfield 30, 3) := zdec_at bX8_unit_197 15 rfl
theorem bX8_unit_226 : zdec cX8_unit 226 [(226, .iload_n 1, 1), (227, .iaload, 1), (228, .bipush 36, 2), (230, .if_icmp .ne 7, 3), (233, .iconst 1, 1), (234, .goto 54, 3), (237, .aload_n 0, 1), (238, .getfield 30, 3), (241, .iload_n 1, 1), (242, .iaload, 1), (243, .bipush 44, 2), (245, .if_icmp .ne 7, 3), (248, .iconst 2, 1), (249, .goto 39, 3), (252, .iconst 3, 1), (253, .goto 35, 3)] = true := by decide +kernel
theorem dX8_unit_226 : decode cX8_unit 226 = .ok (.iload_n 1, 1) := zdec_at bX8_unit_226 0 rfl
theorem dX8_unit_227 : decode cX8_unit 227 = .ok (.iaload, 1) := zdec_at bX8_unit_226 1 rfl
theorem dX8_unit_228 : decode cX8_unit 228 = .ok (.bipush 36, 2) := zdec_at bX8_unit_226 2 rfl
theorem dX8_unit_230 : decode cX8_unit 230 = .ok (.if_icmp .ne 7, 3) := zdec_at bX8_unit_226 3 rfl
theorem dX8_unit_233 : decode cX8_unit 233 = .ok (.iconst 1, 1) := zdec_at bX8_unit_226 4 rfl
theorem dX8_unit_234 : decode cX8_unit 234 = .ok (.goto 54, 3) := zdec_at bX8_unit_226 5 rfl
theorem dX8_unit_237 : decode cX8_unit 237 = .ok (.aload_n 0, 1) := zdec_at bX8_unit_226 6 rfl
theorem dX8_unit_238 : decode cX8_unit 238 = .ok (.getfield 30, 3) := zdec_at bX8_unit_226 7 rfl
theorem dX8_unit_241 : decode cX8_unit 241 = .ok (.iload_n 1, 1) := zdec_at bX8_unit_226 8 rfl
theorem dX8_unit_242 : decode cX8_unit 242 = .ok (.iaload, 1) := zdec_at bX8_unit_226 9 rfl
theorem dX8_unit_243 : decode cX8_unit 243 = .ok (.bipush 44, 2) := zdec_at bX8_unit_226 10 rfl
theorem dX8_unit_245 : decode cX8_unit 245 = .ok (.if_icmp .ne 7, 3) := zdec_at bX8_unit_226 11 rfl
theorem dX8_unit_248 : decode cX8_unit 248 = .ok (.iconst 2, 1) := zdec_at bX8_unit_226 12 rfl
theorem dX8_unit_249 : decode cX8_unit 249 = .ok (.goto 39, 3) := zdec_at bX8_unit_226 13 rfl
theorem dX8_unit_252 : decode cX8_unit 252 = .ok (.iconst 3, 1) := zdec_at bX8_unit_226 14 rfl
theorem dX8_unit_253 : decode cX8_unit 253 = .ok (.goto 35, 3) := zdec_at bX8_unit_226 15 rfl
theorem bX8_unit_256 : zdec cX8_unit 256 [(256, .aload_n 0, 1), (257, .getfield 30, 3), (260, .iload_n 1, 1), (261, .iaload, 1), (262, .bipush 24, 2), (264, .if_icmp .ne 7, 3), (267, .iconst 4, 1), (268, .goto 20, 3), (271, .aload_n 0, 1), (272, .getfield 30, 3), (275, .iload_n 1, 1), (276, .iaload, 1), (277, .bipush 27, 2), (279, .if_icmp .ne 7, 3), (282, .iconst 5, 1), (283, .goto 5, 3)] = true := by decide +kernel
theorem dX8_unit_256 : decode cX8_unit 256 = .ok (.aload_n 0, 1) := zdec_at bX8_unit_256 0 rfl
theorem dX8_unit_257 : decode cX8_unit 257 = .ok (.getfield 30, 3) := zdec_at bX8_unit_256 1 rfl
theorem dX8_unit_260 : decode cX8_unit 260 = .ok (.iload_n 1, 1) := zdec_at bX8_unit_256 2 rfl
theorem dX8_unit_261 : decode cX8_unit 261 = .ok (.iaload, 1) := zdec_at bX8_unit_256 3 rfl
theorem dX8_unit_262 : decode cX8_unit 262 = .ok (.bipush 24, 2) := zdec_at bX8_unit_256 4 rfl
theorem dX8_unit_264 : decode cX8_unit 264 = .ok (.if_icmp .ne 7, 3) := zdec_at bX8_unit_256 5 rfl
theorem dX8_unit_267 : decode cX8_unit 267 = .ok (.iconst 4, 1) := zdec_at bX8_unit_256 6 rfl
theorem dX8_unit_268 : decode cX8_unit 268 = .ok (.goto 20, 3) := zdec_at bX8_unit_256 7 rfl
theorem dX8_unit_271 : decode cX8_unit 271 = .ok (.aload_n 0, 1) := zdec_at bX8_unit_256 8 rfl
theorem dX8_unit_272 : decode cX8_unit 272 = .ok (.getfield 30, 3) := zdec_at bX8_unit_256 9 rfl
theorem dX8_unit_275 : decode cX8_unit 275 = .ok (.iload_n 1, 1) := zdec_at bX8_unit_256 10 rfl
theorem dX8_unit_276 : decode cX8_unit 276 = .ok (.iaload, 1) := zdec_at bX8_unit_256 11 rfl
theorem dX8_unit_277 : decode cX8_unit 277 = .ok (.bipush 27, 2) := zdec_at bX8_unit_256 12 rfl
theorem dX8_unit_279 : decode cX8_unit 279 = .ok (.if_icmp .ne 7, 3) := zdec_at bX8_unit_256 13 rfl
theorem dX8_unit_282 : decode cX8_unit 282 = .ok (.iconst 5, 1) := zdec_at bX8_unit_256 14 rfl
theorem dX8_unit_283 : decode cX8_unit 283 = .ok (.goto 5, 3) := zdec_at bX8_unit_256 15 rfl
theorem bX8_unit_286 : zdec cX8_unit 286 [(286, .bipush 6, 2), (288, .istore 5, 2), (290, .aload_n 0, 1), (291, .bipush 10, 2), (293, .iload 5, 2), (295, .iload_n 2, 1), (296, .iconst 0, 1), (297, .invokevirtual 446, 3), (300, .ireturn, 1)] = true := by decide +kernel
theorem dX8_unit_286 : decode cX8_unit 286 = .ok (.bipush 6, 2) := zdec_at bX8_unit_286 0 rfl
theorem dX8_unit_288 : decode cX8_unit 288 = .ok (.istore 5, 2) := zdec_at bX8_unit_286 1 rfl
theorem dX8_unit_290 : decode cX8_unit 290 = .ok (.aload_n 0, 1) := zdec_at bX8_unit_286 2 rfl
theorem dX8_unit_291 : decode cX8_unit 291 = .ok (.bipush 10, 2) := zdec_at bX8_unit_286 3 rfl
theorem dX8_unit_293 : decode cX8_unit 293 = .ok (.iload 5, 2) := zdec_at bX8_unit_286 4 rfl
theorem dX8_unit_295 : decode cX8_unit 295 = .ok (.iload_n 2, 1) := zdec_at bX8_unit_286 5 rfl
theorem dX8_unit_296 : decode cX8_unit 296 = .ok (.iconst 0, 1) := zdec_at bX8_unit_286 6 rfl
theorem dX8_unit_297 : decode cX8_unit 297 = .ok (.invokevirtual 446, 3) := zdec_at bX8_unit_286 7 rfl
theorem dX8_unit_300 : decode cX8_unit 300 = .ok (.ireturn, 1) := zdec_at bX8_unit_286 8 rfl
theorem sX8_unit_0 {E : zE} {d : Nat} {Q : zO → zM → Prop} (M : zM)  (k : if (gi M 97 21) ≤ 0 then (Zm E YX8_isPrefix d M (zargs 0 [vr (some (97, 1, 0))]) 0 [] (zma E YX8_unit (d + 1) [(0, vr (some (97, 1, 0)))] 10 3 [] Q)) else (Q (.inl (some (vi (-1 : Int32)))) M)) : Zm E YX8_unit (d + 1) M [(0, vr (some (97, 1, 0)))] 0 [] Q := by
  refine Zm.l (fun _ _ k_ => z_aload_n dX8_unit_0 rfl rfl k_) ?_
  refine zm_geti dX8_unit_1 fsX8_389_1 (by decide) (by decide) ?_
  refine Zm.br (fun _ _ k1_ k2_ => z_if_le (tgt := 9) dX8_unit_4 rfl k1_ k2_) (fun h_ => ?_) (fun h_ => ?_)
  · have k := zit h_ k
    refine Zm.l (fun _ _ k_ => z_aload_n dX8_unit_9 rfl rfl k_) ?_
    exact zm_callV (as := []) (st := []) dX8_unit_10 vsX8_433_1 (Nat.le_refl _) (Nat.le_of_ble_eq_true rfl) (Nat.le_of_ble_eq_true rfl) rfl k
  · have k := zif h_ k
    refine Zm.l (fun _ _ k_ => z_iconst (v := -1) dX8_unit_7 rfl k_) ?_
    exact zm_iret dX8_unit_8 rfl rfl k
theorem sX8_unit_13 {E : zE} {d : Nat} {Q : zO → zM → Prop} (M : zM) (s0 : Int32) (k : if s0 = 0 then (Zm E YX8_postfix d M (zargs 0 [vr (some (97, 1, 0))]) 0 [] (zma E YX8_unit (d + 1) [] 17 3 [] Q)) else (Zm E YX8_open d M (zargs 0 [vr (some (97, 1, 0)), vi (1 : Int32)]) 0 [] (zma E YX8_unit (d + 1) [(0, vr (some (97, 1, 0))), (1, vi (gi M 97 20))] 28 3 [] Q))) : Zm E YX8_unit (d + 1) M [(0, vr (some (97, 1, 0)))] 13 [vi s0] Q := by
  refine Zm.brn (fun _ _ k1_ k2_ => z_if_ne (tgt := 21) dX8_unit_13 rfl k1_ k2_) (fun h_ => ?_) (fun h_ => ?_)
  · have k := zif h_ k
    refine Zm.l (fun _ _ k_ => z_aload_n dX8_unit_21 rfl rfl k_) ?_
    refine zm_geti dX8_unit_22 fsX8_392_1 (by decide) (by decide) ?_
    refine Zm.l (fun _ _ k_ => z_ist_n dX8_unit_25 rfl (by decide) (lv' := [(0, vr (some (97, 1, 0))), (1, vi (gi M 97 20))]) rfl k_) ?_
    refine Zm.l (fun _ _ k_ => z_aload_n dX8_unit_26 rfl rfl k_) ?_
    refine Zm.l (fun _ _ k_ => z_iconst (v := 1) dX8_unit_27 rfl k_) ?_
    exact zm_callV (as := [vi (1 : Int32)]) (st := []) dX8_unit_28 vsX8_450_1 (Nat.le_refl _) (Nat.le_of_ble_eq_true rfl) (Nat.le_of_ble_eq_true rfl) rfl k
  · have k := zit h_ k
    refine Zm.l (fun _ _ k_ => z_aload_n dX8_unit_16 rfl rfl k_) ?_
    refine Zm.pick [] rfl ?_
    exact zm_callV (as := []) (st := []) dX8_unit_17 vsX8_485_1 (Nat.le_refl _) (Nat.le_of_ble_eq_true rfl) (Nat.le_of_ble_eq_true rfl) rfl k
theorem sX8_unit_20 {E : zE} {d : Nat} {Q : zO → zM → Prop} (M : zM) (s0 : Int32) (k : Q (.inl (some (vi s0))) M) : Zm E YX8_unit (d + 1) M [] 20 [vi s0] Q := by
  exact zm_iret dX8_unit_20 rfl rfl k
theorem sX8_unit_31 {E : zE} {d : Nat} {Q : zO → zM → Prop} (M : zM) (l1 : Int32) (k : Zm E YX8_unit d (si M 97 20 ((gi M 97 20) + (1 : Int32))) (zargs 0 [vr (some (97, 1, 0))]) 0 [] (zma E YX8_unit (d + 1) [(0, vr (some (97, 1, 0))), (1, vi l1)] 42 3 [] Q)) : Zm E YX8_unit (d + 1) M [(0, vr (some (97, 1, 0))), (1, vi l1)] 31 [] Q := by
  refine Zm.l (fun _ _ k_ => z_aload_n dX8_unit_31 rfl rfl k_) ?_
  refine Zm.l (fun _ _ k_ => z_dup dX8_unit_32 rfl k_) ?_
  refine zm_geti dX8_unit_33 fsX8_392_1 (by decide) (by decide) ?_
  refine Zm.l (fun _ _ k_ => z_iconst (v := 1) dX8_unit_36 rfl k_) ?_
  refine Zm.l (fun _ _ k_ => z_iadd dX8_unit_37 k_) ?_
  refine zm_puti (by decide) (by decide) dX8_unit_38 (zfwN.w fwX8_392_1) rfl ⟨rfl, rfl⟩ ?_
  refine Zm.l (fun _ _ k_ => z_aload_n dX8_unit_41 rfl rfl k_) ?_
  exact zm_callV (as := []) (st := []) dX8_unit_42 vsX8_476_1 (Nat.le_refl _) (Nat.le_of_ble_eq_true rfl) (Nat.le_of_ble_eq_true rfl) rfl k
theorem sX8_unit_45 {E : zE} {d : Nat} {Q : zO → zM → Prop} (M : zM) (l1 : Int32) (s0 : Int32) (k : Zm E YX8_close d M (zargs 0 [vr (some (97, 1, 0))]) 0 [] (zma E YX8_unit (d + 1) [(0, vr (some (97, 1, 0))), (1, vi l1), (2, vi s0)] 47 3 [] Q)) : Zm E YX8_unit (d + 1) M [(0, vr (some (97, 1, 0))), (1, vi l1)] 45 [vi s0] Q := by
  refine Zm.l (fun _ _ k_ => z_ist_n dX8_unit_45 rfl (by decide) (lv' := [(0, vr (some (97, 1, 0))), (1, vi l1), (2, vi s0)]) rfl k_) ?_
  refine Zm.l (fun _ _ k_ => z_aload_n dX8_unit_46 rfl rfl k_) ?_
  exact zm_callV (as := []) (st := []) dX8_unit_47 vsX8_454_1 (Nat.le_refl _) (Nat.le_of_ble_eq_true rfl) (Nat.le_of_ble_eq_true rfl) rfl k
theorem sX8_unit_50 {E : zE} {d : Nat} {Q : zO → zM → Prop} (M : zM) (l1 : Int32) (l2 : Int32) (k : if (gi M 97 21) ≤ 0 then (vp_in l1 4002 ∧ (if (gi M 103 (l1).toNatClampNeg) = (5 : Int32) then (vp_in l1 4002 ∧ (if (gi M 104 (l1).toNatClampNeg) = (10 : Int32) then (Zm E YX8_unit (d + 1) M [(0, vr (some (97, 1, 0))), (1, vi l1), (2, vi l2)] 96 [vi (1 : Int32)] Q) else (vp_in l1 4002 ∧ (if (gi M 104 (l1).toNatClampNeg) = (11 : Int32) then (Zm E YX8_unit (d + 1) M [(0, vr (some (97, 1, 0))), (1, vi l1), (2, vi l2)] 96 [vi (1 : Int32)] Q) else (Zm E YX8_unit (d + 1) M [(0, vr (some (97, 1, 0))), (1, vi l1), (2, vi l2)] 96 [vi (0 : Int32)] Q))))) else (Zm E YX8_unit (d + 1) M [(0, vr (some (97, 1, 0))), (1, vi l1), (2, vi l2)] 96 [vi (0 : Int32)] Q))) else (Q (.inl (some (vi (-1 : Int32)))) M)) : Zm E YX8_unit (d + 1) M [(0, vr (some (97, 1, 0))), (1, vi l1), (2, vi l2)] 50 [] Q := by
  refine Zm.l (fun _ _ k_ => z_aload_n dX8_unit_50 rfl rfl k_) ?_
  refine zm_geti dX8_unit_51 fsX8_389_1 (by decide) (by decide) ?_
  refine Zm.br (fun _ _ k1_ k2_ => z_if_le (tgt := 59) dX8_unit_54 rfl k1_ k2_) (fun h_ => ?_) (fun h_ => ?_)
  · have k := zit h_ k
    refine Zm.l (fun _ _ k_ => z_aload_n dX8_unit_59 rfl rfl k_) ?_
    refine zm_getr 5 dX8_unit_60 fsX8_27_1 rfl ?_
    refine Zm.l (fun _ _ k_ => z_iload_n dX8_unit_63 rfl rfl k_) ?_
    obtain ⟨b_, k⟩ := k
    refine zm_iald dX8_unit_64 b_ (by decide) (by decide) ?_
    refine Zm.l (fun _ _ k_ => z_iconst (v := 5) dX8_unit_65 rfl k_) ?_
    refine Zm.brn (fun _ _ k1_ k2_ => z_icmp_ne (tgt := 95) dX8_unit_66 rfl k1_ k2_) (fun h_ => ?_) (fun h_ => ?_)
    · have k := zif h_ k
      refine Zm.l (fun _ _ k_ => z_iconst (v := 0) dX8_unit_95 rfl k_) ?_
      exact k
    · have k := zit h_ k
      refine Zm.l (fun _ _ k_ => z_aload_n dX8_unit_69 rfl rfl k_) ?_
      refine zm_getr 6 dX8_unit_70 fsX8_30_1 rfl ?_
      refine Zm.l (fun _ _ k_ => z_iload_n dX8_unit_73 rfl rfl k_) ?_
      obtain ⟨b_, k⟩ := k
      refine zm_iald dX8_unit_74 b_ (by decide) (by decide) ?_
      refine Zm.l (fun _ _ k_ => z_bipush (v := 10) dX8_unit_75 rfl k_) ?_
      refine Zm.br (fun _ _ k1_ k2_ => z_icmp_eq (tgt := 91) dX8_unit_77 rfl k1_ k2_) (fun h_ => ?_) (fun h_ => ?_)
      · have k := zit h_ k
        refine Zm.l (fun _ _ k_ => z_iconst (v := 1) dX8_unit_91 rfl k_) ?_
        refine Zm.l (fun _ _ k_ => z_goto (tgt := 96) dX8_unit_92 rfl k_) ?_
        exact k
      · have k := zif h_ k
        refine Zm.l (fun _ _ k_ => z_aload_n dX8_unit_80 rfl rfl k_) ?_
        refine zm_getr 6 dX8_unit_81 fsX8_30_1 rfl ?_
        refine Zm.l (fun _ _ k_ => z_iload_n dX8_unit_84 rfl rfl k_) ?_
        obtain ⟨b_, k⟩ := k
        refine zm_iald dX8_unit_85 b_ (by decide) (by decide) ?_
        refine Zm.l (fun _ _ k_ => z_bipush (v := 11) dX8_unit_86 rfl k_) ?_
        refine Zm.brn (fun _ _ k1_ k2_ => z_icmp_ne (tgt := 95) dX8_unit_88 rfl k1_ k2_) (fun h_ => ?_) (fun h_ => ?_)
        · have k := zif h_ k
          refine Zm.l (fun _ _ k_ => z_iconst (v := 0) dX8_unit_95 rfl k_) ?_
          exact k
        · have k := zit h_ k
          refine Zm.l (fun _ _ k_ => z_iconst (v := 1) dX8_unit_91 rfl k_) ?_
          refine Zm.l (fun _ _ k_ => z_goto (tgt := 96) dX8_unit_92 rfl k_) ?_
          exact k
  · have k := zif h_ k
    refine Zm.l (fun _ _ k_ => z_iconst (v := -1) dX8_unit_57 rfl k_) ?_
    exact zm_iret dX8_unit_58 rfl rfl k
theorem sX8_unit_96 {E : zE} {d : Nat} {Q : zO → zM → Prop} (M : zM) (l1 : Int32) (l2 : Int32) (s0 : Int32) (k : vp_in l1 4002 ∧ (if (gi M 103 (l1).toNatClampNeg) = (2 : Int32) then (vp_in l1 4002 ∧ (if (gi M 104 (l1).toNatClampNeg) = (5 : Int32) then (Zm E YX8_unit (d + 1) M [(0, vr (some (97, 1, 0))), (1, vi l1), (2, vi l2), (3, vi s0)] 122 [vi (1 : Int32)] Q) else (Zm E YX8_unit (d + 1) M [(0, vr (some (97, 1, 0))), (1, vi l1), (2, vi l2), (3, vi s0)] 122 [vi (0 : Int32)] Q))) else (Zm E YX8_unit (d + 1) M [(0, vr (some (97, 1, 0))), (1, vi l1), (2, vi l2), (3, vi s0)] 122 [vi (0 : Int32)] Q))) : Zm E YX8_unit (d + 1) M [(0, vr (some (97, 1, 0))), (1, vi l1), (2, vi l2)] 96 [vi s0] Q := by
  refine Zm.l (fun _ _ k_ => z_ist_n dX8_unit_96 rfl (by decide) (lv' := [(0, vr (some (97, 1, 0))), (1, vi l1), (2, vi l2), (3, vi s0)]) rfl k_) ?_
  refine Zm.l (fun _ _ k_ => z_aload_n dX8_unit_97 rfl rfl k_) ?_
  refine zm_getr 5 dX8_unit_98 fsX8_27_1 rfl ?_
  refine Zm.l (fun _ _ k_ => z_iload_n dX8_unit_101 rfl rfl k_) ?_
  obtain ⟨b_, k⟩ := k
  refine zm_iald dX8_unit_102 b_ (by decide) (by decide) ?_
  refine Zm.l (fun _ _ k_ => z_iconst (v := 2) dX8_unit_103 rfl k_) ?_
  refine Zm.brn (fun _ _ k1_ k2_ => z_icmp_ne (tgt := 121) dX8_unit_104 rfl k1_ k2_) (fun h_ => ?_) (fun h_ => ?_)
  · have k := zif h_ k
    refine Zm.l (fun _ _ k_ => z_iconst (v := 0) dX8_unit_121 rfl k_) ?_
    exact k
  · have k := zit h_ k
    refine Zm.l (fun _ _ k_ => z_aload_n dX8_unit_107 rfl rfl k_) ?_
    refine zm_getr 6 dX8_unit_108 fsX8_30_1 rfl ?_
    refine Zm.l (fun _ _ k_ => z_iload_n dX8_unit_111 rfl rfl k_) ?_
    obtain ⟨b_, k⟩ := k
    refine zm_iald dX8_unit_112 b_ (by decide) (by decide) ?_
    refine Zm.l (fun _ _ k_ => z_iconst (v := 5) dX8_unit_113 rfl k_) ?_
    refine Zm.brn (fun _ _ k1_ k2_ => z_icmp_ne (tgt := 121) dX8_unit_114 rfl k1_ k2_) (fun h_ => ?_) (fun h_ => ?_)
    · have k := zif h_ k
      refine Zm.l (fun _ _ k_ => z_iconst (v := 0) dX8_unit_121 rfl k_) ?_
      exact k
    · have k := zit h_ k
      refine Zm.l (fun _ _ k_ => z_iconst (v := 1) dX8_unit_117 rfl k_) ?_
      refine Zm.l (fun _ _ k_ => z_goto (tgt := 122) dX8_unit_118 rfl k_) ?_
      exact k
theorem sX8_unit_122 {E : zE} {d : Nat} {Q : zO → zM → Prop} (M : zM) (l1 : Int32) (l2 : Int32) (l3 : Int32) (s0 : Int32) (k : if l3 = 0 then (if s0 = 0 then (Zm E YX8_unit (d + 1) M [(0, vr (some (97, 1, 0))), (1, vi l1), (2, vi l2), (3, vi l3)] 168 [] Q) else (Zm E YX8_isTarget d M (zargs 0 [vr (some (97, 1, 0)), vi l2]) 0 [] (zma E YX8_unit (d + 1) [(0, vr (some (97, 1, 0))), (1, vi l1), (2, vi l2), (3, vi l3)] 143 3 [] Q))) else (Zm E YX8_isTarget d M (zargs 0 [vr (some (97, 1, 0)), vi l2]) 0 [] (zma E YX8_unit (d + 1) [(0, vr (some (97, 1, 0))), (1, vi l1), (2, vi l2), (3, vi l3), (4, vi s0)] 130 3 [] Q))) : Zm E YX8_unit (d + 1) M [(0, vr (some (97, 1, 0))), (1, vi l1), (2, vi l2), (3, vi l3)] 122 [vi s0] Q := by
  refine Zm.l (fun _ _ k_ => z_ist dX8_unit_122 (by decide) (lv' := [(0, vr (some (97, 1, 0))), (1, vi l1), (2, vi l2), (3, vi l3), (4, vi s0)]) rfl k_) ?_
  refine Zm.l (fun _ _ k_ => z_iload_n dX8_unit_124 rfl rfl k_) ?_
  refine Zm.br (fun _ _ k1_ k2_ => z_if_eq (tgt := 136) dX8_unit_125 rfl k1_ k2_) (fun h_ => ?_) (fun h_ => ?_)
  · have k := zit h_ k
    refine Zm.l (fun _ _ k_ => z_iload dX8_unit_136 rfl k_) ?_
    refine Zm.br (fun _ _ k1_ k2_ => z_if_eq (tgt := 168) dX8_unit_138 rfl k1_ k2_) (fun h_ => ?_) (fun h_ => ?_)
    · have k := zit h_ k
      refine Zm.pick [0, 1, 2, 3] rfl ?_
      exact k
    · have k := zif h_ k
      refine Zm.l (fun _ _ k_ => z_aload_n dX8_unit_141 rfl rfl k_) ?_
      refine Zm.l (fun _ _ k_ => z_iload_n dX8_unit_142 rfl rfl k_) ?_
      refine Zm.pick [0, 1, 2, 3] rfl ?_
      exact zm_callV (as := [vi l2]) (st := []) dX8_unit_143 vsX8_463_1 (Nat.le_refl _) (Nat.le_of_ble_eq_true rfl) (Nat.le_of_ble_eq_true rfl) rfl k
  · have k := zif h_ k
    refine Zm.l (fun _ _ k_ => z_aload_n dX8_unit_128 rfl rfl k_) ?_
    refine Zm.l (fun _ _ k_ => z_iload_n dX8_unit_129 rfl rfl k_) ?_
    exact zm_callV (as := [vi l2]) (st := []) dX8_unit_130 vsX8_463_1 (Nat.le_refl _) (Nat.le_of_ble_eq_true rfl) (Nat.le_of_ble_eq_true rfl) rfl k
theorem sX8_unit_133 {E : zE} {d : Nat} {Q : zO → zM → Prop} (M : zM) (l1 : Int32) (l2 : Int32) (l3 : Int32) (l4 : Int32) (s0 : Int32) (k : if s0 = 0 then (Zm E YX8_fail d M (zargs 0 [vr (some (97, 1, 0)), vi (3 : Int32)]) 0 [] (zma E YX8_unit (d + 1) [] 162 3 [] Q)) else (if l4 = 0 then (Zm E YX8_unit (d + 1) M [(0, vr (some (97, 1, 0))), (1, vi l1), (2, vi l2), (3, vi l3)] 168 [] Q) else (Zm E YX8_isTarget d M (zargs 0 [vr (some (97, 1, 0)), vi l2]) 0 [] (zma E YX8_unit (d + 1) [(0, vr (some (97, 1, 0))), (1, vi l1), (2, vi l2), (3, vi l3)] 143 3 [] Q)))) : Zm E YX8_unit (d + 1) M [(0, vr (some (97, 1, 0))), (1, vi l1), (2, vi l2), (3, vi l3), (4, vi l4)] 133 [vi s0] Q := by
  refine Zm.br (fun _ _ k1_ k2_ => z_if_eq (tgt := 160) dX8_unit_133 rfl k1_ k2_) (fun h_ => ?_) (fun h_ => ?_)
  · have k := zit h_ k
    refine Zm.l (fun _ _ k_ => z_aload_n dX8_unit_160 rfl rfl k_) ?_
    refine Zm.l (fun _ _ k_ => z_iconst (v := 3) dX8_unit_161 rfl k_) ?_
    refine Zm.pick [] rfl ?_
    exact zm_callV (as := [vi (3 : Int32)]) (st := []) dX8_unit_162 vsX8_401_1 (Nat.le_refl _) (Nat.le_of_ble_eq_true rfl) (Nat.le_of_ble_eq_true rfl) rfl k
  · have k := zif h_ k
    refine Zm.l (fun _ _ k_ => z_iload dX8_unit_136 rfl k_) ?_
    refine Zm.br (fun _ _ k1_ k2_ => z_if_eq (tgt := 168) dX8_unit_138 rfl k1_ k2_) (fun h_ => ?_) (fun h_ => ?_)
    · have k := zit h_ k
      refine Zm.pick [0, 1, 2, 3] rfl ?_
      exact k
    · have k := zif h_ k
      refine Zm.l (fun _ _ k_ => z_aload_n dX8_unit_141 rfl rfl k_) ?_
      refine Zm.l (fun _ _ k_ => z_iload_n dX8_unit_142 rfl rfl k_) ?_
      refine Zm.pick [0, 1, 2, 3] rfl ?_
      exact zm_callV (as := [vi l2]) (st := []) dX8_unit_143 vsX8_463_1 (Nat.le_refl _) (Nat.le_of_ble_eq_true rfl) (Nat.le_of_ble_eq_true rfl) rfl k
theorem sX8_unit_146 {E : zE} {d : Nat} {Q : zO → zM → Prop} (M : zM) (l1 : Int32) (l2 : Int32) (l3 : Int32) (s0 : Int32) (k : if s0 = 0 then (Zm E YX8_fail d M (zargs 0 [vr (some (97, 1, 0)), vi (3 : Int32)]) 0 [] (zma E YX8_unit (d + 1) [] 162 3 [] Q)) else (vp_in l2 12000 ∧ (if (gi M 108 (l2).toNatClampNeg) = (7 : Int32) then (Zm E YX8_unit (d + 1) M [(0, vr (some (97, 1, 0))), (1, vi l1), (2, vi l2), (3, vi l3)] 168 [] Q) else (Zm E YX8_fail d M (zargs 0 [vr (some (97, 1, 0)), vi (3 : Int32)]) 0 [] (zma E YX8_unit (d + 1) [] 162 3 [] Q))))) : Zm E YX8_unit (d + 1) M [(0, vr (some (97, 1, 0))), (1, vi l1), (2, vi l2), (3, vi l3)] 146 [vi s0] Q := by
  refine Zm.br (fun _ _ k1_ k2_ => z_if_eq (tgt := 160) dX8_unit_146 rfl k1_ k2_) (fun h_ => ?_) (fun h_ => ?_)
  · have k := zit h_ k
    refine Zm.l (fun _ _ k_ => z_aload_n dX8_unit_160 rfl rfl k_) ?_
    refine Zm.l (fun _ _ k_ => z_iconst (v := 3) dX8_unit_161 rfl k_) ?_
    refine Zm.pick [] rfl ?_
    exact zm_callV (as := [vi (3 : Int32)]) (st := []) dX8_unit_162 vsX8_401_1 (Nat.le_refl _) (Nat.le_of_ble_eq_true rfl) (Nat.le_of_ble_eq_true rfl) rfl k
  · have k := zif h_ k
    refine Zm.l (fun _ _ k_ => z_aload_n dX8_unit_149 rfl rfl k_) ?_
    refine zm_getr 10 dX8_unit_150 fsX8_42_1 rfl ?_
    refine Zm.l (fun _ _ k_ => z_iload_n dX8_unit_153 rfl rfl k_) ?_
    obtain ⟨b_, k⟩ := k
    refine zm_iald dX8_unit_154 b_ (by decide) (by decide) ?_
    refine Zm.l (fun _ _ k_ => z_bipush (v := 7) dX8_unit_155 rfl k_) ?_
    refine Zm.br (fun _ _ k1_ k2_ => z_icmp_eq (tgt := 168) dX8_unit_157 rfl k1_ k2_) (fun h_ => ?_) (fun h_ => ?_)
    · have k := zit h_ k
      exact k
    · have k := zif h_ k
      refine Zm.l (fun _ _ k_ => z_aload_n dX8_unit_160 rfl rfl k_) ?_
      refine Zm.l (fun _ _ k_ => z_iconst (v := 3) dX8_unit_161 rfl k_) ?_
      refine Zm.pick [] rfl ?_
      exact zm_callV (as := [vi (3 : Int32)]) (st := []) dX8_unit_162 vsX8_401_1 (Nat.le_refl _) (Nat.le_of_ble_eq_true rfl) (Nat.le_of_ble_eq_true rfl) rfl k
theorem sX8_unit_165 {E : zE} {d : Nat} {Q : zO → zM → Prop} (M : zM) (s0 : Int32) (k : Q (.inl (some (vi (-1 : Int32)))) M) : Zm E YX8_unit (d + 1) M [] 165 [vi s0] Q := by
  refine Zm.l (fun _ _ k_ => z_pop dX8_unit_165 rfl k_) ?_
  refine Zm.l (fun _ _ k_ => z_iconst (v := -1) dX8_unit_166 rfl k_) ?_
  exact zm_iret dX8_unit_167 rfl rfl k
theorem sX8_unit_168 {E : zE} {d : Nat} {Q : zO → zM → Prop} (M : zM) (l1 : Int32) (l2 : Int32) (l3 : Int32) (k : if l3 = 0 then (vp_in l1 4002 ∧ (if (gi M 103 (l1).toNatClampNeg) = (5 : Int32) then (vp_in l1 4002 ∧ (if (gi M 104 (l1).toNatClampNeg) = (35 : Int32) then (Zm E YX8_node d M (zargs 0 [vr (some (97, 1, 0)), vi (10 : Int32), vi (0 : Int32), vi l2, vi (0 : Int32)]) 0 [] (zma E YX8_unit (d + 1) [] 297 3 [] Q)) else (vp_in l1 4002 ∧ (if (gi M 104 (l1).toNatClampNeg) = (36 : Int32) then (Zm E YX8_node d M (zargs 0 [vr (some (97, 1, 0)), vi (10 : Int32), vi (1 : Int32), vi l2, vi (0 : Int32)]) 0 [] (zma E YX8_unit (d + 1) [] 297 3 [] Q)) else (vp_in l1 4002 ∧ (if (gi M 104 (l1).toNatClampNeg) = (44 : Int32) then (Zm E YX8_node d M (zargs 0 [vr (some (97, 1, 0)), vi (10 : Int32), vi (2 : Int32), vi l2, vi (0 : Int32)]) 0 [] (zma E YX8_unit (d + 1) [] 297 3 [] Q)) else (Zm E YX8_node d M (zargs 0 [vr (some (97, 1, 0)), vi (10 : Int32), vi (3 : Int32), vi l2, vi (0 : Int32)]) 0 [] (zma E YX8_unit (d + 1) [] 297 3 [] Q)))))))) else (vp_in l1 4002 ∧ (if (gi M 104 (l1).toNatClampNeg) = (24 : Int32) then (Zm E YX8_node d M (zargs 0 [vr (some (97, 1, 0)), vi (10 : Int32), vi (4 : Int32), vi l2, vi (0 : Int32)]) 0 [] (zma E YX8_unit (d + 1) [] 297 3 [] Q)) else (vp_in l1 4002 ∧ (if (gi M 104 (l1).toNatClampNeg) = (27 : Int32) then (Zm E YX8_node d M (zargs 0 [vr (some (97, 1, 0)), vi (10 : Int32), vi (5 : Int32), vi l2, vi (0 : Int32)]) 0 [] (zma E YX8_unit (d + 1) [] 297 3 [] Q)) else (Zm E YX8_node d M (zargs 0 [vr (some (97, 1, 0)), vi (10 : Int32), vi (6 : Int32), vi l2, vi (0 : Int32)]) 0 [] (zma E YX8_unit (d + 1) [] 297 3 [] Q)))))))) else (vp_in l1 4002 ∧ (if (gi M 104 (l1).toNatClampNeg) = (10 : Int32) then (Zm E YX8_node d M (zargs 0 [vr (some (97, 1, 0)), vi (16 : Int32), vi (0 : Int32), vi l2, vi (0 : Int32)]) 0 [] (zma E YX8_unit (d + 1) [] 193 3 [] Q)) else (Zm E YX8_node d M (zargs 0 [vr (some (97, 1, 0)), vi (16 : Int32), vi (1 : Int32), vi l2, vi (0 : Int32)]) 0 [] (zma E YX8_unit (d + 1) [] 193 3 [] Q))))) : Zm E YX8_unit (d + 1) M [(0, vr (some (97, 1, 0))), (1, vi l1), (2, vi l2), (3, vi l3)] 168 [] Q := by
  refine Zm.l (fun _ _ k_ => z_iload_n dX8_unit_168 rfl rfl k_) ?_
  refine Zm.br (fun _ _ k1_ k2_ => z_if_eq (tgt := 197) dX8_unit_169 rfl k1_ k2_) (fun h_ => ?_) (fun h_ => ?_)
  · have k := zit h_ k
    refine Zm.l (fun _ _ k_ => z_aload_n dX8_unit_197 rfl rfl k_) ?_
    refine zm_getr 5 dX8_unit_198 fsX8_27_1 rfl ?_
    refine Zm.l (fun _ _ k_ => z_iload_n dX8_unit_201 rfl rfl k_) ?_
    obtain ⟨b_, k⟩ := k
    refine zm_iald dX8_unit_202 b_ (by decide) (by decide) ?_
    refine Zm.l (fun _ _ k_ => z_iconst (v := 5) dX8_unit_203 rfl k_) ?_
    refine Zm.brn (fun _ _ k1_ k2_ => z_icmp_ne (tgt := 256) dX8_unit_204 rfl k1_ k2_) (fun h_ => ?_) (fun h_ => ?_)
    · have k := zif h_ k
      refine Zm.l (fun _ _ k_ => z_aload_n dX8_unit_256 rfl rfl k_) ?_
      refine zm_getr 6 dX8_unit_257 fsX8_30_1 rfl ?_
      refine Zm.l (fun _ _ k_ => z_iload_n dX8_unit_260 rfl rfl k_) ?_
      obtain ⟨b_, k⟩ := k
      refine zm_iald dX8_unit_261 b_ (by decide) (by decide) ?_
      refine Zm.l (fun _ _ k_ => z_bipush (v := 24) dX8_unit_262 rfl k_) ?_
      refine Zm.brn (fun _ _ k1_ k2_ => z_icmp_ne (tgt := 271) dX8_unit_264 rfl k1_ k2_) (fun h_ => ?_) (fun h_ => ?_)
      · have k := zif h_ k
        refine Zm.l (fun _ _ k_ => z_aload_n dX8_unit_271 rfl rfl k_) ?_
        refine zm_getr 6 dX8_unit_272 fsX8_30_1 rfl ?_
        refine Zm.l (fun _ _ k_ => z_iload_n dX8_unit_275 rfl rfl k_) ?_
        obtain ⟨b_, k⟩ := k
        refine zm_iald dX8_unit_276 b_ (by decide) (by decide) ?_
        refine Zm.l (fun _ _ k_ => z_bipush (v := 27) dX8_unit_277 rfl k_) ?_
        refine Zm.brn (fun _ _ k1_ k2_ => z_icmp_ne (tgt := 286) dX8_unit_279 rfl k1_ k2_) (fun h_ => ?_) (fun h_ => ?_)
        · have k := zif h_ k
          refine Zm.l (fun _ _ k_ => z_bipush (v := 6) dX8_unit_286 rfl k_) ?_
          refine Zm.l (fun _ _ k_ => z_ist dX8_unit_288 (by decide) (lv' := [(0, vr (some (97, 1, 0))), (1, vi l1), (2, vi l2), (3, vi l3), (5, vi (6 : Int32))]) rfl k_) ?_
          refine Zm.l (fun _ _ k_ => z_aload_n dX8_unit_290 rfl rfl k_) ?_
          refine Zm.l (fun _ _ k_ => z_bipush (v := 10) dX8_unit_291 rfl k_) ?_
          refine Zm.l (fun _ _ k_ => z_iload dX8_unit_293 rfl k_) ?_
          refine Zm.l (fun _ _ k_ => z_iload_n dX8_unit_295 rfl rfl k_) ?_
          refine Zm.l (fun _ _ k_ => z_iconst (v := 0) dX8_unit_296 rfl k_) ?_
          refine Zm.pick [] rfl ?_
          exact zm_callV (as := [vi (10 : Int32), vi (6 : Int32), vi l2, vi (0 : Int32)]) (st := []) dX8_unit_297 vsX8_446_1 (Nat.le_refl _) (Nat.le_of_ble_eq_true rfl) (Nat.le_of_ble_eq_true rfl) rfl k
        · have k := zit h_ k
          refine Zm.l (fun _ _ k_ => z_iconst (v := 5) dX8_unit_282 rfl k_) ?_
          refine Zm.l (fun _ _ k_ => z_goto (tgt := 288) dX8_unit_283 rfl k_) ?_
          refine Zm.l (fun _ _ k_ => z_ist dX8_unit_288 (by decide) (lv' := [(0, vr (some (97, 1, 0))), (1, vi l1), (2, vi l2), (3, vi l3), (5, vi (5 : Int32))]) rfl k_) ?_
          refine Zm.l (fun _ _ k_ => z_aload_n dX8_unit_290 rfl rfl k_) ?_
          refine Zm.l (fun _ _ k_ => z_bipush (v := 10) dX8_unit_291 rfl k_) ?_
          refine Zm.l (fun _ _ k_ => z_iload dX8_unit_293 rfl k_) ?_
          refine Zm.l (fun _ _ k_ => z_iload_n dX8_unit_295 rfl rfl k_) ?_
          refine Zm.l (fun _ _ k_ => z_iconst (v := 0) dX8_unit_296 rfl k_) ?_
          refine Zm.pick [] rfl ?_
          exact zm_callV (as := [vi (10 : Int32), vi (5 : Int32), vi l2, vi (0 : Int32)]) (st := []) dX8_unit_297 vsX8_446_1 (Nat.le_refl _) (Nat.le_of_ble_eq_true rfl) (Nat.le_of_ble_eq_true rfl) rfl k
      · have k := zit h_ k
        refine Zm.l (fun _ _ k_ => z_iconst (v := 4) dX8_unit_267 rfl k_) ?_
        refine Zm.l (fun _ _ k_ => z_goto (tgt := 288) dX8_unit_268 rfl k_) ?_
        refine Zm.l (fun _ _ k_ => z_ist dX8_unit_288 (by decide) (lv' := [(0, vr (some (97, 1, 0))), (1, vi l1), (2, vi l2), (3, vi l3), (5, vi (4 : Int32))]) rfl k_) ?_
        refine Zm.l (fun _ _ k_ => z_aload_n dX8_unit_290 rfl rfl k_) ?_
        refine Zm.l (fun _ _ k_ => z_bipush (v := 10) dX8_unit_291 rfl k_) ?_
        refine Zm.l (fun _ _ k_ => z_iload dX8_unit_293 rfl k_) ?_
        refine Zm.l (fun _ _ k_ => z_iload_n dX8_unit_295 rfl rfl k_) ?_
        refine Zm.l (fun _ _ k_ => z_iconst (v := 0) dX8_unit_296 rfl k_) ?_
        refine Zm.pick [] rfl ?_
        exact zm_callV (as := [vi (10 : Int32), vi (4 : Int32), vi l2, vi (0 : Int32)]) (st := []) dX8_unit_297 vsX8_446_1 (Nat.le_refl _) (Nat.le_of_ble_eq_true rfl) (Nat.le_of_ble_eq_true rfl) rfl k
    · have k := zit h_ k
      refine Zm.l (fun _ _ k_ => z_aload_n dX8_unit_207 rfl rfl k_) ?_
      refine zm_getr 6 dX8_unit_208 fsX8_30_1 rfl ?_
      refine Zm.l (fun _ _ k_ => z_iload_n dX8_unit_211 rfl rfl k_) ?_
      obtain ⟨b_, k⟩ := k
      refine zm_iald dX8_unit_212 b_ (by decide) (by decide) ?_
      refine Zm.l (fun _ _ k_ => z_bipush (v := 35) dX8_unit_213 rfl k_) ?_
      refine Zm.brn (fun _ _ k1_ k2_ => z_icmp_ne (tgt := 222) dX8_unit_215 rfl k1_ k2_) (fun h_ => ?_) (fun h_ => ?_)
      · have k := zif h_ k
        refine Zm.l (fun _ _ k_ => z_aload_n dX8_unit_222 rfl rfl k_) ?_
        refine zm_getr 6 dX8_unit_223 fsX8_30_1 rfl ?_
        refine Zm.l (fun _ _ k_ => z_iload_n dX8_unit_226 rfl rfl k_) ?_
        obtain ⟨b_, k⟩ := k
        refine zm_iald dX8_unit_227 b_ (by decide) (by decide) ?_
        refine Zm.l (fun _ _ k_ => z_bipush (v := 36) dX8_unit_228 rfl k_) ?_
        refine Zm.brn (fun _ _ k1_ k2_ => z_icmp_ne (tgt := 237) dX8_unit_230 rfl k1_ k2_) (fun h_ => ?_) (fun h_ => ?_)
        · have k := zif h_ k
          refine Zm.l (fun _ _ k_ => z_aload_n dX8_unit_237 rfl rfl k_) ?_
          refine zm_getr 6 dX8_unit_238 fsX8_30_1 rfl ?_
          refine Zm.l (fun _ _ k_ => z_iload_n dX8_unit_241 rfl rfl k_) ?_
          obtain ⟨b_, k⟩ := k
          refine zm_iald dX8_unit_242 b_ (by decide) (by decide) ?_
          refine Zm.l (fun _ _ k_ => z_bipush (v := 44) dX8_unit_243 rfl k_) ?_
          refine Zm.brn (fun _ _ k1_ k2_ => z_icmp_ne (tgt := 252) dX8_unit_245 rfl k1_ k2_) (fun h_ => ?_) (fun h_ => ?_)
          · have k := zif h_ k
            refine Zm.l (fun _ _ k_ => z_iconst (v := 3) dX8_unit_252 rfl k_) ?_
            refine Zm.l (fun _ _ k_ => z_goto (tgt := 288) dX8_unit_253 rfl k_) ?_
            refine Zm.l (fun _ _ k_ => z_ist dX8_unit_288 (by decide) (lv' := [(0, vr (some (97, 1, 0))), (1, vi l1), (2, vi l2), (3, vi l3), (5, vi (3 : Int32))]) rfl k_) ?_
            refine Zm.l (fun _ _ k_ => z_aload_n dX8_unit_290 rfl rfl k_) ?_
            refine Zm.l (fun _ _ k_ => z_bipush (v := 10) dX8_unit_291 rfl k_) ?_
            refine Zm.l (fun _ _ k_ => z_iload dX8_unit_293 rfl k_) ?_
            refine Zm.l (fun _ _ k_ => z_iload_n dX8_unit_295 rfl rfl k_) ?_
            refine Zm.l (fun _ _ k_ => z_iconst (v := 0) dX8_unit_296 rfl k_) ?_
            refine Zm.pick [] rfl ?_
            exact zm_callV (as := [vi (10 : Int32), vi (3 : Int32), vi l2, vi (0 : Int32)]) (st := []) dX8_unit_297 vsX8_446_1 (Nat.le_refl _) (Nat.le_of_ble_eq_true rfl) (Nat.le_of_ble_eq_true rfl) rfl k
          · have k := zit h_ k
            refine Zm.l (fun _ _ k_ => z_iconst (v := 2) dX8_unit_248 rfl k_) ?_
            refine Zm.l (fun _ _ k_ => z_goto (tgt := 288) dX8_unit_249 rfl k_) ?_
            refine Zm.l (fun _ _ k_ => z_ist dX8_unit_288 (by decide) (lv' := [(0, vr (some (97, 1, 0))), (1, vi l1), (2, vi l2), (3, vi l3), (5, vi (2 : Int32))]) rfl k_) ?_
            refine Zm.l (fun _ _ k_ => z_aload_n dX8_unit_290 rfl rfl k_) ?_
            refine Zm.l (fun _ _ k_ => z_bipush (v := 10) dX8_unit_291 rfl k_) ?_
            refine Zm.l (fun _ _ k_ => z_iload dX8_unit_293 rfl k_) ?_
            refine Zm.l (fun _ _ k_ => z_iload_n dX8_unit_295 rfl rfl k_) ?_
            refine Zm.l (fun _ _ k_ => z_iconst (v := 0) dX8_unit_296 rfl k_) ?_
            refine Zm.pick [] rfl ?_
            exact zm_callV (as := [vi (10 : Int32), vi (2 : Int32), vi l2, vi (0 : Int32)]) (st := []) dX8_unit_297 vsX8_446_1 (Nat.le_refl _) (Nat.le_of_ble_eq_true rfl) (Nat.le_of_ble_eq_true rfl) rfl k
        · have k := zit h_ k
          refine Zm.l (fun _ _ k_ => z_iconst (v := 1) dX8_unit_233 rfl k_) ?_
          refine Zm.l (fun _ _ k_ => z_goto (tgt := 288) dX8_unit_234 rfl k_) ?_
          refine Zm.l (fun _ _ k_ => z_ist dX8_unit_288 (by decide) (lv' := [(0, vr (some (97, 1, 0))), (1, vi l1), (2, vi l2), (3, vi l3), (5, vi (1 : Int32))]) rfl k_) ?_
          refine Zm.l (fun _ _ k_ => z_aload_n dX8_unit_290 rfl rfl k_) ?_
          refine Zm.l (fun _ _ k_ => z_bipush (v := 10) dX8_unit_291 rfl k_) ?_
          refine Zm.l (fun _ _ k_ => z_iload dX8_unit_293 rfl k_) ?_
          refine Zm.l (fun _ _ k_ => z_iload_n dX8_unit_295 rfl rfl k_) ?_
          refine Zm.l (fun _ _ k_ => z_iconst (v := 0) dX8_unit_296 rfl k_) ?_
          refine Zm.pick [] rfl ?_
          exact zm_callV (as := [vi (10 : Int32), vi (1 : Int32), vi l2, vi (0 : Int32)]) (st := []) dX8_unit_297 vsX8_446_1 (Nat.le_refl _) (Nat.le_of_ble_eq_true rfl) (Nat.le_of_ble_eq_true rfl) rfl k
      · have k := zit h_ k
        refine Zm.l (fun _ _ k_ => z_iconst (v := 0) dX8_unit_218 rfl k_) ?_
        refine Zm.l (fun _ _ k_ => z_goto (tgt := 288) dX8_unit_219 rfl k_) ?_
        refine Zm.l (fun _ _ k_ => z_ist dX8_unit_288 (by decide) (lv' := [(0, vr (some (97, 1, 0))), (1, vi l1), (2, vi l2), (3, vi l3), (5, vi (0 : Int32))]) rfl k_) ?_
        refine Zm.l (fun _ _ k_ => z_aload_n dX8_unit_290 rfl rfl k_) ?_
        refine Zm.l (fun _ _ k_ => z_bipush (v := 10) dX8_unit_291 rfl k_) ?_
        refine Zm.l (fun _ _ k_ => z_iload dX8_unit_293 rfl k_) ?_
        refine Zm.l (fun _ _ k_ => z_iload_n dX8_unit_295 rfl rfl k_) ?_
        refine Zm.l (fun _ _ k_ => z_iconst (v := 0) dX8_unit_296 rfl k_) ?_
        refine Zm.pick [] rfl ?_
        exact zm_callV (as := [vi (10 : Int32), vi (0 : Int32), vi l2, vi (0 : Int32)]) (st := []) dX8_unit_297 vsX8_446_1 (Nat.le_refl _) (Nat.le_of_ble_eq_true rfl) (Nat.le_of_ble_eq_true rfl) rfl k
  · have k := zif h_ k
    refine Zm.l (fun _ _ k_ => z_aload_n dX8_unit_172 rfl rfl k_) ?_
    refine Zm.l (fun _ _ k_ => z_bipush (v := 16) dX8_unit_173 rfl k_) ?_
    refine Zm.l (fun _ _ k_ => z_aload_n dX8_unit_175 rfl rfl k_) ?_
    refine zm_getr 6 dX8_unit_176 fsX8_30_1 rfl ?_
    refine Zm.l (fun _ _ k_ => z_iload_n dX8_unit_179 rfl rfl k_) ?_
    obtain ⟨b_, k⟩ := k
    refine zm_iald dX8_unit_180 b_ (by decide) (by decide) ?_
    refine Zm.l (fun _ _ k_ => z_bipush (v := 10) dX8_unit_181 rfl k_) ?_
    refine Zm.brn (fun _ _ k1_ k2_ => z_icmp_ne (tgt := 190) dX8_unit_183 rfl k1_ k2_) (fun h_ => ?_) (fun h_ => ?_)
    · have k := zif h_ k
      refine Zm.l (fun _ _ k_ => z_iconst (v := 1) dX8_unit_190 rfl k_) ?_
      refine Zm.l (fun _ _ k_ => z_iload_n dX8_unit_191 rfl rfl k_) ?_
      refine Zm.l (fun _ _ k_ => z_iconst (v := 0) dX8_unit_192 rfl k_) ?_
      refine Zm.pick [] rfl ?_
      exact zm_callV (as := [vi (16 : Int32), vi (1 : Int32), vi l2, vi (0 : Int32)]) (st := []) dX8_unit_193 vsX8_446_1 (Nat.le_refl _) (Nat.le_of_ble_eq_true rfl) (Nat.le_of_ble_eq_true rfl) rfl k
    · have k := zit h_ k
      refine Zm.l (fun _ _ k_ => z_iconst (v := 0) dX8_unit_186 rfl k_) ?_
      refine Zm.l (fun _ _ k_ => z_goto (tgt := 191) dX8_unit_187 rfl k_) ?_
      refine Zm.l (fun _ _ k_ => z_iload_n dX8_unit_191 rfl rfl k_) ?_
      refine Zm.l (fun _ _ k_ => z_iconst (v := 0) dX8_unit_192 rfl k_) ?_
      refine Zm.pick [] rfl ?_
      exact zm_callV (as := [vi (16 : Int32), vi (0 : Int32), vi l2, vi (0 : Int32)]) (st := []) dX8_unit_193 vsX8_446_1 (Nat.le_refl _) (Nat.le_of_ble_eq_true rfl) (Nat.le_of_ble_eq_true rfl) rfl k
theorem sX8_unit_196 {E : zE} {d : Nat} {Q : zO → zM → Prop} (M : zM) (s0 : Int32) (k : Q (.inl (some (vi s0))) M) : Zm E YX8_unit (d + 1) M [] 196 [vi s0] Q := by
  exact zm_iret dX8_unit_196 rfl rfl k
theorem sX8_unit_300 {E : zE} {d : Nat} {Q : zO → zM → Prop} (M : zM) (s0 : Int32) (k : Q (.inl (some (vi s0))) M) : Zm E YX8_unit (d + 1) M [] 300 [vi s0] Q := by
  exact zm_iret dX8_unit_300 rfl rfl k
/-! ScriptTypesModel.postfix()I -/
theorem bX8_postfix_0 : zdec cX8_postfix 0 [(0, .aload_n 0, 1), (1, .invokevirtual 488, 3), (4, .istore_n 1, 1), (5, .aload_n 0, 1), (6, .getfield 389, 3), (9, .ifCond .gt 44, 3), (12, .aload_n 0, 1), (13, .bipush 10, 2), (15, .invokevirtual 398, 3), (18, .ifCond .ne 12, 3), (21, .aload_n 0, 1), (22, .bipush 11, 2), (24, .invokevirtual 398, 3), (27, .ifCond .eq 26, 3), (30, .aload_n 0, 1), (31, .getfield 39, 3)] = true := by decide +kernel
theorem dX8_postfix_0 : decode cX8_postfix 0 = .ok (.aload_n 0, 1) := zdec_at bX8_postfix_0 0 rfl
theorem dX8_postfix_1 : decode cX8_postfix 1 = .ok (.invokevirtual 488, 3) := zdec_at bX8_postfix_0 1 rfl
theorem dX8_postfix_4 : decode cX8_postfix 4 = .ok (.istore_n 1, 1) := zdec_at bX8_postfix_0 2 rfl
theorem dX8_postfix_5 : decode cX8_postfix 5 = .ok (.aload_n 0, 1) := zdec_at bX8_postfix_0 3 rfl
theorem dX8_postfix_6 : decode cX8_postfix 6 = .ok (.getfield 389, 3) := zdec_at bX8_postfix_0 4 rfl
theorem dX8_postfix_9 : decode cX8_postfix 9 = .ok (.ifCond .gt 44, 3) := zdec_at bX8_postfix_0 5 rfl
theorem dX8_postfix_12 : decode cX8_postfix 12 = .ok (.aload_n 0, 1) := zdec_at bX8_postfix_0 6 rfl
theorem dX8_postfix_13 : decode cX8_postfix 13 = .ok (.bipush 10, 2) := zdec_at bX8_postfix_0 7 rfl
theorem dX8_postfix_15 : decode cX8_postfix 15 = .ok (.invokevirtual 398, 3) := zdec_at bX8_postfix_0 8 rfl
theorem dX8_postfix_18 : decode cX8_postfix 18 = .ok (.ifCond .ne 12, 3) := zdec_at bX8_postfix_0 9 rfl
theorem dX8_postfix_21 : decode cX8_postfix 21 = .ok (.aload_n 0, 1) := zdec_at bX8_postfix_0 10 rfl
theorem dX8_postfix_22 : decode cX8_postfix 22 = .ok (.bipush 11, 2) := zdec_at bX8_postfix_0 11 rfl
theorem dX8_postfix_24 : decode cX8_postfix 24 = .ok (.invokevirtual 398, 3) := zdec_at bX8_postfix_0 12 rfl
theorem dX8_postfix_27 : decode cX8_postfix 27 = .ok (.ifCond .eq 26, 3) := zdec_at bX8_postfix_0 13 rfl
theorem dX8_postfix_30 : decode cX8_postfix 30 = .ok (.aload_n 0, 1) := zdec_at bX8_postfix_0 14 rfl
theorem dX8_postfix_31 : decode cX8_postfix 31 = .ok (.getfield 39, 3) := zdec_at bX8_postfix_0 15 rfl
theorem bX8_postfix_34 : zdec cX8_postfix 34 [(34, .aload_n 0, 1), (35, .getfield 392, 3), (38, .iaload, 1), (39, .aload_n 0, 1), (40, .getfield 39, 3), (43, .aload_n 0, 1), (44, .getfield 392, 3), (47, .iconst 1, 1), (48, .isub, 1), (49, .iaload, 1), (50, .if_icmp .eq 5, 3), (53, .iload_n 1, 1), (54, .ireturn, 1), (55, .aload_n 0, 1), (56, .iload_n 1, 1), (57, .invokevirtual 463, 3)] = true := by decide +kernel
theorem dX8_postfix_34 : decode cX8_postfix 34 = .ok (.aload_n 0, 1) := zdec_at bX8_postfix_34 0 rfl
theorem dX8_postfix_35 : decode cX8_postfix 35 = .ok (.getfield 392, 3) := zdec_at bX8_postfix_34 1 rfl
theorem dX8_postfix_38 : decode cX8_postfix 38 = .ok (.iaload, 1) := zdec_at bX8_postfix_34 2 rfl
theorem dX8_postfix_39 : decode cX8_postfix 39 = .ok (.aload_n 0, 1) := zdec_at bX8_postfix_34 3 rfl
theorem dX8_postfix_40 : decode cX8_postfix 40 = .ok (.getfield 39, 3) := zdec_at bX8_postfix_34 4 rfl
theorem dX8_postfix_43 : decode cX8_postfix 43 = .ok (.aload_n 0, 1) := zdec_at bX8_postfix_34 5 rfl
theorem dX8_postfix_44 : decode cX8_postfix 44 = .ok (.getfield 392, 3) := zdec_at bX8_postfix_34 6 rfl
theorem dX8_postfix_47 : decode cX8_postfix 47 = .ok (.iconst 1, 1) := zdec_at bX8_postfix_34 7 rfl
theorem dX8_postfix_48 : decode cX8_postfix 48 = .ok (.isub, 1) := zdec_at bX8_postfix_34 8 rfl
theorem dX8_postfix_49 : decode cX8_postfix 49 = .ok (.iaload, 1) := zdec_at bX8_postfix_34 9 rfl
theorem dX8_postfix_50 : decode cX8_postfix 50 = .ok (.if_icmp .eq 5, 3) := zdec_at bX8_postfix_34 10 rfl
theorem dX8_postfix_53 : decode cX8_postfix 53 = .ok (.iload_n 1, 1) := zdec_at bX8_postfix_34 11 rfl
theorem dX8_postfix_54 : decode cX8_postfix 54 = .ok (.ireturn, 1) := zdec_at bX8_postfix_34 12 rfl
theorem dX8_postfix_55 : decode cX8_postfix 55 = .ok (.aload_n 0, 1) := zdec_at bX8_postfix_34 13 rfl
theorem dX8_postfix_56 : decode cX8_postfix 56 = .ok (.iload_n 1, 1) := zdec_at bX8_postfix_34 14 rfl
theorem dX8_postfix_57 : decode cX8_postfix 57 = .ok (.invokevirtual 463, 3) := zdec_at bX8_postfix_34 15 rfl
theorem bX8_postfix_60 : zdec cX8_postfix 60 [(60, .ifCond .ne 11, 3), (63, .aload_n 0, 1), (64, .iconst 3, 1), (65, .invokevirtual 401, 3), (68, .pop, 1), (69, .iconst (-1), 1), (70, .ireturn, 1), (71, .aload_n 0, 1), (72, .dup, 1), (73, .getfield 392, 3), (76, .iconst 1, 1), (77, .iadd, 1), (78, .putfield 392, 3), (81, .aload_n 0, 1), (82, .bipush 17, 2), (84, .aload_n 0, 1)] = true := by decide +kernel
theorem dX8_postfix_60 : decode cX8_postfix 60 = .ok (.ifCond .ne 11, 3) := zdec_at bX8_postfix_60 0 rfl
theorem dX8_postfix_63 : decode cX8_postfix 63 = .ok (.aload_n 0, 1) := zdec_at bX8_postfix_60 1 rfl
theorem dX8_postfix_64 : decode cX8_postfix 64 = .ok (.iconst 3, 1) := zdec_at bX8_postfix_60 2 rfl
theorem dX8_postfix_65 : decode cX8_postfix 65 = .ok (.invokevirtual 401, 3) := zdec_at bX8_postfix_60 3 rfl
theorem dX8_postfix_68 : decode cX8_postfix 68 = .ok (.pop, 1) := zdec_at bX8_postfix_60 4 rfl
theorem dX8_postfix_69 : decode cX8_postfix 69 = .ok (.iconst (-1), 1) := zdec_at bX8_postfix_60 5 rfl
theorem dX8_postfix_70 : decode cX8_postfix 70 = .ok (.ireturn, 1) := zdec_at bX8_postfix_60 6 rfl
theorem dX8_postfix_71 : decode cX8_postfix 71 = .ok (.aload_n 0, 1) := zdec_at bX8_postfix_60 7 rfl
theorem dX8_postfix_72 : decode cX8_postfix 72 = .ok (.dup, 1) := zdec_at bX8_postfix_60 8 rfl
theorem dX8_postfix_73 : decode cX8_postfix 73 = .ok (.getfield 392, 3) := zdec_at bX8_postfix_60 9 rfl
theorem dX8_postfix_76 : decode cX8_postfix 76 = .ok (.iconst 1, 1) := zdec_at bX8_postfix_60 10 rfl
theorem dX8_postfix_77 : decode cX8_postfix 77 = .ok (.iadd, 1) := zdec_at bX8_postfix_60 11 rfl
theorem dX8_postfix_78 : decode cX8_postfix 78 = .ok (.putfield 392, 3) := zdec_at bX8_postfix_60 12 rfl
theorem dX8_postfix_81 : decode cX8_postfix 81 = .ok (.aload_n 0, 1) := zdec_at bX8_postfix_60 13 rfl
theorem dX8_postfix_82 : decode cX8_postfix 82 = .ok (.bipush 17, 2) := zdec_at bX8_postfix_60 14 rfl
theorem dX8_postfix_84 : decode cX8_postfix 84 = .ok (.aload_n 0, 1) := zdec_at bX8_postfix_60 15 rfl
theorem bX8_postfix_85 : zdec cX8_postfix 85 [(85, .getfield 30, 3), (88, .aload_n 0, 1), (89, .getfield 392, 3), (92, .iconst 1, 1), (93, .isub, 1), (94, .iaload, 1), (95, .bipush 10, 2), (97, .if_icmp .ne 7, 3), (100, .iconst 0, 1), (101, .goto 4, 3), (104, .iconst 1, 1), (105, .iload_n 1, 1), (106, .iconst 0, 1), (107, .invokevirtual 446, 3), (110, .ireturn, 1)] = true := by decide +kernel
theorem dX8_postfix_85 : decode cX8_postfix 85 = .ok (.getfield 30, 3) := zdec_at bX8_postfix_85 0 rfl
theorem dX8_postfix_88 : decode cX8_postfix 88 = .ok (.aload_n 0, 1) := zdec_at bX8_postfix_85 1 rfl
theorem dX8_postfix_89 : decode cX8_postfix 89 = .ok (.getfield 392, 3) := zdec_at bX8_postfix_85 2 rfl
theorem dX8_postfix_92 : decode cX8_postfix 92 = .ok (.iconst 1, 1) := zdec_at bX8_postfix_85 3 rfl
theorem dX8_postfix_93 : decode cX8_postfix 93 = .ok (.isub, 1) := zdec_at bX8_postfix_85 4 rfl
theorem dX8_postfix_94 : decode cX8_postfix 94 = .ok (.iaload, 1) := zdec_at bX8_postfix_85 5 rfl
theorem dX8_postfix_95 : decode cX8_postfix 95 = .ok (.bipush 10, 2) := zdec_at bX8_postfix_85 6 rfl
theorem dX8_postfix_97 : decode cX8_postfix 97 = .ok (.if_icmp .ne 7, 3) := zdec_at bX8_postfix_85 7 rfl
theorem dX8_postfix_100 : decode cX8_postfix 100 = .ok (.iconst 0, 1) := zdec_at bX8_postfix_85 8 rfl
theorem dX8_postfix_101 : decode cX8_postfix 101 = .ok (.goto 4, 3) := zdec_at bX8_postfix_85 9 rfl
theorem dX8_postfix_104 : decode cX8_postfix 104 = .ok (.iconst 1, 1) := zdec_at bX8_postfix_85 10 rfl
theorem dX8_postfix_105 : decode cX8_postfix 105 = .ok (.iload_n 1, 1) := zdec_at bX8_postfix_85 11 rfl
theorem dX8_postfix_106 : decode cX8_postfix 106 = .ok (.iconst 0, 1) := zdec_at bX8_postfix_85 12 rfl
theorem dX8_postfix_107 : decode cX8_postfix 107 = .ok (.invokevirtual 446, 3) := zdec_at bX8_postfix_85 13 rfl
theorem dX8_postfix_110 : decode cX8_postfix 110 = .ok (.ireturn, 1) := zdec_at bX8_postfix_85 14 rfl
theorem sX8_postfix_0 {E : zE} {d : Nat} {Q : zO → zM → Prop} (M : zM)  (k : Zm E YX8_left d M (zargs 0 [vr (some (97, 1, 0))]) 0 [] (zma E YX8_postfix (d + 1) [(0, vr (some (97, 1, 0)))] 1 3 [] Q)) : Zm E YX8_postfix (d + 1) M [(0, vr (some (97, 1, 0)))] 0 [] Q := by
  refine Zm.l (fun _ _ k_ => z_aload_n dX8_postfix_0 rfl rfl k_) ?_
  exact zm_callV (as := []) (st := []) dX8_postfix_1 vsX8_488_1 (Nat.le_refl _) (Nat.le_of_ble_eq_true rfl) (Nat.le_of_ble_eq_true rfl) rfl k
theorem sX8_postfix_4 {E : zE} {d : Nat} {Q : zO → zM → Prop} (M : zM) (s0 : Int32) (k : if 0 < (gi M 97 21) then (Q (.inl (some (vi s0))) M) else (Zm E YX8_isSign d M (zargs 0 [vr (some (97, 1, 0)), vi (10 : Int32)]) 0 [] (zma E YX8_postfix (d + 1) [(0, vr (some (97, 1, 0))), (1, vi s0)] 15 3 [] Q))) : Zm E YX8_postfix (d + 1) M [(0, vr (some (97, 1, 0)))] 4 [vi s0] Q := by
  refine Zm.l (fun _ _ k_ => z_ist_n dX8_postfix_4 rfl (by decide) (lv' := [(0, vr (some (97, 1, 0))), (1, vi s0)]) rfl k_) ?_
  refine Zm.l (fun _ _ k_ => z_aload_n dX8_postfix_5 rfl rfl k_) ?_
  refine zm_geti dX8_postfix_6 fsX8_389_1 (by decide) (by decide) ?_
  refine Zm.br (fun _ _ k1_ k2_ => z_if_gt (tgt := 53) dX8_postfix_9 rfl k1_ k2_) (fun h_ => ?_) (fun h_ => ?_)
  · have k := zit h_ k
    refine Zm.l (fun _ _ k_ => z_iload_n dX8_postfix_53 rfl rfl k_) ?_
    exact zm_iret dX8_postfix_54 rfl rfl k
  · have k := zif h_ k
    refine Zm.l (fun _ _ k_ => z_aload_n dX8_postfix_12 rfl rfl k_) ?_
    refine Zm.l (fun _ _ k_ => z_bipush (v := 10) dX8_postfix_13 rfl k_) ?_
    exact zm_callV (as := [vi (10 : Int32)]) (st := []) dX8_postfix_15 vsX8_398_1 (Nat.le_refl _) (Nat.le_of_ble_eq_true rfl) (Nat.le_of_ble_eq_true rfl) rfl k
theorem sX8_postfix_18 {E : zE} {d : Nat} {Q : zO → zM → Prop} (M : zM) (l1 : Int32) (s0 : Int32) (k : if s0 = 0 then (Zm E YX8_isSign d M (zargs 0 [vr (some (97, 1, 0)), vi (11 : Int32)]) 0 [] (zma E YX8_postfix (d + 1) [(0, vr (some (97, 1, 0))), (1, vi l1)] 24 3 [] Q)) else (Zm E YX8_postfix (d + 1) M [(0, vr (some (97, 1, 0))), (1, vi l1)] 30 [] Q)) : Zm E YX8_postfix (d + 1) M [(0, vr (some (97, 1, 0))), (1, vi l1)] 18 [vi s0] Q := by
  refine Zm.brn (fun _ _ k1_ k2_ => z_if_ne (tgt := 30) dX8_postfix_18 rfl k1_ k2_) (fun h_ => ?_) (fun h_ => ?_)
  · have k := zif h_ k
    exact k
  · have k := zit h_ k
    refine Zm.l (fun _ _ k_ => z_aload_n dX8_postfix_21 rfl rfl k_) ?_
    refine Zm.l (fun _ _ k_ => z_bipush (v := 11) dX8_postfix_22 rfl k_) ?_
    exact zm_callV (as := [vi (11 : Int32)]) (st := []) dX8_postfix_24 vsX8_398_1 (Nat.le_refl _) (Nat.le_of_ble_eq_true rfl) (Nat.le_of_ble_eq_true rfl) rfl k
theorem sX8_postfix_27 {E : zE} {d : Nat} {Q : zO → zM → Prop} (M : zM) (l1 : Int32) (s0 : Int32) (k : if s0 = 0 then (Q (.inl (some (vi l1))) M) else (Zm E YX8_postfix (d + 1) M [(0, vr (some (97, 1, 0))), (1, vi l1)] 30 [] Q)) : Zm E YX8_postfix (d + 1) M [(0, vr (some (97, 1, 0))), (1, vi l1)] 27 [vi s0] Q := by
  refine Zm.br (fun _ _ k1_ k2_ => z_if_eq (tgt := 53) dX8_postfix_27 rfl k1_ k2_) (fun h_ => ?_) (fun h_ => ?_)
  · have k := zit h_ k
    refine Zm.l (fun _ _ k_ => z_iload_n dX8_postfix_53 rfl rfl k_) ?_
    exact zm_iret dX8_postfix_54 rfl rfl k
  · have k := zif h_ k
    exact k
theorem sX8_postfix_30 {E : zE} {d : Nat} {Q : zO → zM → Prop} (M : zM) (l1 : Int32) (k : vp_in (gi M 97 20) 4002 ∧ (vp_in ((gi M 97 20) - (1 : Int32)) 4002 ∧ (if (gi M 107 ((gi M 97 20)).toNatClampNeg) = (gi M 107 (((gi M 97 20) - (1 : Int32))).toNatClampNeg) then (Zm E YX8_isTarget d M (zargs 0 [vr (some (97, 1, 0)), vi l1]) 0 [] (zma E YX8_postfix (d + 1) [(0, vr (some (97, 1, 0))), (1, vi l1)] 57 3 [] Q)) else (Q (.inl (some (vi l1))) M)))) : Zm E YX8_postfix (d + 1) M [(0, vr (some (97, 1, 0))), (1, vi l1)] 30 [] Q := by
  refine Zm.l (fun _ _ k_ => z_aload_n dX8_postfix_30 rfl rfl k_) ?_
  refine zm_getr 9 dX8_postfix_31 fsX8_39_1 rfl ?_
  refine Zm.l (fun _ _ k_ => z_aload_n dX8_postfix_34 rfl rfl k_) ?_
  refine zm_geti dX8_postfix_35 fsX8_392_1 (by decide) (by decide) ?_
  obtain ⟨b_, k⟩ := k
  refine zm_iald dX8_postfix_38 b_ (by decide) (by decide) ?_
  refine Zm.l (fun _ _ k_ => z_aload_n dX8_postfix_39 rfl rfl k_) ?_
  refine zm_getr 9 dX8_postfix_40 fsX8_39_1 rfl ?_
  refine Zm.l (fun _ _ k_ => z_aload_n dX8_postfix_43 rfl rfl k_) ?_
  refine zm_geti dX8_postfix_44 fsX8_392_1 (by decide) (by decide) ?_
  refine Zm.l (fun _ _ k_ => z_iconst (v := 1) dX8_postfix_47 rfl k_) ?_
  refine Zm.l (fun _ _ k_ => z_isub dX8_postfix_48 k_) ?_
  obtain ⟨b_, k⟩ := k
  refine zm_iald dX8_postfix_49 b_ (by decide) (by decide) ?_
  refine Zm.br (fun _ _ k1_ k2_ => z_icmp_eq (tgt := 55) dX8_postfix_50 rfl k1_ k2_) (fun h_ => ?_) (fun h_ => ?_)
  · have k := zit h_ k
    refine Zm.l (fun _ _ k_ => z_aload_n dX8_postfix_55 rfl rfl k_) ?_
    refine Zm.l (fun _ _ k_ => z_iload_n dX8_postfix_56 rfl rfl k_) ?_
    exact zm_callV (as := [vi l1]) (st := []) dX8_postfix_57 vsX8_463_1 (Nat.le_refl _) (Nat.le_of_ble_eq_true rfl) (Nat.le_of_ble_eq_true rfl) rfl k
  · have k := zif h_ k
    refine Zm.l (fun _ _ k_ => z_iload_n dX8_postfix_53 rfl rfl k_) ?_
    exact zm_iret dX8_postfix_54 rfl rfl k
theorem sX8_postfix_60 {E : zE} {d : Nat} {Q : zO → zM → Prop} (M : zM) (l1 : Int32) (s0 : Int32) (k : if s0 = 0 then (Zm E YX8_fail d M (zargs 0 [vr (some (97, 1, 0)), vi (3 : Int32)]) 0 [] (zma E YX8_postfix (d + 1) [] 65 3 [] Q)) else (vp_in (((gi M 97 20) + (1 : Int32)) - (1 : Int32)) 4002 ∧ (if (gi M 104 ((((gi M 97 20) + (1 : Int32)) - (1 : Int32))).toNatClampNeg) = (10 : Int32) then (Zm E YX8_node d (si M 97 20 ((gi M 97 20) + (1 : Int32))) (zargs 0 [vr (some (97, 1, 0)), vi (17 : Int32), vi (0 : Int32), vi l1, vi (0 : Int32)]) 0 [] (zma E YX8_postfix (d + 1) [] 107 3 [] Q)) else (Zm E YX8_node d (si M 97 20 ((gi M 97 20) + (1 : Int32))) (zargs 0 [vr (some (97, 1, 0)), vi (17 : Int32), vi (1 : Int32), vi l1, vi (0 : Int32)]) 0 [] (zma E YX8_postfix (d + 1) [] 107 3 [] Q))))) : Zm E YX8_postfix (d + 1) M [(0, vr (some (97, 1, 0))), (1, vi l1)] 60 [vi s0] Q := by
  refine Zm.brn (fun _ _ k1_ k2_ => z_if_ne (tgt := 71) dX8_postfix_60 rfl k1_ k2_) (fun h_ => ?_) (fun h_ => ?_)
  · have k := zif h_ k
    refine Zm.l (fun _ _ k_ => z_aload_n dX8_postfix_71 rfl rfl k_) ?_
    refine Zm.l (fun _ _ k_ => z_dup dX8_postfix_72 rfl k_) ?_
    refine zm_geti dX8_postfix_73 fsX8_392_1 (by decide) (by decide) ?_
    refine Zm.l (fun _ _ k_ => z_iconst (v := 1) dX8_postfix_76 rfl k_) ?_
    refine Zm.l (fun _ _ k_ => z_iadd dX8_postfix_77 k_) ?_
    refine zm_puti (by decide) (by decide) dX8_postfix_78 (zfwN.w fwX8_392_1) rfl ⟨rfl, rfl⟩ ?_
    refine Zm.l (fun _ _ k_ => z_aload_n dX8_postfix_81 rfl rfl k_) ?_
    refine Zm.l (fun _ _ k_ => z_bipush (v := 17) dX8_postfix_82 rfl k_) ?_
    refine Zm.l (fun _ _ k_ => z_aload_n dX8_postfix_84 rfl rfl k_) ?_
    refine zm_getr 6 dX8_postfix_85 fsX8_30_1 rfl ?_
    refine Zm.l (fun _ _ k_ => z_aload_n dX8_postfix_88 rfl rfl k_) ?_
    refine zm_geti dX8_postfix_89 fsX8_392_1 (by decide) (by decide) ?_
    refine Zm.l (fun _ _ k_ => z_iconst (v := 1) dX8_postfix_92 rfl k_) ?_
    refine Zm.l (fun _ _ k_ => z_isub dX8_postfix_93 k_) ?_
    obtain ⟨b_, k⟩ := k
    refine zm_iald dX8_postfix_94 b_ (by decide) (by decide) ?_
    refine Zm.l (fun _ _ k_ => z_bipush (v := 10) dX8_postfix_95 rfl k_) ?_
    refine Zm.brn (fun _ _ k1_ k2_ => z_icmp_ne (tgt := 104) dX8_postfix_97 rfl k1_ k2_) (fun h_ => ?_) (fun h_ => ?_)
    · have k := zif h_ k
      refine Zm.l (fun _ _ k_ => z_iconst (v := 1) dX8_postfix_104 rfl k_) ?_
      refine Zm.l (fun _ _ k_ => z_iload_n dX8_postfix_105 rfl rfl k_) ?_
      refine Zm.l (fun _ _ k_ => z_iconst (v := 0) dX8_postfix_106 rfl k_) ?_
      refine Zm.pick [] rfl ?_
      exact zm_callV (as := [vi (17 : Int32), vi (1 : Int32), vi l1, vi (0 : Int32)]) (st := []) dX8_postfix_107 vsX8_446_1 (Nat.le_refl _) (Nat.le_of_ble_eq_true rfl) (Nat.le_of_ble_eq_true rfl) rfl k
    · have k := zit h_ k
      refine Zm.l (fun _ _ k_ => z_iconst (v := 0) dX8_postfix_100 rfl k_) ?_
      refine Zm.l (fun _ _ k_ => z_goto (tgt := 105) dX8_postfix_101 rfl k_) ?_
      refine Zm.l (fun _ _ k_ => z_iload_n dX8_postfix_105 rfl rfl k_) ?_
      refine Zm.l (fun _ _ k_ => z_iconst (v := 0) dX8_postfix_106 rfl k_) ?_
      refine Zm.pick [] rfl ?_
      exact zm_callV (as := [vi (17 : Int32), vi (0 : Int32), vi l1, vi (0 : Int32)]) (st := []) dX8_postfix_107 vsX8_446_1 (Nat.le_refl _) (Nat.le_of_ble_eq_true rfl) (Nat.le_of_ble_eq_true rfl) rfl k
  · have k := zit h_ k
    refine Zm.l (fun _ _ k_ => z_aload_n dX8_postfix_63 rfl rfl k_) ?_
    refine Zm.l (fun _ _ k_ => z_iconst (v := 3) dX8_postfix_64 rfl k_) ?_
    refine Zm.pick [] rfl ?_
    exact zm_callV (as := [vi (3 : Int32)]) (st := []) dX8_postfix_65 vsX8_401_1 (Nat.le_refl _) (Nat.le_of_ble_eq_true rfl) (Nat.le_of_ble_eq_true rfl) rfl k
theorem sX8_postfix_68 {E : zE} {d : Nat} {Q : zO → zM → Prop} (M : zM) (s0 : Int32) (k : Q (.inl (some (vi (-1 : Int32)))) M) : Zm E YX8_postfix (d + 1) M [] 68 [vi s0] Q := by
  refine Zm.l (fun _ _ k_ => z_pop dX8_postfix_68 rfl k_) ?_
  refine Zm.l (fun _ _ k_ => z_iconst (v := -1) dX8_postfix_69 rfl k_) ?_
  exact zm_iret dX8_postfix_70 rfl rfl k
theorem sX8_postfix_110 {E : zE} {d : Nat} {Q : zO → zM → Prop} (M : zM) (s0 : Int32) (k : Q (.inl (some (vi s0))) M) : Zm E YX8_postfix (d + 1) M [] 110 [vi s0] Q := by
  exact zm_iret dX8_postfix_110 rfl rfl k
/-! ScriptTypesModel.left()I -/
theorem bX8_left_0 : zdec cX8_left 0 [(0, .aload_n 0, 1), (1, .bipush 16, 2), (3, .invokevirtual 404, 3), (6, .ifCond .eq 10, 3), (9, .aload_n 0, 1), (10, .invokevirtual 490, 3), (13, .goto 7, 3), (16, .aload_n 0, 1), (17, .invokevirtual 493, 3), (20, .istore_n 1, 1), (21, .aload_n 0, 1), (22, .getfield 389, 3), (25, .ifCond .ne 63, 3), (28, .aload_n 0, 1), (29, .bipush 30, 2), (31, .invokevirtual 398, 3)] = true := by decide +kernel
theorem dX8_left_0 : decode cX8_left 0 = .ok (.aload_n 0, 1) := zdec_at bX8_left_0 0 rfl
theorem dX8_left_1 : decode cX8_left 1 = .ok (.bipush 16, 2) := zdec_at bX8_left_0 1 rfl
theorem dX8_left_3 : decode cX8_left 3 = .ok (.invokevirtual 404, 3) := zdec_at bX8_left_0 2 rfl
theorem dX8_left_6 : decode cX8_left 6 = .ok (.ifCond .eq 10, 3) := zdec_at bX8_left_0 3 rfl
theorem dX8_left_9 : decode cX8_left 9 = .ok (.aload_n 0, 1) := zdec_at bX8_left_0 4 rfl
theorem dX8_left_10 : decode cX8_left 10 = .ok (.invokevirtual 490, 3) := zdec_at bX8_left_0 5 rfl
theorem dX8_left_13 : decode cX8_left 13 = .ok (.goto 7, 3) := zdec_at bX8_left_0 6 rfl
theorem dX8_left_16 : decode cX8_left 16 = .ok (.aload_n 0, 1) := zdec_at bX8_left_0 7 rfl
theorem dX8_left_17 : decode cX8_left 17 = .ok (.invokevirtual 493, 3) := zdec_at bX8_left_0 8 rfl
theorem dX8_left_20 : decode cX8_left 20 = .ok (.istore_n 1, 1) := zdec_at bX8_left_0 9 rfl
theorem dX8_left_21 : decode cX8_left 21 = .ok (.aload_n 0, 1) := zdec_at bX8_left_0 10 rfl
theorem dX8_left_22 : decode cX8_left 22 = .ok (.getfield 389, 3) := zdec_at bX8_left_0 11 rfl
theorem dX8_left_25 : decode cX8_left 25 = .ok (.ifCond .ne 63, 3) := zdec_at bX8_left_0 12 rfl
theorem dX8_left_28 : decode cX8_left 28 = .ok (.aload_n 0, 1) := zdec_at bX8_left_0 13 rfl
theorem dX8_left_29 : decode cX8_left 29 = .ok (.bipush 30, 2) := zdec_at bX8_left_0 14 rfl
theorem dX8_left_31 : decode cX8_left 31 = .ok (.invokevirtual 398, 3) := zdec_at bX8_left_0 15 rfl
theorem bX8_left_34 : zdec cX8_left 34 [(34, .ifCond .ne 21, 3), (37, .aload_n 0, 1), (38, .bipush 28, 2), (40, .invokevirtual 398, 3), (43, .ifCond .ne 12, 3), (46, .aload_n 0, 1), (47, .bipush 26, 2), (49, .invokevirtual 398, 3), (52, .ifCond .eq 36, 3), (55, .aload_n 0, 1), (56, .bipush 26, 2), (58, .invokevirtual 398, 3), (61, .ifCond .eq 18, 3), (64, .aload_n 0, 1), (65, .bipush 8, 2), (67, .iload_n 1, 1)] = true := by decide +kernel
theorem dX8_left_34 : decode cX8_left 34 = .ok (.ifCond .ne 21, 3) := zdec_at bX8_left_34 0 rfl
theorem dX8_left_37 : decode cX8_left 37 = .ok (.aload_n 0, 1) := zdec_at bX8_left_34 1 rfl
theorem dX8_left_38 : decode cX8_left 38 = .ok (.bipush 28, 2) := zdec_at bX8_left_34 2 rfl
theorem dX8_left_40 : decode cX8_left 40 = .ok (.invokevirtual 398, 3) := zdec_at bX8_left_34 3 rfl
theorem dX8_left_43 : decode cX8_left 43 = .ok (.ifCond .ne 12, 3) := zdec_at bX8_left_34 4 rfl
theorem dX8_left_46 : decode cX8_left 46 = .ok (.aload_n 0, 1) := zdec_at bX8_left_34 5 rfl
theorem dX8_left_47 : decode cX8_left 47 = .ok (.bipush 26, 2) := zdec_at bX8_left_34 6 rfl
theorem dX8_left_49 : decode cX8_left 49 = .ok (.invokevirtual 398, 3) := zdec_at bX8_left_34 7 rfl
theorem dX8_left_52 : decode cX8_left 52 = .ok (.ifCond .eq 36, 3) := zdec_at bX8_left_34 8 rfl
theorem dX8_left_55 : decode cX8_left 55 = .ok (.aload_n 0, 1) := zdec_at bX8_left_34 9 rfl
theorem dX8_left_56 : decode cX8_left 56 = .ok (.bipush 26, 2) := zdec_at bX8_left_34 10 rfl
theorem dX8_left_58 : decode cX8_left 58 = .ok (.invokevirtual 398, 3) := zdec_at bX8_left_34 11 rfl
theorem dX8_left_61 : decode cX8_left 61 = .ok (.ifCond .eq 18, 3) := zdec_at bX8_left_34 12 rfl
theorem dX8_left_64 : decode cX8_left 64 = .ok (.aload_n 0, 1) := zdec_at bX8_left_34 13 rfl
theorem dX8_left_65 : decode cX8_left 65 = .ok (.bipush 8, 2) := zdec_at bX8_left_34 14 rfl
theorem dX8_left_67 : decode cX8_left 67 = .ok (.iload_n 1, 1) := zdec_at bX8_left_34 15 rfl
theorem bX8_left_68 : zdec cX8_left 68 [(68, .aload_n 0, 1), (69, .invokevirtual 496, 3), (72, .iconst 0, 1), (73, .invokevirtual 446, 3), (76, .goto 8, 3), (79, .aload_n 0, 1), (80, .iload_n 1, 1), (81, .invokevirtual 499, 3), (84, .istore_n 1, 1), (85, .goto (-64), 3), (88, .iload_n 1, 1), (89, .ireturn, 1)] = true := by decide +kernel
theorem dX8_left_68 : decode cX8_left 68 = .ok (.aload_n 0, 1) := zdec_at bX8_left_68 0 rfl
theorem dX8_left_69 : decode cX8_left 69 = .ok (.invokevirtual 496, 3) := zdec_at bX8_left_68 1 rfl
theorem dX8_left_72 : decode cX8_left 72 = .ok (.iconst 0, 1) := zdec_at bX8_left_68 2 rfl
theorem dX8_left_73 : decode cX8_left 73 = .ok (.invokevirtual 446, 3) := zdec_at bX8_left_68 3 rfl
theorem dX8_left_76 : decode cX8_left 76 = .ok (.goto 8, 3) := zdec_at bX8_left_68 4 rfl
theorem dX8_left_79 : decode cX8_left 79 = .ok (.aload_n 0, 1) := zdec_at bX8_left_68 5 rfl
theorem dX8_left_80 : decode cX8_left 80 = .ok (.iload_n 1, 1) := zdec_at bX8_left_68 6 rfl
theorem dX8_left_81 : decode cX8_left 81 = .ok (.invokevirtual 499, 3) := zdec_at bX8_left_68 7 rfl
theorem dX8_left_84 : decode cX8_left 84 = .ok (.istore_n 1, 1) := zdec_at bX8_left_68 8 rfl
theorem dX8_left_85 : decode cX8_left 85 = .ok (.goto (-64), 3) := zdec_at bX8_left_68 9 rfl
theorem dX8_left_88 : decode cX8_left 88 = .ok (.iload_n 1, 1) := zdec_at bX8_left_68 10 rfl
theorem dX8_left_89 : decode cX8_left 89 = .ok (.ireturn, 1) := zdec_at bX8_left_68 11 rfl
theorem sX8_left_0 {E : zE} {d : Nat} {Q : zO → zM → Prop} (M : zM)  (k : Zm E YX8_isKeyword d M (zargs 0 [vr (some (97, 1, 0)), vi (16 : Int32)]) 0 [] (zma E YX8_left (d + 1) [(0, vr (some (97, 1, 0)))] 3 3 [] Q)) : Zm E YX8_left (d + 1) M [(0, vr (some (97, 1, 0)))] 0 [] Q := by
  refine Zm.l (fun _ _ k_ => z_aload_n dX8_left_0 rfl rfl k_) ?_
  refine Zm.l (fun _ _ k_ => z_bipush (v := 16) dX8_left_1 rfl k_) ?_
  exact zm_callV (as := [vi (16 : Int32)]) (st := []) dX8_left_3 vsX8_404_1 (Nat.le_refl _) (Nat.le_of_ble_eq_true rfl) (Nat.le_of_ble_eq_true rfl) rfl k
theorem sX8_left_6 {E : zE} {d : Nat} {Q : zO → zM → Prop} (M : zM) (s0 : Int32) (k : if s0 = 0 then (Zm E YX8_primary d M (zargs 0 [vr (some (97, 1, 0))]) 0 [] (zma E YX8_left (d + 1) [(0, vr (some (97, 1, 0)))] 17 3 [] Q)) else (Zm E YX8_fresh d M (zargs 0 [vr (some (97, 1, 0))]) 0 [] (zma E YX8_left (d + 1) [(0, vr (some (97, 1, 0)))] 10 3 [] Q))) : Zm E YX8_left (d + 1) M [(0, vr (some (97, 1, 0)))] 6 [vi s0] Q := by
  refine Zm.br (fun _ _ k1_ k2_ => z_if_eq (tgt := 16) dX8_left_6 rfl k1_ k2_) (fun h_ => ?_) (fun h_ => ?_)
  · have k := zit h_ k
    refine Zm.l (fun _ _ k_ => z_aload_n dX8_left_16 rfl rfl k_) ?_
    exact zm_callV (as := []) (st := []) dX8_left_17 vsX8_493_1 (Nat.le_refl _) (Nat.le_of_ble_eq_true rfl) (Nat.le_of_ble_eq_true rfl) rfl k
  · have k := zif h_ k
    refine Zm.l (fun _ _ k_ => z_aload_n dX8_left_9 rfl rfl k_) ?_
    exact zm_callV (as := []) (st := []) dX8_left_10 vsX8_490_1 (Nat.le_refl _) (Nat.le_of_ble_eq_true rfl) (Nat.le_of_ble_eq_true rfl) rfl k
theorem sX8_left_13 {E : zE} {d : Nat} {Q : zO → zM → Prop} (M : zM) (s0 : Int32) (k : Zm E YX8_left (d + 1) M [(0, vr (some (97, 1, 0)))] 20 [vi s0] Q) : Zm E YX8_left (d + 1) M [(0, vr (some (97, 1, 0)))] 13 [vi s0] Q := by
  refine Zm.l (fun _ _ k_ => z_goto (tgt := 20) dX8_left_13 rfl k_) ?_
  exact k
theorem sX8_left_20 {E : zE} {d : Nat} {Q : zO → zM → Prop} (M : zM) (s0 : Int32) (k : Zm E YX8_left (d + 1) M [(0, vr (some (97, 1, 0))), (1, vi s0)] 21 [] Q) : Zm E YX8_left (d + 1) M [(0, vr (some (97, 1, 0)))] 20 [vi s0] Q := by
  refine Zm.l (fun _ _ k_ => z_ist_n dX8_left_20 rfl (by decide) (lv' := [(0, vr (some (97, 1, 0))), (1, vi s0)]) rfl k_) ?_
  exact k
theorem sX8_left_21 {E : zE} {d : Nat} {Q : zO → zM → Prop} (M : zM) (l1 : Int32) (k : if (gi M 97 21) = 0 then (Zm E YX8_isSign d M (zargs 0 [vr (some (97, 1, 0)), vi (30 : Int32)]) 0 [] (zma E YX8_left (d + 1) [(0, vr (some (97, 1, 0))), (1, vi l1)] 31 3 [] Q)) else (Q (.inl (some (vi l1))) M)) : Zm E YX8_left (d + 1) M [(0, vr (some (97, 1, 0))), (1, vi l1)] 21 [] Q := by
  refine Zm.l (fun _ _ k_ => z_aload_n dX8_left_21 rfl rfl k_) ?_
  refine zm_geti dX8_left_22 fsX8_389_1 (by decide) (by decide) ?_
  refine Zm.brn (fun _ _ k1_ k2_ => z_if_ne (tgt := 88) dX8_left_25 rfl k1_ k2_) (fun h_ => ?_) (fun h_ => ?_)
  · have k := zif h_ k
    refine Zm.l (fun _ _ k_ => z_iload_n dX8_left_88 rfl rfl k_) ?_
    exact zm_iret dX8_left_89 rfl rfl k
  · have k := zit h_ k
    refine Zm.l (fun _ _ k_ => z_aload_n dX8_left_28 rfl rfl k_) ?_
    refine Zm.l (fun _ _ k_ => z_bipush (v := 30) dX8_left_29 rfl k_) ?_
    exact zm_callV (as := [vi (30 : Int32)]) (st := []) dX8_left_31 vsX8_398_1 (Nat.le_refl _) (Nat.le_of_ble_eq_true rfl) (Nat.le_of_ble_eq_true rfl) rfl k
theorem sX8_left_34 {E : zE} {d : Nat} {Q : zO → zM → Prop} (M : zM) (l1 : Int32) (s0 : Int32) (k : if s0 = 0 then (Zm E YX8_isSign d M (zargs 0 [vr (some (97, 1, 0)), vi (28 : Int32)]) 0 [] (zma E YX8_left (d + 1) [(0, vr (some (97, 1, 0))), (1, vi l1)] 40 3 [] Q)) else (Zm E YX8_isSign d M (zargs 0 [vr (some (97, 1, 0)), vi (26 : Int32)]) 0 [] (zma E YX8_left (d + 1) [(0, vr (some (97, 1, 0))), (1, vi l1)] 58 3 [] Q))) : Zm E YX8_left (d + 1) M [(0, vr (some (97, 1, 0))), (1, vi l1)] 34 [vi s0] Q := by
  refine Zm.brn (fun _ _ k1_ k2_ => z_if_ne (tgt := 55) dX8_left_34 rfl k1_ k2_) (fun h_ => ?_) (fun h_ => ?_)
  · have k := zif h_ k
    refine Zm.l (fun _ _ k_ => z_aload_n dX8_left_55 rfl rfl k_) ?_
    refine Zm.l (fun _ _ k_ => z_bipush (v := 26) dX8_left_56 rfl k_) ?_
    exact zm_callV (as := [vi (26 : Int32)]) (st := []) dX8_left_58 vsX8_398_1 (Nat.le_refl _) (Nat.le_of_ble_eq_true rfl) (Nat.le_of_ble_eq_true rfl) rfl k
  · have k := zit h_ k
    refine Zm.l (fun _ _ k_ => z_aload_n dX8_left_37 rfl rfl k_) ?_
    refine Zm.l (fun _ _ k_ => z_bipush (v := 28) dX8_left_38 rfl k_) ?_
    exact zm_callV (as := [vi (28 : Int32)]) (st := []) dX8_left_40 vsX8_398_1 (Nat.le_refl _) (Nat.le_of_ble_eq_true rfl) (Nat.le_of_ble_eq_true rfl) rfl k
theorem sX8_left_43 {E : zE} {d : Nat} {Q : zO → zM → Prop} (M : zM) (l1 : Int32) (s0 : Int32) (k : if s0 = 0 then (Zm E YX8_isSign d M (zargs 0 [vr (some (97, 1, 0)), vi (26 : Int32)]) 0 [] (zma E YX8_left (d + 1) [(0, vr (some (97, 1, 0))), (1, vi l1)] 49 3 [] Q)) else (Zm E YX8_isSign d M (zargs 0 [vr (some (97, 1, 0)), vi (26 : Int32)]) 0 [] (zma E YX8_left (d + 1) [(0, vr (some (97, 1, 0))), (1, vi l1)] 58 3 [] Q))) : Zm E YX8_left (d + 1) M [(0, vr (some (97, 1, 0))), (1, vi l1)] 43 [vi s0] Q := by
  refine Zm.brn (fun _ _ k1_ k2_ => z_if_ne (tgt := 55) dX8_left_43 rfl k1_ k2_) (fun h_ => ?_) (fun h_ => ?_)
  · have k := zif h_ k
    refine Zm.l (fun _ _ k_ => z_aload_n dX8_left_55 rfl rfl k_) ?_
    refine Zm.l (fun _ _ k_ => z_bipush (v := 26) dX8_left_56 rfl k_) ?_
    exact zm_callV (as := [vi (26 : Int32)]) (st := []) dX8_left_58 vsX8_398_1 (Nat.le_refl _) (Nat.le_of_ble_eq_true rfl) (Nat.le_of_ble_eq_true rfl) rfl k
  · have k := zit h_ k
    refine Zm.l (fun _ _ k_ => z_aload_n dX8_left_46 rfl rfl k_) ?_
    refine Zm.l (fun _ _ k_ => z_bipush (v := 26) dX8_left_47 rfl k_) ?_
    exact zm_callV (as := [vi (26 : Int32)]) (st := []) dX8_left_49 vsX8_398_1 (Nat.le_refl _) (Nat.le_of_ble_eq_true rfl) (Nat.le_of_ble_eq_true rfl) rfl k
theorem sX8_left_52 {E : zE} {d : Nat} {Q : zO → zM → Prop} (M : zM) (l1 : Int32) (s0 : Int32) (k : if s0 = 0 then (Q (.inl (some (vi l1))) M) else (Zm E YX8_isSign d M (zargs 0 [vr (some (97, 1, 0)), vi (26 : Int32)]) 0 [] (zma E YX8_left (d + 1) [(0, vr (some (97, 1, 0))), (1, vi l1)] 58 3 [] Q))) : Zm E YX8_left (d + 1) M [(0, vr (some (97, 1, 0))), (1, vi l1)] 52 [vi s0] Q := by
  refine Zm.br (fun _ _ k1_ k2_ => z_if_eq (tgt := 88) dX8_left_52 rfl k1_ k2_) (fun h_ => ?_) (fun h_ => ?_)
  · have k := zit h_ k
    refine Zm.l (fun _ _ k_ => z_iload_n dX8_left_88 rfl rfl k_) ?_
    exact zm_iret dX8_left_89 rfl rfl k
  · have k := zif h_ k
    refine Zm.l (fun _ _ k_ => z_aload_n dX8_left_55 rfl rfl k_) ?_
    refine Zm.l (fun _ _ k_ => z_bipush (v := 26) dX8_left_56 rfl k_) ?_
    exact zm_callV (as := [vi (26 : Int32)]) (st := []) dX8_left_58 vsX8_398_1 (Nat.le_refl _) (Nat.le_of_ble_eq_true rfl) (Nat.le_of_ble_eq_true rfl) rfl k
theorem sX8_left_61 {E : zE} {d : Nat} {Q : zO → zM → Prop} (M : zM) (l1 : Int32) (s0 : Int32) (k : if s0 = 0 then (Zm E YX8_member d M (zargs 0 [vr (some (97, 1, 0)), vi l1]) 0 [] (zma E YX8_left (d + 1) [(0, vr (some (97, 1, 0)))] 81 3 [] Q)) else (Zm E YX8_arguments d M (zargs 0 [vr (some (97, 1, 0))]) 0 [] (zma E YX8_left (d + 1) [(0, vr (some (97, 1, 0)))] 69 3 [vi l1, vi (8 : Int32), vr (some (97, 1, 0))] Q))) : Zm E YX8_left (d + 1) M [(0, vr (some (97, 1, 0))), (1, vi l1)] 61 [vi s0] Q := by
  refine Zm.br (fun _ _ k1_ k2_ => z_if_eq (tgt := 79) dX8_left_61 rfl k1_ k2_) (fun h_ => ?_) (fun h_ => ?_)
  · have k := zit h_ k
    refine Zm.l (fun _ _ k_ => z_aload_n dX8_left_79 rfl rfl k_) ?_
    refine Zm.l (fun _ _ k_ => z_iload_n dX8_left_80 rfl rfl k_) ?_
    refine Zm.pick [0] rfl ?_
    exact zm_callV (as := [vi l1]) (st := []) dX8_left_81 vsX8_499_1 (Nat.le_refl _) (Nat.le_of_ble_eq_true rfl) (Nat.le_of_ble_eq_true rfl) rfl k
  · have k := zif h_ k
    refine Zm.l (fun _ _ k_ => z_aload_n dX8_left_64 rfl rfl k_) ?_
    refine Zm.l (fun _ _ k_ => z_bipush (v := 8) dX8_left_65 rfl k_) ?_
    refine Zm.l (fun _ _ k_ => z_iload_n dX8_left_67 rfl rfl k_) ?_
    refine Zm.l (fun _ _ k_ => z_aload_n dX8_left_68 rfl rfl k_) ?_
    refine Zm.pick [0] rfl ?_
    exact zm_callV (as := []) (st := [vi l1, vi (8 : Int32), vr (some (97, 1, 0))]) dX8_left_69 vsX8_496_1 (Nat.le_refl _) (Nat.le_of_ble_eq_true rfl) (Nat.le_of_ble_eq_true rfl) rfl k
theorem sX8_left_72 {E : zE} {d : Nat} {Q : zO → zM → Prop} (M : zM) (s0 : Int32) (s1 : Int32) (s2 : Int32) (k : Zm E YX8_node d M (zargs 0 [vr (some (97, 1, 0)), vi s2, vi s1, vi s0, vi (0 : Int32)]) 0 [] (zma E YX8_left (d + 1) [(0, vr (some (97, 1, 0)))] 73 3 [] Q)) : Zm E YX8_left (d + 1) M [(0, vr (some (97, 1, 0)))] 72 [vi s0, vi s1, vi s2, vr (some (97, 1, 0))] Q := by
  refine Zm.l (fun _ _ k_ => z_iconst (v := 0) dX8_left_72 rfl k_) ?_
  exact zm_callV (as := [vi s2, vi s1, vi s0, vi (0 : Int32)]) (st := []) dX8_left_73 vsX8_446_1 (Nat.le_refl _) (Nat.le_of_ble_eq_true rfl) (Nat.le_of_ble_eq_true rfl) rfl k
theorem sX8_left_76 {E : zE} {d : Nat} {Q : zO → zM → Prop} (M : zM) (s0 : Int32) (k : Zm E YX8_left (d + 1) M [(0, vr (some (97, 1, 0)))] 84 [vi s0] Q) : Zm E YX8_left (d + 1) M [(0, vr (some (97, 1, 0)))] 76 [vi s0] Q := by
  refine Zm.l (fun _ _ k_ => z_goto (tgt := 84) dX8_left_76 rfl k_) ?_
  exact k
theorem sX8_left_84 {E : zE} {d : Nat} {Q : zO → zM → Prop} (M : zM) (s0 : Int32) (k : Zm E YX8_left (d + 1) M [(0, vr (some (97, 1, 0))), (1, vi s0)] 21 [] Q) : Zm E YX8_left (d + 1) M [(0, vr (some (97, 1, 0)))] 84 [vi s0] Q := by
  refine Zm.l (fun _ _ k_ => z_ist_n dX8_left_84 rfl (by decide) (lv' := [(0, vr (some (97, 1, 0))), (1, vi s0)]) rfl k_) ?_
  refine Zm.l (fun _ _ k_ => z_goto (tgt := 21) dX8_left_85 rfl k_) ?_
  exact k
/-! ScriptTypesModel.fresh()I -/
theorem bX8_fresh_0 : zdec cX8_fresh 0 [(0, .aload_n 0, 1), (1, .iconst 1, 1), (2, .invokevirtual 450, 3), (5, .aload_n 0, 1), (6, .dup, 1), (7, .getfield 392, 3), (10, .iconst 1, 1), (11, .iadd, 1), (12, .putfield 392, 3), (15, .aload_n 0, 1), (16, .getfield 389, 3), (19, .ifCond .le 7, 3), (22, .iconst (-1), 1), (23, .goto 23, 3), (26, .aload_n 0, 1), (27, .bipush 16, 2)] = true := by decide +kernel
theorem dX8_fresh_0 : decode cX8_fresh 0 = .ok (.aload_n 0, 1) := zdec_at bX8_fresh_0 0 rfl
theorem dX8_fresh_1 : decode cX8_fresh 1 = .ok (.iconst 1, 1) := zdec_at bX8_fresh_0 1 rfl
theorem dX8_fresh_2 : decode cX8_fresh 2 = .ok (.invokevirtual 450, 3) := zdec_at bX8_fresh_0 2 rfl
theorem dX8_fresh_5 : decode cX8_fresh 5 = .ok (.aload_n 0, 1) := zdec_at bX8_fresh_0 3 rfl
theorem dX8_fresh_6 : decode cX8_fresh 6 = .ok (.dup, 1) := zdec_at bX8_fresh_0 4 rfl
theorem dX8_fresh_7 : decode cX8_fresh 7 = .ok (.getfield 392, 3) := zdec_at bX8_fresh_0 5 rfl
theorem dX8_fresh_10 : decode cX8_fresh 10 = .ok (.iconst 1, 1) := zdec_at bX8_fresh_0 6 rfl
theorem dX8_fresh_11 : decode cX8_fresh 11 = .ok (.iadd, 1) := zdec_at bX8_fresh_0 7 rfl
theorem dX8_fresh_12 : decode cX8_fresh 12 = .ok (.putfield 392, 3) := zdec_at bX8_fresh_0 8 rfl
theorem dX8_fresh_15 : decode cX8_fresh 15 = .ok (.aload_n 0, 1) := zdec_at bX8_fresh_0 9 rfl
theorem dX8_fresh_16 : decode cX8_fresh 16 = .ok (.getfield 389, 3) := zdec_at bX8_fresh_0 10 rfl
theorem dX8_fresh_19 : decode cX8_fresh 19 = .ok (.ifCond .le 7, 3) := zdec_at bX8_fresh_0 11 rfl
theorem dX8_fresh_22 : decode cX8_fresh 22 = .ok (.iconst (-1), 1) := zdec_at bX8_fresh_0 12 rfl
theorem dX8_fresh_23 : decode cX8_fresh 23 = .ok (.goto 23, 3) := zdec_at bX8_fresh_0 13 rfl
theorem dX8_fresh_26 : decode cX8_fresh 26 = .ok (.aload_n 0, 1) := zdec_at bX8_fresh_0 14 rfl
theorem dX8_fresh_27 : decode cX8_fresh 27 = .ok (.bipush 16, 2) := zdec_at bX8_fresh_0 15 rfl
theorem bX8_fresh_29 : zdec cX8_fresh 29 [(29, .invokevirtual 404, 3), (32, .ifCond .eq 10, 3), (35, .aload_n 0, 1), (36, .invokevirtual 490, 3), (39, .goto 7, 3), (42, .aload_n 0, 1), (43, .invokevirtual 493, 3), (46, .istore_n 1, 1), (47, .aload_n 0, 1), (48, .getfield 389, 3), (51, .ifCond .ne 30, 3), (54, .aload_n 0, 1), (55, .bipush 30, 2), (57, .invokevirtual 398, 3), (60, .ifCond .ne 12, 3), (63, .aload_n 0, 1)] = true := by decide +kernel
theorem dX8_fresh_29 : decode cX8_fresh 29 = .ok (.invokevirtual 404, 3) := zdec_at bX8_fresh_29 0 rfl
theorem dX8_fresh_32 : decode cX8_fresh 32 = .ok (.ifCond .eq 10, 3) := zdec_at bX8_fresh_29 1 rfl
theorem dX8_fresh_35 : decode cX8_fresh 35 = .ok (.aload_n 0, 1) := zdec_at bX8_fresh_29 2 rfl
theorem dX8_fresh_36 : decode cX8_fresh 36 = .ok (.invokevirtual 490, 3) := zdec_at bX8_fresh_29 3 rfl
theorem dX8_fresh_39 : decode cX8_fresh 39 = .ok (.goto 7, 3) := zdec_at bX8_fresh_29 4 rfl
theorem dX8_fresh_42 : decode cX8_fresh 42 = .ok (.aload_n 0, 1) := zdec_at bX8_fresh_29 5 rfl
theorem dX8_fresh_43 : decode cX8_fresh 43 = .ok (.invokevirtual 493, 3) := zdec_at bX8_fresh_29 6 rfl
theorem dX8_fresh_46 : decode cX8_fresh 46 = .ok (.istore_n 1, 1) := zdec_at bX8_fresh_29 7 rfl
theorem dX8_fresh_47 : decode cX8_fresh 47 = .ok (.aload_n 0, 1) := zdec_at bX8_fresh_29 8 rfl
theorem dX8_fresh_48 : decode cX8_fresh 48 = .ok (.getfield 389, 3) := zdec_at bX8_fresh_29 9 rfl
theorem dX8_fresh_51 : decode cX8_fresh 51 = .ok (.ifCond .ne 30, 3) := zdec_at bX8_fresh_29 10 rfl
theorem dX8_fresh_54 : decode cX8_fresh 54 = .ok (.aload_n 0, 1) := zdec_at bX8_fresh_29 11 rfl
theorem dX8_fresh_55 : decode cX8_fresh 55 = .ok (.bipush 30, 2) := zdec_at bX8_fresh_29 12 rfl
theorem dX8_fresh_57 : decode cX8_fresh 57 = .ok (.invokevirtual 398, 3) := zdec_at bX8_fresh_29 13 rfl
theorem dX8_fresh_60 : decode cX8_fresh 60 = .ok (.ifCond .ne 12, 3) := zdec_at bX8_fresh_29 14 rfl
theorem dX8_fresh_63 : decode cX8_fresh 63 = .ok (.aload_n 0, 1) := zdec_at bX8_fresh_29 15 rfl
theorem bX8_fresh_64 : zdec cX8_fresh 64 [(64, .bipush 28, 2), (66, .invokevirtual 398, 3), (69, .ifCond .eq 12, 3), (72, .aload_n 0, 1), (73, .iload_n 1, 1), (74, .invokevirtual 499, 3), (77, .istore_n 1, 1), (78, .goto (-31), 3), (81, .aload_n 0, 1), (82, .getfield 389, 3), (85, .ifCond .ne 19, 3), (88, .aload_n 0, 1), (89, .bipush 26, 2), (91, .invokevirtual 398, 3), (94, .ifCond .eq 10, 3), (97, .aload_n 0, 1)] = true := by decide +kernel
theorem dX8_fresh_64 : decode cX8_fresh 64 = .ok (.bipush 28, 2) := zdec_at bX8_fresh_64 0 rfl
theorem dX8_fresh_66 : decode cX8_fresh 66 = .ok (.invokevirtual 398, 3) := zdec_at bX8_fresh_64 1 rfl
theorem dX8_fresh_69 : decode cX8_fresh 69 = .ok (.ifCond .eq 12, 3) := zdec_at bX8_fresh_64 2 rfl
theorem dX8_fresh_72 : decode cX8_fresh 72 = .ok (.aload_n 0, 1) := zdec_at bX8_fresh_64 3 rfl
theorem dX8_fresh_73 : decode cX8_fresh 73 = .ok (.iload_n 1, 1) := zdec_at bX8_fresh_64 4 rfl
theorem dX8_fresh_74 : decode cX8_fresh 74 = .ok (.invokevirtual 499, 3) := zdec_at bX8_fresh_64 5 rfl
theorem dX8_fresh_77 : decode cX8_fresh 77 = .ok (.istore_n 1, 1) := zdec_at bX8_fresh_64 6 rfl
theorem dX8_fresh_78 : decode cX8_fresh 78 = .ok (.goto (-31), 3) := zdec_at bX8_fresh_64 7 rfl
theorem dX8_fresh_81 : decode cX8_fresh 81 = .ok (.aload_n 0, 1) := zdec_at bX8_fresh_64 8 rfl
theorem dX8_fresh_82 : decode cX8_fresh 82 = .ok (.getfield 389, 3) := zdec_at bX8_fresh_64 9 rfl
theorem dX8_fresh_85 : decode cX8_fresh 85 = .ok (.ifCond .ne 19, 3) := zdec_at bX8_fresh_64 10 rfl
theorem dX8_fresh_88 : decode cX8_fresh 88 = .ok (.aload_n 0, 1) := zdec_at bX8_fresh_64 11 rfl
theorem dX8_fresh_89 : decode cX8_fresh 89 = .ok (.bipush 26, 2) := zdec_at bX8_fresh_64 12 rfl
theorem dX8_fresh_91 : decode cX8_fresh 91 = .ok (.invokevirtual 398, 3) := zdec_at bX8_fresh_64 13 rfl
theorem dX8_fresh_94 : decode cX8_fresh 94 = .ok (.ifCond .eq 10, 3) := zdec_at bX8_fresh_64 14 rfl
theorem dX8_fresh_97 : decode cX8_fresh 97 = .ok (.aload_n 0, 1) := zdec_at bX8_fresh_64 15 rfl
theorem bX8_fresh_98 : zdec cX8_fresh 98 [(98, .invokevirtual 496, 3), (101, .goto 4, 3), (104, .iconst (-1), 1), (105, .istore_n 2, 1), (106, .aload_n 0, 1), (107, .invokevirtual 454, 3), (110, .aload_n 0, 1), (111, .bipush 9, 2), (113, .iload_n 1, 1), (114, .iload_n 2, 1), (115, .iconst 0, 1), (116, .invokevirtual 446, 3), (119, .ireturn, 1)] = true := by decide +kernel
theorem dX8_fresh_98 : decode cX8_fresh 98 = .ok (.invokevirtual 496, 3) := zdec_at bX8_fresh_98 0 rfl
theorem dX8_fresh_101 : decode cX8_fresh 101 = .ok (.goto 4, 3) := zdec_at bX8_fresh_98 1 rfl
theorem dX8_fresh_104 : decode cX8_fresh 104 = .ok (.iconst (-1), 1) := zdec_at bX8_fresh_98 2 rfl
theorem dX8_fresh_105 : decode cX8_fresh 105 = .ok (.istore_n 2, 1) := zdec_at bX8_fresh_98 3 rfl
theorem dX8_fresh_106 : decode cX8_fresh 106 = .ok (.aload_n 0, 1) := zdec_at bX8_fresh_98 4 rfl
theorem dX8_fresh_107 : decode cX8_fresh 107 = .ok (.invokevirtual 454, 3) := zdec_at bX8_fresh_98 5 rfl
theorem dX8_fresh_110 : decode cX8_fresh 110 = .ok (.aload_n 0, 1) := zdec_at bX8_fresh_98 6 rfl
theorem dX8_fresh_111 : decode cX8_fresh 111 = .ok (.bipush 9, 2) := zdec_at bX8_fresh_98 7 rfl
theorem dX8_fresh_113 : decode cX8_fresh 113 = .ok (.iload_n 1, 1) := zdec_at bX8_fresh_98 8 rfl
theorem dX8_fresh_114 : decode cX8_fresh 114 = .ok (.iload_n 2, 1) := zdec_at bX8_fresh_98 9 rfl
theorem dX8_fresh_115 : decode cX8_fresh 115 = .ok (.iconst 0, 1) := zdec_at bX8_fresh_98 10 rfl
theorem dX8_fresh_116 : decode cX8_fresh 116 = .ok (.invokevirtual 446, 3) := zdec_at bX8_fresh_98 11 rfl
theorem dX8_fresh_119 : decode cX8_fresh 119 = .ok (.ireturn, 1) := zdec_at bX8_fresh_98 12 rfl
theorem sX8_fresh_0 {E : zE} {d : Nat} {Q : zO → zM → Prop} (M : zM)  (k : Zm E YX8_open d M (zargs 0 [vr (some (97, 1, 0)), vi (1 : Int32)]) 0 [] (zma E YX8_fresh (d + 1) [(0, vr (some (97, 1, 0)))] 2 3 [] Q)) : Zm E YX8_fresh (d + 1) M [(0, vr (some (97, 1, 0)))] 0 [] Q := by
  refine Zm.l (fun _ _ k_ => z_aload_n dX8_fresh_0 rfl rfl k_) ?_
  refine Zm.l (fun _ _ k_ => z_iconst (v := 1) dX8_fresh_1 rfl k_) ?_
  exact zm_callV (as := [vi (1 : Int32)]) (st := []) dX8_fresh_2 vsX8_450_1 (Nat.le_refl _) (Nat.le_of_ble_eq_true rfl) (Nat.le_of_ble_eq_true rfl) rfl k
theorem sX8_fresh_5 {E : zE} {d : Nat} {Q : zO → zM → Prop} (M : zM)  (k : if (gi M 97 21) ≤ 0 then (Zm E YX8_isKeyword d (si M 97 20 ((gi M 97 20) + (1 : Int32))) (zargs 0 [vr (some (97, 1, 0)), vi (16 : Int32)]) 0 [] (zma E YX8_fresh (d + 1) [(0, vr (some (97, 1, 0)))] 29 3 [] Q)) else (Zm E YX8_fresh (d + 1) (si M 97 20 ((gi M 97 20) + (1 : Int32))) [(0, vr (some (97, 1, 0)))] 46 [vi (-1 : Int32)] Q)) : Zm E YX8_fresh (d + 1) M [(0, vr (some (97, 1, 0)))] 5 [] Q := by
  refine Zm.l (fun _ _ k_ => z_aload_n dX8_fresh_5 rfl rfl k_) ?_
  refine Zm.l (fun _ _ k_ => z_dup dX8_fresh_6 rfl k_) ?_
  refine zm_geti dX8_fresh_7 fsX8_392_1 (by decide) (by decide) ?_
  refine Zm.l (fun _ _ k_ => z_iconst (v := 1) dX8_fresh_10 rfl k_) ?_
  refine Zm.l (fun _ _ k_ => z_iadd dX8_fresh_11 k_) ?_
  refine zm_puti (by decide) (by decide) dX8_fresh_12 (zfwN.w fwX8_392_1) rfl ⟨rfl, rfl⟩ ?_
  refine Zm.l (fun _ _ k_ => z_aload_n dX8_fresh_15 rfl rfl k_) ?_
  refine zm_geti dX8_fresh_16 fsX8_389_1 (by decide) (by decide) ?_
  refine Zm.br (fun _ _ k1_ k2_ => z_if_le (tgt := 26) dX8_fresh_19 rfl k1_ k2_) (fun h_ => ?_) (fun h_ => ?_)
  · have k := zit h_ k
    refine Zm.l (fun _ _ k_ => z_aload_n dX8_fresh_26 rfl rfl k_) ?_
    refine Zm.l (fun _ _ k_ => z_bipush (v := 16) dX8_fresh_27 rfl k_) ?_
    exact zm_callV (as := [vi (16 : Int32)]) (st := []) dX8_fresh_29 vsX8_404_1 (Nat.le_refl _) (Nat.le_of_ble_eq_true rfl) (Nat.le_of_ble_eq_true rfl) rfl k
  · have k := zif h_ k
    refine Zm.l (fun _ _ k_ => z_iconst (v := -1) dX8_fresh_22 rfl k_) ?_
    refine Zm.l (fun _ _ k_ => z_goto (tgt := 46) dX8_fresh_23 rfl k_) ?_
    exact k
theorem sX8_fresh_32 {E : zE} {d : Nat} {Q : zO → zM → Prop} (M : zM) (s0 : Int32) (k : if s0 = 0 then (Zm E YX8_primary d M (zargs 0 [vr (some (97, 1, 0))]) 0 [] (zma E YX8_fresh (d + 1) [(0, vr (some (97, 1, 0)))] 43 3 [] Q)) else (Zm E YX8_fresh d M (zargs 0 [vr (some (97, 1, 0))]) 0 [] (zma E YX8_fresh (d + 1) [(0, vr (some (97, 1, 0)))] 36 3 [] Q))) : Zm E YX8_fresh (d + 1) M [(0, vr (some (97, 1, 0)))] 32 [vi s0] Q := by
  refine Zm.br (fun _ _ k1_ k2_ => z_if_eq (tgt := 42) dX8_fresh_32 rfl k1_ k2_) (fun h_ => ?_) (fun h_ => ?_)
  · have k := zit h_ k
    refine Zm.l (fun _ _ k_ => z_aload_n dX8_fresh_42 rfl rfl k_) ?_
    exact zm_callV (as := []) (st := []) dX8_fresh_43 vsX8_493_1 (Nat.le_refl _) (Nat.le_of_ble_eq_true rfl) (Nat.le_of_ble_eq_true rfl) rfl k
  · have k := zif h_ k
    refine Zm.l (fun _ _ k_ => z_aload_n dX8_fresh_35 rfl rfl k_) ?_
    exact zm_callV (as := []) (st := []) dX8_fresh_36 vsX8_490_1 (Nat.le_refl _) (Nat.le_of_ble_eq_true rfl) (Nat.le_of_ble_eq_true rfl) rfl k
theorem sX8_fresh_39 {E : zE} {d : Nat} {Q : zO → zM → Prop} (M : zM) (s0 : Int32) (k : Zm E YX8_fresh (d + 1) M [(0, vr (some (97, 1, 0)))] 46 [vi s0] Q) : Zm E YX8_fresh (d + 1) M [(0, vr (some (97, 1, 0)))] 39 [vi s0] Q := by
  refine Zm.l (fun _ _ k_ => z_goto (tgt := 46) dX8_fresh_39 rfl k_) ?_
  exact k
theorem sX8_fresh_46 {E : zE} {d : Nat} {Q : zO → zM → Prop} (M : zM) (s0 : Int32) (k : Zm E YX8_fresh (d + 1) M [(0, vr (some (97, 1, 0))), (1, vi s0)] 47 [] Q) : Zm E YX8_fresh (d + 1) M [(0, vr (some (97, 1, 0)))] 46 [vi s0] Q := by
  refine Zm.l (fun _ _ k_ => z_ist_n dX8_fresh_46 rfl (by decide) (lv' := [(0, vr (some (97, 1, 0))), (1, vi s0)]) rfl k_) ?_
  exact k
theorem sX8_fresh_47 {E : zE} {d : Nat} {Q : zO → zM → Prop} (M : zM) (l1 : Int32) (k : if (gi M 97 21) = 0 then (Zm E YX8_isSign d M (zargs 0 [vr (some (97, 1, 0)), vi (30 : Int32)]) 0 [] (zma E YX8_fresh (d + 1) [(0, vr (some (97, 1, 0))), (1, vi l1)] 57 3 [] Q)) else (Zm E YX8_fresh (d + 1) M [(0, vr (some (97, 1, 0))), (1, vi l1)] 81 [] Q)) : Zm E YX8_fresh (d + 1) M [(0, vr (some (97, 1, 0))), (1, vi l1)] 47 [] Q := by
  refine Zm.l (fun _ _ k_ => z_aload_n dX8_fresh_47 rfl rfl k_) ?_
  refine zm_geti dX8_fresh_48 fsX8_389_1 (by decide) (by decide) ?_
  refine Zm.brn (fun _ _ k1_ k2_ => z_if_ne (tgt := 81) dX8_fresh_51 rfl k1_ k2_) (fun h_ => ?_) (fun h_ => ?_)
  · have k := zif h_ k
    exact k
  · have k := zit h_ k
    refine Zm.l (fun _ _ k_ => z_aload_n dX8_fresh_54 rfl rfl k_) ?_
    refine Zm.l (fun _ _ k_ => z_bipush (v := 30) dX8_fresh_55 rfl k_) ?_
    exact zm_callV (as := [vi (30 : Int32)]) (st := []) dX8_fresh_57 vsX8_398_1 (Nat.le_refl _) (Nat.le_of_ble_eq_true rfl) (Nat.le_of_ble_eq_true rfl) rfl k
theorem sX8_fresh_60 {E : zE} {d : Nat} {Q : zO → zM → Prop} (M : zM) (l1 : Int32) (s0 : Int32) (k : if s0 = 0 then (Zm E YX8_isSign d M (zargs 0 [vr (some (97, 1, 0)), vi (28 : Int32)]) 0 [] (zma E YX8_fresh (d + 1) [(0, vr (some (97, 1, 0))), (1, vi l1)] 66 3 [] Q)) else (Zm E YX8_member d M (zargs 0 [vr (some (97, 1, 0)), vi l1]) 0 [] (zma E YX8_fresh (d + 1) [(0, vr (some (97, 1, 0)))] 74 3 [] Q))) : Zm E YX8_fresh (d + 1) M [(0, vr (some (97, 1, 0))), (1, vi l1)] 60 [vi s0] Q := by
  refine Zm.brn (fun _ _ k1_ k2_ => z_if_ne (tgt := 72) dX8_fresh_60 rfl k1_ k2_) (fun h_ => ?_) (fun h_ => ?_)
  · have k := zif h_ k
    refine Zm.l (fun _ _ k_ => z_aload_n dX8_fresh_72 rfl rfl k_) ?_
    refine Zm.l (fun _ _ k_ => z_iload_n dX8_fresh_73 rfl rfl k_) ?_
    refine Zm.pick [0] rfl ?_
    exact zm_callV (as := [vi l1]) (st := []) dX8_fresh_74 vsX8_499_1 (Nat.le_refl _) (Nat.le_of_ble_eq_true rfl) (Nat.le_of_ble_eq_true rfl) rfl k
  · have k := zit h_ k
    refine Zm.l (fun _ _ k_ => z_aload_n dX8_fresh_63 rfl rfl k_) ?_
    refine Zm.l (fun _ _ k_ => z_bipush (v := 28) dX8_fresh_64 rfl k_) ?_
    exact zm_callV (as := [vi (28 : Int32)]) (st := []) dX8_fresh_66 vsX8_398_1 (Nat.le_refl _) (Nat.le_of_ble_eq_true rfl) (Nat.le_of_ble_eq_true rfl) rfl k
theorem sX8_fresh_69 {E : zE} {d : Nat} {Q : zO → zM → Prop} (M : zM) (l1 : Int32) (s0 : Int32) (k : if s0 = 0 then (Zm E YX8_fresh (d + 1) M [(0, vr (some (97, 1, 0))), (1, vi l1)] 81 [] Q) else (Zm E YX8_member d M (zargs 0 [vr (some (97, 1, 0)), vi l1]) 0 [] (zma E YX8_fresh (d + 1) [(0, vr (some (97, 1, 0)))] 74 3 [] Q))) : Zm E YX8_fresh (d + 1) M [(0, vr (some (97, 1, 0))), (1, vi l1)] 69 [vi s0] Q := by
  refine Zm.br (fun _ _ k1_ k2_ => z_if_eq (tgt := 81) dX8_fresh_69 rfl k1_ k2_) (fun h_ => ?_) (fun h_ => ?_)
  · have k := zit h_ k
    exact k
  · have k := zif h_ k
    refine Zm.l (fun _ _ k_ => z_aload_n dX8_fresh_72 rfl rfl k_) ?_
    refine Zm.l (fun _ _ k_ => z_iload_n dX8_fresh_73 rfl rfl k_) ?_
    refine Zm.pick [0] rfl ?_
    exact zm_callV (as := [vi l1]) (st := []) dX8_fresh_74 vsX8_499_1 (Nat.le_refl _) (Nat.le_of_ble_eq_true rfl) (Nat.le_of_ble_eq_true rfl) rfl k
theorem sX8_fresh_77 {E : zE} {d : Nat} {Q : zO → zM → Prop} (M : zM) (s0 : Int32) (k : Zm E YX8_fresh (d + 1) M [(0, vr (some (97, 1, 0))), (1, vi s0)] 47 [] Q) : Zm E YX8_fresh (d + 1) M [(0, vr (some (97, 1, 0)))] 77 [vi s0] Q := by
  refine Zm.l (fun _ _ k_ => z_ist_n dX8_fresh_77 rfl (by decide) (lv' := [(0, vr (some (97, 1, 0))), (1, vi s0)]) rfl k_) ?_
  refine Zm.l (fun _ _ k_ => z_goto (tgt := 47) dX8_fresh_78 rfl k_) ?_
  exact k
theorem sX8_fresh_81 {E : zE} {d : Nat} {Q : zO → zM → Prop} (M : zM) (l1 : Int32) (k : if (gi M 97 21) = 0 then (Zm E YX8_isSign d M (zargs 0 [vr (some (97, 1, 0)), vi (26 : Int32)]) 0 [] (zma E YX8_fresh (d + 1) [(0, vr (some (97, 1, 0))), (1, vi l1)] 91 3 [] Q)) else (Zm E YX8_close d M (zargs 0 [vr (some (97, 1, 0))]) 0 [] (zma E YX8_fresh (d + 1) [(0, vr (some (97, 1, 0))), (1, vi l1), (2, vi (-1 : Int32))] 107 3 [] Q))) : Zm E YX8_fresh (d + 1) M [(0, vr (some (97, 1, 0))), (1, vi l1)] 81 [] Q := by
  refine Zm.l (fun _ _ k_ => z_aload_n dX8_fresh_81 rfl rfl k_) ?_
  refine zm_geti dX8_fresh_82 fsX8_389_1 (by decide) (by decide) ?_
  refine Zm.brn (fun _ _ k1_ k2_ => z_if_ne (tgt := 104) dX8_fresh_85 rfl k1_ k2_) (fun h_ => ?_) (fun h_ => ?_)
  · have k := zif h_ k
    refine Zm.l (fun _ _ k_ => z_iconst (v := -1) dX8_fresh_104 rfl k_) ?_
    refine Zm.l (fun _ _ k_ => z_ist_n dX8_fresh_105 rfl (by decide) (lv' := [(0, vr (some (97, 1, 0))), (1, vi l1), (2, vi (-1 : Int32))]) rfl k_) ?_
    refine Zm.l (fun _ _ k_ => z_aload_n dX8_fresh_106 rfl rfl k_) ?_
    exact zm_callV (as := []) (st := []) dX8_fresh_107 vsX8_454_1 (Nat.le_refl _) (Nat.le_of_ble_eq_true rfl) (Nat.le_of_ble_eq_true rfl) rfl k
  · have k := zit h_ k
    refine Zm.l (fun _ _ k_ => z_aload_n dX8_fresh_88 rfl rfl k_) ?_
    refine Zm.l (fun _ _ k_ => z_bipush (v := 26) dX8_fresh_89 rfl k_) ?_
    exact zm_callV (as := [vi (26 : Int32)]) (st := []) dX8_fresh_91 vsX8_398_1 (Nat.le_refl _) (Nat.le_of_ble_eq_true rfl) (Nat.le_of_ble_eq_true rfl) rfl k
theorem sX8_fresh_94 {E : zE} {d : Nat} {Q : zO → zM → Prop} (M : zM) (l1 : Int32) (s0 : Int32) (k : if s0 = 0 then (Zm E YX8_close d M (zargs 0 [vr (some (97, 1, 0))]) 0 [] (zma E YX8_fresh (d + 1) [(0, vr (some (97, 1, 0))), (1, vi l1), (2, vi (-1 : Int32))] 107 3 [] Q)) else (Zm E YX8_arguments d M (zargs 0 [vr (some (97, 1, 0))]) 0 [] (zma E YX8_fresh (d + 1) [(0, vr (some (97, 1, 0))), (1, vi l1)] 98 3 [] Q))) : Zm E YX8_fresh (d + 1) M [(0, vr (some (97, 1, 0))), (1, vi l1)] 94 [vi s0] Q := by
  refine Zm.br (fun _ _ k1_ k2_ => z_if_eq (tgt := 104) dX8_fresh_94 rfl k1_ k2_) (fun h_ => ?_) (fun h_ => ?_)
  · have k := zit h_ k
    refine Zm.l (fun _ _ k_ => z_iconst (v := -1) dX8_fresh_104 rfl k_) ?_
    refine Zm.l (fun _ _ k_ => z_ist_n dX8_fresh_105 rfl (by decide) (lv' := [(0, vr (some (97, 1, 0))), (1, vi l1), (2, vi (-1 : Int32))]) rfl k_) ?_
    refine Zm.l (fun _ _ k_ => z_aload_n dX8_fresh_106 rfl rfl k_) ?_
    exact zm_callV (as := []) (st := []) dX8_fresh_107 vsX8_454_1 (Nat.le_refl _) (Nat.le_of_ble_eq_true rfl) (Nat.le_of_ble_eq_true rfl) rfl k
  · have k := zif h_ k
    refine Zm.l (fun _ _ k_ => z_aload_n dX8_fresh_97 rfl rfl k_) ?_
    exact zm_callV (as := []) (st := []) dX8_fresh_98 vsX8_496_1 (Nat.le_refl _) (Nat.le_of_ble_eq_true rfl) (Nat.le_of_ble_eq_true rfl) rfl k
theorem sX8_fresh_101 {E : zE} {d : Nat} {Q : zO → zM → Prop} (M : zM) (l1 : Int32) (s0 : Int32) (k : Zm E YX8_close d M (zargs 0 [vr (some (97, 1, 0))]) 0 [] (zma E YX8_fresh (d + 1) [(0, vr (some (97, 1, 0))), (1, vi l1), (2, vi s0)] 107 3 [] Q)) : Zm E YX8_fresh (d + 1) M [(0, vr (some (97, 1, 0))), (1, vi l1)] 101 [vi s0] Q := by
  refine Zm.l (fun _ _ k_ => z_goto (tgt := 105) dX8_fresh_101 rfl k_) ?_
  refine Zm.l (fun _ _ k_ => z_ist_n dX8_fresh_105 rfl (by decide) (lv' := [(0, vr (some (97, 1, 0))), (1, vi l1), (2, vi s0)]) rfl k_) ?_
  refine Zm.l (fun _ _ k_ => z_aload_n dX8_fresh_106 rfl rfl k_) ?_
  exact zm_callV (as := []) (st := []) dX8_fresh_107 vsX8_454_1 (Nat.le_refl _) (Nat.le_of_ble_eq_true rfl) (Nat.le_of_ble_eq_true rfl) rfl k
theorem sX8_fresh_110 {E : zE} {d : Nat} {Q : zO → zM → Prop} (M : zM) (l1 : Int32) (l2 : Int32) (k : Zm E YX8_node d M (zargs 0 [vr (some (97, 1, 0)), vi (9 : Int32), vi l1, vi l2, vi (0 : Int32)]) 0 [] (zma E YX8_fresh (d + 1) [] 116 3 [] Q)) : Zm E YX8_fresh (d + 1) M [(0, vr (some (97, 1, 0))), (1, vi l1), (2, vi l2)] 110 [] Q := by
  refine Zm.l (fun _ _ k_ => z_aload_n dX8_fresh_110 rfl rfl k_) ?_
  refine Zm.l (fun _ _ k_ => z_bipush (v := 9) dX8_fresh_111 rfl k_) ?_
  refine Zm.l (fun _ _ k_ => z_iload_n dX8_fresh_113 rfl rfl k_) ?_
  refine Zm.l (fun _ _ k_ => z_iload_n dX8_fresh_114 rfl rfl k_) ?_
  refine Zm.l (fun _ _ k_ => z_iconst (v := 0) dX8_fresh_115 rfl k_) ?_
  refine Zm.pick [] rfl ?_
  exact zm_callV (as := [vi (9 : Int32), vi l1, vi l2, vi (0 : Int32)]) (st := []) dX8_fresh_116 vsX8_446_1 (Nat.le_refl _) (Nat.le_of_ble_eq_true rfl) (Nat.le_of_ble_eq_true rfl) rfl k
theorem sX8_fresh_119 {E : zE} {d : Nat} {Q : zO → zM → Prop} (M : zM) (s0 : Int32) (k : Q (.inl (some (vi s0))) M) : Zm E YX8_fresh (d + 1) M [] 119 [vi s0] Q := by
  exact zm_iret dX8_fresh_119 rfl rfl k
/-! ScriptTypesModel.primary()I -/
theorem bX8_primary_0 : zdec cX8_primary 0 [(0, .aload_n 0, 1), (1, .getfield 389, 3), (4, .ifCond .le 5, 3), (7, .iconst (-1), 1), (8, .ireturn, 1), (9, .aload_n 0, 1), (10, .getfield 392, 3), (13, .istore_n 1, 1), (14, .aload_n 0, 1), (15, .bipush 26, 2), (17, .invokevirtual 398, 3), (20, .ifCond .eq 8, 3), (23, .aload_n 0, 1), (24, .invokevirtual 518, 3), (27, .ireturn, 1), (28, .aload_n 0, 1)] = true := by decide +kernel
theorem dX8_primary_0 : decode cX8_primary 0 = .ok (.aload_n 0, 1) := zdec_at bX8_primary_0 0 rfl
theorem dX8_primary_1 : decode cX8_primary 1 = .ok (.getfield 389, 3) := zdec_at bX8_primary_0 1 rfl
theorem dX8_primary_4 : decode cX8_primary 4 = .ok (.ifCond .le 5, 3) := zdec_at bX8_primary_0 2 rfl
theorem dX8_primary_7 : decode cX8_primary 7 = .ok (.iconst (-1), 1) := zdec_at bX8_primary_0 3 rfl
theorem dX8_primary_8 : decode cX8_primary 8 = .ok (.ireturn, 1) := zdec_at bX8_primary_0 4 rfl
theorem dX8_primary_9 : decode cX8_primary 9 = .ok (.aload_n 0, 1) := zdec_at bX8_primary_0 5 rfl
theorem dX8_primary_10 : decode cX8_primary 10 = .ok (.getfield 392, 3) := zdec_at bX8_primary_0 6 rfl
theorem dX8_primary_13 : decode cX8_primary 13 = .ok (.istore_n 1, 1) := zdec_at bX8_primary_0 7 rfl
theorem dX8_primary_14 : decode cX8_primary 14 = .ok (.aload_n 0, 1) := zdec_at bX8_primary_0 8 rfl
theorem dX8_primary_15 : decode cX8_primary 15 = .ok (.bipush 26, 2) := zdec_at bX8_primary_0 9 rfl
theorem dX8_primary_17 : decode cX8_primary 17 = .ok (.invokevirtual 398, 3) := zdec_at bX8_primary_0 10 rfl
theorem dX8_primary_20 : decode cX8_primary 20 = .ok (.ifCond .eq 8, 3) := zdec_at bX8_primary_0 11 rfl
theorem dX8_primary_23 : decode cX8_primary 23 = .ok (.aload_n 0, 1) := zdec_at bX8_primary_0 12 rfl
theorem dX8_primary_24 : decode cX8_primary 24 = .ok (.invokevirtual 518, 3) := zdec_at bX8_primary_0 13 rfl
theorem dX8_primary_27 : decode cX8_primary 27 = .ok (.ireturn, 1) := zdec_at bX8_primary_0 14 rfl
theorem dX8_primary_28 : decode cX8_primary 28 = .ok (.aload_n 0, 1) := zdec_at bX8_primary_0 15 rfl
theorem bX8_primary_29 : zdec cX8_primary 29 [(29, .bipush 28, 2), (31, .invokevirtual 398, 3), (34, .ifCond .eq 21, 3), (37, .aload_n 0, 1), (38, .iconst 4, 1), (39, .aload_n 0, 1), (40, .bipush 28, 2), (42, .bipush 29, 2), (44, .bipush 16, 2), (46, .invokevirtual 505, 3), (49, .iconst 0, 1), (50, .iconst 0, 1), (51, .invokevirtual 446, 3), (54, .ireturn, 1), (55, .aload_n 0, 1), (56, .bipush 24, 2)] = true := by decide +kernel
theorem dX8_primary_29 : decode cX8_primary 29 = .ok (.bipush 28, 2) := zdec_at bX8_primary_29 0 rfl
theorem dX8_primary_31 : decode cX8_primary 31 = .ok (.invokevirtual 398, 3) := zdec_at bX8_primary_29 1 rfl
theorem dX8_primary_34 : decode cX8_primary 34 = .ok (.ifCond .eq 21, 3) := zdec_at bX8_primary_29 2 rfl
theorem dX8_primary_37 : decode cX8_primary 37 = .ok (.aload_n 0, 1) := zdec_at bX8_primary_29 3 rfl
theorem dX8_primary_38 : decode cX8_primary 38 = .ok (.iconst 4, 1) := zdec_at bX8_primary_29 4 rfl
theorem dX8_primary_39 : decode cX8_primary 39 = .ok (.aload_n 0, 1) := zdec_at bX8_primary_29 5 rfl
theorem dX8_primary_40 : decode cX8_primary 40 = .ok (.bipush 28, 2) := zdec_at bX8_primary_29 6 rfl
theorem dX8_primary_42 : decode cX8_primary 42 = .ok (.bipush 29, 2) := zdec_at bX8_primary_29 7 rfl
theorem dX8_primary_44 : decode cX8_primary 44 = .ok (.bipush 16, 2) := zdec_at bX8_primary_29 8 rfl
theorem dX8_primary_46 : decode cX8_primary 46 = .ok (.invokevirtual 505, 3) := zdec_at bX8_primary_29 9 rfl
theorem dX8_primary_49 : decode cX8_primary 49 = .ok (.iconst 0, 1) := zdec_at bX8_primary_29 10 rfl
theorem dX8_primary_50 : decode cX8_primary 50 = .ok (.iconst 0, 1) := zdec_at bX8_primary_29 11 rfl
theorem dX8_primary_51 : decode cX8_primary 51 = .ok (.invokevirtual 446, 3) := zdec_at bX8_primary_29 12 rfl
theorem dX8_primary_54 : decode cX8_primary 54 = .ok (.ireturn, 1) := zdec_at bX8_primary_29 13 rfl
theorem dX8_primary_55 : decode cX8_primary 55 = .ok (.aload_n 0, 1) := zdec_at bX8_primary_29 14 rfl
theorem dX8_primary_56 : decode cX8_primary 56 = .ok (.bipush 24, 2) := zdec_at bX8_primary_29 15 rfl
theorem bX8_primary_58 : zdec cX8_primary 58 [(58, .invokevirtual 398, 3), (61, .ifCond .eq 15, 3), (64, .aload_n 0, 1), (65, .iconst 5, 1), (66, .aload_n 0, 1), (67, .invokevirtual 521, 3), (70, .iconst 0, 1), (71, .iconst 0, 1), (72, .invokevirtual 446, 3), (75, .ireturn, 1), (76, .aload_n 0, 1), (77, .bipush 11, 2), (79, .invokevirtual 404, 3), (82, .ifCond .eq 17, 3), (85, .aload_n 0, 1), (86, .bipush 6, 2)] = true := by decide +kernel
theorem dX8_primary_58 : decode cX8_primary 58 = .ok (.invokevirtual 398, 3) := zdec_at bX8_primary_58 0 rfl
theorem dX8_primary_61 : decode cX8_primary 61 = .ok (.ifCond .eq 15, 3) := zdec_at bX8_primary_58 1 rfl
theorem dX8_primary_64 : decode cX8_primary 64 = .ok (.aload_n 0, 1) := zdec_at bX8_primary_58 2 rfl
theorem dX8_primary_65 : decode cX8_primary 65 = .ok (.iconst 5, 1) := zdec_at bX8_primary_58 3 rfl
theorem dX8_primary_66 : decode cX8_primary 66 = .ok (.aload_n 0, 1) := zdec_at bX8_primary_58 4 rfl
theorem dX8_primary_67 : decode cX8_primary 67 = .ok (.invokevirtual 521, 3) := zdec_at bX8_primary_58 5 rfl
theorem dX8_primary_70 : decode cX8_primary 70 = .ok (.iconst 0, 1) := zdec_at bX8_primary_58 6 rfl
theorem dX8_primary_71 : decode cX8_primary 71 = .ok (.iconst 0, 1) := zdec_at bX8_primary_58 7 rfl
theorem dX8_primary_72 : decode cX8_primary 72 = .ok (.invokevirtual 446, 3) := zdec_at bX8_primary_58 8 rfl
theorem dX8_primary_75 : decode cX8_primary 75 = .ok (.ireturn, 1) := zdec_at bX8_primary_58 9 rfl
theorem dX8_primary_76 : decode cX8_primary 76 = .ok (.aload_n 0, 1) := zdec_at bX8_primary_58 10 rfl
theorem dX8_primary_77 : decode cX8_primary 77 = .ok (.bipush 11, 2) := zdec_at bX8_primary_58 11 rfl
theorem dX8_primary_79 : decode cX8_primary 79 = .ok (.invokevirtual 404, 3) := zdec_at bX8_primary_58 12 rfl
theorem dX8_primary_82 : decode cX8_primary 82 = .ok (.ifCond .eq 17, 3) := zdec_at bX8_primary_58 13 rfl
theorem dX8_primary_85 : decode cX8_primary 85 = .ok (.aload_n 0, 1) := zdec_at bX8_primary_58 14 rfl
theorem dX8_primary_86 : decode cX8_primary 86 = .ok (.bipush 6, 2) := zdec_at bX8_primary_58 15 rfl
theorem bX8_primary_88 : zdec cX8_primary 88 [(88, .aload_n 0, 1), (89, .iconst 0, 1), (90, .invokevirtual 524, 3), (93, .iconst 0, 1), (94, .iconst 0, 1), (95, .invokevirtual 446, 3), (98, .ireturn, 1), (99, .aload_n 0, 1), (100, .getfield 27, 3), (103, .aload_n 0, 1), (104, .getfield 392, 3), (107, .iaload, 1), (108, .iconst 1, 1), (109, .if_icmp .eq 45, 3), (112, .aload_n 0, 1), (113, .getfield 27, 3)] = true := by decide +kernel
theorem dX8_primary_88 : decode cX8_primary 88 = .ok (.aload_n 0, 1) := zdec_at bX8_primary_88 0 rfl
theorem dX8_primary_89 : decode cX8_primary 89 = .ok (.iconst 0, 1) := zdec_at bX8_primary_88 1 rfl
theorem dX8_primary_90 : decode cX8_primary 90 = .ok (.invokevirtual 524, 3) := zdec_at bX8_primary_88 2 rfl
theorem dX8_primary_93 : decode cX8_primary 93 = .ok (.iconst 0, 1) := zdec_at bX8_primary_88 3 rfl
theorem dX8_primary_94 : decode cX8_primary 94 = .ok (.iconst 0, 1) := zdec_at bX8_primary_88 4 rfl
theorem dX8_primary_95 : decode cX8_primary 95 = .ok (.invokevirtual 446, 3) := zdec_at bX8_primary_88 5 rfl
theorem dX8_primary_98 : decode cX8_primary 98 = .ok (.ireturn, 1) := zdec_at bX8_primary_88 6 rfl
theorem dX8_primary_99 : decode cX8_primary 99 = .ok (.aload_n 0, 1) := zdec_at bX8_primary_88 7 rfl
theorem dX8_primary_100 : decode cX8_primary 100 = .ok (.getfield 27, 3) := zdec_at bX8_primary_88 8 rfl
theorem dX8_primary_103 : decode cX8_primary 103 = .ok (.aload_n 0, 1) := zdec_at bX8_primary_88 9 rfl
theorem dX8_primary_104 : decode cX8_primary 104 = .ok (.getfield 392, 3) := zdec_at bX8_primary_88 10 rfl
theorem dX8_primary_107 : decode cX8_primary 107 = .ok (.iaload, 1) := zdec_at bX8_primary_88 11 rfl
theorem dX8_primary_108 : decode cX8_primary 108 = .ok (.iconst 1, 1) := zdec_at bX8_primary_88 12 rfl
theorem dX8_primary_109 : decode cX8_primary 109 = .ok (.if_icmp .eq 45, 3) := zdec_at bX8_primary_88 13 rfl
theorem dX8_primary_112 : decode cX8_primary 112 = .ok (.aload_n 0, 1) := zdec_at bX8_primary_88 14 rfl
theorem dX8_primary_113 : decode cX8_primary 113 = .ok (.getfield 27, 3) := zdec_at bX8_primary_88 15 rfl
theorem bX8_primary_116 : zdec cX8_primary 116 [(116, .aload_n 0, 1), (117, .getfield 392, 3), (120, .iaload, 1), (121, .iconst 3, 1), (122, .if_icmp .eq 32, 3), (125, .aload_n 0, 1), (126, .getfield 27, 3), (129, .aload_n 0, 1), (130, .getfield 392, 3), (133, .iaload, 1), (134, .iconst 4, 1), (135, .if_icmp .eq 19, 3), (138, .aload_n 0, 1), (139, .invokevirtual 436, 3), (142, .ifCond .ne 12, 3), (145, .aload_n 0, 1)] = true := by decide +kernel
theorem dX8_primary_116 : decode cX8_primary 116 = .ok (.aload_n 0, 1) := zdec_at bX8_primary_116 0 rfl
theorem dX8_primary_117 : decode cX8_primary 117 = .ok (.getfield 392, 3) := zdec_at bX8_primary_116 1 rfl
theorem dX8_primary_120 : decode cX8_primary 120 = .ok (.iaload, 1) := zdec_at bX8_primary_116 2 rfl
theorem dX8_primary_121 : decode cX8_primary 121 = .ok (.iconst 3, 1) := zdec_at bX8_primary_116 3 rfl
theorem dX8_primary_122 : decode cX8_primary 122 = .ok (.if_icmp .eq 32, 3) := zdec_at bX8_primary_116 4 rfl
theorem dX8_primary_125 : decode cX8_primary 125 = .ok (.aload_n 0, 1) := zdec_at bX8_primary_116 5 rfl
theorem dX8_primary_126 : decode cX8_primary 126 = .ok (.getfield 27, 3) := zdec_at bX8_primary_116 6 rfl
theorem dX8_primary_129 : decode cX8_primary 129 = .ok (.aload_n 0, 1) := zdec_at bX8_primary_116 7 rfl
theorem dX8_primary_130 : decode cX8_primary 130 = .ok (.getfield 392, 3) := zdec_at bX8_primary_116 8 rfl
theorem dX8_primary_133 : decode cX8_primary 133 = .ok (.iaload, 1) := zdec_at bX8_primary_116 9 rfl
theorem dX8_primary_134 : decode cX8_primary 134 = .ok (.iconst 4, 1) := zdec_at bX8_primary_116 10 rfl
theorem dX8_primary_135 : decode cX8_primary 135 = .ok (.if_icmp .eq 19, 3) := zdec_at bX8_primary_116 11 rfl
theorem dX8_primary_138 : decode cX8_primary 138 = .ok (.aload_n 0, 1) := zdec_at bX8_primary_116 12 rfl
theorem dX8_primary_139 : decode cX8_primary 139 = .ok (.invokevirtual 436, 3) := zdec_at bX8_primary_116 13 rfl
theorem dX8_primary_142 : decode cX8_primary 142 = .ok (.ifCond .ne 12, 3) := zdec_at bX8_primary_116 14 rfl
theorem dX8_primary_145 : decode cX8_primary 145 = .ok (.aload_n 0, 1) := zdec_at bX8_primary_116 15 rfl
theorem bX8_primary_146 : zdec cX8_primary 146 [(146, .bipush 20, 2), (148, .invokevirtual 404, 3), (151, .ifCond .eq 7, 3), (154, .iconst 1, 1), (155, .goto 4, 3), (158, .iconst 0, 1), (159, .istore_n 2, 1), (160, .iload_n 2, 1), (161, .ifCond .ne 11, 3), (164, .aload_n 0, 1), (165, .iconst 2, 1), (166, .invokevirtual 401, 3), (169, .pop, 1), (170, .iconst (-1), 1), (171, .ireturn, 1), (172, .aload_n 0, 1)] = true := by decide +kernel
theorem dX8_primary_146 : decode cX8_primary 146 = .ok (.bipush 20, 2) := zdec_at bX8_primary_146 0 rfl
theorem dX8_primary_148 : decode cX8_primary 148 = .ok (.invokevirtual 404, 3) := zdec_at bX8_primary_146 1 rfl
theorem dX8_primary_151 : decode cX8_primary 151 = .ok (.ifCond .eq 7, 3) := zdec_at bX8_primary_146 2 rfl
theorem dX8_primary_154 : decode cX8_primary 154 = .ok (.iconst 1, 1) := zdec_at bX8_primary_146 3 rfl
theorem dX8_primary_155 : decode cX8_primary 155 = .ok (.goto 4, 3) := zdec_at bX8_primary_146 4 rfl
theorem dX8_primary_158 : decode cX8_primary 158 = .ok (.iconst 0, 1) := zdec_at bX8_primary_146 5 rfl
theorem dX8_primary_159 : decode cX8_primary 159 = .ok (.istore_n 2, 1) := zdec_at bX8_primary_146 6 rfl
theorem dX8_primary_160 : decode cX8_primary 160 = .ok (.iload_n 2, 1) := zdec_at bX8_primary_146 7 rfl
theorem dX8_primary_161 : decode cX8_primary 161 = .ok (.ifCond .ne 11, 3) := zdec_at bX8_primary_146 8 rfl
theorem dX8_primary_164 : decode cX8_primary 164 = .ok (.aload_n 0, 1) := zdec_at bX8_primary_146 9 rfl
theorem dX8_primary_165 : decode cX8_primary 165 = .ok (.iconst 2, 1) := zdec_at bX8_primary_146 10 rfl
theorem dX8_primary_166 : decode cX8_primary 166 = .ok (.invokevirtual 401, 3) := zdec_at bX8_primary_146 11 rfl
theorem dX8_primary_169 : decode cX8_primary 169 = .ok (.pop, 1) := zdec_at bX8_primary_146 12 rfl
theorem dX8_primary_170 : decode cX8_primary 170 = .ok (.iconst (-1), 1) := zdec_at bX8_primary_146 13 rfl
theorem dX8_primary_171 : decode cX8_primary 171 = .ok (.ireturn, 1) := zdec_at bX8_primary_146 14 rfl
theorem dX8_primary_172 : decode cX8_primary 172 = .ok (.aload_n 0, 1) := zdec_at bX8_primary_146 15 rfl
theorem bX8_primary_173 : zdec cX8_primary 173 [(173, .dup, 1), (174, .getfield 392, 3), (177, .iconst 1, 1), (178, .iadd, 1), (179, .putfield 392, 3), (182, .aload_n 0, 1), (183, .getfield 27, 3), (186, .iload_n 1, 1), (187, .iaload, 1), (188, .iconst 1, 1), (189, .if_icmp .ne 16, 3), (192, .aload_n 0, 1), (193, .iconst 2, 1), (194, .aload_n 0, 1), (195, .iload_n 1, 1), (196, .invokevirtual 418, 3)] = true := by decide +kernel
theorem dX8_primary_173 : decode cX8_primary 173 = .ok (.dup, 1) := zdec_at bX8_primary_173 0 rfl
theorem dX8_primary_174 : decode cX8_primary 174 = .ok (.getfield 392, 3) := zdec_at bX8_primary_173 1 rfl
theorem dX8_primary_177 : decode cX8_primary 177 = .ok (.iconst 1, 1) := zdec_at bX8_primary_173 2 rfl
theorem dX8_primary_178 : decode cX8_primary 178 = .ok (.iadd, 1) := zdec_at bX8_primary_173 3 rfl
theorem dX8_primary_179 : decode cX8_primary 179 = .ok (.putfield 392, 3) := zdec_at bX8_primary_173 4 rfl
theorem dX8_primary_182 : decode cX8_primary 182 = .ok (.aload_n 0, 1) := zdec_at bX8_primary_173 5 rfl
theorem dX8_primary_183 : decode cX8_primary 183 = .ok (.getfield 27, 3) := zdec_at bX8_primary_173 6 rfl
theorem dX8_primary_186 : decode cX8_primary 186 = .ok (.iload_n 1, 1) := zdec_at bX8_primary_173 7 rfl
theorem dX8_primary_187 : decode cX8_primary 187 = .ok (.iaload, 1) := zdec_at bX8_primary_173 8 rfl
theorem dX8_primary_188 : decode cX8_primary 188 = .ok (.iconst 1, 1) := zdec_at bX8_primary_173 9 rfl
theorem dX8_primary_189 : decode cX8_primary 189 = .ok (.if_icmp .ne 16, 3) := zdec_at bX8_primary_173 10 rfl
theorem dX8_primary_192 : decode cX8_primary 192 = .ok (.aload_n 0, 1) := zdec_at bX8_primary_173 11 rfl
theorem dX8_primary_193 : decode cX8_primary 193 = .ok (.iconst 2, 1) := zdec_at bX8_primary_173 12 rfl
theorem dX8_primary_194 : decode cX8_primary 194 = .ok (.aload_n 0, 1) := zdec_at bX8_primary_173 13 rfl
theorem dX8_primary_195 : decode cX8_primary 195 = .ok (.iload_n 1, 1) := zdec_at bX8_primary_173 14 rfl
theorem dX8_primary_196 : decode cX8_primary 196 = .ok (.invokevirtual 418, 3) := zdec_at bX8_primary_173 15 rfl
theorem bX8_primary_199 : zdec cX8_primary 199 [(199, .iconst 0, 1), (200, .iconst 0, 1), (201, .invokevirtual 446, 3), (204, .ireturn, 1), (205, .aload_n 0, 1), (206, .getfield 27, 3), (209, .iload_n 1, 1), (210, .iaload, 1), (211, .iconst 3, 1), (212, .if_icmp .ne 17, 3), (215, .aload_n 0, 1), (216, .iconst 0, 1), (217, .iconst 5, 1), (218, .aload_n 0, 1), (219, .getfield 30, 3), (222, .iload_n 1, 1)] = true := by decide +kernel
theorem dX8_primary_199 : decode cX8_primary 199 = .ok (.iconst 0, 1) := zdec_at bX8_primary_199 0 rfl
theorem dX8_primary_200 : decode cX8_primary 200 = .ok (.iconst 0, 1) := zdec_at bX8_primary_199 1 rfl
theorem dX8_primary_201 : decode cX8_primary 201 = .ok (.invokevirtual 446, 3) := zdec_at bX8_primary_199 2 rfl
theorem dX8_primary_204 : decode cX8_primary 204 = .ok (.ireturn, 1) := zdec_at bX8_primary_199 3 rfl
theorem dX8_primary_205 : decode cX8_primary 205 = .ok (.aload_n 0, 1) := zdec_at bX8_primary_199 4 rfl
theorem dX8_primary_206 : decode cX8_primary 206 = .ok (.getfield 27, 3) := zdec_at bX8_primary_199 5 rfl
theorem dX8_primary_209 : decode cX8_primary 209 = .ok (.iload_n 1, 1) := zdec_at bX8_primary_199 6 rfl
theorem dX8_primary_210 : decode cX8_primary 210 = .ok (.iaload, 1) := zdec_at bX8_primary_199 7 rfl
theorem dX8_primary_211 : decode cX8_primary 211 = .ok (.iconst 3, 1) := zdec_at bX8_primary_199 8 rfl
theorem dX8_primary_212 : decode cX8_primary 212 = .ok (.if_icmp .ne 17, 3) := zdec_at bX8_primary_199 9 rfl
theorem dX8_primary_215 : decode cX8_primary 215 = .ok (.aload_n 0, 1) := zdec_at bX8_primary_199 10 rfl
theorem dX8_primary_216 : decode cX8_primary 216 = .ok (.iconst 0, 1) := zdec_at bX8_primary_199 11 rfl
theorem dX8_primary_217 : decode cX8_primary 217 = .ok (.iconst 5, 1) := zdec_at bX8_primary_199 12 rfl
theorem dX8_primary_218 : decode cX8_primary 218 = .ok (.aload_n 0, 1) := zdec_at bX8_primary_199 13 rfl
theorem dX8_primary_219 : decode cX8_primary 219 = .ok (.getfield 30, 3) := zdec_at bX8_primary_199 14 rfl
theorem dX8_primary_222 : decode cX8_primary 222 = .ok (.iload_n 1, 1) := zdec_at bX8_primary_199 15 rfl
theorem bX8_primary_223 : zdec cX8_primary 223 [(223, .iaload, 1), (224, .iconst 0, 1), (225, .invokevirtual 446, 3), (228, .ireturn, 1), (229, .aload_n 0, 1), (230, .getfield 27, 3), (233, .iload_n 1, 1), (234, .iaload, 1), (235, .iconst 4, 1), (236, .if_icmp .ne 17, 3), (239, .aload_n 0, 1), (240, .iconst 0, 1), (241, .bipush 6, 2), (243, .aload_n 0, 1), (244, .iload_n 1, 1), (245, .invokevirtual 418, 3)] = true := by decide +kernel
theorem dX8_primary_223 : decode cX8_primary 223 = .ok (.iaload, 1) := zdec_at bX8_primary_223 0 rfl
theorem dX8_primary_224 : decode cX8_primary 224 = .ok (.iconst 0, 1) := zdec_at bX8_primary_223 1 rfl
theorem dX8_primary_225 : decode cX8_primary 225 = .ok (.invokevirtual 446, 3) := zdec_at bX8_primary_223 2 rfl
theorem dX8_primary_228 : decode cX8_primary 228 = .ok (.ireturn, 1) := zdec_at bX8_primary_223 3 rfl
theorem dX8_primary_229 : decode cX8_primary 229 = .ok (.aload_n 0, 1) := zdec_at bX8_primary_223 4 rfl
theorem dX8_primary_230 : decode cX8_primary 230 = .ok (.getfield 27, 3) := zdec_at bX8_primary_223 5 rfl
theorem dX8_primary_233 : decode cX8_primary 233 = .ok (.iload_n 1, 1) := zdec_at bX8_primary_223 6 rfl
theorem dX8_primary_234 : decode cX8_primary 234 = .ok (.iaload, 1) := zdec_at bX8_primary_223 7 rfl
theorem dX8_primary_235 : decode cX8_primary 235 = .ok (.iconst 4, 1) := zdec_at bX8_primary_223 8 rfl
theorem dX8_primary_236 : decode cX8_primary 236 = .ok (.if_icmp .ne 17, 3) := zdec_at bX8_primary_223 9 rfl
theorem dX8_primary_239 : decode cX8_primary 239 = .ok (.aload_n 0, 1) := zdec_at bX8_primary_223 10 rfl
theorem dX8_primary_240 : decode cX8_primary 240 = .ok (.iconst 0, 1) := zdec_at bX8_primary_223 11 rfl
theorem dX8_primary_241 : decode cX8_primary 241 = .ok (.bipush 6, 2) := zdec_at bX8_primary_223 12 rfl
theorem dX8_primary_243 : decode cX8_primary 243 = .ok (.aload_n 0, 1) := zdec_at bX8_primary_223 13 rfl
theorem dX8_primary_244 : decode cX8_primary 244 = .ok (.iload_n 1, 1) := zdec_at bX8_primary_223 14 rfl
theorem dX8_primary_245 : decode cX8_primary 245 = .ok (.invokevirtual 418, 3) := zdec_at bX8_primary_223 15 rfl
theorem bX8_primary_248 : zdec cX8_primary 248 [(248, .iconst 0, 1), (249, .invokevirtual 446, 3), (252, .ireturn, 1), (253, .aload_n 0, 1), (254, .getfield 30, 3), (257, .iload_n 1, 1), (258, .iaload, 1), (259, .istore_n 3, 1), (260, .iload_n 3, 1), (261, .bipush 20, 2), (263, .if_icmp .ne 14, 3), (266, .aload_n 0, 1), (267, .iconst 1, 1), (268, .iconst 0, 1), (269, .iconst 0, 1), (270, .iconst 0, 1)] = true := by decide +kernel
theorem dX8_primary_248 : decode cX8_primary 248 = .ok (.iconst 0, 1) := zdec_at bX8_primary_248 0 rfl
theorem dX8_primary_249 : decode cX8_primary 249 = .ok (.invokevirtual 446, 3) := zdec_at bX8_primary_248 1 rfl
theorem dX8_primary_252 : decode cX8_primary 252 = .ok (.ireturn, 1) := zdec_at bX8_primary_248 2 rfl
theorem dX8_primary_253 : decode cX8_primary 253 = .ok (.aload_n 0, 1) := zdec_at bX8_primary_248 3 rfl
theorem dX8_primary_254 : decode cX8_primary 254 = .ok (.getfield 30, 3) := zdec_at bX8_primary_248 4 rfl
theorem dX8_primary_257 : decode cX8_primary 257 = .ok (.iload_n 1, 1) := zdec_at bX8_primary_248 5 rfl
theorem dX8_primary_258 : decode cX8_primary 258 = .ok (.iaload, 1) := zdec_at bX8_primary_248 6 rfl
theorem dX8_primary_259 : decode cX8_primary 259 = .ok (.istore_n 3, 1) := zdec_at bX8_primary_248 7 rfl
theorem dX8_primary_260 : decode cX8_primary 260 = .ok (.iload_n 3, 1) := zdec_at bX8_primary_248 8 rfl
theorem dX8_primary_261 : decode cX8_primary 261 = .ok (.bipush 20, 2) := zdec_at bX8_primary_248 9 rfl
theorem dX8_primary_263 : decode cX8_primary 263 = .ok (.if_icmp .ne 14, 3) := zdec_at bX8_primary_248 10 rfl
theorem dX8_primary_266 : decode cX8_primary 266 = .ok (.aload_n 0, 1) := zdec_at bX8_primary_248 11 rfl
theorem dX8_primary_267 : decode cX8_primary 267 = .ok (.iconst 1, 1) := zdec_at bX8_primary_248 12 rfl
theorem dX8_primary_268 : decode cX8_primary 268 = .ok (.iconst 0, 1) := zdec_at bX8_primary_248 13 rfl
theorem dX8_primary_269 : decode cX8_primary 269 = .ok (.iconst 0, 1) := zdec_at bX8_primary_248 14 rfl
theorem dX8_primary_270 : decode cX8_primary 270 = .ok (.iconst 0, 1) := zdec_at bX8_primary_248 15 rfl
theorem bX8_primary_271 : zdec cX8_primary 271 [(271, .invokevirtual 446, 3), (274, .goto 51, 3), (277, .aload_n 0, 1), (278, .iconst 0, 1), (279, .iload_n 3, 1), (280, .bipush 25, 2), (282, .if_icmp .ne 7, 3), (285, .iconst 0, 1), (286, .goto 34, 3), (289, .iload_n 3, 1), (290, .bipush 17, 2), (292, .if_icmp .ne 7, 3), (295, .iconst 1, 1), (296, .goto 24, 3), (299, .iload_n 3, 1), (300, .bipush 22, 2)] = true := by decide +kernel
theorem dX8_primary_271 : decode cX8_primary 271 = .ok (.invokevirtual 446, 3) := zdec_at bX8_primary_271 0 rfl
theorem dX8_primary_274 : decode cX8_primary 274 = .ok (.goto 51, 3) := zdec_at bX8_primary_271 1 rfl
theorem dX8_primary_277 : decode cX8_primary 277 = .ok (.aload_n 0, 1) := zdec_at bX8_primary_271 2 rfl
theorem dX8_primary_278 : decode cX8_primary 278 = .ok (.iconst 0, 1) := zdec_at bX8_primary_271 3 rfl
theorem dX8_primary_279 : decode cX8_primary 279 = .ok (.iload_n 3, 1) := zdec_at bX8_primary_271 4 rfl
theorem dX8_primary_280 : decode cX8_primary 280 = .ok (.bipush 25, 2) := zdec_at bX8_primary_271 5 rfl
theorem dX8_primary_282 : decode cX8_primary 282 = .ok (.if_icmp .ne 7, 3) := zdec_at bX8_primary_271 6 rfl
theorem dX8_primary_285 : decode cX8_primary 285 = .ok (.iconst 0, 1) := zdec_at bX8_primary_271 7 rfl
theorem dX8_primary_286 : decode cX8_primary 286 = .ok (.goto 34, 3) := zdec_at bX8_primary_271 8 rfl
theorem dX8_primary_289 : decode cX8_primary 289 = .ok (.iload_n 3, 1) := zdec_at bX8_primary_271 9 rfl
theorem dX8_primary_290 : decode cX8_primary 290 = .ok (.bipush 17, 2) := zdec_at bX8_primary_271 10 rfl
theorem dX8_primary_292 : decode cX8_primary 292 = .ok (.if_icmp .ne 7, 3) := zdec_at bX8_primary_271 11 rfl
theorem dX8_primary_295 : decode cX8_primary 295 = .ok (.iconst 1, 1) := zdec_at bX8_primary_271 12 rfl
theorem dX8_primary_296 : decode cX8_primary 296 = .ok (.goto 24, 3) := zdec_at bX8_primary_271 13 rfl
theorem dX8_primary_299 : decode cX8_primary 299 = .ok (.iload_n 3, 1) := zdec_at bX8_primary_271 14 rfl
theorem dX8_primary_300 : decode cX8_primary 300 = .ok (.bipush 22, 2) := zdec_at bX8_primary_271 15 rfl
theorem bX8_primary_302 : zdec cX8_primary 302 [(302, .if_icmp .ne 7, 3), (305, .iconst 2, 1), (306, .goto 14, 3), (309, .iload_n 3, 1), (310, .bipush 8, 2), (312, .if_icmp .ne 7, 3), (315, .iconst 3, 1), (316, .goto 4, 3), (319, .iconst 4, 1), (320, .iconst 0, 1), (321, .iconst 0, 1), (322, .invokevirtual 446, 3), (325, .ireturn, 1)] = true := by decide +kernel
theorem dX8_primary_302 : decode cX8_primary 302 = .ok (.if_icmp .ne 7, 3) := zdec_at bX8_primary_302 0 rfl
theorem dX8_primary_305 : decode cX8_primary 305 = .ok (.iconst 2, 1) := zdec_at bX8_primary_302 1 rfl
theorem dX8_primary_306 : decode cX8_primary 306 = .ok (.goto 14, 3) := zdec_at bX8_primary_302 2 rfl
theorem dX8_primary_309 : decode cX8_primary 309 = .ok (.iload_n 3, 1) := zdec_at bX8_primary_302 3 rfl
theorem dX8_primary_310 : decode cX8_primary 310 = .ok (.bipush 8, 2) := zdec_at bX8_primary_302 4 rfl
theorem dX8_primary_312 : decode cX8_primary 312 = .ok (.if_icmp .ne 7, 3) := zdec_at bX8_primary_302 5 rfl
theorem dX8_primary_315 : decode cX8_primary 315 = .ok (.iconst 3, 1) := zdec_at bX8_primary_302 6 rfl
theorem dX8_primary_316 : decode cX8_primary 316 = .ok (.goto 4, 3) := zdec_at bX8_primary_302 7 rfl
theorem dX8_primary_319 : decode cX8_primary 319 = .ok (.iconst 4, 1) := zdec_at bX8_primary_302 8 rfl
theorem dX8_primary_320 : decode cX8_primary 320 = .ok (.iconst 0, 1) := zdec_at bX8_primary_302 9 rfl
theorem dX8_primary_321 : decode cX8_primary 321 = .ok (.iconst 0, 1) := zdec_at bX8_primary_302 10 rfl
theorem dX8_primary_322 : decode cX8_primary 322 = .ok (.invokevirtual 446, 3) := zdec_at bX8_primary_302 11 rfl
theorem dX8_primary_325 : decode cX8_primary 325 = .ok (.ireturn, 1) := zdec_at bX8_primary_302 12 rfl
theorem sX8_primary_0 {E : zE} {d : Nat} {Q : zO → zM → Prop} (M : zM)  (k : if (gi M 97 21) ≤ 0 then (Zm E YX8_isSign d M (zargs 0 [vr (some (97, 1, 0)), vi (26 : Int32)]) 0 [] (zma E YX8_primary (d + 1) [(0, vr (some (97, 1, 0))), (1, vi (gi M 97 20))] 17 3 [] Q)) else (Q (.inl (some (vi (-1 : Int32)))) M)) : Zm E YX8_primary (d + 1) M [(0, vr (some (97, 1, 0)))] 0 [] Q := by
  refine Zm.l (fun _ _ k_ => z_aload_n dX8_primary_0 rfl rfl k_) ?_
  refine zm_geti dX8_primary_1 fsX8_389_1 (by decide) (by decide) ?_
  refine Zm.br (fun _ _ k1_ k2_ => z_if_le (tgt := 9) dX8_primary_4 rfl k1_ k2_) (fun h_ => ?_) (fun h_ => ?_)
  · have k := zit h_ k
    refine Zm.l (fun _ _ k_ => z_aload_n dX8_primary_9 rfl rfl k_) ?_
    refine zm_geti dX8_primary_10 fsX8_392_1 (by decide) (by decide) ?_
    refine Zm.l (fun _ _ k_ => z_ist_n dX8_primary_13 rfl (by decide) (lv' := [(0, vr (some (97, 1, 0))), (1, vi (gi M 97 20))]) rfl k_) ?_
    refine Zm.l (fun _ _ k_ => z_aload_n dX8_primary_14 rfl rfl k_) ?_
    refine Zm.l (fun _ _ k_ => z_bipush (v := 26) dX8_primary_15 rfl k_) ?_
    exact zm_callV (as := [vi (26 : Int32)]) (st := []) dX8_primary_17 vsX8_398_1 (Nat.le_refl _) (Nat.le_of_ble_eq_true rfl) (Nat.le_of_ble_eq_true rfl) rfl k
  · have k := zif h_ k
    refine Zm.l (fun _ _ k_ => z_iconst (v := -1) dX8_primary_7 rfl k_) ?_
    exact zm_iret dX8_primary_8 rfl rfl k
theorem sX8_primary_20 {E : zE} {d : Nat} {Q : zO → zM → Prop} (M : zM) (l1 : Int32) (s0 : Int32) (k : if s0 = 0 then (Zm E YX8_isSign d M (zargs 0 [vr (some (97, 1, 0)), vi (28 : Int32)]) 0 [] (zma E YX8_primary (d + 1) [(0, vr (some (97, 1, 0))), (1, vi l1)] 31 3 [] Q)) else (Zm E YX8_bracketed d M (zargs 0 [vr (some (97, 1, 0))]) 0 [] (zma E YX8_primary (d + 1) [] 24 3 [] Q))) : Zm E YX8_primary (d + 1) M [(0, vr (some (97, 1, 0))), (1, vi l1)] 20 [vi s0] Q := by
  refine Zm.br (fun _ _ k1_ k2_ => z_if_eq (tgt := 28) dX8_primary_20 rfl k1_ k2_) (fun h_ => ?_) (fun h_ => ?_)
  · have k := zit h_ k
    refine Zm.l (fun _ _ k_ => z_aload_n dX8_primary_28 rfl rfl k_) ?_
    refine Zm.l (fun _ _ k_ => z_bipush (v := 28) dX8_primary_29 rfl k_) ?_
    exact zm_callV (as := [vi (28 : Int32)]) (st := []) dX8_primary_31 vsX8_398_1 (Nat.le_refl _) (Nat.le_of_ble_eq_true rfl) (Nat.le_of_ble_eq_true rfl) rfl k
  · have k := zif h_ k
    refine Zm.l (fun _ _ k_ => z_aload_n dX8_primary_23 rfl rfl k_) ?_
    refine Zm.pick [] rfl ?_
    exact zm_callV (as := []) (st := []) dX8_primary_24 vsX8_518_1 (Nat.le_refl _) (Nat.le_of_ble_eq_true rfl) (Nat.le_of_ble_eq_true rfl) rfl k
theorem sX8_primary_27 {E : zE} {d : Nat} {Q : zO → zM → Prop} (M : zM) (s0 : Int32) (k : Q (.inl (some (vi s0))) M) : Zm E YX8_primary (d + 1) M [] 27 [vi s0] Q := by
  exact zm_iret dX8_primary_27 rfl rfl k
theorem sX8_primary_34 {E : zE} {d : Nat} {Q : zO → zM → Prop} (M : zM) (l1 : Int32) (s0 : Int32) (k : if s0 = 0 then (Zm E YX8_isSign d M (zargs 0 [vr (some (97, 1, 0)), vi (24 : Int32)]) 0 [] (zma E YX8_primary (d + 1) [(0, vr (some (97, 1, 0))), (1, vi l1)] 58 3 [] Q)) else (Zm E YX8_items d M (zargs 0 [vr (some (97, 1, 0)), vi (28 : Int32), vi (29 : Int32), vi (16 : Int32)]) 0 [] (zma E YX8_primary (d + 1) [] 46 3 [vi (4 : Int32), vr (some (97, 1, 0))] Q))) : Zm E YX8_primary (d + 1) M [(0, vr (some (97, 1, 0))), (1, vi l1)] 34 [vi s0] Q := by
  refine Zm.br (fun _ _ k1_ k2_ => z_if_eq (tgt := 55) dX8_primary_34 rfl k1_ k2_) (fun h_ => ?_) (fun h_ => ?_)
  · have k := zit h_ k
    refine Zm.l (fun _ _ k_ => z_aload_n dX8_primary_55 rfl rfl k_) ?_
    refine Zm.l (fun _ _ k_ => z_bipush (v := 24) dX8_primary_56 rfl k_) ?_
    exact zm_callV (as := [vi (24 : Int32)]) (st := []) dX8_primary_58 vsX8_398_1 (Nat.le_refl _) (Nat.le_of_ble_eq_true rfl) (Nat.le_of_ble_eq_true rfl) rfl k
  · have k := zif h_ k
    refine Zm.l (fun _ _ k_ => z_aload_n dX8_primary_37 rfl rfl k_) ?_
    refine Zm.l (fun _ _ k_ => z_iconst (v := 4) dX8_primary_38 rfl k_) ?_
    refine Zm.l (fun _ _ k_ => z_aload_n dX8_primary_39 rfl rfl k_) ?_
    refine Zm.l (fun _ _ k_ => z_bipush (v := 28) dX8_primary_40 rfl k_) ?_
    refine Zm.l (fun _ _ k_ => z_bipush (v := 29) dX8_primary_42 rfl k_) ?_
    refine Zm.l (fun _ _ k_ => z_bipush (v := 16) dX8_primary_44 rfl k_) ?_
    refine Zm.pick [] rfl ?_
    exact zm_callV (as := [vi (28 : Int32), vi (29 : Int32), vi (16 : Int32)]) (st := [vi (4 : Int32), vr (some (97, 1, 0))]) dX8_primary_46 vsX8_505_1 (Nat.le_refl _) (Nat.le_of_ble_eq_true rfl) (Nat.le_of_ble_eq_true rfl) rfl k
theorem sX8_primary_49 {E : zE} {d : Nat} {Q : zO → zM → Prop} (M : zM) (s0 : Int32) (s1 : Int32) (k : Zm E YX8_node d M (zargs 0 [vr (some (97, 1, 0)), vi s1, vi s0, vi (0 : Int32), vi (0 : Int32)]) 0 [] (zma E YX8_primary (d + 1) [] 51 3 [] Q)) : Zm E YX8_primary (d + 1) M [] 49 [vi s0, vi s1, vr (some (97, 1, 0))] Q := by
  refine Zm.l (fun _ _ k_ => z_iconst (v := 0) dX8_primary_49 rfl k_) ?_
  refine Zm.l (fun _ _ k_ => z_iconst (v := 0) dX8_primary_50 rfl k_) ?_
  exact zm_callV (as := [vi s1, vi s0, vi (0 : Int32), vi (0 : Int32)]) (st := []) dX8_primary_51 vsX8_446_1 (Nat.le_refl _) (Nat.le_of_ble_eq_true rfl) (Nat.le_of_ble_eq_true rfl) rfl k
theorem sX8_primary_54 {E : zE} {d : Nat} {Q : zO → zM → Prop} (M : zM) (s0 : Int32) (k : Q (.inl (some (vi s0))) M) : Zm E YX8_primary (d + 1) M [] 54 [vi s0] Q := by
  exact zm_iret dX8_primary_54 rfl rfl k
theorem sX8_primary_61 {E : zE} {d : Nat} {Q : zO → zM → Prop} (M : zM) (l1 : Int32) (s0 : Int32) (k : if s0 = 0 then (Zm E YX8_isKeyword d M (zargs 0 [vr (some (97, 1, 0)), vi (11 : Int32)]) 0 [] (zma E YX8_primary (d + 1) [(0, vr (some (97, 1, 0))), (1, vi l1)] 79 3 [] Q)) else (Zm E YX8_pairs d M (zargs 0 [vr (some (97, 1, 0))]) 0 [] (zma E YX8_primary (d + 1) [] 67 3 [vi (5 : Int32), vr (some (97, 1, 0))] Q))) : Zm E YX8_primary (d + 1) M [(0, vr (some (97, 1, 0))), (1, vi l1)] 61 [vi s0] Q := by
  refine Zm.br (fun _ _ k1_ k2_ => z_if_eq (tgt := 76) dX8_primary_61 rfl k1_ k2_) (fun h_ => ?_) (fun h_ => ?_)
  · have k := zit h_ k
    refine Zm.l (fun _ _ k_ => z_aload_n dX8_primary_76 rfl rfl k_) ?_
    refine Zm.l (fun _ _ k_ => z_bipush (v := 11) dX8_primary_77 rfl k_) ?_
    exact zm_callV (as := [vi (11 : Int32)]) (st := []) dX8_primary_79 vsX8_404_1 (Nat.le_refl _) (Nat.le_of_ble_eq_true rfl) (Nat.le_of_ble_eq_true rfl) rfl k
  · have k := zif h_ k
    refine Zm.l (fun _ _ k_ => z_aload_n dX8_primary_64 rfl rfl k_) ?_
    refine Zm.l (fun _ _ k_ => z_iconst (v := 5) dX8_primary_65 rfl k_) ?_
    refine Zm.l (fun _ _ k_ => z_aload_n dX8_primary_66 rfl rfl k_) ?_
    refine Zm.pick [] rfl ?_
    exact zm_callV (as := []) (st := [vi (5 : Int32), vr (some (97, 1, 0))]) dX8_primary_67 vsX8_521_1 (Nat.le_refl _) (Nat.le_of_ble_eq_true rfl) (Nat.le_of_ble_eq_true rfl) rfl k
theorem sX8_primary_70 {E : zE} {d : Nat} {Q : zO → zM → Prop} (M : zM) (s0 : Int32) (s1 : Int32) (k : Zm E YX8_node d M (zargs 0 [vr (some (97, 1, 0)), vi s1, vi s0, vi (0 : Int32), vi (0 : Int32)]) 0 [] (zma E YX8_primary (d + 1) [] 72 3 [] Q)) : Zm E YX8_primary (d + 1) M [] 70 [vi s0, vi s1, vr (some (97, 1, 0))] Q := by
  refine Zm.l (fun _ _ k_ => z_iconst (v := 0) dX8_primary_70 rfl k_) ?_
  refine Zm.l (fun _ _ k_ => z_iconst (v := 0) dX8_primary_71 rfl k_) ?_
  exact zm_callV (as := [vi s1, vi s0, vi (0 : Int32), vi (0 : Int32)]) (st := []) dX8_primary_72 vsX8_446_1 (Nat.le_refl _) (Nat.le_of_ble_eq_true rfl) (Nat.le_of_ble_eq_true rfl) rfl k
theorem sX8_primary_75 {E : zE} {d : Nat} {Q : zO → zM → Prop} (M : zM) (s0 : Int32) (k : Q (.inl (some (vi s0))) M) : Zm E YX8_primary (d + 1) M [] 75 [vi s0] Q := by
  exact zm_iret dX8_primary_75 rfl rfl k
theorem sX8_primary_82 {E : zE} {d : Nat} {Q : zO → zM → Prop} (M : zM) (l1 : Int32) (s0 : Int32) (k : if s0 = 0 then (vp_in (gi M 97 20) 4002 ∧ (if (gi M 103 ((gi M 97 20)).toNatClampNeg) = (1 : Int32) then (Zm E YX8_primary (d + 1) M [(0, vr (some (97, 1, 0))), (1, vi l1)] 159 [vi (1 : Int32)] Q) else (vp_in (gi M 97 20) 4002 ∧ (if (gi M 103 ((gi M 97 20)).toNatClampNeg) = (3 : Int32) then (Zm E YX8_primary (d + 1) M [(0, vr (some (97, 1, 0))), (1, vi l1)] 159 [vi (1 : Int32)] Q) else (vp_in (gi M 97 20) 4002 ∧ (if (gi M 103 ((gi M 97 20)).toNatClampNeg) = (4 : Int32) then (Zm E YX8_primary (d + 1) M [(0, vr (some (97, 1, 0))), (1, vi l1)] 159 [vi (1 : Int32)] Q) else (Zm E YX8_isLiteral d M (zargs 0 [vr (some (97, 1, 0))]) 0 [] (zma E YX8_primary (d + 1) [(0, vr (some (97, 1, 0))), (1, vi l1)] 139 3 [] Q)))))))) else (Zm E YX8_function d M (zargs 0 [vr (some (97, 1, 0)), vi (0 : Int32)]) 0 [] (zma E YX8_primary (d + 1) [] 90 3 [vi (6 : Int32), vr (some (97, 1, 0))] Q))) : Zm E YX8_primary (d + 1) M [(0, vr (some (97, 1, 0))), (1, vi l1)] 82 [vi s0] Q := by
  refine Zm.br (fun _ _ k1_ k2_ => z_if_eq (tgt := 99) dX8_primary_82 rfl k1_ k2_) (fun h_ => ?_) (fun h_ => ?_)
  · have k := zit h_ k
    refine Zm.l (fun _ _ k_ => z_aload_n dX8_primary_99 rfl rfl k_) ?_
    refine zm_getr 5 dX8_primary_100 fsX8_27_1 rfl ?_
    refine Zm.l (fun _ _ k_ => z_aload_n dX8_primary_103 rfl rfl k_) ?_
    refine zm_geti dX8_primary_104 fsX8_392_1 (by decide) (by decide) ?_
    obtain ⟨b_, k⟩ := k
    refine zm_iald dX8_primary_107 b_ (by decide) (by decide) ?_
    refine Zm.l (fun _ _ k_ => z_iconst (v := 1) dX8_primary_108 rfl k_) ?_
    refine Zm.br (fun _ _ k1_ k2_ => z_icmp_eq (tgt := 154) dX8_primary_109 rfl k1_ k2_) (fun h_ => ?_) (fun h_ => ?_)
    · have k := zit h_ k
      refine Zm.l (fun _ _ k_ => z_iconst (v := 1) dX8_primary_154 rfl k_) ?_
      refine Zm.l (fun _ _ k_ => z_goto (tgt := 159) dX8_primary_155 rfl k_) ?_
      exact k
    · have k := zif h_ k
      refine Zm.l (fun _ _ k_ => z_aload_n dX8_primary_112 rfl rfl k_) ?_
      refine zm_getr 5 dX8_primary_113 fsX8_27_1 rfl ?_
      refine Zm.l (fun _ _ k_ => z_aload_n dX8_primary_116 rfl rfl k_) ?_
      refine zm_geti dX8_primary_117 fsX8_392_1 (by decide) (by decide) ?_
      obtain ⟨b_, k⟩ := k
      refine zm_iald dX8_primary_120 b_ (by decide) (by decide) ?_
      refine Zm.l (fun _ _ k_ => z_iconst (v := 3) dX8_primary_121 rfl k_) ?_
      refine Zm.br (fun _ _ k1_ k2_ => z_icmp_eq (tgt := 154) dX8_primary_122 rfl k1_ k2_) (fun h_ => ?_) (fun h_ => ?_)
      · have k := zit h_ k
        refine Zm.l (fun _ _ k_ => z_iconst (v := 1) dX8_primary_154 rfl k_) ?_
        refine Zm.l (fun _ _ k_ => z_goto (tgt := 159) dX8_primary_155 rfl k_) ?_
        exact k
      · have k := zif h_ k
        refine Zm.l (fun _ _ k_ => z_aload_n dX8_primary_125 rfl rfl k_) ?_
        refine zm_getr 5 dX8_primary_126 fsX8_27_1 rfl ?_
        refine Zm.l (fun _ _ k_ => z_aload_n dX8_primary_129 rfl rfl k_) ?_
        refine zm_geti dX8_primary_130 fsX8_392_1 (by decide) (by decide) ?_
        obtain ⟨b_, k⟩ := k
        refine zm_iald dX8_primary_133 b_ (by decide) (by decide) ?_
        refine Zm.l (fun _ _ k_ => z_iconst (v := 4) dX8_primary_134 rfl k_) ?_
        refine Zm.br (fun _ _ k1_ k2_ => z_icmp_eq (tgt := 154) dX8_primary_135 rfl k1_ k2_) (fun h_ => ?_) (fun h_ => ?_)
        · have k := zit h_ k
          refine Zm.l (fun _ _ k_ => z_iconst (v := 1) dX8_primary_154 rfl k_) ?_
          refine Zm.l (fun _ _ k_ => z_goto (tgt := 159) dX8_primary_155 rfl k_) ?_
          exact k
        · have k := zif h_ k
          refine Zm.l (fun _ _ k_ => z_aload_n dX8_primary_138 rfl rfl k_) ?_
          exact zm_callV (as := []) (st := []) dX8_primary_139 vsX8_436_1 (Nat.le_refl _) (Nat.le_of_ble_eq_true rfl) (Nat.le_of_ble_eq_true rfl) rfl k
  · have k := zif h_ k
    refine Zm.l (fun _ _ k_ => z_aload_n dX8_primary_85 rfl rfl k_) ?_
    refine Zm.l (fun _ _ k_ => z_bipush (v := 6) dX8_primary_86 rfl k_) ?_
    refine Zm.l (fun _ _ k_ => z_aload_n dX8_primary_88 rfl rfl k_) ?_
    refine Zm.l (fun _ _ k_ => z_iconst (v := 0) dX8_primary_89 rfl k_) ?_
    refine Zm.pick [] rfl ?_
    exact zm_callV (as := [vi (0 : Int32)]) (st := [vi (6 : Int32), vr (some (97, 1, 0))]) dX8_primary_90 vsX8_524_1 (Nat.le_refl _) (Nat.le_of_ble_eq_true rfl) (Nat.le_of_ble_eq_true rfl) rfl k
theorem sX8_primary_93 {E : zE} {d : Nat} {Q : zO → zM → Prop} (M : zM) (s0 : Int32) (s1 : Int32) (k : Zm E YX8_node d M (zargs 0 [vr (some (97, 1, 0)), vi s1, vi s0, vi (0 : Int32), vi (0 : Int32)]) 0 [] (zma E YX8_primary (d + 1) [] 95 3 [] Q)) : Zm E YX8_primary (d + 1) M [] 93 [vi s0, vi s1, vr (some (97, 1, 0))] Q := by
  refine Zm.l (fun _ _ k_ => z_iconst (v := 0) dX8_primary_93 rfl k_) ?_
  refine Zm.l (fun _ _ k_ => z_iconst (v := 0) dX8_primary_94 rfl k_) ?_
  exact zm_callV (as := [vi s1, vi s0, vi (0 : Int32), vi (0 : Int32)]) (st := []) dX8_primary_95 vsX8_446_1 (Nat.le_refl _) (Nat.le_of_ble_eq_true rfl) (Nat.le_of_ble_eq_true rfl) rfl k
theorem sX8_primary_98 {E : zE} {d : Nat} {Q : zO → zM → Prop} (M : zM) (s0 : Int32) (k : Q (.inl (some (vi s0))) M) : Zm E YX8_primary (d + 1) M [] 98 [vi s0] Q := by
  exact zm_iret dX8_primary_98 rfl rfl k
theorem sX8_primary_142 {E : zE} {d : Nat} {Q : zO → zM → Prop} (M : zM) (l1 : Int32) (s0 : Int32) (k : if s0 = 0 then (Zm E YX8_isKeyword d M (zargs 0 [vr (some (97, 1, 0)), vi (20 : Int32)]) 0 [] (zma E YX8_primary (d + 1) [(0, vr (some (97, 1, 0))), (1, vi l1)] 148 3 [] Q)) else (Zm E YX8_primary (d + 1) M [(0, vr (some (97, 1, 0))), (1, vi l1)] 159 [vi (1 : Int32)] Q)) : Zm E YX8_primary (d + 1) M [(0, vr (some (97, 1, 0))), (1, vi l1)] 142 [vi s0] Q := by
  refine Zm.brn (fun _ _ k1_ k2_ => z_if_ne (tgt := 154) dX8_primary_142 rfl k1_ k2_) (fun h_ => ?_) (fun h_ => ?_)
  · have k := zif h_ k
    refine Zm.l (fun _ _ k_ => z_iconst (v := 1) dX8_primary_154 rfl k_) ?_
    refine Zm.l (fun _ _ k_ => z_goto (tgt := 159) dX8_primary_155 rfl k_) ?_
    exact k
  · have k := zit h_ k
    refine Zm.l (fun _ _ k_ => z_aload_n dX8_primary_145 rfl rfl k_) ?_
    refine Zm.l (fun _ _ k_ => z_bipush (v := 20) dX8_primary_146 rfl k_) ?_
    exact zm_callV (as := [vi (20 : Int32)]) (st := []) dX8_primary_148 vsX8_404_1 (Nat.le_refl _) (Nat.le_of_ble_eq_true rfl) (Nat.le_of_ble_eq_true rfl) rfl k
theorem sX8_primary_151 {E : zE} {d : Nat} {Q : zO → zM → Prop} (M : zM) (l1 : Int32) (s0 : Int32) (k : if s0 = 0 then (Zm E YX8_primary (d + 1) M [(0, vr (some (97, 1, 0))), (1, vi l1)] 159 [vi (0 : Int32)] Q) else (Zm E YX8_primary (d + 1) M [(0, vr (some (97, 1, 0))), (1, vi l1)] 159 [vi (1 : Int32)] Q)) : Zm E YX8_primary (d + 1) M [(0, vr (some (97, 1, 0))), (1, vi l1)] 151 [vi s0] Q := by
  refine Zm.br (fun _ _ k1_ k2_ => z_if_eq (tgt := 158) dX8_primary_151 rfl k1_ k2_) (fun h_ => ?_) (fun h_ => ?_)
  · have k := zit h_ k
    refine Zm.l (fun _ _ k_ => z_iconst (v := 0) dX8_primary_158 rfl k_) ?_
    exact k
  · have k := zif h_ k
    refine Zm.l (fun _ _ k_ => z_iconst (v := 1) dX8_primary_154 rfl k_) ?_
    refine Zm.l (fun _ _ k_ => z_goto (tgt := 159) dX8_primary_155 rfl k_) ?_
    exact k
theorem sX8_primary_159 {E : zE} {d : Nat} {Q : zO → zM → Prop} (M : zM) (l1 : Int32) (s0 : Int32) (k : if s0 = 0 then (Zm E YX8_fail d M (zargs 0 [vr (some (97, 1, 0)), vi (2 : Int32)]) 0 [] (zma E YX8_primary (d + 1) [] 166 3 [] Q)) else (vp_in l1 4002 ∧ (if (gi M 103 (l1).toNatClampNeg) = (1 : Int32) then (Zm E YX8_nameAt d (si M 97 20 ((gi M 97 20) + (1 : Int32))) (zargs 0 [vr (some (97, 1, 0)), vi l1]) 0 [] (zma E YX8_primary (d + 1) [] 196 3 [vi (2 : Int32), vr (some (97, 1, 0))] Q)) else (vp_in l1 4002 ∧ (if (gi M 103 (l1).toNatClampNeg) = (3 : Int32) then (vp_in l1 4002 ∧ (Zm E YX8_node d (si M 97 20 ((gi M 97 20) + (1 : Int32))) (zargs 0 [vr (some (97, 1, 0)), vi (0 : Int32), vi (5 : Int32), vi (gi M 104 (l1).toNatClampNeg), vi (0 : Int32)]) 0 [] (zma E YX8_primary (d + 1) [] 225 3 [] Q))) else (vp_in l1 4002 ∧ (if (gi M 103 (l1).toNatClampNeg) = (4 : Int32) then (Zm E YX8_nameAt d (si M 97 20 ((gi M 97 20) + (1 : Int32))) (zargs 0 [vr (some (97, 1, 0)), vi l1]) 0 [] (zma E YX8_primary (d + 1) [] 245 3 [vi (6 : Int32), vi (0 : Int32), vr (some (97, 1, 0))] Q)) else (vp_in l1 4002 ∧ (if (gi M 104 (l1).toNatClampNeg) = (20 : Int32) then (Zm E YX8_node d (si M 97 20 ((gi M 97 20) + (1 : Int32))) (zargs 0 [vr (some (97, 1, 0)), vi (1 : Int32), vi (0 : Int32), vi (0 : Int32), vi (0 : Int32)]) 0 [] (zma E YX8_primary (d + 1) [] 271 3 [] Q)) else (if (gi M 104 (l1).toNatClampNeg) = (25 : Int32) then (Zm E YX8_node d (si M 97 20 ((gi M 97 20) + (1 : Int32))) (zargs 0 [vr (some (97, 1, 0)), vi (0 : Int32), vi (0 : Int32), vi (0 : Int32), vi (0 : Int32)]) 0 [] (zma E YX8_primary (d + 1) [] 322 3 [] Q)) else (if (gi M 104 (l1).toNatClampNeg) = (17 : Int32) then (Zm E YX8_node d (si M 97 20 ((gi M 97 20) + (1 : Int32))) (zargs 0 [vr (some (97, 1, 0)), vi (0 : Int32), vi (1 : Int32), vi (0 : Int32), vi (0 : Int32)]) 0 [] (zma E YX8_primary (d + 1) [] 322 3 [] Q)) else (if (gi M 104 (l1).toNatClampNeg) = (22 : Int32) then (Zm E YX8_node d (si M 97 20 ((gi M 97 20) + (1 : Int32))) (zargs 0 [vr (some (97, 1, 0)), vi (0 : Int32), vi (2 : Int32), vi (0 : Int32), vi (0 : Int32)]) 0 [] (zma E YX8_primary (d + 1) [] 322 3 [] Q)) else (if (gi M 104 (l1).toNatClampNeg) = (8 : Int32) then (Zm E YX8_node d (si M 97 20 ((gi M 97 20) + (1 : Int32))) (zargs 0 [vr (some (97, 1, 0)), vi (0 : Int32), vi (3 : Int32), vi (0 : Int32), vi (0 : Int32)]) 0 [] (zma E YX8_primary (d + 1) [] 322 3 [] Q)) else (Zm E YX8_node d (si M 97 20 ((gi M 97 20) + (1 : Int32))) (zargs 0 [vr (some (97, 1, 0)), vi (0 : Int32), vi (4 : Int32), vi (0 : Int32), vi (0 : Int32)]) 0 [] (zma E YX8_primary (d + 1) [] 322 3 [] Q))))))))))))))) : Zm E YX8_primary (d + 1) M [(0, vr (some (97, 1, 0))), (1, vi l1)] 159 [vi s0] Q := by
  refine Zm.l (fun _ _ k_ => z_ist_n dX8_primary_159 rfl (by decide) (lv' := [(0, vr (some (97, 1, 0))), (1, vi l1), (2, vi s0)]) rfl k_) ?_
  refine Zm.l (fun _ _ k_ => z_iload_n dX8_primary_160 rfl rfl k_) ?_
  refine Zm.brn (fun _ _ k1_ k2_ => z_if_ne (tgt := 172) dX8_primary_161 rfl k1_ k2_) (fun h_ => ?_) (fun h_ => ?_)
  · have k := zif h_ k
    refine Zm.l (fun _ _ k_ => z_aload_n dX8_primary_172 rfl rfl k_) ?_
    refine Zm.l (fun _ _ k_ => z_dup dX8_primary_173 rfl k_) ?_
    refine zm_geti dX8_primary_174 fsX8_392_1 (by decide) (by decide) ?_
    refine Zm.l (fun _ _ k_ => z_iconst (v := 1) dX8_primary_177 rfl k_) ?_
    refine Zm.l (fun _ _ k_ => z_iadd dX8_primary_178 k_) ?_
    refine zm_puti (by decide) (by decide) dX8_primary_179 (zfwN.w fwX8_392_1) rfl ⟨rfl, rfl⟩ ?_
    refine Zm.l (fun _ _ k_ => z_aload_n dX8_primary_182 rfl rfl k_) ?_
    refine zm_getr 5 dX8_primary_183 fsX8_27_1 rfl ?_
    refine Zm.l (fun _ _ k_ => z_iload_n dX8_primary_186 rfl rfl k_) ?_
    obtain ⟨b_, k⟩ := k
    refine zm_iald dX8_primary_187 b_ (by decide) (by decide) ?_
    refine Zm.l (fun _ _ k_ => z_iconst (v := 1) dX8_primary_188 rfl k_) ?_
    refine Zm.brn (fun _ _ k1_ k2_ => z_icmp_ne (tgt := 205) dX8_primary_189 rfl k1_ k2_) (fun h_ => ?_) (fun h_ => ?_)
    · have k := zif h_ k
      refine Zm.l (fun _ _ k_ => z_aload_n dX8_primary_205 rfl rfl k_) ?_
      refine zm_getr 5 dX8_primary_206 fsX8_27_1 rfl ?_
      refine Zm.l (fun _ _ k_ => z_iload_n dX8_primary_209 rfl rfl k_) ?_
      obtain ⟨b_, k⟩ := k
      refine zm_iald dX8_primary_210 b_ (by decide) (by decide) ?_
      refine Zm.l (fun _ _ k_ => z_iconst (v := 3) dX8_primary_211 rfl k_) ?_
      refine Zm.brn (fun _ _ k1_ k2_ => z_icmp_ne (tgt := 229) dX8_primary_212 rfl k1_ k2_) (fun h_ => ?_) (fun h_ => ?_)
      · have k := zif h_ k
        refine Zm.l (fun _ _ k_ => z_aload_n dX8_primary_229 rfl rfl k_) ?_
        refine zm_getr 5 dX8_primary_230 fsX8_27_1 rfl ?_
        refine Zm.l (fun _ _ k_ => z_iload_n dX8_primary_233 rfl rfl k_) ?_
        obtain ⟨b_, k⟩ := k
        refine zm_iald dX8_primary_234 b_ (by decide) (by decide) ?_
        refine Zm.l (fun _ _ k_ => z_iconst (v := 4) dX8_primary_235 rfl k_) ?_
        refine Zm.brn (fun _ _ k1_ k2_ => z_icmp_ne (tgt := 253) dX8_primary_236 rfl k1_ k2_) (fun h_ => ?_) (fun h_ => ?_)
        · have k := zif h_ k
          refine Zm.l (fun _ _ k_ => z_aload_n dX8_primary_253 rfl rfl k_) ?_
          refine zm_getr 6 dX8_primary_254 fsX8_30_1 rfl ?_
          refine Zm.l (fun _ _ k_ => z_iload_n dX8_primary_257 rfl rfl k_) ?_
          obtain ⟨b_, k⟩ := k
          refine zm_iald dX8_primary_258 b_ (by decide) (by decide) ?_
          refine Zm.l (fun _ _ k_ => z_ist_n dX8_primary_259 rfl (by decide) (lv' := [(0, vr (some (97, 1, 0))), (1, vi l1), (2, vi s0), (3, vi (gi M 104 (l1).toNatClampNeg))]) rfl k_) ?_
          refine Zm.l (fun _ _ k_ => z_iload_n dX8_primary_260 rfl rfl k_) ?_
          refine Zm.l (fun _ _ k_ => z_bipush (v := 20) dX8_primary_261 rfl k_) ?_
          refine Zm.brn (fun _ _ k1_ k2_ => z_icmp_ne (tgt := 277) dX8_primary_263 rfl k1_ k2_) (fun h_ => ?_) (fun h_ => ?_)
          · have k := zif h_ k
            refine Zm.l (fun _ _ k_ => z_aload_n dX8_primary_277 rfl rfl k_) ?_
            refine Zm.l (fun _ _ k_ => z_iconst (v := 0) dX8_primary_278 rfl k_) ?_
            refine Zm.l (fun _ _ k_ => z_iload_n dX8_primary_279 rfl rfl k_) ?_
            refine Zm.l (fun _ _ k_ => z_bipush (v := 25) dX8_primary_280 rfl k_) ?_
            refine Zm.brn (fun _ _ k1_ k2_ => z_icmp_ne (tgt := 289) dX8_primary_282 rfl k1_ k2_) (fun h_ => ?_) (fun h_ => ?_)
            · have k := zif h_ k
              refine Zm.l (fun _ _ k_ => z_iload_n dX8_primary_289 rfl rfl k_) ?_
              refine Zm.l (fun _ _ k_ => z_bipush (v := 17) dX8_primary_290 rfl k_) ?_
              refine Zm.brn (fun _ _ k1_ k2_ => z_icmp_ne (tgt := 299) dX8_primary_292 rfl k1_ k2_) (fun h_ => ?_) (fun h_ => ?_)
              · have k := zif h_ k
                refine Zm.l (fun _ _ k_ => z_iload_n dX8_primary_299 rfl rfl k_) ?_
                refine Zm.l (fun _ _ k_ => z_bipush (v := 22) dX8_primary_300 rfl k_) ?_
                refine Zm.brn (fun _ _ k1_ k2_ => z_icmp_ne (tgt := 309) dX8_primary_302 rfl k1_ k2_) (fun h_ => ?_) (fun h_ => ?_)
                · have k := zif h_ k
                  refine Zm.l (fun _ _ k_ => z_iload_n dX8_primary_309 rfl rfl k_) ?_
                  refine Zm.l (fun _ _ k_ => z_bipush (v := 8) dX8_primary_310 rfl k_) ?_
                  refine Zm.brn (fun _ _ k1_ k2_ => z_icmp_ne (tgt := 319) dX8_primary_312 rfl k1_ k2_) (fun h_ => ?_) (fun h_ => ?_)
                  · have k := zif h_ k
                    refine Zm.l (fun _ _ k_ => z_iconst (v := 4) dX8_primary_319 rfl k_) ?_
                    refine Zm.l (fun _ _ k_ => z_iconst (v := 0) dX8_primary_320 rfl k_) ?_
                    refine Zm.l (fun _ _ k_ => z_iconst (v := 0) dX8_primary_321 rfl k_) ?_
                    refine Zm.pick [] rfl ?_
                    exact zm_callV (as := [vi (0 : Int32), vi (4 : Int32), vi (0 : Int32), vi (0 : Int32)]) (st := []) dX8_primary_322 vsX8_446_1 (Nat.le_refl _) (Nat.le_of_ble_eq_true rfl) (Nat.le_of_ble_eq_true rfl) rfl k
                  · have k := zit h_ k
                    refine Zm.l (fun _ _ k_ => z_iconst (v := 3) dX8_primary_315 rfl k_) ?_
                    refine Zm.l (fun _ _ k_ => z_goto (tgt := 320) dX8_primary_316 rfl k_) ?_
                    refine Zm.l (fun _ _ k_ => z_iconst (v := 0) dX8_primary_320 rfl k_) ?_
                    refine Zm.l (fun _ _ k_ => z_iconst (v := 0) dX8_primary_321 rfl k_) ?_
                    refine Zm.pick [] rfl ?_
                    exact zm_callV (as := [vi (0 : Int32), vi (3 : Int32), vi (0 : Int32), vi (0 : Int32)]) (st := []) dX8_primary_322 vsX8_446_1 (Nat.le_refl _) (Nat.le_of_ble_eq_true rfl) (Nat.le_of_ble_eq_true rfl) rfl k
                · have k := zit h_ k
                  refine Zm.l (fun _ _ k_ => z_iconst (v := 2) dX8_primary_305 rfl k_) ?_
                  refine Zm.l (fun _ _ k_ => z_goto (tgt := 320) dX8_primary_306 rfl k_) ?_
                  refine Zm.l (fun _ _ k_ => z_iconst (v := 0) dX8_primary_320 rfl k_) ?_
                  refine Zm.l (fun _ _ k_ => z_iconst (v := 0) dX8_primary_321 rfl k_) ?_
                  refine Zm.pick [] rfl ?_
                  exact zm_callV (as := [vi (0 : Int32), vi (2 : Int32), vi (0 : Int32), vi (0 : Int32)]) (st := []) dX8_primary_322 vsX8_446_1 (Nat.le_refl _) (Nat.le_of_ble_eq_true rfl) (Nat.le_of_ble_eq_true rfl) rfl k
              · have k := zit h_ k
                refine Zm.l (fun _ _ k_ => z_iconst (v := 1) dX8_primary_295 rfl k_) ?_
                refine Zm.l (fun _ _ k_ => z_goto (tgt := 320) dX8_primary_296 rfl k_) ?_
                refine Zm.l (fun _ _ k_ => z_iconst (v := 0) dX8_primary_320 rfl k_) ?_
                refine Zm.l (fun _ _ k_ => z_iconst (v := 0) dX8_primary_321 rfl k_) ?_
                refine Zm.pick [] rfl ?_
                exact zm_callV (as := [vi (0 : Int32), vi (1 : Int32), vi (0 : Int32), vi (0 : Int32)]) (st := []) dX8_primary_322 vsX8_446_1 (Nat.le_refl _) (Nat.le_of_ble_eq_true rfl) (Nat.le_of_ble_eq_true rfl) rfl k
            · have k := zit h_ k
              refine Zm.l (fun _ _ k_ => z_iconst (v := 0) dX8_primary_285 rfl k_) ?_
              refine Zm.l (fun _ _ k_ => z_goto (tgt := 320) dX8_primary_286 rfl k_) ?_
              refine Zm.l (fun _ _ k_ => z_iconst (v := 0) dX8_primary_320 rfl k_) ?_
              refine Zm.l (fun _ _ k_ => z_iconst (v := 0) dX8_primary_321 rfl k_) ?_
              refine Zm.pick [] rfl ?_
              exact zm_callV (as := [vi (0 : Int32), vi (0 : Int32), vi (0 : Int32), vi (0 : Int32)]) (st := []) dX8_primary_322 vsX8_446_1 (Nat.le_refl _) (Nat.le_of_ble_eq_true rfl) (Nat.le_of_ble_eq_true rfl) rfl k
          · have k := zit h_ k
            refine Zm.l (fun _ _ k_ => z_aload_n dX8_primary_266 rfl rfl k_) ?_
            refine Zm.l (fun _ _ k_ => z_iconst (v := 1) dX8_primary_267 rfl k_) ?_
            refine Zm.l (fun _ _ k_ => z_iconst (v := 0) dX8_primary_268 rfl k_) ?_
            refine Zm.l (fun _ _ k_ => z_iconst (v := 0) dX8_primary_269 rfl k_) ?_
            refine Zm.l (fun _ _ k_ => z_iconst (v := 0) dX8_primary_270 rfl k_) ?_
            refine Zm.pick [] rfl ?_
            exact zm_callV (as := [vi (1 : Int32), vi (0 : Int32), vi (0 : Int32), vi (0 : Int32)]) (st := []) dX8_primary_271 vsX8_446_1 (Nat.le_refl _) (Nat.le_of_ble_eq_true rfl) (Nat.le_of_ble_eq_true rfl) rfl k
        · have k := zit h_ k
          refine Zm.l (fun _ _ k_ => z_aload_n dX8_primary_239 rfl rfl k_) ?_
          refine Zm.l (fun _ _ k_ => z_iconst (v := 0) dX8_primary_240 rfl k_) ?_
          refine Zm.l (fun _ _ k_ => z_bipush (v := 6) dX8_primary_241 rfl k_) ?_
          refine Zm.l (fun _ _ k_ => z_aload_n dX8_primary_243 rfl rfl k_) ?_
          refine Zm.l (fun _ _ k_ => z_iload_n dX8_primary_244 rfl rfl k_) ?_
          refine Zm.pick [] rfl ?_
          exact zm_callV (as := [vi l1]) (st := [vi (6 : Int32), vi (0 : Int32), vr (some (97, 1, 0))]) dX8_primary_245 vsX8_418_1 (Nat.le_refl _) (Nat.le_of_ble_eq_true rfl) (Nat.le_of_ble_eq_true rfl) rfl k
      · have k := zit h_ k
        refine Zm.l (fun _ _ k_ => z_aload_n dX8_primary_215 rfl rfl k_) ?_
        refine Zm.l (fun _ _ k_ => z_iconst (v := 0) dX8_primary_216 rfl k_) ?_
        refine Zm.l (fun _ _ k_ => z_iconst (v := 5) dX8_primary_217 rfl k_) ?_
        refine Zm.l (fun _ _ k_ => z_aload_n dX8_primary_218 rfl rfl k_) ?_
        refine zm_getr 6 dX8_primary_219 fsX8_30_1 rfl ?_
        refine Zm.l (fun _ _ k_ => z_iload_n dX8_primary_222 rfl rfl k_) ?_
        obtain ⟨b_, k⟩ := k
        refine zm_iald dX8_primary_223 b_ (by decide) (by decide) ?_
        refine Zm.l (fun _ _ k_ => z_iconst (v := 0) dX8_primary_224 rfl k_) ?_
        refine Zm.pick [] rfl ?_
        exact zm_callV (as := [vi (0 : Int32), vi (5 : Int32), vi (gi M 104 (l1).toNatClampNeg), vi (0 : Int32)]) (st := []) dX8_primary_225 vsX8_446_1 (Nat.le_refl _) (Nat.le_of_ble_eq_true rfl) (Nat.le_of_ble_eq_true rfl) rfl k
    · have k := zit h_ k
      refine Zm.l (fun _ _ k_ => z_aload_n dX8_primary_192 rfl rfl k_) ?_
      refine Zm.l (fun _ _ k_ => z_iconst (v := 2) dX8_primary_193 rfl k_) ?_
      refine Zm.l (fun _ _ k_ => z_aload_n dX8_primary_194 rfl rfl k_) ?_
      refine Zm.l (fun _ _ k_ => z_iload_n dX8_primary_195 rfl rfl k_) ?_
      refine Zm.pick [] rfl ?_
      exact zm_callV (as := [vi l1]) (st := [vi (2 : Int32), vr (some (97, 1, 0))]) dX8_primary_196 vsX8_418_1 (Nat.le_refl _) (Nat.le_of_ble_eq_true rfl) (Nat.le_of_ble_eq_true rfl) rfl k
  · have k := zit h_ k
    refine Zm.l (fun _ _ k_ => z_aload_n dX8_primary_164 rfl rfl k_) ?_
    refine Zm.l (fun _ _ k_ => z_iconst (v := 2) dX8_primary_165 rfl k_) ?_
    refine Zm.pick [] rfl ?_
    exact zm_callV (as := [vi (2 : Int32)]) (st := []) dX8_primary_166 vsX8_401_1 (Nat.le_refl _) (Nat.le_of_ble_eq_true rfl) (Nat.le_of_ble_eq_true rfl) rfl k
theorem sX8_primary_169 {E : zE} {d : Nat} {Q : zO → zM → Prop} (M : zM) (s0 : Int32) (k : Q (.inl (some (vi (-1 : Int32)))) M) : Zm E YX8_primary (d + 1) M [] 169 [vi s0] Q := by
  refine Zm.l (fun _ _ k_ => z_pop dX8_primary_169 rfl k_) ?_
  refine Zm.l (fun _ _ k_ => z_iconst (v := -1) dX8_primary_170 rfl k_) ?_
  exact zm_iret dX8_primary_171 rfl rfl k
theorem sX8_primary_199 {E : zE} {d : Nat} {Q : zO → zM → Prop} (M : zM) (s0 : Int32) (s1 : Int32) (k : Zm E YX8_node d M (zargs 0 [vr (some (97, 1, 0)), vi s1, vi s0, vi (0 : Int32), vi (0 : Int32)]) 0 [] (zma E YX8_primary (d + 1) [] 201 3 [] Q)) : Zm E YX8_primary (d + 1) M [] 199 [vi s0, vi s1, vr (some (97, 1, 0))] Q := by
  refine Zm.l (fun _ _ k_ => z_iconst (v := 0) dX8_primary_199 rfl k_) ?_
  refine Zm.l (fun _ _ k_ => z_iconst (v := 0) dX8_primary_200 rfl k_) ?_
  exact zm_callV (as := [vi s1, vi s0, vi (0 : Int32), vi (0 : Int32)]) (st := []) dX8_primary_201 vsX8_446_1 (Nat.le_refl _) (Nat.le_of_ble_eq_true rfl) (Nat.le_of_ble_eq_true rfl) rfl k
theorem sX8_primary_204 {E : zE} {d : Nat} {Q : zO → zM → Prop} (M : zM) (s0 : Int32) (k : Q (.inl (some (vi s0))) M) : Zm E YX8_primary (d + 1) M [] 204 [vi s0] Q := by
  exact zm_iret dX8_primary_204 rfl rfl k
theorem sX8_primary_228 {E : zE} {d : Nat} {Q : zO → zM → Prop} (M : zM) (s0 : Int32) (k : Q (.inl (some (vi s0))) M) : Zm E YX8_primary (d + 1) M [] 228 [vi s0] Q := by
  exact zm_iret dX8_primary_228 rfl rfl k
theorem sX8_primary_248 {E : zE} {d : Nat} {Q : zO → zM → Prop} (M : zM) (s0 : Int32) (s1 : Int32) (s2 : Int32) (k : Zm E YX8_node d M (zargs 0 [vr (some (97, 1, 0)), vi s2, vi s1, vi s0, vi (0 : Int32)]) 0 [] (zma E YX8_primary (d + 1) [] 249 3 [] Q)) : Zm E YX8_primary (d + 1) M [] 248 [vi s0, vi s1, vi s2, vr (some (97, 1, 0))] Q := by
  refine Zm.l (fun _ _ k_ => z_iconst (v := 0) dX8_primary_248 rfl k_) ?_
  exact zm_callV (as := [vi s2, vi s1, vi s0, vi (0 : Int32)]) (st := []) dX8_primary_249 vsX8_446_1 (Nat.le_refl _) (Nat.le_of_ble_eq_true rfl) (Nat.le_of_ble_eq_true rfl) rfl k
theorem sX8_primary_252 {E : zE} {d : Nat} {Q : zO → zM → Prop} (M : zM) (s0 : Int32) (k : Q (.inl (some (vi s0))) M) : Zm E YX8_primary (d + 1) M [] 252 [vi s0] Q := by
  exact zm_iret dX8_primary_252 rfl rfl k
theorem sX8_primary_274 {E : zE} {d : Nat} {Q : zO → zM → Prop} (M : zM) (s0 : Int32) (k : Zm E YX8_primary (d + 1) M [] 325 [vi s0] Q) : Zm E YX8_primary (d + 1) M [] 274 [vi s0] Q := by
  refine Zm.l (fun _ _ k_ => z_goto (tgt := 325) dX8_primary_274 rfl k_) ?_
  exact k
theorem sX8_primary_325 {E : zE} {d : Nat} {Q : zO → zM → Prop} (M : zM) (s0 : Int32) (k : Q (.inl (some (vi s0))) M) : Zm E YX8_primary (d + 1) M [] 325 [vi s0] Q := by
  exact zm_iret dX8_primary_325 rfl rfl k
/-! ScriptTypesModel.bracketed()I -/
theorem bX8_bracketed_0 : zdec cX8_bracketed 0 [(0, .aload_n 0, 1), (1, .iconst 1, 1), (2, .invokevirtual 450, 3), (5, .aload_n 0, 1), (6, .dup, 1), (7, .getfield 392, 3), (10, .iconst 1, 1), (11, .iadd, 1), (12, .putfield 392, 3), (15, .aload_n 0, 1), (16, .getfield 389, 3), (19, .ifCond .le 7, 3), (22, .iconst (-1), 1), (23, .goto 8, 3), (26, .aload_n 0, 1), (27, .iconst 1, 1)] = true := by decide +kernel
theorem dX8_bracketed_0 : decode cX8_bracketed 0 = .ok (.aload_n 0, 1) := zdec_at bX8_bracketed_0 0 rfl
theorem dX8_bracketed_1 : decode cX8_bracketed 1 = .ok (.iconst 1, 1) := zdec_at bX8_bracketed_0 1 rfl
theorem dX8_bracketed_2 : decode cX8_bracketed 2 = .ok (.invokevirtual 450, 3) := zdec_at bX8_bracketed_0 2 rfl
theorem dX8_bracketed_5 : decode cX8_bracketed 5 = .ok (.aload_n 0, 1) := zdec_at bX8_bracketed_0 3 rfl
theorem dX8_bracketed_6 : decode cX8_bracketed 6 = .ok (.dup, 1) := zdec_at bX8_bracketed_0 4 rfl
theorem dX8_bracketed_7 : decode cX8_bracketed 7 = .ok (.getfield 392, 3) := zdec_at bX8_bracketed_0 5 rfl
theorem dX8_bracketed_10 : decode cX8_bracketed 10 = .ok (.iconst 1, 1) := zdec_at bX8_bracketed_0 6 rfl
theorem dX8_bracketed_11 : decode cX8_bracketed 11 = .ok (.iadd, 1) := zdec_at bX8_bracketed_0 7 rfl
theorem dX8_bracketed_12 : decode cX8_bracketed 12 = .ok (.putfield 392, 3) := zdec_at bX8_bracketed_0 8 rfl
theorem dX8_bracketed_15 : decode cX8_bracketed 15 = .ok (.aload_n 0, 1) := zdec_at bX8_bracketed_0 9 rfl
theorem dX8_bracketed_16 : decode cX8_bracketed 16 = .ok (.getfield 389, 3) := zdec_at bX8_bracketed_0 10 rfl
theorem dX8_bracketed_19 : decode cX8_bracketed 19 = .ok (.ifCond .le 7, 3) := zdec_at bX8_bracketed_0 11 rfl
theorem dX8_bracketed_22 : decode cX8_bracketed 22 = .ok (.iconst (-1), 1) := zdec_at bX8_bracketed_0 12 rfl
theorem dX8_bracketed_23 : decode cX8_bracketed 23 = .ok (.goto 8, 3) := zdec_at bX8_bracketed_0 13 rfl
theorem dX8_bracketed_26 : decode cX8_bracketed 26 = .ok (.aload_n 0, 1) := zdec_at bX8_bracketed_0 14 rfl
theorem dX8_bracketed_27 : decode cX8_bracketed 27 = .ok (.iconst 1, 1) := zdec_at bX8_bracketed_0 15 rfl
theorem bX8_bracketed_28 : zdec cX8_bracketed 28 [(28, .invokevirtual 502, 3), (31, .istore_n 1, 1), (32, .aload_n 0, 1), (33, .invokevirtual 454, 3), (36, .aload_n 0, 1), (37, .bipush 27, 2), (39, .invokevirtual 473, 3), (42, .ifCond .ne 5, 3), (45, .iconst (-1), 1), (46, .ireturn, 1), (47, .aload_n 0, 1), (48, .getfield 52, 3), (51, .iload_n 1, 1), (52, .iconst 1, 1), (53, .bastore, 1), (54, .iload_n 1, 1)] = true := by decide +kernel
theorem dX8_bracketed_28 : decode cX8_bracketed 28 = .ok (.invokevirtual 502, 3) := zdec_at bX8_bracketed_28 0 rfl
theorem dX8_bracketed_31 : decode cX8_bracketed 31 = .ok (.istore_n 1, 1) := zdec_at bX8_bracketed_28 1 rfl
theorem dX8_bracketed_32 : decode cX8_bracketed 32 = .ok (.aload_n 0, 1) := zdec_at bX8_bracketed_28 2 rfl
theorem dX8_bracketed_33 : decode cX8_bracketed 33 = .ok (.invokevirtual 454, 3) := zdec_at bX8_bracketed_28 3 rfl
theorem dX8_bracketed_36 : decode cX8_bracketed 36 = .ok (.aload_n 0, 1) := zdec_at bX8_bracketed_28 4 rfl
theorem dX8_bracketed_37 : decode cX8_bracketed 37 = .ok (.bipush 27, 2) := zdec_at bX8_bracketed_28 5 rfl
theorem dX8_bracketed_39 : decode cX8_bracketed 39 = .ok (.invokevirtual 473, 3) := zdec_at bX8_bracketed_28 6 rfl
theorem dX8_bracketed_42 : decode cX8_bracketed 42 = .ok (.ifCond .ne 5, 3) := zdec_at bX8_bracketed_28 7 rfl
theorem dX8_bracketed_45 : decode cX8_bracketed 45 = .ok (.iconst (-1), 1) := zdec_at bX8_bracketed_28 8 rfl
theorem dX8_bracketed_46 : decode cX8_bracketed 46 = .ok (.ireturn, 1) := zdec_at bX8_bracketed_28 9 rfl
theorem dX8_bracketed_47 : decode cX8_bracketed 47 = .ok (.aload_n 0, 1) := zdec_at bX8_bracketed_28 10 rfl
theorem dX8_bracketed_48 : decode cX8_bracketed 48 = .ok (.getfield 52, 3) := zdec_at bX8_bracketed_28 11 rfl
theorem dX8_bracketed_51 : decode cX8_bracketed 51 = .ok (.iload_n 1, 1) := zdec_at bX8_bracketed_28 12 rfl
theorem dX8_bracketed_52 : decode cX8_bracketed 52 = .ok (.iconst 1, 1) := zdec_at bX8_bracketed_28 13 rfl
theorem dX8_bracketed_53 : decode cX8_bracketed 53 = .ok (.bastore, 1) := zdec_at bX8_bracketed_28 14 rfl
theorem dX8_bracketed_54 : decode cX8_bracketed 54 = .ok (.iload_n 1, 1) := zdec_at bX8_bracketed_28 15 rfl
theorem bX8_bracketed_55 : zdec cX8_bracketed 55 [(55, .ireturn, 1)] = true := by decide +kernel
theorem dX8_bracketed_55 : decode cX8_bracketed 55 = .ok (.ireturn, 1) := zdec_at bX8_bracketed_55 0 rfl
theorem sX8_bracketed_0 {E : zE} {d : Nat} {Q : zO → zM → Prop} (M : zM)  (k : Zm E YX8_open d M (zargs 0 [vr (some (97, 1, 0)), vi (1 : Int32)]) 0 [] (zma E YX8_bracketed (d + 1) [(0, vr (some (97, 1, 0)))] 2 3 [] Q)) : Zm E YX8_bracketed (d + 1) M [(0, vr (some (97, 1, 0)))] 0 [] Q := by
  refine Zm.l (fun _ _ k_ => z_aload_n dX8_bracketed_0 rfl rfl k_) ?_
  refine Zm.l (fun _ _ k_ => z_iconst (v := 1) dX8_bracketed_1 rfl k_) ?_
  exact zm_callV (as := [vi (1 : Int32)]) (st := []) dX8_bracketed_2 vsX8_450_1 (Nat.le_refl _) (Nat.le_of_ble_eq_true rfl) (Nat.le_of_ble_eq_true rfl) rfl k
theorem sX8_bracketed_5 {E : zE} {d : Nat} {Q : zO → zM → Prop} (M : zM)  (k : if (gi M 97 21) ≤ 0 then (Zm E YX8_expression d (si M 97 20 ((gi M 97 20) + (1 : Int32))) (zargs 0 [vr (some (97, 1, 0)), vi (1 : Int32)]) 0 [] (zma E YX8_bracketed (d + 1) [(0, vr (some (97, 1, 0)))] 28 3 [] Q)) else (Zm E YX8_bracketed (d + 1) (si M 97 20 ((gi M 97 20) + (1 : Int32))) [(0, vr (some (97, 1, 0)))] 31 [vi (-1 : Int32)] Q)) : Zm E YX8_bracketed (d + 1) M [(0, vr (some (97, 1, 0)))] 5 [] Q := by
  refine Zm.l (fun _ _ k_ => z_aload_n dX8_bracketed_5 rfl rfl k_) ?_
  refine Zm.l (fun _ _ k_ => z_dup dX8_bracketed_6 rfl k_) ?_
  refine zm_geti dX8_bracketed_7 fsX8_392_1 (by decide) (by decide) ?_
  refine Zm.l (fun _ _ k_ => z_iconst (v := 1) dX8_bracketed_10 rfl k_) ?_
  refine Zm.l (fun _ _ k_ => z_iadd dX8_bracketed_11 k_) ?_
  refine zm_puti (by decide) (by decide) dX8_bracketed_12 (zfwN.w fwX8_392_1) rfl ⟨rfl, rfl⟩ ?_
  refine Zm.l (fun _ _ k_ => z_aload_n dX8_bracketed_15 rfl rfl k_) ?_
  refine zm_geti dX8_bracketed_16 fsX8_389_1 (by decide) (by decide) ?_
  refine Zm.br (fun _ _ k1_ k2_ => z_if_le (tgt := 26) dX8_bracketed_19 rfl k1_ k2_) (fun h_ => ?_) (fun h_ => ?_)
  · have k := zit h_ k
    refine Zm.l (fun _ _ k_ => z_aload_n dX8_bracketed_26 rfl rfl k_) ?_
    refine Zm.l (fun _ _ k_ => z_iconst (v := 1) dX8_bracketed_27 rfl k_) ?_
    exact zm_callV (as := [vi (1 : Int32)]) (st := []) dX8_bracketed_28 vsX8_502_1 (Nat.le_refl _) (Nat.le_of_ble_eq_true rfl) (Nat.le_of_ble_eq_true rfl) rfl k
  · have k := zif h_ k
    refine Zm.l (fun _ _ k_ => z_iconst (v := -1) dX8_bracketed_22 rfl k_) ?_
    refine Zm.l (fun _ _ k_ => z_goto (tgt := 31) dX8_bracketed_23 rfl k_) ?_
    exact k
theorem sX8_bracketed_31 {E : zE} {d : Nat} {Q : zO → zM → Prop} (M : zM) (s0 : Int32) (k : Zm E YX8_close d M (zargs 0 [vr (some (97, 1, 0))]) 0 [] (zma E YX8_bracketed (d + 1) [(0, vr (some (97, 1, 0))), (1, vi s0)] 33 3 [] Q)) : Zm E YX8_bracketed (d + 1) M [(0, vr (some (97, 1, 0)))] 31 [vi s0] Q := by
  refine Zm.l (fun _ _ k_ => z_ist_n dX8_bracketed_31 rfl (by decide) (lv' := [(0, vr (some (97, 1, 0))), (1, vi s0)]) rfl k_) ?_
  refine Zm.l (fun _ _ k_ => z_aload_n dX8_bracketed_32 rfl rfl k_) ?_
  exact zm_callV (as := []) (st := []) dX8_bracketed_33 vsX8_454_1 (Nat.le_refl _) (Nat.le_of_ble_eq_true rfl) (Nat.le_of_ble_eq_true rfl) rfl k
theorem sX8_bracketed_36 {E : zE} {d : Nat} {Q : zO → zM → Prop} (M : zM) (l1 : Int32) (k : Zm E YX8_must d M (zargs 0 [vr (some (97, 1, 0)), vi (27 : Int32)]) 0 [] (zma E YX8_bracketed (d + 1) [(0, vr (some (97, 1, 0))), (1, vi l1)] 39 3 [] Q)) : Zm E YX8_bracketed (d + 1) M [(0, vr (some (97, 1, 0))), (1, vi l1)] 36 [] Q := by
  refine Zm.l (fun _ _ k_ => z_aload_n dX8_bracketed_36 rfl rfl k_) ?_
  refine Zm.l (fun _ _ k_ => z_bipush (v := 27) dX8_bracketed_37 rfl k_) ?_
  exact zm_callV (as := [vi (27 : Int32)]) (st := []) dX8_bracketed_39 vsX8_473_1 (Nat.le_refl _) (Nat.le_of_ble_eq_true rfl) (Nat.le_of_ble_eq_true rfl) rfl k
theorem sX8_bracketed_42 {E : zE} {d : Nat} {Q : zO → zM → Prop} (M : zM) (l1 : Int32) (s0 : Int32) (k : if s0 = 0 then (Q (.inl (some (vi (-1 : Int32)))) M) else (vp_in l1 12000 ∧ (Q (.inl (some (vi l1))) (si M 111 (l1).toNatClampNeg (vp_nar .boolean (1 : Int32)))))) : Zm E YX8_bracketed (d + 1) M [(0, vr (some (97, 1, 0))), (1, vi l1)] 42 [vi s0] Q := by
  refine Zm.brn (fun _ _ k1_ k2_ => z_if_ne (tgt := 47) dX8_bracketed_42 rfl k1_ k2_) (fun h_ => ?_) (fun h_ => ?_)
  · have k := zif h_ k
    refine Zm.l (fun _ _ k_ => z_aload_n dX8_bracketed_47 rfl rfl k_) ?_
    refine zm_getr 13 dX8_bracketed_48 fsX8_52_1 rfl ?_
    refine Zm.l (fun _ _ k_ => z_iload_n dX8_bracketed_51 rfl rfl k_) ?_
    refine Zm.l (fun _ _ k_ => z_iconst (v := 1) dX8_bracketed_52 rfl k_) ?_
    obtain ⟨b_, k⟩ := k
    refine zm_zast dX8_bracketed_53 b_ (by decide) (by decide) ?_
    refine Zm.l (fun _ _ k_ => z_iload_n dX8_bracketed_54 rfl rfl k_) ?_
    exact zm_iret dX8_bracketed_55 rfl rfl k
  · have k := zit h_ k
    refine Zm.l (fun _ _ k_ => z_iconst (v := -1) dX8_bracketed_45 rfl k_) ?_
    exact zm_iret dX8_bracketed_46 rfl rfl k
/-! ScriptTypesModel.items(III)I -/
theorem bX8_items_0 : zdec cX8_items 0 [(0, .aload_n 0, 1), (1, .iconst 1, 1), (2, .invokevirtual 450, 3), (5, .aload_n 0, 1), (6, .dup, 1), (7, .getfield 392, 3), (10, .iconst 1, 1), (11, .iadd, 1), (12, .putfield 392, 3), (15, .aload_n 0, 1), (16, .invokevirtual 509, 3), (19, .iconst 0, 1), (20, .istore 4, 2), (22, .aload_n 0, 1), (23, .getfield 389, 3), (26, .ifCond .ne 15, 3)] = true := by decide +kernel
theorem dX8_items_0 : decode cX8_items 0 = .ok (.aload_n 0, 1) := zdec_at bX8_items_0 0 rfl
theorem dX8_items_1 : decode cX8_items 1 = .ok (.iconst 1, 1) := zdec_at bX8_items_0 1 rfl
theorem dX8_items_2 : decode cX8_items 2 = .ok (.invokevirtual 450, 3) := zdec_at bX8_items_0 2 rfl
theorem dX8_items_5 : decode cX8_items 5 = .ok (.aload_n 0, 1) := zdec_at bX8_items_0 3 rfl
theorem dX8_items_6 : decode cX8_items 6 = .ok (.dup, 1) := zdec_at bX8_items_0 4 rfl
theorem dX8_items_7 : decode cX8_items 7 = .ok (.getfield 392, 3) := zdec_at bX8_items_0 5 rfl
theorem dX8_items_10 : decode cX8_items 10 = .ok (.iconst 1, 1) := zdec_at bX8_items_0 6 rfl
theorem dX8_items_11 : decode cX8_items 11 = .ok (.iadd, 1) := zdec_at bX8_items_0 7 rfl
theorem dX8_items_12 : decode cX8_items 12 = .ok (.putfield 392, 3) := zdec_at bX8_items_0 8 rfl
theorem dX8_items_15 : decode cX8_items 15 = .ok (.aload_n 0, 1) := zdec_at bX8_items_0 9 rfl
theorem dX8_items_16 : decode cX8_items 16 = .ok (.invokevirtual 509, 3) := zdec_at bX8_items_0 10 rfl
theorem dX8_items_19 : decode cX8_items 19 = .ok (.iconst 0, 1) := zdec_at bX8_items_0 11 rfl
theorem dX8_items_20 : decode cX8_items 20 = .ok (.istore 4, 2) := zdec_at bX8_items_0 12 rfl
theorem dX8_items_22 : decode cX8_items 22 = .ok (.aload_n 0, 1) := zdec_at bX8_items_0 13 rfl
theorem dX8_items_23 : decode cX8_items 23 = .ok (.getfield 389, 3) := zdec_at bX8_items_0 14 rfl
theorem dX8_items_26 : decode cX8_items 26 = .ok (.ifCond .ne 15, 3) := zdec_at bX8_items_0 15 rfl
theorem bX8_items_29 : zdec cX8_items 29 [(29, .aload_n 0, 1), (30, .iload_n 2, 1), (31, .invokevirtual 398, 3), (34, .ifCond .ne 7, 3), (37, .iconst 1, 1), (38, .goto 4, 3), (41, .iconst 0, 1), (42, .istore 5, 2), (44, .iload 5, 2), (46, .ifCond .eq 70, 3), (49, .aload_n 0, 1), (50, .aload_n 0, 1), (51, .bipush 18, 2), (53, .aload_n 0, 1), (54, .iconst 1, 1), (55, .invokevirtual 442, 3)] = true := by decide +kernel
theorem dX8_items_29 : decode cX8_items 29 = .ok (.aload_n 0, 1) := zdec_at bX8_items_29 0 rfl
theorem dX8_items_30 : decode cX8_items 30 = .ok (.iload_n 2, 1) := zdec_at bX8_items_29 1 rfl
theorem dX8_items_31 : decode cX8_items 31 = .ok (.invokevirtual 398, 3) := zdec_at bX8_items_29 2 rfl
theorem dX8_items_34 : decode cX8_items 34 = .ok (.ifCond .ne 7, 3) := zdec_at bX8_items_29 3 rfl
theorem dX8_items_37 : decode cX8_items 37 = .ok (.iconst 1, 1) := zdec_at bX8_items_29 4 rfl
theorem dX8_items_38 : decode cX8_items 38 = .ok (.goto 4, 3) := zdec_at bX8_items_29 5 rfl
theorem dX8_items_41 : decode cX8_items 41 = .ok (.iconst 0, 1) := zdec_at bX8_items_29 6 rfl
theorem dX8_items_42 : decode cX8_items 42 = .ok (.istore 5, 2) := zdec_at bX8_items_29 7 rfl
theorem dX8_items_44 : decode cX8_items 44 = .ok (.iload 5, 2) := zdec_at bX8_items_29 8 rfl
theorem dX8_items_46 : decode cX8_items 46 = .ok (.ifCond .eq 70, 3) := zdec_at bX8_items_29 9 rfl
theorem dX8_items_49 : decode cX8_items 49 = .ok (.aload_n 0, 1) := zdec_at bX8_items_29 10 rfl
theorem dX8_items_50 : decode cX8_items 50 = .ok (.aload_n 0, 1) := zdec_at bX8_items_29 11 rfl
theorem dX8_items_51 : decode cX8_items 51 = .ok (.bipush 18, 2) := zdec_at bX8_items_29 12 rfl
theorem dX8_items_53 : decode cX8_items 53 = .ok (.aload_n 0, 1) := zdec_at bX8_items_29 13 rfl
theorem dX8_items_54 : decode cX8_items 54 = .ok (.iconst 1, 1) := zdec_at bX8_items_29 14 rfl
theorem dX8_items_55 : decode cX8_items 55 = .ok (.invokevirtual 442, 3) := zdec_at bX8_items_29 15 rfl
theorem bX8_items_58 : zdec cX8_items 58 [(58, .iconst 0, 1), (59, .iconst 0, 1), (60, .invokevirtual 446, 3), (63, .invokevirtual 512, 3), (66, .iinc 4 1, 3), (69, .aload_n 0, 1), (70, .getfield 389, 3), (73, .ifCond .ne 22, 3), (76, .aload_n 0, 1), (77, .bipush 32, 2), (79, .invokevirtual 398, 3), (82, .ifCond .eq 13, 3), (85, .iload 4, 2), (87, .iload_n 3, 1), (88, .if_icmp .ge 7, 3), (91, .iconst 1, 1)] = true := by decide +kernel
theorem dX8_items_58 : decode cX8_items 58 = .ok (.iconst 0, 1) := zdec_at bX8_items_58 0 rfl
theorem dX8_items_59 : decode cX8_items 59 = .ok (.iconst 0, 1) := zdec_at bX8_items_58 1 rfl
theorem dX8_items_60 : decode cX8_items 60 = .ok (.invokevirtual 446, 3) := zdec_at bX8_items_58 2 rfl
theorem dX8_items_63 : decode cX8_items 63 = .ok (.invokevirtual 512, 3) := zdec_at bX8_items_58 3 rfl
theorem dX8_items_66 : decode cX8_items 66 = .ok (.iinc 4 1, 3) := zdec_at bX8_items_58 4 rfl
theorem dX8_items_69 : decode cX8_items 69 = .ok (.aload_n 0, 1) := zdec_at bX8_items_58 5 rfl
theorem dX8_items_70 : decode cX8_items 70 = .ok (.getfield 389, 3) := zdec_at bX8_items_58 6 rfl
theorem dX8_items_73 : decode cX8_items 73 = .ok (.ifCond .ne 22, 3) := zdec_at bX8_items_58 7 rfl
theorem dX8_items_76 : decode cX8_items 76 = .ok (.aload_n 0, 1) := zdec_at bX8_items_58 8 rfl
theorem dX8_items_77 : decode cX8_items 77 = .ok (.bipush 32, 2) := zdec_at bX8_items_58 9 rfl
theorem dX8_items_79 : decode cX8_items 79 = .ok (.invokevirtual 398, 3) := zdec_at bX8_items_58 10 rfl
theorem dX8_items_82 : decode cX8_items 82 = .ok (.ifCond .eq 13, 3) := zdec_at bX8_items_58 11 rfl
theorem dX8_items_85 : decode cX8_items 85 = .ok (.iload 4, 2) := zdec_at bX8_items_58 12 rfl
theorem dX8_items_87 : decode cX8_items 87 = .ok (.iload_n 3, 1) := zdec_at bX8_items_58 13 rfl
theorem dX8_items_88 : decode cX8_items 88 = .ok (.if_icmp .ge 7, 3) := zdec_at bX8_items_58 14 rfl
theorem dX8_items_91 : decode cX8_items 91 = .ok (.iconst 1, 1) := zdec_at bX8_items_58 15 rfl
theorem bX8_items_92 : zdec cX8_items 92 [(92, .goto 4, 3), (95, .iconst 0, 1), (96, .istore 5, 2), (98, .iload 5, 2), (100, .ifCond .eq (-56), 3), (103, .aload_n 0, 1), (104, .dup, 1), (105, .getfield 392, 3), (108, .iconst 1, 1), (109, .iadd, 1), (110, .putfield 392, 3), (113, .goto (-69), 3), (116, .aload_n 0, 1), (117, .invokevirtual 454, 3), (120, .aload_n 0, 1), (121, .iload_n 2, 1)] = true := by decide +kernel
theorem dX8_items_92 : decode cX8_items 92 = .ok (.goto 4, 3) := zdec_at bX8_items_92 0 rfl
theorem dX8_items_95 : decode cX8_items 95 = .ok (.iconst 0, 1) := zdec_at bX8_items_92 1 rfl
theorem dX8_items_96 : decode cX8_items 96 = .ok (.istore 5, 2) := zdec_at bX8_items_92 2 rfl
theorem dX8_items_98 : decode cX8_items 98 = .ok (.iload 5, 2) := zdec_at bX8_items_92 3 rfl
theorem dX8_items_100 : decode cX8_items 100 = .ok (.ifCond .eq (-56), 3) := zdec_at bX8_items_92 4 rfl
theorem dX8_items_103 : decode cX8_items 103 = .ok (.aload_n 0, 1) := zdec_at bX8_items_92 5 rfl
theorem dX8_items_104 : decode cX8_items 104 = .ok (.dup, 1) := zdec_at bX8_items_92 6 rfl
theorem dX8_items_105 : decode cX8_items 105 = .ok (.getfield 392, 3) := zdec_at bX8_items_92 7 rfl
theorem dX8_items_108 : decode cX8_items 108 = .ok (.iconst 1, 1) := zdec_at bX8_items_92 8 rfl
theorem dX8_items_109 : decode cX8_items 109 = .ok (.iadd, 1) := zdec_at bX8_items_92 9 rfl
theorem dX8_items_110 : decode cX8_items 110 = .ok (.putfield 392, 3) := zdec_at bX8_items_92 10 rfl
theorem dX8_items_113 : decode cX8_items 113 = .ok (.goto (-69), 3) := zdec_at bX8_items_92 11 rfl
theorem dX8_items_116 : decode cX8_items 116 = .ok (.aload_n 0, 1) := zdec_at bX8_items_92 12 rfl
theorem dX8_items_117 : decode cX8_items 117 = .ok (.invokevirtual 454, 3) := zdec_at bX8_items_92 13 rfl
theorem dX8_items_120 : decode cX8_items 120 = .ok (.aload_n 0, 1) := zdec_at bX8_items_92 14 rfl
theorem dX8_items_121 : decode cX8_items 121 = .ok (.iload_n 2, 1) := zdec_at bX8_items_92 15 rfl
theorem bX8_items_122 : zdec cX8_items 122 [(122, .invokevirtual 473, 3), (125, .istore 6, 2), (127, .aload_n 0, 1), (128, .invokevirtual 515, 3), (131, .ireturn, 1)] = true := by decide +kernel
theorem dX8_items_122 : decode cX8_items 122 = .ok (.invokevirtual 473, 3) := zdec_at bX8_items_122 0 rfl
theorem dX8_items_125 : decode cX8_items 125 = .ok (.istore 6, 2) := zdec_at bX8_items_122 1 rfl
theorem dX8_items_127 : decode cX8_items 127 = .ok (.aload_n 0, 1) := zdec_at bX8_items_122 2 rfl
theorem dX8_items_128 : decode cX8_items 128 = .ok (.invokevirtual 515, 3) := zdec_at bX8_items_122 3 rfl
theorem dX8_items_131 : decode cX8_items 131 = .ok (.ireturn, 1) := zdec_at bX8_items_122 4 rfl
theorem sX8_items_0 {E : zE} {d : Nat} {Q : zO → zM → Prop} (M : zM) (l1 : Int32) (l2 : Int32) (l3 : Int32) (k : Zm E YX8_open d M (zargs 0 [vr (some (97, 1, 0)), vi (1 : Int32)]) 0 [] (zma E YX8_items (d + 1) [(0, vr (some (97, 1, 0))), (2, vi l2), (3, vi l3)] 2 3 [] Q)) : Zm E YX8_items (d + 1) M [(0, vr (some (97, 1, 0))), (1, vi l1), (2, vi l2), (3, vi l3)] 0 [] Q := by
  refine Zm.l (fun _ _ k_ => z_aload_n dX8_items_0 rfl rfl k_) ?_
  refine Zm.l (fun _ _ k_ => z_iconst (v := 1) dX8_items_1 rfl k_) ?_
  refine Zm.pick [0, 2, 3] rfl ?_
  exact zm_callV (as := [vi (1 : Int32)]) (st := []) dX8_items_2 vsX8_450_1 (Nat.le_refl _) (Nat.le_of_ble_eq_true rfl) (Nat.le_of_ble_eq_true rfl) rfl k
theorem sX8_items_5 {E : zE} {d : Nat} {Q : zO → zM → Prop} (M : zM) (l2 : Int32) (l3 : Int32) (k : Zm E YX8_beginList d (si M 97 20 ((gi M 97 20) + (1 : Int32))) (zargs 0 [vr (some (97, 1, 0))]) 0 [] (zma E YX8_items (d + 1) [(0, vr (some (97, 1, 0))), (2, vi l2), (3, vi l3)] 16 3 [] Q)) : Zm E YX8_items (d + 1) M [(0, vr (some (97, 1, 0))), (2, vi l2), (3, vi l3)] 5 [] Q := by
  refine Zm.l (fun _ _ k_ => z_aload_n dX8_items_5 rfl rfl k_) ?_
  refine Zm.l (fun _ _ k_ => z_dup dX8_items_6 rfl k_) ?_
  refine zm_geti dX8_items_7 fsX8_392_1 (by decide) (by decide) ?_
  refine Zm.l (fun _ _ k_ => z_iconst (v := 1) dX8_items_10 rfl k_) ?_
  refine Zm.l (fun _ _ k_ => z_iadd dX8_items_11 k_) ?_
  refine zm_puti (by decide) (by decide) dX8_items_12 (zfwN.w fwX8_392_1) rfl ⟨rfl, rfl⟩ ?_
  refine Zm.l (fun _ _ k_ => z_aload_n dX8_items_15 rfl rfl k_) ?_
  exact zm_callV (as := []) (st := []) dX8_items_16 vsX8_509_1 (Nat.le_refl _) (Nat.le_of_ble_eq_true rfl) (Nat.le_of_ble_eq_true rfl) rfl k
theorem sX8_items_19 {E : zE} {d : Nat} {Q : zO → zM → Prop} (M : zM) (l2 : Int32) (l3 : Int32) (k : if (gi M 97 21) = 0 then (Zm E YX8_isSign d M (zargs 0 [vr (some (97, 1, 0)), vi l2]) 0 [] (zma E YX8_items (d + 1) [(0, vr (some (97, 1, 0))), (2, vi l2), (3, vi l3), (4, vi (0 : Int32))] 31 3 [] Q)) else (Zm E YX8_items (d + 1) M [(0, vr (some (97, 1, 0))), (2, vi l2), (3, vi l3), (4, vi (0 : Int32)), (5, vi (0 : Int32))] 44 [] Q)) : Zm E YX8_items (d + 1) M [(0, vr (some (97, 1, 0))), (2, vi l2), (3, vi l3)] 19 [] Q := by
  refine Zm.l (fun _ _ k_ => z_iconst (v := 0) dX8_items_19 rfl k_) ?_
  refine Zm.l (fun _ _ k_ => z_ist dX8_items_20 (by decide) (lv' := [(0, vr (some (97, 1, 0))), (2, vi l2), (3, vi l3), (4, vi (0 : Int32))]) rfl k_) ?_
  refine Zm.l (fun _ _ k_ => z_aload_n dX8_items_22 rfl rfl k_) ?_
  refine zm_geti dX8_items_23 fsX8_389_1 (by decide) (by decide) ?_
  refine Zm.brn (fun _ _ k1_ k2_ => z_if_ne (tgt := 41) dX8_items_26 rfl k1_ k2_) (fun h_ => ?_) (fun h_ => ?_)
  · have k := zif h_ k
    refine Zm.l (fun _ _ k_ => z_iconst (v := 0) dX8_items_41 rfl k_) ?_
    refine Zm.l (fun _ _ k_ => z_ist dX8_items_42 (by decide) (lv' := [(0, vr (some (97, 1, 0))), (2, vi l2), (3, vi l3), (4, vi (0 : Int32)), (5, vi (0 : Int32))]) rfl k_) ?_
    exact k
  · have k := zit h_ k
    refine Zm.l (fun _ _ k_ => z_aload_n dX8_items_29 rfl rfl k_) ?_
    refine Zm.l (fun _ _ k_ => z_iload_n dX8_items_30 rfl rfl k_) ?_
    exact zm_callV (as := [vi l2]) (st := []) dX8_items_31 vsX8_398_1 (Nat.le_refl _) (Nat.le_of_ble_eq_true rfl) (Nat.le_of_ble_eq_true rfl) rfl k
theorem sX8_items_34 {E : zE} {d : Nat} {Q : zO → zM → Prop} (M : zM) (l2 : Int32) (l3 : Int32) (l4 : Int32) (s0 : Int32) (k : if s0 = 0 then (Zm E YX8_items (d + 1) M [(0, vr (some (97, 1, 0))), (2, vi l2), (3, vi l3), (4, vi l4), (5, vi (1 : Int32))] 44 [] Q) else (Zm E YX8_items (d + 1) M [(0, vr (some (97, 1, 0))), (2, vi l2), (3, vi l3), (4, vi l4), (5, vi (0 : Int32))] 44 [] Q)) : Zm E YX8_items (d + 1) M [(0, vr (some (97, 1, 0))), (2, vi l2), (3, vi l3), (4, vi l4)] 34 [vi s0] Q := by
  refine Zm.brn (fun _ _ k1_ k2_ => z_if_ne (tgt := 41) dX8_items_34 rfl k1_ k2_) (fun h_ => ?_) (fun h_ => ?_)
  · have k := zif h_ k
    refine Zm.l (fun _ _ k_ => z_iconst (v := 0) dX8_items_41 rfl k_) ?_
    refine Zm.l (fun _ _ k_ => z_ist dX8_items_42 (by decide) (lv' := [(0, vr (some (97, 1, 0))), (2, vi l2), (3, vi l3), (4, vi l4), (5, vi (0 : Int32))]) rfl k_) ?_
    exact k
  · have k := zit h_ k
    refine Zm.l (fun _ _ k_ => z_iconst (v := 1) dX8_items_37 rfl k_) ?_
    refine Zm.l (fun _ _ k_ => z_goto (tgt := 42) dX8_items_38 rfl k_) ?_
    refine Zm.l (fun _ _ k_ => z_ist dX8_items_42 (by decide) (lv' := [(0, vr (some (97, 1, 0))), (2, vi l2), (3, vi l3), (4, vi l4), (5, vi (1 : Int32))]) rfl k_) ?_
    exact k
theorem sX8_items_44 {E : zE} {d : Nat} {Q : zO → zM → Prop} (M : zM) (l2 : Int32) (l3 : Int32) (l4 : Int32) (l5 : Int32) (k : if l5 = 0 then (Zm E YX8_close d M (zargs 0 [vr (some (97, 1, 0))]) 0 [] (zma E YX8_items (d + 1) [(0, vr (some (97, 1, 0))), (2, vi l2)] 117 3 [] Q)) else (Zm E YX8_assigned d M (zargs 0 [vr (some (97, 1, 0)), vi (1 : Int32)]) 0 [] (zma E YX8_items (d + 1) [(0, vr (some (97, 1, 0))), (2, vi l2), (3, vi l3), (4, vi l4)] 55 3 [vi (18 : Int32), vr (some (97, 1, 0)), vr (some (97, 1, 0))] Q))) : Zm E YX8_items (d + 1) M [(0, vr (some (97, 1, 0))), (2, vi l2), (3, vi l3), (4, vi l4), (5, vi l5)] 44 [] Q := by
  refine Zm.l (fun _ _ k_ => z_iload dX8_items_44 rfl k_) ?_
  refine Zm.br (fun _ _ k1_ k2_ => z_if_eq (tgt := 116) dX8_items_46 rfl k1_ k2_) (fun h_ => ?_) (fun h_ => ?_)
  · have k := zit h_ k
    refine Zm.l (fun _ _ k_ => z_aload_n dX8_items_116 rfl rfl k_) ?_
    refine Zm.pick [0, 1] rfl ?_
    exact zm_callV (as := []) (st := []) dX8_items_117 vsX8_454_1 (Nat.le_refl _) (Nat.le_of_ble_eq_true rfl) (Nat.le_of_ble_eq_true rfl) rfl k
  · have k := zif h_ k
    refine Zm.l (fun _ _ k_ => z_aload_n dX8_items_49 rfl rfl k_) ?_
    refine Zm.l (fun _ _ k_ => z_aload_n dX8_items_50 rfl rfl k_) ?_
    refine Zm.l (fun _ _ k_ => z_bipush (v := 18) dX8_items_51 rfl k_) ?_
    refine Zm.l (fun _ _ k_ => z_aload_n dX8_items_53 rfl rfl k_) ?_
    refine Zm.l (fun _ _ k_ => z_iconst (v := 1) dX8_items_54 rfl k_) ?_
    refine Zm.pick [0, 1, 2, 3] rfl ?_
    exact zm_callV (as := [vi (1 : Int32)]) (st := [vi (18 : Int32), vr (some (97, 1, 0)), vr (some (97, 1, 0))]) dX8_items_55 vsX8_442_1 (Nat.le_refl _) (Nat.le_of_ble_eq_true rfl) (Nat.le_of_ble_eq_true rfl) rfl k
theorem sX8_items_58 {E : zE} {d : Nat} {Q : zO → zM → Prop} (M : zM) (l2 : Int32) (l3 : Int32) (l4 : Int32) (s0 : Int32) (s1 : Int32) (k : Zm E YX8_node d M (zargs 0 [vr (some (97, 1, 0)), vi s1, vi s0, vi (0 : Int32), vi (0 : Int32)]) 0 [] (zma E YX8_items (d + 1) [(0, vr (some (97, 1, 0))), (2, vi l2), (3, vi l3), (4, vi l4)] 60 3 [vr (some (97, 1, 0))] Q)) : Zm E YX8_items (d + 1) M [(0, vr (some (97, 1, 0))), (2, vi l2), (3, vi l3), (4, vi l4)] 58 [vi s0, vi s1, vr (some (97, 1, 0)), vr (some (97, 1, 0))] Q := by
  refine Zm.l (fun _ _ k_ => z_iconst (v := 0) dX8_items_58 rfl k_) ?_
  refine Zm.l (fun _ _ k_ => z_iconst (v := 0) dX8_items_59 rfl k_) ?_
  exact zm_callV (as := [vi s1, vi s0, vi (0 : Int32), vi (0 : Int32)]) (st := [vr (some (97, 1, 0))]) dX8_items_60 vsX8_446_1 (Nat.le_refl _) (Nat.le_of_ble_eq_true rfl) (Nat.le_of_ble_eq_true rfl) rfl k
theorem sX8_items_63 {E : zE} {d : Nat} {Q : zO → zM → Prop} (M : zM) (l2 : Int32) (l3 : Int32) (l4 : Int32) (s0 : Int32) (k : Zm E YX8_add d M (zargs 0 [vr (some (97, 1, 0)), vi s0]) 0 [] (zma E YX8_items (d + 1) [(0, vr (some (97, 1, 0))), (2, vi l2), (3, vi l3), (4, vi l4)] 63 3 [] Q)) : Zm E YX8_items (d + 1) M [(0, vr (some (97, 1, 0))), (2, vi l2), (3, vi l3), (4, vi l4)] 63 [vi s0, vr (some (97, 1, 0))] Q := by
  exact zm_callV (as := [vi s0]) (st := []) dX8_items_63 vsX8_512_1 (Nat.le_refl _) (Nat.le_of_ble_eq_true rfl) (Nat.le_of_ble_eq_true rfl) rfl k
theorem sX8_items_66 {E : zE} {d : Nat} {Q : zO → zM → Prop} (M : zM) (l2 : Int32) (l3 : Int32) (l4 : Int32) (k : if (gi M 97 21) = 0 then (Zm E YX8_isSign d M (zargs 0 [vr (some (97, 1, 0)), vi (32 : Int32)]) 0 [] (zma E YX8_items (d + 1) [(0, vr (some (97, 1, 0))), (2, vi l2), (3, vi l3), (4, vi (l4 + (1 : Int32)))] 79 3 [] Q)) else (Zm E YX8_items (d + 1) M [(0, vr (some (97, 1, 0))), (2, vi l2), (3, vi l3), (4, vi (l4 + (1 : Int32)))] 96 [vi (0 : Int32)] Q)) : Zm E YX8_items (d + 1) M [(0, vr (some (97, 1, 0))), (2, vi l2), (3, vi l3), (4, vi l4)] 66 [] Q := by
  refine Zm.l (fun _ _ k_ => z_inc (v := (l4 + (1 : Int32))) dX8_items_66 rfl rfl (by decide) (lv' := [(0, vr (some (97, 1, 0))), (2, vi l2), (3, vi l3), (4, vi (l4 + (1 : Int32)))]) rfl k_) ?_
  refine Zm.l (fun _ _ k_ => z_aload_n dX8_items_69 rfl rfl k_) ?_
  refine zm_geti dX8_items_70 fsX8_389_1 (by decide) (by decide) ?_
  refine Zm.brn (fun _ _ k1_ k2_ => z_if_ne (tgt := 95) dX8_items_73 rfl k1_ k2_) (fun h_ => ?_) (fun h_ => ?_)
  · have k := zif h_ k
    refine Zm.l (fun _ _ k_ => z_iconst (v := 0) dX8_items_95 rfl k_) ?_
    exact k
  · have k := zit h_ k
    refine Zm.l (fun _ _ k_ => z_aload_n dX8_items_76 rfl rfl k_) ?_
    refine Zm.l (fun _ _ k_ => z_bipush (v := 32) dX8_items_77 rfl k_) ?_
    exact zm_callV (as := [vi (32 : Int32)]) (st := []) dX8_items_79 vsX8_398_1 (Nat.le_refl _) (Nat.le_of_ble_eq_true rfl) (Nat.le_of_ble_eq_true rfl) rfl k
theorem sX8_items_82 {E : zE} {d : Nat} {Q : zO → zM → Prop} (M : zM) (l2 : Int32) (l3 : Int32) (l4 : Int32) (s0 : Int32) (k : if s0 = 0 then (Zm E YX8_items (d + 1) M [(0, vr (some (97, 1, 0))), (2, vi l2), (3, vi l3), (4, vi l4)] 96 [vi (0 : Int32)] Q) else (if l3 ≤ l4 then (Zm E YX8_items (d + 1) M [(0, vr (some (97, 1, 0))), (2, vi l2), (3, vi l3), (4, vi l4)] 96 [vi (0 : Int32)] Q) else (Zm E YX8_items (d + 1) M [(0, vr (some (97, 1, 0))), (2, vi l2), (3, vi l3), (4, vi l4)] 96 [vi (1 : Int32)] Q))) : Zm E YX8_items (d + 1) M [(0, vr (some (97, 1, 0))), (2, vi l2), (3, vi l3), (4, vi l4)] 82 [vi s0] Q := by
  refine Zm.br (fun _ _ k1_ k2_ => z_if_eq (tgt := 95) dX8_items_82 rfl k1_ k2_) (fun h_ => ?_) (fun h_ => ?_)
  · have k := zit h_ k
    refine Zm.l (fun _ _ k_ => z_iconst (v := 0) dX8_items_95 rfl k_) ?_
    exact k
  · have k := zif h_ k
    refine Zm.l (fun _ _ k_ => z_iload dX8_items_85 rfl k_) ?_
    refine Zm.l (fun _ _ k_ => z_iload_n dX8_items_87 rfl rfl k_) ?_
    refine Zm.br (fun _ _ k1_ k2_ => z_icmp_ge (tgt := 95) dX8_items_88 rfl k1_ k2_) (fun h_ => ?_) (fun h_ => ?_)
    · have k := zit h_ k
      refine Zm.l (fun _ _ k_ => z_iconst (v := 0) dX8_items_95 rfl k_) ?_
      exact k
    · have k := zif h_ k
      refine Zm.l (fun _ _ k_ => z_iconst (v := 1) dX8_items_91 rfl k_) ?_
      refine Zm.l (fun _ _ k_ => z_goto (tgt := 96) dX8_items_92 rfl k_) ?_
      exact k
theorem sX8_items_96 {E : zE} {d : Nat} {Q : zO → zM → Prop} (M : zM) (l2 : Int32) (l3 : Int32) (l4 : Int32) (s0 : Int32) (k : if s0 = 0 then (Zm E YX8_items (d + 1) M [(0, vr (some (97, 1, 0))), (2, vi l2), (3, vi l3), (4, vi l4), (5, vi s0)] 44 [] Q) else (Zm E YX8_items (d + 1) (si M 97 20 ((gi M 97 20) + (1 : Int32))) [(0, vr (some (97, 1, 0))), (2, vi l2), (3, vi l3), (4, vi l4), (5, vi s0)] 44 [] Q)) : Zm E YX8_items (d + 1) M [(0, vr (some (97, 1, 0))), (2, vi l2), (3, vi l3), (4, vi l4)] 96 [vi s0] Q := by
  refine Zm.l (fun _ _ k_ => z_ist dX8_items_96 (by decide) (lv' := [(0, vr (some (97, 1, 0))), (2, vi l2), (3, vi l3), (4, vi l4), (5, vi s0)]) rfl k_) ?_
  refine Zm.l (fun _ _ k_ => z_iload dX8_items_98 rfl k_) ?_
  refine Zm.br (fun _ _ k1_ k2_ => z_if_eq (tgt := 44) dX8_items_100 rfl k1_ k2_) (fun h_ => ?_) (fun h_ => ?_)
  · have k := zit h_ k
    exact k
  · have k := zif h_ k
    refine Zm.l (fun _ _ k_ => z_aload_n dX8_items_103 rfl rfl k_) ?_
    refine Zm.l (fun _ _ k_ => z_dup dX8_items_104 rfl k_) ?_
    refine zm_geti dX8_items_105 fsX8_392_1 (by decide) (by decide) ?_
    refine Zm.l (fun _ _ k_ => z_iconst (v := 1) dX8_items_108 rfl k_) ?_
    refine Zm.l (fun _ _ k_ => z_iadd dX8_items_109 k_) ?_
    refine zm_puti (by decide) (by decide) dX8_items_110 (zfwN.w fwX8_392_1) rfl ⟨rfl, rfl⟩ ?_
    refine Zm.l (fun _ _ k_ => z_goto (tgt := 44) dX8_items_113 rfl k_) ?_
    exact k
theorem sX8_items_120 {E : zE} {d : Nat} {Q : zO → zM → Prop} (M : zM) (l2 : Int32) (k : Zm E YX8_must d M (zargs 0 [vr (some (97, 1, 0)), vi l2]) 0 [] (zma E YX8_items (d + 1) [(0, vr (some (97, 1, 0)))] 122 3 [] Q)) : Zm E YX8_items (d + 1) M [(0, vr (some (97, 1, 0))), (2, vi l2)] 120 [] Q := by
  refine Zm.l (fun _ _ k_ => z_aload_n dX8_items_120 rfl rfl k_) ?_
  refine Zm.l (fun _ _ k_ => z_iload_n dX8_items_121 rfl rfl k_) ?_
  refine Zm.pick [0] rfl ?_
  exact zm_callV (as := [vi l2]) (st := []) dX8_items_122 vsX8_473_1 (Nat.le_refl _) (Nat.le_of_ble_eq_true rfl) (Nat.le_of_ble_eq_true rfl) rfl k
theorem sX8_items_125 {E : zE} {d : Nat} {Q : zO → zM → Prop} (M : zM) (s0 : Int32) (k : Zm E YX8_ended d M (zargs 0 [vr (some (97, 1, 0))]) 0 [] (zma E YX8_items (d + 1) [] 128 3 [] Q)) : Zm E YX8_items (d + 1) M [(0, vr (some (97, 1, 0)))] 125 [vi s0] Q := by
  refine Zm.l (fun _ _ k_ => z_ist dX8_items_125 (by decide) (lv' := [(0, vr (some (97, 1, 0))), (6, vi s0)]) rfl k_) ?_
  refine Zm.l (fun _ _ k_ => z_aload_n dX8_items_127 rfl rfl k_) ?_
  refine Zm.pick [] rfl ?_
  exact zm_callV (as := []) (st := []) dX8_items_128 vsX8_515_1 (Nat.le_refl _) (Nat.le_of_ble_eq_true rfl) (Nat.le_of_ble_eq_true rfl) rfl k
theorem sX8_items_131 {E : zE} {d : Nat} {Q : zO → zM → Prop} (M : zM) (s0 : Int32) (k : Q (.inl (some (vi s0))) M) : Zm E YX8_items (d + 1) M [] 131 [vi s0] Q := by
  exact zm_iret dX8_items_131 rfl rfl k
/-! ScriptTypesModel.pairs()I -/
theorem bX8_pairs_0 : zdec cX8_pairs 0 [(0, .aload_n 0, 1), (1, .iconst 1, 1), (2, .invokevirtual 450, 3), (5, .aload_n 0, 1), (6, .dup, 1), (7, .getfield 392, 3), (10, .iconst 1, 1), (11, .iadd, 1), (12, .putfield 392, 3), (15, .aload_n 0, 1), (16, .invokevirtual 509, 3), (19, .iconst 0, 1), (20, .istore_n 1, 1), (21, .aload_n 0, 1), (22, .getfield 389, 3), (25, .ifCond .ne 16, 3)] = true := by decide +kernel
theorem dX8_pairs_0 : decode cX8_pairs 0 = .ok (.aload_n 0, 1) := zdec_at bX8_pairs_0 0 rfl
theorem dX8_pairs_1 : decode cX8_pairs 1 = .ok (.iconst 1, 1) := zdec_at bX8_pairs_0 1 rfl
theorem dX8_pairs_2 : decode cX8_pairs 2 = .ok (.invokevirtual 450, 3) := zdec_at bX8_pairs_0 2 rfl
theorem dX8_pairs_5 : decode cX8_pairs 5 = .ok (.aload_n 0, 1) := zdec_at bX8_pairs_0 3 rfl
theorem dX8_pairs_6 : decode cX8_pairs 6 = .ok (.dup, 1) := zdec_at bX8_pairs_0 4 rfl
theorem dX8_pairs_7 : decode cX8_pairs 7 = .ok (.getfield 392, 3) := zdec_at bX8_pairs_0 5 rfl
theorem dX8_pairs_10 : decode cX8_pairs 10 = .ok (.iconst 1, 1) := zdec_at bX8_pairs_0 6 rfl
theorem dX8_pairs_11 : decode cX8_pairs 11 = .ok (.iadd, 1) := zdec_at bX8_pairs_0 7 rfl
theorem dX8_pairs_12 : decode cX8_pairs 12 = .ok (.putfield 392, 3) := zdec_at bX8_pairs_0 8 rfl
theorem dX8_pairs_15 : decode cX8_pairs 15 = .ok (.aload_n 0, 1) := zdec_at bX8_pairs_0 9 rfl
theorem dX8_pairs_16 : decode cX8_pairs 16 = .ok (.invokevirtual 509, 3) := zdec_at bX8_pairs_0 10 rfl
theorem dX8_pairs_19 : decode cX8_pairs 19 = .ok (.iconst 0, 1) := zdec_at bX8_pairs_0 11 rfl
theorem dX8_pairs_20 : decode cX8_pairs 20 = .ok (.istore_n 1, 1) := zdec_at bX8_pairs_0 12 rfl
theorem dX8_pairs_21 : decode cX8_pairs 21 = .ok (.aload_n 0, 1) := zdec_at bX8_pairs_0 13 rfl
theorem dX8_pairs_22 : decode cX8_pairs 22 = .ok (.getfield 389, 3) := zdec_at bX8_pairs_0 14 rfl
theorem dX8_pairs_25 : decode cX8_pairs 25 = .ok (.ifCond .ne 16, 3) := zdec_at bX8_pairs_0 15 rfl
theorem bX8_pairs_28 : zdec cX8_pairs 28 [(28, .aload_n 0, 1), (29, .bipush 25, 2), (31, .invokevirtual 398, 3), (34, .ifCond .ne 7, 3), (37, .iconst 1, 1), (38, .goto 4, 3), (41, .iconst 0, 1), (42, .istore_n 2, 1), (43, .iload_n 2, 1), (44, .ifCond .eq 194, 3), (47, .aload_n 0, 1), (48, .getfield 27, 3), (51, .aload_n 0, 1), (52, .getfield 392, 3), (55, .iaload, 1), (56, .iconst 1, 1)] = true := by decide +kernel
theorem dX8_pairs_28 : decode cX8_pairs 28 = .ok (.aload_n 0, 1) := zdec_at bX8_pairs_28 0 rfl
theorem dX8_pairs_29 : decode cX8_pairs 29 = .ok (.bipush 25, 2) := zdec_at bX8_pairs_28 1 rfl
theorem dX8_pairs_31 : decode cX8_pairs 31 = .ok (.invokevirtual 398, 3) := zdec_at bX8_pairs_28 2 rfl
theorem dX8_pairs_34 : decode cX8_pairs 34 = .ok (.ifCond .ne 7, 3) := zdec_at bX8_pairs_28 3 rfl
theorem dX8_pairs_37 : decode cX8_pairs 37 = .ok (.iconst 1, 1) := zdec_at bX8_pairs_28 4 rfl
theorem dX8_pairs_38 : decode cX8_pairs 38 = .ok (.goto 4, 3) := zdec_at bX8_pairs_28 5 rfl
theorem dX8_pairs_41 : decode cX8_pairs 41 = .ok (.iconst 0, 1) := zdec_at bX8_pairs_28 6 rfl
theorem dX8_pairs_42 : decode cX8_pairs 42 = .ok (.istore_n 2, 1) := zdec_at bX8_pairs_28 7 rfl
theorem dX8_pairs_43 : decode cX8_pairs 43 = .ok (.iload_n 2, 1) := zdec_at bX8_pairs_28 8 rfl
theorem dX8_pairs_44 : decode cX8_pairs 44 = .ok (.ifCond .eq 194, 3) := zdec_at bX8_pairs_28 9 rfl
theorem dX8_pairs_47 : decode cX8_pairs 47 = .ok (.aload_n 0, 1) := zdec_at bX8_pairs_28 10 rfl
theorem dX8_pairs_48 : decode cX8_pairs 48 = .ok (.getfield 27, 3) := zdec_at bX8_pairs_28 11 rfl
theorem dX8_pairs_51 : decode cX8_pairs 51 = .ok (.aload_n 0, 1) := zdec_at bX8_pairs_28 12 rfl
theorem dX8_pairs_52 : decode cX8_pairs 52 = .ok (.getfield 392, 3) := zdec_at bX8_pairs_28 13 rfl
theorem dX8_pairs_55 : decode cX8_pairs 55 = .ok (.iaload, 1) := zdec_at bX8_pairs_28 14 rfl
theorem dX8_pairs_56 : decode cX8_pairs 56 = .ok (.iconst 1, 1) := zdec_at bX8_pairs_28 15 rfl
theorem bX8_pairs_57 : zdec cX8_pairs 57 [(57, .if_icmp .eq 42, 3), (60, .aload_n 0, 1), (61, .getfield 27, 3), (64, .aload_n 0, 1), (65, .getfield 392, 3), (68, .iaload, 1), (69, .iconst 2, 1), (70, .if_icmp .eq 29, 3), (73, .aload_n 0, 1), (74, .getfield 27, 3), (77, .aload_n 0, 1), (78, .getfield 392, 3), (81, .iaload, 1), (82, .iconst 4, 1), (83, .if_icmp .eq 16, 3), (86, .aload_n 0, 1)] = true := by decide +kernel
theorem dX8_pairs_57 : decode cX8_pairs 57 = .ok (.if_icmp .eq 42, 3) := zdec_at bX8_pairs_57 0 rfl
theorem dX8_pairs_60 : decode cX8_pairs 60 = .ok (.aload_n 0, 1) := zdec_at bX8_pairs_57 1 rfl
theorem dX8_pairs_61 : decode cX8_pairs 61 = .ok (.getfield 27, 3) := zdec_at bX8_pairs_57 2 rfl
theorem dX8_pairs_64 : decode cX8_pairs 64 = .ok (.aload_n 0, 1) := zdec_at bX8_pairs_57 3 rfl
theorem dX8_pairs_65 : decode cX8_pairs 65 = .ok (.getfield 392, 3) := zdec_at bX8_pairs_57 4 rfl
theorem dX8_pairs_68 : decode cX8_pairs 68 = .ok (.iaload, 1) := zdec_at bX8_pairs_57 5 rfl
theorem dX8_pairs_69 : decode cX8_pairs 69 = .ok (.iconst 2, 1) := zdec_at bX8_pairs_57 6 rfl
theorem dX8_pairs_70 : decode cX8_pairs 70 = .ok (.if_icmp .eq 29, 3) := zdec_at bX8_pairs_57 7 rfl
theorem dX8_pairs_73 : decode cX8_pairs 73 = .ok (.aload_n 0, 1) := zdec_at bX8_pairs_57 8 rfl
theorem dX8_pairs_74 : decode cX8_pairs 74 = .ok (.getfield 27, 3) := zdec_at bX8_pairs_57 9 rfl
theorem dX8_pairs_77 : decode cX8_pairs 77 = .ok (.aload_n 0, 1) := zdec_at bX8_pairs_57 10 rfl
theorem dX8_pairs_78 : decode cX8_pairs 78 = .ok (.getfield 392, 3) := zdec_at bX8_pairs_57 11 rfl
theorem dX8_pairs_81 : decode cX8_pairs 81 = .ok (.iaload, 1) := zdec_at bX8_pairs_57 12 rfl
theorem dX8_pairs_82 : decode cX8_pairs 82 = .ok (.iconst 4, 1) := zdec_at bX8_pairs_57 13 rfl
theorem dX8_pairs_83 : decode cX8_pairs 83 = .ok (.if_icmp .eq 16, 3) := zdec_at bX8_pairs_57 14 rfl
theorem dX8_pairs_86 : decode cX8_pairs 86 = .ok (.aload_n 0, 1) := zdec_at bX8_pairs_57 15 rfl
theorem bX8_pairs_87 : zdec cX8_pairs 87 [(87, .getfield 27, 3), (90, .aload_n 0, 1), (91, .getfield 392, 3), (94, .iaload, 1), (95, .iconst 3, 1), (96, .if_icmp .ne 7, 3), (99, .iconst 1, 1), (100, .goto 4, 3), (103, .iconst 0, 1), (104, .istore_n 3, 1), (105, .iload_n 3, 1), (106, .ifCond .ne 9, 3), (109, .aload_n 0, 1), (110, .iconst 2, 1), (111, .invokevirtual 401, 3), (114, .pop, 1)] = true := by decide +kernel
theorem dX8_pairs_87 : decode cX8_pairs 87 = .ok (.getfield 27, 3) := zdec_at bX8_pairs_87 0 rfl
theorem dX8_pairs_90 : decode cX8_pairs 90 = .ok (.aload_n 0, 1) := zdec_at bX8_pairs_87 1 rfl
theorem dX8_pairs_91 : decode cX8_pairs 91 = .ok (.getfield 392, 3) := zdec_at bX8_pairs_87 2 rfl
theorem dX8_pairs_94 : decode cX8_pairs 94 = .ok (.iaload, 1) := zdec_at bX8_pairs_87 3 rfl
theorem dX8_pairs_95 : decode cX8_pairs 95 = .ok (.iconst 3, 1) := zdec_at bX8_pairs_87 4 rfl
theorem dX8_pairs_96 : decode cX8_pairs 96 = .ok (.if_icmp .ne 7, 3) := zdec_at bX8_pairs_87 5 rfl
theorem dX8_pairs_99 : decode cX8_pairs 99 = .ok (.iconst 1, 1) := zdec_at bX8_pairs_87 6 rfl
theorem dX8_pairs_100 : decode cX8_pairs 100 = .ok (.goto 4, 3) := zdec_at bX8_pairs_87 7 rfl
theorem dX8_pairs_103 : decode cX8_pairs 103 = .ok (.iconst 0, 1) := zdec_at bX8_pairs_87 8 rfl
theorem dX8_pairs_104 : decode cX8_pairs 104 = .ok (.istore_n 3, 1) := zdec_at bX8_pairs_87 9 rfl
theorem dX8_pairs_105 : decode cX8_pairs 105 = .ok (.iload_n 3, 1) := zdec_at bX8_pairs_87 10 rfl
theorem dX8_pairs_106 : decode cX8_pairs 106 = .ok (.ifCond .ne 9, 3) := zdec_at bX8_pairs_87 11 rfl
theorem dX8_pairs_109 : decode cX8_pairs 109 = .ok (.aload_n 0, 1) := zdec_at bX8_pairs_87 12 rfl
theorem dX8_pairs_110 : decode cX8_pairs 110 = .ok (.iconst 2, 1) := zdec_at bX8_pairs_87 13 rfl
theorem dX8_pairs_111 : decode cX8_pairs 111 = .ok (.invokevirtual 401, 3) := zdec_at bX8_pairs_87 14 rfl
theorem dX8_pairs_114 : decode cX8_pairs 114 = .ok (.pop, 1) := zdec_at bX8_pairs_87 15 rfl
theorem bX8_pairs_115 : zdec cX8_pairs 115 [(115, .aload_n 0, 1), (116, .getfield 389, 3), (119, .ifCond .ne 13, 3), (122, .aload_n 0, 1), (123, .dup, 1), (124, .getfield 392, 3), (127, .iconst 1, 1), (128, .iadd, 1), (129, .putfield 392, 3), (132, .aload_n 0, 1), (133, .getfield 389, 3), (136, .ifCond .ne 16, 3), (139, .aload_n 0, 1), (140, .aload_n 0, 1), (141, .getfield 392, 3), (144, .iconst 1, 1)] = true := by decide +kernel
theorem dX8_pairs_115 : decode cX8_pairs 115 = .ok (.aload_n 0, 1) := zdec_at bX8_pairs_115 0 rfl
theorem dX8_pairs_116 : decode cX8_pairs 116 = .ok (.getfield 389, 3) := zdec_at bX8_pairs_115 1 rfl
theorem dX8_pairs_119 : decode cX8_pairs 119 = .ok (.ifCond .ne 13, 3) := zdec_at bX8_pairs_115 2 rfl
theorem dX8_pairs_122 : decode cX8_pairs 122 = .ok (.aload_n 0, 1) := zdec_at bX8_pairs_115 3 rfl
theorem dX8_pairs_123 : decode cX8_pairs 123 = .ok (.dup, 1) := zdec_at bX8_pairs_115 4 rfl
theorem dX8_pairs_124 : decode cX8_pairs 124 = .ok (.getfield 392, 3) := zdec_at bX8_pairs_115 5 rfl
theorem dX8_pairs_127 : decode cX8_pairs 127 = .ok (.iconst 1, 1) := zdec_at bX8_pairs_115 6 rfl
theorem dX8_pairs_128 : decode cX8_pairs 128 = .ok (.iadd, 1) := zdec_at bX8_pairs_115 7 rfl
theorem dX8_pairs_129 : decode cX8_pairs 129 = .ok (.putfield 392, 3) := zdec_at bX8_pairs_115 8 rfl
theorem dX8_pairs_132 : decode cX8_pairs 132 = .ok (.aload_n 0, 1) := zdec_at bX8_pairs_115 9 rfl
theorem dX8_pairs_133 : decode cX8_pairs 133 = .ok (.getfield 389, 3) := zdec_at bX8_pairs_115 10 rfl
theorem dX8_pairs_136 : decode cX8_pairs 136 = .ok (.ifCond .ne 16, 3) := zdec_at bX8_pairs_115 11 rfl
theorem dX8_pairs_139 : decode cX8_pairs 139 = .ok (.aload_n 0, 1) := zdec_at bX8_pairs_115 12 rfl
theorem dX8_pairs_140 : decode cX8_pairs 140 = .ok (.aload_n 0, 1) := zdec_at bX8_pairs_115 13 rfl
theorem dX8_pairs_141 : decode cX8_pairs 141 = .ok (.getfield 392, 3) := zdec_at bX8_pairs_115 14 rfl
theorem dX8_pairs_144 : decode cX8_pairs 144 = .ok (.iconst 1, 1) := zdec_at bX8_pairs_115 15 rfl
theorem bX8_pairs_145 : zdec cX8_pairs 145 [(145, .isub, 1), (146, .invokevirtual 418, 3), (149, .goto 4, 3), (152, .iconst (-1), 1), (153, .istore 4, 2), (155, .aload_n 0, 1), (156, .bipush 46, 2), (158, .invokevirtual 473, 3), (161, .ifCond .eq 11, 3), (164, .aload_n 0, 1), (165, .iconst 1, 1), (166, .invokevirtual 442, 3), (169, .goto 4, 3), (172, .iconst (-1), 1), (173, .istore 5, 2), (175, .aload_n 0, 1)] = true := by decide +kernel
theorem dX8_pairs_145 : decode cX8_pairs 145 = .ok (.isub, 1) := zdec_at bX8_pairs_145 0 rfl
theorem dX8_pairs_146 : decode cX8_pairs 146 = .ok (.invokevirtual 418, 3) := zdec_at bX8_pairs_145 1 rfl
theorem dX8_pairs_149 : decode cX8_pairs 149 = .ok (.goto 4, 3) := zdec_at bX8_pairs_145 2 rfl
theorem dX8_pairs_152 : decode cX8_pairs 152 = .ok (.iconst (-1), 1) := zdec_at bX8_pairs_145 3 rfl
theorem dX8_pairs_153 : decode cX8_pairs 153 = .ok (.istore 4, 2) := zdec_at bX8_pairs_145 4 rfl
theorem dX8_pairs_155 : decode cX8_pairs 155 = .ok (.aload_n 0, 1) := zdec_at bX8_pairs_145 5 rfl
theorem dX8_pairs_156 : decode cX8_pairs 156 = .ok (.bipush 46, 2) := zdec_at bX8_pairs_145 6 rfl
theorem dX8_pairs_158 : decode cX8_pairs 158 = .ok (.invokevirtual 473, 3) := zdec_at bX8_pairs_145 7 rfl
theorem dX8_pairs_161 : decode cX8_pairs 161 = .ok (.ifCond .eq 11, 3) := zdec_at bX8_pairs_145 8 rfl
theorem dX8_pairs_164 : decode cX8_pairs 164 = .ok (.aload_n 0, 1) := zdec_at bX8_pairs_145 9 rfl
theorem dX8_pairs_165 : decode cX8_pairs 165 = .ok (.iconst 1, 1) := zdec_at bX8_pairs_145 10 rfl
theorem dX8_pairs_166 : decode cX8_pairs 166 = .ok (.invokevirtual 442, 3) := zdec_at bX8_pairs_145 11 rfl
theorem dX8_pairs_169 : decode cX8_pairs 169 = .ok (.goto 4, 3) := zdec_at bX8_pairs_145 12 rfl
theorem dX8_pairs_172 : decode cX8_pairs 172 = .ok (.iconst (-1), 1) := zdec_at bX8_pairs_145 13 rfl
theorem dX8_pairs_173 : decode cX8_pairs 173 = .ok (.istore 5, 2) := zdec_at bX8_pairs_145 14 rfl
theorem dX8_pairs_175 : decode cX8_pairs 175 = .ok (.aload_n 0, 1) := zdec_at bX8_pairs_145 15 rfl
theorem bX8_pairs_176 : zdec cX8_pairs 176 [(176, .aload_n 0, 1), (177, .bipush 18, 2), (179, .iload 5, 2), (181, .iload 4, 2), (183, .iconst 0, 1), (184, .invokevirtual 446, 3), (187, .invokevirtual 512, 3), (190, .iinc 1 1, 3), (193, .aload_n 0, 1), (194, .getfield 389, 3), (197, .ifCond .ne 22, 3), (200, .aload_n 0, 1), (201, .bipush 32, 2), (203, .invokevirtual 398, 3), (206, .ifCond .eq 13, 3), (209, .iload_n 1, 1)] = true := by decide +kernel
theorem dX8_pairs_176 : decode cX8_pairs 176 = .ok (.aload_n 0, 1) := zdec_at bX8_pairs_176 0 rfl
theorem dX8_pairs_177 : decode cX8_pairs 177 = .ok (.bipush 18, 2) := zdec_at bX8_pairs_176 1 rfl
theorem dX8_pairs_179 : decode cX8_pairs 179 = .ok (.iload 5, 2) := zdec_at bX8_pairs_176 2 rfl
theorem dX8_pairs_181 : decode cX8_pairs 181 = .ok (.iload 4, 2) := zdec_at bX8_pairs_176 3 rfl
theorem dX8_pairs_183 : decode cX8_pairs 183 = .ok (.iconst 0, 1) := zdec_at bX8_pairs_176 4 rfl
theorem dX8_pairs_184 : decode cX8_pairs 184 = .ok (.invokevirtual 446, 3) := zdec_at bX8_pairs_176 5 rfl
theorem dX8_pairs_187 : decode cX8_pairs 187 = .ok (.invokevirtual 512, 3) := zdec_at bX8_pairs_176 6 rfl
theorem dX8_pairs_190 : decode cX8_pairs 190 = .ok (.iinc 1 1, 3) := zdec_at bX8_pairs_176 7 rfl
theorem dX8_pairs_193 : decode cX8_pairs 193 = .ok (.aload_n 0, 1) := zdec_at bX8_pairs_176 8 rfl
theorem dX8_pairs_194 : decode cX8_pairs 194 = .ok (.getfield 389, 3) := zdec_at bX8_pairs_176 9 rfl
theorem dX8_pairs_197 : decode cX8_pairs 197 = .ok (.ifCond .ne 22, 3) := zdec_at bX8_pairs_176 10 rfl
theorem dX8_pairs_200 : decode cX8_pairs 200 = .ok (.aload_n 0, 1) := zdec_at bX8_pairs_176 11 rfl
theorem dX8_pairs_201 : decode cX8_pairs 201 = .ok (.bipush 32, 2) := zdec_at bX8_pairs_176 12 rfl
theorem dX8_pairs_203 : decode cX8_pairs 203 = .ok (.invokevirtual 398, 3) := zdec_at bX8_pairs_176 13 rfl
theorem dX8_pairs_206 : decode cX8_pairs 206 = .ok (.ifCond .eq 13, 3) := zdec_at bX8_pairs_176 14 rfl
theorem dX8_pairs_209 : decode cX8_pairs 209 = .ok (.iload_n 1, 1) := zdec_at bX8_pairs_176 15 rfl
theorem bX8_pairs_210 : zdec cX8_pairs 210 [(210, .bipush 16, 2), (212, .if_icmp .ge 7, 3), (215, .iconst 1, 1), (216, .goto 4, 3), (219, .iconst 0, 1), (220, .istore_n 2, 1), (221, .iload_n 2, 1), (222, .ifCond .eq 13, 3), (225, .aload_n 0, 1), (226, .dup, 1), (227, .getfield 392, 3), (230, .iconst 1, 1), (231, .iadd, 1), (232, .putfield 392, 3), (235, .goto (-192), 3), (238, .aload_n 0, 1)] = true := by decide +kernel
theorem dX8_pairs_210 : decode cX8_pairs 210 = .ok (.bipush 16, 2) := zdec_at bX8_pairs_210 0 rfl
theorem dX8_pairs_212 : decode cX8_pairs 212 = .ok (.if_icmp .ge 7, 3) := zdec_at bX8_pairs_210 1 rfl
theorem dX8_pairs_215 : decode cX8_pairs 215 = .ok (.iconst 1, 1) := zdec_at bX8_pairs_210 2 rfl
theorem dX8_pairs_216 : decode cX8_pairs 216 = .ok (.goto 4, 3) := zdec_at bX8_pairs_210 3 rfl
theorem dX8_pairs_219 : decode cX8_pairs 219 = .ok (.iconst 0, 1) := zdec_at bX8_pairs_210 4 rfl
theorem dX8_pairs_220 : decode cX8_pairs 220 = .ok (.istore_n 2, 1) := zdec_at bX8_pairs_210 5 rfl
theorem dX8_pairs_221 : decode cX8_pairs 221 = .ok (.iload_n 2, 1) := zdec_at bX8_pairs_210 6 rfl
theorem dX8_pairs_222 : decode cX8_pairs 222 = .ok (.ifCond .eq 13, 3) := zdec_at bX8_pairs_210 7 rfl
theorem dX8_pairs_225 : decode cX8_pairs 225 = .ok (.aload_n 0, 1) := zdec_at bX8_pairs_210 8 rfl
theorem dX8_pairs_226 : decode cX8_pairs 226 = .ok (.dup, 1) := zdec_at bX8_pairs_210 9 rfl
theorem dX8_pairs_227 : decode cX8_pairs 227 = .ok (.getfield 392, 3) := zdec_at bX8_pairs_210 10 rfl
theorem dX8_pairs_230 : decode cX8_pairs 230 = .ok (.iconst 1, 1) := zdec_at bX8_pairs_210 11 rfl
theorem dX8_pairs_231 : decode cX8_pairs 231 = .ok (.iadd, 1) := zdec_at bX8_pairs_210 12 rfl
theorem dX8_pairs_232 : decode cX8_pairs 232 = .ok (.putfield 392, 3) := zdec_at bX8_pairs_210 13 rfl
theorem dX8_pairs_235 : decode cX8_pairs 235 = .ok (.goto (-192), 3) := zdec_at bX8_pairs_210 14 rfl
theorem dX8_pairs_238 : decode cX8_pairs 238 = .ok (.aload_n 0, 1) := zdec_at bX8_pairs_210 15 rfl
theorem bX8_pairs_239 : zdec cX8_pairs 239 [(239, .invokevirtual 454, 3), (242, .aload_n 0, 1), (243, .bipush 25, 2), (245, .invokevirtual 473, 3), (248, .istore_n 3, 1), (249, .aload_n 0, 1), (250, .invokevirtual 515, 3), (253, .ireturn, 1)] = true := by decide +kernel
theorem dX8_pairs_239 : decode cX8_pairs 239 = .ok (.invokevirtual 454, 3) := zdec_at bX8_pairs_239 0 rfl
theorem dX8_pairs_242 : decode cX8_pairs 242 = .ok (.aload_n 0, 1) := zdec_at bX8_pairs_239 1 rfl
theorem dX8_pairs_243 : decode cX8_pairs 243 = .ok (.bipush 25, 2) := zdec_at bX8_pairs_239 2 rfl
theorem dX8_pairs_245 : decode cX8_pairs 245 = .ok (.invokevirtual 473, 3) := zdec_at bX8_pairs_239 3 rfl
theorem dX8_pairs_248 : decode cX8_pairs 248 = .ok (.istore_n 3, 1) := zdec_at bX8_pairs_239 4 rfl
theorem dX8_pairs_249 : decode cX8_pairs 249 = .ok (.aload_n 0, 1) := zdec_at bX8_pairs_239 5 rfl
theorem dX8_pairs_250 : decode cX8_pairs 250 = .ok (.invokevirtual 515, 3) := zdec_at bX8_pairs_239 6 rfl
theorem dX8_pairs_253 : decode cX8_pairs 253 = .ok (.ireturn, 1) := zdec_at bX8_pairs_239 7 rfl
theorem sX8_pairs_0 {E : zE} {d : Nat} {Q : zO → zM → Prop} (M : zM)  (k : Zm E YX8_open d M (zargs 0 [vr (some (97, 1, 0)), vi (1 : Int32)]) 0 [] (zma E YX8_pairs (d + 1) [(0, vr (some (97, 1, 0)))] 2 3 [] Q)) : Zm E YX8_pairs (d + 1) M [(0, vr (some (97, 1, 0)))] 0 [] Q := by
  refine Zm.l (fun _ _ k_ => z_aload_n dX8_pairs_0 rfl rfl k_) ?_
  refine Zm.l (fun _ _ k_ => z_iconst (v := 1) dX8_pairs_1 rfl k_) ?_
  exact zm_callV (as := [vi (1 : Int32)]) (st := []) dX8_pairs_2 vsX8_450_1 (Nat.le_refl _) (Nat.le_of_ble_eq_true rfl) (Nat.le_of_ble_eq_true rfl) rfl k
theorem sX8_pairs_5 {E : zE} {d : Nat} {Q : zO → zM → Prop} (M : zM)  (k : Zm E YX8_beginList d (si M 97 20 ((gi M 97 20) + (1 : Int32))) (zargs 0 [vr (some (97, 1, 0))]) 0 [] (zma E YX8_pairs (d + 1) [(0, vr (some (97, 1, 0)))] 16 3 [] Q)) : Zm E YX8_pairs (d + 1) M [(0, vr (some (97, 1, 0)))] 5 [] Q := by
  refine Zm.l (fun _ _ k_ => z_aload_n dX8_pairs_5 rfl rfl k_) ?_
  refine Zm.l (fun _ _ k_ => z_dup dX8_pairs_6 rfl k_) ?_
  refine zm_geti dX8_pairs_7 fsX8_392_1 (by decide) (by decide) ?_
  refine Zm.l (fun _ _ k_ => z_iconst (v := 1) dX8_pairs_10 rfl k_) ?_
  refine Zm.l (fun _ _ k_ => z_iadd dX8_pairs_11 k_) ?_
  refine zm_puti (by decide) (by decide) dX8_pairs_12 (zfwN.w fwX8_392_1) rfl ⟨rfl, rfl⟩ ?_
  refine Zm.l (fun _ _ k_ => z_aload_n dX8_pairs_15 rfl rfl k_) ?_
  exact zm_callV (as := []) (st := []) dX8_pairs_16 vsX8_509_1 (Nat.le_refl _) (Nat.le_of_ble_eq_true rfl) (Nat.le_of_ble_eq_true rfl) rfl k
theorem sX8_pairs_19 {E : zE} {d : Nat} {Q : zO → zM → Prop} (M : zM)  (k : if (gi M 97 21) = 0 then (Zm E YX8_isSign d M (zargs 0 [vr (some (97, 1, 0)), vi (25 : Int32)]) 0 [] (zma E YX8_pairs (d + 1) [(0, vr (some (97, 1, 0))), (1, vi (0 : Int32))] 31 3 [] Q)) else (Zm E YX8_pairs (d + 1) M [(0, vr (some (97, 1, 0))), (1, vi (0 : Int32)), (2, vi (0 : Int32))] 43 [] Q)) : Zm E YX8_pairs (d + 1) M [(0, vr (some (97, 1, 0)))] 19 [] Q := by
  refine Zm.l (fun _ _ k_ => z_iconst (v := 0) dX8_pairs_19 rfl k_) ?_
  refine Zm.l (fun _ _ k_ => z_ist_n dX8_pairs_20 rfl (by decide) (lv' := [(0, vr (some (97, 1, 0))), (1, vi (0 : Int32))]) rfl k_) ?_
  refine Zm.l (fun _ _ k_ => z_aload_n dX8_pairs_21 rfl rfl k_) ?_
  refine zm_geti dX8_pairs_22 fsX8_389_1 (by decide) (by decide) ?_
  refine Zm.brn (fun _ _ k1_ k2_ => z_if_ne (tgt := 41) dX8_pairs_25 rfl k1_ k2_) (fun h_ => ?_) (fun h_ => ?_)
  · have k := zif h_ k
    refine Zm.l (fun _ _ k_ => z_iconst (v := 0) dX8_pairs_41 rfl k_) ?_
    refine Zm.l (fun _ _ k_ => z_ist_n dX8_pairs_42 rfl (by decide) (lv' := [(0, vr (some (97, 1, 0))), (1, vi (0 : Int32)), (2, vi (0 : Int32))]) rfl k_) ?_
    exact k
  · have k := zit h_ k
    refine Zm.l (fun _ _ k_ => z_aload_n dX8_pairs_28 rfl rfl k_) ?_
    refine Zm.l (fun _ _ k_ => z_bipush (v := 25) dX8_pairs_29 rfl k_) ?_
    exact zm_callV (as := [vi (25 : Int32)]) (st := []) dX8_pairs_31 vsX8_398_1 (Nat.le_refl _) (Nat.le_of_ble_eq_true rfl) (Nat.le_of_ble_eq_true rfl) rfl k
theorem sX8_pairs_34 {E : zE} {d : Nat} {Q : zO → zM → Prop} (M : zM) (l1 : Int32) (s0 : Int32) (k : if s0 = 0 then (Zm E YX8_pairs (d + 1) M [(0, vr (some (97, 1, 0))), (1, vi l1), (2, vi (1 : Int32))] 43 [] Q) else (Zm E YX8_pairs (d + 1) M [(0, vr (some (97, 1, 0))), (1, vi l1), (2, vi (0 : Int32))] 43 [] Q)) : Zm E YX8_pairs (d + 1) M [(0, vr (some (97, 1, 0))), (1, vi l1)] 34 [vi s0] Q := by
  refine Zm.brn (fun _ _ k1_ k2_ => z_if_ne (tgt := 41) dX8_pairs_34 rfl k1_ k2_) (fun h_ => ?_) (fun h_ => ?_)
  · have k := zif h_ k
    refine Zm.l (fun _ _ k_ => z_iconst (v := 0) dX8_pairs_41 rfl k_) ?_
    refine Zm.l (fun _ _ k_ => z_ist_n dX8_pairs_42 rfl (by decide) (lv' := [(0, vr (some (97, 1, 0))), (1, vi l1), (2, vi (0 : Int32))]) rfl k_) ?_
    exact k
  · have k := zit h_ k
    refine Zm.l (fun _ _ k_ => z_iconst (v := 1) dX8_pairs_37 rfl k_) ?_
    refine Zm.l (fun _ _ k_ => z_goto (tgt := 42) dX8_pairs_38 rfl k_) ?_
    refine Zm.l (fun _ _ k_ => z_ist_n dX8_pairs_42 rfl (by decide) (lv' := [(0, vr (some (97, 1, 0))), (1, vi l1), (2, vi (1 : Int32))]) rfl k_) ?_
    exact k
theorem sX8_pairs_43 {E : zE} {d : Nat} {Q : zO → zM → Prop} (M : zM) (l1 : Int32) (l2 : Int32) (k : if l2 = 0 then (Zm E YX8_close d M (zargs 0 [vr (some (97, 1, 0))]) 0 [] (zma E YX8_pairs (d + 1) [(0, vr (some (97, 1, 0)))] 239 3 [] Q)) else (vp_in (gi M 97 20) 4002 ∧ (if (gi M 103 ((gi M 97 20)).toNatClampNeg) = (1 : Int32) then (Zm E YX8_pairs (d + 1) M [(0, vr (some (97, 1, 0))), (1, vi l1)] 99 [] Q) else (vp_in (gi M 97 20) 4002 ∧ (if (gi M 103 ((gi M 97 20)).toNatClampNeg) = (2 : Int32) then (Zm E YX8_pairs (d + 1) M [(0, vr (some (97, 1, 0))), (1, vi l1)] 99 [] Q) else (vp_in (gi M 97 20) 4002 ∧ (if (gi M 103 ((gi M 97 20)).toNatClampNeg) = (4 : Int32) then (Zm E YX8_pairs (d + 1) M [(0, vr (some (97, 1, 0))), (1, vi l1)] 99 [] Q) else (vp_in (gi M 97 20) 4002 ∧ (if (gi M 103 ((gi M 97 20)).toNatClampNeg) = (3 : Int32) then (Zm E YX8_pairs (d + 1) M [(0, vr (some (97, 1, 0))), (1, vi l1)] 99 [] Q) else (if (0 : Int32) = 0 then (Zm E YX8_fail d M (zargs 0 [vr (some (97, 1, 0)), vi (2 : Int32)]) 0 [] (zma E YX8_pairs (d + 1) [(0, vr (some (97, 1, 0))), (1, vi l1)] 111 3 [] Q)) else (Zm E YX8_pairs (d + 1) M [(0, vr (some (97, 1, 0))), (1, vi l1)] 115 [] Q))))))))))) : Zm E YX8_pairs (d + 1) M [(0, vr (some (97, 1, 0))), (1, vi l1), (2, vi l2)] 43 [] Q := by
  refine Zm.l (fun _ _ k_ => z_iload_n dX8_pairs_43 rfl rfl k_) ?_
  refine Zm.br (fun _ _ k1_ k2_ => z_if_eq (tgt := 238) dX8_pairs_44 rfl k1_ k2_) (fun h_ => ?_) (fun h_ => ?_)
  · have k := zit h_ k
    refine Zm.l (fun _ _ k_ => z_aload_n dX8_pairs_238 rfl rfl k_) ?_
    refine Zm.pick [0] rfl ?_
    exact zm_callV (as := []) (st := []) dX8_pairs_239 vsX8_454_1 (Nat.le_refl _) (Nat.le_of_ble_eq_true rfl) (Nat.le_of_ble_eq_true rfl) rfl k
  · have k := zif h_ k
    refine Zm.l (fun _ _ k_ => z_aload_n dX8_pairs_47 rfl rfl k_) ?_
    refine zm_getr 5 dX8_pairs_48 fsX8_27_1 rfl ?_
    refine Zm.l (fun _ _ k_ => z_aload_n dX8_pairs_51 rfl rfl k_) ?_
    refine zm_geti dX8_pairs_52 fsX8_392_1 (by decide) (by decide) ?_
    obtain ⟨b_, k⟩ := k
    refine zm_iald dX8_pairs_55 b_ (by decide) (by decide) ?_
    refine Zm.l (fun _ _ k_ => z_iconst (v := 1) dX8_pairs_56 rfl k_) ?_
    refine Zm.br (fun _ _ k1_ k2_ => z_icmp_eq (tgt := 99) dX8_pairs_57 rfl k1_ k2_) (fun h_ => ?_) (fun h_ => ?_)
    · have k := zit h_ k
      refine Zm.pick [0, 1] rfl ?_
      exact k
    · have k := zif h_ k
      refine Zm.l (fun _ _ k_ => z_aload_n dX8_pairs_60 rfl rfl k_) ?_
      refine zm_getr 5 dX8_pairs_61 fsX8_27_1 rfl ?_
      refine Zm.l (fun _ _ k_ => z_aload_n dX8_pairs_64 rfl rfl k_) ?_
      refine zm_geti dX8_pairs_65 fsX8_392_1 (by decide) (by decide) ?_
      obtain ⟨b_, k⟩ := k
      refine zm_iald dX8_pairs_68 b_ (by decide) (by decide) ?_
      refine Zm.l (fun _ _ k_ => z_iconst (v := 2) dX8_pairs_69 rfl k_) ?_
      refine Zm.br (fun _ _ k1_ k2_ => z_icmp_eq (tgt := 99) dX8_pairs_70 rfl k1_ k2_) (fun h_ => ?_) (fun h_ => ?_)
      · have k := zit h_ k
        refine Zm.pick [0, 1] rfl ?_
        exact k
      · have k := zif h_ k
        refine Zm.l (fun _ _ k_ => z_aload_n dX8_pairs_73 rfl rfl k_) ?_
        refine zm_getr 5 dX8_pairs_74 fsX8_27_1 rfl ?_
        refine Zm.l (fun _ _ k_ => z_aload_n dX8_pairs_77 rfl rfl k_) ?_
        refine zm_geti dX8_pairs_78 fsX8_392_1 (by decide) (by decide) ?_
        obtain ⟨b_, k⟩ := k
        refine zm_iald dX8_pairs_81 b_ (by decide) (by decide) ?_
        refine Zm.l (fun _ _ k_ => z_iconst (v := 4) dX8_pairs_82 rfl k_) ?_
        refine Zm.br (fun _ _ k1_ k2_ => z_icmp_eq (tgt := 99) dX8_pairs_83 rfl k1_ k2_) (fun h_ => ?_) (fun h_ => ?_)
        · have k := zit h_ k
          refine Zm.pick [0, 1] rfl ?_
          exact k
        · have k := zif h_ k
          refine Zm.l (fun _ _ k_ => z_aload_n dX8_pairs_86 rfl rfl k_) ?_
          refine zm_getr 5 dX8_pairs_87 fsX8_27_1 rfl ?_
          refine Zm.l (fun _ _ k_ => z_aload_n dX8_pairs_90 rfl rfl k_) ?_
          refine zm_geti dX8_pairs_91 fsX8_392_1 (by decide) (by decide) ?_
          obtain ⟨b_, k⟩ := k
          refine zm_iald dX8_pairs_94 b_ (by decide) (by decide) ?_
          refine Zm.l (fun _ _ k_ => z_iconst (v := 3) dX8_pairs_95 rfl k_) ?_
          refine Zm.brn (fun _ _ k1_ k2_ => z_icmp_ne (tgt := 103) dX8_pairs_96 rfl k1_ k2_) (fun h_ => ?_) (fun h_ => ?_)
          · have k := zif h_ k
            refine Zm.l (fun _ _ k_ => z_iconst (v := 0) dX8_pairs_103 rfl k_) ?_
            refine Zm.l (fun _ _ k_ => z_ist_n dX8_pairs_104 rfl (by decide) (lv' := [(0, vr (some (97, 1, 0))), (1, vi l1), (2, vi l2), (3, vi (0 : Int32))]) rfl k_) ?_
            refine Zm.l (fun _ _ k_ => z_iload_n dX8_pairs_105 rfl rfl k_) ?_
            refine Zm.brn (fun _ _ k1_ k2_ => z_if_ne (tgt := 115) dX8_pairs_106 rfl k1_ k2_) (fun h_ => ?_) (fun h_ => ?_)
            · have k := zif h_ k
              refine Zm.pick [0, 1] rfl ?_
              exact k
            · have k := zit h_ k
              refine Zm.l (fun _ _ k_ => z_aload_n dX8_pairs_109 rfl rfl k_) ?_
              refine Zm.l (fun _ _ k_ => z_iconst (v := 2) dX8_pairs_110 rfl k_) ?_
              refine Zm.pick [0, 1] rfl ?_
              exact zm_callV (as := [vi (2 : Int32)]) (st := []) dX8_pairs_111 vsX8_401_1 (Nat.le_refl _) (Nat.le_of_ble_eq_true rfl) (Nat.le_of_ble_eq_true rfl) rfl k
          · have k := zit h_ k
            refine Zm.pick [0, 1] rfl ?_
            exact k
theorem sX8_pairs_99 {E : zE} {d : Nat} {Q : zO → zM → Prop} (M : zM) (l1 : Int32) (k : if (1 : Int32) = 0 then (Zm E YX8_fail d M (zargs 0 [vr (some (97, 1, 0)), vi (2 : Int32)]) 0 [] (zma E YX8_pairs (d + 1) [(0, vr (some (97, 1, 0))), (1, vi l1)] 111 3 [] Q)) else (Zm E YX8_pairs (d + 1) M [(0, vr (some (97, 1, 0))), (1, vi l1)] 115 [] Q)) : Zm E YX8_pairs (d + 1) M [(0, vr (some (97, 1, 0))), (1, vi l1)] 99 [] Q := by
  refine Zm.l (fun _ _ k_ => z_iconst (v := 1) dX8_pairs_99 rfl k_) ?_
  refine Zm.l (fun _ _ k_ => z_goto (tgt := 104) dX8_pairs_100 rfl k_) ?_
  refine Zm.l (fun _ _ k_ => z_ist_n dX8_pairs_104 rfl (by decide) (lv' := [(0, vr (some (97, 1, 0))), (1, vi l1), (3, vi (1 : Int32))]) rfl k_) ?_
  refine Zm.l (fun _ _ k_ => z_iload_n dX8_pairs_105 rfl rfl k_) ?_
  refine Zm.brn (fun _ _ k1_ k2_ => z_if_ne (tgt := 115) dX8_pairs_106 rfl k1_ k2_) (fun h_ => ?_) (fun h_ => ?_)
  · have k := zif h_ k
    refine Zm.pick [0, 1] rfl ?_
    exact k
  · have k := zit h_ k
    refine Zm.l (fun _ _ k_ => z_aload_n dX8_pairs_109 rfl rfl k_) ?_
    refine Zm.l (fun _ _ k_ => z_iconst (v := 2) dX8_pairs_110 rfl k_) ?_
    refine Zm.pick [0, 1] rfl ?_
    exact zm_callV (as := [vi (2 : Int32)]) (st := []) dX8_pairs_111 vsX8_401_1 (Nat.le_refl _) (Nat.le_of_ble_eq_true rfl) (Nat.le_of_ble_eq_true rfl) rfl k
theorem sX8_pairs_114 {E : zE} {d : Nat} {Q : zO → zM → Prop} (M : zM) (l1 : Int32) (s0 : Int32) (k : Zm E YX8_pairs (d + 1) M [(0, vr (some (97, 1, 0))), (1, vi l1)] 115 [] Q) : Zm E YX8_pairs (d + 1) M [(0, vr (some (97, 1, 0))), (1, vi l1)] 114 [vi s0] Q := by
  refine Zm.l (fun _ _ k_ => z_pop dX8_pairs_114 rfl k_) ?_
  exact k
theorem sX8_pairs_115 {E : zE} {d : Nat} {Q : zO → zM → Prop} (M : zM) (l1 : Int32) (k : if (gi M 97 21) = 0 then (Zm E YX8_pairs (d + 1) (si M 97 20 ((gi M 97 20) + (1 : Int32))) [(0, vr (some (97, 1, 0))), (1, vi l1)] 132 [] Q) else (Zm E YX8_pairs (d + 1) M [(0, vr (some (97, 1, 0))), (1, vi l1)] 132 [] Q)) : Zm E YX8_pairs (d + 1) M [(0, vr (some (97, 1, 0))), (1, vi l1)] 115 [] Q := by
  refine Zm.l (fun _ _ k_ => z_aload_n dX8_pairs_115 rfl rfl k_) ?_
  refine zm_geti dX8_pairs_116 fsX8_389_1 (by decide) (by decide) ?_
  refine Zm.brn (fun _ _ k1_ k2_ => z_if_ne (tgt := 132) dX8_pairs_119 rfl k1_ k2_) (fun h_ => ?_) (fun h_ => ?_)
  · have k := zif h_ k
    exact k
  · have k := zit h_ k
    refine Zm.l (fun _ _ k_ => z_aload_n dX8_pairs_122 rfl rfl k_) ?_
    refine Zm.l (fun _ _ k_ => z_dup dX8_pairs_123 rfl k_) ?_
    refine zm_geti dX8_pairs_124 fsX8_392_1 (by decide) (by decide) ?_
    refine Zm.l (fun _ _ k_ => z_iconst (v := 1) dX8_pairs_127 rfl k_) ?_
    refine Zm.l (fun _ _ k_ => z_iadd dX8_pairs_128 k_) ?_
    refine zm_puti (by decide) (by decide) dX8_pairs_129 (zfwN.w fwX8_392_1) rfl ⟨rfl, rfl⟩ ?_
    exact k
theorem sX8_pairs_132 {E : zE} {d : Nat} {Q : zO → zM → Prop} (M : zM) (l1 : Int32) (k : if (gi M 97 21) = 0 then (Zm E YX8_nameAt d M (zargs 0 [vr (some (97, 1, 0)), vi ((gi M 97 20) - (1 : Int32))]) 0 [] (zma E YX8_pairs (d + 1) [(0, vr (some (97, 1, 0))), (1, vi l1)] 146 3 [] Q)) else (Zm E YX8_must d M (zargs 0 [vr (some (97, 1, 0)), vi (46 : Int32)]) 0 [] (zma E YX8_pairs (d + 1) [(0, vr (some (97, 1, 0))), (1, vi l1), (4, vi (-1 : Int32))] 158 3 [] Q))) : Zm E YX8_pairs (d + 1) M [(0, vr (some (97, 1, 0))), (1, vi l1)] 132 [] Q := by
  refine Zm.l (fun _ _ k_ => z_aload_n dX8_pairs_132 rfl rfl k_) ?_
  refine zm_geti dX8_pairs_133 fsX8_389_1 (by decide) (by decide) ?_
  refine Zm.brn (fun _ _ k1_ k2_ => z_if_ne (tgt := 152) dX8_pairs_136 rfl k1_ k2_) (fun h_ => ?_) (fun h_ => ?_)
  · have k := zif h_ k
    refine Zm.l (fun _ _ k_ => z_iconst (v := -1) dX8_pairs_152 rfl k_) ?_
    refine Zm.l (fun _ _ k_ => z_ist dX8_pairs_153 (by decide) (lv' := [(0, vr (some (97, 1, 0))), (1, vi l1), (4, vi (-1 : Int32))]) rfl k_) ?_
    refine Zm.l (fun _ _ k_ => z_aload_n dX8_pairs_155 rfl rfl k_) ?_
    refine Zm.l (fun _ _ k_ => z_bipush (v := 46) dX8_pairs_156 rfl k_) ?_
    exact zm_callV (as := [vi (46 : Int32)]) (st := []) dX8_pairs_158 vsX8_473_1 (Nat.le_refl _) (Nat.le_of_ble_eq_true rfl) (Nat.le_of_ble_eq_true rfl) rfl k
  · have k := zit h_ k
    refine Zm.l (fun _ _ k_ => z_aload_n dX8_pairs_139 rfl rfl k_) ?_
    refine Zm.l (fun _ _ k_ => z_aload_n dX8_pairs_140 rfl rfl k_) ?_
    refine zm_geti dX8_pairs_141 fsX8_392_1 (by decide) (by decide) ?_
    refine Zm.l (fun _ _ k_ => z_iconst (v := 1) dX8_pairs_144 rfl k_) ?_
    refine Zm.l (fun _ _ k_ => z_isub dX8_pairs_145 k_) ?_
    exact zm_callV (as := [vi ((gi M 97 20) - (1 : Int32))]) (st := []) dX8_pairs_146 vsX8_418_1 (Nat.le_refl _) (Nat.le_of_ble_eq_true rfl) (Nat.le_of_ble_eq_true rfl) rfl k
theorem sX8_pairs_149 {E : zE} {d : Nat} {Q : zO → zM → Prop} (M : zM) (l1 : Int32) (s0 : Int32) (k : Zm E YX8_must d M (zargs 0 [vr (some (97, 1, 0)), vi (46 : Int32)]) 0 [] (zma E YX8_pairs (d + 1) [(0, vr (some (97, 1, 0))), (1, vi l1), (4, vi s0)] 158 3 [] Q)) : Zm E YX8_pairs (d + 1) M [(0, vr (some (97, 1, 0))), (1, vi l1)] 149 [vi s0] Q := by
  refine Zm.l (fun _ _ k_ => z_goto (tgt := 153) dX8_pairs_149 rfl k_) ?_
  refine Zm.l (fun _ _ k_ => z_ist dX8_pairs_153 (by decide) (lv' := [(0, vr (some (97, 1, 0))), (1, vi l1), (4, vi s0)]) rfl k_) ?_
  refine Zm.l (fun _ _ k_ => z_aload_n dX8_pairs_155 rfl rfl k_) ?_
  refine Zm.l (fun _ _ k_ => z_bipush (v := 46) dX8_pairs_156 rfl k_) ?_
  exact zm_callV (as := [vi (46 : Int32)]) (st := []) dX8_pairs_158 vsX8_473_1 (Nat.le_refl _) (Nat.le_of_ble_eq_true rfl) (Nat.le_of_ble_eq_true rfl) rfl k
theorem sX8_pairs_161 {E : zE} {d : Nat} {Q : zO → zM → Prop} (M : zM) (l1 : Int32) (l4 : Int32) (s0 : Int32) (k : if s0 = 0 then (Zm E YX8_pairs (d + 1) M [(0, vr (some (97, 1, 0))), (1, vi l1), (4, vi l4)] 173 [vi (-1 : Int32)] Q) else (Zm E YX8_assigned d M (zargs 0 [vr (some (97, 1, 0)), vi (1 : Int32)]) 0 [] (zma E YX8_pairs (d + 1) [(0, vr (some (97, 1, 0))), (1, vi l1), (4, vi l4)] 166 3 [] Q))) : Zm E YX8_pairs (d + 1) M [(0, vr (some (97, 1, 0))), (1, vi l1), (4, vi l4)] 161 [vi s0] Q := by
  refine Zm.br (fun _ _ k1_ k2_ => z_if_eq (tgt := 172) dX8_pairs_161 rfl k1_ k2_) (fun h_ => ?_) (fun h_ => ?_)
  · have k := zit h_ k
    refine Zm.l (fun _ _ k_ => z_iconst (v := -1) dX8_pairs_172 rfl k_) ?_
    exact k
  · have k := zif h_ k
    refine Zm.l (fun _ _ k_ => z_aload_n dX8_pairs_164 rfl rfl k_) ?_
    refine Zm.l (fun _ _ k_ => z_iconst (v := 1) dX8_pairs_165 rfl k_) ?_
    exact zm_callV (as := [vi (1 : Int32)]) (st := []) dX8_pairs_166 vsX8_442_1 (Nat.le_refl _) (Nat.le_of_ble_eq_true rfl) (Nat.le_of_ble_eq_true rfl) rfl k
theorem sX8_pairs_169 {E : zE} {d : Nat} {Q : zO → zM → Prop} (M : zM) (l1 : Int32) (l4 : Int32) (s0 : Int32) (k : Zm E YX8_pairs (d + 1) M [(0, vr (some (97, 1, 0))), (1, vi l1), (4, vi l4)] 173 [vi s0] Q) : Zm E YX8_pairs (d + 1) M [(0, vr (some (97, 1, 0))), (1, vi l1), (4, vi l4)] 169 [vi s0] Q := by
  refine Zm.l (fun _ _ k_ => z_goto (tgt := 173) dX8_pairs_169 rfl k_) ?_
  exact k
theorem sX8_pairs_173 {E : zE} {d : Nat} {Q : zO → zM → Prop} (M : zM) (l1 : Int32) (l4 : Int32) (s0 : Int32) (k : Zm E YX8_node d M (zargs 0 [vr (some (97, 1, 0)), vi (18 : Int32), vi s0, vi l4, vi (0 : Int32)]) 0 [] (zma E YX8_pairs (d + 1) [(0, vr (some (97, 1, 0))), (1, vi l1)] 184 3 [vr (some (97, 1, 0))] Q)) : Zm E YX8_pairs (d + 1) M [(0, vr (some (97, 1, 0))), (1, vi l1), (4, vi l4)] 173 [vi s0] Q := by
  refine Zm.l (fun _ _ k_ => z_ist dX8_pairs_173 (by decide) (lv' := [(0, vr (some (97, 1, 0))), (1, vi l1), (4, vi l4), (5, vi s0)]) rfl k_) ?_
  refine Zm.l (fun _ _ k_ => z_aload_n dX8_pairs_175 rfl rfl k_) ?_
  refine Zm.l (fun _ _ k_ => z_aload_n dX8_pairs_176 rfl rfl k_) ?_
  refine Zm.l (fun _ _ k_ => z_bipush (v := 18) dX8_pairs_177 rfl k_) ?_
  refine Zm.l (fun _ _ k_ => z_iload dX8_pairs_179 rfl k_) ?_
  refine Zm.l (fun _ _ k_ => z_iload dX8_pairs_181 rfl k_) ?_
  refine Zm.l (fun _ _ k_ => z_iconst (v := 0) dX8_pairs_183 rfl k_) ?_
  refine Zm.pick [0, 1] rfl ?_
  exact zm_callV (as := [vi (18 : Int32), vi s0, vi l4, vi (0 : Int32)]) (st := [vr (some (97, 1, 0))]) dX8_pairs_184 vsX8_446_1 (Nat.le_refl _) (Nat.le_of_ble_eq_true rfl) (Nat.le_of_ble_eq_true rfl) rfl k
theorem sX8_pairs_187 {E : zE} {d : Nat} {Q : zO → zM → Prop} (M : zM) (l1 : Int32) (s0 : Int32) (k : Zm E YX8_add d M (zargs 0 [vr (some (97, 1, 0)), vi s0]) 0 [] (zma E YX8_pairs (d + 1) [(0, vr (some (97, 1, 0))), (1, vi l1)] 187 3 [] Q)) : Zm E YX8_pairs (d + 1) M [(0, vr (some (97, 1, 0))), (1, vi l1)] 187 [vi s0, vr (some (97, 1, 0))] Q := by
  exact zm_callV (as := [vi s0]) (st := []) dX8_pairs_187 vsX8_512_1 (Nat.le_refl _) (Nat.le_of_ble_eq_true rfl) (Nat.le_of_ble_eq_true rfl) rfl k
theorem sX8_pairs_190 {E : zE} {d : Nat} {Q : zO → zM → Prop} (M : zM) (l1 : Int32) (k : if (gi M 97 21) = 0 then (Zm E YX8_isSign d M (zargs 0 [vr (some (97, 1, 0)), vi (32 : Int32)]) 0 [] (zma E YX8_pairs (d + 1) [(0, vr (some (97, 1, 0))), (1, vi (l1 + (1 : Int32)))] 203 3 [] Q)) else (Zm E YX8_pairs (d + 1) M [(0, vr (some (97, 1, 0))), (1, vi (l1 + (1 : Int32)))] 220 [vi (0 : Int32)] Q)) : Zm E YX8_pairs (d + 1) M [(0, vr (some (97, 1, 0))), (1, vi l1)] 190 [] Q := by
  refine Zm.l (fun _ _ k_ => z_inc (v := (l1 + (1 : Int32))) dX8_pairs_190 rfl rfl (by decide) (lv' := [(0, vr (some (97, 1, 0))), (1, vi (l1 + (1 : Int32)))]) rfl k_) ?_
  refine Zm.l (fun _ _ k_ => z_aload_n dX8_pairs_193 rfl rfl k_) ?_
  refine zm_geti dX8_pairs_194 fsX8_389_1 (by decide) (by decide) ?_
  refine Zm.brn (fun _ _ k1_ k2_ => z_if_ne (tgt := 219) dX8_pairs_197 rfl k1_ k2_) (fun h_ => ?_) (fun h_ => ?_)
  · have k := zif h_ k
    refine Zm.l (fun _ _ k_ => z_iconst (v := 0) dX8_pairs_219 rfl k_) ?_
    exact k
  · have k := zit h_ k
    refine Zm.l (fun _ _ k_ => z_aload_n dX8_pairs_200 rfl rfl k_) ?_
    refine Zm.l (fun _ _ k_ => z_bipush (v := 32) dX8_pairs_201 rfl k_) ?_
    exact zm_callV (as := [vi (32 : Int32)]) (st := []) dX8_pairs_203 vsX8_398_1 (Nat.le_refl _) (Nat.le_of_ble_eq_true rfl) (Nat.le_of_ble_eq_true rfl) rfl k
theorem sX8_pairs_206 {E : zE} {d : Nat} {Q : zO → zM → Prop} (M : zM) (l1 : Int32) (s0 : Int32) (k : if s0 = 0 then (Zm E YX8_pairs (d + 1) M [(0, vr (some (97, 1, 0))), (1, vi l1)] 220 [vi (0 : Int32)] Q) else (if (16 : Int32) ≤ l1 then (Zm E YX8_pairs (d + 1) M [(0, vr (some (97, 1, 0))), (1, vi l1)] 220 [vi (0 : Int32)] Q) else (Zm E YX8_pairs (d + 1) M [(0, vr (some (97, 1, 0))), (1, vi l1)] 220 [vi (1 : Int32)] Q))) : Zm E YX8_pairs (d + 1) M [(0, vr (some (97, 1, 0))), (1, vi l1)] 206 [vi s0] Q := by
  refine Zm.br (fun _ _ k1_ k2_ => z_if_eq (tgt := 219) dX8_pairs_206 rfl k1_ k2_) (fun h_ => ?_) (fun h_ => ?_)
  · have k := zit h_ k
    refine Zm.l (fun _ _ k_ => z_iconst (v := 0) dX8_pairs_219 rfl k_) ?_
    exact k
  · have k := zif h_ k
    refine Zm.l (fun _ _ k_ => z_iload_n dX8_pairs_209 rfl rfl k_) ?_
    refine Zm.l (fun _ _ k_ => z_bipush (v := 16) dX8_pairs_210 rfl k_) ?_
    refine Zm.br (fun _ _ k1_ k2_ => z_icmp_ge (tgt := 219) dX8_pairs_212 rfl k1_ k2_) (fun h_ => ?_) (fun h_ => ?_)
    · have k := zit h_ k
      refine Zm.l (fun _ _ k_ => z_iconst (v := 0) dX8_pairs_219 rfl k_) ?_
      exact k
    · have k := zif h_ k
      refine Zm.l (fun _ _ k_ => z_iconst (v := 1) dX8_pairs_215 rfl k_) ?_
      refine Zm.l (fun _ _ k_ => z_goto (tgt := 220) dX8_pairs_216 rfl k_) ?_
      exact k
theorem sX8_pairs_220 {E : zE} {d : Nat} {Q : zO → zM → Prop} (M : zM) (l1 : Int32) (s0 : Int32) (k : if s0 = 0 then (Zm E YX8_pairs (d + 1) M [(0, vr (some (97, 1, 0))), (1, vi l1), (2, vi s0)] 43 [] Q) else (Zm E YX8_pairs (d + 1) (si M 97 20 ((gi M 97 20) + (1 : Int32))) [(0, vr (some (97, 1, 0))), (1, vi l1), (2, vi s0)] 43 [] Q)) : Zm E YX8_pairs (d + 1) M [(0, vr (some (97, 1, 0))), (1, vi l1)] 220 [vi s0] Q := by
  refine Zm.l (fun _ _ k_ => z_ist_n dX8_pairs_220 rfl (by decide) (lv' := [(0, vr (some (97, 1, 0))), (1, vi l1), (2, vi s0)]) rfl k_) ?_
  refine Zm.l (fun _ _ k_ => z_iload_n dX8_pairs_221 rfl rfl k_) ?_
  refine Zm.br (fun _ _ k1_ k2_ => z_if_eq (tgt := 235) dX8_pairs_222 rfl k1_ k2_) (fun h_ => ?_) (fun h_ => ?_)
  · have k := zit h_ k
    refine Zm.l (fun _ _ k_ => z_goto (tgt := 43) dX8_pairs_235 rfl k_) ?_
    exact k
  · have k := zif h_ k
    refine Zm.l (fun _ _ k_ => z_aload_n dX8_pairs_225 rfl rfl k_) ?_
    refine Zm.l (fun _ _ k_ => z_dup dX8_pairs_226 rfl k_) ?_
    refine zm_geti dX8_pairs_227 fsX8_392_1 (by decide) (by decide) ?_
    refine Zm.l (fun _ _ k_ => z_iconst (v := 1) dX8_pairs_230 rfl k_) ?_
    refine Zm.l (fun _ _ k_ => z_iadd dX8_pairs_231 k_) ?_
    refine zm_puti (by decide) (by decide) dX8_pairs_232 (zfwN.w fwX8_392_1) rfl ⟨rfl, rfl⟩ ?_
    refine Zm.l (fun _ _ k_ => z_goto (tgt := 43) dX8_pairs_235 rfl k_) ?_
    exact k
theorem sX8_pairs_242 {E : zE} {d : Nat} {Q : zO → zM → Prop} (M : zM)  (k : Zm E YX8_must d M (zargs 0 [vr (some (97, 1, 0)), vi (25 : Int32)]) 0 [] (zma E YX8_pairs (d + 1) [(0, vr (some (97, 1, 0)))] 245 3 [] Q)) : Zm E YX8_pairs (d + 1) M [(0, vr (some (97, 1, 0)))] 242 [] Q := by
  refine Zm.l (fun _ _ k_ => z_aload_n dX8_pairs_242 rfl rfl k_) ?_
  refine Zm.l (fun _ _ k_ => z_bipush (v := 25) dX8_pairs_243 rfl k_) ?_
  exact zm_callV (as := [vi (25 : Int32)]) (st := []) dX8_pairs_245 vsX8_473_1 (Nat.le_refl _) (Nat.le_of_ble_eq_true rfl) (Nat.le_of_ble_eq_true rfl) rfl k
theorem sX8_pairs_248 {E : zE} {d : Nat} {Q : zO → zM → Prop} (M : zM) (s0 : Int32) (k : Zm E YX8_ended d M (zargs 0 [vr (some (97, 1, 0))]) 0 [] (zma E YX8_pairs (d + 1) [] 250 3 [] Q)) : Zm E YX8_pairs (d + 1) M [(0, vr (some (97, 1, 0)))] 248 [vi s0] Q := by
  refine Zm.l (fun _ _ k_ => z_ist_n dX8_pairs_248 rfl (by decide) (lv' := [(0, vr (some (97, 1, 0))), (3, vi s0)]) rfl k_) ?_
  refine Zm.l (fun _ _ k_ => z_aload_n dX8_pairs_249 rfl rfl k_) ?_
  refine Zm.pick [] rfl ?_
  exact zm_callV (as := []) (st := []) dX8_pairs_250 vsX8_515_1 (Nat.le_refl _) (Nat.le_of_ble_eq_true rfl) (Nat.le_of_ble_eq_true rfl) rfl k
theorem sX8_pairs_253 {E : zE} {d : Nat} {Q : zO → zM → Prop} (M : zM) (s0 : Int32) (k : Q (.inl (some (vi s0))) M) : Zm E YX8_pairs (d + 1) M [] 253 [vi s0] Q := by
  exact zm_iret dX8_pairs_253 rfl rfl k
/-! ScriptTypesModel.member(I)I -/
theorem bX8_member_0 : zdec cX8_member 0 [(0, .aload_n 0, 1), (1, .bipush 30, 2), (3, .invokevirtual 398, 3), (6, .ifCond .eq 84, 3), (9, .aload_n 0, 1), (10, .dup, 1), (11, .getfield 392, 3), (14, .iconst 1, 1), (15, .iadd, 1), (16, .putfield 392, 3), (19, .aload_n 0, 1), (20, .getfield 27, 3), (23, .aload_n 0, 1), (24, .getfield 392, 3), (27, .iaload, 1), (28, .iconst 1, 1)] = true := by decide +kernel
theorem dX8_member_0 : decode cX8_member 0 = .ok (.aload_n 0, 1) := zdec_at bX8_member_0 0 rfl
theorem dX8_member_1 : decode cX8_member 1 = .ok (.bipush 30, 2) := zdec_at bX8_member_0 1 rfl
theorem dX8_member_3 : decode cX8_member 3 = .ok (.invokevirtual 398, 3) := zdec_at bX8_member_0 2 rfl
theorem dX8_member_6 : decode cX8_member 6 = .ok (.ifCond .eq 84, 3) := zdec_at bX8_member_0 3 rfl
theorem dX8_member_9 : decode cX8_member 9 = .ok (.aload_n 0, 1) := zdec_at bX8_member_0 4 rfl
theorem dX8_member_10 : decode cX8_member 10 = .ok (.dup, 1) := zdec_at bX8_member_0 5 rfl
theorem dX8_member_11 : decode cX8_member 11 = .ok (.getfield 392, 3) := zdec_at bX8_member_0 6 rfl
theorem dX8_member_14 : decode cX8_member 14 = .ok (.iconst 1, 1) := zdec_at bX8_member_0 7 rfl
theorem dX8_member_15 : decode cX8_member 15 = .ok (.iadd, 1) := zdec_at bX8_member_0 8 rfl
theorem dX8_member_16 : decode cX8_member 16 = .ok (.putfield 392, 3) := zdec_at bX8_member_0 9 rfl
theorem dX8_member_19 : decode cX8_member 19 = .ok (.aload_n 0, 1) := zdec_at bX8_member_0 10 rfl
theorem dX8_member_20 : decode cX8_member 20 = .ok (.getfield 27, 3) := zdec_at bX8_member_0 11 rfl
theorem dX8_member_23 : decode cX8_member 23 = .ok (.aload_n 0, 1) := zdec_at bX8_member_0 12 rfl
theorem dX8_member_24 : decode cX8_member 24 = .ok (.getfield 392, 3) := zdec_at bX8_member_0 13 rfl
theorem dX8_member_27 : decode cX8_member 27 = .ok (.iaload, 1) := zdec_at bX8_member_0 14 rfl
theorem dX8_member_28 : decode cX8_member 28 = .ok (.iconst 1, 1) := zdec_at bX8_member_0 15 rfl
theorem bX8_member_29 : zdec cX8_member 29 [(29, .if_icmp .eq 24, 3), (32, .aload_n 0, 1), (33, .getfield 27, 3), (36, .aload_n 0, 1), (37, .getfield 392, 3), (40, .iaload, 1), (41, .iconst 2, 1), (42, .if_icmp .eq 11, 3), (45, .aload_n 0, 1), (46, .iconst 2, 1), (47, .invokevirtual 401, 3), (50, .pop, 1), (51, .iconst (-1), 1), (52, .ireturn, 1), (53, .aload_n 0, 1), (54, .dup, 1)] = true := by decide +kernel
theorem dX8_member_29 : decode cX8_member 29 = .ok (.if_icmp .eq 24, 3) := zdec_at bX8_member_29 0 rfl
theorem dX8_member_32 : decode cX8_member 32 = .ok (.aload_n 0, 1) := zdec_at bX8_member_29 1 rfl
theorem dX8_member_33 : decode cX8_member 33 = .ok (.getfield 27, 3) := zdec_at bX8_member_29 2 rfl
theorem dX8_member_36 : decode cX8_member 36 = .ok (.aload_n 0, 1) := zdec_at bX8_member_29 3 rfl
theorem dX8_member_37 : decode cX8_member 37 = .ok (.getfield 392, 3) := zdec_at bX8_member_29 4 rfl
theorem dX8_member_40 : decode cX8_member 40 = .ok (.iaload, 1) := zdec_at bX8_member_29 5 rfl
theorem dX8_member_41 : decode cX8_member 41 = .ok (.iconst 2, 1) := zdec_at bX8_member_29 6 rfl
theorem dX8_member_42 : decode cX8_member 42 = .ok (.if_icmp .eq 11, 3) := zdec_at bX8_member_29 7 rfl
theorem dX8_member_45 : decode cX8_member 45 = .ok (.aload_n 0, 1) := zdec_at bX8_member_29 8 rfl
theorem dX8_member_46 : decode cX8_member 46 = .ok (.iconst 2, 1) := zdec_at bX8_member_29 9 rfl
theorem dX8_member_47 : decode cX8_member 47 = .ok (.invokevirtual 401, 3) := zdec_at bX8_member_29 10 rfl
theorem dX8_member_50 : decode cX8_member 50 = .ok (.pop, 1) := zdec_at bX8_member_29 11 rfl
theorem dX8_member_51 : decode cX8_member 51 = .ok (.iconst (-1), 1) := zdec_at bX8_member_29 12 rfl
theorem dX8_member_52 : decode cX8_member 52 = .ok (.ireturn, 1) := zdec_at bX8_member_29 13 rfl
theorem dX8_member_53 : decode cX8_member 53 = .ok (.aload_n 0, 1) := zdec_at bX8_member_29 14 rfl
theorem dX8_member_54 : decode cX8_member 54 = .ok (.dup, 1) := zdec_at bX8_member_29 15 rfl
theorem bX8_member_55 : zdec cX8_member 55 [(55, .getfield 392, 3), (58, .iconst 1, 1), (59, .iadd, 1), (60, .putfield 392, 3), (63, .aload_n 0, 1), (64, .bipush 7, 2), (66, .iload_n 1, 1), (67, .aload_n 0, 1), (68, .iconst 0, 1), (69, .bipush 6, 2), (71, .aload_n 0, 1), (72, .aload_n 0, 1), (73, .getfield 392, 3), (76, .iconst 1, 1), (77, .isub, 1), (78, .invokevirtual 418, 3)] = true := by decide +kernel
theorem dX8_member_55 : decode cX8_member 55 = .ok (.getfield 392, 3) := zdec_at bX8_member_55 0 rfl
theorem dX8_member_58 : decode cX8_member 58 = .ok (.iconst 1, 1) := zdec_at bX8_member_55 1 rfl
theorem dX8_member_59 : decode cX8_member 59 = .ok (.iadd, 1) := zdec_at bX8_member_55 2 rfl
theorem dX8_member_60 : decode cX8_member 60 = .ok (.putfield 392, 3) := zdec_at bX8_member_55 3 rfl
theorem dX8_member_63 : decode cX8_member 63 = .ok (.aload_n 0, 1) := zdec_at bX8_member_55 4 rfl
theorem dX8_member_64 : decode cX8_member 64 = .ok (.bipush 7, 2) := zdec_at bX8_member_55 5 rfl
theorem dX8_member_66 : decode cX8_member 66 = .ok (.iload_n 1, 1) := zdec_at bX8_member_55 6 rfl
theorem dX8_member_67 : decode cX8_member 67 = .ok (.aload_n 0, 1) := zdec_at bX8_member_55 7 rfl
theorem dX8_member_68 : decode cX8_member 68 = .ok (.iconst 0, 1) := zdec_at bX8_member_55 8 rfl
theorem dX8_member_69 : decode cX8_member 69 = .ok (.bipush 6, 2) := zdec_at bX8_member_55 9 rfl
theorem dX8_member_71 : decode cX8_member 71 = .ok (.aload_n 0, 1) := zdec_at bX8_member_55 10 rfl
theorem dX8_member_72 : decode cX8_member 72 = .ok (.aload_n 0, 1) := zdec_at bX8_member_55 11 rfl
theorem dX8_member_73 : decode cX8_member 73 = .ok (.getfield 392, 3) := zdec_at bX8_member_55 12 rfl
theorem dX8_member_76 : decode cX8_member 76 = .ok (.iconst 1, 1) := zdec_at bX8_member_55 13 rfl
theorem dX8_member_77 : decode cX8_member 77 = .ok (.isub, 1) := zdec_at bX8_member_55 14 rfl
theorem dX8_member_78 : decode cX8_member 78 = .ok (.invokevirtual 418, 3) := zdec_at bX8_member_55 15 rfl
theorem bX8_member_81 : zdec cX8_member 81 [(81, .iconst 0, 1), (82, .invokevirtual 446, 3), (85, .iconst 0, 1), (86, .invokevirtual 446, 3), (89, .ireturn, 1), (90, .aload_n 0, 1), (91, .iconst 1, 1), (92, .invokevirtual 450, 3), (95, .aload_n 0, 1), (96, .dup, 1), (97, .getfield 392, 3), (100, .iconst 1, 1), (101, .iadd, 1), (102, .putfield 392, 3), (105, .aload_n 0, 1), (106, .getfield 389, 3)] = true := by decide +kernel
theorem dX8_member_81 : decode cX8_member 81 = .ok (.iconst 0, 1) := zdec_at bX8_member_81 0 rfl
theorem dX8_member_82 : decode cX8_member 82 = .ok (.invokevirtual 446, 3) := zdec_at bX8_member_81 1 rfl
theorem dX8_member_85 : decode cX8_member 85 = .ok (.iconst 0, 1) := zdec_at bX8_member_81 2 rfl
theorem dX8_member_86 : decode cX8_member 86 = .ok (.invokevirtual 446, 3) := zdec_at bX8_member_81 3 rfl
theorem dX8_member_89 : decode cX8_member 89 = .ok (.ireturn, 1) := zdec_at bX8_member_81 4 rfl
theorem dX8_member_90 : decode cX8_member 90 = .ok (.aload_n 0, 1) := zdec_at bX8_member_81 5 rfl
theorem dX8_member_91 : decode cX8_member 91 = .ok (.iconst 1, 1) := zdec_at bX8_member_81 6 rfl
theorem dX8_member_92 : decode cX8_member 92 = .ok (.invokevirtual 450, 3) := zdec_at bX8_member_81 7 rfl
theorem dX8_member_95 : decode cX8_member 95 = .ok (.aload_n 0, 1) := zdec_at bX8_member_81 8 rfl
theorem dX8_member_96 : decode cX8_member 96 = .ok (.dup, 1) := zdec_at bX8_member_81 9 rfl
theorem dX8_member_97 : decode cX8_member 97 = .ok (.getfield 392, 3) := zdec_at bX8_member_81 10 rfl
theorem dX8_member_100 : decode cX8_member 100 = .ok (.iconst 1, 1) := zdec_at bX8_member_81 11 rfl
theorem dX8_member_101 : decode cX8_member 101 = .ok (.iadd, 1) := zdec_at bX8_member_81 12 rfl
theorem dX8_member_102 : decode cX8_member 102 = .ok (.putfield 392, 3) := zdec_at bX8_member_81 13 rfl
theorem dX8_member_105 : decode cX8_member 105 = .ok (.aload_n 0, 1) := zdec_at bX8_member_81 14 rfl
theorem dX8_member_106 : decode cX8_member 106 = .ok (.getfield 389, 3) := zdec_at bX8_member_81 15 rfl
theorem bX8_member_109 : zdec cX8_member 109 [(109, .ifCond .le 7, 3), (112, .iconst (-1), 1), (113, .goto 8, 3), (116, .aload_n 0, 1), (117, .iconst 1, 1), (118, .invokevirtual 502, 3), (121, .istore_n 2, 1), (122, .aload_n 0, 1), (123, .invokevirtual 454, 3), (126, .aload_n 0, 1), (127, .bipush 29, 2), (129, .invokevirtual 473, 3), (132, .ifCond .eq 15, 3), (135, .aload_n 0, 1), (136, .bipush 7, 2), (138, .iload_n 1, 1)] = true := by decide +kernel
theorem dX8_member_109 : decode cX8_member 109 = .ok (.ifCond .le 7, 3) := zdec_at bX8_member_109 0 rfl
theorem dX8_member_112 : decode cX8_member 112 = .ok (.iconst (-1), 1) := zdec_at bX8_member_109 1 rfl
theorem dX8_member_113 : decode cX8_member 113 = .ok (.goto 8, 3) := zdec_at bX8_member_109 2 rfl
theorem dX8_member_116 : decode cX8_member 116 = .ok (.aload_n 0, 1) := zdec_at bX8_member_109 3 rfl
theorem dX8_member_117 : decode cX8_member 117 = .ok (.iconst 1, 1) := zdec_at bX8_member_109 4 rfl
theorem dX8_member_118 : decode cX8_member 118 = .ok (.invokevirtual 502, 3) := zdec_at bX8_member_109 5 rfl
theorem dX8_member_121 : decode cX8_member 121 = .ok (.istore_n 2, 1) := zdec_at bX8_member_109 6 rfl
theorem dX8_member_122 : decode cX8_member 122 = .ok (.aload_n 0, 1) := zdec_at bX8_member_109 7 rfl
theorem dX8_member_123 : decode cX8_member 123 = .ok (.invokevirtual 454, 3) := zdec_at bX8_member_109 8 rfl
theorem dX8_member_126 : decode cX8_member 126 = .ok (.aload_n 0, 1) := zdec_at bX8_member_109 9 rfl
theorem dX8_member_127 : decode cX8_member 127 = .ok (.bipush 29, 2) := zdec_at bX8_member_109 10 rfl
theorem dX8_member_129 : decode cX8_member 129 = .ok (.invokevirtual 473, 3) := zdec_at bX8_member_109 11 rfl
theorem dX8_member_132 : decode cX8_member 132 = .ok (.ifCond .eq 15, 3) := zdec_at bX8_member_109 12 rfl
theorem dX8_member_135 : decode cX8_member 135 = .ok (.aload_n 0, 1) := zdec_at bX8_member_109 13 rfl
theorem dX8_member_136 : decode cX8_member 136 = .ok (.bipush 7, 2) := zdec_at bX8_member_109 14 rfl
theorem dX8_member_138 : decode cX8_member 138 = .ok (.iload_n 1, 1) := zdec_at bX8_member_109 15 rfl
theorem bX8_member_139 : zdec cX8_member 139 [(139, .iload_n 2, 1), (140, .iconst 0, 1), (141, .invokevirtual 446, 3), (144, .goto 4, 3), (147, .iconst (-1), 1), (148, .ireturn, 1)] = true := by decide +kernel
theorem dX8_member_139 : decode cX8_member 139 = .ok (.iload_n 2, 1) := zdec_at bX8_member_139 0 rfl
theorem dX8_member_140 : decode cX8_member 140 = .ok (.iconst 0, 1) := zdec_at bX8_member_139 1 rfl
theorem dX8_member_141 : decode cX8_member 141 = .ok (.invokevirtual 446, 3) := zdec_at bX8_member_139 2 rfl
theorem dX8_member_144 : decode cX8_member 144 = .ok (.goto 4, 3) := zdec_at bX8_member_139 3 rfl
theorem dX8_member_147 : decode cX8_member 147 = .ok (.iconst (-1), 1) := zdec_at bX8_member_139 4 rfl
theorem dX8_member_148 : decode cX8_member 148 = .ok (.ireturn, 1) := zdec_at bX8_member_139 5 rfl
theorem sX8_member_0 {E : zE} {d : Nat} {Q : zO → zM → Prop} (M : zM) (l1 : Int32) (k : Zm E YX8_isSign d M (zargs 0 [vr (some (97, 1, 0)), vi (30 : Int32)]) 0 [] (zma E YX8_member (d + 1) [(0, vr (some (97, 1, 0))), (1, vi l1)] 3 3 [] Q)) : Zm E YX8_member (d + 1) M [(0, vr (some (97, 1, 0))), (1, vi l1)] 0 [] Q := by
  refine Zm.l (fun _ _ k_ => z_aload_n dX8_member_0 rfl rfl k_) ?_
  refine Zm.l (fun _ _ k_ => z_bipush (v := 30) dX8_member_1 rfl k_) ?_
  exact zm_callV (as := [vi (30 : Int32)]) (st := []) dX8_member_3 vsX8_398_1 (Nat.le_refl _) (Nat.le_of_ble_eq_true rfl) (Nat.le_of_ble_eq_true rfl) rfl k
theorem sX8_member_6 {E : zE} {d : Nat} {Q : zO → zM → Prop} (M : zM) (l1 : Int32) (s0 : Int32) (k : if s0 = 0 then (Zm E YX8_open d M (zargs 0 [vr (some (97, 1, 0)), vi (1 : Int32)]) 0 [] (zma E YX8_member (d + 1) [(0, vr (some (97, 1, 0))), (1, vi l1)] 92 3 [] Q)) else (vp_in ((gi M 97 20) + (1 : Int32)) 4002 ∧ (if (gi M 103 (((gi M 97 20) + (1 : Int32))).toNatClampNeg) = (1 : Int32) then (Zm E YX8_member (d + 1) (si M 97 20 ((gi M 97 20) + (1 : Int32))) [(0, vr (some (97, 1, 0))), (1, vi l1)] 53 [] Q) else (vp_in ((gi M 97 20) + (1 : Int32)) 4002 ∧ (if (gi M 103 (((gi M 97 20) + (1 : Int32))).toNatClampNeg) = (2 : Int32) then (Zm E YX8_member (d + 1) (si M 97 20 ((gi M 97 20) + (1 : Int32))) [(0, vr (some (97, 1, 0))), (1, vi l1)] 53 [] Q) else (Zm E YX8_fail d (si M 97 20 ((gi M 97 20) + (1 : Int32))) (zargs 0 [vr (some (97, 1, 0)), vi (2 : Int32)]) 0 [] (zma E YX8_member (d + 1) [] 47 3 [] Q))))))) : Zm E YX8_member (d + 1) M [(0, vr (some (97, 1, 0))), (1, vi l1)] 6 [vi s0] Q := by
  refine Zm.br (fun _ _ k1_ k2_ => z_if_eq (tgt := 90) dX8_member_6 rfl k1_ k2_) (fun h_ => ?_) (fun h_ => ?_)
  · have k := zit h_ k
    refine Zm.l (fun _ _ k_ => z_aload_n dX8_member_90 rfl rfl k_) ?_
    refine Zm.l (fun _ _ k_ => z_iconst (v := 1) dX8_member_91 rfl k_) ?_
    exact zm_callV (as := [vi (1 : Int32)]) (st := []) dX8_member_92 vsX8_450_1 (Nat.le_refl _) (Nat.le_of_ble_eq_true rfl) (Nat.le_of_ble_eq_true rfl) rfl k
  · have k := zif h_ k
    refine Zm.l (fun _ _ k_ => z_aload_n dX8_member_9 rfl rfl k_) ?_
    refine Zm.l (fun _ _ k_ => z_dup dX8_member_10 rfl k_) ?_
    refine zm_geti dX8_member_11 fsX8_392_1 (by decide) (by decide) ?_
    refine Zm.l (fun _ _ k_ => z_iconst (v := 1) dX8_member_14 rfl k_) ?_
    refine Zm.l (fun _ _ k_ => z_iadd dX8_member_15 k_) ?_
    refine zm_puti (by decide) (by decide) dX8_member_16 (zfwN.w fwX8_392_1) rfl ⟨rfl, rfl⟩ ?_
    refine Zm.l (fun _ _ k_ => z_aload_n dX8_member_19 rfl rfl k_) ?_
    refine zm_getr 5 dX8_member_20 fsX8_27_1 rfl ?_
    refine Zm.l (fun _ _ k_ => z_aload_n dX8_member_23 rfl rfl k_) ?_
    refine zm_geti dX8_member_24 fsX8_392_1 (by decide) (by decide) ?_
    obtain ⟨b_, k⟩ := k
    refine zm_iald dX8_member_27 b_ (by decide) (by decide) ?_
    refine Zm.l (fun _ _ k_ => z_iconst (v := 1) dX8_member_28 rfl k_) ?_
    refine Zm.br (fun _ _ k1_ k2_ => z_icmp_eq (tgt := 53) dX8_member_29 rfl k1_ k2_) (fun h_ => ?_) (fun h_ => ?_)
    · have k := zit h_ k
      exact k
    · have k := zif h_ k
      refine Zm.l (fun _ _ k_ => z_aload_n dX8_member_32 rfl rfl k_) ?_
      refine zm_getr 5 dX8_member_33 fsX8_27_1 rfl ?_
      refine Zm.l (fun _ _ k_ => z_aload_n dX8_member_36 rfl rfl k_) ?_
      refine zm_geti dX8_member_37 fsX8_392_1 (by decide) (by decide) ?_
      obtain ⟨b_, k⟩ := k
      refine zm_iald dX8_member_40 b_ (by decide) (by decide) ?_
      refine Zm.l (fun _ _ k_ => z_iconst (v := 2) dX8_member_41 rfl k_) ?_
      refine Zm.br (fun _ _ k1_ k2_ => z_icmp_eq (tgt := 53) dX8_member_42 rfl k1_ k2_) (fun h_ => ?_) (fun h_ => ?_)
      · have k := zit h_ k
        exact k
      · have k := zif h_ k
        refine Zm.l (fun _ _ k_ => z_aload_n dX8_member_45 rfl rfl k_) ?_
        refine Zm.l (fun _ _ k_ => z_iconst (v := 2) dX8_member_46 rfl k_) ?_
        refine Zm.pick [] rfl ?_
        exact zm_callV (as := [vi (2 : Int32)]) (st := []) dX8_member_47 vsX8_401_1 (Nat.le_refl _) (Nat.le_of_ble_eq_true rfl) (Nat.le_of_ble_eq_true rfl) rfl k
theorem sX8_member_50 {E : zE} {d : Nat} {Q : zO → zM → Prop} (M : zM) (s0 : Int32) (k : Q (.inl (some (vi (-1 : Int32)))) M) : Zm E YX8_member (d + 1) M [] 50 [vi s0] Q := by
  refine Zm.l (fun _ _ k_ => z_pop dX8_member_50 rfl k_) ?_
  refine Zm.l (fun _ _ k_ => z_iconst (v := -1) dX8_member_51 rfl k_) ?_
  exact zm_iret dX8_member_52 rfl rfl k
theorem sX8_member_53 {E : zE} {d : Nat} {Q : zO → zM → Prop} (M : zM) (l1 : Int32) (k : Zm E YX8_nameAt d (si M 97 20 ((gi M 97 20) + (1 : Int32))) (zargs 0 [vr (some (97, 1, 0)), vi (((gi M 97 20) + (1 : Int32)) - (1 : Int32))]) 0 [] (zma E YX8_member (d + 1) [] 78 3 [vi (6 : Int32), vi (0 : Int32), vr (some (97, 1, 0)), vi l1, vi (7 : Int32), vr (some (97, 1, 0))] Q)) : Zm E YX8_member (d + 1) M [(0, vr (some (97, 1, 0))), (1, vi l1)] 53 [] Q := by
  refine Zm.l (fun _ _ k_ => z_aload_n dX8_member_53 rfl rfl k_) ?_
  refine Zm.l (fun _ _ k_ => z_dup dX8_member_54 rfl k_) ?_
  refine zm_geti dX8_member_55 fsX8_392_1 (by decide) (by decide) ?_
  refine Zm.l (fun _ _ k_ => z_iconst (v := 1) dX8_member_58 rfl k_) ?_
  refine Zm.l (fun _ _ k_ => z_iadd dX8_member_59 k_) ?_
  refine zm_puti (by decide) (by decide) dX8_member_60 (zfwN.w fwX8_392_1) rfl ⟨rfl, rfl⟩ ?_
  refine Zm.l (fun _ _ k_ => z_aload_n dX8_member_63 rfl rfl k_) ?_
  refine Zm.l (fun _ _ k_ => z_bipush (v := 7) dX8_member_64 rfl k_) ?_
  refine Zm.l (fun _ _ k_ => z_iload_n dX8_member_66 rfl rfl k_) ?_
  refine Zm.l (fun _ _ k_ => z_aload_n dX8_member_67 rfl rfl k_) ?_
  refine Zm.l (fun _ _ k_ => z_iconst (v := 0) dX8_member_68 rfl k_) ?_
  refine Zm.l (fun _ _ k_ => z_bipush (v := 6) dX8_member_69 rfl k_) ?_
  refine Zm.l (fun _ _ k_ => z_aload_n dX8_member_71 rfl rfl k_) ?_
  refine Zm.l (fun _ _ k_ => z_aload_n dX8_member_72 rfl rfl k_) ?_
  refine zm_geti dX8_member_73 fsX8_392_1 (by decide) (by decide) ?_
  refine Zm.l (fun _ _ k_ => z_iconst (v := 1) dX8_member_76 rfl k_) ?_
  refine Zm.l (fun _ _ k_ => z_isub dX8_member_77 k_) ?_
  refine Zm.pick [] rfl ?_
  exact zm_callV (as := [vi (((gi M 97 20) + (1 : Int32)) - (1 : Int32))]) (st := [vi (6 : Int32), vi (0 : Int32), vr (some (97, 1, 0)), vi l1, vi (7 : Int32), vr (some (97, 1, 0))]) dX8_member_78 vsX8_418_1 (Nat.le_refl _) (Nat.le_of_ble_eq_true rfl) (Nat.le_of_ble_eq_true rfl) rfl k
theorem sX8_member_81 {E : zE} {d : Nat} {Q : zO → zM → Prop} (M : zM) (s0 : Int32) (s1 : Int32) (s2 : Int32) (s4 : Int32) (s5 : Int32) (k : Zm E YX8_node d M (zargs 0 [vr (some (97, 1, 0)), vi s2, vi s1, vi s0, vi (0 : Int32)]) 0 [] (zma E YX8_member (d + 1) [] 82 3 [vi s4, vi s5, vr (some (97, 1, 0))] Q)) : Zm E YX8_member (d + 1) M [] 81 [vi s0, vi s1, vi s2, vr (some (97, 1, 0)), vi s4, vi s5, vr (some (97, 1, 0))] Q := by
  refine Zm.l (fun _ _ k_ => z_iconst (v := 0) dX8_member_81 rfl k_) ?_
  exact zm_callV (as := [vi s2, vi s1, vi s0, vi (0 : Int32)]) (st := [vi s4, vi s5, vr (some (97, 1, 0))]) dX8_member_82 vsX8_446_1 (Nat.le_refl _) (Nat.le_of_ble_eq_true rfl) (Nat.le_of_ble_eq_true rfl) rfl k
theorem sX8_member_85 {E : zE} {d : Nat} {Q : zO → zM → Prop} (M : zM) (s0 : Int32) (s1 : Int32) (s2 : Int32) (k : Zm E YX8_node d M (zargs 0 [vr (some (97, 1, 0)), vi s2, vi s1, vi s0, vi (0 : Int32)]) 0 [] (zma E YX8_member (d + 1) [] 86 3 [] Q)) : Zm E YX8_member (d + 1) M [] 85 [vi s0, vi s1, vi s2, vr (some (97, 1, 0))] Q := by
  refine Zm.l (fun _ _ k_ => z_iconst (v := 0) dX8_member_85 rfl k_) ?_
  exact zm_callV (as := [vi s2, vi s1, vi s0, vi (0 : Int32)]) (st := []) dX8_member_86 vsX8_446_1 (Nat.le_refl _) (Nat.le_of_ble_eq_true rfl) (Nat.le_of_ble_eq_true rfl) rfl k
theorem sX8_member_89 {E : zE} {d : Nat} {Q : zO → zM → Prop} (M : zM) (s0 : Int32) (k : Q (.inl (some (vi s0))) M) : Zm E YX8_member (d + 1) M [] 89 [vi s0] Q := by
  exact zm_iret dX8_member_89 rfl rfl k
theorem sX8_member_95 {E : zE} {d : Nat} {Q : zO → zM → Prop} (M : zM) (l1 : Int32) (k : if (gi M 97 21) ≤ 0 then (Zm E YX8_expression d (si M 97 20 ((gi M 97 20) + (1 : Int32))) (zargs 0 [vr (some (97, 1, 0)), vi (1 : Int32)]) 0 [] (zma E YX8_member (d + 1) [(0, vr (some (97, 1, 0))), (1, vi l1)] 118 3 [] Q)) else (Zm E YX8_member (d + 1) (si M 97 20 ((gi M 97 20) + (1 : Int32))) [(0, vr (some (97, 1, 0))), (1, vi l1)] 121 [vi (-1 : Int32)] Q)) : Zm E YX8_member (d + 1) M [(0, vr (some (97, 1, 0))), (1, vi l1)] 95 [] Q := by
  refine Zm.l (fun _ _ k_ => z_aload_n dX8_member_95 rfl rfl k_) ?_
  refine Zm.l (fun _ _ k_ => z_dup dX8_member_96 rfl k_) ?_
  refine zm_geti dX8_member_97 fsX8_392_1 (by decide) (by decide) ?_
  refine Zm.l (fun _ _ k_ => z_iconst (v := 1) dX8_member_100 rfl k_) ?_
  refine Zm.l (fun _ _ k_ => z_iadd dX8_member_101 k_) ?_
  refine zm_puti (by decide) (by decide) dX8_member_102 (zfwN.w fwX8_392_1) rfl ⟨rfl, rfl⟩ ?_
  refine Zm.l (fun _ _ k_ => z_aload_n dX8_member_105 rfl rfl k_) ?_
  refine zm_geti dX8_member_106 fsX8_389_1 (by decide) (by decide) ?_
  refine Zm.br (fun _ _ k1_ k2_ => z_if_le (tgt := 116) dX8_member_109 rfl k1_ k2_) (fun h_ => ?_) (fun h_ => ?_)
  · have k := zit h_ k
    refine Zm.l (fun _ _ k_ => z_aload_n dX8_member_116 rfl rfl k_) ?_
    refine Zm.l (fun _ _ k_ => z_iconst (v := 1) dX8_member_117 rfl k_) ?_
    exact zm_callV (as := [vi (1 : Int32)]) (st := []) dX8_member_118 vsX8_502_1 (Nat.le_refl _) (Nat.le_of_ble_eq_true rfl) (Nat.le_of_ble_eq_true rfl) rfl k
  · have k := zif h_ k
    refine Zm.l (fun _ _ k_ => z_iconst (v := -1) dX8_member_112 rfl k_) ?_
    refine Zm.l (fun _ _ k_ => z_goto (tgt := 121) dX8_member_113 rfl k_) ?_
    exact k
theorem sX8_member_121 {E : zE} {d : Nat} {Q : zO → zM → Prop} (M : zM) (l1 : Int32) (s0 : Int32) (k : Zm E YX8_close d M (zargs 0 [vr (some (97, 1, 0))]) 0 [] (zma E YX8_member (d + 1) [(0, vr (some (97, 1, 0))), (1, vi l1), (2, vi s0)] 123 3 [] Q)) : Zm E YX8_member (d + 1) M [(0, vr (some (97, 1, 0))), (1, vi l1)] 121 [vi s0] Q := by
  refine Zm.l (fun _ _ k_ => z_ist_n dX8_member_121 rfl (by decide) (lv' := [(0, vr (some (97, 1, 0))), (1, vi l1), (2, vi s0)]) rfl k_) ?_
  refine Zm.l (fun _ _ k_ => z_aload_n dX8_member_122 rfl rfl k_) ?_
  exact zm_callV (as := []) (st := []) dX8_member_123 vsX8_454_1 (Nat.le_refl _) (Nat.le_of_ble_eq_true rfl) (Nat.le_of_ble_eq_true rfl) rfl k
theorem sX8_member_126 {E : zE} {d : Nat} {Q : zO → zM → Prop} (M : zM) (l1 : Int32) (l2 : Int32) (k : Zm E YX8_must d M (zargs 0 [vr (some (97, 1, 0)), vi (29 : Int32)]) 0 [] (zma E YX8_member (d + 1) [(0, vr (some (97, 1, 0))), (1, vi l1), (2, vi l2)] 129 3 [] Q)) : Zm E YX8_member (d + 1) M [(0, vr (some (97, 1, 0))), (1, vi l1), (2, vi l2)] 126 [] Q := by
  refine Zm.l (fun _ _ k_ => z_aload_n dX8_member_126 rfl rfl k_) ?_
  refine Zm.l (fun _ _ k_ => z_bipush (v := 29) dX8_member_127 rfl k_) ?_
  exact zm_callV (as := [vi (29 : Int32)]) (st := []) dX8_member_129 vsX8_473_1 (Nat.le_refl _) (Nat.le_of_ble_eq_true rfl) (Nat.le_of_ble_eq_true rfl) rfl k
theorem sX8_member_132 {E : zE} {d : Nat} {Q : zO → zM → Prop} (M : zM) (l1 : Int32) (l2 : Int32) (s0 : Int32) (k : if s0 = 0 then (Q (.inl (some (vi (-1 : Int32)))) M) else (Zm E YX8_node d M (zargs 0 [vr (some (97, 1, 0)), vi (7 : Int32), vi l1, vi l2, vi (0 : Int32)]) 0 [] (zma E YX8_member (d + 1) [] 141 3 [] Q))) : Zm E YX8_member (d + 1) M [(0, vr (some (97, 1, 0))), (1, vi l1), (2, vi l2)] 132 [vi s0] Q := by
  refine Zm.br (fun _ _ k1_ k2_ => z_if_eq (tgt := 147) dX8_member_132 rfl k1_ k2_) (fun h_ => ?_) (fun h_ => ?_)
  · have k := zit h_ k
    refine Zm.l (fun _ _ k_ => z_iconst (v := -1) dX8_member_147 rfl k_) ?_
    exact zm_iret dX8_member_148 rfl rfl k
  · have k := zif h_ k
    refine Zm.l (fun _ _ k_ => z_aload_n dX8_member_135 rfl rfl k_) ?_
    refine Zm.l (fun _ _ k_ => z_bipush (v := 7) dX8_member_136 rfl k_) ?_
    refine Zm.l (fun _ _ k_ => z_iload_n dX8_member_138 rfl rfl k_) ?_
    refine Zm.l (fun _ _ k_ => z_iload_n dX8_member_139 rfl rfl k_) ?_
    refine Zm.l (fun _ _ k_ => z_iconst (v := 0) dX8_member_140 rfl k_) ?_
    refine Zm.pick [] rfl ?_
    exact zm_callV (as := [vi (7 : Int32), vi l1, vi l2, vi (0 : Int32)]) (st := []) dX8_member_141 vsX8_446_1 (Nat.le_refl _) (Nat.le_of_ble_eq_true rfl) (Nat.le_of_ble_eq_true rfl) rfl k
theorem sX8_member_144 {E : zE} {d : Nat} {Q : zO → zM → Prop} (M : zM) (s0 : Int32) (k : Q (.inl (some (vi s0))) M) : Zm E YX8_member (d + 1) M [] 144 [vi s0] Q := by
  refine Zm.l (fun _ _ k_ => z_goto (tgt := 148) dX8_member_144 rfl k_) ?_
  exact zm_iret dX8_member_148 rfl rfl k
/-! ScriptTypesModel.arguments()I -/
theorem bX8_arguments_0 : zdec cX8_arguments 0 [(0, .aload_n 0, 1), (1, .bipush 26, 2), (3, .bipush 27, 2), (5, .bipush 8, 2), (7, .invokevirtual 505, 3), (10, .ireturn, 1)] = true := by decide +kernel
theorem dX8_arguments_0 : decode cX8_arguments 0 = .ok (.aload_n 0, 1) := zdec_at bX8_arguments_0 0 rfl
theorem dX8_arguments_1 : decode cX8_arguments 1 = .ok (.bipush 26, 2) := zdec_at bX8_arguments_0 1 rfl
theorem dX8_arguments_3 : decode cX8_arguments 3 = .ok (.bipush 27, 2) := zdec_at bX8_arguments_0 2 rfl
theorem dX8_arguments_5 : decode cX8_arguments 5 = .ok (.bipush 8, 2) := zdec_at bX8_arguments_0 3 rfl
theorem dX8_arguments_7 : decode cX8_arguments 7 = .ok (.invokevirtual 505, 3) := zdec_at bX8_arguments_0 4 rfl
theorem dX8_arguments_10 : decode cX8_arguments 10 = .ok (.ireturn, 1) := zdec_at bX8_arguments_0 5 rfl
theorem sX8_arguments_0 {E : zE} {d : Nat} {Q : zO → zM → Prop} (M : zM)  (k : Zm E YX8_items d M (zargs 0 [vr (some (97, 1, 0)), vi (26 : Int32), vi (27 : Int32), vi (8 : Int32)]) 0 [] (zma E YX8_arguments (d + 1) [] 7 3 [] Q)) : Zm E YX8_arguments (d + 1) M [(0, vr (some (97, 1, 0)))] 0 [] Q := by
  refine Zm.l (fun _ _ k_ => z_aload_n dX8_arguments_0 rfl rfl k_) ?_
  refine Zm.l (fun _ _ k_ => z_bipush (v := 26) dX8_arguments_1 rfl k_) ?_
  refine Zm.l (fun _ _ k_ => z_bipush (v := 27) dX8_arguments_3 rfl k_) ?_
  refine Zm.l (fun _ _ k_ => z_bipush (v := 8) dX8_arguments_5 rfl k_) ?_
  refine Zm.pick [] rfl ?_
  exact zm_callV (as := [vi (26 : Int32), vi (27 : Int32), vi (8 : Int32)]) (st := []) dX8_arguments_7 vsX8_505_1 (Nat.le_refl _) (Nat.le_of_ble_eq_true rfl) (Nat.le_of_ble_eq_true rfl) rfl k
theorem sX8_arguments_10 {E : zE} {d : Nat} {Q : zO → zM → Prop} (M : zM) (s0 : Int32) (k : Q (.inl (some (vi s0))) M) : Zm E YX8_arguments (d + 1) M [] 10 [vi s0] Q := by
  exact zm_iret dX8_arguments_10 rfl rfl k
/-! ScriptTypesModel.isTarget(I)Z -/
theorem bX8_isTarget_0 : zdec cX8_isTarget 0 [(0, .iload_n 1, 1), (1, .iconst (-1), 1), (2, .if_icmp .eq 37, 3), (5, .aload_n 0, 1), (6, .getfield 52, 3), (9, .iload_n 1, 1), (10, .baload, 1), (11, .ifCond .ne 28, 3), (14, .aload_n 0, 1), (15, .getfield 42, 3), (18, .iload_n 1, 1), (19, .iaload, 1), (20, .iconst 2, 1), (21, .if_icmp .eq 14, 3), (24, .aload_n 0, 1), (25, .getfield 42, 3)] = true := by decide +kernel
theorem dX8_isTarget_0 : decode cX8_isTarget 0 = .ok (.iload_n 1, 1) := zdec_at bX8_isTarget_0 0 rfl
theorem dX8_isTarget_1 : decode cX8_isTarget 1 = .ok (.iconst (-1), 1) := zdec_at bX8_isTarget_0 1 rfl
theorem dX8_isTarget_2 : decode cX8_isTarget 2 = .ok (.if_icmp .eq 37, 3) := zdec_at bX8_isTarget_0 2 rfl
theorem dX8_isTarget_5 : decode cX8_isTarget 5 = .ok (.aload_n 0, 1) := zdec_at bX8_isTarget_0 3 rfl
theorem dX8_isTarget_6 : decode cX8_isTarget 6 = .ok (.getfield 52, 3) := zdec_at bX8_isTarget_0 4 rfl
theorem dX8_isTarget_9 : decode cX8_isTarget 9 = .ok (.iload_n 1, 1) := zdec_at bX8_isTarget_0 5 rfl
theorem dX8_isTarget_10 : decode cX8_isTarget 10 = .ok (.baload, 1) := zdec_at bX8_isTarget_0 6 rfl
theorem dX8_isTarget_11 : decode cX8_isTarget 11 = .ok (.ifCond .ne 28, 3) := zdec_at bX8_isTarget_0 7 rfl
theorem dX8_isTarget_14 : decode cX8_isTarget 14 = .ok (.aload_n 0, 1) := zdec_at bX8_isTarget_0 8 rfl
theorem dX8_isTarget_15 : decode cX8_isTarget 15 = .ok (.getfield 42, 3) := zdec_at bX8_isTarget_0 9 rfl
theorem dX8_isTarget_18 : decode cX8_isTarget 18 = .ok (.iload_n 1, 1) := zdec_at bX8_isTarget_0 10 rfl
theorem dX8_isTarget_19 : decode cX8_isTarget 19 = .ok (.iaload, 1) := zdec_at bX8_isTarget_0 11 rfl
theorem dX8_isTarget_20 : decode cX8_isTarget 20 = .ok (.iconst 2, 1) := zdec_at bX8_isTarget_0 12 rfl
theorem dX8_isTarget_21 : decode cX8_isTarget 21 = .ok (.if_icmp .eq 14, 3) := zdec_at bX8_isTarget_0 13 rfl
theorem dX8_isTarget_24 : decode cX8_isTarget 24 = .ok (.aload_n 0, 1) := zdec_at bX8_isTarget_0 14 rfl
theorem dX8_isTarget_25 : decode cX8_isTarget 25 = .ok (.getfield 42, 3) := zdec_at bX8_isTarget_0 15 rfl
theorem bX8_isTarget_28 : zdec cX8_isTarget 28 [(28, .iload_n 1, 1), (29, .iaload, 1), (30, .bipush 7, 2), (32, .if_icmp .ne 7, 3), (35, .iconst 1, 1), (36, .goto 4, 3), (39, .iconst 0, 1), (40, .ireturn, 1)] = true := by decide +kernel
theorem dX8_isTarget_28 : decode cX8_isTarget 28 = .ok (.iload_n 1, 1) := zdec_at bX8_isTarget_28 0 rfl
theorem dX8_isTarget_29 : decode cX8_isTarget 29 = .ok (.iaload, 1) := zdec_at bX8_isTarget_28 1 rfl
theorem dX8_isTarget_30 : decode cX8_isTarget 30 = .ok (.bipush 7, 2) := zdec_at bX8_isTarget_28 2 rfl
theorem dX8_isTarget_32 : decode cX8_isTarget 32 = .ok (.if_icmp .ne 7, 3) := zdec_at bX8_isTarget_28 3 rfl
theorem dX8_isTarget_35 : decode cX8_isTarget 35 = .ok (.iconst 1, 1) := zdec_at bX8_isTarget_28 4 rfl
theorem dX8_isTarget_36 : decode cX8_isTarget 36 = .ok (.goto 4, 3) := zdec_at bX8_isTarget_28 5 rfl
theorem dX8_isTarget_39 : decode cX8_isTarget 39 = .ok (.iconst 0, 1) := zdec_at bX8_isTarget_28 6 rfl
theorem dX8_isTarget_40 : decode cX8_isTarget 40 = .ok (.ireturn, 1) := zdec_at bX8_isTarget_28 7 rfl
theorem sX8_isTarget_0 {E : zE} {d : Nat} {Q : zO → zM → Prop} (M : zM) (l1 : Int32) (k : if l1 = (-1 : Int32) then (Q (.inl (some (vi (0 : Int32)))) M) else (vp_in l1 12000 ∧ (if (gi M 111 (l1).toNatClampNeg) = 0 then (vp_in l1 12000 ∧ (if (gi M 108 (l1).toNatClampNeg) = (2 : Int32) then (Q (.inl (some (vi (1 : Int32)))) M) else (vp_in l1 12000 ∧ (if (gi M 108 (l1).toNatClampNeg) = (7 : Int32) then (Q (.inl (some (vi (1 : Int32)))) M) else (Q (.inl (some (vi (0 : Int32)))) M))))) else (Q (.inl (some (vi (0 : Int32)))) M)))) : Zm E YX8_isTarget d M [(0, vr (some (97, 1, 0))), (1, vi l1)] 0 [] Q := by
  refine Zm.l (fun _ _ k_ => z_iload_n dX8_isTarget_0 rfl rfl k_) ?_
  refine Zm.l (fun _ _ k_ => z_iconst (v := -1) dX8_isTarget_1 rfl k_) ?_
  refine Zm.br (fun _ _ k1_ k2_ => z_icmp_eq (tgt := 39) dX8_isTarget_2 rfl k1_ k2_) (fun h_ => ?_) (fun h_ => ?_)
  · have k := zit h_ k
    refine Zm.l (fun _ _ k_ => z_iconst (v := 0) dX8_isTarget_39 rfl k_) ?_
    exact zm_iret dX8_isTarget_40 rfl (by decide) k
  · have k := zif h_ k
    refine Zm.l (fun _ _ k_ => z_aload_n dX8_isTarget_5 rfl rfl k_) ?_
    refine zm_getr 13 dX8_isTarget_6 fsX8_52_1 rfl ?_
    refine Zm.l (fun _ _ k_ => z_iload_n dX8_isTarget_9 rfl rfl k_) ?_
    obtain ⟨b_, k⟩ := k
    refine zm_zald dX8_isTarget_10 b_ (by decide) (by decide) ?_
    refine Zm.brn (fun _ _ k1_ k2_ => z_if_ne (tgt := 39) dX8_isTarget_11 rfl k1_ k2_) (fun h_ => ?_) (fun h_ => ?_)
    · have k := zif h_ k
      refine Zm.l (fun _ _ k_ => z_iconst (v := 0) dX8_isTarget_39 rfl k_) ?_
      exact zm_iret dX8_isTarget_40 rfl (by decide) k
    · have k := zit h_ k
      refine Zm.l (fun _ _ k_ => z_aload_n dX8_isTarget_14 rfl rfl k_) ?_
      refine zm_getr 10 dX8_isTarget_15 fsX8_42_1 rfl ?_
      refine Zm.l (fun _ _ k_ => z_iload_n dX8_isTarget_18 rfl rfl k_) ?_
      obtain ⟨b_, k⟩ := k
      refine zm_iald dX8_isTarget_19 b_ (by decide) (by decide) ?_
      refine Zm.l (fun _ _ k_ => z_iconst (v := 2) dX8_isTarget_20 rfl k_) ?_
      refine Zm.br (fun _ _ k1_ k2_ => z_icmp_eq (tgt := 35) dX8_isTarget_21 rfl k1_ k2_) (fun h_ => ?_) (fun h_ => ?_)
      · have k := zit h_ k
        refine Zm.l (fun _ _ k_ => z_iconst (v := 1) dX8_isTarget_35 rfl k_) ?_
        refine Zm.l (fun _ _ k_ => z_goto (tgt := 40) dX8_isTarget_36 rfl k_) ?_
        exact zm_iret dX8_isTarget_40 rfl (by decide) k
      · have k := zif h_ k
        refine Zm.l (fun _ _ k_ => z_aload_n dX8_isTarget_24 rfl rfl k_) ?_
        refine zm_getr 10 dX8_isTarget_25 fsX8_42_1 rfl ?_
        refine Zm.l (fun _ _ k_ => z_iload_n dX8_isTarget_28 rfl rfl k_) ?_
        obtain ⟨b_, k⟩ := k
        refine zm_iald dX8_isTarget_29 b_ (by decide) (by decide) ?_
        refine Zm.l (fun _ _ k_ => z_bipush (v := 7) dX8_isTarget_30 rfl k_) ?_
        refine Zm.brn (fun _ _ k1_ k2_ => z_icmp_ne (tgt := 39) dX8_isTarget_32 rfl k1_ k2_) (fun h_ => ?_) (fun h_ => ?_)
        · have k := zif h_ k
          refine Zm.l (fun _ _ k_ => z_iconst (v := 0) dX8_isTarget_39 rfl k_) ?_
          exact zm_iret dX8_isTarget_40 rfl (by decide) k
        · have k := zit h_ k
          refine Zm.l (fun _ _ k_ => z_iconst (v := 1) dX8_isTarget_35 rfl k_) ?_
          refine Zm.l (fun _ _ k_ => z_goto (tgt := 40) dX8_isTarget_36 rfl k_) ?_
          exact zm_iret dX8_isTarget_40 rfl (by decide) k
/-! ScriptTypesModel.bindsOf(Z)I -/
theorem bX8_bindsOf_0 : zdec cX8_bindsOf 0 [(0, .aload_n 0, 1), (1, .getfield 27, 3), (4, .aload_n 0, 1), (5, .getfield 392, 3), (8, .iaload, 1), (9, .iconst 2, 1), (10, .if_icmp .ne 42, 3), (13, .aload_n 0, 1), (14, .getfield 30, 3), (17, .aload_n 0, 1), (18, .getfield 392, 3), (21, .iaload, 1), (22, .bipush 14, 2), (24, .if_icmp .eq 21, 3), (27, .aload_n 0, 1), (28, .getfield 30, 3)] = true := by decide +kernel
theorem dX8_bindsOf_0 : decode cX8_bindsOf 0 = .ok (.aload_n 0, 1) := zdec_at bX8_bindsOf_0 0 rfl
theorem dX8_bindsOf_1 : decode cX8_bindsOf 1 = .ok (.getfield 27, 3) := zdec_at bX8_bindsOf_0 1 rfl
theorem dX8_bindsOf_4 : decode cX8_bindsOf 4 = .ok (.aload_n 0, 1) := zdec_at bX8_bindsOf_0 2 rfl
theorem dX8_bindsOf_5 : decode cX8_bindsOf 5 = .ok (.getfield 392, 3) := zdec_at bX8_bindsOf_0 3 rfl
theorem dX8_bindsOf_8 : decode cX8_bindsOf 8 = .ok (.iaload, 1) := zdec_at bX8_bindsOf_0 4 rfl
theorem dX8_bindsOf_9 : decode cX8_bindsOf 9 = .ok (.iconst 2, 1) := zdec_at bX8_bindsOf_0 5 rfl
theorem dX8_bindsOf_10 : decode cX8_bindsOf 10 = .ok (.if_icmp .ne 42, 3) := zdec_at bX8_bindsOf_0 6 rfl
theorem dX8_bindsOf_13 : decode cX8_bindsOf 13 = .ok (.aload_n 0, 1) := zdec_at bX8_bindsOf_0 7 rfl
theorem dX8_bindsOf_14 : decode cX8_bindsOf 14 = .ok (.getfield 30, 3) := zdec_at bX8_bindsOf_0 8 rfl
theorem dX8_bindsOf_17 : decode cX8_bindsOf 17 = .ok (.aload_n 0, 1) := zdec_at bX8_bindsOf_0 9 rfl
theorem dX8_bindsOf_18 : decode cX8_bindsOf 18 = .ok (.getfield 392, 3) := zdec_at bX8_bindsOf_0 10 rfl
theorem dX8_bindsOf_21 : decode cX8_bindsOf 21 = .ok (.iaload, 1) := zdec_at bX8_bindsOf_0 11 rfl
theorem dX8_bindsOf_22 : decode cX8_bindsOf 22 = .ok (.bipush 14, 2) := zdec_at bX8_bindsOf_0 12 rfl
theorem dX8_bindsOf_24 : decode cX8_bindsOf 24 = .ok (.if_icmp .eq 21, 3) := zdec_at bX8_bindsOf_0 13 rfl
theorem dX8_bindsOf_27 : decode cX8_bindsOf 27 = .ok (.aload_n 0, 1) := zdec_at bX8_bindsOf_0 14 rfl
theorem dX8_bindsOf_28 : decode cX8_bindsOf 28 = .ok (.getfield 30, 3) := zdec_at bX8_bindsOf_0 15 rfl
theorem bX8_bindsOf_31 : zdec cX8_bindsOf 31 [(31, .aload_n 0, 1), (32, .getfield 392, 3), (35, .iaload, 1), (36, .bipush 13, 2), (38, .if_icmp .ne 12, 3), (41, .iload_n 1, 1), (42, .ifCond .eq 8, 3), (45, .bipush 6, 2), (47, .goto 4, 3), (50, .iconst (-1), 1), (51, .ireturn, 1), (52, .aload_n 0, 1), (53, .getfield 27, 3), (56, .aload_n 0, 1), (57, .getfield 392, 3), (60, .iaload, 1)] = true := by decide +kernel
theorem dX8_bindsOf_31 : decode cX8_bindsOf 31 = .ok (.aload_n 0, 1) := zdec_at bX8_bindsOf_31 0 rfl
theorem dX8_bindsOf_32 : decode cX8_bindsOf 32 = .ok (.getfield 392, 3) := zdec_at bX8_bindsOf_31 1 rfl
theorem dX8_bindsOf_35 : decode cX8_bindsOf 35 = .ok (.iaload, 1) := zdec_at bX8_bindsOf_31 2 rfl
theorem dX8_bindsOf_36 : decode cX8_bindsOf 36 = .ok (.bipush 13, 2) := zdec_at bX8_bindsOf_31 3 rfl
theorem dX8_bindsOf_38 : decode cX8_bindsOf 38 = .ok (.if_icmp .ne 12, 3) := zdec_at bX8_bindsOf_31 4 rfl
theorem dX8_bindsOf_41 : decode cX8_bindsOf 41 = .ok (.iload_n 1, 1) := zdec_at bX8_bindsOf_31 5 rfl
theorem dX8_bindsOf_42 : decode cX8_bindsOf 42 = .ok (.ifCond .eq 8, 3) := zdec_at bX8_bindsOf_31 6 rfl
theorem dX8_bindsOf_45 : decode cX8_bindsOf 45 = .ok (.bipush 6, 2) := zdec_at bX8_bindsOf_31 7 rfl
theorem dX8_bindsOf_47 : decode cX8_bindsOf 47 = .ok (.goto 4, 3) := zdec_at bX8_bindsOf_31 8 rfl
theorem dX8_bindsOf_50 : decode cX8_bindsOf 50 = .ok (.iconst (-1), 1) := zdec_at bX8_bindsOf_31 9 rfl
theorem dX8_bindsOf_51 : decode cX8_bindsOf 51 = .ok (.ireturn, 1) := zdec_at bX8_bindsOf_31 10 rfl
theorem dX8_bindsOf_52 : decode cX8_bindsOf 52 = .ok (.aload_n 0, 1) := zdec_at bX8_bindsOf_31 11 rfl
theorem dX8_bindsOf_53 : decode cX8_bindsOf 53 = .ok (.getfield 27, 3) := zdec_at bX8_bindsOf_31 12 rfl
theorem dX8_bindsOf_56 : decode cX8_bindsOf 56 = .ok (.aload_n 0, 1) := zdec_at bX8_bindsOf_31 13 rfl
theorem dX8_bindsOf_57 : decode cX8_bindsOf 57 = .ok (.getfield 392, 3) := zdec_at bX8_bindsOf_31 14 rfl
theorem dX8_bindsOf_60 : decode cX8_bindsOf 60 = .ok (.iaload, 1) := zdec_at bX8_bindsOf_31 15 rfl
theorem bX8_bindsOf_61 : zdec cX8_bindsOf 61 [(61, .iconst 5, 1), (62, .if_icmp .eq 5, 3), (65, .iconst (-1), 1), (66, .ireturn, 1), (67, .aload_n 0, 1), (68, .getfield 30, 3), (71, .aload_n 0, 1), (72, .getfield 392, 3), (75, .iaload, 1)] = true := by decide +kernel
theorem dX8_bindsOf_61 : decode cX8_bindsOf 61 = .ok (.iconst 5, 1) := zdec_at bX8_bindsOf_61 0 rfl
theorem dX8_bindsOf_62 : decode cX8_bindsOf 62 = .ok (.if_icmp .eq 5, 3) := zdec_at bX8_bindsOf_61 1 rfl
theorem dX8_bindsOf_65 : decode cX8_bindsOf 65 = .ok (.iconst (-1), 1) := zdec_at bX8_bindsOf_61 2 rfl
theorem dX8_bindsOf_66 : decode cX8_bindsOf 66 = .ok (.ireturn, 1) := zdec_at bX8_bindsOf_61 3 rfl
theorem dX8_bindsOf_67 : decode cX8_bindsOf 67 = .ok (.aload_n 0, 1) := zdec_at bX8_bindsOf_61 4 rfl
theorem dX8_bindsOf_68 : decode cX8_bindsOf 68 = .ok (.getfield 30, 3) := zdec_at bX8_bindsOf_61 5 rfl
theorem dX8_bindsOf_71 : decode cX8_bindsOf 71 = .ok (.aload_n 0, 1) := zdec_at bX8_bindsOf_61 6 rfl
theorem dX8_bindsOf_72 : decode cX8_bindsOf 72 = .ok (.getfield 392, 3) := zdec_at bX8_bindsOf_61 7 rfl
theorem dX8_bindsOf_75 : decode cX8_bindsOf 75 = .ok (.iaload, 1) := zdec_at bX8_bindsOf_61 8 rfl
theorem dX8_bindsOf_76 : decode cX8_bindsOf 76 = .ok (.tableswitch 200 3 42 #[191, 186, 186, 188, 188, 186, 186, 200, 200, 191, 191, 178, 176, 200, 200, 200, 200, 200, 200, 200, 200, 200, 200, 200, 200, 200, 200, 200, 200, 200, 188, 188, 194, 194, 197, 197, 197, 184, 180, 182], 176) := by decide +kernel
theorem bX8_bindsOf_252 : zdec cX8_bindsOf 252 [(252, .iconst 0, 1), (253, .ireturn, 1), (254, .iconst 1, 1), (255, .ireturn, 1), (256, .iconst 2, 1), (257, .ireturn, 1), (258, .iconst 3, 1), (259, .ireturn, 1), (260, .iconst 4, 1), (261, .ireturn, 1), (262, .iconst 5, 1), (263, .ireturn, 1), (264, .bipush 6, 2), (266, .ireturn, 1), (267, .bipush 7, 2), (269, .ireturn, 1)] = true := by decide +kernel
theorem dX8_bindsOf_252 : decode cX8_bindsOf 252 = .ok (.iconst 0, 1) := zdec_at bX8_bindsOf_252 0 rfl
theorem dX8_bindsOf_253 : decode cX8_bindsOf 253 = .ok (.ireturn, 1) := zdec_at bX8_bindsOf_252 1 rfl
theorem dX8_bindsOf_254 : decode cX8_bindsOf 254 = .ok (.iconst 1, 1) := zdec_at bX8_bindsOf_252 2 rfl
theorem dX8_bindsOf_255 : decode cX8_bindsOf 255 = .ok (.ireturn, 1) := zdec_at bX8_bindsOf_252 3 rfl
theorem dX8_bindsOf_256 : decode cX8_bindsOf 256 = .ok (.iconst 2, 1) := zdec_at bX8_bindsOf_252 4 rfl
theorem dX8_bindsOf_257 : decode cX8_bindsOf 257 = .ok (.ireturn, 1) := zdec_at bX8_bindsOf_252 5 rfl
theorem dX8_bindsOf_258 : decode cX8_bindsOf 258 = .ok (.iconst 3, 1) := zdec_at bX8_bindsOf_252 6 rfl
theorem dX8_bindsOf_259 : decode cX8_bindsOf 259 = .ok (.ireturn, 1) := zdec_at bX8_bindsOf_252 7 rfl
theorem dX8_bindsOf_260 : decode cX8_bindsOf 260 = .ok (.iconst 4, 1) := zdec_at bX8_bindsOf_252 8 rfl
theorem dX8_bindsOf_261 : decode cX8_bindsOf 261 = .ok (.ireturn, 1) := zdec_at bX8_bindsOf_252 9 rfl
theorem dX8_bindsOf_262 : decode cX8_bindsOf 262 = .ok (.iconst 5, 1) := zdec_at bX8_bindsOf_252 10 rfl
theorem dX8_bindsOf_263 : decode cX8_bindsOf 263 = .ok (.ireturn, 1) := zdec_at bX8_bindsOf_252 11 rfl
theorem dX8_bindsOf_264 : decode cX8_bindsOf 264 = .ok (.bipush 6, 2) := zdec_at bX8_bindsOf_252 12 rfl
theorem dX8_bindsOf_266 : decode cX8_bindsOf 266 = .ok (.ireturn, 1) := zdec_at bX8_bindsOf_252 13 rfl
theorem dX8_bindsOf_267 : decode cX8_bindsOf 267 = .ok (.bipush 7, 2) := zdec_at bX8_bindsOf_252 14 rfl
theorem dX8_bindsOf_269 : decode cX8_bindsOf 269 = .ok (.ireturn, 1) := zdec_at bX8_bindsOf_252 15 rfl
theorem bX8_bindsOf_270 : zdec cX8_bindsOf 270 [(270, .bipush 8, 2), (272, .ireturn, 1), (273, .bipush 9, 2), (275, .ireturn, 1), (276, .iconst (-1), 1), (277, .ireturn, 1)] = true := by decide +kernel
theorem dX8_bindsOf_270 : decode cX8_bindsOf 270 = .ok (.bipush 8, 2) := zdec_at bX8_bindsOf_270 0 rfl
theorem dX8_bindsOf_272 : decode cX8_bindsOf 272 = .ok (.ireturn, 1) := zdec_at bX8_bindsOf_270 1 rfl
theorem dX8_bindsOf_273 : decode cX8_bindsOf 273 = .ok (.bipush 9, 2) := zdec_at bX8_bindsOf_270 2 rfl
theorem dX8_bindsOf_275 : decode cX8_bindsOf 275 = .ok (.ireturn, 1) := zdec_at bX8_bindsOf_270 3 rfl
theorem dX8_bindsOf_276 : decode cX8_bindsOf 276 = .ok (.iconst (-1), 1) := zdec_at bX8_bindsOf_270 4 rfl
theorem dX8_bindsOf_277 : decode cX8_bindsOf 277 = .ok (.ireturn, 1) := zdec_at bX8_bindsOf_270 5 rfl
theorem sX8_bindsOf_0 {E : zE} {d : Nat} {Q : zO → zM → Prop} (M : zM) (l1 : Int32) (k : vp_in (gi M 97 20) 4002 ∧ (if (gi M 103 ((gi M 97 20)).toNatClampNeg) = (2 : Int32) then (vp_in (gi M 97 20) 4002 ∧ (if (gi M 104 ((gi M 97 20)).toNatClampNeg) = (14 : Int32) then (Q (.inl (some (vi (6 : Int32)))) M) else (vp_in (gi M 97 20) 4002 ∧ (if (gi M 104 ((gi M 97 20)).toNatClampNeg) = (13 : Int32) then (if l1 = 0 then (Q (.inl (some (vi (-1 : Int32)))) M) else (Q (.inl (some (vi (6 : Int32)))) M)) else (Q (.inl (some (vi (-1 : Int32)))) M))))) else (vp_in (gi M 97 20) 4002 ∧ (if (gi M 103 ((gi M 97 20)).toNatClampNeg) = (5 : Int32) then (vp_in (gi M 97 20) 4002 ∧ (if (gi M 104 ((gi M 97 20)).toNatClampNeg) = 3 then (Q (.inl (some (vi (7 : Int32)))) M) else (if (gi M 104 ((gi M 97 20)).toNatClampNeg) = 4 then (Q (.inl (some (vi (5 : Int32)))) M) else (if (gi M 104 ((gi M 97 20)).toNatClampNeg) = 5 then (Q (.inl (some (vi (5 : Int32)))) M) else (if (gi M 104 ((gi M 97 20)).toNatClampNeg) = 6 then (Q (.inl (some (vi (6 : Int32)))) M) else (if (gi M 104 ((gi M 97 20)).toNatClampNeg) = 7 then (Q (.inl (some (vi (6 : Int32)))) M) else (if (gi M 104 ((gi M 97 20)).toNatClampNeg) = 8 then (Q (.inl (some (vi (5 : Int32)))) M) else (if (gi M 104 ((gi M 97 20)).toNatClampNeg) = 9 then (Q (.inl (some (vi (5 : Int32)))) M) else (if (gi M 104 ((gi M 97 20)).toNatClampNeg) = 10 then (Q (.inl (some (vi (-1 : Int32)))) M) else (if (gi M 104 ((gi M 97 20)).toNatClampNeg) = 11 then (Q (.inl (some (vi (-1 : Int32)))) M) else (if (gi M 104 ((gi M 97 20)).toNatClampNeg) = 12 then (Q (.inl (some (vi (7 : Int32)))) M) else (if (gi M 104 ((gi M 97 20)).toNatClampNeg) = 13 then (Q (.inl (some (vi (7 : Int32)))) M) else (if (gi M 104 ((gi M 97 20)).toNatClampNeg) = 14 then (Q (.inl (some (vi (1 : Int32)))) M) else (if (gi M 104 ((gi M 97 20)).toNatClampNeg) = 15 then (Q (.inl (some (vi (0 : Int32)))) M) else (if (gi M 104 ((gi M 97 20)).toNatClampNeg) = 16 then (Q (.inl (some (vi (-1 : Int32)))) M) else (if (gi M 104 ((gi M 97 20)).toNatClampNeg) = 17 then (Q (.inl (some (vi (-1 : Int32)))) M) else (if (gi M 104 ((gi M 97 20)).toNatClampNeg) = 18 then (Q (.inl (some (vi (-1 : Int32)))) M) else (if (gi M 104 ((gi M 97 20)).toNatClampNeg) = 19 then (Q (.inl (some (vi (-1 : Int32)))) M) else (if (gi M 104 ((gi M 97 20)).toNatClampNeg) = 20 then (Q (.inl (some (vi (-1 : Int32)))) M) else (if (gi M 104 ((gi M 97 20)).toNatClampNeg) = 21 then (Q (.inl (some (vi (-1 : Int32)))) M) else (if (gi M 104 ((gi M 97 20)).toNatClampNeg) = 22 then (Q (.inl (some (vi (-1 : Int32)))) M) else (if (gi M 104 ((gi M 97 20)).toNatClampNeg) = 23 then (Q (.inl (some (vi (-1 : Int32)))) M) else (if (gi M 104 ((gi M 97 20)).toNatClampNeg) = 24 then (Q (.inl (some (vi (-1 : Int32)))) M) else (if (gi M 104 ((gi M 97 20)).toNatClampNeg) = 25 then (Q (.inl (some (vi (-1 : Int32)))) M) else (if (gi M 104 ((gi M 97 20)).toNatClampNeg) = 26 then (Q (.inl (some (vi (-1 : Int32)))) M) else (if (gi M 104 ((gi M 97 20)).toNatClampNeg) = 27 then (Q (.inl (some (vi (-1 : Int32)))) M) else (if (gi M 104 ((gi M 97 20)).toNatClampNeg) = 28 then (Q (.inl (some (vi (-1 : Int32)))) M) else (if (gi M 104 ((gi M 97 20)).toNatClampNeg) = 29 then (Q (.inl (some (vi (-1 : Int32)))) M) else (if (gi M 104 ((gi M 97 20)).toNatClampNeg) = 30 then (Q (.inl (some (vi (-1 : Int32)))) M) else (if (gi M 104 ((gi M 97 20)).toNatClampNeg) = 31 then (Q (.inl (some (vi (-1 : Int32)))) M) else (if (gi M 104 ((gi M 97 20)).toNatClampNeg) = 32 then (Q (.inl (some (vi (-1 : Int32)))) M) else (if (gi M 104 ((gi M 97 20)).toNatClampNeg) = 33 then (Q (.inl (some (vi (6 : Int32)))) M) else (if (gi M 104 ((gi M 97 20)).toNatClampNeg) = 34 then (Q (.inl (some (vi (6 : Int32)))) M) else (if (gi M 104 ((gi M 97 20)).toNatClampNeg) = 35 then (Q (.inl (some (vi (8 : Int32)))) M) else (if (gi M 104 ((gi M 97 20)).toNatClampNeg) = 36 then (Q (.inl (some (vi (8 : Int32)))) M) else (if (gi M 104 ((gi M 97 20)).toNatClampNeg) = 37 then (Q (.inl (some (vi (9 : Int32)))) M) else (if (gi M 104 ((gi M 97 20)).toNatClampNeg) = 38 then (Q (.inl (some (vi (9 : Int32)))) M) else (if (gi M 104 ((gi M 97 20)).toNatClampNeg) = 39 then (Q (.inl (some (vi (9 : Int32)))) M) else (if (gi M 104 ((gi M 97 20)).toNatClampNeg) = 40 then (Q (.inl (some (vi (4 : Int32)))) M) else (if (gi M 104 ((gi M 97 20)).toNatClampNeg) = 41 then (Q (.inl (some (vi (2 : Int32)))) M) else (if (gi M 104 ((gi M 97 20)).toNatClampNeg) = 42 then (Q (.inl (some (vi (3 : Int32)))) M) else (Q (.inl (some (vi (-1 : Int32)))) M)))))))))))))))))))))))))))))))))))))))))) else (Q (.inl (some (vi (-1 : Int32)))) M))))) : Zm E YX8_bindsOf d M [(0, vr (some (97, 1, 0))), (1, vi l1)] 0 [] Q := by
  refine Zm.l (fun _ _ k_ => z_aload_n dX8_bindsOf_0 rfl rfl k_) ?_
  refine zm_getr 5 dX8_bindsOf_1 fsX8_27_1 rfl ?_
  refine Zm.l (fun _ _ k_ => z_aload_n dX8_bindsOf_4 rfl rfl k_) ?_
  refine zm_geti dX8_bindsOf_5 fsX8_392_1 (by decide) (by decide) ?_
  obtain ⟨b_, k⟩ := k
  refine zm_iald dX8_bindsOf_8 b_ (by decide) (by decide) ?_
  refine Zm.l (fun _ _ k_ => z_iconst (v := 2) dX8_bindsOf_9 rfl k_) ?_
  refine Zm.brn (fun _ _ k1_ k2_ => z_icmp_ne (tgt := 52) dX8_bindsOf_10 rfl k1_ k2_) (fun h_ => ?_) (fun h_ => ?_)
  · have k := zif h_ k
    refine Zm.l (fun _ _ k_ => z_aload_n dX8_bindsOf_52 rfl rfl k_) ?_
    refine zm_getr 5 dX8_bindsOf_53 fsX8_27_1 rfl ?_
    refine Zm.l (fun _ _ k_ => z_aload_n dX8_bindsOf_56 rfl rfl k_) ?_
    refine zm_geti dX8_bindsOf_57 fsX8_392_1 (by decide) (by decide) ?_
    obtain ⟨b_, k⟩ := k
    refine zm_iald dX8_bindsOf_60 b_ (by decide) (by decide) ?_
    refine Zm.l (fun _ _ k_ => z_iconst (v := 5) dX8_bindsOf_61 rfl k_) ?_
    refine Zm.br (fun _ _ k1_ k2_ => z_icmp_eq (tgt := 67) dX8_bindsOf_62 rfl k1_ k2_) (fun h_ => ?_) (fun h_ => ?_)
    · have k := zit h_ k
      refine Zm.l (fun _ _ k_ => z_aload_n dX8_bindsOf_67 rfl rfl k_) ?_
      refine zm_getr 6 dX8_bindsOf_68 fsX8_30_1 rfl ?_
      refine Zm.l (fun _ _ k_ => z_aload_n dX8_bindsOf_71 rfl rfl k_) ?_
      refine zm_geti dX8_bindsOf_72 fsX8_392_1 (by decide) (by decide) ?_
      obtain ⟨b_, k⟩ := k
      refine zm_iald dX8_bindsOf_75 b_ (by decide) (by decide) ?_
      by_cases h0_ : (gi M 104 ((gi M 97 20)).toNatClampNeg) = 3
      · have k := zit h0_ k
        refine Zm.l (fun _ _ k_ => z_tableIn (off := 191) (tgt := 267) dX8_bindsOf_76 (by rw [h0_]; decide) (by rw [h0_]; decide) (by rw [h0_]; rfl) rfl k_) ?_
        refine Zm.l (fun _ _ k_ => z_bipush (v := 7) dX8_bindsOf_267 rfl k_) ?_
        exact zm_iret dX8_bindsOf_269 rfl rfl k
      · have k := zif h0_ k
        by_cases h1_ : (gi M 104 ((gi M 97 20)).toNatClampNeg) = 4
        · have k := zit h1_ k
          refine Zm.l (fun _ _ k_ => z_tableIn (off := 186) (tgt := 262) dX8_bindsOf_76 (by rw [h1_]; decide) (by rw [h1_]; decide) (by rw [h1_]; rfl) rfl k_) ?_
          refine Zm.l (fun _ _ k_ => z_iconst (v := 5) dX8_bindsOf_262 rfl k_) ?_
          exact zm_iret dX8_bindsOf_263 rfl rfl k
        · have k := zif h1_ k
          by_cases h2_ : (gi M 104 ((gi M 97 20)).toNatClampNeg) = 5
          · have k := zit h2_ k
            refine Zm.l (fun _ _ k_ => z_tableIn (off := 186) (tgt := 262) dX8_bindsOf_76 (by rw [h2_]; decide) (by rw [h2_]; decide) (by rw [h2_]; rfl) rfl k_) ?_
            refine Zm.l (fun _ _ k_ => z_iconst (v := 5) dX8_bindsOf_262 rfl k_) ?_
            exact zm_iret dX8_bindsOf_263 rfl rfl k
          · have k := zif h2_ k
            by_cases h3_ : (gi M 104 ((gi M 97 20)).toNatClampNeg) = 6
            · have k := zit h3_ k
              refine Zm.l (fun _ _ k_ => z_tableIn (off := 188) (tgt := 264) dX8_bindsOf_76 (by rw [h3_]; decide) (by rw [h3_]; decide) (by rw [h3_]; rfl) rfl k_) ?_
              refine Zm.l (fun _ _ k_ => z_bipush (v := 6) dX8_bindsOf_264 rfl k_) ?_
              exact zm_iret dX8_bindsOf_266 rfl rfl k
            · have k := zif h3_ k
              by_cases h4_ : (gi M 104 ((gi M 97 20)).toNatClampNeg) = 7
              · have k := zit h4_ k
                refine Zm.l (fun _ _ k_ => z_tableIn (off := 188) (tgt := 264) dX8_bindsOf_76 (by rw [h4_]; decide) (by rw [h4_]; decide) (by rw [h4_]; rfl) rfl k_) ?_
                refine Zm.l (fun _ _ k_ => z_bipush (v := 6) dX8_bindsOf_264 rfl k_) ?_
                exact zm_iret dX8_bindsOf_266 rfl rfl k
              · have k := zif h4_ k
                by_cases h5_ : (gi M 104 ((gi M 97 20)).toNatClampNeg) = 8
                · have k := zit h5_ k
                  refine Zm.l (fun _ _ k_ => z_tableIn (off := 186) (tgt := 262) dX8_bindsOf_76 (by rw [h5_]; decide) (by rw [h5_]; decide) (by rw [h5_]; rfl) rfl k_) ?_
                  refine Zm.l (fun _ _ k_ => z_iconst (v := 5) dX8_bindsOf_262 rfl k_) ?_
                  exact zm_iret dX8_bindsOf_263 rfl rfl k
                · have k := zif h5_ k
                  by_cases h6_ : (gi M 104 ((gi M 97 20)).toNatClampNeg) = 9
                  · have k := zit h6_ k
                    refine Zm.l (fun _ _ k_ => z_tableIn (off := 186) (tgt := 262) dX8_bindsOf_76 (by rw [h6_]; decide) (by rw [h6_]; decide) (by rw [h6_]; rfl) rfl k_) ?_
                    refine Zm.l (fun _ _ k_ => z_iconst (v := 5) dX8_bindsOf_262 rfl k_) ?_
                    exact zm_iret dX8_bindsOf_263 rfl rfl k
                  · have k := zif h6_ k
                    by_cases h7_ : (gi M 104 ((gi M 97 20)).toNatClampNeg) = 10
                    · have k := zit h7_ k
                      refine Zm.l (fun _ _ k_ => z_tableIn (off := 200) (tgt := 276) dX8_bindsOf_76 (by rw [h7_]; decide) (by rw [h7_]; decide) (by rw [h7_]; rfl) rfl k_) ?_
                      refine Zm.l (fun _ _ k_ => z_iconst (v := -1) dX8_bindsOf_276 rfl k_) ?_
                      exact zm_iret dX8_bindsOf_277 rfl rfl k
                    · have k := zif h7_ k
                      by_cases h8_ : (gi M 104 ((gi M 97 20)).toNatClampNeg) = 11
                      · have k := zit h8_ k
                        refine Zm.l (fun _ _ k_ => z_tableIn (off := 200) (tgt := 276) dX8_bindsOf_76 (by rw [h8_]; decide) (by rw [h8_]; decide) (by rw [h8_]; rfl) rfl k_) ?_
                        refine Zm.l (fun _ _ k_ => z_iconst (v := -1) dX8_bindsOf_276 rfl k_) ?_
                        exact zm_iret dX8_bindsOf_277 rfl rfl k
                      · have k := zif h8_ k
                        by_cases h9_ : (gi M 104 ((gi M 97 20)).toNatClampNeg) = 12
                        · have k := zit h9_ k
                          refine Zm.l (fun _ _ k_ => z_tableIn (off := 191) (tgt := 267) dX8_bindsOf_76 (by rw [h9_]; decide) (by rw [h9_]; decide) (by rw [h9_]; rfl) rfl k_) ?_
                          refine Zm.l (fun _ _ k_ => z_bipush (v := 7) dX8_bindsOf_267 rfl k_) ?_
                          exact zm_iret dX8_bindsOf_269 rfl rfl k
                        · have k := zif h9_ k
                          by_cases h10_ : (gi M 104 ((gi M 97 20)).toNatClampNeg) = 13
                          · have k := zit h10_ k
                            refine Zm.l (fun _ _ k_ => z_tableIn (off := 191) (tgt := 267) dX8_bindsOf_76 (by rw [h10_]; decide) (by rw [h10_]; decide) (by rw [h10_]; rfl) rfl k_) ?_
                            refine Zm.l (fun _ _ k_ => z_bipush (v := 7) dX8_bindsOf_267 rfl k_) ?_
                            exact zm_iret dX8_bindsOf_269 rfl rfl k
                          · have k := zif h10_ k
                            by_cases h11_ : (gi M 104 ((gi M 97 20)).toNatClampNeg) = 14
                            · have k := zit h11_ k
                              refine Zm.l (fun _ _ k_ => z_tableIn (off := 178) (tgt := 254) dX8_bindsOf_76 (by rw [h11_]; decide) (by rw [h11_]; decide) (by rw [h11_]; rfl) rfl k_) ?_
                              refine Zm.l (fun _ _ k_ => z_iconst (v := 1) dX8_bindsOf_254 rfl k_) ?_
                              exact zm_iret dX8_bindsOf_255 rfl rfl k
                            · have k := zif h11_ k
                              by_cases h12_ : (gi M 104 ((gi M 97 20)).toNatClampNeg) = 15
                              · have k := zit h12_ k
                                refine Zm.l (fun _ _ k_ => z_tableIn (off := 176) (tgt := 252) dX8_bindsOf_76 (by rw [h12_]; decide) (by rw [h12_]; decide) (by rw [h12_]; rfl) rfl k_) ?_
                                refine Zm.l (fun _ _ k_ => z_iconst (v := 0) dX8_bindsOf_252 rfl k_) ?_
                                exact zm_iret dX8_bindsOf_253 rfl rfl k
                              · have k := zif h12_ k
                                by_cases h13_ : (gi M 104 ((gi M 97 20)).toNatClampNeg) = 16
                                · have k := zit h13_ k
                                  refine Zm.l (fun _ _ k_ => z_tableIn (off := 200) (tgt := 276) dX8_bindsOf_76 (by rw [h13_]; decide) (by rw [h13_]; decide) (by rw [h13_]; rfl) rfl k_) ?_
                                  refine Zm.l (fun _ _ k_ => z_iconst (v := -1) dX8_bindsOf_276 rfl k_) ?_
                                  exact zm_iret dX8_bindsOf_277 rfl rfl k
                                · have k := zif h13_ k
                                  by_cases h14_ : (gi M 104 ((gi M 97 20)).toNatClampNeg) = 17
                                  · have k := zit h14_ k
                                    refine Zm.l (fun _ _ k_ => z_tableIn (off := 200) (tgt := 276) dX8_bindsOf_76 (by rw [h14_]; decide) (by rw [h14_]; decide) (by rw [h14_]; rfl) rfl k_) ?_
                                    refine Zm.l (fun _ _ k_ => z_iconst (v := -1) dX8_bindsOf_276 rfl k_) ?_
                                    exact zm_iret dX8_bindsOf_277 rfl rfl k
                                  · have k := zif h14_ k
                                    by_cases h15_ : (gi M 104 ((gi M 97 20)).toNatClampNeg) = 18
                                    · have k := zit h15_ k
                                      refine Zm.l (fun _ _ k_ => z_tableIn (off := 200) (tgt := 276) dX8_bindsOf_76 (by rw [h15_]; decide) (by rw [h15_]; decide) (by rw [h15_]; rfl) rfl k_) ?_
                                      refine Zm.l (fun _ _ k_ => z_iconst (v := -1) dX8_bindsOf_276 rfl k_) ?_
                                      exact zm_iret dX8_bindsOf_277 rfl rfl k
                                    · have k := zif h15_ k
                                      by_cases h16_ : (gi M 104 ((gi M 97 20)).toNatClampNeg) = 19
                                      · have k := zit h16_ k
                                        refine Zm.l (fun _ _ k_ => z_tableIn (off := 200) (tgt := 276) dX8_bindsOf_76 (by rw [h16_]; decide) (by rw [h16_]; decide) (by rw [h16_]; rfl) rfl k_) ?_
                                        refine Zm.l (fun _ _ k_ => z_iconst (v := -1) dX8_bindsOf_276 rfl k_) ?_
                                        exact zm_iret dX8_bindsOf_277 rfl rfl k
                                      · have k := zif h16_ k
                                        by_cases h17_ : (gi M 104 ((gi M 97 20)).toNatClampNeg) = 20
                                        · have k := zit h17_ k
                                          refine Zm.l (fun _ _ k_ => z_tableIn (off := 200) (tgt := 276) dX8_bindsOf_76 (by rw [h17_]; decide) (by rw [h17_]; decide) (by rw [h17_]; rfl) rfl k_) ?_
                                          refine Zm.l (fun _ _ k_ => z_iconst (v := -1) dX8_bindsOf_276 rfl k_) ?_
                                          exact zm_iret dX8_bindsOf_277 rfl rfl k
                                        · have k := zif h17_ k
                                          by_cases h18_ : (gi M 104 ((gi M 97 20)).toNatClampNeg) = 21
                                          · have k := zit h18_ k
                                            refine Zm.l (fun _ _ k_ => z_tableIn (off := 200) (tgt := 276) dX8_bindsOf_76 (by rw [h18_]; decide) (by rw [h18_]; decide) (by rw [h18_]; rfl) rfl k_) ?_
                                            refine Zm.l (fun _ _ k_ => z_iconst (v := -1) dX8_bindsOf_276 rfl k_) ?_
                                            exact zm_iret dX8_bindsOf_277 rfl rfl k
                                          · have k := zif h18_ k
                                            by_cases h19_ : (gi M 104 ((gi M 97 20)).toNatClampNeg) = 22
                                            · have k := zit h19_ k
                                              refine Zm.l (fun _ _ k_ => z_tableIn (off := 200) (tgt := 276) dX8_bindsOf_76 (by rw [h19_]; decide) (by rw [h19_]; decide) (by rw [h19_]; rfl) rfl k_) ?_
                                              refine Zm.l (fun _ _ k_ => z_iconst (v := -1) dX8_bindsOf_276 rfl k_) ?_
                                              exact zm_iret dX8_bindsOf_277 rfl rfl k
                                            · have k := zif h19_ k
                                              by_cases h20_ : (gi M 104 ((gi M 97 20)).toNatClampNeg) = 23
                                              · have k := zit h20_ k
                                                refine Zm.l (fun _ _ k_ => z_tableIn (off := 200) (tgt := 276) dX8_bindsOf_76 (by rw [h20_]; decide) (by rw [h20_]; decide) (by rw [h20_]; rfl) rfl k_) ?_
                                                refine Zm.l (fun _ _ k_ => z_iconst (v := -1) dX8_bindsOf_276 rfl k_) ?_
                                                exact zm_iret dX8_bindsOf_277 rfl rfl k
                                              · have k := zif h20_ k
                                                by_cases h21_ : (gi M 104 ((gi M 97 20)).toNatClampNeg) = 24
                                                · have k := zit h21_ k
                                                  refine Zm.l (fun _ _ k_ => z_tableIn (off := 200) (tgt := 276) dX8_bindsOf_76 (by rw [h21_]; decide) (by rw [h21_]; decide) (by rw [h21_]; rfl) rfl k_) ?_
                                                  refine Zm.l (fun _ _ k_ => z_iconst (v := -1) dX8_bindsOf_276 rfl k_) ?_
                                                  exact zm_iret dX8_bindsOf_277 rfl rfl k
                                                · have k := zif h21_ k
                                                  by_cases h22_ : (gi M 104 ((gi M 97 20)).toNatClampNeg) = 25
                                                  · have k := zit h22_ k
                                                    refine Zm.l (fun _ _ k_ => z_tableIn (off := 200) (tgt := 276) dX8_bindsOf_76 (by rw [h22_]; decide) (by rw [h22_]; decide) (by rw [h22_]; rfl) rfl k_) ?_
                                                    refine Zm.l (fun _ _ k_ => z_iconst (v := -1) dX8_bindsOf_276 rfl k_) ?_
                                                    exact zm_iret dX8_bindsOf_277 rfl rfl k
                                                  · have k := zif h22_ k
                                                    by_cases h23_ : (gi M 104 ((gi M 97 20)).toNatClampNeg) = 26
                                                    · have k := zit h23_ k
                                                      refine Zm.l (fun _ _ k_ => z_tableIn (off := 200) (tgt := 276) dX8_bindsOf_76 (by rw [h23_]; decide) (by rw [h23_]; decide) (by rw [h23_]; rfl) rfl k_) ?_
                                                      refine Zm.l (fun _ _ k_ => z_iconst (v := -1) dX8_bindsOf_276 rfl k_) ?_
                                                      exact zm_iret dX8_bindsOf_277 rfl rfl k
                                                    · have k := zif h23_ k
                                                      by_cases h24_ : (gi M 104 ((gi M 97 20)).toNatClampNeg) = 27
                                                      · have k := zit h24_ k
                                                        refine Zm.l (fun _ _ k_ => z_tableIn (off := 200) (tgt := 276) dX8_bindsOf_76 (by rw [h24_]; decide) (by rw [h24_]; decide) (by rw [h24_]; rfl) rfl k_) ?_
                                                        refine Zm.l (fun _ _ k_ => z_iconst (v := -1) dX8_bindsOf_276 rfl k_) ?_
                                                        exact zm_iret dX8_bindsOf_277 rfl rfl k
                                                      · have k := zif h24_ k
                                                        by_cases h25_ : (gi M 104 ((gi M 97 20)).toNatClampNeg) = 28
                                                        · have k := zit h25_ k
                                                          refine Zm.l (fun _ _ k_ => z_tableIn (off := 200) (tgt := 276) dX8_bindsOf_76 (by rw [h25_]; decide) (by rw [h25_]; decide) (by rw [h25_]; rfl) rfl k_) ?_
                                                          refine Zm.l (fun _ _ k_ => z_iconst (v := -1) dX8_bindsOf_276 rfl k_) ?_
                                                          exact zm_iret dX8_bindsOf_277 rfl rfl k
                                                        · have k := zif h25_ k
                                                          by_cases h26_ : (gi M 104 ((gi M 97 20)).toNatClampNeg) = 29
                                                          · have k := zit h26_ k
                                                            refine Zm.l (fun _ _ k_ => z_tableIn (off := 200) (tgt := 276) dX8_bindsOf_76 (by rw [h26_]; decide) (by rw [h26_]; decide) (by rw [h26_]; rfl) rfl k_) ?_
                                                            refine Zm.l (fun _ _ k_ => z_iconst (v := -1) dX8_bindsOf_276 rfl k_) ?_
                                                            exact zm_iret dX8_bindsOf_277 rfl rfl k
                                                          · have k := zif h26_ k
                                                            by_cases h27_ : (gi M 104 ((gi M 97 20)).toNatClampNeg) = 30
                                                            · have k := zit h27_ k
                                                              refine Zm.l (fun _ _ k_ => z_tableIn (off := 200) (tgt := 276) dX8_bindsOf_76 (by rw [h27_]; decide) (by rw [h27_]; decide) (by rw [h27_]; rfl) rfl k_) ?_
                                                              refine Zm.l (fun _ _ k_ => z_iconst (v := -1) dX8_bindsOf_276 rfl k_) ?_
                                                              exact zm_iret dX8_bindsOf_277 rfl rfl k
                                                            · have k := zif h27_ k
                                                              by_cases h28_ : (gi M 104 ((gi M 97 20)).toNatClampNeg) = 31
                                                              · have k := zit h28_ k
                                                                refine Zm.l (fun _ _ k_ => z_tableIn (off := 200) (tgt := 276) dX8_bindsOf_76 (by rw [h28_]; decide) (by rw [h28_]; decide) (by rw [h28_]; rfl) rfl k_) ?_
                                                                refine Zm.l (fun _ _ k_ => z_iconst (v := -1) dX8_bindsOf_276 rfl k_) ?_
                                                                exact zm_iret dX8_bindsOf_277 rfl rfl k
                                                              · have k := zif h28_ k
                                                                by_cases h29_ : (gi M 104 ((gi M 97 20)).toNatClampNeg) = 32
                                                                · have k := zit h29_ k
                                                                  refine Zm.l (fun _ _ k_ => z_tableIn (off := 200) (tgt := 276) dX8_bindsOf_76 (by rw [h29_]; decide) (by rw [h29_]; decide) (by rw [h29_]; rfl) rfl k_) ?_
                                                                  refine Zm.l (fun _ _ k_ => z_iconst (v := -1) dX8_bindsOf_276 rfl k_) ?_
                                                                  exact zm_iret dX8_bindsOf_277 rfl rfl k
                                                                · have k := zif h29_ k
                                                                  by_cases h30_ : (gi M 104 ((gi M 97 20)).toNatClampNeg) = 33
                                                                  · have k := zit h30_ k
                                                                    refine Zm.l (fun _ _ k_ => z_tableIn (off := 188) (tgt := 264) dX8_bindsOf_76 (by rw [h30_]; decide) (by rw [h30_]; decide) (by rw [h30_]; rfl) rfl k_) ?_
                                                                    refine Zm.l (fun _ _ k_ => z_bipush (v := 6) dX8_bindsOf_264 rfl k_) ?_
                                                                    exact zm_iret dX8_bindsOf_266 rfl rfl k
                                                                  · have k := zif h30_ k
                                                                    by_cases h31_ : (gi M 104 ((gi M 97 20)).toNatClampNeg) = 34
                                                                    · have k := zit h31_ k
                                                                      refine Zm.l (fun _ _ k_ => z_tableIn (off := 188) (tgt := 264) dX8_bindsOf_76 (by rw [h31_]; decide) (by rw [h31_]; decide) (by rw [h31_]; rfl) rfl k_) ?_
                                                                      refine Zm.l (fun _ _ k_ => z_bipush (v := 6) dX8_bindsOf_264 rfl k_) ?_
                                                                      exact zm_iret dX8_bindsOf_266 rfl rfl k
                                                                    · have k := zif h31_ k
                                                                      by_cases h32_ : (gi M 104 ((gi M 97 20)).toNatClampNeg) = 35
                                                                      · have k := zit h32_ k
                                                                        refine Zm.l (fun _ _ k_ => z_tableIn (off := 194) (tgt := 270) dX8_bindsOf_76 (by rw [h32_]; decide) (by rw [h32_]; decide) (by rw [h32_]; rfl) rfl k_) ?_
                                                                        refine Zm.l (fun _ _ k_ => z_bipush (v := 8) dX8_bindsOf_270 rfl k_) ?_
                                                                        exact zm_iret dX8_bindsOf_272 rfl rfl k
                                                                      · have k := zif h32_ k
                                                                        by_cases h33_ : (gi M 104 ((gi M 97 20)).toNatClampNeg) = 36
                                                                        · have k := zit h33_ k
                                                                          refine Zm.l (fun _ _ k_ => z_tableIn (off := 194) (tgt := 270) dX8_bindsOf_76 (by rw [h33_]; decide) (by rw [h33_]; decide) (by rw [h33_]; rfl) rfl k_) ?_
                                                                          refine Zm.l (fun _ _ k_ => z_bipush (v := 8) dX8_bindsOf_270 rfl k_) ?_
                                                                          exact zm_iret dX8_bindsOf_272 rfl rfl k
                                                                        · have k := zif h33_ k
                                                                          by_cases h34_ : (gi M 104 ((gi M 97 20)).toNatClampNeg) = 37
                                                                          · have k := zit h34_ k
                                                                            refine Zm.l (fun _ _ k_ => z_tableIn (off := 197) (tgt := 273) dX8_bindsOf_76 (by rw [h34_]; decide) (by rw [h34_]; decide) (by rw [h34_]; rfl) rfl k_) ?_
                                                                            refine Zm.l (fun _ _ k_ => z_bipush (v := 9) dX8_bindsOf_273 rfl k_) ?_
                                                                            exact zm_iret dX8_bindsOf_275 rfl rfl k
                                                                          · have k := zif h34_ k
                                                                            by_cases h35_ : (gi M 104 ((gi M 97 20)).toNatClampNeg) = 38
                                                                            · have k := zit h35_ k
                                                                              refine Zm.l (fun _ _ k_ => z_tableIn (off := 197) (tgt := 273) dX8_bindsOf_76 (by rw [h35_]; decide) (by rw [h35_]; decide) (by rw [h35_]; rfl) rfl k_) ?_
                                                                              refine Zm.l (fun _ _ k_ => z_bipush (v := 9) dX8_bindsOf_273 rfl k_) ?_
                                                                              exact zm_iret dX8_bindsOf_275 rfl rfl k
                                                                            · have k := zif h35_ k
                                                                              by_cases h36_ : (gi M 104 ((gi M 97 20)).toNatClampNeg) = 39
                                                                              · have k := zit h36_ k
                                                                                refine Zm.l (fun _ _ k_ => z_tableIn (off := 197) (tgt := 273) dX8_bindsOf_76 (by rw [h36_]; decide) (by rw [h36_]; decide) (by rw [h36_]; rfl) rfl k_) ?_
                                                                                refine Zm.l (fun _ _ k_ => z_bipush (v := 9) dX8_bindsOf_273 rfl k_) ?_
                                                                                exact zm_iret dX8_bindsOf_275 rfl rfl k
                                                                              · have k := zif h36_ k
                                                                                by_cases h37_ : (gi M 104 ((gi M 97 20)).toNatClampNeg) = 40
                                                                                · have k := zit h37_ k
                                                                                  refine Zm.l (fun _ _ k_ => z_tableIn (off := 184) (tgt := 260) dX8_bindsOf_76 (by rw [h37_]; decide) (by rw [h37_]; decide) (by rw [h37_]; rfl) rfl k_) ?_
                                                                                  refine Zm.l (fun _ _ k_ => z_iconst (v := 4) dX8_bindsOf_260 rfl k_) ?_
                                                                                  exact zm_iret dX8_bindsOf_261 rfl rfl k
                                                                                · have k := zif h37_ k
                                                                                  by_cases h38_ : (gi M 104 ((gi M 97 20)).toNatClampNeg) = 41
                                                                                  · have k := zit h38_ k
                                                                                    refine Zm.l (fun _ _ k_ => z_tableIn (off := 180) (tgt := 256) dX8_bindsOf_76 (by rw [h38_]; decide) (by rw [h38_]; decide) (by rw [h38_]; rfl) rfl k_) ?_
                                                                                    refine Zm.l (fun _ _ k_ => z_iconst (v := 2) dX8_bindsOf_256 rfl k_) ?_
                                                                                    exact zm_iret dX8_bindsOf_257 rfl rfl k
                                                                                  · have k := zif h38_ k
                                                                                    by_cases h39_ : (gi M 104 ((gi M 97 20)).toNatClampNeg) = 42
                                                                                    · have k := zit h39_ k
                                                                                      refine Zm.l (fun _ _ k_ => z_tableIn (off := 182) (tgt := 258) dX8_bindsOf_76 (by rw [h39_]; decide) (by rw [h39_]; decide) (by rw [h39_]; rfl) rfl k_) ?_
                                                                                      refine Zm.l (fun _ _ k_ => z_iconst (v := 3) dX8_bindsOf_258 rfl k_) ?_
                                                                                      exact zm_iret dX8_bindsOf_259 rfl rfl k
                                                                                    · have k := zif h39_ k
                                                                                      refine Zm.l (fun _ _ k_ => z_tout (tgt := 276) [3, 4, 5, 6, 7, 8, 9, 10, 11, 12, 13, 14, 15, 16, 17, 18, 19, 20, 21, 22, 23, 24, 25, 26, 27, 28, 29, 30, 31, 32, 33, 34, 35, 36, 37, 38, 39, 40, 41, 42] (by decide) dX8_bindsOf_76 (zall_1 h0_ (zall_1 h1_ (zall_1 h2_ (zall_1 h3_ (zall_1 h4_ (zall_1 h5_ (zall_1 h6_ (zall_1 h7_ (zall_1 h8_ (zall_1 h9_ (zall_1 h10_ (zall_1 h11_ (zall_1 h12_ (zall_1 h13_ (zall_1 h14_ (zall_1 h15_ (zall_1 h16_ (zall_1 h17_ (zall_1 h18_ (zall_1 h19_ (zall_1 h20_ (zall_1 h21_ (zall_1 h22_ (zall_1 h23_ (zall_1 h24_ (zall_1 h25_ (zall_1 h26_ (zall_1 h27_ (zall_1 h28_ (zall_1 h29_ (zall_1 h30_ (zall_1 h31_ (zall_1 h32_ (zall_1 h33_ (zall_1 h34_ (zall_1 h35_ (zall_1 h36_ (zall_1 h37_ (zall_1 h38_ (zall_1 h39_ zall_0)))))))))))))))))))))))))))))))))))))))) rfl k_) ?_
                                                                                      refine Zm.l (fun _ _ k_ => z_iconst (v := -1) dX8_bindsOf_276 rfl k_) ?_
                                                                                      exact zm_iret dX8_bindsOf_277 rfl rfl k
    · have k := zif h_ k
      refine Zm.l (fun _ _ k_ => z_iconst (v := -1) dX8_bindsOf_65 rfl k_) ?_
      exact zm_iret dX8_bindsOf_66 rfl rfl k
  · have k := zit h_ k
    refine Zm.l (fun _ _ k_ => z_aload_n dX8_bindsOf_13 rfl rfl k_) ?_
    refine zm_getr 6 dX8_bindsOf_14 fsX8_30_1 rfl ?_
    refine Zm.l (fun _ _ k_ => z_aload_n dX8_bindsOf_17 rfl rfl k_) ?_
    refine zm_geti dX8_bindsOf_18 fsX8_392_1 (by decide) (by decide) ?_
    obtain ⟨b_, k⟩ := k
    refine zm_iald dX8_bindsOf_21 b_ (by decide) (by decide) ?_
    refine Zm.l (fun _ _ k_ => z_bipush (v := 14) dX8_bindsOf_22 rfl k_) ?_
    refine Zm.br (fun _ _ k1_ k2_ => z_icmp_eq (tgt := 45) dX8_bindsOf_24 rfl k1_ k2_) (fun h_ => ?_) (fun h_ => ?_)
    · have k := zit h_ k
      refine Zm.l (fun _ _ k_ => z_bipush (v := 6) dX8_bindsOf_45 rfl k_) ?_
      refine Zm.l (fun _ _ k_ => z_goto (tgt := 51) dX8_bindsOf_47 rfl k_) ?_
      exact zm_iret dX8_bindsOf_51 rfl rfl k
    · have k := zif h_ k
      refine Zm.l (fun _ _ k_ => z_aload_n dX8_bindsOf_27 rfl rfl k_) ?_
      refine zm_getr 6 dX8_bindsOf_28 fsX8_30_1 rfl ?_
      refine Zm.l (fun _ _ k_ => z_aload_n dX8_bindsOf_31 rfl rfl k_) ?_
      refine zm_geti dX8_bindsOf_32 fsX8_392_1 (by decide) (by decide) ?_
      obtain ⟨b_, k⟩ := k
      refine zm_iald dX8_bindsOf_35 b_ (by decide) (by decide) ?_
      refine Zm.l (fun _ _ k_ => z_bipush (v := 13) dX8_bindsOf_36 rfl k_) ?_
      refine Zm.brn (fun _ _ k1_ k2_ => z_icmp_ne (tgt := 50) dX8_bindsOf_38 rfl k1_ k2_) (fun h_ => ?_) (fun h_ => ?_)
      · have k := zif h_ k
        refine Zm.l (fun _ _ k_ => z_iconst (v := -1) dX8_bindsOf_50 rfl k_) ?_
        exact zm_iret dX8_bindsOf_51 rfl rfl k
      · have k := zit h_ k
        refine Zm.l (fun _ _ k_ => z_iload_n dX8_bindsOf_41 rfl rfl k_) ?_
        refine Zm.br (fun _ _ k1_ k2_ => z_if_eq (tgt := 50) dX8_bindsOf_42 rfl k1_ k2_) (fun h_ => ?_) (fun h_ => ?_)
        · have k := zit h_ k
          refine Zm.l (fun _ _ k_ => z_iconst (v := -1) dX8_bindsOf_50 rfl k_) ?_
          exact zm_iret dX8_bindsOf_51 rfl rfl k
        · have k := zif h_ k
          refine Zm.l (fun _ _ k_ => z_bipush (v := 6) dX8_bindsOf_45 rfl k_) ?_
          refine Zm.l (fun _ _ k_ => z_goto (tgt := 51) dX8_bindsOf_47 rfl k_) ?_
          exact zm_iret dX8_bindsOf_51 rfl rfl k
/-! ScriptTypesModel.binaryOf()I -/
theorem bX8_binaryOf_0 : zdec cX8_binaryOf 0 [(0, .aload_n 0, 1), (1, .getfield 27, 3), (4, .aload_n 0, 1), (5, .getfield 392, 3), (8, .iaload, 1), (9, .iconst 2, 1), (10, .if_icmp .ne 25, 3), (13, .aload_n 0, 1), (14, .getfield 30, 3), (17, .aload_n 0, 1), (18, .getfield 392, 3), (21, .iaload, 1), (22, .bipush 13, 2), (24, .if_icmp .ne 8, 3), (27, .bipush 19, 2), (29, .goto 5, 3)] = true := by decide +kernel
theorem dX8_binaryOf_0 : decode cX8_binaryOf 0 = .ok (.aload_n 0, 1) := zdec_at bX8_binaryOf_0 0 rfl
theorem dX8_binaryOf_1 : decode cX8_binaryOf 1 = .ok (.getfield 27, 3) := zdec_at bX8_binaryOf_0 1 rfl
theorem dX8_binaryOf_4 : decode cX8_binaryOf 4 = .ok (.aload_n 0, 1) := zdec_at bX8_binaryOf_0 2 rfl
theorem dX8_binaryOf_5 : decode cX8_binaryOf 5 = .ok (.getfield 392, 3) := zdec_at bX8_binaryOf_0 3 rfl
theorem dX8_binaryOf_8 : decode cX8_binaryOf 8 = .ok (.iaload, 1) := zdec_at bX8_binaryOf_0 4 rfl
theorem dX8_binaryOf_9 : decode cX8_binaryOf 9 = .ok (.iconst 2, 1) := zdec_at bX8_binaryOf_0 5 rfl
theorem dX8_binaryOf_10 : decode cX8_binaryOf 10 = .ok (.if_icmp .ne 25, 3) := zdec_at bX8_binaryOf_0 6 rfl
theorem dX8_binaryOf_13 : decode cX8_binaryOf 13 = .ok (.aload_n 0, 1) := zdec_at bX8_binaryOf_0 7 rfl
theorem dX8_binaryOf_14 : decode cX8_binaryOf 14 = .ok (.getfield 30, 3) := zdec_at bX8_binaryOf_0 8 rfl
theorem dX8_binaryOf_17 : decode cX8_binaryOf 17 = .ok (.aload_n 0, 1) := zdec_at bX8_binaryOf_0 9 rfl
theorem dX8_binaryOf_18 : decode cX8_binaryOf 18 = .ok (.getfield 392, 3) := zdec_at bX8_binaryOf_0 10 rfl
theorem dX8_binaryOf_21 : decode cX8_binaryOf 21 = .ok (.iaload, 1) := zdec_at bX8_binaryOf_0 11 rfl
theorem dX8_binaryOf_22 : decode cX8_binaryOf 22 = .ok (.bipush 13, 2) := zdec_at bX8_binaryOf_0 12 rfl
theorem dX8_binaryOf_24 : decode cX8_binaryOf 24 = .ok (.if_icmp .ne 8, 3) := zdec_at bX8_binaryOf_0 13 rfl
theorem dX8_binaryOf_27 : decode cX8_binaryOf 27 = .ok (.bipush 19, 2) := zdec_at bX8_binaryOf_0 14 rfl
theorem dX8_binaryOf_29 : decode cX8_binaryOf 29 = .ok (.goto 5, 3) := zdec_at bX8_binaryOf_0 15 rfl
theorem bX8_binaryOf_32 : zdec cX8_binaryOf 32 [(32, .bipush 20, 2), (34, .ireturn, 1), (35, .aload_n 0, 1), (36, .getfield 30, 3), (39, .aload_n 0, 1), (40, .getfield 392, 3), (43, .iaload, 1)] = true := by decide +kernel
theorem dX8_binaryOf_32 : decode cX8_binaryOf 32 = .ok (.bipush 20, 2) := zdec_at bX8_binaryOf_32 0 rfl
theorem dX8_binaryOf_34 : decode cX8_binaryOf 34 = .ok (.ireturn, 1) := zdec_at bX8_binaryOf_32 1 rfl
theorem dX8_binaryOf_35 : decode cX8_binaryOf 35 = .ok (.aload_n 0, 1) := zdec_at bX8_binaryOf_32 2 rfl
theorem dX8_binaryOf_36 : decode cX8_binaryOf 36 = .ok (.getfield 30, 3) := zdec_at bX8_binaryOf_32 3 rfl
theorem dX8_binaryOf_39 : decode cX8_binaryOf 39 = .ok (.aload_n 0, 1) := zdec_at bX8_binaryOf_32 4 rfl
theorem dX8_binaryOf_40 : decode cX8_binaryOf 40 = .ok (.getfield 392, 3) := zdec_at bX8_binaryOf_32 5 rfl
theorem dX8_binaryOf_43 : decode cX8_binaryOf 43 = .ok (.iaload, 1) := zdec_at bX8_binaryOf_32 6 rfl
theorem dX8_binaryOf_44 : decode cX8_binaryOf 44 = .ok (.tableswitch 224 3 42 #[191, 209, 212, 221, 224, 203, 206, 224, 224, 186, 188, 224, 224, 224, 224, 224, 224, 224, 224, 224, 224, 224, 224, 224, 224, 224, 224, 224, 224, 224, 215, 218, 176, 178, 180, 182, 184, 194, 197, 200], 176) := by decide +kernel
theorem bX8_binaryOf_220 : zdec cX8_binaryOf 220 [(220, .iconst 0, 1), (221, .ireturn, 1), (222, .iconst 1, 1), (223, .ireturn, 1), (224, .iconst 2, 1), (225, .ireturn, 1), (226, .iconst 3, 1), (227, .ireturn, 1), (228, .iconst 4, 1), (229, .ireturn, 1), (230, .iconst 5, 1), (231, .ireturn, 1), (232, .bipush 6, 2), (234, .ireturn, 1), (235, .bipush 7, 2), (237, .ireturn, 1)] = true := by decide +kernel
theorem dX8_binaryOf_220 : decode cX8_binaryOf 220 = .ok (.iconst 0, 1) := zdec_at bX8_binaryOf_220 0 rfl
theorem dX8_binaryOf_221 : decode cX8_binaryOf 221 = .ok (.ireturn, 1) := zdec_at bX8_binaryOf_220 1 rfl
theorem dX8_binaryOf_222 : decode cX8_binaryOf 222 = .ok (.iconst 1, 1) := zdec_at bX8_binaryOf_220 2 rfl
theorem dX8_binaryOf_223 : decode cX8_binaryOf 223 = .ok (.ireturn, 1) := zdec_at bX8_binaryOf_220 3 rfl
theorem dX8_binaryOf_224 : decode cX8_binaryOf 224 = .ok (.iconst 2, 1) := zdec_at bX8_binaryOf_220 4 rfl
theorem dX8_binaryOf_225 : decode cX8_binaryOf 225 = .ok (.ireturn, 1) := zdec_at bX8_binaryOf_220 5 rfl
theorem dX8_binaryOf_226 : decode cX8_binaryOf 226 = .ok (.iconst 3, 1) := zdec_at bX8_binaryOf_220 6 rfl
theorem dX8_binaryOf_227 : decode cX8_binaryOf 227 = .ok (.ireturn, 1) := zdec_at bX8_binaryOf_220 7 rfl
theorem dX8_binaryOf_228 : decode cX8_binaryOf 228 = .ok (.iconst 4, 1) := zdec_at bX8_binaryOf_220 8 rfl
theorem dX8_binaryOf_229 : decode cX8_binaryOf 229 = .ok (.ireturn, 1) := zdec_at bX8_binaryOf_220 9 rfl
theorem dX8_binaryOf_230 : decode cX8_binaryOf 230 = .ok (.iconst 5, 1) := zdec_at bX8_binaryOf_220 10 rfl
theorem dX8_binaryOf_231 : decode cX8_binaryOf 231 = .ok (.ireturn, 1) := zdec_at bX8_binaryOf_220 11 rfl
theorem dX8_binaryOf_232 : decode cX8_binaryOf 232 = .ok (.bipush 6, 2) := zdec_at bX8_binaryOf_220 12 rfl
theorem dX8_binaryOf_234 : decode cX8_binaryOf 234 = .ok (.ireturn, 1) := zdec_at bX8_binaryOf_220 13 rfl
theorem dX8_binaryOf_235 : decode cX8_binaryOf 235 = .ok (.bipush 7, 2) := zdec_at bX8_binaryOf_220 14 rfl
theorem dX8_binaryOf_237 : decode cX8_binaryOf 237 = .ok (.ireturn, 1) := zdec_at bX8_binaryOf_220 15 rfl
theorem bX8_binaryOf_238 : zdec cX8_binaryOf 238 [(238, .bipush 8, 2), (240, .ireturn, 1), (241, .bipush 9, 2), (243, .ireturn, 1), (244, .bipush 10, 2), (246, .ireturn, 1), (247, .bipush 11, 2), (249, .ireturn, 1), (250, .bipush 12, 2), (252, .ireturn, 1), (253, .bipush 13, 2), (255, .ireturn, 1), (256, .bipush 14, 2), (258, .ireturn, 1), (259, .bipush 15, 2), (261, .ireturn, 1)] = true := by decide +kernel
theorem dX8_binaryOf_238 : decode cX8_binaryOf 238 = .ok (.bipush 8, 2) := zdec_at bX8_binaryOf_238 0 rfl
theorem dX8_binaryOf_240 : decode cX8_binaryOf 240 = .ok (.ireturn, 1) := zdec_at bX8_binaryOf_238 1 rfl
theorem dX8_binaryOf_241 : decode cX8_binaryOf 241 = .ok (.bipush 9, 2) := zdec_at bX8_binaryOf_238 2 rfl
theorem dX8_binaryOf_243 : decode cX8_binaryOf 243 = .ok (.ireturn, 1) := zdec_at bX8_binaryOf_238 3 rfl
theorem dX8_binaryOf_244 : decode cX8_binaryOf 244 = .ok (.bipush 10, 2) := zdec_at bX8_binaryOf_238 4 rfl
theorem dX8_binaryOf_246 : decode cX8_binaryOf 246 = .ok (.ireturn, 1) := zdec_at bX8_binaryOf_238 5 rfl
theorem dX8_binaryOf_247 : decode cX8_binaryOf 247 = .ok (.bipush 11, 2) := zdec_at bX8_binaryOf_238 6 rfl
theorem dX8_binaryOf_249 : decode cX8_binaryOf 249 = .ok (.ireturn, 1) := zdec_at bX8_binaryOf_238 7 rfl
theorem dX8_binaryOf_250 : decode cX8_binaryOf 250 = .ok (.bipush 12, 2) := zdec_at bX8_binaryOf_238 8 rfl
theorem dX8_binaryOf_252 : decode cX8_binaryOf 252 = .ok (.ireturn, 1) := zdec_at bX8_binaryOf_238 9 rfl
theorem dX8_binaryOf_253 : decode cX8_binaryOf 253 = .ok (.bipush 13, 2) := zdec_at bX8_binaryOf_238 10 rfl
theorem dX8_binaryOf_255 : decode cX8_binaryOf 255 = .ok (.ireturn, 1) := zdec_at bX8_binaryOf_238 11 rfl
theorem dX8_binaryOf_256 : decode cX8_binaryOf 256 = .ok (.bipush 14, 2) := zdec_at bX8_binaryOf_238 12 rfl
theorem dX8_binaryOf_258 : decode cX8_binaryOf 258 = .ok (.ireturn, 1) := zdec_at bX8_binaryOf_238 13 rfl
theorem dX8_binaryOf_259 : decode cX8_binaryOf 259 = .ok (.bipush 15, 2) := zdec_at bX8_binaryOf_238 14 rfl
theorem dX8_binaryOf_261 : decode cX8_binaryOf 261 = .ok (.ireturn, 1) := zdec_at bX8_binaryOf_238 15 rfl
theorem bX8_binaryOf_262 : zdec cX8_binaryOf 262 [(262, .bipush 16, 2), (264, .ireturn, 1), (265, .bipush 17, 2), (267, .ireturn, 1), (268, .bipush 18, 2), (270, .ireturn, 1)] = true := by decide +kernel
theorem dX8_binaryOf_262 : decode cX8_binaryOf 262 = .ok (.bipush 16, 2) := zdec_at bX8_binaryOf_262 0 rfl
theorem dX8_binaryOf_264 : decode cX8_binaryOf 264 = .ok (.ireturn, 1) := zdec_at bX8_binaryOf_262 1 rfl
theorem dX8_binaryOf_265 : decode cX8_binaryOf 265 = .ok (.bipush 17, 2) := zdec_at bX8_binaryOf_262 2 rfl
theorem dX8_binaryOf_267 : decode cX8_binaryOf 267 = .ok (.ireturn, 1) := zdec_at bX8_binaryOf_262 3 rfl
theorem dX8_binaryOf_268 : decode cX8_binaryOf 268 = .ok (.bipush 18, 2) := zdec_at bX8_binaryOf_262 4 rfl
theorem dX8_binaryOf_270 : decode cX8_binaryOf 270 = .ok (.ireturn, 1) := zdec_at bX8_binaryOf_262 5 rfl
theorem sX8_binaryOf_0 {E : zE} {d : Nat} {Q : zO → zM → Prop} (M : zM)  (k : vp_in (gi M 97 20) 4002 ∧ (if (gi M 103 ((gi M 97 20)).toNatClampNeg) = (2 : Int32) then (vp_in (gi M 97 20) 4002 ∧ (if (gi M 104 ((gi M 97 20)).toNatClampNeg) = (13 : Int32) then (Q (.inl (some (vi (19 : Int32)))) M) else (Q (.inl (some (vi (20 : Int32)))) M))) else (vp_in (gi M 97 20) 4002 ∧ (if (gi M 104 ((gi M 97 20)).toNatClampNeg) = 3 then (Q (.inl (some (vi (7 : Int32)))) M) else (if (gi M 104 ((gi M 97 20)).toNatClampNeg) = 4 then (Q (.inl (some (vi (13 : Int32)))) M) else (if (gi M 104 ((gi M 97 20)).toNatClampNeg) = 5 then (Q (.inl (some (vi (14 : Int32)))) M) else (if (gi M 104 ((gi M 97 20)).toNatClampNeg) = 6 then (Q (.inl (some (vi (17 : Int32)))) M) else (if (gi M 104 ((gi M 97 20)).toNatClampNeg) = 7 then (Q (.inl (some (vi (18 : Int32)))) M) else (if (gi M 104 ((gi M 97 20)).toNatClampNeg) = 8 then (Q (.inl (some (vi (11 : Int32)))) M) else (if (gi M 104 ((gi M 97 20)).toNatClampNeg) = 9 then (Q (.inl (some (vi (12 : Int32)))) M) else (if (gi M 104 ((gi M 97 20)).toNatClampNeg) = 10 then (Q (.inl (some (vi (18 : Int32)))) M) else (if (gi M 104 ((gi M 97 20)).toNatClampNeg) = 11 then (Q (.inl (some (vi (18 : Int32)))) M) else (if (gi M 104 ((gi M 97 20)).toNatClampNeg) = 12 then (Q (.inl (some (vi (5 : Int32)))) M) else (if (gi M 104 ((gi M 97 20)).toNatClampNeg) = 13 then (Q (.inl (some (vi (6 : Int32)))) M) else (if (gi M 104 ((gi M 97 20)).toNatClampNeg) = 14 then (Q (.inl (some (vi (18 : Int32)))) M) else (if (gi M 104 ((gi M 97 20)).toNatClampNeg) = 15 then (Q (.inl (some (vi (18 : Int32)))) M) else (if (gi M 104 ((gi M 97 20)).toNatClampNeg) = 16 then (Q (.inl (some (vi (18 : Int32)))) M) else (if (gi M 104 ((gi M 97 20)).toNatClampNeg) = 17 then (Q (.inl (some (vi (18 : Int32)))) M) else (if (gi M 104 ((gi M 97 20)).toNatClampNeg) = 18 then (Q (.inl (some (vi (18 : Int32)))) M) else (if (gi M 104 ((gi M 97 20)).toNatClampNeg) = 19 then (Q (.inl (some (vi (18 : Int32)))) M) else (if (gi M 104 ((gi M 97 20)).toNatClampNeg) = 20 then (Q (.inl (some (vi (18 : Int32)))) M) else (if (gi M 104 ((gi M 97 20)).toNatClampNeg) = 21 then (Q (.inl (some (vi (18 : Int32)))) M) else (if (gi M 104 ((gi M 97 20)).toNatClampNeg) = 22 then (Q (.inl (some (vi (18 : Int32)))) M) else (if (gi M 104 ((gi M 97 20)).toNatClampNeg) = 23 then (Q (.inl (some (vi (18 : Int32)))) M) else (if (gi M 104 ((gi M 97 20)).toNatClampNeg) = 24 then (Q (.inl (some (vi (18 : Int32)))) M) else (if (gi M 104 ((gi M 97 20)).toNatClampNeg) = 25 then (Q (.inl (some (vi (18 : Int32)))) M) else (if (gi M 104 ((gi M 97 20)).toNatClampNeg) = 26 then (Q (.inl (some (vi (18 : Int32)))) M) else (if (gi M 104 ((gi M 97 20)).toNatClampNeg) = 27 then (Q (.inl (some (vi (18 : Int32)))) M) else (if (gi M 104 ((gi M 97 20)).toNatClampNeg) = 28 then (Q (.inl (some (vi (18 : Int32)))) M) else (if (gi M 104 ((gi M 97 20)).toNatClampNeg) = 29 then (Q (.inl (some (vi (18 : Int32)))) M) else (if (gi M 104 ((gi M 97 20)).toNatClampNeg) = 30 then (Q (.inl (some (vi (18 : Int32)))) M) else (if (gi M 104 ((gi M 97 20)).toNatClampNeg) = 31 then (Q (.inl (some (vi (18 : Int32)))) M) else (if (gi M 104 ((gi M 97 20)).toNatClampNeg) = 32 then (Q (.inl (some (vi (18 : Int32)))) M) else (if (gi M 104 ((gi M 97 20)).toNatClampNeg) = 33 then (Q (.inl (some (vi (15 : Int32)))) M) else (if (gi M 104 ((gi M 97 20)).toNatClampNeg) = 34 then (Q (.inl (some (vi (16 : Int32)))) M) else (if (gi M 104 ((gi M 97 20)).toNatClampNeg) = 35 then (Q (.inl (some (vi (0 : Int32)))) M) else (if (gi M 104 ((gi M 97 20)).toNatClampNeg) = 36 then (Q (.inl (some (vi (1 : Int32)))) M) else (if (gi M 104 ((gi M 97 20)).toNatClampNeg) = 37 then (Q (.inl (some (vi (2 : Int32)))) M) else (if (gi M 104 ((gi M 97 20)).toNatClampNeg) = 38 then (Q (.inl (some (vi (3 : Int32)))) M) else (if (gi M 104 ((gi M 97 20)).toNatClampNeg) = 39 then (Q (.inl (some (vi (4 : Int32)))) M) else (if (gi M 104 ((gi M 97 20)).toNatClampNeg) = 40 then (Q (.inl (some (vi (8 : Int32)))) M) else (if (gi M 104 ((gi M 97 20)).toNatClampNeg) = 41 then (Q (.inl (some (vi (9 : Int32)))) M) else (if (gi M 104 ((gi M 97 20)).toNatClampNeg) = 42 then (Q (.inl (some (vi (10 : Int32)))) M) else (Q (.inl (some (vi (18 : Int32)))) M)))))))))))))))))))))))))))))))))))))))))))) : Zm E YX8_binaryOf d M [(0, vr (some (97, 1, 0)))] 0 [] Q := by
  refine Zm.l (fun _ _ k_ => z_aload_n dX8_binaryOf_0 rfl rfl k_) ?_
  refine zm_getr 5 dX8_binaryOf_1 fsX8_27_1 rfl ?_
  refine Zm.l (fun _ _ k_ => z_aload_n dX8_binaryOf_4 rfl rfl k_) ?_
  refine zm_geti dX8_binaryOf_5 fsX8_392_1 (by decide) (by decide) ?_
  obtain ⟨b_, k⟩ := k
  refine zm_iald dX8_binaryOf_8 b_ (by decide) (by decide) ?_
  refine Zm.l (fun _ _ k_ => z_iconst (v := 2) dX8_binaryOf_9 rfl k_) ?_
  refine Zm.brn (fun _ _ k1_ k2_ => z_icmp_ne (tgt := 35) dX8_binaryOf_10 rfl k1_ k2_) (fun h_ => ?_) (fun h_ => ?_)
  · have k := zif h_ k
    refine Zm.l (fun _ _ k_ => z_aload_n dX8_binaryOf_35 rfl rfl k_) ?_
    refine zm_getr 6 dX8_binaryOf_36 fsX8_30_1 rfl ?_
    refine Zm.l (fun _ _ k_ => z_aload_n dX8_binaryOf_39 rfl rfl k_) ?_
    refine zm_geti dX8_binaryOf_40 fsX8_392_1 (by decide) (by decide) ?_
    obtain ⟨b_, k⟩ := k
    refine zm_iald dX8_binaryOf_43 b_ (by decide) (by decide) ?_
    by_cases h0_ : (gi M 104 ((gi M 97 20)).toNatClampNeg) = 3
    · have k := zit h0_ k
      refine Zm.l (fun _ _ k_ => z_tableIn (off := 191) (tgt := 235) dX8_binaryOf_44 (by rw [h0_]; decide) (by rw [h0_]; decide) (by rw [h0_]; rfl) rfl k_) ?_
      refine Zm.l (fun _ _ k_ => z_bipush (v := 7) dX8_binaryOf_235 rfl k_) ?_
      exact zm_iret dX8_binaryOf_237 rfl rfl k
    · have k := zif h0_ k
      by_cases h1_ : (gi M 104 ((gi M 97 20)).toNatClampNeg) = 4
      · have k := zit h1_ k
        refine Zm.l (fun _ _ k_ => z_tableIn (off := 209) (tgt := 253) dX8_binaryOf_44 (by rw [h1_]; decide) (by rw [h1_]; decide) (by rw [h1_]; rfl) rfl k_) ?_
        refine Zm.l (fun _ _ k_ => z_bipush (v := 13) dX8_binaryOf_253 rfl k_) ?_
        exact zm_iret dX8_binaryOf_255 rfl rfl k
      · have k := zif h1_ k
        by_cases h2_ : (gi M 104 ((gi M 97 20)).toNatClampNeg) = 5
        · have k := zit h2_ k
          refine Zm.l (fun _ _ k_ => z_tableIn (off := 212) (tgt := 256) dX8_binaryOf_44 (by rw [h2_]; decide) (by rw [h2_]; decide) (by rw [h2_]; rfl) rfl k_) ?_
          refine Zm.l (fun _ _ k_ => z_bipush (v := 14) dX8_binaryOf_256 rfl k_) ?_
          exact zm_iret dX8_binaryOf_258 rfl rfl k
        · have k := zif h2_ k
          by_cases h3_ : (gi M 104 ((gi M 97 20)).toNatClampNeg) = 6
          · have k := zit h3_ k
            refine Zm.l (fun _ _ k_ => z_tableIn (off := 221) (tgt := 265) dX8_binaryOf_44 (by rw [h3_]; decide) (by rw [h3_]; decide) (by rw [h3_]; rfl) rfl k_) ?_
            refine Zm.l (fun _ _ k_ => z_bipush (v := 17) dX8_binaryOf_265 rfl k_) ?_
            exact zm_iret dX8_binaryOf_267 rfl rfl k
          · have k := zif h3_ k
            by_cases h4_ : (gi M 104 ((gi M 97 20)).toNatClampNeg) = 7
            · have k := zit h4_ k
              refine Zm.l (fun _ _ k_ => z_tableIn (off := 224) (tgt := 268) dX8_binaryOf_44 (by rw [h4_]; decide) (by rw [h4_]; decide) (by rw [h4_]; rfl) rfl k_) ?_
              refine Zm.l (fun _ _ k_ => z_bipush (v := 18) dX8_binaryOf_268 rfl k_) ?_
              exact zm_iret dX8_binaryOf_270 rfl rfl k
            · have k := zif h4_ k
              by_cases h5_ : (gi M 104 ((gi M 97 20)).toNatClampNeg) = 8
              · have k := zit h5_ k
                refine Zm.l (fun _ _ k_ => z_tableIn (off := 203) (tgt := 247) dX8_binaryOf_44 (by rw [h5_]; decide) (by rw [h5_]; decide) (by rw [h5_]; rfl) rfl k_) ?_
                refine Zm.l (fun _ _ k_ => z_bipush (v := 11) dX8_binaryOf_247 rfl k_) ?_
                exact zm_iret dX8_binaryOf_249 rfl rfl k
              · have k := zif h5_ k
                by_cases h6_ : (gi M 104 ((gi M 97 20)).toNatClampNeg) = 9
                · have k := zit h6_ k
                  refine Zm.l (fun _ _ k_ => z_tableIn (off := 206) (tgt := 250) dX8_binaryOf_44 (by rw [h6_]; decide) (by rw [h6_]; decide) (by rw [h6_]; rfl) rfl k_) ?_
                  refine Zm.l (fun _ _ k_ => z_bipush (v := 12) dX8_binaryOf_250 rfl k_) ?_
                  exact zm_iret dX8_binaryOf_252 rfl rfl k
                · have k := zif h6_ k
                  by_cases h7_ : (gi M 104 ((gi M 97 20)).toNatClampNeg) = 10
                  · have k := zit h7_ k
                    refine Zm.l (fun _ _ k_ => z_tableIn (off := 224) (tgt := 268) dX8_binaryOf_44 (by rw [h7_]; decide) (by rw [h7_]; decide) (by rw [h7_]; rfl) rfl k_) ?_
                    refine Zm.l (fun _ _ k_ => z_bipush (v := 18) dX8_binaryOf_268 rfl k_) ?_
                    exact zm_iret dX8_binaryOf_270 rfl rfl k
                  · have k := zif h7_ k
                    by_cases h8_ : (gi M 104 ((gi M 97 20)).toNatClampNeg) = 11
                    · have k := zit h8_ k
                      refine Zm.l (fun _ _ k_ => z_tableIn (off := 224) (tgt := 268) dX8_binaryOf_44 (by rw [h8_]; decide) (by rw [h8_]; decide) (by rw [h8_]; rfl) rfl k_) ?_
                      refine Zm.l (fun _ _ k_ => z_bipush (v := 18) dX8_binaryOf_268 rfl k_) ?_
                      exact zm_iret dX8_binaryOf_270 rfl rfl k
                    · have k := zif h8_ k
                      by_cases h9_ : (gi M 104 ((gi M 97 20)).toNatClampNeg) = 12
                      · have k := zit h9_ k
                        refine Zm.l (fun _ _ k_ => z_tableIn (off := 186) (tgt := 230) dX8_binaryOf_44 (by rw [h9_]; decide) (by rw [h9_]; decide) (by rw [h9_]; rfl) rfl k_) ?_
                        refine Zm.l (fun _ _ k_ => z_iconst (v := 5) dX8_binaryOf_230 rfl k_) ?_
                        exact zm_iret dX8_binaryOf_231 rfl rfl k
                      · have k := zif h9_ k
                        by_cases h10_ : (gi M 104 ((gi M 97 20)).toNatClampNeg) = 13
                        · have k := zit h10_ k
                          refine Zm.l (fun _ _ k_ => z_tableIn (off := 188) (tgt := 232) dX8_binaryOf_44 (by rw [h10_]; decide) (by rw [h10_]; decide) (by rw [h10_]; rfl) rfl k_) ?_
                          refine Zm.l (fun _ _ k_ => z_bipush (v := 6) dX8_binaryOf_232 rfl k_) ?_
                          exact zm_iret dX8_binaryOf_234 rfl rfl k
                        · have k := zif h10_ k
                          by_cases h11_ : (gi M 104 ((gi M 97 20)).toNatClampNeg) = 14
                          · have k := zit h11_ k
                            refine Zm.l (fun _ _ k_ => z_tableIn (off := 224) (tgt := 268) dX8_binaryOf_44 (by rw [h11_]; decide) (by rw [h11_]; decide) (by rw [h11_]; rfl) rfl k_) ?_
                            refine Zm.l (fun _ _ k_ => z_bipush (v := 18) dX8_binaryOf_268 rfl k_) ?_
                            exact zm_iret dX8_binaryOf_270 rfl rfl k
                          · have k := zif h11_ k
                            by_cases h12_ : (gi M 104 ((gi M 97 20)).toNatClampNeg) = 15
                            · have k := zit h12_ k
                              refine Zm.l (fun _ _ k_ => z_tableIn (off := 224) (tgt := 268) dX8_binaryOf_44 (by rw [h12_]; decide) (by rw [h12_]; decide) (by rw [h12_]; rfl) rfl k_) ?_
                              refine Zm.l (fun _ _ k_ => z_bipush (v := 18) dX8_binaryOf_268 rfl k_) ?_
                              exact zm_iret dX8_binaryOf_270 rfl rfl k
                            · have k := zif h12_ k
                              by_cases h13_ : (gi M 104 ((gi M 97 20)).toNatClampNeg) = 16
                              · have k := zit h13_ k
                                refine Zm.l (fun _ _ k_ => z_tableIn (off := 224) (tgt := 268) dX8_binaryOf_44 (by rw [h13_]; decide) (by rw [h13_]; decide) (by rw [h13_]; rfl) rfl k_) ?_
                                refine Zm.l (fun _ _ k_ => z_bipush (v := 18) dX8_binaryOf_268 rfl k_) ?_
                                exact zm_iret dX8_binaryOf_270 rfl rfl k
                              · have k := zif h13_ k
                                by_cases h14_ : (gi M 104 ((gi M 97 20)).toNatClampNeg) = 17
                                · have k := zit h14_ k
                                  refine Zm.l (fun _ _ k_ => z_tableIn (off := 224) (tgt := 268) dX8_binaryOf_44 (by rw [h14_]; decide) (by rw [h14_]; decide) (by rw [h14_]; rfl) rfl k_) ?_
                                  refine Zm.l (fun _ _ k_ => z_bipush (v := 18) dX8_binaryOf_268 rfl k_) ?_
                                  exact zm_iret dX8_binaryOf_270 rfl rfl k
                                · have k := zif h14_ k
                                  by_cases h15_ : (gi M 104 ((gi M 97 20)).toNatClampNeg) = 18
                                  · have k := zit h15_ k
                                    refine Zm.l (fun _ _ k_ => z_tableIn (off := 224) (tgt := 268) dX8_binaryOf_44 (by rw [h15_]; decide) (by rw [h15_]; decide) (by rw [h15_]; rfl) rfl k_) ?_
                                    refine Zm.l (fun _ _ k_ => z_bipush (v := 18) dX8_binaryOf_268 rfl k_) ?_
                                    exact zm_iret dX8_binaryOf_270 rfl rfl k
                                  · have k := zif h15_ k
                                    by_cases h16_ : (gi M 104 ((gi M 97 20)).toNatClampNeg) = 19
                                    · have k := zit h16_ k
                                      refine Zm.l (fun _ _ k_ => z_tableIn (off := 224) (tgt := 268) dX8_binaryOf_44 (by rw [h16_]; decide) (by rw [h16_]; decide) (by rw [h16_]; rfl) rfl k_) ?_
                                      refine Zm.l (fun _ _ k_ => z_bipush (v := 18) dX8_binaryOf_268 rfl k_) ?_
                                      exact zm_iret dX8_binaryOf_270 rfl rfl k
                                    · have k := zif h16_ k
                                      by_cases h17_ : (gi M 104 ((gi M 97 20)).toNatClampNeg) = 20
                                      · have k := zit h17_ k
                                        refine Zm.l (fun _ _ k_ => z_tableIn (off := 224) (tgt := 268) dX8_binaryOf_44 (by rw [h17_]; decide) (by rw [h17_]; decide) (by rw [h17_]; rfl) rfl k_) ?_
                                        refine Zm.l (fun _ _ k_ => z_bipush (v := 18) dX8_binaryOf_268 rfl k_) ?_
                                        exact zm_iret dX8_binaryOf_270 rfl rfl k
                                      · have k := zif h17_ k
                                        by_cases h18_ : (gi M 104 ((gi M 97 20)).toNatClampNeg) = 21
                                        · have k := zit h18_ k
                                          refine Zm.l (fun _ _ k_ => z_tableIn (off := 224) (tgt := 268) dX8_binaryOf_44 (by rw [h18_]; decide) (by rw [h18_]; decide) (by rw [h18_]; rfl) rfl k_) ?_
                                          refine Zm.l (fun _ _ k_ => z_bipush (v := 18) dX8_binaryOf_268 rfl k_) ?_
                                          exact zm_iret dX8_binaryOf_270 rfl rfl k
                                        · have k := zif h18_ k
                                          by_cases h19_ : (gi M 104 ((gi M 97 20)).toNatClampNeg) = 22
                                          · have k := zit h19_ k
                                            refine Zm.l (fun _ _ k_ => z_tableIn (off := 224) (tgt := 268) dX8_binaryOf_44 (by rw [h19_]; decide) (by rw [h19_]; decide) (by rw [h19_]; rfl) rfl k_) ?_
                                            refine Zm.l (fun _ _ k_ => z_bipush (v := 18) dX8_binaryOf_268 rfl k_) ?_
                                            exact zm_iret dX8_binaryOf_270 rfl rfl k
                                          · have k := zif h19_ k
                                            by_cases h20_ : (gi M 104 ((gi M 97 20)).toNatClampNeg) = 23
                                            · have k := zit h20_ k
                                              refine Zm.l (fun _ _ k_ => z_tableIn (off := 224) (tgt := 268) dX8_binaryOf_44 (by rw [h20_]; decide) (by rw [h20_]; decide) (by rw [h20_]; rfl) rfl k_) ?_
                                              refine Zm.l (fun _ _ k_ => z_bipush (v := 18) dX8_binaryOf_268 rfl k_) ?_
                                              exact zm_iret dX8_binaryOf_270 rfl rfl k
                                            · have k := zif h20_ k
                                              by_cases h21_ : (gi M 104 ((gi M 97 20)).toNatClampNeg) = 24
                                              · have k := zit h21_ k
                                                refine Zm.l (fun _ _ k_ => z_tableIn (off := 224) (tgt := 268) dX8_binaryOf_44 (by rw [h21_]; decide) (by rw [h21_]; decide) (by rw [h21_]; rfl) rfl k_) ?_
                                                refine Zm.l (fun _ _ k_ => z_bipush (v := 18) dX8_binaryOf_268 rfl k_) ?_
                                                exact zm_iret dX8_binaryOf_270 rfl rfl k
                                              · have k := zif h21_ k
                                                by_cases h22_ : (gi M 104 ((gi M 97 20)).toNatClampNeg) = 25
                                                · have k := zit h22_ k
                                                  refine Zm.l (fun _ _ k_ => z_tableIn (off := 224) (tgt := 268) dX8_binaryOf_44 (by rw [h22_]; decide) (by rw [h22_]; decide) (by rw [h22_]; rfl) rfl k_) ?_
                                                  refine Zm.l (fun _ _ k_ => z_bipush (v := 18) dX8_binaryOf_268 rfl k_) ?_
                                                  exact zm_iret dX8_binaryOf_270 rfl rfl k
                                                · have k := zif h22_ k
                                                  by_cases h23_ : (gi M 104 ((gi M 97 20)).toNatClampNeg) = 26
                                                  · have k := zit h23_ k
                                                    refine Zm.l (fun _ _ k_ => z_tableIn (off := 224) (tgt := 268) dX8_binaryOf_44 (by rw [h23_]; decide) (by rw [h23_]; decide) (by rw [h23_]; rfl) rfl k_) ?_
                                                    refine Zm.l (fun _ _ k_ => z_bipush (v := 18) dX8_binaryOf_268 rfl k_) ?_
                                                    exact zm_iret dX8_binaryOf_270 rfl rfl k
                                                  · have k := zif h23_ k
                                                    by_cases h24_ : (gi M 104 ((gi M 97 20)).toNatClampNeg) = 27
                                                    · have k := zit h24_ k
                                                      refine Zm.l (fun _ _ k_ => z_tableIn (off := 224) (tgt := 268) dX8_binaryOf_44 (by rw [h24_]; decide) (by rw [h24_]; decide) (by rw [h24_]; rfl) rfl k_) ?_
                                                      refine Zm.l (fun _ _ k_ => z_bipush (v := 18) dX8_binaryOf_268 rfl k_) ?_
                                                      exact zm_iret dX8_binaryOf_270 rfl rfl k
                                                    · have k := zif h24_ k
                                                      by_cases h25_ : (gi M 104 ((gi M 97 20)).toNatClampNeg) = 28
                                                      · have k := zit h25_ k
                                                        refine Zm.l (fun _ _ k_ => z_tableIn (off := 224) (tgt := 268) dX8_binaryOf_44 (by rw [h25_]; decide) (by rw [h25_]; decide) (by rw [h25_]; rfl) rfl k_) ?_
                                                        refine Zm.l (fun _ _ k_ => z_bipush (v := 18) dX8_binaryOf_268 rfl k_) ?_
                                                        exact zm_iret dX8_binaryOf_270 rfl rfl k
                                                      · have k := zif h25_ k
                                                        by_cases h26_ : (gi M 104 ((gi M 97 20)).toNatClampNeg) = 29
                                                        · have k := zit h26_ k
                                                          refine Zm.l (fun _ _ k_ => z_tableIn (off := 224) (tgt := 268) dX8_binaryOf_44 (by rw [h26_]; decide) (by rw [h26_]; decide) (by rw [h26_]; rfl) rfl k_) ?_
                                                          refine Zm.l (fun _ _ k_ => z_bipush (v := 18) dX8_binaryOf_268 rfl k_) ?_
                                                          exact zm_iret dX8_binaryOf_270 rfl rfl k
                                                        · have k := zif h26_ k
                                                          by_cases h27_ : (gi M 104 ((gi M 97 20)).toNatClampNeg) = 30
                                                          · have k := zit h27_ k
                                                            refine Zm.l (fun _ _ k_ => z_tableIn (off := 224) (tgt := 268) dX8_binaryOf_44 (by rw [h27_]; decide) (by rw [h27_]; decide) (by rw [h27_]; rfl) rfl k_) ?_
                                                            refine Zm.l (fun _ _ k_ => z_bipush (v := 18) dX8_binaryOf_268 rfl k_) ?_
                                                            exact zm_iret dX8_binaryOf_270 rfl rfl k
                                                          · have k := zif h27_ k
                                                            by_cases h28_ : (gi M 104 ((gi M 97 20)).toNatClampNeg) = 31
                                                            · have k := zit h28_ k
                                                              refine Zm.l (fun _ _ k_ => z_tableIn (off := 224) (tgt := 268) dX8_binaryOf_44 (by rw [h28_]; decide) (by rw [h28_]; decide) (by rw [h28_]; rfl) rfl k_) ?_
                                                              refine Zm.l (fun _ _ k_ => z_bipush (v := 18) dX8_binaryOf_268 rfl k_) ?_
                                                              exact zm_iret dX8_binaryOf_270 rfl rfl k
                                                            · have k := zif h28_ k
                                                              by_cases h29_ : (gi M 104 ((gi M 97 20)).toNatClampNeg) = 32
                                                              · have k := zit h29_ k
                                                                refine Zm.l (fun _ _ k_ => z_tableIn (off := 224) (tgt := 268) dX8_binaryOf_44 (by rw [h29_]; decide) (by rw [h29_]; decide) (by rw [h29_]; rfl) rfl k_) ?_
                                                                refine Zm.l (fun _ _ k_ => z_bipush (v := 18) dX8_binaryOf_268 rfl k_) ?_
                                                                exact zm_iret dX8_binaryOf_270 rfl rfl k
                                                              · have k := zif h29_ k
                                                                by_cases h30_ : (gi M 104 ((gi M 97 20)).toNatClampNeg) = 33
                                                                · have k := zit h30_ k
                                                                  refine Zm.l (fun _ _ k_ => z_tableIn (off := 215) (tgt := 259) dX8_binaryOf_44 (by rw [h30_]; decide) (by rw [h30_]; decide) (by rw [h30_]; rfl) rfl k_) ?_
                                                                  refine Zm.l (fun _ _ k_ => z_bipush (v := 15) dX8_binaryOf_259 rfl k_) ?_
                                                                  exact zm_iret dX8_binaryOf_261 rfl rfl k
                                                                · have k := zif h30_ k
                                                                  by_cases h31_ : (gi M 104 ((gi M 97 20)).toNatClampNeg) = 34
                                                                  · have k := zit h31_ k
                                                                    refine Zm.l (fun _ _ k_ => z_tableIn (off := 218) (tgt := 262) dX8_binaryOf_44 (by rw [h31_]; decide) (by rw [h31_]; decide) (by rw [h31_]; rfl) rfl k_) ?_
                                                                    refine Zm.l (fun _ _ k_ => z_bipush (v := 16) dX8_binaryOf_262 rfl k_) ?_
                                                                    exact zm_iret dX8_binaryOf_264 rfl rfl k
                                                                  · have k := zif h31_ k
                                                                    by_cases h32_ : (gi M 104 ((gi M 97 20)).toNatClampNeg) = 35
                                                                    · have k := zit h32_ k
                                                                      refine Zm.l (fun _ _ k_ => z_tableIn (off := 176) (tgt := 220) dX8_binaryOf_44 (by rw [h32_]; decide) (by rw [h32_]; decide) (by rw [h32_]; rfl) rfl k_) ?_
                                                                      refine Zm.l (fun _ _ k_ => z_iconst (v := 0) dX8_binaryOf_220 rfl k_) ?_
                                                                      exact zm_iret dX8_binaryOf_221 rfl rfl k
                                                                    · have k := zif h32_ k
                                                                      by_cases h33_ : (gi M 104 ((gi M 97 20)).toNatClampNeg) = 36
                                                                      · have k := zit h33_ k
                                                                        refine Zm.l (fun _ _ k_ => z_tableIn (off := 178) (tgt := 222) dX8_binaryOf_44 (by rw [h33_]; decide) (by rw [h33_]; decide) (by rw [h33_]; rfl) rfl k_) ?_
                                                                        refine Zm.l (fun _ _ k_ => z_iconst (v := 1) dX8_binaryOf_222 rfl k_) ?_
                                                                        exact zm_iret dX8_binaryOf_223 rfl rfl k
                                                                      · have k := zif h33_ k
                                                                        by_cases h34_ : (gi M 104 ((gi M 97 20)).toNatClampNeg) = 37
                                                                        · have k := zit h34_ k
                                                                          refine Zm.l (fun _ _ k_ => z_tableIn (off := 180) (tgt := 224) dX8_binaryOf_44 (by rw [h34_]; decide) (by rw [h34_]; decide) (by rw [h34_]; rfl) rfl k_) ?_
                                                                          refine Zm.l (fun _ _ k_ => z_iconst (v := 2) dX8_binaryOf_224 rfl k_) ?_
                                                                          exact zm_iret dX8_binaryOf_225 rfl rfl k
                                                                        · have k := zif h34_ k
                                                                          by_cases h35_ : (gi M 104 ((gi M 97 20)).toNatClampNeg) = 38
                                                                          · have k := zit h35_ k
                                                                            refine Zm.l (fun _ _ k_ => z_tableIn (off := 182) (tgt := 226) dX8_binaryOf_44 (by rw [h35_]; decide) (by rw [h35_]; decide) (by rw [h35_]; rfl) rfl k_) ?_
                                                                            refine Zm.l (fun _ _ k_ => z_iconst (v := 3) dX8_binaryOf_226 rfl k_) ?_
                                                                            exact zm_iret dX8_binaryOf_227 rfl rfl k
                                                                          · have k := zif h35_ k
                                                                            by_cases h36_ : (gi M 104 ((gi M 97 20)).toNatClampNeg) = 39
                                                                            · have k := zit h36_ k
                                                                              refine Zm.l (fun _ _ k_ => z_tableIn (off := 184) (tgt := 228) dX8_binaryOf_44 (by rw [h36_]; decide) (by rw [h36_]; decide) (by rw [h36_]; rfl) rfl k_) ?_
                                                                              refine Zm.l (fun _ _ k_ => z_iconst (v := 4) dX8_binaryOf_228 rfl k_) ?_
                                                                              exact zm_iret dX8_binaryOf_229 rfl rfl k
                                                                            · have k := zif h36_ k
                                                                              by_cases h37_ : (gi M 104 ((gi M 97 20)).toNatClampNeg) = 40
                                                                              · have k := zit h37_ k
                                                                                refine Zm.l (fun _ _ k_ => z_tableIn (off := 194) (tgt := 238) dX8_binaryOf_44 (by rw [h37_]; decide) (by rw [h37_]; decide) (by rw [h37_]; rfl) rfl k_) ?_
                                                                                refine Zm.l (fun _ _ k_ => z_bipush (v := 8) dX8_binaryOf_238 rfl k_) ?_
                                                                                exact zm_iret dX8_binaryOf_240 rfl rfl k
                                                                              · have k := zif h37_ k
                                                                                by_cases h38_ : (gi M 104 ((gi M 97 20)).toNatClampNeg) = 41
                                                                                · have k := zit h38_ k
                                                                                  refine Zm.l (fun _ _ k_ => z_tableIn (off := 197) (tgt := 241) dX8_binaryOf_44 (by rw [h38_]; decide) (by rw [h38_]; decide) (by rw [h38_]; rfl) rfl k_) ?_
                                                                                  refine Zm.l (fun _ _ k_ => z_bipush (v := 9) dX8_binaryOf_241 rfl k_) ?_
                                                                                  exact zm_iret dX8_binaryOf_243 rfl rfl k
                                                                                · have k := zif h38_ k
                                                                                  by_cases h39_ : (gi M 104 ((gi M 97 20)).toNatClampNeg) = 42
                                                                                  · have k := zit h39_ k
                                                                                    refine Zm.l (fun _ _ k_ => z_tableIn (off := 200) (tgt := 244) dX8_binaryOf_44 (by rw [h39_]; decide) (by rw [h39_]; decide) (by rw [h39_]; rfl) rfl k_) ?_
                                                                                    refine Zm.l (fun _ _ k_ => z_bipush (v := 10) dX8_binaryOf_244 rfl k_) ?_
                                                                                    exact zm_iret dX8_binaryOf_246 rfl rfl k
                                                                                  · have k := zif h39_ k
                                                                                    refine Zm.l (fun _ _ k_ => z_tout (tgt := 268) [3, 4, 5, 6, 7, 8, 9, 10, 11, 12, 13, 14, 15, 16, 17, 18, 19, 20, 21, 22, 23, 24, 25, 26, 27, 28, 29, 30, 31, 32, 33, 34, 35, 36, 37, 38, 39, 40, 41, 42] (by decide) dX8_binaryOf_44 (zall_1 h0_ (zall_1 h1_ (zall_1 h2_ (zall_1 h3_ (zall_1 h4_ (zall_1 h5_ (zall_1 h6_ (zall_1 h7_ (zall_1 h8_ (zall_1 h9_ (zall_1 h10_ (zall_1 h11_ (zall_1 h12_ (zall_1 h13_ (zall_1 h14_ (zall_1 h15_ (zall_1 h16_ (zall_1 h17_ (zall_1 h18_ (zall_1 h19_ (zall_1 h20_ (zall_1 h21_ (zall_1 h22_ (zall_1 h23_ (zall_1 h24_ (zall_1 h25_ (zall_1 h26_ (zall_1 h27_ (zall_1 h28_ (zall_1 h29_ (zall_1 h30_ (zall_1 h31_ (zall_1 h32_ (zall_1 h33_ (zall_1 h34_ (zall_1 h35_ (zall_1 h36_ (zall_1 h37_ (zall_1 h38_ (zall_1 h39_ zall_0)))))))))))))))))))))))))))))))))))))))) rfl k_) ?_
                                                                                    refine Zm.l (fun _ _ k_ => z_bipush (v := 18) dX8_binaryOf_268 rfl k_) ?_
                                                                                    exact zm_iret dX8_binaryOf_270 rfl rfl k
  · have k := zit h_ k
    refine Zm.l (fun _ _ k_ => z_aload_n dX8_binaryOf_13 rfl rfl k_) ?_
    refine zm_getr 6 dX8_binaryOf_14 fsX8_30_1 rfl ?_
    refine Zm.l (fun _ _ k_ => z_aload_n dX8_binaryOf_17 rfl rfl k_) ?_
    refine zm_geti dX8_binaryOf_18 fsX8_392_1 (by decide) (by decide) ?_
    obtain ⟨b_, k⟩ := k
    refine zm_iald dX8_binaryOf_21 b_ (by decide) (by decide) ?_
    refine Zm.l (fun _ _ k_ => z_bipush (v := 13) dX8_binaryOf_22 rfl k_) ?_
    refine Zm.brn (fun _ _ k1_ k2_ => z_icmp_ne (tgt := 32) dX8_binaryOf_24 rfl k1_ k2_) (fun h_ => ?_) (fun h_ => ?_)
    · have k := zif h_ k
      refine Zm.l (fun _ _ k_ => z_bipush (v := 20) dX8_binaryOf_32 rfl k_) ?_
      exact zm_iret dX8_binaryOf_34 rfl rfl k
    · have k := zit h_ k
      refine Zm.l (fun _ _ k_ => z_bipush (v := 19) dX8_binaryOf_27 rfl k_) ?_
      refine Zm.l (fun _ _ k_ => z_goto (tgt := 34) dX8_binaryOf_29 rfl k_) ?_
      exact zm_iret dX8_binaryOf_34 rfl rfl k
/-! ScriptTypesModel.opened(Z)I -/
theorem bX8_opened_0 : zdec cX8_opened 0 [(0, .aload_n 0, 1), (1, .aload_n 0, 1), (2, .invokevirtual 439, 3), (5, .invokevirtual 450, 3), (8, .aload_n 0, 1), (9, .iload_n 1, 1), (10, .invokevirtual 442, 3), (13, .istore_n 2, 1), (14, .aload_n 0, 1), (15, .invokevirtual 454, 3), (18, .iload_n 2, 1), (19, .ireturn, 1)] = true := by decide +kernel
theorem dX8_opened_0 : decode cX8_opened 0 = .ok (.aload_n 0, 1) := zdec_at bX8_opened_0 0 rfl
theorem dX8_opened_1 : decode cX8_opened 1 = .ok (.aload_n 0, 1) := zdec_at bX8_opened_0 1 rfl
theorem dX8_opened_2 : decode cX8_opened 2 = .ok (.invokevirtual 439, 3) := zdec_at bX8_opened_0 2 rfl
theorem dX8_opened_5 : decode cX8_opened 5 = .ok (.invokevirtual 450, 3) := zdec_at bX8_opened_0 3 rfl
theorem dX8_opened_8 : decode cX8_opened 8 = .ok (.aload_n 0, 1) := zdec_at bX8_opened_0 4 rfl
theorem dX8_opened_9 : decode cX8_opened 9 = .ok (.iload_n 1, 1) := zdec_at bX8_opened_0 5 rfl
theorem dX8_opened_10 : decode cX8_opened 10 = .ok (.invokevirtual 442, 3) := zdec_at bX8_opened_0 6 rfl
theorem dX8_opened_13 : decode cX8_opened 13 = .ok (.istore_n 2, 1) := zdec_at bX8_opened_0 7 rfl
theorem dX8_opened_14 : decode cX8_opened 14 = .ok (.aload_n 0, 1) := zdec_at bX8_opened_0 8 rfl
theorem dX8_opened_15 : decode cX8_opened 15 = .ok (.invokevirtual 454, 3) := zdec_at bX8_opened_0 9 rfl
theorem dX8_opened_18 : decode cX8_opened 18 = .ok (.iload_n 2, 1) := zdec_at bX8_opened_0 10 rfl
theorem dX8_opened_19 : decode cX8_opened 19 = .ok (.ireturn, 1) := zdec_at bX8_opened_0 11 rfl
theorem sX8_opened_0 {E : zE} {d : Nat} {Q : zO → zM → Prop} (M : zM) (l1 : Int32) (k : Zm E YX8_beginsExpression d M (zargs 0 [vr (some (97, 1, 0))]) 0 [] (zma E YX8_opened (d + 1) [(0, vr (some (97, 1, 0))), (1, vi l1)] 2 3 [vr (some (97, 1, 0))] Q)) : Zm E YX8_opened (d + 1) M [(0, vr (some (97, 1, 0))), (1, vi l1)] 0 [] Q := by
  refine Zm.l (fun _ _ k_ => z_aload_n dX8_opened_0 rfl rfl k_) ?_
  refine Zm.l (fun _ _ k_ => z_aload_n dX8_opened_1 rfl rfl k_) ?_
  exact zm_callV (as := []) (st := [vr (some (97, 1, 0))]) dX8_opened_2 vsX8_439_1 (Nat.le_refl _) (Nat.le_of_ble_eq_true rfl) (Nat.le_of_ble_eq_true rfl) rfl k
theorem sX8_opened_5 {E : zE} {d : Nat} {Q : zO → zM → Prop} (M : zM) (l1 : Int32) (s0 : Int32) (k : Zm E YX8_open d M (zargs 0 [vr (some (97, 1, 0)), vi s0]) 0 [] (zma E YX8_opened (d + 1) [(0, vr (some (97, 1, 0))), (1, vi l1)] 5 3 [] Q)) : Zm E YX8_opened (d + 1) M [(0, vr (some (97, 1, 0))), (1, vi l1)] 5 [vi s0, vr (some (97, 1, 0))] Q := by
  exact zm_callV (as := [vi s0]) (st := []) dX8_opened_5 vsX8_450_1 (Nat.le_refl _) (Nat.le_of_ble_eq_true rfl) (Nat.le_of_ble_eq_true rfl) rfl k
theorem sX8_opened_8 {E : zE} {d : Nat} {Q : zO → zM → Prop} (M : zM) (l1 : Int32) (k : Zm E YX8_assigned d M (zargs 0 [vr (some (97, 1, 0)), vi l1]) 0 [] (zma E YX8_opened (d + 1) [(0, vr (some (97, 1, 0)))] 10 3 [] Q)) : Zm E YX8_opened (d + 1) M [(0, vr (some (97, 1, 0))), (1, vi l1)] 8 [] Q := by
  refine Zm.l (fun _ _ k_ => z_aload_n dX8_opened_8 rfl rfl k_) ?_
  refine Zm.l (fun _ _ k_ => z_iload_n dX8_opened_9 rfl rfl k_) ?_
  refine Zm.pick [0] rfl ?_
  exact zm_callV (as := [vi l1]) (st := []) dX8_opened_10 vsX8_442_1 (Nat.le_refl _) (Nat.le_of_ble_eq_true rfl) (Nat.le_of_ble_eq_true rfl) rfl k
theorem sX8_opened_13 {E : zE} {d : Nat} {Q : zO → zM → Prop} (M : zM) (s0 : Int32) (k : Zm E YX8_close d M (zargs 0 [vr (some (97, 1, 0))]) 0 [] (zma E YX8_opened (d + 1) [(2, vi s0)] 15 3 [] Q)) : Zm E YX8_opened (d + 1) M [(0, vr (some (97, 1, 0)))] 13 [vi s0] Q := by
  refine Zm.l (fun _ _ k_ => z_ist_n dX8_opened_13 rfl (by decide) (lv' := [(0, vr (some (97, 1, 0))), (2, vi s0)]) rfl k_) ?_
  refine Zm.l (fun _ _ k_ => z_aload_n dX8_opened_14 rfl rfl k_) ?_
  refine Zm.pick [1] rfl ?_
  exact zm_callV (as := []) (st := []) dX8_opened_15 vsX8_454_1 (Nat.le_refl _) (Nat.le_of_ble_eq_true rfl) (Nat.le_of_ble_eq_true rfl) rfl k
theorem sX8_opened_18 {E : zE} {d : Nat} {Q : zO → zM → Prop} (M : zM) (l2 : Int32) (k : Q (.inl (some (vi l2))) M) : Zm E YX8_opened (d + 1) M [(2, vi l2)] 18 [] Q := by
  refine Zm.l (fun _ _ k_ => z_iload_n dX8_opened_18 rfl rfl k_) ?_
  exact zm_iret dX8_opened_19 rfl rfl k
/-! ScriptTypesModel.settingOf()I -/
theorem bX8_settingOf_0 : zdec cX8_settingOf 0 [(0, .aload_n 0, 1), (1, .getfield 27, 3), (4, .aload_n 0, 1), (5, .getfield 392, 3), (8, .iaload, 1), (9, .iconst 5, 1), (10, .if_icmp .eq 5, 3), (13, .iconst (-1), 1), (14, .ireturn, 1), (15, .aload_n 0, 1), (16, .getfield 30, 3), (19, .aload_n 0, 1), (20, .getfield 392, 3), (23, .iaload, 1)] = true := by decide +kernel
theorem dX8_settingOf_0 : decode cX8_settingOf 0 = .ok (.aload_n 0, 1) := zdec_at bX8_settingOf_0 0 rfl
theorem dX8_settingOf_1 : decode cX8_settingOf 1 = .ok (.getfield 27, 3) := zdec_at bX8_settingOf_0 1 rfl
theorem dX8_settingOf_4 : decode cX8_settingOf 4 = .ok (.aload_n 0, 1) := zdec_at bX8_settingOf_0 2 rfl
theorem dX8_settingOf_5 : decode cX8_settingOf 5 = .ok (.getfield 392, 3) := zdec_at bX8_settingOf_0 3 rfl
theorem dX8_settingOf_8 : decode cX8_settingOf 8 = .ok (.iaload, 1) := zdec_at bX8_settingOf_0 4 rfl
theorem dX8_settingOf_9 : decode cX8_settingOf 9 = .ok (.iconst 5, 1) := zdec_at bX8_settingOf_0 5 rfl
theorem dX8_settingOf_10 : decode cX8_settingOf 10 = .ok (.if_icmp .eq 5, 3) := zdec_at bX8_settingOf_0 6 rfl
theorem dX8_settingOf_13 : decode cX8_settingOf 13 = .ok (.iconst (-1), 1) := zdec_at bX8_settingOf_0 7 rfl
theorem dX8_settingOf_14 : decode cX8_settingOf 14 = .ok (.ireturn, 1) := zdec_at bX8_settingOf_0 8 rfl
theorem dX8_settingOf_15 : decode cX8_settingOf 15 = .ok (.aload_n 0, 1) := zdec_at bX8_settingOf_0 9 rfl
theorem dX8_settingOf_16 : decode cX8_settingOf 16 = .ok (.getfield 30, 3) := zdec_at bX8_settingOf_0 10 rfl
theorem dX8_settingOf_19 : decode cX8_settingOf 19 = .ok (.aload_n 0, 1) := zdec_at bX8_settingOf_0 11 rfl
theorem dX8_settingOf_20 : decode cX8_settingOf 20 = .ok (.getfield 392, 3) := zdec_at bX8_settingOf_0 12 rfl
theorem dX8_settingOf_23 : decode cX8_settingOf 23 = .ok (.iaload, 1) := zdec_at bX8_settingOf_0 13 rfl
theorem dX8_settingOf_24 : decode cX8_settingOf 24 = .ok (.tableswitch 238 0 47 #[226, 221, 223, 238, 238, 238, 238, 238, 238, 238, 238, 238, 238, 238, 238, 238, 211, 213, 215, 217, 219, 229, 232, 235, 238, 238, 238, 238, 238, 238, 238, 238, 238, 238, 238, 238, 238, 238, 238, 238, 238, 238, 238, 238, 238, 238, 238, 208], 208) := by decide +kernel
theorem bX8_settingOf_232 : zdec cX8_settingOf 232 [(232, .bipush 99, 2), (234, .ireturn, 1), (235, .iconst 0, 1), (236, .ireturn, 1), (237, .iconst 1, 1), (238, .ireturn, 1), (239, .iconst 2, 1), (240, .ireturn, 1), (241, .iconst 3, 1), (242, .ireturn, 1), (243, .iconst 4, 1), (244, .ireturn, 1), (245, .iconst 5, 1), (246, .ireturn, 1), (247, .bipush 6, 2), (249, .ireturn, 1)] = true := by decide +kernel
theorem dX8_settingOf_232 : decode cX8_settingOf 232 = .ok (.bipush 99, 2) := zdec_at bX8_settingOf_232 0 rfl
theorem dX8_settingOf_234 : decode cX8_settingOf 234 = .ok (.ireturn, 1) := zdec_at bX8_settingOf_232 1 rfl
theorem dX8_settingOf_235 : decode cX8_settingOf 235 = .ok (.iconst 0, 1) := zdec_at bX8_settingOf_232 2 rfl
theorem dX8_settingOf_236 : decode cX8_settingOf 236 = .ok (.ireturn, 1) := zdec_at bX8_settingOf_232 3 rfl
theorem dX8_settingOf_237 : decode cX8_settingOf 237 = .ok (.iconst 1, 1) := zdec_at bX8_settingOf_232 4 rfl
theorem dX8_settingOf_238 : decode cX8_settingOf 238 = .ok (.ireturn, 1) := zdec_at bX8_settingOf_232 5 rfl
theorem dX8_settingOf_239 : decode cX8_settingOf 239 = .ok (.iconst 2, 1) := zdec_at bX8_settingOf_232 6 rfl
theorem dX8_settingOf_240 : decode cX8_settingOf 240 = .ok (.ireturn, 1) := zdec_at bX8_settingOf_232 7 rfl
theorem dX8_settingOf_241 : decode cX8_settingOf 241 = .ok (.iconst 3, 1) := zdec_at bX8_settingOf_232 8 rfl
theorem dX8_settingOf_242 : decode cX8_settingOf 242 = .ok (.ireturn, 1) := zdec_at bX8_settingOf_232 9 rfl
theorem dX8_settingOf_243 : decode cX8_settingOf 243 = .ok (.iconst 4, 1) := zdec_at bX8_settingOf_232 10 rfl
theorem dX8_settingOf_244 : decode cX8_settingOf 244 = .ok (.ireturn, 1) := zdec_at bX8_settingOf_232 11 rfl
theorem dX8_settingOf_245 : decode cX8_settingOf 245 = .ok (.iconst 5, 1) := zdec_at bX8_settingOf_232 12 rfl
theorem dX8_settingOf_246 : decode cX8_settingOf 246 = .ok (.ireturn, 1) := zdec_at bX8_settingOf_232 13 rfl
theorem dX8_settingOf_247 : decode cX8_settingOf 247 = .ok (.bipush 6, 2) := zdec_at bX8_settingOf_232 14 rfl
theorem dX8_settingOf_249 : decode cX8_settingOf 249 = .ok (.ireturn, 1) := zdec_at bX8_settingOf_232 15 rfl
theorem bX8_settingOf_250 : zdec cX8_settingOf 250 [(250, .bipush 7, 2), (252, .ireturn, 1), (253, .bipush 8, 2), (255, .ireturn, 1), (256, .bipush 9, 2), (258, .ireturn, 1), (259, .bipush 10, 2), (261, .ireturn, 1), (262, .iconst (-1), 1), (263, .ireturn, 1)] = true := by decide +kernel
theorem dX8_settingOf_250 : decode cX8_settingOf 250 = .ok (.bipush 7, 2) := zdec_at bX8_settingOf_250 0 rfl
theorem dX8_settingOf_252 : decode cX8_settingOf 252 = .ok (.ireturn, 1) := zdec_at bX8_settingOf_250 1 rfl
theorem dX8_settingOf_253 : decode cX8_settingOf 253 = .ok (.bipush 8, 2) := zdec_at bX8_settingOf_250 2 rfl
theorem dX8_settingOf_255 : decode cX8_settingOf 255 = .ok (.ireturn, 1) := zdec_at bX8_settingOf_250 3 rfl
theorem dX8_settingOf_256 : decode cX8_settingOf 256 = .ok (.bipush 9, 2) := zdec_at bX8_settingOf_250 4 rfl
theorem dX8_settingOf_258 : decode cX8_settingOf 258 = .ok (.ireturn, 1) := zdec_at bX8_settingOf_250 5 rfl
theorem dX8_settingOf_259 : decode cX8_settingOf 259 = .ok (.bipush 10, 2) := zdec_at bX8_settingOf_250 6 rfl
theorem dX8_settingOf_261 : decode cX8_settingOf 261 = .ok (.ireturn, 1) := zdec_at bX8_settingOf_250 7 rfl
theorem dX8_settingOf_262 : decode cX8_settingOf 262 = .ok (.iconst (-1), 1) := zdec_at bX8_settingOf_250 8 rfl
theorem dX8_settingOf_263 : decode cX8_settingOf 263 = .ok (.ireturn, 1) := zdec_at bX8_settingOf_250 9 rfl
theorem sX8_settingOf_0 {E : zE} {d : Nat} {Q : zO → zM → Prop} (M : zM)  (k : vp_in (gi M 97 20) 4002 ∧ (if (gi M 103 ((gi M 97 20)).toNatClampNeg) = (5 : Int32) then (vp_in (gi M 97 20) 4002 ∧ (if (gi M 104 ((gi M 97 20)).toNatClampNeg) = 0 then (Q (.inl (some (vi (7 : Int32)))) M) else (if (gi M 104 ((gi M 97 20)).toNatClampNeg) = 1 then (Q (.inl (some (vi (5 : Int32)))) M) else (if (gi M 104 ((gi M 97 20)).toNatClampNeg) = 2 then (Q (.inl (some (vi (6 : Int32)))) M) else (if (gi M 104 ((gi M 97 20)).toNatClampNeg) = 3 then (Q (.inl (some (vi (-1 : Int32)))) M) else (if (gi M 104 ((gi M 97 20)).toNatClampNeg) = 4 then (Q (.inl (some (vi (-1 : Int32)))) M) else (if (gi M 104 ((gi M 97 20)).toNatClampNeg) = 5 then (Q (.inl (some (vi (-1 : Int32)))) M) else (if (gi M 104 ((gi M 97 20)).toNatClampNeg) = 6 then (Q (.inl (some (vi (-1 : Int32)))) M) else (if (gi M 104 ((gi M 97 20)).toNatClampNeg) = 7 then (Q (.inl (some (vi (-1 : Int32)))) M) else (if (gi M 104 ((gi M 97 20)).toNatClampNeg) = 8 then (Q (.inl (some (vi (-1 : Int32)))) M) else (if (gi M 104 ((gi M 97 20)).toNatClampNeg) = 9 then (Q (.inl (some (vi (-1 : Int32)))) M) else (if (gi M 104 ((gi M 97 20)).toNatClampNeg) = 10 then (Q (.inl (some (vi (-1 : Int32)))) M) else (if (gi M 104 ((gi M 97 20)).toNatClampNeg) = 11 then (Q (.inl (some (vi (-1 : Int32)))) M) else (if (gi M 104 ((gi M 97 20)).toNatClampNeg) = 12 then (Q (.inl (some (vi (-1 : Int32)))) M) else (if (gi M 104 ((gi M 97 20)).toNatClampNeg) = 13 then (Q (.inl (some (vi (-1 : Int32)))) M) else (if (gi M 104 ((gi M 97 20)).toNatClampNeg) = 14 then (Q (.inl (some (vi (-1 : Int32)))) M) else (if (gi M 104 ((gi M 97 20)).toNatClampNeg) = 15 then (Q (.inl (some (vi (-1 : Int32)))) M) else (if (gi M 104 ((gi M 97 20)).toNatClampNeg) = 16 then (Q (.inl (some (vi (0 : Int32)))) M) else (if (gi M 104 ((gi M 97 20)).toNatClampNeg) = 17 then (Q (.inl (some (vi (1 : Int32)))) M) else (if (gi M 104 ((gi M 97 20)).toNatClampNeg) = 18 then (Q (.inl (some (vi (2 : Int32)))) M) else (if (gi M 104 ((gi M 97 20)).toNatClampNeg) = 19 then (Q (.inl (some (vi (3 : Int32)))) M) else (if (gi M 104 ((gi M 97 20)).toNatClampNeg) = 20 then (Q (.inl (some (vi (4 : Int32)))) M) else (if (gi M 104 ((gi M 97 20)).toNatClampNeg) = 21 then (Q (.inl (some (vi (8 : Int32)))) M) else (if (gi M 104 ((gi M 97 20)).toNatClampNeg) = 22 then (Q (.inl (some (vi (9 : Int32)))) M) else (if (gi M 104 ((gi M 97 20)).toNatClampNeg) = 23 then (Q (.inl (some (vi (10 : Int32)))) M) else (if (gi M 104 ((gi M 97 20)).toNatClampNeg) = 24 then (Q (.inl (some (vi (-1 : Int32)))) M) else (if (gi M 104 ((gi M 97 20)).toNatClampNeg) = 25 then (Q (.inl (some (vi (-1 : Int32)))) M) else (if (gi M 104 ((gi M 97 20)).toNatClampNeg) = 26 then (Q (.inl (some (vi (-1 : Int32)))) M) else (if (gi M 104 ((gi M 97 20)).toNatClampNeg) = 27 then (Q (.inl (some (vi (-1 : Int32)))) M) else (if (gi M 104 ((gi M 97 20)).toNatClampNeg) = 28 then (Q (.inl (some (vi (-1 : Int32)))) M) else (if (gi M 104 ((gi M 97 20)).toNatClampNeg) = 29 then (Q (.inl (some (vi (-1 : Int32)))) M) else (if (gi M 104 ((gi M 97 20)).toNatClampNeg) = 30 then (Q (.inl (some (vi (-1 : Int32)))) M) else (if (gi M 104 ((gi M 97 20)).toNatClampNeg) = 31 then (Q (.inl (some (vi (-1 : Int32)))) M) else (if (gi M 104 ((gi M 97 20)).toNatClampNeg) = 32 then (Q (.inl (some (vi (-1 : Int32)))) M) else (if (gi M 104 ((gi M 97 20)).toNatClampNeg) = 33 then (Q (.inl (some (vi (-1 : Int32)))) M) else (if (gi M 104 ((gi M 97 20)).toNatClampNeg) = 34 then (Q (.inl (some (vi (-1 : Int32)))) M) else (if (gi M 104 ((gi M 97 20)).toNatClampNeg) = 35 then (Q (.inl (some (vi (-1 : Int32)))) M) else (if (gi M 104 ((gi M 97 20)).toNatClampNeg) = 36 then (Q (.inl (some (vi (-1 : Int32)))) M) else (if (gi M 104 ((gi M 97 20)).toNatClampNeg) = 37 then (Q (.inl (some (vi (-1 : Int32)))) M) else (if (gi M 104 ((gi M 97 20)).toNatClampNeg) = 38 then (Q (.inl (some (vi (-1 : Int32)))) M) else (if (gi M 104 ((gi M 97 20)).toNatClampNeg) = 39 then (Q (.inl (some (vi (-1 : Int32)))) M) else (if (gi M 104 ((gi M 97 20)).toNatClampNeg) = 40 then (Q (.inl (some (vi (-1 : Int32)))) M) else (if (gi M 104 ((gi M 97 20)).toNatClampNeg) = 41 then (Q (.inl (some (vi (-1 : Int32)))) M) else (if (gi M 104 ((gi M 97 20)).toNatClampNeg) = 42 then (Q (.inl (some (vi (-1 : Int32)))) M) else (if (gi M 104 ((gi M 97 20)).toNatClampNeg) = 43 then (Q (.inl (some (vi (-1 : Int32)))) M) else (if (gi M 104 ((gi M 97 20)).toNatClampNeg) = 44 then (Q (.inl (some (vi (-1 : Int32)))) M) else (if (gi M 104 ((gi M 97 20)).toNatClampNeg) = 45 then (Q (.inl (some (vi (-1 : Int32)))) M) else (if (gi M 104 ((gi M 97 20)).toNatClampNeg) = 46 then (Q (.inl (some (vi (-1 : Int32)))) M) else (if (gi M 104 ((gi M 97 20)).toNatClampNeg) = 47 then (Q (.inl (some (vi (99 : Int32)))) M) else (Q (.inl (some (vi (-1 : Int32)))) M)))))))))))))))))))))))))))))))))))))))))))))))))) else (Q (.inl (some (vi (-1 : Int32)))) M))) : Zm E YX8_settingOf d M [(0, vr (some (97, 1, 0)))] 0 [] Q := by
  refine Zm.l (fun _ _ k_ => z_aload_n dX8_settingOf_0 rfl rfl k_) ?_
  refine zm_getr 5 dX8_settingOf_1 fsX8_27_1 rfl ?_
  refine Zm.l (fun _ _ k_ => z_aload_n dX8_settingOf_4 rfl rfl k_) ?_
  refine zm_geti dX8_settingOf_5 fsX8_392_1 (by decide) (by decide) ?_
  obtain ⟨b_, k⟩ := k
  refine zm_iald dX8_settingOf_8 b_ (by decide) (by decide) ?_
  refine Zm.l (fun _ _ k_ => z_iconst (v := 5) dX8_settingOf_9 rfl k_) ?_
  refine Zm.br (fun _ _ k1_ k2_ => z_icmp_eq (tgt := 15) dX8_settingOf_10 rfl k1_ k2_) (fun h_ => ?_) (fun h_ => ?_)
  · have k := zit h_ k
    refine Zm.l (fun _ _ k_ => z_aload_n dX8_settingOf_15 rfl rfl k_) ?_
    refine zm_getr 6 dX8_settingOf_16 fsX8_30_1 rfl ?_
    refine Zm.l (fun _ _ k_ => z_aload_n dX8_settingOf_19 rfl rfl k_) ?_
    refine zm_geti dX8_settingOf_20 fsX8_392_1 (by decide) (by decide) ?_
    obtain ⟨b_, k⟩ := k
    refine zm_iald dX8_settingOf_23 b_ (by decide) (by decide) ?_
    by_cases h0_ : (gi M 104 ((gi M 97 20)).toNatClampNeg) = 0
    · have k := zit h0_ k
      refine Zm.l (fun _ _ k_ => z_tableIn (off := 226) (tgt := 250) dX8_settingOf_24 (by rw [h0_]; decide) (by rw [h0_]; decide) (by rw [h0_]; rfl) rfl k_) ?_
      refine Zm.l (fun _ _ k_ => z_bipush (v := 7) dX8_settingOf_250 rfl k_) ?_
      exact zm_iret dX8_settingOf_252 rfl rfl k
    · have k := zif h0_ k
      by_cases h1_ : (gi M 104 ((gi M 97 20)).toNatClampNeg) = 1
      · have k := zit h1_ k
        refine Zm.l (fun _ _ k_ => z_tableIn (off := 221) (tgt := 245) dX8_settingOf_24 (by rw [h1_]; decide) (by rw [h1_]; decide) (by rw [h1_]; rfl) rfl k_) ?_
        refine Zm.l (fun _ _ k_ => z_iconst (v := 5) dX8_settingOf_245 rfl k_) ?_
        exact zm_iret dX8_settingOf_246 rfl rfl k
      · have k := zif h1_ k
        by_cases h2_ : (gi M 104 ((gi M 97 20)).toNatClampNeg) = 2
        · have k := zit h2_ k
          refine Zm.l (fun _ _ k_ => z_tableIn (off := 223) (tgt := 247) dX8_settingOf_24 (by rw [h2_]; decide) (by rw [h2_]; decide) (by rw [h2_]; rfl) rfl k_) ?_
          refine Zm.l (fun _ _ k_ => z_bipush (v := 6) dX8_settingOf_247 rfl k_) ?_
          exact zm_iret dX8_settingOf_249 rfl rfl k
        · have k := zif h2_ k
          by_cases h3_ : (gi M 104 ((gi M 97 20)).toNatClampNeg) = 3
          · have k := zit h3_ k
            refine Zm.l (fun _ _ k_ => z_tableIn (off := 238) (tgt := 262) dX8_settingOf_24 (by rw [h3_]; decide) (by rw [h3_]; decide) (by rw [h3_]; rfl) rfl k_) ?_
            refine Zm.l (fun _ _ k_ => z_iconst (v := -1) dX8_settingOf_262 rfl k_) ?_
            exact zm_iret dX8_settingOf_263 rfl rfl k
          · have k := zif h3_ k
            by_cases h4_ : (gi M 104 ((gi M 97 20)).toNatClampNeg) = 4
            · have k := zit h4_ k
              refine Zm.l (fun _ _ k_ => z_tableIn (off := 238) (tgt := 262) dX8_settingOf_24 (by rw [h4_]; decide) (by rw [h4_]; decide) (by rw [h4_]; rfl) rfl k_) ?_
              refine Zm.l (fun _ _ k_ => z_iconst (v := -1) dX8_settingOf_262 rfl k_) ?_
              exact zm_iret dX8_settingOf_263 rfl rfl k
            · have k := zif h4_ k
              by_cases h5_ : (gi M 104 ((gi M 97 20)).toNatClampNeg) = 5
              · have k := zit h5_ k
                refine Zm.l (fun _ _ k_ => z_tableIn (off := 238) (tgt := 262) dX8_settingOf_24 (by rw [h5_]; decide) (by rw [h5_]; decide) (by rw [h5_]; rfl) rfl k_) ?_
                refine Zm.l (fun _ _ k_ => z_iconst (v := -1) dX8_settingOf_262 rfl k_) ?_
                exact zm_iret dX8_settingOf_263 rfl rfl k
              · have k := zif h5_ k
                by_cases h6_ : (gi M 104 ((gi M 97 20)).toNatClampNeg) = 6
                · have k := zit h6_ k
                  refine Zm.l (fun _ _ k_ => z_tableIn (off := 238) (tgt := 262) dX8_settingOf_24 (by rw [h6_]; decide) (by rw [h6_]; decide) (by rw [h6_]; rfl) rfl k_) ?_
                  refine Zm.l (fun _ _ k_ => z_iconst (v := -1) dX8_settingOf_262 rfl k_) ?_
                  exact zm_iret dX8_settingOf_263 rfl rfl k
                · have k := zif h6_ k
                  by_cases h7_ : (gi M 104 ((gi M 97 20)).toNatClampNeg) = 7
                  · have k := zit h7_ k
                    refine Zm.l (fun _ _ k_ => z_tableIn (off := 238) (tgt := 262) dX8_settingOf_24 (by rw [h7_]; decide) (by rw [h7_]; decide) (by rw [h7_]; rfl) rfl k_) ?_
                    refine Zm.l (fun _ _ k_ => z_iconst (v := -1) dX8_settingOf_262 rfl k_) ?_
                    exact zm_iret dX8_settingOf_263 rfl rfl k
                  · have k := zif h7_ k
                    by_cases h8_ : (gi M 104 ((gi M 97 20)).toNatClampNeg) = 8
                    · have k := zit h8_ k
                      refine Zm.l (fun _ _ k_ => z_tableIn (off := 238) (tgt := 262) dX8_settingOf_24 (by rw [h8_]; decide) (by rw [h8_]; decide) (by rw [h8_]; rfl) rfl k_) ?_
                      refine Zm.l (fun _ _ k_ => z_iconst (v := -1) dX8_settingOf_262 rfl k_) ?_
                      exact zm_iret dX8_settingOf_263 rfl rfl k
                    · have k := zif h8_ k
                      by_cases h9_ : (gi M 104 ((gi M 97 20)).toNatClampNeg) = 9
                      · have k := zit h9_ k
                        refine Zm.l (fun _ _ k_ => z_tableIn (off := 238) (tgt := 262) dX8_settingOf_24 (by rw [h9_]; decide) (by rw [h9_]; decide) (by rw [h9_]; rfl) rfl k_) ?_
                        refine Zm.l (fun _ _ k_ => z_iconst (v := -1) dX8_settingOf_262 rfl k_) ?_
                        exact zm_iret dX8_settingOf_263 rfl rfl k
                      · have k := zif h9_ k
                        by_cases h10_ : (gi M 104 ((gi M 97 20)).toNatClampNeg) = 10
                        · have k := zit h10_ k
                          refine Zm.l (fun _ _ k_ => z_tableIn (off := 238) (tgt := 262) dX8_settingOf_24 (by rw [h10_]; decide) (by rw [h10_]; decide) (by rw [h10_]; rfl) rfl k_) ?_
                          refine Zm.l (fun _ _ k_ => z_iconst (v := -1) dX8_settingOf_262 rfl k_) ?_
                          exact zm_iret dX8_settingOf_263 rfl rfl k
                        · have k := zif h10_ k
                          by_cases h11_ : (gi M 104 ((gi M 97 20)).toNatClampNeg) = 11
                          · have k := zit h11_ k
                            refine Zm.l (fun _ _ k_ => z_tableIn (off := 238) (tgt := 262) dX8_settingOf_24 (by rw [h11_]; decide) (by rw [h11_]; decide) (by rw [h11_]; rfl) rfl k_) ?_
                            refine Zm.l (fun _ _ k_ => z_iconst (v := -1) dX8_settingOf_262 rfl k_) ?_
                            exact zm_iret dX8_settingOf_263 rfl rfl k
                          · have k := zif h11_ k
                            by_cases h12_ : (gi M 104 ((gi M 97 20)).toNatClampNeg) = 12
                            · have k := zit h12_ k
                              refine Zm.l (fun _ _ k_ => z_tableIn (off := 238) (tgt := 262) dX8_settingOf_24 (by rw [h12_]; decide) (by rw [h12_]; decide) (by rw [h12_]; rfl) rfl k_) ?_
                              refine Zm.l (fun _ _ k_ => z_iconst (v := -1) dX8_settingOf_262 rfl k_) ?_
                              exact zm_iret dX8_settingOf_263 rfl rfl k
                            · have k := zif h12_ k
                              by_cases h13_ : (gi M 104 ((gi M 97 20)).toNatClampNeg) = 13
                              · have k := zit h13_ k
                                refine Zm.l (fun _ _ k_ => z_tableIn (off := 238) (tgt := 262) dX8_settingOf_24 (by rw [h13_]; decide) (by rw [h13_]; decide) (by rw [h13_]; rfl) rfl k_) ?_
                                refine Zm.l (fun _ _ k_ => z_iconst (v := -1) dX8_settingOf_262 rfl k_) ?_
                                exact zm_iret dX8_settingOf_263 rfl rfl k
                              · have k := zif h13_ k
                                by_cases h14_ : (gi M 104 ((gi M 97 20)).toNatClampNeg) = 14
                                · have k := zit h14_ k
                                  refine Zm.l (fun _ _ k_ => z_tableIn (off := 238) (tgt := 262) dX8_settingOf_24 (by rw [h14_]; decide) (by rw [h14_]; decide) (by rw [h14_]; rfl) rfl k_) ?_
                                  refine Zm.l (fun _ _ k_ => z_iconst (v := -1) dX8_settingOf_262 rfl k_) ?_
                                  exact zm_iret dX8_settingOf_263 rfl rfl k
                                · have k := zif h14_ k
                                  by_cases h15_ : (gi M 104 ((gi M 97 20)).toNatClampNeg) = 15
                                  · have k := zit h15_ k
                                    refine Zm.l (fun _ _ k_ => z_tableIn (off := 238) (tgt := 262) dX8_settingOf_24 (by rw [h15_]; decide) (by rw [h15_]; decide) (by rw [h15_]; rfl) rfl k_) ?_
                                    refine Zm.l (fun _ _ k_ => z_iconst (v := -1) dX8_settingOf_262 rfl k_) ?_
                                    exact zm_iret dX8_settingOf_263 rfl rfl k
                                  · have k := zif h15_ k
                                    by_cases h16_ : (gi M 104 ((gi M 97 20)).toNatClampNeg) = 16
                                    · have k := zit h16_ k
                                      refine Zm.l (fun _ _ k_ => z_tableIn (off := 211) (tgt := 235) dX8_settingOf_24 (by rw [h16_]; decide) (by rw [h16_]; decide) (by rw [h16_]; rfl) rfl k_) ?_
                                      refine Zm.l (fun _ _ k_ => z_iconst (v := 0) dX8_settingOf_235 rfl k_) ?_
                                      exact zm_iret dX8_settingOf_236 rfl rfl k
                                    · have k := zif h16_ k
                                      by_cases h17_ : (gi M 104 ((gi M 97 20)).toNatClampNeg) = 17
                                      · have k := zit h17_ k
                                        refine Zm.l (fun _ _ k_ => z_tableIn (off := 213) (tgt := 237) dX8_settingOf_24 (by rw [h17_]; decide) (by rw [h17_]; decide) (by rw [h17_]; rfl) rfl k_) ?_
                                        refine Zm.l (fun _ _ k_ => z_iconst (v := 1) dX8_settingOf_237 rfl k_) ?_
                                        exact zm_iret dX8_settingOf_238 rfl rfl k
                                      · have k := zif h17_ k
                                        by_cases h18_ : (gi M 104 ((gi M 97 20)).toNatClampNeg) = 18
                                        · have k := zit h18_ k
                                          refine Zm.l (fun _ _ k_ => z_tableIn (off := 215) (tgt := 239) dX8_settingOf_24 (by rw [h18_]; decide) (by rw [h18_]; decide) (by rw [h18_]; rfl) rfl k_) ?_
                                          refine Zm.l (fun _ _ k_ => z_iconst (v := 2) dX8_settingOf_239 rfl k_) ?_
                                          exact zm_iret dX8_settingOf_240 rfl rfl k
                                        · have k := zif h18_ k
                                          by_cases h19_ : (gi M 104 ((gi M 97 20)).toNatClampNeg) = 19
                                          · have k := zit h19_ k
                                            refine Zm.l (fun _ _ k_ => z_tableIn (off := 217) (tgt := 241) dX8_settingOf_24 (by rw [h19_]; decide) (by rw [h19_]; decide) (by rw [h19_]; rfl) rfl k_) ?_
                                            refine Zm.l (fun _ _ k_ => z_iconst (v := 3) dX8_settingOf_241 rfl k_) ?_
                                            exact zm_iret dX8_settingOf_242 rfl rfl k
                                          · have k := zif h19_ k
                                            by_cases h20_ : (gi M 104 ((gi M 97 20)).toNatClampNeg) = 20
                                            · have k := zit h20_ k
                                              refine Zm.l (fun _ _ k_ => z_tableIn (off := 219) (tgt := 243) dX8_settingOf_24 (by rw [h20_]; decide) (by rw [h20_]; decide) (by rw [h20_]; rfl) rfl k_) ?_
                                              refine Zm.l (fun _ _ k_ => z_iconst (v := 4) dX8_settingOf_243 rfl k_) ?_
                                              exact zm_iret dX8_settingOf_244 rfl rfl k
                                            · have k := zif h20_ k
                                              by_cases h21_ : (gi M 104 ((gi M 97 20)).toNatClampNeg) = 21
                                              · have k := zit h21_ k
                                                refine Zm.l (fun _ _ k_ => z_tableIn (off := 229) (tgt := 253) dX8_settingOf_24 (by rw [h21_]; decide) (by rw [h21_]; decide) (by rw [h21_]; rfl) rfl k_) ?_
                                                refine Zm.l (fun _ _ k_ => z_bipush (v := 8) dX8_settingOf_253 rfl k_) ?_
                                                exact zm_iret dX8_settingOf_255 rfl rfl k
                                              · have k := zif h21_ k
                                                by_cases h22_ : (gi M 104 ((gi M 97 20)).toNatClampNeg) = 22
                                                · have k := zit h22_ k
                                                  refine Zm.l (fun _ _ k_ => z_tableIn (off := 232) (tgt := 256) dX8_settingOf_24 (by rw [h22_]; decide) (by rw [h22_]; decide) (by rw [h22_]; rfl) rfl k_) ?_
                                                  refine Zm.l (fun _ _ k_ => z_bipush (v := 9) dX8_settingOf_256 rfl k_) ?_
                                                  exact zm_iret dX8_settingOf_258 rfl rfl k
                                                · have k := zif h22_ k
                                                  by_cases h23_ : (gi M 104 ((gi M 97 20)).toNatClampNeg) = 23
                                                  · have k := zit h23_ k
                                                    refine Zm.l (fun _ _ k_ => z_tableIn (off := 235) (tgt := 259) dX8_settingOf_24 (by rw [h23_]; decide) (by rw [h23_]; decide) (by rw [h23_]; rfl) rfl k_) ?_
                                                    refine Zm.l (fun _ _ k_ => z_bipush (v := 10) dX8_settingOf_259 rfl k_) ?_
                                                    exact zm_iret dX8_settingOf_261 rfl rfl k
                                                  · have k := zif h23_ k
                                                    by_cases h24_ : (gi M 104 ((gi M 97 20)).toNatClampNeg) = 24
                                                    · have k := zit h24_ k
                                                      refine Zm.l (fun _ _ k_ => z_tableIn (off := 238) (tgt := 262) dX8_settingOf_24 (by rw [h24_]; decide) (by rw [h24_]; decide) (by rw [h24_]; rfl) rfl k_) ?_
                                                      refine Zm.l (fun _ _ k_ => z_iconst (v := -1) dX8_settingOf_262 rfl k_) ?_
                                                      exact zm_iret dX8_settingOf_263 rfl rfl k
                                                    · have k := zif h24_ k
                                                      by_cases h25_ : (gi M 104 ((gi M 97 20)).toNatClampNeg) = 25
                                                      · have k := zit h25_ k
                                                        refine Zm.l (fun _ _ k_ => z_tableIn (off := 238) (tgt := 262) dX8_settingOf_24 (by rw [h25_]; decide) (by rw [h25_]; decide) (by rw [h25_]; rfl) rfl k_) ?_
                                                        refine Zm.l (fun _ _ k_ => z_iconst (v := -1) dX8_settingOf_262 rfl k_) ?_
                                                        exact zm_iret dX8_settingOf_263 rfl rfl k
                                                      · have k := zif h25_ k
                                                        by_cases h26_ : (gi M 104 ((gi M 97 20)).toNatClampNeg) = 26
                                                        · have k := zit h26_ k
                                                          refine Zm.l (fun _ _ k_ => z_tableIn (off := 238) (tgt := 262) dX8_settingOf_24 (by rw [h26_]; decide) (by rw [h26_]; decide) (by rw [h26_]; rfl) rfl k_) ?_
                                                          refine Zm.l (fun _ _ k_ => z_iconst (v := -1) dX8_settingOf_262 rfl k_) ?_
                                                          exact zm_iret dX8_settingOf_263 rfl rfl k
                                                        · have k := zif h26_ k
                                                          by_cases h27_ : (gi M 104 ((gi M 97 20)).toNatClampNeg) = 27
                                                          · have k := zit h27_ k
                                                            refine Zm.l (fun _ _ k_ => z_tableIn (off := 238) (tgt := 262) dX8_settingOf_24 (by rw [h27_]; decide) (by rw [h27_]; decide) (by rw [h27_]; rfl) rfl k_) ?_
                                                            refine Zm.l (fun _ _ k_ => z_iconst (v := -1) dX8_settingOf_262 rfl k_) ?_
                                                            exact zm_iret dX8_settingOf_263 rfl rfl k
                                                          · have k := zif h27_ k
                                                            by_cases h28_ : (gi M 104 ((gi M 97 20)).toNatClampNeg) = 28
                                                            · have k := zit h28_ k
                                                              refine Zm.l (fun _ _ k_ => z_tableIn (off := 238) (tgt := 262) dX8_settingOf_24 (by rw [h28_]; decide) (by rw [h28_]; decide) (by rw [h28_]; rfl) rfl k_) ?_
                                                              refine Zm.l (fun _ _ k_ => z_iconst (v := -1) dX8_settingOf_262 rfl k_) ?_
                                                              exact zm_iret dX8_settingOf_263 rfl rfl k
                                                            · have k := zif h28_ k
                                                              by_cases h29_ : (gi M 104 ((gi M 97 20)).toNatClampNeg) = 29
                                                              · have k := zit h29_ k
                                                                refine Zm.l (fun _ _ k_ => z_tableIn (off := 238) (tgt := 262) dX8_settingOf_24 (by rw [h29_]; decide) (by rw [h29_]; decide) (by rw [h29_]; rfl) rfl k_) ?_
                                                                refine Zm.l (fun _ _ k_ => z_iconst (v := -1) dX8_settingOf_262 rfl k_) ?_
                                                                exact zm_iret dX8_settingOf_263 rfl rfl k
                                                              · have k := zif h29_ k
                                                                by_cases h30_ : (gi M 104 ((gi M 97 20)).toNatClampNeg) = 30
                                                                · have k := zit h30_ k
                                                                  refine Zm.l (fun _ _ k_ => z_tableIn (off := 238) (tgt := 262) dX8_settingOf_24 (by rw [h30_]; decide) (by rw [h30_]; decide) (by rw [h30_]; rfl) rfl k_) ?_
                                                                  refine Zm.l (fun _ _ k_ => z_iconst (v := -1) dX8_settingOf_262 rfl k_) ?_
                                                                  exact zm_iret dX8_settingOf_263 rfl rfl k
                                                                · have k := zif h30_ k
                                                                  by_cases h31_ : (gi M 104 ((gi M 97 20)).toNatClampNeg) = 31
                                                                  · have k := zit h31_ k
                                                                    refine Zm.l (fun _ _ k_ => z_tableIn (off := 238) (tgt := 262) dX8_settingOf_24 (by rw [h31_]; decide) (by rw [h31_]; decide) (by rw [h31_]; rfl) rfl k_) ?_
                                                                    refine Zm.l (fun _ _ k_ => z_iconst (v := -1) dX8_settingOf_262 rfl k_) ?_
                                                                    exact zm_iret dX8_settingOf_263 rfl rfl k
                                                                  · have k := zif h31_ k
                                                                    by_cases h32_ : (gi M 104 ((gi M 97 20)).toNatClampNeg) = 32
                                                                    · have k := zit h32_ k
                                                                      refine Zm.l (fun _ _ k_ => z_tableIn (off := 238) (tgt := 262) dX8_settingOf_24 (by rw [h32_]; decide) (by rw [h32_]; decide) (by rw [h32_]; rfl) rfl k_) ?_
                                                                      refine Zm.l (fun _ _ k_ => z_iconst (v := -1) dX8_settingOf_262 rfl k_) ?_
                                                                      exact zm_iret dX8_settingOf_263 rfl rfl k
                                                                    · have k := zif h32_ k
                                                                      by_cases h33_ : (gi M 104 ((gi M 97 20)).toNatClampNeg) = 33
                                                                      · have k := zit h33_ k
                                                                        refine Zm.l (fun _ _ k_ => z_tableIn (off := 238) (tgt := 262) dX8_settingOf_24 (by rw [h33_]; decide) (by rw [h33_]; decide) (by rw [h33_]; rfl) rfl k_) ?_
                                                                        refine Zm.l (fun _ _ k_ => z_iconst (v := -1) dX8_settingOf_262 rfl k_) ?_
                                                                        exact zm_iret dX8_settingOf_263 rfl rfl k
                                                                      · have k := zif h33_ k
                                                                        by_cases h34_ : (gi M 104 ((gi M 97 20)).toNatClampNeg) = 34
                                                                        · have k := zit h34_ k
                                                                          refine Zm.l (fun _ _ k_ => z_tableIn (off := 238) (tgt := 262) dX8_settingOf_24 (by rw [h34_]; decide) (by rw [h34_]; decide) (by rw [h34_]; rfl) rfl k_) ?_
                                                                          refine Zm.l (fun _ _ k_ => z_iconst (v := -1) dX8_settingOf_262 rfl k_) ?_
                                                                          exact zm_iret dX8_settingOf_263 rfl rfl k
                                                                        · have k := zif h34_ k
                                                                          by_cases h35_ : (gi M 104 ((gi M 97 20)).toNatClampNeg) = 35
                                                                          · have k := zit h35_ k
                                                                            refine Zm.l (fun _ _ k_ => z_tableIn (off := 238) (tgt := 262) dX8_settingOf_24 (by rw [h35_]; decide) (by rw [h35_]; decide) (by rw [h35_]; rfl) rfl k_) ?_
                                                                            refine Zm.l (fun _ _ k_ => z_iconst (v := -1) dX8_settingOf_262 rfl k_) ?_
                                                                            exact zm_iret dX8_settingOf_263 rfl rfl k
                                                                          · have k := zif h35_ k
                                                                            by_cases h36_ : (gi M 104 ((gi M 97 20)).toNatClampNeg) = 36
                                                                            · have k := zit h36_ k
                                                                              refine Zm.l (fun _ _ k_ => z_tableIn (off := 238) (tgt := 262) dX8_settingOf_24 (by rw [h36_]; decide) (by rw [h36_]; decide) (by rw [h36_]; rfl) rfl k_) ?_
                                                                              refine Zm.l (fun _ _ k_ => z_iconst (v := -1) dX8_settingOf_262 rfl k_) ?_
                                                                              exact zm_iret dX8_settingOf_263 rfl rfl k
                                                                            · have k := zif h36_ k
                                                                              by_cases h37_ : (gi M 104 ((gi M 97 20)).toNatClampNeg) = 37
                                                                              · have k := zit h37_ k
                                                                                refine Zm.l (fun _ _ k_ => z_tableIn (off := 238) (tgt := 262) dX8_settingOf_24 (by rw [h37_]; decide) (by rw [h37_]; decide) (by rw [h37_]; rfl) rfl k_) ?_
                                                                                refine Zm.l (fun _ _ k_ => z_iconst (v := -1) dX8_settingOf_262 rfl k_) ?_
                                                                                exact zm_iret dX8_settingOf_263 rfl rfl k
                                                                              · have k := zif h37_ k
                                                                                by_cases h38_ : (gi M 104 ((gi M 97 20)).toNatClampNeg) = 38
                                                                                · have k := zit h38_ k
                                                                                  refine Zm.l (fun _ _ k_ => z_tableIn (off := 238) (tgt := 262) dX8_settingOf_24 (by rw [h38_]; decide) (by rw [h38_]; decide) (by rw [h38_]; rfl) rfl k_) ?_
                                                                                  refine Zm.l (fun _ _ k_ => z_iconst (v := -1) dX8_settingOf_262 rfl k_) ?_
                                                                                  exact zm_iret dX8_settingOf_263 rfl rfl k
                                                                                · have k := zif h38_ k
                                                                                  by_cases h39_ : (gi M 104 ((gi M 97 20)).toNatClampNeg) = 39
                                                                                  · have k := zit h39_ k
                                                                                    refine Zm.l (fun _ _ k_ => z_tableIn (off := 238) (tgt := 262) dX8_settingOf_24 (by rw [h39_]; decide) (by rw [h39_]; decide) (by rw [h39_]; rfl) rfl k_) ?_
                                                                                    refine Zm.l (fun _ _ k_ => z_iconst (v := -1) dX8_settingOf_262 rfl k_) ?_
                                                                                    exact zm_iret dX8_settingOf_263 rfl rfl k
                                                                                  · have k := zif h39_ k
                                                                                    by_cases h40_ : (gi M 104 ((gi M 97 20)).toNatClampNeg) = 40
                                                                                    · have k := zit h40_ k
                                                                                      refine Zm.l (fun _ _ k_ => z_tableIn (off := 238) (tgt := 262) dX8_settingOf_24 (by rw [h40_]; decide) (by rw [h40_]; decide) (by rw [h40_]; rfl) rfl k_) ?_
                                                                                      refine Zm.l (fun _ _ k_ => z_iconst (v := -1) dX8_settingOf_262 rfl k_) ?_
                                                                                      exact zm_iret dX8_settingOf_263 rfl rfl k
                                                                                    · have k := zif h40_ k
                                                                                      by_cases h41_ : (gi M 104 ((gi M 97 20)).toNatClampNeg) = 41
                                                                                      · have k := zit h41_ k
                                                                                        refine Zm.l (fun _ _ k_ => z_tableIn (off := 238) (tgt := 262) dX8_settingOf_24 (by rw [h41_]; decide) (by rw [h41_]; decide) (by rw [h41_]; rfl) rfl k_) ?_
                                                                                        refine Zm.l (fun _ _ k_ => z_iconst (v := -1) dX8_settingOf_262 rfl k_) ?_
                                                                                        exact zm_iret dX8_settingOf_263 rfl rfl k
                                                                                      · have k := zif h41_ k
                                                                                        by_cases h42_ : (gi M 104 ((gi M 97 20)).toNatClampNeg) = 42
                                                                                        · have k := zit h42_ k
                                                                                          refine Zm.l (fun _ _ k_ => z_tableIn (off := 238) (tgt := 262) dX8_settingOf_24 (by rw [h42_]; decide) (by rw [h42_]; decide) (by rw [h42_]; rfl) rfl k_) ?_
                                                                                          refine Zm.l (fun _ _ k_ => z_iconst (v := -1) dX8_settingOf_262 rfl k_) ?_
                                                                                          exact zm_iret dX8_settingOf_263 rfl rfl k
                                                                                        · have k := zif h42_ k
                                                                                          by_cases h43_ : (gi M 104 ((gi M 97 20)).toNatClampNeg) = 43
                                                                                          · have k := zit h43_ k
                                                                                            refine Zm.l (fun _ _ k_ => z_tableIn (off := 238) (tgt := 262) dX8_settingOf_24 (by rw [h43_]; decide) (by rw [h43_]; decide) (by rw [h43_]; rfl) rfl k_) ?_
                                                                                            refine Zm.l (fun _ _ k_ => z_iconst (v := -1) dX8_settingOf_262 rfl k_) ?_
                                                                                            exact zm_iret dX8_settingOf_263 rfl rfl k
                                                                                          · have k := zif h43_ k
                                                                                            by_cases h44_ : (gi M 104 ((gi M 97 20)).toNatClampNeg) = 44
                                                                                            · have k := zit h44_ k
                                                                                              refine Zm.l (fun _ _ k_ => z_tableIn (off := 238) (tgt := 262) dX8_settingOf_24 (by rw [h44_]; decide) (by rw [h44_]; decide) (by rw [h44_]; rfl) rfl k_) ?_
                                                                                              refine Zm.l (fun _ _ k_ => z_iconst (v := -1) dX8_settingOf_262 rfl k_) ?_
                                                                                              exact zm_iret dX8_settingOf_263 rfl rfl k
                                                                                            · have k := zif h44_ k
                                                                                              by_cases h45_ : (gi M 104 ((gi M 97 20)).toNatClampNeg) = 45
                                                                                              · have k := zit h45_ k
                                                                                                refine Zm.l (fun _ _ k_ => z_tableIn (off := 238) (tgt := 262) dX8_settingOf_24 (by rw [h45_]; decide) (by rw [h45_]; decide) (by rw [h45_]; rfl) rfl k_) ?_
                                                                                                refine Zm.l (fun _ _ k_ => z_iconst (v := -1) dX8_settingOf_262 rfl k_) ?_
                                                                                                exact zm_iret dX8_settingOf_263 rfl rfl k
                                                                                              · have k := zif h45_ k
                                                                                                by_cases h46_ : (gi M 104 ((gi M 97 20)).toNatClampNeg) = 46
                                                                                                · have k := zit h46_ k
                                                                                                  refine Zm.l (fun _ _ k_ => z_tableIn (off := 238) (tgt := 262) dX8_settingOf_24 (by rw [h46_]; decide) (by rw [h46_]; decide) (by rw [h46_]; rfl) rfl k_) ?_
                                                                                                  refine Zm.l (fun _ _ k_ => z_iconst (v := -1) dX8_settingOf_262 rfl k_) ?_
                                                                                                  exact zm_iret dX8_settingOf_263 rfl rfl k
                                                                                                · have k := zif h46_ k
                                                                                                  by_cases h47_ : (gi M 104 ((gi M 97 20)).toNatClampNeg) = 47
                                                                                                  · have k := zit h47_ k
                                                                                                    refine Zm.l (fun _ _ k_ => z_tableIn (off := 208) (tgt := 232) dX8_settingOf_24 (by rw [h47_]; decide) (by rw [h47_]; decide) (by rw [h47_]; rfl) rfl k_) ?_
                                                                                                    refine Zm.l (fun _ _ k_ => z_bipush (v := 99) dX8_settingOf_232 rfl k_) ?_
                                                                                                    exact zm_iret dX8_settingOf_234 rfl rfl k
                                                                                                  · have k := zif h47_ k
                                                                                                    refine Zm.l (fun _ _ k_ => z_tout (tgt := 262) [0, 1, 2, 3, 4, 5, 6, 7, 8, 9, 10, 11, 12, 13, 14, 15, 16, 17, 18, 19, 20, 21, 22, 23, 24, 25, 26, 27, 28, 29, 30, 31, 32, 33, 34, 35, 36, 37, 38, 39, 40, 41, 42, 43, 44, 45, 46, 47] (by decide) dX8_settingOf_24 (zall_1 h0_ (zall_1 h1_ (zall_1 h2_ (zall_1 h3_ (zall_1 h4_ (zall_1 h5_ (zall_1 h6_ (zall_1 h7_ (zall_1 h8_ (zall_1 h9_ (zall_1 h10_ (zall_1 h11_ (zall_1 h12_ (zall_1 h13_ (zall_1 h14_ (zall_1 h15_ (zall_1 h16_ (zall_1 h17_ (zall_1 h18_ (zall_1 h19_ (zall_1 h20_ (zall_1 h21_ (zall_1 h22_ (zall_1 h23_ (zall_1 h24_ (zall_1 h25_ (zall_1 h26_ (zall_1 h27_ (zall_1 h28_ (zall_1 h29_ (zall_1 h30_ (zall_1 h31_ (zall_1 h32_ (zall_1 h33_ (zall_1 h34_ (zall_1 h35_ (zall_1 h36_ (zall_1 h37_ (zall_1 h38_ (zall_1 h39_ (zall_1 h40_ (zall_1 h41_ (zall_1 h42_ (zall_1 h43_ (zall_1 h44_ (zall_1 h45_ (zall_1 h46_ (zall_1 h47_ zall_0)))))))))))))))))))))))))))))))))))))))))))))))) rfl k_) ?_
                                                                                                    refine Zm.l (fun _ _ k_ => z_iconst (v := -1) dX8_settingOf_262 rfl k_) ?_
                                                                                                    exact zm_iret dX8_settingOf_263 rfl rfl k
  · have k := zif h_ k
    refine Zm.l (fun _ _ k_ => z_iconst (v := -1) dX8_settingOf_13 rfl k_) ?_
    exact zm_iret dX8_settingOf_14 rfl rfl k
/-! ScriptTypesModel.endOfStatement()V -/
theorem bX8_endOfStatement_0 : zdec cX8_endOfStatement 0 [(0, .aload_n 0, 1), (1, .getfield 389, 3), (4, .ifCond .le 4, 3), (7, .return_, 1), (8, .aload_n 0, 1), (9, .bipush 31, 2), (11, .invokevirtual 398, 3), (14, .ifCond .eq 16, 3), (17, .aload_n 0, 1), (18, .dup, 1), (19, .getfield 392, 3), (22, .iconst 1, 1), (23, .iadd, 1), (24, .putfield 392, 3), (27, .goto 53, 3), (30, .aload_n 0, 1)] = true := by decide +kernel
theorem dX8_endOfStatement_0 : decode cX8_endOfStatement 0 = .ok (.aload_n 0, 1) := zdec_at bX8_endOfStatement_0 0 rfl
theorem dX8_endOfStatement_1 : decode cX8_endOfStatement 1 = .ok (.getfield 389, 3) := zdec_at bX8_endOfStatement_0 1 rfl
theorem dX8_endOfStatement_4 : decode cX8_endOfStatement 4 = .ok (.ifCond .le 4, 3) := zdec_at bX8_endOfStatement_0 2 rfl
theorem dX8_endOfStatement_7 : decode cX8_endOfStatement 7 = .ok (.return_, 1) := zdec_at bX8_endOfStatement_0 3 rfl
theorem dX8_endOfStatement_8 : decode cX8_endOfStatement 8 = .ok (.aload_n 0, 1) := zdec_at bX8_endOfStatement_0 4 rfl
theorem dX8_endOfStatement_9 : decode cX8_endOfStatement 9 = .ok (.bipush 31, 2) := zdec_at bX8_endOfStatement_0 5 rfl
theorem dX8_endOfStatement_11 : decode cX8_endOfStatement 11 = .ok (.invokevirtual 398, 3) := zdec_at bX8_endOfStatement_0 6 rfl
theorem dX8_endOfStatement_14 : decode cX8_endOfStatement 14 = .ok (.ifCond .eq 16, 3) := zdec_at bX8_endOfStatement_0 7 rfl
theorem dX8_endOfStatement_17 : decode cX8_endOfStatement 17 = .ok (.aload_n 0, 1) := zdec_at bX8_endOfStatement_0 8 rfl
theorem dX8_endOfStatement_18 : decode cX8_endOfStatement 18 = .ok (.dup, 1) := zdec_at bX8_endOfStatement_0 9 rfl
theorem dX8_endOfStatement_19 : decode cX8_endOfStatement 19 = .ok (.getfield 392, 3) := zdec_at bX8_endOfStatement_0 10 rfl
theorem dX8_endOfStatement_22 : decode cX8_endOfStatement 22 = .ok (.iconst 1, 1) := zdec_at bX8_endOfStatement_0 11 rfl
theorem dX8_endOfStatement_23 : decode cX8_endOfStatement 23 = .ok (.iadd, 1) := zdec_at bX8_endOfStatement_0 12 rfl
theorem dX8_endOfStatement_24 : decode cX8_endOfStatement 24 = .ok (.putfield 392, 3) := zdec_at bX8_endOfStatement_0 13 rfl
theorem dX8_endOfStatement_27 : decode cX8_endOfStatement 27 = .ok (.goto 53, 3) := zdec_at bX8_endOfStatement_0 14 rfl
theorem dX8_endOfStatement_30 : decode cX8_endOfStatement 30 = .ok (.aload_n 0, 1) := zdec_at bX8_endOfStatement_0 15 rfl
theorem bX8_endOfStatement_31 : zdec cX8_endOfStatement 31 [(31, .bipush 25, 2), (33, .invokevirtual 398, 3), (36, .ifCond .ne 44, 3), (39, .aload_n 0, 1), (40, .getfield 27, 3), (43, .aload_n 0, 1), (44, .getfield 392, 3), (47, .iaload, 1), (48, .ifCond .eq 32, 3), (51, .aload_n 0, 1), (52, .getfield 39, 3), (55, .aload_n 0, 1), (56, .getfield 392, 3), (59, .iaload, 1), (60, .aload_n 0, 1), (61, .getfield 39, 3)] = true := by decide +kernel
theorem dX8_endOfStatement_31 : decode cX8_endOfStatement 31 = .ok (.bipush 25, 2) := zdec_at bX8_endOfStatement_31 0 rfl
theorem dX8_endOfStatement_33 : decode cX8_endOfStatement 33 = .ok (.invokevirtual 398, 3) := zdec_at bX8_endOfStatement_31 1 rfl
theorem dX8_endOfStatement_36 : decode cX8_endOfStatement 36 = .ok (.ifCond .ne 44, 3) := zdec_at bX8_endOfStatement_31 2 rfl
theorem dX8_endOfStatement_39 : decode cX8_endOfStatement 39 = .ok (.aload_n 0, 1) := zdec_at bX8_endOfStatement_31 3 rfl
theorem dX8_endOfStatement_40 : decode cX8_endOfStatement 40 = .ok (.getfield 27, 3) := zdec_at bX8_endOfStatement_31 4 rfl
theorem dX8_endOfStatement_43 : decode cX8_endOfStatement 43 = .ok (.aload_n 0, 1) := zdec_at bX8_endOfStatement_31 5 rfl
theorem dX8_endOfStatement_44 : decode cX8_endOfStatement 44 = .ok (.getfield 392, 3) := zdec_at bX8_endOfStatement_31 6 rfl
theorem dX8_endOfStatement_47 : decode cX8_endOfStatement 47 = .ok (.iaload, 1) := zdec_at bX8_endOfStatement_31 7 rfl
theorem dX8_endOfStatement_48 : decode cX8_endOfStatement 48 = .ok (.ifCond .eq 32, 3) := zdec_at bX8_endOfStatement_31 8 rfl
theorem dX8_endOfStatement_51 : decode cX8_endOfStatement 51 = .ok (.aload_n 0, 1) := zdec_at bX8_endOfStatement_31 9 rfl
theorem dX8_endOfStatement_52 : decode cX8_endOfStatement 52 = .ok (.getfield 39, 3) := zdec_at bX8_endOfStatement_31 10 rfl
theorem dX8_endOfStatement_55 : decode cX8_endOfStatement 55 = .ok (.aload_n 0, 1) := zdec_at bX8_endOfStatement_31 11 rfl
theorem dX8_endOfStatement_56 : decode cX8_endOfStatement 56 = .ok (.getfield 392, 3) := zdec_at bX8_endOfStatement_31 12 rfl
theorem dX8_endOfStatement_59 : decode cX8_endOfStatement 59 = .ok (.iaload, 1) := zdec_at bX8_endOfStatement_31 13 rfl
theorem dX8_endOfStatement_60 : decode cX8_endOfStatement 60 = .ok (.aload_n 0, 1) := zdec_at bX8_endOfStatement_31 14 rfl
theorem dX8_endOfStatement_61 : decode cX8_endOfStatement 61 = .ok (.getfield 39, 3) := zdec_at bX8_endOfStatement_31 15 rfl
theorem bX8_endOfStatement_64 : zdec cX8_endOfStatement 64 [(64, .aload_n 0, 1), (65, .getfield 392, 3), (68, .iconst 1, 1), (69, .isub, 1), (70, .iaload, 1), (71, .if_icmp .ne 9, 3), (74, .aload_n 0, 1), (75, .iconst 2, 1), (76, .invokevirtual 401, 3), (79, .pop, 1), (80, .return_, 1)] = true := by decide +kernel
theorem dX8_endOfStatement_64 : decode cX8_endOfStatement 64 = .ok (.aload_n 0, 1) := zdec_at bX8_endOfStatement_64 0 rfl
theorem dX8_endOfStatement_65 : decode cX8_endOfStatement 65 = .ok (.getfield 392, 3) := zdec_at bX8_endOfStatement_64 1 rfl
theorem dX8_endOfStatement_68 : decode cX8_endOfStatement 68 = .ok (.iconst 1, 1) := zdec_at bX8_endOfStatement_64 2 rfl
theorem dX8_endOfStatement_69 : decode cX8_endOfStatement 69 = .ok (.isub, 1) := zdec_at bX8_endOfStatement_64 3 rfl
theorem dX8_endOfStatement_70 : decode cX8_endOfStatement 70 = .ok (.iaload, 1) := zdec_at bX8_endOfStatement_64 4 rfl
theorem dX8_endOfStatement_71 : decode cX8_endOfStatement 71 = .ok (.if_icmp .ne 9, 3) := zdec_at bX8_endOfStatement_64 5 rfl
theorem dX8_endOfStatement_74 : decode cX8_endOfStatement 74 = .ok (.aload_n 0, 1) := zdec_at bX8_endOfStatement_64 6 rfl
theorem dX8_endOfStatement_75 : decode cX8_endOfStatement 75 = .ok (.iconst 2, 1) := zdec_at bX8_endOfStatement_64 7 rfl
theorem dX8_endOfStatement_76 : decode cX8_endOfStatement 76 = .ok (.invokevirtual 401, 3) := zdec_at bX8_endOfStatement_64 8 rfl
theorem dX8_endOfStatement_79 : decode cX8_endOfStatement 79 = .ok (.pop, 1) := zdec_at bX8_endOfStatement_64 9 rfl
theorem dX8_endOfStatement_80 : decode cX8_endOfStatement 80 = .ok (.return_, 1) := zdec_at bX8_endOfStatement_64 10 rfl
theorem sX8_endOfStatement_0 {E : zE} {d : Nat} {Q : zO → zM → Prop} (M : zM)  (k : if (gi M 97 21) ≤ 0 then (Zm E YX8_isSign d M (zargs 0 [vr (some (97, 1, 0)), vi (31 : Int32)]) 0 [] (zma E YX8_endOfStatement (d + 1) [(0, vr (some (97, 1, 0)))] 11 3 [] Q)) else (Q (.inl none) M)) : Zm E YX8_endOfStatement (d + 1) M [(0, vr (some (97, 1, 0)))] 0 [] Q := by
  refine Zm.l (fun _ _ k_ => z_aload_n dX8_endOfStatement_0 rfl rfl k_) ?_
  refine zm_geti dX8_endOfStatement_1 fsX8_389_1 (by decide) (by decide) ?_
  refine Zm.br (fun _ _ k1_ k2_ => z_if_le (tgt := 8) dX8_endOfStatement_4 rfl k1_ k2_) (fun h_ => ?_) (fun h_ => ?_)
  · have k := zit h_ k
    refine Zm.l (fun _ _ k_ => z_aload_n dX8_endOfStatement_8 rfl rfl k_) ?_
    refine Zm.l (fun _ _ k_ => z_bipush (v := 31) dX8_endOfStatement_9 rfl k_) ?_
    exact zm_callV (as := [vi (31 : Int32)]) (st := []) dX8_endOfStatement_11 vsX8_398_1 (Nat.le_refl _) (Nat.le_of_ble_eq_true rfl) (Nat.le_of_ble_eq_true rfl) rfl k
  · have k := zif h_ k
    exact zm_vret dX8_endOfStatement_7 rfl k
theorem sX8_endOfStatement_14 {E : zE} {d : Nat} {Q : zO → zM → Prop} (M : zM) (s0 : Int32) (k : if s0 = 0 then (Zm E YX8_isSign d M (zargs 0 [vr (some (97, 1, 0)), vi (25 : Int32)]) 0 [] (zma E YX8_endOfStatement (d + 1) [(0, vr (some (97, 1, 0)))] 33 3 [] Q)) else (Q (.inl none) (si M 97 20 ((gi M 97 20) + (1 : Int32))))) : Zm E YX8_endOfStatement (d + 1) M [(0, vr (some (97, 1, 0)))] 14 [vi s0] Q := by
  refine Zm.br (fun _ _ k1_ k2_ => z_if_eq (tgt := 30) dX8_endOfStatement_14 rfl k1_ k2_) (fun h_ => ?_) (fun h_ => ?_)
  · have k := zit h_ k
    refine Zm.l (fun _ _ k_ => z_aload_n dX8_endOfStatement_30 rfl rfl k_) ?_
    refine Zm.l (fun _ _ k_ => z_bipush (v := 25) dX8_endOfStatement_31 rfl k_) ?_
    exact zm_callV (as := [vi (25 : Int32)]) (st := []) dX8_endOfStatement_33 vsX8_398_1 (Nat.le_refl _) (Nat.le_of_ble_eq_true rfl) (Nat.le_of_ble_eq_true rfl) rfl k
  · have k := zif h_ k
    refine Zm.l (fun _ _ k_ => z_aload_n dX8_endOfStatement_17 rfl rfl k_) ?_
    refine Zm.l (fun _ _ k_ => z_dup dX8_endOfStatement_18 rfl k_) ?_
    refine zm_geti dX8_endOfStatement_19 fsX8_392_1 (by decide) (by decide) ?_
    refine Zm.l (fun _ _ k_ => z_iconst (v := 1) dX8_endOfStatement_22 rfl k_) ?_
    refine Zm.l (fun _ _ k_ => z_iadd dX8_endOfStatement_23 k_) ?_
    refine zm_puti (by decide) (by decide) dX8_endOfStatement_24 (zfwN.w fwX8_392_1) rfl ⟨rfl, rfl⟩ ?_
    refine Zm.l (fun _ _ k_ => z_goto (tgt := 80) dX8_endOfStatement_27 rfl k_) ?_
    exact zm_vret dX8_endOfStatement_80 rfl k
theorem sX8_endOfStatement_36 {E : zE} {d : Nat} {Q : zO → zM → Prop} (M : zM) (s0 : Int32) (k : if s0 = 0 then (vp_in (gi M 97 20) 4002 ∧ (if (gi M 103 ((gi M 97 20)).toNatClampNeg) = 0 then (Q (.inl none) M) else (vp_in (gi M 97 20) 4002 ∧ (vp_in ((gi M 97 20) - (1 : Int32)) 4002 ∧ (if (gi M 107 ((gi M 97 20)).toNatClampNeg) = (gi M 107 (((gi M 97 20) - (1 : Int32))).toNatClampNeg) then (Zm E YX8_fail d M (zargs 0 [vr (some (97, 1, 0)), vi (2 : Int32)]) 0 [] (zma E YX8_endOfStatement (d + 1) [] 76 3 [] Q)) else (Q (.inl none) M)))))) else (Q (.inl none) M)) : Zm E YX8_endOfStatement (d + 1) M [(0, vr (some (97, 1, 0)))] 36 [vi s0] Q := by
  refine Zm.brn (fun _ _ k1_ k2_ => z_if_ne (tgt := 80) dX8_endOfStatement_36 rfl k1_ k2_) (fun h_ => ?_) (fun h_ => ?_)
  · have k := zif h_ k
    exact zm_vret dX8_endOfStatement_80 rfl k
  · have k := zit h_ k
    refine Zm.l (fun _ _ k_ => z_aload_n dX8_endOfStatement_39 rfl rfl k_) ?_
    refine zm_getr 5 dX8_endOfStatement_40 fsX8_27_1 rfl ?_
    refine Zm.l (fun _ _ k_ => z_aload_n dX8_endOfStatement_43 rfl rfl k_) ?_
    refine zm_geti dX8_endOfStatement_44 fsX8_392_1 (by decide) (by decide) ?_
    obtain ⟨b_, k⟩ := k
    refine zm_iald dX8_endOfStatement_47 b_ (by decide) (by decide) ?_
    refine Zm.br (fun _ _ k1_ k2_ => z_if_eq (tgt := 80) dX8_endOfStatement_48 rfl k1_ k2_) (fun h_ => ?_) (fun h_ => ?_)
    · have k := zit h_ k
      exact zm_vret dX8_endOfStatement_80 rfl k
    · have k := zif h_ k
      refine Zm.l (fun _ _ k_ => z_aload_n dX8_endOfStatement_51 rfl rfl k_) ?_
      refine zm_getr 9 dX8_endOfStatement_52 fsX8_39_1 rfl ?_
      refine Zm.l (fun _ _ k_ => z_aload_n dX8_endOfStatement_55 rfl rfl k_) ?_
      refine zm_geti dX8_endOfStatement_56 fsX8_392_1 (by decide) (by decide) ?_
      obtain ⟨b_, k⟩ := k
      refine zm_iald dX8_endOfStatement_59 b_ (by decide) (by decide) ?_
      refine Zm.l (fun _ _ k_ => z_aload_n dX8_endOfStatement_60 rfl rfl k_) ?_
      refine zm_getr 9 dX8_endOfStatement_61 fsX8_39_1 rfl ?_
      refine Zm.l (fun _ _ k_ => z_aload_n dX8_endOfStatement_64 rfl rfl k_) ?_
      refine zm_geti dX8_endOfStatement_65 fsX8_392_1 (by decide) (by decide) ?_
      refine Zm.l (fun _ _ k_ => z_iconst (v := 1) dX8_endOfStatement_68 rfl k_) ?_
      refine Zm.l (fun _ _ k_ => z_isub dX8_endOfStatement_69 k_) ?_
      obtain ⟨b_, k⟩ := k
      refine zm_iald dX8_endOfStatement_70 b_ (by decide) (by decide) ?_
      refine Zm.brn (fun _ _ k1_ k2_ => z_icmp_ne (tgt := 80) dX8_endOfStatement_71 rfl k1_ k2_) (fun h_ => ?_) (fun h_ => ?_)
      · have k := zif h_ k
        exact zm_vret dX8_endOfStatement_80 rfl k
      · have k := zit h_ k
        refine Zm.l (fun _ _ k_ => z_aload_n dX8_endOfStatement_74 rfl rfl k_) ?_
        refine Zm.l (fun _ _ k_ => z_iconst (v := 2) dX8_endOfStatement_75 rfl k_) ?_
        refine Zm.pick [] rfl ?_
        exact zm_callV (as := [vi (2 : Int32)]) (st := []) dX8_endOfStatement_76 vsX8_401_1 (Nat.le_refl _) (Nat.le_of_ble_eq_true rfl) (Nat.le_of_ble_eq_true rfl) rfl k
theorem sX8_endOfStatement_79 {E : zE} {d : Nat} {Q : zO → zM → Prop} (M : zM) (s0 : Int32) (k : Q (.inl none) M) : Zm E YX8_endOfStatement (d + 1) M [] 79 [vi s0] Q := by
  refine Zm.l (fun _ _ k_ => z_pop dX8_endOfStatement_79 rfl k_) ?_
  exact zm_vret dX8_endOfStatement_80 rfl k
/-! ScriptTypesModel.declarations(Z)I -/
theorem bX8_declarations_0 : zdec cX8_declarations 0 [(0, .aload_n 0, 1), (1, .dup, 1), (2, .getfield 392, 3), (5, .iconst 1, 1), (6, .iadd, 1), (7, .putfield 392, 3), (10, .aload_n 0, 1), (11, .invokevirtual 509, 3), (14, .iconst 1, 1), (15, .istore_n 2, 1), (16, .iload_n 2, 1), (17, .ifCond .eq 103, 3), (20, .aload_n 0, 1), (21, .invokevirtual 536, 3), (24, .istore_n 3, 1), (25, .aload_n 0, 1)] = true := by decide +kernel
theorem dX8_declarations_0 : decode cX8_declarations 0 = .ok (.aload_n 0, 1) := zdec_at bX8_declarations_0 0 rfl
theorem dX8_declarations_1 : decode cX8_declarations 1 = .ok (.dup, 1) := zdec_at bX8_declarations_0 1 rfl
theorem dX8_declarations_2 : decode cX8_declarations 2 = .ok (.getfield 392, 3) := zdec_at bX8_declarations_0 2 rfl
theorem dX8_declarations_5 : decode cX8_declarations 5 = .ok (.iconst 1, 1) := zdec_at bX8_declarations_0 3 rfl
theorem dX8_declarations_6 : decode cX8_declarations 6 = .ok (.iadd, 1) := zdec_at bX8_declarations_0 4 rfl
theorem dX8_declarations_7 : decode cX8_declarations 7 = .ok (.putfield 392, 3) := zdec_at bX8_declarations_0 5 rfl
theorem dX8_declarations_10 : decode cX8_declarations 10 = .ok (.aload_n 0, 1) := zdec_at bX8_declarations_0 6 rfl
theorem dX8_declarations_11 : decode cX8_declarations 11 = .ok (.invokevirtual 509, 3) := zdec_at bX8_declarations_0 7 rfl
theorem dX8_declarations_14 : decode cX8_declarations 14 = .ok (.iconst 1, 1) := zdec_at bX8_declarations_0 8 rfl
theorem dX8_declarations_15 : decode cX8_declarations 15 = .ok (.istore_n 2, 1) := zdec_at bX8_declarations_0 9 rfl
theorem dX8_declarations_16 : decode cX8_declarations 16 = .ok (.iload_n 2, 1) := zdec_at bX8_declarations_0 10 rfl
theorem dX8_declarations_17 : decode cX8_declarations 17 = .ok (.ifCond .eq 103, 3) := zdec_at bX8_declarations_0 11 rfl
theorem dX8_declarations_20 : decode cX8_declarations 20 = .ok (.aload_n 0, 1) := zdec_at bX8_declarations_0 12 rfl
theorem dX8_declarations_21 : decode cX8_declarations 21 = .ok (.invokevirtual 536, 3) := zdec_at bX8_declarations_0 13 rfl
theorem dX8_declarations_24 : decode cX8_declarations 24 = .ok (.istore_n 3, 1) := zdec_at bX8_declarations_0 14 rfl
theorem dX8_declarations_25 : decode cX8_declarations 25 = .ok (.aload_n 0, 1) := zdec_at bX8_declarations_0 15 rfl
theorem bX8_declarations_26 : zdec cX8_declarations 26 [(26, .iload_n 3, 1), (27, .iconst 0, 1), (28, .invokevirtual 539, 3), (31, .iconst (-1), 1), (32, .istore 4, 2), (34, .aload_n 0, 1), (35, .getfield 389, 3), (38, .ifCond .ne 29, 3), (41, .aload_n 0, 1), (42, .bipush 47, 2), (44, .invokevirtual 398, 3), (47, .ifCond .eq 20, 3), (50, .aload_n 0, 1), (51, .dup, 1), (52, .getfield 392, 3), (55, .iconst 1, 1)] = true := by decide +kernel
theorem dX8_declarations_26 : decode cX8_declarations 26 = .ok (.iload_n 3, 1) := zdec_at bX8_declarations_26 0 rfl
theorem dX8_declarations_27 : decode cX8_declarations 27 = .ok (.iconst 0, 1) := zdec_at bX8_declarations_26 1 rfl
theorem dX8_declarations_28 : decode cX8_declarations 28 = .ok (.invokevirtual 539, 3) := zdec_at bX8_declarations_26 2 rfl
theorem dX8_declarations_31 : decode cX8_declarations 31 = .ok (.iconst (-1), 1) := zdec_at bX8_declarations_26 3 rfl
theorem dX8_declarations_32 : decode cX8_declarations 32 = .ok (.istore 4, 2) := zdec_at bX8_declarations_26 4 rfl
theorem dX8_declarations_34 : decode cX8_declarations 34 = .ok (.aload_n 0, 1) := zdec_at bX8_declarations_26 5 rfl
theorem dX8_declarations_35 : decode cX8_declarations 35 = .ok (.getfield 389, 3) := zdec_at bX8_declarations_26 6 rfl
theorem dX8_declarations_38 : decode cX8_declarations 38 = .ok (.ifCond .ne 29, 3) := zdec_at bX8_declarations_26 7 rfl
theorem dX8_declarations_41 : decode cX8_declarations 41 = .ok (.aload_n 0, 1) := zdec_at bX8_declarations_26 8 rfl
theorem dX8_declarations_42 : decode cX8_declarations 42 = .ok (.bipush 47, 2) := zdec_at bX8_declarations_26 9 rfl
theorem dX8_declarations_44 : decode cX8_declarations 44 = .ok (.invokevirtual 398, 3) := zdec_at bX8_declarations_26 10 rfl
theorem dX8_declarations_47 : decode cX8_declarations 47 = .ok (.ifCond .eq 20, 3) := zdec_at bX8_declarations_26 11 rfl
theorem dX8_declarations_50 : decode cX8_declarations 50 = .ok (.aload_n 0, 1) := zdec_at bX8_declarations_26 12 rfl
theorem dX8_declarations_51 : decode cX8_declarations 51 = .ok (.dup, 1) := zdec_at bX8_declarations_26 13 rfl
theorem dX8_declarations_52 : decode cX8_declarations 52 = .ok (.getfield 392, 3) := zdec_at bX8_declarations_26 14 rfl
theorem dX8_declarations_55 : decode cX8_declarations 55 = .ok (.iconst 1, 1) := zdec_at bX8_declarations_26 15 rfl
theorem bX8_declarations_56 : zdec cX8_declarations 56 [(56, .iadd, 1), (57, .putfield 392, 3), (60, .aload_n 0, 1), (61, .iload_n 1, 1), (62, .invokevirtual 466, 3), (65, .istore 4, 2), (67, .aload_n 0, 1), (68, .aload_n 0, 1), (69, .bipush 18, 2), (71, .iload 4, 2), (73, .iload_n 3, 1), (74, .iconst 0, 1), (75, .invokevirtual 446, 3), (78, .invokevirtual 512, 3), (81, .aload_n 0, 1), (82, .getfield 389, 3)] = true := by decide +kernel
theorem dX8_declarations_56 : decode cX8_declarations 56 = .ok (.iadd, 1) := zdec_at bX8_declarations_56 0 rfl
theorem dX8_declarations_57 : decode cX8_declarations 57 = .ok (.putfield 392, 3) := zdec_at bX8_declarations_56 1 rfl
theorem dX8_declarations_60 : decode cX8_declarations 60 = .ok (.aload_n 0, 1) := zdec_at bX8_declarations_56 2 rfl
theorem dX8_declarations_61 : decode cX8_declarations 61 = .ok (.iload_n 1, 1) := zdec_at bX8_declarations_56 3 rfl
theorem dX8_declarations_62 : decode cX8_declarations 62 = .ok (.invokevirtual 466, 3) := zdec_at bX8_declarations_56 4 rfl
theorem dX8_declarations_65 : decode cX8_declarations 65 = .ok (.istore 4, 2) := zdec_at bX8_declarations_56 5 rfl
theorem dX8_declarations_67 : decode cX8_declarations 67 = .ok (.aload_n 0, 1) := zdec_at bX8_declarations_56 6 rfl
theorem dX8_declarations_68 : decode cX8_declarations 68 = .ok (.aload_n 0, 1) := zdec_at bX8_declarations_56 7 rfl
theorem dX8_declarations_69 : decode cX8_declarations 69 = .ok (.bipush 18, 2) := zdec_at bX8_declarations_56 8 rfl
theorem dX8_declarations_71 : decode cX8_declarations 71 = .ok (.iload 4, 2) := zdec_at bX8_declarations_56 9 rfl
theorem dX8_declarations_73 : decode cX8_declarations 73 = .ok (.iload_n 3, 1) := zdec_at bX8_declarations_56 10 rfl
theorem dX8_declarations_74 : decode cX8_declarations 74 = .ok (.iconst 0, 1) := zdec_at bX8_declarations_56 11 rfl
theorem dX8_declarations_75 : decode cX8_declarations 75 = .ok (.invokevirtual 446, 3) := zdec_at bX8_declarations_56 12 rfl
theorem dX8_declarations_78 : decode cX8_declarations 78 = .ok (.invokevirtual 512, 3) := zdec_at bX8_declarations_56 13 rfl
theorem dX8_declarations_81 : decode cX8_declarations 81 = .ok (.aload_n 0, 1) := zdec_at bX8_declarations_56 14 rfl
theorem dX8_declarations_82 : decode cX8_declarations 82 = .ok (.getfield 389, 3) := zdec_at bX8_declarations_56 15 rfl
theorem bX8_declarations_85 : zdec cX8_declarations 85 [(85, .ifCond .ne 16, 3), (88, .aload_n 0, 1), (89, .bipush 32, 2), (91, .invokevirtual 398, 3), (94, .ifCond .eq 7, 3), (97, .iconst 1, 1), (98, .goto 4, 3), (101, .iconst 0, 1), (102, .istore_n 2, 1), (103, .iload_n 2, 1), (104, .ifCond .eq 13, 3), (107, .aload_n 0, 1), (108, .dup, 1), (109, .getfield 392, 3), (112, .iconst 1, 1), (113, .iadd, 1)] = true := by decide +kernel
theorem dX8_declarations_85 : decode cX8_declarations 85 = .ok (.ifCond .ne 16, 3) := zdec_at bX8_declarations_85 0 rfl
theorem dX8_declarations_88 : decode cX8_declarations 88 = .ok (.aload_n 0, 1) := zdec_at bX8_declarations_85 1 rfl
theorem dX8_declarations_89 : decode cX8_declarations 89 = .ok (.bipush 32, 2) := zdec_at bX8_declarations_85 2 rfl
theorem dX8_declarations_91 : decode cX8_declarations 91 = .ok (.invokevirtual 398, 3) := zdec_at bX8_declarations_85 3 rfl
theorem dX8_declarations_94 : decode cX8_declarations 94 = .ok (.ifCond .eq 7, 3) := zdec_at bX8_declarations_85 4 rfl
theorem dX8_declarations_97 : decode cX8_declarations 97 = .ok (.iconst 1, 1) := zdec_at bX8_declarations_85 5 rfl
theorem dX8_declarations_98 : decode cX8_declarations 98 = .ok (.goto 4, 3) := zdec_at bX8_declarations_85 6 rfl
theorem dX8_declarations_101 : decode cX8_declarations 101 = .ok (.iconst 0, 1) := zdec_at bX8_declarations_85 7 rfl
theorem dX8_declarations_102 : decode cX8_declarations 102 = .ok (.istore_n 2, 1) := zdec_at bX8_declarations_85 8 rfl
theorem dX8_declarations_103 : decode cX8_declarations 103 = .ok (.iload_n 2, 1) := zdec_at bX8_declarations_85 9 rfl
theorem dX8_declarations_104 : decode cX8_declarations 104 = .ok (.ifCond .eq 13, 3) := zdec_at bX8_declarations_85 10 rfl
theorem dX8_declarations_107 : decode cX8_declarations 107 = .ok (.aload_n 0, 1) := zdec_at bX8_declarations_85 11 rfl
theorem dX8_declarations_108 : decode cX8_declarations 108 = .ok (.dup, 1) := zdec_at bX8_declarations_85 12 rfl
theorem dX8_declarations_109 : decode cX8_declarations 109 = .ok (.getfield 392, 3) := zdec_at bX8_declarations_85 13 rfl
theorem dX8_declarations_112 : decode cX8_declarations 112 = .ok (.iconst 1, 1) := zdec_at bX8_declarations_85 14 rfl
theorem dX8_declarations_113 : decode cX8_declarations 113 = .ok (.iadd, 1) := zdec_at bX8_declarations_85 15 rfl
theorem bX8_declarations_114 : zdec cX8_declarations 114 [(114, .putfield 392, 3), (117, .goto (-101), 3), (120, .aload_n 0, 1), (121, .bipush 21, 2), (123, .aload_n 0, 1), (124, .invokevirtual 515, 3), (127, .iconst 0, 1), (128, .iconst 0, 1), (129, .invokevirtual 446, 3), (132, .ireturn, 1)] = true := by decide +kernel
theorem dX8_declarations_114 : decode cX8_declarations 114 = .ok (.putfield 392, 3) := zdec_at bX8_declarations_114 0 rfl
theorem dX8_declarations_117 : decode cX8_declarations 117 = .ok (.goto (-101), 3) := zdec_at bX8_declarations_114 1 rfl
theorem dX8_declarations_120 : decode cX8_declarations 120 = .ok (.aload_n 0, 1) := zdec_at bX8_declarations_114 2 rfl
theorem dX8_declarations_121 : decode cX8_declarations 121 = .ok (.bipush 21, 2) := zdec_at bX8_declarations_114 3 rfl
theorem dX8_declarations_123 : decode cX8_declarations 123 = .ok (.aload_n 0, 1) := zdec_at bX8_declarations_114 4 rfl
theorem dX8_declarations_124 : decode cX8_declarations 124 = .ok (.invokevirtual 515, 3) := zdec_at bX8_declarations_114 5 rfl
theorem dX8_declarations_127 : decode cX8_declarations 127 = .ok (.iconst 0, 1) := zdec_at bX8_declarations_114 6 rfl
theorem dX8_declarations_128 : decode cX8_declarations 128 = .ok (.iconst 0, 1) := zdec_at bX8_declarations_114 7 rfl
theorem dX8_declarations_129 : decode cX8_declarations 129 = .ok (.invokevirtual 446, 3) := zdec_at bX8_declarations_114 8 rfl
theorem dX8_declarations_132 : decode cX8_declarations 132 = .ok (.ireturn, 1) := zdec_at bX8_declarations_114 9 rfl
theorem sX8_declarations_0 {E : zE} {d : Nat} {Q : zO → zM → Prop} (M : zM) (l1 : Int32) (k : Zm E YX8_beginList d (si M 97 20 ((gi M 97 20) + (1 : Int32))) (zargs 0 [vr (some (97, 1, 0))]) 0 [] (zma E YX8_declarations (d + 1) [(0, vr (some (97, 1, 0))), (1, vi l1)] 11 3 [] Q)) : Zm E YX8_declarations (d + 1) M [(0, vr (some (97, 1, 0))), (1, vi l1)] 0 [] Q := by
  refine Zm.l (fun _ _ k_ => z_aload_n dX8_declarations_0 rfl rfl k_) ?_
  refine Zm.l (fun _ _ k_ => z_dup dX8_declarations_1 rfl k_) ?_
  refine zm_geti dX8_declarations_2 fsX8_392_1 (by decide) (by decide) ?_
  refine Zm.l (fun _ _ k_ => z_iconst (v := 1) dX8_declarations_5 rfl k_) ?_
  refine Zm.l (fun _ _ k_ => z_iadd dX8_declarations_6 k_) ?_
  refine zm_puti (by decide) (by decide) dX8_declarations_7 (zfwN.w fwX8_392_1) rfl ⟨rfl, rfl⟩ ?_
  refine Zm.l (fun _ _ k_ => z_aload_n dX8_declarations_10 rfl rfl k_) ?_
  exact zm_callV (as := []) (st := []) dX8_declarations_11 vsX8_509_1 (Nat.le_refl _) (Nat.le_of_ble_eq_true rfl) (Nat.le_of_ble_eq_true rfl) rfl k
theorem sX8_declarations_14 {E : zE} {d : Nat} {Q : zO → zM → Prop} (M : zM) (l1 : Int32) (k : Zm E YX8_declarations (d + 1) M [(0, vr (some (97, 1, 0))), (1, vi l1), (2, vi (1 : Int32))] 16 [] Q) : Zm E YX8_declarations (d + 1) M [(0, vr (some (97, 1, 0))), (1, vi l1)] 14 [] Q := by
  refine Zm.l (fun _ _ k_ => z_iconst (v := 1) dX8_declarations_14 rfl k_) ?_
  refine Zm.l (fun _ _ k_ => z_ist_n dX8_declarations_15 rfl (by decide) (lv' := [(0, vr (some (97, 1, 0))), (1, vi l1), (2, vi (1 : Int32))]) rfl k_) ?_
  exact k
theorem sX8_declarations_16 {E : zE} {d : Nat} {Q : zO → zM → Prop} (M : zM) (l1 : Int32) (l2 : Int32) (k : if l2 = 0 then (Zm E YX8_ended d M (zargs 0 [vr (some (97, 1, 0))]) 0 [] (zma E YX8_declarations (d + 1) [] 124 3 [vi (21 : Int32), vr (some (97, 1, 0))] Q)) else (Zm E YX8_takeName d M (zargs 0 [vr (some (97, 1, 0))]) 0 [] (zma E YX8_declarations (d + 1) [(0, vr (some (97, 1, 0))), (1, vi l1)] 21 3 [] Q))) : Zm E YX8_declarations (d + 1) M [(0, vr (some (97, 1, 0))), (1, vi l1), (2, vi l2)] 16 [] Q := by
  refine Zm.l (fun _ _ k_ => z_iload_n dX8_declarations_16 rfl rfl k_) ?_
  refine Zm.br (fun _ _ k1_ k2_ => z_if_eq (tgt := 120) dX8_declarations_17 rfl k1_ k2_) (fun h_ => ?_) (fun h_ => ?_)
  · have k := zit h_ k
    refine Zm.l (fun _ _ k_ => z_aload_n dX8_declarations_120 rfl rfl k_) ?_
    refine Zm.l (fun _ _ k_ => z_bipush (v := 21) dX8_declarations_121 rfl k_) ?_
    refine Zm.l (fun _ _ k_ => z_aload_n dX8_declarations_123 rfl rfl k_) ?_
    refine Zm.pick [] rfl ?_
    exact zm_callV (as := []) (st := [vi (21 : Int32), vr (some (97, 1, 0))]) dX8_declarations_124 vsX8_515_1 (Nat.le_refl _) (Nat.le_of_ble_eq_true rfl) (Nat.le_of_ble_eq_true rfl) rfl k
  · have k := zif h_ k
    refine Zm.l (fun _ _ k_ => z_aload_n dX8_declarations_20 rfl rfl k_) ?_
    refine Zm.pick [0, 1] rfl ?_
    exact zm_callV (as := []) (st := []) dX8_declarations_21 vsX8_536_1 (Nat.le_refl _) (Nat.le_of_ble_eq_true rfl) (Nat.le_of_ble_eq_true rfl) rfl k
theorem sX8_declarations_24 {E : zE} {d : Nat} {Q : zO → zM → Prop} (M : zM) (l1 : Int32) (s0 : Int32) (k : Zm E YX8_hold d M (zargs 0 [vr (some (97, 1, 0)), vi s0, vi (0 : Int32)]) 0 [] (zma E YX8_declarations (d + 1) [(0, vr (some (97, 1, 0))), (1, vi l1), (3, vi s0)] 28 3 [] Q)) : Zm E YX8_declarations (d + 1) M [(0, vr (some (97, 1, 0))), (1, vi l1)] 24 [vi s0] Q := by
  refine Zm.l (fun _ _ k_ => z_ist_n dX8_declarations_24 rfl (by decide) (lv' := [(0, vr (some (97, 1, 0))), (1, vi l1), (3, vi s0)]) rfl k_) ?_
  refine Zm.l (fun _ _ k_ => z_aload_n dX8_declarations_25 rfl rfl k_) ?_
  refine Zm.l (fun _ _ k_ => z_iload_n dX8_declarations_26 rfl rfl k_) ?_
  refine Zm.l (fun _ _ k_ => z_iconst (v := 0) dX8_declarations_27 rfl k_) ?_
  exact zm_callV (as := [vi s0, vi (0 : Int32)]) (st := []) dX8_declarations_28 vsX8_539_1 (Nat.le_refl _) (Nat.le_of_ble_eq_true rfl) (Nat.le_of_ble_eq_true rfl) rfl k
theorem sX8_declarations_31 {E : zE} {d : Nat} {Q : zO → zM → Prop} (M : zM) (l1 : Int32) (l3 : Int32) (k : if (gi M 97 21) = 0 then (Zm E YX8_isSign d M (zargs 0 [vr (some (97, 1, 0)), vi (47 : Int32)]) 0 [] (zma E YX8_declarations (d + 1) [(0, vr (some (97, 1, 0))), (1, vi l1), (3, vi l3), (4, vi (-1 : Int32))] 44 3 [] Q)) else (Zm E YX8_node d M (zargs 0 [vr (some (97, 1, 0)), vi (18 : Int32), vi (-1 : Int32), vi l3, vi (0 : Int32)]) 0 [] (zma E YX8_declarations (d + 1) [(0, vr (some (97, 1, 0))), (1, vi l1)] 75 3 [vr (some (97, 1, 0))] Q))) : Zm E YX8_declarations (d + 1) M [(0, vr (some (97, 1, 0))), (1, vi l1), (3, vi l3)] 31 [] Q := by
  refine Zm.l (fun _ _ k_ => z_iconst (v := -1) dX8_declarations_31 rfl k_) ?_
  refine Zm.l (fun _ _ k_ => z_ist dX8_declarations_32 (by decide) (lv' := [(0, vr (some (97, 1, 0))), (1, vi l1), (3, vi l3), (4, vi (-1 : Int32))]) rfl k_) ?_
  refine Zm.l (fun _ _ k_ => z_aload_n dX8_declarations_34 rfl rfl k_) ?_
  refine zm_geti dX8_declarations_35 fsX8_389_1 (by decide) (by decide) ?_
  refine Zm.brn (fun _ _ k1_ k2_ => z_if_ne (tgt := 67) dX8_declarations_38 rfl k1_ k2_) (fun h_ => ?_) (fun h_ => ?_)
  · have k := zif h_ k
    refine Zm.l (fun _ _ k_ => z_aload_n dX8_declarations_67 rfl rfl k_) ?_
    refine Zm.l (fun _ _ k_ => z_aload_n dX8_declarations_68 rfl rfl k_) ?_
    refine Zm.l (fun _ _ k_ => z_bipush (v := 18) dX8_declarations_69 rfl k_) ?_
    refine Zm.l (fun _ _ k_ => z_iload dX8_declarations_71 rfl k_) ?_
    refine Zm.l (fun _ _ k_ => z_iload_n dX8_declarations_73 rfl rfl k_) ?_
    refine Zm.l (fun _ _ k_ => z_iconst (v := 0) dX8_declarations_74 rfl k_) ?_
    refine Zm.pick [0, 1] rfl ?_
    exact zm_callV (as := [vi (18 : Int32), vi (-1 : Int32), vi l3, vi (0 : Int32)]) (st := [vr (some (97, 1, 0))]) dX8_declarations_75 vsX8_446_1 (Nat.le_refl _) (Nat.le_of_ble_eq_true rfl) (Nat.le_of_ble_eq_true rfl) rfl k
  · have k := zit h_ k
    refine Zm.l (fun _ _ k_ => z_aload_n dX8_declarations_41 rfl rfl k_) ?_
    refine Zm.l (fun _ _ k_ => z_bipush (v := 47) dX8_declarations_42 rfl k_) ?_
    exact zm_callV (as := [vi (47 : Int32)]) (st := []) dX8_declarations_44 vsX8_398_1 (Nat.le_refl _) (Nat.le_of_ble_eq_true rfl) (Nat.le_of_ble_eq_true rfl) rfl k
theorem sX8_declarations_47 {E : zE} {d : Nat} {Q : zO → zM → Prop} (M : zM) (l1 : Int32) (l3 : Int32) (l4 : Int32) (s0 : Int32) (k : if s0 = 0 then (Zm E YX8_node d M (zargs 0 [vr (some (97, 1, 0)), vi (18 : Int32), vi l4, vi l3, vi (0 : Int32)]) 0 [] (zma E YX8_declarations (d + 1) [(0, vr (some (97, 1, 0))), (1, vi l1)] 75 3 [vr (some (97, 1, 0))] Q)) else (Zm E YX8_opened d (si M 97 20 ((gi M 97 20) + (1 : Int32))) (zargs 0 [vr (some (97, 1, 0)), vi l1]) 0 [] (zma E YX8_declarations (d + 1) [(0, vr (some (97, 1, 0))), (1, vi l1), (3, vi l3)] 62 3 [] Q))) : Zm E YX8_declarations (d + 1) M [(0, vr (some (97, 1, 0))), (1, vi l1), (3, vi l3), (4, vi l4)] 47 [vi s0] Q := by
  refine Zm.br (fun _ _ k1_ k2_ => z_if_eq (tgt := 67) dX8_declarations_47 rfl k1_ k2_) (fun h_ => ?_) (fun h_ => ?_)
  · have k := zit h_ k
    refine Zm.l (fun _ _ k_ => z_aload_n dX8_declarations_67 rfl rfl k_) ?_
    refine Zm.l (fun _ _ k_ => z_aload_n dX8_declarations_68 rfl rfl k_) ?_
    refine Zm.l (fun _ _ k_ => z_bipush (v := 18) dX8_declarations_69 rfl k_) ?_
    refine Zm.l (fun _ _ k_ => z_iload dX8_declarations_71 rfl k_) ?_
    refine Zm.l (fun _ _ k_ => z_iload_n dX8_declarations_73 rfl rfl k_) ?_
    refine Zm.l (fun _ _ k_ => z_iconst (v := 0) dX8_declarations_74 rfl k_) ?_
    refine Zm.pick [0, 1] rfl ?_
    exact zm_callV (as := [vi (18 : Int32), vi l4, vi l3, vi (0 : Int32)]) (st := [vr (some (97, 1, 0))]) dX8_declarations_75 vsX8_446_1 (Nat.le_refl _) (Nat.le_of_ble_eq_true rfl) (Nat.le_of_ble_eq_true rfl) rfl k
  · have k := zif h_ k
    refine Zm.l (fun _ _ k_ => z_aload_n dX8_declarations_50 rfl rfl k_) ?_
    refine Zm.l (fun _ _ k_ => z_dup dX8_declarations_51 rfl k_) ?_
    refine zm_geti dX8_declarations_52 fsX8_392_1 (by decide) (by decide) ?_
    refine Zm.l (fun _ _ k_ => z_iconst (v := 1) dX8_declarations_55 rfl k_) ?_
    refine Zm.l (fun _ _ k_ => z_iadd dX8_declarations_56 k_) ?_
    refine zm_puti (by decide) (by decide) dX8_declarations_57 (zfwN.w fwX8_392_1) rfl ⟨rfl, rfl⟩ ?_
    refine Zm.l (fun _ _ k_ => z_aload_n dX8_declarations_60 rfl rfl k_) ?_
    refine Zm.l (fun _ _ k_ => z_iload_n dX8_declarations_61 rfl rfl k_) ?_
    refine Zm.pick [0, 1, 2] rfl ?_
    exact zm_callV (as := [vi l1]) (st := []) dX8_declarations_62 vsX8_466_1 (Nat.le_refl _) (Nat.le_of_ble_eq_true rfl) (Nat.le_of_ble_eq_true rfl) rfl k
theorem sX8_declarations_65 {E : zE} {d : Nat} {Q : zO → zM → Prop} (M : zM) (l1 : Int32) (l3 : Int32) (s0 : Int32) (k : Zm E YX8_node d M (zargs 0 [vr (some (97, 1, 0)), vi (18 : Int32), vi s0, vi l3, vi (0 : Int32)]) 0 [] (zma E YX8_declarations (d + 1) [(0, vr (some (97, 1, 0))), (1, vi l1)] 75 3 [vr (some (97, 1, 0))] Q)) : Zm E YX8_declarations (d + 1) M [(0, vr (some (97, 1, 0))), (1, vi l1), (3, vi l3)] 65 [vi s0] Q := by
  refine Zm.l (fun _ _ k_ => z_ist dX8_declarations_65 (by decide) (lv' := [(0, vr (some (97, 1, 0))), (1, vi l1), (3, vi l3), (4, vi s0)]) rfl k_) ?_
  refine Zm.l (fun _ _ k_ => z_aload_n dX8_declarations_67 rfl rfl k_) ?_
  refine Zm.l (fun _ _ k_ => z_aload_n dX8_declarations_68 rfl rfl k_) ?_
  refine Zm.l (fun _ _ k_ => z_bipush (v := 18) dX8_declarations_69 rfl k_) ?_
  refine Zm.l (fun _ _ k_ => z_iload dX8_declarations_71 rfl k_) ?_
  refine Zm.l (fun _ _ k_ => z_iload_n dX8_declarations_73 rfl rfl k_) ?_
  refine Zm.l (fun _ _ k_ => z_iconst (v := 0) dX8_declarations_74 rfl k_) ?_
  refine Zm.pick [0, 1] rfl ?_
  exact zm_callV (as := [vi (18 : Int32), vi s0, vi l3, vi (0 : Int32)]) (st := [vr (some (97, 1, 0))]) dX8_declarations_75 vsX8_446_1 (Nat.le_refl _) (Nat.le_of_ble_eq_true rfl) (Nat.le_of_ble_eq_true rfl) rfl k
theorem sX8_declarations_78 {E : zE} {d : Nat} {Q : zO → zM → Prop} (M : zM) (l1 : Int32) (s0 : Int32) (k : Zm E YX8_add d M (zargs 0 [vr (some (97, 1, 0)), vi s0]) 0 [] (zma E YX8_declarations (d + 1) [(0, vr (some (97, 1, 0))), (1, vi l1)] 78 3 [] Q)) : Zm E YX8_declarations (d + 1) M [(0, vr (some (97, 1, 0))), (1, vi l1)] 78 [vi s0, vr (some (97, 1, 0))] Q := by
  exact zm_callV (as := [vi s0]) (st := []) dX8_declarations_78 vsX8_512_1 (Nat.le_refl _) (Nat.le_of_ble_eq_true rfl) (Nat.le_of_ble_eq_true rfl) rfl k
theorem sX8_declarations_81 {E : zE} {d : Nat} {Q : zO → zM → Prop} (M : zM) (l1 : Int32) (k : if (gi M 97 21) = 0 then (Zm E YX8_isSign d M (zargs 0 [vr (some (97, 1, 0)), vi (32 : Int32)]) 0 [] (zma E YX8_declarations (d + 1) [(0, vr (some (97, 1, 0))), (1, vi l1)] 91 3 [] Q)) else (Zm E YX8_declarations (d + 1) M [(0, vr (some (97, 1, 0))), (1, vi l1)] 102 [vi (0 : Int32)] Q)) : Zm E YX8_declarations (d + 1) M [(0, vr (some (97, 1, 0))), (1, vi l1)] 81 [] Q := by
  refine Zm.l (fun _ _ k_ => z_aload_n dX8_declarations_81 rfl rfl k_) ?_
  refine zm_geti dX8_declarations_82 fsX8_389_1 (by decide) (by decide) ?_
  refine Zm.brn (fun _ _ k1_ k2_ => z_if_ne (tgt := 101) dX8_declarations_85 rfl k1_ k2_) (fun h_ => ?_) (fun h_ => ?_)
  · have k := zif h_ k
    refine Zm.l (fun _ _ k_ => z_iconst (v := 0) dX8_declarations_101 rfl k_) ?_
    exact k
  · have k := zit h_ k
    refine Zm.l (fun _ _ k_ => z_aload_n dX8_declarations_88 rfl rfl k_) ?_
    refine Zm.l (fun _ _ k_ => z_bipush (v := 32) dX8_declarations_89 rfl k_) ?_
    exact zm_callV (as := [vi (32 : Int32)]) (st := []) dX8_declarations_91 vsX8_398_1 (Nat.le_refl _) (Nat.le_of_ble_eq_true rfl) (Nat.le_of_ble_eq_true rfl) rfl k
theorem sX8_declarations_94 {E : zE} {d : Nat} {Q : zO → zM → Prop} (M : zM) (l1 : Int32) (s0 : Int32) (k : if s0 = 0 then (Zm E YX8_declarations (d + 1) M [(0, vr (some (97, 1, 0))), (1, vi l1)] 102 [vi (0 : Int32)] Q) else (Zm E YX8_declarations (d + 1) M [(0, vr (some (97, 1, 0))), (1, vi l1)] 102 [vi (1 : Int32)] Q)) : Zm E YX8_declarations (d + 1) M [(0, vr (some (97, 1, 0))), (1, vi l1)] 94 [vi s0] Q := by
  refine Zm.br (fun _ _ k1_ k2_ => z_if_eq (tgt := 101) dX8_declarations_94 rfl k1_ k2_) (fun h_ => ?_) (fun h_ => ?_)
  · have k := zit h_ k
    refine Zm.l (fun _ _ k_ => z_iconst (v := 0) dX8_declarations_101 rfl k_) ?_
    exact k
  · have k := zif h_ k
    refine Zm.l (fun _ _ k_ => z_iconst (v := 1) dX8_declarations_97 rfl k_) ?_
    refine Zm.l (fun _ _ k_ => z_goto (tgt := 102) dX8_declarations_98 rfl k_) ?_
    exact k
theorem sX8_declarations_102 {E : zE} {d : Nat} {Q : zO → zM → Prop} (M : zM) (l1 : Int32) (s0 : Int32) (k : if s0 = 0 then (Zm E YX8_declarations (d + 1) M [(0, vr (some (97, 1, 0))), (1, vi l1), (2, vi s0)] 16 [] Q) else (Zm E YX8_declarations (d + 1) (si M 97 20 ((gi M 97 20) + (1 : Int32))) [(0, vr (some (97, 1, 0))), (1, vi l1), (2, vi s0)] 16 [] Q)) : Zm E YX8_declarations (d + 1) M [(0, vr (some (97, 1, 0))), (1, vi l1)] 102 [vi s0] Q := by
  refine Zm.l (fun _ _ k_ => z_ist_n dX8_declarations_102 rfl (by decide) (lv' := [(0, vr (some (97, 1, 0))), (1, vi l1), (2, vi s0)]) rfl k_) ?_
  refine Zm.l (fun _ _ k_ => z_iload_n dX8_declarations_103 rfl rfl k_) ?_
  refine Zm.br (fun _ _ k1_ k2_ => z_if_eq (tgt := 117) dX8_declarations_104 rfl k1_ k2_) (fun h_ => ?_) (fun h_ => ?_)
  · have k := zit h_ k
    refine Zm.l (fun _ _ k_ => z_goto (tgt := 16) dX8_declarations_117 rfl k_) ?_
    exact k
  · have k := zif h_ k
    refine Zm.l (fun _ _ k_ => z_aload_n dX8_declarations_107 rfl rfl k_) ?_
    refine Zm.l (fun _ _ k_ => z_dup dX8_declarations_108 rfl k_) ?_
    refine zm_geti dX8_declarations_109 fsX8_392_1 (by decide) (by decide) ?_
    refine Zm.l (fun _ _ k_ => z_iconst (v := 1) dX8_declarations_112 rfl k_) ?_
    refine Zm.l (fun _ _ k_ => z_iadd dX8_declarations_113 k_) ?_
    refine zm_puti (by decide) (by decide) dX8_declarations_114 (zfwN.w fwX8_392_1) rfl ⟨rfl, rfl⟩ ?_
    refine Zm.l (fun _ _ k_ => z_goto (tgt := 16) dX8_declarations_117 rfl k_) ?_
    exact k
theorem sX8_declarations_127 {E : zE} {d : Nat} {Q : zO → zM → Prop} (M : zM) (s0 : Int32) (s1 : Int32) (k : Zm E YX8_node d M (zargs 0 [vr (some (97, 1, 0)), vi s1, vi s0, vi (0 : Int32), vi (0 : Int32)]) 0 [] (zma E YX8_declarations (d + 1) [] 129 3 [] Q)) : Zm E YX8_declarations (d + 1) M [] 127 [vi s0, vi s1, vr (some (97, 1, 0))] Q := by
  refine Zm.l (fun _ _ k_ => z_iconst (v := 0) dX8_declarations_127 rfl k_) ?_
  refine Zm.l (fun _ _ k_ => z_iconst (v := 0) dX8_declarations_128 rfl k_) ?_
  exact zm_callV (as := [vi s1, vi s0, vi (0 : Int32), vi (0 : Int32)]) (st := []) dX8_declarations_129 vsX8_446_1 (Nat.le_refl _) (Nat.le_of_ble_eq_true rfl) (Nat.le_of_ble_eq_true rfl) rfl k
theorem sX8_declarations_132 {E : zE} {d : Nat} {Q : zO → zM → Prop} (M : zM) (s0 : Int32) (k : Q (.inl (some (vi s0))) M) : Zm E YX8_declarations (d + 1) M [] 132 [vi s0] Q := by
  exact zm_iret dX8_declarations_132 rfl rfl k
/-! ScriptTypesModel.whether()I -/
theorem bX8_whether_0 : zdec cX8_whether 0 [(0, .aload_n 0, 1), (1, .dup, 1), (2, .getfield 392, 3), (5, .iconst 1, 1), (6, .iadd, 1), (7, .putfield 392, 3), (10, .aload_n 0, 1), (11, .invokevirtual 577, 3), (14, .istore_n 1, 1), (15, .aload_n 0, 1), (16, .bipush 24, 2), (18, .iload_n 1, 1), (19, .aload_n 0, 1), (20, .invokevirtual 553, 3), (23, .iconst (-1), 1), (24, .invokevirtual 446, 3)] = true := by decide +kernel
theorem dX8_whether_0 : decode cX8_whether 0 = .ok (.aload_n 0, 1) := zdec_at bX8_whether_0 0 rfl
theorem dX8_whether_1 : decode cX8_whether 1 = .ok (.dup, 1) := zdec_at bX8_whether_0 1 rfl
theorem dX8_whether_2 : decode cX8_whether 2 = .ok (.getfield 392, 3) := zdec_at bX8_whether_0 2 rfl
theorem dX8_whether_5 : decode cX8_whether 5 = .ok (.iconst 1, 1) := zdec_at bX8_whether_0 3 rfl
theorem dX8_whether_6 : decode cX8_whether 6 = .ok (.iadd, 1) := zdec_at bX8_whether_0 4 rfl
theorem dX8_whether_7 : decode cX8_whether 7 = .ok (.putfield 392, 3) := zdec_at bX8_whether_0 5 rfl
theorem dX8_whether_10 : decode cX8_whether 10 = .ok (.aload_n 0, 1) := zdec_at bX8_whether_0 6 rfl
theorem dX8_whether_11 : decode cX8_whether 11 = .ok (.invokevirtual 577, 3) := zdec_at bX8_whether_0 7 rfl
theorem dX8_whether_14 : decode cX8_whether 14 = .ok (.istore_n 1, 1) := zdec_at bX8_whether_0 8 rfl
theorem dX8_whether_15 : decode cX8_whether 15 = .ok (.aload_n 0, 1) := zdec_at bX8_whether_0 9 rfl
theorem dX8_whether_16 : decode cX8_whether 16 = .ok (.bipush 24, 2) := zdec_at bX8_whether_0 10 rfl
theorem dX8_whether_18 : decode cX8_whether 18 = .ok (.iload_n 1, 1) := zdec_at bX8_whether_0 11 rfl
theorem dX8_whether_19 : decode cX8_whether 19 = .ok (.aload_n 0, 1) := zdec_at bX8_whether_0 12 rfl
theorem dX8_whether_20 : decode cX8_whether 20 = .ok (.invokevirtual 553, 3) := zdec_at bX8_whether_0 13 rfl
theorem dX8_whether_23 : decode cX8_whether 23 = .ok (.iconst (-1), 1) := zdec_at bX8_whether_0 14 rfl
theorem dX8_whether_24 : decode cX8_whether 24 = .ok (.invokevirtual 446, 3) := zdec_at bX8_whether_0 15 rfl
theorem bX8_whether_27 : zdec cX8_whether 27 [(27, .istore_n 2, 1), (28, .aload_n 0, 1), (29, .getfield 389, 3), (32, .ifCond .ne 38, 3), (35, .aload_n 0, 1), (36, .bipush 7, 2), (38, .invokevirtual 404, 3), (41, .ifCond .eq 29, 3), (44, .aload_n 0, 1), (45, .dup, 1), (46, .getfield 392, 3), (49, .iconst 1, 1), (50, .iadd, 1), (51, .putfield 392, 3), (54, .aload_n 0, 1), (55, .invokevirtual 553, 3)] = true := by decide +kernel
theorem dX8_whether_27 : decode cX8_whether 27 = .ok (.istore_n 2, 1) := zdec_at bX8_whether_27 0 rfl
theorem dX8_whether_28 : decode cX8_whether 28 = .ok (.aload_n 0, 1) := zdec_at bX8_whether_27 1 rfl
theorem dX8_whether_29 : decode cX8_whether 29 = .ok (.getfield 389, 3) := zdec_at bX8_whether_27 2 rfl
theorem dX8_whether_32 : decode cX8_whether 32 = .ok (.ifCond .ne 38, 3) := zdec_at bX8_whether_27 3 rfl
theorem dX8_whether_35 : decode cX8_whether 35 = .ok (.aload_n 0, 1) := zdec_at bX8_whether_27 4 rfl
theorem dX8_whether_36 : decode cX8_whether 36 = .ok (.bipush 7, 2) := zdec_at bX8_whether_27 5 rfl
theorem dX8_whether_38 : decode cX8_whether 38 = .ok (.invokevirtual 404, 3) := zdec_at bX8_whether_27 6 rfl
theorem dX8_whether_41 : decode cX8_whether 41 = .ok (.ifCond .eq 29, 3) := zdec_at bX8_whether_27 7 rfl
theorem dX8_whether_44 : decode cX8_whether 44 = .ok (.aload_n 0, 1) := zdec_at bX8_whether_27 8 rfl
theorem dX8_whether_45 : decode cX8_whether 45 = .ok (.dup, 1) := zdec_at bX8_whether_27 9 rfl
theorem dX8_whether_46 : decode cX8_whether 46 = .ok (.getfield 392, 3) := zdec_at bX8_whether_27 10 rfl
theorem dX8_whether_49 : decode cX8_whether 49 = .ok (.iconst 1, 1) := zdec_at bX8_whether_27 11 rfl
theorem dX8_whether_50 : decode cX8_whether 50 = .ok (.iadd, 1) := zdec_at bX8_whether_27 12 rfl
theorem dX8_whether_51 : decode cX8_whether 51 = .ok (.putfield 392, 3) := zdec_at bX8_whether_27 13 rfl
theorem dX8_whether_54 : decode cX8_whether 54 = .ok (.aload_n 0, 1) := zdec_at bX8_whether_27 14 rfl
theorem dX8_whether_55 : decode cX8_whether 55 = .ok (.invokevirtual 553, 3) := zdec_at bX8_whether_27 15 rfl
theorem bX8_whether_58 : zdec cX8_whether 58 [(58, .istore_n 3, 1), (59, .aload_n 0, 1), (60, .getfield 46, 3), (63, .iconst 5, 1), (64, .iload_n 2, 1), (65, .imul, 1), (66, .iconst 2, 1), (67, .iadd, 1), (68, .iload_n 3, 1), (69, .iastore, 1), (70, .iload_n 2, 1), (71, .ireturn, 1)] = true := by decide +kernel
theorem dX8_whether_58 : decode cX8_whether 58 = .ok (.istore_n 3, 1) := zdec_at bX8_whether_58 0 rfl
theorem dX8_whether_59 : decode cX8_whether 59 = .ok (.aload_n 0, 1) := zdec_at bX8_whether_58 1 rfl
theorem dX8_whether_60 : decode cX8_whether 60 = .ok (.getfield 46, 3) := zdec_at bX8_whether_58 2 rfl
theorem dX8_whether_63 : decode cX8_whether 63 = .ok (.iconst 5, 1) := zdec_at bX8_whether_58 3 rfl
theorem dX8_whether_64 : decode cX8_whether 64 = .ok (.iload_n 2, 1) := zdec_at bX8_whether_58 4 rfl
theorem dX8_whether_65 : decode cX8_whether 65 = .ok (.imul, 1) := zdec_at bX8_whether_58 5 rfl
theorem dX8_whether_66 : decode cX8_whether 66 = .ok (.iconst 2, 1) := zdec_at bX8_whether_58 6 rfl
theorem dX8_whether_67 : decode cX8_whether 67 = .ok (.iadd, 1) := zdec_at bX8_whether_58 7 rfl
theorem dX8_whether_68 : decode cX8_whether 68 = .ok (.iload_n 3, 1) := zdec_at bX8_whether_58 8 rfl
theorem dX8_whether_69 : decode cX8_whether 69 = .ok (.iastore, 1) := zdec_at bX8_whether_58 9 rfl
theorem dX8_whether_70 : decode cX8_whether 70 = .ok (.iload_n 2, 1) := zdec_at bX8_whether_58 10 rfl
theorem dX8_whether_71 : decode cX8_whether 71 = .ok (.ireturn, 1) := zdec_at bX8_whether_58 11 rfl
theorem sX8_whether_0 {E : zE} {d : Nat} {Q : zO → zM → Prop} (M : zM)  (k : Zm E YX8_condition d (si M 97 20 ((gi M 97 20) + (1 : Int32))) (zargs 0 [vr (some (97, 1, 0))]) 0 [] (zma E YX8_whether (d + 1) [(0, vr (some (97, 1, 0)))] 11 3 [] Q)) : Zm E YX8_whether (d + 1) M [(0, vr (some (97, 1, 0)))] 0 [] Q := by
  refine Zm.l (fun _ _ k_ => z_aload_n dX8_whether_0 rfl rfl k_) ?_
  refine Zm.l (fun _ _ k_ => z_dup dX8_whether_1 rfl k_) ?_
  refine zm_geti dX8_whether_2 fsX8_392_1 (by decide) (by decide) ?_
  refine Zm.l (fun _ _ k_ => z_iconst (v := 1) dX8_whether_5 rfl k_) ?_
  refine Zm.l (fun _ _ k_ => z_iadd dX8_whether_6 k_) ?_
  refine zm_puti (by decide) (by decide) dX8_whether_7 (zfwN.w fwX8_392_1) rfl ⟨rfl, rfl⟩ ?_
  refine Zm.l (fun _ _ k_ => z_aload_n dX8_whether_10 rfl rfl k_) ?_
  exact zm_callV (as := []) (st := []) dX8_whether_11 vsX8_577_1 (Nat.le_refl _) (Nat.le_of_ble_eq_true rfl) (Nat.le_of_ble_eq_true rfl) rfl k
theorem sX8_whether_14 {E : zE} {d : Nat} {Q : zO → zM → Prop} (M : zM) (s0 : Int32) (k : Zm E YX8_statement d M (zargs 0 [vr (some (97, 1, 0))]) 0 [] (zma E YX8_whether (d + 1) [(0, vr (some (97, 1, 0)))] 20 3 [vi s0, vi (24 : Int32), vr (some (97, 1, 0))] Q)) : Zm E YX8_whether (d + 1) M [(0, vr (some (97, 1, 0)))] 14 [vi s0] Q := by
  refine Zm.l (fun _ _ k_ => z_ist_n dX8_whether_14 rfl (by decide) (lv' := [(0, vr (some (97, 1, 0))), (1, vi s0)]) rfl k_) ?_
  refine Zm.l (fun _ _ k_ => z_aload_n dX8_whether_15 rfl rfl k_) ?_
  refine Zm.l (fun _ _ k_ => z_bipush (v := 24) dX8_whether_16 rfl k_) ?_
  refine Zm.l (fun _ _ k_ => z_iload_n dX8_whether_18 rfl rfl k_) ?_
  refine Zm.l (fun _ _ k_ => z_aload_n dX8_whether_19 rfl rfl k_) ?_
  refine Zm.pick [0] rfl ?_
  exact zm_callV (as := []) (st := [vi s0, vi (24 : Int32), vr (some (97, 1, 0))]) dX8_whether_20 vsX8_553_1 (Nat.le_refl _) (Nat.le_of_ble_eq_true rfl) (Nat.le_of_ble_eq_true rfl) rfl k
theorem sX8_whether_23 {E : zE} {d : Nat} {Q : zO → zM → Prop} (M : zM) (s0 : Int32) (s1 : Int32) (s2 : Int32) (k : Zm E YX8_node d M (zargs 0 [vr (some (97, 1, 0)), vi s2, vi s1, vi s0, vi (-1 : Int32)]) 0 [] (zma E YX8_whether (d + 1) [(0, vr (some (97, 1, 0)))] 24 3 [] Q)) : Zm E YX8_whether (d + 1) M [(0, vr (some (97, 1, 0)))] 23 [vi s0, vi s1, vi s2, vr (some (97, 1, 0))] Q := by
  refine Zm.l (fun _ _ k_ => z_iconst (v := -1) dX8_whether_23 rfl k_) ?_
  exact zm_callV (as := [vi s2, vi s1, vi s0, vi (-1 : Int32)]) (st := []) dX8_whether_24 vsX8_446_1 (Nat.le_refl _) (Nat.le_of_ble_eq_true rfl) (Nat.le_of_ble_eq_true rfl) rfl k
theorem sX8_whether_27 {E : zE} {d : Nat} {Q : zO → zM → Prop} (M : zM) (s0 : Int32) (k : if (gi M 97 21) = 0 then (Zm E YX8_isKeyword d M (zargs 0 [vr (some (97, 1, 0)), vi (7 : Int32)]) 0 [] (zma E YX8_whether (d + 1) [(0, vr (some (97, 1, 0))), (2, vi s0)] 38 3 [] Q)) else (Q (.inl (some (vi s0))) M)) : Zm E YX8_whether (d + 1) M [(0, vr (some (97, 1, 0)))] 27 [vi s0] Q := by
  refine Zm.l (fun _ _ k_ => z_ist_n dX8_whether_27 rfl (by decide) (lv' := [(0, vr (some (97, 1, 0))), (2, vi s0)]) rfl k_) ?_
  refine Zm.l (fun _ _ k_ => z_aload_n dX8_whether_28 rfl rfl k_) ?_
  refine zm_geti dX8_whether_29 fsX8_389_1 (by decide) (by decide) ?_
  refine Zm.brn (fun _ _ k1_ k2_ => z_if_ne (tgt := 70) dX8_whether_32 rfl k1_ k2_) (fun h_ => ?_) (fun h_ => ?_)
  · have k := zif h_ k
    refine Zm.l (fun _ _ k_ => z_iload_n dX8_whether_70 rfl rfl k_) ?_
    exact zm_iret dX8_whether_71 rfl rfl k
  · have k := zit h_ k
    refine Zm.l (fun _ _ k_ => z_aload_n dX8_whether_35 rfl rfl k_) ?_
    refine Zm.l (fun _ _ k_ => z_bipush (v := 7) dX8_whether_36 rfl k_) ?_
    exact zm_callV (as := [vi (7 : Int32)]) (st := []) dX8_whether_38 vsX8_404_1 (Nat.le_refl _) (Nat.le_of_ble_eq_true rfl) (Nat.le_of_ble_eq_true rfl) rfl k
theorem sX8_whether_41 {E : zE} {d : Nat} {Q : zO → zM → Prop} (M : zM) (l2 : Int32) (s0 : Int32) (k : if s0 = 0 then (Q (.inl (some (vi l2))) M) else (Zm E YX8_statement d (si M 97 20 ((gi M 97 20) + (1 : Int32))) (zargs 0 [vr (some (97, 1, 0))]) 0 [] (zma E YX8_whether (d + 1) [(0, vr (some (97, 1, 0))), (2, vi l2)] 55 3 [] Q))) : Zm E YX8_whether (d + 1) M [(0, vr (some (97, 1, 0))), (2, vi l2)] 41 [vi s0] Q := by
  refine Zm.br (fun _ _ k1_ k2_ => z_if_eq (tgt := 70) dX8_whether_41 rfl k1_ k2_) (fun h_ => ?_) (fun h_ => ?_)
  · have k := zit h_ k
    refine Zm.l (fun _ _ k_ => z_iload_n dX8_whether_70 rfl rfl k_) ?_
    exact zm_iret dX8_whether_71 rfl rfl k
  · have k := zif h_ k
    refine Zm.l (fun _ _ k_ => z_aload_n dX8_whether_44 rfl rfl k_) ?_
    refine Zm.l (fun _ _ k_ => z_dup dX8_whether_45 rfl k_) ?_
    refine zm_geti dX8_whether_46 fsX8_392_1 (by decide) (by decide) ?_
    refine Zm.l (fun _ _ k_ => z_iconst (v := 1) dX8_whether_49 rfl k_) ?_
    refine Zm.l (fun _ _ k_ => z_iadd dX8_whether_50 k_) ?_
    refine zm_puti (by decide) (by decide) dX8_whether_51 (zfwN.w fwX8_392_1) rfl ⟨rfl, rfl⟩ ?_
    refine Zm.l (fun _ _ k_ => z_aload_n dX8_whether_54 rfl rfl k_) ?_
    exact zm_callV (as := []) (st := []) dX8_whether_55 vsX8_553_1 (Nat.le_refl _) (Nat.le_of_ble_eq_true rfl) (Nat.le_of_ble_eq_true rfl) rfl k
theorem sX8_whether_58 {E : zE} {d : Nat} {Q : zO → zM → Prop} (M : zM) (l2 : Int32) (s0 : Int32) (k : vp_in (((5 : Int32) * l2) + (2 : Int32)) 60000 ∧ (Q (.inl (some (vi l2))) (si M 109 ((((5 : Int32) * l2) + (2 : Int32))).toNatClampNeg s0))) : Zm E YX8_whether (d + 1) M [(0, vr (some (97, 1, 0))), (2, vi l2)] 58 [vi s0] Q := by
  refine Zm.l (fun _ _ k_ => z_ist_n dX8_whether_58 rfl (by decide) (lv' := [(0, vr (some (97, 1, 0))), (2, vi l2), (3, vi s0)]) rfl k_) ?_
  refine Zm.l (fun _ _ k_ => z_aload_n dX8_whether_59 rfl rfl k_) ?_
  refine zm_getr 11 dX8_whether_60 fsX8_46_1 rfl ?_
  refine Zm.l (fun _ _ k_ => z_iconst (v := 5) dX8_whether_63 rfl k_) ?_
  refine Zm.l (fun _ _ k_ => z_iload_n dX8_whether_64 rfl rfl k_) ?_
  refine Zm.l (fun _ _ k_ => z_imul dX8_whether_65 k_) ?_
  refine Zm.l (fun _ _ k_ => z_iconst (v := 2) dX8_whether_66 rfl k_) ?_
  refine Zm.l (fun _ _ k_ => z_iadd dX8_whether_67 k_) ?_
  refine Zm.l (fun _ _ k_ => z_iload_n dX8_whether_68 rfl rfl k_) ?_
  obtain ⟨b_, k⟩ := k
  refine zm_iast dX8_whether_69 b_ (by decide) (by decide) ?_
  refine Zm.l (fun _ _ k_ => z_iload_n dX8_whether_70 rfl rfl k_) ?_
  exact zm_iret dX8_whether_71 rfl rfl k
/-! ScriptTypesModel.condition()I -/
theorem bX8_condition_0 : zdec cX8_condition 0 [(0, .aload_n 0, 1), (1, .bipush 26, 2), (3, .invokevirtual 473, 3), (6, .ifCond .ne 5, 3), (9, .iconst (-1), 1), (10, .ireturn, 1), (11, .aload_n 0, 1), (12, .iconst 1, 1), (13, .invokevirtual 502, 3), (16, .istore_n 1, 1), (17, .aload_n 0, 1), (18, .bipush 27, 2), (20, .invokevirtual 473, 3), (23, .ifCond .eq 7, 3), (26, .iload_n 1, 1), (27, .goto 4, 3)] = true := by decide +kernel
theorem dX8_condition_0 : decode cX8_condition 0 = .ok (.aload_n 0, 1) := zdec_at bX8_condition_0 0 rfl
theorem dX8_condition_1 : decode cX8_condition 1 = .ok (.bipush 26, 2) := zdec_at bX8_condition_0 1 rfl
theorem dX8_condition_3 : decode cX8_condition 3 = .ok (.invokevirtual 473, 3) := zdec_at bX8_condition_0 2 rfl
theorem dX8_condition_6 : decode cX8_condition 6 = .ok (.ifCond .ne 5, 3) := zdec_at bX8_condition_0 3 rfl
theorem dX8_condition_9 : decode cX8_condition 9 = .ok (.iconst (-1), 1) := zdec_at bX8_condition_0 4 rfl
theorem dX8_condition_10 : decode cX8_condition 10 = .ok (.ireturn, 1) := zdec_at bX8_condition_0 5 rfl
theorem dX8_condition_11 : decode cX8_condition 11 = .ok (.aload_n 0, 1) := zdec_at bX8_condition_0 6 rfl
theorem dX8_condition_12 : decode cX8_condition 12 = .ok (.iconst 1, 1) := zdec_at bX8_condition_0 7 rfl
theorem dX8_condition_13 : decode cX8_condition 13 = .ok (.invokevirtual 502, 3) := zdec_at bX8_condition_0 8 rfl
theorem dX8_condition_16 : decode cX8_condition 16 = .ok (.istore_n 1, 1) := zdec_at bX8_condition_0 9 rfl
theorem dX8_condition_17 : decode cX8_condition 17 = .ok (.aload_n 0, 1) := zdec_at bX8_condition_0 10 rfl
theorem dX8_condition_18 : decode cX8_condition 18 = .ok (.bipush 27, 2) := zdec_at bX8_condition_0 11 rfl
theorem dX8_condition_20 : decode cX8_condition 20 = .ok (.invokevirtual 473, 3) := zdec_at bX8_condition_0 12 rfl
theorem dX8_condition_23 : decode cX8_condition 23 = .ok (.ifCond .eq 7, 3) := zdec_at bX8_condition_0 13 rfl
theorem dX8_condition_26 : decode cX8_condition 26 = .ok (.iload_n 1, 1) := zdec_at bX8_condition_0 14 rfl
theorem dX8_condition_27 : decode cX8_condition 27 = .ok (.goto 4, 3) := zdec_at bX8_condition_0 15 rfl
theorem bX8_condition_30 : zdec cX8_condition 30 [(30, .iconst (-1), 1), (31, .ireturn, 1)] = true := by decide +kernel
theorem dX8_condition_30 : decode cX8_condition 30 = .ok (.iconst (-1), 1) := zdec_at bX8_condition_30 0 rfl
theorem dX8_condition_31 : decode cX8_condition 31 = .ok (.ireturn, 1) := zdec_at bX8_condition_30 1 rfl
theorem sX8_condition_0 {E : zE} {d : Nat} {Q : zO → zM → Prop} (M : zM)  (k : Zm E YX8_must d M (zargs 0 [vr (some (97, 1, 0)), vi (26 : Int32)]) 0 [] (zma E YX8_condition (d + 1) [(0, vr (some (97, 1, 0)))] 3 3 [] Q)) : Zm E YX8_condition (d + 1) M [(0, vr (some (97, 1, 0)))] 0 [] Q := by
  refine Zm.l (fun _ _ k_ => z_aload_n dX8_condition_0 rfl rfl k_) ?_
  refine Zm.l (fun _ _ k_ => z_bipush (v := 26) dX8_condition_1 rfl k_) ?_
  exact zm_callV (as := [vi (26 : Int32)]) (st := []) dX8_condition_3 vsX8_473_1 (Nat.le_refl _) (Nat.le_of_ble_eq_true rfl) (Nat.le_of_ble_eq_true rfl) rfl k
theorem sX8_condition_6 {E : zE} {d : Nat} {Q : zO → zM → Prop} (M : zM) (s0 : Int32) (k : if s0 = 0 then (Q (.inl (some (vi (-1 : Int32)))) M) else (Zm E YX8_expression d M (zargs 0 [vr (some (97, 1, 0)), vi (1 : Int32)]) 0 [] (zma E YX8_condition (d + 1) [(0, vr (some (97, 1, 0)))] 13 3 [] Q))) : Zm E YX8_condition (d + 1) M [(0, vr (some (97, 1, 0)))] 6 [vi s0] Q := by
  refine Zm.brn (fun _ _ k1_ k2_ => z_if_ne (tgt := 11) dX8_condition_6 rfl k1_ k2_) (fun h_ => ?_) (fun h_ => ?_)
  · have k := zif h_ k
    refine Zm.l (fun _ _ k_ => z_aload_n dX8_condition_11 rfl rfl k_) ?_
    refine Zm.l (fun _ _ k_ => z_iconst (v := 1) dX8_condition_12 rfl k_) ?_
    exact zm_callV (as := [vi (1 : Int32)]) (st := []) dX8_condition_13 vsX8_502_1 (Nat.le_refl _) (Nat.le_of_ble_eq_true rfl) (Nat.le_of_ble_eq_true rfl) rfl k
  · have k := zit h_ k
    refine Zm.l (fun _ _ k_ => z_iconst (v := -1) dX8_condition_9 rfl k_) ?_
    exact zm_iret dX8_condition_10 rfl rfl k
theorem sX8_condition_16 {E : zE} {d : Nat} {Q : zO → zM → Prop} (M : zM) (s0 : Int32) (k : Zm E YX8_must d M (zargs 0 [vr (some (97, 1, 0)), vi (27 : Int32)]) 0 [] (zma E YX8_condition (d + 1) [(1, vi s0)] 20 3 [] Q)) : Zm E YX8_condition (d + 1) M [(0, vr (some (97, 1, 0)))] 16 [vi s0] Q := by
  refine Zm.l (fun _ _ k_ => z_ist_n dX8_condition_16 rfl (by decide) (lv' := [(0, vr (some (97, 1, 0))), (1, vi s0)]) rfl k_) ?_
  refine Zm.l (fun _ _ k_ => z_aload_n dX8_condition_17 rfl rfl k_) ?_
  refine Zm.l (fun _ _ k_ => z_bipush (v := 27) dX8_condition_18 rfl k_) ?_
  refine Zm.pick [1] rfl ?_
  exact zm_callV (as := [vi (27 : Int32)]) (st := []) dX8_condition_20 vsX8_473_1 (Nat.le_refl _) (Nat.le_of_ble_eq_true rfl) (Nat.le_of_ble_eq_true rfl) rfl k
theorem sX8_condition_23 {E : zE} {d : Nat} {Q : zO → zM → Prop} (M : zM) (l1 : Int32) (s0 : Int32) (k : if s0 = 0 then (Q (.inl (some (vi (-1 : Int32)))) M) else (Q (.inl (some (vi l1))) M)) : Zm E YX8_condition (d + 1) M [(1, vi l1)] 23 [vi s0] Q := by
  refine Zm.br (fun _ _ k1_ k2_ => z_if_eq (tgt := 30) dX8_condition_23 rfl k1_ k2_) (fun h_ => ?_) (fun h_ => ?_)
  · have k := zit h_ k
    refine Zm.l (fun _ _ k_ => z_iconst (v := -1) dX8_condition_30 rfl k_) ?_
    exact zm_iret dX8_condition_31 rfl rfl k
  · have k := zif h_ k
    refine Zm.l (fun _ _ k_ => z_iload_n dX8_condition_26 rfl rfl k_) ?_
    refine Zm.l (fun _ _ k_ => z_goto (tgt := 31) dX8_condition_27 rfl k_) ?_
    exact zm_iret dX8_condition_31 rfl rfl k
/-! ScriptTypesModel.looped()I -/
theorem bX8_looped_0 : zdec cX8_looped 0 [(0, .aload_n 0, 1), (1, .dup, 1), (2, .getfield 530, 3), (5, .iconst 1, 1), (6, .iadd, 1), (7, .putfield 530, 3), (10, .aload_n 0, 1), (11, .invokevirtual 553, 3), (14, .istore_n 1, 1), (15, .aload_n 0, 1), (16, .dup, 1), (17, .getfield 530, 3), (20, .iconst 1, 1), (21, .isub, 1), (22, .putfield 530, 3), (25, .iload_n 1, 1)] = true := by decide +kernel
theorem dX8_looped_0 : decode cX8_looped 0 = .ok (.aload_n 0, 1) := zdec_at bX8_looped_0 0 rfl
theorem dX8_looped_1 : decode cX8_looped 1 = .ok (.dup, 1) := zdec_at bX8_looped_0 1 rfl
theorem dX8_looped_2 : decode cX8_looped 2 = .ok (.getfield 530, 3) := zdec_at bX8_looped_0 2 rfl
theorem dX8_looped_5 : decode cX8_looped 5 = .ok (.iconst 1, 1) := zdec_at bX8_looped_0 3 rfl
theorem dX8_looped_6 : decode cX8_looped 6 = .ok (.iadd, 1) := zdec_at bX8_looped_0 4 rfl
theorem dX8_looped_7 : decode cX8_looped 7 = .ok (.putfield 530, 3) := zdec_at bX8_looped_0 5 rfl
theorem dX8_looped_10 : decode cX8_looped 10 = .ok (.aload_n 0, 1) := zdec_at bX8_looped_0 6 rfl
theorem dX8_looped_11 : decode cX8_looped 11 = .ok (.invokevirtual 553, 3) := zdec_at bX8_looped_0 7 rfl
theorem dX8_looped_14 : decode cX8_looped 14 = .ok (.istore_n 1, 1) := zdec_at bX8_looped_0 8 rfl
theorem dX8_looped_15 : decode cX8_looped 15 = .ok (.aload_n 0, 1) := zdec_at bX8_looped_0 9 rfl
theorem dX8_looped_16 : decode cX8_looped 16 = .ok (.dup, 1) := zdec_at bX8_looped_0 10 rfl
theorem dX8_looped_17 : decode cX8_looped 17 = .ok (.getfield 530, 3) := zdec_at bX8_looped_0 11 rfl
theorem dX8_looped_20 : decode cX8_looped 20 = .ok (.iconst 1, 1) := zdec_at bX8_looped_0 12 rfl
theorem dX8_looped_21 : decode cX8_looped 21 = .ok (.isub, 1) := zdec_at bX8_looped_0 13 rfl
theorem dX8_looped_22 : decode cX8_looped 22 = .ok (.putfield 530, 3) := zdec_at bX8_looped_0 14 rfl
theorem dX8_looped_25 : decode cX8_looped 25 = .ok (.iload_n 1, 1) := zdec_at bX8_looped_0 15 rfl
theorem bX8_looped_26 : zdec cX8_looped 26 [(26, .ireturn, 1)] = true := by decide +kernel
theorem dX8_looped_26 : decode cX8_looped 26 = .ok (.ireturn, 1) := zdec_at bX8_looped_26 0 rfl
theorem sX8_looped_0 {E : zE} {d : Nat} {Q : zO → zM → Prop} (M : zM)  (k : Zm E YX8_statement d (si M 97 44 ((gi M 97 44) + (1 : Int32))) (zargs 0 [vr (some (97, 1, 0))]) 0 [] (zma E YX8_looped (d + 1) [(0, vr (some (97, 1, 0)))] 11 3 [] Q)) : Zm E YX8_looped (d + 1) M [(0, vr (some (97, 1, 0)))] 0 [] Q := by
  refine Zm.l (fun _ _ k_ => z_aload_n dX8_looped_0 rfl rfl k_) ?_
  refine Zm.l (fun _ _ k_ => z_dup dX8_looped_1 rfl k_) ?_
  refine zm_geti dX8_looped_2 fsX8_530_1 (by decide) (by decide) ?_
  refine Zm.l (fun _ _ k_ => z_iconst (v := 1) dX8_looped_5 rfl k_) ?_
  refine Zm.l (fun _ _ k_ => z_iadd dX8_looped_6 k_) ?_
  refine zm_puti (by decide) (by decide) dX8_looped_7 (zfwN.w fwX8_530_1) rfl ⟨rfl, rfl⟩ ?_
  refine Zm.l (fun _ _ k_ => z_aload_n dX8_looped_10 rfl rfl k_) ?_
  exact zm_callV (as := []) (st := []) dX8_looped_11 vsX8_553_1 (Nat.le_refl _) (Nat.le_of_ble_eq_true rfl) (Nat.le_of_ble_eq_true rfl) rfl k
theorem sX8_looped_14 {E : zE} {d : Nat} {Q : zO → zM → Prop} (M : zM) (s0 : Int32) (k : Q (.inl (some (vi s0))) (si M 97 44 ((gi M 97 44) - (1 : Int32)))) : Zm E YX8_looped (d + 1) M [(0, vr (some (97, 1, 0)))] 14 [vi s0] Q := by
  refine Zm.l (fun _ _ k_ => z_ist_n dX8_looped_14 rfl (by decide) (lv' := [(0, vr (some (97, 1, 0))), (1, vi s0)]) rfl k_) ?_
  refine Zm.l (fun _ _ k_ => z_aload_n dX8_looped_15 rfl rfl k_) ?_
  refine Zm.l (fun _ _ k_ => z_dup dX8_looped_16 rfl k_) ?_
  refine zm_geti dX8_looped_17 fsX8_530_1 (by decide) (by decide) ?_
  refine Zm.l (fun _ _ k_ => z_iconst (v := 1) dX8_looped_20 rfl k_) ?_
  refine Zm.l (fun _ _ k_ => z_isub dX8_looped_21 k_) ?_
  refine zm_puti (by decide) (by decide) dX8_looped_22 (zfwN.w fwX8_530_1) rfl ⟨rfl, rfl⟩ ?_
  refine Zm.l (fun _ _ k_ => z_iload_n dX8_looped_25 rfl rfl k_) ?_
  exact zm_iret dX8_looped_26 rfl rfl k
/-! ScriptTypesModel.until()I -/
theorem bX8_until_0 : zdec cX8_until 0 [(0, .aload_n 0, 1), (1, .dup, 1), (2, .getfield 392, 3), (5, .iconst 1, 1), (6, .iadd, 1), (7, .putfield 392, 3), (10, .aload_n 0, 1), (11, .invokevirtual 580, 3), (14, .istore_n 1, 1), (15, .aload_n 0, 1), (16, .bipush 28, 2), (18, .invokevirtual 600, 3), (21, .istore_n 2, 1), (22, .aload_n 0, 1), (23, .getfield 389, 3), (26, .ifCond .le 7, 3)] = true := by decide +kernel
theorem dX8_until_0 : decode cX8_until 0 = .ok (.aload_n 0, 1) := zdec_at bX8_until_0 0 rfl
theorem dX8_until_1 : decode cX8_until 1 = .ok (.dup, 1) := zdec_at bX8_until_0 1 rfl
theorem dX8_until_2 : decode cX8_until 2 = .ok (.getfield 392, 3) := zdec_at bX8_until_0 2 rfl
theorem dX8_until_5 : decode cX8_until 5 = .ok (.iconst 1, 1) := zdec_at bX8_until_0 3 rfl
theorem dX8_until_6 : decode cX8_until 6 = .ok (.iadd, 1) := zdec_at bX8_until_0 4 rfl
theorem dX8_until_7 : decode cX8_until 7 = .ok (.putfield 392, 3) := zdec_at bX8_until_0 5 rfl
theorem dX8_until_10 : decode cX8_until 10 = .ok (.aload_n 0, 1) := zdec_at bX8_until_0 6 rfl
theorem dX8_until_11 : decode cX8_until 11 = .ok (.invokevirtual 580, 3) := zdec_at bX8_until_0 7 rfl
theorem dX8_until_14 : decode cX8_until 14 = .ok (.istore_n 1, 1) := zdec_at bX8_until_0 8 rfl
theorem dX8_until_15 : decode cX8_until 15 = .ok (.aload_n 0, 1) := zdec_at bX8_until_0 9 rfl
theorem dX8_until_16 : decode cX8_until 16 = .ok (.bipush 28, 2) := zdec_at bX8_until_0 10 rfl
theorem dX8_until_18 : decode cX8_until 18 = .ok (.invokevirtual 600, 3) := zdec_at bX8_until_0 11 rfl
theorem dX8_until_21 : decode cX8_until 21 = .ok (.istore_n 2, 1) := zdec_at bX8_until_0 12 rfl
theorem dX8_until_22 : decode cX8_until 22 = .ok (.aload_n 0, 1) := zdec_at bX8_until_0 13 rfl
theorem dX8_until_23 : decode cX8_until 23 = .ok (.getfield 389, 3) := zdec_at bX8_until_0 14 rfl
theorem dX8_until_26 : decode cX8_until 26 = .ok (.ifCond .le 7, 3) := zdec_at bX8_until_0 15 rfl
theorem bX8_until_29 : zdec cX8_until 29 [(29, .iconst (-1), 1), (30, .goto 7, 3), (33, .aload_n 0, 1), (34, .invokevirtual 577, 3), (37, .istore_n 3, 1), (38, .aload_n 0, 1), (39, .getfield 389, 3), (42, .ifCond .ne 22, 3), (45, .aload_n 0, 1), (46, .bipush 31, 2), (48, .invokevirtual 398, 3), (51, .ifCond .eq 13, 3), (54, .aload_n 0, 1), (55, .dup, 1), (56, .getfield 392, 3), (59, .iconst 1, 1)] = true := by decide +kernel
theorem dX8_until_29 : decode cX8_until 29 = .ok (.iconst (-1), 1) := zdec_at bX8_until_29 0 rfl
theorem dX8_until_30 : decode cX8_until 30 = .ok (.goto 7, 3) := zdec_at bX8_until_29 1 rfl
theorem dX8_until_33 : decode cX8_until 33 = .ok (.aload_n 0, 1) := zdec_at bX8_until_29 2 rfl
theorem dX8_until_34 : decode cX8_until 34 = .ok (.invokevirtual 577, 3) := zdec_at bX8_until_29 3 rfl
theorem dX8_until_37 : decode cX8_until 37 = .ok (.istore_n 3, 1) := zdec_at bX8_until_29 4 rfl
theorem dX8_until_38 : decode cX8_until 38 = .ok (.aload_n 0, 1) := zdec_at bX8_until_29 5 rfl
theorem dX8_until_39 : decode cX8_until 39 = .ok (.getfield 389, 3) := zdec_at bX8_until_29 6 rfl
theorem dX8_until_42 : decode cX8_until 42 = .ok (.ifCond .ne 22, 3) := zdec_at bX8_until_29 7 rfl
theorem dX8_until_45 : decode cX8_until 45 = .ok (.aload_n 0, 1) := zdec_at bX8_until_29 8 rfl
theorem dX8_until_46 : decode cX8_until 46 = .ok (.bipush 31, 2) := zdec_at bX8_until_29 9 rfl
theorem dX8_until_48 : decode cX8_until 48 = .ok (.invokevirtual 398, 3) := zdec_at bX8_until_29 10 rfl
theorem dX8_until_51 : decode cX8_until 51 = .ok (.ifCond .eq 13, 3) := zdec_at bX8_until_29 11 rfl
theorem dX8_until_54 : decode cX8_until 54 = .ok (.aload_n 0, 1) := zdec_at bX8_until_29 12 rfl
theorem dX8_until_55 : decode cX8_until 55 = .ok (.dup, 1) := zdec_at bX8_until_29 13 rfl
theorem dX8_until_56 : decode cX8_until 56 = .ok (.getfield 392, 3) := zdec_at bX8_until_29 14 rfl
theorem dX8_until_59 : decode cX8_until 59 = .ok (.iconst 1, 1) := zdec_at bX8_until_29 15 rfl
theorem bX8_until_60 : zdec cX8_until 60 [(60, .iadd, 1), (61, .putfield 392, 3), (64, .aload_n 0, 1), (65, .bipush 26, 2), (67, .iload_n 3, 1), (68, .iload_n 1, 1), (69, .iconst 0, 1), (70, .invokevirtual 446, 3), (73, .ireturn, 1)] = true := by decide +kernel
theorem dX8_until_60 : decode cX8_until 60 = .ok (.iadd, 1) := zdec_at bX8_until_60 0 rfl
theorem dX8_until_61 : decode cX8_until 61 = .ok (.putfield 392, 3) := zdec_at bX8_until_60 1 rfl
theorem dX8_until_64 : decode cX8_until 64 = .ok (.aload_n 0, 1) := zdec_at bX8_until_60 2 rfl
theorem dX8_until_65 : decode cX8_until 65 = .ok (.bipush 26, 2) := zdec_at bX8_until_60 3 rfl
theorem dX8_until_67 : decode cX8_until 67 = .ok (.iload_n 3, 1) := zdec_at bX8_until_60 4 rfl
theorem dX8_until_68 : decode cX8_until 68 = .ok (.iload_n 1, 1) := zdec_at bX8_until_60 5 rfl
theorem dX8_until_69 : decode cX8_until 69 = .ok (.iconst 0, 1) := zdec_at bX8_until_60 6 rfl
theorem dX8_until_70 : decode cX8_until 70 = .ok (.invokevirtual 446, 3) := zdec_at bX8_until_60 7 rfl
theorem dX8_until_73 : decode cX8_until 73 = .ok (.ireturn, 1) := zdec_at bX8_until_60 8 rfl
theorem sX8_until_0 {E : zE} {d : Nat} {Q : zO → zM → Prop} (M : zM)  (k : Zm E YX8_looped d (si M 97 20 ((gi M 97 20) + (1 : Int32))) (zargs 0 [vr (some (97, 1, 0))]) 0 [] (zma E YX8_until (d + 1) [(0, vr (some (97, 1, 0)))] 11 3 [] Q)) : Zm E YX8_until (d + 1) M [(0, vr (some (97, 1, 0)))] 0 [] Q := by
  refine Zm.l (fun _ _ k_ => z_aload_n dX8_until_0 rfl rfl k_) ?_
  refine Zm.l (fun _ _ k_ => z_dup dX8_until_1 rfl k_) ?_
  refine zm_geti dX8_until_2 fsX8_392_1 (by decide) (by decide) ?_
  refine Zm.l (fun _ _ k_ => z_iconst (v := 1) dX8_until_5 rfl k_) ?_
  refine Zm.l (fun _ _ k_ => z_iadd dX8_until_6 k_) ?_
  refine zm_puti (by decide) (by decide) dX8_until_7 (zfwN.w fwX8_392_1) rfl ⟨rfl, rfl⟩ ?_
  refine Zm.l (fun _ _ k_ => z_aload_n dX8_until_10 rfl rfl k_) ?_
  exact zm_callV (as := []) (st := []) dX8_until_11 vsX8_580_1 (Nat.le_refl _) (Nat.le_of_ble_eq_true rfl) (Nat.le_of_ble_eq_true rfl) rfl k
theorem sX8_until_14 {E : zE} {d : Nat} {Q : zO → zM → Prop} (M : zM) (s0 : Int32) (k : Zm E YX8_mustWord d M (zargs 0 [vr (some (97, 1, 0)), vi (28 : Int32)]) 0 [] (zma E YX8_until (d + 1) [(0, vr (some (97, 1, 0))), (1, vi s0)] 18 3 [] Q)) : Zm E YX8_until (d + 1) M [(0, vr (some (97, 1, 0)))] 14 [vi s0] Q := by
  refine Zm.l (fun _ _ k_ => z_ist_n dX8_until_14 rfl (by decide) (lv' := [(0, vr (some (97, 1, 0))), (1, vi s0)]) rfl k_) ?_
  refine Zm.l (fun _ _ k_ => z_aload_n dX8_until_15 rfl rfl k_) ?_
  refine Zm.l (fun _ _ k_ => z_bipush (v := 28) dX8_until_16 rfl k_) ?_
  exact zm_callV (as := [vi (28 : Int32)]) (st := []) dX8_until_18 vsX8_600_1 (Nat.le_refl _) (Nat.le_of_ble_eq_true rfl) (Nat.le_of_ble_eq_true rfl) rfl k
theorem sX8_until_21 {E : zE} {d : Nat} {Q : zO → zM → Prop} (M : zM) (l1 : Int32) (s0 : Int32) (k : if (gi M 97 21) ≤ 0 then (Zm E YX8_condition d M (zargs 0 [vr (some (97, 1, 0))]) 0 [] (zma E YX8_until (d + 1) [(0, vr (some (97, 1, 0))), (1, vi l1)] 34 3 [] Q)) else (Zm E YX8_until (d + 1) M [(0, vr (some (97, 1, 0))), (1, vi l1)] 37 [vi (-1 : Int32)] Q)) : Zm E YX8_until (d + 1) M [(0, vr (some (97, 1, 0))), (1, vi l1)] 21 [vi s0] Q := by
  refine Zm.l (fun _ _ k_ => z_ist_n dX8_until_21 rfl (by decide) (lv' := [(0, vr (some (97, 1, 0))), (1, vi l1), (2, vi s0)]) rfl k_) ?_
  refine Zm.l (fun _ _ k_ => z_aload_n dX8_until_22 rfl rfl k_) ?_
  refine zm_geti dX8_until_23 fsX8_389_1 (by decide) (by decide) ?_
  refine Zm.br (fun _ _ k1_ k2_ => z_if_le (tgt := 33) dX8_until_26 rfl k1_ k2_) (fun h_ => ?_) (fun h_ => ?_)
  · have k := zit h_ k
    refine Zm.l (fun _ _ k_ => z_aload_n dX8_until_33 rfl rfl k_) ?_
    refine Zm.pick [0, 1] rfl ?_
    exact zm_callV (as := []) (st := []) dX8_until_34 vsX8_577_1 (Nat.le_refl _) (Nat.le_of_ble_eq_true rfl) (Nat.le_of_ble_eq_true rfl) rfl k
  · have k := zif h_ k
    refine Zm.l (fun _ _ k_ => z_iconst (v := -1) dX8_until_29 rfl k_) ?_
    refine Zm.l (fun _ _ k_ => z_goto (tgt := 37) dX8_until_30 rfl k_) ?_
    refine Zm.pick [0, 1] rfl ?_
    exact k
theorem sX8_until_37 {E : zE} {d : Nat} {Q : zO → zM → Prop} (M : zM) (l1 : Int32) (s0 : Int32) (k : if (gi M 97 21) = 0 then (Zm E YX8_isSign d M (zargs 0 [vr (some (97, 1, 0)), vi (31 : Int32)]) 0 [] (zma E YX8_until (d + 1) [(0, vr (some (97, 1, 0))), (1, vi l1), (3, vi s0)] 48 3 [] Q)) else (Zm E YX8_node d M (zargs 0 [vr (some (97, 1, 0)), vi (26 : Int32), vi s0, vi l1, vi (0 : Int32)]) 0 [] (zma E YX8_until (d + 1) [] 70 3 [] Q))) : Zm E YX8_until (d + 1) M [(0, vr (some (97, 1, 0))), (1, vi l1)] 37 [vi s0] Q := by
  refine Zm.l (fun _ _ k_ => z_ist_n dX8_until_37 rfl (by decide) (lv' := [(0, vr (some (97, 1, 0))), (1, vi l1), (3, vi s0)]) rfl k_) ?_
  refine Zm.l (fun _ _ k_ => z_aload_n dX8_until_38 rfl rfl k_) ?_
  refine zm_geti dX8_until_39 fsX8_389_1 (by decide) (by decide) ?_
  refine Zm.brn (fun _ _ k1_ k2_ => z_if_ne (tgt := 64) dX8_until_42 rfl k1_ k2_) (fun h_ => ?_) (fun h_ => ?_)
  · have k := zif h_ k
    refine Zm.l (fun _ _ k_ => z_aload_n dX8_until_64 rfl rfl k_) ?_
    refine Zm.l (fun _ _ k_ => z_bipush (v := 26) dX8_until_65 rfl k_) ?_
    refine Zm.l (fun _ _ k_ => z_iload_n dX8_until_67 rfl rfl k_) ?_
    refine Zm.l (fun _ _ k_ => z_iload_n dX8_until_68 rfl rfl k_) ?_
    refine Zm.l (fun _ _ k_ => z_iconst (v := 0) dX8_until_69 rfl k_) ?_
    refine Zm.pick [] rfl ?_
    exact zm_callV (as := [vi (26 : Int32), vi s0, vi l1, vi (0 : Int32)]) (st := []) dX8_until_70 vsX8_446_1 (Nat.le_refl _) (Nat.le_of_ble_eq_true rfl) (Nat.le_of_ble_eq_true rfl) rfl k
  · have k := zit h_ k
    refine Zm.l (fun _ _ k_ => z_aload_n dX8_until_45 rfl rfl k_) ?_
    refine Zm.l (fun _ _ k_ => z_bipush (v := 31) dX8_until_46 rfl k_) ?_
    exact zm_callV (as := [vi (31 : Int32)]) (st := []) dX8_until_48 vsX8_398_1 (Nat.le_refl _) (Nat.le_of_ble_eq_true rfl) (Nat.le_of_ble_eq_true rfl) rfl k
theorem sX8_until_51 {E : zE} {d : Nat} {Q : zO → zM → Prop} (M : zM) (l1 : Int32) (l3 : Int32) (s0 : Int32) (k : if s0 = 0 then (Zm E YX8_node d M (zargs 0 [vr (some (97, 1, 0)), vi (26 : Int32), vi l3, vi l1, vi (0 : Int32)]) 0 [] (zma E YX8_until (d + 1) [] 70 3 [] Q)) else (Zm E YX8_node d (si M 97 20 ((gi M 97 20) + (1 : Int32))) (zargs 0 [vr (some (97, 1, 0)), vi (26 : Int32), vi l3, vi l1, vi (0 : Int32)]) 0 [] (zma E YX8_until (d + 1) [] 70 3 [] Q))) : Zm E YX8_until (d + 1) M [(0, vr (some (97, 1, 0))), (1, vi l1), (3, vi l3)] 51 [vi s0] Q := by
  refine Zm.br (fun _ _ k1_ k2_ => z_if_eq (tgt := 64) dX8_until_51 rfl k1_ k2_) (fun h_ => ?_) (fun h_ => ?_)
  · have k := zit h_ k
    refine Zm.l (fun _ _ k_ => z_aload_n dX8_until_64 rfl rfl k_) ?_
    refine Zm.l (fun _ _ k_ => z_bipush (v := 26) dX8_until_65 rfl k_) ?_
    refine Zm.l (fun _ _ k_ => z_iload_n dX8_until_67 rfl rfl k_) ?_
    refine Zm.l (fun _ _ k_ => z_iload_n dX8_until_68 rfl rfl k_) ?_
    refine Zm.l (fun _ _ k_ => z_iconst (v := 0) dX8_until_69 rfl k_) ?_
    refine Zm.pick [] rfl ?_
    exact zm_callV (as := [vi (26 : Int32), vi l3, vi l1, vi (0 : Int32)]) (st := []) dX8_until_70 vsX8_446_1 (Nat.le_refl _) (Nat.le_of_ble_eq_true rfl) (Nat.le_of_ble_eq_true rfl) rfl k
  · have k := zif h_ k
    refine Zm.l (fun _ _ k_ => z_aload_n dX8_until_54 rfl rfl k_) ?_
    refine Zm.l (fun _ _ k_ => z_dup dX8_until_55 rfl k_) ?_
    refine zm_geti dX8_until_56 fsX8_392_1 (by decide) (by decide) ?_
    refine Zm.l (fun _ _ k_ => z_iconst (v := 1) dX8_until_59 rfl k_) ?_
    refine Zm.l (fun _ _ k_ => z_iadd dX8_until_60 k_) ?_
    refine zm_puti (by decide) (by decide) dX8_until_61 (zfwN.w fwX8_392_1) rfl ⟨rfl, rfl⟩ ?_
    refine Zm.l (fun _ _ k_ => z_aload_n dX8_until_64 rfl rfl k_) ?_
    refine Zm.l (fun _ _ k_ => z_bipush (v := 26) dX8_until_65 rfl k_) ?_
    refine Zm.l (fun _ _ k_ => z_iload_n dX8_until_67 rfl rfl k_) ?_
    refine Zm.l (fun _ _ k_ => z_iload_n dX8_until_68 rfl rfl k_) ?_
    refine Zm.l (fun _ _ k_ => z_iconst (v := 0) dX8_until_69 rfl k_) ?_
    refine Zm.pick [] rfl ?_
    exact zm_callV (as := [vi (26 : Int32), vi l3, vi l1, vi (0 : Int32)]) (st := []) dX8_until_70 vsX8_446_1 (Nat.le_refl _) (Nat.le_of_ble_eq_true rfl) (Nat.le_of_ble_eq_true rfl) rfl k
theorem sX8_until_73 {E : zE} {d : Nat} {Q : zO → zM → Prop} (M : zM) (s0 : Int32) (k : Q (.inl (some (vi s0))) M) : Zm E YX8_until (d + 1) M [] 73 [vi s0] Q := by
  exact zm_iret dX8_until_73 rfl rfl k
/-! ScriptTypesModel.mustWord(I)Z -/
theorem bX8_mustWord_0 : zdec cX8_mustWord 0 [(0, .aload_n 0, 1), (1, .getfield 389, 3), (4, .ifCond .gt 11, 3), (7, .aload_n 0, 1), (8, .iload_n 1, 1), (9, .invokevirtual 404, 3), (12, .ifCond .ne 9, 3), (15, .aload_n 0, 1), (16, .iconst 2, 1), (17, .invokevirtual 401, 3), (20, .ireturn, 1), (21, .aload_n 0, 1), (22, .dup, 1), (23, .getfield 392, 3), (26, .iconst 1, 1), (27, .iadd, 1)] = true := by decide +kernel
theorem dX8_mustWord_0 : decode cX8_mustWord 0 = .ok (.aload_n 0, 1) := zdec_at bX8_mustWord_0 0 rfl
theorem dX8_mustWord_1 : decode cX8_mustWord 1 = .ok (.getfield 389, 3) := zdec_at bX8_mustWord_0 1 rfl
theorem dX8_mustWord_4 : decode cX8_mustWord 4 = .ok (.ifCond .gt 11, 3) := zdec_at bX8_mustWord_0 2 rfl
theorem dX8_mustWord_7 : decode cX8_mustWord 7 = .ok (.aload_n 0, 1) := zdec_at bX8_mustWord_0 3 rfl
theorem dX8_mustWord_8 : decode cX8_mustWord 8 = .ok (.iload_n 1, 1) := zdec_at bX8_mustWord_0 4 rfl
theorem dX8_mustWord_9 : decode cX8_mustWord 9 = .ok (.invokevirtual 404, 3) := zdec_at bX8_mustWord_0 5 rfl
theorem dX8_mustWord_12 : decode cX8_mustWord 12 = .ok (.ifCond .ne 9, 3) := zdec_at bX8_mustWord_0 6 rfl
theorem dX8_mustWord_15 : decode cX8_mustWord 15 = .ok (.aload_n 0, 1) := zdec_at bX8_mustWord_0 7 rfl
theorem dX8_mustWord_16 : decode cX8_mustWord 16 = .ok (.iconst 2, 1) := zdec_at bX8_mustWord_0 8 rfl
theorem dX8_mustWord_17 : decode cX8_mustWord 17 = .ok (.invokevirtual 401, 3) := zdec_at bX8_mustWord_0 9 rfl
theorem dX8_mustWord_20 : decode cX8_mustWord 20 = .ok (.ireturn, 1) := zdec_at bX8_mustWord_0 10 rfl
theorem dX8_mustWord_21 : decode cX8_mustWord 21 = .ok (.aload_n 0, 1) := zdec_at bX8_mustWord_0 11 rfl
theorem dX8_mustWord_22 : decode cX8_mustWord 22 = .ok (.dup, 1) := zdec_at bX8_mustWord_0 12 rfl
theorem dX8_mustWord_23 : decode cX8_mustWord 23 = .ok (.getfield 392, 3) := zdec_at bX8_mustWord_0 13 rfl
theorem dX8_mustWord_26 : decode cX8_mustWord 26 = .ok (.iconst 1, 1) := zdec_at bX8_mustWord_0 14 rfl
theorem dX8_mustWord_27 : decode cX8_mustWord 27 = .ok (.iadd, 1) := zdec_at bX8_mustWord_0 15 rfl
theorem bX8_mustWord_28 : zdec cX8_mustWord 28 [(28, .putfield 392, 3), (31, .iconst 1, 1), (32, .ireturn, 1)] = true := by decide +kernel
theorem dX8_mustWord_28 : decode cX8_mustWord 28 = .ok (.putfield 392, 3) := zdec_at bX8_mustWord_28 0 rfl
theorem dX8_mustWord_31 : decode cX8_mustWord 31 = .ok (.iconst 1, 1) := zdec_at bX8_mustWord_28 1 rfl
theorem dX8_mustWord_32 : decode cX8_mustWord 32 = .ok (.ireturn, 1) := zdec_at bX8_mustWord_28 2 rfl
theorem sX8_mustWord_0 {E : zE} {d : Nat} {Q : zO → zM → Prop} (M : zM) (l1 : Int32) (k : if 0 < (gi M 97 21) then (Zm E YX8_fail d M (zargs 0 [vr (some (97, 1, 0)), vi (2 : Int32)]) 0 [] (zma E YX8_mustWord (d + 1) [] 17 3 [] Q)) else (Zm E YX8_isKeyword d M (zargs 0 [vr (some (97, 1, 0)), vi l1]) 0 [] (zma E YX8_mustWord (d + 1) [(0, vr (some (97, 1, 0)))] 9 3 [] Q))) : Zm E YX8_mustWord (d + 1) M [(0, vr (some (97, 1, 0))), (1, vi l1)] 0 [] Q := by
  refine Zm.l (fun _ _ k_ => z_aload_n dX8_mustWord_0 rfl rfl k_) ?_
  refine zm_geti dX8_mustWord_1 fsX8_389_1 (by decide) (by decide) ?_
  refine Zm.br (fun _ _ k1_ k2_ => z_if_gt (tgt := 15) dX8_mustWord_4 rfl k1_ k2_) (fun h_ => ?_) (fun h_ => ?_)
  · have k := zit h_ k
    refine Zm.l (fun _ _ k_ => z_aload_n dX8_mustWord_15 rfl rfl k_) ?_
    refine Zm.l (fun _ _ k_ => z_iconst (v := 2) dX8_mustWord_16 rfl k_) ?_
    refine Zm.pick [] rfl ?_
    exact zm_callV (as := [vi (2 : Int32)]) (st := []) dX8_mustWord_17 vsX8_401_1 (Nat.le_refl _) (Nat.le_of_ble_eq_true rfl) (Nat.le_of_ble_eq_true rfl) rfl k
  · have k := zif h_ k
    refine Zm.l (fun _ _ k_ => z_aload_n dX8_mustWord_7 rfl rfl k_) ?_
    refine Zm.l (fun _ _ k_ => z_iload_n dX8_mustWord_8 rfl rfl k_) ?_
    refine Zm.pick [0] rfl ?_
    exact zm_callV (as := [vi l1]) (st := []) dX8_mustWord_9 vsX8_404_1 (Nat.le_refl _) (Nat.le_of_ble_eq_true rfl) (Nat.le_of_ble_eq_true rfl) rfl k
theorem sX8_mustWord_12 {E : zE} {d : Nat} {Q : zO → zM → Prop} (M : zM) (s0 : Int32) (k : if s0 = 0 then (Zm E YX8_fail d M (zargs 0 [vr (some (97, 1, 0)), vi (2 : Int32)]) 0 [] (zma E YX8_mustWord (d + 1) [] 17 3 [] Q)) else (Q (.inl (some (vi (1 : Int32)))) (si M 97 20 ((gi M 97 20) + (1 : Int32))))) : Zm E YX8_mustWord (d + 1) M [(0, vr (some (97, 1, 0)))] 12 [vi s0] Q := by
  refine Zm.brn (fun _ _ k1_ k2_ => z_if_ne (tgt := 21) dX8_mustWord_12 rfl k1_ k2_) (fun h_ => ?_) (fun h_ => ?_)
  · have k := zif h_ k
    refine Zm.l (fun _ _ k_ => z_aload_n dX8_mustWord_21 rfl rfl k_) ?_
    refine Zm.l (fun _ _ k_ => z_dup dX8_mustWord_22 rfl k_) ?_
    refine zm_geti dX8_mustWord_23 fsX8_392_1 (by decide) (by decide) ?_
    refine Zm.l (fun _ _ k_ => z_iconst (v := 1) dX8_mustWord_26 rfl k_) ?_
    refine Zm.l (fun _ _ k_ => z_iadd dX8_mustWord_27 k_) ?_
    refine zm_puti (by decide) (by decide) dX8_mustWord_28 (zfwN.w fwX8_392_1) rfl ⟨rfl, rfl⟩ ?_
    refine Zm.l (fun _ _ k_ => z_iconst (v := 1) dX8_mustWord_31 rfl k_) ?_
    exact zm_iret dX8_mustWord_32 rfl (by decide) k
  · have k := zit h_ k
    refine Zm.l (fun _ _ k_ => z_aload_n dX8_mustWord_15 rfl rfl k_) ?_
    refine Zm.l (fun _ _ k_ => z_iconst (v := 2) dX8_mustWord_16 rfl k_) ?_
    refine Zm.pick [] rfl ?_
    exact zm_callV (as := [vi (2 : Int32)]) (st := []) dX8_mustWord_17 vsX8_401_1 (Nat.le_refl _) (Nat.le_of_ble_eq_true rfl) (Nat.le_of_ble_eq_true rfl) rfl k
theorem sX8_mustWord_20 {E : zE} {d : Nat} {Q : zO → zM → Prop} (M : zM) (s0 : Int32) (k : (narrow .boolean (.int s0) = .int s0) ∧ Q (.inl (some (vi s0))) M) : Zm E YX8_mustWord (d + 1) M [] 20 [vi s0] Q := by
  exact zm_iret dX8_mustWord_20 rfl k.1 k.2
/-! ScriptTypesModel.counted()I -/
theorem bX8_counted_0 : zdec cX8_counted 0 [(0, .aload_n 0, 1), (1, .dup, 1), (2, .getfield 392, 3), (5, .iconst 1, 1), (6, .iadd, 1), (7, .putfield 392, 3), (10, .aload_n 0, 1), (11, .bipush 26, 2), (13, .invokevirtual 473, 3), (16, .ifCond .ne 5, 3), (19, .iconst (-1), 1), (20, .ireturn, 1), (21, .aload_n 0, 1), (22, .bipush 26, 2), (24, .invokevirtual 404, 3), (27, .ifCond .eq 53, 3)] = true := by decide +kernel
theorem dX8_counted_0 : decode cX8_counted 0 = .ok (.aload_n 0, 1) := zdec_at bX8_counted_0 0 rfl
theorem dX8_counted_1 : decode cX8_counted 1 = .ok (.dup, 1) := zdec_at bX8_counted_0 1 rfl
theorem dX8_counted_2 : decode cX8_counted 2 = .ok (.getfield 392, 3) := zdec_at bX8_counted_0 2 rfl
theorem dX8_counted_5 : decode cX8_counted 5 = .ok (.iconst 1, 1) := zdec_at bX8_counted_0 3 rfl
theorem dX8_counted_6 : decode cX8_counted 6 = .ok (.iadd, 1) := zdec_at bX8_counted_0 4 rfl
theorem dX8_counted_7 : decode cX8_counted 7 = .ok (.putfield 392, 3) := zdec_at bX8_counted_0 5 rfl
theorem dX8_counted_10 : decode cX8_counted 10 = .ok (.aload_n 0, 1) := zdec_at bX8_counted_0 6 rfl
theorem dX8_counted_11 : decode cX8_counted 11 = .ok (.bipush 26, 2) := zdec_at bX8_counted_0 7 rfl
theorem dX8_counted_13 : decode cX8_counted 13 = .ok (.invokevirtual 473, 3) := zdec_at bX8_counted_0 8 rfl
theorem dX8_counted_16 : decode cX8_counted 16 = .ok (.ifCond .ne 5, 3) := zdec_at bX8_counted_0 9 rfl
theorem dX8_counted_19 : decode cX8_counted 19 = .ok (.iconst (-1), 1) := zdec_at bX8_counted_0 10 rfl
theorem dX8_counted_20 : decode cX8_counted 20 = .ok (.ireturn, 1) := zdec_at bX8_counted_0 11 rfl
theorem dX8_counted_21 : decode cX8_counted 21 = .ok (.aload_n 0, 1) := zdec_at bX8_counted_0 12 rfl
theorem dX8_counted_22 : decode cX8_counted 22 = .ok (.bipush 26, 2) := zdec_at bX8_counted_0 13 rfl
theorem dX8_counted_24 : decode cX8_counted 24 = .ok (.invokevirtual 404, 3) := zdec_at bX8_counted_0 14 rfl
theorem dX8_counted_27 : decode cX8_counted 27 = .ok (.ifCond .eq 53, 3) := zdec_at bX8_counted_0 15 rfl
theorem bX8_counted_30 : zdec cX8_counted 30 [(30, .aload_n 0, 1), (31, .getfield 27, 3), (34, .aload_n 0, 1), (35, .getfield 392, 3), (38, .iconst 1, 1), (39, .iadd, 1), (40, .iaload, 1), (41, .iconst 1, 1), (42, .if_icmp .ne 38, 3), (45, .aload_n 0, 1), (46, .getfield 27, 3), (49, .aload_n 0, 1), (50, .getfield 392, 3), (53, .iconst 2, 1), (54, .iadd, 1), (55, .iaload, 1)] = true := by decide +kernel
theorem dX8_counted_30 : decode cX8_counted 30 = .ok (.aload_n 0, 1) := zdec_at bX8_counted_30 0 rfl
theorem dX8_counted_31 : decode cX8_counted 31 = .ok (.getfield 27, 3) := zdec_at bX8_counted_30 1 rfl
theorem dX8_counted_34 : decode cX8_counted 34 = .ok (.aload_n 0, 1) := zdec_at bX8_counted_30 2 rfl
theorem dX8_counted_35 : decode cX8_counted 35 = .ok (.getfield 392, 3) := zdec_at bX8_counted_30 3 rfl
theorem dX8_counted_38 : decode cX8_counted 38 = .ok (.iconst 1, 1) := zdec_at bX8_counted_30 4 rfl
theorem dX8_counted_39 : decode cX8_counted 39 = .ok (.iadd, 1) := zdec_at bX8_counted_30 5 rfl
theorem dX8_counted_40 : decode cX8_counted 40 = .ok (.iaload, 1) := zdec_at bX8_counted_30 6 rfl
theorem dX8_counted_41 : decode cX8_counted 41 = .ok (.iconst 1, 1) := zdec_at bX8_counted_30 7 rfl
theorem dX8_counted_42 : decode cX8_counted 42 = .ok (.if_icmp .ne 38, 3) := zdec_at bX8_counted_30 8 rfl
theorem dX8_counted_45 : decode cX8_counted 45 = .ok (.aload_n 0, 1) := zdec_at bX8_counted_30 9 rfl
theorem dX8_counted_46 : decode cX8_counted 46 = .ok (.getfield 27, 3) := zdec_at bX8_counted_30 10 rfl
theorem dX8_counted_49 : decode cX8_counted 49 = .ok (.aload_n 0, 1) := zdec_at bX8_counted_30 11 rfl
theorem dX8_counted_50 : decode cX8_counted 50 = .ok (.getfield 392, 3) := zdec_at bX8_counted_30 12 rfl
theorem dX8_counted_53 : decode cX8_counted 53 = .ok (.iconst 2, 1) := zdec_at bX8_counted_30 13 rfl
theorem dX8_counted_54 : decode cX8_counted 54 = .ok (.iadd, 1) := zdec_at bX8_counted_30 14 rfl
theorem dX8_counted_55 : decode cX8_counted 55 = .ok (.iaload, 1) := zdec_at bX8_counted_30 15 rfl
theorem bX8_counted_56 : zdec cX8_counted 56 [(56, .iconst 2, 1), (57, .if_icmp .ne 23, 3), (60, .aload_n 0, 1), (61, .getfield 30, 3), (64, .aload_n 0, 1), (65, .getfield 392, 3), (68, .iconst 2, 1), (69, .iadd, 1), (70, .iaload, 1), (71, .bipush 13, 2), (73, .if_icmp .ne 7, 3), (76, .iconst 1, 1), (77, .goto 4, 3), (80, .iconst 0, 1), (81, .istore_n 1, 1), (82, .aload_n 0, 1)] = true := by decide +kernel
theorem dX8_counted_56 : decode cX8_counted 56 = .ok (.iconst 2, 1) := zdec_at bX8_counted_56 0 rfl
theorem dX8_counted_57 : decode cX8_counted 57 = .ok (.if_icmp .ne 23, 3) := zdec_at bX8_counted_56 1 rfl
theorem dX8_counted_60 : decode cX8_counted 60 = .ok (.aload_n 0, 1) := zdec_at bX8_counted_56 2 rfl
theorem dX8_counted_61 : decode cX8_counted 61 = .ok (.getfield 30, 3) := zdec_at bX8_counted_56 3 rfl
theorem dX8_counted_64 : decode cX8_counted 64 = .ok (.aload_n 0, 1) := zdec_at bX8_counted_56 4 rfl
theorem dX8_counted_65 : decode cX8_counted 65 = .ok (.getfield 392, 3) := zdec_at bX8_counted_56 5 rfl
theorem dX8_counted_68 : decode cX8_counted 68 = .ok (.iconst 2, 1) := zdec_at bX8_counted_56 6 rfl
theorem dX8_counted_69 : decode cX8_counted 69 = .ok (.iadd, 1) := zdec_at bX8_counted_56 7 rfl
theorem dX8_counted_70 : decode cX8_counted 70 = .ok (.iaload, 1) := zdec_at bX8_counted_56 8 rfl
theorem dX8_counted_71 : decode cX8_counted 71 = .ok (.bipush 13, 2) := zdec_at bX8_counted_56 9 rfl
theorem dX8_counted_73 : decode cX8_counted 73 = .ok (.if_icmp .ne 7, 3) := zdec_at bX8_counted_56 10 rfl
theorem dX8_counted_76 : decode cX8_counted 76 = .ok (.iconst 1, 1) := zdec_at bX8_counted_56 11 rfl
theorem dX8_counted_77 : decode cX8_counted 77 = .ok (.goto 4, 3) := zdec_at bX8_counted_56 12 rfl
theorem dX8_counted_80 : decode cX8_counted 80 = .ok (.iconst 0, 1) := zdec_at bX8_counted_56 13 rfl
theorem dX8_counted_81 : decode cX8_counted 81 = .ok (.istore_n 1, 1) := zdec_at bX8_counted_56 14 rfl
theorem dX8_counted_82 : decode cX8_counted 82 = .ok (.aload_n 0, 1) := zdec_at bX8_counted_56 15 rfl
theorem bX8_counted_83 : zdec cX8_counted 83 [(83, .getfield 27, 3), (86, .aload_n 0, 1), (87, .getfield 392, 3), (90, .iaload, 1), (91, .iconst 1, 1), (92, .if_icmp .ne 38, 3), (95, .aload_n 0, 1), (96, .getfield 27, 3), (99, .aload_n 0, 1), (100, .getfield 392, 3), (103, .iconst 1, 1), (104, .iadd, 1), (105, .iaload, 1), (106, .iconst 2, 1), (107, .if_icmp .ne 23, 3), (110, .aload_n 0, 1)] = true := by decide +kernel
theorem dX8_counted_83 : decode cX8_counted 83 = .ok (.getfield 27, 3) := zdec_at bX8_counted_83 0 rfl
theorem dX8_counted_86 : decode cX8_counted 86 = .ok (.aload_n 0, 1) := zdec_at bX8_counted_83 1 rfl
theorem dX8_counted_87 : decode cX8_counted 87 = .ok (.getfield 392, 3) := zdec_at bX8_counted_83 2 rfl
theorem dX8_counted_90 : decode cX8_counted 90 = .ok (.iaload, 1) := zdec_at bX8_counted_83 3 rfl
theorem dX8_counted_91 : decode cX8_counted 91 = .ok (.iconst 1, 1) := zdec_at bX8_counted_83 4 rfl
theorem dX8_counted_92 : decode cX8_counted 92 = .ok (.if_icmp .ne 38, 3) := zdec_at bX8_counted_83 5 rfl
theorem dX8_counted_95 : decode cX8_counted 95 = .ok (.aload_n 0, 1) := zdec_at bX8_counted_83 6 rfl
theorem dX8_counted_96 : decode cX8_counted 96 = .ok (.getfield 27, 3) := zdec_at bX8_counted_83 7 rfl
theorem dX8_counted_99 : decode cX8_counted 99 = .ok (.aload_n 0, 1) := zdec_at bX8_counted_83 8 rfl
theorem dX8_counted_100 : decode cX8_counted 100 = .ok (.getfield 392, 3) := zdec_at bX8_counted_83 9 rfl
theorem dX8_counted_103 : decode cX8_counted 103 = .ok (.iconst 1, 1) := zdec_at bX8_counted_83 10 rfl
theorem dX8_counted_104 : decode cX8_counted 104 = .ok (.iadd, 1) := zdec_at bX8_counted_83 11 rfl
theorem dX8_counted_105 : decode cX8_counted 105 = .ok (.iaload, 1) := zdec_at bX8_counted_83 12 rfl
theorem dX8_counted_106 : decode cX8_counted 106 = .ok (.iconst 2, 1) := zdec_at bX8_counted_83 13 rfl
theorem dX8_counted_107 : decode cX8_counted 107 = .ok (.if_icmp .ne 23, 3) := zdec_at bX8_counted_83 14 rfl
theorem dX8_counted_110 : decode cX8_counted 110 = .ok (.aload_n 0, 1) := zdec_at bX8_counted_83 15 rfl
theorem bX8_counted_111 : zdec cX8_counted 111 [(111, .getfield 30, 3), (114, .aload_n 0, 1), (115, .getfield 392, 3), (118, .iconst 1, 1), (119, .iadd, 1), (120, .iaload, 1), (121, .bipush 13, 2), (123, .if_icmp .ne 7, 3), (126, .iconst 1, 1), (127, .goto 4, 3), (130, .iconst 0, 1), (131, .istore_n 2, 1), (132, .iload_n 1, 1), (133, .ifCond .ne 7, 3), (136, .iload_n 2, 1), (137, .ifCond .eq 9, 3)] = true := by decide +kernel
theorem dX8_counted_111 : decode cX8_counted 111 = .ok (.getfield 30, 3) := zdec_at bX8_counted_111 0 rfl
theorem dX8_counted_114 : decode cX8_counted 114 = .ok (.aload_n 0, 1) := zdec_at bX8_counted_111 1 rfl
theorem dX8_counted_115 : decode cX8_counted 115 = .ok (.getfield 392, 3) := zdec_at bX8_counted_111 2 rfl
theorem dX8_counted_118 : decode cX8_counted 118 = .ok (.iconst 1, 1) := zdec_at bX8_counted_111 3 rfl
theorem dX8_counted_119 : decode cX8_counted 119 = .ok (.iadd, 1) := zdec_at bX8_counted_111 4 rfl
theorem dX8_counted_120 : decode cX8_counted 120 = .ok (.iaload, 1) := zdec_at bX8_counted_111 5 rfl
theorem dX8_counted_121 : decode cX8_counted 121 = .ok (.bipush 13, 2) := zdec_at bX8_counted_111 6 rfl
theorem dX8_counted_123 : decode cX8_counted 123 = .ok (.if_icmp .ne 7, 3) := zdec_at bX8_counted_111 7 rfl
theorem dX8_counted_126 : decode cX8_counted 126 = .ok (.iconst 1, 1) := zdec_at bX8_counted_111 8 rfl
theorem dX8_counted_127 : decode cX8_counted 127 = .ok (.goto 4, 3) := zdec_at bX8_counted_111 9 rfl
theorem dX8_counted_130 : decode cX8_counted 130 = .ok (.iconst 0, 1) := zdec_at bX8_counted_111 10 rfl
theorem dX8_counted_131 : decode cX8_counted 131 = .ok (.istore_n 2, 1) := zdec_at bX8_counted_111 11 rfl
theorem dX8_counted_132 : decode cX8_counted 132 = .ok (.iload_n 1, 1) := zdec_at bX8_counted_111 12 rfl
theorem dX8_counted_133 : decode cX8_counted 133 = .ok (.ifCond .ne 7, 3) := zdec_at bX8_counted_111 13 rfl
theorem dX8_counted_136 : decode cX8_counted 136 = .ok (.iload_n 2, 1) := zdec_at bX8_counted_111 14 rfl
theorem dX8_counted_137 : decode cX8_counted 137 = .ok (.ifCond .eq 9, 3) := zdec_at bX8_counted_111 15 rfl
theorem bX8_counted_140 : zdec cX8_counted 140 [(140, .aload_n 0, 1), (141, .iload_n 1, 1), (142, .invokevirtual 603, 3), (145, .ireturn, 1), (146, .iconst (-1), 1), (147, .istore_n 3, 1), (148, .aload_n 0, 1), (149, .bipush 26, 2), (151, .invokevirtual 404, 3), (154, .ifCond .eq 12, 3), (157, .aload_n 0, 1), (158, .iconst 0, 1), (159, .invokevirtual 568, 3), (162, .istore_n 3, 1), (163, .goto 26, 3), (166, .aload_n 0, 1)] = true := by decide +kernel
theorem dX8_counted_140 : decode cX8_counted 140 = .ok (.aload_n 0, 1) := zdec_at bX8_counted_140 0 rfl
theorem dX8_counted_141 : decode cX8_counted 141 = .ok (.iload_n 1, 1) := zdec_at bX8_counted_140 1 rfl
theorem dX8_counted_142 : decode cX8_counted 142 = .ok (.invokevirtual 603, 3) := zdec_at bX8_counted_140 2 rfl
theorem dX8_counted_145 : decode cX8_counted 145 = .ok (.ireturn, 1) := zdec_at bX8_counted_140 3 rfl
theorem dX8_counted_146 : decode cX8_counted 146 = .ok (.iconst (-1), 1) := zdec_at bX8_counted_140 4 rfl
theorem dX8_counted_147 : decode cX8_counted 147 = .ok (.istore_n 3, 1) := zdec_at bX8_counted_140 5 rfl
theorem dX8_counted_148 : decode cX8_counted 148 = .ok (.aload_n 0, 1) := zdec_at bX8_counted_140 6 rfl
theorem dX8_counted_149 : decode cX8_counted 149 = .ok (.bipush 26, 2) := zdec_at bX8_counted_140 7 rfl
theorem dX8_counted_151 : decode cX8_counted 151 = .ok (.invokevirtual 404, 3) := zdec_at bX8_counted_140 8 rfl
theorem dX8_counted_154 : decode cX8_counted 154 = .ok (.ifCond .eq 12, 3) := zdec_at bX8_counted_140 9 rfl
theorem dX8_counted_157 : decode cX8_counted 157 = .ok (.aload_n 0, 1) := zdec_at bX8_counted_140 10 rfl
theorem dX8_counted_158 : decode cX8_counted 158 = .ok (.iconst 0, 1) := zdec_at bX8_counted_140 11 rfl
theorem dX8_counted_159 : decode cX8_counted 159 = .ok (.invokevirtual 568, 3) := zdec_at bX8_counted_140 12 rfl
theorem dX8_counted_162 : decode cX8_counted 162 = .ok (.istore_n 3, 1) := zdec_at bX8_counted_140 13 rfl
theorem dX8_counted_163 : decode cX8_counted 163 = .ok (.goto 26, 3) := zdec_at bX8_counted_140 14 rfl
theorem dX8_counted_166 : decode cX8_counted 166 = .ok (.aload_n 0, 1) := zdec_at bX8_counted_140 15 rfl
theorem bX8_counted_167 : zdec cX8_counted 167 [(167, .bipush 31, 2), (169, .invokevirtual 398, 3), (172, .ifCond .ne 17, 3), (175, .aload_n 0, 1), (176, .bipush 23, 2), (178, .aload_n 0, 1), (179, .iconst 0, 1), (180, .invokevirtual 502, 3), (183, .iconst 0, 1), (184, .iconst 0, 1), (185, .invokevirtual 446, 3), (188, .istore_n 3, 1), (189, .aload_n 0, 1), (190, .bipush 31, 2), (192, .invokevirtual 473, 3), (195, .ifCond .ne 5, 3)] = true := by decide +kernel
theorem dX8_counted_167 : decode cX8_counted 167 = .ok (.bipush 31, 2) := zdec_at bX8_counted_167 0 rfl
theorem dX8_counted_169 : decode cX8_counted 169 = .ok (.invokevirtual 398, 3) := zdec_at bX8_counted_167 1 rfl
theorem dX8_counted_172 : decode cX8_counted 172 = .ok (.ifCond .ne 17, 3) := zdec_at bX8_counted_167 2 rfl
theorem dX8_counted_175 : decode cX8_counted 175 = .ok (.aload_n 0, 1) := zdec_at bX8_counted_167 3 rfl
theorem dX8_counted_176 : decode cX8_counted 176 = .ok (.bipush 23, 2) := zdec_at bX8_counted_167 4 rfl
theorem dX8_counted_178 : decode cX8_counted 178 = .ok (.aload_n 0, 1) := zdec_at bX8_counted_167 5 rfl
theorem dX8_counted_179 : decode cX8_counted 179 = .ok (.iconst 0, 1) := zdec_at bX8_counted_167 6 rfl
theorem dX8_counted_180 : decode cX8_counted 180 = .ok (.invokevirtual 502, 3) := zdec_at bX8_counted_167 7 rfl
theorem dX8_counted_183 : decode cX8_counted 183 = .ok (.iconst 0, 1) := zdec_at bX8_counted_167 8 rfl
theorem dX8_counted_184 : decode cX8_counted 184 = .ok (.iconst 0, 1) := zdec_at bX8_counted_167 9 rfl
theorem dX8_counted_185 : decode cX8_counted 185 = .ok (.invokevirtual 446, 3) := zdec_at bX8_counted_167 10 rfl
theorem dX8_counted_188 : decode cX8_counted 188 = .ok (.istore_n 3, 1) := zdec_at bX8_counted_167 11 rfl
theorem dX8_counted_189 : decode cX8_counted 189 = .ok (.aload_n 0, 1) := zdec_at bX8_counted_167 12 rfl
theorem dX8_counted_190 : decode cX8_counted 190 = .ok (.bipush 31, 2) := zdec_at bX8_counted_167 13 rfl
theorem dX8_counted_192 : decode cX8_counted 192 = .ok (.invokevirtual 473, 3) := zdec_at bX8_counted_167 14 rfl
theorem dX8_counted_195 : decode cX8_counted 195 = .ok (.ifCond .ne 5, 3) := zdec_at bX8_counted_167 15 rfl
theorem bX8_counted_198 : zdec cX8_counted 198 [(198, .iconst (-1), 1), (199, .ireturn, 1), (200, .aload_n 0, 1), (201, .bipush 31, 2), (203, .invokevirtual 398, 3), (206, .ifCond .eq 7, 3), (209, .iconst (-1), 1), (210, .goto 8, 3), (213, .aload_n 0, 1), (214, .iconst 1, 1), (215, .invokevirtual 502, 3), (218, .istore 4, 2), (220, .aload_n 0, 1), (221, .bipush 31, 2), (223, .invokevirtual 473, 3), (226, .ifCond .ne 5, 3)] = true := by decide +kernel
theorem dX8_counted_198 : decode cX8_counted 198 = .ok (.iconst (-1), 1) := zdec_at bX8_counted_198 0 rfl
theorem dX8_counted_199 : decode cX8_counted 199 = .ok (.ireturn, 1) := zdec_at bX8_counted_198 1 rfl
theorem dX8_counted_200 : decode cX8_counted 200 = .ok (.aload_n 0, 1) := zdec_at bX8_counted_198 2 rfl
theorem dX8_counted_201 : decode cX8_counted 201 = .ok (.bipush 31, 2) := zdec_at bX8_counted_198 3 rfl
theorem dX8_counted_203 : decode cX8_counted 203 = .ok (.invokevirtual 398, 3) := zdec_at bX8_counted_198 4 rfl
theorem dX8_counted_206 : decode cX8_counted 206 = .ok (.ifCond .eq 7, 3) := zdec_at bX8_counted_198 5 rfl
theorem dX8_counted_209 : decode cX8_counted 209 = .ok (.iconst (-1), 1) := zdec_at bX8_counted_198 6 rfl
theorem dX8_counted_210 : decode cX8_counted 210 = .ok (.goto 8, 3) := zdec_at bX8_counted_198 7 rfl
theorem dX8_counted_213 : decode cX8_counted 213 = .ok (.aload_n 0, 1) := zdec_at bX8_counted_198 8 rfl
theorem dX8_counted_214 : decode cX8_counted 214 = .ok (.iconst 1, 1) := zdec_at bX8_counted_198 9 rfl
theorem dX8_counted_215 : decode cX8_counted 215 = .ok (.invokevirtual 502, 3) := zdec_at bX8_counted_198 10 rfl
theorem dX8_counted_218 : decode cX8_counted 218 = .ok (.istore 4, 2) := zdec_at bX8_counted_198 11 rfl
theorem dX8_counted_220 : decode cX8_counted 220 = .ok (.aload_n 0, 1) := zdec_at bX8_counted_198 12 rfl
theorem dX8_counted_221 : decode cX8_counted 221 = .ok (.bipush 31, 2) := zdec_at bX8_counted_198 13 rfl
theorem dX8_counted_223 : decode cX8_counted 223 = .ok (.invokevirtual 473, 3) := zdec_at bX8_counted_198 14 rfl
theorem dX8_counted_226 : decode cX8_counted 226 = .ok (.ifCond .ne 5, 3) := zdec_at bX8_counted_198 15 rfl
theorem bX8_counted_229 : zdec cX8_counted 229 [(229, .iconst (-1), 1), (230, .ireturn, 1), (231, .aload_n 0, 1), (232, .bipush 27, 2), (234, .invokevirtual 398, 3), (237, .ifCond .eq 7, 3), (240, .iconst (-1), 1), (241, .goto 8, 3), (244, .aload_n 0, 1), (245, .iconst 1, 1), (246, .invokevirtual 502, 3), (249, .istore 5, 2), (251, .aload_n 0, 1), (252, .bipush 27, 2), (254, .invokevirtual 473, 3), (257, .ifCond .ne 5, 3)] = true := by decide +kernel
theorem dX8_counted_229 : decode cX8_counted 229 = .ok (.iconst (-1), 1) := zdec_at bX8_counted_229 0 rfl
theorem dX8_counted_230 : decode cX8_counted 230 = .ok (.ireturn, 1) := zdec_at bX8_counted_229 1 rfl
theorem dX8_counted_231 : decode cX8_counted 231 = .ok (.aload_n 0, 1) := zdec_at bX8_counted_229 2 rfl
theorem dX8_counted_232 : decode cX8_counted 232 = .ok (.bipush 27, 2) := zdec_at bX8_counted_229 3 rfl
theorem dX8_counted_234 : decode cX8_counted 234 = .ok (.invokevirtual 398, 3) := zdec_at bX8_counted_229 4 rfl
theorem dX8_counted_237 : decode cX8_counted 237 = .ok (.ifCond .eq 7, 3) := zdec_at bX8_counted_229 5 rfl
theorem dX8_counted_240 : decode cX8_counted 240 = .ok (.iconst (-1), 1) := zdec_at bX8_counted_229 6 rfl
theorem dX8_counted_241 : decode cX8_counted 241 = .ok (.goto 8, 3) := zdec_at bX8_counted_229 7 rfl
theorem dX8_counted_244 : decode cX8_counted 244 = .ok (.aload_n 0, 1) := zdec_at bX8_counted_229 8 rfl
theorem dX8_counted_245 : decode cX8_counted 245 = .ok (.iconst 1, 1) := zdec_at bX8_counted_229 9 rfl
theorem dX8_counted_246 : decode cX8_counted 246 = .ok (.invokevirtual 502, 3) := zdec_at bX8_counted_229 10 rfl
theorem dX8_counted_249 : decode cX8_counted 249 = .ok (.istore 5, 2) := zdec_at bX8_counted_229 11 rfl
theorem dX8_counted_251 : decode cX8_counted 251 = .ok (.aload_n 0, 1) := zdec_at bX8_counted_229 12 rfl
theorem dX8_counted_252 : decode cX8_counted 252 = .ok (.bipush 27, 2) := zdec_at bX8_counted_229 13 rfl
theorem dX8_counted_254 : decode cX8_counted 254 = .ok (.invokevirtual 473, 3) := zdec_at bX8_counted_229 14 rfl
theorem dX8_counted_257 : decode cX8_counted 257 = .ok (.ifCond .ne 5, 3) := zdec_at bX8_counted_229 15 rfl
theorem bX8_counted_260 : zdec cX8_counted 260 [(260, .iconst (-1), 1), (261, .ireturn, 1), (262, .aload_n 0, 1), (263, .bipush 27, 2), (265, .iload_n 3, 1), (266, .iload 4, 2), (268, .iload 5, 2), (270, .invokevirtual 446, 3), (273, .istore 6, 2), (275, .aload_n 0, 1), (276, .invokevirtual 580, 3), (279, .istore 7, 2), (281, .aload_n 0, 1), (282, .getfield 46, 3), (285, .iconst 5, 1), (286, .iload 6, 2)] = true := by decide +kernel
theorem dX8_counted_260 : decode cX8_counted 260 = .ok (.iconst (-1), 1) := zdec_at bX8_counted_260 0 rfl
theorem dX8_counted_261 : decode cX8_counted 261 = .ok (.ireturn, 1) := zdec_at bX8_counted_260 1 rfl
theorem dX8_counted_262 : decode cX8_counted 262 = .ok (.aload_n 0, 1) := zdec_at bX8_counted_260 2 rfl
theorem dX8_counted_263 : decode cX8_counted 263 = .ok (.bipush 27, 2) := zdec_at bX8_counted_260 3 rfl
theorem dX8_counted_265 : decode cX8_counted 265 = .ok (.iload_n 3, 1) := zdec_at bX8_counted_260 4 rfl
theorem dX8_counted_266 : decode cX8_counted 266 = .ok (.iload 4, 2) := zdec_at bX8_counted_260 5 rfl
theorem dX8_counted_268 : decode cX8_counted 268 = .ok (.iload 5, 2) := zdec_at bX8_counted_260 6 rfl
theorem dX8_counted_270 : decode cX8_counted 270 = .ok (.invokevirtual 446, 3) := zdec_at bX8_counted_260 7 rfl
theorem dX8_counted_273 : decode cX8_counted 273 = .ok (.istore 6, 2) := zdec_at bX8_counted_260 8 rfl
theorem dX8_counted_275 : decode cX8_counted 275 = .ok (.aload_n 0, 1) := zdec_at bX8_counted_260 9 rfl
theorem dX8_counted_276 : decode cX8_counted 276 = .ok (.invokevirtual 580, 3) := zdec_at bX8_counted_260 10 rfl
theorem dX8_counted_279 : decode cX8_counted 279 = .ok (.istore 7, 2) := zdec_at bX8_counted_260 11 rfl
theorem dX8_counted_281 : decode cX8_counted 281 = .ok (.aload_n 0, 1) := zdec_at bX8_counted_260 12 rfl
theorem dX8_counted_282 : decode cX8_counted 282 = .ok (.getfield 46, 3) := zdec_at bX8_counted_260 13 rfl
theorem dX8_counted_285 : decode cX8_counted 285 = .ok (.iconst 5, 1) := zdec_at bX8_counted_260 14 rfl
theorem dX8_counted_286 : decode cX8_counted 286 = .ok (.iload 6, 2) := zdec_at bX8_counted_260 15 rfl
theorem bX8_counted_288 : zdec cX8_counted 288 [(288, .imul, 1), (289, .iconst 3, 1), (290, .iadd, 1), (291, .iload 7, 2), (293, .iastore, 1), (294, .iload 6, 2), (296, .ireturn, 1)] = true := by decide +kernel
theorem dX8_counted_288 : decode cX8_counted 288 = .ok (.imul, 1) := zdec_at bX8_counted_288 0 rfl
theorem dX8_counted_289 : decode cX8_counted 289 = .ok (.iconst 3, 1) := zdec_at bX8_counted_288 1 rfl
theorem dX8_counted_290 : decode cX8_counted 290 = .ok (.iadd, 1) := zdec_at bX8_counted_288 2 rfl
theorem dX8_counted_291 : decode cX8_counted 291 = .ok (.iload 7, 2) := zdec_at bX8_counted_288 3 rfl
theorem dX8_counted_293 : decode cX8_counted 293 = .ok (.iastore, 1) := zdec_at bX8_counted_288 4 rfl
theorem dX8_counted_294 : decode cX8_counted 294 = .ok (.iload 6, 2) := zdec_at bX8_counted_288 5 rfl
theorem dX8_counted_296 : decode cX8_counted 296 = .ok (.ireturn, 1) := zdec_at bX8_counted_288 6 rfl
theorem sX8_counted_0 {E : zE} {d : Nat} {Q : zO → zM → Prop} (M : zM)  (k : Zm E YX8_must d (si M 97 20 ((gi M 97 20) + (1 : Int32))) (zargs 0 [vr (some (97, 1, 0)), vi (26 : Int32)]) 0 [] (zma E YX8_counted (d + 1) [(0, vr (some (97, 1, 0)))] 13 3 [] Q)) : Zm E YX8_counted (d + 1) M [(0, vr (some (97, 1, 0)))] 0 [] Q := by
  refine Zm.l (fun _ _ k_ => z_aload_n dX8_counted_0 rfl rfl k_) ?_
  refine Zm.l (fun _ _ k_ => z_dup dX8_counted_1 rfl k_) ?_
  refine zm_geti dX8_counted_2 fsX8_392_1 (by decide) (by decide) ?_
  refine Zm.l (fun _ _ k_ => z_iconst (v := 1) dX8_counted_5 rfl k_) ?_
  refine Zm.l (fun _ _ k_ => z_iadd dX8_counted_6 k_) ?_
  refine zm_puti (by decide) (by decide) dX8_counted_7 (zfwN.w fwX8_392_1) rfl ⟨rfl, rfl⟩ ?_
  refine Zm.l (fun _ _ k_ => z_aload_n dX8_counted_10 rfl rfl k_) ?_
  refine Zm.l (fun _ _ k_ => z_bipush (v := 26) dX8_counted_11 rfl k_) ?_
  exact zm_callV (as := [vi (26 : Int32)]) (st := []) dX8_counted_13 vsX8_473_1 (Nat.le_refl _) (Nat.le_of_ble_eq_true rfl) (Nat.le_of_ble_eq_true rfl) rfl k
theorem sX8_counted_16 {E : zE} {d : Nat} {Q : zO → zM → Prop} (M : zM) (s0 : Int32) (k : if s0 = 0 then (Q (.inl (some (vi (-1 : Int32)))) M) else (Zm E YX8_isKeyword d M (zargs 0 [vr (some (97, 1, 0)), vi (26 : Int32)]) 0 [] (zma E YX8_counted (d + 1) [(0, vr (some (97, 1, 0)))] 24 3 [] Q))) : Zm E YX8_counted (d + 1) M [(0, vr (some (97, 1, 0)))] 16 [vi s0] Q := by
  refine Zm.brn (fun _ _ k1_ k2_ => z_if_ne (tgt := 21) dX8_counted_16 rfl k1_ k2_) (fun h_ => ?_) (fun h_ => ?_)
  · have k := zif h_ k
    refine Zm.l (fun _ _ k_ => z_aload_n dX8_counted_21 rfl rfl k_) ?_
    refine Zm.l (fun _ _ k_ => z_bipush (v := 26) dX8_counted_22 rfl k_) ?_
    exact zm_callV (as := [vi (26 : Int32)]) (st := []) dX8_counted_24 vsX8_404_1 (Nat.le_refl _) (Nat.le_of_ble_eq_true rfl) (Nat.le_of_ble_eq_true rfl) rfl k
  · have k := zit h_ k
    refine Zm.l (fun _ _ k_ => z_iconst (v := -1) dX8_counted_19 rfl k_) ?_
    exact zm_iret dX8_counted_20 rfl rfl k
theorem sX8_counted_27 {E : zE} {d : Nat} {Q : zO → zM → Prop} (M : zM) (s0 : Int32) (k : if s0 = 0 then (Zm E YX8_counted (d + 1) M [(0, vr (some (97, 1, 0)))] 81 [vi (0 : Int32)] Q) else (vp_in ((gi M 97 20) + (1 : Int32)) 4002 ∧ (if (gi M 103 (((gi M 97 20) + (1 : Int32))).toNatClampNeg) = (1 : Int32) then (vp_in ((gi M 97 20) + (2 : Int32)) 4002 ∧ (if (gi M 103 (((gi M 97 20) + (2 : Int32))).toNatClampNeg) = (2 : Int32) then (vp_in ((gi M 97 20) + (2 : Int32)) 4002 ∧ (if (gi M 104 (((gi M 97 20) + (2 : Int32))).toNatClampNeg) = (13 : Int32) then (Zm E YX8_counted (d + 1) M [(0, vr (some (97, 1, 0)))] 81 [vi (1 : Int32)] Q) else (Zm E YX8_counted (d + 1) M [(0, vr (some (97, 1, 0)))] 81 [vi (0 : Int32)] Q))) else (Zm E YX8_counted (d + 1) M [(0, vr (some (97, 1, 0)))] 81 [vi (0 : Int32)] Q))) else (Zm E YX8_counted (d + 1) M [(0, vr (some (97, 1, 0)))] 81 [vi (0 : Int32)] Q)))) : Zm E YX8_counted (d + 1) M [(0, vr (some (97, 1, 0)))] 27 [vi s0] Q := by
  refine Zm.br (fun _ _ k1_ k2_ => z_if_eq (tgt := 80) dX8_counted_27 rfl k1_ k2_) (fun h_ => ?_) (fun h_ => ?_)
  · have k := zit h_ k
    refine Zm.l (fun _ _ k_ => z_iconst (v := 0) dX8_counted_80 rfl k_) ?_
    exact k
  · have k := zif h_ k
    refine Zm.l (fun _ _ k_ => z_aload_n dX8_counted_30 rfl rfl k_) ?_
    refine zm_getr 5 dX8_counted_31 fsX8_27_1 rfl ?_
    refine Zm.l (fun _ _ k_ => z_aload_n dX8_counted_34 rfl rfl k_) ?_
    refine zm_geti dX8_counted_35 fsX8_392_1 (by decide) (by decide) ?_
    refine Zm.l (fun _ _ k_ => z_iconst (v := 1) dX8_counted_38 rfl k_) ?_
    refine Zm.l (fun _ _ k_ => z_iadd dX8_counted_39 k_) ?_
    obtain ⟨b_, k⟩ := k
    refine zm_iald dX8_counted_40 b_ (by decide) (by decide) ?_
    refine Zm.l (fun _ _ k_ => z_iconst (v := 1) dX8_counted_41 rfl k_) ?_
    refine Zm.brn (fun _ _ k1_ k2_ => z_icmp_ne (tgt := 80) dX8_counted_42 rfl k1_ k2_) (fun h_ => ?_) (fun h_ => ?_)
    · have k := zif h_ k
      refine Zm.l (fun _ _ k_ => z_iconst (v := 0) dX8_counted_80 rfl k_) ?_
      exact k
    · have k := zit h_ k
      refine Zm.l (fun _ _ k_ => z_aload_n dX8_counted_45 rfl rfl k_) ?_
      refine zm_getr 5 dX8_counted_46 fsX8_27_1 rfl ?_
      refine Zm.l (fun _ _ k_ => z_aload_n dX8_counted_49 rfl rfl k_) ?_
      refine zm_geti dX8_counted_50 fsX8_392_1 (by decide) (by decide) ?_
      refine Zm.l (fun _ _ k_ => z_iconst (v := 2) dX8_counted_53 rfl k_) ?_
      refine Zm.l (fun _ _ k_ => z_iadd dX8_counted_54 k_) ?_
      obtain ⟨b_, k⟩ := k
      refine zm_iald dX8_counted_55 b_ (by decide) (by decide) ?_
      refine Zm.l (fun _ _ k_ => z_iconst (v := 2) dX8_counted_56 rfl k_) ?_
      refine Zm.brn (fun _ _ k1_ k2_ => z_icmp_ne (tgt := 80) dX8_counted_57 rfl k1_ k2_) (fun h_ => ?_) (fun h_ => ?_)
      · have k := zif h_ k
        refine Zm.l (fun _ _ k_ => z_iconst (v := 0) dX8_counted_80 rfl k_) ?_
        exact k
      · have k := zit h_ k
        refine Zm.l (fun _ _ k_ => z_aload_n dX8_counted_60 rfl rfl k_) ?_
        refine zm_getr 6 dX8_counted_61 fsX8_30_1 rfl ?_
        refine Zm.l (fun _ _ k_ => z_aload_n dX8_counted_64 rfl rfl k_) ?_
        refine zm_geti dX8_counted_65 fsX8_392_1 (by decide) (by decide) ?_
        refine Zm.l (fun _ _ k_ => z_iconst (v := 2) dX8_counted_68 rfl k_) ?_
        refine Zm.l (fun _ _ k_ => z_iadd dX8_counted_69 k_) ?_
        obtain ⟨b_, k⟩ := k
        refine zm_iald dX8_counted_70 b_ (by decide) (by decide) ?_
        refine Zm.l (fun _ _ k_ => z_bipush (v := 13) dX8_counted_71 rfl k_) ?_
        refine Zm.brn (fun _ _ k1_ k2_ => z_icmp_ne (tgt := 80) dX8_counted_73 rfl k1_ k2_) (fun h_ => ?_) (fun h_ => ?_)
        · have k := zif h_ k
          refine Zm.l (fun _ _ k_ => z_iconst (v := 0) dX8_counted_80 rfl k_) ?_
          exact k
        · have k := zit h_ k
          refine Zm.l (fun _ _ k_ => z_iconst (v := 1) dX8_counted_76 rfl k_) ?_
          refine Zm.l (fun _ _ k_ => z_goto (tgt := 81) dX8_counted_77 rfl k_) ?_
          exact k
theorem sX8_counted_81 {E : zE} {d : Nat} {Q : zO → zM → Prop} (M : zM) (s0 : Int32) (k : vp_in (gi M 97 20) 4002 ∧ (if (gi M 103 ((gi M 97 20)).toNatClampNeg) = (1 : Int32) then (vp_in ((gi M 97 20) + (1 : Int32)) 4002 ∧ (if (gi M 103 (((gi M 97 20) + (1 : Int32))).toNatClampNeg) = (2 : Int32) then (vp_in ((gi M 97 20) + (1 : Int32)) 4002 ∧ (if (gi M 104 (((gi M 97 20) + (1 : Int32))).toNatClampNeg) = (13 : Int32) then (Zm E YX8_counted (d + 1) M [(0, vr (some (97, 1, 0))), (1, vi s0)] 131 [vi (1 : Int32)] Q) else (Zm E YX8_counted (d + 1) M [(0, vr (some (97, 1, 0))), (1, vi s0)] 131 [vi (0 : Int32)] Q))) else (Zm E YX8_counted (d + 1) M [(0, vr (some (97, 1, 0))), (1, vi s0)] 131 [vi (0 : Int32)] Q))) else (Zm E YX8_counted (d + 1) M [(0, vr (some (97, 1, 0))), (1, vi s0)] 131 [vi (0 : Int32)] Q))) : Zm E YX8_counted (d + 1) M [(0, vr (some (97, 1, 0)))] 81 [vi s0] Q := by
  refine Zm.l (fun _ _ k_ => z_ist_n dX8_counted_81 rfl (by decide) (lv' := [(0, vr (some (97, 1, 0))), (1, vi s0)]) rfl k_) ?_
  refine Zm.l (fun _ _ k_ => z_aload_n dX8_counted_82 rfl rfl k_) ?_
  refine zm_getr 5 dX8_counted_83 fsX8_27_1 rfl ?_
  refine Zm.l (fun _ _ k_ => z_aload_n dX8_counted_86 rfl rfl k_) ?_
  refine zm_geti dX8_counted_87 fsX8_392_1 (by decide) (by decide) ?_
  obtain ⟨b_, k⟩ := k
  refine zm_iald dX8_counted_90 b_ (by decide) (by decide) ?_
  refine Zm.l (fun _ _ k_ => z_iconst (v := 1) dX8_counted_91 rfl k_) ?_
  refine Zm.brn (fun _ _ k1_ k2_ => z_icmp_ne (tgt := 130) dX8_counted_92 rfl k1_ k2_) (fun h_ => ?_) (fun h_ => ?_)
  · have k := zif h_ k
    refine Zm.l (fun _ _ k_ => z_iconst (v := 0) dX8_counted_130 rfl k_) ?_
    exact k
  · have k := zit h_ k
    refine Zm.l (fun _ _ k_ => z_aload_n dX8_counted_95 rfl rfl k_) ?_
    refine zm_getr 5 dX8_counted_96 fsX8_27_1 rfl ?_
    refine Zm.l (fun _ _ k_ => z_aload_n dX8_counted_99 rfl rfl k_) ?_
    refine zm_geti dX8_counted_100 fsX8_392_1 (by decide) (by decide) ?_
    refine Zm.l (fun _ _ k_ => z_iconst (v := 1) dX8_counted_103 rfl k_) ?_
    refine Zm.l (fun _ _ k_ => z_iadd dX8_counted_104 k_) ?_
    obtain ⟨b_, k⟩ := k
    refine zm_iald dX8_counted_105 b_ (by decide) (by decide) ?_
    refine Zm.l (fun _ _ k_ => z_iconst (v := 2) dX8_counted_106 rfl k_) ?_
    refine Zm.brn (fun _ _ k1_ k2_ => z_icmp_ne (tgt := 130) dX8_counted_107 rfl k1_ k2_) (fun h_ => ?_) (fun h_ => ?_)
    · have k := zif h_ k
      refine Zm.l (fun _ _ k_ => z_iconst (v := 0) dX8_counted_130 rfl k_) ?_
      exact k
    · have k := zit h_ k
      refine Zm.l (fun _ _ k_ => z_aload_n dX8_counted_110 rfl rfl k_) ?_
      refine zm_getr 6 dX8_counted_111 fsX8_30_1 rfl ?_
      refine Zm.l (fun _ _ k_ => z_aload_n dX8_counted_114 rfl rfl k_) ?_
      refine zm_geti dX8_counted_115 fsX8_392_1 (by decide) (by decide) ?_
      refine Zm.l (fun _ _ k_ => z_iconst (v := 1) dX8_counted_118 rfl k_) ?_
      refine Zm.l (fun _ _ k_ => z_iadd dX8_counted_119 k_) ?_
      obtain ⟨b_, k⟩ := k
      refine zm_iald dX8_counted_120 b_ (by decide) (by decide) ?_
      refine Zm.l (fun _ _ k_ => z_bipush (v := 13) dX8_counted_121 rfl k_) ?_
      refine Zm.brn (fun _ _ k1_ k2_ => z_icmp_ne (tgt := 130) dX8_counted_123 rfl k1_ k2_) (fun h_ => ?_) (fun h_ => ?_)
      · have k := zif h_ k
        refine Zm.l (fun _ _ k_ => z_iconst (v := 0) dX8_counted_130 rfl k_) ?_
        exact k
      · have k := zit h_ k
        refine Zm.l (fun _ _ k_ => z_iconst (v := 1) dX8_counted_126 rfl k_) ?_
        refine Zm.l (fun _ _ k_ => z_goto (tgt := 131) dX8_counted_127 rfl k_) ?_
        exact k
theorem sX8_counted_131 {E : zE} {d : Nat} {Q : zO → zM → Prop} (M : zM) (l1 : Int32) (s0 : Int32) (k : if l1 = 0 then (if s0 = 0 then (Zm E YX8_isKeyword d M (zargs 0 [vr (some (97, 1, 0)), vi (26 : Int32)]) 0 [] (zma E YX8_counted (d + 1) [(0, vr (some (97, 1, 0))), (3, vi (-1 : Int32))] 151 3 [] Q)) else (Zm E YX8_each d M (zargs 0 [vr (some (97, 1, 0)), vi l1]) 0 [] (zma E YX8_counted (d + 1) [] 142 3 [] Q))) else (Zm E YX8_each d M (zargs 0 [vr (some (97, 1, 0)), vi l1]) 0 [] (zma E YX8_counted (d + 1) [] 142 3 [] Q))) : Zm E YX8_counted (d + 1) M [(0, vr (some (97, 1, 0))), (1, vi l1)] 131 [vi s0] Q := by
  refine Zm.l (fun _ _ k_ => z_ist_n dX8_counted_131 rfl (by decide) (lv' := [(0, vr (some (97, 1, 0))), (1, vi l1), (2, vi s0)]) rfl k_) ?_
  refine Zm.l (fun _ _ k_ => z_iload_n dX8_counted_132 rfl rfl k_) ?_
  refine Zm.brn (fun _ _ k1_ k2_ => z_if_ne (tgt := 140) dX8_counted_133 rfl k1_ k2_) (fun h_ => ?_) (fun h_ => ?_)
  · have k := zif h_ k
    refine Zm.l (fun _ _ k_ => z_aload_n dX8_counted_140 rfl rfl k_) ?_
    refine Zm.l (fun _ _ k_ => z_iload_n dX8_counted_141 rfl rfl k_) ?_
    refine Zm.pick [] rfl ?_
    exact zm_callV (as := [vi l1]) (st := []) dX8_counted_142 vsX8_603_1 (Nat.le_refl _) (Nat.le_of_ble_eq_true rfl) (Nat.le_of_ble_eq_true rfl) rfl k
  · have k := zit h_ k
    refine Zm.l (fun _ _ k_ => z_iload_n dX8_counted_136 rfl rfl k_) ?_
    refine Zm.br (fun _ _ k1_ k2_ => z_if_eq (tgt := 146) dX8_counted_137 rfl k1_ k2_) (fun h_ => ?_) (fun h_ => ?_)
    · have k := zit h_ k
      refine Zm.l (fun _ _ k_ => z_iconst (v := -1) dX8_counted_146 rfl k_) ?_
      refine Zm.l (fun _ _ k_ => z_ist_n dX8_counted_147 rfl (by decide) (lv' := [(0, vr (some (97, 1, 0))), (1, vi l1), (2, vi s0), (3, vi (-1 : Int32))]) rfl k_) ?_
      refine Zm.l (fun _ _ k_ => z_aload_n dX8_counted_148 rfl rfl k_) ?_
      refine Zm.l (fun _ _ k_ => z_bipush (v := 26) dX8_counted_149 rfl k_) ?_
      refine Zm.pick [0, 3] rfl ?_
      exact zm_callV (as := [vi (26 : Int32)]) (st := []) dX8_counted_151 vsX8_404_1 (Nat.le_refl _) (Nat.le_of_ble_eq_true rfl) (Nat.le_of_ble_eq_true rfl) rfl k
    · have k := zif h_ k
      refine Zm.l (fun _ _ k_ => z_aload_n dX8_counted_140 rfl rfl k_) ?_
      refine Zm.l (fun _ _ k_ => z_iload_n dX8_counted_141 rfl rfl k_) ?_
      refine Zm.pick [] rfl ?_
      exact zm_callV (as := [vi l1]) (st := []) dX8_counted_142 vsX8_603_1 (Nat.le_refl _) (Nat.le_of_ble_eq_true rfl) (Nat.le_of_ble_eq_true rfl) rfl k
theorem sX8_counted_145 {E : zE} {d : Nat} {Q : zO → zM → Prop} (M : zM) (s0 : Int32) (k : Q (.inl (some (vi s0))) M) : Zm E YX8_counted (d + 1) M [] 145 [vi s0] Q := by
  exact zm_iret dX8_counted_145 rfl rfl k
theorem sX8_counted_154 {E : zE} {d : Nat} {Q : zO → zM → Prop} (M : zM) (l3 : Int32) (s0 : Int32) (k : if s0 = 0 then (Zm E YX8_isSign d M (zargs 0 [vr (some (97, 1, 0)), vi (31 : Int32)]) 0 [] (zma E YX8_counted (d + 1) [(0, vr (some (97, 1, 0))), (3, vi l3)] 169 3 [] Q)) else (Zm E YX8_declarations d M (zargs 0 [vr (some (97, 1, 0)), vi (0 : Int32)]) 0 [] (zma E YX8_counted (d + 1) [(0, vr (some (97, 1, 0)))] 159 3 [] Q))) : Zm E YX8_counted (d + 1) M [(0, vr (some (97, 1, 0))), (3, vi l3)] 154 [vi s0] Q := by
  refine Zm.br (fun _ _ k1_ k2_ => z_if_eq (tgt := 166) dX8_counted_154 rfl k1_ k2_) (fun h_ => ?_) (fun h_ => ?_)
  · have k := zit h_ k
    refine Zm.l (fun _ _ k_ => z_aload_n dX8_counted_166 rfl rfl k_) ?_
    refine Zm.l (fun _ _ k_ => z_bipush (v := 31) dX8_counted_167 rfl k_) ?_
    exact zm_callV (as := [vi (31 : Int32)]) (st := []) dX8_counted_169 vsX8_398_1 (Nat.le_refl _) (Nat.le_of_ble_eq_true rfl) (Nat.le_of_ble_eq_true rfl) rfl k
  · have k := zif h_ k
    refine Zm.l (fun _ _ k_ => z_aload_n dX8_counted_157 rfl rfl k_) ?_
    refine Zm.l (fun _ _ k_ => z_iconst (v := 0) dX8_counted_158 rfl k_) ?_
    refine Zm.pick [0] rfl ?_
    exact zm_callV (as := [vi (0 : Int32)]) (st := []) dX8_counted_159 vsX8_568_1 (Nat.le_refl _) (Nat.le_of_ble_eq_true rfl) (Nat.le_of_ble_eq_true rfl) rfl k
theorem sX8_counted_162 {E : zE} {d : Nat} {Q : zO → zM → Prop} (M : zM) (s0 : Int32) (k : Zm E YX8_must d M (zargs 0 [vr (some (97, 1, 0)), vi (31 : Int32)]) 0 [] (zma E YX8_counted (d + 1) [(0, vr (some (97, 1, 0))), (3, vi s0)] 192 3 [] Q)) : Zm E YX8_counted (d + 1) M [(0, vr (some (97, 1, 0)))] 162 [vi s0] Q := by
  refine Zm.l (fun _ _ k_ => z_ist_n dX8_counted_162 rfl (by decide) (lv' := [(0, vr (some (97, 1, 0))), (3, vi s0)]) rfl k_) ?_
  refine Zm.l (fun _ _ k_ => z_goto (tgt := 189) dX8_counted_163 rfl k_) ?_
  refine Zm.l (fun _ _ k_ => z_aload_n dX8_counted_189 rfl rfl k_) ?_
  refine Zm.l (fun _ _ k_ => z_bipush (v := 31) dX8_counted_190 rfl k_) ?_
  exact zm_callV (as := [vi (31 : Int32)]) (st := []) dX8_counted_192 vsX8_473_1 (Nat.le_refl _) (Nat.le_of_ble_eq_true rfl) (Nat.le_of_ble_eq_true rfl) rfl k
theorem sX8_counted_172 {E : zE} {d : Nat} {Q : zO → zM → Prop} (M : zM) (l3 : Int32) (s0 : Int32) (k : if s0 = 0 then (Zm E YX8_expression d M (zargs 0 [vr (some (97, 1, 0)), vi (0 : Int32)]) 0 [] (zma E YX8_counted (d + 1) [(0, vr (some (97, 1, 0)))] 180 3 [vi (23 : Int32), vr (some (97, 1, 0))] Q)) else (Zm E YX8_must d M (zargs 0 [vr (some (97, 1, 0)), vi (31 : Int32)]) 0 [] (zma E YX8_counted (d + 1) [(0, vr (some (97, 1, 0))), (3, vi l3)] 192 3 [] Q))) : Zm E YX8_counted (d + 1) M [(0, vr (some (97, 1, 0))), (3, vi l3)] 172 [vi s0] Q := by
  refine Zm.brn (fun _ _ k1_ k2_ => z_if_ne (tgt := 189) dX8_counted_172 rfl k1_ k2_) (fun h_ => ?_) (fun h_ => ?_)
  · have k := zif h_ k
    refine Zm.l (fun _ _ k_ => z_aload_n dX8_counted_189 rfl rfl k_) ?_
    refine Zm.l (fun _ _ k_ => z_bipush (v := 31) dX8_counted_190 rfl k_) ?_
    exact zm_callV (as := [vi (31 : Int32)]) (st := []) dX8_counted_192 vsX8_473_1 (Nat.le_refl _) (Nat.le_of_ble_eq_true rfl) (Nat.le_of_ble_eq_true rfl) rfl k
  · have k := zit h_ k
    refine Zm.l (fun _ _ k_ => z_aload_n dX8_counted_175 rfl rfl k_) ?_
    refine Zm.l (fun _ _ k_ => z_bipush (v := 23) dX8_counted_176 rfl k_) ?_
    refine Zm.l (fun _ _ k_ => z_aload_n dX8_counted_178 rfl rfl k_) ?_
    refine Zm.l (fun _ _ k_ => z_iconst (v := 0) dX8_counted_179 rfl k_) ?_
    refine Zm.pick [0] rfl ?_
    exact zm_callV (as := [vi (0 : Int32)]) (st := [vi (23 : Int32), vr (some (97, 1, 0))]) dX8_counted_180 vsX8_502_1 (Nat.le_refl _) (Nat.le_of_ble_eq_true rfl) (Nat.le_of_ble_eq_true rfl) rfl k
theorem sX8_counted_183 {E : zE} {d : Nat} {Q : zO → zM → Prop} (M : zM) (s0 : Int32) (s1 : Int32) (k : Zm E YX8_node d M (zargs 0 [vr (some (97, 1, 0)), vi s1, vi s0, vi (0 : Int32), vi (0 : Int32)]) 0 [] (zma E YX8_counted (d + 1) [(0, vr (some (97, 1, 0)))] 185 3 [] Q)) : Zm E YX8_counted (d + 1) M [(0, vr (some (97, 1, 0)))] 183 [vi s0, vi s1, vr (some (97, 1, 0))] Q := by
  refine Zm.l (fun _ _ k_ => z_iconst (v := 0) dX8_counted_183 rfl k_) ?_
  refine Zm.l (fun _ _ k_ => z_iconst (v := 0) dX8_counted_184 rfl k_) ?_
  exact zm_callV (as := [vi s1, vi s0, vi (0 : Int32), vi (0 : Int32)]) (st := []) dX8_counted_185 vsX8_446_1 (Nat.le_refl _) (Nat.le_of_ble_eq_true rfl) (Nat.le_of_ble_eq_true rfl) rfl k
theorem sX8_counted_188 {E : zE} {d : Nat} {Q : zO → zM → Prop} (M : zM) (s0 : Int32) (k : Zm E YX8_must d M (zargs 0 [vr (some (97, 1, 0)), vi (31 : Int32)]) 0 [] (zma E YX8_counted (d + 1) [(0, vr (some (97, 1, 0))), (3, vi s0)] 192 3 [] Q)) : Zm E YX8_counted (d + 1) M [(0, vr (some (97, 1, 0)))] 188 [vi s0] Q := by
  refine Zm.l (fun _ _ k_ => z_ist_n dX8_counted_188 rfl (by decide) (lv' := [(0, vr (some (97, 1, 0))), (3, vi s0)]) rfl k_) ?_
  refine Zm.l (fun _ _ k_ => z_aload_n dX8_counted_189 rfl rfl k_) ?_
  refine Zm.l (fun _ _ k_ => z_bipush (v := 31) dX8_counted_190 rfl k_) ?_
  exact zm_callV (as := [vi (31 : Int32)]) (st := []) dX8_counted_192 vsX8_473_1 (Nat.le_refl _) (Nat.le_of_ble_eq_true rfl) (Nat.le_of_ble_eq_true rfl) rfl k
theorem sX8_counted_195 {E : zE} {d : Nat} {Q : zO → zM → Prop} (M : zM) (l3 : Int32) (s0 : Int32) (k : if s0 = 0 then (Q (.inl (some (vi (-1 : Int32)))) M) else (Zm E YX8_isSign d M (zargs 0 [vr (some (97, 1, 0)), vi (31 : Int32)]) 0 [] (zma E YX8_counted (d + 1) [(0, vr (some (97, 1, 0))), (3, vi l3)] 203 3 [] Q))) : Zm E YX8_counted (d + 1) M [(0, vr (some (97, 1, 0))), (3, vi l3)] 195 [vi s0] Q := by
  refine Zm.brn (fun _ _ k1_ k2_ => z_if_ne (tgt := 200) dX8_counted_195 rfl k1_ k2_) (fun h_ => ?_) (fun h_ => ?_)
  · have k := zif h_ k
    refine Zm.l (fun _ _ k_ => z_aload_n dX8_counted_200 rfl rfl k_) ?_
    refine Zm.l (fun _ _ k_ => z_bipush (v := 31) dX8_counted_201 rfl k_) ?_
    exact zm_callV (as := [vi (31 : Int32)]) (st := []) dX8_counted_203 vsX8_398_1 (Nat.le_refl _) (Nat.le_of_ble_eq_true rfl) (Nat.le_of_ble_eq_true rfl) rfl k
  · have k := zit h_ k
    refine Zm.l (fun _ _ k_ => z_iconst (v := -1) dX8_counted_198 rfl k_) ?_
    exact zm_iret dX8_counted_199 rfl rfl k
theorem sX8_counted_206 {E : zE} {d : Nat} {Q : zO → zM → Prop} (M : zM) (l3 : Int32) (s0 : Int32) (k : if s0 = 0 then (Zm E YX8_expression d M (zargs 0 [vr (some (97, 1, 0)), vi (1 : Int32)]) 0 [] (zma E YX8_counted (d + 1) [(0, vr (some (97, 1, 0))), (3, vi l3)] 215 3 [] Q)) else (Zm E YX8_counted (d + 1) M [(0, vr (some (97, 1, 0))), (3, vi l3)] 218 [vi (-1 : Int32)] Q)) : Zm E YX8_counted (d + 1) M [(0, vr (some (97, 1, 0))), (3, vi l3)] 206 [vi s0] Q := by
  refine Zm.br (fun _ _ k1_ k2_ => z_if_eq (tgt := 213) dX8_counted_206 rfl k1_ k2_) (fun h_ => ?_) (fun h_ => ?_)
  · have k := zit h_ k
    refine Zm.l (fun _ _ k_ => z_aload_n dX8_counted_213 rfl rfl k_) ?_
    refine Zm.l (fun _ _ k_ => z_iconst (v := 1) dX8_counted_214 rfl k_) ?_
    exact zm_callV (as := [vi (1 : Int32)]) (st := []) dX8_counted_215 vsX8_502_1 (Nat.le_refl _) (Nat.le_of_ble_eq_true rfl) (Nat.le_of_ble_eq_true rfl) rfl k
  · have k := zif h_ k
    refine Zm.l (fun _ _ k_ => z_iconst (v := -1) dX8_counted_209 rfl k_) ?_
    refine Zm.l (fun _ _ k_ => z_goto (tgt := 218) dX8_counted_210 rfl k_) ?_
    exact k
theorem sX8_counted_218 {E : zE} {d : Nat} {Q : zO → zM → Prop} (M : zM) (l3 : Int32) (s0 : Int32) (k : Zm E YX8_must d M (zargs 0 [vr (some (97, 1, 0)), vi (31 : Int32)]) 0 [] (zma E YX8_counted (d + 1) [(0, vr (some (97, 1, 0))), (3, vi l3), (4, vi s0)] 223 3 [] Q)) : Zm E YX8_counted (d + 1) M [(0, vr (some (97, 1, 0))), (3, vi l3)] 218 [vi s0] Q := by
  refine Zm.l (fun _ _ k_ => z_ist dX8_counted_218 (by decide) (lv' := [(0, vr (some (97, 1, 0))), (3, vi l3), (4, vi s0)]) rfl k_) ?_
  refine Zm.l (fun _ _ k_ => z_aload_n dX8_counted_220 rfl rfl k_) ?_
  refine Zm.l (fun _ _ k_ => z_bipush (v := 31) dX8_counted_221 rfl k_) ?_
  exact zm_callV (as := [vi (31 : Int32)]) (st := []) dX8_counted_223 vsX8_473_1 (Nat.le_refl _) (Nat.le_of_ble_eq_true rfl) (Nat.le_of_ble_eq_true rfl) rfl k
theorem sX8_counted_226 {E : zE} {d : Nat} {Q : zO → zM → Prop} (M : zM) (l3 : Int32) (l4 : Int32) (s0 : Int32) (k : if s0 = 0 then (Q (.inl (some (vi (-1 : Int32)))) M) else (Zm E YX8_isSign d M (zargs 0 [vr (some (97, 1, 0)), vi (27 : Int32)]) 0 [] (zma E YX8_counted (d + 1) [(0, vr (some (97, 1, 0))), (3, vi l3), (4, vi l4)] 234 3 [] Q))) : Zm E YX8_counted (d + 1) M [(0, vr (some (97, 1, 0))), (3, vi l3), (4, vi l4)] 226 [vi s0] Q := by
  refine Zm.brn (fun _ _ k1_ k2_ => z_if_ne (tgt := 231) dX8_counted_226 rfl k1_ k2_) (fun h_ => ?_) (fun h_ => ?_)
  · have k := zif h_ k
    refine Zm.l (fun _ _ k_ => z_aload_n dX8_counted_231 rfl rfl k_) ?_
    refine Zm.l (fun _ _ k_ => z_bipush (v := 27) dX8_counted_232 rfl k_) ?_
    exact zm_callV (as := [vi (27 : Int32)]) (st := []) dX8_counted_234 vsX8_398_1 (Nat.le_refl _) (Nat.le_of_ble_eq_true rfl) (Nat.le_of_ble_eq_true rfl) rfl k
  · have k := zit h_ k
    refine Zm.l (fun _ _ k_ => z_iconst (v := -1) dX8_counted_229 rfl k_) ?_
    exact zm_iret dX8_counted_230 rfl rfl k
theorem sX8_counted_237 {E : zE} {d : Nat} {Q : zO → zM → Prop} (M : zM) (l3 : Int32) (l4 : Int32) (s0 : Int32) (k : if s0 = 0 then (Zm E YX8_expression d M (zargs 0 [vr (some (97, 1, 0)), vi (1 : Int32)]) 0 [] (zma E YX8_counted (d + 1) [(0, vr (some (97, 1, 0))), (3, vi l3), (4, vi l4)] 246 3 [] Q)) else (Zm E YX8_counted (d + 1) M [(0, vr (some (97, 1, 0))), (3, vi l3), (4, vi l4)] 249 [vi (-1 : Int32)] Q)) : Zm E YX8_counted (d + 1) M [(0, vr (some (97, 1, 0))), (3, vi l3), (4, vi l4)] 237 [vi s0] Q := by
  refine Zm.br (fun _ _ k1_ k2_ => z_if_eq (tgt := 244) dX8_counted_237 rfl k1_ k2_) (fun h_ => ?_) (fun h_ => ?_)
  · have k := zit h_ k
    refine Zm.l (fun _ _ k_ => z_aload_n dX8_counted_244 rfl rfl k_) ?_
    refine Zm.l (fun _ _ k_ => z_iconst (v := 1) dX8_counted_245 rfl k_) ?_
    exact zm_callV (as := [vi (1 : Int32)]) (st := []) dX8_counted_246 vsX8_502_1 (Nat.le_refl _) (Nat.le_of_ble_eq_true rfl) (Nat.le_of_ble_eq_true rfl) rfl k
  · have k := zif h_ k
    refine Zm.l (fun _ _ k_ => z_iconst (v := -1) dX8_counted_240 rfl k_) ?_
    refine Zm.l (fun _ _ k_ => z_goto (tgt := 249) dX8_counted_241 rfl k_) ?_
    exact k
theorem sX8_counted_249 {E : zE} {d : Nat} {Q : zO → zM → Prop} (M : zM) (l3 : Int32) (l4 : Int32) (s0 : Int32) (k : Zm E YX8_must d M (zargs 0 [vr (some (97, 1, 0)), vi (27 : Int32)]) 0 [] (zma E YX8_counted (d + 1) [(0, vr (some (97, 1, 0))), (3, vi l3), (4, vi l4), (5, vi s0)] 254 3 [] Q)) : Zm E YX8_counted (d + 1) M [(0, vr (some (97, 1, 0))), (3, vi l3), (4, vi l4)] 249 [vi s0] Q := by
  refine Zm.l (fun _ _ k_ => z_ist dX8_counted_249 (by decide) (lv' := [(0, vr (some (97, 1, 0))), (3, vi l3), (4, vi l4), (5, vi s0)]) rfl k_) ?_
  refine Zm.l (fun _ _ k_ => z_aload_n dX8_counted_251 rfl rfl k_) ?_
  refine Zm.l (fun _ _ k_ => z_bipush (v := 27) dX8_counted_252 rfl k_) ?_
  exact zm_callV (as := [vi (27 : Int32)]) (st := []) dX8_counted_254 vsX8_473_1 (Nat.le_refl _) (Nat.le_of_ble_eq_true rfl) (Nat.le_of_ble_eq_true rfl) rfl k
theorem sX8_counted_257 {E : zE} {d : Nat} {Q : zO → zM → Prop} (M : zM) (l3 : Int32) (l4 : Int32) (l5 : Int32) (s0 : Int32) (k : if s0 = 0 then (Q (.inl (some (vi (-1 : Int32)))) M) else (Zm E YX8_node d M (zargs 0 [vr (some (97, 1, 0)), vi (27 : Int32), vi l3, vi l4, vi l5]) 0 [] (zma E YX8_counted (d + 1) [(0, vr (some (97, 1, 0)))] 270 3 [] Q))) : Zm E YX8_counted (d + 1) M [(0, vr (some (97, 1, 0))), (3, vi l3), (4, vi l4), (5, vi l5)] 257 [vi s0] Q := by
  refine Zm.brn (fun _ _ k1_ k2_ => z_if_ne (tgt := 262) dX8_counted_257 rfl k1_ k2_) (fun h_ => ?_) (fun h_ => ?_)
  · have k := zif h_ k
    refine Zm.l (fun _ _ k_ => z_aload_n dX8_counted_262 rfl rfl k_) ?_
    refine Zm.l (fun _ _ k_ => z_bipush (v := 27) dX8_counted_263 rfl k_) ?_
    refine Zm.l (fun _ _ k_ => z_iload_n dX8_counted_265 rfl rfl k_) ?_
    refine Zm.l (fun _ _ k_ => z_iload dX8_counted_266 rfl k_) ?_
    refine Zm.l (fun _ _ k_ => z_iload dX8_counted_268 rfl k_) ?_
    refine Zm.pick [0] rfl ?_
    exact zm_callV (as := [vi (27 : Int32), vi l3, vi l4, vi l5]) (st := []) dX8_counted_270 vsX8_446_1 (Nat.le_refl _) (Nat.le_of_ble_eq_true rfl) (Nat.le_of_ble_eq_true rfl) rfl k
  · have k := zit h_ k
    refine Zm.l (fun _ _ k_ => z_iconst (v := -1) dX8_counted_260 rfl k_) ?_
    exact zm_iret dX8_counted_261 rfl rfl k
theorem sX8_counted_273 {E : zE} {d : Nat} {Q : zO → zM → Prop} (M : zM) (s0 : Int32) (k : Zm E YX8_looped d M (zargs 0 [vr (some (97, 1, 0))]) 0 [] (zma E YX8_counted (d + 1) [(0, vr (some (97, 1, 0))), (6, vi s0)] 276 3 [] Q)) : Zm E YX8_counted (d + 1) M [(0, vr (some (97, 1, 0)))] 273 [vi s0] Q := by
  refine Zm.l (fun _ _ k_ => z_ist dX8_counted_273 (by decide) (lv' := [(0, vr (some (97, 1, 0))), (6, vi s0)]) rfl k_) ?_
  refine Zm.l (fun _ _ k_ => z_aload_n dX8_counted_275 rfl rfl k_) ?_
  exact zm_callV (as := []) (st := []) dX8_counted_276 vsX8_580_1 (Nat.le_refl _) (Nat.le_of_ble_eq_true rfl) (Nat.le_of_ble_eq_true rfl) rfl k
theorem sX8_counted_279 {E : zE} {d : Nat} {Q : zO → zM → Prop} (M : zM) (l6 : Int32) (s0 : Int32) (k : vp_in (((5 : Int32) * l6) + (3 : Int32)) 60000 ∧ (Q (.inl (some (vi l6))) (si M 109 ((((5 : Int32) * l6) + (3 : Int32))).toNatClampNeg s0))) : Zm E YX8_counted (d + 1) M [(0, vr (some (97, 1, 0))), (6, vi l6)] 279 [vi s0] Q := by
  refine Zm.l (fun _ _ k_ => z_ist dX8_counted_279 (by decide) (lv' := [(0, vr (some (97, 1, 0))), (6, vi l6), (7, vi s0)]) rfl k_) ?_
  refine Zm.l (fun _ _ k_ => z_aload_n dX8_counted_281 rfl rfl k_) ?_
  refine zm_getr 11 dX8_counted_282 fsX8_46_1 rfl ?_
  refine Zm.l (fun _ _ k_ => z_iconst (v := 5) dX8_counted_285 rfl k_) ?_
  refine Zm.l (fun _ _ k_ => z_iload dX8_counted_286 rfl k_) ?_
  refine Zm.l (fun _ _ k_ => z_imul dX8_counted_288 k_) ?_
  refine Zm.l (fun _ _ k_ => z_iconst (v := 3) dX8_counted_289 rfl k_) ?_
  refine Zm.l (fun _ _ k_ => z_iadd dX8_counted_290 k_) ?_
  refine Zm.l (fun _ _ k_ => z_iload dX8_counted_291 rfl k_) ?_
  obtain ⟨b_, k⟩ := k
  refine zm_iast dX8_counted_293 b_ (by decide) (by decide) ?_
  refine Zm.l (fun _ _ k_ => z_iload dX8_counted_294 rfl k_) ?_
  exact zm_iret dX8_counted_296 rfl rfl k
