/-! ScriptTypes$Tokens.<init>(LScriptTypes;)V -/
theorem bX10_init_0 : zdec cX10_init 0 [(0, .aload_n 0, 1), (1, .invokespecial 3, 3), (4, .aload_n 0, 1), (5, .iconst 1, 1), (6, .putfield 9, 3), (9, .aload_n 0, 1), (10, .aload_n 1, 1), (11, .putfield 15, 3), (14, .return_, 1)] = true := by decide +kernel
theorem dX10_init_0 : decode cX10_init 0 = .ok (.aload_n 0, 1) := zdec_at bX10_init_0 0 rfl
theorem dX10_init_1 : decode cX10_init 1 = .ok (.invokespecial 3, 3) := zdec_at bX10_init_0 1 rfl
theorem dX10_init_4 : decode cX10_init 4 = .ok (.aload_n 0, 1) := zdec_at bX10_init_0 2 rfl
theorem dX10_init_5 : decode cX10_init 5 = .ok (.iconst 1, 1) := zdec_at bX10_init_0 3 rfl
theorem dX10_init_6 : decode cX10_init 6 = .ok (.putfield 9, 3) := zdec_at bX10_init_0 4 rfl
theorem dX10_init_9 : decode cX10_init 9 = .ok (.aload_n 0, 1) := zdec_at bX10_init_0 5 rfl
theorem dX10_init_10 : decode cX10_init 10 = .ok (.aload_n 1, 1) := zdec_at bX10_init_0 6 rfl
theorem dX10_init_11 : decode cX10_init 11 = .ok (.putfield 15, 3) := zdec_at bX10_init_0 7 rfl
theorem dX10_init_14 : decode cX10_init 14 = .ok (.return_, 1) := zdec_at bX10_init_0 8 rfl
theorem sX10_init_0 {E : zE} {d : Nat} {Q : zO → zM → Prop} (M : zM) (a0 : Nat) (r1 : Option zP) (k : 16 ≤ a0 ∧ (16 ≤ a0 ∧ (Q (.inl none) (sr (si M a0 2 (1 : Int32)) a0 0 r1)))) : Z E YX10_init (d + 1) M [(0, vr (some (a0, 9, 0))), (1, vr r1)] 0 [] Q := by
  refine z_aload_n dX10_init_0 rfl rfl ?_
  refine z_objInit dX10_init_1 oiX10_3 (by omega) (by decide) ?_
  refine z_aload_n dX10_init_4 rfl rfl ?_
  refine z_iconst (v := 1) dX10_init_5 rfl ?_
  obtain ⟨g_, k⟩ := k
  refine z_puti g_ dX10_init_6 (zfwN.w fwX10_9_9) rfl ⟨rfl, rfl⟩ ?_
  refine z_aload_n dX10_init_9 rfl rfl ?_
  refine z_aload_n dX10_init_10 rfl rfl ?_
  obtain ⟨g_, k⟩ := k
  refine z_putr g_ dX10_init_11 (zfwN.f fwX10_15_9 rfl (fun q h => by rw [← Option.some.inj h]; rfl)) rfl ?_
  exact z_vret dX10_init_14 rfl k
/-! ScriptTypes$Tokens.next()V -/
theorem bX10_next_0 : zdec cX10_next 0 [(0, .aload_n 0, 1), (1, .aload_n 0, 1), (2, .getfield 9, 3), (5, .putfield 44, 3), (8, .aload_n 0, 1), (9, .invokevirtual 47, 3), (12, .aload_n 0, 1), (13, .aload_n 0, 1), (14, .getfield 9, 3), (17, .putfield 21, 3), (20, .aload_n 0, 1), (21, .aload_n 0, 1), (22, .getfield 34, 3), (25, .invokevirtual 37, 3), (28, .istore_n 1, 1), (29, .aload_n 0, 1)] = true := by decide +kernel
theorem dX10_next_0 : decode cX10_next 0 = .ok (.aload_n 0, 1) := zdec_at bX10_next_0 0 rfl
theorem dX10_next_1 : decode cX10_next 1 = .ok (.aload_n 0, 1) := zdec_at bX10_next_0 1 rfl
theorem dX10_next_2 : decode cX10_next 2 = .ok (.getfield 9, 3) := zdec_at bX10_next_0 2 rfl
theorem dX10_next_5 : decode cX10_next 5 = .ok (.putfield 44, 3) := zdec_at bX10_next_0 3 rfl
theorem dX10_next_8 : decode cX10_next 8 = .ok (.aload_n 0, 1) := zdec_at bX10_next_0 4 rfl
theorem dX10_next_9 : decode cX10_next 9 = .ok (.invokevirtual 47, 3) := zdec_at bX10_next_0 5 rfl
theorem dX10_next_12 : decode cX10_next 12 = .ok (.aload_n 0, 1) := zdec_at bX10_next_0 6 rfl
theorem dX10_next_13 : decode cX10_next 13 = .ok (.aload_n 0, 1) := zdec_at bX10_next_0 7 rfl
theorem dX10_next_14 : decode cX10_next 14 = .ok (.getfield 9, 3) := zdec_at bX10_next_0 8 rfl
theorem dX10_next_17 : decode cX10_next 17 = .ok (.putfield 21, 3) := zdec_at bX10_next_0 9 rfl
theorem dX10_next_20 : decode cX10_next 20 = .ok (.aload_n 0, 1) := zdec_at bX10_next_0 10 rfl
theorem dX10_next_21 : decode cX10_next 21 = .ok (.aload_n 0, 1) := zdec_at bX10_next_0 11 rfl
theorem dX10_next_22 : decode cX10_next 22 = .ok (.getfield 34, 3) := zdec_at bX10_next_0 12 rfl
theorem dX10_next_25 : decode cX10_next 25 = .ok (.invokevirtual 37, 3) := zdec_at bX10_next_0 13 rfl
theorem dX10_next_28 : decode cX10_next 28 = .ok (.istore_n 1, 1) := zdec_at bX10_next_0 14 rfl
theorem dX10_next_29 : decode cX10_next 29 = .ok (.aload_n 0, 1) := zdec_at bX10_next_0 15 rfl
theorem bX10_next_30 : zdec cX10_next 30 [(30, .getfield 34, 3), (33, .aload_n 0, 1), (34, .getfield 15, 3), (37, .getfield 27, 3), (40, .if_icmp .lt 11, 3), (43, .aload_n 0, 1), (44, .iconst 0, 1), (45, .putfield 50, 3), (48, .goto 55, 3), (51, .iload_n 1, 1), (52, .invokestatic 53, 3), (55, .ifCond .eq 10, 3), (58, .aload_n 0, 1), (59, .invokevirtual 57, 3), (62, .goto 41, 3), (65, .iload_n 1, 1)] = true := by decide +kernel
theorem dX10_next_30 : decode cX10_next 30 = .ok (.getfield 34, 3) := zdec_at bX10_next_30 0 rfl
theorem dX10_next_33 : decode cX10_next 33 = .ok (.aload_n 0, 1) := zdec_at bX10_next_30 1 rfl
theorem dX10_next_34 : decode cX10_next 34 = .ok (.getfield 15, 3) := zdec_at bX10_next_30 2 rfl
theorem dX10_next_37 : decode cX10_next 37 = .ok (.getfield 27, 3) := zdec_at bX10_next_30 3 rfl
theorem dX10_next_40 : decode cX10_next 40 = .ok (.if_icmp .lt 11, 3) := zdec_at bX10_next_30 4 rfl
theorem dX10_next_43 : decode cX10_next 43 = .ok (.aload_n 0, 1) := zdec_at bX10_next_30 5 rfl
theorem dX10_next_44 : decode cX10_next 44 = .ok (.iconst 0, 1) := zdec_at bX10_next_30 6 rfl
theorem dX10_next_45 : decode cX10_next 45 = .ok (.putfield 50, 3) := zdec_at bX10_next_30 7 rfl
theorem dX10_next_48 : decode cX10_next 48 = .ok (.goto 55, 3) := zdec_at bX10_next_30 8 rfl
theorem dX10_next_51 : decode cX10_next 51 = .ok (.iload_n 1, 1) := zdec_at bX10_next_30 9 rfl
theorem dX10_next_52 : decode cX10_next 52 = .ok (.invokestatic 53, 3) := zdec_at bX10_next_30 10 rfl
theorem dX10_next_55 : decode cX10_next 55 = .ok (.ifCond .eq 10, 3) := zdec_at bX10_next_30 11 rfl
theorem dX10_next_58 : decode cX10_next 58 = .ok (.aload_n 0, 1) := zdec_at bX10_next_30 12 rfl
theorem dX10_next_59 : decode cX10_next 59 = .ok (.invokevirtual 57, 3) := zdec_at bX10_next_30 13 rfl
theorem dX10_next_62 : decode cX10_next 62 = .ok (.goto 41, 3) := zdec_at bX10_next_30 14 rfl
theorem dX10_next_65 : decode cX10_next 65 = .ok (.iload_n 1, 1) := zdec_at bX10_next_30 15 rfl
theorem bX10_next_66 : zdec cX10_next 66 [(66, .invokestatic 60, 3), (69, .ifCond .eq 10, 3), (72, .aload_n 0, 1), (73, .invokevirtual 63, 3), (76, .goto 27, 3), (79, .iload_n 1, 1), (80, .bipush 39, 2), (82, .if_icmp .eq 9, 3), (85, .iload_n 1, 1), (86, .bipush 34, 2), (88, .if_icmp .ne 11, 3), (91, .aload_n 0, 1), (92, .iload_n 1, 1), (93, .invokevirtual 66, 3), (96, .goto 7, 3), (99, .aload_n 0, 1)] = true := by decide +kernel
theorem dX10_next_66 : decode cX10_next 66 = .ok (.invokestatic 60, 3) := zdec_at bX10_next_66 0 rfl
theorem dX10_next_69 : decode cX10_next 69 = .ok (.ifCond .eq 10, 3) := zdec_at bX10_next_66 1 rfl
theorem dX10_next_72 : decode cX10_next 72 = .ok (.aload_n 0, 1) := zdec_at bX10_next_66 2 rfl
theorem dX10_next_73 : decode cX10_next 73 = .ok (.invokevirtual 63, 3) := zdec_at bX10_next_66 3 rfl
theorem dX10_next_76 : decode cX10_next 76 = .ok (.goto 27, 3) := zdec_at bX10_next_66 4 rfl
theorem dX10_next_79 : decode cX10_next 79 = .ok (.iload_n 1, 1) := zdec_at bX10_next_66 5 rfl
theorem dX10_next_80 : decode cX10_next 80 = .ok (.bipush 39, 2) := zdec_at bX10_next_66 6 rfl
theorem dX10_next_82 : decode cX10_next 82 = .ok (.if_icmp .eq 9, 3) := zdec_at bX10_next_66 7 rfl
theorem dX10_next_85 : decode cX10_next 85 = .ok (.iload_n 1, 1) := zdec_at bX10_next_66 8 rfl
theorem dX10_next_86 : decode cX10_next 86 = .ok (.bipush 34, 2) := zdec_at bX10_next_66 9 rfl
theorem dX10_next_88 : decode cX10_next 88 = .ok (.if_icmp .ne 11, 3) := zdec_at bX10_next_66 10 rfl
theorem dX10_next_91 : decode cX10_next 91 = .ok (.aload_n 0, 1) := zdec_at bX10_next_66 11 rfl
theorem dX10_next_92 : decode cX10_next 92 = .ok (.iload_n 1, 1) := zdec_at bX10_next_66 12 rfl
theorem dX10_next_93 : decode cX10_next 93 = .ok (.invokevirtual 66, 3) := zdec_at bX10_next_66 13 rfl
theorem dX10_next_96 : decode cX10_next 96 = .ok (.goto 7, 3) := zdec_at bX10_next_66 14 rfl
theorem dX10_next_99 : decode cX10_next 99 = .ok (.aload_n 0, 1) := zdec_at bX10_next_66 15 rfl
theorem bX10_next_100 : zdec cX10_next 100 [(100, .invokevirtual 69, 3), (103, .aload_n 0, 1), (104, .getfield 50, 3), (107, .bipush 6, 2), (109, .if_icmp .ne 9, 3), (112, .aload_n 0, 1), (113, .iconst 1, 1), (114, .invokevirtual 72, 3), (117, .athrow, 1), (118, .return_, 1)] = true := by decide +kernel
theorem dX10_next_100 : decode cX10_next 100 = .ok (.invokevirtual 69, 3) := zdec_at bX10_next_100 0 rfl
theorem dX10_next_103 : decode cX10_next 103 = .ok (.aload_n 0, 1) := zdec_at bX10_next_100 1 rfl
theorem dX10_next_104 : decode cX10_next 104 = .ok (.getfield 50, 3) := zdec_at bX10_next_100 2 rfl
theorem dX10_next_107 : decode cX10_next 107 = .ok (.bipush 6, 2) := zdec_at bX10_next_100 3 rfl
theorem dX10_next_109 : decode cX10_next 109 = .ok (.if_icmp .ne 9, 3) := zdec_at bX10_next_100 4 rfl
theorem dX10_next_112 : decode cX10_next 112 = .ok (.aload_n 0, 1) := zdec_at bX10_next_100 5 rfl
theorem dX10_next_113 : decode cX10_next 113 = .ok (.iconst 1, 1) := zdec_at bX10_next_100 6 rfl
theorem dX10_next_114 : decode cX10_next 114 = .ok (.invokevirtual 72, 3) := zdec_at bX10_next_100 7 rfl
theorem dX10_next_117 : decode cX10_next 117 = .ok (.athrow, 1) := zdec_at bX10_next_100 8 rfl
theorem dX10_next_118 : decode cX10_next 118 = .ok (.return_, 1) := zdec_at bX10_next_100 9 rfl
theorem sX10_next_0 {E : zE} {d : Nat} {Q : zO → zM → Prop} (M : zM) (a0 : Nat) (k : 16 ≤ a0 ∧ (Z E YX10_space d (si M a0 5 (gi M a0 2)) (zargs 0 [vr (some (a0, 9, 0))]) 0 [] (zafter E YX10_next (d + 1) [(0, vr (some (a0, 9, 0)))] 9 3 [] Q))) : Z E YX10_next (d + 1) M [(0, vr (some (a0, 9, 0)))] 0 [] Q := by
  refine z_aload_n dX10_next_0 rfl rfl ?_
  refine z_aload_n dX10_next_1 rfl rfl ?_
  refine z_geti dX10_next_2 fsX10_9_9 ?_
  obtain ⟨g_, k⟩ := k
  refine z_puti g_ dX10_next_5 (zfwN.w fwX10_44_9) rfl ⟨rfl, rfl⟩ ?_
  refine z_aload_n dX10_next_8 rfl rfl ?_
  exact z_callV (as := []) (st := []) dX10_next_9 vsX10_47_9 (Nat.le_refl _) (Nat.le_of_ble_eq_true rfl) (Nat.le_of_ble_eq_true rfl) rfl k
theorem sX10_next_12 {E : zE} {d : Nat} {Q : zO → zM → Prop} (M : zM) (a0 : Nat) (k : 16 ≤ a0 ∧ (Z E YX10_sign d (si M a0 4 (gi M a0 2)) (zargs 0 [vr (some (a0, 9, 0)), vi (gi (si M a0 4 (gi M a0 2)) a0 1)]) 0 [] (zafter E YX10_next (d + 1) [(0, vr (some (a0, 9, 0)))] 25 3 [] Q))) : Z E YX10_next (d + 1) M [(0, vr (some (a0, 9, 0)))] 12 [] Q := by
  refine z_aload_n dX10_next_12 rfl rfl ?_
  refine z_aload_n dX10_next_13 rfl rfl ?_
  refine z_geti dX10_next_14 fsX10_9_9 ?_
  obtain ⟨g_, k⟩ := k
  refine z_puti g_ dX10_next_17 (zfwN.w fwX10_21_9) rfl ⟨rfl, rfl⟩ ?_
  refine z_aload_n dX10_next_20 rfl rfl ?_
  refine z_aload_n dX10_next_21 rfl rfl ?_
  refine z_geti dX10_next_22 fsX10_34_9 ?_
  exact z_callV (as := [vi (gi (si M a0 4 (gi M a0 2)) a0 1)]) (st := []) dX10_next_25 vsX10_37_9 (Nat.le_refl _) (Nat.le_of_ble_eq_true rfl) (Nat.le_of_ble_eq_true rfl) rfl k
theorem sX10_next_28 {E : zE} {d : Nat} {Q : zO → zM → Prop} (M : zM) (a0 : Nat) (s0 : Int32) (k : ∃ b1 : Nat, (gr M a0 0) = some (b1, 0, 0) ∧ (if (gi M a0 1) < (gi M b1 5) then (Z E YX1_starts d M (zargs 0 [vi s0]) 0 [] (zafter E YX10_next (d + 1) [(0, vr (some (a0, 9, 0))), (1, vi s0)] 52 3 [] Q)) else (16 ≤ a0 ∧ (Z E YX10_next (d + 1) (si M a0 3 (0 : Int32)) [(0, vr (some (a0, 9, 0)))] 103 [] Q)))) : Z E YX10_next (d + 1) M [(0, vr (some (a0, 9, 0)))] 28 [vi s0] Q := by
  refine z_ist_n dX10_next_28 rfl (by decide) (lv' := [(0, vr (some (a0, 9, 0))), (1, vi s0)]) rfl ?_
  refine z_aload_n dX10_next_29 rfl rfl ?_
  refine z_geti dX10_next_30 fsX10_34_9 ?_
  refine z_aload_n dX10_next_33 rfl rfl ?_
  refine z_getr (r := (gr M a0 0)) dX10_next_34 fsX10_15_9 rfl ?_
  obtain ⟨b1, e1_, k⟩ := k
  refine Z.eqs (lv' := [(0, vr (some (a0, 9, 0))), (1, vi s0)]) (st' := [vr (some (b1, 0, 0)), vi (gi M a0 1)]) rfl (by rw [e1_] <;> rfl) ?_
  refine z_geti dX10_next_37 fsX10_27_0 ?_
  refine z_icmp_lt (tgt := 51) dX10_next_40 rfl (fun h_ => ?_) (fun h_ => ?_)
  · have k := zit h_ k
    refine z_iload_n dX10_next_51 rfl rfl ?_
    exact z_callS (as := [vi s0]) (st := []) dX10_next_52 ssX10_53 (Nat.le_refl _) (Nat.le_of_ble_eq_true rfl) (Nat.le_of_ble_eq_true rfl) rfl k
  · have k := zif h_ k
    refine z_aload_n dX10_next_43 rfl rfl ?_
    refine z_iconst (v := 0) dX10_next_44 rfl ?_
    obtain ⟨g_, k⟩ := k
    refine z_puti g_ dX10_next_45 (zfwN.w fwX10_50_9) rfl ⟨rfl, rfl⟩ ?_
    refine z_goto (tgt := 103) dX10_next_48 rfl ?_
    refine Z.pick [0] rfl ?_
    exact k
theorem sX10_next_55 {E : zE} {d : Nat} {Q : zO → zM → Prop} (M : zM) (a0 : Nat) (l1 : Int32) (s0 : Int32) (k : if s0 = 0 then (Z E YX1_digit d M (zargs 0 [vi l1]) 0 [] (zafter E YX10_next (d + 1) [(0, vr (some (a0, 9, 0))), (1, vi l1)] 66 3 [] Q)) else (Z E YX10_word d M (zargs 0 [vr (some (a0, 9, 0))]) 0 [] (zafter E YX10_next (d + 1) [(0, vr (some (a0, 9, 0)))] 59 3 [] Q))) : Z E YX10_next (d + 1) M [(0, vr (some (a0, 9, 0))), (1, vi l1)] 55 [vi s0] Q := by
  refine z_if_eq (tgt := 65) dX10_next_55 rfl (fun h_ => ?_) (fun h_ => ?_)
  · have k := zit h_ k
    refine z_iload_n dX10_next_65 rfl rfl ?_
    exact z_callS (as := [vi l1]) (st := []) dX10_next_66 ssX10_60 (Nat.le_refl _) (Nat.le_of_ble_eq_true rfl) (Nat.le_of_ble_eq_true rfl) rfl k
  · have k := zif h_ k
    refine z_aload_n dX10_next_58 rfl rfl ?_
    refine Z.pick [0] rfl ?_
    exact z_callV (as := []) (st := []) dX10_next_59 vsX10_57_9 (Nat.le_refl _) (Nat.le_of_ble_eq_true rfl) (Nat.le_of_ble_eq_true rfl) rfl k
theorem sX10_next_62 {E : zE} {d : Nat} {Q : zO → zM → Prop} (M : zM) (a0 : Nat) (k : Z E YX10_next (d + 1) M [(0, vr (some (a0, 9, 0)))] 103 [] Q) : Z E YX10_next (d + 1) M [(0, vr (some (a0, 9, 0)))] 62 [] Q := by
  refine z_goto (tgt := 103) dX10_next_62 rfl ?_
  exact k
theorem sX10_next_69 {E : zE} {d : Nat} {Q : zO → zM → Prop} (M : zM) (a0 : Nat) (l1 : Int32) (s0 : Int32) (k : if s0 = 0 then (if l1 = (39 : Int32) then (Z E YX10_string d M (zargs 0 [vr (some (a0, 9, 0)), vi l1]) 0 [] (zafter E YX10_next (d + 1) [(0, vr (some (a0, 9, 0)))] 93 3 [] Q)) else (if l1 = (34 : Int32) then (Z E YX10_string d M (zargs 0 [vr (some (a0, 9, 0)), vi l1]) 0 [] (zafter E YX10_next (d + 1) [(0, vr (some (a0, 9, 0)))] 93 3 [] Q)) else (Z E YX10_longest d M (zargs 0 [vr (some (a0, 9, 0))]) 0 [] (zafter E YX10_next (d + 1) [(0, vr (some (a0, 9, 0)))] 100 3 [] Q)))) else (Z E YX10_digits d M (zargs 0 [vr (some (a0, 9, 0))]) 0 [] (zafter E YX10_next (d + 1) [(0, vr (some (a0, 9, 0)))] 73 3 [] Q))) : Z E YX10_next (d + 1) M [(0, vr (some (a0, 9, 0))), (1, vi l1)] 69 [vi s0] Q := by
  refine z_if_eq (tgt := 79) dX10_next_69 rfl (fun h_ => ?_) (fun h_ => ?_)
  · have k := zit h_ k
    refine z_iload_n dX10_next_79 rfl rfl ?_
    refine z_bipush (v := 39) dX10_next_80 rfl ?_
    refine z_icmp_eq (tgt := 91) dX10_next_82 rfl (fun h_ => ?_) (fun h_ => ?_)
    · have k := zit h_ k
      refine z_aload_n dX10_next_91 rfl rfl ?_
      refine z_iload_n dX10_next_92 rfl rfl ?_
      refine Z.pick [0] rfl ?_
      exact z_callV (as := [vi l1]) (st := []) dX10_next_93 vsX10_66_9 (Nat.le_refl _) (Nat.le_of_ble_eq_true rfl) (Nat.le_of_ble_eq_true rfl) rfl k
    · have k := zif h_ k
      refine z_iload_n dX10_next_85 rfl rfl ?_
      refine z_bipush (v := 34) dX10_next_86 rfl ?_
      refine z_icmp_ne (tgt := 99) dX10_next_88 rfl (fun h_ => ?_) (fun h_ => ?_)
      · have k := zif h_ k
        refine z_aload_n dX10_next_99 rfl rfl ?_
        refine Z.pick [0] rfl ?_
        exact z_callV (as := []) (st := []) dX10_next_100 vsX10_69_9 (Nat.le_refl _) (Nat.le_of_ble_eq_true rfl) (Nat.le_of_ble_eq_true rfl) rfl k
      · have k := zit h_ k
        refine z_aload_n dX10_next_91 rfl rfl ?_
        refine z_iload_n dX10_next_92 rfl rfl ?_
        refine Z.pick [0] rfl ?_
        exact z_callV (as := [vi l1]) (st := []) dX10_next_93 vsX10_66_9 (Nat.le_refl _) (Nat.le_of_ble_eq_true rfl) (Nat.le_of_ble_eq_true rfl) rfl k
  · have k := zif h_ k
    refine z_aload_n dX10_next_72 rfl rfl ?_
    refine Z.pick [0] rfl ?_
    exact z_callV (as := []) (st := []) dX10_next_73 vsX10_63_9 (Nat.le_refl _) (Nat.le_of_ble_eq_true rfl) (Nat.le_of_ble_eq_true rfl) rfl k
theorem sX10_next_76 {E : zE} {d : Nat} {Q : zO → zM → Prop} (M : zM) (a0 : Nat) (k : Z E YX10_next (d + 1) M [(0, vr (some (a0, 9, 0)))] 103 [] Q) : Z E YX10_next (d + 1) M [(0, vr (some (a0, 9, 0)))] 76 [] Q := by
  refine z_goto (tgt := 103) dX10_next_76 rfl ?_
  exact k
theorem sX10_next_96 {E : zE} {d : Nat} {Q : zO → zM → Prop} (M : zM) (a0 : Nat) (k : Z E YX10_next (d + 1) M [(0, vr (some (a0, 9, 0)))] 103 [] Q) : Z E YX10_next (d + 1) M [(0, vr (some (a0, 9, 0)))] 96 [] Q := by
  refine z_goto (tgt := 103) dX10_next_96 rfl ?_
  exact k
theorem sX10_next_103 {E : zE} {d : Nat} {Q : zO → zM → Prop} (M : zM) (a0 : Nat) (k : if (gi M a0 3) = (6 : Int32) then (Z E YX10_fault d M (zargs 0 [vr (some (a0, 9, 0)), vi (1 : Int32)]) 0 [] (zafter E YX10_next (d + 1) [] 114 3 [] Q)) else (Q (.inl none) M)) : Z E YX10_next (d + 1) M [(0, vr (some (a0, 9, 0)))] 103 [] Q := by
  refine z_aload_n dX10_next_103 rfl rfl ?_
  refine z_geti dX10_next_104 fsX10_50_9 ?_
  refine z_bipush (v := 6) dX10_next_107 rfl ?_
  refine z_icmp_ne (tgt := 118) dX10_next_109 rfl (fun h_ => ?_) (fun h_ => ?_)
  · have k := zif h_ k
    exact z_vret dX10_next_118 rfl k
  · have k := zit h_ k
    refine z_aload_n dX10_next_112 rfl rfl ?_
    refine z_iconst (v := 1) dX10_next_113 rfl ?_
    refine Z.pick [] rfl ?_
    exact z_callV (as := [vi (1 : Int32)]) (st := []) dX10_next_114 vsX10_72_9 (Nat.le_refl _) (Nat.le_of_ble_eq_true rfl) (Nat.le_of_ble_eq_true rfl) rfl k
theorem sX10_next_117 {E : zE} {d : Nat} {Q : zO → zM → Prop} (M : zM) (u0 : Option zP) (k : ∃ b1 : Nat, u0 = some (b1, 12, 0) ∧ (Q (.inr (b1, 12, 0)) M)) : Z E YX10_next (d + 1) M [] 117 [vr u0] Q := by
  obtain ⟨b1, e1_, k⟩ := k
  refine Z.eqs (lv' := []) (st' := [vr (some (b1, 12, 0))]) rfl (by rw [e1_] <;> rfl) ?_
  exact z_athrow dX10_next_117 (ZT.out (by decide) k)
/-! ScriptTypes$Tokens.space()V -/
theorem bX10_space_0 : zdec cX10_space 0 [(0, .aload_n 0, 1), (1, .getfield 34, 3), (4, .aload_n 0, 1), (5, .getfield 15, 3), (8, .getfield 27, 3), (11, .if_icmp .ge 152, 3), (14, .aload_n 0, 1), (15, .aload_n 0, 1), (16, .getfield 34, 3), (19, .invokevirtual 37, 3), (22, .istore_n 1, 1), (23, .iload_n 1, 1), (24, .bipush 10, 2), (26, .if_icmp .ne 13, 3), (29, .aload_n 0, 1), (30, .dup, 1)] = true := by decide +kernel
theorem dX10_space_0 : decode cX10_space 0 = .ok (.aload_n 0, 1) := zdec_at bX10_space_0 0 rfl
theorem dX10_space_1 : decode cX10_space 1 = .ok (.getfield 34, 3) := zdec_at bX10_space_0 1 rfl
theorem dX10_space_4 : decode cX10_space 4 = .ok (.aload_n 0, 1) := zdec_at bX10_space_0 2 rfl
theorem dX10_space_5 : decode cX10_space 5 = .ok (.getfield 15, 3) := zdec_at bX10_space_0 3 rfl
theorem dX10_space_8 : decode cX10_space 8 = .ok (.getfield 27, 3) := zdec_at bX10_space_0 4 rfl
theorem dX10_space_11 : decode cX10_space 11 = .ok (.if_icmp .ge 152, 3) := zdec_at bX10_space_0 5 rfl
theorem dX10_space_14 : decode cX10_space 14 = .ok (.aload_n 0, 1) := zdec_at bX10_space_0 6 rfl
theorem dX10_space_15 : decode cX10_space 15 = .ok (.aload_n 0, 1) := zdec_at bX10_space_0 7 rfl
theorem dX10_space_16 : decode cX10_space 16 = .ok (.getfield 34, 3) := zdec_at bX10_space_0 8 rfl
theorem dX10_space_19 : decode cX10_space 19 = .ok (.invokevirtual 37, 3) := zdec_at bX10_space_0 9 rfl
theorem dX10_space_22 : decode cX10_space 22 = .ok (.istore_n 1, 1) := zdec_at bX10_space_0 10 rfl
theorem dX10_space_23 : decode cX10_space 23 = .ok (.iload_n 1, 1) := zdec_at bX10_space_0 11 rfl
theorem dX10_space_24 : decode cX10_space 24 = .ok (.bipush 10, 2) := zdec_at bX10_space_0 12 rfl
theorem dX10_space_26 : decode cX10_space 26 = .ok (.if_icmp .ne 13, 3) := zdec_at bX10_space_0 13 rfl
theorem dX10_space_29 : decode cX10_space 29 = .ok (.aload_n 0, 1) := zdec_at bX10_space_0 14 rfl
theorem dX10_space_30 : decode cX10_space 30 = .ok (.dup, 1) := zdec_at bX10_space_0 15 rfl
theorem bX10_space_31 : zdec cX10_space 31 [(31, .getfield 9, 3), (34, .iconst 1, 1), (35, .iadd, 1), (36, .putfield 9, 3), (39, .iload_n 1, 1), (40, .bipush 9, 2), (42, .if_icmp .eq 15, 3), (45, .iload_n 1, 1), (46, .bipush 10, 2), (48, .if_icmp .eq 9, 3), (51, .iload_n 1, 1), (52, .bipush 32, 2), (54, .if_icmp .ne 16, 3), (57, .aload_n 0, 1), (58, .dup, 1), (59, .getfield 34, 3)] = true := by decide +kernel
theorem dX10_space_31 : decode cX10_space 31 = .ok (.getfield 9, 3) := zdec_at bX10_space_31 0 rfl
theorem dX10_space_34 : decode cX10_space 34 = .ok (.iconst 1, 1) := zdec_at bX10_space_31 1 rfl
theorem dX10_space_35 : decode cX10_space 35 = .ok (.iadd, 1) := zdec_at bX10_space_31 2 rfl
theorem dX10_space_36 : decode cX10_space 36 = .ok (.putfield 9, 3) := zdec_at bX10_space_31 3 rfl
theorem dX10_space_39 : decode cX10_space 39 = .ok (.iload_n 1, 1) := zdec_at bX10_space_31 4 rfl
theorem dX10_space_40 : decode cX10_space 40 = .ok (.bipush 9, 2) := zdec_at bX10_space_31 5 rfl
theorem dX10_space_42 : decode cX10_space 42 = .ok (.if_icmp .eq 15, 3) := zdec_at bX10_space_31 6 rfl
theorem dX10_space_45 : decode cX10_space 45 = .ok (.iload_n 1, 1) := zdec_at bX10_space_31 7 rfl
theorem dX10_space_46 : decode cX10_space 46 = .ok (.bipush 10, 2) := zdec_at bX10_space_31 8 rfl
theorem dX10_space_48 : decode cX10_space 48 = .ok (.if_icmp .eq 9, 3) := zdec_at bX10_space_31 9 rfl
theorem dX10_space_51 : decode cX10_space 51 = .ok (.iload_n 1, 1) := zdec_at bX10_space_31 10 rfl
theorem dX10_space_52 : decode cX10_space 52 = .ok (.bipush 32, 2) := zdec_at bX10_space_31 11 rfl
theorem dX10_space_54 : decode cX10_space 54 = .ok (.if_icmp .ne 16, 3) := zdec_at bX10_space_31 12 rfl
theorem dX10_space_57 : decode cX10_space 57 = .ok (.aload_n 0, 1) := zdec_at bX10_space_31 13 rfl
theorem dX10_space_58 : decode cX10_space 58 = .ok (.dup, 1) := zdec_at bX10_space_31 14 rfl
theorem dX10_space_59 : decode cX10_space 59 = .ok (.getfield 34, 3) := zdec_at bX10_space_31 15 rfl
theorem bX10_space_62 : zdec cX10_space 62 [(62, .iconst 1, 1), (63, .iadd, 1), (64, .putfield 34, 3), (67, .goto 93, 3), (70, .iload_n 1, 1), (71, .bipush 47, 2), (73, .if_icmp .ne 58, 3), (76, .aload_n 0, 1), (77, .aload_n 0, 1), (78, .getfield 34, 3), (81, .iconst 1, 1), (82, .iadd, 1), (83, .invokevirtual 37, 3), (86, .bipush 47, 2), (88, .if_icmp .ne 43, 3), (91, .aload_n 0, 1)] = true := by decide +kernel
theorem dX10_space_62 : decode cX10_space 62 = .ok (.iconst 1, 1) := zdec_at bX10_space_62 0 rfl
theorem dX10_space_63 : decode cX10_space 63 = .ok (.iadd, 1) := zdec_at bX10_space_62 1 rfl
theorem dX10_space_64 : decode cX10_space 64 = .ok (.putfield 34, 3) := zdec_at bX10_space_62 2 rfl
theorem dX10_space_67 : decode cX10_space 67 = .ok (.goto 93, 3) := zdec_at bX10_space_62 3 rfl
theorem dX10_space_70 : decode cX10_space 70 = .ok (.iload_n 1, 1) := zdec_at bX10_space_62 4 rfl
theorem dX10_space_71 : decode cX10_space 71 = .ok (.bipush 47, 2) := zdec_at bX10_space_62 5 rfl
theorem dX10_space_73 : decode cX10_space 73 = .ok (.if_icmp .ne 58, 3) := zdec_at bX10_space_62 6 rfl
theorem dX10_space_76 : decode cX10_space 76 = .ok (.aload_n 0, 1) := zdec_at bX10_space_62 7 rfl
theorem dX10_space_77 : decode cX10_space 77 = .ok (.aload_n 0, 1) := zdec_at bX10_space_62 8 rfl
theorem dX10_space_78 : decode cX10_space 78 = .ok (.getfield 34, 3) := zdec_at bX10_space_62 9 rfl
theorem dX10_space_81 : decode cX10_space 81 = .ok (.iconst 1, 1) := zdec_at bX10_space_62 10 rfl
theorem dX10_space_82 : decode cX10_space 82 = .ok (.iadd, 1) := zdec_at bX10_space_62 11 rfl
theorem dX10_space_83 : decode cX10_space 83 = .ok (.invokevirtual 37, 3) := zdec_at bX10_space_62 12 rfl
theorem dX10_space_86 : decode cX10_space 86 = .ok (.bipush 47, 2) := zdec_at bX10_space_62 13 rfl
theorem dX10_space_88 : decode cX10_space 88 = .ok (.if_icmp .ne 43, 3) := zdec_at bX10_space_62 14 rfl
theorem dX10_space_91 : decode cX10_space 91 = .ok (.aload_n 0, 1) := zdec_at bX10_space_62 15 rfl
theorem bX10_space_92 : zdec cX10_space 92 [(92, .getfield 34, 3), (95, .aload_n 0, 1), (96, .getfield 15, 3), (99, .getfield 27, 3), (102, .if_icmp .ge 58, 3), (105, .aload_n 0, 1), (106, .aload_n 0, 1), (107, .getfield 34, 3), (110, .invokevirtual 37, 3), (113, .bipush 10, 2), (115, .if_icmp .eq 45, 3), (118, .aload_n 0, 1), (119, .dup, 1), (120, .getfield 34, 3), (123, .iconst 1, 1), (124, .iadd, 1)] = true := by decide +kernel
theorem dX10_space_92 : decode cX10_space 92 = .ok (.getfield 34, 3) := zdec_at bX10_space_92 0 rfl
theorem dX10_space_95 : decode cX10_space 95 = .ok (.aload_n 0, 1) := zdec_at bX10_space_92 1 rfl
theorem dX10_space_96 : decode cX10_space 96 = .ok (.getfield 15, 3) := zdec_at bX10_space_92 2 rfl
theorem dX10_space_99 : decode cX10_space 99 = .ok (.getfield 27, 3) := zdec_at bX10_space_92 3 rfl
theorem dX10_space_102 : decode cX10_space 102 = .ok (.if_icmp .ge 58, 3) := zdec_at bX10_space_92 4 rfl
theorem dX10_space_105 : decode cX10_space 105 = .ok (.aload_n 0, 1) := zdec_at bX10_space_92 5 rfl
theorem dX10_space_106 : decode cX10_space 106 = .ok (.aload_n 0, 1) := zdec_at bX10_space_92 6 rfl
theorem dX10_space_107 : decode cX10_space 107 = .ok (.getfield 34, 3) := zdec_at bX10_space_92 7 rfl
theorem dX10_space_110 : decode cX10_space 110 = .ok (.invokevirtual 37, 3) := zdec_at bX10_space_92 8 rfl
theorem dX10_space_113 : decode cX10_space 113 = .ok (.bipush 10, 2) := zdec_at bX10_space_92 9 rfl
theorem dX10_space_115 : decode cX10_space 115 = .ok (.if_icmp .eq 45, 3) := zdec_at bX10_space_92 10 rfl
theorem dX10_space_118 : decode cX10_space 118 = .ok (.aload_n 0, 1) := zdec_at bX10_space_92 11 rfl
theorem dX10_space_119 : decode cX10_space 119 = .ok (.dup, 1) := zdec_at bX10_space_92 12 rfl
theorem dX10_space_120 : decode cX10_space 120 = .ok (.getfield 34, 3) := zdec_at bX10_space_92 13 rfl
theorem dX10_space_123 : decode cX10_space 123 = .ok (.iconst 1, 1) := zdec_at bX10_space_92 14 rfl
theorem dX10_space_124 : decode cX10_space 124 = .ok (.iadd, 1) := zdec_at bX10_space_92 15 rfl
theorem bX10_space_125 : zdec cX10_space 125 [(125, .putfield 34, 3), (128, .goto (-37), 3), (131, .iload_n 1, 1), (132, .bipush 47, 2), (134, .if_icmp .ne 25, 3), (137, .aload_n 0, 1), (138, .aload_n 0, 1), (139, .getfield 34, 3), (142, .iconst 1, 1), (143, .iadd, 1), (144, .invokevirtual 37, 3), (147, .bipush 42, 2), (149, .if_icmp .ne 10, 3), (152, .aload_n 0, 1), (153, .invokevirtual 41, 3), (156, .goto 4, 3)] = true := by decide +kernel
theorem dX10_space_125 : decode cX10_space 125 = .ok (.putfield 34, 3) := zdec_at bX10_space_125 0 rfl
theorem dX10_space_128 : decode cX10_space 128 = .ok (.goto (-37), 3) := zdec_at bX10_space_125 1 rfl
theorem dX10_space_131 : decode cX10_space 131 = .ok (.iload_n 1, 1) := zdec_at bX10_space_125 2 rfl
theorem dX10_space_132 : decode cX10_space 132 = .ok (.bipush 47, 2) := zdec_at bX10_space_125 3 rfl
theorem dX10_space_134 : decode cX10_space 134 = .ok (.if_icmp .ne 25, 3) := zdec_at bX10_space_125 4 rfl
theorem dX10_space_137 : decode cX10_space 137 = .ok (.aload_n 0, 1) := zdec_at bX10_space_125 5 rfl
theorem dX10_space_138 : decode cX10_space 138 = .ok (.aload_n 0, 1) := zdec_at bX10_space_125 6 rfl
theorem dX10_space_139 : decode cX10_space 139 = .ok (.getfield 34, 3) := zdec_at bX10_space_125 7 rfl
theorem dX10_space_142 : decode cX10_space 142 = .ok (.iconst 1, 1) := zdec_at bX10_space_125 8 rfl
theorem dX10_space_143 : decode cX10_space 143 = .ok (.iadd, 1) := zdec_at bX10_space_125 9 rfl
theorem dX10_space_144 : decode cX10_space 144 = .ok (.invokevirtual 37, 3) := zdec_at bX10_space_125 10 rfl
theorem dX10_space_147 : decode cX10_space 147 = .ok (.bipush 42, 2) := zdec_at bX10_space_125 11 rfl
theorem dX10_space_149 : decode cX10_space 149 = .ok (.if_icmp .ne 10, 3) := zdec_at bX10_space_125 12 rfl
theorem dX10_space_152 : decode cX10_space 152 = .ok (.aload_n 0, 1) := zdec_at bX10_space_125 13 rfl
theorem dX10_space_153 : decode cX10_space 153 = .ok (.invokevirtual 41, 3) := zdec_at bX10_space_125 14 rfl
theorem dX10_space_156 : decode cX10_space 156 = .ok (.goto 4, 3) := zdec_at bX10_space_125 15 rfl
theorem bX10_space_159 : zdec cX10_space 159 [(159, .return_, 1), (160, .goto (-160), 3), (163, .return_, 1)] = true := by decide +kernel
theorem dX10_space_159 : decode cX10_space 159 = .ok (.return_, 1) := zdec_at bX10_space_159 0 rfl
theorem dX10_space_160 : decode cX10_space 160 = .ok (.goto (-160), 3) := zdec_at bX10_space_159 1 rfl
theorem dX10_space_163 : decode cX10_space 163 = .ok (.return_, 1) := zdec_at bX10_space_159 2 rfl
theorem sX10_space_0 {E : zE} {d : Nat} {Q : zO → zM → Prop} (M : zM) (a0 : Nat) (k : ∃ b1 : Nat, (gr M a0 0) = some (b1, 0, 0) ∧ (if (gi M b1 5) ≤ (gi M a0 1) then (Q (.inl none) M) else (Z E YX10_sign d M (zargs 0 [vr (some (a0, 9, 0)), vi (gi M a0 1)]) 0 [] (zafter E YX10_space (d + 1) [(0, vr (some (a0, 9, 0)))] 19 3 [] Q)))) : Z E YX10_space (d + 1) M [(0, vr (some (a0, 9, 0)))] 0 [] Q := by
  refine z_aload_n dX10_space_0 rfl rfl ?_
  refine z_geti dX10_space_1 fsX10_34_9 ?_
  refine z_aload_n dX10_space_4 rfl rfl ?_
  refine z_getr (r := (gr M a0 0)) dX10_space_5 fsX10_15_9 rfl ?_
  obtain ⟨b1, e1_, k⟩ := k
  refine Z.eqs (lv' := [(0, vr (some (a0, 9, 0)))]) (st' := [vr (some (b1, 0, 0)), vi (gi M a0 1)]) rfl (by rw [e1_] <;> rfl) ?_
  refine z_geti dX10_space_8 fsX10_27_0 ?_
  refine z_icmp_ge (tgt := 163) dX10_space_11 rfl (fun h_ => ?_) (fun h_ => ?_)
  · have k := zit h_ k
    exact z_vret dX10_space_163 rfl k
  · have k := zif h_ k
    refine z_aload_n dX10_space_14 rfl rfl ?_
    refine z_aload_n dX10_space_15 rfl rfl ?_
    refine z_geti dX10_space_16 fsX10_34_9 ?_
    exact z_callV (as := [vi (gi M a0 1)]) (st := []) dX10_space_19 vsX10_37_9 (Nat.le_refl _) (Nat.le_of_ble_eq_true rfl) (Nat.le_of_ble_eq_true rfl) rfl k
theorem sX10_space_22 {E : zE} {d : Nat} {Q : zO → zM → Prop} (M : zM) (a0 : Nat) (s0 : Int32) (k : if s0 = (10 : Int32) then (16 ≤ a0 ∧ (Z E YX10_space (d + 1) (si M a0 2 ((gi M a0 2) + (1 : Int32))) [(0, vr (some (a0, 9, 0))), (1, vi s0)] 39 [] Q)) else (Z E YX10_space (d + 1) M [(0, vr (some (a0, 9, 0))), (1, vi s0)] 39 [] Q)) : Z E YX10_space (d + 1) M [(0, vr (some (a0, 9, 0)))] 22 [vi s0] Q := by
  refine z_ist_n dX10_space_22 rfl (by decide) (lv' := [(0, vr (some (a0, 9, 0))), (1, vi s0)]) rfl ?_
  refine z_iload_n dX10_space_23 rfl rfl ?_
  refine z_bipush (v := 10) dX10_space_24 rfl ?_
  refine z_icmp_ne (tgt := 39) dX10_space_26 rfl (fun h_ => ?_) (fun h_ => ?_)
  · have k := zif h_ k
    exact k
  · have k := zit h_ k
    refine z_aload_n dX10_space_29 rfl rfl ?_
    refine z_dup dX10_space_30 rfl ?_
    refine z_geti dX10_space_31 fsX10_9_9 ?_
    refine z_iconst (v := 1) dX10_space_34 rfl ?_
    refine z_iadd dX10_space_35 ?_
    obtain ⟨g_, k⟩ := k
    refine z_puti g_ dX10_space_36 (zfwN.w fwX10_9_9) rfl ⟨rfl, rfl⟩ ?_
    exact k
theorem sX10_space_39 {E : zE} {d : Nat} {Q : zO → zM → Prop} (M : zM) (a0 : Nat) (l1 : Int32) (k : if l1 = (9 : Int32) then (Z E YX10_space (d + 1) M [(0, vr (some (a0, 9, 0)))] 57 [] Q) else (if l1 = (10 : Int32) then (Z E YX10_space (d + 1) M [(0, vr (some (a0, 9, 0)))] 57 [] Q) else (if l1 = (32 : Int32) then (Z E YX10_space (d + 1) M [(0, vr (some (a0, 9, 0)))] 57 [] Q) else (if l1 = (47 : Int32) then (Z E YX10_sign d M (zargs 0 [vr (some (a0, 9, 0)), vi ((gi M a0 1) + (1 : Int32))]) 0 [] (zafter E YX10_space (d + 1) [(0, vr (some (a0, 9, 0))), (1, vi l1)] 83 3 [] Q)) else (Z E YX10_space (d + 1) M [(0, vr (some (a0, 9, 0))), (1, vi l1)] 131 [] Q))))) : Z E YX10_space (d + 1) M [(0, vr (some (a0, 9, 0))), (1, vi l1)] 39 [] Q := by
  refine z_iload_n dX10_space_39 rfl rfl ?_
  refine z_bipush (v := 9) dX10_space_40 rfl ?_
  refine z_icmp_eq (tgt := 57) dX10_space_42 rfl (fun h_ => ?_) (fun h_ => ?_)
  · have k := zit h_ k
    refine Z.pick [0] rfl ?_
    exact k
  · have k := zif h_ k
    refine z_iload_n dX10_space_45 rfl rfl ?_
    refine z_bipush (v := 10) dX10_space_46 rfl ?_
    refine z_icmp_eq (tgt := 57) dX10_space_48 rfl (fun h_ => ?_) (fun h_ => ?_)
    · have k := zit h_ k
      refine Z.pick [0] rfl ?_
      exact k
    · have k := zif h_ k
      refine z_iload_n dX10_space_51 rfl rfl ?_
      refine z_bipush (v := 32) dX10_space_52 rfl ?_
      refine z_icmp_ne (tgt := 70) dX10_space_54 rfl (fun h_ => ?_) (fun h_ => ?_)
      · have k := zif h_ k
        refine z_iload_n dX10_space_70 rfl rfl ?_
        refine z_bipush (v := 47) dX10_space_71 rfl ?_
        refine z_icmp_ne (tgt := 131) dX10_space_73 rfl (fun h_ => ?_) (fun h_ => ?_)
        · have k := zif h_ k
          exact k
        · have k := zit h_ k
          refine z_aload_n dX10_space_76 rfl rfl ?_
          refine z_aload_n dX10_space_77 rfl rfl ?_
          refine z_geti dX10_space_78 fsX10_34_9 ?_
          refine z_iconst (v := 1) dX10_space_81 rfl ?_
          refine z_iadd dX10_space_82 ?_
          exact z_callV (as := [vi ((gi M a0 1) + (1 : Int32))]) (st := []) dX10_space_83 vsX10_37_9 (Nat.le_refl _) (Nat.le_of_ble_eq_true rfl) (Nat.le_of_ble_eq_true rfl) rfl k
      · have k := zit h_ k
        refine Z.pick [0] rfl ?_
        exact k
theorem sX10_space_57 {E : zE} {d : Nat} {Q : zO → zM → Prop} (M : zM) (a0 : Nat) (k : 16 ≤ a0 ∧ (Z E YX10_space (d + 1) (si M a0 1 ((gi M a0 1) + (1 : Int32))) [(0, vr (some (a0, 9, 0)))] 0 [] Q)) : Z E YX10_space (d + 1) M [(0, vr (some (a0, 9, 0)))] 57 [] Q := by
  refine z_aload_n dX10_space_57 rfl rfl ?_
  refine z_dup dX10_space_58 rfl ?_
  refine z_geti dX10_space_59 fsX10_34_9 ?_
  refine z_iconst (v := 1) dX10_space_62 rfl ?_
  refine z_iadd dX10_space_63 ?_
  obtain ⟨g_, k⟩ := k
  refine z_puti g_ dX10_space_64 (zfwN.w fwX10_34_9) rfl ⟨rfl, rfl⟩ ?_
  refine z_goto (tgt := 160) dX10_space_67 rfl ?_
  refine z_goto (tgt := 0) dX10_space_160 rfl ?_
  exact k
theorem sX10_space_86 {E : zE} {d : Nat} {Q : zO → zM → Prop} (M : zM) (a0 : Nat) (l1 : Int32) (s0 : Int32) (k : if s0 = (47 : Int32) then (Z E YX10_space (d + 1) M [(0, vr (some (a0, 9, 0)))] 91 [] Q) else (Z E YX10_space (d + 1) M [(0, vr (some (a0, 9, 0))), (1, vi l1)] 131 [] Q)) : Z E YX10_space (d + 1) M [(0, vr (some (a0, 9, 0))), (1, vi l1)] 86 [vi s0] Q := by
  refine z_bipush (v := 47) dX10_space_86 rfl ?_
  refine z_icmp_ne (tgt := 131) dX10_space_88 rfl (fun h_ => ?_) (fun h_ => ?_)
  · have k := zif h_ k
    exact k
  · have k := zit h_ k
    refine Z.pick [0] rfl ?_
    exact k
theorem sX10_space_91 {E : zE} {d : Nat} {Q : zO → zM → Prop} (M : zM) (a0 : Nat) (k : ∃ b1 : Nat, (gr M a0 0) = some (b1, 0, 0) ∧ (if (gi M b1 5) ≤ (gi M a0 1) then (Z E YX10_space (d + 1) M [(0, vr (some (a0, 9, 0)))] 0 [] Q) else (Z E YX10_sign d M (zargs 0 [vr (some (a0, 9, 0)), vi (gi M a0 1)]) 0 [] (zafter E YX10_space (d + 1) [(0, vr (some (a0, 9, 0)))] 110 3 [] Q)))) : Z E YX10_space (d + 1) M [(0, vr (some (a0, 9, 0)))] 91 [] Q := by
  refine z_aload_n dX10_space_91 rfl rfl ?_
  refine z_geti dX10_space_92 fsX10_34_9 ?_
  refine z_aload_n dX10_space_95 rfl rfl ?_
  refine z_getr (r := (gr M a0 0)) dX10_space_96 fsX10_15_9 rfl ?_
  obtain ⟨b1, e1_, k⟩ := k
  refine Z.eqs (lv' := [(0, vr (some (a0, 9, 0)))]) (st' := [vr (some (b1, 0, 0)), vi (gi M a0 1)]) rfl (by rw [e1_] <;> rfl) ?_
  refine z_geti dX10_space_99 fsX10_27_0 ?_
  refine z_icmp_ge (tgt := 160) dX10_space_102 rfl (fun h_ => ?_) (fun h_ => ?_)
  · have k := zit h_ k
    refine z_goto (tgt := 0) dX10_space_160 rfl ?_
    exact k
  · have k := zif h_ k
    refine z_aload_n dX10_space_105 rfl rfl ?_
    refine z_aload_n dX10_space_106 rfl rfl ?_
    refine z_geti dX10_space_107 fsX10_34_9 ?_
    exact z_callV (as := [vi (gi M a0 1)]) (st := []) dX10_space_110 vsX10_37_9 (Nat.le_refl _) (Nat.le_of_ble_eq_true rfl) (Nat.le_of_ble_eq_true rfl) rfl k
theorem sX10_space_113 {E : zE} {d : Nat} {Q : zO → zM → Prop} (M : zM) (a0 : Nat) (s0 : Int32) (k : if s0 = (10 : Int32) then (Z E YX10_space (d + 1) M [(0, vr (some (a0, 9, 0)))] 0 [] Q) else (16 ≤ a0 ∧ (Z E YX10_space (d + 1) (si M a0 1 ((gi M a0 1) + (1 : Int32))) [(0, vr (some (a0, 9, 0)))] 91 [] Q))) : Z E YX10_space (d + 1) M [(0, vr (some (a0, 9, 0)))] 113 [vi s0] Q := by
  refine z_bipush (v := 10) dX10_space_113 rfl ?_
  refine z_icmp_eq (tgt := 160) dX10_space_115 rfl (fun h_ => ?_) (fun h_ => ?_)
  · have k := zit h_ k
    refine z_goto (tgt := 0) dX10_space_160 rfl ?_
    exact k
  · have k := zif h_ k
    refine z_aload_n dX10_space_118 rfl rfl ?_
    refine z_dup dX10_space_119 rfl ?_
    refine z_geti dX10_space_120 fsX10_34_9 ?_
    refine z_iconst (v := 1) dX10_space_123 rfl ?_
    refine z_iadd dX10_space_124 ?_
    obtain ⟨g_, k⟩ := k
    refine z_puti g_ dX10_space_125 (zfwN.w fwX10_34_9) rfl ⟨rfl, rfl⟩ ?_
    refine z_goto (tgt := 91) dX10_space_128 rfl ?_
    exact k
theorem sX10_space_131 {E : zE} {d : Nat} {Q : zO → zM → Prop} (M : zM) (a0 : Nat) (l1 : Int32) (k : if l1 = (47 : Int32) then (Z E YX10_sign d M (zargs 0 [vr (some (a0, 9, 0)), vi ((gi M a0 1) + (1 : Int32))]) 0 [] (zafter E YX10_space (d + 1) [(0, vr (some (a0, 9, 0)))] 144 3 [] Q)) else (Q (.inl none) M)) : Z E YX10_space (d + 1) M [(0, vr (some (a0, 9, 0))), (1, vi l1)] 131 [] Q := by
  refine z_iload_n dX10_space_131 rfl rfl ?_
  refine z_bipush (v := 47) dX10_space_132 rfl ?_
  refine z_icmp_ne (tgt := 159) dX10_space_134 rfl (fun h_ => ?_) (fun h_ => ?_)
  · have k := zif h_ k
    exact z_vret dX10_space_159 rfl k
  · have k := zit h_ k
    refine z_aload_n dX10_space_137 rfl rfl ?_
    refine z_aload_n dX10_space_138 rfl rfl ?_
    refine z_geti dX10_space_139 fsX10_34_9 ?_
    refine z_iconst (v := 1) dX10_space_142 rfl ?_
    refine z_iadd dX10_space_143 ?_
    refine Z.pick [0] rfl ?_
    exact z_callV (as := [vi ((gi M a0 1) + (1 : Int32))]) (st := []) dX10_space_144 vsX10_37_9 (Nat.le_refl _) (Nat.le_of_ble_eq_true rfl) (Nat.le_of_ble_eq_true rfl) rfl k
theorem sX10_space_147 {E : zE} {d : Nat} {Q : zO → zM → Prop} (M : zM) (a0 : Nat) (s0 : Int32) (k : if s0 = (42 : Int32) then (Z E YX10_comment d M (zargs 0 [vr (some (a0, 9, 0))]) 0 [] (zafter E YX10_space (d + 1) [(0, vr (some (a0, 9, 0)))] 153 3 [] Q)) else (Q (.inl none) M)) : Z E YX10_space (d + 1) M [(0, vr (some (a0, 9, 0)))] 147 [vi s0] Q := by
  refine z_bipush (v := 42) dX10_space_147 rfl ?_
  refine z_icmp_ne (tgt := 159) dX10_space_149 rfl (fun h_ => ?_) (fun h_ => ?_)
  · have k := zif h_ k
    exact z_vret dX10_space_159 rfl k
  · have k := zit h_ k
    refine z_aload_n dX10_space_152 rfl rfl ?_
    exact z_callV (as := []) (st := []) dX10_space_153 vsX10_41_9 (Nat.le_refl _) (Nat.le_of_ble_eq_true rfl) (Nat.le_of_ble_eq_true rfl) rfl k
theorem sX10_space_156 {E : zE} {d : Nat} {Q : zO → zM → Prop} (M : zM) (a0 : Nat) (k : Z E YX10_space (d + 1) M [(0, vr (some (a0, 9, 0)))] 0 [] Q) : Z E YX10_space (d + 1) M [(0, vr (some (a0, 9, 0)))] 156 [] Q := by
  refine z_goto (tgt := 160) dX10_space_156 rfl ?_
  refine z_goto (tgt := 0) dX10_space_160 rfl ?_
  exact k
/-! ScriptTypes$Tokens.sign(I)I -/
theorem bX10_sign_0 : zdec cX10_sign 0 [(0, .iload_n 1, 1), (1, .aload_n 0, 1), (2, .getfield 15, 3), (5, .getfield 27, 3), (8, .if_icmp .ge 19, 3), (11, .aload_n 0, 1), (12, .getfield 15, 3), (15, .getfield 30, 3), (18, .iload_n 1, 1), (19, .baload, 1), (20, .sipush 255, 3), (23, .iand, 1), (24, .goto 4, 3), (27, .iconst 0, 1), (28, .ireturn, 1)] = true := by decide +kernel
theorem dX10_sign_0 : decode cX10_sign 0 = .ok (.iload_n 1, 1) := zdec_at bX10_sign_0 0 rfl
theorem dX10_sign_1 : decode cX10_sign 1 = .ok (.aload_n 0, 1) := zdec_at bX10_sign_0 1 rfl
theorem dX10_sign_2 : decode cX10_sign 2 = .ok (.getfield 15, 3) := zdec_at bX10_sign_0 2 rfl
theorem dX10_sign_5 : decode cX10_sign 5 = .ok (.getfield 27, 3) := zdec_at bX10_sign_0 3 rfl
theorem dX10_sign_8 : decode cX10_sign 8 = .ok (.if_icmp .ge 19, 3) := zdec_at bX10_sign_0 4 rfl
theorem dX10_sign_11 : decode cX10_sign 11 = .ok (.aload_n 0, 1) := zdec_at bX10_sign_0 5 rfl
theorem dX10_sign_12 : decode cX10_sign 12 = .ok (.getfield 15, 3) := zdec_at bX10_sign_0 6 rfl
theorem dX10_sign_15 : decode cX10_sign 15 = .ok (.getfield 30, 3) := zdec_at bX10_sign_0 7 rfl
theorem dX10_sign_18 : decode cX10_sign 18 = .ok (.iload_n 1, 1) := zdec_at bX10_sign_0 8 rfl
theorem dX10_sign_19 : decode cX10_sign 19 = .ok (.baload, 1) := zdec_at bX10_sign_0 9 rfl
theorem dX10_sign_20 : decode cX10_sign 20 = .ok (.sipush 255, 3) := zdec_at bX10_sign_0 10 rfl
theorem dX10_sign_23 : decode cX10_sign 23 = .ok (.iand, 1) := zdec_at bX10_sign_0 11 rfl
theorem dX10_sign_24 : decode cX10_sign 24 = .ok (.goto 4, 3) := zdec_at bX10_sign_0 12 rfl
theorem dX10_sign_27 : decode cX10_sign 27 = .ok (.iconst 0, 1) := zdec_at bX10_sign_0 13 rfl
theorem dX10_sign_28 : decode cX10_sign 28 = .ok (.ireturn, 1) := zdec_at bX10_sign_0 14 rfl
theorem sX10_sign_0 {E : zE} {d : Nat} {Q : zO → zM → Prop} (M : zM) (a0 : Nat) (l1 : Int32) (k : ∃ b1 : Nat, (gr M a0 0) = some (b1, 0, 0) ∧ (if (gi M b1 5) ≤ l1 then (Q (.inl (some (vi (0 : Int32)))) M) else (∃ b2 : Nat, (gr M a0 0) = some (b2, 0, 0) ∧ (∃ b3 m3 : Nat, (gr M b2 4) = some (b3, 101, m3) ∧ (vp_in l1 m3 ∧ (Q (.inl (some (vi ((gi M b3 (l1).toNatClampNeg) &&& (255 : Int32))))) M)))))) : Z E YX10_sign d M [(0, vr (some (a0, 9, 0))), (1, vi l1)] 0 [] Q := by
  refine z_iload_n dX10_sign_0 rfl rfl ?_
  refine z_aload_n dX10_sign_1 rfl rfl ?_
  refine z_getr (r := (gr M a0 0)) dX10_sign_2 fsX10_15_9 rfl ?_
  obtain ⟨b1, e1_, k⟩ := k
  refine Z.eqs (lv' := [(0, vr (some (a0, 9, 0))), (1, vi l1)]) (st' := [vr (some (b1, 0, 0)), vi l1]) rfl (by rw [e1_] <;> rfl) ?_
  refine z_geti dX10_sign_5 fsX10_27_0 ?_
  refine z_icmp_ge (tgt := 27) dX10_sign_8 rfl (fun h_ => ?_) (fun h_ => ?_)
  · have k := zit h_ k
    refine z_iconst (v := 0) dX10_sign_27 rfl ?_
    exact z_iret dX10_sign_28 rfl rfl k
  · have k := zif h_ k
    refine z_aload_n dX10_sign_11 rfl rfl ?_
    refine z_getr (r := (gr M a0 0)) dX10_sign_12 fsX10_15_9 rfl ?_
    obtain ⟨b2, e2_, k⟩ := k
    refine Z.eqs (lv' := [(0, vr (some (a0, 9, 0))), (1, vi l1)]) (st' := [vr (some (b2, 0, 0))]) rfl (by rw [e2_] <;> rfl) ?_
    refine z_getr (r := (gr M b2 4)) dX10_sign_15 fsX10_30_0 rfl ?_
    refine z_iload_n dX10_sign_18 rfl rfl ?_
    obtain ⟨b3, m3, e3_, k⟩ := k
    refine Z.eqs (lv' := [(0, vr (some (a0, 9, 0))), (1, vi l1)]) (st' := [vi l1, vr (some (b3, 101, m3))]) rfl (by rw [e3_] <;> rfl) ?_
    obtain ⟨b_, k⟩ := k
    refine z_bald dX10_sign_19 b_ ?_
    refine z_sipush (v := 255) dX10_sign_20 rfl ?_
    refine z_iand dX10_sign_23 ?_
    refine z_goto (tgt := 28) dX10_sign_24 rfl ?_
    exact z_iret dX10_sign_28 rfl rfl k
/-! ScriptTypes$Tokens.comment()V -/
theorem bX10_comment_0 : zdec cX10_comment 0 [(0, .aload_n 0, 1), (1, .getfield 9, 3), (4, .istore_n 1, 1), (5, .aload_n 0, 1), (6, .dup, 1), (7, .getfield 34, 3), (10, .iconst 2, 1), (11, .iadd, 1), (12, .putfield 34, 3), (15, .aload_n 0, 1), (16, .getfield 34, 3), (19, .aload_n 0, 1), (20, .getfield 15, 3), (23, .getfield 27, 3), (26, .if_icmp .ge 67, 3), (29, .aload_n 0, 1)] = true := by decide +kernel
theorem dX10_comment_0 : decode cX10_comment 0 = .ok (.aload_n 0, 1) := zdec_at bX10_comment_0 0 rfl
theorem dX10_comment_1 : decode cX10_comment 1 = .ok (.getfield 9, 3) := zdec_at bX10_comment_0 1 rfl
theorem dX10_comment_4 : decode cX10_comment 4 = .ok (.istore_n 1, 1) := zdec_at bX10_comment_0 2 rfl
theorem dX10_comment_5 : decode cX10_comment 5 = .ok (.aload_n 0, 1) := zdec_at bX10_comment_0 3 rfl
theorem dX10_comment_6 : decode cX10_comment 6 = .ok (.dup, 1) := zdec_at bX10_comment_0 4 rfl
theorem dX10_comment_7 : decode cX10_comment 7 = .ok (.getfield 34, 3) := zdec_at bX10_comment_0 5 rfl
theorem dX10_comment_10 : decode cX10_comment 10 = .ok (.iconst 2, 1) := zdec_at bX10_comment_0 6 rfl
theorem dX10_comment_11 : decode cX10_comment 11 = .ok (.iadd, 1) := zdec_at bX10_comment_0 7 rfl
theorem dX10_comment_12 : decode cX10_comment 12 = .ok (.putfield 34, 3) := zdec_at bX10_comment_0 8 rfl
theorem dX10_comment_15 : decode cX10_comment 15 = .ok (.aload_n 0, 1) := zdec_at bX10_comment_0 9 rfl
theorem dX10_comment_16 : decode cX10_comment 16 = .ok (.getfield 34, 3) := zdec_at bX10_comment_0 10 rfl
theorem dX10_comment_19 : decode cX10_comment 19 = .ok (.aload_n 0, 1) := zdec_at bX10_comment_0 11 rfl
theorem dX10_comment_20 : decode cX10_comment 20 = .ok (.getfield 15, 3) := zdec_at bX10_comment_0 12 rfl
theorem dX10_comment_23 : decode cX10_comment 23 = .ok (.getfield 27, 3) := zdec_at bX10_comment_0 13 rfl
theorem dX10_comment_26 : decode cX10_comment 26 = .ok (.if_icmp .ge 67, 3) := zdec_at bX10_comment_0 14 rfl
theorem dX10_comment_29 : decode cX10_comment 29 = .ok (.aload_n 0, 1) := zdec_at bX10_comment_0 15 rfl
theorem bX10_comment_30 : zdec cX10_comment 30 [(30, .aload_n 0, 1), (31, .getfield 34, 3), (34, .invokevirtual 37, 3), (37, .bipush 42, 2), (39, .if_icmp .ne 18, 3), (42, .aload_n 0, 1), (43, .aload_n 0, 1), (44, .getfield 34, 3), (47, .iconst 1, 1), (48, .iadd, 1), (49, .invokevirtual 37, 3), (52, .bipush 47, 2), (54, .if_icmp .eq 39, 3), (57, .aload_n 0, 1), (58, .aload_n 0, 1), (59, .getfield 34, 3)] = true := by decide +kernel
theorem dX10_comment_30 : decode cX10_comment 30 = .ok (.aload_n 0, 1) := zdec_at bX10_comment_30 0 rfl
theorem dX10_comment_31 : decode cX10_comment 31 = .ok (.getfield 34, 3) := zdec_at bX10_comment_30 1 rfl
theorem dX10_comment_34 : decode cX10_comment 34 = .ok (.invokevirtual 37, 3) := zdec_at bX10_comment_30 2 rfl
theorem dX10_comment_37 : decode cX10_comment 37 = .ok (.bipush 42, 2) := zdec_at bX10_comment_30 3 rfl
theorem dX10_comment_39 : decode cX10_comment 39 = .ok (.if_icmp .ne 18, 3) := zdec_at bX10_comment_30 4 rfl
theorem dX10_comment_42 : decode cX10_comment 42 = .ok (.aload_n 0, 1) := zdec_at bX10_comment_30 5 rfl
theorem dX10_comment_43 : decode cX10_comment 43 = .ok (.aload_n 0, 1) := zdec_at bX10_comment_30 6 rfl
theorem dX10_comment_44 : decode cX10_comment 44 = .ok (.getfield 34, 3) := zdec_at bX10_comment_30 7 rfl
theorem dX10_comment_47 : decode cX10_comment 47 = .ok (.iconst 1, 1) := zdec_at bX10_comment_30 8 rfl
theorem dX10_comment_48 : decode cX10_comment 48 = .ok (.iadd, 1) := zdec_at bX10_comment_30 9 rfl
theorem dX10_comment_49 : decode cX10_comment 49 = .ok (.invokevirtual 37, 3) := zdec_at bX10_comment_30 10 rfl
theorem dX10_comment_52 : decode cX10_comment 52 = .ok (.bipush 47, 2) := zdec_at bX10_comment_30 11 rfl
theorem dX10_comment_54 : decode cX10_comment 54 = .ok (.if_icmp .eq 39, 3) := zdec_at bX10_comment_30 12 rfl
theorem dX10_comment_57 : decode cX10_comment 57 = .ok (.aload_n 0, 1) := zdec_at bX10_comment_30 13 rfl
theorem dX10_comment_58 : decode cX10_comment 58 = .ok (.aload_n 0, 1) := zdec_at bX10_comment_30 14 rfl
theorem dX10_comment_59 : decode cX10_comment 59 = .ok (.getfield 34, 3) := zdec_at bX10_comment_30 15 rfl
theorem bX10_comment_62 : zdec cX10_comment 62 [(62, .invokevirtual 37, 3), (65, .bipush 10, 2), (67, .if_icmp .ne 13, 3), (70, .aload_n 0, 1), (71, .dup, 1), (72, .getfield 9, 3), (75, .iconst 1, 1), (76, .iadd, 1), (77, .putfield 9, 3), (80, .aload_n 0, 1), (81, .dup, 1), (82, .getfield 34, 3), (85, .iconst 1, 1), (86, .iadd, 1), (87, .putfield 34, 3), (90, .goto (-75), 3)] = true := by decide +kernel
theorem dX10_comment_62 : decode cX10_comment 62 = .ok (.invokevirtual 37, 3) := zdec_at bX10_comment_62 0 rfl
theorem dX10_comment_65 : decode cX10_comment 65 = .ok (.bipush 10, 2) := zdec_at bX10_comment_62 1 rfl
theorem dX10_comment_67 : decode cX10_comment 67 = .ok (.if_icmp .ne 13, 3) := zdec_at bX10_comment_62 2 rfl
theorem dX10_comment_70 : decode cX10_comment 70 = .ok (.aload_n 0, 1) := zdec_at bX10_comment_62 3 rfl
theorem dX10_comment_71 : decode cX10_comment 71 = .ok (.dup, 1) := zdec_at bX10_comment_62 4 rfl
theorem dX10_comment_72 : decode cX10_comment 72 = .ok (.getfield 9, 3) := zdec_at bX10_comment_62 5 rfl
theorem dX10_comment_75 : decode cX10_comment 75 = .ok (.iconst 1, 1) := zdec_at bX10_comment_62 6 rfl
theorem dX10_comment_76 : decode cX10_comment 76 = .ok (.iadd, 1) := zdec_at bX10_comment_62 7 rfl
theorem dX10_comment_77 : decode cX10_comment 77 = .ok (.putfield 9, 3) := zdec_at bX10_comment_62 8 rfl
theorem dX10_comment_80 : decode cX10_comment 80 = .ok (.aload_n 0, 1) := zdec_at bX10_comment_62 9 rfl
theorem dX10_comment_81 : decode cX10_comment 81 = .ok (.dup, 1) := zdec_at bX10_comment_62 10 rfl
theorem dX10_comment_82 : decode cX10_comment 82 = .ok (.getfield 34, 3) := zdec_at bX10_comment_62 11 rfl
theorem dX10_comment_85 : decode cX10_comment 85 = .ok (.iconst 1, 1) := zdec_at bX10_comment_62 12 rfl
theorem dX10_comment_86 : decode cX10_comment 86 = .ok (.iadd, 1) := zdec_at bX10_comment_62 13 rfl
theorem dX10_comment_87 : decode cX10_comment 87 = .ok (.putfield 34, 3) := zdec_at bX10_comment_62 14 rfl
theorem dX10_comment_90 : decode cX10_comment 90 = .ok (.goto (-75), 3) := zdec_at bX10_comment_62 15 rfl
theorem bX10_comment_93 : zdec cX10_comment 93 [(93, .aload_n 0, 1), (94, .getfield 34, 3), (97, .aload_n 0, 1), (98, .getfield 15, 3), (101, .getfield 27, 3), (104, .if_icmp .lt 17, 3), (107, .new 19, 3), (110, .dup, 1), (111, .iconst 1, 1), (112, .bipush 8, 2), (114, .iload_n 1, 1), (115, .imul, 1), (116, .iadd, 1), (117, .invokespecial 24, 3), (120, .athrow, 1), (121, .aload_n 0, 1)] = true := by decide +kernel
theorem dX10_comment_93 : decode cX10_comment 93 = .ok (.aload_n 0, 1) := zdec_at bX10_comment_93 0 rfl
theorem dX10_comment_94 : decode cX10_comment 94 = .ok (.getfield 34, 3) := zdec_at bX10_comment_93 1 rfl
theorem dX10_comment_97 : decode cX10_comment 97 = .ok (.aload_n 0, 1) := zdec_at bX10_comment_93 2 rfl
theorem dX10_comment_98 : decode cX10_comment 98 = .ok (.getfield 15, 3) := zdec_at bX10_comment_93 3 rfl
theorem dX10_comment_101 : decode cX10_comment 101 = .ok (.getfield 27, 3) := zdec_at bX10_comment_93 4 rfl
theorem dX10_comment_104 : decode cX10_comment 104 = .ok (.if_icmp .lt 17, 3) := zdec_at bX10_comment_93 5 rfl
theorem dX10_comment_107 : decode cX10_comment 107 = .ok (.new 19, 3) := zdec_at bX10_comment_93 6 rfl
theorem dX10_comment_110 : decode cX10_comment 110 = .ok (.dup, 1) := zdec_at bX10_comment_93 7 rfl
theorem dX10_comment_111 : decode cX10_comment 111 = .ok (.iconst 1, 1) := zdec_at bX10_comment_93 8 rfl
theorem dX10_comment_112 : decode cX10_comment 112 = .ok (.bipush 8, 2) := zdec_at bX10_comment_93 9 rfl
theorem dX10_comment_114 : decode cX10_comment 114 = .ok (.iload_n 1, 1) := zdec_at bX10_comment_93 10 rfl
theorem dX10_comment_115 : decode cX10_comment 115 = .ok (.imul, 1) := zdec_at bX10_comment_93 11 rfl
theorem dX10_comment_116 : decode cX10_comment 116 = .ok (.iadd, 1) := zdec_at bX10_comment_93 12 rfl
theorem dX10_comment_117 : decode cX10_comment 117 = .ok (.invokespecial 24, 3) := zdec_at bX10_comment_93 13 rfl
theorem dX10_comment_120 : decode cX10_comment 120 = .ok (.athrow, 1) := zdec_at bX10_comment_93 14 rfl
theorem dX10_comment_121 : decode cX10_comment 121 = .ok (.aload_n 0, 1) := zdec_at bX10_comment_93 15 rfl
theorem bX10_comment_122 : zdec cX10_comment 122 [(122, .dup, 1), (123, .getfield 34, 3), (126, .iconst 2, 1), (127, .iadd, 1), (128, .putfield 34, 3), (131, .return_, 1)] = true := by decide +kernel
theorem dX10_comment_122 : decode cX10_comment 122 = .ok (.dup, 1) := zdec_at bX10_comment_122 0 rfl
theorem dX10_comment_123 : decode cX10_comment 123 = .ok (.getfield 34, 3) := zdec_at bX10_comment_122 1 rfl
theorem dX10_comment_126 : decode cX10_comment 126 = .ok (.iconst 2, 1) := zdec_at bX10_comment_122 2 rfl
theorem dX10_comment_127 : decode cX10_comment 127 = .ok (.iadd, 1) := zdec_at bX10_comment_122 3 rfl
theorem dX10_comment_128 : decode cX10_comment 128 = .ok (.putfield 34, 3) := zdec_at bX10_comment_122 4 rfl
theorem dX10_comment_131 : decode cX10_comment 131 = .ok (.return_, 1) := zdec_at bX10_comment_122 5 rfl
theorem sX10_comment_0 {E : zE} {d : Nat} {Q : zO → zM → Prop} (M : zM) (a0 : Nat) (k : 16 ≤ a0 ∧ (Z E YX10_comment (d + 1) (si M a0 1 ((gi M a0 1) + (2 : Int32))) [(0, vr (some (a0, 9, 0))), (1, vi (gi M a0 2))] 15 [] Q)) : Z E YX10_comment (d + 1) M [(0, vr (some (a0, 9, 0)))] 0 [] Q := by
  refine z_aload_n dX10_comment_0 rfl rfl ?_
  refine z_geti dX10_comment_1 fsX10_9_9 ?_
  refine z_ist_n dX10_comment_4 rfl (by decide) (lv' := [(0, vr (some (a0, 9, 0))), (1, vi (gi M a0 2))]) rfl ?_
  refine z_aload_n dX10_comment_5 rfl rfl ?_
  refine z_dup dX10_comment_6 rfl ?_
  refine z_geti dX10_comment_7 fsX10_34_9 ?_
  refine z_iconst (v := 2) dX10_comment_10 rfl ?_
  refine z_iadd dX10_comment_11 ?_
  obtain ⟨g_, k⟩ := k
  refine z_puti g_ dX10_comment_12 (zfwN.w fwX10_34_9) rfl ⟨rfl, rfl⟩ ?_
  exact k
theorem sX10_comment_15 {E : zE} {d : Nat} {Q : zO → zM → Prop} (M : zM) (a0 : Nat) (l1 : Int32) (k : ∃ b1 : Nat, (gr M a0 0) = some (b1, 0, 0) ∧ (if (gi M b1 5) ≤ (gi M a0 1) then (Z E YX10_comment (d + 1) M [(0, vr (some (a0, 9, 0))), (1, vi l1)] 93 [] Q) else (Z E YX10_sign d M (zargs 0 [vr (some (a0, 9, 0)), vi (gi M a0 1)]) 0 [] (zafter E YX10_comment (d + 1) [(0, vr (some (a0, 9, 0))), (1, vi l1)] 34 3 [] Q)))) : Z E YX10_comment (d + 1) M [(0, vr (some (a0, 9, 0))), (1, vi l1)] 15 [] Q := by
  refine z_aload_n dX10_comment_15 rfl rfl ?_
  refine z_geti dX10_comment_16 fsX10_34_9 ?_
  refine z_aload_n dX10_comment_19 rfl rfl ?_
  refine z_getr (r := (gr M a0 0)) dX10_comment_20 fsX10_15_9 rfl ?_
  obtain ⟨b1, e1_, k⟩ := k
  refine Z.eqs (lv' := [(0, vr (some (a0, 9, 0))), (1, vi l1)]) (st' := [vr (some (b1, 0, 0)), vi (gi M a0 1)]) rfl (by rw [e1_] <;> rfl) ?_
  refine z_geti dX10_comment_23 fsX10_27_0 ?_
  refine z_icmp_ge (tgt := 93) dX10_comment_26 rfl (fun h_ => ?_) (fun h_ => ?_)
  · have k := zit h_ k
    exact k
  · have k := zif h_ k
    refine z_aload_n dX10_comment_29 rfl rfl ?_
    refine z_aload_n dX10_comment_30 rfl rfl ?_
    refine z_geti dX10_comment_31 fsX10_34_9 ?_
    exact z_callV (as := [vi (gi M a0 1)]) (st := []) dX10_comment_34 vsX10_37_9 (Nat.le_refl _) (Nat.le_of_ble_eq_true rfl) (Nat.le_of_ble_eq_true rfl) rfl k
theorem sX10_comment_37 {E : zE} {d : Nat} {Q : zO → zM → Prop} (M : zM) (a0 : Nat) (l1 : Int32) (s0 : Int32) (k : if s0 = (42 : Int32) then (Z E YX10_sign d M (zargs 0 [vr (some (a0, 9, 0)), vi ((gi M a0 1) + (1 : Int32))]) 0 [] (zafter E YX10_comment (d + 1) [(0, vr (some (a0, 9, 0))), (1, vi l1)] 49 3 [] Q)) else (Z E YX10_sign d M (zargs 0 [vr (some (a0, 9, 0)), vi (gi M a0 1)]) 0 [] (zafter E YX10_comment (d + 1) [(0, vr (some (a0, 9, 0))), (1, vi l1)] 62 3 [] Q))) : Z E YX10_comment (d + 1) M [(0, vr (some (a0, 9, 0))), (1, vi l1)] 37 [vi s0] Q := by
  refine z_bipush (v := 42) dX10_comment_37 rfl ?_
  refine z_icmp_ne (tgt := 57) dX10_comment_39 rfl (fun h_ => ?_) (fun h_ => ?_)
  · have k := zif h_ k
    refine z_aload_n dX10_comment_57 rfl rfl ?_
    refine z_aload_n dX10_comment_58 rfl rfl ?_
    refine z_geti dX10_comment_59 fsX10_34_9 ?_
    exact z_callV (as := [vi (gi M a0 1)]) (st := []) dX10_comment_62 vsX10_37_9 (Nat.le_refl _) (Nat.le_of_ble_eq_true rfl) (Nat.le_of_ble_eq_true rfl) rfl k
  · have k := zit h_ k
    refine z_aload_n dX10_comment_42 rfl rfl ?_
    refine z_aload_n dX10_comment_43 rfl rfl ?_
    refine z_geti dX10_comment_44 fsX10_34_9 ?_
    refine z_iconst (v := 1) dX10_comment_47 rfl ?_
    refine z_iadd dX10_comment_48 ?_
    exact z_callV (as := [vi ((gi M a0 1) + (1 : Int32))]) (st := []) dX10_comment_49 vsX10_37_9 (Nat.le_refl _) (Nat.le_of_ble_eq_true rfl) (Nat.le_of_ble_eq_true rfl) rfl k
theorem sX10_comment_52 {E : zE} {d : Nat} {Q : zO → zM → Prop} (M : zM) (a0 : Nat) (l1 : Int32) (s0 : Int32) (k : if s0 = (47 : Int32) then (Z E YX10_comment (d + 1) M [(0, vr (some (a0, 9, 0))), (1, vi l1)] 93 [] Q) else (Z E YX10_sign d M (zargs 0 [vr (some (a0, 9, 0)), vi (gi M a0 1)]) 0 [] (zafter E YX10_comment (d + 1) [(0, vr (some (a0, 9, 0))), (1, vi l1)] 62 3 [] Q))) : Z E YX10_comment (d + 1) M [(0, vr (some (a0, 9, 0))), (1, vi l1)] 52 [vi s0] Q := by
  refine z_bipush (v := 47) dX10_comment_52 rfl ?_
  refine z_icmp_eq (tgt := 93) dX10_comment_54 rfl (fun h_ => ?_) (fun h_ => ?_)
  · have k := zit h_ k
    exact k
  · have k := zif h_ k
    refine z_aload_n dX10_comment_57 rfl rfl ?_
    refine z_aload_n dX10_comment_58 rfl rfl ?_
    refine z_geti dX10_comment_59 fsX10_34_9 ?_
    exact z_callV (as := [vi (gi M a0 1)]) (st := []) dX10_comment_62 vsX10_37_9 (Nat.le_refl _) (Nat.le_of_ble_eq_true rfl) (Nat.le_of_ble_eq_true rfl) rfl k
theorem sX10_comment_65 {E : zE} {d : Nat} {Q : zO → zM → Prop} (M : zM) (a0 : Nat) (l1 : Int32) (s0 : Int32) (k : if s0 = (10 : Int32) then (16 ≤ a0 ∧ (16 ≤ a0 ∧ (Z E YX10_comment (d + 1) (si (si M a0 2 ((gi M a0 2) + (1 : Int32))) a0 1 ((gi (si M a0 2 ((gi M a0 2) + (1 : Int32))) a0 1) + (1 : Int32))) [(0, vr (some (a0, 9, 0))), (1, vi l1)] 15 [] Q))) else (16 ≤ a0 ∧ (Z E YX10_comment (d + 1) (si M a0 1 ((gi M a0 1) + (1 : Int32))) [(0, vr (some (a0, 9, 0))), (1, vi l1)] 15 [] Q))) : Z E YX10_comment (d + 1) M [(0, vr (some (a0, 9, 0))), (1, vi l1)] 65 [vi s0] Q := by
  refine z_bipush (v := 10) dX10_comment_65 rfl ?_
  refine z_icmp_ne (tgt := 80) dX10_comment_67 rfl (fun h_ => ?_) (fun h_ => ?_)
  · have k := zif h_ k
    refine z_aload_n dX10_comment_80 rfl rfl ?_
    refine z_dup dX10_comment_81 rfl ?_
    refine z_geti dX10_comment_82 fsX10_34_9 ?_
    refine z_iconst (v := 1) dX10_comment_85 rfl ?_
    refine z_iadd dX10_comment_86 ?_
    obtain ⟨g_, k⟩ := k
    refine z_puti g_ dX10_comment_87 (zfwN.w fwX10_34_9) rfl ⟨rfl, rfl⟩ ?_
    refine z_goto (tgt := 15) dX10_comment_90 rfl ?_
    exact k
  · have k := zit h_ k
    refine z_aload_n dX10_comment_70 rfl rfl ?_
    refine z_dup dX10_comment_71 rfl ?_
    refine z_geti dX10_comment_72 fsX10_9_9 ?_
    refine z_iconst (v := 1) dX10_comment_75 rfl ?_
    refine z_iadd dX10_comment_76 ?_
    obtain ⟨g_, k⟩ := k
    refine z_puti g_ dX10_comment_77 (zfwN.w fwX10_9_9) rfl ⟨rfl, rfl⟩ ?_
    refine z_aload_n dX10_comment_80 rfl rfl ?_
    refine z_dup dX10_comment_81 rfl ?_
    refine z_geti dX10_comment_82 fsX10_34_9 ?_
    refine z_iconst (v := 1) dX10_comment_85 rfl ?_
    refine z_iadd dX10_comment_86 ?_
    obtain ⟨g_, k⟩ := k
    refine z_puti g_ dX10_comment_87 (zfwN.w fwX10_34_9) rfl ⟨rfl, rfl⟩ ?_
    refine z_goto (tgt := 15) dX10_comment_90 rfl ?_
    exact k
theorem sX10_comment_93 {E : zE} {d : Nat} {Q : zO → zM → Prop} (M : zM) (a0 : Nat) (l1 : Int32) (k : ∃ b1 : Nat, (gr M a0 0) = some (b1, 0, 0) ∧ (if (gi M a0 1) < (gi M b1 5) then (16 ≤ a0 ∧ (Q (.inl none) (si M a0 1 ((gi M a0 1) + (2 : Int32))))) else (Z E YX10_comment (d + 1) (zn M 7) [(1, vi l1)] 110 [vr (some ((zsz M), 12, 0))] Q))) : Z E YX10_comment (d + 1) M [(0, vr (some (a0, 9, 0))), (1, vi l1)] 93 [] Q := by
  refine z_aload_n dX10_comment_93 rfl rfl ?_
  refine z_geti dX10_comment_94 fsX10_34_9 ?_
  refine z_aload_n dX10_comment_97 rfl rfl ?_
  refine z_getr (r := (gr M a0 0)) dX10_comment_98 fsX10_15_9 rfl ?_
  obtain ⟨b1, e1_, k⟩ := k
  refine Z.eqs (lv' := [(0, vr (some (a0, 9, 0))), (1, vi l1)]) (st' := [vr (some (b1, 0, 0)), vi (gi M a0 1)]) rfl (by rw [e1_] <;> rfl) ?_
  refine z_geti dX10_comment_101 fsX10_27_0 ?_
  refine z_icmp_lt (tgt := 121) dX10_comment_104 rfl (fun h_ => ?_) (fun h_ => ?_)
  · have k := zit h_ k
    refine z_aload_n dX10_comment_121 rfl rfl ?_
    refine z_dup dX10_comment_122 rfl ?_
    refine z_geti dX10_comment_123 fsX10_34_9 ?_
    refine z_iconst (v := 2) dX10_comment_126 rfl ?_
    refine z_iadd dX10_comment_127 ?_
    obtain ⟨g_, k⟩ := k
    refine z_puti g_ dX10_comment_128 (zfwN.w fwX10_34_9) rfl ⟨rfl, rfl⟩ ?_
    exact z_vret dX10_comment_131 rfl k
  · have k := zif h_ k
    refine z_new dX10_comment_107 csX10_19 zff_12 ?_
    refine Z.pick [1] rfl ?_
    exact k
theorem sX10_comment_110 {E : zE} {d : Nat} {Q : zO → zM → Prop} (M : zM) (l1 : Int32) (p0 : Nat) (k : Z E YX12_init d M (zargs 0 [vr (some (p0, 12, 0)), vi ((1 : Int32) + ((8 : Int32) * l1))]) 0 [] (zafter E YX10_comment (d + 1) [] 117 3 [vr (some (p0, 12, 0))] Q)) : Z E YX10_comment (d + 1) M [(1, vi l1)] 110 [vr (some (p0, 12, 0))] Q := by
  refine z_dup dX10_comment_110 rfl ?_
  refine z_iconst (v := 1) dX10_comment_111 rfl ?_
  refine z_bipush (v := 8) dX10_comment_112 rfl ?_
  refine z_iload_n dX10_comment_114 rfl rfl ?_
  refine z_imul dX10_comment_115 ?_
  refine z_iadd dX10_comment_116 ?_
  refine Z.pick [] rfl ?_
  exact z_callI (as := [vi ((1 : Int32) + ((8 : Int32) * l1))]) (st := [vr (some (p0, 12, 0))]) dX10_comment_117 isX10_24 (Nat.le_refl _) (Nat.le_of_ble_eq_true rfl) (Nat.le_of_ble_eq_true rfl) rfl k
theorem sX10_comment_120 {E : zE} {d : Nat} {Q : zO → zM → Prop} (M : zM) (p0 : Nat) (k : Q (.inr (p0, 12, 0)) M) : Z E YX10_comment (d + 1) M [] 120 [vr (some (p0, 12, 0))] Q := by
  exact z_athrow dX10_comment_120 (ZT.out (by decide) k)
/-! ScriptTypes$Tokens.word()V -/
theorem bX10_word_0 : zdec cX10_word 0 [(0, .aload_n 0, 1), (1, .getfield 15, 3), (4, .invokevirtual 76, 3), (7, .aload_n 0, 1), (8, .getfield 34, 3), (11, .aload_n 0, 1), (12, .getfield 15, 3), (15, .getfield 27, 3), (18, .if_icmp .ge 42, 3), (21, .aload_n 0, 1), (22, .aload_n 0, 1), (23, .getfield 34, 3), (26, .invokevirtual 37, 3), (29, .invokestatic 79, 3), (32, .ifCond .eq 28, 3), (35, .aload_n 0, 1)] = true := by decide +kernel
theorem dX10_word_0 : decode cX10_word 0 = .ok (.aload_n 0, 1) := zdec_at bX10_word_0 0 rfl
theorem dX10_word_1 : decode cX10_word 1 = .ok (.getfield 15, 3) := zdec_at bX10_word_0 1 rfl
theorem dX10_word_4 : decode cX10_word 4 = .ok (.invokevirtual 76, 3) := zdec_at bX10_word_0 2 rfl
theorem dX10_word_7 : decode cX10_word 7 = .ok (.aload_n 0, 1) := zdec_at bX10_word_0 3 rfl
theorem dX10_word_8 : decode cX10_word 8 = .ok (.getfield 34, 3) := zdec_at bX10_word_0 4 rfl
theorem dX10_word_11 : decode cX10_word 11 = .ok (.aload_n 0, 1) := zdec_at bX10_word_0 5 rfl
theorem dX10_word_12 : decode cX10_word 12 = .ok (.getfield 15, 3) := zdec_at bX10_word_0 6 rfl
theorem dX10_word_15 : decode cX10_word 15 = .ok (.getfield 27, 3) := zdec_at bX10_word_0 7 rfl
theorem dX10_word_18 : decode cX10_word 18 = .ok (.if_icmp .ge 42, 3) := zdec_at bX10_word_0 8 rfl
theorem dX10_word_21 : decode cX10_word 21 = .ok (.aload_n 0, 1) := zdec_at bX10_word_0 9 rfl
theorem dX10_word_22 : decode cX10_word 22 = .ok (.aload_n 0, 1) := zdec_at bX10_word_0 10 rfl
theorem dX10_word_23 : decode cX10_word 23 = .ok (.getfield 34, 3) := zdec_at bX10_word_0 11 rfl
theorem dX10_word_26 : decode cX10_word 26 = .ok (.invokevirtual 37, 3) := zdec_at bX10_word_0 12 rfl
theorem dX10_word_29 : decode cX10_word 29 = .ok (.invokestatic 79, 3) := zdec_at bX10_word_0 13 rfl
theorem dX10_word_32 : decode cX10_word 32 = .ok (.ifCond .eq 28, 3) := zdec_at bX10_word_0 14 rfl
theorem dX10_word_35 : decode cX10_word 35 = .ok (.aload_n 0, 1) := zdec_at bX10_word_0 15 rfl
theorem bX10_word_36 : zdec cX10_word 36 [(36, .getfield 15, 3), (39, .aload_n 0, 1), (40, .aload_n 0, 1), (41, .dup, 1), (42, .getfield 34, 3), (45, .dup_x1, 1), (46, .iconst 1, 1), (47, .iadd, 1), (48, .putfield 34, 3), (51, .invokevirtual 37, 3), (54, .invokevirtual 82, 3), (57, .goto (-50), 3), (60, .aload_n 0, 1), (61, .aload_n 0, 1), (62, .getfield 15, 3), (65, .getfield 85, 3)] = true := by decide +kernel
theorem dX10_word_36 : decode cX10_word 36 = .ok (.getfield 15, 3) := zdec_at bX10_word_36 0 rfl
theorem dX10_word_39 : decode cX10_word 39 = .ok (.aload_n 0, 1) := zdec_at bX10_word_36 1 rfl
theorem dX10_word_40 : decode cX10_word 40 = .ok (.aload_n 0, 1) := zdec_at bX10_word_36 2 rfl
theorem dX10_word_41 : decode cX10_word 41 = .ok (.dup, 1) := zdec_at bX10_word_36 3 rfl
theorem dX10_word_42 : decode cX10_word 42 = .ok (.getfield 34, 3) := zdec_at bX10_word_36 4 rfl
theorem dX10_word_45 : decode cX10_word 45 = .ok (.dup_x1, 1) := zdec_at bX10_word_36 5 rfl
theorem dX10_word_46 : decode cX10_word 46 = .ok (.iconst 1, 1) := zdec_at bX10_word_36 6 rfl
theorem dX10_word_47 : decode cX10_word 47 = .ok (.iadd, 1) := zdec_at bX10_word_36 7 rfl
theorem dX10_word_48 : decode cX10_word 48 = .ok (.putfield 34, 3) := zdec_at bX10_word_36 8 rfl
theorem dX10_word_51 : decode cX10_word 51 = .ok (.invokevirtual 37, 3) := zdec_at bX10_word_36 9 rfl
theorem dX10_word_54 : decode cX10_word 54 = .ok (.invokevirtual 82, 3) := zdec_at bX10_word_36 10 rfl
theorem dX10_word_57 : decode cX10_word 57 = .ok (.goto (-50), 3) := zdec_at bX10_word_36 11 rfl
theorem dX10_word_60 : decode cX10_word 60 = .ok (.aload_n 0, 1) := zdec_at bX10_word_36 12 rfl
theorem dX10_word_61 : decode cX10_word 61 = .ok (.aload_n 0, 1) := zdec_at bX10_word_36 13 rfl
theorem dX10_word_62 : decode cX10_word 62 = .ok (.getfield 15, 3) := zdec_at bX10_word_36 14 rfl
theorem dX10_word_65 : decode cX10_word 65 = .ok (.getfield 85, 3) := zdec_at bX10_word_36 15 rfl
theorem bX10_word_68 : zdec cX10_word 68 [(68, .aload_n 0, 1), (69, .getfield 15, 3), (72, .getfield 89, 3), (75, .aload_n 0, 1), (76, .getfield 15, 3), (79, .getfield 92, 3), (82, .invokevirtual 95, 3), (85, .putfield 101, 3), (88, .aload_n 0, 1), (89, .aload_n 0, 1), (90, .getfield 101, 3), (93, .iconst (-1), 1), (94, .if_icmp .eq 7, 3), (97, .iconst 2, 1), (98, .goto 21, 3), (101, .aload_n 0, 1)] = true := by decide +kernel
theorem dX10_word_68 : decode cX10_word 68 = .ok (.aload_n 0, 1) := zdec_at bX10_word_68 0 rfl
theorem dX10_word_69 : decode cX10_word 69 = .ok (.getfield 15, 3) := zdec_at bX10_word_68 1 rfl
theorem dX10_word_72 : decode cX10_word 72 = .ok (.getfield 89, 3) := zdec_at bX10_word_68 2 rfl
theorem dX10_word_75 : decode cX10_word 75 = .ok (.aload_n 0, 1) := zdec_at bX10_word_68 3 rfl
theorem dX10_word_76 : decode cX10_word 76 = .ok (.getfield 15, 3) := zdec_at bX10_word_68 4 rfl
theorem dX10_word_79 : decode cX10_word 79 = .ok (.getfield 92, 3) := zdec_at bX10_word_68 5 rfl
theorem dX10_word_82 : decode cX10_word 82 = .ok (.invokevirtual 95, 3) := zdec_at bX10_word_68 6 rfl
theorem dX10_word_85 : decode cX10_word 85 = .ok (.putfield 101, 3) := zdec_at bX10_word_68 7 rfl
theorem dX10_word_88 : decode cX10_word 88 = .ok (.aload_n 0, 1) := zdec_at bX10_word_68 8 rfl
theorem dX10_word_89 : decode cX10_word 89 = .ok (.aload_n 0, 1) := zdec_at bX10_word_68 9 rfl
theorem dX10_word_90 : decode cX10_word 90 = .ok (.getfield 101, 3) := zdec_at bX10_word_68 10 rfl
theorem dX10_word_93 : decode cX10_word 93 = .ok (.iconst (-1), 1) := zdec_at bX10_word_68 11 rfl
theorem dX10_word_94 : decode cX10_word 94 = .ok (.if_icmp .eq 7, 3) := zdec_at bX10_word_68 12 rfl
theorem dX10_word_97 : decode cX10_word 97 = .ok (.iconst 2, 1) := zdec_at bX10_word_68 13 rfl
theorem dX10_word_98 : decode cX10_word 98 = .ok (.goto 21, 3) := zdec_at bX10_word_68 14 rfl
theorem dX10_word_101 : decode cX10_word 101 = .ok (.aload_n 0, 1) := zdec_at bX10_word_68 15 rfl
theorem bX10_word_102 : zdec cX10_word 102 [(102, .getfield 15, 3), (105, .getfield 92, 3), (108, .bipush 16, 2), (110, .if_icmp .le 8, 3), (113, .bipush 6, 2), (115, .goto 4, 3), (118, .iconst 1, 1), (119, .putfield 50, 3), (122, .aload_n 0, 1), (123, .getfield 50, 3), (126, .iconst 1, 1), (127, .if_icmp .ne 11, 3), (130, .aload_n 0, 1), (131, .aload_n 0, 1), (132, .invokevirtual 104, 3), (135, .putfield 101, 3)] = true := by decide +kernel
theorem dX10_word_102 : decode cX10_word 102 = .ok (.getfield 15, 3) := zdec_at bX10_word_102 0 rfl
theorem dX10_word_105 : decode cX10_word 105 = .ok (.getfield 92, 3) := zdec_at bX10_word_102 1 rfl
theorem dX10_word_108 : decode cX10_word 108 = .ok (.bipush 16, 2) := zdec_at bX10_word_102 2 rfl
theorem dX10_word_110 : decode cX10_word 110 = .ok (.if_icmp .le 8, 3) := zdec_at bX10_word_102 3 rfl
theorem dX10_word_113 : decode cX10_word 113 = .ok (.bipush 6, 2) := zdec_at bX10_word_102 4 rfl
theorem dX10_word_115 : decode cX10_word 115 = .ok (.goto 4, 3) := zdec_at bX10_word_102 5 rfl
theorem dX10_word_118 : decode cX10_word 118 = .ok (.iconst 1, 1) := zdec_at bX10_word_102 6 rfl
theorem dX10_word_119 : decode cX10_word 119 = .ok (.putfield 50, 3) := zdec_at bX10_word_102 7 rfl
theorem dX10_word_122 : decode cX10_word 122 = .ok (.aload_n 0, 1) := zdec_at bX10_word_102 8 rfl
theorem dX10_word_123 : decode cX10_word 123 = .ok (.getfield 50, 3) := zdec_at bX10_word_102 9 rfl
theorem dX10_word_126 : decode cX10_word 126 = .ok (.iconst 1, 1) := zdec_at bX10_word_102 10 rfl
theorem dX10_word_127 : decode cX10_word 127 = .ok (.if_icmp .ne 11, 3) := zdec_at bX10_word_102 11 rfl
theorem dX10_word_130 : decode cX10_word 130 = .ok (.aload_n 0, 1) := zdec_at bX10_word_102 12 rfl
theorem dX10_word_131 : decode cX10_word 131 = .ok (.aload_n 0, 1) := zdec_at bX10_word_102 13 rfl
theorem dX10_word_132 : decode cX10_word 132 = .ok (.invokevirtual 104, 3) := zdec_at bX10_word_102 14 rfl
theorem dX10_word_135 : decode cX10_word 135 = .ok (.putfield 101, 3) := zdec_at bX10_word_102 15 rfl
theorem bX10_word_138 : zdec cX10_word 138 [(138, .return_, 1)] = true := by decide +kernel
theorem dX10_word_138 : decode cX10_word 138 = .ok (.return_, 1) := zdec_at bX10_word_138 0 rfl
theorem sX10_word_0 {E : zE} {d : Nat} {Q : zO → zM → Prop} (M : zM) (a0 : Nat) (k : ∃ b1 : Nat, (gr M a0 0) = some (b1, 0, 0) ∧ (Z E YX1_clearRow d M (zargs 0 [vr (some (b1, 0, 0))]) 0 [] (zafter E YX10_word (d + 1) [(0, vr (some (a0, 9, 0)))] 4 3 [] Q))) : Z E YX10_word (d + 1) M [(0, vr (some (a0, 9, 0)))] 0 [] Q := by
  refine z_aload_n dX10_word_0 rfl rfl ?_
  refine z_getr (r := (gr M a0 0)) dX10_word_1 fsX10_15_9 rfl ?_
  obtain ⟨b1, e1_, k⟩ := k
  refine Z.eqs (lv' := [(0, vr (some (a0, 9, 0)))]) (st' := [vr (some (b1, 0, 0))]) rfl (by rw [e1_] <;> rfl) ?_
  exact z_callV (as := []) (st := []) dX10_word_4 vsX10_76_0 (Nat.le_refl _) (Nat.le_of_ble_eq_true rfl) (Nat.le_of_ble_eq_true rfl) rfl k
theorem sX10_word_7 {E : zE} {d : Nat} {Q : zO → zM → Prop} (M : zM) (a0 : Nat) (k : ∃ b1 : Nat, (gr M a0 0) = some (b1, 0, 0) ∧ (if (gi M b1 5) ≤ (gi M a0 1) then (Z E YX10_word (d + 1) M [(0, vr (some (a0, 9, 0)))] 60 [] Q) else (Z E YX10_sign d M (zargs 0 [vr (some (a0, 9, 0)), vi (gi M a0 1)]) 0 [] (zafter E YX10_word (d + 1) [(0, vr (some (a0, 9, 0)))] 26 3 [] Q)))) : Z E YX10_word (d + 1) M [(0, vr (some (a0, 9, 0)))] 7 [] Q := by
  refine z_aload_n dX10_word_7 rfl rfl ?_
  refine z_geti dX10_word_8 fsX10_34_9 ?_
  refine z_aload_n dX10_word_11 rfl rfl ?_
  refine z_getr (r := (gr M a0 0)) dX10_word_12 fsX10_15_9 rfl ?_
  obtain ⟨b1, e1_, k⟩ := k
  refine Z.eqs (lv' := [(0, vr (some (a0, 9, 0)))]) (st' := [vr (some (b1, 0, 0)), vi (gi M a0 1)]) rfl (by rw [e1_] <;> rfl) ?_
  refine z_geti dX10_word_15 fsX10_27_0 ?_
  refine z_icmp_ge (tgt := 60) dX10_word_18 rfl (fun h_ => ?_) (fun h_ => ?_)
  · have k := zit h_ k
    exact k
  · have k := zif h_ k
    refine z_aload_n dX10_word_21 rfl rfl ?_
    refine z_aload_n dX10_word_22 rfl rfl ?_
    refine z_geti dX10_word_23 fsX10_34_9 ?_
    exact z_callV (as := [vi (gi M a0 1)]) (st := []) dX10_word_26 vsX10_37_9 (Nat.le_refl _) (Nat.le_of_ble_eq_true rfl) (Nat.le_of_ble_eq_true rfl) rfl k
theorem sX10_word_29 {E : zE} {d : Nat} {Q : zO → zM → Prop} (M : zM) (a0 : Nat) (s0 : Int32) (k : Z E YX1_inner d M (zargs 0 [vi s0]) 0 [] (zafter E YX10_word (d + 1) [(0, vr (some (a0, 9, 0)))] 29 3 [] Q)) : Z E YX10_word (d + 1) M [(0, vr (some (a0, 9, 0)))] 29 [vi s0] Q := by
  exact z_callS (as := [vi s0]) (st := []) dX10_word_29 ssX10_79 (Nat.le_refl _) (Nat.le_of_ble_eq_true rfl) (Nat.le_of_ble_eq_true rfl) rfl k
theorem sX10_word_32 {E : zE} {d : Nat} {Q : zO → zM → Prop} (M : zM) (a0 : Nat) (s0 : Int32) (k : if s0 = 0 then (Z E YX10_word (d + 1) M [(0, vr (some (a0, 9, 0)))] 60 [] Q) else (16 ≤ a0 ∧ (Z E YX10_sign d (si M a0 1 ((gi M a0 1) + (1 : Int32))) (zargs 0 [vr (some (a0, 9, 0)), vi (gi M a0 1)]) 0 [] (zafter E YX10_word (d + 1) [(0, vr (some (a0, 9, 0)))] 51 3 [vr (gr M a0 0)] Q)))) : Z E YX10_word (d + 1) M [(0, vr (some (a0, 9, 0)))] 32 [vi s0] Q := by
  refine z_if_eq (tgt := 60) dX10_word_32 rfl (fun h_ => ?_) (fun h_ => ?_)
  · have k := zit h_ k
    exact k
  · have k := zif h_ k
    refine z_aload_n dX10_word_35 rfl rfl ?_
    refine z_getr (r := (gr M a0 0)) dX10_word_36 fsX10_15_9 rfl ?_
    refine z_aload_n dX10_word_39 rfl rfl ?_
    refine z_aload_n dX10_word_40 rfl rfl ?_
    refine z_dup dX10_word_41 rfl ?_
    refine z_geti dX10_word_42 fsX10_34_9 ?_
    refine z_dup_x1 dX10_word_45 rfl rfl ?_
    refine z_iconst (v := 1) dX10_word_46 rfl ?_
    refine z_iadd dX10_word_47 ?_
    obtain ⟨g_, k⟩ := k
    refine z_puti g_ dX10_word_48 (zfwN.w fwX10_34_9) rfl ⟨rfl, rfl⟩ ?_
    exact z_callV (as := [vi (gi M a0 1)]) (st := [vr (gr M a0 0)]) dX10_word_51 vsX10_37_9 (Nat.le_refl _) (Nat.le_of_ble_eq_true rfl) (Nat.le_of_ble_eq_true rfl) rfl k
theorem sX10_word_54 {E : zE} {d : Nat} {Q : zO → zM → Prop} (M : zM) (a0 : Nat) (s0 : Int32) (u1 : Option zP) (k : ∃ b1 : Nat, u1 = some (b1, 0, 0) ∧ (Z E YX1_write d M (zargs 0 [vr (some (b1, 0, 0)), vi s0]) 0 [] (zafter E YX10_word (d + 1) [(0, vr (some (a0, 9, 0)))] 54 3 [] Q))) : Z E YX10_word (d + 1) M [(0, vr (some (a0, 9, 0)))] 54 [vi s0, vr u1] Q := by
  obtain ⟨b1, e1_, k⟩ := k
  refine Z.eqs (lv' := [(0, vr (some (a0, 9, 0)))]) (st' := [vi s0, vr (some (b1, 0, 0))]) rfl (by rw [e1_] <;> rfl) ?_
  exact z_callV (as := [vi s0]) (st := []) dX10_word_54 vsX10_82_0 (Nat.le_refl _) (Nat.le_of_ble_eq_true rfl) (Nat.le_of_ble_eq_true rfl) rfl k
theorem sX10_word_57 {E : zE} {d : Nat} {Q : zO → zM → Prop} (M : zM) (a0 : Nat) (k : Z E YX10_word (d + 1) M [(0, vr (some (a0, 9, 0)))] 7 [] Q) : Z E YX10_word (d + 1) M [(0, vr (some (a0, 9, 0)))] 57 [] Q := by
  refine z_goto (tgt := 7) dX10_word_57 rfl ?_
  exact k
theorem sX10_word_60 {E : zE} {d : Nat} {Q : zO → zM → Prop} (M : zM) (a0 : Nat) (k : ∃ b1 : Nat, (gr M a0 0) = some (b1, 0, 0) ∧ (∃ b2 : Nat, (gr M a0 0) = some (b2, 0, 0) ∧ (∃ b3 : Nat, (gr M a0 0) = some (b3, 0, 0) ∧ (∃ b4 : Nat, (gr M b1 6) = some (b4, 2, 0) ∧ (Z E YX2_find d M (zargs 0 [vr (some (b4, 2, 0)), vr (gr M b2 2), vi (gi M b3 3)]) 0 [] (zafter E YX10_word (d + 1) [(0, vr (some (a0, 9, 0)))] 82 3 [vr (some (a0, 9, 0))] Q)))))) : Z E YX10_word (d + 1) M [(0, vr (some (a0, 9, 0)))] 60 [] Q := by
  refine z_aload_n dX10_word_60 rfl rfl ?_
  refine z_aload_n dX10_word_61 rfl rfl ?_
  refine z_getr (r := (gr M a0 0)) dX10_word_62 fsX10_15_9 rfl ?_
  obtain ⟨b1, e1_, k⟩ := k
  refine Z.eqs (lv' := [(0, vr (some (a0, 9, 0)))]) (st' := [vr (some (b1, 0, 0)), vr (some (a0, 9, 0))]) rfl (by rw [e1_] <;> rfl) ?_
  refine z_getr (r := (gr M b1 6)) dX10_word_65 fsX10_85_0 rfl ?_
  refine z_aload_n dX10_word_68 rfl rfl ?_
  refine z_getr (r := (gr M a0 0)) dX10_word_69 fsX10_15_9 rfl ?_
  obtain ⟨b2, e2_, k⟩ := k
  refine Z.eqs (lv' := [(0, vr (some (a0, 9, 0)))]) (st' := [vr (some (b2, 0, 0)), vr (gr M b1 6), vr (some (a0, 9, 0))]) rfl (by rw [e2_] <;> rfl) ?_
  refine z_getr (r := (gr M b2 2)) dX10_word_72 fsX10_89_0 rfl ?_
  refine z_aload_n dX10_word_75 rfl rfl ?_
  refine z_getr (r := (gr M a0 0)) dX10_word_76 fsX10_15_9 rfl ?_
  obtain ⟨b3, e3_, k⟩ := k
  refine Z.eqs (lv' := [(0, vr (some (a0, 9, 0)))]) (st' := [vr (some (b3, 0, 0)), vr (gr M b2 2), vr (gr M b1 6), vr (some (a0, 9, 0))]) rfl (by rw [e3_] <;> rfl) ?_
  refine z_geti dX10_word_79 fsX10_92_0 ?_
  obtain ⟨b4, e4_, k⟩ := k
  refine Z.eqs (lv' := [(0, vr (some (a0, 9, 0)))]) (st' := [vi (gi M b3 3), vr (gr M b2 2), vr (some (b4, 2, 0)), vr (some (a0, 9, 0))]) rfl (by rw [e4_] <;> rfl) ?_
  exact z_callV (as := [vr (gr M b2 2), vi (gi M b3 3)]) (st := [vr (some (a0, 9, 0))]) dX10_word_82 vsX10_95_2 (Nat.le_refl _) (Nat.le_of_ble_eq_true rfl) (Nat.le_of_ble_eq_true rfl) rfl k
theorem sX10_word_85 {E : zE} {d : Nat} {Q : zO → zM → Prop} (M : zM) (a0 : Nat) (s0 : Int32) (k : 16 ≤ a0 ∧ (if (gi (si M a0 6 s0) a0 6) = (-1 : Int32) then (∃ b1 : Nat, (gr M a0 0) = some (b1, 0, 0) ∧ (if (gi (si M a0 6 s0) b1 3) ≤ (16 : Int32) then (Z E YX10_word (d + 1) (si M a0 6 s0) [(0, vr (some (a0, 9, 0)))] 119 [vi (1 : Int32), vr (some (a0, 9, 0))] Q) else (Z E YX10_word (d + 1) (si M a0 6 s0) [(0, vr (some (a0, 9, 0)))] 119 [vi (6 : Int32), vr (some (a0, 9, 0))] Q))) else (Z E YX10_word (d + 1) (si M a0 6 s0) [(0, vr (some (a0, 9, 0)))] 119 [vi (2 : Int32), vr (some (a0, 9, 0))] Q))) : Z E YX10_word (d + 1) M [(0, vr (some (a0, 9, 0)))] 85 [vi s0, vr (some (a0, 9, 0))] Q := by
  obtain ⟨g_, k⟩ := k
  refine z_puti g_ dX10_word_85 (zfwN.w fwX10_101_9) rfl ⟨rfl, rfl⟩ ?_
  refine z_aload_n dX10_word_88 rfl rfl ?_
  refine z_aload_n dX10_word_89 rfl rfl ?_
  refine z_geti dX10_word_90 fsX10_101_9 ?_
  refine z_iconst (v := -1) dX10_word_93 rfl ?_
  refine z_icmp_eq (tgt := 101) dX10_word_94 rfl (fun h_ => ?_) (fun h_ => ?_)
  · have k := zit h_ k
    refine z_aload_n dX10_word_101 rfl rfl ?_
    refine z_getr (r := (gr M a0 0)) dX10_word_102 fsX10_15_9 rfl ?_
    obtain ⟨b1, e1_, k⟩ := k
    refine Z.eqs (lv' := [(0, vr (some (a0, 9, 0)))]) (st' := [vr (some (b1, 0, 0)), vr (some (a0, 9, 0))]) rfl (by rw [e1_] <;> rfl) ?_
    refine z_geti dX10_word_105 fsX10_92_0 ?_
    refine z_bipush (v := 16) dX10_word_108 rfl ?_
    refine z_icmp_le (tgt := 118) dX10_word_110 rfl (fun h_ => ?_) (fun h_ => ?_)
    · have k := zit h_ k
      refine z_iconst (v := 1) dX10_word_118 rfl ?_
      exact k
    · have k := zif h_ k
      refine z_bipush (v := 6) dX10_word_113 rfl ?_
      refine z_goto (tgt := 119) dX10_word_115 rfl ?_
      exact k
  · have k := zif h_ k
    refine z_iconst (v := 2) dX10_word_97 rfl ?_
    refine z_goto (tgt := 119) dX10_word_98 rfl ?_
    exact k
theorem sX10_word_119 {E : zE} {d : Nat} {Q : zO → zM → Prop} (M : zM) (a0 : Nat) (s0 : Int32) (k : 16 ≤ a0 ∧ (if (gi (si M a0 3 s0) a0 3) = (1 : Int32) then (Z E YX10_name d (si M a0 3 s0) (zargs 0 [vr (some (a0, 9, 0))]) 0 [] (zafter E YX10_word (d + 1) [] 132 3 [vr (some (a0, 9, 0))] Q)) else (Q (.inl none) (si M a0 3 s0)))) : Z E YX10_word (d + 1) M [(0, vr (some (a0, 9, 0)))] 119 [vi s0, vr (some (a0, 9, 0))] Q := by
  obtain ⟨g_, k⟩ := k
  refine z_puti g_ dX10_word_119 (zfwN.w fwX10_50_9) rfl ⟨rfl, rfl⟩ ?_
  refine z_aload_n dX10_word_122 rfl rfl ?_
  refine z_geti dX10_word_123 fsX10_50_9 ?_
  refine z_iconst (v := 1) dX10_word_126 rfl ?_
  refine z_icmp_ne (tgt := 138) dX10_word_127 rfl (fun h_ => ?_) (fun h_ => ?_)
  · have k := zif h_ k
    exact z_vret dX10_word_138 rfl k
  · have k := zit h_ k
    refine z_aload_n dX10_word_130 rfl rfl ?_
    refine z_aload_n dX10_word_131 rfl rfl ?_
    refine Z.pick [] rfl ?_
    exact z_callV (as := []) (st := [vr (some (a0, 9, 0))]) dX10_word_132 vsX10_104_9 (Nat.le_refl _) (Nat.le_of_ble_eq_true rfl) (Nat.le_of_ble_eq_true rfl) rfl k
theorem sX10_word_135 {E : zE} {d : Nat} {Q : zO → zM → Prop} (M : zM) (s0 : Int32) (a0 : Nat) (k : 16 ≤ a0 ∧ (Q (.inl none) (si M a0 6 s0))) : Z E YX10_word (d + 1) M [] 135 [vi s0, vr (some (a0, 9, 0))] Q := by
  obtain ⟨g_, k⟩ := k
  refine z_puti g_ dX10_word_135 (zfwN.w fwX10_101_9) rfl ⟨rfl, rfl⟩ ?_
  exact z_vret dX10_word_138 rfl k
/-! ScriptTypes$Tokens.name()I -/
theorem bX10_name_0 : zdec cX10_name 0 [(0, .aload_n 0, 1), (1, .getfield 15, 3), (4, .getfield 124, 3), (7, .aload_n 0, 1), (8, .getfield 15, 3), (11, .getfield 89, 3), (14, .aload_n 0, 1), (15, .getfield 15, 3), (18, .getfield 92, 3), (21, .invokevirtual 95, 3), (24, .istore_n 1, 1), (25, .iload_n 1, 1), (26, .iconst (-1), 1), (27, .if_icmp .ne 30, 3), (30, .aload_n 0, 1), (31, .getfield 15, 3)] = true := by decide +kernel
theorem dX10_name_0 : decode cX10_name 0 = .ok (.aload_n 0, 1) := zdec_at bX10_name_0 0 rfl
theorem dX10_name_1 : decode cX10_name 1 = .ok (.getfield 15, 3) := zdec_at bX10_name_0 1 rfl
theorem dX10_name_4 : decode cX10_name 4 = .ok (.getfield 124, 3) := zdec_at bX10_name_0 2 rfl
theorem dX10_name_7 : decode cX10_name 7 = .ok (.aload_n 0, 1) := zdec_at bX10_name_0 3 rfl
theorem dX10_name_8 : decode cX10_name 8 = .ok (.getfield 15, 3) := zdec_at bX10_name_0 4 rfl
theorem dX10_name_11 : decode cX10_name 11 = .ok (.getfield 89, 3) := zdec_at bX10_name_0 5 rfl
theorem dX10_name_14 : decode cX10_name 14 = .ok (.aload_n 0, 1) := zdec_at bX10_name_0 6 rfl
theorem dX10_name_15 : decode cX10_name 15 = .ok (.getfield 15, 3) := zdec_at bX10_name_0 7 rfl
theorem dX10_name_18 : decode cX10_name 18 = .ok (.getfield 92, 3) := zdec_at bX10_name_0 8 rfl
theorem dX10_name_21 : decode cX10_name 21 = .ok (.invokevirtual 95, 3) := zdec_at bX10_name_0 9 rfl
theorem dX10_name_24 : decode cX10_name 24 = .ok (.istore_n 1, 1) := zdec_at bX10_name_0 10 rfl
theorem dX10_name_25 : decode cX10_name 25 = .ok (.iload_n 1, 1) := zdec_at bX10_name_0 11 rfl
theorem dX10_name_26 : decode cX10_name 26 = .ok (.iconst (-1), 1) := zdec_at bX10_name_0 12 rfl
theorem dX10_name_27 : decode cX10_name 27 = .ok (.if_icmp .ne 30, 3) := zdec_at bX10_name_0 13 rfl
theorem dX10_name_30 : decode cX10_name 30 = .ok (.aload_n 0, 1) := zdec_at bX10_name_0 14 rfl
theorem dX10_name_31 : decode cX10_name 31 = .ok (.getfield 15, 3) := zdec_at bX10_name_0 15 rfl
theorem bX10_name_34 : zdec cX10_name 34 [(34, .getfield 124, 3), (37, .aload_n 0, 1), (38, .getfield 15, 3), (41, .getfield 89, 3), (44, .aload_n 0, 1), (45, .getfield 15, 3), (48, .getfield 92, 3), (51, .invokevirtual 127, 3), (54, .goto 4, 3), (57, .iload_n 1, 1), (58, .ireturn, 1)] = true := by decide +kernel
theorem dX10_name_34 : decode cX10_name 34 = .ok (.getfield 124, 3) := zdec_at bX10_name_34 0 rfl
theorem dX10_name_37 : decode cX10_name 37 = .ok (.aload_n 0, 1) := zdec_at bX10_name_34 1 rfl
theorem dX10_name_38 : decode cX10_name 38 = .ok (.getfield 15, 3) := zdec_at bX10_name_34 2 rfl
theorem dX10_name_41 : decode cX10_name 41 = .ok (.getfield 89, 3) := zdec_at bX10_name_34 3 rfl
theorem dX10_name_44 : decode cX10_name 44 = .ok (.aload_n 0, 1) := zdec_at bX10_name_34 4 rfl
theorem dX10_name_45 : decode cX10_name 45 = .ok (.getfield 15, 3) := zdec_at bX10_name_34 5 rfl
theorem dX10_name_48 : decode cX10_name 48 = .ok (.getfield 92, 3) := zdec_at bX10_name_34 6 rfl
theorem dX10_name_51 : decode cX10_name 51 = .ok (.invokevirtual 127, 3) := zdec_at bX10_name_34 7 rfl
theorem dX10_name_54 : decode cX10_name 54 = .ok (.goto 4, 3) := zdec_at bX10_name_34 8 rfl
theorem dX10_name_57 : decode cX10_name 57 = .ok (.iload_n 1, 1) := zdec_at bX10_name_34 9 rfl
theorem dX10_name_58 : decode cX10_name 58 = .ok (.ireturn, 1) := zdec_at bX10_name_34 10 rfl
theorem sX10_name_0 {E : zE} {d : Nat} {Q : zO → zM → Prop} (M : zM) (a0 : Nat) (k : ∃ b1 : Nat, (gr M a0 0) = some (b1, 0, 0) ∧ (∃ b2 : Nat, (gr M a0 0) = some (b2, 0, 0) ∧ (∃ b3 : Nat, (gr M a0 0) = some (b3, 0, 0) ∧ (∃ b4 : Nat, (gr M b1 0) = some (b4, 2, 0) ∧ (Z E YX2_find d M (zargs 0 [vr (some (b4, 2, 0)), vr (gr M b2 2), vi (gi M b3 3)]) 0 [] (zafter E YX10_name (d + 1) [(0, vr (some (a0, 9, 0)))] 21 3 [] Q)))))) : Z E YX10_name (d + 1) M [(0, vr (some (a0, 9, 0)))] 0 [] Q := by
  refine z_aload_n dX10_name_0 rfl rfl ?_
  refine z_getr (r := (gr M a0 0)) dX10_name_1 fsX10_15_9 rfl ?_
  obtain ⟨b1, e1_, k⟩ := k
  refine Z.eqs (lv' := [(0, vr (some (a0, 9, 0)))]) (st' := [vr (some (b1, 0, 0))]) rfl (by rw [e1_] <;> rfl) ?_
  refine z_getr (r := (gr M b1 0)) dX10_name_4 fsX10_124_0 rfl ?_
  refine z_aload_n dX10_name_7 rfl rfl ?_
  refine z_getr (r := (gr M a0 0)) dX10_name_8 fsX10_15_9 rfl ?_
  obtain ⟨b2, e2_, k⟩ := k
  refine Z.eqs (lv' := [(0, vr (some (a0, 9, 0)))]) (st' := [vr (some (b2, 0, 0)), vr (gr M b1 0)]) rfl (by rw [e2_] <;> rfl) ?_
  refine z_getr (r := (gr M b2 2)) dX10_name_11 fsX10_89_0 rfl ?_
  refine z_aload_n dX10_name_14 rfl rfl ?_
  refine z_getr (r := (gr M a0 0)) dX10_name_15 fsX10_15_9 rfl ?_
  obtain ⟨b3, e3_, k⟩ := k
  refine Z.eqs (lv' := [(0, vr (some (a0, 9, 0)))]) (st' := [vr (some (b3, 0, 0)), vr (gr M b2 2), vr (gr M b1 0)]) rfl (by rw [e3_] <;> rfl) ?_
  refine z_geti dX10_name_18 fsX10_92_0 ?_
  obtain ⟨b4, e4_, k⟩ := k
  refine Z.eqs (lv' := [(0, vr (some (a0, 9, 0)))]) (st' := [vi (gi M b3 3), vr (gr M b2 2), vr (some (b4, 2, 0))]) rfl (by rw [e4_] <;> rfl) ?_
  exact z_callV (as := [vr (gr M b2 2), vi (gi M b3 3)]) (st := []) dX10_name_21 vsX10_95_2 (Nat.le_refl _) (Nat.le_of_ble_eq_true rfl) (Nat.le_of_ble_eq_true rfl) rfl k
theorem sX10_name_24 {E : zE} {d : Nat} {Q : zO → zM → Prop} (M : zM) (a0 : Nat) (s0 : Int32) (k : if s0 = (-1 : Int32) then (∃ b1 : Nat, (gr M a0 0) = some (b1, 0, 0) ∧ (∃ b2 : Nat, (gr M a0 0) = some (b2, 0, 0) ∧ (∃ b3 : Nat, (gr M a0 0) = some (b3, 0, 0) ∧ (∃ b4 : Nat, (gr M b1 0) = some (b4, 2, 0) ∧ (Z E YX2_add d M (zargs 0 [vr (some (b4, 2, 0)), vr (gr M b2 2), vi (gi M b3 3)]) 0 [] (zafter E YX10_name (d + 1) [] 51 3 [] Q)))))) else (Q (.inl (some (vi s0))) M)) : Z E YX10_name (d + 1) M [(0, vr (some (a0, 9, 0)))] 24 [vi s0] Q := by
  refine z_ist_n dX10_name_24 rfl (by decide) (lv' := [(0, vr (some (a0, 9, 0))), (1, vi s0)]) rfl ?_
  refine z_iload_n dX10_name_25 rfl rfl ?_
  refine z_iconst (v := -1) dX10_name_26 rfl ?_
  refine z_icmp_ne (tgt := 57) dX10_name_27 rfl (fun h_ => ?_) (fun h_ => ?_)
  · have k := zif h_ k
    refine z_iload_n dX10_name_57 rfl rfl ?_
    exact z_iret dX10_name_58 rfl rfl k
  · have k := zit h_ k
    refine z_aload_n dX10_name_30 rfl rfl ?_
    refine z_getr (r := (gr M a0 0)) dX10_name_31 fsX10_15_9 rfl ?_
    obtain ⟨b1, e1_, k⟩ := k
    refine Z.eqs (lv' := [(0, vr (some (a0, 9, 0))), (1, vi s0)]) (st' := [vr (some (b1, 0, 0))]) rfl (by rw [e1_] <;> rfl) ?_
    refine z_getr (r := (gr M b1 0)) dX10_name_34 fsX10_124_0 rfl ?_
    refine z_aload_n dX10_name_37 rfl rfl ?_
    refine z_getr (r := (gr M a0 0)) dX10_name_38 fsX10_15_9 rfl ?_
    obtain ⟨b2, e2_, k⟩ := k
    refine Z.eqs (lv' := [(0, vr (some (a0, 9, 0))), (1, vi s0)]) (st' := [vr (some (b2, 0, 0)), vr (gr M b1 0)]) rfl (by rw [e2_] <;> rfl) ?_
    refine z_getr (r := (gr M b2 2)) dX10_name_41 fsX10_89_0 rfl ?_
    refine z_aload_n dX10_name_44 rfl rfl ?_
    refine z_getr (r := (gr M a0 0)) dX10_name_45 fsX10_15_9 rfl ?_
    obtain ⟨b3, e3_, k⟩ := k
    refine Z.eqs (lv' := [(0, vr (some (a0, 9, 0))), (1, vi s0)]) (st' := [vr (some (b3, 0, 0)), vr (gr M b2 2), vr (gr M b1 0)]) rfl (by rw [e3_] <;> rfl) ?_
    refine z_geti dX10_name_48 fsX10_92_0 ?_
    obtain ⟨b4, e4_, k⟩ := k
    refine Z.eqs (lv' := [(0, vr (some (a0, 9, 0))), (1, vi s0)]) (st' := [vi (gi M b3 3), vr (gr M b2 2), vr (some (b4, 2, 0))]) rfl (by rw [e4_] <;> rfl) ?_
    refine Z.pick [] rfl ?_
    exact z_callV (as := [vr (gr M b2 2), vi (gi M b3 3)]) (st := []) dX10_name_51 vsX10_127_2 (Nat.le_refl _) (Nat.le_of_ble_eq_true rfl) (Nat.le_of_ble_eq_true rfl) rfl k
theorem sX10_name_54 {E : zE} {d : Nat} {Q : zO → zM → Prop} (M : zM) (s0 : Int32) (k : Q (.inl (some (vi s0))) M) : Z E YX10_name (d + 1) M [] 54 [vi s0] Q := by
  refine z_goto (tgt := 58) dX10_name_54 rfl ?_
  exact z_iret dX10_name_58 rfl rfl k
/-! ScriptTypes$Tokens.digits()V -/
theorem bX10_digits_0 : zdec cX10_digits 0 [(0, .lconst 0, 1), (1, .lstore_n 1, 1), (2, .iconst 0, 1), (3, .istore_n 3, 1), (4, .aload_n 0, 1), (5, .getfield 34, 3), (8, .aload_n 0, 1), (9, .getfield 15, 3), (12, .getfield 27, 3), (15, .if_icmp .ge 63, 3), (18, .aload_n 0, 1), (19, .aload_n 0, 1), (20, .getfield 34, 3), (23, .invokevirtual 37, 3), (26, .invokestatic 60, 3), (29, .ifCond .eq 49, 3)] = true := by decide +kernel
theorem dX10_digits_0 : decode cX10_digits 0 = .ok (.lconst 0, 1) := zdec_at bX10_digits_0 0 rfl
theorem dX10_digits_1 : decode cX10_digits 1 = .ok (.lstore_n 1, 1) := zdec_at bX10_digits_0 1 rfl
theorem dX10_digits_2 : decode cX10_digits 2 = .ok (.iconst 0, 1) := zdec_at bX10_digits_0 2 rfl
theorem dX10_digits_3 : decode cX10_digits 3 = .ok (.istore_n 3, 1) := zdec_at bX10_digits_0 3 rfl
theorem dX10_digits_4 : decode cX10_digits 4 = .ok (.aload_n 0, 1) := zdec_at bX10_digits_0 4 rfl
theorem dX10_digits_5 : decode cX10_digits 5 = .ok (.getfield 34, 3) := zdec_at bX10_digits_0 5 rfl
theorem dX10_digits_8 : decode cX10_digits 8 = .ok (.aload_n 0, 1) := zdec_at bX10_digits_0 6 rfl
theorem dX10_digits_9 : decode cX10_digits 9 = .ok (.getfield 15, 3) := zdec_at bX10_digits_0 7 rfl
theorem dX10_digits_12 : decode cX10_digits 12 = .ok (.getfield 27, 3) := zdec_at bX10_digits_0 8 rfl
theorem dX10_digits_15 : decode cX10_digits 15 = .ok (.if_icmp .ge 63, 3) := zdec_at bX10_digits_0 9 rfl
theorem dX10_digits_18 : decode cX10_digits 18 = .ok (.aload_n 0, 1) := zdec_at bX10_digits_0 10 rfl
theorem dX10_digits_19 : decode cX10_digits 19 = .ok (.aload_n 0, 1) := zdec_at bX10_digits_0 11 rfl
theorem dX10_digits_20 : decode cX10_digits 20 = .ok (.getfield 34, 3) := zdec_at bX10_digits_0 12 rfl
theorem dX10_digits_23 : decode cX10_digits 23 = .ok (.invokevirtual 37, 3) := zdec_at bX10_digits_0 13 rfl
theorem dX10_digits_26 : decode cX10_digits 26 = .ok (.invokestatic 60, 3) := zdec_at bX10_digits_0 14 rfl
theorem dX10_digits_29 : decode cX10_digits 29 = .ok (.ifCond .eq 49, 3) := zdec_at bX10_digits_0 15 rfl
theorem bX10_digits_32 : zdec cX10_digits 32 [(32, .iload_n 3, 1), (33, .bipush 10, 2), (35, .if_icmp .ge 25, 3), (38, .ldc2_w 108, 3), (41, .lload_n 1, 1), (42, .lmul, 1), (43, .aload_n 0, 1), (44, .aload_n 0, 1), (45, .getfield 34, 3), (48, .invokevirtual 37, 3), (51, .i2l, 1), (52, .ladd, 1), (53, .ldc2_w 110, 3), (56, .lsub, 1), (57, .goto 4, 3), (60, .lload_n 1, 1)] = true := by decide +kernel
theorem dX10_digits_32 : decode cX10_digits 32 = .ok (.iload_n 3, 1) := zdec_at bX10_digits_32 0 rfl
theorem dX10_digits_33 : decode cX10_digits 33 = .ok (.bipush 10, 2) := zdec_at bX10_digits_32 1 rfl
theorem dX10_digits_35 : decode cX10_digits 35 = .ok (.if_icmp .ge 25, 3) := zdec_at bX10_digits_32 2 rfl
theorem dX10_digits_38 : decode cX10_digits 38 = .ok (.ldc2_w 108, 3) := zdec_at bX10_digits_32 3 rfl
theorem dX10_digits_41 : decode cX10_digits 41 = .ok (.lload_n 1, 1) := zdec_at bX10_digits_32 4 rfl
theorem dX10_digits_42 : decode cX10_digits 42 = .ok (.lmul, 1) := zdec_at bX10_digits_32 5 rfl
theorem dX10_digits_43 : decode cX10_digits 43 = .ok (.aload_n 0, 1) := zdec_at bX10_digits_32 6 rfl
theorem dX10_digits_44 : decode cX10_digits 44 = .ok (.aload_n 0, 1) := zdec_at bX10_digits_32 7 rfl
theorem dX10_digits_45 : decode cX10_digits 45 = .ok (.getfield 34, 3) := zdec_at bX10_digits_32 8 rfl
theorem dX10_digits_48 : decode cX10_digits 48 = .ok (.invokevirtual 37, 3) := zdec_at bX10_digits_32 9 rfl
theorem dX10_digits_51 : decode cX10_digits 51 = .ok (.i2l, 1) := zdec_at bX10_digits_32 10 rfl
theorem dX10_digits_52 : decode cX10_digits 52 = .ok (.ladd, 1) := zdec_at bX10_digits_32 11 rfl
theorem dX10_digits_53 : decode cX10_digits 53 = .ok (.ldc2_w 110, 3) := zdec_at bX10_digits_32 12 rfl
theorem dX10_digits_56 : decode cX10_digits 56 = .ok (.lsub, 1) := zdec_at bX10_digits_32 13 rfl
theorem dX10_digits_57 : decode cX10_digits 57 = .ok (.goto 4, 3) := zdec_at bX10_digits_32 14 rfl
theorem dX10_digits_60 : decode cX10_digits 60 = .ok (.lload_n 1, 1) := zdec_at bX10_digits_32 15 rfl
theorem bX10_digits_61 : zdec cX10_digits 61 [(61, .lstore_n 1, 1), (62, .iinc 3 1, 3), (65, .aload_n 0, 1), (66, .dup, 1), (67, .getfield 34, 3), (70, .iconst 1, 1), (71, .iadd, 1), (72, .putfield 34, 3), (75, .goto (-71), 3), (78, .aload_n 0, 1), (79, .lload_n 1, 1), (80, .l2i, 1), (81, .putfield 112, 3), (84, .aload_n 0, 1), (85, .iload_n 3, 1), (86, .bipush 10, 2)] = true := by decide +kernel
theorem dX10_digits_61 : decode cX10_digits 61 = .ok (.lstore_n 1, 1) := zdec_at bX10_digits_61 0 rfl
theorem dX10_digits_62 : decode cX10_digits 62 = .ok (.iinc 3 1, 3) := zdec_at bX10_digits_61 1 rfl
theorem dX10_digits_65 : decode cX10_digits 65 = .ok (.aload_n 0, 1) := zdec_at bX10_digits_61 2 rfl
theorem dX10_digits_66 : decode cX10_digits 66 = .ok (.dup, 1) := zdec_at bX10_digits_61 3 rfl
theorem dX10_digits_67 : decode cX10_digits 67 = .ok (.getfield 34, 3) := zdec_at bX10_digits_61 4 rfl
theorem dX10_digits_70 : decode cX10_digits 70 = .ok (.iconst 1, 1) := zdec_at bX10_digits_61 5 rfl
theorem dX10_digits_71 : decode cX10_digits 71 = .ok (.iadd, 1) := zdec_at bX10_digits_61 6 rfl
theorem dX10_digits_72 : decode cX10_digits 72 = .ok (.putfield 34, 3) := zdec_at bX10_digits_61 7 rfl
theorem dX10_digits_75 : decode cX10_digits 75 = .ok (.goto (-71), 3) := zdec_at bX10_digits_61 8 rfl
theorem dX10_digits_78 : decode cX10_digits 78 = .ok (.aload_n 0, 1) := zdec_at bX10_digits_61 9 rfl
theorem dX10_digits_79 : decode cX10_digits 79 = .ok (.lload_n 1, 1) := zdec_at bX10_digits_61 10 rfl
theorem dX10_digits_80 : decode cX10_digits 80 = .ok (.l2i, 1) := zdec_at bX10_digits_61 11 rfl
theorem dX10_digits_81 : decode cX10_digits 81 = .ok (.putfield 112, 3) := zdec_at bX10_digits_61 12 rfl
theorem dX10_digits_84 : decode cX10_digits 84 = .ok (.aload_n 0, 1) := zdec_at bX10_digits_61 13 rfl
theorem dX10_digits_85 : decode cX10_digits 85 = .ok (.iload_n 3, 1) := zdec_at bX10_digits_61 14 rfl
theorem dX10_digits_86 : decode cX10_digits 86 = .ok (.bipush 10, 2) := zdec_at bX10_digits_61 15 rfl
theorem bX10_digits_88 : zdec cX10_digits 88 [(88, .if_icmp .gt 39, 3), (91, .lload_n 1, 1), (92, .ldc2_w 117, 3), (95, .lcmp, 1), (96, .ifCond .gt 31, 3), (99, .aload_n 0, 1), (100, .getfield 34, 3), (103, .aload_n 0, 1), (104, .getfield 15, 3), (107, .getfield 27, 3), (110, .if_icmp .ge 22, 3), (113, .aload_n 0, 1), (114, .aload_n 0, 1), (115, .getfield 34, 3), (118, .invokevirtual 37, 3), (121, .invokestatic 79, 3)] = true := by decide +kernel
theorem dX10_digits_88 : decode cX10_digits 88 = .ok (.if_icmp .gt 39, 3) := zdec_at bX10_digits_88 0 rfl
theorem dX10_digits_91 : decode cX10_digits 91 = .ok (.lload_n 1, 1) := zdec_at bX10_digits_88 1 rfl
theorem dX10_digits_92 : decode cX10_digits 92 = .ok (.ldc2_w 117, 3) := zdec_at bX10_digits_88 2 rfl
theorem dX10_digits_95 : decode cX10_digits 95 = .ok (.lcmp, 1) := zdec_at bX10_digits_88 3 rfl
theorem dX10_digits_96 : decode cX10_digits 96 = .ok (.ifCond .gt 31, 3) := zdec_at bX10_digits_88 4 rfl
theorem dX10_digits_99 : decode cX10_digits 99 = .ok (.aload_n 0, 1) := zdec_at bX10_digits_88 5 rfl
theorem dX10_digits_100 : decode cX10_digits 100 = .ok (.getfield 34, 3) := zdec_at bX10_digits_88 6 rfl
theorem dX10_digits_103 : decode cX10_digits 103 = .ok (.aload_n 0, 1) := zdec_at bX10_digits_88 7 rfl
theorem dX10_digits_104 : decode cX10_digits 104 = .ok (.getfield 15, 3) := zdec_at bX10_digits_88 8 rfl
theorem dX10_digits_107 : decode cX10_digits 107 = .ok (.getfield 27, 3) := zdec_at bX10_digits_88 9 rfl
theorem dX10_digits_110 : decode cX10_digits 110 = .ok (.if_icmp .ge 22, 3) := zdec_at bX10_digits_88 10 rfl
theorem dX10_digits_113 : decode cX10_digits 113 = .ok (.aload_n 0, 1) := zdec_at bX10_digits_88 11 rfl
theorem dX10_digits_114 : decode cX10_digits 114 = .ok (.aload_n 0, 1) := zdec_at bX10_digits_88 12 rfl
theorem dX10_digits_115 : decode cX10_digits 115 = .ok (.getfield 34, 3) := zdec_at bX10_digits_88 13 rfl
theorem dX10_digits_118 : decode cX10_digits 118 = .ok (.invokevirtual 37, 3) := zdec_at bX10_digits_88 14 rfl
theorem dX10_digits_121 : decode cX10_digits 121 = .ok (.invokestatic 79, 3) := zdec_at bX10_digits_88 15 rfl
theorem bX10_digits_124 : zdec cX10_digits 124 [(124, .ifCond .eq 8, 3), (127, .bipush 6, 2), (129, .goto 4, 3), (132, .iconst 3, 1), (133, .putfield 50, 3), (136, .return_, 1)] = true := by decide +kernel
theorem dX10_digits_124 : decode cX10_digits 124 = .ok (.ifCond .eq 8, 3) := zdec_at bX10_digits_124 0 rfl
theorem dX10_digits_127 : decode cX10_digits 127 = .ok (.bipush 6, 2) := zdec_at bX10_digits_124 1 rfl
theorem dX10_digits_129 : decode cX10_digits 129 = .ok (.goto 4, 3) := zdec_at bX10_digits_124 2 rfl
theorem dX10_digits_132 : decode cX10_digits 132 = .ok (.iconst 3, 1) := zdec_at bX10_digits_124 3 rfl
theorem dX10_digits_133 : decode cX10_digits 133 = .ok (.putfield 50, 3) := zdec_at bX10_digits_124 4 rfl
theorem dX10_digits_136 : decode cX10_digits 136 = .ok (.return_, 1) := zdec_at bX10_digits_124 5 rfl
theorem sX10_digits_0 {E : zE} {d : Nat} {Q : zO → zM → Prop} (M : zM) (a0 : Nat) (k : Z E YX10_digits (d + 1) M [(0, vr (some (a0, 9, 0))), (1, vl (0 : Int64)), (3, vi (0 : Int32))] 4 [] Q) : Z E YX10_digits (d + 1) M [(0, vr (some (a0, 9, 0)))] 0 [] Q := by
  refine z_lconst (v := 0) dX10_digits_0 rfl ?_
  refine z_lst_n dX10_digits_1 rfl (by decide) (lv' := [(0, vr (some (a0, 9, 0))), (1, vl (0 : Int64))]) rfl ?_
  refine z_iconst (v := 0) dX10_digits_2 rfl ?_
  refine z_ist_n dX10_digits_3 rfl (by decide) (lv' := [(0, vr (some (a0, 9, 0))), (1, vl (0 : Int64)), (3, vi (0 : Int32))]) rfl ?_
  exact k
theorem sX10_digits_4 {E : zE} {d : Nat} {Q : zO → zM → Prop} (M : zM) (a0 : Nat) (l1 : Int64) (l3 : Int32) (k : ∃ b1 : Nat, (gr M a0 0) = some (b1, 0, 0) ∧ (if (gi M b1 5) ≤ (gi M a0 1) then (Z E YX10_digits (d + 1) M [(0, vr (some (a0, 9, 0))), (1, vl l1), (3, vi l3)] 78 [] Q) else (Z E YX10_sign d M (zargs 0 [vr (some (a0, 9, 0)), vi (gi M a0 1)]) 0 [] (zafter E YX10_digits (d + 1) [(0, vr (some (a0, 9, 0))), (1, vl l1), (3, vi l3)] 23 3 [] Q)))) : Z E YX10_digits (d + 1) M [(0, vr (some (a0, 9, 0))), (1, vl l1), (3, vi l3)] 4 [] Q := by
  refine z_aload_n dX10_digits_4 rfl rfl ?_
  refine z_geti dX10_digits_5 fsX10_34_9 ?_
  refine z_aload_n dX10_digits_8 rfl rfl ?_
  refine z_getr (r := (gr M a0 0)) dX10_digits_9 fsX10_15_9 rfl ?_
  obtain ⟨b1, e1_, k⟩ := k
  refine Z.eqs (lv' := [(0, vr (some (a0, 9, 0))), (1, vl l1), (3, vi l3)]) (st' := [vr (some (b1, 0, 0)), vi (gi M a0 1)]) rfl (by rw [e1_] <;> rfl) ?_
  refine z_geti dX10_digits_12 fsX10_27_0 ?_
  refine z_icmp_ge (tgt := 78) dX10_digits_15 rfl (fun h_ => ?_) (fun h_ => ?_)
  · have k := zit h_ k
    exact k
  · have k := zif h_ k
    refine z_aload_n dX10_digits_18 rfl rfl ?_
    refine z_aload_n dX10_digits_19 rfl rfl ?_
    refine z_geti dX10_digits_20 fsX10_34_9 ?_
    exact z_callV (as := [vi (gi M a0 1)]) (st := []) dX10_digits_23 vsX10_37_9 (Nat.le_refl _) (Nat.le_of_ble_eq_true rfl) (Nat.le_of_ble_eq_true rfl) rfl k
theorem sX10_digits_26 {E : zE} {d : Nat} {Q : zO → zM → Prop} (M : zM) (a0 : Nat) (l1 : Int64) (l3 : Int32) (s0 : Int32) (k : Z E YX1_digit d M (zargs 0 [vi s0]) 0 [] (zafter E YX10_digits (d + 1) [(0, vr (some (a0, 9, 0))), (1, vl l1), (3, vi l3)] 26 3 [] Q)) : Z E YX10_digits (d + 1) M [(0, vr (some (a0, 9, 0))), (1, vl l1), (3, vi l3)] 26 [vi s0] Q := by
  exact z_callS (as := [vi s0]) (st := []) dX10_digits_26 ssX10_60 (Nat.le_refl _) (Nat.le_of_ble_eq_true rfl) (Nat.le_of_ble_eq_true rfl) rfl k
theorem sX10_digits_29 {E : zE} {d : Nat} {Q : zO → zM → Prop} (M : zM) (a0 : Nat) (l1 : Int64) (l3 : Int32) (s0 : Int32) (k : if s0 = 0 then (Z E YX10_digits (d + 1) M [(0, vr (some (a0, 9, 0))), (1, vl l1), (3, vi l3)] 78 [] Q) else (if (10 : Int32) ≤ l3 then (Z E YX10_digits (d + 1) M [(0, vr (some (a0, 9, 0))), (3, vi l3)] 61 [vl l1] Q) else (Z E YX10_sign d M (zargs 0 [vr (some (a0, 9, 0)), vi (gi M a0 1)]) 0 [] (zafter E YX10_digits (d + 1) [(0, vr (some (a0, 9, 0))), (3, vi l3)] 48 3 [vl ((10 : Int64) * l1)] Q)))) : Z E YX10_digits (d + 1) M [(0, vr (some (a0, 9, 0))), (1, vl l1), (3, vi l3)] 29 [vi s0] Q := by
  refine z_if_eq (tgt := 78) dX10_digits_29 rfl (fun h_ => ?_) (fun h_ => ?_)
  · have k := zit h_ k
    exact k
  · have k := zif h_ k
    refine z_iload_n dX10_digits_32 rfl rfl ?_
    refine z_bipush (v := 10) dX10_digits_33 rfl ?_
    refine z_icmp_ge (tgt := 60) dX10_digits_35 rfl (fun h_ => ?_) (fun h_ => ?_)
    · have k := zit h_ k
      refine z_lload_n dX10_digits_60 rfl rfl ?_
      refine Z.pick [0, 2] rfl ?_
      exact k
    · have k := zif h_ k
      refine z_ldc2 (v := 10) dX10_digits_38 q1445 ?_
      refine z_lload_n dX10_digits_41 rfl rfl ?_
      refine z_lmul dX10_digits_42 ?_
      refine z_aload_n dX10_digits_43 rfl rfl ?_
      refine z_aload_n dX10_digits_44 rfl rfl ?_
      refine z_geti dX10_digits_45 fsX10_34_9 ?_
      refine Z.pick [0, 2] rfl ?_
      exact z_callV (as := [vi (gi M a0 1)]) (st := [vl ((10 : Int64) * l1)]) dX10_digits_48 vsX10_37_9 (Nat.le_refl _) (Nat.le_of_ble_eq_true rfl) (Nat.le_of_ble_eq_true rfl) rfl k
theorem sX10_digits_51 {E : zE} {d : Nat} {Q : zO → zM → Prop} (M : zM) (a0 : Nat) (l3 : Int32) (s0 : Int32) (s1 : Int64) (k : Z E YX10_digits (d + 1) M [(0, vr (some (a0, 9, 0))), (3, vi l3)] 61 [vl ((s1 + (s0).toInt64) - (48 : Int64))] Q) : Z E YX10_digits (d + 1) M [(0, vr (some (a0, 9, 0))), (3, vi l3)] 51 [vi s0, vl s1] Q := by
  refine z_i2l dX10_digits_51 ?_
  refine z_ladd dX10_digits_52 ?_
  refine z_ldc2 (v := 48) dX10_digits_53 q1446 ?_
  refine z_lsub dX10_digits_56 ?_
  refine z_goto (tgt := 61) dX10_digits_57 rfl ?_
  exact k
theorem sX10_digits_61 {E : zE} {d : Nat} {Q : zO → zM → Prop} (M : zM) (a0 : Nat) (l3 : Int32) (s0 : Int64) (k : 16 ≤ a0 ∧ (Z E YX10_digits (d + 1) (si M a0 1 ((gi M a0 1) + (1 : Int32))) [(0, vr (some (a0, 9, 0))), (1, vl s0), (3, vi (l3 + (1 : Int32)))] 4 [] Q)) : Z E YX10_digits (d + 1) M [(0, vr (some (a0, 9, 0))), (3, vi l3)] 61 [vl s0] Q := by
  refine z_lst_n dX10_digits_61 rfl (by decide) (lv' := [(0, vr (some (a0, 9, 0))), (1, vl s0), (3, vi l3)]) rfl ?_
  refine z_inc (v := (l3 + (1 : Int32))) dX10_digits_62 rfl rfl (by decide) (lv' := [(0, vr (some (a0, 9, 0))), (1, vl s0), (3, vi (l3 + (1 : Int32)))]) rfl ?_
  refine z_aload_n dX10_digits_65 rfl rfl ?_
  refine z_dup dX10_digits_66 rfl ?_
  refine z_geti dX10_digits_67 fsX10_34_9 ?_
  refine z_iconst (v := 1) dX10_digits_70 rfl ?_
  refine z_iadd dX10_digits_71 ?_
  obtain ⟨g_, k⟩ := k
  refine z_puti g_ dX10_digits_72 (zfwN.w fwX10_34_9) rfl ⟨rfl, rfl⟩ ?_
  refine z_goto (tgt := 4) dX10_digits_75 rfl ?_
  exact k
theorem sX10_digits_78 {E : zE} {d : Nat} {Q : zO → zM → Prop} (M : zM) (a0 : Nat) (l1 : Int64) (l3 : Int32) (k : 16 ≤ a0 ∧ (if (10 : Int32) < l3 then (16 ≤ a0 ∧ (Q (.inl none) (si (si M a0 7 (l1).toInt32) a0 3 (6 : Int32)))) else (if 0 < (lg_cmp l1 (2147483647 : Int64)) then (16 ≤ a0 ∧ (Q (.inl none) (si (si M a0 7 (l1).toInt32) a0 3 (6 : Int32)))) else (∃ b1 : Nat, (gr M a0 0) = some (b1, 0, 0) ∧ (if (gi (si M a0 7 (l1).toInt32) b1 5) ≤ (gi (si M a0 7 (l1).toInt32) a0 1) then (16 ≤ a0 ∧ (Q (.inl none) (si (si M a0 7 (l1).toInt32) a0 3 (3 : Int32)))) else (Z E YX10_sign d (si M a0 7 (l1).toInt32) (zargs 0 [vr (some (a0, 9, 0)), vi (gi (si M a0 7 (l1).toInt32) a0 1)]) 0 [] (zafter E YX10_digits (d + 1) [] 118 3 [vr (some (a0, 9, 0))] Q))))))) : Z E YX10_digits (d + 1) M [(0, vr (some (a0, 9, 0))), (1, vl l1), (3, vi l3)] 78 [] Q := by
  refine z_aload_n dX10_digits_78 rfl rfl ?_
  refine z_lload_n dX10_digits_79 rfl rfl ?_
  refine z_l2i dX10_digits_80 ?_
  obtain ⟨g_, k⟩ := k
  refine z_puti g_ dX10_digits_81 (zfwN.w fwX10_112_9) rfl ⟨rfl, rfl⟩ ?_
  refine z_aload_n dX10_digits_84 rfl rfl ?_
  refine z_iload_n dX10_digits_85 rfl rfl ?_
  refine z_bipush (v := 10) dX10_digits_86 rfl ?_
  refine z_icmp_gt (tgt := 127) dX10_digits_88 rfl (fun h_ => ?_) (fun h_ => ?_)
  · have k := zit h_ k
    refine z_bipush (v := 6) dX10_digits_127 rfl ?_
    refine z_goto (tgt := 133) dX10_digits_129 rfl ?_
    obtain ⟨g_, k⟩ := k
    refine z_puti g_ dX10_digits_133 (zfwN.w fwX10_50_9) rfl ⟨rfl, rfl⟩ ?_
    exact z_vret dX10_digits_136 rfl k
  · have k := zif h_ k
    refine z_lload_n dX10_digits_91 rfl rfl ?_
    refine z_ldc2 (v := 2147483647) dX10_digits_92 q1447 ?_
    refine z_lcmp dX10_digits_95 ?_
    refine z_if_gt (tgt := 127) dX10_digits_96 rfl (fun h_ => ?_) (fun h_ => ?_)
    · have k := zit h_ k
      refine z_bipush (v := 6) dX10_digits_127 rfl ?_
      refine z_goto (tgt := 133) dX10_digits_129 rfl ?_
      obtain ⟨g_, k⟩ := k
      refine z_puti g_ dX10_digits_133 (zfwN.w fwX10_50_9) rfl ⟨rfl, rfl⟩ ?_
      exact z_vret dX10_digits_136 rfl k
    · have k := zif h_ k
      refine z_aload_n dX10_digits_99 rfl rfl ?_
      refine z_geti dX10_digits_100 fsX10_34_9 ?_
      refine z_aload_n dX10_digits_103 rfl rfl ?_
      refine z_getr (r := (gr M a0 0)) dX10_digits_104 fsX10_15_9 rfl ?_
      obtain ⟨b1, e1_, k⟩ := k
      refine Z.eqs (lv' := [(0, vr (some (a0, 9, 0))), (1, vl l1), (3, vi l3)]) (st' := [vr (some (b1, 0, 0)), vi (gi (si M a0 7 (l1).toInt32) a0 1), vr (some (a0, 9, 0))]) rfl (by rw [e1_] <;> rfl) ?_
      refine z_geti dX10_digits_107 fsX10_27_0 ?_
      refine z_icmp_ge (tgt := 132) dX10_digits_110 rfl (fun h_ => ?_) (fun h_ => ?_)
      · have k := zit h_ k
        refine z_iconst (v := 3) dX10_digits_132 rfl ?_
        obtain ⟨g_, k⟩ := k
        refine z_puti g_ dX10_digits_133 (zfwN.w fwX10_50_9) rfl ⟨rfl, rfl⟩ ?_
        exact z_vret dX10_digits_136 rfl k
      · have k := zif h_ k
        refine z_aload_n dX10_digits_113 rfl rfl ?_
        refine z_aload_n dX10_digits_114 rfl rfl ?_
        refine z_geti dX10_digits_115 fsX10_34_9 ?_
        refine Z.pick [] rfl ?_
        exact z_callV (as := [vi (gi (si M a0 7 (l1).toInt32) a0 1)]) (st := [vr (some (a0, 9, 0))]) dX10_digits_118 vsX10_37_9 (Nat.le_refl _) (Nat.le_of_ble_eq_true rfl) (Nat.le_of_ble_eq_true rfl) rfl k
theorem sX10_digits_121 {E : zE} {d : Nat} {Q : zO → zM → Prop} (M : zM) (s0 : Int32) (a0 : Nat) (k : Z E YX1_inner d M (zargs 0 [vi s0]) 0 [] (zafter E YX10_digits (d + 1) [] 121 3 [vr (some (a0, 9, 0))] Q)) : Z E YX10_digits (d + 1) M [] 121 [vi s0, vr (some (a0, 9, 0))] Q := by
  exact z_callS (as := [vi s0]) (st := [vr (some (a0, 9, 0))]) dX10_digits_121 ssX10_79 (Nat.le_refl _) (Nat.le_of_ble_eq_true rfl) (Nat.le_of_ble_eq_true rfl) rfl k
theorem sX10_digits_124 {E : zE} {d : Nat} {Q : zO → zM → Prop} (M : zM) (s0 : Int32) (a0 : Nat) (k : if s0 = 0 then (16 ≤ a0 ∧ (Q (.inl none) (si M a0 3 (3 : Int32)))) else (16 ≤ a0 ∧ (Q (.inl none) (si M a0 3 (6 : Int32))))) : Z E YX10_digits (d + 1) M [] 124 [vi s0, vr (some (a0, 9, 0))] Q := by
  refine z_if_eq (tgt := 132) dX10_digits_124 rfl (fun h_ => ?_) (fun h_ => ?_)
  · have k := zit h_ k
    refine z_iconst (v := 3) dX10_digits_132 rfl ?_
    obtain ⟨g_, k⟩ := k
    refine z_puti g_ dX10_digits_133 (zfwN.w fwX10_50_9) rfl ⟨rfl, rfl⟩ ?_
    exact z_vret dX10_digits_136 rfl k
  · have k := zif h_ k
    refine z_bipush (v := 6) dX10_digits_127 rfl ?_
    refine z_goto (tgt := 133) dX10_digits_129 rfl ?_
    obtain ⟨g_, k⟩ := k
    refine z_puti g_ dX10_digits_133 (zfwN.w fwX10_50_9) rfl ⟨rfl, rfl⟩ ?_
    exact z_vret dX10_digits_136 rfl k
/-! ScriptTypes$Tokens.string(I)V -/
theorem bX10_string_0 : zdec cX10_string 0 [(0, .aload_n 0, 1), (1, .getfield 15, 3), (4, .invokevirtual 76, 3), (7, .aload_n 0, 1), (8, .dup, 1), (9, .getfield 34, 3), (12, .iconst 1, 1), (13, .iadd, 1), (14, .putfield 34, 3), (17, .aload_n 0, 1), (18, .iconst 4, 1), (19, .putfield 50, 3), (22, .iconst 0, 1), (23, .istore_n 2, 1), (24, .aload_n 0, 1), (25, .getfield 34, 3)] = true := by decide +kernel
theorem dX10_string_0 : decode cX10_string 0 = .ok (.aload_n 0, 1) := zdec_at bX10_string_0 0 rfl
theorem dX10_string_1 : decode cX10_string 1 = .ok (.getfield 15, 3) := zdec_at bX10_string_0 1 rfl
theorem dX10_string_4 : decode cX10_string 4 = .ok (.invokevirtual 76, 3) := zdec_at bX10_string_0 2 rfl
theorem dX10_string_7 : decode cX10_string 7 = .ok (.aload_n 0, 1) := zdec_at bX10_string_0 3 rfl
theorem dX10_string_8 : decode cX10_string 8 = .ok (.dup, 1) := zdec_at bX10_string_0 4 rfl
theorem dX10_string_9 : decode cX10_string 9 = .ok (.getfield 34, 3) := zdec_at bX10_string_0 5 rfl
theorem dX10_string_12 : decode cX10_string 12 = .ok (.iconst 1, 1) := zdec_at bX10_string_0 6 rfl
theorem dX10_string_13 : decode cX10_string 13 = .ok (.iadd, 1) := zdec_at bX10_string_0 7 rfl
theorem dX10_string_14 : decode cX10_string 14 = .ok (.putfield 34, 3) := zdec_at bX10_string_0 8 rfl
theorem dX10_string_17 : decode cX10_string 17 = .ok (.aload_n 0, 1) := zdec_at bX10_string_0 9 rfl
theorem dX10_string_18 : decode cX10_string 18 = .ok (.iconst 4, 1) := zdec_at bX10_string_0 10 rfl
theorem dX10_string_19 : decode cX10_string 19 = .ok (.putfield 50, 3) := zdec_at bX10_string_0 11 rfl
theorem dX10_string_22 : decode cX10_string 22 = .ok (.iconst 0, 1) := zdec_at bX10_string_0 12 rfl
theorem dX10_string_23 : decode cX10_string 23 = .ok (.istore_n 2, 1) := zdec_at bX10_string_0 13 rfl
theorem dX10_string_24 : decode cX10_string 24 = .ok (.aload_n 0, 1) := zdec_at bX10_string_0 14 rfl
theorem dX10_string_25 : decode cX10_string 25 = .ok (.getfield 34, 3) := zdec_at bX10_string_0 15 rfl
theorem bX10_string_28 : zdec cX10_string 28 [(28, .aload_n 0, 1), (29, .getfield 15, 3), (32, .getfield 27, 3), (35, .if_icmp .ge 181, 3), (38, .aload_n 0, 1), (39, .aload_n 0, 1), (40, .getfield 34, 3), (43, .invokevirtual 37, 3), (46, .iload_n 1, 1), (47, .if_icmp .eq 169, 3), (50, .aload_n 0, 1), (51, .aload_n 0, 1), (52, .dup, 1), (53, .getfield 34, 3), (56, .dup_x1, 1), (57, .iconst 1, 1)] = true := by decide +kernel
theorem dX10_string_28 : decode cX10_string 28 = .ok (.aload_n 0, 1) := zdec_at bX10_string_28 0 rfl
theorem dX10_string_29 : decode cX10_string 29 = .ok (.getfield 15, 3) := zdec_at bX10_string_28 1 rfl
theorem dX10_string_32 : decode cX10_string 32 = .ok (.getfield 27, 3) := zdec_at bX10_string_28 2 rfl
theorem dX10_string_35 : decode cX10_string 35 = .ok (.if_icmp .ge 181, 3) := zdec_at bX10_string_28 3 rfl
theorem dX10_string_38 : decode cX10_string 38 = .ok (.aload_n 0, 1) := zdec_at bX10_string_28 4 rfl
theorem dX10_string_39 : decode cX10_string 39 = .ok (.aload_n 0, 1) := zdec_at bX10_string_28 5 rfl
theorem dX10_string_40 : decode cX10_string 40 = .ok (.getfield 34, 3) := zdec_at bX10_string_28 6 rfl
theorem dX10_string_43 : decode cX10_string 43 = .ok (.invokevirtual 37, 3) := zdec_at bX10_string_28 7 rfl
theorem dX10_string_46 : decode cX10_string 46 = .ok (.iload_n 1, 1) := zdec_at bX10_string_28 8 rfl
theorem dX10_string_47 : decode cX10_string 47 = .ok (.if_icmp .eq 169, 3) := zdec_at bX10_string_28 9 rfl
theorem dX10_string_50 : decode cX10_string 50 = .ok (.aload_n 0, 1) := zdec_at bX10_string_28 10 rfl
theorem dX10_string_51 : decode cX10_string 51 = .ok (.aload_n 0, 1) := zdec_at bX10_string_28 11 rfl
theorem dX10_string_52 : decode cX10_string 52 = .ok (.dup, 1) := zdec_at bX10_string_28 12 rfl
theorem dX10_string_53 : decode cX10_string 53 = .ok (.getfield 34, 3) := zdec_at bX10_string_28 13 rfl
theorem dX10_string_56 : decode cX10_string 56 = .ok (.dup_x1, 1) := zdec_at bX10_string_28 14 rfl
theorem dX10_string_57 : decode cX10_string 57 = .ok (.iconst 1, 1) := zdec_at bX10_string_28 15 rfl
theorem bX10_string_58 : zdec cX10_string 58 [(58, .iadd, 1), (59, .putfield 34, 3), (62, .invokevirtual 37, 3), (65, .istore_n 3, 1), (66, .iload_n 3, 1), (67, .bipush 92, 2), (69, .if_icmp .ne 105, 3), (72, .aload_n 0, 1), (73, .aload_n 0, 1), (74, .dup, 1), (75, .getfield 34, 3), (78, .dup_x1, 1), (79, .iconst 1, 1), (80, .iadd, 1), (81, .putfield 34, 3), (84, .invokevirtual 37, 3)] = true := by decide +kernel
theorem dX10_string_58 : decode cX10_string 58 = .ok (.iadd, 1) := zdec_at bX10_string_58 0 rfl
theorem dX10_string_59 : decode cX10_string 59 = .ok (.putfield 34, 3) := zdec_at bX10_string_58 1 rfl
theorem dX10_string_62 : decode cX10_string 62 = .ok (.invokevirtual 37, 3) := zdec_at bX10_string_58 2 rfl
theorem dX10_string_65 : decode cX10_string 65 = .ok (.istore_n 3, 1) := zdec_at bX10_string_58 3 rfl
theorem dX10_string_66 : decode cX10_string 66 = .ok (.iload_n 3, 1) := zdec_at bX10_string_58 4 rfl
theorem dX10_string_67 : decode cX10_string 67 = .ok (.bipush 92, 2) := zdec_at bX10_string_58 5 rfl
theorem dX10_string_69 : decode cX10_string 69 = .ok (.if_icmp .ne 105, 3) := zdec_at bX10_string_58 6 rfl
theorem dX10_string_72 : decode cX10_string 72 = .ok (.aload_n 0, 1) := zdec_at bX10_string_58 7 rfl
theorem dX10_string_73 : decode cX10_string 73 = .ok (.aload_n 0, 1) := zdec_at bX10_string_58 8 rfl
theorem dX10_string_74 : decode cX10_string 74 = .ok (.dup, 1) := zdec_at bX10_string_58 9 rfl
theorem dX10_string_75 : decode cX10_string 75 = .ok (.getfield 34, 3) := zdec_at bX10_string_58 10 rfl
theorem dX10_string_78 : decode cX10_string 78 = .ok (.dup_x1, 1) := zdec_at bX10_string_58 11 rfl
theorem dX10_string_79 : decode cX10_string 79 = .ok (.iconst 1, 1) := zdec_at bX10_string_58 12 rfl
theorem dX10_string_80 : decode cX10_string 80 = .ok (.iadd, 1) := zdec_at bX10_string_58 13 rfl
theorem dX10_string_81 : decode cX10_string 81 = .ok (.putfield 34, 3) := zdec_at bX10_string_58 14 rfl
theorem dX10_string_84 : decode cX10_string 84 = .ok (.invokevirtual 37, 3) := zdec_at bX10_string_58 15 rfl
theorem bX10_string_87 : zdec cX10_string 87 [(87, .istore 4, 2), (89, .iload 4, 2), (91, .bipush 110, 2), (93, .if_icmp .ne 8, 3), (96, .bipush 10, 2), (98, .goto 17, 3), (101, .iload 4, 2), (103, .bipush 116, 2), (105, .if_icmp .ne 8, 3), (108, .bipush 9, 2), (110, .goto 5, 3), (113, .iload 4, 2), (115, .istore_n 3, 1), (116, .aload_n 0, 1), (117, .getfield 34, 3), (120, .aload_n 0, 1)] = true := by decide +kernel
theorem dX10_string_87 : decode cX10_string 87 = .ok (.istore 4, 2) := zdec_at bX10_string_87 0 rfl
theorem dX10_string_89 : decode cX10_string 89 = .ok (.iload 4, 2) := zdec_at bX10_string_87 1 rfl
theorem dX10_string_91 : decode cX10_string 91 = .ok (.bipush 110, 2) := zdec_at bX10_string_87 2 rfl
theorem dX10_string_93 : decode cX10_string 93 = .ok (.if_icmp .ne 8, 3) := zdec_at bX10_string_87 3 rfl
theorem dX10_string_96 : decode cX10_string 96 = .ok (.bipush 10, 2) := zdec_at bX10_string_87 4 rfl
theorem dX10_string_98 : decode cX10_string 98 = .ok (.goto 17, 3) := zdec_at bX10_string_87 5 rfl
theorem dX10_string_101 : decode cX10_string 101 = .ok (.iload 4, 2) := zdec_at bX10_string_87 6 rfl
theorem dX10_string_103 : decode cX10_string 103 = .ok (.bipush 116, 2) := zdec_at bX10_string_87 7 rfl
theorem dX10_string_105 : decode cX10_string 105 = .ok (.if_icmp .ne 8, 3) := zdec_at bX10_string_87 8 rfl
theorem dX10_string_108 : decode cX10_string 108 = .ok (.bipush 9, 2) := zdec_at bX10_string_87 9 rfl
theorem dX10_string_110 : decode cX10_string 110 = .ok (.goto 5, 3) := zdec_at bX10_string_87 10 rfl
theorem dX10_string_113 : decode cX10_string 113 = .ok (.iload 4, 2) := zdec_at bX10_string_87 11 rfl
theorem dX10_string_115 : decode cX10_string 115 = .ok (.istore_n 3, 1) := zdec_at bX10_string_87 12 rfl
theorem dX10_string_116 : decode cX10_string 116 = .ok (.aload_n 0, 1) := zdec_at bX10_string_87 13 rfl
theorem dX10_string_117 : decode cX10_string 117 = .ok (.getfield 34, 3) := zdec_at bX10_string_87 14 rfl
theorem dX10_string_120 : decode cX10_string 120 = .ok (.aload_n 0, 1) := zdec_at bX10_string_87 15 rfl
theorem bX10_string_121 : zdec cX10_string 121 [(121, .getfield 15, 3), (124, .getfield 27, 3), (127, .if_icmp .gt 38, 3), (130, .iload 4, 2), (132, .bipush 110, 2), (134, .if_icmp .eq 37, 3), (137, .iload 4, 2), (139, .bipush 116, 2), (141, .if_icmp .eq 30, 3), (144, .iload 4, 2), (146, .bipush 92, 2), (148, .if_icmp .eq 23, 3), (151, .iload 4, 2), (153, .bipush 39, 2), (155, .if_icmp .eq 16, 3), (158, .iload 4, 2)] = true := by decide +kernel
theorem dX10_string_121 : decode cX10_string 121 = .ok (.getfield 15, 3) := zdec_at bX10_string_121 0 rfl
theorem dX10_string_124 : decode cX10_string 124 = .ok (.getfield 27, 3) := zdec_at bX10_string_121 1 rfl
theorem dX10_string_127 : decode cX10_string 127 = .ok (.if_icmp .gt 38, 3) := zdec_at bX10_string_121 2 rfl
theorem dX10_string_130 : decode cX10_string 130 = .ok (.iload 4, 2) := zdec_at bX10_string_121 3 rfl
theorem dX10_string_132 : decode cX10_string 132 = .ok (.bipush 110, 2) := zdec_at bX10_string_121 4 rfl
theorem dX10_string_134 : decode cX10_string 134 = .ok (.if_icmp .eq 37, 3) := zdec_at bX10_string_121 5 rfl
theorem dX10_string_137 : decode cX10_string 137 = .ok (.iload 4, 2) := zdec_at bX10_string_121 6 rfl
theorem dX10_string_139 : decode cX10_string 139 = .ok (.bipush 116, 2) := zdec_at bX10_string_121 7 rfl
theorem dX10_string_141 : decode cX10_string 141 = .ok (.if_icmp .eq 30, 3) := zdec_at bX10_string_121 8 rfl
theorem dX10_string_144 : decode cX10_string 144 = .ok (.iload 4, 2) := zdec_at bX10_string_121 9 rfl
theorem dX10_string_146 : decode cX10_string 146 = .ok (.bipush 92, 2) := zdec_at bX10_string_121 10 rfl
theorem dX10_string_148 : decode cX10_string 148 = .ok (.if_icmp .eq 23, 3) := zdec_at bX10_string_121 11 rfl
theorem dX10_string_151 : decode cX10_string 151 = .ok (.iload 4, 2) := zdec_at bX10_string_121 12 rfl
theorem dX10_string_153 : decode cX10_string 153 = .ok (.bipush 39, 2) := zdec_at bX10_string_121 13 rfl
theorem dX10_string_155 : decode cX10_string 155 = .ok (.if_icmp .eq 16, 3) := zdec_at bX10_string_121 14 rfl
theorem dX10_string_158 : decode cX10_string 158 = .ok (.iload 4, 2) := zdec_at bX10_string_121 15 rfl
theorem bX10_string_160 : zdec cX10_string 160 [(160, .bipush 34, 2), (162, .if_icmp .eq 9, 3), (165, .aload_n 0, 1), (166, .bipush 6, 2), (168, .putfield 50, 3), (171, .goto 21, 3), (174, .iload_n 3, 1), (175, .bipush 32, 2), (177, .if_icmp .lt 9, 3), (180, .iload_n 3, 1), (181, .bipush 126, 2), (183, .if_icmp .le 9, 3), (186, .aload_n 0, 1), (187, .bipush 6, 2), (189, .putfield 50, 3), (192, .iinc 2 1, 3)] = true := by decide +kernel
theorem dX10_string_160 : decode cX10_string 160 = .ok (.bipush 34, 2) := zdec_at bX10_string_160 0 rfl
theorem dX10_string_162 : decode cX10_string 162 = .ok (.if_icmp .eq 9, 3) := zdec_at bX10_string_160 1 rfl
theorem dX10_string_165 : decode cX10_string 165 = .ok (.aload_n 0, 1) := zdec_at bX10_string_160 2 rfl
theorem dX10_string_166 : decode cX10_string 166 = .ok (.bipush 6, 2) := zdec_at bX10_string_160 3 rfl
theorem dX10_string_168 : decode cX10_string 168 = .ok (.putfield 50, 3) := zdec_at bX10_string_160 4 rfl
theorem dX10_string_171 : decode cX10_string 171 = .ok (.goto 21, 3) := zdec_at bX10_string_160 5 rfl
theorem dX10_string_174 : decode cX10_string 174 = .ok (.iload_n 3, 1) := zdec_at bX10_string_160 6 rfl
theorem dX10_string_175 : decode cX10_string 175 = .ok (.bipush 32, 2) := zdec_at bX10_string_160 7 rfl
theorem dX10_string_177 : decode cX10_string 177 = .ok (.if_icmp .lt 9, 3) := zdec_at bX10_string_160 8 rfl
theorem dX10_string_180 : decode cX10_string 180 = .ok (.iload_n 3, 1) := zdec_at bX10_string_160 9 rfl
theorem dX10_string_181 : decode cX10_string 181 = .ok (.bipush 126, 2) := zdec_at bX10_string_160 10 rfl
theorem dX10_string_183 : decode cX10_string 183 = .ok (.if_icmp .le 9, 3) := zdec_at bX10_string_160 11 rfl
theorem dX10_string_186 : decode cX10_string 186 = .ok (.aload_n 0, 1) := zdec_at bX10_string_160 12 rfl
theorem dX10_string_187 : decode cX10_string 187 = .ok (.bipush 6, 2) := zdec_at bX10_string_160 13 rfl
theorem dX10_string_189 : decode cX10_string 189 = .ok (.putfield 50, 3) := zdec_at bX10_string_160 14 rfl
theorem dX10_string_192 : decode cX10_string 192 = .ok (.iinc 2 1, 3) := zdec_at bX10_string_160 15 rfl
theorem bX10_string_195 : zdec cX10_string 195 [(195, .aload_n 0, 1), (196, .getfield 15, 3), (199, .iload_n 3, 1), (200, .invokevirtual 82, 3), (203, .aload_n 0, 1), (204, .getfield 50, 3), (207, .bipush 6, 2), (209, .if_icmp .ne 4, 3), (212, .return_, 1), (213, .goto (-189), 3), (216, .aload_n 0, 1), (217, .getfield 34, 3), (220, .aload_n 0, 1), (221, .getfield 15, 3), (224, .getfield 27, 3), (227, .if_icmp .ge 9, 3)] = true := by decide +kernel
theorem dX10_string_195 : decode cX10_string 195 = .ok (.aload_n 0, 1) := zdec_at bX10_string_195 0 rfl
theorem dX10_string_196 : decode cX10_string 196 = .ok (.getfield 15, 3) := zdec_at bX10_string_195 1 rfl
theorem dX10_string_199 : decode cX10_string 199 = .ok (.iload_n 3, 1) := zdec_at bX10_string_195 2 rfl
theorem dX10_string_200 : decode cX10_string 200 = .ok (.invokevirtual 82, 3) := zdec_at bX10_string_195 3 rfl
theorem dX10_string_203 : decode cX10_string 203 = .ok (.aload_n 0, 1) := zdec_at bX10_string_195 4 rfl
theorem dX10_string_204 : decode cX10_string 204 = .ok (.getfield 50, 3) := zdec_at bX10_string_195 5 rfl
theorem dX10_string_207 : decode cX10_string 207 = .ok (.bipush 6, 2) := zdec_at bX10_string_195 6 rfl
theorem dX10_string_209 : decode cX10_string 209 = .ok (.if_icmp .ne 4, 3) := zdec_at bX10_string_195 7 rfl
theorem dX10_string_212 : decode cX10_string 212 = .ok (.return_, 1) := zdec_at bX10_string_195 8 rfl
theorem dX10_string_213 : decode cX10_string 213 = .ok (.goto (-189), 3) := zdec_at bX10_string_195 9 rfl
theorem dX10_string_216 : decode cX10_string 216 = .ok (.aload_n 0, 1) := zdec_at bX10_string_195 10 rfl
theorem dX10_string_217 : decode cX10_string 217 = .ok (.getfield 34, 3) := zdec_at bX10_string_195 11 rfl
theorem dX10_string_220 : decode cX10_string 220 = .ok (.aload_n 0, 1) := zdec_at bX10_string_195 12 rfl
theorem dX10_string_221 : decode cX10_string 221 = .ok (.getfield 15, 3) := zdec_at bX10_string_195 13 rfl
theorem dX10_string_224 : decode cX10_string 224 = .ok (.getfield 27, 3) := zdec_at bX10_string_195 14 rfl
theorem dX10_string_227 : decode cX10_string 227 = .ok (.if_icmp .ge 9, 3) := zdec_at bX10_string_195 15 rfl
theorem bX10_string_230 : zdec cX10_string 230 [(230, .iload_n 2, 1), (231, .bipush 40, 2), (233, .if_icmp .le 9, 3), (236, .aload_n 0, 1), (237, .bipush 6, 2), (239, .putfield 50, 3), (242, .aload_n 0, 1), (243, .dup, 1), (244, .getfield 34, 3), (247, .iconst 1, 1), (248, .iadd, 1), (249, .putfield 34, 3), (252, .aload_n 0, 1), (253, .getfield 50, 3), (256, .iconst 4, 1), (257, .if_icmp .ne 11, 3)] = true := by decide +kernel
theorem dX10_string_230 : decode cX10_string 230 = .ok (.iload_n 2, 1) := zdec_at bX10_string_230 0 rfl
theorem dX10_string_231 : decode cX10_string 231 = .ok (.bipush 40, 2) := zdec_at bX10_string_230 1 rfl
theorem dX10_string_233 : decode cX10_string 233 = .ok (.if_icmp .le 9, 3) := zdec_at bX10_string_230 2 rfl
theorem dX10_string_236 : decode cX10_string 236 = .ok (.aload_n 0, 1) := zdec_at bX10_string_230 3 rfl
theorem dX10_string_237 : decode cX10_string 237 = .ok (.bipush 6, 2) := zdec_at bX10_string_230 4 rfl
theorem dX10_string_239 : decode cX10_string 239 = .ok (.putfield 50, 3) := zdec_at bX10_string_230 5 rfl
theorem dX10_string_242 : decode cX10_string 242 = .ok (.aload_n 0, 1) := zdec_at bX10_string_230 6 rfl
theorem dX10_string_243 : decode cX10_string 243 = .ok (.dup, 1) := zdec_at bX10_string_230 7 rfl
theorem dX10_string_244 : decode cX10_string 244 = .ok (.getfield 34, 3) := zdec_at bX10_string_230 8 rfl
theorem dX10_string_247 : decode cX10_string 247 = .ok (.iconst 1, 1) := zdec_at bX10_string_230 9 rfl
theorem dX10_string_248 : decode cX10_string 248 = .ok (.iadd, 1) := zdec_at bX10_string_230 10 rfl
theorem dX10_string_249 : decode cX10_string 249 = .ok (.putfield 34, 3) := zdec_at bX10_string_230 11 rfl
theorem dX10_string_252 : decode cX10_string 252 = .ok (.aload_n 0, 1) := zdec_at bX10_string_230 12 rfl
theorem dX10_string_253 : decode cX10_string 253 = .ok (.getfield 50, 3) := zdec_at bX10_string_230 13 rfl
theorem dX10_string_256 : decode cX10_string 256 = .ok (.iconst 4, 1) := zdec_at bX10_string_230 14 rfl
theorem dX10_string_257 : decode cX10_string 257 = .ok (.if_icmp .ne 11, 3) := zdec_at bX10_string_230 15 rfl
theorem bX10_string_260 : zdec cX10_string 260 [(260, .aload_n 0, 1), (261, .aload_n 0, 1), (262, .invokevirtual 104, 3), (265, .putfield 101, 3), (268, .return_, 1)] = true := by decide +kernel
theorem dX10_string_260 : decode cX10_string 260 = .ok (.aload_n 0, 1) := zdec_at bX10_string_260 0 rfl
theorem dX10_string_261 : decode cX10_string 261 = .ok (.aload_n 0, 1) := zdec_at bX10_string_260 1 rfl
theorem dX10_string_262 : decode cX10_string 262 = .ok (.invokevirtual 104, 3) := zdec_at bX10_string_260 2 rfl
theorem dX10_string_265 : decode cX10_string 265 = .ok (.putfield 101, 3) := zdec_at bX10_string_260 3 rfl
theorem dX10_string_268 : decode cX10_string 268 = .ok (.return_, 1) := zdec_at bX10_string_260 4 rfl
theorem sX10_string_0 {E : zE} {d : Nat} {Q : zO → zM → Prop} (M : zM) (a0 : Nat) (l1 : Int32) (k : ∃ b1 : Nat, (gr M a0 0) = some (b1, 0, 0) ∧ (Z E YX1_clearRow d M (zargs 0 [vr (some (b1, 0, 0))]) 0 [] (zafter E YX10_string (d + 1) [(0, vr (some (a0, 9, 0))), (1, vi l1)] 4 3 [] Q))) : Z E YX10_string (d + 1) M [(0, vr (some (a0, 9, 0))), (1, vi l1)] 0 [] Q := by
  refine z_aload_n dX10_string_0 rfl rfl ?_
  refine z_getr (r := (gr M a0 0)) dX10_string_1 fsX10_15_9 rfl ?_
  obtain ⟨b1, e1_, k⟩ := k
  refine Z.eqs (lv' := [(0, vr (some (a0, 9, 0))), (1, vi l1)]) (st' := [vr (some (b1, 0, 0))]) rfl (by rw [e1_] <;> rfl) ?_
  exact z_callV (as := []) (st := []) dX10_string_4 vsX10_76_0 (Nat.le_refl _) (Nat.le_of_ble_eq_true rfl) (Nat.le_of_ble_eq_true rfl) rfl k
theorem sX10_string_7 {E : zE} {d : Nat} {Q : zO → zM → Prop} (M : zM) (a0 : Nat) (l1 : Int32) (k : 16 ≤ a0 ∧ (16 ≤ a0 ∧ (Z E YX10_string (d + 1) (si (si M a0 1 ((gi M a0 1) + (1 : Int32))) a0 3 (4 : Int32)) [(0, vr (some (a0, 9, 0))), (1, vi l1), (2, vi (0 : Int32))] 24 [] Q))) : Z E YX10_string (d + 1) M [(0, vr (some (a0, 9, 0))), (1, vi l1)] 7 [] Q := by
  refine z_aload_n dX10_string_7 rfl rfl ?_
  refine z_dup dX10_string_8 rfl ?_
  refine z_geti dX10_string_9 fsX10_34_9 ?_
  refine z_iconst (v := 1) dX10_string_12 rfl ?_
  refine z_iadd dX10_string_13 ?_
  obtain ⟨g_, k⟩ := k
  refine z_puti g_ dX10_string_14 (zfwN.w fwX10_34_9) rfl ⟨rfl, rfl⟩ ?_
  refine z_aload_n dX10_string_17 rfl rfl ?_
  refine z_iconst (v := 4) dX10_string_18 rfl ?_
  obtain ⟨g_, k⟩ := k
  refine z_puti g_ dX10_string_19 (zfwN.w fwX10_50_9) rfl ⟨rfl, rfl⟩ ?_
  refine z_iconst (v := 0) dX10_string_22 rfl ?_
  refine z_ist_n dX10_string_23 rfl (by decide) (lv' := [(0, vr (some (a0, 9, 0))), (1, vi l1), (2, vi (0 : Int32))]) rfl ?_
  exact k
theorem sX10_string_24 {E : zE} {d : Nat} {Q : zO → zM → Prop} (M : zM) (a0 : Nat) (l1 : Int32) (l2 : Int32) (k : ∃ b1 : Nat, (gr M a0 0) = some (b1, 0, 0) ∧ (if (gi M b1 5) ≤ (gi M a0 1) then (Z E YX10_string (d + 1) M [(0, vr (some (a0, 9, 0))), (2, vi l2)] 216 [] Q) else (Z E YX10_sign d M (zargs 0 [vr (some (a0, 9, 0)), vi (gi M a0 1)]) 0 [] (zafter E YX10_string (d + 1) [(0, vr (some (a0, 9, 0))), (1, vi l1), (2, vi l2)] 43 3 [] Q)))) : Z E YX10_string (d + 1) M [(0, vr (some (a0, 9, 0))), (1, vi l1), (2, vi l2)] 24 [] Q := by
  refine z_aload_n dX10_string_24 rfl rfl ?_
  refine z_geti dX10_string_25 fsX10_34_9 ?_
  refine z_aload_n dX10_string_28 rfl rfl ?_
  refine z_getr (r := (gr M a0 0)) dX10_string_29 fsX10_15_9 rfl ?_
  obtain ⟨b1, e1_, k⟩ := k
  refine Z.eqs (lv' := [(0, vr (some (a0, 9, 0))), (1, vi l1), (2, vi l2)]) (st' := [vr (some (b1, 0, 0)), vi (gi M a0 1)]) rfl (by rw [e1_] <;> rfl) ?_
  refine z_geti dX10_string_32 fsX10_27_0 ?_
  refine z_icmp_ge (tgt := 216) dX10_string_35 rfl (fun h_ => ?_) (fun h_ => ?_)
  · have k := zit h_ k
    refine Z.pick [0, 2] rfl ?_
    exact k
  · have k := zif h_ k
    refine z_aload_n dX10_string_38 rfl rfl ?_
    refine z_aload_n dX10_string_39 rfl rfl ?_
    refine z_geti dX10_string_40 fsX10_34_9 ?_
    exact z_callV (as := [vi (gi M a0 1)]) (st := []) dX10_string_43 vsX10_37_9 (Nat.le_refl _) (Nat.le_of_ble_eq_true rfl) (Nat.le_of_ble_eq_true rfl) rfl k
theorem sX10_string_46 {E : zE} {d : Nat} {Q : zO → zM → Prop} (M : zM) (a0 : Nat) (l1 : Int32) (l2 : Int32) (s0 : Int32) (k : if s0 = l1 then (Z E YX10_string (d + 1) M [(0, vr (some (a0, 9, 0))), (2, vi l2)] 216 [] Q) else (16 ≤ a0 ∧ (Z E YX10_sign d (si M a0 1 ((gi M a0 1) + (1 : Int32))) (zargs 0 [vr (some (a0, 9, 0)), vi (gi M a0 1)]) 0 [] (zafter E YX10_string (d + 1) [(0, vr (some (a0, 9, 0))), (1, vi l1), (2, vi l2)] 62 3 [] Q)))) : Z E YX10_string (d + 1) M [(0, vr (some (a0, 9, 0))), (1, vi l1), (2, vi l2)] 46 [vi s0] Q := by
  refine z_iload_n dX10_string_46 rfl rfl ?_
  refine z_icmp_eq (tgt := 216) dX10_string_47 rfl (fun h_ => ?_) (fun h_ => ?_)
  · have k := zit h_ k
    refine Z.pick [0, 2] rfl ?_
    exact k
  · have k := zif h_ k
    refine z_aload_n dX10_string_50 rfl rfl ?_
    refine z_aload_n dX10_string_51 rfl rfl ?_
    refine z_dup dX10_string_52 rfl ?_
    refine z_geti dX10_string_53 fsX10_34_9 ?_
    refine z_dup_x1 dX10_string_56 rfl rfl ?_
    refine z_iconst (v := 1) dX10_string_57 rfl ?_
    refine z_iadd dX10_string_58 ?_
    obtain ⟨g_, k⟩ := k
    refine z_puti g_ dX10_string_59 (zfwN.w fwX10_34_9) rfl ⟨rfl, rfl⟩ ?_
    exact z_callV (as := [vi (gi M a0 1)]) (st := []) dX10_string_62 vsX10_37_9 (Nat.le_refl _) (Nat.le_of_ble_eq_true rfl) (Nat.le_of_ble_eq_true rfl) rfl k
theorem sX10_string_65 {E : zE} {d : Nat} {Q : zO → zM → Prop} (M : zM) (a0 : Nat) (l1 : Int32) (l2 : Int32) (s0 : Int32) (k : if s0 = (92 : Int32) then (16 ≤ a0 ∧ (Z E YX10_sign d (si M a0 1 ((gi M a0 1) + (1 : Int32))) (zargs 0 [vr (some (a0, 9, 0)), vi (gi M a0 1)]) 0 [] (zafter E YX10_string (d + 1) [(0, vr (some (a0, 9, 0))), (1, vi l1), (2, vi l2)] 84 3 [] Q))) else (if s0 < (32 : Int32) then (Z E YX10_string (d + 1) M [(0, vr (some (a0, 9, 0))), (1, vi l1), (2, vi l2), (3, vi s0)] 186 [] Q) else (if s0 ≤ (126 : Int32) then (∃ b1 : Nat, (gr M a0 0) = some (b1, 0, 0) ∧ (Z E YX1_write d M (zargs 0 [vr (some (b1, 0, 0)), vi s0]) 0 [] (zafter E YX10_string (d + 1) [(0, vr (some (a0, 9, 0))), (1, vi l1), (2, vi (l2 + (1 : Int32)))] 200 3 [] Q))) else (Z E YX10_string (d + 1) M [(0, vr (some (a0, 9, 0))), (1, vi l1), (2, vi l2), (3, vi s0)] 186 [] Q)))) : Z E YX10_string (d + 1) M [(0, vr (some (a0, 9, 0))), (1, vi l1), (2, vi l2)] 65 [vi s0] Q := by
  refine z_ist_n dX10_string_65 rfl (by decide) (lv' := [(0, vr (some (a0, 9, 0))), (1, vi l1), (2, vi l2), (3, vi s0)]) rfl ?_
  refine z_iload_n dX10_string_66 rfl rfl ?_
  refine z_bipush (v := 92) dX10_string_67 rfl ?_
  refine z_icmp_ne (tgt := 174) dX10_string_69 rfl (fun h_ => ?_) (fun h_ => ?_)
  · have k := zif h_ k
    refine z_iload_n dX10_string_174 rfl rfl ?_
    refine z_bipush (v := 32) dX10_string_175 rfl ?_
    refine z_icmp_lt (tgt := 186) dX10_string_177 rfl (fun h_ => ?_) (fun h_ => ?_)
    · have k := zit h_ k
      exact k
    · have k := zif h_ k
      refine z_iload_n dX10_string_180 rfl rfl ?_
      refine z_bipush (v := 126) dX10_string_181 rfl ?_
      refine z_icmp_le (tgt := 192) dX10_string_183 rfl (fun h_ => ?_) (fun h_ => ?_)
      · have k := zit h_ k
        refine z_inc (v := (l2 + (1 : Int32))) dX10_string_192 rfl rfl (by decide) (lv' := [(0, vr (some (a0, 9, 0))), (1, vi l1), (2, vi (l2 + (1 : Int32))), (3, vi s0)]) rfl ?_
        refine z_aload_n dX10_string_195 rfl rfl ?_
        refine z_getr (r := (gr M a0 0)) dX10_string_196 fsX10_15_9 rfl ?_
        refine z_iload_n dX10_string_199 rfl rfl ?_
        obtain ⟨b1, e1_, k⟩ := k
        refine Z.eqs (lv' := [(0, vr (some (a0, 9, 0))), (1, vi l1), (2, vi (l2 + (1 : Int32))), (3, vi s0)]) (st' := [vi s0, vr (some (b1, 0, 0))]) rfl (by rw [e1_] <;> rfl) ?_
        refine Z.pick [0, 1, 2] rfl ?_
        exact z_callV (as := [vi s0]) (st := []) dX10_string_200 vsX10_82_0 (Nat.le_refl _) (Nat.le_of_ble_eq_true rfl) (Nat.le_of_ble_eq_true rfl) rfl k
      · have k := zif h_ k
        exact k
  · have k := zit h_ k
    refine z_aload_n dX10_string_72 rfl rfl ?_
    refine z_aload_n dX10_string_73 rfl rfl ?_
    refine z_dup dX10_string_74 rfl ?_
    refine z_geti dX10_string_75 fsX10_34_9 ?_
    refine z_dup_x1 dX10_string_78 rfl rfl ?_
    refine z_iconst (v := 1) dX10_string_79 rfl ?_
    refine z_iadd dX10_string_80 ?_
    obtain ⟨g_, k⟩ := k
    refine z_puti g_ dX10_string_81 (zfwN.w fwX10_34_9) rfl ⟨rfl, rfl⟩ ?_
    refine Z.pick [0, 1, 2] rfl ?_
    exact z_callV (as := [vi (gi M a0 1)]) (st := []) dX10_string_84 vsX10_37_9 (Nat.le_refl _) (Nat.le_of_ble_eq_true rfl) (Nat.le_of_ble_eq_true rfl) rfl k
theorem sX10_string_87 {E : zE} {d : Nat} {Q : zO → zM → Prop} (M : zM) (a0 : Nat) (l1 : Int32) (l2 : Int32) (s0 : Int32) (k : if s0 = (110 : Int32) then (Z E YX10_string (d + 1) M [(0, vr (some (a0, 9, 0))), (1, vi l1), (2, vi l2), (4, vi s0)] 115 [vi (10 : Int32)] Q) else (if s0 = (116 : Int32) then (Z E YX10_string (d + 1) M [(0, vr (some (a0, 9, 0))), (1, vi l1), (2, vi l2), (4, vi s0)] 115 [vi (9 : Int32)] Q) else (Z E YX10_string (d + 1) M [(0, vr (some (a0, 9, 0))), (1, vi l1), (2, vi l2), (4, vi s0)] 115 [vi s0] Q))) : Z E YX10_string (d + 1) M [(0, vr (some (a0, 9, 0))), (1, vi l1), (2, vi l2)] 87 [vi s0] Q := by
  refine z_ist dX10_string_87 (by decide) (lv' := [(0, vr (some (a0, 9, 0))), (1, vi l1), (2, vi l2), (4, vi s0)]) rfl ?_
  refine z_iload dX10_string_89 rfl ?_
  refine z_bipush (v := 110) dX10_string_91 rfl ?_
  refine z_icmp_ne (tgt := 101) dX10_string_93 rfl (fun h_ => ?_) (fun h_ => ?_)
  · have k := zif h_ k
    refine z_iload dX10_string_101 rfl ?_
    refine z_bipush (v := 116) dX10_string_103 rfl ?_
    refine z_icmp_ne (tgt := 113) dX10_string_105 rfl (fun h_ => ?_) (fun h_ => ?_)
    · have k := zif h_ k
      refine z_iload dX10_string_113 rfl ?_
      exact k
    · have k := zit h_ k
      refine z_bipush (v := 9) dX10_string_108 rfl ?_
      refine z_goto (tgt := 115) dX10_string_110 rfl ?_
      exact k
  · have k := zit h_ k
    refine z_bipush (v := 10) dX10_string_96 rfl ?_
    refine z_goto (tgt := 115) dX10_string_98 rfl ?_
    exact k
theorem sX10_string_115 {E : zE} {d : Nat} {Q : zO → zM → Prop} (M : zM) (a0 : Nat) (l1 : Int32) (l2 : Int32) (l4 : Int32) (s0 : Int32) (k : ∃ b1 : Nat, (gr M a0 0) = some (b1, 0, 0) ∧ (if (gi M b1 5) < (gi M a0 1) then (Z E YX10_string (d + 1) M [(0, vr (some (a0, 9, 0))), (1, vi l1), (2, vi l2), (3, vi s0)] 165 [] Q) else (if l4 = (110 : Int32) then (∃ b2 : Nat, (gr M a0 0) = some (b2, 0, 0) ∧ (Z E YX1_write d M (zargs 0 [vr (some (b2, 0, 0)), vi s0]) 0 [] (zafter E YX10_string (d + 1) [(0, vr (some (a0, 9, 0))), (1, vi l1), (2, vi (l2 + (1 : Int32)))] 200 3 [] Q))) else (if l4 = (116 : Int32) then (∃ b2 : Nat, (gr M a0 0) = some (b2, 0, 0) ∧ (Z E YX1_write d M (zargs 0 [vr (some (b2, 0, 0)), vi s0]) 0 [] (zafter E YX10_string (d + 1) [(0, vr (some (a0, 9, 0))), (1, vi l1), (2, vi (l2 + (1 : Int32)))] 200 3 [] Q))) else (if l4 = (92 : Int32) then (∃ b2 : Nat, (gr M a0 0) = some (b2, 0, 0) ∧ (Z E YX1_write d M (zargs 0 [vr (some (b2, 0, 0)), vi s0]) 0 [] (zafter E YX10_string (d + 1) [(0, vr (some (a0, 9, 0))), (1, vi l1), (2, vi (l2 + (1 : Int32)))] 200 3 [] Q))) else (if l4 = (39 : Int32) then (∃ b2 : Nat, (gr M a0 0) = some (b2, 0, 0) ∧ (Z E YX1_write d M (zargs 0 [vr (some (b2, 0, 0)), vi s0]) 0 [] (zafter E YX10_string (d + 1) [(0, vr (some (a0, 9, 0))), (1, vi l1), (2, vi (l2 + (1 : Int32)))] 200 3 [] Q))) else (if l4 = (34 : Int32) then (∃ b2 : Nat, (gr M a0 0) = some (b2, 0, 0) ∧ (Z E YX1_write d M (zargs 0 [vr (some (b2, 0, 0)), vi s0]) 0 [] (zafter E YX10_string (d + 1) [(0, vr (some (a0, 9, 0))), (1, vi l1), (2, vi (l2 + (1 : Int32)))] 200 3 [] Q))) else (Z E YX10_string (d + 1) M [(0, vr (some (a0, 9, 0))), (1, vi l1), (2, vi l2), (3, vi s0)] 165 [] Q)))))))) : Z E YX10_string (d + 1) M [(0, vr (some (a0, 9, 0))), (1, vi l1), (2, vi l2), (4, vi l4)] 115 [vi s0] Q := by
  refine z_ist_n dX10_string_115 rfl (by decide) (lv' := [(0, vr (some (a0, 9, 0))), (1, vi l1), (2, vi l2), (3, vi s0), (4, vi l4)]) rfl ?_
  refine z_aload_n dX10_string_116 rfl rfl ?_
  refine z_geti dX10_string_117 fsX10_34_9 ?_
  refine z_aload_n dX10_string_120 rfl rfl ?_
  refine z_getr (r := (gr M a0 0)) dX10_string_121 fsX10_15_9 rfl ?_
  obtain ⟨b1, e1_, k⟩ := k
  refine Z.eqs (lv' := [(0, vr (some (a0, 9, 0))), (1, vi l1), (2, vi l2), (3, vi s0), (4, vi l4)]) (st' := [vr (some (b1, 0, 0)), vi (gi M a0 1)]) rfl (by rw [e1_] <;> rfl) ?_
  refine z_geti dX10_string_124 fsX10_27_0 ?_
  refine z_icmp_gt (tgt := 165) dX10_string_127 rfl (fun h_ => ?_) (fun h_ => ?_)
  · have k := zit h_ k
    refine Z.pick [0, 1, 2, 3] rfl ?_
    exact k
  · have k := zif h_ k
    refine z_iload dX10_string_130 rfl ?_
    refine z_bipush (v := 110) dX10_string_132 rfl ?_
    refine z_icmp_eq (tgt := 171) dX10_string_134 rfl (fun h_ => ?_) (fun h_ => ?_)
    · have k := zit h_ k
      refine z_goto (tgt := 192) dX10_string_171 rfl ?_
      refine z_inc (v := (l2 + (1 : Int32))) dX10_string_192 rfl rfl (by decide) (lv' := [(0, vr (some (a0, 9, 0))), (1, vi l1), (2, vi (l2 + (1 : Int32))), (3, vi s0), (4, vi l4)]) rfl ?_
      refine z_aload_n dX10_string_195 rfl rfl ?_
      refine z_getr (r := (gr M a0 0)) dX10_string_196 fsX10_15_9 rfl ?_
      refine z_iload_n dX10_string_199 rfl rfl ?_
      obtain ⟨b2, e2_, k⟩ := k
      refine Z.eqs (lv' := [(0, vr (some (a0, 9, 0))), (1, vi l1), (2, vi (l2 + (1 : Int32))), (3, vi s0), (4, vi l4)]) (st' := [vi s0, vr (some (b2, 0, 0))]) rfl (by rw [e2_] <;> rfl) ?_
      refine Z.pick [0, 1, 2] rfl ?_
      exact z_callV (as := [vi s0]) (st := []) dX10_string_200 vsX10_82_0 (Nat.le_refl _) (Nat.le_of_ble_eq_true rfl) (Nat.le_of_ble_eq_true rfl) rfl k
    · have k := zif h_ k
      refine z_iload dX10_string_137 rfl ?_
      refine z_bipush (v := 116) dX10_string_139 rfl ?_
      refine z_icmp_eq (tgt := 171) dX10_string_141 rfl (fun h_ => ?_) (fun h_ => ?_)
      · have k := zit h_ k
        refine z_goto (tgt := 192) dX10_string_171 rfl ?_
        refine z_inc (v := (l2 + (1 : Int32))) dX10_string_192 rfl rfl (by decide) (lv' := [(0, vr (some (a0, 9, 0))), (1, vi l1), (2, vi (l2 + (1 : Int32))), (3, vi s0), (4, vi l4)]) rfl ?_
        refine z_aload_n dX10_string_195 rfl rfl ?_
        refine z_getr (r := (gr M a0 0)) dX10_string_196 fsX10_15_9 rfl ?_
        refine z_iload_n dX10_string_199 rfl rfl ?_
        obtain ⟨b2, e2_, k⟩ := k
        refine Z.eqs (lv' := [(0, vr (some (a0, 9, 0))), (1, vi l1), (2, vi (l2 + (1 : Int32))), (3, vi s0), (4, vi l4)]) (st' := [vi s0, vr (some (b2, 0, 0))]) rfl (by rw [e2_] <;> rfl) ?_
        refine Z.pick [0, 1, 2] rfl ?_
        exact z_callV (as := [vi s0]) (st := []) dX10_string_200 vsX10_82_0 (Nat.le_refl _) (Nat.le_of_ble_eq_true rfl) (Nat.le_of_ble_eq_true rfl) rfl k
      · have k := zif h_ k
        refine z_iload dX10_string_144 rfl ?_
        refine z_bipush (v := 92) dX10_string_146 rfl ?_
        refine z_icmp_eq (tgt := 171) dX10_string_148 rfl (fun h_ => ?_) (fun h_ => ?_)
        · have k := zit h_ k
          refine z_goto (tgt := 192) dX10_string_171 rfl ?_
          refine z_inc (v := (l2 + (1 : Int32))) dX10_string_192 rfl rfl (by decide) (lv' := [(0, vr (some (a0, 9, 0))), (1, vi l1), (2, vi (l2 + (1 : Int32))), (3, vi s0), (4, vi l4)]) rfl ?_
          refine z_aload_n dX10_string_195 rfl rfl ?_
          refine z_getr (r := (gr M a0 0)) dX10_string_196 fsX10_15_9 rfl ?_
          refine z_iload_n dX10_string_199 rfl rfl ?_
          obtain ⟨b2, e2_, k⟩ := k
          refine Z.eqs (lv' := [(0, vr (some (a0, 9, 0))), (1, vi l1), (2, vi (l2 + (1 : Int32))), (3, vi s0), (4, vi l4)]) (st' := [vi s0, vr (some (b2, 0, 0))]) rfl (by rw [e2_] <;> rfl) ?_
          refine Z.pick [0, 1, 2] rfl ?_
          exact z_callV (as := [vi s0]) (st := []) dX10_string_200 vsX10_82_0 (Nat.le_refl _) (Nat.le_of_ble_eq_true rfl) (Nat.le_of_ble_eq_true rfl) rfl k
        · have k := zif h_ k
          refine z_iload dX10_string_151 rfl ?_
          refine z_bipush (v := 39) dX10_string_153 rfl ?_
          refine z_icmp_eq (tgt := 171) dX10_string_155 rfl (fun h_ => ?_) (fun h_ => ?_)
          · have k := zit h_ k
            refine z_goto (tgt := 192) dX10_string_171 rfl ?_
            refine z_inc (v := (l2 + (1 : Int32))) dX10_string_192 rfl rfl (by decide) (lv' := [(0, vr (some (a0, 9, 0))), (1, vi l1), (2, vi (l2 + (1 : Int32))), (3, vi s0), (4, vi l4)]) rfl ?_
            refine z_aload_n dX10_string_195 rfl rfl ?_
            refine z_getr (r := (gr M a0 0)) dX10_string_196 fsX10_15_9 rfl ?_
            refine z_iload_n dX10_string_199 rfl rfl ?_
            obtain ⟨b2, e2_, k⟩ := k
            refine Z.eqs (lv' := [(0, vr (some (a0, 9, 0))), (1, vi l1), (2, vi (l2 + (1 : Int32))), (3, vi s0), (4, vi l4)]) (st' := [vi s0, vr (some (b2, 0, 0))]) rfl (by rw [e2_] <;> rfl) ?_
            refine Z.pick [0, 1, 2] rfl ?_
            exact z_callV (as := [vi s0]) (st := []) dX10_string_200 vsX10_82_0 (Nat.le_refl _) (Nat.le_of_ble_eq_true rfl) (Nat.le_of_ble_eq_true rfl) rfl k
          · have k := zif h_ k
            refine z_iload dX10_string_158 rfl ?_
            refine z_bipush (v := 34) dX10_string_160 rfl ?_
            refine z_icmp_eq (tgt := 171) dX10_string_162 rfl (fun h_ => ?_) (fun h_ => ?_)
            · have k := zit h_ k
              refine z_goto (tgt := 192) dX10_string_171 rfl ?_
              refine z_inc (v := (l2 + (1 : Int32))) dX10_string_192 rfl rfl (by decide) (lv' := [(0, vr (some (a0, 9, 0))), (1, vi l1), (2, vi (l2 + (1 : Int32))), (3, vi s0), (4, vi l4)]) rfl ?_
              refine z_aload_n dX10_string_195 rfl rfl ?_
              refine z_getr (r := (gr M a0 0)) dX10_string_196 fsX10_15_9 rfl ?_
              refine z_iload_n dX10_string_199 rfl rfl ?_
              obtain ⟨b2, e2_, k⟩ := k
              refine Z.eqs (lv' := [(0, vr (some (a0, 9, 0))), (1, vi l1), (2, vi (l2 + (1 : Int32))), (3, vi s0), (4, vi l4)]) (st' := [vi s0, vr (some (b2, 0, 0))]) rfl (by rw [e2_] <;> rfl) ?_
              refine Z.pick [0, 1, 2] rfl ?_
              exact z_callV (as := [vi s0]) (st := []) dX10_string_200 vsX10_82_0 (Nat.le_refl _) (Nat.le_of_ble_eq_true rfl) (Nat.le_of_ble_eq_true rfl) rfl k
            · have k := zif h_ k
              refine Z.pick [0, 1, 2, 3] rfl ?_
              exact k
theorem sX10_string_165 {E : zE} {d : Nat} {Q : zO → zM → Prop} (M : zM) (a0 : Nat) (l1 : Int32) (l2 : Int32) (l3 : Int32) (k : 16 ≤ a0 ∧ (∃ b1 : Nat, (gr M a0 0) = some (b1, 0, 0) ∧ (Z E YX1_write d (si M a0 3 (6 : Int32)) (zargs 0 [vr (some (b1, 0, 0)), vi l3]) 0 [] (zafter E YX10_string (d + 1) [(0, vr (some (a0, 9, 0))), (1, vi l1), (2, vi (l2 + (1 : Int32)))] 200 3 [] Q)))) : Z E YX10_string (d + 1) M [(0, vr (some (a0, 9, 0))), (1, vi l1), (2, vi l2), (3, vi l3)] 165 [] Q := by
  refine z_aload_n dX10_string_165 rfl rfl ?_
  refine z_bipush (v := 6) dX10_string_166 rfl ?_
  obtain ⟨g_, k⟩ := k
  refine z_puti g_ dX10_string_168 (zfwN.w fwX10_50_9) rfl ⟨rfl, rfl⟩ ?_
  refine z_goto (tgt := 192) dX10_string_171 rfl ?_
  refine z_inc (v := (l2 + (1 : Int32))) dX10_string_192 rfl rfl (by decide) (lv' := [(0, vr (some (a0, 9, 0))), (1, vi l1), (2, vi (l2 + (1 : Int32))), (3, vi l3)]) rfl ?_
  refine z_aload_n dX10_string_195 rfl rfl ?_
  refine z_getr (r := (gr M a0 0)) dX10_string_196 fsX10_15_9 rfl ?_
  refine z_iload_n dX10_string_199 rfl rfl ?_
  obtain ⟨b1, e1_, k⟩ := k
  refine Z.eqs (lv' := [(0, vr (some (a0, 9, 0))), (1, vi l1), (2, vi (l2 + (1 : Int32))), (3, vi l3)]) (st' := [vi l3, vr (some (b1, 0, 0))]) rfl (by rw [e1_] <;> rfl) ?_
  refine Z.pick [0, 1, 2] rfl ?_
  exact z_callV (as := [vi l3]) (st := []) dX10_string_200 vsX10_82_0 (Nat.le_refl _) (Nat.le_of_ble_eq_true rfl) (Nat.le_of_ble_eq_true rfl) rfl k
theorem sX10_string_186 {E : zE} {d : Nat} {Q : zO → zM → Prop} (M : zM) (a0 : Nat) (l1 : Int32) (l2 : Int32) (l3 : Int32) (k : 16 ≤ a0 ∧ (∃ b1 : Nat, (gr M a0 0) = some (b1, 0, 0) ∧ (Z E YX1_write d (si M a0 3 (6 : Int32)) (zargs 0 [vr (some (b1, 0, 0)), vi l3]) 0 [] (zafter E YX10_string (d + 1) [(0, vr (some (a0, 9, 0))), (1, vi l1), (2, vi (l2 + (1 : Int32)))] 200 3 [] Q)))) : Z E YX10_string (d + 1) M [(0, vr (some (a0, 9, 0))), (1, vi l1), (2, vi l2), (3, vi l3)] 186 [] Q := by
  refine z_aload_n dX10_string_186 rfl rfl ?_
  refine z_bipush (v := 6) dX10_string_187 rfl ?_
  obtain ⟨g_, k⟩ := k
  refine z_puti g_ dX10_string_189 (zfwN.w fwX10_50_9) rfl ⟨rfl, rfl⟩ ?_
  refine z_inc (v := (l2 + (1 : Int32))) dX10_string_192 rfl rfl (by decide) (lv' := [(0, vr (some (a0, 9, 0))), (1, vi l1), (2, vi (l2 + (1 : Int32))), (3, vi l3)]) rfl ?_
  refine z_aload_n dX10_string_195 rfl rfl ?_
  refine z_getr (r := (gr M a0 0)) dX10_string_196 fsX10_15_9 rfl ?_
  refine z_iload_n dX10_string_199 rfl rfl ?_
  obtain ⟨b1, e1_, k⟩ := k
  refine Z.eqs (lv' := [(0, vr (some (a0, 9, 0))), (1, vi l1), (2, vi (l2 + (1 : Int32))), (3, vi l3)]) (st' := [vi l3, vr (some (b1, 0, 0))]) rfl (by rw [e1_] <;> rfl) ?_
  refine Z.pick [0, 1, 2] rfl ?_
  exact z_callV (as := [vi l3]) (st := []) dX10_string_200 vsX10_82_0 (Nat.le_refl _) (Nat.le_of_ble_eq_true rfl) (Nat.le_of_ble_eq_true rfl) rfl k
theorem sX10_string_203 {E : zE} {d : Nat} {Q : zO → zM → Prop} (M : zM) (a0 : Nat) (l1 : Int32) (l2 : Int32) (k : if (gi M a0 3) = (6 : Int32) then (Q (.inl none) M) else (Z E YX10_string (d + 1) M [(0, vr (some (a0, 9, 0))), (1, vi l1), (2, vi l2)] 24 [] Q)) : Z E YX10_string (d + 1) M [(0, vr (some (a0, 9, 0))), (1, vi l1), (2, vi l2)] 203 [] Q := by
  refine z_aload_n dX10_string_203 rfl rfl ?_
  refine z_geti dX10_string_204 fsX10_50_9 ?_
  refine z_bipush (v := 6) dX10_string_207 rfl ?_
  refine z_icmp_ne (tgt := 213) dX10_string_209 rfl (fun h_ => ?_) (fun h_ => ?_)
  · have k := zif h_ k
    refine z_goto (tgt := 24) dX10_string_213 rfl ?_
    exact k
  · have k := zit h_ k
    exact z_vret dX10_string_212 rfl k
theorem sX10_string_216 {E : zE} {d : Nat} {Q : zO → zM → Prop} (M : zM) (a0 : Nat) (l2 : Int32) (k : ∃ b1 : Nat, (gr M a0 0) = some (b1, 0, 0) ∧ (if (gi M b1 5) ≤ (gi M a0 1) then (16 ≤ a0 ∧ (Z E YX10_string (d + 1) (si M a0 3 (6 : Int32)) [(0, vr (some (a0, 9, 0)))] 242 [] Q)) else (if l2 ≤ (40 : Int32) then (Z E YX10_string (d + 1) M [(0, vr (some (a0, 9, 0)))] 242 [] Q) else (16 ≤ a0 ∧ (Z E YX10_string (d + 1) (si M a0 3 (6 : Int32)) [(0, vr (some (a0, 9, 0)))] 242 [] Q))))) : Z E YX10_string (d + 1) M [(0, vr (some (a0, 9, 0))), (2, vi l2)] 216 [] Q := by
  refine z_aload_n dX10_string_216 rfl rfl ?_
  refine z_geti dX10_string_217 fsX10_34_9 ?_
  refine z_aload_n dX10_string_220 rfl rfl ?_
  refine z_getr (r := (gr M a0 0)) dX10_string_221 fsX10_15_9 rfl ?_
  obtain ⟨b1, e1_, k⟩ := k
  refine Z.eqs (lv' := [(0, vr (some (a0, 9, 0))), (2, vi l2)]) (st' := [vr (some (b1, 0, 0)), vi (gi M a0 1)]) rfl (by rw [e1_] <;> rfl) ?_
  refine z_geti dX10_string_224 fsX10_27_0 ?_
  refine z_icmp_ge (tgt := 236) dX10_string_227 rfl (fun h_ => ?_) (fun h_ => ?_)
  · have k := zit h_ k
    refine z_aload_n dX10_string_236 rfl rfl ?_
    refine z_bipush (v := 6) dX10_string_237 rfl ?_
    obtain ⟨g_, k⟩ := k
    refine z_puti g_ dX10_string_239 (zfwN.w fwX10_50_9) rfl ⟨rfl, rfl⟩ ?_
    refine Z.pick [0] rfl ?_
    exact k
  · have k := zif h_ k
    refine z_iload_n dX10_string_230 rfl rfl ?_
    refine z_bipush (v := 40) dX10_string_231 rfl ?_
    refine z_icmp_le (tgt := 242) dX10_string_233 rfl (fun h_ => ?_) (fun h_ => ?_)
    · have k := zit h_ k
      refine Z.pick [0] rfl ?_
      exact k
    · have k := zif h_ k
      refine z_aload_n dX10_string_236 rfl rfl ?_
      refine z_bipush (v := 6) dX10_string_237 rfl ?_
      obtain ⟨g_, k⟩ := k
      refine z_puti g_ dX10_string_239 (zfwN.w fwX10_50_9) rfl ⟨rfl, rfl⟩ ?_
      refine Z.pick [0] rfl ?_
      exact k
theorem sX10_string_242 {E : zE} {d : Nat} {Q : zO → zM → Prop} (M : zM) (a0 : Nat) (k : 16 ≤ a0 ∧ (if (gi (si M a0 1 ((gi M a0 1) + (1 : Int32))) a0 3) = (4 : Int32) then (Z E YX10_name d (si M a0 1 ((gi M a0 1) + (1 : Int32))) (zargs 0 [vr (some (a0, 9, 0))]) 0 [] (zafter E YX10_string (d + 1) [] 262 3 [vr (some (a0, 9, 0))] Q)) else (Q (.inl none) (si M a0 1 ((gi M a0 1) + (1 : Int32)))))) : Z E YX10_string (d + 1) M [(0, vr (some (a0, 9, 0)))] 242 [] Q := by
  refine z_aload_n dX10_string_242 rfl rfl ?_
  refine z_dup dX10_string_243 rfl ?_
  refine z_geti dX10_string_244 fsX10_34_9 ?_
  refine z_iconst (v := 1) dX10_string_247 rfl ?_
  refine z_iadd dX10_string_248 ?_
  obtain ⟨g_, k⟩ := k
  refine z_puti g_ dX10_string_249 (zfwN.w fwX10_34_9) rfl ⟨rfl, rfl⟩ ?_
  refine z_aload_n dX10_string_252 rfl rfl ?_
  refine z_geti dX10_string_253 fsX10_50_9 ?_
  refine z_iconst (v := 4) dX10_string_256 rfl ?_
  refine z_icmp_ne (tgt := 268) dX10_string_257 rfl (fun h_ => ?_) (fun h_ => ?_)
  · have k := zif h_ k
    exact z_vret dX10_string_268 rfl k
  · have k := zit h_ k
    refine z_aload_n dX10_string_260 rfl rfl ?_
    refine z_aload_n dX10_string_261 rfl rfl ?_
    refine Z.pick [] rfl ?_
    exact z_callV (as := []) (st := [vr (some (a0, 9, 0))]) dX10_string_262 vsX10_104_9 (Nat.le_refl _) (Nat.le_of_ble_eq_true rfl) (Nat.le_of_ble_eq_true rfl) rfl k
theorem sX10_string_265 {E : zE} {d : Nat} {Q : zO → zM → Prop} (M : zM) (s0 : Int32) (a0 : Nat) (k : 16 ≤ a0 ∧ (Q (.inl none) (si M a0 6 s0))) : Z E YX10_string (d + 1) M [] 265 [vi s0, vr (some (a0, 9, 0))] Q := by
  obtain ⟨g_, k⟩ := k
  refine z_puti g_ dX10_string_265 (zfwN.w fwX10_101_9) rfl ⟨rfl, rfl⟩ ?_
  exact z_vret dX10_string_268 rfl k
/-! ScriptTypes$Tokens.longest()V -/
theorem bX10_longest_0 : zdec cX10_longest 0 [(0, .iconst (-1), 1), (1, .istore_n 1, 1), (2, .aload_n 0, 1), (3, .getfield 15, 3), (6, .invokevirtual 76, 3), (9, .iconst 1, 1), (10, .istore_n 2, 1), (11, .iload_n 2, 1), (12, .iconst 4, 1), (13, .if_icmp .gt 74, 3), (16, .aload_n 0, 1), (17, .getfield 34, 3), (20, .iload_n 2, 1), (21, .iadd, 1), (22, .aload_n 0, 1), (23, .getfield 15, 3)] = true := by decide +kernel
theorem dX10_longest_0 : decode cX10_longest 0 = .ok (.iconst (-1), 1) := zdec_at bX10_longest_0 0 rfl
theorem dX10_longest_1 : decode cX10_longest 1 = .ok (.istore_n 1, 1) := zdec_at bX10_longest_0 1 rfl
theorem dX10_longest_2 : decode cX10_longest 2 = .ok (.aload_n 0, 1) := zdec_at bX10_longest_0 2 rfl
theorem dX10_longest_3 : decode cX10_longest 3 = .ok (.getfield 15, 3) := zdec_at bX10_longest_0 3 rfl
theorem dX10_longest_6 : decode cX10_longest 6 = .ok (.invokevirtual 76, 3) := zdec_at bX10_longest_0 4 rfl
theorem dX10_longest_9 : decode cX10_longest 9 = .ok (.iconst 1, 1) := zdec_at bX10_longest_0 5 rfl
theorem dX10_longest_10 : decode cX10_longest 10 = .ok (.istore_n 2, 1) := zdec_at bX10_longest_0 6 rfl
theorem dX10_longest_11 : decode cX10_longest 11 = .ok (.iload_n 2, 1) := zdec_at bX10_longest_0 7 rfl
theorem dX10_longest_12 : decode cX10_longest 12 = .ok (.iconst 4, 1) := zdec_at bX10_longest_0 8 rfl
theorem dX10_longest_13 : decode cX10_longest 13 = .ok (.if_icmp .gt 74, 3) := zdec_at bX10_longest_0 9 rfl
theorem dX10_longest_16 : decode cX10_longest 16 = .ok (.aload_n 0, 1) := zdec_at bX10_longest_0 10 rfl
theorem dX10_longest_17 : decode cX10_longest 17 = .ok (.getfield 34, 3) := zdec_at bX10_longest_0 11 rfl
theorem dX10_longest_20 : decode cX10_longest 20 = .ok (.iload_n 2, 1) := zdec_at bX10_longest_0 12 rfl
theorem dX10_longest_21 : decode cX10_longest 21 = .ok (.iadd, 1) := zdec_at bX10_longest_0 13 rfl
theorem dX10_longest_22 : decode cX10_longest 22 = .ok (.aload_n 0, 1) := zdec_at bX10_longest_0 14 rfl
theorem dX10_longest_23 : decode cX10_longest 23 = .ok (.getfield 15, 3) := zdec_at bX10_longest_0 15 rfl
theorem bX10_longest_26 : zdec cX10_longest 26 [(26, .getfield 27, 3), (29, .if_icmp .gt 58, 3), (32, .aload_n 0, 1), (33, .getfield 15, 3), (36, .aload_n 0, 1), (37, .aload_n 0, 1), (38, .getfield 34, 3), (41, .iload_n 2, 1), (42, .iadd, 1), (43, .iconst 1, 1), (44, .isub, 1), (45, .invokevirtual 37, 3), (48, .invokevirtual 82, 3), (51, .aload_n 0, 1), (52, .getfield 15, 3), (55, .getfield 119, 3)] = true := by decide +kernel
theorem dX10_longest_26 : decode cX10_longest 26 = .ok (.getfield 27, 3) := zdec_at bX10_longest_26 0 rfl
theorem dX10_longest_29 : decode cX10_longest 29 = .ok (.if_icmp .gt 58, 3) := zdec_at bX10_longest_26 1 rfl
theorem dX10_longest_32 : decode cX10_longest 32 = .ok (.aload_n 0, 1) := zdec_at bX10_longest_26 2 rfl
theorem dX10_longest_33 : decode cX10_longest 33 = .ok (.getfield 15, 3) := zdec_at bX10_longest_26 3 rfl
theorem dX10_longest_36 : decode cX10_longest 36 = .ok (.aload_n 0, 1) := zdec_at bX10_longest_26 4 rfl
theorem dX10_longest_37 : decode cX10_longest 37 = .ok (.aload_n 0, 1) := zdec_at bX10_longest_26 5 rfl
theorem dX10_longest_38 : decode cX10_longest 38 = .ok (.getfield 34, 3) := zdec_at bX10_longest_26 6 rfl
theorem dX10_longest_41 : decode cX10_longest 41 = .ok (.iload_n 2, 1) := zdec_at bX10_longest_26 7 rfl
theorem dX10_longest_42 : decode cX10_longest 42 = .ok (.iadd, 1) := zdec_at bX10_longest_26 8 rfl
theorem dX10_longest_43 : decode cX10_longest 43 = .ok (.iconst 1, 1) := zdec_at bX10_longest_26 9 rfl
theorem dX10_longest_44 : decode cX10_longest 44 = .ok (.isub, 1) := zdec_at bX10_longest_26 10 rfl
theorem dX10_longest_45 : decode cX10_longest 45 = .ok (.invokevirtual 37, 3) := zdec_at bX10_longest_26 11 rfl
theorem dX10_longest_48 : decode cX10_longest 48 = .ok (.invokevirtual 82, 3) := zdec_at bX10_longest_26 12 rfl
theorem dX10_longest_51 : decode cX10_longest 51 = .ok (.aload_n 0, 1) := zdec_at bX10_longest_26 13 rfl
theorem dX10_longest_52 : decode cX10_longest 52 = .ok (.getfield 15, 3) := zdec_at bX10_longest_26 14 rfl
theorem dX10_longest_55 : decode cX10_longest 55 = .ok (.getfield 119, 3) := zdec_at bX10_longest_26 15 rfl
theorem bX10_longest_58 : zdec cX10_longest 58 [(58, .aload_n 0, 1), (59, .getfield 15, 3), (62, .getfield 89, 3), (65, .iload_n 2, 1), (66, .invokevirtual 95, 3), (69, .istore_n 3, 1), (70, .iload_n 3, 1), (71, .iconst (-1), 1), (72, .if_icmp .ne 7, 3), (75, .iload_n 1, 1), (76, .goto 4, 3), (79, .iload_n 3, 1), (80, .istore_n 1, 1), (81, .iinc 2 1, 3), (84, .goto (-73), 3), (87, .aload_n 0, 1)] = true := by decide +kernel
theorem dX10_longest_58 : decode cX10_longest 58 = .ok (.aload_n 0, 1) := zdec_at bX10_longest_58 0 rfl
theorem dX10_longest_59 : decode cX10_longest 59 = .ok (.getfield 15, 3) := zdec_at bX10_longest_58 1 rfl
theorem dX10_longest_62 : decode cX10_longest 62 = .ok (.getfield 89, 3) := zdec_at bX10_longest_58 2 rfl
theorem dX10_longest_65 : decode cX10_longest 65 = .ok (.iload_n 2, 1) := zdec_at bX10_longest_58 3 rfl
theorem dX10_longest_66 : decode cX10_longest 66 = .ok (.invokevirtual 95, 3) := zdec_at bX10_longest_58 4 rfl
theorem dX10_longest_69 : decode cX10_longest 69 = .ok (.istore_n 3, 1) := zdec_at bX10_longest_58 5 rfl
theorem dX10_longest_70 : decode cX10_longest 70 = .ok (.iload_n 3, 1) := zdec_at bX10_longest_58 6 rfl
theorem dX10_longest_71 : decode cX10_longest 71 = .ok (.iconst (-1), 1) := zdec_at bX10_longest_58 7 rfl
theorem dX10_longest_72 : decode cX10_longest 72 = .ok (.if_icmp .ne 7, 3) := zdec_at bX10_longest_58 8 rfl
theorem dX10_longest_75 : decode cX10_longest 75 = .ok (.iload_n 1, 1) := zdec_at bX10_longest_58 9 rfl
theorem dX10_longest_76 : decode cX10_longest 76 = .ok (.goto 4, 3) := zdec_at bX10_longest_58 10 rfl
theorem dX10_longest_79 : decode cX10_longest 79 = .ok (.iload_n 3, 1) := zdec_at bX10_longest_58 11 rfl
theorem dX10_longest_80 : decode cX10_longest 80 = .ok (.istore_n 1, 1) := zdec_at bX10_longest_58 12 rfl
theorem dX10_longest_81 : decode cX10_longest 81 = .ok (.iinc 2 1, 3) := zdec_at bX10_longest_58 13 rfl
theorem dX10_longest_84 : decode cX10_longest 84 = .ok (.goto (-73), 3) := zdec_at bX10_longest_58 14 rfl
theorem dX10_longest_87 : decode cX10_longest 87 = .ok (.aload_n 0, 1) := zdec_at bX10_longest_58 15 rfl
theorem bX10_longest_88 : zdec cX10_longest 88 [(88, .iload_n 1, 1), (89, .iconst (-1), 1), (90, .if_icmp .ne 8, 3), (93, .bipush 6, 2), (95, .goto 4, 3), (98, .iconst 5, 1), (99, .putfield 50, 3), (102, .aload_n 0, 1), (103, .iload_n 1, 1), (104, .putfield 101, 3), (107, .aload_n 0, 1), (108, .dup, 1), (109, .getfield 34, 3), (112, .iload_n 1, 1), (113, .iconst (-1), 1), (114, .if_icmp .ne 7, 3)] = true := by decide +kernel
theorem dX10_longest_88 : decode cX10_longest 88 = .ok (.iload_n 1, 1) := zdec_at bX10_longest_88 0 rfl
theorem dX10_longest_89 : decode cX10_longest 89 = .ok (.iconst (-1), 1) := zdec_at bX10_longest_88 1 rfl
theorem dX10_longest_90 : decode cX10_longest 90 = .ok (.if_icmp .ne 8, 3) := zdec_at bX10_longest_88 2 rfl
theorem dX10_longest_93 : decode cX10_longest 93 = .ok (.bipush 6, 2) := zdec_at bX10_longest_88 3 rfl
theorem dX10_longest_95 : decode cX10_longest 95 = .ok (.goto 4, 3) := zdec_at bX10_longest_88 4 rfl
theorem dX10_longest_98 : decode cX10_longest 98 = .ok (.iconst 5, 1) := zdec_at bX10_longest_88 5 rfl
theorem dX10_longest_99 : decode cX10_longest 99 = .ok (.putfield 50, 3) := zdec_at bX10_longest_88 6 rfl
theorem dX10_longest_102 : decode cX10_longest 102 = .ok (.aload_n 0, 1) := zdec_at bX10_longest_88 7 rfl
theorem dX10_longest_103 : decode cX10_longest 103 = .ok (.iload_n 1, 1) := zdec_at bX10_longest_88 8 rfl
theorem dX10_longest_104 : decode cX10_longest 104 = .ok (.putfield 101, 3) := zdec_at bX10_longest_88 9 rfl
theorem dX10_longest_107 : decode cX10_longest 107 = .ok (.aload_n 0, 1) := zdec_at bX10_longest_88 10 rfl
theorem dX10_longest_108 : decode cX10_longest 108 = .ok (.dup, 1) := zdec_at bX10_longest_88 11 rfl
theorem dX10_longest_109 : decode cX10_longest 109 = .ok (.getfield 34, 3) := zdec_at bX10_longest_88 12 rfl
theorem dX10_longest_112 : decode cX10_longest 112 = .ok (.iload_n 1, 1) := zdec_at bX10_longest_88 13 rfl
theorem dX10_longest_113 : decode cX10_longest 113 = .ok (.iconst (-1), 1) := zdec_at bX10_longest_88 14 rfl
theorem dX10_longest_114 : decode cX10_longest 114 = .ok (.if_icmp .ne 7, 3) := zdec_at bX10_longest_88 15 rfl
theorem bX10_longest_117 : zdec cX10_longest 117 [(117, .iconst 1, 1), (118, .goto 14, 3), (121, .aload_n 0, 1), (122, .getfield 15, 3), (125, .getfield 119, 3), (128, .iload_n 1, 1), (129, .invokevirtual 122, 3), (132, .iadd, 1), (133, .putfield 34, 3), (136, .return_, 1)] = true := by decide +kernel
theorem dX10_longest_117 : decode cX10_longest 117 = .ok (.iconst 1, 1) := zdec_at bX10_longest_117 0 rfl
theorem dX10_longest_118 : decode cX10_longest 118 = .ok (.goto 14, 3) := zdec_at bX10_longest_117 1 rfl
theorem dX10_longest_121 : decode cX10_longest 121 = .ok (.aload_n 0, 1) := zdec_at bX10_longest_117 2 rfl
theorem dX10_longest_122 : decode cX10_longest 122 = .ok (.getfield 15, 3) := zdec_at bX10_longest_117 3 rfl
theorem dX10_longest_125 : decode cX10_longest 125 = .ok (.getfield 119, 3) := zdec_at bX10_longest_117 4 rfl
theorem dX10_longest_128 : decode cX10_longest 128 = .ok (.iload_n 1, 1) := zdec_at bX10_longest_117 5 rfl
theorem dX10_longest_129 : decode cX10_longest 129 = .ok (.invokevirtual 122, 3) := zdec_at bX10_longest_117 6 rfl
theorem dX10_longest_132 : decode cX10_longest 132 = .ok (.iadd, 1) := zdec_at bX10_longest_117 7 rfl
theorem dX10_longest_133 : decode cX10_longest 133 = .ok (.putfield 34, 3) := zdec_at bX10_longest_117 8 rfl
theorem dX10_longest_136 : decode cX10_longest 136 = .ok (.return_, 1) := zdec_at bX10_longest_117 9 rfl
theorem sX10_longest_0 {E : zE} {d : Nat} {Q : zO → zM → Prop} (M : zM) (a0 : Nat) (k : ∃ b1 : Nat, (gr M a0 0) = some (b1, 0, 0) ∧ (Z E YX1_clearRow d M (zargs 0 [vr (some (b1, 0, 0))]) 0 [] (zafter E YX10_longest (d + 1) [(0, vr (some (a0, 9, 0))), (1, vi (-1 : Int32))] 6 3 [] Q))) : Z E YX10_longest (d + 1) M [(0, vr (some (a0, 9, 0)))] 0 [] Q := by
  refine z_iconst (v := -1) dX10_longest_0 rfl ?_
  refine z_ist_n dX10_longest_1 rfl (by decide) (lv' := [(0, vr (some (a0, 9, 0))), (1, vi (-1 : Int32))]) rfl ?_
  refine z_aload_n dX10_longest_2 rfl rfl ?_
  refine z_getr (r := (gr M a0 0)) dX10_longest_3 fsX10_15_9 rfl ?_
  obtain ⟨b1, e1_, k⟩ := k
  refine Z.eqs (lv' := [(0, vr (some (a0, 9, 0))), (1, vi (-1 : Int32))]) (st' := [vr (some (b1, 0, 0))]) rfl (by rw [e1_] <;> rfl) ?_
  exact z_callV (as := []) (st := []) dX10_longest_6 vsX10_76_0 (Nat.le_refl _) (Nat.le_of_ble_eq_true rfl) (Nat.le_of_ble_eq_true rfl) rfl k
theorem sX10_longest_9 {E : zE} {d : Nat} {Q : zO → zM → Prop} (M : zM) (a0 : Nat) (l1 : Int32) (k : Z E YX10_longest (d + 1) M [(0, vr (some (a0, 9, 0))), (1, vi l1), (2, vi (1 : Int32))] 11 [] Q) : Z E YX10_longest (d + 1) M [(0, vr (some (a0, 9, 0))), (1, vi l1)] 9 [] Q := by
  refine z_iconst (v := 1) dX10_longest_9 rfl ?_
  refine z_ist_n dX10_longest_10 rfl (by decide) (lv' := [(0, vr (some (a0, 9, 0))), (1, vi l1), (2, vi (1 : Int32))]) rfl ?_
  exact k
theorem sX10_longest_11 {E : zE} {d : Nat} {Q : zO → zM → Prop} (M : zM) (a0 : Nat) (l1 : Int32) (l2 : Int32) (k : if (4 : Int32) < l2 then (if l1 = (-1 : Int32) then (Z E YX10_longest (d + 1) M [(0, vr (some (a0, 9, 0))), (1, vi l1)] 99 [vi (6 : Int32), vr (some (a0, 9, 0))] Q) else (Z E YX10_longest (d + 1) M [(0, vr (some (a0, 9, 0))), (1, vi l1)] 99 [vi (5 : Int32), vr (some (a0, 9, 0))] Q)) else (∃ b1 : Nat, (gr M a0 0) = some (b1, 0, 0) ∧ (if (gi M b1 5) < ((gi M a0 1) + l2) then (if l1 = (-1 : Int32) then (Z E YX10_longest (d + 1) M [(0, vr (some (a0, 9, 0))), (1, vi l1)] 99 [vi (6 : Int32), vr (some (a0, 9, 0))] Q) else (Z E YX10_longest (d + 1) M [(0, vr (some (a0, 9, 0))), (1, vi l1)] 99 [vi (5 : Int32), vr (some (a0, 9, 0))] Q)) else (Z E YX10_sign d M (zargs 0 [vr (some (a0, 9, 0)), vi (((gi M a0 1) + l2) - (1 : Int32))]) 0 [] (zafter E YX10_longest (d + 1) [(0, vr (some (a0, 9, 0))), (1, vi l1), (2, vi l2)] 45 3 [vr (gr M a0 0)] Q))))) : Z E YX10_longest (d + 1) M [(0, vr (some (a0, 9, 0))), (1, vi l1), (2, vi l2)] 11 [] Q := by
  refine z_iload_n dX10_longest_11 rfl rfl ?_
  refine z_iconst (v := 4) dX10_longest_12 rfl ?_
  refine z_icmp_gt (tgt := 87) dX10_longest_13 rfl (fun h_ => ?_) (fun h_ => ?_)
  · have k := zit h_ k
    refine z_aload_n dX10_longest_87 rfl rfl ?_
    refine z_iload_n dX10_longest_88 rfl rfl ?_
    refine z_iconst (v := -1) dX10_longest_89 rfl ?_
    refine z_icmp_ne (tgt := 98) dX10_longest_90 rfl (fun h_ => ?_) (fun h_ => ?_)
    · have k := zif h_ k
      refine z_iconst (v := 5) dX10_longest_98 rfl ?_
      refine Z.pick [0, 1] rfl ?_
      exact k
    · have k := zit h_ k
      refine z_bipush (v := 6) dX10_longest_93 rfl ?_
      refine z_goto (tgt := 99) dX10_longest_95 rfl ?_
      refine Z.pick [0, 1] rfl ?_
      exact k
  · have k := zif h_ k
    refine z_aload_n dX10_longest_16 rfl rfl ?_
    refine z_geti dX10_longest_17 fsX10_34_9 ?_
    refine z_iload_n dX10_longest_20 rfl rfl ?_
    refine z_iadd dX10_longest_21 ?_
    refine z_aload_n dX10_longest_22 rfl rfl ?_
    refine z_getr (r := (gr M a0 0)) dX10_longest_23 fsX10_15_9 rfl ?_
    obtain ⟨b1, e1_, k⟩ := k
    refine Z.eqs (lv' := [(0, vr (some (a0, 9, 0))), (1, vi l1), (2, vi l2)]) (st' := [vr (some (b1, 0, 0)), vi ((gi M a0 1) + l2)]) rfl (by rw [e1_] <;> rfl) ?_
    refine z_geti dX10_longest_26 fsX10_27_0 ?_
    refine z_icmp_gt (tgt := 87) dX10_longest_29 rfl (fun h_ => ?_) (fun h_ => ?_)
    · have k := zit h_ k
      refine z_aload_n dX10_longest_87 rfl rfl ?_
      refine z_iload_n dX10_longest_88 rfl rfl ?_
      refine z_iconst (v := -1) dX10_longest_89 rfl ?_
      refine z_icmp_ne (tgt := 98) dX10_longest_90 rfl (fun h_ => ?_) (fun h_ => ?_)
      · have k := zif h_ k
        refine z_iconst (v := 5) dX10_longest_98 rfl ?_
        refine Z.pick [0, 1] rfl ?_
        exact k
      · have k := zit h_ k
        refine z_bipush (v := 6) dX10_longest_93 rfl ?_
        refine z_goto (tgt := 99) dX10_longest_95 rfl ?_
        refine Z.pick [0, 1] rfl ?_
        exact k
    · have k := zif h_ k
      refine z_aload_n dX10_longest_32 rfl rfl ?_
      refine z_getr (r := (gr M a0 0)) dX10_longest_33 fsX10_15_9 rfl ?_
      refine z_aload_n dX10_longest_36 rfl rfl ?_
      refine z_aload_n dX10_longest_37 rfl rfl ?_
      refine z_geti dX10_longest_38 fsX10_34_9 ?_
      refine z_iload_n dX10_longest_41 rfl rfl ?_
      refine z_iadd dX10_longest_42 ?_
      refine z_iconst (v := 1) dX10_longest_43 rfl ?_
      refine z_isub dX10_longest_44 ?_
      exact z_callV (as := [vi (((gi M a0 1) + l2) - (1 : Int32))]) (st := [vr (gr M a0 0)]) dX10_longest_45 vsX10_37_9 (Nat.le_refl _) (Nat.le_of_ble_eq_true rfl) (Nat.le_of_ble_eq_true rfl) rfl k
theorem sX10_longest_48 {E : zE} {d : Nat} {Q : zO → zM → Prop} (M : zM) (a0 : Nat) (l1 : Int32) (l2 : Int32) (s0 : Int32) (u1 : Option zP) (k : ∃ b1 : Nat, u1 = some (b1, 0, 0) ∧ (Z E YX1_write d M (zargs 0 [vr (some (b1, 0, 0)), vi s0]) 0 [] (zafter E YX10_longest (d + 1) [(0, vr (some (a0, 9, 0))), (1, vi l1), (2, vi l2)] 48 3 [] Q))) : Z E YX10_longest (d + 1) M [(0, vr (some (a0, 9, 0))), (1, vi l1), (2, vi l2)] 48 [vi s0, vr u1] Q := by
  obtain ⟨b1, e1_, k⟩ := k
  refine Z.eqs (lv' := [(0, vr (some (a0, 9, 0))), (1, vi l1), (2, vi l2)]) (st' := [vi s0, vr (some (b1, 0, 0))]) rfl (by rw [e1_] <;> rfl) ?_
  exact z_callV (as := [vi s0]) (st := []) dX10_longest_48 vsX10_82_0 (Nat.le_refl _) (Nat.le_of_ble_eq_true rfl) (Nat.le_of_ble_eq_true rfl) rfl k
theorem sX10_longest_51 {E : zE} {d : Nat} {Q : zO → zM → Prop} (M : zM) (a0 : Nat) (l1 : Int32) (l2 : Int32) (k : ∃ b1 : Nat, (gr M a0 0) = some (b1, 0, 0) ∧ (∃ b2 : Nat, (gr M a0 0) = some (b2, 0, 0) ∧ (∃ b3 : Nat, (gr M b1 7) = some (b3, 2, 0) ∧ (Z E YX2_find d M (zargs 0 [vr (some (b3, 2, 0)), vr (gr M b2 2), vi l2]) 0 [] (zafter E YX10_longest (d + 1) [(0, vr (some (a0, 9, 0))), (1, vi l1), (2, vi l2)] 66 3 [] Q))))) : Z E YX10_longest (d + 1) M [(0, vr (some (a0, 9, 0))), (1, vi l1), (2, vi l2)] 51 [] Q := by
  refine z_aload_n dX10_longest_51 rfl rfl ?_
  refine z_getr (r := (gr M a0 0)) dX10_longest_52 fsX10_15_9 rfl ?_
  obtain ⟨b1, e1_, k⟩ := k
  refine Z.eqs (lv' := [(0, vr (some (a0, 9, 0))), (1, vi l1), (2, vi l2)]) (st' := [vr (some (b1, 0, 0))]) rfl (by rw [e1_] <;> rfl) ?_
  refine z_getr (r := (gr M b1 7)) dX10_longest_55 fsX10_119_0 rfl ?_
  refine z_aload_n dX10_longest_58 rfl rfl ?_
  refine z_getr (r := (gr M a0 0)) dX10_longest_59 fsX10_15_9 rfl ?_
  obtain ⟨b2, e2_, k⟩ := k
  refine Z.eqs (lv' := [(0, vr (some (a0, 9, 0))), (1, vi l1), (2, vi l2)]) (st' := [vr (some (b2, 0, 0)), vr (gr M b1 7)]) rfl (by rw [e2_] <;> rfl) ?_
  refine z_getr (r := (gr M b2 2)) dX10_longest_62 fsX10_89_0 rfl ?_
  refine z_iload_n dX10_longest_65 rfl rfl ?_
  obtain ⟨b3, e3_, k⟩ := k
  refine Z.eqs (lv' := [(0, vr (some (a0, 9, 0))), (1, vi l1), (2, vi l2)]) (st' := [vi l2, vr (gr M b2 2), vr (some (b3, 2, 0))]) rfl (by rw [e3_] <;> rfl) ?_
  exact z_callV (as := [vr (gr M b2 2), vi l2]) (st := []) dX10_longest_66 vsX10_95_2 (Nat.le_refl _) (Nat.le_of_ble_eq_true rfl) (Nat.le_of_ble_eq_true rfl) rfl k
theorem sX10_longest_69 {E : zE} {d : Nat} {Q : zO → zM → Prop} (M : zM) (a0 : Nat) (l1 : Int32) (l2 : Int32) (s0 : Int32) (k : if s0 = (-1 : Int32) then (Z E YX10_longest (d + 1) M [(0, vr (some (a0, 9, 0))), (1, vi l1), (2, vi (l2 + (1 : Int32)))] 11 [] Q) else (Z E YX10_longest (d + 1) M [(0, vr (some (a0, 9, 0))), (1, vi s0), (2, vi (l2 + (1 : Int32)))] 11 [] Q)) : Z E YX10_longest (d + 1) M [(0, vr (some (a0, 9, 0))), (1, vi l1), (2, vi l2)] 69 [vi s0] Q := by
  refine z_ist_n dX10_longest_69 rfl (by decide) (lv' := [(0, vr (some (a0, 9, 0))), (1, vi l1), (2, vi l2), (3, vi s0)]) rfl ?_
  refine z_iload_n dX10_longest_70 rfl rfl ?_
  refine z_iconst (v := -1) dX10_longest_71 rfl ?_
  refine z_icmp_ne (tgt := 79) dX10_longest_72 rfl (fun h_ => ?_) (fun h_ => ?_)
  · have k := zif h_ k
    refine z_iload_n dX10_longest_79 rfl rfl ?_
    refine z_ist_n dX10_longest_80 rfl (by decide) (lv' := [(0, vr (some (a0, 9, 0))), (1, vi s0), (2, vi l2), (3, vi s0)]) rfl ?_
    refine z_inc (v := (l2 + (1 : Int32))) dX10_longest_81 rfl rfl (by decide) (lv' := [(0, vr (some (a0, 9, 0))), (1, vi s0), (2, vi (l2 + (1 : Int32))), (3, vi s0)]) rfl ?_
    refine z_goto (tgt := 11) dX10_longest_84 rfl ?_
    refine Z.pick [0, 1, 2] rfl ?_
    exact k
  · have k := zit h_ k
    refine z_iload_n dX10_longest_75 rfl rfl ?_
    refine z_goto (tgt := 80) dX10_longest_76 rfl ?_
    refine z_ist_n dX10_longest_80 rfl (by decide) (lv' := [(0, vr (some (a0, 9, 0))), (1, vi l1), (2, vi l2), (3, vi s0)]) rfl ?_
    refine z_inc (v := (l2 + (1 : Int32))) dX10_longest_81 rfl rfl (by decide) (lv' := [(0, vr (some (a0, 9, 0))), (1, vi l1), (2, vi (l2 + (1 : Int32))), (3, vi s0)]) rfl ?_
    refine z_goto (tgt := 11) dX10_longest_84 rfl ?_
    refine Z.pick [0, 1, 2] rfl ?_
    exact k
theorem sX10_longest_99 {E : zE} {d : Nat} {Q : zO → zM → Prop} (M : zM) (a0 : Nat) (l1 : Int32) (s0 : Int32) (k : 16 ≤ a0 ∧ (16 ≤ a0 ∧ (if l1 = (-1 : Int32) then (Z E YX10_longest (d + 1) (si (si M a0 3 s0) a0 6 l1) [] 132 [vi (1 : Int32), vi (gi (si (si M a0 3 s0) a0 6 l1) a0 1), vr (some (a0, 9, 0))] Q) else (∃ b1 : Nat, (gr M a0 0) = some (b1, 0, 0) ∧ (∃ b2 : Nat, (gr M b1 7) = some (b2, 2, 0) ∧ (Z E YX2_length d (si (si M a0 3 s0) a0 6 l1) (zargs 0 [vr (some (b2, 2, 0)), vi l1]) 0 [] (zafter E YX10_longest (d + 1) [] 129 3 [vi (gi (si (si M a0 3 s0) a0 6 l1) a0 1), vr (some (a0, 9, 0))] Q))))))) : Z E YX10_longest (d + 1) M [(0, vr (some (a0, 9, 0))), (1, vi l1)] 99 [vi s0, vr (some (a0, 9, 0))] Q := by
  obtain ⟨g_, k⟩ := k
  refine z_puti g_ dX10_longest_99 (zfwN.w fwX10_50_9) rfl ⟨rfl, rfl⟩ ?_
  refine z_aload_n dX10_longest_102 rfl rfl ?_
  refine z_iload_n dX10_longest_103 rfl rfl ?_
  obtain ⟨g_, k⟩ := k
  refine z_puti g_ dX10_longest_104 (zfwN.w fwX10_101_9) rfl ⟨rfl, rfl⟩ ?_
  refine z_aload_n dX10_longest_107 rfl rfl ?_
  refine z_dup dX10_longest_108 rfl ?_
  refine z_geti dX10_longest_109 fsX10_34_9 ?_
  refine z_iload_n dX10_longest_112 rfl rfl ?_
  refine z_iconst (v := -1) dX10_longest_113 rfl ?_
  refine z_icmp_ne (tgt := 121) dX10_longest_114 rfl (fun h_ => ?_) (fun h_ => ?_)
  · have k := zif h_ k
    refine z_aload_n dX10_longest_121 rfl rfl ?_
    refine z_getr (r := (gr M a0 0)) dX10_longest_122 fsX10_15_9 rfl ?_
    obtain ⟨b1, e1_, k⟩ := k
    refine Z.eqs (lv' := [(0, vr (some (a0, 9, 0))), (1, vi l1)]) (st' := [vr (some (b1, 0, 0)), vi (gi (si (si M a0 3 s0) a0 6 l1) a0 1), vr (some (a0, 9, 0))]) rfl (by rw [e1_] <;> rfl) ?_
    refine z_getr (r := (gr M b1 7)) dX10_longest_125 fsX10_119_0 rfl ?_
    refine z_iload_n dX10_longest_128 rfl rfl ?_
    obtain ⟨b2, e2_, k⟩ := k
    refine Z.eqs (lv' := [(0, vr (some (a0, 9, 0))), (1, vi l1)]) (st' := [vi l1, vr (some (b2, 2, 0)), vi (gi (si (si M a0 3 s0) a0 6 l1) a0 1), vr (some (a0, 9, 0))]) rfl (by rw [e2_] <;> rfl) ?_
    refine Z.pick [] rfl ?_
    exact z_callV (as := [vi l1]) (st := [vi (gi (si (si M a0 3 s0) a0 6 l1) a0 1), vr (some (a0, 9, 0))]) dX10_longest_129 vsX10_122_2 (Nat.le_refl _) (Nat.le_of_ble_eq_true rfl) (Nat.le_of_ble_eq_true rfl) rfl k
  · have k := zit h_ k
    refine z_iconst (v := 1) dX10_longest_117 rfl ?_
    refine z_goto (tgt := 132) dX10_longest_118 rfl ?_
    refine Z.pick [] rfl ?_
    exact k
theorem sX10_longest_132 {E : zE} {d : Nat} {Q : zO → zM → Prop} (M : zM) (s0 : Int32) (s1 : Int32) (a0 : Nat) (k : 16 ≤ a0 ∧ (Q (.inl none) (si M a0 1 (s1 + s0)))) : Z E YX10_longest (d + 1) M [] 132 [vi s0, vi s1, vr (some (a0, 9, 0))] Q := by
  refine z_iadd dX10_longest_132 ?_
  obtain ⟨g_, k⟩ := k
  refine z_puti g_ dX10_longest_133 (zfwN.w fwX10_34_9) rfl ⟨rfl, rfl⟩ ?_
  exact z_vret dX10_longest_136 rfl k
/-! ScriptTypes$Tokens.fault(I)LScriptTypes$Fault; -/
theorem bX10_fault_0 : zdec cX10_fault 0 [(0, .new 19, 3), (3, .dup, 1), (4, .iload_n 1, 1), (5, .bipush 8, 2), (7, .aload_n 0, 1), (8, .getfield 21, 3), (11, .imul, 1), (12, .iadd, 1), (13, .invokespecial 24, 3), (16, .areturn, 1)] = true := by decide +kernel
theorem dX10_fault_0 : decode cX10_fault 0 = .ok (.new 19, 3) := zdec_at bX10_fault_0 0 rfl
theorem dX10_fault_3 : decode cX10_fault 3 = .ok (.dup, 1) := zdec_at bX10_fault_0 1 rfl
theorem dX10_fault_4 : decode cX10_fault 4 = .ok (.iload_n 1, 1) := zdec_at bX10_fault_0 2 rfl
theorem dX10_fault_5 : decode cX10_fault 5 = .ok (.bipush 8, 2) := zdec_at bX10_fault_0 3 rfl
theorem dX10_fault_7 : decode cX10_fault 7 = .ok (.aload_n 0, 1) := zdec_at bX10_fault_0 4 rfl
theorem dX10_fault_8 : decode cX10_fault 8 = .ok (.getfield 21, 3) := zdec_at bX10_fault_0 5 rfl
theorem dX10_fault_11 : decode cX10_fault 11 = .ok (.imul, 1) := zdec_at bX10_fault_0 6 rfl
theorem dX10_fault_12 : decode cX10_fault 12 = .ok (.iadd, 1) := zdec_at bX10_fault_0 7 rfl
theorem dX10_fault_13 : decode cX10_fault 13 = .ok (.invokespecial 24, 3) := zdec_at bX10_fault_0 8 rfl
theorem dX10_fault_16 : decode cX10_fault 16 = .ok (.areturn, 1) := zdec_at bX10_fault_0 9 rfl
theorem sX10_fault_0 {E : zE} {d : Nat} {Q : zO → zM → Prop} (M : zM) (a0 : Nat) (l1 : Int32) (k : Z E YX10_fault (d + 1) (zn M 7) [(0, vr (some (a0, 9, 0))), (1, vi l1)] 3 [vr (some ((zsz M), 12, 0))] Q) : Z E YX10_fault (d + 1) M [(0, vr (some (a0, 9, 0))), (1, vi l1)] 0 [] Q := by
  refine z_new dX10_fault_0 csX10_19 zff_12 ?_
  exact k
theorem sX10_fault_3 {E : zE} {d : Nat} {Q : zO → zM → Prop} (M : zM) (a0 : Nat) (l1 : Int32) (p0 : Nat) (k : Z E YX12_init d M (zargs 0 [vr (some (p0, 12, 0)), vi (l1 + ((8 : Int32) * (gi M a0 4)))]) 0 [] (zafter E YX10_fault (d + 1) [] 13 3 [vr (some (p0, 12, 0))] Q)) : Z E YX10_fault (d + 1) M [(0, vr (some (a0, 9, 0))), (1, vi l1)] 3 [vr (some (p0, 12, 0))] Q := by
  refine z_dup dX10_fault_3 rfl ?_
  refine z_iload_n dX10_fault_4 rfl rfl ?_
  refine z_bipush (v := 8) dX10_fault_5 rfl ?_
  refine z_aload_n dX10_fault_7 rfl rfl ?_
  refine z_geti dX10_fault_8 fsX10_21_9 ?_
  refine z_imul dX10_fault_11 ?_
  refine z_iadd dX10_fault_12 ?_
  refine Z.pick [] rfl ?_
  exact z_callI (as := [vi (l1 + ((8 : Int32) * (gi M a0 4)))]) (st := [vr (some (p0, 12, 0))]) dX10_fault_13 isX10_24 (Nat.le_refl _) (Nat.le_of_ble_eq_true rfl) (Nat.le_of_ble_eq_true rfl) rfl k
theorem sX10_fault_16 {E : zE} {d : Nat} {Q : zO → zM → Prop} (M : zM) (p0 : Nat) (k : Q (.inl (some (vr (some (p0, 12, 0))))) M) : Z E YX10_fault (d + 1) M [] 16 [vr (some (p0, 12, 0))] Q := by
  exact z_aret dX10_fault_16 rfl rfl k
/-! ScriptTypes$Tokens.isWord(I)Z -/
theorem bX10_isWord_0 : zdec cX10_isWord 0 [(0, .aload_n 0, 1), (1, .getfield 50, 3), (4, .iconst 2, 1), (5, .if_icmp .ne 15, 3), (8, .aload_n 0, 1), (9, .getfield 101, 3), (12, .iload_n 1, 1), (13, .if_icmp .ne 7, 3), (16, .iconst 1, 1), (17, .goto 4, 3), (20, .iconst 0, 1), (21, .ireturn, 1)] = true := by decide +kernel
theorem dX10_isWord_0 : decode cX10_isWord 0 = .ok (.aload_n 0, 1) := zdec_at bX10_isWord_0 0 rfl
theorem dX10_isWord_1 : decode cX10_isWord 1 = .ok (.getfield 50, 3) := zdec_at bX10_isWord_0 1 rfl
theorem dX10_isWord_4 : decode cX10_isWord 4 = .ok (.iconst 2, 1) := zdec_at bX10_isWord_0 2 rfl
theorem dX10_isWord_5 : decode cX10_isWord 5 = .ok (.if_icmp .ne 15, 3) := zdec_at bX10_isWord_0 3 rfl
theorem dX10_isWord_8 : decode cX10_isWord 8 = .ok (.aload_n 0, 1) := zdec_at bX10_isWord_0 4 rfl
theorem dX10_isWord_9 : decode cX10_isWord 9 = .ok (.getfield 101, 3) := zdec_at bX10_isWord_0 5 rfl
theorem dX10_isWord_12 : decode cX10_isWord 12 = .ok (.iload_n 1, 1) := zdec_at bX10_isWord_0 6 rfl
theorem dX10_isWord_13 : decode cX10_isWord 13 = .ok (.if_icmp .ne 7, 3) := zdec_at bX10_isWord_0 7 rfl
theorem dX10_isWord_16 : decode cX10_isWord 16 = .ok (.iconst 1, 1) := zdec_at bX10_isWord_0 8 rfl
theorem dX10_isWord_17 : decode cX10_isWord 17 = .ok (.goto 4, 3) := zdec_at bX10_isWord_0 9 rfl
theorem dX10_isWord_20 : decode cX10_isWord 20 = .ok (.iconst 0, 1) := zdec_at bX10_isWord_0 10 rfl
theorem dX10_isWord_21 : decode cX10_isWord 21 = .ok (.ireturn, 1) := zdec_at bX10_isWord_0 11 rfl
theorem sX10_isWord_0 {E : zE} {d : Nat} {Q : zO → zM → Prop} (M : zM) (a0 : Nat) (l1 : Int32) (k : if (gi M a0 3) = (2 : Int32) then (if (gi M a0 6) = l1 then (Q (.inl (some (vi (1 : Int32)))) M) else (Q (.inl (some (vi (0 : Int32)))) M)) else (Q (.inl (some (vi (0 : Int32)))) M)) : Z E YX10_isWord d M [(0, vr (some (a0, 9, 0))), (1, vi l1)] 0 [] Q := by
  refine z_aload_n dX10_isWord_0 rfl rfl ?_
  refine z_geti dX10_isWord_1 fsX10_50_9 ?_
  refine z_iconst (v := 2) dX10_isWord_4 rfl ?_
  refine z_icmp_ne (tgt := 20) dX10_isWord_5 rfl (fun h_ => ?_) (fun h_ => ?_)
  · have k := zif h_ k
    refine z_iconst (v := 0) dX10_isWord_20 rfl ?_
    exact z_iret dX10_isWord_21 rfl (by decide) k
  · have k := zit h_ k
    refine z_aload_n dX10_isWord_8 rfl rfl ?_
    refine z_geti dX10_isWord_9 fsX10_101_9 ?_
    refine z_iload_n dX10_isWord_12 rfl rfl ?_
    refine z_icmp_ne (tgt := 20) dX10_isWord_13 rfl (fun h_ => ?_) (fun h_ => ?_)
    · have k := zif h_ k
      refine z_iconst (v := 0) dX10_isWord_20 rfl ?_
      exact z_iret dX10_isWord_21 rfl (by decide) k
    · have k := zit h_ k
      refine z_iconst (v := 1) dX10_isWord_16 rfl ?_
      refine z_goto (tgt := 21) dX10_isWord_17 rfl ?_
      exact z_iret dX10_isWord_21 rfl (by decide) k
/-! ScriptTypes$Tokens.needName()I -/
theorem bX10_needName_0 : zdec cX10_needName 0 [(0, .aload_n 0, 1), (1, .getfield 50, 3), (4, .iconst 1, 1), (5, .if_icmp .eq 9, 3), (8, .aload_n 0, 1), (9, .iconst 2, 1), (10, .invokevirtual 72, 3), (13, .athrow, 1), (14, .aload_n 0, 1), (15, .getfield 101, 3), (18, .istore_n 1, 1), (19, .aload_n 0, 1), (20, .invokevirtual 133, 3), (23, .iload_n 1, 1), (24, .ireturn, 1)] = true := by decide +kernel
theorem dX10_needName_0 : decode cX10_needName 0 = .ok (.aload_n 0, 1) := zdec_at bX10_needName_0 0 rfl
theorem dX10_needName_1 : decode cX10_needName 1 = .ok (.getfield 50, 3) := zdec_at bX10_needName_0 1 rfl
theorem dX10_needName_4 : decode cX10_needName 4 = .ok (.iconst 1, 1) := zdec_at bX10_needName_0 2 rfl
theorem dX10_needName_5 : decode cX10_needName 5 = .ok (.if_icmp .eq 9, 3) := zdec_at bX10_needName_0 3 rfl
theorem dX10_needName_8 : decode cX10_needName 8 = .ok (.aload_n 0, 1) := zdec_at bX10_needName_0 4 rfl
theorem dX10_needName_9 : decode cX10_needName 9 = .ok (.iconst 2, 1) := zdec_at bX10_needName_0 5 rfl
theorem dX10_needName_10 : decode cX10_needName 10 = .ok (.invokevirtual 72, 3) := zdec_at bX10_needName_0 6 rfl
theorem dX10_needName_13 : decode cX10_needName 13 = .ok (.athrow, 1) := zdec_at bX10_needName_0 7 rfl
theorem dX10_needName_14 : decode cX10_needName 14 = .ok (.aload_n 0, 1) := zdec_at bX10_needName_0 8 rfl
theorem dX10_needName_15 : decode cX10_needName 15 = .ok (.getfield 101, 3) := zdec_at bX10_needName_0 9 rfl
theorem dX10_needName_18 : decode cX10_needName 18 = .ok (.istore_n 1, 1) := zdec_at bX10_needName_0 10 rfl
theorem dX10_needName_19 : decode cX10_needName 19 = .ok (.aload_n 0, 1) := zdec_at bX10_needName_0 11 rfl
theorem dX10_needName_20 : decode cX10_needName 20 = .ok (.invokevirtual 133, 3) := zdec_at bX10_needName_0 12 rfl
theorem dX10_needName_23 : decode cX10_needName 23 = .ok (.iload_n 1, 1) := zdec_at bX10_needName_0 13 rfl
theorem dX10_needName_24 : decode cX10_needName 24 = .ok (.ireturn, 1) := zdec_at bX10_needName_0 14 rfl
theorem sX10_needName_0 {E : zE} {d : Nat} {Q : zO → zM → Prop} (M : zM) (a0 : Nat) (k : if (gi M a0 3) = (1 : Int32) then (Z E YX10_next d M (zargs 0 [vr (some (a0, 9, 0))]) 0 [] (zafter E YX10_needName (d + 1) [(1, vi (gi M a0 6))] 20 3 [] Q)) else (Z E YX10_fault d M (zargs 0 [vr (some (a0, 9, 0)), vi (2 : Int32)]) 0 [] (zafter E YX10_needName (d + 1) [] 10 3 [] Q))) : Z E YX10_needName (d + 1) M [(0, vr (some (a0, 9, 0)))] 0 [] Q := by
  refine z_aload_n dX10_needName_0 rfl rfl ?_
  refine z_geti dX10_needName_1 fsX10_50_9 ?_
  refine z_iconst (v := 1) dX10_needName_4 rfl ?_
  refine z_icmp_eq (tgt := 14) dX10_needName_5 rfl (fun h_ => ?_) (fun h_ => ?_)
  · have k := zit h_ k
    refine z_aload_n dX10_needName_14 rfl rfl ?_
    refine z_geti dX10_needName_15 fsX10_101_9 ?_
    refine z_ist_n dX10_needName_18 rfl (by decide) (lv' := [(0, vr (some (a0, 9, 0))), (1, vi (gi M a0 6))]) rfl ?_
    refine z_aload_n dX10_needName_19 rfl rfl ?_
    refine Z.pick [1] rfl ?_
    exact z_callV (as := []) (st := []) dX10_needName_20 vsX10_133_9 (Nat.le_refl _) (Nat.le_of_ble_eq_true rfl) (Nat.le_of_ble_eq_true rfl) rfl k
  · have k := zif h_ k
    refine z_aload_n dX10_needName_8 rfl rfl ?_
    refine z_iconst (v := 2) dX10_needName_9 rfl ?_
    refine Z.pick [] rfl ?_
    exact z_callV (as := [vi (2 : Int32)]) (st := []) dX10_needName_10 vsX10_72_9 (Nat.le_refl _) (Nat.le_of_ble_eq_true rfl) (Nat.le_of_ble_eq_true rfl) rfl k
theorem sX10_needName_13 {E : zE} {d : Nat} {Q : zO → zM → Prop} (M : zM) (u0 : Option zP) (k : ∃ b1 : Nat, u0 = some (b1, 12, 0) ∧ (Q (.inr (b1, 12, 0)) M)) : Z E YX10_needName (d + 1) M [] 13 [vr u0] Q := by
  obtain ⟨b1, e1_, k⟩ := k
  refine Z.eqs (lv' := []) (st' := [vr (some (b1, 12, 0))]) rfl (by rw [e1_] <;> rfl) ?_
  exact z_athrow dX10_needName_13 (ZT.out (by decide) k)
theorem sX10_needName_23 {E : zE} {d : Nat} {Q : zO → zM → Prop} (M : zM) (l1 : Int32) (k : Q (.inl (some (vi l1))) M) : Z E YX10_needName (d + 1) M [(1, vi l1)] 23 [] Q := by
  refine z_iload_n dX10_needName_23 rfl rfl ?_
  exact z_iret dX10_needName_24 rfl rfl k
/-! ScriptTypes$Tokens.is(I)Z -/
theorem bX10_is_0 : zdec cX10_is 0 [(0, .aload_n 0, 1), (1, .getfield 50, 3), (4, .iconst 5, 1), (5, .if_icmp .ne 15, 3), (8, .aload_n 0, 1), (9, .getfield 101, 3), (12, .iload_n 1, 1), (13, .if_icmp .ne 7, 3), (16, .iconst 1, 1), (17, .goto 4, 3), (20, .iconst 0, 1), (21, .ireturn, 1)] = true := by decide +kernel
theorem dX10_is_0 : decode cX10_is 0 = .ok (.aload_n 0, 1) := zdec_at bX10_is_0 0 rfl
theorem dX10_is_1 : decode cX10_is 1 = .ok (.getfield 50, 3) := zdec_at bX10_is_0 1 rfl
theorem dX10_is_4 : decode cX10_is 4 = .ok (.iconst 5, 1) := zdec_at bX10_is_0 2 rfl
theorem dX10_is_5 : decode cX10_is 5 = .ok (.if_icmp .ne 15, 3) := zdec_at bX10_is_0 3 rfl
theorem dX10_is_8 : decode cX10_is 8 = .ok (.aload_n 0, 1) := zdec_at bX10_is_0 4 rfl
theorem dX10_is_9 : decode cX10_is 9 = .ok (.getfield 101, 3) := zdec_at bX10_is_0 5 rfl
theorem dX10_is_12 : decode cX10_is 12 = .ok (.iload_n 1, 1) := zdec_at bX10_is_0 6 rfl
theorem dX10_is_13 : decode cX10_is 13 = .ok (.if_icmp .ne 7, 3) := zdec_at bX10_is_0 7 rfl
theorem dX10_is_16 : decode cX10_is 16 = .ok (.iconst 1, 1) := zdec_at bX10_is_0 8 rfl
theorem dX10_is_17 : decode cX10_is 17 = .ok (.goto 4, 3) := zdec_at bX10_is_0 9 rfl
theorem dX10_is_20 : decode cX10_is 20 = .ok (.iconst 0, 1) := zdec_at bX10_is_0 10 rfl
theorem dX10_is_21 : decode cX10_is 21 = .ok (.ireturn, 1) := zdec_at bX10_is_0 11 rfl
theorem sX10_is_0 {E : zE} {d : Nat} {Q : zO → zM → Prop} (M : zM) (a0 : Nat) (l1 : Int32) (k : if (gi M a0 3) = (5 : Int32) then (if (gi M a0 6) = l1 then (Q (.inl (some (vi (1 : Int32)))) M) else (Q (.inl (some (vi (0 : Int32)))) M)) else (Q (.inl (some (vi (0 : Int32)))) M)) : Z E YX10_is d M [(0, vr (some (a0, 9, 0))), (1, vi l1)] 0 [] Q := by
  refine z_aload_n dX10_is_0 rfl rfl ?_
  refine z_geti dX10_is_1 fsX10_50_9 ?_
  refine z_iconst (v := 5) dX10_is_4 rfl ?_
  refine z_icmp_ne (tgt := 20) dX10_is_5 rfl (fun h_ => ?_) (fun h_ => ?_)
  · have k := zif h_ k
    refine z_iconst (v := 0) dX10_is_20 rfl ?_
    exact z_iret dX10_is_21 rfl (by decide) k
  · have k := zit h_ k
    refine z_aload_n dX10_is_8 rfl rfl ?_
    refine z_geti dX10_is_9 fsX10_101_9 ?_
    refine z_iload_n dX10_is_12 rfl rfl ?_
    refine z_icmp_ne (tgt := 20) dX10_is_13 rfl (fun h_ => ?_) (fun h_ => ?_)
    · have k := zif h_ k
      refine z_iconst (v := 0) dX10_is_20 rfl ?_
      exact z_iret dX10_is_21 rfl (by decide) k
    · have k := zit h_ k
      refine z_iconst (v := 1) dX10_is_16 rfl ?_
      refine z_goto (tgt := 21) dX10_is_17 rfl ?_
      exact z_iret dX10_is_21 rfl (by decide) k
/-! ScriptTypes$Tokens.need(I)V -/
theorem bX10_need_0 : zdec cX10_need 0 [(0, .aload_n 0, 1), (1, .iload_n 1, 1), (2, .invokevirtual 139, 3), (5, .ifCond .ne 9, 3), (8, .aload_n 0, 1), (9, .iconst 2, 1), (10, .invokevirtual 72, 3), (13, .athrow, 1), (14, .return_, 1)] = true := by decide +kernel
theorem dX10_need_0 : decode cX10_need 0 = .ok (.aload_n 0, 1) := zdec_at bX10_need_0 0 rfl
theorem dX10_need_1 : decode cX10_need 1 = .ok (.iload_n 1, 1) := zdec_at bX10_need_0 1 rfl
theorem dX10_need_2 : decode cX10_need 2 = .ok (.invokevirtual 139, 3) := zdec_at bX10_need_0 2 rfl
theorem dX10_need_5 : decode cX10_need 5 = .ok (.ifCond .ne 9, 3) := zdec_at bX10_need_0 3 rfl
theorem dX10_need_8 : decode cX10_need 8 = .ok (.aload_n 0, 1) := zdec_at bX10_need_0 4 rfl
theorem dX10_need_9 : decode cX10_need 9 = .ok (.iconst 2, 1) := zdec_at bX10_need_0 5 rfl
theorem dX10_need_10 : decode cX10_need 10 = .ok (.invokevirtual 72, 3) := zdec_at bX10_need_0 6 rfl
theorem dX10_need_13 : decode cX10_need 13 = .ok (.athrow, 1) := zdec_at bX10_need_0 7 rfl
theorem dX10_need_14 : decode cX10_need 14 = .ok (.return_, 1) := zdec_at bX10_need_0 8 rfl
theorem sX10_need_0 {E : zE} {d : Nat} {Q : zO → zM → Prop} (M : zM) (a0 : Nat) (l1 : Int32) (k : Z E YX10_takes d M (zargs 0 [vr (some (a0, 9, 0)), vi l1]) 0 [] (zafter E YX10_need (d + 1) [(0, vr (some (a0, 9, 0)))] 2 3 [] Q)) : Z E YX10_need (d + 1) M [(0, vr (some (a0, 9, 0))), (1, vi l1)] 0 [] Q := by
  refine z_aload_n dX10_need_0 rfl rfl ?_
  refine z_iload_n dX10_need_1 rfl rfl ?_
  refine Z.pick [0] rfl ?_
  exact z_callV (as := [vi l1]) (st := []) dX10_need_2 vsX10_139_9 (Nat.le_refl _) (Nat.le_of_ble_eq_true rfl) (Nat.le_of_ble_eq_true rfl) rfl k
theorem sX10_need_5 {E : zE} {d : Nat} {Q : zO → zM → Prop} (M : zM) (a0 : Nat) (s0 : Int32) (k : if s0 = 0 then (Z E YX10_fault d M (zargs 0 [vr (some (a0, 9, 0)), vi (2 : Int32)]) 0 [] (zafter E YX10_need (d + 1) [] 10 3 [] Q)) else (Q (.inl none) M)) : Z E YX10_need (d + 1) M [(0, vr (some (a0, 9, 0)))] 5 [vi s0] Q := by
  refine z_if_ne (tgt := 14) dX10_need_5 rfl (fun h_ => ?_) (fun h_ => ?_)
  · have k := zif h_ k
    exact z_vret dX10_need_14 rfl k
  · have k := zit h_ k
    refine z_aload_n dX10_need_8 rfl rfl ?_
    refine z_iconst (v := 2) dX10_need_9 rfl ?_
    refine Z.pick [] rfl ?_
    exact z_callV (as := [vi (2 : Int32)]) (st := []) dX10_need_10 vsX10_72_9 (Nat.le_refl _) (Nat.le_of_ble_eq_true rfl) (Nat.le_of_ble_eq_true rfl) rfl k
theorem sX10_need_13 {E : zE} {d : Nat} {Q : zO → zM → Prop} (M : zM) (u0 : Option zP) (k : ∃ b1 : Nat, u0 = some (b1, 12, 0) ∧ (Q (.inr (b1, 12, 0)) M)) : Z E YX10_need (d + 1) M [] 13 [vr u0] Q := by
  obtain ⟨b1, e1_, k⟩ := k
  refine Z.eqs (lv' := []) (st' := [vr (some (b1, 12, 0))]) rfl (by rw [e1_] <;> rfl) ?_
  exact z_athrow dX10_need_13 (ZT.out (by decide) k)
/-! ScriptTypes$Tokens.takes(I)Z -/
theorem bX10_takes_0 : zdec cX10_takes 0 [(0, .aload_n 0, 1), (1, .iload_n 1, 1), (2, .invokevirtual 130, 3), (5, .ifCond .ne 5, 3), (8, .iconst 0, 1), (9, .ireturn, 1), (10, .aload_n 0, 1), (11, .invokevirtual 133, 3), (14, .iconst 1, 1), (15, .ireturn, 1)] = true := by decide +kernel
theorem dX10_takes_0 : decode cX10_takes 0 = .ok (.aload_n 0, 1) := zdec_at bX10_takes_0 0 rfl
theorem dX10_takes_1 : decode cX10_takes 1 = .ok (.iload_n 1, 1) := zdec_at bX10_takes_0 1 rfl
theorem dX10_takes_2 : decode cX10_takes 2 = .ok (.invokevirtual 130, 3) := zdec_at bX10_takes_0 2 rfl
theorem dX10_takes_5 : decode cX10_takes 5 = .ok (.ifCond .ne 5, 3) := zdec_at bX10_takes_0 3 rfl
theorem dX10_takes_8 : decode cX10_takes 8 = .ok (.iconst 0, 1) := zdec_at bX10_takes_0 4 rfl
theorem dX10_takes_9 : decode cX10_takes 9 = .ok (.ireturn, 1) := zdec_at bX10_takes_0 5 rfl
theorem dX10_takes_10 : decode cX10_takes 10 = .ok (.aload_n 0, 1) := zdec_at bX10_takes_0 6 rfl
theorem dX10_takes_11 : decode cX10_takes 11 = .ok (.invokevirtual 133, 3) := zdec_at bX10_takes_0 7 rfl
theorem dX10_takes_14 : decode cX10_takes 14 = .ok (.iconst 1, 1) := zdec_at bX10_takes_0 8 rfl
theorem dX10_takes_15 : decode cX10_takes 15 = .ok (.ireturn, 1) := zdec_at bX10_takes_0 9 rfl
theorem sX10_takes_0 {E : zE} {d : Nat} {Q : zO → zM → Prop} (M : zM) (a0 : Nat) (l1 : Int32) (k : Z E YX10_is d M (zargs 0 [vr (some (a0, 9, 0)), vi l1]) 0 [] (zafter E YX10_takes (d + 1) [(0, vr (some (a0, 9, 0)))] 2 3 [] Q)) : Z E YX10_takes (d + 1) M [(0, vr (some (a0, 9, 0))), (1, vi l1)] 0 [] Q := by
  refine z_aload_n dX10_takes_0 rfl rfl ?_
  refine z_iload_n dX10_takes_1 rfl rfl ?_
  refine Z.pick [0] rfl ?_
  exact z_callV (as := [vi l1]) (st := []) dX10_takes_2 vsX10_130_9 (Nat.le_refl _) (Nat.le_of_ble_eq_true rfl) (Nat.le_of_ble_eq_true rfl) rfl k
theorem sX10_takes_5 {E : zE} {d : Nat} {Q : zO → zM → Prop} (M : zM) (a0 : Nat) (s0 : Int32) (k : if s0 = 0 then (Q (.inl (some (vi (0 : Int32)))) M) else (Z E YX10_next d M (zargs 0 [vr (some (a0, 9, 0))]) 0 [] (zafter E YX10_takes (d + 1) [] 11 3 [] Q))) : Z E YX10_takes (d + 1) M [(0, vr (some (a0, 9, 0)))] 5 [vi s0] Q := by
  refine z_if_ne (tgt := 10) dX10_takes_5 rfl (fun h_ => ?_) (fun h_ => ?_)
  · have k := zif h_ k
    refine z_aload_n dX10_takes_10 rfl rfl ?_
    refine Z.pick [] rfl ?_
    exact z_callV (as := []) (st := []) dX10_takes_11 vsX10_133_9 (Nat.le_refl _) (Nat.le_of_ble_eq_true rfl) (Nat.le_of_ble_eq_true rfl) rfl k
  · have k := zit h_ k
    refine z_iconst (v := 0) dX10_takes_8 rfl ?_
    exact z_iret dX10_takes_9 rfl (by decide) k
theorem sX10_takes_14 {E : zE} {d : Nat} {Q : zO → zM → Prop} (M : zM)  (k : Q (.inl (some (vi (1 : Int32)))) M) : Z E YX10_takes (d + 1) M [] 14 [] Q := by
  refine z_iconst (v := 1) dX10_takes_14 rfl ?_
  exact z_iret dX10_takes_15 rfl (by decide) k
/-! ScriptTypes$Tokens.key()I -/
theorem bX10_key_0 : zdec cX10_key 0 [(0, .aload_n 0, 1), (1, .getfield 50, 3), (4, .iconst 2, 1), (5, .if_icmp .ne 69, 3), (8, .aload_n 0, 1), (9, .getfield 15, 3), (12, .invokevirtual 76, 3), (15, .iconst 0, 1), (16, .istore_n 1, 1), (17, .iload_n 1, 1), (18, .aload_n 0, 1), (19, .getfield 15, 3), (22, .getfield 85, 3), (25, .aload_n 0, 1), (26, .getfield 101, 3), (29, .invokevirtual 122, 3)] = true := by decide +kernel
theorem dX10_key_0 : decode cX10_key 0 = .ok (.aload_n 0, 1) := zdec_at bX10_key_0 0 rfl
theorem dX10_key_1 : decode cX10_key 1 = .ok (.getfield 50, 3) := zdec_at bX10_key_0 1 rfl
theorem dX10_key_4 : decode cX10_key 4 = .ok (.iconst 2, 1) := zdec_at bX10_key_0 2 rfl
theorem dX10_key_5 : decode cX10_key 5 = .ok (.if_icmp .ne 69, 3) := zdec_at bX10_key_0 3 rfl
theorem dX10_key_8 : decode cX10_key 8 = .ok (.aload_n 0, 1) := zdec_at bX10_key_0 4 rfl
theorem dX10_key_9 : decode cX10_key 9 = .ok (.getfield 15, 3) := zdec_at bX10_key_0 5 rfl
theorem dX10_key_12 : decode cX10_key 12 = .ok (.invokevirtual 76, 3) := zdec_at bX10_key_0 6 rfl
theorem dX10_key_15 : decode cX10_key 15 = .ok (.iconst 0, 1) := zdec_at bX10_key_0 7 rfl
theorem dX10_key_16 : decode cX10_key 16 = .ok (.istore_n 1, 1) := zdec_at bX10_key_0 8 rfl
theorem dX10_key_17 : decode cX10_key 17 = .ok (.iload_n 1, 1) := zdec_at bX10_key_0 9 rfl
theorem dX10_key_18 : decode cX10_key 18 = .ok (.aload_n 0, 1) := zdec_at bX10_key_0 10 rfl
theorem dX10_key_19 : decode cX10_key 19 = .ok (.getfield 15, 3) := zdec_at bX10_key_0 11 rfl
theorem dX10_key_22 : decode cX10_key 22 = .ok (.getfield 85, 3) := zdec_at bX10_key_0 12 rfl
theorem dX10_key_25 : decode cX10_key 25 = .ok (.aload_n 0, 1) := zdec_at bX10_key_0 13 rfl
theorem dX10_key_26 : decode cX10_key 26 = .ok (.getfield 101, 3) := zdec_at bX10_key_0 14 rfl
theorem dX10_key_29 : decode cX10_key 29 = .ok (.invokevirtual 122, 3) := zdec_at bX10_key_0 15 rfl
theorem bX10_key_32 : zdec cX10_key 32 [(32, .if_icmp .ge 31, 3), (35, .aload_n 0, 1), (36, .getfield 15, 3), (39, .aload_n 0, 1), (40, .getfield 15, 3), (43, .getfield 85, 3), (46, .aload_n 0, 1), (47, .getfield 101, 3), (50, .iload_n 1, 1), (51, .invokevirtual 145, 3), (54, .invokevirtual 82, 3), (57, .iinc 1 1, 3), (60, .goto (-43), 3), (63, .aload_n 0, 1), (64, .aload_n 0, 1), (65, .invokevirtual 104, 3)] = true := by decide +kernel
theorem dX10_key_32 : decode cX10_key 32 = .ok (.if_icmp .ge 31, 3) := zdec_at bX10_key_32 0 rfl
theorem dX10_key_35 : decode cX10_key 35 = .ok (.aload_n 0, 1) := zdec_at bX10_key_32 1 rfl
theorem dX10_key_36 : decode cX10_key 36 = .ok (.getfield 15, 3) := zdec_at bX10_key_32 2 rfl
theorem dX10_key_39 : decode cX10_key 39 = .ok (.aload_n 0, 1) := zdec_at bX10_key_32 3 rfl
theorem dX10_key_40 : decode cX10_key 40 = .ok (.getfield 15, 3) := zdec_at bX10_key_32 4 rfl
theorem dX10_key_43 : decode cX10_key 43 = .ok (.getfield 85, 3) := zdec_at bX10_key_32 5 rfl
theorem dX10_key_46 : decode cX10_key 46 = .ok (.aload_n 0, 1) := zdec_at bX10_key_32 6 rfl
theorem dX10_key_47 : decode cX10_key 47 = .ok (.getfield 101, 3) := zdec_at bX10_key_32 7 rfl
theorem dX10_key_50 : decode cX10_key 50 = .ok (.iload_n 1, 1) := zdec_at bX10_key_32 8 rfl
theorem dX10_key_51 : decode cX10_key 51 = .ok (.invokevirtual 145, 3) := zdec_at bX10_key_32 9 rfl
theorem dX10_key_54 : decode cX10_key 54 = .ok (.invokevirtual 82, 3) := zdec_at bX10_key_32 10 rfl
theorem dX10_key_57 : decode cX10_key 57 = .ok (.iinc 1 1, 3) := zdec_at bX10_key_32 11 rfl
theorem dX10_key_60 : decode cX10_key 60 = .ok (.goto (-43), 3) := zdec_at bX10_key_32 12 rfl
theorem dX10_key_63 : decode cX10_key 63 = .ok (.aload_n 0, 1) := zdec_at bX10_key_32 13 rfl
theorem dX10_key_64 : decode cX10_key 64 = .ok (.aload_n 0, 1) := zdec_at bX10_key_32 14 rfl
theorem dX10_key_65 : decode cX10_key 65 = .ok (.invokevirtual 104, 3) := zdec_at bX10_key_32 15 rfl
theorem bX10_key_68 : zdec cX10_key 68 [(68, .putfield 101, 3), (71, .goto 17, 3), (74, .aload_n 0, 1), (75, .getfield 50, 3), (78, .iconst 1, 1), (79, .if_icmp .eq 9, 3), (82, .aload_n 0, 1), (83, .iconst 2, 1), (84, .invokevirtual 72, 3), (87, .athrow, 1), (88, .aload_n 0, 1), (89, .getfield 101, 3), (92, .istore_n 1, 1), (93, .aload_n 0, 1), (94, .invokevirtual 133, 3), (97, .iload_n 1, 1)] = true := by decide +kernel
theorem dX10_key_68 : decode cX10_key 68 = .ok (.putfield 101, 3) := zdec_at bX10_key_68 0 rfl
theorem dX10_key_71 : decode cX10_key 71 = .ok (.goto 17, 3) := zdec_at bX10_key_68 1 rfl
theorem dX10_key_74 : decode cX10_key 74 = .ok (.aload_n 0, 1) := zdec_at bX10_key_68 2 rfl
theorem dX10_key_75 : decode cX10_key 75 = .ok (.getfield 50, 3) := zdec_at bX10_key_68 3 rfl
theorem dX10_key_78 : decode cX10_key 78 = .ok (.iconst 1, 1) := zdec_at bX10_key_68 4 rfl
theorem dX10_key_79 : decode cX10_key 79 = .ok (.if_icmp .eq 9, 3) := zdec_at bX10_key_68 5 rfl
theorem dX10_key_82 : decode cX10_key 82 = .ok (.aload_n 0, 1) := zdec_at bX10_key_68 6 rfl
theorem dX10_key_83 : decode cX10_key 83 = .ok (.iconst 2, 1) := zdec_at bX10_key_68 7 rfl
theorem dX10_key_84 : decode cX10_key 84 = .ok (.invokevirtual 72, 3) := zdec_at bX10_key_68 8 rfl
theorem dX10_key_87 : decode cX10_key 87 = .ok (.athrow, 1) := zdec_at bX10_key_68 9 rfl
theorem dX10_key_88 : decode cX10_key 88 = .ok (.aload_n 0, 1) := zdec_at bX10_key_68 10 rfl
theorem dX10_key_89 : decode cX10_key 89 = .ok (.getfield 101, 3) := zdec_at bX10_key_68 11 rfl
theorem dX10_key_92 : decode cX10_key 92 = .ok (.istore_n 1, 1) := zdec_at bX10_key_68 12 rfl
theorem dX10_key_93 : decode cX10_key 93 = .ok (.aload_n 0, 1) := zdec_at bX10_key_68 13 rfl
theorem dX10_key_94 : decode cX10_key 94 = .ok (.invokevirtual 133, 3) := zdec_at bX10_key_68 14 rfl
theorem dX10_key_97 : decode cX10_key 97 = .ok (.iload_n 1, 1) := zdec_at bX10_key_68 15 rfl
theorem bX10_key_98 : zdec cX10_key 98 [(98, .ireturn, 1)] = true := by decide +kernel
theorem dX10_key_98 : decode cX10_key 98 = .ok (.ireturn, 1) := zdec_at bX10_key_98 0 rfl
theorem sX10_key_0 {E : zE} {d : Nat} {Q : zO → zM → Prop} (M : zM) (a0 : Nat) (k : if (gi M a0 3) = (2 : Int32) then (∃ b1 : Nat, (gr M a0 0) = some (b1, 0, 0) ∧ (Z E YX1_clearRow d M (zargs 0 [vr (some (b1, 0, 0))]) 0 [] (zafter E YX10_key (d + 1) [(0, vr (some (a0, 9, 0)))] 12 3 [] Q))) else (if (gi M a0 3) = (1 : Int32) then (Z E YX10_next d M (zargs 0 [vr (some (a0, 9, 0))]) 0 [] (zafter E YX10_key (d + 1) [(1, vi (gi M a0 6))] 94 3 [] Q)) else (Z E YX10_fault d M (zargs 0 [vr (some (a0, 9, 0)), vi (2 : Int32)]) 0 [] (zafter E YX10_key (d + 1) [] 84 3 [] Q)))) : Z E YX10_key (d + 1) M [(0, vr (some (a0, 9, 0)))] 0 [] Q := by
  refine z_aload_n dX10_key_0 rfl rfl ?_
  refine z_geti dX10_key_1 fsX10_50_9 ?_
  refine z_iconst (v := 2) dX10_key_4 rfl ?_
  refine z_icmp_ne (tgt := 74) dX10_key_5 rfl (fun h_ => ?_) (fun h_ => ?_)
  · have k := zif h_ k
    refine z_aload_n dX10_key_74 rfl rfl ?_
    refine z_geti dX10_key_75 fsX10_50_9 ?_
    refine z_iconst (v := 1) dX10_key_78 rfl ?_
    refine z_icmp_eq (tgt := 88) dX10_key_79 rfl (fun h_ => ?_) (fun h_ => ?_)
    · have k := zit h_ k
      refine z_aload_n dX10_key_88 rfl rfl ?_
      refine z_geti dX10_key_89 fsX10_101_9 ?_
      refine z_ist_n dX10_key_92 rfl (by decide) (lv' := [(0, vr (some (a0, 9, 0))), (1, vi (gi M a0 6))]) rfl ?_
      refine z_aload_n dX10_key_93 rfl rfl ?_
      refine Z.pick [1] rfl ?_
      exact z_callV (as := []) (st := []) dX10_key_94 vsX10_133_9 (Nat.le_refl _) (Nat.le_of_ble_eq_true rfl) (Nat.le_of_ble_eq_true rfl) rfl k
    · have k := zif h_ k
      refine z_aload_n dX10_key_82 rfl rfl ?_
      refine z_iconst (v := 2) dX10_key_83 rfl ?_
      refine Z.pick [] rfl ?_
      exact z_callV (as := [vi (2 : Int32)]) (st := []) dX10_key_84 vsX10_72_9 (Nat.le_refl _) (Nat.le_of_ble_eq_true rfl) (Nat.le_of_ble_eq_true rfl) rfl k
  · have k := zit h_ k
    refine z_aload_n dX10_key_8 rfl rfl ?_
    refine z_getr (r := (gr M a0 0)) dX10_key_9 fsX10_15_9 rfl ?_
    obtain ⟨b1, e1_, k⟩ := k
    refine Z.eqs (lv' := [(0, vr (some (a0, 9, 0)))]) (st' := [vr (some (b1, 0, 0))]) rfl (by rw [e1_] <;> rfl) ?_
    exact z_callV (as := []) (st := []) dX10_key_12 vsX10_76_0 (Nat.le_refl _) (Nat.le_of_ble_eq_true rfl) (Nat.le_of_ble_eq_true rfl) rfl k
theorem sX10_key_15 {E : zE} {d : Nat} {Q : zO → zM → Prop} (M : zM) (a0 : Nat) (k : Z E YX10_key (d + 1) M [(0, vr (some (a0, 9, 0))), (1, vi (0 : Int32))] 17 [] Q) : Z E YX10_key (d + 1) M [(0, vr (some (a0, 9, 0)))] 15 [] Q := by
  refine z_iconst (v := 0) dX10_key_15 rfl ?_
  refine z_ist_n dX10_key_16 rfl (by decide) (lv' := [(0, vr (some (a0, 9, 0))), (1, vi (0 : Int32))]) rfl ?_
  exact k
theorem sX10_key_17 {E : zE} {d : Nat} {Q : zO → zM → Prop} (M : zM) (a0 : Nat) (l1 : Int32) (k : ∃ b1 : Nat, (gr M a0 0) = some (b1, 0, 0) ∧ (∃ b2 : Nat, (gr M b1 6) = some (b2, 2, 0) ∧ (Z E YX2_length d M (zargs 0 [vr (some (b2, 2, 0)), vi (gi M a0 6)]) 0 [] (zafter E YX10_key (d + 1) [(0, vr (some (a0, 9, 0))), (1, vi l1)] 29 3 [vi l1] Q)))) : Z E YX10_key (d + 1) M [(0, vr (some (a0, 9, 0))), (1, vi l1)] 17 [] Q := by
  refine z_iload_n dX10_key_17 rfl rfl ?_
  refine z_aload_n dX10_key_18 rfl rfl ?_
  refine z_getr (r := (gr M a0 0)) dX10_key_19 fsX10_15_9 rfl ?_
  obtain ⟨b1, e1_, k⟩ := k
  refine Z.eqs (lv' := [(0, vr (some (a0, 9, 0))), (1, vi l1)]) (st' := [vr (some (b1, 0, 0)), vi l1]) rfl (by rw [e1_] <;> rfl) ?_
  refine z_getr (r := (gr M b1 6)) dX10_key_22 fsX10_85_0 rfl ?_
  refine z_aload_n dX10_key_25 rfl rfl ?_
  refine z_geti dX10_key_26 fsX10_101_9 ?_
  obtain ⟨b2, e2_, k⟩ := k
  refine Z.eqs (lv' := [(0, vr (some (a0, 9, 0))), (1, vi l1)]) (st' := [vi (gi M a0 6), vr (some (b2, 2, 0)), vi l1]) rfl (by rw [e2_] <;> rfl) ?_
  exact z_callV (as := [vi (gi M a0 6)]) (st := [vi l1]) dX10_key_29 vsX10_122_2 (Nat.le_refl _) (Nat.le_of_ble_eq_true rfl) (Nat.le_of_ble_eq_true rfl) rfl k
theorem sX10_key_32 {E : zE} {d : Nat} {Q : zO → zM → Prop} (M : zM) (a0 : Nat) (l1 : Int32) (s0 : Int32) (s1 : Int32) (k : if s0 ≤ s1 then (Z E YX10_name d M (zargs 0 [vr (some (a0, 9, 0))]) 0 [] (zafter E YX10_key (d + 1) [(0, vr (some (a0, 9, 0)))] 65 3 [vr (some (a0, 9, 0))] Q)) else (∃ b1 : Nat, (gr M a0 0) = some (b1, 0, 0) ∧ (∃ b2 : Nat, (gr M b1 6) = some (b2, 2, 0) ∧ (Z E YX2_sign d M (zargs 0 [vr (some (b2, 2, 0)), vi (gi M a0 6), vi l1]) 0 [] (zafter E YX10_key (d + 1) [(0, vr (some (a0, 9, 0))), (1, vi l1)] 51 3 [vr (some (b1, 0, 0))] Q))))) : Z E YX10_key (d + 1) M [(0, vr (some (a0, 9, 0))), (1, vi l1)] 32 [vi s0, vi s1] Q := by
  refine z_icmp_ge (tgt := 63) dX10_key_32 rfl (fun h_ => ?_) (fun h_ => ?_)
  · have k := zit h_ k
    refine z_aload_n dX10_key_63 rfl rfl ?_
    refine z_aload_n dX10_key_64 rfl rfl ?_
    refine Z.pick [0] rfl ?_
    exact z_callV (as := []) (st := [vr (some (a0, 9, 0))]) dX10_key_65 vsX10_104_9 (Nat.le_refl _) (Nat.le_of_ble_eq_true rfl) (Nat.le_of_ble_eq_true rfl) rfl k
  · have k := zif h_ k
    refine z_aload_n dX10_key_35 rfl rfl ?_
    refine z_getr (r := (gr M a0 0)) dX10_key_36 fsX10_15_9 rfl ?_
    refine z_aload_n dX10_key_39 rfl rfl ?_
    refine z_getr (r := (gr M a0 0)) dX10_key_40 fsX10_15_9 rfl ?_
    obtain ⟨b1, e1_, k⟩ := k
    refine Z.eqs (lv' := [(0, vr (some (a0, 9, 0))), (1, vi l1)]) (st' := [vr (some (b1, 0, 0)), vr (some (b1, 0, 0))]) rfl (by rw [e1_] <;> rfl) ?_
    refine z_getr (r := (gr M b1 6)) dX10_key_43 fsX10_85_0 rfl ?_
    refine z_aload_n dX10_key_46 rfl rfl ?_
    refine z_geti dX10_key_47 fsX10_101_9 ?_
    refine z_iload_n dX10_key_50 rfl rfl ?_
    obtain ⟨b2, e2_, k⟩ := k
    refine Z.eqs (lv' := [(0, vr (some (a0, 9, 0))), (1, vi l1)]) (st' := [vi l1, vi (gi M a0 6), vr (some (b2, 2, 0)), vr (some (b1, 0, 0))]) rfl (by rw [e2_] <;> rfl) ?_
    exact z_callV (as := [vi (gi M a0 6), vi l1]) (st := [vr (some (b1, 0, 0))]) dX10_key_51 vsX10_145_2 (Nat.le_refl _) (Nat.le_of_ble_eq_true rfl) (Nat.le_of_ble_eq_true rfl) rfl k
theorem sX10_key_54 {E : zE} {d : Nat} {Q : zO → zM → Prop} (M : zM) (a0 : Nat) (l1 : Int32) (s0 : Int32) (p1 : Nat) (k : Z E YX1_write d M (zargs 0 [vr (some (p1, 0, 0)), vi s0]) 0 [] (zafter E YX10_key (d + 1) [(0, vr (some (a0, 9, 0))), (1, vi l1)] 54 3 [] Q)) : Z E YX10_key (d + 1) M [(0, vr (some (a0, 9, 0))), (1, vi l1)] 54 [vi s0, vr (some (p1, 0, 0))] Q := by
  exact z_callV (as := [vi s0]) (st := []) dX10_key_54 vsX10_82_0 (Nat.le_refl _) (Nat.le_of_ble_eq_true rfl) (Nat.le_of_ble_eq_true rfl) rfl k
theorem sX10_key_57 {E : zE} {d : Nat} {Q : zO → zM → Prop} (M : zM) (a0 : Nat) (l1 : Int32) (k : Z E YX10_key (d + 1) M [(0, vr (some (a0, 9, 0))), (1, vi (l1 + (1 : Int32)))] 17 [] Q) : Z E YX10_key (d + 1) M [(0, vr (some (a0, 9, 0))), (1, vi l1)] 57 [] Q := by
  refine z_inc (v := (l1 + (1 : Int32))) dX10_key_57 rfl rfl (by decide) (lv' := [(0, vr (some (a0, 9, 0))), (1, vi (l1 + (1 : Int32)))]) rfl ?_
  refine z_goto (tgt := 17) dX10_key_60 rfl ?_
  exact k
theorem sX10_key_68 {E : zE} {d : Nat} {Q : zO → zM → Prop} (M : zM) (a0 : Nat) (s0 : Int32) (k : 16 ≤ a0 ∧ (Z E YX10_next d (si M a0 6 s0) (zargs 0 [vr (some (a0, 9, 0))]) 0 [] (zafter E YX10_key (d + 1) [(1, vi (gi (si M a0 6 s0) a0 6))] 94 3 [] Q))) : Z E YX10_key (d + 1) M [(0, vr (some (a0, 9, 0)))] 68 [vi s0, vr (some (a0, 9, 0))] Q := by
  obtain ⟨g_, k⟩ := k
  refine z_puti g_ dX10_key_68 (zfwN.w fwX10_101_9) rfl ⟨rfl, rfl⟩ ?_
  refine z_goto (tgt := 88) dX10_key_71 rfl ?_
  refine z_aload_n dX10_key_88 rfl rfl ?_
  refine z_geti dX10_key_89 fsX10_101_9 ?_
  refine z_ist_n dX10_key_92 rfl (by decide) (lv' := [(0, vr (some (a0, 9, 0))), (1, vi (gi (si M a0 6 s0) a0 6))]) rfl ?_
  refine z_aload_n dX10_key_93 rfl rfl ?_
  refine Z.pick [1] rfl ?_
  exact z_callV (as := []) (st := []) dX10_key_94 vsX10_133_9 (Nat.le_refl _) (Nat.le_of_ble_eq_true rfl) (Nat.le_of_ble_eq_true rfl) rfl k
theorem sX10_key_87 {E : zE} {d : Nat} {Q : zO → zM → Prop} (M : zM) (u0 : Option zP) (k : ∃ b1 : Nat, u0 = some (b1, 12, 0) ∧ (Q (.inr (b1, 12, 0)) M)) : Z E YX10_key (d + 1) M [] 87 [vr u0] Q := by
  obtain ⟨b1, e1_, k⟩ := k
  refine Z.eqs (lv' := []) (st' := [vr (some (b1, 12, 0))]) rfl (by rw [e1_] <;> rfl) ?_
  exact z_athrow dX10_key_87 (ZT.out (by decide) k)
theorem sX10_key_97 {E : zE} {d : Nat} {Q : zO → zM → Prop} (M : zM) (l1 : Int32) (k : Q (.inl (some (vi l1))) M) : Z E YX10_key (d + 1) M [(1, vi l1)] 97 [] Q := by
  refine z_iload_n dX10_key_97 rfl rfl ?_
  exact z_iret dX10_key_98 rfl rfl k
/-! ScriptTypes$Tokens.onLaterLine()Z -/
theorem bX10_onLaterLine_0 : zdec cX10_onLaterLine 0 [(0, .aload_n 0, 1), (1, .getfield 21, 3), (4, .aload_n 0, 1), (5, .getfield 44, 3), (8, .if_icmp .le 7, 3), (11, .iconst 1, 1), (12, .goto 4, 3), (15, .iconst 0, 1), (16, .ireturn, 1)] = true := by decide +kernel
theorem dX10_onLaterLine_0 : decode cX10_onLaterLine 0 = .ok (.aload_n 0, 1) := zdec_at bX10_onLaterLine_0 0 rfl
theorem dX10_onLaterLine_1 : decode cX10_onLaterLine 1 = .ok (.getfield 21, 3) := zdec_at bX10_onLaterLine_0 1 rfl
theorem dX10_onLaterLine_4 : decode cX10_onLaterLine 4 = .ok (.aload_n 0, 1) := zdec_at bX10_onLaterLine_0 2 rfl
theorem dX10_onLaterLine_5 : decode cX10_onLaterLine 5 = .ok (.getfield 44, 3) := zdec_at bX10_onLaterLine_0 3 rfl
theorem dX10_onLaterLine_8 : decode cX10_onLaterLine 8 = .ok (.if_icmp .le 7, 3) := zdec_at bX10_onLaterLine_0 4 rfl
theorem dX10_onLaterLine_11 : decode cX10_onLaterLine 11 = .ok (.iconst 1, 1) := zdec_at bX10_onLaterLine_0 5 rfl
theorem dX10_onLaterLine_12 : decode cX10_onLaterLine 12 = .ok (.goto 4, 3) := zdec_at bX10_onLaterLine_0 6 rfl
theorem dX10_onLaterLine_15 : decode cX10_onLaterLine 15 = .ok (.iconst 0, 1) := zdec_at bX10_onLaterLine_0 7 rfl
theorem dX10_onLaterLine_16 : decode cX10_onLaterLine 16 = .ok (.ireturn, 1) := zdec_at bX10_onLaterLine_0 8 rfl
theorem sX10_onLaterLine_0 {E : zE} {d : Nat} {Q : zO → zM → Prop} (M : zM) (a0 : Nat) (k : if (gi M a0 4) ≤ (gi M a0 5) then (Q (.inl (some (vi (0 : Int32)))) M) else (Q (.inl (some (vi (1 : Int32)))) M)) : Z E YX10_onLaterLine d M [(0, vr (some (a0, 9, 0)))] 0 [] Q := by
  refine z_aload_n dX10_onLaterLine_0 rfl rfl ?_
  refine z_geti dX10_onLaterLine_1 fsX10_21_9 ?_
  refine z_aload_n dX10_onLaterLine_4 rfl rfl ?_
  refine z_geti dX10_onLaterLine_5 fsX10_44_9 ?_
  refine z_icmp_le (tgt := 15) dX10_onLaterLine_8 rfl (fun h_ => ?_) (fun h_ => ?_)
  · have k := zit h_ k
    refine z_iconst (v := 0) dX10_onLaterLine_15 rfl ?_
    exact z_iret dX10_onLaterLine_16 rfl (by decide) k
  · have k := zif h_ k
    refine z_iconst (v := 1) dX10_onLaterLine_11 rfl ?_
    refine z_goto (tgt := 16) dX10_onLaterLine_12 rfl ?_
    exact z_iret dX10_onLaterLine_16 rfl (by decide) k
/-! ScriptTypes$Tokens.takesWord(I)Z -/
theorem bX10_takesWord_0 : zdec cX10_takesWord 0 [(0, .aload_n 0, 1), (1, .iload_n 1, 1), (2, .invokevirtual 136, 3), (5, .ifCond .ne 5, 3), (8, .iconst 0, 1), (9, .ireturn, 1), (10, .aload_n 0, 1), (11, .invokevirtual 133, 3), (14, .iconst 1, 1), (15, .ireturn, 1)] = true := by decide +kernel
theorem dX10_takesWord_0 : decode cX10_takesWord 0 = .ok (.aload_n 0, 1) := zdec_at bX10_takesWord_0 0 rfl
theorem dX10_takesWord_1 : decode cX10_takesWord 1 = .ok (.iload_n 1, 1) := zdec_at bX10_takesWord_0 1 rfl
theorem dX10_takesWord_2 : decode cX10_takesWord 2 = .ok (.invokevirtual 136, 3) := zdec_at bX10_takesWord_0 2 rfl
theorem dX10_takesWord_5 : decode cX10_takesWord 5 = .ok (.ifCond .ne 5, 3) := zdec_at bX10_takesWord_0 3 rfl
theorem dX10_takesWord_8 : decode cX10_takesWord 8 = .ok (.iconst 0, 1) := zdec_at bX10_takesWord_0 4 rfl
theorem dX10_takesWord_9 : decode cX10_takesWord 9 = .ok (.ireturn, 1) := zdec_at bX10_takesWord_0 5 rfl
theorem dX10_takesWord_10 : decode cX10_takesWord 10 = .ok (.aload_n 0, 1) := zdec_at bX10_takesWord_0 6 rfl
theorem dX10_takesWord_11 : decode cX10_takesWord 11 = .ok (.invokevirtual 133, 3) := zdec_at bX10_takesWord_0 7 rfl
theorem dX10_takesWord_14 : decode cX10_takesWord 14 = .ok (.iconst 1, 1) := zdec_at bX10_takesWord_0 8 rfl
theorem dX10_takesWord_15 : decode cX10_takesWord 15 = .ok (.ireturn, 1) := zdec_at bX10_takesWord_0 9 rfl
theorem sX10_takesWord_0 {E : zE} {d : Nat} {Q : zO → zM → Prop} (M : zM) (a0 : Nat) (l1 : Int32) (k : Z E YX10_isWord d M (zargs 0 [vr (some (a0, 9, 0)), vi l1]) 0 [] (zafter E YX10_takesWord (d + 1) [(0, vr (some (a0, 9, 0)))] 2 3 [] Q)) : Z E YX10_takesWord (d + 1) M [(0, vr (some (a0, 9, 0))), (1, vi l1)] 0 [] Q := by
  refine z_aload_n dX10_takesWord_0 rfl rfl ?_
  refine z_iload_n dX10_takesWord_1 rfl rfl ?_
  refine Z.pick [0] rfl ?_
  exact z_callV (as := [vi l1]) (st := []) dX10_takesWord_2 vsX10_136_9 (Nat.le_refl _) (Nat.le_of_ble_eq_true rfl) (Nat.le_of_ble_eq_true rfl) rfl k
theorem sX10_takesWord_5 {E : zE} {d : Nat} {Q : zO → zM → Prop} (M : zM) (a0 : Nat) (s0 : Int32) (k : if s0 = 0 then (Q (.inl (some (vi (0 : Int32)))) M) else (Z E YX10_next d M (zargs 0 [vr (some (a0, 9, 0))]) 0 [] (zafter E YX10_takesWord (d + 1) [] 11 3 [] Q))) : Z E YX10_takesWord (d + 1) M [(0, vr (some (a0, 9, 0)))] 5 [vi s0] Q := by
  refine z_if_ne (tgt := 10) dX10_takesWord_5 rfl (fun h_ => ?_) (fun h_ => ?_)
  · have k := zif h_ k
    refine z_aload_n dX10_takesWord_10 rfl rfl ?_
    refine Z.pick [] rfl ?_
    exact z_callV (as := []) (st := []) dX10_takesWord_11 vsX10_133_9 (Nat.le_refl _) (Nat.le_of_ble_eq_true rfl) (Nat.le_of_ble_eq_true rfl) rfl k
  · have k := zit h_ k
    refine z_iconst (v := 0) dX10_takesWord_8 rfl ?_
    exact z_iret dX10_takesWord_9 rfl (by decide) k
theorem sX10_takesWord_14 {E : zE} {d : Nat} {Q : zO → zM → Prop} (M : zM)  (k : Q (.inl (some (vi (1 : Int32)))) M) : Z E YX10_takesWord (d + 1) M [] 14 [] Q := by
  refine z_iconst (v := 1) dX10_takesWord_14 rfl ?_
  exact z_iret dX10_takesWord_15 rfl (by decide) k
/-! ScriptTypes$Tokens.needWord(I)V -/
theorem bX10_needWord_0 : zdec cX10_needWord 0 [(0, .aload_n 0, 1), (1, .iload_n 1, 1), (2, .invokevirtual 142, 3), (5, .ifCond .ne 9, 3), (8, .aload_n 0, 1), (9, .iconst 2, 1), (10, .invokevirtual 72, 3), (13, .athrow, 1), (14, .return_, 1)] = true := by decide +kernel
theorem dX10_needWord_0 : decode cX10_needWord 0 = .ok (.aload_n 0, 1) := zdec_at bX10_needWord_0 0 rfl
theorem dX10_needWord_1 : decode cX10_needWord 1 = .ok (.iload_n 1, 1) := zdec_at bX10_needWord_0 1 rfl
theorem dX10_needWord_2 : decode cX10_needWord 2 = .ok (.invokevirtual 142, 3) := zdec_at bX10_needWord_0 2 rfl
theorem dX10_needWord_5 : decode cX10_needWord 5 = .ok (.ifCond .ne 9, 3) := zdec_at bX10_needWord_0 3 rfl
theorem dX10_needWord_8 : decode cX10_needWord 8 = .ok (.aload_n 0, 1) := zdec_at bX10_needWord_0 4 rfl
theorem dX10_needWord_9 : decode cX10_needWord 9 = .ok (.iconst 2, 1) := zdec_at bX10_needWord_0 5 rfl
theorem dX10_needWord_10 : decode cX10_needWord 10 = .ok (.invokevirtual 72, 3) := zdec_at bX10_needWord_0 6 rfl
theorem dX10_needWord_13 : decode cX10_needWord 13 = .ok (.athrow, 1) := zdec_at bX10_needWord_0 7 rfl
theorem dX10_needWord_14 : decode cX10_needWord 14 = .ok (.return_, 1) := zdec_at bX10_needWord_0 8 rfl
theorem sX10_needWord_0 {E : zE} {d : Nat} {Q : zO → zM → Prop} (M : zM) (a0 : Nat) (l1 : Int32) (k : Z E YX10_takesWord d M (zargs 0 [vr (some (a0, 9, 0)), vi l1]) 0 [] (zafter E YX10_needWord (d + 1) [(0, vr (some (a0, 9, 0)))] 2 3 [] Q)) : Z E YX10_needWord (d + 1) M [(0, vr (some (a0, 9, 0))), (1, vi l1)] 0 [] Q := by
  refine z_aload_n dX10_needWord_0 rfl rfl ?_
  refine z_iload_n dX10_needWord_1 rfl rfl ?_
  refine Z.pick [0] rfl ?_
  exact z_callV (as := [vi l1]) (st := []) dX10_needWord_2 vsX10_142_9 (Nat.le_refl _) (Nat.le_of_ble_eq_true rfl) (Nat.le_of_ble_eq_true rfl) rfl k
theorem sX10_needWord_5 {E : zE} {d : Nat} {Q : zO → zM → Prop} (M : zM) (a0 : Nat) (s0 : Int32) (k : if s0 = 0 then (Z E YX10_fault d M (zargs 0 [vr (some (a0, 9, 0)), vi (2 : Int32)]) 0 [] (zafter E YX10_needWord (d + 1) [] 10 3 [] Q)) else (Q (.inl none) M)) : Z E YX10_needWord (d + 1) M [(0, vr (some (a0, 9, 0)))] 5 [vi s0] Q := by
  refine z_if_ne (tgt := 14) dX10_needWord_5 rfl (fun h_ => ?_) (fun h_ => ?_)
  · have k := zif h_ k
    exact z_vret dX10_needWord_14 rfl k
  · have k := zit h_ k
    refine z_aload_n dX10_needWord_8 rfl rfl ?_
    refine z_iconst (v := 2) dX10_needWord_9 rfl ?_
    refine Z.pick [] rfl ?_
    exact z_callV (as := [vi (2 : Int32)]) (st := []) dX10_needWord_10 vsX10_72_9 (Nat.le_refl _) (Nat.le_of_ble_eq_true rfl) (Nat.le_of_ble_eq_true rfl) rfl k
theorem sX10_needWord_13 {E : zE} {d : Nat} {Q : zO → zM → Prop} (M : zM) (u0 : Option zP) (k : ∃ b1 : Nat, u0 = some (b1, 12, 0) ∧ (Q (.inr (b1, 12, 0)) M)) : Z E YX10_needWord (d + 1) M [] 13 [vr u0] Q := by
  obtain ⟨b1, e1_, k⟩ := k
  refine Z.eqs (lv' := []) (st' := [vr (some (b1, 12, 0))]) rfl (by rw [e1_] <;> rfl) ?_
  exact z_athrow dX10_needWord_13 (ZT.out (by decide) k)
