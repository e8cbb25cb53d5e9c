/-! ScriptTypesLaw.begin(LScriptTypes;)I -/
theorem bX0_begin_0 : zdec cX0_begin 0 [(0, .aload_n 0, 1), (1, .invokevirtual 7, 3), (4, .goto 6, 3)] = true := by decide +kernel
theorem dX0_begin_0 : decode cX0_begin 0 = .ok (.aload_n 0, 1) := zdec_at bX0_begin_0 0 rfl
theorem dX0_begin_1 : decode cX0_begin 1 = .ok (.invokevirtual 7, 3) := zdec_at bX0_begin_0 1 rfl
theorem dX0_begin_4 : decode cX0_begin 4 = .ok (.goto 6, 3) := zdec_at bX0_begin_0 2 rfl
theorem bX0_begin_10 : zdec cX0_begin 10 [(10, .iconst 0, 1), (11, .ireturn, 1)] = true := by decide +kernel
theorem dX0_begin_10 : decode cX0_begin 10 = .ok (.iconst 0, 1) := zdec_at bX0_begin_10 0 rfl
theorem dX0_begin_11 : decode cX0_begin 11 = .ok (.ireturn, 1) := zdec_at bX0_begin_10 1 rfl
theorem sX0_begin_0 {E : zE} {d : Nat} {Q : zO → zM → Prop} (M : zM) (r0 : Option zP) (k : ∃ b1 : Nat, r0 = some (b1, 0, 0) ∧ (Z E YX1_begin d M (zargs 0 [vr (some (b1, 0, 0))]) 0 [] (zafter E YX0_begin (d + 1) [] 1 3 [] Q))) : Z E YX0_begin (d + 1) M [(0, vr r0)] 0 [] Q := by
  refine z_aload_n dX0_begin_0 rfl rfl ?_
  obtain ⟨b1, e1_, k⟩ := k
  refine Z.eqs (lv' := [(0, vr (some (b1, 0, 0)))]) (st' := [vr (some (b1, 0, 0))]) (by rw [e1_] <;> rfl) (by rw [e1_] <;> rfl) ?_
  refine Z.pick [] rfl ?_
  exact z_callV (as := []) (st := []) dX0_begin_1 vsX0_7_0 (Nat.le_refl _) (Nat.le_of_ble_eq_true rfl) (Nat.le_of_ble_eq_true rfl) rfl k
theorem sX0_begin_4 {E : zE} {d : Nat} {Q : zO → zM → Prop} (M : zM)  (k : Q (.inl (some (vi (0 : Int32)))) M) : Z E YX0_begin (d + 1) M [] 4 [] Q := by
  refine z_goto (tgt := 10) dX0_begin_4 rfl ?_
  refine z_iconst (v := 0) dX0_begin_10 rfl ?_
  exact z_iret dX0_begin_11 rfl rfl k
/-! ScriptTypesLaw.run(LScriptTypes;I[J)I -/
theorem bX0_run_0 : zdec cX0_run 0 [(0, .aload_n 2, 1), (1, .iconst 0, 1), (2, .aload_n 0, 1), (3, .iload_n 1, 1), (4, .invokevirtual 14, 3), (7, .i2l, 1), (8, .lastore, 1), (9, .goto 9, 3)] = true := by decide +kernel
theorem dX0_run_0 : decode cX0_run 0 = .ok (.aload_n 2, 1) := zdec_at bX0_run_0 0 rfl
theorem dX0_run_1 : decode cX0_run 1 = .ok (.iconst 0, 1) := zdec_at bX0_run_0 1 rfl
theorem dX0_run_2 : decode cX0_run 2 = .ok (.aload_n 0, 1) := zdec_at bX0_run_0 2 rfl
theorem dX0_run_3 : decode cX0_run 3 = .ok (.iload_n 1, 1) := zdec_at bX0_run_0 3 rfl
theorem dX0_run_4 : decode cX0_run 4 = .ok (.invokevirtual 14, 3) := zdec_at bX0_run_0 4 rfl
theorem dX0_run_7 : decode cX0_run 7 = .ok (.i2l, 1) := zdec_at bX0_run_0 5 rfl
theorem dX0_run_8 : decode cX0_run 8 = .ok (.lastore, 1) := zdec_at bX0_run_0 6 rfl
theorem dX0_run_9 : decode cX0_run 9 = .ok (.goto 9, 3) := zdec_at bX0_run_0 7 rfl
theorem bX0_run_18 : zdec cX0_run 18 [(18, .iconst 0, 1), (19, .ireturn, 1)] = true := by decide +kernel
theorem dX0_run_18 : decode cX0_run 18 = .ok (.iconst 0, 1) := zdec_at bX0_run_18 0 rfl
theorem dX0_run_19 : decode cX0_run 19 = .ok (.ireturn, 1) := zdec_at bX0_run_18 1 rfl
theorem sX0_run_0 {E : zE} {d : Nat} {Q : zO → zM → Prop} (M : zM) (r0 : Option zP) (l1 : Int32) (r2 : Option zP) (k : ∃ b1 : Nat, r0 = some (b1, 0, 0) ∧ (Z E YX1_run d M (zargs 0 [vr (some (b1, 0, 0)), vi l1]) 0 [] (zafter E YX0_run (d + 1) [] 4 3 [vi (0 : Int32), vr r2] Q))) : Z E YX0_run (d + 1) M [(0, vr r0), (1, vi l1), (2, vr r2)] 0 [] Q := by
  refine z_aload_n dX0_run_0 rfl rfl ?_
  refine z_iconst (v := 0) dX0_run_1 rfl ?_
  refine z_aload_n dX0_run_2 rfl rfl ?_
  refine z_iload_n dX0_run_3 rfl rfl ?_
  obtain ⟨b1, e1_, k⟩ := k
  refine Z.eqs (lv' := [(0, vr (some (b1, 0, 0))), (1, vi l1), (2, vr r2)]) (st' := [vi l1, vr (some (b1, 0, 0)), vi (0 : Int32), vr r2]) (by rw [e1_] <;> rfl) (by rw [e1_] <;> rfl) ?_
  refine Z.pick [] rfl ?_
  exact z_callV (as := [vi l1]) (st := [vi (0 : Int32), vr r2]) dX0_run_4 vsX0_14_0 (Nat.le_refl _) (Nat.le_of_ble_eq_true rfl) (Nat.le_of_ble_eq_true rfl) rfl k
theorem sX0_run_7 {E : zE} {d : Nat} {Q : zO → zM → Prop} (M : zM) (s0 : Int32) (s1 : Int32) (u2 : Option zP) (k : ∃ b1 m1 : Nat, u2 = some (b1, 105, m1) ∧ (16 ≤ b1 ∧ (vp_in s1 m1 ∧ (Q (.inl (some (vi (0 : Int32)))) (sl M b1 (s1).toNatClampNeg (s0).toInt64))))) : Z E YX0_run (d + 1) M [] 7 [vi s0, vi s1, vr u2] Q := by
  refine z_i2l dX0_run_7 ?_
  obtain ⟨b1, m1, e1_, k⟩ := k
  refine Z.eqs (lv' := []) (st' := [vl (s0).toInt64, vi s1, vr (some (b1, 105, m1))]) rfl (by rw [e1_] <;> rfl) ?_
  obtain ⟨g_, k⟩ := k
  obtain ⟨b_, k⟩ := k
  refine z_last g_ dX0_run_8 b_ ?_
  refine z_goto (tgt := 18) dX0_run_9 rfl ?_
  refine z_iconst (v := 0) dX0_run_18 rfl ?_
  exact z_iret dX0_run_19 rfl rfl k
/-! ScriptTypesLaw.solve(LScriptTypes;[J)I -/
theorem bX0_solve_0 : zdec cX0_solve 0 [(0, .aload_n 1, 1), (1, .iconst 0, 1), (2, .aload_n 0, 1), (3, .invokevirtual 20, 3), (6, .i2l, 1), (7, .lastore, 1), (8, .goto 6, 3)] = true := by decide +kernel
theorem dX0_solve_0 : decode cX0_solve 0 = .ok (.aload_n 1, 1) := zdec_at bX0_solve_0 0 rfl
theorem dX0_solve_1 : decode cX0_solve 1 = .ok (.iconst 0, 1) := zdec_at bX0_solve_0 1 rfl
theorem dX0_solve_2 : decode cX0_solve 2 = .ok (.aload_n 0, 1) := zdec_at bX0_solve_0 2 rfl
theorem dX0_solve_3 : decode cX0_solve 3 = .ok (.invokevirtual 20, 3) := zdec_at bX0_solve_0 3 rfl
theorem dX0_solve_6 : decode cX0_solve 6 = .ok (.i2l, 1) := zdec_at bX0_solve_0 4 rfl
theorem dX0_solve_7 : decode cX0_solve 7 = .ok (.lastore, 1) := zdec_at bX0_solve_0 5 rfl
theorem dX0_solve_8 : decode cX0_solve 8 = .ok (.goto 6, 3) := zdec_at bX0_solve_0 6 rfl
theorem bX0_solve_14 : zdec cX0_solve 14 [(14, .iconst 0, 1), (15, .ireturn, 1)] = true := by decide +kernel
theorem dX0_solve_14 : decode cX0_solve 14 = .ok (.iconst 0, 1) := zdec_at bX0_solve_14 0 rfl
theorem dX0_solve_15 : decode cX0_solve 15 = .ok (.ireturn, 1) := zdec_at bX0_solve_14 1 rfl
theorem sX0_solve_0 {E : zE} {d : Nat} {Q : zO → zM → Prop} (M : zM) (r0 : Option zP) (r1 : Option zP) (k : ∃ b1 : Nat, r0 = some (b1, 0, 0) ∧ (Z E YX1_solve d M (zargs 0 [vr (some (b1, 0, 0))]) 0 [] (zafter E YX0_solve (d + 1) [] 3 3 [vi (0 : Int32), vr r1] Q))) : Z E YX0_solve (d + 1) M [(0, vr r0), (1, vr r1)] 0 [] Q := by
  refine z_aload_n dX0_solve_0 rfl rfl ?_
  refine z_iconst (v := 0) dX0_solve_1 rfl ?_
  refine z_aload_n dX0_solve_2 rfl rfl ?_
  obtain ⟨b1, e1_, k⟩ := k
  refine Z.eqs (lv' := [(0, vr (some (b1, 0, 0))), (1, vr r1)]) (st' := [vr (some (b1, 0, 0)), vi (0 : Int32), vr r1]) (by rw [e1_] <;> rfl) (by rw [e1_] <;> rfl) ?_
  refine Z.pick [] rfl ?_
  exact z_callV (as := []) (st := [vi (0 : Int32), vr r1]) dX0_solve_3 vsX0_20_0 (Nat.le_refl _) (Nat.le_of_ble_eq_true rfl) (Nat.le_of_ble_eq_true rfl) rfl k
theorem sX0_solve_6 {E : zE} {d : Nat} {Q : zO → zM → Prop} (M : zM) (s0 : Int32) (s1 : Int32) (u2 : Option zP) (k : ∃ b1 m1 : Nat, u2 = some (b1, 105, m1) ∧ (16 ≤ b1 ∧ (vp_in s1 m1 ∧ (Q (.inl (some (vi (0 : Int32)))) (sl M b1 (s1).toNatClampNeg (s0).toInt64))))) : Z E YX0_solve (d + 1) M [] 6 [vi s0, vi s1, vr u2] Q := by
  refine z_i2l dX0_solve_6 ?_
  obtain ⟨b1, m1, e1_, k⟩ := k
  refine Z.eqs (lv' := []) (st' := [vl (s0).toInt64, vi s1, vr (some (b1, 105, m1))]) rfl (by rw [e1_] <;> rfl) ?_
  obtain ⟨g_, k⟩ := k
  obtain ⟨b_, k⟩ := k
  refine z_last g_ dX0_solve_7 b_ ?_
  refine z_goto (tgt := 14) dX0_solve_8 rfl ?_
  refine z_iconst (v := 0) dX0_solve_14 rfl ?_
  exact z_iret dX0_solve_15 rfl rfl k
/-! ScriptTypesModel.<init>()V -/
theorem bX8_init_0 : zdec cX8_init 0 [(0, .aload_n 0, 1), (1, .invokespecial 1, 3), (4, .aload_n 0, 1), (5, .sipush 4000, 3), (8, .newarray .byte, 2), (10, .putfield 7, 3), (13, .aload_n 0, 1), (14, .sipush 4000, 3), (17, .newarray .byte, 2), (19, .putfield 13, 3), (22, .aload_n 0, 1), (23, .sipush 24000, 3), (26, .newarray .char, 2), (28, .putfield 16, 3), (31, .aload_n 0, 1), (32, .sipush 400, 3)] = true := by decide +kernel
theorem dX8_init_0 : decode cX8_init 0 = .ok (.aload_n 0, 1) := zdec_at bX8_init_0 0 rfl
theorem dX8_init_1 : decode cX8_init 1 = .ok (.invokespecial 1, 3) := zdec_at bX8_init_0 1 rfl
theorem dX8_init_4 : decode cX8_init 4 = .ok (.aload_n 0, 1) := zdec_at bX8_init_0 2 rfl
theorem dX8_init_5 : decode cX8_init 5 = .ok (.sipush 4000, 3) := zdec_at bX8_init_0 3 rfl
theorem dX8_init_8 : decode cX8_init 8 = .ok (.newarray .byte, 2) := zdec_at bX8_init_0 4 rfl
theorem dX8_init_10 : decode cX8_init 10 = .ok (.putfield 7, 3) := zdec_at bX8_init_0 5 rfl
theorem dX8_init_13 : decode cX8_init 13 = .ok (.aload_n 0, 1) := zdec_at bX8_init_0 6 rfl
theorem dX8_init_14 : decode cX8_init 14 = .ok (.sipush 4000, 3) := zdec_at bX8_init_0 7 rfl
theorem dX8_init_17 : decode cX8_init 17 = .ok (.newarray .byte, 2) := zdec_at bX8_init_0 8 rfl
theorem dX8_init_19 : decode cX8_init 19 = .ok (.putfield 13, 3) := zdec_at bX8_init_0 9 rfl
theorem dX8_init_22 : decode cX8_init 22 = .ok (.aload_n 0, 1) := zdec_at bX8_init_0 10 rfl
theorem dX8_init_23 : decode cX8_init 23 = .ok (.sipush 24000, 3) := zdec_at bX8_init_0 11 rfl
theorem dX8_init_26 : decode cX8_init 26 = .ok (.newarray .char, 2) := zdec_at bX8_init_0 12 rfl
theorem dX8_init_28 : decode cX8_init 28 = .ok (.putfield 16, 3) := zdec_at bX8_init_0 13 rfl
theorem dX8_init_31 : decode cX8_init 31 = .ok (.aload_n 0, 1) := zdec_at bX8_init_0 14 rfl
theorem dX8_init_32 : decode cX8_init 32 = .ok (.sipush 400, 3) := zdec_at bX8_init_0 15 rfl
theorem bX8_init_35 : zdec cX8_init 35 [(35, .newarray .int, 2), (37, .putfield 20, 3), (40, .aload_n 0, 1), (41, .sipush 200, 3), (44, .newarray .char, 2), (46, .putfield 24, 3), (49, .aload_n 0, 1), (50, .sipush 4002, 3), (53, .newarray .int, 2), (55, .putfield 27, 3), (58, .aload_n 0, 1), (59, .sipush 4002, 3), (62, .newarray .int, 2), (64, .putfield 30, 3), (67, .aload_n 0, 1), (68, .sipush 4002, 3)] = true := by decide +kernel
theorem dX8_init_35 : decode cX8_init 35 = .ok (.newarray .int, 2) := zdec_at bX8_init_35 0 rfl
theorem dX8_init_37 : decode cX8_init 37 = .ok (.putfield 20, 3) := zdec_at bX8_init_35 1 rfl
theorem dX8_init_40 : decode cX8_init 40 = .ok (.aload_n 0, 1) := zdec_at bX8_init_35 2 rfl
theorem dX8_init_41 : decode cX8_init 41 = .ok (.sipush 200, 3) := zdec_at bX8_init_35 3 rfl
theorem dX8_init_44 : decode cX8_init 44 = .ok (.newarray .char, 2) := zdec_at bX8_init_35 4 rfl
theorem dX8_init_46 : decode cX8_init 46 = .ok (.putfield 24, 3) := zdec_at bX8_init_35 5 rfl
theorem dX8_init_49 : decode cX8_init 49 = .ok (.aload_n 0, 1) := zdec_at bX8_init_35 6 rfl
theorem dX8_init_50 : decode cX8_init 50 = .ok (.sipush 4002, 3) := zdec_at bX8_init_35 7 rfl
theorem dX8_init_53 : decode cX8_init 53 = .ok (.newarray .int, 2) := zdec_at bX8_init_35 8 rfl
theorem dX8_init_55 : decode cX8_init 55 = .ok (.putfield 27, 3) := zdec_at bX8_init_35 9 rfl
theorem dX8_init_58 : decode cX8_init 58 = .ok (.aload_n 0, 1) := zdec_at bX8_init_35 10 rfl
theorem dX8_init_59 : decode cX8_init 59 = .ok (.sipush 4002, 3) := zdec_at bX8_init_35 11 rfl
theorem dX8_init_62 : decode cX8_init 62 = .ok (.newarray .int, 2) := zdec_at bX8_init_35 12 rfl
theorem dX8_init_64 : decode cX8_init 64 = .ok (.putfield 30, 3) := zdec_at bX8_init_35 13 rfl
theorem dX8_init_67 : decode cX8_init 67 = .ok (.aload_n 0, 1) := zdec_at bX8_init_35 14 rfl
theorem dX8_init_68 : decode cX8_init 68 = .ok (.sipush 4002, 3) := zdec_at bX8_init_35 15 rfl
theorem bX8_init_71 : zdec cX8_init 71 [(71, .newarray .int, 2), (73, .putfield 33, 3), (76, .aload_n 0, 1), (77, .sipush 4002, 3), (80, .newarray .int, 2), (82, .putfield 36, 3), (85, .aload_n 0, 1), (86, .sipush 4002, 3), (89, .newarray .int, 2), (91, .putfield 39, 3), (94, .aload_n 0, 1), (95, .sipush 12000, 3), (98, .newarray .int, 2), (100, .putfield 42, 3), (103, .aload_n 0, 1), (104, .ldc 45, 2)] = true := by decide +kernel
theorem dX8_init_71 : decode cX8_init 71 = .ok (.newarray .int, 2) := zdec_at bX8_init_71 0 rfl
theorem dX8_init_73 : decode cX8_init 73 = .ok (.putfield 33, 3) := zdec_at bX8_init_71 1 rfl
theorem dX8_init_76 : decode cX8_init 76 = .ok (.aload_n 0, 1) := zdec_at bX8_init_71 2 rfl
theorem dX8_init_77 : decode cX8_init 77 = .ok (.sipush 4002, 3) := zdec_at bX8_init_71 3 rfl
theorem dX8_init_80 : decode cX8_init 80 = .ok (.newarray .int, 2) := zdec_at bX8_init_71 4 rfl
theorem dX8_init_82 : decode cX8_init 82 = .ok (.putfield 36, 3) := zdec_at bX8_init_71 5 rfl
theorem dX8_init_85 : decode cX8_init 85 = .ok (.aload_n 0, 1) := zdec_at bX8_init_71 6 rfl
theorem dX8_init_86 : decode cX8_init 86 = .ok (.sipush 4002, 3) := zdec_at bX8_init_71 7 rfl
theorem dX8_init_89 : decode cX8_init 89 = .ok (.newarray .int, 2) := zdec_at bX8_init_71 8 rfl
theorem dX8_init_91 : decode cX8_init 91 = .ok (.putfield 39, 3) := zdec_at bX8_init_71 9 rfl
theorem dX8_init_94 : decode cX8_init 94 = .ok (.aload_n 0, 1) := zdec_at bX8_init_71 10 rfl
theorem dX8_init_95 : decode cX8_init 95 = .ok (.sipush 12000, 3) := zdec_at bX8_init_71 11 rfl
theorem dX8_init_98 : decode cX8_init 98 = .ok (.newarray .int, 2) := zdec_at bX8_init_71 12 rfl
theorem dX8_init_100 : decode cX8_init 100 = .ok (.putfield 42, 3) := zdec_at bX8_init_71 13 rfl
theorem dX8_init_103 : decode cX8_init 103 = .ok (.aload_n 0, 1) := zdec_at bX8_init_71 14 rfl
theorem dX8_init_104 : decode cX8_init 104 = .ok (.ldc 45, 2) := zdec_at bX8_init_71 15 rfl
theorem bX8_init_106 : zdec cX8_init 106 [(106, .newarray .int, 2), (108, .putfield 46, 3), (111, .aload_n 0, 1), (112, .sipush 12000, 3), (115, .newarray .int, 2), (117, .putfield 49, 3), (120, .aload_n 0, 1), (121, .sipush 12000, 3), (124, .newarray .boolean, 2), (126, .putfield 52, 3), (129, .aload_n 0, 1), (130, .sipush 200, 3), (133, .newarray .int, 2), (135, .putfield 56, 3), (138, .aload_n 0, 1), (139, .sipush 200, 3)] = true := by decide +kernel
theorem dX8_init_106 : decode cX8_init 106 = .ok (.newarray .int, 2) := zdec_at bX8_init_106 0 rfl
theorem dX8_init_108 : decode cX8_init 108 = .ok (.putfield 46, 3) := zdec_at bX8_init_106 1 rfl
theorem dX8_init_111 : decode cX8_init 111 = .ok (.aload_n 0, 1) := zdec_at bX8_init_106 2 rfl
theorem dX8_init_112 : decode cX8_init 112 = .ok (.sipush 12000, 3) := zdec_at bX8_init_106 3 rfl
theorem dX8_init_115 : decode cX8_init 115 = .ok (.newarray .int, 2) := zdec_at bX8_init_106 4 rfl
theorem dX8_init_117 : decode cX8_init 117 = .ok (.putfield 49, 3) := zdec_at bX8_init_106 5 rfl
theorem dX8_init_120 : decode cX8_init 120 = .ok (.aload_n 0, 1) := zdec_at bX8_init_106 6 rfl
theorem dX8_init_121 : decode cX8_init 121 = .ok (.sipush 12000, 3) := zdec_at bX8_init_106 7 rfl
theorem dX8_init_124 : decode cX8_init 124 = .ok (.newarray .boolean, 2) := zdec_at bX8_init_106 8 rfl
theorem dX8_init_126 : decode cX8_init 126 = .ok (.putfield 52, 3) := zdec_at bX8_init_106 9 rfl
theorem dX8_init_129 : decode cX8_init 129 = .ok (.aload_n 0, 1) := zdec_at bX8_init_106 10 rfl
theorem dX8_init_130 : decode cX8_init 130 = .ok (.sipush 200, 3) := zdec_at bX8_init_106 11 rfl
theorem dX8_init_133 : decode cX8_init 133 = .ok (.newarray .int, 2) := zdec_at bX8_init_106 12 rfl
theorem dX8_init_135 : decode cX8_init 135 = .ok (.putfield 56, 3) := zdec_at bX8_init_106 13 rfl
theorem dX8_init_138 : decode cX8_init 138 = .ok (.aload_n 0, 1) := zdec_at bX8_init_106 14 rfl
theorem dX8_init_139 : decode cX8_init 139 = .ok (.sipush 200, 3) := zdec_at bX8_init_106 15 rfl
theorem bX8_init_142 : zdec cX8_init 142 [(142, .newarray .int, 2), (144, .putfield 59, 3), (147, .aload_n 0, 1), (148, .bipush 12, 2), (150, .newarray .int, 2), (152, .putfield 62, 3), (155, .aload_n 0, 1), (156, .bipush 12, 2), (158, .newarray .boolean, 2), (160, .putfield 65, 3), (163, .aload_n 0, 1), (164, .bipush 96, 2), (166, .newarray .int, 2), (168, .putfield 68, 3), (171, .aload_n 0, 1), (172, .bipush 12, 2)] = true := by decide +kernel
theorem dX8_init_142 : decode cX8_init 142 = .ok (.newarray .int, 2) := zdec_at bX8_init_142 0 rfl
theorem dX8_init_144 : decode cX8_init 144 = .ok (.putfield 59, 3) := zdec_at bX8_init_142 1 rfl
theorem dX8_init_147 : decode cX8_init 147 = .ok (.aload_n 0, 1) := zdec_at bX8_init_142 2 rfl
theorem dX8_init_148 : decode cX8_init 148 = .ok (.bipush 12, 2) := zdec_at bX8_init_142 3 rfl
theorem dX8_init_150 : decode cX8_init 150 = .ok (.newarray .int, 2) := zdec_at bX8_init_142 4 rfl
theorem dX8_init_152 : decode cX8_init 152 = .ok (.putfield 62, 3) := zdec_at bX8_init_142 5 rfl
theorem dX8_init_155 : decode cX8_init 155 = .ok (.aload_n 0, 1) := zdec_at bX8_init_142 6 rfl
theorem dX8_init_156 : decode cX8_init 156 = .ok (.bipush 12, 2) := zdec_at bX8_init_142 7 rfl
theorem dX8_init_158 : decode cX8_init 158 = .ok (.newarray .boolean, 2) := zdec_at bX8_init_142 8 rfl
theorem dX8_init_160 : decode cX8_init 160 = .ok (.putfield 65, 3) := zdec_at bX8_init_142 9 rfl
theorem dX8_init_163 : decode cX8_init 163 = .ok (.aload_n 0, 1) := zdec_at bX8_init_142 10 rfl
theorem dX8_init_164 : decode cX8_init 164 = .ok (.bipush 96, 2) := zdec_at bX8_init_142 11 rfl
theorem dX8_init_166 : decode cX8_init 166 = .ok (.newarray .int, 2) := zdec_at bX8_init_142 12 rfl
theorem dX8_init_168 : decode cX8_init 168 = .ok (.putfield 68, 3) := zdec_at bX8_init_142 13 rfl
theorem dX8_init_171 : decode cX8_init 171 = .ok (.aload_n 0, 1) := zdec_at bX8_init_142 14 rfl
theorem dX8_init_172 : decode cX8_init 172 = .ok (.bipush 12, 2) := zdec_at bX8_init_142 15 rfl
theorem bX8_init_174 : zdec cX8_init 174 [(174, .newarray .int, 2), (176, .putfield 71, 3), (179, .aload_n 0, 1), (180, .bipush 12, 2), (182, .newarray .int, 2), (184, .putfield 74, 3), (187, .aload_n 0, 1), (188, .bipush 12, 2), (190, .newarray .int, 2), (192, .putfield 77, 3), (195, .aload_n 0, 1), (196, .sipush 1200, 3), (199, .newarray .int, 2), (201, .putfield 80, 3), (204, .aload_n 0, 1), (205, .bipush 12, 2)] = true := by decide +kernel
theorem dX8_init_174 : decode cX8_init 174 = .ok (.newarray .int, 2) := zdec_at bX8_init_174 0 rfl
theorem dX8_init_176 : decode cX8_init 176 = .ok (.putfield 71, 3) := zdec_at bX8_init_174 1 rfl
theorem dX8_init_179 : decode cX8_init 179 = .ok (.aload_n 0, 1) := zdec_at bX8_init_174 2 rfl
theorem dX8_init_180 : decode cX8_init 180 = .ok (.bipush 12, 2) := zdec_at bX8_init_174 3 rfl
theorem dX8_init_182 : decode cX8_init 182 = .ok (.newarray .int, 2) := zdec_at bX8_init_174 4 rfl
theorem dX8_init_184 : decode cX8_init 184 = .ok (.putfield 74, 3) := zdec_at bX8_init_174 5 rfl
theorem dX8_init_187 : decode cX8_init 187 = .ok (.aload_n 0, 1) := zdec_at bX8_init_174 6 rfl
theorem dX8_init_188 : decode cX8_init 188 = .ok (.bipush 12, 2) := zdec_at bX8_init_174 7 rfl
theorem dX8_init_190 : decode cX8_init 190 = .ok (.newarray .int, 2) := zdec_at bX8_init_174 8 rfl
theorem dX8_init_192 : decode cX8_init 192 = .ok (.putfield 77, 3) := zdec_at bX8_init_174 9 rfl
theorem dX8_init_195 : decode cX8_init 195 = .ok (.aload_n 0, 1) := zdec_at bX8_init_174 10 rfl
theorem dX8_init_196 : decode cX8_init 196 = .ok (.sipush 1200, 3) := zdec_at bX8_init_174 11 rfl
theorem dX8_init_199 : decode cX8_init 199 = .ok (.newarray .int, 2) := zdec_at bX8_init_174 12 rfl
theorem dX8_init_201 : decode cX8_init 201 = .ok (.putfield 80, 3) := zdec_at bX8_init_174 13 rfl
theorem dX8_init_204 : decode cX8_init 204 = .ok (.aload_n 0, 1) := zdec_at bX8_init_174 14 rfl
theorem dX8_init_205 : decode cX8_init 205 = .ok (.bipush 12, 2) := zdec_at bX8_init_174 15 rfl
theorem bX8_init_207 : zdec cX8_init 207 [(207, .newarray .int, 2), (209, .putfield 83, 3), (212, .aload_n 0, 1), (213, .bipush 100, 2), (215, .newarray .int, 2), (217, .putfield 86, 3), (220, .aload_n 0, 1), (221, .sipush 600, 3), (224, .newarray .int, 2), (226, .putfield 89, 3), (229, .aload_n 0, 1), (230, .sipush 600, 3), (233, .newarray .int, 2), (235, .putfield 92, 3), (238, .aload_n 0, 1), (239, .sipush 600, 3)] = true := by decide +kernel
theorem dX8_init_207 : decode cX8_init 207 = .ok (.newarray .int, 2) := zdec_at bX8_init_207 0 rfl
theorem dX8_init_209 : decode cX8_init 209 = .ok (.putfield 83, 3) := zdec_at bX8_init_207 1 rfl
theorem dX8_init_212 : decode cX8_init 212 = .ok (.aload_n 0, 1) := zdec_at bX8_init_207 2 rfl
theorem dX8_init_213 : decode cX8_init 213 = .ok (.bipush 100, 2) := zdec_at bX8_init_207 3 rfl
theorem dX8_init_215 : decode cX8_init 215 = .ok (.newarray .int, 2) := zdec_at bX8_init_207 4 rfl
theorem dX8_init_217 : decode cX8_init 217 = .ok (.putfield 86, 3) := zdec_at bX8_init_207 5 rfl
theorem dX8_init_220 : decode cX8_init 220 = .ok (.aload_n 0, 1) := zdec_at bX8_init_207 6 rfl
theorem dX8_init_221 : decode cX8_init 221 = .ok (.sipush 600, 3) := zdec_at bX8_init_207 7 rfl
theorem dX8_init_224 : decode cX8_init 224 = .ok (.newarray .int, 2) := zdec_at bX8_init_207 8 rfl
theorem dX8_init_226 : decode cX8_init 226 = .ok (.putfield 89, 3) := zdec_at bX8_init_207 9 rfl
theorem dX8_init_229 : decode cX8_init 229 = .ok (.aload_n 0, 1) := zdec_at bX8_init_207 10 rfl
theorem dX8_init_230 : decode cX8_init 230 = .ok (.sipush 600, 3) := zdec_at bX8_init_207 11 rfl
theorem dX8_init_233 : decode cX8_init 233 = .ok (.newarray .int, 2) := zdec_at bX8_init_207 12 rfl
theorem dX8_init_235 : decode cX8_init 235 = .ok (.putfield 92, 3) := zdec_at bX8_init_207 13 rfl
theorem dX8_init_238 : decode cX8_init 238 = .ok (.aload_n 0, 1) := zdec_at bX8_init_207 14 rfl
theorem dX8_init_239 : decode cX8_init 239 = .ok (.sipush 600, 3) := zdec_at bX8_init_207 15 rfl
theorem bX8_init_242 : zdec cX8_init 242 [(242, .newarray .int, 2), (244, .putfield 95, 3), (247, .aload_n 0, 1), (248, .sipush 600, 3), (251, .newarray .int, 2), (253, .putfield 98, 3), (256, .aload_n 0, 1), (257, .bipush 12, 2), (259, .newarray .int, 2), (261, .putfield 101, 3), (264, .aload_n 0, 1), (265, .sipush 8000, 3), (268, .newarray .int, 2), (270, .putfield 104, 3), (273, .aload_n 0, 1), (274, .sipush 1200, 3)] = true := by decide +kernel
theorem dX8_init_242 : decode cX8_init 242 = .ok (.newarray .int, 2) := zdec_at bX8_init_242 0 rfl
theorem dX8_init_244 : decode cX8_init 244 = .ok (.putfield 95, 3) := zdec_at bX8_init_242 1 rfl
theorem dX8_init_247 : decode cX8_init 247 = .ok (.aload_n 0, 1) := zdec_at bX8_init_242 2 rfl
theorem dX8_init_248 : decode cX8_init 248 = .ok (.sipush 600, 3) := zdec_at bX8_init_242 3 rfl
theorem dX8_init_251 : decode cX8_init 251 = .ok (.newarray .int, 2) := zdec_at bX8_init_242 4 rfl
theorem dX8_init_253 : decode cX8_init 253 = .ok (.putfield 98, 3) := zdec_at bX8_init_242 5 rfl
theorem dX8_init_256 : decode cX8_init 256 = .ok (.aload_n 0, 1) := zdec_at bX8_init_242 6 rfl
theorem dX8_init_257 : decode cX8_init 257 = .ok (.bipush 12, 2) := zdec_at bX8_init_242 7 rfl
theorem dX8_init_259 : decode cX8_init 259 = .ok (.newarray .int, 2) := zdec_at bX8_init_242 8 rfl
theorem dX8_init_261 : decode cX8_init 261 = .ok (.putfield 101, 3) := zdec_at bX8_init_242 9 rfl
theorem dX8_init_264 : decode cX8_init 264 = .ok (.aload_n 0, 1) := zdec_at bX8_init_242 10 rfl
theorem dX8_init_265 : decode cX8_init 265 = .ok (.sipush 8000, 3) := zdec_at bX8_init_242 11 rfl
theorem dX8_init_268 : decode cX8_init 268 = .ok (.newarray .int, 2) := zdec_at bX8_init_242 12 rfl
theorem dX8_init_270 : decode cX8_init 270 = .ok (.putfield 104, 3) := zdec_at bX8_init_242 13 rfl
theorem dX8_init_273 : decode cX8_init 273 = .ok (.aload_n 0, 1) := zdec_at bX8_init_242 14 rfl
theorem dX8_init_274 : decode cX8_init 274 = .ok (.sipush 1200, 3) := zdec_at bX8_init_242 15 rfl
theorem bX8_init_277 : zdec cX8_init 277 [(277, .newarray .int, 2), (279, .putfield 107, 3), (282, .aload_n 0, 1), (283, .bipush 12, 2), (285, .newarray .int, 2), (287, .putfield 110, 3), (290, .aload_n 0, 1), (291, .sipush 2000, 3), (294, .newarray .int, 2), (296, .putfield 113, 3), (299, .aload_n 0, 1), (300, .sipush 2000, 3), (303, .newarray .int, 2), (305, .putfield 116, 3), (308, .aload_n 0, 1), (309, .sipush 2000, 3)] = true := by decide +kernel
theorem dX8_init_277 : decode cX8_init 277 = .ok (.newarray .int, 2) := zdec_at bX8_init_277 0 rfl
theorem dX8_init_279 : decode cX8_init 279 = .ok (.putfield 107, 3) := zdec_at bX8_init_277 1 rfl
theorem dX8_init_282 : decode cX8_init 282 = .ok (.aload_n 0, 1) := zdec_at bX8_init_277 2 rfl
theorem dX8_init_283 : decode cX8_init 283 = .ok (.bipush 12, 2) := zdec_at bX8_init_277 3 rfl
theorem dX8_init_285 : decode cX8_init 285 = .ok (.newarray .int, 2) := zdec_at bX8_init_277 4 rfl
theorem dX8_init_287 : decode cX8_init 287 = .ok (.putfield 110, 3) := zdec_at bX8_init_277 5 rfl
theorem dX8_init_290 : decode cX8_init 290 = .ok (.aload_n 0, 1) := zdec_at bX8_init_277 6 rfl
theorem dX8_init_291 : decode cX8_init 291 = .ok (.sipush 2000, 3) := zdec_at bX8_init_277 7 rfl
theorem dX8_init_294 : decode cX8_init 294 = .ok (.newarray .int, 2) := zdec_at bX8_init_277 8 rfl
theorem dX8_init_296 : decode cX8_init 296 = .ok (.putfield 113, 3) := zdec_at bX8_init_277 9 rfl
theorem dX8_init_299 : decode cX8_init 299 = .ok (.aload_n 0, 1) := zdec_at bX8_init_277 10 rfl
theorem dX8_init_300 : decode cX8_init 300 = .ok (.sipush 2000, 3) := zdec_at bX8_init_277 11 rfl
theorem dX8_init_303 : decode cX8_init 303 = .ok (.newarray .int, 2) := zdec_at bX8_init_277 12 rfl
theorem dX8_init_305 : decode cX8_init 305 = .ok (.putfield 116, 3) := zdec_at bX8_init_277 13 rfl
theorem dX8_init_308 : decode cX8_init 308 = .ok (.aload_n 0, 1) := zdec_at bX8_init_277 14 rfl
theorem dX8_init_309 : decode cX8_init 309 = .ok (.sipush 2000, 3) := zdec_at bX8_init_277 15 rfl
theorem bX8_init_312 : zdec cX8_init 312 [(312, .newarray .int, 2), (314, .putfield 119, 3), (317, .aload_n 0, 1), (318, .sipush 2000, 3), (321, .newarray .int, 2), (323, .putfield 122, 3), (326, .aload_n 0, 1), (327, .sipush 2000, 3), (330, .newarray .int, 2), (332, .putfield 125, 3), (335, .aload_n 0, 1), (336, .sipush 12000, 3), (339, .newarray .int, 2), (341, .putfield 128, 3), (344, .aload_n 0, 1), (345, .sipush 12000, 3)] = true := by decide +kernel
theorem dX8_init_312 : decode cX8_init 312 = .ok (.newarray .int, 2) := zdec_at bX8_init_312 0 rfl
theorem dX8_init_314 : decode cX8_init 314 = .ok (.putfield 119, 3) := zdec_at bX8_init_312 1 rfl
theorem dX8_init_317 : decode cX8_init 317 = .ok (.aload_n 0, 1) := zdec_at bX8_init_312 2 rfl
theorem dX8_init_318 : decode cX8_init 318 = .ok (.sipush 2000, 3) := zdec_at bX8_init_312 3 rfl
theorem dX8_init_321 : decode cX8_init 321 = .ok (.newarray .int, 2) := zdec_at bX8_init_312 4 rfl
theorem dX8_init_323 : decode cX8_init 323 = .ok (.putfield 122, 3) := zdec_at bX8_init_312 5 rfl
theorem dX8_init_326 : decode cX8_init 326 = .ok (.aload_n 0, 1) := zdec_at bX8_init_312 6 rfl
theorem dX8_init_327 : decode cX8_init 327 = .ok (.sipush 2000, 3) := zdec_at bX8_init_312 7 rfl
theorem dX8_init_330 : decode cX8_init 330 = .ok (.newarray .int, 2) := zdec_at bX8_init_312 8 rfl
theorem dX8_init_332 : decode cX8_init 332 = .ok (.putfield 125, 3) := zdec_at bX8_init_312 9 rfl
theorem dX8_init_335 : decode cX8_init 335 = .ok (.aload_n 0, 1) := zdec_at bX8_init_312 10 rfl
theorem dX8_init_336 : decode cX8_init 336 = .ok (.sipush 12000, 3) := zdec_at bX8_init_312 11 rfl
theorem dX8_init_339 : decode cX8_init 339 = .ok (.newarray .int, 2) := zdec_at bX8_init_312 12 rfl
theorem dX8_init_341 : decode cX8_init 341 = .ok (.putfield 128, 3) := zdec_at bX8_init_312 13 rfl
theorem dX8_init_344 : decode cX8_init 344 = .ok (.aload_n 0, 1) := zdec_at bX8_init_312 14 rfl
theorem dX8_init_345 : decode cX8_init 345 = .ok (.sipush 12000, 3) := zdec_at bX8_init_312 15 rfl
theorem bX8_init_348 : zdec cX8_init 348 [(348, .newarray .int, 2), (350, .putfield 131, 3), (353, .aload_n 0, 1), (354, .sipush 300, 3), (357, .newarray .int, 2), (359, .putfield 134, 3), (362, .aload_n 0, 1), (363, .sipush 300, 3), (366, .newarray .int, 2), (368, .putfield 137, 3), (371, .aload_n 0, 1), (372, .sipush 300, 3), (375, .newarray .int, 2), (377, .putfield 140, 3), (380, .aload_n 0, 1), (381, .sipush 300, 3)] = true := by decide +kernel
theorem dX8_init_348 : decode cX8_init 348 = .ok (.newarray .int, 2) := zdec_at bX8_init_348 0 rfl
theorem dX8_init_350 : decode cX8_init 350 = .ok (.putfield 131, 3) := zdec_at bX8_init_348 1 rfl
theorem dX8_init_353 : decode cX8_init 353 = .ok (.aload_n 0, 1) := zdec_at bX8_init_348 2 rfl
theorem dX8_init_354 : decode cX8_init 354 = .ok (.sipush 300, 3) := zdec_at bX8_init_348 3 rfl
theorem dX8_init_357 : decode cX8_init 357 = .ok (.newarray .int, 2) := zdec_at bX8_init_348 4 rfl
theorem dX8_init_359 : decode cX8_init 359 = .ok (.putfield 134, 3) := zdec_at bX8_init_348 5 rfl
theorem dX8_init_362 : decode cX8_init 362 = .ok (.aload_n 0, 1) := zdec_at bX8_init_348 6 rfl
theorem dX8_init_363 : decode cX8_init 363 = .ok (.sipush 300, 3) := zdec_at bX8_init_348 7 rfl
theorem dX8_init_366 : decode cX8_init 366 = .ok (.newarray .int, 2) := zdec_at bX8_init_348 8 rfl
theorem dX8_init_368 : decode cX8_init 368 = .ok (.putfield 137, 3) := zdec_at bX8_init_348 9 rfl
theorem dX8_init_371 : decode cX8_init 371 = .ok (.aload_n 0, 1) := zdec_at bX8_init_348 10 rfl
theorem dX8_init_372 : decode cX8_init 372 = .ok (.sipush 300, 3) := zdec_at bX8_init_348 11 rfl
theorem dX8_init_375 : decode cX8_init 375 = .ok (.newarray .int, 2) := zdec_at bX8_init_348 12 rfl
theorem dX8_init_377 : decode cX8_init 377 = .ok (.putfield 140, 3) := zdec_at bX8_init_348 13 rfl
theorem dX8_init_380 : decode cX8_init 380 = .ok (.aload_n 0, 1) := zdec_at bX8_init_348 14 rfl
theorem dX8_init_381 : decode cX8_init 381 = .ok (.sipush 300, 3) := zdec_at bX8_init_348 15 rfl
theorem bX8_init_384 : zdec cX8_init 384 [(384, .newarray .int, 2), (386, .putfield 143, 3), (389, .aload_n 0, 1), (390, .sipush 300, 3), (393, .newarray .int, 2), (395, .putfield 146, 3), (398, .aload_n 0, 1), (399, .sipush 300, 3), (402, .newarray .int, 2), (404, .putfield 149, 3), (407, .aload_n 0, 1), (408, .sipush 300, 3), (411, .newarray .int, 2), (413, .putfield 152, 3), (416, .aload_n 0, 1), (417, .sipush 3000, 3)] = true := by decide +kernel
theorem dX8_init_384 : decode cX8_init 384 = .ok (.newarray .int, 2) := zdec_at bX8_init_384 0 rfl
theorem dX8_init_386 : decode cX8_init 386 = .ok (.putfield 143, 3) := zdec_at bX8_init_384 1 rfl
theorem dX8_init_389 : decode cX8_init 389 = .ok (.aload_n 0, 1) := zdec_at bX8_init_384 2 rfl
theorem dX8_init_390 : decode cX8_init 390 = .ok (.sipush 300, 3) := zdec_at bX8_init_384 3 rfl
theorem dX8_init_393 : decode cX8_init 393 = .ok (.newarray .int, 2) := zdec_at bX8_init_384 4 rfl
theorem dX8_init_395 : decode cX8_init 395 = .ok (.putfield 146, 3) := zdec_at bX8_init_384 5 rfl
theorem dX8_init_398 : decode cX8_init 398 = .ok (.aload_n 0, 1) := zdec_at bX8_init_384 6 rfl
theorem dX8_init_399 : decode cX8_init 399 = .ok (.sipush 300, 3) := zdec_at bX8_init_384 7 rfl
theorem dX8_init_402 : decode cX8_init 402 = .ok (.newarray .int, 2) := zdec_at bX8_init_384 8 rfl
theorem dX8_init_404 : decode cX8_init 404 = .ok (.putfield 149, 3) := zdec_at bX8_init_384 9 rfl
theorem dX8_init_407 : decode cX8_init 407 = .ok (.aload_n 0, 1) := zdec_at bX8_init_384 10 rfl
theorem dX8_init_408 : decode cX8_init 408 = .ok (.sipush 300, 3) := zdec_at bX8_init_384 11 rfl
theorem dX8_init_411 : decode cX8_init 411 = .ok (.newarray .int, 2) := zdec_at bX8_init_384 12 rfl
theorem dX8_init_413 : decode cX8_init 413 = .ok (.putfield 152, 3) := zdec_at bX8_init_384 13 rfl
theorem dX8_init_416 : decode cX8_init 416 = .ok (.aload_n 0, 1) := zdec_at bX8_init_384 14 rfl
theorem dX8_init_417 : decode cX8_init 417 = .ok (.sipush 3000, 3) := zdec_at bX8_init_384 15 rfl
theorem bX8_init_420 : zdec cX8_init 420 [(420, .newarray .int, 2), (422, .putfield 155, 3), (425, .aload_n 0, 1), (426, .sipush 3000, 3), (429, .newarray .int, 2), (431, .putfield 158, 3), (434, .aload_n 0, 1), (435, .sipush 3000, 3), (438, .newarray .int, 2), (440, .putfield 161, 3), (443, .aload_n 0, 1), (444, .sipush 3000, 3), (447, .newarray .int, 2), (449, .putfield 164, 3), (452, .aload_n 0, 1), (453, .sipush 3000, 3)] = true := by decide +kernel
theorem dX8_init_420 : decode cX8_init 420 = .ok (.newarray .int, 2) := zdec_at bX8_init_420 0 rfl
theorem dX8_init_422 : decode cX8_init 422 = .ok (.putfield 155, 3) := zdec_at bX8_init_420 1 rfl
theorem dX8_init_425 : decode cX8_init 425 = .ok (.aload_n 0, 1) := zdec_at bX8_init_420 2 rfl
theorem dX8_init_426 : decode cX8_init 426 = .ok (.sipush 3000, 3) := zdec_at bX8_init_420 3 rfl
theorem dX8_init_429 : decode cX8_init 429 = .ok (.newarray .int, 2) := zdec_at bX8_init_420 4 rfl
theorem dX8_init_431 : decode cX8_init 431 = .ok (.putfield 158, 3) := zdec_at bX8_init_420 5 rfl
theorem dX8_init_434 : decode cX8_init 434 = .ok (.aload_n 0, 1) := zdec_at bX8_init_420 6 rfl
theorem dX8_init_435 : decode cX8_init 435 = .ok (.sipush 3000, 3) := zdec_at bX8_init_420 7 rfl
theorem dX8_init_438 : decode cX8_init 438 = .ok (.newarray .int, 2) := zdec_at bX8_init_420 8 rfl
theorem dX8_init_440 : decode cX8_init 440 = .ok (.putfield 161, 3) := zdec_at bX8_init_420 9 rfl
theorem dX8_init_443 : decode cX8_init 443 = .ok (.aload_n 0, 1) := zdec_at bX8_init_420 10 rfl
theorem dX8_init_444 : decode cX8_init 444 = .ok (.sipush 3000, 3) := zdec_at bX8_init_420 11 rfl
theorem dX8_init_447 : decode cX8_init 447 = .ok (.newarray .int, 2) := zdec_at bX8_init_420 12 rfl
theorem dX8_init_449 : decode cX8_init 449 = .ok (.putfield 164, 3) := zdec_at bX8_init_420 13 rfl
theorem dX8_init_452 : decode cX8_init 452 = .ok (.aload_n 0, 1) := zdec_at bX8_init_420 14 rfl
theorem dX8_init_453 : decode cX8_init 453 = .ok (.sipush 3000, 3) := zdec_at bX8_init_420 15 rfl
theorem bX8_init_456 : zdec cX8_init 456 [(456, .newarray .int, 2), (458, .putfield 167, 3), (461, .aload_n 0, 1), (462, .bipush 24, 2), (464, .newarray .int, 2), (466, .putfield 170, 3), (469, .aload_n 0, 1), (470, .bipush 24, 2), (472, .newarray .int, 2), (474, .putfield 173, 3), (477, .aload_n 0, 1), (478, .bipush 24, 2), (480, .newarray .int, 2), (482, .putfield 176, 3), (485, .aload_n 0, 1), (486, .bipush 24, 2)] = true := by decide +kernel
theorem dX8_init_456 : decode cX8_init 456 = .ok (.newarray .int, 2) := zdec_at bX8_init_456 0 rfl
theorem dX8_init_458 : decode cX8_init 458 = .ok (.putfield 167, 3) := zdec_at bX8_init_456 1 rfl
theorem dX8_init_461 : decode cX8_init 461 = .ok (.aload_n 0, 1) := zdec_at bX8_init_456 2 rfl
theorem dX8_init_462 : decode cX8_init 462 = .ok (.bipush 24, 2) := zdec_at bX8_init_456 3 rfl
theorem dX8_init_464 : decode cX8_init 464 = .ok (.newarray .int, 2) := zdec_at bX8_init_456 4 rfl
theorem dX8_init_466 : decode cX8_init 466 = .ok (.putfield 170, 3) := zdec_at bX8_init_456 5 rfl
theorem dX8_init_469 : decode cX8_init 469 = .ok (.aload_n 0, 1) := zdec_at bX8_init_456 6 rfl
theorem dX8_init_470 : decode cX8_init 470 = .ok (.bipush 24, 2) := zdec_at bX8_init_456 7 rfl
theorem dX8_init_472 : decode cX8_init 472 = .ok (.newarray .int, 2) := zdec_at bX8_init_456 8 rfl
theorem dX8_init_474 : decode cX8_init 474 = .ok (.putfield 173, 3) := zdec_at bX8_init_456 9 rfl
theorem dX8_init_477 : decode cX8_init 477 = .ok (.aload_n 0, 1) := zdec_at bX8_init_456 10 rfl
theorem dX8_init_478 : decode cX8_init 478 = .ok (.bipush 24, 2) := zdec_at bX8_init_456 11 rfl
theorem dX8_init_480 : decode cX8_init 480 = .ok (.newarray .int, 2) := zdec_at bX8_init_456 12 rfl
theorem dX8_init_482 : decode cX8_init 482 = .ok (.putfield 176, 3) := zdec_at bX8_init_456 13 rfl
theorem dX8_init_485 : decode cX8_init 485 = .ok (.aload_n 0, 1) := zdec_at bX8_init_456 14 rfl
theorem dX8_init_486 : decode cX8_init 486 = .ok (.bipush 24, 2) := zdec_at bX8_init_456 15 rfl
theorem bX8_init_488 : zdec cX8_init 488 [(488, .newarray .int, 2), (490, .putfield 179, 3), (493, .aload_n 0, 1), (494, .bipush 24, 2), (496, .newarray .int, 2), (498, .putfield 182, 3), (501, .aload_n 0, 1), (502, .bipush 24, 2), (504, .newarray .int, 2), (506, .putfield 185, 3), (509, .aload_n 0, 1), (510, .bipush 24, 2), (512, .newarray .int, 2), (514, .putfield 188, 3), (517, .aload_n 0, 1), (518, .bipush 24, 2)] = true := by decide +kernel
theorem dX8_init_488 : decode cX8_init 488 = .ok (.newarray .int, 2) := zdec_at bX8_init_488 0 rfl
theorem dX8_init_490 : decode cX8_init 490 = .ok (.putfield 179, 3) := zdec_at bX8_init_488 1 rfl
theorem dX8_init_493 : decode cX8_init 493 = .ok (.aload_n 0, 1) := zdec_at bX8_init_488 2 rfl
theorem dX8_init_494 : decode cX8_init 494 = .ok (.bipush 24, 2) := zdec_at bX8_init_488 3 rfl
theorem dX8_init_496 : decode cX8_init 496 = .ok (.newarray .int, 2) := zdec_at bX8_init_488 4 rfl
theorem dX8_init_498 : decode cX8_init 498 = .ok (.putfield 182, 3) := zdec_at bX8_init_488 5 rfl
theorem dX8_init_501 : decode cX8_init 501 = .ok (.aload_n 0, 1) := zdec_at bX8_init_488 6 rfl
theorem dX8_init_502 : decode cX8_init 502 = .ok (.bipush 24, 2) := zdec_at bX8_init_488 7 rfl
theorem dX8_init_504 : decode cX8_init 504 = .ok (.newarray .int, 2) := zdec_at bX8_init_488 8 rfl
theorem dX8_init_506 : decode cX8_init 506 = .ok (.putfield 185, 3) := zdec_at bX8_init_488 9 rfl
theorem dX8_init_509 : decode cX8_init 509 = .ok (.aload_n 0, 1) := zdec_at bX8_init_488 10 rfl
theorem dX8_init_510 : decode cX8_init 510 = .ok (.bipush 24, 2) := zdec_at bX8_init_488 11 rfl
theorem dX8_init_512 : decode cX8_init 512 = .ok (.newarray .int, 2) := zdec_at bX8_init_488 12 rfl
theorem dX8_init_514 : decode cX8_init 514 = .ok (.putfield 188, 3) := zdec_at bX8_init_488 13 rfl
theorem dX8_init_517 : decode cX8_init 517 = .ok (.aload_n 0, 1) := zdec_at bX8_init_488 14 rfl
theorem dX8_init_518 : decode cX8_init 518 = .ok (.bipush 24, 2) := zdec_at bX8_init_488 15 rfl
theorem bX8_init_520 : zdec cX8_init 520 [(520, .newarray .int, 2), (522, .putfield 191, 3), (525, .aload_n 0, 1), (526, .sipush 960, 3), (529, .newarray .int, 2), (531, .putfield 194, 3), (534, .aload_n 0, 1), (535, .sipush 960, 3), (538, .newarray .int, 2), (540, .putfield 197, 3), (543, .aload_n 0, 1), (544, .sipush 9600, 3), (547, .newarray .int, 2), (549, .putfield 200, 3), (552, .aload_n 0, 1), (553, .sipush 9600, 3)] = true := by decide +kernel
theorem dX8_init_520 : decode cX8_init 520 = .ok (.newarray .int, 2) := zdec_at bX8_init_520 0 rfl
theorem dX8_init_522 : decode cX8_init 522 = .ok (.putfield 191, 3) := zdec_at bX8_init_520 1 rfl
theorem dX8_init_525 : decode cX8_init 525 = .ok (.aload_n 0, 1) := zdec_at bX8_init_520 2 rfl
theorem dX8_init_526 : decode cX8_init 526 = .ok (.sipush 960, 3) := zdec_at bX8_init_520 3 rfl
theorem dX8_init_529 : decode cX8_init 529 = .ok (.newarray .int, 2) := zdec_at bX8_init_520 4 rfl
theorem dX8_init_531 : decode cX8_init 531 = .ok (.putfield 194, 3) := zdec_at bX8_init_520 5 rfl
theorem dX8_init_534 : decode cX8_init 534 = .ok (.aload_n 0, 1) := zdec_at bX8_init_520 6 rfl
theorem dX8_init_535 : decode cX8_init 535 = .ok (.sipush 960, 3) := zdec_at bX8_init_520 7 rfl
theorem dX8_init_538 : decode cX8_init 538 = .ok (.newarray .int, 2) := zdec_at bX8_init_520 8 rfl
theorem dX8_init_540 : decode cX8_init 540 = .ok (.putfield 197, 3) := zdec_at bX8_init_520 9 rfl
theorem dX8_init_543 : decode cX8_init 543 = .ok (.aload_n 0, 1) := zdec_at bX8_init_520 10 rfl
theorem dX8_init_544 : decode cX8_init 544 = .ok (.sipush 9600, 3) := zdec_at bX8_init_520 11 rfl
theorem dX8_init_547 : decode cX8_init 547 = .ok (.newarray .int, 2) := zdec_at bX8_init_520 12 rfl
theorem dX8_init_549 : decode cX8_init 549 = .ok (.putfield 200, 3) := zdec_at bX8_init_520 13 rfl
theorem dX8_init_552 : decode cX8_init 552 = .ok (.aload_n 0, 1) := zdec_at bX8_init_520 14 rfl
theorem dX8_init_553 : decode cX8_init 553 = .ok (.sipush 9600, 3) := zdec_at bX8_init_520 15 rfl
theorem bX8_init_556 : zdec cX8_init 556 [(556, .newarray .int, 2), (558, .putfield 203, 3), (561, .aload_n 0, 1), (562, .sipush 9600, 3), (565, .newarray .int, 2), (567, .putfield 206, 3), (570, .aload_n 0, 1), (571, .sipush 9600, 3), (574, .newarray .int, 2), (576, .putfield 209, 3), (579, .aload_n 0, 1), (580, .bipush 100, 2), (582, .newarray .int, 2), (584, .putfield 212, 3), (587, .aload_n 0, 1), (588, .ldc 215, 2)] = true := by decide +kernel
theorem dX8_init_556 : decode cX8_init 556 = .ok (.newarray .int, 2) := zdec_at bX8_init_556 0 rfl
theorem dX8_init_558 : decode cX8_init 558 = .ok (.putfield 203, 3) := zdec_at bX8_init_556 1 rfl
theorem dX8_init_561 : decode cX8_init 561 = .ok (.aload_n 0, 1) := zdec_at bX8_init_556 2 rfl
theorem dX8_init_562 : decode cX8_init 562 = .ok (.sipush 9600, 3) := zdec_at bX8_init_556 3 rfl
theorem dX8_init_565 : decode cX8_init 565 = .ok (.newarray .int, 2) := zdec_at bX8_init_556 4 rfl
theorem dX8_init_567 : decode cX8_init 567 = .ok (.putfield 206, 3) := zdec_at bX8_init_556 5 rfl
theorem dX8_init_570 : decode cX8_init 570 = .ok (.aload_n 0, 1) := zdec_at bX8_init_556 6 rfl
theorem dX8_init_571 : decode cX8_init 571 = .ok (.sipush 9600, 3) := zdec_at bX8_init_556 7 rfl
theorem dX8_init_574 : decode cX8_init 574 = .ok (.newarray .int, 2) := zdec_at bX8_init_556 8 rfl
theorem dX8_init_576 : decode cX8_init 576 = .ok (.putfield 209, 3) := zdec_at bX8_init_556 9 rfl
theorem dX8_init_579 : decode cX8_init 579 = .ok (.aload_n 0, 1) := zdec_at bX8_init_556 10 rfl
theorem dX8_init_580 : decode cX8_init 580 = .ok (.bipush 100, 2) := zdec_at bX8_init_556 11 rfl
theorem dX8_init_582 : decode cX8_init 582 = .ok (.newarray .int, 2) := zdec_at bX8_init_556 12 rfl
theorem dX8_init_584 : decode cX8_init 584 = .ok (.putfield 212, 3) := zdec_at bX8_init_556 13 rfl
theorem dX8_init_587 : decode cX8_init 587 = .ok (.aload_n 0, 1) := zdec_at bX8_init_556 14 rfl
theorem dX8_init_588 : decode cX8_init 588 = .ok (.ldc 215, 2) := zdec_at bX8_init_556 15 rfl
theorem bX8_init_590 : zdec cX8_init 590 [(590, .newarray .long, 2), (592, .putfield 216, 3), (595, .aload_n 0, 1), (596, .ldc 215, 2), (598, .newarray .long, 2), (600, .putfield 220, 3), (603, .aload_n 0, 1), (604, .ldc 215, 2), (606, .newarray .long, 2), (608, .putfield 223, 3), (611, .aload_n 0, 1), (612, .sipush 640, 3), (615, .newarray .boolean, 2), (617, .putfield 226, 3), (620, .aload_n 0, 1), (621, .sipush 640, 3)] = true := by decide +kernel
theorem dX8_init_590 : decode cX8_init 590 = .ok (.newarray .long, 2) := zdec_at bX8_init_590 0 rfl
theorem dX8_init_592 : decode cX8_init 592 = .ok (.putfield 216, 3) := zdec_at bX8_init_590 1 rfl
theorem dX8_init_595 : decode cX8_init 595 = .ok (.aload_n 0, 1) := zdec_at bX8_init_590 2 rfl
theorem dX8_init_596 : decode cX8_init 596 = .ok (.ldc 215, 2) := zdec_at bX8_init_590 3 rfl
theorem dX8_init_598 : decode cX8_init 598 = .ok (.newarray .long, 2) := zdec_at bX8_init_590 4 rfl
theorem dX8_init_600 : decode cX8_init 600 = .ok (.putfield 220, 3) := zdec_at bX8_init_590 5 rfl
theorem dX8_init_603 : decode cX8_init 603 = .ok (.aload_n 0, 1) := zdec_at bX8_init_590 6 rfl
theorem dX8_init_604 : decode cX8_init 604 = .ok (.ldc 215, 2) := zdec_at bX8_init_590 7 rfl
theorem dX8_init_606 : decode cX8_init 606 = .ok (.newarray .long, 2) := zdec_at bX8_init_590 8 rfl
theorem dX8_init_608 : decode cX8_init 608 = .ok (.putfield 223, 3) := zdec_at bX8_init_590 9 rfl
theorem dX8_init_611 : decode cX8_init 611 = .ok (.aload_n 0, 1) := zdec_at bX8_init_590 10 rfl
theorem dX8_init_612 : decode cX8_init 612 = .ok (.sipush 640, 3) := zdec_at bX8_init_590 11 rfl
theorem dX8_init_615 : decode cX8_init 615 = .ok (.newarray .boolean, 2) := zdec_at bX8_init_590 12 rfl
theorem dX8_init_617 : decode cX8_init 617 = .ok (.putfield 226, 3) := zdec_at bX8_init_590 13 rfl
theorem dX8_init_620 : decode cX8_init 620 = .ok (.aload_n 0, 1) := zdec_at bX8_init_590 14 rfl
theorem dX8_init_621 : decode cX8_init 621 = .ok (.sipush 640, 3) := zdec_at bX8_init_590 15 rfl
theorem bX8_init_624 : zdec cX8_init 624 [(624, .newarray .boolean, 2), (626, .putfield 229, 3), (629, .aload_n 0, 1), (630, .sipush 640, 3), (633, .newarray .int, 2), (635, .putfield 232, 3), (638, .aload_n 0, 1), (639, .sipush 640, 3), (642, .newarray .int, 2), (644, .putfield 235, 3), (647, .aload_n 0, 1), (648, .sipush 640, 3), (651, .newarray .int, 2), (653, .putfield 238, 3), (656, .aload_n 0, 1), (657, .sipush 640, 3)] = true := by decide +kernel
theorem dX8_init_624 : decode cX8_init 624 = .ok (.newarray .boolean, 2) := zdec_at bX8_init_624 0 rfl
theorem dX8_init_626 : decode cX8_init 626 = .ok (.putfield 229, 3) := zdec_at bX8_init_624 1 rfl
theorem dX8_init_629 : decode cX8_init 629 = .ok (.aload_n 0, 1) := zdec_at bX8_init_624 2 rfl
theorem dX8_init_630 : decode cX8_init 630 = .ok (.sipush 640, 3) := zdec_at bX8_init_624 3 rfl
theorem dX8_init_633 : decode cX8_init 633 = .ok (.newarray .int, 2) := zdec_at bX8_init_624 4 rfl
theorem dX8_init_635 : decode cX8_init 635 = .ok (.putfield 232, 3) := zdec_at bX8_init_624 5 rfl
theorem dX8_init_638 : decode cX8_init 638 = .ok (.aload_n 0, 1) := zdec_at bX8_init_624 6 rfl
theorem dX8_init_639 : decode cX8_init 639 = .ok (.sipush 640, 3) := zdec_at bX8_init_624 7 rfl
theorem dX8_init_642 : decode cX8_init 642 = .ok (.newarray .int, 2) := zdec_at bX8_init_624 8 rfl
theorem dX8_init_644 : decode cX8_init 644 = .ok (.putfield 235, 3) := zdec_at bX8_init_624 9 rfl
theorem dX8_init_647 : decode cX8_init 647 = .ok (.aload_n 0, 1) := zdec_at bX8_init_624 10 rfl
theorem dX8_init_648 : decode cX8_init 648 = .ok (.sipush 640, 3) := zdec_at bX8_init_624 11 rfl
theorem dX8_init_651 : decode cX8_init 651 = .ok (.newarray .int, 2) := zdec_at bX8_init_624 12 rfl
theorem dX8_init_653 : decode cX8_init 653 = .ok (.putfield 238, 3) := zdec_at bX8_init_624 13 rfl
theorem dX8_init_656 : decode cX8_init 656 = .ok (.aload_n 0, 1) := zdec_at bX8_init_624 14 rfl
theorem dX8_init_657 : decode cX8_init 657 = .ok (.sipush 640, 3) := zdec_at bX8_init_624 15 rfl
theorem bX8_init_660 : zdec cX8_init 660 [(660, .newarray .long, 2), (662, .putfield 241, 3), (665, .aload_n 0, 1), (666, .sipush 640, 3), (669, .newarray .long, 2), (671, .putfield 244, 3), (674, .aload_n 0, 1), (675, .sipush 640, 3), (678, .newarray .int, 2), (680, .putfield 247, 3), (683, .aload_n 0, 1), (684, .sipush 25600, 3), (687, .newarray .int, 2), (689, .putfield 250, 3), (692, .aload_n 0, 1), (693, .sipush 25600, 3)] = true := by decide +kernel
theorem dX8_init_660 : decode cX8_init 660 = .ok (.newarray .long, 2) := zdec_at bX8_init_660 0 rfl
theorem dX8_init_662 : decode cX8_init 662 = .ok (.putfield 241, 3) := zdec_at bX8_init_660 1 rfl
theorem dX8_init_665 : decode cX8_init 665 = .ok (.aload_n 0, 1) := zdec_at bX8_init_660 2 rfl
theorem dX8_init_666 : decode cX8_init 666 = .ok (.sipush 640, 3) := zdec_at bX8_init_660 3 rfl
theorem dX8_init_669 : decode cX8_init 669 = .ok (.newarray .long, 2) := zdec_at bX8_init_660 4 rfl
theorem dX8_init_671 : decode cX8_init 671 = .ok (.putfield 244, 3) := zdec_at bX8_init_660 5 rfl
theorem dX8_init_674 : decode cX8_init 674 = .ok (.aload_n 0, 1) := zdec_at bX8_init_660 6 rfl
theorem dX8_init_675 : decode cX8_init 675 = .ok (.sipush 640, 3) := zdec_at bX8_init_660 7 rfl
theorem dX8_init_678 : decode cX8_init 678 = .ok (.newarray .int, 2) := zdec_at bX8_init_660 8 rfl
theorem dX8_init_680 : decode cX8_init 680 = .ok (.putfield 247, 3) := zdec_at bX8_init_660 9 rfl
theorem dX8_init_683 : decode cX8_init 683 = .ok (.aload_n 0, 1) := zdec_at bX8_init_660 10 rfl
theorem dX8_init_684 : decode cX8_init 684 = .ok (.sipush 25600, 3) := zdec_at bX8_init_660 11 rfl
theorem dX8_init_687 : decode cX8_init 687 = .ok (.newarray .int, 2) := zdec_at bX8_init_660 12 rfl
theorem dX8_init_689 : decode cX8_init 689 = .ok (.putfield 250, 3) := zdec_at bX8_init_660 13 rfl
theorem dX8_init_692 : decode cX8_init 692 = .ok (.aload_n 0, 1) := zdec_at bX8_init_660 14 rfl
theorem dX8_init_693 : decode cX8_init 693 = .ok (.sipush 25600, 3) := zdec_at bX8_init_660 15 rfl
theorem bX8_init_696 : zdec cX8_init 696 [(696, .newarray .int, 2), (698, .putfield 253, 3), (701, .aload_n 0, 1), (702, .sipush 15128, 3), (705, .newarray .boolean, 2), (707, .putfield 256, 3), (710, .aload_n 0, 1), (711, .sipush 15128, 3), (714, .newarray .boolean, 2), (716, .putfield 259, 3), (719, .aload_n 0, 1), (720, .sipush 15128, 3), (723, .newarray .long, 2), (725, .putfield 262, 3), (728, .aload_n 0, 1), (729, .sipush 15128, 3)] = true := by decide +kernel
theorem dX8_init_696 : decode cX8_init 696 = .ok (.newarray .int, 2) := zdec_at bX8_init_696 0 rfl
theorem dX8_init_698 : decode cX8_init 698 = .ok (.putfield 253, 3) := zdec_at bX8_init_696 1 rfl
theorem dX8_init_701 : decode cX8_init 701 = .ok (.aload_n 0, 1) := zdec_at bX8_init_696 2 rfl
theorem dX8_init_702 : decode cX8_init 702 = .ok (.sipush 15128, 3) := zdec_at bX8_init_696 3 rfl
theorem dX8_init_705 : decode cX8_init 705 = .ok (.newarray .boolean, 2) := zdec_at bX8_init_696 4 rfl
theorem dX8_init_707 : decode cX8_init 707 = .ok (.putfield 256, 3) := zdec_at bX8_init_696 5 rfl
theorem dX8_init_710 : decode cX8_init 710 = .ok (.aload_n 0, 1) := zdec_at bX8_init_696 6 rfl
theorem dX8_init_711 : decode cX8_init 711 = .ok (.sipush 15128, 3) := zdec_at bX8_init_696 7 rfl
theorem dX8_init_714 : decode cX8_init 714 = .ok (.newarray .boolean, 2) := zdec_at bX8_init_696 8 rfl
theorem dX8_init_716 : decode cX8_init 716 = .ok (.putfield 259, 3) := zdec_at bX8_init_696 9 rfl
theorem dX8_init_719 : decode cX8_init 719 = .ok (.aload_n 0, 1) := zdec_at bX8_init_696 10 rfl
theorem dX8_init_720 : decode cX8_init 720 = .ok (.sipush 15128, 3) := zdec_at bX8_init_696 11 rfl
theorem dX8_init_723 : decode cX8_init 723 = .ok (.newarray .long, 2) := zdec_at bX8_init_696 12 rfl
theorem dX8_init_725 : decode cX8_init 725 = .ok (.putfield 262, 3) := zdec_at bX8_init_696 13 rfl
theorem dX8_init_728 : decode cX8_init 728 = .ok (.aload_n 0, 1) := zdec_at bX8_init_696 14 rfl
theorem dX8_init_729 : decode cX8_init 729 = .ok (.sipush 15128, 3) := zdec_at bX8_init_696 15 rfl
theorem bX8_init_732 : zdec cX8_init 732 [(732, .newarray .long, 2), (734, .putfield 265, 3), (737, .aload_n 0, 1), (738, .sipush 15128, 3), (741, .newarray .long, 2), (743, .putfield 268, 3), (746, .aload_n 0, 1), (747, .sipush 15128, 3), (750, .newarray .long, 2), (752, .putfield 271, 3), (755, .aload_n 0, 1), (756, .bipush 90, 2), (758, .newarray .boolean, 2), (760, .putfield 274, 3), (763, .aload_n 0, 1), (764, .bipush 90, 2)] = true := by decide +kernel
theorem dX8_init_732 : decode cX8_init 732 = .ok (.newarray .long, 2) := zdec_at bX8_init_732 0 rfl
theorem dX8_init_734 : decode cX8_init 734 = .ok (.putfield 265, 3) := zdec_at bX8_init_732 1 rfl
theorem dX8_init_737 : decode cX8_init 737 = .ok (.aload_n 0, 1) := zdec_at bX8_init_732 2 rfl
theorem dX8_init_738 : decode cX8_init 738 = .ok (.sipush 15128, 3) := zdec_at bX8_init_732 3 rfl
theorem dX8_init_741 : decode cX8_init 741 = .ok (.newarray .long, 2) := zdec_at bX8_init_732 4 rfl
theorem dX8_init_743 : decode cX8_init 743 = .ok (.putfield 268, 3) := zdec_at bX8_init_732 5 rfl
theorem dX8_init_746 : decode cX8_init 746 = .ok (.aload_n 0, 1) := zdec_at bX8_init_732 6 rfl
theorem dX8_init_747 : decode cX8_init 747 = .ok (.sipush 15128, 3) := zdec_at bX8_init_732 7 rfl
theorem dX8_init_750 : decode cX8_init 750 = .ok (.newarray .long, 2) := zdec_at bX8_init_732 8 rfl
theorem dX8_init_752 : decode cX8_init 752 = .ok (.putfield 271, 3) := zdec_at bX8_init_732 9 rfl
theorem dX8_init_755 : decode cX8_init 755 = .ok (.aload_n 0, 1) := zdec_at bX8_init_732 10 rfl
theorem dX8_init_756 : decode cX8_init 756 = .ok (.bipush 90, 2) := zdec_at bX8_init_732 11 rfl
theorem dX8_init_758 : decode cX8_init 758 = .ok (.newarray .boolean, 2) := zdec_at bX8_init_732 12 rfl
theorem dX8_init_760 : decode cX8_init 760 = .ok (.putfield 274, 3) := zdec_at bX8_init_732 13 rfl
theorem dX8_init_763 : decode cX8_init 763 = .ok (.aload_n 0, 1) := zdec_at bX8_init_732 14 rfl
theorem dX8_init_764 : decode cX8_init 764 = .ok (.bipush 90, 2) := zdec_at bX8_init_732 15 rfl
theorem bX8_init_766 : zdec cX8_init 766 [(766, .newarray .boolean, 2), (768, .putfield 277, 3), (771, .aload_n 0, 1), (772, .bipush 90, 2), (774, .newarray .boolean, 2), (776, .putfield 280, 3), (779, .aload_n 0, 1), (780, .bipush 20, 2), (782, .newarray .boolean, 2), (784, .putfield 283, 3), (787, .aload_n 0, 1), (788, .bipush 12, 2), (790, .newarray .int, 2), (792, .putfield 286, 3), (795, .return_, 1)] = true := by decide +kernel
theorem dX8_init_766 : decode cX8_init 766 = .ok (.newarray .boolean, 2) := zdec_at bX8_init_766 0 rfl
theorem dX8_init_768 : decode cX8_init 768 = .ok (.putfield 277, 3) := zdec_at bX8_init_766 1 rfl
theorem dX8_init_771 : decode cX8_init 771 = .ok (.aload_n 0, 1) := zdec_at bX8_init_766 2 rfl
theorem dX8_init_772 : decode cX8_init 772 = .ok (.bipush 90, 2) := zdec_at bX8_init_766 3 rfl
theorem dX8_init_774 : decode cX8_init 774 = .ok (.newarray .boolean, 2) := zdec_at bX8_init_766 4 rfl
theorem dX8_init_776 : decode cX8_init 776 = .ok (.putfield 280, 3) := zdec_at bX8_init_766 5 rfl
theorem dX8_init_779 : decode cX8_init 779 = .ok (.aload_n 0, 1) := zdec_at bX8_init_766 6 rfl
theorem dX8_init_780 : decode cX8_init 780 = .ok (.bipush 20, 2) := zdec_at bX8_init_766 7 rfl
theorem dX8_init_782 : decode cX8_init 782 = .ok (.newarray .boolean, 2) := zdec_at bX8_init_766 8 rfl
theorem dX8_init_784 : decode cX8_init 784 = .ok (.putfield 283, 3) := zdec_at bX8_init_766 9 rfl
theorem dX8_init_787 : decode cX8_init 787 = .ok (.aload_n 0, 1) := zdec_at bX8_init_766 10 rfl
theorem dX8_init_788 : decode cX8_init 788 = .ok (.bipush 12, 2) := zdec_at bX8_init_766 11 rfl
theorem dX8_init_790 : decode cX8_init 790 = .ok (.newarray .int, 2) := zdec_at bX8_init_766 12 rfl
theorem dX8_init_792 : decode cX8_init 792 = .ok (.putfield 286, 3) := zdec_at bX8_init_766 13 rfl
theorem dX8_init_795 : decode cX8_init 795 = .ok (.return_, 1) := zdec_at bX8_init_766 14 rfl
theorem sX8_init_0 {E : zE} {d : Nat} {Q : zO → zM → Prop} (M : zM)  (k : Z E YX8_init (d + 1) (zn M 4000) [(0, vr (some (97, 1, 0)))] 10 [vr (some ((zsz M), 101, 4000)), vr (some (97, 1, 0))] Q) : Z E YX8_init (d + 1) M [(0, vr (some (97, 1, 0)))] 0 [] Q := by
  refine z_aload_n dX8_init_0 rfl rfl ?_
  refine z_objInit dX8_init_1 oiX8_1 (by omega) (by decide) ?_
  refine z_aload_n dX8_init_4 rfl rfl ?_
  refine z_sipush (v := 4000) dX8_init_5 rfl ?_
  refine z_newa (q := 1) (N := 4000) dX8_init_8 rfl (by decide) q536 (by decide) (by decide) (by decide) ?_
  exact k
theorem sX8_init_10 {E : zE} {d : Nat} {Q : zO → zM → Prop} (M : zM) (p0 : Nat) (k : Z E YX8_init (d + 1) (zn (sr M 97 1 (some (p0, 101, 4000))) 4000) [(0, vr (some (97, 1, 0)))] 19 [vr (some ((zsz M), 101, 4000)), vr (some (97, 1, 0))] Q) : Z E YX8_init (d + 1) M [(0, vr (some (97, 1, 0)))] 10 [vr (some (p0, 101, 4000)), vr (some (97, 1, 0))] Q := by
  refine z_putr (by decide) dX8_init_10 (zfwN.f fwX8_7_1 rfl (fun q h => by rw [← Option.some.inj h]; rfl)) rfl ?_
  refine z_aload_n dX8_init_13 rfl rfl ?_
  refine z_sipush (v := 4000) dX8_init_14 rfl ?_
  refine z_newa (q := 1) (N := 4000) dX8_init_17 rfl (by decide) q536 (by decide) (by decide) (by decide) ?_
  exact k
theorem sX8_init_19 {E : zE} {d : Nat} {Q : zO → zM → Prop} (M : zM) (p0 : Nat) (k : Z E YX8_init (d + 1) (zn (sr M 97 3 (some (p0, 101, 4000))) 24000) [(0, vr (some (97, 1, 0)))] 28 [vr (some ((zsz M), 103, 24000)), vr (some (97, 1, 0))] Q) : Z E YX8_init (d + 1) M [(0, vr (some (97, 1, 0)))] 19 [vr (some (p0, 101, 4000)), vr (some (97, 1, 0))] Q := by
  refine z_putr (by decide) dX8_init_19 (zfwN.f fwX8_13_1 rfl (fun q h => by rw [← Option.some.inj h]; rfl)) rfl ?_
  refine z_aload_n dX8_init_22 rfl rfl ?_
  refine z_sipush (v := 24000) dX8_init_23 rfl ?_
  refine z_newa (q := 3) (N := 24000) dX8_init_26 rfl (by decide) q3955 (by decide) (by decide) (by decide) ?_
  exact k
theorem sX8_init_28 {E : zE} {d : Nat} {Q : zO → zM → Prop} (M : zM) (p0 : Nat) (k : Z E YX8_init (d + 1) (zn (sr M 97 5 (some (p0, 103, 24000))) 400) [(0, vr (some (97, 1, 0)))] 37 [vr (some ((zsz M), 100, 400)), vr (some (97, 1, 0))] Q) : Z E YX8_init (d + 1) M [(0, vr (some (97, 1, 0)))] 28 [vr (some (p0, 103, 24000)), vr (some (97, 1, 0))] Q := by
  refine z_putr (by decide) dX8_init_28 (zfwN.f fwX8_16_1 rfl (fun q h => by rw [← Option.some.inj h]; rfl)) rfl ?_
  refine z_aload_n dX8_init_31 rfl rfl ?_
  refine z_sipush (v := 400) dX8_init_32 rfl ?_
  refine z_newa (q := 0) (N := 400) dX8_init_35 rfl (by decide) q535 (by decide) (by decide) (by decide) ?_
  exact k
theorem sX8_init_37 {E : zE} {d : Nat} {Q : zO → zM → Prop} (M : zM) (p0 : Nat) (k : Z E YX8_init (d + 1) (zn (sr M 97 6 (some (p0, 100, 400))) 200) [(0, vr (some (97, 1, 0)))] 46 [vr (some ((zsz M), 103, 200)), vr (some (97, 1, 0))] Q) : Z E YX8_init (d + 1) M [(0, vr (some (97, 1, 0)))] 37 [vr (some (p0, 100, 400)), vr (some (97, 1, 0))] Q := by
  refine z_putr (by decide) dX8_init_37 (zfwN.f fwX8_20_1 rfl (fun q h => by rw [← Option.some.inj h]; rfl)) rfl ?_
  refine z_aload_n dX8_init_40 rfl rfl ?_
  refine z_sipush (v := 200) dX8_init_41 rfl ?_
  refine z_newa (q := 3) (N := 200) dX8_init_44 rfl (by decide) q3955 (by decide) (by decide) (by decide) ?_
  exact k
theorem sX8_init_46 {E : zE} {d : Nat} {Q : zO → zM → Prop} (M : zM) (p0 : Nat) (k : Z E YX8_init (d + 1) (zn (sr M 97 10 (some (p0, 103, 200))) 4002) [(0, vr (some (97, 1, 0)))] 55 [vr (some ((zsz M), 100, 4002)), vr (some (97, 1, 0))] Q) : Z E YX8_init (d + 1) M [(0, vr (some (97, 1, 0)))] 46 [vr (some (p0, 103, 200)), vr (some (97, 1, 0))] Q := by
  refine z_putr (by decide) dX8_init_46 (zfwN.f fwX8_24_1 rfl (fun q h => by rw [← Option.some.inj h]; rfl)) rfl ?_
  refine z_aload_n dX8_init_49 rfl rfl ?_
  refine z_sipush (v := 4002) dX8_init_50 rfl ?_
  refine z_newa (q := 0) (N := 4002) dX8_init_53 rfl (by decide) q535 (by decide) (by decide) (by decide) ?_
  exact k
theorem sX8_init_55 {E : zE} {d : Nat} {Q : zO → zM → Prop} (M : zM) (p0 : Nat) (k : Z E YX8_init (d + 1) (zn (sr M 97 13 (some (p0, 100, 4002))) 4002) [(0, vr (some (97, 1, 0)))] 64 [vr (some ((zsz M), 100, 4002)), vr (some (97, 1, 0))] Q) : Z E YX8_init (d + 1) M [(0, vr (some (97, 1, 0)))] 55 [vr (some (p0, 100, 4002)), vr (some (97, 1, 0))] Q := by
  refine z_putr (by decide) dX8_init_55 (zfwN.f fwX8_27_1 rfl (fun q h => by rw [← Option.some.inj h]; rfl)) rfl ?_
  refine z_aload_n dX8_init_58 rfl rfl ?_
  refine z_sipush (v := 4002) dX8_init_59 rfl ?_
  refine z_newa (q := 0) (N := 4002) dX8_init_62 rfl (by decide) q535 (by decide) (by decide) (by decide) ?_
  exact k
theorem sX8_init_64 {E : zE} {d : Nat} {Q : zO → zM → Prop} (M : zM) (p0 : Nat) (k : Z E YX8_init (d + 1) (zn (sr M 97 14 (some (p0, 100, 4002))) 4002) [(0, vr (some (97, 1, 0)))] 73 [vr (some ((zsz M), 100, 4002)), vr (some (97, 1, 0))] Q) : Z E YX8_init (d + 1) M [(0, vr (some (97, 1, 0)))] 64 [vr (some (p0, 100, 4002)), vr (some (97, 1, 0))] Q := by
  refine z_putr (by decide) dX8_init_64 (zfwN.f fwX8_30_1 rfl (fun q h => by rw [← Option.some.inj h]; rfl)) rfl ?_
  refine z_aload_n dX8_init_67 rfl rfl ?_
  refine z_sipush (v := 4002) dX8_init_68 rfl ?_
  refine z_newa (q := 0) (N := 4002) dX8_init_71 rfl (by decide) q535 (by decide) (by decide) (by decide) ?_
  exact k
theorem sX8_init_73 {E : zE} {d : Nat} {Q : zO → zM → Prop} (M : zM) (p0 : Nat) (k : Z E YX8_init (d + 1) (zn (sr M 97 15 (some (p0, 100, 4002))) 4002) [(0, vr (some (97, 1, 0)))] 82 [vr (some ((zsz M), 100, 4002)), vr (some (97, 1, 0))] Q) : Z E YX8_init (d + 1) M [(0, vr (some (97, 1, 0)))] 73 [vr (some (p0, 100, 4002)), vr (some (97, 1, 0))] Q := by
  refine z_putr (by decide) dX8_init_73 (zfwN.f fwX8_33_1 rfl (fun q h => by rw [← Option.some.inj h]; rfl)) rfl ?_
  refine z_aload_n dX8_init_76 rfl rfl ?_
  refine z_sipush (v := 4002) dX8_init_77 rfl ?_
  refine z_newa (q := 0) (N := 4002) dX8_init_80 rfl (by decide) q535 (by decide) (by decide) (by decide) ?_
  exact k
theorem sX8_init_82 {E : zE} {d : Nat} {Q : zO → zM → Prop} (M : zM) (p0 : Nat) (k : Z E YX8_init (d + 1) (zn (sr M 97 16 (some (p0, 100, 4002))) 4002) [(0, vr (some (97, 1, 0)))] 91 [vr (some ((zsz M), 100, 4002)), vr (some (97, 1, 0))] Q) : Z E YX8_init (d + 1) M [(0, vr (some (97, 1, 0)))] 82 [vr (some (p0, 100, 4002)), vr (some (97, 1, 0))] Q := by
  refine z_putr (by decide) dX8_init_82 (zfwN.f fwX8_36_1 rfl (fun q h => by rw [← Option.some.inj h]; rfl)) rfl ?_
  refine z_aload_n dX8_init_85 rfl rfl ?_
  refine z_sipush (v := 4002) dX8_init_86 rfl ?_
  refine z_newa (q := 0) (N := 4002) dX8_init_89 rfl (by decide) q535 (by decide) (by decide) (by decide) ?_
  exact k
theorem sX8_init_91 {E : zE} {d : Nat} {Q : zO → zM → Prop} (M : zM) (p0 : Nat) (k : Z E YX8_init (d + 1) (zn (sr M 97 17 (some (p0, 100, 4002))) 12000) [(0, vr (some (97, 1, 0)))] 100 [vr (some ((zsz M), 100, 12000)), vr (some (97, 1, 0))] Q) : Z E YX8_init (d + 1) M [(0, vr (some (97, 1, 0)))] 91 [vr (some (p0, 100, 4002)), vr (some (97, 1, 0))] Q := by
  refine z_putr (by decide) dX8_init_91 (zfwN.f fwX8_39_1 rfl (fun q h => by rw [← Option.some.inj h]; rfl)) rfl ?_
  refine z_aload_n dX8_init_94 rfl rfl ?_
  refine z_sipush (v := 12000) dX8_init_95 rfl ?_
  refine z_newa (q := 0) (N := 12000) dX8_init_98 rfl (by decide) q535 (by decide) (by decide) (by decide) ?_
  exact k
theorem sX8_init_100 {E : zE} {d : Nat} {Q : zO → zM → Prop} (M : zM) (p0 : Nat) (k : Z E YX8_init (d + 1) (zn (sr M 97 25 (some (p0, 100, 12000))) 60000) [(0, vr (some (97, 1, 0)))] 108 [vr (some ((zsz M), 100, 60000)), vr (some (97, 1, 0))] Q) : Z E YX8_init (d + 1) M [(0, vr (some (97, 1, 0)))] 100 [vr (some (p0, 100, 12000)), vr (some (97, 1, 0))] Q := by
  refine z_putr (by decide) dX8_init_100 (zfwN.f fwX8_42_1 rfl (fun q h => by rw [← Option.some.inj h]; rfl)) rfl ?_
  refine z_aload_n dX8_init_103 rfl rfl ?_
  refine z_ldc (v := 60000) dX8_init_104 q3499 ?_
  refine z_newa (q := 0) (N := 60000) dX8_init_106 rfl (by decide) q535 (by decide) (by decide) (by decide) ?_
  exact k
theorem sX8_init_108 {E : zE} {d : Nat} {Q : zO → zM → Prop} (M : zM) (p0 : Nat) (k : Z E YX8_init (d + 1) (zn (sr M 97 26 (some (p0, 100, 60000))) 12000) [(0, vr (some (97, 1, 0)))] 117 [vr (some ((zsz M), 100, 12000)), vr (some (97, 1, 0))] Q) : Z E YX8_init (d + 1) M [(0, vr (some (97, 1, 0)))] 108 [vr (some (p0, 100, 60000)), vr (some (97, 1, 0))] Q := by
  refine z_putr (by decide) dX8_init_108 (zfwN.f fwX8_46_1 rfl (fun q h => by rw [← Option.some.inj h]; rfl)) rfl ?_
  refine z_aload_n dX8_init_111 rfl rfl ?_
  refine z_sipush (v := 12000) dX8_init_112 rfl ?_
  refine z_newa (q := 0) (N := 12000) dX8_init_115 rfl (by decide) q535 (by decide) (by decide) (by decide) ?_
  exact k
theorem sX8_init_117 {E : zE} {d : Nat} {Q : zO → zM → Prop} (M : zM) (p0 : Nat) (k : Z E YX8_init (d + 1) (zn (sr M 97 27 (some (p0, 100, 12000))) 12000) [(0, vr (some (97, 1, 0)))] 126 [vr (some ((zsz M), 104, 12000)), vr (some (97, 1, 0))] Q) : Z E YX8_init (d + 1) M [(0, vr (some (97, 1, 0)))] 117 [vr (some (p0, 100, 12000)), vr (some (97, 1, 0))] Q := by
  refine z_putr (by decide) dX8_init_117 (zfwN.f fwX8_49_1 rfl (fun q h => by rw [← Option.some.inj h]; rfl)) rfl ?_
  refine z_aload_n dX8_init_120 rfl rfl ?_
  refine z_sipush (v := 12000) dX8_init_121 rfl ?_
  refine z_newa (q := 4) (N := 12000) dX8_init_124 rfl (by decide) q727 (by decide) (by decide) (by decide) ?_
  exact k
theorem sX8_init_126 {E : zE} {d : Nat} {Q : zO → zM → Prop} (M : zM) (p0 : Nat) (k : Z E YX8_init (d + 1) (zn (sr M 97 28 (some (p0, 104, 12000))) 200) [(0, vr (some (97, 1, 0)))] 135 [vr (some ((zsz M), 100, 200)), vr (some (97, 1, 0))] Q) : Z E YX8_init (d + 1) M [(0, vr (some (97, 1, 0)))] 126 [vr (some (p0, 104, 12000)), vr (some (97, 1, 0))] Q := by
  refine z_putr (by decide) dX8_init_126 (zfwN.f fwX8_52_1 rfl (fun q h => by rw [← Option.some.inj h]; rfl)) rfl ?_
  refine z_aload_n dX8_init_129 rfl rfl ?_
  refine z_sipush (v := 200) dX8_init_130 rfl ?_
  refine z_newa (q := 0) (N := 200) dX8_init_133 rfl (by decide) q535 (by decide) (by decide) (by decide) ?_
  exact k
theorem sX8_init_135 {E : zE} {d : Nat} {Q : zO → zM → Prop} (M : zM) (p0 : Nat) (k : Z E YX8_init (d + 1) (zn (sr M 97 29 (some (p0, 100, 200))) 200) [(0, vr (some (97, 1, 0)))] 144 [vr (some ((zsz M), 100, 200)), vr (some (97, 1, 0))] Q) : Z E YX8_init (d + 1) M [(0, vr (some (97, 1, 0)))] 135 [vr (some (p0, 100, 200)), vr (some (97, 1, 0))] Q := by
  refine z_putr (by decide) dX8_init_135 (zfwN.f fwX8_56_1 rfl (fun q h => by rw [← Option.some.inj h]; rfl)) rfl ?_
  refine z_aload_n dX8_init_138 rfl rfl ?_
  refine z_sipush (v := 200) dX8_init_139 rfl ?_
  refine z_newa (q := 0) (N := 200) dX8_init_142 rfl (by decide) q535 (by decide) (by decide) (by decide) ?_
  exact k
theorem sX8_init_144 {E : zE} {d : Nat} {Q : zO → zM → Prop} (M : zM) (p0 : Nat) (k : Z E YX8_init (d + 1) (zn (sr M 97 30 (some (p0, 100, 200))) 12) [(0, vr (some (97, 1, 0)))] 152 [vr (some ((zsz M), 100, 12)), vr (some (97, 1, 0))] Q) : Z E YX8_init (d + 1) M [(0, vr (some (97, 1, 0)))] 144 [vr (some (p0, 100, 200)), vr (some (97, 1, 0))] Q := by
  refine z_putr (by decide) dX8_init_144 (zfwN.f fwX8_59_1 rfl (fun q h => by rw [← Option.some.inj h]; rfl)) rfl ?_
  refine z_aload_n dX8_init_147 rfl rfl ?_
  refine z_bipush (v := 12) dX8_init_148 rfl ?_
  refine z_newa (q := 0) (N := 12) dX8_init_150 rfl (by decide) q535 (by decide) (by decide) (by decide) ?_
  exact k
theorem sX8_init_152 {E : zE} {d : Nat} {Q : zO → zM → Prop} (M : zM) (p0 : Nat) (k : Z E YX8_init (d + 1) (zn (sr M 97 33 (some (p0, 100, 12))) 12) [(0, vr (some (97, 1, 0)))] 160 [vr (some ((zsz M), 104, 12)), vr (some (97, 1, 0))] Q) : Z E YX8_init (d + 1) M [(0, vr (some (97, 1, 0)))] 152 [vr (some (p0, 100, 12)), vr (some (97, 1, 0))] Q := by
  refine z_putr (by decide) dX8_init_152 (zfwN.f fwX8_62_1 rfl (fun q h => by rw [← Option.some.inj h]; rfl)) rfl ?_
  refine z_aload_n dX8_init_155 rfl rfl ?_
  refine z_bipush (v := 12) dX8_init_156 rfl ?_
  refine z_newa (q := 4) (N := 12) dX8_init_158 rfl (by decide) q727 (by decide) (by decide) (by decide) ?_
  exact k
theorem sX8_init_160 {E : zE} {d : Nat} {Q : zO → zM → Prop} (M : zM) (p0 : Nat) (k : Z E YX8_init (d + 1) (zn (sr M 97 34 (some (p0, 104, 12))) 96) [(0, vr (some (97, 1, 0)))] 168 [vr (some ((zsz M), 100, 96)), vr (some (97, 1, 0))] Q) : Z E YX8_init (d + 1) M [(0, vr (some (97, 1, 0)))] 160 [vr (some (p0, 104, 12)), vr (some (97, 1, 0))] Q := by
  refine z_putr (by decide) dX8_init_160 (zfwN.f fwX8_65_1 rfl (fun q h => by rw [← Option.some.inj h]; rfl)) rfl ?_
  refine z_aload_n dX8_init_163 rfl rfl ?_
  refine z_bipush (v := 96) dX8_init_164 rfl ?_
  refine z_newa (q := 0) (N := 96) dX8_init_166 rfl (by decide) q535 (by decide) (by decide) (by decide) ?_
  exact k
theorem sX8_init_168 {E : zE} {d : Nat} {Q : zO → zM → Prop} (M : zM) (p0 : Nat) (k : Z E YX8_init (d + 1) (zn (sr M 97 35 (some (p0, 100, 96))) 12) [(0, vr (some (97, 1, 0)))] 176 [vr (some ((zsz M), 100, 12)), vr (some (97, 1, 0))] Q) : Z E YX8_init (d + 1) M [(0, vr (some (97, 1, 0)))] 168 [vr (some (p0, 100, 96)), vr (some (97, 1, 0))] Q := by
  refine z_putr (by decide) dX8_init_168 (zfwN.f fwX8_68_1 rfl (fun q h => by rw [← Option.some.inj h]; rfl)) rfl ?_
  refine z_aload_n dX8_init_171 rfl rfl ?_
  refine z_bipush (v := 12) dX8_init_172 rfl ?_
  refine z_newa (q := 0) (N := 12) dX8_init_174 rfl (by decide) q535 (by decide) (by decide) (by decide) ?_
  exact k
theorem sX8_init_176 {E : zE} {d : Nat} {Q : zO → zM → Prop} (M : zM) (p0 : Nat) (k : Z E YX8_init (d + 1) (zn (sr M 97 36 (some (p0, 100, 12))) 12) [(0, vr (some (97, 1, 0)))] 184 [vr (some ((zsz M), 100, 12)), vr (some (97, 1, 0))] Q) : Z E YX8_init (d + 1) M [(0, vr (some (97, 1, 0)))] 176 [vr (some (p0, 100, 12)), vr (some (97, 1, 0))] Q := by
  refine z_putr (by decide) dX8_init_176 (zfwN.f fwX8_71_1 rfl (fun q h => by rw [← Option.some.inj h]; rfl)) rfl ?_
  refine z_aload_n dX8_init_179 rfl rfl ?_
  refine z_bipush (v := 12) dX8_init_180 rfl ?_
  refine z_newa (q := 0) (N := 12) dX8_init_182 rfl (by decide) q535 (by decide) (by decide) (by decide) ?_
  exact k
theorem sX8_init_184 {E : zE} {d : Nat} {Q : zO → zM → Prop} (M : zM) (p0 : Nat) (k : Z E YX8_init (d + 1) (zn (sr M 97 37 (some (p0, 100, 12))) 12) [(0, vr (some (97, 1, 0)))] 192 [vr (some ((zsz M), 100, 12)), vr (some (97, 1, 0))] Q) : Z E YX8_init (d + 1) M [(0, vr (some (97, 1, 0)))] 184 [vr (some (p0, 100, 12)), vr (some (97, 1, 0))] Q := by
  refine z_putr (by decide) dX8_init_184 (zfwN.f fwX8_74_1 rfl (fun q h => by rw [← Option.some.inj h]; rfl)) rfl ?_
  refine z_aload_n dX8_init_187 rfl rfl ?_
  refine z_bipush (v := 12) dX8_init_188 rfl ?_
  refine z_newa (q := 0) (N := 12) dX8_init_190 rfl (by decide) q535 (by decide) (by decide) (by decide) ?_
  exact k
theorem sX8_init_192 {E : zE} {d : Nat} {Q : zO → zM → Prop} (M : zM) (p0 : Nat) (k : Z E YX8_init (d + 1) (zn (sr M 97 38 (some (p0, 100, 12))) 1200) [(0, vr (some (97, 1, 0)))] 201 [vr (some ((zsz M), 100, 1200)), vr (some (97, 1, 0))] Q) : Z E YX8_init (d + 1) M [(0, vr (some (97, 1, 0)))] 192 [vr (some (p0, 100, 12)), vr (some (97, 1, 0))] Q := by
  refine z_putr (by decide) dX8_init_192 (zfwN.f fwX8_77_1 rfl (fun q h => by rw [← Option.some.inj h]; rfl)) rfl ?_
  refine z_aload_n dX8_init_195 rfl rfl ?_
  refine z_sipush (v := 1200) dX8_init_196 rfl ?_
  refine z_newa (q := 0) (N := 1200) dX8_init_199 rfl (by decide) q535 (by decide) (by decide) (by decide) ?_
  exact k
theorem sX8_init_201 {E : zE} {d : Nat} {Q : zO → zM → Prop} (M : zM) (p0 : Nat) (k : Z E YX8_init (d + 1) (zn (sr M 97 39 (some (p0, 100, 1200))) 12) [(0, vr (some (97, 1, 0)))] 209 [vr (some ((zsz M), 100, 12)), vr (some (97, 1, 0))] Q) : Z E YX8_init (d + 1) M [(0, vr (some (97, 1, 0)))] 201 [vr (some (p0, 100, 1200)), vr (some (97, 1, 0))] Q := by
  refine z_putr (by decide) dX8_init_201 (zfwN.f fwX8_80_1 rfl (fun q h => by rw [← Option.some.inj h]; rfl)) rfl ?_
  refine z_aload_n dX8_init_204 rfl rfl ?_
  refine z_bipush (v := 12) dX8_init_205 rfl ?_
  refine z_newa (q := 0) (N := 12) dX8_init_207 rfl (by decide) q535 (by decide) (by decide) (by decide) ?_
  exact k
theorem sX8_init_209 {E : zE} {d : Nat} {Q : zO → zM → Prop} (M : zM) (p0 : Nat) (k : Z E YX8_init (d + 1) (zn (sr M 97 40 (some (p0, 100, 12))) 100) [(0, vr (some (97, 1, 0)))] 217 [vr (some ((zsz M), 100, 100)), vr (some (97, 1, 0))] Q) : Z E YX8_init (d + 1) M [(0, vr (some (97, 1, 0)))] 209 [vr (some (p0, 100, 12)), vr (some (97, 1, 0))] Q := by
  refine z_putr (by decide) dX8_init_209 (zfwN.f fwX8_83_1 rfl (fun q h => by rw [← Option.some.inj h]; rfl)) rfl ?_
  refine z_aload_n dX8_init_212 rfl rfl ?_
  refine z_bipush (v := 100) dX8_init_213 rfl ?_
  refine z_newa (q := 0) (N := 100) dX8_init_215 rfl (by decide) q535 (by decide) (by decide) (by decide) ?_
  exact k
theorem sX8_init_217 {E : zE} {d : Nat} {Q : zO → zM → Prop} (M : zM) (p0 : Nat) (k : Z E YX8_init (d + 1) (zn (sr M 97 41 (some (p0, 100, 100))) 600) [(0, vr (some (97, 1, 0)))] 226 [vr (some ((zsz M), 100, 600)), vr (some (97, 1, 0))] Q) : Z E YX8_init (d + 1) M [(0, vr (some (97, 1, 0)))] 217 [vr (some (p0, 100, 100)), vr (some (97, 1, 0))] Q := by
  refine z_putr (by decide) dX8_init_217 (zfwN.f fwX8_86_1 rfl (fun q h => by rw [← Option.some.inj h]; rfl)) rfl ?_
  refine z_aload_n dX8_init_220 rfl rfl ?_
  refine z_sipush (v := 600) dX8_init_221 rfl ?_
  refine z_newa (q := 0) (N := 600) dX8_init_224 rfl (by decide) q535 (by decide) (by decide) (by decide) ?_
  exact k
theorem sX8_init_226 {E : zE} {d : Nat} {Q : zO → zM → Prop} (M : zM) (p0 : Nat) (k : Z E YX8_init (d + 1) (zn (sr M 97 48 (some (p0, 100, 600))) 600) [(0, vr (some (97, 1, 0)))] 235 [vr (some ((zsz M), 100, 600)), vr (some (97, 1, 0))] Q) : Z E YX8_init (d + 1) M [(0, vr (some (97, 1, 0)))] 226 [vr (some (p0, 100, 600)), vr (some (97, 1, 0))] Q := by
  refine z_putr (by decide) dX8_init_226 (zfwN.f fwX8_89_1 rfl (fun q h => by rw [← Option.some.inj h]; rfl)) rfl ?_
  refine z_aload_n dX8_init_229 rfl rfl ?_
  refine z_sipush (v := 600) dX8_init_230 rfl ?_
  refine z_newa (q := 0) (N := 600) dX8_init_233 rfl (by decide) q535 (by decide) (by decide) (by decide) ?_
  exact k
theorem sX8_init_235 {E : zE} {d : Nat} {Q : zO → zM → Prop} (M : zM) (p0 : Nat) (k : Z E YX8_init (d + 1) (zn (sr M 97 49 (some (p0, 100, 600))) 600) [(0, vr (some (97, 1, 0)))] 244 [vr (some ((zsz M), 100, 600)), vr (some (97, 1, 0))] Q) : Z E YX8_init (d + 1) M [(0, vr (some (97, 1, 0)))] 235 [vr (some (p0, 100, 600)), vr (some (97, 1, 0))] Q := by
  refine z_putr (by decide) dX8_init_235 (zfwN.f fwX8_92_1 rfl (fun q h => by rw [← Option.some.inj h]; rfl)) rfl ?_
  refine z_aload_n dX8_init_238 rfl rfl ?_
  refine z_sipush (v := 600) dX8_init_239 rfl ?_
  refine z_newa (q := 0) (N := 600) dX8_init_242 rfl (by decide) q535 (by decide) (by decide) (by decide) ?_
  exact k
theorem sX8_init_244 {E : zE} {d : Nat} {Q : zO → zM → Prop} (M : zM) (p0 : Nat) (k : Z E YX8_init (d + 1) (zn (sr M 97 50 (some (p0, 100, 600))) 600) [(0, vr (some (97, 1, 0)))] 253 [vr (some ((zsz M), 100, 600)), vr (some (97, 1, 0))] Q) : Z E YX8_init (d + 1) M [(0, vr (some (97, 1, 0)))] 244 [vr (some (p0, 100, 600)), vr (some (97, 1, 0))] Q := by
  refine z_putr (by decide) dX8_init_244 (zfwN.f fwX8_95_1 rfl (fun q h => by rw [← Option.some.inj h]; rfl)) rfl ?_
  refine z_aload_n dX8_init_247 rfl rfl ?_
  refine z_sipush (v := 600) dX8_init_248 rfl ?_
  refine z_newa (q := 0) (N := 600) dX8_init_251 rfl (by decide) q535 (by decide) (by decide) (by decide) ?_
  exact k
theorem sX8_init_253 {E : zE} {d : Nat} {Q : zO → zM → Prop} (M : zM) (p0 : Nat) (k : Z E YX8_init (d + 1) (zn (sr M 97 51 (some (p0, 100, 600))) 12) [(0, vr (some (97, 1, 0)))] 261 [vr (some ((zsz M), 100, 12)), vr (some (97, 1, 0))] Q) : Z E YX8_init (d + 1) M [(0, vr (some (97, 1, 0)))] 253 [vr (some (p0, 100, 600)), vr (some (97, 1, 0))] Q := by
  refine z_putr (by decide) dX8_init_253 (zfwN.f fwX8_98_1 rfl (fun q h => by rw [← Option.some.inj h]; rfl)) rfl ?_
  refine z_aload_n dX8_init_256 rfl rfl ?_
  refine z_bipush (v := 12) dX8_init_257 rfl ?_
  refine z_newa (q := 0) (N := 12) dX8_init_259 rfl (by decide) q535 (by decide) (by decide) (by decide) ?_
  exact k
theorem sX8_init_261 {E : zE} {d : Nat} {Q : zO → zM → Prop} (M : zM) (p0 : Nat) (k : Z E YX8_init (d + 1) (zn (sr M 97 52 (some (p0, 100, 12))) 8000) [(0, vr (some (97, 1, 0)))] 270 [vr (some ((zsz M), 100, 8000)), vr (some (97, 1, 0))] Q) : Z E YX8_init (d + 1) M [(0, vr (some (97, 1, 0)))] 261 [vr (some (p0, 100, 12)), vr (some (97, 1, 0))] Q := by
  refine z_putr (by decide) dX8_init_261 (zfwN.f fwX8_101_1 rfl (fun q h => by rw [← Option.some.inj h]; rfl)) rfl ?_
  refine z_aload_n dX8_init_264 rfl rfl ?_
  refine z_sipush (v := 8000) dX8_init_265 rfl ?_
  refine z_newa (q := 0) (N := 8000) dX8_init_268 rfl (by decide) q535 (by decide) (by decide) (by decide) ?_
  exact k
theorem sX8_init_270 {E : zE} {d : Nat} {Q : zO → zM → Prop} (M : zM) (p0 : Nat) (k : Z E YX8_init (d + 1) (zn (sr M 97 54 (some (p0, 100, 8000))) 1200) [(0, vr (some (97, 1, 0)))] 279 [vr (some ((zsz M), 100, 1200)), vr (some (97, 1, 0))] Q) : Z E YX8_init (d + 1) M [(0, vr (some (97, 1, 0)))] 270 [vr (some (p0, 100, 8000)), vr (some (97, 1, 0))] Q := by
  refine z_putr (by decide) dX8_init_270 (zfwN.f fwX8_104_1 rfl (fun q h => by rw [← Option.some.inj h]; rfl)) rfl ?_
  refine z_aload_n dX8_init_273 rfl rfl ?_
  refine z_sipush (v := 1200) dX8_init_274 rfl ?_
  refine z_newa (q := 0) (N := 1200) dX8_init_277 rfl (by decide) q535 (by decide) (by decide) (by decide) ?_
  exact k
theorem sX8_init_279 {E : zE} {d : Nat} {Q : zO → zM → Prop} (M : zM) (p0 : Nat) (k : Z E YX8_init (d + 1) (zn (sr M 97 57 (some (p0, 100, 1200))) 12) [(0, vr (some (97, 1, 0)))] 287 [vr (some ((zsz M), 100, 12)), vr (some (97, 1, 0))] Q) : Z E YX8_init (d + 1) M [(0, vr (some (97, 1, 0)))] 279 [vr (some (p0, 100, 1200)), vr (some (97, 1, 0))] Q := by
  refine z_putr (by decide) dX8_init_279 (zfwN.f fwX8_107_1 rfl (fun q h => by rw [← Option.some.inj h]; rfl)) rfl ?_
  refine z_aload_n dX8_init_282 rfl rfl ?_
  refine z_bipush (v := 12) dX8_init_283 rfl ?_
  refine z_newa (q := 0) (N := 12) dX8_init_285 rfl (by decide) q535 (by decide) (by decide) (by decide) ?_
  exact k
theorem sX8_init_287 {E : zE} {d : Nat} {Q : zO → zM → Prop} (M : zM) (p0 : Nat) (k : Z E YX8_init (d + 1) (zn (sr M 97 58 (some (p0, 100, 12))) 2000) [(0, vr (some (97, 1, 0)))] 296 [vr (some ((zsz M), 100, 2000)), vr (some (97, 1, 0))] Q) : Z E YX8_init (d + 1) M [(0, vr (some (97, 1, 0)))] 287 [vr (some (p0, 100, 12)), vr (some (97, 1, 0))] Q := by
  refine z_putr (by decide) dX8_init_287 (zfwN.f fwX8_110_1 rfl (fun q h => by rw [← Option.some.inj h]; rfl)) rfl ?_
  refine z_aload_n dX8_init_290 rfl rfl ?_
  refine z_sipush (v := 2000) dX8_init_291 rfl ?_
  refine z_newa (q := 0) (N := 2000) dX8_init_294 rfl (by decide) q535 (by decide) (by decide) (by decide) ?_
  exact k
theorem sX8_init_296 {E : zE} {d : Nat} {Q : zO → zM → Prop} (M : zM) (p0 : Nat) (k : Z E YX8_init (d + 1) (zn (sr M 97 61 (some (p0, 100, 2000))) 2000) [(0, vr (some (97, 1, 0)))] 305 [vr (some ((zsz M), 100, 2000)), vr (some (97, 1, 0))] Q) : Z E YX8_init (d + 1) M [(0, vr (some (97, 1, 0)))] 296 [vr (some (p0, 100, 2000)), vr (some (97, 1, 0))] Q := by
  refine z_putr (by decide) dX8_init_296 (zfwN.w fwX8_113_1) rfl ?_
  refine z_aload_n dX8_init_299 rfl rfl ?_
  refine z_sipush (v := 2000) dX8_init_300 rfl ?_
  refine z_newa (q := 0) (N := 2000) dX8_init_303 rfl (by decide) q535 (by decide) (by decide) (by decide) ?_
  exact k
theorem sX8_init_305 {E : zE} {d : Nat} {Q : zO → zM → Prop} (M : zM) (p0 : Nat) (k : Z E YX8_init (d + 1) (zn (sr M 97 62 (some (p0, 100, 2000))) 2000) [(0, vr (some (97, 1, 0)))] 314 [vr (some ((zsz M), 100, 2000)), vr (some (97, 1, 0))] Q) : Z E YX8_init (d + 1) M [(0, vr (some (97, 1, 0)))] 305 [vr (some (p0, 100, 2000)), vr (some (97, 1, 0))] Q := by
  refine z_putr (by decide) dX8_init_305 (zfwN.w fwX8_116_1) rfl ?_
  refine z_aload_n dX8_init_308 rfl rfl ?_
  refine z_sipush (v := 2000) dX8_init_309 rfl ?_
  refine z_newa (q := 0) (N := 2000) dX8_init_312 rfl (by decide) q535 (by decide) (by decide) (by decide) ?_
  exact k
theorem sX8_init_314 {E : zE} {d : Nat} {Q : zO → zM → Prop} (M : zM) (p0 : Nat) (k : Z E YX8_init (d + 1) (zn (sr M 97 63 (some (p0, 100, 2000))) 2000) [(0, vr (some (97, 1, 0)))] 323 [vr (some ((zsz M), 100, 2000)), vr (some (97, 1, 0))] Q) : Z E YX8_init (d + 1) M [(0, vr (some (97, 1, 0)))] 314 [vr (some (p0, 100, 2000)), vr (some (97, 1, 0))] Q := by
  refine z_putr (by decide) dX8_init_314 (zfwN.w fwX8_119_1) rfl ?_
  refine z_aload_n dX8_init_317 rfl rfl ?_
  refine z_sipush (v := 2000) dX8_init_318 rfl ?_
  refine z_newa (q := 0) (N := 2000) dX8_init_321 rfl (by decide) q535 (by decide) (by decide) (by decide) ?_
  exact k
theorem sX8_init_323 {E : zE} {d : Nat} {Q : zO → zM → Prop} (M : zM) (p0 : Nat) (k : Z E YX8_init (d + 1) (zn (sr M 97 64 (some (p0, 100, 2000))) 2000) [(0, vr (some (97, 1, 0)))] 332 [vr (some ((zsz M), 100, 2000)), vr (some (97, 1, 0))] Q) : Z E YX8_init (d + 1) M [(0, vr (some (97, 1, 0)))] 323 [vr (some (p0, 100, 2000)), vr (some (97, 1, 0))] Q := by
  refine z_putr (by decide) dX8_init_323 (zfwN.w fwX8_122_1) rfl ?_
  refine z_aload_n dX8_init_326 rfl rfl ?_
  refine z_sipush (v := 2000) dX8_init_327 rfl ?_
  refine z_newa (q := 0) (N := 2000) dX8_init_330 rfl (by decide) q535 (by decide) (by decide) (by decide) ?_
  exact k
theorem sX8_init_332 {E : zE} {d : Nat} {Q : zO → zM → Prop} (M : zM) (p0 : Nat) (k : Z E YX8_init (d + 1) (zn (sr M 97 65 (some (p0, 100, 2000))) 12000) [(0, vr (some (97, 1, 0)))] 341 [vr (some ((zsz M), 100, 12000)), vr (some (97, 1, 0))] Q) : Z E YX8_init (d + 1) M [(0, vr (some (97, 1, 0)))] 332 [vr (some (p0, 100, 2000)), vr (some (97, 1, 0))] Q := by
  refine z_putr (by decide) dX8_init_332 (zfwN.w fwX8_125_1) rfl ?_
  refine z_aload_n dX8_init_335 rfl rfl ?_
  refine z_sipush (v := 12000) dX8_init_336 rfl ?_
  refine z_newa (q := 0) (N := 12000) dX8_init_339 rfl (by decide) q535 (by decide) (by decide) (by decide) ?_
  exact k
theorem sX8_init_341 {E : zE} {d : Nat} {Q : zO → zM → Prop} (M : zM) (p0 : Nat) (k : Z E YX8_init (d + 1) (zn (sr M 97 67 (some (p0, 100, 12000))) 12000) [(0, vr (some (97, 1, 0)))] 350 [vr (some ((zsz M), 100, 12000)), vr (some (97, 1, 0))] Q) : Z E YX8_init (d + 1) M [(0, vr (some (97, 1, 0)))] 341 [vr (some (p0, 100, 12000)), vr (some (97, 1, 0))] Q := by
  refine z_putr (by decide) dX8_init_341 (zfwN.f fwX8_128_1 rfl (fun q h => by rw [← Option.some.inj h]; rfl)) rfl ?_
  refine z_aload_n dX8_init_344 rfl rfl ?_
  refine z_sipush (v := 12000) dX8_init_345 rfl ?_
  refine z_newa (q := 0) (N := 12000) dX8_init_348 rfl (by decide) q535 (by decide) (by decide) (by decide) ?_
  exact k
theorem sX8_init_350 {E : zE} {d : Nat} {Q : zO → zM → Prop} (M : zM) (p0 : Nat) (k : Z E YX8_init (d + 1) (zn (sr M 97 69 (some (p0, 100, 12000))) 300) [(0, vr (some (97, 1, 0)))] 359 [vr (some ((zsz M), 100, 300)), vr (some (97, 1, 0))] Q) : Z E YX8_init (d + 1) M [(0, vr (some (97, 1, 0)))] 350 [vr (some (p0, 100, 12000)), vr (some (97, 1, 0))] Q := by
  refine z_putr (by decide) dX8_init_350 (zfwN.f fwX8_131_1 rfl (fun q h => by rw [← Option.some.inj h]; rfl)) rfl ?_
  refine z_aload_n dX8_init_353 rfl rfl ?_
  refine z_sipush (v := 300) dX8_init_354 rfl ?_
  refine z_newa (q := 0) (N := 300) dX8_init_357 rfl (by decide) q535 (by decide) (by decide) (by decide) ?_
  exact k
theorem sX8_init_359 {E : zE} {d : Nat} {Q : zO → zM → Prop} (M : zM) (p0 : Nat) (k : Z E YX8_init (d + 1) (zn (sr M 97 77 (some (p0, 100, 300))) 300) [(0, vr (some (97, 1, 0)))] 368 [vr (some ((zsz M), 100, 300)), vr (some (97, 1, 0))] Q) : Z E YX8_init (d + 1) M [(0, vr (some (97, 1, 0)))] 359 [vr (some (p0, 100, 300)), vr (some (97, 1, 0))] Q := by
  refine z_putr (by decide) dX8_init_359 (zfwN.f fwX8_134_1 rfl (fun q h => by rw [← Option.some.inj h]; rfl)) rfl ?_
  refine z_aload_n dX8_init_362 rfl rfl ?_
  refine z_sipush (v := 300) dX8_init_363 rfl ?_
  refine z_newa (q := 0) (N := 300) dX8_init_366 rfl (by decide) q535 (by decide) (by decide) (by decide) ?_
  exact k
theorem sX8_init_368 {E : zE} {d : Nat} {Q : zO → zM → Prop} (M : zM) (p0 : Nat) (k : Z E YX8_init (d + 1) (zn (sr M 97 78 (some (p0, 100, 300))) 300) [(0, vr (some (97, 1, 0)))] 377 [vr (some ((zsz M), 100, 300)), vr (some (97, 1, 0))] Q) : Z E YX8_init (d + 1) M [(0, vr (some (97, 1, 0)))] 368 [vr (some (p0, 100, 300)), vr (some (97, 1, 0))] Q := by
  refine z_putr (by decide) dX8_init_368 (zfwN.f fwX8_137_1 rfl (fun q h => by rw [← Option.some.inj h]; rfl)) rfl ?_
  refine z_aload_n dX8_init_371 rfl rfl ?_
  refine z_sipush (v := 300) dX8_init_372 rfl ?_
  refine z_newa (q := 0) (N := 300) dX8_init_375 rfl (by decide) q535 (by decide) (by decide) (by decide) ?_
  exact k
theorem sX8_init_377 {E : zE} {d : Nat} {Q : zO → zM → Prop} (M : zM) (p0 : Nat) (k : Z E YX8_init (d + 1) (zn (sr M 97 79 (some (p0, 100, 300))) 300) [(0, vr (some (97, 1, 0)))] 386 [vr (some ((zsz M), 100, 300)), vr (some (97, 1, 0))] Q) : Z E YX8_init (d + 1) M [(0, vr (some (97, 1, 0)))] 377 [vr (some (p0, 100, 300)), vr (some (97, 1, 0))] Q := by
  refine z_putr (by decide) dX8_init_377 (zfwN.f fwX8_140_1 rfl (fun q h => by rw [← Option.some.inj h]; rfl)) rfl ?_
  refine z_aload_n dX8_init_380 rfl rfl ?_
  refine z_sipush (v := 300) dX8_init_381 rfl ?_
  refine z_newa (q := 0) (N := 300) dX8_init_384 rfl (by decide) q535 (by decide) (by decide) (by decide) ?_
  exact k
theorem sX8_init_386 {E : zE} {d : Nat} {Q : zO → zM → Prop} (M : zM) (p0 : Nat) (k : Z E YX8_init (d + 1) (zn (sr M 97 80 (some (p0, 100, 300))) 300) [(0, vr (some (97, 1, 0)))] 395 [vr (some ((zsz M), 100, 300)), vr (some (97, 1, 0))] Q) : Z E YX8_init (d + 1) M [(0, vr (some (97, 1, 0)))] 386 [vr (some (p0, 100, 300)), vr (some (97, 1, 0))] Q := by
  refine z_putr (by decide) dX8_init_386 (zfwN.f fwX8_143_1 rfl (fun q h => by rw [← Option.some.inj h]; rfl)) rfl ?_
  refine z_aload_n dX8_init_389 rfl rfl ?_
  refine z_sipush (v := 300) dX8_init_390 rfl ?_
  refine z_newa (q := 0) (N := 300) dX8_init_393 rfl (by decide) q535 (by decide) (by decide) (by decide) ?_
  exact k
theorem sX8_init_395 {E : zE} {d : Nat} {Q : zO → zM → Prop} (M : zM) (p0 : Nat) (k : Z E YX8_init (d + 1) (zn (sr M 97 81 (some (p0, 100, 300))) 300) [(0, vr (some (97, 1, 0)))] 404 [vr (some ((zsz M), 100, 300)), vr (some (97, 1, 0))] Q) : Z E YX8_init (d + 1) M [(0, vr (some (97, 1, 0)))] 395 [vr (some (p0, 100, 300)), vr (some (97, 1, 0))] Q := by
  refine z_putr (by decide) dX8_init_395 (zfwN.f fwX8_146_1 rfl (fun q h => by rw [← Option.some.inj h]; rfl)) rfl ?_
  refine z_aload_n dX8_init_398 rfl rfl ?_
  refine z_sipush (v := 300) dX8_init_399 rfl ?_
  refine z_newa (q := 0) (N := 300) dX8_init_402 rfl (by decide) q535 (by decide) (by decide) (by decide) ?_
  exact k
theorem sX8_init_404 {E : zE} {d : Nat} {Q : zO → zM → Prop} (M : zM) (p0 : Nat) (k : Z E YX8_init (d + 1) (zn (sr M 97 82 (some (p0, 100, 300))) 300) [(0, vr (some (97, 1, 0)))] 413 [vr (some ((zsz M), 100, 300)), vr (some (97, 1, 0))] Q) : Z E YX8_init (d + 1) M [(0, vr (some (97, 1, 0)))] 404 [vr (some (p0, 100, 300)), vr (some (97, 1, 0))] Q := by
  refine z_putr (by decide) dX8_init_404 (zfwN.f fwX8_149_1 rfl (fun q h => by rw [← Option.some.inj h]; rfl)) rfl ?_
  refine z_aload_n dX8_init_407 rfl rfl ?_
  refine z_sipush (v := 300) dX8_init_408 rfl ?_
  refine z_newa (q := 0) (N := 300) dX8_init_411 rfl (by decide) q535 (by decide) (by decide) (by decide) ?_
  exact k
theorem sX8_init_413 {E : zE} {d : Nat} {Q : zO → zM → Prop} (M : zM) (p0 : Nat) (k : Z E YX8_init (d + 1) (zn (sr M 97 83 (some (p0, 100, 300))) 3000) [(0, vr (some (97, 1, 0)))] 422 [vr (some ((zsz M), 100, 3000)), vr (some (97, 1, 0))] Q) : Z E YX8_init (d + 1) M [(0, vr (some (97, 1, 0)))] 413 [vr (some (p0, 100, 300)), vr (some (97, 1, 0))] Q := by
  refine z_putr (by decide) dX8_init_413 (zfwN.f fwX8_152_1 rfl (fun q h => by rw [← Option.some.inj h]; rfl)) rfl ?_
  refine z_aload_n dX8_init_416 rfl rfl ?_
  refine z_sipush (v := 3000) dX8_init_417 rfl ?_
  refine z_newa (q := 0) (N := 3000) dX8_init_420 rfl (by decide) q535 (by decide) (by decide) (by decide) ?_
  exact k
theorem sX8_init_422 {E : zE} {d : Nat} {Q : zO → zM → Prop} (M : zM) (p0 : Nat) (k : Z E YX8_init (d + 1) (zn (sr M 97 87 (some (p0, 100, 3000))) 3000) [(0, vr (some (97, 1, 0)))] 431 [vr (some ((zsz M), 100, 3000)), vr (some (97, 1, 0))] Q) : Z E YX8_init (d + 1) M [(0, vr (some (97, 1, 0)))] 422 [vr (some (p0, 100, 3000)), vr (some (97, 1, 0))] Q := by
  refine z_putr (by decide) dX8_init_422 (zfwN.f fwX8_155_1 rfl (fun q h => by rw [← Option.some.inj h]; rfl)) rfl ?_
  refine z_aload_n dX8_init_425 rfl rfl ?_
  refine z_sipush (v := 3000) dX8_init_426 rfl ?_
  refine z_newa (q := 0) (N := 3000) dX8_init_429 rfl (by decide) q535 (by decide) (by decide) (by decide) ?_
  exact k
theorem sX8_init_431 {E : zE} {d : Nat} {Q : zO → zM → Prop} (M : zM) (p0 : Nat) (k : Z E YX8_init (d + 1) (zn (sr M 97 88 (some (p0, 100, 3000))) 3000) [(0, vr (some (97, 1, 0)))] 440 [vr (some ((zsz M), 100, 3000)), vr (some (97, 1, 0))] Q) : Z E YX8_init (d + 1) M [(0, vr (some (97, 1, 0)))] 431 [vr (some (p0, 100, 3000)), vr (some (97, 1, 0))] Q := by
  refine z_putr (by decide) dX8_init_431 (zfwN.f fwX8_158_1 rfl (fun q h => by rw [← Option.some.inj h]; rfl)) rfl ?_
  refine z_aload_n dX8_init_434 rfl rfl ?_
  refine z_sipush (v := 3000) dX8_init_435 rfl ?_
  refine z_newa (q := 0) (N := 3000) dX8_init_438 rfl (by decide) q535 (by decide) (by decide) (by decide) ?_
  exact k
theorem sX8_init_440 {E : zE} {d : Nat} {Q : zO → zM → Prop} (M : zM) (p0 : Nat) (k : Z E YX8_init (d + 1) (zn (sr M 97 89 (some (p0, 100, 3000))) 3000) [(0, vr (some (97, 1, 0)))] 449 [vr (some ((zsz M), 100, 3000)), vr (some (97, 1, 0))] Q) : Z E YX8_init (d + 1) M [(0, vr (some (97, 1, 0)))] 440 [vr (some (p0, 100, 3000)), vr (some (97, 1, 0))] Q := by
  refine z_putr (by decide) dX8_init_440 (zfwN.f fwX8_161_1 rfl (fun q h => by rw [← Option.some.inj h]; rfl)) rfl ?_
  refine z_aload_n dX8_init_443 rfl rfl ?_
  refine z_sipush (v := 3000) dX8_init_444 rfl ?_
  refine z_newa (q := 0) (N := 3000) dX8_init_447 rfl (by decide) q535 (by decide) (by decide) (by decide) ?_
  exact k
theorem sX8_init_449 {E : zE} {d : Nat} {Q : zO → zM → Prop} (M : zM) (p0 : Nat) (k : Z E YX8_init (d + 1) (zn (sr M 97 90 (some (p0, 100, 3000))) 3000) [(0, vr (some (97, 1, 0)))] 458 [vr (some ((zsz M), 100, 3000)), vr (some (97, 1, 0))] Q) : Z E YX8_init (d + 1) M [(0, vr (some (97, 1, 0)))] 449 [vr (some (p0, 100, 3000)), vr (some (97, 1, 0))] Q := by
  refine z_putr (by decide) dX8_init_449 (zfwN.f fwX8_164_1 rfl (fun q h => by rw [← Option.some.inj h]; rfl)) rfl ?_
  refine z_aload_n dX8_init_452 rfl rfl ?_
  refine z_sipush (v := 3000) dX8_init_453 rfl ?_
  refine z_newa (q := 0) (N := 3000) dX8_init_456 rfl (by decide) q535 (by decide) (by decide) (by decide) ?_
  exact k
theorem sX8_init_458 {E : zE} {d : Nat} {Q : zO → zM → Prop} (M : zM) (p0 : Nat) (k : Z E YX8_init (d + 1) (zn (sr M 97 91 (some (p0, 100, 3000))) 24) [(0, vr (some (97, 1, 0)))] 466 [vr (some ((zsz M), 100, 24)), vr (some (97, 1, 0))] Q) : Z E YX8_init (d + 1) M [(0, vr (some (97, 1, 0)))] 458 [vr (some (p0, 100, 3000)), vr (some (97, 1, 0))] Q := by
  refine z_putr (by decide) dX8_init_458 (zfwN.f fwX8_167_1 rfl (fun q h => by rw [← Option.some.inj h]; rfl)) rfl ?_
  refine z_aload_n dX8_init_461 rfl rfl ?_
  refine z_bipush (v := 24) dX8_init_462 rfl ?_
  refine z_newa (q := 0) (N := 24) dX8_init_464 rfl (by decide) q535 (by decide) (by decide) (by decide) ?_
  exact k
theorem sX8_init_466 {E : zE} {d : Nat} {Q : zO → zM → Prop} (M : zM) (p0 : Nat) (k : Z E YX8_init (d + 1) (zn (sr M 97 93 (some (p0, 100, 24))) 24) [(0, vr (some (97, 1, 0)))] 474 [vr (some ((zsz M), 100, 24)), vr (some (97, 1, 0))] Q) : Z E YX8_init (d + 1) M [(0, vr (some (97, 1, 0)))] 466 [vr (some (p0, 100, 24)), vr (some (97, 1, 0))] Q := by
  refine z_putr (by decide) dX8_init_466 (zfwN.f fwX8_170_1 rfl (fun q h => by rw [← Option.some.inj h]; rfl)) rfl ?_
  refine z_aload_n dX8_init_469 rfl rfl ?_
  refine z_bipush (v := 24) dX8_init_470 rfl ?_
  refine z_newa (q := 0) (N := 24) dX8_init_472 rfl (by decide) q535 (by decide) (by decide) (by decide) ?_
  exact k
theorem sX8_init_474 {E : zE} {d : Nat} {Q : zO → zM → Prop} (M : zM) (p0 : Nat) (k : Z E YX8_init (d + 1) (zn (sr M 97 94 (some (p0, 100, 24))) 24) [(0, vr (some (97, 1, 0)))] 482 [vr (some ((zsz M), 100, 24)), vr (some (97, 1, 0))] Q) : Z E YX8_init (d + 1) M [(0, vr (some (97, 1, 0)))] 474 [vr (some (p0, 100, 24)), vr (some (97, 1, 0))] Q := by
  refine z_putr (by decide) dX8_init_474 (zfwN.f fwX8_173_1 rfl (fun q h => by rw [← Option.some.inj h]; rfl)) rfl ?_
  refine z_aload_n dX8_init_477 rfl rfl ?_
  refine z_bipush (v := 24) dX8_init_478 rfl ?_
  refine z_newa (q := 0) (N := 24) dX8_init_480 rfl (by decide) q535 (by decide) (by decide) (by decide) ?_
  exact k
theorem sX8_init_482 {E : zE} {d : Nat} {Q : zO → zM → Prop} (M : zM) (p0 : Nat) (k : Z E YX8_init (d + 1) (zn (sr M 97 95 (some (p0, 100, 24))) 24) [(0, vr (some (97, 1, 0)))] 490 [vr (some ((zsz M), 100, 24)), vr (some (97, 1, 0))] Q) : Z E YX8_init (d + 1) M [(0, vr (some (97, 1, 0)))] 482 [vr (some (p0, 100, 24)), vr (some (97, 1, 0))] Q := by
  refine z_putr (by decide) dX8_init_482 (zfwN.f fwX8_176_1 rfl (fun q h => by rw [← Option.some.inj h]; rfl)) rfl ?_
  refine z_aload_n dX8_init_485 rfl rfl ?_
  refine z_bipush (v := 24) dX8_init_486 rfl ?_
  refine z_newa (q := 0) (N := 24) dX8_init_488 rfl (by decide) q535 (by decide) (by decide) (by decide) ?_
  exact k
theorem sX8_init_490 {E : zE} {d : Nat} {Q : zO → zM → Prop} (M : zM) (p0 : Nat) (k : Z E YX8_init (d + 1) (zn (sr M 97 96 (some (p0, 100, 24))) 24) [(0, vr (some (97, 1, 0)))] 498 [vr (some ((zsz M), 100, 24)), vr (some (97, 1, 0))] Q) : Z E YX8_init (d + 1) M [(0, vr (some (97, 1, 0)))] 490 [vr (some (p0, 100, 24)), vr (some (97, 1, 0))] Q := by
  refine z_putr (by decide) dX8_init_490 (zfwN.f fwX8_179_1 rfl (fun q h => by rw [← Option.some.inj h]; rfl)) rfl ?_
  refine z_aload_n dX8_init_493 rfl rfl ?_
  refine z_bipush (v := 24) dX8_init_494 rfl ?_
  refine z_newa (q := 0) (N := 24) dX8_init_496 rfl (by decide) q535 (by decide) (by decide) (by decide) ?_
  exact k
theorem sX8_init_498 {E : zE} {d : Nat} {Q : zO → zM → Prop} (M : zM) (p0 : Nat) (k : Z E YX8_init (d + 1) (zn (sr M 97 97 (some (p0, 100, 24))) 24) [(0, vr (some (97, 1, 0)))] 506 [vr (some ((zsz M), 100, 24)), vr (some (97, 1, 0))] Q) : Z E YX8_init (d + 1) M [(0, vr (some (97, 1, 0)))] 498 [vr (some (p0, 100, 24)), vr (some (97, 1, 0))] Q := by
  refine z_putr (by decide) dX8_init_498 (zfwN.f fwX8_182_1 rfl (fun q h => by rw [← Option.some.inj h]; rfl)) rfl ?_
  refine z_aload_n dX8_init_501 rfl rfl ?_
  refine z_bipush (v := 24) dX8_init_502 rfl ?_
  refine z_newa (q := 0) (N := 24) dX8_init_504 rfl (by decide) q535 (by decide) (by decide) (by decide) ?_
  exact k
theorem sX8_init_506 {E : zE} {d : Nat} {Q : zO → zM → Prop} (M : zM) (p0 : Nat) (k : Z E YX8_init (d + 1) (zn (sr M 97 98 (some (p0, 100, 24))) 24) [(0, vr (some (97, 1, 0)))] 514 [vr (some ((zsz M), 100, 24)), vr (some (97, 1, 0))] Q) : Z E YX8_init (d + 1) M [(0, vr (some (97, 1, 0)))] 506 [vr (some (p0, 100, 24)), vr (some (97, 1, 0))] Q := by
  refine z_putr (by decide) dX8_init_506 (zfwN.f fwX8_185_1 rfl (fun q h => by rw [← Option.some.inj h]; rfl)) rfl ?_
  refine z_aload_n dX8_init_509 rfl rfl ?_
  refine z_bipush (v := 24) dX8_init_510 rfl ?_
  refine z_newa (q := 0) (N := 24) dX8_init_512 rfl (by decide) q535 (by decide) (by decide) (by decide) ?_
  exact k
theorem sX8_init_514 {E : zE} {d : Nat} {Q : zO → zM → Prop} (M : zM) (p0 : Nat) (k : Z E YX8_init (d + 1) (zn (sr M 97 99 (some (p0, 100, 24))) 24) [(0, vr (some (97, 1, 0)))] 522 [vr (some ((zsz M), 100, 24)), vr (some (97, 1, 0))] Q) : Z E YX8_init (d + 1) M [(0, vr (some (97, 1, 0)))] 514 [vr (some (p0, 100, 24)), vr (some (97, 1, 0))] Q := by
  refine z_putr (by decide) dX8_init_514 (zfwN.f fwX8_188_1 rfl (fun q h => by rw [← Option.some.inj h]; rfl)) rfl ?_
  refine z_aload_n dX8_init_517 rfl rfl ?_
  refine z_bipush (v := 24) dX8_init_518 rfl ?_
  refine z_newa (q := 0) (N := 24) dX8_init_520 rfl (by decide) q535 (by decide) (by decide) (by decide) ?_
  exact k
theorem sX8_init_522 {E : zE} {d : Nat} {Q : zO → zM → Prop} (M : zM) (p0 : Nat) (k : Z E YX8_init (d + 1) (zn (sr M 97 100 (some (p0, 100, 24))) 960) [(0, vr (some (97, 1, 0)))] 531 [vr (some ((zsz M), 100, 960)), vr (some (97, 1, 0))] Q) : Z E YX8_init (d + 1) M [(0, vr (some (97, 1, 0)))] 522 [vr (some (p0, 100, 24)), vr (some (97, 1, 0))] Q := by
  refine z_putr (by decide) dX8_init_522 (zfwN.f fwX8_191_1 rfl (fun q h => by rw [← Option.some.inj h]; rfl)) rfl ?_
  refine z_aload_n dX8_init_525 rfl rfl ?_
  refine z_sipush (v := 960) dX8_init_526 rfl ?_
  refine z_newa (q := 0) (N := 960) dX8_init_529 rfl (by decide) q535 (by decide) (by decide) (by decide) ?_
  exact k
theorem sX8_init_531 {E : zE} {d : Nat} {Q : zO → zM → Prop} (M : zM) (p0 : Nat) (k : Z E YX8_init (d + 1) (zn (sr M 97 101 (some (p0, 100, 960))) 960) [(0, vr (some (97, 1, 0)))] 540 [vr (some ((zsz M), 100, 960)), vr (some (97, 1, 0))] Q) : Z E YX8_init (d + 1) M [(0, vr (some (97, 1, 0)))] 531 [vr (some (p0, 100, 960)), vr (some (97, 1, 0))] Q := by
  refine z_putr (by decide) dX8_init_531 (zfwN.f fwX8_194_1 rfl (fun q h => by rw [← Option.some.inj h]; rfl)) rfl ?_
  refine z_aload_n dX8_init_534 rfl rfl ?_
  refine z_sipush (v := 960) dX8_init_535 rfl ?_
  refine z_newa (q := 0) (N := 960) dX8_init_538 rfl (by decide) q535 (by decide) (by decide) (by decide) ?_
  exact k
theorem sX8_init_540 {E : zE} {d : Nat} {Q : zO → zM → Prop} (M : zM) (p0 : Nat) (k : Z E YX8_init (d + 1) (zn (sr M 97 102 (some (p0, 100, 960))) 9600) [(0, vr (some (97, 1, 0)))] 549 [vr (some ((zsz M), 100, 9600)), vr (some (97, 1, 0))] Q) : Z E YX8_init (d + 1) M [(0, vr (some (97, 1, 0)))] 540 [vr (some (p0, 100, 960)), vr (some (97, 1, 0))] Q := by
  refine z_putr (by decide) dX8_init_540 (zfwN.f fwX8_197_1 rfl (fun q h => by rw [← Option.some.inj h]; rfl)) rfl ?_
  refine z_aload_n dX8_init_543 rfl rfl ?_
  refine z_sipush (v := 9600) dX8_init_544 rfl ?_
  refine z_newa (q := 0) (N := 9600) dX8_init_547 rfl (by decide) q535 (by decide) (by decide) (by decide) ?_
  exact k
theorem sX8_init_549 {E : zE} {d : Nat} {Q : zO → zM → Prop} (M : zM) (p0 : Nat) (k : Z E YX8_init (d + 1) (zn (sr M 97 103 (some (p0, 100, 9600))) 9600) [(0, vr (some (97, 1, 0)))] 558 [vr (some ((zsz M), 100, 9600)), vr (some (97, 1, 0))] Q) : Z E YX8_init (d + 1) M [(0, vr (some (97, 1, 0)))] 549 [vr (some (p0, 100, 9600)), vr (some (97, 1, 0))] Q := by
  refine z_putr (by decide) dX8_init_549 (zfwN.f fwX8_200_1 rfl (fun q h => by rw [← Option.some.inj h]; rfl)) rfl ?_
  refine z_aload_n dX8_init_552 rfl rfl ?_
  refine z_sipush (v := 9600) dX8_init_553 rfl ?_
  refine z_newa (q := 0) (N := 9600) dX8_init_556 rfl (by decide) q535 (by decide) (by decide) (by decide) ?_
  exact k
theorem sX8_init_558 {E : zE} {d : Nat} {Q : zO → zM → Prop} (M : zM) (p0 : Nat) (k : Z E YX8_init (d + 1) (zn (sr M 97 104 (some (p0, 100, 9600))) 9600) [(0, vr (some (97, 1, 0)))] 567 [vr (some ((zsz M), 100, 9600)), vr (some (97, 1, 0))] Q) : Z E YX8_init (d + 1) M [(0, vr (some (97, 1, 0)))] 558 [vr (some (p0, 100, 9600)), vr (some (97, 1, 0))] Q := by
  refine z_putr (by decide) dX8_init_558 (zfwN.f fwX8_203_1 rfl (fun q h => by rw [← Option.some.inj h]; rfl)) rfl ?_
  refine z_aload_n dX8_init_561 rfl rfl ?_
  refine z_sipush (v := 9600) dX8_init_562 rfl ?_
  refine z_newa (q := 0) (N := 9600) dX8_init_565 rfl (by decide) q535 (by decide) (by decide) (by decide) ?_
  exact k
theorem sX8_init_567 {E : zE} {d : Nat} {Q : zO → zM → Prop} (M : zM) (p0 : Nat) (k : Z E YX8_init (d + 1) (zn (sr M 97 105 (some (p0, 100, 9600))) 9600) [(0, vr (some (97, 1, 0)))] 576 [vr (some ((zsz M), 100, 9600)), vr (some (97, 1, 0))] Q) : Z E YX8_init (d + 1) M [(0, vr (some (97, 1, 0)))] 567 [vr (some (p0, 100, 9600)), vr (some (97, 1, 0))] Q := by
  refine z_putr (by decide) dX8_init_567 (zfwN.f fwX8_206_1 rfl (fun q h => by rw [← Option.some.inj h]; rfl)) rfl ?_
  refine z_aload_n dX8_init_570 rfl rfl ?_
  refine z_sipush (v := 9600) dX8_init_571 rfl ?_
  refine z_newa (q := 0) (N := 9600) dX8_init_574 rfl (by decide) q535 (by decide) (by decide) (by decide) ?_
  exact k
theorem sX8_init_576 {E : zE} {d : Nat} {Q : zO → zM → Prop} (M : zM) (p0 : Nat) (k : Z E YX8_init (d + 1) (zn (sr M 97 106 (some (p0, 100, 9600))) 100) [(0, vr (some (97, 1, 0)))] 584 [vr (some ((zsz M), 100, 100)), vr (some (97, 1, 0))] Q) : Z E YX8_init (d + 1) M [(0, vr (some (97, 1, 0)))] 576 [vr (some (p0, 100, 9600)), vr (some (97, 1, 0))] Q := by
  refine z_putr (by decide) dX8_init_576 (zfwN.f fwX8_209_1 rfl (fun q h => by rw [← Option.some.inj h]; rfl)) rfl ?_
  refine z_aload_n dX8_init_579 rfl rfl ?_
  refine z_bipush (v := 100) dX8_init_580 rfl ?_
  refine z_newa (q := 0) (N := 100) dX8_init_582 rfl (by decide) q535 (by decide) (by decide) (by decide) ?_
  exact k
theorem sX8_init_584 {E : zE} {d : Nat} {Q : zO → zM → Prop} (M : zM) (p0 : Nat) (k : Z E YX8_init (d + 1) (zn (sr M 97 108 (some (p0, 100, 100))) 647800) [(0, vr (some (97, 1, 0)))] 592 [vr (some ((zsz M), 105, 647800)), vr (some (97, 1, 0))] Q) : Z E YX8_init (d + 1) M [(0, vr (some (97, 1, 0)))] 584 [vr (some (p0, 100, 100)), vr (some (97, 1, 0))] Q := by
  refine z_putr (by decide) dX8_init_584 (zfwN.f fwX8_212_1 rfl (fun q h => by rw [← Option.some.inj h]; rfl)) rfl ?_
  refine z_aload_n dX8_init_587 rfl rfl ?_
  refine z_ldc (v := 647800) dX8_init_588 q3500 ?_
  refine z_newa (q := 5) (N := 647800) dX8_init_590 rfl (by decide) q755 (by decide) (by decide) (by decide) ?_
  exact k
theorem sX8_init_592 {E : zE} {d : Nat} {Q : zO → zM → Prop} (M : zM) (p0 : Nat) (k : Z E YX8_init (d + 1) (zn (sr M 97 116 (some (p0, 105, 647800))) 647800) [(0, vr (some (97, 1, 0)))] 600 [vr (some ((zsz M), 105, 647800)), vr (some (97, 1, 0))] Q) : Z E YX8_init (d + 1) M [(0, vr (some (97, 1, 0)))] 592 [vr (some (p0, 105, 647800)), vr (some (97, 1, 0))] Q := by
  refine z_putr (by decide) dX8_init_592 (zfwN.f fwX8_216_1 rfl (fun q h => by rw [← Option.some.inj h]; rfl)) rfl ?_
  refine z_aload_n dX8_init_595 rfl rfl ?_
  refine z_ldc (v := 647800) dX8_init_596 q3500 ?_
  refine z_newa (q := 5) (N := 647800) dX8_init_598 rfl (by decide) q755 (by decide) (by decide) (by decide) ?_
  exact k
theorem sX8_init_600 {E : zE} {d : Nat} {Q : zO → zM → Prop} (M : zM) (p0 : Nat) (k : Z E YX8_init (d + 1) (zn (sr M 97 117 (some (p0, 105, 647800))) 647800) [(0, vr (some (97, 1, 0)))] 608 [vr (some ((zsz M), 105, 647800)), vr (some (97, 1, 0))] Q) : Z E YX8_init (d + 1) M [(0, vr (some (97, 1, 0)))] 600 [vr (some (p0, 105, 647800)), vr (some (97, 1, 0))] Q := by
  refine z_putr (by decide) dX8_init_600 (zfwN.f fwX8_220_1 rfl (fun q h => by rw [← Option.some.inj h]; rfl)) rfl ?_
  refine z_aload_n dX8_init_603 rfl rfl ?_
  refine z_ldc (v := 647800) dX8_init_604 q3500 ?_
  refine z_newa (q := 5) (N := 647800) dX8_init_606 rfl (by decide) q755 (by decide) (by decide) (by decide) ?_
  exact k
theorem sX8_init_608 {E : zE} {d : Nat} {Q : zO → zM → Prop} (M : zM) (p0 : Nat) (k : Z E YX8_init (d + 1) (zn (sr M 97 118 (some (p0, 105, 647800))) 640) [(0, vr (some (97, 1, 0)))] 617 [vr (some ((zsz M), 104, 640)), vr (some (97, 1, 0))] Q) : Z E YX8_init (d + 1) M [(0, vr (some (97, 1, 0)))] 608 [vr (some (p0, 105, 647800)), vr (some (97, 1, 0))] Q := by
  refine z_putr (by decide) dX8_init_608 (zfwN.f fwX8_223_1 rfl (fun q h => by rw [← Option.some.inj h]; rfl)) rfl ?_
  refine z_aload_n dX8_init_611 rfl rfl ?_
  refine z_sipush (v := 640) dX8_init_612 rfl ?_
  refine z_newa (q := 4) (N := 640) dX8_init_615 rfl (by decide) q727 (by decide) (by decide) (by decide) ?_
  exact k
theorem sX8_init_617 {E : zE} {d : Nat} {Q : zO → zM → Prop} (M : zM) (p0 : Nat) (k : Z E YX8_init (d + 1) (zn (sr M 97 122 (some (p0, 104, 640))) 640) [(0, vr (some (97, 1, 0)))] 626 [vr (some ((zsz M), 104, 640)), vr (some (97, 1, 0))] Q) : Z E YX8_init (d + 1) M [(0, vr (some (97, 1, 0)))] 617 [vr (some (p0, 104, 640)), vr (some (97, 1, 0))] Q := by
  refine z_putr (by decide) dX8_init_617 (zfwN.f fwX8_226_1 rfl (fun q h => by rw [← Option.some.inj h]; rfl)) rfl ?_
  refine z_aload_n dX8_init_620 rfl rfl ?_
  refine z_sipush (v := 640) dX8_init_621 rfl ?_
  refine z_newa (q := 4) (N := 640) dX8_init_624 rfl (by decide) q727 (by decide) (by decide) (by decide) ?_
  exact k
theorem sX8_init_626 {E : zE} {d : Nat} {Q : zO → zM → Prop} (M : zM) (p0 : Nat) (k : Z E YX8_init (d + 1) (zn (sr M 97 123 (some (p0, 104, 640))) 640) [(0, vr (some (97, 1, 0)))] 635 [vr (some ((zsz M), 100, 640)), vr (some (97, 1, 0))] Q) : Z E YX8_init (d + 1) M [(0, vr (some (97, 1, 0)))] 626 [vr (some (p0, 104, 640)), vr (some (97, 1, 0))] Q := by
  refine z_putr (by decide) dX8_init_626 (zfwN.f fwX8_229_1 rfl (fun q h => by rw [← Option.some.inj h]; rfl)) rfl ?_
  refine z_aload_n dX8_init_629 rfl rfl ?_
  refine z_sipush (v := 640) dX8_init_630 rfl ?_
  refine z_newa (q := 0) (N := 640) dX8_init_633 rfl (by decide) q535 (by decide) (by decide) (by decide) ?_
  exact k
theorem sX8_init_635 {E : zE} {d : Nat} {Q : zO → zM → Prop} (M : zM) (p0 : Nat) (k : Z E YX8_init (d + 1) (zn (sr M 97 124 (some (p0, 100, 640))) 640) [(0, vr (some (97, 1, 0)))] 644 [vr (some ((zsz M), 100, 640)), vr (some (97, 1, 0))] Q) : Z E YX8_init (d + 1) M [(0, vr (some (97, 1, 0)))] 635 [vr (some (p0, 100, 640)), vr (some (97, 1, 0))] Q := by
  refine z_putr (by decide) dX8_init_635 (zfwN.f fwX8_232_1 rfl (fun q h => by rw [← Option.some.inj h]; rfl)) rfl ?_
  refine z_aload_n dX8_init_638 rfl rfl ?_
  refine z_sipush (v := 640) dX8_init_639 rfl ?_
  refine z_newa (q := 0) (N := 640) dX8_init_642 rfl (by decide) q535 (by decide) (by decide) (by decide) ?_
  exact k
theorem sX8_init_644 {E : zE} {d : Nat} {Q : zO → zM → Prop} (M : zM) (p0 : Nat) (k : Z E YX8_init (d + 1) (zn (sr M 97 125 (some (p0, 100, 640))) 640) [(0, vr (some (97, 1, 0)))] 653 [vr (some ((zsz M), 100, 640)), vr (some (97, 1, 0))] Q) : Z E YX8_init (d + 1) M [(0, vr (some (97, 1, 0)))] 644 [vr (some (p0, 100, 640)), vr (some (97, 1, 0))] Q := by
  refine z_putr (by decide) dX8_init_644 (zfwN.f fwX8_235_1 rfl (fun q h => by rw [← Option.some.inj h]; rfl)) rfl ?_
  refine z_aload_n dX8_init_647 rfl rfl ?_
  refine z_sipush (v := 640) dX8_init_648 rfl ?_
  refine z_newa (q := 0) (N := 640) dX8_init_651 rfl (by decide) q535 (by decide) (by decide) (by decide) ?_
  exact k
theorem sX8_init_653 {E : zE} {d : Nat} {Q : zO → zM → Prop} (M : zM) (p0 : Nat) (k : Z E YX8_init (d + 1) (zn (sr M 97 126 (some (p0, 100, 640))) 640) [(0, vr (some (97, 1, 0)))] 662 [vr (some ((zsz M), 105, 640)), vr (some (97, 1, 0))] Q) : Z E YX8_init (d + 1) M [(0, vr (some (97, 1, 0)))] 653 [vr (some (p0, 100, 640)), vr (some (97, 1, 0))] Q := by
  refine z_putr (by decide) dX8_init_653 (zfwN.f fwX8_238_1 rfl (fun q h => by rw [← Option.some.inj h]; rfl)) rfl ?_
  refine z_aload_n dX8_init_656 rfl rfl ?_
  refine z_sipush (v := 640) dX8_init_657 rfl ?_
  refine z_newa (q := 5) (N := 640) dX8_init_660 rfl (by decide) q755 (by decide) (by decide) (by decide) ?_
  exact k
theorem sX8_init_662 {E : zE} {d : Nat} {Q : zO → zM → Prop} (M : zM) (p0 : Nat) (k : Z E YX8_init (d + 1) (zn (sr M 97 128 (some (p0, 105, 640))) 640) [(0, vr (some (97, 1, 0)))] 671 [vr (some ((zsz M), 105, 640)), vr (some (97, 1, 0))] Q) : Z E YX8_init (d + 1) M [(0, vr (some (97, 1, 0)))] 662 [vr (some (p0, 105, 640)), vr (some (97, 1, 0))] Q := by
  refine z_putr (by decide) dX8_init_662 (zfwN.f fwX8_241_1 rfl (fun q h => by rw [← Option.some.inj h]; rfl)) rfl ?_
  refine z_aload_n dX8_init_665 rfl rfl ?_
  refine z_sipush (v := 640) dX8_init_666 rfl ?_
  refine z_newa (q := 5) (N := 640) dX8_init_669 rfl (by decide) q755 (by decide) (by decide) (by decide) ?_
  exact k
theorem sX8_init_671 {E : zE} {d : Nat} {Q : zO → zM → Prop} (M : zM) (p0 : Nat) (k : Z E YX8_init (d + 1) (zn (sr M 97 129 (some (p0, 105, 640))) 640) [(0, vr (some (97, 1, 0)))] 680 [vr (some ((zsz M), 100, 640)), vr (some (97, 1, 0))] Q) : Z E YX8_init (d + 1) M [(0, vr (some (97, 1, 0)))] 671 [vr (some (p0, 105, 640)), vr (some (97, 1, 0))] Q := by
  refine z_putr (by decide) dX8_init_671 (zfwN.f fwX8_244_1 rfl (fun q h => by rw [← Option.some.inj h]; rfl)) rfl ?_
  refine z_aload_n dX8_init_674 rfl rfl ?_
  refine z_sipush (v := 640) dX8_init_675 rfl ?_
  refine z_newa (q := 0) (N := 640) dX8_init_678 rfl (by decide) q535 (by decide) (by decide) (by decide) ?_
  exact k
theorem sX8_init_680 {E : zE} {d : Nat} {Q : zO → zM → Prop} (M : zM) (p0 : Nat) (k : Z E YX8_init (d + 1) (zn (sr M 97 130 (some (p0, 100, 640))) 25600) [(0, vr (some (97, 1, 0)))] 689 [vr (some ((zsz M), 100, 25600)), vr (some (97, 1, 0))] Q) : Z E YX8_init (d + 1) M [(0, vr (some (97, 1, 0)))] 680 [vr (some (p0, 100, 640)), vr (some (97, 1, 0))] Q := by
  refine z_putr (by decide) dX8_init_680 (zfwN.f fwX8_247_1 rfl (fun q h => by rw [← Option.some.inj h]; rfl)) rfl ?_
  refine z_aload_n dX8_init_683 rfl rfl ?_
  refine z_sipush (v := 25600) dX8_init_684 rfl ?_
  refine z_newa (q := 0) (N := 25600) dX8_init_687 rfl (by decide) q535 (by decide) (by decide) (by decide) ?_
  exact k
theorem sX8_init_689 {E : zE} {d : Nat} {Q : zO → zM → Prop} (M : zM) (p0 : Nat) (k : Z E YX8_init (d + 1) (zn (sr M 97 131 (some (p0, 100, 25600))) 25600) [(0, vr (some (97, 1, 0)))] 698 [vr (some ((zsz M), 100, 25600)), vr (some (97, 1, 0))] Q) : Z E YX8_init (d + 1) M [(0, vr (some (97, 1, 0)))] 689 [vr (some (p0, 100, 25600)), vr (some (97, 1, 0))] Q := by
  refine z_putr (by decide) dX8_init_689 (zfwN.f fwX8_250_1 rfl (fun q h => by rw [← Option.some.inj h]; rfl)) rfl ?_
  refine z_aload_n dX8_init_692 rfl rfl ?_
  refine z_sipush (v := 25600) dX8_init_693 rfl ?_
  refine z_newa (q := 0) (N := 25600) dX8_init_696 rfl (by decide) q535 (by decide) (by decide) (by decide) ?_
  exact k
theorem sX8_init_698 {E : zE} {d : Nat} {Q : zO → zM → Prop} (M : zM) (p0 : Nat) (k : Z E YX8_init (d + 1) (zn (sr M 97 132 (some (p0, 100, 25600))) 15128) [(0, vr (some (97, 1, 0)))] 707 [vr (some ((zsz M), 104, 15128)), vr (some (97, 1, 0))] Q) : Z E YX8_init (d + 1) M [(0, vr (some (97, 1, 0)))] 698 [vr (some (p0, 100, 25600)), vr (some (97, 1, 0))] Q := by
  refine z_putr (by decide) dX8_init_698 (zfwN.f fwX8_253_1 rfl (fun q h => by rw [← Option.some.inj h]; rfl)) rfl ?_
  refine z_aload_n dX8_init_701 rfl rfl ?_
  refine z_sipush (v := 15128) dX8_init_702 rfl ?_
  refine z_newa (q := 4) (N := 15128) dX8_init_705 rfl (by decide) q727 (by decide) (by decide) (by decide) ?_
  exact k
theorem sX8_init_707 {E : zE} {d : Nat} {Q : zO → zM → Prop} (M : zM) (p0 : Nat) (k : Z E YX8_init (d + 1) (zn (sr M 97 133 (some (p0, 104, 15128))) 15128) [(0, vr (some (97, 1, 0)))] 716 [vr (some ((zsz M), 104, 15128)), vr (some (97, 1, 0))] Q) : Z E YX8_init (d + 1) M [(0, vr (some (97, 1, 0)))] 707 [vr (some (p0, 104, 15128)), vr (some (97, 1, 0))] Q := by
  refine z_putr (by decide) dX8_init_707 (zfwN.f fwX8_256_1 rfl (fun q h => by rw [← Option.some.inj h]; rfl)) rfl ?_
  refine z_aload_n dX8_init_710 rfl rfl ?_
  refine z_sipush (v := 15128) dX8_init_711 rfl ?_
  refine z_newa (q := 4) (N := 15128) dX8_init_714 rfl (by decide) q727 (by decide) (by decide) (by decide) ?_
  exact k
theorem sX8_init_716 {E : zE} {d : Nat} {Q : zO → zM → Prop} (M : zM) (p0 : Nat) (k : Z E YX8_init (d + 1) (zn (sr M 97 134 (some (p0, 104, 15128))) 15128) [(0, vr (some (97, 1, 0)))] 725 [vr (some ((zsz M), 105, 15128)), vr (some (97, 1, 0))] Q) : Z E YX8_init (d + 1) M [(0, vr (some (97, 1, 0)))] 716 [vr (some (p0, 104, 15128)), vr (some (97, 1, 0))] Q := by
  refine z_putr (by decide) dX8_init_716 (zfwN.f fwX8_259_1 rfl (fun q h => by rw [← Option.some.inj h]; rfl)) rfl ?_
  refine z_aload_n dX8_init_719 rfl rfl ?_
  refine z_sipush (v := 15128) dX8_init_720 rfl ?_
  refine z_newa (q := 5) (N := 15128) dX8_init_723 rfl (by decide) q755 (by decide) (by decide) (by decide) ?_
  exact k
theorem sX8_init_725 {E : zE} {d : Nat} {Q : zO → zM → Prop} (M : zM) (p0 : Nat) (k : Z E YX8_init (d + 1) (zn (sr M 97 135 (some (p0, 105, 15128))) 15128) [(0, vr (some (97, 1, 0)))] 734 [vr (some ((zsz M), 105, 15128)), vr (some (97, 1, 0))] Q) : Z E YX8_init (d + 1) M [(0, vr (some (97, 1, 0)))] 725 [vr (some (p0, 105, 15128)), vr (some (97, 1, 0))] Q := by
  refine z_putr (by decide) dX8_init_725 (zfwN.f fwX8_262_1 rfl (fun q h => by rw [← Option.some.inj h]; rfl)) rfl ?_
  refine z_aload_n dX8_init_728 rfl rfl ?_
  refine z_sipush (v := 15128) dX8_init_729 rfl ?_
  refine z_newa (q := 5) (N := 15128) dX8_init_732 rfl (by decide) q755 (by decide) (by decide) (by decide) ?_
  exact k
theorem sX8_init_734 {E : zE} {d : Nat} {Q : zO → zM → Prop} (M : zM) (p0 : Nat) (k : Z E YX8_init (d + 1) (zn (sr M 97 136 (some (p0, 105, 15128))) 15128) [(0, vr (some (97, 1, 0)))] 743 [vr (some ((zsz M), 105, 15128)), vr (some (97, 1, 0))] Q) : Z E YX8_init (d + 1) M [(0, vr (some (97, 1, 0)))] 734 [vr (some (p0, 105, 15128)), vr (some (97, 1, 0))] Q := by
  refine z_putr (by decide) dX8_init_734 (zfwN.f fwX8_265_1 rfl (fun q h => by rw [← Option.some.inj h]; rfl)) rfl ?_
  refine z_aload_n dX8_init_737 rfl rfl ?_
  refine z_sipush (v := 15128) dX8_init_738 rfl ?_
  refine z_newa (q := 5) (N := 15128) dX8_init_741 rfl (by decide) q755 (by decide) (by decide) (by decide) ?_
  exact k
theorem sX8_init_743 {E : zE} {d : Nat} {Q : zO → zM → Prop} (M : zM) (p0 : Nat) (k : Z E YX8_init (d + 1) (zn (sr M 97 137 (some (p0, 105, 15128))) 15128) [(0, vr (some (97, 1, 0)))] 752 [vr (some ((zsz M), 105, 15128)), vr (some (97, 1, 0))] Q) : Z E YX8_init (d + 1) M [(0, vr (some (97, 1, 0)))] 743 [vr (some (p0, 105, 15128)), vr (some (97, 1, 0))] Q := by
  refine z_putr (by decide) dX8_init_743 (zfwN.f fwX8_268_1 rfl (fun q h => by rw [← Option.some.inj h]; rfl)) rfl ?_
  refine z_aload_n dX8_init_746 rfl rfl ?_
  refine z_sipush (v := 15128) dX8_init_747 rfl ?_
  refine z_newa (q := 5) (N := 15128) dX8_init_750 rfl (by decide) q755 (by decide) (by decide) (by decide) ?_
  exact k
theorem sX8_init_752 {E : zE} {d : Nat} {Q : zO → zM → Prop} (M : zM) (p0 : Nat) (k : Z E YX8_init (d + 1) (zn (sr M 97 138 (some (p0, 105, 15128))) 90) [(0, vr (some (97, 1, 0)))] 760 [vr (some ((zsz M), 104, 90)), vr (some (97, 1, 0))] Q) : Z E YX8_init (d + 1) M [(0, vr (some (97, 1, 0)))] 752 [vr (some (p0, 105, 15128)), vr (some (97, 1, 0))] Q := by
  refine z_putr (by decide) dX8_init_752 (zfwN.f fwX8_271_1 rfl (fun q h => by rw [← Option.some.inj h]; rfl)) rfl ?_
  refine z_aload_n dX8_init_755 rfl rfl ?_
  refine z_bipush (v := 90) dX8_init_756 rfl ?_
  refine z_newa (q := 4) (N := 90) dX8_init_758 rfl (by decide) q727 (by decide) (by decide) (by decide) ?_
  exact k
theorem sX8_init_760 {E : zE} {d : Nat} {Q : zO → zM → Prop} (M : zM) (p0 : Nat) (k : Z E YX8_init (d + 1) (zn (sr M 97 139 (some (p0, 104, 90))) 90) [(0, vr (some (97, 1, 0)))] 768 [vr (some ((zsz M), 104, 90)), vr (some (97, 1, 0))] Q) : Z E YX8_init (d + 1) M [(0, vr (some (97, 1, 0)))] 760 [vr (some (p0, 104, 90)), vr (some (97, 1, 0))] Q := by
  refine z_putr (by decide) dX8_init_760 (zfwN.f fwX8_274_1 rfl (fun q h => by rw [← Option.some.inj h]; rfl)) rfl ?_
  refine z_aload_n dX8_init_763 rfl rfl ?_
  refine z_bipush (v := 90) dX8_init_764 rfl ?_
  refine z_newa (q := 4) (N := 90) dX8_init_766 rfl (by decide) q727 (by decide) (by decide) (by decide) ?_
  exact k
theorem sX8_init_768 {E : zE} {d : Nat} {Q : zO → zM → Prop} (M : zM) (p0 : Nat) (k : Z E YX8_init (d + 1) (zn (sr M 97 140 (some (p0, 104, 90))) 90) [(0, vr (some (97, 1, 0)))] 776 [vr (some ((zsz M), 104, 90)), vr (some (97, 1, 0))] Q) : Z E YX8_init (d + 1) M [(0, vr (some (97, 1, 0)))] 768 [vr (some (p0, 104, 90)), vr (some (97, 1, 0))] Q := by
  refine z_putr (by decide) dX8_init_768 (zfwN.f fwX8_277_1 rfl (fun q h => by rw [← Option.some.inj h]; rfl)) rfl ?_
  refine z_aload_n dX8_init_771 rfl rfl ?_
  refine z_bipush (v := 90) dX8_init_772 rfl ?_
  refine z_newa (q := 4) (N := 90) dX8_init_774 rfl (by decide) q727 (by decide) (by decide) (by decide) ?_
  exact k
theorem sX8_init_776 {E : zE} {d : Nat} {Q : zO → zM → Prop} (M : zM) (p0 : Nat) (k : Z E YX8_init (d + 1) (zn (sr M 97 141 (some (p0, 104, 90))) 20) [(0, vr (some (97, 1, 0)))] 784 [vr (some ((zsz M), 104, 20)), vr (some (97, 1, 0))] Q) : Z E YX8_init (d + 1) M [(0, vr (some (97, 1, 0)))] 776 [vr (some (p0, 104, 90)), vr (some (97, 1, 0))] Q := by
  refine z_putr (by decide) dX8_init_776 (zfwN.f fwX8_280_1 rfl (fun q h => by rw [← Option.some.inj h]; rfl)) rfl ?_
  refine z_aload_n dX8_init_779 rfl rfl ?_
  refine z_bipush (v := 20) dX8_init_780 rfl ?_
  refine z_newa (q := 4) (N := 20) dX8_init_782 rfl (by decide) q727 (by decide) (by decide) (by decide) ?_
  exact k
theorem sX8_init_784 {E : zE} {d : Nat} {Q : zO → zM → Prop} (M : zM) (p0 : Nat) (k : Z E YX8_init (d + 1) (zn (sr M 97 142 (some (p0, 104, 20))) 12) [] 792 [vr (some ((zsz M), 100, 12)), vr (some (97, 1, 0))] Q) : Z E YX8_init (d + 1) M [(0, vr (some (97, 1, 0)))] 784 [vr (some (p0, 104, 20)), vr (some (97, 1, 0))] Q := by
  refine z_putr (by decide) dX8_init_784 (zfwN.f fwX8_283_1 rfl (fun q h => by rw [← Option.some.inj h]; rfl)) rfl ?_
  refine z_aload_n dX8_init_787 rfl rfl ?_
  refine z_bipush (v := 12) dX8_init_788 rfl ?_
  refine z_newa (q := 0) (N := 12) dX8_init_790 rfl (by decide) q535 (by decide) (by decide) (by decide) ?_
  refine Z.pick [] rfl ?_
  exact k
theorem sX8_init_792 {E : zE} {d : Nat} {Q : zO → zM → Prop} (M : zM) (p0 : Nat) (k : Q (.inl none) (sr M 97 146 (some (p0, 100, 12)))) : Z E YX8_init (d + 1) M [] 792 [vr (some (p0, 100, 12)), vr (some (97, 1, 0))] Q := by
  refine z_putr (by decide) dX8_init_792 (zfwN.f fwX8_286_1 rfl (fun q h => by rw [← Option.some.inj h]; rfl)) rfl ?_
  exact z_vret dX8_init_795 rfl k
/-! ScriptTypesModel.firstNames()V -/
theorem bX8_firstNames_0 : zdec cX8_firstNames 0 [(0, .aload_n 0, 1), (1, .iconst 0, 1), (2, .putfield 296, 3), (5, .aload_n 0, 1), (6, .iconst 0, 1), (7, .putfield 306, 3), (10, .aload_n 0, 1), (11, .iconst 0, 1), (12, .putfield 299, 3), (15, .iconst 0, 1), (16, .istore_n 1, 1), (17, .iload_n 1, 1), (18, .ldc_w 313, 3), (21, .invokevirtual 315, 3), (24, .if_icmp .ge 45, 3), (27, .ldc_w 313, 3)] = true := by decide +kernel
theorem dX8_firstNames_0 : decode cX8_firstNames 0 = .ok (.aload_n 0, 1) := zdec_at bX8_firstNames_0 0 rfl
theorem dX8_firstNames_1 : decode cX8_firstNames 1 = .ok (.iconst 0, 1) := zdec_at bX8_firstNames_0 1 rfl
theorem dX8_firstNames_2 : decode cX8_firstNames 2 = .ok (.putfield 296, 3) := zdec_at bX8_firstNames_0 2 rfl
theorem dX8_firstNames_5 : decode cX8_firstNames 5 = .ok (.aload_n 0, 1) := zdec_at bX8_firstNames_0 3 rfl
theorem dX8_firstNames_6 : decode cX8_firstNames 6 = .ok (.iconst 0, 1) := zdec_at bX8_firstNames_0 4 rfl
theorem dX8_firstNames_7 : decode cX8_firstNames 7 = .ok (.putfield 306, 3) := zdec_at bX8_firstNames_0 5 rfl
theorem dX8_firstNames_10 : decode cX8_firstNames 10 = .ok (.aload_n 0, 1) := zdec_at bX8_firstNames_0 6 rfl
theorem dX8_firstNames_11 : decode cX8_firstNames 11 = .ok (.iconst 0, 1) := zdec_at bX8_firstNames_0 7 rfl
theorem dX8_firstNames_12 : decode cX8_firstNames 12 = .ok (.putfield 299, 3) := zdec_at bX8_firstNames_0 8 rfl
theorem dX8_firstNames_15 : decode cX8_firstNames 15 = .ok (.iconst 0, 1) := zdec_at bX8_firstNames_0 9 rfl
theorem dX8_firstNames_16 : decode cX8_firstNames 16 = .ok (.istore_n 1, 1) := zdec_at bX8_firstNames_0 10 rfl
theorem dX8_firstNames_17 : decode cX8_firstNames 17 = .ok (.iload_n 1, 1) := zdec_at bX8_firstNames_0 11 rfl
theorem dX8_firstNames_18 : decode cX8_firstNames 18 = .ok (.ldc_w 313, 3) := zdec_at bX8_firstNames_0 12 rfl
theorem dX8_firstNames_21 : decode cX8_firstNames 21 = .ok (.invokevirtual 315, 3) := zdec_at bX8_firstNames_0 13 rfl
theorem dX8_firstNames_24 : decode cX8_firstNames 24 = .ok (.if_icmp .ge 45, 3) := zdec_at bX8_firstNames_0 14 rfl
theorem dX8_firstNames_27 : decode cX8_firstNames 27 = .ok (.ldc_w 313, 3) := zdec_at bX8_firstNames_0 15 rfl
theorem bX8_firstNames_30 : zdec cX8_firstNames 30 [(30, .iload_n 1, 1), (31, .invokevirtual 320, 3), (34, .bipush 32, 2), (36, .if_icmp .eq 17, 3), (39, .aload_n 0, 1), (40, .ldc_w 313, 3), (43, .iload_n 1, 1), (44, .invokevirtual 320, 3), (47, .invokevirtual 324, 3), (50, .goto 13, 3), (53, .aload_n 0, 1), (54, .invokevirtual 310, 3), (57, .istore_n 2, 1), (58, .aload_n 0, 1), (59, .iconst 0, 1), (60, .putfield 299, 3)] = true := by decide +kernel
theorem dX8_firstNames_30 : decode cX8_firstNames 30 = .ok (.iload_n 1, 1) := zdec_at bX8_firstNames_30 0 rfl
theorem dX8_firstNames_31 : decode cX8_firstNames 31 = .ok (.invokevirtual 320, 3) := zdec_at bX8_firstNames_30 1 rfl
theorem dX8_firstNames_34 : decode cX8_firstNames 34 = .ok (.bipush 32, 2) := zdec_at bX8_firstNames_30 2 rfl
theorem dX8_firstNames_36 : decode cX8_firstNames 36 = .ok (.if_icmp .eq 17, 3) := zdec_at bX8_firstNames_30 3 rfl
theorem dX8_firstNames_39 : decode cX8_firstNames 39 = .ok (.aload_n 0, 1) := zdec_at bX8_firstNames_30 4 rfl
theorem dX8_firstNames_40 : decode cX8_firstNames 40 = .ok (.ldc_w 313, 3) := zdec_at bX8_firstNames_30 5 rfl
theorem dX8_firstNames_43 : decode cX8_firstNames 43 = .ok (.iload_n 1, 1) := zdec_at bX8_firstNames_30 6 rfl
theorem dX8_firstNames_44 : decode cX8_firstNames 44 = .ok (.invokevirtual 320, 3) := zdec_at bX8_firstNames_30 7 rfl
theorem dX8_firstNames_47 : decode cX8_firstNames 47 = .ok (.invokevirtual 324, 3) := zdec_at bX8_firstNames_30 8 rfl
theorem dX8_firstNames_50 : decode cX8_firstNames 50 = .ok (.goto 13, 3) := zdec_at bX8_firstNames_30 9 rfl
theorem dX8_firstNames_53 : decode cX8_firstNames 53 = .ok (.aload_n 0, 1) := zdec_at bX8_firstNames_30 10 rfl
theorem dX8_firstNames_54 : decode cX8_firstNames 54 = .ok (.invokevirtual 310, 3) := zdec_at bX8_firstNames_30 11 rfl
theorem dX8_firstNames_57 : decode cX8_firstNames 57 = .ok (.istore_n 2, 1) := zdec_at bX8_firstNames_30 12 rfl
theorem dX8_firstNames_58 : decode cX8_firstNames 58 = .ok (.aload_n 0, 1) := zdec_at bX8_firstNames_30 13 rfl
theorem dX8_firstNames_59 : decode cX8_firstNames 59 = .ok (.iconst 0, 1) := zdec_at bX8_firstNames_30 14 rfl
theorem dX8_firstNames_60 : decode cX8_firstNames 60 = .ok (.putfield 299, 3) := zdec_at bX8_firstNames_30 15 rfl
theorem bX8_firstNames_63 : zdec cX8_firstNames 63 [(63, .iinc 1 1, 3), (66, .goto (-49), 3), (69, .return_, 1)] = true := by decide +kernel
theorem dX8_firstNames_63 : decode cX8_firstNames 63 = .ok (.iinc 1 1, 3) := zdec_at bX8_firstNames_63 0 rfl
theorem dX8_firstNames_66 : decode cX8_firstNames 66 = .ok (.goto (-49), 3) := zdec_at bX8_firstNames_63 1 rfl
theorem dX8_firstNames_69 : decode cX8_firstNames 69 = .ok (.return_, 1) := zdec_at bX8_firstNames_63 2 rfl
theorem sX8_firstNames_0 {E : zE} {d : Nat} {Q : zO → zM → Prop} (M : zM)  (k : Zm E YX8_firstNames (d + 1) (si (si (si M 97 7 (0 : Int32)) 97 9 (0 : Int32)) 97 11 (0 : Int32)) [(0, vr (some (97, 1, 0))), (1, vi (0 : Int32))] 17 [] Q) : Zm E YX8_firstNames (d + 1) M [(0, vr (some (97, 1, 0)))] 0 [] Q := by
  refine Zm.l (fun _ _ k_ => z_aload_n dX8_firstNames_0 rfl rfl k_) ?_
  refine Zm.l (fun _ _ k_ => z_iconst (v := 0) dX8_firstNames_1 rfl k_) ?_
  refine zm_puti (by decide) (by decide) dX8_firstNames_2 (zfwN.w fwX8_296_1) rfl ⟨rfl, rfl⟩ ?_
  refine Zm.l (fun _ _ k_ => z_aload_n dX8_firstNames_5 rfl rfl k_) ?_
  refine Zm.l (fun _ _ k_ => z_iconst (v := 0) dX8_firstNames_6 rfl k_) ?_
  refine zm_puti (by decide) (by decide) dX8_firstNames_7 (zfwN.w fwX8_306_1) rfl ⟨by decide, by decide⟩ ?_
  refine Zm.l (fun _ _ k_ => z_aload_n dX8_firstNames_10 rfl rfl k_) ?_
  refine Zm.l (fun _ _ k_ => z_iconst (v := 0) dX8_firstNames_11 rfl k_) ?_
  refine zm_puti (by decide) (by decide) dX8_firstNames_12 (zfwN.w fwX8_299_1) rfl ⟨rfl, rfl⟩ ?_
  refine Zm.l (fun _ _ k_ => z_iconst (v := 0) dX8_firstNames_15 rfl k_) ?_
  refine Zm.l (fun _ _ k_ => z_ist_n dX8_firstNames_16 rfl (by decide) (lv' := [(0, vr (some (97, 1, 0))), (1, vi (0 : Int32))]) rfl k_) ?_
  exact k
theorem sX8_firstNames_17 {E : zE} {d : Nat} {Q : zO → zM → Prop} (M : zM) (l1 : Int32) (k : (4 ≤ (d + 1)) ∧ (if (Int32.ofNat (zslen.getD 3 0)) ≤ l1 then (Q (.inl none) M) else ((4 ≤ (d + 1)) ∧ (vp_in l1 (zslen.getD 3 0) ∧ (if (zsch 3 (l1).toNatClampNeg) = (32 : Int32) then (Zm E YX8_addText d M (zargs 0 [vr (some (97, 1, 0))]) 0 [] (zma E YX8_firstNames (d + 1) [(0, vr (some (97, 1, 0))), (1, vi l1)] 54 3 [] Q)) else ((4 ≤ (d + 1)) ∧ (vp_in l1 (zslen.getD 3 0) ∧ (Zm E YX8_put d M (zargs 0 [vr (some (97, 1, 0)), vi (zsch 3 (l1).toNatClampNeg)]) 0 [] (zma E YX8_firstNames (d + 1) [(0, vr (some (97, 1, 0))), (1, vi l1)] 47 3 [] Q))))))))) : Zm E YX8_firstNames (d + 1) M [(0, vr (some (97, 1, 0))), (1, vi l1)] 17 [] Q := by
  refine Zm.l (fun _ _ k_ => z_iload_n dX8_firstNames_17 rfl rfl k_) ?_
  refine Zm.l (fun _ _ k_ => z_ldcws (i := 4) (j := 3) dX8_firstNames_18 rfl rfl rfl rfl k_) ?_
  obtain ⟨d_, k⟩ := k
  refine Zm.l (fun _ _ k_ => z_slen (j := 3) (by decide) dX8_firstNames_21 q3977 d_ (Nat.le_of_ble_eq_true rfl) k_) ?_
  refine Zm.br (fun _ _ k1_ k2_ => z_icmp_ge (tgt := 69) dX8_firstNames_24 rfl k1_ k2_) (fun h_ => ?_) (fun h_ => ?_)
  · have k := zit h_ k
    exact zm_vret dX8_firstNames_69 rfl k
  · have k := zif h_ k
    refine Zm.l (fun _ _ k_ => z_ldcws (i := 4) (j := 3) dX8_firstNames_27 rfl rfl rfl rfl k_) ?_
    refine Zm.l (fun _ _ k_ => z_iload_n dX8_firstNames_30 rfl rfl k_) ?_
    obtain ⟨d_, k⟩ := k
    obtain ⟨b_, k⟩ := k
    refine Zm.l (fun _ _ k_ => z_schar (j := 3) (by decide) dX8_firstNames_31 q3978 d_ (Nat.le_of_ble_eq_true rfl) b_ k_) ?_
    refine Zm.l (fun _ _ k_ => z_bipush (v := 32) dX8_firstNames_34 rfl k_) ?_
    refine Zm.br (fun _ _ k1_ k2_ => z_icmp_eq (tgt := 53) dX8_firstNames_36 rfl k1_ k2_) (fun h_ => ?_) (fun h_ => ?_)
    · have k := zit h_ k
      refine Zm.l (fun _ _ k_ => z_aload_n dX8_firstNames_53 rfl rfl k_) ?_
      exact zm_callV (as := []) (st := []) dX8_firstNames_54 vsX8_310_1 (Nat.le_refl _) (Nat.le_of_ble_eq_true rfl) (Nat.le_of_ble_eq_true rfl) rfl k
    · have k := zif h_ k
      refine Zm.l (fun _ _ k_ => z_aload_n dX8_firstNames_39 rfl rfl k_) ?_
      refine Zm.l (fun _ _ k_ => z_ldcws (i := 4) (j := 3) dX8_firstNames_40 rfl rfl rfl rfl k_) ?_
      refine Zm.l (fun _ _ k_ => z_iload_n dX8_firstNames_43 rfl rfl k_) ?_
      obtain ⟨d_, k⟩ := k
      obtain ⟨b_, k⟩ := k
      refine Zm.l (fun _ _ k_ => z_schar (j := 3) (by decide) dX8_firstNames_44 q3978 d_ (Nat.le_of_ble_eq_true rfl) b_ k_) ?_
      exact zm_callV (as := [vi (zsch 3 (l1).toNatClampNeg)]) (st := []) dX8_firstNames_47 vsX8_324_1 (Nat.le_refl _) (Nat.le_of_ble_eq_true rfl) (Nat.le_of_ble_eq_true rfl) rfl k
theorem sX8_firstNames_50 {E : zE} {d : Nat} {Q : zO → zM → Prop} (M : zM) (l1 : Int32) (k : Zm E YX8_firstNames (d + 1) M [(0, vr (some (97, 1, 0))), (1, vi (l1 + (1 : Int32)))] 17 [] Q) : Zm E YX8_firstNames (d + 1) M [(0, vr (some (97, 1, 0))), (1, vi l1)] 50 [] Q := by
  refine Zm.l (fun _ _ k_ => z_goto (tgt := 63) dX8_firstNames_50 rfl k_) ?_
  refine Zm.l (fun _ _ k_ => z_inc (v := (l1 + (1 : Int32))) dX8_firstNames_63 rfl rfl (by decide) (lv' := [(0, vr (some (97, 1, 0))), (1, vi (l1 + (1 : Int32)))]) rfl k_) ?_
  refine Zm.l (fun _ _ k_ => z_goto (tgt := 17) dX8_firstNames_66 rfl k_) ?_
  exact k
theorem sX8_firstNames_57 {E : zE} {d : Nat} {Q : zO → zM → Prop} (M : zM) (l1 : Int32) (s0 : Int32) (k : Zm E YX8_firstNames (d + 1) (si M 97 11 (0 : Int32)) [(0, vr (some (97, 1, 0))), (1, vi (l1 + (1 : Int32)))] 17 [] Q) : Zm E YX8_firstNames (d + 1) M [(0, vr (some (97, 1, 0))), (1, vi l1)] 57 [vi s0] Q := by
  refine Zm.l (fun _ _ k_ => z_ist_n dX8_firstNames_57 rfl (by decide) (lv' := [(0, vr (some (97, 1, 0))), (1, vi l1), (2, vi s0)]) rfl k_) ?_
  refine Zm.l (fun _ _ k_ => z_aload_n dX8_firstNames_58 rfl rfl k_) ?_
  refine Zm.l (fun _ _ k_ => z_iconst (v := 0) dX8_firstNames_59 rfl k_) ?_
  refine zm_puti (by decide) (by decide) dX8_firstNames_60 (zfwN.w fwX8_299_1) rfl ⟨rfl, rfl⟩ ?_
  refine Zm.l (fun _ _ k_ => z_inc (v := (l1 + (1 : Int32))) dX8_firstNames_63 rfl rfl (by decide) (lv' := [(0, vr (some (97, 1, 0))), (1, vi (l1 + (1 : Int32))), (2, vi s0)]) rfl k_) ?_
  refine Zm.l (fun _ _ k_ => z_goto (tgt := 17) dX8_firstNames_66 rfl k_) ?_
  refine Zm.pick [0, 1] rfl ?_
  exact k
/-! ScriptTypesModel.keywordAt(II)I -/
theorem bX8_keywordAt_0 : zdec cX8_keywordAt 0 [(0, .iconst 0, 1), (1, .istore_n 3, 1), (2, .iconst 0, 1), (3, .istore 4, 2), (5, .iload 4, 2), (7, .ldc_w 379, 3), (10, .invokevirtual 315, 3), (13, .if_icmp .ge 91, 3), (16, .iconst 0, 1), (17, .istore 5, 2), (19, .iload 5, 2), (21, .iload_n 2, 1), (22, .if_icmp .ge 31, 3), (25, .ldc_w 379, 3), (28, .iload 4, 2), (30, .iload 5, 2)] = true := by decide +kernel
theorem dX8_keywordAt_0 : decode cX8_keywordAt 0 = .ok (.iconst 0, 1) := zdec_at bX8_keywordAt_0 0 rfl
theorem dX8_keywordAt_1 : decode cX8_keywordAt 1 = .ok (.istore_n 3, 1) := zdec_at bX8_keywordAt_0 1 rfl
theorem dX8_keywordAt_2 : decode cX8_keywordAt 2 = .ok (.iconst 0, 1) := zdec_at bX8_keywordAt_0 2 rfl
theorem dX8_keywordAt_3 : decode cX8_keywordAt 3 = .ok (.istore 4, 2) := zdec_at bX8_keywordAt_0 3 rfl
theorem dX8_keywordAt_5 : decode cX8_keywordAt 5 = .ok (.iload 4, 2) := zdec_at bX8_keywordAt_0 4 rfl
theorem dX8_keywordAt_7 : decode cX8_keywordAt 7 = .ok (.ldc_w 379, 3) := zdec_at bX8_keywordAt_0 5 rfl
theorem dX8_keywordAt_10 : decode cX8_keywordAt 10 = .ok (.invokevirtual 315, 3) := zdec_at bX8_keywordAt_0 6 rfl
theorem dX8_keywordAt_13 : decode cX8_keywordAt 13 = .ok (.if_icmp .ge 91, 3) := zdec_at bX8_keywordAt_0 7 rfl
theorem dX8_keywordAt_16 : decode cX8_keywordAt 16 = .ok (.iconst 0, 1) := zdec_at bX8_keywordAt_0 8 rfl
theorem dX8_keywordAt_17 : decode cX8_keywordAt 17 = .ok (.istore 5, 2) := zdec_at bX8_keywordAt_0 9 rfl
theorem dX8_keywordAt_19 : decode cX8_keywordAt 19 = .ok (.iload 5, 2) := zdec_at bX8_keywordAt_0 10 rfl
theorem dX8_keywordAt_21 : decode cX8_keywordAt 21 = .ok (.iload_n 2, 1) := zdec_at bX8_keywordAt_0 11 rfl
theorem dX8_keywordAt_22 : decode cX8_keywordAt 22 = .ok (.if_icmp .ge 31, 3) := zdec_at bX8_keywordAt_0 12 rfl
theorem dX8_keywordAt_25 : decode cX8_keywordAt 25 = .ok (.ldc_w 379, 3) := zdec_at bX8_keywordAt_0 13 rfl
theorem dX8_keywordAt_28 : decode cX8_keywordAt 28 = .ok (.iload 4, 2) := zdec_at bX8_keywordAt_0 14 rfl
theorem dX8_keywordAt_30 : decode cX8_keywordAt 30 = .ok (.iload 5, 2) := zdec_at bX8_keywordAt_0 15 rfl
theorem bX8_keywordAt_32 : zdec cX8_keywordAt 32 [(32, .iadd, 1), (33, .invokevirtual 320, 3), (36, .aload_n 0, 1), (37, .iload_n 1, 1), (38, .iload 5, 2), (40, .iadd, 1), (41, .invokevirtual 334, 3), (44, .if_icmp .ne 9, 3), (47, .iinc 5 1, 3), (50, .goto (-31), 3), (53, .iload 5, 2), (55, .iload_n 2, 1), (56, .if_icmp .ne 20, 3), (59, .ldc_w 379, 3), (62, .iload 4, 2), (64, .iload_n 2, 1)] = true := by decide +kernel
theorem dX8_keywordAt_32 : decode cX8_keywordAt 32 = .ok (.iadd, 1) := zdec_at bX8_keywordAt_32 0 rfl
theorem dX8_keywordAt_33 : decode cX8_keywordAt 33 = .ok (.invokevirtual 320, 3) := zdec_at bX8_keywordAt_32 1 rfl
theorem dX8_keywordAt_36 : decode cX8_keywordAt 36 = .ok (.aload_n 0, 1) := zdec_at bX8_keywordAt_32 2 rfl
theorem dX8_keywordAt_37 : decode cX8_keywordAt 37 = .ok (.iload_n 1, 1) := zdec_at bX8_keywordAt_32 3 rfl
theorem dX8_keywordAt_38 : decode cX8_keywordAt 38 = .ok (.iload 5, 2) := zdec_at bX8_keywordAt_32 4 rfl
theorem dX8_keywordAt_40 : decode cX8_keywordAt 40 = .ok (.iadd, 1) := zdec_at bX8_keywordAt_32 5 rfl
theorem dX8_keywordAt_41 : decode cX8_keywordAt 41 = .ok (.invokevirtual 334, 3) := zdec_at bX8_keywordAt_32 6 rfl
theorem dX8_keywordAt_44 : decode cX8_keywordAt 44 = .ok (.if_icmp .ne 9, 3) := zdec_at bX8_keywordAt_32 7 rfl
theorem dX8_keywordAt_47 : decode cX8_keywordAt 47 = .ok (.iinc 5 1, 3) := zdec_at bX8_keywordAt_32 8 rfl
theorem dX8_keywordAt_50 : decode cX8_keywordAt 50 = .ok (.goto (-31), 3) := zdec_at bX8_keywordAt_32 9 rfl
theorem dX8_keywordAt_53 : decode cX8_keywordAt 53 = .ok (.iload 5, 2) := zdec_at bX8_keywordAt_32 10 rfl
theorem dX8_keywordAt_55 : decode cX8_keywordAt 55 = .ok (.iload_n 2, 1) := zdec_at bX8_keywordAt_32 11 rfl
theorem dX8_keywordAt_56 : decode cX8_keywordAt 56 = .ok (.if_icmp .ne 20, 3) := zdec_at bX8_keywordAt_32 12 rfl
theorem dX8_keywordAt_59 : decode cX8_keywordAt 59 = .ok (.ldc_w 379, 3) := zdec_at bX8_keywordAt_32 13 rfl
theorem dX8_keywordAt_62 : decode cX8_keywordAt 62 = .ok (.iload 4, 2) := zdec_at bX8_keywordAt_32 14 rfl
theorem dX8_keywordAt_64 : decode cX8_keywordAt 64 = .ok (.iload_n 2, 1) := zdec_at bX8_keywordAt_32 15 rfl
theorem bX8_keywordAt_65 : zdec cX8_keywordAt 65 [(65, .iadd, 1), (66, .invokevirtual 320, 3), (69, .bipush 32, 2), (71, .if_icmp .ne 5, 3), (74, .iload_n 3, 1), (75, .ireturn, 1), (76, .ldc_w 379, 3), (79, .iload 4, 2), (81, .invokevirtual 320, 3), (84, .bipush 32, 2), (86, .if_icmp .eq 9, 3), (89, .iinc 4 1, 3), (92, .goto (-16), 3), (95, .iinc 4 1, 3), (98, .iinc 3 1, 3), (101, .goto (-96), 3)] = true := by decide +kernel
theorem dX8_keywordAt_65 : decode cX8_keywordAt 65 = .ok (.iadd, 1) := zdec_at bX8_keywordAt_65 0 rfl
theorem dX8_keywordAt_66 : decode cX8_keywordAt 66 = .ok (.invokevirtual 320, 3) := zdec_at bX8_keywordAt_65 1 rfl
theorem dX8_keywordAt_69 : decode cX8_keywordAt 69 = .ok (.bipush 32, 2) := zdec_at bX8_keywordAt_65 2 rfl
theorem dX8_keywordAt_71 : decode cX8_keywordAt 71 = .ok (.if_icmp .ne 5, 3) := zdec_at bX8_keywordAt_65 3 rfl
theorem dX8_keywordAt_74 : decode cX8_keywordAt 74 = .ok (.iload_n 3, 1) := zdec_at bX8_keywordAt_65 4 rfl
theorem dX8_keywordAt_75 : decode cX8_keywordAt 75 = .ok (.ireturn, 1) := zdec_at bX8_keywordAt_65 5 rfl
theorem dX8_keywordAt_76 : decode cX8_keywordAt 76 = .ok (.ldc_w 379, 3) := zdec_at bX8_keywordAt_65 6 rfl
theorem dX8_keywordAt_79 : decode cX8_keywordAt 79 = .ok (.iload 4, 2) := zdec_at bX8_keywordAt_65 7 rfl
theorem dX8_keywordAt_81 : decode cX8_keywordAt 81 = .ok (.invokevirtual 320, 3) := zdec_at bX8_keywordAt_65 8 rfl
theorem dX8_keywordAt_84 : decode cX8_keywordAt 84 = .ok (.bipush 32, 2) := zdec_at bX8_keywordAt_65 9 rfl
theorem dX8_keywordAt_86 : decode cX8_keywordAt 86 = .ok (.if_icmp .eq 9, 3) := zdec_at bX8_keywordAt_65 10 rfl
theorem dX8_keywordAt_89 : decode cX8_keywordAt 89 = .ok (.iinc 4 1, 3) := zdec_at bX8_keywordAt_65 11 rfl
theorem dX8_keywordAt_92 : decode cX8_keywordAt 92 = .ok (.goto (-16), 3) := zdec_at bX8_keywordAt_65 12 rfl
theorem dX8_keywordAt_95 : decode cX8_keywordAt 95 = .ok (.iinc 4 1, 3) := zdec_at bX8_keywordAt_65 13 rfl
theorem dX8_keywordAt_98 : decode cX8_keywordAt 98 = .ok (.iinc 3 1, 3) := zdec_at bX8_keywordAt_65 14 rfl
theorem dX8_keywordAt_101 : decode cX8_keywordAt 101 = .ok (.goto (-96), 3) := zdec_at bX8_keywordAt_65 15 rfl
theorem bX8_keywordAt_104 : zdec cX8_keywordAt 104 [(104, .iconst (-1), 1), (105, .ireturn, 1)] = true := by decide +kernel
theorem dX8_keywordAt_104 : decode cX8_keywordAt 104 = .ok (.iconst (-1), 1) := zdec_at bX8_keywordAt_104 0 rfl
theorem dX8_keywordAt_105 : decode cX8_keywordAt 105 = .ok (.ireturn, 1) := zdec_at bX8_keywordAt_104 1 rfl
theorem sX8_keywordAt_0 {E : zE} {d : Nat} {Q : zO → zM → Prop} (M : zM) (l1 : Int32) (l2 : Int32) (k : Zm E YX8_keywordAt (d + 1) M [(0, vr (some (97, 1, 0))), (1, vi l1), (2, vi l2), (3, vi (0 : Int32)), (4, vi (0 : Int32))] 5 [] Q) : Zm E YX8_keywordAt (d + 1) M [(0, vr (some (97, 1, 0))), (1, vi l1), (2, vi l2)] 0 [] Q := by
  refine Zm.l (fun _ _ k_ => z_iconst (v := 0) dX8_keywordAt_0 rfl k_) ?_
  refine Zm.l (fun _ _ k_ => z_ist_n dX8_keywordAt_1 rfl (by decide) (lv' := [(0, vr (some (97, 1, 0))), (1, vi l1), (2, vi l2), (3, vi (0 : Int32))]) rfl k_) ?_
  refine Zm.l (fun _ _ k_ => z_iconst (v := 0) dX8_keywordAt_2 rfl k_) ?_
  refine Zm.l (fun _ _ k_ => z_ist dX8_keywordAt_3 (by decide) (lv' := [(0, vr (some (97, 1, 0))), (1, vi l1), (2, vi l2), (3, vi (0 : Int32)), (4, vi (0 : Int32))]) rfl k_) ?_
  exact k
theorem sX8_keywordAt_5 {E : zE} {d : Nat} {Q : zO → zM → Prop} (M : zM) (l1 : Int32) (l2 : Int32) (l3 : Int32) (l4 : Int32) (k : (4 ≤ (d + 1)) ∧ (if (Int32.ofNat (zslen.getD 1 0)) ≤ l4 then (Q (.inl (some (vi (-1 : Int32)))) M) else (Zm E YX8_keywordAt (d + 1) M [(0, vr (some (97, 1, 0))), (1, vi l1), (2, vi l2), (3, vi l3), (4, vi l4), (5, vi (0 : Int32))] 19 [] Q))) : Zm E YX8_keywordAt (d + 1) M [(0, vr (some (97, 1, 0))), (1, vi l1), (2, vi l2), (3, vi l3), (4, vi l4)] 5 [] Q := by
  refine Zm.l (fun _ _ k_ => z_iload dX8_keywordAt_5 rfl k_) ?_
  refine Zm.l (fun _ _ k_ => z_ldcws (i := 2) (j := 1) dX8_keywordAt_7 rfl rfl rfl rfl k_) ?_
  obtain ⟨d_, k⟩ := k
  refine Zm.l (fun _ _ k_ => z_slen (j := 1) (by decide) dX8_keywordAt_10 q3977 d_ (Nat.le_of_ble_eq_true rfl) k_) ?_
  refine Zm.br (fun _ _ k1_ k2_ => z_icmp_ge (tgt := 104) dX8_keywordAt_13 rfl k1_ k2_) (fun h_ => ?_) (fun h_ => ?_)
  · have k := zit h_ k
    refine Zm.l (fun _ _ k_ => z_iconst (v := -1) dX8_keywordAt_104 rfl k_) ?_
    exact zm_iret dX8_keywordAt_105 rfl rfl k
  · have k := zif h_ k
    refine Zm.l (fun _ _ k_ => z_iconst (v := 0) dX8_keywordAt_16 rfl k_) ?_
    refine Zm.l (fun _ _ k_ => z_ist dX8_keywordAt_17 (by decide) (lv' := [(0, vr (some (97, 1, 0))), (1, vi l1), (2, vi l2), (3, vi l3), (4, vi l4), (5, vi (0 : Int32))]) rfl k_) ?_
    exact k
theorem sX8_keywordAt_19 {E : zE} {d : Nat} {Q : zO → zM → Prop} (M : zM) (l1 : Int32) (l2 : Int32) (l3 : Int32) (l4 : Int32) (l5 : Int32) (k : if l2 ≤ l5 then (Zm E YX8_keywordAt (d + 1) M [(0, vr (some (97, 1, 0))), (1, vi l1), (2, vi l2), (3, vi l3), (4, vi l4), (5, vi l5)] 53 [] Q) else ((4 ≤ (d + 1)) ∧ (vp_in (l4 + l5) (zslen.getD 1 0) ∧ (Zm E YX8_look d M (zargs 0 [vr (some (97, 1, 0)), vi (l1 + l5)]) 0 [] (zma E YX8_keywordAt (d + 1) [(0, vr (some (97, 1, 0))), (1, vi l1), (2, vi l2), (3, vi l3), (4, vi l4), (5, vi l5)] 41 3 [vi (zsch 1 ((l4 + l5)).toNatClampNeg)] Q))))) : Zm E YX8_keywordAt (d + 1) M [(0, vr (some (97, 1, 0))), (1, vi l1), (2, vi l2), (3, vi l3), (4, vi l4), (5, vi l5)] 19 [] Q := by
  refine Zm.l (fun _ _ k_ => z_iload dX8_keywordAt_19 rfl k_) ?_
  refine Zm.l (fun _ _ k_ => z_iload_n dX8_keywordAt_21 rfl rfl k_) ?_
  refine Zm.br (fun _ _ k1_ k2_ => z_icmp_ge (tgt := 53) dX8_keywordAt_22 rfl k1_ k2_) (fun h_ => ?_) (fun h_ => ?_)
  · have k := zit h_ k
    exact k
  · have k := zif h_ k
    refine Zm.l (fun _ _ k_ => z_ldcws (i := 2) (j := 1) dX8_keywordAt_25 rfl rfl rfl rfl k_) ?_
    refine Zm.l (fun _ _ k_ => z_iload dX8_keywordAt_28 rfl k_) ?_
    refine Zm.l (fun _ _ k_ => z_iload dX8_keywordAt_30 rfl k_) ?_
    refine Zm.l (fun _ _ k_ => z_iadd dX8_keywordAt_32 k_) ?_
    obtain ⟨d_, k⟩ := k
    obtain ⟨b_, k⟩ := k
    refine Zm.l (fun _ _ k_ => z_schar (j := 1) (by decide) dX8_keywordAt_33 q3978 d_ (Nat.le_of_ble_eq_true rfl) b_ k_) ?_
    refine Zm.l (fun _ _ k_ => z_aload_n dX8_keywordAt_36 rfl rfl k_) ?_
    refine Zm.l (fun _ _ k_ => z_iload_n dX8_keywordAt_37 rfl rfl k_) ?_
    refine Zm.l (fun _ _ k_ => z_iload dX8_keywordAt_38 rfl k_) ?_
    refine Zm.l (fun _ _ k_ => z_iadd dX8_keywordAt_40 k_) ?_
    exact zm_callV (as := [vi (l1 + l5)]) (st := [vi (zsch 1 ((l4 + l5)).toNatClampNeg)]) dX8_keywordAt_41 vsX8_334_1 (Nat.le_refl _) (Nat.le_of_ble_eq_true rfl) (Nat.le_of_ble_eq_true rfl) rfl k
theorem sX8_keywordAt_44 {E : zE} {d : Nat} {Q : zO → zM → Prop} (M : zM) (l1 : Int32) (l2 : Int32) (l3 : Int32) (l4 : Int32) (l5 : Int32) (s0 : Int32) (s1 : Int32) (k : if s1 = s0 then (Zm E YX8_keywordAt (d + 1) M [(0, vr (some (97, 1, 0))), (1, vi l1), (2, vi l2), (3, vi l3), (4, vi l4), (5, vi (l5 + (1 : Int32)))] 19 [] Q) else (Zm E YX8_keywordAt (d + 1) M [(0, vr (some (97, 1, 0))), (1, vi l1), (2, vi l2), (3, vi l3), (4, vi l4), (5, vi l5)] 53 [] Q)) : Zm E YX8_keywordAt (d + 1) M [(0, vr (some (97, 1, 0))), (1, vi l1), (2, vi l2), (3, vi l3), (4, vi l4), (5, vi l5)] 44 [vi s0, vi s1] Q := by
  refine Zm.brn (fun _ _ k1_ k2_ => z_icmp_ne (tgt := 53) dX8_keywordAt_44 rfl k1_ k2_) (fun h_ => ?_) (fun h_ => ?_)
  · have k := zif h_ k
    exact k
  · have k := zit h_ k
    refine Zm.l (fun _ _ k_ => z_inc (v := (l5 + (1 : Int32))) dX8_keywordAt_47 rfl rfl (by decide) (lv' := [(0, vr (some (97, 1, 0))), (1, vi l1), (2, vi l2), (3, vi l3), (4, vi l4), (5, vi (l5 + (1 : Int32)))]) rfl k_) ?_
    refine Zm.l (fun _ _ k_ => z_goto (tgt := 19) dX8_keywordAt_50 rfl k_) ?_
    exact k
theorem sX8_keywordAt_53 {E : zE} {d : Nat} {Q : zO → zM → Prop} (M : zM) (l1 : Int32) (l2 : Int32) (l3 : Int32) (l4 : Int32) (l5 : Int32) (k : if l5 = l2 then ((4 ≤ (d + 1)) ∧ (vp_in (l4 + l2) (zslen.getD 1 0) ∧ (if (zsch 1 ((l4 + l2)).toNatClampNeg) = (32 : Int32) then (Q (.inl (some (vi l3))) M) else (Zm E YX8_keywordAt (d + 1) M [(0, vr (some (97, 1, 0))), (1, vi l1), (2, vi l2), (3, vi l3), (4, vi l4)] 76 [] Q)))) else (Zm E YX8_keywordAt (d + 1) M [(0, vr (some (97, 1, 0))), (1, vi l1), (2, vi l2), (3, vi l3), (4, vi l4)] 76 [] Q)) : Zm E YX8_keywordAt (d + 1) M [(0, vr (some (97, 1, 0))), (1, vi l1), (2, vi l2), (3, vi l3), (4, vi l4), (5, vi l5)] 53 [] Q := by
  refine Zm.l (fun _ _ k_ => z_iload dX8_keywordAt_53 rfl k_) ?_
  refine Zm.l (fun _ _ k_ => z_iload_n dX8_keywordAt_55 rfl rfl k_) ?_
  refine Zm.brn (fun _ _ k1_ k2_ => z_icmp_ne (tgt := 76) dX8_keywordAt_56 rfl k1_ k2_) (fun h_ => ?_) (fun h_ => ?_)
  · have k := zif h_ k
    refine Zm.pick [0, 1, 2, 3, 4] rfl ?_
    exact k
  · have k := zit h_ k
    refine Zm.l (fun _ _ k_ => z_ldcws (i := 2) (j := 1) dX8_keywordAt_59 rfl rfl rfl rfl k_) ?_
    refine Zm.l (fun _ _ k_ => z_iload dX8_keywordAt_62 rfl k_) ?_
    refine Zm.l (fun _ _ k_ => z_iload_n dX8_keywordAt_64 rfl rfl k_) ?_
    refine Zm.l (fun _ _ k_ => z_iadd dX8_keywordAt_65 k_) ?_
    obtain ⟨d_, k⟩ := k
    obtain ⟨b_, k⟩ := k
    refine Zm.l (fun _ _ k_ => z_schar (j := 1) (by decide) dX8_keywordAt_66 q3978 d_ (Nat.le_of_ble_eq_true rfl) b_ k_) ?_
    refine Zm.l (fun _ _ k_ => z_bipush (v := 32) dX8_keywordAt_69 rfl k_) ?_
    refine Zm.brn (fun _ _ k1_ k2_ => z_icmp_ne (tgt := 76) dX8_keywordAt_71 rfl k1_ k2_) (fun h_ => ?_) (fun h_ => ?_)
    · have k := zif h_ k
      refine Zm.pick [0, 1, 2, 3, 4] rfl ?_
      exact k
    · have k := zit h_ k
      refine Zm.l (fun _ _ k_ => z_iload_n dX8_keywordAt_74 rfl rfl k_) ?_
      exact zm_iret dX8_keywordAt_75 rfl rfl k
theorem sX8_keywordAt_76 {E : zE} {d : Nat} {Q : zO → zM → Prop} (M : zM) (l1 : Int32) (l2 : Int32) (l3 : Int32) (l4 : Int32) (k : (4 ≤ (d + 1)) ∧ (vp_in l4 (zslen.getD 1 0) ∧ (if (zsch 1 (l4).toNatClampNeg) = (32 : Int32) then (Zm E YX8_keywordAt (d + 1) M [(0, vr (some (97, 1, 0))), (1, vi l1), (2, vi l2), (3, vi (l3 + (1 : Int32))), (4, vi (l4 + (1 : Int32)))] 5 [] Q) else (Zm E YX8_keywordAt (d + 1) M [(0, vr (some (97, 1, 0))), (1, vi l1), (2, vi l2), (3, vi l3), (4, vi (l4 + (1 : Int32)))] 76 [] Q)))) : Zm E YX8_keywordAt (d + 1) M [(0, vr (some (97, 1, 0))), (1, vi l1), (2, vi l2), (3, vi l3), (4, vi l4)] 76 [] Q := by
  refine Zm.l (fun _ _ k_ => z_ldcws (i := 2) (j := 1) dX8_keywordAt_76 rfl rfl rfl rfl k_) ?_
  refine Zm.l (fun _ _ k_ => z_iload dX8_keywordAt_79 rfl k_) ?_
  obtain ⟨d_, k⟩ := k
  obtain ⟨b_, k⟩ := k
  refine Zm.l (fun _ _ k_ => z_schar (j := 1) (by decide) dX8_keywordAt_81 q3978 d_ (Nat.le_of_ble_eq_true rfl) b_ k_) ?_
  refine Zm.l (fun _ _ k_ => z_bipush (v := 32) dX8_keywordAt_84 rfl k_) ?_
  refine Zm.br (fun _ _ k1_ k2_ => z_icmp_eq (tgt := 95) dX8_keywordAt_86 rfl k1_ k2_) (fun h_ => ?_) (fun h_ => ?_)
  · have k := zit h_ k
    refine Zm.l (fun _ _ k_ => z_inc (v := (l4 + (1 : Int32))) dX8_keywordAt_95 rfl rfl (by decide) (lv' := [(0, vr (some (97, 1, 0))), (1, vi l1), (2, vi l2), (3, vi l3), (4, vi (l4 + (1 : Int32)))]) rfl k_) ?_
    refine Zm.l (fun _ _ k_ => z_inc (v := (l3 + (1 : Int32))) dX8_keywordAt_98 rfl rfl (by decide) (lv' := [(0, vr (some (97, 1, 0))), (1, vi l1), (2, vi l2), (3, vi (l3 + (1 : Int32))), (4, vi (l4 + (1 : Int32)))]) rfl k_) ?_
    refine Zm.l (fun _ _ k_ => z_goto (tgt := 5) dX8_keywordAt_101 rfl k_) ?_
    exact k
  · have k := zif h_ k
    refine Zm.l (fun _ _ k_ => z_inc (v := (l4 + (1 : Int32))) dX8_keywordAt_89 rfl rfl (by decide) (lv' := [(0, vr (some (97, 1, 0))), (1, vi l1), (2, vi l2), (3, vi l3), (4, vi (l4 + (1 : Int32)))]) rfl k_) ?_
    refine Zm.l (fun _ _ k_ => z_goto (tgt := 76) dX8_keywordAt_92 rfl k_) ?_
    exact k
/-! ScriptTypesModel.cutSign()V -/
theorem bX8_cutSign_0 : zdec cX8_cutSign 0 [(0, .iconst 0, 1), (1, .istore_n 1, 1), (2, .iconst 0, 1), (3, .istore_n 2, 1), (4, .iload_n 2, 1), (5, .ldc_w 387, 3), (8, .invokevirtual 315, 3), (11, .if_icmp .ge 141, 3), (14, .iconst 0, 1), (15, .istore_n 3, 1), (16, .ldc_w 387, 3), (19, .iload_n 2, 1), (20, .iload_n 3, 1), (21, .iadd, 1), (22, .invokevirtual 320, 3), (25, .bipush 32, 2)] = true := by decide +kernel
theorem dX8_cutSign_0 : decode cX8_cutSign 0 = .ok (.iconst 0, 1) := zdec_at bX8_cutSign_0 0 rfl
theorem dX8_cutSign_1 : decode cX8_cutSign 1 = .ok (.istore_n 1, 1) := zdec_at bX8_cutSign_0 1 rfl
theorem dX8_cutSign_2 : decode cX8_cutSign 2 = .ok (.iconst 0, 1) := zdec_at bX8_cutSign_0 2 rfl
theorem dX8_cutSign_3 : decode cX8_cutSign 3 = .ok (.istore_n 2, 1) := zdec_at bX8_cutSign_0 3 rfl
theorem dX8_cutSign_4 : decode cX8_cutSign 4 = .ok (.iload_n 2, 1) := zdec_at bX8_cutSign_0 4 rfl
theorem dX8_cutSign_5 : decode cX8_cutSign 5 = .ok (.ldc_w 387, 3) := zdec_at bX8_cutSign_0 5 rfl
theorem dX8_cutSign_8 : decode cX8_cutSign 8 = .ok (.invokevirtual 315, 3) := zdec_at bX8_cutSign_0 6 rfl
theorem dX8_cutSign_11 : decode cX8_cutSign 11 = .ok (.if_icmp .ge 141, 3) := zdec_at bX8_cutSign_0 7 rfl
theorem dX8_cutSign_14 : decode cX8_cutSign 14 = .ok (.iconst 0, 1) := zdec_at bX8_cutSign_0 8 rfl
theorem dX8_cutSign_15 : decode cX8_cutSign 15 = .ok (.istore_n 3, 1) := zdec_at bX8_cutSign_0 9 rfl
theorem dX8_cutSign_16 : decode cX8_cutSign 16 = .ok (.ldc_w 387, 3) := zdec_at bX8_cutSign_0 10 rfl
theorem dX8_cutSign_19 : decode cX8_cutSign 19 = .ok (.iload_n 2, 1) := zdec_at bX8_cutSign_0 11 rfl
theorem dX8_cutSign_20 : decode cX8_cutSign 20 = .ok (.iload_n 3, 1) := zdec_at bX8_cutSign_0 12 rfl
theorem dX8_cutSign_21 : decode cX8_cutSign 21 = .ok (.iadd, 1) := zdec_at bX8_cutSign_0 13 rfl
theorem dX8_cutSign_22 : decode cX8_cutSign 22 = .ok (.invokevirtual 320, 3) := zdec_at bX8_cutSign_0 14 rfl
theorem dX8_cutSign_25 : decode cX8_cutSign 25 = .ok (.bipush 32, 2) := zdec_at bX8_cutSign_0 15 rfl
theorem bX8_cutSign_27 : zdec cX8_cutSign 27 [(27, .if_icmp .eq 9, 3), (30, .iinc 3 1, 3), (33, .goto (-17), 3), (36, .iconst 1, 1), (37, .istore 4, 2), (39, .iconst 0, 1), (40, .istore 5, 2), (42, .iload 5, 2), (44, .iload_n 3, 1), (45, .if_icmp .ge 59, 3), (48, .iload 4, 2), (50, .ifCond .eq 54, 3), (53, .aload_n 0, 1), (54, .aload_n 0, 1), (55, .getfield 344, 3), (58, .iload 5, 2)] = true := by decide +kernel
theorem dX8_cutSign_27 : decode cX8_cutSign 27 = .ok (.if_icmp .eq 9, 3) := zdec_at bX8_cutSign_27 0 rfl
theorem dX8_cutSign_30 : decode cX8_cutSign 30 = .ok (.iinc 3 1, 3) := zdec_at bX8_cutSign_27 1 rfl
theorem dX8_cutSign_33 : decode cX8_cutSign 33 = .ok (.goto (-17), 3) := zdec_at bX8_cutSign_27 2 rfl
theorem dX8_cutSign_36 : decode cX8_cutSign 36 = .ok (.iconst 1, 1) := zdec_at bX8_cutSign_27 3 rfl
theorem dX8_cutSign_37 : decode cX8_cutSign 37 = .ok (.istore 4, 2) := zdec_at bX8_cutSign_27 4 rfl
theorem dX8_cutSign_39 : decode cX8_cutSign 39 = .ok (.iconst 0, 1) := zdec_at bX8_cutSign_27 5 rfl
theorem dX8_cutSign_40 : decode cX8_cutSign 40 = .ok (.istore 5, 2) := zdec_at bX8_cutSign_27 6 rfl
theorem dX8_cutSign_42 : decode cX8_cutSign 42 = .ok (.iload 5, 2) := zdec_at bX8_cutSign_27 7 rfl
theorem dX8_cutSign_44 : decode cX8_cutSign 44 = .ok (.iload_n 3, 1) := zdec_at bX8_cutSign_27 8 rfl
theorem dX8_cutSign_45 : decode cX8_cutSign 45 = .ok (.if_icmp .ge 59, 3) := zdec_at bX8_cutSign_27 9 rfl
theorem dX8_cutSign_48 : decode cX8_cutSign 48 = .ok (.iload 4, 2) := zdec_at bX8_cutSign_27 10 rfl
theorem dX8_cutSign_50 : decode cX8_cutSign 50 = .ok (.ifCond .eq 54, 3) := zdec_at bX8_cutSign_27 11 rfl
theorem dX8_cutSign_53 : decode cX8_cutSign 53 = .ok (.aload_n 0, 1) := zdec_at bX8_cutSign_27 12 rfl
theorem dX8_cutSign_54 : decode cX8_cutSign 54 = .ok (.aload_n 0, 1) := zdec_at bX8_cutSign_27 13 rfl
theorem dX8_cutSign_55 : decode cX8_cutSign 55 = .ok (.getfield 344, 3) := zdec_at bX8_cutSign_27 14 rfl
theorem dX8_cutSign_58 : decode cX8_cutSign 58 = .ok (.iload 5, 2) := zdec_at bX8_cutSign_27 15 rfl
theorem bX8_cutSign_60 : zdec cX8_cutSign 60 [(60, .iadd, 1), (61, .invokevirtual 331, 3), (64, .ifCond .eq 31, 3), (67, .ldc_w 387, 3), (70, .iload_n 2, 1), (71, .iload 5, 2), (73, .iadd, 1), (74, .invokevirtual 320, 3), (77, .aload_n 0, 1), (78, .aload_n 0, 1), (79, .getfield 344, 3), (82, .iload 5, 2), (84, .iadd, 1), (85, .invokevirtual 334, 3), (88, .if_icmp .ne 7, 3), (91, .iconst 1, 1)] = true := by decide +kernel
theorem dX8_cutSign_60 : decode cX8_cutSign 60 = .ok (.iadd, 1) := zdec_at bX8_cutSign_60 0 rfl
theorem dX8_cutSign_61 : decode cX8_cutSign 61 = .ok (.invokevirtual 331, 3) := zdec_at bX8_cutSign_60 1 rfl
theorem dX8_cutSign_64 : decode cX8_cutSign 64 = .ok (.ifCond .eq 31, 3) := zdec_at bX8_cutSign_60 2 rfl
theorem dX8_cutSign_67 : decode cX8_cutSign 67 = .ok (.ldc_w 387, 3) := zdec_at bX8_cutSign_60 3 rfl
theorem dX8_cutSign_70 : decode cX8_cutSign 70 = .ok (.iload_n 2, 1) := zdec_at bX8_cutSign_60 4 rfl
theorem dX8_cutSign_71 : decode cX8_cutSign 71 = .ok (.iload 5, 2) := zdec_at bX8_cutSign_60 5 rfl
theorem dX8_cutSign_73 : decode cX8_cutSign 73 = .ok (.iadd, 1) := zdec_at bX8_cutSign_60 6 rfl
theorem dX8_cutSign_74 : decode cX8_cutSign 74 = .ok (.invokevirtual 320, 3) := zdec_at bX8_cutSign_60 7 rfl
theorem dX8_cutSign_77 : decode cX8_cutSign 77 = .ok (.aload_n 0, 1) := zdec_at bX8_cutSign_60 8 rfl
theorem dX8_cutSign_78 : decode cX8_cutSign 78 = .ok (.aload_n 0, 1) := zdec_at bX8_cutSign_60 9 rfl
theorem dX8_cutSign_79 : decode cX8_cutSign 79 = .ok (.getfield 344, 3) := zdec_at bX8_cutSign_60 10 rfl
theorem dX8_cutSign_82 : decode cX8_cutSign 82 = .ok (.iload 5, 2) := zdec_at bX8_cutSign_60 11 rfl
theorem dX8_cutSign_84 : decode cX8_cutSign 84 = .ok (.iadd, 1) := zdec_at bX8_cutSign_60 12 rfl
theorem dX8_cutSign_85 : decode cX8_cutSign 85 = .ok (.invokevirtual 334, 3) := zdec_at bX8_cutSign_60 13 rfl
theorem dX8_cutSign_88 : decode cX8_cutSign 88 = .ok (.if_icmp .ne 7, 3) := zdec_at bX8_cutSign_60 14 rfl
theorem dX8_cutSign_91 : decode cX8_cutSign 91 = .ok (.iconst 1, 1) := zdec_at bX8_cutSign_60 15 rfl
theorem bX8_cutSign_92 : zdec cX8_cutSign 92 [(92, .goto 4, 3), (95, .iconst 0, 1), (96, .istore 4, 2), (98, .iinc 5 1, 3), (101, .goto (-59), 3), (104, .iload 4, 2), (106, .ifCond .eq 34, 3), (109, .aload_n 0, 1), (110, .getfield 27, 3), (113, .aload_n 0, 1), (114, .getfield 350, 3), (117, .iconst 5, 1), (118, .iastore, 1), (119, .aload_n 0, 1), (120, .getfield 30, 3), (123, .aload_n 0, 1)] = true := by decide +kernel
theorem dX8_cutSign_92 : decode cX8_cutSign 92 = .ok (.goto 4, 3) := zdec_at bX8_cutSign_92 0 rfl
theorem dX8_cutSign_95 : decode cX8_cutSign 95 = .ok (.iconst 0, 1) := zdec_at bX8_cutSign_92 1 rfl
theorem dX8_cutSign_96 : decode cX8_cutSign 96 = .ok (.istore 4, 2) := zdec_at bX8_cutSign_92 2 rfl
theorem dX8_cutSign_98 : decode cX8_cutSign 98 = .ok (.iinc 5 1, 3) := zdec_at bX8_cutSign_92 3 rfl
theorem dX8_cutSign_101 : decode cX8_cutSign 101 = .ok (.goto (-59), 3) := zdec_at bX8_cutSign_92 4 rfl
theorem dX8_cutSign_104 : decode cX8_cutSign 104 = .ok (.iload 4, 2) := zdec_at bX8_cutSign_92 5 rfl
theorem dX8_cutSign_106 : decode cX8_cutSign 106 = .ok (.ifCond .eq 34, 3) := zdec_at bX8_cutSign_92 6 rfl
theorem dX8_cutSign_109 : decode cX8_cutSign 109 = .ok (.aload_n 0, 1) := zdec_at bX8_cutSign_92 7 rfl
theorem dX8_cutSign_110 : decode cX8_cutSign 110 = .ok (.getfield 27, 3) := zdec_at bX8_cutSign_92 8 rfl
theorem dX8_cutSign_113 : decode cX8_cutSign 113 = .ok (.aload_n 0, 1) := zdec_at bX8_cutSign_92 9 rfl
theorem dX8_cutSign_114 : decode cX8_cutSign 114 = .ok (.getfield 350, 3) := zdec_at bX8_cutSign_92 10 rfl
theorem dX8_cutSign_117 : decode cX8_cutSign 117 = .ok (.iconst 5, 1) := zdec_at bX8_cutSign_92 11 rfl
theorem dX8_cutSign_118 : decode cX8_cutSign 118 = .ok (.iastore, 1) := zdec_at bX8_cutSign_92 12 rfl
theorem dX8_cutSign_119 : decode cX8_cutSign 119 = .ok (.aload_n 0, 1) := zdec_at bX8_cutSign_92 13 rfl
theorem dX8_cutSign_120 : decode cX8_cutSign 120 = .ok (.getfield 30, 3) := zdec_at bX8_cutSign_92 14 rfl
theorem dX8_cutSign_123 : decode cX8_cutSign 123 = .ok (.aload_n 0, 1) := zdec_at bX8_cutSign_92 15 rfl
theorem bX8_cutSign_124 : zdec cX8_cutSign 124 [(124, .getfield 350, 3), (127, .iload_n 1, 1), (128, .iastore, 1), (129, .aload_n 0, 1), (130, .dup, 1), (131, .getfield 344, 3), (134, .iload_n 3, 1), (135, .iadd, 1), (136, .putfield 344, 3), (139, .return_, 1), (140, .iload_n 2, 1), (141, .iload_n 3, 1), (142, .iconst 1, 1), (143, .iadd, 1), (144, .iadd, 1), (145, .istore_n 2, 1)] = true := by decide +kernel
theorem dX8_cutSign_124 : decode cX8_cutSign 124 = .ok (.getfield 350, 3) := zdec_at bX8_cutSign_124 0 rfl
theorem dX8_cutSign_127 : decode cX8_cutSign 127 = .ok (.iload_n 1, 1) := zdec_at bX8_cutSign_124 1 rfl
theorem dX8_cutSign_128 : decode cX8_cutSign 128 = .ok (.iastore, 1) := zdec_at bX8_cutSign_124 2 rfl
theorem dX8_cutSign_129 : decode cX8_cutSign 129 = .ok (.aload_n 0, 1) := zdec_at bX8_cutSign_124 3 rfl
theorem dX8_cutSign_130 : decode cX8_cutSign 130 = .ok (.dup, 1) := zdec_at bX8_cutSign_124 4 rfl
theorem dX8_cutSign_131 : decode cX8_cutSign 131 = .ok (.getfield 344, 3) := zdec_at bX8_cutSign_124 5 rfl
theorem dX8_cutSign_134 : decode cX8_cutSign 134 = .ok (.iload_n 3, 1) := zdec_at bX8_cutSign_124 6 rfl
theorem dX8_cutSign_135 : decode cX8_cutSign 135 = .ok (.iadd, 1) := zdec_at bX8_cutSign_124 7 rfl
theorem dX8_cutSign_136 : decode cX8_cutSign 136 = .ok (.putfield 344, 3) := zdec_at bX8_cutSign_124 8 rfl
theorem dX8_cutSign_139 : decode cX8_cutSign 139 = .ok (.return_, 1) := zdec_at bX8_cutSign_124 9 rfl
theorem dX8_cutSign_140 : decode cX8_cutSign 140 = .ok (.iload_n 2, 1) := zdec_at bX8_cutSign_124 10 rfl
theorem dX8_cutSign_141 : decode cX8_cutSign 141 = .ok (.iload_n 3, 1) := zdec_at bX8_cutSign_124 11 rfl
theorem dX8_cutSign_142 : decode cX8_cutSign 142 = .ok (.iconst 1, 1) := zdec_at bX8_cutSign_124 12 rfl
theorem dX8_cutSign_143 : decode cX8_cutSign 143 = .ok (.iadd, 1) := zdec_at bX8_cutSign_124 13 rfl
theorem dX8_cutSign_144 : decode cX8_cutSign 144 = .ok (.iadd, 1) := zdec_at bX8_cutSign_124 14 rfl
theorem dX8_cutSign_145 : decode cX8_cutSign 145 = .ok (.istore_n 2, 1) := zdec_at bX8_cutSign_124 15 rfl
theorem bX8_cutSign_146 : zdec cX8_cutSign 146 [(146, .iinc 1 1, 3), (149, .goto (-145), 3), (152, .aload_n 0, 1), (153, .getfield 27, 3), (156, .aload_n 0, 1), (157, .getfield 350, 3), (160, .bipush 6, 2), (162, .iastore, 1), (163, .return_, 1)] = true := by decide +kernel
theorem dX8_cutSign_146 : decode cX8_cutSign 146 = .ok (.iinc 1 1, 3) := zdec_at bX8_cutSign_146 0 rfl
theorem dX8_cutSign_149 : decode cX8_cutSign 149 = .ok (.goto (-145), 3) := zdec_at bX8_cutSign_146 1 rfl
theorem dX8_cutSign_152 : decode cX8_cutSign 152 = .ok (.aload_n 0, 1) := zdec_at bX8_cutSign_146 2 rfl
theorem dX8_cutSign_153 : decode cX8_cutSign 153 = .ok (.getfield 27, 3) := zdec_at bX8_cutSign_146 3 rfl
theorem dX8_cutSign_156 : decode cX8_cutSign 156 = .ok (.aload_n 0, 1) := zdec_at bX8_cutSign_146 4 rfl
theorem dX8_cutSign_157 : decode cX8_cutSign 157 = .ok (.getfield 350, 3) := zdec_at bX8_cutSign_146 5 rfl
theorem dX8_cutSign_160 : decode cX8_cutSign 160 = .ok (.bipush 6, 2) := zdec_at bX8_cutSign_146 6 rfl
theorem dX8_cutSign_162 : decode cX8_cutSign 162 = .ok (.iastore, 1) := zdec_at bX8_cutSign_146 7 rfl
theorem dX8_cutSign_163 : decode cX8_cutSign 163 = .ok (.return_, 1) := zdec_at bX8_cutSign_146 8 rfl
theorem sX8_cutSign_0 {E : zE} {d : Nat} {Q : zO → zM → Prop} (M : zM)  (k : Zm E YX8_cutSign (d + 1) M [(0, vr (some (97, 1, 0))), (1, vi (0 : Int32)), (2, vi (0 : Int32))] 4 [] Q) : Zm E YX8_cutSign (d + 1) M [(0, vr (some (97, 1, 0)))] 0 [] Q := by
  refine Zm.l (fun _ _ k_ => z_iconst (v := 0) dX8_cutSign_0 rfl k_) ?_
  refine Zm.l (fun _ _ k_ => z_ist_n dX8_cutSign_1 rfl (by decide) (lv' := [(0, vr (some (97, 1, 0))), (1, vi (0 : Int32))]) rfl k_) ?_
  refine Zm.l (fun _ _ k_ => z_iconst (v := 0) dX8_cutSign_2 rfl k_) ?_
  refine Zm.l (fun _ _ k_ => z_ist_n dX8_cutSign_3 rfl (by decide) (lv' := [(0, vr (some (97, 1, 0))), (1, vi (0 : Int32)), (2, vi (0 : Int32))]) rfl k_) ?_
  exact k
theorem sX8_cutSign_4 {E : zE} {d : Nat} {Q : zO → zM → Prop} (M : zM) (l1 : Int32) (l2 : Int32) (k : (4 ≤ (d + 1)) ∧ (if (Int32.ofNat (zslen.getD 4 0)) ≤ l2 then (vp_in (gi M 97 12) 4002 ∧ (Q (.inl none) (si M 103 ((gi M 97 12)).toNatClampNeg (6 : Int32)))) else (Zm E YX8_cutSign (d + 1) M [(0, vr (some (97, 1, 0))), (1, vi l1), (2, vi l2), (3, vi (0 : Int32))] 16 [] Q))) : Zm E YX8_cutSign (d + 1) M [(0, vr (some (97, 1, 0))), (1, vi l1), (2, vi l2)] 4 [] Q := by
  refine Zm.l (fun _ _ k_ => z_iload_n dX8_cutSign_4 rfl rfl k_) ?_
  refine Zm.l (fun _ _ k_ => z_ldcws (i := 5) (j := 4) dX8_cutSign_5 rfl rfl rfl rfl k_) ?_
  obtain ⟨d_, k⟩ := k
  refine Zm.l (fun _ _ k_ => z_slen (j := 4) (by decide) dX8_cutSign_8 q3977 d_ (Nat.le_of_ble_eq_true rfl) k_) ?_
  refine Zm.br (fun _ _ k1_ k2_ => z_icmp_ge (tgt := 152) dX8_cutSign_11 rfl k1_ k2_) (fun h_ => ?_) (fun h_ => ?_)
  · have k := zit h_ k
    refine Zm.l (fun _ _ k_ => z_aload_n dX8_cutSign_152 rfl rfl k_) ?_
    refine zm_getr 5 dX8_cutSign_153 fsX8_27_1 rfl ?_
    refine Zm.l (fun _ _ k_ => z_aload_n dX8_cutSign_156 rfl rfl k_) ?_
    refine zm_geti dX8_cutSign_157 fsX8_350_1 (by decide) (by decide) ?_
    refine Zm.l (fun _ _ k_ => z_bipush (v := 6) dX8_cutSign_160 rfl k_) ?_
    obtain ⟨b_, k⟩ := k
    refine zm_iast dX8_cutSign_162 b_ (by decide) (by decide) ?_
    exact zm_vret dX8_cutSign_163 rfl k
  · have k := zif h_ k
    refine Zm.l (fun _ _ k_ => z_iconst (v := 0) dX8_cutSign_14 rfl k_) ?_
    refine Zm.l (fun _ _ k_ => z_ist_n dX8_cutSign_15 rfl (by decide) (lv' := [(0, vr (some (97, 1, 0))), (1, vi l1), (2, vi l2), (3, vi (0 : Int32))]) rfl k_) ?_
    exact k
theorem sX8_cutSign_16 {E : zE} {d : Nat} {Q : zO → zM → Prop} (M : zM) (l1 : Int32) (l2 : Int32) (l3 : Int32) (k : (4 ≤ (d + 1)) ∧ (vp_in (l2 + l3) (zslen.getD 4 0) ∧ (if (zsch 4 ((l2 + l3)).toNatClampNeg) = (32 : Int32) then (Zm E YX8_cutSign (d + 1) M [(0, vr (some (97, 1, 0))), (1, vi l1), (2, vi l2), (3, vi l3), (4, vi (1 : Int32)), (5, vi (0 : Int32))] 42 [] Q) else (Zm E YX8_cutSign (d + 1) M [(0, vr (some (97, 1, 0))), (1, vi l1), (2, vi l2), (3, vi (l3 + (1 : Int32)))] 16 [] Q)))) : Zm E YX8_cutSign (d + 1) M [(0, vr (some (97, 1, 0))), (1, vi l1), (2, vi l2), (3, vi l3)] 16 [] Q := by
  refine Zm.l (fun _ _ k_ => z_ldcws (i := 5) (j := 4) dX8_cutSign_16 rfl rfl rfl rfl k_) ?_
  refine Zm.l (fun _ _ k_ => z_iload_n dX8_cutSign_19 rfl rfl k_) ?_
  refine Zm.l (fun _ _ k_ => z_iload_n dX8_cutSign_20 rfl rfl k_) ?_
  refine Zm.l (fun _ _ k_ => z_iadd dX8_cutSign_21 k_) ?_
  obtain ⟨d_, k⟩ := k
  obtain ⟨b_, k⟩ := k
  refine Zm.l (fun _ _ k_ => z_schar (j := 4) (by decide) dX8_cutSign_22 q3978 d_ (Nat.le_of_ble_eq_true rfl) b_ k_) ?_
  refine Zm.l (fun _ _ k_ => z_bipush (v := 32) dX8_cutSign_25 rfl k_) ?_
  refine Zm.br (fun _ _ k1_ k2_ => z_icmp_eq (tgt := 36) dX8_cutSign_27 rfl k1_ k2_) (fun h_ => ?_) (fun h_ => ?_)
  · have k := zit h_ k
    refine Zm.l (fun _ _ k_ => z_iconst (v := 1) dX8_cutSign_36 rfl k_) ?_
    refine Zm.l (fun _ _ k_ => z_ist dX8_cutSign_37 (by decide) (lv' := [(0, vr (some (97, 1, 0))), (1, vi l1), (2, vi l2), (3, vi l3), (4, vi (1 : Int32))]) rfl k_) ?_
    refine Zm.l (fun _ _ k_ => z_iconst (v := 0) dX8_cutSign_39 rfl k_) ?_
    refine Zm.l (fun _ _ k_ => z_ist dX8_cutSign_40 (by decide) (lv' := [(0, vr (some (97, 1, 0))), (1, vi l1), (2, vi l2), (3, vi l3), (4, vi (1 : Int32)), (5, vi (0 : Int32))]) rfl k_) ?_
    exact k
  · have k := zif h_ k
    refine Zm.l (fun _ _ k_ => z_inc (v := (l3 + (1 : Int32))) dX8_cutSign_30 rfl rfl (by decide) (lv' := [(0, vr (some (97, 1, 0))), (1, vi l1), (2, vi l2), (3, vi (l3 + (1 : Int32)))]) rfl k_) ?_
    refine Zm.l (fun _ _ k_ => z_goto (tgt := 16) dX8_cutSign_33 rfl k_) ?_
    exact k
theorem sX8_cutSign_42 {E : zE} {d : Nat} {Q : zO → zM → Prop} (M : zM) (l1 : Int32) (l2 : Int32) (l3 : Int32) (l4 : Int32) (l5 : Int32) (k : if l3 ≤ l5 then (Zm E YX8_cutSign (d + 1) M [(0, vr (some (97, 1, 0))), (1, vi l1), (2, vi l2), (3, vi l3), (4, vi l4)] 104 [] Q) else (if l4 = 0 then (Zm E YX8_cutSign (d + 1) M [(0, vr (some (97, 1, 0))), (1, vi l1), (2, vi l2), (3, vi l3), (4, vi l4)] 104 [] Q) else (Zm E YX8_isThere d M (zargs 0 [vr (some (97, 1, 0)), vi ((gi M 97 18) + l5)]) 0 [] (zma E YX8_cutSign (d + 1) [(0, vr (some (97, 1, 0))), (1, vi l1), (2, vi l2), (3, vi l3), (5, vi l5)] 61 3 [] Q)))) : Zm E YX8_cutSign (d + 1) M [(0, vr (some (97, 1, 0))), (1, vi l1), (2, vi l2), (3, vi l3), (4, vi l4), (5, vi l5)] 42 [] Q := by
  refine Zm.l (fun _ _ k_ => z_iload dX8_cutSign_42 rfl k_) ?_
  refine Zm.l (fun _ _ k_ => z_iload_n dX8_cutSign_44 rfl rfl k_) ?_
  refine Zm.br (fun _ _ k1_ k2_ => z_icmp_ge (tgt := 104) dX8_cutSign_45 rfl k1_ k2_) (fun h_ => ?_) (fun h_ => ?_)
  · have k := zit h_ k
    refine Zm.pick [0, 1, 2, 3, 4] rfl ?_
    exact k
  · have k := zif h_ k
    refine Zm.l (fun _ _ k_ => z_iload dX8_cutSign_48 rfl k_) ?_
    refine Zm.br (fun _ _ k1_ k2_ => z_if_eq (tgt := 104) dX8_cutSign_50 rfl k1_ k2_) (fun h_ => ?_) (fun h_ => ?_)
    · have k := zit h_ k
      refine Zm.pick [0, 1, 2, 3, 4] rfl ?_
      exact k
    · have k := zif h_ k
      refine Zm.l (fun _ _ k_ => z_aload_n dX8_cutSign_53 rfl rfl k_) ?_
      refine Zm.l (fun _ _ k_ => z_aload_n dX8_cutSign_54 rfl rfl k_) ?_
      refine zm_geti dX8_cutSign_55 fsX8_344_1 (by decide) (by decide) ?_
      refine Zm.l (fun _ _ k_ => z_iload dX8_cutSign_58 rfl k_) ?_
      refine Zm.l (fun _ _ k_ => z_iadd dX8_cutSign_60 k_) ?_
      refine Zm.pick [0, 1, 2, 3, 5] rfl ?_
      exact zm_callV (as := [vi ((gi M 97 18) + l5)]) (st := []) dX8_cutSign_61 vsX8_331_1 (Nat.le_refl _) (Nat.le_of_ble_eq_true rfl) (Nat.le_of_ble_eq_true rfl) rfl k
theorem sX8_cutSign_64 {E : zE} {d : Nat} {Q : zO → zM → Prop} (M : zM) (l1 : Int32) (l2 : Int32) (l3 : Int32) (l5 : Int32) (s0 : Int32) (k : if s0 = 0 then (Zm E YX8_cutSign (d + 1) M [(0, vr (some (97, 1, 0))), (1, vi l1), (2, vi l2), (3, vi l3), (4, vi (0 : Int32)), (5, vi (l5 + (1 : Int32)))] 42 [] Q) else ((4 ≤ (d + 1)) ∧ (vp_in (l2 + l5) (zslen.getD 4 0) ∧ (Zm E YX8_look d M (zargs 0 [vr (some (97, 1, 0)), vi ((gi M 97 18) + l5)]) 0 [] (zma E YX8_cutSign (d + 1) [(0, vr (some (97, 1, 0))), (1, vi l1), (2, vi l2), (3, vi l3), (5, vi l5)] 85 3 [vi (zsch 4 ((l2 + l5)).toNatClampNeg)] Q))))) : Zm E YX8_cutSign (d + 1) M [(0, vr (some (97, 1, 0))), (1, vi l1), (2, vi l2), (3, vi l3), (5, vi l5)] 64 [vi s0] Q := by
  refine Zm.br (fun _ _ k1_ k2_ => z_if_eq (tgt := 95) dX8_cutSign_64 rfl k1_ k2_) (fun h_ => ?_) (fun h_ => ?_)
  · have k := zit h_ k
    refine Zm.l (fun _ _ k_ => z_iconst (v := 0) dX8_cutSign_95 rfl k_) ?_
    refine Zm.l (fun _ _ k_ => z_ist dX8_cutSign_96 (by decide) (lv' := [(0, vr (some (97, 1, 0))), (1, vi l1), (2, vi l2), (3, vi l3), (4, vi (0 : Int32)), (5, vi l5)]) rfl k_) ?_
    refine Zm.l (fun _ _ k_ => z_inc (v := (l5 + (1 : Int32))) dX8_cutSign_98 rfl rfl (by decide) (lv' := [(0, vr (some (97, 1, 0))), (1, vi l1), (2, vi l2), (3, vi l3), (4, vi (0 : Int32)), (5, vi (l5 + (1 : Int32)))]) rfl k_) ?_
    refine Zm.l (fun _ _ k_ => z_goto (tgt := 42) dX8_cutSign_101 rfl k_) ?_
    exact k
  · have k := zif h_ k
    refine Zm.l (fun _ _ k_ => z_ldcws (i := 5) (j := 4) dX8_cutSign_67 rfl rfl rfl rfl k_) ?_
    refine Zm.l (fun _ _ k_ => z_iload_n dX8_cutSign_70 rfl rfl k_) ?_
    refine Zm.l (fun _ _ k_ => z_iload dX8_cutSign_71 rfl k_) ?_
    refine Zm.l (fun _ _ k_ => z_iadd dX8_cutSign_73 k_) ?_
    obtain ⟨d_, k⟩ := k
    obtain ⟨b_, k⟩ := k
    refine Zm.l (fun _ _ k_ => z_schar (j := 4) (by decide) dX8_cutSign_74 q3978 d_ (Nat.le_of_ble_eq_true rfl) b_ k_) ?_
    refine Zm.l (fun _ _ k_ => z_aload_n dX8_cutSign_77 rfl rfl k_) ?_
    refine Zm.l (fun _ _ k_ => z_aload_n dX8_cutSign_78 rfl rfl k_) ?_
    refine zm_geti dX8_cutSign_79 fsX8_344_1 (by decide) (by decide) ?_
    refine Zm.l (fun _ _ k_ => z_iload dX8_cutSign_82 rfl k_) ?_
    refine Zm.l (fun _ _ k_ => z_iadd dX8_cutSign_84 k_) ?_
    exact zm_callV (as := [vi ((gi M 97 18) + l5)]) (st := [vi (zsch 4 ((l2 + l5)).toNatClampNeg)]) dX8_cutSign_85 vsX8_334_1 (Nat.le_refl _) (Nat.le_of_ble_eq_true rfl) (Nat.le_of_ble_eq_true rfl) rfl k
theorem sX8_cutSign_88 {E : zE} {d : Nat} {Q : zO → zM → Prop} (M : zM) (l1 : Int32) (l2 : Int32) (l3 : Int32) (l5 : Int32) (s0 : Int32) (s1 : Int32) (k : if s1 = s0 then (Zm E YX8_cutSign (d + 1) M [(0, vr (some (97, 1, 0))), (1, vi l1), (2, vi l2), (3, vi l3), (4, vi (1 : Int32)), (5, vi (l5 + (1 : Int32)))] 42 [] Q) else (Zm E YX8_cutSign (d + 1) M [(0, vr (some (97, 1, 0))), (1, vi l1), (2, vi l2), (3, vi l3), (4, vi (0 : Int32)), (5, vi (l5 + (1 : Int32)))] 42 [] Q)) : Zm E YX8_cutSign (d + 1) M [(0, vr (some (97, 1, 0))), (1, vi l1), (2, vi l2), (3, vi l3), (5, vi l5)] 88 [vi s0, vi s1] Q := by
  refine Zm.brn (fun _ _ k1_ k2_ => z_icmp_ne (tgt := 95) dX8_cutSign_88 rfl k1_ k2_) (fun h_ => ?_) (fun h_ => ?_)
  · have k := zif h_ k
    refine Zm.l (fun _ _ k_ => z_iconst (v := 0) dX8_cutSign_95 rfl k_) ?_
    refine Zm.l (fun _ _ k_ => z_ist dX8_cutSign_96 (by decide) (lv' := [(0, vr (some (97, 1, 0))), (1, vi l1), (2, vi l2), (3, vi l3), (4, vi (0 : Int32)), (5, vi l5)]) rfl k_) ?_
    refine Zm.l (fun _ _ k_ => z_inc (v := (l5 + (1 : Int32))) dX8_cutSign_98 rfl rfl (by decide) (lv' := [(0, vr (some (97, 1, 0))), (1, vi l1), (2, vi l2), (3, vi l3), (4, vi (0 : Int32)), (5, vi (l5 + (1 : Int32)))]) rfl k_) ?_
    refine Zm.l (fun _ _ k_ => z_goto (tgt := 42) dX8_cutSign_101 rfl k_) ?_
    exact k
  · have k := zit h_ k
    refine Zm.l (fun _ _ k_ => z_iconst (v := 1) dX8_cutSign_91 rfl k_) ?_
    refine Zm.l (fun _ _ k_ => z_goto (tgt := 96) dX8_cutSign_92 rfl k_) ?_
    refine Zm.l (fun _ _ k_ => z_ist dX8_cutSign_96 (by decide) (lv' := [(0, vr (some (97, 1, 0))), (1, vi l1), (2, vi l2), (3, vi l3), (4, vi (1 : Int32)), (5, vi l5)]) rfl k_) ?_
    refine Zm.l (fun _ _ k_ => z_inc (v := (l5 + (1 : Int32))) dX8_cutSign_98 rfl rfl (by decide) (lv' := [(0, vr (some (97, 1, 0))), (1, vi l1), (2, vi l2), (3, vi l3), (4, vi (1 : Int32)), (5, vi (l5 + (1 : Int32)))]) rfl k_) ?_
    refine Zm.l (fun _ _ k_ => z_goto (tgt := 42) dX8_cutSign_101 rfl k_) ?_
    exact k
theorem sX8_cutSign_104 {E : zE} {d : Nat} {Q : zO → zM → Prop} (M : zM) (l1 : Int32) (l2 : Int32) (l3 : Int32) (l4 : Int32) (k : if l4 = 0 then (Zm E YX8_cutSign (d + 1) M [(0, vr (some (97, 1, 0))), (1, vi (l1 + (1 : Int32))), (2, vi (l2 + (l3 + (1 : Int32))))] 4 [] Q) else (vp_in (gi M 97 12) 4002 ∧ (vp_in (gi M 97 12) 4002 ∧ (Q (.inl none) (si (si (si M 103 ((gi M 97 12)).toNatClampNeg (5 : Int32)) 104 ((gi M 97 12)).toNatClampNeg l1) 97 18 ((gi M 97 18) + l3)))))) : Zm E YX8_cutSign (d + 1) M [(0, vr (some (97, 1, 0))), (1, vi l1), (2, vi l2), (3, vi l3), (4, vi l4)] 104 [] Q := by
  refine Zm.l (fun _ _ k_ => z_iload dX8_cutSign_104 rfl k_) ?_
  refine Zm.br (fun _ _ k1_ k2_ => z_if_eq (tgt := 140) dX8_cutSign_106 rfl k1_ k2_) (fun h_ => ?_) (fun h_ => ?_)
  · have k := zit h_ k
    refine Zm.l (fun _ _ k_ => z_iload_n dX8_cutSign_140 rfl rfl k_) ?_
    refine Zm.l (fun _ _ k_ => z_iload_n dX8_cutSign_141 rfl rfl k_) ?_
    refine Zm.l (fun _ _ k_ => z_iconst (v := 1) dX8_cutSign_142 rfl k_) ?_
    refine Zm.l (fun _ _ k_ => z_iadd dX8_cutSign_143 k_) ?_
    refine Zm.l (fun _ _ k_ => z_iadd dX8_cutSign_144 k_) ?_
    refine Zm.l (fun _ _ k_ => z_ist_n dX8_cutSign_145 rfl (by decide) (lv' := [(0, vr (some (97, 1, 0))), (1, vi l1), (2, vi (l2 + (l3 + (1 : Int32)))), (3, vi l3), (4, vi l4)]) rfl k_) ?_
    refine Zm.l (fun _ _ k_ => z_inc (v := (l1 + (1 : Int32))) dX8_cutSign_146 rfl rfl (by decide) (lv' := [(0, vr (some (97, 1, 0))), (1, vi (l1 + (1 : Int32))), (2, vi (l2 + (l3 + (1 : Int32)))), (3, vi l3), (4, vi l4)]) rfl k_) ?_
    refine Zm.l (fun _ _ k_ => z_goto (tgt := 4) dX8_cutSign_149 rfl k_) ?_
    refine Zm.pick [0, 1, 2] rfl ?_
    exact k
  · have k := zif h_ k
    refine Zm.l (fun _ _ k_ => z_aload_n dX8_cutSign_109 rfl rfl k_) ?_
    refine zm_getr 5 dX8_cutSign_110 fsX8_27_1 rfl ?_
    refine Zm.l (fun _ _ k_ => z_aload_n dX8_cutSign_113 rfl rfl k_) ?_
    refine zm_geti dX8_cutSign_114 fsX8_350_1 (by decide) (by decide) ?_
    refine Zm.l (fun _ _ k_ => z_iconst (v := 5) dX8_cutSign_117 rfl k_) ?_
    obtain ⟨b_, k⟩ := k
    refine zm_iast dX8_cutSign_118 b_ (by decide) (by decide) ?_
    refine Zm.l (fun _ _ k_ => z_aload_n dX8_cutSign_119 rfl rfl k_) ?_
    refine zm_getr 6 dX8_cutSign_120 fsX8_30_1 rfl ?_
    refine Zm.l (fun _ _ k_ => z_aload_n dX8_cutSign_123 rfl rfl k_) ?_
    refine zm_geti dX8_cutSign_124 fsX8_350_1 (by decide) (by decide) ?_
    refine Zm.l (fun _ _ k_ => z_iload_n dX8_cutSign_127 rfl rfl k_) ?_
    obtain ⟨b_, k⟩ := k
    refine zm_iast dX8_cutSign_128 b_ (by decide) (by decide) ?_
    refine Zm.l (fun _ _ k_ => z_aload_n dX8_cutSign_129 rfl rfl k_) ?_
    refine Zm.l (fun _ _ k_ => z_dup dX8_cutSign_130 rfl k_) ?_
    refine zm_geti dX8_cutSign_131 fsX8_344_1 (by decide) (by decide) ?_
    refine Zm.l (fun _ _ k_ => z_iload_n dX8_cutSign_134 rfl rfl k_) ?_
    refine Zm.l (fun _ _ k_ => z_iadd dX8_cutSign_135 k_) ?_
    refine zm_puti (by decide) (by decide) dX8_cutSign_136 (zfwN.w fwX8_344_1) rfl ⟨rfl, rfl⟩ ?_
    exact zm_vret dX8_cutSign_139 rfl k
/-! ScriptTypesModel.wrapIn(IIII)V -/
theorem bX8_wrapIn_0 : zdec cX8_wrapIn 0 [(0, .aload_n 0, 1), (1, .getfield 637, 3), (4, .aload_n 0, 1), (5, .getfield 113, 3), (8, .arraylength, 1), (9, .if_icmp .ne 58, 3), (12, .aload_n 0, 1), (13, .aload_n 0, 1), (14, .getfield 113, 3), (17, .invokestatic 640, 3), (20, .putfield 113, 3), (23, .aload_n 0, 1), (24, .aload_n 0, 1), (25, .getfield 116, 3), (28, .invokestatic 640, 3), (31, .putfield 116, 3)] = true := by decide +kernel
theorem dX8_wrapIn_0 : decode cX8_wrapIn 0 = .ok (.aload_n 0, 1) := zdec_at bX8_wrapIn_0 0 rfl
theorem dX8_wrapIn_1 : decode cX8_wrapIn 1 = .ok (.getfield 637, 3) := zdec_at bX8_wrapIn_0 1 rfl
theorem dX8_wrapIn_4 : decode cX8_wrapIn 4 = .ok (.aload_n 0, 1) := zdec_at bX8_wrapIn_0 2 rfl
theorem dX8_wrapIn_5 : decode cX8_wrapIn 5 = .ok (.getfield 113, 3) := zdec_at bX8_wrapIn_0 3 rfl
theorem dX8_wrapIn_8 : decode cX8_wrapIn 8 = .ok (.arraylength, 1) := zdec_at bX8_wrapIn_0 4 rfl
theorem dX8_wrapIn_9 : decode cX8_wrapIn 9 = .ok (.if_icmp .ne 58, 3) := zdec_at bX8_wrapIn_0 5 rfl
theorem dX8_wrapIn_12 : decode cX8_wrapIn 12 = .ok (.aload_n 0, 1) := zdec_at bX8_wrapIn_0 6 rfl
theorem dX8_wrapIn_13 : decode cX8_wrapIn 13 = .ok (.aload_n 0, 1) := zdec_at bX8_wrapIn_0 7 rfl
theorem dX8_wrapIn_14 : decode cX8_wrapIn 14 = .ok (.getfield 113, 3) := zdec_at bX8_wrapIn_0 8 rfl
theorem dX8_wrapIn_17 : decode cX8_wrapIn 17 = .ok (.invokestatic 640, 3) := zdec_at bX8_wrapIn_0 9 rfl
theorem dX8_wrapIn_20 : decode cX8_wrapIn 20 = .ok (.putfield 113, 3) := zdec_at bX8_wrapIn_0 10 rfl
theorem dX8_wrapIn_23 : decode cX8_wrapIn 23 = .ok (.aload_n 0, 1) := zdec_at bX8_wrapIn_0 11 rfl
theorem dX8_wrapIn_24 : decode cX8_wrapIn 24 = .ok (.aload_n 0, 1) := zdec_at bX8_wrapIn_0 12 rfl
theorem dX8_wrapIn_25 : decode cX8_wrapIn 25 = .ok (.getfield 116, 3) := zdec_at bX8_wrapIn_0 13 rfl
theorem dX8_wrapIn_28 : decode cX8_wrapIn 28 = .ok (.invokestatic 640, 3) := zdec_at bX8_wrapIn_0 14 rfl
theorem dX8_wrapIn_31 : decode cX8_wrapIn 31 = .ok (.putfield 116, 3) := zdec_at bX8_wrapIn_0 15 rfl
theorem bX8_wrapIn_34 : zdec cX8_wrapIn 34 [(34, .aload_n 0, 1), (35, .aload_n 0, 1), (36, .getfield 119, 3), (39, .invokestatic 640, 3), (42, .putfield 119, 3), (45, .aload_n 0, 1), (46, .aload_n 0, 1), (47, .getfield 122, 3), (50, .invokestatic 640, 3), (53, .putfield 122, 3), (56, .aload_n 0, 1), (57, .aload_n 0, 1), (58, .getfield 125, 3), (61, .invokestatic 640, 3), (64, .putfield 125, 3), (67, .aload_n 0, 1)] = true := by decide +kernel
theorem dX8_wrapIn_34 : decode cX8_wrapIn 34 = .ok (.aload_n 0, 1) := zdec_at bX8_wrapIn_34 0 rfl
theorem dX8_wrapIn_35 : decode cX8_wrapIn 35 = .ok (.aload_n 0, 1) := zdec_at bX8_wrapIn_34 1 rfl
theorem dX8_wrapIn_36 : decode cX8_wrapIn 36 = .ok (.getfield 119, 3) := zdec_at bX8_wrapIn_34 2 rfl
theorem dX8_wrapIn_39 : decode cX8_wrapIn 39 = .ok (.invokestatic 640, 3) := zdec_at bX8_wrapIn_34 3 rfl
theorem dX8_wrapIn_42 : decode cX8_wrapIn 42 = .ok (.putfield 119, 3) := zdec_at bX8_wrapIn_34 4 rfl
theorem dX8_wrapIn_45 : decode cX8_wrapIn 45 = .ok (.aload_n 0, 1) := zdec_at bX8_wrapIn_34 5 rfl
theorem dX8_wrapIn_46 : decode cX8_wrapIn 46 = .ok (.aload_n 0, 1) := zdec_at bX8_wrapIn_34 6 rfl
theorem dX8_wrapIn_47 : decode cX8_wrapIn 47 = .ok (.getfield 122, 3) := zdec_at bX8_wrapIn_34 7 rfl
theorem dX8_wrapIn_50 : decode cX8_wrapIn 50 = .ok (.invokestatic 640, 3) := zdec_at bX8_wrapIn_34 8 rfl
theorem dX8_wrapIn_53 : decode cX8_wrapIn 53 = .ok (.putfield 122, 3) := zdec_at bX8_wrapIn_34 9 rfl
theorem dX8_wrapIn_56 : decode cX8_wrapIn 56 = .ok (.aload_n 0, 1) := zdec_at bX8_wrapIn_34 10 rfl
theorem dX8_wrapIn_57 : decode cX8_wrapIn 57 = .ok (.aload_n 0, 1) := zdec_at bX8_wrapIn_34 11 rfl
theorem dX8_wrapIn_58 : decode cX8_wrapIn 58 = .ok (.getfield 125, 3) := zdec_at bX8_wrapIn_34 12 rfl
theorem dX8_wrapIn_61 : decode cX8_wrapIn 61 = .ok (.invokestatic 640, 3) := zdec_at bX8_wrapIn_34 13 rfl
theorem dX8_wrapIn_64 : decode cX8_wrapIn 64 = .ok (.putfield 125, 3) := zdec_at bX8_wrapIn_34 14 rfl
theorem dX8_wrapIn_67 : decode cX8_wrapIn 67 = .ok (.aload_n 0, 1) := zdec_at bX8_wrapIn_34 15 rfl
theorem bX8_wrapIn_68 : zdec cX8_wrapIn 68 [(68, .getfield 113, 3), (71, .aload_n 0, 1), (72, .getfield 637, 3), (75, .iload_n 1, 1), (76, .iastore, 1), (77, .aload_n 0, 1), (78, .getfield 116, 3), (81, .aload_n 0, 1), (82, .getfield 637, 3), (85, .iload_n 2, 1), (86, .iastore, 1), (87, .aload_n 0, 1), (88, .getfield 119, 3), (91, .aload_n 0, 1), (92, .getfield 637, 3), (95, .iload_n 3, 1)] = true := by decide +kernel
theorem dX8_wrapIn_68 : decode cX8_wrapIn 68 = .ok (.getfield 113, 3) := zdec_at bX8_wrapIn_68 0 rfl
theorem dX8_wrapIn_71 : decode cX8_wrapIn 71 = .ok (.aload_n 0, 1) := zdec_at bX8_wrapIn_68 1 rfl
theorem dX8_wrapIn_72 : decode cX8_wrapIn 72 = .ok (.getfield 637, 3) := zdec_at bX8_wrapIn_68 2 rfl
theorem dX8_wrapIn_75 : decode cX8_wrapIn 75 = .ok (.iload_n 1, 1) := zdec_at bX8_wrapIn_68 3 rfl
theorem dX8_wrapIn_76 : decode cX8_wrapIn 76 = .ok (.iastore, 1) := zdec_at bX8_wrapIn_68 4 rfl
theorem dX8_wrapIn_77 : decode cX8_wrapIn 77 = .ok (.aload_n 0, 1) := zdec_at bX8_wrapIn_68 5 rfl
theorem dX8_wrapIn_78 : decode cX8_wrapIn 78 = .ok (.getfield 116, 3) := zdec_at bX8_wrapIn_68 6 rfl
theorem dX8_wrapIn_81 : decode cX8_wrapIn 81 = .ok (.aload_n 0, 1) := zdec_at bX8_wrapIn_68 7 rfl
theorem dX8_wrapIn_82 : decode cX8_wrapIn 82 = .ok (.getfield 637, 3) := zdec_at bX8_wrapIn_68 8 rfl
theorem dX8_wrapIn_85 : decode cX8_wrapIn 85 = .ok (.iload_n 2, 1) := zdec_at bX8_wrapIn_68 9 rfl
theorem dX8_wrapIn_86 : decode cX8_wrapIn 86 = .ok (.iastore, 1) := zdec_at bX8_wrapIn_68 10 rfl
theorem dX8_wrapIn_87 : decode cX8_wrapIn 87 = .ok (.aload_n 0, 1) := zdec_at bX8_wrapIn_68 11 rfl
theorem dX8_wrapIn_88 : decode cX8_wrapIn 88 = .ok (.getfield 119, 3) := zdec_at bX8_wrapIn_68 12 rfl
theorem dX8_wrapIn_91 : decode cX8_wrapIn 91 = .ok (.aload_n 0, 1) := zdec_at bX8_wrapIn_68 13 rfl
theorem dX8_wrapIn_92 : decode cX8_wrapIn 92 = .ok (.getfield 637, 3) := zdec_at bX8_wrapIn_68 14 rfl
theorem dX8_wrapIn_95 : decode cX8_wrapIn 95 = .ok (.iload_n 3, 1) := zdec_at bX8_wrapIn_68 15 rfl
theorem bX8_wrapIn_96 : zdec cX8_wrapIn 96 [(96, .iastore, 1), (97, .aload_n 0, 1), (98, .getfield 122, 3), (101, .aload_n 0, 1), (102, .getfield 637, 3), (105, .iload 4, 2), (107, .iastore, 1), (108, .aload_n 0, 1), (109, .getfield 125, 3), (112, .aload_n 0, 1), (113, .getfield 637, 3), (116, .aload_n 0, 1), (117, .getfield 634, 3), (120, .iastore, 1), (121, .aload_n 0, 1), (122, .aload_n 0, 1)] = true := by decide +kernel
theorem dX8_wrapIn_96 : decode cX8_wrapIn 96 = .ok (.iastore, 1) := zdec_at bX8_wrapIn_96 0 rfl
theorem dX8_wrapIn_97 : decode cX8_wrapIn 97 = .ok (.aload_n 0, 1) := zdec_at bX8_wrapIn_96 1 rfl
theorem dX8_wrapIn_98 : decode cX8_wrapIn 98 = .ok (.getfield 122, 3) := zdec_at bX8_wrapIn_96 2 rfl
theorem dX8_wrapIn_101 : decode cX8_wrapIn 101 = .ok (.aload_n 0, 1) := zdec_at bX8_wrapIn_96 3 rfl
theorem dX8_wrapIn_102 : decode cX8_wrapIn 102 = .ok (.getfield 637, 3) := zdec_at bX8_wrapIn_96 4 rfl
theorem dX8_wrapIn_105 : decode cX8_wrapIn 105 = .ok (.iload 4, 2) := zdec_at bX8_wrapIn_96 5 rfl
theorem dX8_wrapIn_107 : decode cX8_wrapIn 107 = .ok (.iastore, 1) := zdec_at bX8_wrapIn_96 6 rfl
theorem dX8_wrapIn_108 : decode cX8_wrapIn 108 = .ok (.aload_n 0, 1) := zdec_at bX8_wrapIn_96 7 rfl
theorem dX8_wrapIn_109 : decode cX8_wrapIn 109 = .ok (.getfield 125, 3) := zdec_at bX8_wrapIn_96 8 rfl
theorem dX8_wrapIn_112 : decode cX8_wrapIn 112 = .ok (.aload_n 0, 1) := zdec_at bX8_wrapIn_96 9 rfl
theorem dX8_wrapIn_113 : decode cX8_wrapIn 113 = .ok (.getfield 637, 3) := zdec_at bX8_wrapIn_96 10 rfl
theorem dX8_wrapIn_116 : decode cX8_wrapIn 116 = .ok (.aload_n 0, 1) := zdec_at bX8_wrapIn_96 11 rfl
theorem dX8_wrapIn_117 : decode cX8_wrapIn 117 = .ok (.getfield 634, 3) := zdec_at bX8_wrapIn_96 12 rfl
theorem dX8_wrapIn_120 : decode cX8_wrapIn 120 = .ok (.iastore, 1) := zdec_at bX8_wrapIn_96 13 rfl
theorem dX8_wrapIn_121 : decode cX8_wrapIn 121 = .ok (.aload_n 0, 1) := zdec_at bX8_wrapIn_96 14 rfl
theorem dX8_wrapIn_122 : decode cX8_wrapIn 122 = .ok (.aload_n 0, 1) := zdec_at bX8_wrapIn_96 15 rfl
theorem bX8_wrapIn_123 : zdec cX8_wrapIn 123 [(123, .getfield 637, 3), (126, .putfield 634, 3), (129, .aload_n 0, 1), (130, .dup, 1), (131, .getfield 637, 3), (134, .iconst 1, 1), (135, .iadd, 1), (136, .putfield 637, 3), (139, .return_, 1)] = true := by decide +kernel
theorem dX8_wrapIn_123 : decode cX8_wrapIn 123 = .ok (.getfield 637, 3) := zdec_at bX8_wrapIn_123 0 rfl
theorem dX8_wrapIn_126 : decode cX8_wrapIn 126 = .ok (.putfield 634, 3) := zdec_at bX8_wrapIn_123 1 rfl
theorem dX8_wrapIn_129 : decode cX8_wrapIn 129 = .ok (.aload_n 0, 1) := zdec_at bX8_wrapIn_123 2 rfl
theorem dX8_wrapIn_130 : decode cX8_wrapIn 130 = .ok (.dup, 1) := zdec_at bX8_wrapIn_123 3 rfl
theorem dX8_wrapIn_131 : decode cX8_wrapIn 131 = .ok (.getfield 637, 3) := zdec_at bX8_wrapIn_123 4 rfl
theorem dX8_wrapIn_134 : decode cX8_wrapIn 134 = .ok (.iconst 1, 1) := zdec_at bX8_wrapIn_123 5 rfl
theorem dX8_wrapIn_135 : decode cX8_wrapIn 135 = .ok (.iadd, 1) := zdec_at bX8_wrapIn_123 6 rfl
theorem dX8_wrapIn_136 : decode cX8_wrapIn 136 = .ok (.putfield 637, 3) := zdec_at bX8_wrapIn_123 7 rfl
theorem dX8_wrapIn_139 : decode cX8_wrapIn 139 = .ok (.return_, 1) := zdec_at bX8_wrapIn_123 8 rfl
theorem sX8_wrapIn_0 {E : zE} {d : Nat} {Q : zO → zM → Prop} (M : zM) (l1 : Int32) (l2 : Int32) (l3 : Int32) (l4 : Int32) (hw : tw M) (k : ∃ b1 m1 : Nat, (gr M 97 61) = some (b1, 100, m1) ∧ (if (gi M 97 59) = (Int32.ofNat m1) then (Z E YX8_longer d M (zargs 0 [vr (gr M 97 61)]) 0 [] (zafter E YX8_wrapIn (d + 1) [(0, vr (some (97, 1, 0))), (1, vi l1), (2, vi l2), (3, vi l3), (4, vi l4)] 17 3 [vr (some (97, 1, 0))] Q)) else (Z E YX8_wrapIn (d + 1) M [(0, vr (some (97, 1, 0))), (1, vi l1), (2, vi l2), (3, vi l3), (4, vi l4)] 67 [] Q))) : Z E YX8_wrapIn (d + 1) M [(0, vr (some (97, 1, 0))), (1, vi l1), (2, vi l2), (3, vi l3), (4, vi l4)] 0 [] Q := by
  refine z_aload_n dX8_wrapIn_0 rfl rfl ?_
  refine z_geti dX8_wrapIn_1 fsX8_637_1 ?_
  refine z_aload_n dX8_wrapIn_4 rfl rfl ?_
  refine z_getr (r := (gr M 97 61)) dX8_wrapIn_5 fsX8_113_1 rfl ?_
  obtain ⟨b1, m1, e1_, k⟩ := k
  refine Z.eqs (lv' := [(0, vr (some (97, 1, 0))), (1, vi l1), (2, vi l2), (3, vi l3), (4, vi l4)]) (st' := [vr (some (b1, 100, m1)), vi (gi M 97 59)]) rfl (by rw [e1_] <;> rfl) ?_
  refine z_alen (q := 0) (v := Int32.ofNat m1) dX8_wrapIn_8 rfl ?_
  refine z_icmp_ne (tgt := 67) dX8_wrapIn_9 rfl (fun h_ => ?_) (fun h_ => ?_)
  · have k := zif h_ k
    exact k
  · have k := zit h_ k
    refine z_aload_n dX8_wrapIn_12 rfl rfl ?_
    refine z_aload_n dX8_wrapIn_13 rfl rfl ?_
    refine z_getr (r := (gr M 97 61)) dX8_wrapIn_14 fsX8_113_1 rfl ?_
    exact z_callS (as := [vr (gr M 97 61)]) (st := [vr (some (97, 1, 0))]) dX8_wrapIn_17 ssX8_640 (Nat.le_refl _) (Nat.le_of_ble_eq_true rfl) (Nat.le_of_ble_eq_true rfl) rfl k
theorem sX8_wrapIn_20 {E : zE} {d : Nat} {Q : zO → zM → Prop} (M : zM) (l1 : Int32) (l2 : Int32) (l3 : Int32) (l4 : Int32) (u0 : Option zP) (hw : tw M) (k : Z E YX8_longer d (sr M 97 61 u0) (zargs 0 [vr (gr M 97 62)]) 0 [] (zafter E YX8_wrapIn (d + 1) [(0, vr (some (97, 1, 0))), (1, vi l1), (2, vi l2), (3, vi l3), (4, vi l4)] 28 3 [vr (some (97, 1, 0))] Q)) : Z E YX8_wrapIn (d + 1) M [(0, vr (some (97, 1, 0))), (1, vi l1), (2, vi l2), (3, vi l3), (4, vi l4)] 20 [vr u0, vr (some (97, 1, 0))] Q := by
  refine z_putr (by decide) dX8_wrapIn_20 (zfwN.w fwX8_113_1) rfl ?_
  refine z_aload_n dX8_wrapIn_23 rfl rfl ?_
  refine z_aload_n dX8_wrapIn_24 rfl rfl ?_
  refine z_getr (r := (gr M 97 62)) dX8_wrapIn_25 fsX8_116_1 rfl ?_
  exact z_callS (as := [vr (gr M 97 62)]) (st := [vr (some (97, 1, 0))]) dX8_wrapIn_28 ssX8_640 (Nat.le_refl _) (Nat.le_of_ble_eq_true rfl) (Nat.le_of_ble_eq_true rfl) rfl k
theorem sX8_wrapIn_31 {E : zE} {d : Nat} {Q : zO → zM → Prop} (M : zM) (l1 : Int32) (l2 : Int32) (l3 : Int32) (l4 : Int32) (u0 : Option zP) (hw : tw M) (k : Z E YX8_longer d (sr M 97 62 u0) (zargs 0 [vr (gr M 97 63)]) 0 [] (zafter E YX8_wrapIn (d + 1) [(0, vr (some (97, 1, 0))), (1, vi l1), (2, vi l2), (3, vi l3), (4, vi l4)] 39 3 [vr (some (97, 1, 0))] Q)) : Z E YX8_wrapIn (d + 1) M [(0, vr (some (97, 1, 0))), (1, vi l1), (2, vi l2), (3, vi l3), (4, vi l4)] 31 [vr u0, vr (some (97, 1, 0))] Q := by
  refine z_putr (by decide) dX8_wrapIn_31 (zfwN.w fwX8_116_1) rfl ?_
  refine z_aload_n dX8_wrapIn_34 rfl rfl ?_
  refine z_aload_n dX8_wrapIn_35 rfl rfl ?_
  refine z_getr (r := (gr M 97 63)) dX8_wrapIn_36 fsX8_119_1 rfl ?_
  exact z_callS (as := [vr (gr M 97 63)]) (st := [vr (some (97, 1, 0))]) dX8_wrapIn_39 ssX8_640 (Nat.le_refl _) (Nat.le_of_ble_eq_true rfl) (Nat.le_of_ble_eq_true rfl) rfl k
theorem sX8_wrapIn_42 {E : zE} {d : Nat} {Q : zO → zM → Prop} (M : zM) (l1 : Int32) (l2 : Int32) (l3 : Int32) (l4 : Int32) (u0 : Option zP) (hw : tw M) (k : Z E YX8_longer d (sr M 97 63 u0) (zargs 0 [vr (gr M 97 64)]) 0 [] (zafter E YX8_wrapIn (d + 1) [(0, vr (some (97, 1, 0))), (1, vi l1), (2, vi l2), (3, vi l3), (4, vi l4)] 50 3 [vr (some (97, 1, 0))] Q)) : Z E YX8_wrapIn (d + 1) M [(0, vr (some (97, 1, 0))), (1, vi l1), (2, vi l2), (3, vi l3), (4, vi l4)] 42 [vr u0, vr (some (97, 1, 0))] Q := by
  refine z_putr (by decide) dX8_wrapIn_42 (zfwN.w fwX8_119_1) rfl ?_
  refine z_aload_n dX8_wrapIn_45 rfl rfl ?_
  refine z_aload_n dX8_wrapIn_46 rfl rfl ?_
  refine z_getr (r := (gr M 97 64)) dX8_wrapIn_47 fsX8_122_1 rfl ?_
  exact z_callS (as := [vr (gr M 97 64)]) (st := [vr (some (97, 1, 0))]) dX8_wrapIn_50 ssX8_640 (Nat.le_refl _) (Nat.le_of_ble_eq_true rfl) (Nat.le_of_ble_eq_true rfl) rfl k
theorem sX8_wrapIn_53 {E : zE} {d : Nat} {Q : zO → zM → Prop} (M : zM) (l1 : Int32) (l2 : Int32) (l3 : Int32) (l4 : Int32) (u0 : Option zP) (hw : tw M) (k : Z E YX8_longer d (sr M 97 64 u0) (zargs 0 [vr (gr M 97 65)]) 0 [] (zafter E YX8_wrapIn (d + 1) [(0, vr (some (97, 1, 0))), (1, vi l1), (2, vi l2), (3, vi l3), (4, vi l4)] 61 3 [vr (some (97, 1, 0))] Q)) : Z E YX8_wrapIn (d + 1) M [(0, vr (some (97, 1, 0))), (1, vi l1), (2, vi l2), (3, vi l3), (4, vi l4)] 53 [vr u0, vr (some (97, 1, 0))] Q := by
  refine z_putr (by decide) dX8_wrapIn_53 (zfwN.w fwX8_122_1) rfl ?_
  refine z_aload_n dX8_wrapIn_56 rfl rfl ?_
  refine z_aload_n dX8_wrapIn_57 rfl rfl ?_
  refine z_getr (r := (gr M 97 65)) dX8_wrapIn_58 fsX8_125_1 rfl ?_
  exact z_callS (as := [vr (gr M 97 65)]) (st := [vr (some (97, 1, 0))]) dX8_wrapIn_61 ssX8_640 (Nat.le_refl _) (Nat.le_of_ble_eq_true rfl) (Nat.le_of_ble_eq_true rfl) rfl k
theorem sX8_wrapIn_64 {E : zE} {d : Nat} {Q : zO → zM → Prop} (M : zM) (l1 : Int32) (l2 : Int32) (l3 : Int32) (l4 : Int32) (u0 : Option zP) (hw : tw M) (k : Z E YX8_wrapIn (d + 1) (sr M 97 65 u0) [(0, vr (some (97, 1, 0))), (1, vi l1), (2, vi l2), (3, vi l3), (4, vi l4)] 67 [] Q) : Z E YX8_wrapIn (d + 1) M [(0, vr (some (97, 1, 0))), (1, vi l1), (2, vi l2), (3, vi l3), (4, vi l4)] 64 [vr u0, vr (some (97, 1, 0))] Q := by
  refine z_putr (by decide) dX8_wrapIn_64 (zfwN.w fwX8_125_1) rfl ?_
  exact k
theorem sX8_wrapIn_67 {E : zE} {d : Nat} {Q : zO → zM → Prop} (M : zM) (l1 : Int32) (l2 : Int32) (l3 : Int32) (l4 : Int32) (hw : tw M) (k : ∃ b1 m1 : Nat, (gr M 97 61) = some (b1, 100, m1) ∧ (16 ≤ b1 ∧ (vp_in (gi M 97 59) m1 ∧ (∃ b2 m2 : Nat, (gr M 97 62) = some (b2, 100, m2) ∧ (16 ≤ b2 ∧ (vp_in (gi (si M b1 ((gi M 97 59)).toNatClampNeg l1) 97 59) m2 ∧ (∃ b3 m3 : Nat, (gr M 97 63) = some (b3, 100, m3) ∧ (16 ≤ b3 ∧ (vp_in (gi (si (si M b1 ((gi M 97 59)).toNatClampNeg l1) b2 ((gi (si M b1 ((gi M 97 59)).toNatClampNeg l1) 97 59)).toNatClampNeg l2) 97 59) m3 ∧ (∃ b4 m4 : Nat, (gr M 97 64) = some (b4, 100, m4) ∧ (16 ≤ b4 ∧ (vp_in (gi (si (si (si M b1 ((gi M 97 59)).toNatClampNeg l1) b2 ((gi (si M b1 ((gi M 97 59)).toNatClampNeg l1) 97 59)).toNatClampNeg l2) b3 ((gi (si (si M b1 ((gi M 97 59)).toNatClampNeg l1) b2 ((gi (si M b1 ((gi M 97 59)).toNatClampNeg l1) 97 59)).toNatClampNeg l2) 97 59)).toNatClampNeg l3) 97 59) m4 ∧ (∃ b5 m5 : Nat, (gr M 97 65) = some (b5, 100, m5) ∧ (16 ≤ b5 ∧ (vp_in (gi (si (si (si (si M b1 ((gi M 97 59)).toNatClampNeg l1) b2 ((gi (si M b1 ((gi M 97 59)).toNatClampNeg l1) 97 59)).toNatClampNeg l2) b3 ((gi (si (si M b1 ((gi M 97 59)).toNatClampNeg l1) b2 ((gi (si M b1 ((gi M 97 59)).toNatClampNeg l1) 97 59)).toNatClampNeg l2) 97 59)).toNatClampNeg l3) b4 ((gi (si (si (si M b1 ((gi M 97 59)).toNatClampNeg l1) b2 ((gi (si M b1 ((gi M 97 59)).toNatClampNeg l1) 97 59)).toNatClampNeg l2) b3 ((gi (si (si M b1 ((gi M 97 59)).toNatClampNeg l1) b2 ((gi (si M b1 ((gi M 97 59)).toNatClampNeg l1) 97 59)).toNatClampNeg l2) 97 59)).toNatClampNeg l3) 97 59)).toNatClampNeg l4) 97 59) m5 ∧ (Q (.inl none) (si (si (si (si (si (si (si M b1 ((gi M 97 59)).toNatClampNeg l1) b2 ((gi (si M b1 ((gi M 97 59)).toNatClampNeg l1) 97 59)).toNatClampNeg l2) b3 ((gi (si (si M b1 ((gi M 97 59)).toNatClampNeg l1) b2 ((gi (si M b1 ((gi M 97 59)).toNatClampNeg l1) 97 59)).toNatClampNeg l2) 97 59)).toNatClampNeg l3) b4 ((gi (si (si (si M b1 ((gi M 97 59)).toNatClampNeg l1) b2 ((gi (si M b1 ((gi M 97 59)).toNatClampNeg l1) 97 59)).toNatClampNeg l2) b3 ((gi (si (si M b1 ((gi M 97 59)).toNatClampNeg l1) b2 ((gi (si M b1 ((gi M 97 59)).toNatClampNeg l1) 97 59)).toNatClampNeg l2) 97 59)).toNatClampNeg l3) 97 59)).toNatClampNeg l4) b5 ((gi (si (si (si (si M b1 ((gi M 97 59)).toNatClampNeg l1) b2 ((gi (si M b1 ((gi M 97 59)).toNatClampNeg l1) 97 59)).toNatClampNeg l2) b3 ((gi (si (si M b1 ((gi M 97 59)).toNatClampNeg l1) b2 ((gi (si M b1 ((gi M 97 59)).toNatClampNeg l1) 97 59)).toNatClampNeg l2) 97 59)).toNatClampNeg l3) b4 ((gi (si (si (si M b1 ((gi M 97 59)).toNatClampNeg l1) b2 ((gi (si M b1 ((gi M 97 59)).toNatClampNeg l1) 97 59)).toNatClampNeg l2) b3 ((gi (si (si M b1 ((gi M 97 59)).toNatClampNeg l1) b2 ((gi (si M b1 ((gi M 97 59)).toNatClampNeg l1) 97 59)).toNatClampNeg l2) 97 59)).toNatClampNeg l3) 97 59)).toNatClampNeg l4) 97 59)).toNatClampNeg (gi (si (si (si (si M b1 ((gi M 97 59)).toNatClampNeg l1) b2 ((gi (si M b1 ((gi M 97 59)).toNatClampNeg l1) 97 59)).toNatClampNeg l2) b3 ((gi (si (si M b1 ((gi M 97 59)).toNatClampNeg l1) b2 ((gi (si M b1 ((gi M 97 59)).toNatClampNeg l1) 97 59)).toNatClampNeg l2) 97 59)).toNatClampNeg l3) b4 ((gi (si (si (si M b1 ((gi M 97 59)).toNatClampNeg l1) b2 ((gi (si M b1 ((gi M 97 59)).toNatClampNeg l1) 97 59)).toNatClampNeg l2) b3 ((gi (si (si M b1 ((gi M 97 59)).toNatClampNeg l1) b2 ((gi (si M b1 ((gi M 97 59)).toNatClampNeg l1) 97 59)).toNatClampNeg l2) 97 59)).toNatClampNeg l3) 97 59)).toNatClampNeg l4) 97 60)) 97 60 (gi (si (si (si (si (si M b1 ((gi M 97 59)).toNatClampNeg l1) b2 ((gi (si M b1 ((gi M 97 59)).toNatClampNeg l1) 97 59)).toNatClampNeg l2) b3 ((gi (si (si M b1 ((gi M 97 59)).toNatClampNeg l1) b2 ((gi (si M b1 ((gi M 97 59)).toNatClampNeg l1) 97 59)).toNatClampNeg l2) 97 59)).toNatClampNeg l3) b4 ((gi (si (si (si M b1 ((gi M 97 59)).toNatClampNeg l1) b2 ((gi (si M b1 ((gi M 97 59)).toNatClampNeg l1) 97 59)).toNatClampNeg l2) b3 ((gi (si (si M b1 ((gi M 97 59)).toNatClampNeg l1) b2 ((gi (si M b1 ((gi M 97 59)).toNatClampNeg l1) 97 59)).toNatClampNeg l2) 97 59)).toNatClampNeg l3) 97 59)).toNatClampNeg l4) b5 ((gi (si (si (si (si M b1 ((gi M 97 59)).toNatClampNeg l1) b2 ((gi (si M b1 ((gi M 97 59)).toNatClampNeg l1) 97 59)).toNatClampNeg l2) b3 ((gi (si (si M b1 ((gi M 97 59)).toNatClampNeg l1) b2 ((gi (si M b1 ((gi M 97 59)).toNatClampNeg l1) 97 59)).toNatClampNeg l2) 97 59)).toNatClampNeg l3) b4 ((gi (si (si (si M b1 ((gi M 97 59)).toNatClampNeg l1) b2 ((gi (si M b1 ((gi M 97 59)).toNatClampNeg l1) 97 59)).toNatClampNeg l2) b3 ((gi (si (si M b1 ((gi M 97 59)).toNatClampNeg l1) b2 ((gi (si M b1 ((gi M 97 59)).toNatClampNeg l1) 97 59)).toNatClampNeg l2) 97 59)).toNatClampNeg l3) 97 59)).toNatClampNeg l4) 97 59)).toNatClampNeg (gi (si (si (si (si M b1 ((gi M 97 59)).toNatClampNeg l1) b2 ((gi (si M b1 ((gi M 97 59)).toNatClampNeg l1) 97 59)).toNatClampNeg l2) b3 ((gi (si (si M b1 ((gi M 97 59)).toNatClampNeg l1) b2 ((gi (si M b1 ((gi M 97 59)).toNatClampNeg l1) 97 59)).toNatClampNeg l2) 97 59)).toNatClampNeg l3) b4 ((gi (si (si (si M b1 ((gi M 97 59)).toNatClampNeg l1) b2 ((gi (si M b1 ((gi M 97 59)).toNatClampNeg l1) 97 59)).toNatClampNeg l2) b3 ((gi (si (si M b1 ((gi M 97 59)).toNatClampNeg l1) b2 ((gi (si M b1 ((gi M 97 59)).toNatClampNeg l1) 97 59)).toNatClampNeg l2) 97 59)).toNatClampNeg l3) 97 59)).toNatClampNeg l4) 97 60)) 97 59)) 97 59 ((gi (si (si (si (si (si M b1 ((gi M 97 59)).toNatClampNeg l1) b2 ((gi (si M b1 ((gi M 97 59)).toNatClampNeg l1) 97 59)).toNatClampNeg l2) b3 ((gi (si (si M b1 ((gi M 97 59)).toNatClampNeg l1) b2 ((gi (si M b1 ((gi M 97 59)).toNatClampNeg l1) 97 59)).toNatClampNeg l2) 97 59)).toNatClampNeg l3) b4 ((gi (si (si (si M b1 ((gi M 97 59)).toNatClampNeg l1) b2 ((gi (si M b1 ((gi M 97 59)).toNatClampNeg l1) 97 59)).toNatClampNeg l2) b3 ((gi (si (si M b1 ((gi M 97 59)).toNatClampNeg l1) b2 ((gi (si M b1 ((gi M 97 59)).toNatClampNeg l1) 97 59)).toNatClampNeg l2) 97 59)).toNatClampNeg l3) 97 59)).toNatClampNeg l4) b5 ((gi (si (si (si (si M b1 ((gi M 97 59)).toNatClampNeg l1) b2 ((gi (si M b1 ((gi M 97 59)).toNatClampNeg l1) 97 59)).toNatClampNeg l2) b3 ((gi (si (si M b1 ((gi M 97 59)).toNatClampNeg l1) b2 ((gi (si M b1 ((gi M 97 59)).toNatClampNeg l1) 97 59)).toNatClampNeg l2) 97 59)).toNatClampNeg l3) b4 ((gi (si (si (si M b1 ((gi M 97 59)).toNatClampNeg l1) b2 ((gi (si M b1 ((gi M 97 59)).toNatClampNeg l1) 97 59)).toNatClampNeg l2) b3 ((gi (si (si M b1 ((gi M 97 59)).toNatClampNeg l1) b2 ((gi (si M b1 ((gi M 97 59)).toNatClampNeg l1) 97 59)).toNatClampNeg l2) 97 59)).toNatClampNeg l3) 97 59)).toNatClampNeg l4) 97 59)).toNatClampNeg (gi (si (si (si (si M b1 ((gi M 97 59)).toNatClampNeg l1) b2 ((gi (si M b1 ((gi M 97 59)).toNatClampNeg l1) 97 59)).toNatClampNeg l2) b3 ((gi (si (si M b1 ((gi M 97 59)).toNatClampNeg l1) b2 ((gi (si M b1 ((gi M 97 59)).toNatClampNeg l1) 97 59)).toNatClampNeg l2) 97 59)).toNatClampNeg l3) b4 ((gi (si (si (si M b1 ((gi M 97 59)).toNatClampNeg l1) b2 ((gi (si M b1 ((gi M 97 59)).toNatClampNeg l1) 97 59)).toNatClampNeg l2) b3 ((gi (si (si M b1 ((gi M 97 59)).toNatClampNeg l1) b2 ((gi (si M b1 ((gi M 97 59)).toNatClampNeg l1) 97 59)).toNatClampNeg l2) 97 59)).toNatClampNeg l3) 97 59)).toNatClampNeg l4) 97 60)) 97 59) + (1 : Int32))))))))))))))))))) : Z E YX8_wrapIn (d + 1) M [(0, vr (some (97, 1, 0))), (1, vi l1), (2, vi l2), (3, vi l3), (4, vi l4)] 67 [] Q := by
  refine z_aload_n dX8_wrapIn_67 rfl rfl ?_
  refine z_getr (r := (gr M 97 61)) dX8_wrapIn_68 fsX8_113_1 rfl ?_
  refine z_aload_n dX8_wrapIn_71 rfl rfl ?_
  refine z_geti dX8_wrapIn_72 fsX8_637_1 ?_
  refine z_iload_n dX8_wrapIn_75 rfl rfl ?_
  obtain ⟨b1, m1, e1_, k⟩ := k
  refine Z.eqs (lv' := [(0, vr (some (97, 1, 0))), (1, vi l1), (2, vi l2), (3, vi l3), (4, vi l4)]) (st' := [vi l1, vi (gi M 97 59), vr (some (b1, 100, m1))]) rfl (by rw [e1_] <;> rfl) ?_
  obtain ⟨g_, k⟩ := k
  obtain ⟨b_, k⟩ := k
  refine z_iast g_ dX8_wrapIn_76 b_ ?_
  refine z_aload_n dX8_wrapIn_77 rfl rfl ?_
  refine z_getr (r := (gr M 97 62)) dX8_wrapIn_78 fsX8_116_1 rfl ?_
  refine z_aload_n dX8_wrapIn_81 rfl rfl ?_
  refine z_geti dX8_wrapIn_82 fsX8_637_1 ?_
  refine z_iload_n dX8_wrapIn_85 rfl rfl ?_
  obtain ⟨b2, m2, e2_, k⟩ := k
  refine Z.eqs (lv' := [(0, vr (some (97, 1, 0))), (1, vi l1), (2, vi l2), (3, vi l3), (4, vi l4)]) (st' := [vi l2, vi (gi (si M b1 ((gi M 97 59)).toNatClampNeg l1) 97 59), vr (some (b2, 100, m2))]) rfl (by rw [e2_] <;> rfl) ?_
  obtain ⟨g_, k⟩ := k
  obtain ⟨b_, k⟩ := k
  refine z_iast g_ dX8_wrapIn_86 b_ ?_
  refine z_aload_n dX8_wrapIn_87 rfl rfl ?_
  refine z_getr (r := (gr M 97 63)) dX8_wrapIn_88 fsX8_119_1 rfl ?_
  refine z_aload_n dX8_wrapIn_91 rfl rfl ?_
  refine z_geti dX8_wrapIn_92 fsX8_637_1 ?_
  refine z_iload_n dX8_wrapIn_95 rfl rfl ?_
  obtain ⟨b3, m3, e3_, k⟩ := k
  refine Z.eqs (lv' := [(0, vr (some (97, 1, 0))), (1, vi l1), (2, vi l2), (3, vi l3), (4, vi l4)]) (st' := [vi l3, vi (gi (si (si M b1 ((gi M 97 59)).toNatClampNeg l1) b2 ((gi (si M b1 ((gi M 97 59)).toNatClampNeg l1) 97 59)).toNatClampNeg l2) 97 59), vr (some (b3, 100, m3))]) rfl (by rw [e3_] <;> rfl) ?_
  obtain ⟨g_, k⟩ := k
  obtain ⟨b_, k⟩ := k
  refine z_iast g_ dX8_wrapIn_96 b_ ?_
  refine z_aload_n dX8_wrapIn_97 rfl rfl ?_
  refine z_getr (r := (gr M 97 64)) dX8_wrapIn_98 fsX8_122_1 rfl ?_
  refine z_aload_n dX8_wrapIn_101 rfl rfl ?_
  refine z_geti dX8_wrapIn_102 fsX8_637_1 ?_
  refine z_iload dX8_wrapIn_105 rfl ?_
  obtain ⟨b4, m4, e4_, k⟩ := k
  refine Z.eqs (lv' := [(0, vr (some (97, 1, 0))), (1, vi l1), (2, vi l2), (3, vi l3), (4, vi l4)]) (st' := [vi l4, vi (gi (si (si (si M b1 ((gi M 97 59)).toNatClampNeg l1) b2 ((gi (si M b1 ((gi M 97 59)).toNatClampNeg l1) 97 59)).toNatClampNeg l2) b3 ((gi (si (si M b1 ((gi M 97 59)).toNatClampNeg l1) b2 ((gi (si M b1 ((gi M 97 59)).toNatClampNeg l1) 97 59)).toNatClampNeg l2) 97 59)).toNatClampNeg l3) 97 59), vr (some (b4, 100, m4))]) rfl (by rw [e4_] <;> rfl) ?_
  obtain ⟨g_, k⟩ := k
  obtain ⟨b_, k⟩ := k
  refine z_iast g_ dX8_wrapIn_107 b_ ?_
  refine z_aload_n dX8_wrapIn_108 rfl rfl ?_
  refine z_getr (r := (gr M 97 65)) dX8_wrapIn_109 fsX8_125_1 rfl ?_
  refine z_aload_n dX8_wrapIn_112 rfl rfl ?_
  refine z_geti dX8_wrapIn_113 fsX8_637_1 ?_
  refine z_aload_n dX8_wrapIn_116 rfl rfl ?_
  refine z_geti dX8_wrapIn_117 fsX8_634_1 ?_
  obtain ⟨b5, m5, e5_, k⟩ := k
  refine Z.eqs (lv' := [(0, vr (some (97, 1, 0))), (1, vi l1), (2, vi l2), (3, vi l3), (4, vi l4)]) (st' := [vi (gi (si (si (si (si M b1 ((gi M 97 59)).toNatClampNeg l1) b2 ((gi (si M b1 ((gi M 97 59)).toNatClampNeg l1) 97 59)).toNatClampNeg l2) b3 ((gi (si (si M b1 ((gi M 97 59)).toNatClampNeg l1) b2 ((gi (si M b1 ((gi M 97 59)).toNatClampNeg l1) 97 59)).toNatClampNeg l2) 97 59)).toNatClampNeg l3) b4 ((gi (si (si (si M b1 ((gi M 97 59)).toNatClampNeg l1) b2 ((gi (si M b1 ((gi M 97 59)).toNatClampNeg l1) 97 59)).toNatClampNeg l2) b3 ((gi (si (si M b1 ((gi M 97 59)).toNatClampNeg l1) b2 ((gi (si M b1 ((gi M 97 59)).toNatClampNeg l1) 97 59)).toNatClampNeg l2) 97 59)).toNatClampNeg l3) 97 59)).toNatClampNeg l4) 97 60), vi (gi (si (si (si (si M b1 ((gi M 97 59)).toNatClampNeg l1) b2 ((gi (si M b1 ((gi M 97 59)).toNatClampNeg l1) 97 59)).toNatClampNeg l2) b3 ((gi (si (si M b1 ((gi M 97 59)).toNatClampNeg l1) b2 ((gi (si M b1 ((gi M 97 59)).toNatClampNeg l1) 97 59)).toNatClampNeg l2) 97 59)).toNatClampNeg l3) b4 ((gi (si (si (si M b1 ((gi M 97 59)).toNatClampNeg l1) b2 ((gi (si M b1 ((gi M 97 59)).toNatClampNeg l1) 97 59)).toNatClampNeg l2) b3 ((gi (si (si M b1 ((gi M 97 59)).toNatClampNeg l1) b2 ((gi (si M b1 ((gi M 97 59)).toNatClampNeg l1) 97 59)).toNatClampNeg l2) 97 59)).toNatClampNeg l3) 97 59)).toNatClampNeg l4) 97 59), vr (some (b5, 100, m5))]) rfl (by rw [e5_] <;> rfl) ?_
  obtain ⟨g_, k⟩ := k
  obtain ⟨b_, k⟩ := k
  refine z_iast g_ dX8_wrapIn_120 b_ ?_
  refine z_aload_n dX8_wrapIn_121 rfl rfl ?_
  refine z_aload_n dX8_wrapIn_122 rfl rfl ?_
  refine z_geti dX8_wrapIn_123 fsX8_637_1 ?_
  refine z_puti (by decide) dX8_wrapIn_126 (zfwN.w fwX8_634_1) rfl ⟨rfl, rfl⟩ ?_
  refine z_aload_n dX8_wrapIn_129 rfl rfl ?_
  refine z_dup dX8_wrapIn_130 rfl ?_
  refine z_geti dX8_wrapIn_131 fsX8_637_1 ?_
  refine z_iconst (v := 1) dX8_wrapIn_134 rfl ?_
  refine z_iadd dX8_wrapIn_135 ?_
  refine z_puti (by decide) dX8_wrapIn_136 (zfwN.w fwX8_637_1) rfl ⟨rfl, rfl⟩ ?_
  exact z_vret dX8_wrapIn_139 rfl k
/-! ScriptTypesModel.longer([I)[I -/
theorem bX8_longer_0 : zdec cX8_longer 0 [(0, .iconst 2, 1), (1, .aload_n 0, 1), (2, .arraylength, 1), (3, .imul, 1), (4, .newarray .int, 2), (6, .astore_n 1, 1), (7, .aload_n 0, 1), (8, .iconst 0, 1), (9, .aload_n 1, 1), (10, .iconst 0, 1), (11, .aload_n 0, 1), (12, .arraylength, 1), (13, .invokestatic 628, 3), (16, .aload_n 1, 1), (17, .areturn, 1)] = true := by decide +kernel
theorem dX8_longer_0 : decode cX8_longer 0 = .ok (.iconst 2, 1) := zdec_at bX8_longer_0 0 rfl
theorem dX8_longer_1 : decode cX8_longer 1 = .ok (.aload_n 0, 1) := zdec_at bX8_longer_0 1 rfl
theorem dX8_longer_2 : decode cX8_longer 2 = .ok (.arraylength, 1) := zdec_at bX8_longer_0 2 rfl
theorem dX8_longer_3 : decode cX8_longer 3 = .ok (.imul, 1) := zdec_at bX8_longer_0 3 rfl
theorem dX8_longer_4 : decode cX8_longer 4 = .ok (.newarray .int, 2) := zdec_at bX8_longer_0 4 rfl
theorem dX8_longer_6 : decode cX8_longer 6 = .ok (.astore_n 1, 1) := zdec_at bX8_longer_0 5 rfl
theorem dX8_longer_7 : decode cX8_longer 7 = .ok (.aload_n 0, 1) := zdec_at bX8_longer_0 6 rfl
theorem dX8_longer_8 : decode cX8_longer 8 = .ok (.iconst 0, 1) := zdec_at bX8_longer_0 7 rfl
theorem dX8_longer_9 : decode cX8_longer 9 = .ok (.aload_n 1, 1) := zdec_at bX8_longer_0 8 rfl
theorem dX8_longer_10 : decode cX8_longer 10 = .ok (.iconst 0, 1) := zdec_at bX8_longer_0 9 rfl
theorem dX8_longer_11 : decode cX8_longer 11 = .ok (.aload_n 0, 1) := zdec_at bX8_longer_0 10 rfl
theorem dX8_longer_12 : decode cX8_longer 12 = .ok (.arraylength, 1) := zdec_at bX8_longer_0 11 rfl
theorem dX8_longer_13 : decode cX8_longer 13 = .ok (.invokestatic 628, 3) := zdec_at bX8_longer_0 12 rfl
theorem dX8_longer_16 : decode cX8_longer 16 = .ok (.aload_n 1, 1) := zdec_at bX8_longer_0 13 rfl
theorem dX8_longer_17 : decode cX8_longer 17 = .ok (.areturn, 1) := zdec_at bX8_longer_0 14 rfl
theorem sX8_longer_0 {E : zE} {d : Nat} {Q : zO → zM → Prop} (M : zM) (r0 : Option zP) (hw : tw M) (k : ∃ b1 m1 : Nat, r0 = some (b1, 100, m1) ∧ ((¬ ((2 : Int32) * (Int32.ofNat m1)) < 0 ∧ (((2 : Int32) * (Int32.ofNat m1))).toNatClampNeg * 8 ≤ 536870912) ∧ (Z E YX8_longer d (zn M (((2 : Int32) * (Int32.ofNat m1))).toNatClampNeg) [(0, vr (some (b1, 100, m1)))] 6 [vr (some ((zsz M), 100, (((2 : Int32) * (Int32.ofNat m1))).toNatClampNeg))] Q))) : Z E YX8_longer d M [(0, vr r0)] 0 [] Q := by
  refine z_iconst (v := 2) dX8_longer_0 rfl ?_
  refine z_aload_n dX8_longer_1 rfl rfl ?_
  obtain ⟨b1, m1, e1_, k⟩ := k
  refine Z.eqs (lv' := [(0, vr (some (b1, 100, m1)))]) (st' := [vr (some (b1, 100, m1)), vi (2 : Int32)]) (by rw [e1_] <;> rfl) (by rw [e1_] <;> rfl) ?_
  refine z_alen (q := 0) (v := Int32.ofNat m1) dX8_longer_2 rfl ?_
  refine z_imul dX8_longer_3 ?_
  obtain ⟨b_, k⟩ := k
  refine z_newa (q := 0) (N := (((2 : Int32) * (Int32.ofNat m1))).toNatClampNeg) dX8_longer_4 rfl (by decide) q535 b_.1 rfl b_.2 ?_
  exact k
theorem sX8_longer_6 {E : zE} {d : Nat} {Q : zO → zM → Prop} (M : zM) (a0 : Nat) (na0 : Nat) (p0 : Nat) (np0 : Nat) (hw : tw M) (k : 16 ≤ p0 ∧ ((1 ≤ d) ∧ (((¬ (0 : Int32) < 0 ∧ ¬ (0 : Int32) < 0 ∧ ¬ (Int32.ofNat na0) < 0) ∧ ((0 : Int32)).toNatClampNeg + ((Int32.ofNat na0)).toNatClampNeg ≤ na0 ∧ ((0 : Int32)).toNatClampNeg + ((Int32.ofNat na0)).toNatClampNeg ≤ np0) ∧ (Z E YX8_longer d (cpi M a0 ((0 : Int32)).toNatClampNeg p0 ((0 : Int32)).toNatClampNeg ((Int32.ofNat na0)).toNatClampNeg) [(1, vr (some (p0, 100, np0)))] 16 [] Q)))) : Z E YX8_longer d M [(0, vr (some (a0, 100, na0)))] 6 [vr (some (p0, 100, np0))] Q := by
  refine z_ast_n dX8_longer_6 rfl (by decide) (lv' := [(0, vr (some (a0, 100, na0))), (1, vr (some (p0, 100, np0)))]) rfl ?_
  refine z_aload_n dX8_longer_7 rfl rfl ?_
  refine z_iconst (v := 0) dX8_longer_8 rfl ?_
  refine z_aload_n dX8_longer_9 rfl rfl ?_
  refine z_iconst (v := 0) dX8_longer_10 rfl ?_
  refine z_aload_n dX8_longer_11 rfl rfl ?_
  refine z_alen (q := 0) (v := Int32.ofNat na0) dX8_longer_12 rfl ?_
  obtain ⟨g_, k⟩ := k
  obtain ⟨d_, k⟩ := k
  obtain ⟨b_, k⟩ := k
  refine z_copyi g_ dX8_longer_13 q4410 d_ (Nat.le_of_ble_eq_true rfl) b_.1.1 b_.1.2.1 b_.1.2.2 b_.2.1 b_.2.2 ?_
  refine Z.pick [1] rfl ?_
  exact k
theorem sX8_longer_16 {E : zE} {d : Nat} {Q : zO → zM → Prop} (M : zM) (a1 : Nat) (na1 : Nat) (hw : tw M) (k : Q (.inl (some (vr (some (a1, 100, na1))))) M) : Z E YX8_longer d M [(1, vr (some (a1, 100, na1)))] 16 [] Q := by
  refine z_aload_n dX8_longer_16 rfl rfl ?_
  exact z_aret dX8_longer_17 rfl rfl k
/-! ScriptTypesModel.codeGo(Z)V -/
theorem bX8_codeGo_0 : zdec cX8_codeGo 0 [(0, .aload_n 0, 1), (1, .getfield 634, 3), (4, .istore_n 2, 1), (5, .aload_n 0, 1), (6, .getfield 113, 3), (9, .iload_n 2, 1), (10, .iaload, 1), (11, .iconst 3, 1), (12, .if_icmp .eq 69, 3), (15, .aload_n 0, 1), (16, .getfield 113, 3), (19, .iload_n 2, 1), (20, .iaload, 1), (21, .iconst 4, 1), (22, .if_icmp .eq 59, 3), (25, .iload_n 1, 1)] = true := by decide +kernel
theorem dX8_codeGo_0 : decode cX8_codeGo 0 = .ok (.aload_n 0, 1) := zdec_at bX8_codeGo_0 0 rfl
theorem dX8_codeGo_1 : decode cX8_codeGo 1 = .ok (.getfield 634, 3) := zdec_at bX8_codeGo_0 1 rfl
theorem dX8_codeGo_4 : decode cX8_codeGo 4 = .ok (.istore_n 2, 1) := zdec_at bX8_codeGo_0 2 rfl
theorem dX8_codeGo_5 : decode cX8_codeGo 5 = .ok (.aload_n 0, 1) := zdec_at bX8_codeGo_0 3 rfl
theorem dX8_codeGo_6 : decode cX8_codeGo 6 = .ok (.getfield 113, 3) := zdec_at bX8_codeGo_0 4 rfl
theorem dX8_codeGo_9 : decode cX8_codeGo 9 = .ok (.iload_n 2, 1) := zdec_at bX8_codeGo_0 5 rfl
theorem dX8_codeGo_10 : decode cX8_codeGo 10 = .ok (.iaload, 1) := zdec_at bX8_codeGo_0 6 rfl
theorem dX8_codeGo_11 : decode cX8_codeGo 11 = .ok (.iconst 3, 1) := zdec_at bX8_codeGo_0 7 rfl
theorem dX8_codeGo_12 : decode cX8_codeGo 12 = .ok (.if_icmp .eq 69, 3) := zdec_at bX8_codeGo_0 8 rfl
theorem dX8_codeGo_15 : decode cX8_codeGo 15 = .ok (.aload_n 0, 1) := zdec_at bX8_codeGo_0 9 rfl
theorem dX8_codeGo_16 : decode cX8_codeGo 16 = .ok (.getfield 113, 3) := zdec_at bX8_codeGo_0 10 rfl
theorem dX8_codeGo_19 : decode cX8_codeGo 19 = .ok (.iload_n 2, 1) := zdec_at bX8_codeGo_0 11 rfl
theorem dX8_codeGo_20 : decode cX8_codeGo 20 = .ok (.iaload, 1) := zdec_at bX8_codeGo_0 12 rfl
theorem dX8_codeGo_21 : decode cX8_codeGo 21 = .ok (.iconst 4, 1) := zdec_at bX8_codeGo_0 13 rfl
theorem dX8_codeGo_22 : decode cX8_codeGo 22 = .ok (.if_icmp .eq 59, 3) := zdec_at bX8_codeGo_0 14 rfl
theorem dX8_codeGo_25 : decode cX8_codeGo 25 = .ok (.iload_n 1, 1) := zdec_at bX8_codeGo_0 15 rfl
theorem bX8_codeGo_26 : zdec cX8_codeGo 26 [(26, .ifCond .eq 13, 3), (29, .aload_n 0, 1), (30, .getfield 113, 3), (33, .iload_n 2, 1), (34, .iaload, 1), (35, .iconst 5, 1), (36, .if_icmp .eq 45, 3), (39, .aload_n 0, 1), (40, .getfield 113, 3), (43, .iload_n 2, 1), (44, .iaload, 1), (45, .iconst 1, 1), (46, .if_icmp .gt 9, 3), (49, .aload_n 0, 1), (50, .iload_n 2, 1), (51, .iconst 0, 1)] = true := by decide +kernel
theorem dX8_codeGo_26 : decode cX8_codeGo 26 = .ok (.ifCond .eq 13, 3) := zdec_at bX8_codeGo_26 0 rfl
theorem dX8_codeGo_29 : decode cX8_codeGo 29 = .ok (.aload_n 0, 1) := zdec_at bX8_codeGo_26 1 rfl
theorem dX8_codeGo_30 : decode cX8_codeGo 30 = .ok (.getfield 113, 3) := zdec_at bX8_codeGo_26 2 rfl
theorem dX8_codeGo_33 : decode cX8_codeGo 33 = .ok (.iload_n 2, 1) := zdec_at bX8_codeGo_26 3 rfl
theorem dX8_codeGo_34 : decode cX8_codeGo 34 = .ok (.iaload, 1) := zdec_at bX8_codeGo_26 4 rfl
theorem dX8_codeGo_35 : decode cX8_codeGo 35 = .ok (.iconst 5, 1) := zdec_at bX8_codeGo_26 5 rfl
theorem dX8_codeGo_36 : decode cX8_codeGo 36 = .ok (.if_icmp .eq 45, 3) := zdec_at bX8_codeGo_26 6 rfl
theorem dX8_codeGo_39 : decode cX8_codeGo 39 = .ok (.aload_n 0, 1) := zdec_at bX8_codeGo_26 7 rfl
theorem dX8_codeGo_40 : decode cX8_codeGo 40 = .ok (.getfield 113, 3) := zdec_at bX8_codeGo_26 8 rfl
theorem dX8_codeGo_43 : decode cX8_codeGo 43 = .ok (.iload_n 2, 1) := zdec_at bX8_codeGo_26 9 rfl
theorem dX8_codeGo_44 : decode cX8_codeGo 44 = .ok (.iaload, 1) := zdec_at bX8_codeGo_26 10 rfl
theorem dX8_codeGo_45 : decode cX8_codeGo 45 = .ok (.iconst 1, 1) := zdec_at bX8_codeGo_26 11 rfl
theorem dX8_codeGo_46 : decode cX8_codeGo 46 = .ok (.if_icmp .gt 9, 3) := zdec_at bX8_codeGo_26 12 rfl
theorem dX8_codeGo_49 : decode cX8_codeGo 49 = .ok (.aload_n 0, 1) := zdec_at bX8_codeGo_26 13 rfl
theorem dX8_codeGo_50 : decode cX8_codeGo 50 = .ok (.iload_n 2, 1) := zdec_at bX8_codeGo_26 14 rfl
theorem dX8_codeGo_51 : decode cX8_codeGo 51 = .ok (.iconst 0, 1) := zdec_at bX8_codeGo_26 15 rfl
theorem bX8_codeGo_52 : zdec cX8_codeGo 52 [(52, .invokevirtual 744, 3), (55, .aload_n 0, 1), (56, .getfield 113, 3), (59, .iload_n 2, 1), (60, .iaload, 1), (61, .iconst 2, 1), (62, .if_icmp .ne 9, 3), (65, .aload_n 0, 1), (66, .bipush 17, 2), (68, .invokevirtual 666, 3), (71, .aload_n 0, 1), (72, .getfield 125, 3), (75, .iload_n 2, 1), (76, .iaload, 1), (77, .istore_n 2, 1), (78, .goto (-73), 3)] = true := by decide +kernel
theorem dX8_codeGo_52 : decode cX8_codeGo 52 = .ok (.invokevirtual 744, 3) := zdec_at bX8_codeGo_52 0 rfl
theorem dX8_codeGo_55 : decode cX8_codeGo 55 = .ok (.aload_n 0, 1) := zdec_at bX8_codeGo_52 1 rfl
theorem dX8_codeGo_56 : decode cX8_codeGo 56 = .ok (.getfield 113, 3) := zdec_at bX8_codeGo_52 2 rfl
theorem dX8_codeGo_59 : decode cX8_codeGo 59 = .ok (.iload_n 2, 1) := zdec_at bX8_codeGo_52 3 rfl
theorem dX8_codeGo_60 : decode cX8_codeGo 60 = .ok (.iaload, 1) := zdec_at bX8_codeGo_52 4 rfl
theorem dX8_codeGo_61 : decode cX8_codeGo 61 = .ok (.iconst 2, 1) := zdec_at bX8_codeGo_52 5 rfl
theorem dX8_codeGo_62 : decode cX8_codeGo 62 = .ok (.if_icmp .ne 9, 3) := zdec_at bX8_codeGo_52 6 rfl
theorem dX8_codeGo_65 : decode cX8_codeGo 65 = .ok (.aload_n 0, 1) := zdec_at bX8_codeGo_52 7 rfl
theorem dX8_codeGo_66 : decode cX8_codeGo 66 = .ok (.bipush 17, 2) := zdec_at bX8_codeGo_52 8 rfl
theorem dX8_codeGo_68 : decode cX8_codeGo 68 = .ok (.invokevirtual 666, 3) := zdec_at bX8_codeGo_52 9 rfl
theorem dX8_codeGo_71 : decode cX8_codeGo 71 = .ok (.aload_n 0, 1) := zdec_at bX8_codeGo_52 10 rfl
theorem dX8_codeGo_72 : decode cX8_codeGo 72 = .ok (.getfield 125, 3) := zdec_at bX8_codeGo_52 11 rfl
theorem dX8_codeGo_75 : decode cX8_codeGo 75 = .ok (.iload_n 2, 1) := zdec_at bX8_codeGo_52 12 rfl
theorem dX8_codeGo_76 : decode cX8_codeGo 76 = .ok (.iaload, 1) := zdec_at bX8_codeGo_52 13 rfl
theorem dX8_codeGo_77 : decode cX8_codeGo 77 = .ok (.istore_n 2, 1) := zdec_at bX8_codeGo_52 14 rfl
theorem dX8_codeGo_78 : decode cX8_codeGo 78 = .ok (.goto (-73), 3) := zdec_at bX8_codeGo_52 15 rfl
theorem bX8_codeGo_81 : zdec cX8_codeGo 81 [(81, .iload_n 1, 1), (82, .ifCond .eq 19, 3), (85, .aload_n 0, 1), (86, .getfield 113, 3), (89, .iload_n 2, 1), (90, .iaload, 1), (91, .iconst 4, 1), (92, .if_icmp .ne 9, 3), (95, .aload_n 0, 1), (96, .bipush 17, 2), (98, .invokevirtual 666, 3), (101, .aload_n 0, 1), (102, .bipush 21, 2), (104, .iload_n 1, 1), (105, .ifCond .eq 12, 3), (108, .aload_n 0, 1)] = true := by decide +kernel
theorem dX8_codeGo_81 : decode cX8_codeGo 81 = .ok (.iload_n 1, 1) := zdec_at bX8_codeGo_81 0 rfl
theorem dX8_codeGo_82 : decode cX8_codeGo 82 = .ok (.ifCond .eq 19, 3) := zdec_at bX8_codeGo_81 1 rfl
theorem dX8_codeGo_85 : decode cX8_codeGo 85 = .ok (.aload_n 0, 1) := zdec_at bX8_codeGo_81 2 rfl
theorem dX8_codeGo_86 : decode cX8_codeGo 86 = .ok (.getfield 113, 3) := zdec_at bX8_codeGo_81 3 rfl
theorem dX8_codeGo_89 : decode cX8_codeGo 89 = .ok (.iload_n 2, 1) := zdec_at bX8_codeGo_81 4 rfl
theorem dX8_codeGo_90 : decode cX8_codeGo 90 = .ok (.iaload, 1) := zdec_at bX8_codeGo_81 5 rfl
theorem dX8_codeGo_91 : decode cX8_codeGo 91 = .ok (.iconst 4, 1) := zdec_at bX8_codeGo_81 6 rfl
theorem dX8_codeGo_92 : decode cX8_codeGo 92 = .ok (.if_icmp .ne 9, 3) := zdec_at bX8_codeGo_81 7 rfl
theorem dX8_codeGo_95 : decode cX8_codeGo 95 = .ok (.aload_n 0, 1) := zdec_at bX8_codeGo_81 8 rfl
theorem dX8_codeGo_96 : decode cX8_codeGo 96 = .ok (.bipush 17, 2) := zdec_at bX8_codeGo_81 9 rfl
theorem dX8_codeGo_98 : decode cX8_codeGo 98 = .ok (.invokevirtual 666, 3) := zdec_at bX8_codeGo_81 10 rfl
theorem dX8_codeGo_101 : decode cX8_codeGo 101 = .ok (.aload_n 0, 1) := zdec_at bX8_codeGo_81 11 rfl
theorem dX8_codeGo_102 : decode cX8_codeGo 102 = .ok (.bipush 21, 2) := zdec_at bX8_codeGo_81 12 rfl
theorem dX8_codeGo_104 : decode cX8_codeGo 104 = .ok (.iload_n 1, 1) := zdec_at bX8_codeGo_81 13 rfl
theorem dX8_codeGo_105 : decode cX8_codeGo 105 = .ok (.ifCond .eq 12, 3) := zdec_at bX8_codeGo_81 14 rfl
theorem dX8_codeGo_108 : decode cX8_codeGo 108 = .ok (.aload_n 0, 1) := zdec_at bX8_codeGo_81 15 rfl
theorem bX8_codeGo_109 : zdec cX8_codeGo 109 [(109, .getfield 119, 3), (112, .iload_n 2, 1), (113, .iaload, 1), (114, .goto 9, 3), (117, .aload_n 0, 1), (118, .getfield 122, 3), (121, .iload_n 2, 1), (122, .iaload, 1), (123, .iconst 0, 1), (124, .invokevirtual 615, 3), (127, .return_, 1)] = true := by decide +kernel
theorem dX8_codeGo_109 : decode cX8_codeGo 109 = .ok (.getfield 119, 3) := zdec_at bX8_codeGo_109 0 rfl
theorem dX8_codeGo_112 : decode cX8_codeGo 112 = .ok (.iload_n 2, 1) := zdec_at bX8_codeGo_109 1 rfl
theorem dX8_codeGo_113 : decode cX8_codeGo 113 = .ok (.iaload, 1) := zdec_at bX8_codeGo_109 2 rfl
theorem dX8_codeGo_114 : decode cX8_codeGo 114 = .ok (.goto 9, 3) := zdec_at bX8_codeGo_109 3 rfl
theorem dX8_codeGo_117 : decode cX8_codeGo 117 = .ok (.aload_n 0, 1) := zdec_at bX8_codeGo_109 4 rfl
theorem dX8_codeGo_118 : decode cX8_codeGo 118 = .ok (.getfield 122, 3) := zdec_at bX8_codeGo_109 5 rfl
theorem dX8_codeGo_121 : decode cX8_codeGo 121 = .ok (.iload_n 2, 1) := zdec_at bX8_codeGo_109 6 rfl
theorem dX8_codeGo_122 : decode cX8_codeGo 122 = .ok (.iaload, 1) := zdec_at bX8_codeGo_109 7 rfl
theorem dX8_codeGo_123 : decode cX8_codeGo 123 = .ok (.iconst 0, 1) := zdec_at bX8_codeGo_109 8 rfl
theorem dX8_codeGo_124 : decode cX8_codeGo 124 = .ok (.invokevirtual 615, 3) := zdec_at bX8_codeGo_109 9 rfl
theorem dX8_codeGo_127 : decode cX8_codeGo 127 = .ok (.return_, 1) := zdec_at bX8_codeGo_109 10 rfl
theorem sX8_codeGo_0 {E : zE} {d : Nat} {Q : zO → zM → Prop} (M : zM) (l1 : Int32) (hw : tw M) (k : Z E YX8_codeGo (d + 1) M [(0, vr (some (97, 1, 0))), (1, vi l1), (2, vi (gi M 97 60))] 5 [] Q) : Z E YX8_codeGo (d + 1) M [(0, vr (some (97, 1, 0))), (1, vi l1)] 0 [] Q := by
  refine z_aload_n dX8_codeGo_0 rfl rfl ?_
  refine z_geti dX8_codeGo_1 fsX8_634_1 ?_
  refine z_ist_n dX8_codeGo_4 rfl (by decide) (lv' := [(0, vr (some (97, 1, 0))), (1, vi l1), (2, vi (gi M 97 60))]) rfl ?_
  exact k
theorem sX8_codeGo_5 {E : zE} {d : Nat} {Q : zO → zM → Prop} (M : zM) (l1 : Int32) (l2 : Int32) (hw : tw M) (k : ∃ b1 m1 : Nat, (gr M 97 61) = some (b1, 100, m1) ∧ (vp_in l2 m1 ∧ (if (gi M b1 (l2).toNatClampNeg) = (3 : Int32) then (Z E YX8_codeGo (d + 1) M [(0, vr (some (97, 1, 0))), (1, vi l1), (2, vi l2)] 81 [] Q) else (∃ b2 m2 : Nat, (gr M 97 61) = some (b2, 100, m2) ∧ (vp_in l2 m2 ∧ (if (gi M b2 (l2).toNatClampNeg) = (4 : Int32) then (Z E YX8_codeGo (d + 1) M [(0, vr (some (97, 1, 0))), (1, vi l1), (2, vi l2)] 81 [] Q) else (if l1 = 0 then (Z E YX8_codeGo (d + 1) M [(0, vr (some (97, 1, 0))), (1, vi l1), (2, vi l2)] 39 [] Q) else (∃ b3 m3 : Nat, (gr M 97 61) = some (b3, 100, m3) ∧ (vp_in l2 m3 ∧ (if (gi M b3 (l2).toNatClampNeg) = (5 : Int32) then (Z E YX8_codeGo (d + 1) M [(0, vr (some (97, 1, 0))), (1, vi l1), (2, vi l2)] 81 [] Q) else (Z E YX8_codeGo (d + 1) M [(0, vr (some (97, 1, 0))), (1, vi l1), (2, vi l2)] 39 [] Q))))))))))) : Z E YX8_codeGo (d + 1) M [(0, vr (some (97, 1, 0))), (1, vi l1), (2, vi l2)] 5 [] Q := by
  refine z_aload_n dX8_codeGo_5 rfl rfl ?_
  refine z_getr (r := (gr M 97 61)) dX8_codeGo_6 fsX8_113_1 rfl ?_
  refine z_iload_n dX8_codeGo_9 rfl rfl ?_
  obtain ⟨b1, m1, e1_, k⟩ := k
  refine Z.eqs (lv' := [(0, vr (some (97, 1, 0))), (1, vi l1), (2, vi l2)]) (st' := [vi l2, vr (some (b1, 100, m1))]) rfl (by rw [e1_] <;> rfl) ?_
  obtain ⟨b_, k⟩ := k
  refine z_iald dX8_codeGo_10 b_ ?_
  refine z_iconst (v := 3) dX8_codeGo_11 rfl ?_
  refine z_icmp_eq (tgt := 81) dX8_codeGo_12 rfl (fun h_ => ?_) (fun h_ => ?_)
  · have k := zit h_ k
    exact k
  · have k := zif h_ k
    refine z_aload_n dX8_codeGo_15 rfl rfl ?_
    refine z_getr (r := (gr M 97 61)) dX8_codeGo_16 fsX8_113_1 rfl ?_
    refine z_iload_n dX8_codeGo_19 rfl rfl ?_
    obtain ⟨b2, m2, e2_, k⟩ := k
    refine Z.eqs (lv' := [(0, vr (some (97, 1, 0))), (1, vi l1), (2, vi l2)]) (st' := [vi l2, vr (some (b2, 100, m2))]) rfl (by rw [e2_] <;> rfl) ?_
    obtain ⟨b_, k⟩ := k
    refine z_iald dX8_codeGo_20 b_ ?_
    refine z_iconst (v := 4) dX8_codeGo_21 rfl ?_
    refine z_icmp_eq (tgt := 81) dX8_codeGo_22 rfl (fun h_ => ?_) (fun h_ => ?_)
    · have k := zit h_ k
      exact k
    · have k := zif h_ k
      refine z_iload_n dX8_codeGo_25 rfl rfl ?_
      refine z_if_eq (tgt := 39) dX8_codeGo_26 rfl (fun h_ => ?_) (fun h_ => ?_)
      · have k := zit h_ k
        exact k
      · have k := zif h_ k
        refine z_aload_n dX8_codeGo_29 rfl rfl ?_
        refine z_getr (r := (gr M 97 61)) dX8_codeGo_30 fsX8_113_1 rfl ?_
        refine z_iload_n dX8_codeGo_33 rfl rfl ?_
        obtain ⟨b3, m3, e3_, k⟩ := k
        refine Z.eqs (lv' := [(0, vr (some (97, 1, 0))), (1, vi l1), (2, vi l2)]) (st' := [vi l2, vr (some (b3, 100, m3))]) rfl (by rw [e3_] <;> rfl) ?_
        obtain ⟨b_, k⟩ := k
        refine z_iald dX8_codeGo_34 b_ ?_
        refine z_iconst (v := 5) dX8_codeGo_35 rfl ?_
        refine z_icmp_eq (tgt := 81) dX8_codeGo_36 rfl (fun h_ => ?_) (fun h_ => ?_)
        · have k := zit h_ k
          exact k
        · have k := zif h_ k
          exact k
theorem sX8_codeGo_39 {E : zE} {d : Nat} {Q : zO → zM → Prop} (M : zM) (l1 : Int32) (l2 : Int32) (hw : tw M) (k : ∃ b1 m1 : Nat, (gr M 97 61) = some (b1, 100, m1) ∧ (vp_in l2 m1 ∧ (if (1 : Int32) < (gi M b1 (l2).toNatClampNeg) then (Z E YX8_codeGo (d + 1) M [(0, vr (some (97, 1, 0))), (1, vi l1), (2, vi l2)] 55 [] Q) else (Z E YX8_leave d M (zargs 0 [vr (some (97, 1, 0)), vi l2, vi (0 : Int32)]) 0 [] (zafter E YX8_codeGo (d + 1) [(0, vr (some (97, 1, 0))), (1, vi l1), (2, vi l2)] 52 3 [] Q))))) : Z E YX8_codeGo (d + 1) M [(0, vr (some (97, 1, 0))), (1, vi l1), (2, vi l2)] 39 [] Q := by
  refine z_aload_n dX8_codeGo_39 rfl rfl ?_
  refine z_getr (r := (gr M 97 61)) dX8_codeGo_40 fsX8_113_1 rfl ?_
  refine z_iload_n dX8_codeGo_43 rfl rfl ?_
  obtain ⟨b1, m1, e1_, k⟩ := k
  refine Z.eqs (lv' := [(0, vr (some (97, 1, 0))), (1, vi l1), (2, vi l2)]) (st' := [vi l2, vr (some (b1, 100, m1))]) rfl (by rw [e1_] <;> rfl) ?_
  obtain ⟨b_, k⟩ := k
  refine z_iald dX8_codeGo_44 b_ ?_
  refine z_iconst (v := 1) dX8_codeGo_45 rfl ?_
  refine z_icmp_gt (tgt := 55) dX8_codeGo_46 rfl (fun h_ => ?_) (fun h_ => ?_)
  · have k := zit h_ k
    exact k
  · have k := zif h_ k
    refine z_aload_n dX8_codeGo_49 rfl rfl ?_
    refine z_iload_n dX8_codeGo_50 rfl rfl ?_
    refine z_iconst (v := 0) dX8_codeGo_51 rfl ?_
    exact z_callV (as := [vi l2, vi (0 : Int32)]) (st := []) dX8_codeGo_52 vsX8_744_1 (Nat.le_refl _) (Nat.le_of_ble_eq_true rfl) (Nat.le_of_ble_eq_true rfl) rfl k
theorem sX8_codeGo_55 {E : zE} {d : Nat} {Q : zO → zM → Prop} (M : zM) (l1 : Int32) (l2 : Int32) (hw : tw M) (k : ∃ b1 m1 : Nat, (gr M 97 61) = some (b1, 100, m1) ∧ (vp_in l2 m1 ∧ (if (gi M b1 (l2).toNatClampNeg) = (2 : Int32) then (Z E YX8_emit_2 d M (zargs 0 [vr (some (97, 1, 0)), vi (17 : Int32)]) 0 [] (zafter E YX8_codeGo (d + 1) [(0, vr (some (97, 1, 0))), (1, vi l1), (2, vi l2)] 68 3 [] Q)) else (Z E YX8_codeGo (d + 1) M [(0, vr (some (97, 1, 0))), (1, vi l1), (2, vi l2)] 71 [] Q)))) : Z E YX8_codeGo (d + 1) M [(0, vr (some (97, 1, 0))), (1, vi l1), (2, vi l2)] 55 [] Q := by
  refine z_aload_n dX8_codeGo_55 rfl rfl ?_
  refine z_getr (r := (gr M 97 61)) dX8_codeGo_56 fsX8_113_1 rfl ?_
  refine z_iload_n dX8_codeGo_59 rfl rfl ?_
  obtain ⟨b1, m1, e1_, k⟩ := k
  refine Z.eqs (lv' := [(0, vr (some (97, 1, 0))), (1, vi l1), (2, vi l2)]) (st' := [vi l2, vr (some (b1, 100, m1))]) rfl (by rw [e1_] <;> rfl) ?_
  obtain ⟨b_, k⟩ := k
  refine z_iald dX8_codeGo_60 b_ ?_
  refine z_iconst (v := 2) dX8_codeGo_61 rfl ?_
  refine z_icmp_ne (tgt := 71) dX8_codeGo_62 rfl (fun h_ => ?_) (fun h_ => ?_)
  · have k := zif h_ k
    exact k
  · have k := zit h_ k
    refine z_aload_n dX8_codeGo_65 rfl rfl ?_
    refine z_bipush (v := 17) dX8_codeGo_66 rfl ?_
    exact z_callV (as := [vi (17 : Int32)]) (st := []) dX8_codeGo_68 vsX8_666_1 (Nat.le_refl _) (Nat.le_of_ble_eq_true rfl) (Nat.le_of_ble_eq_true rfl) rfl k
theorem sX8_codeGo_71 {E : zE} {d : Nat} {Q : zO → zM → Prop} (M : zM) (l1 : Int32) (l2 : Int32) (hw : tw M) (k : ∃ b1 m1 : Nat, (gr M 97 65) = some (b1, 100, m1) ∧ (vp_in l2 m1 ∧ (Z E YX8_codeGo (d + 1) M [(0, vr (some (97, 1, 0))), (1, vi l1), (2, vi (gi M b1 (l2).toNatClampNeg))] 5 [] Q))) : Z E YX8_codeGo (d + 1) M [(0, vr (some (97, 1, 0))), (1, vi l1), (2, vi l2)] 71 [] Q := by
  refine z_aload_n dX8_codeGo_71 rfl rfl ?_
  refine z_getr (r := (gr M 97 65)) dX8_codeGo_72 fsX8_125_1 rfl ?_
  refine z_iload_n dX8_codeGo_75 rfl rfl ?_
  obtain ⟨b1, m1, e1_, k⟩ := k
  refine Z.eqs (lv' := [(0, vr (some (97, 1, 0))), (1, vi l1), (2, vi l2)]) (st' := [vi l2, vr (some (b1, 100, m1))]) rfl (by rw [e1_] <;> rfl) ?_
  obtain ⟨b_, k⟩ := k
  refine z_iald dX8_codeGo_76 b_ ?_
  refine z_ist_n dX8_codeGo_77 rfl (by decide) (lv' := [(0, vr (some (97, 1, 0))), (1, vi l1), (2, vi (gi M b1 (l2).toNatClampNeg))]) rfl ?_
  refine z_goto (tgt := 5) dX8_codeGo_78 rfl ?_
  exact k
theorem sX8_codeGo_81 {E : zE} {d : Nat} {Q : zO → zM → Prop} (M : zM) (l1 : Int32) (l2 : Int32) (hw : tw M) (k : if l1 = 0 then (Z E YX8_codeGo (d + 1) M [(0, vr (some (97, 1, 0))), (1, vi l1), (2, vi l2)] 101 [] Q) else (∃ b1 m1 : Nat, (gr M 97 61) = some (b1, 100, m1) ∧ (vp_in l2 m1 ∧ (if (gi M b1 (l2).toNatClampNeg) = (4 : Int32) then (Z E YX8_emit_2 d M (zargs 0 [vr (some (97, 1, 0)), vi (17 : Int32)]) 0 [] (zafter E YX8_codeGo (d + 1) [(0, vr (some (97, 1, 0))), (1, vi l1), (2, vi l2)] 98 3 [] Q)) else (Z E YX8_codeGo (d + 1) M [(0, vr (some (97, 1, 0))), (1, vi l1), (2, vi l2)] 101 [] Q))))) : Z E YX8_codeGo (d + 1) M [(0, vr (some (97, 1, 0))), (1, vi l1), (2, vi l2)] 81 [] Q := by
  refine z_iload_n dX8_codeGo_81 rfl rfl ?_
  refine z_if_eq (tgt := 101) dX8_codeGo_82 rfl (fun h_ => ?_) (fun h_ => ?_)
  · have k := zit h_ k
    exact k
  · have k := zif h_ k
    refine z_aload_n dX8_codeGo_85 rfl rfl ?_
    refine z_getr (r := (gr M 97 61)) dX8_codeGo_86 fsX8_113_1 rfl ?_
    refine z_iload_n dX8_codeGo_89 rfl rfl ?_
    obtain ⟨b1, m1, e1_, k⟩ := k
    refine Z.eqs (lv' := [(0, vr (some (97, 1, 0))), (1, vi l1), (2, vi l2)]) (st' := [vi l2, vr (some (b1, 100, m1))]) rfl (by rw [e1_] <;> rfl) ?_
    obtain ⟨b_, k⟩ := k
    refine z_iald dX8_codeGo_90 b_ ?_
    refine z_iconst (v := 4) dX8_codeGo_91 rfl ?_
    refine z_icmp_ne (tgt := 101) dX8_codeGo_92 rfl (fun h_ => ?_) (fun h_ => ?_)
    · have k := zif h_ k
      exact k
    · have k := zit h_ k
      refine z_aload_n dX8_codeGo_95 rfl rfl ?_
      refine z_bipush (v := 17) dX8_codeGo_96 rfl ?_
      exact z_callV (as := [vi (17 : Int32)]) (st := []) dX8_codeGo_98 vsX8_666_1 (Nat.le_refl _) (Nat.le_of_ble_eq_true rfl) (Nat.le_of_ble_eq_true rfl) rfl k
theorem sX8_codeGo_101 {E : zE} {d : Nat} {Q : zO → zM → Prop} (M : zM) (l1 : Int32) (l2 : Int32) (hw : tw M) (k : if l1 = 0 then (∃ b1 m1 : Nat, (gr M 97 64) = some (b1, 100, m1) ∧ (vp_in l2 m1 ∧ (Z E YX8_emit d M (zargs 0 [vr (some (97, 1, 0)), vi (21 : Int32), vi (gi M b1 (l2).toNatClampNeg), vi (0 : Int32)]) 0 [] (zafter E YX8_codeGo (d + 1) [] 124 3 [] Q)))) else (∃ b1 m1 : Nat, (gr M 97 63) = some (b1, 100, m1) ∧ (vp_in l2 m1 ∧ (Z E YX8_emit d M (zargs 0 [vr (some (97, 1, 0)), vi (21 : Int32), vi (gi M b1 (l2).toNatClampNeg), vi (0 : Int32)]) 0 [] (zafter E YX8_codeGo (d + 1) [] 124 3 [] Q))))) : Z E YX8_codeGo (d + 1) M [(0, vr (some (97, 1, 0))), (1, vi l1), (2, vi l2)] 101 [] Q := by
  refine z_aload_n dX8_codeGo_101 rfl rfl ?_
  refine z_bipush (v := 21) dX8_codeGo_102 rfl ?_
  refine z_iload_n dX8_codeGo_104 rfl rfl ?_
  refine z_if_eq (tgt := 117) dX8_codeGo_105 rfl (fun h_ => ?_) (fun h_ => ?_)
  · have k := zit h_ k
    refine z_aload_n dX8_codeGo_117 rfl rfl ?_
    refine z_getr (r := (gr M 97 64)) dX8_codeGo_118 fsX8_122_1 rfl ?_
    refine z_iload_n dX8_codeGo_121 rfl rfl ?_
    obtain ⟨b1, m1, e1_, k⟩ := k
    refine Z.eqs (lv' := [(0, vr (some (97, 1, 0))), (1, vi l1), (2, vi l2)]) (st' := [vi l2, vr (some (b1, 100, m1)), vi (21 : Int32), vr (some (97, 1, 0))]) rfl (by rw [e1_] <;> rfl) ?_
    obtain ⟨b_, k⟩ := k
    refine z_iald dX8_codeGo_122 b_ ?_
    refine z_iconst (v := 0) dX8_codeGo_123 rfl ?_
    refine Z.pick [] rfl ?_
    exact z_callV (as := [vi (21 : Int32), vi (gi M b1 (l2).toNatClampNeg), vi (0 : Int32)]) (st := []) dX8_codeGo_124 vsX8_615_1 (Nat.le_refl _) (Nat.le_of_ble_eq_true rfl) (Nat.le_of_ble_eq_true rfl) rfl k
  · have k := zif h_ k
    refine z_aload_n dX8_codeGo_108 rfl rfl ?_
    refine z_getr (r := (gr M 97 63)) dX8_codeGo_109 fsX8_119_1 rfl ?_
    refine z_iload_n dX8_codeGo_112 rfl rfl ?_
    obtain ⟨b1, m1, e1_, k⟩ := k
    refine Z.eqs (lv' := [(0, vr (some (97, 1, 0))), (1, vi l1), (2, vi l2)]) (st' := [vi l2, vr (some (b1, 100, m1)), vi (21 : Int32), vr (some (97, 1, 0))]) rfl (by rw [e1_] <;> rfl) ?_
    obtain ⟨b_, k⟩ := k
    refine z_iald dX8_codeGo_113 b_ ?_
    refine z_goto (tgt := 123) dX8_codeGo_114 rfl ?_
    refine z_iconst (v := 0) dX8_codeGo_123 rfl ?_
    refine Z.pick [] rfl ?_
    exact z_callV (as := [vi (21 : Int32), vi (gi M b1 (l2).toNatClampNeg), vi (0 : Int32)]) (st := []) dX8_codeGo_124 vsX8_615_1 (Nat.le_refl _) (Nat.le_of_ble_eq_true rfl) (Nat.le_of_ble_eq_true rfl) rfl k
theorem sX8_codeGo_127 {E : zE} {d : Nat} {Q : zO → zM → Prop} (M : zM)  (hw : tw M) (k : Q (.inl none) M) : Z E YX8_codeGo (d + 1) M [] 127 [] Q := by
  exact z_vret dX8_codeGo_127 rfl k
/-! ScriptTypesModel.leave(II)V -/
theorem bX8_leave_0 : zdec cX8_leave 0 [(0, .aload_n 0, 1), (1, .getfield 609, 3), (4, .ifCond .eq 4, 3), (7, .return_, 1), (8, .aload_n 0, 1), (9, .bipush 28, 2), (11, .invokevirtual 666, 3), (14, .aload_n 0, 1), (15, .getfield 113, 3), (18, .iload_n 1, 1), (19, .iaload, 1), (20, .iconst 1, 1), (21, .if_icmp .eq 4, 3), (24, .return_, 1), (25, .aload_n 0, 1), (26, .getfield 741, 3)] = true := by decide +kernel
theorem dX8_leave_0 : decode cX8_leave 0 = .ok (.aload_n 0, 1) := zdec_at bX8_leave_0 0 rfl
theorem dX8_leave_1 : decode cX8_leave 1 = .ok (.getfield 609, 3) := zdec_at bX8_leave_0 1 rfl
theorem dX8_leave_4 : decode cX8_leave 4 = .ok (.ifCond .eq 4, 3) := zdec_at bX8_leave_0 2 rfl
theorem dX8_leave_7 : decode cX8_leave 7 = .ok (.return_, 1) := zdec_at bX8_leave_0 3 rfl
theorem dX8_leave_8 : decode cX8_leave 8 = .ok (.aload_n 0, 1) := zdec_at bX8_leave_0 4 rfl
theorem dX8_leave_9 : decode cX8_leave 9 = .ok (.bipush 28, 2) := zdec_at bX8_leave_0 5 rfl
theorem dX8_leave_11 : decode cX8_leave 11 = .ok (.invokevirtual 666, 3) := zdec_at bX8_leave_0 6 rfl
theorem dX8_leave_14 : decode cX8_leave 14 = .ok (.aload_n 0, 1) := zdec_at bX8_leave_0 7 rfl
theorem dX8_leave_15 : decode cX8_leave 15 = .ok (.getfield 113, 3) := zdec_at bX8_leave_0 8 rfl
theorem dX8_leave_18 : decode cX8_leave 18 = .ok (.iload_n 1, 1) := zdec_at bX8_leave_0 9 rfl
theorem dX8_leave_19 : decode cX8_leave 19 = .ok (.iaload, 1) := zdec_at bX8_leave_0 10 rfl
theorem dX8_leave_20 : decode cX8_leave 20 = .ok (.iconst 1, 1) := zdec_at bX8_leave_0 11 rfl
theorem dX8_leave_21 : decode cX8_leave 21 = .ok (.if_icmp .eq 4, 3) := zdec_at bX8_leave_0 12 rfl
theorem dX8_leave_24 : decode cX8_leave 24 = .ok (.return_, 1) := zdec_at bX8_leave_0 13 rfl
theorem dX8_leave_25 : decode cX8_leave 25 = .ok (.aload_n 0, 1) := zdec_at bX8_leave_0 14 rfl
theorem dX8_leave_26 : decode cX8_leave 26 = .ok (.getfield 741, 3) := zdec_at bX8_leave_0 15 rfl
theorem bX8_leave_29 : zdec cX8_leave 29 [(29, .bipush 30, 2), (31, .if_icmp .ne 9, 3), (34, .aload_n 0, 1), (35, .iconst 1, 1), (36, .putfield 609, 3), (39, .return_, 1), (40, .aload_n 0, 1), (41, .dup, 1), (42, .getfield 741, 3), (45, .iconst 1, 1), (46, .iadd, 1), (47, .putfield 741, 3), (50, .aload_n 0, 1), (51, .getfield 634, 3), (54, .istore_n 3, 1), (55, .aload_n 0, 1)] = true := by decide +kernel
theorem dX8_leave_29 : decode cX8_leave 29 = .ok (.bipush 30, 2) := zdec_at bX8_leave_29 0 rfl
theorem dX8_leave_31 : decode cX8_leave 31 = .ok (.if_icmp .ne 9, 3) := zdec_at bX8_leave_29 1 rfl
theorem dX8_leave_34 : decode cX8_leave 34 = .ok (.aload_n 0, 1) := zdec_at bX8_leave_29 2 rfl
theorem dX8_leave_35 : decode cX8_leave 35 = .ok (.iconst 1, 1) := zdec_at bX8_leave_29 3 rfl
theorem dX8_leave_36 : decode cX8_leave 36 = .ok (.putfield 609, 3) := zdec_at bX8_leave_29 4 rfl
theorem dX8_leave_39 : decode cX8_leave 39 = .ok (.return_, 1) := zdec_at bX8_leave_29 5 rfl
theorem dX8_leave_40 : decode cX8_leave 40 = .ok (.aload_n 0, 1) := zdec_at bX8_leave_29 6 rfl
theorem dX8_leave_41 : decode cX8_leave 41 = .ok (.dup, 1) := zdec_at bX8_leave_29 7 rfl
theorem dX8_leave_42 : decode cX8_leave 42 = .ok (.getfield 741, 3) := zdec_at bX8_leave_29 8 rfl
theorem dX8_leave_45 : decode cX8_leave 45 = .ok (.iconst 1, 1) := zdec_at bX8_leave_29 9 rfl
theorem dX8_leave_46 : decode cX8_leave 46 = .ok (.iadd, 1) := zdec_at bX8_leave_29 10 rfl
theorem dX8_leave_47 : decode cX8_leave 47 = .ok (.putfield 741, 3) := zdec_at bX8_leave_29 11 rfl
theorem dX8_leave_50 : decode cX8_leave 50 = .ok (.aload_n 0, 1) := zdec_at bX8_leave_29 12 rfl
theorem dX8_leave_51 : decode cX8_leave 51 = .ok (.getfield 634, 3) := zdec_at bX8_leave_29 13 rfl
theorem dX8_leave_54 : decode cX8_leave 54 = .ok (.istore_n 3, 1) := zdec_at bX8_leave_29 14 rfl
theorem dX8_leave_55 : decode cX8_leave 55 = .ok (.aload_n 0, 1) := zdec_at bX8_leave_29 15 rfl
theorem bX8_leave_56 : zdec cX8_leave 56 [(56, .getfield 637, 3), (59, .istore 4, 2), (61, .aload_n 0, 1), (62, .aload_n 0, 1), (63, .getfield 125, 3), (66, .iload_n 1, 1), (67, .iaload, 1), (68, .putfield 634, 3), (71, .iconst 0, 1), (72, .istore 5, 2), (74, .iload 5, 2), (76, .iload_n 2, 1), (77, .if_icmp .ge 17, 3), (80, .aload_n 0, 1), (81, .iconst 2, 1), (82, .iconst (-1), 1)] = true := by decide +kernel
theorem dX8_leave_56 : decode cX8_leave 56 = .ok (.getfield 637, 3) := zdec_at bX8_leave_56 0 rfl
theorem dX8_leave_59 : decode cX8_leave 59 = .ok (.istore 4, 2) := zdec_at bX8_leave_56 1 rfl
theorem dX8_leave_61 : decode cX8_leave 61 = .ok (.aload_n 0, 1) := zdec_at bX8_leave_56 2 rfl
theorem dX8_leave_62 : decode cX8_leave 62 = .ok (.aload_n 0, 1) := zdec_at bX8_leave_56 3 rfl
theorem dX8_leave_63 : decode cX8_leave 63 = .ok (.getfield 125, 3) := zdec_at bX8_leave_56 4 rfl
theorem dX8_leave_66 : decode cX8_leave 66 = .ok (.iload_n 1, 1) := zdec_at bX8_leave_56 5 rfl
theorem dX8_leave_67 : decode cX8_leave 67 = .ok (.iaload, 1) := zdec_at bX8_leave_56 6 rfl
theorem dX8_leave_68 : decode cX8_leave 68 = .ok (.putfield 634, 3) := zdec_at bX8_leave_56 7 rfl
theorem dX8_leave_71 : decode cX8_leave 71 = .ok (.iconst 0, 1) := zdec_at bX8_leave_56 8 rfl
theorem dX8_leave_72 : decode cX8_leave 72 = .ok (.istore 5, 2) := zdec_at bX8_leave_56 9 rfl
theorem dX8_leave_74 : decode cX8_leave 74 = .ok (.iload 5, 2) := zdec_at bX8_leave_56 10 rfl
theorem dX8_leave_76 : decode cX8_leave 76 = .ok (.iload_n 2, 1) := zdec_at bX8_leave_56 11 rfl
theorem dX8_leave_77 : decode cX8_leave 77 = .ok (.if_icmp .ge 17, 3) := zdec_at bX8_leave_56 12 rfl
theorem dX8_leave_80 : decode cX8_leave 80 = .ok (.aload_n 0, 1) := zdec_at bX8_leave_56 13 rfl
theorem dX8_leave_81 : decode cX8_leave 81 = .ok (.iconst 2, 1) := zdec_at bX8_leave_56 14 rfl
theorem dX8_leave_82 : decode cX8_leave 82 = .ok (.iconst (-1), 1) := zdec_at bX8_leave_56 15 rfl
theorem bX8_leave_83 : zdec cX8_leave 83 [(83, .iconst 0, 1), (84, .iconst 0, 1), (85, .invokevirtual 723, 3), (88, .iinc 5 1, 3), (91, .goto (-17), 3), (94, .aload_n 0, 1), (95, .aload_n 0, 1), (96, .getfield 116, 3), (99, .iload_n 1, 1), (100, .iaload, 1), (101, .invokevirtual 713, 3), (104, .aload_n 0, 1), (105, .iload_n 3, 1), (106, .iload 4, 2), (108, .invokevirtual 726, 3), (111, .aload_n 0, 1)] = true := by decide +kernel
theorem dX8_leave_83 : decode cX8_leave 83 = .ok (.iconst 0, 1) := zdec_at bX8_leave_83 0 rfl
theorem dX8_leave_84 : decode cX8_leave 84 = .ok (.iconst 0, 1) := zdec_at bX8_leave_83 1 rfl
theorem dX8_leave_85 : decode cX8_leave 85 = .ok (.invokevirtual 723, 3) := zdec_at bX8_leave_83 2 rfl
theorem dX8_leave_88 : decode cX8_leave 88 = .ok (.iinc 5 1, 3) := zdec_at bX8_leave_83 3 rfl
theorem dX8_leave_91 : decode cX8_leave 91 = .ok (.goto (-17), 3) := zdec_at bX8_leave_83 4 rfl
theorem dX8_leave_94 : decode cX8_leave 94 = .ok (.aload_n 0, 1) := zdec_at bX8_leave_83 5 rfl
theorem dX8_leave_95 : decode cX8_leave 95 = .ok (.aload_n 0, 1) := zdec_at bX8_leave_83 6 rfl
theorem dX8_leave_96 : decode cX8_leave 96 = .ok (.getfield 116, 3) := zdec_at bX8_leave_83 7 rfl
theorem dX8_leave_99 : decode cX8_leave 99 = .ok (.iload_n 1, 1) := zdec_at bX8_leave_83 8 rfl
theorem dX8_leave_100 : decode cX8_leave 100 = .ok (.iaload, 1) := zdec_at bX8_leave_83 9 rfl
theorem dX8_leave_101 : decode cX8_leave 101 = .ok (.invokevirtual 713, 3) := zdec_at bX8_leave_83 10 rfl
theorem dX8_leave_104 : decode cX8_leave 104 = .ok (.aload_n 0, 1) := zdec_at bX8_leave_83 11 rfl
theorem dX8_leave_105 : decode cX8_leave 105 = .ok (.iload_n 3, 1) := zdec_at bX8_leave_83 12 rfl
theorem dX8_leave_106 : decode cX8_leave 106 = .ok (.iload 4, 2) := zdec_at bX8_leave_83 13 rfl
theorem dX8_leave_108 : decode cX8_leave 108 = .ok (.invokevirtual 726, 3) := zdec_at bX8_leave_83 14 rfl
theorem dX8_leave_111 : decode cX8_leave 111 = .ok (.aload_n 0, 1) := zdec_at bX8_leave_83 15 rfl
theorem bX8_leave_112 : zdec cX8_leave 112 [(112, .dup, 1), (113, .getfield 741, 3), (116, .iconst 1, 1), (117, .isub, 1), (118, .putfield 741, 3), (121, .return_, 1)] = true := by decide +kernel
theorem dX8_leave_112 : decode cX8_leave 112 = .ok (.dup, 1) := zdec_at bX8_leave_112 0 rfl
theorem dX8_leave_113 : decode cX8_leave 113 = .ok (.getfield 741, 3) := zdec_at bX8_leave_112 1 rfl
theorem dX8_leave_116 : decode cX8_leave 116 = .ok (.iconst 1, 1) := zdec_at bX8_leave_112 2 rfl
theorem dX8_leave_117 : decode cX8_leave 117 = .ok (.isub, 1) := zdec_at bX8_leave_112 3 rfl
theorem dX8_leave_118 : decode cX8_leave 118 = .ok (.putfield 741, 3) := zdec_at bX8_leave_112 4 rfl
theorem dX8_leave_121 : decode cX8_leave 121 = .ok (.return_, 1) := zdec_at bX8_leave_112 5 rfl
theorem sX8_leave_0 {E : zE} {d : Nat} {Q : zO → zM → Prop} (M : zM) (l1 : Int32) (l2 : Int32) (hw : tw M) (k : if (gi M 97 47) = 0 then (Z E YX8_emit_2 d M (zargs 0 [vr (some (97, 1, 0)), vi (28 : Int32)]) 0 [] (zafter E YX8_leave (d + 1) [(0, vr (some (97, 1, 0))), (1, vi l1), (2, vi l2)] 11 3 [] Q)) else (Q (.inl none) M)) : Z E YX8_leave (d + 1) M [(0, vr (some (97, 1, 0))), (1, vi l1), (2, vi l2)] 0 [] Q := by
  refine z_aload_n dX8_leave_0 rfl rfl ?_
  refine z_geti dX8_leave_1 fsX8_609_1 ?_
  refine z_if_eq (tgt := 8) dX8_leave_4 rfl (fun h_ => ?_) (fun h_ => ?_)
  · have k := zit h_ k
    refine z_aload_n dX8_leave_8 rfl rfl ?_
    refine z_bipush (v := 28) dX8_leave_9 rfl ?_
    exact z_callV (as := [vi (28 : Int32)]) (st := []) dX8_leave_11 vsX8_666_1 (Nat.le_refl _) (Nat.le_of_ble_eq_true rfl) (Nat.le_of_ble_eq_true rfl) rfl k
  · have k := zif h_ k
    exact z_vret dX8_leave_7 rfl k
theorem sX8_leave_14 {E : zE} {d : Nat} {Q : zO → zM → Prop} (M : zM) (l1 : Int32) (l2 : Int32) (hw : tw M) (k : ∃ b1 m1 : Nat, (gr M 97 61) = some (b1, 100, m1) ∧ (vp_in l1 m1 ∧ (if (gi M b1 (l1).toNatClampNeg) = (1 : Int32) then (if (gi M 97 70) = (30 : Int32) then (Q (.inl none) (si M 97 47 (1 : Int32))) else (∃ b2 m2 : Nat, (gr M 97 65) = some (b2, 100, m2) ∧ (vp_in l1 m2 ∧ (Z E YX8_leave (d + 1) (si (si M 97 70 ((gi M 97 70) + (1 : Int32))) 97 60 (gi (si M 97 70 ((gi M 97 70) + (1 : Int32))) b2 (l1).toNatClampNeg)) [(0, vr (some (97, 1, 0))), (1, vi l1), (2, vi l2), (3, vi (gi M 97 60)), (4, vi (gi M 97 59)), (5, vi (0 : Int32))] 74 [] Q)))) else (Q (.inl none) M)))) : Z E YX8_leave (d + 1) M [(0, vr (some (97, 1, 0))), (1, vi l1), (2, vi l2)] 14 [] Q := by
  refine z_aload_n dX8_leave_14 rfl rfl ?_
  refine z_getr (r := (gr M 97 61)) dX8_leave_15 fsX8_113_1 rfl ?_
  refine z_iload_n dX8_leave_18 rfl rfl ?_
  obtain ⟨b1, m1, e1_, k⟩ := k
  refine Z.eqs (lv' := [(0, vr (some (97, 1, 0))), (1, vi l1), (2, vi l2)]) (st' := [vi l1, vr (some (b1, 100, m1))]) rfl (by rw [e1_] <;> rfl) ?_
  obtain ⟨b_, k⟩ := k
  refine z_iald dX8_leave_19 b_ ?_
  refine z_iconst (v := 1) dX8_leave_20 rfl ?_
  refine z_icmp_eq (tgt := 25) dX8_leave_21 rfl (fun h_ => ?_) (fun h_ => ?_)
  · have k := zit h_ k
    refine z_aload_n dX8_leave_25 rfl rfl ?_
    refine z_geti dX8_leave_26 fsX8_741_1 ?_
    refine z_bipush (v := 30) dX8_leave_29 rfl ?_
    refine z_icmp_ne (tgt := 40) dX8_leave_31 rfl (fun h_ => ?_) (fun h_ => ?_)
    · have k := zif h_ k
      refine z_aload_n dX8_leave_40 rfl rfl ?_
      refine z_dup dX8_leave_41 rfl ?_
      refine z_geti dX8_leave_42 fsX8_741_1 ?_
      refine z_iconst (v := 1) dX8_leave_45 rfl ?_
      refine z_iadd dX8_leave_46 ?_
      refine z_puti (by decide) dX8_leave_47 (zfwN.w fwX8_741_1) rfl ⟨rfl, rfl⟩ ?_
      refine z_aload_n dX8_leave_50 rfl rfl ?_
      refine z_geti dX8_leave_51 fsX8_634_1 ?_
      refine z_ist_n dX8_leave_54 rfl (by decide) (lv' := [(0, vr (some (97, 1, 0))), (1, vi l1), (2, vi l2), (3, vi (gi M 97 60))]) rfl ?_
      refine z_aload_n dX8_leave_55 rfl rfl ?_
      refine z_geti dX8_leave_56 fsX8_637_1 ?_
      refine z_ist dX8_leave_59 (by decide) (lv' := [(0, vr (some (97, 1, 0))), (1, vi l1), (2, vi l2), (3, vi (gi M 97 60)), (4, vi (gi M 97 59))]) rfl ?_
      refine z_aload_n dX8_leave_61 rfl rfl ?_
      refine z_aload_n dX8_leave_62 rfl rfl ?_
      refine z_getr (r := (gr M 97 65)) dX8_leave_63 fsX8_125_1 rfl ?_
      refine z_iload_n dX8_leave_66 rfl rfl ?_
      obtain ⟨b2, m2, e2_, k⟩ := k
      refine Z.eqs (lv' := [(0, vr (some (97, 1, 0))), (1, vi l1), (2, vi l2), (3, vi (gi M 97 60)), (4, vi (gi M 97 59))]) (st' := [vi l1, vr (some (b2, 100, m2)), vr (some (97, 1, 0))]) rfl (by rw [e2_] <;> rfl) ?_
      obtain ⟨b_, k⟩ := k
      refine z_iald dX8_leave_67 b_ ?_
      refine z_puti (by decide) dX8_leave_68 (zfwN.w fwX8_634_1) rfl ⟨rfl, rfl⟩ ?_
      refine z_iconst (v := 0) dX8_leave_71 rfl ?_
      refine z_ist dX8_leave_72 (by decide) (lv' := [(0, vr (some (97, 1, 0))), (1, vi l1), (2, vi l2), (3, vi (gi M 97 60)), (4, vi (gi M 97 59)), (5, vi (0 : Int32))]) rfl ?_
      exact k
    · have k := zit h_ k
      refine z_aload_n dX8_leave_34 rfl rfl ?_
      refine z_iconst (v := 1) dX8_leave_35 rfl ?_
      refine z_puti (by decide) dX8_leave_36 (zfwN.w fwX8_609_1) rfl ⟨by decide, by decide⟩ ?_
      exact z_vret dX8_leave_39 rfl k
  · have k := zif h_ k
    exact z_vret dX8_leave_24 rfl k
theorem sX8_leave_74 {E : zE} {d : Nat} {Q : zO → zM → Prop} (M : zM) (l1 : Int32) (l2 : Int32) (l3 : Int32) (l4 : Int32) (l5 : Int32) (hw : tw M) (k : if l2 ≤ l5 then (∃ b1 m1 : Nat, (gr M 97 62) = some (b1, 100, m1) ∧ (vp_in l1 m1 ∧ (Z E YX8_codes d M (zargs 0 [vr (some (97, 1, 0)), vi (gi M b1 (l1).toNatClampNeg)]) 0 [] (zafter E YX8_leave (d + 1) [(0, vr (some (97, 1, 0))), (3, vi l3), (4, vi l4)] 101 3 [] Q)))) else (Z E YX8_wrapIn d M (zargs 0 [vr (some (97, 1, 0)), vi (2 : Int32), vi (-1 : Int32), vi (0 : Int32), vi (0 : Int32)]) 0 [] (zafter E YX8_leave (d + 1) [(0, vr (some (97, 1, 0))), (1, vi l1), (2, vi l2), (3, vi l3), (4, vi l4), (5, vi l5)] 85 3 [] Q))) : Z E YX8_leave (d + 1) M [(0, vr (some (97, 1, 0))), (1, vi l1), (2, vi l2), (3, vi l3), (4, vi l4), (5, vi l5)] 74 [] Q := by
  refine z_iload dX8_leave_74 rfl ?_
  refine z_iload_n dX8_leave_76 rfl rfl ?_
  refine z_icmp_ge (tgt := 94) dX8_leave_77 rfl (fun h_ => ?_) (fun h_ => ?_)
  · have k := zit h_ k
    refine z_aload_n dX8_leave_94 rfl rfl ?_
    refine z_aload_n dX8_leave_95 rfl rfl ?_
    refine z_getr (r := (gr M 97 62)) dX8_leave_96 fsX8_116_1 rfl ?_
    refine z_iload_n dX8_leave_99 rfl rfl ?_
    obtain ⟨b1, m1, e1_, k⟩ := k
    refine Z.eqs (lv' := [(0, vr (some (97, 1, 0))), (1, vi l1), (2, vi l2), (3, vi l3), (4, vi l4), (5, vi l5)]) (st' := [vi l1, vr (some (b1, 100, m1)), vr (some (97, 1, 0))]) rfl (by rw [e1_] <;> rfl) ?_
    obtain ⟨b_, k⟩ := k
    refine z_iald dX8_leave_100 b_ ?_
    refine Z.pick [0, 3, 4] rfl ?_
    exact z_callV (as := [vi (gi M b1 (l1).toNatClampNeg)]) (st := []) dX8_leave_101 vsX8_713_1 (Nat.le_refl _) (Nat.le_of_ble_eq_true rfl) (Nat.le_of_ble_eq_true rfl) rfl k
  · have k := zif h_ k
    refine z_aload_n dX8_leave_80 rfl rfl ?_
    refine z_iconst (v := 2) dX8_leave_81 rfl ?_
    refine z_iconst (v := -1) dX8_leave_82 rfl ?_
    refine z_iconst (v := 0) dX8_leave_83 rfl ?_
    refine z_iconst (v := 0) dX8_leave_84 rfl ?_
    exact z_callV (as := [vi (2 : Int32), vi (-1 : Int32), vi (0 : Int32), vi (0 : Int32)]) (st := []) dX8_leave_85 vsX8_723_1 (Nat.le_refl _) (Nat.le_of_ble_eq_true rfl) (Nat.le_of_ble_eq_true rfl) rfl k
theorem sX8_leave_88 {E : zE} {d : Nat} {Q : zO → zM → Prop} (M : zM) (l1 : Int32) (l2 : Int32) (l3 : Int32) (l4 : Int32) (l5 : Int32) (hw : tw M) (k : Z E YX8_leave (d + 1) M [(0, vr (some (97, 1, 0))), (1, vi l1), (2, vi l2), (3, vi l3), (4, vi l4), (5, vi (l5 + (1 : Int32)))] 74 [] Q) : Z E YX8_leave (d + 1) M [(0, vr (some (97, 1, 0))), (1, vi l1), (2, vi l2), (3, vi l3), (4, vi l4), (5, vi l5)] 88 [] Q := by
  refine z_inc (v := (l5 + (1 : Int32))) dX8_leave_88 rfl rfl (by decide) (lv' := [(0, vr (some (97, 1, 0))), (1, vi l1), (2, vi l2), (3, vi l3), (4, vi l4), (5, vi (l5 + (1 : Int32)))]) rfl ?_
  refine z_goto (tgt := 74) dX8_leave_91 rfl ?_
  exact k
theorem sX8_leave_104 {E : zE} {d : Nat} {Q : zO → zM → Prop} (M : zM) (l3 : Int32) (l4 : Int32) (hw : tw M) (k : Z E YX8_unwrap d M (zargs 0 [vr (some (97, 1, 0)), vi l3, vi l4]) 0 [] (zafter E YX8_leave (d + 1) [(0, vr (some (97, 1, 0)))] 108 3 [] Q)) : Z E YX8_leave (d + 1) M [(0, vr (some (97, 1, 0))), (3, vi l3), (4, vi l4)] 104 [] Q := by
  refine z_aload_n dX8_leave_104 rfl rfl ?_
  refine z_iload_n dX8_leave_105 rfl rfl ?_
  refine z_iload dX8_leave_106 rfl ?_
  refine Z.pick [0] rfl ?_
  exact z_callV (as := [vi l3, vi l4]) (st := []) dX8_leave_108 vsX8_726_1 (Nat.le_refl _) (Nat.le_of_ble_eq_true rfl) (Nat.le_of_ble_eq_true rfl) rfl k
theorem sX8_leave_111 {E : zE} {d : Nat} {Q : zO → zM → Prop} (M : zM)  (hw : tw M) (k : Q (.inl none) (si M 97 70 ((gi M 97 70) - (1 : Int32)))) : Z E YX8_leave (d + 1) M [(0, vr (some (97, 1, 0)))] 111 [] Q := by
  refine z_aload_n dX8_leave_111 rfl rfl ?_
  refine z_dup dX8_leave_112 rfl ?_
  refine z_geti dX8_leave_113 fsX8_741_1 ?_
  refine z_iconst (v := 1) dX8_leave_116 rfl ?_
  refine z_isub dX8_leave_117 ?_
  refine z_puti (by decide) dX8_leave_118 (zfwN.w fwX8_741_1) rfl ⟨rfl, rfl⟩ ?_
  exact z_vret dX8_leave_121 rfl k
/-! ScriptTypesModel.codeBack(I)V -/
theorem bX8_codeBack_0 : zdec cX8_codeBack 0 [(0, .iload_n 1, 1), (1, .iconst (-1), 1), (2, .if_icmp .ne 12, 3), (5, .aload_n 0, 1), (6, .iconst 0, 1), (7, .iconst 0, 1), (8, .invokevirtual 656, 3), (11, .goto 8, 3), (14, .aload_n 0, 1), (15, .iload_n 1, 1), (16, .invokevirtual 668, 3), (19, .iconst 1, 1), (20, .istore_n 2, 1), (21, .aload_n 0, 1), (22, .getfield 634, 3), (25, .istore_n 3, 1)] = true := by decide +kernel
theorem dX8_codeBack_0 : decode cX8_codeBack 0 = .ok (.iload_n 1, 1) := zdec_at bX8_codeBack_0 0 rfl
theorem dX8_codeBack_1 : decode cX8_codeBack 1 = .ok (.iconst (-1), 1) := zdec_at bX8_codeBack_0 1 rfl
theorem dX8_codeBack_2 : decode cX8_codeBack 2 = .ok (.if_icmp .ne 12, 3) := zdec_at bX8_codeBack_0 2 rfl
theorem dX8_codeBack_5 : decode cX8_codeBack 5 = .ok (.aload_n 0, 1) := zdec_at bX8_codeBack_0 3 rfl
theorem dX8_codeBack_6 : decode cX8_codeBack 6 = .ok (.iconst 0, 1) := zdec_at bX8_codeBack_0 4 rfl
theorem dX8_codeBack_7 : decode cX8_codeBack 7 = .ok (.iconst 0, 1) := zdec_at bX8_codeBack_0 5 rfl
theorem dX8_codeBack_8 : decode cX8_codeBack 8 = .ok (.invokevirtual 656, 3) := zdec_at bX8_codeBack_0 6 rfl
theorem dX8_codeBack_11 : decode cX8_codeBack 11 = .ok (.goto 8, 3) := zdec_at bX8_codeBack_0 7 rfl
theorem dX8_codeBack_14 : decode cX8_codeBack 14 = .ok (.aload_n 0, 1) := zdec_at bX8_codeBack_0 8 rfl
theorem dX8_codeBack_15 : decode cX8_codeBack 15 = .ok (.iload_n 1, 1) := zdec_at bX8_codeBack_0 9 rfl
theorem dX8_codeBack_16 : decode cX8_codeBack 16 = .ok (.invokevirtual 668, 3) := zdec_at bX8_codeBack_0 10 rfl
theorem dX8_codeBack_19 : decode cX8_codeBack 19 = .ok (.iconst 1, 1) := zdec_at bX8_codeBack_0 11 rfl
theorem dX8_codeBack_20 : decode cX8_codeBack 20 = .ok (.istore_n 2, 1) := zdec_at bX8_codeBack_0 12 rfl
theorem dX8_codeBack_21 : decode cX8_codeBack 21 = .ok (.aload_n 0, 1) := zdec_at bX8_codeBack_0 13 rfl
theorem dX8_codeBack_22 : decode cX8_codeBack 22 = .ok (.getfield 634, 3) := zdec_at bX8_codeBack_0 14 rfl
theorem dX8_codeBack_25 : decode cX8_codeBack 25 = .ok (.istore_n 3, 1) := zdec_at bX8_codeBack_0 15 rfl
theorem bX8_codeBack_26 : zdec cX8_codeBack 26 [(26, .iload_n 3, 1), (27, .iconst (-1), 1), (28, .if_icmp .eq 57, 3), (31, .aload_n 0, 1), (32, .getfield 113, 3), (35, .iload_n 3, 1), (36, .iaload, 1), (37, .iconst 1, 1), (38, .if_icmp .gt 9, 3), (41, .aload_n 0, 1), (42, .iload_n 3, 1), (43, .iload_n 2, 1), (44, .invokevirtual 744, 3), (47, .iload_n 2, 1), (48, .aload_n 0, 1), (49, .getfield 113, 3)] = true := by decide +kernel
theorem dX8_codeBack_26 : decode cX8_codeBack 26 = .ok (.iload_n 3, 1) := zdec_at bX8_codeBack_26 0 rfl
theorem dX8_codeBack_27 : decode cX8_codeBack 27 = .ok (.iconst (-1), 1) := zdec_at bX8_codeBack_26 1 rfl
theorem dX8_codeBack_28 : decode cX8_codeBack 28 = .ok (.if_icmp .eq 57, 3) := zdec_at bX8_codeBack_26 2 rfl
theorem dX8_codeBack_31 : decode cX8_codeBack 31 = .ok (.aload_n 0, 1) := zdec_at bX8_codeBack_26 3 rfl
theorem dX8_codeBack_32 : decode cX8_codeBack 32 = .ok (.getfield 113, 3) := zdec_at bX8_codeBack_26 4 rfl
theorem dX8_codeBack_35 : decode cX8_codeBack 35 = .ok (.iload_n 3, 1) := zdec_at bX8_codeBack_26 5 rfl
theorem dX8_codeBack_36 : decode cX8_codeBack 36 = .ok (.iaload, 1) := zdec_at bX8_codeBack_26 6 rfl
theorem dX8_codeBack_37 : decode cX8_codeBack 37 = .ok (.iconst 1, 1) := zdec_at bX8_codeBack_26 7 rfl
theorem dX8_codeBack_38 : decode cX8_codeBack 38 = .ok (.if_icmp .gt 9, 3) := zdec_at bX8_codeBack_26 8 rfl
theorem dX8_codeBack_41 : decode cX8_codeBack 41 = .ok (.aload_n 0, 1) := zdec_at bX8_codeBack_26 9 rfl
theorem dX8_codeBack_42 : decode cX8_codeBack 42 = .ok (.iload_n 3, 1) := zdec_at bX8_codeBack_26 10 rfl
theorem dX8_codeBack_43 : decode cX8_codeBack 43 = .ok (.iload_n 2, 1) := zdec_at bX8_codeBack_26 11 rfl
theorem dX8_codeBack_44 : decode cX8_codeBack 44 = .ok (.invokevirtual 744, 3) := zdec_at bX8_codeBack_26 12 rfl
theorem dX8_codeBack_47 : decode cX8_codeBack 47 = .ok (.iload_n 2, 1) := zdec_at bX8_codeBack_26 13 rfl
theorem dX8_codeBack_48 : decode cX8_codeBack 48 = .ok (.aload_n 0, 1) := zdec_at bX8_codeBack_26 14 rfl
theorem dX8_codeBack_49 : decode cX8_codeBack 49 = .ok (.getfield 113, 3) := zdec_at bX8_codeBack_26 15 rfl
theorem bX8_codeBack_52 : zdec cX8_codeBack 52 [(52, .iload_n 3, 1), (53, .iaload, 1), (54, .iconst 2, 1), (55, .if_icmp .eq 13, 3), (58, .aload_n 0, 1), (59, .getfield 113, 3), (62, .iload_n 3, 1), (63, .iaload, 1), (64, .iconst 4, 1), (65, .if_icmp .ne 7, 3), (68, .iconst 1, 1), (69, .goto 4, 3), (72, .iconst 0, 1), (73, .iadd, 1), (74, .istore_n 2, 1), (75, .aload_n 0, 1)] = true := by decide +kernel
theorem dX8_codeBack_52 : decode cX8_codeBack 52 = .ok (.iload_n 3, 1) := zdec_at bX8_codeBack_52 0 rfl
theorem dX8_codeBack_53 : decode cX8_codeBack 53 = .ok (.iaload, 1) := zdec_at bX8_codeBack_52 1 rfl
theorem dX8_codeBack_54 : decode cX8_codeBack 54 = .ok (.iconst 2, 1) := zdec_at bX8_codeBack_52 2 rfl
theorem dX8_codeBack_55 : decode cX8_codeBack 55 = .ok (.if_icmp .eq 13, 3) := zdec_at bX8_codeBack_52 3 rfl
theorem dX8_codeBack_58 : decode cX8_codeBack 58 = .ok (.aload_n 0, 1) := zdec_at bX8_codeBack_52 4 rfl
theorem dX8_codeBack_59 : decode cX8_codeBack 59 = .ok (.getfield 113, 3) := zdec_at bX8_codeBack_52 5 rfl
theorem dX8_codeBack_62 : decode cX8_codeBack 62 = .ok (.iload_n 3, 1) := zdec_at bX8_codeBack_52 6 rfl
theorem dX8_codeBack_63 : decode cX8_codeBack 63 = .ok (.iaload, 1) := zdec_at bX8_codeBack_52 7 rfl
theorem dX8_codeBack_64 : decode cX8_codeBack 64 = .ok (.iconst 4, 1) := zdec_at bX8_codeBack_52 8 rfl
theorem dX8_codeBack_65 : decode cX8_codeBack 65 = .ok (.if_icmp .ne 7, 3) := zdec_at bX8_codeBack_52 9 rfl
theorem dX8_codeBack_68 : decode cX8_codeBack 68 = .ok (.iconst 1, 1) := zdec_at bX8_codeBack_52 10 rfl
theorem dX8_codeBack_69 : decode cX8_codeBack 69 = .ok (.goto 4, 3) := zdec_at bX8_codeBack_52 11 rfl
theorem dX8_codeBack_72 : decode cX8_codeBack 72 = .ok (.iconst 0, 1) := zdec_at bX8_codeBack_52 12 rfl
theorem dX8_codeBack_73 : decode cX8_codeBack 73 = .ok (.iadd, 1) := zdec_at bX8_codeBack_52 13 rfl
theorem dX8_codeBack_74 : decode cX8_codeBack 74 = .ok (.istore_n 2, 1) := zdec_at bX8_codeBack_52 14 rfl
theorem dX8_codeBack_75 : decode cX8_codeBack 75 = .ok (.aload_n 0, 1) := zdec_at bX8_codeBack_52 15 rfl
theorem bX8_codeBack_76 : zdec cX8_codeBack 76 [(76, .getfield 125, 3), (79, .iload_n 3, 1), (80, .iaload, 1), (81, .istore_n 3, 1), (82, .goto (-56), 3), (85, .aload_n 0, 1), (86, .bipush 25, 2), (88, .invokevirtual 666, 3), (91, .return_, 1)] = true := by decide +kernel
theorem dX8_codeBack_76 : decode cX8_codeBack 76 = .ok (.getfield 125, 3) := zdec_at bX8_codeBack_76 0 rfl
theorem dX8_codeBack_79 : decode cX8_codeBack 79 = .ok (.iload_n 3, 1) := zdec_at bX8_codeBack_76 1 rfl
theorem dX8_codeBack_80 : decode cX8_codeBack 80 = .ok (.iaload, 1) := zdec_at bX8_codeBack_76 2 rfl
theorem dX8_codeBack_81 : decode cX8_codeBack 81 = .ok (.istore_n 3, 1) := zdec_at bX8_codeBack_76 3 rfl
theorem dX8_codeBack_82 : decode cX8_codeBack 82 = .ok (.goto (-56), 3) := zdec_at bX8_codeBack_76 4 rfl
theorem dX8_codeBack_85 : decode cX8_codeBack 85 = .ok (.aload_n 0, 1) := zdec_at bX8_codeBack_76 5 rfl
theorem dX8_codeBack_86 : decode cX8_codeBack 86 = .ok (.bipush 25, 2) := zdec_at bX8_codeBack_76 6 rfl
theorem dX8_codeBack_88 : decode cX8_codeBack 88 = .ok (.invokevirtual 666, 3) := zdec_at bX8_codeBack_76 7 rfl
theorem dX8_codeBack_91 : decode cX8_codeBack 91 = .ok (.return_, 1) := zdec_at bX8_codeBack_76 8 rfl
theorem sX8_codeBack_0 {E : zE} {d : Nat} {Q : zO → zM → Prop} (M : zM) (l1 : Int32) (hw : tw M) (k : if l1 = (-1 : Int32) then (Z E YX8_constant d M (zargs 0 [vr (some (97, 1, 0)), vi (0 : Int32), vi (0 : Int32)]) 0 [] (zafter E YX8_codeBack (d + 1) [(0, vr (some (97, 1, 0)))] 8 3 [] Q)) else (Z E YX8_value d M (zargs 0 [vr (some (97, 1, 0)), vi l1]) 0 [] (zafter E YX8_codeBack (d + 1) [(0, vr (some (97, 1, 0)))] 16 3 [] Q))) : Z E YX8_codeBack (d + 1) M [(0, vr (some (97, 1, 0))), (1, vi l1)] 0 [] Q := by
  refine z_iload_n dX8_codeBack_0 rfl rfl ?_
  refine z_iconst (v := -1) dX8_codeBack_1 rfl ?_
  refine z_icmp_ne (tgt := 14) dX8_codeBack_2 rfl (fun h_ => ?_) (fun h_ => ?_)
  · have k := zif h_ k
    refine z_aload_n dX8_codeBack_14 rfl rfl ?_
    refine z_iload_n dX8_codeBack_15 rfl rfl ?_
    refine Z.pick [0] rfl ?_
    exact z_callV (as := [vi l1]) (st := []) dX8_codeBack_16 vsX8_668_1 (Nat.le_refl _) (Nat.le_of_ble_eq_true rfl) (Nat.le_of_ble_eq_true rfl) rfl k
  · have k := zit h_ k
    refine z_aload_n dX8_codeBack_5 rfl rfl ?_
    refine z_iconst (v := 0) dX8_codeBack_6 rfl ?_
    refine z_iconst (v := 0) dX8_codeBack_7 rfl ?_
    refine Z.pick [0] rfl ?_
    exact z_callV (as := [vi (0 : Int32), vi (0 : Int32)]) (st := []) dX8_codeBack_8 vsX8_656_1 (Nat.le_refl _) (Nat.le_of_ble_eq_true rfl) (Nat.le_of_ble_eq_true rfl) rfl k
theorem sX8_codeBack_11 {E : zE} {d : Nat} {Q : zO → zM → Prop} (M : zM)  (hw : tw M) (k : Z E YX8_codeBack (d + 1) M [(0, vr (some (97, 1, 0)))] 19 [] Q) : Z E YX8_codeBack (d + 1) M [(0, vr (some (97, 1, 0)))] 11 [] Q := by
  refine z_goto (tgt := 19) dX8_codeBack_11 rfl ?_
  exact k
theorem sX8_codeBack_19 {E : zE} {d : Nat} {Q : zO → zM → Prop} (M : zM)  (hw : tw M) (k : Z E YX8_codeBack (d + 1) M [(0, vr (some (97, 1, 0))), (2, vi (1 : Int32)), (3, vi (gi M 97 60))] 26 [] Q) : Z E YX8_codeBack (d + 1) M [(0, vr (some (97, 1, 0)))] 19 [] Q := by
  refine z_iconst (v := 1) dX8_codeBack_19 rfl ?_
  refine z_ist_n dX8_codeBack_20 rfl (by decide) (lv' := [(0, vr (some (97, 1, 0))), (2, vi (1 : Int32))]) rfl ?_
  refine z_aload_n dX8_codeBack_21 rfl rfl ?_
  refine z_geti dX8_codeBack_22 fsX8_634_1 ?_
  refine z_ist_n dX8_codeBack_25 rfl (by decide) (lv' := [(0, vr (some (97, 1, 0))), (2, vi (1 : Int32)), (3, vi (gi M 97 60))]) rfl ?_
  exact k
theorem sX8_codeBack_26 {E : zE} {d : Nat} {Q : zO → zM → Prop} (M : zM) (l2 : Int32) (l3 : Int32) (hw : tw M) (k : if l3 = (-1 : Int32) then (Z E YX8_emit_2 d M (zargs 0 [vr (some (97, 1, 0)), vi (25 : Int32)]) 0 [] (zafter E YX8_codeBack (d + 1) [] 88 3 [] Q)) else (∃ b1 m1 : Nat, (gr M 97 61) = some (b1, 100, m1) ∧ (vp_in l3 m1 ∧ (if (1 : Int32) < (gi M b1 (l3).toNatClampNeg) then (Z E YX8_codeBack (d + 1) M [(0, vr (some (97, 1, 0))), (2, vi l2), (3, vi l3)] 47 [] Q) else (Z E YX8_leave d M (zargs 0 [vr (some (97, 1, 0)), vi l3, vi l2]) 0 [] (zafter E YX8_codeBack (d + 1) [(0, vr (some (97, 1, 0))), (2, vi l2), (3, vi l3)] 44 3 [] Q)))))) : Z E YX8_codeBack (d + 1) M [(0, vr (some (97, 1, 0))), (2, vi l2), (3, vi l3)] 26 [] Q := by
  refine z_iload_n dX8_codeBack_26 rfl rfl ?_
  refine z_iconst (v := -1) dX8_codeBack_27 rfl ?_
  refine z_icmp_eq (tgt := 85) dX8_codeBack_28 rfl (fun h_ => ?_) (fun h_ => ?_)
  · have k := zit h_ k
    refine z_aload_n dX8_codeBack_85 rfl rfl ?_
    refine z_bipush (v := 25) dX8_codeBack_86 rfl ?_
    refine Z.pick [] rfl ?_
    exact z_callV (as := [vi (25 : Int32)]) (st := []) dX8_codeBack_88 vsX8_666_1 (Nat.le_refl _) (Nat.le_of_ble_eq_true rfl) (Nat.le_of_ble_eq_true rfl) rfl k
  · have k := zif h_ k
    refine z_aload_n dX8_codeBack_31 rfl rfl ?_
    refine z_getr (r := (gr M 97 61)) dX8_codeBack_32 fsX8_113_1 rfl ?_
    refine z_iload_n dX8_codeBack_35 rfl rfl ?_
    obtain ⟨b1, m1, e1_, k⟩ := k
    refine Z.eqs (lv' := [(0, vr (some (97, 1, 0))), (2, vi l2), (3, vi l3)]) (st' := [vi l3, vr (some (b1, 100, m1))]) rfl (by rw [e1_] <;> rfl) ?_
    obtain ⟨b_, k⟩ := k
    refine z_iald dX8_codeBack_36 b_ ?_
    refine z_iconst (v := 1) dX8_codeBack_37 rfl ?_
    refine z_icmp_gt (tgt := 47) dX8_codeBack_38 rfl (fun h_ => ?_) (fun h_ => ?_)
    · have k := zit h_ k
      exact k
    · have k := zif h_ k
      refine z_aload_n dX8_codeBack_41 rfl rfl ?_
      refine z_iload_n dX8_codeBack_42 rfl rfl ?_
      refine z_iload_n dX8_codeBack_43 rfl rfl ?_
      exact z_callV (as := [vi l3, vi l2]) (st := []) dX8_codeBack_44 vsX8_744_1 (Nat.le_refl _) (Nat.le_of_ble_eq_true rfl) (Nat.le_of_ble_eq_true rfl) rfl k
theorem sX8_codeBack_47 {E : zE} {d : Nat} {Q : zO → zM → Prop} (M : zM) (l2 : Int32) (l3 : Int32) (hw : tw M) (k : ∃ b1 m1 : Nat, (gr M 97 61) = some (b1, 100, m1) ∧ (vp_in l3 m1 ∧ (if (gi M b1 (l3).toNatClampNeg) = (2 : Int32) then (Z E YX8_codeBack (d + 1) M [(0, vr (some (97, 1, 0))), (3, vi l3)] 73 [vi (1 : Int32), vi l2] Q) else (∃ b2 m2 : Nat, (gr M 97 61) = some (b2, 100, m2) ∧ (vp_in l3 m2 ∧ (if (gi M b2 (l3).toNatClampNeg) = (4 : Int32) then (Z E YX8_codeBack (d + 1) M [(0, vr (some (97, 1, 0))), (3, vi l3)] 73 [vi (1 : Int32), vi l2] Q) else (Z E YX8_codeBack (d + 1) M [(0, vr (some (97, 1, 0))), (3, vi l3)] 73 [vi (0 : Int32), vi l2] Q))))))) : Z E YX8_codeBack (d + 1) M [(0, vr (some (97, 1, 0))), (2, vi l2), (3, vi l3)] 47 [] Q := by
  refine z_iload_n dX8_codeBack_47 rfl rfl ?_
  refine z_aload_n dX8_codeBack_48 rfl rfl ?_
  refine z_getr (r := (gr M 97 61)) dX8_codeBack_49 fsX8_113_1 rfl ?_
  refine z_iload_n dX8_codeBack_52 rfl rfl ?_
  obtain ⟨b1, m1, e1_, k⟩ := k
  refine Z.eqs (lv' := [(0, vr (some (97, 1, 0))), (2, vi l2), (3, vi l3)]) (st' := [vi l3, vr (some (b1, 100, m1)), vi l2]) rfl (by rw [e1_] <;> rfl) ?_
  obtain ⟨b_, k⟩ := k
  refine z_iald dX8_codeBack_53 b_ ?_
  refine z_iconst (v := 2) dX8_codeBack_54 rfl ?_
  refine z_icmp_eq (tgt := 68) dX8_codeBack_55 rfl (fun h_ => ?_) (fun h_ => ?_)
  · have k := zit h_ k
    refine z_iconst (v := 1) dX8_codeBack_68 rfl ?_
    refine z_goto (tgt := 73) dX8_codeBack_69 rfl ?_
    refine Z.pick [0, 2] rfl ?_
    exact k
  · have k := zif h_ k
    refine z_aload_n dX8_codeBack_58 rfl rfl ?_
    refine z_getr (r := (gr M 97 61)) dX8_codeBack_59 fsX8_113_1 rfl ?_
    refine z_iload_n dX8_codeBack_62 rfl rfl ?_
    obtain ⟨b2, m2, e2_, k⟩ := k
    refine Z.eqs (lv' := [(0, vr (some (97, 1, 0))), (2, vi l2), (3, vi l3)]) (st' := [vi l3, vr (some (b2, 100, m2)), vi l2]) rfl (by rw [e2_] <;> rfl) ?_
    obtain ⟨b_, k⟩ := k
    refine z_iald dX8_codeBack_63 b_ ?_
    refine z_iconst (v := 4) dX8_codeBack_64 rfl ?_
    refine z_icmp_ne (tgt := 72) dX8_codeBack_65 rfl (fun h_ => ?_) (fun h_ => ?_)
    · have k := zif h_ k
      refine z_iconst (v := 0) dX8_codeBack_72 rfl ?_
      refine Z.pick [0, 2] rfl ?_
      exact k
    · have k := zit h_ k
      refine z_iconst (v := 1) dX8_codeBack_68 rfl ?_
      refine z_goto (tgt := 73) dX8_codeBack_69 rfl ?_
      refine Z.pick [0, 2] rfl ?_
      exact k
theorem sX8_codeBack_73 {E : zE} {d : Nat} {Q : zO → zM → Prop} (M : zM) (l3 : Int32) (s0 : Int32) (s1 : Int32) (hw : tw M) (k : ∃ b1 m1 : Nat, (gr M 97 65) = some (b1, 100, m1) ∧ (vp_in l3 m1 ∧ (Z E YX8_codeBack (d + 1) M [(0, vr (some (97, 1, 0))), (2, vi (s1 + s0)), (3, vi (gi M b1 (l3).toNatClampNeg))] 26 [] Q))) : Z E YX8_codeBack (d + 1) M [(0, vr (some (97, 1, 0))), (3, vi l3)] 73 [vi s0, vi s1] Q := by
  refine z_iadd dX8_codeBack_73 ?_
  refine z_ist_n dX8_codeBack_74 rfl (by decide) (lv' := [(0, vr (some (97, 1, 0))), (2, vi (s1 + s0)), (3, vi l3)]) rfl ?_
  refine z_aload_n dX8_codeBack_75 rfl rfl ?_
  refine z_getr (r := (gr M 97 65)) dX8_codeBack_76 fsX8_125_1 rfl ?_
  refine z_iload_n dX8_codeBack_79 rfl rfl ?_
  obtain ⟨b1, m1, e1_, k⟩ := k
  refine Z.eqs (lv' := [(0, vr (some (97, 1, 0))), (2, vi (s1 + s0)), (3, vi l3)]) (st' := [vi l3, vr (some (b1, 100, m1))]) rfl (by rw [e1_] <;> rfl) ?_
  obtain ⟨b_, k⟩ := k
  refine z_iald dX8_codeBack_80 b_ ?_
  refine z_ist_n dX8_codeBack_81 rfl (by decide) (lv' := [(0, vr (some (97, 1, 0))), (2, vi (s1 + s0)), (3, vi (gi M b1 (l3).toNatClampNeg))]) rfl ?_
  refine z_goto (tgt := 26) dX8_codeBack_82 rfl ?_
  exact k
theorem sX8_codeBack_91 {E : zE} {d : Nat} {Q : zO → zM → Prop} (M : zM)  (hw : tw M) (k : Q (.inl none) M) : Z E YX8_codeBack (d + 1) M [] 91 [] Q := by
  exact z_vret dX8_codeBack_91 rfl k
