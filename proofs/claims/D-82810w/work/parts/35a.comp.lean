/-! ScriptTypes$Coder.<init>()V -/
theorem bX3_init_0 : zdec cX3_init 0 [(0, .aload_n 0, 1), (1, .invokespecial 3, 3), (4, .aload_n 0, 1), (5, .sipush 600, 3), (8, .newarray .byte, 2), (10, .putfield 9, 3), (13, .aload_n 0, 1), (14, .sipush 600, 3), (17, .newarray .short, 2), (19, .putfield 15, 3), (22, .aload_n 0, 1), (23, .sipush 600, 3), (26, .newarray .short, 2), (28, .putfield 19, 3), (31, .aload_n 0, 1), (32, .sipush 600, 3)] = true := by decide +kernel
theorem dX3_init_0 : decode cX3_init 0 = .ok (.aload_n 0, 1) := zdec_at bX3_init_0 0 rfl
theorem dX3_init_1 : decode cX3_init 1 = .ok (.invokespecial 3, 3) := zdec_at bX3_init_0 1 rfl
theorem dX3_init_4 : decode cX3_init 4 = .ok (.aload_n 0, 1) := zdec_at bX3_init_0 2 rfl
theorem dX3_init_5 : decode cX3_init 5 = .ok (.sipush 600, 3) := zdec_at bX3_init_0 3 rfl
theorem dX3_init_8 : decode cX3_init 8 = .ok (.newarray .byte, 2) := zdec_at bX3_init_0 4 rfl
theorem dX3_init_10 : decode cX3_init 10 = .ok (.putfield 9, 3) := zdec_at bX3_init_0 5 rfl
theorem dX3_init_13 : decode cX3_init 13 = .ok (.aload_n 0, 1) := zdec_at bX3_init_0 6 rfl
theorem dX3_init_14 : decode cX3_init 14 = .ok (.sipush 600, 3) := zdec_at bX3_init_0 7 rfl
theorem dX3_init_17 : decode cX3_init 17 = .ok (.newarray .short, 2) := zdec_at bX3_init_0 8 rfl
theorem dX3_init_19 : decode cX3_init 19 = .ok (.putfield 15, 3) := zdec_at bX3_init_0 9 rfl
theorem dX3_init_22 : decode cX3_init 22 = .ok (.aload_n 0, 1) := zdec_at bX3_init_0 10 rfl
theorem dX3_init_23 : decode cX3_init 23 = .ok (.sipush 600, 3) := zdec_at bX3_init_0 11 rfl
theorem dX3_init_26 : decode cX3_init 26 = .ok (.newarray .short, 2) := zdec_at bX3_init_0 12 rfl
theorem dX3_init_28 : decode cX3_init 28 = .ok (.putfield 19, 3) := zdec_at bX3_init_0 13 rfl
theorem dX3_init_31 : decode cX3_init 31 = .ok (.aload_n 0, 1) := zdec_at bX3_init_0 14 rfl
theorem dX3_init_32 : decode cX3_init 32 = .ok (.sipush 600, 3) := zdec_at bX3_init_0 15 rfl
theorem bX3_init_35 : zdec cX3_init 35 [(35, .newarray .short, 2), (37, .putfield 22, 3), (40, .aload_n 0, 1), (41, .sipush 600, 3), (44, .newarray .int, 2), (46, .putfield 25, 3), (49, .aload_n 0, 1), (50, .sipush 600, 3), (53, .newarray .byte, 2), (55, .putfield 29, 3), (58, .aload_n 0, 1), (59, .bipush 20, 2), (61, .newarray .int, 2), (63, .putfield 32, 3), (66, .aload_n 0, 1), (67, .new 35, 3)] = true := by decide +kernel
theorem dX3_init_35 : decode cX3_init 35 = .ok (.newarray .short, 2) := zdec_at bX3_init_35 0 rfl
theorem dX3_init_37 : decode cX3_init 37 = .ok (.putfield 22, 3) := zdec_at bX3_init_35 1 rfl
theorem dX3_init_40 : decode cX3_init 40 = .ok (.aload_n 0, 1) := zdec_at bX3_init_35 2 rfl
theorem dX3_init_41 : decode cX3_init 41 = .ok (.sipush 600, 3) := zdec_at bX3_init_35 3 rfl
theorem dX3_init_44 : decode cX3_init 44 = .ok (.newarray .int, 2) := zdec_at bX3_init_35 4 rfl
theorem dX3_init_46 : decode cX3_init 46 = .ok (.putfield 25, 3) := zdec_at bX3_init_35 5 rfl
theorem dX3_init_49 : decode cX3_init 49 = .ok (.aload_n 0, 1) := zdec_at bX3_init_35 6 rfl
theorem dX3_init_50 : decode cX3_init 50 = .ok (.sipush 600, 3) := zdec_at bX3_init_35 7 rfl
theorem dX3_init_53 : decode cX3_init 53 = .ok (.newarray .byte, 2) := zdec_at bX3_init_35 8 rfl
theorem dX3_init_55 : decode cX3_init 55 = .ok (.putfield 29, 3) := zdec_at bX3_init_35 9 rfl
theorem dX3_init_58 : decode cX3_init 58 = .ok (.aload_n 0, 1) := zdec_at bX3_init_35 10 rfl
theorem dX3_init_59 : decode cX3_init 59 = .ok (.bipush 20, 2) := zdec_at bX3_init_35 11 rfl
theorem dX3_init_61 : decode cX3_init 61 = .ok (.newarray .int, 2) := zdec_at bX3_init_35 12 rfl
theorem dX3_init_63 : decode cX3_init 63 = .ok (.putfield 32, 3) := zdec_at bX3_init_35 13 rfl
theorem dX3_init_66 : decode cX3_init 66 = .ok (.aload_n 0, 1) := zdec_at bX3_init_35 14 rfl
theorem dX3_init_67 : decode cX3_init 67 = .ok (.new 35, 3) := zdec_at bX3_init_35 15 rfl
theorem bX3_init_70 : zdec cX3_init 70 [(70, .dup, 1), (71, .invokespecial 37, 3), (74, .putfield 38, 3), (77, .return_, 1)] = true := by decide +kernel
theorem dX3_init_70 : decode cX3_init 70 = .ok (.dup, 1) := zdec_at bX3_init_70 0 rfl
theorem dX3_init_71 : decode cX3_init 71 = .ok (.invokespecial 37, 3) := zdec_at bX3_init_70 1 rfl
theorem dX3_init_74 : decode cX3_init 74 = .ok (.putfield 38, 3) := zdec_at bX3_init_70 2 rfl
theorem dX3_init_77 : decode cX3_init 77 = .ok (.return_, 1) := zdec_at bX3_init_70 3 rfl
theorem sX3_init_0 {E : zE} {d : Nat} {Q : zO → zM → Prop} (M : zM) (a0 : Nat) (k : Z E YX3_init (d + 1) (zn M 600) [(0, vr (some (a0, 3, 0)))] 10 [vr (some ((zsz M), 101, 600)), vr (some (a0, 3, 0))] Q) : Z E YX3_init (d + 1) M [(0, vr (some (a0, 3, 0)))] 0 [] Q := by
  refine z_aload_n dX3_init_0 rfl rfl ?_
  refine z_objInit dX3_init_1 oiX3_3 (by omega) (by decide) ?_
  refine z_aload_n dX3_init_4 rfl rfl ?_
  refine z_sipush (v := 600) dX3_init_5 rfl ?_
  refine z_newa (q := 1) (N := 600) dX3_init_8 rfl (by decide) q536 (by decide) (by decide) (by decide) ?_
  exact k
theorem sX3_init_10 {E : zE} {d : Nat} {Q : zO → zM → Prop} (M : zM) (a0 : Nat) (p0 : Nat) (k : 16 ≤ a0 ∧ (Z E YX3_init (d + 1) (zn (sr M a0 0 (some (p0, 101, 600))) 600) [(0, vr (some (a0, 3, 0)))] 19 [vr (some ((zsz M), 102, 600)), vr (some (a0, 3, 0))] Q)) : Z E YX3_init (d + 1) M [(0, vr (some (a0, 3, 0)))] 10 [vr (some (p0, 101, 600)), vr (some (a0, 3, 0))] Q := by
  obtain ⟨g_, k⟩ := k
  refine z_putr g_ dX3_init_10 (zfwN.f fwX3_9_3 rfl (fun q h => by rw [← Option.some.inj h]; rfl)) rfl ?_
  refine z_aload_n dX3_init_13 rfl rfl ?_
  refine z_sipush (v := 600) dX3_init_14 rfl ?_
  refine z_newa (q := 2) (N := 600) dX3_init_17 rfl (by decide) q621 (by decide) (by decide) (by decide) ?_
  exact k
theorem sX3_init_19 {E : zE} {d : Nat} {Q : zO → zM → Prop} (M : zM) (a0 : Nat) (p0 : Nat) (k : 16 ≤ a0 ∧ (Z E YX3_init (d + 1) (zn (sr M a0 1 (some (p0, 102, 600))) 600) [(0, vr (some (a0, 3, 0)))] 28 [vr (some ((zsz M), 102, 600)), vr (some (a0, 3, 0))] Q)) : Z E YX3_init (d + 1) M [(0, vr (some (a0, 3, 0)))] 19 [vr (some (p0, 102, 600)), vr (some (a0, 3, 0))] Q := by
  obtain ⟨g_, k⟩ := k
  refine z_putr g_ dX3_init_19 (zfwN.f fwX3_15_3 rfl (fun q h => by rw [← Option.some.inj h]; rfl)) rfl ?_
  refine z_aload_n dX3_init_22 rfl rfl ?_
  refine z_sipush (v := 600) dX3_init_23 rfl ?_
  refine z_newa (q := 2) (N := 600) dX3_init_26 rfl (by decide) q621 (by decide) (by decide) (by decide) ?_
  exact k
theorem sX3_init_28 {E : zE} {d : Nat} {Q : zO → zM → Prop} (M : zM) (a0 : Nat) (p0 : Nat) (k : 16 ≤ a0 ∧ (Z E YX3_init (d + 1) (zn (sr M a0 2 (some (p0, 102, 600))) 600) [(0, vr (some (a0, 3, 0)))] 37 [vr (some ((zsz M), 102, 600)), vr (some (a0, 3, 0))] Q)) : Z E YX3_init (d + 1) M [(0, vr (some (a0, 3, 0)))] 28 [vr (some (p0, 102, 600)), vr (some (a0, 3, 0))] Q := by
  obtain ⟨g_, k⟩ := k
  refine z_putr g_ dX3_init_28 (zfwN.f fwX3_19_3 rfl (fun q h => by rw [← Option.some.inj h]; rfl)) rfl ?_
  refine z_aload_n dX3_init_31 rfl rfl ?_
  refine z_sipush (v := 600) dX3_init_32 rfl ?_
  refine z_newa (q := 2) (N := 600) dX3_init_35 rfl (by decide) q621 (by decide) (by decide) (by decide) ?_
  exact k
theorem sX3_init_37 {E : zE} {d : Nat} {Q : zO → zM → Prop} (M : zM) (a0 : Nat) (p0 : Nat) (k : 16 ≤ a0 ∧ (Z E YX3_init (d + 1) (zn (sr M a0 3 (some (p0, 102, 600))) 600) [(0, vr (some (a0, 3, 0)))] 46 [vr (some ((zsz M), 100, 600)), vr (some (a0, 3, 0))] Q)) : Z E YX3_init (d + 1) M [(0, vr (some (a0, 3, 0)))] 37 [vr (some (p0, 102, 600)), vr (some (a0, 3, 0))] Q := by
  obtain ⟨g_, k⟩ := k
  refine z_putr g_ dX3_init_37 (zfwN.f fwX3_22_3 rfl (fun q h => by rw [← Option.some.inj h]; rfl)) rfl ?_
  refine z_aload_n dX3_init_40 rfl rfl ?_
  refine z_sipush (v := 600) dX3_init_41 rfl ?_
  refine z_newa (q := 0) (N := 600) dX3_init_44 rfl (by decide) q535 (by decide) (by decide) (by decide) ?_
  exact k
theorem sX3_init_46 {E : zE} {d : Nat} {Q : zO → zM → Prop} (M : zM) (a0 : Nat) (p0 : Nat) (k : 16 ≤ a0 ∧ (Z E YX3_init (d + 1) (zn (sr M a0 4 (some (p0, 100, 600))) 600) [(0, vr (some (a0, 3, 0)))] 55 [vr (some ((zsz M), 101, 600)), vr (some (a0, 3, 0))] Q)) : Z E YX3_init (d + 1) M [(0, vr (some (a0, 3, 0)))] 46 [vr (some (p0, 100, 600)), vr (some (a0, 3, 0))] Q := by
  obtain ⟨g_, k⟩ := k
  refine z_putr g_ dX3_init_46 (zfwN.f fwX3_25_3 rfl (fun q h => by rw [← Option.some.inj h]; rfl)) rfl ?_
  refine z_aload_n dX3_init_49 rfl rfl ?_
  refine z_sipush (v := 600) dX3_init_50 rfl ?_
  refine z_newa (q := 1) (N := 600) dX3_init_53 rfl (by decide) q536 (by decide) (by decide) (by decide) ?_
  exact k
theorem sX3_init_55 {E : zE} {d : Nat} {Q : zO → zM → Prop} (M : zM) (a0 : Nat) (p0 : Nat) (k : 16 ≤ a0 ∧ (Z E YX3_init (d + 1) (zn (sr M a0 5 (some (p0, 101, 600))) 20) [(0, vr (some (a0, 3, 0)))] 63 [vr (some ((zsz M), 100, 20)), vr (some (a0, 3, 0))] Q)) : Z E YX3_init (d + 1) M [(0, vr (some (a0, 3, 0)))] 55 [vr (some (p0, 101, 600)), vr (some (a0, 3, 0))] Q := by
  obtain ⟨g_, k⟩ := k
  refine z_putr g_ dX3_init_55 (zfwN.f fwX3_29_3 rfl (fun q h => by rw [← Option.some.inj h]; rfl)) rfl ?_
  refine z_aload_n dX3_init_58 rfl rfl ?_
  refine z_bipush (v := 20) dX3_init_59 rfl ?_
  refine z_newa (q := 0) (N := 20) dX3_init_61 rfl (by decide) q535 (by decide) (by decide) (by decide) ?_
  exact k
theorem sX3_init_63 {E : zE} {d : Nat} {Q : zO → zM → Prop} (M : zM) (a0 : Nat) (p0 : Nat) (k : 16 ≤ a0 ∧ (Z E YX3_init (d + 1) (zn (sr M a0 6 (some (p0, 100, 20))) 3) [] 70 [vr (some ((zsz M), 11, 0)), vr (some (a0, 3, 0))] Q)) : Z E YX3_init (d + 1) M [(0, vr (some (a0, 3, 0)))] 63 [vr (some (p0, 100, 20)), vr (some (a0, 3, 0))] Q := by
  obtain ⟨g_, k⟩ := k
  refine z_putr g_ dX3_init_63 (zfwN.f fwX3_32_3 rfl (fun q h => by rw [← Option.some.inj h]; rfl)) rfl ?_
  refine z_aload_n dX3_init_66 rfl rfl ?_
  refine z_new dX3_init_67 csX3_35 zff_11 ?_
  refine Z.pick [] rfl ?_
  exact k
theorem sX3_init_70 {E : zE} {d : Nat} {Q : zO → zM → Prop} (M : zM) (p0 : Nat) (a0 : Nat) (k : Z E YJ2_init d M (zargs 0 [vr (some (p0, 11, 0))]) 0 [] (zafter E YX3_init (d + 1) [] 71 3 [vr (some (p0, 11, 0)), vr (some (a0, 3, 0))] Q)) : Z E YX3_init (d + 1) M [] 70 [vr (some (p0, 11, 0)), vr (some (a0, 3, 0))] Q := by
  refine z_dup dX3_init_70 rfl ?_
  exact z_callI (as := []) (st := [vr (some (p0, 11, 0)), vr (some (a0, 3, 0))]) dX3_init_71 isX3_37 (Nat.le_refl _) (Nat.le_of_ble_eq_true rfl) (Nat.le_of_ble_eq_true rfl) rfl k
theorem sX3_init_74 {E : zE} {d : Nat} {Q : zO → zM → Prop} (M : zM) (p0 : Nat) (a0 : Nat) (k : 16 ≤ a0 ∧ (Q (.inl none) (sr M a0 10 (some (p0, 11, 0))))) : Z E YX3_init (d + 1) M [] 74 [vr (some (p0, 11, 0)), vr (some (a0, 3, 0))] Q := by
  obtain ⟨g_, k⟩ := k
  refine z_putr g_ dX3_init_74 (zfwN.f fwX3_38_3 rfl (fun q h => by rw [← Option.some.inj h]; rfl)) rfl ?_
  exact z_vret dX3_init_77 rfl k
/-! ScriptTypes$Coder.code(LScriptTypes$Code;)V -/
theorem bX3_code_0 : zdec cX3_code 0 [(0, .aload_n 0, 1), (1, .aload_n 1, 1), (2, .putfield 71, 3), (5, .aload_n 0, 1), (6, .aconst_null, 1), (7, .putfield 46, 3), (10, .aload_n 0, 1), (11, .iconst 0, 1), (12, .putfield 91, 3), (15, .aload_n 1, 1), (16, .aload_n 0, 1), (17, .getfield 42, 3), (20, .putfield 151, 3), (23, .iconst 0, 1), (24, .istore_n 2, 1), (25, .aload_n 1, 1)] = true := by decide +kernel
theorem dX3_code_0 : decode cX3_code 0 = .ok (.aload_n 0, 1) := zdec_at bX3_code_0 0 rfl
theorem dX3_code_1 : decode cX3_code 1 = .ok (.aload_n 1, 1) := zdec_at bX3_code_0 1 rfl
theorem dX3_code_2 : decode cX3_code 2 = .ok (.putfield 71, 3) := zdec_at bX3_code_0 2 rfl
theorem dX3_code_5 : decode cX3_code 5 = .ok (.aload_n 0, 1) := zdec_at bX3_code_0 3 rfl
theorem dX3_code_6 : decode cX3_code 6 = .ok (.aconst_null, 1) := zdec_at bX3_code_0 4 rfl
theorem dX3_code_7 : decode cX3_code 7 = .ok (.putfield 46, 3) := zdec_at bX3_code_0 5 rfl
theorem dX3_code_10 : decode cX3_code 10 = .ok (.aload_n 0, 1) := zdec_at bX3_code_0 6 rfl
theorem dX3_code_11 : decode cX3_code 11 = .ok (.iconst 0, 1) := zdec_at bX3_code_0 7 rfl
theorem dX3_code_12 : decode cX3_code 12 = .ok (.putfield 91, 3) := zdec_at bX3_code_0 8 rfl
theorem dX3_code_15 : decode cX3_code 15 = .ok (.aload_n 1, 1) := zdec_at bX3_code_0 9 rfl
theorem dX3_code_16 : decode cX3_code 16 = .ok (.aload_n 0, 1) := zdec_at bX3_code_0 10 rfl
theorem dX3_code_17 : decode cX3_code 17 = .ok (.getfield 42, 3) := zdec_at bX3_code_0 11 rfl
theorem dX3_code_20 : decode cX3_code 20 = .ok (.putfield 151, 3) := zdec_at bX3_code_0 12 rfl
theorem dX3_code_23 : decode cX3_code 23 = .ok (.iconst 0, 1) := zdec_at bX3_code_0 13 rfl
theorem dX3_code_24 : decode cX3_code 24 = .ok (.istore_n 2, 1) := zdec_at bX3_code_0 14 rfl
theorem dX3_code_25 : decode cX3_code 25 = .ok (.aload_n 1, 1) := zdec_at bX3_code_0 15 rfl
theorem bX3_code_26 : zdec cX3_code 26 [(26, .getfield 113, 3), (29, .ifnonnull 47, 3), (32, .iload_n 2, 1), (33, .aload_n 1, 1), (34, .getfield 154, 3), (37, .if_icmp .ge 39, 3), (40, .aload_n 0, 1), (41, .iconst 0, 1), (42, .iconst 0, 1), (43, .iconst 0, 1), (44, .invokevirtual 83, 3), (47, .pop, 1), (48, .aload_n 0, 1), (49, .iconst 4, 1), (50, .iconst 0, 1), (51, .aload_n 1, 1)] = true := by decide +kernel
theorem dX3_code_26 : decode cX3_code 26 = .ok (.getfield 113, 3) := zdec_at bX3_code_26 0 rfl
theorem dX3_code_29 : decode cX3_code 29 = .ok (.ifnonnull 47, 3) := zdec_at bX3_code_26 1 rfl
theorem dX3_code_32 : decode cX3_code 32 = .ok (.iload_n 2, 1) := zdec_at bX3_code_26 2 rfl
theorem dX3_code_33 : decode cX3_code 33 = .ok (.aload_n 1, 1) := zdec_at bX3_code_26 3 rfl
theorem dX3_code_34 : decode cX3_code 34 = .ok (.getfield 154, 3) := zdec_at bX3_code_26 4 rfl
theorem dX3_code_37 : decode cX3_code 37 = .ok (.if_icmp .ge 39, 3) := zdec_at bX3_code_26 5 rfl
theorem dX3_code_40 : decode cX3_code 40 = .ok (.aload_n 0, 1) := zdec_at bX3_code_26 6 rfl
theorem dX3_code_41 : decode cX3_code 41 = .ok (.iconst 0, 1) := zdec_at bX3_code_26 7 rfl
theorem dX3_code_42 : decode cX3_code 42 = .ok (.iconst 0, 1) := zdec_at bX3_code_26 8 rfl
theorem dX3_code_43 : decode cX3_code 43 = .ok (.iconst 0, 1) := zdec_at bX3_code_26 9 rfl
theorem dX3_code_44 : decode cX3_code 44 = .ok (.invokevirtual 83, 3) := zdec_at bX3_code_26 10 rfl
theorem dX3_code_47 : decode cX3_code 47 = .ok (.pop, 1) := zdec_at bX3_code_26 11 rfl
theorem dX3_code_48 : decode cX3_code 48 = .ok (.aload_n 0, 1) := zdec_at bX3_code_26 12 rfl
theorem dX3_code_49 : decode cX3_code 49 = .ok (.iconst 4, 1) := zdec_at bX3_code_26 13 rfl
theorem dX3_code_50 : decode cX3_code 50 = .ok (.iconst 0, 1) := zdec_at bX3_code_26 14 rfl
theorem dX3_code_51 : decode cX3_code 51 = .ok (.aload_n 1, 1) := zdec_at bX3_code_26 15 rfl
theorem bX3_code_52 : zdec cX3_code 52 [(52, .getfield 155, 3), (55, .iload_n 2, 1), (56, .iaload, 1), (57, .invokevirtual 83, 3), (60, .pop, 1), (61, .aload_n 0, 1), (62, .bipush 17, 2), (64, .iconst 0, 1), (65, .iconst 0, 1), (66, .invokevirtual 83, 3), (69, .pop, 1), (70, .iinc 2 1, 3), (73, .goto (-48), 3), (76, .iconst 0, 1), (77, .istore_n 2, 1), (78, .iload_n 2, 1)] = true := by decide +kernel
theorem dX3_code_52 : decode cX3_code 52 = .ok (.getfield 155, 3) := zdec_at bX3_code_52 0 rfl
theorem dX3_code_55 : decode cX3_code 55 = .ok (.iload_n 2, 1) := zdec_at bX3_code_52 1 rfl
theorem dX3_code_56 : decode cX3_code 56 = .ok (.iaload, 1) := zdec_at bX3_code_52 2 rfl
theorem dX3_code_57 : decode cX3_code 57 = .ok (.invokevirtual 83, 3) := zdec_at bX3_code_52 3 rfl
theorem dX3_code_60 : decode cX3_code 60 = .ok (.pop, 1) := zdec_at bX3_code_52 4 rfl
theorem dX3_code_61 : decode cX3_code 61 = .ok (.aload_n 0, 1) := zdec_at bX3_code_52 5 rfl
theorem dX3_code_62 : decode cX3_code 62 = .ok (.bipush 17, 2) := zdec_at bX3_code_52 6 rfl
theorem dX3_code_64 : decode cX3_code 64 = .ok (.iconst 0, 1) := zdec_at bX3_code_52 7 rfl
theorem dX3_code_65 : decode cX3_code 65 = .ok (.iconst 0, 1) := zdec_at bX3_code_52 8 rfl
theorem dX3_code_66 : decode cX3_code 66 = .ok (.invokevirtual 83, 3) := zdec_at bX3_code_52 9 rfl
theorem dX3_code_69 : decode cX3_code 69 = .ok (.pop, 1) := zdec_at bX3_code_52 10 rfl
theorem dX3_code_70 : decode cX3_code 70 = .ok (.iinc 2 1, 3) := zdec_at bX3_code_52 11 rfl
theorem dX3_code_73 : decode cX3_code 73 = .ok (.goto (-48), 3) := zdec_at bX3_code_52 12 rfl
theorem dX3_code_76 : decode cX3_code 76 = .ok (.iconst 0, 1) := zdec_at bX3_code_52 13 rfl
theorem dX3_code_77 : decode cX3_code 77 = .ok (.istore_n 2, 1) := zdec_at bX3_code_52 14 rfl
theorem dX3_code_78 : decode cX3_code 78 = .ok (.iload_n 2, 1) := zdec_at bX3_code_52 15 rfl
theorem bX3_code_79 : zdec cX3_code 79 [(79, .aload_n 1, 1), (80, .getfield 158, 3), (83, .invokevirtual 94, 3), (86, .if_icmp .ge 58, 3), (89, .aload_n 0, 1), (90, .bipush 9, 2), (92, .aload_n 1, 1), (93, .getfield 158, 3), (96, .iload_n 2, 1), (97, .invokevirtual 104, 3), (100, .checkcast 76, 3), (103, .getfield 75, 3), (106, .iconst 0, 1), (107, .invokevirtual 83, 3), (110, .pop, 1), (111, .aload_n 0, 1)] = true := by decide +kernel
theorem dX3_code_79 : decode cX3_code 79 = .ok (.aload_n 1, 1) := zdec_at bX3_code_79 0 rfl
theorem dX3_code_80 : decode cX3_code 80 = .ok (.getfield 158, 3) := zdec_at bX3_code_79 1 rfl
theorem dX3_code_83 : decode cX3_code 83 = .ok (.invokevirtual 94, 3) := zdec_at bX3_code_79 2 rfl
theorem dX3_code_86 : decode cX3_code 86 = .ok (.if_icmp .ge 58, 3) := zdec_at bX3_code_79 3 rfl
theorem dX3_code_89 : decode cX3_code 89 = .ok (.aload_n 0, 1) := zdec_at bX3_code_79 4 rfl
theorem dX3_code_90 : decode cX3_code 90 = .ok (.bipush 9, 2) := zdec_at bX3_code_79 5 rfl
theorem dX3_code_92 : decode cX3_code 92 = .ok (.aload_n 1, 1) := zdec_at bX3_code_79 6 rfl
theorem dX3_code_93 : decode cX3_code 93 = .ok (.getfield 158, 3) := zdec_at bX3_code_79 7 rfl
theorem dX3_code_96 : decode cX3_code 96 = .ok (.iload_n 2, 1) := zdec_at bX3_code_79 8 rfl
theorem dX3_code_97 : decode cX3_code 97 = .ok (.invokevirtual 104, 3) := zdec_at bX3_code_79 9 rfl
theorem dX3_code_100 : decode cX3_code 100 = .ok (.checkcast 76, 3) := zdec_at bX3_code_79 10 rfl
theorem dX3_code_103 : decode cX3_code 103 = .ok (.getfield 75, 3) := zdec_at bX3_code_79 11 rfl
theorem dX3_code_106 : decode cX3_code 106 = .ok (.iconst 0, 1) := zdec_at bX3_code_79 12 rfl
theorem dX3_code_107 : decode cX3_code 107 = .ok (.invokevirtual 83, 3) := zdec_at bX3_code_79 13 rfl
theorem dX3_code_110 : decode cX3_code 110 = .ok (.pop, 1) := zdec_at bX3_code_79 14 rfl
theorem dX3_code_111 : decode cX3_code 111 = .ok (.aload_n 0, 1) := zdec_at bX3_code_79 15 rfl
theorem bX3_code_112 : zdec cX3_code 112 [(112, .aload_n 1, 1), (113, .getfield 158, 3), (116, .iload_n 2, 1), (117, .invokevirtual 104, 3), (120, .checkcast 76, 3), (123, .getfield 161, 3), (126, .invokevirtual 164, 3), (129, .aload_n 0, 1), (130, .bipush 17, 2), (132, .iconst 0, 1), (133, .iconst 0, 1), (134, .invokevirtual 83, 3), (137, .pop, 1), (138, .iinc 2 1, 3), (141, .goto (-63), 3), (144, .iconst 0, 1)] = true := by decide +kernel
theorem dX3_code_112 : decode cX3_code 112 = .ok (.aload_n 1, 1) := zdec_at bX3_code_112 0 rfl
theorem dX3_code_113 : decode cX3_code 113 = .ok (.getfield 158, 3) := zdec_at bX3_code_112 1 rfl
theorem dX3_code_116 : decode cX3_code 116 = .ok (.iload_n 2, 1) := zdec_at bX3_code_112 2 rfl
theorem dX3_code_117 : decode cX3_code 117 = .ok (.invokevirtual 104, 3) := zdec_at bX3_code_112 3 rfl
theorem dX3_code_120 : decode cX3_code 120 = .ok (.checkcast 76, 3) := zdec_at bX3_code_112 4 rfl
theorem dX3_code_123 : decode cX3_code 123 = .ok (.getfield 161, 3) := zdec_at bX3_code_112 5 rfl
theorem dX3_code_126 : decode cX3_code 126 = .ok (.invokevirtual 164, 3) := zdec_at bX3_code_112 6 rfl
theorem dX3_code_129 : decode cX3_code 129 = .ok (.aload_n 0, 1) := zdec_at bX3_code_112 7 rfl
theorem dX3_code_130 : decode cX3_code 130 = .ok (.bipush 17, 2) := zdec_at bX3_code_112 8 rfl
theorem dX3_code_132 : decode cX3_code 132 = .ok (.iconst 0, 1) := zdec_at bX3_code_112 9 rfl
theorem dX3_code_133 : decode cX3_code 133 = .ok (.iconst 0, 1) := zdec_at bX3_code_112 10 rfl
theorem dX3_code_134 : decode cX3_code 134 = .ok (.invokevirtual 83, 3) := zdec_at bX3_code_112 11 rfl
theorem dX3_code_137 : decode cX3_code 137 = .ok (.pop, 1) := zdec_at bX3_code_112 12 rfl
theorem dX3_code_138 : decode cX3_code 138 = .ok (.iinc 2 1, 3) := zdec_at bX3_code_112 13 rfl
theorem dX3_code_141 : decode cX3_code 141 = .ok (.goto (-63), 3) := zdec_at bX3_code_112 14 rfl
theorem dX3_code_144 : decode cX3_code 144 = .ok (.iconst 0, 1) := zdec_at bX3_code_112 15 rfl
theorem bX3_code_145 : zdec cX3_code 145 [(145, .istore_n 2, 1), (146, .iload_n 2, 1), (147, .aload_n 1, 1), (148, .getfield 167, 3), (151, .invokevirtual 94, 3), (154, .if_icmp .ge 24, 3), (157, .aload_n 1, 1), (158, .getfield 167, 3), (161, .iload_n 2, 1), (162, .invokevirtual 104, 3), (165, .checkcast 131, 3), (168, .aload_n 0, 1), (169, .invokevirtual 130, 3), (172, .iinc 2 1, 3), (175, .goto (-29), 3), (178, .aload_n 0, 1)] = true := by decide +kernel
theorem dX3_code_145 : decode cX3_code 145 = .ok (.istore_n 2, 1) := zdec_at bX3_code_145 0 rfl
theorem dX3_code_146 : decode cX3_code 146 = .ok (.iload_n 2, 1) := zdec_at bX3_code_145 1 rfl
theorem dX3_code_147 : decode cX3_code 147 = .ok (.aload_n 1, 1) := zdec_at bX3_code_145 2 rfl
theorem dX3_code_148 : decode cX3_code 148 = .ok (.getfield 167, 3) := zdec_at bX3_code_145 3 rfl
theorem dX3_code_151 : decode cX3_code 151 = .ok (.invokevirtual 94, 3) := zdec_at bX3_code_145 4 rfl
theorem dX3_code_154 : decode cX3_code 154 = .ok (.if_icmp .ge 24, 3) := zdec_at bX3_code_145 5 rfl
theorem dX3_code_157 : decode cX3_code 157 = .ok (.aload_n 1, 1) := zdec_at bX3_code_145 6 rfl
theorem dX3_code_158 : decode cX3_code 158 = .ok (.getfield 167, 3) := zdec_at bX3_code_145 7 rfl
theorem dX3_code_161 : decode cX3_code 161 = .ok (.iload_n 2, 1) := zdec_at bX3_code_145 8 rfl
theorem dX3_code_162 : decode cX3_code 162 = .ok (.invokevirtual 104, 3) := zdec_at bX3_code_145 9 rfl
theorem dX3_code_165 : decode cX3_code 165 = .ok (.checkcast 131, 3) := zdec_at bX3_code_145 10 rfl
theorem dX3_code_168 : decode cX3_code 168 = .ok (.aload_n 0, 1) := zdec_at bX3_code_145 11 rfl
theorem dX3_code_169 : decode cX3_code 169 = .ok (.invokevirtual 130, 3) := zdec_at bX3_code_145 12 rfl
theorem dX3_code_172 : decode cX3_code 172 = .ok (.iinc 2 1, 3) := zdec_at bX3_code_145 13 rfl
theorem dX3_code_175 : decode cX3_code 175 = .ok (.goto (-29), 3) := zdec_at bX3_code_145 14 rfl
theorem dX3_code_178 : decode cX3_code 178 = .ok (.aload_n 0, 1) := zdec_at bX3_code_145 15 rfl
theorem bX3_code_179 : zdec cX3_code 179 [(179, .iconst 0, 1), (180, .iconst 0, 1), (181, .iconst 0, 1), (182, .invokevirtual 83, 3), (185, .pop, 1), (186, .aload_n 0, 1), (187, .bipush 25, 2), (189, .iconst 0, 1), (190, .iconst 0, 1), (191, .invokevirtual 83, 3), (194, .pop, 1), (195, .return_, 1)] = true := by decide +kernel
theorem dX3_code_179 : decode cX3_code 179 = .ok (.iconst 0, 1) := zdec_at bX3_code_179 0 rfl
theorem dX3_code_180 : decode cX3_code 180 = .ok (.iconst 0, 1) := zdec_at bX3_code_179 1 rfl
theorem dX3_code_181 : decode cX3_code 181 = .ok (.iconst 0, 1) := zdec_at bX3_code_179 2 rfl
theorem dX3_code_182 : decode cX3_code 182 = .ok (.invokevirtual 83, 3) := zdec_at bX3_code_179 3 rfl
theorem dX3_code_185 : decode cX3_code 185 = .ok (.pop, 1) := zdec_at bX3_code_179 4 rfl
theorem dX3_code_186 : decode cX3_code 186 = .ok (.aload_n 0, 1) := zdec_at bX3_code_179 5 rfl
theorem dX3_code_187 : decode cX3_code 187 = .ok (.bipush 25, 2) := zdec_at bX3_code_179 6 rfl
theorem dX3_code_189 : decode cX3_code 189 = .ok (.iconst 0, 1) := zdec_at bX3_code_179 7 rfl
theorem dX3_code_190 : decode cX3_code 190 = .ok (.iconst 0, 1) := zdec_at bX3_code_179 8 rfl
theorem dX3_code_191 : decode cX3_code 191 = .ok (.invokevirtual 83, 3) := zdec_at bX3_code_179 9 rfl
theorem dX3_code_194 : decode cX3_code 194 = .ok (.pop, 1) := zdec_at bX3_code_179 10 rfl
theorem dX3_code_195 : decode cX3_code 195 = .ok (.return_, 1) := zdec_at bX3_code_179 11 rfl
theorem sX3_code_0 {E : zE} {d : Nat} {Q : zO → zM → Prop} (M : zM) (r1 : Option zP) (hw : cw M) (k : ∃ b1 : Nat, r1 = some (b1, 10, 0) ∧ (16 ≤ b1 ∧ (Z E YX3_code (d + 1) (si (si (sr (sr M 29 12 r1) 29 9 none) 29 11 (0 : Int32)) b1 9 (gi M 29 7)) [(0, vr (some (29, 3, 0))), (1, vr (some (b1, 10, 0))), (2, vi (0 : Int32))] 25 [] Q))) : Z E YX3_code (d + 1) M [(0, vr (some (29, 3, 0))), (1, vr r1)] 0 [] Q := by
  refine z_aload_n dX3_code_0 rfl rfl ?_
  refine z_aload_n dX3_code_1 rfl rfl ?_
  refine z_putr (by decide) dX3_code_2 (zfwN.w fwX3_71_3) rfl ?_
  refine z_aload_n dX3_code_5 rfl rfl ?_
  refine z_null dX3_code_6 ?_
  refine z_putr (by decide) dX3_code_7 (zfwN.w fwX3_46_3) rfl ?_
  refine z_aload_n dX3_code_10 rfl rfl ?_
  refine z_iconst (v := 0) dX3_code_11 rfl ?_
  refine z_puti (by decide) dX3_code_12 (zfwN.w fwX3_91_3) rfl ⟨rfl, rfl⟩ ?_
  refine z_aload_n dX3_code_15 rfl rfl ?_
  refine z_aload_n dX3_code_16 rfl rfl ?_
  refine z_geti dX3_code_17 fsX3_42_3 ?_
  obtain ⟨b1, e1_, k⟩ := k
  refine Z.eqs (lv' := [(0, vr (some (29, 3, 0))), (1, vr (some (b1, 10, 0)))]) (st' := [vi (gi M 29 7), vr (some (b1, 10, 0))]) (by rw [e1_] <;> rfl) (by rw [e1_] <;> rfl) ?_
  obtain ⟨g_, k⟩ := k
  refine z_puti g_ dX3_code_20 (zfwN.w fwX3_151_10) rfl ⟨rfl, rfl⟩ ?_
  refine z_iconst (v := 0) dX3_code_23 rfl ?_
  refine z_ist_n dX3_code_24 rfl (by decide) (lv' := [(0, vr (some (29, 3, 0))), (1, vr (some (b1, 10, 0))), (2, vi (0 : Int32))]) rfl ?_
  exact k
theorem sX3_code_25 {E : zE} {d : Nat} {Q : zO → zM → Prop} (M : zM) (a1 : Nat) (l2 : Int32) (hw : cw M) (k : if (gr M a1 1) = none then (if (gi M a1 5) ≤ l2 then (Z E YX3_code (d + 1) M [(0, vr (some (29, 3, 0))), (1, vr (some (a1, 10, 0))), (2, vi (0 : Int32))] 78 [] Q) else (Z E YX3_put d M (zargs 0 [vr (some (29, 3, 0)), vi (0 : Int32), vi (0 : Int32), vi (0 : Int32)]) 0 [] (zafter E YX3_code (d + 1) [(0, vr (some (29, 3, 0))), (1, vr (some (a1, 10, 0))), (2, vi l2)] 44 3 [] Q))) else (Z E YX3_code (d + 1) M [(0, vr (some (29, 3, 0))), (1, vr (some (a1, 10, 0))), (2, vi (0 : Int32))] 78 [] Q)) : Z E YX3_code (d + 1) M [(0, vr (some (29, 3, 0))), (1, vr (some (a1, 10, 0))), (2, vi l2)] 25 [] Q := by
  refine z_aload_n dX3_code_25 rfl rfl ?_
  refine z_getr (r := (gr M a1 1)) dX3_code_26 fsX3_113_10 rfl ?_
  refine z_ifnonnull (tgt := 76) dX3_code_29 rfl (fun h_ => ?_) (fun h_ => ?_)
  · have k := zif h_ k
    refine z_iconst (v := 0) dX3_code_76 rfl ?_
    refine z_ist_n dX3_code_77 rfl (by decide) (lv' := [(0, vr (some (29, 3, 0))), (1, vr (some (a1, 10, 0))), (2, vi (0 : Int32))]) rfl ?_
    exact k
  · have k := zit h_ k
    refine z_iload_n dX3_code_32 rfl rfl ?_
    refine z_aload_n dX3_code_33 rfl rfl ?_
    refine z_geti dX3_code_34 fsX3_154_10 ?_
    refine z_icmp_ge (tgt := 76) dX3_code_37 rfl (fun h_ => ?_) (fun h_ => ?_)
    · have k := zit h_ k
      refine z_iconst (v := 0) dX3_code_76 rfl ?_
      refine z_ist_n dX3_code_77 rfl (by decide) (lv' := [(0, vr (some (29, 3, 0))), (1, vr (some (a1, 10, 0))), (2, vi (0 : Int32))]) rfl ?_
      exact k
    · have k := zif h_ k
      refine z_aload_n dX3_code_40 rfl rfl ?_
      refine z_iconst (v := 0) dX3_code_41 rfl ?_
      refine z_iconst (v := 0) dX3_code_42 rfl ?_
      refine z_iconst (v := 0) dX3_code_43 rfl ?_
      exact z_callV (as := [vi (0 : Int32), vi (0 : Int32), vi (0 : Int32)]) (st := []) dX3_code_44 vsX3_83_3 (Nat.le_refl _) (Nat.le_of_ble_eq_true rfl) (Nat.le_of_ble_eq_true rfl) rfl k
theorem sX3_code_47 {E : zE} {d : Nat} {Q : zO → zM → Prop} (M : zM) (a1 : Nat) (l2 : Int32) (s0 : Int32) (hw : cw M) (k : ∃ b1 m1 : Nat, (gr M a1 4) = some (b1, 100, m1) ∧ (vp_in l2 m1 ∧ (Z E YX3_put d M (zargs 0 [vr (some (29, 3, 0)), vi (4 : Int32), vi (0 : Int32), vi (gi M b1 (l2).toNatClampNeg)]) 0 [] (zafter E YX3_code (d + 1) [(0, vr (some (29, 3, 0))), (1, vr (some (a1, 10, 0))), (2, vi l2)] 57 3 [] Q)))) : Z E YX3_code (d + 1) M [(0, vr (some (29, 3, 0))), (1, vr (some (a1, 10, 0))), (2, vi l2)] 47 [vi s0] Q := by
  refine z_pop dX3_code_47 rfl ?_
  refine z_aload_n dX3_code_48 rfl rfl ?_
  refine z_iconst (v := 4) dX3_code_49 rfl ?_
  refine z_iconst (v := 0) dX3_code_50 rfl ?_
  refine z_aload_n dX3_code_51 rfl rfl ?_
  refine z_getr (r := (gr M a1 4)) dX3_code_52 fsX3_155_10 rfl ?_
  refine z_iload_n dX3_code_55 rfl rfl ?_
  obtain ⟨b1, m1, e1_, k⟩ := k
  refine Z.eqs (lv' := [(0, vr (some (29, 3, 0))), (1, vr (some (a1, 10, 0))), (2, vi l2)]) (st' := [vi l2, vr (some (b1, 100, m1)), vi (0 : Int32), vi (4 : Int32), vr (some (29, 3, 0))]) rfl (by rw [e1_] <;> rfl) ?_
  obtain ⟨b_, k⟩ := k
  refine z_iald dX3_code_56 b_ ?_
  exact z_callV (as := [vi (4 : Int32), vi (0 : Int32), vi (gi M b1 (l2).toNatClampNeg)]) (st := []) dX3_code_57 vsX3_83_3 (Nat.le_refl _) (Nat.le_of_ble_eq_true rfl) (Nat.le_of_ble_eq_true rfl) rfl k
theorem sX3_code_60 {E : zE} {d : Nat} {Q : zO → zM → Prop} (M : zM) (a1 : Nat) (l2 : Int32) (s0 : Int32) (hw : cw M) (k : Z E YX3_put d M (zargs 0 [vr (some (29, 3, 0)), vi (17 : Int32), vi (0 : Int32), vi (0 : Int32)]) 0 [] (zafter E YX3_code (d + 1) [(0, vr (some (29, 3, 0))), (1, vr (some (a1, 10, 0))), (2, vi l2)] 66 3 [] Q)) : Z E YX3_code (d + 1) M [(0, vr (some (29, 3, 0))), (1, vr (some (a1, 10, 0))), (2, vi l2)] 60 [vi s0] Q := by
  refine z_pop dX3_code_60 rfl ?_
  refine z_aload_n dX3_code_61 rfl rfl ?_
  refine z_bipush (v := 17) dX3_code_62 rfl ?_
  refine z_iconst (v := 0) dX3_code_64 rfl ?_
  refine z_iconst (v := 0) dX3_code_65 rfl ?_
  exact z_callV (as := [vi (17 : Int32), vi (0 : Int32), vi (0 : Int32)]) (st := []) dX3_code_66 vsX3_83_3 (Nat.le_refl _) (Nat.le_of_ble_eq_true rfl) (Nat.le_of_ble_eq_true rfl) rfl k
theorem sX3_code_69 {E : zE} {d : Nat} {Q : zO → zM → Prop} (M : zM) (a1 : Nat) (l2 : Int32) (s0 : Int32) (hw : cw M) (k : Z E YX3_code (d + 1) M [(0, vr (some (29, 3, 0))), (1, vr (some (a1, 10, 0))), (2, vi (l2 + (1 : Int32)))] 25 [] Q) : Z E YX3_code (d + 1) M [(0, vr (some (29, 3, 0))), (1, vr (some (a1, 10, 0))), (2, vi l2)] 69 [vi s0] Q := by
  refine z_pop dX3_code_69 rfl ?_
  refine z_inc (v := (l2 + (1 : Int32))) dX3_code_70 rfl rfl (by decide) (lv' := [(0, vr (some (29, 3, 0))), (1, vr (some (a1, 10, 0))), (2, vi (l2 + (1 : Int32)))]) rfl ?_
  refine z_goto (tgt := 25) dX3_code_73 rfl ?_
  exact k
theorem sX3_code_78 {E : zE} {d : Nat} {Q : zO → zM → Prop} (M : zM) (a1 : Nat) (l2 : Int32) (hw : cw M) (k : ∃ b1 : Nat, (gr M a1 3) = some (b1, 11, 0) ∧ (Z E YJ2_size d M (zargs 0 [vr (some (b1, 11, 0))]) 0 [] (zafter E YX3_code (d + 1) [(0, vr (some (29, 3, 0))), (1, vr (some (a1, 10, 0))), (2, vi l2)] 83 3 [vi l2] Q))) : Z E YX3_code (d + 1) M [(0, vr (some (29, 3, 0))), (1, vr (some (a1, 10, 0))), (2, vi l2)] 78 [] Q := by
  refine z_iload_n dX3_code_78 rfl rfl ?_
  refine z_aload_n dX3_code_79 rfl rfl ?_
  refine z_getr (r := (gr M a1 3)) dX3_code_80 fsX3_158_10 rfl ?_
  obtain ⟨b1, e1_, k⟩ := k
  refine Z.eqs (lv' := [(0, vr (some (29, 3, 0))), (1, vr (some (a1, 10, 0))), (2, vi l2)]) (st' := [vr (some (b1, 11, 0)), vi l2]) rfl (by rw [e1_] <;> rfl) ?_
  exact z_callV (as := []) (st := [vi l2]) dX3_code_83 vsX3_94_11 (Nat.le_refl _) (Nat.le_of_ble_eq_true rfl) (Nat.le_of_ble_eq_true rfl) rfl k
theorem sX3_code_86 {E : zE} {d : Nat} {Q : zO → zM → Prop} (M : zM) (a1 : Nat) (l2 : Int32) (s0 : Int32) (s1 : Int32) (hw : cw M) (k : if s0 ≤ s1 then (Z E YX3_code (d + 1) M [(0, vr (some (29, 3, 0))), (1, vr (some (a1, 10, 0))), (2, vi (0 : Int32))] 146 [] Q) else (∃ b1 : Nat, (gr M a1 3) = some (b1, 11, 0) ∧ (Z E YJ2_get d M (zargs 0 [vr (some (b1, 11, 0)), vi l2]) 0 [] (zafter E YX3_code (d + 1) [(0, vr (some (29, 3, 0))), (1, vr (some (a1, 10, 0))), (2, vi l2)] 97 3 [vi (9 : Int32), vr (some (29, 3, 0))] Q)))) : Z E YX3_code (d + 1) M [(0, vr (some (29, 3, 0))), (1, vr (some (a1, 10, 0))), (2, vi l2)] 86 [vi s0, vi s1] Q := by
  refine z_icmp_ge (tgt := 144) dX3_code_86 rfl (fun h_ => ?_) (fun h_ => ?_)
  · have k := zit h_ k
    refine z_iconst (v := 0) dX3_code_144 rfl ?_
    refine z_ist_n dX3_code_145 rfl (by decide) (lv' := [(0, vr (some (29, 3, 0))), (1, vr (some (a1, 10, 0))), (2, vi (0 : Int32))]) rfl ?_
    exact k
  · have k := zif h_ k
    refine z_aload_n dX3_code_89 rfl rfl ?_
    refine z_bipush (v := 9) dX3_code_90 rfl ?_
    refine z_aload_n dX3_code_92 rfl rfl ?_
    refine z_getr (r := (gr M a1 3)) dX3_code_93 fsX3_158_10 rfl ?_
    refine z_iload_n dX3_code_96 rfl rfl ?_
    obtain ⟨b1, e1_, k⟩ := k
    refine Z.eqs (lv' := [(0, vr (some (29, 3, 0))), (1, vr (some (a1, 10, 0))), (2, vi l2)]) (st' := [vi l2, vr (some (b1, 11, 0)), vi (9 : Int32), vr (some (29, 3, 0))]) rfl (by rw [e1_] <;> rfl) ?_
    exact z_callV (as := [vi l2]) (st := [vi (9 : Int32), vr (some (29, 3, 0))]) dX3_code_97 vsX3_104_11 (Nat.le_refl _) (Nat.le_of_ble_eq_true rfl) (Nat.le_of_ble_eq_true rfl) rfl k
theorem sX3_code_100 {E : zE} {d : Nat} {Q : zO → zM → Prop} (M : zM) (a1 : Nat) (l2 : Int32) (u0 : Option zP) (s1 : Int32) (hw : cw M) (k : ∃ b1 : Nat, u0 = some (b1, 10, 0) ∧ (Z E YX3_put d M (zargs 0 [vr (some (29, 3, 0)), vi s1, vi (gi M b1 0), vi (0 : Int32)]) 0 [] (zafter E YX3_code (d + 1) [(0, vr (some (29, 3, 0))), (1, vr (some (a1, 10, 0))), (2, vi l2)] 107 3 [] Q))) : Z E YX3_code (d + 1) M [(0, vr (some (29, 3, 0))), (1, vr (some (a1, 10, 0))), (2, vi l2)] 100 [vr u0, vi s1, vr (some (29, 3, 0))] Q := by
  obtain ⟨b1, e1_, k⟩ := k
  refine Z.eqs (lv' := [(0, vr (some (29, 3, 0))), (1, vr (some (a1, 10, 0))), (2, vi l2)]) (st' := [vr (some (b1, 10, 0)), vi s1, vr (some (29, 3, 0))]) rfl (by rw [e1_] <;> rfl) ?_
  refine z_ckcast dX3_code_100 ctX3_76_10 ?_
  refine z_geti dX3_code_103 fsX3_75_10 ?_
  refine z_iconst (v := 0) dX3_code_106 rfl ?_
  exact z_callV (as := [vi s1, vi (gi M b1 0), vi (0 : Int32)]) (st := []) dX3_code_107 vsX3_83_3 (Nat.le_refl _) (Nat.le_of_ble_eq_true rfl) (Nat.le_of_ble_eq_true rfl) rfl k
theorem sX3_code_110 {E : zE} {d : Nat} {Q : zO → zM → Prop} (M : zM) (a1 : Nat) (l2 : Int32) (s0 : Int32) (hw : cw M) (k : ∃ b1 : Nat, (gr M a1 3) = some (b1, 11, 0) ∧ (Z E YJ2_get d M (zargs 0 [vr (some (b1, 11, 0)), vi l2]) 0 [] (zafter E YX3_code (d + 1) [(0, vr (some (29, 3, 0))), (1, vr (some (a1, 10, 0))), (2, vi l2)] 117 3 [vr (some (29, 3, 0))] Q))) : Z E YX3_code (d + 1) M [(0, vr (some (29, 3, 0))), (1, vr (some (a1, 10, 0))), (2, vi l2)] 110 [vi s0] Q := by
  refine z_pop dX3_code_110 rfl ?_
  refine z_aload_n dX3_code_111 rfl rfl ?_
  refine z_aload_n dX3_code_112 rfl rfl ?_
  refine z_getr (r := (gr M a1 3)) dX3_code_113 fsX3_158_10 rfl ?_
  refine z_iload_n dX3_code_116 rfl rfl ?_
  obtain ⟨b1, e1_, k⟩ := k
  refine Z.eqs (lv' := [(0, vr (some (29, 3, 0))), (1, vr (some (a1, 10, 0))), (2, vi l2)]) (st' := [vi l2, vr (some (b1, 11, 0)), vr (some (29, 3, 0))]) rfl (by rw [e1_] <;> rfl) ?_
  exact z_callV (as := [vi l2]) (st := [vr (some (29, 3, 0))]) dX3_code_117 vsX3_104_11 (Nat.le_refl _) (Nat.le_of_ble_eq_true rfl) (Nat.le_of_ble_eq_true rfl) rfl k
theorem sX3_code_120 {E : zE} {d : Nat} {Q : zO → zM → Prop} (M : zM) (a1 : Nat) (l2 : Int32) (u0 : Option zP) (hw : cw M) (k : ∃ b1 : Nat, u0 = some (b1, 10, 0) ∧ (Z E YX3_set d M (zargs 0 [vr (some (29, 3, 0)), vi (gi M b1 7)]) 0 [] (zafter E YX3_code (d + 1) [(0, vr (some (29, 3, 0))), (1, vr (some (a1, 10, 0))), (2, vi l2)] 126 3 [] Q))) : Z E YX3_code (d + 1) M [(0, vr (some (29, 3, 0))), (1, vr (some (a1, 10, 0))), (2, vi l2)] 120 [vr u0, vr (some (29, 3, 0))] Q := by
  obtain ⟨b1, e1_, k⟩ := k
  refine Z.eqs (lv' := [(0, vr (some (29, 3, 0))), (1, vr (some (a1, 10, 0))), (2, vi l2)]) (st' := [vr (some (b1, 10, 0)), vr (some (29, 3, 0))]) rfl (by rw [e1_] <;> rfl) ?_
  refine z_ckcast dX3_code_120 ctX3_76_10 ?_
  refine z_geti dX3_code_123 fsX3_161_10 ?_
  exact z_callV (as := [vi (gi M b1 7)]) (st := []) dX3_code_126 vsX3_164_3 (Nat.le_refl _) (Nat.le_of_ble_eq_true rfl) (Nat.le_of_ble_eq_true rfl) rfl k
theorem sX3_code_129 {E : zE} {d : Nat} {Q : zO → zM → Prop} (M : zM) (a1 : Nat) (l2 : Int32) (hw : cw M) (k : Z E YX3_put d M (zargs 0 [vr (some (29, 3, 0)), vi (17 : Int32), vi (0 : Int32), vi (0 : Int32)]) 0 [] (zafter E YX3_code (d + 1) [(0, vr (some (29, 3, 0))), (1, vr (some (a1, 10, 0))), (2, vi l2)] 134 3 [] Q)) : Z E YX3_code (d + 1) M [(0, vr (some (29, 3, 0))), (1, vr (some (a1, 10, 0))), (2, vi l2)] 129 [] Q := by
  refine z_aload_n dX3_code_129 rfl rfl ?_
  refine z_bipush (v := 17) dX3_code_130 rfl ?_
  refine z_iconst (v := 0) dX3_code_132 rfl ?_
  refine z_iconst (v := 0) dX3_code_133 rfl ?_
  exact z_callV (as := [vi (17 : Int32), vi (0 : Int32), vi (0 : Int32)]) (st := []) dX3_code_134 vsX3_83_3 (Nat.le_refl _) (Nat.le_of_ble_eq_true rfl) (Nat.le_of_ble_eq_true rfl) rfl k
theorem sX3_code_137 {E : zE} {d : Nat} {Q : zO → zM → Prop} (M : zM) (a1 : Nat) (l2 : Int32) (s0 : Int32) (hw : cw M) (k : Z E YX3_code (d + 1) M [(0, vr (some (29, 3, 0))), (1, vr (some (a1, 10, 0))), (2, vi (l2 + (1 : Int32)))] 78 [] Q) : Z E YX3_code (d + 1) M [(0, vr (some (29, 3, 0))), (1, vr (some (a1, 10, 0))), (2, vi l2)] 137 [vi s0] Q := by
  refine z_pop dX3_code_137 rfl ?_
  refine z_inc (v := (l2 + (1 : Int32))) dX3_code_138 rfl rfl (by decide) (lv' := [(0, vr (some (29, 3, 0))), (1, vr (some (a1, 10, 0))), (2, vi (l2 + (1 : Int32)))]) rfl ?_
  refine z_goto (tgt := 78) dX3_code_141 rfl ?_
  exact k
theorem sX3_code_146 {E : zE} {d : Nat} {Q : zO → zM → Prop} (M : zM) (a1 : Nat) (l2 : Int32) (hw : cw M) (k : ∃ b1 : Nat, (gr M a1 2) = some (b1, 11, 0) ∧ (Z E YJ2_size d M (zargs 0 [vr (some (b1, 11, 0))]) 0 [] (zafter E YX3_code (d + 1) [(0, vr (some (29, 3, 0))), (1, vr (some (a1, 10, 0))), (2, vi l2)] 151 3 [vi l2] Q))) : Z E YX3_code (d + 1) M [(0, vr (some (29, 3, 0))), (1, vr (some (a1, 10, 0))), (2, vi l2)] 146 [] Q := by
  refine z_iload_n dX3_code_146 rfl rfl ?_
  refine z_aload_n dX3_code_147 rfl rfl ?_
  refine z_getr (r := (gr M a1 2)) dX3_code_148 fsX3_167_10 rfl ?_
  obtain ⟨b1, e1_, k⟩ := k
  refine Z.eqs (lv' := [(0, vr (some (29, 3, 0))), (1, vr (some (a1, 10, 0))), (2, vi l2)]) (st' := [vr (some (b1, 11, 0)), vi l2]) rfl (by rw [e1_] <;> rfl) ?_
  exact z_callV (as := []) (st := [vi l2]) dX3_code_151 vsX3_94_11 (Nat.le_refl _) (Nat.le_of_ble_eq_true rfl) (Nat.le_of_ble_eq_true rfl) rfl k
theorem sX3_code_154 {E : zE} {d : Nat} {Q : zO → zM → Prop} (M : zM) (a1 : Nat) (l2 : Int32) (s0 : Int32) (s1 : Int32) (hw : cw M) (k : if s0 ≤ s1 then (Z E YX3_put d M (zargs 0 [vr (some (29, 3, 0)), vi (0 : Int32), vi (0 : Int32), vi (0 : Int32)]) 0 [] (zafter E YX3_code (d + 1) [(0, vr (some (29, 3, 0)))] 182 3 [] Q)) else (∃ b1 : Nat, (gr M a1 2) = some (b1, 11, 0) ∧ (Z E YJ2_get d M (zargs 0 [vr (some (b1, 11, 0)), vi l2]) 0 [] (zafter E YX3_code (d + 1) [(0, vr (some (29, 3, 0))), (1, vr (some (a1, 10, 0))), (2, vi l2)] 162 3 [] Q)))) : Z E YX3_code (d + 1) M [(0, vr (some (29, 3, 0))), (1, vr (some (a1, 10, 0))), (2, vi l2)] 154 [vi s0, vi s1] Q := by
  refine z_icmp_ge (tgt := 178) dX3_code_154 rfl (fun h_ => ?_) (fun h_ => ?_)
  · have k := zit h_ k
    refine z_aload_n dX3_code_178 rfl rfl ?_
    refine z_iconst (v := 0) dX3_code_179 rfl ?_
    refine z_iconst (v := 0) dX3_code_180 rfl ?_
    refine z_iconst (v := 0) dX3_code_181 rfl ?_
    refine Z.pick [0] rfl ?_
    exact z_callV (as := [vi (0 : Int32), vi (0 : Int32), vi (0 : Int32)]) (st := []) dX3_code_182 vsX3_83_3 (Nat.le_refl _) (Nat.le_of_ble_eq_true rfl) (Nat.le_of_ble_eq_true rfl) rfl k
  · have k := zif h_ k
    refine z_aload_n dX3_code_157 rfl rfl ?_
    refine z_getr (r := (gr M a1 2)) dX3_code_158 fsX3_167_10 rfl ?_
    refine z_iload_n dX3_code_161 rfl rfl ?_
    obtain ⟨b1, e1_, k⟩ := k
    refine Z.eqs (lv' := [(0, vr (some (29, 3, 0))), (1, vr (some (a1, 10, 0))), (2, vi l2)]) (st' := [vi l2, vr (some (b1, 11, 0))]) rfl (by rw [e1_] <;> rfl) ?_
    exact z_callV (as := [vi l2]) (st := []) dX3_code_162 vsX3_104_11 (Nat.le_refl _) (Nat.le_of_ble_eq_true rfl) (Nat.le_of_ble_eq_true rfl) rfl k
theorem sX3_code_165 {E : zE} {d : Nat} {Q : zO → zM → Prop} (M : zM) (a1 : Nat) (l2 : Int32) (u0 : Option zP) (hw : cw M) (k : ∃ b1 t1 : Nat, u0 = some (b1, t1, 0) ∧ ((20 ≤ t1 ∧ t1 < 45) ∧ (∃ Y_ : zY, vt_code t1 = some Y_ ∧ Z E Y_ d M (zargs 0 [vr (some (b1, t1, 0)), vr (some (29, 3, 0))]) 0 [] (zafter E YX3_code (d + 1) [(0, vr (some (29, 3, 0))), (1, vr (some (a1, 10, 0))), (2, vi l2)] 169 3 [] Q)))) : Z E YX3_code (d + 1) M [(0, vr (some (29, 3, 0))), (1, vr (some (a1, 10, 0))), (2, vi l2)] 165 [vr u0] Q := by
  obtain ⟨b1, t1, e1_, k⟩ := k
  refine Z.eqs (lv' := [(0, vr (some (29, 3, 0))), (1, vr (some (a1, 10, 0))), (2, vi l2)]) (st' := [vr (some (b1, t1, 0))]) rfl (by rw [e1_] <;> rfl) ?_
  obtain ⟨b_, k⟩ := k
  refine z_ckcast dX3_code_165 (ctX3_131 _ b_.1 b_.2) ?_
  refine z_aload_n dX3_code_168 rfl rfl ?_
  obtain ⟨Y_, y_, k⟩ := k
  exact z_callV (as := [vr (some (29, 3, 0))]) (st := []) dX3_code_169 (vtX3_130 y_).1 (Nat.le_refl _) (Nat.le_trans (Nat.le_of_ble_eq_true rfl) (vtX3_130 y_).2.1) (Nat.le_trans (Nat.add_le_add_left (vtX3_130 y_).2.2 _) (Nat.le_of_ble_eq_true rfl)) rfl k
theorem sX3_code_172 {E : zE} {d : Nat} {Q : zO → zM → Prop} (M : zM) (a1 : Nat) (l2 : Int32) (hw : cw M) (k : Z E YX3_code (d + 1) M [(0, vr (some (29, 3, 0))), (1, vr (some (a1, 10, 0))), (2, vi (l2 + (1 : Int32)))] 146 [] Q) : Z E YX3_code (d + 1) M [(0, vr (some (29, 3, 0))), (1, vr (some (a1, 10, 0))), (2, vi l2)] 172 [] Q := by
  refine z_inc (v := (l2 + (1 : Int32))) dX3_code_172 rfl rfl (by decide) (lv' := [(0, vr (some (29, 3, 0))), (1, vr (some (a1, 10, 0))), (2, vi (l2 + (1 : Int32)))]) rfl ?_
  refine z_goto (tgt := 146) dX3_code_175 rfl ?_
  exact k
theorem sX3_code_185 {E : zE} {d : Nat} {Q : zO → zM → Prop} (M : zM) (s0 : Int32) (hw : cw M) (k : Z E YX3_put d M (zargs 0 [vr (some (29, 3, 0)), vi (25 : Int32), vi (0 : Int32), vi (0 : Int32)]) 0 [] (zafter E YX3_code (d + 1) [] 191 3 [] Q)) : Z E YX3_code (d + 1) M [(0, vr (some (29, 3, 0)))] 185 [vi s0] Q := by
  refine z_pop dX3_code_185 rfl ?_
  refine z_aload_n dX3_code_186 rfl rfl ?_
  refine z_bipush (v := 25) dX3_code_187 rfl ?_
  refine z_iconst (v := 0) dX3_code_189 rfl ?_
  refine z_iconst (v := 0) dX3_code_190 rfl ?_
  refine Z.pick [] rfl ?_
  exact z_callV (as := [vi (25 : Int32), vi (0 : Int32), vi (0 : Int32)]) (st := []) dX3_code_191 vsX3_83_3 (Nat.le_refl _) (Nat.le_of_ble_eq_true rfl) (Nat.le_of_ble_eq_true rfl) rfl k
theorem sX3_code_194 {E : zE} {d : Nat} {Q : zO → zM → Prop} (M : zM) (s0 : Int32) (hw : cw M) (k : Q (.inl none) M) : Z E YX3_code (d + 1) M [] 194 [vi s0] Q := by
  refine z_pop dX3_code_194 rfl ?_
  exact z_vret dX3_code_195 rfl k
/-! ScriptTypes$Coder.put(III)I -/
theorem bX3_put_0 : zdec cX3_put 0 [(0, .aload_n 0, 1), (1, .getfield 42, 3), (4, .sipush 600, 3), (7, .if_icmp .ge 80, 3), (10, .aload_n 0, 1), (11, .getfield 9, 3), (14, .aload_n 0, 1), (15, .getfield 42, 3), (18, .iload_n 1, 1), (19, .i2b, 1), (20, .bastore, 1), (21, .aload_n 0, 1), (22, .getfield 15, 3), (25, .aload_n 0, 1), (26, .getfield 42, 3), (29, .iload_n 2, 1)] = true := by decide +kernel
theorem dX3_put_0 : decode cX3_put 0 = .ok (.aload_n 0, 1) := zdec_at bX3_put_0 0 rfl
theorem dX3_put_1 : decode cX3_put 1 = .ok (.getfield 42, 3) := zdec_at bX3_put_0 1 rfl
theorem dX3_put_4 : decode cX3_put 4 = .ok (.sipush 600, 3) := zdec_at bX3_put_0 2 rfl
theorem dX3_put_7 : decode cX3_put 7 = .ok (.if_icmp .ge 80, 3) := zdec_at bX3_put_0 3 rfl
theorem dX3_put_10 : decode cX3_put 10 = .ok (.aload_n 0, 1) := zdec_at bX3_put_0 4 rfl
theorem dX3_put_11 : decode cX3_put 11 = .ok (.getfield 9, 3) := zdec_at bX3_put_0 5 rfl
theorem dX3_put_14 : decode cX3_put 14 = .ok (.aload_n 0, 1) := zdec_at bX3_put_0 6 rfl
theorem dX3_put_15 : decode cX3_put 15 = .ok (.getfield 42, 3) := zdec_at bX3_put_0 7 rfl
theorem dX3_put_18 : decode cX3_put 18 = .ok (.iload_n 1, 1) := zdec_at bX3_put_0 8 rfl
theorem dX3_put_19 : decode cX3_put 19 = .ok (.i2b, 1) := zdec_at bX3_put_0 9 rfl
theorem dX3_put_20 : decode cX3_put 20 = .ok (.bastore, 1) := zdec_at bX3_put_0 10 rfl
theorem dX3_put_21 : decode cX3_put 21 = .ok (.aload_n 0, 1) := zdec_at bX3_put_0 11 rfl
theorem dX3_put_22 : decode cX3_put 22 = .ok (.getfield 15, 3) := zdec_at bX3_put_0 12 rfl
theorem dX3_put_25 : decode cX3_put 25 = .ok (.aload_n 0, 1) := zdec_at bX3_put_0 13 rfl
theorem dX3_put_26 : decode cX3_put 26 = .ok (.getfield 42, 3) := zdec_at bX3_put_0 14 rfl
theorem dX3_put_29 : decode cX3_put 29 = .ok (.iload_n 2, 1) := zdec_at bX3_put_0 15 rfl
theorem bX3_put_30 : zdec cX3_put 30 [(30, .i2s, 1), (31, .sastore, 1), (32, .aload_n 0, 1), (33, .getfield 25, 3), (36, .aload_n 0, 1), (37, .getfield 42, 3), (40, .iload_n 3, 1), (41, .iastore, 1), (42, .aload_n 0, 1), (43, .getfield 19, 3), (46, .aload_n 0, 1), (47, .getfield 42, 3), (50, .aload_n 0, 1), (51, .invokevirtual 64, 3), (54, .i2s, 1), (55, .sastore, 1)] = true := by decide +kernel
theorem dX3_put_30 : decode cX3_put 30 = .ok (.i2s, 1) := zdec_at bX3_put_30 0 rfl
theorem dX3_put_31 : decode cX3_put 31 = .ok (.sastore, 1) := zdec_at bX3_put_30 1 rfl
theorem dX3_put_32 : decode cX3_put 32 = .ok (.aload_n 0, 1) := zdec_at bX3_put_30 2 rfl
theorem dX3_put_33 : decode cX3_put 33 = .ok (.getfield 25, 3) := zdec_at bX3_put_30 3 rfl
theorem dX3_put_36 : decode cX3_put 36 = .ok (.aload_n 0, 1) := zdec_at bX3_put_30 4 rfl
theorem dX3_put_37 : decode cX3_put 37 = .ok (.getfield 42, 3) := zdec_at bX3_put_30 5 rfl
theorem dX3_put_40 : decode cX3_put 40 = .ok (.iload_n 3, 1) := zdec_at bX3_put_30 6 rfl
theorem dX3_put_41 : decode cX3_put 41 = .ok (.iastore, 1) := zdec_at bX3_put_30 7 rfl
theorem dX3_put_42 : decode cX3_put 42 = .ok (.aload_n 0, 1) := zdec_at bX3_put_30 8 rfl
theorem dX3_put_43 : decode cX3_put 43 = .ok (.getfield 19, 3) := zdec_at bX3_put_30 9 rfl
theorem dX3_put_46 : decode cX3_put 46 = .ok (.aload_n 0, 1) := zdec_at bX3_put_30 10 rfl
theorem dX3_put_47 : decode cX3_put 47 = .ok (.getfield 42, 3) := zdec_at bX3_put_30 11 rfl
theorem dX3_put_50 : decode cX3_put 50 = .ok (.aload_n 0, 1) := zdec_at bX3_put_30 12 rfl
theorem dX3_put_51 : decode cX3_put 51 = .ok (.invokevirtual 64, 3) := zdec_at bX3_put_30 13 rfl
theorem dX3_put_54 : decode cX3_put 54 = .ok (.i2s, 1) := zdec_at bX3_put_30 14 rfl
theorem dX3_put_55 : decode cX3_put 55 = .ok (.sastore, 1) := zdec_at bX3_put_30 15 rfl
theorem bX3_put_56 : zdec cX3_put 56 [(56, .aload_n 0, 1), (57, .getfield 22, 3), (60, .aload_n 0, 1), (61, .getfield 42, 3), (64, .aload_n 0, 1), (65, .invokevirtual 68, 3), (68, .i2s, 1), (69, .sastore, 1), (70, .aload_n 0, 1), (71, .getfield 29, 3), (74, .aload_n 0, 1), (75, .getfield 42, 3), (78, .aload_n 0, 1), (79, .getfield 71, 3), (82, .getfield 75, 3), (85, .i2b, 1)] = true := by decide +kernel
theorem dX3_put_56 : decode cX3_put 56 = .ok (.aload_n 0, 1) := zdec_at bX3_put_56 0 rfl
theorem dX3_put_57 : decode cX3_put 57 = .ok (.getfield 22, 3) := zdec_at bX3_put_56 1 rfl
theorem dX3_put_60 : decode cX3_put 60 = .ok (.aload_n 0, 1) := zdec_at bX3_put_56 2 rfl
theorem dX3_put_61 : decode cX3_put 61 = .ok (.getfield 42, 3) := zdec_at bX3_put_56 3 rfl
theorem dX3_put_64 : decode cX3_put 64 = .ok (.aload_n 0, 1) := zdec_at bX3_put_56 4 rfl
theorem dX3_put_65 : decode cX3_put 65 = .ok (.invokevirtual 68, 3) := zdec_at bX3_put_56 5 rfl
theorem dX3_put_68 : decode cX3_put 68 = .ok (.i2s, 1) := zdec_at bX3_put_56 6 rfl
theorem dX3_put_69 : decode cX3_put 69 = .ok (.sastore, 1) := zdec_at bX3_put_56 7 rfl
theorem dX3_put_70 : decode cX3_put 70 = .ok (.aload_n 0, 1) := zdec_at bX3_put_56 8 rfl
theorem dX3_put_71 : decode cX3_put 71 = .ok (.getfield 29, 3) := zdec_at bX3_put_56 9 rfl
theorem dX3_put_74 : decode cX3_put 74 = .ok (.aload_n 0, 1) := zdec_at bX3_put_56 10 rfl
theorem dX3_put_75 : decode cX3_put 75 = .ok (.getfield 42, 3) := zdec_at bX3_put_56 11 rfl
theorem dX3_put_78 : decode cX3_put 78 = .ok (.aload_n 0, 1) := zdec_at bX3_put_56 12 rfl
theorem dX3_put_79 : decode cX3_put 79 = .ok (.getfield 71, 3) := zdec_at bX3_put_56 13 rfl
theorem dX3_put_82 : decode cX3_put 82 = .ok (.getfield 75, 3) := zdec_at bX3_put_56 14 rfl
theorem dX3_put_85 : decode cX3_put 85 = .ok (.i2b, 1) := zdec_at bX3_put_56 15 rfl
theorem bX3_put_86 : zdec cX3_put 86 [(86, .bastore, 1), (87, .aload_n 0, 1), (88, .dup, 1), (89, .getfield 42, 3), (92, .dup_x1, 1), (93, .iconst 1, 1), (94, .iadd, 1), (95, .putfield 42, 3), (98, .ireturn, 1)] = true := by decide +kernel
theorem dX3_put_86 : decode cX3_put 86 = .ok (.bastore, 1) := zdec_at bX3_put_86 0 rfl
theorem dX3_put_87 : decode cX3_put 87 = .ok (.aload_n 0, 1) := zdec_at bX3_put_86 1 rfl
theorem dX3_put_88 : decode cX3_put 88 = .ok (.dup, 1) := zdec_at bX3_put_86 2 rfl
theorem dX3_put_89 : decode cX3_put 89 = .ok (.getfield 42, 3) := zdec_at bX3_put_86 3 rfl
theorem dX3_put_92 : decode cX3_put 92 = .ok (.dup_x1, 1) := zdec_at bX3_put_86 4 rfl
theorem dX3_put_93 : decode cX3_put 93 = .ok (.iconst 1, 1) := zdec_at bX3_put_86 5 rfl
theorem dX3_put_94 : decode cX3_put 94 = .ok (.iadd, 1) := zdec_at bX3_put_86 6 rfl
theorem dX3_put_95 : decode cX3_put 95 = .ok (.putfield 42, 3) := zdec_at bX3_put_86 7 rfl
theorem dX3_put_98 : decode cX3_put 98 = .ok (.ireturn, 1) := zdec_at bX3_put_86 8 rfl
theorem sX3_put_0 {E : zE} {d : Nat} {Q : zO → zM → Prop} (M : zM) (l1 : Int32) (l2 : Int32) (l3 : Int32) (hw : cw M) (k : if (600 : Int32) ≤ (gi M 29 7) then (Z E YX3_put (d + 1) M [(0, vr (some (29, 3, 0)))] 87 [] Q) else (vp_in (gi M 29 7) 600 ∧ (vp_in (gi M 29 7) 600 ∧ (vp_in (gi M 29 7) 600 ∧ (Z E YX3_openTry d (si (si (si M 30 ((gi M 29 7)).toNatClampNeg (vp_nar .byte (l1).toInt8.toInt32)) 31 ((gi M 29 7)).toNatClampNeg (vp_nar .short (l2).toInt16.toInt32)) 34 ((gi M 29 7)).toNatClampNeg l3) (zargs 0 [vr (some (29, 3, 0))]) 0 [] (zafter E YX3_put (d + 1) [(0, vr (some (29, 3, 0)))] 51 3 [vi (gi M 29 7), vr (some (32, 102, 600))] Q)))))) : Z E YX3_put (d + 1) M [(0, vr (some (29, 3, 0))), (1, vi l1), (2, vi l2), (3, vi l3)] 0 [] Q := by
  refine z_aload_n dX3_put_0 rfl rfl ?_
  refine z_geti dX3_put_1 fsX3_42_3 ?_
  refine z_sipush (v := 600) dX3_put_4 rfl ?_
  refine z_icmp_ge (tgt := 87) dX3_put_7 rfl (fun h_ => ?_) (fun h_ => ?_)
  · have k := zit h_ k
    refine Z.pick [0] rfl ?_
    exact k
  · have k := zif h_ k
    refine z_aload_n dX3_put_10 rfl rfl ?_
    refine z_getr dX3_put_11 fsX3_9_3 (show gr M 29 0 = some (30, 101, 600) from cw_at hw 50 rfl) ?_
    refine z_aload_n dX3_put_14 rfl rfl ?_
    refine z_geti dX3_put_15 fsX3_42_3 ?_
    refine z_iload_n dX3_put_18 rfl rfl ?_
    refine z_i2b dX3_put_19 ?_
    obtain ⟨b_, k⟩ := k
    refine z_bast (by decide) dX3_put_20 b_ ?_
    refine z_aload_n dX3_put_21 rfl rfl ?_
    refine z_getr dX3_put_22 fsX3_15_3 (show gr M 29 1 = some (31, 102, 600) from cw_at hw 51 rfl) ?_
    refine z_aload_n dX3_put_25 rfl rfl ?_
    refine z_geti dX3_put_26 fsX3_42_3 ?_
    refine z_iload_n dX3_put_29 rfl rfl ?_
    refine z_i2s dX3_put_30 ?_
    obtain ⟨b_, k⟩ := k
    refine z_sast (by decide) dX3_put_31 b_ ?_
    refine z_aload_n dX3_put_32 rfl rfl ?_
    refine z_getr dX3_put_33 fsX3_25_3 (show gr M 29 4 = some (34, 100, 600) from cw_at hw 54 rfl) ?_
    refine z_aload_n dX3_put_36 rfl rfl ?_
    refine z_geti dX3_put_37 fsX3_42_3 ?_
    refine z_iload_n dX3_put_40 rfl rfl ?_
    obtain ⟨b_, k⟩ := k
    refine z_iast (by decide) dX3_put_41 b_ ?_
    refine z_aload_n dX3_put_42 rfl rfl ?_
    refine z_getr dX3_put_43 fsX3_19_3 (show gr M 29 2 = some (32, 102, 600) from cw_at hw 52 rfl) ?_
    refine z_aload_n dX3_put_46 rfl rfl ?_
    refine z_geti dX3_put_47 fsX3_42_3 ?_
    refine z_aload_n dX3_put_50 rfl rfl ?_
    refine Z.pick [0] rfl ?_
    exact z_callV (as := []) (st := [vi (gi M 29 7), vr (some (32, 102, 600))]) dX3_put_51 vsX3_64_3 (Nat.le_refl _) (Nat.le_of_ble_eq_true rfl) (Nat.le_of_ble_eq_true rfl) rfl k
theorem sX3_put_54 {E : zE} {d : Nat} {Q : zO → zM → Prop} (M : zM) (s0 : Int32) (s1 : Int32) (hw : cw M) (k : vp_in s1 600 ∧ (Z E YX3_values d (si M 32 (s1).toNatClampNeg (vp_nar .short (s0).toInt16.toInt32)) (zargs 0 [vr (some (29, 3, 0))]) 0 [] (zafter E YX3_put (d + 1) [(0, vr (some (29, 3, 0)))] 65 3 [vi (gi M 29 7), vr (some (33, 102, 600))] Q))) : Z E YX3_put (d + 1) M [(0, vr (some (29, 3, 0)))] 54 [vi s0, vi s1, vr (some (32, 102, 600))] Q := by
  refine z_i2s dX3_put_54 ?_
  obtain ⟨b_, k⟩ := k
  refine z_sast (by decide) dX3_put_55 b_ ?_
  refine z_aload_n dX3_put_56 rfl rfl ?_
  refine z_getr dX3_put_57 fsX3_22_3 (show gr M 29 3 = some (33, 102, 600) from cw_at hw 53 rfl) ?_
  refine z_aload_n dX3_put_60 rfl rfl ?_
  refine z_geti dX3_put_61 fsX3_42_3 ?_
  refine z_aload_n dX3_put_64 rfl rfl ?_
  exact z_callV (as := []) (st := [vi (gi M 29 7), vr (some (33, 102, 600))]) dX3_put_65 vsX3_68_3 (Nat.le_refl _) (Nat.le_of_ble_eq_true rfl) (Nat.le_of_ble_eq_true rfl) rfl k
theorem sX3_put_68 {E : zE} {d : Nat} {Q : zO → zM → Prop} (M : zM) (s0 : Int32) (s1 : Int32) (hw : cw M) (k : vp_in s1 600 ∧ (∃ b1 : Nat, (gr M 29 12) = some (b1, 10, 0) ∧ (vp_in (gi M 29 7) 600 ∧ (Z E YX3_put (d + 1) (si (si M 33 (s1).toNatClampNeg (vp_nar .short (s0).toInt16.toInt32)) 35 ((gi M 29 7)).toNatClampNeg (vp_nar .byte ((gi (si M 33 (s1).toNatClampNeg (vp_nar .short (s0).toInt16.toInt32)) b1 0)).toInt8.toInt32)) [(0, vr (some (29, 3, 0)))] 87 [] Q)))) : Z E YX3_put (d + 1) M [(0, vr (some (29, 3, 0)))] 68 [vi s0, vi s1, vr (some (33, 102, 600))] Q := by
  refine z_i2s dX3_put_68 ?_
  obtain ⟨b_, k⟩ := k
  refine z_sast (by decide) dX3_put_69 b_ ?_
  refine z_aload_n dX3_put_70 rfl rfl ?_
  refine z_getr dX3_put_71 fsX3_29_3 (show gr M 29 5 = some (35, 101, 600) from cw_at hw 55 rfl) ?_
  refine z_aload_n dX3_put_74 rfl rfl ?_
  refine z_geti dX3_put_75 fsX3_42_3 ?_
  refine z_aload_n dX3_put_78 rfl rfl ?_
  refine z_getr (r := (gr M 29 12)) dX3_put_79 fsX3_71_3 rfl ?_
  obtain ⟨b1, e1_, k⟩ := k
  refine Z.eqs (lv' := [(0, vr (some (29, 3, 0)))]) (st' := [vr (some (b1, 10, 0)), vi (gi M 29 7), vr (some (35, 101, 600))]) rfl (by rw [e1_] <;> rfl) ?_
  refine z_geti dX3_put_82 fsX3_75_10 ?_
  refine z_i2b dX3_put_85 ?_
  obtain ⟨b_, k⟩ := k
  refine z_bast (by decide) dX3_put_86 b_ ?_
  exact k
theorem sX3_put_87 {E : zE} {d : Nat} {Q : zO → zM → Prop} (M : zM)  (hw : cw M) (k : Q (.inl (some (vi (gi M 29 7)))) (si M 29 7 ((gi M 29 7) + (1 : Int32)))) : Z E YX3_put (d + 1) M [(0, vr (some (29, 3, 0)))] 87 [] Q := by
  refine z_aload_n dX3_put_87 rfl rfl ?_
  refine z_dup dX3_put_88 rfl ?_
  refine z_geti dX3_put_89 fsX3_42_3 ?_
  refine z_dup_x1 dX3_put_92 rfl rfl ?_
  refine z_iconst (v := 1) dX3_put_93 rfl ?_
  refine z_iadd dX3_put_94 ?_
  refine z_puti (by decide) dX3_put_95 (zfwN.w fwX3_42_3) rfl ⟨rfl, rfl⟩ ?_
  exact z_iret dX3_put_98 rfl rfl k
/-! ScriptTypes$Coder.openTry()I -/
theorem bX3_openTry_0 : zdec cX3_openTry 0 [(0, .aload_n 0, 1), (1, .getfield 46, 3), (4, .astore_n 1, 1), (5, .aload_n 1, 1), (6, .ifnull 24, 3), (9, .aload_n 1, 1), (10, .getfield 50, 3), (13, .iconst 2, 1), (14, .if_icmp .ne 8, 3), (17, .aload_n 1, 1), (18, .getfield 61, 3), (21, .ireturn, 1), (22, .aload_n 1, 1), (23, .getfield 58, 3), (26, .astore_n 1, 1), (27, .goto (-22), 3)] = true := by decide +kernel
theorem dX3_openTry_0 : decode cX3_openTry 0 = .ok (.aload_n 0, 1) := zdec_at bX3_openTry_0 0 rfl
theorem dX3_openTry_1 : decode cX3_openTry 1 = .ok (.getfield 46, 3) := zdec_at bX3_openTry_0 1 rfl
theorem dX3_openTry_4 : decode cX3_openTry 4 = .ok (.astore_n 1, 1) := zdec_at bX3_openTry_0 2 rfl
theorem dX3_openTry_5 : decode cX3_openTry 5 = .ok (.aload_n 1, 1) := zdec_at bX3_openTry_0 3 rfl
theorem dX3_openTry_6 : decode cX3_openTry 6 = .ok (.ifnull 24, 3) := zdec_at bX3_openTry_0 4 rfl
theorem dX3_openTry_9 : decode cX3_openTry 9 = .ok (.aload_n 1, 1) := zdec_at bX3_openTry_0 5 rfl
theorem dX3_openTry_10 : decode cX3_openTry 10 = .ok (.getfield 50, 3) := zdec_at bX3_openTry_0 6 rfl
theorem dX3_openTry_13 : decode cX3_openTry 13 = .ok (.iconst 2, 1) := zdec_at bX3_openTry_0 7 rfl
theorem dX3_openTry_14 : decode cX3_openTry 14 = .ok (.if_icmp .ne 8, 3) := zdec_at bX3_openTry_0 8 rfl
theorem dX3_openTry_17 : decode cX3_openTry 17 = .ok (.aload_n 1, 1) := zdec_at bX3_openTry_0 9 rfl
theorem dX3_openTry_18 : decode cX3_openTry 18 = .ok (.getfield 61, 3) := zdec_at bX3_openTry_0 10 rfl
theorem dX3_openTry_21 : decode cX3_openTry 21 = .ok (.ireturn, 1) := zdec_at bX3_openTry_0 11 rfl
theorem dX3_openTry_22 : decode cX3_openTry 22 = .ok (.aload_n 1, 1) := zdec_at bX3_openTry_0 12 rfl
theorem dX3_openTry_23 : decode cX3_openTry 23 = .ok (.getfield 58, 3) := zdec_at bX3_openTry_0 13 rfl
theorem dX3_openTry_26 : decode cX3_openTry 26 = .ok (.astore_n 1, 1) := zdec_at bX3_openTry_0 14 rfl
theorem dX3_openTry_27 : decode cX3_openTry 27 = .ok (.goto (-22), 3) := zdec_at bX3_openTry_0 15 rfl
theorem bX3_openTry_30 : zdec cX3_openTry 30 [(30, .iconst (-1), 1), (31, .ireturn, 1)] = true := by decide +kernel
theorem dX3_openTry_30 : decode cX3_openTry 30 = .ok (.iconst (-1), 1) := zdec_at bX3_openTry_30 0 rfl
theorem dX3_openTry_31 : decode cX3_openTry 31 = .ok (.ireturn, 1) := zdec_at bX3_openTry_30 1 rfl
theorem sX3_openTry_0 {E : zE} {d : Nat} {Q : zO → zM → Prop} (M : zM)  (hw : cw M) (k : Z E YX3_openTry d M [(1, vr (gr M 29 9))] 5 [] Q) : Z E YX3_openTry d M [(0, vr (some (29, 3, 0)))] 0 [] Q := by
  refine z_aload_n dX3_openTry_0 rfl rfl ?_
  refine z_getr (r := (gr M 29 9)) dX3_openTry_1 fsX3_46_3 rfl ?_
  refine z_ast_n dX3_openTry_4 rfl (by decide) (lv' := [(0, vr (some (29, 3, 0))), (1, vr (gr M 29 9))]) rfl ?_
  refine Z.pick [1] rfl ?_
  exact k
theorem sX3_openTry_5 {E : zE} {d : Nat} {Q : zO → zM → Prop} (M : zM) (r1 : Option zP) (hw : cw M) (k : if r1 = none then (Q (.inl (some (vi (-1 : Int32)))) M) else (∃ b1 : Nat, r1 = some (b1, 17, 0) ∧ (if (gi M b1 3) = (2 : Int32) then (Q (.inl (some (vi (gi M b1 7)))) M) else (Z E YX3_openTry d M [(1, vr (gr M b1 4))] 5 [] Q)))) : Z E YX3_openTry d M [(1, vr r1)] 5 [] Q := by
  refine z_aload_n dX3_openTry_5 rfl rfl ?_
  refine z_ifnull (tgt := 30) dX3_openTry_6 rfl (fun h_ => ?_) (fun h_ => ?_)
  · have k := zit h_ k
    refine z_iconst (v := -1) dX3_openTry_30 rfl ?_
    exact z_iret dX3_openTry_31 rfl rfl k
  · have k := zif h_ k
    refine z_aload_n dX3_openTry_9 rfl rfl ?_
    obtain ⟨b1, e1_, k⟩ := k
    refine Z.eqs (lv' := [(1, vr (some (b1, 17, 0)))]) (st' := [vr (some (b1, 17, 0))]) (by rw [e1_] <;> rfl) (by rw [e1_] <;> rfl) ?_
    refine z_geti dX3_openTry_10 fsX3_50_17 ?_
    refine z_iconst (v := 2) dX3_openTry_13 rfl ?_
    refine z_icmp_ne (tgt := 22) dX3_openTry_14 rfl (fun h_ => ?_) (fun h_ => ?_)
    · have k := zif h_ k
      refine z_aload_n dX3_openTry_22 rfl rfl ?_
      refine z_getr (r := (gr M b1 4)) dX3_openTry_23 fsX3_58_17 rfl ?_
      refine z_ast_n dX3_openTry_26 rfl (by decide) (lv' := [(1, vr (gr M b1 4))]) rfl ?_
      refine z_goto (tgt := 5) dX3_openTry_27 rfl ?_
      exact k
    · have k := zit h_ k
      refine z_aload_n dX3_openTry_17 rfl rfl ?_
      refine z_geti dX3_openTry_18 fsX3_61_17 ?_
      exact z_iret dX3_openTry_21 rfl rfl k
/-! ScriptTypes$Coder.values()I -/
theorem bX3_values_0 : zdec cX3_values 0 [(0, .iconst 0, 1), (1, .istore_n 1, 1), (2, .aload_n 0, 1), (3, .getfield 46, 3), (6, .astore_n 2, 1), (7, .aload_n 2, 1), (8, .ifnull 30, 3), (11, .iload_n 1, 1), (12, .aload_n 2, 1), (13, .getfield 50, 3), (16, .iconst 3, 1), (17, .if_icmp .ne 10, 3), (20, .aload_n 2, 1), (21, .getfield 55, 3), (24, .goto 4, 3), (27, .iconst 0, 1)] = true := by decide +kernel
theorem dX3_values_0 : decode cX3_values 0 = .ok (.iconst 0, 1) := zdec_at bX3_values_0 0 rfl
theorem dX3_values_1 : decode cX3_values 1 = .ok (.istore_n 1, 1) := zdec_at bX3_values_0 1 rfl
theorem dX3_values_2 : decode cX3_values 2 = .ok (.aload_n 0, 1) := zdec_at bX3_values_0 2 rfl
theorem dX3_values_3 : decode cX3_values 3 = .ok (.getfield 46, 3) := zdec_at bX3_values_0 3 rfl
theorem dX3_values_6 : decode cX3_values 6 = .ok (.astore_n 2, 1) := zdec_at bX3_values_0 4 rfl
theorem dX3_values_7 : decode cX3_values 7 = .ok (.aload_n 2, 1) := zdec_at bX3_values_0 5 rfl
theorem dX3_values_8 : decode cX3_values 8 = .ok (.ifnull 30, 3) := zdec_at bX3_values_0 6 rfl
theorem dX3_values_11 : decode cX3_values 11 = .ok (.iload_n 1, 1) := zdec_at bX3_values_0 7 rfl
theorem dX3_values_12 : decode cX3_values 12 = .ok (.aload_n 2, 1) := zdec_at bX3_values_0 8 rfl
theorem dX3_values_13 : decode cX3_values 13 = .ok (.getfield 50, 3) := zdec_at bX3_values_0 9 rfl
theorem dX3_values_16 : decode cX3_values 16 = .ok (.iconst 3, 1) := zdec_at bX3_values_0 10 rfl
theorem dX3_values_17 : decode cX3_values 17 = .ok (.if_icmp .ne 10, 3) := zdec_at bX3_values_0 11 rfl
theorem dX3_values_20 : decode cX3_values 20 = .ok (.aload_n 2, 1) := zdec_at bX3_values_0 12 rfl
theorem dX3_values_21 : decode cX3_values 21 = .ok (.getfield 55, 3) := zdec_at bX3_values_0 13 rfl
theorem dX3_values_24 : decode cX3_values 24 = .ok (.goto 4, 3) := zdec_at bX3_values_0 14 rfl
theorem dX3_values_27 : decode cX3_values 27 = .ok (.iconst 0, 1) := zdec_at bX3_values_0 15 rfl
theorem bX3_values_28 : zdec cX3_values 28 [(28, .iadd, 1), (29, .istore_n 1, 1), (30, .aload_n 2, 1), (31, .getfield 58, 3), (34, .astore_n 2, 1), (35, .goto (-28), 3), (38, .iload_n 1, 1), (39, .ireturn, 1)] = true := by decide +kernel
theorem dX3_values_28 : decode cX3_values 28 = .ok (.iadd, 1) := zdec_at bX3_values_28 0 rfl
theorem dX3_values_29 : decode cX3_values 29 = .ok (.istore_n 1, 1) := zdec_at bX3_values_28 1 rfl
theorem dX3_values_30 : decode cX3_values 30 = .ok (.aload_n 2, 1) := zdec_at bX3_values_28 2 rfl
theorem dX3_values_31 : decode cX3_values 31 = .ok (.getfield 58, 3) := zdec_at bX3_values_28 3 rfl
theorem dX3_values_34 : decode cX3_values 34 = .ok (.astore_n 2, 1) := zdec_at bX3_values_28 4 rfl
theorem dX3_values_35 : decode cX3_values 35 = .ok (.goto (-28), 3) := zdec_at bX3_values_28 5 rfl
theorem dX3_values_38 : decode cX3_values 38 = .ok (.iload_n 1, 1) := zdec_at bX3_values_28 6 rfl
theorem dX3_values_39 : decode cX3_values 39 = .ok (.ireturn, 1) := zdec_at bX3_values_28 7 rfl
theorem sX3_values_0 {E : zE} {d : Nat} {Q : zO → zM → Prop} (M : zM)  (hw : cw M) (k : Z E YX3_values d M [(1, vi (0 : Int32)), (2, vr (gr M 29 9))] 7 [] Q) : Z E YX3_values d M [(0, vr (some (29, 3, 0)))] 0 [] Q := by
  refine z_iconst (v := 0) dX3_values_0 rfl ?_
  refine z_ist_n dX3_values_1 rfl (by decide) (lv' := [(0, vr (some (29, 3, 0))), (1, vi (0 : Int32))]) rfl ?_
  refine z_aload_n dX3_values_2 rfl rfl ?_
  refine z_getr (r := (gr M 29 9)) dX3_values_3 fsX3_46_3 rfl ?_
  refine z_ast_n dX3_values_6 rfl (by decide) (lv' := [(0, vr (some (29, 3, 0))), (1, vi (0 : Int32)), (2, vr (gr M 29 9))]) rfl ?_
  refine Z.pick [1, 2] rfl ?_
  exact k
theorem sX3_values_7 {E : zE} {d : Nat} {Q : zO → zM → Prop} (M : zM) (l1 : Int32) (r2 : Option zP) (hw : cw M) (k : if r2 = none then (Q (.inl (some (vi l1))) M) else (∃ b1 : Nat, r2 = some (b1, 17, 0) ∧ (if (gi M b1 3) = (3 : Int32) then (Z E YX3_values d M [(1, vi (l1 + (gi M b1 8))), (2, vr (gr M b1 4))] 7 [] Q) else (Z E YX3_values d M [(1, vi (l1 + (0 : Int32))), (2, vr (gr M b1 4))] 7 [] Q)))) : Z E YX3_values d M [(1, vi l1), (2, vr r2)] 7 [] Q := by
  refine z_aload_n dX3_values_7 rfl rfl ?_
  refine z_ifnull (tgt := 38) dX3_values_8 rfl (fun h_ => ?_) (fun h_ => ?_)
  · have k := zit h_ k
    refine z_iload_n dX3_values_38 rfl rfl ?_
    exact z_iret dX3_values_39 rfl rfl k
  · have k := zif h_ k
    refine z_iload_n dX3_values_11 rfl rfl ?_
    refine z_aload_n dX3_values_12 rfl rfl ?_
    obtain ⟨b1, e1_, k⟩ := k
    refine Z.eqs (lv' := [(1, vi l1), (2, vr (some (b1, 17, 0)))]) (st' := [vr (some (b1, 17, 0)), vi l1]) (by rw [e1_] <;> rfl) (by rw [e1_] <;> rfl) ?_
    refine z_geti dX3_values_13 fsX3_50_17 ?_
    refine z_iconst (v := 3) dX3_values_16 rfl ?_
    refine z_icmp_ne (tgt := 27) dX3_values_17 rfl (fun h_ => ?_) (fun h_ => ?_)
    · have k := zif h_ k
      refine z_iconst (v := 0) dX3_values_27 rfl ?_
      refine z_iadd dX3_values_28 ?_
      refine z_ist_n dX3_values_29 rfl (by decide) (lv' := [(1, vi (l1 + (0 : Int32))), (2, vr (some (b1, 17, 0)))]) rfl ?_
      refine z_aload_n dX3_values_30 rfl rfl ?_
      refine z_getr (r := (gr M b1 4)) dX3_values_31 fsX3_58_17 rfl ?_
      refine z_ast_n dX3_values_34 rfl (by decide) (lv' := [(1, vi (l1 + (0 : Int32))), (2, vr (gr M b1 4))]) rfl ?_
      refine z_goto (tgt := 7) dX3_values_35 rfl ?_
      exact k
    · have k := zit h_ k
      refine z_aload_n dX3_values_20 rfl rfl ?_
      refine z_geti dX3_values_21 fsX3_55_17 ?_
      refine z_goto (tgt := 28) dX3_values_24 rfl ?_
      refine z_iadd dX3_values_28 ?_
      refine z_ist_n dX3_values_29 rfl (by decide) (lv' := [(1, vi (l1 + (gi M b1 8))), (2, vr (some (b1, 17, 0)))]) rfl ?_
      refine z_aload_n dX3_values_30 rfl rfl ?_
      refine z_getr (r := (gr M b1 4)) dX3_values_31 fsX3_58_17 rfl ?_
      refine z_ast_n dX3_values_34 rfl (by decide) (lv' := [(1, vi (l1 + (gi M b1 8))), (2, vr (gr M b1 4))]) rfl ?_
      refine z_goto (tgt := 7) dX3_values_35 rfl ?_
      exact k
/-! ScriptTypes$Coder.set(I)V -/
theorem bX3_set_0 : zdec cX3_set 0 [(0, .aload_n 0, 1), (1, .iload_n 1, 1), (2, .invokevirtual 119, 3), (5, .istore_n 2, 1), (6, .aload_n 0, 1), (7, .iload_n 2, 1), (8, .iconst (-1), 1), (9, .if_icmp .ne 7, 3), (12, .iconst 4, 1), (13, .goto 4, 3), (16, .iconst 2, 1), (17, .iload_n 2, 1), (18, .iconst (-1), 1), (19, .if_icmp .ne 7, 3), (22, .iconst 0, 1), (23, .goto 4, 3)] = true := by decide +kernel
theorem dX3_set_0 : decode cX3_set 0 = .ok (.aload_n 0, 1) := zdec_at bX3_set_0 0 rfl
theorem dX3_set_1 : decode cX3_set 1 = .ok (.iload_n 1, 1) := zdec_at bX3_set_0 1 rfl
theorem dX3_set_2 : decode cX3_set 2 = .ok (.invokevirtual 119, 3) := zdec_at bX3_set_0 2 rfl
theorem dX3_set_5 : decode cX3_set 5 = .ok (.istore_n 2, 1) := zdec_at bX3_set_0 3 rfl
theorem dX3_set_6 : decode cX3_set 6 = .ok (.aload_n 0, 1) := zdec_at bX3_set_0 4 rfl
theorem dX3_set_7 : decode cX3_set 7 = .ok (.iload_n 2, 1) := zdec_at bX3_set_0 5 rfl
theorem dX3_set_8 : decode cX3_set 8 = .ok (.iconst (-1), 1) := zdec_at bX3_set_0 6 rfl
theorem dX3_set_9 : decode cX3_set 9 = .ok (.if_icmp .ne 7, 3) := zdec_at bX3_set_0 7 rfl
theorem dX3_set_12 : decode cX3_set 12 = .ok (.iconst 4, 1) := zdec_at bX3_set_0 8 rfl
theorem dX3_set_13 : decode cX3_set 13 = .ok (.goto 4, 3) := zdec_at bX3_set_0 9 rfl
theorem dX3_set_16 : decode cX3_set 16 = .ok (.iconst 2, 1) := zdec_at bX3_set_0 10 rfl
theorem dX3_set_17 : decode cX3_set 17 = .ok (.iload_n 2, 1) := zdec_at bX3_set_0 11 rfl
theorem dX3_set_18 : decode cX3_set 18 = .ok (.iconst (-1), 1) := zdec_at bX3_set_0 12 rfl
theorem dX3_set_19 : decode cX3_set 19 = .ok (.if_icmp .ne 7, 3) := zdec_at bX3_set_0 13 rfl
theorem dX3_set_22 : decode cX3_set 22 = .ok (.iconst 0, 1) := zdec_at bX3_set_0 14 rfl
theorem dX3_set_23 : decode cX3_set 23 = .ok (.goto 4, 3) := zdec_at bX3_set_0 15 rfl
theorem bX3_set_26 : zdec cX3_set 26 [(26, .iload_n 2, 1), (27, .iload_n 1, 1), (28, .invokevirtual 83, 3), (31, .pop, 1), (32, .return_, 1)] = true := by decide +kernel
theorem dX3_set_26 : decode cX3_set 26 = .ok (.iload_n 2, 1) := zdec_at bX3_set_26 0 rfl
theorem dX3_set_27 : decode cX3_set 27 = .ok (.iload_n 1, 1) := zdec_at bX3_set_26 1 rfl
theorem dX3_set_28 : decode cX3_set 28 = .ok (.invokevirtual 83, 3) := zdec_at bX3_set_26 2 rfl
theorem dX3_set_31 : decode cX3_set 31 = .ok (.pop, 1) := zdec_at bX3_set_26 3 rfl
theorem dX3_set_32 : decode cX3_set 32 = .ok (.return_, 1) := zdec_at bX3_set_26 4 rfl
theorem sX3_set_0 {E : zE} {d : Nat} {Q : zO → zM → Prop} (M : zM) (l1 : Int32) (hw : cw M) (k : Z E YX3_hops d M (zargs 0 [vr (some (29, 3, 0)), vi l1]) 0 [] (zafter E YX3_set (d + 1) [(0, vr (some (29, 3, 0))), (1, vi l1)] 2 3 [] Q)) : Z E YX3_set (d + 1) M [(0, vr (some (29, 3, 0))), (1, vi l1)] 0 [] Q := by
  refine z_aload_n dX3_set_0 rfl rfl ?_
  refine z_iload_n dX3_set_1 rfl rfl ?_
  exact z_callV (as := [vi l1]) (st := []) dX3_set_2 vsX3_119_3 (Nat.le_refl _) (Nat.le_of_ble_eq_true rfl) (Nat.le_of_ble_eq_true rfl) rfl k
theorem sX3_set_5 {E : zE} {d : Nat} {Q : zO → zM → Prop} (M : zM) (l1 : Int32) (s0 : Int32) (hw : cw M) (k : if s0 = (-1 : Int32) then (Z E YX3_set (d + 1) M [(1, vi l1), (2, vi s0)] 17 [vi (4 : Int32), vr (some (29, 3, 0))] Q) else (Z E YX3_set (d + 1) M [(1, vi l1), (2, vi s0)] 17 [vi (2 : Int32), vr (some (29, 3, 0))] Q)) : Z E YX3_set (d + 1) M [(0, vr (some (29, 3, 0))), (1, vi l1)] 5 [vi s0] Q := by
  refine z_ist_n dX3_set_5 rfl (by decide) (lv' := [(0, vr (some (29, 3, 0))), (1, vi l1), (2, vi s0)]) rfl ?_
  refine z_aload_n dX3_set_6 rfl rfl ?_
  refine z_iload_n dX3_set_7 rfl rfl ?_
  refine z_iconst (v := -1) dX3_set_8 rfl ?_
  refine z_icmp_ne (tgt := 16) dX3_set_9 rfl (fun h_ => ?_) (fun h_ => ?_)
  · have k := zif h_ k
    refine z_iconst (v := 2) dX3_set_16 rfl ?_
    refine Z.pick [1, 2] rfl ?_
    exact k
  · have k := zit h_ k
    refine z_iconst (v := 4) dX3_set_12 rfl ?_
    refine z_goto (tgt := 17) dX3_set_13 rfl ?_
    refine Z.pick [1, 2] rfl ?_
    exact k
theorem sX3_set_17 {E : zE} {d : Nat} {Q : zO → zM → Prop} (M : zM) (l1 : Int32) (l2 : Int32) (s0 : Int32) (hw : cw M) (k : if l2 = (-1 : Int32) then (Z E YX3_put d M (zargs 0 [vr (some (29, 3, 0)), vi s0, vi (0 : Int32), vi l1]) 0 [] (zafter E YX3_set (d + 1) [] 28 3 [] Q)) else (Z E YX3_put d M (zargs 0 [vr (some (29, 3, 0)), vi s0, vi l2, vi l1]) 0 [] (zafter E YX3_set (d + 1) [] 28 3 [] Q))) : Z E YX3_set (d + 1) M [(1, vi l1), (2, vi l2)] 17 [vi s0, vr (some (29, 3, 0))] Q := by
  refine z_iload_n dX3_set_17 rfl rfl ?_
  refine z_iconst (v := -1) dX3_set_18 rfl ?_
  refine z_icmp_ne (tgt := 26) dX3_set_19 rfl (fun h_ => ?_) (fun h_ => ?_)
  · have k := zif h_ k
    refine z_iload_n dX3_set_26 rfl rfl ?_
    refine z_iload_n dX3_set_27 rfl rfl ?_
    refine Z.pick [] rfl ?_
    exact z_callV (as := [vi s0, vi l2, vi l1]) (st := []) dX3_set_28 vsX3_83_3 (Nat.le_refl _) (Nat.le_of_ble_eq_true rfl) (Nat.le_of_ble_eq_true rfl) rfl k
  · have k := zit h_ k
    refine z_iconst (v := 0) dX3_set_22 rfl ?_
    refine z_goto (tgt := 27) dX3_set_23 rfl ?_
    refine z_iload_n dX3_set_27 rfl rfl ?_
    refine Z.pick [] rfl ?_
    exact z_callV (as := [vi s0, vi (0 : Int32), vi l1]) (st := []) dX3_set_28 vsX3_83_3 (Nat.le_refl _) (Nat.le_of_ble_eq_true rfl) (Nat.le_of_ble_eq_true rfl) rfl k
theorem sX3_set_31 {E : zE} {d : Nat} {Q : zO → zM → Prop} (M : zM) (s0 : Int32) (hw : cw M) (k : Q (.inl none) M) : Z E YX3_set (d + 1) M [] 31 [vi s0] Q := by
  refine z_pop dX3_set_31 rfl ?_
  exact z_vret dX3_set_32 rfl k
/-! ScriptTypes$Coder.hops(I)I -/
theorem bX3_hops_0 : zdec cX3_hops 0 [(0, .iconst 0, 1), (1, .istore_n 2, 1), (2, .aload_n 0, 1), (3, .getfield 71, 3), (6, .astore_n 3, 1), (7, .aload_n 3, 1), (8, .getfield 113, 3), (11, .ifnull 24, 3), (14, .aload_n 3, 1), (15, .iload_n 1, 1), (16, .invokevirtual 115, 3), (19, .ifCond .eq 5, 3), (22, .iload_n 2, 1), (23, .ireturn, 1), (24, .iinc 2 1, 3), (27, .aload_n 3, 1)] = true := by decide +kernel
theorem dX3_hops_0 : decode cX3_hops 0 = .ok (.iconst 0, 1) := zdec_at bX3_hops_0 0 rfl
theorem dX3_hops_1 : decode cX3_hops 1 = .ok (.istore_n 2, 1) := zdec_at bX3_hops_0 1 rfl
theorem dX3_hops_2 : decode cX3_hops 2 = .ok (.aload_n 0, 1) := zdec_at bX3_hops_0 2 rfl
theorem dX3_hops_3 : decode cX3_hops 3 = .ok (.getfield 71, 3) := zdec_at bX3_hops_0 3 rfl
theorem dX3_hops_6 : decode cX3_hops 6 = .ok (.astore_n 3, 1) := zdec_at bX3_hops_0 4 rfl
theorem dX3_hops_7 : decode cX3_hops 7 = .ok (.aload_n 3, 1) := zdec_at bX3_hops_0 5 rfl
theorem dX3_hops_8 : decode cX3_hops 8 = .ok (.getfield 113, 3) := zdec_at bX3_hops_0 6 rfl
theorem dX3_hops_11 : decode cX3_hops 11 = .ok (.ifnull 24, 3) := zdec_at bX3_hops_0 7 rfl
theorem dX3_hops_14 : decode cX3_hops 14 = .ok (.aload_n 3, 1) := zdec_at bX3_hops_0 8 rfl
theorem dX3_hops_15 : decode cX3_hops 15 = .ok (.iload_n 1, 1) := zdec_at bX3_hops_0 9 rfl
theorem dX3_hops_16 : decode cX3_hops 16 = .ok (.invokevirtual 115, 3) := zdec_at bX3_hops_0 10 rfl
theorem dX3_hops_19 : decode cX3_hops 19 = .ok (.ifCond .eq 5, 3) := zdec_at bX3_hops_0 11 rfl
theorem dX3_hops_22 : decode cX3_hops 22 = .ok (.iload_n 2, 1) := zdec_at bX3_hops_0 12 rfl
theorem dX3_hops_23 : decode cX3_hops 23 = .ok (.ireturn, 1) := zdec_at bX3_hops_0 13 rfl
theorem dX3_hops_24 : decode cX3_hops 24 = .ok (.iinc 2 1, 3) := zdec_at bX3_hops_0 14 rfl
theorem dX3_hops_27 : decode cX3_hops 27 = .ok (.aload_n 3, 1) := zdec_at bX3_hops_0 15 rfl
theorem bX3_hops_28 : zdec cX3_hops 28 [(28, .getfield 113, 3), (31, .astore_n 3, 1), (32, .goto (-25), 3), (35, .iconst (-1), 1), (36, .ireturn, 1)] = true := by decide +kernel
theorem dX3_hops_28 : decode cX3_hops 28 = .ok (.getfield 113, 3) := zdec_at bX3_hops_28 0 rfl
theorem dX3_hops_31 : decode cX3_hops 31 = .ok (.astore_n 3, 1) := zdec_at bX3_hops_28 1 rfl
theorem dX3_hops_32 : decode cX3_hops 32 = .ok (.goto (-25), 3) := zdec_at bX3_hops_28 2 rfl
theorem dX3_hops_35 : decode cX3_hops 35 = .ok (.iconst (-1), 1) := zdec_at bX3_hops_28 3 rfl
theorem dX3_hops_36 : decode cX3_hops 36 = .ok (.ireturn, 1) := zdec_at bX3_hops_28 4 rfl
theorem sX3_hops_0 {E : zE} {d : Nat} {Q : zO → zM → Prop} (M : zM) (l1 : Int32) (hw : cw M) (k : Z E YX3_hops (d + 1) M [(1, vi l1), (2, vi (0 : Int32)), (3, vr (gr M 29 12))] 7 [] Q) : Z E YX3_hops (d + 1) M [(0, vr (some (29, 3, 0))), (1, vi l1)] 0 [] Q := by
  refine z_iconst (v := 0) dX3_hops_0 rfl ?_
  refine z_ist_n dX3_hops_1 rfl (by decide) (lv' := [(0, vr (some (29, 3, 0))), (1, vi l1), (2, vi (0 : Int32))]) rfl ?_
  refine z_aload_n dX3_hops_2 rfl rfl ?_
  refine z_getr (r := (gr M 29 12)) dX3_hops_3 fsX3_71_3 rfl ?_
  refine z_ast_n dX3_hops_6 rfl (by decide) (lv' := [(0, vr (some (29, 3, 0))), (1, vi l1), (2, vi (0 : Int32)), (3, vr (gr M 29 12))]) rfl ?_
  refine Z.pick [1, 2, 3] rfl ?_
  exact k
theorem sX3_hops_7 {E : zE} {d : Nat} {Q : zO → zM → Prop} (M : zM) (l1 : Int32) (l2 : Int32) (r3 : Option zP) (hw : cw M) (k : ∃ b1 : Nat, r3 = some (b1, 10, 0) ∧ (if (gr M b1 1) = none then (Q (.inl (some (vi (-1 : Int32)))) M) else (Z E YX11_has d M (zargs 0 [vr (some (b1, 10, 0)), vi l1]) 0 [] (zafter E YX3_hops (d + 1) [(1, vi l1), (2, vi l2), (3, vr (some (b1, 10, 0)))] 16 3 [] Q)))) : Z E YX3_hops (d + 1) M [(1, vi l1), (2, vi l2), (3, vr r3)] 7 [] Q := by
  refine z_aload_n dX3_hops_7 rfl rfl ?_
  obtain ⟨b1, e1_, k⟩ := k
  refine Z.eqs (lv' := [(1, vi l1), (2, vi l2), (3, vr (some (b1, 10, 0)))]) (st' := [vr (some (b1, 10, 0))]) (by rw [e1_] <;> rfl) (by rw [e1_] <;> rfl) ?_
  refine z_getr (r := (gr M b1 1)) dX3_hops_8 fsX3_113_10 rfl ?_
  refine z_ifnull (tgt := 35) dX3_hops_11 rfl (fun h_ => ?_) (fun h_ => ?_)
  · have k := zit h_ k
    refine z_iconst (v := -1) dX3_hops_35 rfl ?_
    exact z_iret dX3_hops_36 rfl rfl k
  · have k := zif h_ k
    refine z_aload_n dX3_hops_14 rfl rfl ?_
    refine z_iload_n dX3_hops_15 rfl rfl ?_
    exact z_callV (as := [vi l1]) (st := []) dX3_hops_16 vsX3_115_10 (Nat.le_refl _) (Nat.le_of_ble_eq_true rfl) (Nat.le_of_ble_eq_true rfl) rfl k
theorem sX3_hops_19 {E : zE} {d : Nat} {Q : zO → zM → Prop} (M : zM) (l1 : Int32) (l2 : Int32) (a3 : Nat) (s0 : Int32) (hw : cw M) (k : if s0 = 0 then (Z E YX3_hops (d + 1) M [(1, vi l1), (2, vi (l2 + (1 : Int32))), (3, vr (gr M a3 1))] 7 [] Q) else (Q (.inl (some (vi l2))) M)) : Z E YX3_hops (d + 1) M [(1, vi l1), (2, vi l2), (3, vr (some (a3, 10, 0)))] 19 [vi s0] Q := by
  refine z_if_eq (tgt := 24) dX3_hops_19 rfl (fun h_ => ?_) (fun h_ => ?_)
  · have k := zit h_ k
    refine z_inc (v := (l2 + (1 : Int32))) dX3_hops_24 rfl rfl (by decide) (lv' := [(1, vi l1), (2, vi (l2 + (1 : Int32))), (3, vr (some (a3, 10, 0)))]) rfl ?_
    refine z_aload_n dX3_hops_27 rfl rfl ?_
    refine z_getr (r := (gr M a3 1)) dX3_hops_28 fsX3_113_10 rfl ?_
    refine z_ast_n dX3_hops_31 rfl (by decide) (lv' := [(1, vi l1), (2, vi (l2 + (1 : Int32))), (3, vr (gr M a3 1))]) rfl ?_
    refine z_goto (tgt := 7) dX3_hops_32 rfl ?_
    exact k
  · have k := zif h_ k
    refine z_iload_n dX3_hops_22 rfl rfl ?_
    exact z_iret dX3_hops_23 rfl rfl k
/-! ScriptTypes$Coder.enter(I)LScriptTypes$Around; -/
theorem bX3_enter_0 : zdec cX3_enter 0 [(0, .aload_n 0, 1), (1, .getfield 91, 3), (4, .aload_n 0, 1), (5, .getfield 38, 3), (8, .invokevirtual 94, 3), (11, .if_icmp .ne 22, 3), (14, .aload_n 0, 1), (15, .getfield 38, 3), (18, .new 51, 3), (21, .dup, 1), (22, .aload_n 0, 1), (23, .getfield 91, 3), (26, .invokespecial 97, 3), (29, .invokevirtual 100, 3), (32, .pop, 1), (33, .aload_n 0, 1)] = true := by decide +kernel
theorem dX3_enter_0 : decode cX3_enter 0 = .ok (.aload_n 0, 1) := zdec_at bX3_enter_0 0 rfl
theorem dX3_enter_1 : decode cX3_enter 1 = .ok (.getfield 91, 3) := zdec_at bX3_enter_0 1 rfl
theorem dX3_enter_4 : decode cX3_enter 4 = .ok (.aload_n 0, 1) := zdec_at bX3_enter_0 2 rfl
theorem dX3_enter_5 : decode cX3_enter 5 = .ok (.getfield 38, 3) := zdec_at bX3_enter_0 3 rfl
theorem dX3_enter_8 : decode cX3_enter 8 = .ok (.invokevirtual 94, 3) := zdec_at bX3_enter_0 4 rfl
theorem dX3_enter_11 : decode cX3_enter 11 = .ok (.if_icmp .ne 22, 3) := zdec_at bX3_enter_0 5 rfl
theorem dX3_enter_14 : decode cX3_enter 14 = .ok (.aload_n 0, 1) := zdec_at bX3_enter_0 6 rfl
theorem dX3_enter_15 : decode cX3_enter 15 = .ok (.getfield 38, 3) := zdec_at bX3_enter_0 7 rfl
theorem dX3_enter_18 : decode cX3_enter 18 = .ok (.new 51, 3) := zdec_at bX3_enter_0 8 rfl
theorem dX3_enter_21 : decode cX3_enter 21 = .ok (.dup, 1) := zdec_at bX3_enter_0 9 rfl
theorem dX3_enter_22 : decode cX3_enter 22 = .ok (.aload_n 0, 1) := zdec_at bX3_enter_0 10 rfl
theorem dX3_enter_23 : decode cX3_enter 23 = .ok (.getfield 91, 3) := zdec_at bX3_enter_0 11 rfl
theorem dX3_enter_26 : decode cX3_enter 26 = .ok (.invokespecial 97, 3) := zdec_at bX3_enter_0 12 rfl
theorem dX3_enter_29 : decode cX3_enter 29 = .ok (.invokevirtual 100, 3) := zdec_at bX3_enter_0 13 rfl
theorem dX3_enter_32 : decode cX3_enter 32 = .ok (.pop, 1) := zdec_at bX3_enter_0 14 rfl
theorem dX3_enter_33 : decode cX3_enter 33 = .ok (.aload_n 0, 1) := zdec_at bX3_enter_0 15 rfl
theorem bX3_enter_34 : zdec cX3_enter 34 [(34, .getfield 38, 3), (37, .aload_n 0, 1), (38, .getfield 91, 3), (41, .invokevirtual 104, 3), (44, .checkcast 51, 3), (47, .astore_n 2, 1), (48, .aload_n 2, 1), (49, .iload_n 1, 1), (50, .aload_n 0, 1), (51, .getfield 46, 3), (54, .invokevirtual 108, 3), (57, .aload_n 0, 1), (58, .dup, 1), (59, .getfield 91, 3), (62, .iconst 1, 1), (63, .iadd, 1)] = true := by decide +kernel
theorem dX3_enter_34 : decode cX3_enter 34 = .ok (.getfield 38, 3) := zdec_at bX3_enter_34 0 rfl
theorem dX3_enter_37 : decode cX3_enter 37 = .ok (.aload_n 0, 1) := zdec_at bX3_enter_34 1 rfl
theorem dX3_enter_38 : decode cX3_enter 38 = .ok (.getfield 91, 3) := zdec_at bX3_enter_34 2 rfl
theorem dX3_enter_41 : decode cX3_enter 41 = .ok (.invokevirtual 104, 3) := zdec_at bX3_enter_34 3 rfl
theorem dX3_enter_44 : decode cX3_enter 44 = .ok (.checkcast 51, 3) := zdec_at bX3_enter_34 4 rfl
theorem dX3_enter_47 : decode cX3_enter 47 = .ok (.astore_n 2, 1) := zdec_at bX3_enter_34 5 rfl
theorem dX3_enter_48 : decode cX3_enter 48 = .ok (.aload_n 2, 1) := zdec_at bX3_enter_34 6 rfl
theorem dX3_enter_49 : decode cX3_enter 49 = .ok (.iload_n 1, 1) := zdec_at bX3_enter_34 7 rfl
theorem dX3_enter_50 : decode cX3_enter 50 = .ok (.aload_n 0, 1) := zdec_at bX3_enter_34 8 rfl
theorem dX3_enter_51 : decode cX3_enter 51 = .ok (.getfield 46, 3) := zdec_at bX3_enter_34 9 rfl
theorem dX3_enter_54 : decode cX3_enter 54 = .ok (.invokevirtual 108, 3) := zdec_at bX3_enter_34 10 rfl
theorem dX3_enter_57 : decode cX3_enter 57 = .ok (.aload_n 0, 1) := zdec_at bX3_enter_34 11 rfl
theorem dX3_enter_58 : decode cX3_enter 58 = .ok (.dup, 1) := zdec_at bX3_enter_34 12 rfl
theorem dX3_enter_59 : decode cX3_enter 59 = .ok (.getfield 91, 3) := zdec_at bX3_enter_34 13 rfl
theorem dX3_enter_62 : decode cX3_enter 62 = .ok (.iconst 1, 1) := zdec_at bX3_enter_34 14 rfl
theorem dX3_enter_63 : decode cX3_enter 63 = .ok (.iadd, 1) := zdec_at bX3_enter_34 15 rfl
theorem bX3_enter_64 : zdec cX3_enter 64 [(64, .putfield 91, 3), (67, .aload_n 0, 1), (68, .aload_n 2, 1), (69, .putfield 46, 3), (72, .aload_n 2, 1), (73, .areturn, 1)] = true := by decide +kernel
theorem dX3_enter_64 : decode cX3_enter 64 = .ok (.putfield 91, 3) := zdec_at bX3_enter_64 0 rfl
theorem dX3_enter_67 : decode cX3_enter 67 = .ok (.aload_n 0, 1) := zdec_at bX3_enter_64 1 rfl
theorem dX3_enter_68 : decode cX3_enter 68 = .ok (.aload_n 2, 1) := zdec_at bX3_enter_64 2 rfl
theorem dX3_enter_69 : decode cX3_enter 69 = .ok (.putfield 46, 3) := zdec_at bX3_enter_64 3 rfl
theorem dX3_enter_72 : decode cX3_enter 72 = .ok (.aload_n 2, 1) := zdec_at bX3_enter_64 4 rfl
theorem dX3_enter_73 : decode cX3_enter 73 = .ok (.areturn, 1) := zdec_at bX3_enter_64 5 rfl
theorem sX3_enter_0 {E : zE} {d : Nat} {Q : zO → zM → Prop} (M : zM) (l1 : Int32) (hw : cw M) (k : Z E YJ2_size d M (zargs 0 [vr (some (37, 11, 0))]) 0 [] (zafter E YX3_enter (d + 1) [(0, vr (some (29, 3, 0))), (1, vi l1)] 8 3 [vi (gi M 29 11)] Q)) : Z E YX3_enter (d + 1) M [(0, vr (some (29, 3, 0))), (1, vi l1)] 0 [] Q := by
  refine z_aload_n dX3_enter_0 rfl rfl ?_
  refine z_geti dX3_enter_1 fsX3_91_3 ?_
  refine z_aload_n dX3_enter_4 rfl rfl ?_
  refine z_getr dX3_enter_5 fsX3_38_3 (show gr M 29 10 = some (37, 11, 0) from cw_at hw 57 rfl) ?_
  exact z_callV (as := []) (st := [vi (gi M 29 11)]) dX3_enter_8 vsX3_94_11 (Nat.le_refl _) (Nat.le_of_ble_eq_true rfl) (Nat.le_of_ble_eq_true rfl) rfl k
theorem sX3_enter_11 {E : zE} {d : Nat} {Q : zO → zM → Prop} (M : zM) (l1 : Int32) (s0 : Int32) (s1 : Int32) (hw : cw M) (k : if s1 = s0 then (Z E YX3_enter (d + 1) (zn M 9) [(0, vr (some (29, 3, 0))), (1, vi l1)] 21 [vr (some ((zsz M), 17, 0)), vr (some (37, 11, 0))] Q) else (Z E YJ2_get d M (zargs 0 [vr (some (37, 11, 0)), vi (gi M 29 11)]) 0 [] (zafter E YX3_enter (d + 1) [(0, vr (some (29, 3, 0))), (1, vi l1)] 41 3 [] Q))) : Z E YX3_enter (d + 1) M [(0, vr (some (29, 3, 0))), (1, vi l1)] 11 [vi s0, vi s1] Q := by
  refine z_icmp_ne (tgt := 33) dX3_enter_11 rfl (fun h_ => ?_) (fun h_ => ?_)
  · have k := zif h_ k
    refine z_aload_n dX3_enter_33 rfl rfl ?_
    refine z_getr dX3_enter_34 fsX3_38_3 (show gr M 29 10 = some (37, 11, 0) from cw_at hw 57 rfl) ?_
    refine z_aload_n dX3_enter_37 rfl rfl ?_
    refine z_geti dX3_enter_38 fsX3_91_3 ?_
    exact z_callV (as := [vi (gi M 29 11)]) (st := []) dX3_enter_41 vsX3_104_11 (Nat.le_refl _) (Nat.le_of_ble_eq_true rfl) (Nat.le_of_ble_eq_true rfl) rfl k
  · have k := zit h_ k
    refine z_aload_n dX3_enter_14 rfl rfl ?_
    refine z_getr dX3_enter_15 fsX3_38_3 (show gr M 29 10 = some (37, 11, 0) from cw_at hw 57 rfl) ?_
    refine z_new dX3_enter_18 csX3_51 zff_17 ?_
    exact k
theorem sX3_enter_21 {E : zE} {d : Nat} {Q : zO → zM → Prop} (M : zM) (l1 : Int32) (p0 : Nat) (hw : cw M) (k : Z E YX40_init d M (zargs 0 [vr (some (p0, 17, 0)), vi (gi M 29 11)]) 0 [] (zafter E YX3_enter (d + 1) [(0, vr (some (29, 3, 0))), (1, vi l1)] 26 3 [vr (some (p0, 17, 0)), vr (some (37, 11, 0))] Q)) : Z E YX3_enter (d + 1) M [(0, vr (some (29, 3, 0))), (1, vi l1)] 21 [vr (some (p0, 17, 0)), vr (some (37, 11, 0))] Q := by
  refine z_dup dX3_enter_21 rfl ?_
  refine z_aload_n dX3_enter_22 rfl rfl ?_
  refine z_geti dX3_enter_23 fsX3_91_3 ?_
  exact z_callI (as := [vi (gi M 29 11)]) (st := [vr (some (p0, 17, 0)), vr (some (37, 11, 0))]) dX3_enter_26 isX3_97 (Nat.le_refl _) (Nat.le_of_ble_eq_true rfl) (Nat.le_of_ble_eq_true rfl) rfl k
theorem sX3_enter_29 {E : zE} {d : Nat} {Q : zO → zM → Prop} (M : zM) (l1 : Int32) (p0 : Nat) (hw : cw M) (k : Z E YJ2_add d M (zargs 0 [vr (some (37, 11, 0)), vr (some (p0, 17, 0))]) 0 [] (zafter E YX3_enter (d + 1) [(0, vr (some (29, 3, 0))), (1, vi l1)] 29 3 [] Q)) : Z E YX3_enter (d + 1) M [(0, vr (some (29, 3, 0))), (1, vi l1)] 29 [vr (some (p0, 17, 0)), vr (some (37, 11, 0))] Q := by
  exact z_callV (as := [vr (some (p0, 17, 0))]) (st := []) dX3_enter_29 vsX3_100_11 (Nat.le_refl _) (Nat.le_of_ble_eq_true rfl) (Nat.le_of_ble_eq_true rfl) rfl k
theorem sX3_enter_32 {E : zE} {d : Nat} {Q : zO → zM → Prop} (M : zM) (l1 : Int32) (s0 : Int32) (hw : cw M) (k : Z E YJ2_get d M (zargs 0 [vr (some (37, 11, 0)), vi (gi M 29 11)]) 0 [] (zafter E YX3_enter (d + 1) [(0, vr (some (29, 3, 0))), (1, vi l1)] 41 3 [] Q)) : Z E YX3_enter (d + 1) M [(0, vr (some (29, 3, 0))), (1, vi l1)] 32 [vi s0] Q := by
  refine z_pop dX3_enter_32 rfl ?_
  refine z_aload_n dX3_enter_33 rfl rfl ?_
  refine z_getr dX3_enter_34 fsX3_38_3 (show gr M 29 10 = some (37, 11, 0) from cw_at hw 57 rfl) ?_
  refine z_aload_n dX3_enter_37 rfl rfl ?_
  refine z_geti dX3_enter_38 fsX3_91_3 ?_
  exact z_callV (as := [vi (gi M 29 11)]) (st := []) dX3_enter_41 vsX3_104_11 (Nat.le_refl _) (Nat.le_of_ble_eq_true rfl) (Nat.le_of_ble_eq_true rfl) rfl k
theorem sX3_enter_44 {E : zE} {d : Nat} {Q : zO → zM → Prop} (M : zM) (l1 : Int32) (u0 : Option zP) (hw : cw M) (k : ∃ b1 : Nat, u0 = some (b1, 17, 0) ∧ (Z E YX40_begin d M (zargs 0 [vr (some (b1, 17, 0)), vi l1, vr (gr M 29 9)]) 0 [] (zafter E YX3_enter (d + 1) [(0, vr (some (29, 3, 0))), (2, vr (some (b1, 17, 0)))] 54 3 [] Q))) : Z E YX3_enter (d + 1) M [(0, vr (some (29, 3, 0))), (1, vi l1)] 44 [vr u0] Q := by
  obtain ⟨b1, e1_, k⟩ := k
  refine Z.eqs (lv' := [(0, vr (some (29, 3, 0))), (1, vi l1)]) (st' := [vr (some (b1, 17, 0))]) rfl (by rw [e1_] <;> rfl) ?_
  refine z_ckcast dX3_enter_44 ctX3_51_17 ?_
  refine z_ast_n dX3_enter_47 rfl (by decide) (lv' := [(0, vr (some (29, 3, 0))), (1, vi l1), (2, vr (some (b1, 17, 0)))]) rfl ?_
  refine z_aload_n dX3_enter_48 rfl rfl ?_
  refine z_iload_n dX3_enter_49 rfl rfl ?_
  refine z_aload_n dX3_enter_50 rfl rfl ?_
  refine z_getr (r := (gr M 29 9)) dX3_enter_51 fsX3_46_3 rfl ?_
  refine Z.pick [0, 2] rfl ?_
  exact z_callV (as := [vi l1, vr (gr M 29 9)]) (st := []) dX3_enter_54 vsX3_108_17 (Nat.le_refl _) (Nat.le_of_ble_eq_true rfl) (Nat.le_of_ble_eq_true rfl) rfl k
theorem sX3_enter_57 {E : zE} {d : Nat} {Q : zO → zM → Prop} (M : zM) (a2 : Nat) (hw : cw M) (k : Q (.inl (some (vr (some (a2, 17, 0))))) (sr (si M 29 11 ((gi M 29 11) + (1 : Int32))) 29 9 (some (a2, 17, 0)))) : Z E YX3_enter (d + 1) M [(0, vr (some (29, 3, 0))), (2, vr (some (a2, 17, 0)))] 57 [] Q := by
  refine z_aload_n dX3_enter_57 rfl rfl ?_
  refine z_dup dX3_enter_58 rfl ?_
  refine z_geti dX3_enter_59 fsX3_91_3 ?_
  refine z_iconst (v := 1) dX3_enter_62 rfl ?_
  refine z_iadd dX3_enter_63 ?_
  refine z_puti (by decide) dX3_enter_64 (zfwN.w fwX3_91_3) rfl ⟨rfl, rfl⟩ ?_
  refine z_aload_n dX3_enter_67 rfl rfl ?_
  refine z_aload_n dX3_enter_68 rfl rfl ?_
  refine z_putr (by decide) dX3_enter_69 (zfwN.w fwX3_46_3) rfl ?_
  refine z_aload_n dX3_enter_72 rfl rfl ?_
  exact z_aret dX3_enter_73 rfl rfl k
/-! ScriptTypes$Coder.goOut(Z)V -/
theorem bX3_goOut_0 : zdec cX3_goOut 0 [(0, .aload_n 0, 1), (1, .getfield 46, 3), (4, .astore_n 2, 1), (5, .aload_n 0, 1), (6, .getfield 46, 3), (9, .astore_n 3, 1), (10, .aload_n 3, 1), (11, .getfield 50, 3), (14, .ifCond .eq 23, 3), (17, .iload_n 1, 1), (18, .ifCond .ne 11, 3), (21, .aload_n 3, 1), (22, .getfield 50, 3), (25, .iconst 1, 1), (26, .if_icmp .eq 11, 3), (29, .aload_n 3, 1)] = true := by decide +kernel
theorem dX3_goOut_0 : decode cX3_goOut 0 = .ok (.aload_n 0, 1) := zdec_at bX3_goOut_0 0 rfl
theorem dX3_goOut_1 : decode cX3_goOut 1 = .ok (.getfield 46, 3) := zdec_at bX3_goOut_0 1 rfl
theorem dX3_goOut_4 : decode cX3_goOut 4 = .ok (.astore_n 2, 1) := zdec_at bX3_goOut_0 2 rfl
theorem dX3_goOut_5 : decode cX3_goOut 5 = .ok (.aload_n 0, 1) := zdec_at bX3_goOut_0 3 rfl
theorem dX3_goOut_6 : decode cX3_goOut 6 = .ok (.getfield 46, 3) := zdec_at bX3_goOut_0 4 rfl
theorem dX3_goOut_9 : decode cX3_goOut 9 = .ok (.astore_n 3, 1) := zdec_at bX3_goOut_0 5 rfl
theorem dX3_goOut_10 : decode cX3_goOut 10 = .ok (.aload_n 3, 1) := zdec_at bX3_goOut_0 6 rfl
theorem dX3_goOut_11 : decode cX3_goOut 11 = .ok (.getfield 50, 3) := zdec_at bX3_goOut_0 7 rfl
theorem dX3_goOut_14 : decode cX3_goOut 14 = .ok (.ifCond .eq 23, 3) := zdec_at bX3_goOut_0 8 rfl
theorem dX3_goOut_17 : decode cX3_goOut 17 = .ok (.iload_n 1, 1) := zdec_at bX3_goOut_0 9 rfl
theorem dX3_goOut_18 : decode cX3_goOut 18 = .ok (.ifCond .ne 11, 3) := zdec_at bX3_goOut_0 10 rfl
theorem dX3_goOut_21 : decode cX3_goOut 21 = .ok (.aload_n 3, 1) := zdec_at bX3_goOut_0 11 rfl
theorem dX3_goOut_22 : decode cX3_goOut 22 = .ok (.getfield 50, 3) := zdec_at bX3_goOut_0 12 rfl
theorem dX3_goOut_25 : decode cX3_goOut 25 = .ok (.iconst 1, 1) := zdec_at bX3_goOut_0 13 rfl
theorem dX3_goOut_26 : decode cX3_goOut 26 = .ok (.if_icmp .eq 11, 3) := zdec_at bX3_goOut_0 14 rfl
theorem dX3_goOut_29 : decode cX3_goOut 29 = .ok (.aload_n 3, 1) := zdec_at bX3_goOut_0 15 rfl
theorem bX3_goOut_30 : zdec cX3_goOut 30 [(30, .getfield 58, 3), (33, .astore_n 3, 1), (34, .goto (-24), 3), (37, .aload_n 0, 1), (38, .getfield 46, 3), (41, .aload_n 3, 1), (42, .if_acmp .eq 118, 3), (45, .iload_n 1, 1), (46, .ifCond .eq 14, 3), (49, .aload_n 0, 1), (50, .getfield 46, 3), (53, .aload_n 3, 1), (54, .getfield 123, 3), (57, .if_acmp .eq 103, 3), (60, .aload_n 0, 1), (61, .getfield 46, 3)] = true := by decide +kernel
theorem dX3_goOut_30 : decode cX3_goOut 30 = .ok (.getfield 58, 3) := zdec_at bX3_goOut_30 0 rfl
theorem dX3_goOut_33 : decode cX3_goOut 33 = .ok (.astore_n 3, 1) := zdec_at bX3_goOut_30 1 rfl
theorem dX3_goOut_34 : decode cX3_goOut 34 = .ok (.goto (-24), 3) := zdec_at bX3_goOut_30 2 rfl
theorem dX3_goOut_37 : decode cX3_goOut 37 = .ok (.aload_n 0, 1) := zdec_at bX3_goOut_30 3 rfl
theorem dX3_goOut_38 : decode cX3_goOut 38 = .ok (.getfield 46, 3) := zdec_at bX3_goOut_30 4 rfl
theorem dX3_goOut_41 : decode cX3_goOut 41 = .ok (.aload_n 3, 1) := zdec_at bX3_goOut_30 5 rfl
theorem dX3_goOut_42 : decode cX3_goOut 42 = .ok (.if_acmp .eq 118, 3) := zdec_at bX3_goOut_30 6 rfl
theorem dX3_goOut_45 : decode cX3_goOut 45 = .ok (.iload_n 1, 1) := zdec_at bX3_goOut_30 7 rfl
theorem dX3_goOut_46 : decode cX3_goOut 46 = .ok (.ifCond .eq 14, 3) := zdec_at bX3_goOut_30 8 rfl
theorem dX3_goOut_49 : decode cX3_goOut 49 = .ok (.aload_n 0, 1) := zdec_at bX3_goOut_30 9 rfl
theorem dX3_goOut_50 : decode cX3_goOut 50 = .ok (.getfield 46, 3) := zdec_at bX3_goOut_30 10 rfl
theorem dX3_goOut_53 : decode cX3_goOut 53 = .ok (.aload_n 3, 1) := zdec_at bX3_goOut_30 11 rfl
theorem dX3_goOut_54 : decode cX3_goOut 54 = .ok (.getfield 123, 3) := zdec_at bX3_goOut_30 12 rfl
theorem dX3_goOut_57 : decode cX3_goOut 57 = .ok (.if_acmp .eq 103, 3) := zdec_at bX3_goOut_30 13 rfl
theorem dX3_goOut_60 : decode cX3_goOut 60 = .ok (.aload_n 0, 1) := zdec_at bX3_goOut_30 14 rfl
theorem dX3_goOut_61 : decode cX3_goOut 61 = .ok (.getfield 46, 3) := zdec_at bX3_goOut_30 15 rfl
theorem bX3_goOut_64 : zdec cX3_goOut 64 [(64, .astore 4, 2), (66, .iconst 0, 1), (67, .istore 5, 2), (69, .aload 4, 2), (71, .getfield 50, 3), (74, .iconst 3, 1), (75, .if_icmp .ne 28, 3), (78, .iload 5, 2), (80, .aload 4, 2), (82, .getfield 55, 3), (85, .if_icmp .ge 18, 3), (88, .aload_n 0, 1), (89, .bipush 17, 2), (91, .iconst 0, 1), (92, .iconst 0, 1), (93, .invokevirtual 83, 3)] = true := by decide +kernel
theorem dX3_goOut_64 : decode cX3_goOut 64 = .ok (.astore 4, 2) := zdec_at bX3_goOut_64 0 rfl
theorem dX3_goOut_66 : decode cX3_goOut 66 = .ok (.iconst 0, 1) := zdec_at bX3_goOut_64 1 rfl
theorem dX3_goOut_67 : decode cX3_goOut 67 = .ok (.istore 5, 2) := zdec_at bX3_goOut_64 2 rfl
theorem dX3_goOut_69 : decode cX3_goOut 69 = .ok (.aload 4, 2) := zdec_at bX3_goOut_64 3 rfl
theorem dX3_goOut_71 : decode cX3_goOut 71 = .ok (.getfield 50, 3) := zdec_at bX3_goOut_64 4 rfl
theorem dX3_goOut_74 : decode cX3_goOut 74 = .ok (.iconst 3, 1) := zdec_at bX3_goOut_64 5 rfl
theorem dX3_goOut_75 : decode cX3_goOut 75 = .ok (.if_icmp .ne 28, 3) := zdec_at bX3_goOut_64 6 rfl
theorem dX3_goOut_78 : decode cX3_goOut 78 = .ok (.iload 5, 2) := zdec_at bX3_goOut_64 7 rfl
theorem dX3_goOut_80 : decode cX3_goOut 80 = .ok (.aload 4, 2) := zdec_at bX3_goOut_64 8 rfl
theorem dX3_goOut_82 : decode cX3_goOut 82 = .ok (.getfield 55, 3) := zdec_at bX3_goOut_64 9 rfl
theorem dX3_goOut_85 : decode cX3_goOut 85 = .ok (.if_icmp .ge 18, 3) := zdec_at bX3_goOut_64 10 rfl
theorem dX3_goOut_88 : decode cX3_goOut 88 = .ok (.aload_n 0, 1) := zdec_at bX3_goOut_64 11 rfl
theorem dX3_goOut_89 : decode cX3_goOut 89 = .ok (.bipush 17, 2) := zdec_at bX3_goOut_64 12 rfl
theorem dX3_goOut_91 : decode cX3_goOut 91 = .ok (.iconst 0, 1) := zdec_at bX3_goOut_64 13 rfl
theorem dX3_goOut_92 : decode cX3_goOut 92 = .ok (.iconst 0, 1) := zdec_at bX3_goOut_64 14 rfl
theorem dX3_goOut_93 : decode cX3_goOut 93 = .ok (.invokevirtual 83, 3) := zdec_at bX3_goOut_64 15 rfl
theorem bX3_goOut_96 : zdec cX3_goOut 96 [(96, .pop, 1), (97, .iinc 5 1, 3), (100, .goto (-31), 3), (103, .aload 4, 2), (105, .getfield 50, 3), (108, .iconst 2, 1), (109, .if_icmp .ne 12, 3), (112, .aload_n 0, 1), (113, .bipush 28, 2), (115, .iconst 0, 1), (116, .iconst 0, 1), (117, .invokevirtual 83, 3), (120, .pop, 1), (121, .aload_n 0, 1), (122, .aload 4, 2), (124, .getfield 58, 3)] = true := by decide +kernel
theorem dX3_goOut_96 : decode cX3_goOut 96 = .ok (.pop, 1) := zdec_at bX3_goOut_96 0 rfl
theorem dX3_goOut_97 : decode cX3_goOut 97 = .ok (.iinc 5 1, 3) := zdec_at bX3_goOut_96 1 rfl
theorem dX3_goOut_100 : decode cX3_goOut 100 = .ok (.goto (-31), 3) := zdec_at bX3_goOut_96 2 rfl
theorem dX3_goOut_103 : decode cX3_goOut 103 = .ok (.aload 4, 2) := zdec_at bX3_goOut_96 3 rfl
theorem dX3_goOut_105 : decode cX3_goOut 105 = .ok (.getfield 50, 3) := zdec_at bX3_goOut_96 4 rfl
theorem dX3_goOut_108 : decode cX3_goOut 108 = .ok (.iconst 2, 1) := zdec_at bX3_goOut_96 5 rfl
theorem dX3_goOut_109 : decode cX3_goOut 109 = .ok (.if_icmp .ne 12, 3) := zdec_at bX3_goOut_96 6 rfl
theorem dX3_goOut_112 : decode cX3_goOut 112 = .ok (.aload_n 0, 1) := zdec_at bX3_goOut_96 7 rfl
theorem dX3_goOut_113 : decode cX3_goOut 113 = .ok (.bipush 28, 2) := zdec_at bX3_goOut_96 8 rfl
theorem dX3_goOut_115 : decode cX3_goOut 115 = .ok (.iconst 0, 1) := zdec_at bX3_goOut_96 9 rfl
theorem dX3_goOut_116 : decode cX3_goOut 116 = .ok (.iconst 0, 1) := zdec_at bX3_goOut_96 10 rfl
theorem dX3_goOut_117 : decode cX3_goOut 117 = .ok (.invokevirtual 83, 3) := zdec_at bX3_goOut_96 11 rfl
theorem dX3_goOut_120 : decode cX3_goOut 120 = .ok (.pop, 1) := zdec_at bX3_goOut_96 12 rfl
theorem dX3_goOut_121 : decode cX3_goOut 121 = .ok (.aload_n 0, 1) := zdec_at bX3_goOut_96 13 rfl
theorem dX3_goOut_122 : decode cX3_goOut 122 = .ok (.aload 4, 2) := zdec_at bX3_goOut_96 14 rfl
theorem dX3_goOut_124 : decode cX3_goOut 124 = .ok (.getfield 58, 3) := zdec_at bX3_goOut_96 15 rfl
theorem bX3_goOut_127 : zdec cX3_goOut 127 [(127, .putfield 46, 3), (130, .aload 4, 2), (132, .getfield 126, 3), (135, .ifnull 22, 3), (138, .aload_n 0, 1), (139, .getfield 42, 3), (142, .sipush 600, 3), (145, .if_icmp .gt 12, 3), (148, .aload 4, 2), (150, .getfield 126, 3), (153, .aload_n 0, 1), (154, .invokevirtual 130, 3), (157, .goto (-120), 3), (160, .iload_n 1, 1), (161, .ifCond .eq 10, 3), (164, .aload_n 3, 1)] = true := by decide +kernel
theorem dX3_goOut_127 : decode cX3_goOut 127 = .ok (.putfield 46, 3) := zdec_at bX3_goOut_127 0 rfl
theorem dX3_goOut_130 : decode cX3_goOut 130 = .ok (.aload 4, 2) := zdec_at bX3_goOut_127 1 rfl
theorem dX3_goOut_132 : decode cX3_goOut 132 = .ok (.getfield 126, 3) := zdec_at bX3_goOut_127 2 rfl
theorem dX3_goOut_135 : decode cX3_goOut 135 = .ok (.ifnull 22, 3) := zdec_at bX3_goOut_127 3 rfl
theorem dX3_goOut_138 : decode cX3_goOut 138 = .ok (.aload_n 0, 1) := zdec_at bX3_goOut_127 4 rfl
theorem dX3_goOut_139 : decode cX3_goOut 139 = .ok (.getfield 42, 3) := zdec_at bX3_goOut_127 5 rfl
theorem dX3_goOut_142 : decode cX3_goOut 142 = .ok (.sipush 600, 3) := zdec_at bX3_goOut_127 6 rfl
theorem dX3_goOut_145 : decode cX3_goOut 145 = .ok (.if_icmp .gt 12, 3) := zdec_at bX3_goOut_127 7 rfl
theorem dX3_goOut_148 : decode cX3_goOut 148 = .ok (.aload 4, 2) := zdec_at bX3_goOut_127 8 rfl
theorem dX3_goOut_150 : decode cX3_goOut 150 = .ok (.getfield 126, 3) := zdec_at bX3_goOut_127 9 rfl
theorem dX3_goOut_153 : decode cX3_goOut 153 = .ok (.aload_n 0, 1) := zdec_at bX3_goOut_127 10 rfl
theorem dX3_goOut_154 : decode cX3_goOut 154 = .ok (.invokevirtual 130, 3) := zdec_at bX3_goOut_127 11 rfl
theorem dX3_goOut_157 : decode cX3_goOut 157 = .ok (.goto (-120), 3) := zdec_at bX3_goOut_127 12 rfl
theorem dX3_goOut_160 : decode cX3_goOut 160 = .ok (.iload_n 1, 1) := zdec_at bX3_goOut_127 13 rfl
theorem dX3_goOut_161 : decode cX3_goOut 161 = .ok (.ifCond .eq 10, 3) := zdec_at bX3_goOut_127 14 rfl
theorem dX3_goOut_164 : decode cX3_goOut 164 = .ok (.aload_n 3, 1) := zdec_at bX3_goOut_127 15 rfl
theorem bX3_goOut_165 : zdec cX3_goOut 165 [(165, .getfield 136, 3), (168, .goto 7, 3), (171, .aload_n 3, 1), (172, .getfield 140, 3), (175, .aload_n 0, 1), (176, .bipush 21, 2), (178, .iconst 0, 1), (179, .iconst 0, 1), (180, .invokevirtual 83, 3), (183, .invokevirtual 143, 3), (186, .aload_n 0, 1), (187, .aload_n 2, 1), (188, .putfield 46, 3), (191, .return_, 1)] = true := by decide +kernel
theorem dX3_goOut_165 : decode cX3_goOut 165 = .ok (.getfield 136, 3) := zdec_at bX3_goOut_165 0 rfl
theorem dX3_goOut_168 : decode cX3_goOut 168 = .ok (.goto 7, 3) := zdec_at bX3_goOut_165 1 rfl
theorem dX3_goOut_171 : decode cX3_goOut 171 = .ok (.aload_n 3, 1) := zdec_at bX3_goOut_165 2 rfl
theorem dX3_goOut_172 : decode cX3_goOut 172 = .ok (.getfield 140, 3) := zdec_at bX3_goOut_165 3 rfl
theorem dX3_goOut_175 : decode cX3_goOut 175 = .ok (.aload_n 0, 1) := zdec_at bX3_goOut_165 4 rfl
theorem dX3_goOut_176 : decode cX3_goOut 176 = .ok (.bipush 21, 2) := zdec_at bX3_goOut_165 5 rfl
theorem dX3_goOut_178 : decode cX3_goOut 178 = .ok (.iconst 0, 1) := zdec_at bX3_goOut_165 6 rfl
theorem dX3_goOut_179 : decode cX3_goOut 179 = .ok (.iconst 0, 1) := zdec_at bX3_goOut_165 7 rfl
theorem dX3_goOut_180 : decode cX3_goOut 180 = .ok (.invokevirtual 83, 3) := zdec_at bX3_goOut_165 8 rfl
theorem dX3_goOut_183 : decode cX3_goOut 183 = .ok (.invokevirtual 143, 3) := zdec_at bX3_goOut_165 9 rfl
theorem dX3_goOut_186 : decode cX3_goOut 186 = .ok (.aload_n 0, 1) := zdec_at bX3_goOut_165 10 rfl
theorem dX3_goOut_187 : decode cX3_goOut 187 = .ok (.aload_n 2, 1) := zdec_at bX3_goOut_165 11 rfl
theorem dX3_goOut_188 : decode cX3_goOut 188 = .ok (.putfield 46, 3) := zdec_at bX3_goOut_165 12 rfl
theorem dX3_goOut_191 : decode cX3_goOut 191 = .ok (.return_, 1) := zdec_at bX3_goOut_165 13 rfl
theorem sX3_goOut_0 {E : zE} {d : Nat} {Q : zO → zM → Prop} (M : zM) (l1 : Int32) (hw : cw M) (k : Z E YX3_goOut (d + 1) M [(0, vr (some (29, 3, 0))), (1, vi l1), (2, vr (gr M 29 9)), (3, vr (gr M 29 9))] 10 [] Q) : Z E YX3_goOut (d + 1) M [(0, vr (some (29, 3, 0))), (1, vi l1)] 0 [] Q := by
  refine z_aload_n dX3_goOut_0 rfl rfl ?_
  refine z_getr (r := (gr M 29 9)) dX3_goOut_1 fsX3_46_3 rfl ?_
  refine z_ast_n dX3_goOut_4 rfl (by decide) (lv' := [(0, vr (some (29, 3, 0))), (1, vi l1), (2, vr (gr M 29 9))]) rfl ?_
  refine z_aload_n dX3_goOut_5 rfl rfl ?_
  refine z_getr (r := (gr M 29 9)) dX3_goOut_6 fsX3_46_3 rfl ?_
  refine z_ast_n dX3_goOut_9 rfl (by decide) (lv' := [(0, vr (some (29, 3, 0))), (1, vi l1), (2, vr (gr M 29 9)), (3, vr (gr M 29 9))]) rfl ?_
  exact k
theorem sX3_goOut_10 {E : zE} {d : Nat} {Q : zO → zM → Prop} (M : zM) (l1 : Int32) (r2 : Option zP) (r3 : Option zP) (hw : cw M) (k : ∃ b1 : Nat, r3 = some (b1, 17, 0) ∧ (if (gi M b1 3) = 0 then (Z E YX3_goOut (d + 1) M [(0, vr (some (29, 3, 0))), (1, vi l1), (2, vr r2), (3, vr (some (b1, 17, 0)))] 37 [] Q) else (if l1 = 0 then (if (gi M b1 3) = (1 : Int32) then (Z E YX3_goOut (d + 1) M [(0, vr (some (29, 3, 0))), (1, vi l1), (2, vr r2), (3, vr (some (b1, 17, 0)))] 37 [] Q) else (Z E YX3_goOut (d + 1) M [(0, vr (some (29, 3, 0))), (1, vi l1), (2, vr r2), (3, vr (gr M b1 4))] 10 [] Q)) else (Z E YX3_goOut (d + 1) M [(0, vr (some (29, 3, 0))), (1, vi l1), (2, vr r2), (3, vr (gr M b1 4))] 10 [] Q)))) : Z E YX3_goOut (d + 1) M [(0, vr (some (29, 3, 0))), (1, vi l1), (2, vr r2), (3, vr r3)] 10 [] Q := by
  refine z_aload_n dX3_goOut_10 rfl rfl ?_
  obtain ⟨b1, e1_, k⟩ := k
  refine Z.eqs (lv' := [(0, vr (some (29, 3, 0))), (1, vi l1), (2, vr r2), (3, vr (some (b1, 17, 0)))]) (st' := [vr (some (b1, 17, 0))]) (by rw [e1_] <;> rfl) (by rw [e1_] <;> rfl) ?_
  refine z_geti dX3_goOut_11 fsX3_50_17 ?_
  refine z_if_eq (tgt := 37) dX3_goOut_14 rfl (fun h_ => ?_) (fun h_ => ?_)
  · have k := zit h_ k
    exact k
  · have k := zif h_ k
    refine z_iload_n dX3_goOut_17 rfl rfl ?_
    refine z_if_ne (tgt := 29) dX3_goOut_18 rfl (fun h_ => ?_) (fun h_ => ?_)
    · have k := zif h_ k
      refine z_aload_n dX3_goOut_29 rfl rfl ?_
      refine z_getr (r := (gr M b1 4)) dX3_goOut_30 fsX3_58_17 rfl ?_
      refine z_ast_n dX3_goOut_33 rfl (by decide) (lv' := [(0, vr (some (29, 3, 0))), (1, vi l1), (2, vr r2), (3, vr (gr M b1 4))]) rfl ?_
      refine z_goto (tgt := 10) dX3_goOut_34 rfl ?_
      exact k
    · have k := zit h_ k
      refine z_aload_n dX3_goOut_21 rfl rfl ?_
      refine z_geti dX3_goOut_22 fsX3_50_17 ?_
      refine z_iconst (v := 1) dX3_goOut_25 rfl ?_
      refine z_icmp_eq (tgt := 37) dX3_goOut_26 rfl (fun h_ => ?_) (fun h_ => ?_)
      · have k := zit h_ k
        exact k
      · have k := zif h_ k
        refine z_aload_n dX3_goOut_29 rfl rfl ?_
        refine z_getr (r := (gr M b1 4)) dX3_goOut_30 fsX3_58_17 rfl ?_
        refine z_ast_n dX3_goOut_33 rfl (by decide) (lv' := [(0, vr (some (29, 3, 0))), (1, vi l1), (2, vr r2), (3, vr (gr M b1 4))]) rfl ?_
        refine z_goto (tgt := 10) dX3_goOut_34 rfl ?_
        exact k
theorem sX3_goOut_37 {E : zE} {d : Nat} {Q : zO → zM → Prop} (M : zM) (l1 : Int32) (r2 : Option zP) (a3 : Nat) (hw : cw M) (k : (zcmp (gr M 29 9) ∧ zcmp (some (a3, 17, 0))) ∧ (if zfst (gr M 29 9) = zfst (some (a3, 17, 0)) then (Z E YX3_goOut (d + 1) M [(0, vr (some (29, 3, 0))), (1, vi l1), (2, vr r2), (3, vr (some (a3, 17, 0)))] 160 [] Q) else (if l1 = 0 then (Z E YX3_goOut (d + 1) M [(0, vr (some (29, 3, 0))), (1, vi l1), (2, vr r2), (3, vr (some (a3, 17, 0))), (4, vr (gr M 29 9)), (5, vi (0 : Int32))] 69 [] Q) else ((zcmp (gr M 29 9) ∧ zcmp (gr M a3 5)) ∧ (if zfst (gr M 29 9) = zfst (gr M a3 5) then (Z E YX3_goOut (d + 1) M [(0, vr (some (29, 3, 0))), (1, vi l1), (2, vr r2), (3, vr (some (a3, 17, 0)))] 160 [] Q) else (Z E YX3_goOut (d + 1) M [(0, vr (some (29, 3, 0))), (1, vi l1), (2, vr r2), (3, vr (some (a3, 17, 0))), (4, vr (gr M 29 9)), (5, vi (0 : Int32))] 69 [] Q)))))) : Z E YX3_goOut (d + 1) M [(0, vr (some (29, 3, 0))), (1, vi l1), (2, vr r2), (3, vr (some (a3, 17, 0)))] 37 [] Q := by
  refine z_aload_n dX3_goOut_37 rfl rfl ?_
  refine z_getr (r := (gr M 29 9)) dX3_goOut_38 fsX3_46_3 rfl ?_
  refine z_aload_n dX3_goOut_41 rfl rfl ?_
  obtain ⟨b_, k⟩ := k
  refine z_acmp_eq (tgt := 160) dX3_goOut_42 rfl b_.1 b_.2 (fun h_ => ?_) (fun h_ => ?_)
  · have k := zit h_ k
    exact k
  · have k := zif h_ k
    refine z_iload_n dX3_goOut_45 rfl rfl ?_
    refine z_if_eq (tgt := 60) dX3_goOut_46 rfl (fun h_ => ?_) (fun h_ => ?_)
    · have k := zit h_ k
      refine z_aload_n dX3_goOut_60 rfl rfl ?_
      refine z_getr (r := (gr M 29 9)) dX3_goOut_61 fsX3_46_3 rfl ?_
      refine z_ast dX3_goOut_64 (by decide) (lv' := [(0, vr (some (29, 3, 0))), (1, vi l1), (2, vr r2), (3, vr (some (a3, 17, 0))), (4, vr (gr M 29 9))]) rfl ?_
      refine z_iconst (v := 0) dX3_goOut_66 rfl ?_
      refine z_ist dX3_goOut_67 (by decide) (lv' := [(0, vr (some (29, 3, 0))), (1, vi l1), (2, vr r2), (3, vr (some (a3, 17, 0))), (4, vr (gr M 29 9)), (5, vi (0 : Int32))]) rfl ?_
      exact k
    · have k := zif h_ k
      refine z_aload_n dX3_goOut_49 rfl rfl ?_
      refine z_getr (r := (gr M 29 9)) dX3_goOut_50 fsX3_46_3 rfl ?_
      refine z_aload_n dX3_goOut_53 rfl rfl ?_
      refine z_getr (r := (gr M a3 5)) dX3_goOut_54 fsX3_123_17 rfl ?_
      obtain ⟨b_, k⟩ := k
      refine z_acmp_eq (tgt := 160) dX3_goOut_57 rfl b_.1 b_.2 (fun h_ => ?_) (fun h_ => ?_)
      · have k := zit h_ k
        exact k
      · have k := zif h_ k
        refine z_aload_n dX3_goOut_60 rfl rfl ?_
        refine z_getr (r := (gr M 29 9)) dX3_goOut_61 fsX3_46_3 rfl ?_
        refine z_ast dX3_goOut_64 (by decide) (lv' := [(0, vr (some (29, 3, 0))), (1, vi l1), (2, vr r2), (3, vr (some (a3, 17, 0))), (4, vr (gr M 29 9))]) rfl ?_
        refine z_iconst (v := 0) dX3_goOut_66 rfl ?_
        refine z_ist dX3_goOut_67 (by decide) (lv' := [(0, vr (some (29, 3, 0))), (1, vi l1), (2, vr r2), (3, vr (some (a3, 17, 0))), (4, vr (gr M 29 9)), (5, vi (0 : Int32))]) rfl ?_
        exact k
theorem sX3_goOut_69 {E : zE} {d : Nat} {Q : zO → zM → Prop} (M : zM) (l1 : Int32) (r2 : Option zP) (a3 : Nat) (r4 : Option zP) (l5 : Int32) (hw : cw M) (k : ∃ b1 : Nat, r4 = some (b1, 17, 0) ∧ (if (gi M b1 3) = (3 : Int32) then (if (gi M b1 8) ≤ l5 then (Z E YX3_goOut (d + 1) M [(0, vr (some (29, 3, 0))), (1, vi l1), (2, vr r2), (3, vr (some (a3, 17, 0))), (4, vr (some (b1, 17, 0)))] 103 [] Q) else (Z E YX3_put d M (zargs 0 [vr (some (29, 3, 0)), vi (17 : Int32), vi (0 : Int32), vi (0 : Int32)]) 0 [] (zafter E YX3_goOut (d + 1) [(0, vr (some (29, 3, 0))), (1, vi l1), (2, vr r2), (3, vr (some (a3, 17, 0))), (4, vr (some (b1, 17, 0))), (5, vi l5)] 93 3 [] Q))) else (Z E YX3_goOut (d + 1) M [(0, vr (some (29, 3, 0))), (1, vi l1), (2, vr r2), (3, vr (some (a3, 17, 0))), (4, vr (some (b1, 17, 0)))] 103 [] Q))) : Z E YX3_goOut (d + 1) M [(0, vr (some (29, 3, 0))), (1, vi l1), (2, vr r2), (3, vr (some (a3, 17, 0))), (4, vr r4), (5, vi l5)] 69 [] Q := by
  refine z_aload dX3_goOut_69 rfl ?_
  obtain ⟨b1, e1_, k⟩ := k
  refine Z.eqs (lv' := [(0, vr (some (29, 3, 0))), (1, vi l1), (2, vr r2), (3, vr (some (a3, 17, 0))), (4, vr (some (b1, 17, 0))), (5, vi l5)]) (st' := [vr (some (b1, 17, 0))]) (by rw [e1_] <;> rfl) (by rw [e1_] <;> rfl) ?_
  refine z_geti dX3_goOut_71 fsX3_50_17 ?_
  refine z_iconst (v := 3) dX3_goOut_74 rfl ?_
  refine z_icmp_ne (tgt := 103) dX3_goOut_75 rfl (fun h_ => ?_) (fun h_ => ?_)
  · have k := zif h_ k
    refine Z.pick [0, 1, 2, 3, 4] rfl ?_
    exact k
  · have k := zit h_ k
    refine z_iload dX3_goOut_78 rfl ?_
    refine z_aload dX3_goOut_80 rfl ?_
    refine z_geti dX3_goOut_82 fsX3_55_17 ?_
    refine z_icmp_ge (tgt := 103) dX3_goOut_85 rfl (fun h_ => ?_) (fun h_ => ?_)
    · have k := zit h_ k
      refine Z.pick [0, 1, 2, 3, 4] rfl ?_
      exact k
    · have k := zif h_ k
      refine z_aload_n dX3_goOut_88 rfl rfl ?_
      refine z_bipush (v := 17) dX3_goOut_89 rfl ?_
      refine z_iconst (v := 0) dX3_goOut_91 rfl ?_
      refine z_iconst (v := 0) dX3_goOut_92 rfl ?_
      exact z_callV (as := [vi (17 : Int32), vi (0 : Int32), vi (0 : Int32)]) (st := []) dX3_goOut_93 vsX3_83_3 (Nat.le_refl _) (Nat.le_of_ble_eq_true rfl) (Nat.le_of_ble_eq_true rfl) rfl k
theorem sX3_goOut_96 {E : zE} {d : Nat} {Q : zO → zM → Prop} (M : zM) (l1 : Int32) (r2 : Option zP) (a3 : Nat) (a4 : Nat) (l5 : Int32) (s0 : Int32) (hw : cw M) (k : Z E YX3_goOut (d + 1) M [(0, vr (some (29, 3, 0))), (1, vi l1), (2, vr r2), (3, vr (some (a3, 17, 0))), (4, vr (some (a4, 17, 0))), (5, vi (l5 + (1 : Int32)))] 69 [] Q) : Z E YX3_goOut (d + 1) M [(0, vr (some (29, 3, 0))), (1, vi l1), (2, vr r2), (3, vr (some (a3, 17, 0))), (4, vr (some (a4, 17, 0))), (5, vi l5)] 96 [vi s0] Q := by
  refine z_pop dX3_goOut_96 rfl ?_
  refine z_inc (v := (l5 + (1 : Int32))) dX3_goOut_97 rfl rfl (by decide) (lv' := [(0, vr (some (29, 3, 0))), (1, vi l1), (2, vr r2), (3, vr (some (a3, 17, 0))), (4, vr (some (a4, 17, 0))), (5, vi (l5 + (1 : Int32)))]) rfl ?_
  refine z_goto (tgt := 69) dX3_goOut_100 rfl ?_
  exact k
theorem sX3_goOut_103 {E : zE} {d : Nat} {Q : zO → zM → Prop} (M : zM) (l1 : Int32) (r2 : Option zP) (a3 : Nat) (a4 : Nat) (hw : cw M) (k : if (gi M a4 3) = (2 : Int32) then (Z E YX3_put d M (zargs 0 [vr (some (29, 3, 0)), vi (28 : Int32), vi (0 : Int32), vi (0 : Int32)]) 0 [] (zafter E YX3_goOut (d + 1) [(0, vr (some (29, 3, 0))), (1, vi l1), (2, vr r2), (3, vr (some (a3, 17, 0))), (4, vr (some (a4, 17, 0)))] 117 3 [] Q)) else (Z E YX3_goOut (d + 1) M [(0, vr (some (29, 3, 0))), (1, vi l1), (2, vr r2), (3, vr (some (a3, 17, 0))), (4, vr (some (a4, 17, 0)))] 121 [] Q)) : Z E YX3_goOut (d + 1) M [(0, vr (some (29, 3, 0))), (1, vi l1), (2, vr r2), (3, vr (some (a3, 17, 0))), (4, vr (some (a4, 17, 0)))] 103 [] Q := by
  refine z_aload dX3_goOut_103 rfl ?_
  refine z_geti dX3_goOut_105 fsX3_50_17 ?_
  refine z_iconst (v := 2) dX3_goOut_108 rfl ?_
  refine z_icmp_ne (tgt := 121) dX3_goOut_109 rfl (fun h_ => ?_) (fun h_ => ?_)
  · have k := zif h_ k
    exact k
  · have k := zit h_ k
    refine z_aload_n dX3_goOut_112 rfl rfl ?_
    refine z_bipush (v := 28) dX3_goOut_113 rfl ?_
    refine z_iconst (v := 0) dX3_goOut_115 rfl ?_
    refine z_iconst (v := 0) dX3_goOut_116 rfl ?_
    exact z_callV (as := [vi (28 : Int32), vi (0 : Int32), vi (0 : Int32)]) (st := []) dX3_goOut_117 vsX3_83_3 (Nat.le_refl _) (Nat.le_of_ble_eq_true rfl) (Nat.le_of_ble_eq_true rfl) rfl k
theorem sX3_goOut_120 {E : zE} {d : Nat} {Q : zO → zM → Prop} (M : zM) (l1 : Int32) (r2 : Option zP) (a3 : Nat) (a4 : Nat) (s0 : Int32) (hw : cw M) (k : Z E YX3_goOut (d + 1) M [(0, vr (some (29, 3, 0))), (1, vi l1), (2, vr r2), (3, vr (some (a3, 17, 0))), (4, vr (some (a4, 17, 0)))] 121 [] Q) : Z E YX3_goOut (d + 1) M [(0, vr (some (29, 3, 0))), (1, vi l1), (2, vr r2), (3, vr (some (a3, 17, 0))), (4, vr (some (a4, 17, 0)))] 120 [vi s0] Q := by
  refine z_pop dX3_goOut_120 rfl ?_
  exact k
theorem sX3_goOut_121 {E : zE} {d : Nat} {Q : zO → zM → Prop} (M : zM) (l1 : Int32) (r2 : Option zP) (a3 : Nat) (a4 : Nat) (hw : cw M) (k : if (gr (sr M 29 9 (gr M a4 4)) a4 6) = none then (Z E YX3_goOut (d + 1) (sr M 29 9 (gr M a4 4)) [(0, vr (some (29, 3, 0))), (1, vi l1), (2, vr r2), (3, vr (some (a3, 17, 0)))] 157 [] Q) else (if (600 : Int32) < (gi M 29 7) then (Z E YX3_goOut (d + 1) (sr M 29 9 (gr M a4 4)) [(0, vr (some (29, 3, 0))), (1, vi l1), (2, vr r2), (3, vr (some (a3, 17, 0)))] 157 [] Q) else (∃ b1 t1 : Nat, (gr (sr M 29 9 (gr M a4 4)) a4 6) = some (b1, t1, 0) ∧ (∃ Y_ : zY, vt_code t1 = some Y_ ∧ Z E Y_ d (sr M 29 9 (gr M a4 4)) (zargs 0 [vr (some (b1, t1, 0)), vr (some (29, 3, 0))]) 0 [] (zafter E YX3_goOut (d + 1) [(0, vr (some (29, 3, 0))), (1, vi l1), (2, vr r2), (3, vr (some (a3, 17, 0)))] 154 3 [] Q))))) : Z E YX3_goOut (d + 1) M [(0, vr (some (29, 3, 0))), (1, vi l1), (2, vr r2), (3, vr (some (a3, 17, 0))), (4, vr (some (a4, 17, 0)))] 121 [] Q := by
  refine z_aload_n dX3_goOut_121 rfl rfl ?_
  refine z_aload dX3_goOut_122 rfl ?_
  refine z_getr (r := (gr M a4 4)) dX3_goOut_124 fsX3_58_17 rfl ?_
  refine z_putr (by decide) dX3_goOut_127 (zfwN.w fwX3_46_3) rfl ?_
  refine z_aload dX3_goOut_130 rfl ?_
  refine z_getr (r := (gr (sr M 29 9 (gr M a4 4)) a4 6)) dX3_goOut_132 fsX3_126_17 rfl ?_
  refine z_ifnull (tgt := 157) dX3_goOut_135 rfl (fun h_ => ?_) (fun h_ => ?_)
  · have k := zit h_ k
    refine Z.pick [0, 1, 2, 3] rfl ?_
    exact k
  · have k := zif h_ k
    refine z_aload_n dX3_goOut_138 rfl rfl ?_
    refine z_geti dX3_goOut_139 fsX3_42_3 ?_
    refine z_sipush (v := 600) dX3_goOut_142 rfl ?_
    refine z_icmp_gt (tgt := 157) dX3_goOut_145 rfl (fun h_ => ?_) (fun h_ => ?_)
    · have k := zit h_ k
      refine Z.pick [0, 1, 2, 3] rfl ?_
      exact k
    · have k := zif h_ k
      refine z_aload dX3_goOut_148 rfl ?_
      refine z_getr (r := (gr (sr M 29 9 (gr M a4 4)) a4 6)) dX3_goOut_150 fsX3_126_17 rfl ?_
      refine z_aload_n dX3_goOut_153 rfl rfl ?_
      obtain ⟨b1, t1, e1_, k⟩ := k
      refine Z.eqs (lv' := [(0, vr (some (29, 3, 0))), (1, vi l1), (2, vr r2), (3, vr (some (a3, 17, 0))), (4, vr (some (a4, 17, 0)))]) (st' := [vr (some (29, 3, 0)), vr (some (b1, t1, 0))]) rfl (by rw [e1_] <;> rfl) ?_
      refine Z.pick [0, 1, 2, 3] rfl ?_
      obtain ⟨Y_, y_, k⟩ := k
      exact z_callV (as := [vr (some (29, 3, 0))]) (st := []) dX3_goOut_154 (vtX3_130 y_).1 (Nat.le_refl _) (Nat.le_trans (Nat.le_of_ble_eq_true rfl) (vtX3_130 y_).2.1) (Nat.le_trans (Nat.add_le_add_left (vtX3_130 y_).2.2 _) (Nat.le_of_ble_eq_true rfl)) rfl k
theorem sX3_goOut_157 {E : zE} {d : Nat} {Q : zO → zM → Prop} (M : zM) (l1 : Int32) (r2 : Option zP) (a3 : Nat) (hw : cw M) (k : Z E YX3_goOut (d + 1) M [(0, vr (some (29, 3, 0))), (1, vi l1), (2, vr r2), (3, vr (some (a3, 17, 0)))] 37 [] Q) : Z E YX3_goOut (d + 1) M [(0, vr (some (29, 3, 0))), (1, vi l1), (2, vr r2), (3, vr (some (a3, 17, 0)))] 157 [] Q := by
  refine z_goto (tgt := 37) dX3_goOut_157 rfl ?_
  exact k
theorem sX3_goOut_160 {E : zE} {d : Nat} {Q : zO → zM → Prop} (M : zM) (l1 : Int32) (r2 : Option zP) (a3 : Nat) (hw : cw M) (k : if l1 = 0 then (Z E YX3_put d M (zargs 0 [vr (some (29, 3, 0)), vi (21 : Int32), vi (0 : Int32), vi (0 : Int32)]) 0 [] (zafter E YX3_goOut (d + 1) [(0, vr (some (29, 3, 0))), (2, vr r2)] 180 3 [vr (gr M a3 1)] Q)) else (Z E YX3_put d M (zargs 0 [vr (some (29, 3, 0)), vi (21 : Int32), vi (0 : Int32), vi (0 : Int32)]) 0 [] (zafter E YX3_goOut (d + 1) [(0, vr (some (29, 3, 0))), (2, vr r2)] 180 3 [vr (gr M a3 2)] Q))) : Z E YX3_goOut (d + 1) M [(0, vr (some (29, 3, 0))), (1, vi l1), (2, vr r2), (3, vr (some (a3, 17, 0)))] 160 [] Q := by
  refine z_iload_n dX3_goOut_160 rfl rfl ?_
  refine z_if_eq (tgt := 171) dX3_goOut_161 rfl (fun h_ => ?_) (fun h_ => ?_)
  · have k := zit h_ k
    refine z_aload_n dX3_goOut_171 rfl rfl ?_
    refine z_getr (r := (gr M a3 1)) dX3_goOut_172 fsX3_140_17 rfl ?_
    refine z_aload_n dX3_goOut_175 rfl rfl ?_
    refine z_bipush (v := 21) dX3_goOut_176 rfl ?_
    refine z_iconst (v := 0) dX3_goOut_178 rfl ?_
    refine z_iconst (v := 0) dX3_goOut_179 rfl ?_
    refine Z.pick [0, 2] rfl ?_
    exact z_callV (as := [vi (21 : Int32), vi (0 : Int32), vi (0 : Int32)]) (st := [vr (gr M a3 1)]) dX3_goOut_180 vsX3_83_3 (Nat.le_refl _) (Nat.le_of_ble_eq_true rfl) (Nat.le_of_ble_eq_true rfl) rfl k
  · have k := zif h_ k
    refine z_aload_n dX3_goOut_164 rfl rfl ?_
    refine z_getr (r := (gr M a3 2)) dX3_goOut_165 fsX3_136_17 rfl ?_
    refine z_goto (tgt := 175) dX3_goOut_168 rfl ?_
    refine z_aload_n dX3_goOut_175 rfl rfl ?_
    refine z_bipush (v := 21) dX3_goOut_176 rfl ?_
    refine z_iconst (v := 0) dX3_goOut_178 rfl ?_
    refine z_iconst (v := 0) dX3_goOut_179 rfl ?_
    refine Z.pick [0, 2] rfl ?_
    exact z_callV (as := [vi (21 : Int32), vi (0 : Int32), vi (0 : Int32)]) (st := [vr (gr M a3 2)]) dX3_goOut_180 vsX3_83_3 (Nat.le_refl _) (Nat.le_of_ble_eq_true rfl) (Nat.le_of_ble_eq_true rfl) rfl k
theorem sX3_goOut_183 {E : zE} {d : Nat} {Q : zO → zM → Prop} (M : zM) (r2 : Option zP) (s0 : Int32) (u1 : Option zP) (hw : cw M) (k : ∃ b1 : Nat, u1 = some (b1, 18, 0) ∧ (Z E YX41_add d M (zargs 0 [vr (some (b1, 18, 0)), vi s0]) 0 [] (zafter E YX3_goOut (d + 1) [(0, vr (some (29, 3, 0))), (2, vr r2)] 183 3 [] Q))) : Z E YX3_goOut (d + 1) M [(0, vr (some (29, 3, 0))), (2, vr r2)] 183 [vi s0, vr u1] Q := by
  obtain ⟨b1, e1_, k⟩ := k
  refine Z.eqs (lv' := [(0, vr (some (29, 3, 0))), (2, vr r2)]) (st' := [vi s0, vr (some (b1, 18, 0))]) rfl (by rw [e1_] <;> rfl) ?_
  exact z_callV (as := [vi s0]) (st := []) dX3_goOut_183 vsX3_143_18 (Nat.le_refl _) (Nat.le_of_ble_eq_true rfl) (Nat.le_of_ble_eq_true rfl) rfl k
theorem sX3_goOut_186 {E : zE} {d : Nat} {Q : zO → zM → Prop} (M : zM) (r2 : Option zP) (hw : cw M) (k : Q (.inl none) (sr M 29 9 r2)) : Z E YX3_goOut (d + 1) M [(0, vr (some (29, 3, 0))), (2, vr r2)] 186 [] Q := by
  refine z_aload_n dX3_goOut_186 rfl rfl ?_
  refine z_aload_n dX3_goOut_187 rfl rfl ?_
  refine z_putr (by decide) dX3_goOut_188 (zfwN.w fwX3_46_3) rfl ?_
  exact z_vret dX3_goOut_191 rfl k
/-! ScriptTypes$Coder.site(II)V -/
theorem bX3_site_0 : zdec cX3_site 0 [(0, .aload_n 0, 1), (1, .getfield 80, 3), (4, .bipush 19, 2), (6, .if_icmp .gt 16, 3), (9, .aload_n 0, 1), (10, .getfield 32, 3), (13, .aload_n 0, 1), (14, .getfield 80, 3), (17, .aload_n 0, 1), (18, .getfield 42, 3), (21, .iastore, 1), (22, .iload_n 1, 1), (23, .bipush 16, 2), (25, .if_icmp .ne 17, 3), (28, .aload_n 0, 1), (29, .iload_n 1, 1)] = true := by decide +kernel
theorem dX3_site_0 : decode cX3_site 0 = .ok (.aload_n 0, 1) := zdec_at bX3_site_0 0 rfl
theorem dX3_site_1 : decode cX3_site 1 = .ok (.getfield 80, 3) := zdec_at bX3_site_0 1 rfl
theorem dX3_site_4 : decode cX3_site 4 = .ok (.bipush 19, 2) := zdec_at bX3_site_0 2 rfl
theorem dX3_site_6 : decode cX3_site 6 = .ok (.if_icmp .gt 16, 3) := zdec_at bX3_site_0 3 rfl
theorem dX3_site_9 : decode cX3_site 9 = .ok (.aload_n 0, 1) := zdec_at bX3_site_0 4 rfl
theorem dX3_site_10 : decode cX3_site 10 = .ok (.getfield 32, 3) := zdec_at bX3_site_0 5 rfl
theorem dX3_site_13 : decode cX3_site 13 = .ok (.aload_n 0, 1) := zdec_at bX3_site_0 6 rfl
theorem dX3_site_14 : decode cX3_site 14 = .ok (.getfield 80, 3) := zdec_at bX3_site_0 7 rfl
theorem dX3_site_17 : decode cX3_site 17 = .ok (.aload_n 0, 1) := zdec_at bX3_site_0 8 rfl
theorem dX3_site_18 : decode cX3_site 18 = .ok (.getfield 42, 3) := zdec_at bX3_site_0 9 rfl
theorem dX3_site_21 : decode cX3_site 21 = .ok (.iastore, 1) := zdec_at bX3_site_0 10 rfl
theorem dX3_site_22 : decode cX3_site 22 = .ok (.iload_n 1, 1) := zdec_at bX3_site_0 11 rfl
theorem dX3_site_23 : decode cX3_site 23 = .ok (.bipush 16, 2) := zdec_at bX3_site_0 12 rfl
theorem dX3_site_25 : decode cX3_site 25 = .ok (.if_icmp .ne 17, 3) := zdec_at bX3_site_0 13 rfl
theorem dX3_site_28 : decode cX3_site 28 = .ok (.aload_n 0, 1) := zdec_at bX3_site_0 14 rfl
theorem dX3_site_29 : decode cX3_site 29 = .ok (.iload_n 1, 1) := zdec_at bX3_site_0 15 rfl
theorem bX3_site_30 : zdec cX3_site 30 [(30, .iload_n 2, 1), (31, .aload_n 0, 1), (32, .getfield 80, 3), (35, .invokevirtual 83, 3), (38, .pop, 1), (39, .goto 14, 3), (42, .aload_n 0, 1), (43, .iload_n 1, 1), (44, .aload_n 0, 1), (45, .getfield 80, 3), (48, .iconst 0, 1), (49, .invokevirtual 83, 3), (52, .pop, 1), (53, .aload_n 0, 1), (54, .dup, 1), (55, .getfield 80, 3)] = true := by decide +kernel
theorem dX3_site_30 : decode cX3_site 30 = .ok (.iload_n 2, 1) := zdec_at bX3_site_30 0 rfl
theorem dX3_site_31 : decode cX3_site 31 = .ok (.aload_n 0, 1) := zdec_at bX3_site_30 1 rfl
theorem dX3_site_32 : decode cX3_site 32 = .ok (.getfield 80, 3) := zdec_at bX3_site_30 2 rfl
theorem dX3_site_35 : decode cX3_site 35 = .ok (.invokevirtual 83, 3) := zdec_at bX3_site_30 3 rfl
theorem dX3_site_38 : decode cX3_site 38 = .ok (.pop, 1) := zdec_at bX3_site_30 4 rfl
theorem dX3_site_39 : decode cX3_site 39 = .ok (.goto 14, 3) := zdec_at bX3_site_30 5 rfl
theorem dX3_site_42 : decode cX3_site 42 = .ok (.aload_n 0, 1) := zdec_at bX3_site_30 6 rfl
theorem dX3_site_43 : decode cX3_site 43 = .ok (.iload_n 1, 1) := zdec_at bX3_site_30 7 rfl
theorem dX3_site_44 : decode cX3_site 44 = .ok (.aload_n 0, 1) := zdec_at bX3_site_30 8 rfl
theorem dX3_site_45 : decode cX3_site 45 = .ok (.getfield 80, 3) := zdec_at bX3_site_30 9 rfl
theorem dX3_site_48 : decode cX3_site 48 = .ok (.iconst 0, 1) := zdec_at bX3_site_30 10 rfl
theorem dX3_site_49 : decode cX3_site 49 = .ok (.invokevirtual 83, 3) := zdec_at bX3_site_30 11 rfl
theorem dX3_site_52 : decode cX3_site 52 = .ok (.pop, 1) := zdec_at bX3_site_30 12 rfl
theorem dX3_site_53 : decode cX3_site 53 = .ok (.aload_n 0, 1) := zdec_at bX3_site_30 13 rfl
theorem dX3_site_54 : decode cX3_site 54 = .ok (.dup, 1) := zdec_at bX3_site_30 14 rfl
theorem dX3_site_55 : decode cX3_site 55 = .ok (.getfield 80, 3) := zdec_at bX3_site_30 15 rfl
theorem bX3_site_58 : zdec cX3_site 58 [(58, .iconst 1, 1), (59, .iadd, 1), (60, .putfield 80, 3), (63, .return_, 1)] = true := by decide +kernel
theorem dX3_site_58 : decode cX3_site 58 = .ok (.iconst 1, 1) := zdec_at bX3_site_58 0 rfl
theorem dX3_site_59 : decode cX3_site 59 = .ok (.iadd, 1) := zdec_at bX3_site_58 1 rfl
theorem dX3_site_60 : decode cX3_site 60 = .ok (.putfield 80, 3) := zdec_at bX3_site_58 2 rfl
theorem dX3_site_63 : decode cX3_site 63 = .ok (.return_, 1) := zdec_at bX3_site_58 3 rfl
theorem sX3_site_0 {E : zE} {d : Nat} {Q : zO → zM → Prop} (M : zM) (l1 : Int32) (l2 : Int32) (hw : cw M) (k : if (19 : Int32) < (gi M 29 8) then (Z E YX3_site (d + 1) M [(0, vr (some (29, 3, 0))), (1, vi l1), (2, vi l2)] 22 [] Q) else (vp_in (gi M 29 8) 20 ∧ (Z E YX3_site (d + 1) (si M 36 ((gi M 29 8)).toNatClampNeg (gi M 29 7)) [(0, vr (some (29, 3, 0))), (1, vi l1), (2, vi l2)] 22 [] Q))) : Z E YX3_site (d + 1) M [(0, vr (some (29, 3, 0))), (1, vi l1), (2, vi l2)] 0 [] Q := by
  refine z_aload_n dX3_site_0 rfl rfl ?_
  refine z_geti dX3_site_1 fsX3_80_3 ?_
  refine z_bipush (v := 19) dX3_site_4 rfl ?_
  refine z_icmp_gt (tgt := 22) dX3_site_6 rfl (fun h_ => ?_) (fun h_ => ?_)
  · have k := zit h_ k
    exact k
  · have k := zif h_ k
    refine z_aload_n dX3_site_9 rfl rfl ?_
    refine z_getr dX3_site_10 fsX3_32_3 (show gr M 29 6 = some (36, 100, 20) from cw_at hw 56 rfl) ?_
    refine z_aload_n dX3_site_13 rfl rfl ?_
    refine z_geti dX3_site_14 fsX3_80_3 ?_
    refine z_aload_n dX3_site_17 rfl rfl ?_
    refine z_geti dX3_site_18 fsX3_42_3 ?_
    obtain ⟨b_, k⟩ := k
    refine z_iast (by decide) dX3_site_21 b_ ?_
    exact k
theorem sX3_site_22 {E : zE} {d : Nat} {Q : zO → zM → Prop} (M : zM) (l1 : Int32) (l2 : Int32) (hw : cw M) (k : if l1 = (16 : Int32) then (Z E YX3_put d M (zargs 0 [vr (some (29, 3, 0)), vi l1, vi l2, vi (gi M 29 8)]) 0 [] (zafter E YX3_site (d + 1) [(0, vr (some (29, 3, 0)))] 35 3 [] Q)) else (Z E YX3_put d M (zargs 0 [vr (some (29, 3, 0)), vi l1, vi (gi M 29 8), vi (0 : Int32)]) 0 [] (zafter E YX3_site (d + 1) [(0, vr (some (29, 3, 0)))] 49 3 [] Q))) : Z E YX3_site (d + 1) M [(0, vr (some (29, 3, 0))), (1, vi l1), (2, vi l2)] 22 [] Q := by
  refine z_iload_n dX3_site_22 rfl rfl ?_
  refine z_bipush (v := 16) dX3_site_23 rfl ?_
  refine z_icmp_ne (tgt := 42) dX3_site_25 rfl (fun h_ => ?_) (fun h_ => ?_)
  · have k := zif h_ k
    refine z_aload_n dX3_site_42 rfl rfl ?_
    refine z_iload_n dX3_site_43 rfl rfl ?_
    refine z_aload_n dX3_site_44 rfl rfl ?_
    refine z_geti dX3_site_45 fsX3_80_3 ?_
    refine z_iconst (v := 0) dX3_site_48 rfl ?_
    refine Z.pick [0] rfl ?_
    exact z_callV (as := [vi l1, vi (gi M 29 8), vi (0 : Int32)]) (st := []) dX3_site_49 vsX3_83_3 (Nat.le_refl _) (Nat.le_of_ble_eq_true rfl) (Nat.le_of_ble_eq_true rfl) rfl k
  · have k := zit h_ k
    refine z_aload_n dX3_site_28 rfl rfl ?_
    refine z_iload_n dX3_site_29 rfl rfl ?_
    refine z_iload_n dX3_site_30 rfl rfl ?_
    refine z_aload_n dX3_site_31 rfl rfl ?_
    refine z_geti dX3_site_32 fsX3_80_3 ?_
    refine Z.pick [0] rfl ?_
    exact z_callV (as := [vi l1, vi l2, vi (gi M 29 8)]) (st := []) dX3_site_35 vsX3_83_3 (Nat.le_refl _) (Nat.le_of_ble_eq_true rfl) (Nat.le_of_ble_eq_true rfl) rfl k
theorem sX3_site_38 {E : zE} {d : Nat} {Q : zO → zM → Prop} (M : zM) (s0 : Int32) (hw : cw M) (k : Q (.inl none) (si M 29 8 ((gi M 29 8) + (1 : Int32)))) : Z E YX3_site (d + 1) M [(0, vr (some (29, 3, 0)))] 38 [vi s0] Q := by
  refine z_pop dX3_site_38 rfl ?_
  refine z_goto (tgt := 53) dX3_site_39 rfl ?_
  refine z_aload_n dX3_site_53 rfl rfl ?_
  refine z_dup dX3_site_54 rfl ?_
  refine z_geti dX3_site_55 fsX3_80_3 ?_
  refine z_iconst (v := 1) dX3_site_58 rfl ?_
  refine z_iadd dX3_site_59 ?_
  refine z_puti (by decide) dX3_site_60 (zfwN.w fwX3_80_3) rfl ⟨rfl, rfl⟩ ?_
  exact z_vret dX3_site_63 rfl k
theorem sX3_site_52 {E : zE} {d : Nat} {Q : zO → zM → Prop} (M : zM) (s0 : Int32) (hw : cw M) (k : Q (.inl none) (si M 29 8 ((gi M 29 8) + (1 : Int32)))) : Z E YX3_site (d + 1) M [(0, vr (some (29, 3, 0)))] 52 [vi s0] Q := by
  refine z_pop dX3_site_52 rfl ?_
  refine z_aload_n dX3_site_53 rfl rfl ?_
  refine z_dup dX3_site_54 rfl ?_
  refine z_geti dX3_site_55 fsX3_80_3 ?_
  refine z_iconst (v := 1) dX3_site_58 rfl ?_
  refine z_iadd dX3_site_59 ?_
  refine z_puti (by decide) dX3_site_60 (zfwN.w fwX3_80_3) rfl ⟨rfl, rfl⟩ ?_
  exact z_vret dX3_site_63 rfl k
/-! ScriptTypes$Coder.get(I)V -/
theorem bX3_get_0 : zdec cX3_get 0 [(0, .aload_n 0, 1), (1, .iload_n 1, 1), (2, .invokevirtual 119, 3), (5, .istore_n 2, 1), (6, .aload_n 0, 1), (7, .iload_n 2, 1), (8, .iconst (-1), 1), (9, .if_icmp .ne 7, 3), (12, .iconst 3, 1), (13, .goto 4, 3), (16, .iconst 1, 1), (17, .iload_n 2, 1), (18, .iconst (-1), 1), (19, .if_icmp .ne 7, 3), (22, .iconst 0, 1), (23, .goto 4, 3)] = true := by decide +kernel
theorem dX3_get_0 : decode cX3_get 0 = .ok (.aload_n 0, 1) := zdec_at bX3_get_0 0 rfl
theorem dX3_get_1 : decode cX3_get 1 = .ok (.iload_n 1, 1) := zdec_at bX3_get_0 1 rfl
theorem dX3_get_2 : decode cX3_get 2 = .ok (.invokevirtual 119, 3) := zdec_at bX3_get_0 2 rfl
theorem dX3_get_5 : decode cX3_get 5 = .ok (.istore_n 2, 1) := zdec_at bX3_get_0 3 rfl
theorem dX3_get_6 : decode cX3_get 6 = .ok (.aload_n 0, 1) := zdec_at bX3_get_0 4 rfl
theorem dX3_get_7 : decode cX3_get 7 = .ok (.iload_n 2, 1) := zdec_at bX3_get_0 5 rfl
theorem dX3_get_8 : decode cX3_get 8 = .ok (.iconst (-1), 1) := zdec_at bX3_get_0 6 rfl
theorem dX3_get_9 : decode cX3_get 9 = .ok (.if_icmp .ne 7, 3) := zdec_at bX3_get_0 7 rfl
theorem dX3_get_12 : decode cX3_get 12 = .ok (.iconst 3, 1) := zdec_at bX3_get_0 8 rfl
theorem dX3_get_13 : decode cX3_get 13 = .ok (.goto 4, 3) := zdec_at bX3_get_0 9 rfl
theorem dX3_get_16 : decode cX3_get 16 = .ok (.iconst 1, 1) := zdec_at bX3_get_0 10 rfl
theorem dX3_get_17 : decode cX3_get 17 = .ok (.iload_n 2, 1) := zdec_at bX3_get_0 11 rfl
theorem dX3_get_18 : decode cX3_get 18 = .ok (.iconst (-1), 1) := zdec_at bX3_get_0 12 rfl
theorem dX3_get_19 : decode cX3_get 19 = .ok (.if_icmp .ne 7, 3) := zdec_at bX3_get_0 13 rfl
theorem dX3_get_22 : decode cX3_get 22 = .ok (.iconst 0, 1) := zdec_at bX3_get_0 14 rfl
theorem dX3_get_23 : decode cX3_get 23 = .ok (.goto 4, 3) := zdec_at bX3_get_0 15 rfl
theorem bX3_get_26 : zdec cX3_get 26 [(26, .iload_n 2, 1), (27, .iload_n 1, 1), (28, .invokevirtual 83, 3), (31, .pop, 1), (32, .return_, 1)] = true := by decide +kernel
theorem dX3_get_26 : decode cX3_get 26 = .ok (.iload_n 2, 1) := zdec_at bX3_get_26 0 rfl
theorem dX3_get_27 : decode cX3_get 27 = .ok (.iload_n 1, 1) := zdec_at bX3_get_26 1 rfl
theorem dX3_get_28 : decode cX3_get 28 = .ok (.invokevirtual 83, 3) := zdec_at bX3_get_26 2 rfl
theorem dX3_get_31 : decode cX3_get 31 = .ok (.pop, 1) := zdec_at bX3_get_26 3 rfl
theorem dX3_get_32 : decode cX3_get 32 = .ok (.return_, 1) := zdec_at bX3_get_26 4 rfl
theorem sX3_get_0 {E : zE} {d : Nat} {Q : zO → zM → Prop} (M : zM) (l1 : Int32) (hw : cw M) (k : Z E YX3_hops d M (zargs 0 [vr (some (29, 3, 0)), vi l1]) 0 [] (zafter E YX3_get (d + 1) [(0, vr (some (29, 3, 0))), (1, vi l1)] 2 3 [] Q)) : Z E YX3_get (d + 1) M [(0, vr (some (29, 3, 0))), (1, vi l1)] 0 [] Q := by
  refine z_aload_n dX3_get_0 rfl rfl ?_
  refine z_iload_n dX3_get_1 rfl rfl ?_
  exact z_callV (as := [vi l1]) (st := []) dX3_get_2 vsX3_119_3 (Nat.le_refl _) (Nat.le_of_ble_eq_true rfl) (Nat.le_of_ble_eq_true rfl) rfl k
theorem sX3_get_5 {E : zE} {d : Nat} {Q : zO → zM → Prop} (M : zM) (l1 : Int32) (s0 : Int32) (hw : cw M) (k : if s0 = (-1 : Int32) then (Z E YX3_get (d + 1) M [(1, vi l1), (2, vi s0)] 17 [vi (3 : Int32), vr (some (29, 3, 0))] Q) else (Z E YX3_get (d + 1) M [(1, vi l1), (2, vi s0)] 17 [vi (1 : Int32), vr (some (29, 3, 0))] Q)) : Z E YX3_get (d + 1) M [(0, vr (some (29, 3, 0))), (1, vi l1)] 5 [vi s0] Q := by
  refine z_ist_n dX3_get_5 rfl (by decide) (lv' := [(0, vr (some (29, 3, 0))), (1, vi l1), (2, vi s0)]) rfl ?_
  refine z_aload_n dX3_get_6 rfl rfl ?_
  refine z_iload_n dX3_get_7 rfl rfl ?_
  refine z_iconst (v := -1) dX3_get_8 rfl ?_
  refine z_icmp_ne (tgt := 16) dX3_get_9 rfl (fun h_ => ?_) (fun h_ => ?_)
  · have k := zif h_ k
    refine z_iconst (v := 1) dX3_get_16 rfl ?_
    refine Z.pick [1, 2] rfl ?_
    exact k
  · have k := zit h_ k
    refine z_iconst (v := 3) dX3_get_12 rfl ?_
    refine z_goto (tgt := 17) dX3_get_13 rfl ?_
    refine Z.pick [1, 2] rfl ?_
    exact k
theorem sX3_get_17 {E : zE} {d : Nat} {Q : zO → zM → Prop} (M : zM) (l1 : Int32) (l2 : Int32) (s0 : Int32) (hw : cw M) (k : if l2 = (-1 : Int32) then (Z E YX3_put d M (zargs 0 [vr (some (29, 3, 0)), vi s0, vi (0 : Int32), vi l1]) 0 [] (zafter E YX3_get (d + 1) [] 28 3 [] Q)) else (Z E YX3_put d M (zargs 0 [vr (some (29, 3, 0)), vi s0, vi l2, vi l1]) 0 [] (zafter E YX3_get (d + 1) [] 28 3 [] Q))) : Z E YX3_get (d + 1) M [(1, vi l1), (2, vi l2)] 17 [vi s0, vr (some (29, 3, 0))] Q := by
  refine z_iload_n dX3_get_17 rfl rfl ?_
  refine z_iconst (v := -1) dX3_get_18 rfl ?_
  refine z_icmp_ne (tgt := 26) dX3_get_19 rfl (fun h_ => ?_) (fun h_ => ?_)
  · have k := zif h_ k
    refine z_iload_n dX3_get_26 rfl rfl ?_
    refine z_iload_n dX3_get_27 rfl rfl ?_
    refine Z.pick [] rfl ?_
    exact z_callV (as := [vi s0, vi l2, vi l1]) (st := []) dX3_get_28 vsX3_83_3 (Nat.le_refl _) (Nat.le_of_ble_eq_true rfl) (Nat.le_of_ble_eq_true rfl) rfl k
  · have k := zit h_ k
    refine z_iconst (v := 0) dX3_get_22 rfl ?_
    refine z_goto (tgt := 27) dX3_get_23 rfl ?_
    refine z_iload_n dX3_get_27 rfl rfl ?_
    refine Z.pick [] rfl ?_
    exact z_callV (as := [vi s0, vi (0 : Int32), vi l1]) (st := []) dX3_get_28 vsX3_83_3 (Nat.le_refl _) (Nat.le_of_ble_eq_true rfl) (Nat.le_of_ble_eq_true rfl) rfl k
theorem sX3_get_31 {E : zE} {d : Nat} {Q : zO → zM → Prop} (M : zM) (s0 : Int32) (hw : cw M) (k : Q (.inl none) M) : Z E YX3_get (d + 1) M [] 31 [vi s0] Q := by
  refine z_pop dX3_get_31 rfl ?_
  exact z_vret dX3_get_32 rfl k
/-! ScriptTypes$Coder.leave(LScriptTypes$Around;)V -/
theorem bX3_leave_0 : zdec cX3_leave 0 [(0, .aload_n 0, 1), (1, .aload_n 1, 1), (2, .getfield 58, 3), (5, .putfield 46, 3), (8, .aload_n 0, 1), (9, .aload_n 1, 1), (10, .getfield 112, 3), (13, .putfield 91, 3), (16, .return_, 1)] = true := by decide +kernel
theorem dX3_leave_0 : decode cX3_leave 0 = .ok (.aload_n 0, 1) := zdec_at bX3_leave_0 0 rfl
theorem dX3_leave_1 : decode cX3_leave 1 = .ok (.aload_n 1, 1) := zdec_at bX3_leave_0 1 rfl
theorem dX3_leave_2 : decode cX3_leave 2 = .ok (.getfield 58, 3) := zdec_at bX3_leave_0 2 rfl
theorem dX3_leave_5 : decode cX3_leave 5 = .ok (.putfield 46, 3) := zdec_at bX3_leave_0 3 rfl
theorem dX3_leave_8 : decode cX3_leave 8 = .ok (.aload_n 0, 1) := zdec_at bX3_leave_0 4 rfl
theorem dX3_leave_9 : decode cX3_leave 9 = .ok (.aload_n 1, 1) := zdec_at bX3_leave_0 5 rfl
theorem dX3_leave_10 : decode cX3_leave 10 = .ok (.getfield 112, 3) := zdec_at bX3_leave_0 6 rfl
theorem dX3_leave_13 : decode cX3_leave 13 = .ok (.putfield 91, 3) := zdec_at bX3_leave_0 7 rfl
theorem dX3_leave_16 : decode cX3_leave 16 = .ok (.return_, 1) := zdec_at bX3_leave_0 8 rfl
theorem sX3_leave_0 {E : zE} {d : Nat} {Q : zO → zM → Prop} (M : zM) (r1 : Option zP) (hw : cw M) (k : ∃ b1 : Nat, r1 = some (b1, 17, 0) ∧ (Q (.inl none) (si (sr M 29 9 (gr M b1 4)) 29 11 (gi M b1 0)))) : Z E YX3_leave d M [(0, vr (some (29, 3, 0))), (1, vr r1)] 0 [] Q := by
  refine z_aload_n dX3_leave_0 rfl rfl ?_
  refine z_aload_n dX3_leave_1 rfl rfl ?_
  obtain ⟨b1, e1_, k⟩ := k
  refine Z.eqs (lv' := [(0, vr (some (29, 3, 0))), (1, vr (some (b1, 17, 0)))]) (st' := [vr (some (b1, 17, 0)), vr (some (29, 3, 0))]) (by rw [e1_] <;> rfl) (by rw [e1_] <;> rfl) ?_
  refine z_getr (r := (gr M b1 4)) dX3_leave_2 fsX3_58_17 rfl ?_
  refine z_putr (by decide) dX3_leave_5 (zfwN.w fwX3_46_3) rfl ?_
  refine z_aload_n dX3_leave_8 rfl rfl ?_
  refine z_aload_n dX3_leave_9 rfl rfl ?_
  refine z_geti dX3_leave_10 fsX3_112_17 ?_
  refine z_puti (by decide) dX3_leave_13 (zfwN.w fwX3_91_3) rfl ⟨rfl, rfl⟩ ?_
  exact z_vret dX3_leave_16 rfl k
/-! ScriptTypes$Coder.goal(I)V -/
theorem bX3_goal_0 : zdec cX3_goal 0 [(0, .aload_n 0, 1), (1, .iload_n 1, 1), (2, .aload_n 0, 1), (3, .getfield 42, 3), (6, .invokevirtual 87, 3), (9, .return_, 1)] = true := by decide +kernel
theorem dX3_goal_0 : decode cX3_goal 0 = .ok (.aload_n 0, 1) := zdec_at bX3_goal_0 0 rfl
theorem dX3_goal_1 : decode cX3_goal 1 = .ok (.iload_n 1, 1) := zdec_at bX3_goal_0 1 rfl
theorem dX3_goal_2 : decode cX3_goal 2 = .ok (.aload_n 0, 1) := zdec_at bX3_goal_0 2 rfl
theorem dX3_goal_3 : decode cX3_goal 3 = .ok (.getfield 42, 3) := zdec_at bX3_goal_0 3 rfl
theorem dX3_goal_6 : decode cX3_goal 6 = .ok (.invokevirtual 87, 3) := zdec_at bX3_goal_0 4 rfl
theorem dX3_goal_9 : decode cX3_goal 9 = .ok (.return_, 1) := zdec_at bX3_goal_0 5 rfl
theorem sX3_goal_0 {E : zE} {d : Nat} {Q : zO → zM → Prop} (M : zM) (l1 : Int32) (hw : cw M) (k : Z E YX3_goalAt d M (zargs 0 [vr (some (29, 3, 0)), vi l1, vi (gi M 29 7)]) 0 [] (zafter E YX3_goal (d + 1) [] 6 3 [] Q)) : Z E YX3_goal (d + 1) M [(0, vr (some (29, 3, 0))), (1, vi l1)] 0 [] Q := by
  refine z_aload_n dX3_goal_0 rfl rfl ?_
  refine z_iload_n dX3_goal_1 rfl rfl ?_
  refine z_aload_n dX3_goal_2 rfl rfl ?_
  refine z_geti dX3_goal_3 fsX3_42_3 ?_
  refine Z.pick [] rfl ?_
  exact z_callV (as := [vi l1, vi (gi M 29 7)]) (st := []) dX3_goal_6 vsX3_87_3 (Nat.le_refl _) (Nat.le_of_ble_eq_true rfl) (Nat.le_of_ble_eq_true rfl) rfl k
theorem sX3_goal_9 {E : zE} {d : Nat} {Q : zO → zM → Prop} (M : zM)  (hw : cw M) (k : Q (.inl none) M) : Z E YX3_goal (d + 1) M [] 9 [] Q := by
  exact z_vret dX3_goal_9 rfl k
/-! ScriptTypes$Coder.goalAt(II)V -/
theorem bX3_goalAt_0 : zdec cX3_goalAt 0 [(0, .iload_n 1, 1), (1, .iconst (-1), 1), (2, .if_icmp .eq 18, 3), (5, .iload_n 1, 1), (6, .sipush 600, 3), (9, .if_icmp .ge 11, 3), (12, .aload_n 0, 1), (13, .getfield 15, 3), (16, .iload_n 1, 1), (17, .iload_n 2, 1), (18, .i2s, 1), (19, .sastore, 1), (20, .return_, 1)] = true := by decide +kernel
theorem dX3_goalAt_0 : decode cX3_goalAt 0 = .ok (.iload_n 1, 1) := zdec_at bX3_goalAt_0 0 rfl
theorem dX3_goalAt_1 : decode cX3_goalAt 1 = .ok (.iconst (-1), 1) := zdec_at bX3_goalAt_0 1 rfl
theorem dX3_goalAt_2 : decode cX3_goalAt 2 = .ok (.if_icmp .eq 18, 3) := zdec_at bX3_goalAt_0 2 rfl
theorem dX3_goalAt_5 : decode cX3_goalAt 5 = .ok (.iload_n 1, 1) := zdec_at bX3_goalAt_0 3 rfl
theorem dX3_goalAt_6 : decode cX3_goalAt 6 = .ok (.sipush 600, 3) := zdec_at bX3_goalAt_0 4 rfl
theorem dX3_goalAt_9 : decode cX3_goalAt 9 = .ok (.if_icmp .ge 11, 3) := zdec_at bX3_goalAt_0 5 rfl
theorem dX3_goalAt_12 : decode cX3_goalAt 12 = .ok (.aload_n 0, 1) := zdec_at bX3_goalAt_0 6 rfl
theorem dX3_goalAt_13 : decode cX3_goalAt 13 = .ok (.getfield 15, 3) := zdec_at bX3_goalAt_0 7 rfl
theorem dX3_goalAt_16 : decode cX3_goalAt 16 = .ok (.iload_n 1, 1) := zdec_at bX3_goalAt_0 8 rfl
theorem dX3_goalAt_17 : decode cX3_goalAt 17 = .ok (.iload_n 2, 1) := zdec_at bX3_goalAt_0 9 rfl
theorem dX3_goalAt_18 : decode cX3_goalAt 18 = .ok (.i2s, 1) := zdec_at bX3_goalAt_0 10 rfl
theorem dX3_goalAt_19 : decode cX3_goalAt 19 = .ok (.sastore, 1) := zdec_at bX3_goalAt_0 11 rfl
theorem dX3_goalAt_20 : decode cX3_goalAt 20 = .ok (.return_, 1) := zdec_at bX3_goalAt_0 12 rfl
theorem sX3_goalAt_0 {E : zE} {d : Nat} {Q : zO → zM → Prop} (M : zM) (l1 : Int32) (l2 : Int32) (hw : cw M) (k : if l1 = (-1 : Int32) then (Q (.inl none) M) else (if (600 : Int32) ≤ l1 then (Q (.inl none) M) else (vp_in l1 600 ∧ (Q (.inl none) (si M 31 (l1).toNatClampNeg (vp_nar .short (l2).toInt16.toInt32)))))) : Z E YX3_goalAt d M [(0, vr (some (29, 3, 0))), (1, vi l1), (2, vi l2)] 0 [] Q := by
  refine z_iload_n dX3_goalAt_0 rfl rfl ?_
  refine z_iconst (v := -1) dX3_goalAt_1 rfl ?_
  refine z_icmp_eq (tgt := 20) dX3_goalAt_2 rfl (fun h_ => ?_) (fun h_ => ?_)
  · have k := zit h_ k
    exact z_vret dX3_goalAt_20 rfl k
  · have k := zif h_ k
    refine z_iload_n dX3_goalAt_5 rfl rfl ?_
    refine z_sipush (v := 600) dX3_goalAt_6 rfl ?_
    refine z_icmp_ge (tgt := 20) dX3_goalAt_9 rfl (fun h_ => ?_) (fun h_ => ?_)
    · have k := zit h_ k
      exact z_vret dX3_goalAt_20 rfl k
    · have k := zif h_ k
      refine z_aload_n dX3_goalAt_12 rfl rfl ?_
      refine z_getr dX3_goalAt_13 fsX3_15_3 (show gr M 29 1 = some (31, 102, 600) from cw_at hw 51 rfl) ?_
      refine z_iload_n dX3_goalAt_16 rfl rfl ?_
      refine z_iload_n dX3_goalAt_17 rfl rfl ?_
      refine z_i2s dX3_goalAt_18 ?_
      obtain ⟨b_, k⟩ := k
      refine z_sast (by decide) dX3_goalAt_19 b_ ?_
      exact z_vret dX3_goalAt_20 rfl k
/-! ScriptTypes$Coder.place()I -/
theorem bX3_place_0 : zdec cX3_place 0 [(0, .aload_n 0, 1), (1, .getfield 42, 3), (4, .ireturn, 1)] = true := by decide +kernel
theorem dX3_place_0 : decode cX3_place 0 = .ok (.aload_n 0, 1) := zdec_at bX3_place_0 0 rfl
theorem dX3_place_1 : decode cX3_place 1 = .ok (.getfield 42, 3) := zdec_at bX3_place_0 1 rfl
theorem dX3_place_4 : decode cX3_place 4 = .ok (.ireturn, 1) := zdec_at bX3_place_0 2 rfl
theorem sX3_place_0 {E : zE} {d : Nat} {Q : zO → zM → Prop} (M : zM)  (hw : cw M) (k : Q (.inl (some (vi (gi M 29 7)))) M) : Z E YX3_place d M [(0, vr (some (29, 3, 0)))] 0 [] Q := by
  refine z_aload_n dX3_place_0 rfl rfl ?_
  refine z_geti dX3_place_1 fsX3_42_3 ?_
  exact z_iret dX3_place_4 rfl rfl k
/-! ScriptTypes$Coder.goBack()V -/
theorem bX3_goBack_0 : zdec cX3_goBack 0 [(0, .aload_n 0, 1), (1, .getfield 46, 3), (4, .astore_n 1, 1), (5, .iconst 1, 1), (6, .istore_n 2, 1), (7, .aload_n 0, 1), (8, .getfield 91, 3), (11, .istore_n 3, 1), (12, .aload_n 1, 1), (13, .astore 4, 2), (15, .aload 4, 2), (17, .ifnull 105, 3), (20, .aload 4, 2), (22, .getfield 50, 3), (25, .iconst 3, 1), (26, .if_icmp .ne 11, 3)] = true := by decide +kernel
theorem dX3_goBack_0 : decode cX3_goBack 0 = .ok (.aload_n 0, 1) := zdec_at bX3_goBack_0 0 rfl
theorem dX3_goBack_1 : decode cX3_goBack 1 = .ok (.getfield 46, 3) := zdec_at bX3_goBack_0 1 rfl
theorem dX3_goBack_4 : decode cX3_goBack 4 = .ok (.astore_n 1, 1) := zdec_at bX3_goBack_0 2 rfl
theorem dX3_goBack_5 : decode cX3_goBack 5 = .ok (.iconst 1, 1) := zdec_at bX3_goBack_0 3 rfl
theorem dX3_goBack_6 : decode cX3_goBack 6 = .ok (.istore_n 2, 1) := zdec_at bX3_goBack_0 4 rfl
theorem dX3_goBack_7 : decode cX3_goBack 7 = .ok (.aload_n 0, 1) := zdec_at bX3_goBack_0 5 rfl
theorem dX3_goBack_8 : decode cX3_goBack 8 = .ok (.getfield 91, 3) := zdec_at bX3_goBack_0 6 rfl
theorem dX3_goBack_11 : decode cX3_goBack 11 = .ok (.istore_n 3, 1) := zdec_at bX3_goBack_0 7 rfl
theorem dX3_goBack_12 : decode cX3_goBack 12 = .ok (.aload_n 1, 1) := zdec_at bX3_goBack_0 8 rfl
theorem dX3_goBack_13 : decode cX3_goBack 13 = .ok (.astore 4, 2) := zdec_at bX3_goBack_0 9 rfl
theorem dX3_goBack_15 : decode cX3_goBack 15 = .ok (.aload 4, 2) := zdec_at bX3_goBack_0 10 rfl
theorem dX3_goBack_17 : decode cX3_goBack 17 = .ok (.ifnull 105, 3) := zdec_at bX3_goBack_0 11 rfl
theorem dX3_goBack_20 : decode cX3_goBack 20 = .ok (.aload 4, 2) := zdec_at bX3_goBack_0 12 rfl
theorem dX3_goBack_22 : decode cX3_goBack 22 = .ok (.getfield 50, 3) := zdec_at bX3_goBack_0 13 rfl
theorem dX3_goBack_25 : decode cX3_goBack 25 = .ok (.iconst 3, 1) := zdec_at bX3_goBack_0 14 rfl
theorem dX3_goBack_26 : decode cX3_goBack 26 = .ok (.if_icmp .ne 11, 3) := zdec_at bX3_goBack_0 15 rfl
theorem bX3_goBack_29 : zdec cX3_goBack 29 [(29, .iload_n 2, 1), (30, .aload 4, 2), (32, .getfield 55, 3), (35, .iadd, 1), (36, .istore_n 2, 1), (37, .aload 4, 2), (39, .getfield 50, 3), (42, .iconst 2, 1), (43, .if_icmp .eq 6, 3), (46, .goto 66, 3), (49, .aload_n 0, 1), (50, .aload 4, 2), (52, .putfield 46, 3), (55, .aload_n 0, 1), (56, .bipush 28, 2), (58, .iconst 0, 1)] = true := by decide +kernel
theorem dX3_goBack_29 : decode cX3_goBack 29 = .ok (.iload_n 2, 1) := zdec_at bX3_goBack_29 0 rfl
theorem dX3_goBack_30 : decode cX3_goBack 30 = .ok (.aload 4, 2) := zdec_at bX3_goBack_29 1 rfl
theorem dX3_goBack_32 : decode cX3_goBack 32 = .ok (.getfield 55, 3) := zdec_at bX3_goBack_29 2 rfl
theorem dX3_goBack_35 : decode cX3_goBack 35 = .ok (.iadd, 1) := zdec_at bX3_goBack_29 3 rfl
theorem dX3_goBack_36 : decode cX3_goBack 36 = .ok (.istore_n 2, 1) := zdec_at bX3_goBack_29 4 rfl
theorem dX3_goBack_37 : decode cX3_goBack 37 = .ok (.aload 4, 2) := zdec_at bX3_goBack_29 5 rfl
theorem dX3_goBack_39 : decode cX3_goBack 39 = .ok (.getfield 50, 3) := zdec_at bX3_goBack_29 6 rfl
theorem dX3_goBack_42 : decode cX3_goBack 42 = .ok (.iconst 2, 1) := zdec_at bX3_goBack_29 7 rfl
theorem dX3_goBack_43 : decode cX3_goBack 43 = .ok (.if_icmp .eq 6, 3) := zdec_at bX3_goBack_29 8 rfl
theorem dX3_goBack_46 : decode cX3_goBack 46 = .ok (.goto 66, 3) := zdec_at bX3_goBack_29 9 rfl
theorem dX3_goBack_49 : decode cX3_goBack 49 = .ok (.aload_n 0, 1) := zdec_at bX3_goBack_29 10 rfl
theorem dX3_goBack_50 : decode cX3_goBack 50 = .ok (.aload 4, 2) := zdec_at bX3_goBack_29 11 rfl
theorem dX3_goBack_52 : decode cX3_goBack 52 = .ok (.putfield 46, 3) := zdec_at bX3_goBack_29 12 rfl
theorem dX3_goBack_55 : decode cX3_goBack 55 = .ok (.aload_n 0, 1) := zdec_at bX3_goBack_29 13 rfl
theorem dX3_goBack_56 : decode cX3_goBack 56 = .ok (.bipush 28, 2) := zdec_at bX3_goBack_29 14 rfl
theorem dX3_goBack_58 : decode cX3_goBack 58 = .ok (.iconst 0, 1) := zdec_at bX3_goBack_29 15 rfl
theorem bX3_goBack_59 : zdec cX3_goBack 59 [(59, .iconst 0, 1), (60, .invokevirtual 83, 3), (63, .pop, 1), (64, .aload_n 0, 1), (65, .aload 4, 2), (67, .getfield 58, 3), (70, .putfield 46, 3), (73, .aload 4, 2), (75, .getfield 126, 3), (78, .ifnull 34, 3), (81, .aload_n 0, 1), (82, .getfield 42, 3), (85, .sipush 600, 3), (88, .if_icmp .le 6, 3), (91, .goto 21, 3), (94, .aload_n 0, 1)] = true := by decide +kernel
theorem dX3_goBack_59 : decode cX3_goBack 59 = .ok (.iconst 0, 1) := zdec_at bX3_goBack_59 0 rfl
theorem dX3_goBack_60 : decode cX3_goBack 60 = .ok (.invokevirtual 83, 3) := zdec_at bX3_goBack_59 1 rfl
theorem dX3_goBack_63 : decode cX3_goBack 63 = .ok (.pop, 1) := zdec_at bX3_goBack_59 2 rfl
theorem dX3_goBack_64 : decode cX3_goBack 64 = .ok (.aload_n 0, 1) := zdec_at bX3_goBack_59 3 rfl
theorem dX3_goBack_65 : decode cX3_goBack 65 = .ok (.aload 4, 2) := zdec_at bX3_goBack_59 4 rfl
theorem dX3_goBack_67 : decode cX3_goBack 67 = .ok (.getfield 58, 3) := zdec_at bX3_goBack_59 5 rfl
theorem dX3_goBack_70 : decode cX3_goBack 70 = .ok (.putfield 46, 3) := zdec_at bX3_goBack_59 6 rfl
theorem dX3_goBack_73 : decode cX3_goBack 73 = .ok (.aload 4, 2) := zdec_at bX3_goBack_59 7 rfl
theorem dX3_goBack_75 : decode cX3_goBack 75 = .ok (.getfield 126, 3) := zdec_at bX3_goBack_59 8 rfl
theorem dX3_goBack_78 : decode cX3_goBack 78 = .ok (.ifnull 34, 3) := zdec_at bX3_goBack_59 9 rfl
theorem dX3_goBack_81 : decode cX3_goBack 81 = .ok (.aload_n 0, 1) := zdec_at bX3_goBack_59 10 rfl
theorem dX3_goBack_82 : decode cX3_goBack 82 = .ok (.getfield 42, 3) := zdec_at bX3_goBack_59 11 rfl
theorem dX3_goBack_85 : decode cX3_goBack 85 = .ok (.sipush 600, 3) := zdec_at bX3_goBack_59 12 rfl
theorem dX3_goBack_88 : decode cX3_goBack 88 = .ok (.if_icmp .le 6, 3) := zdec_at bX3_goBack_59 13 rfl
theorem dX3_goBack_91 : decode cX3_goBack 91 = .ok (.goto 21, 3) := zdec_at bX3_goBack_59 14 rfl
theorem dX3_goBack_94 : decode cX3_goBack 94 = .ok (.aload_n 0, 1) := zdec_at bX3_goBack_59 15 rfl
theorem bX3_goBack_95 : zdec cX3_goBack 95 [(95, .iconst 3, 1), (96, .invokevirtual 147, 3), (99, .iload_n 2, 1), (100, .putfield 55, 3), (103, .aload 4, 2), (105, .getfield 126, 3), (108, .aload_n 0, 1), (109, .invokevirtual 130, 3), (112, .aload 4, 2), (114, .getfield 58, 3), (117, .astore 4, 2), (119, .goto (-104), 3), (122, .aload_n 0, 1), (123, .aconst_null, 1), (124, .putfield 46, 3), (127, .aload_n 0, 1)] = true := by decide +kernel
theorem dX3_goBack_95 : decode cX3_goBack 95 = .ok (.iconst 3, 1) := zdec_at bX3_goBack_95 0 rfl
theorem dX3_goBack_96 : decode cX3_goBack 96 = .ok (.invokevirtual 147, 3) := zdec_at bX3_goBack_95 1 rfl
theorem dX3_goBack_99 : decode cX3_goBack 99 = .ok (.iload_n 2, 1) := zdec_at bX3_goBack_95 2 rfl
theorem dX3_goBack_100 : decode cX3_goBack 100 = .ok (.putfield 55, 3) := zdec_at bX3_goBack_95 3 rfl
theorem dX3_goBack_103 : decode cX3_goBack 103 = .ok (.aload 4, 2) := zdec_at bX3_goBack_95 4 rfl
theorem dX3_goBack_105 : decode cX3_goBack 105 = .ok (.getfield 126, 3) := zdec_at bX3_goBack_95 5 rfl
theorem dX3_goBack_108 : decode cX3_goBack 108 = .ok (.aload_n 0, 1) := zdec_at bX3_goBack_95 6 rfl
theorem dX3_goBack_109 : decode cX3_goBack 109 = .ok (.invokevirtual 130, 3) := zdec_at bX3_goBack_95 7 rfl
theorem dX3_goBack_112 : decode cX3_goBack 112 = .ok (.aload 4, 2) := zdec_at bX3_goBack_95 8 rfl
theorem dX3_goBack_114 : decode cX3_goBack 114 = .ok (.getfield 58, 3) := zdec_at bX3_goBack_95 9 rfl
theorem dX3_goBack_117 : decode cX3_goBack 117 = .ok (.astore 4, 2) := zdec_at bX3_goBack_95 10 rfl
theorem dX3_goBack_119 : decode cX3_goBack 119 = .ok (.goto (-104), 3) := zdec_at bX3_goBack_95 11 rfl
theorem dX3_goBack_122 : decode cX3_goBack 122 = .ok (.aload_n 0, 1) := zdec_at bX3_goBack_95 12 rfl
theorem dX3_goBack_123 : decode cX3_goBack 123 = .ok (.aconst_null, 1) := zdec_at bX3_goBack_95 13 rfl
theorem dX3_goBack_124 : decode cX3_goBack 124 = .ok (.putfield 46, 3) := zdec_at bX3_goBack_95 14 rfl
theorem dX3_goBack_127 : decode cX3_goBack 127 = .ok (.aload_n 0, 1) := zdec_at bX3_goBack_95 15 rfl
theorem bX3_goBack_128 : zdec cX3_goBack 128 [(128, .bipush 25, 2), (130, .iconst 0, 1), (131, .iconst 0, 1), (132, .invokevirtual 83, 3), (135, .pop, 1), (136, .aload_n 0, 1), (137, .aload_n 1, 1), (138, .putfield 46, 3), (141, .aload_n 0, 1), (142, .iload_n 3, 1), (143, .putfield 91, 3), (146, .return_, 1)] = true := by decide +kernel
theorem dX3_goBack_128 : decode cX3_goBack 128 = .ok (.bipush 25, 2) := zdec_at bX3_goBack_128 0 rfl
theorem dX3_goBack_130 : decode cX3_goBack 130 = .ok (.iconst 0, 1) := zdec_at bX3_goBack_128 1 rfl
theorem dX3_goBack_131 : decode cX3_goBack 131 = .ok (.iconst 0, 1) := zdec_at bX3_goBack_128 2 rfl
theorem dX3_goBack_132 : decode cX3_goBack 132 = .ok (.invokevirtual 83, 3) := zdec_at bX3_goBack_128 3 rfl
theorem dX3_goBack_135 : decode cX3_goBack 135 = .ok (.pop, 1) := zdec_at bX3_goBack_128 4 rfl
theorem dX3_goBack_136 : decode cX3_goBack 136 = .ok (.aload_n 0, 1) := zdec_at bX3_goBack_128 5 rfl
theorem dX3_goBack_137 : decode cX3_goBack 137 = .ok (.aload_n 1, 1) := zdec_at bX3_goBack_128 6 rfl
theorem dX3_goBack_138 : decode cX3_goBack 138 = .ok (.putfield 46, 3) := zdec_at bX3_goBack_128 7 rfl
theorem dX3_goBack_141 : decode cX3_goBack 141 = .ok (.aload_n 0, 1) := zdec_at bX3_goBack_128 8 rfl
theorem dX3_goBack_142 : decode cX3_goBack 142 = .ok (.iload_n 3, 1) := zdec_at bX3_goBack_128 9 rfl
theorem dX3_goBack_143 : decode cX3_goBack 143 = .ok (.putfield 91, 3) := zdec_at bX3_goBack_128 10 rfl
theorem dX3_goBack_146 : decode cX3_goBack 146 = .ok (.return_, 1) := zdec_at bX3_goBack_128 11 rfl
theorem sX3_goBack_0 {E : zE} {d : Nat} {Q : zO → zM → Prop} (M : zM)  (hw : cw M) (k : Z E YX3_goBack (d + 1) M [(0, vr (some (29, 3, 0))), (1, vr (gr M 29 9)), (2, vi (1 : Int32)), (3, vi (gi M 29 11)), (4, vr (gr M 29 9))] 15 [] Q) : Z E YX3_goBack (d + 1) M [(0, vr (some (29, 3, 0)))] 0 [] Q := by
  refine z_aload_n dX3_goBack_0 rfl rfl ?_
  refine z_getr (r := (gr M 29 9)) dX3_goBack_1 fsX3_46_3 rfl ?_
  refine z_ast_n dX3_goBack_4 rfl (by decide) (lv' := [(0, vr (some (29, 3, 0))), (1, vr (gr M 29 9))]) rfl ?_
  refine z_iconst (v := 1) dX3_goBack_5 rfl ?_
  refine z_ist_n dX3_goBack_6 rfl (by decide) (lv' := [(0, vr (some (29, 3, 0))), (1, vr (gr M 29 9)), (2, vi (1 : Int32))]) rfl ?_
  refine z_aload_n dX3_goBack_7 rfl rfl ?_
  refine z_geti dX3_goBack_8 fsX3_91_3 ?_
  refine z_ist_n dX3_goBack_11 rfl (by decide) (lv' := [(0, vr (some (29, 3, 0))), (1, vr (gr M 29 9)), (2, vi (1 : Int32)), (3, vi (gi M 29 11))]) rfl ?_
  refine z_aload_n dX3_goBack_12 rfl rfl ?_
  refine z_ast dX3_goBack_13 (by decide) (lv' := [(0, vr (some (29, 3, 0))), (1, vr (gr M 29 9)), (2, vi (1 : Int32)), (3, vi (gi M 29 11)), (4, vr (gr M 29 9))]) rfl ?_
  exact k
theorem sX3_goBack_15 {E : zE} {d : Nat} {Q : zO → zM → Prop} (M : zM) (r1 : Option zP) (l2 : Int32) (l3 : Int32) (r4 : Option zP) (hw : cw M) (k : if r4 = none then (Z E YX3_put d (sr M 29 9 none) (zargs 0 [vr (some (29, 3, 0)), vi (25 : Int32), vi (0 : Int32), vi (0 : Int32)]) 0 [] (zafter E YX3_goBack (d + 1) [(0, vr (some (29, 3, 0))), (1, vr r1), (3, vi l3)] 132 3 [] Q)) else (∃ b1 : Nat, r4 = some (b1, 17, 0) ∧ (if (gi M b1 3) = (3 : Int32) then (Z E YX3_goBack (d + 1) M [(0, vr (some (29, 3, 0))), (1, vr r1), (2, vi (l2 + (gi M b1 8))), (3, vi l3), (4, vr (some (b1, 17, 0)))] 37 [] Q) else (Z E YX3_goBack (d + 1) M [(0, vr (some (29, 3, 0))), (1, vr r1), (2, vi l2), (3, vi l3), (4, vr (some (b1, 17, 0)))] 37 [] Q)))) : Z E YX3_goBack (d + 1) M [(0, vr (some (29, 3, 0))), (1, vr r1), (2, vi l2), (3, vi l3), (4, vr r4)] 15 [] Q := by
  refine z_aload dX3_goBack_15 rfl ?_
  refine z_ifnull (tgt := 122) dX3_goBack_17 rfl (fun h_ => ?_) (fun h_ => ?_)
  · have k := zit h_ k
    refine z_aload_n dX3_goBack_122 rfl rfl ?_
    refine z_null dX3_goBack_123 ?_
    refine z_putr (by decide) dX3_goBack_124 (zfwN.w fwX3_46_3) rfl ?_
    refine z_aload_n dX3_goBack_127 rfl rfl ?_
    refine z_bipush (v := 25) dX3_goBack_128 rfl ?_
    refine z_iconst (v := 0) dX3_goBack_130 rfl ?_
    refine z_iconst (v := 0) dX3_goBack_131 rfl ?_
    refine Z.pick [0, 1, 3] rfl ?_
    exact z_callV (as := [vi (25 : Int32), vi (0 : Int32), vi (0 : Int32)]) (st := []) dX3_goBack_132 vsX3_83_3 (Nat.le_refl _) (Nat.le_of_ble_eq_true rfl) (Nat.le_of_ble_eq_true rfl) rfl k
  · have k := zif h_ k
    refine z_aload dX3_goBack_20 rfl ?_
    obtain ⟨b1, e1_, k⟩ := k
    refine Z.eqs (lv' := [(0, vr (some (29, 3, 0))), (1, vr r1), (2, vi l2), (3, vi l3), (4, vr (some (b1, 17, 0)))]) (st' := [vr (some (b1, 17, 0))]) (by rw [e1_] <;> rfl) (by rw [e1_] <;> rfl) ?_
    refine z_geti dX3_goBack_22 fsX3_50_17 ?_
    refine z_iconst (v := 3) dX3_goBack_25 rfl ?_
    refine z_icmp_ne (tgt := 37) dX3_goBack_26 rfl (fun h_ => ?_) (fun h_ => ?_)
    · have k := zif h_ k
      exact k
    · have k := zit h_ k
      refine z_iload_n dX3_goBack_29 rfl rfl ?_
      refine z_aload dX3_goBack_30 rfl ?_
      refine z_geti dX3_goBack_32 fsX3_55_17 ?_
      refine z_iadd dX3_goBack_35 ?_
      refine z_ist_n dX3_goBack_36 rfl (by decide) (lv' := [(0, vr (some (29, 3, 0))), (1, vr r1), (2, vi (l2 + (gi M b1 8))), (3, vi l3), (4, vr (some (b1, 17, 0)))]) rfl ?_
      exact k
theorem sX3_goBack_37 {E : zE} {d : Nat} {Q : zO → zM → Prop} (M : zM) (r1 : Option zP) (l2 : Int32) (l3 : Int32) (a4 : Nat) (hw : cw M) (k : if (gi M a4 3) = (2 : Int32) then (Z E YX3_put d (sr M 29 9 (some (a4, 17, 0))) (zargs 0 [vr (some (29, 3, 0)), vi (28 : Int32), vi (0 : Int32), vi (0 : Int32)]) 0 [] (zafter E YX3_goBack (d + 1) [(0, vr (some (29, 3, 0))), (1, vr r1), (2, vi l2), (3, vi l3), (4, vr (some (a4, 17, 0)))] 60 3 [] Q)) else (Z E YX3_goBack (d + 1) M [(0, vr (some (29, 3, 0))), (1, vr r1), (2, vi l2), (3, vi l3), (4, vr (some (a4, 17, 0)))] 112 [] Q)) : Z E YX3_goBack (d + 1) M [(0, vr (some (29, 3, 0))), (1, vr r1), (2, vi l2), (3, vi l3), (4, vr (some (a4, 17, 0)))] 37 [] Q := by
  refine z_aload dX3_goBack_37 rfl ?_
  refine z_geti dX3_goBack_39 fsX3_50_17 ?_
  refine z_iconst (v := 2) dX3_goBack_42 rfl ?_
  refine z_icmp_eq (tgt := 49) dX3_goBack_43 rfl (fun h_ => ?_) (fun h_ => ?_)
  · have k := zit h_ k
    refine z_aload_n dX3_goBack_49 rfl rfl ?_
    refine z_aload dX3_goBack_50 rfl ?_
    refine z_putr (by decide) dX3_goBack_52 (zfwN.w fwX3_46_3) rfl ?_
    refine z_aload_n dX3_goBack_55 rfl rfl ?_
    refine z_bipush (v := 28) dX3_goBack_56 rfl ?_
    refine z_iconst (v := 0) dX3_goBack_58 rfl ?_
    refine z_iconst (v := 0) dX3_goBack_59 rfl ?_
    exact z_callV (as := [vi (28 : Int32), vi (0 : Int32), vi (0 : Int32)]) (st := []) dX3_goBack_60 vsX3_83_3 (Nat.le_refl _) (Nat.le_of_ble_eq_true rfl) (Nat.le_of_ble_eq_true rfl) rfl k
  · have k := zif h_ k
    refine z_goto (tgt := 112) dX3_goBack_46 rfl ?_
    exact k
theorem sX3_goBack_63 {E : zE} {d : Nat} {Q : zO → zM → Prop} (M : zM) (r1 : Option zP) (l2 : Int32) (l3 : Int32) (a4 : Nat) (s0 : Int32) (hw : cw M) (k : if (gr (sr M 29 9 (gr M a4 4)) a4 6) = none then (Z E YX3_goBack (d + 1) (sr M 29 9 (gr M a4 4)) [(0, vr (some (29, 3, 0))), (1, vr r1), (2, vi l2), (3, vi l3), (4, vr (some (a4, 17, 0)))] 112 [] Q) else (if (gi M 29 7) ≤ (600 : Int32) then (Z E YX3_enter d (sr M 29 9 (gr M a4 4)) (zargs 0 [vr (some (29, 3, 0)), vi (3 : Int32)]) 0 [] (zafter E YX3_goBack (d + 1) [(0, vr (some (29, 3, 0))), (1, vr r1), (2, vi l2), (3, vi l3), (4, vr (some (a4, 17, 0)))] 96 3 [] Q)) else (Z E YX3_goBack (d + 1) (sr M 29 9 (gr M a4 4)) [(0, vr (some (29, 3, 0))), (1, vr r1), (2, vi l2), (3, vi l3), (4, vr (some (a4, 17, 0)))] 112 [] Q))) : Z E YX3_goBack (d + 1) M [(0, vr (some (29, 3, 0))), (1, vr r1), (2, vi l2), (3, vi l3), (4, vr (some (a4, 17, 0)))] 63 [vi s0] Q := by
  refine z_pop dX3_goBack_63 rfl ?_
  refine z_aload_n dX3_goBack_64 rfl rfl ?_
  refine z_aload dX3_goBack_65 rfl ?_
  refine z_getr (r := (gr M a4 4)) dX3_goBack_67 fsX3_58_17 rfl ?_
  refine z_putr (by decide) dX3_goBack_70 (zfwN.w fwX3_46_3) rfl ?_
  refine z_aload dX3_goBack_73 rfl ?_
  refine z_getr (r := (gr (sr M 29 9 (gr M a4 4)) a4 6)) dX3_goBack_75 fsX3_126_17 rfl ?_
  refine z_ifnull (tgt := 112) dX3_goBack_78 rfl (fun h_ => ?_) (fun h_ => ?_)
  · have k := zit h_ k
    exact k
  · have k := zif h_ k
    refine z_aload_n dX3_goBack_81 rfl rfl ?_
    refine z_geti dX3_goBack_82 fsX3_42_3 ?_
    refine z_sipush (v := 600) dX3_goBack_85 rfl ?_
    refine z_icmp_le (tgt := 94) dX3_goBack_88 rfl (fun h_ => ?_) (fun h_ => ?_)
    · have k := zit h_ k
      refine z_aload_n dX3_goBack_94 rfl rfl ?_
      refine z_iconst (v := 3) dX3_goBack_95 rfl ?_
      exact z_callV (as := [vi (3 : Int32)]) (st := []) dX3_goBack_96 vsX3_147_3 (Nat.le_refl _) (Nat.le_of_ble_eq_true rfl) (Nat.le_of_ble_eq_true rfl) rfl k
    · have k := zif h_ k
      refine z_goto (tgt := 112) dX3_goBack_91 rfl ?_
      exact k
theorem sX3_goBack_99 {E : zE} {d : Nat} {Q : zO → zM → Prop} (M : zM) (r1 : Option zP) (l2 : Int32) (l3 : Int32) (a4 : Nat) (u0 : Option zP) (hw : cw M) (k : ∃ b1 : Nat, u0 = some (b1, 17, 0) ∧ (16 ≤ b1 ∧ (∃ b2 t2 : Nat, (gr M a4 6) = some (b2, t2, 0) ∧ (∃ Y_ : zY, vt_code t2 = some Y_ ∧ Z E Y_ d (si M b1 8 l2) (zargs 0 [vr (some (b2, t2, 0)), vr (some (29, 3, 0))]) 0 [] (zafter E YX3_goBack (d + 1) [(0, vr (some (29, 3, 0))), (1, vr r1), (2, vi l2), (3, vi l3), (4, vr (some (a4, 17, 0)))] 109 3 [] Q))))) : Z E YX3_goBack (d + 1) M [(0, vr (some (29, 3, 0))), (1, vr r1), (2, vi l2), (3, vi l3), (4, vr (some (a4, 17, 0)))] 99 [vr u0] Q := by
  refine z_iload_n dX3_goBack_99 rfl rfl ?_
  obtain ⟨b1, e1_, k⟩ := k
  refine Z.eqs (lv' := [(0, vr (some (29, 3, 0))), (1, vr r1), (2, vi l2), (3, vi l3), (4, vr (some (a4, 17, 0)))]) (st' := [vi l2, vr (some (b1, 17, 0))]) rfl (by rw [e1_] <;> rfl) ?_
  obtain ⟨g_, k⟩ := k
  refine z_puti g_ dX3_goBack_100 (zfwN.w fwX3_55_17) rfl ⟨rfl, rfl⟩ ?_
  refine z_aload dX3_goBack_103 rfl ?_
  refine z_getr (r := (gr M a4 6)) dX3_goBack_105 fsX3_126_17 rfl ?_
  refine z_aload_n dX3_goBack_108 rfl rfl ?_
  obtain ⟨b2, t2, e2_, k⟩ := k
  refine Z.eqs (lv' := [(0, vr (some (29, 3, 0))), (1, vr r1), (2, vi l2), (3, vi l3), (4, vr (some (a4, 17, 0)))]) (st' := [vr (some (29, 3, 0)), vr (some (b2, t2, 0))]) rfl (by rw [e2_] <;> rfl) ?_
  obtain ⟨Y_, y_, k⟩ := k
  exact z_callV (as := [vr (some (29, 3, 0))]) (st := []) dX3_goBack_109 (vtX3_130 y_).1 (Nat.le_refl _) (Nat.le_trans (Nat.le_of_ble_eq_true rfl) (vtX3_130 y_).2.1) (Nat.le_trans (Nat.add_le_add_left (vtX3_130 y_).2.2 _) (Nat.le_of_ble_eq_true rfl)) rfl k
theorem sX3_goBack_112 {E : zE} {d : Nat} {Q : zO → zM → Prop} (M : zM) (r1 : Option zP) (l2 : Int32) (l3 : Int32) (a4 : Nat) (hw : cw M) (k : Z E YX3_goBack (d + 1) M [(0, vr (some (29, 3, 0))), (1, vr r1), (2, vi l2), (3, vi l3), (4, vr (gr M a4 4))] 15 [] Q) : Z E YX3_goBack (d + 1) M [(0, vr (some (29, 3, 0))), (1, vr r1), (2, vi l2), (3, vi l3), (4, vr (some (a4, 17, 0)))] 112 [] Q := by
  refine z_aload dX3_goBack_112 rfl ?_
  refine z_getr (r := (gr M a4 4)) dX3_goBack_114 fsX3_58_17 rfl ?_
  refine z_ast dX3_goBack_117 (by decide) (lv' := [(0, vr (some (29, 3, 0))), (1, vr r1), (2, vi l2), (3, vi l3), (4, vr (gr M a4 4))]) rfl ?_
  refine z_goto (tgt := 15) dX3_goBack_119 rfl ?_
  exact k
theorem sX3_goBack_135 {E : zE} {d : Nat} {Q : zO → zM → Prop} (M : zM) (r1 : Option zP) (l3 : Int32) (s0 : Int32) (hw : cw M) (k : Q (.inl none) (si (sr M 29 9 r1) 29 11 l3)) : Z E YX3_goBack (d + 1) M [(0, vr (some (29, 3, 0))), (1, vr r1), (3, vi l3)] 135 [vi s0] Q := by
  refine z_pop dX3_goBack_135 rfl ?_
  refine z_aload_n dX3_goBack_136 rfl rfl ?_
  refine z_aload_n dX3_goBack_137 rfl rfl ?_
  refine z_putr (by decide) dX3_goBack_138 (zfwN.w fwX3_46_3) rfl ?_
  refine z_aload_n dX3_goBack_141 rfl rfl ?_
  refine z_iload_n dX3_goBack_142 rfl rfl ?_
  refine z_puti (by decide) dX3_goBack_143 (zfwN.w fwX3_91_3) rfl ⟨rfl, rfl⟩ ?_
  exact z_vret dX3_goBack_146 rfl k
/-! ScriptTypes$Coder.isGlobal(I)Z -/
theorem bX3_isGlobal_0 : zdec cX3_isGlobal 0 [(0, .aload_n 0, 1), (1, .iload_n 1, 1), (2, .invokevirtual 119, 3), (5, .iconst (-1), 1), (6, .if_icmp .ne 7, 3), (9, .iconst 1, 1), (10, .goto 4, 3), (13, .iconst 0, 1), (14, .ireturn, 1)] = true := by decide +kernel
theorem dX3_isGlobal_0 : decode cX3_isGlobal 0 = .ok (.aload_n 0, 1) := zdec_at bX3_isGlobal_0 0 rfl
theorem dX3_isGlobal_1 : decode cX3_isGlobal 1 = .ok (.iload_n 1, 1) := zdec_at bX3_isGlobal_0 1 rfl
theorem dX3_isGlobal_2 : decode cX3_isGlobal 2 = .ok (.invokevirtual 119, 3) := zdec_at bX3_isGlobal_0 2 rfl
theorem dX3_isGlobal_5 : decode cX3_isGlobal 5 = .ok (.iconst (-1), 1) := zdec_at bX3_isGlobal_0 3 rfl
theorem dX3_isGlobal_6 : decode cX3_isGlobal 6 = .ok (.if_icmp .ne 7, 3) := zdec_at bX3_isGlobal_0 4 rfl
theorem dX3_isGlobal_9 : decode cX3_isGlobal 9 = .ok (.iconst 1, 1) := zdec_at bX3_isGlobal_0 5 rfl
theorem dX3_isGlobal_10 : decode cX3_isGlobal 10 = .ok (.goto 4, 3) := zdec_at bX3_isGlobal_0 6 rfl
theorem dX3_isGlobal_13 : decode cX3_isGlobal 13 = .ok (.iconst 0, 1) := zdec_at bX3_isGlobal_0 7 rfl
theorem dX3_isGlobal_14 : decode cX3_isGlobal 14 = .ok (.ireturn, 1) := zdec_at bX3_isGlobal_0 8 rfl
theorem sX3_isGlobal_0 {E : zE} {d : Nat} {Q : zO → zM → Prop} (M : zM) (l1 : Int32) (hw : cw M) (k : Z E YX3_hops d M (zargs 0 [vr (some (29, 3, 0)), vi l1]) 0 [] (zafter E YX3_isGlobal (d + 1) [] 2 3 [] Q)) : Z E YX3_isGlobal (d + 1) M [(0, vr (some (29, 3, 0))), (1, vi l1)] 0 [] Q := by
  refine z_aload_n dX3_isGlobal_0 rfl rfl ?_
  refine z_iload_n dX3_isGlobal_1 rfl rfl ?_
  refine Z.pick [] rfl ?_
  exact z_callV (as := [vi l1]) (st := []) dX3_isGlobal_2 vsX3_119_3 (Nat.le_refl _) (Nat.le_of_ble_eq_true rfl) (Nat.le_of_ble_eq_true rfl) rfl k
theorem sX3_isGlobal_5 {E : zE} {d : Nat} {Q : zO → zM → Prop} (M : zM) (s0 : Int32) (hw : cw M) (k : if s0 = (-1 : Int32) then (Q (.inl (some (vi (1 : Int32)))) M) else (Q (.inl (some (vi (0 : Int32)))) M)) : Z E YX3_isGlobal (d + 1) M [] 5 [vi s0] Q := by
  refine z_iconst (v := -1) dX3_isGlobal_5 rfl ?_
  refine z_icmp_ne (tgt := 13) dX3_isGlobal_6 rfl (fun h_ => ?_) (fun h_ => ?_)
  · have k := zif h_ k
    refine z_iconst (v := 0) dX3_isGlobal_13 rfl ?_
    exact z_iret dX3_isGlobal_14 rfl (by decide) k
  · have k := zit h_ k
    refine z_iconst (v := 1) dX3_isGlobal_9 rfl ?_
    refine z_goto (tgt := 14) dX3_isGlobal_10 rfl ?_
    exact z_iret dX3_isGlobal_14 rfl (by decide) k
/-! ScriptTypes$Node.<init>()V -/
theorem bX13_init_0 : zdec cX13_init 0 [(0, .aload_n 0, 1), (1, .invokespecial 1, 3), (4, .return_, 1)] = true := by decide +kernel
theorem dX13_init_0 : decode cX13_init 0 = .ok (.aload_n 0, 1) := zdec_at bX13_init_0 0 rfl
theorem dX13_init_1 : decode cX13_init 1 = .ok (.invokespecial 1, 3) := zdec_at bX13_init_0 1 rfl
theorem dX13_init_4 : decode cX13_init 4 = .ok (.return_, 1) := zdec_at bX13_init_0 2 rfl
theorem sX13_init_0 {E : zE} {d : Nat} {Q : zO → zM → Prop} (M : zM) (a0 : Nat) (t0 : Nat) (k : Q (.inl none) M) : Z E YX13_init (d + 1) M [(0, vr (some (a0, t0, 0)))] 0 [] Q := by
  refine z_aload_n dX13_init_0 rfl rfl ?_
  refine z_objInit dX13_init_1 oiX13_1 (by omega) (by decide) ?_
  exact z_vret dX13_init_4 rfl k
/-! ScriptTypes$Node.isName()Z -/
theorem bX13_isName_0 : zdec cX13_isName 0 [(0, .iconst 0, 1), (1, .ireturn, 1)] = true := by decide +kernel
theorem dX13_isName_0 : decode cX13_isName 0 = .ok (.iconst 0, 1) := zdec_at bX13_isName_0 0 rfl
theorem dX13_isName_1 : decode cX13_isName 1 = .ok (.ireturn, 1) := zdec_at bX13_isName_0 1 rfl
theorem sX13_isName_0 {E : zE} {d : Nat} {Q : zO → zM → Prop} (M : zM) (a0 : Nat) (t0 : Nat) (k : Q (.inl (some (vi (0 : Int32)))) M) : Z E YX13_isName d M [(0, vr (some (a0, t0, 0)))] 0 [] Q := by
  refine z_iconst (v := 0) dX13_isName_0 rfl ?_
  exact z_iret dX13_isName_1 rfl (by decide) k
/-! ScriptTypes$Node.isMember()Z -/
theorem bX13_isMember_0 : zdec cX13_isMember 0 [(0, .iconst 0, 1), (1, .ireturn, 1)] = true := by decide +kernel
theorem dX13_isMember_0 : decode cX13_isMember 0 = .ok (.iconst 0, 1) := zdec_at bX13_isMember_0 0 rfl
theorem dX13_isMember_1 : decode cX13_isMember 1 = .ok (.ireturn, 1) := zdec_at bX13_isMember_0 1 rfl
theorem sX13_isMember_0 {E : zE} {d : Nat} {Q : zO → zM → Prop} (M : zM) (a0 : Nat) (t0 : Nat) (k : Q (.inl (some (vi (0 : Int32)))) M) : Z E YX13_isMember d M [(0, vr (some (a0, t0, 0)))] 0 [] Q := by
  refine z_iconst (v := 0) dX13_isMember_0 rfl ?_
  exact z_iret dX13_isMember_1 rfl (by decide) k
/-! ScriptTypes$Block.<init>()V -/
theorem bX14_init_0 : zdec cX14_init 0 [(0, .aload_n 0, 1), (1, .invokespecial 1, 3), (4, .aload_n 0, 1), (5, .new 7, 3), (8, .dup, 1), (9, .invokespecial 9, 3), (12, .putfield 10, 3), (15, .return_, 1)] = true := by decide +kernel
theorem dX14_init_0 : decode cX14_init 0 = .ok (.aload_n 0, 1) := zdec_at bX14_init_0 0 rfl
theorem dX14_init_1 : decode cX14_init 1 = .ok (.invokespecial 1, 3) := zdec_at bX14_init_0 1 rfl
theorem dX14_init_4 : decode cX14_init 4 = .ok (.aload_n 0, 1) := zdec_at bX14_init_0 2 rfl
theorem dX14_init_5 : decode cX14_init 5 = .ok (.new 7, 3) := zdec_at bX14_init_0 3 rfl
theorem dX14_init_8 : decode cX14_init 8 = .ok (.dup, 1) := zdec_at bX14_init_0 4 rfl
theorem dX14_init_9 : decode cX14_init 9 = .ok (.invokespecial 9, 3) := zdec_at bX14_init_0 5 rfl
theorem dX14_init_12 : decode cX14_init 12 = .ok (.putfield 10, 3) := zdec_at bX14_init_0 6 rfl
theorem dX14_init_15 : decode cX14_init 15 = .ok (.return_, 1) := zdec_at bX14_init_0 7 rfl
theorem sX14_init_0 {E : zE} {d : Nat} {Q : zO → zM → Prop} (M : zM) (a0 : Nat) (k : Z E YX13_init d M (zargs 0 [vr (some (a0, 20, 0))]) 0 [] (zafter E YX14_init (d + 1) [(0, vr (some (a0, 20, 0)))] 1 3 [] Q)) : Z E YX14_init (d + 1) M [(0, vr (some (a0, 20, 0)))] 0 [] Q := by
  refine z_aload_n dX14_init_0 rfl rfl ?_
  exact z_callI (as := []) (st := []) dX14_init_1 isX14_1 (Nat.le_refl _) (Nat.le_of_ble_eq_true rfl) (Nat.le_of_ble_eq_true rfl) rfl k
theorem sX14_init_4 {E : zE} {d : Nat} {Q : zO → zM → Prop} (M : zM) (a0 : Nat) (k : Z E YX14_init (d + 1) (zn M 3) [] 8 [vr (some ((zsz M), 11, 0)), vr (some (a0, 20, 0))] Q) : Z E YX14_init (d + 1) M [(0, vr (some (a0, 20, 0)))] 4 [] Q := by
  refine z_aload_n dX14_init_4 rfl rfl ?_
  refine z_new dX14_init_5 csX14_7 zff_11 ?_
  refine Z.pick [] rfl ?_
  exact k
theorem sX14_init_8 {E : zE} {d : Nat} {Q : zO → zM → Prop} (M : zM) (p0 : Nat) (a0 : Nat) (k : Z E YJ2_init d M (zargs 0 [vr (some (p0, 11, 0))]) 0 [] (zafter E YX14_init (d + 1) [] 9 3 [vr (some (p0, 11, 0)), vr (some (a0, 20, 0))] Q)) : Z E YX14_init (d + 1) M [] 8 [vr (some (p0, 11, 0)), vr (some (a0, 20, 0))] Q := by
  refine z_dup dX14_init_8 rfl ?_
  exact z_callI (as := []) (st := [vr (some (p0, 11, 0)), vr (some (a0, 20, 0))]) dX14_init_9 isX14_9 (Nat.le_refl _) (Nat.le_of_ble_eq_true rfl) (Nat.le_of_ble_eq_true rfl) rfl k
theorem sX14_init_12 {E : zE} {d : Nat} {Q : zO → zM → Prop} (M : zM) (p0 : Nat) (a0 : Nat) (k : 16 ≤ a0 ∧ (Q (.inl none) (sr M a0 0 (some (p0, 11, 0))))) : Z E YX14_init (d + 1) M [] 12 [vr (some (p0, 11, 0)), vr (some (a0, 20, 0))] Q := by
  obtain ⟨g_, k⟩ := k
  refine z_putr g_ dX14_init_12 (zfwN.f fwX14_10_20 rfl (fun q h => by rw [← Option.some.inj h]; rfl)) rfl ?_
  exact z_vret dX14_init_15 rfl k
/-! ScriptTypes$Block.code(LScriptTypes$Coder;)V -/
theorem bX14_code_0 : zdec cX14_code 0 [(0, .iconst 0, 1), (1, .istore_n 2, 1), (2, .iload_n 2, 1), (3, .aload_n 0, 1), (4, .getfield 10, 3), (7, .invokevirtual 16, 3), (10, .if_icmp .ge 24, 3), (13, .aload_n 0, 1), (14, .getfield 10, 3), (17, .iload_n 2, 1), (18, .invokevirtual 20, 3), (21, .checkcast 2, 3), (24, .aload_n 1, 1), (25, .invokevirtual 24, 3), (28, .iinc 2 1, 3), (31, .goto (-29), 3)] = true := by decide +kernel
theorem dX14_code_0 : decode cX14_code 0 = .ok (.iconst 0, 1) := zdec_at bX14_code_0 0 rfl
theorem dX14_code_1 : decode cX14_code 1 = .ok (.istore_n 2, 1) := zdec_at bX14_code_0 1 rfl
theorem dX14_code_2 : decode cX14_code 2 = .ok (.iload_n 2, 1) := zdec_at bX14_code_0 2 rfl
theorem dX14_code_3 : decode cX14_code 3 = .ok (.aload_n 0, 1) := zdec_at bX14_code_0 3 rfl
theorem dX14_code_4 : decode cX14_code 4 = .ok (.getfield 10, 3) := zdec_at bX14_code_0 4 rfl
theorem dX14_code_7 : decode cX14_code 7 = .ok (.invokevirtual 16, 3) := zdec_at bX14_code_0 5 rfl
theorem dX14_code_10 : decode cX14_code 10 = .ok (.if_icmp .ge 24, 3) := zdec_at bX14_code_0 6 rfl
theorem dX14_code_13 : decode cX14_code 13 = .ok (.aload_n 0, 1) := zdec_at bX14_code_0 7 rfl
theorem dX14_code_14 : decode cX14_code 14 = .ok (.getfield 10, 3) := zdec_at bX14_code_0 8 rfl
theorem dX14_code_17 : decode cX14_code 17 = .ok (.iload_n 2, 1) := zdec_at bX14_code_0 9 rfl
theorem dX14_code_18 : decode cX14_code 18 = .ok (.invokevirtual 20, 3) := zdec_at bX14_code_0 10 rfl
theorem dX14_code_21 : decode cX14_code 21 = .ok (.checkcast 2, 3) := zdec_at bX14_code_0 11 rfl
theorem dX14_code_24 : decode cX14_code 24 = .ok (.aload_n 1, 1) := zdec_at bX14_code_0 12 rfl
theorem dX14_code_25 : decode cX14_code 25 = .ok (.invokevirtual 24, 3) := zdec_at bX14_code_0 13 rfl
theorem dX14_code_28 : decode cX14_code 28 = .ok (.iinc 2 1, 3) := zdec_at bX14_code_0 14 rfl
theorem dX14_code_31 : decode cX14_code 31 = .ok (.goto (-29), 3) := zdec_at bX14_code_0 15 rfl
theorem bX14_code_34 : zdec cX14_code 34 [(34, .return_, 1)] = true := by decide +kernel
theorem dX14_code_34 : decode cX14_code 34 = .ok (.return_, 1) := zdec_at bX14_code_34 0 rfl
theorem sX14_code_0 {E : zE} {d : Nat} {Q : zO → zM → Prop} (M : zM) (a0 : Nat) (r1 : Option zP) (k : Z E YX14_code (d + 1) M [(0, vr (some (a0, 20, 0))), (1, vr r1), (2, vi (0 : Int32))] 2 [] Q) : Z E YX14_code (d + 1) M [(0, vr (some (a0, 20, 0))), (1, vr r1)] 0 [] Q := by
  refine z_iconst (v := 0) dX14_code_0 rfl ?_
  refine z_ist_n dX14_code_1 rfl (by decide) (lv' := [(0, vr (some (a0, 20, 0))), (1, vr r1), (2, vi (0 : Int32))]) rfl ?_
  exact k
theorem sX14_code_2 {E : zE} {d : Nat} {Q : zO → zM → Prop} (M : zM) (a0 : Nat) (r1 : Option zP) (l2 : Int32) (k : ∃ b1 : Nat, (gr M a0 0) = some (b1, 11, 0) ∧ (Z E YJ2_size d M (zargs 0 [vr (some (b1, 11, 0))]) 0 [] (zafter E YX14_code (d + 1) [(0, vr (some (a0, 20, 0))), (1, vr r1), (2, vi l2)] 7 3 [vi l2] Q))) : Z E YX14_code (d + 1) M [(0, vr (some (a0, 20, 0))), (1, vr r1), (2, vi l2)] 2 [] Q := by
  refine z_iload_n dX14_code_2 rfl rfl ?_
  refine z_aload_n dX14_code_3 rfl rfl ?_
  refine z_getr (r := (gr M a0 0)) dX14_code_4 fsX14_10_20 rfl ?_
  obtain ⟨b1, e1_, k⟩ := k
  refine Z.eqs (lv' := [(0, vr (some (a0, 20, 0))), (1, vr r1), (2, vi l2)]) (st' := [vr (some (b1, 11, 0)), vi l2]) rfl (by rw [e1_] <;> rfl) ?_
  exact z_callV (as := []) (st := [vi l2]) dX14_code_7 vsX14_16_11 (Nat.le_refl _) (Nat.le_of_ble_eq_true rfl) (Nat.le_of_ble_eq_true rfl) rfl k
theorem sX14_code_10 {E : zE} {d : Nat} {Q : zO → zM → Prop} (M : zM) (a0 : Nat) (r1 : Option zP) (l2 : Int32) (s0 : Int32) (s1 : Int32) (k : if s0 ≤ s1 then (Q (.inl none) M) else (∃ b1 : Nat, (gr M a0 0) = some (b1, 11, 0) ∧ (Z E YJ2_get d M (zargs 0 [vr (some (b1, 11, 0)), vi l2]) 0 [] (zafter E YX14_code (d + 1) [(0, vr (some (a0, 20, 0))), (1, vr r1), (2, vi l2)] 18 3 [] Q)))) : Z E YX14_code (d + 1) M [(0, vr (some (a0, 20, 0))), (1, vr r1), (2, vi l2)] 10 [vi s0, vi s1] Q := by
  refine z_icmp_ge (tgt := 34) dX14_code_10 rfl (fun h_ => ?_) (fun h_ => ?_)
  · have k := zit h_ k
    exact z_vret dX14_code_34 rfl k
  · have k := zif h_ k
    refine z_aload_n dX14_code_13 rfl rfl ?_
    refine z_getr (r := (gr M a0 0)) dX14_code_14 fsX14_10_20 rfl ?_
    refine z_iload_n dX14_code_17 rfl rfl ?_
    obtain ⟨b1, e1_, k⟩ := k
    refine Z.eqs (lv' := [(0, vr (some (a0, 20, 0))), (1, vr r1), (2, vi l2)]) (st' := [vi l2, vr (some (b1, 11, 0))]) rfl (by rw [e1_] <;> rfl) ?_
    exact z_callV (as := [vi l2]) (st := []) dX14_code_18 vsX14_20_11 (Nat.le_refl _) (Nat.le_of_ble_eq_true rfl) (Nat.le_of_ble_eq_true rfl) rfl k
theorem sX14_code_21 {E : zE} {d : Nat} {Q : zO → zM → Prop} (M : zM) (a0 : Nat) (r1 : Option zP) (l2 : Int32) (u0 : Option zP) (k : ∃ b1 t1 : Nat, u0 = some (b1, t1, 0) ∧ ((20 ≤ t1 ∧ t1 < 45) ∧ (∃ Y_ : zY, vt_code t1 = some Y_ ∧ Z E Y_ d M (zargs 0 [vr (some (b1, t1, 0)), vr r1]) 0 [] (zafter E YX14_code (d + 1) [(0, vr (some (a0, 20, 0))), (1, vr r1), (2, vi l2)] 25 3 [] Q)))) : Z E YX14_code (d + 1) M [(0, vr (some (a0, 20, 0))), (1, vr r1), (2, vi l2)] 21 [vr u0] Q := by
  obtain ⟨b1, t1, e1_, k⟩ := k
  refine Z.eqs (lv' := [(0, vr (some (a0, 20, 0))), (1, vr r1), (2, vi l2)]) (st' := [vr (some (b1, t1, 0))]) rfl (by rw [e1_] <;> rfl) ?_
  obtain ⟨b_, k⟩ := k
  refine z_ckcast dX14_code_21 (ctX14_2 _ b_.1 b_.2) ?_
  refine z_aload_n dX14_code_24 rfl rfl ?_
  obtain ⟨Y_, y_, k⟩ := k
  exact z_callV (as := [vr r1]) (st := []) dX14_code_25 (vtX14_24 y_).1 (Nat.le_refl _) (Nat.le_trans (Nat.le_of_ble_eq_true rfl) (vtX14_24 y_).2.1) (Nat.le_trans (Nat.add_le_add_left (vtX14_24 y_).2.2 _) (Nat.le_of_ble_eq_true rfl)) rfl k
theorem sX14_code_28 {E : zE} {d : Nat} {Q : zO → zM → Prop} (M : zM) (a0 : Nat) (r1 : Option zP) (l2 : Int32) (k : Z E YX14_code (d + 1) M [(0, vr (some (a0, 20, 0))), (1, vr r1), (2, vi (l2 + (1 : Int32)))] 2 [] Q) : Z E YX14_code (d + 1) M [(0, vr (some (a0, 20, 0))), (1, vr r1), (2, vi l2)] 28 [] Q := by
  refine z_inc (v := (l2 + (1 : Int32))) dX14_code_28 rfl rfl (by decide) (lv' := [(0, vr (some (a0, 20, 0))), (1, vr r1), (2, vi (l2 + (1 : Int32)))]) rfl ?_
  refine z_goto (tgt := 2) dX14_code_31 rfl ?_
  exact k
/-! ScriptTypes$Drops.<init>(LScriptTypes$Node;)V -/
theorem bX15_init_0 : zdec cX15_init 0 [(0, .aload_n 0, 1), (1, .invokespecial 3, 3), (4, .aload_n 0, 1), (5, .aload_n 1, 1), (6, .putfield 9, 3), (9, .return_, 1)] = true := by decide +kernel
theorem dX15_init_0 : decode cX15_init 0 = .ok (.aload_n 0, 1) := zdec_at bX15_init_0 0 rfl
theorem dX15_init_1 : decode cX15_init 1 = .ok (.invokespecial 3, 3) := zdec_at bX15_init_0 1 rfl
theorem dX15_init_4 : decode cX15_init 4 = .ok (.aload_n 0, 1) := zdec_at bX15_init_0 2 rfl
theorem dX15_init_5 : decode cX15_init 5 = .ok (.aload_n 1, 1) := zdec_at bX15_init_0 3 rfl
theorem dX15_init_6 : decode cX15_init 6 = .ok (.putfield 9, 3) := zdec_at bX15_init_0 4 rfl
theorem dX15_init_9 : decode cX15_init 9 = .ok (.return_, 1) := zdec_at bX15_init_0 5 rfl
theorem sX15_init_0 {E : zE} {d : Nat} {Q : zO → zM → Prop} (M : zM) (a0 : Nat) (r1 : Option zP) (k : Z E YX13_init d M (zargs 0 [vr (some (a0, 21, 0))]) 0 [] (zafter E YX15_init (d + 1) [(0, vr (some (a0, 21, 0))), (1, vr r1)] 1 3 [] Q)) : Z E YX15_init (d + 1) M [(0, vr (some (a0, 21, 0))), (1, vr r1)] 0 [] Q := by
  refine z_aload_n dX15_init_0 rfl rfl ?_
  exact z_callI (as := []) (st := []) dX15_init_1 isX15_3 (Nat.le_refl _) (Nat.le_of_ble_eq_true rfl) (Nat.le_of_ble_eq_true rfl) rfl k
theorem sX15_init_4 {E : zE} {d : Nat} {Q : zO → zM → Prop} (M : zM) (a0 : Nat) (r1 : Option zP) (k : 16 ≤ a0 ∧ (Q (.inl none) (sr M a0 0 r1))) : Z E YX15_init (d + 1) M [(0, vr (some (a0, 21, 0))), (1, vr r1)] 4 [] Q := by
  refine z_aload_n dX15_init_4 rfl rfl ?_
  refine z_aload_n dX15_init_5 rfl rfl ?_
  obtain ⟨g_, k⟩ := k
  refine z_putr g_ dX15_init_6 (zfwN.f fwX15_9_21 rfl (fun q h => by rw [← Option.some.inj h]; rfl)) rfl ?_
  exact z_vret dX15_init_9 rfl k
/-! ScriptTypes$Drops.code(LScriptTypes$Coder;)V -/
theorem bX15_code_0 : zdec cX15_code 0 [(0, .aload_n 0, 1), (1, .getfield 9, 3), (4, .aload_n 1, 1), (5, .invokevirtual 15, 3), (8, .aload_n 1, 1), (9, .bipush 17, 2), (11, .iconst 0, 1), (12, .iconst 0, 1), (13, .invokevirtual 19, 3), (16, .pop, 1), (17, .return_, 1)] = true := by decide +kernel
theorem dX15_code_0 : decode cX15_code 0 = .ok (.aload_n 0, 1) := zdec_at bX15_code_0 0 rfl
theorem dX15_code_1 : decode cX15_code 1 = .ok (.getfield 9, 3) := zdec_at bX15_code_0 1 rfl
theorem dX15_code_4 : decode cX15_code 4 = .ok (.aload_n 1, 1) := zdec_at bX15_code_0 2 rfl
theorem dX15_code_5 : decode cX15_code 5 = .ok (.invokevirtual 15, 3) := zdec_at bX15_code_0 3 rfl
theorem dX15_code_8 : decode cX15_code 8 = .ok (.aload_n 1, 1) := zdec_at bX15_code_0 4 rfl
theorem dX15_code_9 : decode cX15_code 9 = .ok (.bipush 17, 2) := zdec_at bX15_code_0 5 rfl
theorem dX15_code_11 : decode cX15_code 11 = .ok (.iconst 0, 1) := zdec_at bX15_code_0 6 rfl
theorem dX15_code_12 : decode cX15_code 12 = .ok (.iconst 0, 1) := zdec_at bX15_code_0 7 rfl
theorem dX15_code_13 : decode cX15_code 13 = .ok (.invokevirtual 19, 3) := zdec_at bX15_code_0 8 rfl
theorem dX15_code_16 : decode cX15_code 16 = .ok (.pop, 1) := zdec_at bX15_code_0 9 rfl
theorem dX15_code_17 : decode cX15_code 17 = .ok (.return_, 1) := zdec_at bX15_code_0 10 rfl
theorem sX15_code_0 {E : zE} {d : Nat} {Q : zO → zM → Prop} (M : zM) (a0 : Nat) (r1 : Option zP) (k : ∃ b1 t1 : Nat, (gr M a0 0) = some (b1, t1, 0) ∧ (∃ Y_ : zY, vt_code t1 = some Y_ ∧ Z E Y_ d M (zargs 0 [vr (some (b1, t1, 0)), vr r1]) 0 [] (zafter E YX15_code (d + 1) [(1, vr r1)] 5 3 [] Q))) : Z E YX15_code (d + 1) M [(0, vr (some (a0, 21, 0))), (1, vr r1)] 0 [] Q := by
  refine z_aload_n dX15_code_0 rfl rfl ?_
  refine z_getr (r := (gr M a0 0)) dX15_code_1 fsX15_9_21 rfl ?_
  refine z_aload_n dX15_code_4 rfl rfl ?_
  obtain ⟨b1, t1, e1_, k⟩ := k
  refine Z.eqs (lv' := [(0, vr (some (a0, 21, 0))), (1, vr r1)]) (st' := [vr r1, vr (some (b1, t1, 0))]) rfl (by rw [e1_] <;> rfl) ?_
  refine Z.pick [1] rfl ?_
  obtain ⟨Y_, y_, k⟩ := k
  exact z_callV (as := [vr r1]) (st := []) dX15_code_5 (vtX15_15 y_).1 (Nat.le_refl _) (Nat.le_trans (Nat.le_of_ble_eq_true rfl) (vtX15_15 y_).2.1) (Nat.le_trans (Nat.add_le_add_left (vtX15_15 y_).2.2 _) (Nat.le_of_ble_eq_true rfl)) rfl k
theorem sX15_code_8 {E : zE} {d : Nat} {Q : zO → zM → Prop} (M : zM) (r1 : Option zP) (k : ∃ b1 : Nat, r1 = some (b1, 3, 0) ∧ (Z E YX3_put d M (zargs 0 [vr (some (b1, 3, 0)), vi (17 : Int32), vi (0 : Int32), vi (0 : Int32)]) 0 [] (zafter E YX15_code (d + 1) [] 13 3 [] Q))) : Z E YX15_code (d + 1) M [(1, vr r1)] 8 [] Q := by
  refine z_aload_n dX15_code_8 rfl rfl ?_
  refine z_bipush (v := 17) dX15_code_9 rfl ?_
  refine z_iconst (v := 0) dX15_code_11 rfl ?_
  refine z_iconst (v := 0) dX15_code_12 rfl ?_
  obtain ⟨b1, e1_, k⟩ := k
  refine Z.eqs (lv' := [(1, vr (some (b1, 3, 0)))]) (st' := [vi (0 : Int32), vi (0 : Int32), vi (17 : Int32), vr (some (b1, 3, 0))]) (by rw [e1_] <;> rfl) (by rw [e1_] <;> rfl) ?_
  refine Z.pick [] rfl ?_
  exact z_callV (as := [vi (17 : Int32), vi (0 : Int32), vi (0 : Int32)]) (st := []) dX15_code_13 vsX15_19_3 (Nat.le_refl _) (Nat.le_of_ble_eq_true rfl) (Nat.le_of_ble_eq_true rfl) rfl k
theorem sX15_code_16 {E : zE} {d : Nat} {Q : zO → zM → Prop} (M : zM) (s0 : Int32) (k : Q (.inl none) M) : Z E YX15_code (d + 1) M [] 16 [vi s0] Q := by
  refine z_pop dX15_code_16 rfl ?_
  exact z_vret dX15_code_17 rfl k
/-! ScriptTypes$Sets.<init>(ILScriptTypes$Node;LScriptTypes$Node;)V -/
theorem bX16_init_0 : zdec cX16_init 0 [(0, .aload_n 0, 1), (1, .invokespecial 3, 3), (4, .aload_n 0, 1), (5, .iload_n 1, 1), (6, .putfield 9, 3), (9, .aload_n 0, 1), (10, .aload_n 2, 1), (11, .putfield 15, 3), (14, .aload_n 0, 1), (15, .aload_n 3, 1), (16, .putfield 19, 3), (19, .return_, 1)] = true := by decide +kernel
theorem dX16_init_0 : decode cX16_init 0 = .ok (.aload_n 0, 1) := zdec_at bX16_init_0 0 rfl
theorem dX16_init_1 : decode cX16_init 1 = .ok (.invokespecial 3, 3) := zdec_at bX16_init_0 1 rfl
theorem dX16_init_4 : decode cX16_init 4 = .ok (.aload_n 0, 1) := zdec_at bX16_init_0 2 rfl
theorem dX16_init_5 : decode cX16_init 5 = .ok (.iload_n 1, 1) := zdec_at bX16_init_0 3 rfl
theorem dX16_init_6 : decode cX16_init 6 = .ok (.putfield 9, 3) := zdec_at bX16_init_0 4 rfl
theorem dX16_init_9 : decode cX16_init 9 = .ok (.aload_n 0, 1) := zdec_at bX16_init_0 5 rfl
theorem dX16_init_10 : decode cX16_init 10 = .ok (.aload_n 2, 1) := zdec_at bX16_init_0 6 rfl
theorem dX16_init_11 : decode cX16_init 11 = .ok (.putfield 15, 3) := zdec_at bX16_init_0 7 rfl
theorem dX16_init_14 : decode cX16_init 14 = .ok (.aload_n 0, 1) := zdec_at bX16_init_0 8 rfl
theorem dX16_init_15 : decode cX16_init 15 = .ok (.aload_n 3, 1) := zdec_at bX16_init_0 9 rfl
theorem dX16_init_16 : decode cX16_init 16 = .ok (.putfield 19, 3) := zdec_at bX16_init_0 10 rfl
theorem dX16_init_19 : decode cX16_init 19 = .ok (.return_, 1) := zdec_at bX16_init_0 11 rfl
theorem sX16_init_0 {E : zE} {d : Nat} {Q : zO → zM → Prop} (M : zM) (a0 : Nat) (l1 : Int32) (r2 : Option zP) (r3 : Option zP) (k : Z E YX13_init d M (zargs 0 [vr (some (a0, 22, 0))]) 0 [] (zafter E YX16_init (d + 1) [(0, vr (some (a0, 22, 0))), (1, vi l1), (2, vr r2), (3, vr r3)] 1 3 [] Q)) : Z E YX16_init (d + 1) M [(0, vr (some (a0, 22, 0))), (1, vi l1), (2, vr r2), (3, vr r3)] 0 [] Q := by
  refine z_aload_n dX16_init_0 rfl rfl ?_
  exact z_callI (as := []) (st := []) dX16_init_1 isX16_3 (Nat.le_refl _) (Nat.le_of_ble_eq_true rfl) (Nat.le_of_ble_eq_true rfl) rfl k
theorem sX16_init_4 {E : zE} {d : Nat} {Q : zO → zM → Prop} (M : zM) (a0 : Nat) (l1 : Int32) (r2 : Option zP) (r3 : Option zP) (k : 16 ≤ a0 ∧ (16 ≤ a0 ∧ (16 ≤ a0 ∧ (Q (.inl none) (sr (sr (si M a0 0 l1) a0 1 r2) a0 2 r3))))) : Z E YX16_init (d + 1) M [(0, vr (some (a0, 22, 0))), (1, vi l1), (2, vr r2), (3, vr r3)] 4 [] Q := by
  refine z_aload_n dX16_init_4 rfl rfl ?_
  refine z_iload_n dX16_init_5 rfl rfl ?_
  obtain ⟨g_, k⟩ := k
  refine z_puti g_ dX16_init_6 (zfwN.f fwX16_9_22 rfl (fun q h => by rw [← Option.some.inj h]; rfl)) rfl ⟨rfl, rfl⟩ ?_
  refine z_aload_n dX16_init_9 rfl rfl ?_
  refine z_aload_n dX16_init_10 rfl rfl ?_
  obtain ⟨g_, k⟩ := k
  refine z_putr g_ dX16_init_11 (zfwN.f fwX16_15_22 rfl (fun q h => by rw [← Option.some.inj h]; rfl)) rfl ?_
  refine z_aload_n dX16_init_14 rfl rfl ?_
  refine z_aload_n dX16_init_15 rfl rfl ?_
  obtain ⟨g_, k⟩ := k
  refine z_putr g_ dX16_init_16 (zfwN.f fwX16_19_22 rfl (fun q h => by rw [← Option.some.inj h]; rfl)) rfl ?_
  exact z_vret dX16_init_19 rfl k
/-! ScriptTypes$Sets.code(LScriptTypes$Coder;)V -/
theorem bX16_code_0 : zdec cX16_code 0 [(0, .aload_n 0, 1), (1, .getfield 15, 3), (4, .invokevirtual 22, 3), (7, .ifCond .eq 78, 3), (10, .aload_n 0, 1), (11, .getfield 15, 3), (14, .checkcast 26, 3), (17, .aload_n 1, 1), (18, .invokevirtual 28, 3), (21, .aload_n 0, 1), (22, .getfield 9, 3), (25, .iconst (-1), 1), (26, .if_icmp .eq 21, 3), (29, .aload_n 1, 1), (30, .bipush 19, 2), (32, .iconst 0, 1)] = true := by decide +kernel
theorem dX16_code_0 : decode cX16_code 0 = .ok (.aload_n 0, 1) := zdec_at bX16_code_0 0 rfl
theorem dX16_code_1 : decode cX16_code 1 = .ok (.getfield 15, 3) := zdec_at bX16_code_0 1 rfl
theorem dX16_code_4 : decode cX16_code 4 = .ok (.invokevirtual 22, 3) := zdec_at bX16_code_0 2 rfl
theorem dX16_code_7 : decode cX16_code 7 = .ok (.ifCond .eq 78, 3) := zdec_at bX16_code_0 3 rfl
theorem dX16_code_10 : decode cX16_code 10 = .ok (.aload_n 0, 1) := zdec_at bX16_code_0 4 rfl
theorem dX16_code_11 : decode cX16_code 11 = .ok (.getfield 15, 3) := zdec_at bX16_code_0 5 rfl
theorem dX16_code_14 : decode cX16_code 14 = .ok (.checkcast 26, 3) := zdec_at bX16_code_0 6 rfl
theorem dX16_code_17 : decode cX16_code 17 = .ok (.aload_n 1, 1) := zdec_at bX16_code_0 7 rfl
theorem dX16_code_18 : decode cX16_code 18 = .ok (.invokevirtual 28, 3) := zdec_at bX16_code_0 8 rfl
theorem dX16_code_21 : decode cX16_code 21 = .ok (.aload_n 0, 1) := zdec_at bX16_code_0 9 rfl
theorem dX16_code_22 : decode cX16_code 22 = .ok (.getfield 9, 3) := zdec_at bX16_code_0 10 rfl
theorem dX16_code_25 : decode cX16_code 25 = .ok (.iconst (-1), 1) := zdec_at bX16_code_0 11 rfl
theorem dX16_code_26 : decode cX16_code 26 = .ok (.if_icmp .eq 21, 3) := zdec_at bX16_code_0 12 rfl
theorem dX16_code_29 : decode cX16_code 29 = .ok (.aload_n 1, 1) := zdec_at bX16_code_0 13 rfl
theorem dX16_code_30 : decode cX16_code 30 = .ok (.bipush 19, 2) := zdec_at bX16_code_0 14 rfl
theorem dX16_code_32 : decode cX16_code 32 = .ok (.iconst 0, 1) := zdec_at bX16_code_0 15 rfl
theorem bX16_code_33 : zdec cX16_code 33 [(33, .iconst 0, 1), (34, .invokevirtual 32, 3), (37, .pop, 1), (38, .aload_n 1, 1), (39, .bipush 10, 2), (41, .iconst 0, 1), (42, .iconst 0, 1), (43, .invokevirtual 32, 3), (46, .pop, 1), (47, .aload_n 0, 1), (48, .getfield 19, 3), (51, .aload_n 1, 1), (52, .invokevirtual 38, 3), (55, .aload_n 0, 1), (56, .getfield 9, 3), (59, .iconst (-1), 1)] = true := by decide +kernel
theorem dX16_code_33 : decode cX16_code 33 = .ok (.iconst 0, 1) := zdec_at bX16_code_33 0 rfl
theorem dX16_code_34 : decode cX16_code 34 = .ok (.invokevirtual 32, 3) := zdec_at bX16_code_33 1 rfl
theorem dX16_code_37 : decode cX16_code 37 = .ok (.pop, 1) := zdec_at bX16_code_33 2 rfl
theorem dX16_code_38 : decode cX16_code 38 = .ok (.aload_n 1, 1) := zdec_at bX16_code_33 3 rfl
theorem dX16_code_39 : decode cX16_code 39 = .ok (.bipush 10, 2) := zdec_at bX16_code_33 4 rfl
theorem dX16_code_41 : decode cX16_code 41 = .ok (.iconst 0, 1) := zdec_at bX16_code_33 5 rfl
theorem dX16_code_42 : decode cX16_code 42 = .ok (.iconst 0, 1) := zdec_at bX16_code_33 6 rfl
theorem dX16_code_43 : decode cX16_code 43 = .ok (.invokevirtual 32, 3) := zdec_at bX16_code_33 7 rfl
theorem dX16_code_46 : decode cX16_code 46 = .ok (.pop, 1) := zdec_at bX16_code_33 8 rfl
theorem dX16_code_47 : decode cX16_code 47 = .ok (.aload_n 0, 1) := zdec_at bX16_code_33 9 rfl
theorem dX16_code_48 : decode cX16_code 48 = .ok (.getfield 19, 3) := zdec_at bX16_code_33 10 rfl
theorem dX16_code_51 : decode cX16_code 51 = .ok (.aload_n 1, 1) := zdec_at bX16_code_33 11 rfl
theorem dX16_code_52 : decode cX16_code 52 = .ok (.invokevirtual 38, 3) := zdec_at bX16_code_33 12 rfl
theorem dX16_code_55 : decode cX16_code 55 = .ok (.aload_n 0, 1) := zdec_at bX16_code_33 13 rfl
theorem dX16_code_56 : decode cX16_code 56 = .ok (.getfield 9, 3) := zdec_at bX16_code_33 14 rfl
theorem dX16_code_59 : decode cX16_code 59 = .ok (.iconst (-1), 1) := zdec_at bX16_code_33 15 rfl
theorem bX16_code_60 : zdec cX16_code 60 [(60, .if_icmp .eq 15, 3), (63, .aload_n 1, 1), (64, .bipush 14, 2), (66, .aload_n 0, 1), (67, .getfield 9, 3), (70, .iconst 0, 1), (71, .invokevirtual 32, 3), (74, .pop, 1), (75, .aload_n 1, 1), (76, .bipush 11, 2), (78, .iconst 0, 1), (79, .iconst 0, 1), (80, .invokevirtual 32, 3), (83, .pop, 1), (84, .return_, 1), (85, .aload_n 0, 1)] = true := by decide +kernel
theorem dX16_code_60 : decode cX16_code 60 = .ok (.if_icmp .eq 15, 3) := zdec_at bX16_code_60 0 rfl
theorem dX16_code_63 : decode cX16_code 63 = .ok (.aload_n 1, 1) := zdec_at bX16_code_60 1 rfl
theorem dX16_code_64 : decode cX16_code 64 = .ok (.bipush 14, 2) := zdec_at bX16_code_60 2 rfl
theorem dX16_code_66 : decode cX16_code 66 = .ok (.aload_n 0, 1) := zdec_at bX16_code_60 3 rfl
theorem dX16_code_67 : decode cX16_code 67 = .ok (.getfield 9, 3) := zdec_at bX16_code_60 4 rfl
theorem dX16_code_70 : decode cX16_code 70 = .ok (.iconst 0, 1) := zdec_at bX16_code_60 5 rfl
theorem dX16_code_71 : decode cX16_code 71 = .ok (.invokevirtual 32, 3) := zdec_at bX16_code_60 6 rfl
theorem dX16_code_74 : decode cX16_code 74 = .ok (.pop, 1) := zdec_at bX16_code_60 7 rfl
theorem dX16_code_75 : decode cX16_code 75 = .ok (.aload_n 1, 1) := zdec_at bX16_code_60 8 rfl
theorem dX16_code_76 : decode cX16_code 76 = .ok (.bipush 11, 2) := zdec_at bX16_code_60 9 rfl
theorem dX16_code_78 : decode cX16_code 78 = .ok (.iconst 0, 1) := zdec_at bX16_code_60 10 rfl
theorem dX16_code_79 : decode cX16_code 79 = .ok (.iconst 0, 1) := zdec_at bX16_code_60 11 rfl
theorem dX16_code_80 : decode cX16_code 80 = .ok (.invokevirtual 32, 3) := zdec_at bX16_code_60 12 rfl
theorem dX16_code_83 : decode cX16_code 83 = .ok (.pop, 1) := zdec_at bX16_code_60 13 rfl
theorem dX16_code_84 : decode cX16_code 84 = .ok (.return_, 1) := zdec_at bX16_code_60 14 rfl
theorem dX16_code_85 : decode cX16_code 85 = .ok (.aload_n 0, 1) := zdec_at bX16_code_60 15 rfl
theorem bX16_code_86 : zdec cX16_code 86 [(86, .getfield 9, 3), (89, .iconst (-1), 1), (90, .if_icmp .eq 11, 3), (93, .aload_n 0, 1), (94, .getfield 15, 3), (97, .aload_n 1, 1), (98, .invokevirtual 38, 3), (101, .aload_n 0, 1), (102, .getfield 19, 3), (105, .aload_n 1, 1), (106, .invokevirtual 38, 3), (109, .aload_n 0, 1), (110, .getfield 9, 3), (113, .iconst (-1), 1), (114, .if_icmp .eq 15, 3), (117, .aload_n 1, 1)] = true := by decide +kernel
theorem dX16_code_86 : decode cX16_code 86 = .ok (.getfield 9, 3) := zdec_at bX16_code_86 0 rfl
theorem dX16_code_89 : decode cX16_code 89 = .ok (.iconst (-1), 1) := zdec_at bX16_code_86 1 rfl
theorem dX16_code_90 : decode cX16_code 90 = .ok (.if_icmp .eq 11, 3) := zdec_at bX16_code_86 2 rfl
theorem dX16_code_93 : decode cX16_code 93 = .ok (.aload_n 0, 1) := zdec_at bX16_code_86 3 rfl
theorem dX16_code_94 : decode cX16_code 94 = .ok (.getfield 15, 3) := zdec_at bX16_code_86 4 rfl
theorem dX16_code_97 : decode cX16_code 97 = .ok (.aload_n 1, 1) := zdec_at bX16_code_86 5 rfl
theorem dX16_code_98 : decode cX16_code 98 = .ok (.invokevirtual 38, 3) := zdec_at bX16_code_86 6 rfl
theorem dX16_code_101 : decode cX16_code 101 = .ok (.aload_n 0, 1) := zdec_at bX16_code_86 7 rfl
theorem dX16_code_102 : decode cX16_code 102 = .ok (.getfield 19, 3) := zdec_at bX16_code_86 8 rfl
theorem dX16_code_105 : decode cX16_code 105 = .ok (.aload_n 1, 1) := zdec_at bX16_code_86 9 rfl
theorem dX16_code_106 : decode cX16_code 106 = .ok (.invokevirtual 38, 3) := zdec_at bX16_code_86 10 rfl
theorem dX16_code_109 : decode cX16_code 109 = .ok (.aload_n 0, 1) := zdec_at bX16_code_86 11 rfl
theorem dX16_code_110 : decode cX16_code 110 = .ok (.getfield 9, 3) := zdec_at bX16_code_86 12 rfl
theorem dX16_code_113 : decode cX16_code 113 = .ok (.iconst (-1), 1) := zdec_at bX16_code_86 13 rfl
theorem dX16_code_114 : decode cX16_code 114 = .ok (.if_icmp .eq 15, 3) := zdec_at bX16_code_86 14 rfl
theorem dX16_code_117 : decode cX16_code 117 = .ok (.aload_n 1, 1) := zdec_at bX16_code_86 15 rfl
theorem bX16_code_118 : zdec cX16_code 118 [(118, .bipush 14, 2), (120, .aload_n 0, 1), (121, .getfield 9, 3), (124, .iconst 0, 1), (125, .invokevirtual 32, 3), (128, .pop, 1), (129, .aload_n 1, 1), (130, .aload_n 0, 1), (131, .getfield 15, 3), (134, .checkcast 41, 3), (137, .getfield 43, 3), (140, .invokevirtual 46, 3), (143, .return_, 1)] = true := by decide +kernel
theorem dX16_code_118 : decode cX16_code 118 = .ok (.bipush 14, 2) := zdec_at bX16_code_118 0 rfl
theorem dX16_code_120 : decode cX16_code 120 = .ok (.aload_n 0, 1) := zdec_at bX16_code_118 1 rfl
theorem dX16_code_121 : decode cX16_code 121 = .ok (.getfield 9, 3) := zdec_at bX16_code_118 2 rfl
theorem dX16_code_124 : decode cX16_code 124 = .ok (.iconst 0, 1) := zdec_at bX16_code_118 3 rfl
theorem dX16_code_125 : decode cX16_code 125 = .ok (.invokevirtual 32, 3) := zdec_at bX16_code_118 4 rfl
theorem dX16_code_128 : decode cX16_code 128 = .ok (.pop, 1) := zdec_at bX16_code_118 5 rfl
theorem dX16_code_129 : decode cX16_code 129 = .ok (.aload_n 1, 1) := zdec_at bX16_code_118 6 rfl
theorem dX16_code_130 : decode cX16_code 130 = .ok (.aload_n 0, 1) := zdec_at bX16_code_118 7 rfl
theorem dX16_code_131 : decode cX16_code 131 = .ok (.getfield 15, 3) := zdec_at bX16_code_118 8 rfl
theorem dX16_code_134 : decode cX16_code 134 = .ok (.checkcast 41, 3) := zdec_at bX16_code_118 9 rfl
theorem dX16_code_137 : decode cX16_code 137 = .ok (.getfield 43, 3) := zdec_at bX16_code_118 10 rfl
theorem dX16_code_140 : decode cX16_code 140 = .ok (.invokevirtual 46, 3) := zdec_at bX16_code_118 11 rfl
theorem dX16_code_143 : decode cX16_code 143 = .ok (.return_, 1) := zdec_at bX16_code_118 12 rfl
theorem sX16_code_0 {E : zE} {d : Nat} {Q : zO → zM → Prop} (M : zM) (a0 : Nat) (r1 : Option zP) (k : ∃ b1 t1 : Nat, (gr M a0 1) = some (b1, t1, 0) ∧ (∃ Y_ : zY, vt_isMember t1 = some Y_ ∧ Z E Y_ d M (zargs 0 [vr (some (b1, t1, 0))]) 0 [] (zafter E YX16_code (d + 1) [(0, vr (some (a0, 22, 0))), (1, vr r1)] 4 3 [] Q))) : Z E YX16_code (d + 1) M [(0, vr (some (a0, 22, 0))), (1, vr r1)] 0 [] Q := by
  refine z_aload_n dX16_code_0 rfl rfl ?_
  refine z_getr (r := (gr M a0 1)) dX16_code_1 fsX16_15_22 rfl ?_
  obtain ⟨b1, t1, e1_, k⟩ := k
  refine Z.eqs (lv' := [(0, vr (some (a0, 22, 0))), (1, vr r1)]) (st' := [vr (some (b1, t1, 0))]) rfl (by rw [e1_] <;> rfl) ?_
  obtain ⟨Y_, y_, k⟩ := k
  exact z_callV (as := []) (st := []) dX16_code_4 (vtX16_22 y_).1 (Nat.le_refl _) (Nat.le_trans (Nat.le_of_ble_eq_true rfl) (vtX16_22 y_).2.1) (Nat.le_trans (Nat.add_le_add_left (vtX16_22 y_).2.2 _) (Nat.le_of_ble_eq_true rfl)) rfl k
theorem sX16_code_7 {E : zE} {d : Nat} {Q : zO → zM → Prop} (M : zM) (a0 : Nat) (r1 : Option zP) (s0 : Int32) (k : if s0 = 0 then (if (gi M a0 0) = (-1 : Int32) then (Z E YX16_code (d + 1) M [(0, vr (some (a0, 22, 0))), (1, vr r1)] 101 [] Q) else (∃ b1 t1 : Nat, (gr M a0 1) = some (b1, t1, 0) ∧ (∃ Y_ : zY, vt_code t1 = some Y_ ∧ Z E Y_ d M (zargs 0 [vr (some (b1, t1, 0)), vr r1]) 0 [] (zafter E YX16_code (d + 1) [(0, vr (some (a0, 22, 0))), (1, vr r1)] 98 3 [] Q)))) else (∃ b1 : Nat, (gr M a0 1) = some (b1, 30, 0) ∧ (Z E YX24_place d M (zargs 0 [vr (some (b1, 30, 0)), vr r1]) 0 [] (zafter E YX16_code (d + 1) [(0, vr (some (a0, 22, 0))), (1, vr r1)] 18 3 [] Q)))) : Z E YX16_code (d + 1) M [(0, vr (some (a0, 22, 0))), (1, vr r1)] 7 [vi s0] Q := by
  refine z_if_eq (tgt := 85) dX16_code_7 rfl (fun h_ => ?_) (fun h_ => ?_)
  · have k := zit h_ k
    refine z_aload_n dX16_code_85 rfl rfl ?_
    refine z_geti dX16_code_86 fsX16_9_22 ?_
    refine z_iconst (v := -1) dX16_code_89 rfl ?_
    refine z_icmp_eq (tgt := 101) dX16_code_90 rfl (fun h_ => ?_) (fun h_ => ?_)
    · have k := zit h_ k
      exact k
    · have k := zif h_ k
      refine z_aload_n dX16_code_93 rfl rfl ?_
      refine z_getr (r := (gr M a0 1)) dX16_code_94 fsX16_15_22 rfl ?_
      refine z_aload_n dX16_code_97 rfl rfl ?_
      obtain ⟨b1, t1, e1_, k⟩ := k
      refine Z.eqs (lv' := [(0, vr (some (a0, 22, 0))), (1, vr r1)]) (st' := [vr r1, vr (some (b1, t1, 0))]) rfl (by rw [e1_] <;> rfl) ?_
      obtain ⟨Y_, y_, k⟩ := k
      exact z_callV (as := [vr r1]) (st := []) dX16_code_98 (vtX16_38 y_).1 (Nat.le_refl _) (Nat.le_trans (Nat.le_of_ble_eq_true rfl) (vtX16_38 y_).2.1) (Nat.le_trans (Nat.add_le_add_left (vtX16_38 y_).2.2 _) (Nat.le_of_ble_eq_true rfl)) rfl k
  · have k := zif h_ k
    refine z_aload_n dX16_code_10 rfl rfl ?_
    refine z_getr (r := (gr M a0 1)) dX16_code_11 fsX16_15_22 rfl ?_
    obtain ⟨b1, e1_, k⟩ := k
    refine Z.eqs (lv' := [(0, vr (some (a0, 22, 0))), (1, vr r1)]) (st' := [vr (some (b1, 30, 0))]) rfl (by rw [e1_] <;> rfl) ?_
    refine z_ckcast dX16_code_14 ctX16_26_30 ?_
    refine z_aload_n dX16_code_17 rfl rfl ?_
    exact z_callV (as := [vr r1]) (st := []) dX16_code_18 vsX16_28_30 (Nat.le_refl _) (Nat.le_of_ble_eq_true rfl) (Nat.le_of_ble_eq_true rfl) rfl k
theorem sX16_code_21 {E : zE} {d : Nat} {Q : zO → zM → Prop} (M : zM) (a0 : Nat) (r1 : Option zP) (k : if (gi M a0 0) = (-1 : Int32) then (∃ b1 t1 : Nat, (gr M a0 2) = some (b1, t1, 0) ∧ (∃ Y_ : zY, vt_code t1 = some Y_ ∧ Z E Y_ d M (zargs 0 [vr (some (b1, t1, 0)), vr r1]) 0 [] (zafter E YX16_code (d + 1) [(0, vr (some (a0, 22, 0))), (1, vr r1)] 52 3 [] Q))) else (∃ b1 : Nat, r1 = some (b1, 3, 0) ∧ (Z E YX3_put d M (zargs 0 [vr (some (b1, 3, 0)), vi (19 : Int32), vi (0 : Int32), vi (0 : Int32)]) 0 [] (zafter E YX16_code (d + 1) [(0, vr (some (a0, 22, 0))), (1, vr (some (b1, 3, 0)))] 34 3 [] Q)))) : Z E YX16_code (d + 1) M [(0, vr (some (a0, 22, 0))), (1, vr r1)] 21 [] Q := by
  refine z_aload_n dX16_code_21 rfl rfl ?_
  refine z_geti dX16_code_22 fsX16_9_22 ?_
  refine z_iconst (v := -1) dX16_code_25 rfl ?_
  refine z_icmp_eq (tgt := 47) dX16_code_26 rfl (fun h_ => ?_) (fun h_ => ?_)
  · have k := zit h_ k
    refine z_aload_n dX16_code_47 rfl rfl ?_
    refine z_getr (r := (gr M a0 2)) dX16_code_48 fsX16_19_22 rfl ?_
    refine z_aload_n dX16_code_51 rfl rfl ?_
    obtain ⟨b1, t1, e1_, k⟩ := k
    refine Z.eqs (lv' := [(0, vr (some (a0, 22, 0))), (1, vr r1)]) (st' := [vr r1, vr (some (b1, t1, 0))]) rfl (by rw [e1_] <;> rfl) ?_
    obtain ⟨Y_, y_, k⟩ := k
    exact z_callV (as := [vr r1]) (st := []) dX16_code_52 (vtX16_38 y_).1 (Nat.le_refl _) (Nat.le_trans (Nat.le_of_ble_eq_true rfl) (vtX16_38 y_).2.1) (Nat.le_trans (Nat.add_le_add_left (vtX16_38 y_).2.2 _) (Nat.le_of_ble_eq_true rfl)) rfl k
  · have k := zif h_ k
    refine z_aload_n dX16_code_29 rfl rfl ?_
    refine z_bipush (v := 19) dX16_code_30 rfl ?_
    refine z_iconst (v := 0) dX16_code_32 rfl ?_
    refine z_iconst (v := 0) dX16_code_33 rfl ?_
    obtain ⟨b1, e1_, k⟩ := k
    refine Z.eqs (lv' := [(0, vr (some (a0, 22, 0))), (1, vr (some (b1, 3, 0)))]) (st' := [vi (0 : Int32), vi (0 : Int32), vi (19 : Int32), vr (some (b1, 3, 0))]) (by rw [e1_] <;> rfl) (by rw [e1_] <;> rfl) ?_
    exact z_callV (as := [vi (19 : Int32), vi (0 : Int32), vi (0 : Int32)]) (st := []) dX16_code_34 vsX16_32_3 (Nat.le_refl _) (Nat.le_of_ble_eq_true rfl) (Nat.le_of_ble_eq_true rfl) rfl k
theorem sX16_code_37 {E : zE} {d : Nat} {Q : zO → zM → Prop} (M : zM) (a0 : Nat) (a1 : Nat) (s0 : Int32) (k : Z E YX3_put d M (zargs 0 [vr (some (a1, 3, 0)), vi (10 : Int32), vi (0 : Int32), vi (0 : Int32)]) 0 [] (zafter E YX16_code (d + 1) [(0, vr (some (a0, 22, 0))), (1, vr (some (a1, 3, 0)))] 43 3 [] Q)) : Z E YX16_code (d + 1) M [(0, vr (some (a0, 22, 0))), (1, vr (some (a1, 3, 0)))] 37 [vi s0] Q := by
  refine z_pop dX16_code_37 rfl ?_
  refine z_aload_n dX16_code_38 rfl rfl ?_
  refine z_bipush (v := 10) dX16_code_39 rfl ?_
  refine z_iconst (v := 0) dX16_code_41 rfl ?_
  refine z_iconst (v := 0) dX16_code_42 rfl ?_
  exact z_callV (as := [vi (10 : Int32), vi (0 : Int32), vi (0 : Int32)]) (st := []) dX16_code_43 vsX16_32_3 (Nat.le_refl _) (Nat.le_of_ble_eq_true rfl) (Nat.le_of_ble_eq_true rfl) rfl k
theorem sX16_code_46 {E : zE} {d : Nat} {Q : zO → zM → Prop} (M : zM) (a0 : Nat) (a1 : Nat) (s0 : Int32) (k : ∃ b1 t1 : Nat, (gr M a0 2) = some (b1, t1, 0) ∧ (∃ Y_ : zY, vt_code t1 = some Y_ ∧ Z E Y_ d M (zargs 0 [vr (some (b1, t1, 0)), vr (some (a1, 3, 0))]) 0 [] (zafter E YX16_code (d + 1) [(0, vr (some (a0, 22, 0))), (1, vr (some (a1, 3, 0)))] 52 3 [] Q))) : Z E YX16_code (d + 1) M [(0, vr (some (a0, 22, 0))), (1, vr (some (a1, 3, 0)))] 46 [vi s0] Q := by
  refine z_pop dX16_code_46 rfl ?_
  refine z_aload_n dX16_code_47 rfl rfl ?_
  refine z_getr (r := (gr M a0 2)) dX16_code_48 fsX16_19_22 rfl ?_
  refine z_aload_n dX16_code_51 rfl rfl ?_
  obtain ⟨b1, t1, e1_, k⟩ := k
  refine Z.eqs (lv' := [(0, vr (some (a0, 22, 0))), (1, vr (some (a1, 3, 0)))]) (st' := [vr (some (a1, 3, 0)), vr (some (b1, t1, 0))]) rfl (by rw [e1_] <;> rfl) ?_
  obtain ⟨Y_, y_, k⟩ := k
  exact z_callV (as := [vr (some (a1, 3, 0))]) (st := []) dX16_code_52 (vtX16_38 y_).1 (Nat.le_refl _) (Nat.le_trans (Nat.le_of_ble_eq_true rfl) (vtX16_38 y_).2.1) (Nat.le_trans (Nat.add_le_add_left (vtX16_38 y_).2.2 _) (Nat.le_of_ble_eq_true rfl)) rfl k
theorem sX16_code_55 {E : zE} {d : Nat} {Q : zO → zM → Prop} (M : zM) (a0 : Nat) (r1 : Option zP) (k : if (gi M a0 0) = (-1 : Int32) then (∃ b1 : Nat, r1 = some (b1, 3, 0) ∧ (Z E YX3_put d M (zargs 0 [vr (some (b1, 3, 0)), vi (11 : Int32), vi (0 : Int32), vi (0 : Int32)]) 0 [] (zafter E YX16_code (d + 1) [] 80 3 [] Q))) else (∃ b1 : Nat, r1 = some (b1, 3, 0) ∧ (Z E YX3_put d M (zargs 0 [vr (some (b1, 3, 0)), vi (14 : Int32), vi (gi M a0 0), vi (0 : Int32)]) 0 [] (zafter E YX16_code (d + 1) [(1, vr (some (b1, 3, 0)))] 71 3 [] Q)))) : Z E YX16_code (d + 1) M [(0, vr (some (a0, 22, 0))), (1, vr r1)] 55 [] Q := by
  refine z_aload_n dX16_code_55 rfl rfl ?_
  refine z_geti dX16_code_56 fsX16_9_22 ?_
  refine z_iconst (v := -1) dX16_code_59 rfl ?_
  refine z_icmp_eq (tgt := 75) dX16_code_60 rfl (fun h_ => ?_) (fun h_ => ?_)
  · have k := zit h_ k
    refine z_aload_n dX16_code_75 rfl rfl ?_
    refine z_bipush (v := 11) dX16_code_76 rfl ?_
    refine z_iconst (v := 0) dX16_code_78 rfl ?_
    refine z_iconst (v := 0) dX16_code_79 rfl ?_
    obtain ⟨b1, e1_, k⟩ := k
    refine Z.eqs (lv' := [(0, vr (some (a0, 22, 0))), (1, vr (some (b1, 3, 0)))]) (st' := [vi (0 : Int32), vi (0 : Int32), vi (11 : Int32), vr (some (b1, 3, 0))]) (by rw [e1_] <;> rfl) (by rw [e1_] <;> rfl) ?_
    refine Z.pick [] rfl ?_
    exact z_callV (as := [vi (11 : Int32), vi (0 : Int32), vi (0 : Int32)]) (st := []) dX16_code_80 vsX16_32_3 (Nat.le_refl _) (Nat.le_of_ble_eq_true rfl) (Nat.le_of_ble_eq_true rfl) rfl k
  · have k := zif h_ k
    refine z_aload_n dX16_code_63 rfl rfl ?_
    refine z_bipush (v := 14) dX16_code_64 rfl ?_
    refine z_aload_n dX16_code_66 rfl rfl ?_
    refine z_geti dX16_code_67 fsX16_9_22 ?_
    refine z_iconst (v := 0) dX16_code_70 rfl ?_
    obtain ⟨b1, e1_, k⟩ := k
    refine Z.eqs (lv' := [(0, vr (some (a0, 22, 0))), (1, vr (some (b1, 3, 0)))]) (st' := [vi (0 : Int32), vi (gi M a0 0), vi (14 : Int32), vr (some (b1, 3, 0))]) (by rw [e1_] <;> rfl) (by rw [e1_] <;> rfl) ?_
    refine Z.pick [1] rfl ?_
    exact z_callV (as := [vi (14 : Int32), vi (gi M a0 0), vi (0 : Int32)]) (st := []) dX16_code_71 vsX16_32_3 (Nat.le_refl _) (Nat.le_of_ble_eq_true rfl) (Nat.le_of_ble_eq_true rfl) rfl k
theorem sX16_code_74 {E : zE} {d : Nat} {Q : zO → zM → Prop} (M : zM) (a1 : Nat) (s0 : Int32) (k : Z E YX3_put d M (zargs 0 [vr (some (a1, 3, 0)), vi (11 : Int32), vi (0 : Int32), vi (0 : Int32)]) 0 [] (zafter E YX16_code (d + 1) [] 80 3 [] Q)) : Z E YX16_code (d + 1) M [(1, vr (some (a1, 3, 0)))] 74 [vi s0] Q := by
  refine z_pop dX16_code_74 rfl ?_
  refine z_aload_n dX16_code_75 rfl rfl ?_
  refine z_bipush (v := 11) dX16_code_76 rfl ?_
  refine z_iconst (v := 0) dX16_code_78 rfl ?_
  refine z_iconst (v := 0) dX16_code_79 rfl ?_
  refine Z.pick [] rfl ?_
  exact z_callV (as := [vi (11 : Int32), vi (0 : Int32), vi (0 : Int32)]) (st := []) dX16_code_80 vsX16_32_3 (Nat.le_refl _) (Nat.le_of_ble_eq_true rfl) (Nat.le_of_ble_eq_true rfl) rfl k
theorem sX16_code_83 {E : zE} {d : Nat} {Q : zO → zM → Prop} (M : zM) (s0 : Int32) (k : Q (.inl none) M) : Z E YX16_code (d + 1) M [] 83 [vi s0] Q := by
  refine z_pop dX16_code_83 rfl ?_
  exact z_vret dX16_code_84 rfl k
theorem sX16_code_101 {E : zE} {d : Nat} {Q : zO → zM → Prop} (M : zM) (a0 : Nat) (r1 : Option zP) (k : ∃ b1 t1 : Nat, (gr M a0 2) = some (b1, t1, 0) ∧ (∃ Y_ : zY, vt_code t1 = some Y_ ∧ Z E Y_ d M (zargs 0 [vr (some (b1, t1, 0)), vr r1]) 0 [] (zafter E YX16_code (d + 1) [(0, vr (some (a0, 22, 0))), (1, vr r1)] 106 3 [] Q))) : Z E YX16_code (d + 1) M [(0, vr (some (a0, 22, 0))), (1, vr r1)] 101 [] Q := by
  refine z_aload_n dX16_code_101 rfl rfl ?_
  refine z_getr (r := (gr M a0 2)) dX16_code_102 fsX16_19_22 rfl ?_
  refine z_aload_n dX16_code_105 rfl rfl ?_
  obtain ⟨b1, t1, e1_, k⟩ := k
  refine Z.eqs (lv' := [(0, vr (some (a0, 22, 0))), (1, vr r1)]) (st' := [vr r1, vr (some (b1, t1, 0))]) rfl (by rw [e1_] <;> rfl) ?_
  obtain ⟨Y_, y_, k⟩ := k
  exact z_callV (as := [vr r1]) (st := []) dX16_code_106 (vtX16_38 y_).1 (Nat.le_refl _) (Nat.le_trans (Nat.le_of_ble_eq_true rfl) (vtX16_38 y_).2.1) (Nat.le_trans (Nat.add_le_add_left (vtX16_38 y_).2.2 _) (Nat.le_of_ble_eq_true rfl)) rfl k
theorem sX16_code_109 {E : zE} {d : Nat} {Q : zO → zM → Prop} (M : zM) (a0 : Nat) (r1 : Option zP) (k : if (gi M a0 0) = (-1 : Int32) then (∃ b1 : Nat, (gr M a0 1) = some (b1, 23, 0) ∧ (∃ b2 : Nat, r1 = some (b2, 3, 0) ∧ (Z E YX3_set d M (zargs 0 [vr (some (b2, 3, 0)), vi (gi M b1 0)]) 0 [] (zafter E YX16_code (d + 1) [] 140 3 [] Q)))) else (∃ b1 : Nat, r1 = some (b1, 3, 0) ∧ (Z E YX3_put d M (zargs 0 [vr (some (b1, 3, 0)), vi (14 : Int32), vi (gi M a0 0), vi (0 : Int32)]) 0 [] (zafter E YX16_code (d + 1) [(0, vr (some (a0, 22, 0))), (1, vr (some (b1, 3, 0)))] 125 3 [] Q)))) : Z E YX16_code (d + 1) M [(0, vr (some (a0, 22, 0))), (1, vr r1)] 109 [] Q := by
  refine z_aload_n dX16_code_109 rfl rfl ?_
  refine z_geti dX16_code_110 fsX16_9_22 ?_
  refine z_iconst (v := -1) dX16_code_113 rfl ?_
  refine z_icmp_eq (tgt := 129) dX16_code_114 rfl (fun h_ => ?_) (fun h_ => ?_)
  · have k := zit h_ k
    refine z_aload_n dX16_code_129 rfl rfl ?_
    refine z_aload_n dX16_code_130 rfl rfl ?_
    refine z_getr (r := (gr M a0 1)) dX16_code_131 fsX16_15_22 rfl ?_
    obtain ⟨b1, e1_, k⟩ := k
    refine Z.eqs (lv' := [(0, vr (some (a0, 22, 0))), (1, vr r1)]) (st' := [vr (some (b1, 23, 0)), vr r1]) rfl (by rw [e1_] <;> rfl) ?_
    refine z_ckcast dX16_code_134 ctX16_41_23 ?_
    refine z_geti dX16_code_137 fsX16_43_23 ?_
    obtain ⟨b2, e2_, k⟩ := k
    refine Z.eqs (lv' := [(0, vr (some (a0, 22, 0))), (1, vr (some (b2, 3, 0)))]) (st' := [vi (gi M b1 0), vr (some (b2, 3, 0))]) (by rw [e2_] <;> rfl) (by rw [e2_] <;> rfl) ?_
    refine Z.pick [] rfl ?_
    exact z_callV (as := [vi (gi M b1 0)]) (st := []) dX16_code_140 vsX16_46_3 (Nat.le_refl _) (Nat.le_of_ble_eq_true rfl) (Nat.le_of_ble_eq_true rfl) rfl k
  · have k := zif h_ k
    refine z_aload_n dX16_code_117 rfl rfl ?_
    refine z_bipush (v := 14) dX16_code_118 rfl ?_
    refine z_aload_n dX16_code_120 rfl rfl ?_
    refine z_geti dX16_code_121 fsX16_9_22 ?_
    refine z_iconst (v := 0) dX16_code_124 rfl ?_
    obtain ⟨b1, e1_, k⟩ := k
    refine Z.eqs (lv' := [(0, vr (some (a0, 22, 0))), (1, vr (some (b1, 3, 0)))]) (st' := [vi (0 : Int32), vi (gi M a0 0), vi (14 : Int32), vr (some (b1, 3, 0))]) (by rw [e1_] <;> rfl) (by rw [e1_] <;> rfl) ?_
    exact z_callV (as := [vi (14 : Int32), vi (gi M a0 0), vi (0 : Int32)]) (st := []) dX16_code_125 vsX16_32_3 (Nat.le_refl _) (Nat.le_of_ble_eq_true rfl) (Nat.le_of_ble_eq_true rfl) rfl k
theorem sX16_code_128 {E : zE} {d : Nat} {Q : zO → zM → Prop} (M : zM) (a0 : Nat) (a1 : Nat) (s0 : Int32) (k : ∃ b1 : Nat, (gr M a0 1) = some (b1, 23, 0) ∧ (Z E YX3_set d M (zargs 0 [vr (some (a1, 3, 0)), vi (gi M b1 0)]) 0 [] (zafter E YX16_code (d + 1) [] 140 3 [] Q))) : Z E YX16_code (d + 1) M [(0, vr (some (a0, 22, 0))), (1, vr (some (a1, 3, 0)))] 128 [vi s0] Q := by
  refine z_pop dX16_code_128 rfl ?_
  refine z_aload_n dX16_code_129 rfl rfl ?_
  refine z_aload_n dX16_code_130 rfl rfl ?_
  refine z_getr (r := (gr M a0 1)) dX16_code_131 fsX16_15_22 rfl ?_
  obtain ⟨b1, e1_, k⟩ := k
  refine Z.eqs (lv' := [(0, vr (some (a0, 22, 0))), (1, vr (some (a1, 3, 0)))]) (st' := [vr (some (b1, 23, 0)), vr (some (a1, 3, 0))]) rfl (by rw [e1_] <;> rfl) ?_
  refine z_ckcast dX16_code_134 ctX16_41_23 ?_
  refine z_geti dX16_code_137 fsX16_43_23 ?_
  refine Z.pick [] rfl ?_
  exact z_callV (as := [vi (gi M b1 0)]) (st := []) dX16_code_140 vsX16_46_3 (Nat.le_refl _) (Nat.le_of_ble_eq_true rfl) (Nat.le_of_ble_eq_true rfl) rfl k
theorem sX16_code_143 {E : zE} {d : Nat} {Q : zO → zM → Prop} (M : zM)  (k : Q (.inl none) M) : Z E YX16_code (d + 1) M [] 143 [] Q := by
  exact z_vret dX16_code_143 rfl k
/-! ScriptTypes$Name.<init>(I)V -/
theorem bX17_init_0 : zdec cX17_init 0 [(0, .aload_n 0, 1), (1, .invokespecial 1, 3), (4, .aload_n 0, 1), (5, .iload_n 1, 1), (6, .putfield 7, 3), (9, .return_, 1)] = true := by decide +kernel
theorem dX17_init_0 : decode cX17_init 0 = .ok (.aload_n 0, 1) := zdec_at bX17_init_0 0 rfl
theorem dX17_init_1 : decode cX17_init 1 = .ok (.invokespecial 1, 3) := zdec_at bX17_init_0 1 rfl
theorem dX17_init_4 : decode cX17_init 4 = .ok (.aload_n 0, 1) := zdec_at bX17_init_0 2 rfl
theorem dX17_init_5 : decode cX17_init 5 = .ok (.iload_n 1, 1) := zdec_at bX17_init_0 3 rfl
theorem dX17_init_6 : decode cX17_init 6 = .ok (.putfield 7, 3) := zdec_at bX17_init_0 4 rfl
theorem dX17_init_9 : decode cX17_init 9 = .ok (.return_, 1) := zdec_at bX17_init_0 5 rfl
theorem sX17_init_0 {E : zE} {d : Nat} {Q : zO → zM → Prop} (M : zM) (a0 : Nat) (l1 : Int32) (k : Z E YX13_init d M (zargs 0 [vr (some (a0, 23, 0))]) 0 [] (zafter E YX17_init (d + 1) [(0, vr (some (a0, 23, 0))), (1, vi l1)] 1 3 [] Q)) : Z E YX17_init (d + 1) M [(0, vr (some (a0, 23, 0))), (1, vi l1)] 0 [] Q := by
  refine z_aload_n dX17_init_0 rfl rfl ?_
  exact z_callI (as := []) (st := []) dX17_init_1 isX17_1 (Nat.le_refl _) (Nat.le_of_ble_eq_true rfl) (Nat.le_of_ble_eq_true rfl) rfl k
theorem sX17_init_4 {E : zE} {d : Nat} {Q : zO → zM → Prop} (M : zM) (a0 : Nat) (l1 : Int32) (k : 16 ≤ a0 ∧ (Q (.inl none) (si M a0 0 l1))) : Z E YX17_init (d + 1) M [(0, vr (some (a0, 23, 0))), (1, vi l1)] 4 [] Q := by
  refine z_aload_n dX17_init_4 rfl rfl ?_
  refine z_iload_n dX17_init_5 rfl rfl ?_
  obtain ⟨g_, k⟩ := k
  refine z_puti g_ dX17_init_6 (zfwN.f fwX17_7_23 rfl (fun q h => by rw [← Option.some.inj h]; rfl)) rfl ⟨rfl, rfl⟩ ?_
  exact z_vret dX17_init_9 rfl k
/-! ScriptTypes$Name.isName()Z -/
theorem bX17_isName_0 : zdec cX17_isName 0 [(0, .iconst 1, 1), (1, .ireturn, 1)] = true := by decide +kernel
theorem dX17_isName_0 : decode cX17_isName 0 = .ok (.iconst 1, 1) := zdec_at bX17_isName_0 0 rfl
theorem dX17_isName_1 : decode cX17_isName 1 = .ok (.ireturn, 1) := zdec_at bX17_isName_0 1 rfl
theorem sX17_isName_0 {E : zE} {d : Nat} {Q : zO → zM → Prop} (M : zM) (a0 : Nat) (k : Q (.inl (some (vi (1 : Int32)))) M) : Z E YX17_isName d M [(0, vr (some (a0, 23, 0)))] 0 [] Q := by
  refine z_iconst (v := 1) dX17_isName_0 rfl ?_
  exact z_iret dX17_isName_1 rfl (by decide) k
/-! ScriptTypes$Name.code(LScriptTypes$Coder;)V -/
theorem bX17_code_0 : zdec cX17_code 0 [(0, .aload_n 1, 1), (1, .aload_n 0, 1), (2, .getfield 7, 3), (5, .invokevirtual 13, 3), (8, .return_, 1)] = true := by decide +kernel
theorem dX17_code_0 : decode cX17_code 0 = .ok (.aload_n 1, 1) := zdec_at bX17_code_0 0 rfl
theorem dX17_code_1 : decode cX17_code 1 = .ok (.aload_n 0, 1) := zdec_at bX17_code_0 1 rfl
theorem dX17_code_2 : decode cX17_code 2 = .ok (.getfield 7, 3) := zdec_at bX17_code_0 2 rfl
theorem dX17_code_5 : decode cX17_code 5 = .ok (.invokevirtual 13, 3) := zdec_at bX17_code_0 3 rfl
theorem dX17_code_8 : decode cX17_code 8 = .ok (.return_, 1) := zdec_at bX17_code_0 4 rfl
theorem sX17_code_0 {E : zE} {d : Nat} {Q : zO → zM → Prop} (M : zM) (a0 : Nat) (r1 : Option zP) (k : ∃ b1 : Nat, r1 = some (b1, 3, 0) ∧ (Z E YX3_get d M (zargs 0 [vr (some (b1, 3, 0)), vi (gi M a0 0)]) 0 [] (zafter E YX17_code (d + 1) [] 5 3 [] Q))) : Z E YX17_code (d + 1) M [(0, vr (some (a0, 23, 0))), (1, vr r1)] 0 [] Q := by
  refine z_aload_n dX17_code_0 rfl rfl ?_
  refine z_aload_n dX17_code_1 rfl rfl ?_
  refine z_geti dX17_code_2 fsX17_7_23 ?_
  obtain ⟨b1, e1_, k⟩ := k
  refine Z.eqs (lv' := [(0, vr (some (a0, 23, 0))), (1, vr (some (b1, 3, 0)))]) (st' := [vi (gi M a0 0), vr (some (b1, 3, 0))]) (by rw [e1_] <;> rfl) (by rw [e1_] <;> rfl) ?_
  refine Z.pick [] rfl ?_
  exact z_callV (as := [vi (gi M a0 0)]) (st := []) dX17_code_5 vsX17_13_3 (Nat.le_refl _) (Nat.le_of_ble_eq_true rfl) (Nat.le_of_ble_eq_true rfl) rfl k
theorem sX17_code_8 {E : zE} {d : Nat} {Q : zO → zM → Prop} (M : zM)  (k : Q (.inl none) M) : Z E YX17_code (d + 1) M [] 8 [] Q := by
  exact z_vret dX17_code_8 rfl k
/-! ScriptTypes$Literal.<init>(II)V -/
theorem bX18_init_0 : zdec cX18_init 0 [(0, .aload_n 0, 1), (1, .invokespecial 3, 3), (4, .aload_n 0, 1), (5, .iload_n 1, 1), (6, .putfield 9, 3), (9, .aload_n 0, 1), (10, .iload_n 2, 1), (11, .putfield 15, 3), (14, .return_, 1)] = true := by decide +kernel
theorem dX18_init_0 : decode cX18_init 0 = .ok (.aload_n 0, 1) := zdec_at bX18_init_0 0 rfl
theorem dX18_init_1 : decode cX18_init 1 = .ok (.invokespecial 3, 3) := zdec_at bX18_init_0 1 rfl
theorem dX18_init_4 : decode cX18_init 4 = .ok (.aload_n 0, 1) := zdec_at bX18_init_0 2 rfl
theorem dX18_init_5 : decode cX18_init 5 = .ok (.iload_n 1, 1) := zdec_at bX18_init_0 3 rfl
theorem dX18_init_6 : decode cX18_init 6 = .ok (.putfield 9, 3) := zdec_at bX18_init_0 4 rfl
theorem dX18_init_9 : decode cX18_init 9 = .ok (.aload_n 0, 1) := zdec_at bX18_init_0 5 rfl
theorem dX18_init_10 : decode cX18_init 10 = .ok (.iload_n 2, 1) := zdec_at bX18_init_0 6 rfl
theorem dX18_init_11 : decode cX18_init 11 = .ok (.putfield 15, 3) := zdec_at bX18_init_0 7 rfl
theorem dX18_init_14 : decode cX18_init 14 = .ok (.return_, 1) := zdec_at bX18_init_0 8 rfl
theorem sX18_init_0 {E : zE} {d : Nat} {Q : zO → zM → Prop} (M : zM) (a0 : Nat) (l1 : Int32) (l2 : Int32) (k : Z E YX13_init d M (zargs 0 [vr (some (a0, 24, 0))]) 0 [] (zafter E YX18_init (d + 1) [(0, vr (some (a0, 24, 0))), (1, vi l1), (2, vi l2)] 1 3 [] Q)) : Z E YX18_init (d + 1) M [(0, vr (some (a0, 24, 0))), (1, vi l1), (2, vi l2)] 0 [] Q := by
  refine z_aload_n dX18_init_0 rfl rfl ?_
  exact z_callI (as := []) (st := []) dX18_init_1 isX18_3 (Nat.le_refl _) (Nat.le_of_ble_eq_true rfl) (Nat.le_of_ble_eq_true rfl) rfl k
theorem sX18_init_4 {E : zE} {d : Nat} {Q : zO → zM → Prop} (M : zM) (a0 : Nat) (l1 : Int32) (l2 : Int32) (k : 16 ≤ a0 ∧ (16 ≤ a0 ∧ (Q (.inl none) (si (si M a0 0 l1) a0 1 l2)))) : Z E YX18_init (d + 1) M [(0, vr (some (a0, 24, 0))), (1, vi l1), (2, vi l2)] 4 [] Q := by
  refine z_aload_n dX18_init_4 rfl rfl ?_
  refine z_iload_n dX18_init_5 rfl rfl ?_
  obtain ⟨g_, k⟩ := k
  refine z_puti g_ dX18_init_6 (zfwN.f fwX18_9_24 rfl (fun q h => by rw [← Option.some.inj h]; rfl)) rfl ⟨rfl, rfl⟩ ?_
  refine z_aload_n dX18_init_9 rfl rfl ?_
  refine z_iload_n dX18_init_10 rfl rfl ?_
  obtain ⟨g_, k⟩ := k
  refine z_puti g_ dX18_init_11 (zfwN.f fwX18_15_24 rfl (fun q h => by rw [← Option.some.inj h]; rfl)) rfl ⟨rfl, rfl⟩ ?_
  exact z_vret dX18_init_14 rfl k
/-! ScriptTypes$Literal.code(LScriptTypes$Coder;)V -/
theorem bX18_code_0 : zdec cX18_code 0 [(0, .aload_n 1, 1), (1, .iconst 0, 1), (2, .aload_n 0, 1), (3, .getfield 9, 3), (6, .aload_n 0, 1), (7, .getfield 15, 3), (10, .invokevirtual 18, 3), (13, .pop, 1), (14, .return_, 1)] = true := by decide +kernel
theorem dX18_code_0 : decode cX18_code 0 = .ok (.aload_n 1, 1) := zdec_at bX18_code_0 0 rfl
theorem dX18_code_1 : decode cX18_code 1 = .ok (.iconst 0, 1) := zdec_at bX18_code_0 1 rfl
theorem dX18_code_2 : decode cX18_code 2 = .ok (.aload_n 0, 1) := zdec_at bX18_code_0 2 rfl
theorem dX18_code_3 : decode cX18_code 3 = .ok (.getfield 9, 3) := zdec_at bX18_code_0 3 rfl
theorem dX18_code_6 : decode cX18_code 6 = .ok (.aload_n 0, 1) := zdec_at bX18_code_0 4 rfl
theorem dX18_code_7 : decode cX18_code 7 = .ok (.getfield 15, 3) := zdec_at bX18_code_0 5 rfl
theorem dX18_code_10 : decode cX18_code 10 = .ok (.invokevirtual 18, 3) := zdec_at bX18_code_0 6 rfl
theorem dX18_code_13 : decode cX18_code 13 = .ok (.pop, 1) := zdec_at bX18_code_0 7 rfl
theorem dX18_code_14 : decode cX18_code 14 = .ok (.return_, 1) := zdec_at bX18_code_0 8 rfl
theorem sX18_code_0 {E : zE} {d : Nat} {Q : zO → zM → Prop} (M : zM) (a0 : Nat) (r1 : Option zP) (k : ∃ b1 : Nat, r1 = some (b1, 3, 0) ∧ (Z E YX3_put d M (zargs 0 [vr (some (b1, 3, 0)), vi (0 : Int32), vi (gi M a0 0), vi (gi M a0 1)]) 0 [] (zafter E YX18_code (d + 1) [] 10 3 [] Q))) : Z E YX18_code (d + 1) M [(0, vr (some (a0, 24, 0))), (1, vr r1)] 0 [] Q := by
  refine z_aload_n dX18_code_0 rfl rfl ?_
  refine z_iconst (v := 0) dX18_code_1 rfl ?_
  refine z_aload_n dX18_code_2 rfl rfl ?_
  refine z_geti dX18_code_3 fsX18_9_24 ?_
  refine z_aload_n dX18_code_6 rfl rfl ?_
  refine z_geti dX18_code_7 fsX18_15_24 ?_
  obtain ⟨b1, e1_, k⟩ := k
  refine Z.eqs (lv' := [(0, vr (some (a0, 24, 0))), (1, vr (some (b1, 3, 0)))]) (st' := [vi (gi M a0 1), vi (gi M a0 0), vi (0 : Int32), vr (some (b1, 3, 0))]) (by rw [e1_] <;> rfl) (by rw [e1_] <;> rfl) ?_
  refine Z.pick [] rfl ?_
  exact z_callV (as := [vi (0 : Int32), vi (gi M a0 0), vi (gi M a0 1)]) (st := []) dX18_code_10 vsX18_18_3 (Nat.le_refl _) (Nat.le_of_ble_eq_true rfl) (Nat.le_of_ble_eq_true rfl) rfl k
theorem sX18_code_13 {E : zE} {d : Nat} {Q : zO → zM → Prop} (M : zM) (s0 : Int32) (k : Q (.inl none) M) : Z E YX18_code (d + 1) M [] 13 [vi s0] Q := by
  refine z_pop dX18_code_13 rfl ?_
  exact z_vret dX18_code_14 rfl k
/-! ScriptTypes$This.<init>()V -/
theorem bX19_init_0 : zdec cX19_init 0 [(0, .aload_n 0, 1), (1, .invokespecial 3, 3), (4, .return_, 1)] = true := by decide +kernel
theorem dX19_init_0 : decode cX19_init 0 = .ok (.aload_n 0, 1) := zdec_at bX19_init_0 0 rfl
theorem dX19_init_1 : decode cX19_init 1 = .ok (.invokespecial 3, 3) := zdec_at bX19_init_0 1 rfl
theorem dX19_init_4 : decode cX19_init 4 = .ok (.return_, 1) := zdec_at bX19_init_0 2 rfl
theorem sX19_init_0 {E : zE} {d : Nat} {Q : zO → zM → Prop} (M : zM) (a0 : Nat) (k : Z E YX13_init d M (zargs 0 [vr (some (a0, 25, 0))]) 0 [] (zafter E YX19_init (d + 1) [] 1 3 [] Q)) : Z E YX19_init (d + 1) M [(0, vr (some (a0, 25, 0)))] 0 [] Q := by
  refine z_aload_n dX19_init_0 rfl rfl ?_
  refine Z.pick [] rfl ?_
  exact z_callI (as := []) (st := []) dX19_init_1 isX19_3 (Nat.le_refl _) (Nat.le_of_ble_eq_true rfl) (Nat.le_of_ble_eq_true rfl) rfl k
theorem sX19_init_4 {E : zE} {d : Nat} {Q : zO → zM → Prop} (M : zM)  (k : Q (.inl none) M) : Z E YX19_init (d + 1) M [] 4 [] Q := by
  exact z_vret dX19_init_4 rfl k
/-! ScriptTypes$This.code(LScriptTypes$Coder;)V -/
theorem bX19_code_0 : zdec cX19_code 0 [(0, .aload_n 1, 1), (1, .bipush 6, 2), (3, .iconst 0, 1), (4, .iconst 0, 1), (5, .invokevirtual 9, 3), (8, .pop, 1), (9, .return_, 1)] = true := by decide +kernel
theorem dX19_code_0 : decode cX19_code 0 = .ok (.aload_n 1, 1) := zdec_at bX19_code_0 0 rfl
theorem dX19_code_1 : decode cX19_code 1 = .ok (.bipush 6, 2) := zdec_at bX19_code_0 1 rfl
theorem dX19_code_3 : decode cX19_code 3 = .ok (.iconst 0, 1) := zdec_at bX19_code_0 2 rfl
theorem dX19_code_4 : decode cX19_code 4 = .ok (.iconst 0, 1) := zdec_at bX19_code_0 3 rfl
theorem dX19_code_5 : decode cX19_code 5 = .ok (.invokevirtual 9, 3) := zdec_at bX19_code_0 4 rfl
theorem dX19_code_8 : decode cX19_code 8 = .ok (.pop, 1) := zdec_at bX19_code_0 5 rfl
theorem dX19_code_9 : decode cX19_code 9 = .ok (.return_, 1) := zdec_at bX19_code_0 6 rfl
theorem sX19_code_0 {E : zE} {d : Nat} {Q : zO → zM → Prop} (M : zM) (a0 : Nat) (r1 : Option zP) (k : ∃ b1 : Nat, r1 = some (b1, 3, 0) ∧ (Z E YX3_put d M (zargs 0 [vr (some (b1, 3, 0)), vi (6 : Int32), vi (0 : Int32), vi (0 : Int32)]) 0 [] (zafter E YX19_code (d + 1) [] 5 3 [] Q))) : Z E YX19_code (d + 1) M [(0, vr (some (a0, 25, 0))), (1, vr r1)] 0 [] Q := by
  refine z_aload_n dX19_code_0 rfl rfl ?_
  refine z_bipush (v := 6) dX19_code_1 rfl ?_
  refine z_iconst (v := 0) dX19_code_3 rfl ?_
  refine z_iconst (v := 0) dX19_code_4 rfl ?_
  obtain ⟨b1, e1_, k⟩ := k
  refine Z.eqs (lv' := [(0, vr (some (a0, 25, 0))), (1, vr (some (b1, 3, 0)))]) (st' := [vi (0 : Int32), vi (0 : Int32), vi (6 : Int32), vr (some (b1, 3, 0))]) (by rw [e1_] <;> rfl) (by rw [e1_] <;> rfl) ?_
  refine Z.pick [] rfl ?_
  exact z_callV (as := [vi (6 : Int32), vi (0 : Int32), vi (0 : Int32)]) (st := []) dX19_code_5 vsX19_9_3 (Nat.le_refl _) (Nat.le_of_ble_eq_true rfl) (Nat.le_of_ble_eq_true rfl) rfl k
theorem sX19_code_8 {E : zE} {d : Nat} {Q : zO → zM → Prop} (M : zM) (s0 : Int32) (k : Q (.inl none) M) : Z E YX19_code (d + 1) M [] 8 [vi s0] Q := by
  refine z_pop dX19_code_8 rfl ?_
  exact z_vret dX19_code_9 rfl k
/-! ScriptTypes$Made.<init>(I)V -/
theorem bX20_init_0 : zdec cX20_init 0 [(0, .aload_n 0, 1), (1, .invokespecial 3, 3), (4, .aload_n 0, 1), (5, .iload_n 1, 1), (6, .putfield 9, 3), (9, .return_, 1)] = true := by decide +kernel
theorem dX20_init_0 : decode cX20_init 0 = .ok (.aload_n 0, 1) := zdec_at bX20_init_0 0 rfl
theorem dX20_init_1 : decode cX20_init 1 = .ok (.invokespecial 3, 3) := zdec_at bX20_init_0 1 rfl
theorem dX20_init_4 : decode cX20_init 4 = .ok (.aload_n 0, 1) := zdec_at bX20_init_0 2 rfl
theorem dX20_init_5 : decode cX20_init 5 = .ok (.iload_n 1, 1) := zdec_at bX20_init_0 3 rfl
theorem dX20_init_6 : decode cX20_init 6 = .ok (.putfield 9, 3) := zdec_at bX20_init_0 4 rfl
theorem dX20_init_9 : decode cX20_init 9 = .ok (.return_, 1) := zdec_at bX20_init_0 5 rfl
theorem sX20_init_0 {E : zE} {d : Nat} {Q : zO → zM → Prop} (M : zM) (a0 : Nat) (l1 : Int32) (k : Z E YX13_init d M (zargs 0 [vr (some (a0, 26, 0))]) 0 [] (zafter E YX20_init (d + 1) [(0, vr (some (a0, 26, 0))), (1, vi l1)] 1 3 [] Q)) : Z E YX20_init (d + 1) M [(0, vr (some (a0, 26, 0))), (1, vi l1)] 0 [] Q := by
  refine z_aload_n dX20_init_0 rfl rfl ?_
  exact z_callI (as := []) (st := []) dX20_init_1 isX20_3 (Nat.le_refl _) (Nat.le_of_ble_eq_true rfl) (Nat.le_of_ble_eq_true rfl) rfl k
theorem sX20_init_4 {E : zE} {d : Nat} {Q : zO → zM → Prop} (M : zM) (a0 : Nat) (l1 : Int32) (k : 16 ≤ a0 ∧ (Q (.inl none) (si M a0 0 l1))) : Z E YX20_init (d + 1) M [(0, vr (some (a0, 26, 0))), (1, vi l1)] 4 [] Q := by
  refine z_aload_n dX20_init_4 rfl rfl ?_
  refine z_iload_n dX20_init_5 rfl rfl ?_
  obtain ⟨g_, k⟩ := k
  refine z_puti g_ dX20_init_6 (zfwN.f fwX20_9_26 rfl (fun q h => by rw [← Option.some.inj h]; rfl)) rfl ⟨rfl, rfl⟩ ?_
  exact z_vret dX20_init_9 rfl k
/-! ScriptTypes$Made.code(LScriptTypes$Coder;)V -/
theorem bX20_code_0 : zdec cX20_code 0 [(0, .aload_n 1, 1), (1, .bipush 9, 2), (3, .aload_n 0, 1), (4, .getfield 9, 3), (7, .iconst 0, 1), (8, .invokevirtual 15, 3), (11, .pop, 1), (12, .return_, 1)] = true := by decide +kernel
theorem dX20_code_0 : decode cX20_code 0 = .ok (.aload_n 1, 1) := zdec_at bX20_code_0 0 rfl
theorem dX20_code_1 : decode cX20_code 1 = .ok (.bipush 9, 2) := zdec_at bX20_code_0 1 rfl
theorem dX20_code_3 : decode cX20_code 3 = .ok (.aload_n 0, 1) := zdec_at bX20_code_0 2 rfl
theorem dX20_code_4 : decode cX20_code 4 = .ok (.getfield 9, 3) := zdec_at bX20_code_0 3 rfl
theorem dX20_code_7 : decode cX20_code 7 = .ok (.iconst 0, 1) := zdec_at bX20_code_0 4 rfl
theorem dX20_code_8 : decode cX20_code 8 = .ok (.invokevirtual 15, 3) := zdec_at bX20_code_0 5 rfl
theorem dX20_code_11 : decode cX20_code 11 = .ok (.pop, 1) := zdec_at bX20_code_0 6 rfl
theorem dX20_code_12 : decode cX20_code 12 = .ok (.return_, 1) := zdec_at bX20_code_0 7 rfl
theorem sX20_code_0 {E : zE} {d : Nat} {Q : zO → zM → Prop} (M : zM) (a0 : Nat) (r1 : Option zP) (k : ∃ b1 : Nat, r1 = some (b1, 3, 0) ∧ (Z E YX3_put d M (zargs 0 [vr (some (b1, 3, 0)), vi (9 : Int32), vi (gi M a0 0), vi (0 : Int32)]) 0 [] (zafter E YX20_code (d + 1) [] 8 3 [] Q))) : Z E YX20_code (d + 1) M [(0, vr (some (a0, 26, 0))), (1, vr r1)] 0 [] Q := by
  refine z_aload_n dX20_code_0 rfl rfl ?_
  refine z_bipush (v := 9) dX20_code_1 rfl ?_
  refine z_aload_n dX20_code_3 rfl rfl ?_
  refine z_geti dX20_code_4 fsX20_9_26 ?_
  refine z_iconst (v := 0) dX20_code_7 rfl ?_
  obtain ⟨b1, e1_, k⟩ := k
  refine Z.eqs (lv' := [(0, vr (some (a0, 26, 0))), (1, vr (some (b1, 3, 0)))]) (st' := [vi (0 : Int32), vi (gi M a0 0), vi (9 : Int32), vr (some (b1, 3, 0))]) (by rw [e1_] <;> rfl) (by rw [e1_] <;> rfl) ?_
  refine Z.pick [] rfl ?_
  exact z_callV (as := [vi (9 : Int32), vi (gi M a0 0), vi (0 : Int32)]) (st := []) dX20_code_8 vsX20_15_3 (Nat.le_refl _) (Nat.le_of_ble_eq_true rfl) (Nat.le_of_ble_eq_true rfl) rfl k
theorem sX20_code_11 {E : zE} {d : Nat} {Q : zO → zM → Prop} (M : zM) (s0 : Int32) (k : Q (.inl none) M) : Z E YX20_code (d + 1) M [] 11 [vi s0] Q := by
  refine z_pop dX20_code_11 rfl ?_
  exact z_vret dX20_code_12 rfl k
/-! ScriptTypes$Bracketed.<init>(LScriptTypes$Node;)V -/
theorem bX21_init_0 : zdec cX21_init 0 [(0, .aload_n 0, 1), (1, .invokespecial 1, 3), (4, .aload_n 0, 1), (5, .aload_n 1, 1), (6, .putfield 7, 3), (9, .return_, 1)] = true := by decide +kernel
theorem dX21_init_0 : decode cX21_init 0 = .ok (.aload_n 0, 1) := zdec_at bX21_init_0 0 rfl
theorem dX21_init_1 : decode cX21_init 1 = .ok (.invokespecial 1, 3) := zdec_at bX21_init_0 1 rfl
theorem dX21_init_4 : decode cX21_init 4 = .ok (.aload_n 0, 1) := zdec_at bX21_init_0 2 rfl
theorem dX21_init_5 : decode cX21_init 5 = .ok (.aload_n 1, 1) := zdec_at bX21_init_0 3 rfl
theorem dX21_init_6 : decode cX21_init 6 = .ok (.putfield 7, 3) := zdec_at bX21_init_0 4 rfl
theorem dX21_init_9 : decode cX21_init 9 = .ok (.return_, 1) := zdec_at bX21_init_0 5 rfl
theorem sX21_init_0 {E : zE} {d : Nat} {Q : zO → zM → Prop} (M : zM) (a0 : Nat) (r1 : Option zP) (k : Z E YX13_init d M (zargs 0 [vr (some (a0, 27, 0))]) 0 [] (zafter E YX21_init (d + 1) [(0, vr (some (a0, 27, 0))), (1, vr r1)] 1 3 [] Q)) : Z E YX21_init (d + 1) M [(0, vr (some (a0, 27, 0))), (1, vr r1)] 0 [] Q := by
  refine z_aload_n dX21_init_0 rfl rfl ?_
  exact z_callI (as := []) (st := []) dX21_init_1 isX21_1 (Nat.le_refl _) (Nat.le_of_ble_eq_true rfl) (Nat.le_of_ble_eq_true rfl) rfl k
theorem sX21_init_4 {E : zE} {d : Nat} {Q : zO → zM → Prop} (M : zM) (a0 : Nat) (r1 : Option zP) (k : 16 ≤ a0 ∧ (Q (.inl none) (sr M a0 0 r1))) : Z E YX21_init (d + 1) M [(0, vr (some (a0, 27, 0))), (1, vr r1)] 4 [] Q := by
  refine z_aload_n dX21_init_4 rfl rfl ?_
  refine z_aload_n dX21_init_5 rfl rfl ?_
  obtain ⟨g_, k⟩ := k
  refine z_putr g_ dX21_init_6 (zfwN.f fwX21_7_27 rfl (fun q h => by rw [← Option.some.inj h]; rfl)) rfl ?_
  exact z_vret dX21_init_9 rfl k
/-! ScriptTypes$Bracketed.code(LScriptTypes$Coder;)V -/
theorem bX21_code_0 : zdec cX21_code 0 [(0, .aload_n 0, 1), (1, .getfield 7, 3), (4, .aload_n 1, 1), (5, .invokevirtual 13, 3), (8, .return_, 1)] = true := by decide +kernel
theorem dX21_code_0 : decode cX21_code 0 = .ok (.aload_n 0, 1) := zdec_at bX21_code_0 0 rfl
theorem dX21_code_1 : decode cX21_code 1 = .ok (.getfield 7, 3) := zdec_at bX21_code_0 1 rfl
theorem dX21_code_4 : decode cX21_code 4 = .ok (.aload_n 1, 1) := zdec_at bX21_code_0 2 rfl
theorem dX21_code_5 : decode cX21_code 5 = .ok (.invokevirtual 13, 3) := zdec_at bX21_code_0 3 rfl
theorem dX21_code_8 : decode cX21_code 8 = .ok (.return_, 1) := zdec_at bX21_code_0 4 rfl
theorem sX21_code_0 {E : zE} {d : Nat} {Q : zO → zM → Prop} (M : zM) (a0 : Nat) (r1 : Option zP) (k : ∃ b1 t1 : Nat, (gr M a0 0) = some (b1, t1, 0) ∧ (∃ Y_ : zY, vt_code t1 = some Y_ ∧ Z E Y_ d M (zargs 0 [vr (some (b1, t1, 0)), vr r1]) 0 [] (zafter E YX21_code (d + 1) [] 5 3 [] Q))) : Z E YX21_code (d + 1) M [(0, vr (some (a0, 27, 0))), (1, vr r1)] 0 [] Q := by
  refine z_aload_n dX21_code_0 rfl rfl ?_
  refine z_getr (r := (gr M a0 0)) dX21_code_1 fsX21_7_27 rfl ?_
  refine z_aload_n dX21_code_4 rfl rfl ?_
  obtain ⟨b1, t1, e1_, k⟩ := k
  refine Z.eqs (lv' := [(0, vr (some (a0, 27, 0))), (1, vr r1)]) (st' := [vr r1, vr (some (b1, t1, 0))]) rfl (by rw [e1_] <;> rfl) ?_
  refine Z.pick [] rfl ?_
  obtain ⟨Y_, y_, k⟩ := k
  exact z_callV (as := [vr r1]) (st := []) dX21_code_5 (vtX21_13 y_).1 (Nat.le_refl _) (Nat.le_trans (Nat.le_of_ble_eq_true rfl) (vtX21_13 y_).2.1) (Nat.le_trans (Nat.add_le_add_left (vtX21_13 y_).2.2 _) (Nat.le_of_ble_eq_true rfl)) rfl k
theorem sX21_code_8 {E : zE} {d : Nat} {Q : zO → zM → Prop} (M : zM)  (k : Q (.inl none) M) : Z E YX21_code (d + 1) M [] 8 [] Q := by
  exact z_vret dX21_code_8 rfl k
/-! ScriptTypes$Commas.<init>()V -/
theorem bX22_init_0 : zdec cX22_init 0 [(0, .aload_n 0, 1), (1, .invokespecial 3, 3), (4, .aload_n 0, 1), (5, .new 9, 3), (8, .dup, 1), (9, .invokespecial 11, 3), (12, .putfield 12, 3), (15, .return_, 1)] = true := by decide +kernel
theorem dX22_init_0 : decode cX22_init 0 = .ok (.aload_n 0, 1) := zdec_at bX22_init_0 0 rfl
theorem dX22_init_1 : decode cX22_init 1 = .ok (.invokespecial 3, 3) := zdec_at bX22_init_0 1 rfl
theorem dX22_init_4 : decode cX22_init 4 = .ok (.aload_n 0, 1) := zdec_at bX22_init_0 2 rfl
theorem dX22_init_5 : decode cX22_init 5 = .ok (.new 9, 3) := zdec_at bX22_init_0 3 rfl
theorem dX22_init_8 : decode cX22_init 8 = .ok (.dup, 1) := zdec_at bX22_init_0 4 rfl
theorem dX22_init_9 : decode cX22_init 9 = .ok (.invokespecial 11, 3) := zdec_at bX22_init_0 5 rfl
theorem dX22_init_12 : decode cX22_init 12 = .ok (.putfield 12, 3) := zdec_at bX22_init_0 6 rfl
theorem dX22_init_15 : decode cX22_init 15 = .ok (.return_, 1) := zdec_at bX22_init_0 7 rfl
theorem sX22_init_0 {E : zE} {d : Nat} {Q : zO → zM → Prop} (M : zM) (a0 : Nat) (k : Z E YX13_init d M (zargs 0 [vr (some (a0, 28, 0))]) 0 [] (zafter E YX22_init (d + 1) [(0, vr (some (a0, 28, 0)))] 1 3 [] Q)) : Z E YX22_init (d + 1) M [(0, vr (some (a0, 28, 0)))] 0 [] Q := by
  refine z_aload_n dX22_init_0 rfl rfl ?_
  exact z_callI (as := []) (st := []) dX22_init_1 isX22_3 (Nat.le_refl _) (Nat.le_of_ble_eq_true rfl) (Nat.le_of_ble_eq_true rfl) rfl k
theorem sX22_init_4 {E : zE} {d : Nat} {Q : zO → zM → Prop} (M : zM) (a0 : Nat) (k : Z E YX22_init (d + 1) (zn M 3) [] 8 [vr (some ((zsz M), 11, 0)), vr (some (a0, 28, 0))] Q) : Z E YX22_init (d + 1) M [(0, vr (some (a0, 28, 0)))] 4 [] Q := by
  refine z_aload_n dX22_init_4 rfl rfl ?_
  refine z_new dX22_init_5 csX22_9 zff_11 ?_
  refine Z.pick [] rfl ?_
  exact k
theorem sX22_init_8 {E : zE} {d : Nat} {Q : zO → zM → Prop} (M : zM) (p0 : Nat) (a0 : Nat) (k : Z E YJ2_init d M (zargs 0 [vr (some (p0, 11, 0))]) 0 [] (zafter E YX22_init (d + 1) [] 9 3 [vr (some (p0, 11, 0)), vr (some (a0, 28, 0))] Q)) : Z E YX22_init (d + 1) M [] 8 [vr (some (p0, 11, 0)), vr (some (a0, 28, 0))] Q := by
  refine z_dup dX22_init_8 rfl ?_
  exact z_callI (as := []) (st := [vr (some (p0, 11, 0)), vr (some (a0, 28, 0))]) dX22_init_9 isX22_11 (Nat.le_refl _) (Nat.le_of_ble_eq_true rfl) (Nat.le_of_ble_eq_true rfl) rfl k
theorem sX22_init_12 {E : zE} {d : Nat} {Q : zO → zM → Prop} (M : zM) (p0 : Nat) (a0 : Nat) (k : 16 ≤ a0 ∧ (Q (.inl none) (sr M a0 0 (some (p0, 11, 0))))) : Z E YX22_init (d + 1) M [] 12 [vr (some (p0, 11, 0)), vr (some (a0, 28, 0))] Q := by
  obtain ⟨g_, k⟩ := k
  refine z_putr g_ dX22_init_12 (zfwN.f fwX22_12_28 rfl (fun q h => by rw [← Option.some.inj h]; rfl)) rfl ?_
  exact z_vret dX22_init_15 rfl k
/-! ScriptTypes$Commas.code(LScriptTypes$Coder;)V -/
theorem bX22_code_0 : zdec cX22_code 0 [(0, .iconst 0, 1), (1, .istore_n 2, 1), (2, .iload_n 2, 1), (3, .aload_n 0, 1), (4, .getfield 12, 3), (7, .invokevirtual 18, 3), (10, .if_icmp .ge 37, 3), (13, .iload_n 2, 1), (14, .ifCond .le 12, 3), (17, .aload_n 1, 1), (18, .bipush 17, 2), (20, .iconst 0, 1), (21, .iconst 0, 1), (22, .invokevirtual 22, 3), (25, .pop, 1), (26, .aload_n 0, 1)] = true := by decide +kernel
theorem dX22_code_0 : decode cX22_code 0 = .ok (.iconst 0, 1) := zdec_at bX22_code_0 0 rfl
theorem dX22_code_1 : decode cX22_code 1 = .ok (.istore_n 2, 1) := zdec_at bX22_code_0 1 rfl
theorem dX22_code_2 : decode cX22_code 2 = .ok (.iload_n 2, 1) := zdec_at bX22_code_0 2 rfl
theorem dX22_code_3 : decode cX22_code 3 = .ok (.aload_n 0, 1) := zdec_at bX22_code_0 3 rfl
theorem dX22_code_4 : decode cX22_code 4 = .ok (.getfield 12, 3) := zdec_at bX22_code_0 4 rfl
theorem dX22_code_7 : decode cX22_code 7 = .ok (.invokevirtual 18, 3) := zdec_at bX22_code_0 5 rfl
theorem dX22_code_10 : decode cX22_code 10 = .ok (.if_icmp .ge 37, 3) := zdec_at bX22_code_0 6 rfl
theorem dX22_code_13 : decode cX22_code 13 = .ok (.iload_n 2, 1) := zdec_at bX22_code_0 7 rfl
theorem dX22_code_14 : decode cX22_code 14 = .ok (.ifCond .le 12, 3) := zdec_at bX22_code_0 8 rfl
theorem dX22_code_17 : decode cX22_code 17 = .ok (.aload_n 1, 1) := zdec_at bX22_code_0 9 rfl
theorem dX22_code_18 : decode cX22_code 18 = .ok (.bipush 17, 2) := zdec_at bX22_code_0 10 rfl
theorem dX22_code_20 : decode cX22_code 20 = .ok (.iconst 0, 1) := zdec_at bX22_code_0 11 rfl
theorem dX22_code_21 : decode cX22_code 21 = .ok (.iconst 0, 1) := zdec_at bX22_code_0 12 rfl
theorem dX22_code_22 : decode cX22_code 22 = .ok (.invokevirtual 22, 3) := zdec_at bX22_code_0 13 rfl
theorem dX22_code_25 : decode cX22_code 25 = .ok (.pop, 1) := zdec_at bX22_code_0 14 rfl
theorem dX22_code_26 : decode cX22_code 26 = .ok (.aload_n 0, 1) := zdec_at bX22_code_0 15 rfl
theorem bX22_code_27 : zdec cX22_code 27 [(27, .getfield 12, 3), (30, .iload_n 2, 1), (31, .invokevirtual 28, 3), (34, .checkcast 4, 3), (37, .aload_n 1, 1), (38, .invokevirtual 32, 3), (41, .iinc 2 1, 3), (44, .goto (-42), 3), (47, .return_, 1)] = true := by decide +kernel
theorem dX22_code_27 : decode cX22_code 27 = .ok (.getfield 12, 3) := zdec_at bX22_code_27 0 rfl
theorem dX22_code_30 : decode cX22_code 30 = .ok (.iload_n 2, 1) := zdec_at bX22_code_27 1 rfl
theorem dX22_code_31 : decode cX22_code 31 = .ok (.invokevirtual 28, 3) := zdec_at bX22_code_27 2 rfl
theorem dX22_code_34 : decode cX22_code 34 = .ok (.checkcast 4, 3) := zdec_at bX22_code_27 3 rfl
theorem dX22_code_37 : decode cX22_code 37 = .ok (.aload_n 1, 1) := zdec_at bX22_code_27 4 rfl
theorem dX22_code_38 : decode cX22_code 38 = .ok (.invokevirtual 32, 3) := zdec_at bX22_code_27 5 rfl
theorem dX22_code_41 : decode cX22_code 41 = .ok (.iinc 2 1, 3) := zdec_at bX22_code_27 6 rfl
theorem dX22_code_44 : decode cX22_code 44 = .ok (.goto (-42), 3) := zdec_at bX22_code_27 7 rfl
theorem dX22_code_47 : decode cX22_code 47 = .ok (.return_, 1) := zdec_at bX22_code_27 8 rfl
theorem sX22_code_0 {E : zE} {d : Nat} {Q : zO → zM → Prop} (M : zM) (a0 : Nat) (r1 : Option zP) (k : Z E YX22_code (d + 1) M [(0, vr (some (a0, 28, 0))), (1, vr r1), (2, vi (0 : Int32))] 2 [] Q) : Z E YX22_code (d + 1) M [(0, vr (some (a0, 28, 0))), (1, vr r1)] 0 [] Q := by
  refine z_iconst (v := 0) dX22_code_0 rfl ?_
  refine z_ist_n dX22_code_1 rfl (by decide) (lv' := [(0, vr (some (a0, 28, 0))), (1, vr r1), (2, vi (0 : Int32))]) rfl ?_
  exact k
theorem sX22_code_2 {E : zE} {d : Nat} {Q : zO → zM → Prop} (M : zM) (a0 : Nat) (r1 : Option zP) (l2 : Int32) (k : ∃ b1 : Nat, (gr M a0 0) = some (b1, 11, 0) ∧ (Z E YJ2_size d M (zargs 0 [vr (some (b1, 11, 0))]) 0 [] (zafter E YX22_code (d + 1) [(0, vr (some (a0, 28, 0))), (1, vr r1), (2, vi l2)] 7 3 [vi l2] Q))) : Z E YX22_code (d + 1) M [(0, vr (some (a0, 28, 0))), (1, vr r1), (2, vi l2)] 2 [] Q := by
  refine z_iload_n dX22_code_2 rfl rfl ?_
  refine z_aload_n dX22_code_3 rfl rfl ?_
  refine z_getr (r := (gr M a0 0)) dX22_code_4 fsX22_12_28 rfl ?_
  obtain ⟨b1, e1_, k⟩ := k
  refine Z.eqs (lv' := [(0, vr (some (a0, 28, 0))), (1, vr r1), (2, vi l2)]) (st' := [vr (some (b1, 11, 0)), vi l2]) rfl (by rw [e1_] <;> rfl) ?_
  exact z_callV (as := []) (st := [vi l2]) dX22_code_7 vsX22_18_11 (Nat.le_refl _) (Nat.le_of_ble_eq_true rfl) (Nat.le_of_ble_eq_true rfl) rfl k
theorem sX22_code_10 {E : zE} {d : Nat} {Q : zO → zM → Prop} (M : zM) (a0 : Nat) (r1 : Option zP) (l2 : Int32) (s0 : Int32) (s1 : Int32) (k : if s0 ≤ s1 then (Q (.inl none) M) else (if l2 ≤ 0 then (∃ b1 : Nat, (gr M a0 0) = some (b1, 11, 0) ∧ (Z E YJ2_get d M (zargs 0 [vr (some (b1, 11, 0)), vi l2]) 0 [] (zafter E YX22_code (d + 1) [(0, vr (some (a0, 28, 0))), (1, vr r1), (2, vi l2)] 31 3 [] Q))) else (∃ b1 : Nat, r1 = some (b1, 3, 0) ∧ (Z E YX3_put d M (zargs 0 [vr (some (b1, 3, 0)), vi (17 : Int32), vi (0 : Int32), vi (0 : Int32)]) 0 [] (zafter E YX22_code (d + 1) [(0, vr (some (a0, 28, 0))), (1, vr (some (b1, 3, 0))), (2, vi l2)] 22 3 [] Q))))) : Z E YX22_code (d + 1) M [(0, vr (some (a0, 28, 0))), (1, vr r1), (2, vi l2)] 10 [vi s0, vi s1] Q := by
  refine z_icmp_ge (tgt := 47) dX22_code_10 rfl (fun h_ => ?_) (fun h_ => ?_)
  · have k := zit h_ k
    exact z_vret dX22_code_47 rfl k
  · have k := zif h_ k
    refine z_iload_n dX22_code_13 rfl rfl ?_
    refine z_if_le (tgt := 26) dX22_code_14 rfl (fun h_ => ?_) (fun h_ => ?_)
    · have k := zit h_ k
      refine z_aload_n dX22_code_26 rfl rfl ?_
      refine z_getr (r := (gr M a0 0)) dX22_code_27 fsX22_12_28 rfl ?_
      refine z_iload_n dX22_code_30 rfl rfl ?_
      obtain ⟨b1, e1_, k⟩ := k
      refine Z.eqs (lv' := [(0, vr (some (a0, 28, 0))), (1, vr r1), (2, vi l2)]) (st' := [vi l2, vr (some (b1, 11, 0))]) rfl (by rw [e1_] <;> rfl) ?_
      exact z_callV (as := [vi l2]) (st := []) dX22_code_31 vsX22_28_11 (Nat.le_refl _) (Nat.le_of_ble_eq_true rfl) (Nat.le_of_ble_eq_true rfl) rfl k
    · have k := zif h_ k
      refine z_aload_n dX22_code_17 rfl rfl ?_
      refine z_bipush (v := 17) dX22_code_18 rfl ?_
      refine z_iconst (v := 0) dX22_code_20 rfl ?_
      refine z_iconst (v := 0) dX22_code_21 rfl ?_
      obtain ⟨b1, e1_, k⟩ := k
      refine Z.eqs (lv' := [(0, vr (some (a0, 28, 0))), (1, vr (some (b1, 3, 0))), (2, vi l2)]) (st' := [vi (0 : Int32), vi (0 : Int32), vi (17 : Int32), vr (some (b1, 3, 0))]) (by rw [e1_] <;> rfl) (by rw [e1_] <;> rfl) ?_
      exact z_callV (as := [vi (17 : Int32), vi (0 : Int32), vi (0 : Int32)]) (st := []) dX22_code_22 vsX22_22_3 (Nat.le_refl _) (Nat.le_of_ble_eq_true rfl) (Nat.le_of_ble_eq_true rfl) rfl k
theorem sX22_code_25 {E : zE} {d : Nat} {Q : zO → zM → Prop} (M : zM) (a0 : Nat) (a1 : Nat) (l2 : Int32) (s0 : Int32) (k : ∃ b1 : Nat, (gr M a0 0) = some (b1, 11, 0) ∧ (Z E YJ2_get d M (zargs 0 [vr (some (b1, 11, 0)), vi l2]) 0 [] (zafter E YX22_code (d + 1) [(0, vr (some (a0, 28, 0))), (1, vr (some (a1, 3, 0))), (2, vi l2)] 31 3 [] Q))) : Z E YX22_code (d + 1) M [(0, vr (some (a0, 28, 0))), (1, vr (some (a1, 3, 0))), (2, vi l2)] 25 [vi s0] Q := by
  refine z_pop dX22_code_25 rfl ?_
  refine z_aload_n dX22_code_26 rfl rfl ?_
  refine z_getr (r := (gr M a0 0)) dX22_code_27 fsX22_12_28 rfl ?_
  refine z_iload_n dX22_code_30 rfl rfl ?_
  obtain ⟨b1, e1_, k⟩ := k
  refine Z.eqs (lv' := [(0, vr (some (a0, 28, 0))), (1, vr (some (a1, 3, 0))), (2, vi l2)]) (st' := [vi l2, vr (some (b1, 11, 0))]) rfl (by rw [e1_] <;> rfl) ?_
  exact z_callV (as := [vi l2]) (st := []) dX22_code_31 vsX22_28_11 (Nat.le_refl _) (Nat.le_of_ble_eq_true rfl) (Nat.le_of_ble_eq_true rfl) rfl k
theorem sX22_code_34 {E : zE} {d : Nat} {Q : zO → zM → Prop} (M : zM) (a0 : Nat) (r1 : Option zP) (l2 : Int32) (u0 : Option zP) (k : ∃ b1 t1 : Nat, u0 = some (b1, t1, 0) ∧ ((20 ≤ t1 ∧ t1 < 45) ∧ (∃ Y_ : zY, vt_code t1 = some Y_ ∧ Z E Y_ d M (zargs 0 [vr (some (b1, t1, 0)), vr r1]) 0 [] (zafter E YX22_code (d + 1) [(0, vr (some (a0, 28, 0))), (1, vr r1), (2, vi l2)] 38 3 [] Q)))) : Z E YX22_code (d + 1) M [(0, vr (some (a0, 28, 0))), (1, vr r1), (2, vi l2)] 34 [vr u0] Q := by
  obtain ⟨b1, t1, e1_, k⟩ := k
  refine Z.eqs (lv' := [(0, vr (some (a0, 28, 0))), (1, vr r1), (2, vi l2)]) (st' := [vr (some (b1, t1, 0))]) rfl (by rw [e1_] <;> rfl) ?_
  obtain ⟨b_, k⟩ := k
  refine z_ckcast dX22_code_34 (ctX22_4 _ b_.1 b_.2) ?_
  refine z_aload_n dX22_code_37 rfl rfl ?_
  obtain ⟨Y_, y_, k⟩ := k
  exact z_callV (as := [vr r1]) (st := []) dX22_code_38 (vtX22_32 y_).1 (Nat.le_refl _) (Nat.le_trans (Nat.le_of_ble_eq_true rfl) (vtX22_32 y_).2.1) (Nat.le_trans (Nat.add_le_add_left (vtX22_32 y_).2.2 _) (Nat.le_of_ble_eq_true rfl)) rfl k
theorem sX22_code_41 {E : zE} {d : Nat} {Q : zO → zM → Prop} (M : zM) (a0 : Nat) (r1 : Option zP) (l2 : Int32) (k : Z E YX22_code (d + 1) M [(0, vr (some (a0, 28, 0))), (1, vr r1), (2, vi (l2 + (1 : Int32)))] 2 [] Q) : Z E YX22_code (d + 1) M [(0, vr (some (a0, 28, 0))), (1, vr r1), (2, vi l2)] 41 [] Q := by
  refine z_inc (v := (l2 + (1 : Int32))) dX22_code_41 rfl rfl (by decide) (lv' := [(0, vr (some (a0, 28, 0))), (1, vr r1), (2, vi (l2 + (1 : Int32)))]) rfl ?_
  refine z_goto (tgt := 2) dX22_code_44 rfl ?_
  exact k
/-! ScriptTypes$Items.<init>(Z)V -/
theorem bX23_init_0 : zdec cX23_init 0 [(0, .aload_n 0, 1), (1, .invokespecial 3, 3), (4, .aload_n 0, 1), (5, .new 9, 3), (8, .dup, 1), (9, .invokespecial 11, 3), (12, .putfield 12, 3), (15, .aload_n 0, 1), (16, .iload_n 1, 1), (17, .putfield 18, 3), (20, .aload_n 0, 1), (21, .iload_n 1, 1), (22, .ifCond .eq 7, 3), (25, .aconst_null, 1), (26, .goto 7, 3), (29, .bipush 16, 2)] = true := by decide +kernel
theorem dX23_init_0 : decode cX23_init 0 = .ok (.aload_n 0, 1) := zdec_at bX23_init_0 0 rfl
theorem dX23_init_1 : decode cX23_init 1 = .ok (.invokespecial 3, 3) := zdec_at bX23_init_0 1 rfl
theorem dX23_init_4 : decode cX23_init 4 = .ok (.aload_n 0, 1) := zdec_at bX23_init_0 2 rfl
theorem dX23_init_5 : decode cX23_init 5 = .ok (.new 9, 3) := zdec_at bX23_init_0 3 rfl
theorem dX23_init_8 : decode cX23_init 8 = .ok (.dup, 1) := zdec_at bX23_init_0 4 rfl
theorem dX23_init_9 : decode cX23_init 9 = .ok (.invokespecial 11, 3) := zdec_at bX23_init_0 5 rfl
theorem dX23_init_12 : decode cX23_init 12 = .ok (.putfield 12, 3) := zdec_at bX23_init_0 6 rfl
theorem dX23_init_15 : decode cX23_init 15 = .ok (.aload_n 0, 1) := zdec_at bX23_init_0 7 rfl
theorem dX23_init_16 : decode cX23_init 16 = .ok (.iload_n 1, 1) := zdec_at bX23_init_0 8 rfl
theorem dX23_init_17 : decode cX23_init 17 = .ok (.putfield 18, 3) := zdec_at bX23_init_0 9 rfl
theorem dX23_init_20 : decode cX23_init 20 = .ok (.aload_n 0, 1) := zdec_at bX23_init_0 10 rfl
theorem dX23_init_21 : decode cX23_init 21 = .ok (.iload_n 1, 1) := zdec_at bX23_init_0 11 rfl
theorem dX23_init_22 : decode cX23_init 22 = .ok (.ifCond .eq 7, 3) := zdec_at bX23_init_0 12 rfl
theorem dX23_init_25 : decode cX23_init 25 = .ok (.aconst_null, 1) := zdec_at bX23_init_0 13 rfl
theorem dX23_init_26 : decode cX23_init 26 = .ok (.goto 7, 3) := zdec_at bX23_init_0 14 rfl
theorem dX23_init_29 : decode cX23_init 29 = .ok (.bipush 16, 2) := zdec_at bX23_init_0 15 rfl
theorem bX23_init_31 : zdec cX23_init 31 [(31, .newarray .int, 2), (33, .putfield 22, 3), (36, .return_, 1)] = true := by decide +kernel
theorem dX23_init_31 : decode cX23_init 31 = .ok (.newarray .int, 2) := zdec_at bX23_init_31 0 rfl
theorem dX23_init_33 : decode cX23_init 33 = .ok (.putfield 22, 3) := zdec_at bX23_init_31 1 rfl
theorem dX23_init_36 : decode cX23_init 36 = .ok (.return_, 1) := zdec_at bX23_init_31 2 rfl
theorem sX23_init_0 {E : zE} {d : Nat} {Q : zO → zM → Prop} (M : zM) (a0 : Nat) (l1 : Int32) (k : Z E YX13_init d M (zargs 0 [vr (some (a0, 29, 0))]) 0 [] (zafter E YX23_init (d + 1) [(0, vr (some (a0, 29, 0))), (1, vi l1)] 1 3 [] Q)) : Z E YX23_init (d + 1) M [(0, vr (some (a0, 29, 0))), (1, vi l1)] 0 [] Q := by
  refine z_aload_n dX23_init_0 rfl rfl ?_
  exact z_callI (as := []) (st := []) dX23_init_1 isX23_3 (Nat.le_refl _) (Nat.le_of_ble_eq_true rfl) (Nat.le_of_ble_eq_true rfl) rfl k
theorem sX23_init_4 {E : zE} {d : Nat} {Q : zO → zM → Prop} (M : zM) (a0 : Nat) (l1 : Int32) (k : Z E YX23_init (d + 1) (zn M 3) [(0, vr (some (a0, 29, 0))), (1, vi l1)] 8 [vr (some ((zsz M), 11, 0)), vr (some (a0, 29, 0))] Q) : Z E YX23_init (d + 1) M [(0, vr (some (a0, 29, 0))), (1, vi l1)] 4 [] Q := by
  refine z_aload_n dX23_init_4 rfl rfl ?_
  refine z_new dX23_init_5 csX23_9 zff_11 ?_
  exact k
theorem sX23_init_8 {E : zE} {d : Nat} {Q : zO → zM → Prop} (M : zM) (a0 : Nat) (l1 : Int32) (p0 : Nat) (k : Z E YJ2_init d M (zargs 0 [vr (some (p0, 11, 0))]) 0 [] (zafter E YX23_init (d + 1) [(0, vr (some (a0, 29, 0))), (1, vi l1)] 9 3 [vr (some (p0, 11, 0)), vr (some (a0, 29, 0))] Q)) : Z E YX23_init (d + 1) M [(0, vr (some (a0, 29, 0))), (1, vi l1)] 8 [vr (some (p0, 11, 0)), vr (some (a0, 29, 0))] Q := by
  refine z_dup dX23_init_8 rfl ?_
  exact z_callI (as := []) (st := [vr (some (p0, 11, 0)), vr (some (a0, 29, 0))]) dX23_init_9 isX23_11 (Nat.le_refl _) (Nat.le_of_ble_eq_true rfl) (Nat.le_of_ble_eq_true rfl) rfl k
theorem sX23_init_12 {E : zE} {d : Nat} {Q : zO → zM → Prop} (M : zM) (a0 : Nat) (l1 : Int32) (p0 : Nat) (k : 16 ≤ a0 ∧ (16 ≤ a0 ∧ (zfit .boolean l1 ∧ (if l1 = 0 then (Z E YX23_init (d + 1) (zn (si (sr M a0 1 (some (p0, 11, 0))) a0 0 l1) 16) [] 33 [vr (some ((zsz M), 100, 16)), vr (some (a0, 29, 0))] Q) else (Z E YX23_init (d + 1) (si (sr M a0 1 (some (p0, 11, 0))) a0 0 l1) [] 33 [vr none, vr (some (a0, 29, 0))] Q))))) : Z E YX23_init (d + 1) M [(0, vr (some (a0, 29, 0))), (1, vi l1)] 12 [vr (some (p0, 11, 0)), vr (some (a0, 29, 0))] Q := by
  obtain ⟨g_, k⟩ := k
  refine z_putr g_ dX23_init_12 (zfwN.f fwX23_12_29 rfl (fun q h => by rw [← Option.some.inj h]; rfl)) rfl ?_
  refine z_aload_n dX23_init_15 rfl rfl ?_
  refine z_iload_n dX23_init_16 rfl rfl ?_
  obtain ⟨g_, k⟩ := k
  obtain ⟨b_, k⟩ := k
  refine z_puti g_ dX23_init_17 (zfwN.f fwX23_18_29 rfl (fun q h => by rw [← Option.some.inj h]; rfl)) rfl b_ ?_
  refine z_aload_n dX23_init_20 rfl rfl ?_
  refine z_iload_n dX23_init_21 rfl rfl ?_
  refine z_if_eq (tgt := 29) dX23_init_22 rfl (fun h_ => ?_) (fun h_ => ?_)
  · have k := zit h_ k
    refine z_bipush (v := 16) dX23_init_29 rfl ?_
    refine z_newa (q := 0) (N := 16) dX23_init_31 rfl (by decide) q535 (by decide) (by decide) (by decide) ?_
    refine Z.pick [] rfl ?_
    exact k
  · have k := zif h_ k
    refine z_null dX23_init_25 ?_
    refine z_goto (tgt := 33) dX23_init_26 rfl ?_
    refine Z.pick [] rfl ?_
    exact k
theorem sX23_init_33 {E : zE} {d : Nat} {Q : zO → zM → Prop} (M : zM) (u0 : Option zP) (a0 : Nat) (k : 16 ≤ a0 ∧ (Q (.inl none) (sr M a0 2 u0))) : Z E YX23_init (d + 1) M [] 33 [vr u0, vr (some (a0, 29, 0))] Q := by
  obtain ⟨g_, k⟩ := k
  refine z_putr g_ dX23_init_33 (zfwN.f fwX23_22_29 rfl (fun q h => by rw [← Option.some.inj h]; rfl)) rfl ?_
  exact z_vret dX23_init_36 rfl k
/-! ScriptTypes$Items.code(LScriptTypes$Coder;)V -/
theorem bX23_code_0 : zdec cX23_code 0 [(0, .aload_n 1, 1), (1, .aload_n 0, 1), (2, .getfield 18, 3), (5, .ifCond .eq 8, 3), (8, .bipush 8, 2), (10, .goto 5, 3), (13, .bipush 7, 2), (15, .iconst 0, 1), (16, .invokevirtual 26, 3), (19, .iconst 0, 1), (20, .istore_n 2, 1), (21, .iload_n 2, 1), (22, .aload_n 0, 1), (23, .getfield 12, 3), (26, .invokevirtual 32, 3), (29, .if_icmp .ge 83, 3)] = true := by decide +kernel
theorem dX23_code_0 : decode cX23_code 0 = .ok (.aload_n 1, 1) := zdec_at bX23_code_0 0 rfl
theorem dX23_code_1 : decode cX23_code 1 = .ok (.aload_n 0, 1) := zdec_at bX23_code_0 1 rfl
theorem dX23_code_2 : decode cX23_code 2 = .ok (.getfield 18, 3) := zdec_at bX23_code_0 2 rfl
theorem dX23_code_5 : decode cX23_code 5 = .ok (.ifCond .eq 8, 3) := zdec_at bX23_code_0 3 rfl
theorem dX23_code_8 : decode cX23_code 8 = .ok (.bipush 8, 2) := zdec_at bX23_code_0 4 rfl
theorem dX23_code_10 : decode cX23_code 10 = .ok (.goto 5, 3) := zdec_at bX23_code_0 5 rfl
theorem dX23_code_13 : decode cX23_code 13 = .ok (.bipush 7, 2) := zdec_at bX23_code_0 6 rfl
theorem dX23_code_15 : decode cX23_code 15 = .ok (.iconst 0, 1) := zdec_at bX23_code_0 7 rfl
theorem dX23_code_16 : decode cX23_code 16 = .ok (.invokevirtual 26, 3) := zdec_at bX23_code_0 8 rfl
theorem dX23_code_19 : decode cX23_code 19 = .ok (.iconst 0, 1) := zdec_at bX23_code_0 9 rfl
theorem dX23_code_20 : decode cX23_code 20 = .ok (.istore_n 2, 1) := zdec_at bX23_code_0 10 rfl
theorem dX23_code_21 : decode cX23_code 21 = .ok (.iload_n 2, 1) := zdec_at bX23_code_0 11 rfl
theorem dX23_code_22 : decode cX23_code 22 = .ok (.aload_n 0, 1) := zdec_at bX23_code_0 12 rfl
theorem dX23_code_23 : decode cX23_code 23 = .ok (.getfield 12, 3) := zdec_at bX23_code_0 13 rfl
theorem dX23_code_26 : decode cX23_code 26 = .ok (.invokevirtual 32, 3) := zdec_at bX23_code_0 14 rfl
theorem dX23_code_29 : decode cX23_code 29 = .ok (.if_icmp .ge 83, 3) := zdec_at bX23_code_0 15 rfl
theorem bX23_code_32 : zdec cX23_code 32 [(32, .aload_n 1, 1), (33, .bipush 18, 2), (35, .iconst 0, 1), (36, .iconst 0, 1), (37, .invokevirtual 36, 3), (40, .pop, 1), (41, .aload_n 0, 1), (42, .getfield 18, 3), (45, .ifCond .eq 14, 3), (48, .aload_n 1, 1), (49, .iconst 0, 1), (50, .iconst 5, 1), (51, .iload_n 2, 1), (52, .invokevirtual 36, 3), (55, .pop, 1), (56, .goto 17, 3)] = true := by decide +kernel
theorem dX23_code_32 : decode cX23_code 32 = .ok (.aload_n 1, 1) := zdec_at bX23_code_32 0 rfl
theorem dX23_code_33 : decode cX23_code 33 = .ok (.bipush 18, 2) := zdec_at bX23_code_32 1 rfl
theorem dX23_code_35 : decode cX23_code 35 = .ok (.iconst 0, 1) := zdec_at bX23_code_32 2 rfl
theorem dX23_code_36 : decode cX23_code 36 = .ok (.iconst 0, 1) := zdec_at bX23_code_32 3 rfl
theorem dX23_code_37 : decode cX23_code 37 = .ok (.invokevirtual 36, 3) := zdec_at bX23_code_32 4 rfl
theorem dX23_code_40 : decode cX23_code 40 = .ok (.pop, 1) := zdec_at bX23_code_32 5 rfl
theorem dX23_code_41 : decode cX23_code 41 = .ok (.aload_n 0, 1) := zdec_at bX23_code_32 6 rfl
theorem dX23_code_42 : decode cX23_code 42 = .ok (.getfield 18, 3) := zdec_at bX23_code_32 7 rfl
theorem dX23_code_45 : decode cX23_code 45 = .ok (.ifCond .eq 14, 3) := zdec_at bX23_code_32 8 rfl
theorem dX23_code_48 : decode cX23_code 48 = .ok (.aload_n 1, 1) := zdec_at bX23_code_32 9 rfl
theorem dX23_code_49 : decode cX23_code 49 = .ok (.iconst 0, 1) := zdec_at bX23_code_32 10 rfl
theorem dX23_code_50 : decode cX23_code 50 = .ok (.iconst 5, 1) := zdec_at bX23_code_32 11 rfl
theorem dX23_code_51 : decode cX23_code 51 = .ok (.iload_n 2, 1) := zdec_at bX23_code_32 12 rfl
theorem dX23_code_52 : decode cX23_code 52 = .ok (.invokevirtual 36, 3) := zdec_at bX23_code_32 13 rfl
theorem dX23_code_55 : decode cX23_code 55 = .ok (.pop, 1) := zdec_at bX23_code_32 14 rfl
theorem dX23_code_56 : decode cX23_code 56 = .ok (.goto 17, 3) := zdec_at bX23_code_32 15 rfl
theorem bX23_code_59 : zdec cX23_code 59 [(59, .aload_n 1, 1), (60, .iconst 0, 1), (61, .bipush 6, 2), (63, .aload_n 0, 1), (64, .getfield 22, 3), (67, .iload_n 2, 1), (68, .iaload, 1), (69, .invokevirtual 36, 3), (72, .pop, 1), (73, .aload_n 0, 1), (74, .getfield 12, 3), (77, .iload_n 2, 1), (78, .invokevirtual 40, 3), (81, .checkcast 4, 3), (84, .aload_n 1, 1), (85, .invokevirtual 44, 3)] = true := by decide +kernel
theorem dX23_code_59 : decode cX23_code 59 = .ok (.aload_n 1, 1) := zdec_at bX23_code_59 0 rfl
theorem dX23_code_60 : decode cX23_code 60 = .ok (.iconst 0, 1) := zdec_at bX23_code_59 1 rfl
theorem dX23_code_61 : decode cX23_code 61 = .ok (.bipush 6, 2) := zdec_at bX23_code_59 2 rfl
theorem dX23_code_63 : decode cX23_code 63 = .ok (.aload_n 0, 1) := zdec_at bX23_code_59 3 rfl
theorem dX23_code_64 : decode cX23_code 64 = .ok (.getfield 22, 3) := zdec_at bX23_code_59 4 rfl
theorem dX23_code_67 : decode cX23_code 67 = .ok (.iload_n 2, 1) := zdec_at bX23_code_59 5 rfl
theorem dX23_code_68 : decode cX23_code 68 = .ok (.iaload, 1) := zdec_at bX23_code_59 6 rfl
theorem dX23_code_69 : decode cX23_code 69 = .ok (.invokevirtual 36, 3) := zdec_at bX23_code_59 7 rfl
theorem dX23_code_72 : decode cX23_code 72 = .ok (.pop, 1) := zdec_at bX23_code_59 8 rfl
theorem dX23_code_73 : decode cX23_code 73 = .ok (.aload_n 0, 1) := zdec_at bX23_code_59 9 rfl
theorem dX23_code_74 : decode cX23_code 74 = .ok (.getfield 12, 3) := zdec_at bX23_code_59 10 rfl
theorem dX23_code_77 : decode cX23_code 77 = .ok (.iload_n 2, 1) := zdec_at bX23_code_59 11 rfl
theorem dX23_code_78 : decode cX23_code 78 = .ok (.invokevirtual 40, 3) := zdec_at bX23_code_59 12 rfl
theorem dX23_code_81 : decode cX23_code 81 = .ok (.checkcast 4, 3) := zdec_at bX23_code_59 13 rfl
theorem dX23_code_84 : decode cX23_code 84 = .ok (.aload_n 1, 1) := zdec_at bX23_code_59 14 rfl
theorem dX23_code_85 : decode cX23_code 85 = .ok (.invokevirtual 44, 3) := zdec_at bX23_code_59 15 rfl
theorem bX23_code_88 : zdec cX23_code 88 [(88, .aload_n 1, 1), (89, .bipush 11, 2), (91, .iconst 0, 1), (92, .iconst 0, 1), (93, .invokevirtual 36, 3), (96, .pop, 1), (97, .aload_n 1, 1), (98, .bipush 17, 2), (100, .iconst 0, 1), (101, .iconst 0, 1), (102, .invokevirtual 36, 3), (105, .pop, 1), (106, .iinc 2 1, 3), (109, .goto (-88), 3), (112, .return_, 1)] = true := by decide +kernel
theorem dX23_code_88 : decode cX23_code 88 = .ok (.aload_n 1, 1) := zdec_at bX23_code_88 0 rfl
theorem dX23_code_89 : decode cX23_code 89 = .ok (.bipush 11, 2) := zdec_at bX23_code_88 1 rfl
theorem dX23_code_91 : decode cX23_code 91 = .ok (.iconst 0, 1) := zdec_at bX23_code_88 2 rfl
theorem dX23_code_92 : decode cX23_code 92 = .ok (.iconst 0, 1) := zdec_at bX23_code_88 3 rfl
theorem dX23_code_93 : decode cX23_code 93 = .ok (.invokevirtual 36, 3) := zdec_at bX23_code_88 4 rfl
theorem dX23_code_96 : decode cX23_code 96 = .ok (.pop, 1) := zdec_at bX23_code_88 5 rfl
theorem dX23_code_97 : decode cX23_code 97 = .ok (.aload_n 1, 1) := zdec_at bX23_code_88 6 rfl
theorem dX23_code_98 : decode cX23_code 98 = .ok (.bipush 17, 2) := zdec_at bX23_code_88 7 rfl
theorem dX23_code_100 : decode cX23_code 100 = .ok (.iconst 0, 1) := zdec_at bX23_code_88 8 rfl
theorem dX23_code_101 : decode cX23_code 101 = .ok (.iconst 0, 1) := zdec_at bX23_code_88 9 rfl
theorem dX23_code_102 : decode cX23_code 102 = .ok (.invokevirtual 36, 3) := zdec_at bX23_code_88 10 rfl
theorem dX23_code_105 : decode cX23_code 105 = .ok (.pop, 1) := zdec_at bX23_code_88 11 rfl
theorem dX23_code_106 : decode cX23_code 106 = .ok (.iinc 2 1, 3) := zdec_at bX23_code_88 12 rfl
theorem dX23_code_109 : decode cX23_code 109 = .ok (.goto (-88), 3) := zdec_at bX23_code_88 13 rfl
theorem dX23_code_112 : decode cX23_code 112 = .ok (.return_, 1) := zdec_at bX23_code_88 14 rfl
theorem sX23_code_0 {E : zE} {d : Nat} {Q : zO → zM → Prop} (M : zM) (a0 : Nat) (r1 : Option zP) (k : if (gi M a0 0) = 0 then (∃ b1 : Nat, r1 = some (b1, 3, 0) ∧ (Z E YX3_site d M (zargs 0 [vr (some (b1, 3, 0)), vi (7 : Int32), vi (0 : Int32)]) 0 [] (zafter E YX23_code (d + 1) [(0, vr (some (a0, 29, 0))), (1, vr (some (b1, 3, 0)))] 16 3 [] Q))) else (∃ b1 : Nat, r1 = some (b1, 3, 0) ∧ (Z E YX3_site d M (zargs 0 [vr (some (b1, 3, 0)), vi (8 : Int32), vi (0 : Int32)]) 0 [] (zafter E YX23_code (d + 1) [(0, vr (some (a0, 29, 0))), (1, vr (some (b1, 3, 0)))] 16 3 [] Q)))) : Z E YX23_code (d + 1) M [(0, vr (some (a0, 29, 0))), (1, vr r1)] 0 [] Q := by
  refine z_aload_n dX23_code_0 rfl rfl ?_
  refine z_aload_n dX23_code_1 rfl rfl ?_
  refine z_geti dX23_code_2 fsX23_18_29 ?_
  refine z_if_eq (tgt := 13) dX23_code_5 rfl (fun h_ => ?_) (fun h_ => ?_)
  · have k := zit h_ k
    refine z_bipush (v := 7) dX23_code_13 rfl ?_
    refine z_iconst (v := 0) dX23_code_15 rfl ?_
    obtain ⟨b1, e1_, k⟩ := k
    refine Z.eqs (lv' := [(0, vr (some (a0, 29, 0))), (1, vr (some (b1, 3, 0)))]) (st' := [vi (0 : Int32), vi (7 : Int32), vr (some (b1, 3, 0))]) (by rw [e1_] <;> rfl) (by rw [e1_] <;> rfl) ?_
    exact z_callV (as := [vi (7 : Int32), vi (0 : Int32)]) (st := []) dX23_code_16 vsX23_26_3 (Nat.le_refl _) (Nat.le_of_ble_eq_true rfl) (Nat.le_of_ble_eq_true rfl) rfl k
  · have k := zif h_ k
    refine z_bipush (v := 8) dX23_code_8 rfl ?_
    refine z_goto (tgt := 15) dX23_code_10 rfl ?_
    refine z_iconst (v := 0) dX23_code_15 rfl ?_
    obtain ⟨b1, e1_, k⟩ := k
    refine Z.eqs (lv' := [(0, vr (some (a0, 29, 0))), (1, vr (some (b1, 3, 0)))]) (st' := [vi (0 : Int32), vi (8 : Int32), vr (some (b1, 3, 0))]) (by rw [e1_] <;> rfl) (by rw [e1_] <;> rfl) ?_
    exact z_callV (as := [vi (8 : Int32), vi (0 : Int32)]) (st := []) dX23_code_16 vsX23_26_3 (Nat.le_refl _) (Nat.le_of_ble_eq_true rfl) (Nat.le_of_ble_eq_true rfl) rfl k
theorem sX23_code_19 {E : zE} {d : Nat} {Q : zO → zM → Prop} (M : zM) (a0 : Nat) (a1 : Nat) (k : Z E YX23_code (d + 1) M [(0, vr (some (a0, 29, 0))), (1, vr (some (a1, 3, 0))), (2, vi (0 : Int32))] 21 [] Q) : Z E YX23_code (d + 1) M [(0, vr (some (a0, 29, 0))), (1, vr (some (a1, 3, 0)))] 19 [] Q := by
  refine z_iconst (v := 0) dX23_code_19 rfl ?_
  refine z_ist_n dX23_code_20 rfl (by decide) (lv' := [(0, vr (some (a0, 29, 0))), (1, vr (some (a1, 3, 0))), (2, vi (0 : Int32))]) rfl ?_
  exact k
theorem sX23_code_21 {E : zE} {d : Nat} {Q : zO → zM → Prop} (M : zM) (a0 : Nat) (a1 : Nat) (l2 : Int32) (k : ∃ b1 : Nat, (gr M a0 1) = some (b1, 11, 0) ∧ (Z E YJ2_size d M (zargs 0 [vr (some (b1, 11, 0))]) 0 [] (zafter E YX23_code (d + 1) [(0, vr (some (a0, 29, 0))), (1, vr (some (a1, 3, 0))), (2, vi l2)] 26 3 [vi l2] Q))) : Z E YX23_code (d + 1) M [(0, vr (some (a0, 29, 0))), (1, vr (some (a1, 3, 0))), (2, vi l2)] 21 [] Q := by
  refine z_iload_n dX23_code_21 rfl rfl ?_
  refine z_aload_n dX23_code_22 rfl rfl ?_
  refine z_getr (r := (gr M a0 1)) dX23_code_23 fsX23_12_29 rfl ?_
  obtain ⟨b1, e1_, k⟩ := k
  refine Z.eqs (lv' := [(0, vr (some (a0, 29, 0))), (1, vr (some (a1, 3, 0))), (2, vi l2)]) (st' := [vr (some (b1, 11, 0)), vi l2]) rfl (by rw [e1_] <;> rfl) ?_
  exact z_callV (as := []) (st := [vi l2]) dX23_code_26 vsX23_32_11 (Nat.le_refl _) (Nat.le_of_ble_eq_true rfl) (Nat.le_of_ble_eq_true rfl) rfl k
theorem sX23_code_29 {E : zE} {d : Nat} {Q : zO → zM → Prop} (M : zM) (a0 : Nat) (a1 : Nat) (l2 : Int32) (s0 : Int32) (s1 : Int32) (k : if s0 ≤ s1 then (Q (.inl none) M) else (Z E YX3_put d M (zargs 0 [vr (some (a1, 3, 0)), vi (18 : Int32), vi (0 : Int32), vi (0 : Int32)]) 0 [] (zafter E YX23_code (d + 1) [(0, vr (some (a0, 29, 0))), (1, vr (some (a1, 3, 0))), (2, vi l2)] 37 3 [] Q))) : Z E YX23_code (d + 1) M [(0, vr (some (a0, 29, 0))), (1, vr (some (a1, 3, 0))), (2, vi l2)] 29 [vi s0, vi s1] Q := by
  refine z_icmp_ge (tgt := 112) dX23_code_29 rfl (fun h_ => ?_) (fun h_ => ?_)
  · have k := zit h_ k
    exact z_vret dX23_code_112 rfl k
  · have k := zif h_ k
    refine z_aload_n dX23_code_32 rfl rfl ?_
    refine z_bipush (v := 18) dX23_code_33 rfl ?_
    refine z_iconst (v := 0) dX23_code_35 rfl ?_
    refine z_iconst (v := 0) dX23_code_36 rfl ?_
    exact z_callV (as := [vi (18 : Int32), vi (0 : Int32), vi (0 : Int32)]) (st := []) dX23_code_37 vsX23_36_3 (Nat.le_refl _) (Nat.le_of_ble_eq_true rfl) (Nat.le_of_ble_eq_true rfl) rfl k
theorem sX23_code_40 {E : zE} {d : Nat} {Q : zO → zM → Prop} (M : zM) (a0 : Nat) (a1 : Nat) (l2 : Int32) (s0 : Int32) (k : if (gi M a0 0) = 0 then (∃ b1 m1 : Nat, (gr M a0 2) = some (b1, 100, m1) ∧ (vp_in l2 m1 ∧ (Z E YX3_put d M (zargs 0 [vr (some (a1, 3, 0)), vi (0 : Int32), vi (6 : Int32), vi (gi M b1 (l2).toNatClampNeg)]) 0 [] (zafter E YX23_code (d + 1) [(0, vr (some (a0, 29, 0))), (1, vr (some (a1, 3, 0))), (2, vi l2)] 69 3 [] Q)))) else (Z E YX3_put d M (zargs 0 [vr (some (a1, 3, 0)), vi (0 : Int32), vi (5 : Int32), vi l2]) 0 [] (zafter E YX23_code (d + 1) [(0, vr (some (a0, 29, 0))), (1, vr (some (a1, 3, 0))), (2, vi l2)] 52 3 [] Q))) : Z E YX23_code (d + 1) M [(0, vr (some (a0, 29, 0))), (1, vr (some (a1, 3, 0))), (2, vi l2)] 40 [vi s0] Q := by
  refine z_pop dX23_code_40 rfl ?_
  refine z_aload_n dX23_code_41 rfl rfl ?_
  refine z_geti dX23_code_42 fsX23_18_29 ?_
  refine z_if_eq (tgt := 59) dX23_code_45 rfl (fun h_ => ?_) (fun h_ => ?_)
  · have k := zit h_ k
    refine z_aload_n dX23_code_59 rfl rfl ?_
    refine z_iconst (v := 0) dX23_code_60 rfl ?_
    refine z_bipush (v := 6) dX23_code_61 rfl ?_
    refine z_aload_n dX23_code_63 rfl rfl ?_
    refine z_getr (r := (gr M a0 2)) dX23_code_64 fsX23_22_29 rfl ?_
    refine z_iload_n dX23_code_67 rfl rfl ?_
    obtain ⟨b1, m1, e1_, k⟩ := k
    refine Z.eqs (lv' := [(0, vr (some (a0, 29, 0))), (1, vr (some (a1, 3, 0))), (2, vi l2)]) (st' := [vi l2, vr (some (b1, 100, m1)), vi (6 : Int32), vi (0 : Int32), vr (some (a1, 3, 0))]) rfl (by rw [e1_] <;> rfl) ?_
    obtain ⟨b_, k⟩ := k
    refine z_iald dX23_code_68 b_ ?_
    exact z_callV (as := [vi (0 : Int32), vi (6 : Int32), vi (gi M b1 (l2).toNatClampNeg)]) (st := []) dX23_code_69 vsX23_36_3 (Nat.le_refl _) (Nat.le_of_ble_eq_true rfl) (Nat.le_of_ble_eq_true rfl) rfl k
  · have k := zif h_ k
    refine z_aload_n dX23_code_48 rfl rfl ?_
    refine z_iconst (v := 0) dX23_code_49 rfl ?_
    refine z_iconst (v := 5) dX23_code_50 rfl ?_
    refine z_iload_n dX23_code_51 rfl rfl ?_
    exact z_callV (as := [vi (0 : Int32), vi (5 : Int32), vi l2]) (st := []) dX23_code_52 vsX23_36_3 (Nat.le_refl _) (Nat.le_of_ble_eq_true rfl) (Nat.le_of_ble_eq_true rfl) rfl k
theorem sX23_code_55 {E : zE} {d : Nat} {Q : zO → zM → Prop} (M : zM) (a0 : Nat) (a1 : Nat) (l2 : Int32) (s0 : Int32) (k : ∃ b1 : Nat, (gr M a0 1) = some (b1, 11, 0) ∧ (Z E YJ2_get d M (zargs 0 [vr (some (b1, 11, 0)), vi l2]) 0 [] (zafter E YX23_code (d + 1) [(0, vr (some (a0, 29, 0))), (1, vr (some (a1, 3, 0))), (2, vi l2)] 78 3 [] Q))) : Z E YX23_code (d + 1) M [(0, vr (some (a0, 29, 0))), (1, vr (some (a1, 3, 0))), (2, vi l2)] 55 [vi s0] Q := by
  refine z_pop dX23_code_55 rfl ?_
  refine z_goto (tgt := 73) dX23_code_56 rfl ?_
  refine z_aload_n dX23_code_73 rfl rfl ?_
  refine z_getr (r := (gr M a0 1)) dX23_code_74 fsX23_12_29 rfl ?_
  refine z_iload_n dX23_code_77 rfl rfl ?_
  obtain ⟨b1, e1_, k⟩ := k
  refine Z.eqs (lv' := [(0, vr (some (a0, 29, 0))), (1, vr (some (a1, 3, 0))), (2, vi l2)]) (st' := [vi l2, vr (some (b1, 11, 0))]) rfl (by rw [e1_] <;> rfl) ?_
  exact z_callV (as := [vi l2]) (st := []) dX23_code_78 vsX23_40_11 (Nat.le_refl _) (Nat.le_of_ble_eq_true rfl) (Nat.le_of_ble_eq_true rfl) rfl k
theorem sX23_code_72 {E : zE} {d : Nat} {Q : zO → zM → Prop} (M : zM) (a0 : Nat) (a1 : Nat) (l2 : Int32) (s0 : Int32) (k : ∃ b1 : Nat, (gr M a0 1) = some (b1, 11, 0) ∧ (Z E YJ2_get d M (zargs 0 [vr (some (b1, 11, 0)), vi l2]) 0 [] (zafter E YX23_code (d + 1) [(0, vr (some (a0, 29, 0))), (1, vr (some (a1, 3, 0))), (2, vi l2)] 78 3 [] Q))) : Z E YX23_code (d + 1) M [(0, vr (some (a0, 29, 0))), (1, vr (some (a1, 3, 0))), (2, vi l2)] 72 [vi s0] Q := by
  refine z_pop dX23_code_72 rfl ?_
  refine z_aload_n dX23_code_73 rfl rfl ?_
  refine z_getr (r := (gr M a0 1)) dX23_code_74 fsX23_12_29 rfl ?_
  refine z_iload_n dX23_code_77 rfl rfl ?_
  obtain ⟨b1, e1_, k⟩ := k
  refine Z.eqs (lv' := [(0, vr (some (a0, 29, 0))), (1, vr (some (a1, 3, 0))), (2, vi l2)]) (st' := [vi l2, vr (some (b1, 11, 0))]) rfl (by rw [e1_] <;> rfl) ?_
  exact z_callV (as := [vi l2]) (st := []) dX23_code_78 vsX23_40_11 (Nat.le_refl _) (Nat.le_of_ble_eq_true rfl) (Nat.le_of_ble_eq_true rfl) rfl k
theorem sX23_code_81 {E : zE} {d : Nat} {Q : zO → zM → Prop} (M : zM) (a0 : Nat) (a1 : Nat) (l2 : Int32) (u0 : Option zP) (k : ∃ b1 t1 : Nat, u0 = some (b1, t1, 0) ∧ ((20 ≤ t1 ∧ t1 < 45) ∧ (∃ Y_ : zY, vt_code t1 = some Y_ ∧ Z E Y_ d M (zargs 0 [vr (some (b1, t1, 0)), vr (some (a1, 3, 0))]) 0 [] (zafter E YX23_code (d + 1) [(0, vr (some (a0, 29, 0))), (1, vr (some (a1, 3, 0))), (2, vi l2)] 85 3 [] Q)))) : Z E YX23_code (d + 1) M [(0, vr (some (a0, 29, 0))), (1, vr (some (a1, 3, 0))), (2, vi l2)] 81 [vr u0] Q := by
  obtain ⟨b1, t1, e1_, k⟩ := k
  refine Z.eqs (lv' := [(0, vr (some (a0, 29, 0))), (1, vr (some (a1, 3, 0))), (2, vi l2)]) (st' := [vr (some (b1, t1, 0))]) rfl (by rw [e1_] <;> rfl) ?_
  obtain ⟨b_, k⟩ := k
  refine z_ckcast dX23_code_81 (ctX23_4 _ b_.1 b_.2) ?_
  refine z_aload_n dX23_code_84 rfl rfl ?_
  obtain ⟨Y_, y_, k⟩ := k
  exact z_callV (as := [vr (some (a1, 3, 0))]) (st := []) dX23_code_85 (vtX23_44 y_).1 (Nat.le_refl _) (Nat.le_trans (Nat.le_of_ble_eq_true rfl) (vtX23_44 y_).2.1) (Nat.le_trans (Nat.add_le_add_left (vtX23_44 y_).2.2 _) (Nat.le_of_ble_eq_true rfl)) rfl k
theorem sX23_code_88 {E : zE} {d : Nat} {Q : zO → zM → Prop} (M : zM) (a0 : Nat) (a1 : Nat) (l2 : Int32) (k : Z E YX3_put d M (zargs 0 [vr (some (a1, 3, 0)), vi (11 : Int32), vi (0 : Int32), vi (0 : Int32)]) 0 [] (zafter E YX23_code (d + 1) [(0, vr (some (a0, 29, 0))), (1, vr (some (a1, 3, 0))), (2, vi l2)] 93 3 [] Q)) : Z E YX23_code (d + 1) M [(0, vr (some (a0, 29, 0))), (1, vr (some (a1, 3, 0))), (2, vi l2)] 88 [] Q := by
  refine z_aload_n dX23_code_88 rfl rfl ?_
  refine z_bipush (v := 11) dX23_code_89 rfl ?_
  refine z_iconst (v := 0) dX23_code_91 rfl ?_
  refine z_iconst (v := 0) dX23_code_92 rfl ?_
  exact z_callV (as := [vi (11 : Int32), vi (0 : Int32), vi (0 : Int32)]) (st := []) dX23_code_93 vsX23_36_3 (Nat.le_refl _) (Nat.le_of_ble_eq_true rfl) (Nat.le_of_ble_eq_true rfl) rfl k
theorem sX23_code_96 {E : zE} {d : Nat} {Q : zO → zM → Prop} (M : zM) (a0 : Nat) (a1 : Nat) (l2 : Int32) (s0 : Int32) (k : Z E YX3_put d M (zargs 0 [vr (some (a1, 3, 0)), vi (17 : Int32), vi (0 : Int32), vi (0 : Int32)]) 0 [] (zafter E YX23_code (d + 1) [(0, vr (some (a0, 29, 0))), (1, vr (some (a1, 3, 0))), (2, vi l2)] 102 3 [] Q)) : Z E YX23_code (d + 1) M [(0, vr (some (a0, 29, 0))), (1, vr (some (a1, 3, 0))), (2, vi l2)] 96 [vi s0] Q := by
  refine z_pop dX23_code_96 rfl ?_
  refine z_aload_n dX23_code_97 rfl rfl ?_
  refine z_bipush (v := 17) dX23_code_98 rfl ?_
  refine z_iconst (v := 0) dX23_code_100 rfl ?_
  refine z_iconst (v := 0) dX23_code_101 rfl ?_
  exact z_callV (as := [vi (17 : Int32), vi (0 : Int32), vi (0 : Int32)]) (st := []) dX23_code_102 vsX23_36_3 (Nat.le_refl _) (Nat.le_of_ble_eq_true rfl) (Nat.le_of_ble_eq_true rfl) rfl k
theorem sX23_code_105 {E : zE} {d : Nat} {Q : zO → zM → Prop} (M : zM) (a0 : Nat) (a1 : Nat) (l2 : Int32) (s0 : Int32) (k : Z E YX23_code (d + 1) M [(0, vr (some (a0, 29, 0))), (1, vr (some (a1, 3, 0))), (2, vi (l2 + (1 : Int32)))] 21 [] Q) : Z E YX23_code (d + 1) M [(0, vr (some (a0, 29, 0))), (1, vr (some (a1, 3, 0))), (2, vi l2)] 105 [vi s0] Q := by
  refine z_pop dX23_code_105 rfl ?_
  refine z_inc (v := (l2 + (1 : Int32))) dX23_code_106 rfl rfl (by decide) (lv' := [(0, vr (some (a0, 29, 0))), (1, vr (some (a1, 3, 0))), (2, vi (l2 + (1 : Int32)))]) rfl ?_
  refine z_goto (tgt := 21) dX23_code_109 rfl ?_
  exact k
/-! ScriptTypes$Left.<init>(LScriptTypes$Node;)V -/
theorem bX24_init_0 : zdec cX24_init 0 [(0, .aload_n 0, 1), (1, .invokespecial 3, 3), (4, .aload_n 0, 1), (5, .new 9, 3), (8, .dup, 1), (9, .invokespecial 11, 3), (12, .putfield 12, 3), (15, .aload_n 0, 1), (16, .aload_n 1, 1), (17, .putfield 18, 3), (20, .return_, 1)] = true := by decide +kernel
theorem dX24_init_0 : decode cX24_init 0 = .ok (.aload_n 0, 1) := zdec_at bX24_init_0 0 rfl
theorem dX24_init_1 : decode cX24_init 1 = .ok (.invokespecial 3, 3) := zdec_at bX24_init_0 1 rfl
theorem dX24_init_4 : decode cX24_init 4 = .ok (.aload_n 0, 1) := zdec_at bX24_init_0 2 rfl
theorem dX24_init_5 : decode cX24_init 5 = .ok (.new 9, 3) := zdec_at bX24_init_0 3 rfl
theorem dX24_init_8 : decode cX24_init 8 = .ok (.dup, 1) := zdec_at bX24_init_0 4 rfl
theorem dX24_init_9 : decode cX24_init 9 = .ok (.invokespecial 11, 3) := zdec_at bX24_init_0 5 rfl
theorem dX24_init_12 : decode cX24_init 12 = .ok (.putfield 12, 3) := zdec_at bX24_init_0 6 rfl
theorem dX24_init_15 : decode cX24_init 15 = .ok (.aload_n 0, 1) := zdec_at bX24_init_0 7 rfl
theorem dX24_init_16 : decode cX24_init 16 = .ok (.aload_n 1, 1) := zdec_at bX24_init_0 8 rfl
theorem dX24_init_17 : decode cX24_init 17 = .ok (.putfield 18, 3) := zdec_at bX24_init_0 9 rfl
theorem dX24_init_20 : decode cX24_init 20 = .ok (.return_, 1) := zdec_at bX24_init_0 10 rfl
theorem sX24_init_0 {E : zE} {d : Nat} {Q : zO → zM → Prop} (M : zM) (a0 : Nat) (r1 : Option zP) (k : Z E YX13_init d M (zargs 0 [vr (some (a0, 30, 0))]) 0 [] (zafter E YX24_init (d + 1) [(0, vr (some (a0, 30, 0))), (1, vr r1)] 1 3 [] Q)) : Z E YX24_init (d + 1) M [(0, vr (some (a0, 30, 0))), (1, vr r1)] 0 [] Q := by
  refine z_aload_n dX24_init_0 rfl rfl ?_
  exact z_callI (as := []) (st := []) dX24_init_1 isX24_3 (Nat.le_refl _) (Nat.le_of_ble_eq_true rfl) (Nat.le_of_ble_eq_true rfl) rfl k
theorem sX24_init_4 {E : zE} {d : Nat} {Q : zO → zM → Prop} (M : zM) (a0 : Nat) (r1 : Option zP) (k : Z E YX24_init (d + 1) (zn M 3) [(0, vr (some (a0, 30, 0))), (1, vr r1)] 8 [vr (some ((zsz M), 11, 0)), vr (some (a0, 30, 0))] Q) : Z E YX24_init (d + 1) M [(0, vr (some (a0, 30, 0))), (1, vr r1)] 4 [] Q := by
  refine z_aload_n dX24_init_4 rfl rfl ?_
  refine z_new dX24_init_5 csX24_9 zff_11 ?_
  exact k
theorem sX24_init_8 {E : zE} {d : Nat} {Q : zO → zM → Prop} (M : zM) (a0 : Nat) (r1 : Option zP) (p0 : Nat) (k : Z E YJ2_init d M (zargs 0 [vr (some (p0, 11, 0))]) 0 [] (zafter E YX24_init (d + 1) [(0, vr (some (a0, 30, 0))), (1, vr r1)] 9 3 [vr (some (p0, 11, 0)), vr (some (a0, 30, 0))] Q)) : Z E YX24_init (d + 1) M [(0, vr (some (a0, 30, 0))), (1, vr r1)] 8 [vr (some (p0, 11, 0)), vr (some (a0, 30, 0))] Q := by
  refine z_dup dX24_init_8 rfl ?_
  exact z_callI (as := []) (st := [vr (some (p0, 11, 0)), vr (some (a0, 30, 0))]) dX24_init_9 isX24_11 (Nat.le_refl _) (Nat.le_of_ble_eq_true rfl) (Nat.le_of_ble_eq_true rfl) rfl k
theorem sX24_init_12 {E : zE} {d : Nat} {Q : zO → zM → Prop} (M : zM) (a0 : Nat) (r1 : Option zP) (p0 : Nat) (k : 16 ≤ a0 ∧ (16 ≤ a0 ∧ (Q (.inl none) (sr (sr M a0 1 (some (p0, 11, 0))) a0 0 r1)))) : Z E YX24_init (d + 1) M [(0, vr (some (a0, 30, 0))), (1, vr r1)] 12 [vr (some (p0, 11, 0)), vr (some (a0, 30, 0))] Q := by
  obtain ⟨g_, k⟩ := k
  refine z_putr g_ dX24_init_12 (zfwN.f fwX24_12_30 rfl (fun q h => by rw [← Option.some.inj h]; rfl)) rfl ?_
  refine z_aload_n dX24_init_15 rfl rfl ?_
  refine z_aload_n dX24_init_16 rfl rfl ?_
  obtain ⟨g_, k⟩ := k
  refine z_putr g_ dX24_init_17 (zfwN.f fwX24_18_30 rfl (fun q h => by rw [← Option.some.inj h]; rfl)) rfl ?_
  exact z_vret dX24_init_20 rfl k
/-! ScriptTypes$Left.isMember()Z -/
theorem bX24_isMember_0 : zdec cX24_isMember 0 [(0, .aload_n 0, 1), (1, .getfield 12, 3), (4, .aload_n 0, 1), (5, .getfield 12, 3), (8, .invokevirtual 22, 3), (11, .iconst 1, 1), (12, .isub, 1), (13, .invokevirtual 26, 3), (16, .checkcast 30, 3), (19, .getfield 32, 3), (22, .ifnonnull 7, 3), (25, .iconst 1, 1), (26, .goto 4, 3), (29, .iconst 0, 1), (30, .ireturn, 1)] = true := by decide +kernel
theorem dX24_isMember_0 : decode cX24_isMember 0 = .ok (.aload_n 0, 1) := zdec_at bX24_isMember_0 0 rfl
theorem dX24_isMember_1 : decode cX24_isMember 1 = .ok (.getfield 12, 3) := zdec_at bX24_isMember_0 1 rfl
theorem dX24_isMember_4 : decode cX24_isMember 4 = .ok (.aload_n 0, 1) := zdec_at bX24_isMember_0 2 rfl
theorem dX24_isMember_5 : decode cX24_isMember 5 = .ok (.getfield 12, 3) := zdec_at bX24_isMember_0 3 rfl
theorem dX24_isMember_8 : decode cX24_isMember 8 = .ok (.invokevirtual 22, 3) := zdec_at bX24_isMember_0 4 rfl
theorem dX24_isMember_11 : decode cX24_isMember 11 = .ok (.iconst 1, 1) := zdec_at bX24_isMember_0 5 rfl
theorem dX24_isMember_12 : decode cX24_isMember 12 = .ok (.isub, 1) := zdec_at bX24_isMember_0 6 rfl
theorem dX24_isMember_13 : decode cX24_isMember 13 = .ok (.invokevirtual 26, 3) := zdec_at bX24_isMember_0 7 rfl
theorem dX24_isMember_16 : decode cX24_isMember 16 = .ok (.checkcast 30, 3) := zdec_at bX24_isMember_0 8 rfl
theorem dX24_isMember_19 : decode cX24_isMember 19 = .ok (.getfield 32, 3) := zdec_at bX24_isMember_0 9 rfl
theorem dX24_isMember_22 : decode cX24_isMember 22 = .ok (.ifnonnull 7, 3) := zdec_at bX24_isMember_0 10 rfl
theorem dX24_isMember_25 : decode cX24_isMember 25 = .ok (.iconst 1, 1) := zdec_at bX24_isMember_0 11 rfl
theorem dX24_isMember_26 : decode cX24_isMember 26 = .ok (.goto 4, 3) := zdec_at bX24_isMember_0 12 rfl
theorem dX24_isMember_29 : decode cX24_isMember 29 = .ok (.iconst 0, 1) := zdec_at bX24_isMember_0 13 rfl
theorem dX24_isMember_30 : decode cX24_isMember 30 = .ok (.ireturn, 1) := zdec_at bX24_isMember_0 14 rfl
theorem sX24_isMember_0 {E : zE} {d : Nat} {Q : zO → zM → Prop} (M : zM) (a0 : Nat) (k : ∃ b1 : Nat, (gr M a0 1) = some (b1, 11, 0) ∧ (Z E YJ2_size d M (zargs 0 [vr (some (b1, 11, 0))]) 0 [] (zafter E YX24_isMember (d + 1) [] 8 3 [vr (some (b1, 11, 0))] Q))) : Z E YX24_isMember (d + 1) M [(0, vr (some (a0, 30, 0)))] 0 [] Q := by
  refine z_aload_n dX24_isMember_0 rfl rfl ?_
  refine z_getr (r := (gr M a0 1)) dX24_isMember_1 fsX24_12_30 rfl ?_
  refine z_aload_n dX24_isMember_4 rfl rfl ?_
  refine z_getr (r := (gr M a0 1)) dX24_isMember_5 fsX24_12_30 rfl ?_
  obtain ⟨b1, e1_, k⟩ := k
  refine Z.eqs (lv' := [(0, vr (some (a0, 30, 0)))]) (st' := [vr (some (b1, 11, 0)), vr (some (b1, 11, 0))]) rfl (by rw [e1_] <;> rfl) ?_
  refine Z.pick [] rfl ?_
  exact z_callV (as := []) (st := [vr (some (b1, 11, 0))]) dX24_isMember_8 vsX24_22_11 (Nat.le_refl _) (Nat.le_of_ble_eq_true rfl) (Nat.le_of_ble_eq_true rfl) rfl k
theorem sX24_isMember_11 {E : zE} {d : Nat} {Q : zO → zM → Prop} (M : zM) (s0 : Int32) (p1 : Nat) (k : Z E YJ2_get d M (zargs 0 [vr (some (p1, 11, 0)), vi (s0 - (1 : Int32))]) 0 [] (zafter E YX24_isMember (d + 1) [] 13 3 [] Q)) : Z E YX24_isMember (d + 1) M [] 11 [vi s0, vr (some (p1, 11, 0))] Q := by
  refine z_iconst (v := 1) dX24_isMember_11 rfl ?_
  refine z_isub dX24_isMember_12 ?_
  exact z_callV (as := [vi (s0 - (1 : Int32))]) (st := []) dX24_isMember_13 vsX24_26_11 (Nat.le_refl _) (Nat.le_of_ble_eq_true rfl) (Nat.le_of_ble_eq_true rfl) rfl k
theorem sX24_isMember_16 {E : zE} {d : Nat} {Q : zO → zM → Prop} (M : zM) (u0 : Option zP) (k : ∃ b1 : Nat, u0 = some (b1, 19, 0) ∧ (if (gr M b1 2) = none then (Q (.inl (some (vi (1 : Int32)))) M) else (Q (.inl (some (vi (0 : Int32)))) M))) : Z E YX24_isMember (d + 1) M [] 16 [vr u0] Q := by
  obtain ⟨b1, e1_, k⟩ := k
  refine Z.eqs (lv' := []) (st' := [vr (some (b1, 19, 0))]) rfl (by rw [e1_] <;> rfl) ?_
  refine z_ckcast dX24_isMember_16 ctX24_30_19 ?_
  refine z_getr (r := (gr M b1 2)) dX24_isMember_19 fsX24_32_19 rfl ?_
  refine z_ifnonnull (tgt := 29) dX24_isMember_22 rfl (fun h_ => ?_) (fun h_ => ?_)
  · have k := zif h_ k
    refine z_iconst (v := 0) dX24_isMember_29 rfl ?_
    exact z_iret dX24_isMember_30 rfl (by decide) k
  · have k := zit h_ k
    refine z_iconst (v := 1) dX24_isMember_25 rfl ?_
    refine z_goto (tgt := 30) dX24_isMember_26 rfl ?_
    exact z_iret dX24_isMember_30 rfl (by decide) k
/-! ScriptTypes$Left.place(LScriptTypes$Coder;)V -/
theorem bX24_place_0 : zdec cX24_place 0 [(0, .aload_n 0, 1), (1, .aload_n 1, 1), (2, .aload_n 0, 1), (3, .getfield 12, 3), (6, .invokevirtual 22, 3), (9, .iconst 1, 1), (10, .isub, 1), (11, .invokevirtual 35, 3), (14, .aload_n 0, 1), (15, .getfield 12, 3), (18, .aload_n 0, 1), (19, .getfield 12, 3), (22, .invokevirtual 22, 3), (25, .iconst 1, 1), (26, .isub, 1), (27, .invokevirtual 26, 3)] = true := by decide +kernel
theorem dX24_place_0 : decode cX24_place 0 = .ok (.aload_n 0, 1) := zdec_at bX24_place_0 0 rfl
theorem dX24_place_1 : decode cX24_place 1 = .ok (.aload_n 1, 1) := zdec_at bX24_place_0 1 rfl
theorem dX24_place_2 : decode cX24_place 2 = .ok (.aload_n 0, 1) := zdec_at bX24_place_0 2 rfl
theorem dX24_place_3 : decode cX24_place 3 = .ok (.getfield 12, 3) := zdec_at bX24_place_0 3 rfl
theorem dX24_place_6 : decode cX24_place 6 = .ok (.invokevirtual 22, 3) := zdec_at bX24_place_0 4 rfl
theorem dX24_place_9 : decode cX24_place 9 = .ok (.iconst 1, 1) := zdec_at bX24_place_0 5 rfl
theorem dX24_place_10 : decode cX24_place 10 = .ok (.isub, 1) := zdec_at bX24_place_0 6 rfl
theorem dX24_place_11 : decode cX24_place 11 = .ok (.invokevirtual 35, 3) := zdec_at bX24_place_0 7 rfl
theorem dX24_place_14 : decode cX24_place 14 = .ok (.aload_n 0, 1) := zdec_at bX24_place_0 8 rfl
theorem dX24_place_15 : decode cX24_place 15 = .ok (.getfield 12, 3) := zdec_at bX24_place_0 9 rfl
theorem dX24_place_18 : decode cX24_place 18 = .ok (.aload_n 0, 1) := zdec_at bX24_place_0 10 rfl
theorem dX24_place_19 : decode cX24_place 19 = .ok (.getfield 12, 3) := zdec_at bX24_place_0 11 rfl
theorem dX24_place_22 : decode cX24_place 22 = .ok (.invokevirtual 22, 3) := zdec_at bX24_place_0 12 rfl
theorem dX24_place_25 : decode cX24_place 25 = .ok (.iconst 1, 1) := zdec_at bX24_place_0 13 rfl
theorem dX24_place_26 : decode cX24_place 26 = .ok (.isub, 1) := zdec_at bX24_place_0 14 rfl
theorem dX24_place_27 : decode cX24_place 27 = .ok (.invokevirtual 26, 3) := zdec_at bX24_place_0 15 rfl
theorem bX24_place_30 : zdec cX24_place 30 [(30, .checkcast 30, 3), (33, .aload_n 1, 1), (34, .invokevirtual 39, 3), (37, .return_, 1)] = true := by decide +kernel
theorem dX24_place_30 : decode cX24_place 30 = .ok (.checkcast 30, 3) := zdec_at bX24_place_30 0 rfl
theorem dX24_place_33 : decode cX24_place 33 = .ok (.aload_n 1, 1) := zdec_at bX24_place_30 1 rfl
theorem dX24_place_34 : decode cX24_place 34 = .ok (.invokevirtual 39, 3) := zdec_at bX24_place_30 2 rfl
theorem dX24_place_37 : decode cX24_place 37 = .ok (.return_, 1) := zdec_at bX24_place_30 3 rfl
theorem sX24_place_0 {E : zE} {d : Nat} {Q : zO → zM → Prop} (M : zM) (a0 : Nat) (r1 : Option zP) (k : ∃ b1 : Nat, (gr M a0 1) = some (b1, 11, 0) ∧ (Z E YJ2_size d M (zargs 0 [vr (some (b1, 11, 0))]) 0 [] (zafter E YX24_place (d + 1) [(0, vr (some (a0, 30, 0))), (1, vr r1)] 6 3 [vr r1, vr (some (a0, 30, 0))] Q))) : Z E YX24_place (d + 1) M [(0, vr (some (a0, 30, 0))), (1, vr r1)] 0 [] Q := by
  refine z_aload_n dX24_place_0 rfl rfl ?_
  refine z_aload_n dX24_place_1 rfl rfl ?_
  refine z_aload_n dX24_place_2 rfl rfl ?_
  refine z_getr (r := (gr M a0 1)) dX24_place_3 fsX24_12_30 rfl ?_
  obtain ⟨b1, e1_, k⟩ := k
  refine Z.eqs (lv' := [(0, vr (some (a0, 30, 0))), (1, vr r1)]) (st' := [vr (some (b1, 11, 0)), vr r1, vr (some (a0, 30, 0))]) rfl (by rw [e1_] <;> rfl) ?_
  exact z_callV (as := []) (st := [vr r1, vr (some (a0, 30, 0))]) dX24_place_6 vsX24_22_11 (Nat.le_refl _) (Nat.le_of_ble_eq_true rfl) (Nat.le_of_ble_eq_true rfl) rfl k
theorem sX24_place_9 {E : zE} {d : Nat} {Q : zO → zM → Prop} (M : zM) (a0 : Nat) (r1 : Option zP) (s0 : Int32) (u1 : Option zP) (k : Z E YX24_upTo d M (zargs 0 [vr (some (a0, 30, 0)), vr u1, vi (s0 - (1 : Int32))]) 0 [] (zafter E YX24_place (d + 1) [(0, vr (some (a0, 30, 0))), (1, vr r1)] 11 3 [] Q)) : Z E YX24_place (d + 1) M [(0, vr (some (a0, 30, 0))), (1, vr r1)] 9 [vi s0, vr u1, vr (some (a0, 30, 0))] Q := by
  refine z_iconst (v := 1) dX24_place_9 rfl ?_
  refine z_isub dX24_place_10 ?_
  exact z_callV (as := [vr u1, vi (s0 - (1 : Int32))]) (st := []) dX24_place_11 vsX24_35_30 (Nat.le_refl _) (Nat.le_of_ble_eq_true rfl) (Nat.le_of_ble_eq_true rfl) rfl k
theorem sX24_place_14 {E : zE} {d : Nat} {Q : zO → zM → Prop} (M : zM) (a0 : Nat) (r1 : Option zP) (k : ∃ b1 : Nat, (gr M a0 1) = some (b1, 11, 0) ∧ (Z E YJ2_size d M (zargs 0 [vr (some (b1, 11, 0))]) 0 [] (zafter E YX24_place (d + 1) [(1, vr r1)] 22 3 [vr (some (b1, 11, 0))] Q))) : Z E YX24_place (d + 1) M [(0, vr (some (a0, 30, 0))), (1, vr r1)] 14 [] Q := by
  refine z_aload_n dX24_place_14 rfl rfl ?_
  refine z_getr (r := (gr M a0 1)) dX24_place_15 fsX24_12_30 rfl ?_
  refine z_aload_n dX24_place_18 rfl rfl ?_
  refine z_getr (r := (gr M a0 1)) dX24_place_19 fsX24_12_30 rfl ?_
  obtain ⟨b1, e1_, k⟩ := k
  refine Z.eqs (lv' := [(0, vr (some (a0, 30, 0))), (1, vr r1)]) (st' := [vr (some (b1, 11, 0)), vr (some (b1, 11, 0))]) rfl (by rw [e1_] <;> rfl) ?_
  refine Z.pick [1] rfl ?_
  exact z_callV (as := []) (st := [vr (some (b1, 11, 0))]) dX24_place_22 vsX24_22_11 (Nat.le_refl _) (Nat.le_of_ble_eq_true rfl) (Nat.le_of_ble_eq_true rfl) rfl k
theorem sX24_place_25 {E : zE} {d : Nat} {Q : zO → zM → Prop} (M : zM) (r1 : Option zP) (s0 : Int32) (p1 : Nat) (k : Z E YJ2_get d M (zargs 0 [vr (some (p1, 11, 0)), vi (s0 - (1 : Int32))]) 0 [] (zafter E YX24_place (d + 1) [(1, vr r1)] 27 3 [] Q)) : Z E YX24_place (d + 1) M [(1, vr r1)] 25 [vi s0, vr (some (p1, 11, 0))] Q := by
  refine z_iconst (v := 1) dX24_place_25 rfl ?_
  refine z_isub dX24_place_26 ?_
  exact z_callV (as := [vi (s0 - (1 : Int32))]) (st := []) dX24_place_27 vsX24_26_11 (Nat.le_refl _) (Nat.le_of_ble_eq_true rfl) (Nat.le_of_ble_eq_true rfl) rfl k
theorem sX24_place_30 {E : zE} {d : Nat} {Q : zO → zM → Prop} (M : zM) (r1 : Option zP) (u0 : Option zP) (k : ∃ b1 : Nat, u0 = some (b1, 19, 0) ∧ (Z E YX25_key d M (zargs 0 [vr (some (b1, 19, 0)), vr r1]) 0 [] (zafter E YX24_place (d + 1) [] 34 3 [] Q))) : Z E YX24_place (d + 1) M [(1, vr r1)] 30 [vr u0] Q := by
  obtain ⟨b1, e1_, k⟩ := k
  refine Z.eqs (lv' := [(1, vr r1)]) (st' := [vr (some (b1, 19, 0))]) rfl (by rw [e1_] <;> rfl) ?_
  refine z_ckcast dX24_place_30 ctX24_30_19 ?_
  refine z_aload_n dX24_place_33 rfl rfl ?_
  refine Z.pick [] rfl ?_
  exact z_callV (as := [vr r1]) (st := []) dX24_place_34 vsX24_39_19 (Nat.le_refl _) (Nat.le_of_ble_eq_true rfl) (Nat.le_of_ble_eq_true rfl) rfl k
theorem sX24_place_37 {E : zE} {d : Nat} {Q : zO → zM → Prop} (M : zM)  (k : Q (.inl none) M) : Z E YX24_place (d + 1) M [] 37 [] Q := by
  exact z_vret dX24_place_37 rfl k
/-! ScriptTypes$Left.upTo(LScriptTypes$Coder;I)V -/
theorem bX24_upTo_0 : zdec cX24_upTo 0 [(0, .iconst 0, 1), (1, .istore_n 3, 1), (2, .iload_n 3, 1), (3, .iload_n 2, 1), (4, .if_icmp .ge 25, 3), (7, .aload_n 0, 1), (8, .iload_n 3, 1), (9, .invokevirtual 43, 3), (12, .ifCond .eq 11, 3), (15, .aload_n 1, 1), (16, .iconst 0, 1), (17, .iconst 0, 1), (18, .iconst 0, 1), (19, .invokevirtual 47, 3), (22, .pop, 1), (23, .iinc 3 1, 3)] = true := by decide +kernel
theorem dX24_upTo_0 : decode cX24_upTo 0 = .ok (.iconst 0, 1) := zdec_at bX24_upTo_0 0 rfl
theorem dX24_upTo_1 : decode cX24_upTo 1 = .ok (.istore_n 3, 1) := zdec_at bX24_upTo_0 1 rfl
theorem dX24_upTo_2 : decode cX24_upTo 2 = .ok (.iload_n 3, 1) := zdec_at bX24_upTo_0 2 rfl
theorem dX24_upTo_3 : decode cX24_upTo 3 = .ok (.iload_n 2, 1) := zdec_at bX24_upTo_0 3 rfl
theorem dX24_upTo_4 : decode cX24_upTo 4 = .ok (.if_icmp .ge 25, 3) := zdec_at bX24_upTo_0 4 rfl
theorem dX24_upTo_7 : decode cX24_upTo 7 = .ok (.aload_n 0, 1) := zdec_at bX24_upTo_0 5 rfl
theorem dX24_upTo_8 : decode cX24_upTo 8 = .ok (.iload_n 3, 1) := zdec_at bX24_upTo_0 6 rfl
theorem dX24_upTo_9 : decode cX24_upTo 9 = .ok (.invokevirtual 43, 3) := zdec_at bX24_upTo_0 7 rfl
theorem dX24_upTo_12 : decode cX24_upTo 12 = .ok (.ifCond .eq 11, 3) := zdec_at bX24_upTo_0 8 rfl
theorem dX24_upTo_15 : decode cX24_upTo 15 = .ok (.aload_n 1, 1) := zdec_at bX24_upTo_0 9 rfl
theorem dX24_upTo_16 : decode cX24_upTo 16 = .ok (.iconst 0, 1) := zdec_at bX24_upTo_0 10 rfl
theorem dX24_upTo_17 : decode cX24_upTo 17 = .ok (.iconst 0, 1) := zdec_at bX24_upTo_0 11 rfl
theorem dX24_upTo_18 : decode cX24_upTo 18 = .ok (.iconst 0, 1) := zdec_at bX24_upTo_0 12 rfl
theorem dX24_upTo_19 : decode cX24_upTo 19 = .ok (.invokevirtual 47, 3) := zdec_at bX24_upTo_0 13 rfl
theorem dX24_upTo_22 : decode cX24_upTo 22 = .ok (.pop, 1) := zdec_at bX24_upTo_0 14 rfl
theorem dX24_upTo_23 : decode cX24_upTo 23 = .ok (.iinc 3 1, 3) := zdec_at bX24_upTo_0 15 rfl
theorem bX24_upTo_26 : zdec cX24_upTo 26 [(26, .goto (-24), 3), (29, .aload_n 0, 1), (30, .getfield 18, 3), (33, .aload_n 1, 1), (34, .invokevirtual 53, 3), (37, .iconst 0, 1), (38, .istore_n 3, 1), (39, .iload_n 3, 1), (40, .iload_n 2, 1), (41, .if_icmp .ge 138, 3), (44, .aload_n 0, 1), (45, .getfield 12, 3), (48, .iload_n 3, 1), (49, .invokevirtual 26, 3), (52, .checkcast 30, 3), (55, .astore 4, 2)] = true := by decide +kernel
theorem dX24_upTo_26 : decode cX24_upTo 26 = .ok (.goto (-24), 3) := zdec_at bX24_upTo_26 0 rfl
theorem dX24_upTo_29 : decode cX24_upTo 29 = .ok (.aload_n 0, 1) := zdec_at bX24_upTo_26 1 rfl
theorem dX24_upTo_30 : decode cX24_upTo 30 = .ok (.getfield 18, 3) := zdec_at bX24_upTo_26 2 rfl
theorem dX24_upTo_33 : decode cX24_upTo 33 = .ok (.aload_n 1, 1) := zdec_at bX24_upTo_26 3 rfl
theorem dX24_upTo_34 : decode cX24_upTo 34 = .ok (.invokevirtual 53, 3) := zdec_at bX24_upTo_26 4 rfl
theorem dX24_upTo_37 : decode cX24_upTo 37 = .ok (.iconst 0, 1) := zdec_at bX24_upTo_26 5 rfl
theorem dX24_upTo_38 : decode cX24_upTo 38 = .ok (.istore_n 3, 1) := zdec_at bX24_upTo_26 6 rfl
theorem dX24_upTo_39 : decode cX24_upTo 39 = .ok (.iload_n 3, 1) := zdec_at bX24_upTo_26 7 rfl
theorem dX24_upTo_40 : decode cX24_upTo 40 = .ok (.iload_n 2, 1) := zdec_at bX24_upTo_26 8 rfl
theorem dX24_upTo_41 : decode cX24_upTo 41 = .ok (.if_icmp .ge 138, 3) := zdec_at bX24_upTo_26 9 rfl
theorem dX24_upTo_44 : decode cX24_upTo 44 = .ok (.aload_n 0, 1) := zdec_at bX24_upTo_26 10 rfl
theorem dX24_upTo_45 : decode cX24_upTo 45 = .ok (.getfield 12, 3) := zdec_at bX24_upTo_26 11 rfl
theorem dX24_upTo_48 : decode cX24_upTo 48 = .ok (.iload_n 3, 1) := zdec_at bX24_upTo_26 12 rfl
theorem dX24_upTo_49 : decode cX24_upTo 49 = .ok (.invokevirtual 26, 3) := zdec_at bX24_upTo_26 13 rfl
theorem dX24_upTo_52 : decode cX24_upTo 52 = .ok (.checkcast 30, 3) := zdec_at bX24_upTo_26 14 rfl
theorem dX24_upTo_55 : decode cX24_upTo 55 = .ok (.astore 4, 2) := zdec_at bX24_upTo_26 15 rfl
theorem bX24_upTo_57 : zdec cX24_upTo 57 [(57, .aload 4, 2), (59, .getfield 32, 3), (62, .ifnonnull 56, 3), (65, .iload_n 3, 1), (66, .iconst 1, 1), (67, .iadd, 1), (68, .iload_n 2, 1), (69, .if_icmp .ge 31, 3), (72, .aload_n 0, 1), (73, .getfield 12, 3), (76, .iload_n 3, 1), (77, .iconst 1, 1), (78, .iadd, 1), (79, .invokevirtual 26, 3), (82, .checkcast 30, 3), (85, .getfield 32, 3)] = true := by decide +kernel
theorem dX24_upTo_57 : decode cX24_upTo 57 = .ok (.aload 4, 2) := zdec_at bX24_upTo_57 0 rfl
theorem dX24_upTo_59 : decode cX24_upTo 59 = .ok (.getfield 32, 3) := zdec_at bX24_upTo_57 1 rfl
theorem dX24_upTo_62 : decode cX24_upTo 62 = .ok (.ifnonnull 56, 3) := zdec_at bX24_upTo_57 2 rfl
theorem dX24_upTo_65 : decode cX24_upTo 65 = .ok (.iload_n 3, 1) := zdec_at bX24_upTo_57 3 rfl
theorem dX24_upTo_66 : decode cX24_upTo 66 = .ok (.iconst 1, 1) := zdec_at bX24_upTo_57 4 rfl
theorem dX24_upTo_67 : decode cX24_upTo 67 = .ok (.iadd, 1) := zdec_at bX24_upTo_57 5 rfl
theorem dX24_upTo_68 : decode cX24_upTo 68 = .ok (.iload_n 2, 1) := zdec_at bX24_upTo_57 6 rfl
theorem dX24_upTo_69 : decode cX24_upTo 69 = .ok (.if_icmp .ge 31, 3) := zdec_at bX24_upTo_57 7 rfl
theorem dX24_upTo_72 : decode cX24_upTo 72 = .ok (.aload_n 0, 1) := zdec_at bX24_upTo_57 8 rfl
theorem dX24_upTo_73 : decode cX24_upTo 73 = .ok (.getfield 12, 3) := zdec_at bX24_upTo_57 9 rfl
theorem dX24_upTo_76 : decode cX24_upTo 76 = .ok (.iload_n 3, 1) := zdec_at bX24_upTo_57 10 rfl
theorem dX24_upTo_77 : decode cX24_upTo 77 = .ok (.iconst 1, 1) := zdec_at bX24_upTo_57 11 rfl
theorem dX24_upTo_78 : decode cX24_upTo 78 = .ok (.iadd, 1) := zdec_at bX24_upTo_57 12 rfl
theorem dX24_upTo_79 : decode cX24_upTo 79 = .ok (.invokevirtual 26, 3) := zdec_at bX24_upTo_57 13 rfl
theorem dX24_upTo_82 : decode cX24_upTo 82 = .ok (.checkcast 30, 3) := zdec_at bX24_upTo_57 14 rfl
theorem dX24_upTo_85 : decode cX24_upTo 85 = .ok (.getfield 32, 3) := zdec_at bX24_upTo_57 15 rfl
theorem bX24_upTo_88 : zdec cX24_upTo 88 [(88, .ifnull 12, 3), (91, .aload_n 1, 1), (92, .bipush 18, 2), (94, .iconst 0, 1), (95, .iconst 0, 1), (96, .invokevirtual 47, 3), (99, .pop, 1), (100, .aload 4, 2), (102, .aload_n 1, 1), (103, .invokevirtual 39, 3), (106, .aload_n 1, 1), (107, .bipush 10, 2), (109, .iconst 0, 1), (110, .iconst 0, 1), (111, .invokevirtual 47, 3), (114, .pop, 1)] = true := by decide +kernel
theorem dX24_upTo_88 : decode cX24_upTo 88 = .ok (.ifnull 12, 3) := zdec_at bX24_upTo_88 0 rfl
theorem dX24_upTo_91 : decode cX24_upTo 91 = .ok (.aload_n 1, 1) := zdec_at bX24_upTo_88 1 rfl
theorem dX24_upTo_92 : decode cX24_upTo 92 = .ok (.bipush 18, 2) := zdec_at bX24_upTo_88 2 rfl
theorem dX24_upTo_94 : decode cX24_upTo 94 = .ok (.iconst 0, 1) := zdec_at bX24_upTo_88 3 rfl
theorem dX24_upTo_95 : decode cX24_upTo 95 = .ok (.iconst 0, 1) := zdec_at bX24_upTo_88 4 rfl
theorem dX24_upTo_96 : decode cX24_upTo 96 = .ok (.invokevirtual 47, 3) := zdec_at bX24_upTo_88 5 rfl
theorem dX24_upTo_99 : decode cX24_upTo 99 = .ok (.pop, 1) := zdec_at bX24_upTo_88 6 rfl
theorem dX24_upTo_100 : decode cX24_upTo 100 = .ok (.aload 4, 2) := zdec_at bX24_upTo_88 7 rfl
theorem dX24_upTo_102 : decode cX24_upTo 102 = .ok (.aload_n 1, 1) := zdec_at bX24_upTo_88 8 rfl
theorem dX24_upTo_103 : decode cX24_upTo 103 = .ok (.invokevirtual 39, 3) := zdec_at bX24_upTo_88 9 rfl
theorem dX24_upTo_106 : decode cX24_upTo 106 = .ok (.aload_n 1, 1) := zdec_at bX24_upTo_88 10 rfl
theorem dX24_upTo_107 : decode cX24_upTo 107 = .ok (.bipush 10, 2) := zdec_at bX24_upTo_88 11 rfl
theorem dX24_upTo_109 : decode cX24_upTo 109 = .ok (.iconst 0, 1) := zdec_at bX24_upTo_88 12 rfl
theorem dX24_upTo_110 : decode cX24_upTo 110 = .ok (.iconst 0, 1) := zdec_at bX24_upTo_88 13 rfl
theorem dX24_upTo_111 : decode cX24_upTo 111 = .ok (.invokevirtual 47, 3) := zdec_at bX24_upTo_88 14 rfl
theorem dX24_upTo_114 : decode cX24_upTo 114 = .ok (.pop, 1) := zdec_at bX24_upTo_88 15 rfl
theorem bX24_upTo_115 : zdec cX24_upTo 115 [(115, .goto 58, 3), (118, .iconst 0, 1), (119, .istore 5, 2), (121, .iload 5, 2), (123, .aload 4, 2), (125, .getfield 32, 3), (128, .invokevirtual 22, 3), (131, .if_icmp .ge 26, 3), (134, .aload 4, 2), (136, .getfield 32, 3), (139, .iload 5, 2), (141, .invokevirtual 26, 3), (144, .checkcast 4, 3), (147, .aload_n 1, 1), (148, .invokevirtual 53, 3), (151, .iinc 5 1, 3)] = true := by decide +kernel
theorem dX24_upTo_115 : decode cX24_upTo 115 = .ok (.goto 58, 3) := zdec_at bX24_upTo_115 0 rfl
theorem dX24_upTo_118 : decode cX24_upTo 118 = .ok (.iconst 0, 1) := zdec_at bX24_upTo_115 1 rfl
theorem dX24_upTo_119 : decode cX24_upTo 119 = .ok (.istore 5, 2) := zdec_at bX24_upTo_115 2 rfl
theorem dX24_upTo_121 : decode cX24_upTo 121 = .ok (.iload 5, 2) := zdec_at bX24_upTo_115 3 rfl
theorem dX24_upTo_123 : decode cX24_upTo 123 = .ok (.aload 4, 2) := zdec_at bX24_upTo_115 4 rfl
theorem dX24_upTo_125 : decode cX24_upTo 125 = .ok (.getfield 32, 3) := zdec_at bX24_upTo_115 5 rfl
theorem dX24_upTo_128 : decode cX24_upTo 128 = .ok (.invokevirtual 22, 3) := zdec_at bX24_upTo_115 6 rfl
theorem dX24_upTo_131 : decode cX24_upTo 131 = .ok (.if_icmp .ge 26, 3) := zdec_at bX24_upTo_115 7 rfl
theorem dX24_upTo_134 : decode cX24_upTo 134 = .ok (.aload 4, 2) := zdec_at bX24_upTo_115 8 rfl
theorem dX24_upTo_136 : decode cX24_upTo 136 = .ok (.getfield 32, 3) := zdec_at bX24_upTo_115 9 rfl
theorem dX24_upTo_139 : decode cX24_upTo 139 = .ok (.iload 5, 2) := zdec_at bX24_upTo_115 10 rfl
theorem dX24_upTo_141 : decode cX24_upTo 141 = .ok (.invokevirtual 26, 3) := zdec_at bX24_upTo_115 11 rfl
theorem dX24_upTo_144 : decode cX24_upTo 144 = .ok (.checkcast 4, 3) := zdec_at bX24_upTo_115 12 rfl
theorem dX24_upTo_147 : decode cX24_upTo 147 = .ok (.aload_n 1, 1) := zdec_at bX24_upTo_115 13 rfl
theorem dX24_upTo_148 : decode cX24_upTo 148 = .ok (.invokevirtual 53, 3) := zdec_at bX24_upTo_115 14 rfl
theorem dX24_upTo_151 : decode cX24_upTo 151 = .ok (.iinc 5 1, 3) := zdec_at bX24_upTo_115 15 rfl
theorem bX24_upTo_154 : zdec cX24_upTo 154 [(154, .goto (-33), 3), (157, .aload_n 1, 1), (158, .bipush 15, 2), (160, .aload 4, 2), (162, .getfield 32, 3), (165, .invokevirtual 22, 3), (168, .iconst 0, 1), (169, .invokevirtual 47, 3), (172, .pop, 1), (173, .iinc 3 1, 3), (176, .goto (-137), 3), (179, .return_, 1)] = true := by decide +kernel
theorem dX24_upTo_154 : decode cX24_upTo 154 = .ok (.goto (-33), 3) := zdec_at bX24_upTo_154 0 rfl
theorem dX24_upTo_157 : decode cX24_upTo 157 = .ok (.aload_n 1, 1) := zdec_at bX24_upTo_154 1 rfl
theorem dX24_upTo_158 : decode cX24_upTo 158 = .ok (.bipush 15, 2) := zdec_at bX24_upTo_154 2 rfl
theorem dX24_upTo_160 : decode cX24_upTo 160 = .ok (.aload 4, 2) := zdec_at bX24_upTo_154 3 rfl
theorem dX24_upTo_162 : decode cX24_upTo 162 = .ok (.getfield 32, 3) := zdec_at bX24_upTo_154 4 rfl
theorem dX24_upTo_165 : decode cX24_upTo 165 = .ok (.invokevirtual 22, 3) := zdec_at bX24_upTo_154 5 rfl
theorem dX24_upTo_168 : decode cX24_upTo 168 = .ok (.iconst 0, 1) := zdec_at bX24_upTo_154 6 rfl
theorem dX24_upTo_169 : decode cX24_upTo 169 = .ok (.invokevirtual 47, 3) := zdec_at bX24_upTo_154 7 rfl
theorem dX24_upTo_172 : decode cX24_upTo 172 = .ok (.pop, 1) := zdec_at bX24_upTo_154 8 rfl
theorem dX24_upTo_173 : decode cX24_upTo 173 = .ok (.iinc 3 1, 3) := zdec_at bX24_upTo_154 9 rfl
theorem dX24_upTo_176 : decode cX24_upTo 176 = .ok (.goto (-137), 3) := zdec_at bX24_upTo_154 10 rfl
theorem dX24_upTo_179 : decode cX24_upTo 179 = .ok (.return_, 1) := zdec_at bX24_upTo_154 11 rfl
theorem sX24_upTo_0 {E : zE} {d : Nat} {Q : zO → zM → Prop} (M : zM) (a0 : Nat) (r1 : Option zP) (l2 : Int32) (k : Z E YX24_upTo (d + 1) M [(0, vr (some (a0, 30, 0))), (1, vr r1), (2, vi l2), (3, vi (0 : Int32))] 2 [] Q) : Z E YX24_upTo (d + 1) M [(0, vr (some (a0, 30, 0))), (1, vr r1), (2, vi l2)] 0 [] Q := by
  refine z_iconst (v := 0) dX24_upTo_0 rfl ?_
  refine z_ist_n dX24_upTo_1 rfl (by decide) (lv' := [(0, vr (some (a0, 30, 0))), (1, vr r1), (2, vi l2), (3, vi (0 : Int32))]) rfl ?_
  exact k
theorem sX24_upTo_2 {E : zE} {d : Nat} {Q : zO → zM → Prop} (M : zM) (a0 : Nat) (r1 : Option zP) (l2 : Int32) (l3 : Int32) (k : if l2 ≤ l3 then (∃ b1 t1 : Nat, (gr M a0 0) = some (b1, t1, 0) ∧ (∃ Y_ : zY, vt_code t1 = some Y_ ∧ Z E Y_ d M (zargs 0 [vr (some (b1, t1, 0)), vr r1]) 0 [] (zafter E YX24_upTo (d + 1) [(0, vr (some (a0, 30, 0))), (1, vr r1), (2, vi l2)] 34 3 [] Q))) else (Z E YX24_isPlainCall d M (zargs 0 [vr (some (a0, 30, 0)), vi l3]) 0 [] (zafter E YX24_upTo (d + 1) [(0, vr (some (a0, 30, 0))), (1, vr r1), (2, vi l2), (3, vi l3)] 9 3 [] Q))) : Z E YX24_upTo (d + 1) M [(0, vr (some (a0, 30, 0))), (1, vr r1), (2, vi l2), (3, vi l3)] 2 [] Q := by
  refine z_iload_n dX24_upTo_2 rfl rfl ?_
  refine z_iload_n dX24_upTo_3 rfl rfl ?_
  refine z_icmp_ge (tgt := 29) dX24_upTo_4 rfl (fun h_ => ?_) (fun h_ => ?_)
  · have k := zit h_ k
    refine z_aload_n dX24_upTo_29 rfl rfl ?_
    refine z_getr (r := (gr M a0 0)) dX24_upTo_30 fsX24_18_30 rfl ?_
    refine z_aload_n dX24_upTo_33 rfl rfl ?_
    obtain ⟨b1, t1, e1_, k⟩ := k
    refine Z.eqs (lv' := [(0, vr (some (a0, 30, 0))), (1, vr r1), (2, vi l2), (3, vi l3)]) (st' := [vr r1, vr (some (b1, t1, 0))]) rfl (by rw [e1_] <;> rfl) ?_
    refine Z.pick [0, 1, 2] rfl ?_
    obtain ⟨Y_, y_, k⟩ := k
    exact z_callV (as := [vr r1]) (st := []) dX24_upTo_34 (vtX24_53 y_).1 (Nat.le_refl _) (Nat.le_trans (Nat.le_of_ble_eq_true rfl) (vtX24_53 y_).2.1) (Nat.le_trans (Nat.add_le_add_left (vtX24_53 y_).2.2 _) (Nat.le_of_ble_eq_true rfl)) rfl k
  · have k := zif h_ k
    refine z_aload_n dX24_upTo_7 rfl rfl ?_
    refine z_iload_n dX24_upTo_8 rfl rfl ?_
    exact z_callV (as := [vi l3]) (st := []) dX24_upTo_9 vsX24_43_30 (Nat.le_refl _) (Nat.le_of_ble_eq_true rfl) (Nat.le_of_ble_eq_true rfl) rfl k
theorem sX24_upTo_12 {E : zE} {d : Nat} {Q : zO → zM → Prop} (M : zM) (a0 : Nat) (r1 : Option zP) (l2 : Int32) (l3 : Int32) (s0 : Int32) (k : if s0 = 0 then (Z E YX24_upTo (d + 1) M [(0, vr (some (a0, 30, 0))), (1, vr r1), (2, vi l2), (3, vi (l3 + (1 : Int32)))] 2 [] Q) else (∃ b1 : Nat, r1 = some (b1, 3, 0) ∧ (Z E YX3_put d M (zargs 0 [vr (some (b1, 3, 0)), vi (0 : Int32), vi (0 : Int32), vi (0 : Int32)]) 0 [] (zafter E YX24_upTo (d + 1) [(0, vr (some (a0, 30, 0))), (1, vr (some (b1, 3, 0))), (2, vi l2), (3, vi l3)] 19 3 [] Q)))) : Z E YX24_upTo (d + 1) M [(0, vr (some (a0, 30, 0))), (1, vr r1), (2, vi l2), (3, vi l3)] 12 [vi s0] Q := by
  refine z_if_eq (tgt := 23) dX24_upTo_12 rfl (fun h_ => ?_) (fun h_ => ?_)
  · have k := zit h_ k
    refine z_inc (v := (l3 + (1 : Int32))) dX24_upTo_23 rfl rfl (by decide) (lv' := [(0, vr (some (a0, 30, 0))), (1, vr r1), (2, vi l2), (3, vi (l3 + (1 : Int32)))]) rfl ?_
    refine z_goto (tgt := 2) dX24_upTo_26 rfl ?_
    exact k
  · have k := zif h_ k
    refine z_aload_n dX24_upTo_15 rfl rfl ?_
    refine z_iconst (v := 0) dX24_upTo_16 rfl ?_
    refine z_iconst (v := 0) dX24_upTo_17 rfl ?_
    refine z_iconst (v := 0) dX24_upTo_18 rfl ?_
    obtain ⟨b1, e1_, k⟩ := k
    refine Z.eqs (lv' := [(0, vr (some (a0, 30, 0))), (1, vr (some (b1, 3, 0))), (2, vi l2), (3, vi l3)]) (st' := [vi (0 : Int32), vi (0 : Int32), vi (0 : Int32), vr (some (b1, 3, 0))]) (by rw [e1_] <;> rfl) (by rw [e1_] <;> rfl) ?_
    exact z_callV (as := [vi (0 : Int32), vi (0 : Int32), vi (0 : Int32)]) (st := []) dX24_upTo_19 vsX24_47_3 (Nat.le_refl _) (Nat.le_of_ble_eq_true rfl) (Nat.le_of_ble_eq_true rfl) rfl k
theorem sX24_upTo_22 {E : zE} {d : Nat} {Q : zO → zM → Prop} (M : zM) (a0 : Nat) (a1 : Nat) (l2 : Int32) (l3 : Int32) (s0 : Int32) (k : Z E YX24_upTo (d + 1) M [(0, vr (some (a0, 30, 0))), (1, vr (some (a1, 3, 0))), (2, vi l2), (3, vi (l3 + (1 : Int32)))] 2 [] Q) : Z E YX24_upTo (d + 1) M [(0, vr (some (a0, 30, 0))), (1, vr (some (a1, 3, 0))), (2, vi l2), (3, vi l3)] 22 [vi s0] Q := by
  refine z_pop dX24_upTo_22 rfl ?_
  refine z_inc (v := (l3 + (1 : Int32))) dX24_upTo_23 rfl rfl (by decide) (lv' := [(0, vr (some (a0, 30, 0))), (1, vr (some (a1, 3, 0))), (2, vi l2), (3, vi (l3 + (1 : Int32)))]) rfl ?_
  refine z_goto (tgt := 2) dX24_upTo_26 rfl ?_
  exact k
theorem sX24_upTo_37 {E : zE} {d : Nat} {Q : zO → zM → Prop} (M : zM) (a0 : Nat) (r1 : Option zP) (l2 : Int32) (k : Z E YX24_upTo (d + 1) M [(0, vr (some (a0, 30, 0))), (1, vr r1), (2, vi l2), (3, vi (0 : Int32))] 39 [] Q) : Z E YX24_upTo (d + 1) M [(0, vr (some (a0, 30, 0))), (1, vr r1), (2, vi l2)] 37 [] Q := by
  refine z_iconst (v := 0) dX24_upTo_37 rfl ?_
  refine z_ist_n dX24_upTo_38 rfl (by decide) (lv' := [(0, vr (some (a0, 30, 0))), (1, vr r1), (2, vi l2), (3, vi (0 : Int32))]) rfl ?_
  exact k
theorem sX24_upTo_39 {E : zE} {d : Nat} {Q : zO → zM → Prop} (M : zM) (a0 : Nat) (r1 : Option zP) (l2 : Int32) (l3 : Int32) (k : if l2 ≤ l3 then (Q (.inl none) M) else (∃ b1 : Nat, (gr M a0 1) = some (b1, 11, 0) ∧ (Z E YJ2_get d M (zargs 0 [vr (some (b1, 11, 0)), vi l3]) 0 [] (zafter E YX24_upTo (d + 1) [(0, vr (some (a0, 30, 0))), (1, vr r1), (2, vi l2), (3, vi l3)] 49 3 [] Q)))) : Z E YX24_upTo (d + 1) M [(0, vr (some (a0, 30, 0))), (1, vr r1), (2, vi l2), (3, vi l3)] 39 [] Q := by
  refine z_iload_n dX24_upTo_39 rfl rfl ?_
  refine z_iload_n dX24_upTo_40 rfl rfl ?_
  refine z_icmp_ge (tgt := 179) dX24_upTo_41 rfl (fun h_ => ?_) (fun h_ => ?_)
  · have k := zit h_ k
    exact z_vret dX24_upTo_179 rfl k
  · have k := zif h_ k
    refine z_aload_n dX24_upTo_44 rfl rfl ?_
    refine z_getr (r := (gr M a0 1)) dX24_upTo_45 fsX24_12_30 rfl ?_
    refine z_iload_n dX24_upTo_48 rfl rfl ?_
    obtain ⟨b1, e1_, k⟩ := k
    refine Z.eqs (lv' := [(0, vr (some (a0, 30, 0))), (1, vr r1), (2, vi l2), (3, vi l3)]) (st' := [vi l3, vr (some (b1, 11, 0))]) rfl (by rw [e1_] <;> rfl) ?_
    exact z_callV (as := [vi l3]) (st := []) dX24_upTo_49 vsX24_26_11 (Nat.le_refl _) (Nat.le_of_ble_eq_true rfl) (Nat.le_of_ble_eq_true rfl) rfl k
theorem sX24_upTo_52 {E : zE} {d : Nat} {Q : zO → zM → Prop} (M : zM) (a0 : Nat) (r1 : Option zP) (l2 : Int32) (l3 : Int32) (u0 : Option zP) (k : ∃ b1 : Nat, u0 = some (b1, 19, 0) ∧ (if (gr M b1 2) = none then (if l2 ≤ (l3 + (1 : Int32)) then (Z E YX25_key d M (zargs 0 [vr (some (b1, 19, 0)), vr r1]) 0 [] (zafter E YX24_upTo (d + 1) [(0, vr (some (a0, 30, 0))), (1, vr r1), (2, vi l2), (3, vi l3)] 103 3 [] Q)) else (∃ b2 : Nat, (gr M a0 1) = some (b2, 11, 0) ∧ (Z E YJ2_get d M (zargs 0 [vr (some (b2, 11, 0)), vi (l3 + (1 : Int32))]) 0 [] (zafter E YX24_upTo (d + 1) [(0, vr (some (a0, 30, 0))), (1, vr r1), (2, vi l2), (3, vi l3), (4, vr (some (b1, 19, 0)))] 79 3 [] Q)))) else (Z E YX24_upTo (d + 1) M [(0, vr (some (a0, 30, 0))), (1, vr r1), (2, vi l2), (3, vi l3), (4, vr (some (b1, 19, 0))), (5, vi (0 : Int32))] 121 [] Q))) : Z E YX24_upTo (d + 1) M [(0, vr (some (a0, 30, 0))), (1, vr r1), (2, vi l2), (3, vi l3)] 52 [vr u0] Q := by
  obtain ⟨b1, e1_, k⟩ := k
  refine Z.eqs (lv' := [(0, vr (some (a0, 30, 0))), (1, vr r1), (2, vi l2), (3, vi l3)]) (st' := [vr (some (b1, 19, 0))]) rfl (by rw [e1_] <;> rfl) ?_
  refine z_ckcast dX24_upTo_52 ctX24_30_19 ?_
  refine z_ast dX24_upTo_55 (by decide) (lv' := [(0, vr (some (a0, 30, 0))), (1, vr r1), (2, vi l2), (3, vi l3), (4, vr (some (b1, 19, 0)))]) rfl ?_
  refine z_aload dX24_upTo_57 rfl ?_
  refine z_getr (r := (gr M b1 2)) dX24_upTo_59 fsX24_32_19 rfl ?_
  refine z_ifnonnull (tgt := 118) dX24_upTo_62 rfl (fun h_ => ?_) (fun h_ => ?_)
  · have k := zif h_ k
    refine z_iconst (v := 0) dX24_upTo_118 rfl ?_
    refine z_ist dX24_upTo_119 (by decide) (lv' := [(0, vr (some (a0, 30, 0))), (1, vr r1), (2, vi l2), (3, vi l3), (4, vr (some (b1, 19, 0))), (5, vi (0 : Int32))]) rfl ?_
    exact k
  · have k := zit h_ k
    refine z_iload_n dX24_upTo_65 rfl rfl ?_
    refine z_iconst (v := 1) dX24_upTo_66 rfl ?_
    refine z_iadd dX24_upTo_67 ?_
    refine z_iload_n dX24_upTo_68 rfl rfl ?_
    refine z_icmp_ge (tgt := 100) dX24_upTo_69 rfl (fun h_ => ?_) (fun h_ => ?_)
    · have k := zit h_ k
      refine z_aload dX24_upTo_100 rfl ?_
      refine z_aload_n dX24_upTo_102 rfl rfl ?_
      refine Z.pick [0, 1, 2, 3] rfl ?_
      exact z_callV (as := [vr r1]) (st := []) dX24_upTo_103 vsX24_39_19 (Nat.le_refl _) (Nat.le_of_ble_eq_true rfl) (Nat.le_of_ble_eq_true rfl) rfl k
    · have k := zif h_ k
      refine z_aload_n dX24_upTo_72 rfl rfl ?_
      refine z_getr (r := (gr M a0 1)) dX24_upTo_73 fsX24_12_30 rfl ?_
      refine z_iload_n dX24_upTo_76 rfl rfl ?_
      refine z_iconst (v := 1) dX24_upTo_77 rfl ?_
      refine z_iadd dX24_upTo_78 ?_
      obtain ⟨b2, e2_, k⟩ := k
      refine Z.eqs (lv' := [(0, vr (some (a0, 30, 0))), (1, vr r1), (2, vi l2), (3, vi l3), (4, vr (some (b1, 19, 0)))]) (st' := [vi (l3 + (1 : Int32)), vr (some (b2, 11, 0))]) rfl (by rw [e2_] <;> rfl) ?_
      exact z_callV (as := [vi (l3 + (1 : Int32))]) (st := []) dX24_upTo_79 vsX24_26_11 (Nat.le_refl _) (Nat.le_of_ble_eq_true rfl) (Nat.le_of_ble_eq_true rfl) rfl k
theorem sX24_upTo_82 {E : zE} {d : Nat} {Q : zO → zM → Prop} (M : zM) (a0 : Nat) (r1 : Option zP) (l2 : Int32) (l3 : Int32) (a4 : Nat) (u0 : Option zP) (k : ∃ b1 : Nat, u0 = some (b1, 19, 0) ∧ (if (gr M b1 2) = none then (Z E YX25_key d M (zargs 0 [vr (some (a4, 19, 0)), vr r1]) 0 [] (zafter E YX24_upTo (d + 1) [(0, vr (some (a0, 30, 0))), (1, vr r1), (2, vi l2), (3, vi l3)] 103 3 [] Q)) else (∃ b2 : Nat, r1 = some (b2, 3, 0) ∧ (Z E YX3_put d M (zargs 0 [vr (some (b2, 3, 0)), vi (18 : Int32), vi (0 : Int32), vi (0 : Int32)]) 0 [] (zafter E YX24_upTo (d + 1) [(0, vr (some (a0, 30, 0))), (1, vr (some (b2, 3, 0))), (2, vi l2), (3, vi l3), (4, vr (some (a4, 19, 0)))] 96 3 [] Q))))) : Z E YX24_upTo (d + 1) M [(0, vr (some (a0, 30, 0))), (1, vr r1), (2, vi l2), (3, vi l3), (4, vr (some (a4, 19, 0)))] 82 [vr u0] Q := by
  obtain ⟨b1, e1_, k⟩ := k
  refine Z.eqs (lv' := [(0, vr (some (a0, 30, 0))), (1, vr r1), (2, vi l2), (3, vi l3), (4, vr (some (a4, 19, 0)))]) (st' := [vr (some (b1, 19, 0))]) rfl (by rw [e1_] <;> rfl) ?_
  refine z_ckcast dX24_upTo_82 ctX24_30_19 ?_
  refine z_getr (r := (gr M b1 2)) dX24_upTo_85 fsX24_32_19 rfl ?_
  refine z_ifnull (tgt := 100) dX24_upTo_88 rfl (fun h_ => ?_) (fun h_ => ?_)
  · have k := zit h_ k
    refine z_aload dX24_upTo_100 rfl ?_
    refine z_aload_n dX24_upTo_102 rfl rfl ?_
    refine Z.pick [0, 1, 2, 3] rfl ?_
    exact z_callV (as := [vr r1]) (st := []) dX24_upTo_103 vsX24_39_19 (Nat.le_refl _) (Nat.le_of_ble_eq_true rfl) (Nat.le_of_ble_eq_true rfl) rfl k
  · have k := zif h_ k
    refine z_aload_n dX24_upTo_91 rfl rfl ?_
    refine z_bipush (v := 18) dX24_upTo_92 rfl ?_
    refine z_iconst (v := 0) dX24_upTo_94 rfl ?_
    refine z_iconst (v := 0) dX24_upTo_95 rfl ?_
    obtain ⟨b2, e2_, k⟩ := k
    refine Z.eqs (lv' := [(0, vr (some (a0, 30, 0))), (1, vr (some (b2, 3, 0))), (2, vi l2), (3, vi l3), (4, vr (some (a4, 19, 0)))]) (st' := [vi (0 : Int32), vi (0 : Int32), vi (18 : Int32), vr (some (b2, 3, 0))]) (by rw [e2_] <;> rfl) (by rw [e2_] <;> rfl) ?_
    exact z_callV (as := [vi (18 : Int32), vi (0 : Int32), vi (0 : Int32)]) (st := []) dX24_upTo_96 vsX24_47_3 (Nat.le_refl _) (Nat.le_of_ble_eq_true rfl) (Nat.le_of_ble_eq_true rfl) rfl k
theorem sX24_upTo_99 {E : zE} {d : Nat} {Q : zO → zM → Prop} (M : zM) (a0 : Nat) (a1 : Nat) (l2 : Int32) (l3 : Int32) (a4 : Nat) (s0 : Int32) (k : Z E YX25_key d M (zargs 0 [vr (some (a4, 19, 0)), vr (some (a1, 3, 0))]) 0 [] (zafter E YX24_upTo (d + 1) [(0, vr (some (a0, 30, 0))), (1, vr (some (a1, 3, 0))), (2, vi l2), (3, vi l3)] 103 3 [] Q)) : Z E YX24_upTo (d + 1) M [(0, vr (some (a0, 30, 0))), (1, vr (some (a1, 3, 0))), (2, vi l2), (3, vi l3), (4, vr (some (a4, 19, 0)))] 99 [vi s0] Q := by
  refine z_pop dX24_upTo_99 rfl ?_
  refine z_aload dX24_upTo_100 rfl ?_
  refine z_aload_n dX24_upTo_102 rfl rfl ?_
  refine Z.pick [0, 1, 2, 3] rfl ?_
  exact z_callV (as := [vr (some (a1, 3, 0))]) (st := []) dX24_upTo_103 vsX24_39_19 (Nat.le_refl _) (Nat.le_of_ble_eq_true rfl) (Nat.le_of_ble_eq_true rfl) rfl k
theorem sX24_upTo_106 {E : zE} {d : Nat} {Q : zO → zM → Prop} (M : zM) (a0 : Nat) (r1 : Option zP) (l2 : Int32) (l3 : Int32) (k : ∃ b1 : Nat, r1 = some (b1, 3, 0) ∧ (Z E YX3_put d M (zargs 0 [vr (some (b1, 3, 0)), vi (10 : Int32), vi (0 : Int32), vi (0 : Int32)]) 0 [] (zafter E YX24_upTo (d + 1) [(0, vr (some (a0, 30, 0))), (1, vr (some (b1, 3, 0))), (2, vi l2), (3, vi l3)] 111 3 [] Q))) : Z E YX24_upTo (d + 1) M [(0, vr (some (a0, 30, 0))), (1, vr r1), (2, vi l2), (3, vi l3)] 106 [] Q := by
  refine z_aload_n dX24_upTo_106 rfl rfl ?_
  refine z_bipush (v := 10) dX24_upTo_107 rfl ?_
  refine z_iconst (v := 0) dX24_upTo_109 rfl ?_
  refine z_iconst (v := 0) dX24_upTo_110 rfl ?_
  obtain ⟨b1, e1_, k⟩ := k
  refine Z.eqs (lv' := [(0, vr (some (a0, 30, 0))), (1, vr (some (b1, 3, 0))), (2, vi l2), (3, vi l3)]) (st' := [vi (0 : Int32), vi (0 : Int32), vi (10 : Int32), vr (some (b1, 3, 0))]) (by rw [e1_] <;> rfl) (by rw [e1_] <;> rfl) ?_
  exact z_callV (as := [vi (10 : Int32), vi (0 : Int32), vi (0 : Int32)]) (st := []) dX24_upTo_111 vsX24_47_3 (Nat.le_refl _) (Nat.le_of_ble_eq_true rfl) (Nat.le_of_ble_eq_true rfl) rfl k
theorem sX24_upTo_114 {E : zE} {d : Nat} {Q : zO → zM → Prop} (M : zM) (a0 : Nat) (a1 : Nat) (l2 : Int32) (l3 : Int32) (s0 : Int32) (k : Z E YX24_upTo (d + 1) M [(0, vr (some (a0, 30, 0))), (1, vr (some (a1, 3, 0))), (2, vi l2), (3, vi (l3 + (1 : Int32)))] 39 [] Q) : Z E YX24_upTo (d + 1) M [(0, vr (some (a0, 30, 0))), (1, vr (some (a1, 3, 0))), (2, vi l2), (3, vi l3)] 114 [vi s0] Q := by
  refine z_pop dX24_upTo_114 rfl ?_
  refine z_goto (tgt := 173) dX24_upTo_115 rfl ?_
  refine z_inc (v := (l3 + (1 : Int32))) dX24_upTo_173 rfl rfl (by decide) (lv' := [(0, vr (some (a0, 30, 0))), (1, vr (some (a1, 3, 0))), (2, vi l2), (3, vi (l3 + (1 : Int32)))]) rfl ?_
  refine z_goto (tgt := 39) dX24_upTo_176 rfl ?_
  exact k
theorem sX24_upTo_121 {E : zE} {d : Nat} {Q : zO → zM → Prop} (M : zM) (a0 : Nat) (r1 : Option zP) (l2 : Int32) (l3 : Int32) (a4 : Nat) (l5 : Int32) (k : ∃ b1 : Nat, (gr M a4 2) = some (b1, 11, 0) ∧ (Z E YJ2_size d M (zargs 0 [vr (some (b1, 11, 0))]) 0 [] (zafter E YX24_upTo (d + 1) [(0, vr (some (a0, 30, 0))), (1, vr r1), (2, vi l2), (3, vi l3), (4, vr (some (a4, 19, 0))), (5, vi l5)] 128 3 [vi l5] Q))) : Z E YX24_upTo (d + 1) M [(0, vr (some (a0, 30, 0))), (1, vr r1), (2, vi l2), (3, vi l3), (4, vr (some (a4, 19, 0))), (5, vi l5)] 121 [] Q := by
  refine z_iload dX24_upTo_121 rfl ?_
  refine z_aload dX24_upTo_123 rfl ?_
  refine z_getr (r := (gr M a4 2)) dX24_upTo_125 fsX24_32_19 rfl ?_
  obtain ⟨b1, e1_, k⟩ := k
  refine Z.eqs (lv' := [(0, vr (some (a0, 30, 0))), (1, vr r1), (2, vi l2), (3, vi l3), (4, vr (some (a4, 19, 0))), (5, vi l5)]) (st' := [vr (some (b1, 11, 0)), vi l5]) rfl (by rw [e1_] <;> rfl) ?_
  exact z_callV (as := []) (st := [vi l5]) dX24_upTo_128 vsX24_22_11 (Nat.le_refl _) (Nat.le_of_ble_eq_true rfl) (Nat.le_of_ble_eq_true rfl) rfl k
theorem sX24_upTo_131 {E : zE} {d : Nat} {Q : zO → zM → Prop} (M : zM) (a0 : Nat) (r1 : Option zP) (l2 : Int32) (l3 : Int32) (a4 : Nat) (l5 : Int32) (s0 : Int32) (s1 : Int32) (k : if s0 ≤ s1 then (∃ b1 : Nat, (gr M a4 2) = some (b1, 11, 0) ∧ (Z E YJ2_size d M (zargs 0 [vr (some (b1, 11, 0))]) 0 [] (zafter E YX24_upTo (d + 1) [(0, vr (some (a0, 30, 0))), (1, vr r1), (2, vi l2), (3, vi l3)] 165 3 [vi (15 : Int32), vr r1] Q))) else (∃ b1 : Nat, (gr M a4 2) = some (b1, 11, 0) ∧ (Z E YJ2_get d M (zargs 0 [vr (some (b1, 11, 0)), vi l5]) 0 [] (zafter E YX24_upTo (d + 1) [(0, vr (some (a0, 30, 0))), (1, vr r1), (2, vi l2), (3, vi l3), (4, vr (some (a4, 19, 0))), (5, vi l5)] 141 3 [] Q)))) : Z E YX24_upTo (d + 1) M [(0, vr (some (a0, 30, 0))), (1, vr r1), (2, vi l2), (3, vi l3), (4, vr (some (a4, 19, 0))), (5, vi l5)] 131 [vi s0, vi s1] Q := by
  refine z_icmp_ge (tgt := 157) dX24_upTo_131 rfl (fun h_ => ?_) (fun h_ => ?_)
  · have k := zit h_ k
    refine z_aload_n dX24_upTo_157 rfl rfl ?_
    refine z_bipush (v := 15) dX24_upTo_158 rfl ?_
    refine z_aload dX24_upTo_160 rfl ?_
    refine z_getr (r := (gr M a4 2)) dX24_upTo_162 fsX24_32_19 rfl ?_
    obtain ⟨b1, e1_, k⟩ := k
    refine Z.eqs (lv' := [(0, vr (some (a0, 30, 0))), (1, vr r1), (2, vi l2), (3, vi l3), (4, vr (some (a4, 19, 0))), (5, vi l5)]) (st' := [vr (some (b1, 11, 0)), vi (15 : Int32), vr r1]) rfl (by rw [e1_] <;> rfl) ?_
    refine Z.pick [0, 1, 2, 3] rfl ?_
    exact z_callV (as := []) (st := [vi (15 : Int32), vr r1]) dX24_upTo_165 vsX24_22_11 (Nat.le_refl _) (Nat.le_of_ble_eq_true rfl) (Nat.le_of_ble_eq_true rfl) rfl k
  · have k := zif h_ k
    refine z_aload dX24_upTo_134 rfl ?_
    refine z_getr (r := (gr M a4 2)) dX24_upTo_136 fsX24_32_19 rfl ?_
    refine z_iload dX24_upTo_139 rfl ?_
    obtain ⟨b1, e1_, k⟩ := k
    refine Z.eqs (lv' := [(0, vr (some (a0, 30, 0))), (1, vr r1), (2, vi l2), (3, vi l3), (4, vr (some (a4, 19, 0))), (5, vi l5)]) (st' := [vi l5, vr (some (b1, 11, 0))]) rfl (by rw [e1_] <;> rfl) ?_
    exact z_callV (as := [vi l5]) (st := []) dX24_upTo_141 vsX24_26_11 (Nat.le_refl _) (Nat.le_of_ble_eq_true rfl) (Nat.le_of_ble_eq_true rfl) rfl k
theorem sX24_upTo_144 {E : zE} {d : Nat} {Q : zO → zM → Prop} (M : zM) (a0 : Nat) (r1 : Option zP) (l2 : Int32) (l3 : Int32) (a4 : Nat) (l5 : Int32) (u0 : Option zP) (k : ∃ b1 t1 : Nat, u0 = some (b1, t1, 0) ∧ ((20 ≤ t1 ∧ t1 < 45) ∧ (∃ Y_ : zY, vt_code t1 = some Y_ ∧ Z E Y_ d M (zargs 0 [vr (some (b1, t1, 0)), vr r1]) 0 [] (zafter E YX24_upTo (d + 1) [(0, vr (some (a0, 30, 0))), (1, vr r1), (2, vi l2), (3, vi l3), (4, vr (some (a4, 19, 0))), (5, vi l5)] 148 3 [] Q)))) : Z E YX24_upTo (d + 1) M [(0, vr (some (a0, 30, 0))), (1, vr r1), (2, vi l2), (3, vi l3), (4, vr (some (a4, 19, 0))), (5, vi l5)] 144 [vr u0] Q := by
  obtain ⟨b1, t1, e1_, k⟩ := k
  refine Z.eqs (lv' := [(0, vr (some (a0, 30, 0))), (1, vr r1), (2, vi l2), (3, vi l3), (4, vr (some (a4, 19, 0))), (5, vi l5)]) (st' := [vr (some (b1, t1, 0))]) rfl (by rw [e1_] <;> rfl) ?_
  obtain ⟨b_, k⟩ := k
  refine z_ckcast dX24_upTo_144 (ctX24_4 _ b_.1 b_.2) ?_
  refine z_aload_n dX24_upTo_147 rfl rfl ?_
  obtain ⟨Y_, y_, k⟩ := k
  exact z_callV (as := [vr r1]) (st := []) dX24_upTo_148 (vtX24_53 y_).1 (Nat.le_refl _) (Nat.le_trans (Nat.le_of_ble_eq_true rfl) (vtX24_53 y_).2.1) (Nat.le_trans (Nat.add_le_add_left (vtX24_53 y_).2.2 _) (Nat.le_of_ble_eq_true rfl)) rfl k
theorem sX24_upTo_151 {E : zE} {d : Nat} {Q : zO → zM → Prop} (M : zM) (a0 : Nat) (r1 : Option zP) (l2 : Int32) (l3 : Int32) (a4 : Nat) (l5 : Int32) (k : Z E YX24_upTo (d + 1) M [(0, vr (some (a0, 30, 0))), (1, vr r1), (2, vi l2), (3, vi l3), (4, vr (some (a4, 19, 0))), (5, vi (l5 + (1 : Int32)))] 121 [] Q) : Z E YX24_upTo (d + 1) M [(0, vr (some (a0, 30, 0))), (1, vr r1), (2, vi l2), (3, vi l3), (4, vr (some (a4, 19, 0))), (5, vi l5)] 151 [] Q := by
  refine z_inc (v := (l5 + (1 : Int32))) dX24_upTo_151 rfl rfl (by decide) (lv' := [(0, vr (some (a0, 30, 0))), (1, vr r1), (2, vi l2), (3, vi l3), (4, vr (some (a4, 19, 0))), (5, vi (l5 + (1 : Int32)))]) rfl ?_
  refine z_goto (tgt := 121) dX24_upTo_154 rfl ?_
  exact k
theorem sX24_upTo_168 {E : zE} {d : Nat} {Q : zO → zM → Prop} (M : zM) (a0 : Nat) (r1 : Option zP) (l2 : Int32) (l3 : Int32) (s0 : Int32) (s1 : Int32) (u2 : Option zP) (k : ∃ b1 : Nat, u2 = some (b1, 3, 0) ∧ (Z E YX3_put d M (zargs 0 [vr (some (b1, 3, 0)), vi s1, vi s0, vi (0 : Int32)]) 0 [] (zafter E YX24_upTo (d + 1) [(0, vr (some (a0, 30, 0))), (1, vr r1), (2, vi l2), (3, vi l3)] 169 3 [] Q))) : Z E YX24_upTo (d + 1) M [(0, vr (some (a0, 30, 0))), (1, vr r1), (2, vi l2), (3, vi l3)] 168 [vi s0, vi s1, vr u2] Q := by
  refine z_iconst (v := 0) dX24_upTo_168 rfl ?_
  obtain ⟨b1, e1_, k⟩ := k
  refine Z.eqs (lv' := [(0, vr (some (a0, 30, 0))), (1, vr r1), (2, vi l2), (3, vi l3)]) (st' := [vi (0 : Int32), vi s0, vi s1, vr (some (b1, 3, 0))]) rfl (by rw [e1_] <;> rfl) ?_
  exact z_callV (as := [vi s1, vi s0, vi (0 : Int32)]) (st := []) dX24_upTo_169 vsX24_47_3 (Nat.le_refl _) (Nat.le_of_ble_eq_true rfl) (Nat.le_of_ble_eq_true rfl) rfl k
theorem sX24_upTo_172 {E : zE} {d : Nat} {Q : zO → zM → Prop} (M : zM) (a0 : Nat) (r1 : Option zP) (l2 : Int32) (l3 : Int32) (s0 : Int32) (k : Z E YX24_upTo (d + 1) M [(0, vr (some (a0, 30, 0))), (1, vr r1), (2, vi l2), (3, vi (l3 + (1 : Int32)))] 39 [] Q) : Z E YX24_upTo (d + 1) M [(0, vr (some (a0, 30, 0))), (1, vr r1), (2, vi l2), (3, vi l3)] 172 [vi s0] Q := by
  refine z_pop dX24_upTo_172 rfl ?_
  refine z_inc (v := (l3 + (1 : Int32))) dX24_upTo_173 rfl rfl (by decide) (lv' := [(0, vr (some (a0, 30, 0))), (1, vr r1), (2, vi l2), (3, vi (l3 + (1 : Int32)))]) rfl ?_
  refine z_goto (tgt := 39) dX24_upTo_176 rfl ?_
  exact k
/-! ScriptTypes$Left.isPlainCall(I)Z -/
theorem bX24_isPlainCall_0 : zdec cX24_isPlainCall 0 [(0, .aload_n 0, 1), (1, .getfield 12, 3), (4, .iload_n 1, 1), (5, .invokevirtual 26, 3), (8, .checkcast 30, 3), (11, .getfield 32, 3), (14, .ifnull 30, 3), (17, .iload_n 1, 1), (18, .ifCond .eq 22, 3), (21, .aload_n 0, 1), (22, .getfield 12, 3), (25, .iload_n 1, 1), (26, .iconst 1, 1), (27, .isub, 1), (28, .invokevirtual 26, 3), (31, .checkcast 30, 3)] = true := by decide +kernel
theorem dX24_isPlainCall_0 : decode cX24_isPlainCall 0 = .ok (.aload_n 0, 1) := zdec_at bX24_isPlainCall_0 0 rfl
theorem dX24_isPlainCall_1 : decode cX24_isPlainCall 1 = .ok (.getfield 12, 3) := zdec_at bX24_isPlainCall_0 1 rfl
theorem dX24_isPlainCall_4 : decode cX24_isPlainCall 4 = .ok (.iload_n 1, 1) := zdec_at bX24_isPlainCall_0 2 rfl
theorem dX24_isPlainCall_5 : decode cX24_isPlainCall 5 = .ok (.invokevirtual 26, 3) := zdec_at bX24_isPlainCall_0 3 rfl
theorem dX24_isPlainCall_8 : decode cX24_isPlainCall 8 = .ok (.checkcast 30, 3) := zdec_at bX24_isPlainCall_0 4 rfl
theorem dX24_isPlainCall_11 : decode cX24_isPlainCall 11 = .ok (.getfield 32, 3) := zdec_at bX24_isPlainCall_0 5 rfl
theorem dX24_isPlainCall_14 : decode cX24_isPlainCall 14 = .ok (.ifnull 30, 3) := zdec_at bX24_isPlainCall_0 6 rfl
theorem dX24_isPlainCall_17 : decode cX24_isPlainCall 17 = .ok (.iload_n 1, 1) := zdec_at bX24_isPlainCall_0 7 rfl
theorem dX24_isPlainCall_18 : decode cX24_isPlainCall 18 = .ok (.ifCond .eq 22, 3) := zdec_at bX24_isPlainCall_0 8 rfl
theorem dX24_isPlainCall_21 : decode cX24_isPlainCall 21 = .ok (.aload_n 0, 1) := zdec_at bX24_isPlainCall_0 9 rfl
theorem dX24_isPlainCall_22 : decode cX24_isPlainCall 22 = .ok (.getfield 12, 3) := zdec_at bX24_isPlainCall_0 10 rfl
theorem dX24_isPlainCall_25 : decode cX24_isPlainCall 25 = .ok (.iload_n 1, 1) := zdec_at bX24_isPlainCall_0 11 rfl
theorem dX24_isPlainCall_26 : decode cX24_isPlainCall 26 = .ok (.iconst 1, 1) := zdec_at bX24_isPlainCall_0 12 rfl
theorem dX24_isPlainCall_27 : decode cX24_isPlainCall 27 = .ok (.isub, 1) := zdec_at bX24_isPlainCall_0 13 rfl
theorem dX24_isPlainCall_28 : decode cX24_isPlainCall 28 = .ok (.invokevirtual 26, 3) := zdec_at bX24_isPlainCall_0 14 rfl
theorem dX24_isPlainCall_31 : decode cX24_isPlainCall 31 = .ok (.checkcast 30, 3) := zdec_at bX24_isPlainCall_0 15 rfl
theorem bX24_isPlainCall_34 : zdec cX24_isPlainCall 34 [(34, .getfield 32, 3), (37, .ifnull 7, 3), (40, .iconst 1, 1), (41, .goto 4, 3), (44, .iconst 0, 1), (45, .ireturn, 1)] = true := by decide +kernel
theorem dX24_isPlainCall_34 : decode cX24_isPlainCall 34 = .ok (.getfield 32, 3) := zdec_at bX24_isPlainCall_34 0 rfl
theorem dX24_isPlainCall_37 : decode cX24_isPlainCall 37 = .ok (.ifnull 7, 3) := zdec_at bX24_isPlainCall_34 1 rfl
theorem dX24_isPlainCall_40 : decode cX24_isPlainCall 40 = .ok (.iconst 1, 1) := zdec_at bX24_isPlainCall_34 2 rfl
theorem dX24_isPlainCall_41 : decode cX24_isPlainCall 41 = .ok (.goto 4, 3) := zdec_at bX24_isPlainCall_34 3 rfl
theorem dX24_isPlainCall_44 : decode cX24_isPlainCall 44 = .ok (.iconst 0, 1) := zdec_at bX24_isPlainCall_34 4 rfl
theorem dX24_isPlainCall_45 : decode cX24_isPlainCall 45 = .ok (.ireturn, 1) := zdec_at bX24_isPlainCall_34 5 rfl
theorem sX24_isPlainCall_0 {E : zE} {d : Nat} {Q : zO → zM → Prop} (M : zM) (a0 : Nat) (l1 : Int32) (k : ∃ b1 : Nat, (gr M a0 1) = some (b1, 11, 0) ∧ (Z E YJ2_get d M (zargs 0 [vr (some (b1, 11, 0)), vi l1]) 0 [] (zafter E YX24_isPlainCall (d + 1) [(0, vr (some (a0, 30, 0))), (1, vi l1)] 5 3 [] Q))) : Z E YX24_isPlainCall (d + 1) M [(0, vr (some (a0, 30, 0))), (1, vi l1)] 0 [] Q := by
  refine z_aload_n dX24_isPlainCall_0 rfl rfl ?_
  refine z_getr (r := (gr M a0 1)) dX24_isPlainCall_1 fsX24_12_30 rfl ?_
  refine z_iload_n dX24_isPlainCall_4 rfl rfl ?_
  obtain ⟨b1, e1_, k⟩ := k
  refine Z.eqs (lv' := [(0, vr (some (a0, 30, 0))), (1, vi l1)]) (st' := [vi l1, vr (some (b1, 11, 0))]) rfl (by rw [e1_] <;> rfl) ?_
  exact z_callV (as := [vi l1]) (st := []) dX24_isPlainCall_5 vsX24_26_11 (Nat.le_refl _) (Nat.le_of_ble_eq_true rfl) (Nat.le_of_ble_eq_true rfl) rfl k
theorem sX24_isPlainCall_8 {E : zE} {d : Nat} {Q : zO → zM → Prop} (M : zM) (a0 : Nat) (l1 : Int32) (u0 : Option zP) (k : ∃ b1 : Nat, u0 = some (b1, 19, 0) ∧ (if (gr M b1 2) = none then (Q (.inl (some (vi (0 : Int32)))) M) else (if l1 = 0 then (Q (.inl (some (vi (1 : Int32)))) M) else (∃ b2 : Nat, (gr M a0 1) = some (b2, 11, 0) ∧ (Z E YJ2_get d M (zargs 0 [vr (some (b2, 11, 0)), vi (l1 - (1 : Int32))]) 0 [] (zafter E YX24_isPlainCall (d + 1) [] 28 3 [] Q)))))) : Z E YX24_isPlainCall (d + 1) M [(0, vr (some (a0, 30, 0))), (1, vi l1)] 8 [vr u0] Q := by
  obtain ⟨b1, e1_, k⟩ := k
  refine Z.eqs (lv' := [(0, vr (some (a0, 30, 0))), (1, vi l1)]) (st' := [vr (some (b1, 19, 0))]) rfl (by rw [e1_] <;> rfl) ?_
  refine z_ckcast dX24_isPlainCall_8 ctX24_30_19 ?_
  refine z_getr (r := (gr M b1 2)) dX24_isPlainCall_11 fsX24_32_19 rfl ?_
  refine z_ifnull (tgt := 44) dX24_isPlainCall_14 rfl (fun h_ => ?_) (fun h_ => ?_)
  · have k := zit h_ k
    refine z_iconst (v := 0) dX24_isPlainCall_44 rfl ?_
    exact z_iret dX24_isPlainCall_45 rfl (by decide) k
  · have k := zif h_ k
    refine z_iload_n dX24_isPlainCall_17 rfl rfl ?_
    refine z_if_eq (tgt := 40) dX24_isPlainCall_18 rfl (fun h_ => ?_) (fun h_ => ?_)
    · have k := zit h_ k
      refine z_iconst (v := 1) dX24_isPlainCall_40 rfl ?_
      refine z_goto (tgt := 45) dX24_isPlainCall_41 rfl ?_
      exact z_iret dX24_isPlainCall_45 rfl (by decide) k
    · have k := zif h_ k
      refine z_aload_n dX24_isPlainCall_21 rfl rfl ?_
      refine z_getr (r := (gr M a0 1)) dX24_isPlainCall_22 fsX24_12_30 rfl ?_
      refine z_iload_n dX24_isPlainCall_25 rfl rfl ?_
      refine z_iconst (v := 1) dX24_isPlainCall_26 rfl ?_
      refine z_isub dX24_isPlainCall_27 ?_
      obtain ⟨b2, e2_, k⟩ := k
      refine Z.eqs (lv' := [(0, vr (some (a0, 30, 0))), (1, vi l1)]) (st' := [vi (l1 - (1 : Int32)), vr (some (b2, 11, 0))]) rfl (by rw [e2_] <;> rfl) ?_
      refine Z.pick [] rfl ?_
      exact z_callV (as := [vi (l1 - (1 : Int32))]) (st := []) dX24_isPlainCall_28 vsX24_26_11 (Nat.le_refl _) (Nat.le_of_ble_eq_true rfl) (Nat.le_of_ble_eq_true rfl) rfl k
theorem sX24_isPlainCall_31 {E : zE} {d : Nat} {Q : zO → zM → Prop} (M : zM) (u0 : Option zP) (k : ∃ b1 : Nat, u0 = some (b1, 19, 0) ∧ (if (gr M b1 2) = none then (Q (.inl (some (vi (0 : Int32)))) M) else (Q (.inl (some (vi (1 : Int32)))) M))) : Z E YX24_isPlainCall (d + 1) M [] 31 [vr u0] Q := by
  obtain ⟨b1, e1_, k⟩ := k
  refine Z.eqs (lv' := []) (st' := [vr (some (b1, 19, 0))]) rfl (by rw [e1_] <;> rfl) ?_
  refine z_ckcast dX24_isPlainCall_31 ctX24_30_19 ?_
  refine z_getr (r := (gr M b1 2)) dX24_isPlainCall_34 fsX24_32_19 rfl ?_
  refine z_ifnull (tgt := 44) dX24_isPlainCall_37 rfl (fun h_ => ?_) (fun h_ => ?_)
  · have k := zit h_ k
    refine z_iconst (v := 0) dX24_isPlainCall_44 rfl ?_
    exact z_iret dX24_isPlainCall_45 rfl (by decide) k
  · have k := zif h_ k
    refine z_iconst (v := 1) dX24_isPlainCall_40 rfl ?_
    refine z_goto (tgt := 45) dX24_isPlainCall_41 rfl ?_
    exact z_iret dX24_isPlainCall_45 rfl (by decide) k
/-! ScriptTypes$Left.code(LScriptTypes$Coder;)V -/
theorem bX24_code_0 : zdec cX24_code 0 [(0, .aload_n 0, 1), (1, .aload_n 1, 1), (2, .aload_n 0, 1), (3, .getfield 12, 3), (6, .invokevirtual 22, 3), (9, .invokevirtual 35, 3), (12, .return_, 1)] = true := by decide +kernel
theorem dX24_code_0 : decode cX24_code 0 = .ok (.aload_n 0, 1) := zdec_at bX24_code_0 0 rfl
theorem dX24_code_1 : decode cX24_code 1 = .ok (.aload_n 1, 1) := zdec_at bX24_code_0 1 rfl
theorem dX24_code_2 : decode cX24_code 2 = .ok (.aload_n 0, 1) := zdec_at bX24_code_0 2 rfl
theorem dX24_code_3 : decode cX24_code 3 = .ok (.getfield 12, 3) := zdec_at bX24_code_0 3 rfl
theorem dX24_code_6 : decode cX24_code 6 = .ok (.invokevirtual 22, 3) := zdec_at bX24_code_0 4 rfl
theorem dX24_code_9 : decode cX24_code 9 = .ok (.invokevirtual 35, 3) := zdec_at bX24_code_0 5 rfl
theorem dX24_code_12 : decode cX24_code 12 = .ok (.return_, 1) := zdec_at bX24_code_0 6 rfl
theorem sX24_code_0 {E : zE} {d : Nat} {Q : zO → zM → Prop} (M : zM) (a0 : Nat) (r1 : Option zP) (k : ∃ b1 : Nat, (gr M a0 1) = some (b1, 11, 0) ∧ (Z E YJ2_size d M (zargs 0 [vr (some (b1, 11, 0))]) 0 [] (zafter E YX24_code (d + 1) [] 6 3 [vr r1, vr (some (a0, 30, 0))] Q))) : Z E YX24_code (d + 1) M [(0, vr (some (a0, 30, 0))), (1, vr r1)] 0 [] Q := by
  refine z_aload_n dX24_code_0 rfl rfl ?_
  refine z_aload_n dX24_code_1 rfl rfl ?_
  refine z_aload_n dX24_code_2 rfl rfl ?_
  refine z_getr (r := (gr M a0 1)) dX24_code_3 fsX24_12_30 rfl ?_
  obtain ⟨b1, e1_, k⟩ := k
  refine Z.eqs (lv' := [(0, vr (some (a0, 30, 0))), (1, vr r1)]) (st' := [vr (some (b1, 11, 0)), vr r1, vr (some (a0, 30, 0))]) rfl (by rw [e1_] <;> rfl) ?_
  refine Z.pick [] rfl ?_
  exact z_callV (as := []) (st := [vr r1, vr (some (a0, 30, 0))]) dX24_code_6 vsX24_22_11 (Nat.le_refl _) (Nat.le_of_ble_eq_true rfl) (Nat.le_of_ble_eq_true rfl) rfl k
theorem sX24_code_9 {E : zE} {d : Nat} {Q : zO → zM → Prop} (M : zM) (s0 : Int32) (u1 : Option zP) (a0 : Nat) (k : Z E YX24_upTo d M (zargs 0 [vr (some (a0, 30, 0)), vr u1, vi s0]) 0 [] (zafter E YX24_code (d + 1) [] 9 3 [] Q)) : Z E YX24_code (d + 1) M [] 9 [vi s0, vr u1, vr (some (a0, 30, 0))] Q := by
  exact z_callV (as := [vr u1, vi s0]) (st := []) dX24_code_9 vsX24_35_30 (Nat.le_refl _) (Nat.le_of_ble_eq_true rfl) (Nat.le_of_ble_eq_true rfl) rfl k
theorem sX24_code_12 {E : zE} {d : Nat} {Q : zO → zM → Prop} (M : zM)  (k : Q (.inl none) M) : Z E YX24_code (d + 1) M [] 12 [] Q := by
  exact z_vret dX24_code_12 rfl k
/-! ScriptTypes$Suffix.<init>(ILScriptTypes$Node;Ljava/util/ArrayList;)V -/
theorem bX25_init_0 : zdec cX25_init 0 [(0, .aload_n 0, 1), (1, .invokespecial 3, 3), (4, .aload_n 0, 1), (5, .iload_n 1, 1), (6, .putfield 9, 3), (9, .aload_n 0, 1), (10, .aload_n 2, 1), (11, .putfield 15, 3), (14, .aload_n 0, 1), (15, .aload_n 3, 1), (16, .putfield 19, 3), (19, .return_, 1)] = true := by decide +kernel
theorem dX25_init_0 : decode cX25_init 0 = .ok (.aload_n 0, 1) := zdec_at bX25_init_0 0 rfl
theorem dX25_init_1 : decode cX25_init 1 = .ok (.invokespecial 3, 3) := zdec_at bX25_init_0 1 rfl
theorem dX25_init_4 : decode cX25_init 4 = .ok (.aload_n 0, 1) := zdec_at bX25_init_0 2 rfl
theorem dX25_init_5 : decode cX25_init 5 = .ok (.iload_n 1, 1) := zdec_at bX25_init_0 3 rfl
theorem dX25_init_6 : decode cX25_init 6 = .ok (.putfield 9, 3) := zdec_at bX25_init_0 4 rfl
theorem dX25_init_9 : decode cX25_init 9 = .ok (.aload_n 0, 1) := zdec_at bX25_init_0 5 rfl
theorem dX25_init_10 : decode cX25_init 10 = .ok (.aload_n 2, 1) := zdec_at bX25_init_0 6 rfl
theorem dX25_init_11 : decode cX25_init 11 = .ok (.putfield 15, 3) := zdec_at bX25_init_0 7 rfl
theorem dX25_init_14 : decode cX25_init 14 = .ok (.aload_n 0, 1) := zdec_at bX25_init_0 8 rfl
theorem dX25_init_15 : decode cX25_init 15 = .ok (.aload_n 3, 1) := zdec_at bX25_init_0 9 rfl
theorem dX25_init_16 : decode cX25_init 16 = .ok (.putfield 19, 3) := zdec_at bX25_init_0 10 rfl
theorem dX25_init_19 : decode cX25_init 19 = .ok (.return_, 1) := zdec_at bX25_init_0 11 rfl
theorem sX25_init_0 {E : zE} {d : Nat} {Q : zO → zM → Prop} (M : zM) (a0 : Nat) (l1 : Int32) (r2 : Option zP) (r3 : Option zP) (k : 16 ≤ a0 ∧ (16 ≤ a0 ∧ (16 ≤ a0 ∧ (Q (.inl none) (sr (sr (si M a0 0 l1) a0 1 r2) a0 2 r3))))) : Z E YX25_init (d + 1) M [(0, vr (some (a0, 19, 0))), (1, vi l1), (2, vr r2), (3, vr r3)] 0 [] Q := by
  refine z_aload_n dX25_init_0 rfl rfl ?_
  refine z_objInit dX25_init_1 oiX25_3 (by omega) (by decide) ?_
  refine z_aload_n dX25_init_4 rfl rfl ?_
  refine z_iload_n dX25_init_5 rfl rfl ?_
  obtain ⟨g_, k⟩ := k
  refine z_puti g_ dX25_init_6 (zfwN.f fwX25_9_19 rfl (fun q h => by rw [← Option.some.inj h]; rfl)) rfl ⟨rfl, rfl⟩ ?_
  refine z_aload_n dX25_init_9 rfl rfl ?_
  refine z_aload_n dX25_init_10 rfl rfl ?_
  obtain ⟨g_, k⟩ := k
  refine z_putr g_ dX25_init_11 (zfwN.f fwX25_15_19 rfl (fun q h => by rw [← Option.some.inj h]; rfl)) rfl ?_
  refine z_aload_n dX25_init_14 rfl rfl ?_
  refine z_aload_n dX25_init_15 rfl rfl ?_
  obtain ⟨g_, k⟩ := k
  refine z_putr g_ dX25_init_16 (zfwN.f fwX25_19_19 rfl (fun q h => by rw [← Option.some.inj h]; rfl)) rfl ?_
  exact z_vret dX25_init_19 rfl k
/-! ScriptTypes$Suffix.key(LScriptTypes$Coder;)V -/
theorem bX25_key_0 : zdec cX25_key 0 [(0, .aload_n 0, 1), (1, .getfield 15, 3), (4, .ifnull 14, 3), (7, .aload_n 0, 1), (8, .getfield 15, 3), (11, .aload_n 1, 1), (12, .invokevirtual 23, 3), (15, .goto 15, 3), (18, .aload_n 1, 1), (19, .iconst 0, 1), (20, .bipush 6, 2), (22, .aload_n 0, 1), (23, .getfield 9, 3), (26, .invokevirtual 29, 3), (29, .pop, 1), (30, .return_, 1)] = true := by decide +kernel
theorem dX25_key_0 : decode cX25_key 0 = .ok (.aload_n 0, 1) := zdec_at bX25_key_0 0 rfl
theorem dX25_key_1 : decode cX25_key 1 = .ok (.getfield 15, 3) := zdec_at bX25_key_0 1 rfl
theorem dX25_key_4 : decode cX25_key 4 = .ok (.ifnull 14, 3) := zdec_at bX25_key_0 2 rfl
theorem dX25_key_7 : decode cX25_key 7 = .ok (.aload_n 0, 1) := zdec_at bX25_key_0 3 rfl
theorem dX25_key_8 : decode cX25_key 8 = .ok (.getfield 15, 3) := zdec_at bX25_key_0 4 rfl
theorem dX25_key_11 : decode cX25_key 11 = .ok (.aload_n 1, 1) := zdec_at bX25_key_0 5 rfl
theorem dX25_key_12 : decode cX25_key 12 = .ok (.invokevirtual 23, 3) := zdec_at bX25_key_0 6 rfl
theorem dX25_key_15 : decode cX25_key 15 = .ok (.goto 15, 3) := zdec_at bX25_key_0 7 rfl
theorem dX25_key_18 : decode cX25_key 18 = .ok (.aload_n 1, 1) := zdec_at bX25_key_0 8 rfl
theorem dX25_key_19 : decode cX25_key 19 = .ok (.iconst 0, 1) := zdec_at bX25_key_0 9 rfl
theorem dX25_key_20 : decode cX25_key 20 = .ok (.bipush 6, 2) := zdec_at bX25_key_0 10 rfl
theorem dX25_key_22 : decode cX25_key 22 = .ok (.aload_n 0, 1) := zdec_at bX25_key_0 11 rfl
theorem dX25_key_23 : decode cX25_key 23 = .ok (.getfield 9, 3) := zdec_at bX25_key_0 12 rfl
theorem dX25_key_26 : decode cX25_key 26 = .ok (.invokevirtual 29, 3) := zdec_at bX25_key_0 13 rfl
theorem dX25_key_29 : decode cX25_key 29 = .ok (.pop, 1) := zdec_at bX25_key_0 14 rfl
theorem dX25_key_30 : decode cX25_key 30 = .ok (.return_, 1) := zdec_at bX25_key_0 15 rfl
theorem sX25_key_0 {E : zE} {d : Nat} {Q : zO → zM → Prop} (M : zM) (a0 : Nat) (r1 : Option zP) (k : if (gr M a0 1) = none then (∃ b1 : Nat, r1 = some (b1, 3, 0) ∧ (Z E YX3_put d M (zargs 0 [vr (some (b1, 3, 0)), vi (0 : Int32), vi (6 : Int32), vi (gi M a0 0)]) 0 [] (zafter E YX25_key (d + 1) [] 26 3 [] Q))) else (∃ b1 t1 : Nat, (gr M a0 1) = some (b1, t1, 0) ∧ (∃ Y_ : zY, vt_code t1 = some Y_ ∧ Z E Y_ d M (zargs 0 [vr (some (b1, t1, 0)), vr r1]) 0 [] (zafter E YX25_key (d + 1) [] 12 3 [] Q)))) : Z E YX25_key (d + 1) M [(0, vr (some (a0, 19, 0))), (1, vr r1)] 0 [] Q := by
  refine z_aload_n dX25_key_0 rfl rfl ?_
  refine z_getr (r := (gr M a0 1)) dX25_key_1 fsX25_15_19 rfl ?_
  refine z_ifnull (tgt := 18) dX25_key_4 rfl (fun h_ => ?_) (fun h_ => ?_)
  · have k := zit h_ k
    refine z_aload_n dX25_key_18 rfl rfl ?_
    refine z_iconst (v := 0) dX25_key_19 rfl ?_
    refine z_bipush (v := 6) dX25_key_20 rfl ?_
    refine z_aload_n dX25_key_22 rfl rfl ?_
    refine z_geti dX25_key_23 fsX25_9_19 ?_
    obtain ⟨b1, e1_, k⟩ := k
    refine Z.eqs (lv' := [(0, vr (some (a0, 19, 0))), (1, vr (some (b1, 3, 0)))]) (st' := [vi (gi M a0 0), vi (6 : Int32), vi (0 : Int32), vr (some (b1, 3, 0))]) (by rw [e1_] <;> rfl) (by rw [e1_] <;> rfl) ?_
    refine Z.pick [] rfl ?_
    exact z_callV (as := [vi (0 : Int32), vi (6 : Int32), vi (gi M a0 0)]) (st := []) dX25_key_26 vsX25_29_3 (Nat.le_refl _) (Nat.le_of_ble_eq_true rfl) (Nat.le_of_ble_eq_true rfl) rfl k
  · have k := zif h_ k
    refine z_aload_n dX25_key_7 rfl rfl ?_
    refine z_getr (r := (gr M a0 1)) dX25_key_8 fsX25_15_19 rfl ?_
    refine z_aload_n dX25_key_11 rfl rfl ?_
    obtain ⟨b1, t1, e1_, k⟩ := k
    refine Z.eqs (lv' := [(0, vr (some (a0, 19, 0))), (1, vr r1)]) (st' := [vr r1, vr (some (b1, t1, 0))]) rfl (by rw [e1_] <;> rfl) ?_
    refine Z.pick [] rfl ?_
    obtain ⟨Y_, y_, k⟩ := k
    exact z_callV (as := [vr r1]) (st := []) dX25_key_12 (vtX25_23 y_).1 (Nat.le_refl _) (Nat.le_trans (Nat.le_of_ble_eq_true rfl) (vtX25_23 y_).2.1) (Nat.le_trans (Nat.add_le_add_left (vtX25_23 y_).2.2 _) (Nat.le_of_ble_eq_true rfl)) rfl k
theorem sX25_key_15 {E : zE} {d : Nat} {Q : zO → zM → Prop} (M : zM)  (k : Q (.inl none) M) : Z E YX25_key (d + 1) M [] 15 [] Q := by
  refine z_goto (tgt := 30) dX25_key_15 rfl ?_
  exact z_vret dX25_key_30 rfl k
theorem sX25_key_29 {E : zE} {d : Nat} {Q : zO → zM → Prop} (M : zM) (s0 : Int32) (k : Q (.inl none) M) : Z E YX25_key (d + 1) M [] 29 [vi s0] Q := by
  refine z_pop dX25_key_29 rfl ?_
  exact z_vret dX25_key_30 rfl k
/-! ScriptTypes$New.<init>(LScriptTypes$Node;Ljava/util/ArrayList;)V -/
theorem bX26_init_0 : zdec cX26_init 0 [(0, .aload_n 0, 1), (1, .invokespecial 3, 3), (4, .aload_n 0, 1), (5, .aload_n 1, 1), (6, .putfield 9, 3), (9, .aload_n 0, 1), (10, .aload_n 2, 1), (11, .putfield 15, 3), (14, .return_, 1)] = true := by decide +kernel
theorem dX26_init_0 : decode cX26_init 0 = .ok (.aload_n 0, 1) := zdec_at bX26_init_0 0 rfl
theorem dX26_init_1 : decode cX26_init 1 = .ok (.invokespecial 3, 3) := zdec_at bX26_init_0 1 rfl
theorem dX26_init_4 : decode cX26_init 4 = .ok (.aload_n 0, 1) := zdec_at bX26_init_0 2 rfl
theorem dX26_init_5 : decode cX26_init 5 = .ok (.aload_n 1, 1) := zdec_at bX26_init_0 3 rfl
theorem dX26_init_6 : decode cX26_init 6 = .ok (.putfield 9, 3) := zdec_at bX26_init_0 4 rfl
theorem dX26_init_9 : decode cX26_init 9 = .ok (.aload_n 0, 1) := zdec_at bX26_init_0 5 rfl
theorem dX26_init_10 : decode cX26_init 10 = .ok (.aload_n 2, 1) := zdec_at bX26_init_0 6 rfl
theorem dX26_init_11 : decode cX26_init 11 = .ok (.putfield 15, 3) := zdec_at bX26_init_0 7 rfl
theorem dX26_init_14 : decode cX26_init 14 = .ok (.return_, 1) := zdec_at bX26_init_0 8 rfl
theorem sX26_init_0 {E : zE} {d : Nat} {Q : zO → zM → Prop} (M : zM) (a0 : Nat) (r1 : Option zP) (r2 : Option zP) (k : Z E YX13_init d M (zargs 0 [vr (some (a0, 31, 0))]) 0 [] (zafter E YX26_init (d + 1) [(0, vr (some (a0, 31, 0))), (1, vr r1), (2, vr r2)] 1 3 [] Q)) : Z E YX26_init (d + 1) M [(0, vr (some (a0, 31, 0))), (1, vr r1), (2, vr r2)] 0 [] Q := by
  refine z_aload_n dX26_init_0 rfl rfl ?_
  exact z_callI (as := []) (st := []) dX26_init_1 isX26_3 (Nat.le_refl _) (Nat.le_of_ble_eq_true rfl) (Nat.le_of_ble_eq_true rfl) rfl k
theorem sX26_init_4 {E : zE} {d : Nat} {Q : zO → zM → Prop} (M : zM) (a0 : Nat) (r1 : Option zP) (r2 : Option zP) (k : 16 ≤ a0 ∧ (16 ≤ a0 ∧ (Q (.inl none) (sr (sr M a0 0 r1) a0 1 r2)))) : Z E YX26_init (d + 1) M [(0, vr (some (a0, 31, 0))), (1, vr r1), (2, vr r2)] 4 [] Q := by
  refine z_aload_n dX26_init_4 rfl rfl ?_
  refine z_aload_n dX26_init_5 rfl rfl ?_
  obtain ⟨g_, k⟩ := k
  refine z_putr g_ dX26_init_6 (zfwN.f fwX26_9_31 rfl (fun q h => by rw [← Option.some.inj h]; rfl)) rfl ?_
  refine z_aload_n dX26_init_9 rfl rfl ?_
  refine z_aload_n dX26_init_10 rfl rfl ?_
  obtain ⟨g_, k⟩ := k
  refine z_putr g_ dX26_init_11 (zfwN.f fwX26_15_31 rfl (fun q h => by rw [← Option.some.inj h]; rfl)) rfl ?_
  exact z_vret dX26_init_14 rfl k
/-! ScriptTypes$New.code(LScriptTypes$Coder;)V -/
theorem bX26_code_0 : zdec cX26_code 0 [(0, .aload_n 0, 1), (1, .getfield 9, 3), (4, .aload_n 1, 1), (5, .invokevirtual 19, 3), (8, .iconst 0, 1), (9, .istore_n 2, 1), (10, .iload_n 2, 1), (11, .aload_n 0, 1), (12, .getfield 15, 3), (15, .invokevirtual 23, 3), (18, .if_icmp .ge 24, 3), (21, .aload_n 0, 1), (22, .getfield 15, 3), (25, .iload_n 2, 1), (26, .invokevirtual 29, 3), (29, .checkcast 4, 3)] = true := by decide +kernel
theorem dX26_code_0 : decode cX26_code 0 = .ok (.aload_n 0, 1) := zdec_at bX26_code_0 0 rfl
theorem dX26_code_1 : decode cX26_code 1 = .ok (.getfield 9, 3) := zdec_at bX26_code_0 1 rfl
theorem dX26_code_4 : decode cX26_code 4 = .ok (.aload_n 1, 1) := zdec_at bX26_code_0 2 rfl
theorem dX26_code_5 : decode cX26_code 5 = .ok (.invokevirtual 19, 3) := zdec_at bX26_code_0 3 rfl
theorem dX26_code_8 : decode cX26_code 8 = .ok (.iconst 0, 1) := zdec_at bX26_code_0 4 rfl
theorem dX26_code_9 : decode cX26_code 9 = .ok (.istore_n 2, 1) := zdec_at bX26_code_0 5 rfl
theorem dX26_code_10 : decode cX26_code 10 = .ok (.iload_n 2, 1) := zdec_at bX26_code_0 6 rfl
theorem dX26_code_11 : decode cX26_code 11 = .ok (.aload_n 0, 1) := zdec_at bX26_code_0 7 rfl
theorem dX26_code_12 : decode cX26_code 12 = .ok (.getfield 15, 3) := zdec_at bX26_code_0 8 rfl
theorem dX26_code_15 : decode cX26_code 15 = .ok (.invokevirtual 23, 3) := zdec_at bX26_code_0 9 rfl
theorem dX26_code_18 : decode cX26_code 18 = .ok (.if_icmp .ge 24, 3) := zdec_at bX26_code_0 10 rfl
theorem dX26_code_21 : decode cX26_code 21 = .ok (.aload_n 0, 1) := zdec_at bX26_code_0 11 rfl
theorem dX26_code_22 : decode cX26_code 22 = .ok (.getfield 15, 3) := zdec_at bX26_code_0 12 rfl
theorem dX26_code_25 : decode cX26_code 25 = .ok (.iload_n 2, 1) := zdec_at bX26_code_0 13 rfl
theorem dX26_code_26 : decode cX26_code 26 = .ok (.invokevirtual 29, 3) := zdec_at bX26_code_0 14 rfl
theorem dX26_code_29 : decode cX26_code 29 = .ok (.checkcast 4, 3) := zdec_at bX26_code_0 15 rfl
theorem bX26_code_32 : zdec cX26_code 32 [(32, .aload_n 1, 1), (33, .invokevirtual 19, 3), (36, .iinc 2 1, 3), (39, .goto (-29), 3), (42, .aload_n 1, 1), (43, .bipush 16, 2), (45, .aload_n 0, 1), (46, .getfield 15, 3), (49, .invokevirtual 23, 3), (52, .invokevirtual 33, 3), (55, .return_, 1)] = true := by decide +kernel
theorem dX26_code_32 : decode cX26_code 32 = .ok (.aload_n 1, 1) := zdec_at bX26_code_32 0 rfl
theorem dX26_code_33 : decode cX26_code 33 = .ok (.invokevirtual 19, 3) := zdec_at bX26_code_32 1 rfl
theorem dX26_code_36 : decode cX26_code 36 = .ok (.iinc 2 1, 3) := zdec_at bX26_code_32 2 rfl
theorem dX26_code_39 : decode cX26_code 39 = .ok (.goto (-29), 3) := zdec_at bX26_code_32 3 rfl
theorem dX26_code_42 : decode cX26_code 42 = .ok (.aload_n 1, 1) := zdec_at bX26_code_32 4 rfl
theorem dX26_code_43 : decode cX26_code 43 = .ok (.bipush 16, 2) := zdec_at bX26_code_32 5 rfl
theorem dX26_code_45 : decode cX26_code 45 = .ok (.aload_n 0, 1) := zdec_at bX26_code_32 6 rfl
theorem dX26_code_46 : decode cX26_code 46 = .ok (.getfield 15, 3) := zdec_at bX26_code_32 7 rfl
theorem dX26_code_49 : decode cX26_code 49 = .ok (.invokevirtual 23, 3) := zdec_at bX26_code_32 8 rfl
theorem dX26_code_52 : decode cX26_code 52 = .ok (.invokevirtual 33, 3) := zdec_at bX26_code_32 9 rfl
theorem dX26_code_55 : decode cX26_code 55 = .ok (.return_, 1) := zdec_at bX26_code_32 10 rfl
theorem sX26_code_0 {E : zE} {d : Nat} {Q : zO → zM → Prop} (M : zM) (a0 : Nat) (r1 : Option zP) (k : ∃ b1 t1 : Nat, (gr M a0 0) = some (b1, t1, 0) ∧ (∃ Y_ : zY, vt_code t1 = some Y_ ∧ Z E Y_ d M (zargs 0 [vr (some (b1, t1, 0)), vr r1]) 0 [] (zafter E YX26_code (d + 1) [(0, vr (some (a0, 31, 0))), (1, vr r1)] 5 3 [] Q))) : Z E YX26_code (d + 1) M [(0, vr (some (a0, 31, 0))), (1, vr r1)] 0 [] Q := by
  refine z_aload_n dX26_code_0 rfl rfl ?_
  refine z_getr (r := (gr M a0 0)) dX26_code_1 fsX26_9_31 rfl ?_
  refine z_aload_n dX26_code_4 rfl rfl ?_
  obtain ⟨b1, t1, e1_, k⟩ := k
  refine Z.eqs (lv' := [(0, vr (some (a0, 31, 0))), (1, vr r1)]) (st' := [vr r1, vr (some (b1, t1, 0))]) rfl (by rw [e1_] <;> rfl) ?_
  obtain ⟨Y_, y_, k⟩ := k
  exact z_callV (as := [vr r1]) (st := []) dX26_code_5 (vtX26_19 y_).1 (Nat.le_refl _) (Nat.le_trans (Nat.le_of_ble_eq_true rfl) (vtX26_19 y_).2.1) (Nat.le_trans (Nat.add_le_add_left (vtX26_19 y_).2.2 _) (Nat.le_of_ble_eq_true rfl)) rfl k
theorem sX26_code_8 {E : zE} {d : Nat} {Q : zO → zM → Prop} (M : zM) (a0 : Nat) (r1 : Option zP) (k : Z E YX26_code (d + 1) M [(0, vr (some (a0, 31, 0))), (1, vr r1), (2, vi (0 : Int32))] 10 [] Q) : Z E YX26_code (d + 1) M [(0, vr (some (a0, 31, 0))), (1, vr r1)] 8 [] Q := by
  refine z_iconst (v := 0) dX26_code_8 rfl ?_
  refine z_ist_n dX26_code_9 rfl (by decide) (lv' := [(0, vr (some (a0, 31, 0))), (1, vr r1), (2, vi (0 : Int32))]) rfl ?_
  exact k
theorem sX26_code_10 {E : zE} {d : Nat} {Q : zO → zM → Prop} (M : zM) (a0 : Nat) (r1 : Option zP) (l2 : Int32) (k : ∃ b1 : Nat, (gr M a0 1) = some (b1, 11, 0) ∧ (Z E YJ2_size d M (zargs 0 [vr (some (b1, 11, 0))]) 0 [] (zafter E YX26_code (d + 1) [(0, vr (some (a0, 31, 0))), (1, vr r1), (2, vi l2)] 15 3 [vi l2] Q))) : Z E YX26_code (d + 1) M [(0, vr (some (a0, 31, 0))), (1, vr r1), (2, vi l2)] 10 [] Q := by
  refine z_iload_n dX26_code_10 rfl rfl ?_
  refine z_aload_n dX26_code_11 rfl rfl ?_
  refine z_getr (r := (gr M a0 1)) dX26_code_12 fsX26_15_31 rfl ?_
  obtain ⟨b1, e1_, k⟩ := k
  refine Z.eqs (lv' := [(0, vr (some (a0, 31, 0))), (1, vr r1), (2, vi l2)]) (st' := [vr (some (b1, 11, 0)), vi l2]) rfl (by rw [e1_] <;> rfl) ?_
  exact z_callV (as := []) (st := [vi l2]) dX26_code_15 vsX26_23_11 (Nat.le_refl _) (Nat.le_of_ble_eq_true rfl) (Nat.le_of_ble_eq_true rfl) rfl k
theorem sX26_code_18 {E : zE} {d : Nat} {Q : zO → zM → Prop} (M : zM) (a0 : Nat) (r1 : Option zP) (l2 : Int32) (s0 : Int32) (s1 : Int32) (k : if s0 ≤ s1 then (∃ b1 : Nat, (gr M a0 1) = some (b1, 11, 0) ∧ (Z E YJ2_size d M (zargs 0 [vr (some (b1, 11, 0))]) 0 [] (zafter E YX26_code (d + 1) [] 49 3 [vi (16 : Int32), vr r1] Q))) else (∃ b1 : Nat, (gr M a0 1) = some (b1, 11, 0) ∧ (Z E YJ2_get d M (zargs 0 [vr (some (b1, 11, 0)), vi l2]) 0 [] (zafter E YX26_code (d + 1) [(0, vr (some (a0, 31, 0))), (1, vr r1), (2, vi l2)] 26 3 [] Q)))) : Z E YX26_code (d + 1) M [(0, vr (some (a0, 31, 0))), (1, vr r1), (2, vi l2)] 18 [vi s0, vi s1] Q := by
  refine z_icmp_ge (tgt := 42) dX26_code_18 rfl (fun h_ => ?_) (fun h_ => ?_)
  · have k := zit h_ k
    refine z_aload_n dX26_code_42 rfl rfl ?_
    refine z_bipush (v := 16) dX26_code_43 rfl ?_
    refine z_aload_n dX26_code_45 rfl rfl ?_
    refine z_getr (r := (gr M a0 1)) dX26_code_46 fsX26_15_31 rfl ?_
    obtain ⟨b1, e1_, k⟩ := k
    refine Z.eqs (lv' := [(0, vr (some (a0, 31, 0))), (1, vr r1), (2, vi l2)]) (st' := [vr (some (b1, 11, 0)), vi (16 : Int32), vr r1]) rfl (by rw [e1_] <;> rfl) ?_
    refine Z.pick [] rfl ?_
    exact z_callV (as := []) (st := [vi (16 : Int32), vr r1]) dX26_code_49 vsX26_23_11 (Nat.le_refl _) (Nat.le_of_ble_eq_true rfl) (Nat.le_of_ble_eq_true rfl) rfl k
  · have k := zif h_ k
    refine z_aload_n dX26_code_21 rfl rfl ?_
    refine z_getr (r := (gr M a0 1)) dX26_code_22 fsX26_15_31 rfl ?_
    refine z_iload_n dX26_code_25 rfl rfl ?_
    obtain ⟨b1, e1_, k⟩ := k
    refine Z.eqs (lv' := [(0, vr (some (a0, 31, 0))), (1, vr r1), (2, vi l2)]) (st' := [vi l2, vr (some (b1, 11, 0))]) rfl (by rw [e1_] <;> rfl) ?_
    exact z_callV (as := [vi l2]) (st := []) dX26_code_26 vsX26_29_11 (Nat.le_refl _) (Nat.le_of_ble_eq_true rfl) (Nat.le_of_ble_eq_true rfl) rfl k
theorem sX26_code_29 {E : zE} {d : Nat} {Q : zO → zM → Prop} (M : zM) (a0 : Nat) (r1 : Option zP) (l2 : Int32) (u0 : Option zP) (k : ∃ b1 t1 : Nat, u0 = some (b1, t1, 0) ∧ ((20 ≤ t1 ∧ t1 < 45) ∧ (∃ Y_ : zY, vt_code t1 = some Y_ ∧ Z E Y_ d M (zargs 0 [vr (some (b1, t1, 0)), vr r1]) 0 [] (zafter E YX26_code (d + 1) [(0, vr (some (a0, 31, 0))), (1, vr r1), (2, vi l2)] 33 3 [] Q)))) : Z E YX26_code (d + 1) M [(0, vr (some (a0, 31, 0))), (1, vr r1), (2, vi l2)] 29 [vr u0] Q := by
  obtain ⟨b1, t1, e1_, k⟩ := k
  refine Z.eqs (lv' := [(0, vr (some (a0, 31, 0))), (1, vr r1), (2, vi l2)]) (st' := [vr (some (b1, t1, 0))]) rfl (by rw [e1_] <;> rfl) ?_
  obtain ⟨b_, k⟩ := k
  refine z_ckcast dX26_code_29 (ctX26_4 _ b_.1 b_.2) ?_
  refine z_aload_n dX26_code_32 rfl rfl ?_
  obtain ⟨Y_, y_, k⟩ := k
  exact z_callV (as := [vr r1]) (st := []) dX26_code_33 (vtX26_19 y_).1 (Nat.le_refl _) (Nat.le_trans (Nat.le_of_ble_eq_true rfl) (vtX26_19 y_).2.1) (Nat.le_trans (Nat.add_le_add_left (vtX26_19 y_).2.2 _) (Nat.le_of_ble_eq_true rfl)) rfl k
theorem sX26_code_36 {E : zE} {d : Nat} {Q : zO → zM → Prop} (M : zM) (a0 : Nat) (r1 : Option zP) (l2 : Int32) (k : Z E YX26_code (d + 1) M [(0, vr (some (a0, 31, 0))), (1, vr r1), (2, vi (l2 + (1 : Int32)))] 10 [] Q) : Z E YX26_code (d + 1) M [(0, vr (some (a0, 31, 0))), (1, vr r1), (2, vi l2)] 36 [] Q := by
  refine z_inc (v := (l2 + (1 : Int32))) dX26_code_36 rfl rfl (by decide) (lv' := [(0, vr (some (a0, 31, 0))), (1, vr r1), (2, vi (l2 + (1 : Int32)))]) rfl ?_
  refine z_goto (tgt := 10) dX26_code_39 rfl ?_
  exact k
theorem sX26_code_52 {E : zE} {d : Nat} {Q : zO → zM → Prop} (M : zM) (s0 : Int32) (s1 : Int32) (u2 : Option zP) (k : ∃ b1 : Nat, u2 = some (b1, 3, 0) ∧ (Z E YX3_site d M (zargs 0 [vr (some (b1, 3, 0)), vi s1, vi s0]) 0 [] (zafter E YX26_code (d + 1) [] 52 3 [] Q))) : Z E YX26_code (d + 1) M [] 52 [vi s0, vi s1, vr u2] Q := by
  obtain ⟨b1, e1_, k⟩ := k
  refine Z.eqs (lv' := []) (st' := [vi s0, vi s1, vr (some (b1, 3, 0))]) rfl (by rw [e1_] <;> rfl) ?_
  exact z_callV (as := [vi s1, vi s0]) (st := []) dX26_code_52 vsX26_33_3 (Nat.le_refl _) (Nat.le_of_ble_eq_true rfl) (Nat.le_of_ble_eq_true rfl) rfl k
theorem sX26_code_55 {E : zE} {d : Nat} {Q : zO → zM → Prop} (M : zM)  (k : Q (.inl none) M) : Z E YX26_code (d + 1) M [] 55 [] Q := by
  exact z_vret dX26_code_55 rfl k
/-! ScriptTypes$Counts.<init>(IZLScriptTypes$Node;)V -/
theorem bX27_init_0 : zdec cX27_init 0 [(0, .aload_n 0, 1), (1, .invokespecial 3, 3), (4, .aload_n 0, 1), (5, .iload_n 1, 1), (6, .putfield 9, 3), (9, .aload_n 0, 1), (10, .iload_n 2, 1), (11, .putfield 15, 3), (14, .aload_n 0, 1), (15, .aload_n 3, 1), (16, .putfield 19, 3), (19, .return_, 1)] = true := by decide +kernel
theorem dX27_init_0 : decode cX27_init 0 = .ok (.aload_n 0, 1) := zdec_at bX27_init_0 0 rfl
theorem dX27_init_1 : decode cX27_init 1 = .ok (.invokespecial 3, 3) := zdec_at bX27_init_0 1 rfl
theorem dX27_init_4 : decode cX27_init 4 = .ok (.aload_n 0, 1) := zdec_at bX27_init_0 2 rfl
theorem dX27_init_5 : decode cX27_init 5 = .ok (.iload_n 1, 1) := zdec_at bX27_init_0 3 rfl
theorem dX27_init_6 : decode cX27_init 6 = .ok (.putfield 9, 3) := zdec_at bX27_init_0 4 rfl
theorem dX27_init_9 : decode cX27_init 9 = .ok (.aload_n 0, 1) := zdec_at bX27_init_0 5 rfl
theorem dX27_init_10 : decode cX27_init 10 = .ok (.iload_n 2, 1) := zdec_at bX27_init_0 6 rfl
theorem dX27_init_11 : decode cX27_init 11 = .ok (.putfield 15, 3) := zdec_at bX27_init_0 7 rfl
theorem dX27_init_14 : decode cX27_init 14 = .ok (.aload_n 0, 1) := zdec_at bX27_init_0 8 rfl
theorem dX27_init_15 : decode cX27_init 15 = .ok (.aload_n 3, 1) := zdec_at bX27_init_0 9 rfl
theorem dX27_init_16 : decode cX27_init 16 = .ok (.putfield 19, 3) := zdec_at bX27_init_0 10 rfl
theorem dX27_init_19 : decode cX27_init 19 = .ok (.return_, 1) := zdec_at bX27_init_0 11 rfl
theorem sX27_init_0 {E : zE} {d : Nat} {Q : zO → zM → Prop} (M : zM) (a0 : Nat) (l1 : Int32) (l2 : Int32) (r3 : Option zP) (k : Z E YX13_init d M (zargs 0 [vr (some (a0, 32, 0))]) 0 [] (zafter E YX27_init (d + 1) [(0, vr (some (a0, 32, 0))), (1, vi l1), (2, vi l2), (3, vr r3)] 1 3 [] Q)) : Z E YX27_init (d + 1) M [(0, vr (some (a0, 32, 0))), (1, vi l1), (2, vi l2), (3, vr r3)] 0 [] Q := by
  refine z_aload_n dX27_init_0 rfl rfl ?_
  exact z_callI (as := []) (st := []) dX27_init_1 isX27_3 (Nat.le_refl _) (Nat.le_of_ble_eq_true rfl) (Nat.le_of_ble_eq_true rfl) rfl k
theorem sX27_init_4 {E : zE} {d : Nat} {Q : zO → zM → Prop} (M : zM) (a0 : Nat) (l1 : Int32) (l2 : Int32) (r3 : Option zP) (k : 16 ≤ a0 ∧ (16 ≤ a0 ∧ (zfit .boolean l2 ∧ (16 ≤ a0 ∧ (Q (.inl none) (sr (si (si M a0 0 l1) a0 1 l2) a0 2 r3)))))) : Z E YX27_init (d + 1) M [(0, vr (some (a0, 32, 0))), (1, vi l1), (2, vi l2), (3, vr r3)] 4 [] Q := by
  refine z_aload_n dX27_init_4 rfl rfl ?_
  refine z_iload_n dX27_init_5 rfl rfl ?_
  obtain ⟨g_, k⟩ := k
  refine z_puti g_ dX27_init_6 (zfwN.f fwX27_9_32 rfl (fun q h => by rw [← Option.some.inj h]; rfl)) rfl ⟨rfl, rfl⟩ ?_
  refine z_aload_n dX27_init_9 rfl rfl ?_
  refine z_iload_n dX27_init_10 rfl rfl ?_
  obtain ⟨g_, k⟩ := k
  obtain ⟨b_, k⟩ := k
  refine z_puti g_ dX27_init_11 (zfwN.f fwX27_15_32 rfl (fun q h => by rw [← Option.some.inj h]; rfl)) rfl b_ ?_
  refine z_aload_n dX27_init_14 rfl rfl ?_
  refine z_aload_n dX27_init_15 rfl rfl ?_
  obtain ⟨g_, k⟩ := k
  refine z_putr g_ dX27_init_16 (zfwN.f fwX27_19_32 rfl (fun q h => by rw [← Option.some.inj h]; rfl)) rfl ?_
  exact z_vret dX27_init_19 rfl k
/-! ScriptTypes$Counts.code(LScriptTypes$Coder;)V -/
theorem bX27_code_0 : zdec cX27_code 0 [(0, .aload_n 0, 1), (1, .getfield 19, 3), (4, .invokevirtual 23, 3), (7, .istore_n 2, 1), (8, .iload_n 2, 1), (9, .ifCond .eq 35, 3), (12, .aload_n 0, 1), (13, .getfield 19, 3), (16, .checkcast 27, 3), (19, .aload_n 1, 1), (20, .invokevirtual 29, 3), (23, .aload_n 1, 1), (24, .bipush 19, 2), (26, .iconst 0, 1), (27, .iconst 0, 1), (28, .invokevirtual 33, 3)] = true := by decide +kernel
theorem dX27_code_0 : decode cX27_code 0 = .ok (.aload_n 0, 1) := zdec_at bX27_code_0 0 rfl
theorem dX27_code_1 : decode cX27_code 1 = .ok (.getfield 19, 3) := zdec_at bX27_code_0 1 rfl
theorem dX27_code_4 : decode cX27_code 4 = .ok (.invokevirtual 23, 3) := zdec_at bX27_code_0 2 rfl
theorem dX27_code_7 : decode cX27_code 7 = .ok (.istore_n 2, 1) := zdec_at bX27_code_0 3 rfl
theorem dX27_code_8 : decode cX27_code 8 = .ok (.iload_n 2, 1) := zdec_at bX27_code_0 4 rfl
theorem dX27_code_9 : decode cX27_code 9 = .ok (.ifCond .eq 35, 3) := zdec_at bX27_code_0 5 rfl
theorem dX27_code_12 : decode cX27_code 12 = .ok (.aload_n 0, 1) := zdec_at bX27_code_0 6 rfl
theorem dX27_code_13 : decode cX27_code 13 = .ok (.getfield 19, 3) := zdec_at bX27_code_0 7 rfl
theorem dX27_code_16 : decode cX27_code 16 = .ok (.checkcast 27, 3) := zdec_at bX27_code_0 8 rfl
theorem dX27_code_19 : decode cX27_code 19 = .ok (.aload_n 1, 1) := zdec_at bX27_code_0 9 rfl
theorem dX27_code_20 : decode cX27_code 20 = .ok (.invokevirtual 29, 3) := zdec_at bX27_code_0 10 rfl
theorem dX27_code_23 : decode cX27_code 23 = .ok (.aload_n 1, 1) := zdec_at bX27_code_0 11 rfl
theorem dX27_code_24 : decode cX27_code 24 = .ok (.bipush 19, 2) := zdec_at bX27_code_0 12 rfl
theorem dX27_code_26 : decode cX27_code 26 = .ok (.iconst 0, 1) := zdec_at bX27_code_0 13 rfl
theorem dX27_code_27 : decode cX27_code 27 = .ok (.iconst 0, 1) := zdec_at bX27_code_0 14 rfl
theorem dX27_code_28 : decode cX27_code 28 = .ok (.invokevirtual 33, 3) := zdec_at bX27_code_0 15 rfl
theorem bX27_code_31 : zdec cX27_code 31 [(31, .pop, 1), (32, .aload_n 1, 1), (33, .bipush 10, 2), (35, .iconst 0, 1), (36, .iconst 0, 1), (37, .invokevirtual 33, 3), (40, .pop, 1), (41, .goto 11, 3), (44, .aload_n 0, 1), (45, .getfield 19, 3), (48, .aload_n 1, 1), (49, .invokevirtual 39, 3), (52, .aload_n 1, 1), (53, .bipush 13, 2), (55, .iconst 0, 1), (56, .iconst 0, 1)] = true := by decide +kernel
theorem dX27_code_31 : decode cX27_code 31 = .ok (.pop, 1) := zdec_at bX27_code_31 0 rfl
theorem dX27_code_32 : decode cX27_code 32 = .ok (.aload_n 1, 1) := zdec_at bX27_code_31 1 rfl
theorem dX27_code_33 : decode cX27_code 33 = .ok (.bipush 10, 2) := zdec_at bX27_code_31 2 rfl
theorem dX27_code_35 : decode cX27_code 35 = .ok (.iconst 0, 1) := zdec_at bX27_code_31 3 rfl
theorem dX27_code_36 : decode cX27_code 36 = .ok (.iconst 0, 1) := zdec_at bX27_code_31 4 rfl
theorem dX27_code_37 : decode cX27_code 37 = .ok (.invokevirtual 33, 3) := zdec_at bX27_code_31 5 rfl
theorem dX27_code_40 : decode cX27_code 40 = .ok (.pop, 1) := zdec_at bX27_code_31 6 rfl
theorem dX27_code_41 : decode cX27_code 41 = .ok (.goto 11, 3) := zdec_at bX27_code_31 7 rfl
theorem dX27_code_44 : decode cX27_code 44 = .ok (.aload_n 0, 1) := zdec_at bX27_code_31 8 rfl
theorem dX27_code_45 : decode cX27_code 45 = .ok (.getfield 19, 3) := zdec_at bX27_code_31 9 rfl
theorem dX27_code_48 : decode cX27_code 48 = .ok (.aload_n 1, 1) := zdec_at bX27_code_31 10 rfl
theorem dX27_code_49 : decode cX27_code 49 = .ok (.invokevirtual 39, 3) := zdec_at bX27_code_31 11 rfl
theorem dX27_code_52 : decode cX27_code 52 = .ok (.aload_n 1, 1) := zdec_at bX27_code_31 12 rfl
theorem dX27_code_53 : decode cX27_code 53 = .ok (.bipush 13, 2) := zdec_at bX27_code_31 13 rfl
theorem dX27_code_55 : decode cX27_code 55 = .ok (.iconst 0, 1) := zdec_at bX27_code_31 14 rfl
theorem dX27_code_56 : decode cX27_code 56 = .ok (.iconst 0, 1) := zdec_at bX27_code_31 15 rfl
theorem bX27_code_57 : zdec cX27_code 57 [(57, .invokevirtual 33, 3), (60, .pop, 1), (61, .aload_n 0, 1), (62, .getfield 15, 3), (65, .ifCond .eq 21, 3), (68, .aload_n 1, 1), (69, .iload_n 2, 1), (70, .ifCond .eq 8, 3), (73, .bipush 20, 2), (75, .goto 5, 3), (78, .bipush 18, 2), (80, .iconst 0, 1), (81, .iconst 0, 1), (82, .invokevirtual 33, 3), (85, .pop, 1), (86, .aload_n 1, 1)] = true := by decide +kernel
theorem dX27_code_57 : decode cX27_code 57 = .ok (.invokevirtual 33, 3) := zdec_at bX27_code_57 0 rfl
theorem dX27_code_60 : decode cX27_code 60 = .ok (.pop, 1) := zdec_at bX27_code_57 1 rfl
theorem dX27_code_61 : decode cX27_code 61 = .ok (.aload_n 0, 1) := zdec_at bX27_code_57 2 rfl
theorem dX27_code_62 : decode cX27_code 62 = .ok (.getfield 15, 3) := zdec_at bX27_code_57 3 rfl
theorem dX27_code_65 : decode cX27_code 65 = .ok (.ifCond .eq 21, 3) := zdec_at bX27_code_57 4 rfl
theorem dX27_code_68 : decode cX27_code 68 = .ok (.aload_n 1, 1) := zdec_at bX27_code_57 5 rfl
theorem dX27_code_69 : decode cX27_code 69 = .ok (.iload_n 2, 1) := zdec_at bX27_code_57 6 rfl
theorem dX27_code_70 : decode cX27_code 70 = .ok (.ifCond .eq 8, 3) := zdec_at bX27_code_57 7 rfl
theorem dX27_code_73 : decode cX27_code 73 = .ok (.bipush 20, 2) := zdec_at bX27_code_57 8 rfl
theorem dX27_code_75 : decode cX27_code 75 = .ok (.goto 5, 3) := zdec_at bX27_code_57 9 rfl
theorem dX27_code_78 : decode cX27_code 78 = .ok (.bipush 18, 2) := zdec_at bX27_code_57 10 rfl
theorem dX27_code_80 : decode cX27_code 80 = .ok (.iconst 0, 1) := zdec_at bX27_code_57 11 rfl
theorem dX27_code_81 : decode cX27_code 81 = .ok (.iconst 0, 1) := zdec_at bX27_code_57 12 rfl
theorem dX27_code_82 : decode cX27_code 82 = .ok (.invokevirtual 33, 3) := zdec_at bX27_code_57 13 rfl
theorem dX27_code_85 : decode cX27_code 85 = .ok (.pop, 1) := zdec_at bX27_code_57 14 rfl
theorem dX27_code_86 : decode cX27_code 86 = .ok (.aload_n 1, 1) := zdec_at bX27_code_57 15 rfl
theorem bX27_code_87 : zdec cX27_code 87 [(87, .iconst 0, 1), (88, .iconst 5, 1), (89, .iconst 1, 1), (90, .invokevirtual 33, 3), (93, .pop, 1), (94, .aload_n 1, 1), (95, .bipush 14, 2), (97, .aload_n 0, 1), (98, .getfield 9, 3), (101, .iconst 0, 1), (102, .invokevirtual 33, 3), (105, .pop, 1), (106, .iload_n 2, 1), (107, .ifCond .eq 15, 3), (110, .aload_n 1, 1), (111, .bipush 11, 2)] = true := by decide +kernel
theorem dX27_code_87 : decode cX27_code 87 = .ok (.iconst 0, 1) := zdec_at bX27_code_87 0 rfl
theorem dX27_code_88 : decode cX27_code 88 = .ok (.iconst 5, 1) := zdec_at bX27_code_87 1 rfl
theorem dX27_code_89 : decode cX27_code 89 = .ok (.iconst 1, 1) := zdec_at bX27_code_87 2 rfl
theorem dX27_code_90 : decode cX27_code 90 = .ok (.invokevirtual 33, 3) := zdec_at bX27_code_87 3 rfl
theorem dX27_code_93 : decode cX27_code 93 = .ok (.pop, 1) := zdec_at bX27_code_87 4 rfl
theorem dX27_code_94 : decode cX27_code 94 = .ok (.aload_n 1, 1) := zdec_at bX27_code_87 5 rfl
theorem dX27_code_95 : decode cX27_code 95 = .ok (.bipush 14, 2) := zdec_at bX27_code_87 6 rfl
theorem dX27_code_97 : decode cX27_code 97 = .ok (.aload_n 0, 1) := zdec_at bX27_code_87 7 rfl
theorem dX27_code_98 : decode cX27_code 98 = .ok (.getfield 9, 3) := zdec_at bX27_code_87 8 rfl
theorem dX27_code_101 : decode cX27_code 101 = .ok (.iconst 0, 1) := zdec_at bX27_code_87 9 rfl
theorem dX27_code_102 : decode cX27_code 102 = .ok (.invokevirtual 33, 3) := zdec_at bX27_code_87 10 rfl
theorem dX27_code_105 : decode cX27_code 105 = .ok (.pop, 1) := zdec_at bX27_code_87 11 rfl
theorem dX27_code_106 : decode cX27_code 106 = .ok (.iload_n 2, 1) := zdec_at bX27_code_87 12 rfl
theorem dX27_code_107 : decode cX27_code 107 = .ok (.ifCond .eq 15, 3) := zdec_at bX27_code_87 13 rfl
theorem dX27_code_110 : decode cX27_code 110 = .ok (.aload_n 1, 1) := zdec_at bX27_code_87 14 rfl
theorem dX27_code_111 : decode cX27_code 111 = .ok (.bipush 11, 2) := zdec_at bX27_code_87 15 rfl
theorem bX27_code_113 : zdec cX27_code 113 [(113, .iconst 0, 1), (114, .iconst 0, 1), (115, .invokevirtual 33, 3), (118, .pop, 1), (119, .goto 17, 3), (122, .aload_n 1, 1), (123, .aload_n 0, 1), (124, .getfield 19, 3), (127, .checkcast 42, 3), (130, .getfield 44, 3), (133, .invokevirtual 47, 3), (136, .aload_n 0, 1), (137, .getfield 15, 3), (140, .ifCond .eq 12, 3), (143, .aload_n 1, 1), (144, .bipush 17, 2)] = true := by decide +kernel
theorem dX27_code_113 : decode cX27_code 113 = .ok (.iconst 0, 1) := zdec_at bX27_code_113 0 rfl
theorem dX27_code_114 : decode cX27_code 114 = .ok (.iconst 0, 1) := zdec_at bX27_code_113 1 rfl
theorem dX27_code_115 : decode cX27_code 115 = .ok (.invokevirtual 33, 3) := zdec_at bX27_code_113 2 rfl
theorem dX27_code_118 : decode cX27_code 118 = .ok (.pop, 1) := zdec_at bX27_code_113 3 rfl
theorem dX27_code_119 : decode cX27_code 119 = .ok (.goto 17, 3) := zdec_at bX27_code_113 4 rfl
theorem dX27_code_122 : decode cX27_code 122 = .ok (.aload_n 1, 1) := zdec_at bX27_code_113 5 rfl
theorem dX27_code_123 : decode cX27_code 123 = .ok (.aload_n 0, 1) := zdec_at bX27_code_113 6 rfl
theorem dX27_code_124 : decode cX27_code 124 = .ok (.getfield 19, 3) := zdec_at bX27_code_113 7 rfl
theorem dX27_code_127 : decode cX27_code 127 = .ok (.checkcast 42, 3) := zdec_at bX27_code_113 8 rfl
theorem dX27_code_130 : decode cX27_code 130 = .ok (.getfield 44, 3) := zdec_at bX27_code_113 9 rfl
theorem dX27_code_133 : decode cX27_code 133 = .ok (.invokevirtual 47, 3) := zdec_at bX27_code_113 10 rfl
theorem dX27_code_136 : decode cX27_code 136 = .ok (.aload_n 0, 1) := zdec_at bX27_code_113 11 rfl
theorem dX27_code_137 : decode cX27_code 137 = .ok (.getfield 15, 3) := zdec_at bX27_code_113 12 rfl
theorem dX27_code_140 : decode cX27_code 140 = .ok (.ifCond .eq 12, 3) := zdec_at bX27_code_113 13 rfl
theorem dX27_code_143 : decode cX27_code 143 = .ok (.aload_n 1, 1) := zdec_at bX27_code_113 14 rfl
theorem dX27_code_144 : decode cX27_code 144 = .ok (.bipush 17, 2) := zdec_at bX27_code_113 15 rfl
theorem bX27_code_146 : zdec cX27_code 146 [(146, .iconst 0, 1), (147, .iconst 0, 1), (148, .invokevirtual 33, 3), (151, .pop, 1), (152, .return_, 1)] = true := by decide +kernel
theorem dX27_code_146 : decode cX27_code 146 = .ok (.iconst 0, 1) := zdec_at bX27_code_146 0 rfl
theorem dX27_code_147 : decode cX27_code 147 = .ok (.iconst 0, 1) := zdec_at bX27_code_146 1 rfl
theorem dX27_code_148 : decode cX27_code 148 = .ok (.invokevirtual 33, 3) := zdec_at bX27_code_146 2 rfl
theorem dX27_code_151 : decode cX27_code 151 = .ok (.pop, 1) := zdec_at bX27_code_146 3 rfl
theorem dX27_code_152 : decode cX27_code 152 = .ok (.return_, 1) := zdec_at bX27_code_146 4 rfl
theorem sX27_code_0 {E : zE} {d : Nat} {Q : zO → zM → Prop} (M : zM) (a0 : Nat) (r1 : Option zP) (k : ∃ b1 t1 : Nat, (gr M a0 2) = some (b1, t1, 0) ∧ (∃ Y_ : zY, vt_isMember t1 = some Y_ ∧ Z E Y_ d M (zargs 0 [vr (some (b1, t1, 0))]) 0 [] (zafter E YX27_code (d + 1) [(0, vr (some (a0, 32, 0))), (1, vr r1)] 4 3 [] Q))) : Z E YX27_code (d + 1) M [(0, vr (some (a0, 32, 0))), (1, vr r1)] 0 [] Q := by
  refine z_aload_n dX27_code_0 rfl rfl ?_
  refine z_getr (r := (gr M a0 2)) dX27_code_1 fsX27_19_32 rfl ?_
  obtain ⟨b1, t1, e1_, k⟩ := k
  refine Z.eqs (lv' := [(0, vr (some (a0, 32, 0))), (1, vr r1)]) (st' := [vr (some (b1, t1, 0))]) rfl (by rw [e1_] <;> rfl) ?_
  obtain ⟨Y_, y_, k⟩ := k
  exact z_callV (as := []) (st := []) dX27_code_4 (vtX27_23 y_).1 (Nat.le_refl _) (Nat.le_trans (Nat.le_of_ble_eq_true rfl) (vtX27_23 y_).2.1) (Nat.le_trans (Nat.add_le_add_left (vtX27_23 y_).2.2 _) (Nat.le_of_ble_eq_true rfl)) rfl k
theorem sX27_code_7 {E : zE} {d : Nat} {Q : zO → zM → Prop} (M : zM) (a0 : Nat) (r1 : Option zP) (s0 : Int32) (k : if s0 = 0 then (∃ b1 t1 : Nat, (gr M a0 2) = some (b1, t1, 0) ∧ (∃ Y_ : zY, vt_code t1 = some Y_ ∧ Z E Y_ d M (zargs 0 [vr (some (b1, t1, 0)), vr r1]) 0 [] (zafter E YX27_code (d + 1) [(0, vr (some (a0, 32, 0))), (1, vr r1), (2, vi s0)] 49 3 [] Q))) else (∃ b1 : Nat, (gr M a0 2) = some (b1, 30, 0) ∧ (Z E YX24_place d M (zargs 0 [vr (some (b1, 30, 0)), vr r1]) 0 [] (zafter E YX27_code (d + 1) [(0, vr (some (a0, 32, 0))), (1, vr r1), (2, vi s0)] 20 3 [] Q)))) : Z E YX27_code (d + 1) M [(0, vr (some (a0, 32, 0))), (1, vr r1)] 7 [vi s0] Q := by
  refine z_ist_n dX27_code_7 rfl (by decide) (lv' := [(0, vr (some (a0, 32, 0))), (1, vr r1), (2, vi s0)]) rfl ?_
  refine z_iload_n dX27_code_8 rfl rfl ?_
  refine z_if_eq (tgt := 44) dX27_code_9 rfl (fun h_ => ?_) (fun h_ => ?_)
  · have k := zit h_ k
    refine z_aload_n dX27_code_44 rfl rfl ?_
    refine z_getr (r := (gr M a0 2)) dX27_code_45 fsX27_19_32 rfl ?_
    refine z_aload_n dX27_code_48 rfl rfl ?_
    obtain ⟨b1, t1, e1_, k⟩ := k
    refine Z.eqs (lv' := [(0, vr (some (a0, 32, 0))), (1, vr r1), (2, vi s0)]) (st' := [vr r1, vr (some (b1, t1, 0))]) rfl (by rw [e1_] <;> rfl) ?_
    obtain ⟨Y_, y_, k⟩ := k
    exact z_callV (as := [vr r1]) (st := []) dX27_code_49 (vtX27_39 y_).1 (Nat.le_refl _) (Nat.le_trans (Nat.le_of_ble_eq_true rfl) (vtX27_39 y_).2.1) (Nat.le_trans (Nat.add_le_add_left (vtX27_39 y_).2.2 _) (Nat.le_of_ble_eq_true rfl)) rfl k
  · have k := zif h_ k
    refine z_aload_n dX27_code_12 rfl rfl ?_
    refine z_getr (r := (gr M a0 2)) dX27_code_13 fsX27_19_32 rfl ?_
    obtain ⟨b1, e1_, k⟩ := k
    refine Z.eqs (lv' := [(0, vr (some (a0, 32, 0))), (1, vr r1), (2, vi s0)]) (st' := [vr (some (b1, 30, 0))]) rfl (by rw [e1_] <;> rfl) ?_
    refine z_ckcast dX27_code_16 ctX27_27_30 ?_
    refine z_aload_n dX27_code_19 rfl rfl ?_
    exact z_callV (as := [vr r1]) (st := []) dX27_code_20 vsX27_29_30 (Nat.le_refl _) (Nat.le_of_ble_eq_true rfl) (Nat.le_of_ble_eq_true rfl) rfl k
theorem sX27_code_23 {E : zE} {d : Nat} {Q : zO → zM → Prop} (M : zM) (a0 : Nat) (r1 : Option zP) (l2 : Int32) (k : ∃ b1 : Nat, r1 = some (b1, 3, 0) ∧ (Z E YX3_put d M (zargs 0 [vr (some (b1, 3, 0)), vi (19 : Int32), vi (0 : Int32), vi (0 : Int32)]) 0 [] (zafter E YX27_code (d + 1) [(0, vr (some (a0, 32, 0))), (1, vr (some (b1, 3, 0))), (2, vi l2)] 28 3 [] Q))) : Z E YX27_code (d + 1) M [(0, vr (some (a0, 32, 0))), (1, vr r1), (2, vi l2)] 23 [] Q := by
  refine z_aload_n dX27_code_23 rfl rfl ?_
  refine z_bipush (v := 19) dX27_code_24 rfl ?_
  refine z_iconst (v := 0) dX27_code_26 rfl ?_
  refine z_iconst (v := 0) dX27_code_27 rfl ?_
  obtain ⟨b1, e1_, k⟩ := k
  refine Z.eqs (lv' := [(0, vr (some (a0, 32, 0))), (1, vr (some (b1, 3, 0))), (2, vi l2)]) (st' := [vi (0 : Int32), vi (0 : Int32), vi (19 : Int32), vr (some (b1, 3, 0))]) (by rw [e1_] <;> rfl) (by rw [e1_] <;> rfl) ?_
  exact z_callV (as := [vi (19 : Int32), vi (0 : Int32), vi (0 : Int32)]) (st := []) dX27_code_28 vsX27_33_3 (Nat.le_refl _) (Nat.le_of_ble_eq_true rfl) (Nat.le_of_ble_eq_true rfl) rfl k
theorem sX27_code_31 {E : zE} {d : Nat} {Q : zO → zM → Prop} (M : zM) (a0 : Nat) (a1 : Nat) (l2 : Int32) (s0 : Int32) (k : Z E YX3_put d M (zargs 0 [vr (some (a1, 3, 0)), vi (10 : Int32), vi (0 : Int32), vi (0 : Int32)]) 0 [] (zafter E YX27_code (d + 1) [(0, vr (some (a0, 32, 0))), (1, vr (some (a1, 3, 0))), (2, vi l2)] 37 3 [] Q)) : Z E YX27_code (d + 1) M [(0, vr (some (a0, 32, 0))), (1, vr (some (a1, 3, 0))), (2, vi l2)] 31 [vi s0] Q := by
  refine z_pop dX27_code_31 rfl ?_
  refine z_aload_n dX27_code_32 rfl rfl ?_
  refine z_bipush (v := 10) dX27_code_33 rfl ?_
  refine z_iconst (v := 0) dX27_code_35 rfl ?_
  refine z_iconst (v := 0) dX27_code_36 rfl ?_
  exact z_callV (as := [vi (10 : Int32), vi (0 : Int32), vi (0 : Int32)]) (st := []) dX27_code_37 vsX27_33_3 (Nat.le_refl _) (Nat.le_of_ble_eq_true rfl) (Nat.le_of_ble_eq_true rfl) rfl k
theorem sX27_code_40 {E : zE} {d : Nat} {Q : zO → zM → Prop} (M : zM) (a0 : Nat) (a1 : Nat) (l2 : Int32) (s0 : Int32) (k : Z E YX27_code (d + 1) M [(0, vr (some (a0, 32, 0))), (1, vr (some (a1, 3, 0))), (2, vi l2)] 52 [] Q) : Z E YX27_code (d + 1) M [(0, vr (some (a0, 32, 0))), (1, vr (some (a1, 3, 0))), (2, vi l2)] 40 [vi s0] Q := by
  refine z_pop dX27_code_40 rfl ?_
  refine z_goto (tgt := 52) dX27_code_41 rfl ?_
  exact k
theorem sX27_code_52 {E : zE} {d : Nat} {Q : zO → zM → Prop} (M : zM) (a0 : Nat) (r1 : Option zP) (l2 : Int32) (k : ∃ b1 : Nat, r1 = some (b1, 3, 0) ∧ (Z E YX3_put d M (zargs 0 [vr (some (b1, 3, 0)), vi (13 : Int32), vi (0 : Int32), vi (0 : Int32)]) 0 [] (zafter E YX27_code (d + 1) [(0, vr (some (a0, 32, 0))), (1, vr (some (b1, 3, 0))), (2, vi l2)] 57 3 [] Q))) : Z E YX27_code (d + 1) M [(0, vr (some (a0, 32, 0))), (1, vr r1), (2, vi l2)] 52 [] Q := by
  refine z_aload_n dX27_code_52 rfl rfl ?_
  refine z_bipush (v := 13) dX27_code_53 rfl ?_
  refine z_iconst (v := 0) dX27_code_55 rfl ?_
  refine z_iconst (v := 0) dX27_code_56 rfl ?_
  obtain ⟨b1, e1_, k⟩ := k
  refine Z.eqs (lv' := [(0, vr (some (a0, 32, 0))), (1, vr (some (b1, 3, 0))), (2, vi l2)]) (st' := [vi (0 : Int32), vi (0 : Int32), vi (13 : Int32), vr (some (b1, 3, 0))]) (by rw [e1_] <;> rfl) (by rw [e1_] <;> rfl) ?_
  exact z_callV (as := [vi (13 : Int32), vi (0 : Int32), vi (0 : Int32)]) (st := []) dX27_code_57 vsX27_33_3 (Nat.le_refl _) (Nat.le_of_ble_eq_true rfl) (Nat.le_of_ble_eq_true rfl) rfl k
theorem sX27_code_60 {E : zE} {d : Nat} {Q : zO → zM → Prop} (M : zM) (a0 : Nat) (a1 : Nat) (l2 : Int32) (s0 : Int32) (k : if (gi M a0 1) = 0 then (Z E YX3_put d M (zargs 0 [vr (some (a1, 3, 0)), vi (0 : Int32), vi (5 : Int32), vi (1 : Int32)]) 0 [] (zafter E YX27_code (d + 1) [(0, vr (some (a0, 32, 0))), (1, vr (some (a1, 3, 0))), (2, vi l2)] 90 3 [] Q)) else (if l2 = 0 then (Z E YX3_put d M (zargs 0 [vr (some (a1, 3, 0)), vi (18 : Int32), vi (0 : Int32), vi (0 : Int32)]) 0 [] (zafter E YX27_code (d + 1) [(0, vr (some (a0, 32, 0))), (1, vr (some (a1, 3, 0))), (2, vi l2)] 82 3 [] Q)) else (Z E YX3_put d M (zargs 0 [vr (some (a1, 3, 0)), vi (20 : Int32), vi (0 : Int32), vi (0 : Int32)]) 0 [] (zafter E YX27_code (d + 1) [(0, vr (some (a0, 32, 0))), (1, vr (some (a1, 3, 0))), (2, vi l2)] 82 3 [] Q)))) : Z E YX27_code (d + 1) M [(0, vr (some (a0, 32, 0))), (1, vr (some (a1, 3, 0))), (2, vi l2)] 60 [vi s0] Q := by
  refine z_pop dX27_code_60 rfl ?_
  refine z_aload_n dX27_code_61 rfl rfl ?_
  refine z_geti dX27_code_62 fsX27_15_32 ?_
  refine z_if_eq (tgt := 86) dX27_code_65 rfl (fun h_ => ?_) (fun h_ => ?_)
  · have k := zit h_ k
    refine z_aload_n dX27_code_86 rfl rfl ?_
    refine z_iconst (v := 0) dX27_code_87 rfl ?_
    refine z_iconst (v := 5) dX27_code_88 rfl ?_
    refine z_iconst (v := 1) dX27_code_89 rfl ?_
    exact z_callV (as := [vi (0 : Int32), vi (5 : Int32), vi (1 : Int32)]) (st := []) dX27_code_90 vsX27_33_3 (Nat.le_refl _) (Nat.le_of_ble_eq_true rfl) (Nat.le_of_ble_eq_true rfl) rfl k
  · have k := zif h_ k
    refine z_aload_n dX27_code_68 rfl rfl ?_
    refine z_iload_n dX27_code_69 rfl rfl ?_
    refine z_if_eq (tgt := 78) dX27_code_70 rfl (fun h_ => ?_) (fun h_ => ?_)
    · have k := zit h_ k
      refine z_bipush (v := 18) dX27_code_78 rfl ?_
      refine z_iconst (v := 0) dX27_code_80 rfl ?_
      refine z_iconst (v := 0) dX27_code_81 rfl ?_
      exact z_callV (as := [vi (18 : Int32), vi (0 : Int32), vi (0 : Int32)]) (st := []) dX27_code_82 vsX27_33_3 (Nat.le_refl _) (Nat.le_of_ble_eq_true rfl) (Nat.le_of_ble_eq_true rfl) rfl k
    · have k := zif h_ k
      refine z_bipush (v := 20) dX27_code_73 rfl ?_
      refine z_goto (tgt := 80) dX27_code_75 rfl ?_
      refine z_iconst (v := 0) dX27_code_80 rfl ?_
      refine z_iconst (v := 0) dX27_code_81 rfl ?_
      exact z_callV (as := [vi (20 : Int32), vi (0 : Int32), vi (0 : Int32)]) (st := []) dX27_code_82 vsX27_33_3 (Nat.le_refl _) (Nat.le_of_ble_eq_true rfl) (Nat.le_of_ble_eq_true rfl) rfl k
theorem sX27_code_85 {E : zE} {d : Nat} {Q : zO → zM → Prop} (M : zM) (a0 : Nat) (a1 : Nat) (l2 : Int32) (s0 : Int32) (k : Z E YX3_put d M (zargs 0 [vr (some (a1, 3, 0)), vi (0 : Int32), vi (5 : Int32), vi (1 : Int32)]) 0 [] (zafter E YX27_code (d + 1) [(0, vr (some (a0, 32, 0))), (1, vr (some (a1, 3, 0))), (2, vi l2)] 90 3 [] Q)) : Z E YX27_code (d + 1) M [(0, vr (some (a0, 32, 0))), (1, vr (some (a1, 3, 0))), (2, vi l2)] 85 [vi s0] Q := by
  refine z_pop dX27_code_85 rfl ?_
  refine z_aload_n dX27_code_86 rfl rfl ?_
  refine z_iconst (v := 0) dX27_code_87 rfl ?_
  refine z_iconst (v := 5) dX27_code_88 rfl ?_
  refine z_iconst (v := 1) dX27_code_89 rfl ?_
  exact z_callV (as := [vi (0 : Int32), vi (5 : Int32), vi (1 : Int32)]) (st := []) dX27_code_90 vsX27_33_3 (Nat.le_refl _) (Nat.le_of_ble_eq_true rfl) (Nat.le_of_ble_eq_true rfl) rfl k
theorem sX27_code_93 {E : zE} {d : Nat} {Q : zO → zM → Prop} (M : zM) (a0 : Nat) (a1 : Nat) (l2 : Int32) (s0 : Int32) (k : Z E YX3_put d M (zargs 0 [vr (some (a1, 3, 0)), vi (14 : Int32), vi (gi M a0 0), vi (0 : Int32)]) 0 [] (zafter E YX27_code (d + 1) [(0, vr (some (a0, 32, 0))), (1, vr (some (a1, 3, 0))), (2, vi l2)] 102 3 [] Q)) : Z E YX27_code (d + 1) M [(0, vr (some (a0, 32, 0))), (1, vr (some (a1, 3, 0))), (2, vi l2)] 93 [vi s0] Q := by
  refine z_pop dX27_code_93 rfl ?_
  refine z_aload_n dX27_code_94 rfl rfl ?_
  refine z_bipush (v := 14) dX27_code_95 rfl ?_
  refine z_aload_n dX27_code_97 rfl rfl ?_
  refine z_geti dX27_code_98 fsX27_9_32 ?_
  refine z_iconst (v := 0) dX27_code_101 rfl ?_
  exact z_callV (as := [vi (14 : Int32), vi (gi M a0 0), vi (0 : Int32)]) (st := []) dX27_code_102 vsX27_33_3 (Nat.le_refl _) (Nat.le_of_ble_eq_true rfl) (Nat.le_of_ble_eq_true rfl) rfl k
theorem sX27_code_105 {E : zE} {d : Nat} {Q : zO → zM → Prop} (M : zM) (a0 : Nat) (a1 : Nat) (l2 : Int32) (s0 : Int32) (k : if l2 = 0 then (∃ b1 : Nat, (gr M a0 2) = some (b1, 23, 0) ∧ (Z E YX3_set d M (zargs 0 [vr (some (a1, 3, 0)), vi (gi M b1 0)]) 0 [] (zafter E YX27_code (d + 1) [(0, vr (some (a0, 32, 0))), (1, vr (some (a1, 3, 0)))] 133 3 [] Q))) else (Z E YX3_put d M (zargs 0 [vr (some (a1, 3, 0)), vi (11 : Int32), vi (0 : Int32), vi (0 : Int32)]) 0 [] (zafter E YX27_code (d + 1) [(0, vr (some (a0, 32, 0))), (1, vr (some (a1, 3, 0)))] 115 3 [] Q))) : Z E YX27_code (d + 1) M [(0, vr (some (a0, 32, 0))), (1, vr (some (a1, 3, 0))), (2, vi l2)] 105 [vi s0] Q := by
  refine z_pop dX27_code_105 rfl ?_
  refine z_iload_n dX27_code_106 rfl rfl ?_
  refine z_if_eq (tgt := 122) dX27_code_107 rfl (fun h_ => ?_) (fun h_ => ?_)
  · have k := zit h_ k
    refine z_aload_n dX27_code_122 rfl rfl ?_
    refine z_aload_n dX27_code_123 rfl rfl ?_
    refine z_getr (r := (gr M a0 2)) dX27_code_124 fsX27_19_32 rfl ?_
    obtain ⟨b1, e1_, k⟩ := k
    refine Z.eqs (lv' := [(0, vr (some (a0, 32, 0))), (1, vr (some (a1, 3, 0))), (2, vi l2)]) (st' := [vr (some (b1, 23, 0)), vr (some (a1, 3, 0))]) rfl (by rw [e1_] <;> rfl) ?_
    refine z_ckcast dX27_code_127 ctX27_42_23 ?_
    refine z_geti dX27_code_130 fsX27_44_23 ?_
    refine Z.pick [0, 1] rfl ?_
    exact z_callV (as := [vi (gi M b1 0)]) (st := []) dX27_code_133 vsX27_47_3 (Nat.le_refl _) (Nat.le_of_ble_eq_true rfl) (Nat.le_of_ble_eq_true rfl) rfl k
  · have k := zif h_ k
    refine z_aload_n dX27_code_110 rfl rfl ?_
    refine z_bipush (v := 11) dX27_code_111 rfl ?_
    refine z_iconst (v := 0) dX27_code_113 rfl ?_
    refine z_iconst (v := 0) dX27_code_114 rfl ?_
    refine Z.pick [0, 1] rfl ?_
    exact z_callV (as := [vi (11 : Int32), vi (0 : Int32), vi (0 : Int32)]) (st := []) dX27_code_115 vsX27_33_3 (Nat.le_refl _) (Nat.le_of_ble_eq_true rfl) (Nat.le_of_ble_eq_true rfl) rfl k
theorem sX27_code_118 {E : zE} {d : Nat} {Q : zO → zM → Prop} (M : zM) (a0 : Nat) (a1 : Nat) (s0 : Int32) (k : Z E YX27_code (d + 1) M [(0, vr (some (a0, 32, 0))), (1, vr (some (a1, 3, 0)))] 136 [] Q) : Z E YX27_code (d + 1) M [(0, vr (some (a0, 32, 0))), (1, vr (some (a1, 3, 0)))] 118 [vi s0] Q := by
  refine z_pop dX27_code_118 rfl ?_
  refine z_goto (tgt := 136) dX27_code_119 rfl ?_
  exact k
theorem sX27_code_136 {E : zE} {d : Nat} {Q : zO → zM → Prop} (M : zM) (a0 : Nat) (a1 : Nat) (k : if (gi M a0 1) = 0 then (Q (.inl none) M) else (Z E YX3_put d M (zargs 0 [vr (some (a1, 3, 0)), vi (17 : Int32), vi (0 : Int32), vi (0 : Int32)]) 0 [] (zafter E YX27_code (d + 1) [] 148 3 [] Q))) : Z E YX27_code (d + 1) M [(0, vr (some (a0, 32, 0))), (1, vr (some (a1, 3, 0)))] 136 [] Q := by
  refine z_aload_n dX27_code_136 rfl rfl ?_
  refine z_geti dX27_code_137 fsX27_15_32 ?_
  refine z_if_eq (tgt := 152) dX27_code_140 rfl (fun h_ => ?_) (fun h_ => ?_)
  · have k := zit h_ k
    exact z_vret dX27_code_152 rfl k
  · have k := zif h_ k
    refine z_aload_n dX27_code_143 rfl rfl ?_
    refine z_bipush (v := 17) dX27_code_144 rfl ?_
    refine z_iconst (v := 0) dX27_code_146 rfl ?_
    refine z_iconst (v := 0) dX27_code_147 rfl ?_
    refine Z.pick [] rfl ?_
    exact z_callV (as := [vi (17 : Int32), vi (0 : Int32), vi (0 : Int32)]) (st := []) dX27_code_148 vsX27_33_3 (Nat.le_refl _) (Nat.le_of_ble_eq_true rfl) (Nat.le_of_ble_eq_true rfl) rfl k
theorem sX27_code_151 {E : zE} {d : Nat} {Q : zO → zM → Prop} (M : zM) (s0 : Int32) (k : Q (.inl none) M) : Z E YX27_code (d + 1) M [] 151 [vi s0] Q := by
  refine z_pop dX27_code_151 rfl ?_
  exact z_vret dX27_code_152 rfl k
/-! ScriptTypes$Ahead.<init>(ILScriptTypes$Node;)V -/
theorem bX28_init_0 : zdec cX28_init 0 [(0, .aload_n 0, 1), (1, .invokespecial 3, 3), (4, .aload_n 0, 1), (5, .iload_n 1, 1), (6, .putfield 9, 3), (9, .aload_n 0, 1), (10, .aload_n 2, 1), (11, .putfield 15, 3), (14, .return_, 1)] = true := by decide +kernel
theorem dX28_init_0 : decode cX28_init 0 = .ok (.aload_n 0, 1) := zdec_at bX28_init_0 0 rfl
theorem dX28_init_1 : decode cX28_init 1 = .ok (.invokespecial 3, 3) := zdec_at bX28_init_0 1 rfl
theorem dX28_init_4 : decode cX28_init 4 = .ok (.aload_n 0, 1) := zdec_at bX28_init_0 2 rfl
theorem dX28_init_5 : decode cX28_init 5 = .ok (.iload_n 1, 1) := zdec_at bX28_init_0 3 rfl
theorem dX28_init_6 : decode cX28_init 6 = .ok (.putfield 9, 3) := zdec_at bX28_init_0 4 rfl
theorem dX28_init_9 : decode cX28_init 9 = .ok (.aload_n 0, 1) := zdec_at bX28_init_0 5 rfl
theorem dX28_init_10 : decode cX28_init 10 = .ok (.aload_n 2, 1) := zdec_at bX28_init_0 6 rfl
theorem dX28_init_11 : decode cX28_init 11 = .ok (.putfield 15, 3) := zdec_at bX28_init_0 7 rfl
theorem dX28_init_14 : decode cX28_init 14 = .ok (.return_, 1) := zdec_at bX28_init_0 8 rfl
theorem sX28_init_0 {E : zE} {d : Nat} {Q : zO → zM → Prop} (M : zM) (a0 : Nat) (l1 : Int32) (r2 : Option zP) (k : Z E YX13_init d M (zargs 0 [vr (some (a0, 33, 0))]) 0 [] (zafter E YX28_init (d + 1) [(0, vr (some (a0, 33, 0))), (1, vi l1), (2, vr r2)] 1 3 [] Q)) : Z E YX28_init (d + 1) M [(0, vr (some (a0, 33, 0))), (1, vi l1), (2, vr r2)] 0 [] Q := by
  refine z_aload_n dX28_init_0 rfl rfl ?_
  exact z_callI (as := []) (st := []) dX28_init_1 isX28_3 (Nat.le_refl _) (Nat.le_of_ble_eq_true rfl) (Nat.le_of_ble_eq_true rfl) rfl k
theorem sX28_init_4 {E : zE} {d : Nat} {Q : zO → zM → Prop} (M : zM) (a0 : Nat) (l1 : Int32) (r2 : Option zP) (k : 16 ≤ a0 ∧ (16 ≤ a0 ∧ (Q (.inl none) (sr (si M a0 0 l1) a0 1 r2)))) : Z E YX28_init (d + 1) M [(0, vr (some (a0, 33, 0))), (1, vi l1), (2, vr r2)] 4 [] Q := by
  refine z_aload_n dX28_init_4 rfl rfl ?_
  refine z_iload_n dX28_init_5 rfl rfl ?_
  obtain ⟨g_, k⟩ := k
  refine z_puti g_ dX28_init_6 (zfwN.f fwX28_9_33 rfl (fun q h => by rw [← Option.some.inj h]; rfl)) rfl ⟨rfl, rfl⟩ ?_
  refine z_aload_n dX28_init_9 rfl rfl ?_
  refine z_aload_n dX28_init_10 rfl rfl ?_
  obtain ⟨g_, k⟩ := k
  refine z_putr g_ dX28_init_11 (zfwN.f fwX28_15_33 rfl (fun q h => by rw [← Option.some.inj h]; rfl)) rfl ?_
  exact z_vret dX28_init_14 rfl k
/-! ScriptTypes$Ahead.code(LScriptTypes$Coder;)V -/
theorem bX28_code_0 : zdec cX28_code 0 [(0, .aload_n 0, 1), (1, .getfield 9, 3), (4, .bipush 6, 2), (6, .if_icmp .ne 26, 3), (9, .aload_n 0, 1), (10, .getfield 15, 3), (13, .checkcast 19, 3), (16, .aload_n 1, 1), (17, .invokevirtual 21, 3), (20, .aload_n 1, 1), (21, .bipush 12, 2), (23, .iconst 0, 1), (24, .iconst 0, 1), (25, .invokevirtual 25, 3), (28, .pop, 1), (29, .goto 106, 3)] = true := by decide +kernel
theorem dX28_code_0 : decode cX28_code 0 = .ok (.aload_n 0, 1) := zdec_at bX28_code_0 0 rfl
theorem dX28_code_1 : decode cX28_code 1 = .ok (.getfield 9, 3) := zdec_at bX28_code_0 1 rfl
theorem dX28_code_4 : decode cX28_code 4 = .ok (.bipush 6, 2) := zdec_at bX28_code_0 2 rfl
theorem dX28_code_6 : decode cX28_code 6 = .ok (.if_icmp .ne 26, 3) := zdec_at bX28_code_0 3 rfl
theorem dX28_code_9 : decode cX28_code 9 = .ok (.aload_n 0, 1) := zdec_at bX28_code_0 4 rfl
theorem dX28_code_10 : decode cX28_code 10 = .ok (.getfield 15, 3) := zdec_at bX28_code_0 5 rfl
theorem dX28_code_13 : decode cX28_code 13 = .ok (.checkcast 19, 3) := zdec_at bX28_code_0 6 rfl
theorem dX28_code_16 : decode cX28_code 16 = .ok (.aload_n 1, 1) := zdec_at bX28_code_0 7 rfl
theorem dX28_code_17 : decode cX28_code 17 = .ok (.invokevirtual 21, 3) := zdec_at bX28_code_0 8 rfl
theorem dX28_code_20 : decode cX28_code 20 = .ok (.aload_n 1, 1) := zdec_at bX28_code_0 9 rfl
theorem dX28_code_21 : decode cX28_code 21 = .ok (.bipush 12, 2) := zdec_at bX28_code_0 10 rfl
theorem dX28_code_23 : decode cX28_code 23 = .ok (.iconst 0, 1) := zdec_at bX28_code_0 11 rfl
theorem dX28_code_24 : decode cX28_code 24 = .ok (.iconst 0, 1) := zdec_at bX28_code_0 12 rfl
theorem dX28_code_25 : decode cX28_code 25 = .ok (.invokevirtual 25, 3) := zdec_at bX28_code_0 13 rfl
theorem dX28_code_28 : decode cX28_code 28 = .ok (.pop, 1) := zdec_at bX28_code_0 14 rfl
theorem dX28_code_29 : decode cX28_code 29 = .ok (.goto 106, 3) := zdec_at bX28_code_0 15 rfl
theorem bX28_code_32 : zdec cX28_code 32 [(32, .aload_n 0, 1), (33, .getfield 9, 3), (36, .iconst 4, 1), (37, .if_icmp .ne 50, 3), (40, .aload_n 0, 1), (41, .getfield 15, 3), (44, .invokevirtual 31, 3), (47, .ifCond .eq 40, 3), (50, .aload_n 1, 1), (51, .aload_n 0, 1), (52, .getfield 15, 3), (55, .checkcast 35, 3), (58, .getfield 37, 3), (61, .invokevirtual 40, 3), (64, .ifCond .eq 23, 3), (67, .aload_n 1, 1)] = true := by decide +kernel
theorem dX28_code_32 : decode cX28_code 32 = .ok (.aload_n 0, 1) := zdec_at bX28_code_32 0 rfl
theorem dX28_code_33 : decode cX28_code 33 = .ok (.getfield 9, 3) := zdec_at bX28_code_32 1 rfl
theorem dX28_code_36 : decode cX28_code 36 = .ok (.iconst 4, 1) := zdec_at bX28_code_32 2 rfl
theorem dX28_code_37 : decode cX28_code 37 = .ok (.if_icmp .ne 50, 3) := zdec_at bX28_code_32 3 rfl
theorem dX28_code_40 : decode cX28_code 40 = .ok (.aload_n 0, 1) := zdec_at bX28_code_32 4 rfl
theorem dX28_code_41 : decode cX28_code 41 = .ok (.getfield 15, 3) := zdec_at bX28_code_32 5 rfl
theorem dX28_code_44 : decode cX28_code 44 = .ok (.invokevirtual 31, 3) := zdec_at bX28_code_32 6 rfl
theorem dX28_code_47 : decode cX28_code 47 = .ok (.ifCond .eq 40, 3) := zdec_at bX28_code_32 7 rfl
theorem dX28_code_50 : decode cX28_code 50 = .ok (.aload_n 1, 1) := zdec_at bX28_code_32 8 rfl
theorem dX28_code_51 : decode cX28_code 51 = .ok (.aload_n 0, 1) := zdec_at bX28_code_32 9 rfl
theorem dX28_code_52 : decode cX28_code 52 = .ok (.getfield 15, 3) := zdec_at bX28_code_32 10 rfl
theorem dX28_code_55 : decode cX28_code 55 = .ok (.checkcast 35, 3) := zdec_at bX28_code_32 11 rfl
theorem dX28_code_58 : decode cX28_code 58 = .ok (.getfield 37, 3) := zdec_at bX28_code_32 12 rfl
theorem dX28_code_61 : decode cX28_code 61 = .ok (.invokevirtual 40, 3) := zdec_at bX28_code_32 13 rfl
theorem dX28_code_64 : decode cX28_code 64 = .ok (.ifCond .eq 23, 3) := zdec_at bX28_code_32 14 rfl
theorem dX28_code_67 : decode cX28_code 67 = .ok (.aload_n 1, 1) := zdec_at bX28_code_32 15 rfl
theorem bX28_code_68 : zdec cX28_code 68 [(68, .iconst 5, 1), (69, .iconst 0, 1), (70, .aload_n 0, 1), (71, .getfield 15, 3), (74, .checkcast 35, 3), (77, .getfield 37, 3), (80, .invokevirtual 25, 3), (83, .pop, 1), (84, .goto 51, 3), (87, .aload_n 0, 1), (88, .getfield 15, 3), (91, .aload_n 1, 1), (92, .invokevirtual 44, 3), (95, .aload_n 0, 1), (96, .getfield 9, 3), (99, .iconst 5, 1)] = true := by decide +kernel
theorem dX28_code_68 : decode cX28_code 68 = .ok (.iconst 5, 1) := zdec_at bX28_code_68 0 rfl
theorem dX28_code_69 : decode cX28_code 69 = .ok (.iconst 0, 1) := zdec_at bX28_code_68 1 rfl
theorem dX28_code_70 : decode cX28_code 70 = .ok (.aload_n 0, 1) := zdec_at bX28_code_68 2 rfl
theorem dX28_code_71 : decode cX28_code 71 = .ok (.getfield 15, 3) := zdec_at bX28_code_68 3 rfl
theorem dX28_code_74 : decode cX28_code 74 = .ok (.checkcast 35, 3) := zdec_at bX28_code_68 4 rfl
theorem dX28_code_77 : decode cX28_code 77 = .ok (.getfield 37, 3) := zdec_at bX28_code_68 5 rfl
theorem dX28_code_80 : decode cX28_code 80 = .ok (.invokevirtual 25, 3) := zdec_at bX28_code_68 6 rfl
theorem dX28_code_83 : decode cX28_code 83 = .ok (.pop, 1) := zdec_at bX28_code_68 7 rfl
theorem dX28_code_84 : decode cX28_code 84 = .ok (.goto 51, 3) := zdec_at bX28_code_68 8 rfl
theorem dX28_code_87 : decode cX28_code 87 = .ok (.aload_n 0, 1) := zdec_at bX28_code_68 9 rfl
theorem dX28_code_88 : decode cX28_code 88 = .ok (.getfield 15, 3) := zdec_at bX28_code_68 10 rfl
theorem dX28_code_91 : decode cX28_code 91 = .ok (.aload_n 1, 1) := zdec_at bX28_code_68 11 rfl
theorem dX28_code_92 : decode cX28_code 92 = .ok (.invokevirtual 44, 3) := zdec_at bX28_code_68 12 rfl
theorem dX28_code_95 : decode cX28_code 95 = .ok (.aload_n 0, 1) := zdec_at bX28_code_68 13 rfl
theorem dX28_code_96 : decode cX28_code 96 = .ok (.getfield 9, 3) := zdec_at bX28_code_68 14 rfl
theorem dX28_code_99 : decode cX28_code 99 = .ok (.iconst 5, 1) := zdec_at bX28_code_68 15 rfl
theorem bX28_code_100 : zdec cX28_code 100 [(100, .if_icmp .ge 18, 3), (103, .aload_n 1, 1), (104, .bipush 13, 2), (106, .aload_n 0, 1), (107, .getfield 9, 3), (110, .iconst 0, 1), (111, .invokevirtual 25, 3), (114, .pop, 1), (115, .goto 20, 3), (118, .aload_n 1, 1), (119, .bipush 17, 2), (121, .iconst 0, 1), (122, .iconst 0, 1), (123, .invokevirtual 25, 3), (126, .pop, 1), (127, .aload_n 1, 1)] = true := by decide +kernel
theorem dX28_code_100 : decode cX28_code 100 = .ok (.if_icmp .ge 18, 3) := zdec_at bX28_code_100 0 rfl
theorem dX28_code_103 : decode cX28_code 103 = .ok (.aload_n 1, 1) := zdec_at bX28_code_100 1 rfl
theorem dX28_code_104 : decode cX28_code 104 = .ok (.bipush 13, 2) := zdec_at bX28_code_100 2 rfl
theorem dX28_code_106 : decode cX28_code 106 = .ok (.aload_n 0, 1) := zdec_at bX28_code_100 3 rfl
theorem dX28_code_107 : decode cX28_code 107 = .ok (.getfield 9, 3) := zdec_at bX28_code_100 4 rfl
theorem dX28_code_110 : decode cX28_code 110 = .ok (.iconst 0, 1) := zdec_at bX28_code_100 5 rfl
theorem dX28_code_111 : decode cX28_code 111 = .ok (.invokevirtual 25, 3) := zdec_at bX28_code_100 6 rfl
theorem dX28_code_114 : decode cX28_code 114 = .ok (.pop, 1) := zdec_at bX28_code_100 7 rfl
theorem dX28_code_115 : decode cX28_code 115 = .ok (.goto 20, 3) := zdec_at bX28_code_100 8 rfl
theorem dX28_code_118 : decode cX28_code 118 = .ok (.aload_n 1, 1) := zdec_at bX28_code_100 9 rfl
theorem dX28_code_119 : decode cX28_code 119 = .ok (.bipush 17, 2) := zdec_at bX28_code_100 10 rfl
theorem dX28_code_121 : decode cX28_code 121 = .ok (.iconst 0, 1) := zdec_at bX28_code_100 11 rfl
theorem dX28_code_122 : decode cX28_code 122 = .ok (.iconst 0, 1) := zdec_at bX28_code_100 12 rfl
theorem dX28_code_123 : decode cX28_code 123 = .ok (.invokevirtual 25, 3) := zdec_at bX28_code_100 13 rfl
theorem dX28_code_126 : decode cX28_code 126 = .ok (.pop, 1) := zdec_at bX28_code_100 14 rfl
theorem dX28_code_127 : decode cX28_code 127 = .ok (.aload_n 1, 1) := zdec_at bX28_code_100 15 rfl
theorem bX28_code_128 : zdec cX28_code 128 [(128, .iconst 0, 1), (129, .iconst 0, 1), (130, .iconst 0, 1), (131, .invokevirtual 25, 3), (134, .pop, 1), (135, .return_, 1)] = true := by decide +kernel
theorem dX28_code_128 : decode cX28_code 128 = .ok (.iconst 0, 1) := zdec_at bX28_code_128 0 rfl
theorem dX28_code_129 : decode cX28_code 129 = .ok (.iconst 0, 1) := zdec_at bX28_code_128 1 rfl
theorem dX28_code_130 : decode cX28_code 130 = .ok (.iconst 0, 1) := zdec_at bX28_code_128 2 rfl
theorem dX28_code_131 : decode cX28_code 131 = .ok (.invokevirtual 25, 3) := zdec_at bX28_code_128 3 rfl
theorem dX28_code_134 : decode cX28_code 134 = .ok (.pop, 1) := zdec_at bX28_code_128 4 rfl
theorem dX28_code_135 : decode cX28_code 135 = .ok (.return_, 1) := zdec_at bX28_code_128 5 rfl
theorem sX28_code_0 {E : zE} {d : Nat} {Q : zO → zM → Prop} (M : zM) (a0 : Nat) (r1 : Option zP) (k : if (gi M a0 0) = (6 : Int32) then (∃ b1 : Nat, (gr M a0 1) = some (b1, 30, 0) ∧ (Z E YX24_place d M (zargs 0 [vr (some (b1, 30, 0)), vr r1]) 0 [] (zafter E YX28_code (d + 1) [(1, vr r1)] 17 3 [] Q))) else (if (gi M a0 0) = (4 : Int32) then (∃ b1 t1 : Nat, (gr M a0 1) = some (b1, t1, 0) ∧ (∃ Y_ : zY, vt_isName t1 = some Y_ ∧ Z E Y_ d M (zargs 0 [vr (some (b1, t1, 0))]) 0 [] (zafter E YX28_code (d + 1) [(0, vr (some (a0, 33, 0))), (1, vr r1)] 44 3 [] Q))) else (∃ b1 t1 : Nat, (gr M a0 1) = some (b1, t1, 0) ∧ (∃ Y_ : zY, vt_code t1 = some Y_ ∧ Z E Y_ d M (zargs 0 [vr (some (b1, t1, 0)), vr r1]) 0 [] (zafter E YX28_code (d + 1) [(0, vr (some (a0, 33, 0))), (1, vr r1)] 92 3 [] Q))))) : Z E YX28_code (d + 1) M [(0, vr (some (a0, 33, 0))), (1, vr r1)] 0 [] Q := by
  refine z_aload_n dX28_code_0 rfl rfl ?_
  refine z_geti dX28_code_1 fsX28_9_33 ?_
  refine z_bipush (v := 6) dX28_code_4 rfl ?_
  refine z_icmp_ne (tgt := 32) dX28_code_6 rfl (fun h_ => ?_) (fun h_ => ?_)
  · have k := zif h_ k
    refine z_aload_n dX28_code_32 rfl rfl ?_
    refine z_geti dX28_code_33 fsX28_9_33 ?_
    refine z_iconst (v := 4) dX28_code_36 rfl ?_
    refine z_icmp_ne (tgt := 87) dX28_code_37 rfl (fun h_ => ?_) (fun h_ => ?_)
    · have k := zif h_ k
      refine z_aload_n dX28_code_87 rfl rfl ?_
      refine z_getr (r := (gr M a0 1)) dX28_code_88 fsX28_15_33 rfl ?_
      refine z_aload_n dX28_code_91 rfl rfl ?_
      obtain ⟨b1, t1, e1_, k⟩ := k
      refine Z.eqs (lv' := [(0, vr (some (a0, 33, 0))), (1, vr r1)]) (st' := [vr r1, vr (some (b1, t1, 0))]) rfl (by rw [e1_] <;> rfl) ?_
      obtain ⟨Y_, y_, k⟩ := k
      exact z_callV (as := [vr r1]) (st := []) dX28_code_92 (vtX28_44 y_).1 (Nat.le_refl _) (Nat.le_trans (Nat.le_of_ble_eq_true rfl) (vtX28_44 y_).2.1) (Nat.le_trans (Nat.add_le_add_left (vtX28_44 y_).2.2 _) (Nat.le_of_ble_eq_true rfl)) rfl k
    · have k := zit h_ k
      refine z_aload_n dX28_code_40 rfl rfl ?_
      refine z_getr (r := (gr M a0 1)) dX28_code_41 fsX28_15_33 rfl ?_
      obtain ⟨b1, t1, e1_, k⟩ := k
      refine Z.eqs (lv' := [(0, vr (some (a0, 33, 0))), (1, vr r1)]) (st' := [vr (some (b1, t1, 0))]) rfl (by rw [e1_] <;> rfl) ?_
      obtain ⟨Y_, y_, k⟩ := k
      exact z_callV (as := []) (st := []) dX28_code_44 (vtX28_31 y_).1 (Nat.le_refl _) (Nat.le_trans (Nat.le_of_ble_eq_true rfl) (vtX28_31 y_).2.1) (Nat.le_trans (Nat.add_le_add_left (vtX28_31 y_).2.2 _) (Nat.le_of_ble_eq_true rfl)) rfl k
  · have k := zit h_ k
    refine z_aload_n dX28_code_9 rfl rfl ?_
    refine z_getr (r := (gr M a0 1)) dX28_code_10 fsX28_15_33 rfl ?_
    obtain ⟨b1, e1_, k⟩ := k
    refine Z.eqs (lv' := [(0, vr (some (a0, 33, 0))), (1, vr r1)]) (st' := [vr (some (b1, 30, 0))]) rfl (by rw [e1_] <;> rfl) ?_
    refine z_ckcast dX28_code_13 ctX28_19_30 ?_
    refine z_aload_n dX28_code_16 rfl rfl ?_
    refine Z.pick [1] rfl ?_
    exact z_callV (as := [vr r1]) (st := []) dX28_code_17 vsX28_21_30 (Nat.le_refl _) (Nat.le_of_ble_eq_true rfl) (Nat.le_of_ble_eq_true rfl) rfl k
theorem sX28_code_20 {E : zE} {d : Nat} {Q : zO → zM → Prop} (M : zM) (r1 : Option zP) (k : ∃ b1 : Nat, r1 = some (b1, 3, 0) ∧ (Z E YX3_put d M (zargs 0 [vr (some (b1, 3, 0)), vi (12 : Int32), vi (0 : Int32), vi (0 : Int32)]) 0 [] (zafter E YX28_code (d + 1) [] 25 3 [] Q))) : Z E YX28_code (d + 1) M [(1, vr r1)] 20 [] Q := by
  refine z_aload_n dX28_code_20 rfl rfl ?_
  refine z_bipush (v := 12) dX28_code_21 rfl ?_
  refine z_iconst (v := 0) dX28_code_23 rfl ?_
  refine z_iconst (v := 0) dX28_code_24 rfl ?_
  obtain ⟨b1, e1_, k⟩ := k
  refine Z.eqs (lv' := [(1, vr (some (b1, 3, 0)))]) (st' := [vi (0 : Int32), vi (0 : Int32), vi (12 : Int32), vr (some (b1, 3, 0))]) (by rw [e1_] <;> rfl) (by rw [e1_] <;> rfl) ?_
  refine Z.pick [] rfl ?_
  exact z_callV (as := [vi (12 : Int32), vi (0 : Int32), vi (0 : Int32)]) (st := []) dX28_code_25 vsX28_25_3 (Nat.le_refl _) (Nat.le_of_ble_eq_true rfl) (Nat.le_of_ble_eq_true rfl) rfl k
theorem sX28_code_28 {E : zE} {d : Nat} {Q : zO → zM → Prop} (M : zM) (s0 : Int32) (k : Q (.inl none) M) : Z E YX28_code (d + 1) M [] 28 [vi s0] Q := by
  refine z_pop dX28_code_28 rfl ?_
  refine z_goto (tgt := 135) dX28_code_29 rfl ?_
  exact z_vret dX28_code_135 rfl k
theorem sX28_code_47 {E : zE} {d : Nat} {Q : zO → zM → Prop} (M : zM) (a0 : Nat) (r1 : Option zP) (s0 : Int32) (k : if s0 = 0 then (∃ b1 t1 : Nat, (gr M a0 1) = some (b1, t1, 0) ∧ (∃ Y_ : zY, vt_code t1 = some Y_ ∧ Z E Y_ d M (zargs 0 [vr (some (b1, t1, 0)), vr r1]) 0 [] (zafter E YX28_code (d + 1) [(0, vr (some (a0, 33, 0))), (1, vr r1)] 92 3 [] Q))) else (∃ b1 : Nat, (gr M a0 1) = some (b1, 23, 0) ∧ (∃ b2 : Nat, r1 = some (b2, 3, 0) ∧ (Z E YX3_isGlobal d M (zargs 0 [vr (some (b2, 3, 0)), vi (gi M b1 0)]) 0 [] (zafter E YX28_code (d + 1) [(0, vr (some (a0, 33, 0))), (1, vr (some (b2, 3, 0)))] 61 3 [] Q))))) : Z E YX28_code (d + 1) M [(0, vr (some (a0, 33, 0))), (1, vr r1)] 47 [vi s0] Q := by
  refine z_if_eq (tgt := 87) dX28_code_47 rfl (fun h_ => ?_) (fun h_ => ?_)
  · have k := zit h_ k
    refine z_aload_n dX28_code_87 rfl rfl ?_
    refine z_getr (r := (gr M a0 1)) dX28_code_88 fsX28_15_33 rfl ?_
    refine z_aload_n dX28_code_91 rfl rfl ?_
    obtain ⟨b1, t1, e1_, k⟩ := k
    refine Z.eqs (lv' := [(0, vr (some (a0, 33, 0))), (1, vr r1)]) (st' := [vr r1, vr (some (b1, t1, 0))]) rfl (by rw [e1_] <;> rfl) ?_
    obtain ⟨Y_, y_, k⟩ := k
    exact z_callV (as := [vr r1]) (st := []) dX28_code_92 (vtX28_44 y_).1 (Nat.le_refl _) (Nat.le_trans (Nat.le_of_ble_eq_true rfl) (vtX28_44 y_).2.1) (Nat.le_trans (Nat.add_le_add_left (vtX28_44 y_).2.2 _) (Nat.le_of_ble_eq_true rfl)) rfl k
  · have k := zif h_ k
    refine z_aload_n dX28_code_50 rfl rfl ?_
    refine z_aload_n dX28_code_51 rfl rfl ?_
    refine z_getr (r := (gr M a0 1)) dX28_code_52 fsX28_15_33 rfl ?_
    obtain ⟨b1, e1_, k⟩ := k
    refine Z.eqs (lv' := [(0, vr (some (a0, 33, 0))), (1, vr r1)]) (st' := [vr (some (b1, 23, 0)), vr r1]) rfl (by rw [e1_] <;> rfl) ?_
    refine z_ckcast dX28_code_55 ctX28_35_23 ?_
    refine z_geti dX28_code_58 fsX28_37_23 ?_
    obtain ⟨b2, e2_, k⟩ := k
    refine Z.eqs (lv' := [(0, vr (some (a0, 33, 0))), (1, vr (some (b2, 3, 0)))]) (st' := [vi (gi M b1 0), vr (some (b2, 3, 0))]) (by rw [e2_] <;> rfl) (by rw [e2_] <;> rfl) ?_
    exact z_callV (as := [vi (gi M b1 0)]) (st := []) dX28_code_61 vsX28_40_3 (Nat.le_refl _) (Nat.le_of_ble_eq_true rfl) (Nat.le_of_ble_eq_true rfl) rfl k
theorem sX28_code_64 {E : zE} {d : Nat} {Q : zO → zM → Prop} (M : zM) (a0 : Nat) (a1 : Nat) (s0 : Int32) (k : if s0 = 0 then (∃ b1 t1 : Nat, (gr M a0 1) = some (b1, t1, 0) ∧ (∃ Y_ : zY, vt_code t1 = some Y_ ∧ Z E Y_ d M (zargs 0 [vr (some (b1, t1, 0)), vr (some (a1, 3, 0))]) 0 [] (zafter E YX28_code (d + 1) [(0, vr (some (a0, 33, 0))), (1, vr (some (a1, 3, 0)))] 92 3 [] Q))) else (∃ b1 : Nat, (gr M a0 1) = some (b1, 23, 0) ∧ (Z E YX3_put d M (zargs 0 [vr (some (a1, 3, 0)), vi (5 : Int32), vi (0 : Int32), vi (gi M b1 0)]) 0 [] (zafter E YX28_code (d + 1) [] 80 3 [] Q)))) : Z E YX28_code (d + 1) M [(0, vr (some (a0, 33, 0))), (1, vr (some (a1, 3, 0)))] 64 [vi s0] Q := by
  refine z_if_eq (tgt := 87) dX28_code_64 rfl (fun h_ => ?_) (fun h_ => ?_)
  · have k := zit h_ k
    refine z_aload_n dX28_code_87 rfl rfl ?_
    refine z_getr (r := (gr M a0 1)) dX28_code_88 fsX28_15_33 rfl ?_
    refine z_aload_n dX28_code_91 rfl rfl ?_
    obtain ⟨b1, t1, e1_, k⟩ := k
    refine Z.eqs (lv' := [(0, vr (some (a0, 33, 0))), (1, vr (some (a1, 3, 0)))]) (st' := [vr (some (a1, 3, 0)), vr (some (b1, t1, 0))]) rfl (by rw [e1_] <;> rfl) ?_
    obtain ⟨Y_, y_, k⟩ := k
    exact z_callV (as := [vr (some (a1, 3, 0))]) (st := []) dX28_code_92 (vtX28_44 y_).1 (Nat.le_refl _) (Nat.le_trans (Nat.le_of_ble_eq_true rfl) (vtX28_44 y_).2.1) (Nat.le_trans (Nat.add_le_add_left (vtX28_44 y_).2.2 _) (Nat.le_of_ble_eq_true rfl)) rfl k
  · have k := zif h_ k
    refine z_aload_n dX28_code_67 rfl rfl ?_
    refine z_iconst (v := 5) dX28_code_68 rfl ?_
    refine z_iconst (v := 0) dX28_code_69 rfl ?_
    refine z_aload_n dX28_code_70 rfl rfl ?_
    refine z_getr (r := (gr M a0 1)) dX28_code_71 fsX28_15_33 rfl ?_
    obtain ⟨b1, e1_, k⟩ := k
    refine Z.eqs (lv' := [(0, vr (some (a0, 33, 0))), (1, vr (some (a1, 3, 0)))]) (st' := [vr (some (b1, 23, 0)), vi (0 : Int32), vi (5 : Int32), vr (some (a1, 3, 0))]) rfl (by rw [e1_] <;> rfl) ?_
    refine z_ckcast dX28_code_74 ctX28_35_23 ?_
    refine z_geti dX28_code_77 fsX28_37_23 ?_
    refine Z.pick [] rfl ?_
    exact z_callV (as := [vi (5 : Int32), vi (0 : Int32), vi (gi M b1 0)]) (st := []) dX28_code_80 vsX28_25_3 (Nat.le_refl _) (Nat.le_of_ble_eq_true rfl) (Nat.le_of_ble_eq_true rfl) rfl k
theorem sX28_code_83 {E : zE} {d : Nat} {Q : zO → zM → Prop} (M : zM) (s0 : Int32) (k : Q (.inl none) M) : Z E YX28_code (d + 1) M [] 83 [vi s0] Q := by
  refine z_pop dX28_code_83 rfl ?_
  refine z_goto (tgt := 135) dX28_code_84 rfl ?_
  exact z_vret dX28_code_135 rfl k
theorem sX28_code_95 {E : zE} {d : Nat} {Q : zO → zM → Prop} (M : zM) (a0 : Nat) (r1 : Option zP) (k : if (5 : Int32) ≤ (gi M a0 0) then (∃ b1 : Nat, r1 = some (b1, 3, 0) ∧ (Z E YX3_put d M (zargs 0 [vr (some (b1, 3, 0)), vi (17 : Int32), vi (0 : Int32), vi (0 : Int32)]) 0 [] (zafter E YX28_code (d + 1) [(1, vr (some (b1, 3, 0)))] 123 3 [] Q))) else (∃ b1 : Nat, r1 = some (b1, 3, 0) ∧ (Z E YX3_put d M (zargs 0 [vr (some (b1, 3, 0)), vi (13 : Int32), vi (gi M a0 0), vi (0 : Int32)]) 0 [] (zafter E YX28_code (d + 1) [] 111 3 [] Q)))) : Z E YX28_code (d + 1) M [(0, vr (some (a0, 33, 0))), (1, vr r1)] 95 [] Q := by
  refine z_aload_n dX28_code_95 rfl rfl ?_
  refine z_geti dX28_code_96 fsX28_9_33 ?_
  refine z_iconst (v := 5) dX28_code_99 rfl ?_
  refine z_icmp_ge (tgt := 118) dX28_code_100 rfl (fun h_ => ?_) (fun h_ => ?_)
  · have k := zit h_ k
    refine z_aload_n dX28_code_118 rfl rfl ?_
    refine z_bipush (v := 17) dX28_code_119 rfl ?_
    refine z_iconst (v := 0) dX28_code_121 rfl ?_
    refine z_iconst (v := 0) dX28_code_122 rfl ?_
    obtain ⟨b1, e1_, k⟩ := k
    refine Z.eqs (lv' := [(0, vr (some (a0, 33, 0))), (1, vr (some (b1, 3, 0)))]) (st' := [vi (0 : Int32), vi (0 : Int32), vi (17 : Int32), vr (some (b1, 3, 0))]) (by rw [e1_] <;> rfl) (by rw [e1_] <;> rfl) ?_
    refine Z.pick [1] rfl ?_
    exact z_callV (as := [vi (17 : Int32), vi (0 : Int32), vi (0 : Int32)]) (st := []) dX28_code_123 vsX28_25_3 (Nat.le_refl _) (Nat.le_of_ble_eq_true rfl) (Nat.le_of_ble_eq_true rfl) rfl k
  · have k := zif h_ k
    refine z_aload_n dX28_code_103 rfl rfl ?_
    refine z_bipush (v := 13) dX28_code_104 rfl ?_
    refine z_aload_n dX28_code_106 rfl rfl ?_
    refine z_geti dX28_code_107 fsX28_9_33 ?_
    refine z_iconst (v := 0) dX28_code_110 rfl ?_
    obtain ⟨b1, e1_, k⟩ := k
    refine Z.eqs (lv' := [(0, vr (some (a0, 33, 0))), (1, vr (some (b1, 3, 0)))]) (st' := [vi (0 : Int32), vi (gi M a0 0), vi (13 : Int32), vr (some (b1, 3, 0))]) (by rw [e1_] <;> rfl) (by rw [e1_] <;> rfl) ?_
    refine Z.pick [] rfl ?_
    exact z_callV (as := [vi (13 : Int32), vi (gi M a0 0), vi (0 : Int32)]) (st := []) dX28_code_111 vsX28_25_3 (Nat.le_refl _) (Nat.le_of_ble_eq_true rfl) (Nat.le_of_ble_eq_true rfl) rfl k
theorem sX28_code_114 {E : zE} {d : Nat} {Q : zO → zM → Prop} (M : zM) (s0 : Int32) (k : Q (.inl none) M) : Z E YX28_code (d + 1) M [] 114 [vi s0] Q := by
  refine z_pop dX28_code_114 rfl ?_
  refine z_goto (tgt := 135) dX28_code_115 rfl ?_
  exact z_vret dX28_code_135 rfl k
theorem sX28_code_126 {E : zE} {d : Nat} {Q : zO → zM → Prop} (M : zM) (a1 : Nat) (s0 : Int32) (k : Z E YX3_put d M (zargs 0 [vr (some (a1, 3, 0)), vi (0 : Int32), vi (0 : Int32), vi (0 : Int32)]) 0 [] (zafter E YX28_code (d + 1) [] 131 3 [] Q)) : Z E YX28_code (d + 1) M [(1, vr (some (a1, 3, 0)))] 126 [vi s0] Q := by
  refine z_pop dX28_code_126 rfl ?_
  refine z_aload_n dX28_code_127 rfl rfl ?_
  refine z_iconst (v := 0) dX28_code_128 rfl ?_
  refine z_iconst (v := 0) dX28_code_129 rfl ?_
  refine z_iconst (v := 0) dX28_code_130 rfl ?_
  refine Z.pick [] rfl ?_
  exact z_callV (as := [vi (0 : Int32), vi (0 : Int32), vi (0 : Int32)]) (st := []) dX28_code_131 vsX28_25_3 (Nat.le_refl _) (Nat.le_of_ble_eq_true rfl) (Nat.le_of_ble_eq_true rfl) rfl k
theorem sX28_code_134 {E : zE} {d : Nat} {Q : zO → zM → Prop} (M : zM) (s0 : Int32) (k : Q (.inl none) M) : Z E YX28_code (d + 1) M [] 134 [vi s0] Q := by
  refine z_pop dX28_code_134 rfl ?_
  exact z_vret dX28_code_135 rfl k
/-! ScriptTypes$Both.<init>(ILScriptTypes$Node;)V -/
theorem bX29_init_0 : zdec cX29_init 0 [(0, .aload_n 0, 1), (1, .invokespecial 1, 3), (4, .aload_n 0, 1), (5, .new 7, 3), (8, .dup, 1), (9, .invokespecial 9, 3), (12, .putfield 10, 3), (15, .aload_n 0, 1), (16, .iload_n 1, 1), (17, .putfield 16, 3), (20, .aload_n 0, 1), (21, .getfield 10, 3), (24, .aload_n 2, 1), (25, .invokevirtual 20, 3), (28, .pop, 1), (29, .return_, 1)] = true := by decide +kernel
theorem dX29_init_0 : decode cX29_init 0 = .ok (.aload_n 0, 1) := zdec_at bX29_init_0 0 rfl
theorem dX29_init_1 : decode cX29_init 1 = .ok (.invokespecial 1, 3) := zdec_at bX29_init_0 1 rfl
theorem dX29_init_4 : decode cX29_init 4 = .ok (.aload_n 0, 1) := zdec_at bX29_init_0 2 rfl
theorem dX29_init_5 : decode cX29_init 5 = .ok (.new 7, 3) := zdec_at bX29_init_0 3 rfl
theorem dX29_init_8 : decode cX29_init 8 = .ok (.dup, 1) := zdec_at bX29_init_0 4 rfl
theorem dX29_init_9 : decode cX29_init 9 = .ok (.invokespecial 9, 3) := zdec_at bX29_init_0 5 rfl
theorem dX29_init_12 : decode cX29_init 12 = .ok (.putfield 10, 3) := zdec_at bX29_init_0 6 rfl
theorem dX29_init_15 : decode cX29_init 15 = .ok (.aload_n 0, 1) := zdec_at bX29_init_0 7 rfl
theorem dX29_init_16 : decode cX29_init 16 = .ok (.iload_n 1, 1) := zdec_at bX29_init_0 8 rfl
theorem dX29_init_17 : decode cX29_init 17 = .ok (.putfield 16, 3) := zdec_at bX29_init_0 9 rfl
theorem dX29_init_20 : decode cX29_init 20 = .ok (.aload_n 0, 1) := zdec_at bX29_init_0 10 rfl
theorem dX29_init_21 : decode cX29_init 21 = .ok (.getfield 10, 3) := zdec_at bX29_init_0 11 rfl
theorem dX29_init_24 : decode cX29_init 24 = .ok (.aload_n 2, 1) := zdec_at bX29_init_0 12 rfl
theorem dX29_init_25 : decode cX29_init 25 = .ok (.invokevirtual 20, 3) := zdec_at bX29_init_0 13 rfl
theorem dX29_init_28 : decode cX29_init 28 = .ok (.pop, 1) := zdec_at bX29_init_0 14 rfl
theorem dX29_init_29 : decode cX29_init 29 = .ok (.return_, 1) := zdec_at bX29_init_0 15 rfl
theorem sX29_init_0 {E : zE} {d : Nat} {Q : zO → zM → Prop} (M : zM) (a0 : Nat) (l1 : Int32) (r2 : Option zP) (k : Z E YX13_init d M (zargs 0 [vr (some (a0, 34, 0))]) 0 [] (zafter E YX29_init (d + 1) [(0, vr (some (a0, 34, 0))), (1, vi l1), (2, vr r2)] 1 3 [] Q)) : Z E YX29_init (d + 1) M [(0, vr (some (a0, 34, 0))), (1, vi l1), (2, vr r2)] 0 [] Q := by
  refine z_aload_n dX29_init_0 rfl rfl ?_
  exact z_callI (as := []) (st := []) dX29_init_1 isX29_1 (Nat.le_refl _) (Nat.le_of_ble_eq_true rfl) (Nat.le_of_ble_eq_true rfl) rfl k
theorem sX29_init_4 {E : zE} {d : Nat} {Q : zO → zM → Prop} (M : zM) (a0 : Nat) (l1 : Int32) (r2 : Option zP) (k : Z E YX29_init (d + 1) (zn M 3) [(0, vr (some (a0, 34, 0))), (1, vi l1), (2, vr r2)] 8 [vr (some ((zsz M), 11, 0)), vr (some (a0, 34, 0))] Q) : Z E YX29_init (d + 1) M [(0, vr (some (a0, 34, 0))), (1, vi l1), (2, vr r2)] 4 [] Q := by
  refine z_aload_n dX29_init_4 rfl rfl ?_
  refine z_new dX29_init_5 csX29_7 zff_11 ?_
  exact k
theorem sX29_init_8 {E : zE} {d : Nat} {Q : zO → zM → Prop} (M : zM) (a0 : Nat) (l1 : Int32) (r2 : Option zP) (p0 : Nat) (k : Z E YJ2_init d M (zargs 0 [vr (some (p0, 11, 0))]) 0 [] (zafter E YX29_init (d + 1) [(0, vr (some (a0, 34, 0))), (1, vi l1), (2, vr r2)] 9 3 [vr (some (p0, 11, 0)), vr (some (a0, 34, 0))] Q)) : Z E YX29_init (d + 1) M [(0, vr (some (a0, 34, 0))), (1, vi l1), (2, vr r2)] 8 [vr (some (p0, 11, 0)), vr (some (a0, 34, 0))] Q := by
  refine z_dup dX29_init_8 rfl ?_
  exact z_callI (as := []) (st := [vr (some (p0, 11, 0)), vr (some (a0, 34, 0))]) dX29_init_9 isX29_9 (Nat.le_refl _) (Nat.le_of_ble_eq_true rfl) (Nat.le_of_ble_eq_true rfl) rfl k
theorem sX29_init_12 {E : zE} {d : Nat} {Q : zO → zM → Prop} (M : zM) (a0 : Nat) (l1 : Int32) (r2 : Option zP) (p0 : Nat) (k : 16 ≤ a0 ∧ (16 ≤ a0 ∧ (∃ b1 : Nat, (gr (sr M a0 1 (some (p0, 11, 0))) a0 1) = some (b1, 11, 0) ∧ (Z E YJ2_add d (si (sr M a0 1 (some (p0, 11, 0))) a0 0 l1) (zargs 0 [vr (some (b1, 11, 0)), vr r2]) 0 [] (zafter E YX29_init (d + 1) [] 25 3 [] Q))))) : Z E YX29_init (d + 1) M [(0, vr (some (a0, 34, 0))), (1, vi l1), (2, vr r2)] 12 [vr (some (p0, 11, 0)), vr (some (a0, 34, 0))] Q := by
  obtain ⟨g_, k⟩ := k
  refine z_putr g_ dX29_init_12 (zfwN.f fwX29_10_34 rfl (fun q h => by rw [← Option.some.inj h]; rfl)) rfl ?_
  refine z_aload_n dX29_init_15 rfl rfl ?_
  refine z_iload_n dX29_init_16 rfl rfl ?_
  obtain ⟨g_, k⟩ := k
  refine z_puti g_ dX29_init_17 (zfwN.f fwX29_16_34 rfl (fun q h => by rw [← Option.some.inj h]; rfl)) rfl ⟨rfl, rfl⟩ ?_
  refine z_aload_n dX29_init_20 rfl rfl ?_
  refine z_getr (r := (gr (sr M a0 1 (some (p0, 11, 0))) a0 1)) dX29_init_21 fsX29_10_34 rfl ?_
  refine z_aload_n dX29_init_24 rfl rfl ?_
  obtain ⟨b1, e1_, k⟩ := k
  refine Z.eqs (lv' := [(0, vr (some (a0, 34, 0))), (1, vi l1), (2, vr r2)]) (st' := [vr r2, vr (some (b1, 11, 0))]) rfl (by rw [e1_] <;> rfl) ?_
  refine Z.pick [] rfl ?_
  exact z_callV (as := [vr r2]) (st := []) dX29_init_25 vsX29_20_11 (Nat.le_refl _) (Nat.le_of_ble_eq_true rfl) (Nat.le_of_ble_eq_true rfl) rfl k
theorem sX29_init_28 {E : zE} {d : Nat} {Q : zO → zM → Prop} (M : zM) (s0 : Int32) (k : Q (.inl none) M) : Z E YX29_init (d + 1) M [] 28 [vi s0] Q := by
  refine z_pop dX29_init_28 rfl ?_
  exact z_vret dX29_init_29 rfl k
/-! ScriptTypes$Both.code(LScriptTypes$Coder;)V -/
theorem bX29_code_0 : zdec cX29_code 0 [(0, .aload_n 0, 1), (1, .getfield 10, 3), (4, .iconst 0, 1), (5, .invokevirtual 24, 3), (8, .checkcast 2, 3), (11, .aload_n 1, 1), (12, .invokevirtual 28, 3), (15, .iconst 1, 1), (16, .istore_n 2, 1), (17, .iload_n 2, 1), (18, .aload_n 0, 1), (19, .getfield 10, 3), (22, .invokevirtual 32, 3), (25, .if_icmp .ge 40, 3), (28, .aload_n 1, 1), (29, .aload_n 0, 1)] = true := by decide +kernel
theorem dX29_code_0 : decode cX29_code 0 = .ok (.aload_n 0, 1) := zdec_at bX29_code_0 0 rfl
theorem dX29_code_1 : decode cX29_code 1 = .ok (.getfield 10, 3) := zdec_at bX29_code_0 1 rfl
theorem dX29_code_4 : decode cX29_code 4 = .ok (.iconst 0, 1) := zdec_at bX29_code_0 2 rfl
theorem dX29_code_5 : decode cX29_code 5 = .ok (.invokevirtual 24, 3) := zdec_at bX29_code_0 3 rfl
theorem dX29_code_8 : decode cX29_code 8 = .ok (.checkcast 2, 3) := zdec_at bX29_code_0 4 rfl
theorem dX29_code_11 : decode cX29_code 11 = .ok (.aload_n 1, 1) := zdec_at bX29_code_0 5 rfl
theorem dX29_code_12 : decode cX29_code 12 = .ok (.invokevirtual 28, 3) := zdec_at bX29_code_0 6 rfl
theorem dX29_code_15 : decode cX29_code 15 = .ok (.iconst 1, 1) := zdec_at bX29_code_0 7 rfl
theorem dX29_code_16 : decode cX29_code 16 = .ok (.istore_n 2, 1) := zdec_at bX29_code_0 8 rfl
theorem dX29_code_17 : decode cX29_code 17 = .ok (.iload_n 2, 1) := zdec_at bX29_code_0 9 rfl
theorem dX29_code_18 : decode cX29_code 18 = .ok (.aload_n 0, 1) := zdec_at bX29_code_0 10 rfl
theorem dX29_code_19 : decode cX29_code 19 = .ok (.getfield 10, 3) := zdec_at bX29_code_0 11 rfl
theorem dX29_code_22 : decode cX29_code 22 = .ok (.invokevirtual 32, 3) := zdec_at bX29_code_0 12 rfl
theorem dX29_code_25 : decode cX29_code 25 = .ok (.if_icmp .ge 40, 3) := zdec_at bX29_code_0 13 rfl
theorem dX29_code_28 : decode cX29_code 28 = .ok (.aload_n 1, 1) := zdec_at bX29_code_0 14 rfl
theorem dX29_code_29 : decode cX29_code 29 = .ok (.aload_n 0, 1) := zdec_at bX29_code_0 15 rfl
theorem bX29_code_30 : zdec cX29_code 30 [(30, .getfield 16, 3), (33, .iconst 0, 1), (34, .iconst 0, 1), (35, .invokevirtual 36, 3), (38, .istore_n 3, 1), (39, .aload_n 0, 1), (40, .getfield 10, 3), (43, .iload_n 2, 1), (44, .invokevirtual 24, 3), (47, .checkcast 2, 3), (50, .aload_n 1, 1), (51, .invokevirtual 28, 3), (54, .aload_n 1, 1), (55, .iload_n 3, 1), (56, .invokevirtual 42, 3), (59, .iinc 2 1, 3)] = true := by decide +kernel
theorem dX29_code_30 : decode cX29_code 30 = .ok (.getfield 16, 3) := zdec_at bX29_code_30 0 rfl
theorem dX29_code_33 : decode cX29_code 33 = .ok (.iconst 0, 1) := zdec_at bX29_code_30 1 rfl
theorem dX29_code_34 : decode cX29_code 34 = .ok (.iconst 0, 1) := zdec_at bX29_code_30 2 rfl
theorem dX29_code_35 : decode cX29_code 35 = .ok (.invokevirtual 36, 3) := zdec_at bX29_code_30 3 rfl
theorem dX29_code_38 : decode cX29_code 38 = .ok (.istore_n 3, 1) := zdec_at bX29_code_30 4 rfl
theorem dX29_code_39 : decode cX29_code 39 = .ok (.aload_n 0, 1) := zdec_at bX29_code_30 5 rfl
theorem dX29_code_40 : decode cX29_code 40 = .ok (.getfield 10, 3) := zdec_at bX29_code_30 6 rfl
theorem dX29_code_43 : decode cX29_code 43 = .ok (.iload_n 2, 1) := zdec_at bX29_code_30 7 rfl
theorem dX29_code_44 : decode cX29_code 44 = .ok (.invokevirtual 24, 3) := zdec_at bX29_code_30 8 rfl
theorem dX29_code_47 : decode cX29_code 47 = .ok (.checkcast 2, 3) := zdec_at bX29_code_30 9 rfl
theorem dX29_code_50 : decode cX29_code 50 = .ok (.aload_n 1, 1) := zdec_at bX29_code_30 10 rfl
theorem dX29_code_51 : decode cX29_code 51 = .ok (.invokevirtual 28, 3) := zdec_at bX29_code_30 11 rfl
theorem dX29_code_54 : decode cX29_code 54 = .ok (.aload_n 1, 1) := zdec_at bX29_code_30 12 rfl
theorem dX29_code_55 : decode cX29_code 55 = .ok (.iload_n 3, 1) := zdec_at bX29_code_30 13 rfl
theorem dX29_code_56 : decode cX29_code 56 = .ok (.invokevirtual 42, 3) := zdec_at bX29_code_30 14 rfl
theorem dX29_code_59 : decode cX29_code 59 = .ok (.iinc 2 1, 3) := zdec_at bX29_code_30 15 rfl
theorem bX29_code_62 : zdec cX29_code 62 [(62, .goto (-45), 3), (65, .return_, 1)] = true := by decide +kernel
theorem dX29_code_62 : decode cX29_code 62 = .ok (.goto (-45), 3) := zdec_at bX29_code_62 0 rfl
theorem dX29_code_65 : decode cX29_code 65 = .ok (.return_, 1) := zdec_at bX29_code_62 1 rfl
theorem sX29_code_0 {E : zE} {d : Nat} {Q : zO → zM → Prop} (M : zM) (a0 : Nat) (r1 : Option zP) (k : ∃ b1 : Nat, (gr M a0 1) = some (b1, 11, 0) ∧ (Z E YJ2_get d M (zargs 0 [vr (some (b1, 11, 0)), vi (0 : Int32)]) 0 [] (zafter E YX29_code (d + 1) [(0, vr (some (a0, 34, 0))), (1, vr r1)] 5 3 [] Q))) : Z E YX29_code (d + 1) M [(0, vr (some (a0, 34, 0))), (1, vr r1)] 0 [] Q := by
  refine z_aload_n dX29_code_0 rfl rfl ?_
  refine z_getr (r := (gr M a0 1)) dX29_code_1 fsX29_10_34 rfl ?_
  refine z_iconst (v := 0) dX29_code_4 rfl ?_
  obtain ⟨b1, e1_, k⟩ := k
  refine Z.eqs (lv' := [(0, vr (some (a0, 34, 0))), (1, vr r1)]) (st' := [vi (0 : Int32), vr (some (b1, 11, 0))]) rfl (by rw [e1_] <;> rfl) ?_
  exact z_callV (as := [vi (0 : Int32)]) (st := []) dX29_code_5 vsX29_24_11 (Nat.le_refl _) (Nat.le_of_ble_eq_true rfl) (Nat.le_of_ble_eq_true rfl) rfl k
theorem sX29_code_8 {E : zE} {d : Nat} {Q : zO → zM → Prop} (M : zM) (a0 : Nat) (r1 : Option zP) (u0 : Option zP) (k : ∃ b1 t1 : Nat, u0 = some (b1, t1, 0) ∧ ((20 ≤ t1 ∧ t1 < 45) ∧ (∃ Y_ : zY, vt_code t1 = some Y_ ∧ Z E Y_ d M (zargs 0 [vr (some (b1, t1, 0)), vr r1]) 0 [] (zafter E YX29_code (d + 1) [(0, vr (some (a0, 34, 0))), (1, vr r1)] 12 3 [] Q)))) : Z E YX29_code (d + 1) M [(0, vr (some (a0, 34, 0))), (1, vr r1)] 8 [vr u0] Q := by
  obtain ⟨b1, t1, e1_, k⟩ := k
  refine Z.eqs (lv' := [(0, vr (some (a0, 34, 0))), (1, vr r1)]) (st' := [vr (some (b1, t1, 0))]) rfl (by rw [e1_] <;> rfl) ?_
  obtain ⟨b_, k⟩ := k
  refine z_ckcast dX29_code_8 (ctX29_2 _ b_.1 b_.2) ?_
  refine z_aload_n dX29_code_11 rfl rfl ?_
  obtain ⟨Y_, y_, k⟩ := k
  exact z_callV (as := [vr r1]) (st := []) dX29_code_12 (vtX29_28 y_).1 (Nat.le_refl _) (Nat.le_trans (Nat.le_of_ble_eq_true rfl) (vtX29_28 y_).2.1) (Nat.le_trans (Nat.add_le_add_left (vtX29_28 y_).2.2 _) (Nat.le_of_ble_eq_true rfl)) rfl k
theorem sX29_code_15 {E : zE} {d : Nat} {Q : zO → zM → Prop} (M : zM) (a0 : Nat) (r1 : Option zP) (k : Z E YX29_code (d + 1) M [(0, vr (some (a0, 34, 0))), (1, vr r1), (2, vi (1 : Int32))] 17 [] Q) : Z E YX29_code (d + 1) M [(0, vr (some (a0, 34, 0))), (1, vr r1)] 15 [] Q := by
  refine z_iconst (v := 1) dX29_code_15 rfl ?_
  refine z_ist_n dX29_code_16 rfl (by decide) (lv' := [(0, vr (some (a0, 34, 0))), (1, vr r1), (2, vi (1 : Int32))]) rfl ?_
  exact k
theorem sX29_code_17 {E : zE} {d : Nat} {Q : zO → zM → Prop} (M : zM) (a0 : Nat) (r1 : Option zP) (l2 : Int32) (k : ∃ b1 : Nat, (gr M a0 1) = some (b1, 11, 0) ∧ (Z E YJ2_size d M (zargs 0 [vr (some (b1, 11, 0))]) 0 [] (zafter E YX29_code (d + 1) [(0, vr (some (a0, 34, 0))), (1, vr r1), (2, vi l2)] 22 3 [vi l2] Q))) : Z E YX29_code (d + 1) M [(0, vr (some (a0, 34, 0))), (1, vr r1), (2, vi l2)] 17 [] Q := by
  refine z_iload_n dX29_code_17 rfl rfl ?_
  refine z_aload_n dX29_code_18 rfl rfl ?_
  refine z_getr (r := (gr M a0 1)) dX29_code_19 fsX29_10_34 rfl ?_
  obtain ⟨b1, e1_, k⟩ := k
  refine Z.eqs (lv' := [(0, vr (some (a0, 34, 0))), (1, vr r1), (2, vi l2)]) (st' := [vr (some (b1, 11, 0)), vi l2]) rfl (by rw [e1_] <;> rfl) ?_
  exact z_callV (as := []) (st := [vi l2]) dX29_code_22 vsX29_32_11 (Nat.le_refl _) (Nat.le_of_ble_eq_true rfl) (Nat.le_of_ble_eq_true rfl) rfl k
theorem sX29_code_25 {E : zE} {d : Nat} {Q : zO → zM → Prop} (M : zM) (a0 : Nat) (r1 : Option zP) (l2 : Int32) (s0 : Int32) (s1 : Int32) (k : if s0 ≤ s1 then (Q (.inl none) M) else (∃ b1 : Nat, r1 = some (b1, 3, 0) ∧ (Z E YX3_put d M (zargs 0 [vr (some (b1, 3, 0)), vi (gi M a0 0), vi (0 : Int32), vi (0 : Int32)]) 0 [] (zafter E YX29_code (d + 1) [(0, vr (some (a0, 34, 0))), (1, vr (some (b1, 3, 0))), (2, vi l2)] 35 3 [] Q)))) : Z E YX29_code (d + 1) M [(0, vr (some (a0, 34, 0))), (1, vr r1), (2, vi l2)] 25 [vi s0, vi s1] Q := by
  refine z_icmp_ge (tgt := 65) dX29_code_25 rfl (fun h_ => ?_) (fun h_ => ?_)
  · have k := zit h_ k
    exact z_vret dX29_code_65 rfl k
  · have k := zif h_ k
    refine z_aload_n dX29_code_28 rfl rfl ?_
    refine z_aload_n dX29_code_29 rfl rfl ?_
    refine z_geti dX29_code_30 fsX29_16_34 ?_
    refine z_iconst (v := 0) dX29_code_33 rfl ?_
    refine z_iconst (v := 0) dX29_code_34 rfl ?_
    obtain ⟨b1, e1_, k⟩ := k
    refine Z.eqs (lv' := [(0, vr (some (a0, 34, 0))), (1, vr (some (b1, 3, 0))), (2, vi l2)]) (st' := [vi (0 : Int32), vi (0 : Int32), vi (gi M a0 0), vr (some (b1, 3, 0))]) (by rw [e1_] <;> rfl) (by rw [e1_] <;> rfl) ?_
    exact z_callV (as := [vi (gi M a0 0), vi (0 : Int32), vi (0 : Int32)]) (st := []) dX29_code_35 vsX29_36_3 (Nat.le_refl _) (Nat.le_of_ble_eq_true rfl) (Nat.le_of_ble_eq_true rfl) rfl k
theorem sX29_code_38 {E : zE} {d : Nat} {Q : zO → zM → Prop} (M : zM) (a0 : Nat) (a1 : Nat) (l2 : Int32) (s0 : Int32) (k : ∃ b1 : Nat, (gr M a0 1) = some (b1, 11, 0) ∧ (Z E YJ2_get d M (zargs 0 [vr (some (b1, 11, 0)), vi l2]) 0 [] (zafter E YX29_code (d + 1) [(0, vr (some (a0, 34, 0))), (1, vr (some (a1, 3, 0))), (2, vi l2), (3, vi s0)] 44 3 [] Q))) : Z E YX29_code (d + 1) M [(0, vr (some (a0, 34, 0))), (1, vr (some (a1, 3, 0))), (2, vi l2)] 38 [vi s0] Q := by
  refine z_ist_n dX29_code_38 rfl (by decide) (lv' := [(0, vr (some (a0, 34, 0))), (1, vr (some (a1, 3, 0))), (2, vi l2), (3, vi s0)]) rfl ?_
  refine z_aload_n dX29_code_39 rfl rfl ?_
  refine z_getr (r := (gr M a0 1)) dX29_code_40 fsX29_10_34 rfl ?_
  refine z_iload_n dX29_code_43 rfl rfl ?_
  obtain ⟨b1, e1_, k⟩ := k
  refine Z.eqs (lv' := [(0, vr (some (a0, 34, 0))), (1, vr (some (a1, 3, 0))), (2, vi l2), (3, vi s0)]) (st' := [vi l2, vr (some (b1, 11, 0))]) rfl (by rw [e1_] <;> rfl) ?_
  exact z_callV (as := [vi l2]) (st := []) dX29_code_44 vsX29_24_11 (Nat.le_refl _) (Nat.le_of_ble_eq_true rfl) (Nat.le_of_ble_eq_true rfl) rfl k
theorem sX29_code_47 {E : zE} {d : Nat} {Q : zO → zM → Prop} (M : zM) (a0 : Nat) (a1 : Nat) (l2 : Int32) (l3 : Int32) (u0 : Option zP) (k : ∃ b1 t1 : Nat, u0 = some (b1, t1, 0) ∧ ((20 ≤ t1 ∧ t1 < 45) ∧ (∃ Y_ : zY, vt_code t1 = some Y_ ∧ Z E Y_ d M (zargs 0 [vr (some (b1, t1, 0)), vr (some (a1, 3, 0))]) 0 [] (zafter E YX29_code (d + 1) [(0, vr (some (a0, 34, 0))), (1, vr (some (a1, 3, 0))), (2, vi l2), (3, vi l3)] 51 3 [] Q)))) : Z E YX29_code (d + 1) M [(0, vr (some (a0, 34, 0))), (1, vr (some (a1, 3, 0))), (2, vi l2), (3, vi l3)] 47 [vr u0] Q := by
  obtain ⟨b1, t1, e1_, k⟩ := k
  refine Z.eqs (lv' := [(0, vr (some (a0, 34, 0))), (1, vr (some (a1, 3, 0))), (2, vi l2), (3, vi l3)]) (st' := [vr (some (b1, t1, 0))]) rfl (by rw [e1_] <;> rfl) ?_
  obtain ⟨b_, k⟩ := k
  refine z_ckcast dX29_code_47 (ctX29_2 _ b_.1 b_.2) ?_
  refine z_aload_n dX29_code_50 rfl rfl ?_
  obtain ⟨Y_, y_, k⟩ := k
  exact z_callV (as := [vr (some (a1, 3, 0))]) (st := []) dX29_code_51 (vtX29_28 y_).1 (Nat.le_refl _) (Nat.le_trans (Nat.le_of_ble_eq_true rfl) (vtX29_28 y_).2.1) (Nat.le_trans (Nat.add_le_add_left (vtX29_28 y_).2.2 _) (Nat.le_of_ble_eq_true rfl)) rfl k
theorem sX29_code_54 {E : zE} {d : Nat} {Q : zO → zM → Prop} (M : zM) (a0 : Nat) (a1 : Nat) (l2 : Int32) (l3 : Int32) (k : Z E YX3_goal d M (zargs 0 [vr (some (a1, 3, 0)), vi l3]) 0 [] (zafter E YX29_code (d + 1) [(0, vr (some (a0, 34, 0))), (1, vr (some (a1, 3, 0))), (2, vi l2)] 56 3 [] Q)) : Z E YX29_code (d + 1) M [(0, vr (some (a0, 34, 0))), (1, vr (some (a1, 3, 0))), (2, vi l2), (3, vi l3)] 54 [] Q := by
  refine z_aload_n dX29_code_54 rfl rfl ?_
  refine z_iload_n dX29_code_55 rfl rfl ?_
  refine Z.pick [0, 1, 2] rfl ?_
  exact z_callV (as := [vi l3]) (st := []) dX29_code_56 vsX29_42_3 (Nat.le_refl _) (Nat.le_of_ble_eq_true rfl) (Nat.le_of_ble_eq_true rfl) rfl k
theorem sX29_code_59 {E : zE} {d : Nat} {Q : zO → zM → Prop} (M : zM) (a0 : Nat) (a1 : Nat) (l2 : Int32) (k : Z E YX29_code (d + 1) M [(0, vr (some (a0, 34, 0))), (1, vr (some (a1, 3, 0))), (2, vi (l2 + (1 : Int32)))] 17 [] Q) : Z E YX29_code (d + 1) M [(0, vr (some (a0, 34, 0))), (1, vr (some (a1, 3, 0))), (2, vi l2)] 59 [] Q := by
  refine z_inc (v := (l2 + (1 : Int32))) dX29_code_59 rfl rfl (by decide) (lv' := [(0, vr (some (a0, 34, 0))), (1, vr (some (a1, 3, 0))), (2, vi (l2 + (1 : Int32)))]) rfl ?_
  refine z_goto (tgt := 17) dX29_code_62 rfl ?_
  exact k
/-! ScriptTypes$Row.<init>(LScriptTypes$Node;)V -/
theorem bX30_init_0 : zdec cX30_init 0 [(0, .aload_n 0, 1), (1, .invokespecial 3, 3), (4, .aload_n 0, 1), (5, .new 9, 3), (8, .dup, 1), (9, .invokespecial 11, 3), (12, .putfield 12, 3), (15, .aload_n 0, 1), (16, .bipush 8, 2), (18, .newarray .int, 2), (20, .putfield 18, 3), (23, .aload_n 0, 1), (24, .getfield 12, 3), (27, .aload_n 1, 1), (28, .invokevirtual 22, 3), (31, .pop, 1)] = true := by decide +kernel
theorem dX30_init_0 : decode cX30_init 0 = .ok (.aload_n 0, 1) := zdec_at bX30_init_0 0 rfl
theorem dX30_init_1 : decode cX30_init 1 = .ok (.invokespecial 3, 3) := zdec_at bX30_init_0 1 rfl
theorem dX30_init_4 : decode cX30_init 4 = .ok (.aload_n 0, 1) := zdec_at bX30_init_0 2 rfl
theorem dX30_init_5 : decode cX30_init 5 = .ok (.new 9, 3) := zdec_at bX30_init_0 3 rfl
theorem dX30_init_8 : decode cX30_init 8 = .ok (.dup, 1) := zdec_at bX30_init_0 4 rfl
theorem dX30_init_9 : decode cX30_init 9 = .ok (.invokespecial 11, 3) := zdec_at bX30_init_0 5 rfl
theorem dX30_init_12 : decode cX30_init 12 = .ok (.putfield 12, 3) := zdec_at bX30_init_0 6 rfl
theorem dX30_init_15 : decode cX30_init 15 = .ok (.aload_n 0, 1) := zdec_at bX30_init_0 7 rfl
theorem dX30_init_16 : decode cX30_init 16 = .ok (.bipush 8, 2) := zdec_at bX30_init_0 8 rfl
theorem dX30_init_18 : decode cX30_init 18 = .ok (.newarray .int, 2) := zdec_at bX30_init_0 9 rfl
theorem dX30_init_20 : decode cX30_init 20 = .ok (.putfield 18, 3) := zdec_at bX30_init_0 10 rfl
theorem dX30_init_23 : decode cX30_init 23 = .ok (.aload_n 0, 1) := zdec_at bX30_init_0 11 rfl
theorem dX30_init_24 : decode cX30_init 24 = .ok (.getfield 12, 3) := zdec_at bX30_init_0 12 rfl
theorem dX30_init_27 : decode cX30_init 27 = .ok (.aload_n 1, 1) := zdec_at bX30_init_0 13 rfl
theorem dX30_init_28 : decode cX30_init 28 = .ok (.invokevirtual 22, 3) := zdec_at bX30_init_0 14 rfl
theorem dX30_init_31 : decode cX30_init 31 = .ok (.pop, 1) := zdec_at bX30_init_0 15 rfl
theorem bX30_init_32 : zdec cX30_init 32 [(32, .return_, 1)] = true := by decide +kernel
theorem dX30_init_32 : decode cX30_init 32 = .ok (.return_, 1) := zdec_at bX30_init_32 0 rfl
theorem sX30_init_0 {E : zE} {d : Nat} {Q : zO → zM → Prop} (M : zM) (a0 : Nat) (r1 : Option zP) (k : Z E YX13_init d M (zargs 0 [vr (some (a0, 35, 0))]) 0 [] (zafter E YX30_init (d + 1) [(0, vr (some (a0, 35, 0))), (1, vr r1)] 1 3 [] Q)) : Z E YX30_init (d + 1) M [(0, vr (some (a0, 35, 0))), (1, vr r1)] 0 [] Q := by
  refine z_aload_n dX30_init_0 rfl rfl ?_
  exact z_callI (as := []) (st := []) dX30_init_1 isX30_3 (Nat.le_refl _) (Nat.le_of_ble_eq_true rfl) (Nat.le_of_ble_eq_true rfl) rfl k
theorem sX30_init_4 {E : zE} {d : Nat} {Q : zO → zM → Prop} (M : zM) (a0 : Nat) (r1 : Option zP) (k : Z E YX30_init (d + 1) (zn M 3) [(0, vr (some (a0, 35, 0))), (1, vr r1)] 8 [vr (some ((zsz M), 11, 0)), vr (some (a0, 35, 0))] Q) : Z E YX30_init (d + 1) M [(0, vr (some (a0, 35, 0))), (1, vr r1)] 4 [] Q := by
  refine z_aload_n dX30_init_4 rfl rfl ?_
  refine z_new dX30_init_5 csX30_9 zff_11 ?_
  exact k
theorem sX30_init_8 {E : zE} {d : Nat} {Q : zO → zM → Prop} (M : zM) (a0 : Nat) (r1 : Option zP) (p0 : Nat) (k : Z E YJ2_init d M (zargs 0 [vr (some (p0, 11, 0))]) 0 [] (zafter E YX30_init (d + 1) [(0, vr (some (a0, 35, 0))), (1, vr r1)] 9 3 [vr (some (p0, 11, 0)), vr (some (a0, 35, 0))] Q)) : Z E YX30_init (d + 1) M [(0, vr (some (a0, 35, 0))), (1, vr r1)] 8 [vr (some (p0, 11, 0)), vr (some (a0, 35, 0))] Q := by
  refine z_dup dX30_init_8 rfl ?_
  exact z_callI (as := []) (st := [vr (some (p0, 11, 0)), vr (some (a0, 35, 0))]) dX30_init_9 isX30_11 (Nat.le_refl _) (Nat.le_of_ble_eq_true rfl) (Nat.le_of_ble_eq_true rfl) rfl k
theorem sX30_init_12 {E : zE} {d : Nat} {Q : zO → zM → Prop} (M : zM) (a0 : Nat) (r1 : Option zP) (p0 : Nat) (k : 16 ≤ a0 ∧ (Z E YX30_init (d + 1) (zn (sr M a0 0 (some (p0, 11, 0))) 8) [(0, vr (some (a0, 35, 0))), (1, vr r1)] 20 [vr (some ((zsz M), 100, 8)), vr (some (a0, 35, 0))] Q)) : Z E YX30_init (d + 1) M [(0, vr (some (a0, 35, 0))), (1, vr r1)] 12 [vr (some (p0, 11, 0)), vr (some (a0, 35, 0))] Q := by
  obtain ⟨g_, k⟩ := k
  refine z_putr g_ dX30_init_12 (zfwN.f fwX30_12_35 rfl (fun q h => by rw [← Option.some.inj h]; rfl)) rfl ?_
  refine z_aload_n dX30_init_15 rfl rfl ?_
  refine z_bipush (v := 8) dX30_init_16 rfl ?_
  refine z_newa (q := 0) (N := 8) dX30_init_18 rfl (by decide) q535 (by decide) (by decide) (by decide) ?_
  exact k
theorem sX30_init_20 {E : zE} {d : Nat} {Q : zO → zM → Prop} (M : zM) (a0 : Nat) (r1 : Option zP) (p0 : Nat) (k : 16 ≤ a0 ∧ (∃ b1 : Nat, (gr (sr M a0 1 (some (p0, 100, 8))) a0 0) = some (b1, 11, 0) ∧ (Z E YJ2_add d (sr M a0 1 (some (p0, 100, 8))) (zargs 0 [vr (some (b1, 11, 0)), vr r1]) 0 [] (zafter E YX30_init (d + 1) [] 28 3 [] Q)))) : Z E YX30_init (d + 1) M [(0, vr (some (a0, 35, 0))), (1, vr r1)] 20 [vr (some (p0, 100, 8)), vr (some (a0, 35, 0))] Q := by
  obtain ⟨g_, k⟩ := k
  refine z_putr g_ dX30_init_20 (zfwN.w fwX30_18_35) rfl ?_
  refine z_aload_n dX30_init_23 rfl rfl ?_
  refine z_getr (r := (gr (sr M a0 1 (some (p0, 100, 8))) a0 0)) dX30_init_24 fsX30_12_35 rfl ?_
  refine z_aload_n dX30_init_27 rfl rfl ?_
  obtain ⟨b1, e1_, k⟩ := k
  refine Z.eqs (lv' := [(0, vr (some (a0, 35, 0))), (1, vr r1)]) (st' := [vr r1, vr (some (b1, 11, 0))]) rfl (by rw [e1_] <;> rfl) ?_
  refine Z.pick [] rfl ?_
  exact z_callV (as := [vr r1]) (st := []) dX30_init_28 vsX30_22_11 (Nat.le_refl _) (Nat.le_of_ble_eq_true rfl) (Nat.le_of_ble_eq_true rfl) rfl k
theorem sX30_init_31 {E : zE} {d : Nat} {Q : zO → zM → Prop} (M : zM) (s0 : Int32) (k : Q (.inl none) M) : Z E YX30_init (d + 1) M [] 31 [vi s0] Q := by
  refine z_pop dX30_init_31 rfl ?_
  exact z_vret dX30_init_32 rfl k
/-! ScriptTypes$Row.add(ILScriptTypes$Node;)V -/
theorem bX30_add_0 : zdec cX30_add 0 [(0, .aload_n 0, 1), (1, .getfield 12, 3), (4, .invokevirtual 26, 3), (7, .istore_n 3, 1), (8, .iload_n 3, 1), (9, .aload_n 0, 1), (10, .getfield 18, 3), (13, .arraylength, 1), (14, .if_icmp .le 36, 3), (17, .iconst 2, 1), (18, .aload_n 0, 1), (19, .getfield 18, 3), (22, .arraylength, 1), (23, .imul, 1), (24, .newarray .int, 2), (26, .astore 4, 2)] = true := by decide +kernel
theorem dX30_add_0 : decode cX30_add 0 = .ok (.aload_n 0, 1) := zdec_at bX30_add_0 0 rfl
theorem dX30_add_1 : decode cX30_add 1 = .ok (.getfield 12, 3) := zdec_at bX30_add_0 1 rfl
theorem dX30_add_4 : decode cX30_add 4 = .ok (.invokevirtual 26, 3) := zdec_at bX30_add_0 2 rfl
theorem dX30_add_7 : decode cX30_add 7 = .ok (.istore_n 3, 1) := zdec_at bX30_add_0 3 rfl
theorem dX30_add_8 : decode cX30_add 8 = .ok (.iload_n 3, 1) := zdec_at bX30_add_0 4 rfl
theorem dX30_add_9 : decode cX30_add 9 = .ok (.aload_n 0, 1) := zdec_at bX30_add_0 5 rfl
theorem dX30_add_10 : decode cX30_add 10 = .ok (.getfield 18, 3) := zdec_at bX30_add_0 6 rfl
theorem dX30_add_13 : decode cX30_add 13 = .ok (.arraylength, 1) := zdec_at bX30_add_0 7 rfl
theorem dX30_add_14 : decode cX30_add 14 = .ok (.if_icmp .le 36, 3) := zdec_at bX30_add_0 8 rfl
theorem dX30_add_17 : decode cX30_add 17 = .ok (.iconst 2, 1) := zdec_at bX30_add_0 9 rfl
theorem dX30_add_18 : decode cX30_add 18 = .ok (.aload_n 0, 1) := zdec_at bX30_add_0 10 rfl
theorem dX30_add_19 : decode cX30_add 19 = .ok (.getfield 18, 3) := zdec_at bX30_add_0 11 rfl
theorem dX30_add_22 : decode cX30_add 22 = .ok (.arraylength, 1) := zdec_at bX30_add_0 12 rfl
theorem dX30_add_23 : decode cX30_add 23 = .ok (.imul, 1) := zdec_at bX30_add_0 13 rfl
theorem dX30_add_24 : decode cX30_add 24 = .ok (.newarray .int, 2) := zdec_at bX30_add_0 14 rfl
theorem dX30_add_26 : decode cX30_add 26 = .ok (.astore 4, 2) := zdec_at bX30_add_0 15 rfl
theorem bX30_add_28 : zdec cX30_add 28 [(28, .aload_n 0, 1), (29, .getfield 18, 3), (32, .iconst 0, 1), (33, .aload 4, 2), (35, .iconst 0, 1), (36, .aload_n 0, 1), (37, .getfield 18, 3), (40, .arraylength, 1), (41, .invokestatic 30, 3), (44, .aload_n 0, 1), (45, .aload 4, 2), (47, .putfield 18, 3), (50, .aload_n 0, 1), (51, .getfield 18, 3), (54, .iload_n 3, 1), (55, .iconst 1, 1)] = true := by decide +kernel
theorem dX30_add_28 : decode cX30_add 28 = .ok (.aload_n 0, 1) := zdec_at bX30_add_28 0 rfl
theorem dX30_add_29 : decode cX30_add 29 = .ok (.getfield 18, 3) := zdec_at bX30_add_28 1 rfl
theorem dX30_add_32 : decode cX30_add 32 = .ok (.iconst 0, 1) := zdec_at bX30_add_28 2 rfl
theorem dX30_add_33 : decode cX30_add 33 = .ok (.aload 4, 2) := zdec_at bX30_add_28 3 rfl
theorem dX30_add_35 : decode cX30_add 35 = .ok (.iconst 0, 1) := zdec_at bX30_add_28 4 rfl
theorem dX30_add_36 : decode cX30_add 36 = .ok (.aload_n 0, 1) := zdec_at bX30_add_28 5 rfl
theorem dX30_add_37 : decode cX30_add 37 = .ok (.getfield 18, 3) := zdec_at bX30_add_28 6 rfl
theorem dX30_add_40 : decode cX30_add 40 = .ok (.arraylength, 1) := zdec_at bX30_add_28 7 rfl
theorem dX30_add_41 : decode cX30_add 41 = .ok (.invokestatic 30, 3) := zdec_at bX30_add_28 8 rfl
theorem dX30_add_44 : decode cX30_add 44 = .ok (.aload_n 0, 1) := zdec_at bX30_add_28 9 rfl
theorem dX30_add_45 : decode cX30_add 45 = .ok (.aload 4, 2) := zdec_at bX30_add_28 10 rfl
theorem dX30_add_47 : decode cX30_add 47 = .ok (.putfield 18, 3) := zdec_at bX30_add_28 11 rfl
theorem dX30_add_50 : decode cX30_add 50 = .ok (.aload_n 0, 1) := zdec_at bX30_add_28 12 rfl
theorem dX30_add_51 : decode cX30_add 51 = .ok (.getfield 18, 3) := zdec_at bX30_add_28 13 rfl
theorem dX30_add_54 : decode cX30_add 54 = .ok (.iload_n 3, 1) := zdec_at bX30_add_28 14 rfl
theorem dX30_add_55 : decode cX30_add 55 = .ok (.iconst 1, 1) := zdec_at bX30_add_28 15 rfl
theorem bX30_add_56 : zdec cX30_add 56 [(56, .isub, 1), (57, .iload_n 1, 1), (58, .iastore, 1), (59, .aload_n 0, 1), (60, .getfield 12, 3), (63, .aload_n 2, 1), (64, .invokevirtual 22, 3), (67, .pop, 1), (68, .return_, 1)] = true := by decide +kernel
theorem dX30_add_56 : decode cX30_add 56 = .ok (.isub, 1) := zdec_at bX30_add_56 0 rfl
theorem dX30_add_57 : decode cX30_add 57 = .ok (.iload_n 1, 1) := zdec_at bX30_add_56 1 rfl
theorem dX30_add_58 : decode cX30_add 58 = .ok (.iastore, 1) := zdec_at bX30_add_56 2 rfl
theorem dX30_add_59 : decode cX30_add 59 = .ok (.aload_n 0, 1) := zdec_at bX30_add_56 3 rfl
theorem dX30_add_60 : decode cX30_add 60 = .ok (.getfield 12, 3) := zdec_at bX30_add_56 4 rfl
theorem dX30_add_63 : decode cX30_add 63 = .ok (.aload_n 2, 1) := zdec_at bX30_add_56 5 rfl
theorem dX30_add_64 : decode cX30_add 64 = .ok (.invokevirtual 22, 3) := zdec_at bX30_add_56 6 rfl
theorem dX30_add_67 : decode cX30_add 67 = .ok (.pop, 1) := zdec_at bX30_add_56 7 rfl
theorem dX30_add_68 : decode cX30_add 68 = .ok (.return_, 1) := zdec_at bX30_add_56 8 rfl
theorem sX30_add_0 {E : zE} {d : Nat} {Q : zO → zM → Prop} (M : zM) (a0 : Nat) (l1 : Int32) (r2 : Option zP) (k : ∃ b1 : Nat, (gr M a0 0) = some (b1, 11, 0) ∧ (Z E YJ2_size d M (zargs 0 [vr (some (b1, 11, 0))]) 0 [] (zafter E YX30_add (d + 1) [(0, vr (some (a0, 35, 0))), (1, vi l1), (2, vr r2)] 4 3 [] Q))) : Z E YX30_add (d + 1) M [(0, vr (some (a0, 35, 0))), (1, vi l1), (2, vr r2)] 0 [] Q := by
  refine z_aload_n dX30_add_0 rfl rfl ?_
  refine z_getr (r := (gr M a0 0)) dX30_add_1 fsX30_12_35 rfl ?_
  obtain ⟨b1, e1_, k⟩ := k
  refine Z.eqs (lv' := [(0, vr (some (a0, 35, 0))), (1, vi l1), (2, vr r2)]) (st' := [vr (some (b1, 11, 0))]) rfl (by rw [e1_] <;> rfl) ?_
  exact z_callV (as := []) (st := []) dX30_add_4 vsX30_26_11 (Nat.le_refl _) (Nat.le_of_ble_eq_true rfl) (Nat.le_of_ble_eq_true rfl) rfl k
theorem sX30_add_7 {E : zE} {d : Nat} {Q : zO → zM → Prop} (M : zM) (a0 : Nat) (l1 : Int32) (r2 : Option zP) (s0 : Int32) (k : ∃ b1 m1 : Nat, (gr M a0 1) = some (b1, 100, m1) ∧ (if s0 ≤ (Int32.ofNat m1) then (Z E YX30_add (d + 1) M [(0, vr (some (a0, 35, 0))), (1, vi l1), (2, vr r2), (3, vi s0)] 50 [] Q) else (∃ b2 m2 : Nat, (gr M a0 1) = some (b2, 100, m2) ∧ ((¬ ((2 : Int32) * (Int32.ofNat m2)) < 0 ∧ (((2 : Int32) * (Int32.ofNat m2))).toNatClampNeg * 8 ≤ 536870912) ∧ (Z E YX30_add (d + 1) (zn M (((2 : Int32) * (Int32.ofNat m2))).toNatClampNeg) [(0, vr (some (a0, 35, 0))), (1, vi l1), (2, vr r2), (3, vi s0)] 26 [vr (some ((zsz M), 100, (((2 : Int32) * (Int32.ofNat m2))).toNatClampNeg))] Q))))) : Z E YX30_add (d + 1) M [(0, vr (some (a0, 35, 0))), (1, vi l1), (2, vr r2)] 7 [vi s0] Q := by
  refine z_ist_n dX30_add_7 rfl (by decide) (lv' := [(0, vr (some (a0, 35, 0))), (1, vi l1), (2, vr r2), (3, vi s0)]) rfl ?_
  refine z_iload_n dX30_add_8 rfl rfl ?_
  refine z_aload_n dX30_add_9 rfl rfl ?_
  refine z_getr (r := (gr M a0 1)) dX30_add_10 fsX30_18_35 rfl ?_
  obtain ⟨b1, m1, e1_, k⟩ := k
  refine Z.eqs (lv' := [(0, vr (some (a0, 35, 0))), (1, vi l1), (2, vr r2), (3, vi s0)]) (st' := [vr (some (b1, 100, m1)), vi s0]) rfl (by rw [e1_] <;> rfl) ?_
  refine z_alen (q := 0) (v := Int32.ofNat m1) dX30_add_13 rfl ?_
  refine z_icmp_le (tgt := 50) dX30_add_14 rfl (fun h_ => ?_) (fun h_ => ?_)
  · have k := zit h_ k
    exact k
  · have k := zif h_ k
    refine z_iconst (v := 2) dX30_add_17 rfl ?_
    refine z_aload_n dX30_add_18 rfl rfl ?_
    refine z_getr (r := (gr M a0 1)) dX30_add_19 fsX30_18_35 rfl ?_
    obtain ⟨b2, m2, e2_, k⟩ := k
    refine Z.eqs (lv' := [(0, vr (some (a0, 35, 0))), (1, vi l1), (2, vr r2), (3, vi s0)]) (st' := [vr (some (b2, 100, m2)), vi (2 : Int32)]) rfl (by rw [e2_] <;> rfl) ?_
    refine z_alen (q := 0) (v := Int32.ofNat m2) dX30_add_22 rfl ?_
    refine z_imul dX30_add_23 ?_
    obtain ⟨b_, k⟩ := k
    refine z_newa (q := 0) (N := (((2 : Int32) * (Int32.ofNat m2))).toNatClampNeg) dX30_add_24 rfl (by decide) q535 b_.1 rfl b_.2 ?_
    exact k
theorem sX30_add_26 {E : zE} {d : Nat} {Q : zO → zM → Prop} (M : zM) (a0 : Nat) (l1 : Int32) (r2 : Option zP) (l3 : Int32) (p0 : Nat) (np0 : Nat) (k : ∃ b1 m1 : Nat, (gr M a0 1) = some (b1, 100, m1) ∧ (16 ≤ p0 ∧ ((1 ≤ (d + 1)) ∧ (((¬ (0 : Int32) < 0 ∧ ¬ (0 : Int32) < 0 ∧ ¬ (Int32.ofNat m1) < 0) ∧ ((0 : Int32)).toNatClampNeg + ((Int32.ofNat m1)).toNatClampNeg ≤ m1 ∧ ((0 : Int32)).toNatClampNeg + ((Int32.ofNat m1)).toNatClampNeg ≤ np0) ∧ (Z E YX30_add (d + 1) (cpi M b1 ((0 : Int32)).toNatClampNeg p0 ((0 : Int32)).toNatClampNeg ((Int32.ofNat m1)).toNatClampNeg) [(0, vr (some (a0, 35, 0))), (1, vi l1), (2, vr r2), (3, vi l3), (4, vr (some (p0, 100, np0)))] 44 [] Q))))) : Z E YX30_add (d + 1) M [(0, vr (some (a0, 35, 0))), (1, vi l1), (2, vr r2), (3, vi l3)] 26 [vr (some (p0, 100, np0))] Q := by
  refine z_ast dX30_add_26 (by decide) (lv' := [(0, vr (some (a0, 35, 0))), (1, vi l1), (2, vr r2), (3, vi l3), (4, vr (some (p0, 100, np0)))]) rfl ?_
  refine z_aload_n dX30_add_28 rfl rfl ?_
  refine z_getr (r := (gr M a0 1)) dX30_add_29 fsX30_18_35 rfl ?_
  refine z_iconst (v := 0) dX30_add_32 rfl ?_
  refine z_aload dX30_add_33 rfl ?_
  refine z_iconst (v := 0) dX30_add_35 rfl ?_
  refine z_aload_n dX30_add_36 rfl rfl ?_
  refine z_getr (r := (gr M a0 1)) dX30_add_37 fsX30_18_35 rfl ?_
  obtain ⟨b1, m1, e1_, k⟩ := k
  refine Z.eqs (lv' := [(0, vr (some (a0, 35, 0))), (1, vi l1), (2, vr r2), (3, vi l3), (4, vr (some (p0, 100, np0)))]) (st' := [vr (some (b1, 100, m1)), vi (0 : Int32), vr (some (p0, 100, np0)), vi (0 : Int32), vr (some (b1, 100, m1))]) rfl (by rw [e1_] <;> rfl) ?_
  refine z_alen (q := 0) (v := Int32.ofNat m1) dX30_add_40 rfl ?_
  obtain ⟨g_, k⟩ := k
  obtain ⟨d_, k⟩ := k
  obtain ⟨b_, k⟩ := k
  refine z_copyi g_ dX30_add_41 q1922 d_ (Nat.le_of_ble_eq_true rfl) b_.1.1 b_.1.2.1 b_.1.2.2 b_.2.1 b_.2.2 ?_
  exact k
theorem sX30_add_44 {E : zE} {d : Nat} {Q : zO → zM → Prop} (M : zM) (a0 : Nat) (l1 : Int32) (r2 : Option zP) (l3 : Int32) (a4 : Nat) (na4 : Nat) (k : 16 ≤ a0 ∧ (Z E YX30_add (d + 1) (sr M a0 1 (some (a4, 100, na4))) [(0, vr (some (a0, 35, 0))), (1, vi l1), (2, vr r2), (3, vi l3)] 50 [] Q)) : Z E YX30_add (d + 1) M [(0, vr (some (a0, 35, 0))), (1, vi l1), (2, vr r2), (3, vi l3), (4, vr (some (a4, 100, na4)))] 44 [] Q := by
  refine z_aload_n dX30_add_44 rfl rfl ?_
  refine z_aload dX30_add_45 rfl ?_
  obtain ⟨g_, k⟩ := k
  refine z_putr g_ dX30_add_47 (zfwN.w fwX30_18_35) rfl ?_
  refine Z.pick [0, 1, 2, 3] rfl ?_
  exact k
theorem sX30_add_50 {E : zE} {d : Nat} {Q : zO → zM → Prop} (M : zM) (a0 : Nat) (l1 : Int32) (r2 : Option zP) (l3 : Int32) (k : ∃ b1 m1 : Nat, (gr M a0 1) = some (b1, 100, m1) ∧ (16 ≤ b1 ∧ (vp_in (l3 - (1 : Int32)) m1 ∧ (∃ b2 : Nat, (gr M a0 0) = some (b2, 11, 0) ∧ (Z E YJ2_add d (si M b1 ((l3 - (1 : Int32))).toNatClampNeg l1) (zargs 0 [vr (some (b2, 11, 0)), vr r2]) 0 [] (zafter E YX30_add (d + 1) [] 64 3 [] Q)))))) : Z E YX30_add (d + 1) M [(0, vr (some (a0, 35, 0))), (1, vi l1), (2, vr r2), (3, vi l3)] 50 [] Q := by
  refine z_aload_n dX30_add_50 rfl rfl ?_
  refine z_getr (r := (gr M a0 1)) dX30_add_51 fsX30_18_35 rfl ?_
  refine z_iload_n dX30_add_54 rfl rfl ?_
  refine z_iconst (v := 1) dX30_add_55 rfl ?_
  refine z_isub dX30_add_56 ?_
  refine z_iload_n dX30_add_57 rfl rfl ?_
  obtain ⟨b1, m1, e1_, k⟩ := k
  refine Z.eqs (lv' := [(0, vr (some (a0, 35, 0))), (1, vi l1), (2, vr r2), (3, vi l3)]) (st' := [vi l1, vi (l3 - (1 : Int32)), vr (some (b1, 100, m1))]) rfl (by rw [e1_] <;> rfl) ?_
  obtain ⟨g_, k⟩ := k
  obtain ⟨b_, k⟩ := k
  refine z_iast g_ dX30_add_58 b_ ?_
  refine z_aload_n dX30_add_59 rfl rfl ?_
  refine z_getr (r := (gr M a0 0)) dX30_add_60 fsX30_12_35 rfl ?_
  refine z_aload_n dX30_add_63 rfl rfl ?_
  obtain ⟨b2, e2_, k⟩ := k
  refine Z.eqs (lv' := [(0, vr (some (a0, 35, 0))), (1, vi l1), (2, vr r2), (3, vi l3)]) (st' := [vr r2, vr (some (b2, 11, 0))]) rfl (by rw [e2_] <;> rfl) ?_
  refine Z.pick [] rfl ?_
  exact z_callV (as := [vr r2]) (st := []) dX30_add_64 vsX30_22_11 (Nat.le_refl _) (Nat.le_of_ble_eq_true rfl) (Nat.le_of_ble_eq_true rfl) rfl k
theorem sX30_add_67 {E : zE} {d : Nat} {Q : zO → zM → Prop} (M : zM) (s0 : Int32) (k : Q (.inl none) M) : Z E YX30_add (d + 1) M [] 67 [vi s0] Q := by
  refine z_pop dX30_add_67 rfl ?_
  exact z_vret dX30_add_68 rfl k
/-! ScriptTypes$Row.code(LScriptTypes$Coder;)V -/
theorem bX30_code_0 : zdec cX30_code 0 [(0, .aload_n 0, 1), (1, .getfield 12, 3), (4, .iconst 0, 1), (5, .invokevirtual 36, 3), (8, .checkcast 4, 3), (11, .aload_n 1, 1), (12, .invokevirtual 40, 3), (15, .iconst 1, 1), (16, .istore_n 2, 1), (17, .iload_n 2, 1), (18, .aload_n 0, 1), (19, .getfield 12, 3), (22, .invokevirtual 26, 3), (25, .if_icmp .ge 40, 3), (28, .aload_n 0, 1), (29, .getfield 12, 3)] = true := by decide +kernel
theorem dX30_code_0 : decode cX30_code 0 = .ok (.aload_n 0, 1) := zdec_at bX30_code_0 0 rfl
theorem dX30_code_1 : decode cX30_code 1 = .ok (.getfield 12, 3) := zdec_at bX30_code_0 1 rfl
theorem dX30_code_4 : decode cX30_code 4 = .ok (.iconst 0, 1) := zdec_at bX30_code_0 2 rfl
theorem dX30_code_5 : decode cX30_code 5 = .ok (.invokevirtual 36, 3) := zdec_at bX30_code_0 3 rfl
theorem dX30_code_8 : decode cX30_code 8 = .ok (.checkcast 4, 3) := zdec_at bX30_code_0 4 rfl
theorem dX30_code_11 : decode cX30_code 11 = .ok (.aload_n 1, 1) := zdec_at bX30_code_0 5 rfl
theorem dX30_code_12 : decode cX30_code 12 = .ok (.invokevirtual 40, 3) := zdec_at bX30_code_0 6 rfl
theorem dX30_code_15 : decode cX30_code 15 = .ok (.iconst 1, 1) := zdec_at bX30_code_0 7 rfl
theorem dX30_code_16 : decode cX30_code 16 = .ok (.istore_n 2, 1) := zdec_at bX30_code_0 8 rfl
theorem dX30_code_17 : decode cX30_code 17 = .ok (.iload_n 2, 1) := zdec_at bX30_code_0 9 rfl
theorem dX30_code_18 : decode cX30_code 18 = .ok (.aload_n 0, 1) := zdec_at bX30_code_0 10 rfl
theorem dX30_code_19 : decode cX30_code 19 = .ok (.getfield 12, 3) := zdec_at bX30_code_0 11 rfl
theorem dX30_code_22 : decode cX30_code 22 = .ok (.invokevirtual 26, 3) := zdec_at bX30_code_0 12 rfl
theorem dX30_code_25 : decode cX30_code 25 = .ok (.if_icmp .ge 40, 3) := zdec_at bX30_code_0 13 rfl
theorem dX30_code_28 : decode cX30_code 28 = .ok (.aload_n 0, 1) := zdec_at bX30_code_0 14 rfl
theorem dX30_code_29 : decode cX30_code 29 = .ok (.getfield 12, 3) := zdec_at bX30_code_0 15 rfl
theorem bX30_code_32 : zdec cX30_code 32 [(32, .iload_n 2, 1), (33, .invokevirtual 36, 3), (36, .checkcast 4, 3), (39, .aload_n 1, 1), (40, .invokevirtual 40, 3), (43, .aload_n 1, 1), (44, .bipush 14, 2), (46, .aload_n 0, 1), (47, .getfield 18, 3), (50, .iload_n 2, 1), (51, .iconst 1, 1), (52, .isub, 1), (53, .iaload, 1), (54, .iconst 0, 1), (55, .invokevirtual 44, 3), (58, .pop, 1)] = true := by decide +kernel
theorem dX30_code_32 : decode cX30_code 32 = .ok (.iload_n 2, 1) := zdec_at bX30_code_32 0 rfl
theorem dX30_code_33 : decode cX30_code 33 = .ok (.invokevirtual 36, 3) := zdec_at bX30_code_32 1 rfl
theorem dX30_code_36 : decode cX30_code 36 = .ok (.checkcast 4, 3) := zdec_at bX30_code_32 2 rfl
theorem dX30_code_39 : decode cX30_code 39 = .ok (.aload_n 1, 1) := zdec_at bX30_code_32 3 rfl
theorem dX30_code_40 : decode cX30_code 40 = .ok (.invokevirtual 40, 3) := zdec_at bX30_code_32 4 rfl
theorem dX30_code_43 : decode cX30_code 43 = .ok (.aload_n 1, 1) := zdec_at bX30_code_32 5 rfl
theorem dX30_code_44 : decode cX30_code 44 = .ok (.bipush 14, 2) := zdec_at bX30_code_32 6 rfl
theorem dX30_code_46 : decode cX30_code 46 = .ok (.aload_n 0, 1) := zdec_at bX30_code_32 7 rfl
theorem dX30_code_47 : decode cX30_code 47 = .ok (.getfield 18, 3) := zdec_at bX30_code_32 8 rfl
theorem dX30_code_50 : decode cX30_code 50 = .ok (.iload_n 2, 1) := zdec_at bX30_code_32 9 rfl
theorem dX30_code_51 : decode cX30_code 51 = .ok (.iconst 1, 1) := zdec_at bX30_code_32 10 rfl
theorem dX30_code_52 : decode cX30_code 52 = .ok (.isub, 1) := zdec_at bX30_code_32 11 rfl
theorem dX30_code_53 : decode cX30_code 53 = .ok (.iaload, 1) := zdec_at bX30_code_32 12 rfl
theorem dX30_code_54 : decode cX30_code 54 = .ok (.iconst 0, 1) := zdec_at bX30_code_32 13 rfl
theorem dX30_code_55 : decode cX30_code 55 = .ok (.invokevirtual 44, 3) := zdec_at bX30_code_32 14 rfl
theorem dX30_code_58 : decode cX30_code 58 = .ok (.pop, 1) := zdec_at bX30_code_32 15 rfl
theorem bX30_code_59 : zdec cX30_code 59 [(59, .iinc 2 1, 3), (62, .goto (-45), 3), (65, .return_, 1)] = true := by decide +kernel
theorem dX30_code_59 : decode cX30_code 59 = .ok (.iinc 2 1, 3) := zdec_at bX30_code_59 0 rfl
theorem dX30_code_62 : decode cX30_code 62 = .ok (.goto (-45), 3) := zdec_at bX30_code_59 1 rfl
theorem dX30_code_65 : decode cX30_code 65 = .ok (.return_, 1) := zdec_at bX30_code_59 2 rfl
theorem sX30_code_0 {E : zE} {d : Nat} {Q : zO → zM → Prop} (M : zM) (a0 : Nat) (r1 : Option zP) (k : ∃ b1 : Nat, (gr M a0 0) = some (b1, 11, 0) ∧ (Z E YJ2_get d M (zargs 0 [vr (some (b1, 11, 0)), vi (0 : Int32)]) 0 [] (zafter E YX30_code (d + 1) [(0, vr (some (a0, 35, 0))), (1, vr r1)] 5 3 [] Q))) : Z E YX30_code (d + 1) M [(0, vr (some (a0, 35, 0))), (1, vr r1)] 0 [] Q := by
  refine z_aload_n dX30_code_0 rfl rfl ?_
  refine z_getr (r := (gr M a0 0)) dX30_code_1 fsX30_12_35 rfl ?_
  refine z_iconst (v := 0) dX30_code_4 rfl ?_
  obtain ⟨b1, e1_, k⟩ := k
  refine Z.eqs (lv' := [(0, vr (some (a0, 35, 0))), (1, vr r1)]) (st' := [vi (0 : Int32), vr (some (b1, 11, 0))]) rfl (by rw [e1_] <;> rfl) ?_
  exact z_callV (as := [vi (0 : Int32)]) (st := []) dX30_code_5 vsX30_36_11 (Nat.le_refl _) (Nat.le_of_ble_eq_true rfl) (Nat.le_of_ble_eq_true rfl) rfl k
theorem sX30_code_8 {E : zE} {d : Nat} {Q : zO → zM → Prop} (M : zM) (a0 : Nat) (r1 : Option zP) (u0 : Option zP) (k : ∃ b1 t1 : Nat, u0 = some (b1, t1, 0) ∧ ((20 ≤ t1 ∧ t1 < 45) ∧ (∃ Y_ : zY, vt_code t1 = some Y_ ∧ Z E Y_ d M (zargs 0 [vr (some (b1, t1, 0)), vr r1]) 0 [] (zafter E YX30_code (d + 1) [(0, vr (some (a0, 35, 0))), (1, vr r1)] 12 3 [] Q)))) : Z E YX30_code (d + 1) M [(0, vr (some (a0, 35, 0))), (1, vr r1)] 8 [vr u0] Q := by
  obtain ⟨b1, t1, e1_, k⟩ := k
  refine Z.eqs (lv' := [(0, vr (some (a0, 35, 0))), (1, vr r1)]) (st' := [vr (some (b1, t1, 0))]) rfl (by rw [e1_] <;> rfl) ?_
  obtain ⟨b_, k⟩ := k
  refine z_ckcast dX30_code_8 (ctX30_4 _ b_.1 b_.2) ?_
  refine z_aload_n dX30_code_11 rfl rfl ?_
  obtain ⟨Y_, y_, k⟩ := k
  exact z_callV (as := [vr r1]) (st := []) dX30_code_12 (vtX30_40 y_).1 (Nat.le_refl _) (Nat.le_trans (Nat.le_of_ble_eq_true rfl) (vtX30_40 y_).2.1) (Nat.le_trans (Nat.add_le_add_left (vtX30_40 y_).2.2 _) (Nat.le_of_ble_eq_true rfl)) rfl k
theorem sX30_code_15 {E : zE} {d : Nat} {Q : zO → zM → Prop} (M : zM) (a0 : Nat) (r1 : Option zP) (k : Z E YX30_code (d + 1) M [(0, vr (some (a0, 35, 0))), (1, vr r1), (2, vi (1 : Int32))] 17 [] Q) : Z E YX30_code (d + 1) M [(0, vr (some (a0, 35, 0))), (1, vr r1)] 15 [] Q := by
  refine z_iconst (v := 1) dX30_code_15 rfl ?_
  refine z_ist_n dX30_code_16 rfl (by decide) (lv' := [(0, vr (some (a0, 35, 0))), (1, vr r1), (2, vi (1 : Int32))]) rfl ?_
  exact k
theorem sX30_code_17 {E : zE} {d : Nat} {Q : zO → zM → Prop} (M : zM) (a0 : Nat) (r1 : Option zP) (l2 : Int32) (k : ∃ b1 : Nat, (gr M a0 0) = some (b1, 11, 0) ∧ (Z E YJ2_size d M (zargs 0 [vr (some (b1, 11, 0))]) 0 [] (zafter E YX30_code (d + 1) [(0, vr (some (a0, 35, 0))), (1, vr r1), (2, vi l2)] 22 3 [vi l2] Q))) : Z E YX30_code (d + 1) M [(0, vr (some (a0, 35, 0))), (1, vr r1), (2, vi l2)] 17 [] Q := by
  refine z_iload_n dX30_code_17 rfl rfl ?_
  refine z_aload_n dX30_code_18 rfl rfl ?_
  refine z_getr (r := (gr M a0 0)) dX30_code_19 fsX30_12_35 rfl ?_
  obtain ⟨b1, e1_, k⟩ := k
  refine Z.eqs (lv' := [(0, vr (some (a0, 35, 0))), (1, vr r1), (2, vi l2)]) (st' := [vr (some (b1, 11, 0)), vi l2]) rfl (by rw [e1_] <;> rfl) ?_
  exact z_callV (as := []) (st := [vi l2]) dX30_code_22 vsX30_26_11 (Nat.le_refl _) (Nat.le_of_ble_eq_true rfl) (Nat.le_of_ble_eq_true rfl) rfl k
theorem sX30_code_25 {E : zE} {d : Nat} {Q : zO → zM → Prop} (M : zM) (a0 : Nat) (r1 : Option zP) (l2 : Int32) (s0 : Int32) (s1 : Int32) (k : if s0 ≤ s1 then (Q (.inl none) M) else (∃ b1 : Nat, (gr M a0 0) = some (b1, 11, 0) ∧ (Z E YJ2_get d M (zargs 0 [vr (some (b1, 11, 0)), vi l2]) 0 [] (zafter E YX30_code (d + 1) [(0, vr (some (a0, 35, 0))), (1, vr r1), (2, vi l2)] 33 3 [] Q)))) : Z E YX30_code (d + 1) M [(0, vr (some (a0, 35, 0))), (1, vr r1), (2, vi l2)] 25 [vi s0, vi s1] Q := by
  refine z_icmp_ge (tgt := 65) dX30_code_25 rfl (fun h_ => ?_) (fun h_ => ?_)
  · have k := zit h_ k
    exact z_vret dX30_code_65 rfl k
  · have k := zif h_ k
    refine z_aload_n dX30_code_28 rfl rfl ?_
    refine z_getr (r := (gr M a0 0)) dX30_code_29 fsX30_12_35 rfl ?_
    refine z_iload_n dX30_code_32 rfl rfl ?_
    obtain ⟨b1, e1_, k⟩ := k
    refine Z.eqs (lv' := [(0, vr (some (a0, 35, 0))), (1, vr r1), (2, vi l2)]) (st' := [vi l2, vr (some (b1, 11, 0))]) rfl (by rw [e1_] <;> rfl) ?_
    exact z_callV (as := [vi l2]) (st := []) dX30_code_33 vsX30_36_11 (Nat.le_refl _) (Nat.le_of_ble_eq_true rfl) (Nat.le_of_ble_eq_true rfl) rfl k
theorem sX30_code_36 {E : zE} {d : Nat} {Q : zO → zM → Prop} (M : zM) (a0 : Nat) (r1 : Option zP) (l2 : Int32) (u0 : Option zP) (k : ∃ b1 t1 : Nat, u0 = some (b1, t1, 0) ∧ ((20 ≤ t1 ∧ t1 < 45) ∧ (∃ Y_ : zY, vt_code t1 = some Y_ ∧ Z E Y_ d M (zargs 0 [vr (some (b1, t1, 0)), vr r1]) 0 [] (zafter E YX30_code (d + 1) [(0, vr (some (a0, 35, 0))), (1, vr r1), (2, vi l2)] 40 3 [] Q)))) : Z E YX30_code (d + 1) M [(0, vr (some (a0, 35, 0))), (1, vr r1), (2, vi l2)] 36 [vr u0] Q := by
  obtain ⟨b1, t1, e1_, k⟩ := k
  refine Z.eqs (lv' := [(0, vr (some (a0, 35, 0))), (1, vr r1), (2, vi l2)]) (st' := [vr (some (b1, t1, 0))]) rfl (by rw [e1_] <;> rfl) ?_
  obtain ⟨b_, k⟩ := k
  refine z_ckcast dX30_code_36 (ctX30_4 _ b_.1 b_.2) ?_
  refine z_aload_n dX30_code_39 rfl rfl ?_
  obtain ⟨Y_, y_, k⟩ := k
  exact z_callV (as := [vr r1]) (st := []) dX30_code_40 (vtX30_40 y_).1 (Nat.le_refl _) (Nat.le_trans (Nat.le_of_ble_eq_true rfl) (vtX30_40 y_).2.1) (Nat.le_trans (Nat.add_le_add_left (vtX30_40 y_).2.2 _) (Nat.le_of_ble_eq_true rfl)) rfl k
theorem sX30_code_43 {E : zE} {d : Nat} {Q : zO → zM → Prop} (M : zM) (a0 : Nat) (r1 : Option zP) (l2 : Int32) (k : ∃ b1 m1 : Nat, (gr M a0 1) = some (b1, 100, m1) ∧ (vp_in (l2 - (1 : Int32)) m1 ∧ (∃ b2 : Nat, r1 = some (b2, 3, 0) ∧ (Z E YX3_put d M (zargs 0 [vr (some (b2, 3, 0)), vi (14 : Int32), vi (gi M b1 ((l2 - (1 : Int32))).toNatClampNeg), vi (0 : Int32)]) 0 [] (zafter E YX30_code (d + 1) [(0, vr (some (a0, 35, 0))), (1, vr (some (b2, 3, 0))), (2, vi l2)] 55 3 [] Q))))) : Z E YX30_code (d + 1) M [(0, vr (some (a0, 35, 0))), (1, vr r1), (2, vi l2)] 43 [] Q := by
  refine z_aload_n dX30_code_43 rfl rfl ?_
  refine z_bipush (v := 14) dX30_code_44 rfl ?_
  refine z_aload_n dX30_code_46 rfl rfl ?_
  refine z_getr (r := (gr M a0 1)) dX30_code_47 fsX30_18_35 rfl ?_
  refine z_iload_n dX30_code_50 rfl rfl ?_
  refine z_iconst (v := 1) dX30_code_51 rfl ?_
  refine z_isub dX30_code_52 ?_
  obtain ⟨b1, m1, e1_, k⟩ := k
  refine Z.eqs (lv' := [(0, vr (some (a0, 35, 0))), (1, vr r1), (2, vi l2)]) (st' := [vi (l2 - (1 : Int32)), vr (some (b1, 100, m1)), vi (14 : Int32), vr r1]) rfl (by rw [e1_] <;> rfl) ?_
  obtain ⟨b_, k⟩ := k
  refine z_iald dX30_code_53 b_ ?_
  refine z_iconst (v := 0) dX30_code_54 rfl ?_
  obtain ⟨b2, e2_, k⟩ := k
  refine Z.eqs (lv' := [(0, vr (some (a0, 35, 0))), (1, vr (some (b2, 3, 0))), (2, vi l2)]) (st' := [vi (0 : Int32), vi (gi M b1 ((l2 - (1 : Int32))).toNatClampNeg), vi (14 : Int32), vr (some (b2, 3, 0))]) (by rw [e2_] <;> rfl) (by rw [e2_] <;> rfl) ?_
  exact z_callV (as := [vi (14 : Int32), vi (gi M b1 ((l2 - (1 : Int32))).toNatClampNeg), vi (0 : Int32)]) (st := []) dX30_code_55 vsX30_44_3 (Nat.le_refl _) (Nat.le_of_ble_eq_true rfl) (Nat.le_of_ble_eq_true rfl) rfl k
theorem sX30_code_58 {E : zE} {d : Nat} {Q : zO → zM → Prop} (M : zM) (a0 : Nat) (a1 : Nat) (l2 : Int32) (s0 : Int32) (k : Z E YX30_code (d + 1) M [(0, vr (some (a0, 35, 0))), (1, vr (some (a1, 3, 0))), (2, vi (l2 + (1 : Int32)))] 17 [] Q) : Z E YX30_code (d + 1) M [(0, vr (some (a0, 35, 0))), (1, vr (some (a1, 3, 0))), (2, vi l2)] 58 [vi s0] Q := by
  refine z_pop dX30_code_58 rfl ?_
  refine z_inc (v := (l2 + (1 : Int32))) dX30_code_59 rfl rfl (by decide) (lv' := [(0, vr (some (a0, 35, 0))), (1, vr (some (a1, 3, 0))), (2, vi (l2 + (1 : Int32)))]) rfl ?_
  refine z_goto (tgt := 17) dX30_code_62 rfl ?_
  exact k
/-! ScriptTypes$Choice.<init>(LScriptTypes$Node;LScriptTypes$Node;LScriptTypes$Node;)V -/
theorem bX31_init_0 : zdec cX31_init 0 [(0, .aload_n 0, 1), (1, .invokespecial 3, 3), (4, .aload_n 0, 1), (5, .aload_n 1, 1), (6, .putfield 9, 3), (9, .aload_n 0, 1), (10, .aload_n 2, 1), (11, .putfield 15, 3), (14, .aload_n 0, 1), (15, .aload_n 3, 1), (16, .putfield 18, 3), (19, .return_, 1)] = true := by decide +kernel
theorem dX31_init_0 : decode cX31_init 0 = .ok (.aload_n 0, 1) := zdec_at bX31_init_0 0 rfl
theorem dX31_init_1 : decode cX31_init 1 = .ok (.invokespecial 3, 3) := zdec_at bX31_init_0 1 rfl
theorem dX31_init_4 : decode cX31_init 4 = .ok (.aload_n 0, 1) := zdec_at bX31_init_0 2 rfl
theorem dX31_init_5 : decode cX31_init 5 = .ok (.aload_n 1, 1) := zdec_at bX31_init_0 3 rfl
theorem dX31_init_6 : decode cX31_init 6 = .ok (.putfield 9, 3) := zdec_at bX31_init_0 4 rfl
theorem dX31_init_9 : decode cX31_init 9 = .ok (.aload_n 0, 1) := zdec_at bX31_init_0 5 rfl
theorem dX31_init_10 : decode cX31_init 10 = .ok (.aload_n 2, 1) := zdec_at bX31_init_0 6 rfl
theorem dX31_init_11 : decode cX31_init 11 = .ok (.putfield 15, 3) := zdec_at bX31_init_0 7 rfl
theorem dX31_init_14 : decode cX31_init 14 = .ok (.aload_n 0, 1) := zdec_at bX31_init_0 8 rfl
theorem dX31_init_15 : decode cX31_init 15 = .ok (.aload_n 3, 1) := zdec_at bX31_init_0 9 rfl
theorem dX31_init_16 : decode cX31_init 16 = .ok (.putfield 18, 3) := zdec_at bX31_init_0 10 rfl
theorem dX31_init_19 : decode cX31_init 19 = .ok (.return_, 1) := zdec_at bX31_init_0 11 rfl
theorem sX31_init_0 {E : zE} {d : Nat} {Q : zO → zM → Prop} (M : zM) (a0 : Nat) (r1 : Option zP) (r2 : Option zP) (r3 : Option zP) (k : Z E YX13_init d M (zargs 0 [vr (some (a0, 36, 0))]) 0 [] (zafter E YX31_init (d + 1) [(0, vr (some (a0, 36, 0))), (1, vr r1), (2, vr r2), (3, vr r3)] 1 3 [] Q)) : Z E YX31_init (d + 1) M [(0, vr (some (a0, 36, 0))), (1, vr r1), (2, vr r2), (3, vr r3)] 0 [] Q := by
  refine z_aload_n dX31_init_0 rfl rfl ?_
  exact z_callI (as := []) (st := []) dX31_init_1 isX31_3 (Nat.le_refl _) (Nat.le_of_ble_eq_true rfl) (Nat.le_of_ble_eq_true rfl) rfl k
theorem sX31_init_4 {E : zE} {d : Nat} {Q : zO → zM → Prop} (M : zM) (a0 : Nat) (r1 : Option zP) (r2 : Option zP) (r3 : Option zP) (k : 16 ≤ a0 ∧ (16 ≤ a0 ∧ (16 ≤ a0 ∧ (Q (.inl none) (sr (sr (sr M a0 0 r1) a0 1 r2) a0 2 r3))))) : Z E YX31_init (d + 1) M [(0, vr (some (a0, 36, 0))), (1, vr r1), (2, vr r2), (3, vr r3)] 4 [] Q := by
  refine z_aload_n dX31_init_4 rfl rfl ?_
  refine z_aload_n dX31_init_5 rfl rfl ?_
  obtain ⟨g_, k⟩ := k
  refine z_putr g_ dX31_init_6 (zfwN.f fwX31_9_36 rfl (fun q h => by rw [← Option.some.inj h]; rfl)) rfl ?_
  refine z_aload_n dX31_init_9 rfl rfl ?_
  refine z_aload_n dX31_init_10 rfl rfl ?_
  obtain ⟨g_, k⟩ := k
  refine z_putr g_ dX31_init_11 (zfwN.f fwX31_15_36 rfl (fun q h => by rw [← Option.some.inj h]; rfl)) rfl ?_
  refine z_aload_n dX31_init_14 rfl rfl ?_
  refine z_aload_n dX31_init_15 rfl rfl ?_
  obtain ⟨g_, k⟩ := k
  refine z_putr g_ dX31_init_16 (zfwN.f fwX31_18_36 rfl (fun q h => by rw [← Option.some.inj h]; rfl)) rfl ?_
  exact z_vret dX31_init_19 rfl k
/-! ScriptTypes$Choice.code(LScriptTypes$Coder;)V -/
theorem bX31_code_0 : zdec cX31_code 0 [(0, .aload_n 0, 1), (1, .getfield 9, 3), (4, .aload_n 1, 1), (5, .invokevirtual 21, 3), (8, .aload_n 1, 1), (9, .bipush 22, 2), (11, .iconst 0, 1), (12, .iconst 0, 1), (13, .invokevirtual 25, 3), (16, .istore_n 2, 1), (17, .aload_n 0, 1), (18, .getfield 15, 3), (21, .aload_n 1, 1), (22, .invokevirtual 21, 3), (25, .aload_n 1, 1), (26, .bipush 21, 2)] = true := by decide +kernel
theorem dX31_code_0 : decode cX31_code 0 = .ok (.aload_n 0, 1) := zdec_at bX31_code_0 0 rfl
theorem dX31_code_1 : decode cX31_code 1 = .ok (.getfield 9, 3) := zdec_at bX31_code_0 1 rfl
theorem dX31_code_4 : decode cX31_code 4 = .ok (.aload_n 1, 1) := zdec_at bX31_code_0 2 rfl
theorem dX31_code_5 : decode cX31_code 5 = .ok (.invokevirtual 21, 3) := zdec_at bX31_code_0 3 rfl
theorem dX31_code_8 : decode cX31_code 8 = .ok (.aload_n 1, 1) := zdec_at bX31_code_0 4 rfl
theorem dX31_code_9 : decode cX31_code 9 = .ok (.bipush 22, 2) := zdec_at bX31_code_0 5 rfl
theorem dX31_code_11 : decode cX31_code 11 = .ok (.iconst 0, 1) := zdec_at bX31_code_0 6 rfl
theorem dX31_code_12 : decode cX31_code 12 = .ok (.iconst 0, 1) := zdec_at bX31_code_0 7 rfl
theorem dX31_code_13 : decode cX31_code 13 = .ok (.invokevirtual 25, 3) := zdec_at bX31_code_0 8 rfl
theorem dX31_code_16 : decode cX31_code 16 = .ok (.istore_n 2, 1) := zdec_at bX31_code_0 9 rfl
theorem dX31_code_17 : decode cX31_code 17 = .ok (.aload_n 0, 1) := zdec_at bX31_code_0 10 rfl
theorem dX31_code_18 : decode cX31_code 18 = .ok (.getfield 15, 3) := zdec_at bX31_code_0 11 rfl
theorem dX31_code_21 : decode cX31_code 21 = .ok (.aload_n 1, 1) := zdec_at bX31_code_0 12 rfl
theorem dX31_code_22 : decode cX31_code 22 = .ok (.invokevirtual 21, 3) := zdec_at bX31_code_0 13 rfl
theorem dX31_code_25 : decode cX31_code 25 = .ok (.aload_n 1, 1) := zdec_at bX31_code_0 14 rfl
theorem dX31_code_26 : decode cX31_code 26 = .ok (.bipush 21, 2) := zdec_at bX31_code_0 15 rfl
theorem bX31_code_28 : zdec cX31_code 28 [(28, .iconst 0, 1), (29, .iconst 0, 1), (30, .invokevirtual 25, 3), (33, .istore_n 3, 1), (34, .aload_n 1, 1), (35, .iload_n 2, 1), (36, .invokevirtual 31, 3), (39, .aload_n 0, 1), (40, .getfield 18, 3), (43, .aload_n 1, 1), (44, .invokevirtual 21, 3), (47, .aload_n 1, 1), (48, .iload_n 3, 1), (49, .invokevirtual 31, 3), (52, .return_, 1)] = true := by decide +kernel
theorem dX31_code_28 : decode cX31_code 28 = .ok (.iconst 0, 1) := zdec_at bX31_code_28 0 rfl
theorem dX31_code_29 : decode cX31_code 29 = .ok (.iconst 0, 1) := zdec_at bX31_code_28 1 rfl
theorem dX31_code_30 : decode cX31_code 30 = .ok (.invokevirtual 25, 3) := zdec_at bX31_code_28 2 rfl
theorem dX31_code_33 : decode cX31_code 33 = .ok (.istore_n 3, 1) := zdec_at bX31_code_28 3 rfl
theorem dX31_code_34 : decode cX31_code 34 = .ok (.aload_n 1, 1) := zdec_at bX31_code_28 4 rfl
theorem dX31_code_35 : decode cX31_code 35 = .ok (.iload_n 2, 1) := zdec_at bX31_code_28 5 rfl
theorem dX31_code_36 : decode cX31_code 36 = .ok (.invokevirtual 31, 3) := zdec_at bX31_code_28 6 rfl
theorem dX31_code_39 : decode cX31_code 39 = .ok (.aload_n 0, 1) := zdec_at bX31_code_28 7 rfl
theorem dX31_code_40 : decode cX31_code 40 = .ok (.getfield 18, 3) := zdec_at bX31_code_28 8 rfl
theorem dX31_code_43 : decode cX31_code 43 = .ok (.aload_n 1, 1) := zdec_at bX31_code_28 9 rfl
theorem dX31_code_44 : decode cX31_code 44 = .ok (.invokevirtual 21, 3) := zdec_at bX31_code_28 10 rfl
theorem dX31_code_47 : decode cX31_code 47 = .ok (.aload_n 1, 1) := zdec_at bX31_code_28 11 rfl
theorem dX31_code_48 : decode cX31_code 48 = .ok (.iload_n 3, 1) := zdec_at bX31_code_28 12 rfl
theorem dX31_code_49 : decode cX31_code 49 = .ok (.invokevirtual 31, 3) := zdec_at bX31_code_28 13 rfl
theorem dX31_code_52 : decode cX31_code 52 = .ok (.return_, 1) := zdec_at bX31_code_28 14 rfl
theorem sX31_code_0 {E : zE} {d : Nat} {Q : zO → zM → Prop} (M : zM) (a0 : Nat) (r1 : Option zP) (k : ∃ b1 t1 : Nat, (gr M a0 0) = some (b1, t1, 0) ∧ (∃ Y_ : zY, vt_code t1 = some Y_ ∧ Z E Y_ d M (zargs 0 [vr (some (b1, t1, 0)), vr r1]) 0 [] (zafter E YX31_code (d + 1) [(0, vr (some (a0, 36, 0))), (1, vr r1)] 5 3 [] Q))) : Z E YX31_code (d + 1) M [(0, vr (some (a0, 36, 0))), (1, vr r1)] 0 [] Q := by
  refine z_aload_n dX31_code_0 rfl rfl ?_
  refine z_getr (r := (gr M a0 0)) dX31_code_1 fsX31_9_36 rfl ?_
  refine z_aload_n dX31_code_4 rfl rfl ?_
  obtain ⟨b1, t1, e1_, k⟩ := k
  refine Z.eqs (lv' := [(0, vr (some (a0, 36, 0))), (1, vr r1)]) (st' := [vr r1, vr (some (b1, t1, 0))]) rfl (by rw [e1_] <;> rfl) ?_
  obtain ⟨Y_, y_, k⟩ := k
  exact z_callV (as := [vr r1]) (st := []) dX31_code_5 (vtX31_21 y_).1 (Nat.le_refl _) (Nat.le_trans (Nat.le_of_ble_eq_true rfl) (vtX31_21 y_).2.1) (Nat.le_trans (Nat.add_le_add_left (vtX31_21 y_).2.2 _) (Nat.le_of_ble_eq_true rfl)) rfl k
theorem sX31_code_8 {E : zE} {d : Nat} {Q : zO → zM → Prop} (M : zM) (a0 : Nat) (r1 : Option zP) (k : ∃ b1 : Nat, r1 = some (b1, 3, 0) ∧ (Z E YX3_put d M (zargs 0 [vr (some (b1, 3, 0)), vi (22 : Int32), vi (0 : Int32), vi (0 : Int32)]) 0 [] (zafter E YX31_code (d + 1) [(0, vr (some (a0, 36, 0))), (1, vr (some (b1, 3, 0)))] 13 3 [] Q))) : Z E YX31_code (d + 1) M [(0, vr (some (a0, 36, 0))), (1, vr r1)] 8 [] Q := by
  refine z_aload_n dX31_code_8 rfl rfl ?_
  refine z_bipush (v := 22) dX31_code_9 rfl ?_
  refine z_iconst (v := 0) dX31_code_11 rfl ?_
  refine z_iconst (v := 0) dX31_code_12 rfl ?_
  obtain ⟨b1, e1_, k⟩ := k
  refine Z.eqs (lv' := [(0, vr (some (a0, 36, 0))), (1, vr (some (b1, 3, 0)))]) (st' := [vi (0 : Int32), vi (0 : Int32), vi (22 : Int32), vr (some (b1, 3, 0))]) (by rw [e1_] <;> rfl) (by rw [e1_] <;> rfl) ?_
  exact z_callV (as := [vi (22 : Int32), vi (0 : Int32), vi (0 : Int32)]) (st := []) dX31_code_13 vsX31_25_3 (Nat.le_refl _) (Nat.le_of_ble_eq_true rfl) (Nat.le_of_ble_eq_true rfl) rfl k
theorem sX31_code_16 {E : zE} {d : Nat} {Q : zO → zM → Prop} (M : zM) (a0 : Nat) (a1 : Nat) (s0 : Int32) (k : ∃ b1 t1 : Nat, (gr M a0 1) = some (b1, t1, 0) ∧ (∃ Y_ : zY, vt_code t1 = some Y_ ∧ Z E Y_ d M (zargs 0 [vr (some (b1, t1, 0)), vr (some (a1, 3, 0))]) 0 [] (zafter E YX31_code (d + 1) [(0, vr (some (a0, 36, 0))), (1, vr (some (a1, 3, 0))), (2, vi s0)] 22 3 [] Q))) : Z E YX31_code (d + 1) M [(0, vr (some (a0, 36, 0))), (1, vr (some (a1, 3, 0)))] 16 [vi s0] Q := by
  refine z_ist_n dX31_code_16 rfl (by decide) (lv' := [(0, vr (some (a0, 36, 0))), (1, vr (some (a1, 3, 0))), (2, vi s0)]) rfl ?_
  refine z_aload_n dX31_code_17 rfl rfl ?_
  refine z_getr (r := (gr M a0 1)) dX31_code_18 fsX31_15_36 rfl ?_
  refine z_aload_n dX31_code_21 rfl rfl ?_
  obtain ⟨b1, t1, e1_, k⟩ := k
  refine Z.eqs (lv' := [(0, vr (some (a0, 36, 0))), (1, vr (some (a1, 3, 0))), (2, vi s0)]) (st' := [vr (some (a1, 3, 0)), vr (some (b1, t1, 0))]) rfl (by rw [e1_] <;> rfl) ?_
  obtain ⟨Y_, y_, k⟩ := k
  exact z_callV (as := [vr (some (a1, 3, 0))]) (st := []) dX31_code_22 (vtX31_21 y_).1 (Nat.le_refl _) (Nat.le_trans (Nat.le_of_ble_eq_true rfl) (vtX31_21 y_).2.1) (Nat.le_trans (Nat.add_le_add_left (vtX31_21 y_).2.2 _) (Nat.le_of_ble_eq_true rfl)) rfl k
theorem sX31_code_25 {E : zE} {d : Nat} {Q : zO → zM → Prop} (M : zM) (a0 : Nat) (a1 : Nat) (l2 : Int32) (k : Z E YX3_put d M (zargs 0 [vr (some (a1, 3, 0)), vi (21 : Int32), vi (0 : Int32), vi (0 : Int32)]) 0 [] (zafter E YX31_code (d + 1) [(0, vr (some (a0, 36, 0))), (1, vr (some (a1, 3, 0))), (2, vi l2)] 30 3 [] Q)) : Z E YX31_code (d + 1) M [(0, vr (some (a0, 36, 0))), (1, vr (some (a1, 3, 0))), (2, vi l2)] 25 [] Q := by
  refine z_aload_n dX31_code_25 rfl rfl ?_
  refine z_bipush (v := 21) dX31_code_26 rfl ?_
  refine z_iconst (v := 0) dX31_code_28 rfl ?_
  refine z_iconst (v := 0) dX31_code_29 rfl ?_
  exact z_callV (as := [vi (21 : Int32), vi (0 : Int32), vi (0 : Int32)]) (st := []) dX31_code_30 vsX31_25_3 (Nat.le_refl _) (Nat.le_of_ble_eq_true rfl) (Nat.le_of_ble_eq_true rfl) rfl k
theorem sX31_code_33 {E : zE} {d : Nat} {Q : zO → zM → Prop} (M : zM) (a0 : Nat) (a1 : Nat) (l2 : Int32) (s0 : Int32) (k : Z E YX3_goal d M (zargs 0 [vr (some (a1, 3, 0)), vi l2]) 0 [] (zafter E YX31_code (d + 1) [(0, vr (some (a0, 36, 0))), (1, vr (some (a1, 3, 0))), (3, vi s0)] 36 3 [] Q)) : Z E YX31_code (d + 1) M [(0, vr (some (a0, 36, 0))), (1, vr (some (a1, 3, 0))), (2, vi l2)] 33 [vi s0] Q := by
  refine z_ist_n dX31_code_33 rfl (by decide) (lv' := [(0, vr (some (a0, 36, 0))), (1, vr (some (a1, 3, 0))), (2, vi l2), (3, vi s0)]) rfl ?_
  refine z_aload_n dX31_code_34 rfl rfl ?_
  refine z_iload_n dX31_code_35 rfl rfl ?_
  refine Z.pick [0, 1, 3] rfl ?_
  exact z_callV (as := [vi l2]) (st := []) dX31_code_36 vsX31_31_3 (Nat.le_refl _) (Nat.le_of_ble_eq_true rfl) (Nat.le_of_ble_eq_true rfl) rfl k
theorem sX31_code_39 {E : zE} {d : Nat} {Q : zO → zM → Prop} (M : zM) (a0 : Nat) (a1 : Nat) (l3 : Int32) (k : ∃ b1 t1 : Nat, (gr M a0 2) = some (b1, t1, 0) ∧ (∃ Y_ : zY, vt_code t1 = some Y_ ∧ Z E Y_ d M (zargs 0 [vr (some (b1, t1, 0)), vr (some (a1, 3, 0))]) 0 [] (zafter E YX31_code (d + 1) [(1, vr (some (a1, 3, 0))), (3, vi l3)] 44 3 [] Q))) : Z E YX31_code (d + 1) M [(0, vr (some (a0, 36, 0))), (1, vr (some (a1, 3, 0))), (3, vi l3)] 39 [] Q := by
  refine z_aload_n dX31_code_39 rfl rfl ?_
  refine z_getr (r := (gr M a0 2)) dX31_code_40 fsX31_18_36 rfl ?_
  refine z_aload_n dX31_code_43 rfl rfl ?_
  obtain ⟨b1, t1, e1_, k⟩ := k
  refine Z.eqs (lv' := [(0, vr (some (a0, 36, 0))), (1, vr (some (a1, 3, 0))), (3, vi l3)]) (st' := [vr (some (a1, 3, 0)), vr (some (b1, t1, 0))]) rfl (by rw [e1_] <;> rfl) ?_
  refine Z.pick [1, 2] rfl ?_
  obtain ⟨Y_, y_, k⟩ := k
  exact z_callV (as := [vr (some (a1, 3, 0))]) (st := []) dX31_code_44 (vtX31_21 y_).1 (Nat.le_refl _) (Nat.le_trans (Nat.le_of_ble_eq_true rfl) (vtX31_21 y_).2.1) (Nat.le_trans (Nat.add_le_add_left (vtX31_21 y_).2.2 _) (Nat.le_of_ble_eq_true rfl)) rfl k
theorem sX31_code_47 {E : zE} {d : Nat} {Q : zO → zM → Prop} (M : zM) (a1 : Nat) (l3 : Int32) (k : Z E YX3_goal d M (zargs 0 [vr (some (a1, 3, 0)), vi l3]) 0 [] (zafter E YX31_code (d + 1) [] 49 3 [] Q)) : Z E YX31_code (d + 1) M [(1, vr (some (a1, 3, 0))), (3, vi l3)] 47 [] Q := by
  refine z_aload_n dX31_code_47 rfl rfl ?_
  refine z_iload_n dX31_code_48 rfl rfl ?_
  refine Z.pick [] rfl ?_
  exact z_callV (as := [vi l3]) (st := []) dX31_code_49 vsX31_31_3 (Nat.le_refl _) (Nat.le_of_ble_eq_true rfl) (Nat.le_of_ble_eq_true rfl) rfl k
theorem sX31_code_52 {E : zE} {d : Nat} {Q : zO → zM → Prop} (M : zM)  (k : Q (.inl none) M) : Z E YX31_code (d + 1) M [] 52 [] Q := by
  exact z_vret dX31_code_52 rfl k
/-! ScriptTypes$If.<init>(LScriptTypes$Node;LScriptTypes$Node;LScriptTypes$Node;)V -/
theorem bX32_init_0 : zdec cX32_init 0 [(0, .aload_n 0, 1), (1, .invokespecial 3, 3), (4, .aload_n 0, 1), (5, .aload_n 1, 1), (6, .putfield 9, 3), (9, .aload_n 0, 1), (10, .aload_n 2, 1), (11, .putfield 15, 3), (14, .aload_n 0, 1), (15, .aload_n 3, 1), (16, .putfield 18, 3), (19, .return_, 1)] = true := by decide +kernel
theorem dX32_init_0 : decode cX32_init 0 = .ok (.aload_n 0, 1) := zdec_at bX32_init_0 0 rfl
theorem dX32_init_1 : decode cX32_init 1 = .ok (.invokespecial 3, 3) := zdec_at bX32_init_0 1 rfl
theorem dX32_init_4 : decode cX32_init 4 = .ok (.aload_n 0, 1) := zdec_at bX32_init_0 2 rfl
theorem dX32_init_5 : decode cX32_init 5 = .ok (.aload_n 1, 1) := zdec_at bX32_init_0 3 rfl
theorem dX32_init_6 : decode cX32_init 6 = .ok (.putfield 9, 3) := zdec_at bX32_init_0 4 rfl
theorem dX32_init_9 : decode cX32_init 9 = .ok (.aload_n 0, 1) := zdec_at bX32_init_0 5 rfl
theorem dX32_init_10 : decode cX32_init 10 = .ok (.aload_n 2, 1) := zdec_at bX32_init_0 6 rfl
theorem dX32_init_11 : decode cX32_init 11 = .ok (.putfield 15, 3) := zdec_at bX32_init_0 7 rfl
theorem dX32_init_14 : decode cX32_init 14 = .ok (.aload_n 0, 1) := zdec_at bX32_init_0 8 rfl
theorem dX32_init_15 : decode cX32_init 15 = .ok (.aload_n 3, 1) := zdec_at bX32_init_0 9 rfl
theorem dX32_init_16 : decode cX32_init 16 = .ok (.putfield 18, 3) := zdec_at bX32_init_0 10 rfl
theorem dX32_init_19 : decode cX32_init 19 = .ok (.return_, 1) := zdec_at bX32_init_0 11 rfl
theorem sX32_init_0 {E : zE} {d : Nat} {Q : zO → zM → Prop} (M : zM) (a0 : Nat) (r1 : Option zP) (r2 : Option zP) (r3 : Option zP) (k : Z E YX13_init d M (zargs 0 [vr (some (a0, 37, 0))]) 0 [] (zafter E YX32_init (d + 1) [(0, vr (some (a0, 37, 0))), (1, vr r1), (2, vr r2), (3, vr r3)] 1 3 [] Q)) : Z E YX32_init (d + 1) M [(0, vr (some (a0, 37, 0))), (1, vr r1), (2, vr r2), (3, vr r3)] 0 [] Q := by
  refine z_aload_n dX32_init_0 rfl rfl ?_
  exact z_callI (as := []) (st := []) dX32_init_1 isX32_3 (Nat.le_refl _) (Nat.le_of_ble_eq_true rfl) (Nat.le_of_ble_eq_true rfl) rfl k
theorem sX32_init_4 {E : zE} {d : Nat} {Q : zO → zM → Prop} (M : zM) (a0 : Nat) (r1 : Option zP) (r2 : Option zP) (r3 : Option zP) (k : 16 ≤ a0 ∧ (16 ≤ a0 ∧ (16 ≤ a0 ∧ (Q (.inl none) (sr (sr (sr M a0 0 r1) a0 1 r2) a0 2 r3))))) : Z E YX32_init (d + 1) M [(0, vr (some (a0, 37, 0))), (1, vr r1), (2, vr r2), (3, vr r3)] 4 [] Q := by
  refine z_aload_n dX32_init_4 rfl rfl ?_
  refine z_aload_n dX32_init_5 rfl rfl ?_
  obtain ⟨g_, k⟩ := k
  refine z_putr g_ dX32_init_6 (zfwN.f fwX32_9_37 rfl (fun q h => by rw [← Option.some.inj h]; rfl)) rfl ?_
  refine z_aload_n dX32_init_9 rfl rfl ?_
  refine z_aload_n dX32_init_10 rfl rfl ?_
  obtain ⟨g_, k⟩ := k
  refine z_putr g_ dX32_init_11 (zfwN.f fwX32_15_37 rfl (fun q h => by rw [← Option.some.inj h]; rfl)) rfl ?_
  refine z_aload_n dX32_init_14 rfl rfl ?_
  refine z_aload_n dX32_init_15 rfl rfl ?_
  obtain ⟨g_, k⟩ := k
  refine z_putr g_ dX32_init_16 (zfwN.f fwX32_18_37 rfl (fun q h => by rw [← Option.some.inj h]; rfl)) rfl ?_
  exact z_vret dX32_init_19 rfl k
/-! ScriptTypes$If.code(LScriptTypes$Coder;)V -/
theorem bX32_code_0 : zdec cX32_code 0 [(0, .aload_n 0, 1), (1, .getfield 9, 3), (4, .aload_n 1, 1), (5, .invokevirtual 21, 3), (8, .aload_n 1, 1), (9, .bipush 22, 2), (11, .iconst 0, 1), (12, .iconst 0, 1), (13, .invokevirtual 25, 3), (16, .istore_n 2, 1), (17, .aload_n 0, 1), (18, .getfield 15, 3), (21, .aload_n 1, 1), (22, .invokevirtual 21, 3), (25, .aload_n 0, 1), (26, .getfield 18, 3)] = true := by decide +kernel
theorem dX32_code_0 : decode cX32_code 0 = .ok (.aload_n 0, 1) := zdec_at bX32_code_0 0 rfl
theorem dX32_code_1 : decode cX32_code 1 = .ok (.getfield 9, 3) := zdec_at bX32_code_0 1 rfl
theorem dX32_code_4 : decode cX32_code 4 = .ok (.aload_n 1, 1) := zdec_at bX32_code_0 2 rfl
theorem dX32_code_5 : decode cX32_code 5 = .ok (.invokevirtual 21, 3) := zdec_at bX32_code_0 3 rfl
theorem dX32_code_8 : decode cX32_code 8 = .ok (.aload_n 1, 1) := zdec_at bX32_code_0 4 rfl
theorem dX32_code_9 : decode cX32_code 9 = .ok (.bipush 22, 2) := zdec_at bX32_code_0 5 rfl
theorem dX32_code_11 : decode cX32_code 11 = .ok (.iconst 0, 1) := zdec_at bX32_code_0 6 rfl
theorem dX32_code_12 : decode cX32_code 12 = .ok (.iconst 0, 1) := zdec_at bX32_code_0 7 rfl
theorem dX32_code_13 : decode cX32_code 13 = .ok (.invokevirtual 25, 3) := zdec_at bX32_code_0 8 rfl
theorem dX32_code_16 : decode cX32_code 16 = .ok (.istore_n 2, 1) := zdec_at bX32_code_0 9 rfl
theorem dX32_code_17 : decode cX32_code 17 = .ok (.aload_n 0, 1) := zdec_at bX32_code_0 10 rfl
theorem dX32_code_18 : decode cX32_code 18 = .ok (.getfield 15, 3) := zdec_at bX32_code_0 11 rfl
theorem dX32_code_21 : decode cX32_code 21 = .ok (.aload_n 1, 1) := zdec_at bX32_code_0 12 rfl
theorem dX32_code_22 : decode cX32_code 22 = .ok (.invokevirtual 21, 3) := zdec_at bX32_code_0 13 rfl
theorem dX32_code_25 : decode cX32_code 25 = .ok (.aload_n 0, 1) := zdec_at bX32_code_0 14 rfl
theorem dX32_code_26 : decode cX32_code 26 = .ok (.getfield 18, 3) := zdec_at bX32_code_0 15 rfl
theorem bX32_code_29 : zdec cX32_code 29 [(29, .ifnonnull 9, 3), (32, .aload_n 1, 1), (33, .iload_n 2, 1), (34, .invokevirtual 31, 3), (37, .return_, 1), (38, .aload_n 1, 1), (39, .bipush 21, 2), (41, .iconst 0, 1), (42, .iconst 0, 1), (43, .invokevirtual 25, 3), (46, .istore_n 3, 1), (47, .aload_n 1, 1), (48, .iload_n 2, 1), (49, .invokevirtual 31, 3), (52, .aload_n 0, 1), (53, .getfield 18, 3)] = true := by decide +kernel
theorem dX32_code_29 : decode cX32_code 29 = .ok (.ifnonnull 9, 3) := zdec_at bX32_code_29 0 rfl
theorem dX32_code_32 : decode cX32_code 32 = .ok (.aload_n 1, 1) := zdec_at bX32_code_29 1 rfl
theorem dX32_code_33 : decode cX32_code 33 = .ok (.iload_n 2, 1) := zdec_at bX32_code_29 2 rfl
theorem dX32_code_34 : decode cX32_code 34 = .ok (.invokevirtual 31, 3) := zdec_at bX32_code_29 3 rfl
theorem dX32_code_37 : decode cX32_code 37 = .ok (.return_, 1) := zdec_at bX32_code_29 4 rfl
theorem dX32_code_38 : decode cX32_code 38 = .ok (.aload_n 1, 1) := zdec_at bX32_code_29 5 rfl
theorem dX32_code_39 : decode cX32_code 39 = .ok (.bipush 21, 2) := zdec_at bX32_code_29 6 rfl
theorem dX32_code_41 : decode cX32_code 41 = .ok (.iconst 0, 1) := zdec_at bX32_code_29 7 rfl
theorem dX32_code_42 : decode cX32_code 42 = .ok (.iconst 0, 1) := zdec_at bX32_code_29 8 rfl
theorem dX32_code_43 : decode cX32_code 43 = .ok (.invokevirtual 25, 3) := zdec_at bX32_code_29 9 rfl
theorem dX32_code_46 : decode cX32_code 46 = .ok (.istore_n 3, 1) := zdec_at bX32_code_29 10 rfl
theorem dX32_code_47 : decode cX32_code 47 = .ok (.aload_n 1, 1) := zdec_at bX32_code_29 11 rfl
theorem dX32_code_48 : decode cX32_code 48 = .ok (.iload_n 2, 1) := zdec_at bX32_code_29 12 rfl
theorem dX32_code_49 : decode cX32_code 49 = .ok (.invokevirtual 31, 3) := zdec_at bX32_code_29 13 rfl
theorem dX32_code_52 : decode cX32_code 52 = .ok (.aload_n 0, 1) := zdec_at bX32_code_29 14 rfl
theorem dX32_code_53 : decode cX32_code 53 = .ok (.getfield 18, 3) := zdec_at bX32_code_29 15 rfl
theorem bX32_code_56 : zdec cX32_code 56 [(56, .aload_n 1, 1), (57, .invokevirtual 21, 3), (60, .aload_n 1, 1), (61, .iload_n 3, 1), (62, .invokevirtual 31, 3), (65, .return_, 1)] = true := by decide +kernel
theorem dX32_code_56 : decode cX32_code 56 = .ok (.aload_n 1, 1) := zdec_at bX32_code_56 0 rfl
theorem dX32_code_57 : decode cX32_code 57 = .ok (.invokevirtual 21, 3) := zdec_at bX32_code_56 1 rfl
theorem dX32_code_60 : decode cX32_code 60 = .ok (.aload_n 1, 1) := zdec_at bX32_code_56 2 rfl
theorem dX32_code_61 : decode cX32_code 61 = .ok (.iload_n 3, 1) := zdec_at bX32_code_56 3 rfl
theorem dX32_code_62 : decode cX32_code 62 = .ok (.invokevirtual 31, 3) := zdec_at bX32_code_56 4 rfl
theorem dX32_code_65 : decode cX32_code 65 = .ok (.return_, 1) := zdec_at bX32_code_56 5 rfl
theorem sX32_code_0 {E : zE} {d : Nat} {Q : zO → zM → Prop} (M : zM) (a0 : Nat) (r1 : Option zP) (k : ∃ b1 t1 : Nat, (gr M a0 0) = some (b1, t1, 0) ∧ (∃ Y_ : zY, vt_code t1 = some Y_ ∧ Z E Y_ d M (zargs 0 [vr (some (b1, t1, 0)), vr r1]) 0 [] (zafter E YX32_code (d + 1) [(0, vr (some (a0, 37, 0))), (1, vr r1)] 5 3 [] Q))) : Z E YX32_code (d + 1) M [(0, vr (some (a0, 37, 0))), (1, vr r1)] 0 [] Q := by
  refine z_aload_n dX32_code_0 rfl rfl ?_
  refine z_getr (r := (gr M a0 0)) dX32_code_1 fsX32_9_37 rfl ?_
  refine z_aload_n dX32_code_4 rfl rfl ?_
  obtain ⟨b1, t1, e1_, k⟩ := k
  refine Z.eqs (lv' := [(0, vr (some (a0, 37, 0))), (1, vr r1)]) (st' := [vr r1, vr (some (b1, t1, 0))]) rfl (by rw [e1_] <;> rfl) ?_
  obtain ⟨Y_, y_, k⟩ := k
  exact z_callV (as := [vr r1]) (st := []) dX32_code_5 (vtX32_21 y_).1 (Nat.le_refl _) (Nat.le_trans (Nat.le_of_ble_eq_true rfl) (vtX32_21 y_).2.1) (Nat.le_trans (Nat.add_le_add_left (vtX32_21 y_).2.2 _) (Nat.le_of_ble_eq_true rfl)) rfl k
theorem sX32_code_8 {E : zE} {d : Nat} {Q : zO → zM → Prop} (M : zM) (a0 : Nat) (r1 : Option zP) (k : ∃ b1 : Nat, r1 = some (b1, 3, 0) ∧ (Z E YX3_put d M (zargs 0 [vr (some (b1, 3, 0)), vi (22 : Int32), vi (0 : Int32), vi (0 : Int32)]) 0 [] (zafter E YX32_code (d + 1) [(0, vr (some (a0, 37, 0))), (1, vr (some (b1, 3, 0)))] 13 3 [] Q))) : Z E YX32_code (d + 1) M [(0, vr (some (a0, 37, 0))), (1, vr r1)] 8 [] Q := by
  refine z_aload_n dX32_code_8 rfl rfl ?_
  refine z_bipush (v := 22) dX32_code_9 rfl ?_
  refine z_iconst (v := 0) dX32_code_11 rfl ?_
  refine z_iconst (v := 0) dX32_code_12 rfl ?_
  obtain ⟨b1, e1_, k⟩ := k
  refine Z.eqs (lv' := [(0, vr (some (a0, 37, 0))), (1, vr (some (b1, 3, 0)))]) (st' := [vi (0 : Int32), vi (0 : Int32), vi (22 : Int32), vr (some (b1, 3, 0))]) (by rw [e1_] <;> rfl) (by rw [e1_] <;> rfl) ?_
  exact z_callV (as := [vi (22 : Int32), vi (0 : Int32), vi (0 : Int32)]) (st := []) dX32_code_13 vsX32_25_3 (Nat.le_refl _) (Nat.le_of_ble_eq_true rfl) (Nat.le_of_ble_eq_true rfl) rfl k
theorem sX32_code_16 {E : zE} {d : Nat} {Q : zO → zM → Prop} (M : zM) (a0 : Nat) (a1 : Nat) (s0 : Int32) (k : ∃ b1 t1 : Nat, (gr M a0 1) = some (b1, t1, 0) ∧ (∃ Y_ : zY, vt_code t1 = some Y_ ∧ Z E Y_ d M (zargs 0 [vr (some (b1, t1, 0)), vr (some (a1, 3, 0))]) 0 [] (zafter E YX32_code (d + 1) [(0, vr (some (a0, 37, 0))), (1, vr (some (a1, 3, 0))), (2, vi s0)] 22 3 [] Q))) : Z E YX32_code (d + 1) M [(0, vr (some (a0, 37, 0))), (1, vr (some (a1, 3, 0)))] 16 [vi s0] Q := by
  refine z_ist_n dX32_code_16 rfl (by decide) (lv' := [(0, vr (some (a0, 37, 0))), (1, vr (some (a1, 3, 0))), (2, vi s0)]) rfl ?_
  refine z_aload_n dX32_code_17 rfl rfl ?_
  refine z_getr (r := (gr M a0 1)) dX32_code_18 fsX32_15_37 rfl ?_
  refine z_aload_n dX32_code_21 rfl rfl ?_
  obtain ⟨b1, t1, e1_, k⟩ := k
  refine Z.eqs (lv' := [(0, vr (some (a0, 37, 0))), (1, vr (some (a1, 3, 0))), (2, vi s0)]) (st' := [vr (some (a1, 3, 0)), vr (some (b1, t1, 0))]) rfl (by rw [e1_] <;> rfl) ?_
  obtain ⟨Y_, y_, k⟩ := k
  exact z_callV (as := [vr (some (a1, 3, 0))]) (st := []) dX32_code_22 (vtX32_21 y_).1 (Nat.le_refl _) (Nat.le_trans (Nat.le_of_ble_eq_true rfl) (vtX32_21 y_).2.1) (Nat.le_trans (Nat.add_le_add_left (vtX32_21 y_).2.2 _) (Nat.le_of_ble_eq_true rfl)) rfl k
theorem sX32_code_25 {E : zE} {d : Nat} {Q : zO → zM → Prop} (M : zM) (a0 : Nat) (a1 : Nat) (l2 : Int32) (k : if (gr M a0 2) = none then (Z E YX3_goal d M (zargs 0 [vr (some (a1, 3, 0)), vi l2]) 0 [] (zafter E YX32_code (d + 1) [] 34 3 [] Q)) else (Z E YX3_put d M (zargs 0 [vr (some (a1, 3, 0)), vi (21 : Int32), vi (0 : Int32), vi (0 : Int32)]) 0 [] (zafter E YX32_code (d + 1) [(0, vr (some (a0, 37, 0))), (1, vr (some (a1, 3, 0))), (2, vi l2)] 43 3 [] Q))) : Z E YX32_code (d + 1) M [(0, vr (some (a0, 37, 0))), (1, vr (some (a1, 3, 0))), (2, vi l2)] 25 [] Q := by
  refine z_aload_n dX32_code_25 rfl rfl ?_
  refine z_getr (r := (gr M a0 2)) dX32_code_26 fsX32_18_37 rfl ?_
  refine z_ifnonnull (tgt := 38) dX32_code_29 rfl (fun h_ => ?_) (fun h_ => ?_)
  · have k := zif h_ k
    refine z_aload_n dX32_code_38 rfl rfl ?_
    refine z_bipush (v := 21) dX32_code_39 rfl ?_
    refine z_iconst (v := 0) dX32_code_41 rfl ?_
    refine z_iconst (v := 0) dX32_code_42 rfl ?_
    exact z_callV (as := [vi (21 : Int32), vi (0 : Int32), vi (0 : Int32)]) (st := []) dX32_code_43 vsX32_25_3 (Nat.le_refl _) (Nat.le_of_ble_eq_true rfl) (Nat.le_of_ble_eq_true rfl) rfl k
  · have k := zit h_ k
    refine z_aload_n dX32_code_32 rfl rfl ?_
    refine z_iload_n dX32_code_33 rfl rfl ?_
    refine Z.pick [] rfl ?_
    exact z_callV (as := [vi l2]) (st := []) dX32_code_34 vsX32_31_3 (Nat.le_refl _) (Nat.le_of_ble_eq_true rfl) (Nat.le_of_ble_eq_true rfl) rfl k
theorem sX32_code_37 {E : zE} {d : Nat} {Q : zO → zM → Prop} (M : zM)  (k : Q (.inl none) M) : Z E YX32_code (d + 1) M [] 37 [] Q := by
  exact z_vret dX32_code_37 rfl k
theorem sX32_code_46 {E : zE} {d : Nat} {Q : zO → zM → Prop} (M : zM) (a0 : Nat) (a1 : Nat) (l2 : Int32) (s0 : Int32) (k : Z E YX3_goal d M (zargs 0 [vr (some (a1, 3, 0)), vi l2]) 0 [] (zafter E YX32_code (d + 1) [(0, vr (some (a0, 37, 0))), (1, vr (some (a1, 3, 0))), (3, vi s0)] 49 3 [] Q)) : Z E YX32_code (d + 1) M [(0, vr (some (a0, 37, 0))), (1, vr (some (a1, 3, 0))), (2, vi l2)] 46 [vi s0] Q := by
  refine z_ist_n dX32_code_46 rfl (by decide) (lv' := [(0, vr (some (a0, 37, 0))), (1, vr (some (a1, 3, 0))), (2, vi l2), (3, vi s0)]) rfl ?_
  refine z_aload_n dX32_code_47 rfl rfl ?_
  refine z_iload_n dX32_code_48 rfl rfl ?_
  refine Z.pick [0, 1, 3] rfl ?_
  exact z_callV (as := [vi l2]) (st := []) dX32_code_49 vsX32_31_3 (Nat.le_refl _) (Nat.le_of_ble_eq_true rfl) (Nat.le_of_ble_eq_true rfl) rfl k
theorem sX32_code_52 {E : zE} {d : Nat} {Q : zO → zM → Prop} (M : zM) (a0 : Nat) (a1 : Nat) (l3 : Int32) (k : ∃ b1 t1 : Nat, (gr M a0 2) = some (b1, t1, 0) ∧ (∃ Y_ : zY, vt_code t1 = some Y_ ∧ Z E Y_ d M (zargs 0 [vr (some (b1, t1, 0)), vr (some (a1, 3, 0))]) 0 [] (zafter E YX32_code (d + 1) [(1, vr (some (a1, 3, 0))), (3, vi l3)] 57 3 [] Q))) : Z E YX32_code (d + 1) M [(0, vr (some (a0, 37, 0))), (1, vr (some (a1, 3, 0))), (3, vi l3)] 52 [] Q := by
  refine z_aload_n dX32_code_52 rfl rfl ?_
  refine z_getr (r := (gr M a0 2)) dX32_code_53 fsX32_18_37 rfl ?_
  refine z_aload_n dX32_code_56 rfl rfl ?_
  obtain ⟨b1, t1, e1_, k⟩ := k
  refine Z.eqs (lv' := [(0, vr (some (a0, 37, 0))), (1, vr (some (a1, 3, 0))), (3, vi l3)]) (st' := [vr (some (a1, 3, 0)), vr (some (b1, t1, 0))]) rfl (by rw [e1_] <;> rfl) ?_
  refine Z.pick [1, 2] rfl ?_
  obtain ⟨Y_, y_, k⟩ := k
  exact z_callV (as := [vr (some (a1, 3, 0))]) (st := []) dX32_code_57 (vtX32_21 y_).1 (Nat.le_refl _) (Nat.le_trans (Nat.le_of_ble_eq_true rfl) (vtX32_21 y_).2.1) (Nat.le_trans (Nat.add_le_add_left (vtX32_21 y_).2.2 _) (Nat.le_of_ble_eq_true rfl)) rfl k
theorem sX32_code_60 {E : zE} {d : Nat} {Q : zO → zM → Prop} (M : zM) (a1 : Nat) (l3 : Int32) (k : Z E YX3_goal d M (zargs 0 [vr (some (a1, 3, 0)), vi l3]) 0 [] (zafter E YX32_code (d + 1) [] 62 3 [] Q)) : Z E YX32_code (d + 1) M [(1, vr (some (a1, 3, 0))), (3, vi l3)] 60 [] Q := by
  refine z_aload_n dX32_code_60 rfl rfl ?_
  refine z_iload_n dX32_code_61 rfl rfl ?_
  refine Z.pick [] rfl ?_
  exact z_callV (as := [vi l3]) (st := []) dX32_code_62 vsX32_31_3 (Nat.le_refl _) (Nat.le_of_ble_eq_true rfl) (Nat.le_of_ble_eq_true rfl) rfl k
theorem sX32_code_65 {E : zE} {d : Nat} {Q : zO → zM → Prop} (M : zM)  (k : Q (.inl none) M) : Z E YX32_code (d + 1) M [] 65 [] Q := by
  exact z_vret dX32_code_65 rfl k
/-! ScriptTypes$Loop.<init>(ILScriptTypes$Node;LScriptTypes$Node;LScriptTypes$Node;LScriptTypes$Node;)V -/
theorem bX33_init_0 : zdec cX33_init 0 [(0, .aload_n 0, 1), (1, .invokespecial 3, 3), (4, .aload_n 0, 1), (5, .iload_n 1, 1), (6, .putfield 9, 3), (9, .aload_n 0, 1), (10, .aload_n 2, 1), (11, .putfield 15, 3), (14, .aload_n 0, 1), (15, .aload_n 3, 1), (16, .putfield 19, 3), (19, .aload_n 0, 1), (20, .aload 4, 2), (22, .putfield 22, 3), (25, .aload_n 0, 1), (26, .aload 5, 2)] = true := by decide +kernel
theorem dX33_init_0 : decode cX33_init 0 = .ok (.aload_n 0, 1) := zdec_at bX33_init_0 0 rfl
theorem dX33_init_1 : decode cX33_init 1 = .ok (.invokespecial 3, 3) := zdec_at bX33_init_0 1 rfl
theorem dX33_init_4 : decode cX33_init 4 = .ok (.aload_n 0, 1) := zdec_at bX33_init_0 2 rfl
theorem dX33_init_5 : decode cX33_init 5 = .ok (.iload_n 1, 1) := zdec_at bX33_init_0 3 rfl
theorem dX33_init_6 : decode cX33_init 6 = .ok (.putfield 9, 3) := zdec_at bX33_init_0 4 rfl
theorem dX33_init_9 : decode cX33_init 9 = .ok (.aload_n 0, 1) := zdec_at bX33_init_0 5 rfl
theorem dX33_init_10 : decode cX33_init 10 = .ok (.aload_n 2, 1) := zdec_at bX33_init_0 6 rfl
theorem dX33_init_11 : decode cX33_init 11 = .ok (.putfield 15, 3) := zdec_at bX33_init_0 7 rfl
theorem dX33_init_14 : decode cX33_init 14 = .ok (.aload_n 0, 1) := zdec_at bX33_init_0 8 rfl
theorem dX33_init_15 : decode cX33_init 15 = .ok (.aload_n 3, 1) := zdec_at bX33_init_0 9 rfl
theorem dX33_init_16 : decode cX33_init 16 = .ok (.putfield 19, 3) := zdec_at bX33_init_0 10 rfl
theorem dX33_init_19 : decode cX33_init 19 = .ok (.aload_n 0, 1) := zdec_at bX33_init_0 11 rfl
theorem dX33_init_20 : decode cX33_init 20 = .ok (.aload 4, 2) := zdec_at bX33_init_0 12 rfl
theorem dX33_init_22 : decode cX33_init 22 = .ok (.putfield 22, 3) := zdec_at bX33_init_0 13 rfl
theorem dX33_init_25 : decode cX33_init 25 = .ok (.aload_n 0, 1) := zdec_at bX33_init_0 14 rfl
theorem dX33_init_26 : decode cX33_init 26 = .ok (.aload 5, 2) := zdec_at bX33_init_0 15 rfl
theorem bX33_init_28 : zdec cX33_init 28 [(28, .putfield 25, 3), (31, .return_, 1)] = true := by decide +kernel
theorem dX33_init_28 : decode cX33_init 28 = .ok (.putfield 25, 3) := zdec_at bX33_init_28 0 rfl
theorem dX33_init_31 : decode cX33_init 31 = .ok (.return_, 1) := zdec_at bX33_init_28 1 rfl
theorem sX33_init_0 {E : zE} {d : Nat} {Q : zO → zM → Prop} (M : zM) (a0 : Nat) (l1 : Int32) (r2 : Option zP) (r3 : Option zP) (r4 : Option zP) (r5 : Option zP) (k : Z E YX13_init d M (zargs 0 [vr (some (a0, 38, 0))]) 0 [] (zafter E YX33_init (d + 1) [(0, vr (some (a0, 38, 0))), (1, vi l1), (2, vr r2), (3, vr r3), (4, vr r4), (5, vr r5)] 1 3 [] Q)) : Z E YX33_init (d + 1) M [(0, vr (some (a0, 38, 0))), (1, vi l1), (2, vr r2), (3, vr r3), (4, vr r4), (5, vr r5)] 0 [] Q := by
  refine z_aload_n dX33_init_0 rfl rfl ?_
  exact z_callI (as := []) (st := []) dX33_init_1 isX33_3 (Nat.le_refl _) (Nat.le_of_ble_eq_true rfl) (Nat.le_of_ble_eq_true rfl) rfl k
theorem sX33_init_4 {E : zE} {d : Nat} {Q : zO → zM → Prop} (M : zM) (a0 : Nat) (l1 : Int32) (r2 : Option zP) (r3 : Option zP) (r4 : Option zP) (r5 : Option zP) (k : 16 ≤ a0 ∧ (16 ≤ a0 ∧ (16 ≤ a0 ∧ (16 ≤ a0 ∧ (16 ≤ a0 ∧ (Q (.inl none) (sr (sr (sr (sr (si M a0 0 l1) a0 1 r2) a0 2 r3) a0 3 r4) a0 4 r5))))))) : Z E YX33_init (d + 1) M [(0, vr (some (a0, 38, 0))), (1, vi l1), (2, vr r2), (3, vr r3), (4, vr r4), (5, vr r5)] 4 [] Q := by
  refine z_aload_n dX33_init_4 rfl rfl ?_
  refine z_iload_n dX33_init_5 rfl rfl ?_
  obtain ⟨g_, k⟩ := k
  refine z_puti g_ dX33_init_6 (zfwN.f fwX33_9_38 rfl (fun q h => by rw [← Option.some.inj h]; rfl)) rfl ⟨rfl, rfl⟩ ?_
  refine z_aload_n dX33_init_9 rfl rfl ?_
  refine z_aload_n dX33_init_10 rfl rfl ?_
  obtain ⟨g_, k⟩ := k
  refine z_putr g_ dX33_init_11 (zfwN.f fwX33_15_38 rfl (fun q h => by rw [← Option.some.inj h]; rfl)) rfl ?_
  refine z_aload_n dX33_init_14 rfl rfl ?_
  refine z_aload_n dX33_init_15 rfl rfl ?_
  obtain ⟨g_, k⟩ := k
  refine z_putr g_ dX33_init_16 (zfwN.f fwX33_19_38 rfl (fun q h => by rw [← Option.some.inj h]; rfl)) rfl ?_
  refine z_aload_n dX33_init_19 rfl rfl ?_
  refine z_aload dX33_init_20 rfl ?_
  obtain ⟨g_, k⟩ := k
  refine z_putr g_ dX33_init_22 (zfwN.f fwX33_22_38 rfl (fun q h => by rw [← Option.some.inj h]; rfl)) rfl ?_
  refine z_aload_n dX33_init_25 rfl rfl ?_
  refine z_aload dX33_init_26 rfl ?_
  obtain ⟨g_, k⟩ := k
  refine z_putr g_ dX33_init_28 (zfwN.f fwX33_25_38 rfl (fun q h => by rw [← Option.some.inj h]; rfl)) rfl ?_
  exact z_vret dX33_init_31 rfl k
/-! ScriptTypes$Loop.code(LScriptTypes$Coder;)V -/
theorem bX33_code_0 : zdec cX33_code 0 [(0, .aload_n 0, 1), (1, .getfield 15, 3), (4, .ifnull 11, 3), (7, .aload_n 0, 1), (8, .getfield 15, 3), (11, .aload_n 1, 1), (12, .invokevirtual 28, 3), (15, .aload_n 1, 1), (16, .iconst 0, 1), (17, .invokevirtual 34, 3), (20, .astore_n 2, 1), (21, .aload_n 1, 1), (22, .invokevirtual 40, 3), (25, .istore_n 3, 1), (26, .iconst (-1), 1), (27, .istore 4, 2)] = true := by decide +kernel
theorem dX33_code_0 : decode cX33_code 0 = .ok (.aload_n 0, 1) := zdec_at bX33_code_0 0 rfl
theorem dX33_code_1 : decode cX33_code 1 = .ok (.getfield 15, 3) := zdec_at bX33_code_0 1 rfl
theorem dX33_code_4 : decode cX33_code 4 = .ok (.ifnull 11, 3) := zdec_at bX33_code_0 2 rfl
theorem dX33_code_7 : decode cX33_code 7 = .ok (.aload_n 0, 1) := zdec_at bX33_code_0 3 rfl
theorem dX33_code_8 : decode cX33_code 8 = .ok (.getfield 15, 3) := zdec_at bX33_code_0 4 rfl
theorem dX33_code_11 : decode cX33_code 11 = .ok (.aload_n 1, 1) := zdec_at bX33_code_0 5 rfl
theorem dX33_code_12 : decode cX33_code 12 = .ok (.invokevirtual 28, 3) := zdec_at bX33_code_0 6 rfl
theorem dX33_code_15 : decode cX33_code 15 = .ok (.aload_n 1, 1) := zdec_at bX33_code_0 7 rfl
theorem dX33_code_16 : decode cX33_code 16 = .ok (.iconst 0, 1) := zdec_at bX33_code_0 8 rfl
theorem dX33_code_17 : decode cX33_code 17 = .ok (.invokevirtual 34, 3) := zdec_at bX33_code_0 9 rfl
theorem dX33_code_20 : decode cX33_code 20 = .ok (.astore_n 2, 1) := zdec_at bX33_code_0 10 rfl
theorem dX33_code_21 : decode cX33_code 21 = .ok (.aload_n 1, 1) := zdec_at bX33_code_0 11 rfl
theorem dX33_code_22 : decode cX33_code 22 = .ok (.invokevirtual 40, 3) := zdec_at bX33_code_0 12 rfl
theorem dX33_code_25 : decode cX33_code 25 = .ok (.istore_n 3, 1) := zdec_at bX33_code_0 13 rfl
theorem dX33_code_26 : decode cX33_code 26 = .ok (.iconst (-1), 1) := zdec_at bX33_code_0 14 rfl
theorem dX33_code_27 : decode cX33_code 27 = .ok (.istore 4, 2) := zdec_at bX33_code_0 15 rfl
theorem bX33_code_29 : zdec cX33_code 29 [(29, .aload_n 0, 1), (30, .getfield 9, 3), (33, .iconst 1, 1), (34, .if_icmp .eq 28, 3), (37, .aload_n 0, 1), (38, .getfield 19, 3), (41, .ifnull 21, 3), (44, .aload_n 0, 1), (45, .getfield 19, 3), (48, .aload_n 1, 1), (49, .invokevirtual 28, 3), (52, .aload_n 1, 1), (53, .bipush 22, 2), (55, .iconst 0, 1), (56, .iconst 0, 1), (57, .invokevirtual 44, 3)] = true := by decide +kernel
theorem dX33_code_29 : decode cX33_code 29 = .ok (.aload_n 0, 1) := zdec_at bX33_code_29 0 rfl
theorem dX33_code_30 : decode cX33_code 30 = .ok (.getfield 9, 3) := zdec_at bX33_code_29 1 rfl
theorem dX33_code_33 : decode cX33_code 33 = .ok (.iconst 1, 1) := zdec_at bX33_code_29 2 rfl
theorem dX33_code_34 : decode cX33_code 34 = .ok (.if_icmp .eq 28, 3) := zdec_at bX33_code_29 3 rfl
theorem dX33_code_37 : decode cX33_code 37 = .ok (.aload_n 0, 1) := zdec_at bX33_code_29 4 rfl
theorem dX33_code_38 : decode cX33_code 38 = .ok (.getfield 19, 3) := zdec_at bX33_code_29 5 rfl
theorem dX33_code_41 : decode cX33_code 41 = .ok (.ifnull 21, 3) := zdec_at bX33_code_29 6 rfl
theorem dX33_code_44 : decode cX33_code 44 = .ok (.aload_n 0, 1) := zdec_at bX33_code_29 7 rfl
theorem dX33_code_45 : decode cX33_code 45 = .ok (.getfield 19, 3) := zdec_at bX33_code_29 8 rfl
theorem dX33_code_48 : decode cX33_code 48 = .ok (.aload_n 1, 1) := zdec_at bX33_code_29 9 rfl
theorem dX33_code_49 : decode cX33_code 49 = .ok (.invokevirtual 28, 3) := zdec_at bX33_code_29 10 rfl
theorem dX33_code_52 : decode cX33_code 52 = .ok (.aload_n 1, 1) := zdec_at bX33_code_29 11 rfl
theorem dX33_code_53 : decode cX33_code 53 = .ok (.bipush 22, 2) := zdec_at bX33_code_29 12 rfl
theorem dX33_code_55 : decode cX33_code 55 = .ok (.iconst 0, 1) := zdec_at bX33_code_29 13 rfl
theorem dX33_code_56 : decode cX33_code 56 = .ok (.iconst 0, 1) := zdec_at bX33_code_29 14 rfl
theorem dX33_code_57 : decode cX33_code 57 = .ok (.invokevirtual 44, 3) := zdec_at bX33_code_29 15 rfl
theorem bX33_code_60 : zdec cX33_code 60 [(60, .istore 4, 2), (62, .aload_n 0, 1), (63, .getfield 25, 3), (66, .aload_n 1, 1), (67, .invokevirtual 28, 3), (70, .aload_n 2, 1), (71, .getfield 48, 3), (74, .aload_n 1, 1), (75, .aload_n 0, 1), (76, .getfield 9, 3), (79, .ifCond .ne 7, 3), (82, .iload_n 3, 1), (83, .goto 7, 3), (86, .aload_n 1, 1), (87, .invokevirtual 40, 3), (90, .invokevirtual 52, 3)] = true := by decide +kernel
theorem dX33_code_60 : decode cX33_code 60 = .ok (.istore 4, 2) := zdec_at bX33_code_60 0 rfl
theorem dX33_code_62 : decode cX33_code 62 = .ok (.aload_n 0, 1) := zdec_at bX33_code_60 1 rfl
theorem dX33_code_63 : decode cX33_code 63 = .ok (.getfield 25, 3) := zdec_at bX33_code_60 2 rfl
theorem dX33_code_66 : decode cX33_code 66 = .ok (.aload_n 1, 1) := zdec_at bX33_code_60 3 rfl
theorem dX33_code_67 : decode cX33_code 67 = .ok (.invokevirtual 28, 3) := zdec_at bX33_code_60 4 rfl
theorem dX33_code_70 : decode cX33_code 70 = .ok (.aload_n 2, 1) := zdec_at bX33_code_60 5 rfl
theorem dX33_code_71 : decode cX33_code 71 = .ok (.getfield 48, 3) := zdec_at bX33_code_60 6 rfl
theorem dX33_code_74 : decode cX33_code 74 = .ok (.aload_n 1, 1) := zdec_at bX33_code_60 7 rfl
theorem dX33_code_75 : decode cX33_code 75 = .ok (.aload_n 0, 1) := zdec_at bX33_code_60 8 rfl
theorem dX33_code_76 : decode cX33_code 76 = .ok (.getfield 9, 3) := zdec_at bX33_code_60 9 rfl
theorem dX33_code_79 : decode cX33_code 79 = .ok (.ifCond .ne 7, 3) := zdec_at bX33_code_60 10 rfl
theorem dX33_code_82 : decode cX33_code 82 = .ok (.iload_n 3, 1) := zdec_at bX33_code_60 11 rfl
theorem dX33_code_83 : decode cX33_code 83 = .ok (.goto 7, 3) := zdec_at bX33_code_60 12 rfl
theorem dX33_code_86 : decode cX33_code 86 = .ok (.aload_n 1, 1) := zdec_at bX33_code_60 13 rfl
theorem dX33_code_87 : decode cX33_code 87 = .ok (.invokevirtual 40, 3) := zdec_at bX33_code_60 14 rfl
theorem dX33_code_90 : decode cX33_code 90 = .ok (.invokevirtual 52, 3) := zdec_at bX33_code_60 15 rfl
theorem bX33_code_93 : zdec cX33_code 93 [(93, .aload_n 0, 1), (94, .getfield 9, 3), (97, .iconst 1, 1), (98, .if_icmp .ne 21, 3), (101, .aload_n 0, 1), (102, .getfield 19, 3), (105, .aload_n 1, 1), (106, .invokevirtual 28, 3), (109, .aload_n 1, 1), (110, .bipush 22, 2), (112, .iconst 0, 1), (113, .iconst 0, 1), (114, .invokevirtual 44, 3), (117, .istore 4, 2), (119, .aload_n 0, 1), (120, .getfield 22, 3)] = true := by decide +kernel
theorem dX33_code_93 : decode cX33_code 93 = .ok (.aload_n 0, 1) := zdec_at bX33_code_93 0 rfl
theorem dX33_code_94 : decode cX33_code 94 = .ok (.getfield 9, 3) := zdec_at bX33_code_93 1 rfl
theorem dX33_code_97 : decode cX33_code 97 = .ok (.iconst 1, 1) := zdec_at bX33_code_93 2 rfl
theorem dX33_code_98 : decode cX33_code 98 = .ok (.if_icmp .ne 21, 3) := zdec_at bX33_code_93 3 rfl
theorem dX33_code_101 : decode cX33_code 101 = .ok (.aload_n 0, 1) := zdec_at bX33_code_93 4 rfl
theorem dX33_code_102 : decode cX33_code 102 = .ok (.getfield 19, 3) := zdec_at bX33_code_93 5 rfl
theorem dX33_code_105 : decode cX33_code 105 = .ok (.aload_n 1, 1) := zdec_at bX33_code_93 6 rfl
theorem dX33_code_106 : decode cX33_code 106 = .ok (.invokevirtual 28, 3) := zdec_at bX33_code_93 7 rfl
theorem dX33_code_109 : decode cX33_code 109 = .ok (.aload_n 1, 1) := zdec_at bX33_code_93 8 rfl
theorem dX33_code_110 : decode cX33_code 110 = .ok (.bipush 22, 2) := zdec_at bX33_code_93 9 rfl
theorem dX33_code_112 : decode cX33_code 112 = .ok (.iconst 0, 1) := zdec_at bX33_code_93 10 rfl
theorem dX33_code_113 : decode cX33_code 113 = .ok (.iconst 0, 1) := zdec_at bX33_code_93 11 rfl
theorem dX33_code_114 : decode cX33_code 114 = .ok (.invokevirtual 44, 3) := zdec_at bX33_code_93 12 rfl
theorem dX33_code_117 : decode cX33_code 117 = .ok (.istore 4, 2) := zdec_at bX33_code_93 13 rfl
theorem dX33_code_119 : decode cX33_code 119 = .ok (.aload_n 0, 1) := zdec_at bX33_code_93 14 rfl
theorem dX33_code_120 : decode cX33_code 120 = .ok (.getfield 22, 3) := zdec_at bX33_code_93 15 rfl
theorem bX33_code_123 : zdec cX33_code 123 [(123, .ifnull 11, 3), (126, .aload_n 0, 1), (127, .getfield 22, 3), (130, .aload_n 1, 1), (131, .invokevirtual 28, 3), (134, .aload_n 1, 1), (135, .bipush 21, 2), (137, .iload_n 3, 1), (138, .iconst 0, 1), (139, .invokevirtual 44, 3), (142, .pop, 1), (143, .aload_n 1, 1), (144, .iload 4, 2), (146, .invokevirtual 58, 3), (149, .aload_n 2, 1), (150, .getfield 62, 3)] = true := by decide +kernel
theorem dX33_code_123 : decode cX33_code 123 = .ok (.ifnull 11, 3) := zdec_at bX33_code_123 0 rfl
theorem dX33_code_126 : decode cX33_code 126 = .ok (.aload_n 0, 1) := zdec_at bX33_code_123 1 rfl
theorem dX33_code_127 : decode cX33_code 127 = .ok (.getfield 22, 3) := zdec_at bX33_code_123 2 rfl
theorem dX33_code_130 : decode cX33_code 130 = .ok (.aload_n 1, 1) := zdec_at bX33_code_123 3 rfl
theorem dX33_code_131 : decode cX33_code 131 = .ok (.invokevirtual 28, 3) := zdec_at bX33_code_123 4 rfl
theorem dX33_code_134 : decode cX33_code 134 = .ok (.aload_n 1, 1) := zdec_at bX33_code_123 5 rfl
theorem dX33_code_135 : decode cX33_code 135 = .ok (.bipush 21, 2) := zdec_at bX33_code_123 6 rfl
theorem dX33_code_137 : decode cX33_code 137 = .ok (.iload_n 3, 1) := zdec_at bX33_code_123 7 rfl
theorem dX33_code_138 : decode cX33_code 138 = .ok (.iconst 0, 1) := zdec_at bX33_code_123 8 rfl
theorem dX33_code_139 : decode cX33_code 139 = .ok (.invokevirtual 44, 3) := zdec_at bX33_code_123 9 rfl
theorem dX33_code_142 : decode cX33_code 142 = .ok (.pop, 1) := zdec_at bX33_code_123 10 rfl
theorem dX33_code_143 : decode cX33_code 143 = .ok (.aload_n 1, 1) := zdec_at bX33_code_123 11 rfl
theorem dX33_code_144 : decode cX33_code 144 = .ok (.iload 4, 2) := zdec_at bX33_code_123 12 rfl
theorem dX33_code_146 : decode cX33_code 146 = .ok (.invokevirtual 58, 3) := zdec_at bX33_code_123 13 rfl
theorem dX33_code_149 : decode cX33_code 149 = .ok (.aload_n 2, 1) := zdec_at bX33_code_123 14 rfl
theorem dX33_code_150 : decode cX33_code 150 = .ok (.getfield 62, 3) := zdec_at bX33_code_123 15 rfl
theorem bX33_code_153 : zdec cX33_code 153 [(153, .aload_n 1, 1), (154, .aload_n 1, 1), (155, .invokevirtual 40, 3), (158, .invokevirtual 52, 3), (161, .aload_n 1, 1), (162, .aload_n 2, 1), (163, .invokevirtual 65, 3), (166, .return_, 1)] = true := by decide +kernel
theorem dX33_code_153 : decode cX33_code 153 = .ok (.aload_n 1, 1) := zdec_at bX33_code_153 0 rfl
theorem dX33_code_154 : decode cX33_code 154 = .ok (.aload_n 1, 1) := zdec_at bX33_code_153 1 rfl
theorem dX33_code_155 : decode cX33_code 155 = .ok (.invokevirtual 40, 3) := zdec_at bX33_code_153 2 rfl
theorem dX33_code_158 : decode cX33_code 158 = .ok (.invokevirtual 52, 3) := zdec_at bX33_code_153 3 rfl
theorem dX33_code_161 : decode cX33_code 161 = .ok (.aload_n 1, 1) := zdec_at bX33_code_153 4 rfl
theorem dX33_code_162 : decode cX33_code 162 = .ok (.aload_n 2, 1) := zdec_at bX33_code_153 5 rfl
theorem dX33_code_163 : decode cX33_code 163 = .ok (.invokevirtual 65, 3) := zdec_at bX33_code_153 6 rfl
theorem dX33_code_166 : decode cX33_code 166 = .ok (.return_, 1) := zdec_at bX33_code_153 7 rfl
theorem sX33_code_0 {E : zE} {d : Nat} {Q : zO → zM → Prop} (M : zM) (a0 : Nat) (r1 : Option zP) (k : if (gr M a0 1) = none then (Z E YX33_code (d + 1) M [(0, vr (some (a0, 38, 0))), (1, vr r1)] 15 [] Q) else (∃ b1 t1 : Nat, (gr M a0 1) = some (b1, t1, 0) ∧ (∃ Y_ : zY, vt_code t1 = some Y_ ∧ Z E Y_ d M (zargs 0 [vr (some (b1, t1, 0)), vr r1]) 0 [] (zafter E YX33_code (d + 1) [(0, vr (some (a0, 38, 0))), (1, vr r1)] 12 3 [] Q)))) : Z E YX33_code (d + 1) M [(0, vr (some (a0, 38, 0))), (1, vr r1)] 0 [] Q := by
  refine z_aload_n dX33_code_0 rfl rfl ?_
  refine z_getr (r := (gr M a0 1)) dX33_code_1 fsX33_15_38 rfl ?_
  refine z_ifnull (tgt := 15) dX33_code_4 rfl (fun h_ => ?_) (fun h_ => ?_)
  · have k := zit h_ k
    exact k
  · have k := zif h_ k
    refine z_aload_n dX33_code_7 rfl rfl ?_
    refine z_getr (r := (gr M a0 1)) dX33_code_8 fsX33_15_38 rfl ?_
    refine z_aload_n dX33_code_11 rfl rfl ?_
    obtain ⟨b1, t1, e1_, k⟩ := k
    refine Z.eqs (lv' := [(0, vr (some (a0, 38, 0))), (1, vr r1)]) (st' := [vr r1, vr (some (b1, t1, 0))]) rfl (by rw [e1_] <;> rfl) ?_
    obtain ⟨Y_, y_, k⟩ := k
    exact z_callV (as := [vr r1]) (st := []) dX33_code_12 (vtX33_28 y_).1 (Nat.le_refl _) (Nat.le_trans (Nat.le_of_ble_eq_true rfl) (vtX33_28 y_).2.1) (Nat.le_trans (Nat.add_le_add_left (vtX33_28 y_).2.2 _) (Nat.le_of_ble_eq_true rfl)) rfl k
theorem sX33_code_15 {E : zE} {d : Nat} {Q : zO → zM → Prop} (M : zM) (a0 : Nat) (r1 : Option zP) (k : ∃ b1 : Nat, r1 = some (b1, 3, 0) ∧ (Z E YX3_enter d M (zargs 0 [vr (some (b1, 3, 0)), vi (0 : Int32)]) 0 [] (zafter E YX33_code (d + 1) [(0, vr (some (a0, 38, 0))), (1, vr (some (b1, 3, 0)))] 17 3 [] Q))) : Z E YX33_code (d + 1) M [(0, vr (some (a0, 38, 0))), (1, vr r1)] 15 [] Q := by
  refine z_aload_n dX33_code_15 rfl rfl ?_
  refine z_iconst (v := 0) dX33_code_16 rfl ?_
  obtain ⟨b1, e1_, k⟩ := k
  refine Z.eqs (lv' := [(0, vr (some (a0, 38, 0))), (1, vr (some (b1, 3, 0)))]) (st' := [vi (0 : Int32), vr (some (b1, 3, 0))]) (by rw [e1_] <;> rfl) (by rw [e1_] <;> rfl) ?_
  exact z_callV (as := [vi (0 : Int32)]) (st := []) dX33_code_17 vsX33_34_3 (Nat.le_refl _) (Nat.le_of_ble_eq_true rfl) (Nat.le_of_ble_eq_true rfl) rfl k
theorem sX33_code_20 {E : zE} {d : Nat} {Q : zO → zM → Prop} (M : zM) (a0 : Nat) (a1 : Nat) (u0 : Option zP) (k : Z E YX3_place d M (zargs 0 [vr (some (a1, 3, 0))]) 0 [] (zafter E YX33_code (d + 1) [(0, vr (some (a0, 38, 0))), (1, vr (some (a1, 3, 0))), (2, vr u0)] 22 3 [] Q)) : Z E YX33_code (d + 1) M [(0, vr (some (a0, 38, 0))), (1, vr (some (a1, 3, 0)))] 20 [vr u0] Q := by
  refine z_ast_n dX33_code_20 rfl (by decide) (lv' := [(0, vr (some (a0, 38, 0))), (1, vr (some (a1, 3, 0))), (2, vr u0)]) rfl ?_
  refine z_aload_n dX33_code_21 rfl rfl ?_
  exact z_callV (as := []) (st := []) dX33_code_22 vsX33_40_3 (Nat.le_refl _) (Nat.le_of_ble_eq_true rfl) (Nat.le_of_ble_eq_true rfl) rfl k
theorem sX33_code_25 {E : zE} {d : Nat} {Q : zO → zM → Prop} (M : zM) (a0 : Nat) (a1 : Nat) (r2 : Option zP) (s0 : Int32) (k : if (gi M a0 0) = (1 : Int32) then (∃ b1 t1 : Nat, (gr M a0 4) = some (b1, t1, 0) ∧ (∃ Y_ : zY, vt_code t1 = some Y_ ∧ Z E Y_ d M (zargs 0 [vr (some (b1, t1, 0)), vr (some (a1, 3, 0))]) 0 [] (zafter E YX33_code (d + 1) [(0, vr (some (a0, 38, 0))), (1, vr (some (a1, 3, 0))), (2, vr r2), (3, vi s0), (4, vi (-1 : Int32))] 67 3 [] Q))) else (if (gr M a0 2) = none then (∃ b1 t1 : Nat, (gr M a0 4) = some (b1, t1, 0) ∧ (∃ Y_ : zY, vt_code t1 = some Y_ ∧ Z E Y_ d M (zargs 0 [vr (some (b1, t1, 0)), vr (some (a1, 3, 0))]) 0 [] (zafter E YX33_code (d + 1) [(0, vr (some (a0, 38, 0))), (1, vr (some (a1, 3, 0))), (2, vr r2), (3, vi s0), (4, vi (-1 : Int32))] 67 3 [] Q))) else (∃ b1 t1 : Nat, (gr M a0 2) = some (b1, t1, 0) ∧ (∃ Y_ : zY, vt_code t1 = some Y_ ∧ Z E Y_ d M (zargs 0 [vr (some (b1, t1, 0)), vr (some (a1, 3, 0))]) 0 [] (zafter E YX33_code (d + 1) [(0, vr (some (a0, 38, 0))), (1, vr (some (a1, 3, 0))), (2, vr r2), (3, vi s0)] 49 3 [] Q))))) : Z E YX33_code (d + 1) M [(0, vr (some (a0, 38, 0))), (1, vr (some (a1, 3, 0))), (2, vr r2)] 25 [vi s0] Q := by
  refine z_ist_n dX33_code_25 rfl (by decide) (lv' := [(0, vr (some (a0, 38, 0))), (1, vr (some (a1, 3, 0))), (2, vr r2), (3, vi s0)]) rfl ?_
  refine z_iconst (v := -1) dX33_code_26 rfl ?_
  refine z_ist dX33_code_27 (by decide) (lv' := [(0, vr (some (a0, 38, 0))), (1, vr (some (a1, 3, 0))), (2, vr r2), (3, vi s0), (4, vi (-1 : Int32))]) rfl ?_
  refine z_aload_n dX33_code_29 rfl rfl ?_
  refine z_geti dX33_code_30 fsX33_9_38 ?_
  refine z_iconst (v := 1) dX33_code_33 rfl ?_
  refine z_icmp_eq (tgt := 62) dX33_code_34 rfl (fun h_ => ?_) (fun h_ => ?_)
  · have k := zit h_ k
    refine z_aload_n dX33_code_62 rfl rfl ?_
    refine z_getr (r := (gr M a0 4)) dX33_code_63 fsX33_25_38 rfl ?_
    refine z_aload_n dX33_code_66 rfl rfl ?_
    obtain ⟨b1, t1, e1_, k⟩ := k
    refine Z.eqs (lv' := [(0, vr (some (a0, 38, 0))), (1, vr (some (a1, 3, 0))), (2, vr r2), (3, vi s0), (4, vi (-1 : Int32))]) (st' := [vr (some (a1, 3, 0)), vr (some (b1, t1, 0))]) rfl (by rw [e1_] <;> rfl) ?_
    obtain ⟨Y_, y_, k⟩ := k
    exact z_callV (as := [vr (some (a1, 3, 0))]) (st := []) dX33_code_67 (vtX33_28 y_).1 (Nat.le_refl _) (Nat.le_trans (Nat.le_of_ble_eq_true rfl) (vtX33_28 y_).2.1) (Nat.le_trans (Nat.add_le_add_left (vtX33_28 y_).2.2 _) (Nat.le_of_ble_eq_true rfl)) rfl k
  · have k := zif h_ k
    refine z_aload_n dX33_code_37 rfl rfl ?_
    refine z_getr (r := (gr M a0 2)) dX33_code_38 fsX33_19_38 rfl ?_
    refine z_ifnull (tgt := 62) dX33_code_41 rfl (fun h_ => ?_) (fun h_ => ?_)
    · have k := zit h_ k
      refine z_aload_n dX33_code_62 rfl rfl ?_
      refine z_getr (r := (gr M a0 4)) dX33_code_63 fsX33_25_38 rfl ?_
      refine z_aload_n dX33_code_66 rfl rfl ?_
      obtain ⟨b1, t1, e1_, k⟩ := k
      refine Z.eqs (lv' := [(0, vr (some (a0, 38, 0))), (1, vr (some (a1, 3, 0))), (2, vr r2), (3, vi s0), (4, vi (-1 : Int32))]) (st' := [vr (some (a1, 3, 0)), vr (some (b1, t1, 0))]) rfl (by rw [e1_] <;> rfl) ?_
      obtain ⟨Y_, y_, k⟩ := k
      exact z_callV (as := [vr (some (a1, 3, 0))]) (st := []) dX33_code_67 (vtX33_28 y_).1 (Nat.le_refl _) (Nat.le_trans (Nat.le_of_ble_eq_true rfl) (vtX33_28 y_).2.1) (Nat.le_trans (Nat.add_le_add_left (vtX33_28 y_).2.2 _) (Nat.le_of_ble_eq_true rfl)) rfl k
    · have k := zif h_ k
      refine z_aload_n dX33_code_44 rfl rfl ?_
      refine z_getr (r := (gr M a0 2)) dX33_code_45 fsX33_19_38 rfl ?_
      refine z_aload_n dX33_code_48 rfl rfl ?_
      obtain ⟨b1, t1, e1_, k⟩ := k
      refine Z.eqs (lv' := [(0, vr (some (a0, 38, 0))), (1, vr (some (a1, 3, 0))), (2, vr r2), (3, vi s0), (4, vi (-1 : Int32))]) (st' := [vr (some (a1, 3, 0)), vr (some (b1, t1, 0))]) rfl (by rw [e1_] <;> rfl) ?_
      refine Z.pick [0, 1, 2, 3] rfl ?_
      obtain ⟨Y_, y_, k⟩ := k
      exact z_callV (as := [vr (some (a1, 3, 0))]) (st := []) dX33_code_49 (vtX33_28 y_).1 (Nat.le_refl _) (Nat.le_trans (Nat.le_of_ble_eq_true rfl) (vtX33_28 y_).2.1) (Nat.le_trans (Nat.add_le_add_left (vtX33_28 y_).2.2 _) (Nat.le_of_ble_eq_true rfl)) rfl k
theorem sX33_code_52 {E : zE} {d : Nat} {Q : zO → zM → Prop} (M : zM) (a0 : Nat) (a1 : Nat) (r2 : Option zP) (l3 : Int32) (k : Z E YX3_put d M (zargs 0 [vr (some (a1, 3, 0)), vi (22 : Int32), vi (0 : Int32), vi (0 : Int32)]) 0 [] (zafter E YX33_code (d + 1) [(0, vr (some (a0, 38, 0))), (1, vr (some (a1, 3, 0))), (2, vr r2), (3, vi l3)] 57 3 [] Q)) : Z E YX33_code (d + 1) M [(0, vr (some (a0, 38, 0))), (1, vr (some (a1, 3, 0))), (2, vr r2), (3, vi l3)] 52 [] Q := by
  refine z_aload_n dX33_code_52 rfl rfl ?_
  refine z_bipush (v := 22) dX33_code_53 rfl ?_
  refine z_iconst (v := 0) dX33_code_55 rfl ?_
  refine z_iconst (v := 0) dX33_code_56 rfl ?_
  exact z_callV (as := [vi (22 : Int32), vi (0 : Int32), vi (0 : Int32)]) (st := []) dX33_code_57 vsX33_44_3 (Nat.le_refl _) (Nat.le_of_ble_eq_true rfl) (Nat.le_of_ble_eq_true rfl) rfl k
theorem sX33_code_60 {E : zE} {d : Nat} {Q : zO → zM → Prop} (M : zM) (a0 : Nat) (a1 : Nat) (r2 : Option zP) (l3 : Int32) (s0 : Int32) (k : ∃ b1 t1 : Nat, (gr M a0 4) = some (b1, t1, 0) ∧ (∃ Y_ : zY, vt_code t1 = some Y_ ∧ Z E Y_ d M (zargs 0 [vr (some (b1, t1, 0)), vr (some (a1, 3, 0))]) 0 [] (zafter E YX33_code (d + 1) [(0, vr (some (a0, 38, 0))), (1, vr (some (a1, 3, 0))), (2, vr r2), (3, vi l3), (4, vi s0)] 67 3 [] Q))) : Z E YX33_code (d + 1) M [(0, vr (some (a0, 38, 0))), (1, vr (some (a1, 3, 0))), (2, vr r2), (3, vi l3)] 60 [vi s0] Q := by
  refine z_ist dX33_code_60 (by decide) (lv' := [(0, vr (some (a0, 38, 0))), (1, vr (some (a1, 3, 0))), (2, vr r2), (3, vi l3), (4, vi s0)]) rfl ?_
  refine z_aload_n dX33_code_62 rfl rfl ?_
  refine z_getr (r := (gr M a0 4)) dX33_code_63 fsX33_25_38 rfl ?_
  refine z_aload_n dX33_code_66 rfl rfl ?_
  obtain ⟨b1, t1, e1_, k⟩ := k
  refine Z.eqs (lv' := [(0, vr (some (a0, 38, 0))), (1, vr (some (a1, 3, 0))), (2, vr r2), (3, vi l3), (4, vi s0)]) (st' := [vr (some (a1, 3, 0)), vr (some (b1, t1, 0))]) rfl (by rw [e1_] <;> rfl) ?_
  obtain ⟨Y_, y_, k⟩ := k
  exact z_callV (as := [vr (some (a1, 3, 0))]) (st := []) dX33_code_67 (vtX33_28 y_).1 (Nat.le_refl _) (Nat.le_trans (Nat.le_of_ble_eq_true rfl) (vtX33_28 y_).2.1) (Nat.le_trans (Nat.add_le_add_left (vtX33_28 y_).2.2 _) (Nat.le_of_ble_eq_true rfl)) rfl k
theorem sX33_code_70 {E : zE} {d : Nat} {Q : zO → zM → Prop} (M : zM) (a0 : Nat) (a1 : Nat) (r2 : Option zP) (l3 : Int32) (l4 : Int32) (k : ∃ b1 : Nat, r2 = some (b1, 17, 0) ∧ (if (gi M a0 0) = 0 then (Z E YX33_code (d + 1) M [(0, vr (some (a0, 38, 0))), (1, vr (some (a1, 3, 0))), (2, vr (some (b1, 17, 0))), (3, vi l3), (4, vi l4)] 90 [vi l3, vr (some (a1, 3, 0)), vr (gr M b1 2)] Q) else (Z E YX3_place d M (zargs 0 [vr (some (a1, 3, 0))]) 0 [] (zafter E YX33_code (d + 1) [(0, vr (some (a0, 38, 0))), (1, vr (some (a1, 3, 0))), (2, vr (some (b1, 17, 0))), (3, vi l3), (4, vi l4)] 87 3 [vr (some (a1, 3, 0)), vr (gr M b1 2)] Q)))) : Z E YX33_code (d + 1) M [(0, vr (some (a0, 38, 0))), (1, vr (some (a1, 3, 0))), (2, vr r2), (3, vi l3), (4, vi l4)] 70 [] Q := by
  refine z_aload_n dX33_code_70 rfl rfl ?_
  obtain ⟨b1, e1_, k⟩ := k
  refine Z.eqs (lv' := [(0, vr (some (a0, 38, 0))), (1, vr (some (a1, 3, 0))), (2, vr (some (b1, 17, 0))), (3, vi l3), (4, vi l4)]) (st' := [vr (some (b1, 17, 0))]) (by rw [e1_] <;> rfl) (by rw [e1_] <;> rfl) ?_
  refine z_getr (r := (gr M b1 2)) dX33_code_71 fsX33_48_17 rfl ?_
  refine z_aload_n dX33_code_74 rfl rfl ?_
  refine z_aload_n dX33_code_75 rfl rfl ?_
  refine z_geti dX33_code_76 fsX33_9_38 ?_
  refine z_if_ne (tgt := 86) dX33_code_79 rfl (fun h_ => ?_) (fun h_ => ?_)
  · have k := zif h_ k
    refine z_aload_n dX33_code_86 rfl rfl ?_
    exact z_callV (as := []) (st := [vr (some (a1, 3, 0)), vr (gr M b1 2)]) dX33_code_87 vsX33_40_3 (Nat.le_refl _) (Nat.le_of_ble_eq_true rfl) (Nat.le_of_ble_eq_true rfl) rfl k
  · have k := zit h_ k
    refine z_iload_n dX33_code_82 rfl rfl ?_
    refine z_goto (tgt := 90) dX33_code_83 rfl ?_
    exact k
theorem sX33_code_90 {E : zE} {d : Nat} {Q : zO → zM → Prop} (M : zM) (a0 : Nat) (a1 : Nat) (a2 : Nat) (l3 : Int32) (l4 : Int32) (s0 : Int32) (p1 : Nat) (u2 : Option zP) (k : ∃ b1 : Nat, u2 = some (b1, 18, 0) ∧ (Z E YX41_goAll d M (zargs 0 [vr (some (b1, 18, 0)), vr (some (p1, 3, 0)), vi s0]) 0 [] (zafter E YX33_code (d + 1) [(0, vr (some (a0, 38, 0))), (1, vr (some (a1, 3, 0))), (2, vr (some (a2, 17, 0))), (3, vi l3), (4, vi l4)] 90 3 [] Q))) : Z E YX33_code (d + 1) M [(0, vr (some (a0, 38, 0))), (1, vr (some (a1, 3, 0))), (2, vr (some (a2, 17, 0))), (3, vi l3), (4, vi l4)] 90 [vi s0, vr (some (p1, 3, 0)), vr u2] Q := by
  obtain ⟨b1, e1_, k⟩ := k
  refine Z.eqs (lv' := [(0, vr (some (a0, 38, 0))), (1, vr (some (a1, 3, 0))), (2, vr (some (a2, 17, 0))), (3, vi l3), (4, vi l4)]) (st' := [vi s0, vr (some (p1, 3, 0)), vr (some (b1, 18, 0))]) rfl (by rw [e1_] <;> rfl) ?_
  exact z_callV (as := [vr (some (p1, 3, 0)), vi s0]) (st := []) dX33_code_90 vsX33_52_18 (Nat.le_refl _) (Nat.le_of_ble_eq_true rfl) (Nat.le_of_ble_eq_true rfl) rfl k
theorem sX33_code_93 {E : zE} {d : Nat} {Q : zO → zM → Prop} (M : zM) (a0 : Nat) (a1 : Nat) (a2 : Nat) (l3 : Int32) (l4 : Int32) (k : if (gi M a0 0) = (1 : Int32) then (∃ b1 t1 : Nat, (gr M a0 2) = some (b1, t1, 0) ∧ (∃ Y_ : zY, vt_code t1 = some Y_ ∧ Z E Y_ d M (zargs 0 [vr (some (b1, t1, 0)), vr (some (a1, 3, 0))]) 0 [] (zafter E YX33_code (d + 1) [(0, vr (some (a0, 38, 0))), (1, vr (some (a1, 3, 0))), (2, vr (some (a2, 17, 0))), (3, vi l3)] 106 3 [] Q))) else (if (gr M a0 3) = none then (Z E YX33_code (d + 1) M [(1, vr (some (a1, 3, 0))), (2, vr (some (a2, 17, 0))), (3, vi l3), (4, vi l4)] 134 [] Q) else (∃ b1 t1 : Nat, (gr M a0 3) = some (b1, t1, 0) ∧ (∃ Y_ : zY, vt_code t1 = some Y_ ∧ Z E Y_ d M (zargs 0 [vr (some (b1, t1, 0)), vr (some (a1, 3, 0))]) 0 [] (zafter E YX33_code (d + 1) [(1, vr (some (a1, 3, 0))), (2, vr (some (a2, 17, 0))), (3, vi l3), (4, vi l4)] 131 3 [] Q))))) : Z E YX33_code (d + 1) M [(0, vr (some (a0, 38, 0))), (1, vr (some (a1, 3, 0))), (2, vr (some (a2, 17, 0))), (3, vi l3), (4, vi l4)] 93 [] Q := by
  refine z_aload_n dX33_code_93 rfl rfl ?_
  refine z_geti dX33_code_94 fsX33_9_38 ?_
  refine z_iconst (v := 1) dX33_code_97 rfl ?_
  refine z_icmp_ne (tgt := 119) dX33_code_98 rfl (fun h_ => ?_) (fun h_ => ?_)
  · have k := zif h_ k
    refine z_aload_n dX33_code_119 rfl rfl ?_
    refine z_getr (r := (gr M a0 3)) dX33_code_120 fsX33_22_38 rfl ?_
    refine z_ifnull (tgt := 134) dX33_code_123 rfl (fun h_ => ?_) (fun h_ => ?_)
    · have k := zit h_ k
      refine Z.pick [1, 2, 3, 4] rfl ?_
      exact k
    · have k := zif h_ k
      refine z_aload_n dX33_code_126 rfl rfl ?_
      refine z_getr (r := (gr M a0 3)) dX33_code_127 fsX33_22_38 rfl ?_
      refine z_aload_n dX33_code_130 rfl rfl ?_
      obtain ⟨b1, t1, e1_, k⟩ := k
      refine Z.eqs (lv' := [(0, vr (some (a0, 38, 0))), (1, vr (some (a1, 3, 0))), (2, vr (some (a2, 17, 0))), (3, vi l3), (4, vi l4)]) (st' := [vr (some (a1, 3, 0)), vr (some (b1, t1, 0))]) rfl (by rw [e1_] <;> rfl) ?_
      refine Z.pick [1, 2, 3, 4] rfl ?_
      obtain ⟨Y_, y_, k⟩ := k
      exact z_callV (as := [vr (some (a1, 3, 0))]) (st := []) dX33_code_131 (vtX33_28 y_).1 (Nat.le_refl _) (Nat.le_trans (Nat.le_of_ble_eq_true rfl) (vtX33_28 y_).2.1) (Nat.le_trans (Nat.add_le_add_left (vtX33_28 y_).2.2 _) (Nat.le_of_ble_eq_true rfl)) rfl k
  · have k := zit h_ k
    refine z_aload_n dX33_code_101 rfl rfl ?_
    refine z_getr (r := (gr M a0 2)) dX33_code_102 fsX33_19_38 rfl ?_
    refine z_aload_n dX33_code_105 rfl rfl ?_
    obtain ⟨b1, t1, e1_, k⟩ := k
    refine Z.eqs (lv' := [(0, vr (some (a0, 38, 0))), (1, vr (some (a1, 3, 0))), (2, vr (some (a2, 17, 0))), (3, vi l3), (4, vi l4)]) (st' := [vr (some (a1, 3, 0)), vr (some (b1, t1, 0))]) rfl (by rw [e1_] <;> rfl) ?_
    refine Z.pick [0, 1, 2, 3] rfl ?_
    obtain ⟨Y_, y_, k⟩ := k
    exact z_callV (as := [vr (some (a1, 3, 0))]) (st := []) dX33_code_106 (vtX33_28 y_).1 (Nat.le_refl _) (Nat.le_trans (Nat.le_of_ble_eq_true rfl) (vtX33_28 y_).2.1) (Nat.le_trans (Nat.add_le_add_left (vtX33_28 y_).2.2 _) (Nat.le_of_ble_eq_true rfl)) rfl k
theorem sX33_code_109 {E : zE} {d : Nat} {Q : zO → zM → Prop} (M : zM) (a0 : Nat) (a1 : Nat) (a2 : Nat) (l3 : Int32) (k : Z E YX3_put d M (zargs 0 [vr (some (a1, 3, 0)), vi (22 : Int32), vi (0 : Int32), vi (0 : Int32)]) 0 [] (zafter E YX33_code (d + 1) [(0, vr (some (a0, 38, 0))), (1, vr (some (a1, 3, 0))), (2, vr (some (a2, 17, 0))), (3, vi l3)] 114 3 [] Q)) : Z E YX33_code (d + 1) M [(0, vr (some (a0, 38, 0))), (1, vr (some (a1, 3, 0))), (2, vr (some (a2, 17, 0))), (3, vi l3)] 109 [] Q := by
  refine z_aload_n dX33_code_109 rfl rfl ?_
  refine z_bipush (v := 22) dX33_code_110 rfl ?_
  refine z_iconst (v := 0) dX33_code_112 rfl ?_
  refine z_iconst (v := 0) dX33_code_113 rfl ?_
  exact z_callV (as := [vi (22 : Int32), vi (0 : Int32), vi (0 : Int32)]) (st := []) dX33_code_114 vsX33_44_3 (Nat.le_refl _) (Nat.le_of_ble_eq_true rfl) (Nat.le_of_ble_eq_true rfl) rfl k
theorem sX33_code_117 {E : zE} {d : Nat} {Q : zO → zM → Prop} (M : zM) (a0 : Nat) (a1 : Nat) (a2 : Nat) (l3 : Int32) (s0 : Int32) (k : if (gr M a0 3) = none then (Z E YX33_code (d + 1) M [(1, vr (some (a1, 3, 0))), (2, vr (some (a2, 17, 0))), (3, vi l3), (4, vi s0)] 134 [] Q) else (∃ b1 t1 : Nat, (gr M a0 3) = some (b1, t1, 0) ∧ (∃ Y_ : zY, vt_code t1 = some Y_ ∧ Z E Y_ d M (zargs 0 [vr (some (b1, t1, 0)), vr (some (a1, 3, 0))]) 0 [] (zafter E YX33_code (d + 1) [(1, vr (some (a1, 3, 0))), (2, vr (some (a2, 17, 0))), (3, vi l3), (4, vi s0)] 131 3 [] Q)))) : Z E YX33_code (d + 1) M [(0, vr (some (a0, 38, 0))), (1, vr (some (a1, 3, 0))), (2, vr (some (a2, 17, 0))), (3, vi l3)] 117 [vi s0] Q := by
  refine z_ist dX33_code_117 (by decide) (lv' := [(0, vr (some (a0, 38, 0))), (1, vr (some (a1, 3, 0))), (2, vr (some (a2, 17, 0))), (3, vi l3), (4, vi s0)]) rfl ?_
  refine z_aload_n dX33_code_119 rfl rfl ?_
  refine z_getr (r := (gr M a0 3)) dX33_code_120 fsX33_22_38 rfl ?_
  refine z_ifnull (tgt := 134) dX33_code_123 rfl (fun h_ => ?_) (fun h_ => ?_)
  · have k := zit h_ k
    refine Z.pick [1, 2, 3, 4] rfl ?_
    exact k
  · have k := zif h_ k
    refine z_aload_n dX33_code_126 rfl rfl ?_
    refine z_getr (r := (gr M a0 3)) dX33_code_127 fsX33_22_38 rfl ?_
    refine z_aload_n dX33_code_130 rfl rfl ?_
    obtain ⟨b1, t1, e1_, k⟩ := k
    refine Z.eqs (lv' := [(0, vr (some (a0, 38, 0))), (1, vr (some (a1, 3, 0))), (2, vr (some (a2, 17, 0))), (3, vi l3), (4, vi s0)]) (st' := [vr (some (a1, 3, 0)), vr (some (b1, t1, 0))]) rfl (by rw [e1_] <;> rfl) ?_
    refine Z.pick [1, 2, 3, 4] rfl ?_
    obtain ⟨Y_, y_, k⟩ := k
    exact z_callV (as := [vr (some (a1, 3, 0))]) (st := []) dX33_code_131 (vtX33_28 y_).1 (Nat.le_refl _) (Nat.le_trans (Nat.le_of_ble_eq_true rfl) (vtX33_28 y_).2.1) (Nat.le_trans (Nat.add_le_add_left (vtX33_28 y_).2.2 _) (Nat.le_of_ble_eq_true rfl)) rfl k
theorem sX33_code_134 {E : zE} {d : Nat} {Q : zO → zM → Prop} (M : zM) (a1 : Nat) (a2 : Nat) (l3 : Int32) (l4 : Int32) (k : Z E YX3_put d M (zargs 0 [vr (some (a1, 3, 0)), vi (21 : Int32), vi l3, vi (0 : Int32)]) 0 [] (zafter E YX33_code (d + 1) [(1, vr (some (a1, 3, 0))), (2, vr (some (a2, 17, 0))), (4, vi l4)] 139 3 [] Q)) : Z E YX33_code (d + 1) M [(1, vr (some (a1, 3, 0))), (2, vr (some (a2, 17, 0))), (3, vi l3), (4, vi l4)] 134 [] Q := by
  refine z_aload_n dX33_code_134 rfl rfl ?_
  refine z_bipush (v := 21) dX33_code_135 rfl ?_
  refine z_iload_n dX33_code_137 rfl rfl ?_
  refine z_iconst (v := 0) dX33_code_138 rfl ?_
  refine Z.pick [0, 1, 3] rfl ?_
  exact z_callV (as := [vi (21 : Int32), vi l3, vi (0 : Int32)]) (st := []) dX33_code_139 vsX33_44_3 (Nat.le_refl _) (Nat.le_of_ble_eq_true rfl) (Nat.le_of_ble_eq_true rfl) rfl k
theorem sX33_code_142 {E : zE} {d : Nat} {Q : zO → zM → Prop} (M : zM) (a1 : Nat) (a2 : Nat) (l4 : Int32) (s0 : Int32) (k : Z E YX3_goal d M (zargs 0 [vr (some (a1, 3, 0)), vi l4]) 0 [] (zafter E YX33_code (d + 1) [(1, vr (some (a1, 3, 0))), (2, vr (some (a2, 17, 0)))] 146 3 [] Q)) : Z E YX33_code (d + 1) M [(1, vr (some (a1, 3, 0))), (2, vr (some (a2, 17, 0))), (4, vi l4)] 142 [vi s0] Q := by
  refine z_pop dX33_code_142 rfl ?_
  refine z_aload_n dX33_code_143 rfl rfl ?_
  refine z_iload dX33_code_144 rfl ?_
  refine Z.pick [0, 1] rfl ?_
  exact z_callV (as := [vi l4]) (st := []) dX33_code_146 vsX33_58_3 (Nat.le_refl _) (Nat.le_of_ble_eq_true rfl) (Nat.le_of_ble_eq_true rfl) rfl k
theorem sX33_code_149 {E : zE} {d : Nat} {Q : zO → zM → Prop} (M : zM) (a1 : Nat) (a2 : Nat) (k : Z E YX3_place d M (zargs 0 [vr (some (a1, 3, 0))]) 0 [] (zafter E YX33_code (d + 1) [(1, vr (some (a1, 3, 0))), (2, vr (some (a2, 17, 0)))] 155 3 [vr (some (a1, 3, 0)), vr (gr M a2 1)] Q)) : Z E YX33_code (d + 1) M [(1, vr (some (a1, 3, 0))), (2, vr (some (a2, 17, 0)))] 149 [] Q := by
  refine z_aload_n dX33_code_149 rfl rfl ?_
  refine z_getr (r := (gr M a2 1)) dX33_code_150 fsX33_62_17 rfl ?_
  refine z_aload_n dX33_code_153 rfl rfl ?_
  refine z_aload_n dX33_code_154 rfl rfl ?_
  exact z_callV (as := []) (st := [vr (some (a1, 3, 0)), vr (gr M a2 1)]) dX33_code_155 vsX33_40_3 (Nat.le_refl _) (Nat.le_of_ble_eq_true rfl) (Nat.le_of_ble_eq_true rfl) rfl k
theorem sX33_code_158 {E : zE} {d : Nat} {Q : zO → zM → Prop} (M : zM) (a1 : Nat) (a2 : Nat) (s0 : Int32) (p1 : Nat) (u2 : Option zP) (k : ∃ b1 : Nat, u2 = some (b1, 18, 0) ∧ (Z E YX41_goAll d M (zargs 0 [vr (some (b1, 18, 0)), vr (some (p1, 3, 0)), vi s0]) 0 [] (zafter E YX33_code (d + 1) [(1, vr (some (a1, 3, 0))), (2, vr (some (a2, 17, 0)))] 158 3 [] Q))) : Z E YX33_code (d + 1) M [(1, vr (some (a1, 3, 0))), (2, vr (some (a2, 17, 0)))] 158 [vi s0, vr (some (p1, 3, 0)), vr u2] Q := by
  obtain ⟨b1, e1_, k⟩ := k
  refine Z.eqs (lv' := [(1, vr (some (a1, 3, 0))), (2, vr (some (a2, 17, 0)))]) (st' := [vi s0, vr (some (p1, 3, 0)), vr (some (b1, 18, 0))]) rfl (by rw [e1_] <;> rfl) ?_
  exact z_callV (as := [vr (some (p1, 3, 0)), vi s0]) (st := []) dX33_code_158 vsX33_52_18 (Nat.le_refl _) (Nat.le_of_ble_eq_true rfl) (Nat.le_of_ble_eq_true rfl) rfl k
theorem sX33_code_161 {E : zE} {d : Nat} {Q : zO → zM → Prop} (M : zM) (a1 : Nat) (a2 : Nat) (k : Z E YX3_leave d M (zargs 0 [vr (some (a1, 3, 0)), vr (some (a2, 17, 0))]) 0 [] (zafter E YX33_code (d + 1) [] 163 3 [] Q)) : Z E YX33_code (d + 1) M [(1, vr (some (a1, 3, 0))), (2, vr (some (a2, 17, 0)))] 161 [] Q := by
  refine z_aload_n dX33_code_161 rfl rfl ?_
  refine z_aload_n dX33_code_162 rfl rfl ?_
  refine Z.pick [] rfl ?_
  exact z_callV (as := [vr (some (a2, 17, 0))]) (st := []) dX33_code_163 vsX33_65_3 (Nat.le_refl _) (Nat.le_of_ble_eq_true rfl) (Nat.le_of_ble_eq_true rfl) rfl k
theorem sX33_code_166 {E : zE} {d : Nat} {Q : zO → zM → Prop} (M : zM)  (k : Q (.inl none) M) : Z E YX33_code (d + 1) M [] 166 [] Q := by
  exact z_vret dX33_code_166 rfl k
