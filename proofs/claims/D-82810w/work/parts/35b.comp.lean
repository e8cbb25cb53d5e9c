/-! ScriptTypes$Each.<init>(ILScriptTypes$Node;LScriptTypes$Node;)V -/
theorem bX34_init_0 : zdec cX34_init 0 [(0, .aload_n 0, 1), (1, .invokespecial 3, 3), (4, .aload_n 0, 1), (5, .iload_n 1, 1), (6, .putfield 9, 3), (9, .aload_n 0, 1), (10, .aload_n 2, 1), (11, .putfield 15, 3), (14, .aload_n 0, 1), (15, .aload_n 3, 1), (16, .putfield 19, 3), (19, .return_, 1)] = true := by decide +kernel
theorem dX34_init_0 : decode cX34_init 0 = .ok (.aload_n 0, 1) := zdec_at bX34_init_0 0 rfl
theorem dX34_init_1 : decode cX34_init 1 = .ok (.invokespecial 3, 3) := zdec_at bX34_init_0 1 rfl
theorem dX34_init_4 : decode cX34_init 4 = .ok (.aload_n 0, 1) := zdec_at bX34_init_0 2 rfl
theorem dX34_init_5 : decode cX34_init 5 = .ok (.iload_n 1, 1) := zdec_at bX34_init_0 3 rfl
theorem dX34_init_6 : decode cX34_init 6 = .ok (.putfield 9, 3) := zdec_at bX34_init_0 4 rfl
theorem dX34_init_9 : decode cX34_init 9 = .ok (.aload_n 0, 1) := zdec_at bX34_init_0 5 rfl
theorem dX34_init_10 : decode cX34_init 10 = .ok (.aload_n 2, 1) := zdec_at bX34_init_0 6 rfl
theorem dX34_init_11 : decode cX34_init 11 = .ok (.putfield 15, 3) := zdec_at bX34_init_0 7 rfl
theorem dX34_init_14 : decode cX34_init 14 = .ok (.aload_n 0, 1) := zdec_at bX34_init_0 8 rfl
theorem dX34_init_15 : decode cX34_init 15 = .ok (.aload_n 3, 1) := zdec_at bX34_init_0 9 rfl
theorem dX34_init_16 : decode cX34_init 16 = .ok (.putfield 19, 3) := zdec_at bX34_init_0 10 rfl
theorem dX34_init_19 : decode cX34_init 19 = .ok (.return_, 1) := zdec_at bX34_init_0 11 rfl
theorem sX34_init_0 {E : zE} {d : Nat} {Q : zO → zM → Prop} (M : zM) (a0 : Nat) (l1 : Int32) (r2 : Option zP) (r3 : Option zP) (k : Z E YX13_init d M (zargs 0 [vr (some (a0, 39, 0))]) 0 [] (zafter E YX34_init (d + 1) [(0, vr (some (a0, 39, 0))), (1, vi l1), (2, vr r2), (3, vr r3)] 1 3 [] Q)) : Z E YX34_init (d + 1) M [(0, vr (some (a0, 39, 0))), (1, vi l1), (2, vr r2), (3, vr r3)] 0 [] Q := by
  refine z_aload_n dX34_init_0 rfl rfl ?_
  exact z_callI (as := []) (st := []) dX34_init_1 isX34_3 (Nat.le_refl _) (Nat.le_of_ble_eq_true rfl) (Nat.le_of_ble_eq_true rfl) rfl k
theorem sX34_init_4 {E : zE} {d : Nat} {Q : zO → zM → Prop} (M : zM) (a0 : Nat) (l1 : Int32) (r2 : Option zP) (r3 : Option zP) (k : 16 ≤ a0 ∧ (16 ≤ a0 ∧ (16 ≤ a0 ∧ (Q (.inl none) (sr (sr (si M a0 0 l1) a0 1 r2) a0 2 r3))))) : Z E YX34_init (d + 1) M [(0, vr (some (a0, 39, 0))), (1, vi l1), (2, vr r2), (3, vr r3)] 4 [] Q := by
  refine z_aload_n dX34_init_4 rfl rfl ?_
  refine z_iload_n dX34_init_5 rfl rfl ?_
  obtain ⟨g_, k⟩ := k
  refine z_puti g_ dX34_init_6 (zfwN.f fwX34_9_39 rfl (fun q h => by rw [← Option.some.inj h]; rfl)) rfl ⟨rfl, rfl⟩ ?_
  refine z_aload_n dX34_init_9 rfl rfl ?_
  refine z_aload_n dX34_init_10 rfl rfl ?_
  obtain ⟨g_, k⟩ := k
  refine z_putr g_ dX34_init_11 (zfwN.f fwX34_15_39 rfl (fun q h => by rw [← Option.some.inj h]; rfl)) rfl ?_
  refine z_aload_n dX34_init_14 rfl rfl ?_
  refine z_aload_n dX34_init_15 rfl rfl ?_
  obtain ⟨g_, k⟩ := k
  refine z_putr g_ dX34_init_16 (zfwN.f fwX34_19_39 rfl (fun q h => by rw [← Option.some.inj h]; rfl)) rfl ?_
  exact z_vret dX34_init_19 rfl k
/-! ScriptTypes$Each.code(LScriptTypes$Coder;)V -/
theorem bX34_code_0 : zdec cX34_code 0 [(0, .aload_n 1, 1), (1, .iconst 0, 1), (2, .invokevirtual 24, 3), (5, .astore_n 2, 1), (6, .aload_n 0, 1), (7, .getfield 15, 3), (10, .aload_n 1, 1), (11, .invokevirtual 30, 3), (14, .aload_n 1, 1), (15, .bipush 29, 2), (17, .iconst 0, 1), (18, .iconst 0, 1), (19, .invokevirtual 34, 3), (22, .pop, 1), (23, .aload_n 2, 1), (24, .aload_n 1, 1)] = true := by decide +kernel
theorem dX34_code_0 : decode cX34_code 0 = .ok (.aload_n 1, 1) := zdec_at bX34_code_0 0 rfl
theorem dX34_code_1 : decode cX34_code 1 = .ok (.iconst 0, 1) := zdec_at bX34_code_0 1 rfl
theorem dX34_code_2 : decode cX34_code 2 = .ok (.invokevirtual 24, 3) := zdec_at bX34_code_0 2 rfl
theorem dX34_code_5 : decode cX34_code 5 = .ok (.astore_n 2, 1) := zdec_at bX34_code_0 3 rfl
theorem dX34_code_6 : decode cX34_code 6 = .ok (.aload_n 0, 1) := zdec_at bX34_code_0 4 rfl
theorem dX34_code_7 : decode cX34_code 7 = .ok (.getfield 15, 3) := zdec_at bX34_code_0 5 rfl
theorem dX34_code_10 : decode cX34_code 10 = .ok (.aload_n 1, 1) := zdec_at bX34_code_0 6 rfl
theorem dX34_code_11 : decode cX34_code 11 = .ok (.invokevirtual 30, 3) := zdec_at bX34_code_0 7 rfl
theorem dX34_code_14 : decode cX34_code 14 = .ok (.aload_n 1, 1) := zdec_at bX34_code_0 8 rfl
theorem dX34_code_15 : decode cX34_code 15 = .ok (.bipush 29, 2) := zdec_at bX34_code_0 9 rfl
theorem dX34_code_17 : decode cX34_code 17 = .ok (.iconst 0, 1) := zdec_at bX34_code_0 10 rfl
theorem dX34_code_18 : decode cX34_code 18 = .ok (.iconst 0, 1) := zdec_at bX34_code_0 11 rfl
theorem dX34_code_19 : decode cX34_code 19 = .ok (.invokevirtual 34, 3) := zdec_at bX34_code_0 12 rfl
theorem dX34_code_22 : decode cX34_code 22 = .ok (.pop, 1) := zdec_at bX34_code_0 13 rfl
theorem dX34_code_23 : decode cX34_code 23 = .ok (.aload_n 2, 1) := zdec_at bX34_code_0 14 rfl
theorem dX34_code_24 : decode cX34_code 24 = .ok (.aload_n 1, 1) := zdec_at bX34_code_0 15 rfl
theorem bX34_code_25 : zdec cX34_code 25 [(25, .iconst 3, 1), (26, .invokevirtual 24, 3), (29, .putfield 38, 3), (32, .aload_n 1, 1), (33, .invokevirtual 42, 3), (36, .istore_n 3, 1), (37, .aload_n 1, 1), (38, .bipush 30, 2), (40, .iconst 0, 1), (41, .iconst 0, 1), (42, .invokevirtual 34, 3), (45, .istore 4, 2), (47, .aload_n 1, 1), (48, .aload_n 0, 1), (49, .getfield 9, 3), (52, .invokevirtual 46, 3)] = true := by decide +kernel
theorem dX34_code_25 : decode cX34_code 25 = .ok (.iconst 3, 1) := zdec_at bX34_code_25 0 rfl
theorem dX34_code_26 : decode cX34_code 26 = .ok (.invokevirtual 24, 3) := zdec_at bX34_code_25 1 rfl
theorem dX34_code_29 : decode cX34_code 29 = .ok (.putfield 38, 3) := zdec_at bX34_code_25 2 rfl
theorem dX34_code_32 : decode cX34_code 32 = .ok (.aload_n 1, 1) := zdec_at bX34_code_25 3 rfl
theorem dX34_code_33 : decode cX34_code 33 = .ok (.invokevirtual 42, 3) := zdec_at bX34_code_25 4 rfl
theorem dX34_code_36 : decode cX34_code 36 = .ok (.istore_n 3, 1) := zdec_at bX34_code_25 5 rfl
theorem dX34_code_37 : decode cX34_code 37 = .ok (.aload_n 1, 1) := zdec_at bX34_code_25 6 rfl
theorem dX34_code_38 : decode cX34_code 38 = .ok (.bipush 30, 2) := zdec_at bX34_code_25 7 rfl
theorem dX34_code_40 : decode cX34_code 40 = .ok (.iconst 0, 1) := zdec_at bX34_code_25 8 rfl
theorem dX34_code_41 : decode cX34_code 41 = .ok (.iconst 0, 1) := zdec_at bX34_code_25 9 rfl
theorem dX34_code_42 : decode cX34_code 42 = .ok (.invokevirtual 34, 3) := zdec_at bX34_code_25 10 rfl
theorem dX34_code_45 : decode cX34_code 45 = .ok (.istore 4, 2) := zdec_at bX34_code_25 11 rfl
theorem dX34_code_47 : decode cX34_code 47 = .ok (.aload_n 1, 1) := zdec_at bX34_code_25 12 rfl
theorem dX34_code_48 : decode cX34_code 48 = .ok (.aload_n 0, 1) := zdec_at bX34_code_25 13 rfl
theorem dX34_code_49 : decode cX34_code 49 = .ok (.getfield 9, 3) := zdec_at bX34_code_25 14 rfl
theorem dX34_code_52 : decode cX34_code 52 = .ok (.invokevirtual 46, 3) := zdec_at bX34_code_25 15 rfl
theorem bX34_code_55 : zdec cX34_code 55 [(55, .aload_n 1, 1), (56, .bipush 17, 2), (58, .iconst 0, 1), (59, .iconst 0, 1), (60, .invokevirtual 34, 3), (63, .pop, 1), (64, .aload_n 0, 1), (65, .getfield 19, 3), (68, .aload_n 1, 1), (69, .invokevirtual 30, 3), (72, .aload_n 2, 1), (73, .getfield 50, 3), (76, .aload_n 1, 1), (77, .iload_n 3, 1), (78, .invokevirtual 54, 3), (81, .aload_n 1, 1)] = true := by decide +kernel
theorem dX34_code_55 : decode cX34_code 55 = .ok (.aload_n 1, 1) := zdec_at bX34_code_55 0 rfl
theorem dX34_code_56 : decode cX34_code 56 = .ok (.bipush 17, 2) := zdec_at bX34_code_55 1 rfl
theorem dX34_code_58 : decode cX34_code 58 = .ok (.iconst 0, 1) := zdec_at bX34_code_55 2 rfl
theorem dX34_code_59 : decode cX34_code 59 = .ok (.iconst 0, 1) := zdec_at bX34_code_55 3 rfl
theorem dX34_code_60 : decode cX34_code 60 = .ok (.invokevirtual 34, 3) := zdec_at bX34_code_55 4 rfl
theorem dX34_code_63 : decode cX34_code 63 = .ok (.pop, 1) := zdec_at bX34_code_55 5 rfl
theorem dX34_code_64 : decode cX34_code 64 = .ok (.aload_n 0, 1) := zdec_at bX34_code_55 6 rfl
theorem dX34_code_65 : decode cX34_code 65 = .ok (.getfield 19, 3) := zdec_at bX34_code_55 7 rfl
theorem dX34_code_68 : decode cX34_code 68 = .ok (.aload_n 1, 1) := zdec_at bX34_code_55 8 rfl
theorem dX34_code_69 : decode cX34_code 69 = .ok (.invokevirtual 30, 3) := zdec_at bX34_code_55 9 rfl
theorem dX34_code_72 : decode cX34_code 72 = .ok (.aload_n 2, 1) := zdec_at bX34_code_55 10 rfl
theorem dX34_code_73 : decode cX34_code 73 = .ok (.getfield 50, 3) := zdec_at bX34_code_55 11 rfl
theorem dX34_code_76 : decode cX34_code 76 = .ok (.aload_n 1, 1) := zdec_at bX34_code_55 12 rfl
theorem dX34_code_77 : decode cX34_code 77 = .ok (.iload_n 3, 1) := zdec_at bX34_code_55 13 rfl
theorem dX34_code_78 : decode cX34_code 78 = .ok (.invokevirtual 54, 3) := zdec_at bX34_code_55 14 rfl
theorem dX34_code_81 : decode cX34_code 81 = .ok (.aload_n 1, 1) := zdec_at bX34_code_55 15 rfl
theorem bX34_code_82 : zdec cX34_code 82 [(82, .bipush 21, 2), (84, .iload_n 3, 1), (85, .iconst 0, 1), (86, .invokevirtual 34, 3), (89, .pop, 1), (90, .aload_n 1, 1), (91, .iload 4, 2), (93, .invokevirtual 60, 3), (96, .aload_n 2, 1), (97, .getfield 63, 3), (100, .aload_n 1, 1), (101, .aload_n 1, 1), (102, .invokevirtual 42, 3), (105, .invokevirtual 54, 3), (108, .aload_n 1, 1), (109, .aload_n 2, 1)] = true := by decide +kernel
theorem dX34_code_82 : decode cX34_code 82 = .ok (.bipush 21, 2) := zdec_at bX34_code_82 0 rfl
theorem dX34_code_84 : decode cX34_code 84 = .ok (.iload_n 3, 1) := zdec_at bX34_code_82 1 rfl
theorem dX34_code_85 : decode cX34_code 85 = .ok (.iconst 0, 1) := zdec_at bX34_code_82 2 rfl
theorem dX34_code_86 : decode cX34_code 86 = .ok (.invokevirtual 34, 3) := zdec_at bX34_code_82 3 rfl
theorem dX34_code_89 : decode cX34_code 89 = .ok (.pop, 1) := zdec_at bX34_code_82 4 rfl
theorem dX34_code_90 : decode cX34_code 90 = .ok (.aload_n 1, 1) := zdec_at bX34_code_82 5 rfl
theorem dX34_code_91 : decode cX34_code 91 = .ok (.iload 4, 2) := zdec_at bX34_code_82 6 rfl
theorem dX34_code_93 : decode cX34_code 93 = .ok (.invokevirtual 60, 3) := zdec_at bX34_code_82 7 rfl
theorem dX34_code_96 : decode cX34_code 96 = .ok (.aload_n 2, 1) := zdec_at bX34_code_82 8 rfl
theorem dX34_code_97 : decode cX34_code 97 = .ok (.getfield 63, 3) := zdec_at bX34_code_82 9 rfl
theorem dX34_code_100 : decode cX34_code 100 = .ok (.aload_n 1, 1) := zdec_at bX34_code_82 10 rfl
theorem dX34_code_101 : decode cX34_code 101 = .ok (.aload_n 1, 1) := zdec_at bX34_code_82 11 rfl
theorem dX34_code_102 : decode cX34_code 102 = .ok (.invokevirtual 42, 3) := zdec_at bX34_code_82 12 rfl
theorem dX34_code_105 : decode cX34_code 105 = .ok (.invokevirtual 54, 3) := zdec_at bX34_code_82 13 rfl
theorem dX34_code_108 : decode cX34_code 108 = .ok (.aload_n 1, 1) := zdec_at bX34_code_82 14 rfl
theorem dX34_code_109 : decode cX34_code 109 = .ok (.aload_n 2, 1) := zdec_at bX34_code_82 15 rfl
theorem bX34_code_110 : zdec cX34_code 110 [(110, .invokevirtual 66, 3), (113, .return_, 1)] = true := by decide +kernel
theorem dX34_code_110 : decode cX34_code 110 = .ok (.invokevirtual 66, 3) := zdec_at bX34_code_110 0 rfl
theorem dX34_code_113 : decode cX34_code 113 = .ok (.return_, 1) := zdec_at bX34_code_110 1 rfl
theorem sX34_code_0 {E : zE} {d : Nat} {Q : zO → zM → Prop} (M : zM) (a0 : Nat) (r1 : Option zP) (k : ∃ b1 : Nat, r1 = some (b1, 3, 0) ∧ (Z E YX3_enter d M (zargs 0 [vr (some (b1, 3, 0)), vi (0 : Int32)]) 0 [] (zafter E YX34_code (d + 1) [(0, vr (some (a0, 39, 0))), (1, vr (some (b1, 3, 0)))] 2 3 [] Q))) : Z E YX34_code (d + 1) M [(0, vr (some (a0, 39, 0))), (1, vr r1)] 0 [] Q := by
  refine z_aload_n dX34_code_0 rfl rfl ?_
  refine z_iconst (v := 0) dX34_code_1 rfl ?_
  obtain ⟨b1, e1_, k⟩ := k
  refine Z.eqs (lv' := [(0, vr (some (a0, 39, 0))), (1, vr (some (b1, 3, 0)))]) (st' := [vi (0 : Int32), vr (some (b1, 3, 0))]) (by rw [e1_] <;> rfl) (by rw [e1_] <;> rfl) ?_
  exact z_callV (as := [vi (0 : Int32)]) (st := []) dX34_code_2 vsX34_24_3 (Nat.le_refl _) (Nat.le_of_ble_eq_true rfl) (Nat.le_of_ble_eq_true rfl) rfl k
theorem sX34_code_5 {E : zE} {d : Nat} {Q : zO → zM → Prop} (M : zM) (a0 : Nat) (a1 : Nat) (u0 : Option zP) (k : ∃ b1 t1 : Nat, (gr M a0 1) = some (b1, t1, 0) ∧ (∃ Y_ : zY, vt_code t1 = some Y_ ∧ Z E Y_ d M (zargs 0 [vr (some (b1, t1, 0)), vr (some (a1, 3, 0))]) 0 [] (zafter E YX34_code (d + 1) [(0, vr (some (a0, 39, 0))), (1, vr (some (a1, 3, 0))), (2, vr u0)] 11 3 [] Q))) : Z E YX34_code (d + 1) M [(0, vr (some (a0, 39, 0))), (1, vr (some (a1, 3, 0)))] 5 [vr u0] Q := by
  refine z_ast_n dX34_code_5 rfl (by decide) (lv' := [(0, vr (some (a0, 39, 0))), (1, vr (some (a1, 3, 0))), (2, vr u0)]) rfl ?_
  refine z_aload_n dX34_code_6 rfl rfl ?_
  refine z_getr (r := (gr M a0 1)) dX34_code_7 fsX34_15_39 rfl ?_
  refine z_aload_n dX34_code_10 rfl rfl ?_
  obtain ⟨b1, t1, e1_, k⟩ := k
  refine Z.eqs (lv' := [(0, vr (some (a0, 39, 0))), (1, vr (some (a1, 3, 0))), (2, vr u0)]) (st' := [vr (some (a1, 3, 0)), vr (some (b1, t1, 0))]) rfl (by rw [e1_] <;> rfl) ?_
  obtain ⟨Y_, y_, k⟩ := k
  exact z_callV (as := [vr (some (a1, 3, 0))]) (st := []) dX34_code_11 (vtX34_30 y_).1 (Nat.le_refl _) (Nat.le_trans (Nat.le_of_ble_eq_true rfl) (vtX34_30 y_).2.1) (Nat.le_trans (Nat.add_le_add_left (vtX34_30 y_).2.2 _) (Nat.le_of_ble_eq_true rfl)) rfl k
theorem sX34_code_14 {E : zE} {d : Nat} {Q : zO → zM → Prop} (M : zM) (a0 : Nat) (a1 : Nat) (r2 : Option zP) (k : Z E YX3_put d M (zargs 0 [vr (some (a1, 3, 0)), vi (29 : Int32), vi (0 : Int32), vi (0 : Int32)]) 0 [] (zafter E YX34_code (d + 1) [(0, vr (some (a0, 39, 0))), (1, vr (some (a1, 3, 0))), (2, vr r2)] 19 3 [] Q)) : Z E YX34_code (d + 1) M [(0, vr (some (a0, 39, 0))), (1, vr (some (a1, 3, 0))), (2, vr r2)] 14 [] Q := by
  refine z_aload_n dX34_code_14 rfl rfl ?_
  refine z_bipush (v := 29) dX34_code_15 rfl ?_
  refine z_iconst (v := 0) dX34_code_17 rfl ?_
  refine z_iconst (v := 0) dX34_code_18 rfl ?_
  exact z_callV (as := [vi (29 : Int32), vi (0 : Int32), vi (0 : Int32)]) (st := []) dX34_code_19 vsX34_34_3 (Nat.le_refl _) (Nat.le_of_ble_eq_true rfl) (Nat.le_of_ble_eq_true rfl) rfl k
theorem sX34_code_22 {E : zE} {d : Nat} {Q : zO → zM → Prop} (M : zM) (a0 : Nat) (a1 : Nat) (r2 : Option zP) (s0 : Int32) (k : Z E YX3_enter d M (zargs 0 [vr (some (a1, 3, 0)), vi (3 : Int32)]) 0 [] (zafter E YX34_code (d + 1) [(0, vr (some (a0, 39, 0))), (1, vr (some (a1, 3, 0))), (2, vr r2)] 26 3 [vr r2] Q)) : Z E YX34_code (d + 1) M [(0, vr (some (a0, 39, 0))), (1, vr (some (a1, 3, 0))), (2, vr r2)] 22 [vi s0] Q := by
  refine z_pop dX34_code_22 rfl ?_
  refine z_aload_n dX34_code_23 rfl rfl ?_
  refine z_aload_n dX34_code_24 rfl rfl ?_
  refine z_iconst (v := 3) dX34_code_25 rfl ?_
  exact z_callV (as := [vi (3 : Int32)]) (st := [vr r2]) dX34_code_26 vsX34_24_3 (Nat.le_refl _) (Nat.le_of_ble_eq_true rfl) (Nat.le_of_ble_eq_true rfl) rfl k
theorem sX34_code_29 {E : zE} {d : Nat} {Q : zO → zM → Prop} (M : zM) (a0 : Nat) (a1 : Nat) (r2 : Option zP) (u0 : Option zP) (u1 : Option zP) (k : ∃ b1 : Nat, u1 = some (b1, 17, 0) ∧ (16 ≤ b1 ∧ (Z E YX3_place d (sr M b1 5 u0) (zargs 0 [vr (some (a1, 3, 0))]) 0 [] (zafter E YX34_code (d + 1) [(0, vr (some (a0, 39, 0))), (1, vr (some (a1, 3, 0))), (2, vr r2)] 33 3 [] Q)))) : Z E YX34_code (d + 1) M [(0, vr (some (a0, 39, 0))), (1, vr (some (a1, 3, 0))), (2, vr r2)] 29 [vr u0, vr u1] Q := by
  obtain ⟨b1, e1_, k⟩ := k
  refine Z.eqs (lv' := [(0, vr (some (a0, 39, 0))), (1, vr (some (a1, 3, 0))), (2, vr r2)]) (st' := [vr u0, vr (some (b1, 17, 0))]) rfl (by rw [e1_] <;> rfl) ?_
  obtain ⟨g_, k⟩ := k
  refine z_putr g_ dX34_code_29 (zfwN.w fwX34_38_17) rfl ?_
  refine z_aload_n dX34_code_32 rfl rfl ?_
  exact z_callV (as := []) (st := []) dX34_code_33 vsX34_42_3 (Nat.le_refl _) (Nat.le_of_ble_eq_true rfl) (Nat.le_of_ble_eq_true rfl) rfl k
theorem sX34_code_36 {E : zE} {d : Nat} {Q : zO → zM → Prop} (M : zM) (a0 : Nat) (a1 : Nat) (r2 : Option zP) (s0 : Int32) (k : Z E YX3_put d M (zargs 0 [vr (some (a1, 3, 0)), vi (30 : Int32), vi (0 : Int32), vi (0 : Int32)]) 0 [] (zafter E YX34_code (d + 1) [(0, vr (some (a0, 39, 0))), (1, vr (some (a1, 3, 0))), (2, vr r2), (3, vi s0)] 42 3 [] Q)) : Z E YX34_code (d + 1) M [(0, vr (some (a0, 39, 0))), (1, vr (some (a1, 3, 0))), (2, vr r2)] 36 [vi s0] Q := by
  refine z_ist_n dX34_code_36 rfl (by decide) (lv' := [(0, vr (some (a0, 39, 0))), (1, vr (some (a1, 3, 0))), (2, vr r2), (3, vi s0)]) rfl ?_
  refine z_aload_n dX34_code_37 rfl rfl ?_
  refine z_bipush (v := 30) dX34_code_38 rfl ?_
  refine z_iconst (v := 0) dX34_code_40 rfl ?_
  refine z_iconst (v := 0) dX34_code_41 rfl ?_
  exact z_callV (as := [vi (30 : Int32), vi (0 : Int32), vi (0 : Int32)]) (st := []) dX34_code_42 vsX34_34_3 (Nat.le_refl _) (Nat.le_of_ble_eq_true rfl) (Nat.le_of_ble_eq_true rfl) rfl k
theorem sX34_code_45 {E : zE} {d : Nat} {Q : zO → zM → Prop} (M : zM) (a0 : Nat) (a1 : Nat) (r2 : Option zP) (l3 : Int32) (s0 : Int32) (k : Z E YX3_set d M (zargs 0 [vr (some (a1, 3, 0)), vi (gi M a0 0)]) 0 [] (zafter E YX34_code (d + 1) [(0, vr (some (a0, 39, 0))), (1, vr (some (a1, 3, 0))), (2, vr r2), (3, vi l3), (4, vi s0)] 52 3 [] Q)) : Z E YX34_code (d + 1) M [(0, vr (some (a0, 39, 0))), (1, vr (some (a1, 3, 0))), (2, vr r2), (3, vi l3)] 45 [vi s0] Q := by
  refine z_ist dX34_code_45 (by decide) (lv' := [(0, vr (some (a0, 39, 0))), (1, vr (some (a1, 3, 0))), (2, vr r2), (3, vi l3), (4, vi s0)]) rfl ?_
  refine z_aload_n dX34_code_47 rfl rfl ?_
  refine z_aload_n dX34_code_48 rfl rfl ?_
  refine z_geti dX34_code_49 fsX34_9_39 ?_
  exact z_callV (as := [vi (gi M a0 0)]) (st := []) dX34_code_52 vsX34_46_3 (Nat.le_refl _) (Nat.le_of_ble_eq_true rfl) (Nat.le_of_ble_eq_true rfl) rfl k
theorem sX34_code_55 {E : zE} {d : Nat} {Q : zO → zM → Prop} (M : zM) (a0 : Nat) (a1 : Nat) (r2 : Option zP) (l3 : Int32) (l4 : Int32) (k : Z E YX3_put d M (zargs 0 [vr (some (a1, 3, 0)), vi (17 : Int32), vi (0 : Int32), vi (0 : Int32)]) 0 [] (zafter E YX34_code (d + 1) [(0, vr (some (a0, 39, 0))), (1, vr (some (a1, 3, 0))), (2, vr r2), (3, vi l3), (4, vi l4)] 60 3 [] Q)) : Z E YX34_code (d + 1) M [(0, vr (some (a0, 39, 0))), (1, vr (some (a1, 3, 0))), (2, vr r2), (3, vi l3), (4, vi l4)] 55 [] Q := by
  refine z_aload_n dX34_code_55 rfl rfl ?_
  refine z_bipush (v := 17) dX34_code_56 rfl ?_
  refine z_iconst (v := 0) dX34_code_58 rfl ?_
  refine z_iconst (v := 0) dX34_code_59 rfl ?_
  exact z_callV (as := [vi (17 : Int32), vi (0 : Int32), vi (0 : Int32)]) (st := []) dX34_code_60 vsX34_34_3 (Nat.le_refl _) (Nat.le_of_ble_eq_true rfl) (Nat.le_of_ble_eq_true rfl) rfl k
theorem sX34_code_63 {E : zE} {d : Nat} {Q : zO → zM → Prop} (M : zM) (a0 : Nat) (a1 : Nat) (r2 : Option zP) (l3 : Int32) (l4 : Int32) (s0 : Int32) (k : ∃ b1 t1 : Nat, (gr M a0 2) = some (b1, t1, 0) ∧ (∃ Y_ : zY, vt_code t1 = some Y_ ∧ Z E Y_ d M (zargs 0 [vr (some (b1, t1, 0)), vr (some (a1, 3, 0))]) 0 [] (zafter E YX34_code (d + 1) [(1, vr (some (a1, 3, 0))), (2, vr r2), (3, vi l3), (4, vi l4)] 69 3 [] Q))) : Z E YX34_code (d + 1) M [(0, vr (some (a0, 39, 0))), (1, vr (some (a1, 3, 0))), (2, vr r2), (3, vi l3), (4, vi l4)] 63 [vi s0] Q := by
  refine z_pop dX34_code_63 rfl ?_
  refine z_aload_n dX34_code_64 rfl rfl ?_
  refine z_getr (r := (gr M a0 2)) dX34_code_65 fsX34_19_39 rfl ?_
  refine z_aload_n dX34_code_68 rfl rfl ?_
  obtain ⟨b1, t1, e1_, k⟩ := k
  refine Z.eqs (lv' := [(0, vr (some (a0, 39, 0))), (1, vr (some (a1, 3, 0))), (2, vr r2), (3, vi l3), (4, vi l4)]) (st' := [vr (some (a1, 3, 0)), vr (some (b1, t1, 0))]) rfl (by rw [e1_] <;> rfl) ?_
  refine Z.pick [1, 2, 3, 4] rfl ?_
  obtain ⟨Y_, y_, k⟩ := k
  exact z_callV (as := [vr (some (a1, 3, 0))]) (st := []) dX34_code_69 (vtX34_30 y_).1 (Nat.le_refl _) (Nat.le_trans (Nat.le_of_ble_eq_true rfl) (vtX34_30 y_).2.1) (Nat.le_trans (Nat.add_le_add_left (vtX34_30 y_).2.2 _) (Nat.le_of_ble_eq_true rfl)) rfl k
theorem sX34_code_72 {E : zE} {d : Nat} {Q : zO → zM → Prop} (M : zM) (a1 : Nat) (r2 : Option zP) (l3 : Int32) (l4 : Int32) (k : ∃ b1 : Nat, r2 = some (b1, 17, 0) ∧ (∃ b2 : Nat, (gr M b1 2) = some (b2, 18, 0) ∧ (Z E YX41_goAll d M (zargs 0 [vr (some (b2, 18, 0)), vr (some (a1, 3, 0)), vi l3]) 0 [] (zafter E YX34_code (d + 1) [(1, vr (some (a1, 3, 0))), (2, vr (some (b1, 17, 0))), (3, vi l3), (4, vi l4)] 78 3 [] Q)))) : Z E YX34_code (d + 1) M [(1, vr (some (a1, 3, 0))), (2, vr r2), (3, vi l3), (4, vi l4)] 72 [] Q := by
  refine z_aload_n dX34_code_72 rfl rfl ?_
  obtain ⟨b1, e1_, k⟩ := k
  refine Z.eqs (lv' := [(1, vr (some (a1, 3, 0))), (2, vr (some (b1, 17, 0))), (3, vi l3), (4, vi l4)]) (st' := [vr (some (b1, 17, 0))]) (by rw [e1_] <;> rfl) (by rw [e1_] <;> rfl) ?_
  refine z_getr (r := (gr M b1 2)) dX34_code_73 fsX34_50_17 rfl ?_
  refine z_aload_n dX34_code_76 rfl rfl ?_
  refine z_iload_n dX34_code_77 rfl rfl ?_
  obtain ⟨b2, e2_, k⟩ := k
  refine Z.eqs (lv' := [(1, vr (some (a1, 3, 0))), (2, vr (some (b1, 17, 0))), (3, vi l3), (4, vi l4)]) (st' := [vi l3, vr (some (a1, 3, 0)), vr (some (b2, 18, 0))]) rfl (by rw [e2_] <;> rfl) ?_
  exact z_callV (as := [vr (some (a1, 3, 0)), vi l3]) (st := []) dX34_code_78 vsX34_54_18 (Nat.le_refl _) (Nat.le_of_ble_eq_true rfl) (Nat.le_of_ble_eq_true rfl) rfl k
theorem sX34_code_81 {E : zE} {d : Nat} {Q : zO → zM → Prop} (M : zM) (a1 : Nat) (a2 : Nat) (l3 : Int32) (l4 : Int32) (k : Z E YX3_put d M (zargs 0 [vr (some (a1, 3, 0)), vi (21 : Int32), vi l3, vi (0 : Int32)]) 0 [] (zafter E YX34_code (d + 1) [(1, vr (some (a1, 3, 0))), (2, vr (some (a2, 17, 0))), (4, vi l4)] 86 3 [] Q)) : Z E YX34_code (d + 1) M [(1, vr (some (a1, 3, 0))), (2, vr (some (a2, 17, 0))), (3, vi l3), (4, vi l4)] 81 [] Q := by
  refine z_aload_n dX34_code_81 rfl rfl ?_
  refine z_bipush (v := 21) dX34_code_82 rfl ?_
  refine z_iload_n dX34_code_84 rfl rfl ?_
  refine z_iconst (v := 0) dX34_code_85 rfl ?_
  refine Z.pick [0, 1, 3] rfl ?_
  exact z_callV (as := [vi (21 : Int32), vi l3, vi (0 : Int32)]) (st := []) dX34_code_86 vsX34_34_3 (Nat.le_refl _) (Nat.le_of_ble_eq_true rfl) (Nat.le_of_ble_eq_true rfl) rfl k
theorem sX34_code_89 {E : zE} {d : Nat} {Q : zO → zM → Prop} (M : zM) (a1 : Nat) (a2 : Nat) (l4 : Int32) (s0 : Int32) (k : Z E YX3_goal d M (zargs 0 [vr (some (a1, 3, 0)), vi l4]) 0 [] (zafter E YX34_code (d + 1) [(1, vr (some (a1, 3, 0))), (2, vr (some (a2, 17, 0)))] 93 3 [] Q)) : Z E YX34_code (d + 1) M [(1, vr (some (a1, 3, 0))), (2, vr (some (a2, 17, 0))), (4, vi l4)] 89 [vi s0] Q := by
  refine z_pop dX34_code_89 rfl ?_
  refine z_aload_n dX34_code_90 rfl rfl ?_
  refine z_iload dX34_code_91 rfl ?_
  refine Z.pick [0, 1] rfl ?_
  exact z_callV (as := [vi l4]) (st := []) dX34_code_93 vsX34_60_3 (Nat.le_refl _) (Nat.le_of_ble_eq_true rfl) (Nat.le_of_ble_eq_true rfl) rfl k
theorem sX34_code_96 {E : zE} {d : Nat} {Q : zO → zM → Prop} (M : zM) (a1 : Nat) (a2 : Nat) (k : Z E YX3_place d M (zargs 0 [vr (some (a1, 3, 0))]) 0 [] (zafter E YX34_code (d + 1) [(1, vr (some (a1, 3, 0))), (2, vr (some (a2, 17, 0)))] 102 3 [vr (some (a1, 3, 0)), vr (gr M a2 1)] Q)) : Z E YX34_code (d + 1) M [(1, vr (some (a1, 3, 0))), (2, vr (some (a2, 17, 0)))] 96 [] Q := by
  refine z_aload_n dX34_code_96 rfl rfl ?_
  refine z_getr (r := (gr M a2 1)) dX34_code_97 fsX34_63_17 rfl ?_
  refine z_aload_n dX34_code_100 rfl rfl ?_
  refine z_aload_n dX34_code_101 rfl rfl ?_
  exact z_callV (as := []) (st := [vr (some (a1, 3, 0)), vr (gr M a2 1)]) dX34_code_102 vsX34_42_3 (Nat.le_refl _) (Nat.le_of_ble_eq_true rfl) (Nat.le_of_ble_eq_true rfl) rfl k
theorem sX34_code_105 {E : zE} {d : Nat} {Q : zO → zM → Prop} (M : zM) (a1 : Nat) (a2 : Nat) (s0 : Int32) (p1 : Nat) (u2 : Option zP) (k : ∃ b1 : Nat, u2 = some (b1, 18, 0) ∧ (Z E YX41_goAll d M (zargs 0 [vr (some (b1, 18, 0)), vr (some (p1, 3, 0)), vi s0]) 0 [] (zafter E YX34_code (d + 1) [(1, vr (some (a1, 3, 0))), (2, vr (some (a2, 17, 0)))] 105 3 [] Q))) : Z E YX34_code (d + 1) M [(1, vr (some (a1, 3, 0))), (2, vr (some (a2, 17, 0)))] 105 [vi s0, vr (some (p1, 3, 0)), vr u2] Q := by
  obtain ⟨b1, e1_, k⟩ := k
  refine Z.eqs (lv' := [(1, vr (some (a1, 3, 0))), (2, vr (some (a2, 17, 0)))]) (st' := [vi s0, vr (some (p1, 3, 0)), vr (some (b1, 18, 0))]) rfl (by rw [e1_] <;> rfl) ?_
  exact z_callV (as := [vr (some (p1, 3, 0)), vi s0]) (st := []) dX34_code_105 vsX34_54_18 (Nat.le_refl _) (Nat.le_of_ble_eq_true rfl) (Nat.le_of_ble_eq_true rfl) rfl k
theorem sX34_code_108 {E : zE} {d : Nat} {Q : zO → zM → Prop} (M : zM) (a1 : Nat) (a2 : Nat) (k : Z E YX3_leave d M (zargs 0 [vr (some (a1, 3, 0)), vr (some (a2, 17, 0))]) 0 [] (zafter E YX34_code (d + 1) [] 110 3 [] Q)) : Z E YX34_code (d + 1) M [(1, vr (some (a1, 3, 0))), (2, vr (some (a2, 17, 0)))] 108 [] Q := by
  refine z_aload_n dX34_code_108 rfl rfl ?_
  refine z_aload_n dX34_code_109 rfl rfl ?_
  refine Z.pick [] rfl ?_
  exact z_callV (as := [vr (some (a2, 17, 0))]) (st := []) dX34_code_110 vsX34_66_3 (Nat.le_refl _) (Nat.le_of_ble_eq_true rfl) (Nat.le_of_ble_eq_true rfl) rfl k
theorem sX34_code_113 {E : zE} {d : Nat} {Q : zO → zM → Prop} (M : zM)  (k : Q (.inl none) M) : Z E YX34_code (d + 1) M [] 113 [] Q := by
  exact z_vret dX34_code_113 rfl k
/-! ScriptTypes$Goes.<init>(Z)V -/
theorem bX35_init_0 : zdec cX35_init 0 [(0, .aload_n 0, 1), (1, .invokespecial 1, 3), (4, .aload_n 0, 1), (5, .iload_n 1, 1), (6, .putfield 7, 3), (9, .return_, 1)] = true := by decide +kernel
theorem dX35_init_0 : decode cX35_init 0 = .ok (.aload_n 0, 1) := zdec_at bX35_init_0 0 rfl
theorem dX35_init_1 : decode cX35_init 1 = .ok (.invokespecial 1, 3) := zdec_at bX35_init_0 1 rfl
theorem dX35_init_4 : decode cX35_init 4 = .ok (.aload_n 0, 1) := zdec_at bX35_init_0 2 rfl
theorem dX35_init_5 : decode cX35_init 5 = .ok (.iload_n 1, 1) := zdec_at bX35_init_0 3 rfl
theorem dX35_init_6 : decode cX35_init 6 = .ok (.putfield 7, 3) := zdec_at bX35_init_0 4 rfl
theorem dX35_init_9 : decode cX35_init 9 = .ok (.return_, 1) := zdec_at bX35_init_0 5 rfl
theorem sX35_init_0 {E : zE} {d : Nat} {Q : zO → zM → Prop} (M : zM) (a0 : Nat) (l1 : Int32) (k : Z E YX13_init d M (zargs 0 [vr (some (a0, 40, 0))]) 0 [] (zafter E YX35_init (d + 1) [(0, vr (some (a0, 40, 0))), (1, vi l1)] 1 3 [] Q)) : Z E YX35_init (d + 1) M [(0, vr (some (a0, 40, 0))), (1, vi l1)] 0 [] Q := by
  refine z_aload_n dX35_init_0 rfl rfl ?_
  exact z_callI (as := []) (st := []) dX35_init_1 isX35_1 (Nat.le_refl _) (Nat.le_of_ble_eq_true rfl) (Nat.le_of_ble_eq_true rfl) rfl k
theorem sX35_init_4 {E : zE} {d : Nat} {Q : zO → zM → Prop} (M : zM) (a0 : Nat) (l1 : Int32) (k : 16 ≤ a0 ∧ (zfit .boolean l1 ∧ (Q (.inl none) (si M a0 0 l1)))) : Z E YX35_init (d + 1) M [(0, vr (some (a0, 40, 0))), (1, vi l1)] 4 [] Q := by
  refine z_aload_n dX35_init_4 rfl rfl ?_
  refine z_iload_n dX35_init_5 rfl rfl ?_
  obtain ⟨g_, k⟩ := k
  obtain ⟨b_, k⟩ := k
  refine z_puti g_ dX35_init_6 (zfwN.f fwX35_7_40 rfl (fun q h => by rw [← Option.some.inj h]; rfl)) rfl b_ ?_
  exact z_vret dX35_init_9 rfl k
/-! ScriptTypes$Goes.code(LScriptTypes$Coder;)V -/
theorem bX35_code_0 : zdec cX35_code 0 [(0, .aload_n 1, 1), (1, .aload_n 0, 1), (2, .getfield 7, 3), (5, .invokevirtual 13, 3), (8, .return_, 1)] = true := by decide +kernel
theorem dX35_code_0 : decode cX35_code 0 = .ok (.aload_n 1, 1) := zdec_at bX35_code_0 0 rfl
theorem dX35_code_1 : decode cX35_code 1 = .ok (.aload_n 0, 1) := zdec_at bX35_code_0 1 rfl
theorem dX35_code_2 : decode cX35_code 2 = .ok (.getfield 7, 3) := zdec_at bX35_code_0 2 rfl
theorem dX35_code_5 : decode cX35_code 5 = .ok (.invokevirtual 13, 3) := zdec_at bX35_code_0 3 rfl
theorem dX35_code_8 : decode cX35_code 8 = .ok (.return_, 1) := zdec_at bX35_code_0 4 rfl
theorem sX35_code_0 {E : zE} {d : Nat} {Q : zO → zM → Prop} (M : zM) (a0 : Nat) (r1 : Option zP) (k : ∃ b1 : Nat, r1 = some (b1, 3, 0) ∧ (Z E YX3_goOut d M (zargs 0 [vr (some (b1, 3, 0)), vi (gi M a0 0)]) 0 [] (zafter E YX35_code (d + 1) [] 5 3 [] Q))) : Z E YX35_code (d + 1) M [(0, vr (some (a0, 40, 0))), (1, vr r1)] 0 [] Q := by
  refine z_aload_n dX35_code_0 rfl rfl ?_
  refine z_aload_n dX35_code_1 rfl rfl ?_
  refine z_geti dX35_code_2 fsX35_7_40 ?_
  obtain ⟨b1, e1_, k⟩ := k
  refine Z.eqs (lv' := [(0, vr (some (a0, 40, 0))), (1, vr (some (b1, 3, 0)))]) (st' := [vi (gi M a0 0), vr (some (b1, 3, 0))]) (by rw [e1_] <;> rfl) (by rw [e1_] <;> rfl) ?_
  refine Z.pick [] rfl ?_
  exact z_callV (as := [vi (gi M a0 0)]) (st := []) dX35_code_5 vsX35_13_3 (Nat.le_refl _) (Nat.le_of_ble_eq_true rfl) (Nat.le_of_ble_eq_true rfl) rfl k
theorem sX35_code_8 {E : zE} {d : Nat} {Q : zO → zM → Prop} (M : zM)  (k : Q (.inl none) M) : Z E YX35_code (d + 1) M [] 8 [] Q := by
  exact z_vret dX35_code_8 rfl k
/-! ScriptTypes$Return.<init>(LScriptTypes$Node;)V -/
theorem bX36_init_0 : zdec cX36_init 0 [(0, .aload_n 0, 1), (1, .invokespecial 3, 3), (4, .aload_n 0, 1), (5, .aload_n 1, 1), (6, .putfield 9, 3), (9, .return_, 1)] = true := by decide +kernel
theorem dX36_init_0 : decode cX36_init 0 = .ok (.aload_n 0, 1) := zdec_at bX36_init_0 0 rfl
theorem dX36_init_1 : decode cX36_init 1 = .ok (.invokespecial 3, 3) := zdec_at bX36_init_0 1 rfl
theorem dX36_init_4 : decode cX36_init 4 = .ok (.aload_n 0, 1) := zdec_at bX36_init_0 2 rfl
theorem dX36_init_5 : decode cX36_init 5 = .ok (.aload_n 1, 1) := zdec_at bX36_init_0 3 rfl
theorem dX36_init_6 : decode cX36_init 6 = .ok (.putfield 9, 3) := zdec_at bX36_init_0 4 rfl
theorem dX36_init_9 : decode cX36_init 9 = .ok (.return_, 1) := zdec_at bX36_init_0 5 rfl
theorem sX36_init_0 {E : zE} {d : Nat} {Q : zO → zM → Prop} (M : zM) (a0 : Nat) (r1 : Option zP) (k : Z E YX13_init d M (zargs 0 [vr (some (a0, 41, 0))]) 0 [] (zafter E YX36_init (d + 1) [(0, vr (some (a0, 41, 0))), (1, vr r1)] 1 3 [] Q)) : Z E YX36_init (d + 1) M [(0, vr (some (a0, 41, 0))), (1, vr r1)] 0 [] Q := by
  refine z_aload_n dX36_init_0 rfl rfl ?_
  exact z_callI (as := []) (st := []) dX36_init_1 isX36_3 (Nat.le_refl _) (Nat.le_of_ble_eq_true rfl) (Nat.le_of_ble_eq_true rfl) rfl k
theorem sX36_init_4 {E : zE} {d : Nat} {Q : zO → zM → Prop} (M : zM) (a0 : Nat) (r1 : Option zP) (k : 16 ≤ a0 ∧ (Q (.inl none) (sr M a0 0 r1))) : Z E YX36_init (d + 1) M [(0, vr (some (a0, 41, 0))), (1, vr r1)] 4 [] Q := by
  refine z_aload_n dX36_init_4 rfl rfl ?_
  refine z_aload_n dX36_init_5 rfl rfl ?_
  obtain ⟨g_, k⟩ := k
  refine z_putr g_ dX36_init_6 (zfwN.f fwX36_9_41 rfl (fun q h => by rw [← Option.some.inj h]; rfl)) rfl ?_
  exact z_vret dX36_init_9 rfl k
/-! ScriptTypes$Return.code(LScriptTypes$Coder;)V -/
theorem bX36_code_0 : zdec cX36_code 0 [(0, .aload_n 0, 1), (1, .getfield 9, 3), (4, .ifnonnull 14, 3), (7, .aload_n 1, 1), (8, .iconst 0, 1), (9, .iconst 0, 1), (10, .iconst 0, 1), (11, .invokevirtual 15, 3), (14, .pop, 1), (15, .goto 11, 3), (18, .aload_n 0, 1), (19, .getfield 9, 3), (22, .aload_n 1, 1), (23, .invokevirtual 21, 3), (26, .aload_n 1, 1), (27, .invokevirtual 25, 3)] = true := by decide +kernel
theorem dX36_code_0 : decode cX36_code 0 = .ok (.aload_n 0, 1) := zdec_at bX36_code_0 0 rfl
theorem dX36_code_1 : decode cX36_code 1 = .ok (.getfield 9, 3) := zdec_at bX36_code_0 1 rfl
theorem dX36_code_4 : decode cX36_code 4 = .ok (.ifnonnull 14, 3) := zdec_at bX36_code_0 2 rfl
theorem dX36_code_7 : decode cX36_code 7 = .ok (.aload_n 1, 1) := zdec_at bX36_code_0 3 rfl
theorem dX36_code_8 : decode cX36_code 8 = .ok (.iconst 0, 1) := zdec_at bX36_code_0 4 rfl
theorem dX36_code_9 : decode cX36_code 9 = .ok (.iconst 0, 1) := zdec_at bX36_code_0 5 rfl
theorem dX36_code_10 : decode cX36_code 10 = .ok (.iconst 0, 1) := zdec_at bX36_code_0 6 rfl
theorem dX36_code_11 : decode cX36_code 11 = .ok (.invokevirtual 15, 3) := zdec_at bX36_code_0 7 rfl
theorem dX36_code_14 : decode cX36_code 14 = .ok (.pop, 1) := zdec_at bX36_code_0 8 rfl
theorem dX36_code_15 : decode cX36_code 15 = .ok (.goto 11, 3) := zdec_at bX36_code_0 9 rfl
theorem dX36_code_18 : decode cX36_code 18 = .ok (.aload_n 0, 1) := zdec_at bX36_code_0 10 rfl
theorem dX36_code_19 : decode cX36_code 19 = .ok (.getfield 9, 3) := zdec_at bX36_code_0 11 rfl
theorem dX36_code_22 : decode cX36_code 22 = .ok (.aload_n 1, 1) := zdec_at bX36_code_0 12 rfl
theorem dX36_code_23 : decode cX36_code 23 = .ok (.invokevirtual 21, 3) := zdec_at bX36_code_0 13 rfl
theorem dX36_code_26 : decode cX36_code 26 = .ok (.aload_n 1, 1) := zdec_at bX36_code_0 14 rfl
theorem dX36_code_27 : decode cX36_code 27 = .ok (.invokevirtual 25, 3) := zdec_at bX36_code_0 15 rfl
theorem bX36_code_30 : zdec cX36_code 30 [(30, .return_, 1)] = true := by decide +kernel
theorem dX36_code_30 : decode cX36_code 30 = .ok (.return_, 1) := zdec_at bX36_code_30 0 rfl
theorem sX36_code_0 {E : zE} {d : Nat} {Q : zO → zM → Prop} (M : zM) (a0 : Nat) (r1 : Option zP) (k : if (gr M a0 0) = none then (∃ b1 : Nat, r1 = some (b1, 3, 0) ∧ (Z E YX3_put d M (zargs 0 [vr (some (b1, 3, 0)), vi (0 : Int32), vi (0 : Int32), vi (0 : Int32)]) 0 [] (zafter E YX36_code (d + 1) [(1, vr (some (b1, 3, 0)))] 11 3 [] Q))) else (∃ b1 t1 : Nat, (gr M a0 0) = some (b1, t1, 0) ∧ (∃ Y_ : zY, vt_code t1 = some Y_ ∧ Z E Y_ d M (zargs 0 [vr (some (b1, t1, 0)), vr r1]) 0 [] (zafter E YX36_code (d + 1) [(1, vr r1)] 23 3 [] Q)))) : Z E YX36_code (d + 1) M [(0, vr (some (a0, 41, 0))), (1, vr r1)] 0 [] Q := by
  refine z_aload_n dX36_code_0 rfl rfl ?_
  refine z_getr (r := (gr M a0 0)) dX36_code_1 fsX36_9_41 rfl ?_
  refine z_ifnonnull (tgt := 18) dX36_code_4 rfl (fun h_ => ?_) (fun h_ => ?_)
  · have k := zif h_ k
    refine z_aload_n dX36_code_18 rfl rfl ?_
    refine z_getr (r := (gr M a0 0)) dX36_code_19 fsX36_9_41 rfl ?_
    refine z_aload_n dX36_code_22 rfl rfl ?_
    obtain ⟨b1, t1, e1_, k⟩ := k
    refine Z.eqs (lv' := [(0, vr (some (a0, 41, 0))), (1, vr r1)]) (st' := [vr r1, vr (some (b1, t1, 0))]) rfl (by rw [e1_] <;> rfl) ?_
    refine Z.pick [1] rfl ?_
    obtain ⟨Y_, y_, k⟩ := k
    exact z_callV (as := [vr r1]) (st := []) dX36_code_23 (vtX36_21 y_).1 (Nat.le_refl _) (Nat.le_trans (Nat.le_of_ble_eq_true rfl) (vtX36_21 y_).2.1) (Nat.le_trans (Nat.add_le_add_left (vtX36_21 y_).2.2 _) (Nat.le_of_ble_eq_true rfl)) rfl k
  · have k := zit h_ k
    refine z_aload_n dX36_code_7 rfl rfl ?_
    refine z_iconst (v := 0) dX36_code_8 rfl ?_
    refine z_iconst (v := 0) dX36_code_9 rfl ?_
    refine z_iconst (v := 0) dX36_code_10 rfl ?_
    obtain ⟨b1, e1_, k⟩ := k
    refine Z.eqs (lv' := [(0, vr (some (a0, 41, 0))), (1, vr (some (b1, 3, 0)))]) (st' := [vi (0 : Int32), vi (0 : Int32), vi (0 : Int32), vr (some (b1, 3, 0))]) (by rw [e1_] <;> rfl) (by rw [e1_] <;> rfl) ?_
    refine Z.pick [1] rfl ?_
    exact z_callV (as := [vi (0 : Int32), vi (0 : Int32), vi (0 : Int32)]) (st := []) dX36_code_11 vsX36_15_3 (Nat.le_refl _) (Nat.le_of_ble_eq_true rfl) (Nat.le_of_ble_eq_true rfl) rfl k
theorem sX36_code_14 {E : zE} {d : Nat} {Q : zO → zM → Prop} (M : zM) (a1 : Nat) (s0 : Int32) (k : Z E YX36_code (d + 1) M [(1, vr (some (a1, 3, 0)))] 26 [] Q) : Z E YX36_code (d + 1) M [(1, vr (some (a1, 3, 0)))] 14 [vi s0] Q := by
  refine z_pop dX36_code_14 rfl ?_
  refine z_goto (tgt := 26) dX36_code_15 rfl ?_
  exact k
theorem sX36_code_26 {E : zE} {d : Nat} {Q : zO → zM → Prop} (M : zM) (r1 : Option zP) (k : ∃ b1 : Nat, r1 = some (b1, 3, 0) ∧ (Z E YX3_goBack d M (zargs 0 [vr (some (b1, 3, 0))]) 0 [] (zafter E YX36_code (d + 1) [] 27 3 [] Q))) : Z E YX36_code (d + 1) M [(1, vr r1)] 26 [] Q := by
  refine z_aload_n dX36_code_26 rfl rfl ?_
  obtain ⟨b1, e1_, k⟩ := k
  refine Z.eqs (lv' := [(1, vr (some (b1, 3, 0)))]) (st' := [vr (some (b1, 3, 0))]) (by rw [e1_] <;> rfl) (by rw [e1_] <;> rfl) ?_
  refine Z.pick [] rfl ?_
  exact z_callV (as := []) (st := []) dX36_code_27 vsX36_25_3 (Nat.le_refl _) (Nat.le_of_ble_eq_true rfl) (Nat.le_of_ble_eq_true rfl) rfl k
theorem sX36_code_30 {E : zE} {d : Nat} {Q : zO → zM → Prop} (M : zM)  (k : Q (.inl none) M) : Z E YX36_code (d + 1) M [] 30 [] Q := by
  exact z_vret dX36_code_30 rfl k
/-! ScriptTypes$Throw.<init>(LScriptTypes$Node;)V -/
theorem bX37_init_0 : zdec cX37_init 0 [(0, .aload_n 0, 1), (1, .invokespecial 3, 3), (4, .aload_n 0, 1), (5, .aload_n 1, 1), (6, .putfield 9, 3), (9, .return_, 1)] = true := by decide +kernel
theorem dX37_init_0 : decode cX37_init 0 = .ok (.aload_n 0, 1) := zdec_at bX37_init_0 0 rfl
theorem dX37_init_1 : decode cX37_init 1 = .ok (.invokespecial 3, 3) := zdec_at bX37_init_0 1 rfl
theorem dX37_init_4 : decode cX37_init 4 = .ok (.aload_n 0, 1) := zdec_at bX37_init_0 2 rfl
theorem dX37_init_5 : decode cX37_init 5 = .ok (.aload_n 1, 1) := zdec_at bX37_init_0 3 rfl
theorem dX37_init_6 : decode cX37_init 6 = .ok (.putfield 9, 3) := zdec_at bX37_init_0 4 rfl
theorem dX37_init_9 : decode cX37_init 9 = .ok (.return_, 1) := zdec_at bX37_init_0 5 rfl
theorem sX37_init_0 {E : zE} {d : Nat} {Q : zO → zM → Prop} (M : zM) (a0 : Nat) (r1 : Option zP) (k : Z E YX13_init d M (zargs 0 [vr (some (a0, 42, 0))]) 0 [] (zafter E YX37_init (d + 1) [(0, vr (some (a0, 42, 0))), (1, vr r1)] 1 3 [] Q)) : Z E YX37_init (d + 1) M [(0, vr (some (a0, 42, 0))), (1, vr r1)] 0 [] Q := by
  refine z_aload_n dX37_init_0 rfl rfl ?_
  exact z_callI (as := []) (st := []) dX37_init_1 isX37_3 (Nat.le_refl _) (Nat.le_of_ble_eq_true rfl) (Nat.le_of_ble_eq_true rfl) rfl k
theorem sX37_init_4 {E : zE} {d : Nat} {Q : zO → zM → Prop} (M : zM) (a0 : Nat) (r1 : Option zP) (k : 16 ≤ a0 ∧ (Q (.inl none) (sr M a0 0 r1))) : Z E YX37_init (d + 1) M [(0, vr (some (a0, 42, 0))), (1, vr r1)] 4 [] Q := by
  refine z_aload_n dX37_init_4 rfl rfl ?_
  refine z_aload_n dX37_init_5 rfl rfl ?_
  obtain ⟨g_, k⟩ := k
  refine z_putr g_ dX37_init_6 (zfwN.f fwX37_9_42 rfl (fun q h => by rw [← Option.some.inj h]; rfl)) rfl ?_
  exact z_vret dX37_init_9 rfl k
/-! ScriptTypes$Throw.code(LScriptTypes$Coder;)V -/
theorem bX37_code_0 : zdec cX37_code 0 [(0, .aload_n 0, 1), (1, .getfield 9, 3), (4, .aload_n 1, 1), (5, .invokevirtual 15, 3), (8, .aload_n 1, 1), (9, .bipush 26, 2), (11, .iconst 0, 1), (12, .iconst 0, 1), (13, .invokevirtual 19, 3), (16, .pop, 1), (17, .return_, 1)] = true := by decide +kernel
theorem dX37_code_0 : decode cX37_code 0 = .ok (.aload_n 0, 1) := zdec_at bX37_code_0 0 rfl
theorem dX37_code_1 : decode cX37_code 1 = .ok (.getfield 9, 3) := zdec_at bX37_code_0 1 rfl
theorem dX37_code_4 : decode cX37_code 4 = .ok (.aload_n 1, 1) := zdec_at bX37_code_0 2 rfl
theorem dX37_code_5 : decode cX37_code 5 = .ok (.invokevirtual 15, 3) := zdec_at bX37_code_0 3 rfl
theorem dX37_code_8 : decode cX37_code 8 = .ok (.aload_n 1, 1) := zdec_at bX37_code_0 4 rfl
theorem dX37_code_9 : decode cX37_code 9 = .ok (.bipush 26, 2) := zdec_at bX37_code_0 5 rfl
theorem dX37_code_11 : decode cX37_code 11 = .ok (.iconst 0, 1) := zdec_at bX37_code_0 6 rfl
theorem dX37_code_12 : decode cX37_code 12 = .ok (.iconst 0, 1) := zdec_at bX37_code_0 7 rfl
theorem dX37_code_13 : decode cX37_code 13 = .ok (.invokevirtual 19, 3) := zdec_at bX37_code_0 8 rfl
theorem dX37_code_16 : decode cX37_code 16 = .ok (.pop, 1) := zdec_at bX37_code_0 9 rfl
theorem dX37_code_17 : decode cX37_code 17 = .ok (.return_, 1) := zdec_at bX37_code_0 10 rfl
theorem sX37_code_0 {E : zE} {d : Nat} {Q : zO → zM → Prop} (M : zM) (a0 : Nat) (r1 : Option zP) (k : ∃ b1 t1 : Nat, (gr M a0 0) = some (b1, t1, 0) ∧ (∃ Y_ : zY, vt_code t1 = some Y_ ∧ Z E Y_ d M (zargs 0 [vr (some (b1, t1, 0)), vr r1]) 0 [] (zafter E YX37_code (d + 1) [(1, vr r1)] 5 3 [] Q))) : Z E YX37_code (d + 1) M [(0, vr (some (a0, 42, 0))), (1, vr r1)] 0 [] Q := by
  refine z_aload_n dX37_code_0 rfl rfl ?_
  refine z_getr (r := (gr M a0 0)) dX37_code_1 fsX37_9_42 rfl ?_
  refine z_aload_n dX37_code_4 rfl rfl ?_
  obtain ⟨b1, t1, e1_, k⟩ := k
  refine Z.eqs (lv' := [(0, vr (some (a0, 42, 0))), (1, vr r1)]) (st' := [vr r1, vr (some (b1, t1, 0))]) rfl (by rw [e1_] <;> rfl) ?_
  refine Z.pick [1] rfl ?_
  obtain ⟨Y_, y_, k⟩ := k
  exact z_callV (as := [vr r1]) (st := []) dX37_code_5 (vtX37_15 y_).1 (Nat.le_refl _) (Nat.le_trans (Nat.le_of_ble_eq_true rfl) (vtX37_15 y_).2.1) (Nat.le_trans (Nat.add_le_add_left (vtX37_15 y_).2.2 _) (Nat.le_of_ble_eq_true rfl)) rfl k
theorem sX37_code_8 {E : zE} {d : Nat} {Q : zO → zM → Prop} (M : zM) (r1 : Option zP) (k : ∃ b1 : Nat, r1 = some (b1, 3, 0) ∧ (Z E YX3_put d M (zargs 0 [vr (some (b1, 3, 0)), vi (26 : Int32), vi (0 : Int32), vi (0 : Int32)]) 0 [] (zafter E YX37_code (d + 1) [] 13 3 [] Q))) : Z E YX37_code (d + 1) M [(1, vr r1)] 8 [] Q := by
  refine z_aload_n dX37_code_8 rfl rfl ?_
  refine z_bipush (v := 26) dX37_code_9 rfl ?_
  refine z_iconst (v := 0) dX37_code_11 rfl ?_
  refine z_iconst (v := 0) dX37_code_12 rfl ?_
  obtain ⟨b1, e1_, k⟩ := k
  refine Z.eqs (lv' := [(1, vr (some (b1, 3, 0)))]) (st' := [vi (0 : Int32), vi (0 : Int32), vi (26 : Int32), vr (some (b1, 3, 0))]) (by rw [e1_] <;> rfl) (by rw [e1_] <;> rfl) ?_
  refine Z.pick [] rfl ?_
  exact z_callV (as := [vi (26 : Int32), vi (0 : Int32), vi (0 : Int32)]) (st := []) dX37_code_13 vsX37_19_3 (Nat.le_refl _) (Nat.le_of_ble_eq_true rfl) (Nat.le_of_ble_eq_true rfl) rfl k
theorem sX37_code_16 {E : zE} {d : Nat} {Q : zO → zM → Prop} (M : zM) (s0 : Int32) (k : Q (.inl none) M) : Z E YX37_code (d + 1) M [] 16 [vi s0] Q := by
  refine z_pop dX37_code_16 rfl ?_
  exact z_vret dX37_code_17 rfl k
/-! ScriptTypes$Try.<init>(LScriptTypes$Node;ILScriptTypes$Node;)V -/
theorem bX38_init_0 : zdec cX38_init 0 [(0, .aload_n 0, 1), (1, .invokespecial 3, 3), (4, .aload_n 0, 1), (5, .aload_n 1, 1), (6, .putfield 9, 3), (9, .aload_n 0, 1), (10, .iload_n 2, 1), (11, .putfield 15, 3), (14, .aload_n 0, 1), (15, .aload_n 3, 1), (16, .putfield 19, 3), (19, .return_, 1)] = true := by decide +kernel
theorem dX38_init_0 : decode cX38_init 0 = .ok (.aload_n 0, 1) := zdec_at bX38_init_0 0 rfl
theorem dX38_init_1 : decode cX38_init 1 = .ok (.invokespecial 3, 3) := zdec_at bX38_init_0 1 rfl
theorem dX38_init_4 : decode cX38_init 4 = .ok (.aload_n 0, 1) := zdec_at bX38_init_0 2 rfl
theorem dX38_init_5 : decode cX38_init 5 = .ok (.aload_n 1, 1) := zdec_at bX38_init_0 3 rfl
theorem dX38_init_6 : decode cX38_init 6 = .ok (.putfield 9, 3) := zdec_at bX38_init_0 4 rfl
theorem dX38_init_9 : decode cX38_init 9 = .ok (.aload_n 0, 1) := zdec_at bX38_init_0 5 rfl
theorem dX38_init_10 : decode cX38_init 10 = .ok (.iload_n 2, 1) := zdec_at bX38_init_0 6 rfl
theorem dX38_init_11 : decode cX38_init 11 = .ok (.putfield 15, 3) := zdec_at bX38_init_0 7 rfl
theorem dX38_init_14 : decode cX38_init 14 = .ok (.aload_n 0, 1) := zdec_at bX38_init_0 8 rfl
theorem dX38_init_15 : decode cX38_init 15 = .ok (.aload_n 3, 1) := zdec_at bX38_init_0 9 rfl
theorem dX38_init_16 : decode cX38_init 16 = .ok (.putfield 19, 3) := zdec_at bX38_init_0 10 rfl
theorem dX38_init_19 : decode cX38_init 19 = .ok (.return_, 1) := zdec_at bX38_init_0 11 rfl
theorem sX38_init_0 {E : zE} {d : Nat} {Q : zO → zM → Prop} (M : zM) (a0 : Nat) (r1 : Option zP) (l2 : Int32) (r3 : Option zP) (k : Z E YX13_init d M (zargs 0 [vr (some (a0, 43, 0))]) 0 [] (zafter E YX38_init (d + 1) [(0, vr (some (a0, 43, 0))), (1, vr r1), (2, vi l2), (3, vr r3)] 1 3 [] Q)) : Z E YX38_init (d + 1) M [(0, vr (some (a0, 43, 0))), (1, vr r1), (2, vi l2), (3, vr r3)] 0 [] Q := by
  refine z_aload_n dX38_init_0 rfl rfl ?_
  exact z_callI (as := []) (st := []) dX38_init_1 isX38_3 (Nat.le_refl _) (Nat.le_of_ble_eq_true rfl) (Nat.le_of_ble_eq_true rfl) rfl k
theorem sX38_init_4 {E : zE} {d : Nat} {Q : zO → zM → Prop} (M : zM) (a0 : Nat) (r1 : Option zP) (l2 : Int32) (r3 : Option zP) (k : 16 ≤ a0 ∧ (16 ≤ a0 ∧ (16 ≤ a0 ∧ (Q (.inl none) (sr (si (sr M a0 0 r1) a0 2 l2) a0 1 r3))))) : Z E YX38_init (d + 1) M [(0, vr (some (a0, 43, 0))), (1, vr r1), (2, vi l2), (3, vr r3)] 4 [] Q := by
  refine z_aload_n dX38_init_4 rfl rfl ?_
  refine z_aload_n dX38_init_5 rfl rfl ?_
  obtain ⟨g_, k⟩ := k
  refine z_putr g_ dX38_init_6 (zfwN.f fwX38_9_43 rfl (fun q h => by rw [← Option.some.inj h]; rfl)) rfl ?_
  refine z_aload_n dX38_init_9 rfl rfl ?_
  refine z_iload_n dX38_init_10 rfl rfl ?_
  obtain ⟨g_, k⟩ := k
  refine z_puti g_ dX38_init_11 (zfwN.f fwX38_15_43 rfl (fun q h => by rw [← Option.some.inj h]; rfl)) rfl ⟨rfl, rfl⟩ ?_
  refine z_aload_n dX38_init_14 rfl rfl ?_
  refine z_aload_n dX38_init_15 rfl rfl ?_
  obtain ⟨g_, k⟩ := k
  refine z_putr g_ dX38_init_16 (zfwN.f fwX38_19_43 rfl (fun q h => by rw [← Option.some.inj h]; rfl)) rfl ?_
  exact z_vret dX38_init_19 rfl k
/-! ScriptTypes$Try.code(LScriptTypes$Coder;)V -/
theorem bX38_code_0 : zdec cX38_code 0 [(0, .aload_n 1, 1), (1, .getfield 22, 3), (4, .sipush 600, 3), (7, .if_icmp .le 4, 3), (10, .return_, 1), (11, .aload_n 1, 1), (12, .bipush 27, 2), (14, .iconst 0, 1), (15, .iconst 0, 1), (16, .invokevirtual 27, 3), (19, .istore_n 2, 1), (20, .aload_n 1, 1), (21, .iconst 2, 1), (22, .invokevirtual 33, 3), (25, .astore_n 3, 1), (26, .aload_n 3, 1)] = true := by decide +kernel
theorem dX38_code_0 : decode cX38_code 0 = .ok (.aload_n 1, 1) := zdec_at bX38_code_0 0 rfl
theorem dX38_code_1 : decode cX38_code 1 = .ok (.getfield 22, 3) := zdec_at bX38_code_0 1 rfl
theorem dX38_code_4 : decode cX38_code 4 = .ok (.sipush 600, 3) := zdec_at bX38_code_0 2 rfl
theorem dX38_code_7 : decode cX38_code 7 = .ok (.if_icmp .le 4, 3) := zdec_at bX38_code_0 3 rfl
theorem dX38_code_10 : decode cX38_code 10 = .ok (.return_, 1) := zdec_at bX38_code_0 4 rfl
theorem dX38_code_11 : decode cX38_code 11 = .ok (.aload_n 1, 1) := zdec_at bX38_code_0 5 rfl
theorem dX38_code_12 : decode cX38_code 12 = .ok (.bipush 27, 2) := zdec_at bX38_code_0 6 rfl
theorem dX38_code_14 : decode cX38_code 14 = .ok (.iconst 0, 1) := zdec_at bX38_code_0 7 rfl
theorem dX38_code_15 : decode cX38_code 15 = .ok (.iconst 0, 1) := zdec_at bX38_code_0 8 rfl
theorem dX38_code_16 : decode cX38_code 16 = .ok (.invokevirtual 27, 3) := zdec_at bX38_code_0 9 rfl
theorem dX38_code_19 : decode cX38_code 19 = .ok (.istore_n 2, 1) := zdec_at bX38_code_0 10 rfl
theorem dX38_code_20 : decode cX38_code 20 = .ok (.aload_n 1, 1) := zdec_at bX38_code_0 11 rfl
theorem dX38_code_21 : decode cX38_code 21 = .ok (.iconst 2, 1) := zdec_at bX38_code_0 12 rfl
theorem dX38_code_22 : decode cX38_code 22 = .ok (.invokevirtual 33, 3) := zdec_at bX38_code_0 13 rfl
theorem dX38_code_25 : decode cX38_code 25 = .ok (.astore_n 3, 1) := zdec_at bX38_code_0 14 rfl
theorem dX38_code_26 : decode cX38_code 26 = .ok (.aload_n 3, 1) := zdec_at bX38_code_0 15 rfl
theorem bX38_code_27 : zdec cX38_code 27 [(27, .iload_n 2, 1), (28, .putfield 37, 3), (31, .aload_n 3, 1), (32, .aload_n 0, 1), (33, .getfield 15, 3), (36, .iconst (-1), 1), (37, .if_icmp .ne 10, 3), (40, .aload_n 0, 1), (41, .getfield 19, 3), (44, .goto 4, 3), (47, .aconst_null, 1), (48, .putfield 40, 3), (51, .aload_n 0, 1), (52, .getfield 9, 3), (55, .aload_n 1, 1), (56, .invokevirtual 43, 3)] = true := by decide +kernel
theorem dX38_code_27 : decode cX38_code 27 = .ok (.iload_n 2, 1) := zdec_at bX38_code_27 0 rfl
theorem dX38_code_28 : decode cX38_code 28 = .ok (.putfield 37, 3) := zdec_at bX38_code_27 1 rfl
theorem dX38_code_31 : decode cX38_code 31 = .ok (.aload_n 3, 1) := zdec_at bX38_code_27 2 rfl
theorem dX38_code_32 : decode cX38_code 32 = .ok (.aload_n 0, 1) := zdec_at bX38_code_27 3 rfl
theorem dX38_code_33 : decode cX38_code 33 = .ok (.getfield 15, 3) := zdec_at bX38_code_27 4 rfl
theorem dX38_code_36 : decode cX38_code 36 = .ok (.iconst (-1), 1) := zdec_at bX38_code_27 5 rfl
theorem dX38_code_37 : decode cX38_code 37 = .ok (.if_icmp .ne 10, 3) := zdec_at bX38_code_27 6 rfl
theorem dX38_code_40 : decode cX38_code 40 = .ok (.aload_n 0, 1) := zdec_at bX38_code_27 7 rfl
theorem dX38_code_41 : decode cX38_code 41 = .ok (.getfield 19, 3) := zdec_at bX38_code_27 8 rfl
theorem dX38_code_44 : decode cX38_code 44 = .ok (.goto 4, 3) := zdec_at bX38_code_27 9 rfl
theorem dX38_code_47 : decode cX38_code 47 = .ok (.aconst_null, 1) := zdec_at bX38_code_27 10 rfl
theorem dX38_code_48 : decode cX38_code 48 = .ok (.putfield 40, 3) := zdec_at bX38_code_27 11 rfl
theorem dX38_code_51 : decode cX38_code 51 = .ok (.aload_n 0, 1) := zdec_at bX38_code_27 12 rfl
theorem dX38_code_52 : decode cX38_code 52 = .ok (.getfield 9, 3) := zdec_at bX38_code_27 13 rfl
theorem dX38_code_55 : decode cX38_code 55 = .ok (.aload_n 1, 1) := zdec_at bX38_code_27 14 rfl
theorem dX38_code_56 : decode cX38_code 56 = .ok (.invokevirtual 43, 3) := zdec_at bX38_code_27 15 rfl
theorem bX38_code_59 : zdec cX38_code 59 [(59, .aload_n 1, 1), (60, .bipush 28, 2), (62, .iconst 0, 1), (63, .iconst 0, 1), (64, .invokevirtual 27, 3), (67, .pop, 1), (68, .aload_n 1, 1), (69, .aload_n 3, 1), (70, .invokevirtual 47, 3), (73, .aload_n 0, 1), (74, .getfield 15, 3), (77, .iconst (-1), 1), (78, .if_icmp .ne 11, 3), (81, .aload_n 0, 1), (82, .getfield 19, 3), (85, .aload_n 1, 1)] = true := by decide +kernel
theorem dX38_code_59 : decode cX38_code 59 = .ok (.aload_n 1, 1) := zdec_at bX38_code_59 0 rfl
theorem dX38_code_60 : decode cX38_code 60 = .ok (.bipush 28, 2) := zdec_at bX38_code_59 1 rfl
theorem dX38_code_62 : decode cX38_code 62 = .ok (.iconst 0, 1) := zdec_at bX38_code_59 2 rfl
theorem dX38_code_63 : decode cX38_code 63 = .ok (.iconst 0, 1) := zdec_at bX38_code_59 3 rfl
theorem dX38_code_64 : decode cX38_code 64 = .ok (.invokevirtual 27, 3) := zdec_at bX38_code_59 4 rfl
theorem dX38_code_67 : decode cX38_code 67 = .ok (.pop, 1) := zdec_at bX38_code_59 5 rfl
theorem dX38_code_68 : decode cX38_code 68 = .ok (.aload_n 1, 1) := zdec_at bX38_code_59 6 rfl
theorem dX38_code_69 : decode cX38_code 69 = .ok (.aload_n 3, 1) := zdec_at bX38_code_59 7 rfl
theorem dX38_code_70 : decode cX38_code 70 = .ok (.invokevirtual 47, 3) := zdec_at bX38_code_59 8 rfl
theorem dX38_code_73 : decode cX38_code 73 = .ok (.aload_n 0, 1) := zdec_at bX38_code_59 9 rfl
theorem dX38_code_74 : decode cX38_code 74 = .ok (.getfield 15, 3) := zdec_at bX38_code_59 10 rfl
theorem dX38_code_77 : decode cX38_code 77 = .ok (.iconst (-1), 1) := zdec_at bX38_code_59 11 rfl
theorem dX38_code_78 : decode cX38_code 78 = .ok (.if_icmp .ne 11, 3) := zdec_at bX38_code_59 12 rfl
theorem dX38_code_81 : decode cX38_code 81 = .ok (.aload_n 0, 1) := zdec_at bX38_code_59 13 rfl
theorem dX38_code_82 : decode cX38_code 82 = .ok (.getfield 19, 3) := zdec_at bX38_code_59 14 rfl
theorem dX38_code_85 : decode cX38_code 85 = .ok (.aload_n 1, 1) := zdec_at bX38_code_59 15 rfl
theorem bX38_code_86 : zdec cX38_code 86 [(86, .invokevirtual 43, 3), (89, .aload_n 1, 1), (90, .bipush 21, 2), (92, .iconst 0, 1), (93, .iconst 0, 1), (94, .invokevirtual 27, 3), (97, .istore 4, 2), (99, .aload_n 1, 1), (100, .iload_n 2, 1), (101, .invokevirtual 51, 3), (104, .aload_n 0, 1), (105, .getfield 15, 3), (108, .iconst (-1), 1), (109, .if_icmp .eq 31, 3), (112, .aload_n 1, 1), (113, .aload_n 0, 1)] = true := by decide +kernel
theorem dX38_code_86 : decode cX38_code 86 = .ok (.invokevirtual 43, 3) := zdec_at bX38_code_86 0 rfl
theorem dX38_code_89 : decode cX38_code 89 = .ok (.aload_n 1, 1) := zdec_at bX38_code_86 1 rfl
theorem dX38_code_90 : decode cX38_code 90 = .ok (.bipush 21, 2) := zdec_at bX38_code_86 2 rfl
theorem dX38_code_92 : decode cX38_code 92 = .ok (.iconst 0, 1) := zdec_at bX38_code_86 3 rfl
theorem dX38_code_93 : decode cX38_code 93 = .ok (.iconst 0, 1) := zdec_at bX38_code_86 4 rfl
theorem dX38_code_94 : decode cX38_code 94 = .ok (.invokevirtual 27, 3) := zdec_at bX38_code_86 5 rfl
theorem dX38_code_97 : decode cX38_code 97 = .ok (.istore 4, 2) := zdec_at bX38_code_86 6 rfl
theorem dX38_code_99 : decode cX38_code 99 = .ok (.aload_n 1, 1) := zdec_at bX38_code_86 7 rfl
theorem dX38_code_100 : decode cX38_code 100 = .ok (.iload_n 2, 1) := zdec_at bX38_code_86 8 rfl
theorem dX38_code_101 : decode cX38_code 101 = .ok (.invokevirtual 51, 3) := zdec_at bX38_code_86 9 rfl
theorem dX38_code_104 : decode cX38_code 104 = .ok (.aload_n 0, 1) := zdec_at bX38_code_86 10 rfl
theorem dX38_code_105 : decode cX38_code 105 = .ok (.getfield 15, 3) := zdec_at bX38_code_86 11 rfl
theorem dX38_code_108 : decode cX38_code 108 = .ok (.iconst (-1), 1) := zdec_at bX38_code_86 12 rfl
theorem dX38_code_109 : decode cX38_code 109 = .ok (.if_icmp .eq 31, 3) := zdec_at bX38_code_86 13 rfl
theorem dX38_code_112 : decode cX38_code 112 = .ok (.aload_n 1, 1) := zdec_at bX38_code_86 14 rfl
theorem dX38_code_113 : decode cX38_code 113 = .ok (.aload_n 0, 1) := zdec_at bX38_code_86 15 rfl
theorem bX38_code_114 : zdec cX38_code 114 [(114, .getfield 15, 3), (117, .invokevirtual 55, 3), (120, .aload_n 1, 1), (121, .bipush 17, 2), (123, .iconst 0, 1), (124, .iconst 0, 1), (125, .invokevirtual 27, 3), (128, .pop, 1), (129, .aload_n 0, 1), (130, .getfield 19, 3), (133, .aload_n 1, 1), (134, .invokevirtual 43, 3), (137, .goto 33, 3), (140, .aload_n 1, 1), (141, .iconst 3, 1), (142, .invokevirtual 33, 3)] = true := by decide +kernel
theorem dX38_code_114 : decode cX38_code 114 = .ok (.getfield 15, 3) := zdec_at bX38_code_114 0 rfl
theorem dX38_code_117 : decode cX38_code 117 = .ok (.invokevirtual 55, 3) := zdec_at bX38_code_114 1 rfl
theorem dX38_code_120 : decode cX38_code 120 = .ok (.aload_n 1, 1) := zdec_at bX38_code_114 2 rfl
theorem dX38_code_121 : decode cX38_code 121 = .ok (.bipush 17, 2) := zdec_at bX38_code_114 3 rfl
theorem dX38_code_123 : decode cX38_code 123 = .ok (.iconst 0, 1) := zdec_at bX38_code_114 4 rfl
theorem dX38_code_124 : decode cX38_code 124 = .ok (.iconst 0, 1) := zdec_at bX38_code_114 5 rfl
theorem dX38_code_125 : decode cX38_code 125 = .ok (.invokevirtual 27, 3) := zdec_at bX38_code_114 6 rfl
theorem dX38_code_128 : decode cX38_code 128 = .ok (.pop, 1) := zdec_at bX38_code_114 7 rfl
theorem dX38_code_129 : decode cX38_code 129 = .ok (.aload_n 0, 1) := zdec_at bX38_code_114 8 rfl
theorem dX38_code_130 : decode cX38_code 130 = .ok (.getfield 19, 3) := zdec_at bX38_code_114 9 rfl
theorem dX38_code_133 : decode cX38_code 133 = .ok (.aload_n 1, 1) := zdec_at bX38_code_114 10 rfl
theorem dX38_code_134 : decode cX38_code 134 = .ok (.invokevirtual 43, 3) := zdec_at bX38_code_114 11 rfl
theorem dX38_code_137 : decode cX38_code 137 = .ok (.goto 33, 3) := zdec_at bX38_code_114 12 rfl
theorem dX38_code_140 : decode cX38_code 140 = .ok (.aload_n 1, 1) := zdec_at bX38_code_114 13 rfl
theorem dX38_code_141 : decode cX38_code 141 = .ok (.iconst 3, 1) := zdec_at bX38_code_114 14 rfl
theorem dX38_code_142 : decode cX38_code 142 = .ok (.invokevirtual 33, 3) := zdec_at bX38_code_114 15 rfl
theorem bX38_code_145 : zdec cX38_code 145 [(145, .astore 5, 2), (147, .aload_n 0, 1), (148, .getfield 19, 3), (151, .aload_n 1, 1), (152, .invokevirtual 43, 3), (155, .aload_n 1, 1), (156, .aload 5, 2), (158, .invokevirtual 47, 3), (161, .aload_n 1, 1), (162, .bipush 26, 2), (164, .iconst 0, 1), (165, .iconst 0, 1), (166, .invokevirtual 27, 3), (169, .pop, 1), (170, .aload_n 1, 1), (171, .iload 4, 2)] = true := by decide +kernel
theorem dX38_code_145 : decode cX38_code 145 = .ok (.astore 5, 2) := zdec_at bX38_code_145 0 rfl
theorem dX38_code_147 : decode cX38_code 147 = .ok (.aload_n 0, 1) := zdec_at bX38_code_145 1 rfl
theorem dX38_code_148 : decode cX38_code 148 = .ok (.getfield 19, 3) := zdec_at bX38_code_145 2 rfl
theorem dX38_code_151 : decode cX38_code 151 = .ok (.aload_n 1, 1) := zdec_at bX38_code_145 3 rfl
theorem dX38_code_152 : decode cX38_code 152 = .ok (.invokevirtual 43, 3) := zdec_at bX38_code_145 4 rfl
theorem dX38_code_155 : decode cX38_code 155 = .ok (.aload_n 1, 1) := zdec_at bX38_code_145 5 rfl
theorem dX38_code_156 : decode cX38_code 156 = .ok (.aload 5, 2) := zdec_at bX38_code_145 6 rfl
theorem dX38_code_158 : decode cX38_code 158 = .ok (.invokevirtual 47, 3) := zdec_at bX38_code_145 7 rfl
theorem dX38_code_161 : decode cX38_code 161 = .ok (.aload_n 1, 1) := zdec_at bX38_code_145 8 rfl
theorem dX38_code_162 : decode cX38_code 162 = .ok (.bipush 26, 2) := zdec_at bX38_code_145 9 rfl
theorem dX38_code_164 : decode cX38_code 164 = .ok (.iconst 0, 1) := zdec_at bX38_code_145 10 rfl
theorem dX38_code_165 : decode cX38_code 165 = .ok (.iconst 0, 1) := zdec_at bX38_code_145 11 rfl
theorem dX38_code_166 : decode cX38_code 166 = .ok (.invokevirtual 27, 3) := zdec_at bX38_code_145 12 rfl
theorem dX38_code_169 : decode cX38_code 169 = .ok (.pop, 1) := zdec_at bX38_code_145 13 rfl
theorem dX38_code_170 : decode cX38_code 170 = .ok (.aload_n 1, 1) := zdec_at bX38_code_145 14 rfl
theorem dX38_code_171 : decode cX38_code 171 = .ok (.iload 4, 2) := zdec_at bX38_code_145 15 rfl
theorem bX38_code_173 : zdec cX38_code 173 [(173, .invokevirtual 51, 3), (176, .return_, 1)] = true := by decide +kernel
theorem dX38_code_173 : decode cX38_code 173 = .ok (.invokevirtual 51, 3) := zdec_at bX38_code_173 0 rfl
theorem dX38_code_176 : decode cX38_code 176 = .ok (.return_, 1) := zdec_at bX38_code_173 1 rfl
theorem sX38_code_0 {E : zE} {d : Nat} {Q : zO → zM → Prop} (M : zM) (a0 : Nat) (r1 : Option zP) (k : ∃ b1 : Nat, r1 = some (b1, 3, 0) ∧ (if (gi M b1 7) ≤ (600 : Int32) then (Z E YX3_put d M (zargs 0 [vr (some (b1, 3, 0)), vi (27 : Int32), vi (0 : Int32), vi (0 : Int32)]) 0 [] (zafter E YX38_code (d + 1) [(0, vr (some (a0, 43, 0))), (1, vr (some (b1, 3, 0)))] 16 3 [] Q)) else (Q (.inl none) M))) : Z E YX38_code (d + 1) M [(0, vr (some (a0, 43, 0))), (1, vr r1)] 0 [] Q := by
  refine z_aload_n dX38_code_0 rfl rfl ?_
  obtain ⟨b1, e1_, k⟩ := k
  refine Z.eqs (lv' := [(0, vr (some (a0, 43, 0))), (1, vr (some (b1, 3, 0)))]) (st' := [vr (some (b1, 3, 0))]) (by rw [e1_] <;> rfl) (by rw [e1_] <;> rfl) ?_
  refine z_geti dX38_code_1 fsX38_22_3 ?_
  refine z_sipush (v := 600) dX38_code_4 rfl ?_
  refine z_icmp_le (tgt := 11) dX38_code_7 rfl (fun h_ => ?_) (fun h_ => ?_)
  · have k := zit h_ k
    refine z_aload_n dX38_code_11 rfl rfl ?_
    refine z_bipush (v := 27) dX38_code_12 rfl ?_
    refine z_iconst (v := 0) dX38_code_14 rfl ?_
    refine z_iconst (v := 0) dX38_code_15 rfl ?_
    exact z_callV (as := [vi (27 : Int32), vi (0 : Int32), vi (0 : Int32)]) (st := []) dX38_code_16 vsX38_27_3 (Nat.le_refl _) (Nat.le_of_ble_eq_true rfl) (Nat.le_of_ble_eq_true rfl) rfl k
  · have k := zif h_ k
    exact z_vret dX38_code_10 rfl k
theorem sX38_code_19 {E : zE} {d : Nat} {Q : zO → zM → Prop} (M : zM) (a0 : Nat) (a1 : Nat) (s0 : Int32) (k : Z E YX3_enter d M (zargs 0 [vr (some (a1, 3, 0)), vi (2 : Int32)]) 0 [] (zafter E YX38_code (d + 1) [(0, vr (some (a0, 43, 0))), (1, vr (some (a1, 3, 0))), (2, vi s0)] 22 3 [] Q)) : Z E YX38_code (d + 1) M [(0, vr (some (a0, 43, 0))), (1, vr (some (a1, 3, 0)))] 19 [vi s0] Q := by
  refine z_ist_n dX38_code_19 rfl (by decide) (lv' := [(0, vr (some (a0, 43, 0))), (1, vr (some (a1, 3, 0))), (2, vi s0)]) rfl ?_
  refine z_aload_n dX38_code_20 rfl rfl ?_
  refine z_iconst (v := 2) dX38_code_21 rfl ?_
  exact z_callV (as := [vi (2 : Int32)]) (st := []) dX38_code_22 vsX38_33_3 (Nat.le_refl _) (Nat.le_of_ble_eq_true rfl) (Nat.le_of_ble_eq_true rfl) rfl k
theorem sX38_code_25 {E : zE} {d : Nat} {Q : zO → zM → Prop} (M : zM) (a0 : Nat) (a1 : Nat) (l2 : Int32) (u0 : Option zP) (k : ∃ b1 : Nat, u0 = some (b1, 17, 0) ∧ (16 ≤ b1 ∧ (if (gi (si M b1 7 l2) a0 2) = (-1 : Int32) then (16 ≤ b1 ∧ (∃ b2 t2 : Nat, (gr (sr (si M b1 7 l2) b1 6 (gr M a0 1)) a0 0) = some (b2, t2, 0) ∧ (∃ Y_ : zY, vt_code t2 = some Y_ ∧ Z E Y_ d (sr (si M b1 7 l2) b1 6 (gr M a0 1)) (zargs 0 [vr (some (b2, t2, 0)), vr (some (a1, 3, 0))]) 0 [] (zafter E YX38_code (d + 1) [(0, vr (some (a0, 43, 0))), (1, vr (some (a1, 3, 0))), (2, vi l2), (3, vr (some (b1, 17, 0)))] 56 3 [] Q)))) else (16 ≤ b1 ∧ (∃ b2 t2 : Nat, (gr (sr (si M b1 7 l2) b1 6 none) a0 0) = some (b2, t2, 0) ∧ (∃ Y_ : zY, vt_code t2 = some Y_ ∧ Z E Y_ d (sr (si M b1 7 l2) b1 6 none) (zargs 0 [vr (some (b2, t2, 0)), vr (some (a1, 3, 0))]) 0 [] (zafter E YX38_code (d + 1) [(0, vr (some (a0, 43, 0))), (1, vr (some (a1, 3, 0))), (2, vi l2), (3, vr (some (b1, 17, 0)))] 56 3 [] Q))))))) : Z E YX38_code (d + 1) M [(0, vr (some (a0, 43, 0))), (1, vr (some (a1, 3, 0))), (2, vi l2)] 25 [vr u0] Q := by
  refine z_ast_n dX38_code_25 rfl (by decide) (lv' := [(0, vr (some (a0, 43, 0))), (1, vr (some (a1, 3, 0))), (2, vi l2), (3, vr u0)]) rfl ?_
  refine z_aload_n dX38_code_26 rfl rfl ?_
  refine z_iload_n dX38_code_27 rfl rfl ?_
  obtain ⟨b1, e1_, k⟩ := k
  refine Z.eqs (lv' := [(0, vr (some (a0, 43, 0))), (1, vr (some (a1, 3, 0))), (2, vi l2), (3, vr (some (b1, 17, 0)))]) (st' := [vi l2, vr (some (b1, 17, 0))]) (by rw [e1_] <;> rfl) (by rw [e1_] <;> rfl) ?_
  obtain ⟨g_, k⟩ := k
  refine z_puti g_ dX38_code_28 (zfwN.w fwX38_37_17) rfl ⟨rfl, rfl⟩ ?_
  refine z_aload_n dX38_code_31 rfl rfl ?_
  refine z_aload_n dX38_code_32 rfl rfl ?_
  refine z_geti dX38_code_33 fsX38_15_43 ?_
  refine z_iconst (v := -1) dX38_code_36 rfl ?_
  refine z_icmp_ne (tgt := 47) dX38_code_37 rfl (fun h_ => ?_) (fun h_ => ?_)
  · have k := zif h_ k
    refine z_null dX38_code_47 ?_
    obtain ⟨g_, k⟩ := k
    refine z_putr g_ dX38_code_48 (zfwN.w fwX38_40_17) rfl ?_
    refine z_aload_n dX38_code_51 rfl rfl ?_
    refine z_getr (r := (gr (sr (si M b1 7 l2) b1 6 none) a0 0)) dX38_code_52 fsX38_9_43 rfl ?_
    refine z_aload_n dX38_code_55 rfl rfl ?_
    obtain ⟨b2, t2, e2_, k⟩ := k
    refine Z.eqs (lv' := [(0, vr (some (a0, 43, 0))), (1, vr (some (a1, 3, 0))), (2, vi l2), (3, vr (some (b1, 17, 0)))]) (st' := [vr (some (a1, 3, 0)), vr (some (b2, t2, 0))]) rfl (by rw [e2_] <;> rfl) ?_
    obtain ⟨Y_, y_, k⟩ := k
    exact z_callV (as := [vr (some (a1, 3, 0))]) (st := []) dX38_code_56 (vtX38_43 y_).1 (Nat.le_refl _) (Nat.le_trans (Nat.le_of_ble_eq_true rfl) (vtX38_43 y_).2.1) (Nat.le_trans (Nat.add_le_add_left (vtX38_43 y_).2.2 _) (Nat.le_of_ble_eq_true rfl)) rfl k
  · have k := zit h_ k
    refine z_aload_n dX38_code_40 rfl rfl ?_
    refine z_getr (r := (gr M a0 1)) dX38_code_41 fsX38_19_43 rfl ?_
    refine z_goto (tgt := 48) dX38_code_44 rfl ?_
    obtain ⟨g_, k⟩ := k
    refine z_putr g_ dX38_code_48 (zfwN.w fwX38_40_17) rfl ?_
    refine z_aload_n dX38_code_51 rfl rfl ?_
    refine z_getr (r := (gr (sr (si M b1 7 l2) b1 6 (gr M a0 1)) a0 0)) dX38_code_52 fsX38_9_43 rfl ?_
    refine z_aload_n dX38_code_55 rfl rfl ?_
    obtain ⟨b2, t2, e2_, k⟩ := k
    refine Z.eqs (lv' := [(0, vr (some (a0, 43, 0))), (1, vr (some (a1, 3, 0))), (2, vi l2), (3, vr (some (b1, 17, 0)))]) (st' := [vr (some (a1, 3, 0)), vr (some (b2, t2, 0))]) rfl (by rw [e2_] <;> rfl) ?_
    obtain ⟨Y_, y_, k⟩ := k
    exact z_callV (as := [vr (some (a1, 3, 0))]) (st := []) dX38_code_56 (vtX38_43 y_).1 (Nat.le_refl _) (Nat.le_trans (Nat.le_of_ble_eq_true rfl) (vtX38_43 y_).2.1) (Nat.le_trans (Nat.add_le_add_left (vtX38_43 y_).2.2 _) (Nat.le_of_ble_eq_true rfl)) rfl k
theorem sX38_code_59 {E : zE} {d : Nat} {Q : zO → zM → Prop} (M : zM) (a0 : Nat) (a1 : Nat) (l2 : Int32) (a3 : Nat) (k : Z E YX3_put d M (zargs 0 [vr (some (a1, 3, 0)), vi (28 : Int32), vi (0 : Int32), vi (0 : Int32)]) 0 [] (zafter E YX38_code (d + 1) [(0, vr (some (a0, 43, 0))), (1, vr (some (a1, 3, 0))), (2, vi l2), (3, vr (some (a3, 17, 0)))] 64 3 [] Q)) : Z E YX38_code (d + 1) M [(0, vr (some (a0, 43, 0))), (1, vr (some (a1, 3, 0))), (2, vi l2), (3, vr (some (a3, 17, 0)))] 59 [] Q := by
  refine z_aload_n dX38_code_59 rfl rfl ?_
  refine z_bipush (v := 28) dX38_code_60 rfl ?_
  refine z_iconst (v := 0) dX38_code_62 rfl ?_
  refine z_iconst (v := 0) dX38_code_63 rfl ?_
  exact z_callV (as := [vi (28 : Int32), vi (0 : Int32), vi (0 : Int32)]) (st := []) dX38_code_64 vsX38_27_3 (Nat.le_refl _) (Nat.le_of_ble_eq_true rfl) (Nat.le_of_ble_eq_true rfl) rfl k
theorem sX38_code_67 {E : zE} {d : Nat} {Q : zO → zM → Prop} (M : zM) (a0 : Nat) (a1 : Nat) (l2 : Int32) (a3 : Nat) (s0 : Int32) (k : Z E YX3_leave d M (zargs 0 [vr (some (a1, 3, 0)), vr (some (a3, 17, 0))]) 0 [] (zafter E YX38_code (d + 1) [(0, vr (some (a0, 43, 0))), (1, vr (some (a1, 3, 0))), (2, vi l2)] 70 3 [] Q)) : Z E YX38_code (d + 1) M [(0, vr (some (a0, 43, 0))), (1, vr (some (a1, 3, 0))), (2, vi l2), (3, vr (some (a3, 17, 0)))] 67 [vi s0] Q := by
  refine z_pop dX38_code_67 rfl ?_
  refine z_aload_n dX38_code_68 rfl rfl ?_
  refine z_aload_n dX38_code_69 rfl rfl ?_
  refine Z.pick [0, 1, 2] rfl ?_
  exact z_callV (as := [vr (some (a3, 17, 0))]) (st := []) dX38_code_70 vsX38_47_3 (Nat.le_refl _) (Nat.le_of_ble_eq_true rfl) (Nat.le_of_ble_eq_true rfl) rfl k
theorem sX38_code_73 {E : zE} {d : Nat} {Q : zO → zM → Prop} (M : zM) (a0 : Nat) (a1 : Nat) (l2 : Int32) (k : if (gi M a0 2) = (-1 : Int32) then (∃ b1 t1 : Nat, (gr M a0 1) = some (b1, t1, 0) ∧ (∃ Y_ : zY, vt_code t1 = some Y_ ∧ Z E Y_ d M (zargs 0 [vr (some (b1, t1, 0)), vr (some (a1, 3, 0))]) 0 [] (zafter E YX38_code (d + 1) [(0, vr (some (a0, 43, 0))), (1, vr (some (a1, 3, 0))), (2, vi l2)] 86 3 [] Q))) else (Z E YX38_code (d + 1) M [(0, vr (some (a0, 43, 0))), (1, vr (some (a1, 3, 0))), (2, vi l2)] 89 [] Q)) : Z E YX38_code (d + 1) M [(0, vr (some (a0, 43, 0))), (1, vr (some (a1, 3, 0))), (2, vi l2)] 73 [] Q := by
  refine z_aload_n dX38_code_73 rfl rfl ?_
  refine z_geti dX38_code_74 fsX38_15_43 ?_
  refine z_iconst (v := -1) dX38_code_77 rfl ?_
  refine z_icmp_ne (tgt := 89) dX38_code_78 rfl (fun h_ => ?_) (fun h_ => ?_)
  · have k := zif h_ k
    exact k
  · have k := zit h_ k
    refine z_aload_n dX38_code_81 rfl rfl ?_
    refine z_getr (r := (gr M a0 1)) dX38_code_82 fsX38_19_43 rfl ?_
    refine z_aload_n dX38_code_85 rfl rfl ?_
    obtain ⟨b1, t1, e1_, k⟩ := k
    refine Z.eqs (lv' := [(0, vr (some (a0, 43, 0))), (1, vr (some (a1, 3, 0))), (2, vi l2)]) (st' := [vr (some (a1, 3, 0)), vr (some (b1, t1, 0))]) rfl (by rw [e1_] <;> rfl) ?_
    obtain ⟨Y_, y_, k⟩ := k
    exact z_callV (as := [vr (some (a1, 3, 0))]) (st := []) dX38_code_86 (vtX38_43 y_).1 (Nat.le_refl _) (Nat.le_trans (Nat.le_of_ble_eq_true rfl) (vtX38_43 y_).2.1) (Nat.le_trans (Nat.add_le_add_left (vtX38_43 y_).2.2 _) (Nat.le_of_ble_eq_true rfl)) rfl k
theorem sX38_code_89 {E : zE} {d : Nat} {Q : zO → zM → Prop} (M : zM) (a0 : Nat) (a1 : Nat) (l2 : Int32) (k : Z E YX3_put d M (zargs 0 [vr (some (a1, 3, 0)), vi (21 : Int32), vi (0 : Int32), vi (0 : Int32)]) 0 [] (zafter E YX38_code (d + 1) [(0, vr (some (a0, 43, 0))), (1, vr (some (a1, 3, 0))), (2, vi l2)] 94 3 [] Q)) : Z E YX38_code (d + 1) M [(0, vr (some (a0, 43, 0))), (1, vr (some (a1, 3, 0))), (2, vi l2)] 89 [] Q := by
  refine z_aload_n dX38_code_89 rfl rfl ?_
  refine z_bipush (v := 21) dX38_code_90 rfl ?_
  refine z_iconst (v := 0) dX38_code_92 rfl ?_
  refine z_iconst (v := 0) dX38_code_93 rfl ?_
  exact z_callV (as := [vi (21 : Int32), vi (0 : Int32), vi (0 : Int32)]) (st := []) dX38_code_94 vsX38_27_3 (Nat.le_refl _) (Nat.le_of_ble_eq_true rfl) (Nat.le_of_ble_eq_true rfl) rfl k
theorem sX38_code_97 {E : zE} {d : Nat} {Q : zO → zM → Prop} (M : zM) (a0 : Nat) (a1 : Nat) (l2 : Int32) (s0 : Int32) (k : Z E YX3_goal d M (zargs 0 [vr (some (a1, 3, 0)), vi l2]) 0 [] (zafter E YX38_code (d + 1) [(0, vr (some (a0, 43, 0))), (1, vr (some (a1, 3, 0))), (4, vi s0)] 101 3 [] Q)) : Z E YX38_code (d + 1) M [(0, vr (some (a0, 43, 0))), (1, vr (some (a1, 3, 0))), (2, vi l2)] 97 [vi s0] Q := by
  refine z_ist dX38_code_97 (by decide) (lv' := [(0, vr (some (a0, 43, 0))), (1, vr (some (a1, 3, 0))), (2, vi l2), (4, vi s0)]) rfl ?_
  refine z_aload_n dX38_code_99 rfl rfl ?_
  refine z_iload_n dX38_code_100 rfl rfl ?_
  refine Z.pick [0, 1, 3] rfl ?_
  exact z_callV (as := [vi l2]) (st := []) dX38_code_101 vsX38_51_3 (Nat.le_refl _) (Nat.le_of_ble_eq_true rfl) (Nat.le_of_ble_eq_true rfl) rfl k
theorem sX38_code_104 {E : zE} {d : Nat} {Q : zO → zM → Prop} (M : zM) (a0 : Nat) (a1 : Nat) (l4 : Int32) (k : if (gi M a0 2) = (-1 : Int32) then (Z E YX3_enter d M (zargs 0 [vr (some (a1, 3, 0)), vi (3 : Int32)]) 0 [] (zafter E YX38_code (d + 1) [(0, vr (some (a0, 43, 0))), (1, vr (some (a1, 3, 0))), (4, vi l4)] 142 3 [] Q)) else (Z E YX3_set d M (zargs 0 [vr (some (a1, 3, 0)), vi (gi M a0 2)]) 0 [] (zafter E YX38_code (d + 1) [(0, vr (some (a0, 43, 0))), (1, vr (some (a1, 3, 0))), (4, vi l4)] 117 3 [] Q))) : Z E YX38_code (d + 1) M [(0, vr (some (a0, 43, 0))), (1, vr (some (a1, 3, 0))), (4, vi l4)] 104 [] Q := by
  refine z_aload_n dX38_code_104 rfl rfl ?_
  refine z_geti dX38_code_105 fsX38_15_43 ?_
  refine z_iconst (v := -1) dX38_code_108 rfl ?_
  refine z_icmp_eq (tgt := 140) dX38_code_109 rfl (fun h_ => ?_) (fun h_ => ?_)
  · have k := zit h_ k
    refine z_aload_n dX38_code_140 rfl rfl ?_
    refine z_iconst (v := 3) dX38_code_141 rfl ?_
    exact z_callV (as := [vi (3 : Int32)]) (st := []) dX38_code_142 vsX38_33_3 (Nat.le_refl _) (Nat.le_of_ble_eq_true rfl) (Nat.le_of_ble_eq_true rfl) rfl k
  · have k := zif h_ k
    refine z_aload_n dX38_code_112 rfl rfl ?_
    refine z_aload_n dX38_code_113 rfl rfl ?_
    refine z_geti dX38_code_114 fsX38_15_43 ?_
    exact z_callV (as := [vi (gi M a0 2)]) (st := []) dX38_code_117 vsX38_55_3 (Nat.le_refl _) (Nat.le_of_ble_eq_true rfl) (Nat.le_of_ble_eq_true rfl) rfl k
theorem sX38_code_120 {E : zE} {d : Nat} {Q : zO → zM → Prop} (M : zM) (a0 : Nat) (a1 : Nat) (l4 : Int32) (k : Z E YX3_put d M (zargs 0 [vr (some (a1, 3, 0)), vi (17 : Int32), vi (0 : Int32), vi (0 : Int32)]) 0 [] (zafter E YX38_code (d + 1) [(0, vr (some (a0, 43, 0))), (1, vr (some (a1, 3, 0))), (4, vi l4)] 125 3 [] Q)) : Z E YX38_code (d + 1) M [(0, vr (some (a0, 43, 0))), (1, vr (some (a1, 3, 0))), (4, vi l4)] 120 [] Q := by
  refine z_aload_n dX38_code_120 rfl rfl ?_
  refine z_bipush (v := 17) dX38_code_121 rfl ?_
  refine z_iconst (v := 0) dX38_code_123 rfl ?_
  refine z_iconst (v := 0) dX38_code_124 rfl ?_
  exact z_callV (as := [vi (17 : Int32), vi (0 : Int32), vi (0 : Int32)]) (st := []) dX38_code_125 vsX38_27_3 (Nat.le_refl _) (Nat.le_of_ble_eq_true rfl) (Nat.le_of_ble_eq_true rfl) rfl k
theorem sX38_code_128 {E : zE} {d : Nat} {Q : zO → zM → Prop} (M : zM) (a0 : Nat) (a1 : Nat) (l4 : Int32) (s0 : Int32) (k : ∃ b1 t1 : Nat, (gr M a0 1) = some (b1, t1, 0) ∧ (∃ Y_ : zY, vt_code t1 = some Y_ ∧ Z E Y_ d M (zargs 0 [vr (some (b1, t1, 0)), vr (some (a1, 3, 0))]) 0 [] (zafter E YX38_code (d + 1) [(1, vr (some (a1, 3, 0))), (4, vi l4)] 134 3 [] Q))) : Z E YX38_code (d + 1) M [(0, vr (some (a0, 43, 0))), (1, vr (some (a1, 3, 0))), (4, vi l4)] 128 [vi s0] Q := by
  refine z_pop dX38_code_128 rfl ?_
  refine z_aload_n dX38_code_129 rfl rfl ?_
  refine z_getr (r := (gr M a0 1)) dX38_code_130 fsX38_19_43 rfl ?_
  refine z_aload_n dX38_code_133 rfl rfl ?_
  obtain ⟨b1, t1, e1_, k⟩ := k
  refine Z.eqs (lv' := [(0, vr (some (a0, 43, 0))), (1, vr (some (a1, 3, 0))), (4, vi l4)]) (st' := [vr (some (a1, 3, 0)), vr (some (b1, t1, 0))]) rfl (by rw [e1_] <;> rfl) ?_
  refine Z.pick [1, 2] rfl ?_
  obtain ⟨Y_, y_, k⟩ := k
  exact z_callV (as := [vr (some (a1, 3, 0))]) (st := []) dX38_code_134 (vtX38_43 y_).1 (Nat.le_refl _) (Nat.le_trans (Nat.le_of_ble_eq_true rfl) (vtX38_43 y_).2.1) (Nat.le_trans (Nat.add_le_add_left (vtX38_43 y_).2.2 _) (Nat.le_of_ble_eq_true rfl)) rfl k
theorem sX38_code_137 {E : zE} {d : Nat} {Q : zO → zM → Prop} (M : zM) (a1 : Nat) (l4 : Int32) (k : Z E YX3_goal d M (zargs 0 [vr (some (a1, 3, 0)), vi l4]) 0 [] (zafter E YX38_code (d + 1) [] 173 3 [] Q)) : Z E YX38_code (d + 1) M [(1, vr (some (a1, 3, 0))), (4, vi l4)] 137 [] Q := by
  refine z_goto (tgt := 170) dX38_code_137 rfl ?_
  refine z_aload_n dX38_code_170 rfl rfl ?_
  refine z_iload dX38_code_171 rfl ?_
  refine Z.pick [] rfl ?_
  exact z_callV (as := [vi l4]) (st := []) dX38_code_173 vsX38_51_3 (Nat.le_refl _) (Nat.le_of_ble_eq_true rfl) (Nat.le_of_ble_eq_true rfl) rfl k
theorem sX38_code_145 {E : zE} {d : Nat} {Q : zO → zM → Prop} (M : zM) (a0 : Nat) (a1 : Nat) (l4 : Int32) (u0 : Option zP) (k : ∃ b1 t1 : Nat, (gr M a0 1) = some (b1, t1, 0) ∧ (∃ Y_ : zY, vt_code t1 = some Y_ ∧ Z E Y_ d M (zargs 0 [vr (some (b1, t1, 0)), vr (some (a1, 3, 0))]) 0 [] (zafter E YX38_code (d + 1) [(1, vr (some (a1, 3, 0))), (4, vi l4), (5, vr u0)] 152 3 [] Q))) : Z E YX38_code (d + 1) M [(0, vr (some (a0, 43, 0))), (1, vr (some (a1, 3, 0))), (4, vi l4)] 145 [vr u0] Q := by
  refine z_ast dX38_code_145 (by decide) (lv' := [(0, vr (some (a0, 43, 0))), (1, vr (some (a1, 3, 0))), (4, vi l4), (5, vr u0)]) rfl ?_
  refine z_aload_n dX38_code_147 rfl rfl ?_
  refine z_getr (r := (gr M a0 1)) dX38_code_148 fsX38_19_43 rfl ?_
  refine z_aload_n dX38_code_151 rfl rfl ?_
  obtain ⟨b1, t1, e1_, k⟩ := k
  refine Z.eqs (lv' := [(0, vr (some (a0, 43, 0))), (1, vr (some (a1, 3, 0))), (4, vi l4), (5, vr u0)]) (st' := [vr (some (a1, 3, 0)), vr (some (b1, t1, 0))]) rfl (by rw [e1_] <;> rfl) ?_
  refine Z.pick [1, 2, 3] rfl ?_
  obtain ⟨Y_, y_, k⟩ := k
  exact z_callV (as := [vr (some (a1, 3, 0))]) (st := []) dX38_code_152 (vtX38_43 y_).1 (Nat.le_refl _) (Nat.le_trans (Nat.le_of_ble_eq_true rfl) (vtX38_43 y_).2.1) (Nat.le_trans (Nat.add_le_add_left (vtX38_43 y_).2.2 _) (Nat.le_of_ble_eq_true rfl)) rfl k
theorem sX38_code_155 {E : zE} {d : Nat} {Q : zO → zM → Prop} (M : zM) (a1 : Nat) (l4 : Int32) (r5 : Option zP) (k : Z E YX3_leave d M (zargs 0 [vr (some (a1, 3, 0)), vr r5]) 0 [] (zafter E YX38_code (d + 1) [(1, vr (some (a1, 3, 0))), (4, vi l4)] 158 3 [] Q)) : Z E YX38_code (d + 1) M [(1, vr (some (a1, 3, 0))), (4, vi l4), (5, vr r5)] 155 [] Q := by
  refine z_aload_n dX38_code_155 rfl rfl ?_
  refine z_aload dX38_code_156 rfl ?_
  refine Z.pick [0, 1] rfl ?_
  exact z_callV (as := [vr r5]) (st := []) dX38_code_158 vsX38_47_3 (Nat.le_refl _) (Nat.le_of_ble_eq_true rfl) (Nat.le_of_ble_eq_true rfl) rfl k
theorem sX38_code_161 {E : zE} {d : Nat} {Q : zO → zM → Prop} (M : zM) (a1 : Nat) (l4 : Int32) (k : Z E YX3_put d M (zargs 0 [vr (some (a1, 3, 0)), vi (26 : Int32), vi (0 : Int32), vi (0 : Int32)]) 0 [] (zafter E YX38_code (d + 1) [(1, vr (some (a1, 3, 0))), (4, vi l4)] 166 3 [] Q)) : Z E YX38_code (d + 1) M [(1, vr (some (a1, 3, 0))), (4, vi l4)] 161 [] Q := by
  refine z_aload_n dX38_code_161 rfl rfl ?_
  refine z_bipush (v := 26) dX38_code_162 rfl ?_
  refine z_iconst (v := 0) dX38_code_164 rfl ?_
  refine z_iconst (v := 0) dX38_code_165 rfl ?_
  exact z_callV (as := [vi (26 : Int32), vi (0 : Int32), vi (0 : Int32)]) (st := []) dX38_code_166 vsX38_27_3 (Nat.le_refl _) (Nat.le_of_ble_eq_true rfl) (Nat.le_of_ble_eq_true rfl) rfl k
theorem sX38_code_169 {E : zE} {d : Nat} {Q : zO → zM → Prop} (M : zM) (a1 : Nat) (l4 : Int32) (s0 : Int32) (k : Z E YX3_goal d M (zargs 0 [vr (some (a1, 3, 0)), vi l4]) 0 [] (zafter E YX38_code (d + 1) [] 173 3 [] Q)) : Z E YX38_code (d + 1) M [(1, vr (some (a1, 3, 0))), (4, vi l4)] 169 [vi s0] Q := by
  refine z_pop dX38_code_169 rfl ?_
  refine z_aload_n dX38_code_170 rfl rfl ?_
  refine z_iload dX38_code_171 rfl ?_
  refine Z.pick [] rfl ?_
  exact z_callV (as := [vi l4]) (st := []) dX38_code_173 vsX38_51_3 (Nat.le_refl _) (Nat.le_of_ble_eq_true rfl) (Nat.le_of_ble_eq_true rfl) rfl k
theorem sX38_code_176 {E : zE} {d : Nat} {Q : zO → zM → Prop} (M : zM)  (k : Q (.inl none) M) : Z E YX38_code (d + 1) M [] 176 [] Q := by
  exact z_vret dX38_code_176 rfl k
/-! ScriptTypes$Switch.<init>(LScriptTypes$Node;)V -/
theorem bX39_init_0 : zdec cX39_init 0 [(0, .aload_n 0, 1), (1, .invokespecial 3, 3), (4, .aload_n 0, 1), (5, .new 9, 3), (8, .dup, 1), (9, .invokespecial 11, 3), (12, .putfield 12, 3), (15, .aload_n 0, 1), (16, .new 9, 3), (19, .dup, 1), (20, .invokespecial 11, 3), (23, .putfield 18, 3), (26, .aload_n 0, 1), (27, .aload_n 1, 1), (28, .putfield 21, 3), (31, .return_, 1)] = true := by decide +kernel
theorem dX39_init_0 : decode cX39_init 0 = .ok (.aload_n 0, 1) := zdec_at bX39_init_0 0 rfl
theorem dX39_init_1 : decode cX39_init 1 = .ok (.invokespecial 3, 3) := zdec_at bX39_init_0 1 rfl
theorem dX39_init_4 : decode cX39_init 4 = .ok (.aload_n 0, 1) := zdec_at bX39_init_0 2 rfl
theorem dX39_init_5 : decode cX39_init 5 = .ok (.new 9, 3) := zdec_at bX39_init_0 3 rfl
theorem dX39_init_8 : decode cX39_init 8 = .ok (.dup, 1) := zdec_at bX39_init_0 4 rfl
theorem dX39_init_9 : decode cX39_init 9 = .ok (.invokespecial 11, 3) := zdec_at bX39_init_0 5 rfl
theorem dX39_init_12 : decode cX39_init 12 = .ok (.putfield 12, 3) := zdec_at bX39_init_0 6 rfl
theorem dX39_init_15 : decode cX39_init 15 = .ok (.aload_n 0, 1) := zdec_at bX39_init_0 7 rfl
theorem dX39_init_16 : decode cX39_init 16 = .ok (.new 9, 3) := zdec_at bX39_init_0 8 rfl
theorem dX39_init_19 : decode cX39_init 19 = .ok (.dup, 1) := zdec_at bX39_init_0 9 rfl
theorem dX39_init_20 : decode cX39_init 20 = .ok (.invokespecial 11, 3) := zdec_at bX39_init_0 10 rfl
theorem dX39_init_23 : decode cX39_init 23 = .ok (.putfield 18, 3) := zdec_at bX39_init_0 11 rfl
theorem dX39_init_26 : decode cX39_init 26 = .ok (.aload_n 0, 1) := zdec_at bX39_init_0 12 rfl
theorem dX39_init_27 : decode cX39_init 27 = .ok (.aload_n 1, 1) := zdec_at bX39_init_0 13 rfl
theorem dX39_init_28 : decode cX39_init 28 = .ok (.putfield 21, 3) := zdec_at bX39_init_0 14 rfl
theorem dX39_init_31 : decode cX39_init 31 = .ok (.return_, 1) := zdec_at bX39_init_0 15 rfl
theorem sX39_init_0 {E : zE} {d : Nat} {Q : zO → zM → Prop} (M : zM) (a0 : Nat) (r1 : Option zP) (k : Z E YX13_init d M (zargs 0 [vr (some (a0, 44, 0))]) 0 [] (zafter E YX39_init (d + 1) [(0, vr (some (a0, 44, 0))), (1, vr r1)] 1 3 [] Q)) : Z E YX39_init (d + 1) M [(0, vr (some (a0, 44, 0))), (1, vr r1)] 0 [] Q := by
  refine z_aload_n dX39_init_0 rfl rfl ?_
  exact z_callI (as := []) (st := []) dX39_init_1 isX39_3 (Nat.le_refl _) (Nat.le_of_ble_eq_true rfl) (Nat.le_of_ble_eq_true rfl) rfl k
theorem sX39_init_4 {E : zE} {d : Nat} {Q : zO → zM → Prop} (M : zM) (a0 : Nat) (r1 : Option zP) (k : Z E YX39_init (d + 1) (zn M 3) [(0, vr (some (a0, 44, 0))), (1, vr r1)] 8 [vr (some ((zsz M), 11, 0)), vr (some (a0, 44, 0))] Q) : Z E YX39_init (d + 1) M [(0, vr (some (a0, 44, 0))), (1, vr r1)] 4 [] Q := by
  refine z_aload_n dX39_init_4 rfl rfl ?_
  refine z_new dX39_init_5 csX39_9 zff_11 ?_
  exact k
theorem sX39_init_8 {E : zE} {d : Nat} {Q : zO → zM → Prop} (M : zM) (a0 : Nat) (r1 : Option zP) (p0 : Nat) (k : Z E YJ2_init d M (zargs 0 [vr (some (p0, 11, 0))]) 0 [] (zafter E YX39_init (d + 1) [(0, vr (some (a0, 44, 0))), (1, vr r1)] 9 3 [vr (some (p0, 11, 0)), vr (some (a0, 44, 0))] Q)) : Z E YX39_init (d + 1) M [(0, vr (some (a0, 44, 0))), (1, vr r1)] 8 [vr (some (p0, 11, 0)), vr (some (a0, 44, 0))] Q := by
  refine z_dup dX39_init_8 rfl ?_
  exact z_callI (as := []) (st := [vr (some (p0, 11, 0)), vr (some (a0, 44, 0))]) dX39_init_9 isX39_11 (Nat.le_refl _) (Nat.le_of_ble_eq_true rfl) (Nat.le_of_ble_eq_true rfl) rfl k
theorem sX39_init_12 {E : zE} {d : Nat} {Q : zO → zM → Prop} (M : zM) (a0 : Nat) (r1 : Option zP) (p0 : Nat) (k : 16 ≤ a0 ∧ (Z E YX39_init (d + 1) (zn (sr M a0 1 (some (p0, 11, 0))) 3) [(0, vr (some (a0, 44, 0))), (1, vr r1)] 19 [vr (some ((zsz M), 11, 0)), vr (some (a0, 44, 0))] Q)) : Z E YX39_init (d + 1) M [(0, vr (some (a0, 44, 0))), (1, vr r1)] 12 [vr (some (p0, 11, 0)), vr (some (a0, 44, 0))] Q := by
  obtain ⟨g_, k⟩ := k
  refine z_putr g_ dX39_init_12 (zfwN.f fwX39_12_44 rfl (fun q h => by rw [← Option.some.inj h]; rfl)) rfl ?_
  refine z_aload_n dX39_init_15 rfl rfl ?_
  refine z_new dX39_init_16 csX39_9 zff_11 ?_
  exact k
theorem sX39_init_19 {E : zE} {d : Nat} {Q : zO → zM → Prop} (M : zM) (a0 : Nat) (r1 : Option zP) (p0 : Nat) (k : Z E YJ2_init d M (zargs 0 [vr (some (p0, 11, 0))]) 0 [] (zafter E YX39_init (d + 1) [(0, vr (some (a0, 44, 0))), (1, vr r1)] 20 3 [vr (some (p0, 11, 0)), vr (some (a0, 44, 0))] Q)) : Z E YX39_init (d + 1) M [(0, vr (some (a0, 44, 0))), (1, vr r1)] 19 [vr (some (p0, 11, 0)), vr (some (a0, 44, 0))] Q := by
  refine z_dup dX39_init_19 rfl ?_
  exact z_callI (as := []) (st := [vr (some (p0, 11, 0)), vr (some (a0, 44, 0))]) dX39_init_20 isX39_11 (Nat.le_refl _) (Nat.le_of_ble_eq_true rfl) (Nat.le_of_ble_eq_true rfl) rfl k
theorem sX39_init_23 {E : zE} {d : Nat} {Q : zO → zM → Prop} (M : zM) (a0 : Nat) (r1 : Option zP) (p0 : Nat) (k : 16 ≤ a0 ∧ (16 ≤ a0 ∧ (Q (.inl none) (sr (sr M a0 2 (some (p0, 11, 0))) a0 0 r1)))) : Z E YX39_init (d + 1) M [(0, vr (some (a0, 44, 0))), (1, vr r1)] 23 [vr (some (p0, 11, 0)), vr (some (a0, 44, 0))] Q := by
  obtain ⟨g_, k⟩ := k
  refine z_putr g_ dX39_init_23 (zfwN.f fwX39_18_44 rfl (fun q h => by rw [← Option.some.inj h]; rfl)) rfl ?_
  refine z_aload_n dX39_init_26 rfl rfl ?_
  refine z_aload_n dX39_init_27 rfl rfl ?_
  obtain ⟨g_, k⟩ := k
  refine z_putr g_ dX39_init_28 (zfwN.f fwX39_21_44 rfl (fun q h => by rw [← Option.some.inj h]; rfl)) rfl ?_
  exact z_vret dX39_init_31 rfl k
/-! ScriptTypes$Switch.code(LScriptTypes$Coder;)V -/
theorem bX39_code_0 : zdec cX39_code 0 [(0, .aload_n 1, 1), (1, .iconst 1, 1), (2, .invokevirtual 27, 3), (5, .astore_n 2, 1), (6, .aload_n 0, 1), (7, .getfield 21, 3), (10, .aload_n 1, 1), (11, .invokevirtual 33, 3), (14, .aload_n 0, 1), (15, .getfield 37, 3), (18, .ifnonnull 16, 3), (21, .aload_n 0, 1), (22, .aload_n 0, 1), (23, .getfield 12, 3), (26, .invokevirtual 41, 3), (29, .newarray .int, 2)] = true := by decide +kernel
theorem dX39_code_0 : decode cX39_code 0 = .ok (.aload_n 1, 1) := zdec_at bX39_code_0 0 rfl
theorem dX39_code_1 : decode cX39_code 1 = .ok (.iconst 1, 1) := zdec_at bX39_code_0 1 rfl
theorem dX39_code_2 : decode cX39_code 2 = .ok (.invokevirtual 27, 3) := zdec_at bX39_code_0 2 rfl
theorem dX39_code_5 : decode cX39_code 5 = .ok (.astore_n 2, 1) := zdec_at bX39_code_0 3 rfl
theorem dX39_code_6 : decode cX39_code 6 = .ok (.aload_n 0, 1) := zdec_at bX39_code_0 4 rfl
theorem dX39_code_7 : decode cX39_code 7 = .ok (.getfield 21, 3) := zdec_at bX39_code_0 5 rfl
theorem dX39_code_10 : decode cX39_code 10 = .ok (.aload_n 1, 1) := zdec_at bX39_code_0 6 rfl
theorem dX39_code_11 : decode cX39_code 11 = .ok (.invokevirtual 33, 3) := zdec_at bX39_code_0 7 rfl
theorem dX39_code_14 : decode cX39_code 14 = .ok (.aload_n 0, 1) := zdec_at bX39_code_0 8 rfl
theorem dX39_code_15 : decode cX39_code 15 = .ok (.getfield 37, 3) := zdec_at bX39_code_0 9 rfl
theorem dX39_code_18 : decode cX39_code 18 = .ok (.ifnonnull 16, 3) := zdec_at bX39_code_0 10 rfl
theorem dX39_code_21 : decode cX39_code 21 = .ok (.aload_n 0, 1) := zdec_at bX39_code_0 11 rfl
theorem dX39_code_22 : decode cX39_code 22 = .ok (.aload_n 0, 1) := zdec_at bX39_code_0 12 rfl
theorem dX39_code_23 : decode cX39_code 23 = .ok (.getfield 12, 3) := zdec_at bX39_code_0 13 rfl
theorem dX39_code_26 : decode cX39_code 26 = .ok (.invokevirtual 41, 3) := zdec_at bX39_code_0 14 rfl
theorem dX39_code_29 : decode cX39_code 29 = .ok (.newarray .int, 2) := zdec_at bX39_code_0 15 rfl
theorem bX39_code_31 : zdec cX39_code 31 [(31, .putfield 37, 3), (34, .iconst (-1), 1), (35, .istore_n 3, 1), (36, .iconst 0, 1), (37, .istore 4, 2), (39, .iload 4, 2), (41, .aload_n 0, 1), (42, .getfield 37, 3), (45, .arraylength, 1), (46, .if_icmp .ge 102, 3), (49, .aload_n 0, 1), (50, .getfield 12, 3), (53, .iload 4, 2), (55, .invokevirtual 45, 3), (58, .ifnonnull 9, 3), (61, .iload 4, 2)] = true := by decide +kernel
theorem dX39_code_31 : decode cX39_code 31 = .ok (.putfield 37, 3) := zdec_at bX39_code_31 0 rfl
theorem dX39_code_34 : decode cX39_code 34 = .ok (.iconst (-1), 1) := zdec_at bX39_code_31 1 rfl
theorem dX39_code_35 : decode cX39_code 35 = .ok (.istore_n 3, 1) := zdec_at bX39_code_31 2 rfl
theorem dX39_code_36 : decode cX39_code 36 = .ok (.iconst 0, 1) := zdec_at bX39_code_31 3 rfl
theorem dX39_code_37 : decode cX39_code 37 = .ok (.istore 4, 2) := zdec_at bX39_code_31 4 rfl
theorem dX39_code_39 : decode cX39_code 39 = .ok (.iload 4, 2) := zdec_at bX39_code_31 5 rfl
theorem dX39_code_41 : decode cX39_code 41 = .ok (.aload_n 0, 1) := zdec_at bX39_code_31 6 rfl
theorem dX39_code_42 : decode cX39_code 42 = .ok (.getfield 37, 3) := zdec_at bX39_code_31 7 rfl
theorem dX39_code_45 : decode cX39_code 45 = .ok (.arraylength, 1) := zdec_at bX39_code_31 8 rfl
theorem dX39_code_46 : decode cX39_code 46 = .ok (.if_icmp .ge 102, 3) := zdec_at bX39_code_31 9 rfl
theorem dX39_code_49 : decode cX39_code 49 = .ok (.aload_n 0, 1) := zdec_at bX39_code_31 10 rfl
theorem dX39_code_50 : decode cX39_code 50 = .ok (.getfield 12, 3) := zdec_at bX39_code_31 11 rfl
theorem dX39_code_53 : decode cX39_code 53 = .ok (.iload 4, 2) := zdec_at bX39_code_31 12 rfl
theorem dX39_code_55 : decode cX39_code 55 = .ok (.invokevirtual 45, 3) := zdec_at bX39_code_31 13 rfl
theorem dX39_code_58 : decode cX39_code 58 = .ok (.ifnonnull 9, 3) := zdec_at bX39_code_31 14 rfl
theorem dX39_code_61 : decode cX39_code 61 = .ok (.iload 4, 2) := zdec_at bX39_code_31 15 rfl
theorem bX39_code_63 : zdec cX39_code 63 [(63, .istore_n 3, 1), (64, .goto 78, 3), (67, .aload_n 1, 1), (68, .bipush 18, 2), (70, .iconst 0, 1), (71, .iconst 0, 1), (72, .invokevirtual 49, 3), (75, .pop, 1), (76, .aload_n 0, 1), (77, .getfield 12, 3), (80, .iload 4, 2), (82, .invokevirtual 45, 3), (85, .checkcast 4, 3), (88, .aload_n 1, 1), (89, .invokevirtual 33, 3), (92, .aload_n 1, 1)] = true := by decide +kernel
theorem dX39_code_63 : decode cX39_code 63 = .ok (.istore_n 3, 1) := zdec_at bX39_code_63 0 rfl
theorem dX39_code_64 : decode cX39_code 64 = .ok (.goto 78, 3) := zdec_at bX39_code_63 1 rfl
theorem dX39_code_67 : decode cX39_code 67 = .ok (.aload_n 1, 1) := zdec_at bX39_code_63 2 rfl
theorem dX39_code_68 : decode cX39_code 68 = .ok (.bipush 18, 2) := zdec_at bX39_code_63 3 rfl
theorem dX39_code_70 : decode cX39_code 70 = .ok (.iconst 0, 1) := zdec_at bX39_code_63 4 rfl
theorem dX39_code_71 : decode cX39_code 71 = .ok (.iconst 0, 1) := zdec_at bX39_code_63 5 rfl
theorem dX39_code_72 : decode cX39_code 72 = .ok (.invokevirtual 49, 3) := zdec_at bX39_code_63 6 rfl
theorem dX39_code_75 : decode cX39_code 75 = .ok (.pop, 1) := zdec_at bX39_code_63 7 rfl
theorem dX39_code_76 : decode cX39_code 76 = .ok (.aload_n 0, 1) := zdec_at bX39_code_63 8 rfl
theorem dX39_code_77 : decode cX39_code 77 = .ok (.getfield 12, 3) := zdec_at bX39_code_63 9 rfl
theorem dX39_code_80 : decode cX39_code 80 = .ok (.iload 4, 2) := zdec_at bX39_code_63 10 rfl
theorem dX39_code_82 : decode cX39_code 82 = .ok (.invokevirtual 45, 3) := zdec_at bX39_code_63 11 rfl
theorem dX39_code_85 : decode cX39_code 85 = .ok (.checkcast 4, 3) := zdec_at bX39_code_63 12 rfl
theorem dX39_code_88 : decode cX39_code 88 = .ok (.aload_n 1, 1) := zdec_at bX39_code_63 13 rfl
theorem dX39_code_89 : decode cX39_code 89 = .ok (.invokevirtual 33, 3) := zdec_at bX39_code_63 14 rfl
theorem dX39_code_92 : decode cX39_code 92 = .ok (.aload_n 1, 1) := zdec_at bX39_code_63 15 rfl
theorem bX39_code_93 : zdec cX39_code 93 [(93, .bipush 14, 2), (95, .bipush 13, 2), (97, .iconst 0, 1), (98, .invokevirtual 49, 3), (101, .pop, 1), (102, .aload_n 1, 1), (103, .bipush 22, 2), (105, .iconst 0, 1), (106, .iconst 0, 1), (107, .invokevirtual 49, 3), (110, .istore 5, 2), (112, .aload_n 1, 1), (113, .bipush 17, 2), (115, .iconst 0, 1), (116, .iconst 0, 1), (117, .invokevirtual 49, 3)] = true := by decide +kernel
theorem dX39_code_93 : decode cX39_code 93 = .ok (.bipush 14, 2) := zdec_at bX39_code_93 0 rfl
theorem dX39_code_95 : decode cX39_code 95 = .ok (.bipush 13, 2) := zdec_at bX39_code_93 1 rfl
theorem dX39_code_97 : decode cX39_code 97 = .ok (.iconst 0, 1) := zdec_at bX39_code_93 2 rfl
theorem dX39_code_98 : decode cX39_code 98 = .ok (.invokevirtual 49, 3) := zdec_at bX39_code_93 3 rfl
theorem dX39_code_101 : decode cX39_code 101 = .ok (.pop, 1) := zdec_at bX39_code_93 4 rfl
theorem dX39_code_102 : decode cX39_code 102 = .ok (.aload_n 1, 1) := zdec_at bX39_code_93 5 rfl
theorem dX39_code_103 : decode cX39_code 103 = .ok (.bipush 22, 2) := zdec_at bX39_code_93 6 rfl
theorem dX39_code_105 : decode cX39_code 105 = .ok (.iconst 0, 1) := zdec_at bX39_code_93 7 rfl
theorem dX39_code_106 : decode cX39_code 106 = .ok (.iconst 0, 1) := zdec_at bX39_code_93 8 rfl
theorem dX39_code_107 : decode cX39_code 107 = .ok (.invokevirtual 49, 3) := zdec_at bX39_code_93 9 rfl
theorem dX39_code_110 : decode cX39_code 110 = .ok (.istore 5, 2) := zdec_at bX39_code_93 10 rfl
theorem dX39_code_112 : decode cX39_code 112 = .ok (.aload_n 1, 1) := zdec_at bX39_code_93 11 rfl
theorem dX39_code_113 : decode cX39_code 113 = .ok (.bipush 17, 2) := zdec_at bX39_code_93 12 rfl
theorem dX39_code_115 : decode cX39_code 115 = .ok (.iconst 0, 1) := zdec_at bX39_code_93 13 rfl
theorem dX39_code_116 : decode cX39_code 116 = .ok (.iconst 0, 1) := zdec_at bX39_code_93 14 rfl
theorem dX39_code_117 : decode cX39_code 117 = .ok (.invokevirtual 49, 3) := zdec_at bX39_code_93 15 rfl
theorem bX39_code_120 : zdec cX39_code 120 [(120, .pop, 1), (121, .aload_n 0, 1), (122, .getfield 37, 3), (125, .iload 4, 2), (127, .aload_n 1, 1), (128, .bipush 21, 2), (130, .iconst 0, 1), (131, .iconst 0, 1), (132, .invokevirtual 49, 3), (135, .iastore, 1), (136, .aload_n 1, 1), (137, .iload 5, 2), (139, .invokevirtual 53, 3), (142, .iinc 4 1, 3), (145, .goto (-106), 3), (148, .aload_n 1, 1)] = true := by decide +kernel
theorem dX39_code_120 : decode cX39_code 120 = .ok (.pop, 1) := zdec_at bX39_code_120 0 rfl
theorem dX39_code_121 : decode cX39_code 121 = .ok (.aload_n 0, 1) := zdec_at bX39_code_120 1 rfl
theorem dX39_code_122 : decode cX39_code 122 = .ok (.getfield 37, 3) := zdec_at bX39_code_120 2 rfl
theorem dX39_code_125 : decode cX39_code 125 = .ok (.iload 4, 2) := zdec_at bX39_code_120 3 rfl
theorem dX39_code_127 : decode cX39_code 127 = .ok (.aload_n 1, 1) := zdec_at bX39_code_120 4 rfl
theorem dX39_code_128 : decode cX39_code 128 = .ok (.bipush 21, 2) := zdec_at bX39_code_120 5 rfl
theorem dX39_code_130 : decode cX39_code 130 = .ok (.iconst 0, 1) := zdec_at bX39_code_120 6 rfl
theorem dX39_code_131 : decode cX39_code 131 = .ok (.iconst 0, 1) := zdec_at bX39_code_120 7 rfl
theorem dX39_code_132 : decode cX39_code 132 = .ok (.invokevirtual 49, 3) := zdec_at bX39_code_120 8 rfl
theorem dX39_code_135 : decode cX39_code 135 = .ok (.iastore, 1) := zdec_at bX39_code_120 9 rfl
theorem dX39_code_136 : decode cX39_code 136 = .ok (.aload_n 1, 1) := zdec_at bX39_code_120 10 rfl
theorem dX39_code_137 : decode cX39_code 137 = .ok (.iload 5, 2) := zdec_at bX39_code_120 11 rfl
theorem dX39_code_139 : decode cX39_code 139 = .ok (.invokevirtual 53, 3) := zdec_at bX39_code_120 12 rfl
theorem dX39_code_142 : decode cX39_code 142 = .ok (.iinc 4 1, 3) := zdec_at bX39_code_120 13 rfl
theorem dX39_code_145 : decode cX39_code 145 = .ok (.goto (-106), 3) := zdec_at bX39_code_120 14 rfl
theorem dX39_code_148 : decode cX39_code 148 = .ok (.aload_n 1, 1) := zdec_at bX39_code_120 15 rfl
theorem bX39_code_149 : zdec cX39_code 149 [(149, .bipush 17, 2), (151, .iconst 0, 1), (152, .iconst 0, 1), (153, .invokevirtual 49, 3), (156, .pop, 1), (157, .aload_n 1, 1), (158, .bipush 21, 2), (160, .iconst 0, 1), (161, .iconst 0, 1), (162, .invokevirtual 49, 3), (165, .istore 4, 2), (167, .iconst 0, 1), (168, .istore 5, 2), (170, .iload 5, 2), (172, .aload_n 0, 1), (173, .getfield 37, 3)] = true := by decide +kernel
theorem dX39_code_149 : decode cX39_code 149 = .ok (.bipush 17, 2) := zdec_at bX39_code_149 0 rfl
theorem dX39_code_151 : decode cX39_code 151 = .ok (.iconst 0, 1) := zdec_at bX39_code_149 1 rfl
theorem dX39_code_152 : decode cX39_code 152 = .ok (.iconst 0, 1) := zdec_at bX39_code_149 2 rfl
theorem dX39_code_153 : decode cX39_code 153 = .ok (.invokevirtual 49, 3) := zdec_at bX39_code_149 3 rfl
theorem dX39_code_156 : decode cX39_code 156 = .ok (.pop, 1) := zdec_at bX39_code_149 4 rfl
theorem dX39_code_157 : decode cX39_code 157 = .ok (.aload_n 1, 1) := zdec_at bX39_code_149 5 rfl
theorem dX39_code_158 : decode cX39_code 158 = .ok (.bipush 21, 2) := zdec_at bX39_code_149 6 rfl
theorem dX39_code_160 : decode cX39_code 160 = .ok (.iconst 0, 1) := zdec_at bX39_code_149 7 rfl
theorem dX39_code_161 : decode cX39_code 161 = .ok (.iconst 0, 1) := zdec_at bX39_code_149 8 rfl
theorem dX39_code_162 : decode cX39_code 162 = .ok (.invokevirtual 49, 3) := zdec_at bX39_code_149 9 rfl
theorem dX39_code_165 : decode cX39_code 165 = .ok (.istore 4, 2) := zdec_at bX39_code_149 10 rfl
theorem dX39_code_167 : decode cX39_code 167 = .ok (.iconst 0, 1) := zdec_at bX39_code_149 11 rfl
theorem dX39_code_168 : decode cX39_code 168 = .ok (.istore 5, 2) := zdec_at bX39_code_149 12 rfl
theorem dX39_code_170 : decode cX39_code 170 = .ok (.iload 5, 2) := zdec_at bX39_code_149 13 rfl
theorem dX39_code_172 : decode cX39_code 172 = .ok (.aload_n 0, 1) := zdec_at bX39_code_149 14 rfl
theorem dX39_code_173 : decode cX39_code 173 = .ok (.getfield 37, 3) := zdec_at bX39_code_149 15 rfl
theorem bX39_code_176 : zdec cX39_code 176 [(176, .arraylength, 1), (177, .if_icmp .ge 47, 3), (180, .aload_n 1, 1), (181, .iload 5, 2), (183, .iload_n 3, 1), (184, .if_icmp .ne 8, 3), (187, .iload 4, 2), (189, .goto 10, 3), (192, .aload_n 0, 1), (193, .getfield 37, 3), (196, .iload 5, 2), (198, .iaload, 1), (199, .invokevirtual 53, 3), (202, .aload_n 0, 1), (203, .getfield 18, 3), (206, .iload 5, 2)] = true := by decide +kernel
theorem dX39_code_176 : decode cX39_code 176 = .ok (.arraylength, 1) := zdec_at bX39_code_176 0 rfl
theorem dX39_code_177 : decode cX39_code 177 = .ok (.if_icmp .ge 47, 3) := zdec_at bX39_code_176 1 rfl
theorem dX39_code_180 : decode cX39_code 180 = .ok (.aload_n 1, 1) := zdec_at bX39_code_176 2 rfl
theorem dX39_code_181 : decode cX39_code 181 = .ok (.iload 5, 2) := zdec_at bX39_code_176 3 rfl
theorem dX39_code_183 : decode cX39_code 183 = .ok (.iload_n 3, 1) := zdec_at bX39_code_176 4 rfl
theorem dX39_code_184 : decode cX39_code 184 = .ok (.if_icmp .ne 8, 3) := zdec_at bX39_code_176 5 rfl
theorem dX39_code_187 : decode cX39_code 187 = .ok (.iload 4, 2) := zdec_at bX39_code_176 6 rfl
theorem dX39_code_189 : decode cX39_code 189 = .ok (.goto 10, 3) := zdec_at bX39_code_176 7 rfl
theorem dX39_code_192 : decode cX39_code 192 = .ok (.aload_n 0, 1) := zdec_at bX39_code_176 8 rfl
theorem dX39_code_193 : decode cX39_code 193 = .ok (.getfield 37, 3) := zdec_at bX39_code_176 9 rfl
theorem dX39_code_196 : decode cX39_code 196 = .ok (.iload 5, 2) := zdec_at bX39_code_176 10 rfl
theorem dX39_code_198 : decode cX39_code 198 = .ok (.iaload, 1) := zdec_at bX39_code_176 11 rfl
theorem dX39_code_199 : decode cX39_code 199 = .ok (.invokevirtual 53, 3) := zdec_at bX39_code_176 12 rfl
theorem dX39_code_202 : decode cX39_code 202 = .ok (.aload_n 0, 1) := zdec_at bX39_code_176 13 rfl
theorem dX39_code_203 : decode cX39_code 203 = .ok (.getfield 18, 3) := zdec_at bX39_code_176 14 rfl
theorem dX39_code_206 : decode cX39_code 206 = .ok (.iload 5, 2) := zdec_at bX39_code_176 15 rfl
theorem bX39_code_208 : zdec cX39_code 208 [(208, .invokevirtual 45, 3), (211, .checkcast 57, 3), (214, .aload_n 1, 1), (215, .invokevirtual 59, 3), (218, .iinc 5 1, 3), (221, .goto (-51), 3), (224, .iload_n 3, 1), (225, .iconst (-1), 1), (226, .if_icmp .ne 9, 3), (229, .aload_n 1, 1), (230, .iload 4, 2), (232, .invokevirtual 53, 3), (235, .aload_n 2, 1), (236, .getfield 60, 3), (239, .aload_n 1, 1), (240, .aload_n 1, 1)] = true := by decide +kernel
theorem dX39_code_208 : decode cX39_code 208 = .ok (.invokevirtual 45, 3) := zdec_at bX39_code_208 0 rfl
theorem dX39_code_211 : decode cX39_code 211 = .ok (.checkcast 57, 3) := zdec_at bX39_code_208 1 rfl
theorem dX39_code_214 : decode cX39_code 214 = .ok (.aload_n 1, 1) := zdec_at bX39_code_208 2 rfl
theorem dX39_code_215 : decode cX39_code 215 = .ok (.invokevirtual 59, 3) := zdec_at bX39_code_208 3 rfl
theorem dX39_code_218 : decode cX39_code 218 = .ok (.iinc 5 1, 3) := zdec_at bX39_code_208 4 rfl
theorem dX39_code_221 : decode cX39_code 221 = .ok (.goto (-51), 3) := zdec_at bX39_code_208 5 rfl
theorem dX39_code_224 : decode cX39_code 224 = .ok (.iload_n 3, 1) := zdec_at bX39_code_208 6 rfl
theorem dX39_code_225 : decode cX39_code 225 = .ok (.iconst (-1), 1) := zdec_at bX39_code_208 7 rfl
theorem dX39_code_226 : decode cX39_code 226 = .ok (.if_icmp .ne 9, 3) := zdec_at bX39_code_208 8 rfl
theorem dX39_code_229 : decode cX39_code 229 = .ok (.aload_n 1, 1) := zdec_at bX39_code_208 9 rfl
theorem dX39_code_230 : decode cX39_code 230 = .ok (.iload 4, 2) := zdec_at bX39_code_208 10 rfl
theorem dX39_code_232 : decode cX39_code 232 = .ok (.invokevirtual 53, 3) := zdec_at bX39_code_208 11 rfl
theorem dX39_code_235 : decode cX39_code 235 = .ok (.aload_n 2, 1) := zdec_at bX39_code_208 12 rfl
theorem dX39_code_236 : decode cX39_code 236 = .ok (.getfield 60, 3) := zdec_at bX39_code_208 13 rfl
theorem dX39_code_239 : decode cX39_code 239 = .ok (.aload_n 1, 1) := zdec_at bX39_code_208 14 rfl
theorem dX39_code_240 : decode cX39_code 240 = .ok (.aload_n 1, 1) := zdec_at bX39_code_208 15 rfl
theorem bX39_code_241 : zdec cX39_code 241 [(241, .invokevirtual 64, 3), (244, .invokevirtual 67, 3), (247, .aload_n 1, 1), (248, .aload_n 2, 1), (249, .invokevirtual 73, 3), (252, .return_, 1)] = true := by decide +kernel
theorem dX39_code_241 : decode cX39_code 241 = .ok (.invokevirtual 64, 3) := zdec_at bX39_code_241 0 rfl
theorem dX39_code_244 : decode cX39_code 244 = .ok (.invokevirtual 67, 3) := zdec_at bX39_code_241 1 rfl
theorem dX39_code_247 : decode cX39_code 247 = .ok (.aload_n 1, 1) := zdec_at bX39_code_241 2 rfl
theorem dX39_code_248 : decode cX39_code 248 = .ok (.aload_n 2, 1) := zdec_at bX39_code_241 3 rfl
theorem dX39_code_249 : decode cX39_code 249 = .ok (.invokevirtual 73, 3) := zdec_at bX39_code_241 4 rfl
theorem dX39_code_252 : decode cX39_code 252 = .ok (.return_, 1) := zdec_at bX39_code_241 5 rfl
theorem sX39_code_0 {E : zE} {d : Nat} {Q : zO → zM → Prop} (M : zM) (a0 : Nat) (r1 : Option zP) (k : ∃ b1 : Nat, r1 = some (b1, 3, 0) ∧ (Z E YX3_enter d M (zargs 0 [vr (some (b1, 3, 0)), vi (1 : Int32)]) 0 [] (zafter E YX39_code (d + 1) [(0, vr (some (a0, 44, 0))), (1, vr (some (b1, 3, 0)))] 2 3 [] Q))) : Z E YX39_code (d + 1) M [(0, vr (some (a0, 44, 0))), (1, vr r1)] 0 [] Q := by
  refine z_aload_n dX39_code_0 rfl rfl ?_
  refine z_iconst (v := 1) dX39_code_1 rfl ?_
  obtain ⟨b1, e1_, k⟩ := k
  refine Z.eqs (lv' := [(0, vr (some (a0, 44, 0))), (1, vr (some (b1, 3, 0)))]) (st' := [vi (1 : Int32), vr (some (b1, 3, 0))]) (by rw [e1_] <;> rfl) (by rw [e1_] <;> rfl) ?_
  exact z_callV (as := [vi (1 : Int32)]) (st := []) dX39_code_2 vsX39_27_3 (Nat.le_refl _) (Nat.le_of_ble_eq_true rfl) (Nat.le_of_ble_eq_true rfl) rfl k
theorem sX39_code_5 {E : zE} {d : Nat} {Q : zO → zM → Prop} (M : zM) (a0 : Nat) (a1 : Nat) (u0 : Option zP) (k : ∃ b1 t1 : Nat, (gr M a0 0) = some (b1, t1, 0) ∧ (∃ Y_ : zY, vt_code t1 = some Y_ ∧ Z E Y_ d M (zargs 0 [vr (some (b1, t1, 0)), vr (some (a1, 3, 0))]) 0 [] (zafter E YX39_code (d + 1) [(0, vr (some (a0, 44, 0))), (1, vr (some (a1, 3, 0))), (2, vr u0)] 11 3 [] Q))) : Z E YX39_code (d + 1) M [(0, vr (some (a0, 44, 0))), (1, vr (some (a1, 3, 0)))] 5 [vr u0] Q := by
  refine z_ast_n dX39_code_5 rfl (by decide) (lv' := [(0, vr (some (a0, 44, 0))), (1, vr (some (a1, 3, 0))), (2, vr u0)]) rfl ?_
  refine z_aload_n dX39_code_6 rfl rfl ?_
  refine z_getr (r := (gr M a0 0)) dX39_code_7 fsX39_21_44 rfl ?_
  refine z_aload_n dX39_code_10 rfl rfl ?_
  obtain ⟨b1, t1, e1_, k⟩ := k
  refine Z.eqs (lv' := [(0, vr (some (a0, 44, 0))), (1, vr (some (a1, 3, 0))), (2, vr u0)]) (st' := [vr (some (a1, 3, 0)), vr (some (b1, t1, 0))]) rfl (by rw [e1_] <;> rfl) ?_
  obtain ⟨Y_, y_, k⟩ := k
  exact z_callV (as := [vr (some (a1, 3, 0))]) (st := []) dX39_code_11 (vtX39_33 y_).1 (Nat.le_refl _) (Nat.le_trans (Nat.le_of_ble_eq_true rfl) (vtX39_33 y_).2.1) (Nat.le_trans (Nat.add_le_add_left (vtX39_33 y_).2.2 _) (Nat.le_of_ble_eq_true rfl)) rfl k
theorem sX39_code_14 {E : zE} {d : Nat} {Q : zO → zM → Prop} (M : zM) (a0 : Nat) (a1 : Nat) (r2 : Option zP) (k : if (gr M a0 3) = none then (∃ b1 : Nat, (gr M a0 1) = some (b1, 11, 0) ∧ (Z E YJ2_size d M (zargs 0 [vr (some (b1, 11, 0))]) 0 [] (zafter E YX39_code (d + 1) [(0, vr (some (a0, 44, 0))), (1, vr (some (a1, 3, 0))), (2, vr r2)] 26 3 [vr (some (a0, 44, 0))] Q))) else (Z E YX39_code (d + 1) M [(0, vr (some (a0, 44, 0))), (1, vr (some (a1, 3, 0))), (2, vr r2), (3, vi (-1 : Int32)), (4, vi (0 : Int32))] 39 [] Q)) : Z E YX39_code (d + 1) M [(0, vr (some (a0, 44, 0))), (1, vr (some (a1, 3, 0))), (2, vr r2)] 14 [] Q := by
  refine z_aload_n dX39_code_14 rfl rfl ?_
  refine z_getr (r := (gr M a0 3)) dX39_code_15 fsX39_37_44 rfl ?_
  refine z_ifnonnull (tgt := 34) dX39_code_18 rfl (fun h_ => ?_) (fun h_ => ?_)
  · have k := zif h_ k
    refine z_iconst (v := -1) dX39_code_34 rfl ?_
    refine z_ist_n dX39_code_35 rfl (by decide) (lv' := [(0, vr (some (a0, 44, 0))), (1, vr (some (a1, 3, 0))), (2, vr r2), (3, vi (-1 : Int32))]) rfl ?_
    refine z_iconst (v := 0) dX39_code_36 rfl ?_
    refine z_ist dX39_code_37 (by decide) (lv' := [(0, vr (some (a0, 44, 0))), (1, vr (some (a1, 3, 0))), (2, vr r2), (3, vi (-1 : Int32)), (4, vi (0 : Int32))]) rfl ?_
    exact k
  · have k := zit h_ k
    refine z_aload_n dX39_code_21 rfl rfl ?_
    refine z_aload_n dX39_code_22 rfl rfl ?_
    refine z_getr (r := (gr M a0 1)) dX39_code_23 fsX39_12_44 rfl ?_
    obtain ⟨b1, e1_, k⟩ := k
    refine Z.eqs (lv' := [(0, vr (some (a0, 44, 0))), (1, vr (some (a1, 3, 0))), (2, vr r2)]) (st' := [vr (some (b1, 11, 0)), vr (some (a0, 44, 0))]) rfl (by rw [e1_] <;> rfl) ?_
    exact z_callV (as := []) (st := [vr (some (a0, 44, 0))]) dX39_code_26 vsX39_41_11 (Nat.le_refl _) (Nat.le_of_ble_eq_true rfl) (Nat.le_of_ble_eq_true rfl) rfl k
theorem sX39_code_29 {E : zE} {d : Nat} {Q : zO → zM → Prop} (M : zM) (a0 : Nat) (a1 : Nat) (r2 : Option zP) (s0 : Int32) (k : (¬ s0 < 0 ∧ (s0).toNatClampNeg * 8 ≤ 536870912) ∧ (Z E YX39_code (d + 1) (zn M (s0).toNatClampNeg) [(0, vr (some (a0, 44, 0))), (1, vr (some (a1, 3, 0))), (2, vr r2)] 31 [vr (some ((zsz M), 100, (s0).toNatClampNeg)), vr (some (a0, 44, 0))] Q)) : Z E YX39_code (d + 1) M [(0, vr (some (a0, 44, 0))), (1, vr (some (a1, 3, 0))), (2, vr r2)] 29 [vi s0, vr (some (a0, 44, 0))] Q := by
  obtain ⟨b_, k⟩ := k
  refine z_newa (q := 0) (N := (s0).toNatClampNeg) dX39_code_29 rfl (by decide) q535 b_.1 rfl b_.2 ?_
  exact k
theorem sX39_code_31 {E : zE} {d : Nat} {Q : zO → zM → Prop} (M : zM) (a0 : Nat) (a1 : Nat) (r2 : Option zP) (p0 : Nat) (np0 : Nat) (k : 16 ≤ a0 ∧ (Z E YX39_code (d + 1) (sr M a0 3 (some (p0, 100, np0))) [(0, vr (some (a0, 44, 0))), (1, vr (some (a1, 3, 0))), (2, vr r2), (3, vi (-1 : Int32)), (4, vi (0 : Int32))] 39 [] Q)) : Z E YX39_code (d + 1) M [(0, vr (some (a0, 44, 0))), (1, vr (some (a1, 3, 0))), (2, vr r2)] 31 [vr (some (p0, 100, np0)), vr (some (a0, 44, 0))] Q := by
  obtain ⟨g_, k⟩ := k
  refine z_putr g_ dX39_code_31 (zfwN.w fwX39_37_44) rfl ?_
  refine z_iconst (v := -1) dX39_code_34 rfl ?_
  refine z_ist_n dX39_code_35 rfl (by decide) (lv' := [(0, vr (some (a0, 44, 0))), (1, vr (some (a1, 3, 0))), (2, vr r2), (3, vi (-1 : Int32))]) rfl ?_
  refine z_iconst (v := 0) dX39_code_36 rfl ?_
  refine z_ist dX39_code_37 (by decide) (lv' := [(0, vr (some (a0, 44, 0))), (1, vr (some (a1, 3, 0))), (2, vr r2), (3, vi (-1 : Int32)), (4, vi (0 : Int32))]) rfl ?_
  exact k
theorem sX39_code_39 {E : zE} {d : Nat} {Q : zO → zM → Prop} (M : zM) (a0 : Nat) (a1 : Nat) (r2 : Option zP) (l3 : Int32) (l4 : Int32) (k : ∃ b1 m1 : Nat, (gr M a0 3) = some (b1, 100, m1) ∧ (if (Int32.ofNat m1) ≤ l4 then (Z E YX3_put d M (zargs 0 [vr (some (a1, 3, 0)), vi (17 : Int32), vi (0 : Int32), vi (0 : Int32)]) 0 [] (zafter E YX39_code (d + 1) [(0, vr (some (a0, 44, 0))), (1, vr (some (a1, 3, 0))), (2, vr r2), (3, vi l3)] 153 3 [] Q)) else (∃ b2 : Nat, (gr M a0 1) = some (b2, 11, 0) ∧ (Z E YJ2_get d M (zargs 0 [vr (some (b2, 11, 0)), vi l4]) 0 [] (zafter E YX39_code (d + 1) [(0, vr (some (a0, 44, 0))), (1, vr (some (a1, 3, 0))), (2, vr r2), (3, vi l3), (4, vi l4)] 55 3 [] Q))))) : Z E YX39_code (d + 1) M [(0, vr (some (a0, 44, 0))), (1, vr (some (a1, 3, 0))), (2, vr r2), (3, vi l3), (4, vi l4)] 39 [] Q := by
  refine z_iload dX39_code_39 rfl ?_
  refine z_aload_n dX39_code_41 rfl rfl ?_
  refine z_getr (r := (gr M a0 3)) dX39_code_42 fsX39_37_44 rfl ?_
  obtain ⟨b1, m1, e1_, k⟩ := k
  refine Z.eqs (lv' := [(0, vr (some (a0, 44, 0))), (1, vr (some (a1, 3, 0))), (2, vr r2), (3, vi l3), (4, vi l4)]) (st' := [vr (some (b1, 100, m1)), vi l4]) rfl (by rw [e1_] <;> rfl) ?_
  refine z_alen (q := 0) (v := Int32.ofNat m1) dX39_code_45 rfl ?_
  refine z_icmp_ge (tgt := 148) dX39_code_46 rfl (fun h_ => ?_) (fun h_ => ?_)
  · have k := zit h_ k
    refine z_aload_n dX39_code_148 rfl rfl ?_
    refine z_bipush (v := 17) dX39_code_149 rfl ?_
    refine z_iconst (v := 0) dX39_code_151 rfl ?_
    refine z_iconst (v := 0) dX39_code_152 rfl ?_
    refine Z.pick [0, 1, 2, 3] rfl ?_
    exact z_callV (as := [vi (17 : Int32), vi (0 : Int32), vi (0 : Int32)]) (st := []) dX39_code_153 vsX39_49_3 (Nat.le_refl _) (Nat.le_of_ble_eq_true rfl) (Nat.le_of_ble_eq_true rfl) rfl k
  · have k := zif h_ k
    refine z_aload_n dX39_code_49 rfl rfl ?_
    refine z_getr (r := (gr M a0 1)) dX39_code_50 fsX39_12_44 rfl ?_
    refine z_iload dX39_code_53 rfl ?_
    obtain ⟨b2, e2_, k⟩ := k
    refine Z.eqs (lv' := [(0, vr (some (a0, 44, 0))), (1, vr (some (a1, 3, 0))), (2, vr r2), (3, vi l3), (4, vi l4)]) (st' := [vi l4, vr (some (b2, 11, 0))]) rfl (by rw [e2_] <;> rfl) ?_
    exact z_callV (as := [vi l4]) (st := []) dX39_code_55 vsX39_45_11 (Nat.le_refl _) (Nat.le_of_ble_eq_true rfl) (Nat.le_of_ble_eq_true rfl) rfl k
theorem sX39_code_58 {E : zE} {d : Nat} {Q : zO → zM → Prop} (M : zM) (a0 : Nat) (a1 : Nat) (r2 : Option zP) (l3 : Int32) (l4 : Int32) (u0 : Option zP) (k : if u0 = none then (Z E YX39_code (d + 1) M [(0, vr (some (a0, 44, 0))), (1, vr (some (a1, 3, 0))), (2, vr r2), (3, vi l4), (4, vi l4)] 142 [] Q) else (Z E YX3_put d M (zargs 0 [vr (some (a1, 3, 0)), vi (18 : Int32), vi (0 : Int32), vi (0 : Int32)]) 0 [] (zafter E YX39_code (d + 1) [(0, vr (some (a0, 44, 0))), (1, vr (some (a1, 3, 0))), (2, vr r2), (3, vi l3), (4, vi l4)] 72 3 [] Q))) : Z E YX39_code (d + 1) M [(0, vr (some (a0, 44, 0))), (1, vr (some (a1, 3, 0))), (2, vr r2), (3, vi l3), (4, vi l4)] 58 [vr u0] Q := by
  refine z_ifnonnull (tgt := 67) dX39_code_58 rfl (fun h_ => ?_) (fun h_ => ?_)
  · have k := zif h_ k
    refine z_aload_n dX39_code_67 rfl rfl ?_
    refine z_bipush (v := 18) dX39_code_68 rfl ?_
    refine z_iconst (v := 0) dX39_code_70 rfl ?_
    refine z_iconst (v := 0) dX39_code_71 rfl ?_
    exact z_callV (as := [vi (18 : Int32), vi (0 : Int32), vi (0 : Int32)]) (st := []) dX39_code_72 vsX39_49_3 (Nat.le_refl _) (Nat.le_of_ble_eq_true rfl) (Nat.le_of_ble_eq_true rfl) rfl k
  · have k := zit h_ k
    refine z_iload dX39_code_61 rfl ?_
    refine z_ist_n dX39_code_63 rfl (by decide) (lv' := [(0, vr (some (a0, 44, 0))), (1, vr (some (a1, 3, 0))), (2, vr r2), (3, vi l4), (4, vi l4)]) rfl ?_
    refine z_goto (tgt := 142) dX39_code_64 rfl ?_
    exact k
theorem sX39_code_75 {E : zE} {d : Nat} {Q : zO → zM → Prop} (M : zM) (a0 : Nat) (a1 : Nat) (r2 : Option zP) (l3 : Int32) (l4 : Int32) (s0 : Int32) (k : ∃ b1 : Nat, (gr M a0 1) = some (b1, 11, 0) ∧ (Z E YJ2_get d M (zargs 0 [vr (some (b1, 11, 0)), vi l4]) 0 [] (zafter E YX39_code (d + 1) [(0, vr (some (a0, 44, 0))), (1, vr (some (a1, 3, 0))), (2, vr r2), (3, vi l3), (4, vi l4)] 82 3 [] Q))) : Z E YX39_code (d + 1) M [(0, vr (some (a0, 44, 0))), (1, vr (some (a1, 3, 0))), (2, vr r2), (3, vi l3), (4, vi l4)] 75 [vi s0] Q := by
  refine z_pop dX39_code_75 rfl ?_
  refine z_aload_n dX39_code_76 rfl rfl ?_
  refine z_getr (r := (gr M a0 1)) dX39_code_77 fsX39_12_44 rfl ?_
  refine z_iload dX39_code_80 rfl ?_
  obtain ⟨b1, e1_, k⟩ := k
  refine Z.eqs (lv' := [(0, vr (some (a0, 44, 0))), (1, vr (some (a1, 3, 0))), (2, vr r2), (3, vi l3), (4, vi l4)]) (st' := [vi l4, vr (some (b1, 11, 0))]) rfl (by rw [e1_] <;> rfl) ?_
  exact z_callV (as := [vi l4]) (st := []) dX39_code_82 vsX39_45_11 (Nat.le_refl _) (Nat.le_of_ble_eq_true rfl) (Nat.le_of_ble_eq_true rfl) rfl k
theorem sX39_code_85 {E : zE} {d : Nat} {Q : zO → zM → Prop} (M : zM) (a0 : Nat) (a1 : Nat) (r2 : Option zP) (l3 : Int32) (l4 : Int32) (u0 : Option zP) (k : ∃ b1 t1 : Nat, u0 = some (b1, t1, 0) ∧ ((20 ≤ t1 ∧ t1 < 45) ∧ (∃ Y_ : zY, vt_code t1 = some Y_ ∧ Z E Y_ d M (zargs 0 [vr (some (b1, t1, 0)), vr (some (a1, 3, 0))]) 0 [] (zafter E YX39_code (d + 1) [(0, vr (some (a0, 44, 0))), (1, vr (some (a1, 3, 0))), (2, vr r2), (3, vi l3), (4, vi l4)] 89 3 [] Q)))) : Z E YX39_code (d + 1) M [(0, vr (some (a0, 44, 0))), (1, vr (some (a1, 3, 0))), (2, vr r2), (3, vi l3), (4, vi l4)] 85 [vr u0] Q := by
  obtain ⟨b1, t1, e1_, k⟩ := k
  refine Z.eqs (lv' := [(0, vr (some (a0, 44, 0))), (1, vr (some (a1, 3, 0))), (2, vr r2), (3, vi l3), (4, vi l4)]) (st' := [vr (some (b1, t1, 0))]) rfl (by rw [e1_] <;> rfl) ?_
  obtain ⟨b_, k⟩ := k
  refine z_ckcast dX39_code_85 (ctX39_4 _ b_.1 b_.2) ?_
  refine z_aload_n dX39_code_88 rfl rfl ?_
  obtain ⟨Y_, y_, k⟩ := k
  exact z_callV (as := [vr (some (a1, 3, 0))]) (st := []) dX39_code_89 (vtX39_33 y_).1 (Nat.le_refl _) (Nat.le_trans (Nat.le_of_ble_eq_true rfl) (vtX39_33 y_).2.1) (Nat.le_trans (Nat.add_le_add_left (vtX39_33 y_).2.2 _) (Nat.le_of_ble_eq_true rfl)) rfl k
theorem sX39_code_92 {E : zE} {d : Nat} {Q : zO → zM → Prop} (M : zM) (a0 : Nat) (a1 : Nat) (r2 : Option zP) (l3 : Int32) (l4 : Int32) (k : Z E YX3_put d M (zargs 0 [vr (some (a1, 3, 0)), vi (14 : Int32), vi (13 : Int32), vi (0 : Int32)]) 0 [] (zafter E YX39_code (d + 1) [(0, vr (some (a0, 44, 0))), (1, vr (some (a1, 3, 0))), (2, vr r2), (3, vi l3), (4, vi l4)] 98 3 [] Q)) : Z E YX39_code (d + 1) M [(0, vr (some (a0, 44, 0))), (1, vr (some (a1, 3, 0))), (2, vr r2), (3, vi l3), (4, vi l4)] 92 [] Q := by
  refine z_aload_n dX39_code_92 rfl rfl ?_
  refine z_bipush (v := 14) dX39_code_93 rfl ?_
  refine z_bipush (v := 13) dX39_code_95 rfl ?_
  refine z_iconst (v := 0) dX39_code_97 rfl ?_
  exact z_callV (as := [vi (14 : Int32), vi (13 : Int32), vi (0 : Int32)]) (st := []) dX39_code_98 vsX39_49_3 (Nat.le_refl _) (Nat.le_of_ble_eq_true rfl) (Nat.le_of_ble_eq_true rfl) rfl k
theorem sX39_code_101 {E : zE} {d : Nat} {Q : zO → zM → Prop} (M : zM) (a0 : Nat) (a1 : Nat) (r2 : Option zP) (l3 : Int32) (l4 : Int32) (s0 : Int32) (k : Z E YX3_put d M (zargs 0 [vr (some (a1, 3, 0)), vi (22 : Int32), vi (0 : Int32), vi (0 : Int32)]) 0 [] (zafter E YX39_code (d + 1) [(0, vr (some (a0, 44, 0))), (1, vr (some (a1, 3, 0))), (2, vr r2), (3, vi l3), (4, vi l4)] 107 3 [] Q)) : Z E YX39_code (d + 1) M [(0, vr (some (a0, 44, 0))), (1, vr (some (a1, 3, 0))), (2, vr r2), (3, vi l3), (4, vi l4)] 101 [vi s0] Q := by
  refine z_pop dX39_code_101 rfl ?_
  refine z_aload_n dX39_code_102 rfl rfl ?_
  refine z_bipush (v := 22) dX39_code_103 rfl ?_
  refine z_iconst (v := 0) dX39_code_105 rfl ?_
  refine z_iconst (v := 0) dX39_code_106 rfl ?_
  exact z_callV (as := [vi (22 : Int32), vi (0 : Int32), vi (0 : Int32)]) (st := []) dX39_code_107 vsX39_49_3 (Nat.le_refl _) (Nat.le_of_ble_eq_true rfl) (Nat.le_of_ble_eq_true rfl) rfl k
theorem sX39_code_110 {E : zE} {d : Nat} {Q : zO → zM → Prop} (M : zM) (a0 : Nat) (a1 : Nat) (r2 : Option zP) (l3 : Int32) (l4 : Int32) (s0 : Int32) (k : Z E YX3_put d M (zargs 0 [vr (some (a1, 3, 0)), vi (17 : Int32), vi (0 : Int32), vi (0 : Int32)]) 0 [] (zafter E YX39_code (d + 1) [(0, vr (some (a0, 44, 0))), (1, vr (some (a1, 3, 0))), (2, vr r2), (3, vi l3), (4, vi l4), (5, vi s0)] 117 3 [] Q)) : Z E YX39_code (d + 1) M [(0, vr (some (a0, 44, 0))), (1, vr (some (a1, 3, 0))), (2, vr r2), (3, vi l3), (4, vi l4)] 110 [vi s0] Q := by
  refine z_ist dX39_code_110 (by decide) (lv' := [(0, vr (some (a0, 44, 0))), (1, vr (some (a1, 3, 0))), (2, vr r2), (3, vi l3), (4, vi l4), (5, vi s0)]) rfl ?_
  refine z_aload_n dX39_code_112 rfl rfl ?_
  refine z_bipush (v := 17) dX39_code_113 rfl ?_
  refine z_iconst (v := 0) dX39_code_115 rfl ?_
  refine z_iconst (v := 0) dX39_code_116 rfl ?_
  exact z_callV (as := [vi (17 : Int32), vi (0 : Int32), vi (0 : Int32)]) (st := []) dX39_code_117 vsX39_49_3 (Nat.le_refl _) (Nat.le_of_ble_eq_true rfl) (Nat.le_of_ble_eq_true rfl) rfl k
theorem sX39_code_120 {E : zE} {d : Nat} {Q : zO → zM → Prop} (M : zM) (a0 : Nat) (a1 : Nat) (r2 : Option zP) (l3 : Int32) (l4 : Int32) (l5 : Int32) (s0 : Int32) (k : Z E YX3_put d M (zargs 0 [vr (some (a1, 3, 0)), vi (21 : Int32), vi (0 : Int32), vi (0 : Int32)]) 0 [] (zafter E YX39_code (d + 1) [(0, vr (some (a0, 44, 0))), (1, vr (some (a1, 3, 0))), (2, vr r2), (3, vi l3), (4, vi l4), (5, vi l5)] 132 3 [vi l4, vr (gr M a0 3)] Q)) : Z E YX39_code (d + 1) M [(0, vr (some (a0, 44, 0))), (1, vr (some (a1, 3, 0))), (2, vr r2), (3, vi l3), (4, vi l4), (5, vi l5)] 120 [vi s0] Q := by
  refine z_pop dX39_code_120 rfl ?_
  refine z_aload_n dX39_code_121 rfl rfl ?_
  refine z_getr (r := (gr M a0 3)) dX39_code_122 fsX39_37_44 rfl ?_
  refine z_iload dX39_code_125 rfl ?_
  refine z_aload_n dX39_code_127 rfl rfl ?_
  refine z_bipush (v := 21) dX39_code_128 rfl ?_
  refine z_iconst (v := 0) dX39_code_130 rfl ?_
  refine z_iconst (v := 0) dX39_code_131 rfl ?_
  exact z_callV (as := [vi (21 : Int32), vi (0 : Int32), vi (0 : Int32)]) (st := [vi l4, vr (gr M a0 3)]) dX39_code_132 vsX39_49_3 (Nat.le_refl _) (Nat.le_of_ble_eq_true rfl) (Nat.le_of_ble_eq_true rfl) rfl k
theorem sX39_code_135 {E : zE} {d : Nat} {Q : zO → zM → Prop} (M : zM) (a0 : Nat) (a1 : Nat) (r2 : Option zP) (l3 : Int32) (l4 : Int32) (l5 : Int32) (s0 : Int32) (s1 : Int32) (u2 : Option zP) (k : ∃ b1 m1 : Nat, u2 = some (b1, 100, m1) ∧ (16 ≤ b1 ∧ (vp_in s1 m1 ∧ (Z E YX3_goal d (si M b1 (s1).toNatClampNeg s0) (zargs 0 [vr (some (a1, 3, 0)), vi l5]) 0 [] (zafter E YX39_code (d + 1) [(0, vr (some (a0, 44, 0))), (1, vr (some (a1, 3, 0))), (2, vr r2), (3, vi l3), (4, vi l4)] 139 3 [] Q))))) : Z E YX39_code (d + 1) M [(0, vr (some (a0, 44, 0))), (1, vr (some (a1, 3, 0))), (2, vr r2), (3, vi l3), (4, vi l4), (5, vi l5)] 135 [vi s0, vi s1, vr u2] Q := by
  obtain ⟨b1, m1, e1_, k⟩ := k
  refine Z.eqs (lv' := [(0, vr (some (a0, 44, 0))), (1, vr (some (a1, 3, 0))), (2, vr r2), (3, vi l3), (4, vi l4), (5, vi l5)]) (st' := [vi s0, vi s1, vr (some (b1, 100, m1))]) rfl (by rw [e1_] <;> rfl) ?_
  obtain ⟨g_, k⟩ := k
  obtain ⟨b_, k⟩ := k
  refine z_iast g_ dX39_code_135 b_ ?_
  refine z_aload_n dX39_code_136 rfl rfl ?_
  refine z_iload dX39_code_137 rfl ?_
  refine Z.pick [0, 1, 2, 3, 4] rfl ?_
  exact z_callV (as := [vi l5]) (st := []) dX39_code_139 vsX39_53_3 (Nat.le_refl _) (Nat.le_of_ble_eq_true rfl) (Nat.le_of_ble_eq_true rfl) rfl k
theorem sX39_code_142 {E : zE} {d : Nat} {Q : zO → zM → Prop} (M : zM) (a0 : Nat) (a1 : Nat) (r2 : Option zP) (l3 : Int32) (l4 : Int32) (k : Z E YX39_code (d + 1) M [(0, vr (some (a0, 44, 0))), (1, vr (some (a1, 3, 0))), (2, vr r2), (3, vi l3), (4, vi (l4 + (1 : Int32)))] 39 [] Q) : Z E YX39_code (d + 1) M [(0, vr (some (a0, 44, 0))), (1, vr (some (a1, 3, 0))), (2, vr r2), (3, vi l3), (4, vi l4)] 142 [] Q := by
  refine z_inc (v := (l4 + (1 : Int32))) dX39_code_142 rfl rfl (by decide) (lv' := [(0, vr (some (a0, 44, 0))), (1, vr (some (a1, 3, 0))), (2, vr r2), (3, vi l3), (4, vi (l4 + (1 : Int32)))]) rfl ?_
  refine z_goto (tgt := 39) dX39_code_145 rfl ?_
  exact k
theorem sX39_code_156 {E : zE} {d : Nat} {Q : zO → zM → Prop} (M : zM) (a0 : Nat) (a1 : Nat) (r2 : Option zP) (l3 : Int32) (s0 : Int32) (k : Z E YX3_put d M (zargs 0 [vr (some (a1, 3, 0)), vi (21 : Int32), vi (0 : Int32), vi (0 : Int32)]) 0 [] (zafter E YX39_code (d + 1) [(0, vr (some (a0, 44, 0))), (1, vr (some (a1, 3, 0))), (2, vr r2), (3, vi l3)] 162 3 [] Q)) : Z E YX39_code (d + 1) M [(0, vr (some (a0, 44, 0))), (1, vr (some (a1, 3, 0))), (2, vr r2), (3, vi l3)] 156 [vi s0] Q := by
  refine z_pop dX39_code_156 rfl ?_
  refine z_aload_n dX39_code_157 rfl rfl ?_
  refine z_bipush (v := 21) dX39_code_158 rfl ?_
  refine z_iconst (v := 0) dX39_code_160 rfl ?_
  refine z_iconst (v := 0) dX39_code_161 rfl ?_
  exact z_callV (as := [vi (21 : Int32), vi (0 : Int32), vi (0 : Int32)]) (st := []) dX39_code_162 vsX39_49_3 (Nat.le_refl _) (Nat.le_of_ble_eq_true rfl) (Nat.le_of_ble_eq_true rfl) rfl k
theorem sX39_code_165 {E : zE} {d : Nat} {Q : zO → zM → Prop} (M : zM) (a0 : Nat) (a1 : Nat) (r2 : Option zP) (l3 : Int32) (s0 : Int32) (k : Z E YX39_code (d + 1) M [(0, vr (some (a0, 44, 0))), (1, vr (some (a1, 3, 0))), (2, vr r2), (3, vi l3), (4, vi s0), (5, vi (0 : Int32))] 170 [] Q) : Z E YX39_code (d + 1) M [(0, vr (some (a0, 44, 0))), (1, vr (some (a1, 3, 0))), (2, vr r2), (3, vi l3)] 165 [vi s0] Q := by
  refine z_ist dX39_code_165 (by decide) (lv' := [(0, vr (some (a0, 44, 0))), (1, vr (some (a1, 3, 0))), (2, vr r2), (3, vi l3), (4, vi s0)]) rfl ?_
  refine z_iconst (v := 0) dX39_code_167 rfl ?_
  refine z_ist dX39_code_168 (by decide) (lv' := [(0, vr (some (a0, 44, 0))), (1, vr (some (a1, 3, 0))), (2, vr r2), (3, vi l3), (4, vi s0), (5, vi (0 : Int32))]) rfl ?_
  exact k
theorem sX39_code_170 {E : zE} {d : Nat} {Q : zO → zM → Prop} (M : zM) (a0 : Nat) (a1 : Nat) (r2 : Option zP) (l3 : Int32) (l4 : Int32) (l5 : Int32) (k : ∃ b1 m1 : Nat, (gr M a0 3) = some (b1, 100, m1) ∧ (if (Int32.ofNat m1) ≤ l5 then (if l3 = (-1 : Int32) then (Z E YX3_goal d M (zargs 0 [vr (some (a1, 3, 0)), vi l4]) 0 [] (zafter E YX39_code (d + 1) [(1, vr (some (a1, 3, 0))), (2, vr r2)] 232 3 [] Q)) else (Z E YX39_code (d + 1) M [(1, vr (some (a1, 3, 0))), (2, vr r2)] 235 [] Q)) else (if l5 = l3 then (Z E YX3_goal d M (zargs 0 [vr (some (a1, 3, 0)), vi l4]) 0 [] (zafter E YX39_code (d + 1) [(0, vr (some (a0, 44, 0))), (1, vr (some (a1, 3, 0))), (2, vr r2), (3, vi l3), (4, vi l4), (5, vi l5)] 199 3 [] Q)) else (∃ b2 m2 : Nat, (gr M a0 3) = some (b2, 100, m2) ∧ (vp_in l5 m2 ∧ (Z E YX3_goal d M (zargs 0 [vr (some (a1, 3, 0)), vi (gi M b2 (l5).toNatClampNeg)]) 0 [] (zafter E YX39_code (d + 1) [(0, vr (some (a0, 44, 0))), (1, vr (some (a1, 3, 0))), (2, vr r2), (3, vi l3), (4, vi l4), (5, vi l5)] 199 3 [] Q))))))) : Z E YX39_code (d + 1) M [(0, vr (some (a0, 44, 0))), (1, vr (some (a1, 3, 0))), (2, vr r2), (3, vi l3), (4, vi l4), (5, vi l5)] 170 [] Q := by
  refine z_iload dX39_code_170 rfl ?_
  refine z_aload_n dX39_code_172 rfl rfl ?_
  refine z_getr (r := (gr M a0 3)) dX39_code_173 fsX39_37_44 rfl ?_
  obtain ⟨b1, m1, e1_, k⟩ := k
  refine Z.eqs (lv' := [(0, vr (some (a0, 44, 0))), (1, vr (some (a1, 3, 0))), (2, vr r2), (3, vi l3), (4, vi l4), (5, vi l5)]) (st' := [vr (some (b1, 100, m1)), vi l5]) rfl (by rw [e1_] <;> rfl) ?_
  refine z_alen (q := 0) (v := Int32.ofNat m1) dX39_code_176 rfl ?_
  refine z_icmp_ge (tgt := 224) dX39_code_177 rfl (fun h_ => ?_) (fun h_ => ?_)
  · have k := zit h_ k
    refine z_iload_n dX39_code_224 rfl rfl ?_
    refine z_iconst (v := -1) dX39_code_225 rfl ?_
    refine z_icmp_ne (tgt := 235) dX39_code_226 rfl (fun h_ => ?_) (fun h_ => ?_)
    · have k := zif h_ k
      refine Z.pick [1, 2] rfl ?_
      exact k
    · have k := zit h_ k
      refine z_aload_n dX39_code_229 rfl rfl ?_
      refine z_iload dX39_code_230 rfl ?_
      refine Z.pick [1, 2] rfl ?_
      exact z_callV (as := [vi l4]) (st := []) dX39_code_232 vsX39_53_3 (Nat.le_refl _) (Nat.le_of_ble_eq_true rfl) (Nat.le_of_ble_eq_true rfl) rfl k
  · have k := zif h_ k
    refine z_aload_n dX39_code_180 rfl rfl ?_
    refine z_iload dX39_code_181 rfl ?_
    refine z_iload_n dX39_code_183 rfl rfl ?_
    refine z_icmp_ne (tgt := 192) dX39_code_184 rfl (fun h_ => ?_) (fun h_ => ?_)
    · have k := zif h_ k
      refine z_aload_n dX39_code_192 rfl rfl ?_
      refine z_getr (r := (gr M a0 3)) dX39_code_193 fsX39_37_44 rfl ?_
      refine z_iload dX39_code_196 rfl ?_
      obtain ⟨b2, m2, e2_, k⟩ := k
      refine Z.eqs (lv' := [(0, vr (some (a0, 44, 0))), (1, vr (some (a1, 3, 0))), (2, vr r2), (3, vi l3), (4, vi l4), (5, vi l5)]) (st' := [vi l5, vr (some (b2, 100, m2)), vr (some (a1, 3, 0))]) rfl (by rw [e2_] <;> rfl) ?_
      obtain ⟨b_, k⟩ := k
      refine z_iald dX39_code_198 b_ ?_
      exact z_callV (as := [vi (gi M b2 (l5).toNatClampNeg)]) (st := []) dX39_code_199 vsX39_53_3 (Nat.le_refl _) (Nat.le_of_ble_eq_true rfl) (Nat.le_of_ble_eq_true rfl) rfl k
    · have k := zit h_ k
      refine z_iload dX39_code_187 rfl ?_
      refine z_goto (tgt := 199) dX39_code_189 rfl ?_
      exact z_callV (as := [vi l4]) (st := []) dX39_code_199 vsX39_53_3 (Nat.le_refl _) (Nat.le_of_ble_eq_true rfl) (Nat.le_of_ble_eq_true rfl) rfl k
theorem sX39_code_202 {E : zE} {d : Nat} {Q : zO → zM → Prop} (M : zM) (a0 : Nat) (a1 : Nat) (r2 : Option zP) (l3 : Int32) (l4 : Int32) (l5 : Int32) (k : ∃ b1 : Nat, (gr M a0 2) = some (b1, 11, 0) ∧ (Z E YJ2_get d M (zargs 0 [vr (some (b1, 11, 0)), vi l5]) 0 [] (zafter E YX39_code (d + 1) [(0, vr (some (a0, 44, 0))), (1, vr (some (a1, 3, 0))), (2, vr r2), (3, vi l3), (4, vi l4), (5, vi l5)] 208 3 [] Q))) : Z E YX39_code (d + 1) M [(0, vr (some (a0, 44, 0))), (1, vr (some (a1, 3, 0))), (2, vr r2), (3, vi l3), (4, vi l4), (5, vi l5)] 202 [] Q := by
  refine z_aload_n dX39_code_202 rfl rfl ?_
  refine z_getr (r := (gr M a0 2)) dX39_code_203 fsX39_18_44 rfl ?_
  refine z_iload dX39_code_206 rfl ?_
  obtain ⟨b1, e1_, k⟩ := k
  refine Z.eqs (lv' := [(0, vr (some (a0, 44, 0))), (1, vr (some (a1, 3, 0))), (2, vr r2), (3, vi l3), (4, vi l4), (5, vi l5)]) (st' := [vi l5, vr (some (b1, 11, 0))]) rfl (by rw [e1_] <;> rfl) ?_
  exact z_callV (as := [vi l5]) (st := []) dX39_code_208 vsX39_45_11 (Nat.le_refl _) (Nat.le_of_ble_eq_true rfl) (Nat.le_of_ble_eq_true rfl) rfl k
theorem sX39_code_211 {E : zE} {d : Nat} {Q : zO → zM → Prop} (M : zM) (a0 : Nat) (a1 : Nat) (r2 : Option zP) (l3 : Int32) (l4 : Int32) (l5 : Int32) (u0 : Option zP) (k : ∃ b1 : Nat, u0 = some (b1, 20, 0) ∧ (Z E YX14_code d M (zargs 0 [vr (some (b1, 20, 0)), vr (some (a1, 3, 0))]) 0 [] (zafter E YX39_code (d + 1) [(0, vr (some (a0, 44, 0))), (1, vr (some (a1, 3, 0))), (2, vr r2), (3, vi l3), (4, vi l4), (5, vi l5)] 215 3 [] Q))) : Z E YX39_code (d + 1) M [(0, vr (some (a0, 44, 0))), (1, vr (some (a1, 3, 0))), (2, vr r2), (3, vi l3), (4, vi l4), (5, vi l5)] 211 [vr u0] Q := by
  obtain ⟨b1, e1_, k⟩ := k
  refine Z.eqs (lv' := [(0, vr (some (a0, 44, 0))), (1, vr (some (a1, 3, 0))), (2, vr r2), (3, vi l3), (4, vi l4), (5, vi l5)]) (st' := [vr (some (b1, 20, 0))]) rfl (by rw [e1_] <;> rfl) ?_
  refine z_ckcast dX39_code_211 ctX39_57_20 ?_
  refine z_aload_n dX39_code_214 rfl rfl ?_
  exact z_callV (as := [vr (some (a1, 3, 0))]) (st := []) dX39_code_215 vsX39_59_20 (Nat.le_refl _) (Nat.le_of_ble_eq_true rfl) (Nat.le_of_ble_eq_true rfl) rfl k
theorem sX39_code_218 {E : zE} {d : Nat} {Q : zO → zM → Prop} (M : zM) (a0 : Nat) (a1 : Nat) (r2 : Option zP) (l3 : Int32) (l4 : Int32) (l5 : Int32) (k : Z E YX39_code (d + 1) M [(0, vr (some (a0, 44, 0))), (1, vr (some (a1, 3, 0))), (2, vr r2), (3, vi l3), (4, vi l4), (5, vi (l5 + (1 : Int32)))] 170 [] Q) : Z E YX39_code (d + 1) M [(0, vr (some (a0, 44, 0))), (1, vr (some (a1, 3, 0))), (2, vr r2), (3, vi l3), (4, vi l4), (5, vi l5)] 218 [] Q := by
  refine z_inc (v := (l5 + (1 : Int32))) dX39_code_218 rfl rfl (by decide) (lv' := [(0, vr (some (a0, 44, 0))), (1, vr (some (a1, 3, 0))), (2, vr r2), (3, vi l3), (4, vi l4), (5, vi (l5 + (1 : Int32)))]) rfl ?_
  refine z_goto (tgt := 170) dX39_code_221 rfl ?_
  exact k
theorem sX39_code_235 {E : zE} {d : Nat} {Q : zO → zM → Prop} (M : zM) (a1 : Nat) (r2 : Option zP) (k : ∃ b1 : Nat, r2 = some (b1, 17, 0) ∧ (Z E YX3_place d M (zargs 0 [vr (some (a1, 3, 0))]) 0 [] (zafter E YX39_code (d + 1) [(1, vr (some (a1, 3, 0))), (2, vr (some (b1, 17, 0)))] 241 3 [vr (some (a1, 3, 0)), vr (gr M b1 1)] Q))) : Z E YX39_code (d + 1) M [(1, vr (some (a1, 3, 0))), (2, vr r2)] 235 [] Q := by
  refine z_aload_n dX39_code_235 rfl rfl ?_
  obtain ⟨b1, e1_, k⟩ := k
  refine Z.eqs (lv' := [(1, vr (some (a1, 3, 0))), (2, vr (some (b1, 17, 0)))]) (st' := [vr (some (b1, 17, 0))]) (by rw [e1_] <;> rfl) (by rw [e1_] <;> rfl) ?_
  refine z_getr (r := (gr M b1 1)) dX39_code_236 fsX39_60_17 rfl ?_
  refine z_aload_n dX39_code_239 rfl rfl ?_
  refine z_aload_n dX39_code_240 rfl rfl ?_
  exact z_callV (as := []) (st := [vr (some (a1, 3, 0)), vr (gr M b1 1)]) dX39_code_241 vsX39_64_3 (Nat.le_refl _) (Nat.le_of_ble_eq_true rfl) (Nat.le_of_ble_eq_true rfl) rfl k
theorem sX39_code_244 {E : zE} {d : Nat} {Q : zO → zM → Prop} (M : zM) (a1 : Nat) (a2 : Nat) (s0 : Int32) (p1 : Nat) (u2 : Option zP) (k : ∃ b1 : Nat, u2 = some (b1, 18, 0) ∧ (Z E YX41_goAll d M (zargs 0 [vr (some (b1, 18, 0)), vr (some (p1, 3, 0)), vi s0]) 0 [] (zafter E YX39_code (d + 1) [(1, vr (some (a1, 3, 0))), (2, vr (some (a2, 17, 0)))] 244 3 [] Q))) : Z E YX39_code (d + 1) M [(1, vr (some (a1, 3, 0))), (2, vr (some (a2, 17, 0)))] 244 [vi s0, vr (some (p1, 3, 0)), vr u2] Q := by
  obtain ⟨b1, e1_, k⟩ := k
  refine Z.eqs (lv' := [(1, vr (some (a1, 3, 0))), (2, vr (some (a2, 17, 0)))]) (st' := [vi s0, vr (some (p1, 3, 0)), vr (some (b1, 18, 0))]) rfl (by rw [e1_] <;> rfl) ?_
  exact z_callV (as := [vr (some (p1, 3, 0)), vi s0]) (st := []) dX39_code_244 vsX39_67_18 (Nat.le_refl _) (Nat.le_of_ble_eq_true rfl) (Nat.le_of_ble_eq_true rfl) rfl k
theorem sX39_code_247 {E : zE} {d : Nat} {Q : zO → zM → Prop} (M : zM) (a1 : Nat) (a2 : Nat) (k : Z E YX3_leave d M (zargs 0 [vr (some (a1, 3, 0)), vr (some (a2, 17, 0))]) 0 [] (zafter E YX39_code (d + 1) [] 249 3 [] Q)) : Z E YX39_code (d + 1) M [(1, vr (some (a1, 3, 0))), (2, vr (some (a2, 17, 0)))] 247 [] Q := by
  refine z_aload_n dX39_code_247 rfl rfl ?_
  refine z_aload_n dX39_code_248 rfl rfl ?_
  refine Z.pick [] rfl ?_
  exact z_callV (as := [vr (some (a2, 17, 0))]) (st := []) dX39_code_249 vsX39_73_3 (Nat.le_refl _) (Nat.le_of_ble_eq_true rfl) (Nat.le_of_ble_eq_true rfl) rfl k
theorem sX39_code_252 {E : zE} {d : Nat} {Q : zO → zM → Prop} (M : zM)  (k : Q (.inl none) M) : Z E YX39_code (d + 1) M [] 252 [] Q := by
  exact z_vret dX39_code_252 rfl k
/-! ScriptTypes$Around.<init>(I)V -/
theorem bX40_init_0 : zdec cX40_init 0 [(0, .aload_n 0, 1), (1, .invokespecial 1, 3), (4, .aload_n 0, 1), (5, .new 7, 3), (8, .dup, 1), (9, .invokespecial 9, 3), (12, .putfield 10, 3), (15, .aload_n 0, 1), (16, .new 7, 3), (19, .dup, 1), (20, .invokespecial 9, 3), (23, .putfield 16, 3), (26, .aload_n 0, 1), (27, .iload_n 1, 1), (28, .putfield 19, 3), (31, .return_, 1)] = true := by decide +kernel
theorem dX40_init_0 : decode cX40_init 0 = .ok (.aload_n 0, 1) := zdec_at bX40_init_0 0 rfl
theorem dX40_init_1 : decode cX40_init 1 = .ok (.invokespecial 1, 3) := zdec_at bX40_init_0 1 rfl
theorem dX40_init_4 : decode cX40_init 4 = .ok (.aload_n 0, 1) := zdec_at bX40_init_0 2 rfl
theorem dX40_init_5 : decode cX40_init 5 = .ok (.new 7, 3) := zdec_at bX40_init_0 3 rfl
theorem dX40_init_8 : decode cX40_init 8 = .ok (.dup, 1) := zdec_at bX40_init_0 4 rfl
theorem dX40_init_9 : decode cX40_init 9 = .ok (.invokespecial 9, 3) := zdec_at bX40_init_0 5 rfl
theorem dX40_init_12 : decode cX40_init 12 = .ok (.putfield 10, 3) := zdec_at bX40_init_0 6 rfl
theorem dX40_init_15 : decode cX40_init 15 = .ok (.aload_n 0, 1) := zdec_at bX40_init_0 7 rfl
theorem dX40_init_16 : decode cX40_init 16 = .ok (.new 7, 3) := zdec_at bX40_init_0 8 rfl
theorem dX40_init_19 : decode cX40_init 19 = .ok (.dup, 1) := zdec_at bX40_init_0 9 rfl
theorem dX40_init_20 : decode cX40_init 20 = .ok (.invokespecial 9, 3) := zdec_at bX40_init_0 10 rfl
theorem dX40_init_23 : decode cX40_init 23 = .ok (.putfield 16, 3) := zdec_at bX40_init_0 11 rfl
theorem dX40_init_26 : decode cX40_init 26 = .ok (.aload_n 0, 1) := zdec_at bX40_init_0 12 rfl
theorem dX40_init_27 : decode cX40_init 27 = .ok (.iload_n 1, 1) := zdec_at bX40_init_0 13 rfl
theorem dX40_init_28 : decode cX40_init 28 = .ok (.putfield 19, 3) := zdec_at bX40_init_0 14 rfl
theorem dX40_init_31 : decode cX40_init 31 = .ok (.return_, 1) := zdec_at bX40_init_0 15 rfl
theorem sX40_init_0 {E : zE} {d : Nat} {Q : zO → zM → Prop} (M : zM) (a0 : Nat) (l1 : Int32) (k : Z E YX40_init (d + 1) (zn M 2) [(0, vr (some (a0, 17, 0))), (1, vi l1)] 8 [vr (some ((zsz M), 18, 0)), vr (some (a0, 17, 0))] Q) : Z E YX40_init (d + 1) M [(0, vr (some (a0, 17, 0))), (1, vi l1)] 0 [] Q := by
  refine z_aload_n dX40_init_0 rfl rfl ?_
  refine z_objInit dX40_init_1 oiX40_1 (by omega) (by decide) ?_
  refine z_aload_n dX40_init_4 rfl rfl ?_
  refine z_new dX40_init_5 csX40_7 zff_18 ?_
  exact k
theorem sX40_init_8 {E : zE} {d : Nat} {Q : zO → zM → Prop} (M : zM) (a0 : Nat) (l1 : Int32) (p0 : Nat) (k : Z E YX41_init d M (zargs 0 [vr (some (p0, 18, 0))]) 0 [] (zafter E YX40_init (d + 1) [(0, vr (some (a0, 17, 0))), (1, vi l1)] 9 3 [vr (some (p0, 18, 0)), vr (some (a0, 17, 0))] Q)) : Z E YX40_init (d + 1) M [(0, vr (some (a0, 17, 0))), (1, vi l1)] 8 [vr (some (p0, 18, 0)), vr (some (a0, 17, 0))] Q := by
  refine z_dup dX40_init_8 rfl ?_
  exact z_callI (as := []) (st := [vr (some (p0, 18, 0)), vr (some (a0, 17, 0))]) dX40_init_9 isX40_9 (Nat.le_refl _) (Nat.le_of_ble_eq_true rfl) (Nat.le_of_ble_eq_true rfl) rfl k
theorem sX40_init_12 {E : zE} {d : Nat} {Q : zO → zM → Prop} (M : zM) (a0 : Nat) (l1 : Int32) (p0 : Nat) (k : 16 ≤ a0 ∧ (Z E YX40_init (d + 1) (zn (sr M a0 1 (some (p0, 18, 0))) 2) [(0, vr (some (a0, 17, 0))), (1, vi l1)] 19 [vr (some ((zsz M), 18, 0)), vr (some (a0, 17, 0))] Q)) : Z E YX40_init (d + 1) M [(0, vr (some (a0, 17, 0))), (1, vi l1)] 12 [vr (some (p0, 18, 0)), vr (some (a0, 17, 0))] Q := by
  obtain ⟨g_, k⟩ := k
  refine z_putr g_ dX40_init_12 (zfwN.f fwX40_10_17 rfl (fun q h => by rw [← Option.some.inj h]; rfl)) rfl ?_
  refine z_aload_n dX40_init_15 rfl rfl ?_
  refine z_new dX40_init_16 csX40_7 zff_18 ?_
  exact k
theorem sX40_init_19 {E : zE} {d : Nat} {Q : zO → zM → Prop} (M : zM) (a0 : Nat) (l1 : Int32) (p0 : Nat) (k : Z E YX41_init d M (zargs 0 [vr (some (p0, 18, 0))]) 0 [] (zafter E YX40_init (d + 1) [(0, vr (some (a0, 17, 0))), (1, vi l1)] 20 3 [vr (some (p0, 18, 0)), vr (some (a0, 17, 0))] Q)) : Z E YX40_init (d + 1) M [(0, vr (some (a0, 17, 0))), (1, vi l1)] 19 [vr (some (p0, 18, 0)), vr (some (a0, 17, 0))] Q := by
  refine z_dup dX40_init_19 rfl ?_
  exact z_callI (as := []) (st := [vr (some (p0, 18, 0)), vr (some (a0, 17, 0))]) dX40_init_20 isX40_9 (Nat.le_refl _) (Nat.le_of_ble_eq_true rfl) (Nat.le_of_ble_eq_true rfl) rfl k
theorem sX40_init_23 {E : zE} {d : Nat} {Q : zO → zM → Prop} (M : zM) (a0 : Nat) (l1 : Int32) (p0 : Nat) (k : 16 ≤ a0 ∧ (16 ≤ a0 ∧ (Q (.inl none) (si (sr M a0 2 (some (p0, 18, 0))) a0 0 l1)))) : Z E YX40_init (d + 1) M [(0, vr (some (a0, 17, 0))), (1, vi l1)] 23 [vr (some (p0, 18, 0)), vr (some (a0, 17, 0))] Q := by
  obtain ⟨g_, k⟩ := k
  refine z_putr g_ dX40_init_23 (zfwN.f fwX40_16_17 rfl (fun q h => by rw [← Option.some.inj h]; rfl)) rfl ?_
  refine z_aload_n dX40_init_26 rfl rfl ?_
  refine z_iload_n dX40_init_27 rfl rfl ?_
  obtain ⟨g_, k⟩ := k
  refine z_puti g_ dX40_init_28 (zfwN.f fwX40_19_17 rfl (fun q h => by rw [← Option.some.inj h]; rfl)) rfl ⟨rfl, rfl⟩ ?_
  exact z_vret dX40_init_31 rfl k
/-! ScriptTypes$Around.begin(ILScriptTypes$Around;)V -/
theorem bX40_begin_0 : zdec cX40_begin 0 [(0, .aload_n 0, 1), (1, .iload_n 1, 1), (2, .putfield 23, 3), (5, .aload_n 0, 1), (6, .aload_n 2, 1), (7, .putfield 26, 3), (10, .aload_n 0, 1), (11, .aconst_null, 1), (12, .putfield 30, 3), (15, .aload_n 0, 1), (16, .aconst_null, 1), (17, .putfield 33, 3), (20, .aload_n 0, 1), (21, .iconst 0, 1), (22, .putfield 37, 3), (25, .aload_n 0, 1)] = true := by decide +kernel
theorem dX40_begin_0 : decode cX40_begin 0 = .ok (.aload_n 0, 1) := zdec_at bX40_begin_0 0 rfl
theorem dX40_begin_1 : decode cX40_begin 1 = .ok (.iload_n 1, 1) := zdec_at bX40_begin_0 1 rfl
theorem dX40_begin_2 : decode cX40_begin 2 = .ok (.putfield 23, 3) := zdec_at bX40_begin_0 2 rfl
theorem dX40_begin_5 : decode cX40_begin 5 = .ok (.aload_n 0, 1) := zdec_at bX40_begin_0 3 rfl
theorem dX40_begin_6 : decode cX40_begin 6 = .ok (.aload_n 2, 1) := zdec_at bX40_begin_0 4 rfl
theorem dX40_begin_7 : decode cX40_begin 7 = .ok (.putfield 26, 3) := zdec_at bX40_begin_0 5 rfl
theorem dX40_begin_10 : decode cX40_begin 10 = .ok (.aload_n 0, 1) := zdec_at bX40_begin_0 6 rfl
theorem dX40_begin_11 : decode cX40_begin 11 = .ok (.aconst_null, 1) := zdec_at bX40_begin_0 7 rfl
theorem dX40_begin_12 : decode cX40_begin 12 = .ok (.putfield 30, 3) := zdec_at bX40_begin_0 8 rfl
theorem dX40_begin_15 : decode cX40_begin 15 = .ok (.aload_n 0, 1) := zdec_at bX40_begin_0 9 rfl
theorem dX40_begin_16 : decode cX40_begin 16 = .ok (.aconst_null, 1) := zdec_at bX40_begin_0 10 rfl
theorem dX40_begin_17 : decode cX40_begin 17 = .ok (.putfield 33, 3) := zdec_at bX40_begin_0 11 rfl
theorem dX40_begin_20 : decode cX40_begin 20 = .ok (.aload_n 0, 1) := zdec_at bX40_begin_0 12 rfl
theorem dX40_begin_21 : decode cX40_begin 21 = .ok (.iconst 0, 1) := zdec_at bX40_begin_0 13 rfl
theorem dX40_begin_22 : decode cX40_begin 22 = .ok (.putfield 37, 3) := zdec_at bX40_begin_0 14 rfl
theorem dX40_begin_25 : decode cX40_begin 25 = .ok (.aload_n 0, 1) := zdec_at bX40_begin_0 15 rfl
theorem bX40_begin_26 : zdec cX40_begin 26 [(26, .iconst 1, 1), (27, .putfield 40, 3), (30, .aload_n 0, 1), (31, .getfield 10, 3), (34, .iconst 0, 1), (35, .putfield 43, 3), (38, .aload_n 0, 1), (39, .getfield 16, 3), (42, .iconst 0, 1), (43, .putfield 43, 3), (46, .return_, 1)] = true := by decide +kernel
theorem dX40_begin_26 : decode cX40_begin 26 = .ok (.iconst 1, 1) := zdec_at bX40_begin_26 0 rfl
theorem dX40_begin_27 : decode cX40_begin 27 = .ok (.putfield 40, 3) := zdec_at bX40_begin_26 1 rfl
theorem dX40_begin_30 : decode cX40_begin 30 = .ok (.aload_n 0, 1) := zdec_at bX40_begin_26 2 rfl
theorem dX40_begin_31 : decode cX40_begin 31 = .ok (.getfield 10, 3) := zdec_at bX40_begin_26 3 rfl
theorem dX40_begin_34 : decode cX40_begin 34 = .ok (.iconst 0, 1) := zdec_at bX40_begin_26 4 rfl
theorem dX40_begin_35 : decode cX40_begin 35 = .ok (.putfield 43, 3) := zdec_at bX40_begin_26 5 rfl
theorem dX40_begin_38 : decode cX40_begin 38 = .ok (.aload_n 0, 1) := zdec_at bX40_begin_26 6 rfl
theorem dX40_begin_39 : decode cX40_begin 39 = .ok (.getfield 16, 3) := zdec_at bX40_begin_26 7 rfl
theorem dX40_begin_42 : decode cX40_begin 42 = .ok (.iconst 0, 1) := zdec_at bX40_begin_26 8 rfl
theorem dX40_begin_43 : decode cX40_begin 43 = .ok (.putfield 43, 3) := zdec_at bX40_begin_26 9 rfl
theorem dX40_begin_46 : decode cX40_begin 46 = .ok (.return_, 1) := zdec_at bX40_begin_26 10 rfl
theorem sX40_begin_0 {E : zE} {d : Nat} {Q : zO → zM → Prop} (M : zM) (a0 : Nat) (l1 : Int32) (r2 : Option zP) (k : 16 ≤ a0 ∧ (16 ≤ a0 ∧ (16 ≤ a0 ∧ (16 ≤ a0 ∧ (16 ≤ a0 ∧ (16 ≤ a0 ∧ (∃ b1 : Nat, (gr (sr (sr (sr (si M a0 3 l1) a0 4 r2) a0 5 none) a0 6 none) a0 1) = some (b1, 18, 0) ∧ (16 ≤ b1 ∧ (∃ b2 : Nat, (gr (sr (sr (sr (si M a0 3 l1) a0 4 r2) a0 5 none) a0 6 none) a0 2) = some (b2, 18, 0) ∧ (16 ≤ b2 ∧ (Q (.inl none) (si (si (si (si (sr (sr (sr (si M a0 3 l1) a0 4 r2) a0 5 none) a0 6 none) a0 7 (0 : Int32)) a0 8 (1 : Int32)) b1 1 (0 : Int32)) b2 1 (0 : Int32))))))))))))) : Z E YX40_begin d M [(0, vr (some (a0, 17, 0))), (1, vi l1), (2, vr r2)] 0 [] Q := by
  refine z_aload_n dX40_begin_0 rfl rfl ?_
  refine z_iload_n dX40_begin_1 rfl rfl ?_
  obtain ⟨g_, k⟩ := k
  refine z_puti g_ dX40_begin_2 (zfwN.w fwX40_23_17) rfl ⟨rfl, rfl⟩ ?_
  refine z_aload_n dX40_begin_5 rfl rfl ?_
  refine z_aload_n dX40_begin_6 rfl rfl ?_
  obtain ⟨g_, k⟩ := k
  refine z_putr g_ dX40_begin_7 (zfwN.w fwX40_26_17) rfl ?_
  refine z_aload_n dX40_begin_10 rfl rfl ?_
  refine z_null dX40_begin_11 ?_
  obtain ⟨g_, k⟩ := k
  refine z_putr g_ dX40_begin_12 (zfwN.w fwX40_30_17) rfl ?_
  refine z_aload_n dX40_begin_15 rfl rfl ?_
  refine z_null dX40_begin_16 ?_
  obtain ⟨g_, k⟩ := k
  refine z_putr g_ dX40_begin_17 (zfwN.w fwX40_33_17) rfl ?_
  refine z_aload_n dX40_begin_20 rfl rfl ?_
  refine z_iconst (v := 0) dX40_begin_21 rfl ?_
  obtain ⟨g_, k⟩ := k
  refine z_puti g_ dX40_begin_22 (zfwN.w fwX40_37_17) rfl ⟨rfl, rfl⟩ ?_
  refine z_aload_n dX40_begin_25 rfl rfl ?_
  refine z_iconst (v := 1) dX40_begin_26 rfl ?_
  obtain ⟨g_, k⟩ := k
  refine z_puti g_ dX40_begin_27 (zfwN.w fwX40_40_17) rfl ⟨rfl, rfl⟩ ?_
  refine z_aload_n dX40_begin_30 rfl rfl ?_
  refine z_getr (r := (gr (sr (sr (sr (si M a0 3 l1) a0 4 r2) a0 5 none) a0 6 none) a0 1)) dX40_begin_31 fsX40_10_17 rfl ?_
  refine z_iconst (v := 0) dX40_begin_34 rfl ?_
  obtain ⟨b1, e1_, k⟩ := k
  refine Z.eqs (lv' := [(0, vr (some (a0, 17, 0))), (1, vi l1), (2, vr r2)]) (st' := [vi (0 : Int32), vr (some (b1, 18, 0))]) rfl (by rw [e1_] <;> rfl) ?_
  obtain ⟨g_, k⟩ := k
  refine z_puti g_ dX40_begin_35 (zfwN.w fwX40_43_18) rfl ⟨rfl, rfl⟩ ?_
  refine z_aload_n dX40_begin_38 rfl rfl ?_
  refine z_getr (r := (gr (sr (sr (sr (si M a0 3 l1) a0 4 r2) a0 5 none) a0 6 none) a0 2)) dX40_begin_39 fsX40_16_17 rfl ?_
  refine z_iconst (v := 0) dX40_begin_42 rfl ?_
  obtain ⟨b2, e2_, k⟩ := k
  refine Z.eqs (lv' := [(0, vr (some (a0, 17, 0))), (1, vi l1), (2, vr r2)]) (st' := [vi (0 : Int32), vr (some (b2, 18, 0))]) rfl (by rw [e2_] <;> rfl) ?_
  obtain ⟨g_, k⟩ := k
  refine z_puti g_ dX40_begin_43 (zfwN.w fwX40_43_18) rfl ⟨rfl, rfl⟩ ?_
  exact z_vret dX40_begin_46 rfl k
/-! ScriptTypes$Jumps.<init>()V -/
theorem bX41_init_0 : zdec cX41_init 0 [(0, .aload_n 0, 1), (1, .invokespecial 1, 3), (4, .aload_n 0, 1), (5, .iconst 4, 1), (6, .newarray .int, 2), (8, .putfield 7, 3), (11, .return_, 1)] = true := by decide +kernel
theorem dX41_init_0 : decode cX41_init 0 = .ok (.aload_n 0, 1) := zdec_at bX41_init_0 0 rfl
theorem dX41_init_1 : decode cX41_init 1 = .ok (.invokespecial 1, 3) := zdec_at bX41_init_0 1 rfl
theorem dX41_init_4 : decode cX41_init 4 = .ok (.aload_n 0, 1) := zdec_at bX41_init_0 2 rfl
theorem dX41_init_5 : decode cX41_init 5 = .ok (.iconst 4, 1) := zdec_at bX41_init_0 3 rfl
theorem dX41_init_6 : decode cX41_init 6 = .ok (.newarray .int, 2) := zdec_at bX41_init_0 4 rfl
theorem dX41_init_8 : decode cX41_init 8 = .ok (.putfield 7, 3) := zdec_at bX41_init_0 5 rfl
theorem dX41_init_11 : decode cX41_init 11 = .ok (.return_, 1) := zdec_at bX41_init_0 6 rfl
theorem sX41_init_0 {E : zE} {d : Nat} {Q : zO → zM → Prop} (M : zM) (a0 : Nat) (k : Z E YX41_init (d + 1) (zn M 4) [] 8 [vr (some ((zsz M), 100, 4)), vr (some (a0, 18, 0))] Q) : Z E YX41_init (d + 1) M [(0, vr (some (a0, 18, 0)))] 0 [] Q := by
  refine z_aload_n dX41_init_0 rfl rfl ?_
  refine z_objInit dX41_init_1 oiX41_1 (by omega) (by decide) ?_
  refine z_aload_n dX41_init_4 rfl rfl ?_
  refine z_iconst (v := 4) dX41_init_5 rfl ?_
  refine z_newa (q := 0) (N := 4) dX41_init_6 rfl (by decide) q535 (by decide) (by decide) (by decide) ?_
  refine Z.pick [] rfl ?_
  exact k
theorem sX41_init_8 {E : zE} {d : Nat} {Q : zO → zM → Prop} (M : zM) (p0 : Nat) (a0 : Nat) (k : 16 ≤ a0 ∧ (Q (.inl none) (sr M a0 0 (some (p0, 100, 4))))) : Z E YX41_init (d + 1) M [] 8 [vr (some (p0, 100, 4)), vr (some (a0, 18, 0))] Q := by
  obtain ⟨g_, k⟩ := k
  refine z_putr g_ dX41_init_8 (zfwN.w fwX41_7_18) rfl ?_
  exact z_vret dX41_init_11 rfl k
/-! ScriptTypes$Jumps.goAll(LScriptTypes$Coder;I)V -/
theorem bX41_goAll_0 : zdec cX41_goAll 0 [(0, .iconst 0, 1), (1, .istore_n 3, 1), (2, .iload_n 3, 1), (3, .aload_n 0, 1), (4, .getfield 13, 3), (7, .if_icmp .ge 20, 3), (10, .aload_n 1, 1), (11, .aload_n 0, 1), (12, .getfield 7, 3), (15, .iload_n 3, 1), (16, .iaload, 1), (17, .iload_n 2, 1), (18, .invokevirtual 23, 3), (21, .iinc 3 1, 3), (24, .goto (-22), 3), (27, .return_, 1)] = true := by decide +kernel
theorem dX41_goAll_0 : decode cX41_goAll 0 = .ok (.iconst 0, 1) := zdec_at bX41_goAll_0 0 rfl
theorem dX41_goAll_1 : decode cX41_goAll 1 = .ok (.istore_n 3, 1) := zdec_at bX41_goAll_0 1 rfl
theorem dX41_goAll_2 : decode cX41_goAll 2 = .ok (.iload_n 3, 1) := zdec_at bX41_goAll_0 2 rfl
theorem dX41_goAll_3 : decode cX41_goAll 3 = .ok (.aload_n 0, 1) := zdec_at bX41_goAll_0 3 rfl
theorem dX41_goAll_4 : decode cX41_goAll 4 = .ok (.getfield 13, 3) := zdec_at bX41_goAll_0 4 rfl
theorem dX41_goAll_7 : decode cX41_goAll 7 = .ok (.if_icmp .ge 20, 3) := zdec_at bX41_goAll_0 5 rfl
theorem dX41_goAll_10 : decode cX41_goAll 10 = .ok (.aload_n 1, 1) := zdec_at bX41_goAll_0 6 rfl
theorem dX41_goAll_11 : decode cX41_goAll 11 = .ok (.aload_n 0, 1) := zdec_at bX41_goAll_0 7 rfl
theorem dX41_goAll_12 : decode cX41_goAll 12 = .ok (.getfield 7, 3) := zdec_at bX41_goAll_0 8 rfl
theorem dX41_goAll_15 : decode cX41_goAll 15 = .ok (.iload_n 3, 1) := zdec_at bX41_goAll_0 9 rfl
theorem dX41_goAll_16 : decode cX41_goAll 16 = .ok (.iaload, 1) := zdec_at bX41_goAll_0 10 rfl
theorem dX41_goAll_17 : decode cX41_goAll 17 = .ok (.iload_n 2, 1) := zdec_at bX41_goAll_0 11 rfl
theorem dX41_goAll_18 : decode cX41_goAll 18 = .ok (.invokevirtual 23, 3) := zdec_at bX41_goAll_0 12 rfl
theorem dX41_goAll_21 : decode cX41_goAll 21 = .ok (.iinc 3 1, 3) := zdec_at bX41_goAll_0 13 rfl
theorem dX41_goAll_24 : decode cX41_goAll 24 = .ok (.goto (-22), 3) := zdec_at bX41_goAll_0 14 rfl
theorem dX41_goAll_27 : decode cX41_goAll 27 = .ok (.return_, 1) := zdec_at bX41_goAll_0 15 rfl
theorem sX41_goAll_0 {E : zE} {d : Nat} {Q : zO → zM → Prop} (M : zM) (a0 : Nat) (r1 : Option zP) (l2 : Int32) (k : Z E YX41_goAll (d + 1) M [(0, vr (some (a0, 18, 0))), (1, vr r1), (2, vi l2), (3, vi (0 : Int32))] 2 [] Q) : Z E YX41_goAll (d + 1) M [(0, vr (some (a0, 18, 0))), (1, vr r1), (2, vi l2)] 0 [] Q := by
  refine z_iconst (v := 0) dX41_goAll_0 rfl ?_
  refine z_ist_n dX41_goAll_1 rfl (by decide) (lv' := [(0, vr (some (a0, 18, 0))), (1, vr r1), (2, vi l2), (3, vi (0 : Int32))]) rfl ?_
  exact k
theorem sX41_goAll_2 {E : zE} {d : Nat} {Q : zO → zM → Prop} (M : zM) (a0 : Nat) (r1 : Option zP) (l2 : Int32) (l3 : Int32) (k : if (gi M a0 1) ≤ l3 then (Q (.inl none) M) else (∃ b1 m1 : Nat, (gr M a0 0) = some (b1, 100, m1) ∧ (vp_in l3 m1 ∧ (∃ b2 : Nat, r1 = some (b2, 3, 0) ∧ (Z E YX3_goalAt d M (zargs 0 [vr (some (b2, 3, 0)), vi (gi M b1 (l3).toNatClampNeg), vi l2]) 0 [] (zafter E YX41_goAll (d + 1) [(0, vr (some (a0, 18, 0))), (1, vr (some (b2, 3, 0))), (2, vi l2), (3, vi l3)] 18 3 [] Q)))))) : Z E YX41_goAll (d + 1) M [(0, vr (some (a0, 18, 0))), (1, vr r1), (2, vi l2), (3, vi l3)] 2 [] Q := by
  refine z_iload_n dX41_goAll_2 rfl rfl ?_
  refine z_aload_n dX41_goAll_3 rfl rfl ?_
  refine z_geti dX41_goAll_4 fsX41_13_18 ?_
  refine z_icmp_ge (tgt := 27) dX41_goAll_7 rfl (fun h_ => ?_) (fun h_ => ?_)
  · have k := zit h_ k
    exact z_vret dX41_goAll_27 rfl k
  · have k := zif h_ k
    refine z_aload_n dX41_goAll_10 rfl rfl ?_
    refine z_aload_n dX41_goAll_11 rfl rfl ?_
    refine z_getr (r := (gr M a0 0)) dX41_goAll_12 fsX41_7_18 rfl ?_
    refine z_iload_n dX41_goAll_15 rfl rfl ?_
    obtain ⟨b1, m1, e1_, k⟩ := k
    refine Z.eqs (lv' := [(0, vr (some (a0, 18, 0))), (1, vr r1), (2, vi l2), (3, vi l3)]) (st' := [vi l3, vr (some (b1, 100, m1)), vr r1]) rfl (by rw [e1_] <;> rfl) ?_
    obtain ⟨b_, k⟩ := k
    refine z_iald dX41_goAll_16 b_ ?_
    refine z_iload_n dX41_goAll_17 rfl rfl ?_
    obtain ⟨b2, e2_, k⟩ := k
    refine Z.eqs (lv' := [(0, vr (some (a0, 18, 0))), (1, vr (some (b2, 3, 0))), (2, vi l2), (3, vi l3)]) (st' := [vi l2, vi (gi M b1 (l3).toNatClampNeg), vr (some (b2, 3, 0))]) (by rw [e2_] <;> rfl) (by rw [e2_] <;> rfl) ?_
    exact z_callV (as := [vi (gi M b1 (l3).toNatClampNeg), vi l2]) (st := []) dX41_goAll_18 vsX41_23_3 (Nat.le_refl _) (Nat.le_of_ble_eq_true rfl) (Nat.le_of_ble_eq_true rfl) rfl k
theorem sX41_goAll_21 {E : zE} {d : Nat} {Q : zO → zM → Prop} (M : zM) (a0 : Nat) (a1 : Nat) (l2 : Int32) (l3 : Int32) (k : Z E YX41_goAll (d + 1) M [(0, vr (some (a0, 18, 0))), (1, vr (some (a1, 3, 0))), (2, vi l2), (3, vi (l3 + (1 : Int32)))] 2 [] Q) : Z E YX41_goAll (d + 1) M [(0, vr (some (a0, 18, 0))), (1, vr (some (a1, 3, 0))), (2, vi l2), (3, vi l3)] 21 [] Q := by
  refine z_inc (v := (l3 + (1 : Int32))) dX41_goAll_21 rfl rfl (by decide) (lv' := [(0, vr (some (a0, 18, 0))), (1, vr (some (a1, 3, 0))), (2, vi l2), (3, vi (l3 + (1 : Int32)))]) rfl ?_
  refine z_goto (tgt := 2) dX41_goAll_24 rfl ?_
  exact k
/-! ScriptTypes$Jumps.add(I)V -/
theorem bX41_add_0 : zdec cX41_add 0 [(0, .aload_n 0, 1), (1, .getfield 13, 3), (4, .aload_n 0, 1), (5, .getfield 7, 3), (8, .arraylength, 1), (9, .if_icmp .ne 31, 3), (12, .iconst 2, 1), (13, .aload_n 0, 1), (14, .getfield 13, 3), (17, .imul, 1), (18, .newarray .int, 2), (20, .astore_n 2, 1), (21, .aload_n 0, 1), (22, .getfield 7, 3), (25, .iconst 0, 1), (26, .aload_n 2, 1)] = true := by decide +kernel
theorem dX41_add_0 : decode cX41_add 0 = .ok (.aload_n 0, 1) := zdec_at bX41_add_0 0 rfl
theorem dX41_add_1 : decode cX41_add 1 = .ok (.getfield 13, 3) := zdec_at bX41_add_0 1 rfl
theorem dX41_add_4 : decode cX41_add 4 = .ok (.aload_n 0, 1) := zdec_at bX41_add_0 2 rfl
theorem dX41_add_5 : decode cX41_add 5 = .ok (.getfield 7, 3) := zdec_at bX41_add_0 3 rfl
theorem dX41_add_8 : decode cX41_add 8 = .ok (.arraylength, 1) := zdec_at bX41_add_0 4 rfl
theorem dX41_add_9 : decode cX41_add 9 = .ok (.if_icmp .ne 31, 3) := zdec_at bX41_add_0 5 rfl
theorem dX41_add_12 : decode cX41_add 12 = .ok (.iconst 2, 1) := zdec_at bX41_add_0 6 rfl
theorem dX41_add_13 : decode cX41_add 13 = .ok (.aload_n 0, 1) := zdec_at bX41_add_0 7 rfl
theorem dX41_add_14 : decode cX41_add 14 = .ok (.getfield 13, 3) := zdec_at bX41_add_0 8 rfl
theorem dX41_add_17 : decode cX41_add 17 = .ok (.imul, 1) := zdec_at bX41_add_0 9 rfl
theorem dX41_add_18 : decode cX41_add 18 = .ok (.newarray .int, 2) := zdec_at bX41_add_0 10 rfl
theorem dX41_add_20 : decode cX41_add 20 = .ok (.astore_n 2, 1) := zdec_at bX41_add_0 11 rfl
theorem dX41_add_21 : decode cX41_add 21 = .ok (.aload_n 0, 1) := zdec_at bX41_add_0 12 rfl
theorem dX41_add_22 : decode cX41_add 22 = .ok (.getfield 7, 3) := zdec_at bX41_add_0 13 rfl
theorem dX41_add_25 : decode cX41_add 25 = .ok (.iconst 0, 1) := zdec_at bX41_add_0 14 rfl
theorem dX41_add_26 : decode cX41_add 26 = .ok (.aload_n 2, 1) := zdec_at bX41_add_0 15 rfl
theorem bX41_add_27 : zdec cX41_add 27 [(27, .iconst 0, 1), (28, .aload_n 0, 1), (29, .getfield 13, 3), (32, .invokestatic 17, 3), (35, .aload_n 0, 1), (36, .aload_n 2, 1), (37, .putfield 7, 3), (40, .aload_n 0, 1), (41, .getfield 7, 3), (44, .aload_n 0, 1), (45, .dup, 1), (46, .getfield 13, 3), (49, .dup_x1, 1), (50, .iconst 1, 1), (51, .iadd, 1), (52, .putfield 13, 3)] = true := by decide +kernel
theorem dX41_add_27 : decode cX41_add 27 = .ok (.iconst 0, 1) := zdec_at bX41_add_27 0 rfl
theorem dX41_add_28 : decode cX41_add 28 = .ok (.aload_n 0, 1) := zdec_at bX41_add_27 1 rfl
theorem dX41_add_29 : decode cX41_add 29 = .ok (.getfield 13, 3) := zdec_at bX41_add_27 2 rfl
theorem dX41_add_32 : decode cX41_add 32 = .ok (.invokestatic 17, 3) := zdec_at bX41_add_27 3 rfl
theorem dX41_add_35 : decode cX41_add 35 = .ok (.aload_n 0, 1) := zdec_at bX41_add_27 4 rfl
theorem dX41_add_36 : decode cX41_add 36 = .ok (.aload_n 2, 1) := zdec_at bX41_add_27 5 rfl
theorem dX41_add_37 : decode cX41_add 37 = .ok (.putfield 7, 3) := zdec_at bX41_add_27 6 rfl
theorem dX41_add_40 : decode cX41_add 40 = .ok (.aload_n 0, 1) := zdec_at bX41_add_27 7 rfl
theorem dX41_add_41 : decode cX41_add 41 = .ok (.getfield 7, 3) := zdec_at bX41_add_27 8 rfl
theorem dX41_add_44 : decode cX41_add 44 = .ok (.aload_n 0, 1) := zdec_at bX41_add_27 9 rfl
theorem dX41_add_45 : decode cX41_add 45 = .ok (.dup, 1) := zdec_at bX41_add_27 10 rfl
theorem dX41_add_46 : decode cX41_add 46 = .ok (.getfield 13, 3) := zdec_at bX41_add_27 11 rfl
theorem dX41_add_49 : decode cX41_add 49 = .ok (.dup_x1, 1) := zdec_at bX41_add_27 12 rfl
theorem dX41_add_50 : decode cX41_add 50 = .ok (.iconst 1, 1) := zdec_at bX41_add_27 13 rfl
theorem dX41_add_51 : decode cX41_add 51 = .ok (.iadd, 1) := zdec_at bX41_add_27 14 rfl
theorem dX41_add_52 : decode cX41_add 52 = .ok (.putfield 13, 3) := zdec_at bX41_add_27 15 rfl
theorem bX41_add_55 : zdec cX41_add 55 [(55, .iload_n 1, 1), (56, .iastore, 1), (57, .return_, 1)] = true := by decide +kernel
theorem dX41_add_55 : decode cX41_add 55 = .ok (.iload_n 1, 1) := zdec_at bX41_add_55 0 rfl
theorem dX41_add_56 : decode cX41_add 56 = .ok (.iastore, 1) := zdec_at bX41_add_55 1 rfl
theorem dX41_add_57 : decode cX41_add 57 = .ok (.return_, 1) := zdec_at bX41_add_55 2 rfl
theorem sX41_add_0 {E : zE} {d : Nat} {Q : zO → zM → Prop} (M : zM) (a0 : Nat) (l1 : Int32) (k : ∃ b1 m1 : Nat, (gr M a0 0) = some (b1, 100, m1) ∧ (if (gi M a0 1) = (Int32.ofNat m1) then ((¬ ((2 : Int32) * (gi M a0 1)) < 0 ∧ (((2 : Int32) * (gi M a0 1))).toNatClampNeg * 8 ≤ 536870912) ∧ (Z E YX41_add d (zn M (((2 : Int32) * (gi M a0 1))).toNatClampNeg) [(0, vr (some (a0, 18, 0))), (1, vi l1)] 20 [vr (some ((zsz M), 100, (((2 : Int32) * (gi M a0 1))).toNatClampNeg))] Q)) else (Z E YX41_add d M [(0, vr (some (a0, 18, 0))), (1, vi l1)] 40 [] Q))) : Z E YX41_add d M [(0, vr (some (a0, 18, 0))), (1, vi l1)] 0 [] Q := by
  refine z_aload_n dX41_add_0 rfl rfl ?_
  refine z_geti dX41_add_1 fsX41_13_18 ?_
  refine z_aload_n dX41_add_4 rfl rfl ?_
  refine z_getr (r := (gr M a0 0)) dX41_add_5 fsX41_7_18 rfl ?_
  obtain ⟨b1, m1, e1_, k⟩ := k
  refine Z.eqs (lv' := [(0, vr (some (a0, 18, 0))), (1, vi l1)]) (st' := [vr (some (b1, 100, m1)), vi (gi M a0 1)]) rfl (by rw [e1_] <;> rfl) ?_
  refine z_alen (q := 0) (v := Int32.ofNat m1) dX41_add_8 rfl ?_
  refine z_icmp_ne (tgt := 40) dX41_add_9 rfl (fun h_ => ?_) (fun h_ => ?_)
  · have k := zif h_ k
    exact k
  · have k := zit h_ k
    refine z_iconst (v := 2) dX41_add_12 rfl ?_
    refine z_aload_n dX41_add_13 rfl rfl ?_
    refine z_geti dX41_add_14 fsX41_13_18 ?_
    refine z_imul dX41_add_17 ?_
    obtain ⟨b_, k⟩ := k
    refine z_newa (q := 0) (N := (((2 : Int32) * (gi M a0 1))).toNatClampNeg) dX41_add_18 rfl (by decide) q535 b_.1 rfl b_.2 ?_
    exact k
theorem sX41_add_20 {E : zE} {d : Nat} {Q : zO → zM → Prop} (M : zM) (a0 : Nat) (l1 : Int32) (p0 : Nat) (np0 : Nat) (k : ∃ b1 m1 : Nat, (gr M a0 0) = some (b1, 100, m1) ∧ (16 ≤ p0 ∧ ((1 ≤ d) ∧ (((¬ (0 : Int32) < 0 ∧ ¬ (0 : Int32) < 0 ∧ ¬ (gi M a0 1) < 0) ∧ ((0 : Int32)).toNatClampNeg + ((gi M a0 1)).toNatClampNeg ≤ m1 ∧ ((0 : Int32)).toNatClampNeg + ((gi M a0 1)).toNatClampNeg ≤ np0) ∧ (Z E YX41_add d (cpi M b1 ((0 : Int32)).toNatClampNeg p0 ((0 : Int32)).toNatClampNeg ((gi M a0 1)).toNatClampNeg) [(0, vr (some (a0, 18, 0))), (1, vi l1), (2, vr (some (p0, 100, np0)))] 35 [] Q))))) : Z E YX41_add d M [(0, vr (some (a0, 18, 0))), (1, vi l1)] 20 [vr (some (p0, 100, np0))] Q := by
  refine z_ast_n dX41_add_20 rfl (by decide) (lv' := [(0, vr (some (a0, 18, 0))), (1, vi l1), (2, vr (some (p0, 100, np0)))]) rfl ?_
  refine z_aload_n dX41_add_21 rfl rfl ?_
  refine z_getr (r := (gr M a0 0)) dX41_add_22 fsX41_7_18 rfl ?_
  refine z_iconst (v := 0) dX41_add_25 rfl ?_
  refine z_aload_n dX41_add_26 rfl rfl ?_
  refine z_iconst (v := 0) dX41_add_27 rfl ?_
  refine z_aload_n dX41_add_28 rfl rfl ?_
  refine z_geti dX41_add_29 fsX41_13_18 ?_
  obtain ⟨b1, m1, e1_, k⟩ := k
  refine Z.eqs (lv' := [(0, vr (some (a0, 18, 0))), (1, vi l1), (2, vr (some (p0, 100, np0)))]) (st' := [vi (gi M a0 1), vi (0 : Int32), vr (some (p0, 100, np0)), vi (0 : Int32), vr (some (b1, 100, m1))]) rfl (by rw [e1_] <;> rfl) ?_
  obtain ⟨g_, k⟩ := k
  obtain ⟨d_, k⟩ := k
  obtain ⟨b_, k⟩ := k
  refine z_copyi g_ dX41_add_32 q2424 d_ (Nat.le_of_ble_eq_true rfl) b_.1.1 b_.1.2.1 b_.1.2.2 b_.2.1 b_.2.2 ?_
  exact k
theorem sX41_add_35 {E : zE} {d : Nat} {Q : zO → zM → Prop} (M : zM) (a0 : Nat) (l1 : Int32) (a2 : Nat) (na2 : Nat) (k : 16 ≤ a0 ∧ (Z E YX41_add d (sr M a0 0 (some (a2, 100, na2))) [(0, vr (some (a0, 18, 0))), (1, vi l1)] 40 [] Q)) : Z E YX41_add d M [(0, vr (some (a0, 18, 0))), (1, vi l1), (2, vr (some (a2, 100, na2)))] 35 [] Q := by
  refine z_aload_n dX41_add_35 rfl rfl ?_
  refine z_aload_n dX41_add_36 rfl rfl ?_
  obtain ⟨g_, k⟩ := k
  refine z_putr g_ dX41_add_37 (zfwN.w fwX41_7_18) rfl ?_
  refine Z.pick [0, 1] rfl ?_
  exact k
theorem sX41_add_40 {E : zE} {d : Nat} {Q : zO → zM → Prop} (M : zM) (a0 : Nat) (l1 : Int32) (k : 16 ≤ a0 ∧ (∃ b1 m1 : Nat, (gr M a0 0) = some (b1, 100, m1) ∧ (16 ≤ b1 ∧ (vp_in (gi M a0 1) m1 ∧ (Q (.inl none) (si (si M a0 1 ((gi M a0 1) + (1 : Int32))) b1 ((gi M a0 1)).toNatClampNeg l1)))))) : Z E YX41_add d M [(0, vr (some (a0, 18, 0))), (1, vi l1)] 40 [] Q := by
  refine z_aload_n dX41_add_40 rfl rfl ?_
  refine z_getr (r := (gr M a0 0)) dX41_add_41 fsX41_7_18 rfl ?_
  refine z_aload_n dX41_add_44 rfl rfl ?_
  refine z_dup dX41_add_45 rfl ?_
  refine z_geti dX41_add_46 fsX41_13_18 ?_
  refine z_dup_x1 dX41_add_49 rfl rfl ?_
  refine z_iconst (v := 1) dX41_add_50 rfl ?_
  refine z_iadd dX41_add_51 ?_
  obtain ⟨g_, k⟩ := k
  refine z_puti g_ dX41_add_52 (zfwN.w fwX41_13_18) rfl ⟨rfl, rfl⟩ ?_
  refine z_iload_n dX41_add_55 rfl rfl ?_
  obtain ⟨b1, m1, e1_, k⟩ := k
  refine Z.eqs (lv' := [(0, vr (some (a0, 18, 0))), (1, vi l1)]) (st' := [vi l1, vi (gi M a0 1), vr (some (b1, 100, m1))]) rfl (by rw [e1_] <;> rfl) ?_
  obtain ⟨g_, k⟩ := k
  obtain ⟨b_, k⟩ := k
  refine z_iast g_ dX41_add_56 b_ ?_
  exact z_vret dX41_add_57 rfl k
/-! ScriptTypes.read()I -/
theorem bX1_read_0 : zdec cX1_read 0 [(0, .aload_n 0, 1), (1, .iconst 0, 1), (2, .putfield 270, 3), (5, .aload_n 0, 1), (6, .iconst 0, 1), (7, .putfield 274, 3), (10, .aload_n 0, 1), (11, .iconst 0, 1), (12, .putfield 277, 3), (15, .aload_n 0, 1), (16, .invokevirtual 255, 3), (19, .new 280, 3), (22, .dup, 1), (23, .aload_n 0, 1), (24, .invokespecial 282, 3), (27, .astore_n 1, 1)] = true := by decide +kernel
theorem dX1_read_0 : decode cX1_read 0 = .ok (.aload_n 0, 1) := zdec_at bX1_read_0 0 rfl
theorem dX1_read_1 : decode cX1_read 1 = .ok (.iconst 0, 1) := zdec_at bX1_read_0 1 rfl
theorem dX1_read_2 : decode cX1_read 2 = .ok (.putfield 270, 3) := zdec_at bX1_read_0 2 rfl
theorem dX1_read_5 : decode cX1_read 5 = .ok (.aload_n 0, 1) := zdec_at bX1_read_0 3 rfl
theorem dX1_read_6 : decode cX1_read 6 = .ok (.iconst 0, 1) := zdec_at bX1_read_0 4 rfl
theorem dX1_read_7 : decode cX1_read 7 = .ok (.putfield 274, 3) := zdec_at bX1_read_0 5 rfl
theorem dX1_read_10 : decode cX1_read 10 = .ok (.aload_n 0, 1) := zdec_at bX1_read_0 6 rfl
theorem dX1_read_11 : decode cX1_read 11 = .ok (.iconst 0, 1) := zdec_at bX1_read_0 7 rfl
theorem dX1_read_12 : decode cX1_read 12 = .ok (.putfield 277, 3) := zdec_at bX1_read_0 8 rfl
theorem dX1_read_15 : decode cX1_read 15 = .ok (.aload_n 0, 1) := zdec_at bX1_read_0 9 rfl
theorem dX1_read_16 : decode cX1_read 16 = .ok (.invokevirtual 255, 3) := zdec_at bX1_read_0 10 rfl
theorem dX1_read_19 : decode cX1_read 19 = .ok (.new 280, 3) := zdec_at bX1_read_0 11 rfl
theorem dX1_read_22 : decode cX1_read 22 = .ok (.dup, 1) := zdec_at bX1_read_0 12 rfl
theorem dX1_read_23 : decode cX1_read 23 = .ok (.aload_n 0, 1) := zdec_at bX1_read_0 13 rfl
theorem dX1_read_24 : decode cX1_read 24 = .ok (.invokespecial 282, 3) := zdec_at bX1_read_0 14 rfl
theorem dX1_read_27 : decode cX1_read 27 = .ok (.astore_n 1, 1) := zdec_at bX1_read_0 15 rfl
theorem bX1_read_28 : zdec cX1_read 28 [(28, .aload_n 0, 1), (29, .aload_n 1, 1), (30, .invokevirtual 283, 3), (33, .putfield 82, 3), (36, .aload_n 0, 1), (37, .getfield 89, 3), (40, .iconst 0, 1), (41, .putfield 287, 3), (44, .aload_n 0, 1), (45, .getfield 89, 3), (48, .iconst 0, 1), (49, .putfield 288, 3), (52, .iconst 0, 1), (53, .istore_n 2, 1), (54, .iload_n 2, 1), (55, .aload_n 0, 1)] = true := by decide +kernel
theorem dX1_read_28 : decode cX1_read 28 = .ok (.aload_n 0, 1) := zdec_at bX1_read_28 0 rfl
theorem dX1_read_29 : decode cX1_read 29 = .ok (.aload_n 1, 1) := zdec_at bX1_read_28 1 rfl
theorem dX1_read_30 : decode cX1_read 30 = .ok (.invokevirtual 283, 3) := zdec_at bX1_read_28 2 rfl
theorem dX1_read_33 : decode cX1_read 33 = .ok (.putfield 82, 3) := zdec_at bX1_read_28 3 rfl
theorem dX1_read_36 : decode cX1_read 36 = .ok (.aload_n 0, 1) := zdec_at bX1_read_28 4 rfl
theorem dX1_read_37 : decode cX1_read 37 = .ok (.getfield 89, 3) := zdec_at bX1_read_28 5 rfl
theorem dX1_read_40 : decode cX1_read 40 = .ok (.iconst 0, 1) := zdec_at bX1_read_28 6 rfl
theorem dX1_read_41 : decode cX1_read 41 = .ok (.putfield 287, 3) := zdec_at bX1_read_28 7 rfl
theorem dX1_read_44 : decode cX1_read 44 = .ok (.aload_n 0, 1) := zdec_at bX1_read_28 8 rfl
theorem dX1_read_45 : decode cX1_read 45 = .ok (.getfield 89, 3) := zdec_at bX1_read_28 9 rfl
theorem dX1_read_48 : decode cX1_read 48 = .ok (.iconst 0, 1) := zdec_at bX1_read_28 10 rfl
theorem dX1_read_49 : decode cX1_read 49 = .ok (.putfield 288, 3) := zdec_at bX1_read_28 11 rfl
theorem dX1_read_52 : decode cX1_read 52 = .ok (.iconst 0, 1) := zdec_at bX1_read_28 12 rfl
theorem dX1_read_53 : decode cX1_read 53 = .ok (.istore_n 2, 1) := zdec_at bX1_read_28 13 rfl
theorem dX1_read_54 : decode cX1_read 54 = .ok (.iload_n 2, 1) := zdec_at bX1_read_28 14 rfl
theorem dX1_read_55 : decode cX1_read 55 = .ok (.aload_n 0, 1) := zdec_at bX1_read_28 15 rfl
theorem bX1_read_56 : zdec cX1_read 56 [(56, .getfield 82, 3), (59, .invokevirtual 291, 3), (62, .if_icmp .ge 40, 3), (65, .aload_n 0, 1), (66, .getfield 89, 3), (69, .getfield 287, 3), (72, .sipush 600, 3), (75, .if_icmp .gt 27, 3), (78, .aload_n 0, 1), (79, .getfield 89, 3), (82, .aload_n 0, 1), (83, .getfield 82, 3), (86, .iload_n 2, 1), (87, .invokevirtual 294, 3), (90, .checkcast 298, 3), (93, .invokevirtual 300, 3)] = true := by decide +kernel
theorem dX1_read_56 : decode cX1_read 56 = .ok (.getfield 82, 3) := zdec_at bX1_read_56 0 rfl
theorem dX1_read_59 : decode cX1_read 59 = .ok (.invokevirtual 291, 3) := zdec_at bX1_read_56 1 rfl
theorem dX1_read_62 : decode cX1_read 62 = .ok (.if_icmp .ge 40, 3) := zdec_at bX1_read_56 2 rfl
theorem dX1_read_65 : decode cX1_read 65 = .ok (.aload_n 0, 1) := zdec_at bX1_read_56 3 rfl
theorem dX1_read_66 : decode cX1_read 66 = .ok (.getfield 89, 3) := zdec_at bX1_read_56 4 rfl
theorem dX1_read_69 : decode cX1_read 69 = .ok (.getfield 287, 3) := zdec_at bX1_read_56 5 rfl
theorem dX1_read_72 : decode cX1_read 72 = .ok (.sipush 600, 3) := zdec_at bX1_read_56 6 rfl
theorem dX1_read_75 : decode cX1_read 75 = .ok (.if_icmp .gt 27, 3) := zdec_at bX1_read_56 7 rfl
theorem dX1_read_78 : decode cX1_read 78 = .ok (.aload_n 0, 1) := zdec_at bX1_read_56 8 rfl
theorem dX1_read_79 : decode cX1_read 79 = .ok (.getfield 89, 3) := zdec_at bX1_read_56 9 rfl
theorem dX1_read_82 : decode cX1_read 82 = .ok (.aload_n 0, 1) := zdec_at bX1_read_56 10 rfl
theorem dX1_read_83 : decode cX1_read 83 = .ok (.getfield 82, 3) := zdec_at bX1_read_56 11 rfl
theorem dX1_read_86 : decode cX1_read 86 = .ok (.iload_n 2, 1) := zdec_at bX1_read_56 12 rfl
theorem dX1_read_87 : decode cX1_read 87 = .ok (.invokevirtual 294, 3) := zdec_at bX1_read_56 13 rfl
theorem dX1_read_90 : decode cX1_read 90 = .ok (.checkcast 298, 3) := zdec_at bX1_read_56 14 rfl
theorem dX1_read_93 : decode cX1_read 93 = .ok (.invokevirtual 300, 3) := zdec_at bX1_read_56 15 rfl
theorem bX1_read_96 : zdec cX1_read 96 [(96, .iinc 2 1, 3), (99, .goto (-45), 3), (102, .aload_n 0, 1), (103, .aload_n 0, 1), (104, .getfield 19, 3), (107, .getfield 41, 3), (110, .putfield 58, 3), (113, .aload_n 0, 1), (114, .aload_n 0, 1), (115, .invokevirtual 303, 3), (118, .ifCond .ne 7, 3), (121, .iconst 1, 1), (122, .goto 4, 3), (125, .iconst 0, 1), (126, .putfield 270, 3), (129, .aload_n 0, 1)] = true := by decide +kernel
theorem dX1_read_96 : decode cX1_read 96 = .ok (.iinc 2 1, 3) := zdec_at bX1_read_96 0 rfl
theorem dX1_read_99 : decode cX1_read 99 = .ok (.goto (-45), 3) := zdec_at bX1_read_96 1 rfl
theorem dX1_read_102 : decode cX1_read 102 = .ok (.aload_n 0, 1) := zdec_at bX1_read_96 2 rfl
theorem dX1_read_103 : decode cX1_read 103 = .ok (.aload_n 0, 1) := zdec_at bX1_read_96 3 rfl
theorem dX1_read_104 : decode cX1_read 104 = .ok (.getfield 19, 3) := zdec_at bX1_read_96 4 rfl
theorem dX1_read_107 : decode cX1_read 107 = .ok (.getfield 41, 3) := zdec_at bX1_read_96 5 rfl
theorem dX1_read_110 : decode cX1_read 110 = .ok (.putfield 58, 3) := zdec_at bX1_read_96 6 rfl
theorem dX1_read_113 : decode cX1_read 113 = .ok (.aload_n 0, 1) := zdec_at bX1_read_96 7 rfl
theorem dX1_read_114 : decode cX1_read 114 = .ok (.aload_n 0, 1) := zdec_at bX1_read_96 8 rfl
theorem dX1_read_115 : decode cX1_read 115 = .ok (.invokevirtual 303, 3) := zdec_at bX1_read_96 9 rfl
theorem dX1_read_118 : decode cX1_read 118 = .ok (.ifCond .ne 7, 3) := zdec_at bX1_read_96 10 rfl
theorem dX1_read_121 : decode cX1_read 121 = .ok (.iconst 1, 1) := zdec_at bX1_read_96 11 rfl
theorem dX1_read_122 : decode cX1_read 122 = .ok (.goto 4, 3) := zdec_at bX1_read_96 12 rfl
theorem dX1_read_125 : decode cX1_read 125 = .ok (.iconst 0, 1) := zdec_at bX1_read_96 13 rfl
theorem dX1_read_126 : decode cX1_read 126 = .ok (.putfield 270, 3) := zdec_at bX1_read_96 14 rfl
theorem dX1_read_129 : decode cX1_read 129 = .ok (.aload_n 0, 1) := zdec_at bX1_read_96 15 rfl
theorem bX1_read_130 : zdec cX1_read 130 [(130, .iconst 0, 1), (131, .putfield 258, 3), (134, .aload_n 0, 1), (135, .getfield 270, 3), (138, .ifCond .ne 9, 3), (141, .aload_n 0, 1), (142, .invokevirtual 255, 3), (145, .iconst 4, 1), (146, .ireturn, 1), (147, .aload_n 0, 1), (148, .aload_n 0, 1), (149, .getfield 89, 3), (152, .getfield 288, 3), (155, .putfield 307, 3), (158, .iconst 0, 1), (159, .ireturn, 1)] = true := by decide +kernel
theorem dX1_read_130 : decode cX1_read 130 = .ok (.iconst 0, 1) := zdec_at bX1_read_130 0 rfl
theorem dX1_read_131 : decode cX1_read 131 = .ok (.putfield 258, 3) := zdec_at bX1_read_130 1 rfl
theorem dX1_read_134 : decode cX1_read 134 = .ok (.aload_n 0, 1) := zdec_at bX1_read_130 2 rfl
theorem dX1_read_135 : decode cX1_read 135 = .ok (.getfield 270, 3) := zdec_at bX1_read_130 3 rfl
theorem dX1_read_138 : decode cX1_read 138 = .ok (.ifCond .ne 9, 3) := zdec_at bX1_read_130 4 rfl
theorem dX1_read_141 : decode cX1_read 141 = .ok (.aload_n 0, 1) := zdec_at bX1_read_130 5 rfl
theorem dX1_read_142 : decode cX1_read 142 = .ok (.invokevirtual 255, 3) := zdec_at bX1_read_130 6 rfl
theorem dX1_read_145 : decode cX1_read 145 = .ok (.iconst 4, 1) := zdec_at bX1_read_130 7 rfl
theorem dX1_read_146 : decode cX1_read 146 = .ok (.ireturn, 1) := zdec_at bX1_read_130 8 rfl
theorem dX1_read_147 : decode cX1_read 147 = .ok (.aload_n 0, 1) := zdec_at bX1_read_130 9 rfl
theorem dX1_read_148 : decode cX1_read 148 = .ok (.aload_n 0, 1) := zdec_at bX1_read_130 10 rfl
theorem dX1_read_149 : decode cX1_read 149 = .ok (.getfield 89, 3) := zdec_at bX1_read_130 11 rfl
theorem dX1_read_152 : decode cX1_read 152 = .ok (.getfield 288, 3) := zdec_at bX1_read_130 12 rfl
theorem dX1_read_155 : decode cX1_read 155 = .ok (.putfield 307, 3) := zdec_at bX1_read_130 13 rfl
theorem dX1_read_158 : decode cX1_read 158 = .ok (.iconst 0, 1) := zdec_at bX1_read_130 14 rfl
theorem dX1_read_159 : decode cX1_read 159 = .ok (.ireturn, 1) := zdec_at bX1_read_130 15 rfl
theorem sX1_read_0 {E : zE} {d : Nat} {Q : zO → zM → Prop} (M : zM)  (hw : cw M) (k : Z E YX1_firstNames d (si (si (si M 16 10 (0 : Int32)) 16 62 (0 : Int32)) 16 51 (0 : Int32)) (zargs 0 [vr (some (16, 0, 0))]) 0 [] (zafter E YX1_read (d + 1) [(0, vr (some (16, 0, 0)))] 16 3 [] Q)) : Z E YX1_read (d + 1) M [(0, vr (some (16, 0, 0)))] 0 [] Q := by
  refine z_aload_n dX1_read_0 rfl rfl ?_
  refine z_iconst (v := 0) dX1_read_1 rfl ?_
  refine z_puti (by decide) dX1_read_2 (zfwN.w fwX1_270_0) rfl ⟨by decide, by decide⟩ ?_
  refine z_aload_n dX1_read_5 rfl rfl ?_
  refine z_iconst (v := 0) dX1_read_6 rfl ?_
  refine z_puti (by decide) dX1_read_7 (zfwN.w fwX1_274_0) rfl ⟨by decide, by decide⟩ ?_
  refine z_aload_n dX1_read_10 rfl rfl ?_
  refine z_iconst (v := 0) dX1_read_11 rfl ?_
  refine z_puti (by decide) dX1_read_12 (zfwN.w fwX1_277_0) rfl ⟨rfl, rfl⟩ ?_
  refine z_aload_n dX1_read_15 rfl rfl ?_
  exact z_callV (as := []) (st := []) dX1_read_16 vsX1_255_0 (Nat.le_refl _) (Nat.le_of_ble_eq_true rfl) (Nat.le_of_ble_eq_true rfl) rfl k
theorem sX1_read_19 {E : zE} {d : Nat} {Q : zO → zM → Prop} (M : zM)  (hw : cw M) (k : Z E YX1_read (d + 1) (zn M 9) [(0, vr (some (16, 0, 0)))] 22 [vr (some ((zsz M), 8, 0))] Q) : Z E YX1_read (d + 1) M [(0, vr (some (16, 0, 0)))] 19 [] Q := by
  refine z_new dX1_read_19 csX1_280 zff_8 ?_
  exact k
theorem sX1_read_22 {E : zE} {d : Nat} {Q : zO → zM → Prop} (M : zM) (p0 : Nat) (hw : cw M) (k : Z E YX9_init d M (zargs 0 [vr (some (p0, 8, 0)), vr (some (16, 0, 0))]) 0 [] (zafter E YX1_read (d + 1) [(0, vr (some (16, 0, 0)))] 24 3 [vr (some (p0, 8, 0))] Q)) : Z E YX1_read (d + 1) M [(0, vr (some (16, 0, 0)))] 22 [vr (some (p0, 8, 0))] Q := by
  refine z_dup dX1_read_22 rfl ?_
  refine z_aload_n dX1_read_23 rfl rfl ?_
  exact z_callI (as := [vr (some (16, 0, 0))]) (st := [vr (some (p0, 8, 0))]) dX1_read_24 isX1_282 (Nat.le_refl _) (Nat.le_of_ble_eq_true rfl) (Nat.le_of_ble_eq_true rfl) rfl k
theorem sX1_read_27 {E : zE} {d : Nat} {Q : zO → zM → Prop} (M : zM) (p0 : Nat) (hw : cw M) (k : Z E YX9_script d M (zargs 0 [vr (some (p0, 8, 0))]) 0 [] (zafter E YX1_read (d + 1) [(0, vr (some (16, 0, 0)))] 30 3 [vr (some (16, 0, 0))] Q)) : Z E YX1_read (d + 1) M [(0, vr (some (16, 0, 0)))] 27 [vr (some (p0, 8, 0))] Q := by
  refine z_ast_n dX1_read_27 rfl (by decide) (lv' := [(0, vr (some (16, 0, 0))), (1, vr (some (p0, 8, 0)))]) rfl ?_
  refine z_aload_n dX1_read_28 rfl rfl ?_
  refine z_aload_n dX1_read_29 rfl rfl ?_
  refine Z.pick [0] rfl ?_
  exact z_callV (as := []) (st := [vr (some (16, 0, 0))]) dX1_read_30 vsX1_283_8 (Nat.le_refl _) (Nat.le_of_ble_eq_true rfl) (Nat.le_of_ble_eq_true rfl) rfl k
theorem sX1_read_33 {E : zE} {d : Nat} {Q : zO → zM → Prop} (M : zM) (u0 : Option zP) (hw : cw M) (k : Z E YX1_read (d + 1) (si (si (sr M 16 8 u0) 29 7 (0 : Int32)) 29 8 (0 : Int32)) [(0, vr (some (16, 0, 0))), (2, vi (0 : Int32))] 54 [] Q) : Z E YX1_read (d + 1) M [(0, vr (some (16, 0, 0)))] 33 [vr u0, vr (some (16, 0, 0))] Q := by
  refine z_putr (by decide) dX1_read_33 (zfwN.w fwX1_82_0) rfl ?_
  refine z_aload_n dX1_read_36 rfl rfl ?_
  refine z_getr dX1_read_37 fsX1_89_0 (show gr M 16 9 = some (29, 3, 0) from cw_at hw 5 rfl) ?_
  refine z_iconst (v := 0) dX1_read_40 rfl ?_
  refine z_puti (by decide) dX1_read_41 (zfwN.w fwX1_287_3) rfl ⟨rfl, rfl⟩ ?_
  refine z_aload_n dX1_read_44 rfl rfl ?_
  refine z_getr dX1_read_45 fsX1_89_0 (show gr M 16 9 = some (29, 3, 0) from cw_at hw 5 rfl) ?_
  refine z_iconst (v := 0) dX1_read_48 rfl ?_
  refine z_puti (by decide) dX1_read_49 (zfwN.w fwX1_288_3) rfl ⟨rfl, rfl⟩ ?_
  refine z_iconst (v := 0) dX1_read_52 rfl ?_
  refine z_ist_n dX1_read_53 rfl (by decide) (lv' := [(0, vr (some (16, 0, 0))), (2, vi (0 : Int32))]) rfl ?_
  exact k
theorem sX1_read_54 {E : zE} {d : Nat} {Q : zO → zM → Prop} (M : zM) (l2 : Int32) (hw : cw M) (k : ∃ b1 : Nat, (gr M 16 8) = some (b1, 11, 0) ∧ (Z E YJ2_size d M (zargs 0 [vr (some (b1, 11, 0))]) 0 [] (zafter E YX1_read (d + 1) [(0, vr (some (16, 0, 0))), (2, vi l2)] 59 3 [vi l2] Q))) : Z E YX1_read (d + 1) M [(0, vr (some (16, 0, 0))), (2, vi l2)] 54 [] Q := by
  refine z_iload_n dX1_read_54 rfl rfl ?_
  refine z_aload_n dX1_read_55 rfl rfl ?_
  refine z_getr (r := (gr M 16 8)) dX1_read_56 fsX1_82_0 rfl ?_
  obtain ⟨b1, e1_, k⟩ := k
  refine Z.eqs (lv' := [(0, vr (some (16, 0, 0))), (2, vi l2)]) (st' := [vr (some (b1, 11, 0)), vi l2]) rfl (by rw [e1_] <;> rfl) ?_
  exact z_callV (as := []) (st := [vi l2]) dX1_read_59 vsX1_291_11 (Nat.le_refl _) (Nat.le_of_ble_eq_true rfl) (Nat.le_of_ble_eq_true rfl) rfl k
theorem sX1_read_62 {E : zE} {d : Nat} {Q : zO → zM → Prop} (M : zM) (l2 : Int32) (s0 : Int32) (s1 : Int32) (hw : cw M) (k : if s0 ≤ s1 then (Z E YX1_read (d + 1) M [(0, vr (some (16, 0, 0)))] 102 [] Q) else (if (600 : Int32) < (gi M 29 7) then (Z E YX1_read (d + 1) M [(0, vr (some (16, 0, 0)))] 102 [] Q) else (∃ b1 : Nat, (gr M 16 8) = some (b1, 11, 0) ∧ (Z E YJ2_get d M (zargs 0 [vr (some (b1, 11, 0)), vi l2]) 0 [] (zafter E YX1_read (d + 1) [(0, vr (some (16, 0, 0))), (2, vi l2)] 87 3 [vr (some (29, 3, 0))] Q))))) : Z E YX1_read (d + 1) M [(0, vr (some (16, 0, 0))), (2, vi l2)] 62 [vi s0, vi s1] Q := by
  refine z_icmp_ge (tgt := 102) dX1_read_62 rfl (fun h_ => ?_) (fun h_ => ?_)
  · have k := zit h_ k
    refine Z.pick [0] rfl ?_
    exact k
  · have k := zif h_ k
    refine z_aload_n dX1_read_65 rfl rfl ?_
    refine z_getr dX1_read_66 fsX1_89_0 (show gr M 16 9 = some (29, 3, 0) from cw_at hw 5 rfl) ?_
    refine z_geti dX1_read_69 fsX1_287_3 ?_
    refine z_sipush (v := 600) dX1_read_72 rfl ?_
    refine z_icmp_gt (tgt := 102) dX1_read_75 rfl (fun h_ => ?_) (fun h_ => ?_)
    · have k := zit h_ k
      refine Z.pick [0] rfl ?_
      exact k
    · have k := zif h_ k
      refine z_aload_n dX1_read_78 rfl rfl ?_
      refine z_getr dX1_read_79 fsX1_89_0 (show gr M 16 9 = some (29, 3, 0) from cw_at hw 5 rfl) ?_
      refine z_aload_n dX1_read_82 rfl rfl ?_
      refine z_getr (r := (gr M 16 8)) dX1_read_83 fsX1_82_0 rfl ?_
      refine z_iload_n dX1_read_86 rfl rfl ?_
      obtain ⟨b1, e1_, k⟩ := k
      refine Z.eqs (lv' := [(0, vr (some (16, 0, 0))), (2, vi l2)]) (st' := [vi l2, vr (some (b1, 11, 0)), vr (some (29, 3, 0))]) rfl (by rw [e1_] <;> rfl) ?_
      exact z_callV (as := [vi l2]) (st := [vr (some (29, 3, 0))]) dX1_read_87 vsX1_294_11 (Nat.le_refl _) (Nat.le_of_ble_eq_true rfl) (Nat.le_of_ble_eq_true rfl) rfl k
theorem sX1_read_90 {E : zE} {d : Nat} {Q : zO → zM → Prop} (M : zM) (l2 : Int32) (u0 : Option zP) (hw : cw M) (k : ∃ b1 : Nat, u0 = some (b1, 10, 0) ∧ (Z E YX3_code d M (zargs 0 [vr (some (29, 3, 0)), vr (some (b1, 10, 0))]) 0 [] (zafter E YX1_read (d + 1) [(0, vr (some (16, 0, 0))), (2, vi l2)] 93 3 [] Q))) : Z E YX1_read (d + 1) M [(0, vr (some (16, 0, 0))), (2, vi l2)] 90 [vr u0, vr (some (29, 3, 0))] Q := by
  obtain ⟨b1, e1_, k⟩ := k
  refine Z.eqs (lv' := [(0, vr (some (16, 0, 0))), (2, vi l2)]) (st' := [vr (some (b1, 10, 0)), vr (some (29, 3, 0))]) rfl (by rw [e1_] <;> rfl) ?_
  refine z_ckcast dX1_read_90 ctX1_298_10 ?_
  exact z_callV (as := [vr (some (b1, 10, 0))]) (st := []) dX1_read_93 vsX1_300_3 (Nat.le_refl _) (Nat.le_of_ble_eq_true rfl) (Nat.le_of_ble_eq_true rfl) rfl k
theorem sX1_read_96 {E : zE} {d : Nat} {Q : zO → zM → Prop} (M : zM) (l2 : Int32) (hw : cw M) (k : Z E YX1_read (d + 1) M [(0, vr (some (16, 0, 0))), (2, vi (l2 + (1 : Int32)))] 54 [] Q) : Z E YX1_read (d + 1) M [(0, vr (some (16, 0, 0))), (2, vi l2)] 96 [] Q := by
  refine z_inc (v := (l2 + (1 : Int32))) dX1_read_96 rfl rfl (by decide) (lv' := [(0, vr (some (16, 0, 0))), (2, vi (l2 + (1 : Int32)))]) rfl ?_
  refine z_goto (tgt := 54) dX1_read_99 rfl ?_
  exact k
theorem sX1_read_102 {E : zE} {d : Nat} {Q : zO → zM → Prop} (M : zM)  (hw : cw M) (k : Z E YX1_tooLarge d (si M 16 1 (gi M 17 2)) (zargs 0 [vr (some (16, 0, 0))]) 0 [] (zafter E YX1_read (d + 1) [(0, vr (some (16, 0, 0)))] 115 3 [vr (some (16, 0, 0))] Q)) : Z E YX1_read (d + 1) M [(0, vr (some (16, 0, 0)))] 102 [] Q := by
  refine z_aload_n dX1_read_102 rfl rfl ?_
  refine z_aload_n dX1_read_103 rfl rfl ?_
  refine z_getr dX1_read_104 fsX1_19_0 (show gr M 16 0 = some (17, 2, 0) from cw_at hw 0 rfl) ?_
  refine z_geti dX1_read_107 fsX1_41_2 ?_
  refine z_puti (by decide) dX1_read_110 (zfwN.w fwX1_58_0) rfl ⟨rfl, rfl⟩ ?_
  refine z_aload_n dX1_read_113 rfl rfl ?_
  refine z_aload_n dX1_read_114 rfl rfl ?_
  exact z_callV (as := []) (st := [vr (some (16, 0, 0))]) dX1_read_115 vsX1_303_0 (Nat.le_refl _) (Nat.le_of_ble_eq_true rfl) (Nat.le_of_ble_eq_true rfl) rfl k
theorem sX1_read_118 {E : zE} {d : Nat} {Q : zO → zM → Prop} (M : zM) (s0 : Int32) (hw : cw M) (k : if s0 = 0 then (Z E YX1_read (d + 1) M [(0, vr (some (16, 0, 0)))] 126 [vi (1 : Int32), vr (some (16, 0, 0))] Q) else (Z E YX1_read (d + 1) M [(0, vr (some (16, 0, 0)))] 126 [vi (0 : Int32), vr (some (16, 0, 0))] Q)) : Z E YX1_read (d + 1) M [(0, vr (some (16, 0, 0)))] 118 [vi s0, vr (some (16, 0, 0))] Q := by
  refine z_if_ne (tgt := 125) dX1_read_118 rfl (fun h_ => ?_) (fun h_ => ?_)
  · have k := zif h_ k
    refine z_iconst (v := 0) dX1_read_125 rfl ?_
    exact k
  · have k := zit h_ k
    refine z_iconst (v := 1) dX1_read_121 rfl ?_
    refine z_goto (tgt := 126) dX1_read_122 rfl ?_
    exact k
theorem sX1_read_126 {E : zE} {d : Nat} {Q : zO → zM → Prop} (M : zM) (s0 : Int32) (hw : cw M) (k : zfit .boolean s0 ∧ (if s0 = 0 then (Z E YX1_firstNames d (si (si M 16 10 s0) 16 5 (0 : Int32)) (zargs 0 [vr (some (16, 0, 0))]) 0 [] (zafter E YX1_read (d + 1) [] 142 3 [] Q)) else (Q (.inl (some (vi (0 : Int32)))) (si (si (si M 16 10 s0) 16 5 (0 : Int32)) 16 12 (gi M 29 8))))) : Z E YX1_read (d + 1) M [(0, vr (some (16, 0, 0)))] 126 [vi s0, vr (some (16, 0, 0))] Q := by
  obtain ⟨b_, k⟩ := k
  refine z_puti (by decide) dX1_read_126 (zfwN.w fwX1_270_0) rfl b_ ?_
  refine z_aload_n dX1_read_129 rfl rfl ?_
  refine z_iconst (v := 0) dX1_read_130 rfl ?_
  refine z_puti (by decide) dX1_read_131 (zfwN.w fwX1_258_0) rfl ⟨rfl, rfl⟩ ?_
  refine z_aload_n dX1_read_134 rfl rfl ?_
  refine z_geti dX1_read_135 fsX1_270_0 ?_
  refine z_if_ne (tgt := 147) dX1_read_138 rfl (fun h_ => ?_) (fun h_ => ?_)
  · have k := zif h_ k
    refine z_aload_n dX1_read_147 rfl rfl ?_
    refine z_aload_n dX1_read_148 rfl rfl ?_
    refine z_getr dX1_read_149 fsX1_89_0 (show gr M 16 9 = some (29, 3, 0) from cw_at hw 5 rfl) ?_
    refine z_geti dX1_read_152 fsX1_288_3 ?_
    refine z_puti (by decide) dX1_read_155 (zfwN.w fwX1_307_0) rfl ⟨rfl, rfl⟩ ?_
    refine z_iconst (v := 0) dX1_read_158 rfl ?_
    exact z_iret dX1_read_159 rfl rfl k
  · have k := zit h_ k
    refine z_aload_n dX1_read_141 rfl rfl ?_
    refine Z.pick [] rfl ?_
    exact z_callV (as := []) (st := []) dX1_read_142 vsX1_255_0 (Nat.le_refl _) (Nat.le_of_ble_eq_true rfl) (Nat.le_of_ble_eq_true rfl) rfl k
theorem sX1_read_145 {E : zE} {d : Nat} {Q : zO → zM → Prop} (M : zM)  (hw : cw M) (k : Q (.inl (some (vi (4 : Int32)))) M) : Z E YX1_read (d + 1) M [] 145 [] Q := by
  refine z_iconst (v := 4) dX1_read_145 rfl ?_
  exact z_iret dX1_read_146 rfl rfl k
/-! ScriptTypes.tooLarge()Z -/
theorem bX1_tooLarge_0 : zdec cX1_tooLarge 0 [(0, .aload_n 0, 1), (1, .getfield 82, 3), (4, .invokevirtual 291, 3), (7, .iconst 1, 1), (8, .isub, 1), (9, .istore_n 1, 1), (10, .aload_n 0, 1), (11, .bipush 29, 2), (13, .bipush 6, 2), (15, .iload_n 1, 1), (16, .imul, 1), (17, .iadd, 1), (18, .iconst 2, 1), (19, .aload_n 0, 1), (20, .getfield 89, 3), (23, .getfield 288, 3)] = true := by decide +kernel
theorem dX1_tooLarge_0 : decode cX1_tooLarge 0 = .ok (.aload_n 0, 1) := zdec_at bX1_tooLarge_0 0 rfl
theorem dX1_tooLarge_1 : decode cX1_tooLarge 1 = .ok (.getfield 82, 3) := zdec_at bX1_tooLarge_0 1 rfl
theorem dX1_tooLarge_4 : decode cX1_tooLarge 4 = .ok (.invokevirtual 291, 3) := zdec_at bX1_tooLarge_0 2 rfl
theorem dX1_tooLarge_7 : decode cX1_tooLarge 7 = .ok (.iconst 1, 1) := zdec_at bX1_tooLarge_0 3 rfl
theorem dX1_tooLarge_8 : decode cX1_tooLarge 8 = .ok (.isub, 1) := zdec_at bX1_tooLarge_0 4 rfl
theorem dX1_tooLarge_9 : decode cX1_tooLarge 9 = .ok (.istore_n 1, 1) := zdec_at bX1_tooLarge_0 5 rfl
theorem dX1_tooLarge_10 : decode cX1_tooLarge 10 = .ok (.aload_n 0, 1) := zdec_at bX1_tooLarge_0 6 rfl
theorem dX1_tooLarge_11 : decode cX1_tooLarge 11 = .ok (.bipush 29, 2) := zdec_at bX1_tooLarge_0 7 rfl
theorem dX1_tooLarge_13 : decode cX1_tooLarge 13 = .ok (.bipush 6, 2) := zdec_at bX1_tooLarge_0 8 rfl
theorem dX1_tooLarge_15 : decode cX1_tooLarge 15 = .ok (.iload_n 1, 1) := zdec_at bX1_tooLarge_0 9 rfl
theorem dX1_tooLarge_16 : decode cX1_tooLarge 16 = .ok (.imul, 1) := zdec_at bX1_tooLarge_0 10 rfl
theorem dX1_tooLarge_17 : decode cX1_tooLarge 17 = .ok (.iadd, 1) := zdec_at bX1_tooLarge_0 11 rfl
theorem dX1_tooLarge_18 : decode cX1_tooLarge 18 = .ok (.iconst 2, 1) := zdec_at bX1_tooLarge_0 12 rfl
theorem dX1_tooLarge_19 : decode cX1_tooLarge 19 = .ok (.aload_n 0, 1) := zdec_at bX1_tooLarge_0 13 rfl
theorem dX1_tooLarge_20 : decode cX1_tooLarge 20 = .ok (.getfield 89, 3) := zdec_at bX1_tooLarge_0 14 rfl
theorem dX1_tooLarge_23 : decode cX1_tooLarge 23 = .ok (.getfield 288, 3) := zdec_at bX1_tooLarge_0 15 rfl
theorem bX1_tooLarge_26 : zdec cX1_tooLarge 26 [(26, .imul, 1), (27, .iadd, 1), (28, .putfield 313, 3), (31, .iload_n 1, 1), (32, .bipush 10, 2), (34, .if_icmp .gt 37, 3), (37, .aload_n 0, 1), (38, .getfield 89, 3), (41, .getfield 288, 3), (44, .bipush 19, 2), (46, .if_icmp .gt 25, 3), (49, .aload_n 0, 1), (50, .getfield 58, 3), (53, .bipush 90, 2), (55, .if_icmp .gt 16, 3), (58, .aload_n 0, 1)] = true := by decide +kernel
theorem dX1_tooLarge_26 : decode cX1_tooLarge 26 = .ok (.imul, 1) := zdec_at bX1_tooLarge_26 0 rfl
theorem dX1_tooLarge_27 : decode cX1_tooLarge 27 = .ok (.iadd, 1) := zdec_at bX1_tooLarge_26 1 rfl
theorem dX1_tooLarge_28 : decode cX1_tooLarge 28 = .ok (.putfield 313, 3) := zdec_at bX1_tooLarge_26 2 rfl
theorem dX1_tooLarge_31 : decode cX1_tooLarge 31 = .ok (.iload_n 1, 1) := zdec_at bX1_tooLarge_26 3 rfl
theorem dX1_tooLarge_32 : decode cX1_tooLarge 32 = .ok (.bipush 10, 2) := zdec_at bX1_tooLarge_26 4 rfl
theorem dX1_tooLarge_34 : decode cX1_tooLarge 34 = .ok (.if_icmp .gt 37, 3) := zdec_at bX1_tooLarge_26 5 rfl
theorem dX1_tooLarge_37 : decode cX1_tooLarge 37 = .ok (.aload_n 0, 1) := zdec_at bX1_tooLarge_26 6 rfl
theorem dX1_tooLarge_38 : decode cX1_tooLarge 38 = .ok (.getfield 89, 3) := zdec_at bX1_tooLarge_26 7 rfl
theorem dX1_tooLarge_41 : decode cX1_tooLarge 41 = .ok (.getfield 288, 3) := zdec_at bX1_tooLarge_26 8 rfl
theorem dX1_tooLarge_44 : decode cX1_tooLarge 44 = .ok (.bipush 19, 2) := zdec_at bX1_tooLarge_26 9 rfl
theorem dX1_tooLarge_46 : decode cX1_tooLarge 46 = .ok (.if_icmp .gt 25, 3) := zdec_at bX1_tooLarge_26 10 rfl
theorem dX1_tooLarge_49 : decode cX1_tooLarge 49 = .ok (.aload_n 0, 1) := zdec_at bX1_tooLarge_26 11 rfl
theorem dX1_tooLarge_50 : decode cX1_tooLarge 50 = .ok (.getfield 58, 3) := zdec_at bX1_tooLarge_26 12 rfl
theorem dX1_tooLarge_53 : decode cX1_tooLarge 53 = .ok (.bipush 90, 2) := zdec_at bX1_tooLarge_26 13 rfl
theorem dX1_tooLarge_55 : decode cX1_tooLarge 55 = .ok (.if_icmp .gt 16, 3) := zdec_at bX1_tooLarge_26 14 rfl
theorem dX1_tooLarge_58 : decode cX1_tooLarge 58 = .ok (.aload_n 0, 1) := zdec_at bX1_tooLarge_26 15 rfl
theorem bX1_tooLarge_59 : zdec cX1_tooLarge 59 [(59, .getfield 89, 3), (62, .getfield 287, 3), (65, .sipush 600, 3), (68, .if_icmp .le 7, 3), (71, .iconst 1, 1), (72, .goto 4, 3), (75, .iconst 0, 1), (76, .istore_n 2, 1), (77, .iconst 1, 1), (78, .istore_n 3, 1), (79, .iload_n 3, 1), (80, .iload_n 1, 1), (81, .if_icmp .gt 38, 3), (84, .iload_n 2, 1), (85, .ifCond .ne 22, 3), (88, .aload_n 0, 1)] = true := by decide +kernel
theorem dX1_tooLarge_59 : decode cX1_tooLarge 59 = .ok (.getfield 89, 3) := zdec_at bX1_tooLarge_59 0 rfl
theorem dX1_tooLarge_62 : decode cX1_tooLarge 62 = .ok (.getfield 287, 3) := zdec_at bX1_tooLarge_59 1 rfl
theorem dX1_tooLarge_65 : decode cX1_tooLarge 65 = .ok (.sipush 600, 3) := zdec_at bX1_tooLarge_59 2 rfl
theorem dX1_tooLarge_68 : decode cX1_tooLarge 68 = .ok (.if_icmp .le 7, 3) := zdec_at bX1_tooLarge_59 3 rfl
theorem dX1_tooLarge_71 : decode cX1_tooLarge 71 = .ok (.iconst 1, 1) := zdec_at bX1_tooLarge_59 4 rfl
theorem dX1_tooLarge_72 : decode cX1_tooLarge 72 = .ok (.goto 4, 3) := zdec_at bX1_tooLarge_59 5 rfl
theorem dX1_tooLarge_75 : decode cX1_tooLarge 75 = .ok (.iconst 0, 1) := zdec_at bX1_tooLarge_59 6 rfl
theorem dX1_tooLarge_76 : decode cX1_tooLarge 76 = .ok (.istore_n 2, 1) := zdec_at bX1_tooLarge_59 7 rfl
theorem dX1_tooLarge_77 : decode cX1_tooLarge 77 = .ok (.iconst 1, 1) := zdec_at bX1_tooLarge_59 8 rfl
theorem dX1_tooLarge_78 : decode cX1_tooLarge 78 = .ok (.istore_n 3, 1) := zdec_at bX1_tooLarge_59 9 rfl
theorem dX1_tooLarge_79 : decode cX1_tooLarge 79 = .ok (.iload_n 3, 1) := zdec_at bX1_tooLarge_59 10 rfl
theorem dX1_tooLarge_80 : decode cX1_tooLarge 80 = .ok (.iload_n 1, 1) := zdec_at bX1_tooLarge_59 11 rfl
theorem dX1_tooLarge_81 : decode cX1_tooLarge 81 = .ok (.if_icmp .gt 38, 3) := zdec_at bX1_tooLarge_59 12 rfl
theorem dX1_tooLarge_84 : decode cX1_tooLarge 84 = .ok (.iload_n 2, 1) := zdec_at bX1_tooLarge_59 13 rfl
theorem dX1_tooLarge_85 : decode cX1_tooLarge 85 = .ok (.ifCond .ne 22, 3) := zdec_at bX1_tooLarge_59 14 rfl
theorem dX1_tooLarge_88 : decode cX1_tooLarge 88 = .ok (.aload_n 0, 1) := zdec_at bX1_tooLarge_59 15 rfl
theorem bX1_tooLarge_89 : zdec cX1_tooLarge 89 [(89, .getfield 82, 3), (92, .iload_n 3, 1), (93, .invokevirtual 294, 3), (96, .checkcast 298, 3), (99, .getfield 316, 3), (102, .bipush 12, 2), (104, .if_icmp .le 7, 3), (107, .iconst 1, 1), (108, .goto 4, 3), (111, .iconst 0, 1), (112, .istore_n 2, 1), (113, .iinc 3 1, 3), (116, .goto (-37), 3), (119, .iload_n 2, 1), (120, .ifCond .ne 40, 3), (123, .aload_n 0, 1)] = true := by decide +kernel
theorem dX1_tooLarge_89 : decode cX1_tooLarge 89 = .ok (.getfield 82, 3) := zdec_at bX1_tooLarge_89 0 rfl
theorem dX1_tooLarge_92 : decode cX1_tooLarge 92 = .ok (.iload_n 3, 1) := zdec_at bX1_tooLarge_89 1 rfl
theorem dX1_tooLarge_93 : decode cX1_tooLarge 93 = .ok (.invokevirtual 294, 3) := zdec_at bX1_tooLarge_89 2 rfl
theorem dX1_tooLarge_96 : decode cX1_tooLarge 96 = .ok (.checkcast 298, 3) := zdec_at bX1_tooLarge_89 3 rfl
theorem dX1_tooLarge_99 : decode cX1_tooLarge 99 = .ok (.getfield 316, 3) := zdec_at bX1_tooLarge_89 4 rfl
theorem dX1_tooLarge_102 : decode cX1_tooLarge 102 = .ok (.bipush 12, 2) := zdec_at bX1_tooLarge_89 5 rfl
theorem dX1_tooLarge_104 : decode cX1_tooLarge 104 = .ok (.if_icmp .le 7, 3) := zdec_at bX1_tooLarge_89 6 rfl
theorem dX1_tooLarge_107 : decode cX1_tooLarge 107 = .ok (.iconst 1, 1) := zdec_at bX1_tooLarge_89 7 rfl
theorem dX1_tooLarge_108 : decode cX1_tooLarge 108 = .ok (.goto 4, 3) := zdec_at bX1_tooLarge_89 8 rfl
theorem dX1_tooLarge_111 : decode cX1_tooLarge 111 = .ok (.iconst 0, 1) := zdec_at bX1_tooLarge_89 9 rfl
theorem dX1_tooLarge_112 : decode cX1_tooLarge 112 = .ok (.istore_n 2, 1) := zdec_at bX1_tooLarge_89 10 rfl
theorem dX1_tooLarge_113 : decode cX1_tooLarge 113 = .ok (.iinc 3 1, 3) := zdec_at bX1_tooLarge_89 11 rfl
theorem dX1_tooLarge_116 : decode cX1_tooLarge 116 = .ok (.goto (-37), 3) := zdec_at bX1_tooLarge_89 12 rfl
theorem dX1_tooLarge_119 : decode cX1_tooLarge 119 = .ok (.iload_n 2, 1) := zdec_at bX1_tooLarge_89 13 rfl
theorem dX1_tooLarge_120 : decode cX1_tooLarge 120 = .ok (.ifCond .ne 40, 3) := zdec_at bX1_tooLarge_89 14 rfl
theorem dX1_tooLarge_123 : decode cX1_tooLarge 123 = .ok (.aload_n 0, 1) := zdec_at bX1_tooLarge_89 15 rfl
theorem bX1_tooLarge_124 : zdec cX1_tooLarge 124 [(124, .getfield 89, 3), (127, .getfield 287, 3), (130, .iconst 2, 1), (131, .aload_n 0, 1), (132, .getfield 82, 3), (135, .invokevirtual 291, 3), (138, .imul, 1), (139, .iadd, 1), (140, .i2l, 1), (141, .aload_n 0, 1), (142, .getfield 313, 3), (145, .i2l, 1), (146, .lmul, 1), (147, .aload_n 0, 1), (148, .getfield 58, 3), (151, .i2l, 1)] = true := by decide +kernel
theorem dX1_tooLarge_124 : decode cX1_tooLarge 124 = .ok (.getfield 89, 3) := zdec_at bX1_tooLarge_124 0 rfl
theorem dX1_tooLarge_127 : decode cX1_tooLarge 127 = .ok (.getfield 287, 3) := zdec_at bX1_tooLarge_124 1 rfl
theorem dX1_tooLarge_130 : decode cX1_tooLarge 130 = .ok (.iconst 2, 1) := zdec_at bX1_tooLarge_124 2 rfl
theorem dX1_tooLarge_131 : decode cX1_tooLarge 131 = .ok (.aload_n 0, 1) := zdec_at bX1_tooLarge_124 3 rfl
theorem dX1_tooLarge_132 : decode cX1_tooLarge 132 = .ok (.getfield 82, 3) := zdec_at bX1_tooLarge_124 4 rfl
theorem dX1_tooLarge_135 : decode cX1_tooLarge 135 = .ok (.invokevirtual 291, 3) := zdec_at bX1_tooLarge_124 5 rfl
theorem dX1_tooLarge_138 : decode cX1_tooLarge 138 = .ok (.imul, 1) := zdec_at bX1_tooLarge_124 6 rfl
theorem dX1_tooLarge_139 : decode cX1_tooLarge 139 = .ok (.iadd, 1) := zdec_at bX1_tooLarge_124 7 rfl
theorem dX1_tooLarge_140 : decode cX1_tooLarge 140 = .ok (.i2l, 1) := zdec_at bX1_tooLarge_124 8 rfl
theorem dX1_tooLarge_141 : decode cX1_tooLarge 141 = .ok (.aload_n 0, 1) := zdec_at bX1_tooLarge_124 9 rfl
theorem dX1_tooLarge_142 : decode cX1_tooLarge 142 = .ok (.getfield 313, 3) := zdec_at bX1_tooLarge_124 10 rfl
theorem dX1_tooLarge_145 : decode cX1_tooLarge 145 = .ok (.i2l, 1) := zdec_at bX1_tooLarge_124 11 rfl
theorem dX1_tooLarge_146 : decode cX1_tooLarge 146 = .ok (.lmul, 1) := zdec_at bX1_tooLarge_124 12 rfl
theorem dX1_tooLarge_147 : decode cX1_tooLarge 147 = .ok (.aload_n 0, 1) := zdec_at bX1_tooLarge_124 13 rfl
theorem dX1_tooLarge_148 : decode cX1_tooLarge 148 = .ok (.getfield 58, 3) := zdec_at bX1_tooLarge_124 14 rfl
theorem dX1_tooLarge_151 : decode cX1_tooLarge 151 = .ok (.i2l, 1) := zdec_at bX1_tooLarge_124 15 rfl
theorem bX1_tooLarge_152 : zdec cX1_tooLarge 152 [(152, .lmul, 1), (153, .ldc2_w 317, 3), (156, .lcmp, 1), (157, .ifCond .le 7, 3), (160, .iconst 1, 1), (161, .goto 4, 3), (164, .iconst 0, 1), (165, .ireturn, 1)] = true := by decide +kernel
theorem dX1_tooLarge_152 : decode cX1_tooLarge 152 = .ok (.lmul, 1) := zdec_at bX1_tooLarge_152 0 rfl
theorem dX1_tooLarge_153 : decode cX1_tooLarge 153 = .ok (.ldc2_w 317, 3) := zdec_at bX1_tooLarge_152 1 rfl
theorem dX1_tooLarge_156 : decode cX1_tooLarge 156 = .ok (.lcmp, 1) := zdec_at bX1_tooLarge_152 2 rfl
theorem dX1_tooLarge_157 : decode cX1_tooLarge 157 = .ok (.ifCond .le 7, 3) := zdec_at bX1_tooLarge_152 3 rfl
theorem dX1_tooLarge_160 : decode cX1_tooLarge 160 = .ok (.iconst 1, 1) := zdec_at bX1_tooLarge_152 4 rfl
theorem dX1_tooLarge_161 : decode cX1_tooLarge 161 = .ok (.goto 4, 3) := zdec_at bX1_tooLarge_152 5 rfl
theorem dX1_tooLarge_164 : decode cX1_tooLarge 164 = .ok (.iconst 0, 1) := zdec_at bX1_tooLarge_152 6 rfl
theorem dX1_tooLarge_165 : decode cX1_tooLarge 165 = .ok (.ireturn, 1) := zdec_at bX1_tooLarge_152 7 rfl
theorem sX1_tooLarge_0 {E : zE} {d : Nat} {Q : zO → zM → Prop} (M : zM)  (hw : cw M) (k : ∃ b1 : Nat, (gr M 16 8) = some (b1, 11, 0) ∧ (Z E YJ2_size d M (zargs 0 [vr (some (b1, 11, 0))]) 0 [] (zafter E YX1_tooLarge (d + 1) [(0, vr (some (16, 0, 0)))] 4 3 [] Q))) : Z E YX1_tooLarge (d + 1) M [(0, vr (some (16, 0, 0)))] 0 [] Q := by
  refine z_aload_n dX1_tooLarge_0 rfl rfl ?_
  refine z_getr (r := (gr M 16 8)) dX1_tooLarge_1 fsX1_82_0 rfl ?_
  obtain ⟨b1, e1_, k⟩ := k
  refine Z.eqs (lv' := [(0, vr (some (16, 0, 0)))]) (st' := [vr (some (b1, 11, 0))]) rfl (by rw [e1_] <;> rfl) ?_
  exact z_callV (as := []) (st := []) dX1_tooLarge_4 vsX1_291_11 (Nat.le_refl _) (Nat.le_of_ble_eq_true rfl) (Nat.le_of_ble_eq_true rfl) rfl k
theorem sX1_tooLarge_7 {E : zE} {d : Nat} {Q : zO → zM → Prop} (M : zM) (s0 : Int32) (hw : cw M) (k : if (10 : Int32) < (s0 - (1 : Int32)) then (Z E YX1_tooLarge (d + 1) (si M 16 11 (((29 : Int32) + ((6 : Int32) * (s0 - (1 : Int32)))) + ((2 : Int32) * (gi M 29 8)))) [(0, vr (some (16, 0, 0))), (1, vi (s0 - (1 : Int32))), (2, vi (1 : Int32)), (3, vi (1 : Int32))] 79 [] Q) else (if (19 : Int32) < (gi M 29 8) then (Z E YX1_tooLarge (d + 1) (si M 16 11 (((29 : Int32) + ((6 : Int32) * (s0 - (1 : Int32)))) + ((2 : Int32) * (gi M 29 8)))) [(0, vr (some (16, 0, 0))), (1, vi (s0 - (1 : Int32))), (2, vi (1 : Int32)), (3, vi (1 : Int32))] 79 [] Q) else (if (90 : Int32) < (gi M 16 1) then (Z E YX1_tooLarge (d + 1) (si M 16 11 (((29 : Int32) + ((6 : Int32) * (s0 - (1 : Int32)))) + ((2 : Int32) * (gi M 29 8)))) [(0, vr (some (16, 0, 0))), (1, vi (s0 - (1 : Int32))), (2, vi (1 : Int32)), (3, vi (1 : Int32))] 79 [] Q) else (if (gi M 29 7) ≤ (600 : Int32) then (Z E YX1_tooLarge (d + 1) (si M 16 11 (((29 : Int32) + ((6 : Int32) * (s0 - (1 : Int32)))) + ((2 : Int32) * (gi M 29 8)))) [(0, vr (some (16, 0, 0))), (1, vi (s0 - (1 : Int32))), (2, vi (0 : Int32)), (3, vi (1 : Int32))] 79 [] Q) else (Z E YX1_tooLarge (d + 1) (si M 16 11 (((29 : Int32) + ((6 : Int32) * (s0 - (1 : Int32)))) + ((2 : Int32) * (gi M 29 8)))) [(0, vr (some (16, 0, 0))), (1, vi (s0 - (1 : Int32))), (2, vi (1 : Int32)), (3, vi (1 : Int32))] 79 [] Q))))) : Z E YX1_tooLarge (d + 1) M [(0, vr (some (16, 0, 0)))] 7 [vi s0] Q := by
  refine z_iconst (v := 1) dX1_tooLarge_7 rfl ?_
  refine z_isub dX1_tooLarge_8 ?_
  refine z_ist_n dX1_tooLarge_9 rfl (by decide) (lv' := [(0, vr (some (16, 0, 0))), (1, vi (s0 - (1 : Int32)))]) rfl ?_
  refine z_aload_n dX1_tooLarge_10 rfl rfl ?_
  refine z_bipush (v := 29) dX1_tooLarge_11 rfl ?_
  refine z_bipush (v := 6) dX1_tooLarge_13 rfl ?_
  refine z_iload_n dX1_tooLarge_15 rfl rfl ?_
  refine z_imul dX1_tooLarge_16 ?_
  refine z_iadd dX1_tooLarge_17 ?_
  refine z_iconst (v := 2) dX1_tooLarge_18 rfl ?_
  refine z_aload_n dX1_tooLarge_19 rfl rfl ?_
  refine z_getr dX1_tooLarge_20 fsX1_89_0 (show gr M 16 9 = some (29, 3, 0) from cw_at hw 5 rfl) ?_
  refine z_geti dX1_tooLarge_23 fsX1_288_3 ?_
  refine z_imul dX1_tooLarge_26 ?_
  refine z_iadd dX1_tooLarge_27 ?_
  refine z_puti (by decide) dX1_tooLarge_28 (zfwN.w fwX1_313_0) rfl ⟨rfl, rfl⟩ ?_
  refine z_iload_n dX1_tooLarge_31 rfl rfl ?_
  refine z_bipush (v := 10) dX1_tooLarge_32 rfl ?_
  refine z_icmp_gt (tgt := 71) dX1_tooLarge_34 rfl (fun h_ => ?_) (fun h_ => ?_)
  · have k := zit h_ k
    refine z_iconst (v := 1) dX1_tooLarge_71 rfl ?_
    refine z_goto (tgt := 76) dX1_tooLarge_72 rfl ?_
    refine z_ist_n dX1_tooLarge_76 rfl (by decide) (lv' := [(0, vr (some (16, 0, 0))), (1, vi (s0 - (1 : Int32))), (2, vi (1 : Int32))]) rfl ?_
    refine z_iconst (v := 1) dX1_tooLarge_77 rfl ?_
    refine z_ist_n dX1_tooLarge_78 rfl (by decide) (lv' := [(0, vr (some (16, 0, 0))), (1, vi (s0 - (1 : Int32))), (2, vi (1 : Int32)), (3, vi (1 : Int32))]) rfl ?_
    exact k
  · have k := zif h_ k
    refine z_aload_n dX1_tooLarge_37 rfl rfl ?_
    refine z_getr dX1_tooLarge_38 fsX1_89_0 (show gr M 16 9 = some (29, 3, 0) from cw_at hw 5 rfl) ?_
    refine z_geti dX1_tooLarge_41 fsX1_288_3 ?_
    refine z_bipush (v := 19) dX1_tooLarge_44 rfl ?_
    refine z_icmp_gt (tgt := 71) dX1_tooLarge_46 rfl (fun h_ => ?_) (fun h_ => ?_)
    · have k := zit h_ k
      refine z_iconst (v := 1) dX1_tooLarge_71 rfl ?_
      refine z_goto (tgt := 76) dX1_tooLarge_72 rfl ?_
      refine z_ist_n dX1_tooLarge_76 rfl (by decide) (lv' := [(0, vr (some (16, 0, 0))), (1, vi (s0 - (1 : Int32))), (2, vi (1 : Int32))]) rfl ?_
      refine z_iconst (v := 1) dX1_tooLarge_77 rfl ?_
      refine z_ist_n dX1_tooLarge_78 rfl (by decide) (lv' := [(0, vr (some (16, 0, 0))), (1, vi (s0 - (1 : Int32))), (2, vi (1 : Int32)), (3, vi (1 : Int32))]) rfl ?_
      exact k
    · have k := zif h_ k
      refine z_aload_n dX1_tooLarge_49 rfl rfl ?_
      refine z_geti dX1_tooLarge_50 fsX1_58_0 ?_
      refine z_bipush (v := 90) dX1_tooLarge_53 rfl ?_
      refine z_icmp_gt (tgt := 71) dX1_tooLarge_55 rfl (fun h_ => ?_) (fun h_ => ?_)
      · have k := zit h_ k
        refine z_iconst (v := 1) dX1_tooLarge_71 rfl ?_
        refine z_goto (tgt := 76) dX1_tooLarge_72 rfl ?_
        refine z_ist_n dX1_tooLarge_76 rfl (by decide) (lv' := [(0, vr (some (16, 0, 0))), (1, vi (s0 - (1 : Int32))), (2, vi (1 : Int32))]) rfl ?_
        refine z_iconst (v := 1) dX1_tooLarge_77 rfl ?_
        refine z_ist_n dX1_tooLarge_78 rfl (by decide) (lv' := [(0, vr (some (16, 0, 0))), (1, vi (s0 - (1 : Int32))), (2, vi (1 : Int32)), (3, vi (1 : Int32))]) rfl ?_
        exact k
      · have k := zif h_ k
        refine z_aload_n dX1_tooLarge_58 rfl rfl ?_
        refine z_getr dX1_tooLarge_59 fsX1_89_0 (show gr M 16 9 = some (29, 3, 0) from cw_at hw 5 rfl) ?_
        refine z_geti dX1_tooLarge_62 fsX1_287_3 ?_
        refine z_sipush (v := 600) dX1_tooLarge_65 rfl ?_
        refine z_icmp_le (tgt := 75) dX1_tooLarge_68 rfl (fun h_ => ?_) (fun h_ => ?_)
        · have k := zit h_ k
          refine z_iconst (v := 0) dX1_tooLarge_75 rfl ?_
          refine z_ist_n dX1_tooLarge_76 rfl (by decide) (lv' := [(0, vr (some (16, 0, 0))), (1, vi (s0 - (1 : Int32))), (2, vi (0 : Int32))]) rfl ?_
          refine z_iconst (v := 1) dX1_tooLarge_77 rfl ?_
          refine z_ist_n dX1_tooLarge_78 rfl (by decide) (lv' := [(0, vr (some (16, 0, 0))), (1, vi (s0 - (1 : Int32))), (2, vi (0 : Int32)), (3, vi (1 : Int32))]) rfl ?_
          exact k
        · have k := zif h_ k
          refine z_iconst (v := 1) dX1_tooLarge_71 rfl ?_
          refine z_goto (tgt := 76) dX1_tooLarge_72 rfl ?_
          refine z_ist_n dX1_tooLarge_76 rfl (by decide) (lv' := [(0, vr (some (16, 0, 0))), (1, vi (s0 - (1 : Int32))), (2, vi (1 : Int32))]) rfl ?_
          refine z_iconst (v := 1) dX1_tooLarge_77 rfl ?_
          refine z_ist_n dX1_tooLarge_78 rfl (by decide) (lv' := [(0, vr (some (16, 0, 0))), (1, vi (s0 - (1 : Int32))), (2, vi (1 : Int32)), (3, vi (1 : Int32))]) rfl ?_
          exact k
theorem sX1_tooLarge_79 {E : zE} {d : Nat} {Q : zO → zM → Prop} (M : zM) (l1 : Int32) (l2 : Int32) (l3 : Int32) (hw : cw M) (k : if l1 < l3 then (if l2 = 0 then (∃ b1 : Nat, (gr M 16 8) = some (b1, 11, 0) ∧ (Z E YJ2_size d M (zargs 0 [vr (some (b1, 11, 0))]) 0 [] (zafter E YX1_tooLarge (d + 1) [(0, vr (some (16, 0, 0)))] 135 3 [vi (2 : Int32), vi (gi M 29 7)] Q))) else (Q (.inl (some (vi (1 : Int32)))) M)) else (if l2 = 0 then (∃ b1 : Nat, (gr M 16 8) = some (b1, 11, 0) ∧ (Z E YJ2_get d M (zargs 0 [vr (some (b1, 11, 0)), vi l3]) 0 [] (zafter E YX1_tooLarge (d + 1) [(0, vr (some (16, 0, 0))), (1, vi l1), (3, vi l3)] 93 3 [] Q))) else (Z E YX1_tooLarge (d + 1) M [(0, vr (some (16, 0, 0))), (1, vi l1), (2, vi (1 : Int32)), (3, vi (l3 + (1 : Int32)))] 79 [] Q))) : Z E YX1_tooLarge (d + 1) M [(0, vr (some (16, 0, 0))), (1, vi l1), (2, vi l2), (3, vi l3)] 79 [] Q := by
  refine z_iload_n dX1_tooLarge_79 rfl rfl ?_
  refine z_iload_n dX1_tooLarge_80 rfl rfl ?_
  refine z_icmp_gt (tgt := 119) dX1_tooLarge_81 rfl (fun h_ => ?_) (fun h_ => ?_)
  · have k := zit h_ k
    refine z_iload_n dX1_tooLarge_119 rfl rfl ?_
    refine z_if_ne (tgt := 160) dX1_tooLarge_120 rfl (fun h_ => ?_) (fun h_ => ?_)
    · have k := zif h_ k
      refine z_iconst (v := 1) dX1_tooLarge_160 rfl ?_
      refine z_goto (tgt := 165) dX1_tooLarge_161 rfl ?_
      exact z_iret dX1_tooLarge_165 rfl (by decide) k
    · have k := zit h_ k
      refine z_aload_n dX1_tooLarge_123 rfl rfl ?_
      refine z_getr dX1_tooLarge_124 fsX1_89_0 (show gr M 16 9 = some (29, 3, 0) from cw_at hw 5 rfl) ?_
      refine z_geti dX1_tooLarge_127 fsX1_287_3 ?_
      refine z_iconst (v := 2) dX1_tooLarge_130 rfl ?_
      refine z_aload_n dX1_tooLarge_131 rfl rfl ?_
      refine z_getr (r := (gr M 16 8)) dX1_tooLarge_132 fsX1_82_0 rfl ?_
      obtain ⟨b1, e1_, k⟩ := k
      refine Z.eqs (lv' := [(0, vr (some (16, 0, 0))), (1, vi l1), (2, vi l2), (3, vi l3)]) (st' := [vr (some (b1, 11, 0)), vi (2 : Int32), vi (gi M 29 7)]) rfl (by rw [e1_] <;> rfl) ?_
      refine Z.pick [0] rfl ?_
      exact z_callV (as := []) (st := [vi (2 : Int32), vi (gi M 29 7)]) dX1_tooLarge_135 vsX1_291_11 (Nat.le_refl _) (Nat.le_of_ble_eq_true rfl) (Nat.le_of_ble_eq_true rfl) rfl k
  · have k := zif h_ k
    refine z_iload_n dX1_tooLarge_84 rfl rfl ?_
    refine z_if_ne (tgt := 107) dX1_tooLarge_85 rfl (fun h_ => ?_) (fun h_ => ?_)
    · have k := zif h_ k
      refine z_iconst (v := 1) dX1_tooLarge_107 rfl ?_
      refine z_goto (tgt := 112) dX1_tooLarge_108 rfl ?_
      refine z_ist_n dX1_tooLarge_112 rfl (by decide) (lv' := [(0, vr (some (16, 0, 0))), (1, vi l1), (2, vi (1 : Int32)), (3, vi l3)]) rfl ?_
      refine z_inc (v := (l3 + (1 : Int32))) dX1_tooLarge_113 rfl rfl (by decide) (lv' := [(0, vr (some (16, 0, 0))), (1, vi l1), (2, vi (1 : Int32)), (3, vi (l3 + (1 : Int32)))]) rfl ?_
      refine z_goto (tgt := 79) dX1_tooLarge_116 rfl ?_
      exact k
    · have k := zit h_ k
      refine z_aload_n dX1_tooLarge_88 rfl rfl ?_
      refine z_getr (r := (gr M 16 8)) dX1_tooLarge_89 fsX1_82_0 rfl ?_
      refine z_iload_n dX1_tooLarge_92 rfl rfl ?_
      obtain ⟨b1, e1_, k⟩ := k
      refine Z.eqs (lv' := [(0, vr (some (16, 0, 0))), (1, vi l1), (2, vi l2), (3, vi l3)]) (st' := [vi l3, vr (some (b1, 11, 0))]) rfl (by rw [e1_] <;> rfl) ?_
      refine Z.pick [0, 1, 3] rfl ?_
      exact z_callV (as := [vi l3]) (st := []) dX1_tooLarge_93 vsX1_294_11 (Nat.le_refl _) (Nat.le_of_ble_eq_true rfl) (Nat.le_of_ble_eq_true rfl) rfl k
theorem sX1_tooLarge_96 {E : zE} {d : Nat} {Q : zO → zM → Prop} (M : zM) (l1 : Int32) (l3 : Int32) (u0 : Option zP) (hw : cw M) (k : ∃ b1 : Nat, u0 = some (b1, 10, 0) ∧ (if (gi M b1 5) ≤ (12 : Int32) then (Z E YX1_tooLarge (d + 1) M [(0, vr (some (16, 0, 0))), (1, vi l1), (2, vi (0 : Int32)), (3, vi (l3 + (1 : Int32)))] 79 [] Q) else (Z E YX1_tooLarge (d + 1) M [(0, vr (some (16, 0, 0))), (1, vi l1), (2, vi (1 : Int32)), (3, vi (l3 + (1 : Int32)))] 79 [] Q))) : Z E YX1_tooLarge (d + 1) M [(0, vr (some (16, 0, 0))), (1, vi l1), (3, vi l3)] 96 [vr u0] Q := by
  obtain ⟨b1, e1_, k⟩ := k
  refine Z.eqs (lv' := [(0, vr (some (16, 0, 0))), (1, vi l1), (3, vi l3)]) (st' := [vr (some (b1, 10, 0))]) rfl (by rw [e1_] <;> rfl) ?_
  refine z_ckcast dX1_tooLarge_96 ctX1_298_10 ?_
  refine z_geti dX1_tooLarge_99 fsX1_316_10 ?_
  refine z_bipush (v := 12) dX1_tooLarge_102 rfl ?_
  refine z_icmp_le (tgt := 111) dX1_tooLarge_104 rfl (fun h_ => ?_) (fun h_ => ?_)
  · have k := zit h_ k
    refine z_iconst (v := 0) dX1_tooLarge_111 rfl ?_
    refine z_ist_n dX1_tooLarge_112 rfl (by decide) (lv' := [(0, vr (some (16, 0, 0))), (1, vi l1), (2, vi (0 : Int32)), (3, vi l3)]) rfl ?_
    refine z_inc (v := (l3 + (1 : Int32))) dX1_tooLarge_113 rfl rfl (by decide) (lv' := [(0, vr (some (16, 0, 0))), (1, vi l1), (2, vi (0 : Int32)), (3, vi (l3 + (1 : Int32)))]) rfl ?_
    refine z_goto (tgt := 79) dX1_tooLarge_116 rfl ?_
    exact k
  · have k := zif h_ k
    refine z_iconst (v := 1) dX1_tooLarge_107 rfl ?_
    refine z_goto (tgt := 112) dX1_tooLarge_108 rfl ?_
    refine z_ist_n dX1_tooLarge_112 rfl (by decide) (lv' := [(0, vr (some (16, 0, 0))), (1, vi l1), (2, vi (1 : Int32)), (3, vi l3)]) rfl ?_
    refine z_inc (v := (l3 + (1 : Int32))) dX1_tooLarge_113 rfl rfl (by decide) (lv' := [(0, vr (some (16, 0, 0))), (1, vi l1), (2, vi (1 : Int32)), (3, vi (l3 + (1 : Int32)))]) rfl ?_
    refine z_goto (tgt := 79) dX1_tooLarge_116 rfl ?_
    exact k
theorem sX1_tooLarge_138 {E : zE} {d : Nat} {Q : zO → zM → Prop} (M : zM) (s0 : Int32) (s1 : Int32) (s2 : Int32) (hw : cw M) (k : if (lg_cmp ((((s2 + (s1 * s0))).toInt64 * ((gi M 16 11)).toInt64) * ((gi M 16 1)).toInt64) (450000 : Int64)) ≤ 0 then (Q (.inl (some (vi (0 : Int32)))) M) else (Q (.inl (some (vi (1 : Int32)))) M)) : Z E YX1_tooLarge (d + 1) M [(0, vr (some (16, 0, 0)))] 138 [vi s0, vi s1, vi s2] Q := by
  refine z_imul dX1_tooLarge_138 ?_
  refine z_iadd dX1_tooLarge_139 ?_
  refine z_i2l dX1_tooLarge_140 ?_
  refine z_aload_n dX1_tooLarge_141 rfl rfl ?_
  refine z_geti dX1_tooLarge_142 fsX1_313_0 ?_
  refine z_i2l dX1_tooLarge_145 ?_
  refine z_lmul dX1_tooLarge_146 ?_
  refine z_aload_n dX1_tooLarge_147 rfl rfl ?_
  refine z_geti dX1_tooLarge_148 fsX1_58_0 ?_
  refine z_i2l dX1_tooLarge_151 ?_
  refine z_lmul dX1_tooLarge_152 ?_
  refine z_ldc2 (v := 450000) dX1_tooLarge_153 q2482 ?_
  refine z_lcmp dX1_tooLarge_156 ?_
  refine z_if_le (tgt := 164) dX1_tooLarge_157 rfl (fun h_ => ?_) (fun h_ => ?_)
  · have k := zit h_ k
    refine z_iconst (v := 0) dX1_tooLarge_164 rfl ?_
    exact z_iret dX1_tooLarge_165 rfl (by decide) k
  · have k := zif h_ k
    refine z_iconst (v := 1) dX1_tooLarge_160 rfl ?_
    refine z_goto (tgt := 165) dX1_tooLarge_161 rfl ?_
    exact z_iret dX1_tooLarge_165 rfl (by decide) k
/-! ScriptTypes.count(I)I -/
theorem bX1_count_0 : zdec cX1_count 0 [(0, .aload_n 0, 1), (1, .getfield 277, 3), (4, .ifCond .eq 7, 3), (7, .iconst 1, 1), (8, .goto 4, 3), (11, .iconst 0, 1), (12, .istore_n 2, 1), (13, .iload_n 1, 1)] = true := by decide +kernel
theorem dX1_count_0 : decode cX1_count 0 = .ok (.aload_n 0, 1) := zdec_at bX1_count_0 0 rfl
theorem dX1_count_1 : decode cX1_count 1 = .ok (.getfield 277, 3) := zdec_at bX1_count_0 1 rfl
theorem dX1_count_4 : decode cX1_count 4 = .ok (.ifCond .eq 7, 3) := zdec_at bX1_count_0 2 rfl
theorem dX1_count_7 : decode cX1_count 7 = .ok (.iconst 1, 1) := zdec_at bX1_count_0 3 rfl
theorem dX1_count_8 : decode cX1_count 8 = .ok (.goto 4, 3) := zdec_at bX1_count_0 4 rfl
theorem dX1_count_11 : decode cX1_count 11 = .ok (.iconst 0, 1) := zdec_at bX1_count_0 5 rfl
theorem dX1_count_12 : decode cX1_count 12 = .ok (.istore_n 2, 1) := zdec_at bX1_count_0 6 rfl
theorem dX1_count_13 : decode cX1_count 13 = .ok (.iload_n 1, 1) := zdec_at bX1_count_0 7 rfl
theorem dX1_count_14 : decode cX1_count 14 = .ok (.tableswitch 246 0 12 #[66, 85, 104, 120, 136, 152, 157, 162, 175, 188, 204, 217, 230], 66) := by decide +kernel
theorem bX1_count_80 : zdec cX1_count 80 [(80, .aload_n 0, 1), (81, .getfield 270, 3), (84, .ifCond .eq 13, 3), (87, .aload_n 0, 1), (88, .getfield 89, 3), (91, .getfield 287, 3), (94, .goto 4, 3), (97, .iconst 0, 1), (98, .ireturn, 1), (99, .aload_n 0, 1), (100, .getfield 270, 3), (103, .ifCond .eq 13, 3), (106, .aload_n 0, 1), (107, .getfield 82, 3), (110, .invokevirtual 291, 3), (113, .goto 4, 3)] = true := by decide +kernel
theorem dX1_count_80 : decode cX1_count 80 = .ok (.aload_n 0, 1) := zdec_at bX1_count_80 0 rfl
theorem dX1_count_81 : decode cX1_count 81 = .ok (.getfield 270, 3) := zdec_at bX1_count_80 1 rfl
theorem dX1_count_84 : decode cX1_count 84 = .ok (.ifCond .eq 13, 3) := zdec_at bX1_count_80 2 rfl
theorem dX1_count_87 : decode cX1_count 87 = .ok (.aload_n 0, 1) := zdec_at bX1_count_80 3 rfl
theorem dX1_count_88 : decode cX1_count 88 = .ok (.getfield 89, 3) := zdec_at bX1_count_80 4 rfl
theorem dX1_count_91 : decode cX1_count 91 = .ok (.getfield 287, 3) := zdec_at bX1_count_80 5 rfl
theorem dX1_count_94 : decode cX1_count 94 = .ok (.goto 4, 3) := zdec_at bX1_count_80 6 rfl
theorem dX1_count_97 : decode cX1_count 97 = .ok (.iconst 0, 1) := zdec_at bX1_count_80 7 rfl
theorem dX1_count_98 : decode cX1_count 98 = .ok (.ireturn, 1) := zdec_at bX1_count_80 8 rfl
theorem dX1_count_99 : decode cX1_count 99 = .ok (.aload_n 0, 1) := zdec_at bX1_count_80 9 rfl
theorem dX1_count_100 : decode cX1_count 100 = .ok (.getfield 270, 3) := zdec_at bX1_count_80 10 rfl
theorem dX1_count_103 : decode cX1_count 103 = .ok (.ifCond .eq 13, 3) := zdec_at bX1_count_80 11 rfl
theorem dX1_count_106 : decode cX1_count 106 = .ok (.aload_n 0, 1) := zdec_at bX1_count_80 12 rfl
theorem dX1_count_107 : decode cX1_count 107 = .ok (.getfield 82, 3) := zdec_at bX1_count_80 13 rfl
theorem dX1_count_110 : decode cX1_count 110 = .ok (.invokevirtual 291, 3) := zdec_at bX1_count_80 14 rfl
theorem dX1_count_113 : decode cX1_count 113 = .ok (.goto 4, 3) := zdec_at bX1_count_80 15 rfl
theorem bX1_count_116 : zdec cX1_count 116 [(116, .iconst 0, 1), (117, .ireturn, 1), (118, .aload_n 0, 1), (119, .getfield 270, 3), (122, .ifCond .eq 10, 3), (125, .aload_n 0, 1), (126, .getfield 58, 3), (129, .goto 4, 3), (132, .iconst 0, 1), (133, .ireturn, 1), (134, .aload_n 0, 1), (135, .getfield 270, 3), (138, .ifCond .eq 10, 3), (141, .aload_n 0, 1), (142, .getfield 313, 3), (145, .goto 4, 3)] = true := by decide +kernel
theorem dX1_count_116 : decode cX1_count 116 = .ok (.iconst 0, 1) := zdec_at bX1_count_116 0 rfl
theorem dX1_count_117 : decode cX1_count 117 = .ok (.ireturn, 1) := zdec_at bX1_count_116 1 rfl
theorem dX1_count_118 : decode cX1_count 118 = .ok (.aload_n 0, 1) := zdec_at bX1_count_116 2 rfl
theorem dX1_count_119 : decode cX1_count 119 = .ok (.getfield 270, 3) := zdec_at bX1_count_116 3 rfl
theorem dX1_count_122 : decode cX1_count 122 = .ok (.ifCond .eq 10, 3) := zdec_at bX1_count_116 4 rfl
theorem dX1_count_125 : decode cX1_count 125 = .ok (.aload_n 0, 1) := zdec_at bX1_count_116 5 rfl
theorem dX1_count_126 : decode cX1_count 126 = .ok (.getfield 58, 3) := zdec_at bX1_count_116 6 rfl
theorem dX1_count_129 : decode cX1_count 129 = .ok (.goto 4, 3) := zdec_at bX1_count_116 7 rfl
theorem dX1_count_132 : decode cX1_count 132 = .ok (.iconst 0, 1) := zdec_at bX1_count_116 8 rfl
theorem dX1_count_133 : decode cX1_count 133 = .ok (.ireturn, 1) := zdec_at bX1_count_116 9 rfl
theorem dX1_count_134 : decode cX1_count 134 = .ok (.aload_n 0, 1) := zdec_at bX1_count_116 10 rfl
theorem dX1_count_135 : decode cX1_count 135 = .ok (.getfield 270, 3) := zdec_at bX1_count_116 11 rfl
theorem dX1_count_138 : decode cX1_count 138 = .ok (.ifCond .eq 10, 3) := zdec_at bX1_count_116 12 rfl
theorem dX1_count_141 : decode cX1_count 141 = .ok (.aload_n 0, 1) := zdec_at bX1_count_116 13 rfl
theorem dX1_count_142 : decode cX1_count 142 = .ok (.getfield 313, 3) := zdec_at bX1_count_116 14 rfl
theorem dX1_count_145 : decode cX1_count 145 = .ok (.goto 4, 3) := zdec_at bX1_count_116 15 rfl
theorem bX1_count_148 : zdec cX1_count 148 [(148, .iconst 0, 1), (149, .ireturn, 1), (150, .aload_n 0, 1), (151, .getfield 270, 3), (154, .ifCond .eq 10, 3), (157, .aload_n 0, 1), (158, .getfield 307, 3), (161, .goto 4, 3), (164, .iconst 0, 1), (165, .ireturn, 1), (166, .aload_n 0, 1), (167, .getfield 258, 3), (170, .ireturn, 1), (171, .aload_n 0, 1), (172, .getfield 277, 3), (175, .ireturn, 1)] = true := by decide +kernel
theorem dX1_count_148 : decode cX1_count 148 = .ok (.iconst 0, 1) := zdec_at bX1_count_148 0 rfl
theorem dX1_count_149 : decode cX1_count 149 = .ok (.ireturn, 1) := zdec_at bX1_count_148 1 rfl
theorem dX1_count_150 : decode cX1_count 150 = .ok (.aload_n 0, 1) := zdec_at bX1_count_148 2 rfl
theorem dX1_count_151 : decode cX1_count 151 = .ok (.getfield 270, 3) := zdec_at bX1_count_148 3 rfl
theorem dX1_count_154 : decode cX1_count 154 = .ok (.ifCond .eq 10, 3) := zdec_at bX1_count_148 4 rfl
theorem dX1_count_157 : decode cX1_count 157 = .ok (.aload_n 0, 1) := zdec_at bX1_count_148 5 rfl
theorem dX1_count_158 : decode cX1_count 158 = .ok (.getfield 307, 3) := zdec_at bX1_count_148 6 rfl
theorem dX1_count_161 : decode cX1_count 161 = .ok (.goto 4, 3) := zdec_at bX1_count_148 7 rfl
theorem dX1_count_164 : decode cX1_count 164 = .ok (.iconst 0, 1) := zdec_at bX1_count_148 8 rfl
theorem dX1_count_165 : decode cX1_count 165 = .ok (.ireturn, 1) := zdec_at bX1_count_148 9 rfl
theorem dX1_count_166 : decode cX1_count 166 = .ok (.aload_n 0, 1) := zdec_at bX1_count_148 10 rfl
theorem dX1_count_167 : decode cX1_count 167 = .ok (.getfield 258, 3) := zdec_at bX1_count_148 11 rfl
theorem dX1_count_170 : decode cX1_count 170 = .ok (.ireturn, 1) := zdec_at bX1_count_148 12 rfl
theorem dX1_count_171 : decode cX1_count 171 = .ok (.aload_n 0, 1) := zdec_at bX1_count_148 13 rfl
theorem dX1_count_172 : decode cX1_count 172 = .ok (.getfield 277, 3) := zdec_at bX1_count_148 14 rfl
theorem dX1_count_175 : decode cX1_count 175 = .ok (.ireturn, 1) := zdec_at bX1_count_148 15 rfl
theorem bX1_count_176 : zdec cX1_count 176 [(176, .iload_n 2, 1), (177, .ifCond .eq 10, 3), (180, .aload_n 0, 1), (181, .getfield 319, 3), (184, .goto 4, 3), (187, .iconst 0, 1), (188, .ireturn, 1), (189, .iload_n 2, 1), (190, .ifCond .eq 10, 3), (193, .aload_n 0, 1), (194, .getfield 322, 3), (197, .goto 4, 3), (200, .iconst 0, 1), (201, .ireturn, 1), (202, .iload_n 2, 1), (203, .ifCond .eq 13, 3)] = true := by decide +kernel
theorem dX1_count_176 : decode cX1_count 176 = .ok (.iload_n 2, 1) := zdec_at bX1_count_176 0 rfl
theorem dX1_count_177 : decode cX1_count 177 = .ok (.ifCond .eq 10, 3) := zdec_at bX1_count_176 1 rfl
theorem dX1_count_180 : decode cX1_count 180 = .ok (.aload_n 0, 1) := zdec_at bX1_count_176 2 rfl
theorem dX1_count_181 : decode cX1_count 181 = .ok (.getfield 319, 3) := zdec_at bX1_count_176 3 rfl
theorem dX1_count_184 : decode cX1_count 184 = .ok (.goto 4, 3) := zdec_at bX1_count_176 4 rfl
theorem dX1_count_187 : decode cX1_count 187 = .ok (.iconst 0, 1) := zdec_at bX1_count_176 5 rfl
theorem dX1_count_188 : decode cX1_count 188 = .ok (.ireturn, 1) := zdec_at bX1_count_176 6 rfl
theorem dX1_count_189 : decode cX1_count 189 = .ok (.iload_n 2, 1) := zdec_at bX1_count_176 7 rfl
theorem dX1_count_190 : decode cX1_count 190 = .ok (.ifCond .eq 10, 3) := zdec_at bX1_count_176 8 rfl
theorem dX1_count_193 : decode cX1_count 193 = .ok (.aload_n 0, 1) := zdec_at bX1_count_176 9 rfl
theorem dX1_count_194 : decode cX1_count 194 = .ok (.getfield 322, 3) := zdec_at bX1_count_176 10 rfl
theorem dX1_count_197 : decode cX1_count 197 = .ok (.goto 4, 3) := zdec_at bX1_count_176 11 rfl
theorem dX1_count_200 : decode cX1_count 200 = .ok (.iconst 0, 1) := zdec_at bX1_count_176 12 rfl
theorem dX1_count_201 : decode cX1_count 201 = .ok (.ireturn, 1) := zdec_at bX1_count_176 13 rfl
theorem dX1_count_202 : decode cX1_count 202 = .ok (.iload_n 2, 1) := zdec_at bX1_count_176 14 rfl
theorem dX1_count_203 : decode cX1_count 203 = .ok (.ifCond .eq 13, 3) := zdec_at bX1_count_176 15 rfl
theorem bX1_count_206 : zdec cX1_count 206 [(206, .aload_n 0, 1), (207, .getfield 19, 3), (210, .getfield 41, 3), (213, .goto 4, 3), (216, .iconst 0, 1), (217, .ireturn, 1), (218, .iload_n 2, 1), (219, .ifCond .eq 10, 3), (222, .aload_n 0, 1), (223, .getfield 325, 3), (226, .goto 4, 3), (229, .iconst 0, 1), (230, .ireturn, 1), (231, .iload_n 2, 1), (232, .ifCond .eq 10, 3), (235, .aload_n 0, 1)] = true := by decide +kernel
theorem dX1_count_206 : decode cX1_count 206 = .ok (.aload_n 0, 1) := zdec_at bX1_count_206 0 rfl
theorem dX1_count_207 : decode cX1_count 207 = .ok (.getfield 19, 3) := zdec_at bX1_count_206 1 rfl
theorem dX1_count_210 : decode cX1_count 210 = .ok (.getfield 41, 3) := zdec_at bX1_count_206 2 rfl
theorem dX1_count_213 : decode cX1_count 213 = .ok (.goto 4, 3) := zdec_at bX1_count_206 3 rfl
theorem dX1_count_216 : decode cX1_count 216 = .ok (.iconst 0, 1) := zdec_at bX1_count_206 4 rfl
theorem dX1_count_217 : decode cX1_count 217 = .ok (.ireturn, 1) := zdec_at bX1_count_206 5 rfl
theorem dX1_count_218 : decode cX1_count 218 = .ok (.iload_n 2, 1) := zdec_at bX1_count_206 6 rfl
theorem dX1_count_219 : decode cX1_count 219 = .ok (.ifCond .eq 10, 3) := zdec_at bX1_count_206 7 rfl
theorem dX1_count_222 : decode cX1_count 222 = .ok (.aload_n 0, 1) := zdec_at bX1_count_206 8 rfl
theorem dX1_count_223 : decode cX1_count 223 = .ok (.getfield 325, 3) := zdec_at bX1_count_206 9 rfl
theorem dX1_count_226 : decode cX1_count 226 = .ok (.goto 4, 3) := zdec_at bX1_count_206 10 rfl
theorem dX1_count_229 : decode cX1_count 229 = .ok (.iconst 0, 1) := zdec_at bX1_count_206 11 rfl
theorem dX1_count_230 : decode cX1_count 230 = .ok (.ireturn, 1) := zdec_at bX1_count_206 12 rfl
theorem dX1_count_231 : decode cX1_count 231 = .ok (.iload_n 2, 1) := zdec_at bX1_count_206 13 rfl
theorem dX1_count_232 : decode cX1_count 232 = .ok (.ifCond .eq 10, 3) := zdec_at bX1_count_206 14 rfl
theorem dX1_count_235 : decode cX1_count 235 = .ok (.aload_n 0, 1) := zdec_at bX1_count_206 15 rfl
theorem bX1_count_236 : zdec cX1_count 236 [(236, .getfield 328, 3), (239, .goto 4, 3), (242, .iconst 0, 1), (243, .ireturn, 1), (244, .aload_n 0, 1), (245, .getfield 274, 3), (248, .ifCond .eq 10, 3), (251, .aload_n 0, 1), (252, .getfield 331, 3), (255, .goto 4, 3), (258, .iconst (-1), 1), (259, .ireturn, 1), (260, .iconst (-1), 1), (261, .ireturn, 1)] = true := by decide +kernel
theorem dX1_count_236 : decode cX1_count 236 = .ok (.getfield 328, 3) := zdec_at bX1_count_236 0 rfl
theorem dX1_count_239 : decode cX1_count 239 = .ok (.goto 4, 3) := zdec_at bX1_count_236 1 rfl
theorem dX1_count_242 : decode cX1_count 242 = .ok (.iconst 0, 1) := zdec_at bX1_count_236 2 rfl
theorem dX1_count_243 : decode cX1_count 243 = .ok (.ireturn, 1) := zdec_at bX1_count_236 3 rfl
theorem dX1_count_244 : decode cX1_count 244 = .ok (.aload_n 0, 1) := zdec_at bX1_count_236 4 rfl
theorem dX1_count_245 : decode cX1_count 245 = .ok (.getfield 274, 3) := zdec_at bX1_count_236 5 rfl
theorem dX1_count_248 : decode cX1_count 248 = .ok (.ifCond .eq 10, 3) := zdec_at bX1_count_236 6 rfl
theorem dX1_count_251 : decode cX1_count 251 = .ok (.aload_n 0, 1) := zdec_at bX1_count_236 7 rfl
theorem dX1_count_252 : decode cX1_count 252 = .ok (.getfield 331, 3) := zdec_at bX1_count_236 8 rfl
theorem dX1_count_255 : decode cX1_count 255 = .ok (.goto 4, 3) := zdec_at bX1_count_236 9 rfl
theorem dX1_count_258 : decode cX1_count 258 = .ok (.iconst (-1), 1) := zdec_at bX1_count_236 10 rfl
theorem dX1_count_259 : decode cX1_count 259 = .ok (.ireturn, 1) := zdec_at bX1_count_236 11 rfl
theorem dX1_count_260 : decode cX1_count 260 = .ok (.iconst (-1), 1) := zdec_at bX1_count_236 12 rfl
theorem dX1_count_261 : decode cX1_count 261 = .ok (.ireturn, 1) := zdec_at bX1_count_236 13 rfl
theorem sX1_count_0 {E : zE} {d : Nat} {Q : zO → zM → Prop} (M : zM) (l1 : Int32) (hw : cw M) (k : if (gi M 16 51) = 0 then (Z E YX1_count (d + 1) M [(0, vr (some (16, 0, 0))), (1, vi l1)] 12 [vi (0 : Int32)] Q) else (Z E YX1_count (d + 1) M [(0, vr (some (16, 0, 0))), (1, vi l1)] 12 [vi (1 : Int32)] Q)) : Z E YX1_count (d + 1) M [(0, vr (some (16, 0, 0))), (1, vi l1)] 0 [] Q := by
  refine z_aload_n dX1_count_0 rfl rfl ?_
  refine z_geti dX1_count_1 fsX1_277_0 ?_
  refine z_if_eq (tgt := 11) dX1_count_4 rfl (fun h_ => ?_) (fun h_ => ?_)
  · have k := zit h_ k
    refine z_iconst (v := 0) dX1_count_11 rfl ?_
    exact k
  · have k := zif h_ k
    refine z_iconst (v := 1) dX1_count_7 rfl ?_
    refine z_goto (tgt := 12) dX1_count_8 rfl ?_
    exact k
theorem sX1_count_12 {E : zE} {d : Nat} {Q : zO → zM → Prop} (M : zM) (l1 : Int32) (s0 : Int32) (hw : cw M) (k : if l1 = 0 then (if (gi M 16 10) = 0 then (Q (.inl (some (vi (0 : Int32)))) M) else (Q (.inl (some (vi (gi M 29 7)))) M)) else (if l1 = 1 then (if (gi M 16 10) = 0 then (Q (.inl (some (vi (0 : Int32)))) M) else (∃ b1 : Nat, (gr M 16 8) = some (b1, 11, 0) ∧ (Z E YJ2_size d M (zargs 0 [vr (some (b1, 11, 0))]) 0 [] (zafter E YX1_count (d + 1) [] 110 3 [] Q)))) else (if l1 = 2 then (if (gi M 16 10) = 0 then (Q (.inl (some (vi (0 : Int32)))) M) else (Q (.inl (some (vi (gi M 16 1)))) M)) else (if l1 = 3 then (if (gi M 16 10) = 0 then (Q (.inl (some (vi (0 : Int32)))) M) else (Q (.inl (some (vi (gi M 16 11)))) M)) else (if l1 = 4 then (if (gi M 16 10) = 0 then (Q (.inl (some (vi (0 : Int32)))) M) else (Q (.inl (some (vi (gi M 16 12)))) M)) else (if l1 = 5 then (Q (.inl (some (vi (gi M 16 5)))) M) else (if l1 = 6 then (Q (.inl (some (vi (gi M 16 51)))) M) else (if l1 = 7 then (if s0 = 0 then (Q (.inl (some (vi (0 : Int32)))) M) else (Q (.inl (some (vi (gi M 16 52)))) M)) else (if l1 = 8 then (if s0 = 0 then (Q (.inl (some (vi (0 : Int32)))) M) else (Q (.inl (some (vi (gi M 16 26)))) M)) else (if l1 = 9 then (if s0 = 0 then (Q (.inl (some (vi (0 : Int32)))) M) else (Q (.inl (some (vi (gi M 17 2)))) M)) else (if l1 = 10 then (if s0 = 0 then (Q (.inl (some (vi (0 : Int32)))) M) else (Q (.inl (some (vi (gi M 16 53)))) M)) else (if l1 = 11 then (if s0 = 0 then (Q (.inl (some (vi (0 : Int32)))) M) else (Q (.inl (some (vi (gi M 16 49)))) M)) else (if l1 = 12 then (if (gi M 16 62) = 0 then (Q (.inl (some (vi (-1 : Int32)))) M) else (Q (.inl (some (vi (gi M 16 63)))) M)) else (Q (.inl (some (vi (-1 : Int32)))) M)))))))))))))) : Z E YX1_count (d + 1) M [(0, vr (some (16, 0, 0))), (1, vi l1)] 12 [vi s0] Q := by
  refine z_ist_n dX1_count_12 rfl (by decide) (lv' := [(0, vr (some (16, 0, 0))), (1, vi l1), (2, vi s0)]) rfl ?_
  refine z_iload_n dX1_count_13 rfl rfl ?_
  by_cases h0_ : l1 = 0
  · have k := zit h0_ k
    refine z_tableIn (off := 66) (tgt := 80) dX1_count_14 (by rw [h0_]; decide) (by rw [h0_]; decide) (by rw [h0_]; rfl) rfl ?_
    refine z_aload_n dX1_count_80 rfl rfl ?_
    refine z_geti dX1_count_81 fsX1_270_0 ?_
    refine z_if_eq (tgt := 97) dX1_count_84 rfl (fun h_ => ?_) (fun h_ => ?_)
    · have k := zit h_ k
      refine z_iconst (v := 0) dX1_count_97 rfl ?_
      exact z_iret dX1_count_98 rfl rfl k
    · have k := zif h_ k
      refine z_aload_n dX1_count_87 rfl rfl ?_
      refine z_getr dX1_count_88 fsX1_89_0 (show gr M 16 9 = some (29, 3, 0) from cw_at hw 5 rfl) ?_
      refine z_geti dX1_count_91 fsX1_287_3 ?_
      refine z_goto (tgt := 98) dX1_count_94 rfl ?_
      exact z_iret dX1_count_98 rfl rfl k
  · have k := zif h0_ k
    by_cases h1_ : l1 = 1
    · have k := zit h1_ k
      refine z_tableIn (off := 85) (tgt := 99) dX1_count_14 (by rw [h1_]; decide) (by rw [h1_]; decide) (by rw [h1_]; rfl) rfl ?_
      refine z_aload_n dX1_count_99 rfl rfl ?_
      refine z_geti dX1_count_100 fsX1_270_0 ?_
      refine z_if_eq (tgt := 116) dX1_count_103 rfl (fun h_ => ?_) (fun h_ => ?_)
      · have k := zit h_ k
        refine z_iconst (v := 0) dX1_count_116 rfl ?_
        exact z_iret dX1_count_117 rfl rfl k
      · have k := zif h_ k
        refine z_aload_n dX1_count_106 rfl rfl ?_
        refine z_getr (r := (gr M 16 8)) dX1_count_107 fsX1_82_0 rfl ?_
        obtain ⟨b1, e1_, k⟩ := k
        refine Z.eqs (lv' := [(0, vr (some (16, 0, 0))), (1, vi l1), (2, vi s0)]) (st' := [vr (some (b1, 11, 0))]) rfl (by rw [e1_] <;> rfl) ?_
        refine Z.pick [] rfl ?_
        exact z_callV (as := []) (st := []) dX1_count_110 vsX1_291_11 (Nat.le_refl _) (Nat.le_of_ble_eq_true rfl) (Nat.le_of_ble_eq_true rfl) rfl k
    · have k := zif h1_ k
      by_cases h2_ : l1 = 2
      · have k := zit h2_ k
        refine z_tableIn (off := 104) (tgt := 118) dX1_count_14 (by rw [h2_]; decide) (by rw [h2_]; decide) (by rw [h2_]; rfl) rfl ?_
        refine z_aload_n dX1_count_118 rfl rfl ?_
        refine z_geti dX1_count_119 fsX1_270_0 ?_
        refine z_if_eq (tgt := 132) dX1_count_122 rfl (fun h_ => ?_) (fun h_ => ?_)
        · have k := zit h_ k
          refine z_iconst (v := 0) dX1_count_132 rfl ?_
          exact z_iret dX1_count_133 rfl rfl k
        · have k := zif h_ k
          refine z_aload_n dX1_count_125 rfl rfl ?_
          refine z_geti dX1_count_126 fsX1_58_0 ?_
          refine z_goto (tgt := 133) dX1_count_129 rfl ?_
          exact z_iret dX1_count_133 rfl rfl k
      · have k := zif h2_ k
        by_cases h3_ : l1 = 3
        · have k := zit h3_ k
          refine z_tableIn (off := 120) (tgt := 134) dX1_count_14 (by rw [h3_]; decide) (by rw [h3_]; decide) (by rw [h3_]; rfl) rfl ?_
          refine z_aload_n dX1_count_134 rfl rfl ?_
          refine z_geti dX1_count_135 fsX1_270_0 ?_
          refine z_if_eq (tgt := 148) dX1_count_138 rfl (fun h_ => ?_) (fun h_ => ?_)
          · have k := zit h_ k
            refine z_iconst (v := 0) dX1_count_148 rfl ?_
            exact z_iret dX1_count_149 rfl rfl k
          · have k := zif h_ k
            refine z_aload_n dX1_count_141 rfl rfl ?_
            refine z_geti dX1_count_142 fsX1_313_0 ?_
            refine z_goto (tgt := 149) dX1_count_145 rfl ?_
            exact z_iret dX1_count_149 rfl rfl k
        · have k := zif h3_ k
          by_cases h4_ : l1 = 4
          · have k := zit h4_ k
            refine z_tableIn (off := 136) (tgt := 150) dX1_count_14 (by rw [h4_]; decide) (by rw [h4_]; decide) (by rw [h4_]; rfl) rfl ?_
            refine z_aload_n dX1_count_150 rfl rfl ?_
            refine z_geti dX1_count_151 fsX1_270_0 ?_
            refine z_if_eq (tgt := 164) dX1_count_154 rfl (fun h_ => ?_) (fun h_ => ?_)
            · have k := zit h_ k
              refine z_iconst (v := 0) dX1_count_164 rfl ?_
              exact z_iret dX1_count_165 rfl rfl k
            · have k := zif h_ k
              refine z_aload_n dX1_count_157 rfl rfl ?_
              refine z_geti dX1_count_158 fsX1_307_0 ?_
              refine z_goto (tgt := 165) dX1_count_161 rfl ?_
              exact z_iret dX1_count_165 rfl rfl k
          · have k := zif h4_ k
            by_cases h5_ : l1 = 5
            · have k := zit h5_ k
              refine z_tableIn (off := 152) (tgt := 166) dX1_count_14 (by rw [h5_]; decide) (by rw [h5_]; decide) (by rw [h5_]; rfl) rfl ?_
              refine z_aload_n dX1_count_166 rfl rfl ?_
              refine z_geti dX1_count_167 fsX1_258_0 ?_
              exact z_iret dX1_count_170 rfl rfl k
            · have k := zif h5_ k
              by_cases h6_ : l1 = 6
              · have k := zit h6_ k
                refine z_tableIn (off := 157) (tgt := 171) dX1_count_14 (by rw [h6_]; decide) (by rw [h6_]; decide) (by rw [h6_]; rfl) rfl ?_
                refine z_aload_n dX1_count_171 rfl rfl ?_
                refine z_geti dX1_count_172 fsX1_277_0 ?_
                exact z_iret dX1_count_175 rfl rfl k
              · have k := zif h6_ k
                by_cases h7_ : l1 = 7
                · have k := zit h7_ k
                  refine z_tableIn (off := 162) (tgt := 176) dX1_count_14 (by rw [h7_]; decide) (by rw [h7_]; decide) (by rw [h7_]; rfl) rfl ?_
                  refine z_iload_n dX1_count_176 rfl rfl ?_
                  refine z_if_eq (tgt := 187) dX1_count_177 rfl (fun h_ => ?_) (fun h_ => ?_)
                  · have k := zit h_ k
                    refine z_iconst (v := 0) dX1_count_187 rfl ?_
                    exact z_iret dX1_count_188 rfl rfl k
                  · have k := zif h_ k
                    refine z_aload_n dX1_count_180 rfl rfl ?_
                    refine z_geti dX1_count_181 fsX1_319_0 ?_
                    refine z_goto (tgt := 188) dX1_count_184 rfl ?_
                    exact z_iret dX1_count_188 rfl rfl k
                · have k := zif h7_ k
                  by_cases h8_ : l1 = 8
                  · have k := zit h8_ k
                    refine z_tableIn (off := 175) (tgt := 189) dX1_count_14 (by rw [h8_]; decide) (by rw [h8_]; decide) (by rw [h8_]; rfl) rfl ?_
                    refine z_iload_n dX1_count_189 rfl rfl ?_
                    refine z_if_eq (tgt := 200) dX1_count_190 rfl (fun h_ => ?_) (fun h_ => ?_)
                    · have k := zit h_ k
                      refine z_iconst (v := 0) dX1_count_200 rfl ?_
                      exact z_iret dX1_count_201 rfl rfl k
                    · have k := zif h_ k
                      refine z_aload_n dX1_count_193 rfl rfl ?_
                      refine z_geti dX1_count_194 fsX1_322_0 ?_
                      refine z_goto (tgt := 201) dX1_count_197 rfl ?_
                      exact z_iret dX1_count_201 rfl rfl k
                  · have k := zif h8_ k
                    by_cases h9_ : l1 = 9
                    · have k := zit h9_ k
                      refine z_tableIn (off := 188) (tgt := 202) dX1_count_14 (by rw [h9_]; decide) (by rw [h9_]; decide) (by rw [h9_]; rfl) rfl ?_
                      refine z_iload_n dX1_count_202 rfl rfl ?_
                      refine z_if_eq (tgt := 216) dX1_count_203 rfl (fun h_ => ?_) (fun h_ => ?_)
                      · have k := zit h_ k
                        refine z_iconst (v := 0) dX1_count_216 rfl ?_
                        exact z_iret dX1_count_217 rfl rfl k
                      · have k := zif h_ k
                        refine z_aload_n dX1_count_206 rfl rfl ?_
                        refine z_getr dX1_count_207 fsX1_19_0 (show gr M 16 0 = some (17, 2, 0) from cw_at hw 0 rfl) ?_
                        refine z_geti dX1_count_210 fsX1_41_2 ?_
                        refine z_goto (tgt := 217) dX1_count_213 rfl ?_
                        exact z_iret dX1_count_217 rfl rfl k
                    · have k := zif h9_ k
                      by_cases h10_ : l1 = 10
                      · have k := zit h10_ k
                        refine z_tableIn (off := 204) (tgt := 218) dX1_count_14 (by rw [h10_]; decide) (by rw [h10_]; decide) (by rw [h10_]; rfl) rfl ?_
                        refine z_iload_n dX1_count_218 rfl rfl ?_
                        refine z_if_eq (tgt := 229) dX1_count_219 rfl (fun h_ => ?_) (fun h_ => ?_)
                        · have k := zit h_ k
                          refine z_iconst (v := 0) dX1_count_229 rfl ?_
                          exact z_iret dX1_count_230 rfl rfl k
                        · have k := zif h_ k
                          refine z_aload_n dX1_count_222 rfl rfl ?_
                          refine z_geti dX1_count_223 fsX1_325_0 ?_
                          refine z_goto (tgt := 230) dX1_count_226 rfl ?_
                          exact z_iret dX1_count_230 rfl rfl k
                      · have k := zif h10_ k
                        by_cases h11_ : l1 = 11
                        · have k := zit h11_ k
                          refine z_tableIn (off := 217) (tgt := 231) dX1_count_14 (by rw [h11_]; decide) (by rw [h11_]; decide) (by rw [h11_]; rfl) rfl ?_
                          refine z_iload_n dX1_count_231 rfl rfl ?_
                          refine z_if_eq (tgt := 242) dX1_count_232 rfl (fun h_ => ?_) (fun h_ => ?_)
                          · have k := zit h_ k
                            refine z_iconst (v := 0) dX1_count_242 rfl ?_
                            exact z_iret dX1_count_243 rfl rfl k
                          · have k := zif h_ k
                            refine z_aload_n dX1_count_235 rfl rfl ?_
                            refine z_geti dX1_count_236 fsX1_328_0 ?_
                            refine z_goto (tgt := 243) dX1_count_239 rfl ?_
                            exact z_iret dX1_count_243 rfl rfl k
                        · have k := zif h11_ k
                          by_cases h12_ : l1 = 12
                          · have k := zit h12_ k
                            refine z_tableIn (off := 230) (tgt := 244) dX1_count_14 (by rw [h12_]; decide) (by rw [h12_]; decide) (by rw [h12_]; rfl) rfl ?_
                            refine z_aload_n dX1_count_244 rfl rfl ?_
                            refine z_geti dX1_count_245 fsX1_274_0 ?_
                            refine z_if_eq (tgt := 258) dX1_count_248 rfl (fun h_ => ?_) (fun h_ => ?_)
                            · have k := zit h_ k
                              refine z_iconst (v := -1) dX1_count_258 rfl ?_
                              exact z_iret dX1_count_259 rfl rfl k
                            · have k := zif h_ k
                              refine z_aload_n dX1_count_251 rfl rfl ?_
                              refine z_geti dX1_count_252 fsX1_331_0 ?_
                              refine z_goto (tgt := 259) dX1_count_255 rfl ?_
                              exact z_iret dX1_count_259 rfl rfl k
                          · have k := zif h12_ k
                            refine z_tout (tgt := 260) [0, 1, 2, 3, 4, 5, 6, 7, 8, 9, 10, 11, 12] (by decide) dX1_count_14 (zall_1 h0_ (zall_1 h1_ (zall_1 h2_ (zall_1 h3_ (zall_1 h4_ (zall_1 h5_ (zall_1 h6_ (zall_1 h7_ (zall_1 h8_ (zall_1 h9_ (zall_1 h10_ (zall_1 h11_ (zall_1 h12_ zall_0))))))))))))) rfl ?_
                            refine z_iconst (v := -1) dX1_count_260 rfl ?_
                            exact z_iret dX1_count_261 rfl rfl k
theorem sX1_count_113 {E : zE} {d : Nat} {Q : zO → zM → Prop} (M : zM) (s0 : Int32) (hw : cw M) (k : Q (.inl (some (vi s0))) M) : Z E YX1_count (d + 1) M [] 113 [vi s0] Q := by
  refine z_goto (tgt := 117) dX1_count_113 rfl ?_
  exact z_iret dX1_count_117 rfl rfl k
/-! ScriptTypes.letter(II)I -/
theorem bX1_letter_0 : zdec cX1_letter 0 [(0, .aload_n 0, 1), (1, .getfield 270, 3), (4, .ifCond .eq 34, 3), (7, .iload_n 1, 1), (8, .ifCond .lt 30, 3), (11, .iload_n 1, 1), (12, .aload_n 0, 1), (13, .getfield 19, 3), (16, .getfield 41, 3), (19, .if_icmp .ge 19, 3), (22, .iload_n 2, 1), (23, .ifCond .lt 15, 3), (26, .iload_n 2, 1), (27, .aload_n 0, 1), (28, .getfield 19, 3), (31, .iload_n 1, 1)] = true := by decide +kernel
theorem dX1_letter_0 : decode cX1_letter 0 = .ok (.aload_n 0, 1) := zdec_at bX1_letter_0 0 rfl
theorem dX1_letter_1 : decode cX1_letter 1 = .ok (.getfield 270, 3) := zdec_at bX1_letter_0 1 rfl
theorem dX1_letter_4 : decode cX1_letter 4 = .ok (.ifCond .eq 34, 3) := zdec_at bX1_letter_0 2 rfl
theorem dX1_letter_7 : decode cX1_letter 7 = .ok (.iload_n 1, 1) := zdec_at bX1_letter_0 3 rfl
theorem dX1_letter_8 : decode cX1_letter 8 = .ok (.ifCond .lt 30, 3) := zdec_at bX1_letter_0 4 rfl
theorem dX1_letter_11 : decode cX1_letter 11 = .ok (.iload_n 1, 1) := zdec_at bX1_letter_0 5 rfl
theorem dX1_letter_12 : decode cX1_letter 12 = .ok (.aload_n 0, 1) := zdec_at bX1_letter_0 6 rfl
theorem dX1_letter_13 : decode cX1_letter 13 = .ok (.getfield 19, 3) := zdec_at bX1_letter_0 7 rfl
theorem dX1_letter_16 : decode cX1_letter 16 = .ok (.getfield 41, 3) := zdec_at bX1_letter_0 8 rfl
theorem dX1_letter_19 : decode cX1_letter 19 = .ok (.if_icmp .ge 19, 3) := zdec_at bX1_letter_0 9 rfl
theorem dX1_letter_22 : decode cX1_letter 22 = .ok (.iload_n 2, 1) := zdec_at bX1_letter_0 10 rfl
theorem dX1_letter_23 : decode cX1_letter 23 = .ok (.ifCond .lt 15, 3) := zdec_at bX1_letter_0 11 rfl
theorem dX1_letter_26 : decode cX1_letter 26 = .ok (.iload_n 2, 1) := zdec_at bX1_letter_0 12 rfl
theorem dX1_letter_27 : decode cX1_letter 27 = .ok (.aload_n 0, 1) := zdec_at bX1_letter_0 13 rfl
theorem dX1_letter_28 : decode cX1_letter 28 = .ok (.getfield 19, 3) := zdec_at bX1_letter_0 14 rfl
theorem dX1_letter_31 : decode cX1_letter 31 = .ok (.iload_n 1, 1) := zdec_at bX1_letter_0 15 rfl
theorem bX1_letter_32 : zdec cX1_letter 32 [(32, .invokevirtual 23, 3), (35, .if_icmp .lt 7, 3), (38, .iconst (-1), 1), (39, .goto 12, 3), (42, .aload_n 0, 1), (43, .getfield 19, 3), (46, .iload_n 1, 1), (47, .iload_n 2, 1), (48, .invokevirtual 29, 3), (51, .ireturn, 1)] = true := by decide +kernel
theorem dX1_letter_32 : decode cX1_letter 32 = .ok (.invokevirtual 23, 3) := zdec_at bX1_letter_32 0 rfl
theorem dX1_letter_35 : decode cX1_letter 35 = .ok (.if_icmp .lt 7, 3) := zdec_at bX1_letter_32 1 rfl
theorem dX1_letter_38 : decode cX1_letter 38 = .ok (.iconst (-1), 1) := zdec_at bX1_letter_32 2 rfl
theorem dX1_letter_39 : decode cX1_letter 39 = .ok (.goto 12, 3) := zdec_at bX1_letter_32 3 rfl
theorem dX1_letter_42 : decode cX1_letter 42 = .ok (.aload_n 0, 1) := zdec_at bX1_letter_32 4 rfl
theorem dX1_letter_43 : decode cX1_letter 43 = .ok (.getfield 19, 3) := zdec_at bX1_letter_32 5 rfl
theorem dX1_letter_46 : decode cX1_letter 46 = .ok (.iload_n 1, 1) := zdec_at bX1_letter_32 6 rfl
theorem dX1_letter_47 : decode cX1_letter 47 = .ok (.iload_n 2, 1) := zdec_at bX1_letter_32 7 rfl
theorem dX1_letter_48 : decode cX1_letter 48 = .ok (.invokevirtual 29, 3) := zdec_at bX1_letter_32 8 rfl
theorem dX1_letter_51 : decode cX1_letter 51 = .ok (.ireturn, 1) := zdec_at bX1_letter_32 9 rfl
theorem sX1_letter_0 {E : zE} {d : Nat} {Q : zO → zM → Prop} (M : zM) (l1 : Int32) (l2 : Int32) (hw : cw M) (k : if (gi M 16 10) = 0 then (Z E YX1_letter (d + 1) M [] 51 [vi (-1 : Int32)] Q) else (if l1 < 0 then (Z E YX1_letter (d + 1) M [] 51 [vi (-1 : Int32)] Q) else (if (gi M 17 2) ≤ l1 then (Z E YX1_letter (d + 1) M [] 51 [vi (-1 : Int32)] Q) else (if l2 < 0 then (Z E YX1_letter (d + 1) M [] 51 [vi (-1 : Int32)] Q) else (Z E YX2_length d M (zargs 0 [vr (some (17, 2, 0)), vi l1]) 0 [] (zafter E YX1_letter (d + 1) [(0, vr (some (16, 0, 0))), (1, vi l1), (2, vi l2)] 32 3 [vi l2] Q)))))) : Z E YX1_letter (d + 1) M [(0, vr (some (16, 0, 0))), (1, vi l1), (2, vi l2)] 0 [] Q := by
  refine z_aload_n dX1_letter_0 rfl rfl ?_
  refine z_geti dX1_letter_1 fsX1_270_0 ?_
  refine z_if_eq (tgt := 38) dX1_letter_4 rfl (fun h_ => ?_) (fun h_ => ?_)
  · have k := zit h_ k
    refine z_iconst (v := -1) dX1_letter_38 rfl ?_
    refine z_goto (tgt := 51) dX1_letter_39 rfl ?_
    refine Z.pick [] rfl ?_
    exact k
  · have k := zif h_ k
    refine z_iload_n dX1_letter_7 rfl rfl ?_
    refine z_if_lt (tgt := 38) dX1_letter_8 rfl (fun h_ => ?_) (fun h_ => ?_)
    · have k := zit h_ k
      refine z_iconst (v := -1) dX1_letter_38 rfl ?_
      refine z_goto (tgt := 51) dX1_letter_39 rfl ?_
      refine Z.pick [] rfl ?_
      exact k
    · have k := zif h_ k
      refine z_iload_n dX1_letter_11 rfl rfl ?_
      refine z_aload_n dX1_letter_12 rfl rfl ?_
      refine z_getr dX1_letter_13 fsX1_19_0 (show gr M 16 0 = some (17, 2, 0) from cw_at hw 0 rfl) ?_
      refine z_geti dX1_letter_16 fsX1_41_2 ?_
      refine z_icmp_ge (tgt := 38) dX1_letter_19 rfl (fun h_ => ?_) (fun h_ => ?_)
      · have k := zit h_ k
        refine z_iconst (v := -1) dX1_letter_38 rfl ?_
        refine z_goto (tgt := 51) dX1_letter_39 rfl ?_
        refine Z.pick [] rfl ?_
        exact k
      · have k := zif h_ k
        refine z_iload_n dX1_letter_22 rfl rfl ?_
        refine z_if_lt (tgt := 38) dX1_letter_23 rfl (fun h_ => ?_) (fun h_ => ?_)
        · have k := zit h_ k
          refine z_iconst (v := -1) dX1_letter_38 rfl ?_
          refine z_goto (tgt := 51) dX1_letter_39 rfl ?_
          refine Z.pick [] rfl ?_
          exact k
        · have k := zif h_ k
          refine z_iload_n dX1_letter_26 rfl rfl ?_
          refine z_aload_n dX1_letter_27 rfl rfl ?_
          refine z_getr dX1_letter_28 fsX1_19_0 (show gr M 16 0 = some (17, 2, 0) from cw_at hw 0 rfl) ?_
          refine z_iload_n dX1_letter_31 rfl rfl ?_
          exact z_callV (as := [vi l1]) (st := [vi l2]) dX1_letter_32 vsX1_23_2 (Nat.le_refl _) (Nat.le_of_ble_eq_true rfl) (Nat.le_of_ble_eq_true rfl) rfl k
theorem sX1_letter_35 {E : zE} {d : Nat} {Q : zO → zM → Prop} (M : zM) (l1 : Int32) (l2 : Int32) (s0 : Int32) (s1 : Int32) (hw : cw M) (k : if s1 < s0 then (Z E YX2_sign d M (zargs 0 [vr (some (17, 2, 0)), vi l1, vi l2]) 0 [] (zafter E YX1_letter (d + 1) [] 48 3 [] Q)) else (Z E YX1_letter (d + 1) M [] 51 [vi (-1 : Int32)] Q)) : Z E YX1_letter (d + 1) M [(0, vr (some (16, 0, 0))), (1, vi l1), (2, vi l2)] 35 [vi s0, vi s1] Q := by
  refine z_icmp_lt (tgt := 42) dX1_letter_35 rfl (fun h_ => ?_) (fun h_ => ?_)
  · have k := zit h_ k
    refine z_aload_n dX1_letter_42 rfl rfl ?_
    refine z_getr dX1_letter_43 fsX1_19_0 (show gr M 16 0 = some (17, 2, 0) from cw_at hw 0 rfl) ?_
    refine z_iload_n dX1_letter_46 rfl rfl ?_
    refine z_iload_n dX1_letter_47 rfl rfl ?_
    refine Z.pick [] rfl ?_
    exact z_callV (as := [vi l1, vi l2]) (st := []) dX1_letter_48 vsX1_29_2 (Nat.le_refl _) (Nat.le_of_ble_eq_true rfl) (Nat.le_of_ble_eq_true rfl) rfl k
  · have k := zif h_ k
    refine z_iconst (v := -1) dX1_letter_38 rfl ?_
    refine z_goto (tgt := 51) dX1_letter_39 rfl ?_
    refine Z.pick [] rfl ?_
    exact k
theorem sX1_letter_51 {E : zE} {d : Nat} {Q : zO → zM → Prop} (M : zM) (s0 : Int32) (hw : cw M) (k : Q (.inl (some (vi s0))) M) : Z E YX1_letter (d + 1) M [] 51 [vi s0] Q := by
  exact z_iret dX1_letter_51 rfl rfl k
/-! ScriptTypes.instruction(II)I -/
theorem bX1_instruction_0 : zdec cX1_instruction 0 [(0, .aload_n 0, 1), (1, .getfield 270, 3), (4, .ifCond .eq 18, 3), (7, .iload_n 1, 1), (8, .ifCond .lt 14, 3), (11, .iload_n 1, 1), (12, .aload_n 0, 1), (13, .getfield 89, 3), (16, .getfield 287, 3), (19, .if_icmp .lt 5, 3), (22, .iconst (-1), 1), (23, .ireturn, 1), (24, .iload_n 2, 1), (25, .ifCond .ne 15, 3), (28, .aload_n 0, 1), (29, .getfield 89, 3)] = true := by decide +kernel
theorem dX1_instruction_0 : decode cX1_instruction 0 = .ok (.aload_n 0, 1) := zdec_at bX1_instruction_0 0 rfl
theorem dX1_instruction_1 : decode cX1_instruction 1 = .ok (.getfield 270, 3) := zdec_at bX1_instruction_0 1 rfl
theorem dX1_instruction_4 : decode cX1_instruction 4 = .ok (.ifCond .eq 18, 3) := zdec_at bX1_instruction_0 2 rfl
theorem dX1_instruction_7 : decode cX1_instruction 7 = .ok (.iload_n 1, 1) := zdec_at bX1_instruction_0 3 rfl
theorem dX1_instruction_8 : decode cX1_instruction 8 = .ok (.ifCond .lt 14, 3) := zdec_at bX1_instruction_0 4 rfl
theorem dX1_instruction_11 : decode cX1_instruction 11 = .ok (.iload_n 1, 1) := zdec_at bX1_instruction_0 5 rfl
theorem dX1_instruction_12 : decode cX1_instruction 12 = .ok (.aload_n 0, 1) := zdec_at bX1_instruction_0 6 rfl
theorem dX1_instruction_13 : decode cX1_instruction 13 = .ok (.getfield 89, 3) := zdec_at bX1_instruction_0 7 rfl
theorem dX1_instruction_16 : decode cX1_instruction 16 = .ok (.getfield 287, 3) := zdec_at bX1_instruction_0 8 rfl
theorem dX1_instruction_19 : decode cX1_instruction 19 = .ok (.if_icmp .lt 5, 3) := zdec_at bX1_instruction_0 9 rfl
theorem dX1_instruction_22 : decode cX1_instruction 22 = .ok (.iconst (-1), 1) := zdec_at bX1_instruction_0 10 rfl
theorem dX1_instruction_23 : decode cX1_instruction 23 = .ok (.ireturn, 1) := zdec_at bX1_instruction_0 11 rfl
theorem dX1_instruction_24 : decode cX1_instruction 24 = .ok (.iload_n 2, 1) := zdec_at bX1_instruction_0 12 rfl
theorem dX1_instruction_25 : decode cX1_instruction 25 = .ok (.ifCond .ne 15, 3) := zdec_at bX1_instruction_0 13 rfl
theorem dX1_instruction_28 : decode cX1_instruction 28 = .ok (.aload_n 0, 1) := zdec_at bX1_instruction_0 14 rfl
theorem dX1_instruction_29 : decode cX1_instruction 29 = .ok (.getfield 89, 3) := zdec_at bX1_instruction_0 15 rfl
theorem bX1_instruction_32 : zdec cX1_instruction 32 [(32, .getfield 334, 3), (35, .iload_n 1, 1), (36, .baload, 1), (37, .goto 55, 3), (40, .iload_n 2, 1), (41, .iconst 1, 1), (42, .if_icmp .ne 15, 3), (45, .aload_n 0, 1), (46, .getfield 89, 3), (49, .getfield 337, 3), (52, .iload_n 1, 1), (53, .saload, 1), (54, .goto 38, 3), (57, .iload_n 2, 1), (58, .iconst 2, 1), (59, .if_icmp .ne 15, 3)] = true := by decide +kernel
theorem dX1_instruction_32 : decode cX1_instruction 32 = .ok (.getfield 334, 3) := zdec_at bX1_instruction_32 0 rfl
theorem dX1_instruction_35 : decode cX1_instruction 35 = .ok (.iload_n 1, 1) := zdec_at bX1_instruction_32 1 rfl
theorem dX1_instruction_36 : decode cX1_instruction 36 = .ok (.baload, 1) := zdec_at bX1_instruction_32 2 rfl
theorem dX1_instruction_37 : decode cX1_instruction 37 = .ok (.goto 55, 3) := zdec_at bX1_instruction_32 3 rfl
theorem dX1_instruction_40 : decode cX1_instruction 40 = .ok (.iload_n 2, 1) := zdec_at bX1_instruction_32 4 rfl
theorem dX1_instruction_41 : decode cX1_instruction 41 = .ok (.iconst 1, 1) := zdec_at bX1_instruction_32 5 rfl
theorem dX1_instruction_42 : decode cX1_instruction 42 = .ok (.if_icmp .ne 15, 3) := zdec_at bX1_instruction_32 6 rfl
theorem dX1_instruction_45 : decode cX1_instruction 45 = .ok (.aload_n 0, 1) := zdec_at bX1_instruction_32 7 rfl
theorem dX1_instruction_46 : decode cX1_instruction 46 = .ok (.getfield 89, 3) := zdec_at bX1_instruction_32 8 rfl
theorem dX1_instruction_49 : decode cX1_instruction 49 = .ok (.getfield 337, 3) := zdec_at bX1_instruction_32 9 rfl
theorem dX1_instruction_52 : decode cX1_instruction 52 = .ok (.iload_n 1, 1) := zdec_at bX1_instruction_32 10 rfl
theorem dX1_instruction_53 : decode cX1_instruction 53 = .ok (.saload, 1) := zdec_at bX1_instruction_32 11 rfl
theorem dX1_instruction_54 : decode cX1_instruction 54 = .ok (.goto 38, 3) := zdec_at bX1_instruction_32 12 rfl
theorem dX1_instruction_57 : decode cX1_instruction 57 = .ok (.iload_n 2, 1) := zdec_at bX1_instruction_32 13 rfl
theorem dX1_instruction_58 : decode cX1_instruction 58 = .ok (.iconst 2, 1) := zdec_at bX1_instruction_32 14 rfl
theorem dX1_instruction_59 : decode cX1_instruction 59 = .ok (.if_icmp .ne 15, 3) := zdec_at bX1_instruction_32 15 rfl
theorem bX1_instruction_62 : zdec cX1_instruction 62 [(62, .aload_n 0, 1), (63, .getfield 89, 3), (66, .getfield 340, 3), (69, .iload_n 1, 1), (70, .iaload, 1), (71, .goto 21, 3), (74, .iload_n 2, 1), (75, .iconst 3, 1), (76, .if_icmp .ne 15, 3), (79, .aload_n 0, 1), (80, .getfield 89, 3), (83, .getfield 343, 3), (86, .iload_n 1, 1), (87, .baload, 1), (88, .goto 4, 3), (91, .iconst (-1), 1)] = true := by decide +kernel
theorem dX1_instruction_62 : decode cX1_instruction 62 = .ok (.aload_n 0, 1) := zdec_at bX1_instruction_62 0 rfl
theorem dX1_instruction_63 : decode cX1_instruction 63 = .ok (.getfield 89, 3) := zdec_at bX1_instruction_62 1 rfl
theorem dX1_instruction_66 : decode cX1_instruction 66 = .ok (.getfield 340, 3) := zdec_at bX1_instruction_62 2 rfl
theorem dX1_instruction_69 : decode cX1_instruction 69 = .ok (.iload_n 1, 1) := zdec_at bX1_instruction_62 3 rfl
theorem dX1_instruction_70 : decode cX1_instruction 70 = .ok (.iaload, 1) := zdec_at bX1_instruction_62 4 rfl
theorem dX1_instruction_71 : decode cX1_instruction 71 = .ok (.goto 21, 3) := zdec_at bX1_instruction_62 5 rfl
theorem dX1_instruction_74 : decode cX1_instruction 74 = .ok (.iload_n 2, 1) := zdec_at bX1_instruction_62 6 rfl
theorem dX1_instruction_75 : decode cX1_instruction 75 = .ok (.iconst 3, 1) := zdec_at bX1_instruction_62 7 rfl
theorem dX1_instruction_76 : decode cX1_instruction 76 = .ok (.if_icmp .ne 15, 3) := zdec_at bX1_instruction_62 8 rfl
theorem dX1_instruction_79 : decode cX1_instruction 79 = .ok (.aload_n 0, 1) := zdec_at bX1_instruction_62 9 rfl
theorem dX1_instruction_80 : decode cX1_instruction 80 = .ok (.getfield 89, 3) := zdec_at bX1_instruction_62 10 rfl
theorem dX1_instruction_83 : decode cX1_instruction 83 = .ok (.getfield 343, 3) := zdec_at bX1_instruction_62 11 rfl
theorem dX1_instruction_86 : decode cX1_instruction 86 = .ok (.iload_n 1, 1) := zdec_at bX1_instruction_62 12 rfl
theorem dX1_instruction_87 : decode cX1_instruction 87 = .ok (.baload, 1) := zdec_at bX1_instruction_62 13 rfl
theorem dX1_instruction_88 : decode cX1_instruction 88 = .ok (.goto 4, 3) := zdec_at bX1_instruction_62 14 rfl
theorem dX1_instruction_91 : decode cX1_instruction 91 = .ok (.iconst (-1), 1) := zdec_at bX1_instruction_62 15 rfl
theorem bX1_instruction_92 : zdec cX1_instruction 92 [(92, .ireturn, 1)] = true := by decide +kernel
theorem dX1_instruction_92 : decode cX1_instruction 92 = .ok (.ireturn, 1) := zdec_at bX1_instruction_92 0 rfl
theorem sX1_instruction_0 {E : zE} {d : Nat} {Q : zO → zM → Prop} (M : zM) (l1 : Int32) (l2 : Int32) (hw : cw M) (k : if (gi M 16 10) = 0 then (Q (.inl (some (vi (-1 : Int32)))) M) else (if l1 < 0 then (Q (.inl (some (vi (-1 : Int32)))) M) else (if l1 < (gi M 29 7) then (if l2 = 0 then (vp_in l1 600 ∧ (Q (.inl (some (vi (gi M 30 (l1).toNatClampNeg)))) M)) else (if l2 = (1 : Int32) then (vp_in l1 600 ∧ (Q (.inl (some (vi (gi M 31 (l1).toNatClampNeg)))) M)) else (if l2 = (2 : Int32) then (vp_in l1 600 ∧ (Q (.inl (some (vi (gi M 34 (l1).toNatClampNeg)))) M)) else (if l2 = (3 : Int32) then (vp_in l1 600 ∧ (Q (.inl (some (vi (gi M 35 (l1).toNatClampNeg)))) M)) else (Q (.inl (some (vi (-1 : Int32)))) M))))) else (Q (.inl (some (vi (-1 : Int32)))) M)))) : Z E YX1_instruction d M [(0, vr (some (16, 0, 0))), (1, vi l1), (2, vi l2)] 0 [] Q := by
  refine z_aload_n dX1_instruction_0 rfl rfl ?_
  refine z_geti dX1_instruction_1 fsX1_270_0 ?_
  refine z_if_eq (tgt := 22) dX1_instruction_4 rfl (fun h_ => ?_) (fun h_ => ?_)
  · have k := zit h_ k
    refine z_iconst (v := -1) dX1_instruction_22 rfl ?_
    exact z_iret dX1_instruction_23 rfl rfl k
  · have k := zif h_ k
    refine z_iload_n dX1_instruction_7 rfl rfl ?_
    refine z_if_lt (tgt := 22) dX1_instruction_8 rfl (fun h_ => ?_) (fun h_ => ?_)
    · have k := zit h_ k
      refine z_iconst (v := -1) dX1_instruction_22 rfl ?_
      exact z_iret dX1_instruction_23 rfl rfl k
    · have k := zif h_ k
      refine z_iload_n dX1_instruction_11 rfl rfl ?_
      refine z_aload_n dX1_instruction_12 rfl rfl ?_
      refine z_getr dX1_instruction_13 fsX1_89_0 (show gr M 16 9 = some (29, 3, 0) from cw_at hw 5 rfl) ?_
      refine z_geti dX1_instruction_16 fsX1_287_3 ?_
      refine z_icmp_lt (tgt := 24) dX1_instruction_19 rfl (fun h_ => ?_) (fun h_ => ?_)
      · have k := zit h_ k
        refine z_iload_n dX1_instruction_24 rfl rfl ?_
        refine z_if_ne (tgt := 40) dX1_instruction_25 rfl (fun h_ => ?_) (fun h_ => ?_)
        · have k := zif h_ k
          refine z_iload_n dX1_instruction_40 rfl rfl ?_
          refine z_iconst (v := 1) dX1_instruction_41 rfl ?_
          refine z_icmp_ne (tgt := 57) dX1_instruction_42 rfl (fun h_ => ?_) (fun h_ => ?_)
          · have k := zif h_ k
            refine z_iload_n dX1_instruction_57 rfl rfl ?_
            refine z_iconst (v := 2) dX1_instruction_58 rfl ?_
            refine z_icmp_ne (tgt := 74) dX1_instruction_59 rfl (fun h_ => ?_) (fun h_ => ?_)
            · have k := zif h_ k
              refine z_iload_n dX1_instruction_74 rfl rfl ?_
              refine z_iconst (v := 3) dX1_instruction_75 rfl ?_
              refine z_icmp_ne (tgt := 91) dX1_instruction_76 rfl (fun h_ => ?_) (fun h_ => ?_)
              · have k := zif h_ k
                refine z_iconst (v := -1) dX1_instruction_91 rfl ?_
                exact z_iret dX1_instruction_92 rfl rfl k
              · have k := zit h_ k
                refine z_aload_n dX1_instruction_79 rfl rfl ?_
                refine z_getr dX1_instruction_80 fsX1_89_0 (show gr M 16 9 = some (29, 3, 0) from cw_at hw 5 rfl) ?_
                refine z_getr dX1_instruction_83 fsX1_343_3 (show gr M 29 5 = some (35, 101, 600) from cw_at hw 55 rfl) ?_
                refine z_iload_n dX1_instruction_86 rfl rfl ?_
                obtain ⟨b_, k⟩ := k
                refine z_bald dX1_instruction_87 b_ ?_
                refine z_goto (tgt := 92) dX1_instruction_88 rfl ?_
                exact z_iret dX1_instruction_92 rfl rfl k
            · have k := zit h_ k
              refine z_aload_n dX1_instruction_62 rfl rfl ?_
              refine z_getr dX1_instruction_63 fsX1_89_0 (show gr M 16 9 = some (29, 3, 0) from cw_at hw 5 rfl) ?_
              refine z_getr dX1_instruction_66 fsX1_340_3 (show gr M 29 4 = some (34, 100, 600) from cw_at hw 54 rfl) ?_
              refine z_iload_n dX1_instruction_69 rfl rfl ?_
              obtain ⟨b_, k⟩ := k
              refine z_iald dX1_instruction_70 b_ ?_
              refine z_goto (tgt := 92) dX1_instruction_71 rfl ?_
              exact z_iret dX1_instruction_92 rfl rfl k
          · have k := zit h_ k
            refine z_aload_n dX1_instruction_45 rfl rfl ?_
            refine z_getr dX1_instruction_46 fsX1_89_0 (show gr M 16 9 = some (29, 3, 0) from cw_at hw 5 rfl) ?_
            refine z_getr dX1_instruction_49 fsX1_337_3 (show gr M 29 1 = some (31, 102, 600) from cw_at hw 51 rfl) ?_
            refine z_iload_n dX1_instruction_52 rfl rfl ?_
            obtain ⟨b_, k⟩ := k
            refine z_sald dX1_instruction_53 b_ ?_
            refine z_goto (tgt := 92) dX1_instruction_54 rfl ?_
            exact z_iret dX1_instruction_92 rfl rfl k
        · have k := zit h_ k
          refine z_aload_n dX1_instruction_28 rfl rfl ?_
          refine z_getr dX1_instruction_29 fsX1_89_0 (show gr M 16 9 = some (29, 3, 0) from cw_at hw 5 rfl) ?_
          refine z_getr dX1_instruction_32 fsX1_334_3 (show gr M 29 0 = some (30, 101, 600) from cw_at hw 50 rfl) ?_
          refine z_iload_n dX1_instruction_35 rfl rfl ?_
          obtain ⟨b_, k⟩ := k
          refine z_bald dX1_instruction_36 b_ ?_
          refine z_goto (tgt := 92) dX1_instruction_37 rfl ?_
          exact z_iret dX1_instruction_92 rfl rfl k
      · have k := zif h_ k
        refine z_iconst (v := -1) dX1_instruction_22 rfl ?_
        exact z_iret dX1_instruction_23 rfl rfl k
