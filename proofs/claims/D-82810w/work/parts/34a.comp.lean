/-! ScriptTypes$Parser.<init>(LScriptTypes;)V -/
theorem bX9_init_0 : zdec cX9_init 0 [(0, .aload_n 0, 1), (1, .invokespecial 3, 3), (4, .aload_n 0, 1), (5, .new 9, 3), (8, .dup, 1), (9, .invokespecial 11, 3), (12, .putfield 12, 3), (15, .aload_n 0, 1), (16, .aload_n 1, 1), (17, .putfield 18, 3), (20, .aload_n 0, 1), (21, .new 22, 3), (24, .dup, 1), (25, .aload_n 1, 1), (26, .invokespecial 24, 3), (29, .putfield 27, 3)] = true := by decide +kernel
theorem dX9_init_0 : decode cX9_init 0 = .ok (.aload_n 0, 1) := zdec_at bX9_init_0 0 rfl
theorem dX9_init_1 : decode cX9_init 1 = .ok (.invokespecial 3, 3) := zdec_at bX9_init_0 1 rfl
theorem dX9_init_4 : decode cX9_init 4 = .ok (.aload_n 0, 1) := zdec_at bX9_init_0 2 rfl
theorem dX9_init_5 : decode cX9_init 5 = .ok (.new 9, 3) := zdec_at bX9_init_0 3 rfl
theorem dX9_init_8 : decode cX9_init 8 = .ok (.dup, 1) := zdec_at bX9_init_0 4 rfl
theorem dX9_init_9 : decode cX9_init 9 = .ok (.invokespecial 11, 3) := zdec_at bX9_init_0 5 rfl
theorem dX9_init_12 : decode cX9_init 12 = .ok (.putfield 12, 3) := zdec_at bX9_init_0 6 rfl
theorem dX9_init_15 : decode cX9_init 15 = .ok (.aload_n 0, 1) := zdec_at bX9_init_0 7 rfl
theorem dX9_init_16 : decode cX9_init 16 = .ok (.aload_n 1, 1) := zdec_at bX9_init_0 8 rfl
theorem dX9_init_17 : decode cX9_init 17 = .ok (.putfield 18, 3) := zdec_at bX9_init_0 9 rfl
theorem dX9_init_20 : decode cX9_init 20 = .ok (.aload_n 0, 1) := zdec_at bX9_init_0 10 rfl
theorem dX9_init_21 : decode cX9_init 21 = .ok (.new 22, 3) := zdec_at bX9_init_0 11 rfl
theorem dX9_init_24 : decode cX9_init 24 = .ok (.dup, 1) := zdec_at bX9_init_0 12 rfl
theorem dX9_init_25 : decode cX9_init 25 = .ok (.aload_n 1, 1) := zdec_at bX9_init_0 13 rfl
theorem dX9_init_26 : decode cX9_init 26 = .ok (.invokespecial 24, 3) := zdec_at bX9_init_0 14 rfl
theorem dX9_init_29 : decode cX9_init 29 = .ok (.putfield 27, 3) := zdec_at bX9_init_0 15 rfl
theorem bX9_init_32 : zdec cX9_init 32 [(32, .return_, 1)] = true := by decide +kernel
theorem dX9_init_32 : decode cX9_init 32 = .ok (.return_, 1) := zdec_at bX9_init_32 0 rfl
theorem sX9_init_0 {E : zE} {d : Nat} {Q : zO → zM → Prop} (M : zM) (a0 : Nat) (r1 : Option zP) (k : Z E YX9_init (d + 1) (zn M 3) [(0, vr (some (a0, 8, 0))), (1, vr r1)] 8 [vr (some ((zsz M), 11, 0)), vr (some (a0, 8, 0))] Q) : Z E YX9_init (d + 1) M [(0, vr (some (a0, 8, 0))), (1, vr r1)] 0 [] Q := by
  refine z_aload_n dX9_init_0 rfl rfl ?_
  refine z_objInit dX9_init_1 oiX9_3 (by omega) (by decide) ?_
  refine z_aload_n dX9_init_4 rfl rfl ?_
  refine z_new dX9_init_5 csX9_9 zff_11 ?_
  exact k
theorem sX9_init_8 {E : zE} {d : Nat} {Q : zO → zM → Prop} (M : zM) (a0 : Nat) (r1 : Option zP) (p0 : Nat) (k : Z E YJ2_init d M (zargs 0 [vr (some (p0, 11, 0))]) 0 [] (zafter E YX9_init (d + 1) [(0, vr (some (a0, 8, 0))), (1, vr r1)] 9 3 [vr (some (p0, 11, 0)), vr (some (a0, 8, 0))] Q)) : Z E YX9_init (d + 1) M [(0, vr (some (a0, 8, 0))), (1, vr r1)] 8 [vr (some (p0, 11, 0)), vr (some (a0, 8, 0))] Q := by
  refine z_dup dX9_init_8 rfl ?_
  exact z_callI (as := []) (st := [vr (some (p0, 11, 0)), vr (some (a0, 8, 0))]) dX9_init_9 isX9_11 (Nat.le_refl _) (Nat.le_of_ble_eq_true rfl) (Nat.le_of_ble_eq_true rfl) rfl k
theorem sX9_init_12 {E : zE} {d : Nat} {Q : zO → zM → Prop} (M : zM) (a0 : Nat) (r1 : Option zP) (p0 : Nat) (k : 16 ≤ a0 ∧ (16 ≤ a0 ∧ (Z E YX9_init (d + 1) (zn (sr (sr M a0 2 (some (p0, 11, 0))) a0 0 r1) 8) [(1, vr r1)] 24 [vr (some ((zsz M), 9, 0)), vr (some (a0, 8, 0))] Q))) : Z E YX9_init (d + 1) M [(0, vr (some (a0, 8, 0))), (1, vr r1)] 12 [vr (some (p0, 11, 0)), vr (some (a0, 8, 0))] Q := by
  obtain ⟨g_, k⟩ := k
  refine z_putr g_ dX9_init_12 (zfwN.f fwX9_12_8 rfl (fun q h => by rw [← Option.some.inj h]; rfl)) rfl ?_
  refine z_aload_n dX9_init_15 rfl rfl ?_
  refine z_aload_n dX9_init_16 rfl rfl ?_
  obtain ⟨g_, k⟩ := k
  refine z_putr g_ dX9_init_17 (zfwN.f fwX9_18_8 rfl (fun q h => by rw [← Option.some.inj h]; rfl)) rfl ?_
  refine z_aload_n dX9_init_20 rfl rfl ?_
  refine z_new dX9_init_21 csX9_22 zff_9 ?_
  refine Z.pick [1] rfl ?_
  exact k
theorem sX9_init_24 {E : zE} {d : Nat} {Q : zO → zM → Prop} (M : zM) (r1 : Option zP) (p0 : Nat) (a0 : Nat) (k : Z E YX10_init d M (zargs 0 [vr (some (p0, 9, 0)), vr r1]) 0 [] (zafter E YX9_init (d + 1) [] 26 3 [vr (some (p0, 9, 0)), vr (some (a0, 8, 0))] Q)) : Z E YX9_init (d + 1) M [(1, vr r1)] 24 [vr (some (p0, 9, 0)), vr (some (a0, 8, 0))] Q := by
  refine z_dup dX9_init_24 rfl ?_
  refine z_aload_n dX9_init_25 rfl rfl ?_
  refine Z.pick [] rfl ?_
  exact z_callI (as := [vr r1]) (st := [vr (some (p0, 9, 0)), vr (some (a0, 8, 0))]) dX9_init_26 isX9_24 (Nat.le_refl _) (Nat.le_of_ble_eq_true rfl) (Nat.le_of_ble_eq_true rfl) rfl k
theorem sX9_init_29 {E : zE} {d : Nat} {Q : zO → zM → Prop} (M : zM) (p0 : Nat) (a0 : Nat) (k : 16 ≤ a0 ∧ (Q (.inl none) (sr M a0 1 (some (p0, 9, 0))))) : Z E YX9_init (d + 1) M [] 29 [vr (some (p0, 9, 0)), vr (some (a0, 8, 0))] Q := by
  obtain ⟨g_, k⟩ := k
  refine z_putr g_ dX9_init_29 (zfwN.f fwX9_27_8 rfl (fun q h => by rw [← Option.some.inj h]; rfl)) rfl ?_
  exact z_vret dX9_init_32 rfl k
/-! ScriptTypes$Parser.script()Ljava/util/ArrayList; -/
theorem bX9_script_0 : zdec cX9_script 0 [(0, .aload_n 0, 1), (1, .new 39, 3), (4, .dup, 1), (5, .iconst 0, 1), (6, .aconst_null, 1), (7, .invokespecial 41, 3), (10, .putfield 44, 3), (13, .aload_n 0, 1), (14, .getfield 12, 3), (17, .aload_n 0, 1), (18, .getfield 44, 3), (21, .invokevirtual 48, 3), (24, .pop, 1), (25, .aload_n 0, 1), (26, .getfield 27, 3), (29, .invokevirtual 52, 3)] = true := by decide +kernel
theorem dX9_script_0 : decode cX9_script 0 = .ok (.aload_n 0, 1) := zdec_at bX9_script_0 0 rfl
theorem dX9_script_1 : decode cX9_script 1 = .ok (.new 39, 3) := zdec_at bX9_script_0 1 rfl
theorem dX9_script_4 : decode cX9_script 4 = .ok (.dup, 1) := zdec_at bX9_script_0 2 rfl
theorem dX9_script_5 : decode cX9_script 5 = .ok (.iconst 0, 1) := zdec_at bX9_script_0 3 rfl
theorem dX9_script_6 : decode cX9_script 6 = .ok (.aconst_null, 1) := zdec_at bX9_script_0 4 rfl
theorem dX9_script_7 : decode cX9_script 7 = .ok (.invokespecial 41, 3) := zdec_at bX9_script_0 5 rfl
theorem dX9_script_10 : decode cX9_script 10 = .ok (.putfield 44, 3) := zdec_at bX9_script_0 6 rfl
theorem dX9_script_13 : decode cX9_script 13 = .ok (.aload_n 0, 1) := zdec_at bX9_script_0 7 rfl
theorem dX9_script_14 : decode cX9_script 14 = .ok (.getfield 12, 3) := zdec_at bX9_script_0 8 rfl
theorem dX9_script_17 : decode cX9_script 17 = .ok (.aload_n 0, 1) := zdec_at bX9_script_0 9 rfl
theorem dX9_script_18 : decode cX9_script 18 = .ok (.getfield 44, 3) := zdec_at bX9_script_0 10 rfl
theorem dX9_script_21 : decode cX9_script 21 = .ok (.invokevirtual 48, 3) := zdec_at bX9_script_0 11 rfl
theorem dX9_script_24 : decode cX9_script 24 = .ok (.pop, 1) := zdec_at bX9_script_0 12 rfl
theorem dX9_script_25 : decode cX9_script 25 = .ok (.aload_n 0, 1) := zdec_at bX9_script_0 13 rfl
theorem dX9_script_26 : decode cX9_script 26 = .ok (.getfield 27, 3) := zdec_at bX9_script_0 14 rfl
theorem dX9_script_29 : decode cX9_script 29 = .ok (.invokevirtual 52, 3) := zdec_at bX9_script_0 15 rfl
theorem bX9_script_32 : zdec cX9_script 32 [(32, .aload_n 0, 1), (33, .getfield 27, 3), (36, .getfield 55, 3), (39, .ifCond .eq 10, 3), (42, .aload_n 0, 1), (43, .invokevirtual 58, 3), (46, .goto (-14), 3), (49, .aload_n 0, 1), (50, .getfield 12, 3), (53, .areturn, 1)] = true := by decide +kernel
theorem dX9_script_32 : decode cX9_script 32 = .ok (.aload_n 0, 1) := zdec_at bX9_script_32 0 rfl
theorem dX9_script_33 : decode cX9_script 33 = .ok (.getfield 27, 3) := zdec_at bX9_script_32 1 rfl
theorem dX9_script_36 : decode cX9_script 36 = .ok (.getfield 55, 3) := zdec_at bX9_script_32 2 rfl
theorem dX9_script_39 : decode cX9_script 39 = .ok (.ifCond .eq 10, 3) := zdec_at bX9_script_32 3 rfl
theorem dX9_script_42 : decode cX9_script 42 = .ok (.aload_n 0, 1) := zdec_at bX9_script_32 4 rfl
theorem dX9_script_43 : decode cX9_script 43 = .ok (.invokevirtual 58, 3) := zdec_at bX9_script_32 5 rfl
theorem dX9_script_46 : decode cX9_script 46 = .ok (.goto (-14), 3) := zdec_at bX9_script_32 6 rfl
theorem dX9_script_49 : decode cX9_script 49 = .ok (.aload_n 0, 1) := zdec_at bX9_script_32 7 rfl
theorem dX9_script_50 : decode cX9_script 50 = .ok (.getfield 12, 3) := zdec_at bX9_script_32 8 rfl
theorem dX9_script_53 : decode cX9_script 53 = .ok (.areturn, 1) := zdec_at bX9_script_32 9 rfl
theorem sX9_script_0 {E : zE} {d : Nat} {Q : zO → zM → Prop} (M : zM) (a0 : Nat) (k : Z E YX9_script (d + 1) (zn M 10) [(0, vr (some (a0, 8, 0)))] 4 [vr (some ((zsz M), 10, 0)), vr (some (a0, 8, 0))] Q) : Z E YX9_script (d + 1) M [(0, vr (some (a0, 8, 0)))] 0 [] Q := by
  refine z_aload_n dX9_script_0 rfl rfl ?_
  refine z_new dX9_script_1 csX9_39 zff_10 ?_
  exact k
theorem sX9_script_4 {E : zE} {d : Nat} {Q : zO → zM → Prop} (M : zM) (a0 : Nat) (p0 : Nat) (k : Z E YX11_init d M (zargs 0 [vr (some (p0, 10, 0)), vi (0 : Int32), vr none]) 0 [] (zafter E YX9_script (d + 1) [(0, vr (some (a0, 8, 0)))] 7 3 [vr (some (p0, 10, 0)), vr (some (a0, 8, 0))] Q)) : Z E YX9_script (d + 1) M [(0, vr (some (a0, 8, 0)))] 4 [vr (some (p0, 10, 0)), vr (some (a0, 8, 0))] Q := by
  refine z_dup dX9_script_4 rfl ?_
  refine z_iconst (v := 0) dX9_script_5 rfl ?_
  refine z_null dX9_script_6 ?_
  exact z_callI (as := [vi (0 : Int32), vr none]) (st := [vr (some (p0, 10, 0)), vr (some (a0, 8, 0))]) dX9_script_7 isX9_41 (Nat.le_refl _) (Nat.le_of_ble_eq_true rfl) (Nat.le_of_ble_eq_true rfl) rfl k
theorem sX9_script_10 {E : zE} {d : Nat} {Q : zO → zM → Prop} (M : zM) (a0 : Nat) (p0 : Nat) (k : 16 ≤ a0 ∧ (∃ b1 : Nat, (gr (sr M a0 3 (some (p0, 10, 0))) a0 2) = some (b1, 11, 0) ∧ (Z E YJ2_add d (sr M a0 3 (some (p0, 10, 0))) (zargs 0 [vr (some (b1, 11, 0)), vr (gr (sr M a0 3 (some (p0, 10, 0))) a0 3)]) 0 [] (zafter E YX9_script (d + 1) [(0, vr (some (a0, 8, 0)))] 21 3 [] Q)))) : Z E YX9_script (d + 1) M [(0, vr (some (a0, 8, 0)))] 10 [vr (some (p0, 10, 0)), vr (some (a0, 8, 0))] Q := by
  obtain ⟨g_, k⟩ := k
  refine z_putr g_ dX9_script_10 (zfwN.w fwX9_44_8) rfl ?_
  refine z_aload_n dX9_script_13 rfl rfl ?_
  refine z_getr (r := (gr (sr M a0 3 (some (p0, 10, 0))) a0 2)) dX9_script_14 fsX9_12_8 rfl ?_
  refine z_aload_n dX9_script_17 rfl rfl ?_
  refine z_getr (r := (gr (sr M a0 3 (some (p0, 10, 0))) a0 3)) dX9_script_18 fsX9_44_8 rfl ?_
  obtain ⟨b1, e1_, k⟩ := k
  refine Z.eqs (lv' := [(0, vr (some (a0, 8, 0)))]) (st' := [vr (gr (sr M a0 3 (some (p0, 10, 0))) a0 3), vr (some (b1, 11, 0))]) rfl (by rw [e1_] <;> rfl) ?_
  exact z_callV (as := [vr (gr (sr M a0 3 (some (p0, 10, 0))) a0 3)]) (st := []) dX9_script_21 vsX9_48_11 (Nat.le_refl _) (Nat.le_of_ble_eq_true rfl) (Nat.le_of_ble_eq_true rfl) rfl k
theorem sX9_script_24 {E : zE} {d : Nat} {Q : zO → zM → Prop} (M : zM) (a0 : Nat) (s0 : Int32) (k : ∃ b1 : Nat, (gr M a0 1) = some (b1, 9, 0) ∧ (Z E YX10_next d M (zargs 0 [vr (some (b1, 9, 0))]) 0 [] (zafter E YX9_script (d + 1) [(0, vr (some (a0, 8, 0)))] 29 3 [] Q))) : Z E YX9_script (d + 1) M [(0, vr (some (a0, 8, 0)))] 24 [vi s0] Q := by
  refine z_pop dX9_script_24 rfl ?_
  refine z_aload_n dX9_script_25 rfl rfl ?_
  refine z_getr (r := (gr M a0 1)) dX9_script_26 fsX9_27_8 rfl ?_
  obtain ⟨b1, e1_, k⟩ := k
  refine Z.eqs (lv' := [(0, vr (some (a0, 8, 0)))]) (st' := [vr (some (b1, 9, 0))]) rfl (by rw [e1_] <;> rfl) ?_
  exact z_callV (as := []) (st := []) dX9_script_29 vsX9_52_9 (Nat.le_refl _) (Nat.le_of_ble_eq_true rfl) (Nat.le_of_ble_eq_true rfl) rfl k
theorem sX9_script_32 {E : zE} {d : Nat} {Q : zO → zM → Prop} (M : zM) (a0 : Nat) (k : ∃ b1 : Nat, (gr M a0 1) = some (b1, 9, 0) ∧ (if (gi M b1 3) = 0 then (Q (.inl (some (vr (gr M a0 2)))) M) else (Z E YX9_part d M (zargs 0 [vr (some (a0, 8, 0))]) 0 [] (zafter E YX9_script (d + 1) [(0, vr (some (a0, 8, 0)))] 43 3 [] Q)))) : Z E YX9_script (d + 1) M [(0, vr (some (a0, 8, 0)))] 32 [] Q := by
  refine z_aload_n dX9_script_32 rfl rfl ?_
  refine z_getr (r := (gr M a0 1)) dX9_script_33 fsX9_27_8 rfl ?_
  obtain ⟨b1, e1_, k⟩ := k
  refine Z.eqs (lv' := [(0, vr (some (a0, 8, 0)))]) (st' := [vr (some (b1, 9, 0))]) rfl (by rw [e1_] <;> rfl) ?_
  refine z_geti dX9_script_36 fsX9_55_9 ?_
  refine z_if_eq (tgt := 49) dX9_script_39 rfl (fun h_ => ?_) (fun h_ => ?_)
  · have k := zit h_ k
    refine z_aload_n dX9_script_49 rfl rfl ?_
    refine z_getr (r := (gr M a0 2)) dX9_script_50 fsX9_12_8 rfl ?_
    exact z_aret dX9_script_53 rfl rfl k
  · have k := zif h_ k
    refine z_aload_n dX9_script_42 rfl rfl ?_
    exact z_callV (as := []) (st := []) dX9_script_43 vsX9_58_8 (Nat.le_refl _) (Nat.le_of_ble_eq_true rfl) (Nat.le_of_ble_eq_true rfl) rfl k
theorem sX9_script_46 {E : zE} {d : Nat} {Q : zO → zM → Prop} (M : zM) (a0 : Nat) (k : Z E YX9_script (d + 1) M [(0, vr (some (a0, 8, 0)))] 32 [] Q) : Z E YX9_script (d + 1) M [(0, vr (some (a0, 8, 0)))] 46 [] Q := by
  refine z_goto (tgt := 32) dX9_script_46 rfl ?_
  exact k
/-! ScriptTypes$Parser.part()V -/
theorem bX9_part_0 : zdec cX9_part 0 [(0, .aload_n 0, 1), (1, .getfield 27, 3), (4, .bipush 11, 2), (6, .invokevirtual 61, 3), (9, .ifCond .ne 19, 3), (12, .aload_n 0, 1), (13, .getfield 44, 3), (16, .getfield 65, 3), (19, .aload_n 0, 1), (20, .invokevirtual 68, 3), (23, .invokevirtual 48, 3), (26, .pop, 1), (27, .return_, 1), (28, .aload_n 0, 1), (29, .invokevirtual 72, 3), (32, .aload_n 0, 1)] = true := by decide +kernel
theorem dX9_part_0 : decode cX9_part 0 = .ok (.aload_n 0, 1) := zdec_at bX9_part_0 0 rfl
theorem dX9_part_1 : decode cX9_part 1 = .ok (.getfield 27, 3) := zdec_at bX9_part_0 1 rfl
theorem dX9_part_4 : decode cX9_part 4 = .ok (.bipush 11, 2) := zdec_at bX9_part_0 2 rfl
theorem dX9_part_6 : decode cX9_part 6 = .ok (.invokevirtual 61, 3) := zdec_at bX9_part_0 3 rfl
theorem dX9_part_9 : decode cX9_part 9 = .ok (.ifCond .ne 19, 3) := zdec_at bX9_part_0 4 rfl
theorem dX9_part_12 : decode cX9_part 12 = .ok (.aload_n 0, 1) := zdec_at bX9_part_0 5 rfl
theorem dX9_part_13 : decode cX9_part 13 = .ok (.getfield 44, 3) := zdec_at bX9_part_0 6 rfl
theorem dX9_part_16 : decode cX9_part 16 = .ok (.getfield 65, 3) := zdec_at bX9_part_0 7 rfl
theorem dX9_part_19 : decode cX9_part 19 = .ok (.aload_n 0, 1) := zdec_at bX9_part_0 8 rfl
theorem dX9_part_20 : decode cX9_part 20 = .ok (.invokevirtual 68, 3) := zdec_at bX9_part_0 9 rfl
theorem dX9_part_23 : decode cX9_part 23 = .ok (.invokevirtual 48, 3) := zdec_at bX9_part_0 10 rfl
theorem dX9_part_26 : decode cX9_part 26 = .ok (.pop, 1) := zdec_at bX9_part_0 11 rfl
theorem dX9_part_27 : decode cX9_part 27 = .ok (.return_, 1) := zdec_at bX9_part_0 12 rfl
theorem dX9_part_28 : decode cX9_part 28 = .ok (.aload_n 0, 1) := zdec_at bX9_part_0 13 rfl
theorem dX9_part_29 : decode cX9_part 29 = .ok (.invokevirtual 72, 3) := zdec_at bX9_part_0 14 rfl
theorem dX9_part_32 : decode cX9_part 32 = .ok (.aload_n 0, 1) := zdec_at bX9_part_0 15 rfl
theorem bX9_part_33 : zdec cX9_part 33 [(33, .getfield 27, 3), (36, .invokevirtual 52, 3), (39, .aload_n 0, 1), (40, .invokevirtual 75, 3), (43, .astore_n 1, 1), (44, .aload_n 1, 1), (45, .aload_n 0, 1), (46, .getfield 27, 3), (49, .invokevirtual 79, 3), (52, .putfield 83, 3), (55, .aload_n 0, 1), (56, .getfield 44, 3), (59, .getfield 86, 3), (62, .ifnull 14, 3), (65, .aload_n 0, 1), (66, .getfield 44, 3)] = true := by decide +kernel
theorem dX9_part_33 : decode cX9_part 33 = .ok (.getfield 27, 3) := zdec_at bX9_part_33 0 rfl
theorem dX9_part_36 : decode cX9_part 36 = .ok (.invokevirtual 52, 3) := zdec_at bX9_part_33 1 rfl
theorem dX9_part_39 : decode cX9_part 39 = .ok (.aload_n 0, 1) := zdec_at bX9_part_33 2 rfl
theorem dX9_part_40 : decode cX9_part 40 = .ok (.invokevirtual 75, 3) := zdec_at bX9_part_33 3 rfl
theorem dX9_part_43 : decode cX9_part 43 = .ok (.astore_n 1, 1) := zdec_at bX9_part_33 4 rfl
theorem dX9_part_44 : decode cX9_part 44 = .ok (.aload_n 1, 1) := zdec_at bX9_part_33 5 rfl
theorem dX9_part_45 : decode cX9_part 45 = .ok (.aload_n 0, 1) := zdec_at bX9_part_33 6 rfl
theorem dX9_part_46 : decode cX9_part 46 = .ok (.getfield 27, 3) := zdec_at bX9_part_33 7 rfl
theorem dX9_part_49 : decode cX9_part 49 = .ok (.invokevirtual 79, 3) := zdec_at bX9_part_33 8 rfl
theorem dX9_part_52 : decode cX9_part 52 = .ok (.putfield 83, 3) := zdec_at bX9_part_33 9 rfl
theorem dX9_part_55 : decode cX9_part 55 = .ok (.aload_n 0, 1) := zdec_at bX9_part_33 10 rfl
theorem dX9_part_56 : decode cX9_part 56 = .ok (.getfield 44, 3) := zdec_at bX9_part_33 11 rfl
theorem dX9_part_59 : decode cX9_part 59 = .ok (.getfield 86, 3) := zdec_at bX9_part_33 12 rfl
theorem dX9_part_62 : decode cX9_part 62 = .ok (.ifnull 14, 3) := zdec_at bX9_part_33 13 rfl
theorem dX9_part_65 : decode cX9_part 65 = .ok (.aload_n 0, 1) := zdec_at bX9_part_33 14 rfl
theorem dX9_part_66 : decode cX9_part 66 = .ok (.getfield 44, 3) := zdec_at bX9_part_33 15 rfl
theorem bX9_part_69 : zdec cX9_part 69 [(69, .aload_n 1, 1), (70, .getfield 83, 3), (73, .invokevirtual 89, 3), (76, .aload_n 0, 1), (77, .getfield 44, 3), (80, .getfield 92, 3), (83, .aload_n 1, 1), (84, .invokevirtual 48, 3), (87, .pop, 1), (88, .aload_n 0, 1), (89, .aload_n 1, 1), (90, .invokevirtual 95, 3), (93, .aload_n 0, 1), (94, .dup, 1), (95, .getfield 31, 3), (98, .iconst 1, 1)] = true := by decide +kernel
theorem dX9_part_69 : decode cX9_part 69 = .ok (.aload_n 1, 1) := zdec_at bX9_part_69 0 rfl
theorem dX9_part_70 : decode cX9_part 70 = .ok (.getfield 83, 3) := zdec_at bX9_part_69 1 rfl
theorem dX9_part_73 : decode cX9_part 73 = .ok (.invokevirtual 89, 3) := zdec_at bX9_part_69 2 rfl
theorem dX9_part_76 : decode cX9_part 76 = .ok (.aload_n 0, 1) := zdec_at bX9_part_69 3 rfl
theorem dX9_part_77 : decode cX9_part 77 = .ok (.getfield 44, 3) := zdec_at bX9_part_69 4 rfl
theorem dX9_part_80 : decode cX9_part 80 = .ok (.getfield 92, 3) := zdec_at bX9_part_69 5 rfl
theorem dX9_part_83 : decode cX9_part 83 = .ok (.aload_n 1, 1) := zdec_at bX9_part_69 6 rfl
theorem dX9_part_84 : decode cX9_part 84 = .ok (.invokevirtual 48, 3) := zdec_at bX9_part_69 7 rfl
theorem dX9_part_87 : decode cX9_part 87 = .ok (.pop, 1) := zdec_at bX9_part_69 8 rfl
theorem dX9_part_88 : decode cX9_part 88 = .ok (.aload_n 0, 1) := zdec_at bX9_part_69 9 rfl
theorem dX9_part_89 : decode cX9_part 89 = .ok (.aload_n 1, 1) := zdec_at bX9_part_69 10 rfl
theorem dX9_part_90 : decode cX9_part 90 = .ok (.invokevirtual 95, 3) := zdec_at bX9_part_69 11 rfl
theorem dX9_part_93 : decode cX9_part 93 = .ok (.aload_n 0, 1) := zdec_at bX9_part_69 12 rfl
theorem dX9_part_94 : decode cX9_part 94 = .ok (.dup, 1) := zdec_at bX9_part_69 13 rfl
theorem dX9_part_95 : decode cX9_part 95 = .ok (.getfield 31, 3) := zdec_at bX9_part_69 14 rfl
theorem dX9_part_98 : decode cX9_part 98 = .ok (.iconst 1, 1) := zdec_at bX9_part_69 15 rfl
theorem bX9_part_99 : zdec cX9_part 99 [(99, .isub, 1), (100, .putfield 31, 3), (103, .return_, 1)] = true := by decide +kernel
theorem dX9_part_99 : decode cX9_part 99 = .ok (.isub, 1) := zdec_at bX9_part_99 0 rfl
theorem dX9_part_100 : decode cX9_part 100 = .ok (.putfield 31, 3) := zdec_at bX9_part_99 1 rfl
theorem dX9_part_103 : decode cX9_part 103 = .ok (.return_, 1) := zdec_at bX9_part_99 2 rfl
theorem sX9_part_0 {E : zE} {d : Nat} {Q : zO → zM → Prop} (M : zM) (a0 : Nat) (k : ∃ b1 : Nat, (gr M a0 1) = some (b1, 9, 0) ∧ (Z E YX10_isWord d M (zargs 0 [vr (some (b1, 9, 0)), vi (11 : Int32)]) 0 [] (zafter E YX9_part (d + 1) [(0, vr (some (a0, 8, 0)))] 6 3 [] Q))) : Z E YX9_part (d + 1) M [(0, vr (some (a0, 8, 0)))] 0 [] Q := by
  refine z_aload_n dX9_part_0 rfl rfl ?_
  refine z_getr (r := (gr M a0 1)) dX9_part_1 fsX9_27_8 rfl ?_
  refine z_bipush (v := 11) dX9_part_4 rfl ?_
  obtain ⟨b1, e1_, k⟩ := k
  refine Z.eqs (lv' := [(0, vr (some (a0, 8, 0)))]) (st' := [vi (11 : Int32), vr (some (b1, 9, 0))]) rfl (by rw [e1_] <;> rfl) ?_
  exact z_callV (as := [vi (11 : Int32)]) (st := []) dX9_part_6 vsX9_61_9 (Nat.le_refl _) (Nat.le_of_ble_eq_true rfl) (Nat.le_of_ble_eq_true rfl) rfl k
theorem sX9_part_9 {E : zE} {d : Nat} {Q : zO → zM → Prop} (M : zM) (a0 : Nat) (s0 : Int32) (k : if s0 = 0 then (∃ b1 : Nat, (gr M a0 3) = some (b1, 10, 0) ∧ (Z E YX9_statement d M (zargs 0 [vr (some (a0, 8, 0))]) 0 [] (zafter E YX9_part (d + 1) [] 20 3 [vr (gr M b1 2)] Q))) else (Z E YX9_opens d M (zargs 0 [vr (some (a0, 8, 0))]) 0 [] (zafter E YX9_part (d + 1) [(0, vr (some (a0, 8, 0)))] 29 3 [] Q))) : Z E YX9_part (d + 1) M [(0, vr (some (a0, 8, 0)))] 9 [vi s0] Q := by
  refine z_if_ne (tgt := 28) dX9_part_9 rfl (fun h_ => ?_) (fun h_ => ?_)
  · have k := zif h_ k
    refine z_aload_n dX9_part_28 rfl rfl ?_
    exact z_callV (as := []) (st := []) dX9_part_29 vsX9_72_8 (Nat.le_refl _) (Nat.le_of_ble_eq_true rfl) (Nat.le_of_ble_eq_true rfl) rfl k
  · have k := zit h_ k
    refine z_aload_n dX9_part_12 rfl rfl ?_
    refine z_getr (r := (gr M a0 3)) dX9_part_13 fsX9_44_8 rfl ?_
    obtain ⟨b1, e1_, k⟩ := k
    refine Z.eqs (lv' := [(0, vr (some (a0, 8, 0)))]) (st' := [vr (some (b1, 10, 0))]) rfl (by rw [e1_] <;> rfl) ?_
    refine z_getr (r := (gr M b1 2)) dX9_part_16 fsX9_65_10 rfl ?_
    refine z_aload_n dX9_part_19 rfl rfl ?_
    refine Z.pick [] rfl ?_
    exact z_callV (as := []) (st := [vr (gr M b1 2)]) dX9_part_20 vsX9_68_8 (Nat.le_refl _) (Nat.le_of_ble_eq_true rfl) (Nat.le_of_ble_eq_true rfl) rfl k
theorem sX9_part_23 {E : zE} {d : Nat} {Q : zO → zM → Prop} (M : zM) (u0 : Option zP) (u1 : Option zP) (k : ∃ b1 : Nat, u1 = some (b1, 11, 0) ∧ (Z E YJ2_add d M (zargs 0 [vr (some (b1, 11, 0)), vr u0]) 0 [] (zafter E YX9_part (d + 1) [] 23 3 [] Q))) : Z E YX9_part (d + 1) M [] 23 [vr u0, vr u1] Q := by
  obtain ⟨b1, e1_, k⟩ := k
  refine Z.eqs (lv' := []) (st' := [vr u0, vr (some (b1, 11, 0))]) rfl (by rw [e1_] <;> rfl) ?_
  exact z_callV (as := [vr u0]) (st := []) dX9_part_23 vsX9_48_11 (Nat.le_refl _) (Nat.le_of_ble_eq_true rfl) (Nat.le_of_ble_eq_true rfl) rfl k
theorem sX9_part_26 {E : zE} {d : Nat} {Q : zO → zM → Prop} (M : zM) (s0 : Int32) (k : Q (.inl none) M) : Z E YX9_part (d + 1) M [] 26 [vi s0] Q := by
  refine z_pop dX9_part_26 rfl ?_
  exact z_vret dX9_part_27 rfl k
theorem sX9_part_32 {E : zE} {d : Nat} {Q : zO → zM → Prop} (M : zM) (a0 : Nat) (k : ∃ b1 : Nat, (gr M a0 1) = some (b1, 9, 0) ∧ (Z E YX10_next d M (zargs 0 [vr (some (b1, 9, 0))]) 0 [] (zafter E YX9_part (d + 1) [(0, vr (some (a0, 8, 0)))] 36 3 [] Q))) : Z E YX9_part (d + 1) M [(0, vr (some (a0, 8, 0)))] 32 [] Q := by
  refine z_aload_n dX9_part_32 rfl rfl ?_
  refine z_getr (r := (gr M a0 1)) dX9_part_33 fsX9_27_8 rfl ?_
  obtain ⟨b1, e1_, k⟩ := k
  refine Z.eqs (lv' := [(0, vr (some (a0, 8, 0)))]) (st' := [vr (some (b1, 9, 0))]) rfl (by rw [e1_] <;> rfl) ?_
  exact z_callV (as := []) (st := []) dX9_part_36 vsX9_52_9 (Nat.le_refl _) (Nat.le_of_ble_eq_true rfl) (Nat.le_of_ble_eq_true rfl) rfl k
theorem sX9_part_39 {E : zE} {d : Nat} {Q : zO → zM → Prop} (M : zM) (a0 : Nat) (k : Z E YX9_begun d M (zargs 0 [vr (some (a0, 8, 0))]) 0 [] (zafter E YX9_part (d + 1) [(0, vr (some (a0, 8, 0)))] 40 3 [] Q)) : Z E YX9_part (d + 1) M [(0, vr (some (a0, 8, 0)))] 39 [] Q := by
  refine z_aload_n dX9_part_39 rfl rfl ?_
  exact z_callV (as := []) (st := []) dX9_part_40 vsX9_75_8 (Nat.le_refl _) (Nat.le_of_ble_eq_true rfl) (Nat.le_of_ble_eq_true rfl) rfl k
theorem sX9_part_43 {E : zE} {d : Nat} {Q : zO → zM → Prop} (M : zM) (a0 : Nat) (u0 : Option zP) (k : ∃ b1 : Nat, (gr M a0 1) = some (b1, 9, 0) ∧ (Z E YX10_needName d M (zargs 0 [vr (some (b1, 9, 0))]) 0 [] (zafter E YX9_part (d + 1) [(0, vr (some (a0, 8, 0))), (1, vr u0)] 49 3 [vr u0] Q))) : Z E YX9_part (d + 1) M [(0, vr (some (a0, 8, 0)))] 43 [vr u0] Q := by
  refine z_ast_n dX9_part_43 rfl (by decide) (lv' := [(0, vr (some (a0, 8, 0))), (1, vr u0)]) rfl ?_
  refine z_aload_n dX9_part_44 rfl rfl ?_
  refine z_aload_n dX9_part_45 rfl rfl ?_
  refine z_getr (r := (gr M a0 1)) dX9_part_46 fsX9_27_8 rfl ?_
  obtain ⟨b1, e1_, k⟩ := k
  refine Z.eqs (lv' := [(0, vr (some (a0, 8, 0))), (1, vr u0)]) (st' := [vr (some (b1, 9, 0)), vr u0]) rfl (by rw [e1_] <;> rfl) ?_
  exact z_callV (as := []) (st := [vr u0]) dX9_part_49 vsX9_79_9 (Nat.le_refl _) (Nat.le_of_ble_eq_true rfl) (Nat.le_of_ble_eq_true rfl) rfl k
theorem sX9_part_52 {E : zE} {d : Nat} {Q : zO → zM → Prop} (M : zM) (a0 : Nat) (r1 : Option zP) (s0 : Int32) (u1 : Option zP) (k : ∃ b1 : Nat, u1 = some (b1, 10, 0) ∧ (16 ≤ b1 ∧ (∃ b2 : Nat, (gr M a0 3) = some (b2, 10, 0) ∧ (if (gr M b2 1) = none then (Z E YX9_part (d + 1) (si M b1 7 s0) [(0, vr (some (a0, 8, 0))), (1, vr r1)] 76 [] Q) else (∃ b3 : Nat, r1 = some (b3, 10, 0) ∧ (∃ b4 : Nat, (gr M a0 3) = some (b4, 10, 0) ∧ (Z E YX11_add d (si M b1 7 s0) (zargs 0 [vr (some (b4, 10, 0)), vi (gi (si M b1 7 s0) b3 7)]) 0 [] (zafter E YX9_part (d + 1) [(0, vr (some (a0, 8, 0))), (1, vr (some (b3, 10, 0)))] 73 3 [] Q)))))))) : Z E YX9_part (d + 1) M [(0, vr (some (a0, 8, 0))), (1, vr r1)] 52 [vi s0, vr u1] Q := by
  obtain ⟨b1, e1_, k⟩ := k
  refine Z.eqs (lv' := [(0, vr (some (a0, 8, 0))), (1, vr r1)]) (st' := [vi s0, vr (some (b1, 10, 0))]) rfl (by rw [e1_] <;> rfl) ?_
  obtain ⟨g_, k⟩ := k
  refine z_puti g_ dX9_part_52 (zfwN.w fwX9_83_10) rfl ⟨rfl, rfl⟩ ?_
  refine z_aload_n dX9_part_55 rfl rfl ?_
  refine z_getr (r := (gr M a0 3)) dX9_part_56 fsX9_44_8 rfl ?_
  obtain ⟨b2, e2_, k⟩ := k
  refine Z.eqs (lv' := [(0, vr (some (a0, 8, 0))), (1, vr r1)]) (st' := [vr (some (b2, 10, 0))]) rfl (by rw [e2_] <;> rfl) ?_
  refine z_getr (r := (gr M b2 1)) dX9_part_59 fsX9_86_10 rfl ?_
  refine z_ifnull (tgt := 76) dX9_part_62 rfl (fun h_ => ?_) (fun h_ => ?_)
  · have k := zit h_ k
    exact k
  · have k := zif h_ k
    refine z_aload_n dX9_part_65 rfl rfl ?_
    refine z_getr (r := (gr M a0 3)) dX9_part_66 fsX9_44_8 rfl ?_
    refine z_aload_n dX9_part_69 rfl rfl ?_
    obtain ⟨b3, e3_, k⟩ := k
    refine Z.eqs (lv' := [(0, vr (some (a0, 8, 0))), (1, vr (some (b3, 10, 0)))]) (st' := [vr (some (b3, 10, 0)), vr (gr M a0 3)]) (by rw [e3_] <;> rfl) (by rw [e3_] <;> rfl) ?_
    refine z_geti dX9_part_70 fsX9_83_10 ?_
    obtain ⟨b4, e4_, k⟩ := k
    refine Z.eqs (lv' := [(0, vr (some (a0, 8, 0))), (1, vr (some (b3, 10, 0)))]) (st' := [vi (gi (si M b1 7 s0) b3 7), vr (some (b4, 10, 0))]) rfl (by rw [e4_] <;> rfl) ?_
    exact z_callV (as := [vi (gi (si M b1 7 s0) b3 7)]) (st := []) dX9_part_73 vsX9_89_10 (Nat.le_refl _) (Nat.le_of_ble_eq_true rfl) (Nat.le_of_ble_eq_true rfl) rfl k
theorem sX9_part_76 {E : zE} {d : Nat} {Q : zO → zM → Prop} (M : zM) (a0 : Nat) (r1 : Option zP) (k : ∃ b1 : Nat, (gr M a0 3) = some (b1, 10, 0) ∧ (∃ b2 : Nat, (gr M b1 3) = some (b2, 11, 0) ∧ (Z E YJ2_add d M (zargs 0 [vr (some (b2, 11, 0)), vr r1]) 0 [] (zafter E YX9_part (d + 1) [(0, vr (some (a0, 8, 0))), (1, vr r1)] 84 3 [] Q)))) : Z E YX9_part (d + 1) M [(0, vr (some (a0, 8, 0))), (1, vr r1)] 76 [] Q := by
  refine z_aload_n dX9_part_76 rfl rfl ?_
  refine z_getr (r := (gr M a0 3)) dX9_part_77 fsX9_44_8 rfl ?_
  obtain ⟨b1, e1_, k⟩ := k
  refine Z.eqs (lv' := [(0, vr (some (a0, 8, 0))), (1, vr r1)]) (st' := [vr (some (b1, 10, 0))]) rfl (by rw [e1_] <;> rfl) ?_
  refine z_getr (r := (gr M b1 3)) dX9_part_80 fsX9_92_10 rfl ?_
  refine z_aload_n dX9_part_83 rfl rfl ?_
  obtain ⟨b2, e2_, k⟩ := k
  refine Z.eqs (lv' := [(0, vr (some (a0, 8, 0))), (1, vr r1)]) (st' := [vr r1, vr (some (b2, 11, 0))]) rfl (by rw [e2_] <;> rfl) ?_
  exact z_callV (as := [vr r1]) (st := []) dX9_part_84 vsX9_48_11 (Nat.le_refl _) (Nat.le_of_ble_eq_true rfl) (Nat.le_of_ble_eq_true rfl) rfl k
theorem sX9_part_87 {E : zE} {d : Nat} {Q : zO → zM → Prop} (M : zM) (a0 : Nat) (r1 : Option zP) (s0 : Int32) (k : Z E YX9_inside d M (zargs 0 [vr (some (a0, 8, 0)), vr r1]) 0 [] (zafter E YX9_part (d + 1) [(0, vr (some (a0, 8, 0)))] 90 3 [] Q)) : Z E YX9_part (d + 1) M [(0, vr (some (a0, 8, 0))), (1, vr r1)] 87 [vi s0] Q := by
  refine z_pop dX9_part_87 rfl ?_
  refine z_aload_n dX9_part_88 rfl rfl ?_
  refine z_aload_n dX9_part_89 rfl rfl ?_
  refine Z.pick [0] rfl ?_
  exact z_callV (as := [vr r1]) (st := []) dX9_part_90 vsX9_95_8 (Nat.le_refl _) (Nat.le_of_ble_eq_true rfl) (Nat.le_of_ble_eq_true rfl) rfl k
theorem sX9_part_93 {E : zE} {d : Nat} {Q : zO → zM → Prop} (M : zM) (a0 : Nat) (k : 16 ≤ a0 ∧ (Q (.inl none) (si M a0 4 ((gi M a0 4) - (1 : Int32))))) : Z E YX9_part (d + 1) M [(0, vr (some (a0, 8, 0)))] 93 [] Q := by
  refine z_aload_n dX9_part_93 rfl rfl ?_
  refine z_dup dX9_part_94 rfl ?_
  refine z_geti dX9_part_95 fsX9_31_8 ?_
  refine z_iconst (v := 1) dX9_part_98 rfl ?_
  refine z_isub dX9_part_99 ?_
  obtain ⟨g_, k⟩ := k
  refine z_puti g_ dX9_part_100 (zfwN.w fwX9_31_8) rfl ⟨rfl, rfl⟩ ?_
  exact z_vret dX9_part_103 rfl k
/-! ScriptTypes$Parser.statement()LScriptTypes$Node; -/
theorem bX9_statement_0 : zdec cX9_statement 0 [(0, .aload_n 0, 1), (1, .getfield 27, 3), (4, .getfield 55, 3), (7, .ifCond .eq 15, 3), (10, .aload_n 0, 1), (11, .getfield 27, 3), (14, .bipush 11, 2), (16, .invokevirtual 61, 3), (19, .ifCond .eq 12, 3), (22, .aload_n 0, 1), (23, .getfield 27, 3), (26, .iconst 2, 1), (27, .invokevirtual 35, 3), (30, .athrow, 1), (31, .aload_n 0, 1), (32, .getfield 27, 3)] = true := by decide +kernel
theorem dX9_statement_0 : decode cX9_statement 0 = .ok (.aload_n 0, 1) := zdec_at bX9_statement_0 0 rfl
theorem dX9_statement_1 : decode cX9_statement 1 = .ok (.getfield 27, 3) := zdec_at bX9_statement_0 1 rfl
theorem dX9_statement_4 : decode cX9_statement 4 = .ok (.getfield 55, 3) := zdec_at bX9_statement_0 2 rfl
theorem dX9_statement_7 : decode cX9_statement 7 = .ok (.ifCond .eq 15, 3) := zdec_at bX9_statement_0 3 rfl
theorem dX9_statement_10 : decode cX9_statement 10 = .ok (.aload_n 0, 1) := zdec_at bX9_statement_0 4 rfl
theorem dX9_statement_11 : decode cX9_statement 11 = .ok (.getfield 27, 3) := zdec_at bX9_statement_0 5 rfl
theorem dX9_statement_14 : decode cX9_statement 14 = .ok (.bipush 11, 2) := zdec_at bX9_statement_0 6 rfl
theorem dX9_statement_16 : decode cX9_statement 16 = .ok (.invokevirtual 61, 3) := zdec_at bX9_statement_0 7 rfl
theorem dX9_statement_19 : decode cX9_statement 19 = .ok (.ifCond .eq 12, 3) := zdec_at bX9_statement_0 8 rfl
theorem dX9_statement_22 : decode cX9_statement 22 = .ok (.aload_n 0, 1) := zdec_at bX9_statement_0 9 rfl
theorem dX9_statement_23 : decode cX9_statement 23 = .ok (.getfield 27, 3) := zdec_at bX9_statement_0 10 rfl
theorem dX9_statement_26 : decode cX9_statement 26 = .ok (.iconst 2, 1) := zdec_at bX9_statement_0 11 rfl
theorem dX9_statement_27 : decode cX9_statement 27 = .ok (.invokevirtual 35, 3) := zdec_at bX9_statement_0 12 rfl
theorem dX9_statement_30 : decode cX9_statement 30 = .ok (.athrow, 1) := zdec_at bX9_statement_0 13 rfl
theorem dX9_statement_31 : decode cX9_statement 31 = .ok (.aload_n 0, 1) := zdec_at bX9_statement_0 14 rfl
theorem dX9_statement_32 : decode cX9_statement 32 = .ok (.getfield 27, 3) := zdec_at bX9_statement_0 15 rfl
theorem bX9_statement_35 : zdec cX9_statement 35 [(35, .getfield 55, 3), (38, .iconst 2, 1), (39, .if_icmp .ne 14, 3), (42, .aload_n 0, 1), (43, .invokevirtual 126, 3), (46, .astore_n 1, 1), (47, .aload_n 1, 1), (48, .ifnull 5, 3), (51, .aload_n 1, 1), (52, .areturn, 1), (53, .aload_n 0, 1), (54, .getfield 27, 3), (57, .getfield 55, 3), (60, .iconst 5, 1), (61, .if_icmp .ne 42, 3), (64, .aload_n 0, 1)] = true := by decide +kernel
theorem dX9_statement_35 : decode cX9_statement 35 = .ok (.getfield 55, 3) := zdec_at bX9_statement_35 0 rfl
theorem dX9_statement_38 : decode cX9_statement 38 = .ok (.iconst 2, 1) := zdec_at bX9_statement_35 1 rfl
theorem dX9_statement_39 : decode cX9_statement 39 = .ok (.if_icmp .ne 14, 3) := zdec_at bX9_statement_35 2 rfl
theorem dX9_statement_42 : decode cX9_statement 42 = .ok (.aload_n 0, 1) := zdec_at bX9_statement_35 3 rfl
theorem dX9_statement_43 : decode cX9_statement 43 = .ok (.invokevirtual 126, 3) := zdec_at bX9_statement_35 4 rfl
theorem dX9_statement_46 : decode cX9_statement 46 = .ok (.astore_n 1, 1) := zdec_at bX9_statement_35 5 rfl
theorem dX9_statement_47 : decode cX9_statement 47 = .ok (.aload_n 1, 1) := zdec_at bX9_statement_35 6 rfl
theorem dX9_statement_48 : decode cX9_statement 48 = .ok (.ifnull 5, 3) := zdec_at bX9_statement_35 7 rfl
theorem dX9_statement_51 : decode cX9_statement 51 = .ok (.aload_n 1, 1) := zdec_at bX9_statement_35 8 rfl
theorem dX9_statement_52 : decode cX9_statement 52 = .ok (.areturn, 1) := zdec_at bX9_statement_35 9 rfl
theorem dX9_statement_53 : decode cX9_statement 53 = .ok (.aload_n 0, 1) := zdec_at bX9_statement_35 10 rfl
theorem dX9_statement_54 : decode cX9_statement 54 = .ok (.getfield 27, 3) := zdec_at bX9_statement_35 11 rfl
theorem dX9_statement_57 : decode cX9_statement 57 = .ok (.getfield 55, 3) := zdec_at bX9_statement_35 12 rfl
theorem dX9_statement_60 : decode cX9_statement 60 = .ok (.iconst 5, 1) := zdec_at bX9_statement_35 13 rfl
theorem dX9_statement_61 : decode cX9_statement 61 = .ok (.if_icmp .ne 42, 3) := zdec_at bX9_statement_35 14 rfl
theorem dX9_statement_64 : decode cX9_statement 64 = .ok (.aload_n 0, 1) := zdec_at bX9_statement_35 15 rfl
theorem bX9_statement_65 : zdec cX9_statement 65 [(65, .invokevirtual 129, 3), (68, .ifCond .ne 35, 3), (71, .aload_n 0, 1), (72, .getfield 27, 3), (75, .iconst 0, 1), (76, .invokevirtual 111, 3), (79, .ifCond .ne 24, 3), (82, .aload_n 0, 1), (83, .getfield 27, 3), (86, .bipush 7, 2), (88, .invokevirtual 111, 3), (91, .ifCond .ne 12, 3), (94, .aload_n 0, 1), (95, .getfield 27, 3), (98, .iconst 2, 1), (99, .invokevirtual 35, 3)] = true := by decide +kernel
theorem dX9_statement_65 : decode cX9_statement 65 = .ok (.invokevirtual 129, 3) := zdec_at bX9_statement_65 0 rfl
theorem dX9_statement_68 : decode cX9_statement 68 = .ok (.ifCond .ne 35, 3) := zdec_at bX9_statement_65 1 rfl
theorem dX9_statement_71 : decode cX9_statement 71 = .ok (.aload_n 0, 1) := zdec_at bX9_statement_65 2 rfl
theorem dX9_statement_72 : decode cX9_statement 72 = .ok (.getfield 27, 3) := zdec_at bX9_statement_65 3 rfl
theorem dX9_statement_75 : decode cX9_statement 75 = .ok (.iconst 0, 1) := zdec_at bX9_statement_65 4 rfl
theorem dX9_statement_76 : decode cX9_statement 76 = .ok (.invokevirtual 111, 3) := zdec_at bX9_statement_65 5 rfl
theorem dX9_statement_79 : decode cX9_statement 79 = .ok (.ifCond .ne 24, 3) := zdec_at bX9_statement_65 6 rfl
theorem dX9_statement_82 : decode cX9_statement 82 = .ok (.aload_n 0, 1) := zdec_at bX9_statement_65 7 rfl
theorem dX9_statement_83 : decode cX9_statement 83 = .ok (.getfield 27, 3) := zdec_at bX9_statement_65 8 rfl
theorem dX9_statement_86 : decode cX9_statement 86 = .ok (.bipush 7, 2) := zdec_at bX9_statement_65 9 rfl
theorem dX9_statement_88 : decode cX9_statement 88 = .ok (.invokevirtual 111, 3) := zdec_at bX9_statement_65 10 rfl
theorem dX9_statement_91 : decode cX9_statement 91 = .ok (.ifCond .ne 12, 3) := zdec_at bX9_statement_65 11 rfl
theorem dX9_statement_94 : decode cX9_statement 94 = .ok (.aload_n 0, 1) := zdec_at bX9_statement_65 12 rfl
theorem dX9_statement_95 : decode cX9_statement 95 = .ok (.getfield 27, 3) := zdec_at bX9_statement_65 13 rfl
theorem dX9_statement_98 : decode cX9_statement 98 = .ok (.iconst 2, 1) := zdec_at bX9_statement_65 14 rfl
theorem dX9_statement_99 : decode cX9_statement 99 = .ok (.invokevirtual 35, 3) := zdec_at bX9_statement_65 15 rfl
theorem bX9_statement_102 : zdec cX9_statement 102 [(102, .athrow, 1), (103, .aload_n 0, 1), (104, .invokevirtual 72, 3), (107, .aload_n 0, 1), (108, .getfield 27, 3), (111, .iconst 0, 1), (112, .invokevirtual 111, 3), (115, .ifCond .eq 11, 3), (118, .aload_n 0, 1), (119, .invokevirtual 133, 3), (122, .astore_n 1, 1), (123, .goto 43, 3), (126, .aload_n 0, 1), (127, .getfield 27, 3), (130, .bipush 7, 2), (132, .invokevirtual 137, 3)] = true := by decide +kernel
theorem dX9_statement_102 : decode cX9_statement 102 = .ok (.athrow, 1) := zdec_at bX9_statement_102 0 rfl
theorem dX9_statement_103 : decode cX9_statement 103 = .ok (.aload_n 0, 1) := zdec_at bX9_statement_102 1 rfl
theorem dX9_statement_104 : decode cX9_statement 104 = .ok (.invokevirtual 72, 3) := zdec_at bX9_statement_102 2 rfl
theorem dX9_statement_107 : decode cX9_statement 107 = .ok (.aload_n 0, 1) := zdec_at bX9_statement_102 3 rfl
theorem dX9_statement_108 : decode cX9_statement 108 = .ok (.getfield 27, 3) := zdec_at bX9_statement_102 4 rfl
theorem dX9_statement_111 : decode cX9_statement 111 = .ok (.iconst 0, 1) := zdec_at bX9_statement_102 5 rfl
theorem dX9_statement_112 : decode cX9_statement 112 = .ok (.invokevirtual 111, 3) := zdec_at bX9_statement_102 6 rfl
theorem dX9_statement_115 : decode cX9_statement 115 = .ok (.ifCond .eq 11, 3) := zdec_at bX9_statement_102 7 rfl
theorem dX9_statement_118 : decode cX9_statement 118 = .ok (.aload_n 0, 1) := zdec_at bX9_statement_102 8 rfl
theorem dX9_statement_119 : decode cX9_statement 119 = .ok (.invokevirtual 133, 3) := zdec_at bX9_statement_102 9 rfl
theorem dX9_statement_122 : decode cX9_statement 122 = .ok (.astore_n 1, 1) := zdec_at bX9_statement_102 10 rfl
theorem dX9_statement_123 : decode cX9_statement 123 = .ok (.goto 43, 3) := zdec_at bX9_statement_102 11 rfl
theorem dX9_statement_126 : decode cX9_statement 126 = .ok (.aload_n 0, 1) := zdec_at bX9_statement_102 12 rfl
theorem dX9_statement_127 : decode cX9_statement 127 = .ok (.getfield 27, 3) := zdec_at bX9_statement_102 13 rfl
theorem dX9_statement_130 : decode cX9_statement 130 = .ok (.bipush 7, 2) := zdec_at bX9_statement_102 14 rfl
theorem dX9_statement_132 : decode cX9_statement 132 = .ok (.invokevirtual 137, 3) := zdec_at bX9_statement_102 15 rfl
theorem bX9_statement_135 : zdec cX9_statement 135 [(135, .ifCond .eq 14, 3), (138, .new 140, 3), (141, .dup, 1), (142, .invokespecial 142, 3), (145, .astore_n 1, 1), (146, .goto 20, 3), (149, .new 143, 3), (152, .dup, 1), (153, .aload_n 0, 1), (154, .iconst 1, 1), (155, .invokevirtual 145, 3), (158, .invokespecial 149, 3), (161, .astore_n 1, 1), (162, .aload_n 0, 1), (163, .invokevirtual 152, 3), (166, .aload_n 0, 1)] = true := by decide +kernel
theorem dX9_statement_135 : decode cX9_statement 135 = .ok (.ifCond .eq 14, 3) := zdec_at bX9_statement_135 0 rfl
theorem dX9_statement_138 : decode cX9_statement 138 = .ok (.new 140, 3) := zdec_at bX9_statement_135 1 rfl
theorem dX9_statement_141 : decode cX9_statement 141 = .ok (.dup, 1) := zdec_at bX9_statement_135 2 rfl
theorem dX9_statement_142 : decode cX9_statement 142 = .ok (.invokespecial 142, 3) := zdec_at bX9_statement_135 3 rfl
theorem dX9_statement_145 : decode cX9_statement 145 = .ok (.astore_n 1, 1) := zdec_at bX9_statement_135 4 rfl
theorem dX9_statement_146 : decode cX9_statement 146 = .ok (.goto 20, 3) := zdec_at bX9_statement_135 5 rfl
theorem dX9_statement_149 : decode cX9_statement 149 = .ok (.new 143, 3) := zdec_at bX9_statement_135 6 rfl
theorem dX9_statement_152 : decode cX9_statement 152 = .ok (.dup, 1) := zdec_at bX9_statement_135 7 rfl
theorem dX9_statement_153 : decode cX9_statement 153 = .ok (.aload_n 0, 1) := zdec_at bX9_statement_135 8 rfl
theorem dX9_statement_154 : decode cX9_statement 154 = .ok (.iconst 1, 1) := zdec_at bX9_statement_135 9 rfl
theorem dX9_statement_155 : decode cX9_statement 155 = .ok (.invokevirtual 145, 3) := zdec_at bX9_statement_135 10 rfl
theorem dX9_statement_158 : decode cX9_statement 158 = .ok (.invokespecial 149, 3) := zdec_at bX9_statement_135 11 rfl
theorem dX9_statement_161 : decode cX9_statement 161 = .ok (.astore_n 1, 1) := zdec_at bX9_statement_135 12 rfl
theorem dX9_statement_162 : decode cX9_statement 162 = .ok (.aload_n 0, 1) := zdec_at bX9_statement_135 13 rfl
theorem dX9_statement_163 : decode cX9_statement 163 = .ok (.invokevirtual 152, 3) := zdec_at bX9_statement_135 14 rfl
theorem dX9_statement_166 : decode cX9_statement 166 = .ok (.aload_n 0, 1) := zdec_at bX9_statement_135 15 rfl
theorem bX9_statement_167 : zdec cX9_statement 167 [(167, .dup, 1), (168, .getfield 31, 3), (171, .iconst 1, 1), (172, .isub, 1), (173, .putfield 31, 3), (176, .aload_n 1, 1), (177, .areturn, 1)] = true := by decide +kernel
theorem dX9_statement_167 : decode cX9_statement 167 = .ok (.dup, 1) := zdec_at bX9_statement_167 0 rfl
theorem dX9_statement_168 : decode cX9_statement 168 = .ok (.getfield 31, 3) := zdec_at bX9_statement_167 1 rfl
theorem dX9_statement_171 : decode cX9_statement 171 = .ok (.iconst 1, 1) := zdec_at bX9_statement_167 2 rfl
theorem dX9_statement_172 : decode cX9_statement 172 = .ok (.isub, 1) := zdec_at bX9_statement_167 3 rfl
theorem dX9_statement_173 : decode cX9_statement 173 = .ok (.putfield 31, 3) := zdec_at bX9_statement_167 4 rfl
theorem dX9_statement_176 : decode cX9_statement 176 = .ok (.aload_n 1, 1) := zdec_at bX9_statement_167 5 rfl
theorem dX9_statement_177 : decode cX9_statement 177 = .ok (.areturn, 1) := zdec_at bX9_statement_167 6 rfl
theorem sX9_statement_0 {E : zE} {d : Nat} {Q : zO → zM → Prop} (M : zM) (a0 : Nat) (k : ∃ b1 : Nat, (gr M a0 1) = some (b1, 9, 0) ∧ (if (gi M b1 3) = 0 then (∃ b2 : Nat, (gr M a0 1) = some (b2, 9, 0) ∧ (Z E YX10_fault d M (zargs 0 [vr (some (b2, 9, 0)), vi (2 : Int32)]) 0 [] (zafter E YX9_statement (d + 1) [] 27 3 [] Q))) else (∃ b2 : Nat, (gr M a0 1) = some (b2, 9, 0) ∧ (Z E YX10_isWord d M (zargs 0 [vr (some (b2, 9, 0)), vi (11 : Int32)]) 0 [] (zafter E YX9_statement (d + 1) [(0, vr (some (a0, 8, 0)))] 16 3 [] Q))))) : Z E YX9_statement (d + 1) M [(0, vr (some (a0, 8, 0)))] 0 [] Q := by
  refine z_aload_n dX9_statement_0 rfl rfl ?_
  refine z_getr (r := (gr M a0 1)) dX9_statement_1 fsX9_27_8 rfl ?_
  obtain ⟨b1, e1_, k⟩ := k
  refine Z.eqs (lv' := [(0, vr (some (a0, 8, 0)))]) (st' := [vr (some (b1, 9, 0))]) rfl (by rw [e1_] <;> rfl) ?_
  refine z_geti dX9_statement_4 fsX9_55_9 ?_
  refine z_if_eq (tgt := 22) dX9_statement_7 rfl (fun h_ => ?_) (fun h_ => ?_)
  · have k := zit h_ k
    refine z_aload_n dX9_statement_22 rfl rfl ?_
    refine z_getr (r := (gr M a0 1)) dX9_statement_23 fsX9_27_8 rfl ?_
    refine z_iconst (v := 2) dX9_statement_26 rfl ?_
    obtain ⟨b2, e2_, k⟩ := k
    refine Z.eqs (lv' := [(0, vr (some (a0, 8, 0)))]) (st' := [vi (2 : Int32), vr (some (b2, 9, 0))]) rfl (by rw [e2_] <;> rfl) ?_
    refine Z.pick [] rfl ?_
    exact z_callV (as := [vi (2 : Int32)]) (st := []) dX9_statement_27 vsX9_35_9 (Nat.le_refl _) (Nat.le_of_ble_eq_true rfl) (Nat.le_of_ble_eq_true rfl) rfl k
  · have k := zif h_ k
    refine z_aload_n dX9_statement_10 rfl rfl ?_
    refine z_getr (r := (gr M a0 1)) dX9_statement_11 fsX9_27_8 rfl ?_
    refine z_bipush (v := 11) dX9_statement_14 rfl ?_
    obtain ⟨b2, e2_, k⟩ := k
    refine Z.eqs (lv' := [(0, vr (some (a0, 8, 0)))]) (st' := [vi (11 : Int32), vr (some (b2, 9, 0))]) rfl (by rw [e2_] <;> rfl) ?_
    exact z_callV (as := [vi (11 : Int32)]) (st := []) dX9_statement_16 vsX9_61_9 (Nat.le_refl _) (Nat.le_of_ble_eq_true rfl) (Nat.le_of_ble_eq_true rfl) rfl k
theorem sX9_statement_19 {E : zE} {d : Nat} {Q : zO → zM → Prop} (M : zM) (a0 : Nat) (s0 : Int32) (k : if s0 = 0 then (∃ b1 : Nat, (gr M a0 1) = some (b1, 9, 0) ∧ (if (gi M b1 3) = (2 : Int32) then (Z E YX9_byWord d M (zargs 0 [vr (some (a0, 8, 0))]) 0 [] (zafter E YX9_statement (d + 1) [(0, vr (some (a0, 8, 0)))] 43 3 [] Q)) else (Z E YX9_statement (d + 1) M [(0, vr (some (a0, 8, 0)))] 53 [] Q))) else (∃ b1 : Nat, (gr M a0 1) = some (b1, 9, 0) ∧ (Z E YX10_fault d M (zargs 0 [vr (some (b1, 9, 0)), vi (2 : Int32)]) 0 [] (zafter E YX9_statement (d + 1) [] 27 3 [] Q)))) : Z E YX9_statement (d + 1) M [(0, vr (some (a0, 8, 0)))] 19 [vi s0] Q := by
  refine z_if_eq (tgt := 31) dX9_statement_19 rfl (fun h_ => ?_) (fun h_ => ?_)
  · have k := zit h_ k
    refine z_aload_n dX9_statement_31 rfl rfl ?_
    refine z_getr (r := (gr M a0 1)) dX9_statement_32 fsX9_27_8 rfl ?_
    obtain ⟨b1, e1_, k⟩ := k
    refine Z.eqs (lv' := [(0, vr (some (a0, 8, 0)))]) (st' := [vr (some (b1, 9, 0))]) rfl (by rw [e1_] <;> rfl) ?_
    refine z_geti dX9_statement_35 fsX9_55_9 ?_
    refine z_iconst (v := 2) dX9_statement_38 rfl ?_
    refine z_icmp_ne (tgt := 53) dX9_statement_39 rfl (fun h_ => ?_) (fun h_ => ?_)
    · have k := zif h_ k
      exact k
    · have k := zit h_ k
      refine z_aload_n dX9_statement_42 rfl rfl ?_
      exact z_callV (as := []) (st := []) dX9_statement_43 vsX9_126_8 (Nat.le_refl _) (Nat.le_of_ble_eq_true rfl) (Nat.le_of_ble_eq_true rfl) rfl k
  · have k := zif h_ k
    refine z_aload_n dX9_statement_22 rfl rfl ?_
    refine z_getr (r := (gr M a0 1)) dX9_statement_23 fsX9_27_8 rfl ?_
    refine z_iconst (v := 2) dX9_statement_26 rfl ?_
    obtain ⟨b1, e1_, k⟩ := k
    refine Z.eqs (lv' := [(0, vr (some (a0, 8, 0)))]) (st' := [vi (2 : Int32), vr (some (b1, 9, 0))]) rfl (by rw [e1_] <;> rfl) ?_
    refine Z.pick [] rfl ?_
    exact z_callV (as := [vi (2 : Int32)]) (st := []) dX9_statement_27 vsX9_35_9 (Nat.le_refl _) (Nat.le_of_ble_eq_true rfl) (Nat.le_of_ble_eq_true rfl) rfl k
theorem sX9_statement_30 {E : zE} {d : Nat} {Q : zO → zM → Prop} (M : zM) (u0 : Option zP) (k : ∃ b1 : Nat, u0 = some (b1, 12, 0) ∧ (Q (.inr (b1, 12, 0)) M)) : Z E YX9_statement (d + 1) M [] 30 [vr u0] Q := by
  obtain ⟨b1, e1_, k⟩ := k
  refine Z.eqs (lv' := []) (st' := [vr (some (b1, 12, 0))]) rfl (by rw [e1_] <;> rfl) ?_
  exact z_athrow dX9_statement_30 (ZT.out (by decide) k)
theorem sX9_statement_46 {E : zE} {d : Nat} {Q : zO → zM → Prop} (M : zM) (a0 : Nat) (u0 : Option zP) (k : if u0 = none then (Z E YX9_statement (d + 1) M [(0, vr (some (a0, 8, 0)))] 53 [] Q) else (Q (.inl (some (vr u0))) M)) : Z E YX9_statement (d + 1) M [(0, vr (some (a0, 8, 0)))] 46 [vr u0] Q := by
  refine z_ast_n dX9_statement_46 rfl (by decide) (lv' := [(0, vr (some (a0, 8, 0))), (1, vr u0)]) rfl ?_
  refine z_aload_n dX9_statement_47 rfl rfl ?_
  refine z_ifnull (tgt := 53) dX9_statement_48 rfl (fun h_ => ?_) (fun h_ => ?_)
  · have k := zit h_ k
    refine Z.pick [0] rfl ?_
    exact k
  · have k := zif h_ k
    refine z_aload_n dX9_statement_51 rfl rfl ?_
    exact z_aret dX9_statement_52 rfl rfl k
theorem sX9_statement_53 {E : zE} {d : Nat} {Q : zO → zM → Prop} (M : zM) (a0 : Nat) (k : ∃ b1 : Nat, (gr M a0 1) = some (b1, 9, 0) ∧ (if (gi M b1 3) = (5 : Int32) then (Z E YX9_startsExpression d M (zargs 0 [vr (some (a0, 8, 0))]) 0 [] (zafter E YX9_statement (d + 1) [(0, vr (some (a0, 8, 0)))] 65 3 [] Q)) else (Z E YX9_opens d M (zargs 0 [vr (some (a0, 8, 0))]) 0 [] (zafter E YX9_statement (d + 1) [(0, vr (some (a0, 8, 0)))] 104 3 [] Q)))) : Z E YX9_statement (d + 1) M [(0, vr (some (a0, 8, 0)))] 53 [] Q := by
  refine z_aload_n dX9_statement_53 rfl rfl ?_
  refine z_getr (r := (gr M a0 1)) dX9_statement_54 fsX9_27_8 rfl ?_
  obtain ⟨b1, e1_, k⟩ := k
  refine Z.eqs (lv' := [(0, vr (some (a0, 8, 0)))]) (st' := [vr (some (b1, 9, 0))]) rfl (by rw [e1_] <;> rfl) ?_
  refine z_geti dX9_statement_57 fsX9_55_9 ?_
  refine z_iconst (v := 5) dX9_statement_60 rfl ?_
  refine z_icmp_ne (tgt := 103) dX9_statement_61 rfl (fun h_ => ?_) (fun h_ => ?_)
  · have k := zif h_ k
    refine z_aload_n dX9_statement_103 rfl rfl ?_
    exact z_callV (as := []) (st := []) dX9_statement_104 vsX9_72_8 (Nat.le_refl _) (Nat.le_of_ble_eq_true rfl) (Nat.le_of_ble_eq_true rfl) rfl k
  · have k := zit h_ k
    refine z_aload_n dX9_statement_64 rfl rfl ?_
    exact z_callV (as := []) (st := []) dX9_statement_65 vsX9_129_8 (Nat.le_refl _) (Nat.le_of_ble_eq_true rfl) (Nat.le_of_ble_eq_true rfl) rfl k
theorem sX9_statement_68 {E : zE} {d : Nat} {Q : zO → zM → Prop} (M : zM) (a0 : Nat) (s0 : Int32) (k : if s0 = 0 then (∃ b1 : Nat, (gr M a0 1) = some (b1, 9, 0) ∧ (Z E YX10_is d M (zargs 0 [vr (some (b1, 9, 0)), vi (0 : Int32)]) 0 [] (zafter E YX9_statement (d + 1) [(0, vr (some (a0, 8, 0)))] 76 3 [] Q))) else (Z E YX9_opens d M (zargs 0 [vr (some (a0, 8, 0))]) 0 [] (zafter E YX9_statement (d + 1) [(0, vr (some (a0, 8, 0)))] 104 3 [] Q))) : Z E YX9_statement (d + 1) M [(0, vr (some (a0, 8, 0)))] 68 [vi s0] Q := by
  refine z_if_ne (tgt := 103) dX9_statement_68 rfl (fun h_ => ?_) (fun h_ => ?_)
  · have k := zif h_ k
    refine z_aload_n dX9_statement_103 rfl rfl ?_
    exact z_callV (as := []) (st := []) dX9_statement_104 vsX9_72_8 (Nat.le_refl _) (Nat.le_of_ble_eq_true rfl) (Nat.le_of_ble_eq_true rfl) rfl k
  · have k := zit h_ k
    refine z_aload_n dX9_statement_71 rfl rfl ?_
    refine z_getr (r := (gr M a0 1)) dX9_statement_72 fsX9_27_8 rfl ?_
    refine z_iconst (v := 0) dX9_statement_75 rfl ?_
    obtain ⟨b1, e1_, k⟩ := k
    refine Z.eqs (lv' := [(0, vr (some (a0, 8, 0)))]) (st' := [vi (0 : Int32), vr (some (b1, 9, 0))]) rfl (by rw [e1_] <;> rfl) ?_
    exact z_callV (as := [vi (0 : Int32)]) (st := []) dX9_statement_76 vsX9_111_9 (Nat.le_refl _) (Nat.le_of_ble_eq_true rfl) (Nat.le_of_ble_eq_true rfl) rfl k
theorem sX9_statement_79 {E : zE} {d : Nat} {Q : zO → zM → Prop} (M : zM) (a0 : Nat) (s0 : Int32) (k : if s0 = 0 then (∃ b1 : Nat, (gr M a0 1) = some (b1, 9, 0) ∧ (Z E YX10_is d M (zargs 0 [vr (some (b1, 9, 0)), vi (7 : Int32)]) 0 [] (zafter E YX9_statement (d + 1) [(0, vr (some (a0, 8, 0)))] 88 3 [] Q))) else (Z E YX9_opens d M (zargs 0 [vr (some (a0, 8, 0))]) 0 [] (zafter E YX9_statement (d + 1) [(0, vr (some (a0, 8, 0)))] 104 3 [] Q))) : Z E YX9_statement (d + 1) M [(0, vr (some (a0, 8, 0)))] 79 [vi s0] Q := by
  refine z_if_ne (tgt := 103) dX9_statement_79 rfl (fun h_ => ?_) (fun h_ => ?_)
  · have k := zif h_ k
    refine z_aload_n dX9_statement_103 rfl rfl ?_
    exact z_callV (as := []) (st := []) dX9_statement_104 vsX9_72_8 (Nat.le_refl _) (Nat.le_of_ble_eq_true rfl) (Nat.le_of_ble_eq_true rfl) rfl k
  · have k := zit h_ k
    refine z_aload_n dX9_statement_82 rfl rfl ?_
    refine z_getr (r := (gr M a0 1)) dX9_statement_83 fsX9_27_8 rfl ?_
    refine z_bipush (v := 7) dX9_statement_86 rfl ?_
    obtain ⟨b1, e1_, k⟩ := k
    refine Z.eqs (lv' := [(0, vr (some (a0, 8, 0)))]) (st' := [vi (7 : Int32), vr (some (b1, 9, 0))]) rfl (by rw [e1_] <;> rfl) ?_
    exact z_callV (as := [vi (7 : Int32)]) (st := []) dX9_statement_88 vsX9_111_9 (Nat.le_refl _) (Nat.le_of_ble_eq_true rfl) (Nat.le_of_ble_eq_true rfl) rfl k
theorem sX9_statement_91 {E : zE} {d : Nat} {Q : zO → zM → Prop} (M : zM) (a0 : Nat) (s0 : Int32) (k : if s0 = 0 then (∃ b1 : Nat, (gr M a0 1) = some (b1, 9, 0) ∧ (Z E YX10_fault d M (zargs 0 [vr (some (b1, 9, 0)), vi (2 : Int32)]) 0 [] (zafter E YX9_statement (d + 1) [] 99 3 [] Q))) else (Z E YX9_opens d M (zargs 0 [vr (some (a0, 8, 0))]) 0 [] (zafter E YX9_statement (d + 1) [(0, vr (some (a0, 8, 0)))] 104 3 [] Q))) : Z E YX9_statement (d + 1) M [(0, vr (some (a0, 8, 0)))] 91 [vi s0] Q := by
  refine z_if_ne (tgt := 103) dX9_statement_91 rfl (fun h_ => ?_) (fun h_ => ?_)
  · have k := zif h_ k
    refine z_aload_n dX9_statement_103 rfl rfl ?_
    exact z_callV (as := []) (st := []) dX9_statement_104 vsX9_72_8 (Nat.le_refl _) (Nat.le_of_ble_eq_true rfl) (Nat.le_of_ble_eq_true rfl) rfl k
  · have k := zit h_ k
    refine z_aload_n dX9_statement_94 rfl rfl ?_
    refine z_getr (r := (gr M a0 1)) dX9_statement_95 fsX9_27_8 rfl ?_
    refine z_iconst (v := 2) dX9_statement_98 rfl ?_
    obtain ⟨b1, e1_, k⟩ := k
    refine Z.eqs (lv' := [(0, vr (some (a0, 8, 0)))]) (st' := [vi (2 : Int32), vr (some (b1, 9, 0))]) rfl (by rw [e1_] <;> rfl) ?_
    refine Z.pick [] rfl ?_
    exact z_callV (as := [vi (2 : Int32)]) (st := []) dX9_statement_99 vsX9_35_9 (Nat.le_refl _) (Nat.le_of_ble_eq_true rfl) (Nat.le_of_ble_eq_true rfl) rfl k
theorem sX9_statement_102 {E : zE} {d : Nat} {Q : zO → zM → Prop} (M : zM) (u0 : Option zP) (k : ∃ b1 : Nat, u0 = some (b1, 12, 0) ∧ (Q (.inr (b1, 12, 0)) M)) : Z E YX9_statement (d + 1) M [] 102 [vr u0] Q := by
  obtain ⟨b1, e1_, k⟩ := k
  refine Z.eqs (lv' := []) (st' := [vr (some (b1, 12, 0))]) rfl (by rw [e1_] <;> rfl) ?_
  exact z_athrow dX9_statement_102 (ZT.out (by decide) k)
theorem sX9_statement_107 {E : zE} {d : Nat} {Q : zO → zM → Prop} (M : zM) (a0 : Nat) (k : ∃ b1 : Nat, (gr M a0 1) = some (b1, 9, 0) ∧ (Z E YX10_is d M (zargs 0 [vr (some (b1, 9, 0)), vi (0 : Int32)]) 0 [] (zafter E YX9_statement (d + 1) [(0, vr (some (a0, 8, 0)))] 112 3 [] Q))) : Z E YX9_statement (d + 1) M [(0, vr (some (a0, 8, 0)))] 107 [] Q := by
  refine z_aload_n dX9_statement_107 rfl rfl ?_
  refine z_getr (r := (gr M a0 1)) dX9_statement_108 fsX9_27_8 rfl ?_
  refine z_iconst (v := 0) dX9_statement_111 rfl ?_
  obtain ⟨b1, e1_, k⟩ := k
  refine Z.eqs (lv' := [(0, vr (some (a0, 8, 0)))]) (st' := [vi (0 : Int32), vr (some (b1, 9, 0))]) rfl (by rw [e1_] <;> rfl) ?_
  exact z_callV (as := [vi (0 : Int32)]) (st := []) dX9_statement_112 vsX9_111_9 (Nat.le_refl _) (Nat.le_of_ble_eq_true rfl) (Nat.le_of_ble_eq_true rfl) rfl k
theorem sX9_statement_115 {E : zE} {d : Nat} {Q : zO → zM → Prop} (M : zM) (a0 : Nat) (s0 : Int32) (k : if s0 = 0 then (∃ b1 : Nat, (gr M a0 1) = some (b1, 9, 0) ∧ (Z E YX10_takes d M (zargs 0 [vr (some (b1, 9, 0)), vi (7 : Int32)]) 0 [] (zafter E YX9_statement (d + 1) [(0, vr (some (a0, 8, 0)))] 132 3 [] Q))) else (Z E YX9_block d M (zargs 0 [vr (some (a0, 8, 0))]) 0 [] (zafter E YX9_statement (d + 1) [(0, vr (some (a0, 8, 0)))] 119 3 [] Q))) : Z E YX9_statement (d + 1) M [(0, vr (some (a0, 8, 0)))] 115 [vi s0] Q := by
  refine z_if_eq (tgt := 126) dX9_statement_115 rfl (fun h_ => ?_) (fun h_ => ?_)
  · have k := zit h_ k
    refine z_aload_n dX9_statement_126 rfl rfl ?_
    refine z_getr (r := (gr M a0 1)) dX9_statement_127 fsX9_27_8 rfl ?_
    refine z_bipush (v := 7) dX9_statement_130 rfl ?_
    obtain ⟨b1, e1_, k⟩ := k
    refine Z.eqs (lv' := [(0, vr (some (a0, 8, 0)))]) (st' := [vi (7 : Int32), vr (some (b1, 9, 0))]) rfl (by rw [e1_] <;> rfl) ?_
    exact z_callV (as := [vi (7 : Int32)]) (st := []) dX9_statement_132 vsX9_137_9 (Nat.le_refl _) (Nat.le_of_ble_eq_true rfl) (Nat.le_of_ble_eq_true rfl) rfl k
  · have k := zif h_ k
    refine z_aload_n dX9_statement_118 rfl rfl ?_
    exact z_callV (as := []) (st := []) dX9_statement_119 vsX9_133_8 (Nat.le_refl _) (Nat.le_of_ble_eq_true rfl) (Nat.le_of_ble_eq_true rfl) rfl k
theorem sX9_statement_122 {E : zE} {d : Nat} {Q : zO → zM → Prop} (M : zM) (a0 : Nat) (u0 : Option zP) (k : Z E YX9_statement (d + 1) M [(0, vr (some (a0, 8, 0))), (1, vr u0)] 166 [] Q) : Z E YX9_statement (d + 1) M [(0, vr (some (a0, 8, 0)))] 122 [vr u0] Q := by
  refine z_ast_n dX9_statement_122 rfl (by decide) (lv' := [(0, vr (some (a0, 8, 0))), (1, vr u0)]) rfl ?_
  refine z_goto (tgt := 166) dX9_statement_123 rfl ?_
  exact k
theorem sX9_statement_135 {E : zE} {d : Nat} {Q : zO → zM → Prop} (M : zM) (a0 : Nat) (s0 : Int32) (k : if s0 = 0 then (Z E YX9_statement (d + 1) (zn M 1) [(0, vr (some (a0, 8, 0)))] 152 [vr (some ((zsz M), 21, 0))] Q) else (Z E YX9_statement (d + 1) (zn M 1) [(0, vr (some (a0, 8, 0)))] 141 [vr (some ((zsz M), 20, 0))] Q)) : Z E YX9_statement (d + 1) M [(0, vr (some (a0, 8, 0)))] 135 [vi s0] Q := by
  refine z_if_eq (tgt := 149) dX9_statement_135 rfl (fun h_ => ?_) (fun h_ => ?_)
  · have k := zit h_ k
    refine z_new dX9_statement_149 csX9_143 zff_21 ?_
    exact k
  · have k := zif h_ k
    refine z_new dX9_statement_138 csX9_140 zff_20 ?_
    exact k
theorem sX9_statement_141 {E : zE} {d : Nat} {Q : zO → zM → Prop} (M : zM) (a0 : Nat) (p0 : Nat) (k : Z E YX14_init d M (zargs 0 [vr (some (p0, 20, 0))]) 0 [] (zafter E YX9_statement (d + 1) [(0, vr (some (a0, 8, 0)))] 142 3 [vr (some (p0, 20, 0))] Q)) : Z E YX9_statement (d + 1) M [(0, vr (some (a0, 8, 0)))] 141 [vr (some (p0, 20, 0))] Q := by
  refine z_dup dX9_statement_141 rfl ?_
  exact z_callI (as := []) (st := [vr (some (p0, 20, 0))]) dX9_statement_142 isX9_142 (Nat.le_refl _) (Nat.le_of_ble_eq_true rfl) (Nat.le_of_ble_eq_true rfl) rfl k
theorem sX9_statement_145 {E : zE} {d : Nat} {Q : zO → zM → Prop} (M : zM) (a0 : Nat) (p0 : Nat) (k : Z E YX9_statement (d + 1) M [(0, vr (some (a0, 8, 0))), (1, vr (some (p0, 20, 0)))] 166 [] Q) : Z E YX9_statement (d + 1) M [(0, vr (some (a0, 8, 0)))] 145 [vr (some (p0, 20, 0))] Q := by
  refine z_ast_n dX9_statement_145 rfl (by decide) (lv' := [(0, vr (some (a0, 8, 0))), (1, vr (some (p0, 20, 0)))]) rfl ?_
  refine z_goto (tgt := 166) dX9_statement_146 rfl ?_
  exact k
theorem sX9_statement_152 {E : zE} {d : Nat} {Q : zO → zM → Prop} (M : zM) (a0 : Nat) (p0 : Nat) (k : Z E YX9_expression d M (zargs 0 [vr (some (a0, 8, 0)), vi (1 : Int32)]) 0 [] (zafter E YX9_statement (d + 1) [(0, vr (some (a0, 8, 0)))] 155 3 [vr (some (p0, 21, 0)), vr (some (p0, 21, 0))] Q)) : Z E YX9_statement (d + 1) M [(0, vr (some (a0, 8, 0)))] 152 [vr (some (p0, 21, 0))] Q := by
  refine z_dup dX9_statement_152 rfl ?_
  refine z_aload_n dX9_statement_153 rfl rfl ?_
  refine z_iconst (v := 1) dX9_statement_154 rfl ?_
  exact z_callV (as := [vi (1 : Int32)]) (st := [vr (some (p0, 21, 0)), vr (some (p0, 21, 0))]) dX9_statement_155 vsX9_145_8 (Nat.le_refl _) (Nat.le_of_ble_eq_true rfl) (Nat.le_of_ble_eq_true rfl) rfl k
theorem sX9_statement_158 {E : zE} {d : Nat} {Q : zO → zM → Prop} (M : zM) (a0 : Nat) (u0 : Option zP) (p1 : Nat) (p2 : Nat) (k : Z E YX15_init d M (zargs 0 [vr (some (p1, 21, 0)), vr u0]) 0 [] (zafter E YX9_statement (d + 1) [(0, vr (some (a0, 8, 0)))] 158 3 [vr (some (p2, 21, 0))] Q)) : Z E YX9_statement (d + 1) M [(0, vr (some (a0, 8, 0)))] 158 [vr u0, vr (some (p1, 21, 0)), vr (some (p2, 21, 0))] Q := by
  exact z_callI (as := [vr u0]) (st := [vr (some (p2, 21, 0))]) dX9_statement_158 isX9_149 (Nat.le_refl _) (Nat.le_of_ble_eq_true rfl) (Nat.le_of_ble_eq_true rfl) rfl k
theorem sX9_statement_161 {E : zE} {d : Nat} {Q : zO → zM → Prop} (M : zM) (a0 : Nat) (p0 : Nat) (k : Z E YX9_semicolon d M (zargs 0 [vr (some (a0, 8, 0))]) 0 [] (zafter E YX9_statement (d + 1) [(0, vr (some (a0, 8, 0))), (1, vr (some (p0, 21, 0)))] 163 3 [] Q)) : Z E YX9_statement (d + 1) M [(0, vr (some (a0, 8, 0)))] 161 [vr (some (p0, 21, 0))] Q := by
  refine z_ast_n dX9_statement_161 rfl (by decide) (lv' := [(0, vr (some (a0, 8, 0))), (1, vr (some (p0, 21, 0)))]) rfl ?_
  refine z_aload_n dX9_statement_162 rfl rfl ?_
  exact z_callV (as := []) (st := []) dX9_statement_163 vsX9_152_8 (Nat.le_refl _) (Nat.le_of_ble_eq_true rfl) (Nat.le_of_ble_eq_true rfl) rfl k
theorem sX9_statement_166 {E : zE} {d : Nat} {Q : zO → zM → Prop} (M : zM) (a0 : Nat) (r1 : Option zP) (k : 16 ≤ a0 ∧ (Q (.inl (some (vr r1))) (si M a0 4 ((gi M a0 4) - (1 : Int32))))) : Z E YX9_statement (d + 1) M [(0, vr (some (a0, 8, 0))), (1, vr r1)] 166 [] Q := by
  refine z_aload_n dX9_statement_166 rfl rfl ?_
  refine z_dup dX9_statement_167 rfl ?_
  refine z_geti dX9_statement_168 fsX9_31_8 ?_
  refine z_iconst (v := 1) dX9_statement_171 rfl ?_
  refine z_isub dX9_statement_172 ?_
  obtain ⟨g_, k⟩ := k
  refine z_puti g_ dX9_statement_173 (zfwN.w fwX9_31_8) rfl ⟨rfl, rfl⟩ ?_
  refine z_aload_n dX9_statement_176 rfl rfl ?_
  exact z_aret dX9_statement_177 rfl rfl k
/-! ScriptTypes$Parser.byWord()LScriptTypes$Node; -/
theorem bX9_byWord_0 : zdec cX9_byWord 0 [(0, .aload_n 0, 1), (1, .getfield 27, 3), (4, .getfield 114, 3), (7, .istore_n 1, 1), (8, .iload_n 1, 1), (9, .ifCond .eq 62, 3), (12, .iload_n 1, 1), (13, .iconst 3, 1), (14, .if_icmp .eq 57, 3), (17, .iload_n 1, 1), (18, .bipush 18, 2), (20, .if_icmp .eq 51, 3), (23, .iload_n 1, 1), (24, .bipush 26, 2), (26, .if_icmp .eq 45, 3), (29, .iload_n 1, 1)] = true := by decide +kernel
theorem dX9_byWord_0 : decode cX9_byWord 0 = .ok (.aload_n 0, 1) := zdec_at bX9_byWord_0 0 rfl
theorem dX9_byWord_1 : decode cX9_byWord 1 = .ok (.getfield 27, 3) := zdec_at bX9_byWord_0 1 rfl
theorem dX9_byWord_4 : decode cX9_byWord 4 = .ok (.getfield 114, 3) := zdec_at bX9_byWord_0 2 rfl
theorem dX9_byWord_7 : decode cX9_byWord 7 = .ok (.istore_n 1, 1) := zdec_at bX9_byWord_0 3 rfl
theorem dX9_byWord_8 : decode cX9_byWord 8 = .ok (.iload_n 1, 1) := zdec_at bX9_byWord_0 4 rfl
theorem dX9_byWord_9 : decode cX9_byWord 9 = .ok (.ifCond .eq 62, 3) := zdec_at bX9_byWord_0 5 rfl
theorem dX9_byWord_12 : decode cX9_byWord 12 = .ok (.iload_n 1, 1) := zdec_at bX9_byWord_0 6 rfl
theorem dX9_byWord_13 : decode cX9_byWord 13 = .ok (.iconst 3, 1) := zdec_at bX9_byWord_0 7 rfl
theorem dX9_byWord_14 : decode cX9_byWord 14 = .ok (.if_icmp .eq 57, 3) := zdec_at bX9_byWord_0 8 rfl
theorem dX9_byWord_17 : decode cX9_byWord 17 = .ok (.iload_n 1, 1) := zdec_at bX9_byWord_0 9 rfl
theorem dX9_byWord_18 : decode cX9_byWord 18 = .ok (.bipush 18, 2) := zdec_at bX9_byWord_0 10 rfl
theorem dX9_byWord_20 : decode cX9_byWord 20 = .ok (.if_icmp .eq 51, 3) := zdec_at bX9_byWord_0 11 rfl
theorem dX9_byWord_23 : decode cX9_byWord 23 = .ok (.iload_n 1, 1) := zdec_at bX9_byWord_0 12 rfl
theorem dX9_byWord_24 : decode cX9_byWord 24 = .ok (.bipush 26, 2) := zdec_at bX9_byWord_0 13 rfl
theorem dX9_byWord_26 : decode cX9_byWord 26 = .ok (.if_icmp .eq 45, 3) := zdec_at bX9_byWord_0 14 rfl
theorem dX9_byWord_29 : decode cX9_byWord 29 = .ok (.iload_n 1, 1) := zdec_at bX9_byWord_0 15 rfl
theorem bX9_byWord_30 : zdec cX9_byWord 30 [(30, .bipush 12, 2), (32, .if_icmp .eq 39, 3), (35, .iload_n 1, 1), (36, .bipush 28, 2), (38, .if_icmp .eq 33, 3), (41, .iload_n 1, 1), (42, .bipush 6, 2), (44, .if_icmp .eq 27, 3), (47, .iload_n 1, 1), (48, .bipush 10, 2), (50, .if_icmp .eq 21, 3), (53, .iload_n 1, 1), (54, .bipush 21, 2), (56, .if_icmp .eq 15, 3), (59, .iload_n 1, 1), (60, .bipush 23, 2)] = true := by decide +kernel
theorem dX9_byWord_30 : decode cX9_byWord 30 = .ok (.bipush 12, 2) := zdec_at bX9_byWord_30 0 rfl
theorem dX9_byWord_32 : decode cX9_byWord 32 = .ok (.if_icmp .eq 39, 3) := zdec_at bX9_byWord_30 1 rfl
theorem dX9_byWord_35 : decode cX9_byWord 35 = .ok (.iload_n 1, 1) := zdec_at bX9_byWord_30 2 rfl
theorem dX9_byWord_36 : decode cX9_byWord 36 = .ok (.bipush 28, 2) := zdec_at bX9_byWord_30 3 rfl
theorem dX9_byWord_38 : decode cX9_byWord 38 = .ok (.if_icmp .eq 33, 3) := zdec_at bX9_byWord_30 4 rfl
theorem dX9_byWord_41 : decode cX9_byWord 41 = .ok (.iload_n 1, 1) := zdec_at bX9_byWord_30 5 rfl
theorem dX9_byWord_42 : decode cX9_byWord 42 = .ok (.bipush 6, 2) := zdec_at bX9_byWord_30 6 rfl
theorem dX9_byWord_44 : decode cX9_byWord 44 = .ok (.if_icmp .eq 27, 3) := zdec_at bX9_byWord_30 7 rfl
theorem dX9_byWord_47 : decode cX9_byWord 47 = .ok (.iload_n 1, 1) := zdec_at bX9_byWord_30 8 rfl
theorem dX9_byWord_48 : decode cX9_byWord 48 = .ok (.bipush 10, 2) := zdec_at bX9_byWord_30 9 rfl
theorem dX9_byWord_50 : decode cX9_byWord 50 = .ok (.if_icmp .eq 21, 3) := zdec_at bX9_byWord_30 10 rfl
theorem dX9_byWord_53 : decode cX9_byWord 53 = .ok (.iload_n 1, 1) := zdec_at bX9_byWord_30 11 rfl
theorem dX9_byWord_54 : decode cX9_byWord 54 = .ok (.bipush 21, 2) := zdec_at bX9_byWord_30 12 rfl
theorem dX9_byWord_56 : decode cX9_byWord 56 = .ok (.if_icmp .eq 15, 3) := zdec_at bX9_byWord_30 13 rfl
theorem dX9_byWord_59 : decode cX9_byWord 59 = .ok (.iload_n 1, 1) := zdec_at bX9_byWord_30 14 rfl
theorem dX9_byWord_60 : decode cX9_byWord 60 = .ok (.bipush 23, 2) := zdec_at bX9_byWord_30 15 rfl
theorem bX9_byWord_62 : zdec cX9_byWord 62 [(62, .if_icmp .eq 9, 3), (65, .iload_n 1, 1), (66, .bipush 19, 2), (68, .if_icmp .ne 7, 3), (71, .iconst 1, 1), (72, .goto 4, 3), (75, .iconst 0, 1), (76, .istore_n 2, 1), (77, .iload_n 2, 1), (78, .ifCond .ne 19, 3), (81, .iload_n 1, 1), (82, .invokestatic 160, 3), (85, .ifCond .ne 12, 3), (88, .aload_n 0, 1), (89, .getfield 27, 3), (92, .iconst 2, 1)] = true := by decide +kernel
theorem dX9_byWord_62 : decode cX9_byWord 62 = .ok (.if_icmp .eq 9, 3) := zdec_at bX9_byWord_62 0 rfl
theorem dX9_byWord_65 : decode cX9_byWord 65 = .ok (.iload_n 1, 1) := zdec_at bX9_byWord_62 1 rfl
theorem dX9_byWord_66 : decode cX9_byWord 66 = .ok (.bipush 19, 2) := zdec_at bX9_byWord_62 2 rfl
theorem dX9_byWord_68 : decode cX9_byWord 68 = .ok (.if_icmp .ne 7, 3) := zdec_at bX9_byWord_62 3 rfl
theorem dX9_byWord_71 : decode cX9_byWord 71 = .ok (.iconst 1, 1) := zdec_at bX9_byWord_62 4 rfl
theorem dX9_byWord_72 : decode cX9_byWord 72 = .ok (.goto 4, 3) := zdec_at bX9_byWord_62 5 rfl
theorem dX9_byWord_75 : decode cX9_byWord 75 = .ok (.iconst 0, 1) := zdec_at bX9_byWord_62 6 rfl
theorem dX9_byWord_76 : decode cX9_byWord 76 = .ok (.istore_n 2, 1) := zdec_at bX9_byWord_62 7 rfl
theorem dX9_byWord_77 : decode cX9_byWord 77 = .ok (.iload_n 2, 1) := zdec_at bX9_byWord_62 8 rfl
theorem dX9_byWord_78 : decode cX9_byWord 78 = .ok (.ifCond .ne 19, 3) := zdec_at bX9_byWord_62 9 rfl
theorem dX9_byWord_81 : decode cX9_byWord 81 = .ok (.iload_n 1, 1) := zdec_at bX9_byWord_62 10 rfl
theorem dX9_byWord_82 : decode cX9_byWord 82 = .ok (.invokestatic 160, 3) := zdec_at bX9_byWord_62 11 rfl
theorem dX9_byWord_85 : decode cX9_byWord 85 = .ok (.ifCond .ne 12, 3) := zdec_at bX9_byWord_62 12 rfl
theorem dX9_byWord_88 : decode cX9_byWord 88 = .ok (.aload_n 0, 1) := zdec_at bX9_byWord_62 13 rfl
theorem dX9_byWord_89 : decode cX9_byWord 89 = .ok (.getfield 27, 3) := zdec_at bX9_byWord_62 14 rfl
theorem dX9_byWord_92 : decode cX9_byWord 92 = .ok (.iconst 2, 1) := zdec_at bX9_byWord_62 15 rfl
theorem bX9_byWord_93 : zdec cX9_byWord 93 [(93, .invokevirtual 35, 3), (96, .athrow, 1), (97, .iload_n 2, 1), (98, .ifCond .ne 5, 3), (101, .aconst_null, 1), (102, .areturn, 1), (103, .iload_n 1, 1), (104, .ifCond .ne 15, 3), (107, .aload_n 0, 1), (108, .getfield 102, 3), (111, .aload_n 0, 1), (112, .getfield 105, 3), (115, .iadd, 1), (116, .ifCond .eq 31, 3), (119, .iload_n 1, 1), (120, .iconst 3, 1)] = true := by decide +kernel
theorem dX9_byWord_93 : decode cX9_byWord 93 = .ok (.invokevirtual 35, 3) := zdec_at bX9_byWord_93 0 rfl
theorem dX9_byWord_96 : decode cX9_byWord 96 = .ok (.athrow, 1) := zdec_at bX9_byWord_93 1 rfl
theorem dX9_byWord_97 : decode cX9_byWord 97 = .ok (.iload_n 2, 1) := zdec_at bX9_byWord_93 2 rfl
theorem dX9_byWord_98 : decode cX9_byWord 98 = .ok (.ifCond .ne 5, 3) := zdec_at bX9_byWord_93 3 rfl
theorem dX9_byWord_101 : decode cX9_byWord 101 = .ok (.aconst_null, 1) := zdec_at bX9_byWord_93 4 rfl
theorem dX9_byWord_102 : decode cX9_byWord 102 = .ok (.areturn, 1) := zdec_at bX9_byWord_93 5 rfl
theorem dX9_byWord_103 : decode cX9_byWord 103 = .ok (.iload_n 1, 1) := zdec_at bX9_byWord_93 6 rfl
theorem dX9_byWord_104 : decode cX9_byWord 104 = .ok (.ifCond .ne 15, 3) := zdec_at bX9_byWord_93 7 rfl
theorem dX9_byWord_107 : decode cX9_byWord 107 = .ok (.aload_n 0, 1) := zdec_at bX9_byWord_93 8 rfl
theorem dX9_byWord_108 : decode cX9_byWord 108 = .ok (.getfield 102, 3) := zdec_at bX9_byWord_93 9 rfl
theorem dX9_byWord_111 : decode cX9_byWord 111 = .ok (.aload_n 0, 1) := zdec_at bX9_byWord_93 10 rfl
theorem dX9_byWord_112 : decode cX9_byWord 112 = .ok (.getfield 105, 3) := zdec_at bX9_byWord_93 11 rfl
theorem dX9_byWord_115 : decode cX9_byWord 115 = .ok (.iadd, 1) := zdec_at bX9_byWord_93 12 rfl
theorem dX9_byWord_116 : decode cX9_byWord 116 = .ok (.ifCond .eq 31, 3) := zdec_at bX9_byWord_93 13 rfl
theorem dX9_byWord_119 : decode cX9_byWord 119 = .ok (.iload_n 1, 1) := zdec_at bX9_byWord_93 14 rfl
theorem dX9_byWord_120 : decode cX9_byWord 120 = .ok (.iconst 3, 1) := zdec_at bX9_byWord_93 15 rfl
theorem bX9_byWord_121 : zdec cX9_byWord 121 [(121, .if_icmp .ne 10, 3), (124, .aload_n 0, 1), (125, .getfield 102, 3), (128, .ifCond .eq 19, 3), (131, .iload_n 1, 1), (132, .bipush 18, 2), (134, .if_icmp .ne 22, 3), (137, .aload_n 0, 1), (138, .getfield 44, 3), (141, .getfield 86, 3), (144, .ifnonnull 12, 3), (147, .aload_n 0, 1), (148, .getfield 27, 3), (151, .iconst 3, 1), (152, .invokevirtual 35, 3), (155, .athrow, 1)] = true := by decide +kernel
theorem dX9_byWord_121 : decode cX9_byWord 121 = .ok (.if_icmp .ne 10, 3) := zdec_at bX9_byWord_121 0 rfl
theorem dX9_byWord_124 : decode cX9_byWord 124 = .ok (.aload_n 0, 1) := zdec_at bX9_byWord_121 1 rfl
theorem dX9_byWord_125 : decode cX9_byWord 125 = .ok (.getfield 102, 3) := zdec_at bX9_byWord_121 2 rfl
theorem dX9_byWord_128 : decode cX9_byWord 128 = .ok (.ifCond .eq 19, 3) := zdec_at bX9_byWord_121 3 rfl
theorem dX9_byWord_131 : decode cX9_byWord 131 = .ok (.iload_n 1, 1) := zdec_at bX9_byWord_121 4 rfl
theorem dX9_byWord_132 : decode cX9_byWord 132 = .ok (.bipush 18, 2) := zdec_at bX9_byWord_121 5 rfl
theorem dX9_byWord_134 : decode cX9_byWord 134 = .ok (.if_icmp .ne 22, 3) := zdec_at bX9_byWord_121 6 rfl
theorem dX9_byWord_137 : decode cX9_byWord 137 = .ok (.aload_n 0, 1) := zdec_at bX9_byWord_121 7 rfl
theorem dX9_byWord_138 : decode cX9_byWord 138 = .ok (.getfield 44, 3) := zdec_at bX9_byWord_121 8 rfl
theorem dX9_byWord_141 : decode cX9_byWord 141 = .ok (.getfield 86, 3) := zdec_at bX9_byWord_121 9 rfl
theorem dX9_byWord_144 : decode cX9_byWord 144 = .ok (.ifnonnull 12, 3) := zdec_at bX9_byWord_121 10 rfl
theorem dX9_byWord_147 : decode cX9_byWord 147 = .ok (.aload_n 0, 1) := zdec_at bX9_byWord_121 11 rfl
theorem dX9_byWord_148 : decode cX9_byWord 148 = .ok (.getfield 27, 3) := zdec_at bX9_byWord_121 12 rfl
theorem dX9_byWord_151 : decode cX9_byWord 151 = .ok (.iconst 3, 1) := zdec_at bX9_byWord_121 13 rfl
theorem dX9_byWord_152 : decode cX9_byWord 152 = .ok (.invokevirtual 35, 3) := zdec_at bX9_byWord_121 14 rfl
theorem dX9_byWord_155 : decode cX9_byWord 155 = .ok (.athrow, 1) := zdec_at bX9_byWord_121 15 rfl
theorem bX9_byWord_156 : zdec cX9_byWord 156 [(156, .aload_n 0, 1), (157, .invokevirtual 72, 3), (160, .aload_n 0, 1), (161, .getfield 27, 3), (164, .invokevirtual 52, 3), (167, .aload_n 0, 1), (168, .iload_n 1, 1), (169, .invokevirtual 163, 3), (172, .astore_n 3, 1), (173, .aload_n 0, 1), (174, .dup, 1), (175, .getfield 31, 3), (178, .iconst 1, 1), (179, .isub, 1), (180, .putfield 31, 3), (183, .aload_n 3, 1)] = true := by decide +kernel
theorem dX9_byWord_156 : decode cX9_byWord 156 = .ok (.aload_n 0, 1) := zdec_at bX9_byWord_156 0 rfl
theorem dX9_byWord_157 : decode cX9_byWord 157 = .ok (.invokevirtual 72, 3) := zdec_at bX9_byWord_156 1 rfl
theorem dX9_byWord_160 : decode cX9_byWord 160 = .ok (.aload_n 0, 1) := zdec_at bX9_byWord_156 2 rfl
theorem dX9_byWord_161 : decode cX9_byWord 161 = .ok (.getfield 27, 3) := zdec_at bX9_byWord_156 3 rfl
theorem dX9_byWord_164 : decode cX9_byWord 164 = .ok (.invokevirtual 52, 3) := zdec_at bX9_byWord_156 4 rfl
theorem dX9_byWord_167 : decode cX9_byWord 167 = .ok (.aload_n 0, 1) := zdec_at bX9_byWord_156 5 rfl
theorem dX9_byWord_168 : decode cX9_byWord 168 = .ok (.iload_n 1, 1) := zdec_at bX9_byWord_156 6 rfl
theorem dX9_byWord_169 : decode cX9_byWord 169 = .ok (.invokevirtual 163, 3) := zdec_at bX9_byWord_156 7 rfl
theorem dX9_byWord_172 : decode cX9_byWord 172 = .ok (.astore_n 3, 1) := zdec_at bX9_byWord_156 8 rfl
theorem dX9_byWord_173 : decode cX9_byWord 173 = .ok (.aload_n 0, 1) := zdec_at bX9_byWord_156 9 rfl
theorem dX9_byWord_174 : decode cX9_byWord 174 = .ok (.dup, 1) := zdec_at bX9_byWord_156 10 rfl
theorem dX9_byWord_175 : decode cX9_byWord 175 = .ok (.getfield 31, 3) := zdec_at bX9_byWord_156 11 rfl
theorem dX9_byWord_178 : decode cX9_byWord 178 = .ok (.iconst 1, 1) := zdec_at bX9_byWord_156 12 rfl
theorem dX9_byWord_179 : decode cX9_byWord 179 = .ok (.isub, 1) := zdec_at bX9_byWord_156 13 rfl
theorem dX9_byWord_180 : decode cX9_byWord 180 = .ok (.putfield 31, 3) := zdec_at bX9_byWord_156 14 rfl
theorem dX9_byWord_183 : decode cX9_byWord 183 = .ok (.aload_n 3, 1) := zdec_at bX9_byWord_156 15 rfl
theorem bX9_byWord_184 : zdec cX9_byWord 184 [(184, .areturn, 1)] = true := by decide +kernel
theorem dX9_byWord_184 : decode cX9_byWord 184 = .ok (.areturn, 1) := zdec_at bX9_byWord_184 0 rfl
theorem sX9_byWord_0 {E : zE} {d : Nat} {Q : zO → zM → Prop} (M : zM) (a0 : Nat) (k : ∃ b1 : Nat, (gr M a0 1) = some (b1, 9, 0) ∧ (if (gi M b1 6) = 0 then (Z E YX9_byWord (d + 1) M [(0, vr (some (a0, 8, 0))), (1, vi (gi M b1 6)), (2, vi (1 : Int32))] 97 [] Q) else (if (gi M b1 6) = (3 : Int32) then (Z E YX9_byWord (d + 1) M [(0, vr (some (a0, 8, 0))), (1, vi (gi M b1 6)), (2, vi (1 : Int32))] 97 [] Q) else (if (gi M b1 6) = (18 : Int32) then (Z E YX9_byWord (d + 1) M [(0, vr (some (a0, 8, 0))), (1, vi (gi M b1 6)), (2, vi (1 : Int32))] 97 [] Q) else (if (gi M b1 6) = (26 : Int32) then (Z E YX9_byWord (d + 1) M [(0, vr (some (a0, 8, 0))), (1, vi (gi M b1 6)), (2, vi (1 : Int32))] 97 [] Q) else (if (gi M b1 6) = (12 : Int32) then (Z E YX9_byWord (d + 1) M [(0, vr (some (a0, 8, 0))), (1, vi (gi M b1 6)), (2, vi (1 : Int32))] 97 [] Q) else (if (gi M b1 6) = (28 : Int32) then (Z E YX9_byWord (d + 1) M [(0, vr (some (a0, 8, 0))), (1, vi (gi M b1 6)), (2, vi (1 : Int32))] 97 [] Q) else (if (gi M b1 6) = (6 : Int32) then (Z E YX9_byWord (d + 1) M [(0, vr (some (a0, 8, 0))), (1, vi (gi M b1 6)), (2, vi (1 : Int32))] 97 [] Q) else (if (gi M b1 6) = (10 : Int32) then (Z E YX9_byWord (d + 1) M [(0, vr (some (a0, 8, 0))), (1, vi (gi M b1 6)), (2, vi (1 : Int32))] 97 [] Q) else (if (gi M b1 6) = (21 : Int32) then (Z E YX9_byWord (d + 1) M [(0, vr (some (a0, 8, 0))), (1, vi (gi M b1 6)), (2, vi (1 : Int32))] 97 [] Q) else (if (gi M b1 6) = (23 : Int32) then (Z E YX9_byWord (d + 1) M [(0, vr (some (a0, 8, 0))), (1, vi (gi M b1 6)), (2, vi (1 : Int32))] 97 [] Q) else (if (gi M b1 6) = (19 : Int32) then (Z E YX9_byWord (d + 1) M [(0, vr (some (a0, 8, 0))), (1, vi (gi M b1 6)), (2, vi (1 : Int32))] 97 [] Q) else (Z E YX9_beginsByWord d M (zargs 0 [vi (gi M b1 6)]) 0 [] (zafter E YX9_byWord (d + 1) [(0, vr (some (a0, 8, 0))), (1, vi (gi M b1 6)), (2, vi (0 : Int32))] 82 3 [] Q)))))))))))))) : Z E YX9_byWord (d + 1) M [(0, vr (some (a0, 8, 0)))] 0 [] Q := by
  refine z_aload_n dX9_byWord_0 rfl rfl ?_
  refine z_getr (r := (gr M a0 1)) dX9_byWord_1 fsX9_27_8 rfl ?_
  obtain ⟨b1, e1_, k⟩ := k
  refine Z.eqs (lv' := [(0, vr (some (a0, 8, 0)))]) (st' := [vr (some (b1, 9, 0))]) rfl (by rw [e1_] <;> rfl) ?_
  refine z_geti dX9_byWord_4 fsX9_114_9 ?_
  refine z_ist_n dX9_byWord_7 rfl (by decide) (lv' := [(0, vr (some (a0, 8, 0))), (1, vi (gi M b1 6))]) rfl ?_
  refine z_iload_n dX9_byWord_8 rfl rfl ?_
  refine z_if_eq (tgt := 71) dX9_byWord_9 rfl (fun h_ => ?_) (fun h_ => ?_)
  · have k := zit h_ k
    refine z_iconst (v := 1) dX9_byWord_71 rfl ?_
    refine z_goto (tgt := 76) dX9_byWord_72 rfl ?_
    refine z_ist_n dX9_byWord_76 rfl (by decide) (lv' := [(0, vr (some (a0, 8, 0))), (1, vi (gi M b1 6)), (2, vi (1 : Int32))]) rfl ?_
    refine z_iload_n dX9_byWord_77 rfl rfl ?_
    refine z_if_ne (tgt := 97) dX9_byWord_78 rfl (fun _ => ?_) (fun h_ => absurd h_ (by decide))
    exact k
  · have k := zif h_ k
    refine z_iload_n dX9_byWord_12 rfl rfl ?_
    refine z_iconst (v := 3) dX9_byWord_13 rfl ?_
    refine z_icmp_eq (tgt := 71) dX9_byWord_14 rfl (fun h_ => ?_) (fun h_ => ?_)
    · have k := zit h_ k
      refine z_iconst (v := 1) dX9_byWord_71 rfl ?_
      refine z_goto (tgt := 76) dX9_byWord_72 rfl ?_
      refine z_ist_n dX9_byWord_76 rfl (by decide) (lv' := [(0, vr (some (a0, 8, 0))), (1, vi (gi M b1 6)), (2, vi (1 : Int32))]) rfl ?_
      refine z_iload_n dX9_byWord_77 rfl rfl ?_
      refine z_if_ne (tgt := 97) dX9_byWord_78 rfl (fun _ => ?_) (fun h_ => absurd h_ (by decide))
      exact k
    · have k := zif h_ k
      refine z_iload_n dX9_byWord_17 rfl rfl ?_
      refine z_bipush (v := 18) dX9_byWord_18 rfl ?_
      refine z_icmp_eq (tgt := 71) dX9_byWord_20 rfl (fun h_ => ?_) (fun h_ => ?_)
      · have k := zit h_ k
        refine z_iconst (v := 1) dX9_byWord_71 rfl ?_
        refine z_goto (tgt := 76) dX9_byWord_72 rfl ?_
        refine z_ist_n dX9_byWord_76 rfl (by decide) (lv' := [(0, vr (some (a0, 8, 0))), (1, vi (gi M b1 6)), (2, vi (1 : Int32))]) rfl ?_
        refine z_iload_n dX9_byWord_77 rfl rfl ?_
        refine z_if_ne (tgt := 97) dX9_byWord_78 rfl (fun _ => ?_) (fun h_ => absurd h_ (by decide))
        exact k
      · have k := zif h_ k
        refine z_iload_n dX9_byWord_23 rfl rfl ?_
        refine z_bipush (v := 26) dX9_byWord_24 rfl ?_
        refine z_icmp_eq (tgt := 71) dX9_byWord_26 rfl (fun h_ => ?_) (fun h_ => ?_)
        · have k := zit h_ k
          refine z_iconst (v := 1) dX9_byWord_71 rfl ?_
          refine z_goto (tgt := 76) dX9_byWord_72 rfl ?_
          refine z_ist_n dX9_byWord_76 rfl (by decide) (lv' := [(0, vr (some (a0, 8, 0))), (1, vi (gi M b1 6)), (2, vi (1 : Int32))]) rfl ?_
          refine z_iload_n dX9_byWord_77 rfl rfl ?_
          refine z_if_ne (tgt := 97) dX9_byWord_78 rfl (fun _ => ?_) (fun h_ => absurd h_ (by decide))
          exact k
        · have k := zif h_ k
          refine z_iload_n dX9_byWord_29 rfl rfl ?_
          refine z_bipush (v := 12) dX9_byWord_30 rfl ?_
          refine z_icmp_eq (tgt := 71) dX9_byWord_32 rfl (fun h_ => ?_) (fun h_ => ?_)
          · have k := zit h_ k
            refine z_iconst (v := 1) dX9_byWord_71 rfl ?_
            refine z_goto (tgt := 76) dX9_byWord_72 rfl ?_
            refine z_ist_n dX9_byWord_76 rfl (by decide) (lv' := [(0, vr (some (a0, 8, 0))), (1, vi (gi M b1 6)), (2, vi (1 : Int32))]) rfl ?_
            refine z_iload_n dX9_byWord_77 rfl rfl ?_
            refine z_if_ne (tgt := 97) dX9_byWord_78 rfl (fun _ => ?_) (fun h_ => absurd h_ (by decide))
            exact k
          · have k := zif h_ k
            refine z_iload_n dX9_byWord_35 rfl rfl ?_
            refine z_bipush (v := 28) dX9_byWord_36 rfl ?_
            refine z_icmp_eq (tgt := 71) dX9_byWord_38 rfl (fun h_ => ?_) (fun h_ => ?_)
            · have k := zit h_ k
              refine z_iconst (v := 1) dX9_byWord_71 rfl ?_
              refine z_goto (tgt := 76) dX9_byWord_72 rfl ?_
              refine z_ist_n dX9_byWord_76 rfl (by decide) (lv' := [(0, vr (some (a0, 8, 0))), (1, vi (gi M b1 6)), (2, vi (1 : Int32))]) rfl ?_
              refine z_iload_n dX9_byWord_77 rfl rfl ?_
              refine z_if_ne (tgt := 97) dX9_byWord_78 rfl (fun _ => ?_) (fun h_ => absurd h_ (by decide))
              exact k
            · have k := zif h_ k
              refine z_iload_n dX9_byWord_41 rfl rfl ?_
              refine z_bipush (v := 6) dX9_byWord_42 rfl ?_
              refine z_icmp_eq (tgt := 71) dX9_byWord_44 rfl (fun h_ => ?_) (fun h_ => ?_)
              · have k := zit h_ k
                refine z_iconst (v := 1) dX9_byWord_71 rfl ?_
                refine z_goto (tgt := 76) dX9_byWord_72 rfl ?_
                refine z_ist_n dX9_byWord_76 rfl (by decide) (lv' := [(0, vr (some (a0, 8, 0))), (1, vi (gi M b1 6)), (2, vi (1 : Int32))]) rfl ?_
                refine z_iload_n dX9_byWord_77 rfl rfl ?_
                refine z_if_ne (tgt := 97) dX9_byWord_78 rfl (fun _ => ?_) (fun h_ => absurd h_ (by decide))
                exact k
              · have k := zif h_ k
                refine z_iload_n dX9_byWord_47 rfl rfl ?_
                refine z_bipush (v := 10) dX9_byWord_48 rfl ?_
                refine z_icmp_eq (tgt := 71) dX9_byWord_50 rfl (fun h_ => ?_) (fun h_ => ?_)
                · have k := zit h_ k
                  refine z_iconst (v := 1) dX9_byWord_71 rfl ?_
                  refine z_goto (tgt := 76) dX9_byWord_72 rfl ?_
                  refine z_ist_n dX9_byWord_76 rfl (by decide) (lv' := [(0, vr (some (a0, 8, 0))), (1, vi (gi M b1 6)), (2, vi (1 : Int32))]) rfl ?_
                  refine z_iload_n dX9_byWord_77 rfl rfl ?_
                  refine z_if_ne (tgt := 97) dX9_byWord_78 rfl (fun _ => ?_) (fun h_ => absurd h_ (by decide))
                  exact k
                · have k := zif h_ k
                  refine z_iload_n dX9_byWord_53 rfl rfl ?_
                  refine z_bipush (v := 21) dX9_byWord_54 rfl ?_
                  refine z_icmp_eq (tgt := 71) dX9_byWord_56 rfl (fun h_ => ?_) (fun h_ => ?_)
                  · have k := zit h_ k
                    refine z_iconst (v := 1) dX9_byWord_71 rfl ?_
                    refine z_goto (tgt := 76) dX9_byWord_72 rfl ?_
                    refine z_ist_n dX9_byWord_76 rfl (by decide) (lv' := [(0, vr (some (a0, 8, 0))), (1, vi (gi M b1 6)), (2, vi (1 : Int32))]) rfl ?_
                    refine z_iload_n dX9_byWord_77 rfl rfl ?_
                    refine z_if_ne (tgt := 97) dX9_byWord_78 rfl (fun _ => ?_) (fun h_ => absurd h_ (by decide))
                    exact k
                  · have k := zif h_ k
                    refine z_iload_n dX9_byWord_59 rfl rfl ?_
                    refine z_bipush (v := 23) dX9_byWord_60 rfl ?_
                    refine z_icmp_eq (tgt := 71) dX9_byWord_62 rfl (fun h_ => ?_) (fun h_ => ?_)
                    · have k := zit h_ k
                      refine z_iconst (v := 1) dX9_byWord_71 rfl ?_
                      refine z_goto (tgt := 76) dX9_byWord_72 rfl ?_
                      refine z_ist_n dX9_byWord_76 rfl (by decide) (lv' := [(0, vr (some (a0, 8, 0))), (1, vi (gi M b1 6)), (2, vi (1 : Int32))]) rfl ?_
                      refine z_iload_n dX9_byWord_77 rfl rfl ?_
                      refine z_if_ne (tgt := 97) dX9_byWord_78 rfl (fun _ => ?_) (fun h_ => absurd h_ (by decide))
                      exact k
                    · have k := zif h_ k
                      refine z_iload_n dX9_byWord_65 rfl rfl ?_
                      refine z_bipush (v := 19) dX9_byWord_66 rfl ?_
                      refine z_icmp_ne (tgt := 75) dX9_byWord_68 rfl (fun h_ => ?_) (fun h_ => ?_)
                      · have k := zif h_ k
                        refine z_iconst (v := 0) dX9_byWord_75 rfl ?_
                        refine z_ist_n dX9_byWord_76 rfl (by decide) (lv' := [(0, vr (some (a0, 8, 0))), (1, vi (gi M b1 6)), (2, vi (0 : Int32))]) rfl ?_
                        refine z_iload_n dX9_byWord_77 rfl rfl ?_
                        refine z_if_ne (tgt := 97) dX9_byWord_78 rfl (fun h_ => absurd (by decide) h_) (fun _ => ?_)
                        refine z_iload_n dX9_byWord_81 rfl rfl ?_
                        exact z_callS (as := [vi (gi M b1 6)]) (st := []) dX9_byWord_82 ssX9_160 (Nat.le_refl _) (Nat.le_of_ble_eq_true rfl) (Nat.le_of_ble_eq_true rfl) rfl k
                      · have k := zit h_ k
                        refine z_iconst (v := 1) dX9_byWord_71 rfl ?_
                        refine z_goto (tgt := 76) dX9_byWord_72 rfl ?_
                        refine z_ist_n dX9_byWord_76 rfl (by decide) (lv' := [(0, vr (some (a0, 8, 0))), (1, vi (gi M b1 6)), (2, vi (1 : Int32))]) rfl ?_
                        refine z_iload_n dX9_byWord_77 rfl rfl ?_
                        refine z_if_ne (tgt := 97) dX9_byWord_78 rfl (fun _ => ?_) (fun h_ => absurd h_ (by decide))
                        exact k
theorem sX9_byWord_85 {E : zE} {d : Nat} {Q : zO → zM → Prop} (M : zM) (a0 : Nat) (l1 : Int32) (l2 : Int32) (s0 : Int32) (k : if s0 = 0 then (∃ b1 : Nat, (gr M a0 1) = some (b1, 9, 0) ∧ (Z E YX10_fault d M (zargs 0 [vr (some (b1, 9, 0)), vi (2 : Int32)]) 0 [] (zafter E YX9_byWord (d + 1) [] 93 3 [] Q))) else (Z E YX9_byWord (d + 1) M [(0, vr (some (a0, 8, 0))), (1, vi l1), (2, vi l2)] 97 [] Q)) : Z E YX9_byWord (d + 1) M [(0, vr (some (a0, 8, 0))), (1, vi l1), (2, vi l2)] 85 [vi s0] Q := by
  refine z_if_ne (tgt := 97) dX9_byWord_85 rfl (fun h_ => ?_) (fun h_ => ?_)
  · have k := zif h_ k
    exact k
  · have k := zit h_ k
    refine z_aload_n dX9_byWord_88 rfl rfl ?_
    refine z_getr (r := (gr M a0 1)) dX9_byWord_89 fsX9_27_8 rfl ?_
    refine z_iconst (v := 2) dX9_byWord_92 rfl ?_
    obtain ⟨b1, e1_, k⟩ := k
    refine Z.eqs (lv' := [(0, vr (some (a0, 8, 0))), (1, vi l1), (2, vi l2)]) (st' := [vi (2 : Int32), vr (some (b1, 9, 0))]) rfl (by rw [e1_] <;> rfl) ?_
    refine Z.pick [] rfl ?_
    exact z_callV (as := [vi (2 : Int32)]) (st := []) dX9_byWord_93 vsX9_35_9 (Nat.le_refl _) (Nat.le_of_ble_eq_true rfl) (Nat.le_of_ble_eq_true rfl) rfl k
theorem sX9_byWord_96 {E : zE} {d : Nat} {Q : zO → zM → Prop} (M : zM) (u0 : Option zP) (k : ∃ b1 : Nat, u0 = some (b1, 12, 0) ∧ (Q (.inr (b1, 12, 0)) M)) : Z E YX9_byWord (d + 1) M [] 96 [vr u0] Q := by
  obtain ⟨b1, e1_, k⟩ := k
  refine Z.eqs (lv' := []) (st' := [vr (some (b1, 12, 0))]) rfl (by rw [e1_] <;> rfl) ?_
  exact z_athrow dX9_byWord_96 (ZT.out (by decide) k)
theorem sX9_byWord_97 {E : zE} {d : Nat} {Q : zO → zM → Prop} (M : zM) (a0 : Nat) (l1 : Int32) (l2 : Int32) (k : if l2 = 0 then (Q (.inl (some (vr none))) M) else (if l1 = 0 then (if ((gi M a0 5) + (gi M a0 6)) = 0 then (∃ b1 : Nat, (gr M a0 1) = some (b1, 9, 0) ∧ (Z E YX10_fault d M (zargs 0 [vr (some (b1, 9, 0)), vi (3 : Int32)]) 0 [] (zafter E YX9_byWord (d + 1) [] 152 3 [] Q))) else (Z E YX9_byWord (d + 1) M [(0, vr (some (a0, 8, 0))), (1, vi l1)] 119 [] Q)) else (Z E YX9_byWord (d + 1) M [(0, vr (some (a0, 8, 0))), (1, vi l1)] 119 [] Q))) : Z E YX9_byWord (d + 1) M [(0, vr (some (a0, 8, 0))), (1, vi l1), (2, vi l2)] 97 [] Q := by
  refine z_iload_n dX9_byWord_97 rfl rfl ?_
  refine z_if_ne (tgt := 103) dX9_byWord_98 rfl (fun h_ => ?_) (fun h_ => ?_)
  · have k := zif h_ k
    refine z_iload_n dX9_byWord_103 rfl rfl ?_
    refine z_if_ne (tgt := 119) dX9_byWord_104 rfl (fun h_ => ?_) (fun h_ => ?_)
    · have k := zif h_ k
      refine Z.pick [0, 1] rfl ?_
      exact k
    · have k := zit h_ k
      refine z_aload_n dX9_byWord_107 rfl rfl ?_
      refine z_geti dX9_byWord_108 fsX9_102_8 ?_
      refine z_aload_n dX9_byWord_111 rfl rfl ?_
      refine z_geti dX9_byWord_112 fsX9_105_8 ?_
      refine z_iadd dX9_byWord_115 ?_
      refine z_if_eq (tgt := 147) dX9_byWord_116 rfl (fun h_ => ?_) (fun h_ => ?_)
      · have k := zit h_ k
        refine z_aload_n dX9_byWord_147 rfl rfl ?_
        refine z_getr (r := (gr M a0 1)) dX9_byWord_148 fsX9_27_8 rfl ?_
        refine z_iconst (v := 3) dX9_byWord_151 rfl ?_
        obtain ⟨b1, e1_, k⟩ := k
        refine Z.eqs (lv' := [(0, vr (some (a0, 8, 0))), (1, vi l1), (2, vi l2)]) (st' := [vi (3 : Int32), vr (some (b1, 9, 0))]) rfl (by rw [e1_] <;> rfl) ?_
        refine Z.pick [] rfl ?_
        exact z_callV (as := [vi (3 : Int32)]) (st := []) dX9_byWord_152 vsX9_35_9 (Nat.le_refl _) (Nat.le_of_ble_eq_true rfl) (Nat.le_of_ble_eq_true rfl) rfl k
      · have k := zif h_ k
        refine Z.pick [0, 1] rfl ?_
        exact k
  · have k := zit h_ k
    refine z_null dX9_byWord_101 ?_
    exact z_aret dX9_byWord_102 rfl rfl k
theorem sX9_byWord_119 {E : zE} {d : Nat} {Q : zO → zM → Prop} (M : zM) (a0 : Nat) (l1 : Int32) (k : if l1 = (3 : Int32) then (if (gi M a0 5) = 0 then (∃ b1 : Nat, (gr M a0 1) = some (b1, 9, 0) ∧ (Z E YX10_fault d M (zargs 0 [vr (some (b1, 9, 0)), vi (3 : Int32)]) 0 [] (zafter E YX9_byWord (d + 1) [] 152 3 [] Q))) else (Z E YX9_byWord (d + 1) M [(0, vr (some (a0, 8, 0))), (1, vi l1)] 131 [] Q)) else (Z E YX9_byWord (d + 1) M [(0, vr (some (a0, 8, 0))), (1, vi l1)] 131 [] Q)) : Z E YX9_byWord (d + 1) M [(0, vr (some (a0, 8, 0))), (1, vi l1)] 119 [] Q := by
  refine z_iload_n dX9_byWord_119 rfl rfl ?_
  refine z_iconst (v := 3) dX9_byWord_120 rfl ?_
  refine z_icmp_ne (tgt := 131) dX9_byWord_121 rfl (fun h_ => ?_) (fun h_ => ?_)
  · have k := zif h_ k
    exact k
  · have k := zit h_ k
    refine z_aload_n dX9_byWord_124 rfl rfl ?_
    refine z_geti dX9_byWord_125 fsX9_102_8 ?_
    refine z_if_eq (tgt := 147) dX9_byWord_128 rfl (fun h_ => ?_) (fun h_ => ?_)
    · have k := zit h_ k
      refine z_aload_n dX9_byWord_147 rfl rfl ?_
      refine z_getr (r := (gr M a0 1)) dX9_byWord_148 fsX9_27_8 rfl ?_
      refine z_iconst (v := 3) dX9_byWord_151 rfl ?_
      obtain ⟨b1, e1_, k⟩ := k
      refine Z.eqs (lv' := [(0, vr (some (a0, 8, 0))), (1, vi l1)]) (st' := [vi (3 : Int32), vr (some (b1, 9, 0))]) rfl (by rw [e1_] <;> rfl) ?_
      refine Z.pick [] rfl ?_
      exact z_callV (as := [vi (3 : Int32)]) (st := []) dX9_byWord_152 vsX9_35_9 (Nat.le_refl _) (Nat.le_of_ble_eq_true rfl) (Nat.le_of_ble_eq_true rfl) rfl k
    · have k := zif h_ k
      exact k
theorem sX9_byWord_131 {E : zE} {d : Nat} {Q : zO → zM → Prop} (M : zM) (a0 : Nat) (l1 : Int32) (k : if l1 = (18 : Int32) then (∃ b1 : Nat, (gr M a0 3) = some (b1, 10, 0) ∧ (if (gr M b1 1) = none then (∃ b2 : Nat, (gr M a0 1) = some (b2, 9, 0) ∧ (Z E YX10_fault d M (zargs 0 [vr (some (b2, 9, 0)), vi (3 : Int32)]) 0 [] (zafter E YX9_byWord (d + 1) [] 152 3 [] Q))) else (Z E YX9_opens d M (zargs 0 [vr (some (a0, 8, 0))]) 0 [] (zafter E YX9_byWord (d + 1) [(0, vr (some (a0, 8, 0))), (1, vi l1)] 157 3 [] Q)))) else (Z E YX9_opens d M (zargs 0 [vr (some (a0, 8, 0))]) 0 [] (zafter E YX9_byWord (d + 1) [(0, vr (some (a0, 8, 0))), (1, vi l1)] 157 3 [] Q))) : Z E YX9_byWord (d + 1) M [(0, vr (some (a0, 8, 0))), (1, vi l1)] 131 [] Q := by
  refine z_iload_n dX9_byWord_131 rfl rfl ?_
  refine z_bipush (v := 18) dX9_byWord_132 rfl ?_
  refine z_icmp_ne (tgt := 156) dX9_byWord_134 rfl (fun h_ => ?_) (fun h_ => ?_)
  · have k := zif h_ k
    refine z_aload_n dX9_byWord_156 rfl rfl ?_
    exact z_callV (as := []) (st := []) dX9_byWord_157 vsX9_72_8 (Nat.le_refl _) (Nat.le_of_ble_eq_true rfl) (Nat.le_of_ble_eq_true rfl) rfl k
  · have k := zit h_ k
    refine z_aload_n dX9_byWord_137 rfl rfl ?_
    refine z_getr (r := (gr M a0 3)) dX9_byWord_138 fsX9_44_8 rfl ?_
    obtain ⟨b1, e1_, k⟩ := k
    refine Z.eqs (lv' := [(0, vr (some (a0, 8, 0))), (1, vi l1)]) (st' := [vr (some (b1, 10, 0))]) rfl (by rw [e1_] <;> rfl) ?_
    refine z_getr (r := (gr M b1 1)) dX9_byWord_141 fsX9_86_10 rfl ?_
    refine z_ifnonnull (tgt := 156) dX9_byWord_144 rfl (fun h_ => ?_) (fun h_ => ?_)
    · have k := zif h_ k
      refine z_aload_n dX9_byWord_156 rfl rfl ?_
      exact z_callV (as := []) (st := []) dX9_byWord_157 vsX9_72_8 (Nat.le_refl _) (Nat.le_of_ble_eq_true rfl) (Nat.le_of_ble_eq_true rfl) rfl k
    · have k := zit h_ k
      refine z_aload_n dX9_byWord_147 rfl rfl ?_
      refine z_getr (r := (gr M a0 1)) dX9_byWord_148 fsX9_27_8 rfl ?_
      refine z_iconst (v := 3) dX9_byWord_151 rfl ?_
      obtain ⟨b2, e2_, k⟩ := k
      refine Z.eqs (lv' := [(0, vr (some (a0, 8, 0))), (1, vi l1)]) (st' := [vi (3 : Int32), vr (some (b2, 9, 0))]) rfl (by rw [e2_] <;> rfl) ?_
      refine Z.pick [] rfl ?_
      exact z_callV (as := [vi (3 : Int32)]) (st := []) dX9_byWord_152 vsX9_35_9 (Nat.le_refl _) (Nat.le_of_ble_eq_true rfl) (Nat.le_of_ble_eq_true rfl) rfl k
theorem sX9_byWord_155 {E : zE} {d : Nat} {Q : zO → zM → Prop} (M : zM) (u0 : Option zP) (k : ∃ b1 : Nat, u0 = some (b1, 12, 0) ∧ (Q (.inr (b1, 12, 0)) M)) : Z E YX9_byWord (d + 1) M [] 155 [vr u0] Q := by
  obtain ⟨b1, e1_, k⟩ := k
  refine Z.eqs (lv' := []) (st' := [vr (some (b1, 12, 0))]) rfl (by rw [e1_] <;> rfl) ?_
  exact z_athrow dX9_byWord_155 (ZT.out (by decide) k)
theorem sX9_byWord_160 {E : zE} {d : Nat} {Q : zO → zM → Prop} (M : zM) (a0 : Nat) (l1 : Int32) (k : ∃ b1 : Nat, (gr M a0 1) = some (b1, 9, 0) ∧ (Z E YX10_next d M (zargs 0 [vr (some (b1, 9, 0))]) 0 [] (zafter E YX9_byWord (d + 1) [(0, vr (some (a0, 8, 0))), (1, vi l1)] 164 3 [] Q))) : Z E YX9_byWord (d + 1) M [(0, vr (some (a0, 8, 0))), (1, vi l1)] 160 [] Q := by
  refine z_aload_n dX9_byWord_160 rfl rfl ?_
  refine z_getr (r := (gr M a0 1)) dX9_byWord_161 fsX9_27_8 rfl ?_
  obtain ⟨b1, e1_, k⟩ := k
  refine Z.eqs (lv' := [(0, vr (some (a0, 8, 0))), (1, vi l1)]) (st' := [vr (some (b1, 9, 0))]) rfl (by rw [e1_] <;> rfl) ?_
  exact z_callV (as := []) (st := []) dX9_byWord_164 vsX9_52_9 (Nat.le_refl _) (Nat.le_of_ble_eq_true rfl) (Nat.le_of_ble_eq_true rfl) rfl k
theorem sX9_byWord_167 {E : zE} {d : Nat} {Q : zO → zM → Prop} (M : zM) (a0 : Nat) (l1 : Int32) (k : Z E YX9_inner d M (zargs 0 [vr (some (a0, 8, 0)), vi l1]) 0 [] (zafter E YX9_byWord (d + 1) [(0, vr (some (a0, 8, 0)))] 169 3 [] Q)) : Z E YX9_byWord (d + 1) M [(0, vr (some (a0, 8, 0))), (1, vi l1)] 167 [] Q := by
  refine z_aload_n dX9_byWord_167 rfl rfl ?_
  refine z_iload_n dX9_byWord_168 rfl rfl ?_
  refine Z.pick [0] rfl ?_
  exact z_callV (as := [vi l1]) (st := []) dX9_byWord_169 vsX9_163_8 (Nat.le_refl _) (Nat.le_of_ble_eq_true rfl) (Nat.le_of_ble_eq_true rfl) rfl k
theorem sX9_byWord_172 {E : zE} {d : Nat} {Q : zO → zM → Prop} (M : zM) (a0 : Nat) (u0 : Option zP) (k : 16 ≤ a0 ∧ (Q (.inl (some (vr u0))) (si M a0 4 ((gi M a0 4) - (1 : Int32))))) : Z E YX9_byWord (d + 1) M [(0, vr (some (a0, 8, 0)))] 172 [vr u0] Q := by
  refine z_ast_n dX9_byWord_172 rfl (by decide) (lv' := [(0, vr (some (a0, 8, 0))), (3, vr u0)]) rfl ?_
  refine z_aload_n dX9_byWord_173 rfl rfl ?_
  refine z_dup dX9_byWord_174 rfl ?_
  refine z_geti dX9_byWord_175 fsX9_31_8 ?_
  refine z_iconst (v := 1) dX9_byWord_178 rfl ?_
  refine z_isub dX9_byWord_179 ?_
  obtain ⟨g_, k⟩ := k
  refine z_puti g_ dX9_byWord_180 (zfwN.w fwX9_31_8) rfl ⟨rfl, rfl⟩ ?_
  refine z_aload_n dX9_byWord_183 rfl rfl ?_
  exact z_aret dX9_byWord_184 rfl rfl k
/-! ScriptTypes$Parser.beginsByWord(I)Z -/
theorem bX9_beginsByWord_0 : zdec cX9_beginsByWord 0 [(0, .iload_n 0, 1), (1, .iconst 5, 1), (2, .if_icmp .eq 57, 3), (5, .iload_n 0, 1), (6, .bipush 8, 2), (8, .if_icmp .eq 51, 3), (11, .iload_n 0, 1), (12, .bipush 15, 2), (14, .if_icmp .eq 45, 3), (17, .iload_n 0, 1), (18, .bipush 16, 2), (20, .if_icmp .eq 39, 3), (23, .iload_n 0, 1), (24, .bipush 17, 2), (26, .if_icmp .eq 33, 3), (29, .iload_n 0, 1)] = true := by decide +kernel
theorem dX9_beginsByWord_0 : decode cX9_beginsByWord 0 = .ok (.iload_n 0, 1) := zdec_at bX9_beginsByWord_0 0 rfl
theorem dX9_beginsByWord_1 : decode cX9_beginsByWord 1 = .ok (.iconst 5, 1) := zdec_at bX9_beginsByWord_0 1 rfl
theorem dX9_beginsByWord_2 : decode cX9_beginsByWord 2 = .ok (.if_icmp .eq 57, 3) := zdec_at bX9_beginsByWord_0 2 rfl
theorem dX9_beginsByWord_5 : decode cX9_beginsByWord 5 = .ok (.iload_n 0, 1) := zdec_at bX9_beginsByWord_0 3 rfl
theorem dX9_beginsByWord_6 : decode cX9_beginsByWord 6 = .ok (.bipush 8, 2) := zdec_at bX9_beginsByWord_0 4 rfl
theorem dX9_beginsByWord_8 : decode cX9_beginsByWord 8 = .ok (.if_icmp .eq 51, 3) := zdec_at bX9_beginsByWord_0 5 rfl
theorem dX9_beginsByWord_11 : decode cX9_beginsByWord 11 = .ok (.iload_n 0, 1) := zdec_at bX9_beginsByWord_0 6 rfl
theorem dX9_beginsByWord_12 : decode cX9_beginsByWord 12 = .ok (.bipush 15, 2) := zdec_at bX9_beginsByWord_0 7 rfl
theorem dX9_beginsByWord_14 : decode cX9_beginsByWord 14 = .ok (.if_icmp .eq 45, 3) := zdec_at bX9_beginsByWord_0 8 rfl
theorem dX9_beginsByWord_17 : decode cX9_beginsByWord 17 = .ok (.iload_n 0, 1) := zdec_at bX9_beginsByWord_0 9 rfl
theorem dX9_beginsByWord_18 : decode cX9_beginsByWord 18 = .ok (.bipush 16, 2) := zdec_at bX9_beginsByWord_0 10 rfl
theorem dX9_beginsByWord_20 : decode cX9_beginsByWord 20 = .ok (.if_icmp .eq 39, 3) := zdec_at bX9_beginsByWord_0 11 rfl
theorem dX9_beginsByWord_23 : decode cX9_beginsByWord 23 = .ok (.iload_n 0, 1) := zdec_at bX9_beginsByWord_0 12 rfl
theorem dX9_beginsByWord_24 : decode cX9_beginsByWord 24 = .ok (.bipush 17, 2) := zdec_at bX9_beginsByWord_0 13 rfl
theorem dX9_beginsByWord_26 : decode cX9_beginsByWord 26 = .ok (.if_icmp .eq 33, 3) := zdec_at bX9_beginsByWord_0 14 rfl
theorem dX9_beginsByWord_29 : decode cX9_beginsByWord 29 = .ok (.iload_n 0, 1) := zdec_at bX9_beginsByWord_0 15 rfl
theorem bX9_beginsByWord_30 : zdec cX9_beginsByWord 30 [(30, .bipush 20, 2), (32, .if_icmp .eq 27, 3), (35, .iload_n 0, 1), (36, .bipush 22, 2), (38, .if_icmp .eq 21, 3), (41, .iload_n 0, 1), (42, .bipush 24, 2), (44, .if_icmp .eq 15, 3), (47, .iload_n 0, 1), (48, .bipush 25, 2), (50, .if_icmp .eq 9, 3), (53, .iload_n 0, 1), (54, .bipush 27, 2), (56, .if_icmp .ne 7, 3), (59, .iconst 1, 1), (60, .goto 4, 3)] = true := by decide +kernel
theorem dX9_beginsByWord_30 : decode cX9_beginsByWord 30 = .ok (.bipush 20, 2) := zdec_at bX9_beginsByWord_30 0 rfl
theorem dX9_beginsByWord_32 : decode cX9_beginsByWord 32 = .ok (.if_icmp .eq 27, 3) := zdec_at bX9_beginsByWord_30 1 rfl
theorem dX9_beginsByWord_35 : decode cX9_beginsByWord 35 = .ok (.iload_n 0, 1) := zdec_at bX9_beginsByWord_30 2 rfl
theorem dX9_beginsByWord_36 : decode cX9_beginsByWord 36 = .ok (.bipush 22, 2) := zdec_at bX9_beginsByWord_30 3 rfl
theorem dX9_beginsByWord_38 : decode cX9_beginsByWord 38 = .ok (.if_icmp .eq 21, 3) := zdec_at bX9_beginsByWord_30 4 rfl
theorem dX9_beginsByWord_41 : decode cX9_beginsByWord 41 = .ok (.iload_n 0, 1) := zdec_at bX9_beginsByWord_30 5 rfl
theorem dX9_beginsByWord_42 : decode cX9_beginsByWord 42 = .ok (.bipush 24, 2) := zdec_at bX9_beginsByWord_30 6 rfl
theorem dX9_beginsByWord_44 : decode cX9_beginsByWord 44 = .ok (.if_icmp .eq 15, 3) := zdec_at bX9_beginsByWord_30 7 rfl
theorem dX9_beginsByWord_47 : decode cX9_beginsByWord 47 = .ok (.iload_n 0, 1) := zdec_at bX9_beginsByWord_30 8 rfl
theorem dX9_beginsByWord_48 : decode cX9_beginsByWord 48 = .ok (.bipush 25, 2) := zdec_at bX9_beginsByWord_30 9 rfl
theorem dX9_beginsByWord_50 : decode cX9_beginsByWord 50 = .ok (.if_icmp .eq 9, 3) := zdec_at bX9_beginsByWord_30 10 rfl
theorem dX9_beginsByWord_53 : decode cX9_beginsByWord 53 = .ok (.iload_n 0, 1) := zdec_at bX9_beginsByWord_30 11 rfl
theorem dX9_beginsByWord_54 : decode cX9_beginsByWord 54 = .ok (.bipush 27, 2) := zdec_at bX9_beginsByWord_30 12 rfl
theorem dX9_beginsByWord_56 : decode cX9_beginsByWord 56 = .ok (.if_icmp .ne 7, 3) := zdec_at bX9_beginsByWord_30 13 rfl
theorem dX9_beginsByWord_59 : decode cX9_beginsByWord 59 = .ok (.iconst 1, 1) := zdec_at bX9_beginsByWord_30 14 rfl
theorem dX9_beginsByWord_60 : decode cX9_beginsByWord 60 = .ok (.goto 4, 3) := zdec_at bX9_beginsByWord_30 15 rfl
theorem bX9_beginsByWord_63 : zdec cX9_beginsByWord 63 [(63, .iconst 0, 1), (64, .ireturn, 1)] = true := by decide +kernel
theorem dX9_beginsByWord_63 : decode cX9_beginsByWord 63 = .ok (.iconst 0, 1) := zdec_at bX9_beginsByWord_63 0 rfl
theorem dX9_beginsByWord_64 : decode cX9_beginsByWord 64 = .ok (.ireturn, 1) := zdec_at bX9_beginsByWord_63 1 rfl
theorem sX9_beginsByWord_0 {E : zE} {d : Nat} {Q : zO → zM → Prop} (M : zM) (l0 : Int32) (k : if l0 = (5 : Int32) then (Q (.inl (some (vi (1 : Int32)))) M) else (if l0 = (8 : Int32) then (Q (.inl (some (vi (1 : Int32)))) M) else (if l0 = (15 : Int32) then (Q (.inl (some (vi (1 : Int32)))) M) else (if l0 = (16 : Int32) then (Q (.inl (some (vi (1 : Int32)))) M) else (if l0 = (17 : Int32) then (Q (.inl (some (vi (1 : Int32)))) M) else (if l0 = (20 : Int32) then (Q (.inl (some (vi (1 : Int32)))) M) else (if l0 = (22 : Int32) then (Q (.inl (some (vi (1 : Int32)))) M) else (if l0 = (24 : Int32) then (Q (.inl (some (vi (1 : Int32)))) M) else (if l0 = (25 : Int32) then (Q (.inl (some (vi (1 : Int32)))) M) else (if l0 = (27 : Int32) then (Q (.inl (some (vi (1 : Int32)))) M) else (Q (.inl (some (vi (0 : Int32)))) M))))))))))) : Z E YX9_beginsByWord d M [(0, vi l0)] 0 [] Q := by
  refine z_iload_n dX9_beginsByWord_0 rfl rfl ?_
  refine z_iconst (v := 5) dX9_beginsByWord_1 rfl ?_
  refine z_icmp_eq (tgt := 59) dX9_beginsByWord_2 rfl (fun h_ => ?_) (fun h_ => ?_)
  · have k := zit h_ k
    refine z_iconst (v := 1) dX9_beginsByWord_59 rfl ?_
    refine z_goto (tgt := 64) dX9_beginsByWord_60 rfl ?_
    exact z_iret dX9_beginsByWord_64 rfl (by decide) k
  · have k := zif h_ k
    refine z_iload_n dX9_beginsByWord_5 rfl rfl ?_
    refine z_bipush (v := 8) dX9_beginsByWord_6 rfl ?_
    refine z_icmp_eq (tgt := 59) dX9_beginsByWord_8 rfl (fun h_ => ?_) (fun h_ => ?_)
    · have k := zit h_ k
      refine z_iconst (v := 1) dX9_beginsByWord_59 rfl ?_
      refine z_goto (tgt := 64) dX9_beginsByWord_60 rfl ?_
      exact z_iret dX9_beginsByWord_64 rfl (by decide) k
    · have k := zif h_ k
      refine z_iload_n dX9_beginsByWord_11 rfl rfl ?_
      refine z_bipush (v := 15) dX9_beginsByWord_12 rfl ?_
      refine z_icmp_eq (tgt := 59) dX9_beginsByWord_14 rfl (fun h_ => ?_) (fun h_ => ?_)
      · have k := zit h_ k
        refine z_iconst (v := 1) dX9_beginsByWord_59 rfl ?_
        refine z_goto (tgt := 64) dX9_beginsByWord_60 rfl ?_
        exact z_iret dX9_beginsByWord_64 rfl (by decide) k
      · have k := zif h_ k
        refine z_iload_n dX9_beginsByWord_17 rfl rfl ?_
        refine z_bipush (v := 16) dX9_beginsByWord_18 rfl ?_
        refine z_icmp_eq (tgt := 59) dX9_beginsByWord_20 rfl (fun h_ => ?_) (fun h_ => ?_)
        · have k := zit h_ k
          refine z_iconst (v := 1) dX9_beginsByWord_59 rfl ?_
          refine z_goto (tgt := 64) dX9_beginsByWord_60 rfl ?_
          exact z_iret dX9_beginsByWord_64 rfl (by decide) k
        · have k := zif h_ k
          refine z_iload_n dX9_beginsByWord_23 rfl rfl ?_
          refine z_bipush (v := 17) dX9_beginsByWord_24 rfl ?_
          refine z_icmp_eq (tgt := 59) dX9_beginsByWord_26 rfl (fun h_ => ?_) (fun h_ => ?_)
          · have k := zit h_ k
            refine z_iconst (v := 1) dX9_beginsByWord_59 rfl ?_
            refine z_goto (tgt := 64) dX9_beginsByWord_60 rfl ?_
            exact z_iret dX9_beginsByWord_64 rfl (by decide) k
          · have k := zif h_ k
            refine z_iload_n dX9_beginsByWord_29 rfl rfl ?_
            refine z_bipush (v := 20) dX9_beginsByWord_30 rfl ?_
            refine z_icmp_eq (tgt := 59) dX9_beginsByWord_32 rfl (fun h_ => ?_) (fun h_ => ?_)
            · have k := zit h_ k
              refine z_iconst (v := 1) dX9_beginsByWord_59 rfl ?_
              refine z_goto (tgt := 64) dX9_beginsByWord_60 rfl ?_
              exact z_iret dX9_beginsByWord_64 rfl (by decide) k
            · have k := zif h_ k
              refine z_iload_n dX9_beginsByWord_35 rfl rfl ?_
              refine z_bipush (v := 22) dX9_beginsByWord_36 rfl ?_
              refine z_icmp_eq (tgt := 59) dX9_beginsByWord_38 rfl (fun h_ => ?_) (fun h_ => ?_)
              · have k := zit h_ k
                refine z_iconst (v := 1) dX9_beginsByWord_59 rfl ?_
                refine z_goto (tgt := 64) dX9_beginsByWord_60 rfl ?_
                exact z_iret dX9_beginsByWord_64 rfl (by decide) k
              · have k := zif h_ k
                refine z_iload_n dX9_beginsByWord_41 rfl rfl ?_
                refine z_bipush (v := 24) dX9_beginsByWord_42 rfl ?_
                refine z_icmp_eq (tgt := 59) dX9_beginsByWord_44 rfl (fun h_ => ?_) (fun h_ => ?_)
                · have k := zit h_ k
                  refine z_iconst (v := 1) dX9_beginsByWord_59 rfl ?_
                  refine z_goto (tgt := 64) dX9_beginsByWord_60 rfl ?_
                  exact z_iret dX9_beginsByWord_64 rfl (by decide) k
                · have k := zif h_ k
                  refine z_iload_n dX9_beginsByWord_47 rfl rfl ?_
                  refine z_bipush (v := 25) dX9_beginsByWord_48 rfl ?_
                  refine z_icmp_eq (tgt := 59) dX9_beginsByWord_50 rfl (fun h_ => ?_) (fun h_ => ?_)
                  · have k := zit h_ k
                    refine z_iconst (v := 1) dX9_beginsByWord_59 rfl ?_
                    refine z_goto (tgt := 64) dX9_beginsByWord_60 rfl ?_
                    exact z_iret dX9_beginsByWord_64 rfl (by decide) k
                  · have k := zif h_ k
                    refine z_iload_n dX9_beginsByWord_53 rfl rfl ?_
                    refine z_bipush (v := 27) dX9_beginsByWord_54 rfl ?_
                    refine z_icmp_ne (tgt := 63) dX9_beginsByWord_56 rfl (fun h_ => ?_) (fun h_ => ?_)
                    · have k := zif h_ k
                      refine z_iconst (v := 0) dX9_beginsByWord_63 rfl ?_
                      exact z_iret dX9_beginsByWord_64 rfl (by decide) k
                    · have k := zit h_ k
                      refine z_iconst (v := 1) dX9_beginsByWord_59 rfl ?_
                      refine z_goto (tgt := 64) dX9_beginsByWord_60 rfl ?_
                      exact z_iret dX9_beginsByWord_64 rfl (by decide) k
/-! ScriptTypes$Parser.opens()V -/
theorem bX9_opens_0 : zdec cX9_opens 0 [(0, .aload_n 0, 1), (1, .getfield 31, 3), (4, .bipush 20, 2), (6, .if_icmp .lt 12, 3), (9, .aload_n 0, 1), (10, .getfield 27, 3), (13, .iconst 5, 1), (14, .invokevirtual 35, 3), (17, .athrow, 1), (18, .aload_n 0, 1), (19, .dup, 1), (20, .getfield 31, 3), (23, .iconst 1, 1), (24, .iadd, 1), (25, .putfield 31, 3), (28, .return_, 1)] = true := by decide +kernel
theorem dX9_opens_0 : decode cX9_opens 0 = .ok (.aload_n 0, 1) := zdec_at bX9_opens_0 0 rfl
theorem dX9_opens_1 : decode cX9_opens 1 = .ok (.getfield 31, 3) := zdec_at bX9_opens_0 1 rfl
theorem dX9_opens_4 : decode cX9_opens 4 = .ok (.bipush 20, 2) := zdec_at bX9_opens_0 2 rfl
theorem dX9_opens_6 : decode cX9_opens 6 = .ok (.if_icmp .lt 12, 3) := zdec_at bX9_opens_0 3 rfl
theorem dX9_opens_9 : decode cX9_opens 9 = .ok (.aload_n 0, 1) := zdec_at bX9_opens_0 4 rfl
theorem dX9_opens_10 : decode cX9_opens 10 = .ok (.getfield 27, 3) := zdec_at bX9_opens_0 5 rfl
theorem dX9_opens_13 : decode cX9_opens 13 = .ok (.iconst 5, 1) := zdec_at bX9_opens_0 6 rfl
theorem dX9_opens_14 : decode cX9_opens 14 = .ok (.invokevirtual 35, 3) := zdec_at bX9_opens_0 7 rfl
theorem dX9_opens_17 : decode cX9_opens 17 = .ok (.athrow, 1) := zdec_at bX9_opens_0 8 rfl
theorem dX9_opens_18 : decode cX9_opens 18 = .ok (.aload_n 0, 1) := zdec_at bX9_opens_0 9 rfl
theorem dX9_opens_19 : decode cX9_opens 19 = .ok (.dup, 1) := zdec_at bX9_opens_0 10 rfl
theorem dX9_opens_20 : decode cX9_opens 20 = .ok (.getfield 31, 3) := zdec_at bX9_opens_0 11 rfl
theorem dX9_opens_23 : decode cX9_opens 23 = .ok (.iconst 1, 1) := zdec_at bX9_opens_0 12 rfl
theorem dX9_opens_24 : decode cX9_opens 24 = .ok (.iadd, 1) := zdec_at bX9_opens_0 13 rfl
theorem dX9_opens_25 : decode cX9_opens 25 = .ok (.putfield 31, 3) := zdec_at bX9_opens_0 14 rfl
theorem dX9_opens_28 : decode cX9_opens 28 = .ok (.return_, 1) := zdec_at bX9_opens_0 15 rfl
theorem sX9_opens_0 {E : zE} {d : Nat} {Q : zO → zM → Prop} (M : zM) (a0 : Nat) (k : if (gi M a0 4) < (20 : Int32) then (16 ≤ a0 ∧ (Q (.inl none) (si M a0 4 ((gi M a0 4) + (1 : Int32))))) else (∃ b1 : Nat, (gr M a0 1) = some (b1, 9, 0) ∧ (Z E YX10_fault d M (zargs 0 [vr (some (b1, 9, 0)), vi (5 : Int32)]) 0 [] (zafter E YX9_opens (d + 1) [] 14 3 [] Q)))) : Z E YX9_opens (d + 1) M [(0, vr (some (a0, 8, 0)))] 0 [] Q := by
  refine z_aload_n dX9_opens_0 rfl rfl ?_
  refine z_geti dX9_opens_1 fsX9_31_8 ?_
  refine z_bipush (v := 20) dX9_opens_4 rfl ?_
  refine z_icmp_lt (tgt := 18) dX9_opens_6 rfl (fun h_ => ?_) (fun h_ => ?_)
  · have k := zit h_ k
    refine z_aload_n dX9_opens_18 rfl rfl ?_
    refine z_dup dX9_opens_19 rfl ?_
    refine z_geti dX9_opens_20 fsX9_31_8 ?_
    refine z_iconst (v := 1) dX9_opens_23 rfl ?_
    refine z_iadd dX9_opens_24 ?_
    obtain ⟨g_, k⟩ := k
    refine z_puti g_ dX9_opens_25 (zfwN.w fwX9_31_8) rfl ⟨rfl, rfl⟩ ?_
    exact z_vret dX9_opens_28 rfl k
  · have k := zif h_ k
    refine z_aload_n dX9_opens_9 rfl rfl ?_
    refine z_getr (r := (gr M a0 1)) dX9_opens_10 fsX9_27_8 rfl ?_
    refine z_iconst (v := 5) dX9_opens_13 rfl ?_
    obtain ⟨b1, e1_, k⟩ := k
    refine Z.eqs (lv' := [(0, vr (some (a0, 8, 0)))]) (st' := [vi (5 : Int32), vr (some (b1, 9, 0))]) rfl (by rw [e1_] <;> rfl) ?_
    refine Z.pick [] rfl ?_
    exact z_callV (as := [vi (5 : Int32)]) (st := []) dX9_opens_14 vsX9_35_9 (Nat.le_refl _) (Nat.le_of_ble_eq_true rfl) (Nat.le_of_ble_eq_true rfl) rfl k
theorem sX9_opens_17 {E : zE} {d : Nat} {Q : zO → zM → Prop} (M : zM) (u0 : Option zP) (k : ∃ b1 : Nat, u0 = some (b1, 12, 0) ∧ (Q (.inr (b1, 12, 0)) M)) : Z E YX9_opens (d + 1) M [] 17 [vr u0] Q := by
  obtain ⟨b1, e1_, k⟩ := k
  refine Z.eqs (lv' := []) (st' := [vr (some (b1, 12, 0))]) rfl (by rw [e1_] <;> rfl) ?_
  exact z_athrow dX9_opens_17 (ZT.out (by decide) k)
/-! ScriptTypes$Parser.inner(I)LScriptTypes$Node; -/
theorem bX9_inner_0 : zdec cX9_inner 0 [(0, .iload_n 1, 1)] = true := by decide +kernel
theorem dX9_inner_0 : decode cX9_inner 0 = .ok (.iload_n 1, 1) := zdec_at bX9_inner_0 0 rfl
theorem dX9_inner_1 : decode cX9_inner 1 = .ok (.tableswitch 392 0 28 #[251, 392, 392, 251, 392, 392, 204, 392, 392, 392, 246, 392, 143, 392, 392, 392, 392, 392, 273, 392, 392, 349, 392, 387, 392, 392, 131, 392, 183], 131) := by decide +kernel
theorem bX9_inner_132 : zdec cX9_inner 132 [(132, .aload_n 0, 1), (133, .iconst 1, 1), (134, .invokevirtual 167, 3), (137, .astore_n 2, 1), (138, .aload_n 0, 1), (139, .invokevirtual 152, 3), (142, .aload_n 2, 1), (143, .areturn, 1), (144, .aload_n 0, 1), (145, .invokevirtual 170, 3), (148, .astore_n 2, 1), (149, .aload_n 0, 1), (150, .invokevirtual 68, 3), (153, .astore_n 3, 1), (154, .new 173, 3), (157, .dup, 1)] = true := by decide +kernel
theorem dX9_inner_132 : decode cX9_inner 132 = .ok (.aload_n 0, 1) := zdec_at bX9_inner_132 0 rfl
theorem dX9_inner_133 : decode cX9_inner 133 = .ok (.iconst 1, 1) := zdec_at bX9_inner_132 1 rfl
theorem dX9_inner_134 : decode cX9_inner 134 = .ok (.invokevirtual 167, 3) := zdec_at bX9_inner_132 2 rfl
theorem dX9_inner_137 : decode cX9_inner 137 = .ok (.astore_n 2, 1) := zdec_at bX9_inner_132 3 rfl
theorem dX9_inner_138 : decode cX9_inner 138 = .ok (.aload_n 0, 1) := zdec_at bX9_inner_132 4 rfl
theorem dX9_inner_139 : decode cX9_inner 139 = .ok (.invokevirtual 152, 3) := zdec_at bX9_inner_132 5 rfl
theorem dX9_inner_142 : decode cX9_inner 142 = .ok (.aload_n 2, 1) := zdec_at bX9_inner_132 6 rfl
theorem dX9_inner_143 : decode cX9_inner 143 = .ok (.areturn, 1) := zdec_at bX9_inner_132 7 rfl
theorem dX9_inner_144 : decode cX9_inner 144 = .ok (.aload_n 0, 1) := zdec_at bX9_inner_132 8 rfl
theorem dX9_inner_145 : decode cX9_inner 145 = .ok (.invokevirtual 170, 3) := zdec_at bX9_inner_132 9 rfl
theorem dX9_inner_148 : decode cX9_inner 148 = .ok (.astore_n 2, 1) := zdec_at bX9_inner_132 10 rfl
theorem dX9_inner_149 : decode cX9_inner 149 = .ok (.aload_n 0, 1) := zdec_at bX9_inner_132 11 rfl
theorem dX9_inner_150 : decode cX9_inner 150 = .ok (.invokevirtual 68, 3) := zdec_at bX9_inner_132 12 rfl
theorem dX9_inner_153 : decode cX9_inner 153 = .ok (.astore_n 3, 1) := zdec_at bX9_inner_132 13 rfl
theorem dX9_inner_154 : decode cX9_inner 154 = .ok (.new 173, 3) := zdec_at bX9_inner_132 14 rfl
theorem dX9_inner_157 : decode cX9_inner 157 = .ok (.dup, 1) := zdec_at bX9_inner_132 15 rfl
theorem bX9_inner_158 : zdec cX9_inner 158 [(158, .aload_n 2, 1), (159, .aload_n 3, 1), (160, .aload_n 0, 1), (161, .getfield 27, 3), (164, .bipush 7, 2), (166, .invokevirtual 175, 3), (169, .ifCond .eq 10, 3), (172, .aload_n 0, 1), (173, .invokevirtual 68, 3), (176, .goto 4, 3), (179, .aconst_null, 1), (180, .invokespecial 178, 3), (183, .areturn, 1), (184, .aload_n 0, 1), (185, .invokevirtual 170, 3), (188, .astore_n 2, 1)] = true := by decide +kernel
theorem dX9_inner_158 : decode cX9_inner 158 = .ok (.aload_n 2, 1) := zdec_at bX9_inner_158 0 rfl
theorem dX9_inner_159 : decode cX9_inner 159 = .ok (.aload_n 3, 1) := zdec_at bX9_inner_158 1 rfl
theorem dX9_inner_160 : decode cX9_inner 160 = .ok (.aload_n 0, 1) := zdec_at bX9_inner_158 2 rfl
theorem dX9_inner_161 : decode cX9_inner 161 = .ok (.getfield 27, 3) := zdec_at bX9_inner_158 3 rfl
theorem dX9_inner_164 : decode cX9_inner 164 = .ok (.bipush 7, 2) := zdec_at bX9_inner_158 4 rfl
theorem dX9_inner_166 : decode cX9_inner 166 = .ok (.invokevirtual 175, 3) := zdec_at bX9_inner_158 5 rfl
theorem dX9_inner_169 : decode cX9_inner 169 = .ok (.ifCond .eq 10, 3) := zdec_at bX9_inner_158 6 rfl
theorem dX9_inner_172 : decode cX9_inner 172 = .ok (.aload_n 0, 1) := zdec_at bX9_inner_158 7 rfl
theorem dX9_inner_173 : decode cX9_inner 173 = .ok (.invokevirtual 68, 3) := zdec_at bX9_inner_158 8 rfl
theorem dX9_inner_176 : decode cX9_inner 176 = .ok (.goto 4, 3) := zdec_at bX9_inner_158 9 rfl
theorem dX9_inner_179 : decode cX9_inner 179 = .ok (.aconst_null, 1) := zdec_at bX9_inner_158 10 rfl
theorem dX9_inner_180 : decode cX9_inner 180 = .ok (.invokespecial 178, 3) := zdec_at bX9_inner_158 11 rfl
theorem dX9_inner_183 : decode cX9_inner 183 = .ok (.areturn, 1) := zdec_at bX9_inner_158 12 rfl
theorem dX9_inner_184 : decode cX9_inner 184 = .ok (.aload_n 0, 1) := zdec_at bX9_inner_158 13 rfl
theorem dX9_inner_185 : decode cX9_inner 185 = .ok (.invokevirtual 170, 3) := zdec_at bX9_inner_158 14 rfl
theorem dX9_inner_188 : decode cX9_inner 188 = .ok (.astore_n 2, 1) := zdec_at bX9_inner_158 15 rfl
theorem bX9_inner_189 : zdec cX9_inner 189 [(189, .new 181, 3), (192, .dup, 1), (193, .iconst 0, 1), (194, .aconst_null, 1), (195, .aload_n 2, 1), (196, .aconst_null, 1), (197, .aload_n 0, 1), (198, .invokevirtual 183, 3), (201, .invokespecial 186, 3), (204, .areturn, 1), (205, .aload_n 0, 1), (206, .invokevirtual 183, 3), (209, .astore_n 2, 1), (210, .aload_n 0, 1), (211, .getfield 27, 3), (214, .bipush 28, 2)] = true := by decide +kernel
theorem dX9_inner_189 : decode cX9_inner 189 = .ok (.new 181, 3) := zdec_at bX9_inner_189 0 rfl
theorem dX9_inner_192 : decode cX9_inner 192 = .ok (.dup, 1) := zdec_at bX9_inner_189 1 rfl
theorem dX9_inner_193 : decode cX9_inner 193 = .ok (.iconst 0, 1) := zdec_at bX9_inner_189 2 rfl
theorem dX9_inner_194 : decode cX9_inner 194 = .ok (.aconst_null, 1) := zdec_at bX9_inner_189 3 rfl
theorem dX9_inner_195 : decode cX9_inner 195 = .ok (.aload_n 2, 1) := zdec_at bX9_inner_189 4 rfl
theorem dX9_inner_196 : decode cX9_inner 196 = .ok (.aconst_null, 1) := zdec_at bX9_inner_189 5 rfl
theorem dX9_inner_197 : decode cX9_inner 197 = .ok (.aload_n 0, 1) := zdec_at bX9_inner_189 6 rfl
theorem dX9_inner_198 : decode cX9_inner 198 = .ok (.invokevirtual 183, 3) := zdec_at bX9_inner_189 7 rfl
theorem dX9_inner_201 : decode cX9_inner 201 = .ok (.invokespecial 186, 3) := zdec_at bX9_inner_189 8 rfl
theorem dX9_inner_204 : decode cX9_inner 204 = .ok (.areturn, 1) := zdec_at bX9_inner_189 9 rfl
theorem dX9_inner_205 : decode cX9_inner 205 = .ok (.aload_n 0, 1) := zdec_at bX9_inner_189 10 rfl
theorem dX9_inner_206 : decode cX9_inner 206 = .ok (.invokevirtual 183, 3) := zdec_at bX9_inner_189 11 rfl
theorem dX9_inner_209 : decode cX9_inner 209 = .ok (.astore_n 2, 1) := zdec_at bX9_inner_189 12 rfl
theorem dX9_inner_210 : decode cX9_inner 210 = .ok (.aload_n 0, 1) := zdec_at bX9_inner_189 13 rfl
theorem dX9_inner_211 : decode cX9_inner 211 = .ok (.getfield 27, 3) := zdec_at bX9_inner_189 14 rfl
theorem dX9_inner_214 : decode cX9_inner 214 = .ok (.bipush 28, 2) := zdec_at bX9_inner_189 15 rfl
theorem bX9_inner_216 : zdec cX9_inner 216 [(216, .invokevirtual 189, 3), (219, .aload_n 0, 1), (220, .invokevirtual 170, 3), (223, .astore_n 3, 1), (224, .aload_n 0, 1), (225, .getfield 27, 3), (228, .bipush 7, 2), (230, .invokevirtual 137, 3), (233, .pop, 1), (234, .new 181, 3), (237, .dup, 1), (238, .iconst 1, 1), (239, .aconst_null, 1), (240, .aload_n 3, 1), (241, .aconst_null, 1), (242, .aload_n 2, 1)] = true := by decide +kernel
theorem dX9_inner_216 : decode cX9_inner 216 = .ok (.invokevirtual 189, 3) := zdec_at bX9_inner_216 0 rfl
theorem dX9_inner_219 : decode cX9_inner 219 = .ok (.aload_n 0, 1) := zdec_at bX9_inner_216 1 rfl
theorem dX9_inner_220 : decode cX9_inner 220 = .ok (.invokevirtual 170, 3) := zdec_at bX9_inner_216 2 rfl
theorem dX9_inner_223 : decode cX9_inner 223 = .ok (.astore_n 3, 1) := zdec_at bX9_inner_216 3 rfl
theorem dX9_inner_224 : decode cX9_inner 224 = .ok (.aload_n 0, 1) := zdec_at bX9_inner_216 4 rfl
theorem dX9_inner_225 : decode cX9_inner 225 = .ok (.getfield 27, 3) := zdec_at bX9_inner_216 5 rfl
theorem dX9_inner_228 : decode cX9_inner 228 = .ok (.bipush 7, 2) := zdec_at bX9_inner_216 6 rfl
theorem dX9_inner_230 : decode cX9_inner 230 = .ok (.invokevirtual 137, 3) := zdec_at bX9_inner_216 7 rfl
theorem dX9_inner_233 : decode cX9_inner 233 = .ok (.pop, 1) := zdec_at bX9_inner_216 8 rfl
theorem dX9_inner_234 : decode cX9_inner 234 = .ok (.new 181, 3) := zdec_at bX9_inner_216 9 rfl
theorem dX9_inner_237 : decode cX9_inner 237 = .ok (.dup, 1) := zdec_at bX9_inner_216 10 rfl
theorem dX9_inner_238 : decode cX9_inner 238 = .ok (.iconst 1, 1) := zdec_at bX9_inner_216 11 rfl
theorem dX9_inner_239 : decode cX9_inner 239 = .ok (.aconst_null, 1) := zdec_at bX9_inner_216 12 rfl
theorem dX9_inner_240 : decode cX9_inner 240 = .ok (.aload_n 3, 1) := zdec_at bX9_inner_216 13 rfl
theorem dX9_inner_241 : decode cX9_inner 241 = .ok (.aconst_null, 1) := zdec_at bX9_inner_216 14 rfl
theorem dX9_inner_242 : decode cX9_inner 242 = .ok (.aload_n 2, 1) := zdec_at bX9_inner_216 15 rfl
theorem bX9_inner_243 : zdec cX9_inner 243 [(243, .invokespecial 186, 3), (246, .areturn, 1), (247, .aload_n 0, 1), (248, .invokevirtual 192, 3), (251, .areturn, 1), (252, .aload_n 0, 1), (253, .invokevirtual 152, 3), (256, .new 195, 3), (259, .dup, 1), (260, .iload_n 1, 1), (261, .iconst 3, 1), (262, .if_icmp .ne 7, 3), (265, .iconst 1, 1), (266, .goto 4, 3), (269, .iconst 0, 1), (270, .invokespecial 197, 3)] = true := by decide +kernel
theorem dX9_inner_243 : decode cX9_inner 243 = .ok (.invokespecial 186, 3) := zdec_at bX9_inner_243 0 rfl
theorem dX9_inner_246 : decode cX9_inner 246 = .ok (.areturn, 1) := zdec_at bX9_inner_243 1 rfl
theorem dX9_inner_247 : decode cX9_inner 247 = .ok (.aload_n 0, 1) := zdec_at bX9_inner_243 2 rfl
theorem dX9_inner_248 : decode cX9_inner 248 = .ok (.invokevirtual 192, 3) := zdec_at bX9_inner_243 3 rfl
theorem dX9_inner_251 : decode cX9_inner 251 = .ok (.areturn, 1) := zdec_at bX9_inner_243 4 rfl
theorem dX9_inner_252 : decode cX9_inner 252 = .ok (.aload_n 0, 1) := zdec_at bX9_inner_243 5 rfl
theorem dX9_inner_253 : decode cX9_inner 253 = .ok (.invokevirtual 152, 3) := zdec_at bX9_inner_243 6 rfl
theorem dX9_inner_256 : decode cX9_inner 256 = .ok (.new 195, 3) := zdec_at bX9_inner_243 7 rfl
theorem dX9_inner_259 : decode cX9_inner 259 = .ok (.dup, 1) := zdec_at bX9_inner_243 8 rfl
theorem dX9_inner_260 : decode cX9_inner 260 = .ok (.iload_n 1, 1) := zdec_at bX9_inner_243 9 rfl
theorem dX9_inner_261 : decode cX9_inner 261 = .ok (.iconst 3, 1) := zdec_at bX9_inner_243 10 rfl
theorem dX9_inner_262 : decode cX9_inner 262 = .ok (.if_icmp .ne 7, 3) := zdec_at bX9_inner_243 11 rfl
theorem dX9_inner_265 : decode cX9_inner 265 = .ok (.iconst 1, 1) := zdec_at bX9_inner_243 12 rfl
theorem dX9_inner_266 : decode cX9_inner 266 = .ok (.goto 4, 3) := zdec_at bX9_inner_243 13 rfl
theorem dX9_inner_269 : decode cX9_inner 269 = .ok (.iconst 0, 1) := zdec_at bX9_inner_243 14 rfl
theorem dX9_inner_270 : decode cX9_inner 270 = .ok (.invokespecial 197, 3) := zdec_at bX9_inner_243 15 rfl
theorem bX9_inner_273 : zdec cX9_inner 273 [(273, .areturn, 1), (274, .aload_n 0, 1), (275, .getfield 27, 3), (278, .bipush 7, 2), (280, .invokevirtual 111, 3), (283, .ifCond .ne 34, 3), (286, .aload_n 0, 1), (287, .getfield 27, 3), (290, .iconst 1, 1), (291, .invokevirtual 111, 3), (294, .ifCond .ne 23, 3), (297, .aload_n 0, 1), (298, .getfield 27, 3), (301, .getfield 55, 3), (304, .ifCond .eq 13, 3), (307, .aload_n 0, 1)] = true := by decide +kernel
theorem dX9_inner_273 : decode cX9_inner 273 = .ok (.areturn, 1) := zdec_at bX9_inner_273 0 rfl
theorem dX9_inner_274 : decode cX9_inner 274 = .ok (.aload_n 0, 1) := zdec_at bX9_inner_273 1 rfl
theorem dX9_inner_275 : decode cX9_inner 275 = .ok (.getfield 27, 3) := zdec_at bX9_inner_273 2 rfl
theorem dX9_inner_278 : decode cX9_inner 278 = .ok (.bipush 7, 2) := zdec_at bX9_inner_273 3 rfl
theorem dX9_inner_280 : decode cX9_inner 280 = .ok (.invokevirtual 111, 3) := zdec_at bX9_inner_273 4 rfl
theorem dX9_inner_283 : decode cX9_inner 283 = .ok (.ifCond .ne 34, 3) := zdec_at bX9_inner_273 5 rfl
theorem dX9_inner_286 : decode cX9_inner 286 = .ok (.aload_n 0, 1) := zdec_at bX9_inner_273 6 rfl
theorem dX9_inner_287 : decode cX9_inner 287 = .ok (.getfield 27, 3) := zdec_at bX9_inner_273 7 rfl
theorem dX9_inner_290 : decode cX9_inner 290 = .ok (.iconst 1, 1) := zdec_at bX9_inner_273 8 rfl
theorem dX9_inner_291 : decode cX9_inner 291 = .ok (.invokevirtual 111, 3) := zdec_at bX9_inner_273 9 rfl
theorem dX9_inner_294 : decode cX9_inner 294 = .ok (.ifCond .ne 23, 3) := zdec_at bX9_inner_273 10 rfl
theorem dX9_inner_297 : decode cX9_inner 297 = .ok (.aload_n 0, 1) := zdec_at bX9_inner_273 11 rfl
theorem dX9_inner_298 : decode cX9_inner 298 = .ok (.getfield 27, 3) := zdec_at bX9_inner_273 12 rfl
theorem dX9_inner_301 : decode cX9_inner 301 = .ok (.getfield 55, 3) := zdec_at bX9_inner_273 13 rfl
theorem dX9_inner_304 : decode cX9_inner 304 = .ok (.ifCond .eq 13, 3) := zdec_at bX9_inner_273 14 rfl
theorem dX9_inner_307 : decode cX9_inner 307 = .ok (.aload_n 0, 1) := zdec_at bX9_inner_273 15 rfl
theorem bX9_inner_308 : zdec cX9_inner 308 [(308, .getfield 27, 3), (311, .invokevirtual 155, 3), (314, .ifCond .eq 7, 3), (317, .iconst 1, 1), (318, .goto 4, 3), (321, .iconst 0, 1), (322, .istore_n 2, 1), (323, .iload_n 2, 1), (324, .ifCond .eq 7, 3), (327, .aconst_null, 1), (328, .goto 8, 3), (331, .aload_n 0, 1), (332, .iconst 1, 1), (333, .invokevirtual 145, 3), (336, .astore_n 3, 1), (337, .aload_n 0, 1)] = true := by decide +kernel
theorem dX9_inner_308 : decode cX9_inner 308 = .ok (.getfield 27, 3) := zdec_at bX9_inner_308 0 rfl
theorem dX9_inner_311 : decode cX9_inner 311 = .ok (.invokevirtual 155, 3) := zdec_at bX9_inner_308 1 rfl
theorem dX9_inner_314 : decode cX9_inner 314 = .ok (.ifCond .eq 7, 3) := zdec_at bX9_inner_308 2 rfl
theorem dX9_inner_317 : decode cX9_inner 317 = .ok (.iconst 1, 1) := zdec_at bX9_inner_308 3 rfl
theorem dX9_inner_318 : decode cX9_inner 318 = .ok (.goto 4, 3) := zdec_at bX9_inner_308 4 rfl
theorem dX9_inner_321 : decode cX9_inner 321 = .ok (.iconst 0, 1) := zdec_at bX9_inner_308 5 rfl
theorem dX9_inner_322 : decode cX9_inner 322 = .ok (.istore_n 2, 1) := zdec_at bX9_inner_308 6 rfl
theorem dX9_inner_323 : decode cX9_inner 323 = .ok (.iload_n 2, 1) := zdec_at bX9_inner_308 7 rfl
theorem dX9_inner_324 : decode cX9_inner 324 = .ok (.ifCond .eq 7, 3) := zdec_at bX9_inner_308 8 rfl
theorem dX9_inner_327 : decode cX9_inner 327 = .ok (.aconst_null, 1) := zdec_at bX9_inner_308 9 rfl
theorem dX9_inner_328 : decode cX9_inner 328 = .ok (.goto 8, 3) := zdec_at bX9_inner_308 10 rfl
theorem dX9_inner_331 : decode cX9_inner 331 = .ok (.aload_n 0, 1) := zdec_at bX9_inner_308 11 rfl
theorem dX9_inner_332 : decode cX9_inner 332 = .ok (.iconst 1, 1) := zdec_at bX9_inner_308 12 rfl
theorem dX9_inner_333 : decode cX9_inner 333 = .ok (.invokevirtual 145, 3) := zdec_at bX9_inner_308 13 rfl
theorem dX9_inner_336 : decode cX9_inner 336 = .ok (.astore_n 3, 1) := zdec_at bX9_inner_308 14 rfl
theorem dX9_inner_337 : decode cX9_inner 337 = .ok (.aload_n 0, 1) := zdec_at bX9_inner_308 15 rfl
theorem bX9_inner_338 : zdec cX9_inner 338 [(338, .invokevirtual 152, 3), (341, .new 200, 3), (344, .dup, 1), (345, .aload_n 3, 1), (346, .invokespecial 202, 3), (349, .areturn, 1), (350, .aload_n 0, 1), (351, .getfield 27, 3), (354, .invokevirtual 155, 3), (357, .ifCond .eq 12, 3), (360, .aload_n 0, 1), (361, .getfield 27, 3), (364, .iconst 2, 1), (365, .invokevirtual 35, 3), (368, .athrow, 1), (369, .aload_n 0, 1)] = true := by decide +kernel
theorem dX9_inner_338 : decode cX9_inner 338 = .ok (.invokevirtual 152, 3) := zdec_at bX9_inner_338 0 rfl
theorem dX9_inner_341 : decode cX9_inner 341 = .ok (.new 200, 3) := zdec_at bX9_inner_338 1 rfl
theorem dX9_inner_344 : decode cX9_inner 344 = .ok (.dup, 1) := zdec_at bX9_inner_338 2 rfl
theorem dX9_inner_345 : decode cX9_inner 345 = .ok (.aload_n 3, 1) := zdec_at bX9_inner_338 3 rfl
theorem dX9_inner_346 : decode cX9_inner 346 = .ok (.invokespecial 202, 3) := zdec_at bX9_inner_338 4 rfl
theorem dX9_inner_349 : decode cX9_inner 349 = .ok (.areturn, 1) := zdec_at bX9_inner_338 5 rfl
theorem dX9_inner_350 : decode cX9_inner 350 = .ok (.aload_n 0, 1) := zdec_at bX9_inner_338 6 rfl
theorem dX9_inner_351 : decode cX9_inner 351 = .ok (.getfield 27, 3) := zdec_at bX9_inner_338 7 rfl
theorem dX9_inner_354 : decode cX9_inner 354 = .ok (.invokevirtual 155, 3) := zdec_at bX9_inner_338 8 rfl
theorem dX9_inner_357 : decode cX9_inner 357 = .ok (.ifCond .eq 12, 3) := zdec_at bX9_inner_338 9 rfl
theorem dX9_inner_360 : decode cX9_inner 360 = .ok (.aload_n 0, 1) := zdec_at bX9_inner_338 10 rfl
theorem dX9_inner_361 : decode cX9_inner 361 = .ok (.getfield 27, 3) := zdec_at bX9_inner_338 11 rfl
theorem dX9_inner_364 : decode cX9_inner 364 = .ok (.iconst 2, 1) := zdec_at bX9_inner_338 12 rfl
theorem dX9_inner_365 : decode cX9_inner 365 = .ok (.invokevirtual 35, 3) := zdec_at bX9_inner_338 13 rfl
theorem dX9_inner_368 : decode cX9_inner 368 = .ok (.athrow, 1) := zdec_at bX9_inner_338 14 rfl
theorem dX9_inner_369 : decode cX9_inner 369 = .ok (.aload_n 0, 1) := zdec_at bX9_inner_338 15 rfl
theorem bX9_inner_370 : zdec cX9_inner 370 [(370, .iconst 1, 1), (371, .invokevirtual 145, 3), (374, .astore_n 2, 1), (375, .aload_n 0, 1), (376, .invokevirtual 152, 3), (379, .new 203, 3), (382, .dup, 1), (383, .aload_n 2, 1), (384, .invokespecial 205, 3), (387, .areturn, 1), (388, .aload_n 0, 1), (389, .invokevirtual 206, 3), (392, .areturn, 1), (393, .aload_n 0, 1), (394, .invokevirtual 209, 3), (397, .areturn, 1)] = true := by decide +kernel
theorem dX9_inner_370 : decode cX9_inner 370 = .ok (.iconst 1, 1) := zdec_at bX9_inner_370 0 rfl
theorem dX9_inner_371 : decode cX9_inner 371 = .ok (.invokevirtual 145, 3) := zdec_at bX9_inner_370 1 rfl
theorem dX9_inner_374 : decode cX9_inner 374 = .ok (.astore_n 2, 1) := zdec_at bX9_inner_370 2 rfl
theorem dX9_inner_375 : decode cX9_inner 375 = .ok (.aload_n 0, 1) := zdec_at bX9_inner_370 3 rfl
theorem dX9_inner_376 : decode cX9_inner 376 = .ok (.invokevirtual 152, 3) := zdec_at bX9_inner_370 4 rfl
theorem dX9_inner_379 : decode cX9_inner 379 = .ok (.new 203, 3) := zdec_at bX9_inner_370 5 rfl
theorem dX9_inner_382 : decode cX9_inner 382 = .ok (.dup, 1) := zdec_at bX9_inner_370 6 rfl
theorem dX9_inner_383 : decode cX9_inner 383 = .ok (.aload_n 2, 1) := zdec_at bX9_inner_370 7 rfl
theorem dX9_inner_384 : decode cX9_inner 384 = .ok (.invokespecial 205, 3) := zdec_at bX9_inner_370 8 rfl
theorem dX9_inner_387 : decode cX9_inner 387 = .ok (.areturn, 1) := zdec_at bX9_inner_370 9 rfl
theorem dX9_inner_388 : decode cX9_inner 388 = .ok (.aload_n 0, 1) := zdec_at bX9_inner_370 10 rfl
theorem dX9_inner_389 : decode cX9_inner 389 = .ok (.invokevirtual 206, 3) := zdec_at bX9_inner_370 11 rfl
theorem dX9_inner_392 : decode cX9_inner 392 = .ok (.areturn, 1) := zdec_at bX9_inner_370 12 rfl
theorem dX9_inner_393 : decode cX9_inner 393 = .ok (.aload_n 0, 1) := zdec_at bX9_inner_370 13 rfl
theorem dX9_inner_394 : decode cX9_inner 394 = .ok (.invokevirtual 209, 3) := zdec_at bX9_inner_370 14 rfl
theorem dX9_inner_397 : decode cX9_inner 397 = .ok (.areturn, 1) := zdec_at bX9_inner_370 15 rfl
theorem sX9_inner_0 {E : zE} {d : Nat} {Q : zO → zM → Prop} (M : zM) (a0 : Nat) (l1 : Int32) (k : if l1 = 0 then (Z E YX9_semicolon d M (zargs 0 [vr (some (a0, 8, 0))]) 0 [] (zafter E YX9_inner (d + 1) [(1, vi l1)] 253 3 [] Q)) else (if l1 = 1 then (Z E YX9_chosen d M (zargs 0 [vr (some (a0, 8, 0))]) 0 [] (zafter E YX9_inner (d + 1) [] 394 3 [] Q)) else (if l1 = 2 then (Z E YX9_chosen d M (zargs 0 [vr (some (a0, 8, 0))]) 0 [] (zafter E YX9_inner (d + 1) [] 394 3 [] Q)) else (if l1 = 3 then (Z E YX9_semicolon d M (zargs 0 [vr (some (a0, 8, 0))]) 0 [] (zafter E YX9_inner (d + 1) [(1, vi l1)] 253 3 [] Q)) else (if l1 = 4 then (Z E YX9_chosen d M (zargs 0 [vr (some (a0, 8, 0))]) 0 [] (zafter E YX9_inner (d + 1) [] 394 3 [] Q)) else (if l1 = 5 then (Z E YX9_chosen d M (zargs 0 [vr (some (a0, 8, 0))]) 0 [] (zafter E YX9_inner (d + 1) [] 394 3 [] Q)) else (if l1 = 6 then (Z E YX9_looped d M (zargs 0 [vr (some (a0, 8, 0))]) 0 [] (zafter E YX9_inner (d + 1) [(0, vr (some (a0, 8, 0)))] 206 3 [] Q)) else (if l1 = 7 then (Z E YX9_chosen d M (zargs 0 [vr (some (a0, 8, 0))]) 0 [] (zafter E YX9_inner (d + 1) [] 394 3 [] Q)) else (if l1 = 8 then (Z E YX9_chosen d M (zargs 0 [vr (some (a0, 8, 0))]) 0 [] (zafter E YX9_inner (d + 1) [] 394 3 [] Q)) else (if l1 = 9 then (Z E YX9_chosen d M (zargs 0 [vr (some (a0, 8, 0))]) 0 [] (zafter E YX9_inner (d + 1) [] 394 3 [] Q)) else (if l1 = 10 then (Z E YX9_loop d M (zargs 0 [vr (some (a0, 8, 0))]) 0 [] (zafter E YX9_inner (d + 1) [] 248 3 [] Q)) else (if l1 = 11 then (Z E YX9_chosen d M (zargs 0 [vr (some (a0, 8, 0))]) 0 [] (zafter E YX9_inner (d + 1) [] 394 3 [] Q)) else (if l1 = 12 then (Z E YX9_inRound d M (zargs 0 [vr (some (a0, 8, 0))]) 0 [] (zafter E YX9_inner (d + 1) [(0, vr (some (a0, 8, 0)))] 145 3 [] Q)) else (if l1 = 13 then (Z E YX9_chosen d M (zargs 0 [vr (some (a0, 8, 0))]) 0 [] (zafter E YX9_inner (d + 1) [] 394 3 [] Q)) else (if l1 = 14 then (Z E YX9_chosen d M (zargs 0 [vr (some (a0, 8, 0))]) 0 [] (zafter E YX9_inner (d + 1) [] 394 3 [] Q)) else (if l1 = 15 then (Z E YX9_chosen d M (zargs 0 [vr (some (a0, 8, 0))]) 0 [] (zafter E YX9_inner (d + 1) [] 394 3 [] Q)) else (if l1 = 16 then (Z E YX9_chosen d M (zargs 0 [vr (some (a0, 8, 0))]) 0 [] (zafter E YX9_inner (d + 1) [] 394 3 [] Q)) else (if l1 = 17 then (Z E YX9_chosen d M (zargs 0 [vr (some (a0, 8, 0))]) 0 [] (zafter E YX9_inner (d + 1) [] 394 3 [] Q)) else (if l1 = 18 then (∃ b1 : Nat, (gr M a0 1) = some (b1, 9, 0) ∧ (Z E YX10_is d M (zargs 0 [vr (some (b1, 9, 0)), vi (7 : Int32)]) 0 [] (zafter E YX9_inner (d + 1) [(0, vr (some (a0, 8, 0)))] 280 3 [] Q))) else (if l1 = 19 then (Z E YX9_chosen d M (zargs 0 [vr (some (a0, 8, 0))]) 0 [] (zafter E YX9_inner (d + 1) [] 394 3 [] Q)) else (if l1 = 20 then (Z E YX9_chosen d M (zargs 0 [vr (some (a0, 8, 0))]) 0 [] (zafter E YX9_inner (d + 1) [] 394 3 [] Q)) else (if l1 = 21 then (∃ b2 : Nat, (gr M a0 1) = some (b2, 9, 0) ∧ (Z E YX10_onLaterLine d M (zargs 0 [vr (some (b2, 9, 0))]) 0 [] (zafter E YX9_inner (d + 1) [(0, vr (some (a0, 8, 0)))] 354 3 [] Q))) else (if l1 = 22 then (Z E YX9_chosen d M (zargs 0 [vr (some (a0, 8, 0))]) 0 [] (zafter E YX9_inner (d + 1) [] 394 3 [] Q)) else (if l1 = 23 then (Z E YX9_tried d M (zargs 0 [vr (some (a0, 8, 0))]) 0 [] (zafter E YX9_inner (d + 1) [] 389 3 [] Q)) else (if l1 = 24 then (Z E YX9_chosen d M (zargs 0 [vr (some (a0, 8, 0))]) 0 [] (zafter E YX9_inner (d + 1) [] 394 3 [] Q)) else (if l1 = 25 then (Z E YX9_chosen d M (zargs 0 [vr (some (a0, 8, 0))]) 0 [] (zafter E YX9_inner (d + 1) [] 394 3 [] Q)) else (if l1 = 26 then (Z E YX9_variables d M (zargs 0 [vr (some (a0, 8, 0)), vi (1 : Int32)]) 0 [] (zafter E YX9_inner (d + 1) [(0, vr (some (a0, 8, 0)))] 134 3 [] Q)) else (if l1 = 27 then (Z E YX9_chosen d M (zargs 0 [vr (some (a0, 8, 0))]) 0 [] (zafter E YX9_inner (d + 1) [] 394 3 [] Q)) else (if l1 = 28 then (Z E YX9_inRound d M (zargs 0 [vr (some (a0, 8, 0))]) 0 [] (zafter E YX9_inner (d + 1) [(0, vr (some (a0, 8, 0)))] 185 3 [] Q)) else (Z E YX9_chosen d M (zargs 0 [vr (some (a0, 8, 0))]) 0 [] (zafter E YX9_inner (d + 1) [] 394 3 [] Q))))))))))))))))))))))))))))))) : Z E YX9_inner (d + 1) M [(0, vr (some (a0, 8, 0))), (1, vi l1)] 0 [] Q := by
  refine z_iload_n dX9_inner_0 rfl rfl ?_
  by_cases h0_ : l1 = 0
  · have k := zit h0_ k
    refine z_tableIn (off := 251) (tgt := 252) dX9_inner_1 (by rw [h0_]; decide) (by rw [h0_]; decide) (by rw [h0_]; rfl) rfl ?_
    refine z_aload_n dX9_inner_252 rfl rfl ?_
    refine Z.pick [1] rfl ?_
    exact z_callV (as := []) (st := []) dX9_inner_253 vsX9_152_8 (Nat.le_refl _) (Nat.le_of_ble_eq_true rfl) (Nat.le_of_ble_eq_true rfl) rfl k
  · have k := zif h0_ k
    by_cases h1_ : l1 = 1
    · have k := zit h1_ k
      refine z_tableIn (off := 392) (tgt := 393) dX9_inner_1 (by rw [h1_]; decide) (by rw [h1_]; decide) (by rw [h1_]; rfl) rfl ?_
      refine z_aload_n dX9_inner_393 rfl rfl ?_
      refine Z.pick [] rfl ?_
      exact z_callV (as := []) (st := []) dX9_inner_394 vsX9_209_8 (Nat.le_refl _) (Nat.le_of_ble_eq_true rfl) (Nat.le_of_ble_eq_true rfl) rfl k
    · have k := zif h1_ k
      by_cases h2_ : l1 = 2
      · have k := zit h2_ k
        refine z_tableIn (off := 392) (tgt := 393) dX9_inner_1 (by rw [h2_]; decide) (by rw [h2_]; decide) (by rw [h2_]; rfl) rfl ?_
        refine z_aload_n dX9_inner_393 rfl rfl ?_
        refine Z.pick [] rfl ?_
        exact z_callV (as := []) (st := []) dX9_inner_394 vsX9_209_8 (Nat.le_refl _) (Nat.le_of_ble_eq_true rfl) (Nat.le_of_ble_eq_true rfl) rfl k
      · have k := zif h2_ k
        by_cases h3_ : l1 = 3
        · have k := zit h3_ k
          refine z_tableIn (off := 251) (tgt := 252) dX9_inner_1 (by rw [h3_]; decide) (by rw [h3_]; decide) (by rw [h3_]; rfl) rfl ?_
          refine z_aload_n dX9_inner_252 rfl rfl ?_
          refine Z.pick [1] rfl ?_
          exact z_callV (as := []) (st := []) dX9_inner_253 vsX9_152_8 (Nat.le_refl _) (Nat.le_of_ble_eq_true rfl) (Nat.le_of_ble_eq_true rfl) rfl k
        · have k := zif h3_ k
          by_cases h4_ : l1 = 4
          · have k := zit h4_ k
            refine z_tableIn (off := 392) (tgt := 393) dX9_inner_1 (by rw [h4_]; decide) (by rw [h4_]; decide) (by rw [h4_]; rfl) rfl ?_
            refine z_aload_n dX9_inner_393 rfl rfl ?_
            refine Z.pick [] rfl ?_
            exact z_callV (as := []) (st := []) dX9_inner_394 vsX9_209_8 (Nat.le_refl _) (Nat.le_of_ble_eq_true rfl) (Nat.le_of_ble_eq_true rfl) rfl k
          · have k := zif h4_ k
            by_cases h5_ : l1 = 5
            · have k := zit h5_ k
              refine z_tableIn (off := 392) (tgt := 393) dX9_inner_1 (by rw [h5_]; decide) (by rw [h5_]; decide) (by rw [h5_]; rfl) rfl ?_
              refine z_aload_n dX9_inner_393 rfl rfl ?_
              refine Z.pick [] rfl ?_
              exact z_callV (as := []) (st := []) dX9_inner_394 vsX9_209_8 (Nat.le_refl _) (Nat.le_of_ble_eq_true rfl) (Nat.le_of_ble_eq_true rfl) rfl k
            · have k := zif h5_ k
              by_cases h6_ : l1 = 6
              · have k := zit h6_ k
                refine z_tableIn (off := 204) (tgt := 205) dX9_inner_1 (by rw [h6_]; decide) (by rw [h6_]; decide) (by rw [h6_]; rfl) rfl ?_
                refine z_aload_n dX9_inner_205 rfl rfl ?_
                refine Z.pick [0] rfl ?_
                exact z_callV (as := []) (st := []) dX9_inner_206 vsX9_183_8 (Nat.le_refl _) (Nat.le_of_ble_eq_true rfl) (Nat.le_of_ble_eq_true rfl) rfl k
              · have k := zif h6_ k
                by_cases h7_ : l1 = 7
                · have k := zit h7_ k
                  refine z_tableIn (off := 392) (tgt := 393) dX9_inner_1 (by rw [h7_]; decide) (by rw [h7_]; decide) (by rw [h7_]; rfl) rfl ?_
                  refine z_aload_n dX9_inner_393 rfl rfl ?_
                  refine Z.pick [] rfl ?_
                  exact z_callV (as := []) (st := []) dX9_inner_394 vsX9_209_8 (Nat.le_refl _) (Nat.le_of_ble_eq_true rfl) (Nat.le_of_ble_eq_true rfl) rfl k
                · have k := zif h7_ k
                  by_cases h8_ : l1 = 8
                  · have k := zit h8_ k
                    refine z_tableIn (off := 392) (tgt := 393) dX9_inner_1 (by rw [h8_]; decide) (by rw [h8_]; decide) (by rw [h8_]; rfl) rfl ?_
                    refine z_aload_n dX9_inner_393 rfl rfl ?_
                    refine Z.pick [] rfl ?_
                    exact z_callV (as := []) (st := []) dX9_inner_394 vsX9_209_8 (Nat.le_refl _) (Nat.le_of_ble_eq_true rfl) (Nat.le_of_ble_eq_true rfl) rfl k
                  · have k := zif h8_ k
                    by_cases h9_ : l1 = 9
                    · have k := zit h9_ k
                      refine z_tableIn (off := 392) (tgt := 393) dX9_inner_1 (by rw [h9_]; decide) (by rw [h9_]; decide) (by rw [h9_]; rfl) rfl ?_
                      refine z_aload_n dX9_inner_393 rfl rfl ?_
                      refine Z.pick [] rfl ?_
                      exact z_callV (as := []) (st := []) dX9_inner_394 vsX9_209_8 (Nat.le_refl _) (Nat.le_of_ble_eq_true rfl) (Nat.le_of_ble_eq_true rfl) rfl k
                    · have k := zif h9_ k
                      by_cases h10_ : l1 = 10
                      · have k := zit h10_ k
                        refine z_tableIn (off := 246) (tgt := 247) dX9_inner_1 (by rw [h10_]; decide) (by rw [h10_]; decide) (by rw [h10_]; rfl) rfl ?_
                        refine z_aload_n dX9_inner_247 rfl rfl ?_
                        refine Z.pick [] rfl ?_
                        exact z_callV (as := []) (st := []) dX9_inner_248 vsX9_192_8 (Nat.le_refl _) (Nat.le_of_ble_eq_true rfl) (Nat.le_of_ble_eq_true rfl) rfl k
                      · have k := zif h10_ k
                        by_cases h11_ : l1 = 11
                        · have k := zit h11_ k
                          refine z_tableIn (off := 392) (tgt := 393) dX9_inner_1 (by rw [h11_]; decide) (by rw [h11_]; decide) (by rw [h11_]; rfl) rfl ?_
                          refine z_aload_n dX9_inner_393 rfl rfl ?_
                          refine Z.pick [] rfl ?_
                          exact z_callV (as := []) (st := []) dX9_inner_394 vsX9_209_8 (Nat.le_refl _) (Nat.le_of_ble_eq_true rfl) (Nat.le_of_ble_eq_true rfl) rfl k
                        · have k := zif h11_ k
                          by_cases h12_ : l1 = 12
                          · have k := zit h12_ k
                            refine z_tableIn (off := 143) (tgt := 144) dX9_inner_1 (by rw [h12_]; decide) (by rw [h12_]; decide) (by rw [h12_]; rfl) rfl ?_
                            refine z_aload_n dX9_inner_144 rfl rfl ?_
                            refine Z.pick [0] rfl ?_
                            exact z_callV (as := []) (st := []) dX9_inner_145 vsX9_170_8 (Nat.le_refl _) (Nat.le_of_ble_eq_true rfl) (Nat.le_of_ble_eq_true rfl) rfl k
                          · have k := zif h12_ k
                            by_cases h13_ : l1 = 13
                            · have k := zit h13_ k
                              refine z_tableIn (off := 392) (tgt := 393) dX9_inner_1 (by rw [h13_]; decide) (by rw [h13_]; decide) (by rw [h13_]; rfl) rfl ?_
                              refine z_aload_n dX9_inner_393 rfl rfl ?_
                              refine Z.pick [] rfl ?_
                              exact z_callV (as := []) (st := []) dX9_inner_394 vsX9_209_8 (Nat.le_refl _) (Nat.le_of_ble_eq_true rfl) (Nat.le_of_ble_eq_true rfl) rfl k
                            · have k := zif h13_ k
                              by_cases h14_ : l1 = 14
                              · have k := zit h14_ k
                                refine z_tableIn (off := 392) (tgt := 393) dX9_inner_1 (by rw [h14_]; decide) (by rw [h14_]; decide) (by rw [h14_]; rfl) rfl ?_
                                refine z_aload_n dX9_inner_393 rfl rfl ?_
                                refine Z.pick [] rfl ?_
                                exact z_callV (as := []) (st := []) dX9_inner_394 vsX9_209_8 (Nat.le_refl _) (Nat.le_of_ble_eq_true rfl) (Nat.le_of_ble_eq_true rfl) rfl k
                              · have k := zif h14_ k
                                by_cases h15_ : l1 = 15
                                · have k := zit h15_ k
                                  refine z_tableIn (off := 392) (tgt := 393) dX9_inner_1 (by rw [h15_]; decide) (by rw [h15_]; decide) (by rw [h15_]; rfl) rfl ?_
                                  refine z_aload_n dX9_inner_393 rfl rfl ?_
                                  refine Z.pick [] rfl ?_
                                  exact z_callV (as := []) (st := []) dX9_inner_394 vsX9_209_8 (Nat.le_refl _) (Nat.le_of_ble_eq_true rfl) (Nat.le_of_ble_eq_true rfl) rfl k
                                · have k := zif h15_ k
                                  by_cases h16_ : l1 = 16
                                  · have k := zit h16_ k
                                    refine z_tableIn (off := 392) (tgt := 393) dX9_inner_1 (by rw [h16_]; decide) (by rw [h16_]; decide) (by rw [h16_]; rfl) rfl ?_
                                    refine z_aload_n dX9_inner_393 rfl rfl ?_
                                    refine Z.pick [] rfl ?_
                                    exact z_callV (as := []) (st := []) dX9_inner_394 vsX9_209_8 (Nat.le_refl _) (Nat.le_of_ble_eq_true rfl) (Nat.le_of_ble_eq_true rfl) rfl k
                                  · have k := zif h16_ k
                                    by_cases h17_ : l1 = 17
                                    · have k := zit h17_ k
                                      refine z_tableIn (off := 392) (tgt := 393) dX9_inner_1 (by rw [h17_]; decide) (by rw [h17_]; decide) (by rw [h17_]; rfl) rfl ?_
                                      refine z_aload_n dX9_inner_393 rfl rfl ?_
                                      refine Z.pick [] rfl ?_
                                      exact z_callV (as := []) (st := []) dX9_inner_394 vsX9_209_8 (Nat.le_refl _) (Nat.le_of_ble_eq_true rfl) (Nat.le_of_ble_eq_true rfl) rfl k
                                    · have k := zif h17_ k
                                      by_cases h18_ : l1 = 18
                                      · have k := zit h18_ k
                                        refine z_tableIn (off := 273) (tgt := 274) dX9_inner_1 (by rw [h18_]; decide) (by rw [h18_]; decide) (by rw [h18_]; rfl) rfl ?_
                                        refine z_aload_n dX9_inner_274 rfl rfl ?_
                                        refine z_getr (r := (gr M a0 1)) dX9_inner_275 fsX9_27_8 rfl ?_
                                        refine z_bipush (v := 7) dX9_inner_278 rfl ?_
                                        obtain ⟨b1, e1_, k⟩ := k
                                        refine Z.eqs (lv' := [(0, vr (some (a0, 8, 0))), (1, vi l1)]) (st' := [vi (7 : Int32), vr (some (b1, 9, 0))]) rfl (by rw [e1_] <;> rfl) ?_
                                        refine Z.pick [0] rfl ?_
                                        exact z_callV (as := [vi (7 : Int32)]) (st := []) dX9_inner_280 vsX9_111_9 (Nat.le_refl _) (Nat.le_of_ble_eq_true rfl) (Nat.le_of_ble_eq_true rfl) rfl k
                                      · have k := zif h18_ k
                                        by_cases h19_ : l1 = 19
                                        · have k := zit h19_ k
                                          refine z_tableIn (off := 392) (tgt := 393) dX9_inner_1 (by rw [h19_]; decide) (by rw [h19_]; decide) (by rw [h19_]; rfl) rfl ?_
                                          refine z_aload_n dX9_inner_393 rfl rfl ?_
                                          refine Z.pick [] rfl ?_
                                          exact z_callV (as := []) (st := []) dX9_inner_394 vsX9_209_8 (Nat.le_refl _) (Nat.le_of_ble_eq_true rfl) (Nat.le_of_ble_eq_true rfl) rfl k
                                        · have k := zif h19_ k
                                          by_cases h20_ : l1 = 20
                                          · have k := zit h20_ k
                                            refine z_tableIn (off := 392) (tgt := 393) dX9_inner_1 (by rw [h20_]; decide) (by rw [h20_]; decide) (by rw [h20_]; rfl) rfl ?_
                                            refine z_aload_n dX9_inner_393 rfl rfl ?_
                                            refine Z.pick [] rfl ?_
                                            exact z_callV (as := []) (st := []) dX9_inner_394 vsX9_209_8 (Nat.le_refl _) (Nat.le_of_ble_eq_true rfl) (Nat.le_of_ble_eq_true rfl) rfl k
                                          · have k := zif h20_ k
                                            by_cases h21_ : l1 = 21
                                            · have k := zit h21_ k
                                              refine z_tableIn (off := 349) (tgt := 350) dX9_inner_1 (by rw [h21_]; decide) (by rw [h21_]; decide) (by rw [h21_]; rfl) rfl ?_
                                              refine z_aload_n dX9_inner_350 rfl rfl ?_
                                              refine z_getr (r := (gr M a0 1)) dX9_inner_351 fsX9_27_8 rfl ?_
                                              obtain ⟨b2, e2_, k⟩ := k
                                              refine Z.eqs (lv' := [(0, vr (some (a0, 8, 0))), (1, vi l1)]) (st' := [vr (some (b2, 9, 0))]) rfl (by rw [e2_] <;> rfl) ?_
                                              refine Z.pick [0] rfl ?_
                                              exact z_callV (as := []) (st := []) dX9_inner_354 vsX9_155_9 (Nat.le_refl _) (Nat.le_of_ble_eq_true rfl) (Nat.le_of_ble_eq_true rfl) rfl k
                                            · have k := zif h21_ k
                                              by_cases h22_ : l1 = 22
                                              · have k := zit h22_ k
                                                refine z_tableIn (off := 392) (tgt := 393) dX9_inner_1 (by rw [h22_]; decide) (by rw [h22_]; decide) (by rw [h22_]; rfl) rfl ?_
                                                refine z_aload_n dX9_inner_393 rfl rfl ?_
                                                refine Z.pick [] rfl ?_
                                                exact z_callV (as := []) (st := []) dX9_inner_394 vsX9_209_8 (Nat.le_refl _) (Nat.le_of_ble_eq_true rfl) (Nat.le_of_ble_eq_true rfl) rfl k
                                              · have k := zif h22_ k
                                                by_cases h23_ : l1 = 23
                                                · have k := zit h23_ k
                                                  refine z_tableIn (off := 387) (tgt := 388) dX9_inner_1 (by rw [h23_]; decide) (by rw [h23_]; decide) (by rw [h23_]; rfl) rfl ?_
                                                  refine z_aload_n dX9_inner_388 rfl rfl ?_
                                                  refine Z.pick [] rfl ?_
                                                  exact z_callV (as := []) (st := []) dX9_inner_389 vsX9_206_8 (Nat.le_refl _) (Nat.le_of_ble_eq_true rfl) (Nat.le_of_ble_eq_true rfl) rfl k
                                                · have k := zif h23_ k
                                                  by_cases h24_ : l1 = 24
                                                  · have k := zit h24_ k
                                                    refine z_tableIn (off := 392) (tgt := 393) dX9_inner_1 (by rw [h24_]; decide) (by rw [h24_]; decide) (by rw [h24_]; rfl) rfl ?_
                                                    refine z_aload_n dX9_inner_393 rfl rfl ?_
                                                    refine Z.pick [] rfl ?_
                                                    exact z_callV (as := []) (st := []) dX9_inner_394 vsX9_209_8 (Nat.le_refl _) (Nat.le_of_ble_eq_true rfl) (Nat.le_of_ble_eq_true rfl) rfl k
                                                  · have k := zif h24_ k
                                                    by_cases h25_ : l1 = 25
                                                    · have k := zit h25_ k
                                                      refine z_tableIn (off := 392) (tgt := 393) dX9_inner_1 (by rw [h25_]; decide) (by rw [h25_]; decide) (by rw [h25_]; rfl) rfl ?_
                                                      refine z_aload_n dX9_inner_393 rfl rfl ?_
                                                      refine Z.pick [] rfl ?_
                                                      exact z_callV (as := []) (st := []) dX9_inner_394 vsX9_209_8 (Nat.le_refl _) (Nat.le_of_ble_eq_true rfl) (Nat.le_of_ble_eq_true rfl) rfl k
                                                    · have k := zif h25_ k
                                                      by_cases h26_ : l1 = 26
                                                      · have k := zit h26_ k
                                                        refine z_tableIn (off := 131) (tgt := 132) dX9_inner_1 (by rw [h26_]; decide) (by rw [h26_]; decide) (by rw [h26_]; rfl) rfl ?_
                                                        refine z_aload_n dX9_inner_132 rfl rfl ?_
                                                        refine z_iconst (v := 1) dX9_inner_133 rfl ?_
                                                        refine Z.pick [0] rfl ?_
                                                        exact z_callV (as := [vi (1 : Int32)]) (st := []) dX9_inner_134 vsX9_167_8 (Nat.le_refl _) (Nat.le_of_ble_eq_true rfl) (Nat.le_of_ble_eq_true rfl) rfl k
                                                      · have k := zif h26_ k
                                                        by_cases h27_ : l1 = 27
                                                        · have k := zit h27_ k
                                                          refine z_tableIn (off := 392) (tgt := 393) dX9_inner_1 (by rw [h27_]; decide) (by rw [h27_]; decide) (by rw [h27_]; rfl) rfl ?_
                                                          refine z_aload_n dX9_inner_393 rfl rfl ?_
                                                          refine Z.pick [] rfl ?_
                                                          exact z_callV (as := []) (st := []) dX9_inner_394 vsX9_209_8 (Nat.le_refl _) (Nat.le_of_ble_eq_true rfl) (Nat.le_of_ble_eq_true rfl) rfl k
                                                        · have k := zif h27_ k
                                                          by_cases h28_ : l1 = 28
                                                          · have k := zit h28_ k
                                                            refine z_tableIn (off := 183) (tgt := 184) dX9_inner_1 (by rw [h28_]; decide) (by rw [h28_]; decide) (by rw [h28_]; rfl) rfl ?_
                                                            refine z_aload_n dX9_inner_184 rfl rfl ?_
                                                            refine Z.pick [0] rfl ?_
                                                            exact z_callV (as := []) (st := []) dX9_inner_185 vsX9_170_8 (Nat.le_refl _) (Nat.le_of_ble_eq_true rfl) (Nat.le_of_ble_eq_true rfl) rfl k
                                                          · have k := zif h28_ k
                                                            refine z_tout (tgt := 393) [0, 1, 2, 3, 4, 5, 6, 7, 8, 9, 10, 11, 12, 13, 14, 15, 16, 17, 18, 19, 20, 21, 22, 23, 24, 25, 26, 27, 28] (by decide) dX9_inner_1 (zall_1 h0_ (zall_1 h1_ (zall_1 h2_ (zall_1 h3_ (zall_1 h4_ (zall_1 h5_ (zall_1 h6_ (zall_1 h7_ (zall_1 h8_ (zall_1 h9_ (zall_1 h10_ (zall_1 h11_ (zall_1 h12_ (zall_1 h13_ (zall_1 h14_ (zall_1 h15_ (zall_1 h16_ (zall_1 h17_ (zall_1 h18_ (zall_1 h19_ (zall_1 h20_ (zall_1 h21_ (zall_1 h22_ (zall_1 h23_ (zall_1 h24_ (zall_1 h25_ (zall_1 h26_ (zall_1 h27_ (zall_1 h28_ zall_0))))))))))))))))))))))))))))) rfl ?_
                                                            refine z_aload_n dX9_inner_393 rfl rfl ?_
                                                            refine Z.pick [] rfl ?_
                                                            exact z_callV (as := []) (st := []) dX9_inner_394 vsX9_209_8 (Nat.le_refl _) (Nat.le_of_ble_eq_true rfl) (Nat.le_of_ble_eq_true rfl) rfl k
theorem sX9_inner_137 {E : zE} {d : Nat} {Q : zO → zM → Prop} (M : zM) (a0 : Nat) (u0 : Option zP) (k : Z E YX9_semicolon d M (zargs 0 [vr (some (a0, 8, 0))]) 0 [] (zafter E YX9_inner (d + 1) [(2, vr u0)] 139 3 [] Q)) : Z E YX9_inner (d + 1) M [(0, vr (some (a0, 8, 0)))] 137 [vr u0] Q := by
  refine z_ast_n dX9_inner_137 rfl (by decide) (lv' := [(0, vr (some (a0, 8, 0))), (2, vr u0)]) rfl ?_
  refine z_aload_n dX9_inner_138 rfl rfl ?_
  refine Z.pick [1] rfl ?_
  exact z_callV (as := []) (st := []) dX9_inner_139 vsX9_152_8 (Nat.le_refl _) (Nat.le_of_ble_eq_true rfl) (Nat.le_of_ble_eq_true rfl) rfl k
theorem sX9_inner_142 {E : zE} {d : Nat} {Q : zO → zM → Prop} (M : zM) (r2 : Option zP) (k : Q (.inl (some (vr r2))) M) : Z E YX9_inner (d + 1) M [(2, vr r2)] 142 [] Q := by
  refine z_aload_n dX9_inner_142 rfl rfl ?_
  exact z_aret dX9_inner_143 rfl rfl k
theorem sX9_inner_148 {E : zE} {d : Nat} {Q : zO → zM → Prop} (M : zM) (a0 : Nat) (u0 : Option zP) (k : Z E YX9_statement d M (zargs 0 [vr (some (a0, 8, 0))]) 0 [] (zafter E YX9_inner (d + 1) [(0, vr (some (a0, 8, 0))), (2, vr u0)] 150 3 [] Q)) : Z E YX9_inner (d + 1) M [(0, vr (some (a0, 8, 0)))] 148 [vr u0] Q := by
  refine z_ast_n dX9_inner_148 rfl (by decide) (lv' := [(0, vr (some (a0, 8, 0))), (2, vr u0)]) rfl ?_
  refine z_aload_n dX9_inner_149 rfl rfl ?_
  exact z_callV (as := []) (st := []) dX9_inner_150 vsX9_68_8 (Nat.le_refl _) (Nat.le_of_ble_eq_true rfl) (Nat.le_of_ble_eq_true rfl) rfl k
theorem sX9_inner_153 {E : zE} {d : Nat} {Q : zO → zM → Prop} (M : zM) (a0 : Nat) (r2 : Option zP) (u0 : Option zP) (k : Z E YX9_inner (d + 1) (zn M 3) [(0, vr (some (a0, 8, 0))), (2, vr r2), (3, vr u0)] 157 [vr (some ((zsz M), 37, 0))] Q) : Z E YX9_inner (d + 1) M [(0, vr (some (a0, 8, 0))), (2, vr r2)] 153 [vr u0] Q := by
  refine z_ast_n dX9_inner_153 rfl (by decide) (lv' := [(0, vr (some (a0, 8, 0))), (2, vr r2), (3, vr u0)]) rfl ?_
  refine z_new dX9_inner_154 csX9_173 zff_37 ?_
  exact k
theorem sX9_inner_157 {E : zE} {d : Nat} {Q : zO → zM → Prop} (M : zM) (a0 : Nat) (r2 : Option zP) (r3 : Option zP) (p0 : Nat) (k : ∃ b1 : Nat, (gr M a0 1) = some (b1, 9, 0) ∧ (Z E YX10_takesWord d M (zargs 0 [vr (some (b1, 9, 0)), vi (7 : Int32)]) 0 [] (zafter E YX9_inner (d + 1) [(0, vr (some (a0, 8, 0)))] 166 3 [vr r3, vr r2, vr (some (p0, 37, 0)), vr (some (p0, 37, 0))] Q))) : Z E YX9_inner (d + 1) M [(0, vr (some (a0, 8, 0))), (2, vr r2), (3, vr r3)] 157 [vr (some (p0, 37, 0))] Q := by
  refine z_dup dX9_inner_157 rfl ?_
  refine z_aload_n dX9_inner_158 rfl rfl ?_
  refine z_aload_n dX9_inner_159 rfl rfl ?_
  refine z_aload_n dX9_inner_160 rfl rfl ?_
  refine z_getr (r := (gr M a0 1)) dX9_inner_161 fsX9_27_8 rfl ?_
  refine z_bipush (v := 7) dX9_inner_164 rfl ?_
  obtain ⟨b1, e1_, k⟩ := k
  refine Z.eqs (lv' := [(0, vr (some (a0, 8, 0))), (2, vr r2), (3, vr r3)]) (st' := [vi (7 : Int32), vr (some (b1, 9, 0)), vr r3, vr r2, vr (some (p0, 37, 0)), vr (some (p0, 37, 0))]) rfl (by rw [e1_] <;> rfl) ?_
  refine Z.pick [0] rfl ?_
  exact z_callV (as := [vi (7 : Int32)]) (st := [vr r3, vr r2, vr (some (p0, 37, 0)), vr (some (p0, 37, 0))]) dX9_inner_166 vsX9_175_9 (Nat.le_refl _) (Nat.le_of_ble_eq_true rfl) (Nat.le_of_ble_eq_true rfl) rfl k
theorem sX9_inner_169 {E : zE} {d : Nat} {Q : zO → zM → Prop} (M : zM) (a0 : Nat) (s0 : Int32) (u1 : Option zP) (u2 : Option zP) (p3 : Nat) (p4 : Nat) (k : if s0 = 0 then (Z E YX32_init d M (zargs 0 [vr (some (p3, 37, 0)), vr u2, vr u1, vr none]) 0 [] (zafter E YX9_inner (d + 1) [] 180 3 [vr (some (p4, 37, 0))] Q)) else (Z E YX9_statement d M (zargs 0 [vr (some (a0, 8, 0))]) 0 [] (zafter E YX9_inner (d + 1) [] 173 3 [vr u1, vr u2, vr (some (p3, 37, 0)), vr (some (p4, 37, 0))] Q))) : Z E YX9_inner (d + 1) M [(0, vr (some (a0, 8, 0)))] 169 [vi s0, vr u1, vr u2, vr (some (p3, 37, 0)), vr (some (p4, 37, 0))] Q := by
  refine z_if_eq (tgt := 179) dX9_inner_169 rfl (fun h_ => ?_) (fun h_ => ?_)
  · have k := zit h_ k
    refine z_null dX9_inner_179 ?_
    refine Z.pick [] rfl ?_
    exact z_callI (as := [vr u2, vr u1, vr none]) (st := [vr (some (p4, 37, 0))]) dX9_inner_180 isX9_178 (Nat.le_refl _) (Nat.le_of_ble_eq_true rfl) (Nat.le_of_ble_eq_true rfl) rfl k
  · have k := zif h_ k
    refine z_aload_n dX9_inner_172 rfl rfl ?_
    refine Z.pick [] rfl ?_
    exact z_callV (as := []) (st := [vr u1, vr u2, vr (some (p3, 37, 0)), vr (some (p4, 37, 0))]) dX9_inner_173 vsX9_68_8 (Nat.le_refl _) (Nat.le_of_ble_eq_true rfl) (Nat.le_of_ble_eq_true rfl) rfl k
theorem sX9_inner_176 {E : zE} {d : Nat} {Q : zO → zM → Prop} (M : zM) (u0 : Option zP) (u1 : Option zP) (u2 : Option zP) (p3 : Nat) (p4 : Nat) (k : Z E YX32_init d M (zargs 0 [vr (some (p3, 37, 0)), vr u2, vr u1, vr u0]) 0 [] (zafter E YX9_inner (d + 1) [] 180 3 [vr (some (p4, 37, 0))] Q)) : Z E YX9_inner (d + 1) M [] 176 [vr u0, vr u1, vr u2, vr (some (p3, 37, 0)), vr (some (p4, 37, 0))] Q := by
  refine z_goto (tgt := 180) dX9_inner_176 rfl ?_
  exact z_callI (as := [vr u2, vr u1, vr u0]) (st := [vr (some (p4, 37, 0))]) dX9_inner_180 isX9_178 (Nat.le_refl _) (Nat.le_of_ble_eq_true rfl) (Nat.le_of_ble_eq_true rfl) rfl k
theorem sX9_inner_183 {E : zE} {d : Nat} {Q : zO → zM → Prop} (M : zM) (p0 : Nat) (k : Q (.inl (some (vr (some (p0, 37, 0))))) M) : Z E YX9_inner (d + 1) M [] 183 [vr (some (p0, 37, 0))] Q := by
  exact z_aret dX9_inner_183 rfl rfl k
theorem sX9_inner_188 {E : zE} {d : Nat} {Q : zO → zM → Prop} (M : zM) (a0 : Nat) (u0 : Option zP) (k : Z E YX9_inner (d + 1) (zn M 5) [(0, vr (some (a0, 8, 0))), (2, vr u0)] 192 [vr (some ((zsz M), 38, 0))] Q) : Z E YX9_inner (d + 1) M [(0, vr (some (a0, 8, 0)))] 188 [vr u0] Q := by
  refine z_ast_n dX9_inner_188 rfl (by decide) (lv' := [(0, vr (some (a0, 8, 0))), (2, vr u0)]) rfl ?_
  refine z_new dX9_inner_189 csX9_181 zff_38 ?_
  exact k
theorem sX9_inner_192 {E : zE} {d : Nat} {Q : zO → zM → Prop} (M : zM) (a0 : Nat) (r2 : Option zP) (p0 : Nat) (k : Z E YX9_looped d M (zargs 0 [vr (some (a0, 8, 0))]) 0 [] (zafter E YX9_inner (d + 1) [] 198 3 [vr none, vr r2, vr none, vi (0 : Int32), vr (some (p0, 38, 0)), vr (some (p0, 38, 0))] Q)) : Z E YX9_inner (d + 1) M [(0, vr (some (a0, 8, 0))), (2, vr r2)] 192 [vr (some (p0, 38, 0))] Q := by
  refine z_dup dX9_inner_192 rfl ?_
  refine z_iconst (v := 0) dX9_inner_193 rfl ?_
  refine z_null dX9_inner_194 ?_
  refine z_aload_n dX9_inner_195 rfl rfl ?_
  refine z_null dX9_inner_196 ?_
  refine z_aload_n dX9_inner_197 rfl rfl ?_
  refine Z.pick [] rfl ?_
  exact z_callV (as := []) (st := [vr none, vr r2, vr none, vi (0 : Int32), vr (some (p0, 38, 0)), vr (some (p0, 38, 0))]) dX9_inner_198 vsX9_183_8 (Nat.le_refl _) (Nat.le_of_ble_eq_true rfl) (Nat.le_of_ble_eq_true rfl) rfl k
theorem sX9_inner_201 {E : zE} {d : Nat} {Q : zO → zM → Prop} (M : zM) (u0 : Option zP) (u2 : Option zP) (s4 : Int32) (p5 : Nat) (p6 : Nat) (k : Z E YX33_init d M (zargs 0 [vr (some (p5, 38, 0)), vi s4, vr none, vr u2, vr none, vr u0]) 0 [] (zafter E YX9_inner (d + 1) [] 201 3 [vr (some (p6, 38, 0))] Q)) : Z E YX9_inner (d + 1) M [] 201 [vr u0, vr none, vr u2, vr none, vi s4, vr (some (p5, 38, 0)), vr (some (p6, 38, 0))] Q := by
  exact z_callI (as := [vi s4, vr none, vr u2, vr none, vr u0]) (st := [vr (some (p6, 38, 0))]) dX9_inner_201 isX9_186 (Nat.le_refl _) (Nat.le_of_ble_eq_true rfl) (Nat.le_of_ble_eq_true rfl) rfl k
theorem sX9_inner_204 {E : zE} {d : Nat} {Q : zO → zM → Prop} (M : zM) (p0 : Nat) (k : Q (.inl (some (vr (some (p0, 38, 0))))) M) : Z E YX9_inner (d + 1) M [] 204 [vr (some (p0, 38, 0))] Q := by
  exact z_aret dX9_inner_204 rfl rfl k
theorem sX9_inner_209 {E : zE} {d : Nat} {Q : zO → zM → Prop} (M : zM) (a0 : Nat) (u0 : Option zP) (k : ∃ b1 : Nat, (gr M a0 1) = some (b1, 9, 0) ∧ (Z E YX10_needWord d M (zargs 0 [vr (some (b1, 9, 0)), vi (28 : Int32)]) 0 [] (zafter E YX9_inner (d + 1) [(0, vr (some (a0, 8, 0))), (2, vr u0)] 216 3 [] Q))) : Z E YX9_inner (d + 1) M [(0, vr (some (a0, 8, 0)))] 209 [vr u0] Q := by
  refine z_ast_n dX9_inner_209 rfl (by decide) (lv' := [(0, vr (some (a0, 8, 0))), (2, vr u0)]) rfl ?_
  refine z_aload_n dX9_inner_210 rfl rfl ?_
  refine z_getr (r := (gr M a0 1)) dX9_inner_211 fsX9_27_8 rfl ?_
  refine z_bipush (v := 28) dX9_inner_214 rfl ?_
  obtain ⟨b1, e1_, k⟩ := k
  refine Z.eqs (lv' := [(0, vr (some (a0, 8, 0))), (2, vr u0)]) (st' := [vi (28 : Int32), vr (some (b1, 9, 0))]) rfl (by rw [e1_] <;> rfl) ?_
  exact z_callV (as := [vi (28 : Int32)]) (st := []) dX9_inner_216 vsX9_189_9 (Nat.le_refl _) (Nat.le_of_ble_eq_true rfl) (Nat.le_of_ble_eq_true rfl) rfl k
theorem sX9_inner_219 {E : zE} {d : Nat} {Q : zO → zM → Prop} (M : zM) (a0 : Nat) (r2 : Option zP) (k : Z E YX9_inRound d M (zargs 0 [vr (some (a0, 8, 0))]) 0 [] (zafter E YX9_inner (d + 1) [(0, vr (some (a0, 8, 0))), (2, vr r2)] 220 3 [] Q)) : Z E YX9_inner (d + 1) M [(0, vr (some (a0, 8, 0))), (2, vr r2)] 219 [] Q := by
  refine z_aload_n dX9_inner_219 rfl rfl ?_
  exact z_callV (as := []) (st := []) dX9_inner_220 vsX9_170_8 (Nat.le_refl _) (Nat.le_of_ble_eq_true rfl) (Nat.le_of_ble_eq_true rfl) rfl k
theorem sX9_inner_223 {E : zE} {d : Nat} {Q : zO → zM → Prop} (M : zM) (a0 : Nat) (r2 : Option zP) (u0 : Option zP) (k : ∃ b1 : Nat, (gr M a0 1) = some (b1, 9, 0) ∧ (Z E YX10_takes d M (zargs 0 [vr (some (b1, 9, 0)), vi (7 : Int32)]) 0 [] (zafter E YX9_inner (d + 1) [(2, vr r2), (3, vr u0)] 230 3 [] Q))) : Z E YX9_inner (d + 1) M [(0, vr (some (a0, 8, 0))), (2, vr r2)] 223 [vr u0] Q := by
  refine z_ast_n dX9_inner_223 rfl (by decide) (lv' := [(0, vr (some (a0, 8, 0))), (2, vr r2), (3, vr u0)]) rfl ?_
  refine z_aload_n dX9_inner_224 rfl rfl ?_
  refine z_getr (r := (gr M a0 1)) dX9_inner_225 fsX9_27_8 rfl ?_
  refine z_bipush (v := 7) dX9_inner_228 rfl ?_
  obtain ⟨b1, e1_, k⟩ := k
  refine Z.eqs (lv' := [(0, vr (some (a0, 8, 0))), (2, vr r2), (3, vr u0)]) (st' := [vi (7 : Int32), vr (some (b1, 9, 0))]) rfl (by rw [e1_] <;> rfl) ?_
  refine Z.pick [1, 2] rfl ?_
  exact z_callV (as := [vi (7 : Int32)]) (st := []) dX9_inner_230 vsX9_137_9 (Nat.le_refl _) (Nat.le_of_ble_eq_true rfl) (Nat.le_of_ble_eq_true rfl) rfl k
theorem sX9_inner_233 {E : zE} {d : Nat} {Q : zO → zM → Prop} (M : zM) (r2 : Option zP) (r3 : Option zP) (s0 : Int32) (k : Z E YX9_inner (d + 1) (zn M 5) [(2, vr r2), (3, vr r3)] 237 [vr (some ((zsz M), 38, 0))] Q) : Z E YX9_inner (d + 1) M [(2, vr r2), (3, vr r3)] 233 [vi s0] Q := by
  refine z_pop dX9_inner_233 rfl ?_
  refine z_new dX9_inner_234 csX9_181 zff_38 ?_
  exact k
theorem sX9_inner_237 {E : zE} {d : Nat} {Q : zO → zM → Prop} (M : zM) (r2 : Option zP) (r3 : Option zP) (p0 : Nat) (k : Z E YX33_init d M (zargs 0 [vr (some (p0, 38, 0)), vi (1 : Int32), vr none, vr r3, vr none, vr r2]) 0 [] (zafter E YX9_inner (d + 1) [] 243 3 [vr (some (p0, 38, 0))] Q)) : Z E YX9_inner (d + 1) M [(2, vr r2), (3, vr r3)] 237 [vr (some (p0, 38, 0))] Q := by
  refine z_dup dX9_inner_237 rfl ?_
  refine z_iconst (v := 1) dX9_inner_238 rfl ?_
  refine z_null dX9_inner_239 ?_
  refine z_aload_n dX9_inner_240 rfl rfl ?_
  refine z_null dX9_inner_241 ?_
  refine z_aload_n dX9_inner_242 rfl rfl ?_
  refine Z.pick [] rfl ?_
  exact z_callI (as := [vi (1 : Int32), vr none, vr r3, vr none, vr r2]) (st := [vr (some (p0, 38, 0))]) dX9_inner_243 isX9_186 (Nat.le_refl _) (Nat.le_of_ble_eq_true rfl) (Nat.le_of_ble_eq_true rfl) rfl k
theorem sX9_inner_246 {E : zE} {d : Nat} {Q : zO → zM → Prop} (M : zM) (p0 : Nat) (k : Q (.inl (some (vr (some (p0, 38, 0))))) M) : Z E YX9_inner (d + 1) M [] 246 [vr (some (p0, 38, 0))] Q := by
  exact z_aret dX9_inner_246 rfl rfl k
theorem sX9_inner_251 {E : zE} {d : Nat} {Q : zO → zM → Prop} (M : zM) (u0 : Option zP) (k : Q (.inl (some (vr u0))) M) : Z E YX9_inner (d + 1) M [] 251 [vr u0] Q := by
  exact z_aret dX9_inner_251 rfl rfl k
theorem sX9_inner_256 {E : zE} {d : Nat} {Q : zO → zM → Prop} (M : zM) (l1 : Int32) (k : Z E YX9_inner (d + 1) (zn M 1) [(1, vi l1)] 259 [vr (some ((zsz M), 40, 0))] Q) : Z E YX9_inner (d + 1) M [(1, vi l1)] 256 [] Q := by
  refine z_new dX9_inner_256 csX9_195 zff_40 ?_
  exact k
theorem sX9_inner_259 {E : zE} {d : Nat} {Q : zO → zM → Prop} (M : zM) (l1 : Int32) (p0 : Nat) (k : if l1 = (3 : Int32) then (Z E YX35_init d M (zargs 0 [vr (some (p0, 40, 0)), vi (1 : Int32)]) 0 [] (zafter E YX9_inner (d + 1) [] 270 3 [vr (some (p0, 40, 0))] Q)) else (Z E YX35_init d M (zargs 0 [vr (some (p0, 40, 0)), vi (0 : Int32)]) 0 [] (zafter E YX9_inner (d + 1) [] 270 3 [vr (some (p0, 40, 0))] Q))) : Z E YX9_inner (d + 1) M [(1, vi l1)] 259 [vr (some (p0, 40, 0))] Q := by
  refine z_dup dX9_inner_259 rfl ?_
  refine z_iload_n dX9_inner_260 rfl rfl ?_
  refine z_iconst (v := 3) dX9_inner_261 rfl ?_
  refine z_icmp_ne (tgt := 269) dX9_inner_262 rfl (fun h_ => ?_) (fun h_ => ?_)
  · have k := zif h_ k
    refine z_iconst (v := 0) dX9_inner_269 rfl ?_
    refine Z.pick [] rfl ?_
    exact z_callI (as := [vi (0 : Int32)]) (st := [vr (some (p0, 40, 0))]) dX9_inner_270 isX9_197 (Nat.le_refl _) (Nat.le_of_ble_eq_true rfl) (Nat.le_of_ble_eq_true rfl) rfl k
  · have k := zit h_ k
    refine z_iconst (v := 1) dX9_inner_265 rfl ?_
    refine z_goto (tgt := 270) dX9_inner_266 rfl ?_
    refine Z.pick [] rfl ?_
    exact z_callI (as := [vi (1 : Int32)]) (st := [vr (some (p0, 40, 0))]) dX9_inner_270 isX9_197 (Nat.le_refl _) (Nat.le_of_ble_eq_true rfl) (Nat.le_of_ble_eq_true rfl) rfl k
theorem sX9_inner_273 {E : zE} {d : Nat} {Q : zO → zM → Prop} (M : zM) (p0 : Nat) (k : Q (.inl (some (vr (some (p0, 40, 0))))) M) : Z E YX9_inner (d + 1) M [] 273 [vr (some (p0, 40, 0))] Q := by
  exact z_aret dX9_inner_273 rfl rfl k
theorem sX9_inner_283 {E : zE} {d : Nat} {Q : zO → zM → Prop} (M : zM) (a0 : Nat) (s0 : Int32) (k : if s0 = 0 then (∃ b1 : Nat, (gr M a0 1) = some (b1, 9, 0) ∧ (Z E YX10_is d M (zargs 0 [vr (some (b1, 9, 0)), vi (1 : Int32)]) 0 [] (zafter E YX9_inner (d + 1) [(0, vr (some (a0, 8, 0)))] 291 3 [] Q))) else (Z E YX9_inner (d + 1) M [(0, vr (some (a0, 8, 0)))] 322 [vi (1 : Int32)] Q)) : Z E YX9_inner (d + 1) M [(0, vr (some (a0, 8, 0)))] 283 [vi s0] Q := by
  refine z_if_ne (tgt := 317) dX9_inner_283 rfl (fun h_ => ?_) (fun h_ => ?_)
  · have k := zif h_ k
    refine z_iconst (v := 1) dX9_inner_317 rfl ?_
    refine z_goto (tgt := 322) dX9_inner_318 rfl ?_
    exact k
  · have k := zit h_ k
    refine z_aload_n dX9_inner_286 rfl rfl ?_
    refine z_getr (r := (gr M a0 1)) dX9_inner_287 fsX9_27_8 rfl ?_
    refine z_iconst (v := 1) dX9_inner_290 rfl ?_
    obtain ⟨b1, e1_, k⟩ := k
    refine Z.eqs (lv' := [(0, vr (some (a0, 8, 0)))]) (st' := [vi (1 : Int32), vr (some (b1, 9, 0))]) rfl (by rw [e1_] <;> rfl) ?_
    exact z_callV (as := [vi (1 : Int32)]) (st := []) dX9_inner_291 vsX9_111_9 (Nat.le_refl _) (Nat.le_of_ble_eq_true rfl) (Nat.le_of_ble_eq_true rfl) rfl k
theorem sX9_inner_294 {E : zE} {d : Nat} {Q : zO → zM → Prop} (M : zM) (a0 : Nat) (s0 : Int32) (k : if s0 = 0 then (∃ b1 : Nat, (gr M a0 1) = some (b1, 9, 0) ∧ (if (gi M b1 3) = 0 then (Z E YX9_inner (d + 1) M [(0, vr (some (a0, 8, 0)))] 322 [vi (1 : Int32)] Q) else (∃ b2 : Nat, (gr M a0 1) = some (b2, 9, 0) ∧ (Z E YX10_onLaterLine d M (zargs 0 [vr (some (b2, 9, 0))]) 0 [] (zafter E YX9_inner (d + 1) [(0, vr (some (a0, 8, 0)))] 311 3 [] Q))))) else (Z E YX9_inner (d + 1) M [(0, vr (some (a0, 8, 0)))] 322 [vi (1 : Int32)] Q)) : Z E YX9_inner (d + 1) M [(0, vr (some (a0, 8, 0)))] 294 [vi s0] Q := by
  refine z_if_ne (tgt := 317) dX9_inner_294 rfl (fun h_ => ?_) (fun h_ => ?_)
  · have k := zif h_ k
    refine z_iconst (v := 1) dX9_inner_317 rfl ?_
    refine z_goto (tgt := 322) dX9_inner_318 rfl ?_
    exact k
  · have k := zit h_ k
    refine z_aload_n dX9_inner_297 rfl rfl ?_
    refine z_getr (r := (gr M a0 1)) dX9_inner_298 fsX9_27_8 rfl ?_
    obtain ⟨b1, e1_, k⟩ := k
    refine Z.eqs (lv' := [(0, vr (some (a0, 8, 0)))]) (st' := [vr (some (b1, 9, 0))]) rfl (by rw [e1_] <;> rfl) ?_
    refine z_geti dX9_inner_301 fsX9_55_9 ?_
    refine z_if_eq (tgt := 317) dX9_inner_304 rfl (fun h_ => ?_) (fun h_ => ?_)
    · have k := zit h_ k
      refine z_iconst (v := 1) dX9_inner_317 rfl ?_
      refine z_goto (tgt := 322) dX9_inner_318 rfl ?_
      exact k
    · have k := zif h_ k
      refine z_aload_n dX9_inner_307 rfl rfl ?_
      refine z_getr (r := (gr M a0 1)) dX9_inner_308 fsX9_27_8 rfl ?_
      obtain ⟨b2, e2_, k⟩ := k
      refine Z.eqs (lv' := [(0, vr (some (a0, 8, 0)))]) (st' := [vr (some (b2, 9, 0))]) rfl (by rw [e2_] <;> rfl) ?_
      exact z_callV (as := []) (st := []) dX9_inner_311 vsX9_155_9 (Nat.le_refl _) (Nat.le_of_ble_eq_true rfl) (Nat.le_of_ble_eq_true rfl) rfl k
theorem sX9_inner_314 {E : zE} {d : Nat} {Q : zO → zM → Prop} (M : zM) (a0 : Nat) (s0 : Int32) (k : if s0 = 0 then (Z E YX9_inner (d + 1) M [(0, vr (some (a0, 8, 0)))] 322 [vi (0 : Int32)] Q) else (Z E YX9_inner (d + 1) M [(0, vr (some (a0, 8, 0)))] 322 [vi (1 : Int32)] Q)) : Z E YX9_inner (d + 1) M [(0, vr (some (a0, 8, 0)))] 314 [vi s0] Q := by
  refine z_if_eq (tgt := 321) dX9_inner_314 rfl (fun h_ => ?_) (fun h_ => ?_)
  · have k := zit h_ k
    refine z_iconst (v := 0) dX9_inner_321 rfl ?_
    exact k
  · have k := zif h_ k
    refine z_iconst (v := 1) dX9_inner_317 rfl ?_
    refine z_goto (tgt := 322) dX9_inner_318 rfl ?_
    exact k
theorem sX9_inner_322 {E : zE} {d : Nat} {Q : zO → zM → Prop} (M : zM) (a0 : Nat) (s0 : Int32) (k : if s0 = 0 then (Z E YX9_expression d M (zargs 0 [vr (some (a0, 8, 0)), vi (1 : Int32)]) 0 [] (zafter E YX9_inner (d + 1) [(0, vr (some (a0, 8, 0)))] 333 3 [] Q)) else (Z E YX9_inner (d + 1) M [(0, vr (some (a0, 8, 0)))] 336 [vr none] Q)) : Z E YX9_inner (d + 1) M [(0, vr (some (a0, 8, 0)))] 322 [vi s0] Q := by
  refine z_ist_n dX9_inner_322 rfl (by decide) (lv' := [(0, vr (some (a0, 8, 0))), (2, vi s0)]) rfl ?_
  refine z_iload_n dX9_inner_323 rfl rfl ?_
  refine z_if_eq (tgt := 331) dX9_inner_324 rfl (fun h_ => ?_) (fun h_ => ?_)
  · have k := zit h_ k
    refine z_aload_n dX9_inner_331 rfl rfl ?_
    refine z_iconst (v := 1) dX9_inner_332 rfl ?_
    refine Z.pick [0] rfl ?_
    exact z_callV (as := [vi (1 : Int32)]) (st := []) dX9_inner_333 vsX9_145_8 (Nat.le_refl _) (Nat.le_of_ble_eq_true rfl) (Nat.le_of_ble_eq_true rfl) rfl k
  · have k := zif h_ k
    refine z_null dX9_inner_327 ?_
    refine z_goto (tgt := 336) dX9_inner_328 rfl ?_
    refine Z.pick [0] rfl ?_
    exact k
theorem sX9_inner_336 {E : zE} {d : Nat} {Q : zO → zM → Prop} (M : zM) (a0 : Nat) (u0 : Option zP) (k : Z E YX9_semicolon d M (zargs 0 [vr (some (a0, 8, 0))]) 0 [] (zafter E YX9_inner (d + 1) [(3, vr u0)] 338 3 [] Q)) : Z E YX9_inner (d + 1) M [(0, vr (some (a0, 8, 0)))] 336 [vr u0] Q := by
  refine z_ast_n dX9_inner_336 rfl (by decide) (lv' := [(0, vr (some (a0, 8, 0))), (3, vr u0)]) rfl ?_
  refine z_aload_n dX9_inner_337 rfl rfl ?_
  refine Z.pick [1] rfl ?_
  exact z_callV (as := []) (st := []) dX9_inner_338 vsX9_152_8 (Nat.le_refl _) (Nat.le_of_ble_eq_true rfl) (Nat.le_of_ble_eq_true rfl) rfl k
theorem sX9_inner_341 {E : zE} {d : Nat} {Q : zO → zM → Prop} (M : zM) (r3 : Option zP) (k : Z E YX9_inner (d + 1) (zn M 1) [(3, vr r3)] 344 [vr (some ((zsz M), 41, 0))] Q) : Z E YX9_inner (d + 1) M [(3, vr r3)] 341 [] Q := by
  refine z_new dX9_inner_341 csX9_200 zff_41 ?_
  exact k
theorem sX9_inner_344 {E : zE} {d : Nat} {Q : zO → zM → Prop} (M : zM) (r3 : Option zP) (p0 : Nat) (k : Z E YX36_init d M (zargs 0 [vr (some (p0, 41, 0)), vr r3]) 0 [] (zafter E YX9_inner (d + 1) [] 346 3 [vr (some (p0, 41, 0))] Q)) : Z E YX9_inner (d + 1) M [(3, vr r3)] 344 [vr (some (p0, 41, 0))] Q := by
  refine z_dup dX9_inner_344 rfl ?_
  refine z_aload_n dX9_inner_345 rfl rfl ?_
  refine Z.pick [] rfl ?_
  exact z_callI (as := [vr r3]) (st := [vr (some (p0, 41, 0))]) dX9_inner_346 isX9_202 (Nat.le_refl _) (Nat.le_of_ble_eq_true rfl) (Nat.le_of_ble_eq_true rfl) rfl k
theorem sX9_inner_349 {E : zE} {d : Nat} {Q : zO → zM → Prop} (M : zM) (p0 : Nat) (k : Q (.inl (some (vr (some (p0, 41, 0))))) M) : Z E YX9_inner (d + 1) M [] 349 [vr (some (p0, 41, 0))] Q := by
  exact z_aret dX9_inner_349 rfl rfl k
theorem sX9_inner_357 {E : zE} {d : Nat} {Q : zO → zM → Prop} (M : zM) (a0 : Nat) (s0 : Int32) (k : if s0 = 0 then (Z E YX9_expression d M (zargs 0 [vr (some (a0, 8, 0)), vi (1 : Int32)]) 0 [] (zafter E YX9_inner (d + 1) [(0, vr (some (a0, 8, 0)))] 371 3 [] Q)) else (∃ b1 : Nat, (gr M a0 1) = some (b1, 9, 0) ∧ (Z E YX10_fault d M (zargs 0 [vr (some (b1, 9, 0)), vi (2 : Int32)]) 0 [] (zafter E YX9_inner (d + 1) [] 365 3 [] Q)))) : Z E YX9_inner (d + 1) M [(0, vr (some (a0, 8, 0)))] 357 [vi s0] Q := by
  refine z_if_eq (tgt := 369) dX9_inner_357 rfl (fun h_ => ?_) (fun h_ => ?_)
  · have k := zit h_ k
    refine z_aload_n dX9_inner_369 rfl rfl ?_
    refine z_iconst (v := 1) dX9_inner_370 rfl ?_
    exact z_callV (as := [vi (1 : Int32)]) (st := []) dX9_inner_371 vsX9_145_8 (Nat.le_refl _) (Nat.le_of_ble_eq_true rfl) (Nat.le_of_ble_eq_true rfl) rfl k
  · have k := zif h_ k
    refine z_aload_n dX9_inner_360 rfl rfl ?_
    refine z_getr (r := (gr M a0 1)) dX9_inner_361 fsX9_27_8 rfl ?_
    refine z_iconst (v := 2) dX9_inner_364 rfl ?_
    obtain ⟨b1, e1_, k⟩ := k
    refine Z.eqs (lv' := [(0, vr (some (a0, 8, 0)))]) (st' := [vi (2 : Int32), vr (some (b1, 9, 0))]) rfl (by rw [e1_] <;> rfl) ?_
    refine Z.pick [] rfl ?_
    exact z_callV (as := [vi (2 : Int32)]) (st := []) dX9_inner_365 vsX9_35_9 (Nat.le_refl _) (Nat.le_of_ble_eq_true rfl) (Nat.le_of_ble_eq_true rfl) rfl k
theorem sX9_inner_368 {E : zE} {d : Nat} {Q : zO → zM → Prop} (M : zM) (u0 : Option zP) (k : ∃ b1 : Nat, u0 = some (b1, 12, 0) ∧ (Q (.inr (b1, 12, 0)) M)) : Z E YX9_inner (d + 1) M [] 368 [vr u0] Q := by
  obtain ⟨b1, e1_, k⟩ := k
  refine Z.eqs (lv' := []) (st' := [vr (some (b1, 12, 0))]) rfl (by rw [e1_] <;> rfl) ?_
  exact z_athrow dX9_inner_368 (ZT.out (by decide) k)
theorem sX9_inner_374 {E : zE} {d : Nat} {Q : zO → zM → Prop} (M : zM) (a0 : Nat) (u0 : Option zP) (k : Z E YX9_semicolon d M (zargs 0 [vr (some (a0, 8, 0))]) 0 [] (zafter E YX9_inner (d + 1) [(2, vr u0)] 376 3 [] Q)) : Z E YX9_inner (d + 1) M [(0, vr (some (a0, 8, 0)))] 374 [vr u0] Q := by
  refine z_ast_n dX9_inner_374 rfl (by decide) (lv' := [(0, vr (some (a0, 8, 0))), (2, vr u0)]) rfl ?_
  refine z_aload_n dX9_inner_375 rfl rfl ?_
  refine Z.pick [1] rfl ?_
  exact z_callV (as := []) (st := []) dX9_inner_376 vsX9_152_8 (Nat.le_refl _) (Nat.le_of_ble_eq_true rfl) (Nat.le_of_ble_eq_true rfl) rfl k
theorem sX9_inner_379 {E : zE} {d : Nat} {Q : zO → zM → Prop} (M : zM) (r2 : Option zP) (k : Z E YX9_inner (d + 1) (zn M 1) [(2, vr r2)] 382 [vr (some ((zsz M), 42, 0))] Q) : Z E YX9_inner (d + 1) M [(2, vr r2)] 379 [] Q := by
  refine z_new dX9_inner_379 csX9_203 zff_42 ?_
  exact k
theorem sX9_inner_382 {E : zE} {d : Nat} {Q : zO → zM → Prop} (M : zM) (r2 : Option zP) (p0 : Nat) (k : Z E YX37_init d M (zargs 0 [vr (some (p0, 42, 0)), vr r2]) 0 [] (zafter E YX9_inner (d + 1) [] 384 3 [vr (some (p0, 42, 0))] Q)) : Z E YX9_inner (d + 1) M [(2, vr r2)] 382 [vr (some (p0, 42, 0))] Q := by
  refine z_dup dX9_inner_382 rfl ?_
  refine z_aload_n dX9_inner_383 rfl rfl ?_
  refine Z.pick [] rfl ?_
  exact z_callI (as := [vr r2]) (st := [vr (some (p0, 42, 0))]) dX9_inner_384 isX9_205 (Nat.le_refl _) (Nat.le_of_ble_eq_true rfl) (Nat.le_of_ble_eq_true rfl) rfl k
theorem sX9_inner_387 {E : zE} {d : Nat} {Q : zO → zM → Prop} (M : zM) (p0 : Nat) (k : Q (.inl (some (vr (some (p0, 42, 0))))) M) : Z E YX9_inner (d + 1) M [] 387 [vr (some (p0, 42, 0))] Q := by
  exact z_aret dX9_inner_387 rfl rfl k
theorem sX9_inner_392 {E : zE} {d : Nat} {Q : zO → zM → Prop} (M : zM) (u0 : Option zP) (k : Q (.inl (some (vr u0))) M) : Z E YX9_inner (d + 1) M [] 392 [vr u0] Q := by
  exact z_aret dX9_inner_392 rfl rfl k
theorem sX9_inner_397 {E : zE} {d : Nat} {Q : zO → zM → Prop} (M : zM) (u0 : Option zP) (k : Q (.inl (some (vr u0))) M) : Z E YX9_inner (d + 1) M [] 397 [vr u0] Q := by
  exact z_aret dX9_inner_397 rfl rfl k
/-! ScriptTypes$Parser.variables(Z)LScriptTypes$Node; -/
theorem bX9_variables_0 : zdec cX9_variables 0 [(0, .new 140, 3), (3, .dup, 1), (4, .invokespecial 142, 3), (7, .astore_n 2, 1), (8, .iconst 0, 1), (9, .istore_n 3, 1), (10, .iinc 3 1, 3), (13, .aload_n 0, 1), (14, .getfield 27, 3), (17, .invokevirtual 79, 3), (20, .istore 4, 2), (22, .aload_n 0, 1), (23, .getfield 44, 3), (26, .iload 4, 2), (28, .invokevirtual 89, 3), (31, .aload_n 0, 1)] = true := by decide +kernel
theorem dX9_variables_0 : decode cX9_variables 0 = .ok (.new 140, 3) := zdec_at bX9_variables_0 0 rfl
theorem dX9_variables_3 : decode cX9_variables 3 = .ok (.dup, 1) := zdec_at bX9_variables_0 1 rfl
theorem dX9_variables_4 : decode cX9_variables 4 = .ok (.invokespecial 142, 3) := zdec_at bX9_variables_0 2 rfl
theorem dX9_variables_7 : decode cX9_variables 7 = .ok (.astore_n 2, 1) := zdec_at bX9_variables_0 3 rfl
theorem dX9_variables_8 : decode cX9_variables 8 = .ok (.iconst 0, 1) := zdec_at bX9_variables_0 4 rfl
theorem dX9_variables_9 : decode cX9_variables 9 = .ok (.istore_n 3, 1) := zdec_at bX9_variables_0 5 rfl
theorem dX9_variables_10 : decode cX9_variables 10 = .ok (.iinc 3 1, 3) := zdec_at bX9_variables_0 6 rfl
theorem dX9_variables_13 : decode cX9_variables 13 = .ok (.aload_n 0, 1) := zdec_at bX9_variables_0 7 rfl
theorem dX9_variables_14 : decode cX9_variables 14 = .ok (.getfield 27, 3) := zdec_at bX9_variables_0 8 rfl
theorem dX9_variables_17 : decode cX9_variables 17 = .ok (.invokevirtual 79, 3) := zdec_at bX9_variables_0 9 rfl
theorem dX9_variables_20 : decode cX9_variables 20 = .ok (.istore 4, 2) := zdec_at bX9_variables_0 10 rfl
theorem dX9_variables_22 : decode cX9_variables 22 = .ok (.aload_n 0, 1) := zdec_at bX9_variables_0 11 rfl
theorem dX9_variables_23 : decode cX9_variables 23 = .ok (.getfield 44, 3) := zdec_at bX9_variables_0 12 rfl
theorem dX9_variables_26 : decode cX9_variables 26 = .ok (.iload 4, 2) := zdec_at bX9_variables_0 13 rfl
theorem dX9_variables_28 : decode cX9_variables 28 = .ok (.invokevirtual 89, 3) := zdec_at bX9_variables_0 14 rfl
theorem dX9_variables_31 : decode cX9_variables 31 = .ok (.aload_n 0, 1) := zdec_at bX9_variables_0 15 rfl
theorem bX9_variables_32 : zdec cX9_variables 32 [(32, .getfield 27, 3), (35, .bipush 36, 2), (37, .invokevirtual 111, 3), (40, .ifCond .eq 47, 3), (43, .aload_n 0, 1), (44, .getfield 27, 3), (47, .invokevirtual 52, 3), (50, .aload_n 2, 1), (51, .getfield 158, 3), (54, .new 143, 3), (57, .dup, 1), (58, .new 212, 3), (61, .dup, 1), (62, .iconst (-1), 1), (63, .new 214, 3), (66, .dup, 1)] = true := by decide +kernel
theorem dX9_variables_32 : decode cX9_variables 32 = .ok (.getfield 27, 3) := zdec_at bX9_variables_32 0 rfl
theorem dX9_variables_35 : decode cX9_variables 35 = .ok (.bipush 36, 2) := zdec_at bX9_variables_32 1 rfl
theorem dX9_variables_37 : decode cX9_variables 37 = .ok (.invokevirtual 111, 3) := zdec_at bX9_variables_32 2 rfl
theorem dX9_variables_40 : decode cX9_variables 40 = .ok (.ifCond .eq 47, 3) := zdec_at bX9_variables_32 3 rfl
theorem dX9_variables_43 : decode cX9_variables 43 = .ok (.aload_n 0, 1) := zdec_at bX9_variables_32 4 rfl
theorem dX9_variables_44 : decode cX9_variables 44 = .ok (.getfield 27, 3) := zdec_at bX9_variables_32 5 rfl
theorem dX9_variables_47 : decode cX9_variables 47 = .ok (.invokevirtual 52, 3) := zdec_at bX9_variables_32 6 rfl
theorem dX9_variables_50 : decode cX9_variables 50 = .ok (.aload_n 2, 1) := zdec_at bX9_variables_32 7 rfl
theorem dX9_variables_51 : decode cX9_variables 51 = .ok (.getfield 158, 3) := zdec_at bX9_variables_32 8 rfl
theorem dX9_variables_54 : decode cX9_variables 54 = .ok (.new 143, 3) := zdec_at bX9_variables_32 9 rfl
theorem dX9_variables_57 : decode cX9_variables 57 = .ok (.dup, 1) := zdec_at bX9_variables_32 10 rfl
theorem dX9_variables_58 : decode cX9_variables 58 = .ok (.new 212, 3) := zdec_at bX9_variables_32 11 rfl
theorem dX9_variables_61 : decode cX9_variables 61 = .ok (.dup, 1) := zdec_at bX9_variables_32 12 rfl
theorem dX9_variables_62 : decode cX9_variables 62 = .ok (.iconst (-1), 1) := zdec_at bX9_variables_32 13 rfl
theorem dX9_variables_63 : decode cX9_variables 63 = .ok (.new 214, 3) := zdec_at bX9_variables_32 14 rfl
theorem dX9_variables_66 : decode cX9_variables 66 = .ok (.dup, 1) := zdec_at bX9_variables_32 15 rfl
theorem bX9_variables_67 : zdec cX9_variables 67 [(67, .iload 4, 2), (69, .invokespecial 216, 3), (72, .aload_n 0, 1), (73, .iload_n 1, 1), (74, .invokevirtual 218, 3), (77, .invokespecial 221, 3), (80, .invokespecial 149, 3), (83, .invokevirtual 48, 3), (86, .pop, 1), (87, .aload_n 0, 1), (88, .getfield 27, 3), (91, .bipush 8, 2), (93, .invokevirtual 137, 3), (96, .ifCond .ne (-86), 3), (99, .aload_n 0, 1), (100, .iload_n 3, 1)] = true := by decide +kernel
theorem dX9_variables_67 : decode cX9_variables 67 = .ok (.iload 4, 2) := zdec_at bX9_variables_67 0 rfl
theorem dX9_variables_69 : decode cX9_variables 69 = .ok (.invokespecial 216, 3) := zdec_at bX9_variables_67 1 rfl
theorem dX9_variables_72 : decode cX9_variables 72 = .ok (.aload_n 0, 1) := zdec_at bX9_variables_67 2 rfl
theorem dX9_variables_73 : decode cX9_variables 73 = .ok (.iload_n 1, 1) := zdec_at bX9_variables_67 3 rfl
theorem dX9_variables_74 : decode cX9_variables 74 = .ok (.invokevirtual 218, 3) := zdec_at bX9_variables_67 4 rfl
theorem dX9_variables_77 : decode cX9_variables 77 = .ok (.invokespecial 221, 3) := zdec_at bX9_variables_67 5 rfl
theorem dX9_variables_80 : decode cX9_variables 80 = .ok (.invokespecial 149, 3) := zdec_at bX9_variables_67 6 rfl
theorem dX9_variables_83 : decode cX9_variables 83 = .ok (.invokevirtual 48, 3) := zdec_at bX9_variables_67 7 rfl
theorem dX9_variables_86 : decode cX9_variables 86 = .ok (.pop, 1) := zdec_at bX9_variables_67 8 rfl
theorem dX9_variables_87 : decode cX9_variables 87 = .ok (.aload_n 0, 1) := zdec_at bX9_variables_67 9 rfl
theorem dX9_variables_88 : decode cX9_variables 88 = .ok (.getfield 27, 3) := zdec_at bX9_variables_67 10 rfl
theorem dX9_variables_91 : decode cX9_variables 91 = .ok (.bipush 8, 2) := zdec_at bX9_variables_67 11 rfl
theorem dX9_variables_93 : decode cX9_variables 93 = .ok (.invokevirtual 137, 3) := zdec_at bX9_variables_67 12 rfl
theorem dX9_variables_96 : decode cX9_variables 96 = .ok (.ifCond .ne (-86), 3) := zdec_at bX9_variables_67 13 rfl
theorem dX9_variables_99 : decode cX9_variables 99 = .ok (.aload_n 0, 1) := zdec_at bX9_variables_67 14 rfl
theorem dX9_variables_100 : decode cX9_variables 100 = .ok (.iload_n 3, 1) := zdec_at bX9_variables_67 15 rfl
theorem bX9_variables_101 : zdec cX9_variables 101 [(101, .iconst 1, 1), (102, .if_icmp .ne 7, 3), (105, .iconst 1, 1), (106, .goto 4, 3), (109, .iconst 0, 1), (110, .putfield 224, 3), (113, .aload_n 2, 1), (114, .areturn, 1)] = true := by decide +kernel
theorem dX9_variables_101 : decode cX9_variables 101 = .ok (.iconst 1, 1) := zdec_at bX9_variables_101 0 rfl
theorem dX9_variables_102 : decode cX9_variables 102 = .ok (.if_icmp .ne 7, 3) := zdec_at bX9_variables_101 1 rfl
theorem dX9_variables_105 : decode cX9_variables 105 = .ok (.iconst 1, 1) := zdec_at bX9_variables_101 2 rfl
theorem dX9_variables_106 : decode cX9_variables 106 = .ok (.goto 4, 3) := zdec_at bX9_variables_101 3 rfl
theorem dX9_variables_109 : decode cX9_variables 109 = .ok (.iconst 0, 1) := zdec_at bX9_variables_101 4 rfl
theorem dX9_variables_110 : decode cX9_variables 110 = .ok (.putfield 224, 3) := zdec_at bX9_variables_101 5 rfl
theorem dX9_variables_113 : decode cX9_variables 113 = .ok (.aload_n 2, 1) := zdec_at bX9_variables_101 6 rfl
theorem dX9_variables_114 : decode cX9_variables 114 = .ok (.areturn, 1) := zdec_at bX9_variables_101 7 rfl
theorem sX9_variables_0 {E : zE} {d : Nat} {Q : zO → zM → Prop} (M : zM) (a0 : Nat) (l1 : Int32) (k : Z E YX9_variables (d + 1) (zn M 1) [(0, vr (some (a0, 8, 0))), (1, vi l1)] 3 [vr (some ((zsz M), 20, 0))] Q) : Z E YX9_variables (d + 1) M [(0, vr (some (a0, 8, 0))), (1, vi l1)] 0 [] Q := by
  refine z_new dX9_variables_0 csX9_140 zff_20 ?_
  exact k
theorem sX9_variables_3 {E : zE} {d : Nat} {Q : zO → zM → Prop} (M : zM) (a0 : Nat) (l1 : Int32) (p0 : Nat) (k : Z E YX14_init d M (zargs 0 [vr (some (p0, 20, 0))]) 0 [] (zafter E YX9_variables (d + 1) [(0, vr (some (a0, 8, 0))), (1, vi l1)] 4 3 [vr (some (p0, 20, 0))] Q)) : Z E YX9_variables (d + 1) M [(0, vr (some (a0, 8, 0))), (1, vi l1)] 3 [vr (some (p0, 20, 0))] Q := by
  refine z_dup dX9_variables_3 rfl ?_
  exact z_callI (as := []) (st := [vr (some (p0, 20, 0))]) dX9_variables_4 isX9_142 (Nat.le_refl _) (Nat.le_of_ble_eq_true rfl) (Nat.le_of_ble_eq_true rfl) rfl k
theorem sX9_variables_7 {E : zE} {d : Nat} {Q : zO → zM → Prop} (M : zM) (a0 : Nat) (l1 : Int32) (p0 : Nat) (k : Z E YX9_variables (d + 1) M [(0, vr (some (a0, 8, 0))), (1, vi l1), (2, vr (some (p0, 20, 0))), (3, vi (0 : Int32))] 10 [] Q) : Z E YX9_variables (d + 1) M [(0, vr (some (a0, 8, 0))), (1, vi l1)] 7 [vr (some (p0, 20, 0))] Q := by
  refine z_ast_n dX9_variables_7 rfl (by decide) (lv' := [(0, vr (some (a0, 8, 0))), (1, vi l1), (2, vr (some (p0, 20, 0)))]) rfl ?_
  refine z_iconst (v := 0) dX9_variables_8 rfl ?_
  refine z_ist_n dX9_variables_9 rfl (by decide) (lv' := [(0, vr (some (a0, 8, 0))), (1, vi l1), (2, vr (some (p0, 20, 0))), (3, vi (0 : Int32))]) rfl ?_
  exact k
theorem sX9_variables_10 {E : zE} {d : Nat} {Q : zO → zM → Prop} (M : zM) (a0 : Nat) (l1 : Int32) (a2 : Nat) (l3 : Int32) (k : ∃ b1 : Nat, (gr M a0 1) = some (b1, 9, 0) ∧ (Z E YX10_needName d M (zargs 0 [vr (some (b1, 9, 0))]) 0 [] (zafter E YX9_variables (d + 1) [(0, vr (some (a0, 8, 0))), (1, vi l1), (2, vr (some (a2, 20, 0))), (3, vi (l3 + (1 : Int32)))] 17 3 [] Q))) : Z E YX9_variables (d + 1) M [(0, vr (some (a0, 8, 0))), (1, vi l1), (2, vr (some (a2, 20, 0))), (3, vi l3)] 10 [] Q := by
  refine z_inc (v := (l3 + (1 : Int32))) dX9_variables_10 rfl rfl (by decide) (lv' := [(0, vr (some (a0, 8, 0))), (1, vi l1), (2, vr (some (a2, 20, 0))), (3, vi (l3 + (1 : Int32)))]) rfl ?_
  refine z_aload_n dX9_variables_13 rfl rfl ?_
  refine z_getr (r := (gr M a0 1)) dX9_variables_14 fsX9_27_8 rfl ?_
  obtain ⟨b1, e1_, k⟩ := k
  refine Z.eqs (lv' := [(0, vr (some (a0, 8, 0))), (1, vi l1), (2, vr (some (a2, 20, 0))), (3, vi (l3 + (1 : Int32)))]) (st' := [vr (some (b1, 9, 0))]) rfl (by rw [e1_] <;> rfl) ?_
  exact z_callV (as := []) (st := []) dX9_variables_17 vsX9_79_9 (Nat.le_refl _) (Nat.le_of_ble_eq_true rfl) (Nat.le_of_ble_eq_true rfl) rfl k
theorem sX9_variables_20 {E : zE} {d : Nat} {Q : zO → zM → Prop} (M : zM) (a0 : Nat) (l1 : Int32) (a2 : Nat) (l3 : Int32) (s0 : Int32) (k : ∃ b1 : Nat, (gr M a0 3) = some (b1, 10, 0) ∧ (Z E YX11_add d M (zargs 0 [vr (some (b1, 10, 0)), vi s0]) 0 [] (zafter E YX9_variables (d + 1) [(0, vr (some (a0, 8, 0))), (1, vi l1), (2, vr (some (a2, 20, 0))), (3, vi l3), (4, vi s0)] 28 3 [] Q))) : Z E YX9_variables (d + 1) M [(0, vr (some (a0, 8, 0))), (1, vi l1), (2, vr (some (a2, 20, 0))), (3, vi l3)] 20 [vi s0] Q := by
  refine z_ist dX9_variables_20 (by decide) (lv' := [(0, vr (some (a0, 8, 0))), (1, vi l1), (2, vr (some (a2, 20, 0))), (3, vi l3), (4, vi s0)]) rfl ?_
  refine z_aload_n dX9_variables_22 rfl rfl ?_
  refine z_getr (r := (gr M a0 3)) dX9_variables_23 fsX9_44_8 rfl ?_
  refine z_iload dX9_variables_26 rfl ?_
  obtain ⟨b1, e1_, k⟩ := k
  refine Z.eqs (lv' := [(0, vr (some (a0, 8, 0))), (1, vi l1), (2, vr (some (a2, 20, 0))), (3, vi l3), (4, vi s0)]) (st' := [vi s0, vr (some (b1, 10, 0))]) rfl (by rw [e1_] <;> rfl) ?_
  exact z_callV (as := [vi s0]) (st := []) dX9_variables_28 vsX9_89_10 (Nat.le_refl _) (Nat.le_of_ble_eq_true rfl) (Nat.le_of_ble_eq_true rfl) rfl k
theorem sX9_variables_31 {E : zE} {d : Nat} {Q : zO → zM → Prop} (M : zM) (a0 : Nat) (l1 : Int32) (a2 : Nat) (l3 : Int32) (l4 : Int32) (k : ∃ b1 : Nat, (gr M a0 1) = some (b1, 9, 0) ∧ (Z E YX10_is d M (zargs 0 [vr (some (b1, 9, 0)), vi (36 : Int32)]) 0 [] (zafter E YX9_variables (d + 1) [(0, vr (some (a0, 8, 0))), (1, vi l1), (2, vr (some (a2, 20, 0))), (3, vi l3), (4, vi l4)] 37 3 [] Q))) : Z E YX9_variables (d + 1) M [(0, vr (some (a0, 8, 0))), (1, vi l1), (2, vr (some (a2, 20, 0))), (3, vi l3), (4, vi l4)] 31 [] Q := by
  refine z_aload_n dX9_variables_31 rfl rfl ?_
  refine z_getr (r := (gr M a0 1)) dX9_variables_32 fsX9_27_8 rfl ?_
  refine z_bipush (v := 36) dX9_variables_35 rfl ?_
  obtain ⟨b1, e1_, k⟩ := k
  refine Z.eqs (lv' := [(0, vr (some (a0, 8, 0))), (1, vi l1), (2, vr (some (a2, 20, 0))), (3, vi l3), (4, vi l4)]) (st' := [vi (36 : Int32), vr (some (b1, 9, 0))]) rfl (by rw [e1_] <;> rfl) ?_
  exact z_callV (as := [vi (36 : Int32)]) (st := []) dX9_variables_37 vsX9_111_9 (Nat.le_refl _) (Nat.le_of_ble_eq_true rfl) (Nat.le_of_ble_eq_true rfl) rfl k
theorem sX9_variables_40 {E : zE} {d : Nat} {Q : zO → zM → Prop} (M : zM) (a0 : Nat) (l1 : Int32) (a2 : Nat) (l3 : Int32) (l4 : Int32) (s0 : Int32) (k : if s0 = 0 then (∃ b1 : Nat, (gr M a0 1) = some (b1, 9, 0) ∧ (Z E YX10_takes d M (zargs 0 [vr (some (b1, 9, 0)), vi (8 : Int32)]) 0 [] (zafter E YX9_variables (d + 1) [(0, vr (some (a0, 8, 0))), (1, vi l1), (2, vr (some (a2, 20, 0))), (3, vi l3)] 93 3 [] Q))) else (∃ b1 : Nat, (gr M a0 1) = some (b1, 9, 0) ∧ (Z E YX10_next d M (zargs 0 [vr (some (b1, 9, 0))]) 0 [] (zafter E YX9_variables (d + 1) [(0, vr (some (a0, 8, 0))), (1, vi l1), (2, vr (some (a2, 20, 0))), (3, vi l3), (4, vi l4)] 47 3 [] Q)))) : Z E YX9_variables (d + 1) M [(0, vr (some (a0, 8, 0))), (1, vi l1), (2, vr (some (a2, 20, 0))), (3, vi l3), (4, vi l4)] 40 [vi s0] Q := by
  refine z_if_eq (tgt := 87) dX9_variables_40 rfl (fun h_ => ?_) (fun h_ => ?_)
  · have k := zit h_ k
    refine z_aload_n dX9_variables_87 rfl rfl ?_
    refine z_getr (r := (gr M a0 1)) dX9_variables_88 fsX9_27_8 rfl ?_
    refine z_bipush (v := 8) dX9_variables_91 rfl ?_
    obtain ⟨b1, e1_, k⟩ := k
    refine Z.eqs (lv' := [(0, vr (some (a0, 8, 0))), (1, vi l1), (2, vr (some (a2, 20, 0))), (3, vi l3), (4, vi l4)]) (st' := [vi (8 : Int32), vr (some (b1, 9, 0))]) rfl (by rw [e1_] <;> rfl) ?_
    refine Z.pick [0, 1, 2, 3] rfl ?_
    exact z_callV (as := [vi (8 : Int32)]) (st := []) dX9_variables_93 vsX9_137_9 (Nat.le_refl _) (Nat.le_of_ble_eq_true rfl) (Nat.le_of_ble_eq_true rfl) rfl k
  · have k := zif h_ k
    refine z_aload_n dX9_variables_43 rfl rfl ?_
    refine z_getr (r := (gr M a0 1)) dX9_variables_44 fsX9_27_8 rfl ?_
    obtain ⟨b1, e1_, k⟩ := k
    refine Z.eqs (lv' := [(0, vr (some (a0, 8, 0))), (1, vi l1), (2, vr (some (a2, 20, 0))), (3, vi l3), (4, vi l4)]) (st' := [vr (some (b1, 9, 0))]) rfl (by rw [e1_] <;> rfl) ?_
    exact z_callV (as := []) (st := []) dX9_variables_47 vsX9_52_9 (Nat.le_refl _) (Nat.le_of_ble_eq_true rfl) (Nat.le_of_ble_eq_true rfl) rfl k
theorem sX9_variables_50 {E : zE} {d : Nat} {Q : zO → zM → Prop} (M : zM) (a0 : Nat) (l1 : Int32) (a2 : Nat) (l3 : Int32) (l4 : Int32) (k : Z E YX9_variables (d + 1) (zn M 1) [(0, vr (some (a0, 8, 0))), (1, vi l1), (2, vr (some (a2, 20, 0))), (3, vi l3), (4, vi l4)] 57 [vr (some ((zsz M), 21, 0)), vr (gr M a2 0)] Q) : Z E YX9_variables (d + 1) M [(0, vr (some (a0, 8, 0))), (1, vi l1), (2, vr (some (a2, 20, 0))), (3, vi l3), (4, vi l4)] 50 [] Q := by
  refine z_aload_n dX9_variables_50 rfl rfl ?_
  refine z_getr (r := (gr M a2 0)) dX9_variables_51 fsX9_158_20 rfl ?_
  refine z_new dX9_variables_54 csX9_143 zff_21 ?_
  exact k
theorem sX9_variables_57 {E : zE} {d : Nat} {Q : zO → zM → Prop} (M : zM) (a0 : Nat) (l1 : Int32) (a2 : Nat) (l3 : Int32) (l4 : Int32) (p0 : Nat) (u1 : Option zP) (k : Z E YX9_variables (d + 1) (zn M 3) [(0, vr (some (a0, 8, 0))), (1, vi l1), (2, vr (some (a2, 20, 0))), (3, vi l3), (4, vi l4)] 61 [vr (some ((zsz M), 22, 0)), vr (some (p0, 21, 0)), vr (some (p0, 21, 0)), vr u1] Q) : Z E YX9_variables (d + 1) M [(0, vr (some (a0, 8, 0))), (1, vi l1), (2, vr (some (a2, 20, 0))), (3, vi l3), (4, vi l4)] 57 [vr (some (p0, 21, 0)), vr u1] Q := by
  refine z_dup dX9_variables_57 rfl ?_
  refine z_new dX9_variables_58 csX9_212 zff_22 ?_
  exact k
theorem sX9_variables_61 {E : zE} {d : Nat} {Q : zO → zM → Prop} (M : zM) (a0 : Nat) (l1 : Int32) (a2 : Nat) (l3 : Int32) (l4 : Int32) (p0 : Nat) (p1 : Nat) (p2 : Nat) (u3 : Option zP) (k : Z E YX9_variables (d + 1) (zn M 1) [(0, vr (some (a0, 8, 0))), (1, vi l1), (2, vr (some (a2, 20, 0))), (3, vi l3), (4, vi l4)] 66 [vr (some ((zsz M), 23, 0)), vi (-1 : Int32), vr (some (p0, 22, 0)), vr (some (p0, 22, 0)), vr (some (p1, 21, 0)), vr (some (p2, 21, 0)), vr u3] Q) : Z E YX9_variables (d + 1) M [(0, vr (some (a0, 8, 0))), (1, vi l1), (2, vr (some (a2, 20, 0))), (3, vi l3), (4, vi l4)] 61 [vr (some (p0, 22, 0)), vr (some (p1, 21, 0)), vr (some (p2, 21, 0)), vr u3] Q := by
  refine z_dup dX9_variables_61 rfl ?_
  refine z_iconst (v := -1) dX9_variables_62 rfl ?_
  refine z_new dX9_variables_63 csX9_214 zff_23 ?_
  exact k
theorem sX9_variables_66 {E : zE} {d : Nat} {Q : zO → zM → Prop} (M : zM) (a0 : Nat) (l1 : Int32) (a2 : Nat) (l3 : Int32) (l4 : Int32) (p0 : Nat) (s1 : Int32) (p2 : Nat) (p3 : Nat) (p4 : Nat) (p5 : Nat) (u6 : Option zP) (k : Z E YX17_init d M (zargs 0 [vr (some (p0, 23, 0)), vi l4]) 0 [] (zafter E YX9_variables (d + 1) [(0, vr (some (a0, 8, 0))), (1, vi l1), (2, vr (some (a2, 20, 0))), (3, vi l3)] 69 3 [vr (some (p0, 23, 0)), vi s1, vr (some (p2, 22, 0)), vr (some (p3, 22, 0)), vr (some (p4, 21, 0)), vr (some (p5, 21, 0)), vr u6] Q)) : Z E YX9_variables (d + 1) M [(0, vr (some (a0, 8, 0))), (1, vi l1), (2, vr (some (a2, 20, 0))), (3, vi l3), (4, vi l4)] 66 [vr (some (p0, 23, 0)), vi s1, vr (some (p2, 22, 0)), vr (some (p3, 22, 0)), vr (some (p4, 21, 0)), vr (some (p5, 21, 0)), vr u6] Q := by
  refine z_dup dX9_variables_66 rfl ?_
  refine z_iload dX9_variables_67 rfl ?_
  refine Z.pick [0, 1, 2, 3] rfl ?_
  exact z_callI (as := [vi l4]) (st := [vr (some (p0, 23, 0)), vi s1, vr (some (p2, 22, 0)), vr (some (p3, 22, 0)), vr (some (p4, 21, 0)), vr (some (p5, 21, 0)), vr u6]) dX9_variables_69 isX9_216 (Nat.le_refl _) (Nat.le_of_ble_eq_true rfl) (Nat.le_of_ble_eq_true rfl) rfl k
theorem sX9_variables_72 {E : zE} {d : Nat} {Q : zO → zM → Prop} (M : zM) (a0 : Nat) (l1 : Int32) (a2 : Nat) (l3 : Int32) (p0 : Nat) (s1 : Int32) (p2 : Nat) (p3 : Nat) (p4 : Nat) (p5 : Nat) (u6 : Option zP) (k : Z E YX9_within d M (zargs 0 [vr (some (a0, 8, 0)), vi l1]) 0 [] (zafter E YX9_variables (d + 1) [(0, vr (some (a0, 8, 0))), (1, vi l1), (2, vr (some (a2, 20, 0))), (3, vi l3)] 74 3 [vr (some (p0, 23, 0)), vi s1, vr (some (p2, 22, 0)), vr (some (p3, 22, 0)), vr (some (p4, 21, 0)), vr (some (p5, 21, 0)), vr u6] Q)) : Z E YX9_variables (d + 1) M [(0, vr (some (a0, 8, 0))), (1, vi l1), (2, vr (some (a2, 20, 0))), (3, vi l3)] 72 [vr (some (p0, 23, 0)), vi s1, vr (some (p2, 22, 0)), vr (some (p3, 22, 0)), vr (some (p4, 21, 0)), vr (some (p5, 21, 0)), vr u6] Q := by
  refine z_aload_n dX9_variables_72 rfl rfl ?_
  refine z_iload_n dX9_variables_73 rfl rfl ?_
  exact z_callV (as := [vi l1]) (st := [vr (some (p0, 23, 0)), vi s1, vr (some (p2, 22, 0)), vr (some (p3, 22, 0)), vr (some (p4, 21, 0)), vr (some (p5, 21, 0)), vr u6]) dX9_variables_74 vsX9_218_8 (Nat.le_refl _) (Nat.le_of_ble_eq_true rfl) (Nat.le_of_ble_eq_true rfl) rfl k
theorem sX9_variables_77 {E : zE} {d : Nat} {Q : zO → zM → Prop} (M : zM) (a0 : Nat) (l1 : Int32) (a2 : Nat) (l3 : Int32) (u0 : Option zP) (p1 : Nat) (s2 : Int32) (p3 : Nat) (p4 : Nat) (p5 : Nat) (p6 : Nat) (u7 : Option zP) (k : Z E YX16_init d M (zargs 0 [vr (some (p3, 22, 0)), vi s2, vr (some (p1, 23, 0)), vr u0]) 0 [] (zafter E YX9_variables (d + 1) [(0, vr (some (a0, 8, 0))), (1, vi l1), (2, vr (some (a2, 20, 0))), (3, vi l3)] 77 3 [vr (some (p4, 22, 0)), vr (some (p5, 21, 0)), vr (some (p6, 21, 0)), vr u7] Q)) : Z E YX9_variables (d + 1) M [(0, vr (some (a0, 8, 0))), (1, vi l1), (2, vr (some (a2, 20, 0))), (3, vi l3)] 77 [vr u0, vr (some (p1, 23, 0)), vi s2, vr (some (p3, 22, 0)), vr (some (p4, 22, 0)), vr (some (p5, 21, 0)), vr (some (p6, 21, 0)), vr u7] Q := by
  exact z_callI (as := [vi s2, vr (some (p1, 23, 0)), vr u0]) (st := [vr (some (p4, 22, 0)), vr (some (p5, 21, 0)), vr (some (p6, 21, 0)), vr u7]) dX9_variables_77 isX9_221 (Nat.le_refl _) (Nat.le_of_ble_eq_true rfl) (Nat.le_of_ble_eq_true rfl) rfl k
theorem sX9_variables_80 {E : zE} {d : Nat} {Q : zO → zM → Prop} (M : zM) (a0 : Nat) (l1 : Int32) (a2 : Nat) (l3 : Int32) (p0 : Nat) (p1 : Nat) (p2 : Nat) (u3 : Option zP) (k : Z E YX15_init d M (zargs 0 [vr (some (p1, 21, 0)), vr (some (p0, 22, 0))]) 0 [] (zafter E YX9_variables (d + 1) [(0, vr (some (a0, 8, 0))), (1, vi l1), (2, vr (some (a2, 20, 0))), (3, vi l3)] 80 3 [vr (some (p2, 21, 0)), vr u3] Q)) : Z E YX9_variables (d + 1) M [(0, vr (some (a0, 8, 0))), (1, vi l1), (2, vr (some (a2, 20, 0))), (3, vi l3)] 80 [vr (some (p0, 22, 0)), vr (some (p1, 21, 0)), vr (some (p2, 21, 0)), vr u3] Q := by
  exact z_callI (as := [vr (some (p0, 22, 0))]) (st := [vr (some (p2, 21, 0)), vr u3]) dX9_variables_80 isX9_149 (Nat.le_refl _) (Nat.le_of_ble_eq_true rfl) (Nat.le_of_ble_eq_true rfl) rfl k
theorem sX9_variables_83 {E : zE} {d : Nat} {Q : zO → zM → Prop} (M : zM) (a0 : Nat) (l1 : Int32) (a2 : Nat) (l3 : Int32) (p0 : Nat) (u1 : Option zP) (k : ∃ b1 : Nat, u1 = some (b1, 11, 0) ∧ (Z E YJ2_add d M (zargs 0 [vr (some (b1, 11, 0)), vr (some (p0, 21, 0))]) 0 [] (zafter E YX9_variables (d + 1) [(0, vr (some (a0, 8, 0))), (1, vi l1), (2, vr (some (a2, 20, 0))), (3, vi l3)] 83 3 [] Q))) : Z E YX9_variables (d + 1) M [(0, vr (some (a0, 8, 0))), (1, vi l1), (2, vr (some (a2, 20, 0))), (3, vi l3)] 83 [vr (some (p0, 21, 0)), vr u1] Q := by
  obtain ⟨b1, e1_, k⟩ := k
  refine Z.eqs (lv' := [(0, vr (some (a0, 8, 0))), (1, vi l1), (2, vr (some (a2, 20, 0))), (3, vi l3)]) (st' := [vr (some (p0, 21, 0)), vr (some (b1, 11, 0))]) rfl (by rw [e1_] <;> rfl) ?_
  exact z_callV (as := [vr (some (p0, 21, 0))]) (st := []) dX9_variables_83 vsX9_48_11 (Nat.le_refl _) (Nat.le_of_ble_eq_true rfl) (Nat.le_of_ble_eq_true rfl) rfl k
theorem sX9_variables_86 {E : zE} {d : Nat} {Q : zO → zM → Prop} (M : zM) (a0 : Nat) (l1 : Int32) (a2 : Nat) (l3 : Int32) (s0 : Int32) (k : ∃ b1 : Nat, (gr M a0 1) = some (b1, 9, 0) ∧ (Z E YX10_takes d M (zargs 0 [vr (some (b1, 9, 0)), vi (8 : Int32)]) 0 [] (zafter E YX9_variables (d + 1) [(0, vr (some (a0, 8, 0))), (1, vi l1), (2, vr (some (a2, 20, 0))), (3, vi l3)] 93 3 [] Q))) : Z E YX9_variables (d + 1) M [(0, vr (some (a0, 8, 0))), (1, vi l1), (2, vr (some (a2, 20, 0))), (3, vi l3)] 86 [vi s0] Q := by
  refine z_pop dX9_variables_86 rfl ?_
  refine z_aload_n dX9_variables_87 rfl rfl ?_
  refine z_getr (r := (gr M a0 1)) dX9_variables_88 fsX9_27_8 rfl ?_
  refine z_bipush (v := 8) dX9_variables_91 rfl ?_
  obtain ⟨b1, e1_, k⟩ := k
  refine Z.eqs (lv' := [(0, vr (some (a0, 8, 0))), (1, vi l1), (2, vr (some (a2, 20, 0))), (3, vi l3)]) (st' := [vi (8 : Int32), vr (some (b1, 9, 0))]) rfl (by rw [e1_] <;> rfl) ?_
  exact z_callV (as := [vi (8 : Int32)]) (st := []) dX9_variables_93 vsX9_137_9 (Nat.le_refl _) (Nat.le_of_ble_eq_true rfl) (Nat.le_of_ble_eq_true rfl) rfl k
theorem sX9_variables_96 {E : zE} {d : Nat} {Q : zO → zM → Prop} (M : zM) (a0 : Nat) (l1 : Int32) (a2 : Nat) (l3 : Int32) (s0 : Int32) (k : if s0 = 0 then (if l3 = (1 : Int32) then (16 ≤ a0 ∧ (Q (.inl (some (vr (some (a2, 20, 0))))) (si M a0 7 (1 : Int32)))) else (16 ≤ a0 ∧ (Q (.inl (some (vr (some (a2, 20, 0))))) (si M a0 7 (0 : Int32))))) else (Z E YX9_variables (d + 1) M [(0, vr (some (a0, 8, 0))), (1, vi l1), (2, vr (some (a2, 20, 0))), (3, vi l3)] 10 [] Q)) : Z E YX9_variables (d + 1) M [(0, vr (some (a0, 8, 0))), (1, vi l1), (2, vr (some (a2, 20, 0))), (3, vi l3)] 96 [vi s0] Q := by
  refine z_if_ne (tgt := 10) dX9_variables_96 rfl (fun h_ => ?_) (fun h_ => ?_)
  · have k := zif h_ k
    exact k
  · have k := zit h_ k
    refine z_aload_n dX9_variables_99 rfl rfl ?_
    refine z_iload_n dX9_variables_100 rfl rfl ?_
    refine z_iconst (v := 1) dX9_variables_101 rfl ?_
    refine z_icmp_ne (tgt := 109) dX9_variables_102 rfl (fun h_ => ?_) (fun h_ => ?_)
    · have k := zif h_ k
      refine z_iconst (v := 0) dX9_variables_109 rfl ?_
      obtain ⟨g_, k⟩ := k
      refine z_puti g_ dX9_variables_110 (zfwN.w fwX9_224_8) rfl ⟨by decide, by decide⟩ ?_
      refine z_aload_n dX9_variables_113 rfl rfl ?_
      exact z_aret dX9_variables_114 rfl rfl k
    · have k := zit h_ k
      refine z_iconst (v := 1) dX9_variables_105 rfl ?_
      refine z_goto (tgt := 110) dX9_variables_106 rfl ?_
      obtain ⟨g_, k⟩ := k
      refine z_puti g_ dX9_variables_110 (zfwN.w fwX9_224_8) rfl ⟨by decide, by decide⟩ ?_
      refine z_aload_n dX9_variables_113 rfl rfl ?_
      exact z_aret dX9_variables_114 rfl rfl k
/-! ScriptTypes$Parser.within(Z)LScriptTypes$Node; -/
theorem bX9_within_0 : zdec cX9_within 0 [(0, .aload_n 0, 1), (1, .invokevirtual 277, 3), (4, .ifCond .ne 12, 3), (7, .aload_n 0, 1), (8, .getfield 27, 3), (11, .iconst 2, 1), (12, .invokevirtual 35, 3), (15, .athrow, 1), (16, .aload_n 0, 1), (17, .invokevirtual 72, 3), (20, .aload_n 0, 1), (21, .iload_n 1, 1), (22, .invokevirtual 257, 3), (25, .astore_n 2, 1), (26, .aload_n 0, 1), (27, .dup, 1)] = true := by decide +kernel
theorem dX9_within_0 : decode cX9_within 0 = .ok (.aload_n 0, 1) := zdec_at bX9_within_0 0 rfl
theorem dX9_within_1 : decode cX9_within 1 = .ok (.invokevirtual 277, 3) := zdec_at bX9_within_0 1 rfl
theorem dX9_within_4 : decode cX9_within 4 = .ok (.ifCond .ne 12, 3) := zdec_at bX9_within_0 2 rfl
theorem dX9_within_7 : decode cX9_within 7 = .ok (.aload_n 0, 1) := zdec_at bX9_within_0 3 rfl
theorem dX9_within_8 : decode cX9_within 8 = .ok (.getfield 27, 3) := zdec_at bX9_within_0 4 rfl
theorem dX9_within_11 : decode cX9_within 11 = .ok (.iconst 2, 1) := zdec_at bX9_within_0 5 rfl
theorem dX9_within_12 : decode cX9_within 12 = .ok (.invokevirtual 35, 3) := zdec_at bX9_within_0 6 rfl
theorem dX9_within_15 : decode cX9_within 15 = .ok (.athrow, 1) := zdec_at bX9_within_0 7 rfl
theorem dX9_within_16 : decode cX9_within 16 = .ok (.aload_n 0, 1) := zdec_at bX9_within_0 8 rfl
theorem dX9_within_17 : decode cX9_within 17 = .ok (.invokevirtual 72, 3) := zdec_at bX9_within_0 9 rfl
theorem dX9_within_20 : decode cX9_within 20 = .ok (.aload_n 0, 1) := zdec_at bX9_within_0 10 rfl
theorem dX9_within_21 : decode cX9_within 21 = .ok (.iload_n 1, 1) := zdec_at bX9_within_0 11 rfl
theorem dX9_within_22 : decode cX9_within 22 = .ok (.invokevirtual 257, 3) := zdec_at bX9_within_0 12 rfl
theorem dX9_within_25 : decode cX9_within 25 = .ok (.astore_n 2, 1) := zdec_at bX9_within_0 13 rfl
theorem dX9_within_26 : decode cX9_within 26 = .ok (.aload_n 0, 1) := zdec_at bX9_within_0 14 rfl
theorem dX9_within_27 : decode cX9_within 27 = .ok (.dup, 1) := zdec_at bX9_within_0 15 rfl
theorem bX9_within_28 : zdec cX9_within 28 [(28, .getfield 31, 3), (31, .iconst 1, 1), (32, .isub, 1), (33, .putfield 31, 3), (36, .aload_n 2, 1), (37, .areturn, 1)] = true := by decide +kernel
theorem dX9_within_28 : decode cX9_within 28 = .ok (.getfield 31, 3) := zdec_at bX9_within_28 0 rfl
theorem dX9_within_31 : decode cX9_within 31 = .ok (.iconst 1, 1) := zdec_at bX9_within_28 1 rfl
theorem dX9_within_32 : decode cX9_within 32 = .ok (.isub, 1) := zdec_at bX9_within_28 2 rfl
theorem dX9_within_33 : decode cX9_within 33 = .ok (.putfield 31, 3) := zdec_at bX9_within_28 3 rfl
theorem dX9_within_36 : decode cX9_within 36 = .ok (.aload_n 2, 1) := zdec_at bX9_within_28 4 rfl
theorem dX9_within_37 : decode cX9_within 37 = .ok (.areturn, 1) := zdec_at bX9_within_28 5 rfl
theorem sX9_within_0 {E : zE} {d : Nat} {Q : zO → zM → Prop} (M : zM) (a0 : Nat) (l1 : Int32) (k : Z E YX9_beginsExpression d M (zargs 0 [vr (some (a0, 8, 0))]) 0 [] (zafter E YX9_within (d + 1) [(0, vr (some (a0, 8, 0))), (1, vi l1)] 1 3 [] Q)) : Z E YX9_within (d + 1) M [(0, vr (some (a0, 8, 0))), (1, vi l1)] 0 [] Q := by
  refine z_aload_n dX9_within_0 rfl rfl ?_
  exact z_callV (as := []) (st := []) dX9_within_1 vsX9_277_8 (Nat.le_refl _) (Nat.le_of_ble_eq_true rfl) (Nat.le_of_ble_eq_true rfl) rfl k
theorem sX9_within_4 {E : zE} {d : Nat} {Q : zO → zM → Prop} (M : zM) (a0 : Nat) (l1 : Int32) (s0 : Int32) (k : if s0 = 0 then (∃ b1 : Nat, (gr M a0 1) = some (b1, 9, 0) ∧ (Z E YX10_fault d M (zargs 0 [vr (some (b1, 9, 0)), vi (2 : Int32)]) 0 [] (zafter E YX9_within (d + 1) [] 12 3 [] Q))) else (Z E YX9_opens d M (zargs 0 [vr (some (a0, 8, 0))]) 0 [] (zafter E YX9_within (d + 1) [(0, vr (some (a0, 8, 0))), (1, vi l1)] 17 3 [] Q))) : Z E YX9_within (d + 1) M [(0, vr (some (a0, 8, 0))), (1, vi l1)] 4 [vi s0] Q := by
  refine z_if_ne (tgt := 16) dX9_within_4 rfl (fun h_ => ?_) (fun h_ => ?_)
  · have k := zif h_ k
    refine z_aload_n dX9_within_16 rfl rfl ?_
    exact z_callV (as := []) (st := []) dX9_within_17 vsX9_72_8 (Nat.le_refl _) (Nat.le_of_ble_eq_true rfl) (Nat.le_of_ble_eq_true rfl) rfl k
  · have k := zit h_ k
    refine z_aload_n dX9_within_7 rfl rfl ?_
    refine z_getr (r := (gr M a0 1)) dX9_within_8 fsX9_27_8 rfl ?_
    refine z_iconst (v := 2) dX9_within_11 rfl ?_
    obtain ⟨b1, e1_, k⟩ := k
    refine Z.eqs (lv' := [(0, vr (some (a0, 8, 0))), (1, vi l1)]) (st' := [vi (2 : Int32), vr (some (b1, 9, 0))]) rfl (by rw [e1_] <;> rfl) ?_
    refine Z.pick [] rfl ?_
    exact z_callV (as := [vi (2 : Int32)]) (st := []) dX9_within_12 vsX9_35_9 (Nat.le_refl _) (Nat.le_of_ble_eq_true rfl) (Nat.le_of_ble_eq_true rfl) rfl k
theorem sX9_within_15 {E : zE} {d : Nat} {Q : zO → zM → Prop} (M : zM) (u0 : Option zP) (k : ∃ b1 : Nat, u0 = some (b1, 12, 0) ∧ (Q (.inr (b1, 12, 0)) M)) : Z E YX9_within (d + 1) M [] 15 [vr u0] Q := by
  obtain ⟨b1, e1_, k⟩ := k
  refine Z.eqs (lv' := []) (st' := [vr (some (b1, 12, 0))]) rfl (by rw [e1_] <;> rfl) ?_
  exact z_athrow dX9_within_15 (ZT.out (by decide) k)
theorem sX9_within_20 {E : zE} {d : Nat} {Q : zO → zM → Prop} (M : zM) (a0 : Nat) (l1 : Int32) (k : Z E YX9_assignment d M (zargs 0 [vr (some (a0, 8, 0)), vi l1]) 0 [] (zafter E YX9_within (d + 1) [(0, vr (some (a0, 8, 0)))] 22 3 [] Q)) : Z E YX9_within (d + 1) M [(0, vr (some (a0, 8, 0))), (1, vi l1)] 20 [] Q := by
  refine z_aload_n dX9_within_20 rfl rfl ?_
  refine z_iload_n dX9_within_21 rfl rfl ?_
  refine Z.pick [0] rfl ?_
  exact z_callV (as := [vi l1]) (st := []) dX9_within_22 vsX9_257_8 (Nat.le_refl _) (Nat.le_of_ble_eq_true rfl) (Nat.le_of_ble_eq_true rfl) rfl k
theorem sX9_within_25 {E : zE} {d : Nat} {Q : zO → zM → Prop} (M : zM) (a0 : Nat) (u0 : Option zP) (k : 16 ≤ a0 ∧ (Q (.inl (some (vr u0))) (si M a0 4 ((gi M a0 4) - (1 : Int32))))) : Z E YX9_within (d + 1) M [(0, vr (some (a0, 8, 0)))] 25 [vr u0] Q := by
  refine z_ast_n dX9_within_25 rfl (by decide) (lv' := [(0, vr (some (a0, 8, 0))), (2, vr u0)]) rfl ?_
  refine z_aload_n dX9_within_26 rfl rfl ?_
  refine z_dup dX9_within_27 rfl ?_
  refine z_geti dX9_within_28 fsX9_31_8 ?_
  refine z_iconst (v := 1) dX9_within_31 rfl ?_
  refine z_isub dX9_within_32 ?_
  obtain ⟨g_, k⟩ := k
  refine z_puti g_ dX9_within_33 (zfwN.w fwX9_31_8) rfl ⟨rfl, rfl⟩ ?_
  refine z_aload_n dX9_within_36 rfl rfl ?_
  exact z_aret dX9_within_37 rfl rfl k
/-! ScriptTypes$Parser.beginsExpression()Z -/
theorem bX9_beginsExpression_0 : zdec cX9_beginsExpression 0 [(0, .aload_n 0, 1), (1, .getfield 27, 3), (4, .getfield 55, 3), (7, .iconst 2, 1), (8, .if_icmp .ne 34, 3), (11, .aload_n 0, 1), (12, .getfield 27, 3), (15, .getfield 114, 3), (18, .invokestatic 160, 3), (21, .ifCond .ne 15, 3), (24, .aload_n 0, 1), (25, .getfield 27, 3), (28, .getfield 114, 3), (31, .bipush 11, 2), (33, .if_icmp .ne 7, 3), (36, .iconst 1, 1)] = true := by decide +kernel
theorem dX9_beginsExpression_0 : decode cX9_beginsExpression 0 = .ok (.aload_n 0, 1) := zdec_at bX9_beginsExpression_0 0 rfl
theorem dX9_beginsExpression_1 : decode cX9_beginsExpression 1 = .ok (.getfield 27, 3) := zdec_at bX9_beginsExpression_0 1 rfl
theorem dX9_beginsExpression_4 : decode cX9_beginsExpression 4 = .ok (.getfield 55, 3) := zdec_at bX9_beginsExpression_0 2 rfl
theorem dX9_beginsExpression_7 : decode cX9_beginsExpression 7 = .ok (.iconst 2, 1) := zdec_at bX9_beginsExpression_0 3 rfl
theorem dX9_beginsExpression_8 : decode cX9_beginsExpression 8 = .ok (.if_icmp .ne 34, 3) := zdec_at bX9_beginsExpression_0 4 rfl
theorem dX9_beginsExpression_11 : decode cX9_beginsExpression 11 = .ok (.aload_n 0, 1) := zdec_at bX9_beginsExpression_0 5 rfl
theorem dX9_beginsExpression_12 : decode cX9_beginsExpression 12 = .ok (.getfield 27, 3) := zdec_at bX9_beginsExpression_0 6 rfl
theorem dX9_beginsExpression_15 : decode cX9_beginsExpression 15 = .ok (.getfield 114, 3) := zdec_at bX9_beginsExpression_0 7 rfl
theorem dX9_beginsExpression_18 : decode cX9_beginsExpression 18 = .ok (.invokestatic 160, 3) := zdec_at bX9_beginsExpression_0 8 rfl
theorem dX9_beginsExpression_21 : decode cX9_beginsExpression 21 = .ok (.ifCond .ne 15, 3) := zdec_at bX9_beginsExpression_0 9 rfl
theorem dX9_beginsExpression_24 : decode cX9_beginsExpression 24 = .ok (.aload_n 0, 1) := zdec_at bX9_beginsExpression_0 10 rfl
theorem dX9_beginsExpression_25 : decode cX9_beginsExpression 25 = .ok (.getfield 27, 3) := zdec_at bX9_beginsExpression_0 11 rfl
theorem dX9_beginsExpression_28 : decode cX9_beginsExpression 28 = .ok (.getfield 114, 3) := zdec_at bX9_beginsExpression_0 12 rfl
theorem dX9_beginsExpression_31 : decode cX9_beginsExpression 31 = .ok (.bipush 11, 2) := zdec_at bX9_beginsExpression_0 13 rfl
theorem dX9_beginsExpression_33 : decode cX9_beginsExpression 33 = .ok (.if_icmp .ne 7, 3) := zdec_at bX9_beginsExpression_0 14 rfl
theorem dX9_beginsExpression_36 : decode cX9_beginsExpression 36 = .ok (.iconst 1, 1) := zdec_at bX9_beginsExpression_0 15 rfl
theorem bX9_beginsExpression_37 : zdec cX9_beginsExpression 37 [(37, .goto 4, 3), (40, .iconst 0, 1), (41, .ireturn, 1), (42, .aload_n 0, 1), (43, .getfield 27, 3), (46, .getfield 55, 3), (49, .iconst 1, 1), (50, .if_icmp .eq 54, 3), (53, .aload_n 0, 1), (54, .getfield 27, 3), (57, .getfield 55, 3), (60, .iconst 3, 1), (61, .if_icmp .eq 43, 3), (64, .aload_n 0, 1), (65, .getfield 27, 3), (68, .getfield 55, 3)] = true := by decide +kernel
theorem dX9_beginsExpression_37 : decode cX9_beginsExpression 37 = .ok (.goto 4, 3) := zdec_at bX9_beginsExpression_37 0 rfl
theorem dX9_beginsExpression_40 : decode cX9_beginsExpression 40 = .ok (.iconst 0, 1) := zdec_at bX9_beginsExpression_37 1 rfl
theorem dX9_beginsExpression_41 : decode cX9_beginsExpression 41 = .ok (.ireturn, 1) := zdec_at bX9_beginsExpression_37 2 rfl
theorem dX9_beginsExpression_42 : decode cX9_beginsExpression 42 = .ok (.aload_n 0, 1) := zdec_at bX9_beginsExpression_37 3 rfl
theorem dX9_beginsExpression_43 : decode cX9_beginsExpression 43 = .ok (.getfield 27, 3) := zdec_at bX9_beginsExpression_37 4 rfl
theorem dX9_beginsExpression_46 : decode cX9_beginsExpression 46 = .ok (.getfield 55, 3) := zdec_at bX9_beginsExpression_37 5 rfl
theorem dX9_beginsExpression_49 : decode cX9_beginsExpression 49 = .ok (.iconst 1, 1) := zdec_at bX9_beginsExpression_37 6 rfl
theorem dX9_beginsExpression_50 : decode cX9_beginsExpression 50 = .ok (.if_icmp .eq 54, 3) := zdec_at bX9_beginsExpression_37 7 rfl
theorem dX9_beginsExpression_53 : decode cX9_beginsExpression 53 = .ok (.aload_n 0, 1) := zdec_at bX9_beginsExpression_37 8 rfl
theorem dX9_beginsExpression_54 : decode cX9_beginsExpression 54 = .ok (.getfield 27, 3) := zdec_at bX9_beginsExpression_37 9 rfl
theorem dX9_beginsExpression_57 : decode cX9_beginsExpression 57 = .ok (.getfield 55, 3) := zdec_at bX9_beginsExpression_37 10 rfl
theorem dX9_beginsExpression_60 : decode cX9_beginsExpression 60 = .ok (.iconst 3, 1) := zdec_at bX9_beginsExpression_37 11 rfl
theorem dX9_beginsExpression_61 : decode cX9_beginsExpression 61 = .ok (.if_icmp .eq 43, 3) := zdec_at bX9_beginsExpression_37 12 rfl
theorem dX9_beginsExpression_64 : decode cX9_beginsExpression 64 = .ok (.aload_n 0, 1) := zdec_at bX9_beginsExpression_37 13 rfl
theorem dX9_beginsExpression_65 : decode cX9_beginsExpression 65 = .ok (.getfield 27, 3) := zdec_at bX9_beginsExpression_37 14 rfl
theorem dX9_beginsExpression_68 : decode cX9_beginsExpression 68 = .ok (.getfield 55, 3) := zdec_at bX9_beginsExpression_37 15 rfl
theorem bX9_beginsExpression_71 : zdec cX9_beginsExpression 71 [(71, .iconst 4, 1), (72, .if_icmp .eq 32, 3), (75, .aload_n 0, 1), (76, .getfield 27, 3), (79, .getfield 55, 3), (82, .iconst 5, 1), (83, .if_icmp .ne 25, 3), (86, .aload_n 0, 1), (87, .invokevirtual 129, 3), (90, .ifCond .ne 14, 3), (93, .aload_n 0, 1), (94, .getfield 27, 3), (97, .iconst 0, 1), (98, .invokevirtual 111, 3), (101, .ifCond .eq 7, 3), (104, .iconst 1, 1)] = true := by decide +kernel
theorem dX9_beginsExpression_71 : decode cX9_beginsExpression 71 = .ok (.iconst 4, 1) := zdec_at bX9_beginsExpression_71 0 rfl
theorem dX9_beginsExpression_72 : decode cX9_beginsExpression 72 = .ok (.if_icmp .eq 32, 3) := zdec_at bX9_beginsExpression_71 1 rfl
theorem dX9_beginsExpression_75 : decode cX9_beginsExpression 75 = .ok (.aload_n 0, 1) := zdec_at bX9_beginsExpression_71 2 rfl
theorem dX9_beginsExpression_76 : decode cX9_beginsExpression 76 = .ok (.getfield 27, 3) := zdec_at bX9_beginsExpression_71 3 rfl
theorem dX9_beginsExpression_79 : decode cX9_beginsExpression 79 = .ok (.getfield 55, 3) := zdec_at bX9_beginsExpression_71 4 rfl
theorem dX9_beginsExpression_82 : decode cX9_beginsExpression 82 = .ok (.iconst 5, 1) := zdec_at bX9_beginsExpression_71 5 rfl
theorem dX9_beginsExpression_83 : decode cX9_beginsExpression 83 = .ok (.if_icmp .ne 25, 3) := zdec_at bX9_beginsExpression_71 6 rfl
theorem dX9_beginsExpression_86 : decode cX9_beginsExpression 86 = .ok (.aload_n 0, 1) := zdec_at bX9_beginsExpression_71 7 rfl
theorem dX9_beginsExpression_87 : decode cX9_beginsExpression 87 = .ok (.invokevirtual 129, 3) := zdec_at bX9_beginsExpression_71 8 rfl
theorem dX9_beginsExpression_90 : decode cX9_beginsExpression 90 = .ok (.ifCond .ne 14, 3) := zdec_at bX9_beginsExpression_71 9 rfl
theorem dX9_beginsExpression_93 : decode cX9_beginsExpression 93 = .ok (.aload_n 0, 1) := zdec_at bX9_beginsExpression_71 10 rfl
theorem dX9_beginsExpression_94 : decode cX9_beginsExpression 94 = .ok (.getfield 27, 3) := zdec_at bX9_beginsExpression_71 11 rfl
theorem dX9_beginsExpression_97 : decode cX9_beginsExpression 97 = .ok (.iconst 0, 1) := zdec_at bX9_beginsExpression_71 12 rfl
theorem dX9_beginsExpression_98 : decode cX9_beginsExpression 98 = .ok (.invokevirtual 111, 3) := zdec_at bX9_beginsExpression_71 13 rfl
theorem dX9_beginsExpression_101 : decode cX9_beginsExpression 101 = .ok (.ifCond .eq 7, 3) := zdec_at bX9_beginsExpression_71 14 rfl
theorem dX9_beginsExpression_104 : decode cX9_beginsExpression 104 = .ok (.iconst 1, 1) := zdec_at bX9_beginsExpression_71 15 rfl
theorem bX9_beginsExpression_105 : zdec cX9_beginsExpression 105 [(105, .goto 4, 3), (108, .iconst 0, 1), (109, .ireturn, 1)] = true := by decide +kernel
theorem dX9_beginsExpression_105 : decode cX9_beginsExpression 105 = .ok (.goto 4, 3) := zdec_at bX9_beginsExpression_105 0 rfl
theorem dX9_beginsExpression_108 : decode cX9_beginsExpression 108 = .ok (.iconst 0, 1) := zdec_at bX9_beginsExpression_105 1 rfl
theorem dX9_beginsExpression_109 : decode cX9_beginsExpression 109 = .ok (.ireturn, 1) := zdec_at bX9_beginsExpression_105 2 rfl
theorem sX9_beginsExpression_0 {E : zE} {d : Nat} {Q : zO → zM → Prop} (M : zM) (a0 : Nat) (k : ∃ b1 : Nat, (gr M a0 1) = some (b1, 9, 0) ∧ (if (gi M b1 3) = (2 : Int32) then (∃ b2 : Nat, (gr M a0 1) = some (b2, 9, 0) ∧ (Z E YX9_beginsByWord d M (zargs 0 [vi (gi M b2 6)]) 0 [] (zafter E YX9_beginsExpression (d + 1) [(0, vr (some (a0, 8, 0)))] 18 3 [] Q))) else (∃ b2 : Nat, (gr M a0 1) = some (b2, 9, 0) ∧ (if (gi M b2 3) = (1 : Int32) then (Q (.inl (some (vi (1 : Int32)))) M) else (∃ b3 : Nat, (gr M a0 1) = some (b3, 9, 0) ∧ (if (gi M b3 3) = (3 : Int32) then (Q (.inl (some (vi (1 : Int32)))) M) else (∃ b4 : Nat, (gr M a0 1) = some (b4, 9, 0) ∧ (if (gi M b4 3) = (4 : Int32) then (Q (.inl (some (vi (1 : Int32)))) M) else (∃ b5 : Nat, (gr M a0 1) = some (b5, 9, 0) ∧ (if (gi M b5 3) = (5 : Int32) then (Z E YX9_startsExpression d M (zargs 0 [vr (some (a0, 8, 0))]) 0 [] (zafter E YX9_beginsExpression (d + 1) [(0, vr (some (a0, 8, 0)))] 87 3 [] Q)) else (Q (.inl (some (vi (0 : Int32)))) M))))))))))) : Z E YX9_beginsExpression (d + 1) M [(0, vr (some (a0, 8, 0)))] 0 [] Q := by
  refine z_aload_n dX9_beginsExpression_0 rfl rfl ?_
  refine z_getr (r := (gr M a0 1)) dX9_beginsExpression_1 fsX9_27_8 rfl ?_
  obtain ⟨b1, e1_, k⟩ := k
  refine Z.eqs (lv' := [(0, vr (some (a0, 8, 0)))]) (st' := [vr (some (b1, 9, 0))]) rfl (by rw [e1_] <;> rfl) ?_
  refine z_geti dX9_beginsExpression_4 fsX9_55_9 ?_
  refine z_iconst (v := 2) dX9_beginsExpression_7 rfl ?_
  refine z_icmp_ne (tgt := 42) dX9_beginsExpression_8 rfl (fun h_ => ?_) (fun h_ => ?_)
  · have k := zif h_ k
    refine z_aload_n dX9_beginsExpression_42 rfl rfl ?_
    refine z_getr (r := (gr M a0 1)) dX9_beginsExpression_43 fsX9_27_8 rfl ?_
    obtain ⟨b2, e2_, k⟩ := k
    refine Z.eqs (lv' := [(0, vr (some (a0, 8, 0)))]) (st' := [vr (some (b2, 9, 0))]) rfl (by rw [e2_] <;> rfl) ?_
    refine z_geti dX9_beginsExpression_46 fsX9_55_9 ?_
    refine z_iconst (v := 1) dX9_beginsExpression_49 rfl ?_
    refine z_icmp_eq (tgt := 104) dX9_beginsExpression_50 rfl (fun h_ => ?_) (fun h_ => ?_)
    · have k := zit h_ k
      refine z_iconst (v := 1) dX9_beginsExpression_104 rfl ?_
      refine z_goto (tgt := 109) dX9_beginsExpression_105 rfl ?_
      exact z_iret dX9_beginsExpression_109 rfl (by decide) k
    · have k := zif h_ k
      refine z_aload_n dX9_beginsExpression_53 rfl rfl ?_
      refine z_getr (r := (gr M a0 1)) dX9_beginsExpression_54 fsX9_27_8 rfl ?_
      obtain ⟨b3, e3_, k⟩ := k
      refine Z.eqs (lv' := [(0, vr (some (a0, 8, 0)))]) (st' := [vr (some (b3, 9, 0))]) rfl (by rw [e3_] <;> rfl) ?_
      refine z_geti dX9_beginsExpression_57 fsX9_55_9 ?_
      refine z_iconst (v := 3) dX9_beginsExpression_60 rfl ?_
      refine z_icmp_eq (tgt := 104) dX9_beginsExpression_61 rfl (fun h_ => ?_) (fun h_ => ?_)
      · have k := zit h_ k
        refine z_iconst (v := 1) dX9_beginsExpression_104 rfl ?_
        refine z_goto (tgt := 109) dX9_beginsExpression_105 rfl ?_
        exact z_iret dX9_beginsExpression_109 rfl (by decide) k
      · have k := zif h_ k
        refine z_aload_n dX9_beginsExpression_64 rfl rfl ?_
        refine z_getr (r := (gr M a0 1)) dX9_beginsExpression_65 fsX9_27_8 rfl ?_
        obtain ⟨b4, e4_, k⟩ := k
        refine Z.eqs (lv' := [(0, vr (some (a0, 8, 0)))]) (st' := [vr (some (b4, 9, 0))]) rfl (by rw [e4_] <;> rfl) ?_
        refine z_geti dX9_beginsExpression_68 fsX9_55_9 ?_
        refine z_iconst (v := 4) dX9_beginsExpression_71 rfl ?_
        refine z_icmp_eq (tgt := 104) dX9_beginsExpression_72 rfl (fun h_ => ?_) (fun h_ => ?_)
        · have k := zit h_ k
          refine z_iconst (v := 1) dX9_beginsExpression_104 rfl ?_
          refine z_goto (tgt := 109) dX9_beginsExpression_105 rfl ?_
          exact z_iret dX9_beginsExpression_109 rfl (by decide) k
        · have k := zif h_ k
          refine z_aload_n dX9_beginsExpression_75 rfl rfl ?_
          refine z_getr (r := (gr M a0 1)) dX9_beginsExpression_76 fsX9_27_8 rfl ?_
          obtain ⟨b5, e5_, k⟩ := k
          refine Z.eqs (lv' := [(0, vr (some (a0, 8, 0)))]) (st' := [vr (some (b5, 9, 0))]) rfl (by rw [e5_] <;> rfl) ?_
          refine z_geti dX9_beginsExpression_79 fsX9_55_9 ?_
          refine z_iconst (v := 5) dX9_beginsExpression_82 rfl ?_
          refine z_icmp_ne (tgt := 108) dX9_beginsExpression_83 rfl (fun h_ => ?_) (fun h_ => ?_)
          · have k := zif h_ k
            refine z_iconst (v := 0) dX9_beginsExpression_108 rfl ?_
            exact z_iret dX9_beginsExpression_109 rfl (by decide) k
          · have k := zit h_ k
            refine z_aload_n dX9_beginsExpression_86 rfl rfl ?_
            exact z_callV (as := []) (st := []) dX9_beginsExpression_87 vsX9_129_8 (Nat.le_refl _) (Nat.le_of_ble_eq_true rfl) (Nat.le_of_ble_eq_true rfl) rfl k
  · have k := zit h_ k
    refine z_aload_n dX9_beginsExpression_11 rfl rfl ?_
    refine z_getr (r := (gr M a0 1)) dX9_beginsExpression_12 fsX9_27_8 rfl ?_
    obtain ⟨b2, e2_, k⟩ := k
    refine Z.eqs (lv' := [(0, vr (some (a0, 8, 0)))]) (st' := [vr (some (b2, 9, 0))]) rfl (by rw [e2_] <;> rfl) ?_
    refine z_geti dX9_beginsExpression_15 fsX9_114_9 ?_
    exact z_callS (as := [vi (gi M b2 6)]) (st := []) dX9_beginsExpression_18 ssX9_160 (Nat.le_refl _) (Nat.le_of_ble_eq_true rfl) (Nat.le_of_ble_eq_true rfl) rfl k
theorem sX9_beginsExpression_21 {E : zE} {d : Nat} {Q : zO → zM → Prop} (M : zM) (a0 : Nat) (s0 : Int32) (k : if s0 = 0 then (∃ b1 : Nat, (gr M a0 1) = some (b1, 9, 0) ∧ (if (gi M b1 6) = (11 : Int32) then (Q (.inl (some (vi (1 : Int32)))) M) else (Q (.inl (some (vi (0 : Int32)))) M))) else (Q (.inl (some (vi (1 : Int32)))) M)) : Z E YX9_beginsExpression (d + 1) M [(0, vr (some (a0, 8, 0)))] 21 [vi s0] Q := by
  refine z_if_ne (tgt := 36) dX9_beginsExpression_21 rfl (fun h_ => ?_) (fun h_ => ?_)
  · have k := zif h_ k
    refine z_iconst (v := 1) dX9_beginsExpression_36 rfl ?_
    refine z_goto (tgt := 41) dX9_beginsExpression_37 rfl ?_
    exact z_iret dX9_beginsExpression_41 rfl (by decide) k
  · have k := zit h_ k
    refine z_aload_n dX9_beginsExpression_24 rfl rfl ?_
    refine z_getr (r := (gr M a0 1)) dX9_beginsExpression_25 fsX9_27_8 rfl ?_
    obtain ⟨b1, e1_, k⟩ := k
    refine Z.eqs (lv' := [(0, vr (some (a0, 8, 0)))]) (st' := [vr (some (b1, 9, 0))]) rfl (by rw [e1_] <;> rfl) ?_
    refine z_geti dX9_beginsExpression_28 fsX9_114_9 ?_
    refine z_bipush (v := 11) dX9_beginsExpression_31 rfl ?_
    refine z_icmp_ne (tgt := 40) dX9_beginsExpression_33 rfl (fun h_ => ?_) (fun h_ => ?_)
    · have k := zif h_ k
      refine z_iconst (v := 0) dX9_beginsExpression_40 rfl ?_
      exact z_iret dX9_beginsExpression_41 rfl (by decide) k
    · have k := zit h_ k
      refine z_iconst (v := 1) dX9_beginsExpression_36 rfl ?_
      refine z_goto (tgt := 41) dX9_beginsExpression_37 rfl ?_
      exact z_iret dX9_beginsExpression_41 rfl (by decide) k
theorem sX9_beginsExpression_90 {E : zE} {d : Nat} {Q : zO → zM → Prop} (M : zM) (a0 : Nat) (s0 : Int32) (k : if s0 = 0 then (∃ b1 : Nat, (gr M a0 1) = some (b1, 9, 0) ∧ (Z E YX10_is d M (zargs 0 [vr (some (b1, 9, 0)), vi (0 : Int32)]) 0 [] (zafter E YX9_beginsExpression (d + 1) [] 98 3 [] Q))) else (Q (.inl (some (vi (1 : Int32)))) M)) : Z E YX9_beginsExpression (d + 1) M [(0, vr (some (a0, 8, 0)))] 90 [vi s0] Q := by
  refine z_if_ne (tgt := 104) dX9_beginsExpression_90 rfl (fun h_ => ?_) (fun h_ => ?_)
  · have k := zif h_ k
    refine z_iconst (v := 1) dX9_beginsExpression_104 rfl ?_
    refine z_goto (tgt := 109) dX9_beginsExpression_105 rfl ?_
    exact z_iret dX9_beginsExpression_109 rfl (by decide) k
  · have k := zit h_ k
    refine z_aload_n dX9_beginsExpression_93 rfl rfl ?_
    refine z_getr (r := (gr M a0 1)) dX9_beginsExpression_94 fsX9_27_8 rfl ?_
    refine z_iconst (v := 0) dX9_beginsExpression_97 rfl ?_
    obtain ⟨b1, e1_, k⟩ := k
    refine Z.eqs (lv' := [(0, vr (some (a0, 8, 0)))]) (st' := [vi (0 : Int32), vr (some (b1, 9, 0))]) rfl (by rw [e1_] <;> rfl) ?_
    refine Z.pick [] rfl ?_
    exact z_callV (as := [vi (0 : Int32)]) (st := []) dX9_beginsExpression_98 vsX9_111_9 (Nat.le_refl _) (Nat.le_of_ble_eq_true rfl) (Nat.le_of_ble_eq_true rfl) rfl k
theorem sX9_beginsExpression_101 {E : zE} {d : Nat} {Q : zO → zM → Prop} (M : zM) (s0 : Int32) (k : if s0 = 0 then (Q (.inl (some (vi (0 : Int32)))) M) else (Q (.inl (some (vi (1 : Int32)))) M)) : Z E YX9_beginsExpression (d + 1) M [] 101 [vi s0] Q := by
  refine z_if_eq (tgt := 108) dX9_beginsExpression_101 rfl (fun h_ => ?_) (fun h_ => ?_)
  · have k := zit h_ k
    refine z_iconst (v := 0) dX9_beginsExpression_108 rfl ?_
    exact z_iret dX9_beginsExpression_109 rfl (by decide) k
  · have k := zif h_ k
    refine z_iconst (v := 1) dX9_beginsExpression_104 rfl ?_
    refine z_goto (tgt := 109) dX9_beginsExpression_105 rfl ?_
    exact z_iret dX9_beginsExpression_109 rfl (by decide) k
/-! ScriptTypes$Parser.startsExpression()Z -/
theorem bX9_startsExpression_0 : zdec cX9_startsExpression 0 [(0, .aload_n 0, 1), (1, .getfield 27, 3), (4, .iconst 2, 1), (5, .invokevirtual 111, 3), (8, .ifCond .ne 86, 3), (11, .aload_n 0, 1), (12, .getfield 27, 3), (15, .iconst 4, 1), (16, .invokevirtual 111, 3), (19, .ifCond .ne 75, 3), (22, .aload_n 0, 1), (23, .getfield 27, 3), (26, .bipush 17, 2), (28, .invokevirtual 111, 3), (31, .ifCond .ne 63, 3), (34, .aload_n 0, 1)] = true := by decide +kernel
theorem dX9_startsExpression_0 : decode cX9_startsExpression 0 = .ok (.aload_n 0, 1) := zdec_at bX9_startsExpression_0 0 rfl
theorem dX9_startsExpression_1 : decode cX9_startsExpression 1 = .ok (.getfield 27, 3) := zdec_at bX9_startsExpression_0 1 rfl
theorem dX9_startsExpression_4 : decode cX9_startsExpression 4 = .ok (.iconst 2, 1) := zdec_at bX9_startsExpression_0 2 rfl
theorem dX9_startsExpression_5 : decode cX9_startsExpression 5 = .ok (.invokevirtual 111, 3) := zdec_at bX9_startsExpression_0 3 rfl
theorem dX9_startsExpression_8 : decode cX9_startsExpression 8 = .ok (.ifCond .ne 86, 3) := zdec_at bX9_startsExpression_0 4 rfl
theorem dX9_startsExpression_11 : decode cX9_startsExpression 11 = .ok (.aload_n 0, 1) := zdec_at bX9_startsExpression_0 5 rfl
theorem dX9_startsExpression_12 : decode cX9_startsExpression 12 = .ok (.getfield 27, 3) := zdec_at bX9_startsExpression_0 6 rfl
theorem dX9_startsExpression_15 : decode cX9_startsExpression 15 = .ok (.iconst 4, 1) := zdec_at bX9_startsExpression_0 7 rfl
theorem dX9_startsExpression_16 : decode cX9_startsExpression 16 = .ok (.invokevirtual 111, 3) := zdec_at bX9_startsExpression_0 8 rfl
theorem dX9_startsExpression_19 : decode cX9_startsExpression 19 = .ok (.ifCond .ne 75, 3) := zdec_at bX9_startsExpression_0 9 rfl
theorem dX9_startsExpression_22 : decode cX9_startsExpression 22 = .ok (.aload_n 0, 1) := zdec_at bX9_startsExpression_0 10 rfl
theorem dX9_startsExpression_23 : decode cX9_startsExpression 23 = .ok (.getfield 27, 3) := zdec_at bX9_startsExpression_0 11 rfl
theorem dX9_startsExpression_26 : decode cX9_startsExpression 26 = .ok (.bipush 17, 2) := zdec_at bX9_startsExpression_0 12 rfl
theorem dX9_startsExpression_28 : decode cX9_startsExpression 28 = .ok (.invokevirtual 111, 3) := zdec_at bX9_startsExpression_0 13 rfl
theorem dX9_startsExpression_31 : decode cX9_startsExpression 31 = .ok (.ifCond .ne 63, 3) := zdec_at bX9_startsExpression_0 14 rfl
theorem dX9_startsExpression_34 : decode cX9_startsExpression 34 = .ok (.aload_n 0, 1) := zdec_at bX9_startsExpression_0 15 rfl
theorem bX9_startsExpression_35 : zdec cX9_startsExpression 35 [(35, .getfield 27, 3), (38, .bipush 18, 2), (40, .invokevirtual 111, 3), (43, .ifCond .ne 51, 3), (46, .aload_n 0, 1), (47, .getfield 27, 3), (50, .bipush 22, 2), (52, .invokevirtual 111, 3), (55, .ifCond .ne 39, 3), (58, .aload_n 0, 1), (59, .getfield 27, 3), (62, .bipush 23, 2), (64, .invokevirtual 111, 3), (67, .ifCond .ne 27, 3), (70, .aload_n 0, 1), (71, .getfield 27, 3)] = true := by decide +kernel
theorem dX9_startsExpression_35 : decode cX9_startsExpression 35 = .ok (.getfield 27, 3) := zdec_at bX9_startsExpression_35 0 rfl
theorem dX9_startsExpression_38 : decode cX9_startsExpression 38 = .ok (.bipush 18, 2) := zdec_at bX9_startsExpression_35 1 rfl
theorem dX9_startsExpression_40 : decode cX9_startsExpression 40 = .ok (.invokevirtual 111, 3) := zdec_at bX9_startsExpression_35 2 rfl
theorem dX9_startsExpression_43 : decode cX9_startsExpression 43 = .ok (.ifCond .ne 51, 3) := zdec_at bX9_startsExpression_35 3 rfl
theorem dX9_startsExpression_46 : decode cX9_startsExpression 46 = .ok (.aload_n 0, 1) := zdec_at bX9_startsExpression_35 4 rfl
theorem dX9_startsExpression_47 : decode cX9_startsExpression 47 = .ok (.getfield 27, 3) := zdec_at bX9_startsExpression_35 5 rfl
theorem dX9_startsExpression_50 : decode cX9_startsExpression 50 = .ok (.bipush 22, 2) := zdec_at bX9_startsExpression_35 6 rfl
theorem dX9_startsExpression_52 : decode cX9_startsExpression 52 = .ok (.invokevirtual 111, 3) := zdec_at bX9_startsExpression_35 7 rfl
theorem dX9_startsExpression_55 : decode cX9_startsExpression 55 = .ok (.ifCond .ne 39, 3) := zdec_at bX9_startsExpression_35 8 rfl
theorem dX9_startsExpression_58 : decode cX9_startsExpression 58 = .ok (.aload_n 0, 1) := zdec_at bX9_startsExpression_35 9 rfl
theorem dX9_startsExpression_59 : decode cX9_startsExpression 59 = .ok (.getfield 27, 3) := zdec_at bX9_startsExpression_35 10 rfl
theorem dX9_startsExpression_62 : decode cX9_startsExpression 62 = .ok (.bipush 23, 2) := zdec_at bX9_startsExpression_35 11 rfl
theorem dX9_startsExpression_64 : decode cX9_startsExpression 64 = .ok (.invokevirtual 111, 3) := zdec_at bX9_startsExpression_35 12 rfl
theorem dX9_startsExpression_67 : decode cX9_startsExpression 67 = .ok (.ifCond .ne 27, 3) := zdec_at bX9_startsExpression_35 13 rfl
theorem dX9_startsExpression_70 : decode cX9_startsExpression 70 = .ok (.aload_n 0, 1) := zdec_at bX9_startsExpression_35 14 rfl
theorem dX9_startsExpression_71 : decode cX9_startsExpression 71 = .ok (.getfield 27, 3) := zdec_at bX9_startsExpression_35 15 rfl
theorem bX9_startsExpression_74 : zdec cX9_startsExpression 74 [(74, .bipush 30, 2), (76, .invokevirtual 111, 3), (79, .ifCond .ne 15, 3), (82, .aload_n 0, 1), (83, .getfield 27, 3), (86, .bipush 31, 2), (88, .invokevirtual 111, 3), (91, .ifCond .eq 7, 3), (94, .iconst 1, 1), (95, .goto 4, 3), (98, .iconst 0, 1), (99, .ireturn, 1)] = true := by decide +kernel
theorem dX9_startsExpression_74 : decode cX9_startsExpression 74 = .ok (.bipush 30, 2) := zdec_at bX9_startsExpression_74 0 rfl
theorem dX9_startsExpression_76 : decode cX9_startsExpression 76 = .ok (.invokevirtual 111, 3) := zdec_at bX9_startsExpression_74 1 rfl
theorem dX9_startsExpression_79 : decode cX9_startsExpression 79 = .ok (.ifCond .ne 15, 3) := zdec_at bX9_startsExpression_74 2 rfl
theorem dX9_startsExpression_82 : decode cX9_startsExpression 82 = .ok (.aload_n 0, 1) := zdec_at bX9_startsExpression_74 3 rfl
theorem dX9_startsExpression_83 : decode cX9_startsExpression 83 = .ok (.getfield 27, 3) := zdec_at bX9_startsExpression_74 4 rfl
theorem dX9_startsExpression_86 : decode cX9_startsExpression 86 = .ok (.bipush 31, 2) := zdec_at bX9_startsExpression_74 5 rfl
theorem dX9_startsExpression_88 : decode cX9_startsExpression 88 = .ok (.invokevirtual 111, 3) := zdec_at bX9_startsExpression_74 6 rfl
theorem dX9_startsExpression_91 : decode cX9_startsExpression 91 = .ok (.ifCond .eq 7, 3) := zdec_at bX9_startsExpression_74 7 rfl
theorem dX9_startsExpression_94 : decode cX9_startsExpression 94 = .ok (.iconst 1, 1) := zdec_at bX9_startsExpression_74 8 rfl
theorem dX9_startsExpression_95 : decode cX9_startsExpression 95 = .ok (.goto 4, 3) := zdec_at bX9_startsExpression_74 9 rfl
theorem dX9_startsExpression_98 : decode cX9_startsExpression 98 = .ok (.iconst 0, 1) := zdec_at bX9_startsExpression_74 10 rfl
theorem dX9_startsExpression_99 : decode cX9_startsExpression 99 = .ok (.ireturn, 1) := zdec_at bX9_startsExpression_74 11 rfl
theorem sX9_startsExpression_0 {E : zE} {d : Nat} {Q : zO → zM → Prop} (M : zM) (a0 : Nat) (k : ∃ b1 : Nat, (gr M a0 1) = some (b1, 9, 0) ∧ (Z E YX10_is d M (zargs 0 [vr (some (b1, 9, 0)), vi (2 : Int32)]) 0 [] (zafter E YX9_startsExpression (d + 1) [(0, vr (some (a0, 8, 0)))] 5 3 [] Q))) : Z E YX9_startsExpression (d + 1) M [(0, vr (some (a0, 8, 0)))] 0 [] Q := by
  refine z_aload_n dX9_startsExpression_0 rfl rfl ?_
  refine z_getr (r := (gr M a0 1)) dX9_startsExpression_1 fsX9_27_8 rfl ?_
  refine z_iconst (v := 2) dX9_startsExpression_4 rfl ?_
  obtain ⟨b1, e1_, k⟩ := k
  refine Z.eqs (lv' := [(0, vr (some (a0, 8, 0)))]) (st' := [vi (2 : Int32), vr (some (b1, 9, 0))]) rfl (by rw [e1_] <;> rfl) ?_
  exact z_callV (as := [vi (2 : Int32)]) (st := []) dX9_startsExpression_5 vsX9_111_9 (Nat.le_refl _) (Nat.le_of_ble_eq_true rfl) (Nat.le_of_ble_eq_true rfl) rfl k
theorem sX9_startsExpression_8 {E : zE} {d : Nat} {Q : zO → zM → Prop} (M : zM) (a0 : Nat) (s0 : Int32) (k : if s0 = 0 then (∃ b1 : Nat, (gr M a0 1) = some (b1, 9, 0) ∧ (Z E YX10_is d M (zargs 0 [vr (some (b1, 9, 0)), vi (4 : Int32)]) 0 [] (zafter E YX9_startsExpression (d + 1) [(0, vr (some (a0, 8, 0)))] 16 3 [] Q))) else (Q (.inl (some (vi (1 : Int32)))) M)) : Z E YX9_startsExpression (d + 1) M [(0, vr (some (a0, 8, 0)))] 8 [vi s0] Q := by
  refine z_if_ne (tgt := 94) dX9_startsExpression_8 rfl (fun h_ => ?_) (fun h_ => ?_)
  · have k := zif h_ k
    refine z_iconst (v := 1) dX9_startsExpression_94 rfl ?_
    refine z_goto (tgt := 99) dX9_startsExpression_95 rfl ?_
    exact z_iret dX9_startsExpression_99 rfl (by decide) k
  · have k := zit h_ k
    refine z_aload_n dX9_startsExpression_11 rfl rfl ?_
    refine z_getr (r := (gr M a0 1)) dX9_startsExpression_12 fsX9_27_8 rfl ?_
    refine z_iconst (v := 4) dX9_startsExpression_15 rfl ?_
    obtain ⟨b1, e1_, k⟩ := k
    refine Z.eqs (lv' := [(0, vr (some (a0, 8, 0)))]) (st' := [vi (4 : Int32), vr (some (b1, 9, 0))]) rfl (by rw [e1_] <;> rfl) ?_
    exact z_callV (as := [vi (4 : Int32)]) (st := []) dX9_startsExpression_16 vsX9_111_9 (Nat.le_refl _) (Nat.le_of_ble_eq_true rfl) (Nat.le_of_ble_eq_true rfl) rfl k
theorem sX9_startsExpression_19 {E : zE} {d : Nat} {Q : zO → zM → Prop} (M : zM) (a0 : Nat) (s0 : Int32) (k : if s0 = 0 then (∃ b1 : Nat, (gr M a0 1) = some (b1, 9, 0) ∧ (Z E YX10_is d M (zargs 0 [vr (some (b1, 9, 0)), vi (17 : Int32)]) 0 [] (zafter E YX9_startsExpression (d + 1) [(0, vr (some (a0, 8, 0)))] 28 3 [] Q))) else (Q (.inl (some (vi (1 : Int32)))) M)) : Z E YX9_startsExpression (d + 1) M [(0, vr (some (a0, 8, 0)))] 19 [vi s0] Q := by
  refine z_if_ne (tgt := 94) dX9_startsExpression_19 rfl (fun h_ => ?_) (fun h_ => ?_)
  · have k := zif h_ k
    refine z_iconst (v := 1) dX9_startsExpression_94 rfl ?_
    refine z_goto (tgt := 99) dX9_startsExpression_95 rfl ?_
    exact z_iret dX9_startsExpression_99 rfl (by decide) k
  · have k := zit h_ k
    refine z_aload_n dX9_startsExpression_22 rfl rfl ?_
    refine z_getr (r := (gr M a0 1)) dX9_startsExpression_23 fsX9_27_8 rfl ?_
    refine z_bipush (v := 17) dX9_startsExpression_26 rfl ?_
    obtain ⟨b1, e1_, k⟩ := k
    refine Z.eqs (lv' := [(0, vr (some (a0, 8, 0)))]) (st' := [vi (17 : Int32), vr (some (b1, 9, 0))]) rfl (by rw [e1_] <;> rfl) ?_
    exact z_callV (as := [vi (17 : Int32)]) (st := []) dX9_startsExpression_28 vsX9_111_9 (Nat.le_refl _) (Nat.le_of_ble_eq_true rfl) (Nat.le_of_ble_eq_true rfl) rfl k
theorem sX9_startsExpression_31 {E : zE} {d : Nat} {Q : zO → zM → Prop} (M : zM) (a0 : Nat) (s0 : Int32) (k : if s0 = 0 then (∃ b1 : Nat, (gr M a0 1) = some (b1, 9, 0) ∧ (Z E YX10_is d M (zargs 0 [vr (some (b1, 9, 0)), vi (18 : Int32)]) 0 [] (zafter E YX9_startsExpression (d + 1) [(0, vr (some (a0, 8, 0)))] 40 3 [] Q))) else (Q (.inl (some (vi (1 : Int32)))) M)) : Z E YX9_startsExpression (d + 1) M [(0, vr (some (a0, 8, 0)))] 31 [vi s0] Q := by
  refine z_if_ne (tgt := 94) dX9_startsExpression_31 rfl (fun h_ => ?_) (fun h_ => ?_)
  · have k := zif h_ k
    refine z_iconst (v := 1) dX9_startsExpression_94 rfl ?_
    refine z_goto (tgt := 99) dX9_startsExpression_95 rfl ?_
    exact z_iret dX9_startsExpression_99 rfl (by decide) k
  · have k := zit h_ k
    refine z_aload_n dX9_startsExpression_34 rfl rfl ?_
    refine z_getr (r := (gr M a0 1)) dX9_startsExpression_35 fsX9_27_8 rfl ?_
    refine z_bipush (v := 18) dX9_startsExpression_38 rfl ?_
    obtain ⟨b1, e1_, k⟩ := k
    refine Z.eqs (lv' := [(0, vr (some (a0, 8, 0)))]) (st' := [vi (18 : Int32), vr (some (b1, 9, 0))]) rfl (by rw [e1_] <;> rfl) ?_
    exact z_callV (as := [vi (18 : Int32)]) (st := []) dX9_startsExpression_40 vsX9_111_9 (Nat.le_refl _) (Nat.le_of_ble_eq_true rfl) (Nat.le_of_ble_eq_true rfl) rfl k
theorem sX9_startsExpression_43 {E : zE} {d : Nat} {Q : zO → zM → Prop} (M : zM) (a0 : Nat) (s0 : Int32) (k : if s0 = 0 then (∃ b1 : Nat, (gr M a0 1) = some (b1, 9, 0) ∧ (Z E YX10_is d M (zargs 0 [vr (some (b1, 9, 0)), vi (22 : Int32)]) 0 [] (zafter E YX9_startsExpression (d + 1) [(0, vr (some (a0, 8, 0)))] 52 3 [] Q))) else (Q (.inl (some (vi (1 : Int32)))) M)) : Z E YX9_startsExpression (d + 1) M [(0, vr (some (a0, 8, 0)))] 43 [vi s0] Q := by
  refine z_if_ne (tgt := 94) dX9_startsExpression_43 rfl (fun h_ => ?_) (fun h_ => ?_)
  · have k := zif h_ k
    refine z_iconst (v := 1) dX9_startsExpression_94 rfl ?_
    refine z_goto (tgt := 99) dX9_startsExpression_95 rfl ?_
    exact z_iret dX9_startsExpression_99 rfl (by decide) k
  · have k := zit h_ k
    refine z_aload_n dX9_startsExpression_46 rfl rfl ?_
    refine z_getr (r := (gr M a0 1)) dX9_startsExpression_47 fsX9_27_8 rfl ?_
    refine z_bipush (v := 22) dX9_startsExpression_50 rfl ?_
    obtain ⟨b1, e1_, k⟩ := k
    refine Z.eqs (lv' := [(0, vr (some (a0, 8, 0)))]) (st' := [vi (22 : Int32), vr (some (b1, 9, 0))]) rfl (by rw [e1_] <;> rfl) ?_
    exact z_callV (as := [vi (22 : Int32)]) (st := []) dX9_startsExpression_52 vsX9_111_9 (Nat.le_refl _) (Nat.le_of_ble_eq_true rfl) (Nat.le_of_ble_eq_true rfl) rfl k
theorem sX9_startsExpression_55 {E : zE} {d : Nat} {Q : zO → zM → Prop} (M : zM) (a0 : Nat) (s0 : Int32) (k : if s0 = 0 then (∃ b1 : Nat, (gr M a0 1) = some (b1, 9, 0) ∧ (Z E YX10_is d M (zargs 0 [vr (some (b1, 9, 0)), vi (23 : Int32)]) 0 [] (zafter E YX9_startsExpression (d + 1) [(0, vr (some (a0, 8, 0)))] 64 3 [] Q))) else (Q (.inl (some (vi (1 : Int32)))) M)) : Z E YX9_startsExpression (d + 1) M [(0, vr (some (a0, 8, 0)))] 55 [vi s0] Q := by
  refine z_if_ne (tgt := 94) dX9_startsExpression_55 rfl (fun h_ => ?_) (fun h_ => ?_)
  · have k := zif h_ k
    refine z_iconst (v := 1) dX9_startsExpression_94 rfl ?_
    refine z_goto (tgt := 99) dX9_startsExpression_95 rfl ?_
    exact z_iret dX9_startsExpression_99 rfl (by decide) k
  · have k := zit h_ k
    refine z_aload_n dX9_startsExpression_58 rfl rfl ?_
    refine z_getr (r := (gr M a0 1)) dX9_startsExpression_59 fsX9_27_8 rfl ?_
    refine z_bipush (v := 23) dX9_startsExpression_62 rfl ?_
    obtain ⟨b1, e1_, k⟩ := k
    refine Z.eqs (lv' := [(0, vr (some (a0, 8, 0)))]) (st' := [vi (23 : Int32), vr (some (b1, 9, 0))]) rfl (by rw [e1_] <;> rfl) ?_
    exact z_callV (as := [vi (23 : Int32)]) (st := []) dX9_startsExpression_64 vsX9_111_9 (Nat.le_refl _) (Nat.le_of_ble_eq_true rfl) (Nat.le_of_ble_eq_true rfl) rfl k
theorem sX9_startsExpression_67 {E : zE} {d : Nat} {Q : zO → zM → Prop} (M : zM) (a0 : Nat) (s0 : Int32) (k : if s0 = 0 then (∃ b1 : Nat, (gr M a0 1) = some (b1, 9, 0) ∧ (Z E YX10_is d M (zargs 0 [vr (some (b1, 9, 0)), vi (30 : Int32)]) 0 [] (zafter E YX9_startsExpression (d + 1) [(0, vr (some (a0, 8, 0)))] 76 3 [] Q))) else (Q (.inl (some (vi (1 : Int32)))) M)) : Z E YX9_startsExpression (d + 1) M [(0, vr (some (a0, 8, 0)))] 67 [vi s0] Q := by
  refine z_if_ne (tgt := 94) dX9_startsExpression_67 rfl (fun h_ => ?_) (fun h_ => ?_)
  · have k := zif h_ k
    refine z_iconst (v := 1) dX9_startsExpression_94 rfl ?_
    refine z_goto (tgt := 99) dX9_startsExpression_95 rfl ?_
    exact z_iret dX9_startsExpression_99 rfl (by decide) k
  · have k := zit h_ k
    refine z_aload_n dX9_startsExpression_70 rfl rfl ?_
    refine z_getr (r := (gr M a0 1)) dX9_startsExpression_71 fsX9_27_8 rfl ?_
    refine z_bipush (v := 30) dX9_startsExpression_74 rfl ?_
    obtain ⟨b1, e1_, k⟩ := k
    refine Z.eqs (lv' := [(0, vr (some (a0, 8, 0)))]) (st' := [vi (30 : Int32), vr (some (b1, 9, 0))]) rfl (by rw [e1_] <;> rfl) ?_
    exact z_callV (as := [vi (30 : Int32)]) (st := []) dX9_startsExpression_76 vsX9_111_9 (Nat.le_refl _) (Nat.le_of_ble_eq_true rfl) (Nat.le_of_ble_eq_true rfl) rfl k
theorem sX9_startsExpression_79 {E : zE} {d : Nat} {Q : zO → zM → Prop} (M : zM) (a0 : Nat) (s0 : Int32) (k : if s0 = 0 then (∃ b1 : Nat, (gr M a0 1) = some (b1, 9, 0) ∧ (Z E YX10_is d M (zargs 0 [vr (some (b1, 9, 0)), vi (31 : Int32)]) 0 [] (zafter E YX9_startsExpression (d + 1) [] 88 3 [] Q))) else (Q (.inl (some (vi (1 : Int32)))) M)) : Z E YX9_startsExpression (d + 1) M [(0, vr (some (a0, 8, 0)))] 79 [vi s0] Q := by
  refine z_if_ne (tgt := 94) dX9_startsExpression_79 rfl (fun h_ => ?_) (fun h_ => ?_)
  · have k := zif h_ k
    refine z_iconst (v := 1) dX9_startsExpression_94 rfl ?_
    refine z_goto (tgt := 99) dX9_startsExpression_95 rfl ?_
    exact z_iret dX9_startsExpression_99 rfl (by decide) k
  · have k := zit h_ k
    refine z_aload_n dX9_startsExpression_82 rfl rfl ?_
    refine z_getr (r := (gr M a0 1)) dX9_startsExpression_83 fsX9_27_8 rfl ?_
    refine z_bipush (v := 31) dX9_startsExpression_86 rfl ?_
    obtain ⟨b1, e1_, k⟩ := k
    refine Z.eqs (lv' := [(0, vr (some (a0, 8, 0)))]) (st' := [vi (31 : Int32), vr (some (b1, 9, 0))]) rfl (by rw [e1_] <;> rfl) ?_
    refine Z.pick [] rfl ?_
    exact z_callV (as := [vi (31 : Int32)]) (st := []) dX9_startsExpression_88 vsX9_111_9 (Nat.le_refl _) (Nat.le_of_ble_eq_true rfl) (Nat.le_of_ble_eq_true rfl) rfl k
theorem sX9_startsExpression_91 {E : zE} {d : Nat} {Q : zO → zM → Prop} (M : zM) (s0 : Int32) (k : if s0 = 0 then (Q (.inl (some (vi (0 : Int32)))) M) else (Q (.inl (some (vi (1 : Int32)))) M)) : Z E YX9_startsExpression (d + 1) M [] 91 [vi s0] Q := by
  refine z_if_eq (tgt := 98) dX9_startsExpression_91 rfl (fun h_ => ?_) (fun h_ => ?_)
  · have k := zit h_ k
    refine z_iconst (v := 0) dX9_startsExpression_98 rfl ?_
    exact z_iret dX9_startsExpression_99 rfl (by decide) k
  · have k := zif h_ k
    refine z_iconst (v := 1) dX9_startsExpression_94 rfl ?_
    refine z_goto (tgt := 99) dX9_startsExpression_95 rfl ?_
    exact z_iret dX9_startsExpression_99 rfl (by decide) k
/-! ScriptTypes$Parser.assignment(Z)LScriptTypes$Node; -/
theorem bX9_assignment_0 : zdec cX9_assignment 0 [(0, .aload_n 0, 1), (1, .iconst 0, 1), (2, .iload_n 1, 1), (3, .invokevirtual 264, 3), (6, .astore_n 2, 1), (7, .aload_n 0, 1), (8, .getfield 27, 3), (11, .bipush 34, 2), (13, .invokevirtual 111, 3), (16, .ifCond .eq 40, 3), (19, .aload_n 0, 1), (20, .getfield 27, 3), (23, .invokevirtual 52, 3), (26, .aload_n 0, 1), (27, .iload_n 1, 1), (28, .invokevirtual 218, 3)] = true := by decide +kernel
theorem dX9_assignment_0 : decode cX9_assignment 0 = .ok (.aload_n 0, 1) := zdec_at bX9_assignment_0 0 rfl
theorem dX9_assignment_1 : decode cX9_assignment 1 = .ok (.iconst 0, 1) := zdec_at bX9_assignment_0 1 rfl
theorem dX9_assignment_2 : decode cX9_assignment 2 = .ok (.iload_n 1, 1) := zdec_at bX9_assignment_0 2 rfl
theorem dX9_assignment_3 : decode cX9_assignment 3 = .ok (.invokevirtual 264, 3) := zdec_at bX9_assignment_0 3 rfl
theorem dX9_assignment_6 : decode cX9_assignment 6 = .ok (.astore_n 2, 1) := zdec_at bX9_assignment_0 4 rfl
theorem dX9_assignment_7 : decode cX9_assignment 7 = .ok (.aload_n 0, 1) := zdec_at bX9_assignment_0 5 rfl
theorem dX9_assignment_8 : decode cX9_assignment 8 = .ok (.getfield 27, 3) := zdec_at bX9_assignment_0 6 rfl
theorem dX9_assignment_11 : decode cX9_assignment 11 = .ok (.bipush 34, 2) := zdec_at bX9_assignment_0 7 rfl
theorem dX9_assignment_13 : decode cX9_assignment 13 = .ok (.invokevirtual 111, 3) := zdec_at bX9_assignment_0 8 rfl
theorem dX9_assignment_16 : decode cX9_assignment 16 = .ok (.ifCond .eq 40, 3) := zdec_at bX9_assignment_0 9 rfl
theorem dX9_assignment_19 : decode cX9_assignment 19 = .ok (.aload_n 0, 1) := zdec_at bX9_assignment_0 10 rfl
theorem dX9_assignment_20 : decode cX9_assignment 20 = .ok (.getfield 27, 3) := zdec_at bX9_assignment_0 11 rfl
theorem dX9_assignment_23 : decode cX9_assignment 23 = .ok (.invokevirtual 52, 3) := zdec_at bX9_assignment_0 12 rfl
theorem dX9_assignment_26 : decode cX9_assignment 26 = .ok (.aload_n 0, 1) := zdec_at bX9_assignment_0 13 rfl
theorem dX9_assignment_27 : decode cX9_assignment 27 = .ok (.iload_n 1, 1) := zdec_at bX9_assignment_0 14 rfl
theorem dX9_assignment_28 : decode cX9_assignment 28 = .ok (.invokevirtual 218, 3) := zdec_at bX9_assignment_0 15 rfl
theorem bX9_assignment_31 : zdec cX9_assignment 31 [(31, .astore_n 3, 1), (32, .aload_n 0, 1), (33, .getfield 27, 3), (36, .bipush 35, 2), (38, .invokevirtual 108, 3), (41, .new 268, 3), (44, .dup, 1), (45, .aload_n 2, 1), (46, .aload_n 3, 1), (47, .aload_n 0, 1), (48, .iload_n 1, 1), (49, .invokevirtual 218, 3), (52, .invokespecial 270, 3), (55, .areturn, 1), (56, .aload_n 0, 1), (57, .invokevirtual 271, 3)] = true := by decide +kernel
theorem dX9_assignment_31 : decode cX9_assignment 31 = .ok (.astore_n 3, 1) := zdec_at bX9_assignment_31 0 rfl
theorem dX9_assignment_32 : decode cX9_assignment 32 = .ok (.aload_n 0, 1) := zdec_at bX9_assignment_31 1 rfl
theorem dX9_assignment_33 : decode cX9_assignment 33 = .ok (.getfield 27, 3) := zdec_at bX9_assignment_31 2 rfl
theorem dX9_assignment_36 : decode cX9_assignment 36 = .ok (.bipush 35, 2) := zdec_at bX9_assignment_31 3 rfl
theorem dX9_assignment_38 : decode cX9_assignment 38 = .ok (.invokevirtual 108, 3) := zdec_at bX9_assignment_31 4 rfl
theorem dX9_assignment_41 : decode cX9_assignment 41 = .ok (.new 268, 3) := zdec_at bX9_assignment_31 5 rfl
theorem dX9_assignment_44 : decode cX9_assignment 44 = .ok (.dup, 1) := zdec_at bX9_assignment_31 6 rfl
theorem dX9_assignment_45 : decode cX9_assignment 45 = .ok (.aload_n 2, 1) := zdec_at bX9_assignment_31 7 rfl
theorem dX9_assignment_46 : decode cX9_assignment 46 = .ok (.aload_n 3, 1) := zdec_at bX9_assignment_31 8 rfl
theorem dX9_assignment_47 : decode cX9_assignment 47 = .ok (.aload_n 0, 1) := zdec_at bX9_assignment_31 9 rfl
theorem dX9_assignment_48 : decode cX9_assignment 48 = .ok (.iload_n 1, 1) := zdec_at bX9_assignment_31 10 rfl
theorem dX9_assignment_49 : decode cX9_assignment 49 = .ok (.invokevirtual 218, 3) := zdec_at bX9_assignment_31 11 rfl
theorem dX9_assignment_52 : decode cX9_assignment 52 = .ok (.invokespecial 270, 3) := zdec_at bX9_assignment_31 12 rfl
theorem dX9_assignment_55 : decode cX9_assignment 55 = .ok (.areturn, 1) := zdec_at bX9_assignment_31 13 rfl
theorem dX9_assignment_56 : decode cX9_assignment 56 = .ok (.aload_n 0, 1) := zdec_at bX9_assignment_31 14 rfl
theorem dX9_assignment_57 : decode cX9_assignment 57 = .ok (.invokevirtual 271, 3) := zdec_at bX9_assignment_31 15 rfl
theorem bX9_assignment_60 : zdec cX9_assignment 60 [(60, .istore_n 3, 1), (61, .iload_n 3, 1), (62, .bipush (-2), 2), (64, .if_icmp .ne 5, 3), (67, .aload_n 2, 1), (68, .areturn, 1), (69, .aload_n 2, 1), (70, .invokevirtual 234, 3), (73, .ifCond .ne 19, 3), (76, .aload_n 2, 1), (77, .invokevirtual 274, 3), (80, .ifCond .ne 12, 3), (83, .aload_n 0, 1), (84, .getfield 27, 3), (87, .iconst 3, 1), (88, .invokevirtual 35, 3)] = true := by decide +kernel
theorem dX9_assignment_60 : decode cX9_assignment 60 = .ok (.istore_n 3, 1) := zdec_at bX9_assignment_60 0 rfl
theorem dX9_assignment_61 : decode cX9_assignment 61 = .ok (.iload_n 3, 1) := zdec_at bX9_assignment_60 1 rfl
theorem dX9_assignment_62 : decode cX9_assignment 62 = .ok (.bipush (-2), 2) := zdec_at bX9_assignment_60 2 rfl
theorem dX9_assignment_64 : decode cX9_assignment 64 = .ok (.if_icmp .ne 5, 3) := zdec_at bX9_assignment_60 3 rfl
theorem dX9_assignment_67 : decode cX9_assignment 67 = .ok (.aload_n 2, 1) := zdec_at bX9_assignment_60 4 rfl
theorem dX9_assignment_68 : decode cX9_assignment 68 = .ok (.areturn, 1) := zdec_at bX9_assignment_60 5 rfl
theorem dX9_assignment_69 : decode cX9_assignment 69 = .ok (.aload_n 2, 1) := zdec_at bX9_assignment_60 6 rfl
theorem dX9_assignment_70 : decode cX9_assignment 70 = .ok (.invokevirtual 234, 3) := zdec_at bX9_assignment_60 7 rfl
theorem dX9_assignment_73 : decode cX9_assignment 73 = .ok (.ifCond .ne 19, 3) := zdec_at bX9_assignment_60 8 rfl
theorem dX9_assignment_76 : decode cX9_assignment 76 = .ok (.aload_n 2, 1) := zdec_at bX9_assignment_60 9 rfl
theorem dX9_assignment_77 : decode cX9_assignment 77 = .ok (.invokevirtual 274, 3) := zdec_at bX9_assignment_60 10 rfl
theorem dX9_assignment_80 : decode cX9_assignment 80 = .ok (.ifCond .ne 12, 3) := zdec_at bX9_assignment_60 11 rfl
theorem dX9_assignment_83 : decode cX9_assignment 83 = .ok (.aload_n 0, 1) := zdec_at bX9_assignment_60 12 rfl
theorem dX9_assignment_84 : decode cX9_assignment 84 = .ok (.getfield 27, 3) := zdec_at bX9_assignment_60 13 rfl
theorem dX9_assignment_87 : decode cX9_assignment 87 = .ok (.iconst 3, 1) := zdec_at bX9_assignment_60 14 rfl
theorem dX9_assignment_88 : decode cX9_assignment 88 = .ok (.invokevirtual 35, 3) := zdec_at bX9_assignment_60 15 rfl
theorem bX9_assignment_91 : zdec cX9_assignment 91 [(91, .athrow, 1), (92, .aload_n 0, 1), (93, .getfield 27, 3), (96, .invokevirtual 52, 3), (99, .new 212, 3), (102, .dup, 1), (103, .iload_n 3, 1), (104, .aload_n 2, 1), (105, .aload_n 0, 1), (106, .iload_n 1, 1), (107, .invokevirtual 218, 3), (110, .invokespecial 221, 3), (113, .areturn, 1)] = true := by decide +kernel
theorem dX9_assignment_91 : decode cX9_assignment 91 = .ok (.athrow, 1) := zdec_at bX9_assignment_91 0 rfl
theorem dX9_assignment_92 : decode cX9_assignment 92 = .ok (.aload_n 0, 1) := zdec_at bX9_assignment_91 1 rfl
theorem dX9_assignment_93 : decode cX9_assignment 93 = .ok (.getfield 27, 3) := zdec_at bX9_assignment_91 2 rfl
theorem dX9_assignment_96 : decode cX9_assignment 96 = .ok (.invokevirtual 52, 3) := zdec_at bX9_assignment_91 3 rfl
theorem dX9_assignment_99 : decode cX9_assignment 99 = .ok (.new 212, 3) := zdec_at bX9_assignment_91 4 rfl
theorem dX9_assignment_102 : decode cX9_assignment 102 = .ok (.dup, 1) := zdec_at bX9_assignment_91 5 rfl
theorem dX9_assignment_103 : decode cX9_assignment 103 = .ok (.iload_n 3, 1) := zdec_at bX9_assignment_91 6 rfl
theorem dX9_assignment_104 : decode cX9_assignment 104 = .ok (.aload_n 2, 1) := zdec_at bX9_assignment_91 7 rfl
theorem dX9_assignment_105 : decode cX9_assignment 105 = .ok (.aload_n 0, 1) := zdec_at bX9_assignment_91 8 rfl
theorem dX9_assignment_106 : decode cX9_assignment 106 = .ok (.iload_n 1, 1) := zdec_at bX9_assignment_91 9 rfl
theorem dX9_assignment_107 : decode cX9_assignment 107 = .ok (.invokevirtual 218, 3) := zdec_at bX9_assignment_91 10 rfl
theorem dX9_assignment_110 : decode cX9_assignment 110 = .ok (.invokespecial 221, 3) := zdec_at bX9_assignment_91 11 rfl
theorem dX9_assignment_113 : decode cX9_assignment 113 = .ok (.areturn, 1) := zdec_at bX9_assignment_91 12 rfl
theorem sX9_assignment_0 {E : zE} {d : Nat} {Q : zO → zM → Prop} (M : zM) (a0 : Nat) (l1 : Int32) (k : Z E YX9_binary d M (zargs 0 [vr (some (a0, 8, 0)), vi (0 : Int32), vi l1]) 0 [] (zafter E YX9_assignment (d + 1) [(0, vr (some (a0, 8, 0))), (1, vi l1)] 3 3 [] Q)) : Z E YX9_assignment (d + 1) M [(0, vr (some (a0, 8, 0))), (1, vi l1)] 0 [] Q := by
  refine z_aload_n dX9_assignment_0 rfl rfl ?_
  refine z_iconst (v := 0) dX9_assignment_1 rfl ?_
  refine z_iload_n dX9_assignment_2 rfl rfl ?_
  exact z_callV (as := [vi (0 : Int32), vi l1]) (st := []) dX9_assignment_3 vsX9_264_8 (Nat.le_refl _) (Nat.le_of_ble_eq_true rfl) (Nat.le_of_ble_eq_true rfl) rfl k
theorem sX9_assignment_6 {E : zE} {d : Nat} {Q : zO → zM → Prop} (M : zM) (a0 : Nat) (l1 : Int32) (u0 : Option zP) (k : ∃ b1 : Nat, (gr M a0 1) = some (b1, 9, 0) ∧ (Z E YX10_is d M (zargs 0 [vr (some (b1, 9, 0)), vi (34 : Int32)]) 0 [] (zafter E YX9_assignment (d + 1) [(0, vr (some (a0, 8, 0))), (1, vi l1), (2, vr u0)] 13 3 [] Q))) : Z E YX9_assignment (d + 1) M [(0, vr (some (a0, 8, 0))), (1, vi l1)] 6 [vr u0] Q := by
  refine z_ast_n dX9_assignment_6 rfl (by decide) (lv' := [(0, vr (some (a0, 8, 0))), (1, vi l1), (2, vr u0)]) rfl ?_
  refine z_aload_n dX9_assignment_7 rfl rfl ?_
  refine z_getr (r := (gr M a0 1)) dX9_assignment_8 fsX9_27_8 rfl ?_
  refine z_bipush (v := 34) dX9_assignment_11 rfl ?_
  obtain ⟨b1, e1_, k⟩ := k
  refine Z.eqs (lv' := [(0, vr (some (a0, 8, 0))), (1, vi l1), (2, vr u0)]) (st' := [vi (34 : Int32), vr (some (b1, 9, 0))]) rfl (by rw [e1_] <;> rfl) ?_
  exact z_callV (as := [vi (34 : Int32)]) (st := []) dX9_assignment_13 vsX9_111_9 (Nat.le_refl _) (Nat.le_of_ble_eq_true rfl) (Nat.le_of_ble_eq_true rfl) rfl k
theorem sX9_assignment_16 {E : zE} {d : Nat} {Q : zO → zM → Prop} (M : zM) (a0 : Nat) (l1 : Int32) (r2 : Option zP) (s0 : Int32) (k : if s0 = 0 then (Z E YX9_assigns d M (zargs 0 [vr (some (a0, 8, 0))]) 0 [] (zafter E YX9_assignment (d + 1) [(0, vr (some (a0, 8, 0))), (1, vi l1), (2, vr r2)] 57 3 [] Q)) else (∃ b1 : Nat, (gr M a0 1) = some (b1, 9, 0) ∧ (Z E YX10_next d M (zargs 0 [vr (some (b1, 9, 0))]) 0 [] (zafter E YX9_assignment (d + 1) [(0, vr (some (a0, 8, 0))), (1, vi l1), (2, vr r2)] 23 3 [] Q)))) : Z E YX9_assignment (d + 1) M [(0, vr (some (a0, 8, 0))), (1, vi l1), (2, vr r2)] 16 [vi s0] Q := by
  refine z_if_eq (tgt := 56) dX9_assignment_16 rfl (fun h_ => ?_) (fun h_ => ?_)
  · have k := zit h_ k
    refine z_aload_n dX9_assignment_56 rfl rfl ?_
    exact z_callV (as := []) (st := []) dX9_assignment_57 vsX9_271_8 (Nat.le_refl _) (Nat.le_of_ble_eq_true rfl) (Nat.le_of_ble_eq_true rfl) rfl k
  · have k := zif h_ k
    refine z_aload_n dX9_assignment_19 rfl rfl ?_
    refine z_getr (r := (gr M a0 1)) dX9_assignment_20 fsX9_27_8 rfl ?_
    obtain ⟨b1, e1_, k⟩ := k
    refine Z.eqs (lv' := [(0, vr (some (a0, 8, 0))), (1, vi l1), (2, vr r2)]) (st' := [vr (some (b1, 9, 0))]) rfl (by rw [e1_] <;> rfl) ?_
    exact z_callV (as := []) (st := []) dX9_assignment_23 vsX9_52_9 (Nat.le_refl _) (Nat.le_of_ble_eq_true rfl) (Nat.le_of_ble_eq_true rfl) rfl k
theorem sX9_assignment_26 {E : zE} {d : Nat} {Q : zO → zM → Prop} (M : zM) (a0 : Nat) (l1 : Int32) (r2 : Option zP) (k : Z E YX9_within d M (zargs 0 [vr (some (a0, 8, 0)), vi l1]) 0 [] (zafter E YX9_assignment (d + 1) [(0, vr (some (a0, 8, 0))), (1, vi l1), (2, vr r2)] 28 3 [] Q)) : Z E YX9_assignment (d + 1) M [(0, vr (some (a0, 8, 0))), (1, vi l1), (2, vr r2)] 26 [] Q := by
  refine z_aload_n dX9_assignment_26 rfl rfl ?_
  refine z_iload_n dX9_assignment_27 rfl rfl ?_
  exact z_callV (as := [vi l1]) (st := []) dX9_assignment_28 vsX9_218_8 (Nat.le_refl _) (Nat.le_of_ble_eq_true rfl) (Nat.le_of_ble_eq_true rfl) rfl k
theorem sX9_assignment_31 {E : zE} {d : Nat} {Q : zO → zM → Prop} (M : zM) (a0 : Nat) (l1 : Int32) (r2 : Option zP) (u0 : Option zP) (k : ∃ b1 : Nat, (gr M a0 1) = some (b1, 9, 0) ∧ (Z E YX10_need d M (zargs 0 [vr (some (b1, 9, 0)), vi (35 : Int32)]) 0 [] (zafter E YX9_assignment (d + 1) [(0, vr (some (a0, 8, 0))), (1, vi l1), (2, vr r2), (3, vr u0)] 38 3 [] Q))) : Z E YX9_assignment (d + 1) M [(0, vr (some (a0, 8, 0))), (1, vi l1), (2, vr r2)] 31 [vr u0] Q := by
  refine z_ast_n dX9_assignment_31 rfl (by decide) (lv' := [(0, vr (some (a0, 8, 0))), (1, vi l1), (2, vr r2), (3, vr u0)]) rfl ?_
  refine z_aload_n dX9_assignment_32 rfl rfl ?_
  refine z_getr (r := (gr M a0 1)) dX9_assignment_33 fsX9_27_8 rfl ?_
  refine z_bipush (v := 35) dX9_assignment_36 rfl ?_
  obtain ⟨b1, e1_, k⟩ := k
  refine Z.eqs (lv' := [(0, vr (some (a0, 8, 0))), (1, vi l1), (2, vr r2), (3, vr u0)]) (st' := [vi (35 : Int32), vr (some (b1, 9, 0))]) rfl (by rw [e1_] <;> rfl) ?_
  exact z_callV (as := [vi (35 : Int32)]) (st := []) dX9_assignment_38 vsX9_108_9 (Nat.le_refl _) (Nat.le_of_ble_eq_true rfl) (Nat.le_of_ble_eq_true rfl) rfl k
theorem sX9_assignment_41 {E : zE} {d : Nat} {Q : zO → zM → Prop} (M : zM) (a0 : Nat) (l1 : Int32) (r2 : Option zP) (r3 : Option zP) (k : Z E YX9_assignment (d + 1) (zn M 3) [(0, vr (some (a0, 8, 0))), (1, vi l1), (2, vr r2), (3, vr r3)] 44 [vr (some ((zsz M), 36, 0))] Q) : Z E YX9_assignment (d + 1) M [(0, vr (some (a0, 8, 0))), (1, vi l1), (2, vr r2), (3, vr r3)] 41 [] Q := by
  refine z_new dX9_assignment_41 csX9_268 zff_36 ?_
  exact k
theorem sX9_assignment_44 {E : zE} {d : Nat} {Q : zO → zM → Prop} (M : zM) (a0 : Nat) (l1 : Int32) (r2 : Option zP) (r3 : Option zP) (p0 : Nat) (k : Z E YX9_within d M (zargs 0 [vr (some (a0, 8, 0)), vi l1]) 0 [] (zafter E YX9_assignment (d + 1) [] 49 3 [vr r3, vr r2, vr (some (p0, 36, 0)), vr (some (p0, 36, 0))] Q)) : Z E YX9_assignment (d + 1) M [(0, vr (some (a0, 8, 0))), (1, vi l1), (2, vr r2), (3, vr r3)] 44 [vr (some (p0, 36, 0))] Q := by
  refine z_dup dX9_assignment_44 rfl ?_
  refine z_aload_n dX9_assignment_45 rfl rfl ?_
  refine z_aload_n dX9_assignment_46 rfl rfl ?_
  refine z_aload_n dX9_assignment_47 rfl rfl ?_
  refine z_iload_n dX9_assignment_48 rfl rfl ?_
  refine Z.pick [] rfl ?_
  exact z_callV (as := [vi l1]) (st := [vr r3, vr r2, vr (some (p0, 36, 0)), vr (some (p0, 36, 0))]) dX9_assignment_49 vsX9_218_8 (Nat.le_refl _) (Nat.le_of_ble_eq_true rfl) (Nat.le_of_ble_eq_true rfl) rfl k
theorem sX9_assignment_52 {E : zE} {d : Nat} {Q : zO → zM → Prop} (M : zM) (u0 : Option zP) (u1 : Option zP) (u2 : Option zP) (p3 : Nat) (p4 : Nat) (k : Z E YX31_init d M (zargs 0 [vr (some (p3, 36, 0)), vr u2, vr u1, vr u0]) 0 [] (zafter E YX9_assignment (d + 1) [] 52 3 [vr (some (p4, 36, 0))] Q)) : Z E YX9_assignment (d + 1) M [] 52 [vr u0, vr u1, vr u2, vr (some (p3, 36, 0)), vr (some (p4, 36, 0))] Q := by
  exact z_callI (as := [vr u2, vr u1, vr u0]) (st := [vr (some (p4, 36, 0))]) dX9_assignment_52 isX9_270 (Nat.le_refl _) (Nat.le_of_ble_eq_true rfl) (Nat.le_of_ble_eq_true rfl) rfl k
theorem sX9_assignment_55 {E : zE} {d : Nat} {Q : zO → zM → Prop} (M : zM) (p0 : Nat) (k : Q (.inl (some (vr (some (p0, 36, 0))))) M) : Z E YX9_assignment (d + 1) M [] 55 [vr (some (p0, 36, 0))] Q := by
  exact z_aret dX9_assignment_55 rfl rfl k
theorem sX9_assignment_60 {E : zE} {d : Nat} {Q : zO → zM → Prop} (M : zM) (a0 : Nat) (l1 : Int32) (r2 : Option zP) (s0 : Int32) (k : if s0 = (-2 : Int32) then (Q (.inl (some (vr r2))) M) else (∃ b1 t1 : Nat, r2 = some (b1, t1, 0) ∧ (∃ Y_ : zY, vt_isName t1 = some Y_ ∧ Z E Y_ d M (zargs 0 [vr (some (b1, t1, 0))]) 0 [] (zafter E YX9_assignment (d + 1) [(0, vr (some (a0, 8, 0))), (1, vi l1), (2, vr (some (b1, t1, 0))), (3, vi s0)] 70 3 [] Q)))) : Z E YX9_assignment (d + 1) M [(0, vr (some (a0, 8, 0))), (1, vi l1), (2, vr r2)] 60 [vi s0] Q := by
  refine z_ist_n dX9_assignment_60 rfl (by decide) (lv' := [(0, vr (some (a0, 8, 0))), (1, vi l1), (2, vr r2), (3, vi s0)]) rfl ?_
  refine z_iload_n dX9_assignment_61 rfl rfl ?_
  refine z_bipush (v := -2) dX9_assignment_62 rfl ?_
  refine z_icmp_ne (tgt := 69) dX9_assignment_64 rfl (fun h_ => ?_) (fun h_ => ?_)
  · have k := zif h_ k
    refine z_aload_n dX9_assignment_69 rfl rfl ?_
    obtain ⟨b1, t1, e1_, k⟩ := k
    refine Z.eqs (lv' := [(0, vr (some (a0, 8, 0))), (1, vi l1), (2, vr (some (b1, t1, 0))), (3, vi s0)]) (st' := [vr (some (b1, t1, 0))]) (by rw [e1_] <;> rfl) (by rw [e1_] <;> rfl) ?_
    obtain ⟨Y_, y_, k⟩ := k
    exact z_callV (as := []) (st := []) dX9_assignment_70 (vtX9_234 y_).1 (Nat.le_refl _) (Nat.le_trans (Nat.le_of_ble_eq_true rfl) (vtX9_234 y_).2.1) (Nat.le_trans (Nat.add_le_add_left (vtX9_234 y_).2.2 _) (Nat.le_of_ble_eq_true rfl)) rfl k
  · have k := zit h_ k
    refine z_aload_n dX9_assignment_67 rfl rfl ?_
    exact z_aret dX9_assignment_68 rfl rfl k
theorem sX9_assignment_73 {E : zE} {d : Nat} {Q : zO → zM → Prop} (M : zM) (a0 : Nat) (l1 : Int32) (a2 : Nat) (ta2 : Nat) (l3 : Int32) (s0 : Int32) (k : if s0 = 0 then (∃ Y_ : zY, vt_isMember ta2 = some Y_ ∧ Z E Y_ d M (zargs 0 [vr (some (a2, ta2, 0))]) 0 [] (zafter E YX9_assignment (d + 1) [(0, vr (some (a0, 8, 0))), (1, vi l1), (2, vr (some (a2, ta2, 0))), (3, vi l3)] 77 3 [] Q)) else (∃ b1 : Nat, (gr M a0 1) = some (b1, 9, 0) ∧ (Z E YX10_next d M (zargs 0 [vr (some (b1, 9, 0))]) 0 [] (zafter E YX9_assignment (d + 1) [(0, vr (some (a0, 8, 0))), (1, vi l1), (2, vr (some (a2, ta2, 0))), (3, vi l3)] 96 3 [] Q)))) : Z E YX9_assignment (d + 1) M [(0, vr (some (a0, 8, 0))), (1, vi l1), (2, vr (some (a2, ta2, 0))), (3, vi l3)] 73 [vi s0] Q := by
  refine z_if_ne (tgt := 92) dX9_assignment_73 rfl (fun h_ => ?_) (fun h_ => ?_)
  · have k := zif h_ k
    refine z_aload_n dX9_assignment_92 rfl rfl ?_
    refine z_getr (r := (gr M a0 1)) dX9_assignment_93 fsX9_27_8 rfl ?_
    obtain ⟨b1, e1_, k⟩ := k
    refine Z.eqs (lv' := [(0, vr (some (a0, 8, 0))), (1, vi l1), (2, vr (some (a2, ta2, 0))), (3, vi l3)]) (st' := [vr (some (b1, 9, 0))]) rfl (by rw [e1_] <;> rfl) ?_
    exact z_callV (as := []) (st := []) dX9_assignment_96 vsX9_52_9 (Nat.le_refl _) (Nat.le_of_ble_eq_true rfl) (Nat.le_of_ble_eq_true rfl) rfl k
  · have k := zit h_ k
    refine z_aload_n dX9_assignment_76 rfl rfl ?_
    obtain ⟨Y_, y_, k⟩ := k
    exact z_callV (as := []) (st := []) dX9_assignment_77 (vtX9_274 y_).1 (Nat.le_refl _) (Nat.le_trans (Nat.le_of_ble_eq_true rfl) (vtX9_274 y_).2.1) (Nat.le_trans (Nat.add_le_add_left (vtX9_274 y_).2.2 _) (Nat.le_of_ble_eq_true rfl)) rfl k
theorem sX9_assignment_80 {E : zE} {d : Nat} {Q : zO → zM → Prop} (M : zM) (a0 : Nat) (l1 : Int32) (a2 : Nat) (ta2 : Nat) (l3 : Int32) (s0 : Int32) (k : if s0 = 0 then (∃ b1 : Nat, (gr M a0 1) = some (b1, 9, 0) ∧ (Z E YX10_fault d M (zargs 0 [vr (some (b1, 9, 0)), vi (3 : Int32)]) 0 [] (zafter E YX9_assignment (d + 1) [] 88 3 [] Q))) else (∃ b1 : Nat, (gr M a0 1) = some (b1, 9, 0) ∧ (Z E YX10_next d M (zargs 0 [vr (some (b1, 9, 0))]) 0 [] (zafter E YX9_assignment (d + 1) [(0, vr (some (a0, 8, 0))), (1, vi l1), (2, vr (some (a2, ta2, 0))), (3, vi l3)] 96 3 [] Q)))) : Z E YX9_assignment (d + 1) M [(0, vr (some (a0, 8, 0))), (1, vi l1), (2, vr (some (a2, ta2, 0))), (3, vi l3)] 80 [vi s0] Q := by
  refine z_if_ne (tgt := 92) dX9_assignment_80 rfl (fun h_ => ?_) (fun h_ => ?_)
  · have k := zif h_ k
    refine z_aload_n dX9_assignment_92 rfl rfl ?_
    refine z_getr (r := (gr M a0 1)) dX9_assignment_93 fsX9_27_8 rfl ?_
    obtain ⟨b1, e1_, k⟩ := k
    refine Z.eqs (lv' := [(0, vr (some (a0, 8, 0))), (1, vi l1), (2, vr (some (a2, ta2, 0))), (3, vi l3)]) (st' := [vr (some (b1, 9, 0))]) rfl (by rw [e1_] <;> rfl) ?_
    exact z_callV (as := []) (st := []) dX9_assignment_96 vsX9_52_9 (Nat.le_refl _) (Nat.le_of_ble_eq_true rfl) (Nat.le_of_ble_eq_true rfl) rfl k
  · have k := zit h_ k
    refine z_aload_n dX9_assignment_83 rfl rfl ?_
    refine z_getr (r := (gr M a0 1)) dX9_assignment_84 fsX9_27_8 rfl ?_
    refine z_iconst (v := 3) dX9_assignment_87 rfl ?_
    obtain ⟨b1, e1_, k⟩ := k
    refine Z.eqs (lv' := [(0, vr (some (a0, 8, 0))), (1, vi l1), (2, vr (some (a2, ta2, 0))), (3, vi l3)]) (st' := [vi (3 : Int32), vr (some (b1, 9, 0))]) rfl (by rw [e1_] <;> rfl) ?_
    refine Z.pick [] rfl ?_
    exact z_callV (as := [vi (3 : Int32)]) (st := []) dX9_assignment_88 vsX9_35_9 (Nat.le_refl _) (Nat.le_of_ble_eq_true rfl) (Nat.le_of_ble_eq_true rfl) rfl k
theorem sX9_assignment_91 {E : zE} {d : Nat} {Q : zO → zM → Prop} (M : zM) (u0 : Option zP) (k : ∃ b1 : Nat, u0 = some (b1, 12, 0) ∧ (Q (.inr (b1, 12, 0)) M)) : Z E YX9_assignment (d + 1) M [] 91 [vr u0] Q := by
  obtain ⟨b1, e1_, k⟩ := k
  refine Z.eqs (lv' := []) (st' := [vr (some (b1, 12, 0))]) rfl (by rw [e1_] <;> rfl) ?_
  exact z_athrow dX9_assignment_91 (ZT.out (by decide) k)
theorem sX9_assignment_99 {E : zE} {d : Nat} {Q : zO → zM → Prop} (M : zM) (a0 : Nat) (l1 : Int32) (a2 : Nat) (ta2 : Nat) (l3 : Int32) (k : Z E YX9_assignment (d + 1) (zn M 3) [(0, vr (some (a0, 8, 0))), (1, vi l1), (2, vr (some (a2, ta2, 0))), (3, vi l3)] 102 [vr (some ((zsz M), 22, 0))] Q) : Z E YX9_assignment (d + 1) M [(0, vr (some (a0, 8, 0))), (1, vi l1), (2, vr (some (a2, ta2, 0))), (3, vi l3)] 99 [] Q := by
  refine z_new dX9_assignment_99 csX9_212 zff_22 ?_
  exact k
theorem sX9_assignment_102 {E : zE} {d : Nat} {Q : zO → zM → Prop} (M : zM) (a0 : Nat) (l1 : Int32) (a2 : Nat) (ta2 : Nat) (l3 : Int32) (p0 : Nat) (k : Z E YX9_within d M (zargs 0 [vr (some (a0, 8, 0)), vi l1]) 0 [] (zafter E YX9_assignment (d + 1) [] 107 3 [vr (some (a2, ta2, 0)), vi l3, vr (some (p0, 22, 0)), vr (some (p0, 22, 0))] Q)) : Z E YX9_assignment (d + 1) M [(0, vr (some (a0, 8, 0))), (1, vi l1), (2, vr (some (a2, ta2, 0))), (3, vi l3)] 102 [vr (some (p0, 22, 0))] Q := by
  refine z_dup dX9_assignment_102 rfl ?_
  refine z_iload_n dX9_assignment_103 rfl rfl ?_
  refine z_aload_n dX9_assignment_104 rfl rfl ?_
  refine z_aload_n dX9_assignment_105 rfl rfl ?_
  refine z_iload_n dX9_assignment_106 rfl rfl ?_
  refine Z.pick [] rfl ?_
  exact z_callV (as := [vi l1]) (st := [vr (some (a2, ta2, 0)), vi l3, vr (some (p0, 22, 0)), vr (some (p0, 22, 0))]) dX9_assignment_107 vsX9_218_8 (Nat.le_refl _) (Nat.le_of_ble_eq_true rfl) (Nat.le_of_ble_eq_true rfl) rfl k
theorem sX9_assignment_110 {E : zE} {d : Nat} {Q : zO → zM → Prop} (M : zM) (u0 : Option zP) (p1 : Nat) (tp1 : Nat) (s2 : Int32) (p3 : Nat) (p4 : Nat) (k : Z E YX16_init d M (zargs 0 [vr (some (p3, 22, 0)), vi s2, vr (some (p1, tp1, 0)), vr u0]) 0 [] (zafter E YX9_assignment (d + 1) [] 110 3 [vr (some (p4, 22, 0))] Q)) : Z E YX9_assignment (d + 1) M [] 110 [vr u0, vr (some (p1, tp1, 0)), vi s2, vr (some (p3, 22, 0)), vr (some (p4, 22, 0))] Q := by
  exact z_callI (as := [vi s2, vr (some (p1, tp1, 0)), vr u0]) (st := [vr (some (p4, 22, 0))]) dX9_assignment_110 isX9_221 (Nat.le_refl _) (Nat.le_of_ble_eq_true rfl) (Nat.le_of_ble_eq_true rfl) rfl k
theorem sX9_assignment_113 {E : zE} {d : Nat} {Q : zO → zM → Prop} (M : zM) (p0 : Nat) (k : Q (.inl (some (vr (some (p0, 22, 0))))) M) : Z E YX9_assignment (d + 1) M [] 113 [vr (some (p0, 22, 0))] Q := by
  exact z_aret dX9_assignment_113 rfl rfl k
/-! ScriptTypes$Parser.binary(IZ)LScriptTypes$Node; -/
theorem bX9_binary_0 : zdec cX9_binary 0 [(0, .iload_n 1, 1), (1, .bipush 10, 2), (3, .if_icmp .ne 8, 3), (6, .aload_n 0, 1), (7, .invokevirtual 283, 3), (10, .areturn, 1), (11, .aload_n 0, 1), (12, .iload_n 1, 1), (13, .iconst 1, 1), (14, .iadd, 1), (15, .iload_n 2, 1), (16, .invokevirtual 264, 3), (19, .astore_n 3, 1), (20, .aload_n 0, 1), (21, .iload_n 2, 1), (22, .invokevirtual 286, 3)] = true := by decide +kernel
theorem dX9_binary_0 : decode cX9_binary 0 = .ok (.iload_n 1, 1) := zdec_at bX9_binary_0 0 rfl
theorem dX9_binary_1 : decode cX9_binary 1 = .ok (.bipush 10, 2) := zdec_at bX9_binary_0 1 rfl
theorem dX9_binary_3 : decode cX9_binary 3 = .ok (.if_icmp .ne 8, 3) := zdec_at bX9_binary_0 2 rfl
theorem dX9_binary_6 : decode cX9_binary 6 = .ok (.aload_n 0, 1) := zdec_at bX9_binary_0 3 rfl
theorem dX9_binary_7 : decode cX9_binary 7 = .ok (.invokevirtual 283, 3) := zdec_at bX9_binary_0 4 rfl
theorem dX9_binary_10 : decode cX9_binary 10 = .ok (.areturn, 1) := zdec_at bX9_binary_0 5 rfl
theorem dX9_binary_11 : decode cX9_binary 11 = .ok (.aload_n 0, 1) := zdec_at bX9_binary_0 6 rfl
theorem dX9_binary_12 : decode cX9_binary 12 = .ok (.iload_n 1, 1) := zdec_at bX9_binary_0 7 rfl
theorem dX9_binary_13 : decode cX9_binary 13 = .ok (.iconst 1, 1) := zdec_at bX9_binary_0 8 rfl
theorem dX9_binary_14 : decode cX9_binary 14 = .ok (.iadd, 1) := zdec_at bX9_binary_0 9 rfl
theorem dX9_binary_15 : decode cX9_binary 15 = .ok (.iload_n 2, 1) := zdec_at bX9_binary_0 10 rfl
theorem dX9_binary_16 : decode cX9_binary 16 = .ok (.invokevirtual 264, 3) := zdec_at bX9_binary_0 11 rfl
theorem dX9_binary_19 : decode cX9_binary 19 = .ok (.astore_n 3, 1) := zdec_at bX9_binary_0 12 rfl
theorem dX9_binary_20 : decode cX9_binary 20 = .ok (.aload_n 0, 1) := zdec_at bX9_binary_0 13 rfl
theorem dX9_binary_21 : decode cX9_binary 21 = .ok (.iload_n 2, 1) := zdec_at bX9_binary_0 14 rfl
theorem dX9_binary_22 : decode cX9_binary 22 = .ok (.invokevirtual 286, 3) := zdec_at bX9_binary_0 15 rfl
theorem bX9_binary_25 : zdec cX9_binary 25 [(25, .iload_n 1, 1), (26, .if_icmp .eq 5, 3), (29, .aload_n 3, 1), (30, .areturn, 1), (31, .iload_n 1, 1), (32, .iconst 2, 1), (33, .if_icmp .ge 63, 3), (36, .new 290, 3), (39, .dup, 1), (40, .iload_n 1, 1), (41, .ifCond .ne 8, 3), (44, .bipush 24, 2), (46, .goto 5, 3), (49, .bipush 23, 2), (51, .aload_n 3, 1), (52, .invokespecial 292, 3)] = true := by decide +kernel
theorem dX9_binary_25 : decode cX9_binary 25 = .ok (.iload_n 1, 1) := zdec_at bX9_binary_25 0 rfl
theorem dX9_binary_26 : decode cX9_binary 26 = .ok (.if_icmp .eq 5, 3) := zdec_at bX9_binary_25 1 rfl
theorem dX9_binary_29 : decode cX9_binary 29 = .ok (.aload_n 3, 1) := zdec_at bX9_binary_25 2 rfl
theorem dX9_binary_30 : decode cX9_binary 30 = .ok (.areturn, 1) := zdec_at bX9_binary_25 3 rfl
theorem dX9_binary_31 : decode cX9_binary 31 = .ok (.iload_n 1, 1) := zdec_at bX9_binary_25 4 rfl
theorem dX9_binary_32 : decode cX9_binary 32 = .ok (.iconst 2, 1) := zdec_at bX9_binary_25 5 rfl
theorem dX9_binary_33 : decode cX9_binary 33 = .ok (.if_icmp .ge 63, 3) := zdec_at bX9_binary_25 6 rfl
theorem dX9_binary_36 : decode cX9_binary 36 = .ok (.new 290, 3) := zdec_at bX9_binary_25 7 rfl
theorem dX9_binary_39 : decode cX9_binary 39 = .ok (.dup, 1) := zdec_at bX9_binary_25 8 rfl
theorem dX9_binary_40 : decode cX9_binary 40 = .ok (.iload_n 1, 1) := zdec_at bX9_binary_25 9 rfl
theorem dX9_binary_41 : decode cX9_binary 41 = .ok (.ifCond .ne 8, 3) := zdec_at bX9_binary_25 10 rfl
theorem dX9_binary_44 : decode cX9_binary 44 = .ok (.bipush 24, 2) := zdec_at bX9_binary_25 11 rfl
theorem dX9_binary_46 : decode cX9_binary 46 = .ok (.goto 5, 3) := zdec_at bX9_binary_25 12 rfl
theorem dX9_binary_49 : decode cX9_binary 49 = .ok (.bipush 23, 2) := zdec_at bX9_binary_25 13 rfl
theorem dX9_binary_51 : decode cX9_binary 51 = .ok (.aload_n 3, 1) := zdec_at bX9_binary_25 14 rfl
theorem dX9_binary_52 : decode cX9_binary 52 = .ok (.invokespecial 292, 3) := zdec_at bX9_binary_25 15 rfl
theorem bX9_binary_55 : zdec cX9_binary 55 [(55, .astore 4, 2), (57, .aload_n 0, 1), (58, .iload_n 2, 1), (59, .invokevirtual 286, 3), (62, .iload_n 1, 1), (63, .if_icmp .ne 30, 3), (66, .aload_n 0, 1), (67, .getfield 27, 3), (70, .invokevirtual 52, 3), (73, .aload 4, 2), (75, .getfield 295, 3), (78, .aload_n 0, 1), (79, .iload_n 1, 1), (80, .iconst 1, 1), (81, .iadd, 1), (82, .iload_n 2, 1)] = true := by decide +kernel
theorem dX9_binary_55 : decode cX9_binary 55 = .ok (.astore 4, 2) := zdec_at bX9_binary_55 0 rfl
theorem dX9_binary_57 : decode cX9_binary 57 = .ok (.aload_n 0, 1) := zdec_at bX9_binary_55 1 rfl
theorem dX9_binary_58 : decode cX9_binary 58 = .ok (.iload_n 2, 1) := zdec_at bX9_binary_55 2 rfl
theorem dX9_binary_59 : decode cX9_binary 59 = .ok (.invokevirtual 286, 3) := zdec_at bX9_binary_55 3 rfl
theorem dX9_binary_62 : decode cX9_binary 62 = .ok (.iload_n 1, 1) := zdec_at bX9_binary_55 4 rfl
theorem dX9_binary_63 : decode cX9_binary 63 = .ok (.if_icmp .ne 30, 3) := zdec_at bX9_binary_55 5 rfl
theorem dX9_binary_66 : decode cX9_binary 66 = .ok (.aload_n 0, 1) := zdec_at bX9_binary_55 6 rfl
theorem dX9_binary_67 : decode cX9_binary 67 = .ok (.getfield 27, 3) := zdec_at bX9_binary_55 7 rfl
theorem dX9_binary_70 : decode cX9_binary 70 = .ok (.invokevirtual 52, 3) := zdec_at bX9_binary_55 8 rfl
theorem dX9_binary_73 : decode cX9_binary 73 = .ok (.aload 4, 2) := zdec_at bX9_binary_55 9 rfl
theorem dX9_binary_75 : decode cX9_binary 75 = .ok (.getfield 295, 3) := zdec_at bX9_binary_55 10 rfl
theorem dX9_binary_78 : decode cX9_binary 78 = .ok (.aload_n 0, 1) := zdec_at bX9_binary_55 11 rfl
theorem dX9_binary_79 : decode cX9_binary 79 = .ok (.iload_n 1, 1) := zdec_at bX9_binary_55 12 rfl
theorem dX9_binary_80 : decode cX9_binary 80 = .ok (.iconst 1, 1) := zdec_at bX9_binary_55 13 rfl
theorem dX9_binary_81 : decode cX9_binary 81 = .ok (.iadd, 1) := zdec_at bX9_binary_55 14 rfl
theorem dX9_binary_82 : decode cX9_binary 82 = .ok (.iload_n 2, 1) := zdec_at bX9_binary_55 15 rfl
theorem bX9_binary_83 : zdec cX9_binary 83 [(83, .invokevirtual 264, 3), (86, .invokevirtual 48, 3), (89, .pop, 1), (90, .goto (-33), 3), (93, .aload 4, 2), (95, .areturn, 1), (96, .new 298, 3), (99, .dup, 1), (100, .aload_n 3, 1), (101, .invokespecial 300, 3), (104, .astore 4, 2), (106, .aload_n 0, 1), (107, .iload_n 2, 1), (108, .invokevirtual 286, 3), (111, .iload_n 1, 1), (112, .if_icmp .ne 34, 3)] = true := by decide +kernel
theorem dX9_binary_83 : decode cX9_binary 83 = .ok (.invokevirtual 264, 3) := zdec_at bX9_binary_83 0 rfl
theorem dX9_binary_86 : decode cX9_binary 86 = .ok (.invokevirtual 48, 3) := zdec_at bX9_binary_83 1 rfl
theorem dX9_binary_89 : decode cX9_binary 89 = .ok (.pop, 1) := zdec_at bX9_binary_83 2 rfl
theorem dX9_binary_90 : decode cX9_binary 90 = .ok (.goto (-33), 3) := zdec_at bX9_binary_83 3 rfl
theorem dX9_binary_93 : decode cX9_binary 93 = .ok (.aload 4, 2) := zdec_at bX9_binary_83 4 rfl
theorem dX9_binary_95 : decode cX9_binary 95 = .ok (.areturn, 1) := zdec_at bX9_binary_83 5 rfl
theorem dX9_binary_96 : decode cX9_binary 96 = .ok (.new 298, 3) := zdec_at bX9_binary_83 6 rfl
theorem dX9_binary_99 : decode cX9_binary 99 = .ok (.dup, 1) := zdec_at bX9_binary_83 7 rfl
theorem dX9_binary_100 : decode cX9_binary 100 = .ok (.aload_n 3, 1) := zdec_at bX9_binary_83 8 rfl
theorem dX9_binary_101 : decode cX9_binary 101 = .ok (.invokespecial 300, 3) := zdec_at bX9_binary_83 9 rfl
theorem dX9_binary_104 : decode cX9_binary 104 = .ok (.astore 4, 2) := zdec_at bX9_binary_83 10 rfl
theorem dX9_binary_106 : decode cX9_binary 106 = .ok (.aload_n 0, 1) := zdec_at bX9_binary_83 11 rfl
theorem dX9_binary_107 : decode cX9_binary 107 = .ok (.iload_n 2, 1) := zdec_at bX9_binary_83 12 rfl
theorem dX9_binary_108 : decode cX9_binary 108 = .ok (.invokevirtual 286, 3) := zdec_at bX9_binary_83 13 rfl
theorem dX9_binary_111 : decode cX9_binary 111 = .ok (.iload_n 1, 1) := zdec_at bX9_binary_83 14 rfl
theorem dX9_binary_112 : decode cX9_binary 112 = .ok (.if_icmp .ne 34, 3) := zdec_at bX9_binary_83 15 rfl
theorem bX9_binary_115 : zdec cX9_binary 115 [(115, .aload_n 0, 1), (116, .getfield 280, 3), (119, .istore 5, 2), (121, .aload_n 0, 1), (122, .getfield 27, 3), (125, .invokevirtual 52, 3), (128, .aload 4, 2), (130, .iload 5, 2), (132, .aload_n 0, 1), (133, .iload_n 1, 1), (134, .iconst 1, 1), (135, .iadd, 1), (136, .iload_n 2, 1), (137, .invokevirtual 264, 3), (140, .invokevirtual 301, 3), (143, .goto (-37), 3)] = true := by decide +kernel
theorem dX9_binary_115 : decode cX9_binary 115 = .ok (.aload_n 0, 1) := zdec_at bX9_binary_115 0 rfl
theorem dX9_binary_116 : decode cX9_binary 116 = .ok (.getfield 280, 3) := zdec_at bX9_binary_115 1 rfl
theorem dX9_binary_119 : decode cX9_binary 119 = .ok (.istore 5, 2) := zdec_at bX9_binary_115 2 rfl
theorem dX9_binary_121 : decode cX9_binary 121 = .ok (.aload_n 0, 1) := zdec_at bX9_binary_115 3 rfl
theorem dX9_binary_122 : decode cX9_binary 122 = .ok (.getfield 27, 3) := zdec_at bX9_binary_115 4 rfl
theorem dX9_binary_125 : decode cX9_binary 125 = .ok (.invokevirtual 52, 3) := zdec_at bX9_binary_115 5 rfl
theorem dX9_binary_128 : decode cX9_binary 128 = .ok (.aload 4, 2) := zdec_at bX9_binary_115 6 rfl
theorem dX9_binary_130 : decode cX9_binary 130 = .ok (.iload 5, 2) := zdec_at bX9_binary_115 7 rfl
theorem dX9_binary_132 : decode cX9_binary 132 = .ok (.aload_n 0, 1) := zdec_at bX9_binary_115 8 rfl
theorem dX9_binary_133 : decode cX9_binary 133 = .ok (.iload_n 1, 1) := zdec_at bX9_binary_115 9 rfl
theorem dX9_binary_134 : decode cX9_binary 134 = .ok (.iconst 1, 1) := zdec_at bX9_binary_115 10 rfl
theorem dX9_binary_135 : decode cX9_binary 135 = .ok (.iadd, 1) := zdec_at bX9_binary_115 11 rfl
theorem dX9_binary_136 : decode cX9_binary 136 = .ok (.iload_n 2, 1) := zdec_at bX9_binary_115 12 rfl
theorem dX9_binary_137 : decode cX9_binary 137 = .ok (.invokevirtual 264, 3) := zdec_at bX9_binary_115 13 rfl
theorem dX9_binary_140 : decode cX9_binary 140 = .ok (.invokevirtual 301, 3) := zdec_at bX9_binary_115 14 rfl
theorem dX9_binary_143 : decode cX9_binary 143 = .ok (.goto (-37), 3) := zdec_at bX9_binary_115 15 rfl
theorem bX9_binary_146 : zdec cX9_binary 146 [(146, .aload 4, 2), (148, .areturn, 1)] = true := by decide +kernel
theorem dX9_binary_146 : decode cX9_binary 146 = .ok (.aload 4, 2) := zdec_at bX9_binary_146 0 rfl
theorem dX9_binary_148 : decode cX9_binary 148 = .ok (.areturn, 1) := zdec_at bX9_binary_146 1 rfl
theorem sX9_binary_0 {E : zE} {d : Nat} {Q : zO → zM → Prop} (M : zM) (a0 : Nat) (l1 : Int32) (l2 : Int32) (k : if l1 = (10 : Int32) then (Z E YX9_unit d M (zargs 0 [vr (some (a0, 8, 0))]) 0 [] (zafter E YX9_binary (d + 1) [] 7 3 [] Q)) else (Z E YX9_binary d M (zargs 0 [vr (some (a0, 8, 0)), vi (l1 + (1 : Int32)), vi l2]) 0 [] (zafter E YX9_binary (d + 1) [(0, vr (some (a0, 8, 0))), (1, vi l1), (2, vi l2)] 16 3 [] Q))) : Z E YX9_binary (d + 1) M [(0, vr (some (a0, 8, 0))), (1, vi l1), (2, vi l2)] 0 [] Q := by
  refine z_iload_n dX9_binary_0 rfl rfl ?_
  refine z_bipush (v := 10) dX9_binary_1 rfl ?_
  refine z_icmp_ne (tgt := 11) dX9_binary_3 rfl (fun h_ => ?_) (fun h_ => ?_)
  · have k := zif h_ k
    refine z_aload_n dX9_binary_11 rfl rfl ?_
    refine z_iload_n dX9_binary_12 rfl rfl ?_
    refine z_iconst (v := 1) dX9_binary_13 rfl ?_
    refine z_iadd dX9_binary_14 ?_
    refine z_iload_n dX9_binary_15 rfl rfl ?_
    exact z_callV (as := [vi (l1 + (1 : Int32)), vi l2]) (st := []) dX9_binary_16 vsX9_264_8 (Nat.le_refl _) (Nat.le_of_ble_eq_true rfl) (Nat.le_of_ble_eq_true rfl) rfl k
  · have k := zit h_ k
    refine z_aload_n dX9_binary_6 rfl rfl ?_
    refine Z.pick [] rfl ?_
    exact z_callV (as := []) (st := []) dX9_binary_7 vsX9_283_8 (Nat.le_refl _) (Nat.le_of_ble_eq_true rfl) (Nat.le_of_ble_eq_true rfl) rfl k
theorem sX9_binary_10 {E : zE} {d : Nat} {Q : zO → zM → Prop} (M : zM) (u0 : Option zP) (k : Q (.inl (some (vr u0))) M) : Z E YX9_binary (d + 1) M [] 10 [vr u0] Q := by
  exact z_aret dX9_binary_10 rfl rfl k
theorem sX9_binary_19 {E : zE} {d : Nat} {Q : zO → zM → Prop} (M : zM) (a0 : Nat) (l1 : Int32) (l2 : Int32) (u0 : Option zP) (k : Z E YX9_strength d M (zargs 0 [vr (some (a0, 8, 0)), vi l2]) 0 [] (zafter E YX9_binary (d + 1) [(0, vr (some (a0, 8, 0))), (1, vi l1), (2, vi l2), (3, vr u0)] 22 3 [] Q)) : Z E YX9_binary (d + 1) M [(0, vr (some (a0, 8, 0))), (1, vi l1), (2, vi l2)] 19 [vr u0] Q := by
  refine z_ast_n dX9_binary_19 rfl (by decide) (lv' := [(0, vr (some (a0, 8, 0))), (1, vi l1), (2, vi l2), (3, vr u0)]) rfl ?_
  refine z_aload_n dX9_binary_20 rfl rfl ?_
  refine z_iload_n dX9_binary_21 rfl rfl ?_
  exact z_callV (as := [vi l2]) (st := []) dX9_binary_22 vsX9_286_8 (Nat.le_refl _) (Nat.le_of_ble_eq_true rfl) (Nat.le_of_ble_eq_true rfl) rfl k
theorem sX9_binary_25 {E : zE} {d : Nat} {Q : zO → zM → Prop} (M : zM) (a0 : Nat) (l1 : Int32) (l2 : Int32) (r3 : Option zP) (s0 : Int32) (k : if s0 = l1 then (if (2 : Int32) ≤ l1 then (Z E YX9_binary (d + 1) (zn M 2) [(0, vr (some (a0, 8, 0))), (1, vi l1), (2, vi l2), (3, vr r3)] 99 [vr (some ((zsz M), 35, 0))] Q) else (Z E YX9_binary (d + 1) (zn M 2) [(0, vr (some (a0, 8, 0))), (1, vi l1), (2, vi l2), (3, vr r3)] 39 [vr (some ((zsz M), 34, 0))] Q)) else (Q (.inl (some (vr r3))) M)) : Z E YX9_binary (d + 1) M [(0, vr (some (a0, 8, 0))), (1, vi l1), (2, vi l2), (3, vr r3)] 25 [vi s0] Q := by
  refine z_iload_n dX9_binary_25 rfl rfl ?_
  refine z_icmp_eq (tgt := 31) dX9_binary_26 rfl (fun h_ => ?_) (fun h_ => ?_)
  · have k := zit h_ k
    refine z_iload_n dX9_binary_31 rfl rfl ?_
    refine z_iconst (v := 2) dX9_binary_32 rfl ?_
    refine z_icmp_ge (tgt := 96) dX9_binary_33 rfl (fun h_ => ?_) (fun h_ => ?_)
    · have k := zit h_ k
      refine z_new dX9_binary_96 csX9_298 zff_35 ?_
      exact k
    · have k := zif h_ k
      refine z_new dX9_binary_36 csX9_290 zff_34 ?_
      exact k
  · have k := zif h_ k
    refine z_aload_n dX9_binary_29 rfl rfl ?_
    exact z_aret dX9_binary_30 rfl rfl k
theorem sX9_binary_39 {E : zE} {d : Nat} {Q : zO → zM → Prop} (M : zM) (a0 : Nat) (l1 : Int32) (l2 : Int32) (r3 : Option zP) (p0 : Nat) (k : if l1 = 0 then (Z E YX29_init d M (zargs 0 [vr (some (p0, 34, 0)), vi (24 : Int32), vr r3]) 0 [] (zafter E YX9_binary (d + 1) [(0, vr (some (a0, 8, 0))), (1, vi l1), (2, vi l2)] 52 3 [vr (some (p0, 34, 0))] Q)) else (Z E YX29_init d M (zargs 0 [vr (some (p0, 34, 0)), vi (23 : Int32), vr r3]) 0 [] (zafter E YX9_binary (d + 1) [(0, vr (some (a0, 8, 0))), (1, vi l1), (2, vi l2)] 52 3 [vr (some (p0, 34, 0))] Q))) : Z E YX9_binary (d + 1) M [(0, vr (some (a0, 8, 0))), (1, vi l1), (2, vi l2), (3, vr r3)] 39 [vr (some (p0, 34, 0))] Q := by
  refine z_dup dX9_binary_39 rfl ?_
  refine z_iload_n dX9_binary_40 rfl rfl ?_
  refine z_if_ne (tgt := 49) dX9_binary_41 rfl (fun h_ => ?_) (fun h_ => ?_)
  · have k := zif h_ k
    refine z_bipush (v := 23) dX9_binary_49 rfl ?_
    refine z_aload_n dX9_binary_51 rfl rfl ?_
    refine Z.pick [0, 1, 2] rfl ?_
    exact z_callI (as := [vi (23 : Int32), vr r3]) (st := [vr (some (p0, 34, 0))]) dX9_binary_52 isX9_292 (Nat.le_refl _) (Nat.le_of_ble_eq_true rfl) (Nat.le_of_ble_eq_true rfl) rfl k
  · have k := zit h_ k
    refine z_bipush (v := 24) dX9_binary_44 rfl ?_
    refine z_goto (tgt := 51) dX9_binary_46 rfl ?_
    refine z_aload_n dX9_binary_51 rfl rfl ?_
    refine Z.pick [0, 1, 2] rfl ?_
    exact z_callI (as := [vi (24 : Int32), vr r3]) (st := [vr (some (p0, 34, 0))]) dX9_binary_52 isX9_292 (Nat.le_refl _) (Nat.le_of_ble_eq_true rfl) (Nat.le_of_ble_eq_true rfl) rfl k
theorem sX9_binary_55 {E : zE} {d : Nat} {Q : zO → zM → Prop} (M : zM) (a0 : Nat) (l1 : Int32) (l2 : Int32) (p0 : Nat) (k : Z E YX9_binary (d + 1) M [(0, vr (some (a0, 8, 0))), (1, vi l1), (2, vi l2), (4, vr (some (p0, 34, 0)))] 57 [] Q) : Z E YX9_binary (d + 1) M [(0, vr (some (a0, 8, 0))), (1, vi l1), (2, vi l2)] 55 [vr (some (p0, 34, 0))] Q := by
  refine z_ast dX9_binary_55 (by decide) (lv' := [(0, vr (some (a0, 8, 0))), (1, vi l1), (2, vi l2), (4, vr (some (p0, 34, 0)))]) rfl ?_
  exact k
theorem sX9_binary_57 {E : zE} {d : Nat} {Q : zO → zM → Prop} (M : zM) (a0 : Nat) (l1 : Int32) (l2 : Int32) (a4 : Nat) (k : Z E YX9_strength d M (zargs 0 [vr (some (a0, 8, 0)), vi l2]) 0 [] (zafter E YX9_binary (d + 1) [(0, vr (some (a0, 8, 0))), (1, vi l1), (2, vi l2), (4, vr (some (a4, 34, 0)))] 59 3 [] Q)) : Z E YX9_binary (d + 1) M [(0, vr (some (a0, 8, 0))), (1, vi l1), (2, vi l2), (4, vr (some (a4, 34, 0)))] 57 [] Q := by
  refine z_aload_n dX9_binary_57 rfl rfl ?_
  refine z_iload_n dX9_binary_58 rfl rfl ?_
  exact z_callV (as := [vi l2]) (st := []) dX9_binary_59 vsX9_286_8 (Nat.le_refl _) (Nat.le_of_ble_eq_true rfl) (Nat.le_of_ble_eq_true rfl) rfl k
theorem sX9_binary_62 {E : zE} {d : Nat} {Q : zO → zM → Prop} (M : zM) (a0 : Nat) (l1 : Int32) (l2 : Int32) (a4 : Nat) (s0 : Int32) (k : if s0 = l1 then (∃ b1 : Nat, (gr M a0 1) = some (b1, 9, 0) ∧ (Z E YX10_next d M (zargs 0 [vr (some (b1, 9, 0))]) 0 [] (zafter E YX9_binary (d + 1) [(0, vr (some (a0, 8, 0))), (1, vi l1), (2, vi l2), (4, vr (some (a4, 34, 0)))] 70 3 [] Q))) else (Q (.inl (some (vr (some (a4, 34, 0))))) M)) : Z E YX9_binary (d + 1) M [(0, vr (some (a0, 8, 0))), (1, vi l1), (2, vi l2), (4, vr (some (a4, 34, 0)))] 62 [vi s0] Q := by
  refine z_iload_n dX9_binary_62 rfl rfl ?_
  refine z_icmp_ne (tgt := 93) dX9_binary_63 rfl (fun h_ => ?_) (fun h_ => ?_)
  · have k := zif h_ k
    refine z_aload dX9_binary_93 rfl ?_
    exact z_aret dX9_binary_95 rfl rfl k
  · have k := zit h_ k
    refine z_aload_n dX9_binary_66 rfl rfl ?_
    refine z_getr (r := (gr M a0 1)) dX9_binary_67 fsX9_27_8 rfl ?_
    obtain ⟨b1, e1_, k⟩ := k
    refine Z.eqs (lv' := [(0, vr (some (a0, 8, 0))), (1, vi l1), (2, vi l2), (4, vr (some (a4, 34, 0)))]) (st' := [vr (some (b1, 9, 0))]) rfl (by rw [e1_] <;> rfl) ?_
    exact z_callV (as := []) (st := []) dX9_binary_70 vsX9_52_9 (Nat.le_refl _) (Nat.le_of_ble_eq_true rfl) (Nat.le_of_ble_eq_true rfl) rfl k
theorem sX9_binary_73 {E : zE} {d : Nat} {Q : zO → zM → Prop} (M : zM) (a0 : Nat) (l1 : Int32) (l2 : Int32) (a4 : Nat) (k : Z E YX9_binary d M (zargs 0 [vr (some (a0, 8, 0)), vi (l1 + (1 : Int32)), vi l2]) 0 [] (zafter E YX9_binary (d + 1) [(0, vr (some (a0, 8, 0))), (1, vi l1), (2, vi l2), (4, vr (some (a4, 34, 0)))] 83 3 [vr (gr M a4 1)] Q)) : Z E YX9_binary (d + 1) M [(0, vr (some (a0, 8, 0))), (1, vi l1), (2, vi l2), (4, vr (some (a4, 34, 0)))] 73 [] Q := by
  refine z_aload dX9_binary_73 rfl ?_
  refine z_getr (r := (gr M a4 1)) dX9_binary_75 fsX9_295_34 rfl ?_
  refine z_aload_n dX9_binary_78 rfl rfl ?_
  refine z_iload_n dX9_binary_79 rfl rfl ?_
  refine z_iconst (v := 1) dX9_binary_80 rfl ?_
  refine z_iadd dX9_binary_81 ?_
  refine z_iload_n dX9_binary_82 rfl rfl ?_
  exact z_callV (as := [vi (l1 + (1 : Int32)), vi l2]) (st := [vr (gr M a4 1)]) dX9_binary_83 vsX9_264_8 (Nat.le_refl _) (Nat.le_of_ble_eq_true rfl) (Nat.le_of_ble_eq_true rfl) rfl k
theorem sX9_binary_86 {E : zE} {d : Nat} {Q : zO → zM → Prop} (M : zM) (a0 : Nat) (l1 : Int32) (l2 : Int32) (a4 : Nat) (u0 : Option zP) (u1 : Option zP) (k : ∃ b1 : Nat, u1 = some (b1, 11, 0) ∧ (Z E YJ2_add d M (zargs 0 [vr (some (b1, 11, 0)), vr u0]) 0 [] (zafter E YX9_binary (d + 1) [(0, vr (some (a0, 8, 0))), (1, vi l1), (2, vi l2), (4, vr (some (a4, 34, 0)))] 86 3 [] Q))) : Z E YX9_binary (d + 1) M [(0, vr (some (a0, 8, 0))), (1, vi l1), (2, vi l2), (4, vr (some (a4, 34, 0)))] 86 [vr u0, vr u1] Q := by
  obtain ⟨b1, e1_, k⟩ := k
  refine Z.eqs (lv' := [(0, vr (some (a0, 8, 0))), (1, vi l1), (2, vi l2), (4, vr (some (a4, 34, 0)))]) (st' := [vr u0, vr (some (b1, 11, 0))]) rfl (by rw [e1_] <;> rfl) ?_
  exact z_callV (as := [vr u0]) (st := []) dX9_binary_86 vsX9_48_11 (Nat.le_refl _) (Nat.le_of_ble_eq_true rfl) (Nat.le_of_ble_eq_true rfl) rfl k
theorem sX9_binary_89 {E : zE} {d : Nat} {Q : zO → zM → Prop} (M : zM) (a0 : Nat) (l1 : Int32) (l2 : Int32) (a4 : Nat) (s0 : Int32) (k : Z E YX9_binary (d + 1) M [(0, vr (some (a0, 8, 0))), (1, vi l1), (2, vi l2), (4, vr (some (a4, 34, 0)))] 57 [] Q) : Z E YX9_binary (d + 1) M [(0, vr (some (a0, 8, 0))), (1, vi l1), (2, vi l2), (4, vr (some (a4, 34, 0)))] 89 [vi s0] Q := by
  refine z_pop dX9_binary_89 rfl ?_
  refine z_goto (tgt := 57) dX9_binary_90 rfl ?_
  exact k
theorem sX9_binary_99 {E : zE} {d : Nat} {Q : zO → zM → Prop} (M : zM) (a0 : Nat) (l1 : Int32) (l2 : Int32) (r3 : Option zP) (p0 : Nat) (k : Z E YX30_init d M (zargs 0 [vr (some (p0, 35, 0)), vr r3]) 0 [] (zafter E YX9_binary (d + 1) [(0, vr (some (a0, 8, 0))), (1, vi l1), (2, vi l2)] 101 3 [vr (some (p0, 35, 0))] Q)) : Z E YX9_binary (d + 1) M [(0, vr (some (a0, 8, 0))), (1, vi l1), (2, vi l2), (3, vr r3)] 99 [vr (some (p0, 35, 0))] Q := by
  refine z_dup dX9_binary_99 rfl ?_
  refine z_aload_n dX9_binary_100 rfl rfl ?_
  refine Z.pick [0, 1, 2] rfl ?_
  exact z_callI (as := [vr r3]) (st := [vr (some (p0, 35, 0))]) dX9_binary_101 isX9_300 (Nat.le_refl _) (Nat.le_of_ble_eq_true rfl) (Nat.le_of_ble_eq_true rfl) rfl k
theorem sX9_binary_104 {E : zE} {d : Nat} {Q : zO → zM → Prop} (M : zM) (a0 : Nat) (l1 : Int32) (l2 : Int32) (p0 : Nat) (k : Z E YX9_binary (d + 1) M [(0, vr (some (a0, 8, 0))), (1, vi l1), (2, vi l2), (4, vr (some (p0, 35, 0)))] 106 [] Q) : Z E YX9_binary (d + 1) M [(0, vr (some (a0, 8, 0))), (1, vi l1), (2, vi l2)] 104 [vr (some (p0, 35, 0))] Q := by
  refine z_ast dX9_binary_104 (by decide) (lv' := [(0, vr (some (a0, 8, 0))), (1, vi l1), (2, vi l2), (4, vr (some (p0, 35, 0)))]) rfl ?_
  exact k
theorem sX9_binary_106 {E : zE} {d : Nat} {Q : zO → zM → Prop} (M : zM) (a0 : Nat) (l1 : Int32) (l2 : Int32) (a4 : Nat) (k : Z E YX9_strength d M (zargs 0 [vr (some (a0, 8, 0)), vi l2]) 0 [] (zafter E YX9_binary (d + 1) [(0, vr (some (a0, 8, 0))), (1, vi l1), (2, vi l2), (4, vr (some (a4, 35, 0)))] 108 3 [] Q)) : Z E YX9_binary (d + 1) M [(0, vr (some (a0, 8, 0))), (1, vi l1), (2, vi l2), (4, vr (some (a4, 35, 0)))] 106 [] Q := by
  refine z_aload_n dX9_binary_106 rfl rfl ?_
  refine z_iload_n dX9_binary_107 rfl rfl ?_
  exact z_callV (as := [vi l2]) (st := []) dX9_binary_108 vsX9_286_8 (Nat.le_refl _) (Nat.le_of_ble_eq_true rfl) (Nat.le_of_ble_eq_true rfl) rfl k
theorem sX9_binary_111 {E : zE} {d : Nat} {Q : zO → zM → Prop} (M : zM) (a0 : Nat) (l1 : Int32) (l2 : Int32) (a4 : Nat) (s0 : Int32) (k : if s0 = l1 then (∃ b1 : Nat, (gr M a0 1) = some (b1, 9, 0) ∧ (Z E YX10_next d M (zargs 0 [vr (some (b1, 9, 0))]) 0 [] (zafter E YX9_binary (d + 1) [(0, vr (some (a0, 8, 0))), (1, vi l1), (2, vi l2), (4, vr (some (a4, 35, 0))), (5, vi (gi M a0 8))] 125 3 [] Q))) else (Q (.inl (some (vr (some (a4, 35, 0))))) M)) : Z E YX9_binary (d + 1) M [(0, vr (some (a0, 8, 0))), (1, vi l1), (2, vi l2), (4, vr (some (a4, 35, 0)))] 111 [vi s0] Q := by
  refine z_iload_n dX9_binary_111 rfl rfl ?_
  refine z_icmp_ne (tgt := 146) dX9_binary_112 rfl (fun h_ => ?_) (fun h_ => ?_)
  · have k := zif h_ k
    refine z_aload dX9_binary_146 rfl ?_
    exact z_aret dX9_binary_148 rfl rfl k
  · have k := zit h_ k
    refine z_aload_n dX9_binary_115 rfl rfl ?_
    refine z_geti dX9_binary_116 fsX9_280_8 ?_
    refine z_ist dX9_binary_119 (by decide) (lv' := [(0, vr (some (a0, 8, 0))), (1, vi l1), (2, vi l2), (4, vr (some (a4, 35, 0))), (5, vi (gi M a0 8))]) rfl ?_
    refine z_aload_n dX9_binary_121 rfl rfl ?_
    refine z_getr (r := (gr M a0 1)) dX9_binary_122 fsX9_27_8 rfl ?_
    obtain ⟨b1, e1_, k⟩ := k
    refine Z.eqs (lv' := [(0, vr (some (a0, 8, 0))), (1, vi l1), (2, vi l2), (4, vr (some (a4, 35, 0))), (5, vi (gi M a0 8))]) (st' := [vr (some (b1, 9, 0))]) rfl (by rw [e1_] <;> rfl) ?_
    exact z_callV (as := []) (st := []) dX9_binary_125 vsX9_52_9 (Nat.le_refl _) (Nat.le_of_ble_eq_true rfl) (Nat.le_of_ble_eq_true rfl) rfl k
theorem sX9_binary_128 {E : zE} {d : Nat} {Q : zO → zM → Prop} (M : zM) (a0 : Nat) (l1 : Int32) (l2 : Int32) (a4 : Nat) (l5 : Int32) (k : Z E YX9_binary d M (zargs 0 [vr (some (a0, 8, 0)), vi (l1 + (1 : Int32)), vi l2]) 0 [] (zafter E YX9_binary (d + 1) [(0, vr (some (a0, 8, 0))), (1, vi l1), (2, vi l2), (4, vr (some (a4, 35, 0)))] 137 3 [vi l5, vr (some (a4, 35, 0))] Q)) : Z E YX9_binary (d + 1) M [(0, vr (some (a0, 8, 0))), (1, vi l1), (2, vi l2), (4, vr (some (a4, 35, 0))), (5, vi l5)] 128 [] Q := by
  refine z_aload dX9_binary_128 rfl ?_
  refine z_iload dX9_binary_130 rfl ?_
  refine z_aload_n dX9_binary_132 rfl rfl ?_
  refine z_iload_n dX9_binary_133 rfl rfl ?_
  refine z_iconst (v := 1) dX9_binary_134 rfl ?_
  refine z_iadd dX9_binary_135 ?_
  refine z_iload_n dX9_binary_136 rfl rfl ?_
  refine Z.pick [0, 1, 2, 3] rfl ?_
  exact z_callV (as := [vi (l1 + (1 : Int32)), vi l2]) (st := [vi l5, vr (some (a4, 35, 0))]) dX9_binary_137 vsX9_264_8 (Nat.le_refl _) (Nat.le_of_ble_eq_true rfl) (Nat.le_of_ble_eq_true rfl) rfl k
theorem sX9_binary_140 {E : zE} {d : Nat} {Q : zO → zM → Prop} (M : zM) (a0 : Nat) (l1 : Int32) (l2 : Int32) (a4 : Nat) (u0 : Option zP) (s1 : Int32) (p2 : Nat) (k : Z E YX30_add d M (zargs 0 [vr (some (p2, 35, 0)), vi s1, vr u0]) 0 [] (zafter E YX9_binary (d + 1) [(0, vr (some (a0, 8, 0))), (1, vi l1), (2, vi l2), (4, vr (some (a4, 35, 0)))] 140 3 [] Q)) : Z E YX9_binary (d + 1) M [(0, vr (some (a0, 8, 0))), (1, vi l1), (2, vi l2), (4, vr (some (a4, 35, 0)))] 140 [vr u0, vi s1, vr (some (p2, 35, 0))] Q := by
  exact z_callV (as := [vi s1, vr u0]) (st := []) dX9_binary_140 vsX9_301_35 (Nat.le_refl _) (Nat.le_of_ble_eq_true rfl) (Nat.le_of_ble_eq_true rfl) rfl k
theorem sX9_binary_143 {E : zE} {d : Nat} {Q : zO → zM → Prop} (M : zM) (a0 : Nat) (l1 : Int32) (l2 : Int32) (a4 : Nat) (k : Z E YX9_binary (d + 1) M [(0, vr (some (a0, 8, 0))), (1, vi l1), (2, vi l2), (4, vr (some (a4, 35, 0)))] 106 [] Q) : Z E YX9_binary (d + 1) M [(0, vr (some (a0, 8, 0))), (1, vi l1), (2, vi l2), (4, vr (some (a4, 35, 0)))] 143 [] Q := by
  refine z_goto (tgt := 106) dX9_binary_143 rfl ?_
  exact k
/-! ScriptTypes$Parser.unit()LScriptTypes$Node; -/
theorem bX9_unit_0 : zdec cX9_unit 0 [(0, .aload_n 0, 1), (1, .invokevirtual 303, 3), (4, .istore_n 1, 1), (5, .iload_n 1, 1), (6, .iconst (-1), 1), (7, .if_icmp .ne 8, 3), (10, .aload_n 0, 1), (11, .invokevirtual 306, 3), (14, .areturn, 1), (15, .aload_n 0, 1), (16, .invokevirtual 72, 3), (19, .aload_n 0, 1), (20, .getfield 27, 3), (23, .invokevirtual 52, 3), (26, .aload_n 0, 1), (27, .invokevirtual 283, 3)] = true := by decide +kernel
theorem dX9_unit_0 : decode cX9_unit 0 = .ok (.aload_n 0, 1) := zdec_at bX9_unit_0 0 rfl
theorem dX9_unit_1 : decode cX9_unit 1 = .ok (.invokevirtual 303, 3) := zdec_at bX9_unit_0 1 rfl
theorem dX9_unit_4 : decode cX9_unit 4 = .ok (.istore_n 1, 1) := zdec_at bX9_unit_0 2 rfl
theorem dX9_unit_5 : decode cX9_unit 5 = .ok (.iload_n 1, 1) := zdec_at bX9_unit_0 3 rfl
theorem dX9_unit_6 : decode cX9_unit 6 = .ok (.iconst (-1), 1) := zdec_at bX9_unit_0 4 rfl
theorem dX9_unit_7 : decode cX9_unit 7 = .ok (.if_icmp .ne 8, 3) := zdec_at bX9_unit_0 5 rfl
theorem dX9_unit_10 : decode cX9_unit 10 = .ok (.aload_n 0, 1) := zdec_at bX9_unit_0 6 rfl
theorem dX9_unit_11 : decode cX9_unit 11 = .ok (.invokevirtual 306, 3) := zdec_at bX9_unit_0 7 rfl
theorem dX9_unit_14 : decode cX9_unit 14 = .ok (.areturn, 1) := zdec_at bX9_unit_0 8 rfl
theorem dX9_unit_15 : decode cX9_unit 15 = .ok (.aload_n 0, 1) := zdec_at bX9_unit_0 9 rfl
theorem dX9_unit_16 : decode cX9_unit 16 = .ok (.invokevirtual 72, 3) := zdec_at bX9_unit_0 10 rfl
theorem dX9_unit_19 : decode cX9_unit 19 = .ok (.aload_n 0, 1) := zdec_at bX9_unit_0 11 rfl
theorem dX9_unit_20 : decode cX9_unit 20 = .ok (.getfield 27, 3) := zdec_at bX9_unit_0 12 rfl
theorem dX9_unit_23 : decode cX9_unit 23 = .ok (.invokevirtual 52, 3) := zdec_at bX9_unit_0 13 rfl
theorem dX9_unit_26 : decode cX9_unit 26 = .ok (.aload_n 0, 1) := zdec_at bX9_unit_0 14 rfl
theorem dX9_unit_27 : decode cX9_unit 27 = .ok (.invokevirtual 283, 3) := zdec_at bX9_unit_0 15 rfl
theorem bX9_unit_30 : zdec cX9_unit 30 [(30, .astore_n 2, 1), (31, .aload_n 0, 1), (32, .dup, 1), (33, .getfield 31, 3), (36, .iconst 1, 1), (37, .isub, 1), (38, .putfield 31, 3), (41, .iload_n 1, 1), (42, .bipush 6, 2), (44, .if_icmp .le 40, 3), (47, .aload_n 2, 1), (48, .invokevirtual 234, 3), (51, .ifCond .ne 19, 3), (54, .aload_n 2, 1), (55, .invokevirtual 274, 3), (58, .ifCond .ne 12, 3)] = true := by decide +kernel
theorem dX9_unit_30 : decode cX9_unit 30 = .ok (.astore_n 2, 1) := zdec_at bX9_unit_30 0 rfl
theorem dX9_unit_31 : decode cX9_unit 31 = .ok (.aload_n 0, 1) := zdec_at bX9_unit_30 1 rfl
theorem dX9_unit_32 : decode cX9_unit 32 = .ok (.dup, 1) := zdec_at bX9_unit_30 2 rfl
theorem dX9_unit_33 : decode cX9_unit 33 = .ok (.getfield 31, 3) := zdec_at bX9_unit_30 3 rfl
theorem dX9_unit_36 : decode cX9_unit 36 = .ok (.iconst 1, 1) := zdec_at bX9_unit_30 4 rfl
theorem dX9_unit_37 : decode cX9_unit 37 = .ok (.isub, 1) := zdec_at bX9_unit_30 5 rfl
theorem dX9_unit_38 : decode cX9_unit 38 = .ok (.putfield 31, 3) := zdec_at bX9_unit_30 6 rfl
theorem dX9_unit_41 : decode cX9_unit 41 = .ok (.iload_n 1, 1) := zdec_at bX9_unit_30 7 rfl
theorem dX9_unit_42 : decode cX9_unit 42 = .ok (.bipush 6, 2) := zdec_at bX9_unit_30 8 rfl
theorem dX9_unit_44 : decode cX9_unit 44 = .ok (.if_icmp .le 40, 3) := zdec_at bX9_unit_30 9 rfl
theorem dX9_unit_47 : decode cX9_unit 47 = .ok (.aload_n 2, 1) := zdec_at bX9_unit_30 10 rfl
theorem dX9_unit_48 : decode cX9_unit 48 = .ok (.invokevirtual 234, 3) := zdec_at bX9_unit_30 11 rfl
theorem dX9_unit_51 : decode cX9_unit 51 = .ok (.ifCond .ne 19, 3) := zdec_at bX9_unit_30 12 rfl
theorem dX9_unit_54 : decode cX9_unit 54 = .ok (.aload_n 2, 1) := zdec_at bX9_unit_30 13 rfl
theorem dX9_unit_55 : decode cX9_unit 55 = .ok (.invokevirtual 274, 3) := zdec_at bX9_unit_30 14 rfl
theorem dX9_unit_58 : decode cX9_unit 58 = .ok (.ifCond .ne 12, 3) := zdec_at bX9_unit_30 15 rfl
theorem bX9_unit_61 : zdec cX9_unit 61 [(61, .aload_n 0, 1), (62, .getfield 27, 3), (65, .iconst 3, 1), (66, .invokevirtual 35, 3), (69, .athrow, 1), (70, .new 309, 3), (73, .dup, 1), (74, .iload_n 1, 1), (75, .bipush 7, 2), (77, .isub, 1), (78, .iconst 0, 1), (79, .aload_n 2, 1), (80, .invokespecial 311, 3), (83, .areturn, 1), (84, .iload_n 1, 1), (85, .bipush 6, 2)] = true := by decide +kernel
theorem dX9_unit_61 : decode cX9_unit 61 = .ok (.aload_n 0, 1) := zdec_at bX9_unit_61 0 rfl
theorem dX9_unit_62 : decode cX9_unit 62 = .ok (.getfield 27, 3) := zdec_at bX9_unit_61 1 rfl
theorem dX9_unit_65 : decode cX9_unit 65 = .ok (.iconst 3, 1) := zdec_at bX9_unit_61 2 rfl
theorem dX9_unit_66 : decode cX9_unit 66 = .ok (.invokevirtual 35, 3) := zdec_at bX9_unit_61 3 rfl
theorem dX9_unit_69 : decode cX9_unit 69 = .ok (.athrow, 1) := zdec_at bX9_unit_61 4 rfl
theorem dX9_unit_70 : decode cX9_unit 70 = .ok (.new 309, 3) := zdec_at bX9_unit_61 5 rfl
theorem dX9_unit_73 : decode cX9_unit 73 = .ok (.dup, 1) := zdec_at bX9_unit_61 6 rfl
theorem dX9_unit_74 : decode cX9_unit 74 = .ok (.iload_n 1, 1) := zdec_at bX9_unit_61 7 rfl
theorem dX9_unit_75 : decode cX9_unit 75 = .ok (.bipush 7, 2) := zdec_at bX9_unit_61 8 rfl
theorem dX9_unit_77 : decode cX9_unit 77 = .ok (.isub, 1) := zdec_at bX9_unit_61 9 rfl
theorem dX9_unit_78 : decode cX9_unit 78 = .ok (.iconst 0, 1) := zdec_at bX9_unit_61 10 rfl
theorem dX9_unit_79 : decode cX9_unit 79 = .ok (.aload_n 2, 1) := zdec_at bX9_unit_61 11 rfl
theorem dX9_unit_80 : decode cX9_unit 80 = .ok (.invokespecial 311, 3) := zdec_at bX9_unit_61 12 rfl
theorem dX9_unit_83 : decode cX9_unit 83 = .ok (.areturn, 1) := zdec_at bX9_unit_61 13 rfl
theorem dX9_unit_84 : decode cX9_unit 84 = .ok (.iload_n 1, 1) := zdec_at bX9_unit_61 14 rfl
theorem dX9_unit_85 : decode cX9_unit 85 = .ok (.bipush 6, 2) := zdec_at bX9_unit_61 15 rfl
theorem bX9_unit_87 : zdec cX9_unit 87 [(87, .if_icmp .ne 19, 3), (90, .aload_n 2, 1), (91, .invokevirtual 274, 3), (94, .ifCond .ne 12, 3), (97, .aload_n 0, 1), (98, .getfield 27, 3), (101, .iconst 3, 1), (102, .invokevirtual 35, 3), (105, .athrow, 1), (106, .new 314, 3), (109, .dup, 1), (110, .iload_n 1, 1), (111, .aload_n 2, 1), (112, .invokespecial 316, 3), (115, .areturn, 1)] = true := by decide +kernel
theorem dX9_unit_87 : decode cX9_unit 87 = .ok (.if_icmp .ne 19, 3) := zdec_at bX9_unit_87 0 rfl
theorem dX9_unit_90 : decode cX9_unit 90 = .ok (.aload_n 2, 1) := zdec_at bX9_unit_87 1 rfl
theorem dX9_unit_91 : decode cX9_unit 91 = .ok (.invokevirtual 274, 3) := zdec_at bX9_unit_87 2 rfl
theorem dX9_unit_94 : decode cX9_unit 94 = .ok (.ifCond .ne 12, 3) := zdec_at bX9_unit_87 3 rfl
theorem dX9_unit_97 : decode cX9_unit 97 = .ok (.aload_n 0, 1) := zdec_at bX9_unit_87 4 rfl
theorem dX9_unit_98 : decode cX9_unit 98 = .ok (.getfield 27, 3) := zdec_at bX9_unit_87 5 rfl
theorem dX9_unit_101 : decode cX9_unit 101 = .ok (.iconst 3, 1) := zdec_at bX9_unit_87 6 rfl
theorem dX9_unit_102 : decode cX9_unit 102 = .ok (.invokevirtual 35, 3) := zdec_at bX9_unit_87 7 rfl
theorem dX9_unit_105 : decode cX9_unit 105 = .ok (.athrow, 1) := zdec_at bX9_unit_87 8 rfl
theorem dX9_unit_106 : decode cX9_unit 106 = .ok (.new 314, 3) := zdec_at bX9_unit_87 9 rfl
theorem dX9_unit_109 : decode cX9_unit 109 = .ok (.dup, 1) := zdec_at bX9_unit_87 10 rfl
theorem dX9_unit_110 : decode cX9_unit 110 = .ok (.iload_n 1, 1) := zdec_at bX9_unit_87 11 rfl
theorem dX9_unit_111 : decode cX9_unit 111 = .ok (.aload_n 2, 1) := zdec_at bX9_unit_87 12 rfl
theorem dX9_unit_112 : decode cX9_unit 112 = .ok (.invokespecial 316, 3) := zdec_at bX9_unit_87 13 rfl
theorem dX9_unit_115 : decode cX9_unit 115 = .ok (.areturn, 1) := zdec_at bX9_unit_87 14 rfl
theorem sX9_unit_0 {E : zE} {d : Nat} {Q : zO → zM → Prop} (M : zM) (a0 : Nat) (k : Z E YX9_ahead d M (zargs 0 [vr (some (a0, 8, 0))]) 0 [] (zafter E YX9_unit (d + 1) [(0, vr (some (a0, 8, 0)))] 1 3 [] Q)) : Z E YX9_unit (d + 1) M [(0, vr (some (a0, 8, 0)))] 0 [] Q := by
  refine z_aload_n dX9_unit_0 rfl rfl ?_
  exact z_callV (as := []) (st := []) dX9_unit_1 vsX9_303_8 (Nat.le_refl _) (Nat.le_of_ble_eq_true rfl) (Nat.le_of_ble_eq_true rfl) rfl k
theorem sX9_unit_4 {E : zE} {d : Nat} {Q : zO → zM → Prop} (M : zM) (a0 : Nat) (s0 : Int32) (k : if s0 = (-1 : Int32) then (Z E YX9_counted d M (zargs 0 [vr (some (a0, 8, 0))]) 0 [] (zafter E YX9_unit (d + 1) [] 11 3 [] Q)) else (Z E YX9_opens d M (zargs 0 [vr (some (a0, 8, 0))]) 0 [] (zafter E YX9_unit (d + 1) [(0, vr (some (a0, 8, 0))), (1, vi s0)] 16 3 [] Q))) : Z E YX9_unit (d + 1) M [(0, vr (some (a0, 8, 0)))] 4 [vi s0] Q := by
  refine z_ist_n dX9_unit_4 rfl (by decide) (lv' := [(0, vr (some (a0, 8, 0))), (1, vi s0)]) rfl ?_
  refine z_iload_n dX9_unit_5 rfl rfl ?_
  refine z_iconst (v := -1) dX9_unit_6 rfl ?_
  refine z_icmp_ne (tgt := 15) dX9_unit_7 rfl (fun h_ => ?_) (fun h_ => ?_)
  · have k := zif h_ k
    refine z_aload_n dX9_unit_15 rfl rfl ?_
    exact z_callV (as := []) (st := []) dX9_unit_16 vsX9_72_8 (Nat.le_refl _) (Nat.le_of_ble_eq_true rfl) (Nat.le_of_ble_eq_true rfl) rfl k
  · have k := zit h_ k
    refine z_aload_n dX9_unit_10 rfl rfl ?_
    refine Z.pick [] rfl ?_
    exact z_callV (as := []) (st := []) dX9_unit_11 vsX9_306_8 (Nat.le_refl _) (Nat.le_of_ble_eq_true rfl) (Nat.le_of_ble_eq_true rfl) rfl k
theorem sX9_unit_14 {E : zE} {d : Nat} {Q : zO → zM → Prop} (M : zM) (u0 : Option zP) (k : Q (.inl (some (vr u0))) M) : Z E YX9_unit (d + 1) M [] 14 [vr u0] Q := by
  exact z_aret dX9_unit_14 rfl rfl k
theorem sX9_unit_19 {E : zE} {d : Nat} {Q : zO → zM → Prop} (M : zM) (a0 : Nat) (l1 : Int32) (k : ∃ b1 : Nat, (gr M a0 1) = some (b1, 9, 0) ∧ (Z E YX10_next d M (zargs 0 [vr (some (b1, 9, 0))]) 0 [] (zafter E YX9_unit (d + 1) [(0, vr (some (a0, 8, 0))), (1, vi l1)] 23 3 [] Q))) : Z E YX9_unit (d + 1) M [(0, vr (some (a0, 8, 0))), (1, vi l1)] 19 [] Q := by
  refine z_aload_n dX9_unit_19 rfl rfl ?_
  refine z_getr (r := (gr M a0 1)) dX9_unit_20 fsX9_27_8 rfl ?_
  obtain ⟨b1, e1_, k⟩ := k
  refine Z.eqs (lv' := [(0, vr (some (a0, 8, 0))), (1, vi l1)]) (st' := [vr (some (b1, 9, 0))]) rfl (by rw [e1_] <;> rfl) ?_
  exact z_callV (as := []) (st := []) dX9_unit_23 vsX9_52_9 (Nat.le_refl _) (Nat.le_of_ble_eq_true rfl) (Nat.le_of_ble_eq_true rfl) rfl k
theorem sX9_unit_26 {E : zE} {d : Nat} {Q : zO → zM → Prop} (M : zM) (a0 : Nat) (l1 : Int32) (k : Z E YX9_unit d M (zargs 0 [vr (some (a0, 8, 0))]) 0 [] (zafter E YX9_unit (d + 1) [(0, vr (some (a0, 8, 0))), (1, vi l1)] 27 3 [] Q)) : Z E YX9_unit (d + 1) M [(0, vr (some (a0, 8, 0))), (1, vi l1)] 26 [] Q := by
  refine z_aload_n dX9_unit_26 rfl rfl ?_
  exact z_callV (as := []) (st := []) dX9_unit_27 vsX9_283_8 (Nat.le_refl _) (Nat.le_of_ble_eq_true rfl) (Nat.le_of_ble_eq_true rfl) rfl k
theorem sX9_unit_30 {E : zE} {d : Nat} {Q : zO → zM → Prop} (M : zM) (a0 : Nat) (l1 : Int32) (u0 : Option zP) (k : 16 ≤ a0 ∧ (if l1 ≤ (6 : Int32) then (if l1 = (6 : Int32) then (∃ b1 t1 : Nat, u0 = some (b1, t1, 0) ∧ (∃ Y_ : zY, vt_isMember t1 = some Y_ ∧ Z E Y_ d (si M a0 4 ((gi M a0 4) - (1 : Int32))) (zargs 0 [vr (some (b1, t1, 0))]) 0 [] (zafter E YX9_unit (d + 1) [(0, vr (some (a0, 8, 0))), (1, vi l1), (2, vr (some (b1, t1, 0)))] 91 3 [] Q))) else (Z E YX9_unit (d + 1) (zn (si M a0 4 ((gi M a0 4) - (1 : Int32))) 2) [(1, vi l1), (2, vr u0)] 109 [vr (some ((zsz M), 33, 0))] Q)) else (∃ b1 t1 : Nat, u0 = some (b1, t1, 0) ∧ (∃ Y_ : zY, vt_isName t1 = some Y_ ∧ Z E Y_ d (si M a0 4 ((gi M a0 4) - (1 : Int32))) (zargs 0 [vr (some (b1, t1, 0))]) 0 [] (zafter E YX9_unit (d + 1) [(0, vr (some (a0, 8, 0))), (1, vi l1), (2, vr (some (b1, t1, 0)))] 48 3 [] Q))))) : Z E YX9_unit (d + 1) M [(0, vr (some (a0, 8, 0))), (1, vi l1)] 30 [vr u0] Q := by
  refine z_ast_n dX9_unit_30 rfl (by decide) (lv' := [(0, vr (some (a0, 8, 0))), (1, vi l1), (2, vr u0)]) rfl ?_
  refine z_aload_n dX9_unit_31 rfl rfl ?_
  refine z_dup dX9_unit_32 rfl ?_
  refine z_geti dX9_unit_33 fsX9_31_8 ?_
  refine z_iconst (v := 1) dX9_unit_36 rfl ?_
  refine z_isub dX9_unit_37 ?_
  obtain ⟨g_, k⟩ := k
  refine z_puti g_ dX9_unit_38 (zfwN.w fwX9_31_8) rfl ⟨rfl, rfl⟩ ?_
  refine z_iload_n dX9_unit_41 rfl rfl ?_
  refine z_bipush (v := 6) dX9_unit_42 rfl ?_
  refine z_icmp_le (tgt := 84) dX9_unit_44 rfl (fun h_ => ?_) (fun h_ => ?_)
  · have k := zit h_ k
    refine z_iload_n dX9_unit_84 rfl rfl ?_
    refine z_bipush (v := 6) dX9_unit_85 rfl ?_
    refine z_icmp_ne (tgt := 106) dX9_unit_87 rfl (fun h_ => ?_) (fun h_ => ?_)
    · have k := zif h_ k
      refine z_new dX9_unit_106 csX9_314 zff_33 ?_
      refine Z.pick [1, 2] rfl ?_
      exact k
    · have k := zit h_ k
      refine z_aload_n dX9_unit_90 rfl rfl ?_
      obtain ⟨b1, t1, e1_, k⟩ := k
      refine Z.eqs (lv' := [(0, vr (some (a0, 8, 0))), (1, vi l1), (2, vr (some (b1, t1, 0)))]) (st' := [vr (some (b1, t1, 0))]) (by rw [e1_] <;> rfl) (by rw [e1_] <;> rfl) ?_
      obtain ⟨Y_, y_, k⟩ := k
      exact z_callV (as := []) (st := []) dX9_unit_91 (vtX9_274 y_).1 (Nat.le_refl _) (Nat.le_trans (Nat.le_of_ble_eq_true rfl) (vtX9_274 y_).2.1) (Nat.le_trans (Nat.add_le_add_left (vtX9_274 y_).2.2 _) (Nat.le_of_ble_eq_true rfl)) rfl k
  · have k := zif h_ k
    refine z_aload_n dX9_unit_47 rfl rfl ?_
    obtain ⟨b1, t1, e1_, k⟩ := k
    refine Z.eqs (lv' := [(0, vr (some (a0, 8, 0))), (1, vi l1), (2, vr (some (b1, t1, 0)))]) (st' := [vr (some (b1, t1, 0))]) (by rw [e1_] <;> rfl) (by rw [e1_] <;> rfl) ?_
    obtain ⟨Y_, y_, k⟩ := k
    exact z_callV (as := []) (st := []) dX9_unit_48 (vtX9_234 y_).1 (Nat.le_refl _) (Nat.le_trans (Nat.le_of_ble_eq_true rfl) (vtX9_234 y_).2.1) (Nat.le_trans (Nat.add_le_add_left (vtX9_234 y_).2.2 _) (Nat.le_of_ble_eq_true rfl)) rfl k
theorem sX9_unit_51 {E : zE} {d : Nat} {Q : zO → zM → Prop} (M : zM) (a0 : Nat) (l1 : Int32) (a2 : Nat) (ta2 : Nat) (s0 : Int32) (k : if s0 = 0 then (∃ Y_ : zY, vt_isMember ta2 = some Y_ ∧ Z E Y_ d M (zargs 0 [vr (some (a2, ta2, 0))]) 0 [] (zafter E YX9_unit (d + 1) [(0, vr (some (a0, 8, 0))), (1, vi l1), (2, vr (some (a2, ta2, 0)))] 55 3 [] Q)) else (Z E YX9_unit (d + 1) M [(1, vi l1), (2, vr (some (a2, ta2, 0)))] 70 [] Q)) : Z E YX9_unit (d + 1) M [(0, vr (some (a0, 8, 0))), (1, vi l1), (2, vr (some (a2, ta2, 0)))] 51 [vi s0] Q := by
  refine z_if_ne (tgt := 70) dX9_unit_51 rfl (fun h_ => ?_) (fun h_ => ?_)
  · have k := zif h_ k
    refine Z.pick [1, 2] rfl ?_
    exact k
  · have k := zit h_ k
    refine z_aload_n dX9_unit_54 rfl rfl ?_
    obtain ⟨Y_, y_, k⟩ := k
    exact z_callV (as := []) (st := []) dX9_unit_55 (vtX9_274 y_).1 (Nat.le_refl _) (Nat.le_trans (Nat.le_of_ble_eq_true rfl) (vtX9_274 y_).2.1) (Nat.le_trans (Nat.add_le_add_left (vtX9_274 y_).2.2 _) (Nat.le_of_ble_eq_true rfl)) rfl k
theorem sX9_unit_58 {E : zE} {d : Nat} {Q : zO → zM → Prop} (M : zM) (a0 : Nat) (l1 : Int32) (a2 : Nat) (ta2 : Nat) (s0 : Int32) (k : if s0 = 0 then (∃ b1 : Nat, (gr M a0 1) = some (b1, 9, 0) ∧ (Z E YX10_fault d M (zargs 0 [vr (some (b1, 9, 0)), vi (3 : Int32)]) 0 [] (zafter E YX9_unit (d + 1) [] 66 3 [] Q))) else (Z E YX9_unit (d + 1) M [(1, vi l1), (2, vr (some (a2, ta2, 0)))] 70 [] Q)) : Z E YX9_unit (d + 1) M [(0, vr (some (a0, 8, 0))), (1, vi l1), (2, vr (some (a2, ta2, 0)))] 58 [vi s0] Q := by
  refine z_if_ne (tgt := 70) dX9_unit_58 rfl (fun h_ => ?_) (fun h_ => ?_)
  · have k := zif h_ k
    refine Z.pick [1, 2] rfl ?_
    exact k
  · have k := zit h_ k
    refine z_aload_n dX9_unit_61 rfl rfl ?_
    refine z_getr (r := (gr M a0 1)) dX9_unit_62 fsX9_27_8 rfl ?_
    refine z_iconst (v := 3) dX9_unit_65 rfl ?_
    obtain ⟨b1, e1_, k⟩ := k
    refine Z.eqs (lv' := [(0, vr (some (a0, 8, 0))), (1, vi l1), (2, vr (some (a2, ta2, 0)))]) (st' := [vi (3 : Int32), vr (some (b1, 9, 0))]) rfl (by rw [e1_] <;> rfl) ?_
    refine Z.pick [] rfl ?_
    exact z_callV (as := [vi (3 : Int32)]) (st := []) dX9_unit_66 vsX9_35_9 (Nat.le_refl _) (Nat.le_of_ble_eq_true rfl) (Nat.le_of_ble_eq_true rfl) rfl k
theorem sX9_unit_69 {E : zE} {d : Nat} {Q : zO → zM → Prop} (M : zM) (u0 : Option zP) (k : ∃ b1 : Nat, u0 = some (b1, 12, 0) ∧ (Q (.inr (b1, 12, 0)) M)) : Z E YX9_unit (d + 1) M [] 69 [vr u0] Q := by
  obtain ⟨b1, e1_, k⟩ := k
  refine Z.eqs (lv' := []) (st' := [vr (some (b1, 12, 0))]) rfl (by rw [e1_] <;> rfl) ?_
  exact z_athrow dX9_unit_69 (ZT.out (by decide) k)
theorem sX9_unit_70 {E : zE} {d : Nat} {Q : zO → zM → Prop} (M : zM) (l1 : Int32) (a2 : Nat) (ta2 : Nat) (k : Z E YX9_unit (d + 1) (zn M 3) [(1, vi l1), (2, vr (some (a2, ta2, 0)))] 73 [vr (some ((zsz M), 32, 0))] Q) : Z E YX9_unit (d + 1) M [(1, vi l1), (2, vr (some (a2, ta2, 0)))] 70 [] Q := by
  refine z_new dX9_unit_70 csX9_309 zff_32 ?_
  exact k
theorem sX9_unit_73 {E : zE} {d : Nat} {Q : zO → zM → Prop} (M : zM) (l1 : Int32) (a2 : Nat) (ta2 : Nat) (p0 : Nat) (k : Z E YX27_init d M (zargs 0 [vr (some (p0, 32, 0)), vi (l1 - (7 : Int32)), vi (0 : Int32), vr (some (a2, ta2, 0))]) 0 [] (zafter E YX9_unit (d + 1) [] 80 3 [vr (some (p0, 32, 0))] Q)) : Z E YX9_unit (d + 1) M [(1, vi l1), (2, vr (some (a2, ta2, 0)))] 73 [vr (some (p0, 32, 0))] Q := by
  refine z_dup dX9_unit_73 rfl ?_
  refine z_iload_n dX9_unit_74 rfl rfl ?_
  refine z_bipush (v := 7) dX9_unit_75 rfl ?_
  refine z_isub dX9_unit_77 ?_
  refine z_iconst (v := 0) dX9_unit_78 rfl ?_
  refine z_aload_n dX9_unit_79 rfl rfl ?_
  refine Z.pick [] rfl ?_
  exact z_callI (as := [vi (l1 - (7 : Int32)), vi (0 : Int32), vr (some (a2, ta2, 0))]) (st := [vr (some (p0, 32, 0))]) dX9_unit_80 isX9_311 (Nat.le_refl _) (Nat.le_of_ble_eq_true rfl) (Nat.le_of_ble_eq_true rfl) rfl k
theorem sX9_unit_83 {E : zE} {d : Nat} {Q : zO → zM → Prop} (M : zM) (p0 : Nat) (k : Q (.inl (some (vr (some (p0, 32, 0))))) M) : Z E YX9_unit (d + 1) M [] 83 [vr (some (p0, 32, 0))] Q := by
  exact z_aret dX9_unit_83 rfl rfl k
theorem sX9_unit_94 {E : zE} {d : Nat} {Q : zO → zM → Prop} (M : zM) (a0 : Nat) (l1 : Int32) (a2 : Nat) (ta2 : Nat) (s0 : Int32) (k : if s0 = 0 then (∃ b1 : Nat, (gr M a0 1) = some (b1, 9, 0) ∧ (Z E YX10_fault d M (zargs 0 [vr (some (b1, 9, 0)), vi (3 : Int32)]) 0 [] (zafter E YX9_unit (d + 1) [] 102 3 [] Q))) else (Z E YX9_unit (d + 1) (zn M 2) [(1, vi l1), (2, vr (some (a2, ta2, 0)))] 109 [vr (some ((zsz M), 33, 0))] Q)) : Z E YX9_unit (d + 1) M [(0, vr (some (a0, 8, 0))), (1, vi l1), (2, vr (some (a2, ta2, 0)))] 94 [vi s0] Q := by
  refine z_if_ne (tgt := 106) dX9_unit_94 rfl (fun h_ => ?_) (fun h_ => ?_)
  · have k := zif h_ k
    refine z_new dX9_unit_106 csX9_314 zff_33 ?_
    refine Z.pick [1, 2] rfl ?_
    exact k
  · have k := zit h_ k
    refine z_aload_n dX9_unit_97 rfl rfl ?_
    refine z_getr (r := (gr M a0 1)) dX9_unit_98 fsX9_27_8 rfl ?_
    refine z_iconst (v := 3) dX9_unit_101 rfl ?_
    obtain ⟨b1, e1_, k⟩ := k
    refine Z.eqs (lv' := [(0, vr (some (a0, 8, 0))), (1, vi l1), (2, vr (some (a2, ta2, 0)))]) (st' := [vi (3 : Int32), vr (some (b1, 9, 0))]) rfl (by rw [e1_] <;> rfl) ?_
    refine Z.pick [] rfl ?_
    exact z_callV (as := [vi (3 : Int32)]) (st := []) dX9_unit_102 vsX9_35_9 (Nat.le_refl _) (Nat.le_of_ble_eq_true rfl) (Nat.le_of_ble_eq_true rfl) rfl k
theorem sX9_unit_105 {E : zE} {d : Nat} {Q : zO → zM → Prop} (M : zM) (u0 : Option zP) (k : ∃ b1 : Nat, u0 = some (b1, 12, 0) ∧ (Q (.inr (b1, 12, 0)) M)) : Z E YX9_unit (d + 1) M [] 105 [vr u0] Q := by
  obtain ⟨b1, e1_, k⟩ := k
  refine Z.eqs (lv' := []) (st' := [vr (some (b1, 12, 0))]) rfl (by rw [e1_] <;> rfl) ?_
  exact z_athrow dX9_unit_105 (ZT.out (by decide) k)
theorem sX9_unit_109 {E : zE} {d : Nat} {Q : zO → zM → Prop} (M : zM) (l1 : Int32) (r2 : Option zP) (p0 : Nat) (k : Z E YX28_init d M (zargs 0 [vr (some (p0, 33, 0)), vi l1, vr r2]) 0 [] (zafter E YX9_unit (d + 1) [] 112 3 [vr (some (p0, 33, 0))] Q)) : Z E YX9_unit (d + 1) M [(1, vi l1), (2, vr r2)] 109 [vr (some (p0, 33, 0))] Q := by
  refine z_dup dX9_unit_109 rfl ?_
  refine z_iload_n dX9_unit_110 rfl rfl ?_
  refine z_aload_n dX9_unit_111 rfl rfl ?_
  refine Z.pick [] rfl ?_
  exact z_callI (as := [vi l1, vr r2]) (st := [vr (some (p0, 33, 0))]) dX9_unit_112 isX9_316 (Nat.le_refl _) (Nat.le_of_ble_eq_true rfl) (Nat.le_of_ble_eq_true rfl) rfl k
theorem sX9_unit_115 {E : zE} {d : Nat} {Q : zO → zM → Prop} (M : zM) (p0 : Nat) (k : Q (.inl (some (vr (some (p0, 33, 0))))) M) : Z E YX9_unit (d + 1) M [] 115 [vr (some (p0, 33, 0))] Q := by
  exact z_aret dX9_unit_115 rfl rfl k
/-! ScriptTypes$Parser.ahead()I -/
theorem bX9_ahead_0 : zdec cX9_ahead 0 [(0, .aload_n 0, 1), (1, .getfield 27, 3), (4, .getfield 55, 3), (7, .iconst 2, 1), (8, .if_icmp .ne 53, 3), (11, .aload_n 0, 1), (12, .getfield 27, 3), (15, .getfield 114, 3), (18, .bipush 24, 2), (20, .if_icmp .ne 7, 3), (23, .iconst 4, 1), (24, .goto 36, 3), (27, .aload_n 0, 1), (28, .getfield 27, 3), (31, .getfield 114, 3), (34, .bipush 27, 2)] = true := by decide +kernel
theorem dX9_ahead_0 : decode cX9_ahead 0 = .ok (.aload_n 0, 1) := zdec_at bX9_ahead_0 0 rfl
theorem dX9_ahead_1 : decode cX9_ahead 1 = .ok (.getfield 27, 3) := zdec_at bX9_ahead_0 1 rfl
theorem dX9_ahead_4 : decode cX9_ahead 4 = .ok (.getfield 55, 3) := zdec_at bX9_ahead_0 2 rfl
theorem dX9_ahead_7 : decode cX9_ahead 7 = .ok (.iconst 2, 1) := zdec_at bX9_ahead_0 3 rfl
theorem dX9_ahead_8 : decode cX9_ahead 8 = .ok (.if_icmp .ne 53, 3) := zdec_at bX9_ahead_0 4 rfl
theorem dX9_ahead_11 : decode cX9_ahead 11 = .ok (.aload_n 0, 1) := zdec_at bX9_ahead_0 5 rfl
theorem dX9_ahead_12 : decode cX9_ahead 12 = .ok (.getfield 27, 3) := zdec_at bX9_ahead_0 6 rfl
theorem dX9_ahead_15 : decode cX9_ahead 15 = .ok (.getfield 114, 3) := zdec_at bX9_ahead_0 7 rfl
theorem dX9_ahead_18 : decode cX9_ahead 18 = .ok (.bipush 24, 2) := zdec_at bX9_ahead_0 8 rfl
theorem dX9_ahead_20 : decode cX9_ahead 20 = .ok (.if_icmp .ne 7, 3) := zdec_at bX9_ahead_0 9 rfl
theorem dX9_ahead_23 : decode cX9_ahead 23 = .ok (.iconst 4, 1) := zdec_at bX9_ahead_0 10 rfl
theorem dX9_ahead_24 : decode cX9_ahead 24 = .ok (.goto 36, 3) := zdec_at bX9_ahead_0 11 rfl
theorem dX9_ahead_27 : decode cX9_ahead 27 = .ok (.aload_n 0, 1) := zdec_at bX9_ahead_0 12 rfl
theorem dX9_ahead_28 : decode cX9_ahead 28 = .ok (.getfield 27, 3) := zdec_at bX9_ahead_0 13 rfl
theorem dX9_ahead_31 : decode cX9_ahead 31 = .ok (.getfield 114, 3) := zdec_at bX9_ahead_0 14 rfl
theorem dX9_ahead_34 : decode cX9_ahead 34 = .ok (.bipush 27, 2) := zdec_at bX9_ahead_0 15 rfl
theorem bX9_ahead_36 : zdec cX9_ahead 36 [(36, .if_icmp .ne 7, 3), (39, .iconst 5, 1), (40, .goto 20, 3), (43, .aload_n 0, 1), (44, .getfield 27, 3), (47, .getfield 114, 3), (50, .iconst 5, 1), (51, .if_icmp .ne 8, 3), (54, .bipush 6, 2), (56, .goto 4, 3), (59, .iconst (-1), 1), (60, .ireturn, 1), (61, .aload_n 0, 1), (62, .getfield 27, 3), (65, .getfield 55, 3), (68, .iconst 5, 1)] = true := by decide +kernel
theorem dX9_ahead_36 : decode cX9_ahead 36 = .ok (.if_icmp .ne 7, 3) := zdec_at bX9_ahead_36 0 rfl
theorem dX9_ahead_39 : decode cX9_ahead 39 = .ok (.iconst 5, 1) := zdec_at bX9_ahead_36 1 rfl
theorem dX9_ahead_40 : decode cX9_ahead 40 = .ok (.goto 20, 3) := zdec_at bX9_ahead_36 2 rfl
theorem dX9_ahead_43 : decode cX9_ahead 43 = .ok (.aload_n 0, 1) := zdec_at bX9_ahead_36 3 rfl
theorem dX9_ahead_44 : decode cX9_ahead 44 = .ok (.getfield 27, 3) := zdec_at bX9_ahead_36 4 rfl
theorem dX9_ahead_47 : decode cX9_ahead 47 = .ok (.getfield 114, 3) := zdec_at bX9_ahead_36 5 rfl
theorem dX9_ahead_50 : decode cX9_ahead 50 = .ok (.iconst 5, 1) := zdec_at bX9_ahead_36 6 rfl
theorem dX9_ahead_51 : decode cX9_ahead 51 = .ok (.if_icmp .ne 8, 3) := zdec_at bX9_ahead_36 7 rfl
theorem dX9_ahead_54 : decode cX9_ahead 54 = .ok (.bipush 6, 2) := zdec_at bX9_ahead_36 8 rfl
theorem dX9_ahead_56 : decode cX9_ahead 56 = .ok (.goto 4, 3) := zdec_at bX9_ahead_36 9 rfl
theorem dX9_ahead_59 : decode cX9_ahead 59 = .ok (.iconst (-1), 1) := zdec_at bX9_ahead_36 10 rfl
theorem dX9_ahead_60 : decode cX9_ahead 60 = .ok (.ireturn, 1) := zdec_at bX9_ahead_36 11 rfl
theorem dX9_ahead_61 : decode cX9_ahead 61 = .ok (.aload_n 0, 1) := zdec_at bX9_ahead_36 12 rfl
theorem dX9_ahead_62 : decode cX9_ahead 62 = .ok (.getfield 27, 3) := zdec_at bX9_ahead_36 13 rfl
theorem dX9_ahead_65 : decode cX9_ahead 65 = .ok (.getfield 55, 3) := zdec_at bX9_ahead_36 14 rfl
theorem dX9_ahead_68 : decode cX9_ahead 68 = .ok (.iconst 5, 1) := zdec_at bX9_ahead_36 15 rfl
theorem bX9_ahead_69 : zdec cX9_ahead 69 [(69, .if_icmp .eq 5, 3), (72, .iconst (-1), 1), (73, .ireturn, 1), (74, .aload_n 0, 1), (75, .getfield 27, 3), (78, .getfield 114, 3), (81, .bipush 17, 2), (83, .if_icmp .ne 7, 3), (86, .iconst 0, 1), (87, .goto 86, 3), (90, .aload_n 0, 1), (91, .getfield 27, 3), (94, .getfield 114, 3), (97, .bipush 18, 2), (99, .if_icmp .ne 7, 3), (102, .iconst 1, 1)] = true := by decide +kernel
theorem dX9_ahead_69 : decode cX9_ahead 69 = .ok (.if_icmp .eq 5, 3) := zdec_at bX9_ahead_69 0 rfl
theorem dX9_ahead_72 : decode cX9_ahead 72 = .ok (.iconst (-1), 1) := zdec_at bX9_ahead_69 1 rfl
theorem dX9_ahead_73 : decode cX9_ahead 73 = .ok (.ireturn, 1) := zdec_at bX9_ahead_69 2 rfl
theorem dX9_ahead_74 : decode cX9_ahead 74 = .ok (.aload_n 0, 1) := zdec_at bX9_ahead_69 3 rfl
theorem dX9_ahead_75 : decode cX9_ahead 75 = .ok (.getfield 27, 3) := zdec_at bX9_ahead_69 4 rfl
theorem dX9_ahead_78 : decode cX9_ahead 78 = .ok (.getfield 114, 3) := zdec_at bX9_ahead_69 5 rfl
theorem dX9_ahead_81 : decode cX9_ahead 81 = .ok (.bipush 17, 2) := zdec_at bX9_ahead_69 6 rfl
theorem dX9_ahead_83 : decode cX9_ahead 83 = .ok (.if_icmp .ne 7, 3) := zdec_at bX9_ahead_69 7 rfl
theorem dX9_ahead_86 : decode cX9_ahead 86 = .ok (.iconst 0, 1) := zdec_at bX9_ahead_69 8 rfl
theorem dX9_ahead_87 : decode cX9_ahead 87 = .ok (.goto 86, 3) := zdec_at bX9_ahead_69 9 rfl
theorem dX9_ahead_90 : decode cX9_ahead 90 = .ok (.aload_n 0, 1) := zdec_at bX9_ahead_69 10 rfl
theorem dX9_ahead_91 : decode cX9_ahead 91 = .ok (.getfield 27, 3) := zdec_at bX9_ahead_69 11 rfl
theorem dX9_ahead_94 : decode cX9_ahead 94 = .ok (.getfield 114, 3) := zdec_at bX9_ahead_69 12 rfl
theorem dX9_ahead_97 : decode cX9_ahead 97 = .ok (.bipush 18, 2) := zdec_at bX9_ahead_69 13 rfl
theorem dX9_ahead_99 : decode cX9_ahead 99 = .ok (.if_icmp .ne 7, 3) := zdec_at bX9_ahead_69 14 rfl
theorem dX9_ahead_102 : decode cX9_ahead 102 = .ok (.iconst 1, 1) := zdec_at bX9_ahead_69 15 rfl
theorem bX9_ahead_103 : zdec cX9_ahead 103 [(103, .goto 70, 3), (106, .aload_n 0, 1), (107, .getfield 27, 3), (110, .getfield 114, 3), (113, .bipush 31, 2), (115, .if_icmp .ne 7, 3), (118, .iconst 2, 1), (119, .goto 54, 3), (122, .aload_n 0, 1), (123, .getfield 27, 3), (126, .getfield 114, 3), (129, .bipush 30, 2), (131, .if_icmp .ne 7, 3), (134, .iconst 3, 1), (135, .goto 38, 3), (138, .aload_n 0, 1)] = true := by decide +kernel
theorem dX9_ahead_103 : decode cX9_ahead 103 = .ok (.goto 70, 3) := zdec_at bX9_ahead_103 0 rfl
theorem dX9_ahead_106 : decode cX9_ahead 106 = .ok (.aload_n 0, 1) := zdec_at bX9_ahead_103 1 rfl
theorem dX9_ahead_107 : decode cX9_ahead 107 = .ok (.getfield 27, 3) := zdec_at bX9_ahead_103 2 rfl
theorem dX9_ahead_110 : decode cX9_ahead 110 = .ok (.getfield 114, 3) := zdec_at bX9_ahead_103 3 rfl
theorem dX9_ahead_113 : decode cX9_ahead 113 = .ok (.bipush 31, 2) := zdec_at bX9_ahead_103 4 rfl
theorem dX9_ahead_115 : decode cX9_ahead 115 = .ok (.if_icmp .ne 7, 3) := zdec_at bX9_ahead_103 5 rfl
theorem dX9_ahead_118 : decode cX9_ahead 118 = .ok (.iconst 2, 1) := zdec_at bX9_ahead_103 6 rfl
theorem dX9_ahead_119 : decode cX9_ahead 119 = .ok (.goto 54, 3) := zdec_at bX9_ahead_103 7 rfl
theorem dX9_ahead_122 : decode cX9_ahead 122 = .ok (.aload_n 0, 1) := zdec_at bX9_ahead_103 8 rfl
theorem dX9_ahead_123 : decode cX9_ahead 123 = .ok (.getfield 27, 3) := zdec_at bX9_ahead_103 9 rfl
theorem dX9_ahead_126 : decode cX9_ahead 126 = .ok (.getfield 114, 3) := zdec_at bX9_ahead_103 10 rfl
theorem dX9_ahead_129 : decode cX9_ahead 129 = .ok (.bipush 30, 2) := zdec_at bX9_ahead_103 11 rfl
theorem dX9_ahead_131 : decode cX9_ahead 131 = .ok (.if_icmp .ne 7, 3) := zdec_at bX9_ahead_103 12 rfl
theorem dX9_ahead_134 : decode cX9_ahead 134 = .ok (.iconst 3, 1) := zdec_at bX9_ahead_103 13 rfl
theorem dX9_ahead_135 : decode cX9_ahead 135 = .ok (.goto 38, 3) := zdec_at bX9_ahead_103 14 rfl
theorem dX9_ahead_138 : decode cX9_ahead 138 = .ok (.aload_n 0, 1) := zdec_at bX9_ahead_103 15 rfl
theorem bX9_ahead_139 : zdec cX9_ahead 139 [(139, .getfield 27, 3), (142, .getfield 114, 3), (145, .bipush 22, 2), (147, .if_icmp .ne 8, 3), (150, .bipush 7, 2), (152, .goto 21, 3), (155, .aload_n 0, 1), (156, .getfield 27, 3), (159, .getfield 114, 3), (162, .bipush 23, 2), (164, .if_icmp .ne 8, 3), (167, .bipush 8, 2), (169, .goto 4, 3), (172, .iconst (-1), 1), (173, .ireturn, 1)] = true := by decide +kernel
theorem dX9_ahead_139 : decode cX9_ahead 139 = .ok (.getfield 27, 3) := zdec_at bX9_ahead_139 0 rfl
theorem dX9_ahead_142 : decode cX9_ahead 142 = .ok (.getfield 114, 3) := zdec_at bX9_ahead_139 1 rfl
theorem dX9_ahead_145 : decode cX9_ahead 145 = .ok (.bipush 22, 2) := zdec_at bX9_ahead_139 2 rfl
theorem dX9_ahead_147 : decode cX9_ahead 147 = .ok (.if_icmp .ne 8, 3) := zdec_at bX9_ahead_139 3 rfl
theorem dX9_ahead_150 : decode cX9_ahead 150 = .ok (.bipush 7, 2) := zdec_at bX9_ahead_139 4 rfl
theorem dX9_ahead_152 : decode cX9_ahead 152 = .ok (.goto 21, 3) := zdec_at bX9_ahead_139 5 rfl
theorem dX9_ahead_155 : decode cX9_ahead 155 = .ok (.aload_n 0, 1) := zdec_at bX9_ahead_139 6 rfl
theorem dX9_ahead_156 : decode cX9_ahead 156 = .ok (.getfield 27, 3) := zdec_at bX9_ahead_139 7 rfl
theorem dX9_ahead_159 : decode cX9_ahead 159 = .ok (.getfield 114, 3) := zdec_at bX9_ahead_139 8 rfl
theorem dX9_ahead_162 : decode cX9_ahead 162 = .ok (.bipush 23, 2) := zdec_at bX9_ahead_139 9 rfl
theorem dX9_ahead_164 : decode cX9_ahead 164 = .ok (.if_icmp .ne 8, 3) := zdec_at bX9_ahead_139 10 rfl
theorem dX9_ahead_167 : decode cX9_ahead 167 = .ok (.bipush 8, 2) := zdec_at bX9_ahead_139 11 rfl
theorem dX9_ahead_169 : decode cX9_ahead 169 = .ok (.goto 4, 3) := zdec_at bX9_ahead_139 12 rfl
theorem dX9_ahead_172 : decode cX9_ahead 172 = .ok (.iconst (-1), 1) := zdec_at bX9_ahead_139 13 rfl
theorem dX9_ahead_173 : decode cX9_ahead 173 = .ok (.ireturn, 1) := zdec_at bX9_ahead_139 14 rfl
theorem sX9_ahead_0 {E : zE} {d : Nat} {Q : zO → zM → Prop} (M : zM) (a0 : Nat) (k : ∃ b1 : Nat, (gr M a0 1) = some (b1, 9, 0) ∧ (if (gi M b1 3) = (2 : Int32) then (∃ b2 : Nat, (gr M a0 1) = some (b2, 9, 0) ∧ (if (gi M b2 6) = (24 : Int32) then (Q (.inl (some (vi (4 : Int32)))) M) else (∃ b3 : Nat, (gr M a0 1) = some (b3, 9, 0) ∧ (if (gi M b3 6) = (27 : Int32) then (Q (.inl (some (vi (5 : Int32)))) M) else (∃ b4 : Nat, (gr M a0 1) = some (b4, 9, 0) ∧ (if (gi M b4 6) = (5 : Int32) then (Q (.inl (some (vi (6 : Int32)))) M) else (Q (.inl (some (vi (-1 : Int32)))) M))))))) else (∃ b2 : Nat, (gr M a0 1) = some (b2, 9, 0) ∧ (if (gi M b2 3) = (5 : Int32) then (∃ b3 : Nat, (gr M a0 1) = some (b3, 9, 0) ∧ (if (gi M b3 6) = (17 : Int32) then (Q (.inl (some (vi (0 : Int32)))) M) else (∃ b4 : Nat, (gr M a0 1) = some (b4, 9, 0) ∧ (if (gi M b4 6) = (18 : Int32) then (Q (.inl (some (vi (1 : Int32)))) M) else (∃ b5 : Nat, (gr M a0 1) = some (b5, 9, 0) ∧ (if (gi M b5 6) = (31 : Int32) then (Q (.inl (some (vi (2 : Int32)))) M) else (∃ b6 : Nat, (gr M a0 1) = some (b6, 9, 0) ∧ (if (gi M b6 6) = (30 : Int32) then (Q (.inl (some (vi (3 : Int32)))) M) else (∃ b7 : Nat, (gr M a0 1) = some (b7, 9, 0) ∧ (if (gi M b7 6) = (22 : Int32) then (Q (.inl (some (vi (7 : Int32)))) M) else (∃ b8 : Nat, (gr M a0 1) = some (b8, 9, 0) ∧ (if (gi M b8 6) = (23 : Int32) then (Q (.inl (some (vi (8 : Int32)))) M) else (Q (.inl (some (vi (-1 : Int32)))) M))))))))))))) else (Q (.inl (some (vi (-1 : Int32)))) M))))) : Z E YX9_ahead d M [(0, vr (some (a0, 8, 0)))] 0 [] Q := by
  refine z_aload_n dX9_ahead_0 rfl rfl ?_
  refine z_getr (r := (gr M a0 1)) dX9_ahead_1 fsX9_27_8 rfl ?_
  obtain ⟨b1, e1_, k⟩ := k
  refine Z.eqs (lv' := [(0, vr (some (a0, 8, 0)))]) (st' := [vr (some (b1, 9, 0))]) rfl (by rw [e1_] <;> rfl) ?_
  refine z_geti dX9_ahead_4 fsX9_55_9 ?_
  refine z_iconst (v := 2) dX9_ahead_7 rfl ?_
  refine z_icmp_ne (tgt := 61) dX9_ahead_8 rfl (fun h_ => ?_) (fun h_ => ?_)
  · have k := zif h_ k
    refine z_aload_n dX9_ahead_61 rfl rfl ?_
    refine z_getr (r := (gr M a0 1)) dX9_ahead_62 fsX9_27_8 rfl ?_
    obtain ⟨b2, e2_, k⟩ := k
    refine Z.eqs (lv' := [(0, vr (some (a0, 8, 0)))]) (st' := [vr (some (b2, 9, 0))]) rfl (by rw [e2_] <;> rfl) ?_
    refine z_geti dX9_ahead_65 fsX9_55_9 ?_
    refine z_iconst (v := 5) dX9_ahead_68 rfl ?_
    refine z_icmp_eq (tgt := 74) dX9_ahead_69 rfl (fun h_ => ?_) (fun h_ => ?_)
    · have k := zit h_ k
      refine z_aload_n dX9_ahead_74 rfl rfl ?_
      refine z_getr (r := (gr M a0 1)) dX9_ahead_75 fsX9_27_8 rfl ?_
      obtain ⟨b3, e3_, k⟩ := k
      refine Z.eqs (lv' := [(0, vr (some (a0, 8, 0)))]) (st' := [vr (some (b3, 9, 0))]) rfl (by rw [e3_] <;> rfl) ?_
      refine z_geti dX9_ahead_78 fsX9_114_9 ?_
      refine z_bipush (v := 17) dX9_ahead_81 rfl ?_
      refine z_icmp_ne (tgt := 90) dX9_ahead_83 rfl (fun h_ => ?_) (fun h_ => ?_)
      · have k := zif h_ k
        refine z_aload_n dX9_ahead_90 rfl rfl ?_
        refine z_getr (r := (gr M a0 1)) dX9_ahead_91 fsX9_27_8 rfl ?_
        obtain ⟨b4, e4_, k⟩ := k
        refine Z.eqs (lv' := [(0, vr (some (a0, 8, 0)))]) (st' := [vr (some (b4, 9, 0))]) rfl (by rw [e4_] <;> rfl) ?_
        refine z_geti dX9_ahead_94 fsX9_114_9 ?_
        refine z_bipush (v := 18) dX9_ahead_97 rfl ?_
        refine z_icmp_ne (tgt := 106) dX9_ahead_99 rfl (fun h_ => ?_) (fun h_ => ?_)
        · have k := zif h_ k
          refine z_aload_n dX9_ahead_106 rfl rfl ?_
          refine z_getr (r := (gr M a0 1)) dX9_ahead_107 fsX9_27_8 rfl ?_
          obtain ⟨b5, e5_, k⟩ := k
          refine Z.eqs (lv' := [(0, vr (some (a0, 8, 0)))]) (st' := [vr (some (b5, 9, 0))]) rfl (by rw [e5_] <;> rfl) ?_
          refine z_geti dX9_ahead_110 fsX9_114_9 ?_
          refine z_bipush (v := 31) dX9_ahead_113 rfl ?_
          refine z_icmp_ne (tgt := 122) dX9_ahead_115 rfl (fun h_ => ?_) (fun h_ => ?_)
          · have k := zif h_ k
            refine z_aload_n dX9_ahead_122 rfl rfl ?_
            refine z_getr (r := (gr M a0 1)) dX9_ahead_123 fsX9_27_8 rfl ?_
            obtain ⟨b6, e6_, k⟩ := k
            refine Z.eqs (lv' := [(0, vr (some (a0, 8, 0)))]) (st' := [vr (some (b6, 9, 0))]) rfl (by rw [e6_] <;> rfl) ?_
            refine z_geti dX9_ahead_126 fsX9_114_9 ?_
            refine z_bipush (v := 30) dX9_ahead_129 rfl ?_
            refine z_icmp_ne (tgt := 138) dX9_ahead_131 rfl (fun h_ => ?_) (fun h_ => ?_)
            · have k := zif h_ k
              refine z_aload_n dX9_ahead_138 rfl rfl ?_
              refine z_getr (r := (gr M a0 1)) dX9_ahead_139 fsX9_27_8 rfl ?_
              obtain ⟨b7, e7_, k⟩ := k
              refine Z.eqs (lv' := [(0, vr (some (a0, 8, 0)))]) (st' := [vr (some (b7, 9, 0))]) rfl (by rw [e7_] <;> rfl) ?_
              refine z_geti dX9_ahead_142 fsX9_114_9 ?_
              refine z_bipush (v := 22) dX9_ahead_145 rfl ?_
              refine z_icmp_ne (tgt := 155) dX9_ahead_147 rfl (fun h_ => ?_) (fun h_ => ?_)
              · have k := zif h_ k
                refine z_aload_n dX9_ahead_155 rfl rfl ?_
                refine z_getr (r := (gr M a0 1)) dX9_ahead_156 fsX9_27_8 rfl ?_
                obtain ⟨b8, e8_, k⟩ := k
                refine Z.eqs (lv' := [(0, vr (some (a0, 8, 0)))]) (st' := [vr (some (b8, 9, 0))]) rfl (by rw [e8_] <;> rfl) ?_
                refine z_geti dX9_ahead_159 fsX9_114_9 ?_
                refine z_bipush (v := 23) dX9_ahead_162 rfl ?_
                refine z_icmp_ne (tgt := 172) dX9_ahead_164 rfl (fun h_ => ?_) (fun h_ => ?_)
                · have k := zif h_ k
                  refine z_iconst (v := -1) dX9_ahead_172 rfl ?_
                  exact z_iret dX9_ahead_173 rfl rfl k
                · have k := zit h_ k
                  refine z_bipush (v := 8) dX9_ahead_167 rfl ?_
                  refine z_goto (tgt := 173) dX9_ahead_169 rfl ?_
                  exact z_iret dX9_ahead_173 rfl rfl k
              · have k := zit h_ k
                refine z_bipush (v := 7) dX9_ahead_150 rfl ?_
                refine z_goto (tgt := 173) dX9_ahead_152 rfl ?_
                exact z_iret dX9_ahead_173 rfl rfl k
            · have k := zit h_ k
              refine z_iconst (v := 3) dX9_ahead_134 rfl ?_
              refine z_goto (tgt := 173) dX9_ahead_135 rfl ?_
              exact z_iret dX9_ahead_173 rfl rfl k
          · have k := zit h_ k
            refine z_iconst (v := 2) dX9_ahead_118 rfl ?_
            refine z_goto (tgt := 173) dX9_ahead_119 rfl ?_
            exact z_iret dX9_ahead_173 rfl rfl k
        · have k := zit h_ k
          refine z_iconst (v := 1) dX9_ahead_102 rfl ?_
          refine z_goto (tgt := 173) dX9_ahead_103 rfl ?_
          exact z_iret dX9_ahead_173 rfl rfl k
      · have k := zit h_ k
        refine z_iconst (v := 0) dX9_ahead_86 rfl ?_
        refine z_goto (tgt := 173) dX9_ahead_87 rfl ?_
        exact z_iret dX9_ahead_173 rfl rfl k
    · have k := zif h_ k
      refine z_iconst (v := -1) dX9_ahead_72 rfl ?_
      exact z_iret dX9_ahead_73 rfl rfl k
  · have k := zit h_ k
    refine z_aload_n dX9_ahead_11 rfl rfl ?_
    refine z_getr (r := (gr M a0 1)) dX9_ahead_12 fsX9_27_8 rfl ?_
    obtain ⟨b2, e2_, k⟩ := k
    refine Z.eqs (lv' := [(0, vr (some (a0, 8, 0)))]) (st' := [vr (some (b2, 9, 0))]) rfl (by rw [e2_] <;> rfl) ?_
    refine z_geti dX9_ahead_15 fsX9_114_9 ?_
    refine z_bipush (v := 24) dX9_ahead_18 rfl ?_
    refine z_icmp_ne (tgt := 27) dX9_ahead_20 rfl (fun h_ => ?_) (fun h_ => ?_)
    · have k := zif h_ k
      refine z_aload_n dX9_ahead_27 rfl rfl ?_
      refine z_getr (r := (gr M a0 1)) dX9_ahead_28 fsX9_27_8 rfl ?_
      obtain ⟨b3, e3_, k⟩ := k
      refine Z.eqs (lv' := [(0, vr (some (a0, 8, 0)))]) (st' := [vr (some (b3, 9, 0))]) rfl (by rw [e3_] <;> rfl) ?_
      refine z_geti dX9_ahead_31 fsX9_114_9 ?_
      refine z_bipush (v := 27) dX9_ahead_34 rfl ?_
      refine z_icmp_ne (tgt := 43) dX9_ahead_36 rfl (fun h_ => ?_) (fun h_ => ?_)
      · have k := zif h_ k
        refine z_aload_n dX9_ahead_43 rfl rfl ?_
        refine z_getr (r := (gr M a0 1)) dX9_ahead_44 fsX9_27_8 rfl ?_
        obtain ⟨b4, e4_, k⟩ := k
        refine Z.eqs (lv' := [(0, vr (some (a0, 8, 0)))]) (st' := [vr (some (b4, 9, 0))]) rfl (by rw [e4_] <;> rfl) ?_
        refine z_geti dX9_ahead_47 fsX9_114_9 ?_
        refine z_iconst (v := 5) dX9_ahead_50 rfl ?_
        refine z_icmp_ne (tgt := 59) dX9_ahead_51 rfl (fun h_ => ?_) (fun h_ => ?_)
        · have k := zif h_ k
          refine z_iconst (v := -1) dX9_ahead_59 rfl ?_
          exact z_iret dX9_ahead_60 rfl rfl k
        · have k := zit h_ k
          refine z_bipush (v := 6) dX9_ahead_54 rfl ?_
          refine z_goto (tgt := 60) dX9_ahead_56 rfl ?_
          exact z_iret dX9_ahead_60 rfl rfl k
      · have k := zit h_ k
        refine z_iconst (v := 5) dX9_ahead_39 rfl ?_
        refine z_goto (tgt := 60) dX9_ahead_40 rfl ?_
        exact z_iret dX9_ahead_60 rfl rfl k
    · have k := zit h_ k
      refine z_iconst (v := 4) dX9_ahead_23 rfl ?_
      refine z_goto (tgt := 60) dX9_ahead_24 rfl ?_
      exact z_iret dX9_ahead_60 rfl rfl k
/-! ScriptTypes$Parser.counted()LScriptTypes$Node; -/
theorem bX9_counted_0 : zdec cX9_counted 0 [(0, .aload_n 0, 1), (1, .invokevirtual 317, 3), (4, .astore_n 1, 1), (5, .aload_n 0, 1), (6, .getfield 27, 3), (9, .bipush 22, 2), (11, .invokevirtual 111, 3), (14, .ifCond .ne 15, 3), (17, .aload_n 0, 1), (18, .getfield 27, 3), (21, .bipush 23, 2), (23, .invokevirtual 111, 3), (26, .ifCond .eq 13, 3), (29, .aload_n 0, 1), (30, .getfield 27, 3), (33, .invokevirtual 155, 3)] = true := by decide +kernel
theorem dX9_counted_0 : decode cX9_counted 0 = .ok (.aload_n 0, 1) := zdec_at bX9_counted_0 0 rfl
theorem dX9_counted_1 : decode cX9_counted 1 = .ok (.invokevirtual 317, 3) := zdec_at bX9_counted_0 1 rfl
theorem dX9_counted_4 : decode cX9_counted 4 = .ok (.astore_n 1, 1) := zdec_at bX9_counted_0 2 rfl
theorem dX9_counted_5 : decode cX9_counted 5 = .ok (.aload_n 0, 1) := zdec_at bX9_counted_0 3 rfl
theorem dX9_counted_6 : decode cX9_counted 6 = .ok (.getfield 27, 3) := zdec_at bX9_counted_0 4 rfl
theorem dX9_counted_9 : decode cX9_counted 9 = .ok (.bipush 22, 2) := zdec_at bX9_counted_0 5 rfl
theorem dX9_counted_11 : decode cX9_counted 11 = .ok (.invokevirtual 111, 3) := zdec_at bX9_counted_0 6 rfl
theorem dX9_counted_14 : decode cX9_counted 14 = .ok (.ifCond .ne 15, 3) := zdec_at bX9_counted_0 7 rfl
theorem dX9_counted_17 : decode cX9_counted 17 = .ok (.aload_n 0, 1) := zdec_at bX9_counted_0 8 rfl
theorem dX9_counted_18 : decode cX9_counted 18 = .ok (.getfield 27, 3) := zdec_at bX9_counted_0 9 rfl
theorem dX9_counted_21 : decode cX9_counted 21 = .ok (.bipush 23, 2) := zdec_at bX9_counted_0 10 rfl
theorem dX9_counted_23 : decode cX9_counted 23 = .ok (.invokevirtual 111, 3) := zdec_at bX9_counted_0 11 rfl
theorem dX9_counted_26 : decode cX9_counted 26 = .ok (.ifCond .eq 13, 3) := zdec_at bX9_counted_0 12 rfl
theorem dX9_counted_29 : decode cX9_counted 29 = .ok (.aload_n 0, 1) := zdec_at bX9_counted_0 13 rfl
theorem dX9_counted_30 : decode cX9_counted 30 = .ok (.getfield 27, 3) := zdec_at bX9_counted_0 14 rfl
theorem dX9_counted_33 : decode cX9_counted 33 = .ok (.invokevirtual 155, 3) := zdec_at bX9_counted_0 15 rfl
theorem bX9_counted_36 : zdec cX9_counted 36 [(36, .ifCond .eq 5, 3), (39, .aload_n 1, 1), (40, .areturn, 1), (41, .aload_n 1, 1), (42, .invokevirtual 234, 3), (45, .ifCond .ne 19, 3), (48, .aload_n 1, 1), (49, .invokevirtual 274, 3), (52, .ifCond .ne 12, 3), (55, .aload_n 0, 1), (56, .getfield 27, 3), (59, .iconst 3, 1), (60, .invokevirtual 35, 3), (63, .athrow, 1), (64, .new 309, 3), (67, .dup, 1)] = true := by decide +kernel
theorem dX9_counted_36 : decode cX9_counted 36 = .ok (.ifCond .eq 5, 3) := zdec_at bX9_counted_36 0 rfl
theorem dX9_counted_39 : decode cX9_counted 39 = .ok (.aload_n 1, 1) := zdec_at bX9_counted_36 1 rfl
theorem dX9_counted_40 : decode cX9_counted 40 = .ok (.areturn, 1) := zdec_at bX9_counted_36 2 rfl
theorem dX9_counted_41 : decode cX9_counted 41 = .ok (.aload_n 1, 1) := zdec_at bX9_counted_36 3 rfl
theorem dX9_counted_42 : decode cX9_counted 42 = .ok (.invokevirtual 234, 3) := zdec_at bX9_counted_36 4 rfl
theorem dX9_counted_45 : decode cX9_counted 45 = .ok (.ifCond .ne 19, 3) := zdec_at bX9_counted_36 5 rfl
theorem dX9_counted_48 : decode cX9_counted 48 = .ok (.aload_n 1, 1) := zdec_at bX9_counted_36 6 rfl
theorem dX9_counted_49 : decode cX9_counted 49 = .ok (.invokevirtual 274, 3) := zdec_at bX9_counted_36 7 rfl
theorem dX9_counted_52 : decode cX9_counted 52 = .ok (.ifCond .ne 12, 3) := zdec_at bX9_counted_36 8 rfl
theorem dX9_counted_55 : decode cX9_counted 55 = .ok (.aload_n 0, 1) := zdec_at bX9_counted_36 9 rfl
theorem dX9_counted_56 : decode cX9_counted 56 = .ok (.getfield 27, 3) := zdec_at bX9_counted_36 10 rfl
theorem dX9_counted_59 : decode cX9_counted 59 = .ok (.iconst 3, 1) := zdec_at bX9_counted_36 11 rfl
theorem dX9_counted_60 : decode cX9_counted 60 = .ok (.invokevirtual 35, 3) := zdec_at bX9_counted_36 12 rfl
theorem dX9_counted_63 : decode cX9_counted 63 = .ok (.athrow, 1) := zdec_at bX9_counted_36 13 rfl
theorem dX9_counted_64 : decode cX9_counted 64 = .ok (.new 309, 3) := zdec_at bX9_counted_36 14 rfl
theorem dX9_counted_67 : decode cX9_counted 67 = .ok (.dup, 1) := zdec_at bX9_counted_36 15 rfl
theorem bX9_counted_68 : zdec cX9_counted 68 [(68, .aload_n 0, 1), (69, .getfield 27, 3), (72, .getfield 114, 3), (75, .bipush 22, 2), (77, .isub, 1), (78, .iconst 1, 1), (79, .aload_n 1, 1), (80, .invokespecial 311, 3), (83, .astore_n 1, 1), (84, .aload_n 0, 1), (85, .getfield 27, 3), (88, .invokevirtual 52, 3), (91, .aload_n 1, 1), (92, .areturn, 1)] = true := by decide +kernel
theorem dX9_counted_68 : decode cX9_counted 68 = .ok (.aload_n 0, 1) := zdec_at bX9_counted_68 0 rfl
theorem dX9_counted_69 : decode cX9_counted 69 = .ok (.getfield 27, 3) := zdec_at bX9_counted_68 1 rfl
theorem dX9_counted_72 : decode cX9_counted 72 = .ok (.getfield 114, 3) := zdec_at bX9_counted_68 2 rfl
theorem dX9_counted_75 : decode cX9_counted 75 = .ok (.bipush 22, 2) := zdec_at bX9_counted_68 3 rfl
theorem dX9_counted_77 : decode cX9_counted 77 = .ok (.isub, 1) := zdec_at bX9_counted_68 4 rfl
theorem dX9_counted_78 : decode cX9_counted 78 = .ok (.iconst 1, 1) := zdec_at bX9_counted_68 5 rfl
theorem dX9_counted_79 : decode cX9_counted 79 = .ok (.aload_n 1, 1) := zdec_at bX9_counted_68 6 rfl
theorem dX9_counted_80 : decode cX9_counted 80 = .ok (.invokespecial 311, 3) := zdec_at bX9_counted_68 7 rfl
theorem dX9_counted_83 : decode cX9_counted 83 = .ok (.astore_n 1, 1) := zdec_at bX9_counted_68 8 rfl
theorem dX9_counted_84 : decode cX9_counted 84 = .ok (.aload_n 0, 1) := zdec_at bX9_counted_68 9 rfl
theorem dX9_counted_85 : decode cX9_counted 85 = .ok (.getfield 27, 3) := zdec_at bX9_counted_68 10 rfl
theorem dX9_counted_88 : decode cX9_counted 88 = .ok (.invokevirtual 52, 3) := zdec_at bX9_counted_68 11 rfl
theorem dX9_counted_91 : decode cX9_counted 91 = .ok (.aload_n 1, 1) := zdec_at bX9_counted_68 12 rfl
theorem dX9_counted_92 : decode cX9_counted 92 = .ok (.areturn, 1) := zdec_at bX9_counted_68 13 rfl
theorem sX9_counted_0 {E : zE} {d : Nat} {Q : zO → zM → Prop} (M : zM) (a0 : Nat) (k : Z E YX9_left d M (zargs 0 [vr (some (a0, 8, 0))]) 0 [] (zafter E YX9_counted (d + 1) [(0, vr (some (a0, 8, 0)))] 1 3 [] Q)) : Z E YX9_counted (d + 1) M [(0, vr (some (a0, 8, 0)))] 0 [] Q := by
  refine z_aload_n dX9_counted_0 rfl rfl ?_
  exact z_callV (as := []) (st := []) dX9_counted_1 vsX9_317_8 (Nat.le_refl _) (Nat.le_of_ble_eq_true rfl) (Nat.le_of_ble_eq_true rfl) rfl k
theorem sX9_counted_4 {E : zE} {d : Nat} {Q : zO → zM → Prop} (M : zM) (a0 : Nat) (u0 : Option zP) (k : ∃ b1 : Nat, (gr M a0 1) = some (b1, 9, 0) ∧ (Z E YX10_is d M (zargs 0 [vr (some (b1, 9, 0)), vi (22 : Int32)]) 0 [] (zafter E YX9_counted (d + 1) [(0, vr (some (a0, 8, 0))), (1, vr u0)] 11 3 [] Q))) : Z E YX9_counted (d + 1) M [(0, vr (some (a0, 8, 0)))] 4 [vr u0] Q := by
  refine z_ast_n dX9_counted_4 rfl (by decide) (lv' := [(0, vr (some (a0, 8, 0))), (1, vr u0)]) rfl ?_
  refine z_aload_n dX9_counted_5 rfl rfl ?_
  refine z_getr (r := (gr M a0 1)) dX9_counted_6 fsX9_27_8 rfl ?_
  refine z_bipush (v := 22) dX9_counted_9 rfl ?_
  obtain ⟨b1, e1_, k⟩ := k
  refine Z.eqs (lv' := [(0, vr (some (a0, 8, 0))), (1, vr u0)]) (st' := [vi (22 : Int32), vr (some (b1, 9, 0))]) rfl (by rw [e1_] <;> rfl) ?_
  exact z_callV (as := [vi (22 : Int32)]) (st := []) dX9_counted_11 vsX9_111_9 (Nat.le_refl _) (Nat.le_of_ble_eq_true rfl) (Nat.le_of_ble_eq_true rfl) rfl k
theorem sX9_counted_14 {E : zE} {d : Nat} {Q : zO → zM → Prop} (M : zM) (a0 : Nat) (r1 : Option zP) (s0 : Int32) (k : if s0 = 0 then (∃ b1 : Nat, (gr M a0 1) = some (b1, 9, 0) ∧ (Z E YX10_is d M (zargs 0 [vr (some (b1, 9, 0)), vi (23 : Int32)]) 0 [] (zafter E YX9_counted (d + 1) [(0, vr (some (a0, 8, 0))), (1, vr r1)] 23 3 [] Q))) else (∃ b1 : Nat, (gr M a0 1) = some (b1, 9, 0) ∧ (Z E YX10_onLaterLine d M (zargs 0 [vr (some (b1, 9, 0))]) 0 [] (zafter E YX9_counted (d + 1) [(0, vr (some (a0, 8, 0))), (1, vr r1)] 33 3 [] Q)))) : Z E YX9_counted (d + 1) M [(0, vr (some (a0, 8, 0))), (1, vr r1)] 14 [vi s0] Q := by
  refine z_if_ne (tgt := 29) dX9_counted_14 rfl (fun h_ => ?_) (fun h_ => ?_)
  · have k := zif h_ k
    refine z_aload_n dX9_counted_29 rfl rfl ?_
    refine z_getr (r := (gr M a0 1)) dX9_counted_30 fsX9_27_8 rfl ?_
    obtain ⟨b1, e1_, k⟩ := k
    refine Z.eqs (lv' := [(0, vr (some (a0, 8, 0))), (1, vr r1)]) (st' := [vr (some (b1, 9, 0))]) rfl (by rw [e1_] <;> rfl) ?_
    exact z_callV (as := []) (st := []) dX9_counted_33 vsX9_155_9 (Nat.le_refl _) (Nat.le_of_ble_eq_true rfl) (Nat.le_of_ble_eq_true rfl) rfl k
  · have k := zit h_ k
    refine z_aload_n dX9_counted_17 rfl rfl ?_
    refine z_getr (r := (gr M a0 1)) dX9_counted_18 fsX9_27_8 rfl ?_
    refine z_bipush (v := 23) dX9_counted_21 rfl ?_
    obtain ⟨b1, e1_, k⟩ := k
    refine Z.eqs (lv' := [(0, vr (some (a0, 8, 0))), (1, vr r1)]) (st' := [vi (23 : Int32), vr (some (b1, 9, 0))]) rfl (by rw [e1_] <;> rfl) ?_
    exact z_callV (as := [vi (23 : Int32)]) (st := []) dX9_counted_23 vsX9_111_9 (Nat.le_refl _) (Nat.le_of_ble_eq_true rfl) (Nat.le_of_ble_eq_true rfl) rfl k
theorem sX9_counted_26 {E : zE} {d : Nat} {Q : zO → zM → Prop} (M : zM) (a0 : Nat) (r1 : Option zP) (s0 : Int32) (k : if s0 = 0 then (Q (.inl (some (vr r1))) M) else (∃ b1 : Nat, (gr M a0 1) = some (b1, 9, 0) ∧ (Z E YX10_onLaterLine d M (zargs 0 [vr (some (b1, 9, 0))]) 0 [] (zafter E YX9_counted (d + 1) [(0, vr (some (a0, 8, 0))), (1, vr r1)] 33 3 [] Q)))) : Z E YX9_counted (d + 1) M [(0, vr (some (a0, 8, 0))), (1, vr r1)] 26 [vi s0] Q := by
  refine z_if_eq (tgt := 39) dX9_counted_26 rfl (fun h_ => ?_) (fun h_ => ?_)
  · have k := zit h_ k
    refine z_aload_n dX9_counted_39 rfl rfl ?_
    exact z_aret dX9_counted_40 rfl rfl k
  · have k := zif h_ k
    refine z_aload_n dX9_counted_29 rfl rfl ?_
    refine z_getr (r := (gr M a0 1)) dX9_counted_30 fsX9_27_8 rfl ?_
    obtain ⟨b1, e1_, k⟩ := k
    refine Z.eqs (lv' := [(0, vr (some (a0, 8, 0))), (1, vr r1)]) (st' := [vr (some (b1, 9, 0))]) rfl (by rw [e1_] <;> rfl) ?_
    exact z_callV (as := []) (st := []) dX9_counted_33 vsX9_155_9 (Nat.le_refl _) (Nat.le_of_ble_eq_true rfl) (Nat.le_of_ble_eq_true rfl) rfl k
theorem sX9_counted_36 {E : zE} {d : Nat} {Q : zO → zM → Prop} (M : zM) (a0 : Nat) (r1 : Option zP) (s0 : Int32) (k : if s0 = 0 then (∃ b1 t1 : Nat, r1 = some (b1, t1, 0) ∧ (∃ Y_ : zY, vt_isName t1 = some Y_ ∧ Z E Y_ d M (zargs 0 [vr (some (b1, t1, 0))]) 0 [] (zafter E YX9_counted (d + 1) [(0, vr (some (a0, 8, 0))), (1, vr (some (b1, t1, 0)))] 42 3 [] Q))) else (Q (.inl (some (vr r1))) M)) : Z E YX9_counted (d + 1) M [(0, vr (some (a0, 8, 0))), (1, vr r1)] 36 [vi s0] Q := by
  refine z_if_eq (tgt := 41) dX9_counted_36 rfl (fun h_ => ?_) (fun h_ => ?_)
  · have k := zit h_ k
    refine z_aload_n dX9_counted_41 rfl rfl ?_
    obtain ⟨b1, t1, e1_, k⟩ := k
    refine Z.eqs (lv' := [(0, vr (some (a0, 8, 0))), (1, vr (some (b1, t1, 0)))]) (st' := [vr (some (b1, t1, 0))]) (by rw [e1_] <;> rfl) (by rw [e1_] <;> rfl) ?_
    obtain ⟨Y_, y_, k⟩ := k
    exact z_callV (as := []) (st := []) dX9_counted_42 (vtX9_234 y_).1 (Nat.le_refl _) (Nat.le_trans (Nat.le_of_ble_eq_true rfl) (vtX9_234 y_).2.1) (Nat.le_trans (Nat.add_le_add_left (vtX9_234 y_).2.2 _) (Nat.le_of_ble_eq_true rfl)) rfl k
  · have k := zif h_ k
    refine z_aload_n dX9_counted_39 rfl rfl ?_
    exact z_aret dX9_counted_40 rfl rfl k
theorem sX9_counted_45 {E : zE} {d : Nat} {Q : zO → zM → Prop} (M : zM) (a0 : Nat) (a1 : Nat) (ta1 : Nat) (s0 : Int32) (k : if s0 = 0 then (∃ Y_ : zY, vt_isMember ta1 = some Y_ ∧ Z E Y_ d M (zargs 0 [vr (some (a1, ta1, 0))]) 0 [] (zafter E YX9_counted (d + 1) [(0, vr (some (a0, 8, 0))), (1, vr (some (a1, ta1, 0)))] 49 3 [] Q)) else (Z E YX9_counted (d + 1) M [(0, vr (some (a0, 8, 0))), (1, vr (some (a1, ta1, 0)))] 64 [] Q)) : Z E YX9_counted (d + 1) M [(0, vr (some (a0, 8, 0))), (1, vr (some (a1, ta1, 0)))] 45 [vi s0] Q := by
  refine z_if_ne (tgt := 64) dX9_counted_45 rfl (fun h_ => ?_) (fun h_ => ?_)
  · have k := zif h_ k
    exact k
  · have k := zit h_ k
    refine z_aload_n dX9_counted_48 rfl rfl ?_
    obtain ⟨Y_, y_, k⟩ := k
    exact z_callV (as := []) (st := []) dX9_counted_49 (vtX9_274 y_).1 (Nat.le_refl _) (Nat.le_trans (Nat.le_of_ble_eq_true rfl) (vtX9_274 y_).2.1) (Nat.le_trans (Nat.add_le_add_left (vtX9_274 y_).2.2 _) (Nat.le_of_ble_eq_true rfl)) rfl k
theorem sX9_counted_52 {E : zE} {d : Nat} {Q : zO → zM → Prop} (M : zM) (a0 : Nat) (a1 : Nat) (ta1 : Nat) (s0 : Int32) (k : if s0 = 0 then (∃ b1 : Nat, (gr M a0 1) = some (b1, 9, 0) ∧ (Z E YX10_fault d M (zargs 0 [vr (some (b1, 9, 0)), vi (3 : Int32)]) 0 [] (zafter E YX9_counted (d + 1) [] 60 3 [] Q))) else (Z E YX9_counted (d + 1) M [(0, vr (some (a0, 8, 0))), (1, vr (some (a1, ta1, 0)))] 64 [] Q)) : Z E YX9_counted (d + 1) M [(0, vr (some (a0, 8, 0))), (1, vr (some (a1, ta1, 0)))] 52 [vi s0] Q := by
  refine z_if_ne (tgt := 64) dX9_counted_52 rfl (fun h_ => ?_) (fun h_ => ?_)
  · have k := zif h_ k
    exact k
  · have k := zit h_ k
    refine z_aload_n dX9_counted_55 rfl rfl ?_
    refine z_getr (r := (gr M a0 1)) dX9_counted_56 fsX9_27_8 rfl ?_
    refine z_iconst (v := 3) dX9_counted_59 rfl ?_
    obtain ⟨b1, e1_, k⟩ := k
    refine Z.eqs (lv' := [(0, vr (some (a0, 8, 0))), (1, vr (some (a1, ta1, 0)))]) (st' := [vi (3 : Int32), vr (some (b1, 9, 0))]) rfl (by rw [e1_] <;> rfl) ?_
    refine Z.pick [] rfl ?_
    exact z_callV (as := [vi (3 : Int32)]) (st := []) dX9_counted_60 vsX9_35_9 (Nat.le_refl _) (Nat.le_of_ble_eq_true rfl) (Nat.le_of_ble_eq_true rfl) rfl k
theorem sX9_counted_63 {E : zE} {d : Nat} {Q : zO → zM → Prop} (M : zM) (u0 : Option zP) (k : ∃ b1 : Nat, u0 = some (b1, 12, 0) ∧ (Q (.inr (b1, 12, 0)) M)) : Z E YX9_counted (d + 1) M [] 63 [vr u0] Q := by
  obtain ⟨b1, e1_, k⟩ := k
  refine Z.eqs (lv' := []) (st' := [vr (some (b1, 12, 0))]) rfl (by rw [e1_] <;> rfl) ?_
  exact z_athrow dX9_counted_63 (ZT.out (by decide) k)
theorem sX9_counted_64 {E : zE} {d : Nat} {Q : zO → zM → Prop} (M : zM) (a0 : Nat) (a1 : Nat) (ta1 : Nat) (k : Z E YX9_counted (d + 1) (zn M 3) [(0, vr (some (a0, 8, 0))), (1, vr (some (a1, ta1, 0)))] 67 [vr (some ((zsz M), 32, 0))] Q) : Z E YX9_counted (d + 1) M [(0, vr (some (a0, 8, 0))), (1, vr (some (a1, ta1, 0)))] 64 [] Q := by
  refine z_new dX9_counted_64 csX9_309 zff_32 ?_
  exact k
theorem sX9_counted_67 {E : zE} {d : Nat} {Q : zO → zM → Prop} (M : zM) (a0 : Nat) (a1 : Nat) (ta1 : Nat) (p0 : Nat) (k : ∃ b1 : Nat, (gr M a0 1) = some (b1, 9, 0) ∧ (Z E YX27_init d M (zargs 0 [vr (some (p0, 32, 0)), vi ((gi M b1 6) - (22 : Int32)), vi (1 : Int32), vr (some (a1, ta1, 0))]) 0 [] (zafter E YX9_counted (d + 1) [(0, vr (some (a0, 8, 0)))] 80 3 [vr (some (p0, 32, 0))] Q))) : Z E YX9_counted (d + 1) M [(0, vr (some (a0, 8, 0))), (1, vr (some (a1, ta1, 0)))] 67 [vr (some (p0, 32, 0))] Q := by
  refine z_dup dX9_counted_67 rfl ?_
  refine z_aload_n dX9_counted_68 rfl rfl ?_
  refine z_getr (r := (gr M a0 1)) dX9_counted_69 fsX9_27_8 rfl ?_
  obtain ⟨b1, e1_, k⟩ := k
  refine Z.eqs (lv' := [(0, vr (some (a0, 8, 0))), (1, vr (some (a1, ta1, 0)))]) (st' := [vr (some (b1, 9, 0)), vr (some (p0, 32, 0)), vr (some (p0, 32, 0))]) rfl (by rw [e1_] <;> rfl) ?_
  refine z_geti dX9_counted_72 fsX9_114_9 ?_
  refine z_bipush (v := 22) dX9_counted_75 rfl ?_
  refine z_isub dX9_counted_77 ?_
  refine z_iconst (v := 1) dX9_counted_78 rfl ?_
  refine z_aload_n dX9_counted_79 rfl rfl ?_
  refine Z.pick [0] rfl ?_
  exact z_callI (as := [vi ((gi M b1 6) - (22 : Int32)), vi (1 : Int32), vr (some (a1, ta1, 0))]) (st := [vr (some (p0, 32, 0))]) dX9_counted_80 isX9_311 (Nat.le_refl _) (Nat.le_of_ble_eq_true rfl) (Nat.le_of_ble_eq_true rfl) rfl k
theorem sX9_counted_83 {E : zE} {d : Nat} {Q : zO → zM → Prop} (M : zM) (a0 : Nat) (p0 : Nat) (k : ∃ b1 : Nat, (gr M a0 1) = some (b1, 9, 0) ∧ (Z E YX10_next d M (zargs 0 [vr (some (b1, 9, 0))]) 0 [] (zafter E YX9_counted (d + 1) [(1, vr (some (p0, 32, 0)))] 88 3 [] Q))) : Z E YX9_counted (d + 1) M [(0, vr (some (a0, 8, 0)))] 83 [vr (some (p0, 32, 0))] Q := by
  refine z_ast_n dX9_counted_83 rfl (by decide) (lv' := [(0, vr (some (a0, 8, 0))), (1, vr (some (p0, 32, 0)))]) rfl ?_
  refine z_aload_n dX9_counted_84 rfl rfl ?_
  refine z_getr (r := (gr M a0 1)) dX9_counted_85 fsX9_27_8 rfl ?_
  obtain ⟨b1, e1_, k⟩ := k
  refine Z.eqs (lv' := [(0, vr (some (a0, 8, 0))), (1, vr (some (p0, 32, 0)))]) (st' := [vr (some (b1, 9, 0))]) rfl (by rw [e1_] <;> rfl) ?_
  refine Z.pick [1] rfl ?_
  exact z_callV (as := []) (st := []) dX9_counted_88 vsX9_52_9 (Nat.le_refl _) (Nat.le_of_ble_eq_true rfl) (Nat.le_of_ble_eq_true rfl) rfl k
theorem sX9_counted_91 {E : zE} {d : Nat} {Q : zO → zM → Prop} (M : zM) (a1 : Nat) (k : Q (.inl (some (vr (some (a1, 32, 0))))) M) : Z E YX9_counted (d + 1) M [(1, vr (some (a1, 32, 0)))] 91 [] Q := by
  refine z_aload_n dX9_counted_91 rfl rfl ?_
  exact z_aret dX9_counted_92 rfl rfl k
/-! ScriptTypes$Parser.left()LScriptTypes$Node; -/
theorem bX9_left_0 : zdec cX9_left 0 [(0, .aload_n 0, 1), (1, .getfield 27, 3), (4, .bipush 16, 2), (6, .invokevirtual 61, 3), (9, .ifCond .eq 10, 3), (12, .aload_n 0, 1), (13, .invokevirtual 320, 3), (16, .goto 7, 3), (19, .aload_n 0, 1), (20, .invokevirtual 323, 3), (23, .astore_n 1, 1), (24, .aconst_null, 1), (25, .astore_n 2, 1), (26, .aload_n 0, 1), (27, .getfield 27, 3), (30, .bipush 6, 2)] = true := by decide +kernel
theorem dX9_left_0 : decode cX9_left 0 = .ok (.aload_n 0, 1) := zdec_at bX9_left_0 0 rfl
theorem dX9_left_1 : decode cX9_left 1 = .ok (.getfield 27, 3) := zdec_at bX9_left_0 1 rfl
theorem dX9_left_4 : decode cX9_left 4 = .ok (.bipush 16, 2) := zdec_at bX9_left_0 2 rfl
theorem dX9_left_6 : decode cX9_left 6 = .ok (.invokevirtual 61, 3) := zdec_at bX9_left_0 3 rfl
theorem dX9_left_9 : decode cX9_left 9 = .ok (.ifCond .eq 10, 3) := zdec_at bX9_left_0 4 rfl
theorem dX9_left_12 : decode cX9_left 12 = .ok (.aload_n 0, 1) := zdec_at bX9_left_0 5 rfl
theorem dX9_left_13 : decode cX9_left 13 = .ok (.invokevirtual 320, 3) := zdec_at bX9_left_0 6 rfl
theorem dX9_left_16 : decode cX9_left 16 = .ok (.goto 7, 3) := zdec_at bX9_left_0 7 rfl
theorem dX9_left_19 : decode cX9_left 19 = .ok (.aload_n 0, 1) := zdec_at bX9_left_0 8 rfl
theorem dX9_left_20 : decode cX9_left 20 = .ok (.invokevirtual 323, 3) := zdec_at bX9_left_0 9 rfl
theorem dX9_left_23 : decode cX9_left 23 = .ok (.astore_n 1, 1) := zdec_at bX9_left_0 10 rfl
theorem dX9_left_24 : decode cX9_left 24 = .ok (.aconst_null, 1) := zdec_at bX9_left_0 11 rfl
theorem dX9_left_25 : decode cX9_left 25 = .ok (.astore_n 2, 1) := zdec_at bX9_left_0 12 rfl
theorem dX9_left_26 : decode cX9_left 26 = .ok (.aload_n 0, 1) := zdec_at bX9_left_0 13 rfl
theorem dX9_left_27 : decode cX9_left 27 = .ok (.getfield 27, 3) := zdec_at bX9_left_0 14 rfl
theorem dX9_left_30 : decode cX9_left 30 = .ok (.bipush 6, 2) := zdec_at bX9_left_0 15 rfl
theorem bX9_left_32 : zdec cX9_left 32 [(32, .invokevirtual 111, 3), (35, .ifCond .ne 25, 3), (38, .aload_n 0, 1), (39, .getfield 27, 3), (42, .iconst 4, 1), (43, .invokevirtual 111, 3), (46, .ifCond .ne 14, 3), (49, .aload_n 0, 1), (50, .getfield 27, 3), (53, .iconst 2, 1), (54, .invokevirtual 111, 3), (57, .ifCond .eq 58, 3), (60, .aload_n 2, 1), (61, .ifnonnull 12, 3), (64, .new 326, 3), (67, .dup, 1)] = true := by decide +kernel
theorem dX9_left_32 : decode cX9_left 32 = .ok (.invokevirtual 111, 3) := zdec_at bX9_left_32 0 rfl
theorem dX9_left_35 : decode cX9_left 35 = .ok (.ifCond .ne 25, 3) := zdec_at bX9_left_32 1 rfl
theorem dX9_left_38 : decode cX9_left 38 = .ok (.aload_n 0, 1) := zdec_at bX9_left_32 2 rfl
theorem dX9_left_39 : decode cX9_left 39 = .ok (.getfield 27, 3) := zdec_at bX9_left_32 3 rfl
theorem dX9_left_42 : decode cX9_left 42 = .ok (.iconst 4, 1) := zdec_at bX9_left_32 4 rfl
theorem dX9_left_43 : decode cX9_left 43 = .ok (.invokevirtual 111, 3) := zdec_at bX9_left_32 5 rfl
theorem dX9_left_46 : decode cX9_left 46 = .ok (.ifCond .ne 14, 3) := zdec_at bX9_left_32 6 rfl
theorem dX9_left_49 : decode cX9_left 49 = .ok (.aload_n 0, 1) := zdec_at bX9_left_32 7 rfl
theorem dX9_left_50 : decode cX9_left 50 = .ok (.getfield 27, 3) := zdec_at bX9_left_32 8 rfl
theorem dX9_left_53 : decode cX9_left 53 = .ok (.iconst 2, 1) := zdec_at bX9_left_32 9 rfl
theorem dX9_left_54 : decode cX9_left 54 = .ok (.invokevirtual 111, 3) := zdec_at bX9_left_32 10 rfl
theorem dX9_left_57 : decode cX9_left 57 = .ok (.ifCond .eq 58, 3) := zdec_at bX9_left_32 11 rfl
theorem dX9_left_60 : decode cX9_left 60 = .ok (.aload_n 2, 1) := zdec_at bX9_left_32 12 rfl
theorem dX9_left_61 : decode cX9_left 61 = .ok (.ifnonnull 12, 3) := zdec_at bX9_left_32 13 rfl
theorem dX9_left_64 : decode cX9_left 64 = .ok (.new 326, 3) := zdec_at bX9_left_32 14 rfl
theorem dX9_left_67 : decode cX9_left 67 = .ok (.dup, 1) := zdec_at bX9_left_32 15 rfl
theorem bX9_left_68 : zdec cX9_left 68 [(68, .aload_n 1, 1), (69, .invokespecial 328, 3), (72, .astore_n 2, 1), (73, .aload_n 2, 1), (74, .getfield 329, 3), (77, .aload_n 0, 1), (78, .getfield 27, 3), (81, .iconst 2, 1), (82, .invokevirtual 111, 3), (85, .ifCond .eq 19, 3), (88, .new 332, 3), (91, .dup, 1), (92, .iconst (-1), 1), (93, .aconst_null, 1), (94, .aload_n 0, 1), (95, .invokevirtual 334, 3)] = true := by decide +kernel
theorem dX9_left_68 : decode cX9_left 68 = .ok (.aload_n 1, 1) := zdec_at bX9_left_68 0 rfl
theorem dX9_left_69 : decode cX9_left 69 = .ok (.invokespecial 328, 3) := zdec_at bX9_left_68 1 rfl
theorem dX9_left_72 : decode cX9_left 72 = .ok (.astore_n 2, 1) := zdec_at bX9_left_68 2 rfl
theorem dX9_left_73 : decode cX9_left 73 = .ok (.aload_n 2, 1) := zdec_at bX9_left_68 3 rfl
theorem dX9_left_74 : decode cX9_left 74 = .ok (.getfield 329, 3) := zdec_at bX9_left_68 4 rfl
theorem dX9_left_77 : decode cX9_left 77 = .ok (.aload_n 0, 1) := zdec_at bX9_left_68 5 rfl
theorem dX9_left_78 : decode cX9_left 78 = .ok (.getfield 27, 3) := zdec_at bX9_left_68 6 rfl
theorem dX9_left_81 : decode cX9_left 81 = .ok (.iconst 2, 1) := zdec_at bX9_left_68 7 rfl
theorem dX9_left_82 : decode cX9_left 82 = .ok (.invokevirtual 111, 3) := zdec_at bX9_left_68 8 rfl
theorem dX9_left_85 : decode cX9_left 85 = .ok (.ifCond .eq 19, 3) := zdec_at bX9_left_68 9 rfl
theorem dX9_left_88 : decode cX9_left 88 = .ok (.new 332, 3) := zdec_at bX9_left_68 10 rfl
theorem dX9_left_91 : decode cX9_left 91 = .ok (.dup, 1) := zdec_at bX9_left_68 11 rfl
theorem dX9_left_92 : decode cX9_left 92 = .ok (.iconst (-1), 1) := zdec_at bX9_left_68 12 rfl
theorem dX9_left_93 : decode cX9_left 93 = .ok (.aconst_null, 1) := zdec_at bX9_left_68 13 rfl
theorem dX9_left_94 : decode cX9_left 94 = .ok (.aload_n 0, 1) := zdec_at bX9_left_68 14 rfl
theorem dX9_left_95 : decode cX9_left 95 = .ok (.invokevirtual 334, 3) := zdec_at bX9_left_68 15 rfl
theorem bX9_left_98 : zdec cX9_left 98 [(98, .invokespecial 338, 3), (101, .goto 7, 3), (104, .aload_n 0, 1), (105, .invokevirtual 341, 3), (108, .invokevirtual 48, 3), (111, .pop, 1), (112, .goto (-86), 3), (115, .aload_n 2, 1), (116, .ifnonnull 7, 3), (119, .aload_n 1, 1), (120, .goto 4, 3), (123, .aload_n 2, 1), (124, .areturn, 1)] = true := by decide +kernel
theorem dX9_left_98 : decode cX9_left 98 = .ok (.invokespecial 338, 3) := zdec_at bX9_left_98 0 rfl
theorem dX9_left_101 : decode cX9_left 101 = .ok (.goto 7, 3) := zdec_at bX9_left_98 1 rfl
theorem dX9_left_104 : decode cX9_left 104 = .ok (.aload_n 0, 1) := zdec_at bX9_left_98 2 rfl
theorem dX9_left_105 : decode cX9_left 105 = .ok (.invokevirtual 341, 3) := zdec_at bX9_left_98 3 rfl
theorem dX9_left_108 : decode cX9_left 108 = .ok (.invokevirtual 48, 3) := zdec_at bX9_left_98 4 rfl
theorem dX9_left_111 : decode cX9_left 111 = .ok (.pop, 1) := zdec_at bX9_left_98 5 rfl
theorem dX9_left_112 : decode cX9_left 112 = .ok (.goto (-86), 3) := zdec_at bX9_left_98 6 rfl
theorem dX9_left_115 : decode cX9_left 115 = .ok (.aload_n 2, 1) := zdec_at bX9_left_98 7 rfl
theorem dX9_left_116 : decode cX9_left 116 = .ok (.ifnonnull 7, 3) := zdec_at bX9_left_98 8 rfl
theorem dX9_left_119 : decode cX9_left 119 = .ok (.aload_n 1, 1) := zdec_at bX9_left_98 9 rfl
theorem dX9_left_120 : decode cX9_left 120 = .ok (.goto 4, 3) := zdec_at bX9_left_98 10 rfl
theorem dX9_left_123 : decode cX9_left 123 = .ok (.aload_n 2, 1) := zdec_at bX9_left_98 11 rfl
theorem dX9_left_124 : decode cX9_left 124 = .ok (.areturn, 1) := zdec_at bX9_left_98 12 rfl
theorem sX9_left_0 {E : zE} {d : Nat} {Q : zO → zM → Prop} (M : zM) (a0 : Nat) (k : ∃ b1 : Nat, (gr M a0 1) = some (b1, 9, 0) ∧ (Z E YX10_isWord d M (zargs 0 [vr (some (b1, 9, 0)), vi (16 : Int32)]) 0 [] (zafter E YX9_left (d + 1) [(0, vr (some (a0, 8, 0)))] 6 3 [] Q))) : Z E YX9_left (d + 1) M [(0, vr (some (a0, 8, 0)))] 0 [] Q := by
  refine z_aload_n dX9_left_0 rfl rfl ?_
  refine z_getr (r := (gr M a0 1)) dX9_left_1 fsX9_27_8 rfl ?_
  refine z_bipush (v := 16) dX9_left_4 rfl ?_
  obtain ⟨b1, e1_, k⟩ := k
  refine Z.eqs (lv' := [(0, vr (some (a0, 8, 0)))]) (st' := [vi (16 : Int32), vr (some (b1, 9, 0))]) rfl (by rw [e1_] <;> rfl) ?_
  exact z_callV (as := [vi (16 : Int32)]) (st := []) dX9_left_6 vsX9_61_9 (Nat.le_refl _) (Nat.le_of_ble_eq_true rfl) (Nat.le_of_ble_eq_true rfl) rfl k
theorem sX9_left_9 {E : zE} {d : Nat} {Q : zO → zM → Prop} (M : zM) (a0 : Nat) (s0 : Int32) (k : if s0 = 0 then (Z E YX9_primary d M (zargs 0 [vr (some (a0, 8, 0))]) 0 [] (zafter E YX9_left (d + 1) [(0, vr (some (a0, 8, 0)))] 20 3 [] Q)) else (Z E YX9_made d M (zargs 0 [vr (some (a0, 8, 0))]) 0 [] (zafter E YX9_left (d + 1) [(0, vr (some (a0, 8, 0)))] 13 3 [] Q))) : Z E YX9_left (d + 1) M [(0, vr (some (a0, 8, 0)))] 9 [vi s0] Q := by
  refine z_if_eq (tgt := 19) dX9_left_9 rfl (fun h_ => ?_) (fun h_ => ?_)
  · have k := zit h_ k
    refine z_aload_n dX9_left_19 rfl rfl ?_
    exact z_callV (as := []) (st := []) dX9_left_20 vsX9_323_8 (Nat.le_refl _) (Nat.le_of_ble_eq_true rfl) (Nat.le_of_ble_eq_true rfl) rfl k
  · have k := zif h_ k
    refine z_aload_n dX9_left_12 rfl rfl ?_
    exact z_callV (as := []) (st := []) dX9_left_13 vsX9_320_8 (Nat.le_refl _) (Nat.le_of_ble_eq_true rfl) (Nat.le_of_ble_eq_true rfl) rfl k
theorem sX9_left_16 {E : zE} {d : Nat} {Q : zO → zM → Prop} (M : zM) (a0 : Nat) (u0 : Option zP) (k : Z E YX9_left (d + 1) M [(0, vr (some (a0, 8, 0)))] 23 [vr u0] Q) : Z E YX9_left (d + 1) M [(0, vr (some (a0, 8, 0)))] 16 [vr u0] Q := by
  refine z_goto (tgt := 23) dX9_left_16 rfl ?_
  exact k
theorem sX9_left_23 {E : zE} {d : Nat} {Q : zO → zM → Prop} (M : zM) (a0 : Nat) (u0 : Option zP) (k : Z E YX9_left (d + 1) M [(0, vr (some (a0, 8, 0))), (1, vr u0), (2, vr none)] 26 [] Q) : Z E YX9_left (d + 1) M [(0, vr (some (a0, 8, 0)))] 23 [vr u0] Q := by
  refine z_ast_n dX9_left_23 rfl (by decide) (lv' := [(0, vr (some (a0, 8, 0))), (1, vr u0)]) rfl ?_
  refine z_null dX9_left_24 ?_
  refine z_ast_n dX9_left_25 rfl (by decide) (lv' := [(0, vr (some (a0, 8, 0))), (1, vr u0), (2, vr none)]) rfl ?_
  exact k
theorem sX9_left_26 {E : zE} {d : Nat} {Q : zO → zM → Prop} (M : zM) (a0 : Nat) (r1 : Option zP) (r2 : Option zP) (k : ∃ b1 : Nat, (gr M a0 1) = some (b1, 9, 0) ∧ (Z E YX10_is d M (zargs 0 [vr (some (b1, 9, 0)), vi (6 : Int32)]) 0 [] (zafter E YX9_left (d + 1) [(0, vr (some (a0, 8, 0))), (1, vr r1), (2, vr r2)] 32 3 [] Q))) : Z E YX9_left (d + 1) M [(0, vr (some (a0, 8, 0))), (1, vr r1), (2, vr r2)] 26 [] Q := by
  refine z_aload_n dX9_left_26 rfl rfl ?_
  refine z_getr (r := (gr M a0 1)) dX9_left_27 fsX9_27_8 rfl ?_
  refine z_bipush (v := 6) dX9_left_30 rfl ?_
  obtain ⟨b1, e1_, k⟩ := k
  refine Z.eqs (lv' := [(0, vr (some (a0, 8, 0))), (1, vr r1), (2, vr r2)]) (st' := [vi (6 : Int32), vr (some (b1, 9, 0))]) rfl (by rw [e1_] <;> rfl) ?_
  exact z_callV (as := [vi (6 : Int32)]) (st := []) dX9_left_32 vsX9_111_9 (Nat.le_refl _) (Nat.le_of_ble_eq_true rfl) (Nat.le_of_ble_eq_true rfl) rfl k
theorem sX9_left_35 {E : zE} {d : Nat} {Q : zO → zM → Prop} (M : zM) (a0 : Nat) (r1 : Option zP) (r2 : Option zP) (s0 : Int32) (k : if s0 = 0 then (∃ b1 : Nat, (gr M a0 1) = some (b1, 9, 0) ∧ (Z E YX10_is d M (zargs 0 [vr (some (b1, 9, 0)), vi (4 : Int32)]) 0 [] (zafter E YX9_left (d + 1) [(0, vr (some (a0, 8, 0))), (1, vr r1), (2, vr r2)] 43 3 [] Q))) else (Z E YX9_left (d + 1) M [(0, vr (some (a0, 8, 0))), (1, vr r1), (2, vr r2)] 60 [] Q)) : Z E YX9_left (d + 1) M [(0, vr (some (a0, 8, 0))), (1, vr r1), (2, vr r2)] 35 [vi s0] Q := by
  refine z_if_ne (tgt := 60) dX9_left_35 rfl (fun h_ => ?_) (fun h_ => ?_)
  · have k := zif h_ k
    exact k
  · have k := zit h_ k
    refine z_aload_n dX9_left_38 rfl rfl ?_
    refine z_getr (r := (gr M a0 1)) dX9_left_39 fsX9_27_8 rfl ?_
    refine z_iconst (v := 4) dX9_left_42 rfl ?_
    obtain ⟨b1, e1_, k⟩ := k
    refine Z.eqs (lv' := [(0, vr (some (a0, 8, 0))), (1, vr r1), (2, vr r2)]) (st' := [vi (4 : Int32), vr (some (b1, 9, 0))]) rfl (by rw [e1_] <;> rfl) ?_
    exact z_callV (as := [vi (4 : Int32)]) (st := []) dX9_left_43 vsX9_111_9 (Nat.le_refl _) (Nat.le_of_ble_eq_true rfl) (Nat.le_of_ble_eq_true rfl) rfl k
theorem sX9_left_46 {E : zE} {d : Nat} {Q : zO → zM → Prop} (M : zM) (a0 : Nat) (r1 : Option zP) (r2 : Option zP) (s0 : Int32) (k : if s0 = 0 then (∃ b1 : Nat, (gr M a0 1) = some (b1, 9, 0) ∧ (Z E YX10_is d M (zargs 0 [vr (some (b1, 9, 0)), vi (2 : Int32)]) 0 [] (zafter E YX9_left (d + 1) [(0, vr (some (a0, 8, 0))), (1, vr r1), (2, vr r2)] 54 3 [] Q))) else (Z E YX9_left (d + 1) M [(0, vr (some (a0, 8, 0))), (1, vr r1), (2, vr r2)] 60 [] Q)) : Z E YX9_left (d + 1) M [(0, vr (some (a0, 8, 0))), (1, vr r1), (2, vr r2)] 46 [vi s0] Q := by
  refine z_if_ne (tgt := 60) dX9_left_46 rfl (fun h_ => ?_) (fun h_ => ?_)
  · have k := zif h_ k
    exact k
  · have k := zit h_ k
    refine z_aload_n dX9_left_49 rfl rfl ?_
    refine z_getr (r := (gr M a0 1)) dX9_left_50 fsX9_27_8 rfl ?_
    refine z_iconst (v := 2) dX9_left_53 rfl ?_
    obtain ⟨b1, e1_, k⟩ := k
    refine Z.eqs (lv' := [(0, vr (some (a0, 8, 0))), (1, vr r1), (2, vr r2)]) (st' := [vi (2 : Int32), vr (some (b1, 9, 0))]) rfl (by rw [e1_] <;> rfl) ?_
    exact z_callV (as := [vi (2 : Int32)]) (st := []) dX9_left_54 vsX9_111_9 (Nat.le_refl _) (Nat.le_of_ble_eq_true rfl) (Nat.le_of_ble_eq_true rfl) rfl k
theorem sX9_left_57 {E : zE} {d : Nat} {Q : zO → zM → Prop} (M : zM) (a0 : Nat) (r1 : Option zP) (r2 : Option zP) (s0 : Int32) (k : if s0 = 0 then (if r2 = none then (Q (.inl (some (vr r1))) M) else (Q (.inl (some (vr r2))) M)) else (Z E YX9_left (d + 1) M [(0, vr (some (a0, 8, 0))), (1, vr r1), (2, vr r2)] 60 [] Q)) : Z E YX9_left (d + 1) M [(0, vr (some (a0, 8, 0))), (1, vr r1), (2, vr r2)] 57 [vi s0] Q := by
  refine z_if_eq (tgt := 115) dX9_left_57 rfl (fun h_ => ?_) (fun h_ => ?_)
  · have k := zit h_ k
    refine z_aload_n dX9_left_115 rfl rfl ?_
    refine z_ifnonnull (tgt := 123) dX9_left_116 rfl (fun h_ => ?_) (fun h_ => ?_)
    · have k := zif h_ k
      refine z_aload_n dX9_left_123 rfl rfl ?_
      exact z_aret dX9_left_124 rfl rfl k
    · have k := zit h_ k
      refine z_aload_n dX9_left_119 rfl rfl ?_
      refine z_goto (tgt := 124) dX9_left_120 rfl ?_
      exact z_aret dX9_left_124 rfl rfl k
  · have k := zif h_ k
    exact k
theorem sX9_left_60 {E : zE} {d : Nat} {Q : zO → zM → Prop} (M : zM) (a0 : Nat) (r1 : Option zP) (r2 : Option zP) (k : if r2 = none then (Z E YX9_left (d + 1) (zn M 2) [(0, vr (some (a0, 8, 0))), (1, vr r1)] 67 [vr (some ((zsz M), 30, 0))] Q) else (∃ b1 : Nat, r2 = some (b1, 30, 0) ∧ (∃ b2 : Nat, (gr M a0 1) = some (b2, 9, 0) ∧ (Z E YX10_is d M (zargs 0 [vr (some (b2, 9, 0)), vi (2 : Int32)]) 0 [] (zafter E YX9_left (d + 1) [(0, vr (some (a0, 8, 0))), (1, vr r1), (2, vr (some (b1, 30, 0)))] 82 3 [vr (gr M b1 1)] Q))))) : Z E YX9_left (d + 1) M [(0, vr (some (a0, 8, 0))), (1, vr r1), (2, vr r2)] 60 [] Q := by
  refine z_aload_n dX9_left_60 rfl rfl ?_
  refine z_ifnonnull (tgt := 73) dX9_left_61 rfl (fun h_ => ?_) (fun h_ => ?_)
  · have k := zif h_ k
    refine z_aload_n dX9_left_73 rfl rfl ?_
    obtain ⟨b1, e1_, k⟩ := k
    refine Z.eqs (lv' := [(0, vr (some (a0, 8, 0))), (1, vr r1), (2, vr (some (b1, 30, 0)))]) (st' := [vr (some (b1, 30, 0))]) (by rw [e1_] <;> rfl) (by rw [e1_] <;> rfl) ?_
    refine z_getr (r := (gr M b1 1)) dX9_left_74 fsX9_329_30 rfl ?_
    refine z_aload_n dX9_left_77 rfl rfl ?_
    refine z_getr (r := (gr M a0 1)) dX9_left_78 fsX9_27_8 rfl ?_
    refine z_iconst (v := 2) dX9_left_81 rfl ?_
    obtain ⟨b2, e2_, k⟩ := k
    refine Z.eqs (lv' := [(0, vr (some (a0, 8, 0))), (1, vr r1), (2, vr (some (b1, 30, 0)))]) (st' := [vi (2 : Int32), vr (some (b2, 9, 0)), vr (gr M b1 1)]) rfl (by rw [e2_] <;> rfl) ?_
    exact z_callV (as := [vi (2 : Int32)]) (st := [vr (gr M b1 1)]) dX9_left_82 vsX9_111_9 (Nat.le_refl _) (Nat.le_of_ble_eq_true rfl) (Nat.le_of_ble_eq_true rfl) rfl k
  · have k := zit h_ k
    refine z_new dX9_left_64 csX9_326 zff_30 ?_
    refine Z.pick [0, 1] rfl ?_
    exact k
theorem sX9_left_67 {E : zE} {d : Nat} {Q : zO → zM → Prop} (M : zM) (a0 : Nat) (r1 : Option zP) (p0 : Nat) (k : Z E YX24_init d M (zargs 0 [vr (some (p0, 30, 0)), vr r1]) 0 [] (zafter E YX9_left (d + 1) [(0, vr (some (a0, 8, 0))), (1, vr r1)] 69 3 [vr (some (p0, 30, 0))] Q)) : Z E YX9_left (d + 1) M [(0, vr (some (a0, 8, 0))), (1, vr r1)] 67 [vr (some (p0, 30, 0))] Q := by
  refine z_dup dX9_left_67 rfl ?_
  refine z_aload_n dX9_left_68 rfl rfl ?_
  exact z_callI (as := [vr r1]) (st := [vr (some (p0, 30, 0))]) dX9_left_69 isX9_328 (Nat.le_refl _) (Nat.le_of_ble_eq_true rfl) (Nat.le_of_ble_eq_true rfl) rfl k
theorem sX9_left_72 {E : zE} {d : Nat} {Q : zO → zM → Prop} (M : zM) (a0 : Nat) (r1 : Option zP) (p0 : Nat) (k : ∃ b1 : Nat, (gr M a0 1) = some (b1, 9, 0) ∧ (Z E YX10_is d M (zargs 0 [vr (some (b1, 9, 0)), vi (2 : Int32)]) 0 [] (zafter E YX9_left (d + 1) [(0, vr (some (a0, 8, 0))), (1, vr r1), (2, vr (some (p0, 30, 0)))] 82 3 [vr (gr M p0 1)] Q))) : Z E YX9_left (d + 1) M [(0, vr (some (a0, 8, 0))), (1, vr r1)] 72 [vr (some (p0, 30, 0))] Q := by
  refine z_ast_n dX9_left_72 rfl (by decide) (lv' := [(0, vr (some (a0, 8, 0))), (1, vr r1), (2, vr (some (p0, 30, 0)))]) rfl ?_
  refine z_aload_n dX9_left_73 rfl rfl ?_
  refine z_getr (r := (gr M p0 1)) dX9_left_74 fsX9_329_30 rfl ?_
  refine z_aload_n dX9_left_77 rfl rfl ?_
  refine z_getr (r := (gr M a0 1)) dX9_left_78 fsX9_27_8 rfl ?_
  refine z_iconst (v := 2) dX9_left_81 rfl ?_
  obtain ⟨b1, e1_, k⟩ := k
  refine Z.eqs (lv' := [(0, vr (some (a0, 8, 0))), (1, vr r1), (2, vr (some (p0, 30, 0)))]) (st' := [vi (2 : Int32), vr (some (b1, 9, 0)), vr (gr M p0 1)]) rfl (by rw [e1_] <;> rfl) ?_
  exact z_callV (as := [vi (2 : Int32)]) (st := [vr (gr M p0 1)]) dX9_left_82 vsX9_111_9 (Nat.le_refl _) (Nat.le_of_ble_eq_true rfl) (Nat.le_of_ble_eq_true rfl) rfl k
theorem sX9_left_85 {E : zE} {d : Nat} {Q : zO → zM → Prop} (M : zM) (a0 : Nat) (r1 : Option zP) (a2 : Nat) (s0 : Int32) (u1 : Option zP) (k : if s0 = 0 then (Z E YX9_member d M (zargs 0 [vr (some (a0, 8, 0))]) 0 [] (zafter E YX9_left (d + 1) [(0, vr (some (a0, 8, 0))), (1, vr r1), (2, vr (some (a2, 30, 0)))] 105 3 [vr u1] Q)) else (Z E YX9_left (d + 1) (zn M 3) [(0, vr (some (a0, 8, 0))), (1, vr r1), (2, vr (some (a2, 30, 0)))] 91 [vr (some ((zsz M), 19, 0)), vr u1] Q)) : Z E YX9_left (d + 1) M [(0, vr (some (a0, 8, 0))), (1, vr r1), (2, vr (some (a2, 30, 0)))] 85 [vi s0, vr u1] Q := by
  refine z_if_eq (tgt := 104) dX9_left_85 rfl (fun h_ => ?_) (fun h_ => ?_)
  · have k := zit h_ k
    refine z_aload_n dX9_left_104 rfl rfl ?_
    exact z_callV (as := []) (st := [vr u1]) dX9_left_105 vsX9_341_8 (Nat.le_refl _) (Nat.le_of_ble_eq_true rfl) (Nat.le_of_ble_eq_true rfl) rfl k
  · have k := zif h_ k
    refine z_new dX9_left_88 csX9_332 zff_19 ?_
    exact k
theorem sX9_left_91 {E : zE} {d : Nat} {Q : zO → zM → Prop} (M : zM) (a0 : Nat) (r1 : Option zP) (a2 : Nat) (p0 : Nat) (u1 : Option zP) (k : Z E YX9_arguments d M (zargs 0 [vr (some (a0, 8, 0))]) 0 [] (zafter E YX9_left (d + 1) [(0, vr (some (a0, 8, 0))), (1, vr r1), (2, vr (some (a2, 30, 0)))] 95 3 [vr none, vi (-1 : Int32), vr (some (p0, 19, 0)), vr (some (p0, 19, 0)), vr u1] Q)) : Z E YX9_left (d + 1) M [(0, vr (some (a0, 8, 0))), (1, vr r1), (2, vr (some (a2, 30, 0)))] 91 [vr (some (p0, 19, 0)), vr u1] Q := by
  refine z_dup dX9_left_91 rfl ?_
  refine z_iconst (v := -1) dX9_left_92 rfl ?_
  refine z_null dX9_left_93 ?_
  refine z_aload_n dX9_left_94 rfl rfl ?_
  exact z_callV (as := []) (st := [vr none, vi (-1 : Int32), vr (some (p0, 19, 0)), vr (some (p0, 19, 0)), vr u1]) dX9_left_95 vsX9_334_8 (Nat.le_refl _) (Nat.le_of_ble_eq_true rfl) (Nat.le_of_ble_eq_true rfl) rfl k
theorem sX9_left_98 {E : zE} {d : Nat} {Q : zO → zM → Prop} (M : zM) (a0 : Nat) (r1 : Option zP) (a2 : Nat) (u0 : Option zP) (s2 : Int32) (p3 : Nat) (p4 : Nat) (u5 : Option zP) (k : Z E YX25_init d M (zargs 0 [vr (some (p3, 19, 0)), vi s2, vr none, vr u0]) 0 [] (zafter E YX9_left (d + 1) [(0, vr (some (a0, 8, 0))), (1, vr r1), (2, vr (some (a2, 30, 0)))] 98 3 [vr (some (p4, 19, 0)), vr u5] Q)) : Z E YX9_left (d + 1) M [(0, vr (some (a0, 8, 0))), (1, vr r1), (2, vr (some (a2, 30, 0)))] 98 [vr u0, vr none, vi s2, vr (some (p3, 19, 0)), vr (some (p4, 19, 0)), vr u5] Q := by
  exact z_callI (as := [vi s2, vr none, vr u0]) (st := [vr (some (p4, 19, 0)), vr u5]) dX9_left_98 isX9_338 (Nat.le_refl _) (Nat.le_of_ble_eq_true rfl) (Nat.le_of_ble_eq_true rfl) rfl k
theorem sX9_left_101 {E : zE} {d : Nat} {Q : zO → zM → Prop} (M : zM) (a0 : Nat) (r1 : Option zP) (a2 : Nat) (p0 : Nat) (u1 : Option zP) (k : Z E YX9_left (d + 1) M [(0, vr (some (a0, 8, 0))), (1, vr r1), (2, vr (some (a2, 30, 0)))] 108 [vr (some (p0, 19, 0)), vr u1] Q) : Z E YX9_left (d + 1) M [(0, vr (some (a0, 8, 0))), (1, vr r1), (2, vr (some (a2, 30, 0)))] 101 [vr (some (p0, 19, 0)), vr u1] Q := by
  refine z_goto (tgt := 108) dX9_left_101 rfl ?_
  exact k
theorem sX9_left_108 {E : zE} {d : Nat} {Q : zO → zM → Prop} (M : zM) (a0 : Nat) (r1 : Option zP) (a2 : Nat) (u0 : Option zP) (u1 : Option zP) (k : ∃ b1 : Nat, u1 = some (b1, 11, 0) ∧ (Z E YJ2_add d M (zargs 0 [vr (some (b1, 11, 0)), vr u0]) 0 [] (zafter E YX9_left (d + 1) [(0, vr (some (a0, 8, 0))), (1, vr r1), (2, vr (some (a2, 30, 0)))] 108 3 [] Q))) : Z E YX9_left (d + 1) M [(0, vr (some (a0, 8, 0))), (1, vr r1), (2, vr (some (a2, 30, 0)))] 108 [vr u0, vr u1] Q := by
  obtain ⟨b1, e1_, k⟩ := k
  refine Z.eqs (lv' := [(0, vr (some (a0, 8, 0))), (1, vr r1), (2, vr (some (a2, 30, 0)))]) (st' := [vr u0, vr (some (b1, 11, 0))]) rfl (by rw [e1_] <;> rfl) ?_
  exact z_callV (as := [vr u0]) (st := []) dX9_left_108 vsX9_48_11 (Nat.le_refl _) (Nat.le_of_ble_eq_true rfl) (Nat.le_of_ble_eq_true rfl) rfl k
theorem sX9_left_111 {E : zE} {d : Nat} {Q : zO → zM → Prop} (M : zM) (a0 : Nat) (r1 : Option zP) (a2 : Nat) (s0 : Int32) (k : Z E YX9_left (d + 1) M [(0, vr (some (a0, 8, 0))), (1, vr r1), (2, vr (some (a2, 30, 0)))] 26 [] Q) : Z E YX9_left (d + 1) M [(0, vr (some (a0, 8, 0))), (1, vr r1), (2, vr (some (a2, 30, 0)))] 111 [vi s0] Q := by
  refine z_pop dX9_left_111 rfl ?_
  refine z_goto (tgt := 26) dX9_left_112 rfl ?_
  exact k
/-! ScriptTypes$Parser.made()LScriptTypes$Node; -/
theorem bX9_made_0 : zdec cX9_made 0 [(0, .aload_n 0, 1), (1, .invokevirtual 72, 3), (4, .aload_n 0, 1), (5, .getfield 27, 3), (8, .invokevirtual 52, 3), (11, .aload_n 0, 1), (12, .getfield 27, 3), (15, .bipush 16, 2), (17, .invokevirtual 61, 3), (20, .ifCond .eq 10, 3), (23, .aload_n 0, 1), (24, .invokevirtual 320, 3), (27, .goto 7, 3), (30, .aload_n 0, 1), (31, .invokevirtual 323, 3), (34, .astore_n 1, 1)] = true := by decide +kernel
theorem dX9_made_0 : decode cX9_made 0 = .ok (.aload_n 0, 1) := zdec_at bX9_made_0 0 rfl
theorem dX9_made_1 : decode cX9_made 1 = .ok (.invokevirtual 72, 3) := zdec_at bX9_made_0 1 rfl
theorem dX9_made_4 : decode cX9_made 4 = .ok (.aload_n 0, 1) := zdec_at bX9_made_0 2 rfl
theorem dX9_made_5 : decode cX9_made 5 = .ok (.getfield 27, 3) := zdec_at bX9_made_0 3 rfl
theorem dX9_made_8 : decode cX9_made 8 = .ok (.invokevirtual 52, 3) := zdec_at bX9_made_0 4 rfl
theorem dX9_made_11 : decode cX9_made 11 = .ok (.aload_n 0, 1) := zdec_at bX9_made_0 5 rfl
theorem dX9_made_12 : decode cX9_made 12 = .ok (.getfield 27, 3) := zdec_at bX9_made_0 6 rfl
theorem dX9_made_15 : decode cX9_made 15 = .ok (.bipush 16, 2) := zdec_at bX9_made_0 7 rfl
theorem dX9_made_17 : decode cX9_made 17 = .ok (.invokevirtual 61, 3) := zdec_at bX9_made_0 8 rfl
theorem dX9_made_20 : decode cX9_made 20 = .ok (.ifCond .eq 10, 3) := zdec_at bX9_made_0 9 rfl
theorem dX9_made_23 : decode cX9_made 23 = .ok (.aload_n 0, 1) := zdec_at bX9_made_0 10 rfl
theorem dX9_made_24 : decode cX9_made 24 = .ok (.invokevirtual 320, 3) := zdec_at bX9_made_0 11 rfl
theorem dX9_made_27 : decode cX9_made 27 = .ok (.goto 7, 3) := zdec_at bX9_made_0 12 rfl
theorem dX9_made_30 : decode cX9_made 30 = .ok (.aload_n 0, 1) := zdec_at bX9_made_0 13 rfl
theorem dX9_made_31 : decode cX9_made 31 = .ok (.invokevirtual 323, 3) := zdec_at bX9_made_0 14 rfl
theorem dX9_made_34 : decode cX9_made 34 = .ok (.astore_n 1, 1) := zdec_at bX9_made_0 15 rfl
theorem bX9_made_35 : zdec cX9_made 35 [(35, .aconst_null, 1), (36, .astore_n 2, 1), (37, .aload_n 0, 1), (38, .getfield 27, 3), (41, .bipush 6, 2), (43, .invokevirtual 111, 3), (46, .ifCond .ne 14, 3), (49, .aload_n 0, 1), (50, .getfield 27, 3), (53, .iconst 4, 1), (54, .invokevirtual 111, 3), (57, .ifCond .eq 31, 3), (60, .aload_n 2, 1), (61, .ifnonnull 12, 3), (64, .new 326, 3), (67, .dup, 1)] = true := by decide +kernel
theorem dX9_made_35 : decode cX9_made 35 = .ok (.aconst_null, 1) := zdec_at bX9_made_35 0 rfl
theorem dX9_made_36 : decode cX9_made 36 = .ok (.astore_n 2, 1) := zdec_at bX9_made_35 1 rfl
theorem dX9_made_37 : decode cX9_made 37 = .ok (.aload_n 0, 1) := zdec_at bX9_made_35 2 rfl
theorem dX9_made_38 : decode cX9_made 38 = .ok (.getfield 27, 3) := zdec_at bX9_made_35 3 rfl
theorem dX9_made_41 : decode cX9_made 41 = .ok (.bipush 6, 2) := zdec_at bX9_made_35 4 rfl
theorem dX9_made_43 : decode cX9_made 43 = .ok (.invokevirtual 111, 3) := zdec_at bX9_made_35 5 rfl
theorem dX9_made_46 : decode cX9_made 46 = .ok (.ifCond .ne 14, 3) := zdec_at bX9_made_35 6 rfl
theorem dX9_made_49 : decode cX9_made 49 = .ok (.aload_n 0, 1) := zdec_at bX9_made_35 7 rfl
theorem dX9_made_50 : decode cX9_made 50 = .ok (.getfield 27, 3) := zdec_at bX9_made_35 8 rfl
theorem dX9_made_53 : decode cX9_made 53 = .ok (.iconst 4, 1) := zdec_at bX9_made_35 9 rfl
theorem dX9_made_54 : decode cX9_made 54 = .ok (.invokevirtual 111, 3) := zdec_at bX9_made_35 10 rfl
theorem dX9_made_57 : decode cX9_made 57 = .ok (.ifCond .eq 31, 3) := zdec_at bX9_made_35 11 rfl
theorem dX9_made_60 : decode cX9_made 60 = .ok (.aload_n 2, 1) := zdec_at bX9_made_35 12 rfl
theorem dX9_made_61 : decode cX9_made 61 = .ok (.ifnonnull 12, 3) := zdec_at bX9_made_35 13 rfl
theorem dX9_made_64 : decode cX9_made 64 = .ok (.new 326, 3) := zdec_at bX9_made_35 14 rfl
theorem dX9_made_67 : decode cX9_made 67 = .ok (.dup, 1) := zdec_at bX9_made_35 15 rfl
theorem bX9_made_68 : zdec cX9_made 68 [(68, .aload_n 1, 1), (69, .invokespecial 328, 3), (72, .astore_n 2, 1), (73, .aload_n 2, 1), (74, .getfield 329, 3), (77, .aload_n 0, 1), (78, .invokevirtual 341, 3), (81, .invokevirtual 48, 3), (84, .pop, 1), (85, .goto (-48), 3), (88, .new 348, 3), (91, .dup, 1), (92, .aload_n 2, 1), (93, .ifnonnull 7, 3), (96, .aload_n 1, 1), (97, .goto 4, 3)] = true := by decide +kernel
theorem dX9_made_68 : decode cX9_made 68 = .ok (.aload_n 1, 1) := zdec_at bX9_made_68 0 rfl
theorem dX9_made_69 : decode cX9_made 69 = .ok (.invokespecial 328, 3) := zdec_at bX9_made_68 1 rfl
theorem dX9_made_72 : decode cX9_made 72 = .ok (.astore_n 2, 1) := zdec_at bX9_made_68 2 rfl
theorem dX9_made_73 : decode cX9_made 73 = .ok (.aload_n 2, 1) := zdec_at bX9_made_68 3 rfl
theorem dX9_made_74 : decode cX9_made 74 = .ok (.getfield 329, 3) := zdec_at bX9_made_68 4 rfl
theorem dX9_made_77 : decode cX9_made 77 = .ok (.aload_n 0, 1) := zdec_at bX9_made_68 5 rfl
theorem dX9_made_78 : decode cX9_made 78 = .ok (.invokevirtual 341, 3) := zdec_at bX9_made_68 6 rfl
theorem dX9_made_81 : decode cX9_made 81 = .ok (.invokevirtual 48, 3) := zdec_at bX9_made_68 7 rfl
theorem dX9_made_84 : decode cX9_made 84 = .ok (.pop, 1) := zdec_at bX9_made_68 8 rfl
theorem dX9_made_85 : decode cX9_made 85 = .ok (.goto (-48), 3) := zdec_at bX9_made_68 9 rfl
theorem dX9_made_88 : decode cX9_made 88 = .ok (.new 348, 3) := zdec_at bX9_made_68 10 rfl
theorem dX9_made_91 : decode cX9_made 91 = .ok (.dup, 1) := zdec_at bX9_made_68 11 rfl
theorem dX9_made_92 : decode cX9_made 92 = .ok (.aload_n 2, 1) := zdec_at bX9_made_68 12 rfl
theorem dX9_made_93 : decode cX9_made 93 = .ok (.ifnonnull 7, 3) := zdec_at bX9_made_68 13 rfl
theorem dX9_made_96 : decode cX9_made 96 = .ok (.aload_n 1, 1) := zdec_at bX9_made_68 14 rfl
theorem dX9_made_97 : decode cX9_made 97 = .ok (.goto 4, 3) := zdec_at bX9_made_68 15 rfl
theorem bX9_made_100 : zdec cX9_made 100 [(100, .aload_n 2, 1), (101, .aload_n 0, 1), (102, .getfield 27, 3), (105, .iconst 2, 1), (106, .invokevirtual 111, 3), (109, .ifCond .eq 10, 3), (112, .aload_n 0, 1), (113, .invokevirtual 334, 3), (116, .goto 10, 3), (119, .new 9, 3), (122, .dup, 1), (123, .invokespecial 11, 3), (126, .invokespecial 350, 3), (129, .astore_n 3, 1), (130, .aload_n 0, 1), (131, .dup, 1)] = true := by decide +kernel
theorem dX9_made_100 : decode cX9_made 100 = .ok (.aload_n 2, 1) := zdec_at bX9_made_100 0 rfl
theorem dX9_made_101 : decode cX9_made 101 = .ok (.aload_n 0, 1) := zdec_at bX9_made_100 1 rfl
theorem dX9_made_102 : decode cX9_made 102 = .ok (.getfield 27, 3) := zdec_at bX9_made_100 2 rfl
theorem dX9_made_105 : decode cX9_made 105 = .ok (.iconst 2, 1) := zdec_at bX9_made_100 3 rfl
theorem dX9_made_106 : decode cX9_made 106 = .ok (.invokevirtual 111, 3) := zdec_at bX9_made_100 4 rfl
theorem dX9_made_109 : decode cX9_made 109 = .ok (.ifCond .eq 10, 3) := zdec_at bX9_made_100 5 rfl
theorem dX9_made_112 : decode cX9_made 112 = .ok (.aload_n 0, 1) := zdec_at bX9_made_100 6 rfl
theorem dX9_made_113 : decode cX9_made 113 = .ok (.invokevirtual 334, 3) := zdec_at bX9_made_100 7 rfl
theorem dX9_made_116 : decode cX9_made 116 = .ok (.goto 10, 3) := zdec_at bX9_made_100 8 rfl
theorem dX9_made_119 : decode cX9_made 119 = .ok (.new 9, 3) := zdec_at bX9_made_100 9 rfl
theorem dX9_made_122 : decode cX9_made 122 = .ok (.dup, 1) := zdec_at bX9_made_100 10 rfl
theorem dX9_made_123 : decode cX9_made 123 = .ok (.invokespecial 11, 3) := zdec_at bX9_made_100 11 rfl
theorem dX9_made_126 : decode cX9_made 126 = .ok (.invokespecial 350, 3) := zdec_at bX9_made_100 12 rfl
theorem dX9_made_129 : decode cX9_made 129 = .ok (.astore_n 3, 1) := zdec_at bX9_made_100 13 rfl
theorem dX9_made_130 : decode cX9_made 130 = .ok (.aload_n 0, 1) := zdec_at bX9_made_100 14 rfl
theorem dX9_made_131 : decode cX9_made 131 = .ok (.dup, 1) := zdec_at bX9_made_100 15 rfl
theorem bX9_made_132 : zdec cX9_made 132 [(132, .getfield 31, 3), (135, .iconst 1, 1), (136, .isub, 1), (137, .putfield 31, 3), (140, .aload_n 3, 1), (141, .areturn, 1)] = true := by decide +kernel
theorem dX9_made_132 : decode cX9_made 132 = .ok (.getfield 31, 3) := zdec_at bX9_made_132 0 rfl
theorem dX9_made_135 : decode cX9_made 135 = .ok (.iconst 1, 1) := zdec_at bX9_made_132 1 rfl
theorem dX9_made_136 : decode cX9_made 136 = .ok (.isub, 1) := zdec_at bX9_made_132 2 rfl
theorem dX9_made_137 : decode cX9_made 137 = .ok (.putfield 31, 3) := zdec_at bX9_made_132 3 rfl
theorem dX9_made_140 : decode cX9_made 140 = .ok (.aload_n 3, 1) := zdec_at bX9_made_132 4 rfl
theorem dX9_made_141 : decode cX9_made 141 = .ok (.areturn, 1) := zdec_at bX9_made_132 5 rfl
theorem sX9_made_0 {E : zE} {d : Nat} {Q : zO → zM → Prop} (M : zM) (a0 : Nat) (k : Z E YX9_opens d M (zargs 0 [vr (some (a0, 8, 0))]) 0 [] (zafter E YX9_made (d + 1) [(0, vr (some (a0, 8, 0)))] 1 3 [] Q)) : Z E YX9_made (d + 1) M [(0, vr (some (a0, 8, 0)))] 0 [] Q := by
  refine z_aload_n dX9_made_0 rfl rfl ?_
  exact z_callV (as := []) (st := []) dX9_made_1 vsX9_72_8 (Nat.le_refl _) (Nat.le_of_ble_eq_true rfl) (Nat.le_of_ble_eq_true rfl) rfl k
theorem sX9_made_4 {E : zE} {d : Nat} {Q : zO → zM → Prop} (M : zM) (a0 : Nat) (k : ∃ b1 : Nat, (gr M a0 1) = some (b1, 9, 0) ∧ (Z E YX10_next d M (zargs 0 [vr (some (b1, 9, 0))]) 0 [] (zafter E YX9_made (d + 1) [(0, vr (some (a0, 8, 0)))] 8 3 [] Q))) : Z E YX9_made (d + 1) M [(0, vr (some (a0, 8, 0)))] 4 [] Q := by
  refine z_aload_n dX9_made_4 rfl rfl ?_
  refine z_getr (r := (gr M a0 1)) dX9_made_5 fsX9_27_8 rfl ?_
  obtain ⟨b1, e1_, k⟩ := k
  refine Z.eqs (lv' := [(0, vr (some (a0, 8, 0)))]) (st' := [vr (some (b1, 9, 0))]) rfl (by rw [e1_] <;> rfl) ?_
  exact z_callV (as := []) (st := []) dX9_made_8 vsX9_52_9 (Nat.le_refl _) (Nat.le_of_ble_eq_true rfl) (Nat.le_of_ble_eq_true rfl) rfl k
theorem sX9_made_11 {E : zE} {d : Nat} {Q : zO → zM → Prop} (M : zM) (a0 : Nat) (k : ∃ b1 : Nat, (gr M a0 1) = some (b1, 9, 0) ∧ (Z E YX10_isWord d M (zargs 0 [vr (some (b1, 9, 0)), vi (16 : Int32)]) 0 [] (zafter E YX9_made (d + 1) [(0, vr (some (a0, 8, 0)))] 17 3 [] Q))) : Z E YX9_made (d + 1) M [(0, vr (some (a0, 8, 0)))] 11 [] Q := by
  refine z_aload_n dX9_made_11 rfl rfl ?_
  refine z_getr (r := (gr M a0 1)) dX9_made_12 fsX9_27_8 rfl ?_
  refine z_bipush (v := 16) dX9_made_15 rfl ?_
  obtain ⟨b1, e1_, k⟩ := k
  refine Z.eqs (lv' := [(0, vr (some (a0, 8, 0)))]) (st' := [vi (16 : Int32), vr (some (b1, 9, 0))]) rfl (by rw [e1_] <;> rfl) ?_
  exact z_callV (as := [vi (16 : Int32)]) (st := []) dX9_made_17 vsX9_61_9 (Nat.le_refl _) (Nat.le_of_ble_eq_true rfl) (Nat.le_of_ble_eq_true rfl) rfl k
theorem sX9_made_20 {E : zE} {d : Nat} {Q : zO → zM → Prop} (M : zM) (a0 : Nat) (s0 : Int32) (k : if s0 = 0 then (Z E YX9_primary d M (zargs 0 [vr (some (a0, 8, 0))]) 0 [] (zafter E YX9_made (d + 1) [(0, vr (some (a0, 8, 0)))] 31 3 [] Q)) else (Z E YX9_made d M (zargs 0 [vr (some (a0, 8, 0))]) 0 [] (zafter E YX9_made (d + 1) [(0, vr (some (a0, 8, 0)))] 24 3 [] Q))) : Z E YX9_made (d + 1) M [(0, vr (some (a0, 8, 0)))] 20 [vi s0] Q := by
  refine z_if_eq (tgt := 30) dX9_made_20 rfl (fun h_ => ?_) (fun h_ => ?_)
  · have k := zit h_ k
    refine z_aload_n dX9_made_30 rfl rfl ?_
    exact z_callV (as := []) (st := []) dX9_made_31 vsX9_323_8 (Nat.le_refl _) (Nat.le_of_ble_eq_true rfl) (Nat.le_of_ble_eq_true rfl) rfl k
  · have k := zif h_ k
    refine z_aload_n dX9_made_23 rfl rfl ?_
    exact z_callV (as := []) (st := []) dX9_made_24 vsX9_320_8 (Nat.le_refl _) (Nat.le_of_ble_eq_true rfl) (Nat.le_of_ble_eq_true rfl) rfl k
theorem sX9_made_27 {E : zE} {d : Nat} {Q : zO → zM → Prop} (M : zM) (a0 : Nat) (u0 : Option zP) (k : Z E YX9_made (d + 1) M [(0, vr (some (a0, 8, 0)))] 34 [vr u0] Q) : Z E YX9_made (d + 1) M [(0, vr (some (a0, 8, 0)))] 27 [vr u0] Q := by
  refine z_goto (tgt := 34) dX9_made_27 rfl ?_
  exact k
theorem sX9_made_34 {E : zE} {d : Nat} {Q : zO → zM → Prop} (M : zM) (a0 : Nat) (u0 : Option zP) (k : Z E YX9_made (d + 1) M [(0, vr (some (a0, 8, 0))), (1, vr u0), (2, vr none)] 37 [] Q) : Z E YX9_made (d + 1) M [(0, vr (some (a0, 8, 0)))] 34 [vr u0] Q := by
  refine z_ast_n dX9_made_34 rfl (by decide) (lv' := [(0, vr (some (a0, 8, 0))), (1, vr u0)]) rfl ?_
  refine z_null dX9_made_35 ?_
  refine z_ast_n dX9_made_36 rfl (by decide) (lv' := [(0, vr (some (a0, 8, 0))), (1, vr u0), (2, vr none)]) rfl ?_
  exact k
theorem sX9_made_37 {E : zE} {d : Nat} {Q : zO → zM → Prop} (M : zM) (a0 : Nat) (r1 : Option zP) (r2 : Option zP) (k : ∃ b1 : Nat, (gr M a0 1) = some (b1, 9, 0) ∧ (Z E YX10_is d M (zargs 0 [vr (some (b1, 9, 0)), vi (6 : Int32)]) 0 [] (zafter E YX9_made (d + 1) [(0, vr (some (a0, 8, 0))), (1, vr r1), (2, vr r2)] 43 3 [] Q))) : Z E YX9_made (d + 1) M [(0, vr (some (a0, 8, 0))), (1, vr r1), (2, vr r2)] 37 [] Q := by
  refine z_aload_n dX9_made_37 rfl rfl ?_
  refine z_getr (r := (gr M a0 1)) dX9_made_38 fsX9_27_8 rfl ?_
  refine z_bipush (v := 6) dX9_made_41 rfl ?_
  obtain ⟨b1, e1_, k⟩ := k
  refine Z.eqs (lv' := [(0, vr (some (a0, 8, 0))), (1, vr r1), (2, vr r2)]) (st' := [vi (6 : Int32), vr (some (b1, 9, 0))]) rfl (by rw [e1_] <;> rfl) ?_
  exact z_callV (as := [vi (6 : Int32)]) (st := []) dX9_made_43 vsX9_111_9 (Nat.le_refl _) (Nat.le_of_ble_eq_true rfl) (Nat.le_of_ble_eq_true rfl) rfl k
theorem sX9_made_46 {E : zE} {d : Nat} {Q : zO → zM → Prop} (M : zM) (a0 : Nat) (r1 : Option zP) (r2 : Option zP) (s0 : Int32) (k : if s0 = 0 then (∃ b1 : Nat, (gr M a0 1) = some (b1, 9, 0) ∧ (Z E YX10_is d M (zargs 0 [vr (some (b1, 9, 0)), vi (4 : Int32)]) 0 [] (zafter E YX9_made (d + 1) [(0, vr (some (a0, 8, 0))), (1, vr r1), (2, vr r2)] 54 3 [] Q))) else (Z E YX9_made (d + 1) M [(0, vr (some (a0, 8, 0))), (1, vr r1), (2, vr r2)] 60 [] Q)) : Z E YX9_made (d + 1) M [(0, vr (some (a0, 8, 0))), (1, vr r1), (2, vr r2)] 46 [vi s0] Q := by
  refine z_if_ne (tgt := 60) dX9_made_46 rfl (fun h_ => ?_) (fun h_ => ?_)
  · have k := zif h_ k
    exact k
  · have k := zit h_ k
    refine z_aload_n dX9_made_49 rfl rfl ?_
    refine z_getr (r := (gr M a0 1)) dX9_made_50 fsX9_27_8 rfl ?_
    refine z_iconst (v := 4) dX9_made_53 rfl ?_
    obtain ⟨b1, e1_, k⟩ := k
    refine Z.eqs (lv' := [(0, vr (some (a0, 8, 0))), (1, vr r1), (2, vr r2)]) (st' := [vi (4 : Int32), vr (some (b1, 9, 0))]) rfl (by rw [e1_] <;> rfl) ?_
    exact z_callV (as := [vi (4 : Int32)]) (st := []) dX9_made_54 vsX9_111_9 (Nat.le_refl _) (Nat.le_of_ble_eq_true rfl) (Nat.le_of_ble_eq_true rfl) rfl k
theorem sX9_made_57 {E : zE} {d : Nat} {Q : zO → zM → Prop} (M : zM) (a0 : Nat) (r1 : Option zP) (r2 : Option zP) (s0 : Int32) (k : if s0 = 0 then (Z E YX9_made (d + 1) (zn M 2) [(0, vr (some (a0, 8, 0))), (1, vr r1), (2, vr r2)] 91 [vr (some ((zsz M), 31, 0))] Q) else (Z E YX9_made (d + 1) M [(0, vr (some (a0, 8, 0))), (1, vr r1), (2, vr r2)] 60 [] Q)) : Z E YX9_made (d + 1) M [(0, vr (some (a0, 8, 0))), (1, vr r1), (2, vr r2)] 57 [vi s0] Q := by
  refine z_if_eq (tgt := 88) dX9_made_57 rfl (fun h_ => ?_) (fun h_ => ?_)
  · have k := zit h_ k
    refine z_new dX9_made_88 csX9_348 zff_31 ?_
    exact k
  · have k := zif h_ k
    exact k
theorem sX9_made_60 {E : zE} {d : Nat} {Q : zO → zM → Prop} (M : zM) (a0 : Nat) (r1 : Option zP) (r2 : Option zP) (k : if r2 = none then (Z E YX9_made (d + 1) (zn M 2) [(0, vr (some (a0, 8, 0))), (1, vr r1)] 67 [vr (some ((zsz M), 30, 0))] Q) else (∃ b1 : Nat, r2 = some (b1, 30, 0) ∧ (Z E YX9_member d M (zargs 0 [vr (some (a0, 8, 0))]) 0 [] (zafter E YX9_made (d + 1) [(0, vr (some (a0, 8, 0))), (1, vr r1), (2, vr (some (b1, 30, 0)))] 78 3 [vr (gr M b1 1)] Q)))) : Z E YX9_made (d + 1) M [(0, vr (some (a0, 8, 0))), (1, vr r1), (2, vr r2)] 60 [] Q := by
  refine z_aload_n dX9_made_60 rfl rfl ?_
  refine z_ifnonnull (tgt := 73) dX9_made_61 rfl (fun h_ => ?_) (fun h_ => ?_)
  · have k := zif h_ k
    refine z_aload_n dX9_made_73 rfl rfl ?_
    obtain ⟨b1, e1_, k⟩ := k
    refine Z.eqs (lv' := [(0, vr (some (a0, 8, 0))), (1, vr r1), (2, vr (some (b1, 30, 0)))]) (st' := [vr (some (b1, 30, 0))]) (by rw [e1_] <;> rfl) (by rw [e1_] <;> rfl) ?_
    refine z_getr (r := (gr M b1 1)) dX9_made_74 fsX9_329_30 rfl ?_
    refine z_aload_n dX9_made_77 rfl rfl ?_
    exact z_callV (as := []) (st := [vr (gr M b1 1)]) dX9_made_78 vsX9_341_8 (Nat.le_refl _) (Nat.le_of_ble_eq_true rfl) (Nat.le_of_ble_eq_true rfl) rfl k
  · have k := zit h_ k
    refine z_new dX9_made_64 csX9_326 zff_30 ?_
    refine Z.pick [0, 1] rfl ?_
    exact k
theorem sX9_made_67 {E : zE} {d : Nat} {Q : zO → zM → Prop} (M : zM) (a0 : Nat) (r1 : Option zP) (p0 : Nat) (k : Z E YX24_init d M (zargs 0 [vr (some (p0, 30, 0)), vr r1]) 0 [] (zafter E YX9_made (d + 1) [(0, vr (some (a0, 8, 0))), (1, vr r1)] 69 3 [vr (some (p0, 30, 0))] Q)) : Z E YX9_made (d + 1) M [(0, vr (some (a0, 8, 0))), (1, vr r1)] 67 [vr (some (p0, 30, 0))] Q := by
  refine z_dup dX9_made_67 rfl ?_
  refine z_aload_n dX9_made_68 rfl rfl ?_
  exact z_callI (as := [vr r1]) (st := [vr (some (p0, 30, 0))]) dX9_made_69 isX9_328 (Nat.le_refl _) (Nat.le_of_ble_eq_true rfl) (Nat.le_of_ble_eq_true rfl) rfl k
theorem sX9_made_72 {E : zE} {d : Nat} {Q : zO → zM → Prop} (M : zM) (a0 : Nat) (r1 : Option zP) (p0 : Nat) (k : Z E YX9_member d M (zargs 0 [vr (some (a0, 8, 0))]) 0 [] (zafter E YX9_made (d + 1) [(0, vr (some (a0, 8, 0))), (1, vr r1), (2, vr (some (p0, 30, 0)))] 78 3 [vr (gr M p0 1)] Q)) : Z E YX9_made (d + 1) M [(0, vr (some (a0, 8, 0))), (1, vr r1)] 72 [vr (some (p0, 30, 0))] Q := by
  refine z_ast_n dX9_made_72 rfl (by decide) (lv' := [(0, vr (some (a0, 8, 0))), (1, vr r1), (2, vr (some (p0, 30, 0)))]) rfl ?_
  refine z_aload_n dX9_made_73 rfl rfl ?_
  refine z_getr (r := (gr M p0 1)) dX9_made_74 fsX9_329_30 rfl ?_
  refine z_aload_n dX9_made_77 rfl rfl ?_
  exact z_callV (as := []) (st := [vr (gr M p0 1)]) dX9_made_78 vsX9_341_8 (Nat.le_refl _) (Nat.le_of_ble_eq_true rfl) (Nat.le_of_ble_eq_true rfl) rfl k
theorem sX9_made_81 {E : zE} {d : Nat} {Q : zO → zM → Prop} (M : zM) (a0 : Nat) (r1 : Option zP) (a2 : Nat) (u0 : Option zP) (u1 : Option zP) (k : ∃ b1 : Nat, u1 = some (b1, 11, 0) ∧ (Z E YJ2_add d M (zargs 0 [vr (some (b1, 11, 0)), vr u0]) 0 [] (zafter E YX9_made (d + 1) [(0, vr (some (a0, 8, 0))), (1, vr r1), (2, vr (some (a2, 30, 0)))] 81 3 [] Q))) : Z E YX9_made (d + 1) M [(0, vr (some (a0, 8, 0))), (1, vr r1), (2, vr (some (a2, 30, 0)))] 81 [vr u0, vr u1] Q := by
  obtain ⟨b1, e1_, k⟩ := k
  refine Z.eqs (lv' := [(0, vr (some (a0, 8, 0))), (1, vr r1), (2, vr (some (a2, 30, 0)))]) (st' := [vr u0, vr (some (b1, 11, 0))]) rfl (by rw [e1_] <;> rfl) ?_
  exact z_callV (as := [vr u0]) (st := []) dX9_made_81 vsX9_48_11 (Nat.le_refl _) (Nat.le_of_ble_eq_true rfl) (Nat.le_of_ble_eq_true rfl) rfl k
theorem sX9_made_84 {E : zE} {d : Nat} {Q : zO → zM → Prop} (M : zM) (a0 : Nat) (r1 : Option zP) (a2 : Nat) (s0 : Int32) (k : Z E YX9_made (d + 1) M [(0, vr (some (a0, 8, 0))), (1, vr r1), (2, vr (some (a2, 30, 0)))] 37 [] Q) : Z E YX9_made (d + 1) M [(0, vr (some (a0, 8, 0))), (1, vr r1), (2, vr (some (a2, 30, 0)))] 84 [vi s0] Q := by
  refine z_pop dX9_made_84 rfl ?_
  refine z_goto (tgt := 37) dX9_made_85 rfl ?_
  exact k
theorem sX9_made_91 {E : zE} {d : Nat} {Q : zO → zM → Prop} (M : zM) (a0 : Nat) (r1 : Option zP) (r2 : Option zP) (p0 : Nat) (k : if r2 = none then (∃ b1 : Nat, (gr M a0 1) = some (b1, 9, 0) ∧ (Z E YX10_is d M (zargs 0 [vr (some (b1, 9, 0)), vi (2 : Int32)]) 0 [] (zafter E YX9_made (d + 1) [(0, vr (some (a0, 8, 0)))] 106 3 [vr r1, vr (some (p0, 31, 0)), vr (some (p0, 31, 0))] Q))) else (∃ b1 : Nat, (gr M a0 1) = some (b1, 9, 0) ∧ (Z E YX10_is d M (zargs 0 [vr (some (b1, 9, 0)), vi (2 : Int32)]) 0 [] (zafter E YX9_made (d + 1) [(0, vr (some (a0, 8, 0)))] 106 3 [vr r2, vr (some (p0, 31, 0)), vr (some (p0, 31, 0))] Q)))) : Z E YX9_made (d + 1) M [(0, vr (some (a0, 8, 0))), (1, vr r1), (2, vr r2)] 91 [vr (some (p0, 31, 0))] Q := by
  refine z_dup dX9_made_91 rfl ?_
  refine z_aload_n dX9_made_92 rfl rfl ?_
  refine z_ifnonnull (tgt := 100) dX9_made_93 rfl (fun h_ => ?_) (fun h_ => ?_)
  · have k := zif h_ k
    refine z_aload_n dX9_made_100 rfl rfl ?_
    refine z_aload_n dX9_made_101 rfl rfl ?_
    refine z_getr (r := (gr M a0 1)) dX9_made_102 fsX9_27_8 rfl ?_
    refine z_iconst (v := 2) dX9_made_105 rfl ?_
    obtain ⟨b1, e1_, k⟩ := k
    refine Z.eqs (lv' := [(0, vr (some (a0, 8, 0))), (1, vr r1), (2, vr r2)]) (st' := [vi (2 : Int32), vr (some (b1, 9, 0)), vr r2, vr (some (p0, 31, 0)), vr (some (p0, 31, 0))]) rfl (by rw [e1_] <;> rfl) ?_
    refine Z.pick [0] rfl ?_
    exact z_callV (as := [vi (2 : Int32)]) (st := [vr r2, vr (some (p0, 31, 0)), vr (some (p0, 31, 0))]) dX9_made_106 vsX9_111_9 (Nat.le_refl _) (Nat.le_of_ble_eq_true rfl) (Nat.le_of_ble_eq_true rfl) rfl k
  · have k := zit h_ k
    refine z_aload_n dX9_made_96 rfl rfl ?_
    refine z_goto (tgt := 101) dX9_made_97 rfl ?_
    refine z_aload_n dX9_made_101 rfl rfl ?_
    refine z_getr (r := (gr M a0 1)) dX9_made_102 fsX9_27_8 rfl ?_
    refine z_iconst (v := 2) dX9_made_105 rfl ?_
    obtain ⟨b1, e1_, k⟩ := k
    refine Z.eqs (lv' := [(0, vr (some (a0, 8, 0))), (1, vr r1), (2, vr r2)]) (st' := [vi (2 : Int32), vr (some (b1, 9, 0)), vr r1, vr (some (p0, 31, 0)), vr (some (p0, 31, 0))]) rfl (by rw [e1_] <;> rfl) ?_
    refine Z.pick [0] rfl ?_
    exact z_callV (as := [vi (2 : Int32)]) (st := [vr r1, vr (some (p0, 31, 0)), vr (some (p0, 31, 0))]) dX9_made_106 vsX9_111_9 (Nat.le_refl _) (Nat.le_of_ble_eq_true rfl) (Nat.le_of_ble_eq_true rfl) rfl k
theorem sX9_made_109 {E : zE} {d : Nat} {Q : zO → zM → Prop} (M : zM) (a0 : Nat) (s0 : Int32) (u1 : Option zP) (p2 : Nat) (p3 : Nat) (k : if s0 = 0 then (Z E YX9_made (d + 1) (zn M 3) [(0, vr (some (a0, 8, 0)))] 122 [vr (some ((zsz M), 11, 0)), vr u1, vr (some (p2, 31, 0)), vr (some (p3, 31, 0))] Q) else (Z E YX9_arguments d M (zargs 0 [vr (some (a0, 8, 0))]) 0 [] (zafter E YX9_made (d + 1) [(0, vr (some (a0, 8, 0)))] 113 3 [vr u1, vr (some (p2, 31, 0)), vr (some (p3, 31, 0))] Q))) : Z E YX9_made (d + 1) M [(0, vr (some (a0, 8, 0)))] 109 [vi s0, vr u1, vr (some (p2, 31, 0)), vr (some (p3, 31, 0))] Q := by
  refine z_if_eq (tgt := 119) dX9_made_109 rfl (fun h_ => ?_) (fun h_ => ?_)
  · have k := zit h_ k
    refine z_new dX9_made_119 csX9_9 zff_11 ?_
    exact k
  · have k := zif h_ k
    refine z_aload_n dX9_made_112 rfl rfl ?_
    exact z_callV (as := []) (st := [vr u1, vr (some (p2, 31, 0)), vr (some (p3, 31, 0))]) dX9_made_113 vsX9_334_8 (Nat.le_refl _) (Nat.le_of_ble_eq_true rfl) (Nat.le_of_ble_eq_true rfl) rfl k
theorem sX9_made_116 {E : zE} {d : Nat} {Q : zO → zM → Prop} (M : zM) (a0 : Nat) (u0 : Option zP) (u1 : Option zP) (p2 : Nat) (p3 : Nat) (k : Z E YX9_made (d + 1) M [(0, vr (some (a0, 8, 0)))] 126 [vr u0, vr u1, vr (some (p2, 31, 0)), vr (some (p3, 31, 0))] Q) : Z E YX9_made (d + 1) M [(0, vr (some (a0, 8, 0)))] 116 [vr u0, vr u1, vr (some (p2, 31, 0)), vr (some (p3, 31, 0))] Q := by
  refine z_goto (tgt := 126) dX9_made_116 rfl ?_
  exact k
theorem sX9_made_122 {E : zE} {d : Nat} {Q : zO → zM → Prop} (M : zM) (a0 : Nat) (p0 : Nat) (u1 : Option zP) (p2 : Nat) (p3 : Nat) (k : Z E YJ2_init d M (zargs 0 [vr (some (p0, 11, 0))]) 0 [] (zafter E YX9_made (d + 1) [(0, vr (some (a0, 8, 0)))] 123 3 [vr (some (p0, 11, 0)), vr u1, vr (some (p2, 31, 0)), vr (some (p3, 31, 0))] Q)) : Z E YX9_made (d + 1) M [(0, vr (some (a0, 8, 0)))] 122 [vr (some (p0, 11, 0)), vr u1, vr (some (p2, 31, 0)), vr (some (p3, 31, 0))] Q := by
  refine z_dup dX9_made_122 rfl ?_
  exact z_callI (as := []) (st := [vr (some (p0, 11, 0)), vr u1, vr (some (p2, 31, 0)), vr (some (p3, 31, 0))]) dX9_made_123 isX9_11 (Nat.le_refl _) (Nat.le_of_ble_eq_true rfl) (Nat.le_of_ble_eq_true rfl) rfl k
theorem sX9_made_126 {E : zE} {d : Nat} {Q : zO → zM → Prop} (M : zM) (a0 : Nat) (u0 : Option zP) (u1 : Option zP) (p2 : Nat) (p3 : Nat) (k : Z E YX26_init d M (zargs 0 [vr (some (p2, 31, 0)), vr u1, vr u0]) 0 [] (zafter E YX9_made (d + 1) [(0, vr (some (a0, 8, 0)))] 126 3 [vr (some (p3, 31, 0))] Q)) : Z E YX9_made (d + 1) M [(0, vr (some (a0, 8, 0)))] 126 [vr u0, vr u1, vr (some (p2, 31, 0)), vr (some (p3, 31, 0))] Q := by
  exact z_callI (as := [vr u1, vr u0]) (st := [vr (some (p3, 31, 0))]) dX9_made_126 isX9_350 (Nat.le_refl _) (Nat.le_of_ble_eq_true rfl) (Nat.le_of_ble_eq_true rfl) rfl k
theorem sX9_made_129 {E : zE} {d : Nat} {Q : zO → zM → Prop} (M : zM) (a0 : Nat) (p0 : Nat) (k : 16 ≤ a0 ∧ (Q (.inl (some (vr (some (p0, 31, 0))))) (si M a0 4 ((gi M a0 4) - (1 : Int32))))) : Z E YX9_made (d + 1) M [(0, vr (some (a0, 8, 0)))] 129 [vr (some (p0, 31, 0))] Q := by
  refine z_ast_n dX9_made_129 rfl (by decide) (lv' := [(0, vr (some (a0, 8, 0))), (3, vr (some (p0, 31, 0)))]) rfl ?_
  refine z_aload_n dX9_made_130 rfl rfl ?_
  refine z_dup dX9_made_131 rfl ?_
  refine z_geti dX9_made_132 fsX9_31_8 ?_
  refine z_iconst (v := 1) dX9_made_135 rfl ?_
  refine z_isub dX9_made_136 ?_
  obtain ⟨g_, k⟩ := k
  refine z_puti g_ dX9_made_137 (zfwN.w fwX9_31_8) rfl ⟨rfl, rfl⟩ ?_
  refine z_aload_n dX9_made_140 rfl rfl ?_
  exact z_aret dX9_made_141 rfl rfl k
/-! ScriptTypes$Parser.primary()LScriptTypes$Node; -/
theorem bX9_primary_0 : zdec cX9_primary 0 [(0, .aload_n 0, 1), (1, .getfield 27, 3), (4, .getfield 55, 3), (7, .iconst 1, 1), (8, .if_icmp .ne 18, 3), (11, .new 214, 3), (14, .dup, 1), (15, .aload_n 0, 1), (16, .getfield 27, 3), (19, .invokevirtual 79, 3), (22, .invokespecial 216, 3), (25, .areturn, 1), (26, .aload_n 0, 1), (27, .getfield 27, 3), (30, .getfield 55, 3), (33, .iconst 3, 1)] = true := by decide +kernel
theorem dX9_primary_0 : decode cX9_primary 0 = .ok (.aload_n 0, 1) := zdec_at bX9_primary_0 0 rfl
theorem dX9_primary_1 : decode cX9_primary 1 = .ok (.getfield 27, 3) := zdec_at bX9_primary_0 1 rfl
theorem dX9_primary_4 : decode cX9_primary 4 = .ok (.getfield 55, 3) := zdec_at bX9_primary_0 2 rfl
theorem dX9_primary_7 : decode cX9_primary 7 = .ok (.iconst 1, 1) := zdec_at bX9_primary_0 3 rfl
theorem dX9_primary_8 : decode cX9_primary 8 = .ok (.if_icmp .ne 18, 3) := zdec_at bX9_primary_0 4 rfl
theorem dX9_primary_11 : decode cX9_primary 11 = .ok (.new 214, 3) := zdec_at bX9_primary_0 5 rfl
theorem dX9_primary_14 : decode cX9_primary 14 = .ok (.dup, 1) := zdec_at bX9_primary_0 6 rfl
theorem dX9_primary_15 : decode cX9_primary 15 = .ok (.aload_n 0, 1) := zdec_at bX9_primary_0 7 rfl
theorem dX9_primary_16 : decode cX9_primary 16 = .ok (.getfield 27, 3) := zdec_at bX9_primary_0 8 rfl
theorem dX9_primary_19 : decode cX9_primary 19 = .ok (.invokevirtual 79, 3) := zdec_at bX9_primary_0 9 rfl
theorem dX9_primary_22 : decode cX9_primary 22 = .ok (.invokespecial 216, 3) := zdec_at bX9_primary_0 10 rfl
theorem dX9_primary_25 : decode cX9_primary 25 = .ok (.areturn, 1) := zdec_at bX9_primary_0 11 rfl
theorem dX9_primary_26 : decode cX9_primary 26 = .ok (.aload_n 0, 1) := zdec_at bX9_primary_0 12 rfl
theorem dX9_primary_27 : decode cX9_primary 27 = .ok (.getfield 27, 3) := zdec_at bX9_primary_0 13 rfl
theorem dX9_primary_30 : decode cX9_primary 30 = .ok (.getfield 55, 3) := zdec_at bX9_primary_0 14 rfl
theorem dX9_primary_33 : decode cX9_primary 33 = .ok (.iconst 3, 1) := zdec_at bX9_primary_0 15 rfl
theorem bX9_primary_34 : zdec cX9_primary 34 [(34, .if_icmp .ne 28, 3), (37, .new 353, 3), (40, .dup, 1), (41, .iconst 5, 1), (42, .aload_n 0, 1), (43, .getfield 27, 3), (46, .getfield 355, 3), (49, .invokespecial 358, 3), (52, .astore_n 1, 1), (53, .aload_n 0, 1), (54, .getfield 27, 3), (57, .invokevirtual 52, 3), (60, .aload_n 1, 1), (61, .areturn, 1), (62, .aload_n 0, 1), (63, .getfield 27, 3)] = true := by decide +kernel
theorem dX9_primary_34 : decode cX9_primary 34 = .ok (.if_icmp .ne 28, 3) := zdec_at bX9_primary_34 0 rfl
theorem dX9_primary_37 : decode cX9_primary 37 = .ok (.new 353, 3) := zdec_at bX9_primary_34 1 rfl
theorem dX9_primary_40 : decode cX9_primary 40 = .ok (.dup, 1) := zdec_at bX9_primary_34 2 rfl
theorem dX9_primary_41 : decode cX9_primary 41 = .ok (.iconst 5, 1) := zdec_at bX9_primary_34 3 rfl
theorem dX9_primary_42 : decode cX9_primary 42 = .ok (.aload_n 0, 1) := zdec_at bX9_primary_34 4 rfl
theorem dX9_primary_43 : decode cX9_primary 43 = .ok (.getfield 27, 3) := zdec_at bX9_primary_34 5 rfl
theorem dX9_primary_46 : decode cX9_primary 46 = .ok (.getfield 355, 3) := zdec_at bX9_primary_34 6 rfl
theorem dX9_primary_49 : decode cX9_primary 49 = .ok (.invokespecial 358, 3) := zdec_at bX9_primary_34 7 rfl
theorem dX9_primary_52 : decode cX9_primary 52 = .ok (.astore_n 1, 1) := zdec_at bX9_primary_34 8 rfl
theorem dX9_primary_53 : decode cX9_primary 53 = .ok (.aload_n 0, 1) := zdec_at bX9_primary_34 9 rfl
theorem dX9_primary_54 : decode cX9_primary 54 = .ok (.getfield 27, 3) := zdec_at bX9_primary_34 10 rfl
theorem dX9_primary_57 : decode cX9_primary 57 = .ok (.invokevirtual 52, 3) := zdec_at bX9_primary_34 11 rfl
theorem dX9_primary_60 : decode cX9_primary 60 = .ok (.aload_n 1, 1) := zdec_at bX9_primary_34 12 rfl
theorem dX9_primary_61 : decode cX9_primary 61 = .ok (.areturn, 1) := zdec_at bX9_primary_34 13 rfl
theorem dX9_primary_62 : decode cX9_primary 62 = .ok (.aload_n 0, 1) := zdec_at bX9_primary_34 14 rfl
theorem dX9_primary_63 : decode cX9_primary 63 = .ok (.getfield 27, 3) := zdec_at bX9_primary_34 15 rfl
theorem bX9_primary_66 : zdec cX9_primary 66 [(66, .getfield 55, 3), (69, .iconst 4, 1), (70, .if_icmp .ne 29, 3), (73, .new 353, 3), (76, .dup, 1), (77, .bipush 6, 2), (79, .aload_n 0, 1), (80, .getfield 27, 3), (83, .getfield 114, 3), (86, .invokespecial 358, 3), (89, .astore_n 1, 1), (90, .aload_n 0, 1), (91, .getfield 27, 3), (94, .invokevirtual 52, 3), (97, .aload_n 1, 1), (98, .areturn, 1)] = true := by decide +kernel
theorem dX9_primary_66 : decode cX9_primary 66 = .ok (.getfield 55, 3) := zdec_at bX9_primary_66 0 rfl
theorem dX9_primary_69 : decode cX9_primary 69 = .ok (.iconst 4, 1) := zdec_at bX9_primary_66 1 rfl
theorem dX9_primary_70 : decode cX9_primary 70 = .ok (.if_icmp .ne 29, 3) := zdec_at bX9_primary_66 2 rfl
theorem dX9_primary_73 : decode cX9_primary 73 = .ok (.new 353, 3) := zdec_at bX9_primary_66 3 rfl
theorem dX9_primary_76 : decode cX9_primary 76 = .ok (.dup, 1) := zdec_at bX9_primary_66 4 rfl
theorem dX9_primary_77 : decode cX9_primary 77 = .ok (.bipush 6, 2) := zdec_at bX9_primary_66 5 rfl
theorem dX9_primary_79 : decode cX9_primary 79 = .ok (.aload_n 0, 1) := zdec_at bX9_primary_66 6 rfl
theorem dX9_primary_80 : decode cX9_primary 80 = .ok (.getfield 27, 3) := zdec_at bX9_primary_66 7 rfl
theorem dX9_primary_83 : decode cX9_primary 83 = .ok (.getfield 114, 3) := zdec_at bX9_primary_66 8 rfl
theorem dX9_primary_86 : decode cX9_primary 86 = .ok (.invokespecial 358, 3) := zdec_at bX9_primary_66 9 rfl
theorem dX9_primary_89 : decode cX9_primary 89 = .ok (.astore_n 1, 1) := zdec_at bX9_primary_66 10 rfl
theorem dX9_primary_90 : decode cX9_primary 90 = .ok (.aload_n 0, 1) := zdec_at bX9_primary_66 11 rfl
theorem dX9_primary_91 : decode cX9_primary 91 = .ok (.getfield 27, 3) := zdec_at bX9_primary_66 12 rfl
theorem dX9_primary_94 : decode cX9_primary 94 = .ok (.invokevirtual 52, 3) := zdec_at bX9_primary_66 13 rfl
theorem dX9_primary_97 : decode cX9_primary 97 = .ok (.aload_n 1, 1) := zdec_at bX9_primary_66 14 rfl
theorem dX9_primary_98 : decode cX9_primary 98 = .ok (.areturn, 1) := zdec_at bX9_primary_66 15 rfl
theorem bX9_primary_99 : zdec cX9_primary 99 [(99, .aload_n 0, 1), (100, .getfield 27, 3), (103, .getfield 55, 3), (106, .iconst 2, 1), (107, .if_icmp .ne 8, 3), (110, .aload_n 0, 1), (111, .invokevirtual 361, 3), (114, .areturn, 1), (115, .aload_n 0, 1), (116, .getfield 27, 3), (119, .iconst 2, 1), (120, .invokevirtual 111, 3), (123, .ifCond .eq 47, 3), (126, .aload_n 0, 1), (127, .invokevirtual 72, 3), (130, .aload_n 0, 1)] = true := by decide +kernel
theorem dX9_primary_99 : decode cX9_primary 99 = .ok (.aload_n 0, 1) := zdec_at bX9_primary_99 0 rfl
theorem dX9_primary_100 : decode cX9_primary 100 = .ok (.getfield 27, 3) := zdec_at bX9_primary_99 1 rfl
theorem dX9_primary_103 : decode cX9_primary 103 = .ok (.getfield 55, 3) := zdec_at bX9_primary_99 2 rfl
theorem dX9_primary_106 : decode cX9_primary 106 = .ok (.iconst 2, 1) := zdec_at bX9_primary_99 3 rfl
theorem dX9_primary_107 : decode cX9_primary 107 = .ok (.if_icmp .ne 8, 3) := zdec_at bX9_primary_99 4 rfl
theorem dX9_primary_110 : decode cX9_primary 110 = .ok (.aload_n 0, 1) := zdec_at bX9_primary_99 5 rfl
theorem dX9_primary_111 : decode cX9_primary 111 = .ok (.invokevirtual 361, 3) := zdec_at bX9_primary_99 6 rfl
theorem dX9_primary_114 : decode cX9_primary 114 = .ok (.areturn, 1) := zdec_at bX9_primary_99 7 rfl
theorem dX9_primary_115 : decode cX9_primary 115 = .ok (.aload_n 0, 1) := zdec_at bX9_primary_99 8 rfl
theorem dX9_primary_116 : decode cX9_primary 116 = .ok (.getfield 27, 3) := zdec_at bX9_primary_99 9 rfl
theorem dX9_primary_119 : decode cX9_primary 119 = .ok (.iconst 2, 1) := zdec_at bX9_primary_99 10 rfl
theorem dX9_primary_120 : decode cX9_primary 120 = .ok (.invokevirtual 111, 3) := zdec_at bX9_primary_99 11 rfl
theorem dX9_primary_123 : decode cX9_primary 123 = .ok (.ifCond .eq 47, 3) := zdec_at bX9_primary_99 12 rfl
theorem dX9_primary_126 : decode cX9_primary 126 = .ok (.aload_n 0, 1) := zdec_at bX9_primary_99 13 rfl
theorem dX9_primary_127 : decode cX9_primary 127 = .ok (.invokevirtual 72, 3) := zdec_at bX9_primary_99 14 rfl
theorem dX9_primary_130 : decode cX9_primary 130 = .ok (.aload_n 0, 1) := zdec_at bX9_primary_99 15 rfl
theorem bX9_primary_131 : zdec cX9_primary 131 [(131, .getfield 27, 3), (134, .invokevirtual 52, 3), (137, .new 364, 3), (140, .dup, 1), (141, .aload_n 0, 1), (142, .iconst 1, 1), (143, .invokevirtual 145, 3), (146, .invokespecial 366, 3), (149, .astore_n 1, 1), (150, .aload_n 0, 1), (151, .getfield 27, 3), (154, .iconst 3, 1), (155, .invokevirtual 108, 3), (158, .aload_n 0, 1), (159, .dup, 1), (160, .getfield 31, 3)] = true := by decide +kernel
theorem dX9_primary_131 : decode cX9_primary 131 = .ok (.getfield 27, 3) := zdec_at bX9_primary_131 0 rfl
theorem dX9_primary_134 : decode cX9_primary 134 = .ok (.invokevirtual 52, 3) := zdec_at bX9_primary_131 1 rfl
theorem dX9_primary_137 : decode cX9_primary 137 = .ok (.new 364, 3) := zdec_at bX9_primary_131 2 rfl
theorem dX9_primary_140 : decode cX9_primary 140 = .ok (.dup, 1) := zdec_at bX9_primary_131 3 rfl
theorem dX9_primary_141 : decode cX9_primary 141 = .ok (.aload_n 0, 1) := zdec_at bX9_primary_131 4 rfl
theorem dX9_primary_142 : decode cX9_primary 142 = .ok (.iconst 1, 1) := zdec_at bX9_primary_131 5 rfl
theorem dX9_primary_143 : decode cX9_primary 143 = .ok (.invokevirtual 145, 3) := zdec_at bX9_primary_131 6 rfl
theorem dX9_primary_146 : decode cX9_primary 146 = .ok (.invokespecial 366, 3) := zdec_at bX9_primary_131 7 rfl
theorem dX9_primary_149 : decode cX9_primary 149 = .ok (.astore_n 1, 1) := zdec_at bX9_primary_131 8 rfl
theorem dX9_primary_150 : decode cX9_primary 150 = .ok (.aload_n 0, 1) := zdec_at bX9_primary_131 9 rfl
theorem dX9_primary_151 : decode cX9_primary 151 = .ok (.getfield 27, 3) := zdec_at bX9_primary_131 10 rfl
theorem dX9_primary_154 : decode cX9_primary 154 = .ok (.iconst 3, 1) := zdec_at bX9_primary_131 11 rfl
theorem dX9_primary_155 : decode cX9_primary 155 = .ok (.invokevirtual 108, 3) := zdec_at bX9_primary_131 12 rfl
theorem dX9_primary_158 : decode cX9_primary 158 = .ok (.aload_n 0, 1) := zdec_at bX9_primary_131 13 rfl
theorem dX9_primary_159 : decode cX9_primary 159 = .ok (.dup, 1) := zdec_at bX9_primary_131 14 rfl
theorem dX9_primary_160 : decode cX9_primary 160 = .ok (.getfield 31, 3) := zdec_at bX9_primary_131 15 rfl
theorem bX9_primary_163 : zdec cX9_primary 163 [(163, .iconst 1, 1), (164, .isub, 1), (165, .putfield 31, 3), (168, .aload_n 1, 1), (169, .areturn, 1), (170, .aload_n 0, 1), (171, .getfield 27, 3), (174, .iconst 4, 1), (175, .invokevirtual 111, 3), (178, .ifCond .ne 23, 3), (181, .aload_n 0, 1), (182, .getfield 27, 3), (185, .iconst 0, 1), (186, .invokevirtual 111, 3), (189, .ifCond .ne 12, 3), (192, .aload_n 0, 1)] = true := by decide +kernel
theorem dX9_primary_163 : decode cX9_primary 163 = .ok (.iconst 1, 1) := zdec_at bX9_primary_163 0 rfl
theorem dX9_primary_164 : decode cX9_primary 164 = .ok (.isub, 1) := zdec_at bX9_primary_163 1 rfl
theorem dX9_primary_165 : decode cX9_primary 165 = .ok (.putfield 31, 3) := zdec_at bX9_primary_163 2 rfl
theorem dX9_primary_168 : decode cX9_primary 168 = .ok (.aload_n 1, 1) := zdec_at bX9_primary_163 3 rfl
theorem dX9_primary_169 : decode cX9_primary 169 = .ok (.areturn, 1) := zdec_at bX9_primary_163 4 rfl
theorem dX9_primary_170 : decode cX9_primary 170 = .ok (.aload_n 0, 1) := zdec_at bX9_primary_163 5 rfl
theorem dX9_primary_171 : decode cX9_primary 171 = .ok (.getfield 27, 3) := zdec_at bX9_primary_163 6 rfl
theorem dX9_primary_174 : decode cX9_primary 174 = .ok (.iconst 4, 1) := zdec_at bX9_primary_163 7 rfl
theorem dX9_primary_175 : decode cX9_primary 175 = .ok (.invokevirtual 111, 3) := zdec_at bX9_primary_163 8 rfl
theorem dX9_primary_178 : decode cX9_primary 178 = .ok (.ifCond .ne 23, 3) := zdec_at bX9_primary_163 9 rfl
theorem dX9_primary_181 : decode cX9_primary 181 = .ok (.aload_n 0, 1) := zdec_at bX9_primary_163 10 rfl
theorem dX9_primary_182 : decode cX9_primary 182 = .ok (.getfield 27, 3) := zdec_at bX9_primary_163 11 rfl
theorem dX9_primary_185 : decode cX9_primary 185 = .ok (.iconst 0, 1) := zdec_at bX9_primary_163 12 rfl
theorem dX9_primary_186 : decode cX9_primary 186 = .ok (.invokevirtual 111, 3) := zdec_at bX9_primary_163 13 rfl
theorem dX9_primary_189 : decode cX9_primary 189 = .ok (.ifCond .ne 12, 3) := zdec_at bX9_primary_163 14 rfl
theorem dX9_primary_192 : decode cX9_primary 192 = .ok (.aload_n 0, 1) := zdec_at bX9_primary_163 15 rfl
theorem bX9_primary_193 : zdec cX9_primary 193 [(193, .getfield 27, 3), (196, .iconst 2, 1), (197, .invokevirtual 35, 3), (200, .athrow, 1), (201, .aload_n 0, 1), (202, .invokevirtual 72, 3), (205, .aload_n 0, 1), (206, .aload_n 0, 1), (207, .getfield 27, 3), (210, .iconst 4, 1), (211, .invokevirtual 111, 3), (214, .invokevirtual 367, 3), (217, .astore_n 1, 1), (218, .aload_n 0, 1), (219, .dup, 1), (220, .getfield 31, 3)] = true := by decide +kernel
theorem dX9_primary_193 : decode cX9_primary 193 = .ok (.getfield 27, 3) := zdec_at bX9_primary_193 0 rfl
theorem dX9_primary_196 : decode cX9_primary 196 = .ok (.iconst 2, 1) := zdec_at bX9_primary_193 1 rfl
theorem dX9_primary_197 : decode cX9_primary 197 = .ok (.invokevirtual 35, 3) := zdec_at bX9_primary_193 2 rfl
theorem dX9_primary_200 : decode cX9_primary 200 = .ok (.athrow, 1) := zdec_at bX9_primary_193 3 rfl
theorem dX9_primary_201 : decode cX9_primary 201 = .ok (.aload_n 0, 1) := zdec_at bX9_primary_193 4 rfl
theorem dX9_primary_202 : decode cX9_primary 202 = .ok (.invokevirtual 72, 3) := zdec_at bX9_primary_193 5 rfl
theorem dX9_primary_205 : decode cX9_primary 205 = .ok (.aload_n 0, 1) := zdec_at bX9_primary_193 6 rfl
theorem dX9_primary_206 : decode cX9_primary 206 = .ok (.aload_n 0, 1) := zdec_at bX9_primary_193 7 rfl
theorem dX9_primary_207 : decode cX9_primary 207 = .ok (.getfield 27, 3) := zdec_at bX9_primary_193 8 rfl
theorem dX9_primary_210 : decode cX9_primary 210 = .ok (.iconst 4, 1) := zdec_at bX9_primary_193 9 rfl
theorem dX9_primary_211 : decode cX9_primary 211 = .ok (.invokevirtual 111, 3) := zdec_at bX9_primary_193 10 rfl
theorem dX9_primary_214 : decode cX9_primary 214 = .ok (.invokevirtual 367, 3) := zdec_at bX9_primary_193 11 rfl
theorem dX9_primary_217 : decode cX9_primary 217 = .ok (.astore_n 1, 1) := zdec_at bX9_primary_193 12 rfl
theorem dX9_primary_218 : decode cX9_primary 218 = .ok (.aload_n 0, 1) := zdec_at bX9_primary_193 13 rfl
theorem dX9_primary_219 : decode cX9_primary 219 = .ok (.dup, 1) := zdec_at bX9_primary_193 14 rfl
theorem dX9_primary_220 : decode cX9_primary 220 = .ok (.getfield 31, 3) := zdec_at bX9_primary_193 15 rfl
theorem bX9_primary_223 : zdec cX9_primary 223 [(223, .iconst 1, 1), (224, .isub, 1), (225, .putfield 31, 3), (228, .aload_n 1, 1), (229, .areturn, 1)] = true := by decide +kernel
theorem dX9_primary_223 : decode cX9_primary 223 = .ok (.iconst 1, 1) := zdec_at bX9_primary_223 0 rfl
theorem dX9_primary_224 : decode cX9_primary 224 = .ok (.isub, 1) := zdec_at bX9_primary_223 1 rfl
theorem dX9_primary_225 : decode cX9_primary 225 = .ok (.putfield 31, 3) := zdec_at bX9_primary_223 2 rfl
theorem dX9_primary_228 : decode cX9_primary 228 = .ok (.aload_n 1, 1) := zdec_at bX9_primary_223 3 rfl
theorem dX9_primary_229 : decode cX9_primary 229 = .ok (.areturn, 1) := zdec_at bX9_primary_223 4 rfl
theorem sX9_primary_0 {E : zE} {d : Nat} {Q : zO → zM → Prop} (M : zM) (a0 : Nat) (k : ∃ b1 : Nat, (gr M a0 1) = some (b1, 9, 0) ∧ (if (gi M b1 3) = (1 : Int32) then (Z E YX9_primary (d + 1) (zn M 1) [(0, vr (some (a0, 8, 0)))] 14 [vr (some ((zsz M), 23, 0))] Q) else (∃ b2 : Nat, (gr M a0 1) = some (b2, 9, 0) ∧ (if (gi M b2 3) = (3 : Int32) then (Z E YX9_primary (d + 1) (zn M 2) [(0, vr (some (a0, 8, 0)))] 40 [vr (some ((zsz M), 24, 0))] Q) else (∃ b3 : Nat, (gr M a0 1) = some (b3, 9, 0) ∧ (if (gi M b3 3) = (4 : Int32) then (Z E YX9_primary (d + 1) (zn M 2) [(0, vr (some (a0, 8, 0)))] 76 [vr (some ((zsz M), 24, 0))] Q) else (∃ b4 : Nat, (gr M a0 1) = some (b4, 9, 0) ∧ (if (gi M b4 3) = (2 : Int32) then (Z E YX9_wordAlone d M (zargs 0 [vr (some (a0, 8, 0))]) 0 [] (zafter E YX9_primary (d + 1) [] 111 3 [] Q)) else (∃ b5 : Nat, (gr M a0 1) = some (b5, 9, 0) ∧ (Z E YX10_is d M (zargs 0 [vr (some (b5, 9, 0)), vi (2 : Int32)]) 0 [] (zafter E YX9_primary (d + 1) [(0, vr (some (a0, 8, 0)))] 120 3 [] Q))))))))))) : Z E YX9_primary (d + 1) M [(0, vr (some (a0, 8, 0)))] 0 [] Q := by
  refine z_aload_n dX9_primary_0 rfl rfl ?_
  refine z_getr (r := (gr M a0 1)) dX9_primary_1 fsX9_27_8 rfl ?_
  obtain ⟨b1, e1_, k⟩ := k
  refine Z.eqs (lv' := [(0, vr (some (a0, 8, 0)))]) (st' := [vr (some (b1, 9, 0))]) rfl (by rw [e1_] <;> rfl) ?_
  refine z_geti dX9_primary_4 fsX9_55_9 ?_
  refine z_iconst (v := 1) dX9_primary_7 rfl ?_
  refine z_icmp_ne (tgt := 26) dX9_primary_8 rfl (fun h_ => ?_) (fun h_ => ?_)
  · have k := zif h_ k
    refine z_aload_n dX9_primary_26 rfl rfl ?_
    refine z_getr (r := (gr M a0 1)) dX9_primary_27 fsX9_27_8 rfl ?_
    obtain ⟨b2, e2_, k⟩ := k
    refine Z.eqs (lv' := [(0, vr (some (a0, 8, 0)))]) (st' := [vr (some (b2, 9, 0))]) rfl (by rw [e2_] <;> rfl) ?_
    refine z_geti dX9_primary_30 fsX9_55_9 ?_
    refine z_iconst (v := 3) dX9_primary_33 rfl ?_
    refine z_icmp_ne (tgt := 62) dX9_primary_34 rfl (fun h_ => ?_) (fun h_ => ?_)
    · have k := zif h_ k
      refine z_aload_n dX9_primary_62 rfl rfl ?_
      refine z_getr (r := (gr M a0 1)) dX9_primary_63 fsX9_27_8 rfl ?_
      obtain ⟨b3, e3_, k⟩ := k
      refine Z.eqs (lv' := [(0, vr (some (a0, 8, 0)))]) (st' := [vr (some (b3, 9, 0))]) rfl (by rw [e3_] <;> rfl) ?_
      refine z_geti dX9_primary_66 fsX9_55_9 ?_
      refine z_iconst (v := 4) dX9_primary_69 rfl ?_
      refine z_icmp_ne (tgt := 99) dX9_primary_70 rfl (fun h_ => ?_) (fun h_ => ?_)
      · have k := zif h_ k
        refine z_aload_n dX9_primary_99 rfl rfl ?_
        refine z_getr (r := (gr M a0 1)) dX9_primary_100 fsX9_27_8 rfl ?_
        obtain ⟨b4, e4_, k⟩ := k
        refine Z.eqs (lv' := [(0, vr (some (a0, 8, 0)))]) (st' := [vr (some (b4, 9, 0))]) rfl (by rw [e4_] <;> rfl) ?_
        refine z_geti dX9_primary_103 fsX9_55_9 ?_
        refine z_iconst (v := 2) dX9_primary_106 rfl ?_
        refine z_icmp_ne (tgt := 115) dX9_primary_107 rfl (fun h_ => ?_) (fun h_ => ?_)
        · have k := zif h_ k
          refine z_aload_n dX9_primary_115 rfl rfl ?_
          refine z_getr (r := (gr M a0 1)) dX9_primary_116 fsX9_27_8 rfl ?_
          refine z_iconst (v := 2) dX9_primary_119 rfl ?_
          obtain ⟨b5, e5_, k⟩ := k
          refine Z.eqs (lv' := [(0, vr (some (a0, 8, 0)))]) (st' := [vi (2 : Int32), vr (some (b5, 9, 0))]) rfl (by rw [e5_] <;> rfl) ?_
          exact z_callV (as := [vi (2 : Int32)]) (st := []) dX9_primary_120 vsX9_111_9 (Nat.le_refl _) (Nat.le_of_ble_eq_true rfl) (Nat.le_of_ble_eq_true rfl) rfl k
        · have k := zit h_ k
          refine z_aload_n dX9_primary_110 rfl rfl ?_
          refine Z.pick [] rfl ?_
          exact z_callV (as := []) (st := []) dX9_primary_111 vsX9_361_8 (Nat.le_refl _) (Nat.le_of_ble_eq_true rfl) (Nat.le_of_ble_eq_true rfl) rfl k
      · have k := zit h_ k
        refine z_new dX9_primary_73 csX9_353 zff_24 ?_
        exact k
    · have k := zit h_ k
      refine z_new dX9_primary_37 csX9_353 zff_24 ?_
      exact k
  · have k := zit h_ k
    refine z_new dX9_primary_11 csX9_214 zff_23 ?_
    exact k
theorem sX9_primary_14 {E : zE} {d : Nat} {Q : zO → zM → Prop} (M : zM) (a0 : Nat) (p0 : Nat) (k : ∃ b1 : Nat, (gr M a0 1) = some (b1, 9, 0) ∧ (Z E YX10_needName d M (zargs 0 [vr (some (b1, 9, 0))]) 0 [] (zafter E YX9_primary (d + 1) [] 19 3 [vr (some (p0, 23, 0)), vr (some (p0, 23, 0))] Q))) : Z E YX9_primary (d + 1) M [(0, vr (some (a0, 8, 0)))] 14 [vr (some (p0, 23, 0))] Q := by
  refine z_dup dX9_primary_14 rfl ?_
  refine z_aload_n dX9_primary_15 rfl rfl ?_
  refine z_getr (r := (gr M a0 1)) dX9_primary_16 fsX9_27_8 rfl ?_
  obtain ⟨b1, e1_, k⟩ := k
  refine Z.eqs (lv' := [(0, vr (some (a0, 8, 0)))]) (st' := [vr (some (b1, 9, 0)), vr (some (p0, 23, 0)), vr (some (p0, 23, 0))]) rfl (by rw [e1_] <;> rfl) ?_
  refine Z.pick [] rfl ?_
  exact z_callV (as := []) (st := [vr (some (p0, 23, 0)), vr (some (p0, 23, 0))]) dX9_primary_19 vsX9_79_9 (Nat.le_refl _) (Nat.le_of_ble_eq_true rfl) (Nat.le_of_ble_eq_true rfl) rfl k
theorem sX9_primary_22 {E : zE} {d : Nat} {Q : zO → zM → Prop} (M : zM) (s0 : Int32) (p1 : Nat) (p2 : Nat) (k : Z E YX17_init d M (zargs 0 [vr (some (p1, 23, 0)), vi s0]) 0 [] (zafter E YX9_primary (d + 1) [] 22 3 [vr (some (p2, 23, 0))] Q)) : Z E YX9_primary (d + 1) M [] 22 [vi s0, vr (some (p1, 23, 0)), vr (some (p2, 23, 0))] Q := by
  exact z_callI (as := [vi s0]) (st := [vr (some (p2, 23, 0))]) dX9_primary_22 isX9_216 (Nat.le_refl _) (Nat.le_of_ble_eq_true rfl) (Nat.le_of_ble_eq_true rfl) rfl k
theorem sX9_primary_25 {E : zE} {d : Nat} {Q : zO → zM → Prop} (M : zM) (p0 : Nat) (k : Q (.inl (some (vr (some (p0, 23, 0))))) M) : Z E YX9_primary (d + 1) M [] 25 [vr (some (p0, 23, 0))] Q := by
  exact z_aret dX9_primary_25 rfl rfl k
theorem sX9_primary_40 {E : zE} {d : Nat} {Q : zO → zM → Prop} (M : zM) (a0 : Nat) (p0 : Nat) (k : ∃ b1 : Nat, (gr M a0 1) = some (b1, 9, 0) ∧ (Z E YX18_init d M (zargs 0 [vr (some (p0, 24, 0)), vi (5 : Int32), vi (gi M b1 7)]) 0 [] (zafter E YX9_primary (d + 1) [(0, vr (some (a0, 8, 0)))] 49 3 [vr (some (p0, 24, 0))] Q))) : Z E YX9_primary (d + 1) M [(0, vr (some (a0, 8, 0)))] 40 [vr (some (p0, 24, 0))] Q := by
  refine z_dup dX9_primary_40 rfl ?_
  refine z_iconst (v := 5) dX9_primary_41 rfl ?_
  refine z_aload_n dX9_primary_42 rfl rfl ?_
  refine z_getr (r := (gr M a0 1)) dX9_primary_43 fsX9_27_8 rfl ?_
  obtain ⟨b1, e1_, k⟩ := k
  refine Z.eqs (lv' := [(0, vr (some (a0, 8, 0)))]) (st' := [vr (some (b1, 9, 0)), vi (5 : Int32), vr (some (p0, 24, 0)), vr (some (p0, 24, 0))]) rfl (by rw [e1_] <;> rfl) ?_
  refine z_geti dX9_primary_46 fsX9_355_9 ?_
  exact z_callI (as := [vi (5 : Int32), vi (gi M b1 7)]) (st := [vr (some (p0, 24, 0))]) dX9_primary_49 isX9_358 (Nat.le_refl _) (Nat.le_of_ble_eq_true rfl) (Nat.le_of_ble_eq_true rfl) rfl k
theorem sX9_primary_52 {E : zE} {d : Nat} {Q : zO → zM → Prop} (M : zM) (a0 : Nat) (p0 : Nat) (k : ∃ b1 : Nat, (gr M a0 1) = some (b1, 9, 0) ∧ (Z E YX10_next d M (zargs 0 [vr (some (b1, 9, 0))]) 0 [] (zafter E YX9_primary (d + 1) [(1, vr (some (p0, 24, 0)))] 57 3 [] Q))) : Z E YX9_primary (d + 1) M [(0, vr (some (a0, 8, 0)))] 52 [vr (some (p0, 24, 0))] Q := by
  refine z_ast_n dX9_primary_52 rfl (by decide) (lv' := [(0, vr (some (a0, 8, 0))), (1, vr (some (p0, 24, 0)))]) rfl ?_
  refine z_aload_n dX9_primary_53 rfl rfl ?_
  refine z_getr (r := (gr M a0 1)) dX9_primary_54 fsX9_27_8 rfl ?_
  obtain ⟨b1, e1_, k⟩ := k
  refine Z.eqs (lv' := [(0, vr (some (a0, 8, 0))), (1, vr (some (p0, 24, 0)))]) (st' := [vr (some (b1, 9, 0))]) rfl (by rw [e1_] <;> rfl) ?_
  refine Z.pick [1] rfl ?_
  exact z_callV (as := []) (st := []) dX9_primary_57 vsX9_52_9 (Nat.le_refl _) (Nat.le_of_ble_eq_true rfl) (Nat.le_of_ble_eq_true rfl) rfl k
theorem sX9_primary_60 {E : zE} {d : Nat} {Q : zO → zM → Prop} (M : zM) (a1 : Nat) (k : Q (.inl (some (vr (some (a1, 24, 0))))) M) : Z E YX9_primary (d + 1) M [(1, vr (some (a1, 24, 0)))] 60 [] Q := by
  refine z_aload_n dX9_primary_60 rfl rfl ?_
  exact z_aret dX9_primary_61 rfl rfl k
theorem sX9_primary_76 {E : zE} {d : Nat} {Q : zO → zM → Prop} (M : zM) (a0 : Nat) (p0 : Nat) (k : ∃ b1 : Nat, (gr M a0 1) = some (b1, 9, 0) ∧ (Z E YX18_init d M (zargs 0 [vr (some (p0, 24, 0)), vi (6 : Int32), vi (gi M b1 6)]) 0 [] (zafter E YX9_primary (d + 1) [(0, vr (some (a0, 8, 0)))] 86 3 [vr (some (p0, 24, 0))] Q))) : Z E YX9_primary (d + 1) M [(0, vr (some (a0, 8, 0)))] 76 [vr (some (p0, 24, 0))] Q := by
  refine z_dup dX9_primary_76 rfl ?_
  refine z_bipush (v := 6) dX9_primary_77 rfl ?_
  refine z_aload_n dX9_primary_79 rfl rfl ?_
  refine z_getr (r := (gr M a0 1)) dX9_primary_80 fsX9_27_8 rfl ?_
  obtain ⟨b1, e1_, k⟩ := k
  refine Z.eqs (lv' := [(0, vr (some (a0, 8, 0)))]) (st' := [vr (some (b1, 9, 0)), vi (6 : Int32), vr (some (p0, 24, 0)), vr (some (p0, 24, 0))]) rfl (by rw [e1_] <;> rfl) ?_
  refine z_geti dX9_primary_83 fsX9_114_9 ?_
  exact z_callI (as := [vi (6 : Int32), vi (gi M b1 6)]) (st := [vr (some (p0, 24, 0))]) dX9_primary_86 isX9_358 (Nat.le_refl _) (Nat.le_of_ble_eq_true rfl) (Nat.le_of_ble_eq_true rfl) rfl k
theorem sX9_primary_89 {E : zE} {d : Nat} {Q : zO → zM → Prop} (M : zM) (a0 : Nat) (p0 : Nat) (k : ∃ b1 : Nat, (gr M a0 1) = some (b1, 9, 0) ∧ (Z E YX10_next d M (zargs 0 [vr (some (b1, 9, 0))]) 0 [] (zafter E YX9_primary (d + 1) [(1, vr (some (p0, 24, 0)))] 94 3 [] Q))) : Z E YX9_primary (d + 1) M [(0, vr (some (a0, 8, 0)))] 89 [vr (some (p0, 24, 0))] Q := by
  refine z_ast_n dX9_primary_89 rfl (by decide) (lv' := [(0, vr (some (a0, 8, 0))), (1, vr (some (p0, 24, 0)))]) rfl ?_
  refine z_aload_n dX9_primary_90 rfl rfl ?_
  refine z_getr (r := (gr M a0 1)) dX9_primary_91 fsX9_27_8 rfl ?_
  obtain ⟨b1, e1_, k⟩ := k
  refine Z.eqs (lv' := [(0, vr (some (a0, 8, 0))), (1, vr (some (p0, 24, 0)))]) (st' := [vr (some (b1, 9, 0))]) rfl (by rw [e1_] <;> rfl) ?_
  refine Z.pick [1] rfl ?_
  exact z_callV (as := []) (st := []) dX9_primary_94 vsX9_52_9 (Nat.le_refl _) (Nat.le_of_ble_eq_true rfl) (Nat.le_of_ble_eq_true rfl) rfl k
theorem sX9_primary_97 {E : zE} {d : Nat} {Q : zO → zM → Prop} (M : zM) (a1 : Nat) (k : Q (.inl (some (vr (some (a1, 24, 0))))) M) : Z E YX9_primary (d + 1) M [(1, vr (some (a1, 24, 0)))] 97 [] Q := by
  refine z_aload_n dX9_primary_97 rfl rfl ?_
  exact z_aret dX9_primary_98 rfl rfl k
theorem sX9_primary_114 {E : zE} {d : Nat} {Q : zO → zM → Prop} (M : zM) (u0 : Option zP) (k : Q (.inl (some (vr u0))) M) : Z E YX9_primary (d + 1) M [] 114 [vr u0] Q := by
  exact z_aret dX9_primary_114 rfl rfl k
theorem sX9_primary_123 {E : zE} {d : Nat} {Q : zO → zM → Prop} (M : zM) (a0 : Nat) (s0 : Int32) (k : if s0 = 0 then (∃ b1 : Nat, (gr M a0 1) = some (b1, 9, 0) ∧ (Z E YX10_is d M (zargs 0 [vr (some (b1, 9, 0)), vi (4 : Int32)]) 0 [] (zafter E YX9_primary (d + 1) [(0, vr (some (a0, 8, 0)))] 175 3 [] Q))) else (Z E YX9_opens d M (zargs 0 [vr (some (a0, 8, 0))]) 0 [] (zafter E YX9_primary (d + 1) [(0, vr (some (a0, 8, 0)))] 127 3 [] Q))) : Z E YX9_primary (d + 1) M [(0, vr (some (a0, 8, 0)))] 123 [vi s0] Q := by
  refine z_if_eq (tgt := 170) dX9_primary_123 rfl (fun h_ => ?_) (fun h_ => ?_)
  · have k := zit h_ k
    refine z_aload_n dX9_primary_170 rfl rfl ?_
    refine z_getr (r := (gr M a0 1)) dX9_primary_171 fsX9_27_8 rfl ?_
    refine z_iconst (v := 4) dX9_primary_174 rfl ?_
    obtain ⟨b1, e1_, k⟩ := k
    refine Z.eqs (lv' := [(0, vr (some (a0, 8, 0)))]) (st' := [vi (4 : Int32), vr (some (b1, 9, 0))]) rfl (by rw [e1_] <;> rfl) ?_
    exact z_callV (as := [vi (4 : Int32)]) (st := []) dX9_primary_175 vsX9_111_9 (Nat.le_refl _) (Nat.le_of_ble_eq_true rfl) (Nat.le_of_ble_eq_true rfl) rfl k
  · have k := zif h_ k
    refine z_aload_n dX9_primary_126 rfl rfl ?_
    exact z_callV (as := []) (st := []) dX9_primary_127 vsX9_72_8 (Nat.le_refl _) (Nat.le_of_ble_eq_true rfl) (Nat.le_of_ble_eq_true rfl) rfl k
theorem sX9_primary_130 {E : zE} {d : Nat} {Q : zO → zM → Prop} (M : zM) (a0 : Nat) (k : ∃ b1 : Nat, (gr M a0 1) = some (b1, 9, 0) ∧ (Z E YX10_next d M (zargs 0 [vr (some (b1, 9, 0))]) 0 [] (zafter E YX9_primary (d + 1) [(0, vr (some (a0, 8, 0)))] 134 3 [] Q))) : Z E YX9_primary (d + 1) M [(0, vr (some (a0, 8, 0)))] 130 [] Q := by
  refine z_aload_n dX9_primary_130 rfl rfl ?_
  refine z_getr (r := (gr M a0 1)) dX9_primary_131 fsX9_27_8 rfl ?_
  obtain ⟨b1, e1_, k⟩ := k
  refine Z.eqs (lv' := [(0, vr (some (a0, 8, 0)))]) (st' := [vr (some (b1, 9, 0))]) rfl (by rw [e1_] <;> rfl) ?_
  exact z_callV (as := []) (st := []) dX9_primary_134 vsX9_52_9 (Nat.le_refl _) (Nat.le_of_ble_eq_true rfl) (Nat.le_of_ble_eq_true rfl) rfl k
theorem sX9_primary_137 {E : zE} {d : Nat} {Q : zO → zM → Prop} (M : zM) (a0 : Nat) (k : Z E YX9_primary (d + 1) (zn M 1) [(0, vr (some (a0, 8, 0)))] 140 [vr (some ((zsz M), 27, 0))] Q) : Z E YX9_primary (d + 1) M [(0, vr (some (a0, 8, 0)))] 137 [] Q := by
  refine z_new dX9_primary_137 csX9_364 zff_27 ?_
  exact k
theorem sX9_primary_140 {E : zE} {d : Nat} {Q : zO → zM → Prop} (M : zM) (a0 : Nat) (p0 : Nat) (k : Z E YX9_expression d M (zargs 0 [vr (some (a0, 8, 0)), vi (1 : Int32)]) 0 [] (zafter E YX9_primary (d + 1) [(0, vr (some (a0, 8, 0)))] 143 3 [vr (some (p0, 27, 0)), vr (some (p0, 27, 0))] Q)) : Z E YX9_primary (d + 1) M [(0, vr (some (a0, 8, 0)))] 140 [vr (some (p0, 27, 0))] Q := by
  refine z_dup dX9_primary_140 rfl ?_
  refine z_aload_n dX9_primary_141 rfl rfl ?_
  refine z_iconst (v := 1) dX9_primary_142 rfl ?_
  exact z_callV (as := [vi (1 : Int32)]) (st := [vr (some (p0, 27, 0)), vr (some (p0, 27, 0))]) dX9_primary_143 vsX9_145_8 (Nat.le_refl _) (Nat.le_of_ble_eq_true rfl) (Nat.le_of_ble_eq_true rfl) rfl k
theorem sX9_primary_146 {E : zE} {d : Nat} {Q : zO → zM → Prop} (M : zM) (a0 : Nat) (u0 : Option zP) (p1 : Nat) (p2 : Nat) (k : Z E YX21_init d M (zargs 0 [vr (some (p1, 27, 0)), vr u0]) 0 [] (zafter E YX9_primary (d + 1) [(0, vr (some (a0, 8, 0)))] 146 3 [vr (some (p2, 27, 0))] Q)) : Z E YX9_primary (d + 1) M [(0, vr (some (a0, 8, 0)))] 146 [vr u0, vr (some (p1, 27, 0)), vr (some (p2, 27, 0))] Q := by
  exact z_callI (as := [vr u0]) (st := [vr (some (p2, 27, 0))]) dX9_primary_146 isX9_366 (Nat.le_refl _) (Nat.le_of_ble_eq_true rfl) (Nat.le_of_ble_eq_true rfl) rfl k
theorem sX9_primary_149 {E : zE} {d : Nat} {Q : zO → zM → Prop} (M : zM) (a0 : Nat) (p0 : Nat) (k : ∃ b1 : Nat, (gr M a0 1) = some (b1, 9, 0) ∧ (Z E YX10_need d M (zargs 0 [vr (some (b1, 9, 0)), vi (3 : Int32)]) 0 [] (zafter E YX9_primary (d + 1) [(0, vr (some (a0, 8, 0))), (1, vr (some (p0, 27, 0)))] 155 3 [] Q))) : Z E YX9_primary (d + 1) M [(0, vr (some (a0, 8, 0)))] 149 [vr (some (p0, 27, 0))] Q := by
  refine z_ast_n dX9_primary_149 rfl (by decide) (lv' := [(0, vr (some (a0, 8, 0))), (1, vr (some (p0, 27, 0)))]) rfl ?_
  refine z_aload_n dX9_primary_150 rfl rfl ?_
  refine z_getr (r := (gr M a0 1)) dX9_primary_151 fsX9_27_8 rfl ?_
  refine z_iconst (v := 3) dX9_primary_154 rfl ?_
  obtain ⟨b1, e1_, k⟩ := k
  refine Z.eqs (lv' := [(0, vr (some (a0, 8, 0))), (1, vr (some (p0, 27, 0)))]) (st' := [vi (3 : Int32), vr (some (b1, 9, 0))]) rfl (by rw [e1_] <;> rfl) ?_
  exact z_callV (as := [vi (3 : Int32)]) (st := []) dX9_primary_155 vsX9_108_9 (Nat.le_refl _) (Nat.le_of_ble_eq_true rfl) (Nat.le_of_ble_eq_true rfl) rfl k
theorem sX9_primary_158 {E : zE} {d : Nat} {Q : zO → zM → Prop} (M : zM) (a0 : Nat) (a1 : Nat) (k : 16 ≤ a0 ∧ (Q (.inl (some (vr (some (a1, 27, 0))))) (si M a0 4 ((gi M a0 4) - (1 : Int32))))) : Z E YX9_primary (d + 1) M [(0, vr (some (a0, 8, 0))), (1, vr (some (a1, 27, 0)))] 158 [] Q := by
  refine z_aload_n dX9_primary_158 rfl rfl ?_
  refine z_dup dX9_primary_159 rfl ?_
  refine z_geti dX9_primary_160 fsX9_31_8 ?_
  refine z_iconst (v := 1) dX9_primary_163 rfl ?_
  refine z_isub dX9_primary_164 ?_
  obtain ⟨g_, k⟩ := k
  refine z_puti g_ dX9_primary_165 (zfwN.w fwX9_31_8) rfl ⟨rfl, rfl⟩ ?_
  refine z_aload_n dX9_primary_168 rfl rfl ?_
  exact z_aret dX9_primary_169 rfl rfl k
theorem sX9_primary_178 {E : zE} {d : Nat} {Q : zO → zM → Prop} (M : zM) (a0 : Nat) (s0 : Int32) (k : if s0 = 0 then (∃ b1 : Nat, (gr M a0 1) = some (b1, 9, 0) ∧ (Z E YX10_is d M (zargs 0 [vr (some (b1, 9, 0)), vi (0 : Int32)]) 0 [] (zafter E YX9_primary (d + 1) [(0, vr (some (a0, 8, 0)))] 186 3 [] Q))) else (Z E YX9_opens d M (zargs 0 [vr (some (a0, 8, 0))]) 0 [] (zafter E YX9_primary (d + 1) [(0, vr (some (a0, 8, 0)))] 202 3 [] Q))) : Z E YX9_primary (d + 1) M [(0, vr (some (a0, 8, 0)))] 178 [vi s0] Q := by
  refine z_if_ne (tgt := 201) dX9_primary_178 rfl (fun h_ => ?_) (fun h_ => ?_)
  · have k := zif h_ k
    refine z_aload_n dX9_primary_201 rfl rfl ?_
    exact z_callV (as := []) (st := []) dX9_primary_202 vsX9_72_8 (Nat.le_refl _) (Nat.le_of_ble_eq_true rfl) (Nat.le_of_ble_eq_true rfl) rfl k
  · have k := zit h_ k
    refine z_aload_n dX9_primary_181 rfl rfl ?_
    refine z_getr (r := (gr M a0 1)) dX9_primary_182 fsX9_27_8 rfl ?_
    refine z_iconst (v := 0) dX9_primary_185 rfl ?_
    obtain ⟨b1, e1_, k⟩ := k
    refine Z.eqs (lv' := [(0, vr (some (a0, 8, 0)))]) (st' := [vi (0 : Int32), vr (some (b1, 9, 0))]) rfl (by rw [e1_] <;> rfl) ?_
    exact z_callV (as := [vi (0 : Int32)]) (st := []) dX9_primary_186 vsX9_111_9 (Nat.le_refl _) (Nat.le_of_ble_eq_true rfl) (Nat.le_of_ble_eq_true rfl) rfl k
theorem sX9_primary_189 {E : zE} {d : Nat} {Q : zO → zM → Prop} (M : zM) (a0 : Nat) (s0 : Int32) (k : if s0 = 0 then (∃ b1 : Nat, (gr M a0 1) = some (b1, 9, 0) ∧ (Z E YX10_fault d M (zargs 0 [vr (some (b1, 9, 0)), vi (2 : Int32)]) 0 [] (zafter E YX9_primary (d + 1) [] 197 3 [] Q))) else (Z E YX9_opens d M (zargs 0 [vr (some (a0, 8, 0))]) 0 [] (zafter E YX9_primary (d + 1) [(0, vr (some (a0, 8, 0)))] 202 3 [] Q))) : Z E YX9_primary (d + 1) M [(0, vr (some (a0, 8, 0)))] 189 [vi s0] Q := by
  refine z_if_ne (tgt := 201) dX9_primary_189 rfl (fun h_ => ?_) (fun h_ => ?_)
  · have k := zif h_ k
    refine z_aload_n dX9_primary_201 rfl rfl ?_
    exact z_callV (as := []) (st := []) dX9_primary_202 vsX9_72_8 (Nat.le_refl _) (Nat.le_of_ble_eq_true rfl) (Nat.le_of_ble_eq_true rfl) rfl k
  · have k := zit h_ k
    refine z_aload_n dX9_primary_192 rfl rfl ?_
    refine z_getr (r := (gr M a0 1)) dX9_primary_193 fsX9_27_8 rfl ?_
    refine z_iconst (v := 2) dX9_primary_196 rfl ?_
    obtain ⟨b1, e1_, k⟩ := k
    refine Z.eqs (lv' := [(0, vr (some (a0, 8, 0)))]) (st' := [vi (2 : Int32), vr (some (b1, 9, 0))]) rfl (by rw [e1_] <;> rfl) ?_
    refine Z.pick [] rfl ?_
    exact z_callV (as := [vi (2 : Int32)]) (st := []) dX9_primary_197 vsX9_35_9 (Nat.le_refl _) (Nat.le_of_ble_eq_true rfl) (Nat.le_of_ble_eq_true rfl) rfl k
theorem sX9_primary_200 {E : zE} {d : Nat} {Q : zO → zM → Prop} (M : zM) (u0 : Option zP) (k : ∃ b1 : Nat, u0 = some (b1, 12, 0) ∧ (Q (.inr (b1, 12, 0)) M)) : Z E YX9_primary (d + 1) M [] 200 [vr u0] Q := by
  obtain ⟨b1, e1_, k⟩ := k
  refine Z.eqs (lv' := []) (st' := [vr (some (b1, 12, 0))]) rfl (by rw [e1_] <;> rfl) ?_
  exact z_athrow dX9_primary_200 (ZT.out (by decide) k)
theorem sX9_primary_205 {E : zE} {d : Nat} {Q : zO → zM → Prop} (M : zM) (a0 : Nat) (k : ∃ b1 : Nat, (gr M a0 1) = some (b1, 9, 0) ∧ (Z E YX10_is d M (zargs 0 [vr (some (b1, 9, 0)), vi (4 : Int32)]) 0 [] (zafter E YX9_primary (d + 1) [(0, vr (some (a0, 8, 0)))] 211 3 [vr (some (a0, 8, 0))] Q))) : Z E YX9_primary (d + 1) M [(0, vr (some (a0, 8, 0)))] 205 [] Q := by
  refine z_aload_n dX9_primary_205 rfl rfl ?_
  refine z_aload_n dX9_primary_206 rfl rfl ?_
  refine z_getr (r := (gr M a0 1)) dX9_primary_207 fsX9_27_8 rfl ?_
  refine z_iconst (v := 4) dX9_primary_210 rfl ?_
  obtain ⟨b1, e1_, k⟩ := k
  refine Z.eqs (lv' := [(0, vr (some (a0, 8, 0)))]) (st' := [vi (4 : Int32), vr (some (b1, 9, 0)), vr (some (a0, 8, 0))]) rfl (by rw [e1_] <;> rfl) ?_
  exact z_callV (as := [vi (4 : Int32)]) (st := [vr (some (a0, 8, 0))]) dX9_primary_211 vsX9_111_9 (Nat.le_refl _) (Nat.le_of_ble_eq_true rfl) (Nat.le_of_ble_eq_true rfl) rfl k
theorem sX9_primary_214 {E : zE} {d : Nat} {Q : zO → zM → Prop} (M : zM) (a0 : Nat) (s0 : Int32) (k : Z E YX9_items d M (zargs 0 [vr (some (a0, 8, 0)), vi s0]) 0 [] (zafter E YX9_primary (d + 1) [(0, vr (some (a0, 8, 0)))] 214 3 [] Q)) : Z E YX9_primary (d + 1) M [(0, vr (some (a0, 8, 0)))] 214 [vi s0, vr (some (a0, 8, 0))] Q := by
  exact z_callV (as := [vi s0]) (st := []) dX9_primary_214 vsX9_367_8 (Nat.le_refl _) (Nat.le_of_ble_eq_true rfl) (Nat.le_of_ble_eq_true rfl) rfl k
theorem sX9_primary_217 {E : zE} {d : Nat} {Q : zO → zM → Prop} (M : zM) (a0 : Nat) (u0 : Option zP) (k : 16 ≤ a0 ∧ (Q (.inl (some (vr u0))) (si M a0 4 ((gi M a0 4) - (1 : Int32))))) : Z E YX9_primary (d + 1) M [(0, vr (some (a0, 8, 0)))] 217 [vr u0] Q := by
  refine z_ast_n dX9_primary_217 rfl (by decide) (lv' := [(0, vr (some (a0, 8, 0))), (1, vr u0)]) rfl ?_
  refine z_aload_n dX9_primary_218 rfl rfl ?_
  refine z_dup dX9_primary_219 rfl ?_
  refine z_geti dX9_primary_220 fsX9_31_8 ?_
  refine z_iconst (v := 1) dX9_primary_223 rfl ?_
  refine z_isub dX9_primary_224 ?_
  obtain ⟨g_, k⟩ := k
  refine z_puti g_ dX9_primary_225 (zfwN.w fwX9_31_8) rfl ⟨rfl, rfl⟩ ?_
  refine z_aload_n dX9_primary_228 rfl rfl ?_
  exact z_aret dX9_primary_229 rfl rfl k
/-! ScriptTypes$Parser.wordAlone()LScriptTypes$Node; -/
theorem bX9_wordAlone_0 : zdec cX9_wordAlone 0 [(0, .aload_n 0, 1), (1, .getfield 27, 3), (4, .getfield 114, 3)] = true := by decide +kernel
theorem dX9_wordAlone_0 : decode cX9_wordAlone 0 = .ok (.aload_n 0, 1) := zdec_at bX9_wordAlone_0 0 rfl
theorem dX9_wordAlone_1 : decode cX9_wordAlone 1 = .ok (.getfield 27, 3) := zdec_at bX9_wordAlone_0 1 rfl
theorem dX9_wordAlone_4 : decode cX9_wordAlone 4 = .ok (.getfield 114, 3) := zdec_at bX9_wordAlone_0 2 rfl
theorem dX9_wordAlone_7 : decode cX9_wordAlone 7 = .ok (.tableswitch 226 8 25 #[135, 226, 226, 161, 226, 226, 226, 148, 226, 109, 226, 226, 85, 226, 122, 226, 226, 96], 85) := by decide +kernel
theorem bX9_wordAlone_92 : zdec cX9_wordAlone 92 [(92, .new 370, 3), (95, .dup, 1), (96, .invokespecial 372, 3), (99, .astore_n 1, 1), (100, .goto 142, 3), (103, .new 353, 3), (106, .dup, 1), (107, .iconst 0, 1), (108, .iconst 0, 1), (109, .invokespecial 358, 3), (112, .astore_n 1, 1), (113, .goto 129, 3), (116, .new 353, 3), (119, .dup, 1), (120, .iconst 1, 1), (121, .iconst 0, 1)] = true := by decide +kernel
theorem dX9_wordAlone_92 : decode cX9_wordAlone 92 = .ok (.new 370, 3) := zdec_at bX9_wordAlone_92 0 rfl
theorem dX9_wordAlone_95 : decode cX9_wordAlone 95 = .ok (.dup, 1) := zdec_at bX9_wordAlone_92 1 rfl
theorem dX9_wordAlone_96 : decode cX9_wordAlone 96 = .ok (.invokespecial 372, 3) := zdec_at bX9_wordAlone_92 2 rfl
theorem dX9_wordAlone_99 : decode cX9_wordAlone 99 = .ok (.astore_n 1, 1) := zdec_at bX9_wordAlone_92 3 rfl
theorem dX9_wordAlone_100 : decode cX9_wordAlone 100 = .ok (.goto 142, 3) := zdec_at bX9_wordAlone_92 4 rfl
theorem dX9_wordAlone_103 : decode cX9_wordAlone 103 = .ok (.new 353, 3) := zdec_at bX9_wordAlone_92 5 rfl
theorem dX9_wordAlone_106 : decode cX9_wordAlone 106 = .ok (.dup, 1) := zdec_at bX9_wordAlone_92 6 rfl
theorem dX9_wordAlone_107 : decode cX9_wordAlone 107 = .ok (.iconst 0, 1) := zdec_at bX9_wordAlone_92 7 rfl
theorem dX9_wordAlone_108 : decode cX9_wordAlone 108 = .ok (.iconst 0, 1) := zdec_at bX9_wordAlone_92 8 rfl
theorem dX9_wordAlone_109 : decode cX9_wordAlone 109 = .ok (.invokespecial 358, 3) := zdec_at bX9_wordAlone_92 9 rfl
theorem dX9_wordAlone_112 : decode cX9_wordAlone 112 = .ok (.astore_n 1, 1) := zdec_at bX9_wordAlone_92 10 rfl
theorem dX9_wordAlone_113 : decode cX9_wordAlone 113 = .ok (.goto 129, 3) := zdec_at bX9_wordAlone_92 11 rfl
theorem dX9_wordAlone_116 : decode cX9_wordAlone 116 = .ok (.new 353, 3) := zdec_at bX9_wordAlone_92 12 rfl
theorem dX9_wordAlone_119 : decode cX9_wordAlone 119 = .ok (.dup, 1) := zdec_at bX9_wordAlone_92 13 rfl
theorem dX9_wordAlone_120 : decode cX9_wordAlone 120 = .ok (.iconst 1, 1) := zdec_at bX9_wordAlone_92 14 rfl
theorem dX9_wordAlone_121 : decode cX9_wordAlone 121 = .ok (.iconst 0, 1) := zdec_at bX9_wordAlone_92 15 rfl
theorem bX9_wordAlone_122 : zdec cX9_wordAlone 122 [(122, .invokespecial 358, 3), (125, .astore_n 1, 1), (126, .goto 116, 3), (129, .new 353, 3), (132, .dup, 1), (133, .iconst 2, 1), (134, .iconst 0, 1), (135, .invokespecial 358, 3), (138, .astore_n 1, 1), (139, .goto 103, 3), (142, .new 353, 3), (145, .dup, 1), (146, .iconst 3, 1), (147, .iconst 0, 1), (148, .invokespecial 358, 3), (151, .astore_n 1, 1)] = true := by decide +kernel
theorem dX9_wordAlone_122 : decode cX9_wordAlone 122 = .ok (.invokespecial 358, 3) := zdec_at bX9_wordAlone_122 0 rfl
theorem dX9_wordAlone_125 : decode cX9_wordAlone 125 = .ok (.astore_n 1, 1) := zdec_at bX9_wordAlone_122 1 rfl
theorem dX9_wordAlone_126 : decode cX9_wordAlone 126 = .ok (.goto 116, 3) := zdec_at bX9_wordAlone_122 2 rfl
theorem dX9_wordAlone_129 : decode cX9_wordAlone 129 = .ok (.new 353, 3) := zdec_at bX9_wordAlone_122 3 rfl
theorem dX9_wordAlone_132 : decode cX9_wordAlone 132 = .ok (.dup, 1) := zdec_at bX9_wordAlone_122 4 rfl
theorem dX9_wordAlone_133 : decode cX9_wordAlone 133 = .ok (.iconst 2, 1) := zdec_at bX9_wordAlone_122 5 rfl
theorem dX9_wordAlone_134 : decode cX9_wordAlone 134 = .ok (.iconst 0, 1) := zdec_at bX9_wordAlone_122 6 rfl
theorem dX9_wordAlone_135 : decode cX9_wordAlone 135 = .ok (.invokespecial 358, 3) := zdec_at bX9_wordAlone_122 7 rfl
theorem dX9_wordAlone_138 : decode cX9_wordAlone 138 = .ok (.astore_n 1, 1) := zdec_at bX9_wordAlone_122 8 rfl
theorem dX9_wordAlone_139 : decode cX9_wordAlone 139 = .ok (.goto 103, 3) := zdec_at bX9_wordAlone_122 9 rfl
theorem dX9_wordAlone_142 : decode cX9_wordAlone 142 = .ok (.new 353, 3) := zdec_at bX9_wordAlone_122 10 rfl
theorem dX9_wordAlone_145 : decode cX9_wordAlone 145 = .ok (.dup, 1) := zdec_at bX9_wordAlone_122 11 rfl
theorem dX9_wordAlone_146 : decode cX9_wordAlone 146 = .ok (.iconst 3, 1) := zdec_at bX9_wordAlone_122 12 rfl
theorem dX9_wordAlone_147 : decode cX9_wordAlone 147 = .ok (.iconst 0, 1) := zdec_at bX9_wordAlone_122 13 rfl
theorem dX9_wordAlone_148 : decode cX9_wordAlone 148 = .ok (.invokespecial 358, 3) := zdec_at bX9_wordAlone_122 14 rfl
theorem dX9_wordAlone_151 : decode cX9_wordAlone 151 = .ok (.astore_n 1, 1) := zdec_at bX9_wordAlone_122 15 rfl
theorem bX9_wordAlone_152 : zdec cX9_wordAlone 152 [(152, .goto 90, 3), (155, .new 353, 3), (158, .dup, 1), (159, .iconst 4, 1), (160, .iconst 0, 1), (161, .invokespecial 358, 3), (164, .astore_n 1, 1), (165, .goto 77, 3), (168, .aload_n 0, 1), (169, .invokevirtual 72, 3), (172, .aload_n 0, 1), (173, .getfield 27, 3), (176, .invokevirtual 52, 3), (179, .aload_n 0, 1), (180, .invokevirtual 75, 3), (183, .astore_n 2, 1)] = true := by decide +kernel
theorem dX9_wordAlone_152 : decode cX9_wordAlone 152 = .ok (.goto 90, 3) := zdec_at bX9_wordAlone_152 0 rfl
theorem dX9_wordAlone_155 : decode cX9_wordAlone 155 = .ok (.new 353, 3) := zdec_at bX9_wordAlone_152 1 rfl
theorem dX9_wordAlone_158 : decode cX9_wordAlone 158 = .ok (.dup, 1) := zdec_at bX9_wordAlone_152 2 rfl
theorem dX9_wordAlone_159 : decode cX9_wordAlone 159 = .ok (.iconst 4, 1) := zdec_at bX9_wordAlone_152 3 rfl
theorem dX9_wordAlone_160 : decode cX9_wordAlone 160 = .ok (.iconst 0, 1) := zdec_at bX9_wordAlone_152 4 rfl
theorem dX9_wordAlone_161 : decode cX9_wordAlone 161 = .ok (.invokespecial 358, 3) := zdec_at bX9_wordAlone_152 5 rfl
theorem dX9_wordAlone_164 : decode cX9_wordAlone 164 = .ok (.astore_n 1, 1) := zdec_at bX9_wordAlone_152 6 rfl
theorem dX9_wordAlone_165 : decode cX9_wordAlone 165 = .ok (.goto 77, 3) := zdec_at bX9_wordAlone_152 7 rfl
theorem dX9_wordAlone_168 : decode cX9_wordAlone 168 = .ok (.aload_n 0, 1) := zdec_at bX9_wordAlone_152 8 rfl
theorem dX9_wordAlone_169 : decode cX9_wordAlone 169 = .ok (.invokevirtual 72, 3) := zdec_at bX9_wordAlone_152 9 rfl
theorem dX9_wordAlone_172 : decode cX9_wordAlone 172 = .ok (.aload_n 0, 1) := zdec_at bX9_wordAlone_152 10 rfl
theorem dX9_wordAlone_173 : decode cX9_wordAlone 173 = .ok (.getfield 27, 3) := zdec_at bX9_wordAlone_152 11 rfl
theorem dX9_wordAlone_176 : decode cX9_wordAlone 176 = .ok (.invokevirtual 52, 3) := zdec_at bX9_wordAlone_152 12 rfl
theorem dX9_wordAlone_179 : decode cX9_wordAlone 179 = .ok (.aload_n 0, 1) := zdec_at bX9_wordAlone_152 13 rfl
theorem dX9_wordAlone_180 : decode cX9_wordAlone 180 = .ok (.invokevirtual 75, 3) := zdec_at bX9_wordAlone_152 14 rfl
theorem dX9_wordAlone_183 : decode cX9_wordAlone 183 = .ok (.astore_n 2, 1) := zdec_at bX9_wordAlone_152 15 rfl
theorem bX9_wordAlone_184 : zdec cX9_wordAlone 184 [(184, .aload_n 0, 1), (185, .getfield 27, 3), (188, .getfield 55, 3), (191, .iconst 1, 1), (192, .if_icmp .ne 14, 3), (195, .aload_n 2, 1), (196, .aload_n 0, 1), (197, .getfield 27, 3), (200, .invokevirtual 79, 3), (203, .putfield 123, 3), (206, .aload_n 0, 1), (207, .aload_n 2, 1), (208, .invokevirtual 95, 3), (211, .aload_n 0, 1), (212, .dup, 1), (213, .getfield 31, 3)] = true := by decide +kernel
theorem dX9_wordAlone_184 : decode cX9_wordAlone 184 = .ok (.aload_n 0, 1) := zdec_at bX9_wordAlone_184 0 rfl
theorem dX9_wordAlone_185 : decode cX9_wordAlone 185 = .ok (.getfield 27, 3) := zdec_at bX9_wordAlone_184 1 rfl
theorem dX9_wordAlone_188 : decode cX9_wordAlone 188 = .ok (.getfield 55, 3) := zdec_at bX9_wordAlone_184 2 rfl
theorem dX9_wordAlone_191 : decode cX9_wordAlone 191 = .ok (.iconst 1, 1) := zdec_at bX9_wordAlone_184 3 rfl
theorem dX9_wordAlone_192 : decode cX9_wordAlone 192 = .ok (.if_icmp .ne 14, 3) := zdec_at bX9_wordAlone_184 4 rfl
theorem dX9_wordAlone_195 : decode cX9_wordAlone 195 = .ok (.aload_n 2, 1) := zdec_at bX9_wordAlone_184 5 rfl
theorem dX9_wordAlone_196 : decode cX9_wordAlone 196 = .ok (.aload_n 0, 1) := zdec_at bX9_wordAlone_184 6 rfl
theorem dX9_wordAlone_197 : decode cX9_wordAlone 197 = .ok (.getfield 27, 3) := zdec_at bX9_wordAlone_184 7 rfl
theorem dX9_wordAlone_200 : decode cX9_wordAlone 200 = .ok (.invokevirtual 79, 3) := zdec_at bX9_wordAlone_184 8 rfl
theorem dX9_wordAlone_203 : decode cX9_wordAlone 203 = .ok (.putfield 123, 3) := zdec_at bX9_wordAlone_184 9 rfl
theorem dX9_wordAlone_206 : decode cX9_wordAlone 206 = .ok (.aload_n 0, 1) := zdec_at bX9_wordAlone_184 10 rfl
theorem dX9_wordAlone_207 : decode cX9_wordAlone 207 = .ok (.aload_n 2, 1) := zdec_at bX9_wordAlone_184 11 rfl
theorem dX9_wordAlone_208 : decode cX9_wordAlone 208 = .ok (.invokevirtual 95, 3) := zdec_at bX9_wordAlone_184 12 rfl
theorem dX9_wordAlone_211 : decode cX9_wordAlone 211 = .ok (.aload_n 0, 1) := zdec_at bX9_wordAlone_184 13 rfl
theorem dX9_wordAlone_212 : decode cX9_wordAlone 212 = .ok (.dup, 1) := zdec_at bX9_wordAlone_184 14 rfl
theorem dX9_wordAlone_213 : decode cX9_wordAlone 213 = .ok (.getfield 31, 3) := zdec_at bX9_wordAlone_184 15 rfl
theorem bX9_wordAlone_216 : zdec cX9_wordAlone 216 [(216, .iconst 1, 1), (217, .isub, 1), (218, .putfield 31, 3), (221, .new 373, 3), (224, .dup, 1), (225, .aload_n 2, 1), (226, .getfield 375, 3), (229, .invokespecial 378, 3), (232, .areturn, 1), (233, .aload_n 0, 1), (234, .getfield 27, 3), (237, .iconst 2, 1), (238, .invokevirtual 35, 3), (241, .athrow, 1), (242, .aload_n 0, 1), (243, .getfield 27, 3)] = true := by decide +kernel
theorem dX9_wordAlone_216 : decode cX9_wordAlone 216 = .ok (.iconst 1, 1) := zdec_at bX9_wordAlone_216 0 rfl
theorem dX9_wordAlone_217 : decode cX9_wordAlone 217 = .ok (.isub, 1) := zdec_at bX9_wordAlone_216 1 rfl
theorem dX9_wordAlone_218 : decode cX9_wordAlone 218 = .ok (.putfield 31, 3) := zdec_at bX9_wordAlone_216 2 rfl
theorem dX9_wordAlone_221 : decode cX9_wordAlone 221 = .ok (.new 373, 3) := zdec_at bX9_wordAlone_216 3 rfl
theorem dX9_wordAlone_224 : decode cX9_wordAlone 224 = .ok (.dup, 1) := zdec_at bX9_wordAlone_216 4 rfl
theorem dX9_wordAlone_225 : decode cX9_wordAlone 225 = .ok (.aload_n 2, 1) := zdec_at bX9_wordAlone_216 5 rfl
theorem dX9_wordAlone_226 : decode cX9_wordAlone 226 = .ok (.getfield 375, 3) := zdec_at bX9_wordAlone_216 6 rfl
theorem dX9_wordAlone_229 : decode cX9_wordAlone 229 = .ok (.invokespecial 378, 3) := zdec_at bX9_wordAlone_216 7 rfl
theorem dX9_wordAlone_232 : decode cX9_wordAlone 232 = .ok (.areturn, 1) := zdec_at bX9_wordAlone_216 8 rfl
theorem dX9_wordAlone_233 : decode cX9_wordAlone 233 = .ok (.aload_n 0, 1) := zdec_at bX9_wordAlone_216 9 rfl
theorem dX9_wordAlone_234 : decode cX9_wordAlone 234 = .ok (.getfield 27, 3) := zdec_at bX9_wordAlone_216 10 rfl
theorem dX9_wordAlone_237 : decode cX9_wordAlone 237 = .ok (.iconst 2, 1) := zdec_at bX9_wordAlone_216 11 rfl
theorem dX9_wordAlone_238 : decode cX9_wordAlone 238 = .ok (.invokevirtual 35, 3) := zdec_at bX9_wordAlone_216 12 rfl
theorem dX9_wordAlone_241 : decode cX9_wordAlone 241 = .ok (.athrow, 1) := zdec_at bX9_wordAlone_216 13 rfl
theorem dX9_wordAlone_242 : decode cX9_wordAlone 242 = .ok (.aload_n 0, 1) := zdec_at bX9_wordAlone_216 14 rfl
theorem dX9_wordAlone_243 : decode cX9_wordAlone 243 = .ok (.getfield 27, 3) := zdec_at bX9_wordAlone_216 15 rfl
theorem bX9_wordAlone_246 : zdec cX9_wordAlone 246 [(246, .invokevirtual 52, 3), (249, .aload_n 1, 1), (250, .areturn, 1)] = true := by decide +kernel
theorem dX9_wordAlone_246 : decode cX9_wordAlone 246 = .ok (.invokevirtual 52, 3) := zdec_at bX9_wordAlone_246 0 rfl
theorem dX9_wordAlone_249 : decode cX9_wordAlone 249 = .ok (.aload_n 1, 1) := zdec_at bX9_wordAlone_246 1 rfl
theorem dX9_wordAlone_250 : decode cX9_wordAlone 250 = .ok (.areturn, 1) := zdec_at bX9_wordAlone_246 2 rfl
theorem sX9_wordAlone_0 {E : zE} {d : Nat} {Q : zO → zM → Prop} (M : zM) (a0 : Nat) (k : ∃ b1 : Nat, (gr M a0 1) = some (b1, 9, 0) ∧ (if (gi M b1 6) = 8 then (Z E YX9_wordAlone (d + 1) (zn M 2) [(0, vr (some (a0, 8, 0)))] 145 [vr (some ((zsz M), 24, 0))] Q) else (if (gi M b1 6) = 9 then (∃ b2 : Nat, (gr M a0 1) = some (b2, 9, 0) ∧ (Z E YX10_fault d M (zargs 0 [vr (some (b2, 9, 0)), vi (2 : Int32)]) 0 [] (zafter E YX9_wordAlone (d + 1) [] 238 3 [] Q))) else (if (gi M b1 6) = 10 then (∃ b3 : Nat, (gr M a0 1) = some (b3, 9, 0) ∧ (Z E YX10_fault d M (zargs 0 [vr (some (b3, 9, 0)), vi (2 : Int32)]) 0 [] (zafter E YX9_wordAlone (d + 1) [] 238 3 [] Q))) else (if (gi M b1 6) = 11 then (Z E YX9_opens d M (zargs 0 [vr (some (a0, 8, 0))]) 0 [] (zafter E YX9_wordAlone (d + 1) [(0, vr (some (a0, 8, 0)))] 169 3 [] Q)) else (if (gi M b1 6) = 12 then (∃ b4 : Nat, (gr M a0 1) = some (b4, 9, 0) ∧ (Z E YX10_fault d M (zargs 0 [vr (some (b4, 9, 0)), vi (2 : Int32)]) 0 [] (zafter E YX9_wordAlone (d + 1) [] 238 3 [] Q))) else (if (gi M b1 6) = 13 then (∃ b5 : Nat, (gr M a0 1) = some (b5, 9, 0) ∧ (Z E YX10_fault d M (zargs 0 [vr (some (b5, 9, 0)), vi (2 : Int32)]) 0 [] (zafter E YX9_wordAlone (d + 1) [] 238 3 [] Q))) else (if (gi M b1 6) = 14 then (∃ b6 : Nat, (gr M a0 1) = some (b6, 9, 0) ∧ (Z E YX10_fault d M (zargs 0 [vr (some (b6, 9, 0)), vi (2 : Int32)]) 0 [] (zafter E YX9_wordAlone (d + 1) [] 238 3 [] Q))) else (if (gi M b1 6) = 15 then (Z E YX9_wordAlone (d + 1) (zn M 2) [(0, vr (some (a0, 8, 0)))] 158 [vr (some ((zsz M), 24, 0))] Q) else (if (gi M b1 6) = 16 then (∃ b7 : Nat, (gr M a0 1) = some (b7, 9, 0) ∧ (Z E YX10_fault d M (zargs 0 [vr (some (b7, 9, 0)), vi (2 : Int32)]) 0 [] (zafter E YX9_wordAlone (d + 1) [] 238 3 [] Q))) else (if (gi M b1 6) = 17 then (Z E YX9_wordAlone (d + 1) (zn M 2) [(0, vr (some (a0, 8, 0)))] 119 [vr (some ((zsz M), 24, 0))] Q) else (if (gi M b1 6) = 18 then (∃ b8 : Nat, (gr M a0 1) = some (b8, 9, 0) ∧ (Z E YX10_fault d M (zargs 0 [vr (some (b8, 9, 0)), vi (2 : Int32)]) 0 [] (zafter E YX9_wordAlone (d + 1) [] 238 3 [] Q))) else (if (gi M b1 6) = 19 then (∃ b9 : Nat, (gr M a0 1) = some (b9, 9, 0) ∧ (Z E YX10_fault d M (zargs 0 [vr (some (b9, 9, 0)), vi (2 : Int32)]) 0 [] (zafter E YX9_wordAlone (d + 1) [] 238 3 [] Q))) else (if (gi M b1 6) = 20 then (Z E YX9_wordAlone (d + 1) (zn M 0) [(0, vr (some (a0, 8, 0)))] 95 [vr (some ((zsz M), 25, 0))] Q) else (if (gi M b1 6) = 21 then (∃ b10 : Nat, (gr M a0 1) = some (b10, 9, 0) ∧ (Z E YX10_fault d M (zargs 0 [vr (some (b10, 9, 0)), vi (2 : Int32)]) 0 [] (zafter E YX9_wordAlone (d + 1) [] 238 3 [] Q))) else (if (gi M b1 6) = 22 then (Z E YX9_wordAlone (d + 1) (zn M 2) [(0, vr (some (a0, 8, 0)))] 132 [vr (some ((zsz M), 24, 0))] Q) else (if (gi M b1 6) = 23 then (∃ b11 : Nat, (gr M a0 1) = some (b11, 9, 0) ∧ (Z E YX10_fault d M (zargs 0 [vr (some (b11, 9, 0)), vi (2 : Int32)]) 0 [] (zafter E YX9_wordAlone (d + 1) [] 238 3 [] Q))) else (if (gi M b1 6) = 24 then (∃ b12 : Nat, (gr M a0 1) = some (b12, 9, 0) ∧ (Z E YX10_fault d M (zargs 0 [vr (some (b12, 9, 0)), vi (2 : Int32)]) 0 [] (zafter E YX9_wordAlone (d + 1) [] 238 3 [] Q))) else (if (gi M b1 6) = 25 then (Z E YX9_wordAlone (d + 1) (zn M 2) [(0, vr (some (a0, 8, 0)))] 106 [vr (some ((zsz M), 24, 0))] Q) else (∃ b13 : Nat, (gr M a0 1) = some (b13, 9, 0) ∧ (Z E YX10_fault d M (zargs 0 [vr (some (b13, 9, 0)), vi (2 : Int32)]) 0 [] (zafter E YX9_wordAlone (d + 1) [] 238 3 [] Q)))))))))))))))))))))) : Z E YX9_wordAlone (d + 1) M [(0, vr (some (a0, 8, 0)))] 0 [] Q := by
  refine z_aload_n dX9_wordAlone_0 rfl rfl ?_
  refine z_getr (r := (gr M a0 1)) dX9_wordAlone_1 fsX9_27_8 rfl ?_
  obtain ⟨b1, e1_, k⟩ := k
  refine Z.eqs (lv' := [(0, vr (some (a0, 8, 0)))]) (st' := [vr (some (b1, 9, 0))]) rfl (by rw [e1_] <;> rfl) ?_
  refine z_geti dX9_wordAlone_4 fsX9_114_9 ?_
  by_cases h0_ : (gi M b1 6) = 8
  · have k := zit h0_ k
    refine z_tableIn (off := 135) (tgt := 142) dX9_wordAlone_7 (by rw [h0_]; decide) (by rw [h0_]; decide) (by rw [h0_]; rfl) rfl ?_
    refine z_new dX9_wordAlone_142 csX9_353 zff_24 ?_
    exact k
  · have k := zif h0_ k
    by_cases h1_ : (gi M b1 6) = 9
    · have k := zit h1_ k
      refine z_tableIn (off := 226) (tgt := 233) dX9_wordAlone_7 (by rw [h1_]; decide) (by rw [h1_]; decide) (by rw [h1_]; rfl) rfl ?_
      refine z_aload_n dX9_wordAlone_233 rfl rfl ?_
      refine z_getr (r := (gr M a0 1)) dX9_wordAlone_234 fsX9_27_8 rfl ?_
      refine z_iconst (v := 2) dX9_wordAlone_237 rfl ?_
      obtain ⟨b2, e2_, k⟩ := k
      refine Z.eqs (lv' := [(0, vr (some (a0, 8, 0)))]) (st' := [vi (2 : Int32), vr (some (b2, 9, 0))]) rfl (by rw [e2_] <;> rfl) ?_
      refine Z.pick [] rfl ?_
      exact z_callV (as := [vi (2 : Int32)]) (st := []) dX9_wordAlone_238 vsX9_35_9 (Nat.le_refl _) (Nat.le_of_ble_eq_true rfl) (Nat.le_of_ble_eq_true rfl) rfl k
    · have k := zif h1_ k
      by_cases h2_ : (gi M b1 6) = 10
      · have k := zit h2_ k
        refine z_tableIn (off := 226) (tgt := 233) dX9_wordAlone_7 (by rw [h2_]; decide) (by rw [h2_]; decide) (by rw [h2_]; rfl) rfl ?_
        refine z_aload_n dX9_wordAlone_233 rfl rfl ?_
        refine z_getr (r := (gr M a0 1)) dX9_wordAlone_234 fsX9_27_8 rfl ?_
        refine z_iconst (v := 2) dX9_wordAlone_237 rfl ?_
        obtain ⟨b3, e3_, k⟩ := k
        refine Z.eqs (lv' := [(0, vr (some (a0, 8, 0)))]) (st' := [vi (2 : Int32), vr (some (b3, 9, 0))]) rfl (by rw [e3_] <;> rfl) ?_
        refine Z.pick [] rfl ?_
        exact z_callV (as := [vi (2 : Int32)]) (st := []) dX9_wordAlone_238 vsX9_35_9 (Nat.le_refl _) (Nat.le_of_ble_eq_true rfl) (Nat.le_of_ble_eq_true rfl) rfl k
      · have k := zif h2_ k
        by_cases h3_ : (gi M b1 6) = 11
        · have k := zit h3_ k
          refine z_tableIn (off := 161) (tgt := 168) dX9_wordAlone_7 (by rw [h3_]; decide) (by rw [h3_]; decide) (by rw [h3_]; rfl) rfl ?_
          refine z_aload_n dX9_wordAlone_168 rfl rfl ?_
          exact z_callV (as := []) (st := []) dX9_wordAlone_169 vsX9_72_8 (Nat.le_refl _) (Nat.le_of_ble_eq_true rfl) (Nat.le_of_ble_eq_true rfl) rfl k
        · have k := zif h3_ k
          by_cases h4_ : (gi M b1 6) = 12
          · have k := zit h4_ k
            refine z_tableIn (off := 226) (tgt := 233) dX9_wordAlone_7 (by rw [h4_]; decide) (by rw [h4_]; decide) (by rw [h4_]; rfl) rfl ?_
            refine z_aload_n dX9_wordAlone_233 rfl rfl ?_
            refine z_getr (r := (gr M a0 1)) dX9_wordAlone_234 fsX9_27_8 rfl ?_
            refine z_iconst (v := 2) dX9_wordAlone_237 rfl ?_
            obtain ⟨b4, e4_, k⟩ := k
            refine Z.eqs (lv' := [(0, vr (some (a0, 8, 0)))]) (st' := [vi (2 : Int32), vr (some (b4, 9, 0))]) rfl (by rw [e4_] <;> rfl) ?_
            refine Z.pick [] rfl ?_
            exact z_callV (as := [vi (2 : Int32)]) (st := []) dX9_wordAlone_238 vsX9_35_9 (Nat.le_refl _) (Nat.le_of_ble_eq_true rfl) (Nat.le_of_ble_eq_true rfl) rfl k
          · have k := zif h4_ k
            by_cases h5_ : (gi M b1 6) = 13
            · have k := zit h5_ k
              refine z_tableIn (off := 226) (tgt := 233) dX9_wordAlone_7 (by rw [h5_]; decide) (by rw [h5_]; decide) (by rw [h5_]; rfl) rfl ?_
              refine z_aload_n dX9_wordAlone_233 rfl rfl ?_
              refine z_getr (r := (gr M a0 1)) dX9_wordAlone_234 fsX9_27_8 rfl ?_
              refine z_iconst (v := 2) dX9_wordAlone_237 rfl ?_
              obtain ⟨b5, e5_, k⟩ := k
              refine Z.eqs (lv' := [(0, vr (some (a0, 8, 0)))]) (st' := [vi (2 : Int32), vr (some (b5, 9, 0))]) rfl (by rw [e5_] <;> rfl) ?_
              refine Z.pick [] rfl ?_
              exact z_callV (as := [vi (2 : Int32)]) (st := []) dX9_wordAlone_238 vsX9_35_9 (Nat.le_refl _) (Nat.le_of_ble_eq_true rfl) (Nat.le_of_ble_eq_true rfl) rfl k
            · have k := zif h5_ k
              by_cases h6_ : (gi M b1 6) = 14
              · have k := zit h6_ k
                refine z_tableIn (off := 226) (tgt := 233) dX9_wordAlone_7 (by rw [h6_]; decide) (by rw [h6_]; decide) (by rw [h6_]; rfl) rfl ?_
                refine z_aload_n dX9_wordAlone_233 rfl rfl ?_
                refine z_getr (r := (gr M a0 1)) dX9_wordAlone_234 fsX9_27_8 rfl ?_
                refine z_iconst (v := 2) dX9_wordAlone_237 rfl ?_
                obtain ⟨b6, e6_, k⟩ := k
                refine Z.eqs (lv' := [(0, vr (some (a0, 8, 0)))]) (st' := [vi (2 : Int32), vr (some (b6, 9, 0))]) rfl (by rw [e6_] <;> rfl) ?_
                refine Z.pick [] rfl ?_
                exact z_callV (as := [vi (2 : Int32)]) (st := []) dX9_wordAlone_238 vsX9_35_9 (Nat.le_refl _) (Nat.le_of_ble_eq_true rfl) (Nat.le_of_ble_eq_true rfl) rfl k
              · have k := zif h6_ k
                by_cases h7_ : (gi M b1 6) = 15
                · have k := zit h7_ k
                  refine z_tableIn (off := 148) (tgt := 155) dX9_wordAlone_7 (by rw [h7_]; decide) (by rw [h7_]; decide) (by rw [h7_]; rfl) rfl ?_
                  refine z_new dX9_wordAlone_155 csX9_353 zff_24 ?_
                  exact k
                · have k := zif h7_ k
                  by_cases h8_ : (gi M b1 6) = 16
                  · have k := zit h8_ k
                    refine z_tableIn (off := 226) (tgt := 233) dX9_wordAlone_7 (by rw [h8_]; decide) (by rw [h8_]; decide) (by rw [h8_]; rfl) rfl ?_
                    refine z_aload_n dX9_wordAlone_233 rfl rfl ?_
                    refine z_getr (r := (gr M a0 1)) dX9_wordAlone_234 fsX9_27_8 rfl ?_
                    refine z_iconst (v := 2) dX9_wordAlone_237 rfl ?_
                    obtain ⟨b7, e7_, k⟩ := k
                    refine Z.eqs (lv' := [(0, vr (some (a0, 8, 0)))]) (st' := [vi (2 : Int32), vr (some (b7, 9, 0))]) rfl (by rw [e7_] <;> rfl) ?_
                    refine Z.pick [] rfl ?_
                    exact z_callV (as := [vi (2 : Int32)]) (st := []) dX9_wordAlone_238 vsX9_35_9 (Nat.le_refl _) (Nat.le_of_ble_eq_true rfl) (Nat.le_of_ble_eq_true rfl) rfl k
                  · have k := zif h8_ k
                    by_cases h9_ : (gi M b1 6) = 17
                    · have k := zit h9_ k
                      refine z_tableIn (off := 109) (tgt := 116) dX9_wordAlone_7 (by rw [h9_]; decide) (by rw [h9_]; decide) (by rw [h9_]; rfl) rfl ?_
                      refine z_new dX9_wordAlone_116 csX9_353 zff_24 ?_
                      exact k
                    · have k := zif h9_ k
                      by_cases h10_ : (gi M b1 6) = 18
                      · have k := zit h10_ k
                        refine z_tableIn (off := 226) (tgt := 233) dX9_wordAlone_7 (by rw [h10_]; decide) (by rw [h10_]; decide) (by rw [h10_]; rfl) rfl ?_
                        refine z_aload_n dX9_wordAlone_233 rfl rfl ?_
                        refine z_getr (r := (gr M a0 1)) dX9_wordAlone_234 fsX9_27_8 rfl ?_
                        refine z_iconst (v := 2) dX9_wordAlone_237 rfl ?_
                        obtain ⟨b8, e8_, k⟩ := k
                        refine Z.eqs (lv' := [(0, vr (some (a0, 8, 0)))]) (st' := [vi (2 : Int32), vr (some (b8, 9, 0))]) rfl (by rw [e8_] <;> rfl) ?_
                        refine Z.pick [] rfl ?_
                        exact z_callV (as := [vi (2 : Int32)]) (st := []) dX9_wordAlone_238 vsX9_35_9 (Nat.le_refl _) (Nat.le_of_ble_eq_true rfl) (Nat.le_of_ble_eq_true rfl) rfl k
                      · have k := zif h10_ k
                        by_cases h11_ : (gi M b1 6) = 19
                        · have k := zit h11_ k
                          refine z_tableIn (off := 226) (tgt := 233) dX9_wordAlone_7 (by rw [h11_]; decide) (by rw [h11_]; decide) (by rw [h11_]; rfl) rfl ?_
                          refine z_aload_n dX9_wordAlone_233 rfl rfl ?_
                          refine z_getr (r := (gr M a0 1)) dX9_wordAlone_234 fsX9_27_8 rfl ?_
                          refine z_iconst (v := 2) dX9_wordAlone_237 rfl ?_
                          obtain ⟨b9, e9_, k⟩ := k
                          refine Z.eqs (lv' := [(0, vr (some (a0, 8, 0)))]) (st' := [vi (2 : Int32), vr (some (b9, 9, 0))]) rfl (by rw [e9_] <;> rfl) ?_
                          refine Z.pick [] rfl ?_
                          exact z_callV (as := [vi (2 : Int32)]) (st := []) dX9_wordAlone_238 vsX9_35_9 (Nat.le_refl _) (Nat.le_of_ble_eq_true rfl) (Nat.le_of_ble_eq_true rfl) rfl k
                        · have k := zif h11_ k
                          by_cases h12_ : (gi M b1 6) = 20
                          · have k := zit h12_ k
                            refine z_tableIn (off := 85) (tgt := 92) dX9_wordAlone_7 (by rw [h12_]; decide) (by rw [h12_]; decide) (by rw [h12_]; rfl) rfl ?_
                            refine z_new dX9_wordAlone_92 csX9_370 zff_25 ?_
                            exact k
                          · have k := zif h12_ k
                            by_cases h13_ : (gi M b1 6) = 21
                            · have k := zit h13_ k
                              refine z_tableIn (off := 226) (tgt := 233) dX9_wordAlone_7 (by rw [h13_]; decide) (by rw [h13_]; decide) (by rw [h13_]; rfl) rfl ?_
                              refine z_aload_n dX9_wordAlone_233 rfl rfl ?_
                              refine z_getr (r := (gr M a0 1)) dX9_wordAlone_234 fsX9_27_8 rfl ?_
                              refine z_iconst (v := 2) dX9_wordAlone_237 rfl ?_
                              obtain ⟨b10, e10_, k⟩ := k
                              refine Z.eqs (lv' := [(0, vr (some (a0, 8, 0)))]) (st' := [vi (2 : Int32), vr (some (b10, 9, 0))]) rfl (by rw [e10_] <;> rfl) ?_
                              refine Z.pick [] rfl ?_
                              exact z_callV (as := [vi (2 : Int32)]) (st := []) dX9_wordAlone_238 vsX9_35_9 (Nat.le_refl _) (Nat.le_of_ble_eq_true rfl) (Nat.le_of_ble_eq_true rfl) rfl k
                            · have k := zif h13_ k
                              by_cases h14_ : (gi M b1 6) = 22
                              · have k := zit h14_ k
                                refine z_tableIn (off := 122) (tgt := 129) dX9_wordAlone_7 (by rw [h14_]; decide) (by rw [h14_]; decide) (by rw [h14_]; rfl) rfl ?_
                                refine z_new dX9_wordAlone_129 csX9_353 zff_24 ?_
                                exact k
                              · have k := zif h14_ k
                                by_cases h15_ : (gi M b1 6) = 23
                                · have k := zit h15_ k
                                  refine z_tableIn (off := 226) (tgt := 233) dX9_wordAlone_7 (by rw [h15_]; decide) (by rw [h15_]; decide) (by rw [h15_]; rfl) rfl ?_
                                  refine z_aload_n dX9_wordAlone_233 rfl rfl ?_
                                  refine z_getr (r := (gr M a0 1)) dX9_wordAlone_234 fsX9_27_8 rfl ?_
                                  refine z_iconst (v := 2) dX9_wordAlone_237 rfl ?_
                                  obtain ⟨b11, e11_, k⟩ := k
                                  refine Z.eqs (lv' := [(0, vr (some (a0, 8, 0)))]) (st' := [vi (2 : Int32), vr (some (b11, 9, 0))]) rfl (by rw [e11_] <;> rfl) ?_
                                  refine Z.pick [] rfl ?_
                                  exact z_callV (as := [vi (2 : Int32)]) (st := []) dX9_wordAlone_238 vsX9_35_9 (Nat.le_refl _) (Nat.le_of_ble_eq_true rfl) (Nat.le_of_ble_eq_true rfl) rfl k
                                · have k := zif h15_ k
                                  by_cases h16_ : (gi M b1 6) = 24
                                  · have k := zit h16_ k
                                    refine z_tableIn (off := 226) (tgt := 233) dX9_wordAlone_7 (by rw [h16_]; decide) (by rw [h16_]; decide) (by rw [h16_]; rfl) rfl ?_
                                    refine z_aload_n dX9_wordAlone_233 rfl rfl ?_
                                    refine z_getr (r := (gr M a0 1)) dX9_wordAlone_234 fsX9_27_8 rfl ?_
                                    refine z_iconst (v := 2) dX9_wordAlone_237 rfl ?_
                                    obtain ⟨b12, e12_, k⟩ := k
                                    refine Z.eqs (lv' := [(0, vr (some (a0, 8, 0)))]) (st' := [vi (2 : Int32), vr (some (b12, 9, 0))]) rfl (by rw [e12_] <;> rfl) ?_
                                    refine Z.pick [] rfl ?_
                                    exact z_callV (as := [vi (2 : Int32)]) (st := []) dX9_wordAlone_238 vsX9_35_9 (Nat.le_refl _) (Nat.le_of_ble_eq_true rfl) (Nat.le_of_ble_eq_true rfl) rfl k
                                  · have k := zif h16_ k
                                    by_cases h17_ : (gi M b1 6) = 25
                                    · have k := zit h17_ k
                                      refine z_tableIn (off := 96) (tgt := 103) dX9_wordAlone_7 (by rw [h17_]; decide) (by rw [h17_]; decide) (by rw [h17_]; rfl) rfl ?_
                                      refine z_new dX9_wordAlone_103 csX9_353 zff_24 ?_
                                      exact k
                                    · have k := zif h17_ k
                                      refine z_tout (tgt := 233) [8, 9, 10, 11, 12, 13, 14, 15, 16, 17, 18, 19, 20, 21, 22, 23, 24, 25] (by decide) dX9_wordAlone_7 (zall_1 h0_ (zall_1 h1_ (zall_1 h2_ (zall_1 h3_ (zall_1 h4_ (zall_1 h5_ (zall_1 h6_ (zall_1 h7_ (zall_1 h8_ (zall_1 h9_ (zall_1 h10_ (zall_1 h11_ (zall_1 h12_ (zall_1 h13_ (zall_1 h14_ (zall_1 h15_ (zall_1 h16_ (zall_1 h17_ zall_0)))))))))))))))))) rfl ?_
                                      refine z_aload_n dX9_wordAlone_233 rfl rfl ?_
                                      refine z_getr (r := (gr M a0 1)) dX9_wordAlone_234 fsX9_27_8 rfl ?_
                                      refine z_iconst (v := 2) dX9_wordAlone_237 rfl ?_
                                      obtain ⟨b13, e13_, k⟩ := k
                                      refine Z.eqs (lv' := [(0, vr (some (a0, 8, 0)))]) (st' := [vi (2 : Int32), vr (some (b13, 9, 0))]) rfl (by rw [e13_] <;> rfl) ?_
                                      refine Z.pick [] rfl ?_
                                      exact z_callV (as := [vi (2 : Int32)]) (st := []) dX9_wordAlone_238 vsX9_35_9 (Nat.le_refl _) (Nat.le_of_ble_eq_true rfl) (Nat.le_of_ble_eq_true rfl) rfl k
theorem sX9_wordAlone_95 {E : zE} {d : Nat} {Q : zO → zM → Prop} (M : zM) (a0 : Nat) (p0 : Nat) (k : Z E YX19_init d M (zargs 0 [vr (some (p0, 25, 0))]) 0 [] (zafter E YX9_wordAlone (d + 1) [(0, vr (some (a0, 8, 0)))] 96 3 [vr (some (p0, 25, 0))] Q)) : Z E YX9_wordAlone (d + 1) M [(0, vr (some (a0, 8, 0)))] 95 [vr (some (p0, 25, 0))] Q := by
  refine z_dup dX9_wordAlone_95 rfl ?_
  exact z_callI (as := []) (st := [vr (some (p0, 25, 0))]) dX9_wordAlone_96 isX9_372 (Nat.le_refl _) (Nat.le_of_ble_eq_true rfl) (Nat.le_of_ble_eq_true rfl) rfl k
theorem sX9_wordAlone_99 {E : zE} {d : Nat} {Q : zO → zM → Prop} (M : zM) (a0 : Nat) (p0 : Nat) (k : ∃ b1 : Nat, (gr M a0 1) = some (b1, 9, 0) ∧ (Z E YX10_next d M (zargs 0 [vr (some (b1, 9, 0))]) 0 [] (zafter E YX9_wordAlone (d + 1) [(1, vr (some (p0, 25, 0)))] 246 3 [] Q))) : Z E YX9_wordAlone (d + 1) M [(0, vr (some (a0, 8, 0)))] 99 [vr (some (p0, 25, 0))] Q := by
  refine z_ast_n dX9_wordAlone_99 rfl (by decide) (lv' := [(0, vr (some (a0, 8, 0))), (1, vr (some (p0, 25, 0)))]) rfl ?_
  refine z_goto (tgt := 242) dX9_wordAlone_100 rfl ?_
  refine z_aload_n dX9_wordAlone_242 rfl rfl ?_
  refine z_getr (r := (gr M a0 1)) dX9_wordAlone_243 fsX9_27_8 rfl ?_
  obtain ⟨b1, e1_, k⟩ := k
  refine Z.eqs (lv' := [(0, vr (some (a0, 8, 0))), (1, vr (some (p0, 25, 0)))]) (st' := [vr (some (b1, 9, 0))]) rfl (by rw [e1_] <;> rfl) ?_
  refine Z.pick [1] rfl ?_
  exact z_callV (as := []) (st := []) dX9_wordAlone_246 vsX9_52_9 (Nat.le_refl _) (Nat.le_of_ble_eq_true rfl) (Nat.le_of_ble_eq_true rfl) rfl k
theorem sX9_wordAlone_106 {E : zE} {d : Nat} {Q : zO → zM → Prop} (M : zM) (a0 : Nat) (p0 : Nat) (k : Z E YX18_init d M (zargs 0 [vr (some (p0, 24, 0)), vi (0 : Int32), vi (0 : Int32)]) 0 [] (zafter E YX9_wordAlone (d + 1) [(0, vr (some (a0, 8, 0)))] 109 3 [vr (some (p0, 24, 0))] Q)) : Z E YX9_wordAlone (d + 1) M [(0, vr (some (a0, 8, 0)))] 106 [vr (some (p0, 24, 0))] Q := by
  refine z_dup dX9_wordAlone_106 rfl ?_
  refine z_iconst (v := 0) dX9_wordAlone_107 rfl ?_
  refine z_iconst (v := 0) dX9_wordAlone_108 rfl ?_
  exact z_callI (as := [vi (0 : Int32), vi (0 : Int32)]) (st := [vr (some (p0, 24, 0))]) dX9_wordAlone_109 isX9_358 (Nat.le_refl _) (Nat.le_of_ble_eq_true rfl) (Nat.le_of_ble_eq_true rfl) rfl k
theorem sX9_wordAlone_112 {E : zE} {d : Nat} {Q : zO → zM → Prop} (M : zM) (a0 : Nat) (p0 : Nat) (k : ∃ b1 : Nat, (gr M a0 1) = some (b1, 9, 0) ∧ (Z E YX10_next d M (zargs 0 [vr (some (b1, 9, 0))]) 0 [] (zafter E YX9_wordAlone (d + 1) [(1, vr (some (p0, 24, 0)))] 246 3 [] Q))) : Z E YX9_wordAlone (d + 1) M [(0, vr (some (a0, 8, 0)))] 112 [vr (some (p0, 24, 0))] Q := by
  refine z_ast_n dX9_wordAlone_112 rfl (by decide) (lv' := [(0, vr (some (a0, 8, 0))), (1, vr (some (p0, 24, 0)))]) rfl ?_
  refine z_goto (tgt := 242) dX9_wordAlone_113 rfl ?_
  refine z_aload_n dX9_wordAlone_242 rfl rfl ?_
  refine z_getr (r := (gr M a0 1)) dX9_wordAlone_243 fsX9_27_8 rfl ?_
  obtain ⟨b1, e1_, k⟩ := k
  refine Z.eqs (lv' := [(0, vr (some (a0, 8, 0))), (1, vr (some (p0, 24, 0)))]) (st' := [vr (some (b1, 9, 0))]) rfl (by rw [e1_] <;> rfl) ?_
  refine Z.pick [1] rfl ?_
  exact z_callV (as := []) (st := []) dX9_wordAlone_246 vsX9_52_9 (Nat.le_refl _) (Nat.le_of_ble_eq_true rfl) (Nat.le_of_ble_eq_true rfl) rfl k
theorem sX9_wordAlone_119 {E : zE} {d : Nat} {Q : zO → zM → Prop} (M : zM) (a0 : Nat) (p0 : Nat) (k : Z E YX18_init d M (zargs 0 [vr (some (p0, 24, 0)), vi (1 : Int32), vi (0 : Int32)]) 0 [] (zafter E YX9_wordAlone (d + 1) [(0, vr (some (a0, 8, 0)))] 122 3 [vr (some (p0, 24, 0))] Q)) : Z E YX9_wordAlone (d + 1) M [(0, vr (some (a0, 8, 0)))] 119 [vr (some (p0, 24, 0))] Q := by
  refine z_dup dX9_wordAlone_119 rfl ?_
  refine z_iconst (v := 1) dX9_wordAlone_120 rfl ?_
  refine z_iconst (v := 0) dX9_wordAlone_121 rfl ?_
  exact z_callI (as := [vi (1 : Int32), vi (0 : Int32)]) (st := [vr (some (p0, 24, 0))]) dX9_wordAlone_122 isX9_358 (Nat.le_refl _) (Nat.le_of_ble_eq_true rfl) (Nat.le_of_ble_eq_true rfl) rfl k
theorem sX9_wordAlone_125 {E : zE} {d : Nat} {Q : zO → zM → Prop} (M : zM) (a0 : Nat) (p0 : Nat) (k : ∃ b1 : Nat, (gr M a0 1) = some (b1, 9, 0) ∧ (Z E YX10_next d M (zargs 0 [vr (some (b1, 9, 0))]) 0 [] (zafter E YX9_wordAlone (d + 1) [(1, vr (some (p0, 24, 0)))] 246 3 [] Q))) : Z E YX9_wordAlone (d + 1) M [(0, vr (some (a0, 8, 0)))] 125 [vr (some (p0, 24, 0))] Q := by
  refine z_ast_n dX9_wordAlone_125 rfl (by decide) (lv' := [(0, vr (some (a0, 8, 0))), (1, vr (some (p0, 24, 0)))]) rfl ?_
  refine z_goto (tgt := 242) dX9_wordAlone_126 rfl ?_
  refine z_aload_n dX9_wordAlone_242 rfl rfl ?_
  refine z_getr (r := (gr M a0 1)) dX9_wordAlone_243 fsX9_27_8 rfl ?_
  obtain ⟨b1, e1_, k⟩ := k
  refine Z.eqs (lv' := [(0, vr (some (a0, 8, 0))), (1, vr (some (p0, 24, 0)))]) (st' := [vr (some (b1, 9, 0))]) rfl (by rw [e1_] <;> rfl) ?_
  refine Z.pick [1] rfl ?_
  exact z_callV (as := []) (st := []) dX9_wordAlone_246 vsX9_52_9 (Nat.le_refl _) (Nat.le_of_ble_eq_true rfl) (Nat.le_of_ble_eq_true rfl) rfl k
theorem sX9_wordAlone_132 {E : zE} {d : Nat} {Q : zO → zM → Prop} (M : zM) (a0 : Nat) (p0 : Nat) (k : Z E YX18_init d M (zargs 0 [vr (some (p0, 24, 0)), vi (2 : Int32), vi (0 : Int32)]) 0 [] (zafter E YX9_wordAlone (d + 1) [(0, vr (some (a0, 8, 0)))] 135 3 [vr (some (p0, 24, 0))] Q)) : Z E YX9_wordAlone (d + 1) M [(0, vr (some (a0, 8, 0)))] 132 [vr (some (p0, 24, 0))] Q := by
  refine z_dup dX9_wordAlone_132 rfl ?_
  refine z_iconst (v := 2) dX9_wordAlone_133 rfl ?_
  refine z_iconst (v := 0) dX9_wordAlone_134 rfl ?_
  exact z_callI (as := [vi (2 : Int32), vi (0 : Int32)]) (st := [vr (some (p0, 24, 0))]) dX9_wordAlone_135 isX9_358 (Nat.le_refl _) (Nat.le_of_ble_eq_true rfl) (Nat.le_of_ble_eq_true rfl) rfl k
theorem sX9_wordAlone_138 {E : zE} {d : Nat} {Q : zO → zM → Prop} (M : zM) (a0 : Nat) (p0 : Nat) (k : ∃ b1 : Nat, (gr M a0 1) = some (b1, 9, 0) ∧ (Z E YX10_next d M (zargs 0 [vr (some (b1, 9, 0))]) 0 [] (zafter E YX9_wordAlone (d + 1) [(1, vr (some (p0, 24, 0)))] 246 3 [] Q))) : Z E YX9_wordAlone (d + 1) M [(0, vr (some (a0, 8, 0)))] 138 [vr (some (p0, 24, 0))] Q := by
  refine z_ast_n dX9_wordAlone_138 rfl (by decide) (lv' := [(0, vr (some (a0, 8, 0))), (1, vr (some (p0, 24, 0)))]) rfl ?_
  refine z_goto (tgt := 242) dX9_wordAlone_139 rfl ?_
  refine z_aload_n dX9_wordAlone_242 rfl rfl ?_
  refine z_getr (r := (gr M a0 1)) dX9_wordAlone_243 fsX9_27_8 rfl ?_
  obtain ⟨b1, e1_, k⟩ := k
  refine Z.eqs (lv' := [(0, vr (some (a0, 8, 0))), (1, vr (some (p0, 24, 0)))]) (st' := [vr (some (b1, 9, 0))]) rfl (by rw [e1_] <;> rfl) ?_
  refine Z.pick [1] rfl ?_
  exact z_callV (as := []) (st := []) dX9_wordAlone_246 vsX9_52_9 (Nat.le_refl _) (Nat.le_of_ble_eq_true rfl) (Nat.le_of_ble_eq_true rfl) rfl k
theorem sX9_wordAlone_145 {E : zE} {d : Nat} {Q : zO → zM → Prop} (M : zM) (a0 : Nat) (p0 : Nat) (k : Z E YX18_init d M (zargs 0 [vr (some (p0, 24, 0)), vi (3 : Int32), vi (0 : Int32)]) 0 [] (zafter E YX9_wordAlone (d + 1) [(0, vr (some (a0, 8, 0)))] 148 3 [vr (some (p0, 24, 0))] Q)) : Z E YX9_wordAlone (d + 1) M [(0, vr (some (a0, 8, 0)))] 145 [vr (some (p0, 24, 0))] Q := by
  refine z_dup dX9_wordAlone_145 rfl ?_
  refine z_iconst (v := 3) dX9_wordAlone_146 rfl ?_
  refine z_iconst (v := 0) dX9_wordAlone_147 rfl ?_
  exact z_callI (as := [vi (3 : Int32), vi (0 : Int32)]) (st := [vr (some (p0, 24, 0))]) dX9_wordAlone_148 isX9_358 (Nat.le_refl _) (Nat.le_of_ble_eq_true rfl) (Nat.le_of_ble_eq_true rfl) rfl k
theorem sX9_wordAlone_151 {E : zE} {d : Nat} {Q : zO → zM → Prop} (M : zM) (a0 : Nat) (p0 : Nat) (k : ∃ b1 : Nat, (gr M a0 1) = some (b1, 9, 0) ∧ (Z E YX10_next d M (zargs 0 [vr (some (b1, 9, 0))]) 0 [] (zafter E YX9_wordAlone (d + 1) [(1, vr (some (p0, 24, 0)))] 246 3 [] Q))) : Z E YX9_wordAlone (d + 1) M [(0, vr (some (a0, 8, 0)))] 151 [vr (some (p0, 24, 0))] Q := by
  refine z_ast_n dX9_wordAlone_151 rfl (by decide) (lv' := [(0, vr (some (a0, 8, 0))), (1, vr (some (p0, 24, 0)))]) rfl ?_
  refine z_goto (tgt := 242) dX9_wordAlone_152 rfl ?_
  refine z_aload_n dX9_wordAlone_242 rfl rfl ?_
  refine z_getr (r := (gr M a0 1)) dX9_wordAlone_243 fsX9_27_8 rfl ?_
  obtain ⟨b1, e1_, k⟩ := k
  refine Z.eqs (lv' := [(0, vr (some (a0, 8, 0))), (1, vr (some (p0, 24, 0)))]) (st' := [vr (some (b1, 9, 0))]) rfl (by rw [e1_] <;> rfl) ?_
  refine Z.pick [1] rfl ?_
  exact z_callV (as := []) (st := []) dX9_wordAlone_246 vsX9_52_9 (Nat.le_refl _) (Nat.le_of_ble_eq_true rfl) (Nat.le_of_ble_eq_true rfl) rfl k
theorem sX9_wordAlone_158 {E : zE} {d : Nat} {Q : zO → zM → Prop} (M : zM) (a0 : Nat) (p0 : Nat) (k : Z E YX18_init d M (zargs 0 [vr (some (p0, 24, 0)), vi (4 : Int32), vi (0 : Int32)]) 0 [] (zafter E YX9_wordAlone (d + 1) [(0, vr (some (a0, 8, 0)))] 161 3 [vr (some (p0, 24, 0))] Q)) : Z E YX9_wordAlone (d + 1) M [(0, vr (some (a0, 8, 0)))] 158 [vr (some (p0, 24, 0))] Q := by
  refine z_dup dX9_wordAlone_158 rfl ?_
  refine z_iconst (v := 4) dX9_wordAlone_159 rfl ?_
  refine z_iconst (v := 0) dX9_wordAlone_160 rfl ?_
  exact z_callI (as := [vi (4 : Int32), vi (0 : Int32)]) (st := [vr (some (p0, 24, 0))]) dX9_wordAlone_161 isX9_358 (Nat.le_refl _) (Nat.le_of_ble_eq_true rfl) (Nat.le_of_ble_eq_true rfl) rfl k
theorem sX9_wordAlone_164 {E : zE} {d : Nat} {Q : zO → zM → Prop} (M : zM) (a0 : Nat) (p0 : Nat) (k : ∃ b1 : Nat, (gr M a0 1) = some (b1, 9, 0) ∧ (Z E YX10_next d M (zargs 0 [vr (some (b1, 9, 0))]) 0 [] (zafter E YX9_wordAlone (d + 1) [(1, vr (some (p0, 24, 0)))] 246 3 [] Q))) : Z E YX9_wordAlone (d + 1) M [(0, vr (some (a0, 8, 0)))] 164 [vr (some (p0, 24, 0))] Q := by
  refine z_ast_n dX9_wordAlone_164 rfl (by decide) (lv' := [(0, vr (some (a0, 8, 0))), (1, vr (some (p0, 24, 0)))]) rfl ?_
  refine z_goto (tgt := 242) dX9_wordAlone_165 rfl ?_
  refine z_aload_n dX9_wordAlone_242 rfl rfl ?_
  refine z_getr (r := (gr M a0 1)) dX9_wordAlone_243 fsX9_27_8 rfl ?_
  obtain ⟨b1, e1_, k⟩ := k
  refine Z.eqs (lv' := [(0, vr (some (a0, 8, 0))), (1, vr (some (p0, 24, 0)))]) (st' := [vr (some (b1, 9, 0))]) rfl (by rw [e1_] <;> rfl) ?_
  refine Z.pick [1] rfl ?_
  exact z_callV (as := []) (st := []) dX9_wordAlone_246 vsX9_52_9 (Nat.le_refl _) (Nat.le_of_ble_eq_true rfl) (Nat.le_of_ble_eq_true rfl) rfl k
theorem sX9_wordAlone_172 {E : zE} {d : Nat} {Q : zO → zM → Prop} (M : zM) (a0 : Nat) (k : ∃ b1 : Nat, (gr M a0 1) = some (b1, 9, 0) ∧ (Z E YX10_next d M (zargs 0 [vr (some (b1, 9, 0))]) 0 [] (zafter E YX9_wordAlone (d + 1) [(0, vr (some (a0, 8, 0)))] 176 3 [] Q))) : Z E YX9_wordAlone (d + 1) M [(0, vr (some (a0, 8, 0)))] 172 [] Q := by
  refine z_aload_n dX9_wordAlone_172 rfl rfl ?_
  refine z_getr (r := (gr M a0 1)) dX9_wordAlone_173 fsX9_27_8 rfl ?_
  obtain ⟨b1, e1_, k⟩ := k
  refine Z.eqs (lv' := [(0, vr (some (a0, 8, 0)))]) (st' := [vr (some (b1, 9, 0))]) rfl (by rw [e1_] <;> rfl) ?_
  exact z_callV (as := []) (st := []) dX9_wordAlone_176 vsX9_52_9 (Nat.le_refl _) (Nat.le_of_ble_eq_true rfl) (Nat.le_of_ble_eq_true rfl) rfl k
theorem sX9_wordAlone_179 {E : zE} {d : Nat} {Q : zO → zM → Prop} (M : zM) (a0 : Nat) (k : Z E YX9_begun d M (zargs 0 [vr (some (a0, 8, 0))]) 0 [] (zafter E YX9_wordAlone (d + 1) [(0, vr (some (a0, 8, 0)))] 180 3 [] Q)) : Z E YX9_wordAlone (d + 1) M [(0, vr (some (a0, 8, 0)))] 179 [] Q := by
  refine z_aload_n dX9_wordAlone_179 rfl rfl ?_
  exact z_callV (as := []) (st := []) dX9_wordAlone_180 vsX9_75_8 (Nat.le_refl _) (Nat.le_of_ble_eq_true rfl) (Nat.le_of_ble_eq_true rfl) rfl k
theorem sX9_wordAlone_183 {E : zE} {d : Nat} {Q : zO → zM → Prop} (M : zM) (a0 : Nat) (u0 : Option zP) (k : ∃ b1 : Nat, (gr M a0 1) = some (b1, 9, 0) ∧ (if (gi M b1 3) = (1 : Int32) then (∃ b2 : Nat, (gr M a0 1) = some (b2, 9, 0) ∧ (Z E YX10_needName d M (zargs 0 [vr (some (b2, 9, 0))]) 0 [] (zafter E YX9_wordAlone (d + 1) [(0, vr (some (a0, 8, 0))), (2, vr u0)] 200 3 [vr u0] Q))) else (Z E YX9_inside d M (zargs 0 [vr (some (a0, 8, 0)), vr u0]) 0 [] (zafter E YX9_wordAlone (d + 1) [(0, vr (some (a0, 8, 0))), (2, vr u0)] 208 3 [] Q)))) : Z E YX9_wordAlone (d + 1) M [(0, vr (some (a0, 8, 0)))] 183 [vr u0] Q := by
  refine z_ast_n dX9_wordAlone_183 rfl (by decide) (lv' := [(0, vr (some (a0, 8, 0))), (2, vr u0)]) rfl ?_
  refine z_aload_n dX9_wordAlone_184 rfl rfl ?_
  refine z_getr (r := (gr M a0 1)) dX9_wordAlone_185 fsX9_27_8 rfl ?_
  obtain ⟨b1, e1_, k⟩ := k
  refine Z.eqs (lv' := [(0, vr (some (a0, 8, 0))), (2, vr u0)]) (st' := [vr (some (b1, 9, 0))]) rfl (by rw [e1_] <;> rfl) ?_
  refine z_geti dX9_wordAlone_188 fsX9_55_9 ?_
  refine z_iconst (v := 1) dX9_wordAlone_191 rfl ?_
  refine z_icmp_ne (tgt := 206) dX9_wordAlone_192 rfl (fun h_ => ?_) (fun h_ => ?_)
  · have k := zif h_ k
    refine z_aload_n dX9_wordAlone_206 rfl rfl ?_
    refine z_aload_n dX9_wordAlone_207 rfl rfl ?_
    exact z_callV (as := [vr u0]) (st := []) dX9_wordAlone_208 vsX9_95_8 (Nat.le_refl _) (Nat.le_of_ble_eq_true rfl) (Nat.le_of_ble_eq_true rfl) rfl k
  · have k := zit h_ k
    refine z_aload_n dX9_wordAlone_195 rfl rfl ?_
    refine z_aload_n dX9_wordAlone_196 rfl rfl ?_
    refine z_getr (r := (gr M a0 1)) dX9_wordAlone_197 fsX9_27_8 rfl ?_
    obtain ⟨b2, e2_, k⟩ := k
    refine Z.eqs (lv' := [(0, vr (some (a0, 8, 0))), (2, vr u0)]) (st' := [vr (some (b2, 9, 0)), vr u0]) rfl (by rw [e2_] <;> rfl) ?_
    exact z_callV (as := []) (st := [vr u0]) dX9_wordAlone_200 vsX9_79_9 (Nat.le_refl _) (Nat.le_of_ble_eq_true rfl) (Nat.le_of_ble_eq_true rfl) rfl k
theorem sX9_wordAlone_203 {E : zE} {d : Nat} {Q : zO → zM → Prop} (M : zM) (a0 : Nat) (r2 : Option zP) (s0 : Int32) (u1 : Option zP) (k : ∃ b1 : Nat, u1 = some (b1, 10, 0) ∧ (16 ≤ b1 ∧ (Z E YX9_inside d (si M b1 8 s0) (zargs 0 [vr (some (a0, 8, 0)), vr r2]) 0 [] (zafter E YX9_wordAlone (d + 1) [(0, vr (some (a0, 8, 0))), (2, vr r2)] 208 3 [] Q)))) : Z E YX9_wordAlone (d + 1) M [(0, vr (some (a0, 8, 0))), (2, vr r2)] 203 [vi s0, vr u1] Q := by
  obtain ⟨b1, e1_, k⟩ := k
  refine Z.eqs (lv' := [(0, vr (some (a0, 8, 0))), (2, vr r2)]) (st' := [vi s0, vr (some (b1, 10, 0))]) rfl (by rw [e1_] <;> rfl) ?_
  obtain ⟨g_, k⟩ := k
  refine z_puti g_ dX9_wordAlone_203 (zfwN.w fwX9_123_10) rfl ⟨rfl, rfl⟩ ?_
  refine z_aload_n dX9_wordAlone_206 rfl rfl ?_
  refine z_aload_n dX9_wordAlone_207 rfl rfl ?_
  exact z_callV (as := [vr r2]) (st := []) dX9_wordAlone_208 vsX9_95_8 (Nat.le_refl _) (Nat.le_of_ble_eq_true rfl) (Nat.le_of_ble_eq_true rfl) rfl k
theorem sX9_wordAlone_211 {E : zE} {d : Nat} {Q : zO → zM → Prop} (M : zM) (a0 : Nat) (r2 : Option zP) (k : 16 ≤ a0 ∧ (Z E YX9_wordAlone (d + 1) (zn (si M a0 4 ((gi M a0 4) - (1 : Int32))) 1) [(2, vr r2)] 224 [vr (some ((zsz M), 26, 0))] Q)) : Z E YX9_wordAlone (d + 1) M [(0, vr (some (a0, 8, 0))), (2, vr r2)] 211 [] Q := by
  refine z_aload_n dX9_wordAlone_211 rfl rfl ?_
  refine z_dup dX9_wordAlone_212 rfl ?_
  refine z_geti dX9_wordAlone_213 fsX9_31_8 ?_
  refine z_iconst (v := 1) dX9_wordAlone_216 rfl ?_
  refine z_isub dX9_wordAlone_217 ?_
  obtain ⟨g_, k⟩ := k
  refine z_puti g_ dX9_wordAlone_218 (zfwN.w fwX9_31_8) rfl ⟨rfl, rfl⟩ ?_
  refine z_new dX9_wordAlone_221 csX9_373 zff_26 ?_
  refine Z.pick [1] rfl ?_
  exact k
theorem sX9_wordAlone_224 {E : zE} {d : Nat} {Q : zO → zM → Prop} (M : zM) (r2 : Option zP) (p0 : Nat) (k : ∃ b1 : Nat, r2 = some (b1, 10, 0) ∧ (Z E YX20_init d M (zargs 0 [vr (some (p0, 26, 0)), vi (gi M b1 0)]) 0 [] (zafter E YX9_wordAlone (d + 1) [] 229 3 [vr (some (p0, 26, 0))] Q))) : Z E YX9_wordAlone (d + 1) M [(2, vr r2)] 224 [vr (some (p0, 26, 0))] Q := by
  refine z_dup dX9_wordAlone_224 rfl ?_
  refine z_aload_n dX9_wordAlone_225 rfl rfl ?_
  obtain ⟨b1, e1_, k⟩ := k
  refine Z.eqs (lv' := [(2, vr (some (b1, 10, 0)))]) (st' := [vr (some (b1, 10, 0)), vr (some (p0, 26, 0)), vr (some (p0, 26, 0))]) (by rw [e1_] <;> rfl) (by rw [e1_] <;> rfl) ?_
  refine z_geti dX9_wordAlone_226 fsX9_375_10 ?_
  refine Z.pick [] rfl ?_
  exact z_callI (as := [vi (gi M b1 0)]) (st := [vr (some (p0, 26, 0))]) dX9_wordAlone_229 isX9_378 (Nat.le_refl _) (Nat.le_of_ble_eq_true rfl) (Nat.le_of_ble_eq_true rfl) rfl k
theorem sX9_wordAlone_232 {E : zE} {d : Nat} {Q : zO → zM → Prop} (M : zM) (p0 : Nat) (k : Q (.inl (some (vr (some (p0, 26, 0))))) M) : Z E YX9_wordAlone (d + 1) M [] 232 [vr (some (p0, 26, 0))] Q := by
  exact z_aret dX9_wordAlone_232 rfl rfl k
theorem sX9_wordAlone_241 {E : zE} {d : Nat} {Q : zO → zM → Prop} (M : zM) (u0 : Option zP) (k : ∃ b1 : Nat, u0 = some (b1, 12, 0) ∧ (Q (.inr (b1, 12, 0)) M)) : Z E YX9_wordAlone (d + 1) M [] 241 [vr u0] Q := by
  obtain ⟨b1, e1_, k⟩ := k
  refine Z.eqs (lv' := []) (st' := [vr (some (b1, 12, 0))]) rfl (by rw [e1_] <;> rfl) ?_
  exact z_athrow dX9_wordAlone_241 (ZT.out (by decide) k)
theorem sX9_wordAlone_249 {E : zE} {d : Nat} {Q : zO → zM → Prop} (M : zM) (r1 : Option zP) (k : Q (.inl (some (vr r1))) M) : Z E YX9_wordAlone (d + 1) M [(1, vr r1)] 249 [] Q := by
  refine z_aload_n dX9_wordAlone_249 rfl rfl ?_
  exact z_aret dX9_wordAlone_250 rfl rfl k
/-! ScriptTypes$Parser.begun()LScriptTypes$Code; -/
theorem bX9_begun_0 : zdec cX9_begun 0 [(0, .new 39, 3), (3, .dup, 1), (4, .aload_n 0, 1), (5, .getfield 12, 3), (8, .invokevirtual 99, 3), (11, .aload_n 0, 1), (12, .getfield 44, 3), (15, .invokespecial 41, 3), (18, .astore_n 1, 1), (19, .aload_n 0, 1), (20, .getfield 12, 3), (23, .aload_n 1, 1), (24, .invokevirtual 48, 3), (27, .pop, 1), (28, .aload_n 1, 1), (29, .areturn, 1)] = true := by decide +kernel
theorem dX9_begun_0 : decode cX9_begun 0 = .ok (.new 39, 3) := zdec_at bX9_begun_0 0 rfl
theorem dX9_begun_3 : decode cX9_begun 3 = .ok (.dup, 1) := zdec_at bX9_begun_0 1 rfl
theorem dX9_begun_4 : decode cX9_begun 4 = .ok (.aload_n 0, 1) := zdec_at bX9_begun_0 2 rfl
theorem dX9_begun_5 : decode cX9_begun 5 = .ok (.getfield 12, 3) := zdec_at bX9_begun_0 3 rfl
theorem dX9_begun_8 : decode cX9_begun 8 = .ok (.invokevirtual 99, 3) := zdec_at bX9_begun_0 4 rfl
theorem dX9_begun_11 : decode cX9_begun 11 = .ok (.aload_n 0, 1) := zdec_at bX9_begun_0 5 rfl
theorem dX9_begun_12 : decode cX9_begun 12 = .ok (.getfield 44, 3) := zdec_at bX9_begun_0 6 rfl
theorem dX9_begun_15 : decode cX9_begun 15 = .ok (.invokespecial 41, 3) := zdec_at bX9_begun_0 7 rfl
theorem dX9_begun_18 : decode cX9_begun 18 = .ok (.astore_n 1, 1) := zdec_at bX9_begun_0 8 rfl
theorem dX9_begun_19 : decode cX9_begun 19 = .ok (.aload_n 0, 1) := zdec_at bX9_begun_0 9 rfl
theorem dX9_begun_20 : decode cX9_begun 20 = .ok (.getfield 12, 3) := zdec_at bX9_begun_0 10 rfl
theorem dX9_begun_23 : decode cX9_begun 23 = .ok (.aload_n 1, 1) := zdec_at bX9_begun_0 11 rfl
theorem dX9_begun_24 : decode cX9_begun 24 = .ok (.invokevirtual 48, 3) := zdec_at bX9_begun_0 12 rfl
theorem dX9_begun_27 : decode cX9_begun 27 = .ok (.pop, 1) := zdec_at bX9_begun_0 13 rfl
theorem dX9_begun_28 : decode cX9_begun 28 = .ok (.aload_n 1, 1) := zdec_at bX9_begun_0 14 rfl
theorem dX9_begun_29 : decode cX9_begun 29 = .ok (.areturn, 1) := zdec_at bX9_begun_0 15 rfl
theorem sX9_begun_0 {E : zE} {d : Nat} {Q : zO → zM → Prop} (M : zM) (a0 : Nat) (k : Z E YX9_begun (d + 1) (zn M 10) [(0, vr (some (a0, 8, 0)))] 3 [vr (some ((zsz M), 10, 0))] Q) : Z E YX9_begun (d + 1) M [(0, vr (some (a0, 8, 0)))] 0 [] Q := by
  refine z_new dX9_begun_0 csX9_39 zff_10 ?_
  exact k
theorem sX9_begun_3 {E : zE} {d : Nat} {Q : zO → zM → Prop} (M : zM) (a0 : Nat) (p0 : Nat) (k : ∃ b1 : Nat, (gr M a0 2) = some (b1, 11, 0) ∧ (Z E YJ2_size d M (zargs 0 [vr (some (b1, 11, 0))]) 0 [] (zafter E YX9_begun (d + 1) [(0, vr (some (a0, 8, 0)))] 8 3 [vr (some (p0, 10, 0)), vr (some (p0, 10, 0))] Q))) : Z E YX9_begun (d + 1) M [(0, vr (some (a0, 8, 0)))] 3 [vr (some (p0, 10, 0))] Q := by
  refine z_dup dX9_begun_3 rfl ?_
  refine z_aload_n dX9_begun_4 rfl rfl ?_
  refine z_getr (r := (gr M a0 2)) dX9_begun_5 fsX9_12_8 rfl ?_
  obtain ⟨b1, e1_, k⟩ := k
  refine Z.eqs (lv' := [(0, vr (some (a0, 8, 0)))]) (st' := [vr (some (b1, 11, 0)), vr (some (p0, 10, 0)), vr (some (p0, 10, 0))]) rfl (by rw [e1_] <;> rfl) ?_
  exact z_callV (as := []) (st := [vr (some (p0, 10, 0)), vr (some (p0, 10, 0))]) dX9_begun_8 vsX9_99_11 (Nat.le_refl _) (Nat.le_of_ble_eq_true rfl) (Nat.le_of_ble_eq_true rfl) rfl k
theorem sX9_begun_11 {E : zE} {d : Nat} {Q : zO → zM → Prop} (M : zM) (a0 : Nat) (s0 : Int32) (p1 : Nat) (p2 : Nat) (k : Z E YX11_init d M (zargs 0 [vr (some (p1, 10, 0)), vi s0, vr (gr M a0 3)]) 0 [] (zafter E YX9_begun (d + 1) [(0, vr (some (a0, 8, 0)))] 15 3 [vr (some (p2, 10, 0))] Q)) : Z E YX9_begun (d + 1) M [(0, vr (some (a0, 8, 0)))] 11 [vi s0, vr (some (p1, 10, 0)), vr (some (p2, 10, 0))] Q := by
  refine z_aload_n dX9_begun_11 rfl rfl ?_
  refine z_getr (r := (gr M a0 3)) dX9_begun_12 fsX9_44_8 rfl ?_
  exact z_callI (as := [vi s0, vr (gr M a0 3)]) (st := [vr (some (p2, 10, 0))]) dX9_begun_15 isX9_41 (Nat.le_refl _) (Nat.le_of_ble_eq_true rfl) (Nat.le_of_ble_eq_true rfl) rfl k
theorem sX9_begun_18 {E : zE} {d : Nat} {Q : zO → zM → Prop} (M : zM) (a0 : Nat) (p0 : Nat) (k : ∃ b1 : Nat, (gr M a0 2) = some (b1, 11, 0) ∧ (Z E YJ2_add d M (zargs 0 [vr (some (b1, 11, 0)), vr (some (p0, 10, 0))]) 0 [] (zafter E YX9_begun (d + 1) [(1, vr (some (p0, 10, 0)))] 24 3 [] Q))) : Z E YX9_begun (d + 1) M [(0, vr (some (a0, 8, 0)))] 18 [vr (some (p0, 10, 0))] Q := by
  refine z_ast_n dX9_begun_18 rfl (by decide) (lv' := [(0, vr (some (a0, 8, 0))), (1, vr (some (p0, 10, 0)))]) rfl ?_
  refine z_aload_n dX9_begun_19 rfl rfl ?_
  refine z_getr (r := (gr M a0 2)) dX9_begun_20 fsX9_12_8 rfl ?_
  refine z_aload_n dX9_begun_23 rfl rfl ?_
  obtain ⟨b1, e1_, k⟩ := k
  refine Z.eqs (lv' := [(0, vr (some (a0, 8, 0))), (1, vr (some (p0, 10, 0)))]) (st' := [vr (some (p0, 10, 0)), vr (some (b1, 11, 0))]) rfl (by rw [e1_] <;> rfl) ?_
  refine Z.pick [1] rfl ?_
  exact z_callV (as := [vr (some (p0, 10, 0))]) (st := []) dX9_begun_24 vsX9_48_11 (Nat.le_refl _) (Nat.le_of_ble_eq_true rfl) (Nat.le_of_ble_eq_true rfl) rfl k
theorem sX9_begun_27 {E : zE} {d : Nat} {Q : zO → zM → Prop} (M : zM) (a1 : Nat) (s0 : Int32) (k : Q (.inl (some (vr (some (a1, 10, 0))))) M) : Z E YX9_begun (d + 1) M [(1, vr (some (a1, 10, 0)))] 27 [vi s0] Q := by
  refine z_pop dX9_begun_27 rfl ?_
  refine z_aload_n dX9_begun_28 rfl rfl ?_
  exact z_aret dX9_begun_29 rfl rfl k
