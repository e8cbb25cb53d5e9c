/-! java/util/AbstractCollection.<init>()V -/
theorem bJ0_init_0 : zdec cJ0_init 0 [(0, .aload_n 0, 1), (1, .invokespecial 1, 3), (4, .return_, 1)] = true := by decide +kernel
theorem dJ0_init_0 : decode cJ0_init 0 = .ok (.aload_n 0, 1) := zdec_at bJ0_init_0 0 rfl
theorem dJ0_init_1 : decode cJ0_init 1 = .ok (.invokespecial 1, 3) := zdec_at bJ0_init_0 1 rfl
theorem dJ0_init_4 : decode cJ0_init 4 = .ok (.return_, 1) := zdec_at bJ0_init_0 2 rfl
theorem sJ0_init_0 {E : zE} {d : Nat} {Q : zO → zM → Prop} (M : zM) (a0 : Nat) (t0 : Nat) (k : Q (.inl none) M) : Z E YJ0_init (d + 1) M [(0, vr (some (a0, t0, 0)))] 0 [] Q := by
  refine z_aload_n dJ0_init_0 rfl rfl ?_
  refine z_objInit dJ0_init_1 oiJ0_1 (by omega) (by decide) ?_
  exact z_vret dJ0_init_4 rfl k
/-! java/util/AbstractList.<init>()V -/
theorem bJ1_init_0 : zdec cJ1_init 0 [(0, .aload_n 0, 1), (1, .invokespecial 1, 3), (4, .aload_n 0, 1), (5, .iconst 0, 1), (6, .putfield 7, 3), (9, .return_, 1)] = true := by decide +kernel
theorem dJ1_init_0 : decode cJ1_init 0 = .ok (.aload_n 0, 1) := zdec_at bJ1_init_0 0 rfl
theorem dJ1_init_1 : decode cJ1_init 1 = .ok (.invokespecial 1, 3) := zdec_at bJ1_init_0 1 rfl
theorem dJ1_init_4 : decode cJ1_init 4 = .ok (.aload_n 0, 1) := zdec_at bJ1_init_0 2 rfl
theorem dJ1_init_5 : decode cJ1_init 5 = .ok (.iconst 0, 1) := zdec_at bJ1_init_0 3 rfl
theorem dJ1_init_6 : decode cJ1_init 6 = .ok (.putfield 7, 3) := zdec_at bJ1_init_0 4 rfl
theorem dJ1_init_9 : decode cJ1_init 9 = .ok (.return_, 1) := zdec_at bJ1_init_0 5 rfl
theorem sJ1_init_0 {E : zE} {d : Nat} {Q : zO → zM → Prop} (M : zM) (a0 : Nat) (k : Z E YJ0_init d M (zargs 0 [vr (some (a0, 11, 0))]) 0 [] (zafter E YJ1_init (d + 1) [(0, vr (some (a0, 11, 0)))] 1 3 [] Q)) : Z E YJ1_init (d + 1) M [(0, vr (some (a0, 11, 0)))] 0 [] Q := by
  refine z_aload_n dJ1_init_0 rfl rfl ?_
  exact z_callI (as := []) (st := []) dJ1_init_1 isJ1_1 (Nat.le_refl _) (Nat.le_of_ble_eq_true rfl) (Nat.le_of_ble_eq_true rfl) rfl k
theorem sJ1_init_4 {E : zE} {d : Nat} {Q : zO → zM → Prop} (M : zM) (a0 : Nat) (k : 16 ≤ a0 ∧ (Q (.inl none) (si M a0 0 (0 : Int32)))) : Z E YJ1_init (d + 1) M [(0, vr (some (a0, 11, 0)))] 4 [] Q := by
  refine z_aload_n dJ1_init_4 rfl rfl ?_
  refine z_iconst (v := 0) dJ1_init_5 rfl ?_
  obtain ⟨g_, k⟩ := k
  refine z_puti g_ dJ1_init_6 (zfwN.w fwJ1_7_11) rfl ⟨rfl, rfl⟩ ?_
  exact z_vret dJ1_init_9 rfl k
/-! java/util/ArrayList.<init>()V -/
theorem bJ2_init_0 : zdec cJ2_init 0 [(0, .aload_n 0, 1), (1, .invokespecial 1, 3), (4, .aload_n 0, 1), (5, .getstatic 39, 3), (8, .putfield 9, 3), (11, .return_, 1)] = true := by decide +kernel
theorem dJ2_init_0 : decode cJ2_init 0 = .ok (.aload_n 0, 1) := zdec_at bJ2_init_0 0 rfl
theorem dJ2_init_1 : decode cJ2_init 1 = .ok (.invokespecial 1, 3) := zdec_at bJ2_init_0 1 rfl
theorem dJ2_init_4 : decode cJ2_init 4 = .ok (.aload_n 0, 1) := zdec_at bJ2_init_0 2 rfl
theorem dJ2_init_5 : decode cJ2_init 5 = .ok (.getstatic 39, 3) := zdec_at bJ2_init_0 3 rfl
theorem dJ2_init_8 : decode cJ2_init 8 = .ok (.putfield 9, 3) := zdec_at bJ2_init_0 4 rfl
theorem dJ2_init_11 : decode cJ2_init 11 = .ok (.return_, 1) := zdec_at bJ2_init_0 5 rfl
theorem sJ2_init_0 {E : zE} {d : Nat} {Q : zO → zM → Prop} (M : zM) (a0 : Nat) (k : Z E YJ1_init d M (zargs 0 [vr (some (a0, 11, 0))]) 0 [] (zafter E YJ2_init (d + 1) [(0, vr (some (a0, 11, 0)))] 1 3 [] Q)) : Z E YJ2_init (d + 1) M [(0, vr (some (a0, 11, 0)))] 0 [] Q := by
  refine z_aload_n dJ2_init_0 rfl rfl ?_
  exact z_callI (as := []) (st := []) dJ2_init_1 isJ2_1 (Nat.le_refl _) (Nat.le_of_ble_eq_true rfl) (Nat.le_of_ble_eq_true rfl) rfl k
theorem sJ2_init_4 {E : zE} {d : Nat} {Q : zO → zM → Prop} (M : zM) (a0 : Nat) (k : 16 ≤ a0 ∧ (Q (.inl none) (sr M a0 1 (some (1, 110, 0))))) : Z E YJ2_init (d + 1) M [(0, vr (some (a0, 11, 0)))] 4 [] Q := by
  refine z_aload_n dJ2_init_4 rfl rfl ?_
  refine z_gets (i := 0) dJ2_init_5 rfl q549 ?_
  obtain ⟨g_, k⟩ := k
  refine z_putr g_ dJ2_init_8 (zfwN.w fwJ2_9_11) rfl ?_
  exact z_vret dJ2_init_11 rfl k
/-! java/util/ArrayList.add(Ljava/lang/Object;)Z -/
theorem bJ2_add_0 : zdec cJ2_add 0 [(0, .aload_n 0, 1), (1, .dup, 1), (2, .getfield 63, 3), (5, .iconst 1, 1), (6, .iadd, 1), (7, .putfield 63, 3), (10, .aload_n 0, 1), (11, .aload_n 1, 1), (12, .aload_n 0, 1), (13, .getfield 9, 3), (16, .aload_n 0, 1), (17, .getfield 48, 3), (20, .invokevirtual 131, 3), (23, .iconst 1, 1), (24, .ireturn, 1)] = true := by decide +kernel
theorem dJ2_add_0 : decode cJ2_add 0 = .ok (.aload_n 0, 1) := zdec_at bJ2_add_0 0 rfl
theorem dJ2_add_1 : decode cJ2_add 1 = .ok (.dup, 1) := zdec_at bJ2_add_0 1 rfl
theorem dJ2_add_2 : decode cJ2_add 2 = .ok (.getfield 63, 3) := zdec_at bJ2_add_0 2 rfl
theorem dJ2_add_5 : decode cJ2_add 5 = .ok (.iconst 1, 1) := zdec_at bJ2_add_0 3 rfl
theorem dJ2_add_6 : decode cJ2_add 6 = .ok (.iadd, 1) := zdec_at bJ2_add_0 4 rfl
theorem dJ2_add_7 : decode cJ2_add 7 = .ok (.putfield 63, 3) := zdec_at bJ2_add_0 5 rfl
theorem dJ2_add_10 : decode cJ2_add 10 = .ok (.aload_n 0, 1) := zdec_at bJ2_add_0 6 rfl
theorem dJ2_add_11 : decode cJ2_add 11 = .ok (.aload_n 1, 1) := zdec_at bJ2_add_0 7 rfl
theorem dJ2_add_12 : decode cJ2_add 12 = .ok (.aload_n 0, 1) := zdec_at bJ2_add_0 8 rfl
theorem dJ2_add_13 : decode cJ2_add 13 = .ok (.getfield 9, 3) := zdec_at bJ2_add_0 9 rfl
theorem dJ2_add_16 : decode cJ2_add 16 = .ok (.aload_n 0, 1) := zdec_at bJ2_add_0 10 rfl
theorem dJ2_add_17 : decode cJ2_add 17 = .ok (.getfield 48, 3) := zdec_at bJ2_add_0 11 rfl
theorem dJ2_add_20 : decode cJ2_add 20 = .ok (.invokevirtual 131, 3) := zdec_at bJ2_add_0 12 rfl
theorem dJ2_add_23 : decode cJ2_add 23 = .ok (.iconst 1, 1) := zdec_at bJ2_add_0 13 rfl
theorem dJ2_add_24 : decode cJ2_add 24 = .ok (.ireturn, 1) := zdec_at bJ2_add_0 14 rfl
theorem sJ2_add_0 {E : zE} {d : Nat} {Q : zO → zM → Prop} (M : zM) (a0 : Nat) (r1 : Option zP) (k : 16 ≤ a0 ∧ (Z E YJ2_add_2 d (si M a0 0 ((gi M a0 0) + (1 : Int32))) (zargs 0 [vr (some (a0, 11, 0)), vr r1, vr (gr M a0 1), vi (gi (si M a0 0 ((gi M a0 0) + (1 : Int32))) a0 2)]) 0 [] (zafter E YJ2_add (d + 1) [] 20 3 [] Q))) : Z E YJ2_add (d + 1) M [(0, vr (some (a0, 11, 0))), (1, vr r1)] 0 [] Q := by
  refine z_aload_n dJ2_add_0 rfl rfl ?_
  refine z_dup dJ2_add_1 rfl ?_
  refine z_geti dJ2_add_2 fsJ2_63_11 ?_
  refine z_iconst (v := 1) dJ2_add_5 rfl ?_
  refine z_iadd dJ2_add_6 ?_
  obtain ⟨g_, k⟩ := k
  refine z_puti g_ dJ2_add_7 (zfwN.w fwJ2_63_11) rfl ⟨rfl, rfl⟩ ?_
  refine z_aload_n dJ2_add_10 rfl rfl ?_
  refine z_aload_n dJ2_add_11 rfl rfl ?_
  refine z_aload_n dJ2_add_12 rfl rfl ?_
  refine z_getr (r := (gr M a0 1)) dJ2_add_13 fsJ2_9_11 rfl ?_
  refine z_aload_n dJ2_add_16 rfl rfl ?_
  refine z_geti dJ2_add_17 fsJ2_48_11 ?_
  refine Z.pick [] rfl ?_
  exact z_callV (as := [vr r1, vr (gr M a0 1), vi (gi (si M a0 0 ((gi M a0 0) + (1 : Int32))) a0 2)]) (st := []) dJ2_add_20 vsJ2_131_11 (Nat.le_refl _) (Nat.le_of_ble_eq_true rfl) (Nat.le_of_ble_eq_true rfl) rfl k
theorem sJ2_add_23 {E : zE} {d : Nat} {Q : zO → zM → Prop} (M : zM)  (k : Q (.inl (some (vi (1 : Int32)))) M) : Z E YJ2_add (d + 1) M [] 23 [] Q := by
  refine z_iconst (v := 1) dJ2_add_23 rfl ?_
  exact z_iret dJ2_add_24 rfl (by decide) k
/-! java/util/ArrayList.add(Ljava/lang/Object;[Ljava/lang/Object;I)V -/
theorem bJ2_add_2_0 : zdec cJ2_add_2 0 [(0, .iload_n 3, 1), (1, .aload_n 2, 1), (2, .arraylength, 1), (3, .if_icmp .ne 8, 3), (6, .aload_n 0, 1), (7, .invokevirtual 129, 3), (10, .astore_n 2, 1), (11, .aload_n 2, 1), (12, .iload_n 3, 1), (13, .aload_n 1, 1), (14, .aastore, 1), (15, .aload_n 0, 1), (16, .iload_n 3, 1), (17, .iconst 1, 1), (18, .iadd, 1), (19, .putfield 48, 3)] = true := by decide +kernel
theorem dJ2_add_2_0 : decode cJ2_add_2 0 = .ok (.iload_n 3, 1) := zdec_at bJ2_add_2_0 0 rfl
theorem dJ2_add_2_1 : decode cJ2_add_2 1 = .ok (.aload_n 2, 1) := zdec_at bJ2_add_2_0 1 rfl
theorem dJ2_add_2_2 : decode cJ2_add_2 2 = .ok (.arraylength, 1) := zdec_at bJ2_add_2_0 2 rfl
theorem dJ2_add_2_3 : decode cJ2_add_2 3 = .ok (.if_icmp .ne 8, 3) := zdec_at bJ2_add_2_0 3 rfl
theorem dJ2_add_2_6 : decode cJ2_add_2 6 = .ok (.aload_n 0, 1) := zdec_at bJ2_add_2_0 4 rfl
theorem dJ2_add_2_7 : decode cJ2_add_2 7 = .ok (.invokevirtual 129, 3) := zdec_at bJ2_add_2_0 5 rfl
theorem dJ2_add_2_10 : decode cJ2_add_2 10 = .ok (.astore_n 2, 1) := zdec_at bJ2_add_2_0 6 rfl
theorem dJ2_add_2_11 : decode cJ2_add_2 11 = .ok (.aload_n 2, 1) := zdec_at bJ2_add_2_0 7 rfl
theorem dJ2_add_2_12 : decode cJ2_add_2 12 = .ok (.iload_n 3, 1) := zdec_at bJ2_add_2_0 8 rfl
theorem dJ2_add_2_13 : decode cJ2_add_2 13 = .ok (.aload_n 1, 1) := zdec_at bJ2_add_2_0 9 rfl
theorem dJ2_add_2_14 : decode cJ2_add_2 14 = .ok (.aastore, 1) := zdec_at bJ2_add_2_0 10 rfl
theorem dJ2_add_2_15 : decode cJ2_add_2 15 = .ok (.aload_n 0, 1) := zdec_at bJ2_add_2_0 11 rfl
theorem dJ2_add_2_16 : decode cJ2_add_2 16 = .ok (.iload_n 3, 1) := zdec_at bJ2_add_2_0 12 rfl
theorem dJ2_add_2_17 : decode cJ2_add_2 17 = .ok (.iconst 1, 1) := zdec_at bJ2_add_2_0 13 rfl
theorem dJ2_add_2_18 : decode cJ2_add_2 18 = .ok (.iadd, 1) := zdec_at bJ2_add_2_0 14 rfl
theorem dJ2_add_2_19 : decode cJ2_add_2 19 = .ok (.putfield 48, 3) := zdec_at bJ2_add_2_0 15 rfl
theorem bJ2_add_2_22 : zdec cJ2_add_2 22 [(22, .return_, 1)] = true := by decide +kernel
theorem dJ2_add_2_22 : decode cJ2_add_2 22 = .ok (.return_, 1) := zdec_at bJ2_add_2_22 0 rfl
theorem sJ2_add_2_0 {E : zE} {d : Nat} {Q : zO → zM → Prop} (M : zM) (a0 : Nat) (r1 : Option zP) (r2 : Option zP) (l3 : Int32) (k : ∃ b1 m1 : Nat, r2 = some (b1, 106, m1) ∧ (if l3 = (Int32.ofNat m1) then (Z E YJ2_grow d M (zargs 0 [vr (some (a0, 11, 0))]) 0 [] (zafter E YJ2_add_2 (d + 1) [(0, vr (some (a0, 11, 0))), (1, vr r1), (3, vi l3)] 7 3 [] Q)) else (Z E YJ2_add_2 (d + 1) M [(0, vr (some (a0, 11, 0))), (1, vr r1), (2, vr (some (b1, 106, m1))), (3, vi l3)] 11 [] Q))) : Z E YJ2_add_2 (d + 1) M [(0, vr (some (a0, 11, 0))), (1, vr r1), (2, vr r2), (3, vi l3)] 0 [] Q := by
  refine z_iload_n dJ2_add_2_0 rfl rfl ?_
  refine z_aload_n dJ2_add_2_1 rfl rfl ?_
  obtain ⟨b1, m1, e1_, k⟩ := k
  refine Z.eqs (lv' := [(0, vr (some (a0, 11, 0))), (1, vr r1), (2, vr (some (b1, 106, m1))), (3, vi l3)]) (st' := [vr (some (b1, 106, m1)), vi l3]) (by rw [e1_] <;> rfl) (by rw [e1_] <;> rfl) ?_
  refine z_alen (q := 6) (v := Int32.ofNat m1) dJ2_add_2_2 rfl ?_
  refine z_icmp_ne (tgt := 11) dJ2_add_2_3 rfl (fun h_ => ?_) (fun h_ => ?_)
  · have k := zif h_ k
    exact k
  · have k := zit h_ k
    refine z_aload_n dJ2_add_2_6 rfl rfl ?_
    refine Z.pick [0, 1, 3] rfl ?_
    exact z_callV (as := []) (st := []) dJ2_add_2_7 vsJ2_129_11 (Nat.le_refl _) (Nat.le_of_ble_eq_true rfl) (Nat.le_of_ble_eq_true rfl) rfl k
theorem sJ2_add_2_10 {E : zE} {d : Nat} {Q : zO → zM → Prop} (M : zM) (a0 : Nat) (r1 : Option zP) (l3 : Int32) (u0 : Option zP) (k : Z E YJ2_add_2 (d + 1) M [(0, vr (some (a0, 11, 0))), (1, vr r1), (2, vr u0), (3, vi l3)] 11 [] Q) : Z E YJ2_add_2 (d + 1) M [(0, vr (some (a0, 11, 0))), (1, vr r1), (3, vi l3)] 10 [vr u0] Q := by
  refine z_ast_n dJ2_add_2_10 rfl (by decide) (lv' := [(0, vr (some (a0, 11, 0))), (1, vr r1), (2, vr u0), (3, vi l3)]) rfl ?_
  exact k
theorem sJ2_add_2_11 {E : zE} {d : Nat} {Q : zO → zM → Prop} (M : zM) (a0 : Nat) (r1 : Option zP) (r2 : Option zP) (l3 : Int32) (k : ∃ b1 m1 : Nat, r2 = some (b1, 106, m1) ∧ (∃ b2 t2 m2 : Nat, r1 = some (b2, t2, m2) ∧ (16 ≤ b1 ∧ (vp_in l3 m1 ∧ (zsto 6 t2 ∧ (16 ≤ a0 ∧ (Q (.inl none) (si (sr M b1 (l3).toNatClampNeg (some (b2, t2, m2))) a0 2 (l3 + (1 : Int32)))))))))) : Z E YJ2_add_2 (d + 1) M [(0, vr (some (a0, 11, 0))), (1, vr r1), (2, vr r2), (3, vi l3)] 11 [] Q := by
  refine z_aload_n dJ2_add_2_11 rfl rfl ?_
  refine z_iload_n dJ2_add_2_12 rfl rfl ?_
  refine z_aload_n dJ2_add_2_13 rfl rfl ?_
  obtain ⟨b1, m1, e1_, k⟩ := k
  refine Z.eqs (lv' := [(0, vr (some (a0, 11, 0))), (1, vr r1), (2, vr (some (b1, 106, m1))), (3, vi l3)]) (st' := [vr r1, vi l3, vr (some (b1, 106, m1))]) (by rw [e1_] <;> rfl) (by rw [e1_] <;> rfl) ?_
  obtain ⟨b2, t2, m2, e2_, k⟩ := k
  refine Z.eqs (lv' := [(0, vr (some (a0, 11, 0))), (1, vr r1), (2, vr (some (b1, 106, m1))), (3, vi l3)]) (st' := [vr (some (b2, t2, m2)), vi l3, vr (some (b1, 106, m1))]) rfl (by rw [e2_] <;> rfl) ?_
  obtain ⟨g_, k⟩ := k
  obtain ⟨b_, k⟩ := k
  obtain ⟨c_, k⟩ := k
  refine z_aast (q := 6) g_ dJ2_add_2_14 b_ c_ ?_
  refine z_aload_n dJ2_add_2_15 rfl rfl ?_
  refine z_iload_n dJ2_add_2_16 rfl rfl ?_
  refine z_iconst (v := 1) dJ2_add_2_17 rfl ?_
  refine z_iadd dJ2_add_2_18 ?_
  obtain ⟨g_, k⟩ := k
  refine z_puti g_ dJ2_add_2_19 (zfwN.w fwJ2_48_11) rfl ⟨rfl, rfl⟩ ?_
  exact z_vret dJ2_add_2_22 rfl k
/-! java/util/ArrayList.add(Ljava/lang/Object;[Ljava/lang/Object;I)V -/
theorem sJ2e_add_2_0 {E : zE} {d : Nat} {Q : zO → zM → Prop} (M : zM) (a0 : Nat) (r1 : Option zP) (l3 : Int32) (k : if l3 = (0 : Int32) then (Z E YJ2_grow d M (zargs 0 [vr (some (a0, 11, 0))]) 0 [] (zafter E YJ2_add_2 (d + 1) [(0, vr (some (a0, 11, 0))), (1, vr r1), (3, vi l3)] 7 3 [] Q)) else (Z E YJ2_add_2 (d + 1) M [(0, vr (some (a0, 11, 0))), (1, vr r1), (2, vr (some (1, 110, 0))), (3, vi l3)] 11 [] Q)) : Z E YJ2_add_2 (d + 1) M [(0, vr (some (a0, 11, 0))), (1, vr r1), (2, vr (some (1, 110, 0))), (3, vi l3)] 0 [] Q := by
  refine z_iload_n dJ2_add_2_0 rfl rfl ?_
  refine z_aload_n dJ2_add_2_1 rfl rfl ?_
  refine z_elen dJ2_add_2_2 ?_
  refine z_icmp_ne (tgt := 11) dJ2_add_2_3 rfl (fun h_ => ?_) (fun h_ => ?_)
  · have k := zif h_ k
    exact k
  · have k := zit h_ k
    refine z_aload_n dJ2_add_2_6 rfl rfl ?_
    refine Z.pick [0, 1, 3] rfl ?_
    exact z_callV (as := []) (st := []) dJ2_add_2_7 vsJ2_129_11 (Nat.le_refl _) (Nat.le_of_ble_eq_true rfl) (Nat.le_of_ble_eq_true rfl) rfl k
theorem sJ2e_add_2_10 {E : zE} {d : Nat} {Q : zO → zM → Prop} (M : zM) (a0 : Nat) (r1 : Option zP) (l3 : Int32) (u0 : Option zP) (k : Z E YJ2_add_2 (d + 1) M [(0, vr (some (a0, 11, 0))), (1, vr r1), (2, vr u0), (3, vi l3)] 11 [] Q) : Z E YJ2_add_2 (d + 1) M [(0, vr (some (a0, 11, 0))), (1, vr r1), (3, vi l3)] 10 [vr u0] Q := by
  refine z_ast_n dJ2_add_2_10 rfl (by decide) (lv' := [(0, vr (some (a0, 11, 0))), (1, vr r1), (2, vr u0), (3, vi l3)]) rfl ?_
  exact k
theorem sJ2e_add_2_11 {E : zE} {d : Nat} {Q : zO → zM → Prop} (M : zM) (a0 : Nat) (r1 : Option zP) (r2 : Option zP) (l3 : Int32) (k : ∃ b1 m1 : Nat, r2 = some (b1, 106, m1) ∧ (∃ b2 t2 m2 : Nat, r1 = some (b2, t2, m2) ∧ (16 ≤ b1 ∧ (vp_in l3 m1 ∧ (zsto 6 t2 ∧ (16 ≤ a0 ∧ (Q (.inl none) (si (sr M b1 (l3).toNatClampNeg (some (b2, t2, m2))) a0 2 (l3 + (1 : Int32)))))))))) : Z E YJ2_add_2 (d + 1) M [(0, vr (some (a0, 11, 0))), (1, vr r1), (2, vr r2), (3, vi l3)] 11 [] Q := by
  refine z_aload_n dJ2_add_2_11 rfl rfl ?_
  refine z_iload_n dJ2_add_2_12 rfl rfl ?_
  refine z_aload_n dJ2_add_2_13 rfl rfl ?_
  obtain ⟨b1, m1, e1_, k⟩ := k
  refine Z.eqs (lv' := [(0, vr (some (a0, 11, 0))), (1, vr r1), (2, vr (some (b1, 106, m1))), (3, vi l3)]) (st' := [vr r1, vi l3, vr (some (b1, 106, m1))]) (by rw [e1_] <;> rfl) (by rw [e1_] <;> rfl) ?_
  obtain ⟨b2, t2, m2, e2_, k⟩ := k
  refine Z.eqs (lv' := [(0, vr (some (a0, 11, 0))), (1, vr r1), (2, vr (some (b1, 106, m1))), (3, vi l3)]) (st' := [vr (some (b2, t2, m2)), vi l3, vr (some (b1, 106, m1))]) rfl (by rw [e2_] <;> rfl) ?_
  obtain ⟨g_, k⟩ := k
  obtain ⟨b_, k⟩ := k
  obtain ⟨c_, k⟩ := k
  refine z_aast (q := 6) g_ dJ2_add_2_14 b_ c_ ?_
  refine z_aload_n dJ2_add_2_15 rfl rfl ?_
  refine z_iload_n dJ2_add_2_16 rfl rfl ?_
  refine z_iconst (v := 1) dJ2_add_2_17 rfl ?_
  refine z_iadd dJ2_add_2_18 ?_
  obtain ⟨g_, k⟩ := k
  refine z_puti g_ dJ2_add_2_19 (zfwN.w fwJ2_48_11) rfl ⟨rfl, rfl⟩ ?_
  exact z_vret dJ2_add_2_22 rfl k
/-! java/util/ArrayList.grow()[Ljava/lang/Object; -/
theorem bJ2_grow_0 : zdec cJ2_grow 0 [(0, .aload_n 0, 1), (1, .aload_n 0, 1), (2, .getfield 48, 3), (5, .iconst 1, 1), (6, .iadd, 1), (7, .invokevirtual 69, 3), (10, .areturn, 1)] = true := by decide +kernel
theorem dJ2_grow_0 : decode cJ2_grow 0 = .ok (.aload_n 0, 1) := zdec_at bJ2_grow_0 0 rfl
theorem dJ2_grow_1 : decode cJ2_grow 1 = .ok (.aload_n 0, 1) := zdec_at bJ2_grow_0 1 rfl
theorem dJ2_grow_2 : decode cJ2_grow 2 = .ok (.getfield 48, 3) := zdec_at bJ2_grow_0 2 rfl
theorem dJ2_grow_5 : decode cJ2_grow 5 = .ok (.iconst 1, 1) := zdec_at bJ2_grow_0 3 rfl
theorem dJ2_grow_6 : decode cJ2_grow 6 = .ok (.iadd, 1) := zdec_at bJ2_grow_0 4 rfl
theorem dJ2_grow_7 : decode cJ2_grow 7 = .ok (.invokevirtual 69, 3) := zdec_at bJ2_grow_0 5 rfl
theorem dJ2_grow_10 : decode cJ2_grow 10 = .ok (.areturn, 1) := zdec_at bJ2_grow_0 6 rfl
theorem sJ2_grow_0 {E : zE} {d : Nat} {Q : zO → zM → Prop} (M : zM) (a0 : Nat) (k : Z E YJ2_grow_2 d M (zargs 0 [vr (some (a0, 11, 0)), vi ((gi M a0 2) + (1 : Int32))]) 0 [] (zafter E YJ2_grow (d + 1) [] 7 3 [] Q)) : Z E YJ2_grow (d + 1) M [(0, vr (some (a0, 11, 0)))] 0 [] Q := by
  refine z_aload_n dJ2_grow_0 rfl rfl ?_
  refine z_aload_n dJ2_grow_1 rfl rfl ?_
  refine z_geti dJ2_grow_2 fsJ2_48_11 ?_
  refine z_iconst (v := 1) dJ2_grow_5 rfl ?_
  refine z_iadd dJ2_grow_6 ?_
  refine Z.pick [] rfl ?_
  exact z_callV (as := [vi ((gi M a0 2) + (1 : Int32))]) (st := []) dJ2_grow_7 vsJ2_69_11 (Nat.le_refl _) (Nat.le_of_ble_eq_true rfl) (Nat.le_of_ble_eq_true rfl) rfl k
theorem sJ2_grow_10 {E : zE} {d : Nat} {Q : zO → zM → Prop} (M : zM) (u0 : Option zP) (k : Q (.inl (some (vr u0))) M) : Z E YJ2_grow (d + 1) M [] 10 [vr u0] Q := by
  exact z_aret dJ2_grow_10 rfl rfl k
/-! java/util/ArrayList.grow(I)[Ljava/lang/Object; -/
theorem bJ2_grow_2_0 : zdec cJ2_grow_2 0 [(0, .aload_n 0, 1), (1, .getfield 9, 3), (4, .arraylength, 1), (5, .istore_n 2, 1), (6, .iload_n 2, 1), (7, .ifCond .gt 13, 3), (10, .aload_n 0, 1), (11, .getfield 9, 3), (14, .getstatic 39, 3), (17, .if_acmp .eq 28, 3), (20, .iload_n 2, 1), (21, .iload_n 1, 1), (22, .iload_n 2, 1), (23, .isub, 1), (24, .iload_n 2, 1), (25, .iconst 1, 1)] = true := by decide +kernel
theorem dJ2_grow_2_0 : decode cJ2_grow_2 0 = .ok (.aload_n 0, 1) := zdec_at bJ2_grow_2_0 0 rfl
theorem dJ2_grow_2_1 : decode cJ2_grow_2 1 = .ok (.getfield 9, 3) := zdec_at bJ2_grow_2_0 1 rfl
theorem dJ2_grow_2_4 : decode cJ2_grow_2 4 = .ok (.arraylength, 1) := zdec_at bJ2_grow_2_0 2 rfl
theorem dJ2_grow_2_5 : decode cJ2_grow_2 5 = .ok (.istore_n 2, 1) := zdec_at bJ2_grow_2_0 3 rfl
theorem dJ2_grow_2_6 : decode cJ2_grow_2 6 = .ok (.iload_n 2, 1) := zdec_at bJ2_grow_2_0 4 rfl
theorem dJ2_grow_2_7 : decode cJ2_grow_2 7 = .ok (.ifCond .gt 13, 3) := zdec_at bJ2_grow_2_0 5 rfl
theorem dJ2_grow_2_10 : decode cJ2_grow_2 10 = .ok (.aload_n 0, 1) := zdec_at bJ2_grow_2_0 6 rfl
theorem dJ2_grow_2_11 : decode cJ2_grow_2 11 = .ok (.getfield 9, 3) := zdec_at bJ2_grow_2_0 7 rfl
theorem dJ2_grow_2_14 : decode cJ2_grow_2 14 = .ok (.getstatic 39, 3) := zdec_at bJ2_grow_2_0 8 rfl
theorem dJ2_grow_2_17 : decode cJ2_grow_2 17 = .ok (.if_acmp .eq 28, 3) := zdec_at bJ2_grow_2_0 9 rfl
theorem dJ2_grow_2_20 : decode cJ2_grow_2 20 = .ok (.iload_n 2, 1) := zdec_at bJ2_grow_2_0 10 rfl
theorem dJ2_grow_2_21 : decode cJ2_grow_2 21 = .ok (.iload_n 1, 1) := zdec_at bJ2_grow_2_0 11 rfl
theorem dJ2_grow_2_22 : decode cJ2_grow_2 22 = .ok (.iload_n 2, 1) := zdec_at bJ2_grow_2_0 12 rfl
theorem dJ2_grow_2_23 : decode cJ2_grow_2 23 = .ok (.isub, 1) := zdec_at bJ2_grow_2_0 13 rfl
theorem dJ2_grow_2_24 : decode cJ2_grow_2 24 = .ok (.iload_n 2, 1) := zdec_at bJ2_grow_2_0 14 rfl
theorem dJ2_grow_2_25 : decode cJ2_grow_2 25 = .ok (.iconst 1, 1) := zdec_at bJ2_grow_2_0 15 rfl
theorem bJ2_grow_2_26 : zdec cJ2_grow_2 26 [(26, .ishr, 1), (27, .invokestatic 73, 3), (30, .istore_n 3, 1), (31, .aload_n 0, 1), (32, .aload_n 0, 1), (33, .getfield 9, 3), (36, .iload_n 3, 1), (37, .invokestatic 66, 3), (40, .dup_x1, 1), (41, .putfield 9, 3), (44, .areturn, 1), (45, .aload_n 0, 1), (46, .bipush 10, 2), (48, .iload_n 1, 1), (49, .invokestatic 79, 3), (52, .anewarray 7, 3)] = true := by decide +kernel
theorem dJ2_grow_2_26 : decode cJ2_grow_2 26 = .ok (.ishr, 1) := zdec_at bJ2_grow_2_26 0 rfl
theorem dJ2_grow_2_27 : decode cJ2_grow_2 27 = .ok (.invokestatic 73, 3) := zdec_at bJ2_grow_2_26 1 rfl
theorem dJ2_grow_2_30 : decode cJ2_grow_2 30 = .ok (.istore_n 3, 1) := zdec_at bJ2_grow_2_26 2 rfl
theorem dJ2_grow_2_31 : decode cJ2_grow_2 31 = .ok (.aload_n 0, 1) := zdec_at bJ2_grow_2_26 3 rfl
theorem dJ2_grow_2_32 : decode cJ2_grow_2 32 = .ok (.aload_n 0, 1) := zdec_at bJ2_grow_2_26 4 rfl
theorem dJ2_grow_2_33 : decode cJ2_grow_2 33 = .ok (.getfield 9, 3) := zdec_at bJ2_grow_2_26 5 rfl
theorem dJ2_grow_2_36 : decode cJ2_grow_2 36 = .ok (.iload_n 3, 1) := zdec_at bJ2_grow_2_26 6 rfl
theorem dJ2_grow_2_37 : decode cJ2_grow_2 37 = .ok (.invokestatic 66, 3) := zdec_at bJ2_grow_2_26 7 rfl
theorem dJ2_grow_2_40 : decode cJ2_grow_2 40 = .ok (.dup_x1, 1) := zdec_at bJ2_grow_2_26 8 rfl
theorem dJ2_grow_2_41 : decode cJ2_grow_2 41 = .ok (.putfield 9, 3) := zdec_at bJ2_grow_2_26 9 rfl
theorem dJ2_grow_2_44 : decode cJ2_grow_2 44 = .ok (.areturn, 1) := zdec_at bJ2_grow_2_26 10 rfl
theorem dJ2_grow_2_45 : decode cJ2_grow_2 45 = .ok (.aload_n 0, 1) := zdec_at bJ2_grow_2_26 11 rfl
theorem dJ2_grow_2_46 : decode cJ2_grow_2 46 = .ok (.bipush 10, 2) := zdec_at bJ2_grow_2_26 12 rfl
theorem dJ2_grow_2_48 : decode cJ2_grow_2 48 = .ok (.iload_n 1, 1) := zdec_at bJ2_grow_2_26 13 rfl
theorem dJ2_grow_2_49 : decode cJ2_grow_2 49 = .ok (.invokestatic 79, 3) := zdec_at bJ2_grow_2_26 14 rfl
theorem dJ2_grow_2_52 : decode cJ2_grow_2 52 = .ok (.anewarray 7, 3) := zdec_at bJ2_grow_2_26 15 rfl
theorem bJ2_grow_2_55 : zdec cJ2_grow_2 55 [(55, .dup_x1, 1), (56, .putfield 9, 3), (59, .areturn, 1)] = true := by decide +kernel
theorem dJ2_grow_2_55 : decode cJ2_grow_2 55 = .ok (.dup_x1, 1) := zdec_at bJ2_grow_2_55 0 rfl
theorem dJ2_grow_2_56 : decode cJ2_grow_2 56 = .ok (.putfield 9, 3) := zdec_at bJ2_grow_2_55 1 rfl
theorem dJ2_grow_2_59 : decode cJ2_grow_2 59 = .ok (.areturn, 1) := zdec_at bJ2_grow_2_55 2 rfl
theorem sJ2_grow_2_0 {E : zE} {d : Nat} {Q : zO → zM → Prop} (M : zM) (a0 : Nat) (l1 : Int32) (k : ∃ b1 m1 : Nat, (gr M a0 1) = some (b1, 106, m1) ∧ (if 0 < (Int32.ofNat m1) then (Z E YJ2_grow_2 (d + 1) M [(0, vr (some (a0, 11, 0))), (1, vi l1), (2, vi (Int32.ofNat m1))] 20 [] Q) else ((zcmp (gr M a0 1) ∧ zcmp (some (1, 110, 0))) ∧ (if zfst (gr M a0 1) = zfst (some (1, 110, 0)) then (Z E YJ11_max d M (zargs 0 [vi (10 : Int32), vi l1]) 0 [] (zafter E YJ2_grow_2 (d + 1) [] 49 3 [vr (some (a0, 11, 0))] Q)) else (Z E YJ2_grow_2 (d + 1) M [(0, vr (some (a0, 11, 0))), (1, vi l1), (2, vi (Int32.ofNat m1))] 20 [] Q))))) : Z E YJ2_grow_2 (d + 1) M [(0, vr (some (a0, 11, 0))), (1, vi l1)] 0 [] Q := by
  refine z_aload_n dJ2_grow_2_0 rfl rfl ?_
  refine z_getr (r := (gr M a0 1)) dJ2_grow_2_1 fsJ2_9_11 rfl ?_
  obtain ⟨b1, m1, e1_, k⟩ := k
  refine Z.eqs (lv' := [(0, vr (some (a0, 11, 0))), (1, vi l1)]) (st' := [vr (some (b1, 106, m1))]) rfl (by rw [e1_] <;> rfl) ?_
  refine z_alen (q := 6) (v := Int32.ofNat m1) dJ2_grow_2_4 rfl ?_
  refine z_ist_n dJ2_grow_2_5 rfl (by decide) (lv' := [(0, vr (some (a0, 11, 0))), (1, vi l1), (2, vi (Int32.ofNat m1))]) rfl ?_
  refine z_iload_n dJ2_grow_2_6 rfl rfl ?_
  refine z_if_gt (tgt := 20) dJ2_grow_2_7 rfl (fun h_ => ?_) (fun h_ => ?_)
  · have k := zit h_ k
    exact k
  · have k := zif h_ k
    refine z_aload_n dJ2_grow_2_10 rfl rfl ?_
    refine z_getr (r := (gr M a0 1)) dJ2_grow_2_11 fsJ2_9_11 rfl ?_
    refine z_gets (i := 0) dJ2_grow_2_14 rfl q549 ?_
    obtain ⟨b_, k⟩ := k
    refine z_acmp_eq (tgt := 45) dJ2_grow_2_17 rfl b_.1 b_.2 (fun h_ => ?_) (fun h_ => ?_)
    · have k := zit h_ k
      refine z_aload_n dJ2_grow_2_45 rfl rfl ?_
      refine z_bipush (v := 10) dJ2_grow_2_46 rfl ?_
      refine z_iload_n dJ2_grow_2_48 rfl rfl ?_
      refine Z.pick [] rfl ?_
      exact z_callS (as := [vi (10 : Int32), vi l1]) (st := [vr (some (a0, 11, 0))]) dJ2_grow_2_49 ssJ2_79 (Nat.le_refl _) (Nat.le_of_ble_eq_true rfl) (Nat.le_of_ble_eq_true rfl) rfl k
    · have k := zif h_ k
      exact k
theorem sJ2_grow_2_20 {E : zE} {d : Nat} {Q : zO → zM → Prop} (M : zM) (a0 : Nat) (l1 : Int32) (l2 : Int32) (k : Z E YJ10_newLength d M (zargs 0 [vi l2, vi (l1 - l2), vi (l2 >>> ((1 : Int32) &&& 31))]) 0 [] (zafter E YJ2_grow_2 (d + 1) [(0, vr (some (a0, 11, 0)))] 27 3 [] Q)) : Z E YJ2_grow_2 (d + 1) M [(0, vr (some (a0, 11, 0))), (1, vi l1), (2, vi l2)] 20 [] Q := by
  refine z_iload_n dJ2_grow_2_20 rfl rfl ?_
  refine z_iload_n dJ2_grow_2_21 rfl rfl ?_
  refine z_iload_n dJ2_grow_2_22 rfl rfl ?_
  refine z_isub dJ2_grow_2_23 ?_
  refine z_iload_n dJ2_grow_2_24 rfl rfl ?_
  refine z_iconst (v := 1) dJ2_grow_2_25 rfl ?_
  refine z_ishr dJ2_grow_2_26 ?_
  refine Z.pick [0] rfl ?_
  exact z_callS (as := [vi l2, vi (l1 - l2), vi (l2 >>> ((1 : Int32) &&& 31))]) (st := []) dJ2_grow_2_27 ssJ2_73 (Nat.le_refl _) (Nat.le_of_ble_eq_true rfl) (Nat.le_of_ble_eq_true rfl) rfl k
theorem sJ2_grow_2_30 {E : zE} {d : Nat} {Q : zO → zM → Prop} (M : zM) (a0 : Nat) (s0 : Int32) (k : Z E YJ12_copyOf d M (zargs 0 [vr (gr M a0 1), vi s0]) 0 [] (zafter E YJ2_grow_2 (d + 1) [] 37 3 [vr (some (a0, 11, 0))] Q)) : Z E YJ2_grow_2 (d + 1) M [(0, vr (some (a0, 11, 0)))] 30 [vi s0] Q := by
  refine z_ist_n dJ2_grow_2_30 rfl (by decide) (lv' := [(0, vr (some (a0, 11, 0))), (3, vi s0)]) rfl ?_
  refine z_aload_n dJ2_grow_2_31 rfl rfl ?_
  refine z_aload_n dJ2_grow_2_32 rfl rfl ?_
  refine z_getr (r := (gr M a0 1)) dJ2_grow_2_33 fsJ2_9_11 rfl ?_
  refine z_iload_n dJ2_grow_2_36 rfl rfl ?_
  refine Z.pick [] rfl ?_
  exact z_callS (as := [vr (gr M a0 1), vi s0]) (st := [vr (some (a0, 11, 0))]) dJ2_grow_2_37 ssJ2_66 (Nat.le_refl _) (Nat.le_of_ble_eq_true rfl) (Nat.le_of_ble_eq_true rfl) rfl k
theorem sJ2_grow_2_40 {E : zE} {d : Nat} {Q : zO → zM → Prop} (M : zM) (u0 : Option zP) (a0 : Nat) (k : 16 ≤ a0 ∧ (Q (.inl (some (vr u0))) (sr M a0 1 u0))) : Z E YJ2_grow_2 (d + 1) M [] 40 [vr u0, vr (some (a0, 11, 0))] Q := by
  refine z_dup_x1 dJ2_grow_2_40 rfl rfl ?_
  obtain ⟨g_, k⟩ := k
  refine z_putr g_ dJ2_grow_2_41 (zfwN.w fwJ2_9_11) rfl ?_
  exact z_aret dJ2_grow_2_44 rfl rfl k
theorem sJ2_grow_2_52 {E : zE} {d : Nat} {Q : zO → zM → Prop} (M : zM) (s0 : Int32) (a0 : Nat) (k : (¬ s0 < 0 ∧ (s0).toNatClampNeg * 4 ≤ 536870912) ∧ (Z E YJ2_grow_2 (d + 1) (zn M (s0).toNatClampNeg) [] 55 [vr (some ((zsz M), 106, (s0).toNatClampNeg)), vr (some (a0, 11, 0))] Q)) : Z E YJ2_grow_2 (d + 1) M [] 52 [vi s0, vr (some (a0, 11, 0))] Q := by
  obtain ⟨b_, k⟩ := k
  refine z_anew (q := 6) (N := (s0).toNatClampNeg) dJ2_grow_2_52 (Or.inl ⟨rfl, rfl⟩) q1375 q1366 b_.1 rfl b_.2 ?_
  exact k
theorem sJ2_grow_2_55 {E : zE} {d : Nat} {Q : zO → zM → Prop} (M : zM) (p0 : Nat) (np0 : Nat) (a0 : Nat) (k : 16 ≤ a0 ∧ (Q (.inl (some (vr (some (p0, 106, np0))))) (sr M a0 1 (some (p0, 106, np0))))) : Z E YJ2_grow_2 (d + 1) M [] 55 [vr (some (p0, 106, np0)), vr (some (a0, 11, 0))] Q := by
  refine z_dup_x1 dJ2_grow_2_55 rfl rfl ?_
  obtain ⟨g_, k⟩ := k
  refine z_putr g_ dJ2_grow_2_56 (zfwN.w fwJ2_9_11) rfl ?_
  exact z_aret dJ2_grow_2_59 rfl rfl k
/-! java/util/ArrayList.grow(I)[Ljava/lang/Object; -/
theorem sJ2e_grow_2_0 {E : zE} {d : Nat} {Q : zO → zM → Prop} (M : zM) (a0 : Nat) (l1 : Int32) (k : (gr M a0 1) = some (1, 110, 0) ∧ ((zcmp (gr M a0 1) ∧ zcmp (some (1, 110, 0))) ∧ (if zfst (gr M a0 1) = zfst (some (1, 110, 0)) then (Z E YJ11_max d M (zargs 0 [vi (10 : Int32), vi l1]) 0 [] (zafter E YJ2_grow_2 (d + 1) [] 49 3 [vr (some (a0, 11, 0))] Q)) else (Z E YJ2_grow_2 (d + 1) M [(0, vr (some (a0, 11, 0))), (1, vi l1), (2, vi (0 : Int32))] 20 [] Q)))) : Z E YJ2_grow_2 (d + 1) M [(0, vr (some (a0, 11, 0))), (1, vi l1)] 0 [] Q := by
  refine z_aload_n dJ2_grow_2_0 rfl rfl ?_
  refine z_getr (r := (gr M a0 1)) dJ2_grow_2_1 fsJ2_9_11 rfl ?_
  obtain ⟨e1_, k⟩ := k
  refine Z.eqs (lv' := [(0, vr (some (a0, 11, 0))), (1, vi l1)]) (st' := [vr (some (1, 110, 0))]) rfl (by rw [e1_] <;> rfl) ?_
  refine z_elen dJ2_grow_2_4 ?_
  refine z_ist_n dJ2_grow_2_5 rfl (by decide) (lv' := [(0, vr (some (a0, 11, 0))), (1, vi l1), (2, vi (0 : Int32))]) rfl ?_
  refine z_iload_n dJ2_grow_2_6 rfl rfl ?_
  refine z_if_gt (tgt := 20) dJ2_grow_2_7 rfl (fun h_ => absurd h_ (by decide)) (fun _ => ?_)
  refine z_aload_n dJ2_grow_2_10 rfl rfl ?_
  refine z_getr (r := (gr M a0 1)) dJ2_grow_2_11 fsJ2_9_11 rfl ?_
  refine z_gets (i := 0) dJ2_grow_2_14 rfl q549 ?_
  obtain ⟨b_, k⟩ := k
  refine z_acmp_eq (tgt := 45) dJ2_grow_2_17 rfl b_.1 b_.2 (fun h_ => ?_) (fun h_ => ?_)
  · have k := zit h_ k
    refine z_aload_n dJ2_grow_2_45 rfl rfl ?_
    refine z_bipush (v := 10) dJ2_grow_2_46 rfl ?_
    refine z_iload_n dJ2_grow_2_48 rfl rfl ?_
    refine Z.pick [] rfl ?_
    exact z_callS (as := [vi (10 : Int32), vi l1]) (st := [vr (some (a0, 11, 0))]) dJ2_grow_2_49 ssJ2_79 (Nat.le_refl _) (Nat.le_of_ble_eq_true rfl) (Nat.le_of_ble_eq_true rfl) rfl k
  · have k := zif h_ k
    exact k
theorem sJ2e_grow_2_20 {E : zE} {d : Nat} {Q : zO → zM → Prop} (M : zM) (a0 : Nat) (l1 : Int32) (l2 : Int32) (k : Z E YJ10_newLength d M (zargs 0 [vi l2, vi (l1 - l2), vi (l2 >>> ((1 : Int32) &&& 31))]) 0 [] (zafter E YJ2_grow_2 (d + 1) [(0, vr (some (a0, 11, 0)))] 27 3 [] Q)) : Z E YJ2_grow_2 (d + 1) M [(0, vr (some (a0, 11, 0))), (1, vi l1), (2, vi l2)] 20 [] Q := by
  refine z_iload_n dJ2_grow_2_20 rfl rfl ?_
  refine z_iload_n dJ2_grow_2_21 rfl rfl ?_
  refine z_iload_n dJ2_grow_2_22 rfl rfl ?_
  refine z_isub dJ2_grow_2_23 ?_
  refine z_iload_n dJ2_grow_2_24 rfl rfl ?_
  refine z_iconst (v := 1) dJ2_grow_2_25 rfl ?_
  refine z_ishr dJ2_grow_2_26 ?_
  refine Z.pick [0] rfl ?_
  exact z_callS (as := [vi l2, vi (l1 - l2), vi (l2 >>> ((1 : Int32) &&& 31))]) (st := []) dJ2_grow_2_27 ssJ2_73 (Nat.le_refl _) (Nat.le_of_ble_eq_true rfl) (Nat.le_of_ble_eq_true rfl) rfl k
theorem sJ2e_grow_2_30 {E : zE} {d : Nat} {Q : zO → zM → Prop} (M : zM) (a0 : Nat) (s0 : Int32) (k : Z E YJ12_copyOf d M (zargs 0 [vr (gr M a0 1), vi s0]) 0 [] (zafter E YJ2_grow_2 (d + 1) [] 37 3 [vr (some (a0, 11, 0))] Q)) : Z E YJ2_grow_2 (d + 1) M [(0, vr (some (a0, 11, 0)))] 30 [vi s0] Q := by
  refine z_ist_n dJ2_grow_2_30 rfl (by decide) (lv' := [(0, vr (some (a0, 11, 0))), (3, vi s0)]) rfl ?_
  refine z_aload_n dJ2_grow_2_31 rfl rfl ?_
  refine z_aload_n dJ2_grow_2_32 rfl rfl ?_
  refine z_getr (r := (gr M a0 1)) dJ2_grow_2_33 fsJ2_9_11 rfl ?_
  refine z_iload_n dJ2_grow_2_36 rfl rfl ?_
  refine Z.pick [] rfl ?_
  exact z_callS (as := [vr (gr M a0 1), vi s0]) (st := [vr (some (a0, 11, 0))]) dJ2_grow_2_37 ssJ2_66 (Nat.le_refl _) (Nat.le_of_ble_eq_true rfl) (Nat.le_of_ble_eq_true rfl) rfl k
theorem sJ2e_grow_2_40 {E : zE} {d : Nat} {Q : zO → zM → Prop} (M : zM) (u0 : Option zP) (a0 : Nat) (k : 16 ≤ a0 ∧ (Q (.inl (some (vr u0))) (sr M a0 1 u0))) : Z E YJ2_grow_2 (d + 1) M [] 40 [vr u0, vr (some (a0, 11, 0))] Q := by
  refine z_dup_x1 dJ2_grow_2_40 rfl rfl ?_
  obtain ⟨g_, k⟩ := k
  refine z_putr g_ dJ2_grow_2_41 (zfwN.w fwJ2_9_11) rfl ?_
  exact z_aret dJ2_grow_2_44 rfl rfl k
theorem sJ2e_grow_2_52 {E : zE} {d : Nat} {Q : zO → zM → Prop} (M : zM) (s0 : Int32) (a0 : Nat) (k : (¬ s0 < 0 ∧ (s0).toNatClampNeg * 4 ≤ 536870912) ∧ (Z E YJ2_grow_2 (d + 1) (zn M (s0).toNatClampNeg) [] 55 [vr (some ((zsz M), 106, (s0).toNatClampNeg)), vr (some (a0, 11, 0))] Q)) : Z E YJ2_grow_2 (d + 1) M [] 52 [vi s0, vr (some (a0, 11, 0))] Q := by
  obtain ⟨b_, k⟩ := k
  refine z_anew (q := 6) (N := (s0).toNatClampNeg) dJ2_grow_2_52 (Or.inl ⟨rfl, rfl⟩) q1375 q1366 b_.1 rfl b_.2 ?_
  exact k
theorem sJ2e_grow_2_55 {E : zE} {d : Nat} {Q : zO → zM → Prop} (M : zM) (p0 : Nat) (np0 : Nat) (a0 : Nat) (k : 16 ≤ a0 ∧ (Q (.inl (some (vr (some (p0, 106, np0))))) (sr M a0 1 (some (p0, 106, np0))))) : Z E YJ2_grow_2 (d + 1) M [] 55 [vr (some (p0, 106, np0)), vr (some (a0, 11, 0))] Q := by
  refine z_dup_x1 dJ2_grow_2_55 rfl rfl ?_
  obtain ⟨g_, k⟩ := k
  refine z_putr g_ dJ2_grow_2_56 (zfwN.w fwJ2_9_11) rfl ?_
  exact z_aret dJ2_grow_2_59 rfl rfl k
/-! java/util/ArrayList.size()I -/
theorem bJ2_size_0 : zdec cJ2_size 0 [(0, .aload_n 0, 1), (1, .getfield 48, 3), (4, .ireturn, 1)] = true := by decide +kernel
theorem dJ2_size_0 : decode cJ2_size 0 = .ok (.aload_n 0, 1) := zdec_at bJ2_size_0 0 rfl
theorem dJ2_size_1 : decode cJ2_size 1 = .ok (.getfield 48, 3) := zdec_at bJ2_size_0 1 rfl
theorem dJ2_size_4 : decode cJ2_size 4 = .ok (.ireturn, 1) := zdec_at bJ2_size_0 2 rfl
theorem sJ2_size_0 {E : zE} {d : Nat} {Q : zO → zM → Prop} (M : zM) (a0 : Nat) (k : Q (.inl (some (vi (gi M a0 2)))) M) : Z E YJ2_size d M [(0, vr (some (a0, 11, 0)))] 0 [] Q := by
  refine z_aload_n dJ2_size_0 rfl rfl ?_
  refine z_geti dJ2_size_1 fsJ2_48_11 ?_
  exact z_iret dJ2_size_4 rfl rfl k
/-! java/util/ArrayList.get(I)Ljava/lang/Object; -/
theorem bJ2_get_0 : zdec cJ2_get 0 [(0, .iload_n 1, 1), (1, .aload_n 0, 1), (2, .getfield 48, 3), (5, .invokestatic 118, 3), (8, .pop, 1), (9, .aload_n 0, 1), (10, .iload_n 1, 1), (11, .invokevirtual 123, 3), (14, .areturn, 1)] = true := by decide +kernel
theorem dJ2_get_0 : decode cJ2_get 0 = .ok (.iload_n 1, 1) := zdec_at bJ2_get_0 0 rfl
theorem dJ2_get_1 : decode cJ2_get 1 = .ok (.aload_n 0, 1) := zdec_at bJ2_get_0 1 rfl
theorem dJ2_get_2 : decode cJ2_get 2 = .ok (.getfield 48, 3) := zdec_at bJ2_get_0 2 rfl
theorem dJ2_get_5 : decode cJ2_get 5 = .ok (.invokestatic 118, 3) := zdec_at bJ2_get_0 3 rfl
theorem dJ2_get_8 : decode cJ2_get 8 = .ok (.pop, 1) := zdec_at bJ2_get_0 4 rfl
theorem dJ2_get_9 : decode cJ2_get 9 = .ok (.aload_n 0, 1) := zdec_at bJ2_get_0 5 rfl
theorem dJ2_get_10 : decode cJ2_get 10 = .ok (.iload_n 1, 1) := zdec_at bJ2_get_0 6 rfl
theorem dJ2_get_11 : decode cJ2_get 11 = .ok (.invokevirtual 123, 3) := zdec_at bJ2_get_0 7 rfl
theorem dJ2_get_14 : decode cJ2_get 14 = .ok (.areturn, 1) := zdec_at bJ2_get_0 8 rfl
theorem sJ2_get_0 {E : zE} {d : Nat} {Q : zO → zM → Prop} (M : zM) (a0 : Nat) (l1 : Int32) (k : Z E YJ13_checkIndex d M (zargs 0 [vi l1, vi (gi M a0 2)]) 0 [] (zafter E YJ2_get (d + 1) [(0, vr (some (a0, 11, 0))), (1, vi l1)] 5 3 [] Q)) : Z E YJ2_get (d + 1) M [(0, vr (some (a0, 11, 0))), (1, vi l1)] 0 [] Q := by
  refine z_iload_n dJ2_get_0 rfl rfl ?_
  refine z_aload_n dJ2_get_1 rfl rfl ?_
  refine z_geti dJ2_get_2 fsJ2_48_11 ?_
  exact z_callS (as := [vi l1, vi (gi M a0 2)]) (st := []) dJ2_get_5 ssJ2_118 (Nat.le_refl _) (Nat.le_of_ble_eq_true rfl) (Nat.le_of_ble_eq_true rfl) rfl k
theorem sJ2_get_8 {E : zE} {d : Nat} {Q : zO → zM → Prop} (M : zM) (a0 : Nat) (l1 : Int32) (s0 : Int32) (k : Z E YJ2_elementData d M (zargs 0 [vr (some (a0, 11, 0)), vi l1]) 0 [] (zafter E YJ2_get (d + 1) [] 11 3 [] Q)) : Z E YJ2_get (d + 1) M [(0, vr (some (a0, 11, 0))), (1, vi l1)] 8 [vi s0] Q := by
  refine z_pop dJ2_get_8 rfl ?_
  refine z_aload_n dJ2_get_9 rfl rfl ?_
  refine z_iload_n dJ2_get_10 rfl rfl ?_
  refine Z.pick [] rfl ?_
  exact z_callV (as := [vi l1]) (st := []) dJ2_get_11 vsJ2_123_11 (Nat.le_refl _) (Nat.le_of_ble_eq_true rfl) (Nat.le_of_ble_eq_true rfl) rfl k
theorem sJ2_get_14 {E : zE} {d : Nat} {Q : zO → zM → Prop} (M : zM) (u0 : Option zP) (k : Q (.inl (some (vr u0))) M) : Z E YJ2_get (d + 1) M [] 14 [vr u0] Q := by
  exact z_aret dJ2_get_14 rfl rfl k
/-! java/util/ArrayList.elementData(I)Ljava/lang/Object; -/
theorem bJ2_elementData_0 : zdec cJ2_elementData 0 [(0, .aload_n 0, 1), (1, .getfield 9, 3), (4, .iload_n 1, 1), (5, .aaload, 1), (6, .areturn, 1)] = true := by decide +kernel
theorem dJ2_elementData_0 : decode cJ2_elementData 0 = .ok (.aload_n 0, 1) := zdec_at bJ2_elementData_0 0 rfl
theorem dJ2_elementData_1 : decode cJ2_elementData 1 = .ok (.getfield 9, 3) := zdec_at bJ2_elementData_0 1 rfl
theorem dJ2_elementData_4 : decode cJ2_elementData 4 = .ok (.iload_n 1, 1) := zdec_at bJ2_elementData_0 2 rfl
theorem dJ2_elementData_5 : decode cJ2_elementData 5 = .ok (.aaload, 1) := zdec_at bJ2_elementData_0 3 rfl
theorem dJ2_elementData_6 : decode cJ2_elementData 6 = .ok (.areturn, 1) := zdec_at bJ2_elementData_0 4 rfl
theorem sJ2_elementData_0 {E : zE} {d : Nat} {Q : zO → zM → Prop} (M : zM) (a0 : Nat) (l1 : Int32) (k : ∃ b1 m1 : Nat, (gr M a0 1) = some (b1, 106, m1) ∧ (vp_in l1 m1 ∧ (Q (.inl (some (vr (gr M b1 (l1).toNatClampNeg)))) M))) : Z E YJ2_elementData d M [(0, vr (some (a0, 11, 0))), (1, vi l1)] 0 [] Q := by
  refine z_aload_n dJ2_elementData_0 rfl rfl ?_
  refine z_getr (r := (gr M a0 1)) dJ2_elementData_1 fsJ2_9_11 rfl ?_
  refine z_iload_n dJ2_elementData_4 rfl rfl ?_
  obtain ⟨b1, m1, e1_, k⟩ := k
  refine Z.eqs (lv' := [(0, vr (some (a0, 11, 0))), (1, vi l1)]) (st' := [vi l1, vr (some (b1, 106, m1))]) rfl (by rw [e1_] <;> rfl) ?_
  obtain ⟨b_, k⟩ := k
  refine z_aald (r := (gr M b1 (l1).toNatClampNeg)) (q := 6) (Or.inl rfl) dJ2_elementData_5 b_ rfl ?_
  exact z_aret dJ2_elementData_6 rfl rfl k
/-! java/util/ArrayList.isEmpty()Z -/
theorem bJ2_isEmpty_0 : zdec cJ2_isEmpty 0 [(0, .aload_n 0, 1), (1, .getfield 48, 3), (4, .ifCond .ne 7, 3), (7, .iconst 1, 1), (8, .goto 4, 3), (11, .iconst 0, 1), (12, .ireturn, 1)] = true := by decide +kernel
theorem dJ2_isEmpty_0 : decode cJ2_isEmpty 0 = .ok (.aload_n 0, 1) := zdec_at bJ2_isEmpty_0 0 rfl
theorem dJ2_isEmpty_1 : decode cJ2_isEmpty 1 = .ok (.getfield 48, 3) := zdec_at bJ2_isEmpty_0 1 rfl
theorem dJ2_isEmpty_4 : decode cJ2_isEmpty 4 = .ok (.ifCond .ne 7, 3) := zdec_at bJ2_isEmpty_0 2 rfl
theorem dJ2_isEmpty_7 : decode cJ2_isEmpty 7 = .ok (.iconst 1, 1) := zdec_at bJ2_isEmpty_0 3 rfl
theorem dJ2_isEmpty_8 : decode cJ2_isEmpty 8 = .ok (.goto 4, 3) := zdec_at bJ2_isEmpty_0 4 rfl
theorem dJ2_isEmpty_11 : decode cJ2_isEmpty 11 = .ok (.iconst 0, 1) := zdec_at bJ2_isEmpty_0 5 rfl
theorem dJ2_isEmpty_12 : decode cJ2_isEmpty 12 = .ok (.ireturn, 1) := zdec_at bJ2_isEmpty_0 6 rfl
theorem sJ2_isEmpty_0 {E : zE} {d : Nat} {Q : zO → zM → Prop} (M : zM) (a0 : Nat) (k : if (gi M a0 2) = 0 then (Q (.inl (some (vi (1 : Int32)))) M) else (Q (.inl (some (vi (0 : Int32)))) M)) : Z E YJ2_isEmpty d M [(0, vr (some (a0, 11, 0)))] 0 [] Q := by
  refine z_aload_n dJ2_isEmpty_0 rfl rfl ?_
  refine z_geti dJ2_isEmpty_1 fsJ2_48_11 ?_
  refine z_if_ne (tgt := 11) dJ2_isEmpty_4 rfl (fun h_ => ?_) (fun h_ => ?_)
  · have k := zif h_ k
    refine z_iconst (v := 0) dJ2_isEmpty_11 rfl ?_
    exact z_iret dJ2_isEmpty_12 rfl (by decide) k
  · have k := zit h_ k
    refine z_iconst (v := 1) dJ2_isEmpty_7 rfl ?_
    refine z_goto (tgt := 12) dJ2_isEmpty_8 rfl ?_
    exact z_iret dJ2_isEmpty_12 rfl (by decide) k
/-! java/lang/Throwable.<init>(Ljava/lang/String;Ljava/lang/Throwable;ZZ)V -/
theorem bJ3_init_2_0 : zdec cJ3_init_2 0 [(0, .aload_n 0, 1), (1, .invokespecial 1, 3), (4, .aload_n 0, 1), (5, .aload_n 0, 1), (6, .putfield 7, 3), (9, .aload_n 0, 1), (10, .getstatic 13, 3), (13, .putfield 17, 3), (16, .aload_n 0, 1), (17, .getstatic 20, 3), (20, .putfield 24, 3), (23, .iload 4, 2), (25, .ifCond .eq 11, 3), (28, .aload_n 0, 1), (29, .invokevirtual 27, 3), (32, .pop, 1)] = true := by decide +kernel
theorem dJ3_init_2_0 : decode cJ3_init_2 0 = .ok (.aload_n 0, 1) := zdec_at bJ3_init_2_0 0 rfl
theorem dJ3_init_2_1 : decode cJ3_init_2 1 = .ok (.invokespecial 1, 3) := zdec_at bJ3_init_2_0 1 rfl
theorem dJ3_init_2_4 : decode cJ3_init_2 4 = .ok (.aload_n 0, 1) := zdec_at bJ3_init_2_0 2 rfl
theorem dJ3_init_2_5 : decode cJ3_init_2 5 = .ok (.aload_n 0, 1) := zdec_at bJ3_init_2_0 3 rfl
theorem dJ3_init_2_6 : decode cJ3_init_2 6 = .ok (.putfield 7, 3) := zdec_at bJ3_init_2_0 4 rfl
theorem dJ3_init_2_9 : decode cJ3_init_2 9 = .ok (.aload_n 0, 1) := zdec_at bJ3_init_2_0 5 rfl
theorem dJ3_init_2_10 : decode cJ3_init_2 10 = .ok (.getstatic 13, 3) := zdec_at bJ3_init_2_0 6 rfl
theorem dJ3_init_2_13 : decode cJ3_init_2 13 = .ok (.putfield 17, 3) := zdec_at bJ3_init_2_0 7 rfl
theorem dJ3_init_2_16 : decode cJ3_init_2 16 = .ok (.aload_n 0, 1) := zdec_at bJ3_init_2_0 8 rfl
theorem dJ3_init_2_17 : decode cJ3_init_2 17 = .ok (.getstatic 20, 3) := zdec_at bJ3_init_2_0 9 rfl
theorem dJ3_init_2_20 : decode cJ3_init_2 20 = .ok (.putfield 24, 3) := zdec_at bJ3_init_2_0 10 rfl
theorem dJ3_init_2_23 : decode cJ3_init_2 23 = .ok (.iload 4, 2) := zdec_at bJ3_init_2_0 11 rfl
theorem dJ3_init_2_25 : decode cJ3_init_2 25 = .ok (.ifCond .eq 11, 3) := zdec_at bJ3_init_2_0 12 rfl
theorem dJ3_init_2_28 : decode cJ3_init_2 28 = .ok (.aload_n 0, 1) := zdec_at bJ3_init_2_0 13 rfl
theorem dJ3_init_2_29 : decode cJ3_init_2 29 = .ok (.invokevirtual 27, 3) := zdec_at bJ3_init_2_0 14 rfl
theorem dJ3_init_2_32 : decode cJ3_init_2 32 = .ok (.pop, 1) := zdec_at bJ3_init_2_0 15 rfl
theorem bJ3_init_2_33 : zdec cJ3_init_2 33 [(33, .goto 8, 3), (36, .aload_n 0, 1), (37, .aconst_null, 1), (38, .putfield 17, 3), (41, .aload_n 0, 1), (42, .aload_n 1, 1), (43, .putfield 31, 3), (46, .aload_n 0, 1), (47, .aload_n 2, 1), (48, .putfield 7, 3), (51, .iload_n 3, 1), (52, .ifCond .ne 8, 3), (55, .aload_n 0, 1), (56, .aconst_null, 1), (57, .putfield 24, 3), (60, .return_, 1)] = true := by decide +kernel
theorem dJ3_init_2_33 : decode cJ3_init_2 33 = .ok (.goto 8, 3) := zdec_at bJ3_init_2_33 0 rfl
theorem dJ3_init_2_36 : decode cJ3_init_2 36 = .ok (.aload_n 0, 1) := zdec_at bJ3_init_2_33 1 rfl
theorem dJ3_init_2_37 : decode cJ3_init_2 37 = .ok (.aconst_null, 1) := zdec_at bJ3_init_2_33 2 rfl
theorem dJ3_init_2_38 : decode cJ3_init_2 38 = .ok (.putfield 17, 3) := zdec_at bJ3_init_2_33 3 rfl
theorem dJ3_init_2_41 : decode cJ3_init_2 41 = .ok (.aload_n 0, 1) := zdec_at bJ3_init_2_33 4 rfl
theorem dJ3_init_2_42 : decode cJ3_init_2 42 = .ok (.aload_n 1, 1) := zdec_at bJ3_init_2_33 5 rfl
theorem dJ3_init_2_43 : decode cJ3_init_2 43 = .ok (.putfield 31, 3) := zdec_at bJ3_init_2_33 6 rfl
theorem dJ3_init_2_46 : decode cJ3_init_2 46 = .ok (.aload_n 0, 1) := zdec_at bJ3_init_2_33 7 rfl
theorem dJ3_init_2_47 : decode cJ3_init_2 47 = .ok (.aload_n 2, 1) := zdec_at bJ3_init_2_33 8 rfl
theorem dJ3_init_2_48 : decode cJ3_init_2 48 = .ok (.putfield 7, 3) := zdec_at bJ3_init_2_33 9 rfl
theorem dJ3_init_2_51 : decode cJ3_init_2 51 = .ok (.iload_n 3, 1) := zdec_at bJ3_init_2_33 10 rfl
theorem dJ3_init_2_52 : decode cJ3_init_2 52 = .ok (.ifCond .ne 8, 3) := zdec_at bJ3_init_2_33 11 rfl
theorem dJ3_init_2_55 : decode cJ3_init_2 55 = .ok (.aload_n 0, 1) := zdec_at bJ3_init_2_33 12 rfl
theorem dJ3_init_2_56 : decode cJ3_init_2 56 = .ok (.aconst_null, 1) := zdec_at bJ3_init_2_33 13 rfl
theorem dJ3_init_2_57 : decode cJ3_init_2 57 = .ok (.putfield 24, 3) := zdec_at bJ3_init_2_33 14 rfl
theorem dJ3_init_2_60 : decode cJ3_init_2 60 = .ok (.return_, 1) := zdec_at bJ3_init_2_33 15 rfl
theorem sJ3t12_init_2_0 {E : zE} {d : Nat} {Q : zO → zM → Prop} (M : zM) (a0 : Nat) (k : 16 ≤ a0 ∧ (16 ≤ a0 ∧ (16 ≤ a0 ∧ (16 ≤ a0 ∧ (Z E YJ3_init_2 (d + 1) (sr (sr (sr (sr M a0 0 (some (a0, 12, 0))) a0 1 (zsv E 2)) a0 2 (zsv E 3)) a0 1 none) [(0, vr (some (a0, 12, 0))), (1, vr none), (2, vr none), (3, vi (0 : Int32))] 41 [] Q))))) : Z E YJ3_init_2 (d + 1) M [(0, vr (some (a0, 12, 0))), (1, vr none), (2, vr none), (3, vi (0 : Int32)), (4, vi (0 : Int32))] 0 [] Q := by
  refine z_aload_n dJ3_init_2_0 rfl rfl ?_
  refine z_objInit dJ3_init_2_1 oiJ3_1 (by omega) (by decide) ?_
  refine z_aload_n dJ3_init_2_4 rfl rfl ?_
  refine z_aload_n dJ3_init_2_5 rfl rfl ?_
  obtain ⟨g_, k⟩ := k
  refine z_putr g_ dJ3_init_2_6 (zfwN.w fwJ3_7_12) rfl ?_
  refine z_aload_n dJ3_init_2_9 rfl rfl ?_
  refine z_gets (i := 1) dJ3_init_2_10 rfl q648 ?_
  obtain ⟨g_, k⟩ := k
  refine z_putr g_ dJ3_init_2_13 (zfwN.w fwJ3_17_12) rfl ?_
  refine z_aload_n dJ3_init_2_16 rfl rfl ?_
  refine z_gets (i := 2) dJ3_init_2_17 rfl q650 ?_
  obtain ⟨g_, k⟩ := k
  refine z_putr g_ dJ3_init_2_20 (zfwN.w fwJ3_24_12) rfl ?_
  refine z_iload dJ3_init_2_23 rfl ?_
  refine z_if_eq (tgt := 36) dJ3_init_2_25 rfl (fun _ => ?_) (fun h_ => absurd (by decide) h_)
  refine z_aload_n dJ3_init_2_36 rfl rfl ?_
  refine z_null dJ3_init_2_37 ?_
  obtain ⟨g_, k⟩ := k
  refine z_putr g_ dJ3_init_2_38 (zfwN.w fwJ3_17_12) rfl ?_
  refine Z.pick [0, 1, 2, 3] rfl ?_
  exact k
theorem sJ3t12_init_2_41 {E : zE} {d : Nat} {Q : zO → zM → Prop} (M : zM) (a0 : Nat) (k : 16 ≤ a0 ∧ (16 ≤ a0 ∧ (16 ≤ a0 ∧ (Q (.inl none) (sr (sr (sr M a0 3 none) a0 0 none) a0 2 none))))) : Z E YJ3_init_2 (d + 1) M [(0, vr (some (a0, 12, 0))), (1, vr none), (2, vr none), (3, vi (0 : Int32))] 41 [] Q := by
  refine z_aload_n dJ3_init_2_41 rfl rfl ?_
  refine z_aload_n dJ3_init_2_42 rfl rfl ?_
  obtain ⟨g_, k⟩ := k
  refine z_putr g_ dJ3_init_2_43 (zfwN.w fwJ3_31_12) rfl ?_
  refine z_aload_n dJ3_init_2_46 rfl rfl ?_
  refine z_aload_n dJ3_init_2_47 rfl rfl ?_
  obtain ⟨g_, k⟩ := k
  refine z_putr g_ dJ3_init_2_48 (zfwN.w fwJ3_7_12) rfl ?_
  refine z_iload_n dJ3_init_2_51 rfl rfl ?_
  refine z_if_ne (tgt := 60) dJ3_init_2_52 rfl (fun h_ => absurd (by decide) h_) (fun _ => ?_)
  refine z_aload_n dJ3_init_2_55 rfl rfl ?_
  refine z_null dJ3_init_2_56 ?_
  obtain ⟨g_, k⟩ := k
  refine z_putr g_ dJ3_init_2_57 (zfwN.w fwJ3_24_12) rfl ?_
  exact z_vret dJ3_init_2_60 rfl k
/-! java/lang/Throwable.<init>(Ljava/lang/String;Ljava/lang/Throwable;ZZ)V -/
theorem sJ3t13_init_2_0 {E : zE} {d : Nat} {Q : zO → zM → Prop} (M : zM) (a0 : Nat) (k : 16 ≤ a0 ∧ (16 ≤ a0 ∧ (16 ≤ a0 ∧ (16 ≤ a0 ∧ (Z E YJ3_init_2 (d + 1) (sr (sr (sr (sr M a0 0 (some (a0, 13, 0))) a0 1 (zsv E 2)) a0 2 (zsv E 3)) a0 1 none) [(0, vr (some (a0, 13, 0))), (1, vr none), (2, vr none), (3, vi (0 : Int32))] 41 [] Q))))) : Z E YJ3_init_2 (d + 1) M [(0, vr (some (a0, 13, 0))), (1, vr none), (2, vr none), (3, vi (0 : Int32)), (4, vi (0 : Int32))] 0 [] Q := by
  refine z_aload_n dJ3_init_2_0 rfl rfl ?_
  refine z_objInit dJ3_init_2_1 oiJ3_1 (by omega) (by decide) ?_
  refine z_aload_n dJ3_init_2_4 rfl rfl ?_
  refine z_aload_n dJ3_init_2_5 rfl rfl ?_
  obtain ⟨g_, k⟩ := k
  refine z_putr g_ dJ3_init_2_6 (zfwN.w fwJ3_7_13) rfl ?_
  refine z_aload_n dJ3_init_2_9 rfl rfl ?_
  refine z_gets (i := 1) dJ3_init_2_10 rfl q648 ?_
  obtain ⟨g_, k⟩ := k
  refine z_putr g_ dJ3_init_2_13 (zfwN.w fwJ3_17_13) rfl ?_
  refine z_aload_n dJ3_init_2_16 rfl rfl ?_
  refine z_gets (i := 2) dJ3_init_2_17 rfl q650 ?_
  obtain ⟨g_, k⟩ := k
  refine z_putr g_ dJ3_init_2_20 (zfwN.w fwJ3_24_13) rfl ?_
  refine z_iload dJ3_init_2_23 rfl ?_
  refine z_if_eq (tgt := 36) dJ3_init_2_25 rfl (fun _ => ?_) (fun h_ => absurd (by decide) h_)
  refine z_aload_n dJ3_init_2_36 rfl rfl ?_
  refine z_null dJ3_init_2_37 ?_
  obtain ⟨g_, k⟩ := k
  refine z_putr g_ dJ3_init_2_38 (zfwN.w fwJ3_17_13) rfl ?_
  refine Z.pick [0, 1, 2, 3] rfl ?_
  exact k
theorem sJ3t13_init_2_41 {E : zE} {d : Nat} {Q : zO → zM → Prop} (M : zM) (a0 : Nat) (k : 16 ≤ a0 ∧ (16 ≤ a0 ∧ (16 ≤ a0 ∧ (Q (.inl none) (sr (sr (sr M a0 3 none) a0 0 none) a0 2 none))))) : Z E YJ3_init_2 (d + 1) M [(0, vr (some (a0, 13, 0))), (1, vr none), (2, vr none), (3, vi (0 : Int32))] 41 [] Q := by
  refine z_aload_n dJ3_init_2_41 rfl rfl ?_
  refine z_aload_n dJ3_init_2_42 rfl rfl ?_
  obtain ⟨g_, k⟩ := k
  refine z_putr g_ dJ3_init_2_43 (zfwN.w fwJ3_31_13) rfl ?_
  refine z_aload_n dJ3_init_2_46 rfl rfl ?_
  refine z_aload_n dJ3_init_2_47 rfl rfl ?_
  obtain ⟨g_, k⟩ := k
  refine z_putr g_ dJ3_init_2_48 (zfwN.w fwJ3_7_13) rfl ?_
  refine z_iload_n dJ3_init_2_51 rfl rfl ?_
  refine z_if_ne (tgt := 60) dJ3_init_2_52 rfl (fun h_ => absurd (by decide) h_) (fun _ => ?_)
  refine z_aload_n dJ3_init_2_55 rfl rfl ?_
  refine z_null dJ3_init_2_56 ?_
  obtain ⟨g_, k⟩ := k
  refine z_putr g_ dJ3_init_2_57 (zfwN.w fwJ3_24_13) rfl ?_
  exact z_vret dJ3_init_2_60 rfl k
/-! java/lang/Throwable.<init>(Ljava/lang/String;Ljava/lang/Throwable;ZZ)V -/
theorem sJ3t14_init_2_0 {E : zE} {d : Nat} {Q : zO → zM → Prop} (M : zM) (a0 : Nat) (k : 16 ≤ a0 ∧ (16 ≤ a0 ∧ (16 ≤ a0 ∧ (16 ≤ a0 ∧ (Z E YJ3_init_2 (d + 1) (sr (sr (sr (sr M a0 0 (some (a0, 14, 0))) a0 1 (zsv E 2)) a0 2 (zsv E 3)) a0 1 none) [(0, vr (some (a0, 14, 0))), (1, vr none), (2, vr none), (3, vi (0 : Int32))] 41 [] Q))))) : Z E YJ3_init_2 (d + 1) M [(0, vr (some (a0, 14, 0))), (1, vr none), (2, vr none), (3, vi (0 : Int32)), (4, vi (0 : Int32))] 0 [] Q := by
  refine z_aload_n dJ3_init_2_0 rfl rfl ?_
  refine z_objInit dJ3_init_2_1 oiJ3_1 (by omega) (by decide) ?_
  refine z_aload_n dJ3_init_2_4 rfl rfl ?_
  refine z_aload_n dJ3_init_2_5 rfl rfl ?_
  obtain ⟨g_, k⟩ := k
  refine z_putr g_ dJ3_init_2_6 (zfwN.w fwJ3_7_14) rfl ?_
  refine z_aload_n dJ3_init_2_9 rfl rfl ?_
  refine z_gets (i := 1) dJ3_init_2_10 rfl q648 ?_
  obtain ⟨g_, k⟩ := k
  refine z_putr g_ dJ3_init_2_13 (zfwN.w fwJ3_17_14) rfl ?_
  refine z_aload_n dJ3_init_2_16 rfl rfl ?_
  refine z_gets (i := 2) dJ3_init_2_17 rfl q650 ?_
  obtain ⟨g_, k⟩ := k
  refine z_putr g_ dJ3_init_2_20 (zfwN.w fwJ3_24_14) rfl ?_
  refine z_iload dJ3_init_2_23 rfl ?_
  refine z_if_eq (tgt := 36) dJ3_init_2_25 rfl (fun _ => ?_) (fun h_ => absurd (by decide) h_)
  refine z_aload_n dJ3_init_2_36 rfl rfl ?_
  refine z_null dJ3_init_2_37 ?_
  obtain ⟨g_, k⟩ := k
  refine z_putr g_ dJ3_init_2_38 (zfwN.w fwJ3_17_14) rfl ?_
  refine Z.pick [0, 1, 2, 3] rfl ?_
  exact k
theorem sJ3t14_init_2_41 {E : zE} {d : Nat} {Q : zO → zM → Prop} (M : zM) (a0 : Nat) (k : 16 ≤ a0 ∧ (16 ≤ a0 ∧ (16 ≤ a0 ∧ (Q (.inl none) (sr (sr (sr M a0 3 none) a0 0 none) a0 2 none))))) : Z E YJ3_init_2 (d + 1) M [(0, vr (some (a0, 14, 0))), (1, vr none), (2, vr none), (3, vi (0 : Int32))] 41 [] Q := by
  refine z_aload_n dJ3_init_2_41 rfl rfl ?_
  refine z_aload_n dJ3_init_2_42 rfl rfl ?_
  obtain ⟨g_, k⟩ := k
  refine z_putr g_ dJ3_init_2_43 (zfwN.w fwJ3_31_14) rfl ?_
  refine z_aload_n dJ3_init_2_46 rfl rfl ?_
  refine z_aload_n dJ3_init_2_47 rfl rfl ?_
  obtain ⟨g_, k⟩ := k
  refine z_putr g_ dJ3_init_2_48 (zfwN.w fwJ3_7_14) rfl ?_
  refine z_iload_n dJ3_init_2_51 rfl rfl ?_
  refine z_if_ne (tgt := 60) dJ3_init_2_52 rfl (fun h_ => absurd (by decide) h_) (fun _ => ?_)
  refine z_aload_n dJ3_init_2_55 rfl rfl ?_
  refine z_null dJ3_init_2_56 ?_
  obtain ⟨g_, k⟩ := k
  refine z_putr g_ dJ3_init_2_57 (zfwN.w fwJ3_24_14) rfl ?_
  exact z_vret dJ3_init_2_60 rfl k
/-! java/lang/Exception.<init>(Ljava/lang/String;Ljava/lang/Throwable;ZZ)V -/
theorem bJ4_init_0 : zdec cJ4_init 0 [(0, .aload_n 0, 1), (1, .aload_n 1, 1), (2, .aload_n 2, 1), (3, .iload_n 3, 1), (4, .iload 4, 2), (6, .invokespecial 16, 3), (9, .return_, 1)] = true := by decide +kernel
theorem dJ4_init_0 : decode cJ4_init 0 = .ok (.aload_n 0, 1) := zdec_at bJ4_init_0 0 rfl
theorem dJ4_init_1 : decode cJ4_init 1 = .ok (.aload_n 1, 1) := zdec_at bJ4_init_0 1 rfl
theorem dJ4_init_2 : decode cJ4_init 2 = .ok (.aload_n 2, 1) := zdec_at bJ4_init_0 2 rfl
theorem dJ4_init_3 : decode cJ4_init 3 = .ok (.iload_n 3, 1) := zdec_at bJ4_init_0 3 rfl
theorem dJ4_init_4 : decode cJ4_init 4 = .ok (.iload 4, 2) := zdec_at bJ4_init_0 4 rfl
theorem dJ4_init_6 : decode cJ4_init 6 = .ok (.invokespecial 16, 3) := zdec_at bJ4_init_0 5 rfl
theorem dJ4_init_9 : decode cJ4_init 9 = .ok (.return_, 1) := zdec_at bJ4_init_0 6 rfl
theorem sJ4_init_0 {E : zE} {d : Nat} {Q : zO → zM → Prop} (M : zM) (a0 : Nat) (t0 : Nat) (r1 : Option zP) (r2 : Option zP) (l3 : Int32) (l4 : Int32) (k : Z E YJ3_init_2 d M (zargs 0 [vr (some (a0, t0, 0)), vr r1, vr r2, vi l3, vi l4]) 0 [] (zafter E YJ4_init (d + 1) [] 6 3 [] Q)) : Z E YJ4_init (d + 1) M [(0, vr (some (a0, t0, 0))), (1, vr r1), (2, vr r2), (3, vi l3), (4, vi l4)] 0 [] Q := by
  refine z_aload_n dJ4_init_0 rfl rfl ?_
  refine z_aload_n dJ4_init_1 rfl rfl ?_
  refine z_aload_n dJ4_init_2 rfl rfl ?_
  refine z_iload_n dJ4_init_3 rfl rfl ?_
  refine z_iload dJ4_init_4 rfl ?_
  refine Z.pick [] rfl ?_
  exact z_callI (as := [vr r1, vr r2, vi l3, vi l4]) (st := []) dJ4_init_6 isJ4_16 (Nat.le_refl _) (Nat.le_of_ble_eq_true rfl) (Nat.le_of_ble_eq_true rfl) rfl k
theorem sJ4_init_9 {E : zE} {d : Nat} {Q : zO → zM → Prop} (M : zM)  (k : Q (.inl none) M) : Z E YJ4_init (d + 1) M [] 9 [] Q := by
  exact z_vret dJ4_init_9 rfl k
/-! java/lang/Exception.<init>()V -/
theorem bJ4_init_2_0 : zdec cJ4_init_2 0 [(0, .aload_n 0, 1), (1, .invokespecial 1, 3), (4, .return_, 1)] = true := by decide +kernel
theorem dJ4_init_2_0 : decode cJ4_init_2 0 = .ok (.aload_n 0, 1) := zdec_at bJ4_init_2_0 0 rfl
theorem dJ4_init_2_1 : decode cJ4_init_2 1 = .ok (.invokespecial 1, 3) := zdec_at bJ4_init_2_0 1 rfl
theorem dJ4_init_2_4 : decode cJ4_init_2 4 = .ok (.return_, 1) := zdec_at bJ4_init_2_0 2 rfl
theorem sJ4_init_2_0 {E : zE} {d : Nat} {Q : zO → zM → Prop} (M : zM) (a0 : Nat) (t0 : Nat) (k : Z E YJ3_init d M (zargs 0 [vr (some (a0, t0, 0))]) 0 [] (zafter E YJ4_init_2 (d + 1) [] 1 3 [] Q)) : Z E YJ4_init_2 (d + 1) M [(0, vr (some (a0, t0, 0)))] 0 [] Q := by
  refine z_aload_n dJ4_init_2_0 rfl rfl ?_
  refine Z.pick [] rfl ?_
  exact z_callI (as := []) (st := []) dJ4_init_2_1 isJ4_1 (Nat.le_refl _) (Nat.le_of_ble_eq_true rfl) (Nat.le_of_ble_eq_true rfl) rfl k
theorem sJ4_init_2_4 {E : zE} {d : Nat} {Q : zO → zM → Prop} (M : zM)  (k : Q (.inl none) M) : Z E YJ4_init_2 (d + 1) M [] 4 [] Q := by
  exact z_vret dJ4_init_2_4 rfl k
/-! java/lang/RuntimeException.<init>(Ljava/lang/String;Ljava/lang/Throwable;ZZ)V -/
theorem bJ5_init_0 : zdec cJ5_init 0 [(0, .aload_n 0, 1), (1, .aload_n 1, 1), (2, .aload_n 2, 1), (3, .iload_n 3, 1), (4, .iload 4, 2), (6, .invokespecial 16, 3), (9, .return_, 1)] = true := by decide +kernel
theorem dJ5_init_0 : decode cJ5_init 0 = .ok (.aload_n 0, 1) := zdec_at bJ5_init_0 0 rfl
theorem dJ5_init_1 : decode cJ5_init 1 = .ok (.aload_n 1, 1) := zdec_at bJ5_init_0 1 rfl
theorem dJ5_init_2 : decode cJ5_init 2 = .ok (.aload_n 2, 1) := zdec_at bJ5_init_0 2 rfl
theorem dJ5_init_3 : decode cJ5_init 3 = .ok (.iload_n 3, 1) := zdec_at bJ5_init_0 3 rfl
theorem dJ5_init_4 : decode cJ5_init 4 = .ok (.iload 4, 2) := zdec_at bJ5_init_0 4 rfl
theorem dJ5_init_6 : decode cJ5_init 6 = .ok (.invokespecial 16, 3) := zdec_at bJ5_init_0 5 rfl
theorem dJ5_init_9 : decode cJ5_init 9 = .ok (.return_, 1) := zdec_at bJ5_init_0 6 rfl
theorem sJ5_init_0 {E : zE} {d : Nat} {Q : zO → zM → Prop} (M : zM) (a0 : Nat) (t0 : Nat) (r1 : Option zP) (r2 : Option zP) (l3 : Int32) (l4 : Int32) (k : Z E YJ4_init d M (zargs 0 [vr (some (a0, t0, 0)), vr r1, vr r2, vi l3, vi l4]) 0 [] (zafter E YJ5_init (d + 1) [] 6 3 [] Q)) : Z E YJ5_init (d + 1) M [(0, vr (some (a0, t0, 0))), (1, vr r1), (2, vr r2), (3, vi l3), (4, vi l4)] 0 [] Q := by
  refine z_aload_n dJ5_init_0 rfl rfl ?_
  refine z_aload_n dJ5_init_1 rfl rfl ?_
  refine z_aload_n dJ5_init_2 rfl rfl ?_
  refine z_iload_n dJ5_init_3 rfl rfl ?_
  refine z_iload dJ5_init_4 rfl ?_
  refine Z.pick [] rfl ?_
  exact z_callI (as := [vr r1, vr r2, vi l3, vi l4]) (st := []) dJ5_init_6 isJ5_16 (Nat.le_refl _) (Nat.le_of_ble_eq_true rfl) (Nat.le_of_ble_eq_true rfl) rfl k
theorem sJ5_init_9 {E : zE} {d : Nat} {Q : zO → zM → Prop} (M : zM)  (k : Q (.inl none) M) : Z E YJ5_init (d + 1) M [] 9 [] Q := by
  exact z_vret dJ5_init_9 rfl k
/-! java/lang/RuntimeException.<init>()V -/
theorem bJ5_init_2_0 : zdec cJ5_init_2 0 [(0, .aload_n 0, 1), (1, .invokespecial 1, 3), (4, .return_, 1)] = true := by decide +kernel
theorem dJ5_init_2_0 : decode cJ5_init_2 0 = .ok (.aload_n 0, 1) := zdec_at bJ5_init_2_0 0 rfl
theorem dJ5_init_2_1 : decode cJ5_init_2 1 = .ok (.invokespecial 1, 3) := zdec_at bJ5_init_2_0 1 rfl
theorem dJ5_init_2_4 : decode cJ5_init_2 4 = .ok (.return_, 1) := zdec_at bJ5_init_2_0 2 rfl
theorem sJ5_init_2_0 {E : zE} {d : Nat} {Q : zO → zM → Prop} (M : zM) (a0 : Nat) (t0 : Nat) (k : Z E YJ4_init_2 d M (zargs 0 [vr (some (a0, t0, 0))]) 0 [] (zafter E YJ5_init_2 (d + 1) [] 1 3 [] Q)) : Z E YJ5_init_2 (d + 1) M [(0, vr (some (a0, t0, 0)))] 0 [] Q := by
  refine z_aload_n dJ5_init_2_0 rfl rfl ?_
  refine Z.pick [] rfl ?_
  exact z_callI (as := []) (st := []) dJ5_init_2_1 isJ5_1 (Nat.le_refl _) (Nat.le_of_ble_eq_true rfl) (Nat.le_of_ble_eq_true rfl) rfl k
theorem sJ5_init_2_4 {E : zE} {d : Nat} {Q : zO → zM → Prop} (M : zM)  (k : Q (.inl none) M) : Z E YJ5_init_2 (d + 1) M [] 4 [] Q := by
  exact z_vret dJ5_init_2_4 rfl k
/-! jdk/internal/util/ArraysSupport.newLength(III)I -/
theorem bJ10_newLength_0 : zdec cJ10_newLength 0 [(0, .iload_n 0, 1), (1, .iload_n 1, 1), (2, .iload_n 2, 1), (3, .invokestatic 194, 3), (6, .iadd, 1), (7, .istore_n 3, 1), (8, .iconst 0, 1), (9, .iload_n 3, 1), (10, .if_icmp .ge 11, 3), (13, .iload_n 3, 1), (14, .ldc 200, 2), (16, .if_icmp .gt 5, 3), (19, .iload_n 3, 1), (20, .ireturn, 1), (21, .iload_n 0, 1), (22, .iload_n 1, 1)] = true := by decide +kernel
theorem dJ10_newLength_0 : decode cJ10_newLength 0 = .ok (.iload_n 0, 1) := zdec_at bJ10_newLength_0 0 rfl
theorem dJ10_newLength_1 : decode cJ10_newLength 1 = .ok (.iload_n 1, 1) := zdec_at bJ10_newLength_0 1 rfl
theorem dJ10_newLength_2 : decode cJ10_newLength 2 = .ok (.iload_n 2, 1) := zdec_at bJ10_newLength_0 2 rfl
theorem dJ10_newLength_3 : decode cJ10_newLength 3 = .ok (.invokestatic 194, 3) := zdec_at bJ10_newLength_0 3 rfl
theorem dJ10_newLength_6 : decode cJ10_newLength 6 = .ok (.iadd, 1) := zdec_at bJ10_newLength_0 4 rfl
theorem dJ10_newLength_7 : decode cJ10_newLength 7 = .ok (.istore_n 3, 1) := zdec_at bJ10_newLength_0 5 rfl
theorem dJ10_newLength_8 : decode cJ10_newLength 8 = .ok (.iconst 0, 1) := zdec_at bJ10_newLength_0 6 rfl
theorem dJ10_newLength_9 : decode cJ10_newLength 9 = .ok (.iload_n 3, 1) := zdec_at bJ10_newLength_0 7 rfl
theorem dJ10_newLength_10 : decode cJ10_newLength 10 = .ok (.if_icmp .ge 11, 3) := zdec_at bJ10_newLength_0 8 rfl
theorem dJ10_newLength_13 : decode cJ10_newLength 13 = .ok (.iload_n 3, 1) := zdec_at bJ10_newLength_0 9 rfl
theorem dJ10_newLength_14 : decode cJ10_newLength 14 = .ok (.ldc 200, 2) := zdec_at bJ10_newLength_0 10 rfl
theorem dJ10_newLength_16 : decode cJ10_newLength 16 = .ok (.if_icmp .gt 5, 3) := zdec_at bJ10_newLength_0 11 rfl
theorem dJ10_newLength_19 : decode cJ10_newLength 19 = .ok (.iload_n 3, 1) := zdec_at bJ10_newLength_0 12 rfl
theorem dJ10_newLength_20 : decode cJ10_newLength 20 = .ok (.ireturn, 1) := zdec_at bJ10_newLength_0 13 rfl
theorem dJ10_newLength_21 : decode cJ10_newLength 21 = .ok (.iload_n 0, 1) := zdec_at bJ10_newLength_0 14 rfl
theorem dJ10_newLength_22 : decode cJ10_newLength 22 = .ok (.iload_n 1, 1) := zdec_at bJ10_newLength_0 15 rfl
theorem bJ10_newLength_23 : zdec cJ10_newLength 23 [(23, .invokestatic 201, 3), (26, .ireturn, 1)] = true := by decide +kernel
theorem dJ10_newLength_23 : decode cJ10_newLength 23 = .ok (.invokestatic 201, 3) := zdec_at bJ10_newLength_23 0 rfl
theorem dJ10_newLength_26 : decode cJ10_newLength 26 = .ok (.ireturn, 1) := zdec_at bJ10_newLength_23 1 rfl
theorem sJ10_newLength_0 {E : zE} {d : Nat} {Q : zO → zM → Prop} (M : zM) (l0 : Int32) (l1 : Int32) (l2 : Int32) (k : Z E YJ11_max d M (zargs 0 [vi l1, vi l2]) 0 [] (zafter E YJ10_newLength (d + 1) [(0, vi l0), (1, vi l1)] 3 3 [vi l0] Q)) : Z E YJ10_newLength (d + 1) M [(0, vi l0), (1, vi l1), (2, vi l2)] 0 [] Q := by
  refine z_iload_n dJ10_newLength_0 rfl rfl ?_
  refine z_iload_n dJ10_newLength_1 rfl rfl ?_
  refine z_iload_n dJ10_newLength_2 rfl rfl ?_
  refine Z.pick [0, 1] rfl ?_
  exact z_callS (as := [vi l1, vi l2]) (st := [vi l0]) dJ10_newLength_3 ssJ10_194 (Nat.le_refl _) (Nat.le_of_ble_eq_true rfl) (Nat.le_of_ble_eq_true rfl) rfl k
theorem sJ10_newLength_6 {E : zE} {d : Nat} {Q : zO → zM → Prop} (M : zM) (l0 : Int32) (l1 : Int32) (s0 : Int32) (s1 : Int32) (k : if (s1 + s0) ≤ (0 : Int32) then (Z E YJ10_hugeLength d M (zargs 0 [vi l0, vi l1]) 0 [] (zafter E YJ10_newLength (d + 1) [] 23 3 [] Q)) else (if (2147483639 : Int32) < (s1 + s0) then (Z E YJ10_hugeLength d M (zargs 0 [vi l0, vi l1]) 0 [] (zafter E YJ10_newLength (d + 1) [] 23 3 [] Q)) else (Q (.inl (some (vi (s1 + s0)))) M))) : Z E YJ10_newLength (d + 1) M [(0, vi l0), (1, vi l1)] 6 [vi s0, vi s1] Q := by
  refine z_iadd dJ10_newLength_6 ?_
  refine z_ist_n dJ10_newLength_7 rfl (by decide) (lv' := [(0, vi l0), (1, vi l1), (3, vi (s1 + s0))]) rfl ?_
  refine z_iconst (v := 0) dJ10_newLength_8 rfl ?_
  refine z_iload_n dJ10_newLength_9 rfl rfl ?_
  refine z_icmp_ge (tgt := 21) dJ10_newLength_10 rfl (fun h_ => ?_) (fun h_ => ?_)
  · have k := zit h_ k
    refine z_iload_n dJ10_newLength_21 rfl rfl ?_
    refine z_iload_n dJ10_newLength_22 rfl rfl ?_
    refine Z.pick [] rfl ?_
    exact z_callS (as := [vi l0, vi l1]) (st := []) dJ10_newLength_23 ssJ10_201 (Nat.le_refl _) (Nat.le_of_ble_eq_true rfl) (Nat.le_of_ble_eq_true rfl) rfl k
  · have k := zif h_ k
    refine z_iload_n dJ10_newLength_13 rfl rfl ?_
    refine z_ldc (v := 2147483639) dJ10_newLength_14 q1306 ?_
    refine z_icmp_gt (tgt := 21) dJ10_newLength_16 rfl (fun h_ => ?_) (fun h_ => ?_)
    · have k := zit h_ k
      refine z_iload_n dJ10_newLength_21 rfl rfl ?_
      refine z_iload_n dJ10_newLength_22 rfl rfl ?_
      refine Z.pick [] rfl ?_
      exact z_callS (as := [vi l0, vi l1]) (st := []) dJ10_newLength_23 ssJ10_201 (Nat.le_refl _) (Nat.le_of_ble_eq_true rfl) (Nat.le_of_ble_eq_true rfl) rfl k
    · have k := zif h_ k
      refine z_iload_n dJ10_newLength_19 rfl rfl ?_
      exact z_iret dJ10_newLength_20 rfl rfl k
theorem sJ10_newLength_26 {E : zE} {d : Nat} {Q : zO → zM → Prop} (M : zM) (s0 : Int32) (k : Q (.inl (some (vi s0))) M) : Z E YJ10_newLength (d + 1) M [] 26 [vi s0] Q := by
  exact z_iret dJ10_newLength_26 rfl rfl k
/-! java/lang/Math.max(II)I -/
theorem bJ11_max_0 : zdec cJ11_max 0 [(0, .iload_n 0, 1), (1, .iload_n 1, 1), (2, .if_icmp .lt 7, 3), (5, .iload_n 0, 1), (6, .goto 4, 3), (9, .iload_n 1, 1), (10, .ireturn, 1)] = true := by decide +kernel
theorem dJ11_max_0 : decode cJ11_max 0 = .ok (.iload_n 0, 1) := zdec_at bJ11_max_0 0 rfl
theorem dJ11_max_1 : decode cJ11_max 1 = .ok (.iload_n 1, 1) := zdec_at bJ11_max_0 1 rfl
theorem dJ11_max_2 : decode cJ11_max 2 = .ok (.if_icmp .lt 7, 3) := zdec_at bJ11_max_0 2 rfl
theorem dJ11_max_5 : decode cJ11_max 5 = .ok (.iload_n 0, 1) := zdec_at bJ11_max_0 3 rfl
theorem dJ11_max_6 : decode cJ11_max 6 = .ok (.goto 4, 3) := zdec_at bJ11_max_0 4 rfl
theorem dJ11_max_9 : decode cJ11_max 9 = .ok (.iload_n 1, 1) := zdec_at bJ11_max_0 5 rfl
theorem dJ11_max_10 : decode cJ11_max 10 = .ok (.ireturn, 1) := zdec_at bJ11_max_0 6 rfl
theorem sJ11_max_0 {E : zE} {d : Nat} {Q : zO → zM → Prop} (M : zM) (l0 : Int32) (l1 : Int32) (k : if l0 < l1 then (Q (.inl (some (vi l1))) M) else (Q (.inl (some (vi l0))) M)) : Z E YJ11_max d M [(0, vi l0), (1, vi l1)] 0 [] Q := by
  refine z_iload_n dJ11_max_0 rfl rfl ?_
  refine z_iload_n dJ11_max_1 rfl rfl ?_
  refine z_icmp_lt (tgt := 9) dJ11_max_2 rfl (fun h_ => ?_) (fun h_ => ?_)
  · have k := zit h_ k
    refine z_iload_n dJ11_max_9 rfl rfl ?_
    exact z_iret dJ11_max_10 rfl rfl k
  · have k := zif h_ k
    refine z_iload_n dJ11_max_5 rfl rfl ?_
    refine z_goto (tgt := 10) dJ11_max_6 rfl ?_
    exact z_iret dJ11_max_10 rfl rfl k
/-! java/lang/Math.min(II)I -/
theorem bJ11_min_0 : zdec cJ11_min 0 [(0, .iload_n 0, 1), (1, .iload_n 1, 1), (2, .if_icmp .gt 7, 3), (5, .iload_n 0, 1), (6, .goto 4, 3), (9, .iload_n 1, 1), (10, .ireturn, 1)] = true := by decide +kernel
theorem dJ11_min_0 : decode cJ11_min 0 = .ok (.iload_n 0, 1) := zdec_at bJ11_min_0 0 rfl
theorem dJ11_min_1 : decode cJ11_min 1 = .ok (.iload_n 1, 1) := zdec_at bJ11_min_0 1 rfl
theorem dJ11_min_2 : decode cJ11_min 2 = .ok (.if_icmp .gt 7, 3) := zdec_at bJ11_min_0 2 rfl
theorem dJ11_min_5 : decode cJ11_min 5 = .ok (.iload_n 0, 1) := zdec_at bJ11_min_0 3 rfl
theorem dJ11_min_6 : decode cJ11_min 6 = .ok (.goto 4, 3) := zdec_at bJ11_min_0 4 rfl
theorem dJ11_min_9 : decode cJ11_min 9 = .ok (.iload_n 1, 1) := zdec_at bJ11_min_0 5 rfl
theorem dJ11_min_10 : decode cJ11_min 10 = .ok (.ireturn, 1) := zdec_at bJ11_min_0 6 rfl
theorem sJ11_min_0 {E : zE} {d : Nat} {Q : zO → zM → Prop} (M : zM) (l0 : Int32) (l1 : Int32) (k : if l1 < l0 then (Q (.inl (some (vi l1))) M) else (Q (.inl (some (vi l0))) M)) : Z E YJ11_min d M [(0, vi l0), (1, vi l1)] 0 [] Q := by
  refine z_iload_n dJ11_min_0 rfl rfl ?_
  refine z_iload_n dJ11_min_1 rfl rfl ?_
  refine z_icmp_gt (tgt := 9) dJ11_min_2 rfl (fun h_ => ?_) (fun h_ => ?_)
  · have k := zit h_ k
    refine z_iload_n dJ11_min_9 rfl rfl ?_
    exact z_iret dJ11_min_10 rfl rfl k
  · have k := zif h_ k
    refine z_iload_n dJ11_min_5 rfl rfl ?_
    refine z_goto (tgt := 10) dJ11_min_6 rfl ?_
    exact z_iret dJ11_min_10 rfl rfl k
/-! java/util/Objects.checkIndex(II)I -/
theorem bJ13_checkIndex_0 : zdec cJ13_checkIndex 0 [(0, .iload_n 0, 1), (1, .iload_n 1, 1), (2, .aconst_null, 1), (3, .invokestatic 105, 3), (6, .ireturn, 1)] = true := by decide +kernel
theorem dJ13_checkIndex_0 : decode cJ13_checkIndex 0 = .ok (.iload_n 0, 1) := zdec_at bJ13_checkIndex_0 0 rfl
theorem dJ13_checkIndex_1 : decode cJ13_checkIndex 1 = .ok (.iload_n 1, 1) := zdec_at bJ13_checkIndex_0 1 rfl
theorem dJ13_checkIndex_2 : decode cJ13_checkIndex 2 = .ok (.aconst_null, 1) := zdec_at bJ13_checkIndex_0 2 rfl
theorem dJ13_checkIndex_3 : decode cJ13_checkIndex 3 = .ok (.invokestatic 105, 3) := zdec_at bJ13_checkIndex_0 3 rfl
theorem dJ13_checkIndex_6 : decode cJ13_checkIndex 6 = .ok (.ireturn, 1) := zdec_at bJ13_checkIndex_0 4 rfl
theorem sJ13_checkIndex_0 {E : zE} {d : Nat} {Q : zO → zM → Prop} (M : zM) (l0 : Int32) (l1 : Int32) (k : Z E YJ8_checkIndex d M (zargs 0 [vi l0, vi l1, vr none]) 0 [] (zafter E YJ13_checkIndex (d + 1) [] 3 3 [] Q)) : Z E YJ13_checkIndex (d + 1) M [(0, vi l0), (1, vi l1)] 0 [] Q := by
  refine z_iload_n dJ13_checkIndex_0 rfl rfl ?_
  refine z_iload_n dJ13_checkIndex_1 rfl rfl ?_
  refine z_null dJ13_checkIndex_2 ?_
  refine Z.pick [] rfl ?_
  exact z_callS (as := [vi l0, vi l1, vr none]) (st := []) dJ13_checkIndex_3 ssJ13_105 (Nat.le_refl _) (Nat.le_of_ble_eq_true rfl) (Nat.le_of_ble_eq_true rfl) rfl k
theorem sJ13_checkIndex_6 {E : zE} {d : Nat} {Q : zO → zM → Prop} (M : zM) (s0 : Int32) (k : Q (.inl (some (vi s0))) M) : Z E YJ13_checkIndex (d + 1) M [] 6 [vi s0] Q := by
  exact z_iret dJ13_checkIndex_6 rfl rfl k
/-! java/lang/IllegalStateException.<init>()V -/
theorem bJ14_init_0 : zdec cJ14_init 0 [(0, .aload_n 0, 1), (1, .invokespecial 1, 3), (4, .return_, 1)] = true := by decide +kernel
theorem dJ14_init_0 : decode cJ14_init 0 = .ok (.aload_n 0, 1) := zdec_at bJ14_init_0 0 rfl
theorem dJ14_init_1 : decode cJ14_init 1 = .ok (.invokespecial 1, 3) := zdec_at bJ14_init_0 1 rfl
theorem dJ14_init_4 : decode cJ14_init 4 = .ok (.return_, 1) := zdec_at bJ14_init_0 2 rfl
theorem sJ14_init_0 {E : zE} {d : Nat} {Q : zO → zM → Prop} (M : zM) (a0 : Nat) (k : Z E YJ5_init_2 d M (zargs 0 [vr (some (a0, 15, 0))]) 0 [] (zafter E YJ14_init (d + 1) [] 1 3 [] Q)) : Z E YJ14_init (d + 1) M [(0, vr (some (a0, 15, 0)))] 0 [] Q := by
  refine z_aload_n dJ14_init_0 rfl rfl ?_
  refine Z.pick [] rfl ?_
  exact z_callI (as := []) (st := []) dJ14_init_1 isJ14_1 (Nat.le_refl _) (Nat.le_of_ble_eq_true rfl) (Nat.le_of_ble_eq_true rfl) rfl k
theorem sJ14_init_4 {E : zE} {d : Nat} {Q : zO → zM → Prop} (M : zM)  (k : Q (.inl none) M) : Z E YJ14_init (d + 1) M [] 4 [] Q := by
  exact z_vret dJ14_init_4 rfl k
/-! java/lang/IllegalArgumentException.<init>()V -/
theorem bJ15_init_0 : zdec cJ15_init 0 [(0, .aload_n 0, 1), (1, .invokespecial 1, 3), (4, .return_, 1)] = true := by decide +kernel
theorem dJ15_init_0 : decode cJ15_init 0 = .ok (.aload_n 0, 1) := zdec_at bJ15_init_0 0 rfl
theorem dJ15_init_1 : decode cJ15_init 1 = .ok (.invokespecial 1, 3) := zdec_at bJ15_init_0 1 rfl
theorem dJ15_init_4 : decode cJ15_init 4 = .ok (.return_, 1) := zdec_at bJ15_init_0 2 rfl
theorem sJ15_init_0 {E : zE} {d : Nat} {Q : zO → zM → Prop} (M : zM) (a0 : Nat) (k : Z E YJ5_init_2 d M (zargs 0 [vr (some (a0, 16, 0))]) 0 [] (zafter E YJ15_init (d + 1) [] 1 3 [] Q)) : Z E YJ15_init (d + 1) M [(0, vr (some (a0, 16, 0)))] 0 [] Q := by
  refine z_aload_n dJ15_init_0 rfl rfl ?_
  refine Z.pick [] rfl ?_
  exact z_callI (as := []) (st := []) dJ15_init_1 isJ15_1 (Nat.le_refl _) (Nat.le_of_ble_eq_true rfl) (Nat.le_of_ble_eq_true rfl) rfl k
theorem sJ15_init_4 {E : zE} {d : Nat} {Q : zO → zM → Prop} (M : zM)  (k : Q (.inl none) M) : Z E YJ15_init (d + 1) M [] 4 [] Q := by
  exact z_vret dJ15_init_4 rfl k
/-! java/lang/Integer.compare(II)I -/
theorem bJ16_compare_0 : zdec cJ16_compare 0 [(0, .iload_n 0, 1), (1, .iload_n 1, 1), (2, .if_icmp .ge 7, 3), (5, .iconst (-1), 1), (6, .goto 13, 3), (9, .iload_n 0, 1), (10, .iload_n 1, 1), (11, .if_icmp .ne 7, 3), (14, .iconst 0, 1), (15, .goto 4, 3), (18, .iconst 1, 1), (19, .ireturn, 1)] = true := by decide +kernel
theorem dJ16_compare_0 : decode cJ16_compare 0 = .ok (.iload_n 0, 1) := zdec_at bJ16_compare_0 0 rfl
theorem dJ16_compare_1 : decode cJ16_compare 1 = .ok (.iload_n 1, 1) := zdec_at bJ16_compare_0 1 rfl
theorem dJ16_compare_2 : decode cJ16_compare 2 = .ok (.if_icmp .ge 7, 3) := zdec_at bJ16_compare_0 2 rfl
theorem dJ16_compare_5 : decode cJ16_compare 5 = .ok (.iconst (-1), 1) := zdec_at bJ16_compare_0 3 rfl
theorem dJ16_compare_6 : decode cJ16_compare 6 = .ok (.goto 13, 3) := zdec_at bJ16_compare_0 4 rfl
theorem dJ16_compare_9 : decode cJ16_compare 9 = .ok (.iload_n 0, 1) := zdec_at bJ16_compare_0 5 rfl
theorem dJ16_compare_10 : decode cJ16_compare 10 = .ok (.iload_n 1, 1) := zdec_at bJ16_compare_0 6 rfl
theorem dJ16_compare_11 : decode cJ16_compare 11 = .ok (.if_icmp .ne 7, 3) := zdec_at bJ16_compare_0 7 rfl
theorem dJ16_compare_14 : decode cJ16_compare 14 = .ok (.iconst 0, 1) := zdec_at bJ16_compare_0 8 rfl
theorem dJ16_compare_15 : decode cJ16_compare 15 = .ok (.goto 4, 3) := zdec_at bJ16_compare_0 9 rfl
theorem dJ16_compare_18 : decode cJ16_compare 18 = .ok (.iconst 1, 1) := zdec_at bJ16_compare_0 10 rfl
theorem dJ16_compare_19 : decode cJ16_compare 19 = .ok (.ireturn, 1) := zdec_at bJ16_compare_0 11 rfl
theorem sJ16_compare_0 {E : zE} {d : Nat} {Q : zO → zM → Prop} (M : zM) (l0 : Int32) (l1 : Int32) (k : if l1 ≤ l0 then (if l0 = l1 then (Q (.inl (some (vi (0 : Int32)))) M) else (Q (.inl (some (vi (1 : Int32)))) M)) else (Q (.inl (some (vi (-1 : Int32)))) M)) : Z E YJ16_compare d M [(0, vi l0), (1, vi l1)] 0 [] Q := by
  refine z_iload_n dJ16_compare_0 rfl rfl ?_
  refine z_iload_n dJ16_compare_1 rfl rfl ?_
  refine z_icmp_ge (tgt := 9) dJ16_compare_2 rfl (fun h_ => ?_) (fun h_ => ?_)
  · have k := zit h_ k
    refine z_iload_n dJ16_compare_9 rfl rfl ?_
    refine z_iload_n dJ16_compare_10 rfl rfl ?_
    refine z_icmp_ne (tgt := 18) dJ16_compare_11 rfl (fun h_ => ?_) (fun h_ => ?_)
    · have k := zif h_ k
      refine z_iconst (v := 1) dJ16_compare_18 rfl ?_
      exact z_iret dJ16_compare_19 rfl rfl k
    · have k := zit h_ k
      refine z_iconst (v := 0) dJ16_compare_14 rfl ?_
      refine z_goto (tgt := 19) dJ16_compare_15 rfl ?_
      exact z_iret dJ16_compare_19 rfl rfl k
  · have k := zif h_ k
    refine z_iconst (v := -1) dJ16_compare_5 rfl ?_
    refine z_goto (tgt := 19) dJ16_compare_6 rfl ?_
    exact z_iret dJ16_compare_19 rfl rfl k
/-! java/lang/Integer.numberOfTrailingZeros(I)I -/
theorem bJ16_numberOfTrailingZeros_0 : zdec cJ16_numberOfTrailingZeros 0 [(0, .iload_n 0, 1), (1, .iconst (-1), 1), (2, .ixor, 1), (3, .iload_n 0, 1), (4, .iconst 1, 1), (5, .isub, 1), (6, .iand, 1), (7, .istore_n 0, 1), (8, .iload_n 0, 1), (9, .ifCond .gt 8, 3), (12, .iload_n 0, 1), (13, .bipush 32, 2), (15, .iand, 1), (16, .ireturn, 1), (17, .iconst 1, 1), (18, .istore_n 1, 1)] = true := by decide +kernel
theorem dJ16_numberOfTrailingZeros_0 : decode cJ16_numberOfTrailingZeros 0 = .ok (.iload_n 0, 1) := zdec_at bJ16_numberOfTrailingZeros_0 0 rfl
theorem dJ16_numberOfTrailingZeros_1 : decode cJ16_numberOfTrailingZeros 1 = .ok (.iconst (-1), 1) := zdec_at bJ16_numberOfTrailingZeros_0 1 rfl
theorem dJ16_numberOfTrailingZeros_2 : decode cJ16_numberOfTrailingZeros 2 = .ok (.ixor, 1) := zdec_at bJ16_numberOfTrailingZeros_0 2 rfl
theorem dJ16_numberOfTrailingZeros_3 : decode cJ16_numberOfTrailingZeros 3 = .ok (.iload_n 0, 1) := zdec_at bJ16_numberOfTrailingZeros_0 3 rfl
theorem dJ16_numberOfTrailingZeros_4 : decode cJ16_numberOfTrailingZeros 4 = .ok (.iconst 1, 1) := zdec_at bJ16_numberOfTrailingZeros_0 4 rfl
theorem dJ16_numberOfTrailingZeros_5 : decode cJ16_numberOfTrailingZeros 5 = .ok (.isub, 1) := zdec_at bJ16_numberOfTrailingZeros_0 5 rfl
theorem dJ16_numberOfTrailingZeros_6 : decode cJ16_numberOfTrailingZeros 6 = .ok (.iand, 1) := zdec_at bJ16_numberOfTrailingZeros_0 6 rfl
theorem dJ16_numberOfTrailingZeros_7 : decode cJ16_numberOfTrailingZeros 7 = .ok (.istore_n 0, 1) := zdec_at bJ16_numberOfTrailingZeros_0 7 rfl
theorem dJ16_numberOfTrailingZeros_8 : decode cJ16_numberOfTrailingZeros 8 = .ok (.iload_n 0, 1) := zdec_at bJ16_numberOfTrailingZeros_0 8 rfl
theorem dJ16_numberOfTrailingZeros_9 : decode cJ16_numberOfTrailingZeros 9 = .ok (.ifCond .gt 8, 3) := zdec_at bJ16_numberOfTrailingZeros_0 9 rfl
theorem dJ16_numberOfTrailingZeros_12 : decode cJ16_numberOfTrailingZeros 12 = .ok (.iload_n 0, 1) := zdec_at bJ16_numberOfTrailingZeros_0 10 rfl
theorem dJ16_numberOfTrailingZeros_13 : decode cJ16_numberOfTrailingZeros 13 = .ok (.bipush 32, 2) := zdec_at bJ16_numberOfTrailingZeros_0 11 rfl
theorem dJ16_numberOfTrailingZeros_15 : decode cJ16_numberOfTrailingZeros 15 = .ok (.iand, 1) := zdec_at bJ16_numberOfTrailingZeros_0 12 rfl
theorem dJ16_numberOfTrailingZeros_16 : decode cJ16_numberOfTrailingZeros 16 = .ok (.ireturn, 1) := zdec_at bJ16_numberOfTrailingZeros_0 13 rfl
theorem dJ16_numberOfTrailingZeros_17 : decode cJ16_numberOfTrailingZeros 17 = .ok (.iconst 1, 1) := zdec_at bJ16_numberOfTrailingZeros_0 14 rfl
theorem dJ16_numberOfTrailingZeros_18 : decode cJ16_numberOfTrailingZeros 18 = .ok (.istore_n 1, 1) := zdec_at bJ16_numberOfTrailingZeros_0 15 rfl
theorem bJ16_numberOfTrailingZeros_19 : zdec cJ16_numberOfTrailingZeros 19 [(19, .iload_n 0, 1), (20, .ldc_w 264, 3), (23, .if_icmp .le 11, 3), (26, .iinc 1 16, 3), (29, .iload_n 0, 1), (30, .bipush 16, 2), (32, .iushr, 1), (33, .istore_n 0, 1), (34, .iload_n 0, 1), (35, .sipush 256, 3), (38, .if_icmp .le 11, 3), (41, .iinc 1 8, 3), (44, .iload_n 0, 1), (45, .bipush 8, 2), (47, .iushr, 1), (48, .istore_n 0, 1)] = true := by decide +kernel
theorem dJ16_numberOfTrailingZeros_19 : decode cJ16_numberOfTrailingZeros 19 = .ok (.iload_n 0, 1) := zdec_at bJ16_numberOfTrailingZeros_19 0 rfl
theorem dJ16_numberOfTrailingZeros_20 : decode cJ16_numberOfTrailingZeros 20 = .ok (.ldc_w 264, 3) := zdec_at bJ16_numberOfTrailingZeros_19 1 rfl
theorem dJ16_numberOfTrailingZeros_23 : decode cJ16_numberOfTrailingZeros 23 = .ok (.if_icmp .le 11, 3) := zdec_at bJ16_numberOfTrailingZeros_19 2 rfl
theorem dJ16_numberOfTrailingZeros_26 : decode cJ16_numberOfTrailingZeros 26 = .ok (.iinc 1 16, 3) := zdec_at bJ16_numberOfTrailingZeros_19 3 rfl
theorem dJ16_numberOfTrailingZeros_29 : decode cJ16_numberOfTrailingZeros 29 = .ok (.iload_n 0, 1) := zdec_at bJ16_numberOfTrailingZeros_19 4 rfl
theorem dJ16_numberOfTrailingZeros_30 : decode cJ16_numberOfTrailingZeros 30 = .ok (.bipush 16, 2) := zdec_at bJ16_numberOfTrailingZeros_19 5 rfl
theorem dJ16_numberOfTrailingZeros_32 : decode cJ16_numberOfTrailingZeros 32 = .ok (.iushr, 1) := zdec_at bJ16_numberOfTrailingZeros_19 6 rfl
theorem dJ16_numberOfTrailingZeros_33 : decode cJ16_numberOfTrailingZeros 33 = .ok (.istore_n 0, 1) := zdec_at bJ16_numberOfTrailingZeros_19 7 rfl
theorem dJ16_numberOfTrailingZeros_34 : decode cJ16_numberOfTrailingZeros 34 = .ok (.iload_n 0, 1) := zdec_at bJ16_numberOfTrailingZeros_19 8 rfl
theorem dJ16_numberOfTrailingZeros_35 : decode cJ16_numberOfTrailingZeros 35 = .ok (.sipush 256, 3) := zdec_at bJ16_numberOfTrailingZeros_19 9 rfl
theorem dJ16_numberOfTrailingZeros_38 : decode cJ16_numberOfTrailingZeros 38 = .ok (.if_icmp .le 11, 3) := zdec_at bJ16_numberOfTrailingZeros_19 10 rfl
theorem dJ16_numberOfTrailingZeros_41 : decode cJ16_numberOfTrailingZeros 41 = .ok (.iinc 1 8, 3) := zdec_at bJ16_numberOfTrailingZeros_19 11 rfl
theorem dJ16_numberOfTrailingZeros_44 : decode cJ16_numberOfTrailingZeros 44 = .ok (.iload_n 0, 1) := zdec_at bJ16_numberOfTrailingZeros_19 12 rfl
theorem dJ16_numberOfTrailingZeros_45 : decode cJ16_numberOfTrailingZeros 45 = .ok (.bipush 8, 2) := zdec_at bJ16_numberOfTrailingZeros_19 13 rfl
theorem dJ16_numberOfTrailingZeros_47 : decode cJ16_numberOfTrailingZeros 47 = .ok (.iushr, 1) := zdec_at bJ16_numberOfTrailingZeros_19 14 rfl
theorem dJ16_numberOfTrailingZeros_48 : decode cJ16_numberOfTrailingZeros 48 = .ok (.istore_n 0, 1) := zdec_at bJ16_numberOfTrailingZeros_19 15 rfl
theorem bJ16_numberOfTrailingZeros_49 : zdec cJ16_numberOfTrailingZeros 49 [(49, .iload_n 0, 1), (50, .bipush 16, 2), (52, .if_icmp .le 10, 3), (55, .iinc 1 4, 3), (58, .iload_n 0, 1), (59, .iconst 4, 1), (60, .iushr, 1), (61, .istore_n 0, 1), (62, .iload_n 0, 1), (63, .iconst 4, 1), (64, .if_icmp .le 10, 3), (67, .iinc 1 2, 3), (70, .iload_n 0, 1), (71, .iconst 2, 1), (72, .iushr, 1), (73, .istore_n 0, 1)] = true := by decide +kernel
theorem dJ16_numberOfTrailingZeros_49 : decode cJ16_numberOfTrailingZeros 49 = .ok (.iload_n 0, 1) := zdec_at bJ16_numberOfTrailingZeros_49 0 rfl
theorem dJ16_numberOfTrailingZeros_50 : decode cJ16_numberOfTrailingZeros 50 = .ok (.bipush 16, 2) := zdec_at bJ16_numberOfTrailingZeros_49 1 rfl
theorem dJ16_numberOfTrailingZeros_52 : decode cJ16_numberOfTrailingZeros 52 = .ok (.if_icmp .le 10, 3) := zdec_at bJ16_numberOfTrailingZeros_49 2 rfl
theorem dJ16_numberOfTrailingZeros_55 : decode cJ16_numberOfTrailingZeros 55 = .ok (.iinc 1 4, 3) := zdec_at bJ16_numberOfTrailingZeros_49 3 rfl
theorem dJ16_numberOfTrailingZeros_58 : decode cJ16_numberOfTrailingZeros 58 = .ok (.iload_n 0, 1) := zdec_at bJ16_numberOfTrailingZeros_49 4 rfl
theorem dJ16_numberOfTrailingZeros_59 : decode cJ16_numberOfTrailingZeros 59 = .ok (.iconst 4, 1) := zdec_at bJ16_numberOfTrailingZeros_49 5 rfl
theorem dJ16_numberOfTrailingZeros_60 : decode cJ16_numberOfTrailingZeros 60 = .ok (.iushr, 1) := zdec_at bJ16_numberOfTrailingZeros_49 6 rfl
theorem dJ16_numberOfTrailingZeros_61 : decode cJ16_numberOfTrailingZeros 61 = .ok (.istore_n 0, 1) := zdec_at bJ16_numberOfTrailingZeros_49 7 rfl
theorem dJ16_numberOfTrailingZeros_62 : decode cJ16_numberOfTrailingZeros 62 = .ok (.iload_n 0, 1) := zdec_at bJ16_numberOfTrailingZeros_49 8 rfl
theorem dJ16_numberOfTrailingZeros_63 : decode cJ16_numberOfTrailingZeros 63 = .ok (.iconst 4, 1) := zdec_at bJ16_numberOfTrailingZeros_49 9 rfl
theorem dJ16_numberOfTrailingZeros_64 : decode cJ16_numberOfTrailingZeros 64 = .ok (.if_icmp .le 10, 3) := zdec_at bJ16_numberOfTrailingZeros_49 10 rfl
theorem dJ16_numberOfTrailingZeros_67 : decode cJ16_numberOfTrailingZeros 67 = .ok (.iinc 1 2, 3) := zdec_at bJ16_numberOfTrailingZeros_49 11 rfl
theorem dJ16_numberOfTrailingZeros_70 : decode cJ16_numberOfTrailingZeros 70 = .ok (.iload_n 0, 1) := zdec_at bJ16_numberOfTrailingZeros_49 12 rfl
theorem dJ16_numberOfTrailingZeros_71 : decode cJ16_numberOfTrailingZeros 71 = .ok (.iconst 2, 1) := zdec_at bJ16_numberOfTrailingZeros_49 13 rfl
theorem dJ16_numberOfTrailingZeros_72 : decode cJ16_numberOfTrailingZeros 72 = .ok (.iushr, 1) := zdec_at bJ16_numberOfTrailingZeros_49 14 rfl
theorem dJ16_numberOfTrailingZeros_73 : decode cJ16_numberOfTrailingZeros 73 = .ok (.istore_n 0, 1) := zdec_at bJ16_numberOfTrailingZeros_49 15 rfl
theorem bJ16_numberOfTrailingZeros_74 : zdec cJ16_numberOfTrailingZeros 74 [(74, .iload_n 1, 1), (75, .iload_n 0, 1), (76, .iconst 1, 1), (77, .iushr, 1), (78, .iadd, 1), (79, .ireturn, 1)] = true := by decide +kernel
theorem dJ16_numberOfTrailingZeros_74 : decode cJ16_numberOfTrailingZeros 74 = .ok (.iload_n 1, 1) := zdec_at bJ16_numberOfTrailingZeros_74 0 rfl
theorem dJ16_numberOfTrailingZeros_75 : decode cJ16_numberOfTrailingZeros 75 = .ok (.iload_n 0, 1) := zdec_at bJ16_numberOfTrailingZeros_74 1 rfl
theorem dJ16_numberOfTrailingZeros_76 : decode cJ16_numberOfTrailingZeros 76 = .ok (.iconst 1, 1) := zdec_at bJ16_numberOfTrailingZeros_74 2 rfl
theorem dJ16_numberOfTrailingZeros_77 : decode cJ16_numberOfTrailingZeros 77 = .ok (.iushr, 1) := zdec_at bJ16_numberOfTrailingZeros_74 3 rfl
theorem dJ16_numberOfTrailingZeros_78 : decode cJ16_numberOfTrailingZeros 78 = .ok (.iadd, 1) := zdec_at bJ16_numberOfTrailingZeros_74 4 rfl
theorem dJ16_numberOfTrailingZeros_79 : decode cJ16_numberOfTrailingZeros 79 = .ok (.ireturn, 1) := zdec_at bJ16_numberOfTrailingZeros_74 5 rfl
theorem sJ16_numberOfTrailingZeros_0 {E : zE} {d : Nat} {Q : zO → zM → Prop} (M : zM) (l0 : Int32) (k : if 0 < ((l0 ^^^ (-1 : Int32)) &&& (l0 - (1 : Int32))) then (if ((l0 ^^^ (-1 : Int32)) &&& (l0 - (1 : Int32))) ≤ (65536 : Int32) then (Z E YJ16_numberOfTrailingZeros d M [(0, vi ((l0 ^^^ (-1 : Int32)) &&& (l0 - (1 : Int32)))), (1, vi (1 : Int32))] 34 [] Q) else (Z E YJ16_numberOfTrailingZeros d M [(0, vi (zus ((l0 ^^^ (-1 : Int32)) &&& (l0 - (1 : Int32))) (16 : Int32))), (1, vi ((1 : Int32) + (16 : Int32)))] 34 [] Q)) else (Q (.inl (some (vi (((l0 ^^^ (-1 : Int32)) &&& (l0 - (1 : Int32))) &&& (32 : Int32))))) M)) : Z E YJ16_numberOfTrailingZeros d M [(0, vi l0)] 0 [] Q := by
  refine z_iload_n dJ16_numberOfTrailingZeros_0 rfl rfl ?_
  refine z_iconst (v := -1) dJ16_numberOfTrailingZeros_1 rfl ?_
  refine z_ixor dJ16_numberOfTrailingZeros_2 ?_
  refine z_iload_n dJ16_numberOfTrailingZeros_3 rfl rfl ?_
  refine z_iconst (v := 1) dJ16_numberOfTrailingZeros_4 rfl ?_
  refine z_isub dJ16_numberOfTrailingZeros_5 ?_
  refine z_iand dJ16_numberOfTrailingZeros_6 ?_
  refine z_ist_n dJ16_numberOfTrailingZeros_7 rfl (by decide) (lv' := [(0, vi ((l0 ^^^ (-1 : Int32)) &&& (l0 - (1 : Int32))))]) rfl ?_
  refine z_iload_n dJ16_numberOfTrailingZeros_8 rfl rfl ?_
  refine z_if_gt (tgt := 17) dJ16_numberOfTrailingZeros_9 rfl (fun h_ => ?_) (fun h_ => ?_)
  · have k := zit h_ k
    refine z_iconst (v := 1) dJ16_numberOfTrailingZeros_17 rfl ?_
    refine z_ist_n dJ16_numberOfTrailingZeros_18 rfl (by decide) (lv' := [(0, vi ((l0 ^^^ (-1 : Int32)) &&& (l0 - (1 : Int32)))), (1, vi (1 : Int32))]) rfl ?_
    refine z_iload_n dJ16_numberOfTrailingZeros_19 rfl rfl ?_
    refine z_ldcw (v := 65536) dJ16_numberOfTrailingZeros_20 q3226 ?_
    refine z_icmp_le (tgt := 34) dJ16_numberOfTrailingZeros_23 rfl (fun h_ => ?_) (fun h_ => ?_)
    · have k := zit h_ k
      exact k
    · have k := zif h_ k
      refine z_inc (v := ((1 : Int32) + (16 : Int32))) dJ16_numberOfTrailingZeros_26 rfl rfl (by decide) (lv' := [(0, vi ((l0 ^^^ (-1 : Int32)) &&& (l0 - (1 : Int32)))), (1, vi ((1 : Int32) + (16 : Int32)))]) rfl ?_
      refine z_iload_n dJ16_numberOfTrailingZeros_29 rfl rfl ?_
      refine z_bipush (v := 16) dJ16_numberOfTrailingZeros_30 rfl ?_
      refine z_iushr dJ16_numberOfTrailingZeros_32 ?_
      refine z_ist_n dJ16_numberOfTrailingZeros_33 rfl (by decide) (lv' := [(0, vi (zus ((l0 ^^^ (-1 : Int32)) &&& (l0 - (1 : Int32))) (16 : Int32))), (1, vi ((1 : Int32) + (16 : Int32)))]) rfl ?_
      exact k
  · have k := zif h_ k
    refine z_iload_n dJ16_numberOfTrailingZeros_12 rfl rfl ?_
    refine z_bipush (v := 32) dJ16_numberOfTrailingZeros_13 rfl ?_
    refine z_iand dJ16_numberOfTrailingZeros_15 ?_
    exact z_iret dJ16_numberOfTrailingZeros_16 rfl rfl k
theorem sJ16_numberOfTrailingZeros_34 {E : zE} {d : Nat} {Q : zO → zM → Prop} (M : zM) (l0 : Int32) (l1 : Int32) (k : if l0 ≤ (256 : Int32) then (Z E YJ16_numberOfTrailingZeros d M [(0, vi l0), (1, vi l1)] 49 [] Q) else (Z E YJ16_numberOfTrailingZeros d M [(0, vi (zus l0 (8 : Int32))), (1, vi (l1 + (8 : Int32)))] 49 [] Q)) : Z E YJ16_numberOfTrailingZeros d M [(0, vi l0), (1, vi l1)] 34 [] Q := by
  refine z_iload_n dJ16_numberOfTrailingZeros_34 rfl rfl ?_
  refine z_sipush (v := 256) dJ16_numberOfTrailingZeros_35 rfl ?_
  refine z_icmp_le (tgt := 49) dJ16_numberOfTrailingZeros_38 rfl (fun h_ => ?_) (fun h_ => ?_)
  · have k := zit h_ k
    exact k
  · have k := zif h_ k
    refine z_inc (v := (l1 + (8 : Int32))) dJ16_numberOfTrailingZeros_41 rfl rfl (by decide) (lv' := [(0, vi l0), (1, vi (l1 + (8 : Int32)))]) rfl ?_
    refine z_iload_n dJ16_numberOfTrailingZeros_44 rfl rfl ?_
    refine z_bipush (v := 8) dJ16_numberOfTrailingZeros_45 rfl ?_
    refine z_iushr dJ16_numberOfTrailingZeros_47 ?_
    refine z_ist_n dJ16_numberOfTrailingZeros_48 rfl (by decide) (lv' := [(0, vi (zus l0 (8 : Int32))), (1, vi (l1 + (8 : Int32)))]) rfl ?_
    exact k
theorem sJ16_numberOfTrailingZeros_49 {E : zE} {d : Nat} {Q : zO → zM → Prop} (M : zM) (l0 : Int32) (l1 : Int32) (k : if l0 ≤ (16 : Int32) then (Z E YJ16_numberOfTrailingZeros d M [(0, vi l0), (1, vi l1)] 62 [] Q) else (Z E YJ16_numberOfTrailingZeros d M [(0, vi (zus l0 (4 : Int32))), (1, vi (l1 + (4 : Int32)))] 62 [] Q)) : Z E YJ16_numberOfTrailingZeros d M [(0, vi l0), (1, vi l1)] 49 [] Q := by
  refine z_iload_n dJ16_numberOfTrailingZeros_49 rfl rfl ?_
  refine z_bipush (v := 16) dJ16_numberOfTrailingZeros_50 rfl ?_
  refine z_icmp_le (tgt := 62) dJ16_numberOfTrailingZeros_52 rfl (fun h_ => ?_) (fun h_ => ?_)
  · have k := zit h_ k
    exact k
  · have k := zif h_ k
    refine z_inc (v := (l1 + (4 : Int32))) dJ16_numberOfTrailingZeros_55 rfl rfl (by decide) (lv' := [(0, vi l0), (1, vi (l1 + (4 : Int32)))]) rfl ?_
    refine z_iload_n dJ16_numberOfTrailingZeros_58 rfl rfl ?_
    refine z_iconst (v := 4) dJ16_numberOfTrailingZeros_59 rfl ?_
    refine z_iushr dJ16_numberOfTrailingZeros_60 ?_
    refine z_ist_n dJ16_numberOfTrailingZeros_61 rfl (by decide) (lv' := [(0, vi (zus l0 (4 : Int32))), (1, vi (l1 + (4 : Int32)))]) rfl ?_
    exact k
theorem sJ16_numberOfTrailingZeros_62 {E : zE} {d : Nat} {Q : zO → zM → Prop} (M : zM) (l0 : Int32) (l1 : Int32) (k : if l0 ≤ (4 : Int32) then (Q (.inl (some (vi (l1 + (zus l0 (1 : Int32)))))) M) else (Q (.inl (some (vi ((l1 + (2 : Int32)) + (zus (zus l0 (2 : Int32)) (1 : Int32)))))) M)) : Z E YJ16_numberOfTrailingZeros d M [(0, vi l0), (1, vi l1)] 62 [] Q := by
  refine z_iload_n dJ16_numberOfTrailingZeros_62 rfl rfl ?_
  refine z_iconst (v := 4) dJ16_numberOfTrailingZeros_63 rfl ?_
  refine z_icmp_le (tgt := 74) dJ16_numberOfTrailingZeros_64 rfl (fun h_ => ?_) (fun h_ => ?_)
  · have k := zit h_ k
    refine z_iload_n dJ16_numberOfTrailingZeros_74 rfl rfl ?_
    refine z_iload_n dJ16_numberOfTrailingZeros_75 rfl rfl ?_
    refine z_iconst (v := 1) dJ16_numberOfTrailingZeros_76 rfl ?_
    refine z_iushr dJ16_numberOfTrailingZeros_77 ?_
    refine z_iadd dJ16_numberOfTrailingZeros_78 ?_
    exact z_iret dJ16_numberOfTrailingZeros_79 rfl rfl k
  · have k := zif h_ k
    refine z_inc (v := (l1 + (2 : Int32))) dJ16_numberOfTrailingZeros_67 rfl rfl (by decide) (lv' := [(0, vi l0), (1, vi (l1 + (2 : Int32)))]) rfl ?_
    refine z_iload_n dJ16_numberOfTrailingZeros_70 rfl rfl ?_
    refine z_iconst (v := 2) dJ16_numberOfTrailingZeros_71 rfl ?_
    refine z_iushr dJ16_numberOfTrailingZeros_72 ?_
    refine z_ist_n dJ16_numberOfTrailingZeros_73 rfl (by decide) (lv' := [(0, vi (zus l0 (2 : Int32))), (1, vi (l1 + (2 : Int32)))]) rfl ?_
    refine z_iload_n dJ16_numberOfTrailingZeros_74 rfl rfl ?_
    refine z_iload_n dJ16_numberOfTrailingZeros_75 rfl rfl ?_
    refine z_iconst (v := 1) dJ16_numberOfTrailingZeros_76 rfl ?_
    refine z_iushr dJ16_numberOfTrailingZeros_77 ?_
    refine z_iadd dJ16_numberOfTrailingZeros_78 ?_
    exact z_iret dJ16_numberOfTrailingZeros_79 rfl rfl k
/-! java/lang/Long.bitCount(J)I -/
theorem bJ17_bitCount_0 : zdec cJ17_bitCount 0 [(0, .lload_n 0, 1), (1, .lload_n 0, 1), (2, .iconst 1, 1), (3, .lushr, 1), (4, .ldc2_w 314, 3), (7, .land, 1), (8, .lsub, 1), (9, .lstore_n 0, 1), (10, .lload_n 0, 1), (11, .ldc2_w 316, 3), (14, .land, 1), (15, .lload_n 0, 1), (16, .iconst 2, 1), (17, .lushr, 1), (18, .ldc2_w 316, 3), (21, .land, 1)] = true := by decide +kernel
theorem dJ17_bitCount_0 : decode cJ17_bitCount 0 = .ok (.lload_n 0, 1) := zdec_at bJ17_bitCount_0 0 rfl
theorem dJ17_bitCount_1 : decode cJ17_bitCount 1 = .ok (.lload_n 0, 1) := zdec_at bJ17_bitCount_0 1 rfl
theorem dJ17_bitCount_2 : decode cJ17_bitCount 2 = .ok (.iconst 1, 1) := zdec_at bJ17_bitCount_0 2 rfl
theorem dJ17_bitCount_3 : decode cJ17_bitCount 3 = .ok (.lushr, 1) := zdec_at bJ17_bitCount_0 3 rfl
theorem dJ17_bitCount_4 : decode cJ17_bitCount 4 = .ok (.ldc2_w 314, 3) := zdec_at bJ17_bitCount_0 4 rfl
theorem dJ17_bitCount_7 : decode cJ17_bitCount 7 = .ok (.land, 1) := zdec_at bJ17_bitCount_0 5 rfl
theorem dJ17_bitCount_8 : decode cJ17_bitCount 8 = .ok (.lsub, 1) := zdec_at bJ17_bitCount_0 6 rfl
theorem dJ17_bitCount_9 : decode cJ17_bitCount 9 = .ok (.lstore_n 0, 1) := zdec_at bJ17_bitCount_0 7 rfl
theorem dJ17_bitCount_10 : decode cJ17_bitCount 10 = .ok (.lload_n 0, 1) := zdec_at bJ17_bitCount_0 8 rfl
theorem dJ17_bitCount_11 : decode cJ17_bitCount 11 = .ok (.ldc2_w 316, 3) := zdec_at bJ17_bitCount_0 9 rfl
theorem dJ17_bitCount_14 : decode cJ17_bitCount 14 = .ok (.land, 1) := zdec_at bJ17_bitCount_0 10 rfl
theorem dJ17_bitCount_15 : decode cJ17_bitCount 15 = .ok (.lload_n 0, 1) := zdec_at bJ17_bitCount_0 11 rfl
theorem dJ17_bitCount_16 : decode cJ17_bitCount 16 = .ok (.iconst 2, 1) := zdec_at bJ17_bitCount_0 12 rfl
theorem dJ17_bitCount_17 : decode cJ17_bitCount 17 = .ok (.lushr, 1) := zdec_at bJ17_bitCount_0 13 rfl
theorem dJ17_bitCount_18 : decode cJ17_bitCount 18 = .ok (.ldc2_w 316, 3) := zdec_at bJ17_bitCount_0 14 rfl
theorem dJ17_bitCount_21 : decode cJ17_bitCount 21 = .ok (.land, 1) := zdec_at bJ17_bitCount_0 15 rfl
theorem bJ17_bitCount_22 : zdec cJ17_bitCount 22 [(22, .ladd, 1), (23, .lstore_n 0, 1), (24, .lload_n 0, 1), (25, .lload_n 0, 1), (26, .iconst 4, 1), (27, .lushr, 1), (28, .ladd, 1), (29, .ldc2_w 318, 3), (32, .land, 1), (33, .lstore_n 0, 1), (34, .lload_n 0, 1), (35, .lload_n 0, 1), (36, .bipush 8, 2), (38, .lushr, 1), (39, .ladd, 1), (40, .lstore_n 0, 1)] = true := by decide +kernel
theorem dJ17_bitCount_22 : decode cJ17_bitCount 22 = .ok (.ladd, 1) := zdec_at bJ17_bitCount_22 0 rfl
theorem dJ17_bitCount_23 : decode cJ17_bitCount 23 = .ok (.lstore_n 0, 1) := zdec_at bJ17_bitCount_22 1 rfl
theorem dJ17_bitCount_24 : decode cJ17_bitCount 24 = .ok (.lload_n 0, 1) := zdec_at bJ17_bitCount_22 2 rfl
theorem dJ17_bitCount_25 : decode cJ17_bitCount 25 = .ok (.lload_n 0, 1) := zdec_at bJ17_bitCount_22 3 rfl
theorem dJ17_bitCount_26 : decode cJ17_bitCount 26 = .ok (.iconst 4, 1) := zdec_at bJ17_bitCount_22 4 rfl
theorem dJ17_bitCount_27 : decode cJ17_bitCount 27 = .ok (.lushr, 1) := zdec_at bJ17_bitCount_22 5 rfl
theorem dJ17_bitCount_28 : decode cJ17_bitCount 28 = .ok (.ladd, 1) := zdec_at bJ17_bitCount_22 6 rfl
theorem dJ17_bitCount_29 : decode cJ17_bitCount 29 = .ok (.ldc2_w 318, 3) := zdec_at bJ17_bitCount_22 7 rfl
theorem dJ17_bitCount_32 : decode cJ17_bitCount 32 = .ok (.land, 1) := zdec_at bJ17_bitCount_22 8 rfl
theorem dJ17_bitCount_33 : decode cJ17_bitCount 33 = .ok (.lstore_n 0, 1) := zdec_at bJ17_bitCount_22 9 rfl
theorem dJ17_bitCount_34 : decode cJ17_bitCount 34 = .ok (.lload_n 0, 1) := zdec_at bJ17_bitCount_22 10 rfl
theorem dJ17_bitCount_35 : decode cJ17_bitCount 35 = .ok (.lload_n 0, 1) := zdec_at bJ17_bitCount_22 11 rfl
theorem dJ17_bitCount_36 : decode cJ17_bitCount 36 = .ok (.bipush 8, 2) := zdec_at bJ17_bitCount_22 12 rfl
theorem dJ17_bitCount_38 : decode cJ17_bitCount 38 = .ok (.lushr, 1) := zdec_at bJ17_bitCount_22 13 rfl
theorem dJ17_bitCount_39 : decode cJ17_bitCount 39 = .ok (.ladd, 1) := zdec_at bJ17_bitCount_22 14 rfl
theorem dJ17_bitCount_40 : decode cJ17_bitCount 40 = .ok (.lstore_n 0, 1) := zdec_at bJ17_bitCount_22 15 rfl
theorem bJ17_bitCount_41 : zdec cJ17_bitCount 41 [(41, .lload_n 0, 1), (42, .lload_n 0, 1), (43, .bipush 16, 2), (45, .lushr, 1), (46, .ladd, 1), (47, .lstore_n 0, 1), (48, .lload_n 0, 1), (49, .lload_n 0, 1), (50, .bipush 32, 2), (52, .lushr, 1), (53, .ladd, 1), (54, .lstore_n 0, 1), (55, .lload_n 0, 1), (56, .l2i, 1), (57, .bipush 127, 2), (59, .iand, 1)] = true := by decide +kernel
theorem dJ17_bitCount_41 : decode cJ17_bitCount 41 = .ok (.lload_n 0, 1) := zdec_at bJ17_bitCount_41 0 rfl
theorem dJ17_bitCount_42 : decode cJ17_bitCount 42 = .ok (.lload_n 0, 1) := zdec_at bJ17_bitCount_41 1 rfl
theorem dJ17_bitCount_43 : decode cJ17_bitCount 43 = .ok (.bipush 16, 2) := zdec_at bJ17_bitCount_41 2 rfl
theorem dJ17_bitCount_45 : decode cJ17_bitCount 45 = .ok (.lushr, 1) := zdec_at bJ17_bitCount_41 3 rfl
theorem dJ17_bitCount_46 : decode cJ17_bitCount 46 = .ok (.ladd, 1) := zdec_at bJ17_bitCount_41 4 rfl
theorem dJ17_bitCount_47 : decode cJ17_bitCount 47 = .ok (.lstore_n 0, 1) := zdec_at bJ17_bitCount_41 5 rfl
theorem dJ17_bitCount_48 : decode cJ17_bitCount 48 = .ok (.lload_n 0, 1) := zdec_at bJ17_bitCount_41 6 rfl
theorem dJ17_bitCount_49 : decode cJ17_bitCount 49 = .ok (.lload_n 0, 1) := zdec_at bJ17_bitCount_41 7 rfl
theorem dJ17_bitCount_50 : decode cJ17_bitCount 50 = .ok (.bipush 32, 2) := zdec_at bJ17_bitCount_41 8 rfl
theorem dJ17_bitCount_52 : decode cJ17_bitCount 52 = .ok (.lushr, 1) := zdec_at bJ17_bitCount_41 9 rfl
theorem dJ17_bitCount_53 : decode cJ17_bitCount 53 = .ok (.ladd, 1) := zdec_at bJ17_bitCount_41 10 rfl
theorem dJ17_bitCount_54 : decode cJ17_bitCount 54 = .ok (.lstore_n 0, 1) := zdec_at bJ17_bitCount_41 11 rfl
theorem dJ17_bitCount_55 : decode cJ17_bitCount 55 = .ok (.lload_n 0, 1) := zdec_at bJ17_bitCount_41 12 rfl
theorem dJ17_bitCount_56 : decode cJ17_bitCount 56 = .ok (.l2i, 1) := zdec_at bJ17_bitCount_41 13 rfl
theorem dJ17_bitCount_57 : decode cJ17_bitCount 57 = .ok (.bipush 127, 2) := zdec_at bJ17_bitCount_41 14 rfl
theorem dJ17_bitCount_59 : decode cJ17_bitCount 59 = .ok (.iand, 1) := zdec_at bJ17_bitCount_41 15 rfl
theorem bJ17_bitCount_60 : zdec cJ17_bitCount 60 [(60, .ireturn, 1)] = true := by decide +kernel
theorem dJ17_bitCount_60 : decode cJ17_bitCount 60 = .ok (.ireturn, 1) := zdec_at bJ17_bitCount_60 0 rfl
theorem sJ17_bitCount_0 {E : zE} {d : Nat} {Q : zO → zM → Prop} (M : zM) (l0 : Int64) (k : ∀ x1_ : Int64, x1_ = (zlu (((((((l0 - ((zlu l0 (1 : Int32)) &&& (6148914691236517205 : Int64))) &&& (3689348814741910323 : Int64)) + ((zlu (l0 - ((zlu l0 (1 : Int32)) &&& (6148914691236517205 : Int64))) (2 : Int32)) &&& (3689348814741910323 : Int64))) + (zlu (((l0 - ((zlu l0 (1 : Int32)) &&& (6148914691236517205 : Int64))) &&& (3689348814741910323 : Int64)) + ((zlu (l0 - ((zlu l0 (1 : Int32)) &&& (6148914691236517205 : Int64))) (2 : Int32)) &&& (3689348814741910323 : Int64))) (4 : Int32))) &&& (1085102592571150095 : Int64)) + (zlu (((((l0 - ((zlu l0 (1 : Int32)) &&& (6148914691236517205 : Int64))) &&& (3689348814741910323 : Int64)) + ((zlu (l0 - ((zlu l0 (1 : Int32)) &&& (6148914691236517205 : Int64))) (2 : Int32)) &&& (3689348814741910323 : Int64))) + (zlu (((l0 - ((zlu l0 (1 : Int32)) &&& (6148914691236517205 : Int64))) &&& (3689348814741910323 : Int64)) + ((zlu (l0 - ((zlu l0 (1 : Int32)) &&& (6148914691236517205 : Int64))) (2 : Int32)) &&& (3689348814741910323 : Int64))) (4 : Int32))) &&& (1085102592571150095 : Int64)) (8 : Int32))) + (zlu ((((((l0 - ((zlu l0 (1 : Int32)) &&& (6148914691236517205 : Int64))) &&& (3689348814741910323 : Int64)) + ((zlu (l0 - ((zlu l0 (1 : Int32)) &&& (6148914691236517205 : Int64))) (2 : Int32)) &&& (3689348814741910323 : Int64))) + (zlu (((l0 - ((zlu l0 (1 : Int32)) &&& (6148914691236517205 : Int64))) &&& (3689348814741910323 : Int64)) + ((zlu (l0 - ((zlu l0 (1 : Int32)) &&& (6148914691236517205 : Int64))) (2 : Int32)) &&& (3689348814741910323 : Int64))) (4 : Int32))) &&& (1085102592571150095 : Int64)) + (zlu (((((l0 - ((zlu l0 (1 : Int32)) &&& (6148914691236517205 : Int64))) &&& (3689348814741910323 : Int64)) + ((zlu (l0 - ((zlu l0 (1 : Int32)) &&& (6148914691236517205 : Int64))) (2 : Int32)) &&& (3689348814741910323 : Int64))) + (zlu (((l0 - ((zlu l0 (1 : Int32)) &&& (6148914691236517205 : Int64))) &&& (3689348814741910323 : Int64)) + ((zlu (l0 - ((zlu l0 (1 : Int32)) &&& (6148914691236517205 : Int64))) (2 : Int32)) &&& (3689348814741910323 : Int64))) (4 : Int32))) &&& (1085102592571150095 : Int64)) (8 : Int32))) (16 : Int32))) (32 : Int32)) → (Q (.inl (some (vi ((((((((((l0 - ((zlu l0 (1 : Int32)) &&& (6148914691236517205 : Int64))) &&& (3689348814741910323 : Int64)) + ((zlu (l0 - ((zlu l0 (1 : Int32)) &&& (6148914691236517205 : Int64))) (2 : Int32)) &&& (3689348814741910323 : Int64))) + (zlu (((l0 - ((zlu l0 (1 : Int32)) &&& (6148914691236517205 : Int64))) &&& (3689348814741910323 : Int64)) + ((zlu (l0 - ((zlu l0 (1 : Int32)) &&& (6148914691236517205 : Int64))) (2 : Int32)) &&& (3689348814741910323 : Int64))) (4 : Int32))) &&& (1085102592571150095 : Int64)) + (zlu (((((l0 - ((zlu l0 (1 : Int32)) &&& (6148914691236517205 : Int64))) &&& (3689348814741910323 : Int64)) + ((zlu (l0 - ((zlu l0 (1 : Int32)) &&& (6148914691236517205 : Int64))) (2 : Int32)) &&& (3689348814741910323 : Int64))) + (zlu (((l0 - ((zlu l0 (1 : Int32)) &&& (6148914691236517205 : Int64))) &&& (3689348814741910323 : Int64)) + ((zlu (l0 - ((zlu l0 (1 : Int32)) &&& (6148914691236517205 : Int64))) (2 : Int32)) &&& (3689348814741910323 : Int64))) (4 : Int32))) &&& (1085102592571150095 : Int64)) (8 : Int32))) + (zlu ((((((l0 - ((zlu l0 (1 : Int32)) &&& (6148914691236517205 : Int64))) &&& (3689348814741910323 : Int64)) + ((zlu (l0 - ((zlu l0 (1 : Int32)) &&& (6148914691236517205 : Int64))) (2 : Int32)) &&& (3689348814741910323 : Int64))) + (zlu (((l0 - ((zlu l0 (1 : Int32)) &&& (6148914691236517205 : Int64))) &&& (3689348814741910323 : Int64)) + ((zlu (l0 - ((zlu l0 (1 : Int32)) &&& (6148914691236517205 : Int64))) (2 : Int32)) &&& (3689348814741910323 : Int64))) (4 : Int32))) &&& (1085102592571150095 : Int64)) + (zlu (((((l0 - ((zlu l0 (1 : Int32)) &&& (6148914691236517205 : Int64))) &&& (3689348814741910323 : Int64)) + ((zlu (l0 - ((zlu l0 (1 : Int32)) &&& (6148914691236517205 : Int64))) (2 : Int32)) &&& (3689348814741910323 : Int64))) + (zlu (((l0 - ((zlu l0 (1 : Int32)) &&& (6148914691236517205 : Int64))) &&& (3689348814741910323 : Int64)) + ((zlu (l0 - ((zlu l0 (1 : Int32)) &&& (6148914691236517205 : Int64))) (2 : Int32)) &&& (3689348814741910323 : Int64))) (4 : Int32))) &&& (1085102592571150095 : Int64)) (8 : Int32))) (16 : Int32))) + x1_)).toInt32 &&& (127 : Int32))))) M)) : Z E YJ17_bitCount d M [(0, vl l0)] 0 [] Q := by
  refine z_lload_n dJ17_bitCount_0 rfl rfl ?_
  refine z_lload_n dJ17_bitCount_1 rfl rfl ?_
  refine z_iconst (v := 1) dJ17_bitCount_2 rfl ?_
  refine z_lushr dJ17_bitCount_3 ?_
  refine z_ldc2 (v := 6148914691236517205) dJ17_bitCount_4 q3217 ?_
  refine z_land dJ17_bitCount_7 ?_
  refine z_lsub dJ17_bitCount_8 ?_
  refine z_lst_n dJ17_bitCount_9 rfl (by decide) (lv' := [(0, vl (l0 - ((zlu l0 (1 : Int32)) &&& (6148914691236517205 : Int64))))]) rfl ?_
  refine z_lload_n dJ17_bitCount_10 rfl rfl ?_
  refine z_ldc2 (v := 3689348814741910323) dJ17_bitCount_11 q3218 ?_
  refine z_land dJ17_bitCount_14 ?_
  refine z_lload_n dJ17_bitCount_15 rfl rfl ?_
  refine z_iconst (v := 2) dJ17_bitCount_16 rfl ?_
  refine z_lushr dJ17_bitCount_17 ?_
  refine z_ldc2 (v := 3689348814741910323) dJ17_bitCount_18 q3218 ?_
  refine z_land dJ17_bitCount_21 ?_
  refine z_ladd dJ17_bitCount_22 ?_
  refine z_lst_n dJ17_bitCount_23 rfl (by decide) (lv' := [(0, vl (((l0 - ((zlu l0 (1 : Int32)) &&& (6148914691236517205 : Int64))) &&& (3689348814741910323 : Int64)) + ((zlu (l0 - ((zlu l0 (1 : Int32)) &&& (6148914691236517205 : Int64))) (2 : Int32)) &&& (3689348814741910323 : Int64))))]) rfl ?_
  refine z_lload_n dJ17_bitCount_24 rfl rfl ?_
  refine z_lload_n dJ17_bitCount_25 rfl rfl ?_
  refine z_iconst (v := 4) dJ17_bitCount_26 rfl ?_
  refine z_lushr dJ17_bitCount_27 ?_
  refine z_ladd dJ17_bitCount_28 ?_
  refine z_ldc2 (v := 1085102592571150095) dJ17_bitCount_29 q3219 ?_
  refine z_land dJ17_bitCount_32 ?_
  refine z_lst_n dJ17_bitCount_33 rfl (by decide) (lv' := [(0, vl (((((l0 - ((zlu l0 (1 : Int32)) &&& (6148914691236517205 : Int64))) &&& (3689348814741910323 : Int64)) + ((zlu (l0 - ((zlu l0 (1 : Int32)) &&& (6148914691236517205 : Int64))) (2 : Int32)) &&& (3689348814741910323 : Int64))) + (zlu (((l0 - ((zlu l0 (1 : Int32)) &&& (6148914691236517205 : Int64))) &&& (3689348814741910323 : Int64)) + ((zlu (l0 - ((zlu l0 (1 : Int32)) &&& (6148914691236517205 : Int64))) (2 : Int32)) &&& (3689348814741910323 : Int64))) (4 : Int32))) &&& (1085102592571150095 : Int64)))]) rfl ?_
  refine z_lload_n dJ17_bitCount_34 rfl rfl ?_
  refine z_lload_n dJ17_bitCount_35 rfl rfl ?_
  refine z_bipush (v := 8) dJ17_bitCount_36 rfl ?_
  refine z_lushr dJ17_bitCount_38 ?_
  refine z_ladd dJ17_bitCount_39 ?_
  refine z_lst_n dJ17_bitCount_40 rfl (by decide) (lv' := [(0, vl ((((((l0 - ((zlu l0 (1 : Int32)) &&& (6148914691236517205 : Int64))) &&& (3689348814741910323 : Int64)) + ((zlu (l0 - ((zlu l0 (1 : Int32)) &&& (6148914691236517205 : Int64))) (2 : Int32)) &&& (3689348814741910323 : Int64))) + (zlu (((l0 - ((zlu l0 (1 : Int32)) &&& (6148914691236517205 : Int64))) &&& (3689348814741910323 : Int64)) + ((zlu (l0 - ((zlu l0 (1 : Int32)) &&& (6148914691236517205 : Int64))) (2 : Int32)) &&& (3689348814741910323 : Int64))) (4 : Int32))) &&& (1085102592571150095 : Int64)) + (zlu (((((l0 - ((zlu l0 (1 : Int32)) &&& (6148914691236517205 : Int64))) &&& (3689348814741910323 : Int64)) + ((zlu (l0 - ((zlu l0 (1 : Int32)) &&& (6148914691236517205 : Int64))) (2 : Int32)) &&& (3689348814741910323 : Int64))) + (zlu (((l0 - ((zlu l0 (1 : Int32)) &&& (6148914691236517205 : Int64))) &&& (3689348814741910323 : Int64)) + ((zlu (l0 - ((zlu l0 (1 : Int32)) &&& (6148914691236517205 : Int64))) (2 : Int32)) &&& (3689348814741910323 : Int64))) (4 : Int32))) &&& (1085102592571150095 : Int64)) (8 : Int32))))]) rfl ?_
  refine z_lload_n dJ17_bitCount_41 rfl rfl ?_
  refine z_lload_n dJ17_bitCount_42 rfl rfl ?_
  refine z_bipush (v := 16) dJ17_bitCount_43 rfl ?_
  refine z_lushr dJ17_bitCount_45 ?_
  refine z_ladd dJ17_bitCount_46 ?_
  refine z_lst_n dJ17_bitCount_47 rfl (by decide) (lv' := [(0, vl (((((((l0 - ((zlu l0 (1 : Int32)) &&& (6148914691236517205 : Int64))) &&& (3689348814741910323 : Int64)) + ((zlu (l0 - ((zlu l0 (1 : Int32)) &&& (6148914691236517205 : Int64))) (2 : Int32)) &&& (3689348814741910323 : Int64))) + (zlu (((l0 - ((zlu l0 (1 : Int32)) &&& (6148914691236517205 : Int64))) &&& (3689348814741910323 : Int64)) + ((zlu (l0 - ((zlu l0 (1 : Int32)) &&& (6148914691236517205 : Int64))) (2 : Int32)) &&& (3689348814741910323 : Int64))) (4 : Int32))) &&& (1085102592571150095 : Int64)) + (zlu (((((l0 - ((zlu l0 (1 : Int32)) &&& (6148914691236517205 : Int64))) &&& (3689348814741910323 : Int64)) + ((zlu (l0 - ((zlu l0 (1 : Int32)) &&& (6148914691236517205 : Int64))) (2 : Int32)) &&& (3689348814741910323 : Int64))) + (zlu (((l0 - ((zlu l0 (1 : Int32)) &&& (6148914691236517205 : Int64))) &&& (3689348814741910323 : Int64)) + ((zlu (l0 - ((zlu l0 (1 : Int32)) &&& (6148914691236517205 : Int64))) (2 : Int32)) &&& (3689348814741910323 : Int64))) (4 : Int32))) &&& (1085102592571150095 : Int64)) (8 : Int32))) + (zlu ((((((l0 - ((zlu l0 (1 : Int32)) &&& (6148914691236517205 : Int64))) &&& (3689348814741910323 : Int64)) + ((zlu (l0 - ((zlu l0 (1 : Int32)) &&& (6148914691236517205 : Int64))) (2 : Int32)) &&& (3689348814741910323 : Int64))) + (zlu (((l0 - ((zlu l0 (1 : Int32)) &&& (6148914691236517205 : Int64))) &&& (3689348814741910323 : Int64)) + ((zlu (l0 - ((zlu l0 (1 : Int32)) &&& (6148914691236517205 : Int64))) (2 : Int32)) &&& (3689348814741910323 : Int64))) (4 : Int32))) &&& (1085102592571150095 : Int64)) + (zlu (((((l0 - ((zlu l0 (1 : Int32)) &&& (6148914691236517205 : Int64))) &&& (3689348814741910323 : Int64)) + ((zlu (l0 - ((zlu l0 (1 : Int32)) &&& (6148914691236517205 : Int64))) (2 : Int32)) &&& (3689348814741910323 : Int64))) + (zlu (((l0 - ((zlu l0 (1 : Int32)) &&& (6148914691236517205 : Int64))) &&& (3689348814741910323 : Int64)) + ((zlu (l0 - ((zlu l0 (1 : Int32)) &&& (6148914691236517205 : Int64))) (2 : Int32)) &&& (3689348814741910323 : Int64))) (4 : Int32))) &&& (1085102592571150095 : Int64)) (8 : Int32))) (16 : Int32))))]) rfl ?_
  refine z_lload_n dJ17_bitCount_48 rfl rfl ?_
  refine z_lload_n dJ17_bitCount_49 rfl rfl ?_
  refine z_bipush (v := 32) dJ17_bitCount_50 rfl ?_
  refine z_lushr dJ17_bitCount_52 ?_
  generalize hx1_ : zlu (((((((l0 - ((zlu l0 (1 : Int32)) &&& (6148914691236517205 : Int64))) &&& (3689348814741910323 : Int64)) + ((zlu (l0 - ((zlu l0 (1 : Int32)) &&& (6148914691236517205 : Int64))) (2 : Int32)) &&& (3689348814741910323 : Int64))) + (zlu (((l0 - ((zlu l0 (1 : Int32)) &&& (6148914691236517205 : Int64))) &&& (3689348814741910323 : Int64)) + ((zlu (l0 - ((zlu l0 (1 : Int32)) &&& (6148914691236517205 : Int64))) (2 : Int32)) &&& (3689348814741910323 : Int64))) (4 : Int32))) &&& (1085102592571150095 : Int64)) + (zlu (((((l0 - ((zlu l0 (1 : Int32)) &&& (6148914691236517205 : Int64))) &&& (3689348814741910323 : Int64)) + ((zlu (l0 - ((zlu l0 (1 : Int32)) &&& (6148914691236517205 : Int64))) (2 : Int32)) &&& (3689348814741910323 : Int64))) + (zlu (((l0 - ((zlu l0 (1 : Int32)) &&& (6148914691236517205 : Int64))) &&& (3689348814741910323 : Int64)) + ((zlu (l0 - ((zlu l0 (1 : Int32)) &&& (6148914691236517205 : Int64))) (2 : Int32)) &&& (3689348814741910323 : Int64))) (4 : Int32))) &&& (1085102592571150095 : Int64)) (8 : Int32))) + (zlu ((((((l0 - ((zlu l0 (1 : Int32)) &&& (6148914691236517205 : Int64))) &&& (3689348814741910323 : Int64)) + ((zlu (l0 - ((zlu l0 (1 : Int32)) &&& (6148914691236517205 : Int64))) (2 : Int32)) &&& (3689348814741910323 : Int64))) + (zlu (((l0 - ((zlu l0 (1 : Int32)) &&& (6148914691236517205 : Int64))) &&& (3689348814741910323 : Int64)) + ((zlu (l0 - ((zlu l0 (1 : Int32)) &&& (6148914691236517205 : Int64))) (2 : Int32)) &&& (3689348814741910323 : Int64))) (4 : Int32))) &&& (1085102592571150095 : Int64)) + (zlu (((((l0 - ((zlu l0 (1 : Int32)) &&& (6148914691236517205 : Int64))) &&& (3689348814741910323 : Int64)) + ((zlu (l0 - ((zlu l0 (1 : Int32)) &&& (6148914691236517205 : Int64))) (2 : Int32)) &&& (3689348814741910323 : Int64))) + (zlu (((l0 - ((zlu l0 (1 : Int32)) &&& (6148914691236517205 : Int64))) &&& (3689348814741910323 : Int64)) + ((zlu (l0 - ((zlu l0 (1 : Int32)) &&& (6148914691236517205 : Int64))) (2 : Int32)) &&& (3689348814741910323 : Int64))) (4 : Int32))) &&& (1085102592571150095 : Int64)) (8 : Int32))) (16 : Int32))) (32 : Int32) = x1_
  have k := k x1_ hx1_.symm
  refine z_ladd dJ17_bitCount_53 ?_
  refine z_lst_n dJ17_bitCount_54 rfl (by decide) (lv' := [(0, vl ((((((((l0 - ((zlu l0 (1 : Int32)) &&& (6148914691236517205 : Int64))) &&& (3689348814741910323 : Int64)) + ((zlu (l0 - ((zlu l0 (1 : Int32)) &&& (6148914691236517205 : Int64))) (2 : Int32)) &&& (3689348814741910323 : Int64))) + (zlu (((l0 - ((zlu l0 (1 : Int32)) &&& (6148914691236517205 : Int64))) &&& (3689348814741910323 : Int64)) + ((zlu (l0 - ((zlu l0 (1 : Int32)) &&& (6148914691236517205 : Int64))) (2 : Int32)) &&& (3689348814741910323 : Int64))) (4 : Int32))) &&& (1085102592571150095 : Int64)) + (zlu (((((l0 - ((zlu l0 (1 : Int32)) &&& (6148914691236517205 : Int64))) &&& (3689348814741910323 : Int64)) + ((zlu (l0 - ((zlu l0 (1 : Int32)) &&& (6148914691236517205 : Int64))) (2 : Int32)) &&& (3689348814741910323 : Int64))) + (zlu (((l0 - ((zlu l0 (1 : Int32)) &&& (6148914691236517205 : Int64))) &&& (3689348814741910323 : Int64)) + ((zlu (l0 - ((zlu l0 (1 : Int32)) &&& (6148914691236517205 : Int64))) (2 : Int32)) &&& (3689348814741910323 : Int64))) (4 : Int32))) &&& (1085102592571150095 : Int64)) (8 : Int32))) + (zlu ((((((l0 - ((zlu l0 (1 : Int32)) &&& (6148914691236517205 : Int64))) &&& (3689348814741910323 : Int64)) + ((zlu (l0 - ((zlu l0 (1 : Int32)) &&& (6148914691236517205 : Int64))) (2 : Int32)) &&& (3689348814741910323 : Int64))) + (zlu (((l0 - ((zlu l0 (1 : Int32)) &&& (6148914691236517205 : Int64))) &&& (3689348814741910323 : Int64)) + ((zlu (l0 - ((zlu l0 (1 : Int32)) &&& (6148914691236517205 : Int64))) (2 : Int32)) &&& (3689348814741910323 : Int64))) (4 : Int32))) &&& (1085102592571150095 : Int64)) + (zlu (((((l0 - ((zlu l0 (1 : Int32)) &&& (6148914691236517205 : Int64))) &&& (3689348814741910323 : Int64)) + ((zlu (l0 - ((zlu l0 (1 : Int32)) &&& (6148914691236517205 : Int64))) (2 : Int32)) &&& (3689348814741910323 : Int64))) + (zlu (((l0 - ((zlu l0 (1 : Int32)) &&& (6148914691236517205 : Int64))) &&& (3689348814741910323 : Int64)) + ((zlu (l0 - ((zlu l0 (1 : Int32)) &&& (6148914691236517205 : Int64))) (2 : Int32)) &&& (3689348814741910323 : Int64))) (4 : Int32))) &&& (1085102592571150095 : Int64)) (8 : Int32))) (16 : Int32))) + x1_))]) rfl ?_
  refine z_lload_n dJ17_bitCount_55 rfl rfl ?_
  refine z_l2i dJ17_bitCount_56 ?_
  refine z_bipush (v := 127) dJ17_bitCount_57 rfl ?_
  refine z_iand dJ17_bitCount_59 ?_
  exact z_iret dJ17_bitCount_60 rfl rfl k
/-! java/lang/Long.numberOfTrailingZeros(J)I -/
theorem bJ17_numberOfTrailingZeros_0 : zdec cJ17_numberOfTrailingZeros 0 [(0, .lload_n 0, 1), (1, .l2i, 1), (2, .istore_n 2, 1), (3, .iload_n 2, 1), (4, .ifCond .ne 17, 3), (7, .bipush 32, 2), (9, .lload_n 0, 1), (10, .bipush 32, 2), (12, .lushr, 1), (13, .l2i, 1), (14, .invokestatic 311, 3), (17, .iadd, 1), (18, .goto 7, 3), (21, .iload_n 2, 1), (22, .invokestatic 311, 3), (25, .ireturn, 1)] = true := by decide +kernel
theorem dJ17_numberOfTrailingZeros_0 : decode cJ17_numberOfTrailingZeros 0 = .ok (.lload_n 0, 1) := zdec_at bJ17_numberOfTrailingZeros_0 0 rfl
theorem dJ17_numberOfTrailingZeros_1 : decode cJ17_numberOfTrailingZeros 1 = .ok (.l2i, 1) := zdec_at bJ17_numberOfTrailingZeros_0 1 rfl
theorem dJ17_numberOfTrailingZeros_2 : decode cJ17_numberOfTrailingZeros 2 = .ok (.istore_n 2, 1) := zdec_at bJ17_numberOfTrailingZeros_0 2 rfl
theorem dJ17_numberOfTrailingZeros_3 : decode cJ17_numberOfTrailingZeros 3 = .ok (.iload_n 2, 1) := zdec_at bJ17_numberOfTrailingZeros_0 3 rfl
theorem dJ17_numberOfTrailingZeros_4 : decode cJ17_numberOfTrailingZeros 4 = .ok (.ifCond .ne 17, 3) := zdec_at bJ17_numberOfTrailingZeros_0 4 rfl
theorem dJ17_numberOfTrailingZeros_7 : decode cJ17_numberOfTrailingZeros 7 = .ok (.bipush 32, 2) := zdec_at bJ17_numberOfTrailingZeros_0 5 rfl
theorem dJ17_numberOfTrailingZeros_9 : decode cJ17_numberOfTrailingZeros 9 = .ok (.lload_n 0, 1) := zdec_at bJ17_numberOfTrailingZeros_0 6 rfl
theorem dJ17_numberOfTrailingZeros_10 : decode cJ17_numberOfTrailingZeros 10 = .ok (.bipush 32, 2) := zdec_at bJ17_numberOfTrailingZeros_0 7 rfl
theorem dJ17_numberOfTrailingZeros_12 : decode cJ17_numberOfTrailingZeros 12 = .ok (.lushr, 1) := zdec_at bJ17_numberOfTrailingZeros_0 8 rfl
theorem dJ17_numberOfTrailingZeros_13 : decode cJ17_numberOfTrailingZeros 13 = .ok (.l2i, 1) := zdec_at bJ17_numberOfTrailingZeros_0 9 rfl
theorem dJ17_numberOfTrailingZeros_14 : decode cJ17_numberOfTrailingZeros 14 = .ok (.invokestatic 311, 3) := zdec_at bJ17_numberOfTrailingZeros_0 10 rfl
theorem dJ17_numberOfTrailingZeros_17 : decode cJ17_numberOfTrailingZeros 17 = .ok (.iadd, 1) := zdec_at bJ17_numberOfTrailingZeros_0 11 rfl
theorem dJ17_numberOfTrailingZeros_18 : decode cJ17_numberOfTrailingZeros 18 = .ok (.goto 7, 3) := zdec_at bJ17_numberOfTrailingZeros_0 12 rfl
theorem dJ17_numberOfTrailingZeros_21 : decode cJ17_numberOfTrailingZeros 21 = .ok (.iload_n 2, 1) := zdec_at bJ17_numberOfTrailingZeros_0 13 rfl
theorem dJ17_numberOfTrailingZeros_22 : decode cJ17_numberOfTrailingZeros 22 = .ok (.invokestatic 311, 3) := zdec_at bJ17_numberOfTrailingZeros_0 14 rfl
theorem dJ17_numberOfTrailingZeros_25 : decode cJ17_numberOfTrailingZeros 25 = .ok (.ireturn, 1) := zdec_at bJ17_numberOfTrailingZeros_0 15 rfl
theorem sJ17_numberOfTrailingZeros_0 {E : zE} {d : Nat} {Q : zO → zM → Prop} (M : zM) (l0 : Int64) (k : if (l0).toInt32 = 0 then (∀ x1_ : Int64, x1_ = (zlu l0 (32 : Int32)) → (Z E YJ16_numberOfTrailingZeros d M (zargs 0 [vi (x1_).toInt32]) 0 [] (zafter E YJ17_numberOfTrailingZeros (d + 1) [] 14 3 [vi (32 : Int32)] Q))) else (Z E YJ16_numberOfTrailingZeros d M (zargs 0 [vi (l0).toInt32]) 0 [] (zafter E YJ17_numberOfTrailingZeros (d + 1) [] 22 3 [] Q))) : Z E YJ17_numberOfTrailingZeros (d + 1) M [(0, vl l0)] 0 [] Q := by
  refine z_lload_n dJ17_numberOfTrailingZeros_0 rfl rfl ?_
  refine z_l2i dJ17_numberOfTrailingZeros_1 ?_
  refine z_ist_n dJ17_numberOfTrailingZeros_2 rfl (by decide) (lv' := [(0, vl l0), (2, vi (l0).toInt32)]) rfl ?_
  refine z_iload_n dJ17_numberOfTrailingZeros_3 rfl rfl ?_
  refine z_if_ne (tgt := 21) dJ17_numberOfTrailingZeros_4 rfl (fun h_ => ?_) (fun h_ => ?_)
  · have k := zif h_ k
    refine z_iload_n dJ17_numberOfTrailingZeros_21 rfl rfl ?_
    refine Z.pick [] rfl ?_
    exact z_callS (as := [vi (l0).toInt32]) (st := []) dJ17_numberOfTrailingZeros_22 ssJ17_311 (Nat.le_refl _) (Nat.le_of_ble_eq_true rfl) (Nat.le_of_ble_eq_true rfl) rfl k
  · have k := zit h_ k
    refine z_bipush (v := 32) dJ17_numberOfTrailingZeros_7 rfl ?_
    refine z_lload_n dJ17_numberOfTrailingZeros_9 rfl rfl ?_
    refine z_bipush (v := 32) dJ17_numberOfTrailingZeros_10 rfl ?_
    refine z_lushr dJ17_numberOfTrailingZeros_12 ?_
    generalize hx1_ : zlu l0 (32 : Int32) = x1_
    have k := k x1_ hx1_.symm
    refine z_l2i dJ17_numberOfTrailingZeros_13 ?_
    refine Z.pick [] rfl ?_
    exact z_callS (as := [vi (x1_).toInt32]) (st := [vi (32 : Int32)]) dJ17_numberOfTrailingZeros_14 ssJ17_311 (Nat.le_refl _) (Nat.le_of_ble_eq_true rfl) (Nat.le_of_ble_eq_true rfl) rfl k
theorem sJ17_numberOfTrailingZeros_17 {E : zE} {d : Nat} {Q : zO → zM → Prop} (M : zM) (s0 : Int32) (s1 : Int32) (k : Z E YJ17_numberOfTrailingZeros (d + 1) M [] 25 [vi (s1 + s0)] Q) : Z E YJ17_numberOfTrailingZeros (d + 1) M [] 17 [vi s0, vi s1] Q := by
  refine z_iadd dJ17_numberOfTrailingZeros_17 ?_
  refine z_goto (tgt := 25) dJ17_numberOfTrailingZeros_18 rfl ?_
  exact k
theorem sJ17_numberOfTrailingZeros_25 {E : zE} {d : Nat} {Q : zO → zM → Prop} (M : zM) (s0 : Int32) (k : Q (.inl (some (vi s0))) M) : Z E YJ17_numberOfTrailingZeros (d + 1) M [] 25 [vi s0] Q := by
  exact z_iret dJ17_numberOfTrailingZeros_25 rfl rfl k
/-! ScriptTypes$Texts.<init>(II)V -/
theorem bX2_init_0 : zdec cX2_init 0 [(0, .aload_n 0, 1), (1, .invokespecial 3, 3), (4, .aload_n 0, 1), (5, .iload_n 1, 1), (6, .iconst 1, 1), (7, .iadd, 1), (8, .newarray .int, 2), (10, .putfield 9, 3), (13, .aload_n 0, 1), (14, .iload_n 2, 1), (15, .newarray .byte, 2), (17, .putfield 15, 3), (20, .return_, 1)] = true := by decide +kernel
theorem dX2_init_0 : decode cX2_init 0 = .ok (.aload_n 0, 1) := zdec_at bX2_init_0 0 rfl
theorem dX2_init_1 : decode cX2_init 1 = .ok (.invokespecial 3, 3) := zdec_at bX2_init_0 1 rfl
theorem dX2_init_4 : decode cX2_init 4 = .ok (.aload_n 0, 1) := zdec_at bX2_init_0 2 rfl
theorem dX2_init_5 : decode cX2_init 5 = .ok (.iload_n 1, 1) := zdec_at bX2_init_0 3 rfl
theorem dX2_init_6 : decode cX2_init 6 = .ok (.iconst 1, 1) := zdec_at bX2_init_0 4 rfl
theorem dX2_init_7 : decode cX2_init 7 = .ok (.iadd, 1) := zdec_at bX2_init_0 5 rfl
theorem dX2_init_8 : decode cX2_init 8 = .ok (.newarray .int, 2) := zdec_at bX2_init_0 6 rfl
theorem dX2_init_10 : decode cX2_init 10 = .ok (.putfield 9, 3) := zdec_at bX2_init_0 7 rfl
theorem dX2_init_13 : decode cX2_init 13 = .ok (.aload_n 0, 1) := zdec_at bX2_init_0 8 rfl
theorem dX2_init_14 : decode cX2_init 14 = .ok (.iload_n 2, 1) := zdec_at bX2_init_0 9 rfl
theorem dX2_init_15 : decode cX2_init 15 = .ok (.newarray .byte, 2) := zdec_at bX2_init_0 10 rfl
theorem dX2_init_17 : decode cX2_init 17 = .ok (.putfield 15, 3) := zdec_at bX2_init_0 11 rfl
theorem dX2_init_20 : decode cX2_init 20 = .ok (.return_, 1) := zdec_at bX2_init_0 12 rfl
theorem sX2_init_0 {E : zE} {d : Nat} {Q : zO → zM → Prop} (M : zM) (a0 : Nat) (l1 : Int32) (l2 : Int32) (k : (¬ (l1 + (1 : Int32)) < 0 ∧ ((l1 + (1 : Int32))).toNatClampNeg * 8 ≤ 536870912) ∧ (Z E YX2_init (d + 1) (zn M ((l1 + (1 : Int32))).toNatClampNeg) [(0, vr (some (a0, 2, 0))), (2, vi l2)] 10 [vr (some ((zsz M), 100, ((l1 + (1 : Int32))).toNatClampNeg)), vr (some (a0, 2, 0))] Q)) : Z E YX2_init (d + 1) M [(0, vr (some (a0, 2, 0))), (1, vi l1), (2, vi l2)] 0 [] Q := by
  refine z_aload_n dX2_init_0 rfl rfl ?_
  refine z_objInit dX2_init_1 oiX2_3 (by omega) (by decide) ?_
  refine z_aload_n dX2_init_4 rfl rfl ?_
  refine z_iload_n dX2_init_5 rfl rfl ?_
  refine z_iconst (v := 1) dX2_init_6 rfl ?_
  refine z_iadd dX2_init_7 ?_
  obtain ⟨b_, k⟩ := k
  refine z_newa (q := 0) (N := ((l1 + (1 : Int32))).toNatClampNeg) dX2_init_8 rfl (by decide) q535 b_.1 rfl b_.2 ?_
  refine Z.pick [0, 2] rfl ?_
  exact k
theorem sX2_init_10 {E : zE} {d : Nat} {Q : zO → zM → Prop} (M : zM) (a0 : Nat) (l2 : Int32) (p0 : Nat) (np0 : Nat) (k : 16 ≤ a0 ∧ ((¬ l2 < 0 ∧ (l2).toNatClampNeg * 8 ≤ 536870912) ∧ (Z E YX2_init (d + 1) (zn (sr M a0 1 (some (p0, 100, np0))) (l2).toNatClampNeg) [] 17 [vr (some ((zsz M), 101, (l2).toNatClampNeg)), vr (some (a0, 2, 0))] Q))) : Z E YX2_init (d + 1) M [(0, vr (some (a0, 2, 0))), (2, vi l2)] 10 [vr (some (p0, 100, np0)), vr (some (a0, 2, 0))] Q := by
  obtain ⟨g_, k⟩ := k
  refine z_putr g_ dX2_init_10 (zfwN.f fwX2_9_2 rfl (fun q h => by rw [← Option.some.inj h]; rfl)) rfl ?_
  refine z_aload_n dX2_init_13 rfl rfl ?_
  refine z_iload_n dX2_init_14 rfl rfl ?_
  obtain ⟨b_, k⟩ := k
  refine z_newa (q := 1) (N := (l2).toNatClampNeg) dX2_init_15 rfl (by decide) q536 b_.1 rfl b_.2 ?_
  refine Z.pick [] rfl ?_
  exact k
theorem sX2_init_17 {E : zE} {d : Nat} {Q : zO → zM → Prop} (M : zM) (p0 : Nat) (np0 : Nat) (a0 : Nat) (k : 16 ≤ a0 ∧ (Q (.inl none) (sr M a0 0 (some (p0, 101, np0))))) : Z E YX2_init (d + 1) M [] 17 [vr (some (p0, 101, np0)), vr (some (a0, 2, 0))] Q := by
  obtain ⟨g_, k⟩ := k
  refine z_putr g_ dX2_init_17 (zfwN.f fwX2_15_2 rfl (fun q h => by rw [← Option.some.inj h]; rfl)) rfl ?_
  exact z_vret dX2_init_20 rfl k
/-! ScriptTypes$Texts.add([BI)I -/
theorem bX2_add_0 : zdec cX2_add 0 [(0, .iconst 0, 1), (1, .istore_n 3, 1), (2, .iload_n 3, 1), (3, .iload_n 2, 1), (4, .if_icmp .ge 28, 3), (7, .aload_n 0, 1), (8, .getfield 15, 3), (11, .aload_n 0, 1), (12, .getfield 9, 3), (15, .aload_n 0, 1), (16, .getfield 19, 3), (19, .iaload, 1), (20, .iload_n 3, 1), (21, .iadd, 1), (22, .aload_n 1, 1), (23, .iload_n 3, 1)] = true := by decide +kernel
theorem dX2_add_0 : decode cX2_add 0 = .ok (.iconst 0, 1) := zdec_at bX2_add_0 0 rfl
theorem dX2_add_1 : decode cX2_add 1 = .ok (.istore_n 3, 1) := zdec_at bX2_add_0 1 rfl
theorem dX2_add_2 : decode cX2_add 2 = .ok (.iload_n 3, 1) := zdec_at bX2_add_0 2 rfl
theorem dX2_add_3 : decode cX2_add 3 = .ok (.iload_n 2, 1) := zdec_at bX2_add_0 3 rfl
theorem dX2_add_4 : decode cX2_add 4 = .ok (.if_icmp .ge 28, 3) := zdec_at bX2_add_0 4 rfl
theorem dX2_add_7 : decode cX2_add 7 = .ok (.aload_n 0, 1) := zdec_at bX2_add_0 5 rfl
theorem dX2_add_8 : decode cX2_add 8 = .ok (.getfield 15, 3) := zdec_at bX2_add_0 6 rfl
theorem dX2_add_11 : decode cX2_add 11 = .ok (.aload_n 0, 1) := zdec_at bX2_add_0 7 rfl
theorem dX2_add_12 : decode cX2_add 12 = .ok (.getfield 9, 3) := zdec_at bX2_add_0 8 rfl
theorem dX2_add_15 : decode cX2_add 15 = .ok (.aload_n 0, 1) := zdec_at bX2_add_0 9 rfl
theorem dX2_add_16 : decode cX2_add 16 = .ok (.getfield 19, 3) := zdec_at bX2_add_0 10 rfl
theorem dX2_add_19 : decode cX2_add 19 = .ok (.iaload, 1) := zdec_at bX2_add_0 11 rfl
theorem dX2_add_20 : decode cX2_add 20 = .ok (.iload_n 3, 1) := zdec_at bX2_add_0 12 rfl
theorem dX2_add_21 : decode cX2_add 21 = .ok (.iadd, 1) := zdec_at bX2_add_0 13 rfl
theorem dX2_add_22 : decode cX2_add 22 = .ok (.aload_n 1, 1) := zdec_at bX2_add_0 14 rfl
theorem dX2_add_23 : decode cX2_add 23 = .ok (.iload_n 3, 1) := zdec_at bX2_add_0 15 rfl
theorem bX2_add_24 : zdec cX2_add 24 [(24, .baload, 1), (25, .bastore, 1), (26, .iinc 3 1, 3), (29, .goto (-27), 3), (32, .aload_n 0, 1), (33, .getfield 9, 3), (36, .aload_n 0, 1), (37, .getfield 19, 3), (40, .iconst 1, 1), (41, .iadd, 1), (42, .aload_n 0, 1), (43, .getfield 9, 3), (46, .aload_n 0, 1), (47, .getfield 19, 3), (50, .iaload, 1), (51, .iload_n 2, 1)] = true := by decide +kernel
theorem dX2_add_24 : decode cX2_add 24 = .ok (.baload, 1) := zdec_at bX2_add_24 0 rfl
theorem dX2_add_25 : decode cX2_add 25 = .ok (.bastore, 1) := zdec_at bX2_add_24 1 rfl
theorem dX2_add_26 : decode cX2_add 26 = .ok (.iinc 3 1, 3) := zdec_at bX2_add_24 2 rfl
theorem dX2_add_29 : decode cX2_add 29 = .ok (.goto (-27), 3) := zdec_at bX2_add_24 3 rfl
theorem dX2_add_32 : decode cX2_add 32 = .ok (.aload_n 0, 1) := zdec_at bX2_add_24 4 rfl
theorem dX2_add_33 : decode cX2_add 33 = .ok (.getfield 9, 3) := zdec_at bX2_add_24 5 rfl
theorem dX2_add_36 : decode cX2_add 36 = .ok (.aload_n 0, 1) := zdec_at bX2_add_24 6 rfl
theorem dX2_add_37 : decode cX2_add 37 = .ok (.getfield 19, 3) := zdec_at bX2_add_24 7 rfl
theorem dX2_add_40 : decode cX2_add 40 = .ok (.iconst 1, 1) := zdec_at bX2_add_24 8 rfl
theorem dX2_add_41 : decode cX2_add 41 = .ok (.iadd, 1) := zdec_at bX2_add_24 9 rfl
theorem dX2_add_42 : decode cX2_add 42 = .ok (.aload_n 0, 1) := zdec_at bX2_add_24 10 rfl
theorem dX2_add_43 : decode cX2_add 43 = .ok (.getfield 9, 3) := zdec_at bX2_add_24 11 rfl
theorem dX2_add_46 : decode cX2_add 46 = .ok (.aload_n 0, 1) := zdec_at bX2_add_24 12 rfl
theorem dX2_add_47 : decode cX2_add 47 = .ok (.getfield 19, 3) := zdec_at bX2_add_24 13 rfl
theorem dX2_add_50 : decode cX2_add 50 = .ok (.iaload, 1) := zdec_at bX2_add_24 14 rfl
theorem dX2_add_51 : decode cX2_add 51 = .ok (.iload_n 2, 1) := zdec_at bX2_add_24 15 rfl
theorem bX2_add_52 : zdec cX2_add 52 [(52, .iadd, 1), (53, .iastore, 1), (54, .aload_n 0, 1), (55, .dup, 1), (56, .getfield 19, 3), (59, .dup_x1, 1), (60, .iconst 1, 1), (61, .iadd, 1), (62, .putfield 19, 3), (65, .ireturn, 1)] = true := by decide +kernel
theorem dX2_add_52 : decode cX2_add 52 = .ok (.iadd, 1) := zdec_at bX2_add_52 0 rfl
theorem dX2_add_53 : decode cX2_add 53 = .ok (.iastore, 1) := zdec_at bX2_add_52 1 rfl
theorem dX2_add_54 : decode cX2_add 54 = .ok (.aload_n 0, 1) := zdec_at bX2_add_52 2 rfl
theorem dX2_add_55 : decode cX2_add 55 = .ok (.dup, 1) := zdec_at bX2_add_52 3 rfl
theorem dX2_add_56 : decode cX2_add 56 = .ok (.getfield 19, 3) := zdec_at bX2_add_52 4 rfl
theorem dX2_add_59 : decode cX2_add 59 = .ok (.dup_x1, 1) := zdec_at bX2_add_52 5 rfl
theorem dX2_add_60 : decode cX2_add 60 = .ok (.iconst 1, 1) := zdec_at bX2_add_52 6 rfl
theorem dX2_add_61 : decode cX2_add 61 = .ok (.iadd, 1) := zdec_at bX2_add_52 7 rfl
theorem dX2_add_62 : decode cX2_add 62 = .ok (.putfield 19, 3) := zdec_at bX2_add_52 8 rfl
theorem dX2_add_65 : decode cX2_add 65 = .ok (.ireturn, 1) := zdec_at bX2_add_52 9 rfl
theorem sX2_add_0 {E : zE} {d : Nat} {Q : zO → zM → Prop} (M : zM) (a0 : Nat) (r1 : Option zP) (l2 : Int32) (k : Z E YX2_add d M [(0, vr (some (a0, 2, 0))), (1, vr r1), (2, vi l2), (3, vi (0 : Int32))] 2 [] Q) : Z E YX2_add d M [(0, vr (some (a0, 2, 0))), (1, vr r1), (2, vi l2)] 0 [] Q := by
  refine z_iconst (v := 0) dX2_add_0 rfl ?_
  refine z_ist_n dX2_add_1 rfl (by decide) (lv' := [(0, vr (some (a0, 2, 0))), (1, vr r1), (2, vi l2), (3, vi (0 : Int32))]) rfl ?_
  exact k
theorem sX2_add_2 {E : zE} {d : Nat} {Q : zO → zM → Prop} (M : zM) (a0 : Nat) (r1 : Option zP) (l2 : Int32) (l3 : Int32) (k : if l2 ≤ l3 then (∃ b1 m1 : Nat, (gr M a0 1) = some (b1, 100, m1) ∧ (vp_in (gi M a0 2) m1 ∧ (16 ≤ b1 ∧ (vp_in ((gi M a0 2) + (1 : Int32)) m1 ∧ (16 ≤ a0 ∧ (Q (.inl (some (vi (gi (si M b1 (((gi M a0 2) + (1 : Int32))).toNatClampNeg ((gi M b1 ((gi M a0 2)).toNatClampNeg) + l2)) a0 2)))) (si (si M b1 (((gi M a0 2) + (1 : Int32))).toNatClampNeg ((gi M b1 ((gi M a0 2)).toNatClampNeg) + l2)) a0 2 ((gi (si M b1 (((gi M a0 2) + (1 : Int32))).toNatClampNeg ((gi M b1 ((gi M a0 2)).toNatClampNeg) + l2)) a0 2) + (1 : Int32))))))))) else (∃ b1 m1 : Nat, (gr M a0 1) = some (b1, 100, m1) ∧ (vp_in (gi M a0 2) m1 ∧ (∃ b2 m2 : Nat, r1 = some (b2, 101, m2) ∧ (vp_in l3 m2 ∧ (∃ b3 m3 : Nat, (gr M a0 0) = some (b3, 101, m3) ∧ (16 ≤ b3 ∧ (vp_in ((gi M b1 ((gi M a0 2)).toNatClampNeg) + l3) m3 ∧ (Z E YX2_add d (si M b3 (((gi M b1 ((gi M a0 2)).toNatClampNeg) + l3)).toNatClampNeg (vp_nar .byte (gi M b2 (l3).toNatClampNeg))) [(0, vr (some (a0, 2, 0))), (1, vr (some (b2, 101, m2))), (2, vi l2), (3, vi (l3 + (1 : Int32)))] 2 [] Q))))))))) : Z E YX2_add d M [(0, vr (some (a0, 2, 0))), (1, vr r1), (2, vi l2), (3, vi l3)] 2 [] Q := by
  refine z_iload_n dX2_add_2 rfl rfl ?_
  refine z_iload_n dX2_add_3 rfl rfl ?_
  refine z_icmp_ge (tgt := 32) dX2_add_4 rfl (fun h_ => ?_) (fun h_ => ?_)
  · have k := zit h_ k
    refine z_aload_n dX2_add_32 rfl rfl ?_
    refine z_getr (r := (gr M a0 1)) dX2_add_33 fsX2_9_2 rfl ?_
    refine z_aload_n dX2_add_36 rfl rfl ?_
    refine z_geti dX2_add_37 fsX2_19_2 ?_
    refine z_iconst (v := 1) dX2_add_40 rfl ?_
    refine z_iadd dX2_add_41 ?_
    refine z_aload_n dX2_add_42 rfl rfl ?_
    refine z_getr (r := (gr M a0 1)) dX2_add_43 fsX2_9_2 rfl ?_
    refine z_aload_n dX2_add_46 rfl rfl ?_
    refine z_geti dX2_add_47 fsX2_19_2 ?_
    obtain ⟨b1, m1, e1_, k⟩ := k
    refine Z.eqs (lv' := [(0, vr (some (a0, 2, 0))), (1, vr r1), (2, vi l2), (3, vi l3)]) (st' := [vi (gi M a0 2), vr (some (b1, 100, m1)), vi ((gi M a0 2) + (1 : Int32)), vr (some (b1, 100, m1))]) rfl (by rw [e1_] <;> rfl) ?_
    obtain ⟨b_, k⟩ := k
    refine z_iald dX2_add_50 b_ ?_
    refine z_iload_n dX2_add_51 rfl rfl ?_
    refine z_iadd dX2_add_52 ?_
    obtain ⟨g_, k⟩ := k
    obtain ⟨b_, k⟩ := k
    refine z_iast g_ dX2_add_53 b_ ?_
    refine z_aload_n dX2_add_54 rfl rfl ?_
    refine z_dup dX2_add_55 rfl ?_
    refine z_geti dX2_add_56 fsX2_19_2 ?_
    refine z_dup_x1 dX2_add_59 rfl rfl ?_
    refine z_iconst (v := 1) dX2_add_60 rfl ?_
    refine z_iadd dX2_add_61 ?_
    obtain ⟨g_, k⟩ := k
    refine z_puti g_ dX2_add_62 (zfwN.w fwX2_19_2) rfl ⟨rfl, rfl⟩ ?_
    exact z_iret dX2_add_65 rfl rfl k
  · have k := zif h_ k
    refine z_aload_n dX2_add_7 rfl rfl ?_
    refine z_getr (r := (gr M a0 0)) dX2_add_8 fsX2_15_2 rfl ?_
    refine z_aload_n dX2_add_11 rfl rfl ?_
    refine z_getr (r := (gr M a0 1)) dX2_add_12 fsX2_9_2 rfl ?_
    refine z_aload_n dX2_add_15 rfl rfl ?_
    refine z_geti dX2_add_16 fsX2_19_2 ?_
    obtain ⟨b1, m1, e1_, k⟩ := k
    refine Z.eqs (lv' := [(0, vr (some (a0, 2, 0))), (1, vr r1), (2, vi l2), (3, vi l3)]) (st' := [vi (gi M a0 2), vr (some (b1, 100, m1)), vr (gr M a0 0)]) rfl (by rw [e1_] <;> rfl) ?_
    obtain ⟨b_, k⟩ := k
    refine z_iald dX2_add_19 b_ ?_
    refine z_iload_n dX2_add_20 rfl rfl ?_
    refine z_iadd dX2_add_21 ?_
    refine z_aload_n dX2_add_22 rfl rfl ?_
    refine z_iload_n dX2_add_23 rfl rfl ?_
    obtain ⟨b2, m2, e2_, k⟩ := k
    refine Z.eqs (lv' := [(0, vr (some (a0, 2, 0))), (1, vr (some (b2, 101, m2))), (2, vi l2), (3, vi l3)]) (st' := [vi l3, vr (some (b2, 101, m2)), vi ((gi M b1 ((gi M a0 2)).toNatClampNeg) + l3), vr (gr M a0 0)]) (by rw [e2_] <;> rfl) (by rw [e2_] <;> rfl) ?_
    obtain ⟨b_, k⟩ := k
    refine z_bald dX2_add_24 b_ ?_
    obtain ⟨b3, m3, e3_, k⟩ := k
    refine Z.eqs (lv' := [(0, vr (some (a0, 2, 0))), (1, vr (some (b2, 101, m2))), (2, vi l2), (3, vi l3)]) (st' := [vi (gi M b2 (l3).toNatClampNeg), vi ((gi M b1 ((gi M a0 2)).toNatClampNeg) + l3), vr (some (b3, 101, m3))]) rfl (by rw [e3_] <;> rfl) ?_
    obtain ⟨g_, k⟩ := k
    obtain ⟨b_, k⟩ := k
    refine z_bast g_ dX2_add_25 b_ ?_
    refine z_inc (v := (l3 + (1 : Int32))) dX2_add_26 rfl rfl (by decide) (lv' := [(0, vr (some (a0, 2, 0))), (1, vr (some (b2, 101, m2))), (2, vi l2), (3, vi (l3 + (1 : Int32)))]) rfl ?_
    refine z_goto (tgt := 2) dX2_add_29 rfl ?_
    exact k
/-! ScriptTypes$Texts.find([BI)I -/
theorem bX2_find_0 : zdec cX2_find 0 [(0, .iconst 0, 1), (1, .istore_n 3, 1), (2, .iload_n 3, 1), (3, .aload_n 0, 1), (4, .getfield 19, 3), (7, .if_icmp .ge 80, 3), (10, .aload_n 0, 1), (11, .iload_n 3, 1), (12, .invokevirtual 23, 3), (15, .iload_n 2, 1), (16, .if_icmp .ne 7, 3), (19, .iconst 1, 1), (20, .goto 4, 3), (23, .iconst 0, 1), (24, .istore 4, 2), (26, .iconst 0, 1)] = true := by decide +kernel
theorem dX2_find_0 : decode cX2_find 0 = .ok (.iconst 0, 1) := zdec_at bX2_find_0 0 rfl
theorem dX2_find_1 : decode cX2_find 1 = .ok (.istore_n 3, 1) := zdec_at bX2_find_0 1 rfl
theorem dX2_find_2 : decode cX2_find 2 = .ok (.iload_n 3, 1) := zdec_at bX2_find_0 2 rfl
theorem dX2_find_3 : decode cX2_find 3 = .ok (.aload_n 0, 1) := zdec_at bX2_find_0 3 rfl
theorem dX2_find_4 : decode cX2_find 4 = .ok (.getfield 19, 3) := zdec_at bX2_find_0 4 rfl
theorem dX2_find_7 : decode cX2_find 7 = .ok (.if_icmp .ge 80, 3) := zdec_at bX2_find_0 5 rfl
theorem dX2_find_10 : decode cX2_find 10 = .ok (.aload_n 0, 1) := zdec_at bX2_find_0 6 rfl
theorem dX2_find_11 : decode cX2_find 11 = .ok (.iload_n 3, 1) := zdec_at bX2_find_0 7 rfl
theorem dX2_find_12 : decode cX2_find 12 = .ok (.invokevirtual 23, 3) := zdec_at bX2_find_0 8 rfl
theorem dX2_find_15 : decode cX2_find 15 = .ok (.iload_n 2, 1) := zdec_at bX2_find_0 9 rfl
theorem dX2_find_16 : decode cX2_find 16 = .ok (.if_icmp .ne 7, 3) := zdec_at bX2_find_0 10 rfl
theorem dX2_find_19 : decode cX2_find 19 = .ok (.iconst 1, 1) := zdec_at bX2_find_0 11 rfl
theorem dX2_find_20 : decode cX2_find 20 = .ok (.goto 4, 3) := zdec_at bX2_find_0 12 rfl
theorem dX2_find_23 : decode cX2_find 23 = .ok (.iconst 0, 1) := zdec_at bX2_find_0 13 rfl
theorem dX2_find_24 : decode cX2_find 24 = .ok (.istore 4, 2) := zdec_at bX2_find_0 14 rfl
theorem dX2_find_26 : decode cX2_find 26 = .ok (.iconst 0, 1) := zdec_at bX2_find_0 15 rfl
theorem bX2_find_27 : zdec cX2_find 27 [(27, .istore 5, 2), (29, .iload 4, 2), (31, .ifCond .eq 43, 3), (34, .iload 5, 2), (36, .iload_n 2, 1), (37, .if_icmp .ge 37, 3), (40, .aload_n 0, 1), (41, .getfield 15, 3), (44, .aload_n 0, 1), (45, .getfield 9, 3), (48, .iload_n 3, 1), (49, .iaload, 1), (50, .iload 5, 2), (52, .iadd, 1), (53, .baload, 1), (54, .aload_n 1, 1)] = true := by decide +kernel
theorem dX2_find_27 : decode cX2_find 27 = .ok (.istore 5, 2) := zdec_at bX2_find_27 0 rfl
theorem dX2_find_29 : decode cX2_find 29 = .ok (.iload 4, 2) := zdec_at bX2_find_27 1 rfl
theorem dX2_find_31 : decode cX2_find 31 = .ok (.ifCond .eq 43, 3) := zdec_at bX2_find_27 2 rfl
theorem dX2_find_34 : decode cX2_find 34 = .ok (.iload 5, 2) := zdec_at bX2_find_27 3 rfl
theorem dX2_find_36 : decode cX2_find 36 = .ok (.iload_n 2, 1) := zdec_at bX2_find_27 4 rfl
theorem dX2_find_37 : decode cX2_find 37 = .ok (.if_icmp .ge 37, 3) := zdec_at bX2_find_27 5 rfl
theorem dX2_find_40 : decode cX2_find 40 = .ok (.aload_n 0, 1) := zdec_at bX2_find_27 6 rfl
theorem dX2_find_41 : decode cX2_find 41 = .ok (.getfield 15, 3) := zdec_at bX2_find_27 7 rfl
theorem dX2_find_44 : decode cX2_find 44 = .ok (.aload_n 0, 1) := zdec_at bX2_find_27 8 rfl
theorem dX2_find_45 : decode cX2_find 45 = .ok (.getfield 9, 3) := zdec_at bX2_find_27 9 rfl
theorem dX2_find_48 : decode cX2_find 48 = .ok (.iload_n 3, 1) := zdec_at bX2_find_27 10 rfl
theorem dX2_find_49 : decode cX2_find 49 = .ok (.iaload, 1) := zdec_at bX2_find_27 11 rfl
theorem dX2_find_50 : decode cX2_find 50 = .ok (.iload 5, 2) := zdec_at bX2_find_27 12 rfl
theorem dX2_find_52 : decode cX2_find 52 = .ok (.iadd, 1) := zdec_at bX2_find_27 13 rfl
theorem dX2_find_53 : decode cX2_find 53 = .ok (.baload, 1) := zdec_at bX2_find_27 14 rfl
theorem dX2_find_54 : decode cX2_find 54 = .ok (.aload_n 1, 1) := zdec_at bX2_find_27 15 rfl
theorem bX2_find_55 : zdec cX2_find 55 [(55, .iload 5, 2), (57, .baload, 1), (58, .if_icmp .ne 7, 3), (61, .iconst 1, 1), (62, .goto 4, 3), (65, .iconst 0, 1), (66, .istore 4, 2), (68, .iinc 5 1, 3), (71, .goto (-42), 3), (74, .iload 4, 2), (76, .ifCond .eq 5, 3), (79, .iload_n 3, 1), (80, .ireturn, 1), (81, .iinc 3 1, 3), (84, .goto (-82), 3), (87, .iconst (-1), 1)] = true := by decide +kernel
theorem dX2_find_55 : decode cX2_find 55 = .ok (.iload 5, 2) := zdec_at bX2_find_55 0 rfl
theorem dX2_find_57 : decode cX2_find 57 = .ok (.baload, 1) := zdec_at bX2_find_55 1 rfl
theorem dX2_find_58 : decode cX2_find 58 = .ok (.if_icmp .ne 7, 3) := zdec_at bX2_find_55 2 rfl
theorem dX2_find_61 : decode cX2_find 61 = .ok (.iconst 1, 1) := zdec_at bX2_find_55 3 rfl
theorem dX2_find_62 : decode cX2_find 62 = .ok (.goto 4, 3) := zdec_at bX2_find_55 4 rfl
theorem dX2_find_65 : decode cX2_find 65 = .ok (.iconst 0, 1) := zdec_at bX2_find_55 5 rfl
theorem dX2_find_66 : decode cX2_find 66 = .ok (.istore 4, 2) := zdec_at bX2_find_55 6 rfl
theorem dX2_find_68 : decode cX2_find 68 = .ok (.iinc 5 1, 3) := zdec_at bX2_find_55 7 rfl
theorem dX2_find_71 : decode cX2_find 71 = .ok (.goto (-42), 3) := zdec_at bX2_find_55 8 rfl
theorem dX2_find_74 : decode cX2_find 74 = .ok (.iload 4, 2) := zdec_at bX2_find_55 9 rfl
theorem dX2_find_76 : decode cX2_find 76 = .ok (.ifCond .eq 5, 3) := zdec_at bX2_find_55 10 rfl
theorem dX2_find_79 : decode cX2_find 79 = .ok (.iload_n 3, 1) := zdec_at bX2_find_55 11 rfl
theorem dX2_find_80 : decode cX2_find 80 = .ok (.ireturn, 1) := zdec_at bX2_find_55 12 rfl
theorem dX2_find_81 : decode cX2_find 81 = .ok (.iinc 3 1, 3) := zdec_at bX2_find_55 13 rfl
theorem dX2_find_84 : decode cX2_find 84 = .ok (.goto (-82), 3) := zdec_at bX2_find_55 14 rfl
theorem dX2_find_87 : decode cX2_find 87 = .ok (.iconst (-1), 1) := zdec_at bX2_find_55 15 rfl
theorem bX2_find_88 : zdec cX2_find 88 [(88, .ireturn, 1)] = true := by decide +kernel
theorem dX2_find_88 : decode cX2_find 88 = .ok (.ireturn, 1) := zdec_at bX2_find_88 0 rfl
theorem sX2_find_0 {E : zE} {d : Nat} {Q : zO → zM → Prop} (M : zM) (a0 : Nat) (r1 : Option zP) (l2 : Int32) (k : Z E YX2_find (d + 1) M [(0, vr (some (a0, 2, 0))), (1, vr r1), (2, vi l2), (3, vi (0 : Int32))] 2 [] Q) : Z E YX2_find (d + 1) M [(0, vr (some (a0, 2, 0))), (1, vr r1), (2, vi l2)] 0 [] Q := by
  refine z_iconst (v := 0) dX2_find_0 rfl ?_
  refine z_ist_n dX2_find_1 rfl (by decide) (lv' := [(0, vr (some (a0, 2, 0))), (1, vr r1), (2, vi l2), (3, vi (0 : Int32))]) rfl ?_
  exact k
theorem sX2_find_2 {E : zE} {d : Nat} {Q : zO → zM → Prop} (M : zM) (a0 : Nat) (r1 : Option zP) (l2 : Int32) (l3 : Int32) (k : if (gi M a0 2) ≤ l3 then (Q (.inl (some (vi (-1 : Int32)))) M) else (Z E YX2_length d M (zargs 0 [vr (some (a0, 2, 0)), vi l3]) 0 [] (zafter E YX2_find (d + 1) [(0, vr (some (a0, 2, 0))), (1, vr r1), (2, vi l2), (3, vi l3)] 12 3 [] Q))) : Z E YX2_find (d + 1) M [(0, vr (some (a0, 2, 0))), (1, vr r1), (2, vi l2), (3, vi l3)] 2 [] Q := by
  refine z_iload_n dX2_find_2 rfl rfl ?_
  refine z_aload_n dX2_find_3 rfl rfl ?_
  refine z_geti dX2_find_4 fsX2_19_2 ?_
  refine z_icmp_ge (tgt := 87) dX2_find_7 rfl (fun h_ => ?_) (fun h_ => ?_)
  · have k := zit h_ k
    refine z_iconst (v := -1) dX2_find_87 rfl ?_
    exact z_iret dX2_find_88 rfl rfl k
  · have k := zif h_ k
    refine z_aload_n dX2_find_10 rfl rfl ?_
    refine z_iload_n dX2_find_11 rfl rfl ?_
    exact z_callV (as := [vi l3]) (st := []) dX2_find_12 vsX2_23_2 (Nat.le_refl _) (Nat.le_of_ble_eq_true rfl) (Nat.le_of_ble_eq_true rfl) rfl k
theorem sX2_find_15 {E : zE} {d : Nat} {Q : zO → zM → Prop} (M : zM) (a0 : Nat) (r1 : Option zP) (l2 : Int32) (l3 : Int32) (s0 : Int32) (k : if s0 = l2 then (Z E YX2_find (d + 1) M [(0, vr (some (a0, 2, 0))), (1, vr r1), (2, vi l2), (3, vi l3), (4, vi (1 : Int32)), (5, vi (0 : Int32))] 29 [] Q) else (Z E YX2_find (d + 1) M [(0, vr (some (a0, 2, 0))), (1, vr r1), (2, vi l2), (3, vi l3), (4, vi (0 : Int32)), (5, vi (0 : Int32))] 29 [] Q)) : Z E YX2_find (d + 1) M [(0, vr (some (a0, 2, 0))), (1, vr r1), (2, vi l2), (3, vi l3)] 15 [vi s0] Q := by
  refine z_iload_n dX2_find_15 rfl rfl ?_
  refine z_icmp_ne (tgt := 23) dX2_find_16 rfl (fun h_ => ?_) (fun h_ => ?_)
  · have k := zif h_ k
    refine z_iconst (v := 0) dX2_find_23 rfl ?_
    refine z_ist dX2_find_24 (by decide) (lv' := [(0, vr (some (a0, 2, 0))), (1, vr r1), (2, vi l2), (3, vi l3), (4, vi (0 : Int32))]) rfl ?_
    refine z_iconst (v := 0) dX2_find_26 rfl ?_
    refine z_ist dX2_find_27 (by decide) (lv' := [(0, vr (some (a0, 2, 0))), (1, vr r1), (2, vi l2), (3, vi l3), (4, vi (0 : Int32)), (5, vi (0 : Int32))]) rfl ?_
    exact k
  · have k := zit h_ k
    refine z_iconst (v := 1) dX2_find_19 rfl ?_
    refine z_goto (tgt := 24) dX2_find_20 rfl ?_
    refine z_ist dX2_find_24 (by decide) (lv' := [(0, vr (some (a0, 2, 0))), (1, vr r1), (2, vi l2), (3, vi l3), (4, vi (1 : Int32))]) rfl ?_
    refine z_iconst (v := 0) dX2_find_26 rfl ?_
    refine z_ist dX2_find_27 (by decide) (lv' := [(0, vr (some (a0, 2, 0))), (1, vr r1), (2, vi l2), (3, vi l3), (4, vi (1 : Int32)), (5, vi (0 : Int32))]) rfl ?_
    exact k
theorem sX2_find_29 {E : zE} {d : Nat} {Q : zO → zM → Prop} (M : zM) (a0 : Nat) (r1 : Option zP) (l2 : Int32) (l3 : Int32) (l4 : Int32) (l5 : Int32) (k : if l4 = 0 then (if l4 = 0 then (Z E YX2_find (d + 1) M [(0, vr (some (a0, 2, 0))), (1, vr r1), (2, vi l2), (3, vi (l3 + (1 : Int32)))] 2 [] Q) else (Q (.inl (some (vi l3))) M)) else (if l2 ≤ l5 then (if l4 = 0 then (Z E YX2_find (d + 1) M [(0, vr (some (a0, 2, 0))), (1, vr r1), (2, vi l2), (3, vi (l3 + (1 : Int32)))] 2 [] Q) else (Q (.inl (some (vi l3))) M)) else (∃ b1 m1 : Nat, (gr M a0 1) = some (b1, 100, m1) ∧ (vp_in l3 m1 ∧ (∃ b2 m2 : Nat, (gr M a0 0) = some (b2, 101, m2) ∧ (vp_in ((gi M b1 (l3).toNatClampNeg) + l5) m2 ∧ (∃ b3 m3 : Nat, r1 = some (b3, 101, m3) ∧ (vp_in l5 m3 ∧ (if (gi M b2 (((gi M b1 (l3).toNatClampNeg) + l5)).toNatClampNeg) = (gi M b3 (l5).toNatClampNeg) then (Z E YX2_find (d + 1) M [(0, vr (some (a0, 2, 0))), (1, vr (some (b3, 101, m3))), (2, vi l2), (3, vi l3), (4, vi (1 : Int32)), (5, vi (l5 + (1 : Int32)))] 29 [] Q) else (Z E YX2_find (d + 1) M [(0, vr (some (a0, 2, 0))), (1, vr (some (b3, 101, m3))), (2, vi l2), (3, vi l3), (4, vi (0 : Int32)), (5, vi (l5 + (1 : Int32)))] 29 [] Q)))))))))) : Z E YX2_find (d + 1) M [(0, vr (some (a0, 2, 0))), (1, vr r1), (2, vi l2), (3, vi l3), (4, vi l4), (5, vi l5)] 29 [] Q := by
  refine z_iload dX2_find_29 rfl ?_
  refine z_if_eq (tgt := 74) dX2_find_31 rfl (fun h_ => ?_) (fun h_ => ?_)
  · have k := zit h_ k
    refine z_iload dX2_find_74 rfl ?_
    refine z_if_eq (tgt := 81) dX2_find_76 rfl (fun h_ => ?_) (fun h_ => ?_)
    · have k := zit h_ k
      refine z_inc (v := (l3 + (1 : Int32))) dX2_find_81 rfl rfl (by decide) (lv' := [(0, vr (some (a0, 2, 0))), (1, vr r1), (2, vi l2), (3, vi (l3 + (1 : Int32))), (4, vi l4), (5, vi l5)]) rfl ?_
      refine z_goto (tgt := 2) dX2_find_84 rfl ?_
      refine Z.pick [0, 1, 2, 3] rfl ?_
      exact k
    · have k := zif h_ k
      refine z_iload_n dX2_find_79 rfl rfl ?_
      exact z_iret dX2_find_80 rfl rfl k
  · have k := zif h_ k
    refine z_iload dX2_find_34 rfl ?_
    refine z_iload_n dX2_find_36 rfl rfl ?_
    refine z_icmp_ge (tgt := 74) dX2_find_37 rfl (fun h_ => ?_) (fun h_ => ?_)
    · have k := zit h_ k
      refine z_iload dX2_find_74 rfl ?_
      refine z_if_eq (tgt := 81) dX2_find_76 rfl (fun h_ => ?_) (fun h_ => ?_)
      · have k := zit h_ k
        refine z_inc (v := (l3 + (1 : Int32))) dX2_find_81 rfl rfl (by decide) (lv' := [(0, vr (some (a0, 2, 0))), (1, vr r1), (2, vi l2), (3, vi (l3 + (1 : Int32))), (4, vi l4), (5, vi l5)]) rfl ?_
        refine z_goto (tgt := 2) dX2_find_84 rfl ?_
        refine Z.pick [0, 1, 2, 3] rfl ?_
        exact k
      · have k := zif h_ k
        refine z_iload_n dX2_find_79 rfl rfl ?_
        exact z_iret dX2_find_80 rfl rfl k
    · have k := zif h_ k
      refine z_aload_n dX2_find_40 rfl rfl ?_
      refine z_getr (r := (gr M a0 0)) dX2_find_41 fsX2_15_2 rfl ?_
      refine z_aload_n dX2_find_44 rfl rfl ?_
      refine z_getr (r := (gr M a0 1)) dX2_find_45 fsX2_9_2 rfl ?_
      refine z_iload_n dX2_find_48 rfl rfl ?_
      obtain ⟨b1, m1, e1_, k⟩ := k
      refine Z.eqs (lv' := [(0, vr (some (a0, 2, 0))), (1, vr r1), (2, vi l2), (3, vi l3), (4, vi l4), (5, vi l5)]) (st' := [vi l3, vr (some (b1, 100, m1)), vr (gr M a0 0)]) rfl (by rw [e1_] <;> rfl) ?_
      obtain ⟨b_, k⟩ := k
      refine z_iald dX2_find_49 b_ ?_
      refine z_iload dX2_find_50 rfl ?_
      refine z_iadd dX2_find_52 ?_
      obtain ⟨b2, m2, e2_, k⟩ := k
      refine Z.eqs (lv' := [(0, vr (some (a0, 2, 0))), (1, vr r1), (2, vi l2), (3, vi l3), (4, vi l4), (5, vi l5)]) (st' := [vi ((gi M b1 (l3).toNatClampNeg) + l5), vr (some (b2, 101, m2))]) rfl (by rw [e2_] <;> rfl) ?_
      obtain ⟨b_, k⟩ := k
      refine z_bald dX2_find_53 b_ ?_
      refine z_aload_n dX2_find_54 rfl rfl ?_
      refine z_iload dX2_find_55 rfl ?_
      obtain ⟨b3, m3, e3_, k⟩ := k
      refine Z.eqs (lv' := [(0, vr (some (a0, 2, 0))), (1, vr (some (b3, 101, m3))), (2, vi l2), (3, vi l3), (4, vi l4), (5, vi l5)]) (st' := [vi l5, vr (some (b3, 101, m3)), vi (gi M b2 (((gi M b1 (l3).toNatClampNeg) + l5)).toNatClampNeg)]) (by rw [e3_] <;> rfl) (by rw [e3_] <;> rfl) ?_
      obtain ⟨b_, k⟩ := k
      refine z_bald dX2_find_57 b_ ?_
      refine z_icmp_ne (tgt := 65) dX2_find_58 rfl (fun h_ => ?_) (fun h_ => ?_)
      · have k := zif h_ k
        refine z_iconst (v := 0) dX2_find_65 rfl ?_
        refine z_ist dX2_find_66 (by decide) (lv' := [(0, vr (some (a0, 2, 0))), (1, vr (some (b3, 101, m3))), (2, vi l2), (3, vi l3), (4, vi (0 : Int32)), (5, vi l5)]) rfl ?_
        refine z_inc (v := (l5 + (1 : Int32))) dX2_find_68 rfl rfl (by decide) (lv' := [(0, vr (some (a0, 2, 0))), (1, vr (some (b3, 101, m3))), (2, vi l2), (3, vi l3), (4, vi (0 : Int32)), (5, vi (l5 + (1 : Int32)))]) rfl ?_
        refine z_goto (tgt := 29) dX2_find_71 rfl ?_
        exact k
      · have k := zit h_ k
        refine z_iconst (v := 1) dX2_find_61 rfl ?_
        refine z_goto (tgt := 66) dX2_find_62 rfl ?_
        refine z_ist dX2_find_66 (by decide) (lv' := [(0, vr (some (a0, 2, 0))), (1, vr (some (b3, 101, m3))), (2, vi l2), (3, vi l3), (4, vi (1 : Int32)), (5, vi l5)]) rfl ?_
        refine z_inc (v := (l5 + (1 : Int32))) dX2_find_68 rfl rfl (by decide) (lv' := [(0, vr (some (a0, 2, 0))), (1, vr (some (b3, 101, m3))), (2, vi l2), (3, vi l3), (4, vi (1 : Int32)), (5, vi (l5 + (1 : Int32)))]) rfl ?_
        refine z_goto (tgt := 29) dX2_find_71 rfl ?_
        exact k
/-! ScriptTypes$Texts.length(I)I -/
theorem bX2_length_0 : zdec cX2_length 0 [(0, .aload_n 0, 1), (1, .getfield 9, 3), (4, .iload_n 1, 1), (5, .iconst 1, 1), (6, .iadd, 1), (7, .iaload, 1), (8, .aload_n 0, 1), (9, .getfield 9, 3), (12, .iload_n 1, 1), (13, .iaload, 1), (14, .isub, 1), (15, .ireturn, 1)] = true := by decide +kernel
theorem dX2_length_0 : decode cX2_length 0 = .ok (.aload_n 0, 1) := zdec_at bX2_length_0 0 rfl
theorem dX2_length_1 : decode cX2_length 1 = .ok (.getfield 9, 3) := zdec_at bX2_length_0 1 rfl
theorem dX2_length_4 : decode cX2_length 4 = .ok (.iload_n 1, 1) := zdec_at bX2_length_0 2 rfl
theorem dX2_length_5 : decode cX2_length 5 = .ok (.iconst 1, 1) := zdec_at bX2_length_0 3 rfl
theorem dX2_length_6 : decode cX2_length 6 = .ok (.iadd, 1) := zdec_at bX2_length_0 4 rfl
theorem dX2_length_7 : decode cX2_length 7 = .ok (.iaload, 1) := zdec_at bX2_length_0 5 rfl
theorem dX2_length_8 : decode cX2_length 8 = .ok (.aload_n 0, 1) := zdec_at bX2_length_0 6 rfl
theorem dX2_length_9 : decode cX2_length 9 = .ok (.getfield 9, 3) := zdec_at bX2_length_0 7 rfl
theorem dX2_length_12 : decode cX2_length 12 = .ok (.iload_n 1, 1) := zdec_at bX2_length_0 8 rfl
theorem dX2_length_13 : decode cX2_length 13 = .ok (.iaload, 1) := zdec_at bX2_length_0 9 rfl
theorem dX2_length_14 : decode cX2_length 14 = .ok (.isub, 1) := zdec_at bX2_length_0 10 rfl
theorem dX2_length_15 : decode cX2_length 15 = .ok (.ireturn, 1) := zdec_at bX2_length_0 11 rfl
theorem sX2_length_0 {E : zE} {d : Nat} {Q : zO → zM → Prop} (M : zM) (a0 : Nat) (l1 : Int32) (k : ∃ b1 m1 : Nat, (gr M a0 1) = some (b1, 100, m1) ∧ (vp_in (l1 + (1 : Int32)) m1 ∧ (∃ b2 m2 : Nat, (gr M a0 1) = some (b2, 100, m2) ∧ (vp_in l1 m2 ∧ (Q (.inl (some (vi ((gi M b1 ((l1 + (1 : Int32))).toNatClampNeg) - (gi M b2 (l1).toNatClampNeg))))) M))))) : Z E YX2_length d M [(0, vr (some (a0, 2, 0))), (1, vi l1)] 0 [] Q := by
  refine z_aload_n dX2_length_0 rfl rfl ?_
  refine z_getr (r := (gr M a0 1)) dX2_length_1 fsX2_9_2 rfl ?_
  refine z_iload_n dX2_length_4 rfl rfl ?_
  refine z_iconst (v := 1) dX2_length_5 rfl ?_
  refine z_iadd dX2_length_6 ?_
  obtain ⟨b1, m1, e1_, k⟩ := k
  refine Z.eqs (lv' := [(0, vr (some (a0, 2, 0))), (1, vi l1)]) (st' := [vi (l1 + (1 : Int32)), vr (some (b1, 100, m1))]) rfl (by rw [e1_] <;> rfl) ?_
  obtain ⟨b_, k⟩ := k
  refine z_iald dX2_length_7 b_ ?_
  refine z_aload_n dX2_length_8 rfl rfl ?_
  refine z_getr (r := (gr M a0 1)) dX2_length_9 fsX2_9_2 rfl ?_
  refine z_iload_n dX2_length_12 rfl rfl ?_
  obtain ⟨b2, m2, e2_, k⟩ := k
  refine Z.eqs (lv' := [(0, vr (some (a0, 2, 0))), (1, vi l1)]) (st' := [vi l1, vr (some (b2, 100, m2)), vi (gi M b1 ((l1 + (1 : Int32))).toNatClampNeg)]) rfl (by rw [e2_] <;> rfl) ?_
  obtain ⟨b_, k⟩ := k
  refine z_iald dX2_length_13 b_ ?_
  refine z_isub dX2_length_14 ?_
  exact z_iret dX2_length_15 rfl rfl k
/-! ScriptTypes$Texts.sign(II)I -/
theorem bX2_sign_0 : zdec cX2_sign 0 [(0, .aload_n 0, 1), (1, .getfield 15, 3), (4, .aload_n 0, 1), (5, .getfield 9, 3), (8, .iload_n 1, 1), (9, .iaload, 1), (10, .iload_n 2, 1), (11, .iadd, 1), (12, .baload, 1), (13, .ireturn, 1)] = true := by decide +kernel
theorem dX2_sign_0 : decode cX2_sign 0 = .ok (.aload_n 0, 1) := zdec_at bX2_sign_0 0 rfl
theorem dX2_sign_1 : decode cX2_sign 1 = .ok (.getfield 15, 3) := zdec_at bX2_sign_0 1 rfl
theorem dX2_sign_4 : decode cX2_sign 4 = .ok (.aload_n 0, 1) := zdec_at bX2_sign_0 2 rfl
theorem dX2_sign_5 : decode cX2_sign 5 = .ok (.getfield 9, 3) := zdec_at bX2_sign_0 3 rfl
theorem dX2_sign_8 : decode cX2_sign 8 = .ok (.iload_n 1, 1) := zdec_at bX2_sign_0 4 rfl
theorem dX2_sign_9 : decode cX2_sign 9 = .ok (.iaload, 1) := zdec_at bX2_sign_0 5 rfl
theorem dX2_sign_10 : decode cX2_sign 10 = .ok (.iload_n 2, 1) := zdec_at bX2_sign_0 6 rfl
theorem dX2_sign_11 : decode cX2_sign 11 = .ok (.iadd, 1) := zdec_at bX2_sign_0 7 rfl
theorem dX2_sign_12 : decode cX2_sign 12 = .ok (.baload, 1) := zdec_at bX2_sign_0 8 rfl
theorem dX2_sign_13 : decode cX2_sign 13 = .ok (.ireturn, 1) := zdec_at bX2_sign_0 9 rfl
theorem sX2_sign_0 {E : zE} {d : Nat} {Q : zO → zM → Prop} (M : zM) (a0 : Nat) (l1 : Int32) (l2 : Int32) (k : ∃ b1 m1 : Nat, (gr M a0 1) = some (b1, 100, m1) ∧ (vp_in l1 m1 ∧ (∃ b2 m2 : Nat, (gr M a0 0) = some (b2, 101, m2) ∧ (vp_in ((gi M b1 (l1).toNatClampNeg) + l2) m2 ∧ (Q (.inl (some (vi (gi M b2 (((gi M b1 (l1).toNatClampNeg) + l2)).toNatClampNeg)))) M))))) : Z E YX2_sign d M [(0, vr (some (a0, 2, 0))), (1, vi l1), (2, vi l2)] 0 [] Q := by
  refine z_aload_n dX2_sign_0 rfl rfl ?_
  refine z_getr (r := (gr M a0 0)) dX2_sign_1 fsX2_15_2 rfl ?_
  refine z_aload_n dX2_sign_4 rfl rfl ?_
  refine z_getr (r := (gr M a0 1)) dX2_sign_5 fsX2_9_2 rfl ?_
  refine z_iload_n dX2_sign_8 rfl rfl ?_
  obtain ⟨b1, m1, e1_, k⟩ := k
  refine Z.eqs (lv' := [(0, vr (some (a0, 2, 0))), (1, vi l1), (2, vi l2)]) (st' := [vi l1, vr (some (b1, 100, m1)), vr (gr M a0 0)]) rfl (by rw [e1_] <;> rfl) ?_
  obtain ⟨b_, k⟩ := k
  refine z_iald dX2_sign_9 b_ ?_
  refine z_iload_n dX2_sign_10 rfl rfl ?_
  refine z_iadd dX2_sign_11 ?_
  obtain ⟨b2, m2, e2_, k⟩ := k
  refine Z.eqs (lv' := [(0, vr (some (a0, 2, 0))), (1, vi l1), (2, vi l2)]) (st' := [vi ((gi M b1 (l1).toNatClampNeg) + l2), vr (some (b2, 101, m2))]) rfl (by rw [e2_] <;> rfl) ?_
  obtain ⟨b_, k⟩ := k
  refine z_bald dX2_sign_12 b_ ?_
  exact z_iret dX2_sign_13 rfl rfl k
/-! ScriptTypes$NoRoom.<init>()V -/
theorem bX4_init_0 : zdec cX4_init 0 [(0, .aload_n 0, 1), (1, .aconst_null, 1), (2, .aconst_null, 1), (3, .iconst 0, 1), (4, .iconst 0, 1), (5, .invokespecial 1, 3), (8, .return_, 1)] = true := by decide +kernel
theorem dX4_init_0 : decode cX4_init 0 = .ok (.aload_n 0, 1) := zdec_at bX4_init_0 0 rfl
theorem dX4_init_1 : decode cX4_init 1 = .ok (.aconst_null, 1) := zdec_at bX4_init_0 1 rfl
theorem dX4_init_2 : decode cX4_init 2 = .ok (.aconst_null, 1) := zdec_at bX4_init_0 2 rfl
theorem dX4_init_3 : decode cX4_init 3 = .ok (.iconst 0, 1) := zdec_at bX4_init_0 3 rfl
theorem dX4_init_4 : decode cX4_init 4 = .ok (.iconst 0, 1) := zdec_at bX4_init_0 4 rfl
theorem dX4_init_5 : decode cX4_init 5 = .ok (.invokespecial 1, 3) := zdec_at bX4_init_0 5 rfl
theorem dX4_init_8 : decode cX4_init 8 = .ok (.return_, 1) := zdec_at bX4_init_0 6 rfl
theorem sX4_init_0 {E : zE} {d : Nat} {Q : zO → zM → Prop} (M : zM) (a0 : Nat) (k : Z E YJ5_init d M (zargs 0 [vr (some (a0, 13, 0)), vr none, vr none, vi (0 : Int32), vi (0 : Int32)]) 0 [] (zafter E YX4_init (d + 1) [] 5 3 [] Q)) : Z E YX4_init (d + 1) M [(0, vr (some (a0, 13, 0)))] 0 [] Q := by
  refine z_aload_n dX4_init_0 rfl rfl ?_
  refine z_null dX4_init_1 ?_
  refine z_null dX4_init_2 ?_
  refine z_iconst (v := 0) dX4_init_3 rfl ?_
  refine z_iconst (v := 0) dX4_init_4 rfl ?_
  refine Z.pick [] rfl ?_
  exact z_callI (as := [vr none, vr none, vi (0 : Int32), vi (0 : Int32)]) (st := []) dX4_init_5 isX4_1 (Nat.le_refl _) (Nat.le_of_ble_eq_true rfl) (Nat.le_of_ble_eq_true rfl) rfl k
theorem sX4_init_8 {E : zE} {d : Nat} {Q : zO → zM → Prop} (M : zM)  (k : Q (.inl none) M) : Z E YX4_init (d + 1) M [] 8 [] Q := by
  exact z_vret dX4_init_8 rfl k
/-! ScriptTypes$Thrown.<init>()V -/
theorem bX5_init_0 : zdec cX5_init 0 [(0, .aload_n 0, 1), (1, .aconst_null, 1), (2, .aconst_null, 1), (3, .iconst 0, 1), (4, .iconst 0, 1), (5, .invokespecial 1, 3), (8, .return_, 1)] = true := by decide +kernel
theorem dX5_init_0 : decode cX5_init 0 = .ok (.aload_n 0, 1) := zdec_at bX5_init_0 0 rfl
theorem dX5_init_1 : decode cX5_init 1 = .ok (.aconst_null, 1) := zdec_at bX5_init_0 1 rfl
theorem dX5_init_2 : decode cX5_init 2 = .ok (.aconst_null, 1) := zdec_at bX5_init_0 2 rfl
theorem dX5_init_3 : decode cX5_init 3 = .ok (.iconst 0, 1) := zdec_at bX5_init_0 3 rfl
theorem dX5_init_4 : decode cX5_init 4 = .ok (.iconst 0, 1) := zdec_at bX5_init_0 4 rfl
theorem dX5_init_5 : decode cX5_init 5 = .ok (.invokespecial 1, 3) := zdec_at bX5_init_0 5 rfl
theorem dX5_init_8 : decode cX5_init 8 = .ok (.return_, 1) := zdec_at bX5_init_0 6 rfl
theorem sX5_init_0 {E : zE} {d : Nat} {Q : zO → zM → Prop} (M : zM) (a0 : Nat) (k : Z E YJ5_init d M (zargs 0 [vr (some (a0, 14, 0)), vr none, vr none, vi (0 : Int32), vi (0 : Int32)]) 0 [] (zafter E YX5_init (d + 1) [] 5 3 [] Q)) : Z E YX5_init (d + 1) M [(0, vr (some (a0, 14, 0)))] 0 [] Q := by
  refine z_aload_n dX5_init_0 rfl rfl ?_
  refine z_null dX5_init_1 ?_
  refine z_null dX5_init_2 ?_
  refine z_iconst (v := 0) dX5_init_3 rfl ?_
  refine z_iconst (v := 0) dX5_init_4 rfl ?_
  refine Z.pick [] rfl ?_
  exact z_callI (as := [vr none, vr none, vi (0 : Int32), vi (0 : Int32)]) (st := []) dX5_init_5 isX5_1 (Nat.le_refl _) (Nat.le_of_ble_eq_true rfl) (Nat.le_of_ble_eq_true rfl) rfl k
theorem sX5_init_8 {E : zE} {d : Nat} {Q : zO → zM → Prop} (M : zM)  (k : Q (.inl none) M) : Z E YX5_init (d + 1) M [] 8 [] Q := by
  exact z_vret dX5_init_8 rfl k
/-! ScriptTypes$Fault.<init>(I)V -/
theorem bX12_init_0 : zdec cX12_init 0 [(0, .aload_n 0, 1), (1, .aconst_null, 1), (2, .aconst_null, 1), (3, .iconst 0, 1), (4, .iconst 0, 1), (5, .invokespecial 1, 3), (8, .aload_n 0, 1), (9, .iload_n 1, 1), (10, .putfield 7, 3), (13, .return_, 1)] = true := by decide +kernel
theorem dX12_init_0 : decode cX12_init 0 = .ok (.aload_n 0, 1) := zdec_at bX12_init_0 0 rfl
theorem dX12_init_1 : decode cX12_init 1 = .ok (.aconst_null, 1) := zdec_at bX12_init_0 1 rfl
theorem dX12_init_2 : decode cX12_init 2 = .ok (.aconst_null, 1) := zdec_at bX12_init_0 2 rfl
theorem dX12_init_3 : decode cX12_init 3 = .ok (.iconst 0, 1) := zdec_at bX12_init_0 3 rfl
theorem dX12_init_4 : decode cX12_init 4 = .ok (.iconst 0, 1) := zdec_at bX12_init_0 4 rfl
theorem dX12_init_5 : decode cX12_init 5 = .ok (.invokespecial 1, 3) := zdec_at bX12_init_0 5 rfl
theorem dX12_init_8 : decode cX12_init 8 = .ok (.aload_n 0, 1) := zdec_at bX12_init_0 6 rfl
theorem dX12_init_9 : decode cX12_init 9 = .ok (.iload_n 1, 1) := zdec_at bX12_init_0 7 rfl
theorem dX12_init_10 : decode cX12_init 10 = .ok (.putfield 7, 3) := zdec_at bX12_init_0 8 rfl
theorem dX12_init_13 : decode cX12_init 13 = .ok (.return_, 1) := zdec_at bX12_init_0 9 rfl
theorem sX12_init_0 {E : zE} {d : Nat} {Q : zO → zM → Prop} (M : zM) (a0 : Nat) (l1 : Int32) (k : Z E YJ5_init d M (zargs 0 [vr (some (a0, 12, 0)), vr none, vr none, vi (0 : Int32), vi (0 : Int32)]) 0 [] (zafter E YX12_init (d + 1) [(0, vr (some (a0, 12, 0))), (1, vi l1)] 5 3 [] Q)) : Z E YX12_init (d + 1) M [(0, vr (some (a0, 12, 0))), (1, vi l1)] 0 [] Q := by
  refine z_aload_n dX12_init_0 rfl rfl ?_
  refine z_null dX12_init_1 ?_
  refine z_null dX12_init_2 ?_
  refine z_iconst (v := 0) dX12_init_3 rfl ?_
  refine z_iconst (v := 0) dX12_init_4 rfl ?_
  exact z_callI (as := [vr none, vr none, vi (0 : Int32), vi (0 : Int32)]) (st := []) dX12_init_5 isX12_1 (Nat.le_refl _) (Nat.le_of_ble_eq_true rfl) (Nat.le_of_ble_eq_true rfl) rfl k
theorem sX12_init_8 {E : zE} {d : Nat} {Q : zO → zM → Prop} (M : zM) (a0 : Nat) (l1 : Int32) (k : 16 ≤ a0 ∧ (Q (.inl none) (si M a0 6 l1))) : Z E YX12_init (d + 1) M [(0, vr (some (a0, 12, 0))), (1, vi l1)] 8 [] Q := by
  refine z_aload_n dX12_init_8 rfl rfl ?_
  refine z_iload_n dX12_init_9 rfl rfl ?_
  obtain ⟨g_, k⟩ := k
  refine z_puti g_ dX12_init_10 (zfwN.f fwX12_7_12 rfl (fun q h => by rw [← Option.some.inj h]; rfl)) rfl ⟨rfl, rfl⟩ ?_
  exact z_vret dX12_init_13 rfl k
/-! ScriptTypes.<init>()V -/
theorem bX1_init_0 : zdec cX1_init 0 [(0, .aload_n 0, 1), (1, .invokespecial 61, 3), (4, .aload_n 0, 1), (5, .new 24, 3), (8, .dup, 1), (9, .sipush 2200, 3), (12, .ldc 66, 2), (14, .invokespecial 67, 3), (17, .putfield 19, 3), (20, .aload_n 0, 1), (21, .sipush 256, 3), (24, .newarray .byte, 2), (26, .putfield 7, 3), (29, .aload_n 0, 1), (30, .sipush 4000, 3), (33, .newarray .byte, 2)] = true := by decide +kernel
theorem dX1_init_0 : decode cX1_init 0 = .ok (.aload_n 0, 1) := zdec_at bX1_init_0 0 rfl
theorem dX1_init_1 : decode cX1_init 1 = .ok (.invokespecial 61, 3) := zdec_at bX1_init_0 1 rfl
theorem dX1_init_4 : decode cX1_init 4 = .ok (.aload_n 0, 1) := zdec_at bX1_init_0 2 rfl
theorem dX1_init_5 : decode cX1_init 5 = .ok (.new 24, 3) := zdec_at bX1_init_0 3 rfl
theorem dX1_init_8 : decode cX1_init 8 = .ok (.dup, 1) := zdec_at bX1_init_0 4 rfl
theorem dX1_init_9 : decode cX1_init 9 = .ok (.sipush 2200, 3) := zdec_at bX1_init_0 5 rfl
theorem dX1_init_12 : decode cX1_init 12 = .ok (.ldc 66, 2) := zdec_at bX1_init_0 6 rfl
theorem dX1_init_14 : decode cX1_init 14 = .ok (.invokespecial 67, 3) := zdec_at bX1_init_0 7 rfl
theorem dX1_init_17 : decode cX1_init 17 = .ok (.putfield 19, 3) := zdec_at bX1_init_0 8 rfl
theorem dX1_init_20 : decode cX1_init 20 = .ok (.aload_n 0, 1) := zdec_at bX1_init_0 9 rfl
theorem dX1_init_21 : decode cX1_init 21 = .ok (.sipush 256, 3) := zdec_at bX1_init_0 10 rfl
theorem dX1_init_24 : decode cX1_init 24 = .ok (.newarray .byte, 2) := zdec_at bX1_init_0 11 rfl
theorem dX1_init_26 : decode cX1_init 26 = .ok (.putfield 7, 3) := zdec_at bX1_init_0 12 rfl
theorem dX1_init_29 : decode cX1_init 29 = .ok (.aload_n 0, 1) := zdec_at bX1_init_0 13 rfl
theorem dX1_init_30 : decode cX1_init 30 = .ok (.sipush 4000, 3) := zdec_at bX1_init_0 14 rfl
theorem dX1_init_33 : decode cX1_init 33 = .ok (.newarray .byte, 2) := zdec_at bX1_init_0 15 rfl
theorem bX1_init_35 : zdec cX1_init 35 [(35, .putfield 70, 3), (38, .aload_n 0, 1), (39, .new 24, 3), (42, .dup, 1), (43, .bipush 40, 2), (45, .sipush 400, 3), (48, .invokespecial 67, 3), (51, .putfield 73, 3), (54, .aload_n 0, 1), (55, .new 24, 3), (58, .dup, 1), (59, .bipush 60, 2), (61, .sipush 200, 3), (64, .invokespecial 67, 3), (67, .putfield 76, 3), (70, .aload_n 0, 1)] = true := by decide +kernel
theorem dX1_init_35 : decode cX1_init 35 = .ok (.putfield 70, 3) := zdec_at bX1_init_35 0 rfl
theorem dX1_init_38 : decode cX1_init 38 = .ok (.aload_n 0, 1) := zdec_at bX1_init_35 1 rfl
theorem dX1_init_39 : decode cX1_init 39 = .ok (.new 24, 3) := zdec_at bX1_init_35 2 rfl
theorem dX1_init_42 : decode cX1_init 42 = .ok (.dup, 1) := zdec_at bX1_init_35 3 rfl
theorem dX1_init_43 : decode cX1_init 43 = .ok (.bipush 40, 2) := zdec_at bX1_init_35 4 rfl
theorem dX1_init_45 : decode cX1_init 45 = .ok (.sipush 400, 3) := zdec_at bX1_init_35 5 rfl
theorem dX1_init_48 : decode cX1_init 48 = .ok (.invokespecial 67, 3) := zdec_at bX1_init_35 6 rfl
theorem dX1_init_51 : decode cX1_init 51 = .ok (.putfield 73, 3) := zdec_at bX1_init_35 7 rfl
theorem dX1_init_54 : decode cX1_init 54 = .ok (.aload_n 0, 1) := zdec_at bX1_init_35 8 rfl
theorem dX1_init_55 : decode cX1_init 55 = .ok (.new 24, 3) := zdec_at bX1_init_35 9 rfl
theorem dX1_init_58 : decode cX1_init 58 = .ok (.dup, 1) := zdec_at bX1_init_35 10 rfl
theorem dX1_init_59 : decode cX1_init 59 = .ok (.bipush 60, 2) := zdec_at bX1_init_35 11 rfl
theorem dX1_init_61 : decode cX1_init 61 = .ok (.sipush 200, 3) := zdec_at bX1_init_35 12 rfl
theorem dX1_init_64 : decode cX1_init 64 = .ok (.invokespecial 67, 3) := zdec_at bX1_init_35 13 rfl
theorem dX1_init_67 : decode cX1_init 67 = .ok (.putfield 76, 3) := zdec_at bX1_init_35 14 rfl
theorem dX1_init_70 : decode cX1_init 70 = .ok (.aload_n 0, 1) := zdec_at bX1_init_35 15 rfl
theorem bX1_init_71 : zdec cX1_init 71 [(71, .new 79, 3), (74, .dup, 1), (75, .invokespecial 81, 3), (78, .putfield 82, 3), (81, .aload_n 0, 1), (82, .new 86, 3), (85, .dup, 1), (86, .invokespecial 88, 3), (89, .putfield 89, 3), (92, .aload_n 0, 1), (93, .sipush 300, 3), (96, .newarray .byte, 2), (98, .putfield 93, 3), (101, .aload_n 0, 1), (102, .sipush 300, 3), (105, .newarray .byte, 2)] = true := by decide +kernel
theorem dX1_init_71 : decode cX1_init 71 = .ok (.new 79, 3) := zdec_at bX1_init_71 0 rfl
theorem dX1_init_74 : decode cX1_init 74 = .ok (.dup, 1) := zdec_at bX1_init_71 1 rfl
theorem dX1_init_75 : decode cX1_init 75 = .ok (.invokespecial 81, 3) := zdec_at bX1_init_71 2 rfl
theorem dX1_init_78 : decode cX1_init 78 = .ok (.putfield 82, 3) := zdec_at bX1_init_71 3 rfl
theorem dX1_init_81 : decode cX1_init 81 = .ok (.aload_n 0, 1) := zdec_at bX1_init_71 4 rfl
theorem dX1_init_82 : decode cX1_init 82 = .ok (.new 86, 3) := zdec_at bX1_init_71 5 rfl
theorem dX1_init_85 : decode cX1_init 85 = .ok (.dup, 1) := zdec_at bX1_init_71 6 rfl
theorem dX1_init_86 : decode cX1_init 86 = .ok (.invokespecial 88, 3) := zdec_at bX1_init_71 7 rfl
theorem dX1_init_89 : decode cX1_init 89 = .ok (.putfield 89, 3) := zdec_at bX1_init_71 8 rfl
theorem dX1_init_92 : decode cX1_init 92 = .ok (.aload_n 0, 1) := zdec_at bX1_init_71 9 rfl
theorem dX1_init_93 : decode cX1_init 93 = .ok (.sipush 300, 3) := zdec_at bX1_init_71 10 rfl
theorem dX1_init_96 : decode cX1_init 96 = .ok (.newarray .byte, 2) := zdec_at bX1_init_71 11 rfl
theorem dX1_init_98 : decode cX1_init 98 = .ok (.putfield 93, 3) := zdec_at bX1_init_71 12 rfl
theorem dX1_init_101 : decode cX1_init 101 = .ok (.aload_n 0, 1) := zdec_at bX1_init_71 13 rfl
theorem dX1_init_102 : decode cX1_init 102 = .ok (.sipush 300, 3) := zdec_at bX1_init_71 14 rfl
theorem dX1_init_105 : decode cX1_init 105 = .ok (.newarray .byte, 2) := zdec_at bX1_init_71 15 rfl
theorem bX1_init_107 : zdec cX1_init 107 [(107, .putfield 96, 3), (110, .aload_n 0, 1), (111, .sipush 300, 3), (114, .newarray .short, 2), (116, .putfield 99, 3), (119, .aload_n 0, 1), (120, .sipush 300, 3), (123, .newarray .short, 2), (125, .putfield 103, 3), (128, .aload_n 0, 1), (129, .sipush 300, 3), (132, .newarray .short, 2), (134, .putfield 106, 3), (137, .aload_n 0, 1), (138, .sipush 300, 3), (141, .newarray .short, 2)] = true := by decide +kernel
theorem dX1_init_107 : decode cX1_init 107 = .ok (.putfield 96, 3) := zdec_at bX1_init_107 0 rfl
theorem dX1_init_110 : decode cX1_init 110 = .ok (.aload_n 0, 1) := zdec_at bX1_init_107 1 rfl
theorem dX1_init_111 : decode cX1_init 111 = .ok (.sipush 300, 3) := zdec_at bX1_init_107 2 rfl
theorem dX1_init_114 : decode cX1_init 114 = .ok (.newarray .short, 2) := zdec_at bX1_init_107 3 rfl
theorem dX1_init_116 : decode cX1_init 116 = .ok (.putfield 99, 3) := zdec_at bX1_init_107 4 rfl
theorem dX1_init_119 : decode cX1_init 119 = .ok (.aload_n 0, 1) := zdec_at bX1_init_107 5 rfl
theorem dX1_init_120 : decode cX1_init 120 = .ok (.sipush 300, 3) := zdec_at bX1_init_107 6 rfl
theorem dX1_init_123 : decode cX1_init 123 = .ok (.newarray .short, 2) := zdec_at bX1_init_107 7 rfl
theorem dX1_init_125 : decode cX1_init 125 = .ok (.putfield 103, 3) := zdec_at bX1_init_107 8 rfl
theorem dX1_init_128 : decode cX1_init 128 = .ok (.aload_n 0, 1) := zdec_at bX1_init_107 9 rfl
theorem dX1_init_129 : decode cX1_init 129 = .ok (.sipush 300, 3) := zdec_at bX1_init_107 10 rfl
theorem dX1_init_132 : decode cX1_init 132 = .ok (.newarray .short, 2) := zdec_at bX1_init_107 11 rfl
theorem dX1_init_134 : decode cX1_init 134 = .ok (.putfield 106, 3) := zdec_at bX1_init_107 12 rfl
theorem dX1_init_137 : decode cX1_init 137 = .ok (.aload_n 0, 1) := zdec_at bX1_init_107 13 rfl
theorem dX1_init_138 : decode cX1_init 138 = .ok (.sipush 300, 3) := zdec_at bX1_init_107 14 rfl
theorem dX1_init_141 : decode cX1_init 141 = .ok (.newarray .short, 2) := zdec_at bX1_init_107 15 rfl
theorem bX1_init_143 : zdec cX1_init 143 [(143, .putfield 109, 3), (146, .aload_n 0, 1), (147, .sipush 300, 3), (150, .newarray .short, 2), (152, .putfield 112, 3), (155, .aload_n 0, 1), (156, .sipush 160, 3), (159, .newarray .short, 2), (161, .putfield 115, 3), (164, .aload_n 0, 1), (165, .sipush 3000, 3), (168, .newarray .short, 2), (170, .putfield 118, 3), (173, .aload_n 0, 1), (174, .sipush 3000, 3), (177, .newarray .short, 2)] = true := by decide +kernel
theorem dX1_init_143 : decode cX1_init 143 = .ok (.putfield 109, 3) := zdec_at bX1_init_143 0 rfl
theorem dX1_init_146 : decode cX1_init 146 = .ok (.aload_n 0, 1) := zdec_at bX1_init_143 1 rfl
theorem dX1_init_147 : decode cX1_init 147 = .ok (.sipush 300, 3) := zdec_at bX1_init_143 2 rfl
theorem dX1_init_150 : decode cX1_init 150 = .ok (.newarray .short, 2) := zdec_at bX1_init_143 3 rfl
theorem dX1_init_152 : decode cX1_init 152 = .ok (.putfield 112, 3) := zdec_at bX1_init_143 4 rfl
theorem dX1_init_155 : decode cX1_init 155 = .ok (.aload_n 0, 1) := zdec_at bX1_init_143 5 rfl
theorem dX1_init_156 : decode cX1_init 156 = .ok (.sipush 160, 3) := zdec_at bX1_init_143 6 rfl
theorem dX1_init_159 : decode cX1_init 159 = .ok (.newarray .short, 2) := zdec_at bX1_init_143 7 rfl
theorem dX1_init_161 : decode cX1_init 161 = .ok (.putfield 115, 3) := zdec_at bX1_init_143 8 rfl
theorem dX1_init_164 : decode cX1_init 164 = .ok (.aload_n 0, 1) := zdec_at bX1_init_143 9 rfl
theorem dX1_init_165 : decode cX1_init 165 = .ok (.sipush 3000, 3) := zdec_at bX1_init_143 10 rfl
theorem dX1_init_168 : decode cX1_init 168 = .ok (.newarray .short, 2) := zdec_at bX1_init_143 11 rfl
theorem dX1_init_170 : decode cX1_init 170 = .ok (.putfield 118, 3) := zdec_at bX1_init_143 12 rfl
theorem dX1_init_173 : decode cX1_init 173 = .ok (.aload_n 0, 1) := zdec_at bX1_init_143 13 rfl
theorem dX1_init_174 : decode cX1_init 174 = .ok (.sipush 3000, 3) := zdec_at bX1_init_143 14 rfl
theorem dX1_init_177 : decode cX1_init 177 = .ok (.newarray .short, 2) := zdec_at bX1_init_143 15 rfl
theorem bX1_init_179 : zdec cX1_init 179 [(179, .putfield 121, 3), (182, .aload_n 0, 1), (183, .sipush 3000, 3), (186, .newarray .byte, 2), (188, .putfield 124, 3), (191, .aload_n 0, 1), (192, .sipush 3000, 3), (195, .newarray .int, 2), (197, .putfield 127, 3), (200, .aload_n 0, 1), (201, .sipush 3000, 3), (204, .newarray .int, 2), (206, .putfield 131, 3), (209, .aload_n 0, 1), (210, .new 134, 3), (213, .dup, 1)] = true := by decide +kernel
theorem dX1_init_179 : decode cX1_init 179 = .ok (.putfield 121, 3) := zdec_at bX1_init_179 0 rfl
theorem dX1_init_182 : decode cX1_init 182 = .ok (.aload_n 0, 1) := zdec_at bX1_init_179 1 rfl
theorem dX1_init_183 : decode cX1_init 183 = .ok (.sipush 3000, 3) := zdec_at bX1_init_179 2 rfl
theorem dX1_init_186 : decode cX1_init 186 = .ok (.newarray .byte, 2) := zdec_at bX1_init_179 3 rfl
theorem dX1_init_188 : decode cX1_init 188 = .ok (.putfield 124, 3) := zdec_at bX1_init_179 4 rfl
theorem dX1_init_191 : decode cX1_init 191 = .ok (.aload_n 0, 1) := zdec_at bX1_init_179 5 rfl
theorem dX1_init_192 : decode cX1_init 192 = .ok (.sipush 3000, 3) := zdec_at bX1_init_179 6 rfl
theorem dX1_init_195 : decode cX1_init 195 = .ok (.newarray .int, 2) := zdec_at bX1_init_179 7 rfl
theorem dX1_init_197 : decode cX1_init 197 = .ok (.putfield 127, 3) := zdec_at bX1_init_179 8 rfl
theorem dX1_init_200 : decode cX1_init 200 = .ok (.aload_n 0, 1) := zdec_at bX1_init_179 9 rfl
theorem dX1_init_201 : decode cX1_init 201 = .ok (.sipush 3000, 3) := zdec_at bX1_init_179 10 rfl
theorem dX1_init_204 : decode cX1_init 204 = .ok (.newarray .int, 2) := zdec_at bX1_init_179 11 rfl
theorem dX1_init_206 : decode cX1_init 206 = .ok (.putfield 131, 3) := zdec_at bX1_init_179 12 rfl
theorem dX1_init_209 : decode cX1_init 209 = .ok (.aload_n 0, 1) := zdec_at bX1_init_179 13 rfl
theorem dX1_init_210 : decode cX1_init 210 = .ok (.new 134, 3) := zdec_at bX1_init_179 14 rfl
theorem dX1_init_213 : decode cX1_init 213 = .ok (.dup, 1) := zdec_at bX1_init_179 15 rfl
theorem bX1_init_214 : zdec cX1_init 214 [(214, .invokespecial 136, 3), (217, .putfield 137, 3), (220, .aload_n 0, 1), (221, .new 141, 3), (224, .dup, 1), (225, .invokespecial 143, 3), (228, .putfield 144, 3), (231, .aload_n 0, 1), (232, .sipush 14500, 3), (235, .newarray .byte, 2), (237, .putfield 148, 3), (240, .aload_n 0, 1), (241, .sipush 14500, 3), (244, .newarray .int, 2), (246, .putfield 151, 3), (249, .aload_n 0, 1)] = true := by decide +kernel
theorem dX1_init_214 : decode cX1_init 214 = .ok (.invokespecial 136, 3) := zdec_at bX1_init_214 0 rfl
theorem dX1_init_217 : decode cX1_init 217 = .ok (.putfield 137, 3) := zdec_at bX1_init_214 1 rfl
theorem dX1_init_220 : decode cX1_init 220 = .ok (.aload_n 0, 1) := zdec_at bX1_init_214 2 rfl
theorem dX1_init_221 : decode cX1_init 221 = .ok (.new 141, 3) := zdec_at bX1_init_214 3 rfl
theorem dX1_init_224 : decode cX1_init 224 = .ok (.dup, 1) := zdec_at bX1_init_214 4 rfl
theorem dX1_init_225 : decode cX1_init 225 = .ok (.invokespecial 143, 3) := zdec_at bX1_init_214 5 rfl
theorem dX1_init_228 : decode cX1_init 228 = .ok (.putfield 144, 3) := zdec_at bX1_init_214 6 rfl
theorem dX1_init_231 : decode cX1_init 231 = .ok (.aload_n 0, 1) := zdec_at bX1_init_214 7 rfl
theorem dX1_init_232 : decode cX1_init 232 = .ok (.sipush 14500, 3) := zdec_at bX1_init_214 8 rfl
theorem dX1_init_235 : decode cX1_init 235 = .ok (.newarray .byte, 2) := zdec_at bX1_init_214 9 rfl
theorem dX1_init_237 : decode cX1_init 237 = .ok (.putfield 148, 3) := zdec_at bX1_init_214 10 rfl
theorem dX1_init_240 : decode cX1_init 240 = .ok (.aload_n 0, 1) := zdec_at bX1_init_214 11 rfl
theorem dX1_init_241 : decode cX1_init 241 = .ok (.sipush 14500, 3) := zdec_at bX1_init_214 12 rfl
theorem dX1_init_244 : decode cX1_init 244 = .ok (.newarray .int, 2) := zdec_at bX1_init_214 13 rfl
theorem dX1_init_246 : decode cX1_init 246 = .ok (.putfield 151, 3) := zdec_at bX1_init_214 14 rfl
theorem dX1_init_249 : decode cX1_init 249 = .ok (.aload_n 0, 1) := zdec_at bX1_init_214 15 rfl
theorem bX1_init_250 : zdec cX1_init 250 [(250, .sipush 14500, 3), (253, .newarray .int, 2), (255, .putfield 154, 3), (258, .aload_n 0, 1), (259, .sipush 14500, 3), (262, .newarray .int, 2), (264, .putfield 157, 3), (267, .aload_n 0, 1), (268, .bipush 24, 2), (270, .newarray .short, 2), (272, .putfield 160, 3), (275, .aload_n 0, 1), (276, .bipush 24, 2), (278, .newarray .short, 2), (280, .putfield 163, 3), (283, .aload_n 0, 1)] = true := by decide +kernel
theorem dX1_init_250 : decode cX1_init 250 = .ok (.sipush 14500, 3) := zdec_at bX1_init_250 0 rfl
theorem dX1_init_253 : decode cX1_init 253 = .ok (.newarray .int, 2) := zdec_at bX1_init_250 1 rfl
theorem dX1_init_255 : decode cX1_init 255 = .ok (.putfield 154, 3) := zdec_at bX1_init_250 2 rfl
theorem dX1_init_258 : decode cX1_init 258 = .ok (.aload_n 0, 1) := zdec_at bX1_init_250 3 rfl
theorem dX1_init_259 : decode cX1_init 259 = .ok (.sipush 14500, 3) := zdec_at bX1_init_250 4 rfl
theorem dX1_init_262 : decode cX1_init 262 = .ok (.newarray .int, 2) := zdec_at bX1_init_250 5 rfl
theorem dX1_init_264 : decode cX1_init 264 = .ok (.putfield 157, 3) := zdec_at bX1_init_250 6 rfl
theorem dX1_init_267 : decode cX1_init 267 = .ok (.aload_n 0, 1) := zdec_at bX1_init_250 7 rfl
theorem dX1_init_268 : decode cX1_init 268 = .ok (.bipush 24, 2) := zdec_at bX1_init_250 8 rfl
theorem dX1_init_270 : decode cX1_init 270 = .ok (.newarray .short, 2) := zdec_at bX1_init_250 9 rfl
theorem dX1_init_272 : decode cX1_init 272 = .ok (.putfield 160, 3) := zdec_at bX1_init_250 10 rfl
theorem dX1_init_275 : decode cX1_init 275 = .ok (.aload_n 0, 1) := zdec_at bX1_init_250 11 rfl
theorem dX1_init_276 : decode cX1_init 276 = .ok (.bipush 24, 2) := zdec_at bX1_init_250 12 rfl
theorem dX1_init_278 : decode cX1_init 278 = .ok (.newarray .short, 2) := zdec_at bX1_init_250 13 rfl
theorem dX1_init_280 : decode cX1_init 280 = .ok (.putfield 163, 3) := zdec_at bX1_init_250 14 rfl
theorem dX1_init_283 : decode cX1_init 283 = .ok (.aload_n 0, 1) := zdec_at bX1_init_250 15 rfl
theorem bX1_init_284 : zdec cX1_init 284 [(284, .bipush 24, 2), (286, .newarray .short, 2), (288, .putfield 166, 3), (291, .aload_n 0, 1), (292, .bipush 24, 2), (294, .newarray .short, 2), (296, .putfield 169, 3), (299, .aload_n 0, 1), (300, .bipush 24, 2), (302, .newarray .short, 2), (304, .putfield 172, 3), (307, .aload_n 0, 1), (308, .bipush 24, 2), (310, .newarray .short, 2), (312, .putfield 175, 3), (315, .aload_n 0, 1)] = true := by decide +kernel
theorem dX1_init_284 : decode cX1_init 284 = .ok (.bipush 24, 2) := zdec_at bX1_init_284 0 rfl
theorem dX1_init_286 : decode cX1_init 286 = .ok (.newarray .short, 2) := zdec_at bX1_init_284 1 rfl
theorem dX1_init_288 : decode cX1_init 288 = .ok (.putfield 166, 3) := zdec_at bX1_init_284 2 rfl
theorem dX1_init_291 : decode cX1_init 291 = .ok (.aload_n 0, 1) := zdec_at bX1_init_284 3 rfl
theorem dX1_init_292 : decode cX1_init 292 = .ok (.bipush 24, 2) := zdec_at bX1_init_284 4 rfl
theorem dX1_init_294 : decode cX1_init 294 = .ok (.newarray .short, 2) := zdec_at bX1_init_284 5 rfl
theorem dX1_init_296 : decode cX1_init 296 = .ok (.putfield 169, 3) := zdec_at bX1_init_284 6 rfl
theorem dX1_init_299 : decode cX1_init 299 = .ok (.aload_n 0, 1) := zdec_at bX1_init_284 7 rfl
theorem dX1_init_300 : decode cX1_init 300 = .ok (.bipush 24, 2) := zdec_at bX1_init_284 8 rfl
theorem dX1_init_302 : decode cX1_init 302 = .ok (.newarray .short, 2) := zdec_at bX1_init_284 9 rfl
theorem dX1_init_304 : decode cX1_init 304 = .ok (.putfield 172, 3) := zdec_at bX1_init_284 10 rfl
theorem dX1_init_307 : decode cX1_init 307 = .ok (.aload_n 0, 1) := zdec_at bX1_init_284 11 rfl
theorem dX1_init_308 : decode cX1_init 308 = .ok (.bipush 24, 2) := zdec_at bX1_init_284 12 rfl
theorem dX1_init_310 : decode cX1_init 310 = .ok (.newarray .short, 2) := zdec_at bX1_init_284 13 rfl
theorem dX1_init_312 : decode cX1_init 312 = .ok (.putfield 175, 3) := zdec_at bX1_init_284 14 rfl
theorem dX1_init_315 : decode cX1_init 315 = .ok (.aload_n 0, 1) := zdec_at bX1_init_284 15 rfl
theorem bX1_init_316 : zdec cX1_init 316 [(316, .bipush 24, 2), (318, .newarray .byte, 2), (320, .putfield 178, 3), (323, .aload_n 0, 1), (324, .bipush 24, 2), (326, .newarray .int, 2), (328, .putfield 181, 3), (331, .aload_n 0, 1), (332, .sipush 960, 3), (335, .newarray .short, 2), (337, .putfield 184, 3), (340, .aload_n 0, 1), (341, .sipush 960, 3), (344, .newarray .short, 2), (346, .putfield 187, 3), (349, .aload_n 0, 1)] = true := by decide +kernel
theorem dX1_init_316 : decode cX1_init 316 = .ok (.bipush 24, 2) := zdec_at bX1_init_316 0 rfl
theorem dX1_init_318 : decode cX1_init 318 = .ok (.newarray .byte, 2) := zdec_at bX1_init_316 1 rfl
theorem dX1_init_320 : decode cX1_init 320 = .ok (.putfield 178, 3) := zdec_at bX1_init_316 2 rfl
theorem dX1_init_323 : decode cX1_init 323 = .ok (.aload_n 0, 1) := zdec_at bX1_init_316 3 rfl
theorem dX1_init_324 : decode cX1_init 324 = .ok (.bipush 24, 2) := zdec_at bX1_init_316 4 rfl
theorem dX1_init_326 : decode cX1_init 326 = .ok (.newarray .int, 2) := zdec_at bX1_init_316 5 rfl
theorem dX1_init_328 : decode cX1_init 328 = .ok (.putfield 181, 3) := zdec_at bX1_init_316 6 rfl
theorem dX1_init_331 : decode cX1_init 331 = .ok (.aload_n 0, 1) := zdec_at bX1_init_316 7 rfl
theorem dX1_init_332 : decode cX1_init 332 = .ok (.sipush 960, 3) := zdec_at bX1_init_316 8 rfl
theorem dX1_init_335 : decode cX1_init 335 = .ok (.newarray .short, 2) := zdec_at bX1_init_316 9 rfl
theorem dX1_init_337 : decode cX1_init 337 = .ok (.putfield 184, 3) := zdec_at bX1_init_316 10 rfl
theorem dX1_init_340 : decode cX1_init 340 = .ok (.aload_n 0, 1) := zdec_at bX1_init_316 11 rfl
theorem dX1_init_341 : decode cX1_init 341 = .ok (.sipush 960, 3) := zdec_at bX1_init_316 12 rfl
theorem dX1_init_344 : decode cX1_init 344 = .ok (.newarray .short, 2) := zdec_at bX1_init_316 13 rfl
theorem dX1_init_346 : decode cX1_init 346 = .ok (.putfield 187, 3) := zdec_at bX1_init_316 14 rfl
theorem dX1_init_349 : decode cX1_init 349 = .ok (.aload_n 0, 1) := zdec_at bX1_init_316 15 rfl
theorem bX1_init_350 : zdec cX1_init 350 [(350, .bipush 100, 2), (352, .newarray .short, 2), (354, .putfield 190, 3), (357, .aload_n 0, 1), (358, .sipush 624, 3), (361, .newarray .boolean, 2), (363, .putfield 193, 3), (366, .aload_n 0, 1), (367, .sipush 624, 3), (370, .newarray .short, 2), (372, .putfield 197, 3), (375, .aload_n 0, 1), (376, .sipush 600, 3), (379, .newarray .byte, 2), (381, .putfield 200, 3), (384, .aload_n 0, 1)] = true := by decide +kernel
theorem dX1_init_350 : decode cX1_init 350 = .ok (.bipush 100, 2) := zdec_at bX1_init_350 0 rfl
theorem dX1_init_352 : decode cX1_init 352 = .ok (.newarray .short, 2) := zdec_at bX1_init_350 1 rfl
theorem dX1_init_354 : decode cX1_init 354 = .ok (.putfield 190, 3) := zdec_at bX1_init_350 2 rfl
theorem dX1_init_357 : decode cX1_init 357 = .ok (.aload_n 0, 1) := zdec_at bX1_init_350 3 rfl
theorem dX1_init_358 : decode cX1_init 358 = .ok (.sipush 624, 3) := zdec_at bX1_init_350 4 rfl
theorem dX1_init_361 : decode cX1_init 361 = .ok (.newarray .boolean, 2) := zdec_at bX1_init_350 5 rfl
theorem dX1_init_363 : decode cX1_init 363 = .ok (.putfield 193, 3) := zdec_at bX1_init_350 6 rfl
theorem dX1_init_366 : decode cX1_init 366 = .ok (.aload_n 0, 1) := zdec_at bX1_init_350 7 rfl
theorem dX1_init_367 : decode cX1_init 367 = .ok (.sipush 624, 3) := zdec_at bX1_init_350 8 rfl
theorem dX1_init_370 : decode cX1_init 370 = .ok (.newarray .short, 2) := zdec_at bX1_init_350 9 rfl
theorem dX1_init_372 : decode cX1_init 372 = .ok (.putfield 197, 3) := zdec_at bX1_init_350 10 rfl
theorem dX1_init_375 : decode cX1_init 375 = .ok (.aload_n 0, 1) := zdec_at bX1_init_350 11 rfl
theorem dX1_init_376 : decode cX1_init 376 = .ok (.sipush 600, 3) := zdec_at bX1_init_350 12 rfl
theorem dX1_init_379 : decode cX1_init 379 = .ok (.newarray .byte, 2) := zdec_at bX1_init_350 13 rfl
theorem dX1_init_381 : decode cX1_init 381 = .ok (.putfield 200, 3) := zdec_at bX1_init_350 14 rfl
theorem dX1_init_384 : decode cX1_init 384 = .ok (.aload_n 0, 1) := zdec_at bX1_init_350 15 rfl
theorem bX1_init_385 : zdec cX1_init 385 [(385, .new 203, 3), (388, .dup, 1), (389, .invokespecial 205, 3), (392, .putfield 206, 3), (395, .aload_n 0, 1), (396, .new 203, 3), (399, .dup, 1), (400, .invokespecial 205, 3), (403, .putfield 210, 3), (406, .aload_n 0, 1), (407, .new 203, 3), (410, .dup, 1), (411, .invokespecial 205, 3), (414, .putfield 213, 3), (417, .aload_n 0, 1), (418, .new 203, 3)] = true := by decide +kernel
theorem dX1_init_385 : decode cX1_init 385 = .ok (.new 203, 3) := zdec_at bX1_init_385 0 rfl
theorem dX1_init_388 : decode cX1_init 388 = .ok (.dup, 1) := zdec_at bX1_init_385 1 rfl
theorem dX1_init_389 : decode cX1_init 389 = .ok (.invokespecial 205, 3) := zdec_at bX1_init_385 2 rfl
theorem dX1_init_392 : decode cX1_init 392 = .ok (.putfield 206, 3) := zdec_at bX1_init_385 3 rfl
theorem dX1_init_395 : decode cX1_init 395 = .ok (.aload_n 0, 1) := zdec_at bX1_init_385 4 rfl
theorem dX1_init_396 : decode cX1_init 396 = .ok (.new 203, 3) := zdec_at bX1_init_385 5 rfl
theorem dX1_init_399 : decode cX1_init 399 = .ok (.dup, 1) := zdec_at bX1_init_385 6 rfl
theorem dX1_init_400 : decode cX1_init 400 = .ok (.invokespecial 205, 3) := zdec_at bX1_init_385 7 rfl
theorem dX1_init_403 : decode cX1_init 403 = .ok (.putfield 210, 3) := zdec_at bX1_init_385 8 rfl
theorem dX1_init_406 : decode cX1_init 406 = .ok (.aload_n 0, 1) := zdec_at bX1_init_385 9 rfl
theorem dX1_init_407 : decode cX1_init 407 = .ok (.new 203, 3) := zdec_at bX1_init_385 10 rfl
theorem dX1_init_410 : decode cX1_init 410 = .ok (.dup, 1) := zdec_at bX1_init_385 11 rfl
theorem dX1_init_411 : decode cX1_init 411 = .ok (.invokespecial 205, 3) := zdec_at bX1_init_385 12 rfl
theorem dX1_init_414 : decode cX1_init 414 = .ok (.putfield 213, 3) := zdec_at bX1_init_385 13 rfl
theorem dX1_init_417 : decode cX1_init 417 = .ok (.aload_n 0, 1) := zdec_at bX1_init_385 14 rfl
theorem dX1_init_418 : decode cX1_init 418 = .ok (.new 203, 3) := zdec_at bX1_init_385 15 rfl
theorem bX1_init_421 : zdec cX1_init 421 [(421, .dup, 1), (422, .invokespecial 205, 3), (425, .putfield 216, 3), (428, .aload_n 0, 1), (429, .new 203, 3), (432, .dup, 1), (433, .invokespecial 205, 3), (436, .putfield 219, 3), (439, .aload_n 0, 1), (440, .new 203, 3), (443, .dup, 1), (444, .invokespecial 205, 3), (447, .putfield 222, 3), (450, .aload_n 0, 1), (451, .new 203, 3), (454, .dup, 1)] = true := by decide +kernel
theorem dX1_init_421 : decode cX1_init 421 = .ok (.dup, 1) := zdec_at bX1_init_421 0 rfl
theorem dX1_init_422 : decode cX1_init 422 = .ok (.invokespecial 205, 3) := zdec_at bX1_init_421 1 rfl
theorem dX1_init_425 : decode cX1_init 425 = .ok (.putfield 216, 3) := zdec_at bX1_init_421 2 rfl
theorem dX1_init_428 : decode cX1_init 428 = .ok (.aload_n 0, 1) := zdec_at bX1_init_421 3 rfl
theorem dX1_init_429 : decode cX1_init 429 = .ok (.new 203, 3) := zdec_at bX1_init_421 4 rfl
theorem dX1_init_432 : decode cX1_init 432 = .ok (.dup, 1) := zdec_at bX1_init_421 5 rfl
theorem dX1_init_433 : decode cX1_init 433 = .ok (.invokespecial 205, 3) := zdec_at bX1_init_421 6 rfl
theorem dX1_init_436 : decode cX1_init 436 = .ok (.putfield 219, 3) := zdec_at bX1_init_421 7 rfl
theorem dX1_init_439 : decode cX1_init 439 = .ok (.aload_n 0, 1) := zdec_at bX1_init_421 8 rfl
theorem dX1_init_440 : decode cX1_init 440 = .ok (.new 203, 3) := zdec_at bX1_init_421 9 rfl
theorem dX1_init_443 : decode cX1_init 443 = .ok (.dup, 1) := zdec_at bX1_init_421 10 rfl
theorem dX1_init_444 : decode cX1_init 444 = .ok (.invokespecial 205, 3) := zdec_at bX1_init_421 11 rfl
theorem dX1_init_447 : decode cX1_init 447 = .ok (.putfield 222, 3) := zdec_at bX1_init_421 12 rfl
theorem dX1_init_450 : decode cX1_init 450 = .ok (.aload_n 0, 1) := zdec_at bX1_init_421 13 rfl
theorem dX1_init_451 : decode cX1_init 451 = .ok (.new 203, 3) := zdec_at bX1_init_421 14 rfl
theorem dX1_init_454 : decode cX1_init 454 = .ok (.dup, 1) := zdec_at bX1_init_421 15 rfl
theorem bX1_init_455 : zdec cX1_init 455 [(455, .invokespecial 205, 3), (458, .putfield 225, 3), (461, .aload_n 0, 1), (462, .bipush 9, 2), (464, .anewarray 203, 3), (467, .putfield 228, 3), (470, .aload_n 0, 1), (471, .new 203, 3), (474, .dup, 1), (475, .invokespecial 205, 3), (478, .putfield 232, 3), (481, .aload_n 0, 1), (482, .new 235, 3), (485, .dup, 1), (486, .aload_n 0, 1), (487, .invokespecial 237, 3)] = true := by decide +kernel
theorem dX1_init_455 : decode cX1_init 455 = .ok (.invokespecial 205, 3) := zdec_at bX1_init_455 0 rfl
theorem dX1_init_458 : decode cX1_init 458 = .ok (.putfield 225, 3) := zdec_at bX1_init_455 1 rfl
theorem dX1_init_461 : decode cX1_init 461 = .ok (.aload_n 0, 1) := zdec_at bX1_init_455 2 rfl
theorem dX1_init_462 : decode cX1_init 462 = .ok (.bipush 9, 2) := zdec_at bX1_init_455 3 rfl
theorem dX1_init_464 : decode cX1_init 464 = .ok (.anewarray 203, 3) := zdec_at bX1_init_455 4 rfl
theorem dX1_init_467 : decode cX1_init 467 = .ok (.putfield 228, 3) := zdec_at bX1_init_455 5 rfl
theorem dX1_init_470 : decode cX1_init 470 = .ok (.aload_n 0, 1) := zdec_at bX1_init_455 6 rfl
theorem dX1_init_471 : decode cX1_init 471 = .ok (.new 203, 3) := zdec_at bX1_init_455 7 rfl
theorem dX1_init_474 : decode cX1_init 474 = .ok (.dup, 1) := zdec_at bX1_init_455 8 rfl
theorem dX1_init_475 : decode cX1_init 475 = .ok (.invokespecial 205, 3) := zdec_at bX1_init_455 9 rfl
theorem dX1_init_478 : decode cX1_init 478 = .ok (.putfield 232, 3) := zdec_at bX1_init_455 10 rfl
theorem dX1_init_481 : decode cX1_init 481 = .ok (.aload_n 0, 1) := zdec_at bX1_init_455 11 rfl
theorem dX1_init_482 : decode cX1_init 482 = .ok (.new 235, 3) := zdec_at bX1_init_455 12 rfl
theorem dX1_init_485 : decode cX1_init 485 = .ok (.dup, 1) := zdec_at bX1_init_455 13 rfl
theorem dX1_init_486 : decode cX1_init 486 = .ok (.aload_n 0, 1) := zdec_at bX1_init_455 14 rfl
theorem dX1_init_487 : decode cX1_init 487 = .ok (.invokespecial 237, 3) := zdec_at bX1_init_455 15 rfl
theorem bX1_init_490 : zdec cX1_init 490 [(490, .putfield 240, 3), (493, .aload_n 0, 1), (494, .new 235, 3), (497, .dup, 1), (498, .aload_n 0, 1), (499, .invokespecial 237, 3), (502, .putfield 244, 3), (505, .aload_n 0, 1), (506, .aload_n 0, 1), (507, .getfield 73, 3), (510, .ldc 247, 2), (512, .invokevirtual 249, 3), (515, .aload_n 0, 1), (516, .aload_n 0, 1), (517, .getfield 76, 3), (520, .ldc 253, 2)] = true := by decide +kernel
theorem dX1_init_490 : decode cX1_init 490 = .ok (.putfield 240, 3) := zdec_at bX1_init_490 0 rfl
theorem dX1_init_493 : decode cX1_init 493 = .ok (.aload_n 0, 1) := zdec_at bX1_init_490 1 rfl
theorem dX1_init_494 : decode cX1_init 494 = .ok (.new 235, 3) := zdec_at bX1_init_490 2 rfl
theorem dX1_init_497 : decode cX1_init 497 = .ok (.dup, 1) := zdec_at bX1_init_490 3 rfl
theorem dX1_init_498 : decode cX1_init 498 = .ok (.aload_n 0, 1) := zdec_at bX1_init_490 4 rfl
theorem dX1_init_499 : decode cX1_init 499 = .ok (.invokespecial 237, 3) := zdec_at bX1_init_490 5 rfl
theorem dX1_init_502 : decode cX1_init 502 = .ok (.putfield 244, 3) := zdec_at bX1_init_490 6 rfl
theorem dX1_init_505 : decode cX1_init 505 = .ok (.aload_n 0, 1) := zdec_at bX1_init_490 7 rfl
theorem dX1_init_506 : decode cX1_init 506 = .ok (.aload_n 0, 1) := zdec_at bX1_init_490 8 rfl
theorem dX1_init_507 : decode cX1_init 507 = .ok (.getfield 73, 3) := zdec_at bX1_init_490 9 rfl
theorem dX1_init_510 : decode cX1_init 510 = .ok (.ldc 247, 2) := zdec_at bX1_init_490 10 rfl
theorem dX1_init_512 : decode cX1_init 512 = .ok (.invokevirtual 249, 3) := zdec_at bX1_init_490 11 rfl
theorem dX1_init_515 : decode cX1_init 515 = .ok (.aload_n 0, 1) := zdec_at bX1_init_490 12 rfl
theorem dX1_init_516 : decode cX1_init 516 = .ok (.aload_n 0, 1) := zdec_at bX1_init_490 13 rfl
theorem dX1_init_517 : decode cX1_init 517 = .ok (.getfield 76, 3) := zdec_at bX1_init_490 14 rfl
theorem dX1_init_520 : decode cX1_init 520 = .ok (.ldc 253, 2) := zdec_at bX1_init_490 15 rfl
theorem bX1_init_522 : zdec cX1_init 522 [(522, .invokevirtual 249, 3), (525, .aload_n 0, 1), (526, .invokevirtual 255, 3), (529, .iconst 0, 1), (530, .istore_n 1, 1), (531, .iload_n 1, 1), (532, .bipush 8, 2), (534, .if_icmp .gt 22, 3), (537, .aload_n 0, 1), (538, .getfield 228, 3), (541, .iload_n 1, 1), (542, .new 203, 3), (545, .dup, 1), (546, .invokespecial 205, 3), (549, .aastore, 1), (550, .iinc 1 1, 3)] = true := by decide +kernel
theorem dX1_init_522 : decode cX1_init 522 = .ok (.invokevirtual 249, 3) := zdec_at bX1_init_522 0 rfl
theorem dX1_init_525 : decode cX1_init 525 = .ok (.aload_n 0, 1) := zdec_at bX1_init_522 1 rfl
theorem dX1_init_526 : decode cX1_init 526 = .ok (.invokevirtual 255, 3) := zdec_at bX1_init_522 2 rfl
theorem dX1_init_529 : decode cX1_init 529 = .ok (.iconst 0, 1) := zdec_at bX1_init_522 3 rfl
theorem dX1_init_530 : decode cX1_init 530 = .ok (.istore_n 1, 1) := zdec_at bX1_init_522 4 rfl
theorem dX1_init_531 : decode cX1_init 531 = .ok (.iload_n 1, 1) := zdec_at bX1_init_522 5 rfl
theorem dX1_init_532 : decode cX1_init 532 = .ok (.bipush 8, 2) := zdec_at bX1_init_522 6 rfl
theorem dX1_init_534 : decode cX1_init 534 = .ok (.if_icmp .gt 22, 3) := zdec_at bX1_init_522 7 rfl
theorem dX1_init_537 : decode cX1_init 537 = .ok (.aload_n 0, 1) := zdec_at bX1_init_522 8 rfl
theorem dX1_init_538 : decode cX1_init 538 = .ok (.getfield 228, 3) := zdec_at bX1_init_522 9 rfl
theorem dX1_init_541 : decode cX1_init 541 = .ok (.iload_n 1, 1) := zdec_at bX1_init_522 10 rfl
theorem dX1_init_542 : decode cX1_init 542 = .ok (.new 203, 3) := zdec_at bX1_init_522 11 rfl
theorem dX1_init_545 : decode cX1_init 545 = .ok (.dup, 1) := zdec_at bX1_init_522 12 rfl
theorem dX1_init_546 : decode cX1_init 546 = .ok (.invokespecial 205, 3) := zdec_at bX1_init_522 13 rfl
theorem dX1_init_549 : decode cX1_init 549 = .ok (.aastore, 1) := zdec_at bX1_init_522 14 rfl
theorem dX1_init_550 : decode cX1_init 550 = .ok (.iinc 1 1, 3) := zdec_at bX1_init_522 15 rfl
theorem bX1_init_553 : zdec cX1_init 553 [(553, .goto (-22), 3), (556, .return_, 1)] = true := by decide +kernel
theorem dX1_init_553 : decode cX1_init 553 = .ok (.goto (-22), 3) := zdec_at bX1_init_553 0 rfl
theorem dX1_init_556 : decode cX1_init 556 = .ok (.return_, 1) := zdec_at bX1_init_553 1 rfl
theorem sX1_init_0 {E : zE} {d : Nat} {Q : zO → zM → Prop} (M : zM)  (k : Z E YX1_init (d + 1) (zn M 3) [(0, vr (some (16, 0, 0)))] 8 [vr (some ((zsz M), 2, 0)), vr (some (16, 0, 0))] Q) : Z E YX1_init (d + 1) M [(0, vr (some (16, 0, 0)))] 0 [] Q := by
  refine z_aload_n dX1_init_0 rfl rfl ?_
  refine z_objInit dX1_init_1 oiX1_61 (by omega) (by decide) ?_
  refine z_aload_n dX1_init_4 rfl rfl ?_
  refine z_new dX1_init_5 csX1_24 zff_2 ?_
  exact k
theorem sX1_init_8 {E : zE} {d : Nat} {Q : zO → zM → Prop} (M : zM) (p0 : Nat) (k : Z E YX2_init d M (zargs 0 [vr (some (p0, 2, 0)), vi (2200 : Int32), vi (40000 : Int32)]) 0 [] (zafter E YX1_init (d + 1) [(0, vr (some (16, 0, 0)))] 14 3 [vr (some (p0, 2, 0)), vr (some (16, 0, 0))] Q)) : Z E YX1_init (d + 1) M [(0, vr (some (16, 0, 0)))] 8 [vr (some (p0, 2, 0)), vr (some (16, 0, 0))] Q := by
  refine z_dup dX1_init_8 rfl ?_
  refine z_sipush (v := 2200) dX1_init_9 rfl ?_
  refine z_ldc (v := 40000) dX1_init_12 q519 ?_
  exact z_callI (as := [vi (2200 : Int32), vi (40000 : Int32)]) (st := [vr (some (p0, 2, 0)), vr (some (16, 0, 0))]) dX1_init_14 isX1_67 (Nat.le_refl _) (Nat.le_of_ble_eq_true rfl) (Nat.le_of_ble_eq_true rfl) rfl k
theorem sX1_init_17 {E : zE} {d : Nat} {Q : zO → zM → Prop} (M : zM) (p0 : Nat) (k : Z E YX1_init (d + 1) (zn (sr M 16 0 (some (p0, 2, 0))) 256) [(0, vr (some (16, 0, 0)))] 26 [vr (some ((zsz M), 101, 256)), vr (some (16, 0, 0))] Q) : Z E YX1_init (d + 1) M [(0, vr (some (16, 0, 0)))] 17 [vr (some (p0, 2, 0)), vr (some (16, 0, 0))] Q := by
  refine z_putr (by decide) dX1_init_17 (zfwN.f fwX1_19_0 rfl (fun q h => by rw [← Option.some.inj h]; rfl)) rfl ?_
  refine z_aload_n dX1_init_20 rfl rfl ?_
  refine z_sipush (v := 256) dX1_init_21 rfl ?_
  refine z_newa (q := 1) (N := 256) dX1_init_24 rfl (by decide) q536 (by decide) (by decide) (by decide) ?_
  exact k
theorem sX1_init_26 {E : zE} {d : Nat} {Q : zO → zM → Prop} (M : zM) (p0 : Nat) (k : Z E YX1_init (d + 1) (zn (sr M 16 2 (some (p0, 101, 256))) 4000) [(0, vr (some (16, 0, 0)))] 35 [vr (some ((zsz M), 101, 4000)), vr (some (16, 0, 0))] Q) : Z E YX1_init (d + 1) M [(0, vr (some (16, 0, 0)))] 26 [vr (some (p0, 101, 256)), vr (some (16, 0, 0))] Q := by
  refine z_putr (by decide) dX1_init_26 (zfwN.f fwX1_7_0 rfl (fun q h => by rw [← Option.some.inj h]; rfl)) rfl ?_
  refine z_aload_n dX1_init_29 rfl rfl ?_
  refine z_sipush (v := 4000) dX1_init_30 rfl ?_
  refine z_newa (q := 1) (N := 4000) dX1_init_33 rfl (by decide) q536 (by decide) (by decide) (by decide) ?_
  exact k
theorem sX1_init_35 {E : zE} {d : Nat} {Q : zO → zM → Prop} (M : zM) (p0 : Nat) (k : Z E YX1_init (d + 1) (zn (sr M 16 4 (some (p0, 101, 4000))) 3) [(0, vr (some (16, 0, 0)))] 42 [vr (some ((zsz M), 2, 0)), vr (some (16, 0, 0))] Q) : Z E YX1_init (d + 1) M [(0, vr (some (16, 0, 0)))] 35 [vr (some (p0, 101, 4000)), vr (some (16, 0, 0))] Q := by
  refine z_putr (by decide) dX1_init_35 (zfwN.f fwX1_70_0 rfl (fun q h => by rw [← Option.some.inj h]; rfl)) rfl ?_
  refine z_aload_n dX1_init_38 rfl rfl ?_
  refine z_new dX1_init_39 csX1_24 zff_2 ?_
  exact k
theorem sX1_init_42 {E : zE} {d : Nat} {Q : zO → zM → Prop} (M : zM) (p0 : Nat) (k : Z E YX2_init d M (zargs 0 [vr (some (p0, 2, 0)), vi (40 : Int32), vi (400 : Int32)]) 0 [] (zafter E YX1_init (d + 1) [(0, vr (some (16, 0, 0)))] 48 3 [vr (some (p0, 2, 0)), vr (some (16, 0, 0))] Q)) : Z E YX1_init (d + 1) M [(0, vr (some (16, 0, 0)))] 42 [vr (some (p0, 2, 0)), vr (some (16, 0, 0))] Q := by
  refine z_dup dX1_init_42 rfl ?_
  refine z_bipush (v := 40) dX1_init_43 rfl ?_
  refine z_sipush (v := 400) dX1_init_45 rfl ?_
  exact z_callI (as := [vi (40 : Int32), vi (400 : Int32)]) (st := [vr (some (p0, 2, 0)), vr (some (16, 0, 0))]) dX1_init_48 isX1_67 (Nat.le_refl _) (Nat.le_of_ble_eq_true rfl) (Nat.le_of_ble_eq_true rfl) rfl k
theorem sX1_init_51 {E : zE} {d : Nat} {Q : zO → zM → Prop} (M : zM) (p0 : Nat) (k : Z E YX1_init (d + 1) (zn (sr M 16 6 (some (p0, 2, 0))) 3) [(0, vr (some (16, 0, 0)))] 58 [vr (some ((zsz M), 2, 0)), vr (some (16, 0, 0))] Q) : Z E YX1_init (d + 1) M [(0, vr (some (16, 0, 0)))] 51 [vr (some (p0, 2, 0)), vr (some (16, 0, 0))] Q := by
  refine z_putr (by decide) dX1_init_51 (zfwN.f fwX1_73_0 rfl (fun q h => by rw [← Option.some.inj h]; rfl)) rfl ?_
  refine z_aload_n dX1_init_54 rfl rfl ?_
  refine z_new dX1_init_55 csX1_24 zff_2 ?_
  exact k
theorem sX1_init_58 {E : zE} {d : Nat} {Q : zO → zM → Prop} (M : zM) (p0 : Nat) (k : Z E YX2_init d M (zargs 0 [vr (some (p0, 2, 0)), vi (60 : Int32), vi (200 : Int32)]) 0 [] (zafter E YX1_init (d + 1) [(0, vr (some (16, 0, 0)))] 64 3 [vr (some (p0, 2, 0)), vr (some (16, 0, 0))] Q)) : Z E YX1_init (d + 1) M [(0, vr (some (16, 0, 0)))] 58 [vr (some (p0, 2, 0)), vr (some (16, 0, 0))] Q := by
  refine z_dup dX1_init_58 rfl ?_
  refine z_bipush (v := 60) dX1_init_59 rfl ?_
  refine z_sipush (v := 200) dX1_init_61 rfl ?_
  exact z_callI (as := [vi (60 : Int32), vi (200 : Int32)]) (st := [vr (some (p0, 2, 0)), vr (some (16, 0, 0))]) dX1_init_64 isX1_67 (Nat.le_refl _) (Nat.le_of_ble_eq_true rfl) (Nat.le_of_ble_eq_true rfl) rfl k
theorem sX1_init_67 {E : zE} {d : Nat} {Q : zO → zM → Prop} (M : zM) (p0 : Nat) (k : Z E YX1_init (d + 1) (zn (sr M 16 7 (some (p0, 2, 0))) 3) [(0, vr (some (16, 0, 0)))] 74 [vr (some ((zsz M), 11, 0)), vr (some (16, 0, 0))] Q) : Z E YX1_init (d + 1) M [(0, vr (some (16, 0, 0)))] 67 [vr (some (p0, 2, 0)), vr (some (16, 0, 0))] Q := by
  refine z_putr (by decide) dX1_init_67 (zfwN.f fwX1_76_0 rfl (fun q h => by rw [← Option.some.inj h]; rfl)) rfl ?_
  refine z_aload_n dX1_init_70 rfl rfl ?_
  refine z_new dX1_init_71 csX1_79 zff_11 ?_
  exact k
theorem sX1_init_74 {E : zE} {d : Nat} {Q : zO → zM → Prop} (M : zM) (p0 : Nat) (k : Z E YJ2_init d M (zargs 0 [vr (some (p0, 11, 0))]) 0 [] (zafter E YX1_init (d + 1) [(0, vr (some (16, 0, 0)))] 75 3 [vr (some (p0, 11, 0)), vr (some (16, 0, 0))] Q)) : Z E YX1_init (d + 1) M [(0, vr (some (16, 0, 0)))] 74 [vr (some (p0, 11, 0)), vr (some (16, 0, 0))] Q := by
  refine z_dup dX1_init_74 rfl ?_
  exact z_callI (as := []) (st := [vr (some (p0, 11, 0)), vr (some (16, 0, 0))]) dX1_init_75 isX1_81 (Nat.le_refl _) (Nat.le_of_ble_eq_true rfl) (Nat.le_of_ble_eq_true rfl) rfl k
theorem sX1_init_78 {E : zE} {d : Nat} {Q : zO → zM → Prop} (M : zM) (p0 : Nat) (k : Z E YX1_init (d + 1) (zn (sr M 16 8 (some (p0, 11, 0))) 13) [(0, vr (some (16, 0, 0)))] 85 [vr (some ((zsz M), 3, 0)), vr (some (16, 0, 0))] Q) : Z E YX1_init (d + 1) M [(0, vr (some (16, 0, 0)))] 78 [vr (some (p0, 11, 0)), vr (some (16, 0, 0))] Q := by
  refine z_putr (by decide) dX1_init_78 (zfwN.w fwX1_82_0) rfl ?_
  refine z_aload_n dX1_init_81 rfl rfl ?_
  refine z_new dX1_init_82 csX1_86 zff_3 ?_
  exact k
theorem sX1_init_85 {E : zE} {d : Nat} {Q : zO → zM → Prop} (M : zM) (p0 : Nat) (k : Z E YX3_init d M (zargs 0 [vr (some (p0, 3, 0))]) 0 [] (zafter E YX1_init (d + 1) [(0, vr (some (16, 0, 0)))] 86 3 [vr (some (p0, 3, 0)), vr (some (16, 0, 0))] Q)) : Z E YX1_init (d + 1) M [(0, vr (some (16, 0, 0)))] 85 [vr (some (p0, 3, 0)), vr (some (16, 0, 0))] Q := by
  refine z_dup dX1_init_85 rfl ?_
  exact z_callI (as := []) (st := [vr (some (p0, 3, 0)), vr (some (16, 0, 0))]) dX1_init_86 isX1_88 (Nat.le_refl _) (Nat.le_of_ble_eq_true rfl) (Nat.le_of_ble_eq_true rfl) rfl k
theorem sX1_init_89 {E : zE} {d : Nat} {Q : zO → zM → Prop} (M : zM) (p0 : Nat) (k : Z E YX1_init (d + 1) (zn (sr M 16 9 (some (p0, 3, 0))) 300) [(0, vr (some (16, 0, 0)))] 98 [vr (some ((zsz M), 101, 300)), vr (some (16, 0, 0))] Q) : Z E YX1_init (d + 1) M [(0, vr (some (16, 0, 0)))] 89 [vr (some (p0, 3, 0)), vr (some (16, 0, 0))] Q := by
  refine z_putr (by decide) dX1_init_89 (zfwN.f fwX1_89_0 rfl (fun q h => by rw [← Option.some.inj h]; rfl)) rfl ?_
  refine z_aload_n dX1_init_92 rfl rfl ?_
  refine z_sipush (v := 300) dX1_init_93 rfl ?_
  refine z_newa (q := 1) (N := 300) dX1_init_96 rfl (by decide) q536 (by decide) (by decide) (by decide) ?_
  exact k
theorem sX1_init_98 {E : zE} {d : Nat} {Q : zO → zM → Prop} (M : zM) (p0 : Nat) (k : Z E YX1_init (d + 1) (zn (sr M 16 13 (some (p0, 101, 300))) 300) [(0, vr (some (16, 0, 0)))] 107 [vr (some ((zsz M), 101, 300)), vr (some (16, 0, 0))] Q) : Z E YX1_init (d + 1) M [(0, vr (some (16, 0, 0)))] 98 [vr (some (p0, 101, 300)), vr (some (16, 0, 0))] Q := by
  refine z_putr (by decide) dX1_init_98 (zfwN.f fwX1_93_0 rfl (fun q h => by rw [← Option.some.inj h]; rfl)) rfl ?_
  refine z_aload_n dX1_init_101 rfl rfl ?_
  refine z_sipush (v := 300) dX1_init_102 rfl ?_
  refine z_newa (q := 1) (N := 300) dX1_init_105 rfl (by decide) q536 (by decide) (by decide) (by decide) ?_
  exact k
theorem sX1_init_107 {E : zE} {d : Nat} {Q : zO → zM → Prop} (M : zM) (p0 : Nat) (k : Z E YX1_init (d + 1) (zn (sr M 16 14 (some (p0, 101, 300))) 300) [(0, vr (some (16, 0, 0)))] 116 [vr (some ((zsz M), 102, 300)), vr (some (16, 0, 0))] Q) : Z E YX1_init (d + 1) M [(0, vr (some (16, 0, 0)))] 107 [vr (some (p0, 101, 300)), vr (some (16, 0, 0))] Q := by
  refine z_putr (by decide) dX1_init_107 (zfwN.f fwX1_96_0 rfl (fun q h => by rw [← Option.some.inj h]; rfl)) rfl ?_
  refine z_aload_n dX1_init_110 rfl rfl ?_
  refine z_sipush (v := 300) dX1_init_111 rfl ?_
  refine z_newa (q := 2) (N := 300) dX1_init_114 rfl (by decide) q621 (by decide) (by decide) (by decide) ?_
  exact k
theorem sX1_init_116 {E : zE} {d : Nat} {Q : zO → zM → Prop} (M : zM) (p0 : Nat) (k : Z E YX1_init (d + 1) (zn (sr M 16 15 (some (p0, 102, 300))) 300) [(0, vr (some (16, 0, 0)))] 125 [vr (some ((zsz M), 102, 300)), vr (some (16, 0, 0))] Q) : Z E YX1_init (d + 1) M [(0, vr (some (16, 0, 0)))] 116 [vr (some (p0, 102, 300)), vr (some (16, 0, 0))] Q := by
  refine z_putr (by decide) dX1_init_116 (zfwN.f fwX1_99_0 rfl (fun q h => by rw [← Option.some.inj h]; rfl)) rfl ?_
  refine z_aload_n dX1_init_119 rfl rfl ?_
  refine z_sipush (v := 300) dX1_init_120 rfl ?_
  refine z_newa (q := 2) (N := 300) dX1_init_123 rfl (by decide) q621 (by decide) (by decide) (by decide) ?_
  exact k
theorem sX1_init_125 {E : zE} {d : Nat} {Q : zO → zM → Prop} (M : zM) (p0 : Nat) (k : Z E YX1_init (d + 1) (zn (sr M 16 16 (some (p0, 102, 300))) 300) [(0, vr (some (16, 0, 0)))] 134 [vr (some ((zsz M), 102, 300)), vr (some (16, 0, 0))] Q) : Z E YX1_init (d + 1) M [(0, vr (some (16, 0, 0)))] 125 [vr (some (p0, 102, 300)), vr (some (16, 0, 0))] Q := by
  refine z_putr (by decide) dX1_init_125 (zfwN.f fwX1_103_0 rfl (fun q h => by rw [← Option.some.inj h]; rfl)) rfl ?_
  refine z_aload_n dX1_init_128 rfl rfl ?_
  refine z_sipush (v := 300) dX1_init_129 rfl ?_
  refine z_newa (q := 2) (N := 300) dX1_init_132 rfl (by decide) q621 (by decide) (by decide) (by decide) ?_
  exact k
theorem sX1_init_134 {E : zE} {d : Nat} {Q : zO → zM → Prop} (M : zM) (p0 : Nat) (k : Z E YX1_init (d + 1) (zn (sr M 16 17 (some (p0, 102, 300))) 300) [(0, vr (some (16, 0, 0)))] 143 [vr (some ((zsz M), 102, 300)), vr (some (16, 0, 0))] Q) : Z E YX1_init (d + 1) M [(0, vr (some (16, 0, 0)))] 134 [vr (some (p0, 102, 300)), vr (some (16, 0, 0))] Q := by
  refine z_putr (by decide) dX1_init_134 (zfwN.f fwX1_106_0 rfl (fun q h => by rw [← Option.some.inj h]; rfl)) rfl ?_
  refine z_aload_n dX1_init_137 rfl rfl ?_
  refine z_sipush (v := 300) dX1_init_138 rfl ?_
  refine z_newa (q := 2) (N := 300) dX1_init_141 rfl (by decide) q621 (by decide) (by decide) (by decide) ?_
  exact k
theorem sX1_init_143 {E : zE} {d : Nat} {Q : zO → zM → Prop} (M : zM) (p0 : Nat) (k : Z E YX1_init (d + 1) (zn (sr M 16 18 (some (p0, 102, 300))) 300) [(0, vr (some (16, 0, 0)))] 152 [vr (some ((zsz M), 102, 300)), vr (some (16, 0, 0))] Q) : Z E YX1_init (d + 1) M [(0, vr (some (16, 0, 0)))] 143 [vr (some (p0, 102, 300)), vr (some (16, 0, 0))] Q := by
  refine z_putr (by decide) dX1_init_143 (zfwN.f fwX1_109_0 rfl (fun q h => by rw [← Option.some.inj h]; rfl)) rfl ?_
  refine z_aload_n dX1_init_146 rfl rfl ?_
  refine z_sipush (v := 300) dX1_init_147 rfl ?_
  refine z_newa (q := 2) (N := 300) dX1_init_150 rfl (by decide) q621 (by decide) (by decide) (by decide) ?_
  exact k
theorem sX1_init_152 {E : zE} {d : Nat} {Q : zO → zM → Prop} (M : zM) (p0 : Nat) (k : Z E YX1_init (d + 1) (zn (sr M 16 19 (some (p0, 102, 300))) 160) [(0, vr (some (16, 0, 0)))] 161 [vr (some ((zsz M), 102, 160)), vr (some (16, 0, 0))] Q) : Z E YX1_init (d + 1) M [(0, vr (some (16, 0, 0)))] 152 [vr (some (p0, 102, 300)), vr (some (16, 0, 0))] Q := by
  refine z_putr (by decide) dX1_init_152 (zfwN.f fwX1_112_0 rfl (fun q h => by rw [← Option.some.inj h]; rfl)) rfl ?_
  refine z_aload_n dX1_init_155 rfl rfl ?_
  refine z_sipush (v := 160) dX1_init_156 rfl ?_
  refine z_newa (q := 2) (N := 160) dX1_init_159 rfl (by decide) q621 (by decide) (by decide) (by decide) ?_
  exact k
theorem sX1_init_161 {E : zE} {d : Nat} {Q : zO → zM → Prop} (M : zM) (p0 : Nat) (k : Z E YX1_init (d + 1) (zn (sr M 16 20 (some (p0, 102, 160))) 3000) [(0, vr (some (16, 0, 0)))] 170 [vr (some ((zsz M), 102, 3000)), vr (some (16, 0, 0))] Q) : Z E YX1_init (d + 1) M [(0, vr (some (16, 0, 0)))] 161 [vr (some (p0, 102, 160)), vr (some (16, 0, 0))] Q := by
  refine z_putr (by decide) dX1_init_161 (zfwN.f fwX1_115_0 rfl (fun q h => by rw [← Option.some.inj h]; rfl)) rfl ?_
  refine z_aload_n dX1_init_164 rfl rfl ?_
  refine z_sipush (v := 3000) dX1_init_165 rfl ?_
  refine z_newa (q := 2) (N := 3000) dX1_init_168 rfl (by decide) q621 (by decide) (by decide) (by decide) ?_
  exact k
theorem sX1_init_170 {E : zE} {d : Nat} {Q : zO → zM → Prop} (M : zM) (p0 : Nat) (k : Z E YX1_init (d + 1) (zn (sr M 16 21 (some (p0, 102, 3000))) 3000) [(0, vr (some (16, 0, 0)))] 179 [vr (some ((zsz M), 102, 3000)), vr (some (16, 0, 0))] Q) : Z E YX1_init (d + 1) M [(0, vr (some (16, 0, 0)))] 170 [vr (some (p0, 102, 3000)), vr (some (16, 0, 0))] Q := by
  refine z_putr (by decide) dX1_init_170 (zfwN.f fwX1_118_0 rfl (fun q h => by rw [← Option.some.inj h]; rfl)) rfl ?_
  refine z_aload_n dX1_init_173 rfl rfl ?_
  refine z_sipush (v := 3000) dX1_init_174 rfl ?_
  refine z_newa (q := 2) (N := 3000) dX1_init_177 rfl (by decide) q621 (by decide) (by decide) (by decide) ?_
  exact k
theorem sX1_init_179 {E : zE} {d : Nat} {Q : zO → zM → Prop} (M : zM) (p0 : Nat) (k : Z E YX1_init (d + 1) (zn (sr M 16 22 (some (p0, 102, 3000))) 3000) [(0, vr (some (16, 0, 0)))] 188 [vr (some ((zsz M), 101, 3000)), vr (some (16, 0, 0))] Q) : Z E YX1_init (d + 1) M [(0, vr (some (16, 0, 0)))] 179 [vr (some (p0, 102, 3000)), vr (some (16, 0, 0))] Q := by
  refine z_putr (by decide) dX1_init_179 (zfwN.f fwX1_121_0 rfl (fun q h => by rw [← Option.some.inj h]; rfl)) rfl ?_
  refine z_aload_n dX1_init_182 rfl rfl ?_
  refine z_sipush (v := 3000) dX1_init_183 rfl ?_
  refine z_newa (q := 1) (N := 3000) dX1_init_186 rfl (by decide) q536 (by decide) (by decide) (by decide) ?_
  exact k
theorem sX1_init_188 {E : zE} {d : Nat} {Q : zO → zM → Prop} (M : zM) (p0 : Nat) (k : Z E YX1_init (d + 1) (zn (sr M 16 23 (some (p0, 101, 3000))) 3000) [(0, vr (some (16, 0, 0)))] 197 [vr (some ((zsz M), 100, 3000)), vr (some (16, 0, 0))] Q) : Z E YX1_init (d + 1) M [(0, vr (some (16, 0, 0)))] 188 [vr (some (p0, 101, 3000)), vr (some (16, 0, 0))] Q := by
  refine z_putr (by decide) dX1_init_188 (zfwN.f fwX1_124_0 rfl (fun q h => by rw [← Option.some.inj h]; rfl)) rfl ?_
  refine z_aload_n dX1_init_191 rfl rfl ?_
  refine z_sipush (v := 3000) dX1_init_192 rfl ?_
  refine z_newa (q := 0) (N := 3000) dX1_init_195 rfl (by decide) q535 (by decide) (by decide) (by decide) ?_
  exact k
theorem sX1_init_197 {E : zE} {d : Nat} {Q : zO → zM → Prop} (M : zM) (p0 : Nat) (k : Z E YX1_init (d + 1) (zn (sr M 16 24 (some (p0, 100, 3000))) 3000) [(0, vr (some (16, 0, 0)))] 206 [vr (some ((zsz M), 100, 3000)), vr (some (16, 0, 0))] Q) : Z E YX1_init (d + 1) M [(0, vr (some (16, 0, 0)))] 197 [vr (some (p0, 100, 3000)), vr (some (16, 0, 0))] Q := by
  refine z_putr (by decide) dX1_init_197 (zfwN.f fwX1_127_0 rfl (fun q h => by rw [← Option.some.inj h]; rfl)) rfl ?_
  refine z_aload_n dX1_init_200 rfl rfl ?_
  refine z_sipush (v := 3000) dX1_init_201 rfl ?_
  refine z_newa (q := 0) (N := 3000) dX1_init_204 rfl (by decide) q535 (by decide) (by decide) (by decide) ?_
  exact k
theorem sX1_init_206 {E : zE} {d : Nat} {Q : zO → zM → Prop} (M : zM) (p0 : Nat) (k : Z E YX1_init (d + 1) (zn (sr M 16 25 (some (p0, 100, 3000))) 6) [(0, vr (some (16, 0, 0)))] 213 [vr (some ((zsz M), 13, 0)), vr (some (16, 0, 0))] Q) : Z E YX1_init (d + 1) M [(0, vr (some (16, 0, 0)))] 206 [vr (some (p0, 100, 3000)), vr (some (16, 0, 0))] Q := by
  refine z_putr (by decide) dX1_init_206 (zfwN.f fwX1_131_0 rfl (fun q h => by rw [← Option.some.inj h]; rfl)) rfl ?_
  refine z_aload_n dX1_init_209 rfl rfl ?_
  refine z_new dX1_init_210 csX1_134 zff_13 ?_
  exact k
theorem sX1_init_213 {E : zE} {d : Nat} {Q : zO → zM → Prop} (M : zM) (p0 : Nat) (k : Z E YX4_init d M (zargs 0 [vr (some (p0, 13, 0))]) 0 [] (zafter E YX1_init (d + 1) [(0, vr (some (16, 0, 0)))] 214 3 [vr (some (p0, 13, 0)), vr (some (16, 0, 0))] Q)) : Z E YX1_init (d + 1) M [(0, vr (some (16, 0, 0)))] 213 [vr (some (p0, 13, 0)), vr (some (16, 0, 0))] Q := by
  refine z_dup dX1_init_213 rfl ?_
  exact z_callI (as := []) (st := [vr (some (p0, 13, 0)), vr (some (16, 0, 0))]) dX1_init_214 isX1_136 (Nat.le_refl _) (Nat.le_of_ble_eq_true rfl) (Nat.le_of_ble_eq_true rfl) rfl k
theorem sX1_init_217 {E : zE} {d : Nat} {Q : zO → zM → Prop} (M : zM) (p0 : Nat) (k : Z E YX1_init (d + 1) (zn (sr M 16 30 (some (p0, 13, 0))) 6) [(0, vr (some (16, 0, 0)))] 224 [vr (some ((zsz M), 14, 0)), vr (some (16, 0, 0))] Q) : Z E YX1_init (d + 1) M [(0, vr (some (16, 0, 0)))] 217 [vr (some (p0, 13, 0)), vr (some (16, 0, 0))] Q := by
  refine z_putr (by decide) dX1_init_217 (zfwN.f fwX1_137_0 rfl (fun q h => by rw [← Option.some.inj h]; rfl)) rfl ?_
  refine z_aload_n dX1_init_220 rfl rfl ?_
  refine z_new dX1_init_221 csX1_141 zff_14 ?_
  exact k
theorem sX1_init_224 {E : zE} {d : Nat} {Q : zO → zM → Prop} (M : zM) (p0 : Nat) (k : Z E YX5_init d M (zargs 0 [vr (some (p0, 14, 0))]) 0 [] (zafter E YX1_init (d + 1) [(0, vr (some (16, 0, 0)))] 225 3 [vr (some (p0, 14, 0)), vr (some (16, 0, 0))] Q)) : Z E YX1_init (d + 1) M [(0, vr (some (16, 0, 0)))] 224 [vr (some (p0, 14, 0)), vr (some (16, 0, 0))] Q := by
  refine z_dup dX1_init_224 rfl ?_
  exact z_callI (as := []) (st := [vr (some (p0, 14, 0)), vr (some (16, 0, 0))]) dX1_init_225 isX1_143 (Nat.le_refl _) (Nat.le_of_ble_eq_true rfl) (Nat.le_of_ble_eq_true rfl) rfl k
theorem sX1_init_228 {E : zE} {d : Nat} {Q : zO → zM → Prop} (M : zM) (p0 : Nat) (k : Z E YX1_init (d + 1) (zn (sr M 16 31 (some (p0, 14, 0))) 14500) [(0, vr (some (16, 0, 0)))] 237 [vr (some ((zsz M), 101, 14500)), vr (some (16, 0, 0))] Q) : Z E YX1_init (d + 1) M [(0, vr (some (16, 0, 0)))] 228 [vr (some (p0, 14, 0)), vr (some (16, 0, 0))] Q := by
  refine z_putr (by decide) dX1_init_228 (zfwN.f fwX1_144_0 rfl (fun q h => by rw [← Option.some.inj h]; rfl)) rfl ?_
  refine z_aload_n dX1_init_231 rfl rfl ?_
  refine z_sipush (v := 14500) dX1_init_232 rfl ?_
  refine z_newa (q := 1) (N := 14500) dX1_init_235 rfl (by decide) q536 (by decide) (by decide) (by decide) ?_
  exact k
theorem sX1_init_237 {E : zE} {d : Nat} {Q : zO → zM → Prop} (M : zM) (p0 : Nat) (k : Z E YX1_init (d + 1) (zn (sr M 16 34 (some (p0, 101, 14500))) 14500) [(0, vr (some (16, 0, 0)))] 246 [vr (some ((zsz M), 100, 14500)), vr (some (16, 0, 0))] Q) : Z E YX1_init (d + 1) M [(0, vr (some (16, 0, 0)))] 237 [vr (some (p0, 101, 14500)), vr (some (16, 0, 0))] Q := by
  refine z_putr (by decide) dX1_init_237 (zfwN.f fwX1_148_0 rfl (fun q h => by rw [← Option.some.inj h]; rfl)) rfl ?_
  refine z_aload_n dX1_init_240 rfl rfl ?_
  refine z_sipush (v := 14500) dX1_init_241 rfl ?_
  refine z_newa (q := 0) (N := 14500) dX1_init_244 rfl (by decide) q535 (by decide) (by decide) (by decide) ?_
  exact k
theorem sX1_init_246 {E : zE} {d : Nat} {Q : zO → zM → Prop} (M : zM) (p0 : Nat) (k : Z E YX1_init (d + 1) (zn (sr M 16 35 (some (p0, 100, 14500))) 14500) [(0, vr (some (16, 0, 0)))] 255 [vr (some ((zsz M), 100, 14500)), vr (some (16, 0, 0))] Q) : Z E YX1_init (d + 1) M [(0, vr (some (16, 0, 0)))] 246 [vr (some (p0, 100, 14500)), vr (some (16, 0, 0))] Q := by
  refine z_putr (by decide) dX1_init_246 (zfwN.f fwX1_151_0 rfl (fun q h => by rw [← Option.some.inj h]; rfl)) rfl ?_
  refine z_aload_n dX1_init_249 rfl rfl ?_
  refine z_sipush (v := 14500) dX1_init_250 rfl ?_
  refine z_newa (q := 0) (N := 14500) dX1_init_253 rfl (by decide) q535 (by decide) (by decide) (by decide) ?_
  exact k
theorem sX1_init_255 {E : zE} {d : Nat} {Q : zO → zM → Prop} (M : zM) (p0 : Nat) (k : Z E YX1_init (d + 1) (zn (sr M 16 36 (some (p0, 100, 14500))) 14500) [(0, vr (some (16, 0, 0)))] 264 [vr (some ((zsz M), 100, 14500)), vr (some (16, 0, 0))] Q) : Z E YX1_init (d + 1) M [(0, vr (some (16, 0, 0)))] 255 [vr (some (p0, 100, 14500)), vr (some (16, 0, 0))] Q := by
  refine z_putr (by decide) dX1_init_255 (zfwN.f fwX1_154_0 rfl (fun q h => by rw [← Option.some.inj h]; rfl)) rfl ?_
  refine z_aload_n dX1_init_258 rfl rfl ?_
  refine z_sipush (v := 14500) dX1_init_259 rfl ?_
  refine z_newa (q := 0) (N := 14500) dX1_init_262 rfl (by decide) q535 (by decide) (by decide) (by decide) ?_
  exact k
theorem sX1_init_264 {E : zE} {d : Nat} {Q : zO → zM → Prop} (M : zM) (p0 : Nat) (k : Z E YX1_init (d + 1) (zn (sr M 16 37 (some (p0, 100, 14500))) 24) [(0, vr (some (16, 0, 0)))] 272 [vr (some ((zsz M), 102, 24)), vr (some (16, 0, 0))] Q) : Z E YX1_init (d + 1) M [(0, vr (some (16, 0, 0)))] 264 [vr (some (p0, 100, 14500)), vr (some (16, 0, 0))] Q := by
  refine z_putr (by decide) dX1_init_264 (zfwN.f fwX1_157_0 rfl (fun q h => by rw [← Option.some.inj h]; rfl)) rfl ?_
  refine z_aload_n dX1_init_267 rfl rfl ?_
  refine z_bipush (v := 24) dX1_init_268 rfl ?_
  refine z_newa (q := 2) (N := 24) dX1_init_270 rfl (by decide) q621 (by decide) (by decide) (by decide) ?_
  exact k
theorem sX1_init_272 {E : zE} {d : Nat} {Q : zO → zM → Prop} (M : zM) (p0 : Nat) (k : Z E YX1_init (d + 1) (zn (sr M 16 39 (some (p0, 102, 24))) 24) [(0, vr (some (16, 0, 0)))] 280 [vr (some ((zsz M), 102, 24)), vr (some (16, 0, 0))] Q) : Z E YX1_init (d + 1) M [(0, vr (some (16, 0, 0)))] 272 [vr (some (p0, 102, 24)), vr (some (16, 0, 0))] Q := by
  refine z_putr (by decide) dX1_init_272 (zfwN.f fwX1_160_0 rfl (fun q h => by rw [← Option.some.inj h]; rfl)) rfl ?_
  refine z_aload_n dX1_init_275 rfl rfl ?_
  refine z_bipush (v := 24) dX1_init_276 rfl ?_
  refine z_newa (q := 2) (N := 24) dX1_init_278 rfl (by decide) q621 (by decide) (by decide) (by decide) ?_
  exact k
theorem sX1_init_280 {E : zE} {d : Nat} {Q : zO → zM → Prop} (M : zM) (p0 : Nat) (k : Z E YX1_init (d + 1) (zn (sr M 16 40 (some (p0, 102, 24))) 24) [(0, vr (some (16, 0, 0)))] 288 [vr (some ((zsz M), 102, 24)), vr (some (16, 0, 0))] Q) : Z E YX1_init (d + 1) M [(0, vr (some (16, 0, 0)))] 280 [vr (some (p0, 102, 24)), vr (some (16, 0, 0))] Q := by
  refine z_putr (by decide) dX1_init_280 (zfwN.f fwX1_163_0 rfl (fun q h => by rw [← Option.some.inj h]; rfl)) rfl ?_
  refine z_aload_n dX1_init_283 rfl rfl ?_
  refine z_bipush (v := 24) dX1_init_284 rfl ?_
  refine z_newa (q := 2) (N := 24) dX1_init_286 rfl (by decide) q621 (by decide) (by decide) (by decide) ?_
  exact k
theorem sX1_init_288 {E : zE} {d : Nat} {Q : zO → zM → Prop} (M : zM) (p0 : Nat) (k : Z E YX1_init (d + 1) (zn (sr M 16 41 (some (p0, 102, 24))) 24) [(0, vr (some (16, 0, 0)))] 296 [vr (some ((zsz M), 102, 24)), vr (some (16, 0, 0))] Q) : Z E YX1_init (d + 1) M [(0, vr (some (16, 0, 0)))] 288 [vr (some (p0, 102, 24)), vr (some (16, 0, 0))] Q := by
  refine z_putr (by decide) dX1_init_288 (zfwN.f fwX1_166_0 rfl (fun q h => by rw [← Option.some.inj h]; rfl)) rfl ?_
  refine z_aload_n dX1_init_291 rfl rfl ?_
  refine z_bipush (v := 24) dX1_init_292 rfl ?_
  refine z_newa (q := 2) (N := 24) dX1_init_294 rfl (by decide) q621 (by decide) (by decide) (by decide) ?_
  exact k
theorem sX1_init_296 {E : zE} {d : Nat} {Q : zO → zM → Prop} (M : zM) (p0 : Nat) (k : Z E YX1_init (d + 1) (zn (sr M 16 42 (some (p0, 102, 24))) 24) [(0, vr (some (16, 0, 0)))] 304 [vr (some ((zsz M), 102, 24)), vr (some (16, 0, 0))] Q) : Z E YX1_init (d + 1) M [(0, vr (some (16, 0, 0)))] 296 [vr (some (p0, 102, 24)), vr (some (16, 0, 0))] Q := by
  refine z_putr (by decide) dX1_init_296 (zfwN.f fwX1_169_0 rfl (fun q h => by rw [← Option.some.inj h]; rfl)) rfl ?_
  refine z_aload_n dX1_init_299 rfl rfl ?_
  refine z_bipush (v := 24) dX1_init_300 rfl ?_
  refine z_newa (q := 2) (N := 24) dX1_init_302 rfl (by decide) q621 (by decide) (by decide) (by decide) ?_
  exact k
theorem sX1_init_304 {E : zE} {d : Nat} {Q : zO → zM → Prop} (M : zM) (p0 : Nat) (k : Z E YX1_init (d + 1) (zn (sr M 16 43 (some (p0, 102, 24))) 24) [(0, vr (some (16, 0, 0)))] 312 [vr (some ((zsz M), 102, 24)), vr (some (16, 0, 0))] Q) : Z E YX1_init (d + 1) M [(0, vr (some (16, 0, 0)))] 304 [vr (some (p0, 102, 24)), vr (some (16, 0, 0))] Q := by
  refine z_putr (by decide) dX1_init_304 (zfwN.f fwX1_172_0 rfl (fun q h => by rw [← Option.some.inj h]; rfl)) rfl ?_
  refine z_aload_n dX1_init_307 rfl rfl ?_
  refine z_bipush (v := 24) dX1_init_308 rfl ?_
  refine z_newa (q := 2) (N := 24) dX1_init_310 rfl (by decide) q621 (by decide) (by decide) (by decide) ?_
  exact k
theorem sX1_init_312 {E : zE} {d : Nat} {Q : zO → zM → Prop} (M : zM) (p0 : Nat) (k : Z E YX1_init (d + 1) (zn (sr M 16 44 (some (p0, 102, 24))) 24) [(0, vr (some (16, 0, 0)))] 320 [vr (some ((zsz M), 101, 24)), vr (some (16, 0, 0))] Q) : Z E YX1_init (d + 1) M [(0, vr (some (16, 0, 0)))] 312 [vr (some (p0, 102, 24)), vr (some (16, 0, 0))] Q := by
  refine z_putr (by decide) dX1_init_312 (zfwN.f fwX1_175_0 rfl (fun q h => by rw [← Option.some.inj h]; rfl)) rfl ?_
  refine z_aload_n dX1_init_315 rfl rfl ?_
  refine z_bipush (v := 24) dX1_init_316 rfl ?_
  refine z_newa (q := 1) (N := 24) dX1_init_318 rfl (by decide) q536 (by decide) (by decide) (by decide) ?_
  exact k
theorem sX1_init_320 {E : zE} {d : Nat} {Q : zO → zM → Prop} (M : zM) (p0 : Nat) (k : Z E YX1_init (d + 1) (zn (sr M 16 45 (some (p0, 101, 24))) 24) [(0, vr (some (16, 0, 0)))] 328 [vr (some ((zsz M), 100, 24)), vr (some (16, 0, 0))] Q) : Z E YX1_init (d + 1) M [(0, vr (some (16, 0, 0)))] 320 [vr (some (p0, 101, 24)), vr (some (16, 0, 0))] Q := by
  refine z_putr (by decide) dX1_init_320 (zfwN.f fwX1_178_0 rfl (fun q h => by rw [← Option.some.inj h]; rfl)) rfl ?_
  refine z_aload_n dX1_init_323 rfl rfl ?_
  refine z_bipush (v := 24) dX1_init_324 rfl ?_
  refine z_newa (q := 0) (N := 24) dX1_init_326 rfl (by decide) q535 (by decide) (by decide) (by decide) ?_
  exact k
theorem sX1_init_328 {E : zE} {d : Nat} {Q : zO → zM → Prop} (M : zM) (p0 : Nat) (k : Z E YX1_init (d + 1) (zn (sr M 16 46 (some (p0, 100, 24))) 960) [(0, vr (some (16, 0, 0)))] 337 [vr (some ((zsz M), 102, 960)), vr (some (16, 0, 0))] Q) : Z E YX1_init (d + 1) M [(0, vr (some (16, 0, 0)))] 328 [vr (some (p0, 100, 24)), vr (some (16, 0, 0))] Q := by
  refine z_putr (by decide) dX1_init_328 (zfwN.f fwX1_181_0 rfl (fun q h => by rw [← Option.some.inj h]; rfl)) rfl ?_
  refine z_aload_n dX1_init_331 rfl rfl ?_
  refine z_sipush (v := 960) dX1_init_332 rfl ?_
  refine z_newa (q := 2) (N := 960) dX1_init_335 rfl (by decide) q621 (by decide) (by decide) (by decide) ?_
  exact k
theorem sX1_init_337 {E : zE} {d : Nat} {Q : zO → zM → Prop} (M : zM) (p0 : Nat) (k : Z E YX1_init (d + 1) (zn (sr M 16 47 (some (p0, 102, 960))) 960) [(0, vr (some (16, 0, 0)))] 346 [vr (some ((zsz M), 102, 960)), vr (some (16, 0, 0))] Q) : Z E YX1_init (d + 1) M [(0, vr (some (16, 0, 0)))] 337 [vr (some (p0, 102, 960)), vr (some (16, 0, 0))] Q := by
  refine z_putr (by decide) dX1_init_337 (zfwN.f fwX1_184_0 rfl (fun q h => by rw [← Option.some.inj h]; rfl)) rfl ?_
  refine z_aload_n dX1_init_340 rfl rfl ?_
  refine z_sipush (v := 960) dX1_init_341 rfl ?_
  refine z_newa (q := 2) (N := 960) dX1_init_344 rfl (by decide) q621 (by decide) (by decide) (by decide) ?_
  exact k
theorem sX1_init_346 {E : zE} {d : Nat} {Q : zO → zM → Prop} (M : zM) (p0 : Nat) (k : Z E YX1_init (d + 1) (zn (sr M 16 48 (some (p0, 102, 960))) 100) [(0, vr (some (16, 0, 0)))] 354 [vr (some ((zsz M), 102, 100)), vr (some (16, 0, 0))] Q) : Z E YX1_init (d + 1) M [(0, vr (some (16, 0, 0)))] 346 [vr (some (p0, 102, 960)), vr (some (16, 0, 0))] Q := by
  refine z_putr (by decide) dX1_init_346 (zfwN.f fwX1_187_0 rfl (fun q h => by rw [← Option.some.inj h]; rfl)) rfl ?_
  refine z_aload_n dX1_init_349 rfl rfl ?_
  refine z_bipush (v := 100) dX1_init_350 rfl ?_
  refine z_newa (q := 2) (N := 100) dX1_init_352 rfl (by decide) q621 (by decide) (by decide) (by decide) ?_
  exact k
theorem sX1_init_354 {E : zE} {d : Nat} {Q : zO → zM → Prop} (M : zM) (p0 : Nat) (k : Z E YX1_init (d + 1) (zn (sr M 16 56 (some (p0, 102, 100))) 624) [(0, vr (some (16, 0, 0)))] 363 [vr (some ((zsz M), 104, 624)), vr (some (16, 0, 0))] Q) : Z E YX1_init (d + 1) M [(0, vr (some (16, 0, 0)))] 354 [vr (some (p0, 102, 100)), vr (some (16, 0, 0))] Q := by
  refine z_putr (by decide) dX1_init_354 (zfwN.f fwX1_190_0 rfl (fun q h => by rw [← Option.some.inj h]; rfl)) rfl ?_
  refine z_aload_n dX1_init_357 rfl rfl ?_
  refine z_sipush (v := 624) dX1_init_358 rfl ?_
  refine z_newa (q := 4) (N := 624) dX1_init_361 rfl (by decide) q727 (by decide) (by decide) (by decide) ?_
  exact k
theorem sX1_init_363 {E : zE} {d : Nat} {Q : zO → zM → Prop} (M : zM) (p0 : Nat) (k : Z E YX1_init (d + 1) (zn (sr M 16 64 (some (p0, 104, 624))) 624) [(0, vr (some (16, 0, 0)))] 372 [vr (some ((zsz M), 102, 624)), vr (some (16, 0, 0))] Q) : Z E YX1_init (d + 1) M [(0, vr (some (16, 0, 0)))] 363 [vr (some (p0, 104, 624)), vr (some (16, 0, 0))] Q := by
  refine z_putr (by decide) dX1_init_363 (zfwN.f fwX1_193_0 rfl (fun q h => by rw [← Option.some.inj h]; rfl)) rfl ?_
  refine z_aload_n dX1_init_366 rfl rfl ?_
  refine z_sipush (v := 624) dX1_init_367 rfl ?_
  refine z_newa (q := 2) (N := 624) dX1_init_370 rfl (by decide) q621 (by decide) (by decide) (by decide) ?_
  exact k
theorem sX1_init_372 {E : zE} {d : Nat} {Q : zO → zM → Prop} (M : zM) (p0 : Nat) (k : Z E YX1_init (d + 1) (zn (sr M 16 65 (some (p0, 102, 624))) 600) [(0, vr (some (16, 0, 0)))] 381 [vr (some ((zsz M), 101, 600)), vr (some (16, 0, 0))] Q) : Z E YX1_init (d + 1) M [(0, vr (some (16, 0, 0)))] 372 [vr (some (p0, 102, 624)), vr (some (16, 0, 0))] Q := by
  refine z_putr (by decide) dX1_init_372 (zfwN.f fwX1_197_0 rfl (fun q h => by rw [← Option.some.inj h]; rfl)) rfl ?_
  refine z_aload_n dX1_init_375 rfl rfl ?_
  refine z_sipush (v := 600) dX1_init_376 rfl ?_
  refine z_newa (q := 1) (N := 600) dX1_init_379 rfl (by decide) q536 (by decide) (by decide) (by decide) ?_
  exact k
theorem sX1_init_381 {E : zE} {d : Nat} {Q : zO → zM → Prop} (M : zM) (p0 : Nat) (k : Z E YX1_init (d + 1) (zn (sr M 16 66 (some (p0, 101, 600))) 3) [(0, vr (some (16, 0, 0)))] 388 [vr (some ((zsz M), 4, 0)), vr (some (16, 0, 0))] Q) : Z E YX1_init (d + 1) M [(0, vr (some (16, 0, 0)))] 381 [vr (some (p0, 101, 600)), vr (some (16, 0, 0))] Q := by
  refine z_putr (by decide) dX1_init_381 (zfwN.f fwX1_200_0 rfl (fun q h => by rw [← Option.some.inj h]; rfl)) rfl ?_
  refine z_aload_n dX1_init_384 rfl rfl ?_
  refine z_new dX1_init_385 csX1_203 zff_4 ?_
  exact k
theorem sX1_init_388 {E : zE} {d : Nat} {Q : zO → zM → Prop} (M : zM) (p0 : Nat) (k : Z E YX6_init d M (zargs 0 [vr (some (p0, 4, 0))]) 0 [] (zafter E YX1_init (d + 1) [(0, vr (some (16, 0, 0)))] 389 3 [vr (some (p0, 4, 0)), vr (some (16, 0, 0))] Q)) : Z E YX1_init (d + 1) M [(0, vr (some (16, 0, 0)))] 388 [vr (some (p0, 4, 0)), vr (some (16, 0, 0))] Q := by
  refine z_dup dX1_init_388 rfl ?_
  exact z_callI (as := []) (st := [vr (some (p0, 4, 0)), vr (some (16, 0, 0))]) dX1_init_389 isX1_205 (Nat.le_refl _) (Nat.le_of_ble_eq_true rfl) (Nat.le_of_ble_eq_true rfl) rfl k
theorem sX1_init_392 {E : zE} {d : Nat} {Q : zO → zM → Prop} (M : zM) (p0 : Nat) (k : Z E YX1_init (d + 1) (zn (sr M 16 78 (some (p0, 4, 0))) 3) [(0, vr (some (16, 0, 0)))] 399 [vr (some ((zsz M), 4, 0)), vr (some (16, 0, 0))] Q) : Z E YX1_init (d + 1) M [(0, vr (some (16, 0, 0)))] 392 [vr (some (p0, 4, 0)), vr (some (16, 0, 0))] Q := by
  refine z_putr (by decide) dX1_init_392 (zfwN.f fwX1_206_0 rfl (fun q h => by rw [← Option.some.inj h]; rfl)) rfl ?_
  refine z_aload_n dX1_init_395 rfl rfl ?_
  refine z_new dX1_init_396 csX1_203 zff_4 ?_
  exact k
theorem sX1_init_399 {E : zE} {d : Nat} {Q : zO → zM → Prop} (M : zM) (p0 : Nat) (k : Z E YX6_init d M (zargs 0 [vr (some (p0, 4, 0))]) 0 [] (zafter E YX1_init (d + 1) [(0, vr (some (16, 0, 0)))] 400 3 [vr (some (p0, 4, 0)), vr (some (16, 0, 0))] Q)) : Z E YX1_init (d + 1) M [(0, vr (some (16, 0, 0)))] 399 [vr (some (p0, 4, 0)), vr (some (16, 0, 0))] Q := by
  refine z_dup dX1_init_399 rfl ?_
  exact z_callI (as := []) (st := [vr (some (p0, 4, 0)), vr (some (16, 0, 0))]) dX1_init_400 isX1_205 (Nat.le_refl _) (Nat.le_of_ble_eq_true rfl) (Nat.le_of_ble_eq_true rfl) rfl k
theorem sX1_init_403 {E : zE} {d : Nat} {Q : zO → zM → Prop} (M : zM) (p0 : Nat) (k : Z E YX1_init (d + 1) (zn (sr M 16 79 (some (p0, 4, 0))) 3) [(0, vr (some (16, 0, 0)))] 410 [vr (some ((zsz M), 4, 0)), vr (some (16, 0, 0))] Q) : Z E YX1_init (d + 1) M [(0, vr (some (16, 0, 0)))] 403 [vr (some (p0, 4, 0)), vr (some (16, 0, 0))] Q := by
  refine z_putr (by decide) dX1_init_403 (zfwN.f fwX1_210_0 rfl (fun q h => by rw [← Option.some.inj h]; rfl)) rfl ?_
  refine z_aload_n dX1_init_406 rfl rfl ?_
  refine z_new dX1_init_407 csX1_203 zff_4 ?_
  exact k
theorem sX1_init_410 {E : zE} {d : Nat} {Q : zO → zM → Prop} (M : zM) (p0 : Nat) (k : Z E YX6_init d M (zargs 0 [vr (some (p0, 4, 0))]) 0 [] (zafter E YX1_init (d + 1) [(0, vr (some (16, 0, 0)))] 411 3 [vr (some (p0, 4, 0)), vr (some (16, 0, 0))] Q)) : Z E YX1_init (d + 1) M [(0, vr (some (16, 0, 0)))] 410 [vr (some (p0, 4, 0)), vr (some (16, 0, 0))] Q := by
  refine z_dup dX1_init_410 rfl ?_
  exact z_callI (as := []) (st := [vr (some (p0, 4, 0)), vr (some (16, 0, 0))]) dX1_init_411 isX1_205 (Nat.le_refl _) (Nat.le_of_ble_eq_true rfl) (Nat.le_of_ble_eq_true rfl) rfl k
theorem sX1_init_414 {E : zE} {d : Nat} {Q : zO → zM → Prop} (M : zM) (p0 : Nat) (k : Z E YX1_init (d + 1) (zn (sr M 16 80 (some (p0, 4, 0))) 3) [(0, vr (some (16, 0, 0)))] 421 [vr (some ((zsz M), 4, 0)), vr (some (16, 0, 0))] Q) : Z E YX1_init (d + 1) M [(0, vr (some (16, 0, 0)))] 414 [vr (some (p0, 4, 0)), vr (some (16, 0, 0))] Q := by
  refine z_putr (by decide) dX1_init_414 (zfwN.f fwX1_213_0 rfl (fun q h => by rw [← Option.some.inj h]; rfl)) rfl ?_
  refine z_aload_n dX1_init_417 rfl rfl ?_
  refine z_new dX1_init_418 csX1_203 zff_4 ?_
  exact k
theorem sX1_init_421 {E : zE} {d : Nat} {Q : zO → zM → Prop} (M : zM) (p0 : Nat) (k : Z E YX6_init d M (zargs 0 [vr (some (p0, 4, 0))]) 0 [] (zafter E YX1_init (d + 1) [(0, vr (some (16, 0, 0)))] 422 3 [vr (some (p0, 4, 0)), vr (some (16, 0, 0))] Q)) : Z E YX1_init (d + 1) M [(0, vr (some (16, 0, 0)))] 421 [vr (some (p0, 4, 0)), vr (some (16, 0, 0))] Q := by
  refine z_dup dX1_init_421 rfl ?_
  exact z_callI (as := []) (st := [vr (some (p0, 4, 0)), vr (some (16, 0, 0))]) dX1_init_422 isX1_205 (Nat.le_refl _) (Nat.le_of_ble_eq_true rfl) (Nat.le_of_ble_eq_true rfl) rfl k
theorem sX1_init_425 {E : zE} {d : Nat} {Q : zO → zM → Prop} (M : zM) (p0 : Nat) (k : Z E YX1_init (d + 1) (zn (sr M 16 81 (some (p0, 4, 0))) 3) [(0, vr (some (16, 0, 0)))] 432 [vr (some ((zsz M), 4, 0)), vr (some (16, 0, 0))] Q) : Z E YX1_init (d + 1) M [(0, vr (some (16, 0, 0)))] 425 [vr (some (p0, 4, 0)), vr (some (16, 0, 0))] Q := by
  refine z_putr (by decide) dX1_init_425 (zfwN.f fwX1_216_0 rfl (fun q h => by rw [← Option.some.inj h]; rfl)) rfl ?_
  refine z_aload_n dX1_init_428 rfl rfl ?_
  refine z_new dX1_init_429 csX1_203 zff_4 ?_
  exact k
theorem sX1_init_432 {E : zE} {d : Nat} {Q : zO → zM → Prop} (M : zM) (p0 : Nat) (k : Z E YX6_init d M (zargs 0 [vr (some (p0, 4, 0))]) 0 [] (zafter E YX1_init (d + 1) [(0, vr (some (16, 0, 0)))] 433 3 [vr (some (p0, 4, 0)), vr (some (16, 0, 0))] Q)) : Z E YX1_init (d + 1) M [(0, vr (some (16, 0, 0)))] 432 [vr (some (p0, 4, 0)), vr (some (16, 0, 0))] Q := by
  refine z_dup dX1_init_432 rfl ?_
  exact z_callI (as := []) (st := [vr (some (p0, 4, 0)), vr (some (16, 0, 0))]) dX1_init_433 isX1_205 (Nat.le_refl _) (Nat.le_of_ble_eq_true rfl) (Nat.le_of_ble_eq_true rfl) rfl k
theorem sX1_init_436 {E : zE} {d : Nat} {Q : zO → zM → Prop} (M : zM) (p0 : Nat) (k : Z E YX1_init (d + 1) (zn (sr M 16 82 (some (p0, 4, 0))) 3) [(0, vr (some (16, 0, 0)))] 443 [vr (some ((zsz M), 4, 0)), vr (some (16, 0, 0))] Q) : Z E YX1_init (d + 1) M [(0, vr (some (16, 0, 0)))] 436 [vr (some (p0, 4, 0)), vr (some (16, 0, 0))] Q := by
  refine z_putr (by decide) dX1_init_436 (zfwN.f fwX1_219_0 rfl (fun q h => by rw [← Option.some.inj h]; rfl)) rfl ?_
  refine z_aload_n dX1_init_439 rfl rfl ?_
  refine z_new dX1_init_440 csX1_203 zff_4 ?_
  exact k
theorem sX1_init_443 {E : zE} {d : Nat} {Q : zO → zM → Prop} (M : zM) (p0 : Nat) (k : Z E YX6_init d M (zargs 0 [vr (some (p0, 4, 0))]) 0 [] (zafter E YX1_init (d + 1) [(0, vr (some (16, 0, 0)))] 444 3 [vr (some (p0, 4, 0)), vr (some (16, 0, 0))] Q)) : Z E YX1_init (d + 1) M [(0, vr (some (16, 0, 0)))] 443 [vr (some (p0, 4, 0)), vr (some (16, 0, 0))] Q := by
  refine z_dup dX1_init_443 rfl ?_
  exact z_callI (as := []) (st := [vr (some (p0, 4, 0)), vr (some (16, 0, 0))]) dX1_init_444 isX1_205 (Nat.le_refl _) (Nat.le_of_ble_eq_true rfl) (Nat.le_of_ble_eq_true rfl) rfl k
theorem sX1_init_447 {E : zE} {d : Nat} {Q : zO → zM → Prop} (M : zM) (p0 : Nat) (k : Z E YX1_init (d + 1) (zn (sr M 16 83 (some (p0, 4, 0))) 3) [(0, vr (some (16, 0, 0)))] 454 [vr (some ((zsz M), 4, 0)), vr (some (16, 0, 0))] Q) : Z E YX1_init (d + 1) M [(0, vr (some (16, 0, 0)))] 447 [vr (some (p0, 4, 0)), vr (some (16, 0, 0))] Q := by
  refine z_putr (by decide) dX1_init_447 (zfwN.f fwX1_222_0 rfl (fun q h => by rw [← Option.some.inj h]; rfl)) rfl ?_
  refine z_aload_n dX1_init_450 rfl rfl ?_
  refine z_new dX1_init_451 csX1_203 zff_4 ?_
  exact k
theorem sX1_init_454 {E : zE} {d : Nat} {Q : zO → zM → Prop} (M : zM) (p0 : Nat) (k : Z E YX6_init d M (zargs 0 [vr (some (p0, 4, 0))]) 0 [] (zafter E YX1_init (d + 1) [(0, vr (some (16, 0, 0)))] 455 3 [vr (some (p0, 4, 0)), vr (some (16, 0, 0))] Q)) : Z E YX1_init (d + 1) M [(0, vr (some (16, 0, 0)))] 454 [vr (some (p0, 4, 0)), vr (some (16, 0, 0))] Q := by
  refine z_dup dX1_init_454 rfl ?_
  exact z_callI (as := []) (st := [vr (some (p0, 4, 0)), vr (some (16, 0, 0))]) dX1_init_455 isX1_205 (Nat.le_refl _) (Nat.le_of_ble_eq_true rfl) (Nat.le_of_ble_eq_true rfl) rfl k
theorem sX1_init_458 {E : zE} {d : Nat} {Q : zO → zM → Prop} (M : zM) (p0 : Nat) (k : Z E YX1_init (d + 1) (zn (sr M 16 84 (some (p0, 4, 0))) 9) [(0, vr (some (16, 0, 0)))] 467 [vr (some ((zsz M), 107, 9)), vr (some (16, 0, 0))] Q) : Z E YX1_init (d + 1) M [(0, vr (some (16, 0, 0)))] 458 [vr (some (p0, 4, 0)), vr (some (16, 0, 0))] Q := by
  refine z_putr (by decide) dX1_init_458 (zfwN.f fwX1_225_0 rfl (fun q h => by rw [← Option.some.inj h]; rfl)) rfl ?_
  refine z_aload_n dX1_init_461 rfl rfl ?_
  refine z_bipush (v := 9) dX1_init_462 rfl ?_
  refine z_anew (q := 7) (N := 9) dX1_init_464 (Or.inr ⟨rfl, rfl⟩) q705 q728 (by decide) (by decide) (by decide) ?_
  exact k
theorem sX1_init_467 {E : zE} {d : Nat} {Q : zO → zM → Prop} (M : zM) (p0 : Nat) (k : Z E YX1_init (d + 1) (zn (sr M 16 85 (some (p0, 107, 9))) 3) [(0, vr (some (16, 0, 0)))] 474 [vr (some ((zsz M), 4, 0)), vr (some (16, 0, 0))] Q) : Z E YX1_init (d + 1) M [(0, vr (some (16, 0, 0)))] 467 [vr (some (p0, 107, 9)), vr (some (16, 0, 0))] Q := by
  refine z_putr (by decide) dX1_init_467 (zfwN.f fwX1_228_0 rfl (fun q h => by rw [← Option.some.inj h]; rfl)) rfl ?_
  refine z_aload_n dX1_init_470 rfl rfl ?_
  refine z_new dX1_init_471 csX1_203 zff_4 ?_
  exact k
theorem sX1_init_474 {E : zE} {d : Nat} {Q : zO → zM → Prop} (M : zM) (p0 : Nat) (k : Z E YX6_init d M (zargs 0 [vr (some (p0, 4, 0))]) 0 [] (zafter E YX1_init (d + 1) [(0, vr (some (16, 0, 0)))] 475 3 [vr (some (p0, 4, 0)), vr (some (16, 0, 0))] Q)) : Z E YX1_init (d + 1) M [(0, vr (some (16, 0, 0)))] 474 [vr (some (p0, 4, 0)), vr (some (16, 0, 0))] Q := by
  refine z_dup dX1_init_474 rfl ?_
  exact z_callI (as := []) (st := [vr (some (p0, 4, 0)), vr (some (16, 0, 0))]) dX1_init_475 isX1_205 (Nat.le_refl _) (Nat.le_of_ble_eq_true rfl) (Nat.le_of_ble_eq_true rfl) rfl k
theorem sX1_init_478 {E : zE} {d : Nat} {Q : zO → zM → Prop} (M : zM) (p0 : Nat) (k : Z E YX1_init (d + 1) (zn (sr M 16 86 (some (p0, 4, 0))) 6) [(0, vr (some (16, 0, 0)))] 485 [vr (some ((zsz M), 5, 0)), vr (some (16, 0, 0))] Q) : Z E YX1_init (d + 1) M [(0, vr (some (16, 0, 0)))] 478 [vr (some (p0, 4, 0)), vr (some (16, 0, 0))] Q := by
  refine z_putr (by decide) dX1_init_478 (zfwN.f fwX1_232_0 rfl (fun q h => by rw [← Option.some.inj h]; rfl)) rfl ?_
  refine z_aload_n dX1_init_481 rfl rfl ?_
  refine z_new dX1_init_482 csX1_235 zff_5 ?_
  exact k
theorem sX1_init_485 {E : zE} {d : Nat} {Q : zO → zM → Prop} (M : zM) (p0 : Nat) (k : Z E YX7_init d M (zargs 0 [vr (some (p0, 5, 0)), vr (some (16, 0, 0))]) 0 [] (zafter E YX1_init (d + 1) [(0, vr (some (16, 0, 0)))] 487 3 [vr (some (p0, 5, 0)), vr (some (16, 0, 0))] Q)) : Z E YX1_init (d + 1) M [(0, vr (some (16, 0, 0)))] 485 [vr (some (p0, 5, 0)), vr (some (16, 0, 0))] Q := by
  refine z_dup dX1_init_485 rfl ?_
  refine z_aload_n dX1_init_486 rfl rfl ?_
  exact z_callI (as := [vr (some (16, 0, 0))]) (st := [vr (some (p0, 5, 0)), vr (some (16, 0, 0))]) dX1_init_487 isX1_237 (Nat.le_refl _) (Nat.le_of_ble_eq_true rfl) (Nat.le_of_ble_eq_true rfl) rfl k
theorem sX1_init_490 {E : zE} {d : Nat} {Q : zO → zM → Prop} (M : zM) (p0 : Nat) (k : Z E YX1_init (d + 1) (zn (sr M 16 87 (some (p0, 5, 0))) 6) [(0, vr (some (16, 0, 0)))] 497 [vr (some ((zsz M), 5, 0)), vr (some (16, 0, 0))] Q) : Z E YX1_init (d + 1) M [(0, vr (some (16, 0, 0)))] 490 [vr (some (p0, 5, 0)), vr (some (16, 0, 0))] Q := by
  refine z_putr (by decide) dX1_init_490 (zfwN.f fwX1_240_0 rfl (fun q h => by rw [← Option.some.inj h]; rfl)) rfl ?_
  refine z_aload_n dX1_init_493 rfl rfl ?_
  refine z_new dX1_init_494 csX1_235 zff_5 ?_
  exact k
theorem sX1_init_497 {E : zE} {d : Nat} {Q : zO → zM → Prop} (M : zM) (p0 : Nat) (k : Z E YX7_init d M (zargs 0 [vr (some (p0, 5, 0)), vr (some (16, 0, 0))]) 0 [] (zafter E YX1_init (d + 1) [(0, vr (some (16, 0, 0)))] 499 3 [vr (some (p0, 5, 0)), vr (some (16, 0, 0))] Q)) : Z E YX1_init (d + 1) M [(0, vr (some (16, 0, 0)))] 497 [vr (some (p0, 5, 0)), vr (some (16, 0, 0))] Q := by
  refine z_dup dX1_init_497 rfl ?_
  refine z_aload_n dX1_init_498 rfl rfl ?_
  exact z_callI (as := [vr (some (16, 0, 0))]) (st := [vr (some (p0, 5, 0)), vr (some (16, 0, 0))]) dX1_init_499 isX1_237 (Nat.le_refl _) (Nat.le_of_ble_eq_true rfl) (Nat.le_of_ble_eq_true rfl) rfl k
theorem sX1_init_502 {E : zE} {d : Nat} {Q : zO → zM → Prop} (M : zM) (p0 : Nat) (k : Z E YX1_fill d (sr M 16 96 (some (p0, 5, 0))) (zargs 0 [vr (some (16, 0, 0)), vr (gr M 16 6), vr (some (5, 111, 1))]) 0 [] (zafter E YX1_init (d + 1) [(0, vr (some (16, 0, 0)))] 512 3 [] Q)) : Z E YX1_init (d + 1) M [(0, vr (some (16, 0, 0)))] 502 [vr (some (p0, 5, 0)), vr (some (16, 0, 0))] Q := by
  refine z_putr (by decide) dX1_init_502 (zfwN.f fwX1_244_0 rfl (fun q h => by rw [← Option.some.inj h]; rfl)) rfl ?_
  refine z_aload_n dX1_init_505 rfl rfl ?_
  refine z_aload_n dX1_init_506 rfl rfl ?_
  refine z_getr (r := (gr M 16 6)) dX1_init_507 fsX1_73_0 rfl ?_
  refine z_ldcs (i := 1) (j := 1) dX1_init_510 rfl rfl rfl rfl ?_
  exact z_callV (as := [vr (gr M 16 6), vr (some (5, 111, 1))]) (st := []) dX1_init_512 vsX1_249_0 (Nat.le_refl _) (Nat.le_of_ble_eq_true rfl) (Nat.le_of_ble_eq_true rfl) rfl k
theorem sX1_init_515 {E : zE} {d : Nat} {Q : zO → zM → Prop} (M : zM)  (k : Z E YX1_fill d M (zargs 0 [vr (some (16, 0, 0)), vr (gr M 16 7), vr (some (6, 111, 2))]) 0 [] (zafter E YX1_init (d + 1) [(0, vr (some (16, 0, 0)))] 522 3 [] Q)) : Z E YX1_init (d + 1) M [(0, vr (some (16, 0, 0)))] 515 [] Q := by
  refine z_aload_n dX1_init_515 rfl rfl ?_
  refine z_aload_n dX1_init_516 rfl rfl ?_
  refine z_getr (r := (gr M 16 7)) dX1_init_517 fsX1_76_0 rfl ?_
  refine z_ldcs (i := 3) (j := 2) dX1_init_520 rfl rfl rfl rfl ?_
  exact z_callV (as := [vr (gr M 16 7), vr (some (6, 111, 2))]) (st := []) dX1_init_522 vsX1_249_0 (Nat.le_refl _) (Nat.le_of_ble_eq_true rfl) (Nat.le_of_ble_eq_true rfl) rfl k
theorem sX1_init_525 {E : zE} {d : Nat} {Q : zO → zM → Prop} (M : zM)  (k : Z E YX1_firstNames d M (zargs 0 [vr (some (16, 0, 0))]) 0 [] (zafter E YX1_init (d + 1) [(0, vr (some (16, 0, 0)))] 526 3 [] Q)) : Z E YX1_init (d + 1) M [(0, vr (some (16, 0, 0)))] 525 [] Q := by
  refine z_aload_n dX1_init_525 rfl rfl ?_
  exact z_callV (as := []) (st := []) dX1_init_526 vsX1_255_0 (Nat.le_refl _) (Nat.le_of_ble_eq_true rfl) (Nat.le_of_ble_eq_true rfl) rfl k
theorem sX1_init_529 {E : zE} {d : Nat} {Q : zO → zM → Prop} (M : zM)  (k : Z E YX1_init (d + 1) M [(0, vr (some (16, 0, 0))), (1, vi (0 : Int32))] 531 [] Q) : Z E YX1_init (d + 1) M [(0, vr (some (16, 0, 0)))] 529 [] Q := by
  refine z_iconst (v := 0) dX1_init_529 rfl ?_
  refine z_ist_n dX1_init_530 rfl (by decide) (lv' := [(0, vr (some (16, 0, 0))), (1, vi (0 : Int32))]) rfl ?_
  exact k
theorem sX1_init_531 {E : zE} {d : Nat} {Q : zO → zM → Prop} (M : zM) (l1 : Int32) (k : if (8 : Int32) < l1 then (Q (.inl none) M) else (Z E YX1_init (d + 1) (zn M 3) [(0, vr (some (16, 0, 0))), (1, vi l1)] 545 [vr (some ((zsz M), 4, 0)), vi l1, vr (gr M 16 85)] Q)) : Z E YX1_init (d + 1) M [(0, vr (some (16, 0, 0))), (1, vi l1)] 531 [] Q := by
  refine z_iload_n dX1_init_531 rfl rfl ?_
  refine z_bipush (v := 8) dX1_init_532 rfl ?_
  refine z_icmp_gt (tgt := 556) dX1_init_534 rfl (fun h_ => ?_) (fun h_ => ?_)
  · have k := zit h_ k
    exact z_vret dX1_init_556 rfl k
  · have k := zif h_ k
    refine z_aload_n dX1_init_537 rfl rfl ?_
    refine z_getr (r := (gr M 16 85)) dX1_init_538 fsX1_228_0 rfl ?_
    refine z_iload_n dX1_init_541 rfl rfl ?_
    refine z_new dX1_init_542 csX1_203 zff_4 ?_
    exact k
theorem sX1_init_545 {E : zE} {d : Nat} {Q : zO → zM → Prop} (M : zM) (l1 : Int32) (p0 : Nat) (s1 : Int32) (u2 : Option zP) (k : Z E YX6_init d M (zargs 0 [vr (some (p0, 4, 0))]) 0 [] (zafter E YX1_init (d + 1) [(0, vr (some (16, 0, 0))), (1, vi l1)] 546 3 [vr (some (p0, 4, 0)), vi s1, vr u2] Q)) : Z E YX1_init (d + 1) M [(0, vr (some (16, 0, 0))), (1, vi l1)] 545 [vr (some (p0, 4, 0)), vi s1, vr u2] Q := by
  refine z_dup dX1_init_545 rfl ?_
  exact z_callI (as := []) (st := [vr (some (p0, 4, 0)), vi s1, vr u2]) dX1_init_546 isX1_205 (Nat.le_refl _) (Nat.le_of_ble_eq_true rfl) (Nat.le_of_ble_eq_true rfl) rfl k
theorem sX1_init_549 {E : zE} {d : Nat} {Q : zO → zM → Prop} (M : zM) (l1 : Int32) (p0 : Nat) (s1 : Int32) (u2 : Option zP) (k : ∃ b1 m1 : Nat, u2 = some (b1, 107, m1) ∧ (16 ≤ b1 ∧ (vp_in s1 m1 ∧ (zsto 7 4 ∧ (Z E YX1_init (d + 1) (sr M b1 (s1).toNatClampNeg (some (p0, 4, 0))) [(0, vr (some (16, 0, 0))), (1, vi (l1 + (1 : Int32)))] 531 [] Q))))) : Z E YX1_init (d + 1) M [(0, vr (some (16, 0, 0))), (1, vi l1)] 549 [vr (some (p0, 4, 0)), vi s1, vr u2] Q := by
  obtain ⟨b1, m1, e1_, k⟩ := k
  refine Z.eqs (lv' := [(0, vr (some (16, 0, 0))), (1, vi l1)]) (st' := [vr (some (p0, 4, 0)), vi s1, vr (some (b1, 107, m1))]) rfl (by rw [e1_] <;> rfl) ?_
  obtain ⟨g_, k⟩ := k
  obtain ⟨b_, k⟩ := k
  obtain ⟨c_, k⟩ := k
  refine z_aast (q := 7) g_ dX1_init_549 b_ c_ ?_
  refine z_inc (v := (l1 + (1 : Int32))) dX1_init_550 rfl rfl (by decide) (lv' := [(0, vr (some (16, 0, 0))), (1, vi (l1 + (1 : Int32)))]) rfl ?_
  refine z_goto (tgt := 531) dX1_init_553 rfl ?_
  exact k
/-! ScriptTypes.fill(LScriptTypes$Texts;Ljava/lang/String;)V -/
theorem bX1_fill_0 : zdec cX1_fill 0 [(0, .aload_n 0, 1), (1, .invokevirtual 37, 3), (4, .iconst 0, 1), (5, .istore_n 3, 1), (6, .iload_n 3, 1), (7, .aload_n 2, 1), (8, .invokevirtual 46, 3), (11, .if_icmp .ge 48, 3), (14, .aload_n 2, 1), (15, .iload_n 3, 1), (16, .invokevirtual 51, 3), (19, .bipush 32, 2), (21, .if_icmp .ne 23, 3), (24, .aload_n 1, 1), (25, .aload_n 0, 1), (26, .getfield 7, 3)] = true := by decide +kernel
theorem dX1_fill_0 : decode cX1_fill 0 = .ok (.aload_n 0, 1) := zdec_at bX1_fill_0 0 rfl
theorem dX1_fill_1 : decode cX1_fill 1 = .ok (.invokevirtual 37, 3) := zdec_at bX1_fill_0 1 rfl
theorem dX1_fill_4 : decode cX1_fill 4 = .ok (.iconst 0, 1) := zdec_at bX1_fill_0 2 rfl
theorem dX1_fill_5 : decode cX1_fill 5 = .ok (.istore_n 3, 1) := zdec_at bX1_fill_0 3 rfl
theorem dX1_fill_6 : decode cX1_fill 6 = .ok (.iload_n 3, 1) := zdec_at bX1_fill_0 4 rfl
theorem dX1_fill_7 : decode cX1_fill 7 = .ok (.aload_n 2, 1) := zdec_at bX1_fill_0 5 rfl
theorem dX1_fill_8 : decode cX1_fill 8 = .ok (.invokevirtual 46, 3) := zdec_at bX1_fill_0 6 rfl
theorem dX1_fill_11 : decode cX1_fill 11 = .ok (.if_icmp .ge 48, 3) := zdec_at bX1_fill_0 7 rfl
theorem dX1_fill_14 : decode cX1_fill 14 = .ok (.aload_n 2, 1) := zdec_at bX1_fill_0 8 rfl
theorem dX1_fill_15 : decode cX1_fill 15 = .ok (.iload_n 3, 1) := zdec_at bX1_fill_0 9 rfl
theorem dX1_fill_16 : decode cX1_fill 16 = .ok (.invokevirtual 51, 3) := zdec_at bX1_fill_0 10 rfl
theorem dX1_fill_19 : decode cX1_fill 19 = .ok (.bipush 32, 2) := zdec_at bX1_fill_0 11 rfl
theorem dX1_fill_21 : decode cX1_fill 21 = .ok (.if_icmp .ne 23, 3) := zdec_at bX1_fill_0 12 rfl
theorem dX1_fill_24 : decode cX1_fill 24 = .ok (.aload_n 1, 1) := zdec_at bX1_fill_0 13 rfl
theorem dX1_fill_25 : decode cX1_fill 25 = .ok (.aload_n 0, 1) := zdec_at bX1_fill_0 14 rfl
theorem dX1_fill_26 : decode cX1_fill 26 = .ok (.getfield 7, 3) := zdec_at bX1_fill_0 15 rfl
theorem bX1_fill_29 : zdec cX1_fill 29 [(29, .aload_n 0, 1), (30, .getfield 1, 3), (33, .invokevirtual 33, 3), (36, .pop, 1), (37, .aload_n 0, 1), (38, .invokevirtual 37, 3), (41, .goto 12, 3), (44, .aload_n 0, 1), (45, .aload_n 2, 1), (46, .iload_n 3, 1), (47, .invokevirtual 51, 3), (50, .invokevirtual 11, 3), (53, .iinc 3 1, 3), (56, .goto (-50), 3), (59, .return_, 1)] = true := by decide +kernel
theorem dX1_fill_29 : decode cX1_fill 29 = .ok (.aload_n 0, 1) := zdec_at bX1_fill_29 0 rfl
theorem dX1_fill_30 : decode cX1_fill 30 = .ok (.getfield 1, 3) := zdec_at bX1_fill_29 1 rfl
theorem dX1_fill_33 : decode cX1_fill 33 = .ok (.invokevirtual 33, 3) := zdec_at bX1_fill_29 2 rfl
theorem dX1_fill_36 : decode cX1_fill 36 = .ok (.pop, 1) := zdec_at bX1_fill_29 3 rfl
theorem dX1_fill_37 : decode cX1_fill 37 = .ok (.aload_n 0, 1) := zdec_at bX1_fill_29 4 rfl
theorem dX1_fill_38 : decode cX1_fill 38 = .ok (.invokevirtual 37, 3) := zdec_at bX1_fill_29 5 rfl
theorem dX1_fill_41 : decode cX1_fill 41 = .ok (.goto 12, 3) := zdec_at bX1_fill_29 6 rfl
theorem dX1_fill_44 : decode cX1_fill 44 = .ok (.aload_n 0, 1) := zdec_at bX1_fill_29 7 rfl
theorem dX1_fill_45 : decode cX1_fill 45 = .ok (.aload_n 2, 1) := zdec_at bX1_fill_29 8 rfl
theorem dX1_fill_46 : decode cX1_fill 46 = .ok (.iload_n 3, 1) := zdec_at bX1_fill_29 9 rfl
theorem dX1_fill_47 : decode cX1_fill 47 = .ok (.invokevirtual 51, 3) := zdec_at bX1_fill_29 10 rfl
theorem dX1_fill_50 : decode cX1_fill 50 = .ok (.invokevirtual 11, 3) := zdec_at bX1_fill_29 11 rfl
theorem dX1_fill_53 : decode cX1_fill 53 = .ok (.iinc 3 1, 3) := zdec_at bX1_fill_29 12 rfl
theorem dX1_fill_56 : decode cX1_fill 56 = .ok (.goto (-50), 3) := zdec_at bX1_fill_29 13 rfl
theorem dX1_fill_59 : decode cX1_fill 59 = .ok (.return_, 1) := zdec_at bX1_fill_29 14 rfl
theorem sX1_fill_0 {E : zE} {d : Nat} {Q : zO → zM → Prop} (M : zM) (j : Nat) (r1 : Option zP) (hw : cw M) (k : Z E YX1_clearRow d M (zargs 0 [vr (some (16, 0, 0))]) 0 [] (zafter E YX1_fill (d + 1) [(0, vr (some (16, 0, 0))), (1, vr r1), (2, vr (some ((j + 4), 111, j)))] 1 3 [] Q)) : Z E YX1_fill (d + 1) M [(0, vr (some (16, 0, 0))), (1, vr r1), (2, vr (some ((j + 4), 111, j)))] 0 [] Q := by
  refine z_aload_n dX1_fill_0 rfl rfl ?_
  exact z_callV (as := []) (st := []) dX1_fill_1 vsX1_37_0 (Nat.le_refl _) (Nat.le_of_ble_eq_true rfl) (Nat.le_of_ble_eq_true rfl) rfl k
theorem sX1_fill_4 {E : zE} {d : Nat} {Q : zO → zM → Prop} (M : zM) (j : Nat) (r1 : Option zP) (hw : cw M) (k : Z E YX1_fill (d + 1) M [(0, vr (some (16, 0, 0))), (1, vr r1), (2, vr (some ((j + 4), 111, j))), (3, vi (0 : Int32))] 6 [] Q) : Z E YX1_fill (d + 1) M [(0, vr (some (16, 0, 0))), (1, vr r1), (2, vr (some ((j + 4), 111, j)))] 4 [] Q := by
  refine z_iconst (v := 0) dX1_fill_4 rfl ?_
  refine z_ist_n dX1_fill_5 rfl (by decide) (lv' := [(0, vr (some (16, 0, 0))), (1, vr r1), (2, vr (some ((j + 4), 111, j))), (3, vi (0 : Int32))]) rfl ?_
  exact k
theorem sX1_fill_6 {E : zE} {d : Nat} {Q : zO → zM → Prop} (M : zM) (j : Nat) (r1 : Option zP) (l3 : Int32) (hw : cw M) (k : (j < 5) ∧ ((4 ≤ (d + 1)) ∧ (if (Int32.ofNat (zslen.getD j 0)) ≤ l3 then (Q (.inl none) M) else ((j < 5) ∧ ((4 ≤ (d + 1)) ∧ (vp_in l3 (zslen.getD j 0) ∧ (if (zsch j (l3).toNatClampNeg) = (32 : Int32) then (∃ b1 : Nat, r1 = some (b1, 2, 0) ∧ (Z E YX2_add d M (zargs 0 [vr (some (b1, 2, 0)), vr (some (20, 101, 256)), vi (gi M 16 3)]) 0 [] (zafter E YX1_fill (d + 1) [(0, vr (some (16, 0, 0))), (1, vr (some (b1, 2, 0))), (2, vr (some ((j + 4), 111, j))), (3, vi l3)] 33 3 [] Q))) else ((j < 5) ∧ ((4 ≤ (d + 1)) ∧ (vp_in l3 (zslen.getD j 0) ∧ (Z E YX1_write d M (zargs 0 [vr (some (16, 0, 0)), vi (zsch j (l3).toNatClampNeg)]) 0 [] (zafter E YX1_fill (d + 1) [(0, vr (some (16, 0, 0))), (1, vr r1), (2, vr (some ((j + 4), 111, j))), (3, vi l3)] 50 3 [] Q)))))))))))) : Z E YX1_fill (d + 1) M [(0, vr (some (16, 0, 0))), (1, vr r1), (2, vr (some ((j + 4), 111, j))), (3, vi l3)] 6 [] Q := by
  refine z_iload_n dX1_fill_6 rfl rfl ?_
  refine z_aload_n dX1_fill_7 rfl rfl ?_
  obtain ⟨j_, k⟩ := k
  obtain ⟨d_, k⟩ := k
  refine z_slen (j := j) j_ dX1_fill_8 q765 d_ (Nat.le_of_ble_eq_true rfl) ?_
  refine z_icmp_ge (tgt := 59) dX1_fill_11 rfl (fun h_ => ?_) (fun h_ => ?_)
  · have k := zit h_ k
    exact z_vret dX1_fill_59 rfl k
  · have k := zif h_ k
    refine z_aload_n dX1_fill_14 rfl rfl ?_
    refine z_iload_n dX1_fill_15 rfl rfl ?_
    obtain ⟨j_, k⟩ := k
    obtain ⟨d_, k⟩ := k
    obtain ⟨b_, k⟩ := k
    refine z_schar (j := j) j_ dX1_fill_16 q775 d_ (Nat.le_of_ble_eq_true rfl) b_ ?_
    refine z_bipush (v := 32) dX1_fill_19 rfl ?_
    refine z_icmp_ne (tgt := 44) dX1_fill_21 rfl (fun h_ => ?_) (fun h_ => ?_)
    · have k := zif h_ k
      refine z_aload_n dX1_fill_44 rfl rfl ?_
      refine z_aload_n dX1_fill_45 rfl rfl ?_
      refine z_iload_n dX1_fill_46 rfl rfl ?_
      obtain ⟨j_, k⟩ := k
      obtain ⟨d_, k⟩ := k
      obtain ⟨b_, k⟩ := k
      refine z_schar (j := j) j_ dX1_fill_47 q775 d_ (Nat.le_of_ble_eq_true rfl) b_ ?_
      exact z_callV (as := [vi (zsch j (l3).toNatClampNeg)]) (st := []) dX1_fill_50 vsX1_11_0 (Nat.le_refl _) (Nat.le_of_ble_eq_true rfl) (Nat.le_of_ble_eq_true rfl) rfl k
    · have k := zit h_ k
      refine z_aload_n dX1_fill_24 rfl rfl ?_
      refine z_aload_n dX1_fill_25 rfl rfl ?_
      refine z_getr dX1_fill_26 fsX1_7_0 (show gr M 16 2 = some (20, 101, 256) from cw_at hw 1 rfl) ?_
      refine z_aload_n dX1_fill_29 rfl rfl ?_
      refine z_geti dX1_fill_30 fsX1_1_0 ?_
      obtain ⟨b1, e1_, k⟩ := k
      refine Z.eqs (lv' := [(0, vr (some (16, 0, 0))), (1, vr (some (b1, 2, 0))), (2, vr (some ((j + 4), 111, j))), (3, vi l3)]) (st' := [vi (gi M 16 3), vr (some (20, 101, 256)), vr (some (b1, 2, 0))]) (by rw [e1_] <;> rfl) (by rw [e1_] <;> rfl) ?_
      exact z_callV (as := [vr (some (20, 101, 256)), vi (gi M 16 3)]) (st := []) dX1_fill_33 vsX1_33_2 (Nat.le_refl _) (Nat.le_of_ble_eq_true rfl) (Nat.le_of_ble_eq_true rfl) rfl k
theorem sX1_fill_36 {E : zE} {d : Nat} {Q : zO → zM → Prop} (M : zM) (j : Nat) (a1 : Nat) (l3 : Int32) (s0 : Int32) (hw : cw M) (k : Z E YX1_clearRow d M (zargs 0 [vr (some (16, 0, 0))]) 0 [] (zafter E YX1_fill (d + 1) [(0, vr (some (16, 0, 0))), (1, vr (some (a1, 2, 0))), (2, vr (some ((j + 4), 111, j))), (3, vi l3)] 38 3 [] Q)) : Z E YX1_fill (d + 1) M [(0, vr (some (16, 0, 0))), (1, vr (some (a1, 2, 0))), (2, vr (some ((j + 4), 111, j))), (3, vi l3)] 36 [vi s0] Q := by
  refine z_pop dX1_fill_36 rfl ?_
  refine z_aload_n dX1_fill_37 rfl rfl ?_
  exact z_callV (as := []) (st := []) dX1_fill_38 vsX1_37_0 (Nat.le_refl _) (Nat.le_of_ble_eq_true rfl) (Nat.le_of_ble_eq_true rfl) rfl k
theorem sX1_fill_41 {E : zE} {d : Nat} {Q : zO → zM → Prop} (M : zM) (j : Nat) (a1 : Nat) (l3 : Int32) (hw : cw M) (k : Z E YX1_fill (d + 1) M [(0, vr (some (16, 0, 0))), (1, vr (some (a1, 2, 0))), (2, vr (some ((j + 4), 111, j))), (3, vi l3)] 53 [] Q) : Z E YX1_fill (d + 1) M [(0, vr (some (16, 0, 0))), (1, vr (some (a1, 2, 0))), (2, vr (some ((j + 4), 111, j))), (3, vi l3)] 41 [] Q := by
  refine z_goto (tgt := 53) dX1_fill_41 rfl ?_
  exact k
theorem sX1_fill_53 {E : zE} {d : Nat} {Q : zO → zM → Prop} (M : zM) (j : Nat) (r1 : Option zP) (l3 : Int32) (hw : cw M) (k : Z E YX1_fill (d + 1) M [(0, vr (some (16, 0, 0))), (1, vr r1), (2, vr (some ((j + 4), 111, j))), (3, vi (l3 + (1 : Int32)))] 6 [] Q) : Z E YX1_fill (d + 1) M [(0, vr (some (16, 0, 0))), (1, vr r1), (2, vr (some ((j + 4), 111, j))), (3, vi l3)] 53 [] Q := by
  refine z_inc (v := (l3 + (1 : Int32))) dX1_fill_53 rfl rfl (by decide) (lv' := [(0, vr (some (16, 0, 0))), (1, vr r1), (2, vr (some ((j + 4), 111, j))), (3, vi (l3 + (1 : Int32)))]) rfl ?_
  refine z_goto (tgt := 6) dX1_fill_56 rfl ?_
  exact k
/-! ScriptTypes.clearRow()V -/
theorem bX1_clearRow_0 : zdec cX1_clearRow 0 [(0, .aload_n 0, 1), (1, .iconst 0, 1), (2, .putfield 1, 3), (5, .return_, 1)] = true := by decide +kernel
theorem dX1_clearRow_0 : decode cX1_clearRow 0 = .ok (.aload_n 0, 1) := zdec_at bX1_clearRow_0 0 rfl
theorem dX1_clearRow_1 : decode cX1_clearRow 1 = .ok (.iconst 0, 1) := zdec_at bX1_clearRow_0 1 rfl
theorem dX1_clearRow_2 : decode cX1_clearRow 2 = .ok (.putfield 1, 3) := zdec_at bX1_clearRow_0 2 rfl
theorem dX1_clearRow_5 : decode cX1_clearRow 5 = .ok (.return_, 1) := zdec_at bX1_clearRow_0 3 rfl
theorem sX1_clearRow_0 {E : zE} {d : Nat} {Q : zO → zM → Prop} (M : zM)  (hw : cw M) (k : Q (.inl none) (si M 16 3 (0 : Int32))) : Z E YX1_clearRow d M [(0, vr (some (16, 0, 0)))] 0 [] Q := by
  refine z_aload_n dX1_clearRow_0 rfl rfl ?_
  refine z_iconst (v := 0) dX1_clearRow_1 rfl ?_
  refine z_puti (by decide) dX1_clearRow_2 (zfwN.w fwX1_1_0) rfl ⟨rfl, rfl⟩ ?_
  exact z_vret dX1_clearRow_5 rfl k
/-! ScriptTypes.write(I)V -/
theorem bX1_write_0 : zdec cX1_write 0 [(0, .aload_n 0, 1), (1, .getfield 1, 3), (4, .aload_n 0, 1), (5, .getfield 7, 3), (8, .arraylength, 1), (9, .if_icmp .ge 21, 3), (12, .aload_n 0, 1), (13, .getfield 7, 3), (16, .aload_n 0, 1), (17, .dup, 1), (18, .getfield 1, 3), (21, .dup_x1, 1), (22, .iconst 1, 1), (23, .iadd, 1), (24, .putfield 1, 3), (27, .iload_n 1, 1)] = true := by decide +kernel
theorem dX1_write_0 : decode cX1_write 0 = .ok (.aload_n 0, 1) := zdec_at bX1_write_0 0 rfl
theorem dX1_write_1 : decode cX1_write 1 = .ok (.getfield 1, 3) := zdec_at bX1_write_0 1 rfl
theorem dX1_write_4 : decode cX1_write 4 = .ok (.aload_n 0, 1) := zdec_at bX1_write_0 2 rfl
theorem dX1_write_5 : decode cX1_write 5 = .ok (.getfield 7, 3) := zdec_at bX1_write_0 3 rfl
theorem dX1_write_8 : decode cX1_write 8 = .ok (.arraylength, 1) := zdec_at bX1_write_0 4 rfl
theorem dX1_write_9 : decode cX1_write 9 = .ok (.if_icmp .ge 21, 3) := zdec_at bX1_write_0 5 rfl
theorem dX1_write_12 : decode cX1_write 12 = .ok (.aload_n 0, 1) := zdec_at bX1_write_0 6 rfl
theorem dX1_write_13 : decode cX1_write 13 = .ok (.getfield 7, 3) := zdec_at bX1_write_0 7 rfl
theorem dX1_write_16 : decode cX1_write 16 = .ok (.aload_n 0, 1) := zdec_at bX1_write_0 8 rfl
theorem dX1_write_17 : decode cX1_write 17 = .ok (.dup, 1) := zdec_at bX1_write_0 9 rfl
theorem dX1_write_18 : decode cX1_write 18 = .ok (.getfield 1, 3) := zdec_at bX1_write_0 10 rfl
theorem dX1_write_21 : decode cX1_write 21 = .ok (.dup_x1, 1) := zdec_at bX1_write_0 11 rfl
theorem dX1_write_22 : decode cX1_write 22 = .ok (.iconst 1, 1) := zdec_at bX1_write_0 12 rfl
theorem dX1_write_23 : decode cX1_write 23 = .ok (.iadd, 1) := zdec_at bX1_write_0 13 rfl
theorem dX1_write_24 : decode cX1_write 24 = .ok (.putfield 1, 3) := zdec_at bX1_write_0 14 rfl
theorem dX1_write_27 : decode cX1_write 27 = .ok (.iload_n 1, 1) := zdec_at bX1_write_0 15 rfl
theorem bX1_write_28 : zdec cX1_write 28 [(28, .i2b, 1), (29, .bastore, 1), (30, .return_, 1)] = true := by decide +kernel
theorem dX1_write_28 : decode cX1_write 28 = .ok (.i2b, 1) := zdec_at bX1_write_28 0 rfl
theorem dX1_write_29 : decode cX1_write 29 = .ok (.bastore, 1) := zdec_at bX1_write_28 1 rfl
theorem dX1_write_30 : decode cX1_write 30 = .ok (.return_, 1) := zdec_at bX1_write_28 2 rfl
theorem sX1_write_0 {E : zE} {d : Nat} {Q : zO → zM → Prop} (M : zM) (l1 : Int32) (hw : cw M) (k : if (256 : Int32) ≤ (gi M 16 3) then (Q (.inl none) M) else (vp_in (gi M 16 3) 256 ∧ (Q (.inl none) (si (si M 16 3 ((gi M 16 3) + (1 : Int32))) 20 ((gi M 16 3)).toNatClampNeg (vp_nar .byte (l1).toInt8.toInt32))))) : Z E YX1_write d M [(0, vr (some (16, 0, 0))), (1, vi l1)] 0 [] Q := by
  refine z_aload_n dX1_write_0 rfl rfl ?_
  refine z_geti dX1_write_1 fsX1_1_0 ?_
  refine z_aload_n dX1_write_4 rfl rfl ?_
  refine z_getr dX1_write_5 fsX1_7_0 (show gr M 16 2 = some (20, 101, 256) from cw_at hw 1 rfl) ?_
  refine z_alen (q := 1) (v := Int32.ofNat 256) dX1_write_8 rfl ?_
  refine z_icmp_ge (tgt := 30) dX1_write_9 rfl (fun h_ => ?_) (fun h_ => ?_)
  · have k := zit h_ k
    exact z_vret dX1_write_30 rfl k
  · have k := zif h_ k
    refine z_aload_n dX1_write_12 rfl rfl ?_
    refine z_getr dX1_write_13 fsX1_7_0 (show gr M 16 2 = some (20, 101, 256) from cw_at hw 1 rfl) ?_
    refine z_aload_n dX1_write_16 rfl rfl ?_
    refine z_dup dX1_write_17 rfl ?_
    refine z_geti dX1_write_18 fsX1_1_0 ?_
    refine z_dup_x1 dX1_write_21 rfl rfl ?_
    refine z_iconst (v := 1) dX1_write_22 rfl ?_
    refine z_iadd dX1_write_23 ?_
    refine z_puti (by decide) dX1_write_24 (zfwN.w fwX1_1_0) rfl ⟨rfl, rfl⟩ ?_
    refine z_iload_n dX1_write_27 rfl rfl ?_
    refine z_i2b dX1_write_28 ?_
    obtain ⟨b_, k⟩ := k
    refine z_bast (by decide) dX1_write_29 b_ ?_
    exact z_vret dX1_write_30 rfl k
/-! ScriptTypes.firstNames()V -/
theorem bX1_firstNames_0 : zdec cX1_firstNames 0 [(0, .aload_n 0, 1), (1, .getfield 19, 3), (4, .iconst 0, 1), (5, .putfield 41, 3), (8, .ldc 44, 2), (10, .astore_n 1, 1), (11, .aload_n 0, 1), (12, .invokevirtual 37, 3), (15, .iconst 0, 1), (16, .istore_n 2, 1), (17, .iload_n 2, 1), (18, .aload_n 1, 1), (19, .invokevirtual 46, 3), (22, .if_icmp .ge 35, 3), (25, .aload_n 1, 1), (26, .iload_n 2, 1)] = true := by decide +kernel
theorem dX1_firstNames_0 : decode cX1_firstNames 0 = .ok (.aload_n 0, 1) := zdec_at bX1_firstNames_0 0 rfl
theorem dX1_firstNames_1 : decode cX1_firstNames 1 = .ok (.getfield 19, 3) := zdec_at bX1_firstNames_0 1 rfl
theorem dX1_firstNames_4 : decode cX1_firstNames 4 = .ok (.iconst 0, 1) := zdec_at bX1_firstNames_0 2 rfl
theorem dX1_firstNames_5 : decode cX1_firstNames 5 = .ok (.putfield 41, 3) := zdec_at bX1_firstNames_0 3 rfl
theorem dX1_firstNames_8 : decode cX1_firstNames 8 = .ok (.ldc 44, 2) := zdec_at bX1_firstNames_0 4 rfl
theorem dX1_firstNames_10 : decode cX1_firstNames 10 = .ok (.astore_n 1, 1) := zdec_at bX1_firstNames_0 5 rfl
theorem dX1_firstNames_11 : decode cX1_firstNames 11 = .ok (.aload_n 0, 1) := zdec_at bX1_firstNames_0 6 rfl
theorem dX1_firstNames_12 : decode cX1_firstNames 12 = .ok (.invokevirtual 37, 3) := zdec_at bX1_firstNames_0 7 rfl
theorem dX1_firstNames_15 : decode cX1_firstNames 15 = .ok (.iconst 0, 1) := zdec_at bX1_firstNames_0 8 rfl
theorem dX1_firstNames_16 : decode cX1_firstNames 16 = .ok (.istore_n 2, 1) := zdec_at bX1_firstNames_0 9 rfl
theorem dX1_firstNames_17 : decode cX1_firstNames 17 = .ok (.iload_n 2, 1) := zdec_at bX1_firstNames_0 10 rfl
theorem dX1_firstNames_18 : decode cX1_firstNames 18 = .ok (.aload_n 1, 1) := zdec_at bX1_firstNames_0 11 rfl
theorem dX1_firstNames_19 : decode cX1_firstNames 19 = .ok (.invokevirtual 46, 3) := zdec_at bX1_firstNames_0 12 rfl
theorem dX1_firstNames_22 : decode cX1_firstNames 22 = .ok (.if_icmp .ge 35, 3) := zdec_at bX1_firstNames_0 13 rfl
theorem dX1_firstNames_25 : decode cX1_firstNames 25 = .ok (.aload_n 1, 1) := zdec_at bX1_firstNames_0 14 rfl
theorem dX1_firstNames_26 : decode cX1_firstNames 26 = .ok (.iload_n 2, 1) := zdec_at bX1_firstNames_0 15 rfl
theorem bX1_firstNames_27 : zdec cX1_firstNames 27 [(27, .invokevirtual 51, 3), (30, .bipush 32, 2), (32, .if_icmp .ne 10, 3), (35, .aload_n 0, 1), (36, .invokevirtual 55, 3), (39, .goto 12, 3), (42, .aload_n 0, 1), (43, .aload_n 1, 1), (44, .iload_n 2, 1), (45, .invokevirtual 51, 3), (48, .invokevirtual 11, 3), (51, .iinc 2 1, 3), (54, .goto (-37), 3), (57, .aload_n 0, 1), (58, .invokevirtual 55, 3), (61, .aload_n 0, 1)] = true := by decide +kernel
theorem dX1_firstNames_27 : decode cX1_firstNames 27 = .ok (.invokevirtual 51, 3) := zdec_at bX1_firstNames_27 0 rfl
theorem dX1_firstNames_30 : decode cX1_firstNames 30 = .ok (.bipush 32, 2) := zdec_at bX1_firstNames_27 1 rfl
theorem dX1_firstNames_32 : decode cX1_firstNames 32 = .ok (.if_icmp .ne 10, 3) := zdec_at bX1_firstNames_27 2 rfl
theorem dX1_firstNames_35 : decode cX1_firstNames 35 = .ok (.aload_n 0, 1) := zdec_at bX1_firstNames_27 3 rfl
theorem dX1_firstNames_36 : decode cX1_firstNames 36 = .ok (.invokevirtual 55, 3) := zdec_at bX1_firstNames_27 4 rfl
theorem dX1_firstNames_39 : decode cX1_firstNames 39 = .ok (.goto 12, 3) := zdec_at bX1_firstNames_27 5 rfl
theorem dX1_firstNames_42 : decode cX1_firstNames 42 = .ok (.aload_n 0, 1) := zdec_at bX1_firstNames_27 6 rfl
theorem dX1_firstNames_43 : decode cX1_firstNames 43 = .ok (.aload_n 1, 1) := zdec_at bX1_firstNames_27 7 rfl
theorem dX1_firstNames_44 : decode cX1_firstNames 44 = .ok (.iload_n 2, 1) := zdec_at bX1_firstNames_27 8 rfl
theorem dX1_firstNames_45 : decode cX1_firstNames 45 = .ok (.invokevirtual 51, 3) := zdec_at bX1_firstNames_27 9 rfl
theorem dX1_firstNames_48 : decode cX1_firstNames 48 = .ok (.invokevirtual 11, 3) := zdec_at bX1_firstNames_27 10 rfl
theorem dX1_firstNames_51 : decode cX1_firstNames 51 = .ok (.iinc 2 1, 3) := zdec_at bX1_firstNames_27 11 rfl
theorem dX1_firstNames_54 : decode cX1_firstNames 54 = .ok (.goto (-37), 3) := zdec_at bX1_firstNames_27 12 rfl
theorem dX1_firstNames_57 : decode cX1_firstNames 57 = .ok (.aload_n 0, 1) := zdec_at bX1_firstNames_27 13 rfl
theorem dX1_firstNames_58 : decode cX1_firstNames 58 = .ok (.invokevirtual 55, 3) := zdec_at bX1_firstNames_27 14 rfl
theorem dX1_firstNames_61 : decode cX1_firstNames 61 = .ok (.aload_n 0, 1) := zdec_at bX1_firstNames_27 15 rfl
theorem bX1_firstNames_62 : zdec cX1_firstNames 62 [(62, .aload_n 0, 1), (63, .getfield 19, 3), (66, .getfield 41, 3), (69, .putfield 58, 3), (72, .return_, 1)] = true := by decide +kernel
theorem dX1_firstNames_62 : decode cX1_firstNames 62 = .ok (.aload_n 0, 1) := zdec_at bX1_firstNames_62 0 rfl
theorem dX1_firstNames_63 : decode cX1_firstNames 63 = .ok (.getfield 19, 3) := zdec_at bX1_firstNames_62 1 rfl
theorem dX1_firstNames_66 : decode cX1_firstNames 66 = .ok (.getfield 41, 3) := zdec_at bX1_firstNames_62 2 rfl
theorem dX1_firstNames_69 : decode cX1_firstNames 69 = .ok (.putfield 58, 3) := zdec_at bX1_firstNames_62 3 rfl
theorem dX1_firstNames_72 : decode cX1_firstNames 72 = .ok (.return_, 1) := zdec_at bX1_firstNames_62 4 rfl
theorem sX1_firstNames_0 {E : zE} {d : Nat} {Q : zO → zM → Prop} (M : zM)  (hw : cw M) (k : Z E YX1_clearRow d (si M 17 2 (0 : Int32)) (zargs 0 [vr (some (16, 0, 0))]) 0 [] (zafter E YX1_firstNames (d + 1) [(0, vr (some (16, 0, 0))), (1, vr (some (4, 111, 0)))] 12 3 [] Q)) : Z E YX1_firstNames (d + 1) M [(0, vr (some (16, 0, 0)))] 0 [] Q := by
  refine z_aload_n dX1_firstNames_0 rfl rfl ?_
  refine z_getr dX1_firstNames_1 fsX1_19_0 (show gr M 16 0 = some (17, 2, 0) from cw_at hw 0 rfl) ?_
  refine z_iconst (v := 0) dX1_firstNames_4 rfl ?_
  refine z_puti (by decide) dX1_firstNames_5 (zfwN.w fwX1_41_2) rfl ⟨rfl, rfl⟩ ?_
  refine z_ldcs (i := 0) (j := 0) dX1_firstNames_8 rfl rfl rfl rfl ?_
  refine z_ast_n dX1_firstNames_10 rfl (by decide) (lv' := [(0, vr (some (16, 0, 0))), (1, vr (some (4, 111, 0)))]) rfl ?_
  refine z_aload_n dX1_firstNames_11 rfl rfl ?_
  exact z_callV (as := []) (st := []) dX1_firstNames_12 vsX1_37_0 (Nat.le_refl _) (Nat.le_of_ble_eq_true rfl) (Nat.le_of_ble_eq_true rfl) rfl k
theorem sX1_firstNames_15 {E : zE} {d : Nat} {Q : zO → zM → Prop} (M : zM)  (hw : cw M) (k : Z E YX1_firstNames (d + 1) M [(0, vr (some (16, 0, 0))), (1, vr (some (4, 111, 0))), (2, vi (0 : Int32))] 17 [] Q) : Z E YX1_firstNames (d + 1) M [(0, vr (some (16, 0, 0))), (1, vr (some (4, 111, 0)))] 15 [] Q := by
  refine z_iconst (v := 0) dX1_firstNames_15 rfl ?_
  refine z_ist_n dX1_firstNames_16 rfl (by decide) (lv' := [(0, vr (some (16, 0, 0))), (1, vr (some (4, 111, 0))), (2, vi (0 : Int32))]) rfl ?_
  exact k
theorem sX1_firstNames_17 {E : zE} {d : Nat} {Q : zO → zM → Prop} (M : zM) (l2 : Int32) (hw : cw M) (k : (4 ≤ (d + 1)) ∧ (if (Int32.ofNat (zslen.getD 0 0)) ≤ l2 then (Z E YX1_begins d M (zargs 0 [vr (some (16, 0, 0))]) 0 [] (zafter E YX1_firstNames (d + 1) [(0, vr (some (16, 0, 0)))] 58 3 [] Q)) else ((4 ≤ (d + 1)) ∧ (vp_in l2 (zslen.getD 0 0) ∧ (if (zsch 0 (l2).toNatClampNeg) = (32 : Int32) then (Z E YX1_begins d M (zargs 0 [vr (some (16, 0, 0))]) 0 [] (zafter E YX1_firstNames (d + 1) [(0, vr (some (16, 0, 0))), (1, vr (some (4, 111, 0))), (2, vi l2)] 36 3 [] Q)) else ((4 ≤ (d + 1)) ∧ (vp_in l2 (zslen.getD 0 0) ∧ (Z E YX1_write d M (zargs 0 [vr (some (16, 0, 0)), vi (zsch 0 (l2).toNatClampNeg)]) 0 [] (zafter E YX1_firstNames (d + 1) [(0, vr (some (16, 0, 0))), (1, vr (some (4, 111, 0))), (2, vi l2)] 48 3 [] Q))))))))) : Z E YX1_firstNames (d + 1) M [(0, vr (some (16, 0, 0))), (1, vr (some (4, 111, 0))), (2, vi l2)] 17 [] Q := by
  refine z_iload_n dX1_firstNames_17 rfl rfl ?_
  refine z_aload_n dX1_firstNames_18 rfl rfl ?_
  obtain ⟨d_, k⟩ := k
  refine z_slen (j := 0) (by decide) dX1_firstNames_19 q765 d_ (Nat.le_of_ble_eq_true rfl) ?_
  refine z_icmp_ge (tgt := 57) dX1_firstNames_22 rfl (fun h_ => ?_) (fun h_ => ?_)
  · have k := zit h_ k
    refine z_aload_n dX1_firstNames_57 rfl rfl ?_
    refine Z.pick [0] rfl ?_
    exact z_callV (as := []) (st := []) dX1_firstNames_58 vsX1_55_0 (Nat.le_refl _) (Nat.le_of_ble_eq_true rfl) (Nat.le_of_ble_eq_true rfl) rfl k
  · have k := zif h_ k
    refine z_aload_n dX1_firstNames_25 rfl rfl ?_
    refine z_iload_n dX1_firstNames_26 rfl rfl ?_
    obtain ⟨d_, k⟩ := k
    obtain ⟨b_, k⟩ := k
    refine z_schar (j := 0) (by decide) dX1_firstNames_27 q775 d_ (Nat.le_of_ble_eq_true rfl) b_ ?_
    refine z_bipush (v := 32) dX1_firstNames_30 rfl ?_
    refine z_icmp_ne (tgt := 42) dX1_firstNames_32 rfl (fun h_ => ?_) (fun h_ => ?_)
    · have k := zif h_ k
      refine z_aload_n dX1_firstNames_42 rfl rfl ?_
      refine z_aload_n dX1_firstNames_43 rfl rfl ?_
      refine z_iload_n dX1_firstNames_44 rfl rfl ?_
      obtain ⟨d_, k⟩ := k
      obtain ⟨b_, k⟩ := k
      refine z_schar (j := 0) (by decide) dX1_firstNames_45 q775 d_ (Nat.le_of_ble_eq_true rfl) b_ ?_
      exact z_callV (as := [vi (zsch 0 (l2).toNatClampNeg)]) (st := []) dX1_firstNames_48 vsX1_11_0 (Nat.le_refl _) (Nat.le_of_ble_eq_true rfl) (Nat.le_of_ble_eq_true rfl) rfl k
    · have k := zit h_ k
      refine z_aload_n dX1_firstNames_35 rfl rfl ?_
      exact z_callV (as := []) (st := []) dX1_firstNames_36 vsX1_55_0 (Nat.le_refl _) (Nat.le_of_ble_eq_true rfl) (Nat.le_of_ble_eq_true rfl) rfl k
theorem sX1_firstNames_39 {E : zE} {d : Nat} {Q : zO → zM → Prop} (M : zM) (l2 : Int32) (hw : cw M) (k : Z E YX1_firstNames (d + 1) M [(0, vr (some (16, 0, 0))), (1, vr (some (4, 111, 0))), (2, vi l2)] 51 [] Q) : Z E YX1_firstNames (d + 1) M [(0, vr (some (16, 0, 0))), (1, vr (some (4, 111, 0))), (2, vi l2)] 39 [] Q := by
  refine z_goto (tgt := 51) dX1_firstNames_39 rfl ?_
  exact k
theorem sX1_firstNames_51 {E : zE} {d : Nat} {Q : zO → zM → Prop} (M : zM) (l2 : Int32) (hw : cw M) (k : Z E YX1_firstNames (d + 1) M [(0, vr (some (16, 0, 0))), (1, vr (some (4, 111, 0))), (2, vi (l2 + (1 : Int32)))] 17 [] Q) : Z E YX1_firstNames (d + 1) M [(0, vr (some (16, 0, 0))), (1, vr (some (4, 111, 0))), (2, vi l2)] 51 [] Q := by
  refine z_inc (v := (l2 + (1 : Int32))) dX1_firstNames_51 rfl rfl (by decide) (lv' := [(0, vr (some (16, 0, 0))), (1, vr (some (4, 111, 0))), (2, vi (l2 + (1 : Int32)))]) rfl ?_
  refine z_goto (tgt := 17) dX1_firstNames_54 rfl ?_
  exact k
theorem sX1_firstNames_61 {E : zE} {d : Nat} {Q : zO → zM → Prop} (M : zM)  (hw : cw M) (k : Q (.inl none) (si M 16 1 (gi M 17 2))) : Z E YX1_firstNames (d + 1) M [(0, vr (some (16, 0, 0)))] 61 [] Q := by
  refine z_aload_n dX1_firstNames_61 rfl rfl ?_
  refine z_aload_n dX1_firstNames_62 rfl rfl ?_
  refine z_getr dX1_firstNames_63 fsX1_19_0 (show gr M 16 0 = some (17, 2, 0) from cw_at hw 0 rfl) ?_
  refine z_geti dX1_firstNames_66 fsX1_41_2 ?_
  refine z_puti (by decide) dX1_firstNames_69 (zfwN.w fwX1_58_0) rfl ⟨rfl, rfl⟩ ?_
  exact z_vret dX1_firstNames_72 rfl k
/-! ScriptTypes.begins()V -/
theorem bX1_begins_0 : zdec cX1_begins 0 [(0, .aload_n 0, 1), (1, .getfield 19, 3), (4, .aload_n 0, 1), (5, .getfield 7, 3), (8, .aload_n 0, 1), (9, .getfield 1, 3), (12, .invokevirtual 33, 3), (15, .pop, 1), (16, .aload_n 0, 1), (17, .invokevirtual 37, 3), (20, .return_, 1)] = true := by decide +kernel
theorem dX1_begins_0 : decode cX1_begins 0 = .ok (.aload_n 0, 1) := zdec_at bX1_begins_0 0 rfl
theorem dX1_begins_1 : decode cX1_begins 1 = .ok (.getfield 19, 3) := zdec_at bX1_begins_0 1 rfl
theorem dX1_begins_4 : decode cX1_begins 4 = .ok (.aload_n 0, 1) := zdec_at bX1_begins_0 2 rfl
theorem dX1_begins_5 : decode cX1_begins 5 = .ok (.getfield 7, 3) := zdec_at bX1_begins_0 3 rfl
theorem dX1_begins_8 : decode cX1_begins 8 = .ok (.aload_n 0, 1) := zdec_at bX1_begins_0 4 rfl
theorem dX1_begins_9 : decode cX1_begins 9 = .ok (.getfield 1, 3) := zdec_at bX1_begins_0 5 rfl
theorem dX1_begins_12 : decode cX1_begins 12 = .ok (.invokevirtual 33, 3) := zdec_at bX1_begins_0 6 rfl
theorem dX1_begins_15 : decode cX1_begins 15 = .ok (.pop, 1) := zdec_at bX1_begins_0 7 rfl
theorem dX1_begins_16 : decode cX1_begins 16 = .ok (.aload_n 0, 1) := zdec_at bX1_begins_0 8 rfl
theorem dX1_begins_17 : decode cX1_begins 17 = .ok (.invokevirtual 37, 3) := zdec_at bX1_begins_0 9 rfl
theorem dX1_begins_20 : decode cX1_begins 20 = .ok (.return_, 1) := zdec_at bX1_begins_0 10 rfl
theorem sX1_begins_0 {E : zE} {d : Nat} {Q : zO → zM → Prop} (M : zM)  (hw : cw M) (k : Z E YX2_add d M (zargs 0 [vr (some (17, 2, 0)), vr (some (20, 101, 256)), vi (gi M 16 3)]) 0 [] (zafter E YX1_begins (d + 1) [(0, vr (some (16, 0, 0)))] 12 3 [] Q)) : Z E YX1_begins (d + 1) M [(0, vr (some (16, 0, 0)))] 0 [] Q := by
  refine z_aload_n dX1_begins_0 rfl rfl ?_
  refine z_getr dX1_begins_1 fsX1_19_0 (show gr M 16 0 = some (17, 2, 0) from cw_at hw 0 rfl) ?_
  refine z_aload_n dX1_begins_4 rfl rfl ?_
  refine z_getr dX1_begins_5 fsX1_7_0 (show gr M 16 2 = some (20, 101, 256) from cw_at hw 1 rfl) ?_
  refine z_aload_n dX1_begins_8 rfl rfl ?_
  refine z_geti dX1_begins_9 fsX1_1_0 ?_
  exact z_callV (as := [vr (some (20, 101, 256)), vi (gi M 16 3)]) (st := []) dX1_begins_12 vsX1_33_2 (Nat.le_refl _) (Nat.le_of_ble_eq_true rfl) (Nat.le_of_ble_eq_true rfl) rfl k
theorem sX1_begins_15 {E : zE} {d : Nat} {Q : zO → zM → Prop} (M : zM) (s0 : Int32) (hw : cw M) (k : Z E YX1_clearRow d M (zargs 0 [vr (some (16, 0, 0))]) 0 [] (zafter E YX1_begins (d + 1) [] 17 3 [] Q)) : Z E YX1_begins (d + 1) M [(0, vr (some (16, 0, 0)))] 15 [vi s0] Q := by
  refine z_pop dX1_begins_15 rfl ?_
  refine z_aload_n dX1_begins_16 rfl rfl ?_
  refine Z.pick [] rfl ?_
  exact z_callV (as := []) (st := []) dX1_begins_17 vsX1_37_0 (Nat.le_refl _) (Nat.le_of_ble_eq_true rfl) (Nat.le_of_ble_eq_true rfl) rfl k
theorem sX1_begins_20 {E : zE} {d : Nat} {Q : zO → zM → Prop} (M : zM)  (hw : cw M) (k : Q (.inl none) M) : Z E YX1_begins (d + 1) M [] 20 [] Q := by
  exact z_vret dX1_begins_20 rfl k
/-! ScriptTypes.feed(IIIII)I -/
theorem bX1_feed_0 : zdec cX1_feed 0 [(0, .aload_n 0, 1), (1, .getfield 258, 3), (4, .bipush 20, 2), (6, .iadd, 1), (7, .sipush 4000, 3), (10, .if_icmp .le 5, 3), (13, .iconst (-1), 1), (14, .ireturn, 1), (15, .aload_n 0, 1), (16, .iload_n 1, 1), (17, .invokevirtual 260, 3), (20, .aload_n 0, 1), (21, .iload_n 2, 1), (22, .invokevirtual 260, 3), (25, .aload_n 0, 1), (26, .iload_n 3, 1)] = true := by decide +kernel
theorem dX1_feed_0 : decode cX1_feed 0 = .ok (.aload_n 0, 1) := zdec_at bX1_feed_0 0 rfl
theorem dX1_feed_1 : decode cX1_feed 1 = .ok (.getfield 258, 3) := zdec_at bX1_feed_0 1 rfl
theorem dX1_feed_4 : decode cX1_feed 4 = .ok (.bipush 20, 2) := zdec_at bX1_feed_0 2 rfl
theorem dX1_feed_6 : decode cX1_feed 6 = .ok (.iadd, 1) := zdec_at bX1_feed_0 3 rfl
theorem dX1_feed_7 : decode cX1_feed 7 = .ok (.sipush 4000, 3) := zdec_at bX1_feed_0 4 rfl
theorem dX1_feed_10 : decode cX1_feed 10 = .ok (.if_icmp .le 5, 3) := zdec_at bX1_feed_0 5 rfl
theorem dX1_feed_13 : decode cX1_feed 13 = .ok (.iconst (-1), 1) := zdec_at bX1_feed_0 6 rfl
theorem dX1_feed_14 : decode cX1_feed 14 = .ok (.ireturn, 1) := zdec_at bX1_feed_0 7 rfl
theorem dX1_feed_15 : decode cX1_feed 15 = .ok (.aload_n 0, 1) := zdec_at bX1_feed_0 8 rfl
theorem dX1_feed_16 : decode cX1_feed 16 = .ok (.iload_n 1, 1) := zdec_at bX1_feed_0 9 rfl
theorem dX1_feed_17 : decode cX1_feed 17 = .ok (.invokevirtual 260, 3) := zdec_at bX1_feed_0 10 rfl
theorem dX1_feed_20 : decode cX1_feed 20 = .ok (.aload_n 0, 1) := zdec_at bX1_feed_0 11 rfl
theorem dX1_feed_21 : decode cX1_feed 21 = .ok (.iload_n 2, 1) := zdec_at bX1_feed_0 12 rfl
theorem dX1_feed_22 : decode cX1_feed 22 = .ok (.invokevirtual 260, 3) := zdec_at bX1_feed_0 13 rfl
theorem dX1_feed_25 : decode cX1_feed 25 = .ok (.aload_n 0, 1) := zdec_at bX1_feed_0 14 rfl
theorem dX1_feed_26 : decode cX1_feed 26 = .ok (.iload_n 3, 1) := zdec_at bX1_feed_0 15 rfl
theorem bX1_feed_27 : zdec cX1_feed 27 [(27, .invokevirtual 260, 3), (30, .aload_n 0, 1), (31, .iload 4, 2), (33, .invokevirtual 260, 3), (36, .aload_n 0, 1), (37, .iload 5, 2), (39, .invokevirtual 260, 3), (42, .aload_n 0, 1), (43, .getfield 258, 3), (46, .ireturn, 1)] = true := by decide +kernel
theorem dX1_feed_27 : decode cX1_feed 27 = .ok (.invokevirtual 260, 3) := zdec_at bX1_feed_27 0 rfl
theorem dX1_feed_30 : decode cX1_feed 30 = .ok (.aload_n 0, 1) := zdec_at bX1_feed_27 1 rfl
theorem dX1_feed_31 : decode cX1_feed 31 = .ok (.iload 4, 2) := zdec_at bX1_feed_27 2 rfl
theorem dX1_feed_33 : decode cX1_feed 33 = .ok (.invokevirtual 260, 3) := zdec_at bX1_feed_27 3 rfl
theorem dX1_feed_36 : decode cX1_feed 36 = .ok (.aload_n 0, 1) := zdec_at bX1_feed_27 4 rfl
theorem dX1_feed_37 : decode cX1_feed 37 = .ok (.iload 5, 2) := zdec_at bX1_feed_27 5 rfl
theorem dX1_feed_39 : decode cX1_feed 39 = .ok (.invokevirtual 260, 3) := zdec_at bX1_feed_27 6 rfl
theorem dX1_feed_42 : decode cX1_feed 42 = .ok (.aload_n 0, 1) := zdec_at bX1_feed_27 7 rfl
theorem dX1_feed_43 : decode cX1_feed 43 = .ok (.getfield 258, 3) := zdec_at bX1_feed_27 8 rfl
theorem dX1_feed_46 : decode cX1_feed 46 = .ok (.ireturn, 1) := zdec_at bX1_feed_27 9 rfl
theorem sX1_feed_0 {E : zE} {d : Nat} {Q : zO → zM → Prop} (M : zM) (l1 : Int32) (l2 : Int32) (l3 : Int32) (l4 : Int32) (l5 : Int32) (hw : cw M) (k : if ((gi M 16 5) + (20 : Int32)) ≤ (4000 : Int32) then (Z E YX1_tell d M (zargs 0 [vr (some (16, 0, 0)), vi l1]) 0 [] (zafter E YX1_feed (d + 1) [(0, vr (some (16, 0, 0))), (2, vi l2), (3, vi l3), (4, vi l4), (5, vi l5)] 17 3 [] Q)) else (Q (.inl (some (vi (-1 : Int32)))) M)) : Z E YX1_feed (d + 1) M [(0, vr (some (16, 0, 0))), (1, vi l1), (2, vi l2), (3, vi l3), (4, vi l4), (5, vi l5)] 0 [] Q := by
  refine z_aload_n dX1_feed_0 rfl rfl ?_
  refine z_geti dX1_feed_1 fsX1_258_0 ?_
  refine z_bipush (v := 20) dX1_feed_4 rfl ?_
  refine z_iadd dX1_feed_6 ?_
  refine z_sipush (v := 4000) dX1_feed_7 rfl ?_
  refine z_icmp_le (tgt := 15) dX1_feed_10 rfl (fun h_ => ?_) (fun h_ => ?_)
  · have k := zit h_ k
    refine z_aload_n dX1_feed_15 rfl rfl ?_
    refine z_iload_n dX1_feed_16 rfl rfl ?_
    refine Z.pick [0, 2, 3, 4, 5] rfl ?_
    exact z_callV (as := [vi l1]) (st := []) dX1_feed_17 vsX1_260_0 (Nat.le_refl _) (Nat.le_of_ble_eq_true rfl) (Nat.le_of_ble_eq_true rfl) rfl k
  · have k := zif h_ k
    refine z_iconst (v := -1) dX1_feed_13 rfl ?_
    exact z_iret dX1_feed_14 rfl rfl k
theorem sX1_feed_20 {E : zE} {d : Nat} {Q : zO → zM → Prop} (M : zM) (l2 : Int32) (l3 : Int32) (l4 : Int32) (l5 : Int32) (hw : cw M) (k : Z E YX1_tell d M (zargs 0 [vr (some (16, 0, 0)), vi l2]) 0 [] (zafter E YX1_feed (d + 1) [(0, vr (some (16, 0, 0))), (3, vi l3), (4, vi l4), (5, vi l5)] 22 3 [] Q)) : Z E YX1_feed (d + 1) M [(0, vr (some (16, 0, 0))), (2, vi l2), (3, vi l3), (4, vi l4), (5, vi l5)] 20 [] Q := by
  refine z_aload_n dX1_feed_20 rfl rfl ?_
  refine z_iload_n dX1_feed_21 rfl rfl ?_
  refine Z.pick [0, 2, 3, 4] rfl ?_
  exact z_callV (as := [vi l2]) (st := []) dX1_feed_22 vsX1_260_0 (Nat.le_refl _) (Nat.le_of_ble_eq_true rfl) (Nat.le_of_ble_eq_true rfl) rfl k
theorem sX1_feed_25 {E : zE} {d : Nat} {Q : zO → zM → Prop} (M : zM) (l3 : Int32) (l4 : Int32) (l5 : Int32) (hw : cw M) (k : Z E YX1_tell d M (zargs 0 [vr (some (16, 0, 0)), vi l3]) 0 [] (zafter E YX1_feed (d + 1) [(0, vr (some (16, 0, 0))), (4, vi l4), (5, vi l5)] 27 3 [] Q)) : Z E YX1_feed (d + 1) M [(0, vr (some (16, 0, 0))), (3, vi l3), (4, vi l4), (5, vi l5)] 25 [] Q := by
  refine z_aload_n dX1_feed_25 rfl rfl ?_
  refine z_iload_n dX1_feed_26 rfl rfl ?_
  refine Z.pick [0, 2, 3] rfl ?_
  exact z_callV (as := [vi l3]) (st := []) dX1_feed_27 vsX1_260_0 (Nat.le_refl _) (Nat.le_of_ble_eq_true rfl) (Nat.le_of_ble_eq_true rfl) rfl k
theorem sX1_feed_30 {E : zE} {d : Nat} {Q : zO → zM → Prop} (M : zM) (l4 : Int32) (l5 : Int32) (hw : cw M) (k : Z E YX1_tell d M (zargs 0 [vr (some (16, 0, 0)), vi l4]) 0 [] (zafter E YX1_feed (d + 1) [(0, vr (some (16, 0, 0))), (5, vi l5)] 33 3 [] Q)) : Z E YX1_feed (d + 1) M [(0, vr (some (16, 0, 0))), (4, vi l4), (5, vi l5)] 30 [] Q := by
  refine z_aload_n dX1_feed_30 rfl rfl ?_
  refine z_iload dX1_feed_31 rfl ?_
  refine Z.pick [0, 2] rfl ?_
  exact z_callV (as := [vi l4]) (st := []) dX1_feed_33 vsX1_260_0 (Nat.le_refl _) (Nat.le_of_ble_eq_true rfl) (Nat.le_of_ble_eq_true rfl) rfl k
theorem sX1_feed_36 {E : zE} {d : Nat} {Q : zO → zM → Prop} (M : zM) (l5 : Int32) (hw : cw M) (k : Z E YX1_tell d M (zargs 0 [vr (some (16, 0, 0)), vi l5]) 0 [] (zafter E YX1_feed (d + 1) [(0, vr (some (16, 0, 0)))] 39 3 [] Q)) : Z E YX1_feed (d + 1) M [(0, vr (some (16, 0, 0))), (5, vi l5)] 36 [] Q := by
  refine z_aload_n dX1_feed_36 rfl rfl ?_
  refine z_iload dX1_feed_37 rfl ?_
  refine Z.pick [0] rfl ?_
  exact z_callV (as := [vi l5]) (st := []) dX1_feed_39 vsX1_260_0 (Nat.le_refl _) (Nat.le_of_ble_eq_true rfl) (Nat.le_of_ble_eq_true rfl) rfl k
theorem sX1_feed_42 {E : zE} {d : Nat} {Q : zO → zM → Prop} (M : zM)  (hw : cw M) (k : Q (.inl (some (vi (gi M 16 5)))) M) : Z E YX1_feed (d + 1) M [(0, vr (some (16, 0, 0)))] 42 [] Q := by
  refine z_aload_n dX1_feed_42 rfl rfl ?_
  refine z_geti dX1_feed_43 fsX1_258_0 ?_
  exact z_iret dX1_feed_46 rfl rfl k
/-! ScriptTypes.tell(I)V -/
theorem bX1_tell_0 : zdec cX1_tell 0 [(0, .bipush 24, 2), (2, .istore_n 2, 1), (3, .iload_n 2, 1), (4, .ifCond .lt 29, 3), (7, .aload_n 0, 1), (8, .getfield 70, 3), (11, .aload_n 0, 1), (12, .dup, 1), (13, .getfield 258, 3), (16, .dup_x1, 1), (17, .iconst 1, 1), (18, .iadd, 1), (19, .putfield 258, 3), (22, .iload_n 1, 1), (23, .iload_n 2, 1), (24, .iushr, 1)] = true := by decide +kernel
theorem dX1_tell_0 : decode cX1_tell 0 = .ok (.bipush 24, 2) := zdec_at bX1_tell_0 0 rfl
theorem dX1_tell_2 : decode cX1_tell 2 = .ok (.istore_n 2, 1) := zdec_at bX1_tell_0 1 rfl
theorem dX1_tell_3 : decode cX1_tell 3 = .ok (.iload_n 2, 1) := zdec_at bX1_tell_0 2 rfl
theorem dX1_tell_4 : decode cX1_tell 4 = .ok (.ifCond .lt 29, 3) := zdec_at bX1_tell_0 3 rfl
theorem dX1_tell_7 : decode cX1_tell 7 = .ok (.aload_n 0, 1) := zdec_at bX1_tell_0 4 rfl
theorem dX1_tell_8 : decode cX1_tell 8 = .ok (.getfield 70, 3) := zdec_at bX1_tell_0 5 rfl
theorem dX1_tell_11 : decode cX1_tell 11 = .ok (.aload_n 0, 1) := zdec_at bX1_tell_0 6 rfl
theorem dX1_tell_12 : decode cX1_tell 12 = .ok (.dup, 1) := zdec_at bX1_tell_0 7 rfl
theorem dX1_tell_13 : decode cX1_tell 13 = .ok (.getfield 258, 3) := zdec_at bX1_tell_0 8 rfl
theorem dX1_tell_16 : decode cX1_tell 16 = .ok (.dup_x1, 1) := zdec_at bX1_tell_0 9 rfl
theorem dX1_tell_17 : decode cX1_tell 17 = .ok (.iconst 1, 1) := zdec_at bX1_tell_0 10 rfl
theorem dX1_tell_18 : decode cX1_tell 18 = .ok (.iadd, 1) := zdec_at bX1_tell_0 11 rfl
theorem dX1_tell_19 : decode cX1_tell 19 = .ok (.putfield 258, 3) := zdec_at bX1_tell_0 12 rfl
theorem dX1_tell_22 : decode cX1_tell 22 = .ok (.iload_n 1, 1) := zdec_at bX1_tell_0 13 rfl
theorem dX1_tell_23 : decode cX1_tell 23 = .ok (.iload_n 2, 1) := zdec_at bX1_tell_0 14 rfl
theorem dX1_tell_24 : decode cX1_tell 24 = .ok (.iushr, 1) := zdec_at bX1_tell_0 15 rfl
theorem bX1_tell_25 : zdec cX1_tell 25 [(25, .i2b, 1), (26, .bastore, 1), (27, .iinc 2 (-8), 3), (30, .goto (-27), 3), (33, .return_, 1)] = true := by decide +kernel
theorem dX1_tell_25 : decode cX1_tell 25 = .ok (.i2b, 1) := zdec_at bX1_tell_25 0 rfl
theorem dX1_tell_26 : decode cX1_tell 26 = .ok (.bastore, 1) := zdec_at bX1_tell_25 1 rfl
theorem dX1_tell_27 : decode cX1_tell 27 = .ok (.iinc 2 (-8), 3) := zdec_at bX1_tell_25 2 rfl
theorem dX1_tell_30 : decode cX1_tell 30 = .ok (.goto (-27), 3) := zdec_at bX1_tell_25 3 rfl
theorem dX1_tell_33 : decode cX1_tell 33 = .ok (.return_, 1) := zdec_at bX1_tell_25 4 rfl
theorem sX1_tell_0 {E : zE} {d : Nat} {Q : zO → zM → Prop} (M : zM) (l1 : Int32) (hw : cw M) (k : Z E YX1_tell d M [(0, vr (some (16, 0, 0))), (1, vi l1), (2, vi (24 : Int32))] 3 [] Q) : Z E YX1_tell d M [(0, vr (some (16, 0, 0))), (1, vi l1)] 0 [] Q := by
  refine z_bipush (v := 24) dX1_tell_0 rfl ?_
  refine z_ist_n dX1_tell_2 rfl (by decide) (lv' := [(0, vr (some (16, 0, 0))), (1, vi l1), (2, vi (24 : Int32))]) rfl ?_
  exact k
theorem sX1_tell_3 {E : zE} {d : Nat} {Q : zO → zM → Prop} (M : zM) (l1 : Int32) (l2 : Int32) (hw : cw M) (k : if l2 < 0 then (Q (.inl none) M) else (vp_in (gi M 16 5) 4000 ∧ (Z E YX1_tell d (si (si M 16 5 ((gi M 16 5) + (1 : Int32))) 21 ((gi M 16 5)).toNatClampNeg (vp_nar .byte ((zus l1 l2)).toInt8.toInt32)) [(0, vr (some (16, 0, 0))), (1, vi l1), (2, vi (l2 + (-8 : Int32)))] 3 [] Q))) : Z E YX1_tell d M [(0, vr (some (16, 0, 0))), (1, vi l1), (2, vi l2)] 3 [] Q := by
  refine z_iload_n dX1_tell_3 rfl rfl ?_
  refine z_if_lt (tgt := 33) dX1_tell_4 rfl (fun h_ => ?_) (fun h_ => ?_)
  · have k := zit h_ k
    exact z_vret dX1_tell_33 rfl k
  · have k := zif h_ k
    refine z_aload_n dX1_tell_7 rfl rfl ?_
    refine z_getr dX1_tell_8 fsX1_70_0 (show gr M 16 4 = some (21, 101, 4000) from cw_at hw 2 rfl) ?_
    refine z_aload_n dX1_tell_11 rfl rfl ?_
    refine z_dup dX1_tell_12 rfl ?_
    refine z_geti dX1_tell_13 fsX1_258_0 ?_
    refine z_dup_x1 dX1_tell_16 rfl rfl ?_
    refine z_iconst (v := 1) dX1_tell_17 rfl ?_
    refine z_iadd dX1_tell_18 ?_
    refine z_puti (by decide) dX1_tell_19 (zfwN.w fwX1_258_0) rfl ⟨rfl, rfl⟩ ?_
    refine z_iload_n dX1_tell_22 rfl rfl ?_
    refine z_iload_n dX1_tell_23 rfl rfl ?_
    refine z_iushr dX1_tell_24 ?_
    refine z_i2b dX1_tell_25 ?_
    obtain ⟨b_, k⟩ := k
    refine z_bast (by decide) dX1_tell_26 b_ ?_
    refine z_inc (v := (l2 + (-8 : Int32))) dX1_tell_27 rfl rfl (by decide) (lv' := [(0, vr (some (16, 0, 0))), (1, vi l1), (2, vi (l2 + (-8 : Int32)))]) rfl ?_
    refine z_goto (tgt := 3) dX1_tell_30 rfl ?_
    exact k
/-! ScriptTypes.back(I)I -/
theorem bX1_back_0 : zdec cX1_back 0 [(0, .iload_n 1, 1), (1, .ifCond .lt 11, 3), (4, .iload_n 1, 1), (5, .aload_n 0, 1), (6, .getfield 258, 3), (9, .if_icmp .le 5, 3), (12, .iconst (-1), 1), (13, .ireturn, 1), (14, .aload_n 0, 1), (15, .dup, 1), (16, .getfield 258, 3), (19, .iload_n 1, 1), (20, .isub, 1), (21, .putfield 258, 3), (24, .aload_n 0, 1), (25, .getfield 258, 3)] = true := by decide +kernel
theorem dX1_back_0 : decode cX1_back 0 = .ok (.iload_n 1, 1) := zdec_at bX1_back_0 0 rfl
theorem dX1_back_1 : decode cX1_back 1 = .ok (.ifCond .lt 11, 3) := zdec_at bX1_back_0 1 rfl
theorem dX1_back_4 : decode cX1_back 4 = .ok (.iload_n 1, 1) := zdec_at bX1_back_0 2 rfl
theorem dX1_back_5 : decode cX1_back 5 = .ok (.aload_n 0, 1) := zdec_at bX1_back_0 3 rfl
theorem dX1_back_6 : decode cX1_back 6 = .ok (.getfield 258, 3) := zdec_at bX1_back_0 4 rfl
theorem dX1_back_9 : decode cX1_back 9 = .ok (.if_icmp .le 5, 3) := zdec_at bX1_back_0 5 rfl
theorem dX1_back_12 : decode cX1_back 12 = .ok (.iconst (-1), 1) := zdec_at bX1_back_0 6 rfl
theorem dX1_back_13 : decode cX1_back 13 = .ok (.ireturn, 1) := zdec_at bX1_back_0 7 rfl
theorem dX1_back_14 : decode cX1_back 14 = .ok (.aload_n 0, 1) := zdec_at bX1_back_0 8 rfl
theorem dX1_back_15 : decode cX1_back 15 = .ok (.dup, 1) := zdec_at bX1_back_0 9 rfl
theorem dX1_back_16 : decode cX1_back 16 = .ok (.getfield 258, 3) := zdec_at bX1_back_0 10 rfl
theorem dX1_back_19 : decode cX1_back 19 = .ok (.iload_n 1, 1) := zdec_at bX1_back_0 11 rfl
theorem dX1_back_20 : decode cX1_back 20 = .ok (.isub, 1) := zdec_at bX1_back_0 12 rfl
theorem dX1_back_21 : decode cX1_back 21 = .ok (.putfield 258, 3) := zdec_at bX1_back_0 13 rfl
theorem dX1_back_24 : decode cX1_back 24 = .ok (.aload_n 0, 1) := zdec_at bX1_back_0 14 rfl
theorem dX1_back_25 : decode cX1_back 25 = .ok (.getfield 258, 3) := zdec_at bX1_back_0 15 rfl
theorem bX1_back_28 : zdec cX1_back 28 [(28, .ireturn, 1)] = true := by decide +kernel
theorem dX1_back_28 : decode cX1_back 28 = .ok (.ireturn, 1) := zdec_at bX1_back_28 0 rfl
theorem sX1_back_0 {E : zE} {d : Nat} {Q : zO → zM → Prop} (M : zM) (l1 : Int32) (hw : cw M) (k : if l1 < 0 then (Q (.inl (some (vi (-1 : Int32)))) M) else (if l1 ≤ (gi M 16 5) then (Q (.inl (some (vi ((gi M 16 5) - l1)))) (si M 16 5 ((gi M 16 5) - l1))) else (Q (.inl (some (vi (-1 : Int32)))) M))) : Z E YX1_back d M [(0, vr (some (16, 0, 0))), (1, vi l1)] 0 [] Q := by
  refine z_iload_n dX1_back_0 rfl rfl ?_
  refine z_if_lt (tgt := 12) dX1_back_1 rfl (fun h_ => ?_) (fun h_ => ?_)
  · have k := zit h_ k
    refine z_iconst (v := -1) dX1_back_12 rfl ?_
    exact z_iret dX1_back_13 rfl rfl k
  · have k := zif h_ k
    refine z_iload_n dX1_back_4 rfl rfl ?_
    refine z_aload_n dX1_back_5 rfl rfl ?_
    refine z_geti dX1_back_6 fsX1_258_0 ?_
    refine z_icmp_le (tgt := 14) dX1_back_9 rfl (fun h_ => ?_) (fun h_ => ?_)
    · have k := zit h_ k
      refine z_aload_n dX1_back_14 rfl rfl ?_
      refine z_dup dX1_back_15 rfl ?_
      refine z_geti dX1_back_16 fsX1_258_0 ?_
      refine z_iload_n dX1_back_19 rfl rfl ?_
      refine z_isub dX1_back_20 ?_
      refine z_puti (by decide) dX1_back_21 (zfwN.w fwX1_258_0) rfl ⟨rfl, rfl⟩ ?_
      refine z_aload_n dX1_back_24 rfl rfl ?_
      refine z_geti dX1_back_25 fsX1_258_0 ?_
      exact z_iret dX1_back_28 rfl rfl k
    · have k := zif h_ k
      refine z_iconst (v := -1) dX1_back_12 rfl ?_
      exact z_iret dX1_back_13 rfl rfl k
/-! ScriptTypes.starts(I)Z -/
theorem bX1_starts_0 : zdec cX1_starts 0 [(0, .iload_n 0, 1), (1, .bipush 97, 2), (3, .if_icmp .lt 9, 3), (6, .iload_n 0, 1), (7, .bipush 122, 2), (9, .if_icmp .le 27, 3), (12, .iload_n 0, 1), (13, .bipush 65, 2), (15, .if_icmp .lt 9, 3), (18, .iload_n 0, 1), (19, .bipush 90, 2), (21, .if_icmp .le 15, 3), (24, .iload_n 0, 1), (25, .bipush 95, 2), (27, .if_icmp .eq 9, 3), (30, .iload_n 0, 1)] = true := by decide +kernel
theorem dX1_starts_0 : decode cX1_starts 0 = .ok (.iload_n 0, 1) := zdec_at bX1_starts_0 0 rfl
theorem dX1_starts_1 : decode cX1_starts 1 = .ok (.bipush 97, 2) := zdec_at bX1_starts_0 1 rfl
theorem dX1_starts_3 : decode cX1_starts 3 = .ok (.if_icmp .lt 9, 3) := zdec_at bX1_starts_0 2 rfl
theorem dX1_starts_6 : decode cX1_starts 6 = .ok (.iload_n 0, 1) := zdec_at bX1_starts_0 3 rfl
theorem dX1_starts_7 : decode cX1_starts 7 = .ok (.bipush 122, 2) := zdec_at bX1_starts_0 4 rfl
theorem dX1_starts_9 : decode cX1_starts 9 = .ok (.if_icmp .le 27, 3) := zdec_at bX1_starts_0 5 rfl
theorem dX1_starts_12 : decode cX1_starts 12 = .ok (.iload_n 0, 1) := zdec_at bX1_starts_0 6 rfl
theorem dX1_starts_13 : decode cX1_starts 13 = .ok (.bipush 65, 2) := zdec_at bX1_starts_0 7 rfl
theorem dX1_starts_15 : decode cX1_starts 15 = .ok (.if_icmp .lt 9, 3) := zdec_at bX1_starts_0 8 rfl
theorem dX1_starts_18 : decode cX1_starts 18 = .ok (.iload_n 0, 1) := zdec_at bX1_starts_0 9 rfl
theorem dX1_starts_19 : decode cX1_starts 19 = .ok (.bipush 90, 2) := zdec_at bX1_starts_0 10 rfl
theorem dX1_starts_21 : decode cX1_starts 21 = .ok (.if_icmp .le 15, 3) := zdec_at bX1_starts_0 11 rfl
theorem dX1_starts_24 : decode cX1_starts 24 = .ok (.iload_n 0, 1) := zdec_at bX1_starts_0 12 rfl
theorem dX1_starts_25 : decode cX1_starts 25 = .ok (.bipush 95, 2) := zdec_at bX1_starts_0 13 rfl
theorem dX1_starts_27 : decode cX1_starts 27 = .ok (.if_icmp .eq 9, 3) := zdec_at bX1_starts_0 14 rfl
theorem dX1_starts_30 : decode cX1_starts 30 = .ok (.iload_n 0, 1) := zdec_at bX1_starts_0 15 rfl
theorem bX1_starts_31 : zdec cX1_starts 31 [(31, .bipush 36, 2), (33, .if_icmp .ne 7, 3), (36, .iconst 1, 1), (37, .goto 4, 3), (40, .iconst 0, 1), (41, .ireturn, 1)] = true := by decide +kernel
theorem dX1_starts_31 : decode cX1_starts 31 = .ok (.bipush 36, 2) := zdec_at bX1_starts_31 0 rfl
theorem dX1_starts_33 : decode cX1_starts 33 = .ok (.if_icmp .ne 7, 3) := zdec_at bX1_starts_31 1 rfl
theorem dX1_starts_36 : decode cX1_starts 36 = .ok (.iconst 1, 1) := zdec_at bX1_starts_31 2 rfl
theorem dX1_starts_37 : decode cX1_starts 37 = .ok (.goto 4, 3) := zdec_at bX1_starts_31 3 rfl
theorem dX1_starts_40 : decode cX1_starts 40 = .ok (.iconst 0, 1) := zdec_at bX1_starts_31 4 rfl
theorem dX1_starts_41 : decode cX1_starts 41 = .ok (.ireturn, 1) := zdec_at bX1_starts_31 5 rfl
theorem sX1_starts_0 {E : zE} {d : Nat} {Q : zO → zM → Prop} (M : zM) (l0 : Int32) (hw : cw M) (k : if l0 < (97 : Int32) then (Z E YX1_starts d M [(0, vi l0)] 12 [] Q) else (if l0 ≤ (122 : Int32) then (Q (.inl (some (vi (1 : Int32)))) M) else (Z E YX1_starts d M [(0, vi l0)] 12 [] Q))) : Z E YX1_starts d M [(0, vi l0)] 0 [] Q := by
  refine z_iload_n dX1_starts_0 rfl rfl ?_
  refine z_bipush (v := 97) dX1_starts_1 rfl ?_
  refine z_icmp_lt (tgt := 12) dX1_starts_3 rfl (fun h_ => ?_) (fun h_ => ?_)
  · have k := zit h_ k
    exact k
  · have k := zif h_ k
    refine z_iload_n dX1_starts_6 rfl rfl ?_
    refine z_bipush (v := 122) dX1_starts_7 rfl ?_
    refine z_icmp_le (tgt := 36) dX1_starts_9 rfl (fun h_ => ?_) (fun h_ => ?_)
    · have k := zit h_ k
      refine z_iconst (v := 1) dX1_starts_36 rfl ?_
      refine z_goto (tgt := 41) dX1_starts_37 rfl ?_
      exact z_iret dX1_starts_41 rfl (by decide) k
    · have k := zif h_ k
      exact k
theorem sX1_starts_12 {E : zE} {d : Nat} {Q : zO → zM → Prop} (M : zM) (l0 : Int32) (hw : cw M) (k : if l0 < (65 : Int32) then (Z E YX1_starts d M [(0, vi l0)] 24 [] Q) else (if l0 ≤ (90 : Int32) then (Q (.inl (some (vi (1 : Int32)))) M) else (Z E YX1_starts d M [(0, vi l0)] 24 [] Q))) : Z E YX1_starts d M [(0, vi l0)] 12 [] Q := by
  refine z_iload_n dX1_starts_12 rfl rfl ?_
  refine z_bipush (v := 65) dX1_starts_13 rfl ?_
  refine z_icmp_lt (tgt := 24) dX1_starts_15 rfl (fun h_ => ?_) (fun h_ => ?_)
  · have k := zit h_ k
    exact k
  · have k := zif h_ k
    refine z_iload_n dX1_starts_18 rfl rfl ?_
    refine z_bipush (v := 90) dX1_starts_19 rfl ?_
    refine z_icmp_le (tgt := 36) dX1_starts_21 rfl (fun h_ => ?_) (fun h_ => ?_)
    · have k := zit h_ k
      refine z_iconst (v := 1) dX1_starts_36 rfl ?_
      refine z_goto (tgt := 41) dX1_starts_37 rfl ?_
      exact z_iret dX1_starts_41 rfl (by decide) k
    · have k := zif h_ k
      exact k
theorem sX1_starts_24 {E : zE} {d : Nat} {Q : zO → zM → Prop} (M : zM) (l0 : Int32) (hw : cw M) (k : if l0 = (95 : Int32) then (Q (.inl (some (vi (1 : Int32)))) M) else (if l0 = (36 : Int32) then (Q (.inl (some (vi (1 : Int32)))) M) else (Q (.inl (some (vi (0 : Int32)))) M))) : Z E YX1_starts d M [(0, vi l0)] 24 [] Q := by
  refine z_iload_n dX1_starts_24 rfl rfl ?_
  refine z_bipush (v := 95) dX1_starts_25 rfl ?_
  refine z_icmp_eq (tgt := 36) dX1_starts_27 rfl (fun h_ => ?_) (fun h_ => ?_)
  · have k := zit h_ k
    refine z_iconst (v := 1) dX1_starts_36 rfl ?_
    refine z_goto (tgt := 41) dX1_starts_37 rfl ?_
    exact z_iret dX1_starts_41 rfl (by decide) k
  · have k := zif h_ k
    refine z_iload_n dX1_starts_30 rfl rfl ?_
    refine z_bipush (v := 36) dX1_starts_31 rfl ?_
    refine z_icmp_ne (tgt := 40) dX1_starts_33 rfl (fun h_ => ?_) (fun h_ => ?_)
    · have k := zif h_ k
      refine z_iconst (v := 0) dX1_starts_40 rfl ?_
      exact z_iret dX1_starts_41 rfl (by decide) k
    · have k := zit h_ k
      refine z_iconst (v := 1) dX1_starts_36 rfl ?_
      refine z_goto (tgt := 41) dX1_starts_37 rfl ?_
      exact z_iret dX1_starts_41 rfl (by decide) k
/-! ScriptTypes.inner(I)Z -/
theorem bX1_inner_0 : zdec cX1_inner 0 [(0, .iload_n 0, 1), (1, .invokestatic 263, 3), (4, .ifCond .ne 10, 3), (7, .iload_n 0, 1), (8, .invokestatic 267, 3), (11, .ifCond .eq 7, 3), (14, .iconst 1, 1), (15, .goto 4, 3), (18, .iconst 0, 1), (19, .ireturn, 1)] = true := by decide +kernel
theorem dX1_inner_0 : decode cX1_inner 0 = .ok (.iload_n 0, 1) := zdec_at bX1_inner_0 0 rfl
theorem dX1_inner_1 : decode cX1_inner 1 = .ok (.invokestatic 263, 3) := zdec_at bX1_inner_0 1 rfl
theorem dX1_inner_4 : decode cX1_inner 4 = .ok (.ifCond .ne 10, 3) := zdec_at bX1_inner_0 2 rfl
theorem dX1_inner_7 : decode cX1_inner 7 = .ok (.iload_n 0, 1) := zdec_at bX1_inner_0 3 rfl
theorem dX1_inner_8 : decode cX1_inner 8 = .ok (.invokestatic 267, 3) := zdec_at bX1_inner_0 4 rfl
theorem dX1_inner_11 : decode cX1_inner 11 = .ok (.ifCond .eq 7, 3) := zdec_at bX1_inner_0 5 rfl
theorem dX1_inner_14 : decode cX1_inner 14 = .ok (.iconst 1, 1) := zdec_at bX1_inner_0 6 rfl
theorem dX1_inner_15 : decode cX1_inner 15 = .ok (.goto 4, 3) := zdec_at bX1_inner_0 7 rfl
theorem dX1_inner_18 : decode cX1_inner 18 = .ok (.iconst 0, 1) := zdec_at bX1_inner_0 8 rfl
theorem dX1_inner_19 : decode cX1_inner 19 = .ok (.ireturn, 1) := zdec_at bX1_inner_0 9 rfl
theorem sX1_inner_0 {E : zE} {d : Nat} {Q : zO → zM → Prop} (M : zM) (l0 : Int32) (hw : cw M) (k : Z E YX1_starts d M (zargs 0 [vi l0]) 0 [] (zafter E YX1_inner (d + 1) [(0, vi l0)] 1 3 [] Q)) : Z E YX1_inner (d + 1) M [(0, vi l0)] 0 [] Q := by
  refine z_iload_n dX1_inner_0 rfl rfl ?_
  exact z_callS (as := [vi l0]) (st := []) dX1_inner_1 ssX1_263 (Nat.le_refl _) (Nat.le_of_ble_eq_true rfl) (Nat.le_of_ble_eq_true rfl) rfl k
theorem sX1_inner_4 {E : zE} {d : Nat} {Q : zO → zM → Prop} (M : zM) (l0 : Int32) (s0 : Int32) (hw : cw M) (k : if s0 = 0 then (Z E YX1_digit d M (zargs 0 [vi l0]) 0 [] (zafter E YX1_inner (d + 1) [] 8 3 [] Q)) else (Q (.inl (some (vi (1 : Int32)))) M)) : Z E YX1_inner (d + 1) M [(0, vi l0)] 4 [vi s0] Q := by
  refine z_if_ne (tgt := 14) dX1_inner_4 rfl (fun h_ => ?_) (fun h_ => ?_)
  · have k := zif h_ k
    refine z_iconst (v := 1) dX1_inner_14 rfl ?_
    refine z_goto (tgt := 19) dX1_inner_15 rfl ?_
    exact z_iret dX1_inner_19 rfl (by decide) k
  · have k := zit h_ k
    refine z_iload_n dX1_inner_7 rfl rfl ?_
    refine Z.pick [] rfl ?_
    exact z_callS (as := [vi l0]) (st := []) dX1_inner_8 ssX1_267 (Nat.le_refl _) (Nat.le_of_ble_eq_true rfl) (Nat.le_of_ble_eq_true rfl) rfl k
theorem sX1_inner_11 {E : zE} {d : Nat} {Q : zO → zM → Prop} (M : zM) (s0 : Int32) (hw : cw M) (k : if s0 = 0 then (Q (.inl (some (vi (0 : Int32)))) M) else (Q (.inl (some (vi (1 : Int32)))) M)) : Z E YX1_inner (d + 1) M [] 11 [vi s0] Q := by
  refine z_if_eq (tgt := 18) dX1_inner_11 rfl (fun h_ => ?_) (fun h_ => ?_)
  · have k := zit h_ k
    refine z_iconst (v := 0) dX1_inner_18 rfl ?_
    exact z_iret dX1_inner_19 rfl (by decide) k
  · have k := zif h_ k
    refine z_iconst (v := 1) dX1_inner_14 rfl ?_
    refine z_goto (tgt := 19) dX1_inner_15 rfl ?_
    exact z_iret dX1_inner_19 rfl (by decide) k
/-! ScriptTypes.digit(I)Z -/
theorem bX1_digit_0 : zdec cX1_digit 0 [(0, .iload_n 0, 1), (1, .bipush 48, 2), (3, .if_icmp .lt 13, 3), (6, .iload_n 0, 1), (7, .bipush 57, 2), (9, .if_icmp .gt 7, 3), (12, .iconst 1, 1), (13, .goto 4, 3), (16, .iconst 0, 1), (17, .ireturn, 1)] = true := by decide +kernel
theorem dX1_digit_0 : decode cX1_digit 0 = .ok (.iload_n 0, 1) := zdec_at bX1_digit_0 0 rfl
theorem dX1_digit_1 : decode cX1_digit 1 = .ok (.bipush 48, 2) := zdec_at bX1_digit_0 1 rfl
theorem dX1_digit_3 : decode cX1_digit 3 = .ok (.if_icmp .lt 13, 3) := zdec_at bX1_digit_0 2 rfl
theorem dX1_digit_6 : decode cX1_digit 6 = .ok (.iload_n 0, 1) := zdec_at bX1_digit_0 3 rfl
theorem dX1_digit_7 : decode cX1_digit 7 = .ok (.bipush 57, 2) := zdec_at bX1_digit_0 4 rfl
theorem dX1_digit_9 : decode cX1_digit 9 = .ok (.if_icmp .gt 7, 3) := zdec_at bX1_digit_0 5 rfl
theorem dX1_digit_12 : decode cX1_digit 12 = .ok (.iconst 1, 1) := zdec_at bX1_digit_0 6 rfl
theorem dX1_digit_13 : decode cX1_digit 13 = .ok (.goto 4, 3) := zdec_at bX1_digit_0 7 rfl
theorem dX1_digit_16 : decode cX1_digit 16 = .ok (.iconst 0, 1) := zdec_at bX1_digit_0 8 rfl
theorem dX1_digit_17 : decode cX1_digit 17 = .ok (.ireturn, 1) := zdec_at bX1_digit_0 9 rfl
theorem sX1_digit_0 {E : zE} {d : Nat} {Q : zO → zM → Prop} (M : zM) (l0 : Int32) (hw : cw M) (k : if l0 < (48 : Int32) then (Q (.inl (some (vi (0 : Int32)))) M) else (if (57 : Int32) < l0 then (Q (.inl (some (vi (0 : Int32)))) M) else (Q (.inl (some (vi (1 : Int32)))) M))) : Z E YX1_digit d M [(0, vi l0)] 0 [] Q := by
  refine z_iload_n dX1_digit_0 rfl rfl ?_
  refine z_bipush (v := 48) dX1_digit_1 rfl ?_
  refine z_icmp_lt (tgt := 16) dX1_digit_3 rfl (fun h_ => ?_) (fun h_ => ?_)
  · have k := zit h_ k
    refine z_iconst (v := 0) dX1_digit_16 rfl ?_
    exact z_iret dX1_digit_17 rfl (by decide) k
  · have k := zif h_ k
    refine z_iload_n dX1_digit_6 rfl rfl ?_
    refine z_bipush (v := 57) dX1_digit_7 rfl ?_
    refine z_icmp_gt (tgt := 16) dX1_digit_9 rfl (fun h_ => ?_) (fun h_ => ?_)
    · have k := zit h_ k
      refine z_iconst (v := 0) dX1_digit_16 rfl ?_
      exact z_iret dX1_digit_17 rfl (by decide) k
    · have k := zif h_ k
      refine z_iconst (v := 1) dX1_digit_12 rfl ?_
      refine z_goto (tgt := 17) dX1_digit_13 rfl ?_
      exact z_iret dX1_digit_17 rfl (by decide) k
/-! ScriptTypes.putDigits(I)V -/
theorem bX1_putDigits_0 : zdec cX1_putDigits 0 [(0, .iload_n 1, 1), (1, .i2l, 1), (2, .lstore_n 2, 1), (3, .lload_n 2, 1), (4, .lconst 0, 1), (5, .lcmp, 1), (6, .ifCond .ge 12, 3), (9, .aload_n 0, 1), (10, .bipush 45, 2), (12, .invokevirtual 11, 3), (15, .lload_n 2, 1), (16, .lneg, 1), (17, .lstore_n 2, 1), (18, .lconst 1, 1), (19, .lstore 4, 2), (21, .lload 4, 2)] = true := by decide +kernel
theorem dX1_putDigits_0 : decode cX1_putDigits 0 = .ok (.iload_n 1, 1) := zdec_at bX1_putDigits_0 0 rfl
theorem dX1_putDigits_1 : decode cX1_putDigits 1 = .ok (.i2l, 1) := zdec_at bX1_putDigits_0 1 rfl
theorem dX1_putDigits_2 : decode cX1_putDigits 2 = .ok (.lstore_n 2, 1) := zdec_at bX1_putDigits_0 2 rfl
theorem dX1_putDigits_3 : decode cX1_putDigits 3 = .ok (.lload_n 2, 1) := zdec_at bX1_putDigits_0 3 rfl
theorem dX1_putDigits_4 : decode cX1_putDigits 4 = .ok (.lconst 0, 1) := zdec_at bX1_putDigits_0 4 rfl
theorem dX1_putDigits_5 : decode cX1_putDigits 5 = .ok (.lcmp, 1) := zdec_at bX1_putDigits_0 5 rfl
theorem dX1_putDigits_6 : decode cX1_putDigits 6 = .ok (.ifCond .ge 12, 3) := zdec_at bX1_putDigits_0 6 rfl
theorem dX1_putDigits_9 : decode cX1_putDigits 9 = .ok (.aload_n 0, 1) := zdec_at bX1_putDigits_0 7 rfl
theorem dX1_putDigits_10 : decode cX1_putDigits 10 = .ok (.bipush 45, 2) := zdec_at bX1_putDigits_0 8 rfl
theorem dX1_putDigits_12 : decode cX1_putDigits 12 = .ok (.invokevirtual 11, 3) := zdec_at bX1_putDigits_0 9 rfl
theorem dX1_putDigits_15 : decode cX1_putDigits 15 = .ok (.lload_n 2, 1) := zdec_at bX1_putDigits_0 10 rfl
theorem dX1_putDigits_16 : decode cX1_putDigits 16 = .ok (.lneg, 1) := zdec_at bX1_putDigits_0 11 rfl
theorem dX1_putDigits_17 : decode cX1_putDigits 17 = .ok (.lstore_n 2, 1) := zdec_at bX1_putDigits_0 12 rfl
theorem dX1_putDigits_18 : decode cX1_putDigits 18 = .ok (.lconst 1, 1) := zdec_at bX1_putDigits_0 13 rfl
theorem dX1_putDigits_19 : decode cX1_putDigits 19 = .ok (.lstore 4, 2) := zdec_at bX1_putDigits_0 14 rfl
theorem dX1_putDigits_21 : decode cX1_putDigits 21 = .ok (.lload 4, 2) := zdec_at bX1_putDigits_0 15 rfl
theorem bX1_putDigits_23 : zdec cX1_putDigits 23 [(23, .lload_n 2, 1), (24, .ldc2_w 15, 3), (27, .ldiv, 1), (28, .lcmp, 1), (29, .ifCond .gt 14, 3), (32, .lload 4, 2), (34, .ldc2_w 15, 3), (37, .lmul, 1), (38, .lstore 4, 2), (40, .goto (-19), 3), (43, .lload 4, 2), (45, .lconst 0, 1), (46, .lcmp, 1), (47, .ifCond .le 31, 3), (50, .aload_n 0, 1), (51, .ldc2_w 17, 3)] = true := by decide +kernel
theorem dX1_putDigits_23 : decode cX1_putDigits 23 = .ok (.lload_n 2, 1) := zdec_at bX1_putDigits_23 0 rfl
theorem dX1_putDigits_24 : decode cX1_putDigits 24 = .ok (.ldc2_w 15, 3) := zdec_at bX1_putDigits_23 1 rfl
theorem dX1_putDigits_27 : decode cX1_putDigits 27 = .ok (.ldiv, 1) := zdec_at bX1_putDigits_23 2 rfl
theorem dX1_putDigits_28 : decode cX1_putDigits 28 = .ok (.lcmp, 1) := zdec_at bX1_putDigits_23 3 rfl
theorem dX1_putDigits_29 : decode cX1_putDigits 29 = .ok (.ifCond .gt 14, 3) := zdec_at bX1_putDigits_23 4 rfl
theorem dX1_putDigits_32 : decode cX1_putDigits 32 = .ok (.lload 4, 2) := zdec_at bX1_putDigits_23 5 rfl
theorem dX1_putDigits_34 : decode cX1_putDigits 34 = .ok (.ldc2_w 15, 3) := zdec_at bX1_putDigits_23 6 rfl
theorem dX1_putDigits_37 : decode cX1_putDigits 37 = .ok (.lmul, 1) := zdec_at bX1_putDigits_23 7 rfl
theorem dX1_putDigits_38 : decode cX1_putDigits 38 = .ok (.lstore 4, 2) := zdec_at bX1_putDigits_23 8 rfl
theorem dX1_putDigits_40 : decode cX1_putDigits 40 = .ok (.goto (-19), 3) := zdec_at bX1_putDigits_23 9 rfl
theorem dX1_putDigits_43 : decode cX1_putDigits 43 = .ok (.lload 4, 2) := zdec_at bX1_putDigits_23 10 rfl
theorem dX1_putDigits_45 : decode cX1_putDigits 45 = .ok (.lconst 0, 1) := zdec_at bX1_putDigits_23 11 rfl
theorem dX1_putDigits_46 : decode cX1_putDigits 46 = .ok (.lcmp, 1) := zdec_at bX1_putDigits_23 12 rfl
theorem dX1_putDigits_47 : decode cX1_putDigits 47 = .ok (.ifCond .le 31, 3) := zdec_at bX1_putDigits_23 13 rfl
theorem dX1_putDigits_50 : decode cX1_putDigits 50 = .ok (.aload_n 0, 1) := zdec_at bX1_putDigits_23 14 rfl
theorem dX1_putDigits_51 : decode cX1_putDigits 51 = .ok (.ldc2_w 17, 3) := zdec_at bX1_putDigits_23 15 rfl
theorem bX1_putDigits_54 : zdec cX1_putDigits 54 [(54, .lload_n 2, 1), (55, .lload 4, 2), (57, .ldiv, 1), (58, .ldc2_w 15, 3), (61, .lrem, 1), (62, .ladd, 1), (63, .l2i, 1), (64, .invokevirtual 11, 3), (67, .lload 4, 2), (69, .ldc2_w 15, 3), (72, .ldiv, 1), (73, .lstore 4, 2), (75, .goto (-32), 3), (78, .return_, 1)] = true := by decide +kernel
theorem dX1_putDigits_54 : decode cX1_putDigits 54 = .ok (.lload_n 2, 1) := zdec_at bX1_putDigits_54 0 rfl
theorem dX1_putDigits_55 : decode cX1_putDigits 55 = .ok (.lload 4, 2) := zdec_at bX1_putDigits_54 1 rfl
theorem dX1_putDigits_57 : decode cX1_putDigits 57 = .ok (.ldiv, 1) := zdec_at bX1_putDigits_54 2 rfl
theorem dX1_putDigits_58 : decode cX1_putDigits 58 = .ok (.ldc2_w 15, 3) := zdec_at bX1_putDigits_54 3 rfl
theorem dX1_putDigits_61 : decode cX1_putDigits 61 = .ok (.lrem, 1) := zdec_at bX1_putDigits_54 4 rfl
theorem dX1_putDigits_62 : decode cX1_putDigits 62 = .ok (.ladd, 1) := zdec_at bX1_putDigits_54 5 rfl
theorem dX1_putDigits_63 : decode cX1_putDigits 63 = .ok (.l2i, 1) := zdec_at bX1_putDigits_54 6 rfl
theorem dX1_putDigits_64 : decode cX1_putDigits 64 = .ok (.invokevirtual 11, 3) := zdec_at bX1_putDigits_54 7 rfl
theorem dX1_putDigits_67 : decode cX1_putDigits 67 = .ok (.lload 4, 2) := zdec_at bX1_putDigits_54 8 rfl
theorem dX1_putDigits_69 : decode cX1_putDigits 69 = .ok (.ldc2_w 15, 3) := zdec_at bX1_putDigits_54 9 rfl
theorem dX1_putDigits_72 : decode cX1_putDigits 72 = .ok (.ldiv, 1) := zdec_at bX1_putDigits_54 10 rfl
theorem dX1_putDigits_73 : decode cX1_putDigits 73 = .ok (.lstore 4, 2) := zdec_at bX1_putDigits_54 11 rfl
theorem dX1_putDigits_75 : decode cX1_putDigits 75 = .ok (.goto (-32), 3) := zdec_at bX1_putDigits_54 12 rfl
theorem dX1_putDigits_78 : decode cX1_putDigits 78 = .ok (.return_, 1) := zdec_at bX1_putDigits_54 13 rfl
theorem sX1_putDigits_0 {E : zE} {d : Nat} {Q : zO → zM → Prop} (M : zM) (l1 : Int32) (hw : cw M) (k : if 0 ≤ (lg_cmp (l1).toInt64 (0 : Int64)) then (Z E YX1_putDigits (d + 1) M [(0, vr (some (16, 0, 0))), (2, vl (l1).toInt64), (4, vl (1 : Int64))] 21 [] Q) else (Z E YX1_write d M (zargs 0 [vr (some (16, 0, 0)), vi (45 : Int32)]) 0 [] (zafter E YX1_putDigits (d + 1) [(0, vr (some (16, 0, 0))), (2, vl (l1).toInt64)] 12 3 [] Q))) : Z E YX1_putDigits (d + 1) M [(0, vr (some (16, 0, 0))), (1, vi l1)] 0 [] Q := by
  refine z_iload_n dX1_putDigits_0 rfl rfl ?_
  refine z_i2l dX1_putDigits_1 ?_
  refine z_lst_n dX1_putDigits_2 rfl (by decide) (lv' := [(0, vr (some (16, 0, 0))), (1, vi l1), (2, vl (l1).toInt64)]) rfl ?_
  refine z_lload_n dX1_putDigits_3 rfl rfl ?_
  refine z_lconst (v := 0) dX1_putDigits_4 rfl ?_
  refine z_lcmp dX1_putDigits_5 ?_
  refine z_if_ge (tgt := 18) dX1_putDigits_6 rfl (fun h_ => ?_) (fun h_ => ?_)
  · have k := zit h_ k
    refine z_lconst (v := 1) dX1_putDigits_18 rfl ?_
    refine z_lst dX1_putDigits_19 (by decide) (lv' := [(0, vr (some (16, 0, 0))), (1, vi l1), (2, vl (l1).toInt64), (4, vl (1 : Int64))]) rfl ?_
    refine Z.pick [0, 2, 3] rfl ?_
    exact k
  · have k := zif h_ k
    refine z_aload_n dX1_putDigits_9 rfl rfl ?_
    refine z_bipush (v := 45) dX1_putDigits_10 rfl ?_
    refine Z.pick [0, 2] rfl ?_
    exact z_callV (as := [vi (45 : Int32)]) (st := []) dX1_putDigits_12 vsX1_11_0 (Nat.le_refl _) (Nat.le_of_ble_eq_true rfl) (Nat.le_of_ble_eq_true rfl) rfl k
theorem sX1_putDigits_15 {E : zE} {d : Nat} {Q : zO → zM → Prop} (M : zM) (l2 : Int64) (hw : cw M) (k : Z E YX1_putDigits (d + 1) M [(0, vr (some (16, 0, 0))), (2, vl (-l2)), (4, vl (1 : Int64))] 21 [] Q) : Z E YX1_putDigits (d + 1) M [(0, vr (some (16, 0, 0))), (2, vl l2)] 15 [] Q := by
  refine z_lload_n dX1_putDigits_15 rfl rfl ?_
  refine z_lneg dX1_putDigits_16 ?_
  refine z_lst_n dX1_putDigits_17 rfl (by decide) (lv' := [(0, vr (some (16, 0, 0))), (2, vl (-l2))]) rfl ?_
  refine z_lconst (v := 1) dX1_putDigits_18 rfl ?_
  refine z_lst dX1_putDigits_19 (by decide) (lv' := [(0, vr (some (16, 0, 0))), (2, vl (-l2)), (4, vl (1 : Int64))]) rfl ?_
  exact k
theorem sX1_putDigits_21 {E : zE} {d : Nat} {Q : zO → zM → Prop} (M : zM) (l2 : Int64) (l4 : Int64) (hw : cw M) (k : if 0 < (lg_cmp l4 (l2 / (10 : Int64))) then (Z E YX1_putDigits (d + 1) M [(0, vr (some (16, 0, 0))), (2, vl l2), (4, vl l4)] 43 [] Q) else (Z E YX1_putDigits (d + 1) M [(0, vr (some (16, 0, 0))), (2, vl l2), (4, vl (l4 * (10 : Int64)))] 21 [] Q)) : Z E YX1_putDigits (d + 1) M [(0, vr (some (16, 0, 0))), (2, vl l2), (4, vl l4)] 21 [] Q := by
  refine z_lload dX1_putDigits_21 rfl ?_
  refine z_lload_n dX1_putDigits_23 rfl rfl ?_
  refine z_ldc2 (v := 10) dX1_putDigits_24 q1714 ?_
  refine z_ldiv dX1_putDigits_27 (by decide) ?_
  refine z_lcmp dX1_putDigits_28 ?_
  refine z_if_gt (tgt := 43) dX1_putDigits_29 rfl (fun h_ => ?_) (fun h_ => ?_)
  · have k := zit h_ k
    exact k
  · have k := zif h_ k
    refine z_lload dX1_putDigits_32 rfl ?_
    refine z_ldc2 (v := 10) dX1_putDigits_34 q1714 ?_
    refine z_lmul dX1_putDigits_37 ?_
    refine z_lst dX1_putDigits_38 (by decide) (lv' := [(0, vr (some (16, 0, 0))), (2, vl l2), (4, vl (l4 * (10 : Int64)))]) rfl ?_
    refine z_goto (tgt := 21) dX1_putDigits_40 rfl ?_
    exact k
theorem sX1_putDigits_43 {E : zE} {d : Nat} {Q : zO → zM → Prop} (M : zM) (l2 : Int64) (l4 : Int64) (hw : cw M) (k : if (lg_cmp l4 (0 : Int64)) ≤ 0 then (Q (.inl none) M) else ((¬ l4 = 0) ∧ (Z E YX1_write d M (zargs 0 [vr (some (16, 0, 0)), vi (((48 : Int64) + ((l2 / l4) - (l2 / l4) / (10 : Int64) * (10 : Int64)))).toInt32]) 0 [] (zafter E YX1_putDigits (d + 1) [(0, vr (some (16, 0, 0))), (2, vl l2), (4, vl l4)] 64 3 [] Q)))) : Z E YX1_putDigits (d + 1) M [(0, vr (some (16, 0, 0))), (2, vl l2), (4, vl l4)] 43 [] Q := by
  refine z_lload dX1_putDigits_43 rfl ?_
  refine z_lconst (v := 0) dX1_putDigits_45 rfl ?_
  refine z_lcmp dX1_putDigits_46 ?_
  refine z_if_le (tgt := 78) dX1_putDigits_47 rfl (fun h_ => ?_) (fun h_ => ?_)
  · have k := zit h_ k
    exact z_vret dX1_putDigits_78 rfl k
  · have k := zif h_ k
    refine z_aload_n dX1_putDigits_50 rfl rfl ?_
    refine z_ldc2 (v := 48) dX1_putDigits_51 q1715 ?_
    refine z_lload_n dX1_putDigits_54 rfl rfl ?_
    refine z_lload dX1_putDigits_55 rfl ?_
    obtain ⟨b_, k⟩ := k
    refine z_ldiv dX1_putDigits_57 b_ ?_
    refine z_ldc2 (v := 10) dX1_putDigits_58 q1714 ?_
    refine z_lrem dX1_putDigits_61 (by decide) ?_
    refine z_ladd dX1_putDigits_62 ?_
    refine z_l2i dX1_putDigits_63 ?_
    exact z_callV (as := [vi (((48 : Int64) + ((l2 / l4) - (l2 / l4) / (10 : Int64) * (10 : Int64)))).toInt32]) (st := []) dX1_putDigits_64 vsX1_11_0 (Nat.le_refl _) (Nat.le_of_ble_eq_true rfl) (Nat.le_of_ble_eq_true rfl) rfl k
theorem sX1_putDigits_67 {E : zE} {d : Nat} {Q : zO → zM → Prop} (M : zM) (l2 : Int64) (l4 : Int64) (hw : cw M) (k : Z E YX1_putDigits (d + 1) M [(0, vr (some (16, 0, 0))), (2, vl l2), (4, vl (l4 / (10 : Int64)))] 43 [] Q) : Z E YX1_putDigits (d + 1) M [(0, vr (some (16, 0, 0))), (2, vl l2), (4, vl l4)] 67 [] Q := by
  refine z_lload dX1_putDigits_67 rfl ?_
  refine z_ldc2 (v := 10) dX1_putDigits_69 q1714 ?_
  refine z_ldiv dX1_putDigits_72 (by decide) ?_
  refine z_lst dX1_putDigits_73 (by decide) (lv' := [(0, vr (some (16, 0, 0))), (2, vl l2), (4, vl (l4 / (10 : Int64)))]) rfl ?_
  refine z_goto (tgt := 43) dX1_putDigits_75 rfl ?_
  exact k
/-! ScriptTypes.putText(I)V -/
theorem bX1_putText_0 : zdec cX1_putText 0 [(0, .iconst 0, 1), (1, .istore_n 2, 1), (2, .iload_n 2, 1), (3, .aload_n 0, 1), (4, .getfield 19, 3), (7, .iload_n 1, 1), (8, .invokevirtual 23, 3), (11, .if_icmp .ge 22, 3), (14, .aload_n 0, 1), (15, .aload_n 0, 1), (16, .getfield 19, 3), (19, .iload_n 1, 1), (20, .iload_n 2, 1), (21, .invokevirtual 29, 3), (24, .invokevirtual 11, 3), (27, .iinc 2 1, 3)] = true := by decide +kernel
theorem dX1_putText_0 : decode cX1_putText 0 = .ok (.iconst 0, 1) := zdec_at bX1_putText_0 0 rfl
theorem dX1_putText_1 : decode cX1_putText 1 = .ok (.istore_n 2, 1) := zdec_at bX1_putText_0 1 rfl
theorem dX1_putText_2 : decode cX1_putText 2 = .ok (.iload_n 2, 1) := zdec_at bX1_putText_0 2 rfl
theorem dX1_putText_3 : decode cX1_putText 3 = .ok (.aload_n 0, 1) := zdec_at bX1_putText_0 3 rfl
theorem dX1_putText_4 : decode cX1_putText 4 = .ok (.getfield 19, 3) := zdec_at bX1_putText_0 4 rfl
theorem dX1_putText_7 : decode cX1_putText 7 = .ok (.iload_n 1, 1) := zdec_at bX1_putText_0 5 rfl
theorem dX1_putText_8 : decode cX1_putText 8 = .ok (.invokevirtual 23, 3) := zdec_at bX1_putText_0 6 rfl
theorem dX1_putText_11 : decode cX1_putText 11 = .ok (.if_icmp .ge 22, 3) := zdec_at bX1_putText_0 7 rfl
theorem dX1_putText_14 : decode cX1_putText 14 = .ok (.aload_n 0, 1) := zdec_at bX1_putText_0 8 rfl
theorem dX1_putText_15 : decode cX1_putText 15 = .ok (.aload_n 0, 1) := zdec_at bX1_putText_0 9 rfl
theorem dX1_putText_16 : decode cX1_putText 16 = .ok (.getfield 19, 3) := zdec_at bX1_putText_0 10 rfl
theorem dX1_putText_19 : decode cX1_putText 19 = .ok (.iload_n 1, 1) := zdec_at bX1_putText_0 11 rfl
theorem dX1_putText_20 : decode cX1_putText 20 = .ok (.iload_n 2, 1) := zdec_at bX1_putText_0 12 rfl
theorem dX1_putText_21 : decode cX1_putText 21 = .ok (.invokevirtual 29, 3) := zdec_at bX1_putText_0 13 rfl
theorem dX1_putText_24 : decode cX1_putText 24 = .ok (.invokevirtual 11, 3) := zdec_at bX1_putText_0 14 rfl
theorem dX1_putText_27 : decode cX1_putText 27 = .ok (.iinc 2 1, 3) := zdec_at bX1_putText_0 15 rfl
theorem bX1_putText_30 : zdec cX1_putText 30 [(30, .goto (-28), 3), (33, .return_, 1)] = true := by decide +kernel
theorem dX1_putText_30 : decode cX1_putText 30 = .ok (.goto (-28), 3) := zdec_at bX1_putText_30 0 rfl
theorem dX1_putText_33 : decode cX1_putText 33 = .ok (.return_, 1) := zdec_at bX1_putText_30 1 rfl
theorem sX1_putText_0 {E : zE} {d : Nat} {Q : zO → zM → Prop} (M : zM) (l1 : Int32) (hw : cw M) (k : Z E YX1_putText (d + 1) M [(0, vr (some (16, 0, 0))), (1, vi l1), (2, vi (0 : Int32))] 2 [] Q) : Z E YX1_putText (d + 1) M [(0, vr (some (16, 0, 0))), (1, vi l1)] 0 [] Q := by
  refine z_iconst (v := 0) dX1_putText_0 rfl ?_
  refine z_ist_n dX1_putText_1 rfl (by decide) (lv' := [(0, vr (some (16, 0, 0))), (1, vi l1), (2, vi (0 : Int32))]) rfl ?_
  exact k
theorem sX1_putText_2 {E : zE} {d : Nat} {Q : zO → zM → Prop} (M : zM) (l1 : Int32) (l2 : Int32) (hw : cw M) (k : Z E YX2_length d M (zargs 0 [vr (some (17, 2, 0)), vi l1]) 0 [] (zafter E YX1_putText (d + 1) [(0, vr (some (16, 0, 0))), (1, vi l1), (2, vi l2)] 8 3 [vi l2] Q)) : Z E YX1_putText (d + 1) M [(0, vr (some (16, 0, 0))), (1, vi l1), (2, vi l2)] 2 [] Q := by
  refine z_iload_n dX1_putText_2 rfl rfl ?_
  refine z_aload_n dX1_putText_3 rfl rfl ?_
  refine z_getr dX1_putText_4 fsX1_19_0 (show gr M 16 0 = some (17, 2, 0) from cw_at hw 0 rfl) ?_
  refine z_iload_n dX1_putText_7 rfl rfl ?_
  exact z_callV (as := [vi l1]) (st := [vi l2]) dX1_putText_8 vsX1_23_2 (Nat.le_refl _) (Nat.le_of_ble_eq_true rfl) (Nat.le_of_ble_eq_true rfl) rfl k
theorem sX1_putText_11 {E : zE} {d : Nat} {Q : zO → zM → Prop} (M : zM) (l1 : Int32) (l2 : Int32) (s0 : Int32) (s1 : Int32) (hw : cw M) (k : if s0 ≤ s1 then (Q (.inl none) M) else (Z E YX2_sign d M (zargs 0 [vr (some (17, 2, 0)), vi l1, vi l2]) 0 [] (zafter E YX1_putText (d + 1) [(0, vr (some (16, 0, 0))), (1, vi l1), (2, vi l2)] 21 3 [vr (some (16, 0, 0))] Q))) : Z E YX1_putText (d + 1) M [(0, vr (some (16, 0, 0))), (1, vi l1), (2, vi l2)] 11 [vi s0, vi s1] Q := by
  refine z_icmp_ge (tgt := 33) dX1_putText_11 rfl (fun h_ => ?_) (fun h_ => ?_)
  · have k := zit h_ k
    exact z_vret dX1_putText_33 rfl k
  · have k := zif h_ k
    refine z_aload_n dX1_putText_14 rfl rfl ?_
    refine z_aload_n dX1_putText_15 rfl rfl ?_
    refine z_getr dX1_putText_16 fsX1_19_0 (show gr M 16 0 = some (17, 2, 0) from cw_at hw 0 rfl) ?_
    refine z_iload_n dX1_putText_19 rfl rfl ?_
    refine z_iload_n dX1_putText_20 rfl rfl ?_
    exact z_callV (as := [vi l1, vi l2]) (st := [vr (some (16, 0, 0))]) dX1_putText_21 vsX1_29_2 (Nat.le_refl _) (Nat.le_of_ble_eq_true rfl) (Nat.le_of_ble_eq_true rfl) rfl k
theorem sX1_putText_24 {E : zE} {d : Nat} {Q : zO → zM → Prop} (M : zM) (l1 : Int32) (l2 : Int32) (s0 : Int32) (hw : cw M) (k : Z E YX1_write d M (zargs 0 [vr (some (16, 0, 0)), vi s0]) 0 [] (zafter E YX1_putText (d + 1) [(0, vr (some (16, 0, 0))), (1, vi l1), (2, vi l2)] 24 3 [] Q)) : Z E YX1_putText (d + 1) M [(0, vr (some (16, 0, 0))), (1, vi l1), (2, vi l2)] 24 [vi s0, vr (some (16, 0, 0))] Q := by
  exact z_callV (as := [vi s0]) (st := []) dX1_putText_24 vsX1_11_0 (Nat.le_refl _) (Nat.le_of_ble_eq_true rfl) (Nat.le_of_ble_eq_true rfl) rfl k
theorem sX1_putText_27 {E : zE} {d : Nat} {Q : zO → zM → Prop} (M : zM) (l1 : Int32) (l2 : Int32) (hw : cw M) (k : Z E YX1_putText (d + 1) M [(0, vr (some (16, 0, 0))), (1, vi l1), (2, vi (l2 + (1 : Int32)))] 2 [] Q) : Z E YX1_putText (d + 1) M [(0, vr (some (16, 0, 0))), (1, vi l1), (2, vi l2)] 27 [] Q := by
  refine z_inc (v := (l2 + (1 : Int32))) dX1_putText_27 rfl rfl (by decide) (lv' := [(0, vr (some (16, 0, 0))), (1, vi l1), (2, vi (l2 + (1 : Int32)))]) rfl ?_
  refine z_goto (tgt := 2) dX1_putText_30 rfl ?_
  exact k
